set_option maxRecDepth 100000
/-! PURE LEVEL 83: steps of an expression: leaves -/
section P32
variable {h h' g : HP} {I I' J J' : Nat → Nat → Int32} {L M : Nat → Nat → Int64} {n : Nat} {tb : Nat → Nat} {a c : Nat} {W P : List Nat} {H Q : List (Nat × LF)} {s0 kr b cnt : Nat} {wn : Int32} {f : LF}
theorem tk_open {s v k w : Int32} (t : TokR s v k w) : (k = 4 ∧ w = 40) ↔ (s = 3 ∧ v = 40) := by
  rcases t with ⟨rfl, u, hu, rfl, rfl, rfl⟩ | ⟨rfl, rfl, rfl⟩ | ⟨rfl, rfl, rfl⟩ | ⟨rfl, ⟨rfl, rfl, h⟩ | ⟨rfl, h⟩⟩ | ⟨rfl, rfl⟩ | ⟨rfl, rfl | ⟨rfl, rfl⟩⟩
  · exact ⟨fun e => absurd e.1 (by decide), fun e => absurd e.1 (by decide)⟩
  · exact ⟨fun e => absurd e.1 (by decide), fun e => absurd e.1 (by decide)⟩
  · exact ⟨fun e => absurd e.1 (by decide), fun e => absurd e.1 (by decide)⟩
  · exact ⟨fun e => ⟨rfl, e.2⟩, fun e => ⟨rfl, e.2⟩⟩
  · refine ⟨fun e => absurd e.1 (by decide), fun e => ?_⟩
    rcases h with ⟨rfl, -⟩ | ⟨rfl, -⟩ | ⟨rfl, -⟩ | ⟨rfl, -⟩ | ⟨rfl, -⟩ | ⟨rfl, -⟩ <;> exact absurd e.2 (by decide)
  · exact ⟨fun e => absurd e.1 (by decide), fun e => absurd e.1 (by decide)⟩
  · exact ⟨fun e => absurd e.1 (by decide), fun e => absurd e.1 (by decide)⟩
  · exact ⟨fun e => absurd e.2 (by decide), fun e => absurd e.1 (by decide)⟩
theorem tk_num {s v k w : Int32} (t : TokR s v k w) : (k = 3 ↔ s = 2) ∧ (s = 2 → w = v) ∧ (k = 1 ↔ s = 0) := by
  rcases t with ⟨rfl, u, hu, rfl, rfl, rfl⟩ | ⟨rfl, rfl, rfl⟩ | ⟨rfl, rfl, rfl⟩ | ⟨rfl, ⟨rfl, rfl, h⟩ | ⟨rfl, h⟩⟩ | ⟨rfl, rfl⟩ | ⟨rfl, rfl | ⟨rfl, rfl⟩⟩
  · exact ⟨by decide, fun e => absurd e (by decide), by decide⟩
  · exact ⟨by decide, fun e => absurd e (by decide), by decide⟩
  · exact ⟨by decide, fun _ => rfl, by decide⟩
  · exact ⟨by decide, fun e => absurd e (by decide), by decide⟩
  · exact ⟨by decide, fun e => absurd e (by decide), by decide⟩
  · exact ⟨by decide, fun e => absurd e (by decide), by decide⟩
  · exact ⟨by decide, fun e => absurd e (by decide), by decide⟩
  · exact ⟨by decide, fun e => absurd e (by decide), by decide⟩
theorem tk_word {s v k w : Int32} (t : TokR s v k w) (hs : s = 0) : ∃ u, u < 25 ∧ v = nn u ∧ k = 1 ∧ w = nn (sw u) := by
  rcases t with ⟨-, t⟩ | ⟨rfl, -⟩ | ⟨rfl, -⟩ | ⟨rfl, -⟩ | ⟨rfl, -⟩ | ⟨rfl, -⟩
  · exact t
  all_goals exact absurd hs (by decide)
theorem em_lf_open (e8 : J 0 8 = 4) (e9 : J 0 9 = 40) : m_leafRead (hw g J M) = if J 0 48 = 8 then m_wrong 2 (hw g J M) else cal (m_waitsFor 0 (hw g (u2 J 0 48 (J 0 48 + 1)) M)) (fun r38 h39 => bnd (sI h39 0 51 (1 : Int32)) (fun h40 => cal (m_token h40) (fun r41 h42 => some ((1 : Int32), h42)))) := by
  rw [m_leafRead, em_isSign, decide_eq_true ⟨e8, e9⟩, cal_s, if_neg (by decide)]
  simp only [bnd_e, cal_s, onr_s, jon_e, gI_hw, gL_hw, gT_hw, gR_hw, gN_hw, sI_hw, sL_hw, cV_hw, shS_hw, shC_hw, shL_hw, ← bt_def, m_wr]
theorem em_lf_not (e8 : J 0 8 = 1) (e9 : J 0 9 = 17) (e51 : J 0 51 = 1) : m_leafRead (hw g J M) = cal (m_isCounted (hw g J M)) (fun r28 h29 => if r28 = 0 then (some ((0 : Int32), h29)) else (cal (m_waitsFor (2 : Int32) h29) (fun r30 h31 => cal (m_token h31) (fun r32 h33 => some ((1 : Int32), h33))))) := by
  rw [m_leafRead, em_isSign, decide_eq_false (fun e => absurd e.1 (by rw [e8]; decide)), cal_s, if_pos (by rfl), em_isKey, decide_eq_true ⟨e8, e9⟩, cal_s]
  simp only [jon_e]
  rw [if_neg (by decide), gI_hw, e51, if_neg (by decide)]
theorem em_lf_big (e8 : J 0 8 = 3) (z : ¬ J 0 9 ≤ 9999) : m_leafRead (hw g J M) = m_wrong 2 (hw g J M) := by
  rw [m_leafRead, em_isSign, decide_eq_false (fun e => absurd e.1 (by rw [e8]; decide)), cal_s, if_pos (by rfl), em_isKey, decide_eq_false (fun e => absurd e.1 (by rw [e8]; decide)), cal_s]
  simp only [jon_e]
  rw [if_pos (by rfl), m_nameMet, gI_hw, e8, if_neg (by decide), cal_s]
  simp only [bnd_e, cal_s, onr_s, jon_e, gI_hw, gL_hw, gT_hw, gR_hw, gN_hw, sI_hw, sL_hw, cV_hw, shS_hw, shC_hw, shL_hw, ← bt_def, e8]
  rw [if_neg (by decide), if_pos (by trivial), if_neg (by decide), if_neg z, m_wr]
theorem em_lf_num (e8 : J 0 8 = 3) (z : J 0 9 ≤ 9999) (e49 : J 0 49 = nn cnt) (hc : cnt ≤ 64) {hl : Nat} (e21 : J 0 21 = nn kr) (e47 : J 0 47 = nn hl) (hk : cnt < 64 → kr < 64) (hh : hl < 96) : m_leafRead (hw g J M) = if cnt = 64 then m_wrong 2 (hw g J M) else cal (m_token (hw g (u2 (grJ (u2 J 0 49 (nn (cnt + 1))) kr hl 0 (J 0 9) 0) 0 50 0) M)) (fun r20 h21 => some ((1 : Int32), h21)) := by
  rw [m_leafRead, em_isSign, decide_eq_false (fun e => absurd e.1 (by rw [e8]; decide)), cal_s, if_pos (by rfl), em_isKey, decide_eq_false (fun e => absurd e.1 (by rw [e8]; decide)), cal_s]
  simp only [jon_e]
  rw [if_pos (by rfl), m_nameMet, gI_hw, e8, if_neg (by decide), cal_s]
  simp only [bnd_e, cal_s, onr_s, jon_e, gI_hw, gL_hw, gT_hw, gR_hw, gN_hw, sI_hw, sL_hw, cV_hw, shS_hw, shC_hw, shL_hw, ← bt_def, e8]
  rw [if_neg (by decide), if_pos (by trivial), if_neg (by decide), if_pos z, em_cnt e49 hc]
  by_cases y : cnt = 64
  · rw [if_pos y, if_pos y, em_wrong, cal_s, if_pos (by rfl)]
  · rw [if_neg y, if_neg y, cal_s, if_neg (by decide), if_pos (by decide), if_pos (by decide), gI_hw, u2_nk _ _ (by decide), em_grown (kr := kr) (hl := hl) (hk (by omega)) hh (by rw [u2_nk _ _ (by decide)]; exact e21) (by rw [u2_nk _ _ (by decide)]; exact e47), cal_s, sI_hw]
theorem em_lf_nam (e8 : J 0 8 = 1) {u : Nat} (hu : u < 25) (h18 : 18 ≤ u) (e9 : J 0 9 = nn u) (e49 : J 0 49 = nn cnt) (hc : cnt ≤ 64) {hl : Nat} (e21 : J 0 21 = nn kr) (e47 : J 0 47 = nn hl) (hk : cnt < 64 → kr < 64) (hh : hl < 96) : m_leafRead (hw g J M) = if cnt = 64 then m_wrong 2 (hw g J M) else cal (m_token (hw g (u2 (grJ (u2 J 0 49 (nn (cnt + 1))) kr hl 1 (nn (u - 18)) 0) 0 50 0) M)) (fun r20 h21 => some ((1 : Int32), h21)) := by
  have n17 : ¬ (J 0 8 = 1 ∧ J 0 9 = 17) := fun e => by
    have := e.2
    rw [e9] at this
    have := (nn_eq (b := 17) (by omega) (by omega)).mp this
    omega
  have e18 : nn u - 18 = nn (u - 18) := nn_sub (a := u) (b := 18) (by omega)
  have p0 : (0 : Int32) ≤ nn (u - 18) := Int32.not_lt.mp (nn_nonneg (by omega))
  rw [m_leafRead, em_isSign, decide_eq_false (fun e => absurd e.1 (by rw [e8]; decide)), cal_s, if_pos (by rfl), em_isKey, decide_eq_false n17, cal_s]
  simp only [jon_e]
  rw [if_pos (by rfl), m_nameMet]
  simp only [bnd_e, cal_s, onr_s, jon_e, gI_hw, gL_hw, gT_hw, gR_hw, gN_hw, sI_hw, sL_hw, cV_hw, shS_hw, shC_hw, shL_hw, ← bt_def, e8, e9]
  rw [if_pos (by trivial), if_neg (show ¬ nn u < (18 : Int32) from fun e => by have := (nn_lt (b := 18) (by omega) (by omega)).mp e; omega), cal_s, e18, if_pos p0, if_pos p0, em_cnt e49 hc]
  by_cases y : cnt = 64
  · rw [if_pos y, if_pos y, em_wrong, cal_s, if_pos (by rfl)]
  · rw [if_neg y, if_neg y, cal_s, if_neg (by decide), if_neg (show ¬ nn (u - 18) < 0 from nn_nonneg (by omega)), if_neg (show ¬ nn (u - 18) < 0 from nn_nonneg (by omega)), em_grown (kr := kr) (hl := hl) (hk (by omega)) hh (by rw [u2_nk _ _ (by decide)]; exact e21) (by rw [u2_nk _ _ (by decide)]; exact e47), cal_s, sI_hw]
theorem em_lf_bad (n1 : ¬ (J 0 8 = 4 ∧ J 0 9 = 40)) (n2 : ¬ J 0 8 = 3) (n3 : J 0 8 = 1 → J 0 9 < 18) (n4 : J 0 8 = 1 → J 0 9 = 17 → J 0 51 = 0) : m_leafRead (hw g J M) = m_wrong 1 (hw g J M) := by
  have nm : m_nameMet (hw g J M) = some (-1, hw g J M) := by
    simp only [m_nameMet, bnd_e, cal_s, onr_s, jon_e, gI_hw, gL_hw, gT_hw, gR_hw, gN_hw, sI_hw, sL_hw, cV_hw, shS_hw, shC_hw, shL_hw, ← bt_def]
    by_cases z : J 0 8 = 1
    · rw [if_pos z, if_pos (n3 z)]
    · rw [if_neg z]
  rw [m_leafRead, em_isSign, decide_eq_false n1, cal_s, if_pos (by rfl), em_isKey, cal_s]
  simp only [jon_e, nm, cal_s, bnd_e]
  have bad : (if (0 : Int32) ≤ -1 then (if (0 : Int32) ≤ -1 then cal (m_isCounted (hw g J M)) (fun r11 h12 => if r11 = 0 then (some ((0 : Int32), h12)) else some ((0 : Int32), h12)) else some ((0 : Int32), hw g J M)) else (if (gI (hw g J M) 0 8) = (3 : Int32) then some ((0 : Int32), hw g J M) else m_wrong 1 (hw g J M))) = m_wrong 1 (hw g J M) := by
    rw [if_neg (by decide), gI_hw, if_neg n2]
  by_cases z : J 0 8 = 1 ∧ J 0 9 = 17
  · rw [decide_eq_true z, if_neg (by decide), gI_hw, n4 z.1 z.2, if_pos rfl, if_neg (by decide), if_neg n2, m_wr]
  · rw [decide_eq_false z, if_pos (by rfl), gI_hw, if_neg (by decide), if_neg n2, m_wr]
end P32
