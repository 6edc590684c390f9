/-! PURE LEVEL 12: a law is worked out on the model's side -/
theorem ite_some2 {α β : Type} {p : Prop} [Decidable p] (a b : α) (c : β) : (if p then some (a, c) else some (b, c)) = some ((if p then a else b), c) := by
  by_cases q : p
  · rw [if_pos q, if_pos q]
  · rw [if_neg q, if_neg q]
theorem ite_some3 {α β : Type} {p : Prop} [Decidable p] (a : α) (b : α) (c : β) : (if p then some (a, c) else some (b, c)) = some ((if p then a else b), c) := ite_some2 a b c
section M2
variable {h : HP} {N : Nat → Int64}
/-- with an error told it stays told -/
theorem em_valE {I : Nat → Nat → Int32} {L : Nat → Nat → Int64} {i : Nat} (hi : i < 64) (wf : wfk (I 22) (I 23) (I 24) i) (e : I 0 54 = 1) : ∃ r, m_valueOf (nn i) (hw h I L) = some (r, hw h I L) := by
  have hi2 : i < 2147483648 := by omega
  have i1 : inb (nn i) 128 := nn_inb hi2 (by omega)
  have e0 : ¬ I 0 54 = 0 := by rw [e]; decide
  rcases wf with q | ⟨q, q1⟩ | ⟨q, q1⟩ | ⟨⟨k, hk, q⟩, q1, q2⟩
  · refine ⟨(I 23 i).toInt64, ?_⟩
    simp only [m_valueOf, bnd_e, cal_s, onr_s, jon_e, gI_hw, gL_hw, gT_hw, gR_hw, gN_hw, sI_hw, sL_hw, cV_hw, shS_hw, shC_hw, shL_hw, ← bt_def, nn_clamp hi2, grd_pos i1, q, if_true]
  · refine ⟨L 27 (I 23 i).toNatClampNeg, ?_⟩
    simp only [m_valueOf, bnd_e, cal_s, onr_s, jon_e, gI_hw, gL_hw, gT_hw, gR_hw, gN_hw, sI_hw, sL_hw, cV_hw, shS_hw, shC_hw, shL_hw, ← bt_def, nn_clamp hi2, grd_pos i1, q, if_true, if_neg i10, grd_pos q1]
  · refine ⟨(if lg_cmp (L 28 (I 23 i).toNatClampNeg) 0 = 0 then 1 else 0), ?_⟩
    simp only [m_valueOf, bnd_e, cal_s, onr_s, jon_e, gI_hw, gL_hw, gT_hw, gR_hw, gN_hw, sI_hw, sL_hw, cV_hw, shS_hw, shC_hw, shL_hw, ← bt_def, nn_clamp hi2, grd_pos i1, q, if_true, grd_pos q1, show ¬ ((2 : Int32) = 0) by decide, show ¬ ((2 : Int32) = 1) by decide, if_false]
    by_cases z : lg_cmp (L 28 (I 23 i).toNatClampNeg) 0 = 0
    · rw [if_pos z, if_pos z]
    · rw [if_neg z, if_neg z]
  · have : k = 3 ∨ k = 4 ∨ k = 5 ∨ k = 6 ∨ k = 7 ∨ k = 8 ∨ k = 9 ∨ k = 10 ∨ k = 11 ∨ k = 12 ∨ k = 13 ∨ k = 14 := by omega
    rcases this with rfl | rfl | rfl | rfl | rfl | rfl | rfl | rfl | rfl | rfl | rfl | rfl
    · have q : I 22 i = 3 := q
      exact ⟨(if lg_cmp (L 28 (I 23 i).toNatClampNeg) 0 = 0 then 0 else if lg_cmp (L 28 (I 24 i).toNatClampNeg) 0 = 0 then 0 else 1), by simp only [m_valueOf, m_compares, bnd_e, cal_s, onr_s, jon_e, gI_hw, gL_hw, gT_hw, gR_hw, gN_hw, sI_hw, sL_hw, cV_hw, shS_hw, shC_hw, shL_hw, ← bt_def, nn_clamp hi2, grd_pos i1, grd_pos q1, grd_pos q2, q, show ¬ ((3 : Int32) = 0) by decide, show ¬ ((3 : Int32) = 1) by decide, show ¬ ((3 : Int32) = 2) by decide, if_true, if_false, ite_some2, ite_some3]⟩
    · have q : I 22 i = 4 := q
      exact ⟨(if lg_cmp (L 28 (I 23 i).toNatClampNeg) 0 = 0 then (if lg_cmp (L 28 (I 24 i).toNatClampNeg) 0 = 0 then 0 else 1) else 1), by simp only [m_valueOf, m_compares, bnd_e, cal_s, onr_s, jon_e, gI_hw, gL_hw, gT_hw, gR_hw, gN_hw, sI_hw, sL_hw, cV_hw, shS_hw, shC_hw, shL_hw, ← bt_def, nn_clamp hi2, grd_pos i1, grd_pos q1, grd_pos q2, q, show ¬ ((4 : Int32) = 0) by decide, show ¬ ((4 : Int32) = 1) by decide, show ¬ ((4 : Int32) = 2) by decide, show ¬ ((4 : Int32) = 3) by decide, if_true, if_false, ite_some2, ite_some3]⟩
    · have q : I 22 i = 5 := q
      by_cases z : 0 ≤ lg_cmp (L 28 (I 23 i).toNatClampNeg) (L 28 (I 24 i).toNatClampNeg)
      · exact ⟨0, by simp only [m_valueOf, m_compares, bnd_e, cal_s, onr_s, jon_e, gI_hw, gL_hw, gT_hw, gR_hw, gN_hw, sI_hw, sL_hw, cV_hw, shS_hw, shC_hw, shL_hw, ← bt_def, nn_clamp hi2, grd_pos i1, grd_pos q1, grd_pos q2, q, show ¬ ((5 : Int32) = 0) by decide, show ¬ ((5 : Int32) = 1) by decide, show ¬ ((5 : Int32) = 2) by decide, show ¬ ((5 : Int32) = 3) by decide, show ¬ ((5 : Int32) = 4) by decide, show ¬ ((5 : Int32) = 11) by decide, show ¬ ((5 : Int32) = 12) by decide, show ¬ ((5 : Int32) = 13) by decide, show ¬ ((5 : Int32) = 14) by decide, if_true, if_false, if_true, if_pos z, if_neg i10]⟩
      · exact ⟨1, by simp only [m_valueOf, m_compares, bnd_e, cal_s, onr_s, jon_e, gI_hw, gL_hw, gT_hw, gR_hw, gN_hw, sI_hw, sL_hw, cV_hw, shS_hw, shC_hw, shL_hw, ← bt_def, nn_clamp hi2, grd_pos i1, grd_pos q1, grd_pos q2, q, show ¬ ((5 : Int32) = 0) by decide, show ¬ ((5 : Int32) = 1) by decide, show ¬ ((5 : Int32) = 2) by decide, show ¬ ((5 : Int32) = 3) by decide, show ¬ ((5 : Int32) = 4) by decide, show ¬ ((5 : Int32) = 11) by decide, show ¬ ((5 : Int32) = 12) by decide, show ¬ ((5 : Int32) = 13) by decide, show ¬ ((5 : Int32) = 14) by decide, if_true, if_false, if_neg z, if_neg i10]⟩
    · have q : I 22 i = 6 := q
      by_cases z : 0 < lg_cmp (L 28 (I 23 i).toNatClampNeg) (L 28 (I 24 i).toNatClampNeg)
      · exact ⟨0, by simp only [m_valueOf, m_compares, bnd_e, cal_s, onr_s, jon_e, gI_hw, gL_hw, gT_hw, gR_hw, gN_hw, sI_hw, sL_hw, cV_hw, shS_hw, shC_hw, shL_hw, ← bt_def, nn_clamp hi2, grd_pos i1, grd_pos q1, grd_pos q2, q, show ¬ ((6 : Int32) = 0) by decide, show ¬ ((6 : Int32) = 1) by decide, show ¬ ((6 : Int32) = 2) by decide, show ¬ ((6 : Int32) = 3) by decide, show ¬ ((6 : Int32) = 4) by decide, show ¬ ((6 : Int32) = 11) by decide, show ¬ ((6 : Int32) = 12) by decide, show ¬ ((6 : Int32) = 13) by decide, show ¬ ((6 : Int32) = 14) by decide, show ¬ ((6 : Int32) = 5) by decide, if_true, if_false, if_true, if_pos z, if_neg i10]⟩
      · exact ⟨1, by simp only [m_valueOf, m_compares, bnd_e, cal_s, onr_s, jon_e, gI_hw, gL_hw, gT_hw, gR_hw, gN_hw, sI_hw, sL_hw, cV_hw, shS_hw, shC_hw, shL_hw, ← bt_def, nn_clamp hi2, grd_pos i1, grd_pos q1, grd_pos q2, q, show ¬ ((6 : Int32) = 0) by decide, show ¬ ((6 : Int32) = 1) by decide, show ¬ ((6 : Int32) = 2) by decide, show ¬ ((6 : Int32) = 3) by decide, show ¬ ((6 : Int32) = 4) by decide, show ¬ ((6 : Int32) = 11) by decide, show ¬ ((6 : Int32) = 12) by decide, show ¬ ((6 : Int32) = 13) by decide, show ¬ ((6 : Int32) = 14) by decide, show ¬ ((6 : Int32) = 5) by decide, if_true, if_false, if_neg z, if_neg i10]⟩
    · have q : I 22 i = 7 := q
      by_cases z : lg_cmp (L 28 (I 23 i).toNatClampNeg) (L 28 (I 24 i).toNatClampNeg) = 0
      · exact ⟨1, by simp only [m_valueOf, m_compares, bnd_e, cal_s, onr_s, jon_e, gI_hw, gL_hw, gT_hw, gR_hw, gN_hw, sI_hw, sL_hw, cV_hw, shS_hw, shC_hw, shL_hw, ← bt_def, nn_clamp hi2, grd_pos i1, grd_pos q1, grd_pos q2, q, show ¬ ((7 : Int32) = 0) by decide, show ¬ ((7 : Int32) = 1) by decide, show ¬ ((7 : Int32) = 2) by decide, show ¬ ((7 : Int32) = 3) by decide, show ¬ ((7 : Int32) = 4) by decide, show ¬ ((7 : Int32) = 11) by decide, show ¬ ((7 : Int32) = 12) by decide, show ¬ ((7 : Int32) = 13) by decide, show ¬ ((7 : Int32) = 14) by decide, show ¬ ((7 : Int32) = 5) by decide, show ¬ ((7 : Int32) = 6) by decide, if_true, if_false, if_true, if_pos z, if_neg i10]⟩
      · exact ⟨0, by simp only [m_valueOf, m_compares, bnd_e, cal_s, onr_s, jon_e, gI_hw, gL_hw, gT_hw, gR_hw, gN_hw, sI_hw, sL_hw, cV_hw, shS_hw, shC_hw, shL_hw, ← bt_def, nn_clamp hi2, grd_pos i1, grd_pos q1, grd_pos q2, q, show ¬ ((7 : Int32) = 0) by decide, show ¬ ((7 : Int32) = 1) by decide, show ¬ ((7 : Int32) = 2) by decide, show ¬ ((7 : Int32) = 3) by decide, show ¬ ((7 : Int32) = 4) by decide, show ¬ ((7 : Int32) = 11) by decide, show ¬ ((7 : Int32) = 12) by decide, show ¬ ((7 : Int32) = 13) by decide, show ¬ ((7 : Int32) = 14) by decide, show ¬ ((7 : Int32) = 5) by decide, show ¬ ((7 : Int32) = 6) by decide, if_true, if_false, if_neg z, if_neg i10]⟩
    · have q : I 22 i = 8 := q
      by_cases z : lg_cmp (L 28 (I 23 i).toNatClampNeg) (L 28 (I 24 i).toNatClampNeg) = 0
      · exact ⟨0, by simp only [m_valueOf, m_compares, bnd_e, cal_s, onr_s, jon_e, gI_hw, gL_hw, gT_hw, gR_hw, gN_hw, sI_hw, sL_hw, cV_hw, shS_hw, shC_hw, shL_hw, ← bt_def, nn_clamp hi2, grd_pos i1, grd_pos q1, grd_pos q2, q, show ¬ ((8 : Int32) = 0) by decide, show ¬ ((8 : Int32) = 1) by decide, show ¬ ((8 : Int32) = 2) by decide, show ¬ ((8 : Int32) = 3) by decide, show ¬ ((8 : Int32) = 4) by decide, show ¬ ((8 : Int32) = 11) by decide, show ¬ ((8 : Int32) = 12) by decide, show ¬ ((8 : Int32) = 13) by decide, show ¬ ((8 : Int32) = 14) by decide, show ¬ ((8 : Int32) = 5) by decide, show ¬ ((8 : Int32) = 6) by decide, show ¬ ((8 : Int32) = 7) by decide, if_true, if_false, if_true, if_pos z, if_neg i10]⟩
      · exact ⟨1, by simp only [m_valueOf, m_compares, bnd_e, cal_s, onr_s, jon_e, gI_hw, gL_hw, gT_hw, gR_hw, gN_hw, sI_hw, sL_hw, cV_hw, shS_hw, shC_hw, shL_hw, ← bt_def, nn_clamp hi2, grd_pos i1, grd_pos q1, grd_pos q2, q, show ¬ ((8 : Int32) = 0) by decide, show ¬ ((8 : Int32) = 1) by decide, show ¬ ((8 : Int32) = 2) by decide, show ¬ ((8 : Int32) = 3) by decide, show ¬ ((8 : Int32) = 4) by decide, show ¬ ((8 : Int32) = 11) by decide, show ¬ ((8 : Int32) = 12) by decide, show ¬ ((8 : Int32) = 13) by decide, show ¬ ((8 : Int32) = 14) by decide, show ¬ ((8 : Int32) = 5) by decide, show ¬ ((8 : Int32) = 6) by decide, show ¬ ((8 : Int32) = 7) by decide, if_true, if_false, if_neg z, if_neg i10]⟩
    · have q : I 22 i = 9 := q
      by_cases z : lg_cmp (L 28 (I 23 i).toNatClampNeg) (L 28 (I 24 i).toNatClampNeg) < 0
      · exact ⟨0, by simp only [m_valueOf, m_compares, bnd_e, cal_s, onr_s, jon_e, gI_hw, gL_hw, gT_hw, gR_hw, gN_hw, sI_hw, sL_hw, cV_hw, shS_hw, shC_hw, shL_hw, ← bt_def, nn_clamp hi2, grd_pos i1, grd_pos q1, grd_pos q2, q, show ¬ ((9 : Int32) = 0) by decide, show ¬ ((9 : Int32) = 1) by decide, show ¬ ((9 : Int32) = 2) by decide, show ¬ ((9 : Int32) = 3) by decide, show ¬ ((9 : Int32) = 4) by decide, show ¬ ((9 : Int32) = 11) by decide, show ¬ ((9 : Int32) = 12) by decide, show ¬ ((9 : Int32) = 13) by decide, show ¬ ((9 : Int32) = 14) by decide, show ¬ ((9 : Int32) = 5) by decide, show ¬ ((9 : Int32) = 6) by decide, show ¬ ((9 : Int32) = 7) by decide, show ¬ ((9 : Int32) = 8) by decide, if_true, if_false, if_true, if_pos z, if_neg i10]⟩
      · exact ⟨1, by simp only [m_valueOf, m_compares, bnd_e, cal_s, onr_s, jon_e, gI_hw, gL_hw, gT_hw, gR_hw, gN_hw, sI_hw, sL_hw, cV_hw, shS_hw, shC_hw, shL_hw, ← bt_def, nn_clamp hi2, grd_pos i1, grd_pos q1, grd_pos q2, q, show ¬ ((9 : Int32) = 0) by decide, show ¬ ((9 : Int32) = 1) by decide, show ¬ ((9 : Int32) = 2) by decide, show ¬ ((9 : Int32) = 3) by decide, show ¬ ((9 : Int32) = 4) by decide, show ¬ ((9 : Int32) = 11) by decide, show ¬ ((9 : Int32) = 12) by decide, show ¬ ((9 : Int32) = 13) by decide, show ¬ ((9 : Int32) = 14) by decide, show ¬ ((9 : Int32) = 5) by decide, show ¬ ((9 : Int32) = 6) by decide, show ¬ ((9 : Int32) = 7) by decide, show ¬ ((9 : Int32) = 8) by decide, if_true, if_false, if_neg z, if_neg i10]⟩
    · have q : I 22 i = 10 := q
      by_cases z : lg_cmp (L 28 (I 23 i).toNatClampNeg) (L 28 (I 24 i).toNatClampNeg) ≤ 0
      · exact ⟨0, by simp only [m_valueOf, m_compares, bnd_e, cal_s, onr_s, jon_e, gI_hw, gL_hw, gT_hw, gR_hw, gN_hw, sI_hw, sL_hw, cV_hw, shS_hw, shC_hw, shL_hw, ← bt_def, nn_clamp hi2, grd_pos i1, grd_pos q1, grd_pos q2, q, show ¬ ((10 : Int32) = 0) by decide, show ¬ ((10 : Int32) = 1) by decide, show ¬ ((10 : Int32) = 2) by decide, show ¬ ((10 : Int32) = 3) by decide, show ¬ ((10 : Int32) = 4) by decide, show ¬ ((10 : Int32) = 11) by decide, show ¬ ((10 : Int32) = 12) by decide, show ¬ ((10 : Int32) = 13) by decide, show ¬ ((10 : Int32) = 14) by decide, show ¬ ((10 : Int32) = 5) by decide, show ¬ ((10 : Int32) = 6) by decide, show ¬ ((10 : Int32) = 7) by decide, show ¬ ((10 : Int32) = 8) by decide, show ¬ ((10 : Int32) = 9) by decide, if_false, if_true, if_pos z, if_neg i10]⟩
      · exact ⟨1, by simp only [m_valueOf, m_compares, bnd_e, cal_s, onr_s, jon_e, gI_hw, gL_hw, gT_hw, gR_hw, gN_hw, sI_hw, sL_hw, cV_hw, shS_hw, shC_hw, shL_hw, ← bt_def, nn_clamp hi2, grd_pos i1, grd_pos q1, grd_pos q2, q, show ¬ ((10 : Int32) = 0) by decide, show ¬ ((10 : Int32) = 1) by decide, show ¬ ((10 : Int32) = 2) by decide, show ¬ ((10 : Int32) = 3) by decide, show ¬ ((10 : Int32) = 4) by decide, show ¬ ((10 : Int32) = 11) by decide, show ¬ ((10 : Int32) = 12) by decide, show ¬ ((10 : Int32) = 13) by decide, show ¬ ((10 : Int32) = 14) by decide, show ¬ ((10 : Int32) = 5) by decide, show ¬ ((10 : Int32) = 6) by decide, show ¬ ((10 : Int32) = 7) by decide, show ¬ ((10 : Int32) = 8) by decide, show ¬ ((10 : Int32) = 9) by decide, if_false, if_neg z, if_neg i10]⟩
    · have q : I 22 i = 11 := q
      exact ⟨0, by simp only [m_valueOf, m_compares, bnd_e, cal_s, onr_s, jon_e, gI_hw, gL_hw, gT_hw, gR_hw, gN_hw, sI_hw, sL_hw, cV_hw, shS_hw, shC_hw, shL_hw, ← bt_def, nn_clamp hi2, grd_pos i1, grd_pos q1, grd_pos q2, q, show ¬ ((11 : Int32) = 0) by decide, show ¬ ((11 : Int32) = 1) by decide, show ¬ ((11 : Int32) = 2) by decide, show ¬ ((11 : Int32) = 3) by decide, show ¬ ((11 : Int32) = 4) by decide, if_true, if_false, em_boundedE e]⟩
    · have q : I 22 i = 12 := q
      exact ⟨0, by simp only [m_valueOf, m_compares, bnd_e, cal_s, onr_s, jon_e, gI_hw, gL_hw, gT_hw, gR_hw, gN_hw, sI_hw, sL_hw, cV_hw, shS_hw, shC_hw, shL_hw, ← bt_def, nn_clamp hi2, grd_pos i1, grd_pos q1, grd_pos q2, q, show ¬ ((12 : Int32) = 0) by decide, show ¬ ((12 : Int32) = 1) by decide, show ¬ ((12 : Int32) = 2) by decide, show ¬ ((12 : Int32) = 3) by decide, show ¬ ((12 : Int32) = 4) by decide, show ¬ ((12 : Int32) = 11) by decide, if_true, if_false, em_boundedE e]⟩
    · have q : I 22 i = 13 := q
      exact ⟨0, by simp only [m_valueOf, m_compares, bnd_e, cal_s, onr_s, jon_e, gI_hw, gL_hw, gT_hw, gR_hw, gN_hw, sI_hw, sL_hw, cV_hw, shS_hw, shC_hw, shL_hw, ← bt_def, nn_clamp hi2, grd_pos i1, grd_pos q1, grd_pos q2, q, show ¬ ((13 : Int32) = 0) by decide, show ¬ ((13 : Int32) = 1) by decide, show ¬ ((13 : Int32) = 2) by decide, show ¬ ((13 : Int32) = 3) by decide, show ¬ ((13 : Int32) = 4) by decide, show ¬ ((13 : Int32) = 11) by decide, show ¬ ((13 : Int32) = 12) by decide, if_true, if_false, em_timesE e]⟩
    · have q : I 22 i = 14 := q
      exact ⟨0, by simp only [m_valueOf, m_compares, bnd_e, cal_s, onr_s, jon_e, gI_hw, gL_hw, gT_hw, gR_hw, gN_hw, sI_hw, sL_hw, cV_hw, shS_hw, shC_hw, shL_hw, ← bt_def, nn_clamp hi2, grd_pos i1, grd_pos q1, grd_pos q2, q, show ¬ ((14 : Int32) = 0) by decide, show ¬ ((14 : Int32) = 1) by decide, show ¬ ((14 : Int32) = 2) by decide, show ¬ ((14 : Int32) = 3) by decide, show ¬ ((14 : Int32) = 4) by decide, show ¬ ((14 : Int32) = 11) by decide, show ¬ ((14 : Int32) = 12) by decide, show ¬ ((14 : Int32) = 13) by decide, if_true, if_false, if_neg e0, grd_pos (show isB (1 : Int32) from Or.inr rfl), u2_same, if_neg i10, u2_id e, ite_self]⟩
/-- what stays of the longs while a law is worked out -/
def frL (s : Nat) (L L' : Nat → Nat → Int64) : Prop := (∀ x, x ≠ 28 → L' x = L x) ∧ ∀ i, i < s → L' 28 i = L 28 i
theorem frL.tr {s t : Nat} {L L1 L2 : Nat → Nat → Int64} (a : frL s L L1) (b : frL t L1 L2) (hst : s ≤ t) : frL s L L2 := ⟨fun x hx => (b.1 x hx).trans (a.1 x hx), fun i hi => (b.2 i (by omega)).trans (a.2 i hi)⟩
theorem frL.u {s i : Nat} {L : Nat → Nat → Int64} {v : Int64} (hi : s ≤ i) : frL s L (u2 L 28 i v) := ⟨fun x hx => u2_ne hx, fun j hj => u2_nk _ _ (by omega)⟩
theorem em_runE {j last : Nat} (hj : j < 2) {I : Nat → Nat → Int32} (e : I 0 54 = 1) (el : I 21 j = nn last) (hl : last ≤ 64) : ∀ (m i : Nat) (L : Nat → Nat → Int64), i + m ≤ last → (∀ t, i ≤ t → t < i + m → wfk (I 22) (I 23) (I 24) t) → ∃ L', (∀ n k, m_lawOf_12 (nn j) k (n + m) (nn i) (hw h I L) = m_lawOf_12 (nn j) k n (nn (i + m)) (hw h I L')) ∧ frL i L L' := by
  intro m
  induction m with
  | zero => intro i L _ _; exact ⟨L, fun n k => rfl, fun _ _ => rfl, fun _ _ => rfl⟩
  | succ m ih =>
    intro i L hm wf
    have i1 : inb (nn j) 4 := nn_inb (by omega) (by omega)
    have i2 : inb (nn i) 64 := nn_inb (by omega) (by omega)
    have hi2 : i < 2147483648 := by omega
    have nle := nn_nle (show i < last by omega) (show last < 2147483648 by omega)
    obtain ⟨r, er⟩ := em_valE (h := h) (L := L) (show i < 64 by omega) (wf i (by omega) (by omega)) e
    obtain ⟨L', e1, f1⟩ := ih (i + 1) (u2 L 28 i r) (by omega) (fun t h1 h2 => wf t (by omega) (by omega))
    refine ⟨L', fun n k => ?_, (frL.u (Nat.le_refl i)).tr f1 (by omega)⟩
    rw [show n + (m + 1) = (n + m) + 1 by omega, show i + (m + 1) = i + 1 + m by omega, ← e1]
    rw [m_lawOf_12]
    simp only [bnd_e, cal_s, onr_s, jon_e, gI_hw, gL_hw, gT_hw, gR_hw, gN_hw, sI_hw, sL_hw, cV_hw, shS_hw, shC_hw, shL_hw, ← bt_def, grd_pos i1, nn_clamp (show j < 2147483648 by omega), el, if_neg nle, er, grd_pos i2, nn_clamp hi2, nn_succ]
/-- one knot of a law -/
theorem em_one {j last i : Nat} (hj : j < 2) {I I' : Nat → Nat → Int32} {L : Nat → Nat → Int64} {r : Int64} (el : I 21 j = nn last) (hl : last ≤ 64) (hi : i < last) (er : m_valueOf (nn i) (hw h I L) = some (r, hw h I' L)) : ∀ n k, m_lawOf_12 (nn j) k (n + 1) (nn i) (hw h I L) = m_lawOf_12 (nn j) k n (nn (i + 1)) (hw h I' (u2 L 28 i r)) := by
  intro n k
  have i1 : inb (nn j) 4 := nn_inb (by omega) (by omega)
  have i2 : inb (nn i) 64 := nn_inb (by omega) (by omega)
  have hi2 : i < 2147483648 := by omega
  have nle := nn_nle hi (show last < 2147483648 by omega)
  rw [m_lawOf_12]
  simp only [bnd_e, cal_s, onr_s, jon_e, gI_hw, gL_hw, gT_hw, gR_hw, gN_hw, sI_hw, sL_hw, cV_hw, shS_hw, shC_hw, shL_hw, ← bt_def, grd_pos i1, nn_clamp (show j < 2147483648 by omega), el, if_neg nle, er, grd_pos i2, nn_clamp hi2, nn_succ]
theorem erI_22 {I : Nat → Nat → Int32} (r : Option Int64) {x : Nat} (hx : x ≠ 0) : erI I r x = I x := u2_ne hx
theorem em_seg {j last : Nat} (hj : j < 2) (hl : last ≤ 64) {I : Nat → Nat → Int32} (e0 : I 0 54 = 0) (el : I 21 j = nn last) : ∀ (d s e : Nat) (f : LF), SDn (I 22) (I 23) (I 24) d s e f → e < last → ∀ L : Nat → Nat → Int64, (∀ i, i < 7 → L 27 i = N i) → ∃ L', (∀ n k, m_lawOf_12 (nn j) k (n + (e + 1 - s)) (nn s) (hw h I L) = m_lawOf_12 (nn j) k n (nn (e + 1)) (hw h (erI I (f N)) L')) ∧ frL s L L' ∧ ∀ v, f N = some v → L' 28 e = v := by
  intro d
  induction d with
  | zero => intro s e f q; exact q.elim
  | succ d ih =>
    intro s e f q he L hN
    have he2 : e < 2147483648 := by omega
    have i1 : inb (nn e) 128 := nn_inb he2 (by omega)
    rcases q with ⟨q, q2, qf⟩ | ⟨q, q2, q3, qf⟩ | ⟨e1, fa, q1, q2, q3, q4, qf⟩ | ⟨k, e1, e2, fa, fb, q1, q2, q3, q4, q5, q6, q7, qf⟩
    · have ev : m_valueOf (nn e) (hw h I L) = some ((I 23 e).toInt64, hw h I L) := by
        simp only [m_valueOf, bnd_e, cal_s, onr_s, jon_e, gI_hw, gL_hw, gT_hw, gR_hw, gN_hw, sI_hw, sL_hw, cV_hw, shS_hw, shC_hw, shL_hw, ← bt_def, nn_clamp he2, grd_pos i1, q2, if_true]
      refine ⟨u2 L 28 e (I 23 e).toInt64, fun n k => ?_, frL.u (by omega), fun v ev => ?_⟩
      · rw [show e + 1 - s = 1 by omega, q, em_one hj el hl he ev, qf, erI_some e0]
      · rw [qf] at ev; cases ev; exact u2_same _ _ _ _
    · have ev : m_valueOf (nn e) (hw h I L) = some (L 27 (I 23 e).toNatClampNeg, hw h I L) := by
        simp only [m_valueOf, bnd_e, cal_s, onr_s, jon_e, gI_hw, gL_hw, gT_hw, gR_hw, gN_hw, sI_hw, sL_hw, cV_hw, shS_hw, shC_hw, shL_hw, ← bt_def, nn_clamp he2, grd_pos i1, q2, if_true, if_neg i10, grd_pos q3]
      have q4 : (I 23 e).toNatClampNeg < 7 := by
        rcases Nat.lt_or_ge (I 23 e).toNatClampNeg 7 with z | z
        · exact z
        · exact absurd (Or.inr z) q3
      refine ⟨u2 L 28 e (L 27 (I 23 e).toNatClampNeg), fun n k => ?_, frL.u (by omega), fun v ev => ?_⟩
      · rw [show e + 1 - s = 1 by omega, q, em_one hj el hl he ev, qf, erI_some e0]
      · rw [qf] at ev; cases ev; rw [u2_same]; exact hN _ q4
    · have hse := SDn.le1 _ _ _ _ q4
      obtain ⟨L1, a1, a2, a3⟩ := ih s e1 fa q4 (by omega) L hN
      cases hf : fa N with
      | none =>
        rw [hf] at a1
        have e3 : f N = none := by rw [qf]; unfold zNot; rw [hf]
        obtain ⟨L2, b1, b2⟩ := em_runE (h := h) hj (I := erI I none) (show u2 I 0 54 1 0 54 = 1 from u2_same _ _ _ _) (show erI I none 21 j = nn last by rw [erI_22 _ (by decide)]; exact el) hl 1 (e1 + 1) L1 (by omega) (fun t h1 h2 => by
          rw [erI_22 _ (by decide), erI_22 _ (by decide), erI_22 _ (by decide), show t = e by omega]
          exact Or.inr (Or.inr (Or.inl ⟨q2, by rw [q3]; exact nn_inb (by omega) (by omega)⟩)))
        refine ⟨L2, fun n k => ?_, a2.tr b2 (by omega), fun v ev => by rw [e3] at ev; cases ev⟩
        rw [show n + (e + 1 - s) = (n + 1) + (e1 + 1 - s) by omega, a1, b1, e3, show e1 + 1 + 1 = e + 1 by omega]
      | some v =>
        rw [hf, erI_some e0] at a1
        have e3 : f N = some (if lg_cmp v 0 = 0 then 1 else 0) := by rw [qf]; unfold zNot; rw [hf]
        have i2 : inb (nn e1) 64 := nn_inb (by omega) (by omega)
        have a4 := a3 v hf
        have ev : m_valueOf (nn e) (hw h I L1) = some ((if lg_cmp v 0 = 0 then 1 else 0), hw h I L1) := by
          simp only [m_valueOf, bnd_e, cal_s, onr_s, jon_e, gI_hw, gL_hw, gT_hw, gR_hw, gN_hw, sI_hw, sL_hw, cV_hw, shS_hw, shC_hw, shL_hw, ← bt_def, nn_clamp he2, grd_pos i1, q2, q3, grd_pos i2, nn_clamp (show e1 < 2147483648 by omega), a4, if_true, show ¬ ((2 : Int32) = 0) by decide, show ¬ ((2 : Int32) = 1) by decide, if_false]
          by_cases z : lg_cmp v 0 = 0
          · rw [if_pos z, if_pos z]
          · rw [if_neg z, if_neg z]
        refine ⟨u2 L1 28 e (if lg_cmp v 0 = 0 then 1 else 0), fun n k => ?_, a2.tr (frL.u (Nat.le_refl e)) (by omega), fun w ew => ?_⟩
        · rw [show n + (e + 1 - s) = (n + 1) + (e1 + 1 - s) by omega, a1, show e1 + 1 = e by omega, em_one hj el hl he ev, e3, erI_some e0]
        · rw [e3] at ew; cases ew; exact u2_same _ _ _ _
    · have hse := SDn.le1 _ _ _ _ q6
      have hse2 := SDn.le1 _ _ _ _ q7
      obtain ⟨L1, a1, a2, a3⟩ := ih s e1 fa q6 (by omega) L hN
      have wf := SDn.wf _ _ _ _ q7 (by omega)
      have wfe : wfk (I 22) (I 23) (I 24) e := Or.inr (Or.inr (Or.inr ⟨⟨k, q2, q3⟩, by rw [q4]; exact nn_inb (by omega) (by omega), by rw [q5]; exact nn_inb (by omega) (by omega)⟩))
      cases hf : fa N with
      | none =>
        rw [hf] at a1
        have e3 : f N = none := by rw [qf]; unfold zTwo; rw [hf]
        obtain ⟨L2, b1, b2⟩ := em_runE (h := h) hj (I := erI I none) (show u2 I 0 54 1 0 54 = 1 from u2_same _ _ _ _) (show erI I none 21 j = nn last by rw [erI_22 _ (by decide)]; exact el) hl (e - e1) (e1 + 1) L1 (by omega) (fun t h1 h2 => by
          rw [erI_22 _ (by decide), erI_22 _ (by decide), erI_22 _ (by decide)]
          by_cases z : t = e
          · rw [z]; exact wfe
          · exact wf t h1 (by omega))
        refine ⟨L2, fun n k => ?_, a2.tr b2 (by omega), fun v ev => by rw [e3] at ev; cases ev⟩
        rw [show n + (e + 1 - s) = (n + (e - e1)) + (e1 + 1 - s) by omega, a1, b1, e3, show e1 + 1 + (e - e1) = e + 1 by omega]
      | some v =>
        rw [hf, erI_some e0] at a1
        obtain ⟨L2, c1, c2, c3⟩ := ih (e1 + 1) e2 fb q7 (by omega) L1 (fun i hi => by rw [a2.1 27 (by decide)]; exact hN i hi)
        cases hg : fb N with
        | none =>
          rw [hg] at c1
          have e3 : f N = none := by rw [qf]; unfold zTwo; rw [hf]; show (match fb N with | none => none | some y => z2 _ v y) = none; rw [hg]
          obtain ⟨L3, b1, b2⟩ := em_runE (h := h) hj (I := erI I none) (show u2 I 0 54 1 0 54 = 1 from u2_same _ _ _ _) (show erI I none 21 j = nn last by rw [erI_22 _ (by decide)]; exact el) hl 1 (e2 + 1) L2 (by omega) (fun t h1 h2 => by
            rw [erI_22 _ (by decide), erI_22 _ (by decide), erI_22 _ (by decide), show t = e by omega]
            exact wfe)
          refine ⟨L3, fun n k => ?_, (a2.tr c2 (by omega)).tr b2 (by omega), fun v ev => by rw [e3] at ev; cases ev⟩
          rw [show n + (e + 1 - s) = ((n + 1) + (e2 + 1 - (e1 + 1))) + (e1 + 1 - s) by omega, a1, c1, b1, e3, show e2 + 1 + 1 = e + 1 by omega]
        | some w =>
          rw [hg, erI_some e0] at c1
          have e3 : f N = z2 (mkc (nn k)) v w := by rw [qf]; unfold zTwo; rw [hf]; show (match fb N with | none => none | some y => z2 _ v y) = _; rw [hg]
          have ev := em_val2 (h := h) (I := I) (L := L2) (show e < 64 by omega) q2 (show e1 < 64 by omega) (show e2 < 64 by omega) q3 q4 q5 ((c2.2 e1 (by omega)).trans (a3 v hf)) (c3 w hg) e0
          refine ⟨u2 L2 28 e ((z2 (mkc (nn k)) v w).getD 0), fun n k => ?_, (a2.tr c2 (by omega)).tr (frL.u (Nat.le_refl e)) (by omega), fun u eu => ?_⟩
          · rw [show n + (e + 1 - s) = ((n + 1) + (e2 + 1 - (e1 + 1))) + (e1 + 1 - s) by omega, a1, c1, show e2 + 1 = e by omega, em_one hj el hl he ev, e3]
          · rw [e3] at eu; rw [eu]; exact u2_same _ _ _ _
/-- a law that is told, its values -/
def ML (I : Nat → Nat → Int32) (l : Option LF) (j : Nat) : Prop := match l with
  | none => I 19 j = 0
  | some f => I 19 j = 1 ∧ ∃ d s e, e < 64 ∧ I 20 j = nn s ∧ I 21 j = nn (e + 1) ∧ SDn (I 22) (I 23) (I 24) d s e f
theorem em_lawOf {I : Nat → Nat → Int32} {L : Nat → Nat → Int64} {j : Nat} (hj : j < 2) {f : LF} (M : ML I (some f) j) (hN : ∀ i, i < 7 → L 27 i = N i) : ∃ L', m_lawOf (nn j) (hw h I L) = some ((f N).getD 0, hw h (erI I (f N)) L') ∧ ∀ x, x ≠ 28 → L' x = L x := by
  obtain ⟨-, d, s, e, he, q1, q2, q3⟩ := M
  have hse := SDn.le1 _ _ _ _ q3
  have i1 : inb (nn j) 4 := nn_inb (by omega) (by omega)
  have hj2 : j < 2147483648 := by omega
  have n1 : ∀ x, x ≠ 0 → u2 I 0 54 0 x = I x := fun x hx => u2_ne hx
  obtain ⟨L1, a1, a2, a3⟩ := em_seg (h := h) (N := N) hj (I := u2 I 0 54 0) (last := e + 1) (by omega) (u2_same _ _ _ _) (by rw [n1 21 (by decide)]; exact q2) d s e f (by rw [n1 22 (by decide), n1 23 (by decide), n1 24 (by decide)]; exact q3) (by omega) L hN
  have er : erI (u2 I 0 54 0) (f N) = erI I (f N) := by
    funext b k
    unfold erI
    rw [u2_app, u2_app, u2_app]
    by_cases z : b = 0 ∧ k = 54
    · rw [if_pos z, if_pos z]
    · rw [if_neg z, if_neg z, if_neg z]
  have e21 : ∀ r : Option Int64, erI I r 21 j = nn (e + 1) := fun r => by rw [erI_22 _ (by decide)]; exact q2
  have b1 := a1 (FU - (e + 1 - s))
  rw [show FU - (e + 1 - s) + (e + 1 - s) = FU by show 1000 - _ + _ = 1000; omega, er] at b1
  obtain ⟨m, hm⟩ : ∃ m, FU - (e + 1 - s) = m + 1 := ⟨FU - (e + 1 - s) - 1, by show 1000 - _ = 1000 - _ - 1 + 1; omega⟩
  refine ⟨L1, ?_, a2.1⟩
  simp only [m_lawOf, bnd_e, cal_s, onr_s, jon_e, gI_hw, gL_hw, gT_hw, gR_hw, gN_hw, sI_hw, sL_hw, cV_hw, shS_hw, shC_hw, shL_hw, ← bt_def, grd_pos i1, nn_clamp hj2, n1 20 (by decide), q1, b1]
  rw [hm, m_lawOf_12]
  simp only [bnd_e, cal_s, onr_s, jon_e, gI_hw, gL_hw, gT_hw, gR_hw, gN_hw, sI_hw, sL_hw, cV_hw, shS_hw, shC_hw, shL_hw, ← bt_def, grd_pos i1, nn_clamp hj2, e21, if_pos (nn_ple (Nat.le_refl (e + 1)) (show e + 1 < 2147483648 by omega))]
  have es : nn (e + 1) - 1 = nn e := nn_sub (b := 1) (by omega)
  have i3 : inb (nn e) 64 := nn_inb (by omega) (by omega)
  cases hf : f N with
  | none => simp only [erI, Option.isNone_none, bI_t, u2_same, if_neg i10, Option.getD_none]
  | some v =>
    simp only [erI, Option.isNone_some, bI_f, u2_same, if_true, es, grd_pos i3, nn_clamp (show e < 2147483648 by omega), a3 v hf, Option.getD_some]
end M2
