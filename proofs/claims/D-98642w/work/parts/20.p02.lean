/-! PURE LEVEL 2: the component's core (asking) -/
section C2
variable {h : HP} {I : Nat → Nat → Int32} {L : Nat → Nat → Int64} {c o P : Nat} {K : KT} {A : Nat → Nat → Nat} {F : FT} {S : ST}
theorem ec_size {l : Nat} (hL : shL (cV h) l) : cL_size l (hw h I L) = some (I l 2, hw h I L) := by
  unfold cL_size
  rw [grd_pos (show shL (cV (hw h I L)) l from hL), gI_hw]
theorem ec_get {l i m b : Nat} (hL : shL (cV h) l) (e : I l 2 = nn m) (hi : i < m) (hm : m ≤ (gT (cV h) (l + 1)).2) (hm2 : m < 2147483648) (hR : gR (cV h) (l + 1) i = some b) : cL_get l (nn i) (hw h I L) = some (b, hw h I L) := by
  have hi2 : i < 2147483648 := by omega
  have h1 : inb (nn i) (gT (cV h) (l + 1)).2 := nn_inb hi2 (by omega)
  simp only [cL_get, kJ3_checkIndex, kJ4_checkIndex, cL_elementData, bnd_e, cal_s, onr_s, jon_e, gI_hw, gL_hw, gT_hw, gR_hw, gN_hw, sI_hw, sL_hw, cV_hw, shS_hw, shC_hw, shL_hw, ← bt_def, grd_pos hL, if_neg (nn_nonneg hi2), e, if_pos ((nn_lt hi2 hm2).mpr hi), grd_pos h1, nn_clamp hi2, hR]
theorem CW.wk (W : CW h I c K A) : WK K := W.2.2
theorem CW.p5 (W : CW h I c K A) : zP K ≤ 5 := W.2.2.1.2.1
theorem CW.q8 (W : CW h I c K A) : zQ K ≤ 8 := W.2.2.1.2.2.1
theorem ec_persons (W : CW h I c K A) : cA_persons (hw h I L) = some (nn (zP K), hw h I L) := by
  obtain ⟨w1, ⟨w2, ⟨w3, w4, w5⟩, -, ⟨w6, w7, w8⟩, -⟩, -⟩ := W
  simp only [cA_persons, bnd_e, cal_s, onr_s, jon_e, gI_hw, gL_hw, gT_hw, gR_hw, gN_hw, sI_hw, sL_hw, cV_hw, shS_hw, shC_hw, shL_hw, ← bt_def, w1, grd_pos w2, grd_pos w4, ec_size w4, w7]
theorem ec_questions (W : CW h I c K A) : cA_questions (hw h I L) = some (nn (zQ K), hw h I L) := by
  obtain ⟨w1, ⟨w2, ⟨w3, w4, w5⟩, -, ⟨w6, w7, w8⟩, -⟩, -⟩ := W
  simp only [cA_questions, bnd_e, cal_s, onr_s, jon_e, gI_hw, gL_hw, gT_hw, gR_hw, gN_hw, sI_hw, sL_hw, cV_hw, shS_hw, shC_hw, shL_hw, ← bt_def, w1, grd_pos w2, grd_pos w5, ec_size w5, w8]
theorem ec_getP (W : CW h I c K A) {p : Nat} (hp : p < zP K) : cL_get (c + 3) (nn p) (hw h I L) = some (A 2 p, hw h I L) := by
  obtain ⟨w1, ⟨w2, ⟨w3, w4, w5⟩, ⟨w9, w10, w11⟩, ⟨w6, w7, w8⟩, -, -, w12, -⟩, w13⟩ := W
  exact ec_get w4 w7 hp (by have := w13.1.2.1; have e : (gT (cV h) (c + 3 + 1)).2 = 5 := w10; omega) (by have := w13.1.2.1; omega) (w12 p hp).1
theorem ec_getQ (W : CW h I c K A) {q : Nat} (hq : q < zQ K) : cL_get (c + 5) (nn q) (hw h I L) = some (A 3 q, hw h I L) := by
  obtain ⟨w1, ⟨w2, ⟨w3, w4, w5⟩, ⟨w9, w10, w11⟩, ⟨w6, w7, w8⟩, -, -, -, w12, -⟩, w13⟩ := W
  exact ec_get w5 w8 hq (by have := w13.1.2.2.1; have e : (gT (cV h) (c + 5 + 1)).2 = 8 := w11; omega) (by have := w13.1.2.2.1; omega) (w12 q hq).1
theorem CW.fP (W : CW h I c K A) {p : Nat} (hp : p < zP K) : (gT (cV h) (A 2 p)).1 = 8 ∧ I (A 2 p) 0 = zt K 2 p ∧ I (A 2 p) 1 = zt K 3 p ∧ I (A 2 p) 2 = zt K 4 p ∧ I (A 2 p) 3 = zt K 5 p ∧ I (A 2 p) 4 = zt K 6 p := (W.2.1.2.2.2.2.2.2.1 p hp).2
theorem CW.fQ (W : CW h I c K A) {q : Nat} (hq : q < zQ K) : (gT (cV h) (A 3 q)).1 = 9 ∧ I (A 3 q) 0 = zt K 7 q ∧ I (A 3 q) 1 = zt K 8 q ∧ I (A 3 q) 2 = zt K 9 q ∧ I (A 3 q) 3 = zt K 10 q ∧ I (A 3 q) 4 = zt K 11 q := (W.2.1.2.2.2.2.2.2.2.1 q hq).2
theorem CW.kd (W : CW h I c K A) {q : Nat} (hq : q < zQ K) : ∃ i, i < 4 ∧ zt K 8 q = nn i := (W.2.2.2.2.1 q hq).1
theorem ec_there {a : Nat} (s : shS (cV h) o) (e : I o 9 = F.2.2) : cS_isThere o (nn a) (hw h I L) = some (bI (decide (bt F.2.2 (nn a) = 0)), hw h I L) := by
  simp only [cS_isThere, bnd_e, cal_s, onr_s, jon_e, gI_hw, gL_hw, gT_hw, gR_hw, gN_hw, sI_hw, sL_hw, cV_hw, shS_hw, shC_hw, shL_hw, ← bt_def, grd_pos s, e]
  by_cases q : bt F.2.2 (nn a) = 0
  · rw [if_pos q, decide_eq_true q, bI_t]
  · rw [if_neg q, decide_eq_false q, bI_f]
theorem ec_tog {a b : Nat} (s : shS (cV h) o) (hP : P ≤ 5) (hS : StC I o P F S) (ha : a < P) (hb : b < P) : cS_areTogether o (nn a) (nn b) (hw h I L) = some (bI (ztog F S a b), hw h I L) := by
  obtain ⟨s1, s2, s3, s4, s5⟩ := hS
  have ha2 : a < 2147483648 := by omega
  have hb2 : b < 2147483648 := by omega
  have i1 : inb (nn a) 5 := nn_inb ha2 (by omega)
  have i2 : inb (nn b) 5 := nn_inb hb2 (by omega)
  have e1 := (s1 a ha).2.1
  have e2 := (s1 b hb).2.1
  simp only [cS_areTogether, bnd_e, cal_s, onr_s, jon_e, gI_hw, gL_hw, gT_hw, gR_hw, gN_hw, sI_hw, sL_hw, cV_hw, shS_hw, shC_hw, shL_hw, ← bt_def, grd_pos s, ec_there s s5, bI_eq0]
  unfold ztog
  by_cases q1 : bt F.2.2 (nn a) = 0
  · by_cases q2 : bt F.2.2 (nn b) = 0
    · simp only [q1, q2, decide_true, if_false, Bool.true_and, Bool.true_eq_false]
      rw [s3]
      by_cases q3 : F.1 = 1
      · rw [if_pos q3] at e1 e2 ⊢
        rw [← e1, ← e2]; rfl
      · rw [if_neg q3] at e1 e2 ⊢
        rw [grd_pos i1, grd_pos i2, nn_clamp ha2, nn_clamp hb2, e1, e2]
        by_cases q4 : sr S a = sr S b
        · rw [if_pos q4, decide_eq_true q4, bI_t]
        · rw [if_neg q4, decide_eq_false q4, bI_f]
    · simp only [q1, q2, decide_true, decide_false, if_true, if_false, Bool.true_and, Bool.false_and, Bool.true_eq_false, bI_f]
  · simp only [q1, decide_false, if_true, Bool.false_and, bI_f]
theorem ec_bit (k : Int32) : kX4_bit k (hw h I L) = some (z1 k, hw h I L) := by
  unfold kX4_bit z1
  by_cases q : k = -1
  · rw [if_pos q, if_pos q]
  · rw [if_neg q, if_neg q]
theorem cT_kind {h : HP} {i : Nat} (hi : i < 4) : gR (cV h) 15 i = some (16 + i) ∧ (gT (cV h) (16 + i)).1 = 16 + i := by
  have : i = 0 ∨ i = 1 ∨ i = 2 ∨ i = 3 := by omega
  rcases this with rfl | rfl | rfl | rfl <;> exact ⟨rfl, rfl⟩
theorem ec_supposes (W : CW h I c K A) {q i : Nat} (hq : q < zQ K) (hi : i < 4) (e : zt K 8 q = nn i) : cK_supposes (16 + i) (A 3 q) (hw h I L) = some (zsup K q, hw h I L) := by
  obtain ⟨t, e0, e1, e2, e3, e4⟩ := W.fQ hq
  have hk := (cT_kind (h := h) hi).2
  have : i = 0 ∨ i = 1 ∨ i = 2 ∨ i = 3 := by omega
  rcases this with rfl | rfl | rfl | rfl
  · have e' : ¬ zt K 8 q = 1 := by rw [e]; decide
    simp only [cK_supposes, kX5_supposes, kX6_supposes, bnd_e, cal_s, onr_s, jon_e, gI_hw, gL_hw, gT_hw, gR_hw, gN_hw, sI_hw, sL_hw, cV_hw, shS_hw, shC_hw, shL_hw, ← bt_def, hk, if_true, grd_pos t, ec_bit, e2, e3, zsup, if_neg e']
  · simp only [cK_supposes, kX5_supposes, kX6_supposes, bnd_e, cal_s, onr_s, jon_e, gI_hw, gL_hw, gT_hw, gR_hw, gN_hw, sI_hw, sL_hw, cV_hw, shS_hw, shC_hw, shL_hw, ← bt_def, hk, if_true, grd_pos t, grd_pos trivial, ec_bit, e2, e3, zsup, if_pos (show zt K 8 q = 1 by rw [e]; rfl), show ¬ (16 + 1 = 16) by decide, if_false]
  · have e' : ¬ zt K 8 q = 1 := by rw [e]; decide
    simp only [cK_supposes, kX5_supposes, kX6_supposes, bnd_e, cal_s, onr_s, jon_e, gI_hw, gL_hw, gT_hw, gR_hw, gN_hw, sI_hw, sL_hw, cV_hw, shS_hw, shC_hw, shL_hw, ← bt_def, hk, if_true, grd_pos t, ec_bit, e2, e3, zsup, if_neg e', show ¬ (16 + 2 = 16) by decide, show ¬ (16 + 2 = 17) by decide, if_false]
  · have e' : ¬ zt K 8 q = 1 := by rw [e]; decide
    simp only [cK_supposes, kX5_supposes, kX6_supposes, bnd_e, cal_s, onr_s, jon_e, gI_hw, gL_hw, gT_hw, gR_hw, gN_hw, sI_hw, sL_hw, cV_hw, shS_hw, shC_hw, shL_hw, ← bt_def, hk, if_true, grd_pos t, ec_bit, e2, e3, zsup, if_neg e', show ¬ (16 + 3 = 16) by decide, show ¬ (16 + 3 = 17) by decide, show ¬ (16 + 3 = 18) by decide, if_false]
theorem ec_can (W : CW h I c K A) (s : shS (cV h) o) (hS : StC I o (zP K) F S) {a b q : Nat} (ha : a < zP K) (hb : b < zP K) (hq : q < zQ K) (cnt : Bool) : cS_can o (nn a) (nn b) (nn q) (bI cnt) (hw h I L) = some (bI (zcan K F S a b q cnt), hw h I L) := by
  have hP := W.p5
  have hQ := W.q8
  have ha2 : a < 2147483648 := by omega
  have hb2 : b < 2147483648 := by omega
  obtain ⟨t, e0, e1, e2, e3, e4⟩ := W.fQ hq
  obtain ⟨i, hi, ei⟩ := W.kd hq
  obtain ⟨k1, k2⟩ := cT_kind (h := h) hi
  have i1 : inb (nn a) 5 := nn_inb ha2 (by omega)
  have i2 : inb (I (A 3 q) 1) 4 := by rw [e1, ei]; exact nn_inb (by omega) hi
  have w1 := W.1
  have w2 := W.2.1.1
  have w5 := W.2.1.2.1.2.2
  have w9 : I c 8 = zt K 0 0 := W.2.1.2.2.2.2.1.2.1
  obtain ⟨s1, s2, s3, s4, s5⟩ := hS
  have ek := (s1 a ha).1
  have ea := (s1 a ha).2.2.2
  have eg : gR (cV h) 15 (I (A 3 q) 1).toNatClampNeg = some (16 + i) := by rw [e1, ei, nn_clamp (by omega)]; exact k1
  have es := ec_supposes (L := L) W hq hi ei
  have et := ec_tog (L := L) s hP ⟨s1, s2, s3, s4, s5⟩ ha hb
  simp only [cS_can, bnd_e, cal_s, onr_s, jon_e, gI_hw, gL_hw, gT_hw, gR_hw, gN_hw, sI_hw, sL_hw, cV_hw, shS_hw, shC_hw, shL_hw, ← bt_def, grd_pos s, w1, grd_pos w2, grd_pos w5, ec_getQ W hq, grd_pos t, et, grd_pos i1, grd_pos i2, eg, es, nn_clamp ha2, ek, ea, w9, s3, s4, nn_eq ha2 hb2, bI_eq0]
  unfold zcan
  generalize zsup K q &&& (sk S a ^^^ (-1 : Int32)) = X
  by_cases x0 : a = b
  · simp [x0, bI]
  · cases x5 : ztog F S a b
    · simp [x0, bI]
    · cases cnt <;> by_cases x1 : F.1 = 3 <;> by_cases x2 : F.2.1 = nn q <;> by_cases x3 : sa S a < zt K 0 0 <;> by_cases x4 : X = 0 <;> simp [x0, x1, x2, x3, x4, bI]
end C2
