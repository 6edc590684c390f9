/-! PURE LEVEL 14: draws and asking on the model's side -/
theorem nn_bv (n : Nat) : (nn n).toBitVec = BitVec.ofNat 32 n := rfl
theorem nn_ext {x : Int32} {n : Nat} (h : x.toBitVec.toNat = n % 4294967296) : x = nn n := by
  apply Int32.toBitVec_inj.1
  apply BitVec.eq_of_toNat_eq
  rw [nn_bv, BitVec.toNat_ofNat]
  exact h
theorem znum_nn (n : Nat) : znum (nn n) = nn ((n * 1103515245 + 12345) % 2147483648) := by
  unfold znum
  rw [show (1103515245 : Int32) = nn 1103515245 from rfl, show (12345 : Int32) = nn 12345 from rfl, nn_mul, nn_add]
  apply nn_ext
  show (BitVec.ofNat 32 (n * 1103515245 + 12345) &&& BitVec.ofNat 32 2147483647).toNat = _
  rw [BitVec.toNat_and, BitVec.toNat_ofNat, BitVec.toNat_ofNat, show 2147483647 % 2 ^ 32 = 2 ^ 31 - 1 from rfl, Nat.and_two_pow_sub_one_eq_mod, Nat.mod_mod_of_dvd _ (show 2 ^ 31 ∣ 2 ^ 32 from ⟨2, rfl⟩)]
  exact (Nat.mod_eq_of_lt (Nat.lt_trans (Nat.mod_lt _ (by decide)) (by decide))).symm
theorem znum64 (n : Nat) (hn : n < 2147483648) : ((Int64.ofNat n * 1103515245) + 12345) &&& 2147483647 = Int64.ofNat ((n * 1103515245 + 12345) % 2147483648) := by
  rw [show (1103515245 : Int64) = Int64.ofNat 1103515245 from rfl, show (12345 : Int64) = Int64.ofNat 12345 from rfl, ← Int64.ofNat_mul, ← Int64.ofNat_add]
  apply Int64.toBitVec_inj.1
  apply BitVec.eq_of_toNat_eq
  show (BitVec.ofNat 64 (n * 1103515245 + 12345) &&& BitVec.ofNat 64 2147483647).toNat = (BitVec.ofNat 64 _).toNat
  rw [BitVec.toNat_and, BitVec.toNat_ofNat, BitVec.toNat_ofNat, BitVec.toNat_ofNat, show 2147483647 % 2 ^ 64 = 2 ^ 31 - 1 from rfl, Nat.and_two_pow_sub_one_eq_mod, Nat.mod_mod_of_dvd _ (show 2 ^ 31 ∣ 2 ^ 64 from ⟨8589934592, rfl⟩)]
  exact (Nat.mod_eq_of_lt (Nat.lt_trans (Nat.mod_lt _ (by decide)) (by decide))).symm
theorem nn_shr {m : Nat} (hm : m < 2147483648) : nn m >>> ((16 : Int32) &&& 31) = nn (m / 65536) := by
  apply nn_ext
  show ((BitVec.ofNat 32 m).sshiftRight 16).toNat = _
  rw [BitVec.sshiftRight_eq_of_msb_false (by rw [BitVec.msb_eq_decide, BitVec.toNat_ofNat]; exact decide_eq_false (by omega)), BitVec.toNat_ushiftRight, BitVec.toNat_ofNat, Nat.shiftRight_eq_div_pow]
  omega
theorem zdraw_nn {m n : Nat} (h : znum (nn n) = nn m) (hm : m < 2147483648) : zdraw (nn n) = nn (m / 65536 - m / 65536 / 100 * 100) := by
  unfold zdraw
  rw [h, nn_shr hm, show (100 : Int32) = nn 100 from rfl]
  rw [show nn (m / 65536) / nn 100 = nn (m / 65536 / 100) from (Int32.ofNat_div (by omega) (by omega)).symm, nn_mul, nn_sub (by omega)]
theorem nn64 {n : Nat} (hn : n < 2147483648) : (nn n).toInt64 = Int64.ofNat n := Int32.toInt64_ofNat' (by show (n : Int) ≤ 2147483647; omega)
theorem em_number1 {h : HP} {I : Nat → Nat → Int32} {L : Nat → Nat → Int64} {num : Int32} (e : L 0 61 = num.toInt64) (hn : ¬ num < 0) : m_number1 100 (hw h I L) = some (zdraw num, hw h I (u2 L 0 61 (znum num).toInt64)) ∧ ¬ znum num < 0 := by
  have h2 : 0 ≤ num := Int32.not_lt.mp hn
  obtain ⟨n, hn3, rfl⟩ : ∃ n, n < 2147483648 ∧ num = nn n := ⟨num.toNatClampNeg, Int32.toNatClampNeg_lt num, (Int32.ofNat_toNatClampNeg num h2).symm⟩
  have z1 := znum_nn n
  have hm : (n * 1103515245 + 12345) % 2147483648 < 2147483648 := Nat.mod_lt _ (by omega)
  generalize hM : (n * 1103515245 + 12345) % 2147483648 = m at *
  have z2 := zdraw_nn z1 hm
  have z3 := znum64 n hn3
  rw [hM] at z3
  refine ⟨?_, by rw [z1]; exact nn_nonneg hm⟩
  rw [nn64 hn3] at e
  simp only [m_number1, bnd_e, cal_s, onr_s, jon_e, gI_hw, gL_hw, gT_hw, gR_hw, gN_hw, sI_hw, sL_hw, cV_hw, shS_hw, shC_hw, shL_hw, ← bt_def, e, z3, u2_same, grd_pos (show ¬ (65536 : Int64) = 0 by decide), grd_pos (show ¬ (100 : Int32).toInt64 = 0 by decide), z1, z2, nn64 hm]
  rw [show (65536 : Int64) = Int64.ofNat 65536 from rfl, show (100 : Int32).toInt64 = Int64.ofNat 100 from rfl, ← Int64.ofNat_div (by omega) (by omega), ← Int64.ofNat_div (by omega) (by omega), ← Int64.ofNat_mul, ← Int64.ofNat_sub _ _ (by omega), Int64.toInt32_ofNat']
  rfl
def LnK (dr : Bool) (num : Int32) (L : Nat → Nat → Int64) : Prop := dr = true → (L 0 61 = num.toInt64 ∧ ¬ num < 0)
def frL2 (dr : Bool) (L L' : Nat → Nat → Int64) : Prop := (∀ x, x ≠ 27 → x ≠ 28 → x ≠ 0 → L' x = L x) ∧ (∀ k, k ≠ 61 → L' 0 k = L 0 k) ∧ (dr = false → L' 0 = L 0)
theorem frL2.rfl (dr : Bool) (L : Nat → Nat → Int64) : frL2 dr L L := ⟨fun _ _ _ _ => Eq.refl _, fun _ _ => Eq.refl _, fun _ => Eq.refl _⟩
theorem frL2.tr {dr : Bool} {L L1 L2 : Nat → Nat → Int64} (a : frL2 dr L L1) (b : frL2 dr L1 L2) : frL2 dr L L2 := ⟨fun x h1 h2 h3 => (b.1 x h1 h2 h3).trans (a.1 x h1 h2 h3), fun k hk => (b.2.1 k hk).trans (a.2.1 k hk), fun hd => (b.2.2 hd).trans (a.2.2 hd)⟩
theorem frL2.of (dr : Bool) {L L' : Nat → Nat → Int64} (f : ∀ x, x ≠ 27 → x ≠ 28 → L' x = L x) : frL2 dr L L' := ⟨fun x h1 h2 _ => f x h1 h2, fun k _ => by rw [f 0 (by decide) (by decide)], fun _ => f 0 (by decide) (by decide)⟩
theorem LnK.of {dr : Bool} {num : Int32} {L L' : Nat → Nat → Int64} (f : ∀ x, x ≠ 27 → x ≠ 28 → L' x = L x) (q : LnK dr num L) : LnK dr num L' := by
  unfold LnK; rw [f 0 (by decide) (by decide)]; exact q
section M4
variable {h : HP} {K : KT} {F : FT} {S : ST}
theorem zslip_0 {S1 : ST} {b q : Nat} {dr : Bool} {num : Int32} (h0 : F.1 = 0) : zslip K F S1 b q dr num = (false, num) := by
  have z : zodds K F S1 b q = 0 := if_pos h0
  unfold zslip
  rw [z]
  by_cases c1 : zasks K q = -1
  · rw [if_pos c1]
  · rw [if_neg c1]
    by_cases c2 : bt (sk S1 b) (zasks K q) = 0
    · rw [if_pos c2]
    · rw [if_neg c2]
      cases dr <;> rfl
theorem em_isSlip {I : Nat → Nat → Int32} {L : Nat → Nat → Int64} (M : MW I K) {b : Nat} (hb : b < 2) (hS : StM I b (zP K) S) (ws : WS (zP K) S) (fl : FlM I F) {dr : Bool} (hd : I 0 62 = bI dr) {num : Int32} (hn : LnK dr num L) {c q : Nat} (hc : c < zP K) (hq : q < zQ K) : ∃ v L', m_isSlip (nn b) (nn c) (nn q) (hw h I L) = some (bI (zslip K F S c q dr num).1, hw h (u2 I 0 54 v) L') ∧ frL2 dr L L' ∧ LnK dr (zslip K F S c q dr num).2 L' := by
  have hP := M.2.1.2.1
  have hQ := M.2.1.2.2.1
  have hq2 : q < 2147483648 := by omega
  have i1 : inb (nn q) 16 := nn_inb hq2 (by omega)
  have i2 : inb (nn (5 * b + c)) 10 := nn_inb (by omega) (by omega)
  obtain ⟨q1, q2, q3, q4, q5⟩ := M.1.2.2.2.2.1 q hq
  obtain ⟨k1, k2, k3, k4⟩ := hS.1 c hc
  have o1 := (okF_neg (M.2.2.2.1 q hq).2.2.2).2
  by_cases h0 : F.1 = 0
  · have z : ¬ I 0 64 = 0 := by rw [fl.1, decide_eq_true h0]; decide
    refine ⟨I 0 54, L, ?_, frL2.rfl dr L, ?_⟩
    · rw [u2_id rfl, zslip_0 h0]
      simp only [m_isSlip, bnd_e, cal_s, onr_s, jon_e, gI_hw, gL_hw, gT_hw, gR_hw, gN_hw, sI_hw, sL_hw, cV_hw, shS_hw, shC_hw, shL_hw, ← bt_def, grd_pos i1, if_neg z, bI_f]
    · rw [zslip_0 h0]; exact hn
  · have z : I 0 64 = 0 := by rw [fl.1, decide_eq_false h0]; rfl
    by_cases c0 : zt K 8 q = 3
    · have e : zslip K F S c q dr num = (false, num) := by unfold zslip zasks; rw [if_pos (if_pos c0)]
      refine ⟨I 0 54, L, ?_, frL2.rfl dr L, by rw [e]; exact hn⟩
      rw [u2_id rfl, e]
      simp only [m_isSlip, bnd_e, cal_s, onr_s, jon_e, gI_hw, gL_hw, gT_hw, gR_hw, gN_hw, sI_hw, sL_hw, cV_hw, shS_hw, shC_hw, shL_hw, ← bt_def, grd_pos i1, nn_clamp hq2, q2, q5, z, if_true, if_pos c0, bI_f]
    · have ea : zasks K q = zt K 11 q := if_neg c0
      by_cases c1 : zt K 11 q = -1
      · have e : zslip K F S c q dr num = (false, num) := by unfold zslip; rw [if_pos (by rw [ea]; exact c1)]
        refine ⟨I 0 54, L, ?_, frL2.rfl dr L, by rw [e]; exact hn⟩
        rw [u2_id rfl, e]
        simp only [m_isSlip, bnd_e, cal_s, onr_s, jon_e, gI_hw, gL_hw, gT_hw, gR_hw, gN_hw, sI_hw, sL_hw, cV_hw, shS_hw, shC_hw, shL_hw, ← bt_def, grd_pos i1, nn_clamp hq2, q2, q5, z, if_true, if_neg c0, if_pos (o1.mpr c1), bI_f]
      · have c1' : ¬ zt K 11 q < 0 := fun y => c1 (o1.mp y)
        by_cases c2 : bt (sk S c) (zt K 11 q) = 0
        · have e : zslip K F S c q dr num = (false, num) := by unfold zslip; rw [ea, if_neg c1, if_pos c2]
          refine ⟨I 0 54, L, ?_, frL2.rfl dr L, by rw [e]; exact hn⟩
          rw [u2_id rfl, e]
          simp only [m_isSlip, bnd_e, cal_s, onr_s, jon_e, gI_hw, gL_hw, gT_hw, gR_hw, gN_hw, sI_hw, sL_hw, cV_hw, shS_hw, shC_hw, shL_hw, ← bt_def, grd_pos i1, grd_pos i2, n5, nn_clamp hq2, nn_clamp (show 5 * b + c < 2147483648 by omega), q2, q5, z, if_true, if_neg c0, if_neg c1', em_isOf, k1, c2, not_true_eq_false, decide_false, bI_f]
        · obtain ⟨v, L1, e1, f1⟩ := em_slipOf (h := h) (L := L) M hb hS ws fl h0 hc hq
          have n1 := hn.of f1
          have n2 := frL2.of dr f1
          have hd' : u2 I 0 54 v 0 62 = bI dr := by rw [u2_nk _ _ (by decide)]; exact hd
          have zs : zslip K F S c q dr num = if dr = true then (if zodds K F S c q = 100 then (true, num) else if zodds K F S c q ≤ 0 then (false, num) else if zodds K F S c q ≤ zdraw num then (false, znum num) else (true, znum num)) else if zodds K F S c q < 50 then (false, num) else (true, num) := by unfold zslip; rw [ea, if_neg c1, if_neg c2]
          have dt : bI (decide (¬ bt (sk S c) (zt K 11 q) = 0)) = 1 := by rw [decide_eq_true c2]; rfl
          cases dr with
          | false =>
            by_cases c3 : zodds K F S c q < 50
            · rw [zs, if_neg (by decide), if_pos c3]
              refine ⟨v, L1, ?_, n2, n1⟩
              simp only [m_isSlip, bnd_e, cal_s, onr_s, jon_e, gI_hw, gL_hw, gT_hw, gR_hw, gN_hw, sI_hw, sL_hw, cV_hw, shS_hw, shC_hw, shL_hw, ← bt_def, grd_pos i1, grd_pos i2, n5, nn_clamp hq2, nn_clamp (show 5 * b + c < 2147483648 by omega), q2, q5, z, if_true, if_neg c0, if_neg c1', em_isOf, k1, dt, if_neg i10, e1, hd', bI_f, if_pos c3]
            · rw [zs, if_neg (by decide), if_neg c3]
              refine ⟨v, L1, ?_, n2, n1⟩
              simp only [m_isSlip, bnd_e, cal_s, onr_s, jon_e, gI_hw, gL_hw, gT_hw, gR_hw, gN_hw, sI_hw, sL_hw, cV_hw, shS_hw, shC_hw, shL_hw, ← bt_def, grd_pos i1, grd_pos i2, n5, nn_clamp hq2, nn_clamp (show 5 * b + c < 2147483648 by omega), q2, q5, z, if_true, if_neg c0, if_neg c1', em_isOf, k1, dt, if_neg i10, e1, hd', bI_f, bI_t, if_neg c3]
          | true =>
            by_cases c3 : zodds K F S c q = 100
            · rw [zs, if_pos rfl, if_pos c3]
              refine ⟨v, L1, ?_, n2, n1⟩
              simp only [m_isSlip, bnd_e, cal_s, onr_s, jon_e, gI_hw, gL_hw, gT_hw, gR_hw, gN_hw, sI_hw, sL_hw, cV_hw, shS_hw, shC_hw, shL_hw, ← bt_def, grd_pos i1, grd_pos i2, n5, nn_clamp hq2, nn_clamp (show 5 * b + c < 2147483648 by omega), q2, q5, z, if_true, if_neg c0, if_neg c1', em_isOf, k1, dt, if_neg i10, e1, hd', bI_t, if_pos c3]
            · by_cases c4 : zodds K F S c q ≤ 0
              · rw [zs, if_pos rfl, if_neg c3, if_pos c4]
                refine ⟨v, L1, ?_, n2, n1⟩
                simp only [m_isSlip, bnd_e, cal_s, onr_s, jon_e, gI_hw, gL_hw, gT_hw, gR_hw, gN_hw, sI_hw, sL_hw, cV_hw, shS_hw, shC_hw, shL_hw, ← bt_def, grd_pos i1, grd_pos i2, n5, nn_clamp hq2, nn_clamp (show 5 * b + c < 2147483648 by omega), q2, q5, z, if_true, if_neg c0, if_neg c1', em_isOf, k1, dt, if_neg i10, e1, hd', bI_t, bI_f, if_neg c3, if_pos c4]
              · obtain ⟨a1, a2⟩ := n1 rfl
                obtain ⟨b1, b2⟩ := em_number1 (h := h) (I := u2 I 0 54 v) a1 a2
                have fr : frL2 true L1 (u2 L1 0 61 (znum num).toInt64) := ⟨fun x _ _ h0 => u2_ne h0, fun k hk => u2_nk _ _ hk, fun y => by cases y⟩
                by_cases c5 : zodds K F S c q ≤ zdraw num
                · rw [zs, if_pos rfl, if_neg c3, if_neg c4, if_pos c5]
                  refine ⟨v, u2 L1 0 61 (znum num).toInt64, ?_, n2.tr fr, fun _ => ⟨u2_same _ _ _ _, b2⟩⟩
                  simp only [m_isSlip, bnd_e, cal_s, onr_s, jon_e, gI_hw, gL_hw, gT_hw, gR_hw, gN_hw, sI_hw, sL_hw, cV_hw, shS_hw, shC_hw, shL_hw, ← bt_def, grd_pos i1, grd_pos i2, n5, nn_clamp hq2, nn_clamp (show 5 * b + c < 2147483648 by omega), q2, q5, z, if_true, if_neg c0, if_neg c1', em_isOf, k1, dt, if_neg i10, e1, hd', bI_t, bI_f, if_neg c3, if_neg c4, b1, if_pos c5]
                · rw [zs, if_pos rfl, if_neg c3, if_neg c4, if_neg c5]
                  refine ⟨v, u2 L1 0 61 (znum num).toInt64, ?_, n2.tr fr, fun _ => ⟨u2_same _ _ _ _, b2⟩⟩
                  simp only [m_isSlip, bnd_e, cal_s, onr_s, jon_e, gI_hw, gL_hw, gT_hw, gR_hw, gN_hw, sI_hw, sL_hw, cV_hw, shS_hw, shC_hw, shL_hw, ← bt_def, grd_pos i1, grd_pos i2, n5, nn_clamp hq2, nn_clamp (show 5 * b + c < 2147483648 by omega), q2, q5, z, if_true, if_neg c0, if_neg c1', em_isOf, k1, dt, if_neg i10, e1, hd', bI_t, if_neg c3, if_neg c4, b1, if_neg c5]
end M4
