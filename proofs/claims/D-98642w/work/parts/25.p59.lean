/-! PURE LEVEL 59: note, strike -/
def ntJ (J : Nat → Nat → Int32) (sn : Nat) (a1 a2 a3 a4 : Int32) : Nat → Nat → Int32 := u2 (u2 (u2 (u2 (u2 J 37 (4 * sn) a1) 37 (4 * sn + 1) a2) 37 (4 * sn + 2) a3) 37 (4 * sn + 3) a4) 0 71 (nn (sn + 1))
section P17
variable {h g : HP} {I J : Nat → Nat → Int32} {L M : Nat → Nat → Int64}
theorem em_noted {sn : Nat} (hs : sn < 24) (e : J 0 71 = nn sn) (a1 a2 a3 a4 : Int32) : m_noted a1 a2 a3 a4 (hw g J M) = some (nn sn, hw g (ntJ J sn a1 a2 a3 a4) M) := by
  have e4 : (4 : Int32) * nn sn = nn (4 * sn) := nn_mul 4 sn
  have m1 : nn (4 * sn) + 1 = nn (4 * sn + 1) := nn_add _ 1
  have m2 : nn (4 * sn) + 2 = nn (4 * sn + 2) := nn_add _ 2
  have m3 : nn (4 * sn) + 3 = nn (4 * sn + 3) := nn_add _ 3
  have s1 : nn (sn + 1) - 1 = nn sn := nn_sub (a := sn + 1) (b := 1) (by omega)
  simp only [m_noted, bnd_e, cal_s, onr_s, jon_e, gI_hw, gL_hw, gT_hw, gR_hw, gN_hw, sI_hw, sL_hw, cV_hw, shS_hw, shC_hw, shL_hw, ← bt_def, u2_ne (show 0 ≠ 37 by decide), e, e4, m1, m2, m3, grd_pos (show inb (nn (4 * sn)) 96 from nn_inb (by omega) (by omega)), grd_pos (show inb (nn (4 * sn + 1)) 96 from nn_inb (by omega) (by omega)), grd_pos (show inb (nn (4 * sn + 2)) 96 from nn_inb (by omega) (by omega)), grd_pos (show inb (nn (4 * sn + 3)) 96 from nn_inb (by omega) (by omega)), nn_clamp (show 4 * sn < 2147483648 by omega), nn_clamp (show 4 * sn + 1 < 2147483648 by omega), nn_clamp (show 4 * sn + 2 < 2147483648 by omega), nn_clamp (show 4 * sn + 3 < 2147483648 by omega), nn_succ, u2_same]
  rw [s1]; rfl
theorem ec_n21 {b : Nat} (t : (gT (cV h) b).1 = 14) (a1 a2 a3 a4 : Int32) (h4 : isB a4) : kX21_init b a1 a2 a3 a4 (hw h I L) = some ((), hw h (u2 (u2 (u2 (u2 I b 0 a1) b 1 a2) b 2 a3) b 3 a4) L) := by
  simp only [kX21_init, kX20_init, bnd_e, cal_s, onr_s, jon_e, gI_hw, gL_hw, gT_hw, gR_hw, gN_hw, sI_hw, sL_hw, cV_hw, shS_hw, shC_hw, shL_hw, ← bt_def, grd_pos t, grd_pos h4]
theorem ec_n22 {b : Nat} (t : (gT (cV h) b).1 = 15) (a1 : Int32) : kX22_init b a1 (hw h I L) = some ((), hw h (u2 I b 0 a1) L) := by
  simp only [kX22_init, kX20_init, bnd_e, cal_s, onr_s, jon_e, gI_hw, gL_hw, gT_hw, gR_hw, gN_hw, sI_hw, sL_hw, cV_hw, shS_hw, shC_hw, shL_hw, ← bt_def, grd_pos t]
end P17
