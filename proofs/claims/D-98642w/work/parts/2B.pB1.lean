set_option maxRecDepth 100000
/-! PURE LEVEL B1: a new court -/
def cNw (H : HP) (n : Nat) : HP := sI (sR (sA (sR (sA (sR (sA (sR (sA (sR (sR (sA (sI (sA (sR (sR (sA (sI (sA (sR (sR (sA (sI (sA (sA H (4, 0) 12) (5, 0) 3) (n + 1) 0 0) (104, 8) 8) (n + 1) 1 (some (n + 1 + 1))) n 0 (some (n + 1))) (5, 0) 3) (n + 1 + 1 + 1) 0 0) (104, 5) 5) (n + 1 + 1 + 1) 1 (some (n + 1 + 1 + 1 + 1))) n 1 (some (n + 1 + 1 + 1))) (5, 0) 3) (n + 1 + 1 + 1 + 1 + 1) 0 0) (104, 8) 8) (n + 1 + 1 + 1 + 1 + 1) 1 (some (n + 1 + 1 + 1 + 1 + 1 + 1))) n 2 (some (n + 1 + 1 + 1 + 1 + 1))) (100, 10) 10) n 3 (some (n + 1 + 1 + 1 + 1 + 1 + 1 + 1))) (100, 10) 10) n 4 (some (n + 1 + 1 + 1 + 1 + 1 + 1 + 1 + 1))) (100, 10) 10) n 5 (some (n + 1 + 1 + 1 + 1 + 1 + 1 + 1 + 1 + 1))) (105, 2) 2) n 6 (some (n + 1 + 1 + 1 + 1 + 1 + 1 + 1 + 1 + 1 + 1))) n 8 9
theorem gT_sI' (H : HP) (a k : Nat) (v : Int32) : gT (sI H a k v) = gT H := (rfl)
theorem gR_sI' (H : HP) (a k : Nat) (v : Int32) : gR (sI H a k v) = gR H := (rfl)
theorem gN_sI' (H : HP) (a k : Nat) (v : Int32) : gN (sI H a k v) = gN H := (rfl)
theorem gS_sI' (H : HP) (a k : Nat) (v : Int32) : gS (sI H a k v) = gS H := (rfl)
theorem gI_sI' (H : HP) (a k : Nat) (v : Int32) : gI (sI H a k v) = u2 (gI H) a k v := (rfl)
section P54
variable {H : HP} {n : Nat}
theorem ec_cinit (hn : gN H = n) (h54 : 54 ≤ n) : cC_init n (sA H (4, 0) 12) = some ((), cNw H n) := by
  have a2 : ¬ n = n + 1 := by omega
  have a3 : ¬ n = n + 1 + 1 := by omega
  have a4 : ¬ n = n + 1 + 1 + 1 := by omega
  have a5 : ¬ n = n + 1 + 1 + 1 + 1 := by omega
  have a6 : ¬ n = n + 1 + 1 + 1 + 1 + 1 := by omega
  have a7 : ¬ n = n + 1 + 1 + 1 + 1 + 1 + 1 := by omega
  have a8 : ¬ n = n + 1 + 1 + 1 + 1 + 1 + 1 + 1 := by omega
  have a9 : ¬ n = n + 1 + 1 + 1 + 1 + 1 + 1 + 1 + 1 := by omega
  have a10 : ¬ n = n + 1 + 1 + 1 + 1 + 1 + 1 + 1 + 1 + 1 := by omega
  have a11 : ¬ n = n + 1 + 1 + 1 + 1 + 1 + 1 + 1 + 1 + 1 + 1 := by omega
  have b1 : ¬ n + 1 = n + 1 + 1 := by omega
  have b3 : ¬ n + 1 + 1 + 1 = n + 1 + 1 + 1 + 1 := by omega
  have b5 : ¬ n + 1 + 1 + 1 + 1 + 1 = n + 1 + 1 + 1 + 1 + 1 + 1 := by omega
  have c8 : (8 : Int32).toNatClampNeg = 8 := rfl
  have c5 : (5 : Int32).toNatClampNeg = 5 := rfl
  simp only [cC_init, cL_init, kJ1_init, kJ0_init, bnd_e, cal_s, gTV h54, gTV (show 54 ≤ n + 1 by omega), gTV (show 54 ≤ n + 1 + 1 + 1 by omega), gTV (show 54 ≤ n + 1 + 1 + 1 + 1 + 1 by omega), gT_sA, gT_sR', gT_sI', gN_sA, gN_sR', gN_sI', hn, if_true, if_neg a2, if_neg a3, if_neg a4, if_neg a5, if_neg a6, if_neg a7, if_neg a8, if_neg a9, if_neg a10, if_neg a11, if_neg b1, if_neg b3, if_neg b5, c8, c5, grd_pos trivial, grd_pos h54, grd_pos (show 54 ≤ n + 1 by omega), grd_pos (show 54 ≤ n + 1 + 1 by omega), grd_pos (show 54 ≤ n + 1 + 1 + 1 by omega), grd_pos (show 54 ≤ n + 1 + 1 + 1 + 1 by omega), grd_pos (show 54 ≤ n + 1 + 1 + 1 + 1 + 1 by omega), grd_pos (show 54 ≤ n + 1 + 1 + 1 + 1 + 1 + 1 by omega), grd_pos (show 54 ≤ n + 1 + 1 + 1 + 1 + 1 + 1 + 1 by omega), grd_pos (show 54 ≤ n + 1 + 1 + 1 + 1 + 1 + 1 + 1 + 1 by omega), grd_pos (show 54 ≤ n + 1 + 1 + 1 + 1 + 1 + 1 + 1 + 1 + 1 by omega), grd_pos (show 54 ≤ n + 1 + 1 + 1 + 1 + 1 + 1 + 1 + 1 + 1 + 1 by omega), if_neg (show ¬ (8 : Int32) ≤ 0 by decide), if_neg (show ¬ (5 : Int32) ≤ 0 by decide), grd_pos (show ¬ (8 : Int32) < 0 by decide), grd_pos (show ¬ (5 : Int32) < 0 by decide), grd_pos (show 8 * 4 ≤ 536870912 by decide), grd_pos (show 5 * 4 ≤ 536870912 by decide)]
  rfl
theorem cN_T (hn : gN H = n) (x : Nat) : gT (cNw H n) x = if x = n then (4, 0) else if x = n + 1 ∨ x = n + 3 ∨ x = n + 5 then (5, 0) else if x = n + 2 ∨ x = n + 6 then (104, 8) else if x = n + 4 then (104, 5) else if x = n + 7 ∨ x = n + 8 ∨ x = n + 9 then (100, 10) else if x = n + 10 then (105, 2) else gT H x := by
  simp only [cNw, gT_sA, gT_sR', gT_sI', gN_sA, gN_sR', gN_sI', hn]
  by_cases z : x < n ∨ n + 10 < x
  · rw [if_neg (by omega), if_neg (by omega), if_neg (by omega), if_neg (by omega), if_neg (by omega), if_neg (by omega), if_neg (by omega), if_neg (by omega), if_neg (by omega), if_neg (by omega), if_neg (by omega), if_neg (by omega), if_neg (by omega), if_neg (by omega), if_neg (by omega), if_neg (by omega), if_neg (by omega)]
  · obtain ⟨k, hk, rfl⟩ : ∃ k, k < 11 ∧ x = n + k := ⟨x - n, by omega, by omega⟩
    rcases (show k = 0 ∨ k = 1 ∨ k = 2 ∨ k = 3 ∨ k = 4 ∨ k = 5 ∨ k = 6 ∨ k = 7 ∨ k = 8 ∨ k = 9 ∨ k = 10 by omega) with rfl | rfl | rfl | rfl | rfl | rfl | rfl | rfl | rfl | rfl | rfl <;> simp [Nat.add_assoc]
theorem cN_I (hn : gN H = n) (x : Nat) : gI (cNw H n) x = if n ≤ x ∧ x ≤ n + 10 then (fun k => if x = n ∧ k = 8 then 9 else 0) else gI H x := by
  by_cases z : x < n ∨ n + 10 < x
  · have z0 : x ≠ n := by omega
    have z1 : x ≠ n + 1 := by omega
    have z2 : x ≠ n + 1 + 1 := by omega
    have z3 : x ≠ n + 1 + 1 + 1 := by omega
    have z4 : x ≠ n + 1 + 1 + 1 + 1 := by omega
    have z5 : x ≠ n + 1 + 1 + 1 + 1 + 1 := by omega
    have z6 : x ≠ n + 1 + 1 + 1 + 1 + 1 + 1 := by omega
    have z7 : x ≠ n + 1 + 1 + 1 + 1 + 1 + 1 + 1 := by omega
    have z8 : x ≠ n + 1 + 1 + 1 + 1 + 1 + 1 + 1 + 1 := by omega
    have z9 : x ≠ n + 1 + 1 + 1 + 1 + 1 + 1 + 1 + 1 + 1 := by omega
    have z10 : x ≠ n + 1 + 1 + 1 + 1 + 1 + 1 + 1 + 1 + 1 + 1 := by omega
    rw [if_neg (by omega)]
    simp only [cNw, gI_sA, gI_sR', gI_sI', gN_sA, gN_sR', gN_sI', hn, u2_ne z0, u2_ne z1, u2_ne z3, u2_ne z5, if_neg z0, if_neg z1, if_neg z2, if_neg z3, if_neg z4, if_neg z5, if_neg z6, if_neg z7, if_neg z8, if_neg z9, if_neg z10]
  · obtain ⟨k, hk, rfl⟩ : ∃ k, k < 11 ∧ x = n + k := ⟨x - n, by omega, by omega⟩
    rw [if_pos (by omega)]
    funext j
    rcases (show k = 0 ∨ k = 1 ∨ k = 2 ∨ k = 3 ∨ k = 4 ∨ k = 5 ∨ k = 6 ∨ k = 7 ∨ k = 8 ∨ k = 9 ∨ k = 10 by omega) with rfl | rfl | rfl | rfl | rfl | rfl | rfl | rfl | rfl | rfl | rfl <;> simp [cNw, gI_sA, gI_sR', gI_sI', gN_sA, gN_sR', gN_sI', hn, Nat.add_assoc, u2_app]
theorem cN_R (hn : gN H = n) {x : Nat} (hx : x < n ∨ n + 10 < x) : gR (cNw H n) x = gR H x := by
  have z : x ≠ n := by omega
  have z1 : x ≠ n + 1 := by omega
  have z2 : x ≠ n + 1 + 1 := by omega
  have z3 : x ≠ n + 1 + 1 + 1 := by omega
  have z4 : x ≠ n + 1 + 1 + 1 + 1 := by omega
  have z5 : x ≠ n + 1 + 1 + 1 + 1 + 1 := by omega
  have z6 : x ≠ n + 1 + 1 + 1 + 1 + 1 + 1 := by omega
  have z7 : x ≠ n + 1 + 1 + 1 + 1 + 1 + 1 + 1 := by omega
  have z8 : x ≠ n + 1 + 1 + 1 + 1 + 1 + 1 + 1 + 1 := by omega
  have z9 : x ≠ n + 1 + 1 + 1 + 1 + 1 + 1 + 1 + 1 + 1 := by omega
  have z10 : x ≠ n + 1 + 1 + 1 + 1 + 1 + 1 + 1 + 1 + 1 + 1 := by omega
  simp only [cNw, gR_sA, gR_sR', gR_sI', gN_sA, gN_sR', gN_sI', hn, u2_ne z, u2_ne z1, u2_ne z3, u2_ne z5, if_neg z, if_neg z1, if_neg z2, if_neg z3, if_neg z4, if_neg z5, if_neg z6, if_neg z7, if_neg z8, if_neg z9, if_neg z10]
theorem cN_Rn (hn : gN H = n) : (gR (cNw H n) n 0 = some (n + 1) ∧ gR (cNw H n) n 1 = some (n + 3) ∧ gR (cNw H n) n 2 = some (n + 5) ∧ gR (cNw H n) n 3 = some (n + 7) ∧ gR (cNw H n) n 4 = some (n + 8) ∧ gR (cNw H n) n 5 = some (n + 9) ∧ gR (cNw H n) n 6 = some (n + 10)) ∧ gR (cNw H n) (n + 1) 1 = some (n + 2) ∧ gR (cNw H n) (n + 3) 1 = some (n + 4) ∧ gR (cNw H n) (n + 5) 1 = some (n + 6) ∧ ∀ k, gR (cNw H n) (n + 10) k = none := by
  refine ⟨?_, ?_, ?_, ?_, fun k => ?_⟩ <;> simp [cNw, gR_sA, gR_sR', gR_sI', gN_sA, gN_sR', gN_sI', hn, u2_app, Nat.add_assoc]
theorem cN_N (hn : gN H = n) : gN (cNw H n) = n + 11 ∧ gS (cNw H n) = gS H + 74 := by
  simp only [cNw, gN_sA, gN_sR', gN_sI', gS_sA, gS_sR', gS_sI', hn]
  constructor <;> first | trivial | omega
end P54
