/-! PURE LEVEL 57: a note is added -/
section P15
variable {h g : HP} {I J : Nat → Nat → Int32} {L M : Nat → Nat → Int64}
theorem sR_hw (h : HP) (I : Nat → Nat → Int32) (L : Nat → Nat → Int64) (a k : Nat) (v : Option Nat) : sR (hw h I L) a k v = hw (sR h a k v) I L := (rfl)
theorem ec_add {b sn : Nat} (hs : sn < 24) (e : I 41 2 = nn sn) (t : (gT (cV h) b).1 = 14 ∨ (gT (cV h) b).1 = 15) : cA_add b (hw h I L) = some (nn sn, hw (sR h 42 sn (some b)) (u2 (u2 I 41 0 (I 41 0 + 1)) 41 2 (nn (sn + 1))) L) := by
  have e2 : u2 I 41 0 (I 41 0 + 1) 41 2 = nn sn := by rw [u2_nk _ _ (by decide)]; exact e
  have t104 : (gT (cV h) (41 + 1)).1 = 104 := rfl
  have n24 : (gT (cV h) (41 + 1)).2 = 24 := rfl
  have ne : ¬ nn sn = Int32.ofNat 24 := by
    intro x
    have := (nn_eq (a := sn) (b := 24) (by omega) (by omega)).mp x
    omega
  have t5 : (gT (cV h) b).1 = 7 ∨ (gT (cV h) b).1 = 8 ∨ (gT (cV h) b).1 = 9 ∨ (gT (cV h) b).1 = 14 ∨ (gT (cV h) b).1 = 15 := by omega
  have cr : cRs (41 + 1) sn = none := rfl
  have i24 : inb (nn sn) 24 := nn_inb (by omega) (by omega)
  have m1 : nn (sn + 1) - 1 = nn sn := nn_sub (a := sn + 1) (b := 1) (by omega)
  have sz : ∀ (H : HP) (I : Nat → Nat → Int32) (L : Nat → Nat → Int64), cL_size 41 (hw H I L) = some (I 41 2, hw H I L) := fun H I L => ec_size (sh41 H)
  simp only [cA_add, cL_add, cL_add_2, bnd_e, cal_s, onr_s, jon_e, gI_hw, gL_hw, gT_hw, gR_hw, gN_hw, sI_hw, sL_hw, cV_hw, shS_hw, shC_hw, shL_hw, ← bt_def, grd_pos (sh41 h), e2, grd_pos t104, n24, if_neg ne, nn_clamp (show sn < 2147483648 by omega), grd_pos cr, grd_pos t5, grd_pos i24, sR_hw, grd_pos (sh41 (sR h (41 + 1) sn (some b))), nn_succ, sz, u2_same, m1]
theorem nw_f (I : Nat → Nat → Int32) (L : Nat → Nat → Int64) (t m : Nat) (sh : Shp h) : ∃ H, sA (hw h I L) (t, 0) m = H ∧ (∀ x, x ≠ gN h → gT (cV H) x = gT (cV h) x ∧ gR (cV H) x = gR (cV h) x) ∧ gT (cV H) (gN h) = (t, 0) ∧ (∀ x, x ≠ gN h → gI H x = I x) ∧ gN H = gN h + 1 ∧ gS H = gS h + m ∧ Shp H := by
  have h54 := sh.1
  generalize hH : sA (hw h I L) (t, 0) m = H
  have T : ∀ x, gT H x = if x = gN h then (t, 0) else gT h x := fun x => by rw [← hH, gT_sA, gN_hw, gT_hw]
  have R : ∀ x, x ≠ gN h → gR H x = gR h x := fun x hx => by rw [← hH, gR_sA, gN_hw, if_neg hx, gR_hw]
  have n1 : gN H = gN h + 1 := by rw [← hH, gN_sA, gN_hw]
  refine ⟨H, Eq.refl _, fun x hx => ⟨?_, ?_⟩, by rw [gTV h54, T, if_pos rfl], fun x hx => by rw [← hH, gI_sA, gN_hw, if_neg hx, gI_hw], n1, by rw [← hH, gS_sA, gS_hw], by omega, fun x hx => ?_⟩
  · show (if x < 54 then cT x else gT H x) = (if x < 54 then cT x else gT h x)
    rw [T, if_neg hx]
  · funext k
    show (match cRs x k with | some b => some b | none => gR H x k) = (match cRs x k with | some b => some b | none => gR h x k)
    rw [R x hx]
  · rw [T, if_neg (by omega)]; exact sh.2 x (by omega)
theorem s42_f (h : HP) (k : Nat) (v : Option Nat) : gT (cV (sR h 42 k v)) = gT (cV h) ∧ (∀ x, x ≠ 42 → gR (cV (sR h 42 k v)) x = gR (cV h) x) ∧ ∀ j, gR (cV (sR h 42 k v)) 42 j = if j = k then v else gR (cV h) 42 j := by
  refine ⟨rfl, fun x hx => ?_, fun j => ?_⟩
  · funext j
    show (match cRs x j with | some b => some b | none => u2 (gR h) 42 k v x j) = (match cRs x j with | some b => some b | none => gR h x j)
    rw [u2_ne hx]
  · show (if 42 = 42 ∧ j = k then v else gR h 42 j) = if j = k then v else gR h 42 j
    by_cases z : j = k
    · rw [if_pos ⟨rfl, z⟩, if_pos z]
    · rw [if_neg (fun e => z e.2), if_neg z]
end P15
