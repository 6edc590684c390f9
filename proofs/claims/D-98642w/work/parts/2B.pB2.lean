set_option maxRecDepth 100000
/-! PURE LEVEL B2: the model keeps a text -/
def CPY (m : Nat) (J0 J : Nat → Nat → Int32) : Prop := J 0 = J0 0 ∧ ∀ x k, x ≠ 0 → J x k = if 4 ≤ x ∧ x < m ∧ k < hf x then J0 x (hf x + k) else J0 x k
section P55
variable {g : HP} {J0 J : Nat → Nat → Int32} {M : Nat → Nat → Int64} {K : KT}
theorem em_cp2 {t n : Nat} (ht : (mT t).1 = 100) (hl : n + n ≤ (mT t).2) (hn : n < 1000) (M : Nat → Nat → Int64) : ∀ (j i : Nat) (J : Nat → Nat → Int32) (fuel : Nat), i + j = n → j < fuel → ∃ J', (∀ k, m_copies_2 t (nn n) k fuel (nn i) (hw g J M) = k (hw g J' M)) ∧ (∀ k, J' t k = if i ≤ k ∧ k < n then J t (n + k) else J t k) ∧ ∀ x, x ≠ t → J' x = J x := by
  intro j
  induction j with
  | zero =>
    intro i J fuel hj hf'
    obtain ⟨f, rfl⟩ : ∃ f, fuel = f + 1 := ⟨fuel - 1, by omega⟩
    refine ⟨J, fun k => ?_, fun k => ?_, fun _ _ => rfl⟩
    · rw [m_copies_2, if_pos ((nn_le (by omega) (by omega)).mpr (by omega))]
    · rw [if_neg (by omega)]
  | succ j ih =>
    intro i J fuel hj hf'
    obtain ⟨f, rfl⟩ : ∃ f, fuel = f + 1 := ⟨fuel - 1, by omega⟩
    obtain ⟨J', e1, e2, e3⟩ := ih (i + 1) (u2 J t i (J t (n + i))) f (by omega) (by omega)
    refine ⟨J', fun k => ?_, fun k => ?_, fun x hx => by rw [e3 x hx, u2_ne hx]⟩
    · rw [m_copies_2, if_neg (fun y => by have := (nn_le (by omega) (by omega)).mp y; omega), nn_add, grd_pos ht, grd_pos (nn_inb (by omega) (by omega)), grd_pos (nn_inb (by omega) (by omega)), bnd_e, sI_hw, gI_hw, nn_clamp (by omega), nn_clamp (by omega), bnd_e, nn_succ, e1]
    · rw [e2, u2_eq, u2_eq]
      by_cases z : i + 1 ≤ k ∧ k < n
      · rw [if_pos z, if_neg (by omega), if_pos (by omega)]
      · rw [if_neg z]
        by_cases y : k = i
        · subst y; rw [if_pos rfl, if_pos (by omega)]
        · rw [if_neg y, if_neg (by omega)]
theorem em_cp {m : Nat} (h4 : 4 ≤ m) (h24 : m ≤ 24) (h19 : m ≠ 19) {w : Int32} (hw' : w = nn (hf m)) (q : CPY m J0 J) : ∃ J', m_copies m w (hw g J M) = some ((), hw g J' M) ∧ CPY (m + 1) J0 J' := by
  have tt : (mT m).1 = 100 ∧ hf m + hf m ≤ (mT m).2 ∧ hf m < 1000 := by
    rcases (show m = 4 ∨ m = 5 ∨ m = 6 ∨ m = 7 ∨ m = 8 ∨ m = 9 ∨ m = 10 ∨ m = 11 ∨ m = 12 ∨ m = 13 ∨ m = 14 ∨ m = 15 ∨ m = 16 ∨ m = 17 ∨ m = 18 ∨ m = 20 ∨ m = 21 ∨ m = 22 ∨ m = 23 ∨ m = 24 by omega) with rfl | rfl | rfl | rfl | rfl | rfl | rfl | rfl | rfl | rfl | rfl | rfl | rfl | rfl | rfl | rfl | rfl | rfl | rfl | rfl <;> decide
  obtain ⟨J', e1, e2, e3⟩ := em_cp2 (g := g) tt.1 tt.2.1 tt.2.2 M (hf m) 0 J FU (by omega) (by show hf m < 1000; omega)
  rw [nn0] at e1
  refine ⟨J', by rw [m_copies, bnd_e, hw', e1], by rw [e3 0 (by omega)]; exact q.1, fun x k hx => ?_⟩
  by_cases z : x = m
  · subst z
    rw [e2, q.2 x (hf x + k) hx, q.2 x k hx, if_neg (show ¬ (4 ≤ x ∧ x < x ∧ hf x + k < hf x) by omega), if_neg (show ¬ (4 ≤ x ∧ x < x ∧ k < hf x) by omega)]
    by_cases y : k < hf x
    · rw [if_pos ⟨by omega, y⟩, if_pos ⟨h4, by omega, y⟩]
    · rw [if_neg (by omega), if_neg (by omega)]
  · rw [e3 x z, q.2 x k hx]
    by_cases y : 4 ≤ x ∧ x < m ∧ k < hf x
    · rw [if_pos y, if_pos (by omega)]
    · rw [if_neg y, if_neg (by omega)]
theorem em_cp19 (b : isB (J0 19 2) ∧ isB (J0 19 3)) (q : CPY 19 J0 J) : ∃ J', (∀ k, m_keepText_171 k FU 0 (hw g J M) = k (hw g J' M)) ∧ CPY 20 J0 J' := by
  have e2 : J 19 2 = J0 19 2 := by rw [q.2 19 2 (by decide), if_neg (by decide)]
  have e3 : J 19 3 = J0 19 3 := by rw [q.2 19 3 (by decide), if_neg (by decide)]
  refine ⟨u2 (u2 J 19 0 (J 19 2)) 19 1 (J 19 3), fun k => ?_, q.1, fun x k hx => ?_⟩
  · rw [show FU = 997 + 1 + 1 + 1 from rfl, m_keepText_171, if_neg (by decide), grd_pos (show inb ((2 : Int32) + 0) 4 by decide), grd_pos (show isB (gI (hw g J M) 19 ((2 : Int32) + 0).toNatClampNeg) by show isB (J 19 2); rw [e2]; exact b.1), grd_pos (show inb (0 : Int32) 4 by decide), bnd_e, bnd_e, sI_hw]
    rw [m_keepText_171, if_neg (by decide), grd_pos (show inb ((2 : Int32) + (0 + 1)) 4 by decide), grd_pos (show isB (gI (hw g (u2 J 19 (0 : Int32).toNatClampNeg (gI (hw g J M) 19 ((2 : Int32) + 0).toNatClampNeg)) M) 19 ((2 : Int32) + (0 + 1)).toNatClampNeg) by show isB (J 19 3); rw [e3]; exact b.2), grd_pos (show inb ((0 : Int32) + 1) 4 by decide), bnd_e, bnd_e, sI_hw]
    rw [m_keepText_171, if_pos (by decide)]
    rfl
  · by_cases z : x = 19
    · subst z
      rw [u2_eq, u2_eq]
      by_cases k1 : k = 1
      · subst k1; rw [if_pos rfl, if_pos (by decide)]; exact e3
      · rw [if_neg k1]
        by_cases k0 : k = 0
        · subst k0; rw [if_pos rfl, if_pos (by decide)]; exact e2
        · rw [if_neg k0, q.2 19 k (by decide), if_neg (by omega), if_neg (by show ¬ (4 ≤ 19 ∧ 19 < 20 ∧ k < 2); omega)]
    · rw [u2_ne z, u2_ne z, q.2 x k hx]
      by_cases y : 4 ≤ x ∧ x < 19 ∧ k < hf x
      · rw [if_pos y, if_pos (by omega)]
      · rw [if_neg y, if_neg (by omega)]
/-- the five counts -/
def kc5 (J : Nat → Nat → Int32) : Nat → Nat → Int32 := u2 (u2 (u2 (u2 (u2 J 0 12 (J 0 17)) 0 13 (J 0 18)) 0 14 (J 0 19)) 0 15 (J 0 20)) 0 16 (J 0 21)
theorem em_keep0 (b : isB (J 19 2) ∧ isB (J 19 3)) : ∃ J', m_keepText (hw g J M) = cal (m_begin (hw g J' M)) (fun r51 h52 => some ((), h52)) ∧ CPY 25 (kc5 J) J' := by
  have q4 : CPY 4 (kc5 J) (kc5 J) := ⟨rfl, fun x k _ => by rw [if_neg (by omega)]⟩
  obtain ⟨J4, e4, q5⟩ := em_cp (g := g) (M := M) (m := 4) (w := 2) (by decide) (by decide) (by decide) rfl q4
  obtain ⟨J5, e5, q6⟩ := em_cp (g := g) (M := M) (m := 5) (w := 8) (by decide) (by decide) (by decide) rfl q5
  obtain ⟨J6, e6, q7⟩ := em_cp (g := g) (M := M) (m := 6) (w := 5) (by decide) (by decide) (by decide) rfl q6
  obtain ⟨J7, e7, q8⟩ := em_cp (g := g) (M := M) (m := 7) (w := 5) (by decide) (by decide) (by decide) rfl q7
  obtain ⟨J8, e8, q9⟩ := em_cp (g := g) (M := M) (m := 8) (w := 5) (by decide) (by decide) (by decide) rfl q8
  obtain ⟨J9, e9, q10⟩ := em_cp (g := g) (M := M) (m := 9) (w := 5) (by decide) (by decide) (by decide) rfl q9
  obtain ⟨J10, e10, q11⟩ := em_cp (g := g) (M := M) (m := 10) (w := 5) (by decide) (by decide) (by decide) rfl q10
  obtain ⟨J11, e11, q12⟩ := em_cp (g := g) (M := M) (m := 11) (w := 8) (by decide) (by decide) (by decide) rfl q11
  obtain ⟨J12, e12, q13⟩ := em_cp (g := g) (M := M) (m := 12) (w := 8) (by decide) (by decide) (by decide) rfl q12
  obtain ⟨J13, e13, q14⟩ := em_cp (g := g) (M := M) (m := 13) (w := 8) (by decide) (by decide) (by decide) rfl q13
  obtain ⟨J14, e14, q15⟩ := em_cp (g := g) (M := M) (m := 14) (w := 8) (by decide) (by decide) (by decide) rfl q14
  obtain ⟨J15, e15, q16⟩ := em_cp (g := g) (M := M) (m := 15) (w := 8) (by decide) (by decide) (by decide) rfl q15
  obtain ⟨J16, e16, q17⟩ := em_cp (g := g) (M := M) (m := 16) (w := 10) (by decide) (by decide) (by decide) rfl q16
  obtain ⟨J17, e17, q18⟩ := em_cp (g := g) (M := M) (m := 17) (w := 10) (by decide) (by decide) (by decide) rfl q17
  obtain ⟨J18, e18, q19⟩ := em_cp (g := g) (M := M) (m := 18) (w := 10) (by decide) (by decide) (by decide) rfl q18
  obtain ⟨J19, e19, q20⟩ := em_cp19 (g := g) (M := M) (J0 := kc5 J) (show isB (kc5 J 19 2) ∧ isB (kc5 J 19 3) from b) q19
  obtain ⟨J20, e20, q21⟩ := em_cp (g := g) (M := M) (m := 20) (w := 2) (by decide) (by decide) (by decide) rfl q20
  obtain ⟨J21, e21, q22⟩ := em_cp (g := g) (M := M) (m := 21) (w := 2) (by decide) (by decide) (by decide) rfl q21
  obtain ⟨J22, e22, q23⟩ := em_cp (g := g) (M := M) (m := 22) (w := 64) (by decide) (by decide) (by decide) rfl q22
  obtain ⟨J23, e23, q24⟩ := em_cp (g := g) (M := M) (m := 23) (w := 64) (by decide) (by decide) (by decide) rfl q23
  obtain ⟨J24, e24, q25⟩ := em_cp (g := g) (M := M) (m := 24) (w := 64) (by decide) (by decide) (by decide) rfl q24
  refine ⟨J24, ?_, q25⟩
  rw [m_keepText]
  have e0 : sI (sI (sI (sI (sI (hw g J M) 0 12 (gI (hw g J M) 0 17)) 0 13 (gI (sI (hw g J M) 0 12 (gI (hw g J M) 0 17)) 0 18)) 0 14 (gI (sI (sI (hw g J M) 0 12 (gI (hw g J M) 0 17)) 0 13 (gI (sI (hw g J M) 0 12 (gI (hw g J M) 0 17)) 0 18)) 0 19)) 0 15 (gI (sI (sI (sI (hw g J M) 0 12 (gI (hw g J M) 0 17)) 0 13 (gI (sI (hw g J M) 0 12 (gI (hw g J M) 0 17)) 0 18)) 0 14 (gI (sI (sI (hw g J M) 0 12 (gI (hw g J M) 0 17)) 0 13 (gI (sI (hw g J M) 0 12 (gI (hw g J M) 0 17)) 0 18)) 0 19)) 0 20)) 0 16 (gI (sI (sI (sI (sI (hw g J M) 0 12 (gI (hw g J M) 0 17)) 0 13 (gI (sI (hw g J M) 0 12 (gI (hw g J M) 0 17)) 0 18)) 0 14 (gI (sI (sI (hw g J M) 0 12 (gI (hw g J M) 0 17)) 0 13 (gI (sI (hw g J M) 0 12 (gI (hw g J M) 0 17)) 0 18)) 0 19)) 0 15 (gI (sI (sI (sI (hw g J M) 0 12 (gI (hw g J M) 0 17)) 0 13 (gI (sI (hw g J M) 0 12 (gI (hw g J M) 0 17)) 0 18)) 0 14 (gI (sI (sI (hw g J M) 0 12 (gI (hw g J M) 0 17)) 0 13 (gI (sI (hw g J M) 0 12 (gI (hw g J M) 0 17)) 0 18)) 0 19)) 0 20)) 0 21) = hw g (kc5 J) M := rfl
  simp only [bnd_e, e0, e4, e5, e6, e7, e8, e9, e10, e11, e12, e13, e14, e15, e16, e17, e18, e19, e20, e21, e22, e23, e24, cal_s]
end P55
