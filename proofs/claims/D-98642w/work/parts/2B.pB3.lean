set_option maxRecDepth 100000
/-! PURE LEVEL B3: the model keeps a text and begins; the model's reading begins -/
section P56
variable {g : HP} {J0 J : Nat → Nat → Int32} {M : Nat → Nat → Int64} {K : KT}
theorem em_begin (W : MW J K) : ∃ J' M', m_begin (hw g J M) = some ((), hw g J' M') ∧ MW J' K ∧ StM J' 0 (zP K) (zbeg K) ∧ (J' 0 60 = 0 ∧ M' 0 61 = (zt K 0 1).toInt64 ∧ J' 0 71 = 0 ∧ J' 0 72 = -1 ∧ J' 0 75 = 0 ∧ J' 0 78 = 0) ∧ (∀ k, k < 54 → J' 0 k = J 0 k) ∧ ∀ x, x ≠ 0 → x < 29 → J' x = J x := by
  obtain ⟨J1, e1, s1, f1, f2, f3⟩ := em_first (h := g) (L := M) W (b := 0) (by decide)
  rw [nn0] at e1
  have W1 : MW J1 K := W.cg (fun x h1 h2 => f3 x (by omega)) (fun k _ _ => by rw [f3 0 (by omega)])
  refine ⟨u2 (u2 (u2 (u2 (u2 (u2 (u2 (u2 (u2 (u2 (u2 J1 0 60 0) 0 62 0) 0 63 0) 0 64 0) 0 65 0) 0 66 0) 0 67 (-1)) 0 71 0) 0 72 (-1)) 0 75 0) 0 78 0, u2 M 0 61 (zt K 0 1).toInt64, ?_, ?_, ?_, ⟨rfl, u2_same _ _ _ _, rfl, rfl, rfl, rfl⟩, fun k hk => ?_, fun x hx h29 => ?_⟩
  · rw [m_begin, e1, cal_s]
    simp only [m_plainTried, bnd_e, cal_s, onr_s, jon_e, gI_hw, gL_hw, gT_hw, gR_hw, gN_hw, sI_hw, sL_hw, cV_hw, shS_hw, shC_hw, shL_hw, ← bt_def, grd_pos (show inb (1 : Int32) 4 by decide)]
    rw [show (u2 J1 0 60 0) 4 (1 : Int32).toNatClampNeg = zt K 0 1 from W1.1.2.1.2]
  · refine W1.cg (fun x h1 h2 => ?_) (fun k h1 h2 => ?_)
    · have : x ≠ 0 := by omega
      rw [u2_ne this, u2_ne this, u2_ne this, u2_ne this, u2_ne this, u2_ne this, u2_ne this, u2_ne this, u2_ne this, u2_ne this, u2_ne this]
    · rw [u2_nk _ _ (by omega), u2_nk _ _ (by omega), u2_nk _ _ (by omega), u2_nk _ _ (by omega), u2_nk _ _ (by omega), u2_nk _ _ (by omega), u2_nk _ _ (by omega), u2_nk _ _ (by omega), u2_nk _ _ (by omega), u2_nk _ _ (by omega), u2_nk _ _ (by omega)]
  · exact s1
  · rw [u2_nk _ _ (by omega), u2_nk _ _ (by omega), u2_nk _ _ (by omega), u2_nk _ _ (by omega), u2_nk _ _ (by omega), u2_nk _ _ (by omega), u2_nk _ _ (by omega), u2_nk _ _ (by omega), u2_nk _ _ (by omega), u2_nk _ _ (by omega), u2_nk _ _ (by omega), f3 0 (by omega)]
  · rw [u2_ne hx, u2_ne hx, u2_ne hx, u2_ne hx, u2_ne hx, u2_ne hx, u2_ne hx, u2_ne hx, u2_ne hx, u2_ne hx, u2_ne hx, f3 x (by omega)]
theorem MR.b (q : MR J K) : isB (J 19 2) ∧ isB (J 19 3) := by
  have h : ∀ j, j < 2 → isB (J 19 (2 + j)) := fun j hj => by
    have := q.2.2.2.2.2.2 j hj
    unfold MLr at this
    match zl K j, this with
    | none, w => exact Or.inl w
    | some f, w => exact Or.inr w.1
  exact ⟨h 0 (by decide), h 1 (by decide)⟩
theorem CPY.mw {J' : Nat → Nat → Int32} (q : MR J K) (wk : WK K) (c : CPY 25 (kc5 J) J') : MW J' K := by
  have v0 : ∀ k, k < 12 ∨ 16 < k → J' 0 k = J 0 k := fun k hk => by rw [c.1]; unfold kc5; rw [u2_nk _ _ (by omega), u2_nk _ _ (by omega), u2_nk _ _ (by omega), u2_nk _ _ (by omega), u2_nk _ _ (by omega)]
  have vx : ∀ x k, 4 ≤ x → x < 25 → k < hf x → J' x k = J x (hf x + k) := fun x k h1 h2 h3 => by
    rw [c.2 x k (by omega), if_pos ⟨h1, h2, h3⟩]; unfold kc5
    have : x ≠ 0 := by omega
    rw [u2_ne this, u2_ne this, u2_ne this, u2_ne this, u2_ne this]
  obtain ⟨⟨q1, q2, q3, q4, q5⟩, ⟨q6, q6'⟩, q7, q8, q9, q10, q11⟩ := q
  obtain ⟨⟨wF, wP, wQ, wT, wN⟩, -⟩ := id wk
  refine ⟨⟨⟨by rw [c.1]; exact q1, by rw [c.1]; exact q2, by rw [c.1]; exact q3, by rw [c.1]; exact q4, by rw [c.1]; exact q5⟩, ⟨by rw [vx 4 0 (by decide) (by decide) (by decide)]; exact q6, by rw [vx 4 1 (by decide) (by decide) (by decide)]; exact q6'⟩, fun k hk => ?_, fun k hk => ?_, fun k hk => ?_, fun k hk => ?_, fun j hj => ?_⟩, wk⟩
  · rw [vx 5 k (by decide) (by decide) (by show k < 8; omega)]; exact q7 k hk
  · rw [vx 6 k (by decide) (by decide) (by show k < 5; omega), vx 7 k (by decide) (by decide) (by show k < 5; omega), vx 8 k (by decide) (by decide) (by show k < 5; omega), vx 9 k (by decide) (by decide) (by show k < 5; omega), vx 10 k (by decide) (by decide) (by show k < 5; omega)]; exact q8 k hk
  · rw [vx 11 k (by decide) (by decide) (by show k < 8; omega), vx 12 k (by decide) (by decide) (by show k < 8; omega), vx 13 k (by decide) (by decide) (by show k < 8; omega), vx 14 k (by decide) (by decide) (by show k < 8; omega), vx 15 k (by decide) (by decide) (by show k < 8; omega)]; exact q9 k hk
  · rw [vx 16 k (by decide) (by decide) (by show k < 10; omega), vx 17 k (by decide) (by decide) (by show k < 10; omega), vx 18 k (by decide) (by decide) (by show k < 10; omega)]; exact q10 k hk
  · have := q11 j hj
    unfold MLr at this
    unfold ML
    rw [vx 19 j (by decide) (by decide) hj, vx 20 j (by decide) (by decide) hj, vx 21 j (by decide) (by decide) hj]
    match zl K j, this with
    | none, w => exact w
    | some f, ⟨w1, d, s, e, w2, w3, w4, w5, _⟩ =>
      refine ⟨w1, d, s, e, w2, w3, w4, SDn.cg (m := 64) (fun i hi => ⟨?_, ?_, ?_⟩) d s e f w2 w5⟩
      · exact vx 22 i (by decide) (by decide) (by show i < 64; omega)
      · exact vx 23 i (by decide) (by decide) (by show i < 64; omega)
      · exact vx 24 i (by decide) (by decide) (by show i < 64; omega)
theorem em_keep (q : MR J K) (wk : WK K) : ∃ J' M', m_keepText (hw g J M) = some ((), hw g J' M') ∧ MW J' K ∧ StM J' 0 (zP K) (zbeg K) ∧ (J' 0 60 = 0 ∧ M' 0 61 = (zt K 0 1).toInt64 ∧ J' 0 71 = 0 ∧ J' 0 72 = -1 ∧ J' 0 75 = 0 ∧ J' 0 78 = 0) ∧ (∀ k, k < 12 → J' 0 k = J 0 k) ∧ J' 1 = J 1 ∧ J' 2 = J 2 := by
  obtain ⟨J1, e1, c1⟩ := em_keep0 (g := g) (M := M) q.b
  obtain ⟨J', M', e2, w, s, v, f0, fx⟩ := em_begin (g := g) (M := M) (c1.mw q wk)
  refine ⟨J', M', by rw [e1, e2, cal_s], w, s, v, fun k hk => ?_, ?_, ?_⟩
  · rw [f0 k (by omega), c1.1]; unfold kc5
    rw [u2_nk _ _ (by omega), u2_nk _ _ (by omega), u2_nk _ _ (by omega), u2_nk _ _ (by omega), u2_nk _ _ (by omega)]
  · rw [fx 1 (by decide) (by decide)]; funext k; rw [c1.2 1 k (by decide), if_neg (by omega)]; rfl
  · rw [fx 2 (by decide) (by decide)]; funext k; rw [c1.2 2 k (by decide), if_neg (by omega)]; rfl
def plJ (J : Nat → Nat → Int32) : Nat → Nat → Int32 := u2 (u2 (u2 (u2 (u2 (u2 (u2 (u2 (u2 (u2 (u2 (u2 J 0 17 0) 0 18 0) 0 19 0) 0 20 0) 0 21 0) 0 49 0) 3 0 0) 4 2 9) 19 2 0) 3 1 0) 4 3 0) 19 3 0
theorem em_plainR : m_plain (hw g J M) = some ((), hw g (plJ J) M) := by
  rw [m_plain]
  simp only [bnd_e, sI_hw]
  rw [show FU = 997 + 1 + 1 + 1 from rfl, m_plain_32, if_neg (by decide), grd_pos (show inb (0 : Int32) 2 by decide)]
  simp only [bnd_e, cal_s, onr_s, jon_e, gI_hw, gL_hw, gT_hw, gR_hw, gN_hw, sI_hw, sL_hw, cV_hw, shS_hw, shC_hw, shL_hw, ← bt_def, if_true, grd_pos (show inb ((2 : Int32) + 0) 4 by decide)]
  rw [m_plain_32, if_neg (by decide), grd_pos (show inb ((0 : Int32) + 1) 2 by decide)]
  simp only [bnd_e, cal_s, onr_s, jon_e, gI_hw, gL_hw, gT_hw, gR_hw, gN_hw, sI_hw, sL_hw, cV_hw, shS_hw, shC_hw, shL_hw, ← bt_def, if_neg (show ¬ (0 : Int32) + 1 = 0 by decide), grd_pos (show inb ((2 : Int32) + (0 + 1)) 4 by decide)]
  rw [m_plain_32, if_pos (by decide)]
  rfl
end P56
