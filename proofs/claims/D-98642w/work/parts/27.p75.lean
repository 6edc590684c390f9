set_option maxRecDepth 100000
/-! PURE LEVEL 75: one token, both sides -/
theorem u2n {α : Type} {f : Nat → Nat → α} {a k b j : Nat} {v : α} (h : j ≠ k) : u2 f a k v b j = f b j := u2_nk f v h
section P25
variable {h g : HP} {I J : Nat → Nat → Int32} {L M : Nat → Nat → Int64} {n : Nat} {tb : Nat → Nat} {a : Nat}
theorem LxT.fr {I' J' : Nat → Nat → Int32} (T : LxT I J n tb) (a : I' 1 = I 1) (b : J' 1 = J 1) : LxT I' J' n tb := by unfold LxT; rw [a, b]; exact T
theorem b_next (W : wds (J 2)) (T : LxT I J n tb) (ha : a ≤ n) (e0 : I 2 0 = nn a) (e1 : I 2 1 = nn n) (e7 : J 0 7 = nn a) (e6 : J 0 6 = nn n) : ∃ I' J', cR_next (hw h I L) = some ((), hw h I' L) ∧ m_token (hw g J M) = some ((), hw g J' M) ∧ Nx I J n a I' J' ∧ I' 2 2 = J' 0 10 := by
  have hn := T.1
  obtain ⟨a1, g1, g2, c1, m1⟩ := b_blank (h := h) (g := g) (L := L) (M := M) (n - a) a I J FU (by omega) (by show n - a < 1000; omega) T e0 e1 e7 e6
  rw [cR_next, m_token, c1, m1]
  simp only [bnd_e, cal_s, onr_s, jon_e, gI_hw, gL_hw, gT_hw, gR_hw, gN_hw, sI_hw, sL_hw, cV_hw, shS_hw, shC_hw, shL_hw, ← bt_def, u2_same, u2n (show 0 ≠ 2 by decide), u2n (show 1 ≠ 2 by decide), u2n (show 1 ≠ 0 by decide), u2n (show 7 ≠ 10 by decide), u2n (show 6 ≠ 10 by decide), u2n (show 6 ≠ 7 by decide), e1, e6]
  have fI : frX I (u2 (u2 I 2 0 (nn a1)) 2 2 (nn a1)) := (frX.u I _ (by omega)).tr (frX.u _ _ (by omega))
  have fJ : frV J (u2 (u2 J 0 7 (nn a1)) 0 10 (nn a1)) := (frV.u J _ (by omega)).tr (frV.u _ _ (by omega))
  have T1 : LxT (u2 (u2 I 2 0 (nn a1)) 2 2 (nn a1)) (u2 (u2 J 0 7 (nn a1)) 0 10 (nn a1)) n tb := T.u.u
  have W1 : wds ((u2 (u2 J 0 7 (nn a1)) 0 10 (nn a1)) 2) := by rw [u2_ne (by decide), u2_ne (by decide)]; exact W
  have s0 : (u2 (u2 I 2 0 (nn a1)) 2 2 (nn a1)) 2 0 = nn a1 := rfl
  have s1 : (u2 (u2 I 2 0 (nn a1)) 2 2 (nn a1)) 2 1 = nn n := e1
  have s2 : (u2 (u2 I 2 0 (nn a1)) 2 2 (nn a1)) 2 2 = nn a1 := rfl
  have s7 : (u2 (u2 J 0 7 (nn a1)) 0 10 (nn a1)) 0 7 = nn a1 := rfl
  have s6 : (u2 (u2 J 0 7 (nn a1)) 0 10 (nn a1)) 0 6 = nn n := e6
  have s10 : (u2 (u2 J 0 7 (nn a1)) 0 10 (nn a1)) 0 10 = nn a1 := rfl
  generalize u2 (u2 I 2 0 (nn a1)) 2 2 (nn a1) = I1 at *
  generalize u2 (u2 J 0 7 (nn a1)) 0 10 (nn a1) = J1 at *
  by_cases z : a1 = n
  · rw [if_pos (by rw [z]), if_pos (by rw [z])]
    refine ⟨_, _, rfl, rfl, ⟨a1, g1, g2, by rw [u2_nk _ _ (by decide)]; exact s0, by rw [u2_nk _ _ (by decide)]; exact s7, Or.inr (Or.inr (Or.inr (Or.inr (Or.inl ⟨u2_same _ _ _ _, u2_same _ _ _ _⟩)))), fun e => absurd (u2_same _ _ _ _) e, fI.tr (frX.u _ _ (by omega)), fJ.tr (frV.u _ _ (by omega))⟩, ?_⟩
    rw [u2_nk _ _ (by decide), u2_nk _ _ (by decide), s2, s10]
  · have z' : ¬ nn a1 = nn n := fun e => z ((nn_eq (by omega) (by omega)).mp e)
    rw [if_neg z', if_neg z']
    simp only [ec_here T1 s0 s1 g2, bnd_e, cal_s, onr_s, jon_e, gI_hw, gL_hw, gT_hw, gR_hw, gN_hw, sI_hw, sL_hw, cV_hw, shS_hw, shC_hw, shL_hw, ← bt_def, ec_isL T1, ec_isD T1, s7, em_isL (a := a1) T1 s6 g2, em_isD (a := a1) T1 s6 g2, bI_eq0]
    cases zl' : isL n tb a1 with
    | true =>
      simp only [eq_self, Bool.true_eq_false, if_true, if_false]
      obtain ⟨a2, k1, k2, k3, k4, c2, m2⟩ := b_let (h := h) (g := g) (L := L) (M := M) (n - a1) a1 I1 J1 FU (by omega) (by show n - a1 < 1000; omega) T1 s0 s1 s7 s6
      have k3 := k3 zl'
      obtain ⟨m, rfl⟩ : ∃ m, a2 = a1 + m := ⟨a2 - a1, by omega⟩
      have le : ∀ k, k < m → isL n tb (a1 + k) = true := fun k hk => k4 _ (by omega) (by omega)
      have T2 : LxT (u2 I1 2 0 (nn (a1 + m))) (u2 J1 0 7 (nn (a1 + m))) n tb := T1.u
      have y2 : (u2 I1 2 0 (nn (a1 + m))) 2 2 = nn a1 := s2
      have y0 : (u2 I1 2 0 (nn (a1 + m))) 2 0 = nn (a1 + m) := rfl
      have y7 : (u2 J1 0 7 (nn (a1 + m))) 0 7 = nn (a1 + m) := rfl
      have y10 : (u2 J1 0 7 (nn (a1 + m))) 0 10 = nn a1 := s10
      have W2 : wds ((u2 J1 0 7 (nn (a1 + m))) 2) := by rw [u2_ne (by decide)]; exact W1
      have fI2 : frX I (u2 I1 2 0 (nn (a1 + m))) := fI.tr (frX.u _ _ (by omega))
      have fJ2 : frV J (u2 J1 0 7 (nn (a1 + m))) := fJ.tr (frV.u _ _ (by omega))
      rw [c2, m2]
      generalize u2 I1 2 0 (nn (a1 + m)) = I2 at *
      generalize u2 J1 0 7 (nn (a1 + m)) = J2 at *
      obtain ⟨r, r', e, e', q⟩ := b_word (h := h) (g := g) (L := L) (M := M) W2 T2 k2 le y0 y2
      simp only [bnd_e, cal_s, onr_s, jon_e, gI_hw, gL_hw, gT_hw, gR_hw, gN_hw, sI_hw, sL_hw, cV_hw, shS_hw, shC_hw, shL_hw, ← bt_def, y7, y10]
      rw [e, e']
      simp only [bnd_e, cal_s, onr_s, jon_e, gI_hw, gL_hw, gT_hw, gR_hw, gN_hw, sI_hw, sL_hw, cV_hw, shS_hw, shC_hw, shL_hw, ← bt_def, u2_same, u2n (show 0 ≠ 4 by decide), u2n (show 2 ≠ 4 by decide), u2n (show 7 ≠ 9 by decide), u2n (show 10 ≠ 9 by decide), y0, y2, y7, y10, nn_sub (show a1 ≤ a1 + m by omega), show a1 + m - a1 = m by omega]
      rcases q with ⟨u, hu, rfl, rfl⟩ | ⟨rfl, rfl⟩
      · have hs : sw u < 25 := (mF_f ⟨u, hu⟩).2.2.2.2.2
        rw [if_neg (show ¬ nn u = -1 from fun e => nn_nonneg (a := u) (by omega) (by rw [e]; decide)), if_neg (show ¬ nn (sw u) < 0 from nn_nonneg (by omega)), if_neg (show ¬ (0 : Int32) = 1 by decide), if_neg (show ¬ (1 : Int32) = 2 by decide)]
        refine ⟨_, _, rfl, rfl, ⟨a1 + m, by omega, k2, y0, y7, Or.inl ⟨u2_same _ _ _ _, u, hu, ?_, u2_same _ _ _ _, ?_⟩, fun _ => by omega, (fI2.tr (frX.u _ _ (by omega))).tr (frX.u _ _ (by omega)), (fJ2.tr (frV.u _ _ (by omega))).tr (frV.u _ _ (by omega))⟩, ?_⟩
        · rw [u2_nk _ _ (by decide), u2_same]
        · rw [u2_nk _ _ (by decide), u2_same]
        · rw [u2_nk _ _ (by decide), u2_nk _ _ (by decide), u2_nk _ _ (by decide), u2_nk _ _ (by decide), y2, y10]
      · rw [if_pos rfl, if_pos (show (-1 : Int32) < 0 by decide)]
        by_cases m6 : m ≤ 6
        · have m6' : nn m ≤ (6 : Int32) := (nn_le (b := 6) (by omega) (by omega)).mpr m6
          rw [if_pos m6', if_pos m6', if_pos trivial, if_pos trivial]
          obtain ⟨v', e1', e2'⟩ := b_name (h := h) (g := g) (L := L) (M := M) (I := u2 (u2 I2 2 4 (-1)) 2 3 1) (J := u2 (u2 J2 0 9 (-1)) 0 8 2) k2 le T2.u.u (by rw [u2_nk _ _ (by decide), u2_nk _ _ (by decide)]; exact y0) (by rw [u2_nk _ _ (by decide), u2_nk _ _ (by decide)]; exact y2)
          simp only [u2n (show 10 ≠ 8 by decide), u2n (show 7 ≠ 8 by decide), u2n (show 10 ≠ 9 by decide), u2n (show 7 ≠ 9 by decide), y7, y10, e1', e2', bnd_e, cal_s, onr_s, jon_e, gI_hw, gL_hw, gT_hw, gR_hw, gN_hw, sI_hw, sL_hw, cV_hw, shS_hw, shC_hw, shL_hw, ← bt_def]
          refine ⟨_, _, rfl, rfl, ⟨a1 + m, by omega, k2, y0, y7, Or.inr (Or.inl ⟨?_, ?_, ?_⟩), fun _ => by omega, ((fI2.tr (frX.u _ _ (by omega))).tr (frX.u _ _ (by omega))).tr (frX.u _ _ (by omega)), ((fJ2.tr (frV.u _ _ (by omega))).tr (frV.u _ _ (by omega))).tr (frV.u _ _ (by omega))⟩, ?_⟩
          · rw [u2_nk _ _ (by decide), u2_same]
          · rw [u2_nk _ _ (by decide), u2_same]
          · rw [u2_same, u2_same]
          · rw [u2_nk _ _ (by decide), u2_nk _ _ (by decide), u2_nk _ _ (by decide), u2_nk _ _ (by decide), u2_nk _ _ (by decide), u2_nk _ _ (by decide), y2, y10]
        · have m6' : ¬ nn m ≤ (6 : Int32) := fun e => m6 ((nn_le (b := 6) (by omega) (by omega)).mp e)
          rw [if_neg m6', if_neg m6', if_neg (show ¬ (5 : Int32) = 1 by decide), if_neg (show ¬ (6 : Int32) = 2 by decide)]
          refine ⟨_, _, rfl, rfl, ⟨a1 + m, by omega, k2, y0, y7, Or.inr (Or.inr (Or.inr (Or.inr (Or.inr ⟨u2_same _ _ _ _, Or.inl (u2_same _ _ _ _)⟩)))), fun _ => by omega, (fI2.tr (frX.u _ _ (by omega))).tr (frX.u _ _ (by omega)), (fJ2.tr (frV.u _ _ (by omega))).tr (frV.u _ _ (by omega))⟩, ?_⟩
          rw [u2_nk _ _ (by decide), u2_nk _ _ (by decide), u2_nk _ _ (by decide), u2_nk _ _ (by decide), y2, y10]
    | false =>
      simp only [eq_self, Bool.true_eq_false, if_true, if_false]
      cases zd : isD n tb a1 with
      | true =>
        simp only [eq_self, Bool.true_eq_false, if_true, if_false]
        obtain ⟨a2, v', I', J', k1, k2, k3, c2, m2, p1, p2, p3, p4, p5, p6, p7, p8⟩ := b_dig (h := h) (g := g) (L := L) (M := M) (n - a1) a1 0 (u2 (u2 I1 2 3 2) 2 4 0) (u2 (u2 J1 0 8 3) 0 9 0) FU (by omega) (by show n - a1 < 1000; omega) T1.u.u s0 s1 s7 s6 (u2_same _ _ _ _) (u2_same _ _ _ _)
        have k3 := k3 zd
        rw [c2, m2]
        refine ⟨I', J', rfl, rfl, ⟨a2, by omega, k2, p1, p3, Or.inr (Or.inr (Or.inl ⟨?_, ?_, by rw [p4, p2]⟩)), fun _ => by omega, ⟨fun x hx => ?_, fun k h0 h2 h3 h4 => ?_⟩, ⟨fun x hx => ?_, fun k hk => ?_⟩⟩, ?_⟩
        · rw [p6 3 (by decide) (by decide)]; rfl
        · rw [p8 8 (by decide) (by decide)]; rfl
        · rw [p5 x hx, u2_ne hx, u2_ne hx]; exact fI.1 x hx
        · rw [p6 k h0 h4, u2_nk _ _ h4, u2_nk _ _ h3]; exact fI.2 k h0 h2 h3 h4
        · rw [p7 x hx, u2_ne hx, u2_ne hx]; exact fJ.1 x hx
        · rw [p8 k (by omega) (by omega), u2_nk _ _ (by omega), u2_nk _ _ (by omega)]; exact fJ.2 k hk
        · rw [p6 2 (by decide) (by decide), p8 10 (by decide) (by decide), u2_nk _ _ (by decide), u2_nk _ _ (by decide), u2_nk _ _ (by decide), u2_nk _ _ (by decide), s2, s10]
      | false =>
        simp only [eq_self, Bool.true_eq_false, if_true, if_false]
        obtain ⟨I', J', e, e', ⟨a2, k1, k2, k3, k4, k5, k6, k7, k8⟩, e2, e10⟩ := b_sign (h := h) (g := g) (L := L) (M := M) T1 (show a1 < n by omega) s0 s1 s7 s6
        rw [e, e']
        exact ⟨I', J', rfl, rfl, ⟨a2, by omega, k2, k3, k4, k5, fun e => by have := k6 e; omega, fI.tr k7, fJ.tr k8⟩, by rw [e2, e10, s2, s10]⟩
end P25
