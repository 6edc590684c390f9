/-! PURE LEVEL 55: feed -/
def bv (f : Int32) (j : Nat) : Nat := ((f >>> (((24 : Int32) - (8 : Int32) * nn j) &&& 31)) &&& 255).toNatClampNeg
theorem bv_nn (x : Int32) : nn (x &&& 255).toNatClampNeg = x &&& 255 ∧ (x &&& 255).toNatClampNeg < 256 := by
  have e : (x &&& 255) &&& 255 = x &&& 255 := by
    rw [Int32.and_assoc]; rfl
  obtain ⟨n, hn⟩ := and255 e
  have l := n.2
  rw [hn, nn_clamp (by omega)]
  exact ⟨rfl, l⟩
theorem bv_byt (x : Int32) : ((x.toInt8.toInt32).toInt8.toInt32) = byt (x &&& 255).toNatClampNeg := by
  unfold byt
  rw [(bv_nn x).1, Int32.toInt8_and, show (255 : Int32).toInt8 = -1 from rfl, Int8.and_neg_one, Int8.toInt8_toInt32]
def TapC (I : Nat → Nat → Int32) (tp : Nat) (tb : Nat → Nat) : Prop := I 0 1 = nn tp ∧ ∀ i, i < tp → tb i < 256 ∧ I 1 i = byt (tb i)
def tb4 (tb : Nat → Nat) (tp : Nat) (f : Int32) (i : Nat) : Nat := if i < tp then tb i else bv f (i - tp)
def frT1 (I I' : Nat → Nat → Int32) : Prop := (∀ x, x ≠ 0 → x ≠ 1 → I' x = I x) ∧ ∀ k, k ≠ 1 → I' 0 k = I 0 k
def w4 (I : Nat → Nat → Int32) (tp : Nat) (f : Int32) : Nat → Nat → Int32 := u2 (u2 (u2 (u2 (u2 (u2 (u2 (u2 I 0 1 (nn (tp + 1))) 1 tp (byt (bv f 0))) 0 1 (nn (tp + 1 + 1))) 1 (tp + 1) (byt (bv f 1))) 0 1 (nn (tp + 1 + 1 + 1))) 1 (tp + 1 + 1) (byt (bv f 2))) 0 1 (nn (tp + 1 + 1 + 1 + 1))) 1 (tp + 1 + 1 + 1) (byt (bv f 3))
section P13
variable {h g : HP} {I J : Nat → Nat → Int32} {L M : Nat → Nat → Int64}
theorem ec_put {tp : Nat} {tb : Nat → Nat} (ht : tp + 4 ≤ 700) (f : Int32) (q : TapC I tp tb) : ∃ I', cA_put f (hw h I L) = some ((), hw h I' L) ∧ TapC I' (tp + 4) (tb4 tb tp f) ∧ frT1 I I' := by
  obtain ⟨q1, q2⟩ := q
  have b0 : inb (nn tp) 700 := nn_inb (by omega) (by omega)
  have b1 : inb (nn (tp + 1)) 700 := nn_inb (by omega) (by omega)
  have b2 : inb (nn (tp + 1 + 1)) 700 := nn_inb (by omega) (by omega)
  have b3 : inb (nn (tp + 1 + 1 + 1)) 700 := nn_inb (by omega) (by omega)
  have w : ∀ n k, cA_put_3 f k (n + 5) 24 (hw h I L) = k (hw h (w4 I tp f) L) := by
    intro n k
    have v0 : ((f >>> ((24 : Int32) &&& 31)).toInt8.toInt32).toInt8.toInt32 = byt (bv f 0) := bv_byt _
    have v1 : ((f >>> ((16 : Int32) &&& 31)).toInt8.toInt32).toInt8.toInt32 = byt (bv f 1) := bv_byt _
    have v2 : ((f >>> ((8 : Int32) &&& 31)).toInt8.toInt32).toInt8.toInt32 = byt (bv f 2) := bv_byt _
    have v3 : ((f >>> ((0 : Int32) &&& 31)).toInt8.toInt32).toInt8.toInt32 = byt (bv f 3) := bv_byt _
    simp only [cA_put_3, bnd_e, cal_s, onr_s, jon_e, gI_hw, gL_hw, gT_hw, gR_hw, gN_hw, sI_hw, sL_hw, cV_hw, shS_hw, shC_hw, shL_hw, ← bt_def, q1, nn_succ, grd_pos b0, grd_pos b1, grd_pos b2, grd_pos b3, nn_clamp (show tp < 2147483648 by omega), nn_clamp (show tp + 1 < 2147483648 by omega), nn_clamp (show tp + 1 + 1 < 2147483648 by omega), nn_clamp (show tp + 1 + 1 + 1 < 2147483648 by omega), if_neg (show ¬ (24 : Int32) < 0 by decide), if_neg (show ¬ (16 : Int32) < 0 by decide), if_neg (show ¬ (8 : Int32) < 0 by decide), if_neg (show ¬ (0 : Int32) < 0 by decide), if_pos (show (-8 : Int32) < 0 by decide), show (24 : Int32) + -8 = 16 from rfl, show (16 : Int32) + -8 = 8 from rfl, show (8 : Int32) + -8 = 0 from rfl, show (0 : Int32) + -8 = -8 from rfl, u2_ne (show 0 ≠ 1 by decide), u2_same, v0, v1, v2, v3]
    rfl
  refine ⟨w4 I tp f, ?_, ⟨?_, fun i hi => ?_⟩, fun x h0 h1 => ?_, fun k hk => ?_⟩
  · rw [cA_put, bnd_e, show FU = 995 + 5 from rfl, w]
  · unfold w4
    rw [u2_ne (by decide), u2_same]
  · unfold tb4
    by_cases z : i < tp
    · rw [if_pos z]
      refine ⟨(q2 i z).1, ?_⟩
      rw [← (q2 i z).2]
      unfold w4
      rw [u2_nk _ _ (by omega), u2_ne (by decide), u2_nk _ _ (by omega), u2_ne (by decide), u2_nk _ _ (by omega), u2_ne (by decide), u2_nk _ _ (by omega), u2_ne (by decide)]
    · rw [if_neg z]
      refine ⟨(bv_nn _).2, ?_⟩
      have : i = tp ∨ i = tp + 1 ∨ i = tp + 1 + 1 ∨ i = tp + 1 + 1 + 1 := by omega
      unfold w4
      rcases this with rfl | rfl | rfl | rfl
      · rw [u2_nk _ _ (by omega), u2_ne (by decide), u2_nk _ _ (by omega), u2_ne (by decide), u2_nk _ _ (by omega), u2_ne (by decide), u2_same, Nat.sub_self]
      · rw [u2_nk _ _ (by omega), u2_ne (by decide), u2_nk _ _ (by omega), u2_ne (by decide), u2_same, show tp + 1 - tp = 1 by omega]
      · rw [u2_nk _ _ (by omega), u2_ne (by decide), u2_same, show tp + 1 + 1 - tp = 2 by omega]
      · rw [u2_same, show tp + 1 + 1 + 1 - tp = 3 by omega]
  · unfold w4
    rw [u2_ne h1, u2_ne h0, u2_ne h1, u2_ne h0, u2_ne h1, u2_ne h0, u2_ne h1, u2_ne h0]
  · unfold w4
    rw [u2_ne (by decide), u2_nk _ _ hk, u2_ne (by decide), u2_nk _ _ hk, u2_ne (by decide), u2_nk _ _ hk, u2_ne (by decide), u2_nk _ _ hk]
/-! the model's loop -/
def sel (f1 f2 f3 f4 f5 : Int32) (i : Nat) : Int32 := if i < 4 then f1 else if i < 8 then f2 else if i < 12 then f3 else if i < 16 then f4 else f5
theorem em_f23 (f1 f2 f3 f4 f5 : Int32) {tp : Nat} (ht : tp + 20 ≤ 700) (M : Nat → Nat → Int64) : ∀ (j i : Nat) (J : Nat → Nat → Int32) (fuel : Nat), i + j = 20 → j < fuel → J 0 1 = nn tp → ∃ J', (∀ k, m_feed_23 f1 f2 f3 f4 f5 k fuel (nn i) (hw g J M) = k (hw g J' M)) ∧ (∀ p, i ≤ p → p < 20 → J' 1 (tp + p) = nn (bv (sel f1 f2 f3 f4 f5 p) (p % 4))) ∧ (∀ p, p < tp + i → J' 1 p = J 1 p) ∧ ∀ x, x ≠ 1 → J' x = J x := by
  intro j
  induction j with
  | zero =>
    intro i J fuel hi hf e0
    obtain ⟨n, rfl⟩ : ∃ n, fuel = n + 1 := ⟨fuel - 1, by omega⟩
    have : (20 : Int32) ≤ nn i := nn_ple (n := 20) (by omega) (by omega)
    exact ⟨J, fun k => by rw [m_feed_23, if_pos this], fun p h1 h2 => by omega, fun _ _ => rfl, fun _ _ => rfl⟩
  | succ j ih =>
    intro i J fuel hi hf e0
    obtain ⟨n, rfl⟩ : ∃ n, fuel = n + 1 := ⟨fuel - 1, by omega⟩
    have nle : ¬ (20 : Int32) ≤ nn i := nn_nle (n := 20) (by omega) (by omega)
    obtain ⟨J2, e2, a2, c2, f2'⟩ := ih (i + 1) (u2 J 1 (tp + i) (nn (bv (sel f1 f2 f3 f4 f5 i) (i % 4)))) n (by omega) (by omega) (by rw [u2_ne (by decide)]; exact e0)
    refine ⟨J2, fun k => ?_, fun p h1 h2 => ?_, fun p h1 => by rw [c2 p (by omega), u2_nk _ _ (by omega)], fun x hx => by rw [f2' x hx, u2_ne hx]⟩
    · have sj : ∀ (Y : Int32 → Option (Int32 × HP)), jon Y (fun j3 => if (4 : Int32) ≤ nn i then (if (8 : Int32) ≤ nn i then (if (12 : Int32) ≤ nn i then (if (16 : Int32) ≤ nn i then (j3 f5) else (j3 f4)) else (j3 f3)) else (j3 f2)) else (j3 f1)) = Y (sel f1 f2 f3 f4 f5 i) := by
        intro Y
        rw [jon_e]
        unfold sel
        have c : ∀ m, m < 20 → ((nn m ≤ nn i) ↔ ¬ i < m) := fun m hm => by rw [nn_le (by omega) (by omega)]; omega
        have c4 : ((4 : Int32) ≤ nn i) ↔ ¬ i < 4 := c 4 (by omega)
        have c8 : ((8 : Int32) ≤ nn i) ↔ ¬ i < 8 := c 8 (by omega)
        have c12 : ((12 : Int32) ≤ nn i) ↔ ¬ i < 12 := c 12 (by omega)
        have c16 : ((16 : Int32) ≤ nn i) ↔ ¬ i < 16 := c 16 (by omega)
        simp only [c4, c8, c12, c16]
        by_cases y4 : i < 4
        · simp [y4]
        · by_cases y8 : i < 8
          · simp [y4, y8]
          · by_cases y12 : i < 12
            · simp [y4, y8, y12]
            · by_cases y16 : i < 16
              · simp [y4, y8, y12, y16]
              · simp [y4, y8, y12, y16]
      have md : nn i - nn i / 4 * 4 = nn (i % 4) := by
        have : ∀ i : Fin 20, nn i - nn i / 4 * 4 = nn (i % 4) := by decide +kernel
        exact this ⟨i, by omega⟩
      rw [m_feed_23, if_neg nle, sj]
      simp only [bnd_e, cal_s, onr_s, jon_e, gI_hw, gL_hw, gT_hw, gR_hw, gN_hw, sI_hw, sL_hw, cV_hw, shS_hw, shC_hw, shL_hw, ← bt_def, grd_pos (show ¬ (4 : Int32) = 0 by decide), e0, nn_add, grd_pos (show inb (nn (tp + i)) 700 from nn_inb (by omega) (by omega)), nn_clamp (show tp + i < 2147483648 by omega), md, nn_succ]
      rw [← e2 k]
      unfold bv
      rw [(bv_nn _).1]
    · by_cases z : p = i
      · rw [z, c2 (tp + i) (by omega), u2_same]
      · exact a2 p (by omega) h2
end P13
