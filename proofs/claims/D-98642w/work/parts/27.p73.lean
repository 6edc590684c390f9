set_option maxRecDepth 100000
/-! PURE LEVEL 73: names, signs, tokens -/
def SgR (v k w : Int32) : Prop := (k = 4 ∧ w = v ∧ (v = 59 ∨ v = 40 ∨ v = 41 ∨ v = 43 ∨ v = 45 ∨ v = 42 ∨ v = 47)) ∨ (k = 5 ∧ ((v = 60 ∧ w = 0) ∨ (v = 256 ∧ w = 1) ∨ (v = 61 ∧ w = 2) ∨ (v = 258 ∧ w = 3) ∨ (v = 257 ∧ w = 4) ∨ (v = 62 ∧ w = 5)))
def TokR (s v k w : Int32) : Prop := (s = 0 ∧ ∃ u, u < 25 ∧ v = nn u ∧ k = 1 ∧ w = nn (sw u)) ∨ (s = 1 ∧ k = 2 ∧ w = v) ∨ (s = 2 ∧ k = 3 ∧ w = v) ∨ (s = 3 ∧ SgR v k w) ∨ (s = 4 ∧ k = 0) ∨ (s = 5 ∧ (k = 6 ∨ (k = 4 ∧ w = 37)))
def frX (I I' : Nat → Nat → Int32) : Prop := (∀ x, x ≠ 2 → I' x = I x) ∧ ∀ k, k ≠ 0 → k ≠ 2 → k ≠ 3 → k ≠ 4 → I' 2 k = I 2 k
def frV (J J' : Nat → Nat → Int32) : Prop := (∀ x, x ≠ 0 → J' x = J x) ∧ ∀ k, (k < 7 ∨ 10 < k) → J' 0 k = J 0 k
theorem frX.tr {I I1 I2 : Nat → Nat → Int32} (a : frX I I1) (b : frX I1 I2) : frX I I2 := ⟨fun x h => (b.1 x h).trans (a.1 x h), fun k h0 h2 h3 h4 => (b.2 k h0 h2 h3 h4).trans (a.2 k h0 h2 h3 h4)⟩
theorem frV.tr {I I1 I2 : Nat → Nat → Int32} (a : frV I I1) (b : frV I1 I2) : frV I I2 := ⟨fun x h => (b.1 x h).trans (a.1 x h), fun k h0 => (b.2 k h0).trans (a.2 k h0)⟩
theorem frX.rfl (I : Nat → Nat → Int32) : frX I I := ⟨fun _ _ => Eq.refl _, fun _ _ _ _ _ => Eq.refl _⟩
theorem frV.rfl (I : Nat → Nat → Int32) : frV I I := ⟨fun _ _ => Eq.refl _, fun _ _ => Eq.refl _⟩
theorem frX.u (I : Nat → Nat → Int32) {k : Nat} (v : Int32) (hk : k = 0 ∨ k = 2 ∨ k = 3 ∨ k = 4) : frX I (u2 I 2 k v) := ⟨fun x h => u2_ne h, fun j _ _ _ _ => u2_nk _ _ (by omega)⟩
theorem frV.u (I : Nat → Nat → Int32) {k : Nat} (v : Int32) (hk : 7 ≤ k ∧ k ≤ 10) : frV I (u2 I 0 k v) := ⟨fun x h => u2_ne h, fun j _ => u2_nk _ _ (by omega)⟩
theorem byt_inj {c d : Nat} (hc : c < 256) (hd : d < 256) (e : byt c = byt d) : c = d := by
  have := byt_255 hc
  rw [e, byt_255 hd] at this
  exact ((nn_eq (by omega) (by omega)).mp this).symm
def isSg (c : Nat) : Bool := c == 59 || c == 40 || c == 41 || c == 43 || c == 45 || c == 42 || c == 47 || c == 60 || c == 61 || c == 62
section P23
variable {h g : HP} {I J : Nat → Nat → Int32} {L M : Nat → Nat → Int64} {n : Nat} {tb : Nat → Nat} {p m a : Nat}
theorem ec_idx {c : Nat} (hc : c < 256) (H : HP) : ∃ r, kJ5_indexOf 25 (nn c) H = some (r, H) ∧ (r < 0 ↔ isSg c = false) := by
  have nz : ¬ nn c < 0 := nn_nonneg (by omega)
  have nl : ¬ (255 : Int32) < nn c := fun e => by have := (nn_lt (a := 255) (by omega) (by omega)).mp e; omega
  have b : ∀ d, d < 128 → d ≠ c → ¬ nn d = (nn c).toInt8.toInt32 := fun d hd hn e => hn (byt_inj (by omega) hc (by rw [byt_low hd]; exact e))
  have t : ∀ d, d < 128 → d = c → nn d = (nn c).toInt8.toInt32 := fun d hd e => by rw [e]; exact (byt_low (by omega)).symm
  have red : kJ5_indexOf 25 (nn c) H = cal (cal (cal (kJ6_indexOfChar_7 25 10 (nn c).toInt8.toInt32 (fun (h5 : HP) => some ((-1 : Int32), h5)) FU 0 H) (fun r10 h11 => some (r10, h11))) (fun r10 h11 => some (r10, h11))) (fun r1 h2 => some (r1, h2)) := by
    simp only [kJ5_indexOf, kJ5_indexOf_2, kJ5_isLatin1, kJ5_length, kJ5_coder, kJ6_indexOf, kJ6_canEncode, kJ6_indexOfChar, bnd_e, cal_s, onr_s, jon_e, gI_hw, gL_hw, gT_hw, gR_hw, gN_hw, sI_hw, sL_hw, cV_hw, shS_hw, shC_hw, shL_hw, ← bt_def, grd_pos (show 25 < 26 by decide), if_neg (show ¬ (1 : Int32) = 0 by decide), eq_self, if_true, grd_pos (show ((0 : Int32)).toInt8.toInt32 = (0 : Int32) from rfl)]
    rw [if_neg nz, if_neg nl]
    rfl
  rw [red]
  have u : ∀ (f i : Nat), i < 10 → kJ6_indexOfChar_7 25 10 (nn c).toInt8.toInt32 (fun (h5 : HP) => some ((-1 : Int32), h5)) (f + 1) (nn i) H = if sb 25 i = (nn c).toInt8.toInt32 then some (nn i, H) else kJ6_indexOfChar_7 25 10 (nn c).toInt8.toInt32 (fun (h5 : HP) => some ((-1 : Int32), h5)) f (nn (i + 1)) H := by
    intro f i hi
    rw [kJ6_indexOfChar_7, if_neg (fun e => by have := (nn_le (a := 10) (by omega) (by omega)).mp e; omega), grd_pos (by decide), grd_pos (nn_inb (by omega) (by show i < 10; omega)), nn_clamp (by omega), bnd_e, nn_succ]
    rfl
  have fin : ∀ r : Int32, (r < 0 ↔ isSg c = false) → ∃ r', cal (cal (cal (some (r, H)) (fun r10 h11 => some (r10, h11))) (fun r10 h11 => some (r10, h11))) (fun (r1 : Int32) h2 => some (r1, h2)) = some (r', H) ∧ (r' < 0 ↔ isSg c = false) := fun r e => ⟨r, rfl, e⟩
  have st : ∀ i d, i < 10 → d < 128 → sb 25 i = nn d → isSg d = true → c = d → (nn i < 0 ↔ isSg c = false) ∧ sb 25 i = (nn c).toInt8.toInt32 := fun i d h1 h2 h3 h4 h5 => ⟨⟨fun e => absurd e (nn_nonneg (by omega)), fun e => by rw [h5, h4] at e; exact Bool.noConfusion e⟩, by rw [h3]; exact t d h2 h5.symm⟩
  rw [show FU = 989 + 11 from rfl, ← nn0]
  by_cases c0 : c = 59
  · rw [u _ 0 (by decide), if_pos (st 0 59 (by decide) (by decide) rfl rfl c0).2]; exact fin _ (st 0 59 (by decide) (by decide) rfl rfl c0).1
  rw [u _ 0 (by decide), if_neg (show ¬ sb 25 0 = _ from b 59 (by decide) (Ne.symm c0))]
  by_cases c1 : c = 40
  · rw [u _ 1 (by decide), if_pos (st 1 40 (by decide) (by decide) rfl rfl c1).2]; exact fin _ (st 1 40 (by decide) (by decide) rfl rfl c1).1
  rw [u _ 1 (by decide), if_neg (show ¬ sb 25 1 = _ from b 40 (by decide) (Ne.symm c1))]
  by_cases c2 : c = 41
  · rw [u _ 2 (by decide), if_pos (st 2 41 (by decide) (by decide) rfl rfl c2).2]; exact fin _ (st 2 41 (by decide) (by decide) rfl rfl c2).1
  rw [u _ 2 (by decide), if_neg (show ¬ sb 25 2 = _ from b 41 (by decide) (Ne.symm c2))]
  by_cases c3 : c = 43
  · rw [u _ 3 (by decide), if_pos (st 3 43 (by decide) (by decide) rfl rfl c3).2]; exact fin _ (st 3 43 (by decide) (by decide) rfl rfl c3).1
  rw [u _ 3 (by decide), if_neg (show ¬ sb 25 3 = _ from b 43 (by decide) (Ne.symm c3))]
  by_cases c4 : c = 45
  · rw [u _ 4 (by decide), if_pos (st 4 45 (by decide) (by decide) rfl rfl c4).2]; exact fin _ (st 4 45 (by decide) (by decide) rfl rfl c4).1
  rw [u _ 4 (by decide), if_neg (show ¬ sb 25 4 = _ from b 45 (by decide) (Ne.symm c4))]
  by_cases c5 : c = 42
  · rw [u _ 5 (by decide), if_pos (st 5 42 (by decide) (by decide) rfl rfl c5).2]; exact fin _ (st 5 42 (by decide) (by decide) rfl rfl c5).1
  rw [u _ 5 (by decide), if_neg (show ¬ sb 25 5 = _ from b 42 (by decide) (Ne.symm c5))]
  by_cases c6 : c = 47
  · rw [u _ 6 (by decide), if_pos (st 6 47 (by decide) (by decide) rfl rfl c6).2]; exact fin _ (st 6 47 (by decide) (by decide) rfl rfl c6).1
  rw [u _ 6 (by decide), if_neg (show ¬ sb 25 6 = _ from b 47 (by decide) (Ne.symm c6))]
  by_cases c7 : c = 60
  · rw [u _ 7 (by decide), if_pos (st 7 60 (by decide) (by decide) rfl rfl c7).2]; exact fin _ (st 7 60 (by decide) (by decide) rfl rfl c7).1
  rw [u _ 7 (by decide), if_neg (show ¬ sb 25 7 = _ from b 60 (by decide) (Ne.symm c7))]
  by_cases c8 : c = 61
  · rw [u _ 8 (by decide), if_pos (st 8 61 (by decide) (by decide) rfl rfl c8).2]; exact fin _ (st 8 61 (by decide) (by decide) rfl rfl c8).1
  rw [u _ 8 (by decide), if_neg (show ¬ sb 25 8 = _ from b 61 (by decide) (Ne.symm c8))]
  by_cases c9 : c = 62
  · rw [u _ 9 (by decide), if_pos (st 9 62 (by decide) (by decide) rfl rfl c9).2]; exact fin _ (st 9 62 (by decide) (by decide) rfl rfl c9).1
  rw [u _ 9 (by decide), if_neg (show ¬ sb 25 9 = _ from b 62 (by decide) (Ne.symm c9))]
  rw [kJ6_indexOfChar_7, if_pos (by decide)]
  exact fin _ ⟨fun _ => by simp [isSg, c0, c1, c2, c3, c4, c5, c6, c7, c8, c9], fun _ => by decide⟩
theorem b_n7 (hp : p + m ≤ n) (le : ∀ k, k < m → isL n tb (p + k) = true) : ∀ (j i : Nat) (v : Int32) (I : Nat → Nat → Int32) (fuel : Nat), i + j = 6 → j < fuel → LxT I J n tb → I 2 0 = nn (p + m) → I 2 2 = nn p → I 2 4 = v →
    ∃ v', (∀ k, cR_name_7 k fuel (nn i) (hw h I L) = k (hw h (u2 I 2 4 v') L)) ∧ ∀ k, m_packed_5 (nn p) (nn (p + m)) k fuel v (nn (p + i)) (hw g J M) = k v' (hw g J M) := by
  intro j
  induction j with
  | zero =>
    intro i v I fuel hj hf T e0 e2 e4
    have hn := T.1
    obtain ⟨f, rfl⟩ : ∃ f, fuel = f + 1 := ⟨fuel - 1, by omega⟩
    refine ⟨v, fun k => ?_, fun k => ?_⟩
    · rw [cR_name_7, if_pos (show (6 : Int32) ≤ nn i from (nn_le (a := 6) (by omega) (by omega)).mpr (by omega)), u2_id e4]
    · rw [m_packed_5, show nn p + 6 = nn (p + 6) from nn_add p 6, if_pos ((nn_le (by omega) (by omega)).mpr (by omega))]
  | succ j ih =>
    intro i v I fuel hj hf T e0 e2 e4
    have hn := T.1
    obtain ⟨f, rfl⟩ : ∃ f, fuel = f + 1 := ⟨fuel - 1, by omega⟩
    have hd : ∃ s : Int32, (∀ k, cR_name_7 k (f + 1) (nn i) (hw h I L) = cR_name_7 k f (nn (i + 1)) (hw h (u2 I 2 4 ((v <<< ((5 : Int32) &&& 31)) ||| s)) L)) ∧ ∀ k, m_packed_5 (nn p) (nn (p + m)) k (f + 1) v (nn (p + i)) (hw g J M) = m_packed_5 (nn p) (nn (p + m)) k f ((v <<< ((5 : Int32) &&& 31)) ||| s) (nn (p + (i + 1))) (hw g J M) := by
      have q1 : ¬ (6 : Int32) ≤ nn i := fun e => by have := (nn_le (a := 6) (by omega) (by omega)).mp e; omega
      have q2 : ¬ nn (p + 6) ≤ nn (p + i) := fun e => by have := (nn_le (by omega) (by omega)).mp e; omega
      by_cases z : m ≤ i
      · refine ⟨0, fun k => ?_, fun k => ?_⟩
        · rw [cR_name_7, if_neg q1]
          simp only [bnd_e, cal_s, onr_s, jon_e, gI_hw, gL_hw, gT_hw, gR_hw, gN_hw, sI_hw, sL_hw, cV_hw, shS_hw, shC_hw, shL_hw, ← bt_def, e0, e2, e4, nn_add, nn_succ]
          rw [if_pos ((nn_le (by omega) (by omega)).mpr (by omega))]
        · rw [m_packed_5, show nn p + 6 = nn (p + 6) from nn_add p 6, if_neg q2]
          simp only [bnd_e, cal_s, onr_s, jon_e, gI_hw, gL_hw, gT_hw, gR_hw, gN_hw, sI_hw, sL_hw, cV_hw, shS_hw, shC_hw, shL_hw, ← bt_def, nn_succ]
          rw [if_pos ((nn_le (by omega) (by omega)).mpr (by omega))]; rfl
      · have lv := of_decide_eq_true (le i (by omega))
        have t := T.2 (p + i) (by omega)
        have ti : I 1 (p + i) = nn (tb (p + i)) := by rw [t.2.1]; exact byt_low (by omega)
        refine ⟨nn (tb (p + i) - 96), fun k => ?_, fun k => ?_⟩
        · rw [cR_name_7, if_neg q1]
          simp only [bnd_e, cal_s, onr_s, jon_e, gI_hw, gL_hw, gT_hw, gR_hw, gN_hw, sI_hw, sL_hw, cV_hw, shS_hw, shC_hw, shL_hw, ← bt_def, e0, e2, e4, nn_add, nn_succ, nn_clamp (show p + i < 2147483648 by omega), ti]
          rw [if_neg (fun e => by have := (nn_le (by omega) (by omega)).mp e; omega), grd_pos (nn_inb (by omega) (by omega)), show nn (tb (p + i)) - 97 = nn (tb (p + i) - 97) from nn_sub (b := 97) (by omega), nn_succ, show tb (p + i) - 97 + 1 = tb (p + i) - 96 by omega]
        · rw [m_packed_5, show nn p + 6 = nn (p + 6) from nn_add p 6, if_neg q2]
          simp only [bnd_e, cal_s, onr_s, jon_e, gI_hw, gL_hw, gT_hw, gR_hw, gN_hw, sI_hw, sL_hw, cV_hw, shS_hw, shC_hw, shL_hw, ← bt_def, nn_succ, nn_clamp (show p + i < 2147483648 by omega), t.2.2]
          rw [if_neg (fun e => by have := (nn_le (by omega) (by omega)).mp e; omega), grd_pos (nn_inb (by omega) (by omega)), show nn (tb (p + i)) - 96 = nn (tb (p + i) - 96) from nn_sub (b := 96) (by omega)]; rfl
    obtain ⟨s, d1, d2⟩ := hd
    generalize (v <<< ((5 : Int32) &&& 31)) ||| s = v1 at d1 d2
    obtain ⟨v', c1, c2⟩ := ih (i + 1) v1 (u2 I 2 4 v1) f (by omega) (by omega) T.ui (by rw [u2_nk _ _ (by decide)]; exact e0) (by rw [u2_nk _ _ (by decide)]; exact e2) (u2_same _ _ _ _)
    exact ⟨v', fun k => by rw [d1, c1, u2_u2], fun k => by rw [d2, c2]⟩
theorem b_name (hp : p + m ≤ n) (le : ∀ k, k < m → isL n tb (p + k) = true) (T : LxT I J n tb) (e0 : I 2 0 = nn (p + m)) (e2 : I 2 2 = nn p) :
    ∃ v', cR_name (hw h I L) = some ((), hw h (u2 I 2 4 v') L) ∧ m_packed (nn p) (nn (p + m)) (hw g J M) = some (v', hw g J M) := by
  obtain ⟨v', c1, c2⟩ := b_n7 (h := h) (g := g) (L := L) (M := M) hp le 6 0 0 (u2 I 2 4 0) FU (by omega) (by show 6 < 1000; omega) T.ui (by rw [u2_nk _ _ (by decide)]; exact e0) (by rw [u2_nk _ _ (by decide)]; exact e2) (u2_same _ _ _ _)
  refine ⟨v', ?_, ?_⟩
  · simp only [cR_name, bnd_e, cal_s, onr_s, jon_e, gI_hw, gL_hw, gT_hw, gR_hw, gN_hw, sI_hw, sL_hw, cV_hw, shS_hw, shC_hw, shL_hw, ← bt_def]
    rw [nn0] at c1
    rw [c1, u2_u2]
  · simp only [m_packed, bnd_e, cal_s, onr_s, jon_e, gI_hw, gL_hw, gT_hw, gR_hw, gN_hw, sI_hw, sL_hw, cV_hw, shS_hw, shC_hw, shL_hw, ← bt_def]
    exact c2 _
end P23
