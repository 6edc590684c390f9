set_option maxRecDepth 100000
/-! PURE LEVEL 71: letters, digits, blanks -/
theorem u2_u2 {α : Type} (f : Nat → Nat → α) (a k : Nat) (v w : α) : u2 (u2 f a k v) a k w = u2 f a k w := by
  funext b j
  unfold u2
  by_cases z : b = a ∧ j = k
  · rw [if_pos z, if_pos z]
  · rw [if_neg z, if_neg z, if_neg z]
theorem byt_and : ∀ x : Fin 256, byt x.val &&& 255 = nn x.val := by decide
theorem byt_255 {x : Nat} (h : x < 256) : byt x &&& 255 = nn x := byt_and ⟨x, h⟩
theorem byt_lt : ∀ x : Fin 128, byt x.val = nn x.val := by decide
theorem byt_low {x : Nat} (h : x < 128) : byt x = nn x := byt_lt ⟨x, h⟩
def LxT (I J : Nat → Nat → Int32) (n : Nat) (tb : Nat → Nat) : Prop := n ≤ 700 ∧ ∀ i, i < n → tb i < 256 ∧ I 1 i = byt (tb i) ∧ J 1 i = nn (tb i)
def hc (n : Nat) (tb : Nat → Nat) (a : Nat) : Int32 := if a < n then nn (tb a) else -1
def isL (n : Nat) (tb : Nat → Nat) (a : Nat) : Bool := decide (a < n ∧ 97 ≤ tb a ∧ tb a ≤ 122)
def isD (n : Nat) (tb : Nat → Nat) (a : Nat) : Bool := decide (a < n ∧ 48 ≤ tb a ∧ tb a ≤ 57)
section P21
variable {h g : HP} {I J : Nat → Nat → Int32} {L M : Nat → Nat → Int64} {n : Nat} {tb : Nat → Nat} {a : Nat}
theorem ec_here (T : LxT I J n tb) (e0 : I 2 0 = nn a) (e1 : I 2 1 = nn n) (ha : a ≤ n) : cR_here (hw h I L) = some (hc n tb a, hw h I L) := by
  have hn := T.1
  simp only [cR_here, bnd_e, cal_s, onr_s, jon_e, gI_hw, gL_hw, gT_hw, gR_hw, gN_hw, sI_hw, sL_hw, cV_hw, shS_hw, shC_hw, shL_hw, ← bt_def, e0, e1]
  unfold hc
  by_cases z : a < n
  · rw [if_neg (fun e => by have := (nn_le (by omega) (by omega)).mp e; omega), grd_pos (nn_inb (by omega) (by omega)), nn_clamp (by omega), (T.2 a z).2.1, byt_255 (T.2 a z).1, if_pos z]
  · rw [if_pos ((nn_le (by omega) (by omega)).mpr (by omega)), if_neg z]
theorem hc_in (T : LxT I J n tb) {lo hi : Nat} (h1 : lo < 256) (h2 : hi < 256) : decide (¬ hc n tb a < nn lo ∧ ¬ nn hi < hc n tb a) = decide (a < n ∧ lo ≤ tb a ∧ tb a ≤ hi) := by
  unfold hc
  by_cases z : a < n
  · have := (T.2 a z).1
    rw [if_pos z, decide_eq_decide, nn_lt (by omega) (by omega), nn_lt (by omega) (by omega)]
    omega
  · rw [if_neg z, decide_eq_decide]
    constructor
    · intro e
      exact absurd (Int32.lt_of_lt_of_le (show (-1 : Int32) < 0 by decide) (Int32.not_lt.mp (nn_nonneg (by omega)))) e.1
    · intro e; omega
theorem ec_isL (T : LxT I J n tb) (H : HP) : cA_in (hc n tb a).toInt64 97 122 H = some (bI (isL n tb a), H) := by
  have := ec_in (hc n tb a) (nn 97) (nn 122) H
  rw [hc_in T (by omega) (by omega)] at this
  exact this
theorem ec_isD (T : LxT I J n tb) (H : HP) : cA_in (hc n tb a).toInt64 48 57 H = some (bI (isD n tb a), H) := by
  have := ec_in (hc n tb a) (nn 48) (nn 57) H
  rw [hc_in T (by omega) (by omega)] at this
  exact this
theorem em_lt {x : Nat} (hx : x < 256) (c : Nat) (hc : c < 256) : (nn x < nn c ↔ x < c) ∧ (nn c < nn x ↔ c < x) := ⟨nn_lt (by omega) (by omega), nn_lt (by omega) (by omega)⟩
theorem em_isL (T : LxT I J n tb) (e6 : J 0 6 = nn n) (ha : a ≤ n) : m_isSmall (nn a) (hw g J M) = some (bI (isL n tb a), hw g J M) := by
  have hn := T.1
  simp only [m_isSmall, bnd_e, cal_s, onr_s, jon_e, gI_hw, gL_hw, gT_hw, gR_hw, gN_hw, sI_hw, sL_hw, cV_hw, shS_hw, shC_hw, shL_hw, ← bt_def, e6]
  unfold isL
  by_cases z : a < n
  · have t := T.2 a z
    have l1 := em_lt t.1 97 (by omega)
    have l2 := em_lt t.1 122 (by omega)
    rw [if_neg (fun e => by have := (nn_le (by omega) (by omega)).mp e; omega), grd_pos (nn_inb (by omega) (by omega)), grd_pos (nn_inb (by omega) (by omega)), nn_clamp (by omega), t.2.2, show (97 : Int32) = nn 97 from rfl, show (122 : Int32) = nn 122 from rfl]
    by_cases z1 : tb a < 97
    · rw [if_pos (l1.1.mpr z1), decide_eq_false (by omega)]; rfl
    · rw [if_neg (fun e => z1 (l1.1.mp e))]
      by_cases z2 : 122 < tb a
      · rw [if_pos (l2.2.mpr z2), decide_eq_false (by omega)]; rfl
      · rw [if_neg (fun e => z2 (l2.2.mp e)), decide_eq_true (by omega)]; rfl
  · rw [if_pos ((nn_le (by omega) (by omega)).mpr (by omega)), decide_eq_false (by omega)]; rfl
theorem em_isD (T : LxT I J n tb) (e6 : J 0 6 = nn n) (ha : a ≤ n) : m_isDigit (nn a) (hw g J M) = some (bI (isD n tb a), hw g J M) := by
  have hn := T.1
  simp only [m_isDigit, bnd_e, cal_s, onr_s, jon_e, gI_hw, gL_hw, gT_hw, gR_hw, gN_hw, sI_hw, sL_hw, cV_hw, shS_hw, shC_hw, shL_hw, ← bt_def, e6]
  unfold isD
  by_cases z : a < n
  · have t := T.2 a z
    have l1 := em_lt t.1 48 (by omega)
    have l2 := em_lt t.1 57 (by omega)
    rw [if_neg (fun e => by have := (nn_le (by omega) (by omega)).mp e; omega), grd_pos (nn_inb (by omega) (by omega)), grd_pos (nn_inb (by omega) (by omega)), nn_clamp (by omega), t.2.2, show (48 : Int32) = nn 48 from rfl, show (57 : Int32) = nn 57 from rfl]
    by_cases z1 : tb a < 48
    · rw [if_pos (l1.1.mpr z1), decide_eq_false (by omega)]; rfl
    · rw [if_neg (fun e => z1 (l1.1.mp e))]
      by_cases z2 : 57 < tb a
      · rw [if_pos (l2.2.mpr z2), decide_eq_false (by omega)]; rfl
      · rw [if_neg (fun e => z2 (l2.2.mp e)), decide_eq_true (by omega)]; rfl
  · rw [if_pos ((nn_le (by omega) (by omega)).mpr (by omega)), decide_eq_false (by omega)]; rfl
theorem LxT.u {v w : Int32} {k j : Nat} (T : LxT I J n tb) : LxT (u2 I 2 k v) (u2 J 0 j w) n tb := ⟨T.1, fun i hi => by rw [u2_ne (by decide), u2_ne (by decide)]; exact T.2 i hi⟩
theorem LxT.ui {v : Int32} {k : Nat} (T : LxT I J n tb) : LxT (u2 I 2 k v) J n tb := ⟨T.1, fun i hi => by rw [u2_ne (by decide)]; exact T.2 i hi⟩
theorem LxT.uj {v : Int32} {k : Nat} (T : LxT I J n tb) : LxT I (u2 J 0 k v) n tb := ⟨T.1, fun i hi => by rw [u2_ne (by decide)]; exact T.2 i hi⟩
theorem b_blank : ∀ (j a : Nat) (I J : Nat → Nat → Int32) (fuel : Nat), a + j = n → j < fuel → LxT I J n tb → I 2 0 = nn a → I 2 1 = nn n → J 0 7 = nn a → J 0 6 = nn n →
    ∃ a', a ≤ a' ∧ a' ≤ n ∧ (∀ k, cR_next_0 k fuel (hw h I L) = k (hw h (u2 I 2 0 (nn a')) L)) ∧ ∀ k, m_token_0 k fuel (hw g J M) = k (hw g (u2 J 0 7 (nn a')) M) := by
  intro j
  induction j with
  | zero =>
    intro a I J fuel hj hf T e0 e1 e7 e6
    have hn := T.1
    obtain ⟨f, rfl⟩ : ∃ f, fuel = f + 1 := ⟨fuel - 1, by omega⟩
    refine ⟨a, by omega, by omega, fun k => ?_, fun k => ?_⟩
    · simp only [cR_next_0, bnd_e, cal_s, onr_s, jon_e, gI_hw, gL_hw, gT_hw, gR_hw, gN_hw, sI_hw, sL_hw, cV_hw, shS_hw, shC_hw, shL_hw, ← bt_def, ec_here T e0 e1 (by omega)]
      rw [show hc n tb a = -1 from if_neg (by omega), if_neg (by decide), if_neg (by decide), u2_id e0]
    · simp only [m_token_0, bnd_e, cal_s, onr_s, jon_e, gI_hw, gL_hw, gT_hw, gR_hw, gN_hw, sI_hw, sL_hw, cV_hw, shS_hw, shC_hw, shL_hw, ← bt_def, e6, e7]
      rw [if_pos ((nn_le (by omega) (by omega)).mpr (by omega)), u2_id e7]
  | succ j ih =>
    intro a I J fuel hj hf T e0 e1 e7 e6
    have hn := T.1
    obtain ⟨f, rfl⟩ : ∃ f, fuel = f + 1 := ⟨fuel - 1, by omega⟩
    have ha : a < n := by omega
    have t := T.2 a ha
    have hcv : hc n tb a = nn (tb a) := if_pos ha
    by_cases z : tb a = 10 ∨ tb a = 32
    · obtain ⟨a', h1, h2, c1, m1⟩ := ih (a + 1) (u2 I 2 0 (nn (a + 1))) (u2 J 0 7 (nn (a + 1))) f (by omega) (by omega) T.u (u2_same _ _ _ _) (by rw [u2_nk _ _ (by decide)]; exact e1) (u2_same _ _ _ _) (by rw [u2_nk _ _ (by decide)]; exact e6)
      refine ⟨a', by omega, h2, fun k => ?_, fun k => ?_⟩
      · simp only [cR_next_0, bnd_e, cal_s, onr_s, jon_e, gI_hw, gL_hw, gT_hw, gR_hw, gN_hw, sI_hw, sL_hw, cV_hw, shS_hw, shC_hw, shL_hw, ← bt_def, ec_here T e0 e1 (by omega), hcv, e0, nn_succ, c1, u2_u2]
        rcases z with z | z
        · rw [z, if_pos (show nn 10 = (10 : Int32) from rfl)]
        · rw [z, if_neg (show ¬ nn 32 = (10 : Int32) by decide), if_pos (show nn 32 = (32 : Int32) from rfl)]
      · simp only [m_token_0, bnd_e, cal_s, onr_s, jon_e, gI_hw, gL_hw, gT_hw, gR_hw, gN_hw, sI_hw, sL_hw, cV_hw, shS_hw, shC_hw, shL_hw, ← bt_def, e6, e7, nn_clamp (show a < 2147483648 by omega), t.2.2, nn_succ, m1, u2_u2]
        rw [if_neg (fun e => by have := (nn_le (by omega) (by omega)).mp e; omega), grd_pos (nn_inb (by omega) (by omega)), grd_pos (nn_inb (by omega) (by omega))]
        rcases z with z | z
        · rw [z, if_pos (show nn 10 = (10 : Int32) from rfl)]
        · rw [z, if_neg (show ¬ nn 32 = (10 : Int32) by decide), if_pos (show nn 32 = (32 : Int32) from rfl)]
    · have n1 : ¬ nn (tb a) = (10 : Int32) := fun e => z (Or.inl ((nn_eq (b := 10) (by omega) (by omega)).mp e))
      have n2 : ¬ nn (tb a) = (32 : Int32) := fun e => z (Or.inr ((nn_eq (b := 32) (by omega) (by omega)).mp e))
      refine ⟨a, by omega, by omega, fun k => ?_, fun k => ?_⟩
      · simp only [cR_next_0, bnd_e, cal_s, onr_s, jon_e, gI_hw, gL_hw, gT_hw, gR_hw, gN_hw, sI_hw, sL_hw, cV_hw, shS_hw, shC_hw, shL_hw, ← bt_def, ec_here T e0 e1 (by omega), hcv]
        rw [if_neg n1, if_neg n2, u2_id e0]
      · simp only [m_token_0, bnd_e, cal_s, onr_s, jon_e, gI_hw, gL_hw, gT_hw, gR_hw, gN_hw, sI_hw, sL_hw, cV_hw, shS_hw, shC_hw, shL_hw, ← bt_def, e6, e7, nn_clamp (show a < 2147483648 by omega), t.2.2]
        rw [if_neg (fun e => by have := (nn_le (by omega) (by omega)).mp e; omega), grd_pos (nn_inb (by omega) (by omega)), grd_pos (nn_inb (by omega) (by omega)), if_neg n1, if_neg n2, u2_id e7]
theorem b_let : ∀ (j a : Nat) (I J : Nat → Nat → Int32) (fuel : Nat), a + j = n → j < fuel → LxT I J n tb → I 2 0 = nn a → I 2 1 = nn n → J 0 7 = nn a → J 0 6 = nn n →
    ∃ a', a ≤ a' ∧ a' ≤ n ∧ (isL n tb a = true → a < a') ∧ (∀ i, a ≤ i → i < a' → isL n tb i = true) ∧ (∀ k, cR_next_75 k fuel (hw h I L) = k (hw h (u2 I 2 0 (nn a')) L)) ∧ ∀ k, m_token_90 k fuel (hw g J M) = k (hw g (u2 J 0 7 (nn a')) M) := by
  intro j
  induction j with
  | zero =>
    intro a I J fuel hj hf T e0 e1 e7 e6
    have hn := T.1
    obtain ⟨f, rfl⟩ : ∃ f, fuel = f + 1 := ⟨fuel - 1, by omega⟩
    have z : isL n tb a = false := decide_eq_false (by omega)
    refine ⟨a, by omega, by omega, by rw [z]; exact fun e => Bool.noConfusion e, fun i h1 h2 => by omega, fun k => ?_, fun k => ?_⟩
    · simp only [cR_next_75, bnd_e, cal_s, onr_s, jon_e, gI_hw, gL_hw, gT_hw, gR_hw, gN_hw, sI_hw, sL_hw, cV_hw, shS_hw, shC_hw, shL_hw, ← bt_def, ec_here T e0 e1 (by omega), ec_isL T, z, bI_eq0]
      simp only [eq_self, Bool.true_eq_false, if_true, if_false]
      rw [u2_id e0]
    · simp only [m_token_90, bnd_e, cal_s, onr_s, jon_e, gI_hw, gL_hw, gT_hw, gR_hw, gN_hw, sI_hw, sL_hw, cV_hw, shS_hw, shC_hw, shL_hw, ← bt_def, e7, em_isL (a := a) T e6 (by omega), z, bI_eq0]
      simp only [eq_self, Bool.true_eq_false, if_true, if_false]
      rw [u2_id e7]
  | succ j ih =>
    intro a I J fuel hj hf T e0 e1 e7 e6
    have hn := T.1
    obtain ⟨f, rfl⟩ : ∃ f, fuel = f + 1 := ⟨fuel - 1, by omega⟩
    cases z : isL n tb a with
    | false =>
      refine ⟨a, by omega, by omega, fun e => Bool.noConfusion e, fun i h1 h2 => by omega, fun k => ?_, fun k => ?_⟩
      · simp only [cR_next_75, bnd_e, cal_s, onr_s, jon_e, gI_hw, gL_hw, gT_hw, gR_hw, gN_hw, sI_hw, sL_hw, cV_hw, shS_hw, shC_hw, shL_hw, ← bt_def, ec_here T e0 e1 (by omega), ec_isL T, z, bI_eq0]
        simp only [eq_self, Bool.true_eq_false, if_true, if_false]
        rw [u2_id e0]
      · simp only [m_token_90, bnd_e, cal_s, onr_s, jon_e, gI_hw, gL_hw, gT_hw, gR_hw, gN_hw, sI_hw, sL_hw, cV_hw, shS_hw, shC_hw, shL_hw, ← bt_def, e7, em_isL (a := a) T e6 (by omega), z, bI_eq0]
        simp only [eq_self, Bool.true_eq_false, if_true, if_false]
        rw [u2_id e7]
    | true =>
      obtain ⟨a', h1, h2, -, h3, c1, m1⟩ := ih (a + 1) (u2 I 2 0 (nn (a + 1))) (u2 J 0 7 (nn (a + 1))) f (by omega) (by omega) T.u (u2_same _ _ _ _) (by rw [u2_nk _ _ (by decide)]; exact e1) (u2_same _ _ _ _) (by rw [u2_nk _ _ (by decide)]; exact e6)
      refine ⟨a', by omega, h2, fun _ => by omega, fun i g1 g2 => ?_, fun k => ?_, fun k => ?_⟩
      · by_cases y : i = a
        · rw [y]; exact z
        · exact h3 i (by omega) g2
      · simp only [cR_next_75, bnd_e, cal_s, onr_s, jon_e, gI_hw, gL_hw, gT_hw, gR_hw, gN_hw, sI_hw, sL_hw, cV_hw, shS_hw, shC_hw, shL_hw, ← bt_def, ec_here T e0 e1 (by omega), ec_isL T, z, bI_eq0]
        simp only [eq_self, Bool.true_eq_false, if_true, if_false]
        simp only [e0, nn_succ, c1, u2_u2]
      · simp only [m_token_90, bnd_e, cal_s, onr_s, jon_e, gI_hw, gL_hw, gT_hw, gR_hw, gN_hw, sI_hw, sL_hw, cV_hw, shS_hw, shC_hw, shL_hw, ← bt_def, e7, em_isL (a := a) T e6 (by omega), z, bI_eq0]
        simp only [eq_self, Bool.true_eq_false, if_true, if_false]
        simp only [e7, nn_succ, m1, u2_u2]
theorem b_dig : ∀ (j a : Nat) (v : Int32) (I J : Nat → Nat → Int32) (fuel : Nat), a + j = n → j < fuel → LxT I J n tb → I 2 0 = nn a → I 2 1 = nn n → J 0 7 = nn a → J 0 6 = nn n → I 2 4 = v → J 0 9 = v →
    ∃ a' v' I' J', a ≤ a' ∧ a' ≤ n ∧ (isD n tb a = true → a < a') ∧ (∀ k, cR_next_190 k fuel (hw h I L) = k (hw h I' L)) ∧ (∀ k, m_token_213 k fuel (hw g J M) = k (hw g J' M)) ∧ I' 2 0 = nn a' ∧ I' 2 4 = v' ∧ J' 0 7 = nn a' ∧ J' 0 9 = v' ∧ (∀ x, x ≠ 2 → I' x = I x) ∧ (∀ k, k ≠ 0 → k ≠ 4 → I' 2 k = I 2 k) ∧ (∀ x, x ≠ 0 → J' x = J x) ∧ ∀ k, k ≠ 7 → k ≠ 9 → J' 0 k = J 0 k := by
  intro j
  induction j with
  | zero =>
    intro a v I J fuel hj hf T e0 e1 e7 e6 e4 e9
    have hn := T.1
    obtain ⟨f, rfl⟩ : ∃ f, fuel = f + 1 := ⟨fuel - 1, by omega⟩
    have z : isD n tb a = false := decide_eq_false (by omega)
    refine ⟨a, v, I, J, by omega, by omega, by rw [z]; exact fun e => Bool.noConfusion e, fun k => ?_, fun k => ?_, e0, e4, e7, e9, fun _ _ => Eq.refl _, fun _ _ _ => Eq.refl _, fun _ _ => Eq.refl _, fun _ _ _ => Eq.refl _⟩
    · simp only [cR_next_190, bnd_e, cal_s, onr_s, jon_e, gI_hw, gL_hw, gT_hw, gR_hw, gN_hw, sI_hw, sL_hw, cV_hw, shS_hw, shC_hw, shL_hw, ← bt_def, ec_here T e0 e1 (by omega), ec_isD T, z, bI_eq0]
      simp only [eq_self, Bool.true_eq_false, if_true, if_false]
    · simp only [m_token_213, bnd_e, cal_s, onr_s, jon_e, gI_hw, gL_hw, gT_hw, gR_hw, gN_hw, sI_hw, sL_hw, cV_hw, shS_hw, shC_hw, shL_hw, ← bt_def, e7, em_isD (a := a) T e6 (by omega), z, bI_eq0]
      simp only [eq_self, Bool.true_eq_false, if_true, if_false]
  | succ j ih =>
    intro a v I J fuel hj hf T e0 e1 e7 e6 e4 e9
    have hn := T.1
    obtain ⟨f, rfl⟩ : ∃ f, fuel = f + 1 := ⟨fuel - 1, by omega⟩
    cases z : isD n tb a with
    | false =>
      refine ⟨a, v, I, J, by omega, by omega, fun e => Bool.noConfusion e, fun k => ?_, fun k => ?_, e0, e4, e7, e9, fun _ _ => Eq.refl _, fun _ _ _ => Eq.refl _, fun _ _ => Eq.refl _, fun _ _ _ => Eq.refl _⟩
      · simp only [cR_next_190, bnd_e, cal_s, onr_s, jon_e, gI_hw, gL_hw, gT_hw, gR_hw, gN_hw, sI_hw, sL_hw, cV_hw, shS_hw, shC_hw, shL_hw, ← bt_def, ec_here T e0 e1 (by omega), ec_isD T, z, bI_eq0]
        simp only [eq_self, Bool.true_eq_false, if_true, if_false]
      · simp only [m_token_213, bnd_e, cal_s, onr_s, jon_e, gI_hw, gL_hw, gT_hw, gR_hw, gN_hw, sI_hw, sL_hw, cV_hw, shS_hw, shC_hw, shL_hw, ← bt_def, e7, em_isD (a := a) T e6 (by omega), z, bI_eq0]
        simp only [eq_self, Bool.true_eq_false, if_true, if_false]
    | true =>
      have za := of_decide_eq_true z
      have t := T.2 a za.1
      have hcv : hc n tb a = nn (tb a) := if_pos za.1
      generalize hv : (if v ≤ (99999 : Int32) then 10 * v + nn (tb a) - 48 else v) = v1
      obtain ⟨a', v', I', J', h1, h2, -, c1, m1, p1, p2, p3, p4, p5, p6, p7, p8⟩ := ih (a + 1) v1 (u2 (u2 I 2 4 v1) 2 0 (nn (a + 1))) (u2 (u2 J 0 9 v1) 0 7 (nn (a + 1))) f (by omega) (by omega) T.u.u (u2_same _ _ _ _) (by rw [u2_nk _ _ (by decide), u2_nk _ _ (by decide)]; exact e1) (u2_same _ _ _ _) (by rw [u2_nk _ _ (by decide), u2_nk _ _ (by decide)]; exact e6) (by rw [u2_nk _ _ (by decide), u2_same]) (by rw [u2_nk _ _ (by decide), u2_same])
      refine ⟨a', v', I', J', by omega, h2, fun _ => by omega, fun k => ?_, fun k => ?_, p1, p2, p3, p4, fun x hx => ?_, fun k k1 k2 => ?_, fun x hx => ?_, fun k k1 k2 => ?_⟩
      · simp only [cR_next_190, bnd_e, cal_s, onr_s, jon_e, gI_hw, gL_hw, gT_hw, gR_hw, gN_hw, sI_hw, sL_hw, cV_hw, shS_hw, shC_hw, shL_hw, ← bt_def, ec_here T e0 e1 (by omega), ec_isD T, z, bI_eq0]
        simp only [eq_self, Bool.true_eq_false, if_true, if_false]
        simp only [e4, hcv, u2_nk I v1 (show 0 ≠ 4 by decide), e0, nn_succ]
        by_cases y : v ≤ (99999 : Int32)
        · rw [if_pos y] at hv ⊢
          simp only [hv, u2_nk I v1 (show 0 ≠ 4 by decide), e0, nn_succ, c1]
        · rw [if_neg y] at hv ⊢
          subst hv
          simp only [u2_nk I v (show 0 ≠ 4 by decide), e0, nn_succ, c1]
      · simp only [m_token_213, bnd_e, cal_s, onr_s, jon_e, gI_hw, gL_hw, gT_hw, gR_hw, gN_hw, sI_hw, sL_hw, cV_hw, shS_hw, shC_hw, shL_hw, ← bt_def, e7, em_isD (a := a) T e6 (by omega), z, bI_eq0]
        simp only [eq_self, Bool.true_eq_false, if_true, if_false]
        simp only [e9, e7, nn_clamp (show a < 2147483648 by omega), t.2.2, grd_pos (show inb (nn a) 700 from nn_inb (by omega) (by omega)), u2_nk J v1 (show 7 ≠ 9 by decide), nn_succ]
        by_cases y : v ≤ (99999 : Int32)
        · rw [if_pos y] at hv ⊢
          simp only [hv, u2_nk J v1 (show 7 ≠ 9 by decide), e7, nn_succ, m1]
        · rw [if_neg y] at hv ⊢
          subst hv
          simp only [u2_nk J v (show 7 ≠ 9 by decide), e7, nn_succ, m1]
      · rw [p5 x hx, u2_ne hx, u2_ne hx]
      · rw [p6 k k1 k2, u2_nk _ _ k1, u2_nk _ _ k2]
      · rw [p7 x hx, u2_ne hx, u2_ne hx]
      · rw [p8 k k1 k2, u2_nk _ _ k1, u2_nk _ _ k2]
end P21
