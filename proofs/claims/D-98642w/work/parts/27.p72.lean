set_option maxRecDepth 100000
/-! PURE LEVEL 72: words -/
def sb (w v : Nat) : Int32 := (sByt.getD w []).getD v 0
def Mt (tb : Nat → Nat) (p m w : Nat) : Prop := sLen.getD w 0 = m ∧ ∀ k, k < m → sb w k = nn (tb (p + k))
theorem sb_f : ∀ w : Fin 26, ∀ v : Fin 10, ((((sb w.val v.val) &&& (255 : Int32))).toUInt32 % 65536).toInt32 = sb w.val v.val ∧ (sb w.val v.val).toUInt32.toUInt16.toUInt32.toInt32 = sb w.val v.val := by decide
theorem sl_f : ∀ w : Fin 26, (Int32.ofNat (sLen.getD w.val 0)) >>> ((0 : Int32) &&& 31) = nn (sLen.getD w.val 0) ∧ sLen.getD w.val 0 ≤ 10 := by decide
def mL (w : Nat) : Nat := [4, 6, 5, 3, 4, 4, 4, 3, 5, 6, 4, 4, 4, 4, 4, 3, 2, 3, 4, 3, 4, 5, 4, 4, 3].getD w 0
def mF (w : Nat) : Nat := [0, 5, 12, 18, 22, 27, 32, 37, 41, 47, 54, 59, 64, 69, 74, 79, 83, 86, 90, 95, 99, 104, 110, 115, 120, 124].getD w 124
def sw (w : Nat) : Nat := if w = 15 then 16 else if w = 16 then 15 else w
def wv (i : Nat) : Int32 := wl.getD i 0
def Mm (tb : Nat → Nat) (p m w : Nat) : Prop := mL w = m ∧ ∀ k, k < m → wv (mF w + k) = nn (tb (p + k))
theorem mF_f : ∀ w : Fin 25, mF w.val + mL w.val < 124 ∧ wv (mF w.val + mL w.val) = 32 ∧ mF (w.val + 1) = mF w.val + mL w.val + 1 ∧ mL w.val = sLen.getD (sw w.val) 0 ∧ mL w.val ≤ 6 ∧ sw w.val < 25 := by decide
theorem mW_f : ∀ w : Fin 25, ∀ i : Fin 6, i.val < mL w.val → ¬ wv (mF w.val + i.val) = 32 ∧ wv (mF w.val + i.val) = sb (sw w.val) i.val := by decide
theorem Mm_Mt {tb : Nat → Nat} {p m w : Nat} (hw : w < 25) : Mm tb p m w ↔ Mt tb p m (sw w) := by
  obtain ⟨-, -, -, f4, f5, f6⟩ := mF_f ⟨w, hw⟩
  simp only [] at f4 f5 f6
  constructor
  · intro ⟨a, b⟩
    refine ⟨by rw [← f4]; exact a, fun k hk => ?_⟩
    rw [← (mW_f ⟨w, hw⟩ ⟨k, by omega⟩ (by show k < mL w; omega)).2]; exact b k hk
  · intro ⟨a, b⟩
    refine ⟨by rw [f4]; exact a, fun k hk => ?_⟩
    rw [(mW_f ⟨w, hw⟩ ⟨k, by omega⟩ (by show k < mL w; omega)).2]; exact b k hk
theorem sb_inj : ∀ w u : Fin 25, sLen.getD w.val 0 = sLen.getD u.val 0 → (∀ k : Fin 6, k.val < sLen.getD w.val 0 → sb w.val k.val = sb u.val k.val) → w = u := by decide
theorem sl_6 : ∀ w : Fin 25, sLen.getD w.val 0 ≤ 6 := by decide
theorem Mt_inj {tb : Nat → Nat} {p m w u : Nat} (h1 : w < 25) (h2 : u < 25) (a : Mt tb p m w) (b : Mt tb p m u) : w = u := by
  have := sb_inj ⟨w, h1⟩ ⟨u, h2⟩ (by rw [a.1, b.1]) (fun k hk => by rw [a.2 k.val (by have := a.1; simp only [] at hk; omega), b.2 k.val (by have := a.1; simp only [] at hk; omega)])
  exact congrArg Fin.val this
theorem sw_sw : ∀ w : Fin 25, sw (sw w.val) = w.val := by decide
section P22
variable {h g : HP} {I J : Nat → Nat → Int32} {L M : Nat → Nat → Int64} {n : Nat} {tb : Nat → Nat} {p m : Nat}
theorem ec_len {w : Nat} (hw : w < 25) (H : HP) : kJ5_length w H = some (nn (sLen.getD w 0), H) := by
  simp only [kJ5_length, kJ5_coder, bnd_e, cal_s, onr_s, jon_e, gI_hw, gL_hw, gT_hw, gR_hw, gN_hw, sI_hw, sL_hw, cV_hw, shS_hw, shC_hw, shL_hw, ← bt_def, grd_pos (show w < 26 by omega)]
  rw [if_neg (by decide), grd_pos (by decide)]
  simp only [bnd_e, cal_s, onr_s, jon_e, gI_hw, gL_hw, gT_hw, gR_hw, gN_hw, sI_hw, sL_hw, cV_hw, shS_hw, shC_hw, shL_hw, ← bt_def]
  rw [(sl_f ⟨w, by omega⟩).1]
theorem ec_chr {w v : Nat} (hw : w < 25) (hv : v < sLen.getD w 0) (H : HP) : kJ5_charAt w (nn v) H = some (sb w v, H) := by
  have l6 : sLen.getD w 0 ≤ 6 := sl_6 ⟨w, hw⟩
  have q := sb_f ⟨w, by omega⟩ ⟨v, by omega⟩
  simp only [] at q
  simp only [kJ5_charAt, kJ5_isLatin1, kJ6_charAt, kJ5_checkIndex, kJ4_checkIndex, bnd_e, cal_s, onr_s, jon_e, gI_hw, gL_hw, gT_hw, gR_hw, gN_hw, sI_hw, sL_hw, cV_hw, shS_hw, shC_hw, shL_hw, ← bt_def, grd_pos (show w < 26 by omega), if_neg (show ¬ (1 : Int32) = 0 by decide), eq_self, if_true]
  rw [if_neg (nn_nonneg (by omega)), if_pos (show nn v < Int32.ofNat (sLen.getD w 0) from (nn_lt (by omega) (by omega)).mpr hv)]
  simp only [bnd_e, cal_s, onr_s, jon_e, gI_hw, gL_hw, gT_hw, gR_hw, gN_hw, sI_hw, sL_hw, cV_hw, shS_hw, shC_hw, shL_hw, ← bt_def, nn_clamp (show v < 2147483648 by omega)]
  rw [grd_pos (nn_inb (by omega) (by omega))]
  have q1 : ((((sByt.getD w []).getD v 0) &&& (255 : Int32)).toUInt32 % 65536).toInt32 = sb w v := q.1
  rw [q1, grd_pos q.2]
  simp only [bnd_e, cal_s, onr_s, jon_e, gI_hw, gL_hw, gT_hw, gR_hw, gN_hw, sI_hw, sL_hw, cV_hw, shS_hw, shC_hw, shL_hw, ← bt_def]
  rw [grd_pos q.2]
theorem ec_w35 {w : Nat} (hw' : w < 25) (hl : sLen.getD w 0 = m) (T : LxT I J n tb) (hp : p + m ≤ n) (le : ∀ k, k < m → isL n tb (p + k) = true) (e0 : I 2 0 = nn (p + m)) (e2 : I 2 2 = nn p) :
    ∀ (j v fuel : Nat), v + j = m → j < fuel → ∃ v', v ≤ v' ∧ v' ≤ m ∧ (∀ i, v ≤ i → i < v' → sb w i = nn (tb (p + i))) ∧ (v' < m → ¬ sb w v' = nn (tb (p + v'))) ∧ ∀ k, cR_word_35 (nn w) k fuel (nn v) (hw h I L) = k (nn v') (hw h I L) := by
  have hn := T.1
  intro j
  induction j with
  | zero =>
    intro v fuel hv hf
    obtain ⟨f, rfl⟩ : ∃ f, fuel = f + 1 := ⟨fuel - 1, by omega⟩
    refine ⟨v, by omega, by omega, fun i h1 h2 => by omega, fun e => by omega, fun k => ?_⟩
    simp only [cR_word_35, bnd_e, cal_s, onr_s, jon_e, gI_hw, gL_hw, gT_hw, gR_hw, gN_hw, sI_hw, sL_hw, cV_hw, shS_hw, shC_hw, shL_hw, ← bt_def, e0, e2, nn_add]
    rw [if_pos ((nn_le (by omega) (by omega)).mpr (by omega))]
  | succ j ih =>
    intro v fuel hv hf
    obtain ⟨f, rfl⟩ : ∃ f, fuel = f + 1 := ⟨fuel - 1, by omega⟩
    have lv := of_decide_eq_true (le v (by omega))
    have tv : I 1 (p + v) = nn (tb (p + v)) := by rw [(T.2 (p + v) (by omega)).2.1]; exact byt_low (by omega)
    have step : ∀ k, cR_word_35 (nn w) k (f + 1) (nn v) (hw h I L) = if sb w v = nn (tb (p + v)) then cR_word_35 (nn w) k f (nn (v + 1)) (hw h I L) else k (nn v) (hw h I L) := by
      intro k
      simp only [cR_word_35, bnd_e, cal_s, onr_s, jon_e, gI_hw, gL_hw, gT_hw, gR_hw, gN_hw, sI_hw, sL_hw, cV_hw, shS_hw, shC_hw, shL_hw, ← bt_def, e0, e2, nn_add]
      rw [if_neg (fun e => by have := (nn_le (by omega) (by omega)).mp e; omega), grd_pos (nn_inb (by omega) (by omega)), nn_clamp (by omega), ec_chr hw' (by omega)]
      simp only [bnd_e, cal_s, onr_s, jon_e, gI_hw, gL_hw, gT_hw, gR_hw, gN_hw, sI_hw, sL_hw, cV_hw, shS_hw, shC_hw, shL_hw, ← bt_def, e2, nn_add, nn_succ, nn_clamp (show p + v < 2147483648 by omega), tv]
      rw [grd_pos (nn_inb (by omega) (by omega))]
    by_cases z : sb w v = nn (tb (p + v))
    · obtain ⟨v', a1, a2, a3, a4, a5⟩ := ih (v + 1) f (by omega) (by omega)
      refine ⟨v', by omega, a2, fun i h1 h2 => ?_, a4, fun k => ?_⟩
      · by_cases y : i = v
        · rw [y]; exact z
        · exact a3 i (by omega) h2
      · rw [step, if_pos z]; exact a5 k
    · refine ⟨v, by omega, by omega, fun i h1 h2 => by omega, fun _ => z, fun k => ?_⟩
      rw [step, if_neg z]
theorem ec_w2 (T : LxT I J n tb) (hp : p + m ≤ n) (le : ∀ k, k < m → isL n tb (p + k) = true) (e0 : I 2 0 = nn (p + m)) (e2 : I 2 2 = nn p) :
    ∀ (j w fuel : Nat), w + j = 25 → j < fuel → ∃ r, cR_word_2 (fun H => some ((-1 : Int32), H)) fuel (nn w) (hw h I L) = some (r, hw h I L) ∧ ((∃ u, w ≤ u ∧ u < 25 ∧ r = nn u ∧ Mt tb p m u) ∨ (r = -1 ∧ ∀ u, w ≤ u → u < 25 → ¬ Mt tb p m u)) := by
  have hn := T.1
  intro j
  induction j with
  | zero =>
    intro w fuel hj hf
    obtain ⟨f, rfl⟩ : ∃ f, fuel = f + 1 := ⟨fuel - 1, by omega⟩
    refine ⟨-1, ?_, Or.inr ⟨rfl, fun u h1 h2 => by omega⟩⟩
    simp only [cR_word_2, bnd_e, cal_s, onr_s, jon_e, gI_hw, gL_hw, gT_hw, gR_hw, gN_hw, sI_hw, sL_hw, cV_hw, shS_hw, shC_hw, shL_hw, ← bt_def]
    rw [if_pos (show (25 : Int32) ≤ nn w from (nn_le (a := 25) (by omega) (by omega)).mpr (by omega))]
  | succ j ih =>
    intro w fuel hj hf
    obtain ⟨f, rfl⟩ : ∃ f, fuel = f + 1 := ⟨fuel - 1, by omega⟩
    have hw' : w < 25 := by omega
    have l6 : sLen.getD w 0 ≤ 6 := sl_6 ⟨w, hw'⟩
    obtain ⟨r, e, q⟩ := ih (w + 1) f (by omega) (by omega)
    have nxt : ¬ Mt tb p m w → ((∃ u, w ≤ u ∧ u < 25 ∧ r = nn u ∧ Mt tb p m u) ∨ (r = -1 ∧ ∀ u, w ≤ u → u < 25 → ¬ Mt tb p m u)) := by
      intro z
      rcases q with ⟨u, a, b, c, d⟩ | ⟨a, b⟩
      · exact Or.inl ⟨u, by omega, b, c, d⟩
      · refine Or.inr ⟨a, fun u h1 h2 => ?_⟩
        by_cases y : u = w
        · rw [y]; exact z
        · exact b u (by omega) h2
    have hd : ∀ k, cR_word_2 k (f + 1) (nn w) (hw h I L) = if nn (sLen.getD w 0) = nn m then cR_word_35 (nn w) (fun (x10 : Int32) (h11 : HP) => if ((gI h11 2 2) + x10) = (gI h11 2 0) then (some (nn w, h11)) else cR_word_2 k f (nn (w + 1)) h11) FU (nn 0) (hw h I L) else cR_word_2 k f (nn (w + 1)) (hw h I L) := by
      intro k
      simp only [cR_word_2, bnd_e, cal_s, onr_s, jon_e, gI_hw, gL_hw, gT_hw, gR_hw, gN_hw, sI_hw, sL_hw, cV_hw, shS_hw, shC_hw, shL_hw, ← bt_def, nn_clamp (show w < 2147483648 by omega), ec_len hw', e0, e2, nn_sub (show p ≤ p + m by omega), nn_succ, show p + m - p = m by omega, nn0]
      rw [if_neg (fun e => by have := (nn_le (a := 25) (by omega) (by omega)).mp e; omega), grd_pos (nn_inb (by omega) (by omega))]
    rw [hd]
    by_cases z : sLen.getD w 0 = m
    · rw [if_pos (by rw [z])]
      obtain ⟨v', a1, a2, a3, a4, a5⟩ := ec_w35 (h := h) (L := L) hw' z T hp le e0 e2 m 0 FU (by omega) (by show m < 1000; omega)
      rw [a5]
      simp only [bnd_e, cal_s, onr_s, jon_e, gI_hw, gL_hw, gT_hw, gR_hw, gN_hw, sI_hw, sL_hw, cV_hw, shS_hw, shC_hw, shL_hw, ← bt_def, e0, e2, nn_add]
      by_cases y : v' = m
      · rw [if_pos (by rw [y])]
        exact ⟨nn w, rfl, Or.inl ⟨w, by omega, hw', rfl, z, fun k hk => a3 k (by omega) (by omega)⟩⟩
      · rw [if_neg (fun e => y (by have := (nn_eq (by omega) (by omega)).mp e; omega))]
        exact ⟨r, e, nxt (fun q => a4 (by omega) (q.2 v' (by omega)))⟩
    · rw [if_neg (fun e => z ((nn_eq (by omega) (by omega)).mp e))]
      exact ⟨r, e, nxt (fun q => z q.1)⟩
theorem em_wa18 (W : wds (J 2)) {w : Nat} (hw' : w < 25) (f1 f2 f3 : Int32) : ∀ (j v fuel : Nat), v + j = mL w → j < fuel → ∀ k, m_wordAt_18 f1 f2 f3 (nn (mF w)) k fuel (nn v) (hw g J M) = k (nn (mL w)) (hw g J M) := by
  obtain ⟨w1, w2, w3, w4, w5, w6⟩ := mF_f ⟨w, hw'⟩
  simp only [] at w1 w2 w3 w4 w5 w6
  intro j
  induction j with
  | zero =>
    intro v fuel hv hf k
    obtain ⟨f, rfl⟩ : ∃ f, fuel = f + 1 := ⟨fuel - 1, by omega⟩
    simp only [m_wordAt_18, bnd_e, cal_s, onr_s, jon_e, gI_hw, gL_hw, gT_hw, gR_hw, gN_hw, sI_hw, sL_hw, cV_hw, shS_hw, shC_hw, shL_hw, ← bt_def, nn_add]
    have hv : v = mL w := by omega
    subst hv
    rw [grd_pos (nn_inb (by omega) (by omega)), nn_clamp (by omega), show J 2 (mF w + mL w) = wv (mF w + mL w) from W _ w1, if_pos w2]
  | succ j ih =>
    intro v fuel hv hf k
    obtain ⟨f, rfl⟩ : ∃ f, fuel = f + 1 := ⟨fuel - 1, by omega⟩
    simp only [m_wordAt_18, bnd_e, cal_s, onr_s, jon_e, gI_hw, gL_hw, gT_hw, gR_hw, gN_hw, sI_hw, sL_hw, cV_hw, shS_hw, shC_hw, shL_hw, ← bt_def, nn_add]
    rw [grd_pos (nn_inb (by omega) (by omega)), nn_clamp (by omega), show J 2 (mF w + v) = wv (mF w + v) from W _ (by omega), if_neg (show ¬ wv (mF w + v) = 32 from (mW_f ⟨w, hw'⟩ ⟨v, by omega⟩ (by show v < mL w; omega)).1), nn_succ]
    exact ih (v + 1) f (by omega) (by omega) k
theorem em_w57 (W : wds (J 2)) {w : Nat} (hw' : w < 25) (T : LxT I J n tb) (hp : p + mL w ≤ n) (f2 f3 : Int32) : ∀ (j v fuel : Nat), v + j = mL w → j + 1 < fuel → ∃ b : Bool, (b = true ↔ ∀ i, v ≤ i → i < mL w → wv (mF w + i) = nn (tb (p + i))) ∧ ∀ k, m_wordAt_57 (nn p) f2 f3 (nn (mF w)) (nn (mL w)) k fuel 1 (nn v) (hw g J M) = k (bI b) (hw g J M) := by
  obtain ⟨w1, w2, w3, w4, w5, w6⟩ := mF_f ⟨w, hw'⟩
  simp only [] at w1 w2 w3 w4 w5 w6
  have hn := T.1
  intro j
  induction j with
  | zero =>
    intro v fuel hv hf
    obtain ⟨f, rfl⟩ : ∃ f, fuel = f + 1 := ⟨fuel - 1, by omega⟩
    refine ⟨true, ⟨fun _ i h1 h2 => by omega, fun _ => rfl⟩, fun k => ?_⟩
    simp only [m_wordAt_57, bnd_e, cal_s, onr_s, jon_e, gI_hw, gL_hw, gT_hw, gR_hw, gN_hw, sI_hw, sL_hw, cV_hw, shS_hw, shC_hw, shL_hw, ← bt_def]
    rw [if_pos ((nn_le (by omega) (by omega)).mpr (by omega))]; rfl
  | succ j ih =>
    intro v fuel hv hf
    obtain ⟨f, rfl⟩ : ∃ f, fuel = f + 1 := ⟨fuel - 1, by omega⟩
    obtain ⟨f', rfl⟩ : ∃ f', f = f' + 1 := ⟨f - 1, by omega⟩
    have tv : J 1 (p + v) = nn (tb (p + v)) := (T.2 (p + v) (by omega)).2.2
    have hd : ∀ k, m_wordAt_57 (nn p) f2 f3 (nn (mF w)) (nn (mL w)) k (f' + 1 + 1) 1 (nn v) (hw g J M) = if wv (mF w + v) = nn (tb (p + v)) then m_wordAt_57 (nn p) f2 f3 (nn (mF w)) (nn (mL w)) k (f' + 1) 1 (nn (v + 1)) (hw g J M) else k 0 (hw g J M) := by
      intro k
      rw [m_wordAt_57]
      simp only [bnd_e, cal_s, onr_s, jon_e, gI_hw, gL_hw, gT_hw, gR_hw, gN_hw, sI_hw, sL_hw, cV_hw, shS_hw, shC_hw, shL_hw, ← bt_def, nn_add, nn_succ, nn_clamp (show mF w + v < 2147483648 by omega), nn_clamp (show p + v < 2147483648 by omega), tv]
      rw [if_neg (fun e => by have := (nn_le (by omega) (by omega)).mp e; omega), if_neg (by decide), grd_pos (nn_inb (by omega) (by omega)), grd_pos (nn_inb (by omega) (by omega)), W _ (by omega)]
      show (if wv (mF w + v) = nn (tb (p + v)) then _ else _) = _
      by_cases z : wv (mF w + v) = nn (tb (p + v))
      · rw [if_pos z, if_pos z]
      · rw [if_neg z, if_neg z, m_wordAt_57]
        by_cases y : nn (mL w) ≤ nn (v + 1)
        · rw [if_pos y]
        · rw [if_neg y, if_pos rfl]
    by_cases z : wv (mF w + v) = nn (tb (p + v))
    · obtain ⟨b, b1, b2⟩ := ih (v + 1) (f' + 1) (by omega) (by omega)
      refine ⟨b, b1.trans ⟨fun q i h1 h2 => ?_, fun q i h1 h2 => q i (by omega) h2⟩, fun k => by rw [hd, if_pos z]; exact b2 k⟩
      by_cases y : i = v
      · rw [y]; exact z
      · exact q i (by omega) h2
    · refine ⟨false, ⟨fun e => Bool.noConfusion e, fun q => absurd (q v (by omega) (by omega)) z⟩, fun k => by rw [hd, if_neg z]; rfl⟩
theorem em_w5 (W : wds (J 2)) (T : LxT I J n tb) (hp : p + m ≤ n) : ∀ (j w fuel : Nat), w + j = 25 → j < fuel → ∃ r, m_wordAt_5 (nn p) (nn (p + m)) (fun H => some ((-1 : Int32), H)) fuel (nn w) (nn (mF w)) (hw g J M) = some (r, hw g J M) ∧ ((∃ u, w ≤ u ∧ u < 25 ∧ r = nn u ∧ Mm tb p m u) ∨ (r = -1 ∧ ∀ u, w ≤ u → u < 25 → ¬ Mm tb p m u)) := by
  have hn := T.1
  intro j
  induction j with
  | zero =>
    intro w fuel hj hf
    obtain ⟨f, rfl⟩ : ∃ f, fuel = f + 1 := ⟨fuel - 1, by omega⟩
    have : w = 25 := by omega
    subst this
    refine ⟨-1, ?_, Or.inr ⟨rfl, fun u h1 h2 => by omega⟩⟩
    rw [m_wordAt_5, if_pos (by decide)]
  | succ j ih =>
    intro w fuel hj hf
    obtain ⟨f, rfl⟩ : ∃ f, fuel = f + 1 := ⟨fuel - 1, by omega⟩
    have hw' : w < 25 := by omega
    obtain ⟨w1, w2, w3, w4, w5, w6⟩ := mF_f ⟨w, hw'⟩
    simp only [] at w1 w2 w3 w4 w5 w6
    obtain ⟨r, e, q⟩ := ih (w + 1) f (by omega) (by omega)
    have nxt : ¬ Mm tb p m w → ((∃ u, w ≤ u ∧ u < 25 ∧ r = nn u ∧ Mm tb p m u) ∨ (r = -1 ∧ ∀ u, w ≤ u → u < 25 → ¬ Mm tb p m u)) := by
      intro z
      rcases q with ⟨u, a, b, c, d⟩ | ⟨a, b⟩
      · exact Or.inl ⟨u, by omega, b, c, d⟩
      · refine Or.inr ⟨a, fun u h1 h2 => ?_⟩
        by_cases y : u = w
        · rw [y]; exact z
        · exact b u (by omega) h2
    rw [m_wordAt_5, if_neg (fun e => by have := (nn_le (a := 124) (by omega) (by omega)).mp e; omega)]
    have w18 := em_wa18 (g := g) (M := M) W hw' (nn p) (nn (p + m)) (nn w) (mL w) 0 FU (by omega) (by show mL w < 1000; omega)
    rw [nn0] at w18
    simp only [bnd_e, cal_s, onr_s, jon_e, gI_hw, gL_hw, gT_hw, gR_hw, gN_hw, sI_hw, sL_hw, cV_hw, shS_hw, shC_hw, shL_hw, ← bt_def, w18, nn_sub (show p ≤ p + m by omega), show p + m - p = m by omega, nn_succ, nn_add]
    have e3 : nn (mF w + (mL w + 1)) = nn (mF (w + 1)) := by rw [w3, Nat.add_assoc]
    by_cases z : mL w = m
    · rw [if_pos (show nn (mL w) = nn m by rw [z])]
      obtain ⟨b, b1, b2⟩ := em_w57 (g := g) (M := M) W hw' T (show p + mL w ≤ n by omega) (nn (p + m)) (nn w) (mL w) 0 FU (by omega) (by show mL w + 1 < 1000; omega)
      rw [nn0] at b2
      rw [b2]
      cases b with
      | true =>
        rw [if_neg (by decide)]
        exact ⟨nn w, rfl, Or.inl ⟨w, by omega, hw', rfl, z, fun k hk => b1.mp rfl k (by omega) (by omega)⟩⟩
      | false =>
        rw [if_pos (by rfl), e3]
        exact ⟨r, e, nxt (fun q => by
          have := b1.mpr (fun i _ h2 => q.2 i (by omega))
          exact Bool.noConfusion this)⟩
    · rw [if_neg (show ¬ nn (mL w) = nn m from fun e => z ((nn_eq (by omega) (by omega)).mp e))]
      have z57 : ∀ k : Int32 → HP → Option (Int32 × HP), m_wordAt_57 (nn p) (nn (p + m)) (nn w) (nn (mF w)) (nn (mL w)) k FU 0 0 (hw g J M) = k 0 (hw g J M) := by
        intro k
        rw [show FU = 999 + 1 from rfl, m_wordAt_57]
        by_cases y : nn (mL w) ≤ 0
        · rw [if_pos y]
        · rw [if_neg y, if_pos rfl]
      rw [z57, if_pos rfl, e3]
      exact ⟨r, e, nxt (fun q => z q.1)⟩
theorem b_word (W : wds (J 2)) (T : LxT I J n tb) (hp : p + m ≤ n) (le : ∀ k, k < m → isL n tb (p + k) = true) (e0 : I 2 0 = nn (p + m)) (e2 : I 2 2 = nn p) : ∃ r r', cR_word (hw h I L) = some (r, hw h I L) ∧ m_wordAt (nn p) (nn (p + m)) (hw g J M) = some (r', hw g J M) ∧ ((∃ u, u < 25 ∧ r = nn u ∧ r' = nn (sw u)) ∨ (r = -1 ∧ r' = -1)) := by
  obtain ⟨r, e, q⟩ := ec_w2 (h := h) (L := L) T hp le e0 e2 25 0 FU (by omega) (by show 25 < 1000; omega)
  obtain ⟨r', e', q'⟩ := em_w5 (g := g) (M := M) W T hp 25 0 FU (by omega) (by show 25 < 1000; omega)
  refine ⟨r, r', ?_, ?_, ?_⟩
  · rw [nn0] at e; rw [cR_word, bnd_e, e]
  · rw [nn0, show mF 0 = 0 from rfl, nn0] at e'; rw [m_wordAt, bnd_e, bnd_e, e']
  · rcases q with ⟨u, -, hu, a, b⟩ | ⟨a, b⟩
    · rcases q' with ⟨u', -, hu', a', b'⟩ | ⟨a', b'⟩
      · have s := Mt_inj hu (mF_f ⟨u', hu'⟩).2.2.2.2.2 b ((Mm_Mt hu').mp b')
        simp only [] at s
        exact Or.inl ⟨u, hu, a, by rw [a', s, sw_sw ⟨u', hu'⟩]⟩
      · refine absurd ?_ (b' (sw u) (by omega) (mF_f ⟨u, hu⟩).2.2.2.2.2)
        refine (Mm_Mt (mF_f ⟨u, hu⟩).2.2.2.2.2).mpr ?_
        show Mt tb p m (sw (sw u))
        rw [sw_sw ⟨u, hu⟩]; exact b
    · rcases q' with ⟨u', -, hu', a', b'⟩ | ⟨a', b'⟩
      · exact absurd ((Mm_Mt hu').mp b') (b _ (by omega) (mF_f ⟨u', hu'⟩).2.2.2.2.2)
      · exact Or.inr ⟨a, a'⟩
end P22
