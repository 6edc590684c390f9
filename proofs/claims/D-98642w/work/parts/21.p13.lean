/-! PURE LEVEL 13: the model's core: who can ask, names, hearing, odds -/
def MC (I : Nat → Nat → Int32) (K : KT) : Prop :=
  (I 0 12 = nn (zF K) ∧ I 0 13 = nn (zP K) ∧ I 0 14 = nn (zQ K) ∧ I 0 15 = nn (zT K) ∧ I 0 16 = nn (zKn K)) ∧ (I 4 0 = zt K 0 0 ∧ I 4 1 = zt K 0 1) ∧ (∀ k, k < zF K → I 5 k = zt K 1 k) ∧
  (∀ k, k < zP K → I 6 k = zt K 2 k ∧ I 7 k = zt K 3 k ∧ I 8 k = zt K 4 k ∧ I 9 k = zt K 5 k ∧ I 10 k = zt K 6 k) ∧
  (∀ k, k < zQ K → I 11 k = zt K 7 k ∧ I 12 k = zt K 8 k ∧ I 13 k = zt K 9 k ∧ I 14 k = zt K 10 k ∧ I 15 k = zt K 11 k) ∧
  (∀ k, k < zT K → I 16 k = zt K 12 k ∧ I 17 k = zt K 13 k ∧ I 18 k = zt K 14 k) ∧ ∀ j, j < 2 → ML I (zl K j) j
def MW (I : Nat → Nat → Int32) (K : KT) : Prop := MC I K ∧ WK K
/-- the model's state b (0 as it is, 1 as it is tried) -/
def StM (I : Nat → Nat → Int32) (b : Nat) (P : Nat) (S : ST) : Prop := (∀ p, p < P → I 29 (5 * b + p) = sk S p ∧ I 31 (5 * b + p) = sr S p ∧ I 30 (5 * b + p) = sl S p ∧ I 32 (5 * b + p) = sa S p) ∧ I 33 b = sd S
def FlM (I : Nat → Nat → Int32) (F : FT) : Prop := I 0 64 = bI (decide (F.1 = 0)) ∧ I 0 65 = bI (decide (F.1 = 4)) ∧ I 0 66 = F.2.2 ∧ I 0 67 = if F.1 = 3 then F.2.1 else -1
/-- ints outside of a state's half and the error's flag -/
def frM (b : Nat) (I I' : Nat → Nat → Int32) : Prop := (∀ x, x ≠ 0 → x ≠ 29 → x ≠ 30 → x ≠ 32 → I' x = I x) ∧ (∀ k, k ≠ 54 → I' 0 k = I 0 k) ∧ ∀ k, k < 5 * b ∨ 5 * b + 5 ≤ k → I' 29 k = I 29 k ∧ I' 30 k = I 30 k ∧ I' 32 k = I 32 k
theorem frM.rfl (b : Nat) (I : Nat → Nat → Int32) : frM b I I := ⟨fun _ _ _ _ _ => Eq.refl _, fun _ _ => Eq.refl _, fun _ _ => ⟨Eq.refl _, Eq.refl _, Eq.refl _⟩⟩
theorem frM.tr {b : Nat} {I I1 I2 : Nat → Nat → Int32} (a : frM b I I1) (c : frM b I1 I2) : frM b I I2 :=
  ⟨fun x h0 h1 h2 h3 => (c.1 x h0 h1 h2 h3).trans (a.1 x h0 h1 h2 h3), fun k hk => (c.2.1 k hk).trans (a.2.1 k hk), fun k hk => ⟨(c.2.2 k hk).1.trans (a.2.2 k hk).1, (c.2.2 k hk).2.1.trans (a.2.2 k hk).2.1, (c.2.2 k hk).2.2.trans (a.2.2 k hk).2.2⟩⟩
theorem frM.er (b : Nat) (I : Nat → Nat → Int32) (v : Int32) : frM b I (u2 I 0 54 v) := ⟨fun x h0 _ _ _ => u2_ne h0, fun k hk => u2_nk _ _ hk, fun k _ => ⟨by rw [u2_ne (by decide)], by rw [u2_ne (by decide)], by rw [u2_ne (by decide)]⟩⟩
theorem frM.st {b a k : Nat} (I : Nat → Nat → Int32) (v : Int32) (ha : a = 29 ∨ a = 30 ∨ a = 32) (h1 : 5 * b ≤ k) (h2 : k < 5 * b + 5) : frM b I (u2 I a k v) :=
  ⟨fun x h0 h3 h4 h5 => u2_ne (by omega), fun j _ => by rw [u2_ne (by omega)], fun j hj => ⟨u2_nk _ _ (by omega), u2_nk _ _ (by omega), u2_nk _ _ (by omega)⟩⟩
theorem ML.fr {I I' : Nat → Nat → Int32} {l : Option LF} {j : Nat} (f : ∀ x, 19 ≤ x → x ≤ 24 → I' x = I x) (q : ML I l j) : ML I' l j := by
  unfold ML at q ⊢
  cases l with
  | none => rw [f 19 (by omega) (by omega)]; exact q
  | some g => 
    rw [f 19 (by omega) (by omega), f 20 (by omega) (by omega), f 21 (by omega) (by omega), f 22 (by omega) (by omega), f 23 (by omega) (by omega), f 24 (by omega) (by omega)]; exact q
theorem MC.fr {I I' : Nat → Nat → Int32} {K : KT} (f : ∀ x, 4 ≤ x → x ≤ 24 → I' x = I x) (g : ∀ k, 12 ≤ k → k ≤ 16 → I' 0 k = I 0 k) (q : MC I K) : MC I' K := by
  obtain ⟨q1, q2, q3, q4, q5, q6, q7⟩ := q
  unfold MC
  rw [g 12 (by omega) (by omega), g 13 (by omega) (by omega), g 14 (by omega) (by omega), g 15 (by omega) (by omega), g 16 (by omega) (by omega), f 4 (by omega) (by omega), f 5 (by omega) (by omega), f 6 (by omega) (by omega), f 7 (by omega) (by omega), f 8 (by omega) (by omega), f 9 (by omega) (by omega), f 10 (by omega) (by omega), f 11 (by omega) (by omega), f 12 (by omega) (by omega), f 13 (by omega) (by omega), f 14 (by omega) (by omega), f 15 (by omega) (by omega), f 16 (by omega) (by omega), f 17 (by omega) (by omega), f 18 (by omega) (by omega)]
  exact ⟨q1, q2, q3, q4, q5, q6, fun j hj => (q7 j hj).fr (fun x h1 h2 => f x (by omega) h2)⟩
theorem MW.fr {b : Nat} {I I' : Nat → Nat → Int32} {K : KT} (f : frM b I I') (q : MW I K) : MW I' K := ⟨q.1.fr (fun x h1 h2 => f.1 x (by omega) (by omega) (by omega) (by omega)) (fun k h1 h2 => f.2.1 k (by omega)), q.2⟩
theorem FlM.fr {b : Nat} {I I' : Nat → Nat → Int32} {F : FT} (f : frM b I I') (q : FlM I F) : FlM I' F := by
  unfold FlM
  rw [f.2.1 64 (by decide), f.2.1 65 (by decide), f.2.1 66 (by decide), f.2.1 67 (by decide)]; exact q
theorem StM.er {I : Nat → Nat → Int32} {b P : Nat} {S : ST} (v : Int32) (q : StM I b P S) : StM (u2 I 0 54 v) b P S := by
  unfold StM
  rw [u2_ne (show 29 ≠ 0 by decide), u2_ne (show 30 ≠ 0 by decide), u2_ne (show 31 ≠ 0 by decide), u2_ne (show 32 ≠ 0 by decide), u2_ne (show 33 ≠ 0 by decide)]; exact q
theorem n5 (b p : Nat) : (5 : Int32) * nn b + nn p = nn (5 * b + p) := by
  rw [show (5 : Int32) = nn 5 from rfl, nn_mul, nn_add]
theorem bt01 (x k : Int32) : bt x k = 0 ∨ bt x k = 1 := by
  have h1 : (bt x k).toBitVec.toNat < 2 := by
    show ((x >>> (k &&& 31)).toBitVec &&& 1#32).toNat < 2
    rw [BitVec.toNat_and]
    exact Nat.lt_of_le_of_lt Nat.and_le_right (by decide)
  have h2 : bt x k = nn (bt x k).toBitVec.toNat := by
    apply Int32.toBitVec_inj.1
    show (bt x k).toBitVec = BitVec.ofNat 32 (bt x k).toBitVec.toNat
    rw [BitVec.ofNat_toNat, BitVec.setWidth_eq]
  rw [h2]
  rcases (show (bt x k).toBitVec.toNat = 0 ∨ (bt x k).toBitVec.toNat = 1 by omega) with z | z
  · left; rw [z]; rfl
  · right; rw [z]; rfl
theorem bt1 {x k : Int32} : bt x k = 1 ↔ ¬ bt x k = 0 := by
  rcases bt01 x k with z | z <;> rw [z] <;> decide
section M3
variable {h : HP} {K : KT} {F : FT} {S : ST}
theorem em_isOf (x k : Int32) (H : HP) : m_isOf x k H = some (bI (decide (¬ bt x k = 0)), H) := by
  simp only [m_isOf, ← bt_def]
  by_cases z : bt x k = 0
  · rw [if_neg (by rw [z]; decide), decide_eq_false (fun y => y z)]; rfl
  · rw [if_pos (bt1.mpr z), decide_eq_true z]; rfl
def zmN (x : Int32) : Nat → Int32
  | 0 => 0
  | i + 1 => zmN x i + bt x (nn i)
theorem zm8 : ∀ n : Fin 256, zmN (nn n) 8 = zbc (nn n) := by decide +kernel
theorem em_many4 (x : Int32) (H : HP) : ∀ (j i fuel : Nat), i + j = 8 → j < fuel → ∀ k, m_manyOf_4 x k fuel (zmN x i) (nn i) H = k (zmN x 8) H := by
  intro j
  induction j with
  | zero =>
    intro i fuel hi hf k
    obtain ⟨n, rfl⟩ : ∃ n, fuel = n + 1 := ⟨fuel - 1, by omega⟩
    rw [show i = 8 by omega, m_manyOf_4]
    exact if_pos (by decide)
  | succ j ih =>
    intro i fuel hi hf k
    obtain ⟨n, rfl⟩ : ∃ n, fuel = n + 1 := ⟨fuel - 1, by omega⟩
    have nle : ¬ (8 : Int32) ≤ nn i := nn_nle (n := 8) (by omega) (by omega)
    rw [m_manyOf_4]
    simp only [bnd_e, cal_s, onr_s, jon_e, gI_hw, gL_hw, gT_hw, gR_hw, gN_hw, sI_hw, sL_hw, cV_hw, shS_hw, shC_hw, shL_hw, ← bt_def, if_neg nle, nn_succ]
    exact ih (i + 1) n (by omega) (by omega) k
theorem em_many {x : Int32} (hx : x &&& 255 = x) (H : HP) : m_manyOf x H = some (zbc x, H) := by
  obtain ⟨n, rfl⟩ := and255 hx
  rw [← zm8 n]
  have e := em_many4 (nn n) H 8 0 FU (by omega) (by show 8 < 1000; omega) (fun x5 h6 => some (x5, h6))
  rw [show zmN (nn n) 0 = 0 from rfl, nn0] at e
  rw [m_manyOf, bnd_e, bnd_e]
  exact e
theorem okF_neg {x : Int32} (hx : okF x) : (0 ≤ x ↔ ¬ x = -1) ∧ (x < 0 ↔ x = -1) := by
  rcases hx with rfl | ⟨f, hf, rfl⟩
  · decide
  · have : f = 0 ∨ f = 1 ∨ f = 2 ∨ f = 3 ∨ f = 4 ∨ f = 5 ∨ f = 6 ∨ f = 7 := by omega
    rcases this with rfl | rfl | rfl | rfl | rfl | rfl | rfl | rfl <;> decide
theorem em_supposed {I : Nat → Nat → Int32} {L : Nat → Nat → Int64} (M : MW I K) {q : Nat} (hq : q < zQ K) : m_supposed (nn q) (hw h I L) = some (zsup K q, hw h I L) := by
  have hQ := M.2.1.2.2.1
  have hq2 : q < 2147483648 := by omega
  have i1 : inb (nn q) 16 := nn_inb hq2 (by omega)
  obtain ⟨e1, e2, e3, e4, e5⟩ := M.1.2.2.2.2.1 q hq
  obtain ⟨-, o1, o2, -⟩ := M.2.2.2.1 q hq
  obtain ⟨a1, -⟩ := okF_neg o1
  obtain ⟨-, b1⟩ := okF_neg o2
  simp only [m_supposed, bnd_e, cal_s, onr_s, jon_e, gI_hw, gL_hw, gT_hw, gR_hw, gN_hw, sI_hw, sL_hw, cV_hw, shS_hw, shC_hw, shL_hw, ← bt_def, grd_pos i1, nn_clamp hq2, e2, e3, e4, a1, b1]
  unfold zsup z1
  by_cases x1 : zt K 9 q = -1 <;> by_cases x2 : zt K 8 q = 1 <;> by_cases x3 : zt K 10 q = -1 <;> simp only [x1, x2, x3, if_true, if_false, not_true_eq_false, not_false_eq_true, Int32.or_zero]
theorem em_can {I : Nat → Nat → Int32} {L : Nat → Nat → Int64} (M : MW I K) {b : Nat} (hb : b < 2) (hS : StM I b (zP K) S) (fl : FlM I F) {cnt : Bool} (h9 : I 0 63 = bI (!cnt)) {a c q : Nat} (ha : a < zP K) (hc : c < zP K) (hq : q < zQ K) : m_canAsk (nn b) (nn a) (nn c) (nn q) (hw h I L) = some (bI (zcan K F S a c q cnt), hw h I L) := by
  have hP := M.2.1.2.1
  have hQ := M.2.1.2.2.1
  have ha2 : a < 2147483648 := by omega
  have hc2 : c < 2147483648 := by omega
  have i1 : inb (nn (5 * b + a)) 10 := nn_inb (by omega) (by omega)
  have i2 : inb (nn (5 * b + c)) 10 := nn_inb (by omega) (by omega)
  have i3 : inb (0 : Int32) 4 := by decide
  obtain ⟨k1, k2, k3, k4⟩ := hS.1 a ha
  obtain ⟨j1, j2, j3, j4⟩ := hS.1 c hc
  obtain ⟨f1, f2, f3, f4⟩ := fl
  have e40 : I 4 0 = zt K 0 0 := M.1.2.1.1
  have eq67 : (nn q = if F.1 = 3 then F.2.1 else -1) ↔ (F.1 = 3 ∧ F.2.1 = nn q) := by
    by_cases z : F.1 = 3
    · rw [if_pos z]; exact ⟨fun y => ⟨z, y.symm⟩, fun y => y.2.symm⟩
    · rw [if_neg z]
      refine ⟨fun y => ?_, fun y => absurd y.1 z⟩
      have : nn q < 0 := by rw [y]; decide
      exact absurd this (nn_nonneg (by omega))
  simp only [m_canAsk, bnd_e, cal_s, onr_s, jon_e, gI_hw, gL_hw, gT_hw, gR_hw, gN_hw, sI_hw, sL_hw, cV_hw, shS_hw, shC_hw, shL_hw, ← bt_def, n5, nn_eq ha2 hc2, grd_pos i1, grd_pos i2, grd_pos i3, nn_clamp (show 5 * b + a < 2147483648 by omega), nn_clamp (show 5 * b + c < 2147483648 by omega), k1, k2, k4, j2, em_isOf, f3, f4, eq67, em_supposed M hq, h9, tn0, e40, bI_eq0]
  unfold zcan ztog
  generalize zsup K q &&& (sk S a ^^^ (-1 : Int32)) = X
  have le_lt : zt K 0 0 ≤ sa S a ↔ ¬ sa S a < zt K 0 0 := Int32.not_lt.symm
  simp only [le_lt]
  by_cases x0 : a = c
  · simp [x0, bI]
  · by_cases x1 : bt F.2.2 (nn a) = 0
    · by_cases x2 : bt F.2.2 (nn c) = 0
      · by_cases x3 : sr S a = sr S c
        · cases cnt <;> by_cases x4 : F.1 = 3 <;> by_cases x5 : F.2.1 = nn q <;> by_cases x6 : sa S a < zt K 0 0 <;> by_cases x7 : X = 0 <;> simp [x0, x1, x2, x3, x4, x5, x6, x7, bI]
        · simp [x0, x1, x2, x3, bI]
      · by_cases x3 : sr S a = sr S c <;> simp [x0, x1, x2, x3, bI]
    · by_cases x3 : sr S a = sr S c <;> simp [x0, x1, x3, bI]
theorem em_wit {I : Nat → Nat → Int32} {L : Nat → Nat → Int64} (M : MW I K) (fl : FlM I F) {p : Nat} (hp : p < zP K) : m_witOf (nn p) (hw h I L) = some (zwit K F p, hw h I L) := by
  have hP := M.2.1.2.1
  have i1 : inb (nn p) 10 := nn_inb (by omega) (by omega)
  obtain ⟨e1, e2, e3, e4, e5⟩ := M.1.2.2.2.1 p hp
  simp only [m_witOf, bnd_e, cal_s, onr_s, jon_e, gI_hw, gL_hw, gT_hw, gR_hw, gN_hw, sI_hw, sL_hw, cV_hw, shS_hw, shC_hw, shL_hw, ← bt_def, fl.2.1, grd_pos i1, nn_clamp (show p < 2147483648 by omega), e3, zwit, bI_eq0, decide_eq_false_iff_not]
  by_cases z : F.1 = 4
  · rw [if_neg (fun y => y z), if_pos z]
  · rw [if_pos z, if_neg z]
theorem em_names {I : Nat → Nat → Int32} {L : Nat → Nat → Int64} (M : MW I K) {b : Nat} (hb : b < 2) (hS : StM I b (zP K) S) (ws : WS (zP K) S) (fl : FlM I F) {p q : Nat} (hp : p < zP K) (hq : q < zQ K) : m_layNames (nn b) (nn p) (nn q) (hw h I L) = some ((), hw h I (nmL L 27 (zN K F S p q))) := by
  have hP := M.2.1.2.1
  have hQ := M.2.1.2.2.1
  have i1 : inb (nn (5 * b + p)) 10 := nn_inb (by omega) (by omega)
  have i2 : inb (nn p) 10 := nn_inb (by omega) (by omega)
  have i3 : inb (nn q) 16 := nn_inb (by omega) (by omega)
  have i4 : inb (nn b) 2 := nn_inb (by omega) hb
  obtain ⟨k1, k2, k3, k4⟩ := hS.1 p hp
  obtain ⟨e1, e2, e3, e4, e5⟩ := M.1.2.2.2.1 p hp
  obtain ⟨q1, q2, q3, q4, q5⟩ := M.1.2.2.2.2.1 q hq
  simp only [m_layNames, bnd_e, cal_s, onr_s, jon_e, gI_hw, gL_hw, gT_hw, gR_hw, gN_hw, sI_hw, sL_hw, cV_hw, shS_hw, shC_hw, shL_hw, ← bt_def, n5, grd_pos i1, grd_pos i2, grd_pos i3, grd_pos i4, grd_pos ib0, grd_pos ib1, grd_pos ib2, grd_pos ib3, grd_pos ib4, grd_pos ib5, grd_pos ib6, tn0, tn1, tn2, tn3, tn4, tn5, tn6, nn_clamp (show p < 2147483648 by omega), nn_clamp (show q < 2147483648 by omega), nn_clamp (show b < 2147483648 by omega), nn_clamp (show 5 * b + p < 2147483648 by omega), e2, em_wit M fl hp, k1, k2, k3, em_many (ws p hp), q2, hS.2]
  rfl
theorem em_hears {I : Nat → Nat → Int32} {L : Nat → Nat → Int64} (M : MW I K) {b : Nat} (hb : b < 2) (hS : StM I b (zP K) S) (ws : WS (zP K) S) (fl : FlM I F) {p q : Nat} (hp : p < zP K) (hq : q < zQ K) : ∃ v L', m_hears (nn b) (nn p) (nn q) (hw h I L) = some (bI (zhear K F S p q), hw h (u2 I 0 54 v) L') ∧ ∀ x, x ≠ 27 → x ≠ 28 → L' x = L x := by
  have hQ := M.2.1.2.2.1
  have hq2 : q < 2147483648 := by omega
  have i1 : inb (nn q) 16 := nn_inb hq2 (by omega)
  have i3 : inb (1 : Int32) 4 := by decide
  obtain ⟨q1, q2, q3, q4, q5⟩ := M.1.2.2.2.2.1 q hq
  have ml := M.1.2.2.2.2.2.2 1 (by decide)
  have hd : ∀ (j1 : Int32 → HP → Option (Int32 × HP)), (if zt K 8 q = 2 then (if zwit K F p < 5 then j1 0 (hw h I L) else j1 1 (hw h I L)) else j1 1 (hw h I L)) = j1 (bI (zheard K F p q)) (hw h I L) := by
    intro j1
    unfold zheard
    by_cases z : zt K 8 q = 2
    · rw [if_pos z, decide_eq_false (fun y => y z)]
      by_cases z2 : zwit K F p < 5
      · rw [if_pos z2, decide_eq_false (fun y => absurd z2 (Int32.not_lt.mpr y))]; rfl
      · rw [if_neg z2, decide_eq_true (Int32.not_lt.mp z2)]; rfl
    · rw [if_neg z, decide_eq_true z]; rfl
  unfold zhear zlaw
  cases hl : zl K 1 with
  | none =>
    rw [hl] at ml
    have ml : I 19 1 = 0 := ml
    refine ⟨I 0 54, L, ?_, fun _ _ _ => rfl⟩
    rw [u2_id rfl]
    simp only [m_hears, bnd_e, cal_s, onr_s, jon_e, gI_hw, gL_hw, gT_hw, gR_hw, gN_hw, sI_hw, sL_hw, cV_hw, shS_hw, shC_hw, shL_hw, ← bt_def, grd_pos i1, nn_clamp hq2, q2, em_wit M fl hp, grd_pos i3, tn1, ml, if_true]
    have := hd (fun x H => grd (isB x) (some (x, H)))
    simp only [grd_pos (isB_bI _)] at this
    exact this
  | some f =>
    rw [hl] at ml
    have m1 : ¬ I 19 1 = 0 := by rw [ml.1]; decide
    obtain ⟨L', e1, f1⟩ := em_lawOf (h := h) (N := zN K F S p q) (L := nmL L 27 (zN K F S p q)) (by decide) ml (nmL_at L 27 _)
    have e1 : m_lawOf 1 (hw h I (nmL L 27 (zN K F S p q))) = _ := e1
    have en := em_names (h := h) (L := L) M hb hS ws fl hp hq
    refine ⟨bI (f (zN K F S p q)).isNone, L', ?_, fun x h1 h2 => by rw [f1 x h2, nmL_ne _ _ _ h1]⟩
    simp only [m_hears, bnd_e, cal_s, onr_s, jon_e, gI_hw, gL_hw, gT_hw, gR_hw, gN_hw, sI_hw, sL_hw, cV_hw, shS_hw, shC_hw, shL_hw, ← bt_def, grd_pos i1, nn_clamp hq2, q2, em_wit M fl hp, grd_pos i3, tn1, if_neg m1, en, e1]
    have := hd (fun x H => if erI I (f (zN K F S p q)) 0 54 = 0 then (if lg_cmp ((f (zN K F S p q)).getD 0) 0 = 0 then some ((0 : Int32), hw h (erI I (f (zN K F S p q))) L') else some (1, hw h (erI I (f (zN K F S p q))) L')) else grd (isB x) (some (x, hw h (erI I (f (zN K F S p q))) L')))
    refine this.trans ?_
    cases hf : f (zN K F S p q) with
    | none =>
      simp only [erI, Option.isNone_none, bI_t, u2_same, if_neg i10, grd_pos (isB_bI _)]
    | some v =>
      simp only [erI, Option.isNone_some, bI_f, u2_same, if_true, Option.getD_some, lg0]
      by_cases z : v = 0
      · rw [if_pos z, decide_eq_false (fun y => y z)]; rfl
      · rw [if_neg z, decide_eq_true z]; rfl
theorem zclamp_eq {v : Int64} : zclamp v = if 0 ≤ lg_cmp v 0 then (if lg_cmp v 100 ≤ 0 then v.toInt32 else 100) else 0 := by
  unfold zclamp
  simp only [lg_ge, lg_le]
  by_cases a : v < 0
  · have b : v < 100 := by rw [Int64.lt_iff_toInt_lt] at a ⊢; rw [show (0 : Int64).toInt = 0 from rfl] at a; rw [show (100 : Int64).toInt = 100 from rfl]; omega
    rw [if_pos b, if_pos a, if_neg (fun y => y a)]; rfl
  · by_cases b : v < 100
    · rw [if_pos b, if_neg a, if_pos a, if_pos (Int64.lt_asymm b)]
    · rw [if_neg b, if_neg (by decide), if_pos a]
      by_cases c : 100 < v
      · rw [if_neg (fun y => y c)]; rfl
      · have : v = 100 := by
          apply Int64.toInt_inj.mp
          rw [Int64.lt_iff_toInt_lt] at b c
          omega
        rw [if_pos c, this]
theorem em_slipOf {I : Nat → Nat → Int32} {L : Nat → Nat → Int64} (M : MW I K) {b : Nat} (hb : b < 2) (hS : StM I b (zP K) S) (ws : WS (zP K) S) (fl : FlM I F) (h0 : ¬ F.1 = 0) {p q : Nat} (hp : p < zP K) (hq : q < zQ K) : ∃ v L', m_slipOf (nn b) (nn p) (nn q) (hw h I L) = some (zodds K F S p q, hw h (u2 I 0 54 v) L') ∧ ∀ x, x ≠ 27 → x ≠ 28 → L' x = L x := by
  have hP := M.2.1.2.1
  have i1 : inb (nn p) 10 := nn_inb (by omega) (by omega)
  have i3 : inb (0 : Int32) 4 := by decide
  obtain ⟨e1, e2, e3, e4, e5⟩ := M.1.2.2.2.1 p hp
  have ml := M.1.2.2.2.2.2.2 0 (by decide)
  unfold zodds zlaw
  rw [if_neg h0]
  cases hl : zl K 0 with
  | none =>
    rw [hl] at ml
    have ml : I 19 0 = 0 := ml
    refine ⟨I 0 54, L, ?_, fun _ _ _ => rfl⟩
    rw [u2_id rfl]
    simp only [m_slipOf, bnd_e, cal_s, onr_s, jon_e, gI_hw, gL_hw, gT_hw, gR_hw, gN_hw, sI_hw, sL_hw, cV_hw, shS_hw, shC_hw, shL_hw, ← bt_def, grd_pos i1, nn_clamp (show p < 2147483648 by omega), e2, grd_pos i3, tn0, ml, if_true]
  | some f =>
    rw [hl] at ml
    have m1 : ¬ I 19 0 = 0 := by rw [ml.1]; decide
    obtain ⟨L', e1, f1⟩ := em_lawOf (h := h) (N := zN K F S p q) (L := nmL L 27 (zN K F S p q)) (by decide) ml (nmL_at L 27 _)
    have e1 : m_lawOf 0 (hw h I (nmL L 27 (zN K F S p q))) = _ := e1
    have en := em_names (h := h) (L := L) M hb hS ws fl hp hq
    refine ⟨bI (f (zN K F S p q)).isNone, L', ?_, fun x h1 h2 => by rw [f1 x h2, nmL_ne _ _ _ h1]⟩
    simp only [m_slipOf, bnd_e, cal_s, onr_s, jon_e, gI_hw, gL_hw, gT_hw, gR_hw, gN_hw, sI_hw, sL_hw, cV_hw, shS_hw, shC_hw, shL_hw, ← bt_def, grd_pos i1, nn_clamp (show p < 2147483648 by omega), e2, grd_pos i3, tn0, if_neg m1, en, e1]
    cases hf : f (zN K F S p q) with
    | none => simp only [erI, Option.isNone_none, bI_t, u2_same, if_neg i10]
    | some v =>
      simp only [erI, Option.isNone_some, bI_f, u2_same, if_true, Option.getD_some, zclamp_eq]
      by_cases z : 0 ≤ lg_cmp v 0
      · rw [if_pos z, if_pos z]
        by_cases z2 : lg_cmp v 100 ≤ 0
        · rw [if_pos z2, if_pos z2]
        · rw [if_neg z2, if_neg z2]
      · rw [if_neg z, if_neg z]
end M3
