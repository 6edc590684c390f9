/-! PURE LEVEL 26: care -/
def zex (S : ST) (p : Nat) (x : Int32) : Nat → Bool
  | 0 => false
  | n + 1 => zex S p x n || (decide (n ≠ p) && (decide (sr S n = sr S p) && decide (bt (sk S n) x = 0)))
def ztrap (K : KT) (F : FT) (S : ST) (a p q : Nat) : Bool := zcan K F S a p q true && ((zask K F S a p q false 0).1 && zex S p (zasks K q) (zP K))
def ztrN (K : KT) (F : FT) (S : ST) (p q : Nat) : Nat → Bool
  | 0 => false
  | n + 1 => ztrN K F S p q n || ztrap K F S n p q
theorem or_stay {f : Nat → Bool} {e : Nat → Bool} (hf : ∀ n, f (n + 1) = (f n || e n)) {i : Nat} (h : f i = true) : ∀ d, f (i + d) = true
  | 0 => h
  | d + 1 => by rw [show i + (d + 1) = (i + d) + 1 by omega, hf, or_stay hf h d]; rfl
theorem bt0 (k : Int32) : bt 0 k = 0 := by
  unfold bt
  rw [Int32.zero_shiftRight]; rfl
theorem ztog0 {w : Int32} {S : ST} {a b : Nat} : ztog (-1, w, 0) S a b = decide (sr S a = sr S b) := by
  unfold ztog
  rw [show ((-1, w, 0) : FT).2.2 = 0 from rfl, bt0, bt0]; rfl
section B8
variable {h g : HP} {I0 J0 : Nat → Nat → Int32} {M0 : Nat → Nat → Int64} {c : Nat} {K : KT} {A : Nat → Nat → Nat} {w : Int32} {S : ST}
theorem ec_trap1 {I : Nat → Nat → Int32} {L : Nat → Nat → Int64} (W : CW h I c K A) (s : StC I 20 (zP K) (-1, w, 0) S) {p : Nat} (hp : p < zP K) (x : Int32) : ∀ (j i n : Nat), i + j = zP K → j < n → zex S p x i = false → cA_isTrap_87 (nn p) x (fun h33 => some (0, h33)) n (nn i) (hw h I L) = some (bI (zex S p x (zP K)), hw h I L) := by
  have hP := W.p5
  intro j
  induction j with
  | zero =>
    intro i n hi hn hz
    obtain ⟨n, rfl⟩ : ∃ n', n = n' + 1 := ⟨n - 1, by omega⟩
    rw [cA_isTrap_87]
    simp only [bnd_e, cal_s, onr_s, jon_e, gI_hw, gL_hw, gT_hw, gR_hw, gN_hw, sI_hw, sL_hw, cV_hw, shS_hw, shC_hw, shL_hw, ← bt_def, ec_persons W, if_pos (nn_ple (show zP K ≤ i by omega) (show i < 2147483648 by omega))]
    rw [show zP K = i by omega, hz]; rfl
  | succ j ih =>
    intro i n hi hn hz
    obtain ⟨n, rfl⟩ : ∃ n', n = n' + 1 := ⟨n - 1, by omega⟩
    have hip : i < zP K := by omega
    have k1 : I 21 i = sk S i := (s.1 i hip).1
    have i5 : inb (nn i) 5 := nn_inb (by omega) (by omega)
    rw [cA_isTrap_87]
    simp only [bnd_e, cal_s, onr_s, jon_e, gI_hw, gL_hw, gT_hw, gR_hw, gN_hw, sI_hw, sL_hw, cV_hw, shS_hw, shC_hw, shL_hw, ← bt_def, ec_persons W, if_neg (nn_nle hip (show zP K < 2147483648 by omega)), nn_eq (show i < 2147483648 by omega) (show p < 2147483648 by omega), ec_tog (sh20 h) hP s hip hp, ztog0, bI_eq0, grd_pos i5, nn_clamp (show i < 2147483648 by omega), k1, nn_succ]
    have e1 : zex S p x (i + 1) = (zex S p x i || (decide (i ≠ p) && (decide (sr S i = sr S p) && decide (bt (sk S i) x = 0)))) := rfl
    have nx := ih (i + 1) n (by omega) (by omega)
    by_cases z1 : i = p
    · rw [if_pos z1]
      exact nx (by rw [e1, hz, decide_eq_false (fun y => y z1)]; rfl)
    · rw [if_neg z1]
      by_cases z2 : sr S i = sr S p
      · rw [decide_eq_true z2, if_neg (by decide)]
        by_cases z3 : bt (sk S i) x = 0
        · rw [if_pos z3]
          have := or_stay (f := zex S p x) (fun n => rfl) (i := i + 1) (by rw [e1, decide_eq_true z1, decide_eq_true z2, decide_eq_true z3, Bool.or_eq_true]; exact Or.inr rfl) j
          rw [show i + 1 + j = zP K by omega] at this
          rw [this]; rfl
        · rw [if_neg z3]
          exact nx (by rw [e1, hz, decide_eq_false z3, Bool.and_false, Bool.and_false]; rfl)
      · rw [decide_eq_false z2, if_pos rfl]
        exact nx (by rw [e1, hz, decide_eq_false z2, Bool.false_and, Bool.and_false]; rfl)
theorem ec_isTrap {I : Nat → Nat → Int32} {L : Nat → Nat → Int64} (W : CW h I c K A) (s : StC I 20 (zP K) (-1, w, 0) S) {a p q : Nat} (ha : a < zP K) (hp : p < zP K) (hq : q < zQ K) : ∃ I' L', cA_isTrap (nn a) (nn p) (nn q) (hw h I L) = some (bI (ztrap K (-1, w, 0) S a p q), hw h I' L') ∧ frA I I' := by
  have ec : cS_can 20 (nn a) (nn p) (nn q) 1 (hw h I L) = _ := ec_can (L := L) W (sh20 h) s ha hp hq true
  unfold ztrap
  cases z1 : zcan K (-1, w, 0) S a p q true with
  | false =>
    rw [z1, bI_f] at ec
    refine ⟨I, L, ?_, frA.rfl I⟩
    simp only [cA_isTrap, bnd_e, cal_s, onr_s, jon_e, gI_hw, gL_hw, gT_hw, gR_hw, gN_hw, sI_hw, sL_hw, cV_hw, shS_hw, shC_hw, shL_hw, ← bt_def, ec, if_true, Bool.false_and, bI_f]
  | true =>
    rw [z1, bI_t] at ec
    obtain ⟨I1, e1, s1, f1, -⟩ := ec_other (L := L) W s
    obtain ⟨I2, L2, e2, s2, f2, -, -⟩ := ec_ask (L := L) (W.frA f1) (sh25 h) s1 ha hp hq false
    have e2 : cS_ask 25 (nn a) (nn p) (nn q) 0 (hw h I1 L) = _ := e2
    rw [(zask_f _).2] at e2
    have f12 := f1.tr (frA.o (o := 25) (by omega) f2)
    have W2 := W.frA f12
    cases z2 : (zask K (-1, w, 0) S a p q false 0).1 with
    | false =>
      rw [z2, bI_f] at e2
      refine ⟨I2, L2, ?_, f12⟩
      simp only [cA_isTrap, bnd_e, cal_s, onr_s, jon_e, gI_hw, gL_hw, gT_hw, gR_hw, gN_hw, sI_hw, sL_hw, cV_hw, shS_hw, shC_hw, shL_hw, ← bt_def, ec, if_neg i10, e1, e2, if_true, Bool.true_and, Bool.false_and, bI_f]
    | true =>
      rw [z2, bI_t] at e2
      obtain ⟨t, e0', e1', e2', e3', e4'⟩ := W2.fQ hq
      obtain ⟨i, hi, ei⟩ := W2.kd hq
      have i2 : inb (zt K 8 q) 4 := by rw [ei]; exact nn_inb (by omega) hi
      have eg : gR (cV h) 15 (zt K 8 q).toNatClampNeg = some (16 + i) := by rw [ei, nn_clamp (by omega)]; exact (cT_kind hi).1
      have hP := W.p5
      have e5 := ec_trap1 (L := L2) W2 (s.frA f12) hp (zasks K q) (zP K) 0 FU (by omega) (by show _ < 1000; omega) rfl
      rw [nn0] at e5
      refine ⟨I2, L2, ?_, f12⟩
      simp only [cA_isTrap, bnd_e, cal_s, onr_s, jon_e, gI_hw, gL_hw, gT_hw, gR_hw, gN_hw, sI_hw, sL_hw, cV_hw, shS_hw, shC_hw, shL_hw, ← bt_def, ec, if_neg i10, e1, e2, W2.1, grd_pos W2.2.1.1, grd_pos W2.2.1.2.1.2.2, ec_getQ W2 hq, grd_pos t, e1', grd_pos i2, eg, ec_asks W2 hq hi ei, e5, Bool.true_and]
theorem ec_care1 {p q : Nat} (hp : p < zP K) (hq : q < zQ K) (v : Int32) : ∀ (j i : Nat) (I : Nat → Nat → Int32) (L : Nat → Nat → Int64) (n : Nat), CW h I c K A → StC I 20 (zP K) (-1, w, 0) S → i + j = zP K → j < n → ∃ I' L', (∀ k, cA_care_25 (nn p) (nn q) k n (if ztrN K (-1, w, 0) S p q i = true then v ||| ((1 : Int32) <<< (nn q &&& 31)) else v) (nn i) (hw h I L) = k (if ztrN K (-1, w, 0) S p q (zP K) = true then v ||| ((1 : Int32) <<< (nn q &&& 31)) else v) (hw h I' L')) ∧ frA I I' := by
  intro j
  induction j with
  | zero =>
    intro i I L n W s hi hn
    obtain ⟨n, rfl⟩ : ∃ n', n = n' + 1 := ⟨n - 1, by omega⟩
    have hP := W.p5
    refine ⟨I, L, fun k => ?_, frA.rfl I⟩
    rw [cA_care_25]
    simp only [bnd_e, cal_s, onr_s, jon_e, gI_hw, gL_hw, gT_hw, gR_hw, gN_hw, sI_hw, sL_hw, cV_hw, shS_hw, shC_hw, shL_hw, ← bt_def, ec_persons W, if_pos (nn_ple (show zP K ≤ i by omega) (show i < 2147483648 by omega))]
    rw [show zP K = i by omega]
  | succ j ih =>
    intro i I L n W s hi hn
    obtain ⟨n, rfl⟩ : ∃ n', n = n' + 1 := ⟨n - 1, by omega⟩
    have hP := W.p5
    have hip : i < zP K := by omega
    obtain ⟨I1, L1, e1, f1⟩ := ec_isTrap (L := L) W s hip hp hq
    obtain ⟨I2, L2, e2, f2⟩ := ih (i + 1) I1 L1 n (W.frA f1) (s.frA f1) (by omega) (by omega)
    refine ⟨I2, L2, fun k => ?_, f1.tr f2⟩
    rw [← e2 k, cA_care_25]
    simp only [bnd_e, cal_s, onr_s, jon_e, gI_hw, gL_hw, gT_hw, gR_hw, gN_hw, sI_hw, sL_hw, cV_hw, shS_hw, shC_hw, shL_hw, ← bt_def, ec_persons W, if_neg (nn_nle hip (show zP K < 2147483648 by omega)), e1, bI_eq0, nn_succ]
    rw [show ztrN K (-1, w, 0) S p q (i + 1) = (ztrN K (-1, w, 0) S p q i || ztrap K (-1, w, 0) S i p q) from rfl]
    cases z : ztrap K (-1, w, 0) S i p q with
    | false =>
      rw [if_pos rfl, Bool.or_false, Int32.or_zero]
    | true =>
      rw [if_neg (by decide), Bool.or_true, if_pos (show true = true from rfl)]
      congr 1
      by_cases y : ztrN K (-1, w, 0) S p q i = true
      · rw [if_pos y, Int32.or_assoc, Int32.or_self]
      · rw [if_neg y]
theorem em_care42 {J : Nat → Nat → Int32} {M : Nat → Nat → Int64} (V : MW J K) (t : StM J 0 (zP K) S) {p q : Nat} (hp : p < zP K) (hq : q < zQ K) {x : Int32} (hx : zt K 11 q = x) (f3 : Int32) : ∀ (j i n : Nat), i + j = zP K → j < n → zex S p x i = false → ∀ k, m_isCare_42 (nn p) (nn q) f3 k n (nn i) (hw g J M) = if zex S p x (zP K) = true then some (1, hw g J M) else k (hw g J M) := by
  have hP := V.2.1.2.1
  have hQ := V.2.1.2.2.1
  intro j
  induction j with
  | zero =>
    intro i n hi hn hz k
    obtain ⟨n, rfl⟩ : ∃ n', n = n' + 1 := ⟨n - 1, by omega⟩
    rw [m_isCare_42]
    simp only [bnd_e, cal_s, onr_s, jon_e, gI_hw, gL_hw, gT_hw, gR_hw, gN_hw, sI_hw, sL_hw, cV_hw, shS_hw, shC_hw, shL_hw, ← bt_def, V.1.1.2.1, if_pos (nn_ple (show zP K ≤ i by omega) (show i < 2147483648 by omega))]
    rw [show zP K = i by omega, hz, if_neg (by decide)]
  | succ j ih =>
    intro i n hi hn hz k
    obtain ⟨n, rfl⟩ : ∃ n', n = n' + 1 := ⟨n - 1, by omega⟩
    have hip : i < zP K := by omega
    have k1 : J 29 i = sk S i := by have := (t.1 i hip).1; rw [show 5 * 0 + i = i by omega] at this; exact this
    have r1 : J 31 i = sr S i := by have := (t.1 i hip).2.1; rw [show 5 * 0 + i = i by omega] at this; exact this
    have r2 : J 31 p = sr S p := by have := (t.1 p hp).2.1; rw [show 5 * 0 + p = p by omega] at this; exact this
    have e15 : J 15 q = x := (V.1.2.2.2.2.1 q hq).2.2.2.2.trans hx
    rw [m_isCare_42]
    simp only [bnd_e, cal_s, onr_s, jon_e, gI_hw, gL_hw, gT_hw, gR_hw, gN_hw, sI_hw, sL_hw, cV_hw, shS_hw, shC_hw, shL_hw, ← bt_def, V.1.1.2.1, if_neg (nn_nle hip (show zP K < 2147483648 by omega)), nn_eq (show i < 2147483648 by omega) (show p < 2147483648 by omega), grd_pos (show inb (nn i) 10 from nn_inb (by omega) (by omega)), grd_pos (show inb (nn p) 10 from nn_inb (by omega) (by omega)), grd_pos (show inb (nn q) 16 from nn_inb (by omega) (by omega)), nn_clamp (show i < 2147483648 by omega), nn_clamp (show p < 2147483648 by omega), nn_clamp (show q < 2147483648 by omega), k1, r1, r2, e15, em_isOf, bI_eq0, nn_succ]
    have e1 : zex S p x (i + 1) = (zex S p x i || (decide (i ≠ p) && (decide (sr S i = sr S p) && decide (bt (sk S i) x = 0)))) := rfl
    have nx := fun q => ih (i + 1) n (by omega) (by omega) q k
    by_cases z1 : i = p
    · rw [if_pos z1]
      exact nx (by rw [e1, hz, decide_eq_false (fun y => y z1)]; rfl)
    · rw [if_neg z1]
      by_cases z2 : sr S i = sr S p
      · rw [if_pos z2]
        by_cases z3 : bt (sk S i) x = 0
        · rw [decide_eq_false (fun y => y z3), if_pos rfl]
          have := or_stay (f := zex S p x) (fun n => rfl) (i := i + 1) (by rw [e1, decide_eq_true z1, decide_eq_true z2, decide_eq_true z3, Bool.or_eq_true]; exact Or.inr rfl) j
          rw [show i + 1 + j = zP K by omega] at this
          rw [this, if_pos rfl]
        · rw [decide_eq_true z3, if_neg (by decide)]
          exact nx (by rw [e1, hz, decide_eq_false z3, Bool.and_false, Bool.and_false]; rfl)
      · rw [if_neg z2]
        exact nx (by rw [e1, hz, decide_eq_false z2, Bool.false_and, Bool.and_false]; rfl)
theorem em_isCare {p q : Nat} (hp : p < zP K) (hq : q < zQ K) (ws : WS (zP K) S) : ∀ (j i : Nat) (J : Nat → Nat → Int32) (M : Nat → Nat → Int64) (n : Nat), MW J K → StM J 0 (zP K) S → i + j = zP K → j < n → ztrN K (-1, w, 0) S p q i = false → ∃ J' M', m_isCare_2 (nn p) (nn q) (fun h18 => some (0, h18)) n (nn i) (hw g J M) = some (bI (ztrN K (-1, w, 0) S p q (zP K)), hw g J' M') ∧ frB J J' ∧ frL2 false M M' := by
  intro j
  induction j with
  | zero =>
    intro i J M n V t hi hn hz
    obtain ⟨n, rfl⟩ : ∃ n', n = n' + 1 := ⟨n - 1, by omega⟩
    have hP := V.2.1.2.1
    refine ⟨J, M, ?_, frB.rfl J, frL2.rfl _ _⟩
    rw [m_isCare_2]
    simp only [bnd_e, cal_s, onr_s, jon_e, gI_hw, gL_hw, gT_hw, gR_hw, gN_hw, sI_hw, sL_hw, cV_hw, shS_hw, shC_hw, shL_hw, ← bt_def, V.1.1.2.1, if_pos (nn_ple (show zP K ≤ i by omega) (show i < 2147483648 by omega))]
    rw [show zP K = i by omega, hz]; rfl
  | succ j ih =>
    intro i J M n V t hi hn hz
    obtain ⟨n, rfl⟩ : ∃ n', n = n' + 1 := ⟨n - 1, by omega⟩
    have hP := V.2.1.2.1
    have hip : i < zP K := by omega
    have nle := nn_nle hip (show zP K < 2147483648 by omega)
    obtain ⟨J1, e1, t1, fl, h3, h2, f1⟩ := em_lay (h := g) (L := M) hP t
    have V1 := V.frB f1
    have ec : m_canAsk 1 (nn i) (nn p) (nn q) (hw g J1 M) = _ := em_can (h := g) (L := M) V1 (b := 1) (by omega) t1 (fl w) (cnt := true) h3 hip hp hq
    have e0 : ztrN K (-1, w, 0) S p q (i + 1) = (ztrN K (-1, w, 0) S p q i || ztrap K (-1, w, 0) S i p q) := rfl
    cases z1 : zcan K (-1, w, 0) S i p q true with
    | false =>
      rw [z1, bI_f] at ec
      obtain ⟨J2, M2, e2, f2, l2⟩ := ih (i + 1) J1 M n V1 (t.frB hP f1) (by omega) (by omega) (by rw [e0, hz]; unfold ztrap; rw [z1]; rfl)
      refine ⟨J2, M2, ?_, f1.tr f2, l2⟩
      rw [m_isCare_2]
      simp only [bnd_e, cal_s, onr_s, jon_e, gI_hw, gL_hw, gT_hw, gR_hw, gN_hw, sI_hw, sL_hw, cV_hw, shS_hw, shC_hw, shL_hw, ← bt_def, V.1.1.2.1, if_neg nle, e1, ec, if_true, nn_succ, e2]
    | true =>
      rw [z1, bI_t] at ec
      obtain ⟨J3, M3, e3, t3, f3, l3, -⟩ := em_ask (h := g) (L := M) V1 (b := 1) (by omega) t1 ws (fl w) (dr := false) h2 (num := 0) (fun z => by cases z) hip hp hq (zcan_tog z1)
      have e3 : m_asks 1 (nn i) (nn p) (nn q) (hw g J1 M) = _ := e3
      have f13 := f1.tr (frB.m f3)
      have V3 := V.frB f13
      have tt := t.frB hP f13
      cases z2 : (zask K (-1, w, 0) S i p q false 0).1 with
      | false =>
        rw [z2, bI_f] at e3
        obtain ⟨J2, M2, e2, f2, l2⟩ := ih (i + 1) J3 M3 n V3 tt (by omega) (by omega) (by rw [e0, hz]; unfold ztrap; rw [z1, z2]; rfl)
        refine ⟨J2, M2, ?_, f13.tr f2, l3.tr l2⟩
        rw [m_isCare_2]
        simp only [bnd_e, cal_s, onr_s, jon_e, gI_hw, gL_hw, gT_hw, gR_hw, gN_hw, sI_hw, sL_hw, cV_hw, shS_hw, shC_hw, shL_hw, ← bt_def, V.1.1.2.1, if_neg nle, e1, ec, if_neg i10, e3, if_true, nn_succ, e2]
      | true =>
        rw [z2, bI_t] at e3
        have hx : zt K 11 q = zasks K q := by
          unfold zasks
          by_cases z : zt K 8 q = 3
          · exfalso
            unfold zask at z2
            have : (zslip K (-1, w, 0) (zS1 K (-1, w, 0) S i q) p q false 0).1 = false := by unfold zslip zasks; rw [if_pos (if_pos z)]
            rw [this, if_neg (by decide)] at z2
            cases z2
          · rw [if_neg z]
        have e4 := em_care42 (g := g) (M := M3) V3 tt hp hq hx (nn i) (zP K) 0 FU (by omega) (by show _ < 1000; omega) rfl
        rw [nn0] at e4
        cases z3 : zex S p (zasks K q) (zP K) with
        | false =>
          rw [z3] at e4
          obtain ⟨J2, M2, e2, f2, l2⟩ := ih (i + 1) J3 M3 n V3 tt (by omega) (by omega) (by rw [e0, hz]; unfold ztrap; rw [z1, z2, z3]; rfl)
          refine ⟨J2, M2, ?_, f13.tr f2, l3.tr l2⟩
          rw [m_isCare_2]
          simp only [bnd_e, cal_s, onr_s, jon_e, gI_hw, gL_hw, gT_hw, gR_hw, gN_hw, sI_hw, sL_hw, cV_hw, shS_hw, shC_hw, shL_hw, ← bt_def, V.1.1.2.1, if_neg nle, e1, ec, if_neg i10, e3, e4, Bool.false_eq_true, if_false, nn_succ, e2]
        | true =>
          rw [z3] at e4
          refine ⟨J3, M3, ?_, f13, l3⟩
          have := or_stay (f := ztrN K (-1, w, 0) S p q) (fun n => rfl) (i := i + 1) (by rw [e0]; unfold ztrap; rw [z1, z2, z3, Bool.or_eq_true]; exact Or.inr rfl) j
          rw [show i + 1 + j = zP K by omega] at this
          rw [this, m_isCare_2]
          simp only [bnd_e, cal_s, onr_s, jon_e, gI_hw, gL_hw, gT_hw, gR_hw, gN_hw, sI_hw, sL_hw, cV_hw, shS_hw, shC_hw, shL_hw, ← bt_def, V.1.1.2.1, if_neg nle, e1, ec, if_neg i10, e3, e4, if_true, bI_t]
theorem b_care1 {p : Nat} (hp : p < zP K) : ∀ (j i : Nat) (v : Int32) (I J : Nat → Nat → Int32) (L M : Nat → Nat → Int64) (n m : Nat), At h I0 J0 M0 c K A w S I J M → i + j = zQ K → j < n → j < m → B2 h g I0 J0 M0 (cA_care_14 (nn p) (fun x h1 => some (x, h1)) n v (nn i) (hw h I L)) (m_care_19 (nn p) (fun x h1 => some (x, h1)) m v (nn i) (hw g J M)) := by
  intro j
  induction j with
  | zero =>
    intro i v I J L M n m a hi hn hm
    obtain ⟨n, rfl⟩ : ∃ n', n = n' + 1 := ⟨n - 1, by omega⟩
    obtain ⟨m, rfl⟩ : ∃ m', m = m' + 1 := ⟨m - 1, by omega⟩
    have W := a.1.1.1
    have hQ := W.q8
    rw [cA_care_14, m_care_19]
    simp only [bnd_e, cal_s, onr_s, jon_e, gI_hw, gL_hw, gT_hw, gR_hw, gN_hw, sI_hw, sL_hw, cV_hw, shS_hw, shC_hw, shL_hw, ← bt_def, ec_questions W, a.1.2.1.1.1.1.2.2.1, if_pos (nn_ple (show zQ K ≤ i by omega) (show i < 2147483648 by omega))]
    exact a.end _
  | succ j ih =>
    intro i v I J L M n m a hi hn hm
    obtain ⟨n, rfl⟩ : ∃ n', n = n' + 1 := ⟨n - 1, by omega⟩
    obtain ⟨m, rfl⟩ : ∃ m', m = m' + 1 := ⟨m - 1, by omega⟩
    have W := a.1.1.1
    have hQ := W.q8
    have hP := W.p5
    have hip : i < zQ K := by omega
    obtain ⟨I1, L1, e1, f1⟩ := ec_care1 (S := S) (w := w) hp hip v (zP K) 0 I L FU W a.1.1.2 (by omega) (by show _ < 1000; omega)
    rw [show ztrN K (-1, w, 0) S p i 0 = false from rfl, if_neg (show ¬ false = true by decide), nn0] at e1
    obtain ⟨J1, M1, e2, f2, l2⟩ := em_isCare (g := g) (w := w) hp hip a.1.2.2 (zP K) 0 J M FU a.1.2.1.1 a.1.2.1.2 (by omega) (by show _ < 1000; omega) rfl
    rw [nn0] at e2
    have a2 := a.to f1 f2 l2
    rw [cA_care_14, m_care_19]
    simp only [bnd_e, cal_s, onr_s, jon_e, gI_hw, gL_hw, gT_hw, gR_hw, gN_hw, sI_hw, sL_hw, cV_hw, shS_hw, shC_hw, shL_hw, ← bt_def, m_isCare, ec_questions W, a.1.2.1.1.1.1.2.2.1, if_neg (nn_nle hip (show zQ K < 2147483648 by omega)), e1, e2, bI_eq0, nn_succ]
    cases z : ztrN K (-1, w, 0) S p i (zP K) with
    | false =>
      rw [if_neg (by decide), if_pos rfl, Int32.or_zero]
      exact ih _ _ _ _ _ _ _ _ a2 (by omega) (by omega) (by omega)
    | true =>
      rw [if_pos rfl, if_neg (by decide)]
      exact ih _ _ _ _ _ _ _ _ a2 (by omega) (by omega) (by omega)
theorem b_care {I J : Nat → Nat → Int32} {L M : Nat → Nat → Int64} (a : At h I0 J0 M0 c K A w S I J M) (p : Int32) : B2 h g I0 J0 M0 (cA_care p (hw h I L)) (m_care p (hw g J M)) := by
  have a := a.thr
  have W := a.1.1.1
  have V := a.1.2.1.1
  have hP := W.p5
  have hQ := W.q8
  simp only [cA_care, m_care, bnd_e, cal_s, onr_s, jon_e, gI_hw, gL_hw, gT_hw, gR_hw, gN_hw, sI_hw, sL_hw, cV_hw, shS_hw, shC_hw, shL_hw, ← bt_def, ec_isPerson W, em_isPerson V, bI_eq0]
  cases z : zin p (zP K) with
  | false => simp only [eq_self, Bool.true_eq_false, if_true, if_false]; exact a.end _
  | true =>
    simp only [eq_self, Bool.true_eq_false, if_true, if_false]
    obtain ⟨i, hi, rfl⟩ := zin_t (by omega) z
    exact b_care1 hi (zQ K) 0 0 _ _ L M FU FU a (by omega) (by show _ < 1000; omega) (by show _ < 1000; omega)
end B8
