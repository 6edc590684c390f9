/-! PURE LEVEL 33: way, step -/
section B13
variable {h g : HP} {I0 J0 : Nat → Nat → Int32} {M0 : Nat → Nat → Int64} {c : Nat} {K : KT} {A : Nat → Nat → Nat} {w : Int32} {S : ST}
/-- the fewest questions: 0, 1 or 2 of them, which ones -/
def zR1 (K : KT) (S0 : ST) (p : Nat) (f o : Int32) : ST → Bool := fun S1 => zway K S0 S1 p f o
def zR2 (K : KT) (w : Int32) (S0 : ST) (p : Nat) (f o : Int32) : ST → Bool := fun S1 => (zs1 K w (zR1 K S0 p f o) S1).isSome
theorem ns_last {t k : Nat} (ht : (t = 44 ∧ k = 0) ∨ (t = 49 ∧ k = 1)) {p : Nat} (hp : p < zP K) (f o : Int32) (n : Nat) : NSp h c K A w S t k (cA_waysN (n + 1) t (nn (k + 1)) (nn (k + 1)) (nn p) f o) (zR1 K S p f o) (fun _ _ => True) := by
  intro I L S1 W s0 s1
  have sht : shS (cV h) t := by rcases ht with ⟨rfl, -⟩ | ⟨rfl, -⟩; exact sh44 h; exact sh49 h
  refine ⟨I, L, ?_, frW.rfl _ _ I, fun _ => trivial⟩
  rw [cA_waysN, cA_ways, if_pos rfl, ec_isWay W sht s0 s1 hp f o, cal_s, grd_pos (isB_bI _)]; rfl
theorem ns_two {p : Nat} (hp : p < zP K) (f o : Int32) (n : Nat) : NSp h c K A w S 44 0 (cA_waysN (n + 2) 44 (nn (0 + 1)) (nn 2) (nn p) f o) (zR2 K w S p f o) (fun S1 I' => ∀ e, zs1 K w (zR1 K S p f o) S1 = some e → I' 37 1 = ecode K e) := by
  intro I L S1 W s0 s1
  obtain ⟨I1, L1, e1, f1, x1⟩ := ec_level (o := 44) (t := 49) (k := 1) (Or.inr ⟨rfl, rfl, rfl⟩) (many := nn 2) (by decide) (ns_last (A := A) (c := c) (h := h) (w := w) (S := S) (Or.inr ⟨rfl, rfl⟩) hp f o n) (L := L) W s0 s1
  refine ⟨I1, L1, ?_, f1, fun _ e he => (x1 e he).1⟩
  rw [cA_waysN]; exact e1
theorem ec_ways0 {I : Nat → Nat → Int32} {L : Nat → Nat → Int64} (W : CW h I c K A) (s0 : StC I 20 (zP K) (-1, w, 0) S) {p : Nat} (hp : p < zP K) (f o : Int32) : cA_waysN 4 20 0 0 (nn p) f o (hw h I L) = some (bI (zway K S S p f o), hw h I L) := by
  rw [cA_waysN, cA_ways, if_pos rfl, ec_isWay W (sh20 h) s0 s0 hp f o, cal_s, grd_pos (isB_bI _)]
theorem ec_ways1 {I : Nat → Nat → Int32} {L : Nat → Nat → Int64} (W : CW h I c K A) (s0 : StC I 20 (zP K) (-1, w, 0) S) {p : Nat} (hp : p < zP K) (f o : Int32) : ∃ I' L', cA_waysN 4 20 0 1 (nn p) f o (hw h I L) = some (bI (zs1 K w (zR1 K S p f o) S).isSome, hw h I' L') ∧ frW 44 0 I I' ∧ ∀ e, zs1 K w (zR1 K S p f o) S = some e → I' 37 0 = ecode K e := by
  obtain ⟨I1, L1, e1, f1, x1⟩ := ec_level (o := 20) (t := 44) (k := 0) (Or.inl ⟨rfl, rfl, rfl⟩) (many := nn 1) (by decide) (ns_last (A := A) (c := c) (h := h) (w := w) (S := S) (Or.inl ⟨rfl, rfl⟩) hp f o 2) (L := L) W s0 s0
  refine ⟨I1, L1, ?_, f1, fun e he => (x1 e he).1⟩
  rw [cA_waysN]; exact e1
theorem ec_ways2 {I : Nat → Nat → Int32} {L : Nat → Nat → Int64} (W : CW h I c K A) (s0 : StC I 20 (zP K) (-1, w, 0) S) {p : Nat} (hp : p < zP K) (f o : Int32) : ∃ I' L', cA_waysN 4 20 0 2 (nn p) f o (hw h I L) = some (bI (zs1 K w (zR2 K w S p f o) S).isSome, hw h I' L') ∧ frW 44 0 I I' ∧ ∀ e, zs1 K w (zR2 K w S p f o) S = some e → I' 37 0 = ecode K e ∧ ∀ e', zs1 K w (zR1 K S p f o) (zes K (-1, w, 0) S e) = some e' → I' 37 1 = ecode K e' := by
  obtain ⟨I1, L1, e1, f1, x1⟩ := ec_level (o := 20) (t := 44) (k := 0) (Or.inl ⟨rfl, rfl, rfl⟩) (many := nn 2) (by decide) (ns_two (A := A) (c := c) (h := h) (w := w) (S := S) hp f o 1) (L := L) W s0 s0
  refine ⟨I1, L1, ?_, f1, x1⟩
  rw [cA_waysN]; exact e1
theorem zway_self (p : Nat) (f o : Int32) : zway K S S p f o = decide (¬ bt (sk S p) f = 0) := by
  have : ∀ n, zwN S S f o n = true := by
    intro n
    induction n with
    | zero => rfl
    | succ n ih =>
      show (zwN S S f o n && !(decide (¬ bt o (nn n) = 0) && (decide (¬ bt (sk S n) f = 0) && decide (bt (sk S n) f = 0)))) = true
      rw [ih]
      by_cases z : bt (sk S n) f = 0
      · rw [decide_eq_false (show ¬ ¬ bt (sk S n) f = 0 from fun y => y z), Bool.false_and, Bool.and_false]; rfl
      · rw [decide_eq_false z, Bool.and_false, Bool.and_false]; rfl
  unfold zway
  rw [this, Bool.true_and]
/-- the answer: how many, the first step, the second -/
def zW (K : KT) (w : Int32) (S : ST) (p : Nat) (f o : Int32) (n : Nat) : Int32 × Nat × Nat :=
  if zway K S S p f o = true then (0, 0, 0) else match zs1 K w (zR1 K S p f o) S with
    | some e => (1, e, 0)
    | none => if n = 2 then (match zs1 K w (zR2 K w S p f o) S with
      | some e => (2, e, (zs1 K w (zR1 K S p f o) (zes K (-1, w, 0) S e)).getD 0)
      | none => (-1, 0, 0)) else (-1, 0, 0)
theorem ec_lay55 : ∀ (j i : Nat) (I : Nat → Nat → Int32) (L : Nat → Nat → Int64) (fuel m : Nat), I 0 17 = nn m → m ≤ 2 → i + j = m → j < fuel → ∃ I', (∀ k, cA_layWay_55 k fuel (nn i) (hw h I L) = k (hw h I' L)) ∧ (∀ x, i ≤ x → x < m → I' 38 x = I 37 x) ∧ (∀ x, x < i → I' 38 x = I 38 x) ∧ ∀ x, x ≠ 38 → I' x = I x := by
  intro j
  induction j with
  | zero =>
    intro i I L fuel m h17 hm hi hf
    obtain ⟨n, rfl⟩ : ∃ n, fuel = n + 1 := ⟨fuel - 1, by omega⟩
    refine ⟨I, fun k => ?_, fun x h1 h2 => by omega, fun _ _ => rfl, fun _ _ => rfl⟩
    rw [cA_layWay_55]
    simp only [bnd_e, cal_s, onr_s, jon_e, gI_hw, gL_hw, gT_hw, gR_hw, gN_hw, sI_hw, sL_hw, cV_hw, shS_hw, shC_hw, shL_hw, ← bt_def, h17, if_pos (nn_ple (show m ≤ i by omega) (show i < 2147483648 by omega))]
  | succ j ih =>
    intro i I L fuel m h17 hm hi hf
    obtain ⟨n, rfl⟩ : ∃ n, fuel = n + 1 := ⟨fuel - 1, by omega⟩
    obtain ⟨I1, e1, a1, b1, f1⟩ := ih (i + 1) (u2 I 38 i (I 37 i)) L n m (by rw [u2_ne (by decide)]; exact h17) hm (by omega) (by omega)
    refine ⟨I1, fun k => ?_, fun x h1 h2 => ?_, fun x hx => ?_, fun x hx => (f1 x hx).trans (u2_ne hx)⟩
    · rw [cA_layWay_55]
      simp only [bnd_e, cal_s, onr_s, jon_e, gI_hw, gL_hw, gT_hw, gR_hw, gN_hw, sI_hw, sL_hw, cV_hw, shS_hw, shC_hw, shL_hw, ← bt_def, h17, if_neg (nn_nle (show i < m by omega) (show m < 2147483648 by omega)), grd_pos (show inb (nn i) 2 from nn_inb (by omega) (by omega)), nn_clamp (show i < 2147483648 by omega), nn_succ, e1]
    · by_cases z : x = i
      · rw [z, b1 i (by omega), u2_same]
      · rw [a1 x (by omega) h2, u2_ne (by decide)]
    · rw [b1 x (by omega), u2_nk _ _ (by omega)]
theorem ec_fin {I : Nat → Nat → Int32} {L : Nat → Nat → Int64} {m : Nat} (h17 : I 0 17 = nn m) (hm : m ≤ 2) : ∃ I', cA_layWay_55 (fun h18 => some ((), h18)) FU 0 (hw h I L) = some ((), hw h I' L) ∧ (∀ x, x < m → I' 38 x = I 37 x) ∧ I' 0 17 = nn m ∧ frA I I' := by
  obtain ⟨I1, e1, a1, -, f1⟩ := ec_lay55 (h := h) m 0 I L FU m h17 hm (by omega) (by show _ < 1000; omega)
  rw [nn0] at e1
  exact ⟨I1, e1 _, fun x hx => a1 x (by omega) hx, by rw [f1 0 (by decide)]; exact h17, ⟨fun x h0 h1 => f1 x (by omega), fun k _ _ => by rw [f1 0 (by decide)]⟩⟩
theorem ec_fin0 {I : Nat → Nat → Int32} {L : Nat → Nat → Int64} (h17 : I 0 17 = -1) : cA_layWay_55 (fun h18 => some ((), h18)) FU 0 (hw h I L) = some ((), hw h I L) := by
  rw [show FU = 999 + 1 from rfl, cA_layWay_55]
  simp only [bnd_e, cal_s, onr_s, jon_e, gI_hw, gL_hw, gT_hw, gR_hw, gN_hw, sI_hw, sL_hw, cV_hw, shS_hw, shC_hw, shL_hw, ← bt_def, h17, if_pos (show (-1 : Int32) ≤ 0 by decide)]
theorem ec_layWay {I : Nat → Nat → Int32} {L : Nat → Nat → Int64} (W : CW h I c K A) (s0 : StC I 20 (zP K) (-1, w, 0) S) {p n : Nat} (hp : p < zP K) (hn : n = 1 ∨ n = 2) (f o : Int32) : ∃ I' L', cA_layWay (nn p) f o (nn n) (hw h I L) = some ((), hw h I' L') ∧ I' 0 17 = (zW K w S p f o n).1 ∧ (∀ x, nn x < (zW K w S p f o n).1 → x < 2 → I' 38 x = if x = 0 then ecode K (zW K w S p f o n).2.1 else ecode K (zW K w S p f o n).2.2) ∧ frA I I' := by
  have fA : frA I (u2 I 0 17 (-1)) := frA.u0 _ (Or.inl rfl)
  have W1 := W.frA fA
  have s1 := s0.frA fA
  have k17 : u2 I 0 17 (-1) 0 17 = -1 := u2_same _ _ _ _
  have n0 : ¬ nn n < 0 := nn_nonneg (by omega)
  have n1 : ¬ nn n < 1 := nn_nlt (n := 1) (i := n) (by omega) (by omega)
  have w0 := ec_ways0 (L := L) W1 s1 hp f o
  unfold zW
  cases z0 : zway K S S p f o with
  | true =>
    rw [z0, bI_t] at w0
    rw [if_pos rfl]
    obtain ⟨I9, e9, a9, b9, f9⟩ := ec_fin (h := h) (I := u2 (u2 I 0 17 (-1)) 0 17 0) (L := L) (m := 0) (u2_same _ _ _ _) (by omega)
    refine ⟨I9, L, ?_, b9, fun x hx _ => absurd hx (nn_nlt (n := 0) (i := x) (by omega) (by omega)), (fA.tr (frA.u0 _ (Or.inl rfl))).tr f9⟩
    rw [cA_layWay, bnd_e, bnd_e, sI_hw, show FU = 998 + 1 + 1 from rfl, cA_layWay_8, if_neg n0]
    simp only [bnd_e, cal_s, onr_s, jon_e, gI_hw, gL_hw, gT_hw, gR_hw, gN_hw, sI_hw, sL_hw, cV_hw, shS_hw, shC_hw, shL_hw, ← bt_def, if_pos k17, w0, if_neg i10]
    rw [show (0 : Int32) + 1 = 1 from rfl, cA_layWay_8, if_neg n1]
    simp only [bnd_e, cal_s, onr_s, jon_e, gI_hw, gL_hw, gT_hw, gR_hw, gN_hw, sI_hw, sL_hw, cV_hw, shS_hw, shC_hw, shL_hw, ← bt_def, u2_same, if_neg (show ¬ (0 : Int32) = -1 by decide)]
    exact e9
  | false =>
    rw [z0, bI_f] at w0
    rw [if_neg (by decide)]
    obtain ⟨I2, L2, e2, f2, x2⟩ := ec_ways1 (L := L) W1 s1 hp f o
    have f2a := f2.a (by omega)
    have h2 : I2 0 17 = -1 := by rw [f2.1 0 (by decide) (by omega)]; exact k17
    cases z1 : zs1 K w (zR1 K S p f o) S with
    | some e =>
      rw [z1, Option.isSome_some, bI_t] at e2
      have x2 := x2 e z1
      obtain ⟨I9, e9, a9, b9, f9⟩ := ec_fin (h := h) (I := u2 I2 0 17 1) (L := L2) (m := 1) (u2_same _ _ _ _) (by omega)
      refine ⟨I9, L2, ?_, b9, fun x hx hx2 => ?_, ((fA.tr f2a).tr (frA.u0 _ (Or.inl rfl))).tr f9⟩
      · rw [cA_layWay, bnd_e, bnd_e, sI_hw, show FU = 997 + 1 + 1 + 1 from rfl, cA_layWay_8, if_neg n0]
        simp only [bnd_e, cal_s, onr_s, jon_e, gI_hw, gL_hw, gT_hw, gR_hw, gN_hw, sI_hw, sL_hw, cV_hw, shS_hw, shC_hw, shL_hw, ← bt_def, if_pos k17, w0, if_true]
        rw [show (0 : Int32) + 1 = 1 from rfl, cA_layWay_8, if_neg n1]
        simp only [bnd_e, cal_s, onr_s, jon_e, gI_hw, gL_hw, gT_hw, gR_hw, gN_hw, sI_hw, sL_hw, cV_hw, shS_hw, shC_hw, shL_hw, ← bt_def, if_pos k17, e2, if_neg i10]
        rw [cA_layWay_8]
        simp only [bnd_e, cal_s, onr_s, jon_e, gI_hw, gL_hw, gT_hw, gR_hw, gN_hw, sI_hw, sL_hw, cV_hw, shS_hw, shC_hw, shL_hw, ← bt_def, u2_same, if_neg (show ¬ (1 : Int32) = -1 by decide), ite_self]
        exact e9
      · have : x = 0 := by
          by_cases y : x = 0
          · exact y
          · exact absurd hx (nn_nlt (n := 1) (i := x) (by omega) (by omega))
        rw [this, if_pos rfl, a9 0 (by omega), u2_ne (by decide)]; exact x2
    | none =>
      rw [z1, Option.isSome_none, bI_f] at e2
      rcases hn with rfl | rfl
      · refine ⟨I2, L2, ?_, h2, fun x hx _ => absurd hx (by have := nn_nonneg (a := x) (by omega); intro y; exact this (Int32.lt_trans y (show (-1 : Int32) < 0 by decide))), fA.tr f2a⟩
        rw [cA_layWay, bnd_e, bnd_e, sI_hw, show FU = 997 + 1 + 1 + 1 from rfl, cA_layWay_8, if_neg n0]
        simp only [bnd_e, cal_s, onr_s, jon_e, gI_hw, gL_hw, gT_hw, gR_hw, gN_hw, sI_hw, sL_hw, cV_hw, shS_hw, shC_hw, shL_hw, ← bt_def, if_pos k17, w0, if_true]
        rw [show (0 : Int32) + 1 = 1 from rfl, cA_layWay_8, if_neg n1]
        simp only [bnd_e, cal_s, onr_s, jon_e, gI_hw, gL_hw, gT_hw, gR_hw, gN_hw, sI_hw, sL_hw, cV_hw, shS_hw, shC_hw, shL_hw, ← bt_def, if_pos k17, e2, if_true]
        rw [show (1 : Int32) + 1 = 2 from rfl, cA_layWay_8, if_pos (show nn 1 < 2 by decide)]
        exact ec_fin0 h2
      · obtain ⟨I3, L3, e3, f3, x3⟩ := ec_ways2 (L := L2) (W1.frA f2a) (s1.frA f2a) hp f o
        have f3a := f3.a (by omega)
        have h3 : I3 0 17 = -1 := by rw [f3.1 0 (by decide) (by omega)]; exact h2
        cases z2 : zs1 K w (zR2 K w S p f o) S with
        | some e =>
          rw [z2, Option.isSome_some, bI_t] at e3
          obtain ⟨x4, x5⟩ := x3 e z2
          have hh := (zf_hit _ _ _ z2).1
          rw [Bool.and_eq_true] at hh
          obtain ⟨e', he'⟩ : ∃ e', zs1 K w (zR1 K S p f o) (zes K (-1, w, 0) S e) = some e' := Option.isSome_iff_exists.mp hh.2
          have x5 := x5 e' he'
          obtain ⟨I9, e9, a9, b9, f9⟩ := ec_fin (h := h) (I := u2 I3 0 17 2) (L := L3) (m := 2) (u2_same _ _ _ _) (by omega)
          refine ⟨I9, L3, ?_, b9, fun x hx hx2 => ?_, (((fA.tr f2a).tr f3a).tr (frA.u0 _ (Or.inl rfl))).tr f9⟩
          · rw [cA_layWay, bnd_e, bnd_e, sI_hw, show FU = 996 + 1 + 1 + 1 + 1 from rfl, cA_layWay_8, if_neg n0]
            simp only [bnd_e, cal_s, onr_s, jon_e, gI_hw, gL_hw, gT_hw, gR_hw, gN_hw, sI_hw, sL_hw, cV_hw, shS_hw, shC_hw, shL_hw, ← bt_def, if_pos k17, w0, if_true]
            rw [show (0 : Int32) + 1 = 1 from rfl, cA_layWay_8, if_neg n1]
            simp only [bnd_e, cal_s, onr_s, jon_e, gI_hw, gL_hw, gT_hw, gR_hw, gN_hw, sI_hw, sL_hw, cV_hw, shS_hw, shC_hw, shL_hw, ← bt_def, if_pos k17, e2, if_true]
            rw [show (1 : Int32) + 1 = 2 from rfl, cA_layWay_8, if_neg (show ¬ nn 2 < 2 by decide)]
            simp only [bnd_e, cal_s, onr_s, jon_e, gI_hw, gL_hw, gT_hw, gR_hw, gN_hw, sI_hw, sL_hw, cV_hw, shS_hw, shC_hw, shL_hw, ← bt_def, if_pos h2, e3, if_neg i10]
            rw [show (2 : Int32) + 1 = 3 from rfl, cA_layWay_8, if_pos (show nn 2 < 3 by decide)]
            exact e9
          · rw [a9 x (by omega), u2_ne (by decide)]
            rcases (show x = 0 ∨ x = 1 by omega) with rfl | rfl
            · exact x4
            · rw [if_neg (by decide)]
              show I3 37 1 = ecode K ((zs1 K w (zR1 K S p f o) (zes K (-1, w, 0) S e)).getD 0)
              rw [he']; exact x5
        | none =>
          rw [z2, Option.isSome_none, bI_f] at e3
          refine ⟨I3, L3, ?_, h3, fun x hx _ => absurd hx (by have := nn_nonneg (a := x) (by omega); intro y; exact this (Int32.lt_trans y (show (-1 : Int32) < 0 by decide))), (fA.tr f2a).tr f3a⟩
          rw [cA_layWay, bnd_e, bnd_e, sI_hw, show FU = 996 + 1 + 1 + 1 + 1 from rfl, cA_layWay_8, if_neg n0]
          simp only [bnd_e, cal_s, onr_s, jon_e, gI_hw, gL_hw, gT_hw, gR_hw, gN_hw, sI_hw, sL_hw, cV_hw, shS_hw, shC_hw, shL_hw, ← bt_def, if_pos k17, w0, if_true]
          rw [show (0 : Int32) + 1 = 1 from rfl, cA_layWay_8, if_neg n1]
          simp only [bnd_e, cal_s, onr_s, jon_e, gI_hw, gL_hw, gT_hw, gR_hw, gN_hw, sI_hw, sL_hw, cV_hw, shS_hw, shC_hw, shL_hw, ← bt_def, if_pos k17, e2, if_true]
          rw [show (1 : Int32) + 1 = 2 from rfl, cA_layWay_8, if_neg (show ¬ nn 2 < 2 by decide)]
          simp only [bnd_e, cal_s, onr_s, jon_e, gI_hw, gL_hw, gT_hw, gR_hw, gN_hw, sI_hw, sL_hw, cV_hw, shS_hw, shC_hw, shL_hw, ← bt_def, if_pos h2, e3, if_true]
          rw [show (2 : Int32) + 1 = 3 from rfl, cA_layWay_8, if_pos (show nn 2 < 3 by decide)]
          exact ec_fin0 h3
/-! the model's -/
theorem em_steps {J : Nat → Nat → Int32} {M : Nat → Nat → Int64} (V : MW J K) : m_steps (hw g J M) = some (nn (zN2 K), hw g J M) := by
  simp only [m_steps, bnd_e, cal_s, onr_s, jon_e, gI_hw, gL_hw, gT_hw, gR_hw, gN_hw, sI_hw, sL_hw, cV_hw, shS_hw, shC_hw, shL_hw, ← bt_def, V.1.1.2.1, V.1.1.2.2.1, nn_mul]; rfl
theorem em_w18 {p : Nat} (hp : p < zP K) (ws : WS (zP K) S) (f o n' : Int32) : ∀ (j i : Nat) (J : Nat → Nat → Int32) (M : Nat → Nat → Int64) (n : Nat), MW J K → StM J 0 (zP K) S → i + j = zN2 K → j < n → ∃ J' M', frB J J' ∧ frL2 false M M' ∧ ((zf (fun e => zec K (-1, w, 0) S e && zR1 K S p f o (zes K (-1, w, 0) S e)) j i = none ∧ ∀ k, m_wayOf_18 (nn p) f o n' k n (nn i) (hw g J M) = k (hw g J' M')) ∨ ∃ e, zf (fun e => zec K (-1, w, 0) S e && zR1 K S p f o (zes K (-1, w, 0) S e)) j i = some e ∧ (∀ k, m_wayOf_18 (nn p) f o n' k n (nn i) (hw g J M) = some (1, hw g J' M')) ∧ J' 34 0 = nn e) := by
  intro j
  induction j with
  | zero =>
    intro i J M n V t hi hn
    obtain ⟨n, rfl⟩ : ∃ n', n = n' + 1 := ⟨n - 1, by omega⟩
    have h200 := zN2_le V.2
    refine ⟨J, M, frB.rfl J, frL2.rfl _ _, Or.inl ⟨rfl, fun k => ?_⟩⟩
    rw [m_wayOf_18]
    simp only [bnd_e, cal_s, onr_s, jon_e, gI_hw, gL_hw, gT_hw, gR_hw, gN_hw, sI_hw, sL_hw, cV_hw, shS_hw, shC_hw, shL_hw, ← bt_def, em_steps V, if_pos (nn_ple (show zN2 K ≤ i by omega) (show i < 2147483648 by omega))]
  | succ j ih =>
    intro i J M n V t hi hn
    obtain ⟨n, rfl⟩ : ∃ n', n = n' + 1 := ⟨n - 1, by omega⟩
    have h200 := zN2_le V.2
    have hP := V.2.1.2.1
    have hie : i < zN2 K := by omega
    have nle := nn_nle hie (show zN2 K < 2147483648 by omega)
    obtain ⟨J1, e1, t1, fl, h3, h2, f1⟩ := em_lay (h := g) (L := M) hP t
    have f2 : frB J1 (u2 J1 34 0 (nn i)) := frB.us _ _ (by omega)
    have e0 : ∀ x, x ≠ 34 → u2 J1 34 0 (nn i) x = J1 x := fun x hx => u2_ne hx
    have t2 : StM (u2 J1 34 0 (nn i)) 1 (zP K) S := by unfold StM; rw [e0 29 (by decide), e0 30 (by decide), e0 31 (by decide), e0 32 (by decide), e0 33 (by decide)]; exact t1
    obtain ⟨J3, M3, e3, t3, f3, l3⟩ := em_does (g := g) (M := M) (V.frB (f1.tr f2)) t2 ws ((fl w).ne0 (e0 0 (by decide))) (by rw [e0 0 (by decide)]; exact h3) (by rw [e0 0 (by decide)]; exact h2) hie
    have f13 := (f1.tr f2).tr (frB.m f3)
    have V3 := V.frB f13
    have tt := t.frB hP f13
    have r0 : J3 34 0 = nn i := by rw [f3.1 34 (by decide) (by decide) (by decide) (by decide), u2_same]
    have i2 : inb (0 : Int32) 2 := by decide
    have unf : zf (fun e => zec K (-1, w, 0) S e && zR1 K S p f o (zes K (-1, w, 0) S e)) (j + 1) i = if (zec K (-1, w, 0) S i && zR1 K S p f o (zes K (-1, w, 0) S i)) = true then some i else zf (fun e => zec K (-1, w, 0) S e && zR1 K S p f o (zes K (-1, w, 0) S e)) j (i + 1) := rfl
    rw [unf]
    cases z : zec K (-1, w, 0) S i with
    | false =>
      rw [z, bI_f] at e3
      obtain ⟨J4, M4, f4, l4, r4⟩ := ih (i + 1) J3 M3 n V3 tt (by omega) (by omega)
      refine ⟨J4, M4, f13.tr f4, l3.tr l4, ?_⟩
      rw [Bool.false_and, if_neg (by decide)]
      rcases r4 with ⟨q1, q2⟩ | ⟨e, q1, q2, q3⟩
      · refine Or.inl ⟨q1, fun k => ?_⟩
        rw [← q2 k, m_wayOf_18]
        simp only [bnd_e, cal_s, onr_s, jon_e, gI_hw, gL_hw, gT_hw, gR_hw, gN_hw, sI_hw, sL_hw, cV_hw, shS_hw, shC_hw, shL_hw, ← bt_def, em_steps V, if_neg nle, e1, grd_pos i2, tn0, e3, if_true, nn_succ]
      · refine Or.inr ⟨e, q1, fun k => ?_, q3⟩
        rw [← q2 k, m_wayOf_18]
        simp only [bnd_e, cal_s, onr_s, jon_e, gI_hw, gL_hw, gT_hw, gR_hw, gN_hw, sI_hw, sL_hw, cV_hw, shS_hw, shC_hw, shL_hw, ← bt_def, em_steps V, if_neg nle, e1, grd_pos i2, tn0, e3, if_true, nn_succ]
    | true =>
      rw [z, bI_t] at e3
      have t3 := t3 z
      have e5 := em_isWay (g := g) (M := M3) V3 tt t3 hp f o
      rw [Bool.true_and]
      cases z2 : zR1 K S p f o (zes K (-1, w, 0) S i) with
      | false =>
        rw [show zway K S (zes K (-1, w, 0) S i) p f o = false from z2, bI_f] at e5
        obtain ⟨J4, M4, f4, l4, r4⟩ := ih (i + 1) J3 M3 n V3 tt (by omega) (by omega)
        refine ⟨J4, M4, f13.tr f4, l3.tr l4, ?_⟩
        rw [if_neg (by decide)]
        rcases r4 with ⟨q1, q2⟩ | ⟨e, q1, q2, q3⟩
        · refine Or.inl ⟨q1, fun k => ?_⟩
          rw [← q2 k, m_wayOf_18]
          simp only [bnd_e, cal_s, onr_s, jon_e, gI_hw, gL_hw, gT_hw, gR_hw, gN_hw, sI_hw, sL_hw, cV_hw, shS_hw, shC_hw, shL_hw, ← bt_def, em_steps V, if_neg nle, e1, grd_pos i2, tn0, e3, if_neg i10, e5, if_true, nn_succ]
        · refine Or.inr ⟨e, q1, fun k => ?_, q3⟩
          rw [← q2 k, m_wayOf_18]
          simp only [bnd_e, cal_s, onr_s, jon_e, gI_hw, gL_hw, gT_hw, gR_hw, gN_hw, sI_hw, sL_hw, cV_hw, shS_hw, shC_hw, shL_hw, ← bt_def, em_steps V, if_neg nle, e1, grd_pos i2, tn0, e3, if_neg i10, e5, if_true, nn_succ]
      | true =>
        rw [show zway K S (zes K (-1, w, 0) S i) p f o = true from z2, bI_t] at e5
        refine ⟨J3, M3, f13, l3, Or.inr ⟨i, if_pos rfl, fun k => ?_, r0⟩⟩
        rw [m_wayOf_18]
        simp only [bnd_e, cal_s, onr_s, jon_e, gI_hw, gL_hw, gT_hw, gR_hw, gN_hw, sI_hw, sL_hw, cV_hw, shS_hw, shC_hw, shL_hw, ← bt_def, em_steps V, if_neg nle, e1, grd_pos i2, tn0, e3, if_neg i10, e5]
theorem em_w103 {p e1 : Nat} (hp : p < zP K) (ws : WS (zP K) S) (f o n' : Int32) (he : e1 < zN2 K) (hc : zec K (-1, w, 0) S e1 = true) : ∀ (j i : Nat) (J : Nat → Nat → Int32) (M : Nat → Nat → Int64) (n : Nat), MW J K → StM J 0 (zP K) S → i + j = zN2 K → j < n → ∃ J' M', frB J J' ∧ frL2 false M M' ∧ ((zf (fun e => zec K (-1, w, 0) (zes K (-1, w, 0) S e1) e && zR1 K S p f o (zes K (-1, w, 0) (zes K (-1, w, 0) S e1) e)) j i = none ∧ ∀ k, m_wayOf_103 (nn p) f o n' (nn e1) k n (nn i) (hw g J M) = k (hw g J' M')) ∨ ∃ e, zf (fun e => zec K (-1, w, 0) (zes K (-1, w, 0) S e1) e && zR1 K S p f o (zes K (-1, w, 0) (zes K (-1, w, 0) S e1) e)) j i = some e ∧ (∀ k, m_wayOf_103 (nn p) f o n' (nn e1) k n (nn i) (hw g J M) = some (2, hw g J' M')) ∧ J' 34 0 = nn e1 ∧ J' 34 1 = nn e) := by
  intro j
  induction j with
  | zero =>
    intro i J M n V t hi hn
    obtain ⟨n, rfl⟩ : ∃ n', n = n' + 1 := ⟨n - 1, by omega⟩
    have h200 := zN2_le V.2
    refine ⟨J, M, frB.rfl J, frL2.rfl _ _, Or.inl ⟨rfl, fun k => ?_⟩⟩
    rw [m_wayOf_103]
    simp only [bnd_e, cal_s, onr_s, jon_e, gI_hw, gL_hw, gT_hw, gR_hw, gN_hw, sI_hw, sL_hw, cV_hw, shS_hw, shC_hw, shL_hw, ← bt_def, em_steps V, if_pos (nn_ple (show zN2 K ≤ i by omega) (show i < 2147483648 by omega))]
  | succ j ih =>
    intro i J M n V t hi hn
    obtain ⟨n, rfl⟩ : ∃ n', n = n' + 1 := ⟨n - 1, by omega⟩
    have h200 := zN2_le V.2
    have hP := V.2.1.2.1
    have hie : i < zN2 K := by omega
    have nle := nn_nle hie (show zN2 K < 2147483648 by omega)
    obtain ⟨J1, e1', t1, fl, h3, h2, f1⟩ := em_lay (h := g) (L := M) hP t
    obtain ⟨J2, M2, e2, t2, f2, l2⟩ := em_does (g := g) (M := M) (V.frB f1) t1 ws (fl w) h3 h2 he
    rw [hc, bI_t] at e2
    have t2 := t2 hc
    have V2 := (V.frB f1).fr f2
    have ws2 := zes_ws (F := (-1, w, 0)) V.2 ws he
    obtain ⟨J3, M3, e3, t3, f3, l3⟩ := em_does (g := g) (M := M2) V2 t2 ws2 ((fl w).fr f2) (by rw [f2.2.1 63 (by decide)]; exact h3) (by rw [f2.2.1 62 (by decide)]; exact h2) hie
    have f13 := (f1.tr (frB.m f2)).tr (frB.m f3)
    have f4 : frB J3 (u2 (u2 J3 34 0 (nn e1)) 34 1 (nn i)) := (frB.us _ _ (by omega)).tr (frB.us _ _ (by omega))
    have e0 : ∀ x, x ≠ 34 → u2 (u2 J3 34 0 (nn e1)) 34 1 (nn i) x = J3 x := fun x hx => by rw [u2_ne hx, u2_ne hx]
    have f14 := f13.tr f4
    have V4 := V.frB f14
    have tt := t.frB hP f14
    have r0 : u2 (u2 J3 34 0 (nn e1)) 34 1 (nn i) 34 0 = nn e1 := by rw [u2_nk _ _ (by decide), u2_same]
    have r1 : u2 (u2 J3 34 0 (nn e1)) 34 1 (nn i) 34 1 = nn i := u2_same _ _ _ _
    have i2 : inb (0 : Int32) 2 := by decide
    have i3 : inb (1 : Int32) 2 := by decide
    have unf : zf (fun e => zec K (-1, w, 0) (zes K (-1, w, 0) S e1) e && zR1 K S p f o (zes K (-1, w, 0) (zes K (-1, w, 0) S e1) e)) (j + 1) i = if (zec K (-1, w, 0) (zes K (-1, w, 0) S e1) i && zR1 K S p f o (zes K (-1, w, 0) (zes K (-1, w, 0) S e1) i)) = true then some i else zf (fun e => zec K (-1, w, 0) (zes K (-1, w, 0) S e1) e && zR1 K S p f o (zes K (-1, w, 0) (zes K (-1, w, 0) S e1) e)) j (i + 1) := rfl
    rw [unf]
    cases z : zec K (-1, w, 0) (zes K (-1, w, 0) S e1) i with
    | false =>
      rw [z, bI_f] at e3
      obtain ⟨J5, M5, f5, l5, r5⟩ := ih (i + 1) _ M3 n V4 tt (by omega) (by omega)
      refine ⟨J5, M5, f14.tr f5, (l2.tr l3).tr l5, ?_⟩
      rw [Bool.false_and, if_neg (by decide)]
      rcases r5 with ⟨q1, q2⟩ | ⟨e, q1, q2, q3⟩
      · refine Or.inl ⟨q1, fun k => ?_⟩
        rw [← q2 k, m_wayOf_103]
        simp only [bnd_e, cal_s, onr_s, jon_e, gI_hw, gL_hw, gT_hw, gR_hw, gN_hw, sI_hw, sL_hw, cV_hw, shS_hw, shC_hw, shL_hw, ← bt_def, em_steps V, if_neg nle, e1', e2, if_neg i10, e3, if_true, grd_pos i2, grd_pos i3, tn0, tn1, nn_succ]
      · refine Or.inr ⟨e, q1, fun k => ?_, q3⟩
        rw [← q2 k, m_wayOf_103]
        simp only [bnd_e, cal_s, onr_s, jon_e, gI_hw, gL_hw, gT_hw, gR_hw, gN_hw, sI_hw, sL_hw, cV_hw, shS_hw, shC_hw, shL_hw, ← bt_def, em_steps V, if_neg nle, e1', e2, if_neg i10, e3, if_true, grd_pos i2, grd_pos i3, tn0, tn1, nn_succ]
    | true =>
      rw [z, bI_t] at e3
      have t3 := t3 z
      have t4 : StM (u2 (u2 J3 34 0 (nn e1)) 34 1 (nn i)) 1 (zP K) (zes K (-1, w, 0) (zes K (-1, w, 0) S e1) i) := by unfold StM; rw [e0 29 (by decide), e0 30 (by decide), e0 31 (by decide), e0 32 (by decide), e0 33 (by decide)]; exact t3
      have e5 := em_isWay (g := g) (M := M3) V4 tt t4 hp f o
      rw [Bool.true_and]
      cases z2 : zR1 K S p f o (zes K (-1, w, 0) (zes K (-1, w, 0) S e1) i) with
      | false =>
        rw [show zway K S (zes K (-1, w, 0) (zes K (-1, w, 0) S e1) i) p f o = false from z2, bI_f] at e5
        obtain ⟨J5, M5, f5, l5, r5⟩ := ih (i + 1) _ M3 n V4 tt (by omega) (by omega)
        refine ⟨J5, M5, f14.tr f5, (l2.tr l3).tr l5, ?_⟩
        rw [if_neg (by decide)]
        rcases r5 with ⟨q1, q2⟩ | ⟨e, q1, q2, q3⟩
        · refine Or.inl ⟨q1, fun k => ?_⟩
          rw [← q2 k, m_wayOf_103]
          simp only [bnd_e, cal_s, onr_s, jon_e, gI_hw, gL_hw, gT_hw, gR_hw, gN_hw, sI_hw, sL_hw, cV_hw, shS_hw, shC_hw, shL_hw, ← bt_def, em_steps V, if_neg nle, e1', e2, if_neg i10, e3, if_true, grd_pos i2, grd_pos i3, tn0, tn1, e5, nn_succ]
        · refine Or.inr ⟨e, q1, fun k => ?_, q3⟩
          rw [← q2 k, m_wayOf_103]
          simp only [bnd_e, cal_s, onr_s, jon_e, gI_hw, gL_hw, gT_hw, gR_hw, gN_hw, sI_hw, sL_hw, cV_hw, shS_hw, shC_hw, shL_hw, ← bt_def, em_steps V, if_neg nle, e1', e2, if_neg i10, e3, if_true, grd_pos i2, grd_pos i3, tn0, tn1, e5, nn_succ]
      | true =>
        rw [show zway K S (zes K (-1, w, 0) (zes K (-1, w, 0) S e1) i) p f o = true from z2, bI_t] at e5
        refine ⟨_, M3, f14, l2.tr l3, Or.inr ⟨i, if_pos rfl, fun k => ?_, r0, r1⟩⟩
        rw [m_wayOf_103]
        simp only [bnd_e, cal_s, onr_s, jon_e, gI_hw, gL_hw, gT_hw, gR_hw, gN_hw, sI_hw, sL_hw, cV_hw, shS_hw, shC_hw, shL_hw, ← bt_def, em_steps V, if_neg nle, e1', e2, if_neg i10, e3, grd_pos i2, grd_pos i3, tn0, tn1, e5]
theorem em_w69 {p : Nat} (hp : p < zP K) (ws : WS (zP K) S) (f o : Int32) : ∀ (j i : Nat) (J : Nat → Nat → Int32) (M : Nat → Nat → Int64) (n : Nat), MW J K → StM J 0 (zP K) S → i + j = zN2 K → j < n → ∃ J' M', frB J J' ∧ frL2 false M M' ∧ ((zf (fun e => zec K (-1, w, 0) S e && zR2 K w S p f o (zes K (-1, w, 0) S e)) j i = none ∧ ∀ k, m_wayOf_69 (nn p) f o 2 k n (nn i) (hw g J M) = k (hw g J' M')) ∨ ∃ e, zf (fun e => zec K (-1, w, 0) S e && zR2 K w S p f o (zes K (-1, w, 0) S e)) j i = some e ∧ (∀ k, m_wayOf_69 (nn p) f o 2 k n (nn i) (hw g J M) = some (2, hw g J' M')) ∧ J' 34 0 = nn e ∧ J' 34 1 = nn ((zs1 K w (zR1 K S p f o) (zes K (-1, w, 0) S e)).getD 0)) := by
  intro j
  induction j with
  | zero =>
    intro i J M n V t hi hn
    obtain ⟨n, rfl⟩ : ∃ n', n = n' + 1 := ⟨n - 1, by omega⟩
    have h200 := zN2_le V.2
    refine ⟨J, M, frB.rfl J, frL2.rfl _ _, Or.inl ⟨rfl, fun k => ?_⟩⟩
    rw [m_wayOf_69]
    simp only [bnd_e, cal_s, onr_s, jon_e, gI_hw, gL_hw, gT_hw, gR_hw, gN_hw, sI_hw, sL_hw, cV_hw, shS_hw, shC_hw, shL_hw, ← bt_def, em_steps V, if_pos (nn_ple (show zN2 K ≤ i by omega) (show i < 2147483648 by omega))]
  | succ j ih =>
    intro i J M n V t hi hn
    obtain ⟨n, rfl⟩ : ∃ n', n = n' + 1 := ⟨n - 1, by omega⟩
    have h200 := zN2_le V.2
    have hP := V.2.1.2.1
    have hie : i < zN2 K := by omega
    have nle := nn_nle hie (show zN2 K < 2147483648 by omega)
    obtain ⟨J1, e1', t1, fl, h3, h2, f1⟩ := em_lay (h := g) (L := M) hP t
    obtain ⟨J2, M2, e2, -, f2, l2⟩ := em_does (g := g) (M := M) (V.frB f1) t1 ws (fl w) h3 h2 hie
    have f12 := f1.tr (frB.m f2)
    have V2 := V.frB f12
    have tt := t.frB hP f12
    have unf : zf (fun e => zec K (-1, w, 0) S e && zR2 K w S p f o (zes K (-1, w, 0) S e)) (j + 1) i = if (zec K (-1, w, 0) S i && zR2 K w S p f o (zes K (-1, w, 0) S i)) = true then some i else zf (fun e => zec K (-1, w, 0) S e && zR2 K w S p f o (zes K (-1, w, 0) S e)) j (i + 1) := rfl
    rw [unf]
    cases z : zec K (-1, w, 0) S i with
    | false =>
      rw [z, bI_f] at e2
      obtain ⟨J5, M5, f5, l5, r5⟩ := ih (i + 1) J2 M2 n V2 tt (by omega) (by omega)
      refine ⟨J5, M5, f12.tr f5, l2.tr l5, ?_⟩
      rw [Bool.false_and, if_neg (by decide)]
      rcases r5 with ⟨q1, q2⟩ | ⟨e, q1, q2, q3⟩
      · refine Or.inl ⟨q1, fun k => ?_⟩
        rw [← q2 k, m_wayOf_69]
        simp only [bnd_e, cal_s, onr_s, jon_e, gI_hw, gL_hw, gT_hw, gR_hw, gN_hw, sI_hw, sL_hw, cV_hw, shS_hw, shC_hw, shL_hw, ← bt_def, em_steps V, if_neg nle, if_true, e1', e2, nn_succ]
      · refine Or.inr ⟨e, q1, fun k => ?_, q3⟩
        rw [← q2 k, m_wayOf_69]
        simp only [bnd_e, cal_s, onr_s, jon_e, gI_hw, gL_hw, gT_hw, gR_hw, gN_hw, sI_hw, sL_hw, cV_hw, shS_hw, shC_hw, shL_hw, ← bt_def, em_steps V, if_neg nle, if_true, e1', e2, nn_succ]
    | true =>
      rw [z, bI_t] at e2
      obtain ⟨J3, M3, f3, l3, r3⟩ := em_w103 (g := g) (w := w) hp ws f o 2 hie z (zN2 K) 0 J2 M2 FU V2 tt (by omega) (by show _ < 1000; omega)
      rw [nn0] at r3
      have f13 := f12.tr f3
      rw [Bool.true_and]
      rcases r3 with ⟨q1, q2⟩ | ⟨e', q1, q2, q3, q4⟩
      · have z2 : zR2 K w S p f o (zes K (-1, w, 0) S i) = false := by unfold zR2 zs1; rw [q1]; rfl
        obtain ⟨J5, M5, f5, l5, r5⟩ := ih (i + 1) J3 M3 n (V.frB f13) (t.frB hP f13) (by omega) (by omega)
        refine ⟨J5, M5, f13.tr f5, (l2.tr l3).tr l5, ?_⟩
        rw [z2, if_neg (by decide)]
        rcases r5 with ⟨r1, r2⟩ | ⟨e, r1, r2, r3⟩
        · refine Or.inl ⟨r1, fun k => ?_⟩
          rw [← r2 k, m_wayOf_69]
          simp only [bnd_e, cal_s, onr_s, jon_e, gI_hw, gL_hw, gT_hw, gR_hw, gN_hw, sI_hw, sL_hw, cV_hw, shS_hw, shC_hw, shL_hw, ← bt_def, em_steps V, if_neg nle, if_true, e1', e2, if_neg i10, q2, nn_succ]
        · refine Or.inr ⟨e, r1, fun k => ?_, r3⟩
          rw [← r2 k, m_wayOf_69]
          simp only [bnd_e, cal_s, onr_s, jon_e, gI_hw, gL_hw, gT_hw, gR_hw, gN_hw, sI_hw, sL_hw, cV_hw, shS_hw, shC_hw, shL_hw, ← bt_def, em_steps V, if_neg nle, if_true, e1', e2, if_neg i10, q2, nn_succ]
      · have z3 : zs1 K w (zR1 K S p f o) (zes K (-1, w, 0) S i) = some e' := q1
        have z2 : zR2 K w S p f o (zes K (-1, w, 0) S i) = true := by unfold zR2; rw [z3]; rfl
        refine ⟨J3, M3, f13, l2.tr l3, Or.inr ⟨i, by rw [z2, if_pos rfl], fun k => ?_, q3, by rw [z3]; exact q4⟩⟩
        rw [m_wayOf_69]
        simp only [bnd_e, cal_s, onr_s, jon_e, gI_hw, gL_hw, gT_hw, gR_hw, gN_hw, sI_hw, sL_hw, cV_hw, shS_hw, shC_hw, shL_hw, ← bt_def, em_steps V, if_neg nle, if_true, e1', e2, if_neg i10, q2]
theorem em_w69' {p : Nat} {J : Nat → Nat → Int32} {M : Nat → Nat → Int64} (V : MW J K) (f o : Int32) (k : HP → Option (Int32 × HP)) : m_wayOf_69 (nn p) f o 1 k FU 0 (hw g J M) = k (hw g J M) := by
  rw [show FU = 999 + 1 from rfl, m_wayOf_69]
  simp only [bnd_e, cal_s, onr_s, jon_e, gI_hw, gL_hw, gT_hw, gR_hw, gN_hw, sI_hw, sL_hw, cV_hw, shS_hw, shC_hw, shL_hw, ← bt_def, em_steps V, show ¬ ((1 : Int32) = 2) by decide, if_false, ite_self]
theorem em_wayOf {J : Nat → Nat → Int32} {M : Nat → Nat → Int64} (V : MW J K) (t : StM J 0 (zP K) S) (ws : WS (zP K) S) {p n : Nat} (hp : p < zP K) (hn : n = 1 ∨ n = 2) (f o : Int32) : ∃ J' M', m_wayOf (nn p) f o (nn n) (hw g J M) = some ((if (zW K w S p f o n).1 = -1 then -2 else (zW K w S p f o n).1), hw g J' M') ∧ (∀ x, nn x < (zW K w S p f o n).1 → x < 2 → J' 34 x = if x = 0 then nn (zW K w S p f o n).2.1 else nn (zW K w S p f o n).2.2) ∧ frB J J' ∧ frL2 false M M' := by
  have hP := V.2.1.2.1
  have h200 := zN2_le V.2
  have k1 : J 29 p = sk S p := by have := (t.1 p hp).1; rw [show 5 * 0 + p = p by omega] at this; exact this
  have neg : ∀ x, ¬ nn x < (-1 : Int32) ∨ ¬ x < 2 := fun x => by
    by_cases y : x < 2
    · left; intro q; exact absurd (Int32.lt_trans q (show (-1 : Int32) < 0 by decide)) (nn_nonneg (by omega))
    · right; exact y
  unfold zW
  rw [zway_self]
  by_cases z0 : bt (sk S p) f = 0
  · rw [decide_eq_false (fun y => y z0), if_neg (show ¬ (false = true) by decide)]
    have d0 : bI (decide ¬ bt (sk S p) f = 0) = 0 := by rw [decide_eq_false (fun y => y z0)]; rfl
    obtain ⟨J1, M1, f1, l1, r1⟩ := em_w18 (g := g) (w := w) hp ws f o (nn n) (zN2 K) 0 J M FU V t (by omega) (by show _ < 1000; omega)
    rw [nn0] at r1
    rcases r1 with ⟨q1, q2⟩ | ⟨e, q1, q2, q3⟩
    · have q1 : zs1 K w (zR1 K S p f o) S = none := q1
      rw [q1]
      rcases hn with rfl | rfl
      · refine ⟨J1, M1, ?_, fun x hx hx2 => ?_, f1, l1⟩
        · simp only [m_wayOf, bnd_e, cal_s, onr_s, jon_e, gI_hw, gL_hw, gT_hw, gR_hw, gN_hw, sI_hw, sL_hw, cV_hw, shS_hw, shC_hw, shL_hw, ← bt_def, grd_pos (show inb (nn p) 10 from nn_inb (by omega) (by omega)), nn_clamp (show p < 2147483648 by omega), k1, em_isOf, d0, if_true, q2]
          exact em_w69' (V.frB f1) f o _
        · rcases neg x with y | y
          · exact absurd hx y
          · exact absurd hx2 y
      · obtain ⟨J2, M2, f2, l2, r2⟩ := em_w69 (g := g) (w := w) hp ws f o (zN2 K) 0 J1 M1 FU (V.frB f1) (t.frB hP f1) (by omega) (by show _ < 1000; omega)
        rw [nn0] at r2
        rcases r2 with ⟨s1, s2⟩ | ⟨e, s1, s2, s3, s4⟩
        · have s1 : zs1 K w (zR2 K w S p f o) S = none := s1
          rw [s1]
          refine ⟨J2, M2, ?_, fun x hx hx2 => ?_, f1.tr f2, l1.tr l2⟩
          · simp only [m_wayOf, bnd_e, cal_s, onr_s, jon_e, gI_hw, gL_hw, gT_hw, gR_hw, gN_hw, sI_hw, sL_hw, cV_hw, shS_hw, shC_hw, shL_hw, ← bt_def, grd_pos (show inb (nn p) 10 from nn_inb (by omega) (by omega)), nn_clamp (show p < 2147483648 by omega), k1, em_isOf, d0, if_true, q2]
            exact s2 _
          · rcases neg x with y | y
            · exact absurd hx y
            · exact absurd hx2 y
        · have s1 : zs1 K w (zR2 K w S p f o) S = some e := s1
          rw [s1]
          refine ⟨J2, M2, ?_, fun x hx hx2 => ?_, f1.tr f2, l1.tr l2⟩
          · simp only [m_wayOf, bnd_e, cal_s, onr_s, jon_e, gI_hw, gL_hw, gT_hw, gR_hw, gN_hw, sI_hw, sL_hw, cV_hw, shS_hw, shC_hw, shL_hw, ← bt_def, grd_pos (show inb (nn p) 10 from nn_inb (by omega) (by omega)), nn_clamp (show p < 2147483648 by omega), k1, em_isOf, d0, if_true, q2]
            exact s2 _
          · rcases (show x = 0 ∨ x = 1 by omega) with rfl | rfl
            · exact s3
            · exact s4
    · have q1 : zs1 K w (zR1 K S p f o) S = some e := q1
      rw [q1]
      refine ⟨J1, M1, ?_, fun x hx hx2 => ?_, f1, l1⟩
      · simp only [m_wayOf, bnd_e, cal_s, onr_s, jon_e, gI_hw, gL_hw, gT_hw, gR_hw, gN_hw, sI_hw, sL_hw, cV_hw, shS_hw, shC_hw, shL_hw, ← bt_def, grd_pos (show inb (nn p) 10 from nn_inb (by omega) (by omega)), nn_clamp (show p < 2147483648 by omega), k1, em_isOf, d0, if_true, q2]
        rfl
      · have : x = 0 := by
          by_cases y : x = 0
          · exact y
          · exact absurd hx (nn_nlt (n := 1) (i := x) (by omega) (by omega))
        rw [this]; exact q3
  · rw [decide_eq_true z0, if_pos (show true = true from rfl)]
    have d1 : bI (decide ¬ bt (sk S p) f = 0) = 1 := by rw [decide_eq_true z0]; rfl
    refine ⟨J, M, ?_, fun x hx hx2 => absurd hx (nn_nlt (n := 0) (i := x) (by omega) (by omega)), frB.rfl J, frL2.rfl _ _⟩
    simp only [m_wayOf, bnd_e, cal_s, onr_s, jon_e, gI_hw, gL_hw, gT_hw, gR_hw, gN_hw, sI_hw, sL_hw, cV_hw, shS_hw, shC_hw, shL_hw, ← bt_def, grd_pos (show inb (nn p) 10 from nn_inb (by omega) (by omega)), nn_clamp (show p < 2147483648 by omega), k1, em_isOf, d1, if_neg i10]
    rfl
theorem b_isAsked {I J : Nat → Nat → Int32} {L M : Nat → Nat → Int64} (a : At h I0 J0 M0 c K A w S I J M) (x f o n : Int32) : (∃ i m, i < zP K ∧ (m = 1 ∨ m = 2) ∧ x = nn i ∧ n = nn m ∧ cA_isAsked x f o n (hw h I L) = some (1, hw h I L) ∧ m_isAsked x f o n (hw g J M) = some (1, hw g J M)) ∨ (cA_isAsked x f o n (hw h I L) = some (0, hw h I L) ∧ m_isAsked x f o n (hw g J M) = some (0, hw g J M)) := by
  have W := a.1.1.1
  have V := a.1.2.1.1
  have hP := W.p5
  have ei : cA_in n.toInt64 1 2 (hw h I L) = _ := ec_in n 1 2 (hw h I L)
  simp only [cA_isAsked, m_isAsked, bnd_e, cal_s, onr_s, jon_e, gI_hw, gL_hw, gT_hw, gR_hw, gN_hw, sI_hw, sL_hw, cV_hw, shS_hw, shC_hw, shL_hw, ← bt_def, ec_isPerson W, em_isPerson V, ec_isFact W, em_isFact V, bI_eq0, ec_persons W, V.1.1.2.1, em_isOf, ei, em_in]
  cases z : zin x (zP K) with
  | false => right; exact ⟨rfl, rfl⟩
  | true =>
    cases z2 : zin f (zF K) with
    | false => right; exact ⟨rfl, rfl⟩
    | true =>
      simp only [eq_self, Bool.true_eq_false, if_true, if_false]
      by_cases z3 : o < 0
      · right; exact ⟨if_pos z3, if_pos z3⟩
      · rw [if_neg z3, if_neg z3]
        by_cases z4 : o >>> (nn (zP K) &&& 31) = 0
        · rw [if_pos z4, if_pos z4]
          by_cases z5 : bt o x = 0
          · rw [if_pos z5, decide_eq_false (show ¬ ¬ bt o x = 0 from fun y => y z5), if_pos rfl]
            cases z6 : decide (¬ n < 1 ∧ ¬ 2 < n) with
            | false => right; exact ⟨rfl, rfl⟩
            | true =>
              left
              obtain ⟨i, hi, ei⟩ := zin_t (by omega) z
              rw [decide_eq_true_eq] at z6
              have hn0 : ¬ n < 0 := fun y => z6.1 (Int32.lt_trans y (by decide))
              obtain ⟨m, hm, em⟩ : ∃ m, m < 3 ∧ n = nn m := nn_of (by omega) hn0 (by
                have := Int32.not_lt.mp z6.2
                rw [Int32.le_iff_toInt_le, show (2 : Int32).toInt = 2 from rfl] at this
                rw [Int32.lt_iff_toInt_lt, show (nn 3).toInt = 3 from rfl]; omega)
              refine ⟨i, m, hi, ?_, ei, em, rfl, rfl⟩
              have : m ≠ 0 := fun y => by rw [em, y] at z6; exact z6.1 (by decide)
              omega
          · right
            rw [if_neg z5, decide_eq_true z5, if_neg (by decide)]
            exact ⟨rfl, rfl⟩
        · right
          rw [if_neg z4, if_neg z4]
          exact ⟨rfl, rfl⟩
theorem zW_lt {p n : Nat} (f o : Int32) : ∀ x, nn x < (zW K w S p f o n).1 → x < 2147483648 → x < 2 := by
  intro x hx hx2
  have h2 : (zW K w S p f o n).1 = 0 ∨ (zW K w S p f o n).1 = 1 ∨ (zW K w S p f o n).1 = 2 ∨ (zW K w S p f o n).1 = -1 := by
    unfold zW
    split
    · exact Or.inl rfl
    · split
      · exact Or.inr (Or.inl rfl)
      · split
        · split
          · exact Or.inr (Or.inr (Or.inl rfl))
          · exact Or.inr (Or.inr (Or.inr rfl))
        · exact Or.inr (Or.inr (Or.inr rfl))
  rcases h2 with z | z | z | z <;> rw [z] at hx
  · exact absurd hx (nn_nonneg hx2)
  · have := (nn_lt (b := 1) hx2 (by omega)).mp hx; omega
  · exact (nn_lt (b := 2) hx2 (by omega)).mp hx
  · exact absurd (Int32.lt_trans hx (show (-1 : Int32) < 0 by decide)) (nn_nonneg hx2)
theorem zW_e {p n : Nat} (f o : Int32) : ∀ x, x < 2 → nn x < (zW K w S p f o n).1 → (if x = 0 then (zW K w S p f o n).2.1 else (zW K w S p f o n).2.2) < zN2 K := by
  intro x hx hlt
  unfold zW at hlt ⊢
  by_cases z0 : zway K S S p f o = true
  · rw [if_pos z0] at hlt
    exact absurd hlt (nn_nonneg (by omega))
  · rw [if_neg z0] at hlt ⊢
    cases z1 : zs1 K w (zR1 K S p f o) S with
    | some e =>
      rw [z1] at hlt
      have := (zf_hit _ _ _ z1).2.2
      have hx0 : x = 0 := by have := (nn_lt (a := x) (b := 1) (by omega) (by omega)).mp hlt; omega
      rw [if_pos hx0]
      show e < zN2 K
      omega
    | none =>
      rw [z1] at hlt
      by_cases zn : n = 2
      · rw [if_pos zn] at hlt ⊢
        cases z2 : zs1 K w (zR2 K w S p f o) S with
        | some e =>
          have h1 := zf_hit _ _ _ z2
          have hh := h1.1
          rw [Bool.and_eq_true] at hh
          obtain ⟨e', he'⟩ : ∃ e', zs1 K w (zR1 K S p f o) (zes K (-1, w, 0) S e) = some e' := Option.isSome_iff_exists.mp hh.2
          have h2 := (zf_hit _ _ _ he').2.2
          rcases (show x = 0 ∨ x = 1 by omega) with rfl | rfl
          · rw [if_pos rfl]; show e < zN2 K; omega
          · rw [if_neg (by decide)]
            show (zs1 K w (zR1 K S p f o) (zes K (-1, w, 0) S e)).getD 0 < zN2 K
            rw [he']; show e' < zN2 K; omega
        | none =>
          rw [z2] at hlt
          exact absurd (Int32.lt_trans hlt (show (-1 : Int32) < 0 by decide)) (nn_nonneg (by omega))
      · rw [if_neg zn] at hlt
        exact absurd (Int32.lt_trans hlt (show (-1 : Int32) < 0 by decide)) (nn_nonneg (by omega))
theorem b_way {I J : Nat → Nat → Int32} {L M : Nat → Nat → Int64} (a : At h I0 J0 M0 c K A w S I J M) (x f o n : Int32) : B2 h g I0 J0 M0 (cA_way x f o n (hw h I L)) (m_way x f o n (hw g J M)) := by
  have a := a.thr
  rcases b_isAsked (g := g) (L := L) (M := M) a x f o n with ⟨i, m, hi, hm, rfl, rfl, e1, e2⟩ | ⟨e1, e2⟩
  · obtain ⟨I1, L1, e3, k3, -, f3⟩ := ec_layWay (L := L) a.1.1.1 a.1.1.2 hi hm f o
    obtain ⟨J1, M1, e4, -, f4, l4⟩ := em_wayOf (g := g) (M := M) (w := w) a.1.2.1.1 a.1.2.1.2 a.1.2.2 hi hm f o
    have a2 := a.to f3 f4 l4
    simp only [cA_way, m_way, bnd_e, cal_s, onr_s, jon_e, gI_hw, gL_hw, gT_hw, gR_hw, gN_hw, sI_hw, sL_hw, cV_hw, shS_hw, shC_hw, shL_hw, ← bt_def, e1, e2, if_neg i10, e3, e4, k3]
    by_cases z : (zW K w S i f o m).1 = -1
    · rw [if_pos z, if_pos z]; exact a2.end _
    · rw [if_neg z, if_neg z]; exact a2.end _
  · simp only [cA_way, m_way, bnd_e, cal_s, onr_s, jon_e, gI_hw, gL_hw, gT_hw, gR_hw, gN_hw, sI_hw, sL_hw, cV_hw, shS_hw, shC_hw, shL_hw, ← bt_def, e1, e2, if_true]
    exact a.end _
theorem b_step {I J : Nat → Nat → Int32} {L M : Nat → Nat → Int64} (a : At h I0 J0 M0 c K A w S I J M) (x f o n y : Int32) : B2 h g I0 J0 M0 (cA_step x f o n y (hw h I L)) (m_step x f o n y (hw g J M)) := by
  have a := a.thr
  rcases b_isAsked (g := g) (L := L) (M := M) a x f o n with ⟨i, m, hi, hm, rfl, rfl, e1, e2⟩ | ⟨e1, e2⟩
  · by_cases z0 : 0 ≤ y
    · obtain ⟨I1, L1, e3, k3, x3, f3⟩ := ec_layWay (L := L) a.1.1.1 a.1.1.2 hi hm f o
      obtain ⟨J1, M1, e4, x4, f4, l4⟩ := em_wayOf (g := g) (M := M) (w := w) a.1.2.1.1 a.1.2.1.2 a.1.2.2 hi hm f o
      have a2 := a.to f3 f4 l4
      have y1 : ∃ k, k < 2147483648 ∧ y = nn k := ⟨y.toNatClampNeg, Int32.toNatClampNeg_lt y, (Int32.ofNat_toNatClampNeg y z0).symm⟩
      obtain ⟨k, hk, rfl⟩ := y1
      simp only [cA_step, m_step, bnd_e, cal_s, onr_s, jon_e, gI_hw, gL_hw, gT_hw, gR_hw, gN_hw, sI_hw, sL_hw, cV_hw, shS_hw, shC_hw, shL_hw, ← bt_def, e1, e2, if_neg i10, if_pos z0, e3, e4, k3]
      by_cases z : nn k < (zW K w S i f o m).1
      · have nz : ¬ (zW K w S i f o m).1 = -1 := fun q => by rw [q] at z; exact absurd (Int32.lt_trans z (show (-1 : Int32) < 0 by decide)) (nn_nonneg hk)
        have k2 := zW_lt f o k z hk
        have x3 := x3 k z k2
        have x4 := x4 k z k2
        have x5 := zW_e f o k k2 z
        have ik : inb (nn k) 2 := nn_inb hk k2
        rw [if_neg (Int32.not_le.mpr z), if_neg nz, if_pos z]
        rw [← apply_ite (ecode K)] at x3
        rw [← apply_ite nn] at x4
        generalize (if k = 0 then (zW K w S i f o m).2.1 else (zW K w S i f o m).2.2) = e at x3 x4 x5
        obtain ⟨u1, u2, u3⟩ := em_who (g := g) (M := M1) a2.1.2.1.1 x5
        simp only [grd_pos ik, nn_clamp hk, x3, x4, u1, u2, u3, bnd_e, cal_s, onr_s, jon_e, gI_hw, gL_hw, gT_hw, gR_hw, gN_hw, sI_hw, sL_hw, cV_hw, shS_hw, shC_hw, shL_hw, ← bt_def]
        have ce : ((100 : Int32) * nn (ew K e) + (10 : Int32) * nn (em_ K e)) + nn (eq_ K e) = ecode K e := by
          unfold ecode
          rw [show (100 : Int32) = nn 100 from rfl, show (10 : Int32) = nn 10 from rfl, nn_mul, nn_mul, nn_add, nn_add]
        rw [ce]
        exact a2.end _
      · rw [if_pos (Int32.not_lt.mp z)]
        have : ¬ nn k < (if (zW K w S i f o m).1 = -1 then -2 else (zW K w S i f o m).1) := by
          by_cases q : (zW K w S i f o m).1 = -1
          · rw [if_pos q]; intro y; exact absurd (Int32.lt_trans y (show (-2 : Int32) < 0 by decide)) (nn_nonneg hk)
          · rw [if_neg q]; exact z
        rw [if_neg this]
        exact a2.end _
    · simp only [cA_step, m_step, bnd_e, cal_s, onr_s, jon_e, gI_hw, gL_hw, gT_hw, gR_hw, gN_hw, sI_hw, sL_hw, cV_hw, shS_hw, shC_hw, shL_hw, ← bt_def, e1, e2, if_neg i10, if_neg z0]
      exact a.end _
  · simp only [cA_step, m_step, bnd_e, cal_s, onr_s, jon_e, gI_hw, gL_hw, gT_hw, gR_hw, gN_hw, sI_hw, sL_hw, cV_hw, shS_hw, shC_hw, shL_hw, ← bt_def, e1, e2, if_true]
    exact a.end _
end B13
