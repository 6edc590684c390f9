/-! PURE LEVEL 21: who is there; trials on both sides; all, never, away, spread, hint, unasked, inRoom, bestRoom -/
def zin (a : Int32) (n : Nat) : Bool := decide (¬ a < 0 ∧ a < nn n)
theorem zin_t {a : Int32} {n : Nat} (hn : n < 2147483648) (h : zin a n = true) : ∃ i, i < n ∧ a = nn i := by
  unfold zin at h
  rw [decide_eq_true_eq] at h
  exact nn_of hn h.1 h.2
theorem lt64 {x y : Int32} : x.toInt64 < y.toInt64 ↔ x < y := by
  rw [Int64.lt_iff_toInt_lt, Int32.lt_iff_toInt_lt, Int32.toInt_toInt64, Int32.toInt_toInt64]
theorem ec_in (x lo hi : Int32) (H : HP) : cA_in x.toInt64 lo.toInt64 hi.toInt64 H = some (bI (decide (¬ x < lo ∧ ¬ hi < x)), H) := by
  simp only [cA_in, lg_neg, lg_pos, lt64]
  by_cases a : x < lo
  · rw [if_pos a, decide_eq_false (fun y => y.1 a)]; rfl
  · rw [if_neg a]
    by_cases b : hi < x
    · rw [if_pos b, decide_eq_false (fun y => y.2 b)]; rfl
    · rw [if_neg b, decide_eq_true ⟨a, b⟩]; rfl
theorem em_in (x lo hi : Int32) (H : HP) : m_isIn x lo hi H = some (bI (decide (¬ x < lo ∧ ¬ hi < x)), H) := by
  unfold m_isIn
  by_cases a : x < lo
  · rw [if_pos a, decide_eq_false (fun y => y.1 a)]; rfl
  · rw [if_neg a]
    by_cases b : hi < x
    · rw [if_pos b, decide_eq_false (fun y => y.2 b)]; rfl
    · rw [if_neg b, decide_eq_true ⟨a, b⟩]; rfl
theorem zin_le {a : Int32} {n : Nat} (hn : n < 2147483648) : decide (¬ a < 0 ∧ ¬ nn n - 1 < a) = zin a n := by
  unfold zin
  apply decide_eq_decide.mpr
  refine and_congr_right (fun h0 => ?_)
  have e : (nn n - 1).toInt = (n : Int) - 1 := by
    rw [show (1 : Int32) = nn 1 from rfl]
    by_cases z : 1 ≤ n
    · rw [nn_sub z]
      show (Int32.ofNat (n - 1)).toInt = _
      rw [Int32.toInt_ofNat_of_lt (by omega)]; omega
    · rw [show n = 0 by omega]; rfl
  rw [Int32.lt_iff_toInt_lt, Int32.lt_iff_toInt_lt, e, show (nn n).toInt = n from Int32.toInt_ofNat_of_lt hn]
  omega
section B1
variable {h g : HP} {I J : Nat → Nat → Int32} {L M : Nat → Nat → Int64} {c : Nat} {K : KT} {A : Nat → Nat → Nat} {w : Int32} {S : ST}
theorem ec_isPerson (W : CW h I c K A) (a : Int32) : cA_isPerson a (hw h I L) = some (bI (zin a (zP K)), hw h I L) := by
  have hP := W.p5
  have e := ec_in a 0 (nn (zP K) - 1) (hw h I L)
  rw [zin_le (by omega)] at e
  have e : cA_in a.toInt64 0 (nn (zP K) - 1).toInt64 (hw h I L) = _ := e
  simp only [cA_isPerson, bnd_e, cal_s, onr_s, jon_e, gI_hw, gL_hw, gT_hw, gR_hw, gN_hw, sI_hw, sL_hw, cV_hw, shS_hw, shC_hw, shL_hw, ← bt_def, ec_persons W, e, grd_pos (isB_bI _)]
theorem ec_isQuestion (W : CW h I c K A) (a : Int32) : cA_isQuestion a (hw h I L) = some (bI (zin a (zQ K)), hw h I L) := by
  have hP := W.q8
  have e := ec_in a 0 (nn (zQ K) - 1) (hw h I L)
  rw [zin_le (by omega)] at e
  have e : cA_in a.toInt64 0 (nn (zQ K) - 1).toInt64 (hw h I L) = _ := e
  simp only [cA_isQuestion, bnd_e, cal_s, onr_s, jon_e, gI_hw, gL_hw, gT_hw, gR_hw, gN_hw, sI_hw, sL_hw, cV_hw, shS_hw, shC_hw, shL_hw, ← bt_def, ec_questions W, e, grd_pos (isB_bI _)]
theorem ec_facts (W : CW h I c K A) : cL_size (c + 1) (hw h I L) = some (nn (zF K), hw h I L) := by
  rw [ec_size W.2.1.2.1.1, W.2.1.2.2.2.1.1]
theorem ec_isFact (W : CW h I c K A) (a : Int32) : cA_isFact a (hw h I L) = some (bI (zin a (zF K)), hw h I L) := by
  have hP := W.2.2.1.1
  have e := ec_in a 0 (nn (zF K) - 1) (hw h I L)
  rw [zin_le (by omega)] at e
  have e : cA_in a.toInt64 0 (nn (zF K) - 1).toInt64 (hw h I L) = _ := e
  simp only [cA_isFact, bnd_e, cal_s, onr_s, jon_e, gI_hw, gL_hw, gT_hw, gR_hw, gN_hw, sI_hw, sL_hw, cV_hw, shS_hw, shC_hw, shL_hw, ← bt_def, W.1, grd_pos W.2.1.1, grd_pos W.2.1.2.1.1, ec_facts W, e, grd_pos (isB_bI _)]
theorem em_zin {n : Nat} (a : Int32) (H : HP) : (if a < 0 then some ((0 : Int32), H) else if nn n ≤ a then some (0, H) else some (1, H)) = some (bI (zin a n), H) := by
  unfold zin
  by_cases z : a < 0
  · rw [if_pos z, decide_eq_false (fun y => y.1 z)]; rfl
  · rw [if_neg z]
    by_cases z2 : nn n ≤ a
    · rw [if_pos z2, decide_eq_false (fun y => absurd y.2 (Int32.not_lt.mpr z2))]; rfl
    · rw [if_neg z2, decide_eq_true ⟨z, Int32.not_le.mp z2⟩]; rfl
theorem em_isPerson (W : MW J K) (a : Int32) : m_isPerson a (hw g J M) = some (bI (zin a (zP K)), hw g J M) := by
  simp only [m_isPerson, bnd_e, cal_s, onr_s, jon_e, gI_hw, gL_hw, gT_hw, gR_hw, gN_hw, sI_hw, sL_hw, cV_hw, shS_hw, shC_hw, shL_hw, ← bt_def, W.1.1.2.1]; exact em_zin a _
theorem em_isQuestion (W : MW J K) (a : Int32) : m_isQuestion a (hw g J M) = some (bI (zin a (zQ K)), hw g J M) := by
  simp only [m_isQuestion, bnd_e, cal_s, onr_s, jon_e, gI_hw, gL_hw, gT_hw, gR_hw, gN_hw, sI_hw, sL_hw, cV_hw, shS_hw, shC_hw, shL_hw, ← bt_def, W.1.1.2.2.1]; exact em_zin a _
theorem em_isFact (W : MW J K) (a : Int32) : m_isFact a (hw g J M) = some (bI (zin a (zF K)), hw g J M) := by
  simp only [m_isFact, bnd_e, cal_s, onr_s, jon_e, gI_hw, gL_hw, gT_hw, gR_hw, gN_hw, sI_hw, sL_hw, cV_hw, shS_hw, shC_hw, shL_hw, ← bt_def, W.1.1.1]; exact em_zin a _
/-! trials -/
theorem StC.gone {o P : Nat} {a b x y : Int32} (q : StC I o P (a, b, x) S) : StC (u2 I o 9 y) o P (a, b, y) S := by
  obtain ⟨s1, s2, s3, s4, s5⟩ := q
  refine ⟨fun p hp => ?_, ?_, ?_, ?_, u2_same _ _ _ _⟩
  · rw [u2_ne (show o + 1 ≠ o by omega), u2_ne (show o + 2 ≠ o by omega), u2_ne (show o + 3 ≠ o by omega), u2_ne (show o + 4 ≠ o by omega)]; exact s1 p hp
  · rw [u2_nk _ _ (by decide)]; exact s2
  · rw [u2_nk _ _ (by decide)]; exact s3
  · rw [u2_nk _ _ (by decide)]; exact s4
theorem FlM.gone {a b x y : Int32} (q : FlM J (a, b, x)) : FlM (u2 J 0 66 y) (a, b, y) := by
  obtain ⟨q1, q2, q3, q4⟩ := q
  refine ⟨?_, ?_, u2_same _ _ _ _, ?_⟩
  · rw [u2_nk _ _ (by decide)]; exact q1
  · rw [u2_nk _ _ (by decide)]; exact q2
  · rw [u2_nk _ _ (by decide)]; exact q4
theorem ec_other (W : CW h I c K A) (q : StC I 20 (zP K) (-1, w, 0) S) : ∃ I', cS_become 25 20 (hw h I L) = some ((), hw h I' L) ∧ StC I' 25 (zP K) (-1, w, 0) S ∧ frA I I' ∧ I' 25 6 = I 20 6 := by
  obtain ⟨I1, e1, s1, f1, -, n6⟩ := ec_becomeS (L := L) W.p5 (sh25 h) (sh20 h) (by decide) q
  exact ⟨I1, e1, s1, frA.o (by omega) f1, n6⟩
theorem ec_without (W : CW h I c K A) (q : StC I 20 (zP K) (-1, w, 0) S) (ws : WS (zP K) S) (y : Int32) : ∃ I' L', cA_askAllWithout y (hw h I L) = some ((), hw h I' L') ∧ StC I' 25 (zP K) (-1, w, y) (zallS K (-1, w, y) S) ∧ frA I I' := by
  obtain ⟨I1, e1, s1, f1, -⟩ := ec_other (L := L) W q
  have f2 : frA I1 (u2 I1 25 9 y) := frA.u _ (by omega)
  obtain ⟨I3, L3, e3, s3, f3⟩ := ec_askAll (L := L) (W.frA (f1.tr f2)) (sh25 h) (s1.gone (y := y)) (zallS_ok W.2.2 ws).1 (by decide)
  refine ⟨I3, L3, ?_, s3, (f1.tr f2).tr (frA.o (by omega) f3)⟩
  simp only [cA_askAllWithout, bnd_e, cal_s, onr_s, jon_e, gI_hw, gL_hw, gT_hw, gR_hw, gN_hw, sI_hw, sL_hw, cV_hw, shS_hw, shC_hw, shL_hw, ← bt_def, e1, e3]
theorem em_try (W : MW J K) (q : StM J 0 (zP K) S) (ws : WS (zP K) S) {F : FT} {J1 : Nat → Nat → Int32} {S1 : ST} (ws1 : WS (zP K) S1) (f1 : frB J J1) (fl : FlM J1 F) (h2 : J1 0 62 = 0) (s1 : StM J1 1 (zP K) S1) : ∃ J' M', m_askAll (hw g J1 M) = some ((), hw g J' M') ∧ StM J' 1 (zP K) (zallS K F S1) ∧ frB J J' ∧ frL2 false M M' ∧ FlM J' F := by
  have W1 := W.frB f1
  obtain ⟨J2, M2, e2, s2, f2, l2⟩ := em_askAll (h := g) (L := M) W1 fl h2 s1 ws1 (zallS_ok W.2 ws1).1 (by decide)
  exact ⟨J2, M2, e2, s2, (f1.tr (frB.u0 J1 1 (by omega))).tr (frB.m f2), l2, FlM.fr f2 (fl.u (by omega))⟩
def zlearn (K : KT) (w : Int32) (S : ST) (p : Nat) (f y : Int32) : Bool := decide (¬ bt (sk (zallS K (-1, w, y) S) p) f = 0)
theorem if_bt (x k : Int32) (H : HP) : (if bt x k = 1 then some ((1 : Int32), H) else some (0, H)) = some (bI (decide (¬ bt x k = 0)), H) := by
  by_cases z : bt x k = 0
  · rw [if_neg (by rw [z]; decide), decide_eq_false (fun y => y z)]; rfl
  · rw [if_pos (bt1.mpr z), decide_eq_true z]; rfl
theorem ec_learns (W : CW h I c K A) (q : StC I 20 (zP K) (-1, w, 0) S) (ws : WS (zP K) S) {p : Nat} (hp : p < zP K) (f y : Int32) : ∃ I' L', cA_learns (nn p) f y (hw h I L) = some (bI (zlearn K w S p f y), hw h I' L') ∧ frA I I' := by
  have hP := W.p5
  obtain ⟨I1, L1, e1, s1, f1⟩ := ec_without (L := L) W q ws y
  have k1 : I1 26 p = _ := (s1.1 p hp).1
  refine ⟨I1, L1, ?_, f1⟩
  simp only [cA_learns, bnd_e, cal_s, onr_s, jon_e, gI_hw, gL_hw, gT_hw, gR_hw, gN_hw, sI_hw, sL_hw, cV_hw, shS_hw, shC_hw, shL_hw, ← bt_def, e1, grd_pos (show inb (nn p) 5 from nn_inb (by omega) (by omega)), nn_clamp (show p < 2147483648 by omega), k1]
  exact if_bt _ _ _
theorem n5p (p : Nat) : (5 : Int32) + nn p = nn (5 + p) := nn_add 5 p
theorem em_learns (W : MW J K) (q : StM J 0 (zP K) S) (ws : WS (zP K) S) {p : Nat} (hp : p < zP K) (f y w : Int32) : ∃ J' M', m_learns (nn p) f y (hw g J M) = some (bI (zlearn K w S p f y), hw g J' M') ∧ frB J J' ∧ frL2 false M M' := by
  have hP := W.2.1.2.1
  obtain ⟨J1, e1, s1, fl, h3, h2, f1⟩ := em_lay (h := g) (L := M) hP q
  obtain ⟨J2, M2, e2, s2, f2, l2, fl2⟩ := em_try (g := g) (M := M) W q ws (F := (-1, w, y)) ws (f1.tr (frB.u0 J1 y (k := 66) (by omega))) (fl w).gone (by rw [u2_nk _ _ (by decide)]; exact h2) s1.u0
  have k1 : J2 29 (5 + p) = _ := (s2.1 p hp).1
  refine ⟨plI J2, M2, ?_, f2.tr (plI_fr _), l2⟩
  simp only [m_learns, bnd_e, cal_s, onr_s, jon_e, gI_hw, gL_hw, gT_hw, gR_hw, gN_hw, sI_hw, sL_hw, cV_hw, shS_hw, shC_hw, shL_hw, ← bt_def, e1, e2, n5p, grd_pos (show inb (nn (5 + p)) 10 from nn_inb (by omega) (by omega)), nn_clamp (show 5 + p < 2147483648 by omega), k1, em_isOf, em_plain, grd_pos (isB_bI _)]
  rfl
end B1
/-! public methods, both sides at once -/
section B3
variable {h g : HP} {I0 J0 : Nat → Nat → Int32} {M0 : Nat → Nat → Int64} {c : Nat} {K : KT} {A : Nat → Nat → Nat} {w : Int32} {S : ST}
/-- where both sides are, from a start on -/
def At (h : HP) (I0 J0 : Nat → Nat → Int32) (M0 : Nat → Nat → Int64) (c : Nat) (K : KT) (A : Nat → Nat → Nat) (w : Int32) (S : ST) (I J : Nat → Nat → Int32) (M : Nat → Nat → Int64) : Prop := TB h I c K A w S J ∧ frA I0 I ∧ frB J0 J ∧ frL2 false M0 M
theorem At.st {M : Nat → Nat → Int64} (q : TB h I0 c K A w S J0) : At h I0 J0 M c K A w S I0 J0 M := ⟨q, frA.rfl _, frB.rfl _, frL2.rfl _ _⟩
theorem At.to {I J I' J' : Nat → Nat → Int32} {M M' : Nat → Nat → Int64} (a : At h I0 J0 M0 c K A w S I J M) (f : frA I I') (f2 : frB J J') (l : frL2 false M M') : At h I0 J0 M0 c K A w S I' J' M' := ⟨a.1.fr f f2, a.2.1.tr f, a.2.2.1.tr f2, a.2.2.2.tr l⟩
theorem At.end {I J : Nat → Nat → Int32} {L M : Nat → Nat → Int64} (a : At h I0 J0 M0 c K A w S I J M) (r : Int32) : B2 h g I0 J0 M0 (some (r, hw h I L)) (some (r, hw g J M)) := ⟨r, I, L, J, M, rfl, rfl, a.2.1, a.2.2.1, a.2.2.2⟩
theorem At.thr {I J : Nat → Nat → Int32} {M : Nat → Nat → Int64} (a : At h I0 J0 M0 c K A w S I J M) : At h I0 J0 M0 c K A w S I (u2 J 0 2 0) M := a.to (frA.rfl _) (frB.u0 _ _ (by omega)) (frL2.rfl _ _)
theorem b_all {I J : Nat → Nat → Int32} {L M : Nat → Nat → Int64} (a : At h I0 J0 M0 c K A w S I J M) (p : Int32) : B2 h g I0 J0 M0 (cA_all p (hw h I L)) (m_all p (hw g J M)) := by
  have a := a.thr
  have W := a.1.1.1
  have s := a.1.1.2
  have V := a.1.2.1.1
  have t := a.1.2.1.2
  have ws := a.1.2.2
  have hP := W.p5
  simp only [cA_all, m_all, bnd_e, cal_s, onr_s, jon_e, gI_hw, gL_hw, gT_hw, gR_hw, gN_hw, sI_hw, sL_hw, cV_hw, shS_hw, shC_hw, shL_hw, ← bt_def, ec_isPerson W, em_isPerson V, bI_eq0]
  cases z : zin p (zP K) with
  | false => simp only [eq_self, Bool.true_eq_false, if_true, if_false]; exact a.end _
  | true =>
    simp only [eq_self, Bool.true_eq_false, if_true, if_false]
    obtain ⟨i, hi, rfl⟩ := zin_t (by omega) z
    obtain ⟨I1, L1, e1, s1, f1⟩ := ec_without (L := L) W s ws 0
    obtain ⟨J1, e2, s2, fl, h3, h2, f2⟩ := em_lay (h := g) (L := M) hP t
    obtain ⟨J2, M2, e3, s3, f3, l3, -⟩ := em_try (g := g) (M := M) V t ws ws f2 (fl w) h2 s2
    have k1 : I1 26 i = _ := (s1.1 i hi).1
    have k2 : J2 29 (5 + i) = _ := (s3.1 i hi).1
    simp only [e1, e2, e3, bnd_e, cal_s, onr_s, jon_e, gI_hw, gL_hw, gT_hw, gR_hw, gN_hw, sI_hw, sL_hw, cV_hw, shS_hw, shC_hw, shL_hw, ← bt_def, n5p, grd_pos (show inb (nn i) 5 from nn_inb (by omega) (by omega)), grd_pos (show inb (nn (5 + i)) 10 from nn_inb (by omega) (by omega)), nn_clamp (show i < 2147483648 by omega), nn_clamp (show 5 + i < 2147483648 by omega), k1, k2]
    exact (a.to f1 f3 l3).end _
theorem b_never {I J : Nat → Nat → Int32} {L M : Nat → Nat → Int64} (a : At h I0 J0 M0 c K A w S I J M) (p f : Int32) : B2 h g I0 J0 M0 (cA_never p f (hw h I L)) (m_never p f (hw g J M)) := by
  have a := a.thr
  have W := a.1.1.1
  have s := a.1.1.2
  have V := a.1.2.1.1
  have t := a.1.2.1.2
  have ws := a.1.2.2
  have hP := W.p5
  simp only [cA_never, m_never, bnd_e, cal_s, onr_s, jon_e, gI_hw, gL_hw, gT_hw, gR_hw, gN_hw, sI_hw, sL_hw, cV_hw, shS_hw, shC_hw, shL_hw, ← bt_def, ec_isPerson W, em_isPerson V, ec_isFact W, em_isFact V, bI_eq0]
  cases z : zin p (zP K) with
  | false => simp only [eq_self, Bool.true_eq_false, if_true, if_false]; exact a.end _
  | true =>
    simp only [eq_self, Bool.true_eq_false, if_true, if_false]
    cases z2 : zin f (zF K) with
    | false => simp only [eq_self, Bool.true_eq_false, if_true, if_false]; exact a.end _
    | true =>
      simp only [eq_self, Bool.true_eq_false, if_true, if_false]
      obtain ⟨i, hi, rfl⟩ := zin_t (by omega) z
      obtain ⟨I1, L1, e1, f1⟩ := ec_learns (L := L) W s ws hi f 0
      obtain ⟨J1, M1, e2, f2, l2⟩ := em_learns (g := g) (M := M) V t ws hi f 0 w
      simp only [e1, e2, bnd_e, cal_s, onr_s, jon_e, gI_hw, gL_hw, gT_hw, gR_hw, gN_hw, sI_hw, sL_hw, cV_hw, shS_hw, shC_hw, shL_hw, ← bt_def, bI_eq0]
      cases zlearn K w S i f 0
      · simp only [eq_self, Bool.true_eq_false, if_true, if_false]; exact (a.to f1 f2 l2).end _
      · simp only [eq_self, Bool.true_eq_false, if_true, if_false]; exact (a.to f1 f2 l2).end _
theorem shl_P {P : Nat} (hP : P ≤ 5) : (1 : Int32) <<< (nn P &&& 31) = nn (2 ^ P) ∧ 2 ^ P ≤ 32 := by
  have : P = 0 ∨ P = 1 ∨ P = 2 ∨ P = 3 ∨ P = 4 ∨ P = 5 := by omega
  rcases this with rfl | rfl | rfl | rfl | rfl | rfl <;> decide
theorem nn255 : ∀ n : Fin 256, nn n &&& 255 = nn n := by decide +kernel
theorem b_away1 {p : Nat} (hp : p < zP K) (f : Int32) : ∀ (j v : Nat) (best : Int32) (I J : Nat → Nat → Int32) (L M : Nat → Nat → Int64) (n m : Nat), At h I0 J0 M0 c K A w S I J M → (best = -2 ∨ ∃ b, b < 32 ∧ best = nn b) → v + j = 2 ^ zP K → j < n → j < m → B2 h g I0 J0 M0 (cA_away_24 (nn p) f (fun x h1 => some (x, h1)) n best (nn v) (hw h I L)) (m_away_29 (nn p) f (fun x h1 => some (x, h1)) m best (nn v) (hw g J M)) := by
  intro j
  induction j with
  | zero =>
    intro v best I J L M n m a hb hv hn hm
    obtain ⟨n, rfl⟩ : ∃ n', n = n' + 1 := ⟨n - 1, by omega⟩
    obtain ⟨m, rfl⟩ : ∃ m', m = m' + 1 := ⟨m - 1, by omega⟩
    have W := a.1.1.1
    obtain ⟨q1, q2⟩ := shl_P W.p5
    simp only [cA_away_24, m_away_29, bnd_e, cal_s, onr_s, jon_e, gI_hw, gL_hw, gT_hw, gR_hw, gN_hw, sI_hw, sL_hw, cV_hw, shS_hw, shC_hw, shL_hw, ← bt_def, ec_persons W, a.1.2.1.1.1.1.2.1, q1, if_pos (nn_ple (show 2 ^ zP K ≤ v by omega) (show v < 2147483648 by omega))]
    exact a.end _
  | succ j ih =>
    intro v best I J L M n m a hb hv hn hm
    obtain ⟨n, rfl⟩ : ∃ n', n = n' + 1 := ⟨n - 1, by omega⟩
    obtain ⟨m, rfl⟩ : ∃ m', m = m' + 1 := ⟨m - 1, by omega⟩
    have W := a.1.1.1
    obtain ⟨q1, q2⟩ := shl_P W.p5
    simp only [cA_away_24, m_away_29, bnd_e, cal_s, onr_s, jon_e, gI_hw, gL_hw, gT_hw, gR_hw, gN_hw, sI_hw, sL_hw, cV_hw, shS_hw, shC_hw, shL_hw, ← bt_def, ec_persons W, a.1.2.1.1.1.1.2.1, q1, if_neg (nn_nle (show v < 2 ^ zP K by omega) (show 2 ^ zP K < 2147483648 by omega)), em_isOf, bI_eq0, nn_succ]
    have lr : ∀ best, (best = -2 ∨ ∃ b, b < 32 ∧ best = nn b) → B2 h g I0 J0 M0 (cal (cA_learns (nn p) f (nn v) (hw h I L)) (fun r12 h13 => if r12 = 0 then cA_away_24 (nn p) f (fun x h1 => some (x, h1)) n (nn v) (nn (v + 1)) h13 else cA_away_24 (nn p) f (fun x h1 => some (x, h1)) n best (nn (v + 1)) h13)) (cal (m_learns (nn p) f (nn v) (hw g J M)) (fun r12 h13 => if r12 = 0 then m_away_29 (nn p) f (fun x h1 => some (x, h1)) m (nn v) (nn (v + 1)) h13 else m_away_29 (nn p) f (fun x h1 => some (x, h1)) m best (nn (v + 1)) h13)) := by
      intro best hb
      obtain ⟨I1, L1, e1, f1⟩ := ec_learns (L := L) W a.1.1.2 a.1.2.2 hp f (nn v)
      obtain ⟨J1, M1, e2, f2, l2⟩ := em_learns (g := g) (M := M) a.1.2.1.1 a.1.2.1.2 a.1.2.2 hp f (nn v) w
      simp only [e1, e2, bnd_e, cal_s, onr_s, jon_e, gI_hw, gL_hw, gT_hw, gR_hw, gN_hw, sI_hw, sL_hw, cV_hw, shS_hw, shC_hw, shL_hw, ← bt_def, bI_eq0]
      cases zlearn K w S p f (nn v)
      · simp only [eq_self, Bool.true_eq_false, if_true, if_false]; exact ih _ _ _ _ _ _ _ _ (a.to f1 f2 l2) (Or.inr ⟨v, by omega, rfl⟩) (by omega) (by omega) (by omega)
      · simp only [eq_self, Bool.true_eq_false, if_true, if_false]; exact ih _ _ _ _ _ _ _ _ (a.to f1 f2 l2) hb (by omega) (by omega) (by omega)
    by_cases x1 : bt (nn v) (nn p) = 0
    · rw [if_neg (fun y => (bt1.mp y) x1), decide_eq_false (fun y => y x1), if_pos rfl]
      rcases hb with hb | ⟨b, hb, eb⟩
      · rw [if_pos hb, if_pos (by rw [hb]; decide)]
        exact lr best (Or.inl hb)
      · have nb : ¬ best = -2 := by rw [eb]; intro y; exact absurd (show nn b < 0 by rw [y]; decide) (nn_nonneg (by omega))
        rw [if_neg nb, if_neg (by rw [eb]; exact nn_nonneg (by omega))]
        have m1 := em_many (nn255 ⟨v, by omega⟩)
        have m2 := em_many (nn255 ⟨b, by omega⟩)
        rw [ec_bc]
        simp only [bnd_e, cal_s, onr_s, jon_e, gI_hw, gL_hw, gT_hw, gR_hw, gN_hw, sI_hw, sL_hw, cV_hw, shS_hw, shC_hw, shL_hw, ← bt_def, eb, ec_bc]
        rw [m1]
        simp only [bnd_e, cal_s, onr_s, jon_e, gI_hw, gL_hw, gT_hw, gR_hw, gN_hw, sI_hw, sL_hw, cV_hw, shS_hw, shC_hw, shL_hw, ← bt_def]
        rw [m2]
        simp only [bnd_e, cal_s, onr_s, jon_e, gI_hw, gL_hw, gT_hw, gR_hw, gN_hw, sI_hw, sL_hw, cV_hw, shS_hw, shC_hw, shL_hw, ← bt_def]
        by_cases x2 : zbc (nn v) < zbc (nn b)
        · rw [if_pos x2, if_pos x2]
          exact lr (nn b) (Or.inr ⟨b, hb, rfl⟩)
        · rw [if_neg x2, if_neg x2]
          exact ih _ _ _ _ _ _ _ _ a (Or.inr ⟨b, hb, rfl⟩) (by omega) (by omega) (by omega)
    · rw [if_pos (bt1.mpr x1), decide_eq_true x1, if_neg (by decide)]
      exact ih _ _ _ _ _ _ _ _ a hb (by omega) (by omega) (by omega)
theorem b_away {I J : Nat → Nat → Int32} {L M : Nat → Nat → Int64} (a : At h I0 J0 M0 c K A w S I J M) (p f : Int32) : B2 h g I0 J0 M0 (cA_away p f (hw h I L)) (m_away p f (hw g J M)) := by
  have a := a.thr
  have W := a.1.1.1
  have V := a.1.2.1.1
  have hP := W.p5
  simp only [cA_away, m_away, bnd_e, cal_s, onr_s, jon_e, gI_hw, gL_hw, gT_hw, gR_hw, gN_hw, sI_hw, sL_hw, cV_hw, shS_hw, shC_hw, shL_hw, ← bt_def, ec_isPerson W, em_isPerson V, ec_isFact W, em_isFact V, bI_eq0]
  cases z : zin p (zP K) with
  | false => simp only [eq_self, Bool.true_eq_false, if_true, if_false]; exact a.end _
  | true =>
    simp only [eq_self, Bool.true_eq_false, if_true, if_false]
    cases z2 : zin f (zF K) with
    | false => simp only [eq_self, Bool.true_eq_false, if_true, if_false]; exact a.end _
    | true =>
      simp only [eq_self, Bool.true_eq_false, if_true, if_false]
      obtain ⟨i, hi, rfl⟩ := zin_t (by omega) z
      have := (shl_P hP).2
      exact b_away1 hi f (2 ^ zP K) 0 (-2) _ _ _ _ FU FU a (Or.inl rfl) (by omega) (by show _ < 1000; omega) (by show _ < 1000; omega)
end B3
