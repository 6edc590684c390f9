/-! PURE LEVEL 35: best, both sides -/
section B15
variable {h g : HP} {I0 J0 : Nat → Nat → Int32} {M0 : Nat → Nat → Int64} {c : Nat} {K : KT} {A : Nat → Nat → Nat} {w : Int32} {S : ST}
theorem nb_1 (f p : Nat) : NSb h c K A w 1 44 0 (fun _ => True) (cA_asksN (f + 1) 44 (nn (0 + 1)) (nn 1) (nn p)) (zU1 K (-1, w, 0)) := by
  intro I L S1 e B W s _ q bc
  obtain ⟨I1, L1, e1, b1, f1⟩ := ec_last (Or.inl ⟨rfl, rfl⟩) f (nn p) (L := L) (e2 := 0) W s q (fun y => by cases y) bc
  exact ⟨I1, L1, e1, b1, f1⟩
theorem nb_2 (f p e1 : Nat) : NSb h c K A w 2 49 1 (fun I => I 37 0 = c10 K e1) (cA_asksN (f + 1) 49 (nn (1 + 1)) (nn 2) (nn p)) (zU2 K (-1, w, 0) e1) := by
  intro I L S1 e B W s pr q bc
  obtain ⟨I1, L1, e1', b1, f1⟩ := ec_last (Or.inr ⟨rfl, rfl⟩) f (nn p) (L := L) (e1 := e1) (e2 := e) W s pr (fun _ => q) bc
  exact ⟨I1, L1, e1', b1, f1⟩
theorem nb_12 (f : Nat) {p : Nat} (hp : p < zP K) : NSb h c K A w 2 44 0 (fun _ => True) (cA_asksN (f + 2) 44 (nn (0 + 1)) (nn 2) (nn p)) (zU12 K (-1, w, 0) p) := by
  intro I L S1 e B W s _ q bc
  obtain ⟨I1, L1, e1, b1, f1⟩ := ec_blevel (o := 44) (t := 49) (k := 1) (n := 2) (Or.inr ⟨rfl, rfl, rfl⟩) hp (many := nn 2) (by decide) (Pre := fun I => I 37 0 = c10 K e) (fun I I' f q => by rw [f.2.2 0 (by decide)]; exact q) (nb_2 (h := h) (c := c) (A := A) (w := w) f p e) (L := L) W s q bc
  refine ⟨I1, L1, ?_, b1, f1⟩
  rw [cA_asksN]; exact e1
theorem ec_asksN {I : Nat → Nat → Int32} {L : Nat → Nat → Int64} (W : CW h I c K A) (s : StC I 20 (zP K) (-1, w, 0) S) {p n : Nat} (hp : p < zP K) (hn : n = 1 ∨ n = 2) (bc : BC K n I (-1, 0, 0)) : ∃ I' L', cA_asksN 4 20 0 (nn n) (nn p) (hw h I L) = some ((), hw h I' L') ∧ BC K n I' (zBest K (-1, w, 0) S p n) ∧ frA I I' := by
  unfold zBest
  rcases hn with rfl | rfl
  · obtain ⟨I1, L1, e1, b1, f1⟩ := ec_blevel (o := 20) (t := 44) (k := 0) (n := 1) (Or.inl ⟨rfl, rfl, rfl⟩) hp (many := nn 1) (by decide) (Pre := fun _ => True) (fun _ _ _ q => q) (nb_1 (h := h) (c := c) (A := A) (w := w) 2 p) (L := L) W s trivial bc
    refine ⟨I1, L1, ?_, b1, f1.a (by omega)⟩
    rw [cA_asksN]; exact e1
  · obtain ⟨I1, L1, e1, b1, f1⟩ := ec_blevel (o := 20) (t := 44) (k := 0) (n := 2) (Or.inl ⟨rfl, rfl, rfl⟩) hp (many := nn 2) (by decide) (Pre := fun _ => True) (fun _ _ _ q => q) (nb_12 (h := h) (c := c) (A := A) (w := w) 1 hp) (L := L) W s trivial bc
    refine ⟨I1, L1, ?_, b1, f1.a (by omega)⟩
    rw [cA_asksN]; exact e1
theorem ep_lt {p e : Nat} (hp : p < zP K) (he : e < zE K) : ep K p e < zN2 K := by
  unfold ep zN2
  have : (p + 1) * zE K ≤ zP K * zE K := Nat.mul_le_mul_right _ hp
  rw [Nat.succ_mul] at this
  have e2 : zP K * zP K * zQ K = zP K * zE K := by unfold zE; rw [Nat.mul_assoc]
  omega
theorem zE_le (wk : WK K) : zE K ≤ 40 := Nat.mul_le_mul wk.1.2.1 wk.1.2.2.1
theorem nn_ep (p e : Nat) : nn (zE K) * nn p + nn e = nn (ep K p e) := by
  unfold ep
  rw [nn_mul, nn_add, Nat.mul_comm]
/-- one try of the model: laid, asked, counted -/
theorem em_b1 {J : Nat → Nat → Int32} {M : Nat → Nat → Int64} (V : MW J K) (t : StM J 0 (zP K) S) (ws : WS (zP K) S) {p a : Nat} (hp : p < zP K) (ha : a < zE K) : ∃ J1 J2 M2, m_layTried (hw g J M) = some ((), hw g J1 M) ∧ m_does (nn (ep K p a)) (hw g J1 M) = some (bI (zec K (-1, w, 0) S (ep K p a)), hw g J2 M2) ∧ (zec K (-1, w, 0) S (ep K p a) = true → StM J2 1 (zP K) (zes K (-1, w, 0) S (ep K p a))) ∧ MW J2 K ∧ FlM J2 (-1, w, 0) ∧ J2 0 63 = 0 ∧ J2 0 62 = 0 ∧ frB J J2 ∧ frL2 false M M2 := by
  have hP := V.2.1.2.1
  obtain ⟨J1, e1, t1, fl, h3, h2, f1⟩ := em_lay (h := g) (L := M) hP t
  obtain ⟨J2, M2, e2, t2, f2, l2⟩ := em_does (g := g) (M := M) (V.frB f1) t1 ws (fl w) h3 h2 (ep_lt hp ha)
  exact ⟨J1, J2, M2, e1, e2, t2, (V.frB f1).fr f2, (fl w).fr f2, by rw [f2.2.1 63 (by decide)]; exact h3, by rw [f2.2.1 62 (by decide)]; exact h2, f1.tr (frB.m f2), l2⟩
theorem em_66_1 {J : Nat → Nat → Int32} {M : Nat → Nat → Int64} (V : MW J K) (t : StM J 0 (zP K) S) (ws : WS (zP K) S) {p a : Nat} (hp : p < zP K) (ha : a < zE K) (f3 : Int32) (B : BT) : ∃ J' M', (∀ k, m_best_66 (nn p) 1 f3 (nn (zE K)) (nn a) k FU B.1 (nn B.2.1) (nn B.2.2) 0 (hw g J M) = k (zup K (-1, w, 0) p (zU1 K (-1, w, 0)) S a B).1 (nn (zup K (-1, w, 0) p (zU1 K (-1, w, 0)) S a B).2.1) (nn (zup K (-1, w, 0) p (zU1 K (-1, w, 0)) S a B).2.2) (hw g J' M')) ∧ frB J J' ∧ frL2 false M M' := by
  obtain ⟨J1, J2, M2, e1, e2, t2, V2, fl2, -, -, f2, l2⟩ := em_b1 (g := g) (M := M) (w := w) V t ws hp ha
  have fin : ∀ k v4 v5 v6 H, m_best_66 (nn p) 1 f3 (nn (zE K)) (nn a) k 999 v4 v5 v6 1 H = k v4 v5 v6 H := by
    intro k v4 v5 v6 H
    rw [m_best_66]
    simp only [bnd_e, cal_s, onr_s, jon_e, gI_hw, gL_hw, gT_hw, gR_hw, gN_hw, sI_hw, sL_hw, cV_hw, shS_hw, shC_hw, shL_hw, ← bt_def, show ¬ ((1 : Int32) = 2) by decide, if_false, if_pos (show (1 : Int32) ≤ 1 by decide)]
  refine ⟨J2, M2, fun k => ?_, f2, l2⟩
  rw [show FU = 999 + 1 from rfl, m_best_66]
  unfold zup zU1
  cases z : zec K (-1, w, 0) S (ep K p a) with
  | false =>
    rw [z, bI_f] at e2
    rw [if_neg (show ¬ (false = true) by decide)]
    simp only [bnd_e, cal_s, onr_s, jon_e, gI_hw, gL_hw, gT_hw, gR_hw, gN_hw, sI_hw, sL_hw, cV_hw, shS_hw, shC_hw, shL_hw, ← bt_def, show ¬ ((1 : Int32) = 2) by decide, if_false, if_neg (show ¬ (1 : Int32) ≤ 0 by decide), e1, nn_ep, e2, if_true]
    rw [show (0 : Int32) + 1 = 1 from rfl, fin]
  | true =>
    rw [z, bI_t] at e2
    have t2 := t2 z
    have e5 : m_sumIn 1 (hw g J2 M2) = _ := em_sum (h := g) (L := M2) V2 (b := 1) (by omega) t2 (zes_ws V.2 ws (ep_lt hp ha)) fl2.2.2.1
    rw [if_pos (show true = true from rfl)]
    simp only [bnd_e, cal_s, onr_s, jon_e, gI_hw, gL_hw, gT_hw, gR_hw, gN_hw, sI_hw, sL_hw, cV_hw, shS_hw, shC_hw, shL_hw, ← bt_def, show ¬ ((1 : Int32) = 2) by decide, if_false, if_neg (show ¬ (1 : Int32) ≤ 0 by decide), e1, nn_ep, e2, if_neg i10, e5]
    rw [show (0 : Int32) + 1 = 1 from rfl]
    by_cases y : B.1 < zsum K (-1, w, 0) (zes K (-1, w, 0) S (ep K p a))
    · rw [if_pos y, if_pos y, fin]; rfl
    · rw [if_neg y, if_neg y, fin]
theorem em_66_2 {p a : Nat} (hp : p < zP K) (ha : a < zE K) (ws : WS (zP K) S) (f3 : Int32) : ∀ (j i : Nat) (J : Nat → Nat → Int32) (M : Nat → Nat → Int64) (n : Nat) (B : BT), MW J K → StM J 0 (zP K) S → i + j = zE K → j < n → ∃ J' M', (∀ k, m_best_66 (nn p) 2 f3 (nn (zE K)) (nn a) k n B.1 (nn B.2.1) (nn B.2.2) (nn i) (hw g J M) = k (if zec K (-1, w, 0) S (ep K p a) = true then zfold (zup K (-1, w, 0) p (zU2 K (-1, w, 0) a) (zes K (-1, w, 0) S (ep K p a))) j i B else B).1 (nn (if zec K (-1, w, 0) S (ep K p a) = true then zfold (zup K (-1, w, 0) p (zU2 K (-1, w, 0) a) (zes K (-1, w, 0) S (ep K p a))) j i B else B).2.1) (nn (if zec K (-1, w, 0) S (ep K p a) = true then zfold (zup K (-1, w, 0) p (zU2 K (-1, w, 0) a) (zes K (-1, w, 0) S (ep K p a))) j i B else B).2.2) (hw g J' M')) ∧ frB J J' ∧ frL2 false M M' := by
  intro j
  induction j with
  | zero =>
    intro i J M n B V t hi hn
    obtain ⟨n, rfl⟩ : ∃ n', n = n' + 1 := ⟨n - 1, by omega⟩
    have h40 := zE_le V.2
    refine ⟨J, M, fun k => ?_, frB.rfl J, frL2.rfl _ _⟩
    rw [m_best_66]
    simp only [bnd_e, cal_s, onr_s, jon_e, gI_hw, gL_hw, gT_hw, gR_hw, gN_hw, sI_hw, sL_hw, cV_hw, shS_hw, shC_hw, shL_hw, ← bt_def, if_true, if_pos (nn_ple (show zE K ≤ i by omega) (show i < 2147483648 by omega))]
    show k B.1 (nn B.2.1) (nn B.2.2) _ = _
    rw [show (if zec K (-1, w, 0) S (ep K p a) = true then zfold (zup K (-1, w, 0) p (zU2 K (-1, w, 0) a) (zes K (-1, w, 0) S (ep K p a))) 0 i B else B) = B from ite_self _]
  | succ j ih =>
    intro i J M n B V t hi hn
    obtain ⟨n, rfl⟩ : ∃ n', n = n' + 1 := ⟨n - 1, by omega⟩
    have h40 := zE_le V.2
    have hP := V.2.1.2.1
    have hie : i < zE K := by omega
    have nle := nn_nle hie (show zE K < 2147483648 by omega)
    obtain ⟨J1, J2, M2, e1, e2, t2, V2, fl2, h3, h2, f2, l2⟩ := em_b1 (g := g) (M := M) (w := w) V t ws hp ha
    cases z : zec K (-1, w, 0) S (ep K p a) with
    | false =>
      rw [z, bI_f] at e2
      obtain ⟨J5, M5, e5, f5, l5⟩ := ih (i + 1) J2 M2 n B V2 (t.frB hP f2) (by omega) (by omega)
      rw [z, if_neg (show ¬ (false = true) by decide)] at e5
      rw [if_neg (show ¬ (false = true) by decide)]
      refine ⟨J5, M5, fun k => ?_, f2.tr f5, l2.tr l5⟩
      rw [m_best_66]
      simp only [bnd_e, cal_s, onr_s, jon_e, gI_hw, gL_hw, gT_hw, gR_hw, gN_hw, sI_hw, sL_hw, cV_hw, shS_hw, shC_hw, shL_hw, ← bt_def, if_true, if_neg nle, e1, nn_ep, e2, nn_succ, e5]
    | true =>
      rw [z, bI_t] at e2
      have t2 := t2 z
      have ws2 := zes_ws (F := (-1, w, 0)) V.2 ws (ep_lt hp ha)
      obtain ⟨J3, M3, e3, t3, f3', l3⟩ := em_does (g := g) (M := M2) V2 t2 ws2 fl2 h3 h2 (ep_lt hp hie)
      have f23 := f2.tr (frB.m f3')
      have V3 := V.frB f23
      have tt := t.frB hP f23
      rw [if_pos (show true = true from rfl)]
      have unf : zfold (zup K (-1, w, 0) p (zU2 K (-1, w, 0) a) (zes K (-1, w, 0) S (ep K p a))) (j + 1) i B = zfold (zup K (-1, w, 0) p (zU2 K (-1, w, 0) a) (zes K (-1, w, 0) S (ep K p a))) j (i + 1) (zup K (-1, w, 0) p (zU2 K (-1, w, 0) a) (zes K (-1, w, 0) S (ep K p a)) i B) := rfl
      rw [unf]
      unfold zup at unf ⊢
      cases z2 : zec K (-1, w, 0) (zes K (-1, w, 0) S (ep K p a)) (ep K p i) with
      | false =>
        rw [z2, bI_f] at e3
        obtain ⟨J5, M5, e5, f5, l5⟩ := ih (i + 1) J3 M3 n B V3 tt (by omega) (by omega)
        rw [z, if_pos (show true = true from rfl)] at e5
        refine ⟨J5, M5, fun k => ?_, f23.tr f5, (l2.tr l3).tr l5⟩
        rw [if_neg (show ¬ (false = true) by decide)]
        rw [m_best_66]
        simp only [bnd_e, cal_s, onr_s, jon_e, gI_hw, gL_hw, gT_hw, gR_hw, gN_hw, sI_hw, sL_hw, cV_hw, shS_hw, shC_hw, shL_hw, ← bt_def, if_true, if_neg nle, e1, nn_ep, e2, if_neg i10, e3, nn_succ]
        exact e5 k
      | true =>
        rw [z2, bI_t] at e3
        have t3 := t3 z2
        have e6 : m_sumIn 1 (hw g J3 M3) = _ := em_sum (h := g) (L := M3) V3 (b := 1) (by omega) t3 (zes_ws V.2 ws2 (ep_lt hp hie)) (fl2.fr f3').2.2.1
        rw [if_pos (show true = true from rfl)]
        unfold zU2
        by_cases y : B.1 < zsum K (-1, w, 0) (zes K (-1, w, 0) (zes K (-1, w, 0) S (ep K p a)) (ep K p i))
        · obtain ⟨J5, M5, e5, f5, l5⟩ := ih (i + 1) J3 M3 n (zsum K (-1, w, 0) (zes K (-1, w, 0) (zes K (-1, w, 0) S (ep K p a)) (ep K p i)), a, i) V3 tt (by omega) (by omega)
          rw [z, if_pos (show true = true from rfl)] at e5
          refine ⟨J5, M5, fun k => ?_, f23.tr f5, (l2.tr l3).tr l5⟩
          rw [if_pos y, m_best_66]
          simp only [bnd_e, cal_s, onr_s, jon_e, gI_hw, gL_hw, gT_hw, gR_hw, gN_hw, sI_hw, sL_hw, cV_hw, shS_hw, shC_hw, shL_hw, ← bt_def, if_true, if_neg nle, e1, nn_ep, e2, if_neg i10, e3, e6, if_pos y, nn_succ]
          exact e5 k
        · obtain ⟨J5, M5, e5, f5, l5⟩ := ih (i + 1) J3 M3 n B V3 tt (by omega) (by omega)
          rw [z, if_pos (show true = true from rfl)] at e5
          refine ⟨J5, M5, fun k => ?_, f23.tr f5, (l2.tr l3).tr l5⟩
          rw [if_neg y, m_best_66]
          simp only [bnd_e, cal_s, onr_s, jon_e, gI_hw, gL_hw, gT_hw, gR_hw, gN_hw, sI_hw, sL_hw, cV_hw, shS_hw, shC_hw, shL_hw, ← bt_def, if_true, if_neg nle, e1, nn_ep, e2, if_neg i10, e3, e6, if_neg y, nn_succ]
          exact e5 k
theorem em_56 {p n : Nat} (hp : p < zP K) (hn : n = 1 ∨ n = 2) (ws : WS (zP K) S) (f3 : Int32) : ∀ (j i : Nat) (J : Nat → Nat → Int32) (M : Nat → Nat → Int64) (m : Nat) (B : BT), MW J K → StM J 0 (zP K) S → i + j = zE K → j < m → ∃ J' M', (∀ k, m_best_56 (nn p) (nn n) f3 (nn (zE K)) k m B.1 (nn B.2.1) (nn B.2.2) (nn i) (hw g J M) = k (zfold (zup K (-1, w, 0) p (if n = 2 then zU12 K (-1, w, 0) p else zU1 K (-1, w, 0)) S) j i B).1 (nn (zfold (zup K (-1, w, 0) p (if n = 2 then zU12 K (-1, w, 0) p else zU1 K (-1, w, 0)) S) j i B).2.1) (nn (zfold (zup K (-1, w, 0) p (if n = 2 then zU12 K (-1, w, 0) p else zU1 K (-1, w, 0)) S) j i B).2.2) (hw g J' M')) ∧ frB J J' ∧ frL2 false M M' := by
  intro j
  induction j with
  | zero =>
    intro i J M m B V t hi hm
    obtain ⟨m, rfl⟩ : ∃ m', m = m' + 1 := ⟨m - 1, by omega⟩
    have h40 := zE_le V.2
    refine ⟨J, M, fun k => ?_, frB.rfl J, frL2.rfl _ _⟩
    rw [m_best_56, if_pos (nn_ple (by omega) (by omega))]; rfl
  | succ j ih =>
    intro i J M m B V t hi hm
    obtain ⟨m, rfl⟩ : ∃ m', m = m' + 1 := ⟨m - 1, by omega⟩
    have h40 := zE_le V.2
    have hP := V.2.1.2.1
    have hie : i < zE K := by omega
    have st : ∃ J1 M1, (∀ k, m_best_66 (nn p) (nn n) f3 (nn (zE K)) (nn i) k FU B.1 (nn B.2.1) (nn B.2.2) 0 (hw g J M) = k (zup K (-1, w, 0) p (if n = 2 then zU12 K (-1, w, 0) p else zU1 K (-1, w, 0)) S i B).1 (nn (zup K (-1, w, 0) p (if n = 2 then zU12 K (-1, w, 0) p else zU1 K (-1, w, 0)) S i B).2.1) (nn (zup K (-1, w, 0) p (if n = 2 then zU12 K (-1, w, 0) p else zU1 K (-1, w, 0)) S i B).2.2) (hw g J1 M1)) ∧ frB J J1 ∧ frL2 false M M1 := by
      rcases hn with rfl | rfl
      · exact em_66_1 (g := g) (M := M) (w := w) V t ws hp hie f3 B
      · exact em_66_2 (g := g) (w := w) hp hie ws f3 (zE K) 0 J M FU B V t (by omega) (by show _ < 1000; omega)
    obtain ⟨J1, M1, e1, f1, l1⟩ := st
    obtain ⟨J2, M2, e2, f2, l2⟩ := ih (i + 1) J1 M1 m (zup K (-1, w, 0) p (if n = 2 then zU12 K (-1, w, 0) p else zU1 K (-1, w, 0)) S i B) (V.frB f1) (t.frB hP f1) (by omega) (by omega)
    refine ⟨J2, M2, fun k => ?_, f1.tr f2, l1.tr l2⟩
    rw [m_best_56, if_neg (nn_nle hie (by omega))]
    simp only [bnd_e, cal_s, onr_s, jon_e, gI_hw, gL_hw, gT_hw, gR_hw, gN_hw, sI_hw, sL_hw, cV_hw, shS_hw, shC_hw, shL_hw, ← bt_def, e1, nn_succ]
    exact e2 k
theorem zsum_nn {S1 : ST} (wk : WK K) (ws : WS (zP K) S1) {F : FT} : ∃ m, zsum K F S1 = nn m ∧ m ≤ 40 := by
  obtain ⟨m, hm, e⟩ := zsumN_le (F := F) ws wk.1.2.1 (zP K) (Nat.le_refl _)
  have := wk.1.2.1
  exact ⟨m, e, by omega⟩
/-- best's sum is -1 or a number; with a number its steps are steps -/
def okB (K : KT) (B : BT) : Prop := B.1 = -1 ∨ ((∃ m, B.1 = nn m ∧ m ≤ 40) ∧ B.2.1 < zE K ∧ B.2.2 < zE K)
theorem okB_fold {u : Nat → BT → BT} : ∀ (j i : Nat) (B : BT), (∀ e B, i ≤ e → e < i + j → okB K B → okB K (u e B)) → okB K B → okB K (zfold u j i B)
  | 0, _, _, _, h => h
  | j + 1, i, B, hu, h => okB_fold j (i + 1) (u i B) (fun e B h1 h2 => hu e B (by omega) (by omega)) (hu i B (by omega) (by omega) h)
theorem okB_best (wk : WK K) (ws : WS (zP K) S) {p n : Nat} (hp : p < zP K) : okB K (zBest K (-1, w, 0) S p n) := by
  refine okB_fold _ _ _ (fun e B _ he ok => ?_) (Or.inl rfl)
  have he : e < zE K := by omega
  unfold zup
  by_cases z : zec K (-1, w, 0) S (ep K p e) = true
  · rw [if_pos z]
    have ws1 := zes_ws (F := (-1, w, 0)) wk ws (ep_lt hp he)
    by_cases hn : n = 2
    · rw [if_pos hn]
      refine okB_fold _ _ _ (fun e2 B _ he2 ok => ?_) ok
      have he2 : e2 < zE K := by omega
      unfold zup zU2
      by_cases z2 : zec K (-1, w, 0) (zes K (-1, w, 0) S (ep K p e)) (ep K p e2) = true
      · rw [if_pos z2]
        by_cases y : B.1 < zsum K (-1, w, 0) (zes K (-1, w, 0) (zes K (-1, w, 0) S (ep K p e)) (ep K p e2))
        · rw [if_pos y]
          exact Or.inr ⟨zsum_nn wk (zes_ws wk ws1 (ep_lt hp he2)), he, he2⟩
        · rw [if_neg y]; exact ok
      · rw [if_neg z2]; exact ok
    · rw [if_neg hn]
      unfold zU1
      by_cases y : B.1 < zsum K (-1, w, 0) (zes K (-1, w, 0) S (ep K p e))
      · rw [if_pos y]
        exact Or.inr ⟨zsum_nn wk ws1, he, by show 0 < zE K; omega⟩
      · rw [if_neg y]; exact ok
  · rw [if_neg z]; exact ok
theorem nn_rng {x : Int32} {a b : Nat} (ha : a < 2147483648) (hb : b < 2147483647) (h : ¬ x < nn a ∧ ¬ nn b < x) : ∃ k, a ≤ k ∧ k ≤ b ∧ x = nn k := by
  have e1 : (nn a).toInt = (a : Int) := Int32.toInt_ofNat_of_lt ha
  have e2 : (nn b).toInt = (b : Int) := Int32.toInt_ofNat_of_lt (by omega)
  rw [Int32.lt_iff_toInt_lt, Int32.lt_iff_toInt_lt, e1, e2] at h
  have h0 : 0 ≤ x := by rw [Int32.le_iff_toInt_le, show (0 : Int32).toInt = 0 from rfl]; omega
  have h1 := Int32.cast_toNatClampNeg x h0
  exact ⟨x.toNatClampNeg, by omega, by omega, (Int32.ofNat_toNatClampNeg x h0).symm⟩
theorem b_best {I J : Nat → Nat → Int32} {L M : Nat → Nat → Int64} (a : At h I0 J0 M0 c K A w S I J M) (x n y : Int32) : B2 h g I0 J0 M0 (cA_best x n y (hw h I L)) (m_best x n y (hw g J M)) := by
  have a := a.thr
  have W := a.1.1.1
  have V := a.1.2.1.1
  have hP := W.p5
  have hQ := W.q8
  have h40 := zE_le V.2
  have ei : cA_in n.toInt64 1 2 (hw h I L) = _ := ec_in n 1 2 (hw h I L)
  have ej : cA_in y.toInt64 0 2 (hw h I L) = _ := ec_in y 0 2 (hw h I L)
  simp only [cA_best, m_best, bnd_e, cal_s, onr_s, jon_e, gI_hw, gL_hw, gT_hw, gR_hw, gN_hw, sI_hw, sL_hw, cV_hw, shS_hw, shC_hw, shL_hw, ← bt_def, ec_isPerson W, em_isPerson V, ei, ej, em_in, bI_eq0]
  cases z : zin x (zP K) with
  | false => simp only [eq_self, Bool.true_eq_false, if_true, if_false]; exact a.end _
  | true =>
    simp only [eq_self, Bool.true_eq_false, if_true, if_false]
    cases z2 : decide (¬ n < 1 ∧ ¬ 2 < n) with
    | false => simp only [eq_self, Bool.true_eq_false, if_true, if_false]; exact a.end _
    | true =>
      simp only [eq_self, Bool.true_eq_false, if_true, if_false]
      cases z3 : decide (¬ y < 0 ∧ ¬ 2 < y) with
      | false => simp only [eq_self, Bool.true_eq_false, if_true, if_false]; exact a.end _
      | true =>
        simp only [eq_self, Bool.true_eq_false, if_true, if_false]
        obtain ⟨p, hp, rfl⟩ := zin_t (by omega) z
        rw [decide_eq_true_eq] at z2 z3
        obtain ⟨m, h1, h2, rfl⟩ := nn_rng (a := 1) (b := 2) (by omega) (by omega) z2
        obtain ⟨k, -, hk, rfl⟩ := nn_rng (a := 0) (b := 2) (by omega) (by omega) z3
        have hn : m = 1 ∨ m = 2 := by omega
        have fA : frA I (u2 I 0 18 (-1)) := frA.u0 _ (Or.inr rfl)
        obtain ⟨I1, L1, e1, b1, f1⟩ := ec_asksN (L := L) (W.frA fA) (a.1.1.2.frA fA) hp hn ⟨u2_same _ _ _ _, fun q => absurd rfl q⟩
        obtain ⟨J1, M1, e2, f2, l2⟩ := em_56 (g := g) (w := w) hp hn a.1.2.2 (nn k) (zE K) 0 _ M FU (-1, 0, 0) V a.1.2.1.2 (by omega) (by show _ < 1000; omega)
        rw [nn0] at e2
        have a2 := a.to (fA.tr f1) f2 l2
        have okb := okB_best (w := w) (S := S) (n := m) V.2 a.1.2.2 hp
        have e2 : ∀ k, m_best_56 (nn p) (nn m) _ (nn (zE K)) k FU (-1) 0 0 0 (hw g _ M) = _ := e2
        rw [show zfold (zup K (-1, w, 0) p (if m = 2 then zU12 K (-1, w, 0) p else zU1 K (-1, w, 0)) S) (zE K) 0 (-1, 0, 0) = zBest K (-1, w, 0) S p m from rfl] at e2
        have m14 : u2 J 0 2 0 0 13 * u2 J 0 2 0 0 14 = nn (zE K) := by rw [V.1.1.2.1, V.1.1.2.2.1, nn_mul]; rfl
        simp only [e1, bnd_e, cal_s, onr_s, jon_e, gI_hw, gL_hw, gT_hw, gR_hw, gN_hw, sI_hw, sL_hw, cV_hw, shS_hw, shC_hw, shL_hw, ← bt_def, b1.1, m14, e2]
        generalize zBest K (-1, w, 0) S p m = B at *
        by_cases q1 : B.1 = -1
        · rw [if_pos q1, if_neg (by rw [q1]; decide)]
          exact a2.end _
        · rcases okb with okb | ⟨⟨v, ev, hv⟩, o1, o2⟩
          · exact absurd okb q1
          · have p0 : 0 ≤ B.1 := by rw [ev]; exact nn_ple (n := 0) (by omega) (by omega)
            rw [if_neg q1, if_pos p0]
            obtain ⟨c1, c2⟩ := b1.2 q1
            by_cases q2 : nn k = 0
            · rw [if_pos q2]
              simp only [if_pos q2, ite_self]
              exact a2.end _
            · have k0 : k ≠ 0 := fun y => q2 (by rw [y]; rfl)
              rw [if_neg q2]
              simp only [if_neg q2]
              by_cases q3 : nn m < nn k
              · rw [if_pos q3]
                simp only [if_neg (Int32.not_le.mpr q3), ite_self]
                exact a2.end _
              · have q4 : ¬ m < k := fun y => q3 ((nn_lt (by omega) (by omega)).mpr y)
                rw [if_neg q3]
                simp only [if_pos (Int32.not_lt.mp q3)]
                have nq : 0 < zQ K := by
                  rcases Nat.eq_zero_or_pos (zQ K) with y | y
                  · unfold zE at o1; rw [y, Nat.mul_zero] at o1; omega
                  · exact y
                have n0 : ¬ nn (zQ K) = 0 := by rw [← nn0, nn_eq (by omega) (by omega)]; omega
                have J14 : J1 0 14 = nn (zQ K) := a2.1.2.1.1.1.1.2.2.1
                have cm : ∀ e, e < zE K → (10 : Int32) * (nn e / nn (zQ K)) + (nn e - nn e / nn (zQ K) * nn (zQ K)) = c10 K e := fun e he => by
                  unfold c10
                  rw [nn_div (by omega) (by omega), nn_mod (by omega) (by omega), show (10 : Int32) = nn 10 from rfl, nn_mul, nn_add]
                rcases (show k = 1 ∨ k = 2 by omega) with rfl | rfl
                · have e4 : nn 1 - 1 = nn 0 := rfl
                  rw [e4]
                  simp only [grd_pos (show inb (nn 0) 2 by decide), nn_clamp (show 0 < 2147483648 by omega), c1, if_pos (show nn 1 = 1 from rfl), J14, grd_pos n0, cm _ o1]
                  exact a2.end _
                · have e4 : nn 2 - 1 = nn 1 := rfl
                  rw [e4]
                  simp only [grd_pos (show inb (nn 1) 2 by decide), nn_clamp (show 1 < 2147483648 by omega), c2 (by omega), if_neg (show ¬ nn 2 = 1 by decide), J14, grd_pos n0, cm _ o2]
                  exact a2.end _
end B15
