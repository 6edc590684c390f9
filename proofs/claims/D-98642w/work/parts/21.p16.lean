/-! PURE LEVEL 16: rounds, tried states, the talk on the model's side -/
/-- the model's ints that no trial may change -/
def frB (I I' : Nat → Nat → Int32) : Prop := (∀ x, x ≠ 0 → (x < 29 ∨ x = 37 ∨ 38 < x) → I' x = I x) ∧ (∀ k, k ≠ 2 → k ≠ 54 → (k < 62 ∨ 67 < k) → I' 0 k = I 0 k) ∧ (∀ k, k < 5 → I' 29 k = I 29 k ∧ I' 30 k = I 30 k ∧ I' 31 k = I 31 k ∧ I' 32 k = I 32 k) ∧ I' 33 0 = I 33 0
theorem frB.rfl (I : Nat → Nat → Int32) : frB I I := ⟨fun _ _ _ => Eq.refl _, fun _ _ _ _ => Eq.refl _, fun _ _ => ⟨Eq.refl _, Eq.refl _, Eq.refl _, Eq.refl _⟩, Eq.refl _⟩
theorem frB.tr {I I1 I2 : Nat → Nat → Int32} (a : frB I I1) (b : frB I1 I2) : frB I I2 :=
  ⟨fun x h0 h1 => (b.1 x h0 h1).trans (a.1 x h0 h1), fun k h0 h1 h2 => (b.2.1 k h0 h1 h2).trans (a.2.1 k h0 h1 h2), fun k hk => ⟨(b.2.2.1 k hk).1.trans (a.2.2.1 k hk).1, (b.2.2.1 k hk).2.1.trans (a.2.2.1 k hk).2.1, (b.2.2.1 k hk).2.2.1.trans (a.2.2.1 k hk).2.2.1, (b.2.2.1 k hk).2.2.2.trans (a.2.2.1 k hk).2.2.2⟩, b.2.2.2.trans a.2.2.2⟩
theorem frB.m {I I' : Nat → Nat → Int32} (f : frM 1 I I') : frB I I' := by
  refine ⟨fun x h0 h1 => f.1 x h0 (by omega) (by omega) (by omega), fun k _ h1 _ => f.2.1 k h1, fun k hk => ?_, by rw [f.1 33 (by decide) (by decide) (by decide) (by decide)]⟩
  obtain ⟨a, b, c⟩ := f.2.2 k (by omega)
  exact ⟨a, b, by rw [f.1 31 (by decide) (by decide) (by decide) (by decide)], c⟩
theorem frB.u0 (I : Nat → Nat → Int32) {k : Nat} (v : Int32) (hk : k = 2 ∨ k = 54 ∨ (62 ≤ k ∧ k ≤ 67)) : frB I (u2 I 0 k v) :=
  ⟨fun x h0 _ => u2_ne h0, fun j h1 h2 h3 => u2_nk _ _ (by omega), fun j _ => ⟨by rw [u2_ne (by decide)], by rw [u2_ne (by decide)], by rw [u2_ne (by decide)], by rw [u2_ne (by decide)]⟩, by rw [u2_ne (by decide)]⟩
theorem frB.us (I : Nat → Nat → Int32) {a k : Nat} (v : Int32) (ha : (29 ≤ a ∧ a ≤ 32 ∧ 5 ≤ k) ∨ (a = 33 ∧ 1 ≤ k) ∨ a = 34 ∨ a = 35 ∨ a = 36 ∨ a = 38) : frB I (u2 I a k v) := by
  refine ⟨fun x h0 _ => u2_ne (by omega), fun j h1 h2 h3 => by rw [u2_ne (by omega)], fun j hj => ?_, ?_⟩
  · refine ⟨?_, ?_, ?_, ?_⟩ <;> rw [u2_app, if_neg (by omega)]
  · rw [u2_app, if_neg (by omega)]
theorem MW.frB {I I' : Nat → Nat → Int32} {K : KT} (f : frB I I') (q : MW I K) : MW I' K := ⟨q.1.fr (fun x h1 h2 => f.1 x (by omega) (by omega)) (fun k h1 h2 => f.2.1 k (by omega) (by omega) (by omega)), q.2⟩
theorem StM.frB {I I' : Nat → Nat → Int32} {P : Nat} {S : ST} (hP : P ≤ 5) (f : frB I I') (q : StM I 0 P S) : StM I' 0 P S := by
  refine ⟨fun p hp => ?_, by rw [f.2.2.2]; exact q.2⟩
  obtain ⟨a, b, c, d⟩ := f.2.2.1 (5 * 0 + p) (by omega)
  rw [a, b, c, d]; exact q.1 p hp
section M6
variable {h : HP} {K : KT} {F : FT} {S : ST}
theorem em_rq (ws : WS (zP K) S) {a c : Nat} (ha : a < zP K) (hc : c < zP K) (g2 : Int32) : ∀ (j i : Nat) (I : Nat → Nat → Int32) (L : Nat → Nat → Int64) (fuel : Nat), MW I K → FlM I F → I 0 63 = 1 → I 0 62 = 0 → i + j = zQ K → StM I 1 (zP K) (zrq K F a c i S) → j < fuel → ∃ I' L', (∀ k, m_askAll_42 g2 (nn a) (nn c) k fuel (nn i) (hw h I L) = k (hw h I' L')) ∧ StM I' 1 (zP K) (zrq K F a c (zQ K) S) ∧ frM 1 I I' ∧ frL2 false L L' := by
  intro j
  induction j with
  | zero =>
    intro i I L fuel M fl h3 h2 hi hS hf
    obtain ⟨n, rfl⟩ : ∃ n, fuel = n + 1 := ⟨fuel - 1, by omega⟩
    have hQ := M.2.1.2.2.1
    refine ⟨I, L, fun k => ?_, ?_, frM.rfl 1 I, frL2.rfl false L⟩
    · simp only [m_askAll_42, bnd_e, cal_s, onr_s, jon_e, gI_hw, gL_hw, gT_hw, gR_hw, gN_hw, sI_hw, sL_hw, cV_hw, shS_hw, shC_hw, shL_hw, ← bt_def, M.1.1.2.2.1, if_pos (nn_ple (show zQ K ≤ i by omega) (show i < 2147483648 by omega))]
    · rw [show i = zQ K by omega] at hS; exact hS
  | succ j ih =>
    intro i I L fuel M fl h3 h2 hi hS hf
    obtain ⟨n, rfl⟩ : ∃ n, fuel = n + 1 := ⟨fuel - 1, by omega⟩
    have hQ := M.2.1.2.2.1
    have hip : i < zQ K := by omega
    have nle := nn_nle hip (show zQ K < 2147483648 by omega)
    have ec : ∀ L, m_canAsk 1 (nn a) (nn c) (nn i) (hw h I L) = _ := fun L => em_can (h := h) (L := L) M (b := 1) (by omega) hS fl (cnt := false) h3 ha hc hip
    cases x : zcan K F (zrq K F a c i S) a c i false with
    | false =>
      rw [x, bI_f] at ec
      have e1 : zrq K F a c (i + 1) S = zrq K F a c i S := by
        show zstep K F a c i (zrq K F a c i S) = _
        unfold zstep
        rw [x]; rfl
      obtain ⟨I2, L2, e2, s2, f2, l2⟩ := ih (i + 1) I L n M fl h3 h2 (by omega) (by rw [e1]; exact hS) (by omega)
      refine ⟨I2, L2, fun k => ?_, s2, f2, l2⟩
      simp only [m_askAll_42, bnd_e, cal_s, onr_s, jon_e, gI_hw, gL_hw, gT_hw, gR_hw, gN_hw, sI_hw, sL_hw, cV_hw, shS_hw, shC_hw, shL_hw, ← bt_def, M.1.1.2.2.1, if_neg nle, ec, if_true, nn_succ, e2]
    | true =>
      rw [x, bI_t] at ec
      obtain ⟨I1, L1, e1, s1, f1, l1, -⟩ := em_ask (h := h) (L := L) M (b := 1) (by omega) hS (WS.rq M.2 ws i (by omega)) fl (dr := false) h2 (num := 0) (fun z => by cases z) ha hc hip (zcan_tog x)
      have e1 : m_asks 1 (nn a) (nn c) (nn i) (hw h I L) = _ := e1
      have e3 : zrq K F a c (i + 1) S = (zask K F (zrq K F a c i S) a c i false 0).2.1 := by
        show zstep K F a c i (zrq K F a c i S) = _
        unfold zstep
        rw [x]; rfl
      obtain ⟨I2, L2, e2, s2, f2, l2⟩ := ih (i + 1) I1 L1 n (M.fr f1) (fl.fr f1) (by rw [f1.2.1 63 (by decide)]; exact h3) (by rw [f1.2.1 62 (by decide)]; exact h2) (by omega) (by rw [e3]; exact s1) (by omega)
      refine ⟨I2, L2, fun k => ?_, s2, f1.tr f2, l1.tr l2⟩
      simp only [m_askAll_42, bnd_e, cal_s, onr_s, jon_e, gI_hw, gL_hw, gT_hw, gR_hw, gN_hw, sI_hw, sL_hw, cV_hw, shS_hw, shC_hw, shL_hw, ← bt_def, M.1.1.2.2.1, if_neg nle, ec, if_neg i10, e1, nn_succ, e2, ite_self]
theorem em_rb (ws : WS (zP K) S) {a : Nat} (ha : a < zP K) (g2 : Int32) : ∀ (j i : Nat) (I : Nat → Nat → Int32) (L : Nat → Nat → Int64) (fuel : Nat), MW I K → FlM I F → I 0 63 = 1 → I 0 62 = 0 → i + j = zP K → StM I 1 (zP K) (zrb K F a i S) → j < fuel → ∃ I' L', (∀ k, m_askAll_30 g2 (nn a) k fuel (nn i) (hw h I L) = k (hw h I' L')) ∧ StM I' 1 (zP K) (zrb K F a (zP K) S) ∧ frM 1 I I' ∧ frL2 false L L' := by
  intro j
  induction j with
  | zero =>
    intro i I L fuel M fl h3 h2 hi hS hf
    obtain ⟨n, rfl⟩ : ∃ n, fuel = n + 1 := ⟨fuel - 1, by omega⟩
    have hP := M.2.1.2.1
    refine ⟨I, L, fun k => ?_, ?_, frM.rfl 1 I, frL2.rfl false L⟩
    · simp only [m_askAll_30, bnd_e, cal_s, onr_s, jon_e, gI_hw, gL_hw, gT_hw, gR_hw, gN_hw, sI_hw, sL_hw, cV_hw, shS_hw, shC_hw, shL_hw, ← bt_def, M.1.1.2.1, if_pos (nn_ple (show zP K ≤ i by omega) (show i < 2147483648 by omega))]
    · rw [show i = zP K by omega] at hS; exact hS
  | succ j ih =>
    intro i I L fuel M fl h3 h2 hi hS hf
    obtain ⟨n, rfl⟩ : ∃ n, fuel = n + 1 := ⟨fuel - 1, by omega⟩
    have hP := M.2.1.2.1
    have hQ := M.2.1.2.2.1
    have hip : i < zP K := by omega
    have nle := nn_nle hip (show zP K < 2147483648 by omega)
    obtain ⟨I1, L1, e1, s1, f1, l1⟩ := em_rq (h := h) (S := zrb K F a i S) (F := F) (WS.rb M.2 ws i) ha hip g2 (zQ K) 0 I L FU M fl h3 h2 (by omega) hS (by show zQ K < 1000; omega)
    obtain ⟨I2, L2, e2, s2, f2, l2⟩ := ih (i + 1) I1 L1 n (M.fr f1) (fl.fr f1) (by rw [f1.2.1 63 (by decide)]; exact h3) (by rw [f1.2.1 62 (by decide)]; exact h2) (by omega) s1 (by omega)
    refine ⟨I2, L2, fun k => ?_, s2, f1.tr f2, l1.tr l2⟩
    rw [nn0] at e1
    simp only [m_askAll_30, bnd_e, cal_s, onr_s, jon_e, gI_hw, gL_hw, gT_hw, gR_hw, gN_hw, sI_hw, sL_hw, cV_hw, shS_hw, shC_hw, shL_hw, ← bt_def, M.1.1.2.1, if_neg nle, e1, nn_succ, e2]
theorem em_ra (ws : WS (zP K) S) (g2 : Int32) : ∀ (j i : Nat) (I : Nat → Nat → Int32) (L : Nat → Nat → Int64) (fuel : Nat), MW I K → FlM I F → I 0 63 = 1 → I 0 62 = 0 → i + j = zP K → StM I 1 (zP K) (zra K F i S) → j < fuel → ∃ I' L', (∀ k, m_askAll_19 g2 k fuel (nn i) (hw h I L) = k (hw h I' L')) ∧ StM I' 1 (zP K) (zra K F (zP K) S) ∧ frM 1 I I' ∧ frL2 false L L' := by
  intro j
  induction j with
  | zero =>
    intro i I L fuel M fl h3 h2 hi hS hf
    obtain ⟨n, rfl⟩ : ∃ n, fuel = n + 1 := ⟨fuel - 1, by omega⟩
    have hP := M.2.1.2.1
    refine ⟨I, L, fun k => ?_, ?_, frM.rfl 1 I, frL2.rfl false L⟩
    · simp only [m_askAll_19, bnd_e, cal_s, onr_s, jon_e, gI_hw, gL_hw, gT_hw, gR_hw, gN_hw, sI_hw, sL_hw, cV_hw, shS_hw, shC_hw, shL_hw, ← bt_def, M.1.1.2.1, if_pos (nn_ple (show zP K ≤ i by omega) (show i < 2147483648 by omega))]
    · rw [show i = zP K by omega] at hS; exact hS
  | succ j ih =>
    intro i I L fuel M fl h3 h2 hi hS hf
    obtain ⟨n, rfl⟩ : ∃ n, fuel = n + 1 := ⟨fuel - 1, by omega⟩
    have hP := M.2.1.2.1
    have hip : i < zP K := by omega
    have nle := nn_nle hip (show zP K < 2147483648 by omega)
    obtain ⟨I1, L1, e1, s1, f1, l1⟩ := em_rb (h := h) (S := zra K F i S) (F := F) (WS.ra M.2 ws i) hip g2 (zP K) 0 I L FU M fl h3 h2 (by omega) hS (by show zP K < 1000; omega)
    obtain ⟨I2, L2, e2, s2, f2, l2⟩ := ih (i + 1) I1 L1 n (M.fr f1) (fl.fr f1) (by rw [f1.2.1 63 (by decide)]; exact h3) (by rw [f1.2.1 62 (by decide)]; exact h2) (by omega) s1 (by omega)
    refine ⟨I2, L2, fun k => ?_, s2, f1.tr f2, l1.tr l2⟩
    rw [nn0] at e1
    simp only [m_askAll_19, bnd_e, cal_s, onr_s, jon_e, gI_hw, gL_hw, gT_hw, gR_hw, gN_hw, sI_hw, sL_hw, cV_hw, shS_hw, shC_hw, shL_hw, ← bt_def, M.1.1.2.1, if_neg nle, e1, nn_succ, e2]
theorem em_all7 : ∀ (n : Nat) (I : Nat → Nat → Int32) (L : Nat → Nat → Int64) (S S' : ST) (fuel : Nat), MW I K → FlM I F → I 0 63 = 1 → I 0 62 = 0 → StM I 1 (zP K) S → WS (zP K) S → zall K F n S = some S' → n < fuel → ∃ I' L', (∀ k, m_askAll_7 k fuel 1 (hw h I L) = k (hw h I' L')) ∧ StM I' 1 (zP K) S' ∧ frM 1 I I' ∧ frL2 false L L' := by
  intro n
  induction n with
  | zero => intro I L S S' fuel M fl h3 h2 hS ws e hf; cases e
  | succ n ih =>
    intro I L S S' fuel M fl h3 h2 hS ws e hf
    obtain ⟨m, rfl⟩ : ∃ m, fuel = m + 2 := ⟨fuel - 2, by omega⟩
    have hP := M.2.1.2.1
    obtain ⟨I1, L1, e1, s1, f1, l1⟩ := em_ra (h := h) (S := S) (F := F) ws (zsum K F S) (zP K) 0 I L FU M fl h3 h2 (by omega) hS (by show zP K < 1000; omega)
    rw [nn0] at e1
    have M1 := M.fr f1
    have fl1 := fl.fr f1
    have hS1 : StM I1 1 (zP K) (zround K F S) := s1
    have ws1 : WS (zP K) (zround K F S) := WS.ra M.2 ws _
    have u1 : ∀ L, m_sumIn 1 (hw h I L) = _ := fun L => em_sum (h := h) (L := L) M (b := 1) (by omega) hS ws fl.2.2.1
    have u2 : ∀ L, m_sumIn 1 (hw h I1 L) = _ := fun L => em_sum (h := h) (L := L) M1 (b := 1) (by omega) hS1 ws1 fl1.2.2.1
    unfold zall at e
    by_cases x : zsum K F (zround K F S) ≤ zsum K F S
    · rw [if_pos x] at e
      cases e
      refine ⟨I1, L1, fun k => ?_, s1, f1, l1⟩
      rw [m_askAll_7]
      simp only [bnd_e, cal_s, onr_s, jon_e, gI_hw, gL_hw, gT_hw, gR_hw, gN_hw, sI_hw, sL_hw, cV_hw, shS_hw, shC_hw, shL_hw, ← bt_def, if_neg i10, u1, e1, u2, if_pos x, m_askAll_7, if_true]
    · rw [if_neg x] at e
      obtain ⟨I2, L2, e2, s2, f2, l2⟩ := ih I1 L1 _ S' (m + 1) M1 fl1 (by rw [f1.2.1 63 (by decide)]; exact h3) (by rw [f1.2.1 62 (by decide)]; exact h2) hS1 ws1 e (by omega)
      refine ⟨I2, L2, fun k => ?_, s2, f1.tr f2, l1.tr l2⟩
      rw [m_askAll_7]
      simp only [bnd_e, cal_s, onr_s, jon_e, gI_hw, gL_hw, gT_hw, gR_hw, gN_hw, sI_hw, sL_hw, cV_hw, shS_hw, shC_hw, shL_hw, ← bt_def, if_neg i10, u1, e1, u2, if_neg x, e2]
theorem FlM.u {I : Nat → Nat → Int32} {k : Nat} {v : Int32} (hk : k < 64 ∨ 67 < k) (q : FlM I F) : FlM (u2 I 0 k v) F := by
  unfold FlM
  rw [u2_nk _ _ (show 64 ≠ k by omega), u2_nk _ _ (show 65 ≠ k by omega), u2_nk _ _ (show 66 ≠ k by omega), u2_nk _ _ (show 67 ≠ k by omega)]; exact q
theorem StM.u0 {I : Nat → Nat → Int32} {b P k : Nat} {v : Int32} (q : StM I b P S) : StM (u2 I 0 k v) b P S := by
  unfold StM
  rw [u2_ne (show 29 ≠ 0 by decide), u2_ne (show 30 ≠ 0 by decide), u2_ne (show 31 ≠ 0 by decide), u2_ne (show 32 ≠ 0 by decide), u2_ne (show 33 ≠ 0 by decide)]; exact q
theorem em_askAll {I : Nat → Nat → Int32} {L : Nat → Nat → Int64} (M : MW I K) (fl : FlM I F) (h2 : I 0 62 = 0) (hS : StM I 1 (zP K) S) (ws : WS (zP K) S) {S' : ST} {n : Nat} (e : zall K F n S = some S') (hn : n < 1000) : ∃ I' L', m_askAll (hw h I L) = some ((), hw h I' L') ∧ StM I' 1 (zP K) S' ∧ frM 1 (u2 I 0 63 1) I' ∧ frL2 false L L' := by
  obtain ⟨I1, L1, e1, s1, f1, l1⟩ := em_all7 (h := h) n (u2 I 0 63 1) L S S' FU (M.frB (frB.u0 I 1 (by omega))) (fl.u (by omega)) (u2_same _ _ _ _) (by rw [u2_nk _ _ (by decide)]; exact h2) hS.u0 ws e hn
  refine ⟨I1, L1, ?_, s1, f1, l1⟩
  simp only [m_askAll, bnd_e, cal_s, onr_s, jon_e, gI_hw, gL_hw, gT_hw, gR_hw, gN_hw, sI_hw, sL_hw, cV_hw, shS_hw, shC_hw, shL_hw, ← bt_def, e1]
/-- nothing is tried -/
def plI (I : Nat → Nat → Int32) : Nat → Nat → Int32 := u2 (u2 (u2 (u2 (u2 (u2 I 0 62 0) 0 63 0) 0 64 0) 0 65 0) 0 66 0) 0 67 (-1)
theorem em_plain (I : Nat → Nat → Int32) (L : Nat → Nat → Int64) : m_plainTried (hw h I L) = some ((), hw h (plI I) L) := by
  simp only [m_plainTried, bnd_e, cal_s, onr_s, jon_e, gI_hw, gL_hw, gT_hw, gR_hw, gN_hw, sI_hw, sL_hw, cV_hw, shS_hw, shC_hw, shL_hw, ← bt_def]; rfl
theorem plI_fr (I : Nat → Nat → Int32) : frB I (plI I) := (((((frB.u0 I 0 (by omega)).tr (frB.u0 _ 0 (by omega))).tr (frB.u0 _ 0 (by omega))).tr (frB.u0 _ 0 (by omega))).tr (frB.u0 _ 0 (by omega))).tr (frB.u0 _ _ (by omega))
theorem plI_ne (I : Nat → Nat → Int32) {x : Nat} (hx : x ≠ 0) : plI I x = I x := by
  unfold plI
  rw [u2_ne hx, u2_ne hx, u2_ne hx, u2_ne hx, u2_ne hx, u2_ne hx]
theorem plI_fl (I : Nat → Nat → Int32) (w : Int32) : FlM (plI I) (-1, w, 0) := by
  unfold FlM plI
  simp [u2_app]
  decide
theorem plI_63 (I : Nat → Nat → Int32) : plI I 0 63 = 0 := by simp [plI, u2_app]
theorem plI_62 (I : Nat → Nat → Int32) : plI I 0 62 = 0 := by simp [plI, u2_app]
theorem em_lay2 : ∀ (j i : Nat) (I : Nat → Nat → Int32) (L : Nat → Nat → Int64) (fuel : Nat), i + j = 5 → j < fuel → ∃ I', (∀ k, m_layTried_2 k fuel (nn i) (hw h I L) = k (hw h I' L)) ∧ (∀ p, i ≤ p → p < 5 → I' 29 (5 + p) = I 29 p ∧ I' 30 (5 + p) = I 30 p ∧ I' 31 (5 + p) = I 31 p ∧ I' 32 (5 + p) = I 32 p) ∧ (∀ p, p < 5 + i → I' 29 p = I 29 p ∧ I' 30 p = I 30 p ∧ I' 31 p = I 31 p ∧ I' 32 p = I 32 p) ∧ ∀ x, x < 29 ∨ 32 < x → I' x = I x := by
  intro j
  induction j with
  | zero =>
    intro i I L fuel hi hf
    obtain ⟨n, rfl⟩ : ∃ n, fuel = n + 1 := ⟨fuel - 1, by omega⟩
    have : (5 : Int32) ≤ nn i := nn_ple (n := 5) (by omega) (by omega)
    refine ⟨I, fun k => ?_, fun p h1 h2 => by omega, fun _ _ => ⟨rfl, rfl, rfl, rfl⟩, fun _ _ => rfl⟩
    simp only [m_layTried_2, bnd_e, cal_s, onr_s, jon_e, gI_hw, gL_hw, gT_hw, gR_hw, gN_hw, sI_hw, sL_hw, cV_hw, shS_hw, shC_hw, shL_hw, ← bt_def, if_pos this]
  | succ j ih =>
    intro i I L fuel hi hf
    obtain ⟨n, rfl⟩ : ∃ n, fuel = n + 1 := ⟨fuel - 1, by omega⟩
    have hi2 : i < 2147483648 := by omega
    have i1 : inb (nn i) 10 := nn_inb hi2 (by omega)
    have i2 : inb (nn (5 + i)) 10 := nn_inb (by omega) (by omega)
    have e5 : (5 : Int32) + nn i = nn (5 + i) := nn_add 5 i
    have nle : ¬ (5 : Int32) ≤ nn i := nn_nle (n := 5) (by omega) (by omega)
    obtain ⟨I2, e2, a2, b2, f2⟩ := ih (i + 1) (u2 (u2 (u2 (u2 I 29 (5 + i) (I 29 i)) 30 (5 + i) (I 30 i)) 31 (5 + i) (I 31 i)) 32 (5 + i) (I 32 i)) L n (by omega) (by omega)
    refine ⟨I2, fun k => ?_, fun p h1 h2 => ?_, fun p h1 => ?_, fun x hx => ?_⟩
    · simp only [m_layTried_2, bnd_e, cal_s, onr_s, jon_e, gI_hw, gL_hw, gT_hw, gR_hw, gN_hw, sI_hw, sL_hw, cV_hw, shS_hw, shC_hw, shL_hw, ← bt_def, if_neg nle, grd_pos i1, e5, grd_pos i2, nn_clamp hi2, nn_clamp (show 5 + i < 2147483648 by omega), nn_succ, u2_ne (show 30 ≠ 29 by decide), u2_ne (show 31 ≠ 29 by decide), u2_ne (show 31 ≠ 30 by decide), u2_ne (show 32 ≠ 29 by decide), u2_ne (show 32 ≠ 30 by decide), u2_ne (show 32 ≠ 31 by decide), e2]
    · by_cases y : p = i
      · obtain ⟨z1, z2, z3, z4⟩ := b2 (5 + p) (by omega)
        rw [z1, z2, z3, z4, y]
        simp [u2_app]
      · obtain ⟨z1, z2, z3, z4⟩ := a2 p (by omega) h2
        rw [z1, z2, z3, z4]
        have : p ≠ 5 + i := by omega
        simp [u2_app, this]
    · obtain ⟨z1, z2, z3, z4⟩ := b2 p (by omega)
      rw [z1, z2, z3, z4]
      have : p ≠ 5 + i := by omega
      simp [u2_app, this]
    · rw [f2 x hx, u2_ne (by omega), u2_ne (by omega), u2_ne (by omega), u2_ne (by omega)]
theorem em_lay {I : Nat → Nat → Int32} {L : Nat → Nat → Int64} {P : Nat} (hP : P ≤ 5) (hS : StM I 0 P S) : ∃ I', m_layTried (hw h I L) = some ((), hw h I' L) ∧ StM I' 1 P S ∧ (∀ w, FlM I' (-1, w, 0)) ∧ I' 0 63 = 0 ∧ I' 0 62 = 0 ∧ frB I I' := by
  obtain ⟨I1, e1, a1, b1, f1⟩ := em_lay2 (h := h) 5 0 I L FU (by omega) (by show 5 < 1000; omega)
  rw [nn0] at e1
  have e33 : I1 33 = I 33 := f1 33 (by omega)
  have fr1 : frB I I1 := ⟨fun x h0 h1 => f1 x (by omega), fun k _ _ _ => by rw [f1 0 (by omega)], fun k hk => b1 k (by omega), by rw [e33]⟩
  refine ⟨plI (u2 I1 33 1 (I1 33 0)), ?_, ?_, plI_fl _, plI_63 _, plI_62 _, (fr1.tr (frB.us I1 _ (by omega))).tr (plI_fr _)⟩
  · simp only [m_layTried, bnd_e, cal_s, onr_s, jon_e, gI_hw, gL_hw, gT_hw, gR_hw, gN_hw, sI_hw, sL_hw, cV_hw, shS_hw, shC_hw, shL_hw, ← bt_def, e1, grd_pos (show inb (0 : Int32) 2 by decide), grd_pos (show inb (1 : Int32) 2 by decide), tn0, tn1, em_plain]
  · unfold StM
    rw [plI_ne _ (by decide), plI_ne _ (by decide), plI_ne _ (by decide), plI_ne _ (by decide), plI_ne _ (by decide), u2_ne (show 29 ≠ 33 by decide), u2_ne (show 30 ≠ 33 by decide), u2_ne (show 31 ≠ 33 by decide), u2_ne (show 32 ≠ 33 by decide), u2_same, e33]
    refine ⟨fun p hp => ?_, hS.2⟩
    obtain ⟨z1, z2, z3, z4⟩ := a1 p (by omega) (by omega)
    obtain ⟨y1, y2, y3, y4⟩ := hS.1 p hp
    rw [show 5 * 1 + p = 5 + p by omega, z1, z2, z3, z4]
    rw [show 5 * 0 + p = p by omega] at y1 y2 y3 y4
    exact ⟨y1, y2, y3, y4⟩
end M6
