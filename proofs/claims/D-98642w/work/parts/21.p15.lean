/-! PURE LEVEL 15: asking, sums, rounds on the model's side -/
theorem StM.cg {I : Nat → Nat → Int32} {b P : Nat} {S S' : ST} (hS : StM I b P S) (e : ∀ p, p < P → sk S' p = sk S p ∧ sr S' p = sr S p ∧ sl S' p = sl S p ∧ sa S' p = sa S p) (ed : sd S' = sd S) : StM I b P S' := by
  obtain ⟨s1, s2⟩ := hS
  refine ⟨fun p hp => ?_, by rw [ed]; exact s2⟩
  obtain ⟨e1, e2, e3, e4⟩ := e p hp
  rw [e1, e2, e3, e4]; exact s1 p hp
theorem ztog_t {F : FT} {S : ST} {a b : Nat} (h : ztog F S a b = true) : bt F.2.2 (nn a) = 0 ∧ bt F.2.2 (nn b) = 0 ∧ sr S a = sr S b := by
  unfold ztog at h
  simp only [Bool.and_eq_true, decide_eq_true_eq] at h
  exact h
theorem ztog_of {F : FT} {S : ST} {a b : Nat} (h : bt F.2.2 (nn a) = 0 ∧ bt F.2.2 (nn b) = 0 ∧ sr S a = sr S b) : ztog F S a b = true := by
  unfold ztog
  simp only [Bool.and_eq_true, decide_eq_true_eq]
  exact h
theorem zcan_tog {K : KT} {F : FT} {S : ST} {a b q : Nat} {cnt : Bool} (h : zcan K F S a b q cnt = true) : ztog F S a b = true := by
  unfold zcan at h
  rw [Bool.and_eq_true, Bool.and_eq_true] at h
  exact h.2.1
section M5
variable {h : HP} {K : KT} {F : FT} {S : ST}
theorem WS.zSi {P : Nat} (w : WK K) (hS : WS P S) {a q : Nat} (hq : q < zQ K) (i : Nat) : WS P (zSi K F S a q i) := by
  intro p hp
  show (if p < i then (if p ≠ a ∧ ztog F S a p = true ∧ zhear K F S p q = true then sk S p ||| zsup K q else sk S p) else sk S p) &&& 255 = if p < i then (if p ≠ a ∧ ztog F S a p = true ∧ zhear K F S p q = true then sk S p ||| zsup K q else sk S p) else sk S p
  by_cases z : p < i
  · rw [if_pos z]
    by_cases z2 : p ≠ a ∧ ztog F S a p = true ∧ zhear K F S p q = true
    · rw [if_pos z2]; exact or255 (hS p hp) (zsup_255 w hq)
    · rw [if_neg z2]; exact hS p hp
  · rw [if_neg z]; exact hS p hp
theorem em_ask1 {b : Nat} (hb : b < 2) (ws : WS (zP K) S) {a q : Nat} (ha : a < zP K) (hga : bt F.2.2 (nn a) = 0) (hq : q < zQ K) (f3 : Int32) : ∀ (j i : Nat) (I : Nat → Nat → Int32) (L : Nat → Nat → Int64) (fuel : Nat), MW I K → FlM I F → i + j = zP K → StM I b (zP K) (zSi K F S a q i) → j < fuel → ∃ I' L', (∀ k, m_asks_17 (nn b) (nn a) f3 (nn q) k fuel (nn i) (hw h I L) = k (hw h I' L')) ∧ StM I' b (zP K) (zSi K F S a q (zP K)) ∧ frM b I I' ∧ ∀ x, x ≠ 27 → x ≠ 28 → L' x = L x := by
  intro j
  induction j with
  | zero =>
    intro i I L fuel M fl hi hS hf
    obtain ⟨n, rfl⟩ : ∃ n, fuel = n + 1 := ⟨fuel - 1, by omega⟩
    have hP := M.2.1.2.1
    refine ⟨I, L, fun k => ?_, ?_, frM.rfl b I, fun _ _ _ => rfl⟩
    · simp only [m_asks_17, bnd_e, cal_s, onr_s, jon_e, gI_hw, gL_hw, gT_hw, gR_hw, gN_hw, sI_hw, sL_hw, cV_hw, shS_hw, shC_hw, shL_hw, ← bt_def, M.1.1.2.1, if_pos (nn_ple (show zP K ≤ i by omega) (show i < 2147483648 by omega))]
    · rw [show i = zP K by omega] at hS; exact hS
  | succ j ih =>
    intro i I L fuel M fl hi hS hf
    obtain ⟨n, rfl⟩ : ∃ n, fuel = n + 1 := ⟨fuel - 1, by omega⟩
    have hP := M.2.1.2.1
    have hip : i < zP K := by omega
    have hi2 : i < 2147483648 := by omega
    have ha2 : a < 2147483648 := by omega
    have i1 : inb (nn (5 * b + i)) 10 := nn_inb (by omega) (by omega)
    have i2 : inb (nn (5 * b + a)) 10 := nn_inb (by omega) (by omega)
    have c1 := nn_clamp (show 5 * b + i < 2147483648 by omega)
    have c2 := nn_clamp (show 5 * b + a < 2147483648 by omega)
    have nle := nn_nle hip (show zP K < 2147483648 by omega)
    have ri : I 31 (5 * b + i) = sr S i := (hS.1 i hip).2.1
    have ra : I 31 (5 * b + a) = sr S a := (hS.1 a ha).2.1
    have g66 := fl.2.2.1
    have p13 := M.1.1.2.1
    by_cases x1 : i = a
    · obtain ⟨I2, L2, e2, s2, f2, l2⟩ := ih (i + 1) I L n M fl (by omega) (by rw [zSi_eq (if_neg (fun z => z.1 x1))]; exact hS) (by omega)
      refine ⟨I2, L2, fun k => ?_, s2, f2, l2⟩
      simp only [m_asks_17, bnd_e, cal_s, onr_s, jon_e, gI_hw, gL_hw, gT_hw, gR_hw, gN_hw, sI_hw, sL_hw, cV_hw, shS_hw, shC_hw, shL_hw, ← bt_def, p13, if_neg nle, nn_succ, nn_eq hi2 ha2, if_pos x1, e2]
    · by_cases x2 : sr S i = sr S a
      · by_cases x3 : bt F.2.2 (nn i) = 0
        · have tg : ztog F S a i = true := ztog_of ⟨hga, x3, x2.symm⟩
          obtain ⟨v, L1, e1, l1⟩ := em_hears (h := h) (L := L) M hb hS (ws.zSi M.2 hq i) fl hip hq
          rw [zSi_hear] at e1
          have fe := frM.er b I v
          have M1 := M.fr fe
          have fl1 := fl.fr fe
          have hS1 := hS.er v
          have d0 : bI (decide ¬ bt F.2.2 (nn i) = 0) = 0 := by rw [decide_eq_false (fun y => y x3)]; rfl
          cases x4 : zhear K F S i q with
          | false =>
            rw [x4, bI_f] at e1
            obtain ⟨I2, L2, e2, s2, f2, l2⟩ := ih (i + 1) (u2 I 0 54 v) L1 n M1 fl1 (by omega) (by rw [zSi_eq (if_neg (fun z => by rw [x4] at z; exact absurd z.2.2 (by decide)))]; exact hS1) (by omega)
            refine ⟨I2, L2, fun k => ?_, s2, fe.tr f2, fun x h1 h2 => (l2 x h1 h2).trans (l1 x h1 h2)⟩
            simp only [m_asks_17, bnd_e, cal_s, onr_s, jon_e, gI_hw, gL_hw, gT_hw, gR_hw, gN_hw, sI_hw, sL_hw, cV_hw, shS_hw, shC_hw, shL_hw, ← bt_def, n5, p13, if_neg nle, nn_succ, nn_eq hi2 ha2, if_neg x1, grd_pos i1, grd_pos i2, c1, c2, ri, ra, if_pos x2, em_isOf, g66, d0, if_true, e1, e2]
          | true =>
            rw [x4, bI_t] at e1
            have fs : frM b (u2 I 0 54 v) (u2 (u2 I 0 54 v) 29 (5 * b + i) (I 29 (5 * b + i) ||| zsup K q)) := frM.st _ _ (by omega) (by omega) (by omega)
            have e29 : u2 I 0 54 v 29 = I 29 := u2_ne (by decide)
            obtain ⟨I2, L2, e2, s2, f2, l2⟩ := ih (i + 1) (u2 (u2 I 0 54 v) 29 (5 * b + i) (I 29 (5 * b + i) ||| zsup K q)) L1 n (M1.fr fs) (fl1.fr fs) (by omega) (by
              obtain ⟨s1, s2⟩ := hS1
              refine ⟨fun p hp => ?_, by rw [u2_ne (by decide)]; exact s2⟩
              rw [u2_ne (show 31 ≠ 29 by decide), u2_ne (show 30 ≠ 29 by decide), u2_ne (show 32 ≠ 29 by decide), u2_eq]
              refine ⟨?_, (s1 p hp).2⟩
              show _ = if p < i + 1 then zkn1 K F S a q p else sk S p
              have k0 : ∀ r, r < zP K → u2 I 0 54 v 29 (5 * b + r) = if r < i then zkn1 K F S a q r else sk S r := fun r hr => (s1 r hr).1
              by_cases y : p = i
              · rw [if_pos (by omega), if_pos (by omega), ← e29, k0 i hip, if_neg (by omega), y]
                exact (if_pos ⟨x1, tg, x4⟩).symm
              · rw [if_neg (by omega), k0 p hp]
                by_cases y2 : p < i
                · rw [if_pos y2, if_pos (by omega)]
                · rw [if_neg y2, if_neg (by omega)]) (by omega)
            refine ⟨I2, L2, fun k => ?_, s2, (fe.tr fs).tr f2, fun x h1 h2 => (l2 x h1 h2).trans (l1 x h1 h2)⟩
            simp only [m_asks_17, bnd_e, cal_s, onr_s, jon_e, gI_hw, gL_hw, gT_hw, gR_hw, gN_hw, sI_hw, sL_hw, cV_hw, shS_hw, shC_hw, shL_hw, ← bt_def, n5, p13, if_neg nle, nn_succ, nn_eq hi2 ha2, if_neg x1, grd_pos i1, grd_pos i2, c1, c2, ri, ra, if_pos x2, em_isOf, g66, d0, if_true, e1, if_neg i10, em_supposed M1 hq, e29, e2]
        · have d1 : bI (decide ¬ bt F.2.2 (nn i) = 0) = 1 := by rw [decide_eq_true x3]; rfl
          obtain ⟨I2, L2, e2, s2, f2, l2⟩ := ih (i + 1) I L n M fl (by omega) (by rw [zSi_eq (if_neg (fun z => x3 (ztog_t z.2.1).2.1))]; exact hS) (by omega)
          refine ⟨I2, L2, fun k => ?_, s2, f2, l2⟩
          simp only [m_asks_17, bnd_e, cal_s, onr_s, jon_e, gI_hw, gL_hw, gT_hw, gR_hw, gN_hw, sI_hw, sL_hw, cV_hw, shS_hw, shC_hw, shL_hw, ← bt_def, n5, p13, if_neg nle, nn_succ, nn_eq hi2 ha2, if_neg x1, grd_pos i1, grd_pos i2, c1, c2, ri, ra, if_pos x2, em_isOf, g66, d1, if_neg i10, e2]
      · obtain ⟨I2, L2, e2, s2, f2, l2⟩ := ih (i + 1) I L n M fl (by omega) (by rw [zSi_eq (if_neg (fun z => x2 (ztog_t z.2.1).2.2.symm))]; exact hS) (by omega)
        refine ⟨I2, L2, fun k => ?_, s2, f2, l2⟩
        simp only [m_asks_17, bnd_e, cal_s, onr_s, jon_e, gI_hw, gL_hw, gT_hw, gR_hw, gN_hw, sI_hw, sL_hw, cV_hw, shS_hw, shC_hw, shL_hw, ← bt_def, n5, p13, if_neg nle, nn_succ, nn_eq hi2 ha2, if_neg x1, grd_pos i1, grd_pos i2, c1, c2, ri, ra, if_neg x2, e2]
theorem em_ask2 {b : Nat} (hb : b < 2) {a c q : Nat} (ha : a < zP K) (hc : c < zP K) (tg : ztog F S a c = true) (hq : q < zQ K) (f3 : Int32) {x : Int32} (hx : zt K 11 q = x) : ∀ (j i : Nat) (I : Nat → Nat → Int32) (fuel : Nat), MW I K → FlM I F → i + j = zP K → StM I b (zP K) (zS2i F S c x i) → j < fuel → ∃ I', (∀ k L, m_asks_125 (nn b) (nn a) f3 (nn q) k fuel (nn i) (hw h I L) = k (hw h I' L)) ∧ StM I' b (zP K) (zS2i F S c x (zP K)) ∧ frM b I I' := by
  obtain ⟨t1, t2, t3⟩ := ztog_t tg
  intro j
  induction j with
  | zero =>
    intro i I fuel M fl hi hS hf
    obtain ⟨n, rfl⟩ : ∃ n, fuel = n + 1 := ⟨fuel - 1, by omega⟩
    have hP := M.2.1.2.1
    refine ⟨I, fun k L => ?_, ?_, frM.rfl b I⟩
    · simp only [m_asks_125, bnd_e, cal_s, onr_s, jon_e, gI_hw, gL_hw, gT_hw, gR_hw, gN_hw, sI_hw, sL_hw, cV_hw, shS_hw, shC_hw, shL_hw, ← bt_def, M.1.1.2.1, if_pos (nn_ple (show zP K ≤ i by omega) (show i < 2147483648 by omega))]
    · rw [show i = zP K by omega] at hS; exact hS
  | succ j ih =>
    intro i I fuel M fl hi hS hf
    obtain ⟨n, rfl⟩ : ∃ n, fuel = n + 1 := ⟨fuel - 1, by omega⟩
    have hP := M.2.1.2.1
    have hQ := M.2.1.2.2.1
    have hip : i < zP K := by omega
    have i1 : inb (nn (5 * b + i)) 10 := nn_inb (by omega) (by omega)
    have i2 : inb (nn (5 * b + a)) 10 := nn_inb (by omega) (by omega)
    have i3 : inb (nn q) 16 := nn_inb (by omega) (by omega)
    have c1 := nn_clamp (show 5 * b + i < 2147483648 by omega)
    have c2 := nn_clamp (show 5 * b + a < 2147483648 by omega)
    have c3 := nn_clamp (show q < 2147483648 by omega)
    have nle := nn_nle hip (show zP K < 2147483648 by omega)
    have ri : I 31 (5 * b + i) = sr S i := (hS.1 i hip).2.1
    have ra : I 31 (5 * b + a) = sr S a := (hS.1 a ha).2.1
    have g66 := fl.2.2.1
    have p13 := M.1.1.2.1
    have e15 : I 15 q = x := (M.1.2.2.2.2.1 q hq).2.2.2.2.trans hx
    have no : ¬ ztog F S c i = true → StM I b (zP K) (zS2i F S c x (i + 1)) := fun nt => by
      refine hS.cg (fun p hp => ⟨?_, rfl, rfl, rfl⟩) rfl
      show (if p < i + 1 ∧ ztog F S c p = true then _ else sk S p) = if p < i ∧ ztog F S c p = true then _ else sk S p
      by_cases y : p = i
      · rw [if_neg (fun z => by rw [y] at z; exact nt z.2), if_neg (fun z => by omega)]
      · by_cases y2 : p < i ∧ ztog F S c p = true
        · rw [if_pos y2, if_pos ⟨by omega, y2.2⟩]
        · rw [if_neg y2, if_neg (fun z => y2 ⟨by omega, z.2⟩)]
    by_cases x2 : sr S i = sr S a
    · by_cases x3 : bt F.2.2 (nn i) = 0
      · have tg2 : ztog F S c i = true := ztog_of ⟨t2, x3, by rw [x2, t3]⟩
        have d0 : bI (decide ¬ bt F.2.2 (nn i) = 0) = 0 := by rw [decide_eq_false (fun y => y x3)]; rfl
        have fs : frM b I (u2 I 29 (5 * b + i) (I 29 (5 * b + i) ||| ((1 : Int32) <<< (x &&& 31)))) := frM.st _ _ (by omega) (by omega) (by omega)
        obtain ⟨I2, e2, s2, f2⟩ := ih (i + 1) (u2 I 29 (5 * b + i) (I 29 (5 * b + i) ||| ((1 : Int32) <<< (x &&& 31)))) n (M.fr fs) (fl.fr fs) (by omega) (by
          obtain ⟨s1, s2⟩ := hS
          refine ⟨fun p hp => ?_, by rw [u2_ne (by decide)]; exact s2⟩
          rw [u2_ne (show 31 ≠ 29 by decide), u2_ne (show 30 ≠ 29 by decide), u2_ne (show 32 ≠ 29 by decide), u2_eq]
          refine ⟨?_, (s1 p hp).2⟩
          show _ = if p < i + 1 ∧ ztog F S c p = true then sk S p ||| ((1 : Int32) <<< (x &&& 31)) else sk S p
          have k0 : ∀ r, r < zP K → I 29 (5 * b + r) = if r < i ∧ ztog F S c r = true then sk S r ||| ((1 : Int32) <<< (x &&& 31)) else sk S r := fun r hr => (s1 r hr).1
          by_cases y : p = i
          · rw [if_pos (by omega), if_pos ⟨by omega, by rw [y]; exact tg2⟩, k0 i hip, if_neg (fun z => by omega), y]
          · rw [if_neg (by omega), k0 p hp]
            by_cases y2 : p < i ∧ ztog F S c p = true
            · rw [if_pos y2, if_pos ⟨by omega, y2.2⟩]
            · rw [if_neg y2, if_neg (fun z => y2 ⟨by omega, z.2⟩)]) (by omega)
        refine ⟨I2, fun k L => ?_, s2, fs.tr f2⟩
        simp only [m_asks_125, bnd_e, cal_s, onr_s, jon_e, gI_hw, gL_hw, gT_hw, gR_hw, gN_hw, sI_hw, sL_hw, cV_hw, shS_hw, shC_hw, shL_hw, ← bt_def, n5, p13, if_neg nle, nn_succ, grd_pos i1, grd_pos i2, grd_pos i3, c1, c2, c3, ri, ra, if_pos x2, em_isOf, g66, d0, if_true, e15, e2]
      · have d1 : bI (decide ¬ bt F.2.2 (nn i) = 0) = 1 := by rw [decide_eq_true x3]; rfl
        obtain ⟨I2, e2, s2, f2⟩ := ih (i + 1) I n M fl (by omega) (no (fun z => x3 (ztog_t z).2.1)) (by omega)
        refine ⟨I2, fun k L => ?_, s2, f2⟩
        simp only [m_asks_125, bnd_e, cal_s, onr_s, jon_e, gI_hw, gL_hw, gT_hw, gR_hw, gN_hw, sI_hw, sL_hw, cV_hw, shS_hw, shC_hw, shL_hw, ← bt_def, n5, p13, if_neg nle, nn_succ, grd_pos i1, grd_pos i2, c1, c2, ri, ra, if_pos x2, em_isOf, g66, d1, if_neg i10, e2]
    · obtain ⟨I2, e2, s2, f2⟩ := ih (i + 1) I n M fl (by omega) (no (fun z => x2 (by rw [← (ztog_t z).2.2, t3]))) (by omega)
      refine ⟨I2, fun k L => ?_, s2, f2⟩
      simp only [m_asks_125, bnd_e, cal_s, onr_s, jon_e, gI_hw, gL_hw, gT_hw, gR_hw, gN_hw, sI_hw, sL_hw, cV_hw, shS_hw, shC_hw, shL_hw, ← bt_def, n5, p13, if_neg nle, nn_succ, grd_pos i1, grd_pos i2, c1, c2, ri, ra, if_neg x2, e2]
theorem em_ask {I : Nat → Nat → Int32} {L : Nat → Nat → Int64} (M : MW I K) {b : Nat} (hb : b < 2) (hS : StM I b (zP K) S) (ws : WS (zP K) S) (fl : FlM I F) {dr : Bool} (hd : I 0 62 = bI dr) {num : Int32} (hn : LnK dr num L) {a c q : Nat} (ha : a < zP K) (hc : c < zP K) (hq : q < zQ K) (tg : ztog F S a c = true) : ∃ I' L', m_asks (nn b) (nn a) (nn c) (nn q) (hw h I L) = some (bI (zask K F S a c q dr num).1, hw h I' L') ∧ StM I' b (zP K) (zask K F S a c q dr num).2.1 ∧ frM b I I' ∧ frL2 dr L L' ∧ LnK dr (zask K F S a c q dr num).2.2 L' := by
  have hP := M.2.1.2.1
  have i1 : inb (nn (5 * b + a)) 10 := nn_inb (by omega) (by omega)
  have i2 : inb (nn (5 * b + c)) 10 := nn_inb (by omega) (by omega)
  have c1 := nn_clamp (show 5 * b + a < 2147483648 by omega)
  have c2 := nn_clamp (show 5 * b + c < 2147483648 by omega)
  have f1 : frM b I (u2 I 32 (5 * b + a) (I 32 (5 * b + a) + 1)) := frM.st _ _ (by omega) (by omega) (by omega)
  have hS1 : StM (u2 I 32 (5 * b + a) (I 32 (5 * b + a) + 1)) b (zP K) ((sk S, sl S, sr S, (fun p => if p = a then sa S p + 1 else sa S p), sd S) : ST) := by
    obtain ⟨s1, s2⟩ := hS
    refine ⟨fun p hp => ?_, by rw [u2_ne (by decide)]; exact s2⟩
    obtain ⟨k1, k2, k3, k4⟩ := s1 p hp
    rw [u2_ne (show 29 ≠ 32 by decide), u2_ne (show 31 ≠ 32 by decide), u2_ne (show 30 ≠ 32 by decide), u2_eq]
    refine ⟨k1, k2, k3, ?_⟩
    show _ = if p = a then sa S p + 1 else sa S p
    by_cases y : p = a
    · rw [if_pos (by omega), if_pos y, (s1 a ha).2.2.2, y]
    · rw [if_neg (by omega), if_neg y]; exact k4
  obtain ⟨I2, L2, e2, s2, f2, l2⟩ := em_ask1 (h := h) (S := ((sk S, sl S, sr S, (fun p => if p = a then sa S p + 1 else sa S p), sd S) : ST)) (F := F) hb (fun p hp => ws p hp) ha (ztog_t tg).1 hq (nn c) (zP K) 0 _ L FU (M.fr f1) (fl.fr f1) (by omega) (by rw [zSi_0]; exact hS1) (by show zP K < 1000; omega)
  rw [nn0] at e2
  have f02 := f1.tr f2
  have hS2 : StM I2 b (zP K) (zS1 K F S a q) := s2.cg (fun p hp => ⟨show _ = if p < zP K then _ else _ from (if_pos hp).symm, rfl, rfl, rfl⟩) rfl
  have ws1 : WS (zP K) (zS1 K F S a q) := by
    intro p hp
    have := (WS.zSi (F := F) M.2 ws hq (a := a) (zP K)) p hp
    have e : sk (zSi K F S a q (zP K)) p = sk (zS1 K F S a q) p := if_pos hp
    rw [e] at this; exact this
  have M2 := M.fr f02
  have fl2 := fl.fr f02
  obtain ⟨v, L3, e3, f3, n3⟩ := em_isSlip (h := h) M2 hb hS2 ws1 fl2 (by rw [f02.2.1 62 (by decide)]; exact hd) (hn.of l2) hc hq
  have fe := frM.er b I2 v
  have hS3 := hS2.er v
  have lf := (frL2.of dr l2).tr f3
  unfold zask
  by_cases y : (zslip K F (zS1 K F S a q) c q dr num).1 = true
  · rw [if_pos y]
    rw [y, bI_t] at e3
    have hx : zt K 11 q = zasks K q := by
      unfold zasks
      by_cases z : zt K 8 q = 3
      · exfalso
        unfold zslip zasks at y
        rw [if_pos (if_pos z)] at y
        cases y
      · rw [if_neg z]
    obtain ⟨I4, e4, s4, f4⟩ := em_ask2 (h := h) (S := zS1 K F S a q) (F := F) hb ha hc tg hq (nn c) hx (zP K) 0 (u2 I2 0 54 v) FU (M2.fr fe) (fl2.fr fe) (by omega) (hS3.cg (fun p hp => ⟨by
      show (if p < 0 ∧ ztog F (zS1 K F S a q) c p = true then sk (zS1 K F S a q) p ||| ((1 : Int32) <<< (zasks K q &&& 31)) else sk (zS1 K F S a q) p) = _
      rw [if_neg (fun z => absurd z.1 (by omega))], rfl, rfl, rfl⟩) rfl) (by show zP K < 1000; omega)
    rw [nn0] at e4
    refine ⟨u2 I4 30 (5 * b + c) (I4 30 (5 * b + c) + 1), L3, ?_, ?_, ((f02.tr fe).tr f4).tr (frM.st _ _ (by omega) (by omega) (by omega)), lf, n3⟩
    · simp only [m_asks, bnd_e, cal_s, onr_s, jon_e, gI_hw, gL_hw, gT_hw, gR_hw, gN_hw, sI_hw, sL_hw, cV_hw, shS_hw, shC_hw, shL_hw, ← bt_def, n5, grd_pos i1, c1, e2, e3, if_neg i10, e4, grd_pos i2, c2, bI_t]
    · obtain ⟨s5, s6⟩ := s4
      refine ⟨fun p hp => ?_, by rw [u2_ne (by decide)]; exact s6⟩
      obtain ⟨k1, k2, k3, k4⟩ := s5 p hp
      rw [u2_ne (show 29 ≠ 30 by decide), u2_ne (show 31 ≠ 30 by decide), u2_ne (show 32 ≠ 30 by decide), u2_eq]
      refine ⟨k1.trans ?_, k2, ?_, k4⟩
      · show (if p < zP K ∧ ztog F (zS1 K F S a q) c p = true then _ else _) = if ztog F (zS1 K F S a q) c p = true then _ else _
        by_cases y : ztog F (zS1 K F S a q) c p = true
        · rw [if_pos y, if_pos ⟨hp, y⟩]
        · rw [if_neg y, if_neg (fun z => y z.2)]
      · show _ = if p = c then sl (zS1 K F S a q) p + 1 else sl (zS1 K F S a q) p
        by_cases y : p = c
        · rw [if_pos (by omega), if_pos y, (s5 c hc).2.2.1, y]; rfl
        · rw [if_neg (by omega), if_neg y]; exact k3
  · rw [if_neg y]
    rw [Bool.eq_false_iff.mpr y, bI_f] at e3
    refine ⟨u2 I2 0 54 v, L3, ?_, hS3, f02.tr fe, lf, n3⟩
    simp only [m_asks, bnd_e, cal_s, onr_s, jon_e, gI_hw, gL_hw, gT_hw, gR_hw, gN_hw, sI_hw, sL_hw, cV_hw, shS_hw, shC_hw, shL_hw, ← bt_def, n5, grd_pos i1, c1, e2, e3, if_true, bI_f]
theorem em_sum4 {I : Nat → Nat → Int32} {L : Nat → Nat → Int64} (M : MW I K) {b : Nat} (hb : b < 2) (hS : StM I b (zP K) S) (ws : WS (zP K) S) (e66 : I 0 66 = F.2.2) : ∀ (j i fuel : Nat), i + j = zP K → j < fuel → ∀ k, m_sumIn_4 (nn b) k fuel (zsumN F S i) (nn i) (hw h I L) = k (zsumN F S (zP K)) (hw h I L) := by
  have hP := M.2.1.2.1
  have p13 := M.1.1.2.1
  intro j
  induction j with
  | zero =>
    intro i fuel hi hf k
    obtain ⟨n, rfl⟩ : ∃ n, fuel = n + 1 := ⟨fuel - 1, by omega⟩
    simp only [m_sumIn_4, bnd_e, cal_s, onr_s, jon_e, gI_hw, gL_hw, gT_hw, gR_hw, gN_hw, sI_hw, sL_hw, cV_hw, shS_hw, shC_hw, shL_hw, ← bt_def, p13, if_pos (nn_ple (show zP K ≤ i by omega) (show i < 2147483648 by omega))]
    rw [show i = zP K by omega]
  | succ j ih =>
    intro i fuel hi hf k
    obtain ⟨n, rfl⟩ : ∃ n, fuel = n + 1 := ⟨fuel - 1, by omega⟩
    have hip : i < zP K := by omega
    have i1 : inb (nn (5 * b + i)) 10 := nn_inb (by omega) (by omega)
    have c1 := nn_clamp (show 5 * b + i < 2147483648 by omega)
    have e := ih (i + 1) n (by omega) (by omega) k
    have k1 := (hS.1 i hip).1
    by_cases x : bt F.2.2 (nn i) = 0
    · have d0 : bI (decide ¬ bt F.2.2 (nn i) = 0) = 0 := by rw [decide_eq_false (fun y => y x)]; rfl
      have e' : zsumN F S (i + 1) = zsumN F S i + zbc (sk S i) := by show zsumN F S i + (if bt F.2.2 (nn i) = 1 then 0 else zbc (sk S i)) = _; rw [if_neg (fun y => (bt1.mp y) x)]
      rw [e'] at e
      simp only [m_sumIn_4, bnd_e, cal_s, onr_s, jon_e, gI_hw, gL_hw, gT_hw, gR_hw, gN_hw, sI_hw, sL_hw, cV_hw, shS_hw, shC_hw, shL_hw, ← bt_def, n5, p13, if_neg (nn_nle hip (show zP K < 2147483648 by omega)), em_isOf, e66, d0, if_true, grd_pos i1, c1, k1, em_many (ws i hip), nn_succ]
      exact e
    · have d1 : bI (decide ¬ bt F.2.2 (nn i) = 0) = 1 := by rw [decide_eq_true x]; rfl
      have e' : zsumN F S (i + 1) = zsumN F S i + 0 := by show zsumN F S i + (if bt F.2.2 (nn i) = 1 then 0 else zbc (sk S i)) = _; rw [if_pos (bt1.mpr x)]
      rw [e'] at e
      simp only [m_sumIn_4, bnd_e, cal_s, onr_s, jon_e, gI_hw, gL_hw, gT_hw, gR_hw, gN_hw, sI_hw, sL_hw, cV_hw, shS_hw, shC_hw, shL_hw, ← bt_def, n5, p13, if_neg (nn_nle hip (show zP K < 2147483648 by omega)), em_isOf, e66, d1, if_neg i10, nn_succ]
      exact e
theorem em_sum {I : Nat → Nat → Int32} {L : Nat → Nat → Int64} (M : MW I K) {b : Nat} (hb : b < 2) (hS : StM I b (zP K) S) (ws : WS (zP K) S) (e66 : I 0 66 = F.2.2) : m_sumIn (nn b) (hw h I L) = some (zsum K F S, hw h I L) := by
  have hP := M.2.1.2.1
  have e := em_sum4 (h := h) (L := L) M hb hS ws e66 (zP K) 0 FU (by omega) (by show zP K < 1000; omega) (fun x12 h13 => some (x12, h13))
  rw [show zsumN F S 0 = 0 from rfl, nn0] at e
  rw [m_sumIn, bnd_e, bnd_e]
  exact e
end M5
