/-! PURE LEVEL 6: asking, sums, rounds on the component's side -/
section C6
variable {h : HP} {c o P : Nat} {K : KT} {A : Nat → Nat → Nat} {F : FT} {S : ST}
theorem StC.u {I : Nat → Nat → Int32} {k : Nat} {v : Int32} (hS : StC I o P F S) (h4 : k ≠ 4) (h7 : k ≠ 7) (h8 : k ≠ 8) (h9 : k ≠ 9) : StC (u2 I o k v) o P F S := by
  obtain ⟨s1, s2, s3, s4, s5⟩ := hS
  refine ⟨fun p hp => ?_, ?_, ?_, ?_, ?_⟩
  · rw [u2_ne (show o + 1 ≠ o by omega), u2_ne (show o + 2 ≠ o by omega), u2_ne (show o + 3 ≠ o by omega), u2_ne (show o + 4 ≠ o by omega)]; exact s1 p hp
  · rw [u2_nk _ _ (Ne.symm h4)]; exact s2
  · rw [u2_nk _ _ (Ne.symm h7)]; exact s3
  · rw [u2_nk _ _ (Ne.symm h8)]; exact s4
  · rw [u2_nk _ _ (Ne.symm h9)]; exact s5
theorem ec_slip {I : Nat → Nat → Int32} (W : CW h I c K A) (s : shS (cV h) o) (hS : StC I o (zP K) F S) {b : Nat} (hb : b < zP K) (x : Int32) : ∃ I', (∀ k L, cS_ask_222 o (nn b) x k FU 0 (hw h I L) = k (hw h I' L)) ∧ StC (u2 I' (o + 3) b (I' (o + 3) b + 1)) o (zP K) F (zS2 F S b x) ∧ ∀ y, y ≠ o + 1 → I' y = I y := by
  obtain ⟨I', e1, s1, f1⟩ := ec_ask2 (S := S) s hb x (zP K) 0 I FU W (by omega) (by refine hS.cg (fun p hp => ⟨?_, rfl, rfl, rfl⟩) rfl; show (if p < 0 ∧ ztog F S b p = true then sk S p ||| ((1 : Int32) <<< (x &&& 31)) else sk S p) = sk S p; rw [if_neg (fun z => absurd z.1 (by omega))]) (by have := W.p5; show zP K < 1000; omega)
  refine ⟨I', e1, ?_, f1⟩
  obtain ⟨s2, s3⟩ := s1
  refine ⟨fun p hp => ?_, by rw [u2_ne (show o ≠ o + 3 by omega)]; exact s3⟩
  obtain ⟨k1, k2, k3, k4⟩ := s2 p hp
  rw [u2_ne (show o + 1 ≠ o + 3 by omega), u2_ne (show o + 2 ≠ o + 3 by omega), u2_ne (show o + 4 ≠ o + 3 by omega), u2_eq]
  refine ⟨k1.trans ?_, k2, ?_, k4⟩
  · show (if p < zP K ∧ ztog F S b p = true then _ else _) = if ztog F S b p = true then _ else _
    by_cases y : ztog F S b p = true
    · rw [if_pos y, if_pos ⟨hp, y⟩]
    · rw [if_neg y, if_neg (fun z => y z.2)]
  · show _ = if p = b then sl S p + 1 else sl S p
    by_cases y : p = b
    · rw [if_pos y, if_pos y, (s2 b hb).2.2.1, y]; rfl
    · rw [if_neg y, if_neg y]; exact k3
theorem zSi_0 {a q : Nat} : zSi K F S a q 0 = S := Prod.ext (funext fun p => if_neg (t := zkn1 K F S a q p) (Nat.not_lt_zero p)) rfl
theorem ec_inc {I : Nat → Nat → Int32} {a : Nat} (hS : StC I o P F S) (ha : a < P) (v : Int32) : StC (u2 (u2 I (o + 4) a (I (o + 4) a + 1)) o 5 v) o P F ((sk S, sl S, sr S, (fun p => if p = a then sa S p + 1 else sa S p), sd S) : ST) := by
  refine StC.u ?_ (by decide) (by decide) (by decide) (by decide)
  obtain ⟨s1, s3⟩ := hS
  refine ⟨fun p hp => ?_, by rw [u2_ne (show o ≠ o + 4 by omega)]; exact s3⟩
  obtain ⟨k1, k2, k3, k4⟩ := s1 p hp
  rw [u2_ne (show o + 1 ≠ o + 4 by omega), u2_ne (show o + 2 ≠ o + 4 by omega), u2_ne (show o + 3 ≠ o + 4 by omega), u2_eq]
  refine ⟨k1, k2, k3, ?_⟩
  show _ = if p = a then sa S p + 1 else sa S p
  by_cases y : p = a
  · rw [if_pos y, if_pos y, (s1 a ha).2.2.2, y]
  · rw [if_neg y, if_neg y]; exact k4
theorem ec_ask {I : Nat → Nat → Int32} {L : Nat → Nat → Int64} (W : CW h I c K A) (s : shS (cV h) o) (hS : StC I o (zP K) F S) {a b q : Nat} (ha : a < zP K) (hb : b < zP K) (hq : q < zQ K) (dr : Bool) : ∃ I' L', cS_ask o (nn a) (nn b) (nn q) (bI dr) (hw h I L) = some (bI (zask K F S a b q dr (I o 6)).1, hw h I' L') ∧ StC I' o (zP K) F (zask K F S a b q dr (I o 6)).2.1 ∧ FrO o I I' ∧ I' o 5 = I o 5 + 1 ∧ I' o 6 = (zask K F S a b q dr (I o 6)).2.2 := by
  have hP := W.p5
  have hQ := W.q8
  have ha2 : a < 2147483648 := by omega
  have hb2 : b < 2147483648 := by omega
  obtain ⟨t, e0, e1, e2, e3, e4⟩ := W.fQ hq
  obtain ⟨i, hi, ei⟩ := W.kd hq
  obtain ⟨k1, k2⟩ := cT_kind (h := h) hi
  have ia : inb (nn a) 5 := nn_inb ha2 (by omega)
  have ib : inb (nn b) 5 := nn_inb hb2 (by omega)
  have i2 : inb (zt K 8 q) 4 := by rw [ei]; exact nn_inb (by omega) hi
  have eg : gR (cV h) 15 (zt K 8 q).toNatClampNeg = some (16 + i) := by rw [ei, nn_clamp (by omega)]; exact k1
  have f01 : FrO o I (u2 (u2 I (o + 4) a (I (o + 4) a + 1)) o 5 (u2 I (o + 4) a (I (o + 4) a + 1) o 5 + 1)) := (FrO.u2 I a _ (by omega) (by omega)).tr (FrO.u2 _ 5 _ (by omega) (by omega))
  have hS1 : StC (u2 (u2 I (o + 4) a (I (o + 4) a + 1)) o 5 (u2 I (o + 4) a (I (o + 4) a + 1) o 5 + 1)) o (zP K) F ((sk S, sl S, sr S, (fun p => if p = a then sa S p + 1 else sa S p), sd S) : ST) := ec_inc hS ha _
  have W1 := W.frO s f01
  obtain ⟨I2, L2, e5, s5, f5⟩ := ec_ask1 (S := ((sk S, sl S, sr S, (fun p => if p = a then sa S p + 1 else sa S p), sd S) : ST)) s ha hq (nn b) (bI dr) (zasks K q) (zP K) 0 (u2 (u2 I (o + 4) a (I (o + 4) a + 1)) o 5 (u2 I (o + 4) a (I (o + 4) a + 1) o 5 + 1)) L FU W1 (by omega) (by rw [zSi_0]; exact hS1) (by show zP K < 1000; omega)
  rw [nn0] at e5
  have f12 : FrO o (u2 (u2 I (o + 4) a (I (o + 4) a + 1)) o 5 (u2 I (o + 4) a (I (o + 4) a + 1) o 5 + 1)) I2 := fun x hx => f5 x (by omega)
  have f02 := f01.tr f12
  have W2 := W.frO s f02
  have hS2 : StC I2 o (zP K) F (zS1 K F S a q) := s5.cg (fun p hp => ⟨show _ = if p < zP K then _ else _ from (if_pos hp).symm, rfl, rfl, rfl⟩) rfl
  have n5 : I2 o 5 = I o 5 + 1 := by rw [f5 o (by omega), u2_same, u2_ne (show o ≠ o + 4 by omega)]
  have n6 : I2 o 6 = I o 6 := by rw [f5 o (by omega), u2_nk _ _ (by decide), u2_ne (show o ≠ o + 4 by omega)]
  have kb := (hS2.1 b hb).1
  have zk : ∀ r n, zslip K F (zS1 K F S a q) b q dr (I o 6) = (r, n) → zask K F S a b q dr (I o 6) = (r, (if r = true then zS2 F (zS1 K F S a q) b (zasks K q) else zS1 K F S a q), n) := by
    intro r n e
    unfold zask
    rw [e]
    cases r <;> rfl
  by_cases c1 : zasks K q = -1
  · rw [zk false (I o 6) (by unfold zslip; rw [if_pos c1])]
    refine ⟨I2, L2, ?_, hS2, f02, n5, n6⟩
    simp only [cS_ask, bnd_e, cal_s, onr_s, jon_e, gI_hw, gL_hw, gT_hw, gR_hw, gN_hw, sI_hw, sL_hw, cV_hw, shS_hw, shC_hw, shL_hw, ← bt_def, grd_pos s, W.1, grd_pos W.2.1.1, grd_pos W.2.1.2.1.2.2, ec_getQ W hq, grd_pos t, e1, grd_pos i2, eg, ec_supposes W hq hi ei, ec_asks W hq hi ei, grd_pos ia, nn_clamp ha2]
    rw [e5, if_pos c1]; rfl
  · by_cases c2 : bt (sk (zS1 K F S a q) b) (zasks K q) = 0
    · rw [zk false (I o 6) (by unfold zslip; rw [if_neg c1, if_pos c2])]
      refine ⟨I2, L2, ?_, hS2, f02, n5, n6⟩
      simp only [cS_ask, bnd_e, cal_s, onr_s, jon_e, gI_hw, gL_hw, gT_hw, gR_hw, gN_hw, sI_hw, sL_hw, cV_hw, shS_hw, shC_hw, shL_hw, ← bt_def, grd_pos s, W.1, grd_pos W.2.1.1, grd_pos W.2.1.2.1.2.2, ec_getQ W hq, grd_pos t, e1, grd_pos i2, eg, ec_supposes W hq hi ei, ec_asks W hq hi ei, grd_pos ia, nn_clamp ha2]
      rw [e5, if_neg c1]
      simp only [bnd_e, cal_s, onr_s, jon_e, gI_hw, gL_hw, gT_hw, gR_hw, gN_hw, sI_hw, sL_hw, cV_hw, shS_hw, shC_hw, shL_hw, ← bt_def, grd_pos s, grd_pos ib, nn_clamp hb2, kb]
      rw [if_pos c2]; rfl
    · obtain ⟨L3, e6⟩ := ec_odds (L := L2) W2 s hS2 hb hq
      have c2' : ¬ ((sk (zS1 K F S a q) b >>> (zasks K q &&& 31)) &&& 1) = 0 := c2
      cases dr with
      | false =>
        by_cases c3 : zodds K F (zS1 K F S a q) b q < 50
        · rw [zk false (I o 6) (by unfold zslip; rw [if_neg c1, if_neg c2, if_neg (by decide), if_pos c3])]
          refine ⟨I2, L3, ?_, hS2, f02, n5, n6⟩
          simp only [cS_ask, bnd_e, cal_s, onr_s, jon_e, gI_hw, gL_hw, gT_hw, gR_hw, gN_hw, sI_hw, sL_hw, cV_hw, shS_hw, shC_hw, shL_hw, ← bt_def, grd_pos s, W.1, grd_pos W.2.1.1, grd_pos W.2.1.2.1.2.2, ec_getQ W hq, grd_pos t, e1, grd_pos i2, eg, ec_supposes W hq hi ei, ec_asks W hq hi ei, grd_pos ia, nn_clamp ha2]
          rw [e5, if_neg c1]
          simp only [bnd_e, cal_s, onr_s, jon_e, gI_hw, gL_hw, gT_hw, gR_hw, gN_hw, sI_hw, sL_hw, cV_hw, shS_hw, shC_hw, shL_hw, ← bt_def, grd_pos s, grd_pos ib, nn_clamp hb2, kb, if_neg c2, e6, if_pos c3, bI_f, if_true]
        · obtain ⟨I3, e7, s7, f7⟩ := ec_slip W2 s hS2 hb (zasks K q)
          rw [zk true (I o 6) (by unfold zslip; rw [if_neg c1, if_neg c2, if_neg (by decide), if_neg c3])]
          refine ⟨_, L3, ?_, s7, (f02.tr (fun x hx => f7 x (by omega))).tr (FrO.u2 I3 b _ (by omega) (by omega)), ?_, ?_⟩
          · simp only [cS_ask, bnd_e, cal_s, onr_s, jon_e, gI_hw, gL_hw, gT_hw, gR_hw, gN_hw, sI_hw, sL_hw, cV_hw, shS_hw, shC_hw, shL_hw, ← bt_def, grd_pos s, W.1, grd_pos W.2.1.1, grd_pos W.2.1.2.1.2.2, ec_getQ W hq, grd_pos t, e1, grd_pos i2, eg, ec_supposes W hq hi ei, ec_asks W hq hi ei, grd_pos ia, nn_clamp ha2]
            rw [e5, if_neg c1]
            simp only [nn0, bnd_e, cal_s, onr_s, jon_e, gI_hw, gL_hw, gT_hw, gR_hw, gN_hw, sI_hw, sL_hw, cV_hw, shS_hw, shC_hw, shL_hw, ← bt_def, grd_pos s, grd_pos ib, nn_clamp hb2, kb, if_neg c2, e6, if_neg c3, bI_f, if_true, if_neg i10, e7, bI_t]
          · rw [u2_ne (show o ≠ o + 3 by omega), f7 o (by omega)]; exact n5
          · rw [u2_ne (show o ≠ o + 3 by omega), f7 o (by omega)]; exact n6
      | true =>
        by_cases c3 : zodds K F (zS1 K F S a q) b q = 100
        · obtain ⟨I3, e7, s7, f7⟩ := ec_slip W2 s hS2 hb (zasks K q)
          rw [zk true (I o 6) (by unfold zslip; rw [if_neg c1, if_neg c2, if_pos rfl, if_pos c3])]
          refine ⟨_, L3, ?_, s7, (f02.tr (fun x hx => f7 x (by omega))).tr (FrO.u2 I3 b _ (by omega) (by omega)), ?_, ?_⟩
          · simp only [cS_ask, bnd_e, cal_s, onr_s, jon_e, gI_hw, gL_hw, gT_hw, gR_hw, gN_hw, sI_hw, sL_hw, cV_hw, shS_hw, shC_hw, shL_hw, ← bt_def, grd_pos s, W.1, grd_pos W.2.1.1, grd_pos W.2.1.2.1.2.2, ec_getQ W hq, grd_pos t, e1, grd_pos i2, eg, ec_supposes W hq hi ei, ec_asks W hq hi ei, grd_pos ia, nn_clamp ha2]
            rw [e5, if_neg c1]
            simp only [nn0, bnd_e, cal_s, onr_s, jon_e, gI_hw, gL_hw, gT_hw, gR_hw, gN_hw, sI_hw, sL_hw, cV_hw, shS_hw, shC_hw, shL_hw, ← bt_def, grd_pos s, grd_pos ib, nn_clamp hb2, kb, if_neg c2, e6, c3, bI_t, if_true, if_neg i10, e7, ite_self]
          · rw [u2_ne (show o ≠ o + 3 by omega), f7 o (by omega)]; exact n5
          · rw [u2_ne (show o ≠ o + 3 by omega), f7 o (by omega)]; exact n6
        · by_cases c4 : zodds K F (zS1 K F S a q) b q ≤ 0
          · rw [zk false (I o 6) (by unfold zslip; rw [if_neg c1, if_neg c2, if_pos rfl, if_neg c3, if_pos c4])]
            refine ⟨I2, L3, ?_, hS2, f02, n5, n6⟩
            simp only [cS_ask, bnd_e, cal_s, onr_s, jon_e, gI_hw, gL_hw, gT_hw, gR_hw, gN_hw, sI_hw, sL_hw, cV_hw, shS_hw, shC_hw, shL_hw, ← bt_def, grd_pos s, W.1, grd_pos W.2.1.1, grd_pos W.2.1.2.1.2.2, ec_getQ W hq, grd_pos t, e1, grd_pos i2, eg, ec_supposes W hq hi ei, ec_asks W hq hi ei, grd_pos ia, nn_clamp ha2]
            rw [e5, if_neg c1]
            simp only [nn0, bnd_e, cal_s, onr_s, jon_e, gI_hw, gL_hw, gT_hw, gR_hw, gN_hw, sI_hw, sL_hw, cV_hw, shS_hw, shC_hw, shL_hw, ← bt_def, grd_pos s, grd_pos ib, nn_clamp hb2, kb, if_neg c2, e6, if_neg c3, if_pos c4, bI_t, bI_f, if_true, if_neg i10, ite_self]
          · have W3 : CW h (u2 I2 o 6 (znum (I2 o 6))) c K A := W2.frO s (FrO.u2 I2 6 _ (by omega) (by omega))
            have hS3 : StC (u2 I2 o 6 (znum (I2 o 6))) o (zP K) F (zS1 K F S a q) := hS2.u (by decide) (by decide) (by decide) (by decide)
            have f23 : FrO o I2 (u2 I2 o 6 (znum (I2 o 6))) := FrO.u2 I2 6 _ (by omega) (by omega)
            by_cases c5 : zodds K F (zS1 K F S a q) b q ≤ zdraw (I o 6)
            · rw [zk false (znum (I o 6)) (by unfold zslip; rw [if_neg c1, if_neg c2, if_pos rfl, if_neg c3, if_neg c4, if_pos c5])]
              refine ⟨u2 I2 o 6 (znum (I2 o 6)), L3, ?_, hS3, f02.tr f23, ?_, ?_⟩
              · simp only [cS_ask, bnd_e, cal_s, onr_s, jon_e, gI_hw, gL_hw, gT_hw, gR_hw, gN_hw, sI_hw, sL_hw, cV_hw, shS_hw, shC_hw, shL_hw, ← bt_def, grd_pos s, W.1, grd_pos W.2.1.1, grd_pos W.2.1.2.1.2.2, ec_getQ W hq, grd_pos t, e1, grd_pos i2, eg, ec_supposes W hq hi ei, ec_asks W hq hi ei, grd_pos ia, nn_clamp ha2]
                rw [e5, if_neg c1]
                simp only [nn0, bnd_e, cal_s, onr_s, jon_e, gI_hw, gL_hw, gT_hw, gR_hw, gN_hw, sI_hw, sL_hw, cV_hw, shS_hw, shC_hw, shL_hw, ← bt_def, grd_pos s, grd_pos ib, nn_clamp hb2, kb, if_neg c2, e6, if_neg c3, if_neg c4, ec_draw s, n6, if_pos c5, bI_t, bI_f, if_true, if_neg i10, ite_self]
              · rw [u2_nk _ _ (by decide)]; exact n5
              · rw [u2_same, n6]
            · obtain ⟨I3, e7, s7, f7⟩ := ec_slip W3 s hS3 hb (zasks K q)
              rw [zk true (znum (I o 6)) (by unfold zslip; rw [if_neg c1, if_neg c2, if_pos rfl, if_neg c3, if_neg c4, if_neg c5])]
              refine ⟨_, L3, ?_, s7, ((f02.tr f23).tr (fun x hx => f7 x (by omega))).tr (FrO.u2 I3 b _ (by omega) (by omega)), ?_, ?_⟩
              · simp only [cS_ask, bnd_e, cal_s, onr_s, jon_e, gI_hw, gL_hw, gT_hw, gR_hw, gN_hw, sI_hw, sL_hw, cV_hw, shS_hw, shC_hw, shL_hw, ← bt_def, grd_pos s, W.1, grd_pos W.2.1.1, grd_pos W.2.1.2.1.2.2, ec_getQ W hq, grd_pos t, e1, grd_pos i2, eg, ec_supposes W hq hi ei, ec_asks W hq hi ei, grd_pos ia, nn_clamp ha2]
                rw [e5, if_neg c1]
                rw [n6] at e7
                simp only [nn0, bnd_e, cal_s, onr_s, jon_e, gI_hw, gL_hw, gT_hw, gR_hw, gN_hw, sI_hw, sL_hw, cV_hw, shS_hw, shC_hw, shL_hw, ← bt_def, grd_pos s, grd_pos ib, nn_clamp hb2, kb, if_neg c2, e6, if_neg c3, if_neg c4, ec_draw s, n6, if_neg c5, bI_t, bI_f, if_true, if_neg i10, e7, ite_self]
              · rw [u2_ne (show o ≠ o + 3 by omega), f7 o (by omega), u2_nk _ _ (by decide)]; exact n5
              · rw [u2_ne (show o ≠ o + 3 by omega), f7 o (by omega), u2_same, n6]
end C6
