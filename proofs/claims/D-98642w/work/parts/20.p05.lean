/-! PURE LEVEL 5: hearing, odds, asking on the component's side -/
theorem nn_ple {i n : Nat} (h : n ≤ i) (hi : i < 2147483648) : nn n ≤ nn i := (nn_le (by omega) hi).mpr h
theorem StC.cg {I : Nat → Nat → Int32} {o P : Nat} {F : FT} {S S' : ST} (hS : StC I o P F S) (e : ∀ p, p < P → sk S' p = sk S p ∧ sr S' p = sr S p ∧ sl S' p = sl S p ∧ sa S' p = sa S p) (ed : sd S' = sd S) : StC I o P F S' := by
  obtain ⟨s1, s2, s3⟩ := hS
  refine ⟨fun p hp => ?_, by rw [ed]; exact s2, s3⟩
  obtain ⟨e1, e2, e3, e4⟩ := e p hp
  rw [e1, e2, e3, e4]; exact s1 p hp
section C5
variable {h : HP} {c o P : Nat} {K : KT} {A : Nat → Nat → Nat} {F : FT} {S : ST}
theorem ec_isHeard {I : Nat → Nat → Int32} {L : Nat → Nat → Int64} {p q i : Nat} (hi : i < 4) (e : zt K 8 q = nn i) : cK_isHeard (16 + i) (zwit K F p) (hw h I L) = some (bI (zheard K F p q), hw h I L) := by
  have hk := (cT_kind (h := h) hi).2
  have hk' : (gT (cV (hw h I L)) (16 + i)).1 = 16 + i := hk
  unfold cK_isHeard zheard
  rw [hk', e]
  have : i = 0 ∨ i = 1 ∨ i = 2 ∨ i = 3 := by omega
  rcases this with rfl | rfl | rfl | rfl
  · rfl
  · rfl
  · rw [if_neg (by decide), if_neg (by decide), if_pos (by decide), kX7_isHeard, grd_pos hk', kX4_isHeard, cal_some, if_neg (by decide)]
    by_cases q : zwit K F p < 5
    · rw [if_pos q, decide_eq_false (show ¬ nn 2 ≠ 2 from fun z => z rfl), decide_eq_false (show ¬ 5 ≤ zwit K F p from fun z => absurd q (Int32.not_lt.mpr z))]; rfl
    · rw [if_neg q, decide_eq_true (Int32.not_lt.mp q), Bool.or_true]; rfl
  · rfl
theorem ec_hears {I : Nat → Nat → Int32} {L : Nat → Nat → Int64} (W : CW h I c K A) (s : shS (cV h) o) (hS : StC I o (zP K) F S) {p q : Nat} (hp : p < zP K) (hq : q < zQ K) : ∃ L', cS_hears o (nn p) (A 3 q) (hw h I L) = some (bI (zhear K F S p q), hw h I L') := by
  obtain ⟨t, e0, e1, e2, e3, e4⟩ := W.fQ hq
  obtain ⟨i, hi, ei⟩ := W.kd hq
  have en := ec_name (L := L) (q := q) W s hS hp
  have ew : cA_work 1 (hw h I (nmL L 14 (zN K F S p q))) = _ := ec_work W (j := 1) (by omega) (nmL_at L 14 (zN K F S p q))
  refine ⟨nmL L 14 (zN K F S p q), ?_⟩
  have i2 : inb (zt K 8 q) 4 := by rw [ei]; exact nn_inb (by omega) hi
  have eg : gR (cV h) 15 (zt K 8 q).toNatClampNeg = some (16 + i) := by rw [ei, nn_clamp (by omega)]; exact (cT_kind hi).1
  simp only [cS_hears, bnd_e, cal_s, onr_s, jon_e, gI_hw, gL_hw, gT_hw, gR_hw, gN_hw, sI_hw, sL_hw, cV_hw, shS_hw, shC_hw, shL_hw, ← bt_def, grd_pos t, grd_pos s, e1, en, ew, grd_pos i2, eg, ec_wit W s hS.2.2.1 hp, ec_isHeard hi ei, grd_pos (isB_bI _)]
  unfold zhear
  cases ez : zlaw K 1 (zN K F S p q) with
  | none => rw [show (none : Option Int64).getD mnL = mnL from rfl, if_pos (lg0.mpr rfl)]
  | some v =>
    have hv := bd_mn (zlaw_bd W (by omega) ez)
    rw [show (some v : Option Int64).getD mnL = v from rfl, if_neg (fun z => hv (lg0.mp z))]
    by_cases z : v = 0
    · rw [if_pos (lg0.mpr z)]
      show _ = some (bI (decide (v ≠ 0)), _)
      rw [decide_eq_false (fun y => y z)]; rfl
    · rw [if_neg (fun y => z (lg0.mp y))]
      show _ = some (bI (decide (v ≠ 0)), _)
      rw [decide_eq_true z]; rfl
theorem ec_odds {I : Nat → Nat → Int32} {L : Nat → Nat → Int64} (W : CW h I c K A) (s : shS (cV h) o) (hS : StC I o (zP K) F S) {p q : Nat} (hp : p < zP K) (hq : q < zQ K) : ∃ L', cS_odds o (nn p) (A 3 q) (hw h I L) = some (zodds K F S p q, hw h I L') := by
  obtain ⟨t, e0, e1, e2, e3, e4⟩ := W.fQ hq
  obtain ⟨tp, p0, p1, p2, p3, p4⟩ := W.fP hp
  have en := ec_name (L := L) (q := q) W s hS hp
  have ew : cA_work 0 (hw h I (nmL L 14 (zN K F S p q))) = _ := ec_work W (j := 0) (by omega) (nmL_at L 14 (zN K F S p q))
  unfold zodds
  by_cases z : F.1 = 0
  · refine ⟨L, ?_⟩
    simp only [cS_odds, bnd_e, cal_s, onr_s, jon_e, gI_hw, gL_hw, gT_hw, gR_hw, gN_hw, sI_hw, sL_hw, cV_hw, shS_hw, shC_hw, shL_hw, ← bt_def, grd_pos s, hS.2.2.1, if_pos z]
  · refine ⟨nmL L 14 (zN K F S p q), ?_⟩
    simp only [cS_odds, bnd_e, cal_s, onr_s, jon_e, gI_hw, gL_hw, gT_hw, gR_hw, gN_hw, sI_hw, sL_hw, cV_hw, shS_hw, shC_hw, shL_hw, ← bt_def, grd_pos t, grd_pos s, e1, en, ew, hS.2.2.1, if_neg z, W.1, grd_pos W.2.1.1, grd_pos W.2.1.2.1.2.1, ec_getP W hp, grd_pos tp, p1]
    cases ez : zlaw K 0 (zN K F S p q) with
    | none => rw [show (none : Option Int64).getD mnL = mnL from rfl, if_pos (lg0.mpr rfl)]
    | some v =>
      have hv := bd_mn (zlaw_bd W (by omega) ez)
      rw [show (some v : Option Int64).getD mnL = v from rfl, if_neg (fun z => hv (lg0.mp z))]; rfl
theorem ec_draw {I : Nat → Nat → Int32} {L : Nat → Nat → Int64} (s : shS (cV h) o) : cS_draw o 100 (hw h I L) = some (zdraw (I o 6), hw h (u2 I o 6 (znum (I o 6))) L) := by
  simp only [cS_draw, bnd_e, cal_s, onr_s, jon_e, gI_hw, gL_hw, gT_hw, gR_hw, gN_hw, sI_hw, sL_hw, cV_hw, shS_hw, shC_hw, shL_hw, ← bt_def, grd_pos s, u2_same, grd_pos (show ¬ (100 : Int32) = 0 by decide)]
  rfl
theorem ec_asks {I : Nat → Nat → Int32} {L : Nat → Nat → Int64} (W : CW h I c K A) {q i : Nat} (hq : q < zQ K) (hi : i < 4) (e : zt K 8 q = nn i) : cK_asks (16 + i) (A 3 q) (hw h I L) = some (zasks K q, hw h I L) := by
  obtain ⟨t, e0, e1, e2, e3, e4⟩ := W.fQ hq
  have hk' : (gT (cV (hw h I L)) (16 + i)).1 = 16 + i := (cT_kind (h := h) hi).2
  have t' : (gT (cV (hw h I L)) (A 3 q)).1 = 9 := t
  unfold cK_asks zasks
  rw [hk', e]
  have : i = 0 ∨ i = 1 ∨ i = 2 ∨ i = 3 := by omega
  rcases this with rfl | rfl | rfl | rfl
  · rw [if_pos rfl, if_neg (by decide), kX4_asks, grd_pos t', gI_hw, e4]
  · rw [if_neg (by decide), if_pos rfl, if_neg (by decide), kX4_asks, grd_pos t', gI_hw, e4]
  · rw [if_neg (by decide), if_neg (by decide), if_pos rfl, if_neg (by decide), kX4_asks, grd_pos t', gI_hw, e4]
  · rfl
/-- the state when the first i persons have heard -/
def zSi (K : KT) (F : FT) (S : ST) (a q : Nat) (i : Nat) : ST := ((fun p => if p < i then zkn1 K F S a q p else sk S p), sl S, sr S, sa S, sd S)
theorem zSi_eq {a q i : Nat} (e : zkn1 K F S a q i = sk S i) : zSi K F S a q (i + 1) = zSi K F S a q i := by
  refine Prod.ext (funext fun p => ?_) rfl
  show (if p < i + 1 then zkn1 K F S a q p else sk S p) = if p < i then zkn1 K F S a q p else sk S p
  by_cases q1 : p < i
  · rw [if_pos q1, if_pos (by omega)]
  · rw [if_neg q1]
    by_cases q2 : p = i
    · subst q2; rw [if_pos (by omega), e]
    · rw [if_neg (by omega)]
theorem zN_cg {S' : ST} {p q : Nat} (e1 : sk S' p = sk S p) (e2 : sl S' p = sl S p) (e3 : sr S' p = sr S p) (e4 : sd S' = sd S) : zN K F S' p q = zN K F S p q := by
  unfold zN
  rw [e1, e2, e3, e4]
theorem zhear_cg {S' : ST} {p q : Nat} (e1 : sk S' p = sk S p) (e2 : sl S' p = sl S p) (e3 : sr S' p = sr S p) (e4 : sd S' = sd S) : zhear K F S' p q = zhear K F S p q := by
  unfold zhear
  rw [zN_cg e1 e2 e3 e4]
theorem zSi_hear {a q i : Nat} : zhear K F (zSi K F S a q i) i q = zhear K F S i q := zhear_cg (if_neg (by omega)) rfl rfl rfl
theorem i10 : ¬ (1 : Int32) = 0 := by decide
theorem i01 : ¬ (0 : Int32) = 1 := by decide
theorem ec_ask1 (s : shS (cV h) o) {a q : Nat} (ha : a < zP K) (hq : q < zQ K) (b2 n4 x8 : Int32) : ∀ (j i : Nat) (I : Nat → Nat → Int32) (L : Nat → Nat → Int64) (fuel : Nat), CW h I c K A → i + j = zP K → StC I o (zP K) F (zSi K F S a q i) → j < fuel → ∃ I' L', (∀ k, cS_ask_75 o (nn a) b2 n4 (A 3 q) (zsup K q) x8 k fuel (nn i) (hw h I L) = k (hw h I' L')) ∧ StC I' o (zP K) F (zSi K F S a q (zP K)) ∧ ∀ x, x ≠ o + 1 → I' x = I x := by
  intro j
  induction j with
  | zero =>
    intro i I L fuel W hi hS hf
    obtain ⟨n, rfl⟩ : ∃ n, fuel = n + 1 := ⟨fuel - 1, by omega⟩
    have hP := W.p5
    refine ⟨I, L, fun k => ?_, ?_, fun _ _ => rfl⟩
    · simp only [cS_ask_75, bnd_e, cal_s, onr_s, jon_e, gI_hw, gL_hw, gT_hw, gR_hw, gN_hw, sI_hw, sL_hw, cV_hw, shS_hw, shC_hw, shL_hw, ← bt_def, grd_pos s, ec_persons W, if_pos (nn_ple (show zP K ≤ i by omega) (by omega))]
    · rw [show i = zP K by omega] at hS; exact hS
  | succ j ih =>
    intro i I L fuel W hi hS hf
    obtain ⟨n, rfl⟩ : ∃ n, fuel = n + 1 := ⟨fuel - 1, by omega⟩
    have hP := W.p5
    have hip : i < zP K := by omega
    have hi2 : i < 2147483648 := by omega
    have ha2 : a < 2147483648 := by omega
    have i5 : inb (nn i) 5 := nn_inb hi2 (by omega)
    have nle := nn_nle hip (show zP K < 2147483648 by omega)
    by_cases x1 : i = a
    · obtain ⟨I2, L2, e2, s2, f2⟩ := ih (i + 1) I L n W (by omega) (by rw [zSi_eq (if_neg (fun z => z.1 x1))]; exact hS) (by omega)
      refine ⟨I2, L2, fun k => ?_, s2, f2⟩
      simp only [cS_ask_75, bnd_e, cal_s, onr_s, jon_e, gI_hw, gL_hw, gT_hw, gR_hw, gN_hw, sI_hw, sL_hw, cV_hw, shS_hw, shC_hw, shL_hw, ← bt_def, grd_pos s, ec_persons W, if_neg nle, nn_succ, nn_eq hi2 ha2, if_pos x1, e2]
    · cases x2 : ztog F S a i with
      | false =>
        have et : ∀ L, cS_areTogether o (nn a) (nn i) (hw h I L) = some (0, hw h I L) := fun L => by
          rw [ec_tog s hP hS ha hip, show ztog F (zSi K F S a q i) a i = false from x2]; rfl
        obtain ⟨I2, L2, e2, s2, f2⟩ := ih (i + 1) I L n W (by omega) (by rw [zSi_eq (if_neg (fun z => by rw [x2] at z; exact absurd z.2.1 (by decide)))]; exact hS) (by omega)
        refine ⟨I2, L2, fun k => ?_, s2, f2⟩
        simp only [cS_ask_75, bnd_e, cal_s, onr_s, jon_e, gI_hw, gL_hw, gT_hw, gR_hw, gN_hw, sI_hw, sL_hw, cV_hw, shS_hw, shC_hw, shL_hw, ← bt_def, grd_pos s, ec_persons W, if_neg nle, nn_succ, nn_eq hi2 ha2, if_neg x1, et, if_true, e2]
      | true =>
        have et : ∀ L, cS_areTogether o (nn a) (nn i) (hw h I L) = some (1, hw h I L) := fun L => by
          rw [ec_tog s hP hS ha hip, show ztog F (zSi K F S a q i) a i = true from x2]; rfl
        obtain ⟨L1, e1⟩ := ec_hears (L := L) W s hS hip hq
        rw [zSi_hear] at e1
        cases x3 : zhear K F S i q with
        | false =>
          rw [x3, bI_f] at e1
          obtain ⟨I2, L2, e2, s2, f2⟩ := ih (i + 1) I L1 n W (by omega) (by rw [zSi_eq (if_neg (fun z => by rw [x3] at z; exact absurd z.2.2 (by decide)))]; exact hS) (by omega)
          refine ⟨I2, L2, fun k => ?_, s2, f2⟩
          simp only [cS_ask_75, bnd_e, cal_s, onr_s, jon_e, gI_hw, gL_hw, gT_hw, gR_hw, gN_hw, sI_hw, sL_hw, cV_hw, shS_hw, shC_hw, shL_hw, ← bt_def, grd_pos s, ec_persons W, if_neg nle, nn_succ, nn_eq hi2 ha2, if_neg x1, et, if_neg i10, e1, if_true, e2]
        | true =>
          rw [x3, bI_t] at e1
          have fO : FrO o I (u2 I (o + 1) i (I (o + 1) i ||| zsup K q)) := FrO.u2 I i _ (by omega) (by omega)
          obtain ⟨I2, L2, e2, s2, f2⟩ := ih (i + 1) (u2 I (o + 1) i (I (o + 1) i ||| zsup K q)) L1 n (W.frO s fO) (by omega) (by
            obtain ⟨s1, s2⟩ := hS
            refine ⟨fun p hp => ?_, by rw [u2_ne (show o ≠ o + 1 by omega)]; exact s2⟩
            rw [u2_ne (show o + 2 ≠ o + 1 by omega), u2_ne (show o + 3 ≠ o + 1 by omega), u2_ne (show o + 4 ≠ o + 1 by omega), u2_eq]
            refine ⟨?_, (s1 p hp).2⟩
            show _ = if p < i + 1 then zkn1 K F S a q p else sk S p
            have k0 : ∀ r, r < zP K → I (o + 1) r = if r < i then zkn1 K F S a q r else sk S r := fun r hr => (s1 r hr).1
            by_cases y : p = i
            · rw [if_pos y, if_pos (by omega), k0 i hip, if_neg (by omega), y]
              exact (if_pos ⟨x1, x2, x3⟩).symm
            · rw [if_neg y, k0 p hp]
              by_cases y2 : p < i
              · rw [if_pos y2, if_pos (by omega)]
              · rw [if_neg y2, if_neg (by omega)]) (by omega)
          refine ⟨I2, L2, fun k => ?_, s2, fun x hx => (f2 x hx).trans (u2_ne hx)⟩
          simp only [cS_ask_75, bnd_e, cal_s, onr_s, jon_e, gI_hw, gL_hw, gT_hw, gR_hw, gN_hw, sI_hw, sL_hw, cV_hw, shS_hw, shC_hw, shL_hw, ← bt_def, grd_pos s, ec_persons W, if_neg nle, nn_succ, nn_eq hi2 ha2, if_neg x1, et, if_neg i10, e1, grd_pos i5, nn_clamp hi2, e2]
/-- the state when the first i persons have learnt what was let slip -/
def zS2i (F : FT) (S : ST) (b : Nat) (x : Int32) (i : Nat) : ST := ((fun p => if p < i ∧ ztog F S b p = true then sk S p ||| ((1 : Int32) <<< (x &&& 31)) else sk S p), sl S, sr S, sa S, sd S)
theorem ec_ask2 (s : shS (cV h) o) {b : Nat} (hb : b < zP K) (x : Int32) : ∀ (j i : Nat) (I : Nat → Nat → Int32) (fuel : Nat), CW h I c K A → i + j = zP K → StC I o (zP K) F (zS2i F S b x i) → j < fuel → ∃ I', (∀ k L, cS_ask_222 o (nn b) x k fuel (nn i) (hw h I L) = k (hw h I' L)) ∧ StC I' o (zP K) F (zS2i F S b x (zP K)) ∧ ∀ y, y ≠ o + 1 → I' y = I y := by
  intro j
  induction j with
  | zero =>
    intro i I fuel W hi hS hf
    obtain ⟨n, rfl⟩ : ∃ n, fuel = n + 1 := ⟨fuel - 1, by omega⟩
    have hP := W.p5
    refine ⟨I, fun k L => ?_, ?_, fun _ _ => rfl⟩
    · simp only [cS_ask_222, bnd_e, cal_s, onr_s, jon_e, gI_hw, gL_hw, gT_hw, gR_hw, gN_hw, sI_hw, sL_hw, cV_hw, shS_hw, shC_hw, shL_hw, ← bt_def, grd_pos s, ec_persons W, if_pos (nn_ple (show zP K ≤ i by omega) (by omega))]
    · rw [show i = zP K by omega] at hS; exact hS
  | succ j ih =>
    intro i I fuel W hi hS hf
    obtain ⟨n, rfl⟩ : ∃ n, fuel = n + 1 := ⟨fuel - 1, by omega⟩
    have hP := W.p5
    have hip : i < zP K := by omega
    have hi2 : i < 2147483648 := by omega
    have i5 : inb (nn i) 5 := nn_inb hi2 (by omega)
    have nle := nn_nle hip (show zP K < 2147483648 by omega)
    cases x2 : ztog F S b i with
    | false =>
      have et : ∀ L, cS_areTogether o (nn b) (nn i) (hw h I L) = some (0, hw h I L) := fun L => by
        rw [ec_tog s hP hS hb hip, show ztog F (zS2i F S b x i) b i = false from x2]; rfl
      obtain ⟨I2, e2, s2, f2⟩ := ih (i + 1) I n W (by omega) (by
        refine hS.cg (fun p hp => ⟨?_, rfl, rfl, rfl⟩) rfl
        show (if p < i + 1 ∧ ztog F S b p = true then _ else sk S p) = if p < i ∧ ztog F S b p = true then _ else sk S p
        by_cases y : p = i
        · rw [if_neg (fun z => by rw [y, x2] at z; exact absurd z.2 (by decide)), if_neg (fun z => by omega)]
        · by_cases y2 : p < i ∧ ztog F S b p = true
          · rw [if_pos y2, if_pos ⟨by omega, y2.2⟩]
          · rw [if_neg y2, if_neg (fun z => y2 ⟨by omega, z.2⟩)]) (by omega)
      refine ⟨I2, fun k L => ?_, s2, f2⟩
      simp only [cS_ask_222, bnd_e, cal_s, onr_s, jon_e, gI_hw, gL_hw, gT_hw, gR_hw, gN_hw, sI_hw, sL_hw, cV_hw, shS_hw, shC_hw, shL_hw, ← bt_def, grd_pos s, ec_persons W, if_neg nle, nn_succ, et, if_true, e2]
    | true =>
      have et : ∀ L, cS_areTogether o (nn b) (nn i) (hw h I L) = some (1, hw h I L) := fun L => by
        rw [ec_tog s hP hS hb hip, show ztog F (zS2i F S b x i) b i = true from x2]; rfl
      have fO : FrO o I (u2 I (o + 1) i (I (o + 1) i ||| ((1 : Int32) <<< (x &&& 31)))) := FrO.u2 I i _ (by omega) (by omega)
      obtain ⟨I2, e2, s2, f2⟩ := ih (i + 1) (u2 I (o + 1) i (I (o + 1) i ||| ((1 : Int32) <<< (x &&& 31)))) n (W.frO s fO) (by omega) (by
        obtain ⟨s1, s2⟩ := hS
        refine ⟨fun p hp => ?_, by rw [u2_ne (show o ≠ o + 1 by omega)]; exact s2⟩
        rw [u2_ne (show o + 2 ≠ o + 1 by omega), u2_ne (show o + 3 ≠ o + 1 by omega), u2_ne (show o + 4 ≠ o + 1 by omega), u2_eq]
        refine ⟨?_, (s1 p hp).2⟩
        show _ = if p < i + 1 ∧ ztog F S b p = true then sk S p ||| ((1 : Int32) <<< (x &&& 31)) else sk S p
        have k0 : ∀ r, r < zP K → I (o + 1) r = if r < i ∧ ztog F S b r = true then sk S r ||| ((1 : Int32) <<< (x &&& 31)) else sk S r := fun r hr => (s1 r hr).1
        by_cases y : p = i
        · rw [if_pos y, if_pos ⟨by omega, by rw [y]; exact x2⟩, k0 i hip, if_neg (fun z => by omega), y]
        · rw [if_neg y, k0 p hp]
          by_cases y2 : p < i ∧ ztog F S b p = true
          · rw [if_pos y2, if_pos ⟨by omega, y2.2⟩]
          · rw [if_neg y2, if_neg (fun z => y2 ⟨by omega, z.2⟩)]) (by omega)
      refine ⟨I2, fun k L => ?_, s2, fun y hy => (f2 y hy).trans (u2_ne hy)⟩
      simp only [cS_ask_222, bnd_e, cal_s, onr_s, jon_e, gI_hw, gL_hw, gT_hw, gR_hw, gN_hw, sI_hw, sL_hw, cV_hw, shS_hw, shC_hw, shL_hw, ← bt_def, grd_pos s, ec_persons W, if_neg nle, nn_succ, et, if_neg i10, grd_pos i5, nn_clamp hi2, e2]
end C5
