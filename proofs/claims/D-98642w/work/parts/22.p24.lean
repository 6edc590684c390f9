/-! PURE LEVEL 24: slipped, behind, chance, tried -/
theorem ztalk_f {K : KT} {F : FT} {S : ST} {k : Nat} (n : Int32) : (ztalk K F k false S n).1 = (ztalk K F k false S 0).1 := by
  unfold ztalk
  by_cases z : zcan K F S (zw K k).1 (zw K k).2.1 (zw K k).2.2 false = true
  · rw [if_pos z, if_pos z]; exact (zask_f n).1
  · rw [if_neg z, if_neg z]
def ztk (K : KT) (F : FT) (S : ST) : Nat → ST
  | 0 => S
  | n + 1 => (ztalk K F n false (ztk K F S n) 0).1
theorem ztk_ws {K : KT} {F : FT} {S : ST} (w : WK K) (ws : WS (zP K) S) : ∀ n, n ≤ zT K → WS (zP K) (ztk K F S n)
  | 0, _ => ws
  | n + 1, hn => ztalk_ws w (ztk_ws w ws n (by omega)) (by omega) false 0
theorem zbeg_ws {K : KT} (w : WK K) : WS (zP K) (zbeg K) := fun p hp => w.2.1 p hp
section B6
variable {h g : HP} {I0 J0 : Nat → Nat → Int32} {M0 : Nat → Nat → Int64} {c : Nat} {K : KT} {A : Nat → Nat → Nat} {w : Int32} {S : ST}
theorem ec_talks {F : FT} {S0 : ST} {n : Nat} (hn : n ≤ zT K) : ∀ (j i : Nat) (I : Nat → Nat → Int32) (L : Nat → Nat → Int64) (fuel : Nat), CW h I c K A → StC I 25 (zP K) F (ztk K F S0 i) → i + j = n → j < fuel → ∃ I' L', (∀ k, cA_layTalk_9 (nn n) k fuel (nn i) (hw h I L) = k (hw h I' L')) ∧ StC I' 25 (zP K) F (ztk K F S0 n) ∧ frA I I' := by
  intro j
  induction j with
  | zero =>
    intro i I L fuel W s hi hf
    obtain ⟨m, rfl⟩ : ∃ m, fuel = m + 1 := ⟨fuel - 1, by omega⟩
    have hT := W.2.2.1.2.2.2.1
    refine ⟨I, L, fun k => ?_, ?_, frA.rfl I⟩
    · rw [cA_layTalk_9, if_pos (nn_ple (show n ≤ i by omega) (by omega))]
    · rw [show i = n by omega] at s; exact s
  | succ j ih =>
    intro i I L fuel W s hi hf
    obtain ⟨m, rfl⟩ : ∃ m, fuel = m + 1 := ⟨fuel - 1, by omega⟩
    have hT := W.2.2.1.2.2.2.1
    obtain ⟨I1, L1, e1, s1, f1, -⟩ := ec_talk (L := L) W (sh25 h) s (show i < zT K by omega) false
    have e1 : cS_talk 25 (nn i) 0 (hw h I L) = _ := e1
    rw [ztalk_f] at s1
    have f1 := frA.o (o := 25) (by omega) f1
    obtain ⟨I2, L2, e2, s2, f2⟩ := ih (i + 1) I1 L1 m (W.frA f1) s1 (by omega) (by omega)
    refine ⟨I2, L2, fun k => ?_, s2, f1.tr f2⟩
    rw [cA_layTalk_9]
    simp only [bnd_e, cal_s, onr_s, jon_e, gI_hw, gL_hw, gT_hw, gR_hw, gN_hw, sI_hw, sL_hw, cV_hw, shS_hw, shC_hw, shL_hw, ← bt_def, if_neg (nn_nle (show i < n by omega) (show n < 2147483648 by omega)), e1, nn_succ, e2]
theorem ec_layTalk {I : Nat → Nat → Int32} {L : Nat → Nat → Int64} (W : CW h I c K A) {n : Nat} (hn : n ≤ zT K) : ∃ I' L', cA_layTalk (nn n) (hw h I L) = some ((), hw h I' L') ∧ StC I' 25 (zP K) (-1, I 25 8, 0) (ztk K (-1, I 25 8, 0) (zbeg K) n) ∧ frA I I' := by
  have hT := W.2.2.1.2.2.2.1
  obtain ⟨I1, e1, s1, f1, -⟩ := ec_begin (L := L) W (sh25 h)
  have f1 := frA.o (o := 25) (by omega) f1
  obtain ⟨I2, L2, e2, s2, f2⟩ := ec_talks (S0 := zbeg K) hn n 0 I1 L FU (W.frA f1) s1 (by omega) (by show _ < 1000; omega)
  rw [nn0] at e2
  refine ⟨I2, L2, ?_, s2, f1.tr f2⟩
  simp only [cA_layTalk, bnd_e, cal_s, onr_s, jon_e, gI_hw, gL_hw, gT_hw, gR_hw, gN_hw, sI_hw, sL_hw, cV_hw, shS_hw, shC_hw, shL_hw, ← bt_def, e1, e2]
theorem em_slips {F : FT} {S0 : ST} (ws : WS (zP K) S0) (p : Int32) : ∀ (j i : Nat) (J : Nat → Nat → Int32) (M : Nat → Nat → Int64) (fuel : Nat), MW J K → FlM J F → J 0 63 = 1 → J 0 62 = 0 → StM J 1 (zP K) (ztk K F S0 i) → i + j = zT K → j < fuel → ∃ J' M', (∀ k, m_slipped_21 p k fuel (nn i) (hw g J M) = k (hw g J' M')) ∧ StM J' 1 (zP K) (ztk K F S0 (zT K)) ∧ frM 1 J J' ∧ frL2 false M M' := by
  intro j
  induction j with
  | zero =>
    intro i J M fuel V fl h3 h2 t hi hf
    obtain ⟨m, rfl⟩ : ∃ m, fuel = m + 1 := ⟨fuel - 1, by omega⟩
    have hT := V.2.1.2.2.2.1
    refine ⟨J, M, fun k => ?_, ?_, frM.rfl 1 J, frL2.rfl _ _⟩
    · rw [m_slipped_21]
      simp only [bnd_e, cal_s, onr_s, jon_e, gI_hw, gL_hw, gT_hw, gR_hw, gN_hw, sI_hw, sL_hw, cV_hw, shS_hw, shC_hw, shL_hw, ← bt_def, V.1.1.2.2.2.1, if_pos (nn_ple (show zT K ≤ i by omega) (show i < 2147483648 by omega))]
    · rw [show i = zT K by omega] at t; exact t
  | succ j ih =>
    intro i J M fuel V fl h3 h2 t hi hf
    obtain ⟨m, rfl⟩ : ∃ m, fuel = m + 1 := ⟨fuel - 1, by omega⟩
    have hT := V.2.1.2.2.2.1
    obtain ⟨J1, M1, e1, s1, f1, l1, -⟩ := em_talk (h := g) (L := M) V t (ztk_ws V.2 ws i (by omega)) fl h3 (dr := false) h2 (num := 0) (fun z => by cases z) (show i < zT K by omega)
    obtain ⟨J2, M2, e2, s2, f2, l2⟩ := ih (i + 1) J1 M1 m (V.fr f1) (fl.fr f1) (by rw [f1.2.1 63 (by decide)]; exact h3) (by rw [f1.2.1 62 (by decide)]; exact h2) s1 (by omega) (by omega)
    refine ⟨J2, M2, fun k => ?_, s2, f1.tr f2, l1.tr l2⟩
    rw [m_slipped_21]
    simp only [bnd_e, cal_s, onr_s, jon_e, gI_hw, gL_hw, gT_hw, gR_hw, gN_hw, sI_hw, sL_hw, cV_hw, shS_hw, shC_hw, shL_hw, ← bt_def, V.1.1.2.2.2.1, if_neg (nn_nle (show i < zT K by omega) (show zT K < 2147483648 by omega)), e1, nn_succ, e2]
theorem em_behinds {F : FT} {S0 : ST} (ws : WS (zP K) S0) (p : Int32) {n : Nat} (hn : n ≤ zT K) : ∀ (j i : Nat) (J : Nat → Nat → Int32) (M : Nat → Nat → Int64) (fuel : Nat), MW J K → FlM J F → J 0 63 = 1 → J 0 62 = 0 → StM J 1 (zP K) (ztk K F S0 i) → i + j = n → j < fuel → ∃ J' M', (∀ k, m_behind_33 (nn n) p k fuel (nn i) (hw g J M) = k (hw g J' M')) ∧ StM J' 1 (zP K) (ztk K F S0 n) ∧ frM 1 J J' ∧ frL2 false M M' := by
  intro j
  induction j with
  | zero =>
    intro i J M fuel V fl h3 h2 t hi hf
    obtain ⟨m, rfl⟩ : ∃ m, fuel = m + 1 := ⟨fuel - 1, by omega⟩
    have hT := V.2.1.2.2.2.1
    refine ⟨J, M, fun k => ?_, ?_, frM.rfl 1 J, frL2.rfl _ _⟩
    · rw [m_behind_33, if_pos (nn_ple (show n ≤ i by omega) (show i < 2147483648 by omega))]
    · rw [show i = n by omega] at t; exact t
  | succ j ih =>
    intro i J M fuel V fl h3 h2 t hi hf
    obtain ⟨m, rfl⟩ : ∃ m, fuel = m + 1 := ⟨fuel - 1, by omega⟩
    have hT := V.2.1.2.2.2.1
    obtain ⟨J1, M1, e1, s1, f1, l1, -⟩ := em_talk (h := g) (L := M) V t (ztk_ws V.2 ws i (by omega)) fl h3 (dr := false) h2 (num := 0) (fun z => by cases z) (show i < zT K by omega)
    obtain ⟨J2, M2, e2, s2, f2, l2⟩ := ih (i + 1) J1 M1 m (V.fr f1) (fl.fr f1) (by rw [f1.2.1 63 (by decide)]; exact h3) (by rw [f1.2.1 62 (by decide)]; exact h2) s1 (by omega) (by omega)
    refine ⟨J2, M2, fun k => ?_, s2, f1.tr f2, l1.tr l2⟩
    rw [m_behind_33]
    simp only [bnd_e, cal_s, onr_s, jon_e, gI_hw, gL_hw, gT_hw, gR_hw, gN_hw, sI_hw, sL_hw, cV_hw, shS_hw, shC_hw, shL_hw, ← bt_def, if_neg (nn_nle (show i < n by omega) (show n < 2147483648 by omega)), e1, nn_succ, e2]
theorem b_slipped {I J : Nat → Nat → Int32} {L M : Nat → Nat → Int64} (a : At h I0 J0 M0 c K A w S I J M) (p : Int32) : B2 h g I0 J0 M0 (cA_slipped p (hw h I L)) (m_slipped p (hw g J M)) := by
  have a := a.thr
  have W := a.1.1.1
  have V := a.1.2.1.1
  have hP := W.p5
  have hT := W.2.2.1.2.2.2.1
  have e7 : I c 7 = nn (zT K) := W.2.1.2.2.2.2.1.1
  simp only [cA_slipped, m_slipped, bnd_e, cal_s, onr_s, jon_e, gI_hw, gL_hw, gT_hw, gR_hw, gN_hw, sI_hw, sL_hw, cV_hw, shS_hw, shC_hw, shL_hw, ← bt_def, ec_isPerson W, em_isPerson V, bI_eq0, W.1, grd_pos W.2.1.1, e7]
  cases z : zin p (zP K) with
  | false => simp only [eq_self, Bool.true_eq_false, if_true, if_false]; exact a.end _
  | true =>
    simp only [eq_self, Bool.true_eq_false, if_true, if_false]
    obtain ⟨i, hi, rfl⟩ := zin_t (by omega) z
    obtain ⟨I1, L1, e1, s1, f1⟩ := ec_layTalk (L := L) W (Nat.le_refl (zT K))
    obtain ⟨J1, e2, t2, fl, h3, h2, f2⟩ := em_layText (h := g) (L := M) V
    obtain ⟨J3, M3, e3, t3, f3, l3⟩ := em_slips (g := g) (F := (-1, I 25 8, 0)) (zbeg_ws W.2.2) (nn i) (zT K) 0 J1 M FU (V.frB f2) (fl _) h3 h2 t2 (by omega) (by show _ < 1000; omega)
    rw [nn0] at e3
    have k1 : I1 28 i = _ := (s1.1 i hi).2.2.1
    have k2 : J3 30 (5 + i) = _ := (t3.1 i hi).2.2.1
    simp only [e1, e2, e3, bnd_e, cal_s, onr_s, jon_e, gI_hw, gL_hw, gT_hw, gR_hw, gN_hw, sI_hw, sL_hw, cV_hw, shS_hw, shC_hw, shL_hw, ← bt_def, n5p, grd_pos (show inb (nn i) 5 from nn_inb (by omega) (by omega)), grd_pos (show inb (nn (5 + i)) 10 from nn_inb (by omega) (by omega)), nn_clamp (show i < 2147483648 by omega), nn_clamp (show 5 + i < 2147483648 by omega), k1, k2]
    exact (a.to f1 (f2.tr (frB.m f3)) l3).end _
theorem b_behind {I J : Nat → Nat → Int32} {L M : Nat → Nat → Int64} (a : At h I0 J0 M0 c K A w S I J M) (n p : Int32) : B2 h g I0 J0 M0 (cA_behind n p (hw h I L)) (m_behind n p (hw g J M)) := by
  have a := a.thr
  have W := a.1.1.1
  have V := a.1.2.1.1
  have hP := W.p5
  have hT := W.2.2.1.2.2.2.1
  have e7 : I c 7 = nn (zT K) := W.2.1.2.2.2.2.1.1
  have ei : cA_in n.toInt64 0 (nn (zT K)).toInt64 (hw h I L) = _ := ec_in n 0 (nn (zT K)) (hw h I L)
  simp only [cA_behind, m_behind, bnd_e, cal_s, onr_s, jon_e, gI_hw, gL_hw, gT_hw, gR_hw, gN_hw, sI_hw, sL_hw, cV_hw, shS_hw, shC_hw, shL_hw, ← bt_def, ec_isPerson W, em_isPerson V, bI_eq0, W.1, grd_pos W.2.1.1, e7, ei, V.1.1.2.2.2.1, em_in]
  cases z : zin p (zP K) with
  | false =>
    cases z2 : decide (¬ n < 0 ∧ ¬ nn (zT K) < n) with
    | false => simp only [eq_self, Bool.true_eq_false, if_true, if_false]; exact a.end _
    | true => simp only [eq_self, Bool.true_eq_false, if_true, if_false]; exact a.end _
  | true =>
    cases z2 : decide (¬ n < 0 ∧ ¬ nn (zT K) < n) with
    | false => simp only [eq_self, Bool.true_eq_false, if_true, if_false]; exact a.end _
    | true =>
      simp only [eq_self, Bool.true_eq_false, if_true, if_false]
      obtain ⟨i, hi, rfl⟩ := zin_t (by omega) z
      rw [decide_eq_true_eq] at z2
      obtain ⟨k, hk, rfl⟩ : ∃ k, k < zT K + 1 ∧ n = nn k := nn_of (by omega) z2.1 (by
        have := Int32.not_lt.mp z2.2
        rw [Int32.le_iff_toInt_le] at this
        rw [Int32.lt_iff_toInt_lt]
        have e1 : (nn (zT K)).toInt = (zT K : Int) := Int32.toInt_ofNat_of_lt (by omega)
        have e2 : (nn (zT K + 1)).toInt = ((zT K + 1 : Nat) : Int) := Int32.toInt_ofNat_of_lt (by omega)
        rw [e1] at this; rw [e2]; omega)
      obtain ⟨I1, L1, e1, s1, f1⟩ := ec_layTalk (L := L) W (show k ≤ zT K by omega)
      obtain ⟨J1, e2, t2, fl, h3, h2, f2⟩ := em_layText (h := g) (L := M) V
      obtain ⟨J3, M3, e3, t3, f3, l3⟩ := em_behinds (g := g) (F := (-1, I 25 8, 0)) (zbeg_ws W.2.2) (nn i) (show k ≤ zT K by omega) k 0 J1 M FU (V.frB f2) (fl _) h3 h2 t2 (by omega) (by show _ < 1000; omega)
      rw [nn0] at e3
      have k1 : I1 26 i = _ := (s1.1 i hi).1
      have k2 : J3 29 (5 + i) = _ := (t3.1 i hi).1
      simp only [e1, e2, e3, bnd_e, cal_s, onr_s, jon_e, gI_hw, gL_hw, gT_hw, gR_hw, gN_hw, sI_hw, sL_hw, cV_hw, shS_hw, shC_hw, shL_hw, ← bt_def, n5p, grd_pos (show inb (nn i) 5 from nn_inb (by omega) (by omega)), grd_pos (show inb (nn (5 + i)) 10 from nn_inb (by omega) (by omega)), nn_clamp (show i < 2147483648 by omega), nn_clamp (show 5 + i < 2147483648 by omega), k1, k2]
      exact (a.to f1 (f2.tr (frB.m f3)) l3).end _
/-! by chance -/
def AtD (h : HP) (I0 J0 : Nat → Nat → Int32) (M0 : Nat → Nat → Int64) (c : Nat) (K : KT) (A : Nat → Nat → Nat) (w : Int32) (S : ST) (I J : Nat → Nat → Int32) (M : Nat → Nat → Int64) : Prop := TB h I c K A w S J ∧ frA I0 I ∧ frB J0 J ∧ frL2 true M0 M
theorem AtD.to {I J I' J' : Nat → Nat → Int32} {M M' : Nat → Nat → Int64} (a : AtD h I0 J0 M0 c K A w S I J M) (f : frA I I') (f2 : frB J J') (l : frL2 true M M') : AtD h I0 J0 M0 c K A w S I' J' M' := ⟨a.1.fr f f2, a.2.1.tr f, a.2.2.1.tr f2, a.2.2.2.tr l⟩
def zchN (K : KT) (F : FT) (S : ST) (num : Int32) : Nat → ST × Int32
  | 0 => (S, num)
  | n + 1 => ztalk K F n true (zchN K F S num n).1 (zchN K F S num n).2
theorem zchN_ws {K : KT} {F : FT} {S : ST} (w : WK K) (ws : WS (zP K) S) (num : Int32) : ∀ n, n ≤ zT K → WS (zP K) (zchN K F S num n).1
  | 0, _ => ws
  | n + 1, hn => ztalk_ws w (zchN_ws w ws num n (by omega)) (by omega) true _
theorem ec_chance1 {F : FT} {S0 : ST} {num : Int32} (f2 f3 f4 f6 : Int32) : ∀ (j i : Nat) (I : Nat → Nat → Int32) (L : Nat → Nat → Int64) (fuel : Nat), CW h I c K A → StC I 25 (zP K) F (zchN K F S0 num i).1 → I 25 6 = (zchN K F S0 num i).2 → i + j = zT K → j < fuel → ∃ I' L', (∀ k, cA_chance_61 f2 f3 f4 f6 k fuel (nn i) (hw h I L) = k (hw h I' L')) ∧ StC I' 25 (zP K) F (zchN K F S0 num (zT K)).1 ∧ I' 25 6 = (zchN K F S0 num (zT K)).2 ∧ frA I I' := by
  intro j
  induction j with
  | zero =>
    intro i I L fuel W s n6 hi hf
    obtain ⟨m, rfl⟩ : ∃ m, fuel = m + 1 := ⟨fuel - 1, by omega⟩
    have hT := W.2.2.1.2.2.2.1
    have e7 : I c 7 = nn (zT K) := W.2.1.2.2.2.2.1.1
    have hi : i = zT K := by omega
    rw [hi] at s n6
    refine ⟨I, L, fun k => ?_, s, n6, frA.rfl I⟩
    rw [cA_chance_61]
    simp only [bnd_e, cal_s, onr_s, jon_e, gI_hw, gL_hw, gT_hw, gR_hw, gN_hw, sI_hw, sL_hw, cV_hw, shS_hw, shC_hw, shL_hw, ← bt_def, W.1, grd_pos W.2.1.1, e7, if_pos (nn_ple (show zT K ≤ i by omega) (show i < 2147483648 by omega))]
  | succ j ih =>
    intro i I L fuel W s n6 hi hf
    obtain ⟨m, rfl⟩ : ∃ m, fuel = m + 1 := ⟨fuel - 1, by omega⟩
    have hT := W.2.2.1.2.2.2.1
    have e7 : I c 7 = nn (zT K) := W.2.1.2.2.2.2.1.1
    obtain ⟨I1, L1, e1, s1, f1, n1⟩ := ec_talk (L := L) W (sh25 h) s (show i < zT K by omega) true
    have e1 : cS_talk 25 (nn i) 1 (hw h I L) = _ := e1
    rw [n6] at s1 n1
    have f1 := frA.o (o := 25) (by omega) f1
    obtain ⟨I2, L2, e2, s2, n2, f2'⟩ := ih (i + 1) I1 L1 m (W.frA f1) s1 n1 (by omega) (by omega)
    refine ⟨I2, L2, fun k => ?_, s2, n2, f1.tr f2'⟩
    rw [cA_chance_61]
    simp only [bnd_e, cal_s, onr_s, jon_e, gI_hw, gL_hw, gT_hw, gR_hw, gN_hw, sI_hw, sL_hw, cV_hw, shS_hw, shC_hw, shL_hw, ← bt_def, W.1, grd_pos W.2.1.1, e7, if_neg (nn_nle (show i < zT K by omega) (show zT K < 2147483648 by omega)), e1, nn_succ, e2]
theorem em_chance1 {F : FT} {S0 : ST} {num : Int32} (ws : WS (zP K) S0) (f2 f3 : Int32) (f4 : Int64) (f6 f7 : Int32) : ∀ (j i : Nat) (J : Nat → Nat → Int32) (M : Nat → Nat → Int64) (fuel : Nat), MW J K → FlM J F → J 0 63 = 1 → J 0 62 = 1 → StM J 1 (zP K) (zchN K F S0 num i).1 → LnK true (zchN K F S0 num i).2 M → i + j = zT K → j < fuel → ∃ J' M', (∀ k, m_chance_69 f2 f3 f4 f6 f7 k fuel (nn i) (hw g J M) = k (hw g J' M')) ∧ StM J' 1 (zP K) (zchN K F S0 num (zT K)).1 ∧ LnK true (zchN K F S0 num (zT K)).2 M' ∧ frM 1 J J' ∧ frL2 true M M' := by
  intro j
  induction j with
  | zero =>
    intro i J M fuel V fl h3 h2 t n6 hi hf
    obtain ⟨m, rfl⟩ : ∃ m, fuel = m + 1 := ⟨fuel - 1, by omega⟩
    have hT := V.2.1.2.2.2.1
    have hi : i = zT K := by omega
    rw [hi] at t n6
    refine ⟨J, M, fun k => ?_, t, n6, frM.rfl 1 J, frL2.rfl _ _⟩
    rw [m_chance_69]
    simp only [bnd_e, cal_s, onr_s, jon_e, gI_hw, gL_hw, gT_hw, gR_hw, gN_hw, sI_hw, sL_hw, cV_hw, shS_hw, shC_hw, shL_hw, ← bt_def, V.1.1.2.2.2.1, if_pos (nn_ple (show zT K ≤ i by omega) (show i < 2147483648 by omega))]
  | succ j ih =>
    intro i J M fuel V fl h3 h2 t n6 hi hf
    obtain ⟨m, rfl⟩ : ∃ m, fuel = m + 1 := ⟨fuel - 1, by omega⟩
    have hT := V.2.1.2.2.2.1
    obtain ⟨J1, M1, e1, s1, f1, l1, n1⟩ := em_talk (h := g) (L := M) V t (zchN_ws V.2 ws num i (by omega)) fl h3 (dr := true) h2 n6 (show i < zT K by omega)
    obtain ⟨J2, M2, e2, s2, n2, f2', l2⟩ := ih (i + 1) J1 M1 m (V.fr f1) (fl.fr f1) (by rw [f1.2.1 63 (by decide)]; exact h3) (by rw [f1.2.1 62 (by decide)]; exact h2) s1 n1 (by omega) (by omega)
    refine ⟨J2, M2, fun k => ?_, s2, n2, f1.tr f2', l1.tr l2⟩
    rw [m_chance_69]
    simp only [bnd_e, cal_s, onr_s, jon_e, gI_hw, gL_hw, gT_hw, gR_hw, gN_hw, sI_hw, sL_hw, cV_hw, shS_hw, shC_hw, shL_hw, ← bt_def, V.1.1.2.2.2.1, if_neg (nn_nle (show i < zT K by omega) (show zT K < 2147483648 by omega)), e1, nn_succ, e2]
theorem b_chance1 {p : Nat} (hp : p < zP K) (f : Int32) (had : Int64) (hh : had = M0 0 61) : ∀ (j i : Nat) (v num : Int32) (I J : Nat → Nat → Int32) (L M : Nat → Nat → Int64) (n m : Nat), AtD h I0 J0 M0 c K A w S I J M → LnK true num M → i + j = 10 → j < n → j < m → B2 h g I0 J0 M0 (cA_chance_31 (nn p) f (fun x h1 => some (x, h1)) n v num (nn i) (hw h I L)) (m_chance_45 (nn p) f had (fun x25 h26 => cal (m_plainTried h26) (fun r27 h28 => bnd (sL h28 0 61 had) (fun h29 => some (x25, h29)))) m v (nn i) (hw g J M)) := by
  intro j
  induction j with
  | zero =>
    intro i v num I J L M n m a hn6 hi hn hm
    obtain ⟨n, rfl⟩ : ∃ n', n = n' + 1 := ⟨n - 1, by omega⟩
    obtain ⟨m, rfl⟩ : ∃ m', m = m' + 1 := ⟨m - 1, by omega⟩
    have : (10 : Int32) ≤ nn i := nn_ple (n := 10) (by omega) (by omega)
    rw [cA_chance_31, m_chance_45]
    simp only [bnd_e, cal_s, onr_s, jon_e, gI_hw, gL_hw, gT_hw, gR_hw, gN_hw, sI_hw, sL_hw, cV_hw, shS_hw, shC_hw, shL_hw, ← bt_def, if_pos this, em_plain]
    refine ⟨v, I, L, plI J, u2 M 0 61 had, rfl, rfl, a.2.1, a.2.2.1.tr (plI_fr J), ⟨fun x h1 h2 h3 => by rw [u2_ne h3]; exact a.2.2.2.1 x h1 h2 h3, fun k hk => by rw [u2_nk _ _ hk]; exact a.2.2.2.2.1 k hk, fun _ => ?_⟩⟩
    funext k
    by_cases z : k = 61
    · rw [z, u2_same]; exact hh
    · rw [u2_nk _ _ z]; exact a.2.2.2.2.1 k z
  | succ j ih =>
    intro i v num I J L M n m a hn6 hi hn hm
    obtain ⟨n, rfl⟩ : ∃ n', n = n' + 1 := ⟨n - 1, by omega⟩
    obtain ⟨m, rfl⟩ : ∃ m', m = m' + 1 := ⟨m - 1, by omega⟩
    have W := a.1.1.1
    have V := a.1.2.1.1
    have ws := a.1.2.2
    have hP := W.p5
    have hT := W.2.2.1.2.2.2.1
    have nle : ¬ (10 : Int32) ≤ nn i := nn_nle (n := 10) (by omega) (by omega)
    obtain ⟨I1, e1, s1, f1, -⟩ := ec_other (L := L) W a.1.1.2
    have f2 : frA I1 (u2 I1 25 6 num) := frA.u _ (by omega)
    obtain ⟨I3, L3, e3, s3, n3, f3⟩ := ec_chance1 (S0 := S) (num := num) (F := (-1, w, 0)) (nn p) f v (nn i) (zT K) 0 (u2 I1 25 6 num) L FU (W.frA (f1.tr f2)) (s1.u (by decide) (by decide) (by decide) (by decide)) (u2_same _ _ _ _) (by omega) (by show _ < 1000; omega)
    obtain ⟨J1, e4, t4, fl, h3, h2, f4⟩ := em_lay (h := g) (L := M) hP a.1.2.1.2
    have f5 : frB J1 (u2 (u2 J1 0 62 1) 0 63 1) := (frB.u0 _ _ (by omega)).tr (frB.u0 _ _ (by omega))
    obtain ⟨J6, M6, e6, t6, n6, f6, l6⟩ := em_chance1 (g := g) (S0 := S) (num := num) (F := (-1, w, 0)) ws (nn p) f had v (nn i) (zT K) 0 (u2 (u2 J1 0 62 1) 0 63 1) M FU (V.frB (f4.tr f5)) (((fl w).u (by omega)).u (by omega)) (u2_same _ _ _ _) (by rw [u2_nk _ _ (by decide), u2_same]) t4.u0.u0 hn6 (by omega) (by show _ < 1000; omega)
    rw [nn0] at e3 e6
    have k1 : I3 26 p = _ := (s3.1 p hp).1
    have k2 : J6 29 (5 + p) = _ := (t6.1 p hp).1
    have a2 := a.to ((f1.tr f2).tr f3) ((f4.tr f5).tr (frB.m f6)) l6
    rw [cA_chance_31, m_chance_45]
    simp only [bnd_e, cal_s, onr_s, jon_e, gI_hw, gL_hw, gT_hw, gR_hw, gN_hw, sI_hw, sL_hw, cV_hw, shS_hw, shC_hw, shL_hw, ← bt_def, if_neg nle, e1, e3, e4, e6, n5p, grd_pos (show inb (nn p) 5 from nn_inb (by omega) (by omega)), grd_pos (show inb (nn (5 + p)) 10 from nn_inb (by omega) (by omega)), nn_clamp (show p < 2147483648 by omega), nn_clamp (show 5 + p < 2147483648 by omega), k1, k2, n3, em_isOf, bI_eq0, nn_succ]
    by_cases z : bt (sk (zchN K (-1, w, 0) S num (zT K)).1 p) f = 0
    · rw [decide_eq_false (fun y => y z), if_pos rfl, z]
      exact ih _ _ _ _ _ _ _ _ _ a2 n6 (by omega) (by omega) (by omega)
    · rw [decide_eq_true z, if_neg (by decide), bt1.mpr z]
      exact ih _ _ _ _ _ _ _ _ _ a2 n6 (by omega) (by omega) (by omega)
theorem b_chance {I J : Nat → Nat → Int32} {L M : Nat → Nat → Int64} (a : At h I0 J0 M0 c K A w S I J M) (x p f : Int32) : B2 h g I0 J0 M0 (cA_chance x p f (hw h I L)) (m_chance x p f (hw g J M)) := by
  have a := a.thr
  have W := a.1.1.1
  have V := a.1.2.1.1
  have hP := W.p5
  simp only [cA_chance, m_chance, bnd_e, cal_s, onr_s, jon_e, gI_hw, gL_hw, gT_hw, gR_hw, gN_hw, sI_hw, sL_hw, cV_hw, shS_hw, shC_hw, shL_hw, ← bt_def]
  by_cases z0 : x < 0
  · rw [if_pos z0, if_pos z0]; exact a.end _
  · rw [if_neg z0, if_neg z0]
    simp only [bnd_e, cal_s, onr_s, jon_e, gI_hw, gL_hw, gT_hw, gR_hw, gN_hw, sI_hw, sL_hw, cV_hw, shS_hw, shC_hw, shL_hw, ← bt_def, ec_isPerson W, em_isPerson V, ec_isFact W, em_isFact V, bI_eq0]
    cases z : zin p (zP K) with
    | false => simp only [eq_self, Bool.true_eq_false, if_true, if_false]; exact a.end _
    | true =>
      simp only [eq_self, Bool.true_eq_false, if_true, if_false]
      cases z2 : zin f (zF K) with
      | false => simp only [eq_self, Bool.true_eq_false, if_true, if_false]; exact a.end _
      | true =>
        simp only [eq_self, Bool.true_eq_false, if_true, if_false]
        obtain ⟨i, hi, rfl⟩ := zin_t (by omega) z
        have l1 : frL2 true M (u2 M 0 61 x.toInt64) := ⟨fun y _ _ h0 => u2_ne h0, fun k hk => u2_nk _ _ hk, fun y => by cases y⟩
        have l0 : frL2 true M0 M := ⟨a.2.2.2.1, a.2.2.2.2.1, fun y => by cases y⟩
        exact b_chance1 hi f (M 0 61) (by rw [a.2.2.2.2.2 rfl]) 10 0 0 x _ _ _ _ FU FU ⟨a.1, a.2.1, a.2.2.1, l0.tr l1⟩ (fun _ => ⟨u2_same _ _ _ _, z0⟩) (by omega) (by show _ < 1000; omega) (by show _ < 1000; omega)
end B6
