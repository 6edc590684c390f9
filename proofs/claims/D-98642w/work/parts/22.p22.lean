/-! PURE LEVEL 22: spread, hint, unasked, inRoom, bestRoom -/
def zput (S : ST) (q : Nat) (x : Int32) : ST := ((fun p => if p = q then sk S p ||| x else sk S p), sl S, sr S, sa S, sd S)
def zroom (S : ST) (q : Nat) (r : Int32) : ST := (sk S, sl S, (fun p => if p = q then r else sr S p), sa S, sd S)
theorem WS.put {P : Nat} {S : ST} (ws : WS P S) {q : Nat} {x : Int32} (hx : x &&& 255 = x) : WS P (zput S q x) := by
  intro p hp
  show (if p = q then sk S p ||| x else sk S p) &&& 255 = if p = q then sk S p ||| x else sk S p
  by_cases z : p = q
  · rw [if_pos z]; exact or255 (ws p hp) hx
  · rw [if_neg z]; exact ws p hp
theorem StC.put {I : Nat → Nat → Int32} {o P : Nat} {F : FT} {S : ST} (s : StC I o P F S) {q : Nat} (hq : q < P) (x : Int32) : StC (u2 I (o + 1) q (I (o + 1) q ||| x)) o P F (zput S q x) := by
  obtain ⟨s1, s2⟩ := s
  refine ⟨fun p hp => ?_, by rw [u2_ne (show o ≠ o + 1 by omega)]; exact s2⟩
  rw [u2_ne (show o + 2 ≠ o + 1 by omega), u2_ne (show o + 3 ≠ o + 1 by omega), u2_ne (show o + 4 ≠ o + 1 by omega), u2_eq]
  refine ⟨?_, (s1 p hp).2⟩
  show _ = if p = q then sk S p ||| x else sk S p
  by_cases z : p = q
  · rw [if_pos z, if_pos z, (s1 q hq).1, z]
  · rw [if_neg z, if_neg z]; exact (s1 p hp).1
theorem StM.put {J : Nat → Nat → Int32} {b P : Nat} {S : ST} (s : StM J b P S) {q : Nat} (hq : q < P) (x : Int32) : StM (u2 J 29 (5 * b + q) (J 29 (5 * b + q) ||| x)) b P (zput S q x) := by
  obtain ⟨s1, s2⟩ := s
  refine ⟨fun p hp => ?_, by rw [u2_ne (by decide)]; exact s2⟩
  rw [u2_ne (show 31 ≠ 29 by decide), u2_ne (show 30 ≠ 29 by decide), u2_ne (show 32 ≠ 29 by decide), u2_eq]
  refine ⟨?_, (s1 p hp).2⟩
  show _ = if p = q then sk S p ||| x else sk S p
  by_cases z : p = q
  · rw [if_pos (by omega), if_pos z, (s1 q hq).1, z]
  · rw [if_neg (by omega), if_neg z]; exact (s1 p hp).1
theorem StC.room {I : Nat → Nat → Int32} {o P : Nat} {F : FT} {S : ST} (s : StC I o P F S) (hF : ¬ F.1 = 1) {q : Nat} (r : Int32) : StC (u2 I (o + 2) q r) o P F (zroom S q r) := by
  obtain ⟨s1, s2⟩ := s
  refine ⟨fun p hp => ?_, by rw [u2_ne (show o ≠ o + 2 by omega)]; exact s2⟩
  obtain ⟨k1, k2, k3⟩ := s1 p hp
  rw [if_neg hF] at k2
  rw [u2_ne (show o + 1 ≠ o + 2 by omega), u2_ne (show o + 3 ≠ o + 2 by omega), u2_ne (show o + 4 ≠ o + 2 by omega), u2_eq, if_neg hF]
  refine ⟨k1, ?_, k3⟩
  show _ = if p = q then r else sr S p
  by_cases z : p = q
  · rw [if_pos z, if_pos z]
  · rw [if_neg z, if_neg z]; exact k2
theorem StM.room {J : Nat → Nat → Int32} {b P : Nat} {S : ST} (s : StM J b P S) {q : Nat} (r : Int32) : StM (u2 J 31 (5 * b + q) r) b P (zroom S q r) := by
  obtain ⟨s1, s2⟩ := s
  refine ⟨fun p hp => ?_, by rw [u2_ne (by decide)]; exact s2⟩
  obtain ⟨k1, k2, k3⟩ := s1 p hp
  rw [u2_ne (show 29 ≠ 31 by decide), u2_ne (show 30 ≠ 31 by decide), u2_ne (show 32 ≠ 31 by decide), u2_eq]
  refine ⟨k1, ?_, k3⟩
  show _ = if p = q then r else sr S p
  by_cases z : p = q
  · rw [if_pos (by omega), if_pos z]
  · rw [if_neg (by omega), if_neg z]; exact k2
theorem FlM.ne0 {J J' : Nat → Nat → Int32} {F : FT} (f : J' 0 = J 0) (q : FlM J F) : FlM J' F := by
  unfold FlM; rw [f]; exact q
section B4
variable {h g : HP} {I0 J0 : Nat → Nat → Int32} {M0 : Nat → Nat → Int64} {c : Nat} {K : KT} {A : Nat → Nat → Nat} {w : Int32} {S : ST}
theorem b_spread1 {S' : ST} {F : FT} (f : Int32) : ∀ (j i : Nat) (v : Int32) (I J : Nat → Nat → Int32) (L M : Nat → Nat → Int64) (n m : Nat), At h I0 J0 M0 c K A w S I J M → StC I 25 (zP K) F S' → StM J 1 (zP K) S' → i + j = zP K → j < n → j < m → B2 h g I0 J0 M0 (cA_spread_19 f (fun x h1 => some (x, h1)) n v (nn i) (hw h I L)) (m_spread_27 f (fun x h1 => some (x, h1)) m v (nn i) (hw g J M)) := by
  intro j
  induction j with
  | zero =>
    intro i v I J L M n m a s t hv hn hm
    obtain ⟨n, rfl⟩ : ∃ n', n = n' + 1 := ⟨n - 1, by omega⟩
    obtain ⟨m, rfl⟩ : ∃ m', m = m' + 1 := ⟨m - 1, by omega⟩
    have W := a.1.1.1
    have hP := W.p5
    simp only [cA_spread_19, m_spread_27, bnd_e, cal_s, onr_s, jon_e, gI_hw, gL_hw, gT_hw, gR_hw, gN_hw, sI_hw, sL_hw, cV_hw, shS_hw, shC_hw, shL_hw, ← bt_def, ec_persons W, a.1.2.1.1.1.1.2.1, if_pos (nn_ple (show zP K ≤ i by omega) (show i < 2147483648 by omega))]
    exact a.end _
  | succ j ih =>
    intro i v I J L M n m a s t hv hn hm
    obtain ⟨n, rfl⟩ : ∃ n', n = n' + 1 := ⟨n - 1, by omega⟩
    obtain ⟨m, rfl⟩ : ∃ m', m = m' + 1 := ⟨m - 1, by omega⟩
    have W := a.1.1.1
    have hP := W.p5
    have hip : i < zP K := by omega
    have k1 : I 26 i = sk S' i := (s.1 i hip).1
    have k2 : J 29 (5 + i) = sk S' i := (t.1 i hip).1
    simp only [cA_spread_19, m_spread_27, bnd_e, cal_s, onr_s, jon_e, gI_hw, gL_hw, gT_hw, gR_hw, gN_hw, sI_hw, sL_hw, cV_hw, shS_hw, shC_hw, shL_hw, ← bt_def, ec_persons W, a.1.2.1.1.1.1.2.1, if_neg (nn_nle hip (show zP K < 2147483648 by omega)), n5p, grd_pos (show inb (nn i) 5 from nn_inb (by omega) (by omega)), grd_pos (show inb (nn (5 + i)) 10 from nn_inb (by omega) (by omega)), nn_clamp (show i < 2147483648 by omega), nn_clamp (show 5 + i < 2147483648 by omega), k1, k2, em_isOf, bI_eq0, nn_succ]
    by_cases z : bt (sk S' i) f = 0
    · rw [decide_eq_false (fun y => y z), if_pos rfl, z, Int32.zero_shiftLeft]
      exact ih _ _ _ _ _ _ _ _ a s t (by omega) (by omega) (by omega)
    · rw [decide_eq_true z, if_neg (by decide), bt1.mpr z]
      exact ih _ _ _ _ _ _ _ _ a s t (by omega) (by omega) (by omega)
theorem b_spread {I J : Nat → Nat → Int32} {L M : Nat → Nat → Int64} (a : At h I0 J0 M0 c K A w S I J M) (f : Int32) : B2 h g I0 J0 M0 (cA_spread f (hw h I L)) (m_spread f (hw g J M)) := by
  have a := a.thr
  have W := a.1.1.1
  have s := a.1.1.2
  have V := a.1.2.1.1
  have t := a.1.2.1.2
  have ws := a.1.2.2
  have hP := W.p5
  simp only [cA_spread, m_spread, bnd_e, cal_s, onr_s, jon_e, gI_hw, gL_hw, gT_hw, gR_hw, gN_hw, sI_hw, sL_hw, cV_hw, shS_hw, shC_hw, shL_hw, ← bt_def, ec_isFact W, em_isFact V, bI_eq0]
  cases z : zin f (zF K) with
  | false => simp only [eq_self, Bool.true_eq_false, if_true, if_false]; exact a.end _
  | true =>
    simp only [eq_self, Bool.true_eq_false, if_true, if_false]
    obtain ⟨I1, L1, e1, s1, f1⟩ := ec_without (L := L) W s ws 0
    obtain ⟨J1, e2, s2, fl, h3, h2, f2⟩ := em_lay (h := g) (L := M) hP t
    obtain ⟨J2, M2, e3, s3, f3, l3, -⟩ := em_try (g := g) (M := M) V t ws ws f2 (fl w) h2 s2
    simp only [e1, e2, e3, bnd_e, cal_s, onr_s, jon_e, gI_hw, gL_hw, gT_hw, gR_hw, gN_hw, sI_hw, sL_hw, cV_hw, shS_hw, shC_hw, shL_hw, ← bt_def]
    exact b_spread1 f (zP K) 0 0 _ _ _ _ FU FU (a.to f1 f3 l3) s1 s3 (by omega) (by show _ < 1000; omega) (by show _ < 1000; omega)
def zlearnIf (K : KT) (w : Int32) (S : ST) (p : Nat) (f : Int32) (q : Nat) (x : Int32) : Bool := decide (¬ bt (sk (zallS K (-1, w, 0) (zput S q x)) p) f = 0)
theorem ec_learnsIf {I : Nat → Nat → Int32} {L : Nat → Nat → Int64} (W : CW h I c K A) (s : StC I 20 (zP K) (-1, w, 0) S) (ws : WS (zP K) S) {p q t : Nat} (hp : p < zP K) (hq : q < zP K) (ht : t < 8) (f : Int32) : ∃ I' L', cA_learnsIf (nn p) f (nn q) (nn t) (hw h I L) = some (bI (zlearnIf K w S p f q ((1 : Int32) <<< (nn t &&& 31))), hw h I' L') ∧ frA I I' := by
  have hP := W.p5
  obtain ⟨I1, e1, s1, f1, -⟩ := ec_other (L := L) W s
  have f2 : frA I1 (u2 I1 26 q (I1 26 q ||| ((1 : Int32) <<< (nn t &&& 31)))) := frA.u _ (by omega)
  have s2 : StC (u2 I1 26 q (I1 26 q ||| ((1 : Int32) <<< (nn t &&& 31)))) 25 (zP K) (-1, w, 0) _ := s1.put hq ((1 : Int32) <<< (nn t &&& 31))
  obtain ⟨I3, L3, e3, s3, f3⟩ := ec_askAll (L := L) (W.frA (f1.tr f2)) (sh25 h) s2 (zallS_ok W.2.2 (ws.put (shl255 ht))).1 (by decide)
  have k1 : I3 26 p = _ := (s3.1 p hp).1
  refine ⟨I3, L3, ?_, (f1.tr f2).tr (frA.o (by omega) f3)⟩
  simp only [cA_learnsIf, bnd_e, cal_s, onr_s, jon_e, gI_hw, gL_hw, gT_hw, gR_hw, gN_hw, sI_hw, sL_hw, cV_hw, shS_hw, shC_hw, shL_hw, ← bt_def, e1, grd_pos (show inb (nn q) 5 from nn_inb (by omega) (by omega)), grd_pos (show inb (nn p) 5 from nn_inb (by omega) (by omega)), nn_clamp (show q < 2147483648 by omega), nn_clamp (show p < 2147483648 by omega), e3, k1]
  exact if_bt _ _ _
theorem b_hint2 {p : Nat} (hp : p < zP K) {f : Nat} (hf : f < zF K) (x : Int32) {q : Nat} (hq : q < zP K) (kc km : HP → Option (Int32 × HP)) (hk : ∀ (I J : Nat → Nat → Int32) (L M : Nat → Nat → Int64), At h I0 J0 M0 c K A w S I J M → B2 h g I0 J0 M0 (kc (hw h I L)) (km (hw g J M))) : ∀ (j i : Nat) (I J : Nat → Nat → Int32) (L M : Nat → Nat → Int64) (n m : Nat), At h I0 J0 M0 c K A w S I J M → i + j = zF K → j < n → j < m → B2 h g I0 J0 M0 (cA_hint_56 (nn p) (nn f) x (nn q) kc n (nn i) (hw h I L)) (m_hint_60 (nn p) (nn f) x (nn q) km m (nn i) (hw g J M)) := by
  intro j
  induction j with
  | zero =>
    intro i I J L M n m a hv hn hm
    obtain ⟨n, rfl⟩ : ∃ n', n = n' + 1 := ⟨n - 1, by omega⟩
    obtain ⟨m, rfl⟩ : ∃ m', m = m' + 1 := ⟨m - 1, by omega⟩
    have W := a.1.1.1
    have hF := W.2.2.1.1
    simp only [cA_hint_56, m_hint_60, bnd_e, cal_s, onr_s, jon_e, gI_hw, gL_hw, gT_hw, gR_hw, gN_hw, sI_hw, sL_hw, cV_hw, shS_hw, shC_hw, shL_hw, ← bt_def, W.1, grd_pos W.2.1.1, grd_pos W.2.1.2.1.1, ec_facts W, a.1.2.1.1.1.1.1, if_pos (nn_ple (show zF K ≤ i by omega) (show i < 2147483648 by omega))]
    exact hk _ _ _ _ a
  | succ j ih =>
    intro i I J L M n m a hv hn hm
    obtain ⟨n, rfl⟩ : ∃ n', n = n' + 1 := ⟨n - 1, by omega⟩
    obtain ⟨m, rfl⟩ : ∃ m', m = m' + 1 := ⟨m - 1, by omega⟩
    have W := a.1.1.1
    have s := a.1.1.2
    have V := a.1.2.1.1
    have t := a.1.2.1.2
    have ws := a.1.2.2
    have hP := W.p5
    have hF := W.2.2.1.1
    have hip : i < zF K := by omega
    have k1 : I 21 q = sk S q := (s.1 q hq).1
    have k2 : J 29 q = sk S q := by have := (t.1 q hq).1; rw [show 5 * 0 + q = q by omega] at this; exact this
    simp only [cA_hint_56, m_hint_60, bnd_e, cal_s, onr_s, jon_e, gI_hw, gL_hw, gT_hw, gR_hw, gN_hw, sI_hw, sL_hw, cV_hw, shS_hw, shC_hw, shL_hw, ← bt_def, W.1, grd_pos W.2.1.1, grd_pos W.2.1.2.1.1, ec_facts W, V.1.1.1, if_neg (nn_nle hip (show zF K < 2147483648 by omega)), nn_eq (show i < 2147483648 by omega) (show f < 2147483648 by omega), grd_pos (show inb (nn q) 5 from nn_inb (by omega) (by omega)), grd_pos (show inb (nn q) 10 from nn_inb (by omega) (by omega)), nn_clamp (show q < 2147483648 by omega), k1, k2, em_isOf, bI_eq0, nn_succ]
    by_cases z : i = f
    · rw [if_pos z, if_pos z]
      simp only [if_true]
      exact ih _ _ _ _ _ _ _ a (by omega) (by omega) (by omega)
    · rw [if_neg z, if_neg z]
      by_cases z2 : bt (sk S q) (nn i) = 0
      · rw [if_pos z2, decide_eq_false (fun y => y z2)]
        simp only [if_neg i10, if_true]
        obtain ⟨I1, L1, e1, f1⟩ := ec_learnsIf (L := L) W s ws hp hq (show i < 8 by omega) (nn f)
        obtain ⟨J1, e2, s2, fl, h3, h2, f2⟩ := em_lay (h := g) (L := M) hP t
        have f4 : frB J1 (u2 J1 29 (5 + q) (J1 29 (5 + q) ||| ((1 : Int32) <<< (nn i &&& 31)))) := frB.us _ _ (by omega)
        have s4 : StM (u2 J1 29 (5 + q) (J1 29 (5 + q) ||| ((1 : Int32) <<< (nn i &&& 31)))) 1 (zP K) _ := s2.put hq ((1 : Int32) <<< (nn i &&& 31))
        obtain ⟨J2, M2, e3, s3, f3, l3, -⟩ := em_try (g := g) (M := M) V t ws (ws.put (shl255 (show i < 8 by omega))) (f2.tr f4) ((fl w).ne0 (u2_ne (by decide))) (by rw [u2_ne (by decide)]; exact h2) s4
        have k3 : J2 29 (5 + p) = _ := (s3.1 p hp).1
        simp only [e1, e2, bnd_e, cal_s, onr_s, jon_e, gI_hw, gL_hw, gT_hw, gR_hw, gN_hw, sI_hw, sL_hw, cV_hw, shS_hw, shC_hw, shL_hw, ← bt_def, n5p, grd_pos (show inb (nn (5 + q)) 10 from nn_inb (by omega) (by omega)), grd_pos (show inb (nn (5 + p)) 10 from nn_inb (by omega) (by omega)), nn_clamp (show 5 + q < 2147483648 by omega), nn_clamp (show 5 + p < 2147483648 by omega), e3, k3, em_isOf, em_plain]
        have a2 := a.to f1 (f3.tr (plI_fr J2)) l3
        unfold zlearnIf
        by_cases z3 : bt (sk (zallS K (-1, w, 0) (zput S q (1 <<< (nn i &&& 31)))) p) (nn f) = 0
        · rw [decide_eq_false (fun y => y z3)]
          simp only [bI_f, if_true]
          exact ih _ _ _ _ _ _ _ a2 (by omega) (by omega) (by omega)
        · rw [decide_eq_true z3]
          simp only [bI_t, if_neg i10]
          by_cases z4 : x = 0
          · rw [if_pos z4, if_pos z4]; exact a2.end _
          · rw [if_neg z4, if_neg z4]; exact a2.end _
      · rw [if_neg z2, decide_eq_true z2]
        simp only [if_true, Bool.true_eq_false, if_false]
        exact ih _ _ _ _ _ _ _ a (by omega) (by omega) (by omega)
theorem b_hint1 {p : Nat} (hp : p < zP K) {f : Nat} (hf : f < zF K) (x : Int32) : ∀ (j i : Nat) (I J : Nat → Nat → Int32) (L M : Nat → Nat → Int64) (n m : Nat), At h I0 J0 M0 c K A w S I J M → i + j = zP K → j < n → j < m → B2 h g I0 J0 M0 (cA_hint_44 (nn p) (nn f) x (fun h1 => some (-2, h1)) n (nn i) (hw h I L)) (m_hint_48 (nn p) (nn f) x (fun h1 => some (-2, h1)) m (nn i) (hw g J M)) := by
  intro j
  induction j with
  | zero =>
    intro i I J L M n m a hv hn hm
    obtain ⟨n, rfl⟩ : ∃ n', n = n' + 1 := ⟨n - 1, by omega⟩
    obtain ⟨m, rfl⟩ : ∃ m', m = m' + 1 := ⟨m - 1, by omega⟩
    have W := a.1.1.1
    have hP := W.p5
    simp only [cA_hint_44, m_hint_48, bnd_e, cal_s, onr_s, jon_e, gI_hw, gL_hw, gT_hw, gR_hw, gN_hw, sI_hw, sL_hw, cV_hw, shS_hw, shC_hw, shL_hw, ← bt_def, ec_persons W, a.1.2.1.1.1.1.2.1, if_pos (nn_ple (show zP K ≤ i by omega) (show i < 2147483648 by omega))]
    exact a.end _
  | succ j ih =>
    intro i I J L M n m a hv hn hm
    obtain ⟨n, rfl⟩ : ∃ n', n = n' + 1 := ⟨n - 1, by omega⟩
    obtain ⟨m, rfl⟩ : ∃ m', m = m' + 1 := ⟨m - 1, by omega⟩
    have W := a.1.1.1
    have hP := W.p5
    have hF := W.2.2.1.1
    rw [cA_hint_44, m_hint_48]
    simp only [bnd_e, cal_s, onr_s, jon_e, gI_hw, gL_hw, gT_hw, gR_hw, gN_hw, sI_hw, sL_hw, cV_hw, shS_hw, shC_hw, shL_hw, ← bt_def, ec_persons W, a.1.2.1.1.1.1.2.1, if_neg (nn_nle (show i < zP K by omega) (show zP K < 2147483648 by omega)), nn_succ]
    exact b_hint2 hp hf x (show i < zP K by omega) _ _ (fun I J L M a => ih _ _ _ _ _ _ _ a (by omega) (by omega) (by omega)) (zF K) 0 _ _ _ _ FU FU a (by omega) (by show _ < 1000; omega) (by show _ < 1000; omega)
theorem b_hint {I J : Nat → Nat → Int32} {L M : Nat → Nat → Int64} (a : At h I0 J0 M0 c K A w S I J M) (p f x : Int32) : B2 h g I0 J0 M0 (cA_hint p f x (hw h I L)) (m_hint p f x (hw g J M)) := by
  have a := a.thr
  have W := a.1.1.1
  have V := a.1.2.1.1
  have hP := W.p5
  have hF := W.2.2.1.1
  have ei : cA_in x.toInt64 0 1 (hw h I L) = _ := ec_in x 0 1 (hw h I L)
  simp only [cA_hint, m_hint, bnd_e, cal_s, onr_s, jon_e, gI_hw, gL_hw, gT_hw, gR_hw, gN_hw, sI_hw, sL_hw, cV_hw, shS_hw, shC_hw, shL_hw, ← bt_def, ec_isPerson W, em_isPerson V, ec_isFact W, em_isFact V, ei, em_in, bI_eq0]
  cases z : zin p (zP K) with
  | false => simp only [eq_self, Bool.true_eq_false, if_true, if_false]; exact a.end _
  | true =>
    simp only [eq_self, Bool.true_eq_false, if_true, if_false]
    cases z2 : zin f (zF K) with
    | false => simp only [eq_self, Bool.true_eq_false, if_true, if_false]; exact a.end _
    | true =>
      simp only [eq_self, Bool.true_eq_false, if_true, if_false]
      cases z3 : decide (¬ x < 0 ∧ ¬ 1 < x) with
      | false => simp only [eq_self, Bool.true_eq_false, if_true, if_false]; exact a.end _
      | true =>
        simp only [eq_self, Bool.true_eq_false, if_true, if_false]
        obtain ⟨i, hi, rfl⟩ := zin_t (by omega) z
        obtain ⟨j, hj, rfl⟩ := zin_t (by omega) z2
        obtain ⟨I1, L1, e1, f1⟩ := ec_learns (L := L) W a.1.1.2 a.1.2.2 hi (nn j) 0
        obtain ⟨J1, M1, e2, f2, l2⟩ := em_learns (g := g) (M := M) V a.1.2.1.2 a.1.2.2 hi (nn j) 0 w
        simp only [e1, e2, bnd_e, cal_s, onr_s, jon_e, gI_hw, gL_hw, gT_hw, gR_hw, gN_hw, sI_hw, sL_hw, cV_hw, shS_hw, shC_hw, shL_hw, ← bt_def, bI_eq0]
        have a2 := a.to f1 f2 l2
        cases zlearn K w S i (nn j) 0
        · simp only [eq_self, Bool.true_eq_false, if_true, if_false]
          exact b_hint1 hi hj x (zP K) 0 _ _ _ _ FU FU a2 (by omega) (by show _ < 1000; omega) (by show _ < 1000; omega)
        · simp only [eq_self, Bool.true_eq_false, if_true, if_false]; exact a2.end _
end B4
