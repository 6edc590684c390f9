/-! PURE LEVEL 27: duels are laid, both sides -/
def zdo (K : KT) (F : FT) (o t q : Nat) (S : ST) : ST := if q < zQ K ∧ zcan K F S o t q true = true then (zask K F S o t q false 0).2.1 else S
def zdu (K : KT) (F : FT) (S : ST) (o t a b : Nat) : ST := zdo K F t o b (zdo K F o t a S)
def zgain (S S2 : ST) (p : Nat) : Int32 := (zbc (sk S2 p) - zbc (sk S p)) - (2 : Int32) * (sl S2 p - sl S p)
theorem zdo_ws {K : KT} {F : FT} {S : ST} (w : WK K) (ws : WS (zP K) S) (o t q : Nat) : WS (zP K) (zdo K F o t q S) := by
  unfold zdo
  by_cases z : q < zQ K ∧ zcan K F S o t q true = true
  · rw [if_pos z]; exact ws.ask w z.1 false 0
  · rw [if_neg z]; exact ws
theorem em_layX {g : HP} {J J1 : Nat → Nat → Int32} {M : Nat → Nat → Int64} (e : m_layTried (hw g J M) = some ((), hw g J1 M)) : ∀ x, x ≠ 0 → x < 29 ∨ 33 < x → J1 x = J x := by
  obtain ⟨I1, e1, a1, b1, f1⟩ := em_lay2 (h := g) 5 0 J M FU (by omega) (by show 5 < 1000; omega)
  rw [nn0] at e1
  have e2 : m_layTried (hw g J M) = some ((), hw g (plI (u2 I1 33 1 (I1 33 0))) M) := by
    simp only [m_layTried, bnd_e, cal_s, onr_s, jon_e, gI_hw, gL_hw, gT_hw, gR_hw, gN_hw, sI_hw, sL_hw, cV_hw, shS_hw, shC_hw, shL_hw, ← bt_def, e1, grd_pos (show inb (0 : Int32) 2 by decide), grd_pos (show inb (1 : Int32) 2 by decide), tn0, tn1, em_plain]
  rw [e2] at e
  have e3 : plI (u2 I1 33 1 (I1 33 0)) = J1 := congrArg (fun r : Unit × HP => gI r.2) (Option.some.inj e)
  intro x h0 h1
  rw [← e3, plI_ne _ h0, u2_ne (by omega)]
  exact f1 x (by omega)
section B9
variable {h g : HP} {c : Nat} {K : KT} {A : Nat → Nat → Nat} {w : Int32} {S S' : ST} {F : FT}
theorem ec_do {I : Nat → Nat → Int32} {L : Nat → Nat → Int64} (W : CW h I c K A) (s : StC I 25 (zP K) F S') {o t q : Nat} (ho : o < zP K) (ht : t < zP K) (hq : q ≤ zQ K) : ∃ I' L', (∀ J : HP → Option (Unit × HP), jon J (fun j8 => if nn (zQ K) ≤ nn q then j8 (hw h I L) else cal (cS_can 25 (nn o) (nn t) (nn q) 1 (hw h I L)) (fun r27 h28 => if r27 = 0 then j8 h28 else cal (cS_ask 25 (nn o) (nn t) (nn q) 0 h28) (fun r29 h30 => j8 h30))) = J (hw h I' L')) ∧ StC I' 25 (zP K) F (zdo K F o t q S') ∧ FrO 25 I I' := by
  have hQ := W.q8
  unfold zdo
  by_cases z0 : q < zQ K
  · have nle := nn_nle z0 (show zQ K < 2147483648 by omega)
    have ec : cS_can 25 (nn o) (nn t) (nn q) 1 (hw h I L) = _ := ec_can (L := L) W (sh25 h) s ho ht z0 true
    cases z : zcan K F S' o t q true with
    | false =>
      rw [z, bI_f] at ec
      rw [if_neg (fun y => absurd y.2 (by decide))]
      refine ⟨I, L, fun J => ?_, s, FrO.rfl 25 I⟩
      rw [jon_e, if_neg nle, ec, cal_s, if_pos rfl]
    | true =>
      rw [z, bI_t] at ec
      obtain ⟨I1, L1, e1, s1, f1, -, -⟩ := ec_ask (L := L) W (sh25 h) s ho ht z0 false
      have e1 : cS_ask 25 (nn o) (nn t) (nn q) 0 (hw h I L) = _ := e1
      rw [(zask_f _).1] at s1
      rw [if_pos ⟨z0, rfl⟩]
      refine ⟨I1, L1, fun J => ?_, s1, f1⟩
      rw [jon_e, if_neg nle, ec, cal_s, if_neg i10, e1, cal_s]
  · rw [if_neg (fun y => z0 y.1)]
    refine ⟨I, L, fun J => ?_, s, FrO.rfl 25 I⟩
    rw [jon_e, if_pos (nn_ple (by omega) (by omega))]
theorem em_do {J : Nat → Nat → Int32} {M : Nat → Nat → Int64} (V : MW J K) (t1 : StM J 1 (zP K) S') (ws : WS (zP K) S') (fl : FlM J F) (h3 : J 0 63 = 0) (h2 : J 0 62 = 0) {o t q : Nat} (ho : o < zP K) (ht : t < zP K) (hq : q ≤ zQ K) {n : Int32} (hn : ¬ n = 0) : ∃ s J' M', (∀ X : Int32 → HP → Option (Int32 × HP), jon X (fun j5 => jon (fun h27 => j5 0 h27) (fun j26 => if nn (zQ K) ≤ nn q then j26 (hw g J M) else grd (¬ n = 0) (cal (m_canAsk 1 (nn o) (nn t) (nn q) (hw g J M)) (fun r28 h29 => if r28 = 0 then j26 h29 else grd (¬ n = 0) (cal (m_asks 1 (nn o) (nn t) (nn q) h29) (fun r30 h31 => if r30 = 0 then j26 h31 else j5 1 h31)))))) = X s (hw g J' M')) ∧ StM J' 1 (zP K) (zdo K F o t q S') ∧ frM 1 J J' ∧ frL2 false M M' := by
  have hQ := V.2.1.2.2.1
  unfold zdo
  by_cases z0 : q < zQ K
  · have nle := nn_nle z0 (show zQ K < 2147483648 by omega)
    have ec : m_canAsk 1 (nn o) (nn t) (nn q) (hw g J M) = _ := em_can (h := g) (L := M) V (b := 1) (by omega) t1 fl (cnt := true) h3 ho ht z0
    cases z : zcan K F S' o t q true with
    | false =>
      rw [z, bI_f] at ec
      rw [if_neg (fun y => absurd y.2 (by decide))]
      refine ⟨0, J, M, fun X => ?_, t1, frM.rfl 1 J, frL2.rfl _ _⟩
      rw [jon_e, jon_e, if_neg nle, grd_pos hn, ec, cal_s, if_pos rfl]
    | true =>
      rw [z, bI_t] at ec
      obtain ⟨J1, M1, e1, s1, f1, l1, -⟩ := em_ask (h := g) (L := M) V (b := 1) (by omega) t1 ws fl (dr := false) h2 (num := 0) (fun z => by cases z) ho ht z0 (zcan_tog z)
      have e1 : m_asks 1 (nn o) (nn t) (nn q) (hw g J M) = _ := e1
      rw [if_pos ⟨z0, rfl⟩]
      cases z2 : (zask K F S' o t q false 0).1 with
      | false =>
        rw [z2, bI_f] at e1
        refine ⟨0, J1, M1, fun X => ?_, s1, f1, l1⟩
        rw [jon_e, jon_e, if_neg nle, grd_pos hn, ec, cal_s, if_neg i10, grd_pos hn, e1, cal_s, if_pos rfl]
      | true =>
        rw [z2, bI_t] at e1
        refine ⟨1, J1, M1, fun X => ?_, s1, f1, l1⟩
        rw [jon_e, jon_e, if_neg nle, grd_pos hn, ec, cal_s, if_neg i10, grd_pos hn, e1, cal_s, if_neg i10]
  · rw [if_neg (fun y => z0 y.1)]
    refine ⟨0, J, M, fun X => ?_, t1, frM.rfl 1 J, frL2.rfl _ _⟩
    rw [jon_e, jon_e, if_pos (nn_ple (by omega) (by omega))]
theorem ec_ends {I : Nat → Nat → Int32} {L : Nat → Nat → Int64} {P : Nat} (hP : P ≤ 5) (s : StC I 20 P F S) {F' : FT} (s' : StC I 25 P F' S') {p : Nat} (hp : p < P) : cA_ends (nn p) (hw h I L) = some (zgain S S' p, hw h I L) := by
  have a1 : I 21 p = _ := (s.1 p hp).1
  have a2 : I 23 p = _ := (s.1 p hp).2.2.1
  have a3 : I 26 p = _ := (s'.1 p hp).1
  have a4 : I 28 p = _ := (s'.1 p hp).2.2.1
  simp only [cA_ends, bnd_e, cal_s, onr_s, jon_e, gI_hw, gL_hw, gT_hw, gR_hw, gN_hw, sI_hw, sL_hw, cV_hw, shS_hw, shC_hw, shL_hw, ← bt_def, grd_pos (show inb (nn p) 5 from nn_inb (by omega) (by omega)), nn_clamp (show p < 2147483648 by omega), a1, a2, a3, a4, ec_bc]
  rfl
theorem em_gain {J : Nat → Nat → Int32} {M : Nat → Nat → Int64} {P : Nat} (hP : P ≤ 5) (t : StM J 0 P S) (t' : StM J 1 P S') (ws : WS P S) (ws' : WS P S') {p : Nat} (hp : p < P) : m_gainOf (nn p) (hw g J M) = some (zgain S S' p, hw g J M) := by
  have a1 : J 29 p = sk S p := by have := (t.1 p hp).1; rw [show 5 * 0 + p = p by omega] at this; exact this
  have a2 : J 30 p = sl S p := by have := (t.1 p hp).2.2.1; rw [show 5 * 0 + p = p by omega] at this; exact this
  have a3 : J 29 (5 + p) = _ := (t'.1 p hp).1
  have a4 : J 30 (5 + p) = _ := (t'.1 p hp).2.2.1
  simp only [m_gainOf, bnd_e, cal_s, onr_s, jon_e, gI_hw, gL_hw, gT_hw, gR_hw, gN_hw, sI_hw, sL_hw, cV_hw, shS_hw, shC_hw, shL_hw, ← bt_def, n5p, grd_pos (show inb (nn p) 10 from nn_inb (by omega) (by omega)), grd_pos (show inb (nn (5 + p)) 10 from nn_inb (by omega) (by omega)), nn_clamp (show p < 2147483648 by omega), nn_clamp (show 5 + p < 2147483648 by omega), a1, a2, a3, a4, em_many (ws p hp), em_many (ws' p hp)]
  rfl
/-- the component's tables are laid up to row a, column b -/
def DuC (I : Nat → Nat → Int32) (K : KT) (F : FT) (S : ST) (o t : Nat) (a b : Nat) : Prop := ∀ x y, (x < a ∨ (x = a ∧ y < b)) → y ≤ zQ K → I 39 (9 * x + y) = zgain S (zdu K F S o t x y) o ∧ I 40 (9 * x + y) = zgain S (zdu K F S o t x y) t
theorem n9 (a b : Nat) : (9 : Int32) * nn a + nn b = nn (9 * a + b) := by
  rw [show (9 : Int32) = nn 9 from rfl, nn_mul, nn_add]
theorem nn_nlt {i n : Nat} (h : n ≤ i) (hi : i < 2147483648) : ¬ nn i < nn n := by
  rw [nn_lt hi (by omega)]; omega
theorem nn_plt {i n : Nat} (h : i < n) (hn : n < 2147483648) : nn i < nn n := (nn_lt (by omega) hn).mpr h
theorem ec_du1 {o t : Nat} (ho : o < zP K) (ht : t < zP K) {a : Nat} (ha : a ≤ zQ K) : ∀ (j b : Nat) (I : Nat → Nat → Int32) (L : Nat → Nat → Int64) (n : Nat), CW h I c K A → StC I 20 (zP K) (-1, w, 0) S → DuC I K (-1, w, 0) S o t a b → b + j = zQ K + 1 → j < n → ∃ I' L', (∀ k, cA_layDuel_17 (nn o) (nn t) (nn (zQ K)) (nn a) k n (nn b) (hw h I L) = k (hw h I' L')) ∧ DuC I' K (-1, w, 0) S o t (a + 1) 0 ∧ frA I I' := by
  intro j
  induction j with
  | zero =>
    intro b I L n W s d hb hn
    obtain ⟨n, rfl⟩ : ∃ n', n = n' + 1 := ⟨n - 1, by omega⟩
    have hQ := W.q8
    refine ⟨I, L, fun k => ?_, fun x y hx hy => d x y (by omega) hy, frA.rfl I⟩
    rw [cA_layDuel_17, if_pos (nn_plt (show zQ K < b by omega) (by omega))]
  | succ j ih =>
    intro b I L n W s d hb hn
    obtain ⟨n, rfl⟩ : ∃ n', n = n' + 1 := ⟨n - 1, by omega⟩
    have hQ := W.q8
    have hP := W.p5
    obtain ⟨I1, e1, s1, f1, -⟩ := ec_becomeS (L := L) hP (sh25 h) (sh20 h) (by decide) s
    obtain ⟨I2, L2, e2, s2, f2⟩ := ec_do (L := L) (W.frO (sh25 h) f1) s1 ho ht ha
    have f2 := f1.tr f2
    obtain ⟨I3, L3, e3, s3, f3⟩ := ec_do (L := L2) (W.frO (sh25 h) f2) s2 ht ho (show b ≤ zQ K by omega)
    have f3 := f2.tr f3
    have f3a := frA.o (o := 25) (by omega) f3
    have s20 := s.frA f3a
    have i81 : inb (nn (9 * a + b)) 81 := nn_inb (by omega) (by omega)
    have q1 := ec_ends (h := h) (L := L3) hP s20 s3 ho
    have f4 : frA I3 (u2 I3 39 (9 * a + b) (zgain S (zdu K (-1, w, 0) S o t a b) o)) := frA.u _ (by omega)
    have s25 : StC (u2 I3 39 (9 * a + b) (zgain S (zdu K (-1, w, 0) S o t a b) o)) 25 (zP K) (-1, w, 0) (zdu K (-1, w, 0) S o t a b) := by
      unfold StC
      rw [u2_ne (show 25 ≠ 39 by decide), u2_ne (show 25 + 1 ≠ 39 by decide), u2_ne (show 25 + 2 ≠ 39 by decide), u2_ne (show 25 + 3 ≠ 39 by decide), u2_ne (show 25 + 4 ≠ 39 by decide)]; exact s3
    have q2 := ec_ends (h := h) (L := L3) hP (s20.frA f4) s25 ht
    have f5 : frA (u2 I3 39 (9 * a + b) (zgain S (zdu K (-1, w, 0) S o t a b) o)) (u2 (u2 I3 39 (9 * a + b) (zgain S (zdu K (-1, w, 0) S o t a b) o)) 40 (9 * a + b) (zgain S (zdu K (-1, w, 0) S o t a b) t)) := frA.u _ (by omega)
    have f6 := (f3a.tr f4).tr f5
    have e39 : I3 39 = I 39 := f3 39 (by omega)
    have e40 : I3 40 = I 40 := f3 40 (by omega)
    obtain ⟨I9, L9, e9, d9, f9⟩ := ih (b + 1) _ L3 n (W.frA f6) (s.frA f6) (fun x y hx hy => by
      by_cases z : x = a ∧ y = b
      · obtain ⟨rfl, rfl⟩ := z
        rw [u2_ne (show 39 ≠ 40 by decide), u2_same, u2_same]; exact ⟨rfl, rfl⟩
      · have ne : 9 * x + y ≠ 9 * a + b := by omega
        rw [u2_ne (show 39 ≠ 40 by decide), u2_nk _ _ ne, u2_nk _ _ ne, u2_ne (show 40 ≠ 39 by decide), e39, e40]
        exact d x y (by omega) hy) (by omega) (by omega)
    refine ⟨I9, L9, fun k => ?_, d9, f6.tr f9⟩
    rw [cA_layDuel_17, if_neg (nn_nlt (show b ≤ zQ K by omega) (by omega)), e1, cal_s, e2, e3]
    rw [show zdo K (-1, w, 0) t o b (zdo K (-1, w, 0) o t a S) = zdu K (-1, w, 0) S o t a b from rfl] at q1
    simp only [bnd_e, cal_s, onr_s, jon_e, gI_hw, gL_hw, gT_hw, gR_hw, gN_hw, sI_hw, sL_hw, cV_hw, shS_hw, shC_hw, shL_hw, ← bt_def, q1, n9, grd_pos i81, nn_clamp (show 9 * a + b < 2147483648 by omega), q2, nn_succ, e9]
theorem ec_du0 {o t : Nat} (ho : o < zP K) (ht : t < zP K) : ∀ (j a : Nat) (I : Nat → Nat → Int32) (L : Nat → Nat → Int64) (n : Nat), CW h I c K A → StC I 20 (zP K) (-1, w, 0) S → DuC I K (-1, w, 0) S o t a 0 → a + j = zQ K + 1 → j < n → ∃ I' L', (∀ k, cA_layDuel_8 (nn o) (nn t) (nn (zQ K)) k n (nn a) (hw h I L) = k (hw h I' L')) ∧ DuC I' K (-1, w, 0) S o t (zQ K + 1) 0 ∧ frA I I' := by
  intro j
  induction j with
  | zero =>
    intro a I L n W s d ha hn
    obtain ⟨n, rfl⟩ : ∃ n', n = n' + 1 := ⟨n - 1, by omega⟩
    have hQ := W.q8
    refine ⟨I, L, fun k => ?_, by rw [← show a = zQ K + 1 by omega]; exact d, frA.rfl I⟩
    rw [cA_layDuel_8, if_pos (nn_plt (show zQ K < a by omega) (by omega))]
  | succ j ih =>
    intro a I L n W s d ha hn
    obtain ⟨n, rfl⟩ : ∃ n', n = n' + 1 := ⟨n - 1, by omega⟩
    have hQ := W.q8
    obtain ⟨I1, L1, e1, d1, f1⟩ := ec_du1 (S := S) (w := w) ho ht (show a ≤ zQ K by omega) (zQ K + 1) 0 I L FU W s d (by omega) (by show _ < 1000; omega)
    obtain ⟨I2, L2, e2, d2, f2⟩ := ih (a + 1) I1 L1 n (W.frA f1) (s.frA f1) d1 (by omega) (by omega)
    rw [nn0] at e1
    refine ⟨I2, L2, fun k => ?_, d2, f1.tr f2⟩
    rw [cA_layDuel_8, if_neg (nn_nlt (show a ≤ zQ K by omega) (by omega))]
    simp only [bnd_e, cal_s, onr_s, jon_e, gI_hw, gL_hw, gT_hw, gR_hw, gN_hw, sI_hw, sL_hw, cV_hw, shS_hw, shC_hw, shL_hw, ← bt_def, e1, nn_succ, e2]
theorem ec_layDuel {I : Nat → Nat → Int32} {L : Nat → Nat → Int64} (W : CW h I c K A) (s : StC I 20 (zP K) (-1, w, 0) S) {o t : Nat} (ho : o < zP K) (ht : t < zP K) : ∃ I' L', cA_layDuel (nn o) (nn t) (hw h I L) = some ((), hw h I' L') ∧ DuC I' K (-1, w, 0) S o t (zQ K + 1) 0 ∧ frA I I' := by
  have hQ := W.q8
  obtain ⟨I1, L1, e1, d1, f1⟩ := ec_du0 (S := S) (w := w) ho ht (zQ K + 1) 0 I L FU W s (fun x y hx _ => by omega) (by omega) (by show _ < 1000; omega)
  rw [nn0] at e1
  refine ⟨I1, L1, ?_, d1, f1⟩
  simp only [cA_layDuel, bnd_e, cal_s, onr_s, jon_e, gI_hw, gL_hw, gT_hw, gR_hw, gN_hw, sI_hw, sL_hw, cV_hw, shS_hw, shC_hw, shL_hw, ← bt_def, ec_questions W, e1]
/-- the model's -/
def DuM (J : Nat → Nat → Int32) (K : KT) (F : FT) (S : ST) (o t : Nat) (m : Nat) : Prop := ∀ x, x < m → J 35 x = zgain S (zdu K F S o t (x / (zQ K + 1)) (x % (zQ K + 1))) o ∧ J 36 x = zgain S (zdu K F S o t (x / (zQ K + 1)) (x % (zQ K + 1))) t
theorem nn_div {a b : Nat} (ha : a < 2147483648) (hb : b < 2147483648) : nn a / nn b = nn (a / b) := (Int32.ofNat_div ha hb).symm
theorem nn_mod {a b : Nat} (ha : a < 2147483648) (hb : b < 2147483648) : nn a - nn (a / b) * nn b = nn (a % b) := by
  rw [nn_mul, nn_sub (Nat.div_mul_le_self a b)]
  congr 1
  have := Nat.div_add_mod a b
  rw [Nat.mul_comm] at this
  omega
theorem em_du {o t : Nat} (ho : o < zP K) (ht : t < zP K) (ws : WS (zP K) S) (f3 : Int32) : ∀ (j i : Nat) (J : Nat → Nat → Int32) (M : Nat → Nat → Int64) (n : Nat), MW J K → StM J 0 (zP K) S → DuM J K (-1, w, 0) S o t i → i + j = (zQ K + 1) * (zQ K + 1) → j < n → ∃ J' M', (∀ k, m_restAt_11 (nn o) (nn t) f3 (nn (zQ K + 1)) k n (nn i) (hw g J M) = k (hw g J' M')) ∧ DuM J' K (-1, w, 0) S o t ((zQ K + 1) * (zQ K + 1)) ∧ frB J J' ∧ frL2 false M M' := by
  intro j
  induction j with
  | zero =>
    intro i J M n V t0 d hi hn
    obtain ⟨n, rfl⟩ : ∃ n', n = n' + 1 := ⟨n - 1, by omega⟩
    have hQ := V.2.1.2.2.1
    have h81 : (zQ K + 1) * (zQ K + 1) ≤ 81 := Nat.mul_le_mul (show zQ K + 1 ≤ 9 by omega) (show zQ K + 1 ≤ 9 by omega)
    refine ⟨J, M, fun k => ?_, by rw [← show i = (zQ K + 1) * (zQ K + 1) by omega]; exact d, frB.rfl J, frL2.rfl _ _⟩
    rw [m_restAt_11, nn_mul, if_pos (nn_ple (by omega) (by omega))]
  | succ j ih =>
    intro i J M n V t0 d hi hn
    obtain ⟨n, rfl⟩ : ∃ n', n = n' + 1 := ⟨n - 1, by omega⟩
    have hQ := V.2.1.2.2.1
    have hP := V.2.1.2.1
    have h81 : (zQ K + 1) * (zQ K + 1) ≤ 81 := Nat.mul_le_mul (show zQ K + 1 ≤ 9 by omega) (show zQ K + 1 ≤ 9 by omega)
    have hi81 : i < (zQ K + 1) * (zQ K + 1) := by omega
    have ha : i / (zQ K + 1) ≤ zQ K := by have := Nat.div_lt_of_lt_mul hi81; omega
    have hb : i % (zQ K + 1) ≤ zQ K := by have := Nat.mod_lt i (show 0 < zQ K + 1 by omega); omega
    have n0 : ¬ nn (zQ K + 1) = 0 := by rw [← nn0, nn_eq (by omega) (by omega)]; omega
    obtain ⟨J1, e1, t1, fl, h3, h2, f1⟩ := em_lay (h := g) (L := M) hP t0
    have V1 := V.frB f1
    obtain ⟨x2, J2, M2, e2, t2, f2, l2⟩ := em_do (g := g) (M := M) V1 t1 ws (fl w) h3 h2 ho ht ha n0
    have V2 := V1.fr f2
    have ws2 := zdo_ws (F := (-1, w, 0)) V.2 ws o t (i / (zQ K + 1))
    obtain ⟨x3, J3, M3, e3, t3, f3', l3⟩ := em_do (g := g) (M := M2) V2 t2 ws2 ((fl w).fr f2) (by rw [f2.2.1 63 (by decide)]; exact h3) (by rw [f2.2.1 62 (by decide)]; exact h2) ht ho hb n0
    have ws3 : WS (zP K) (zdu K (-1, w, 0) S o t (i / (zQ K + 1)) (i % (zQ K + 1))) := zdo_ws (F := (-1, w, 0)) V.2 ws2 t o (i % (zQ K + 1))
    have t3 : StM J3 1 (zP K) (zdu K (-1, w, 0) S o t (i / (zQ K + 1)) (i % (zQ K + 1))) := t3
    have f13 := (f1.tr (frB.m f2)).tr (frB.m f3')
    have t00 := t0.frB hP f13
    have i81 : inb (nn i) 81 := nn_inb (by omega) (by omega)
    have q1 := em_gain (g := g) (M := M3) hP t00 t3 ws ws3 ho
    generalize hG1 : zgain S (zdu K (-1, w, 0) S o t (i / (zQ K + 1)) (i % (zQ K + 1))) o = G1 at *
    have f4 : frB J3 (u2 J3 35 i G1) := frB.us _ _ (by omega)
    have t4 : StM (u2 J3 35 i G1) 1 (zP K) (zdu K (-1, w, 0) S o t (i / (zQ K + 1)) (i % (zQ K + 1))) := by
      unfold StM
      rw [u2_ne (show 29 ≠ 35 by decide), u2_ne (show 30 ≠ 35 by decide), u2_ne (show 31 ≠ 35 by decide), u2_ne (show 32 ≠ 35 by decide), u2_ne (show 33 ≠ 35 by decide)]; exact t3
    have q2 := em_gain (g := g) (M := M3) hP (t00.frB hP f4) t4 ws ws3 ht
    generalize hG2 : zgain S (zdu K (-1, w, 0) S o t (i / (zQ K + 1)) (i % (zQ K + 1))) t = G2 at *
    have f5 : frB (u2 J3 35 i G1) (u2 (u2 J3 35 i G1) 36 i G2) := frB.us _ _ (by omega)
    have f6 := (f13.tr f4).tr f5
    have e35 : J3 35 = J 35 ∧ J3 36 = J 36 := by
      have x1 := em_layX e1
      exact ⟨((f3'.1 35 (by decide) (by decide) (by decide) (by decide)).trans (f2.1 35 (by decide) (by decide) (by decide) (by decide))).trans (x1 35 (by decide) (by omega)), ((f3'.1 36 (by decide) (by decide) (by decide) (by decide)).trans (f2.1 36 (by decide) (by decide) (by decide) (by decide))).trans (x1 36 (by decide) (by omega))⟩
    obtain ⟨J9, M9, e9, d9, f9, l9⟩ := ih (i + 1) _ M3 n (V.frB f6) (t0.frB hP f6) (fun x hx => by
      by_cases z : x = i
      · rw [z, u2_ne (show 35 ≠ 36 by decide), u2_same, u2_same, hG1, hG2]; exact ⟨rfl, rfl⟩
      · rw [u2_ne (show 35 ≠ 36 by decide), u2_nk _ _ z, u2_nk _ _ z, u2_ne (show 36 ≠ 35 by decide), e35.1, e35.2]
        exact d x (by omega)) (by omega) (by omega)
    refine ⟨J9, M9, fun k => ?_, d9, f6.tr f9, (l2.tr l3).tr l9⟩
    rw [m_restAt_11, nn_mul, if_neg (nn_nle hi81 (by omega)), e1, cal_s, grd_pos n0]
    simp only [gI_hw, V1.1.1.2.2.1, nn_div (show i < 2147483648 by omega) (show zQ K + 1 < 2147483648 by omega), nn_mod (show i < 2147483648 by omega) (show zQ K + 1 < 2147483648 by omega)]
    rw [e2]
    simp only [bnd_e, gI_hw, V2.1.1.2.2.1]
    rw [grd_pos n0, e3]
    simp only [bnd_e, cal_s, onr_s, jon_e, gI_hw, gL_hw, gT_hw, gR_hw, gN_hw, sI_hw, sL_hw, cV_hw, shS_hw, shC_hw, shL_hw, ← bt_def, q1, grd_pos i81, nn_clamp (show i < 2147483648 by omega), q2, nn_succ, e9]
end B9
