/-! PURE LEVEL 31: searching; steps on the model's side; ways of both -/
def zf (hit : Nat → Bool) : Nat → Nat → Option Nat
  | 0, _ => none
  | j + 1, i => if hit i = true then some i else zf hit j (i + 1)
theorem zf_add (hit : Nat → Bool) : ∀ (a b i : Nat), zf hit (a + b) i = match zf hit a i with
    | some e => some e
    | none => zf hit b (i + a)
  | 0, b, i => by rw [Nat.zero_add]; rfl
  | a + 1, b, i => by
    rw [show a + 1 + b = (a + b) + 1 by omega]
    show (if hit i = true then some i else zf hit (a + b) (i + 1)) = match (if hit i = true then some i else zf hit a (i + 1)) with
      | some e => some e
      | none => zf hit b (i + (a + 1))
    by_cases z : hit i = true
    · rw [if_pos z, if_pos z]
    · rw [if_neg z, if_neg z, zf_add hit a b (i + 1), show i + 1 + a = i + (a + 1) by omega]
theorem zf_cg {f f' : Nat → Bool} : ∀ (j i : Nat), (∀ x, i ≤ x → x < i + j → f x = f' x) → zf f j i = zf f' j i
  | 0, _, _ => rfl
  | j + 1, i, h => by
    show (if f i = true then some i else zf f j (i + 1)) = if f' i = true then some i else zf f' j (i + 1)
    rw [h i (by omega) (by omega), zf_cg j (i + 1) (fun x h1 h2 => h x (by omega) (by omega))]
theorem zf_hit {f : Nat → Bool} : ∀ (j i e : Nat), zf f j i = some e → f e = true ∧ i ≤ e ∧ e < i + j
  | 0, _, _, h => by cases h
  | j + 1, i, e, h => by
    have h : (if f i = true then some i else zf f j (i + 1)) = some e := h
    by_cases z : f i = true
    · rw [if_pos z] at h; cases h; exact ⟨z, by omega, by omega⟩
    · rw [if_neg z] at h
      obtain ⟨h1, h2, h3⟩ := zf_hit j (i + 1) e h
      exact ⟨h1, by omega, by omega⟩
/-- a step's who, whom, what -/
def ew (K : KT) (e : Nat) : Nat := e / zQ K / zP K
def em_ (K : KT) (e : Nat) : Nat := e / zQ K % zP K
def eq_ (K : KT) (e : Nat) : Nat := e % zQ K
def ecode (K : KT) (e : Nat) : Int32 := nn (100 * ew K e + 10 * em_ K e + eq_ K e)
def zN2 (K : KT) : Nat := zP K * zP K * zQ K
theorem e_of {K : KT} {a b q : Nat} (hb : b < zP K) (hq : q < zQ K) : ew K ((a * zP K + b) * zQ K + q) = a ∧ em_ K ((a * zP K + b) * zQ K + q) = b ∧ eq_ K ((a * zP K + b) * zQ K + q) = q := by
  have h1 : ((a * zP K + b) * zQ K + q) / zQ K = a * zP K + b := by
    rw [Nat.mul_comm, Nat.mul_add_div (by omega), Nat.div_eq_of_lt hq, Nat.add_zero]
  refine ⟨?_, ?_, ?_⟩
  · unfold ew; rw [h1, Nat.mul_comm, Nat.mul_add_div (by omega), Nat.div_eq_of_lt hb, Nat.add_zero]
  · unfold em_; rw [h1, Nat.mul_comm, Nat.mul_add_mod, Nat.mod_eq_of_lt hb]
  · unfold eq_; rw [Nat.mul_comm, Nat.mul_add_mod, Nat.mod_eq_of_lt hq]
theorem e_lt {K : KT} {e : Nat} (h : e < zN2 K) : ew K e < zP K ∧ em_ K e < zP K ∧ eq_ K e < zQ K := by
  unfold zN2 at h
  have hQ : 0 < zQ K := by
    rcases Nat.eq_zero_or_pos (zQ K) with z | z
    · rw [z, Nat.mul_zero] at h; omega
    · exact z
  have hP : 0 < zP K := by
    rcases Nat.eq_zero_or_pos (zP K) with z | z
    · rw [z, Nat.zero_mul] at h; omega
    · exact z
  refine ⟨?_, Nat.mod_lt _ hP, Nat.mod_lt _ hQ⟩
  unfold ew
  rw [Nat.div_div_eq_div_mul]
  apply Nat.div_lt_of_lt_mul
  rw [Nat.mul_comm (zQ K) (zP K), Nat.mul_assoc, Nat.mul_comm (zQ K) (zP K), ← Nat.mul_assoc]; exact h
theorem zN2_le {K : KT} (w : WK K) : zN2 K ≤ 200 := by
  obtain ⟨⟨-, h2, h3, -⟩, -⟩ := w
  exact Nat.mul_le_mul (Nat.mul_le_mul h2 h2) h3
def zec (K : KT) (F : FT) (S : ST) (e : Nat) : Bool := zcan K F S (ew K e) (em_ K e) (eq_ K e) true
def zes (K : KT) (F : FT) (S : ST) (e : Nat) : ST := (zask K F S (ew K e) (em_ K e) (eq_ K e) false 0).2.1
def zwN (S0 S1 : ST) (f o : Int32) : Nat → Bool
  | 0 => true
  | n + 1 => zwN S0 S1 f o n && !(decide (¬ bt o (nn n) = 0) && (decide (¬ bt (sk S1 n) f = 0) && decide (bt (sk S0 n) f = 0)))
def zway (K : KT) (S0 S1 : ST) (p : Nat) (f o : Int32) : Bool := zwN S0 S1 f o (zP K) && decide (¬ bt (sk S1 p) f = 0)
section B11
variable {h g : HP} {c : Nat} {K : KT} {A : Nat → Nat → Nat} {w : Int32} {S S1 : ST} {F : FT}
theorem em_who {J : Nat → Nat → Int32} {M : Nat → Nat → Int64} (V : MW J K) {e : Nat} (he : e < zN2 K) : m_whoOf (nn e) (hw g J M) = some (nn (ew K e), hw g J M) ∧ m_whomOf (nn e) (hw g J M) = some (nn (em_ K e), hw g J M) ∧ m_whatOf (nn e) (hw g J M) = some (nn (eq_ K e), hw g J M) := by
  obtain ⟨h1, h2, h3⟩ := e_lt he
  have hP := V.2.1.2.1
  have hQ := V.2.1.2.2.1
  have h200 := zN2_le V.2
  have nq : ¬ nn (zQ K) = 0 := by rw [← nn0, nn_eq (by omega) (by omega)]; omega
  have np : ¬ nn (zP K) = 0 := by rw [← nn0, nn_eq (by omega) (by omega)]; omega
  have hd : e / zQ K ≤ e := Nat.div_le_self _ _
  refine ⟨?_, ?_, ?_⟩
  · simp only [m_whoOf, bnd_e, cal_s, onr_s, jon_e, gI_hw, gL_hw, gT_hw, gR_hw, gN_hw, sI_hw, sL_hw, cV_hw, shS_hw, shC_hw, shL_hw, ← bt_def, V.1.1.2.2.1, V.1.1.2.1, grd_pos nq, grd_pos np, nn_div (show e < 2147483648 by omega) (show zQ K < 2147483648 by omega), nn_div (show e / zQ K < 2147483648 by omega) (show zP K < 2147483648 by omega)]
    rfl
  · simp only [m_whomOf, bnd_e, cal_s, onr_s, jon_e, gI_hw, gL_hw, gT_hw, gR_hw, gN_hw, sI_hw, sL_hw, cV_hw, shS_hw, shC_hw, shL_hw, ← bt_def, V.1.1.2.2.1, V.1.1.2.1, grd_pos nq, grd_pos np, nn_div (show e < 2147483648 by omega) (show zQ K < 2147483648 by omega), nn_div (show e / zQ K < 2147483648 by omega) (show zP K < 2147483648 by omega), nn_mod (show e / zQ K < 2147483648 by omega) (show zP K < 2147483648 by omega)]
    rfl
  · simp only [m_whatOf, bnd_e, cal_s, onr_s, jon_e, gI_hw, gL_hw, gT_hw, gR_hw, gN_hw, sI_hw, sL_hw, cV_hw, shS_hw, shC_hw, shL_hw, ← bt_def, V.1.1.2.2.1, grd_pos nq, nn_div (show e < 2147483648 by omega) (show zQ K < 2147483648 by omega), nn_mod (show e < 2147483648 by omega) (show zQ K < 2147483648 by omega)]
    rfl
theorem em_does {J : Nat → Nat → Int32} {M : Nat → Nat → Int64} (V : MW J K) (t : StM J 1 (zP K) S) (ws : WS (zP K) S) (fl : FlM J F) (h3 : J 0 63 = 0) (h2 : J 0 62 = 0) {e : Nat} (he : e < zN2 K) : ∃ J' M', m_does (nn e) (hw g J M) = some (bI (zec K F S e), hw g J' M') ∧ (zec K F S e = true → StM J' 1 (zP K) (zes K F S e)) ∧ frM 1 J J' ∧ frL2 false M M' := by
  obtain ⟨h1, h2', h3'⟩ := e_lt he
  obtain ⟨e1, e2, e3⟩ := em_who (g := g) (M := M) V he
  have ec : m_canAsk 1 (nn (ew K e)) (nn (em_ K e)) (nn (eq_ K e)) (hw g J M) = _ := em_can (h := g) (L := M) V (b := 1) (by omega) t fl (cnt := true) h3 h1 h2' h3'
  unfold zec
  cases z : zcan K F S (ew K e) (em_ K e) (eq_ K e) true with
  | false =>
    rw [z, bI_f] at ec
    refine ⟨J, M, ?_, (fun y => by cases y), frM.rfl 1 J, frL2.rfl _ _⟩
    simp only [m_does, bnd_e, cal_s, onr_s, jon_e, gI_hw, gL_hw, gT_hw, gR_hw, gN_hw, sI_hw, sL_hw, cV_hw, shS_hw, shC_hw, shL_hw, ← bt_def, e1, e2, e3, ec, if_true, bI_f]
  | true =>
    rw [z, bI_t] at ec
    obtain ⟨J1, M1, e4, s4, f4, l4, -⟩ := em_ask (h := g) (L := M) V (b := 1) (by omega) t ws fl (dr := false) h2 (num := 0) (fun z => by cases z) h1 h2' h3' (zcan_tog z)
    have e4 : m_asks 1 (nn (ew K e)) (nn (em_ K e)) (nn (eq_ K e)) (hw g J M) = _ := e4
    refine ⟨J1, M1, ?_, fun _ => s4, f4, l4⟩
    simp only [m_does, bnd_e, cal_s, onr_s, jon_e, gI_hw, gL_hw, gT_hw, gR_hw, gN_hw, sI_hw, sL_hw, cV_hw, shS_hw, shC_hw, shL_hw, ← bt_def, e1, e2, e3, ec, if_neg i10, e4, bI_t]
theorem zes_ws (wk : WK K) (ws : WS (zP K) S) {e : Nat} (he : e < zN2 K) : WS (zP K) (zes K F S e) := ws.ask wk (e_lt he).2.2 false 0
theorem em_way3 {J : Nat → Nat → Int32} {M : Nat → Nat → Int64} (V : MW J K) (t0 : StM J 0 (zP K) S) (t1 : StM J 1 (zP K) S1) (f1 f o : Int32) : ∀ (j i n : Nat), i + j = zP K → j < n → zwN S S1 f o i = true → ∀ k, m_isWay_3 f1 f o k n (nn i) (hw g J M) = if zwN S S1 f o (zP K) = true then k (hw g J M) else some (0, hw g J M) := by
  have hP := V.2.1.2.1
  intro j
  induction j with
  | zero =>
    intro i n hi hn hz k
    obtain ⟨n, rfl⟩ : ∃ n', n = n' + 1 := ⟨n - 1, by omega⟩
    rw [m_isWay_3]
    simp only [bnd_e, cal_s, onr_s, jon_e, gI_hw, gL_hw, gT_hw, gR_hw, gN_hw, sI_hw, sL_hw, cV_hw, shS_hw, shC_hw, shL_hw, ← bt_def, V.1.1.2.1, if_pos (nn_ple (show zP K ≤ i by omega) (show i < 2147483648 by omega))]
    rw [show zP K = i by omega, hz, if_pos rfl]
  | succ j ih =>
    intro i n hi hn hz k
    obtain ⟨n, rfl⟩ : ∃ n', n = n' + 1 := ⟨n - 1, by omega⟩
    have hip : i < zP K := by omega
    have k1 : J 29 i = sk S i := by have := (t0.1 i hip).1; rw [show 5 * 0 + i = i by omega] at this; exact this
    have k2 : J 29 (5 + i) = sk S1 i := (t1.1 i hip).1
    rw [m_isWay_3]
    simp only [bnd_e, cal_s, onr_s, jon_e, gI_hw, gL_hw, gT_hw, gR_hw, gN_hw, sI_hw, sL_hw, cV_hw, shS_hw, shC_hw, shL_hw, ← bt_def, V.1.1.2.1, if_neg (nn_nle hip (show zP K < 2147483648 by omega)), n5p, grd_pos (show inb (nn i) 10 from nn_inb (by omega) (by omega)), grd_pos (show inb (nn (5 + i)) 10 from nn_inb (by omega) (by omega)), nn_clamp (show i < 2147483648 by omega), nn_clamp (show 5 + i < 2147483648 by omega), k1, k2, em_isOf, bI_eq0, nn_succ]
    have e1 : zwN S S1 f o (i + 1) = (zwN S S1 f o i && !(decide (¬ bt o (nn i) = 0) && (decide (¬ bt (sk S1 i) f = 0) && decide (bt (sk S i) f = 0)))) := rfl
    have nx := fun q => ih (i + 1) n (by omega) (by omega) q k
    by_cases z1 : bt o (nn i) = 0
    · rw [decide_eq_false (fun y => y z1), if_pos rfl]
      exact nx (by rw [e1, hz, decide_eq_false (fun y => y z1)]; rfl)
    · rw [decide_eq_true z1, if_neg (by decide)]
      by_cases z2 : bt (sk S i) f = 0
      · rw [decide_eq_false (fun y => y z2), if_pos rfl]
        by_cases z3 : bt (sk S1 i) f = 0
        · rw [decide_eq_false (fun y => y z3), if_pos rfl]
          exact nx (by rw [e1, hz, decide_eq_false (show ¬ ¬ bt (sk S1 i) f = 0 from fun y => y z3), Bool.false_and, Bool.and_false]; rfl)
        · rw [decide_eq_true z3, if_neg (by decide)]
          have := and_stay (f := zwN S S1 f o) (fun n => rfl) (i := i + 1) (by rw [e1, decide_eq_true z1, decide_eq_true z3, decide_eq_true z2, Bool.and_eq_false_iff]; exact Or.inr rfl) j
          rw [show i + 1 + j = zP K by omega] at this
          rw [this, if_neg (by decide)]
      · rw [decide_eq_true z2, if_neg (by decide)]
        exact nx (by rw [e1, hz, decide_eq_false z2, Bool.and_false, Bool.and_false]; rfl)
theorem em_isWay {J : Nat → Nat → Int32} {M : Nat → Nat → Int64} (V : MW J K) (t0 : StM J 0 (zP K) S) (t1 : StM J 1 (zP K) S1) {p : Nat} (hp : p < zP K) (f o : Int32) : m_isWay (nn p) f o (hw g J M) = some (bI (zway K S S1 p f o), hw g J M) := by
  have hP := V.2.1.2.1
  have e := em_way3 (g := g) (M := M) V t0 t1 (nn p) f o (zP K) 0 FU (by omega) (by show _ < 1000; omega) rfl
  rw [nn0] at e
  have k2 : J 29 (5 + p) = sk S1 p := (t1.1 p hp).1
  unfold zway
  rw [m_isWay, bnd_e, e]
  cases zwN S S1 f o (zP K) with
  | false => rw [if_neg (by decide)]; rfl
  | true =>
    rw [if_pos rfl]
    simp only [bnd_e, cal_s, onr_s, jon_e, gI_hw, gL_hw, gT_hw, gR_hw, gN_hw, sI_hw, sL_hw, cV_hw, shS_hw, shC_hw, shL_hw, ← bt_def, n5p, grd_pos (show inb (nn (5 + p)) 10 from nn_inb (by omega) (by omega)), nn_clamp (show 5 + p < 2147483648 by omega), k2, em_isOf, grd_pos (isB_bI _), Bool.true_and]
theorem ec_way3 {I : Nat → Nat → Int32} {L : Nat → Nat → Int64} (W : CW h I c K A) {o' : Nat} (sh : shS (cV h) o') {F' : FT} (s0 : StC I 20 (zP K) F S) (s1 : StC I o' (zP K) F' S1) (f2 f o : Int32) : ∀ (j i n : Nat), i + j = zP K → j < n → zwN S S1 f o i = true → ∀ k, cA_isWay_3 o' f2 f o k n (nn i) (hw h I L) = if zwN S S1 f o (zP K) = true then k (hw h I L) else some (0, hw h I L) := by
  have hP := W.p5
  intro j
  induction j with
  | zero =>
    intro i n hi hn hz k
    obtain ⟨n, rfl⟩ : ∃ n', n = n' + 1 := ⟨n - 1, by omega⟩
    rw [cA_isWay_3]
    simp only [bnd_e, cal_s, onr_s, jon_e, gI_hw, gL_hw, gT_hw, gR_hw, gN_hw, sI_hw, sL_hw, cV_hw, shS_hw, shC_hw, shL_hw, ← bt_def, ec_persons W, if_pos (nn_ple (show zP K ≤ i by omega) (show i < 2147483648 by omega))]
    rw [show zP K = i by omega, hz, if_pos rfl]
  | succ j ih =>
    intro i n hi hn hz k
    obtain ⟨n, rfl⟩ : ∃ n', n = n' + 1 := ⟨n - 1, by omega⟩
    have hip : i < zP K := by omega
    have k1 : I 21 i = sk S i := (s0.1 i hip).1
    have k2 : I (o' + 1) i = sk S1 i := (s1.1 i hip).1
    rw [cA_isWay_3]
    simp only [bnd_e, cal_s, onr_s, jon_e, gI_hw, gL_hw, gT_hw, gR_hw, gN_hw, sI_hw, sL_hw, cV_hw, shS_hw, shC_hw, shL_hw, ← bt_def, ec_persons W, if_neg (nn_nle hip (show zP K < 2147483648 by omega)), grd_pos sh, grd_pos (show inb (nn i) 5 from nn_inb (by omega) (by omega)), nn_clamp (show i < 2147483648 by omega), k1, k2, bt1, nn_succ]
    have e1 : zwN S S1 f o (i + 1) = (zwN S S1 f o i && !(decide (¬ bt o (nn i) = 0) && (decide (¬ bt (sk S1 i) f = 0) && decide (bt (sk S i) f = 0)))) := rfl
    have nx := fun q => ih (i + 1) n (by omega) (by omega) q k
    by_cases z1 : bt o (nn i) = 0
    · rw [if_neg (fun y => y z1)]
      exact nx (by rw [e1, hz, decide_eq_false (fun y => y z1)]; rfl)
    · rw [if_pos z1]
      by_cases z3 : bt (sk S1 i) f = 0
      · rw [if_neg (fun y => y z3)]
        exact nx (by rw [e1, hz, decide_eq_false (show ¬ ¬ bt (sk S1 i) f = 0 from fun y => y z3), Bool.false_and, Bool.and_false]; rfl)
      · rw [if_pos z3]
        by_cases z2 : bt (sk S i) f = 0
        · rw [if_pos z2]
          have := and_stay (f := zwN S S1 f o) (fun n => rfl) (i := i + 1) (by rw [e1, decide_eq_true z1, decide_eq_true z3, decide_eq_true z2, Bool.and_eq_false_iff]; exact Or.inr rfl) j
          rw [show i + 1 + j = zP K by omega] at this
          rw [this, if_neg (by decide)]
        · rw [if_neg z2]
          exact nx (by rw [e1, hz, decide_eq_false z2, Bool.and_false, Bool.and_false]; rfl)
theorem ec_isWay {I : Nat → Nat → Int32} {L : Nat → Nat → Int64} (W : CW h I c K A) {o' : Nat} (sh : shS (cV h) o') {F' : FT} (s0 : StC I 20 (zP K) F S) (s1 : StC I o' (zP K) F' S1) {p : Nat} (hp : p < zP K) (f o : Int32) : cA_isWay o' (nn p) f o (hw h I L) = some (bI (zway K S S1 p f o), hw h I L) := by
  have hP := W.p5
  have e := ec_way3 (L := L) W sh s0 s1 (nn p) f o (zP K) 0 FU (by omega) (by show _ < 1000; omega) rfl
  rw [nn0] at e
  have k2 : I (o' + 1) p = sk S1 p := (s1.1 p hp).1
  unfold zway
  rw [cA_isWay, bnd_e, e]
  cases zwN S S1 f o (zP K) with
  | false => rw [if_neg (by decide)]; rfl
  | true =>
    rw [if_pos rfl]
    simp only [bnd_e, cal_s, onr_s, jon_e, gI_hw, gL_hw, gT_hw, gR_hw, gN_hw, sI_hw, sL_hw, cV_hw, shS_hw, shC_hw, shL_hw, ← bt_def, grd_pos sh, grd_pos (show inb (nn p) 5 from nn_inb (by omega) (by omega)), nn_clamp (show p < 2147483648 by omega), k2, Bool.true_and]
    exact if_bt _ _ _
end B11
