/-! PURE LEVEL 23: unasked, inRoom, bestRoom; slipped, behind -/
def zab (K : KT) (F : FT) (S : ST) (a q : Nat) : Nat → Bool
  | 0 => false
  | n + 1 => zab K F S a q n || zcan K F S a n q true
theorem or_bit : ∀ (q : Fin 8) (c : Fin 256), c.1 < 2 ^ q.1 → (nn c ||| ((1 : Int32) <<< (nn q &&& 31))) = nn (c + 2 ^ q.1) := by decide +kernel
theorem clr_bit : ∀ (Q : Fin 9) (q : Fin 8) (c : Fin 256), q.1 < Q.1 → c.1 < 2 ^ q.1 → (nn (c + (2 ^ Q.1 - 2 ^ q.1)) &&& (((1 : Int32) <<< (nn q &&& 31)) ^^^ (-1 : Int32))) = nn (c + (2 ^ Q.1 - 2 ^ (q.1 + 1))) := by decide +kernel
theorem ones_bit : ∀ Q : Fin 9, ((1 : Int32) <<< (nn Q &&& 31)) - 1 = nn (0 + (2 ^ Q.1 - 2 ^ 0)) := by decide +kernel
section B5
variable {h g : HP} {I0 J0 : Nat → Nat → Int32} {M0 : Nat → Nat → Int64} {c : Nat} {K : KT} {A : Nat → Nat → Nat} {w : Int32} {S : ST}
theorem ec_askable {I : Nat → Nat → Int32} {L : Nat → Nat → Int64} (W : CW h I c K A) (s : StC I 20 (zP K) (-1, w, 0) S) {a q : Nat} (ha : a < zP K) (hq : q < zQ K) : ∀ (j i n : Nat), i + j = zP K → j < n → zab K (-1, w, 0) S a q i = false → cA_isAskable_2 (nn a) (nn q) (fun h7 => some (0, h7)) n (nn i) (hw h I L) = some (bI (zab K (-1, w, 0) S a q (zP K)), hw h I L) := by
  have hP := W.p5
  intro j
  induction j with
  | zero =>
    intro i n hi hn hz
    obtain ⟨n, rfl⟩ : ∃ n', n = n' + 1 := ⟨n - 1, by omega⟩
    rw [cA_isAskable_2]
    simp only [bnd_e, cal_s, onr_s, jon_e, gI_hw, gL_hw, gT_hw, gR_hw, gN_hw, sI_hw, sL_hw, cV_hw, shS_hw, shC_hw, shL_hw, ← bt_def, ec_persons W, if_pos (nn_ple (show zP K ≤ i by omega) (show i < 2147483648 by omega))]
    rw [show zP K = i by omega, hz]; rfl
  | succ j ih =>
    intro i n hi hn hz
    obtain ⟨n, rfl⟩ : ∃ n', n = n' + 1 := ⟨n - 1, by omega⟩
    have hip : i < zP K := by omega
    have ec : cS_can 20 (nn a) (nn i) (nn q) 1 (hw h I L) = _ := ec_can (L := L) W (sh20 h) s ha hip hq true
    rw [cA_isAskable_2]
    simp only [bnd_e, cal_s, onr_s, jon_e, gI_hw, gL_hw, gT_hw, gR_hw, gN_hw, sI_hw, sL_hw, cV_hw, shS_hw, shC_hw, shL_hw, ← bt_def, ec_persons W, if_neg (nn_nle hip (show zP K < 2147483648 by omega)), ec, bI_eq0, nn_succ]
    cases z : zcan K (-1, w, 0) S a i q true with
    | false =>
      simp only [eq_self, Bool.true_eq_false, if_true, if_false]
      exact ih (i + 1) n (by omega) (by omega) (by show (zab K (-1, w, 0) S a q i || zcan K (-1, w, 0) S a i q true) = false; rw [hz, z]; rfl)
    | true =>
      simp only [eq_self, Bool.true_eq_false, if_true, if_false]
      have : ∀ d, zab K (-1, w, 0) S a q (i + 1 + d) = true := by
        intro d
        induction d with
        | zero => show (zab K (-1, w, 0) S a q i || zcan K (-1, w, 0) S a i q true) = true; rw [z, Bool.or_true]
        | succ d ihd => show (zab K (-1, w, 0) S a q (i + 1 + d) || _) = true; rw [ihd]; rfl
      rw [show zP K = i + 1 + j by omega, this j]; rfl
theorem em_askable {J : Nat → Nat → Int32} {M : Nat → Nat → Int64} (V : MW J K) (t : StM J 0 (zP K) S) (fl : FlM J (-1, w, 0)) (h3 : J 0 63 = 0) {a q : Nat} (ha : a < zP K) (hq : q < zQ K) (v : Int32) : ∀ (j i n : Nat), i + j = zP K → j < n → ∀ k, m_unasked_41 (nn a) (nn q) k n (if zab K (-1, w, 0) S a q i = true then v &&& (((1 : Int32) <<< (nn q &&& 31)) ^^^ (-1 : Int32)) else v) (nn i) (hw g J M) = k (if zab K (-1, w, 0) S a q (zP K) = true then v &&& (((1 : Int32) <<< (nn q &&& 31)) ^^^ (-1 : Int32)) else v) (hw g J M) := by
  have hP := V.2.1.2.1
  intro j
  induction j with
  | zero =>
    intro i n hi hn k
    obtain ⟨n, rfl⟩ : ∃ n', n = n' + 1 := ⟨n - 1, by omega⟩
    rw [m_unasked_41]
    simp only [bnd_e, cal_s, onr_s, jon_e, gI_hw, gL_hw, gT_hw, gR_hw, gN_hw, sI_hw, sL_hw, cV_hw, shS_hw, shC_hw, shL_hw, ← bt_def, V.1.1.2.1, if_pos (nn_ple (show zP K ≤ i by omega) (show i < 2147483648 by omega))]
    rw [show zP K = i by omega]
  | succ j ih =>
    intro i n hi hn k
    obtain ⟨n, rfl⟩ : ∃ n', n = n' + 1 := ⟨n - 1, by omega⟩
    have hip : i < zP K := by omega
    have ec : m_canAsk 0 (nn a) (nn i) (nn q) (hw g J M) = _ := em_can (h := g) (L := M) V (b := 0) (by omega) t fl (cnt := true) h3 ha hip hq
    have e := ih (i + 1) n (by omega) (by omega) k
    rw [m_unasked_41]
    simp only [bnd_e, cal_s, onr_s, jon_e, gI_hw, gL_hw, gT_hw, gR_hw, gN_hw, sI_hw, sL_hw, cV_hw, shS_hw, shC_hw, shL_hw, ← bt_def, V.1.1.2.1, if_neg (nn_nle hip (show zP K < 2147483648 by omega)), ec, bI_eq0, nn_succ]
    cases z : zcan K (-1, w, 0) S a i q true with
    | false =>
      simp only [eq_self, Bool.true_eq_false, if_true, if_false]
      rw [show zab K (-1, w, 0) S a q (i + 1) = (zab K (-1, w, 0) S a q i || zcan K (-1, w, 0) S a i q true) from rfl, z, Bool.or_false] at e
      exact e
    | true =>
      simp only [eq_self, Bool.true_eq_false, if_true, if_false]
      rw [show zab K (-1, w, 0) S a q (i + 1) = (zab K (-1, w, 0) S a q i || zcan K (-1, w, 0) S a i q true) from rfl, z, Bool.or_true, if_pos rfl] at e
      refine Eq.trans ?_ e
      congr 1
      by_cases y : zab K (-1, w, 0) S a q i = true
      · rw [if_pos y]; rw [Int32.and_assoc, Int32.and_self]
      · rw [if_neg y]
theorem b_unasked1 {a : Nat} (ha : a < zP K) : ∀ (j i v : Nat) (I J : Nat → Nat → Int32) (L M : Nat → Nat → Int64) (n m : Nat), At h I0 J0 M0 c K A w S I J M → FlM J (-1, w, 0) → J 0 63 = 0 → i + j = zQ K → v < 2 ^ i → j < n → j < m → B2 h g I0 J0 M0 (cA_unasked_14 (nn a) (fun x h1 => some (x, h1)) n (nn v) (nn i) (hw h I L)) (m_unasked_30 (nn a) (fun x h1 => some (x, h1)) m (nn (v + (2 ^ zQ K - 2 ^ i))) (nn i) (hw g J M)) := by
  intro j
  induction j with
  | zero =>
    intro i v I J L M n m a' fl h3 hi hv hn hm
    obtain ⟨n, rfl⟩ : ∃ n', n = n' + 1 := ⟨n - 1, by omega⟩
    obtain ⟨m, rfl⟩ : ∃ m', m = m' + 1 := ⟨m - 1, by omega⟩
    have W := a'.1.1.1
    have hQ := W.q8
    rw [cA_unasked_14, m_unasked_30]
    simp only [bnd_e, cal_s, onr_s, jon_e, gI_hw, gL_hw, gT_hw, gR_hw, gN_hw, sI_hw, sL_hw, cV_hw, shS_hw, shC_hw, shL_hw, ← bt_def, ec_questions W, a'.1.2.1.1.1.1.2.2.1, if_pos (nn_ple (show zQ K ≤ i by omega) (show i < 2147483648 by omega))]
    rw [show i = zQ K by omega, Nat.sub_self, Nat.add_zero]
    exact a'.end _
  | succ j ih =>
    intro i v I J L M n m a' fl h3 hi hv hn hm
    obtain ⟨n, rfl⟩ : ∃ n', n = n' + 1 := ⟨n - 1, by omega⟩
    obtain ⟨m, rfl⟩ : ∃ m', m = m' + 1 := ⟨m - 1, by omega⟩
    have W := a'.1.1.1
    have hQ := W.q8
    have hP := W.p5
    have hip : i < zQ K := by omega
    have h256 : v < 256 := by
      have : 2 ^ i ≤ 2 ^ 7 := Nat.pow_le_pow_right (by omega) (by omega)
      omega
    have e1 := ec_askable (L := L) W a'.1.1.2 ha hip (zP K) 0 FU (by omega) (by show _ < 1000; omega) rfl
    have e2 := em_askable (g := g) (M := M) a'.1.2.1.1 a'.1.2.1.2 fl h3 ha hip (nn (v + (2 ^ zQ K - 2 ^ i))) (zP K) 0 FU (by omega) (by show _ < 1000; omega)
    rw [show zab K (-1, w, 0) S a i 0 = false from rfl, if_neg (show ¬ false = true by decide), nn0] at e2
    rw [nn0] at e1
    rw [cA_unasked_14, m_unasked_30]
    simp only [bnd_e, cal_s, onr_s, jon_e, gI_hw, gL_hw, gT_hw, gR_hw, gN_hw, sI_hw, sL_hw, cV_hw, shS_hw, shC_hw, shL_hw, ← bt_def, cA_isAskable, ec_questions W, a'.1.2.1.1.1.1.2.2.1, if_neg (nn_nle hip (show zQ K < 2147483648 by omega)), e1, e2, bI_eq0, nn_succ]
    have hp : 2 ^ (i + 1) = 2 * 2 ^ i := by rw [Nat.pow_succ]; omega
    have hle : 2 ^ (i + 1) ≤ 2 ^ zQ K := Nat.pow_le_pow_right (by omega) (by omega)
    cases z : zab K (-1, w, 0) S a i (zP K) with
    | false =>
      simp only [eq_self, Bool.true_eq_false, if_true, if_false]
      rw [or_bit ⟨i, by omega⟩ ⟨v, h256⟩ hv]
      have q := ih (i + 1) (v + 2 ^ i) _ _ L M n m a' fl h3 (by omega) (by omega) (by omega) (by omega)
      rw [show v + 2 ^ i + (2 ^ zQ K - 2 ^ (i + 1)) = v + (2 ^ zQ K - 2 ^ i) by omega] at q
      exact q
    | true =>
      simp only [eq_self, Bool.true_eq_false, if_true, if_false]
      rw [clr_bit ⟨zQ K, by omega⟩ ⟨i, by omega⟩ ⟨v, h256⟩ hip hv, Int32.or_zero]
      exact ih (i + 1) v _ _ L M n m a' fl h3 (by omega) (by omega) (by omega) (by omega)
theorem b_unasked {I J : Nat → Nat → Int32} {L M : Nat → Nat → Int64} (a : At h I0 J0 M0 c K A w S I J M) (p : Int32) : B2 h g I0 J0 M0 (cA_unasked p (hw h I L)) (m_unasked p (hw g J M)) := by
  have a := a.thr
  have W := a.1.1.1
  have V := a.1.2.1.1
  have hP := W.p5
  have hQ := W.q8
  simp only [cA_unasked, m_unasked, bnd_e, cal_s, onr_s, jon_e, gI_hw, gL_hw, gT_hw, gR_hw, gN_hw, sI_hw, sL_hw, cV_hw, shS_hw, shC_hw, shL_hw, ← bt_def, ec_isPerson W, em_isPerson V, bI_eq0, em_plain]
  cases z : zin p (zP K) with
  | false => simp only [eq_self, Bool.true_eq_false, if_true, if_false]; exact a.end _
  | true =>
    simp only [eq_self, Bool.true_eq_false, if_true, if_false]
    obtain ⟨i, hi, rfl⟩ := zin_t (by omega) z
    have a2 := a.to (frA.rfl _) (plI_fr (u2 J 0 2 0)) (frL2.rfl _ M)
    rw [a2.1.2.1.1.1.1.2.2.1, ones_bit ⟨zQ K, by omega⟩]
    exact b_unasked1 hi (zQ K) 0 0 _ _ L M FU FU a2 (plI_fl _ w) (plI_63 _) (by omega) (by decide) (by show _ < 1000; omega) (by show _ < 1000; omega)
def zrsum (K : KT) (w : Int32) (S : ST) (p : Nat) (r : Int32) : Int32 := zsum K (-1, w, 0) (zallS K (-1, w, 0) (zroom S p r))
theorem ec_sumIn {I : Nat → Nat → Int32} {L : Nat → Nat → Int64} (W : CW h I c K A) (s : StC I 20 (zP K) (-1, w, 0) S) (ws : WS (zP K) S) {p : Nat} (hp : p < zP K) (r : Int32) : ∃ I' L', cA_sumIn (nn p) r (hw h I L) = some (zrsum K w S p r, hw h I' L') ∧ frA I I' := by
  have hP := W.p5
  obtain ⟨I1, e1, s1, f1, -⟩ := ec_other (L := L) W s
  have f2 : frA I1 (u2 I1 27 p r) := frA.u _ (by omega)
  have s2 : StC (u2 I1 27 p r) 25 (zP K) (-1, w, 0) (zroom S p r) := s1.room (show ¬ (-1 : Int32) = 1 by decide) r
  obtain ⟨I3, L3, e3, s3, f3⟩ := ec_askAll (L := L) (W.frA (f1.tr f2)) (sh25 h) s2 (zallS_ok W.2.2 (show WS (zP K) (zroom S p r) from ws)).1 (by decide)
  refine ⟨I3, L3, ?_, (f1.tr f2).tr (frA.o (by omega) f3)⟩
  simp only [cA_sumIn, bnd_e, cal_s, onr_s, jon_e, gI_hw, gL_hw, gT_hw, gR_hw, gN_hw, sI_hw, sL_hw, cV_hw, shS_hw, shC_hw, shL_hw, ← bt_def, e1, grd_pos (show inb (nn p) 5 from nn_inb (by omega) (by omega)), nn_clamp (show p < 2147483648 by omega), e3, ec_sum (W.frA ((f1.tr f2).tr (frA.o (by omega) f3))) (sh25 h) s3]
  rfl
theorem em_sumIn {J : Nat → Nat → Int32} {M : Nat → Nat → Int64} (V : MW J K) (t : StM J 0 (zP K) S) (ws : WS (zP K) S) {p : Nat} (hp : p < zP K) (r w : Int32) : ∃ J' M', m_sumInRoom (nn p) r (hw g J M) = some (zrsum K w S p r, hw g J' M') ∧ frB J J' ∧ frL2 false M M' := by
  have hP := V.2.1.2.1
  have ws1 : WS (zP K) (zroom S p r) := ws
  obtain ⟨J1, e2, s2, fl, h3, h2, f2⟩ := em_lay (h := g) (L := M) hP t
  have f4 : frB J1 (u2 J1 31 (5 + p) r) := frB.us _ _ (by omega)
  have s4 : StM (u2 J1 31 (5 + p) r) 1 (zP K) (zroom S p r) := s2.room r
  obtain ⟨J2, M2, e3, s3, f3, l3, fl3⟩ := em_try (g := g) (M := M) V t ws ws1 (f2.tr f4) ((fl w).ne0 (u2_ne (by decide))) (by rw [u2_ne (by decide)]; exact h2) s4
  have e5 : m_sumIn 1 (hw g J2 M2) = _ := em_sum (h := g) (L := M2) (V.frB f3) (b := 1) (by omega) s3 (zallS_ok V.2 ws1).2 fl3.2.2.1
  refine ⟨J2, M2, ?_, f3, l3⟩
  simp only [m_sumInRoom, bnd_e, cal_s, onr_s, jon_e, gI_hw, gL_hw, gT_hw, gR_hw, gN_hw, sI_hw, sL_hw, cV_hw, shS_hw, shC_hw, shL_hw, ← bt_def, e2, n5p, grd_pos (show inb (nn (5 + p)) 10 from nn_inb (by omega) (by omega)), nn_clamp (show 5 + p < 2147483648 by omega), e3, e5]
  rfl
theorem b_inRoom {I J : Nat → Nat → Int32} {L M : Nat → Nat → Int64} (a : At h I0 J0 M0 c K A w S I J M) (p r : Int32) : B2 h g I0 J0 M0 (cA_inRoom p r (hw h I L)) (m_inRoom p r (hw g J M)) := by
  have a := a.thr
  have W := a.1.1.1
  have V := a.1.2.1.1
  have hP := W.p5
  have ei : cA_in r.toInt64 0 3 (hw h I L) = _ := ec_in r 0 3 (hw h I L)
  simp only [cA_inRoom, m_inRoom, bnd_e, cal_s, onr_s, jon_e, gI_hw, gL_hw, gT_hw, gR_hw, gN_hw, sI_hw, sL_hw, cV_hw, shS_hw, shC_hw, shL_hw, ← bt_def, ec_isPerson W, em_isPerson V, ei, em_in, bI_eq0]
  cases z : zin p (zP K) with
  | false => simp only [eq_self, Bool.true_eq_false, if_true, if_false]; exact a.end _
  | true =>
    simp only [eq_self, Bool.true_eq_false, if_true, if_false]
    cases z3 : decide (¬ r < 0 ∧ ¬ 3 < r) with
    | false => simp only [eq_self, Bool.true_eq_false, if_true, if_false]; exact a.end _
    | true =>
      simp only [eq_self, Bool.true_eq_false, if_true, if_false]
      obtain ⟨i, hi, rfl⟩ := zin_t (by omega) z
      obtain ⟨I1, L1, e1, f1⟩ := ec_sumIn (L := L) W a.1.1.2 a.1.2.2 hi r
      obtain ⟨J1, M1, e2, f2, l2⟩ := em_sumIn (g := g) (M := M) V a.1.2.1.2 a.1.2.2 hi r w
      simp only [e1, e2, bnd_e, cal_s, onr_s, jon_e, gI_hw, gL_hw, gT_hw, gR_hw, gN_hw, sI_hw, sL_hw, cV_hw, shS_hw, shC_hw, shL_hw, ← bt_def]
      exact (a.to f1 f2 l2).end _
theorem b_bestRoom1 {p : Nat} (hp : p < zP K) : ∀ (j i : Nat) (v : Int32) (I J : Nat → Nat → Int32) (L M : Nat → Nat → Int64) (n m : Nat), At h I0 J0 M0 c K A w S I J M → i + j = 4 → j < n → j < m → B2 h g I0 J0 M0 (cA_bestRoom_14 (nn p) (fun x h1 => some (x, h1)) n v (nn i) (hw h I L)) (m_bestRoom_19 (nn p) (fun x h1 => some (x, h1)) m v (nn i) (hw g J M)) := by
  intro j
  induction j with
  | zero =>
    intro i v I J L M n m a hi hn hm
    obtain ⟨n, rfl⟩ : ∃ n', n = n' + 1 := ⟨n - 1, by omega⟩
    obtain ⟨m, rfl⟩ : ∃ m', m = m' + 1 := ⟨m - 1, by omega⟩
    have : (4 : Int32) ≤ nn i := nn_ple (n := 4) (by omega) (by omega)
    rw [cA_bestRoom_14, m_bestRoom_19]
    simp only [if_pos this]
    exact a.end _
  | succ j ih =>
    intro i v I J L M n m a hi hn hm
    obtain ⟨n, rfl⟩ : ∃ n', n = n' + 1 := ⟨n - 1, by omega⟩
    obtain ⟨m, rfl⟩ : ∃ m', m = m' + 1 := ⟨m - 1, by omega⟩
    have nle : ¬ (4 : Int32) ≤ nn i := nn_nle (n := 4) (by omega) (by omega)
    obtain ⟨I1, L1, e1, f1⟩ := ec_sumIn (L := L) a.1.1.1 a.1.1.2 a.1.2.2 hp (nn i)
    obtain ⟨J1, M1, e2, f2, l2⟩ := em_sumIn (g := g) (M := M) a.1.2.1.1 a.1.2.1.2 a.1.2.2 hp (nn i) w
    have a1 := a.to f1 f2 l2
    obtain ⟨I3, L3, e3, f3⟩ := ec_sumIn (L := L1) a1.1.1.1 a1.1.1.2 a1.1.2.2 hp v
    obtain ⟨J4, M4, e4, f4, l4⟩ := em_sumIn (g := g) (M := M1) a1.1.2.1.1 a1.1.2.1.2 a1.1.2.2 hp v w
    have a2 := a1.to f3 f4 l4
    rw [cA_bestRoom_14, m_bestRoom_19]
    simp only [bnd_e, cal_s, onr_s, jon_e, gI_hw, gL_hw, gT_hw, gR_hw, gN_hw, sI_hw, sL_hw, cV_hw, shS_hw, shC_hw, shL_hw, ← bt_def, if_neg nle, e1, e2, e3, e4, nn_succ]
    by_cases z : zrsum K w S p (nn i) ≤ zrsum K w S p v
    · rw [if_pos z, if_pos z]; exact ih _ _ _ _ _ _ _ _ a2 (by omega) (by omega) (by omega)
    · rw [if_neg z, if_neg z]; exact ih _ _ _ _ _ _ _ _ a2 (by omega) (by omega) (by omega)
theorem b_bestRoom {I J : Nat → Nat → Int32} {L M : Nat → Nat → Int64} (a : At h I0 J0 M0 c K A w S I J M) (p : Int32) : B2 h g I0 J0 M0 (cA_bestRoom p (hw h I L)) (m_bestRoom p (hw g J M)) := by
  have a := a.thr
  have W := a.1.1.1
  have V := a.1.2.1.1
  have hP := W.p5
  simp only [cA_bestRoom, m_bestRoom, bnd_e, cal_s, onr_s, jon_e, gI_hw, gL_hw, gT_hw, gR_hw, gN_hw, sI_hw, sL_hw, cV_hw, shS_hw, shC_hw, shL_hw, ← bt_def, ec_isPerson W, em_isPerson V, bI_eq0]
  cases z : zin p (zP K) with
  | false => simp only [eq_self, Bool.true_eq_false, if_true, if_false]; exact a.end _
  | true =>
    simp only [eq_self, Bool.true_eq_false, if_true, if_false]
    obtain ⟨i, hi, rfl⟩ := zin_t (by omega) z
    exact b_bestRoom1 hi 3 1 0 _ _ L M FU FU a (by omega) (by show _ < 1000; omega) (by show _ < 1000; omega)
end B5
