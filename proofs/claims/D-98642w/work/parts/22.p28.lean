/-! PURE LEVEL 28: rests, rest -/
def zirN (K : KT) (F : FT) (S : ST) (o t a b : Nat) : Nat → Bool
  | 0 => true
  | n + 1 => zirN K F S o t a b n && (decide (¬ zgain S (zdu K F S o t a b) o < zgain S (zdu K F S o t n b) o) && decide (¬ zgain S (zdu K F S o t a b) t < zgain S (zdu K F S o t a n) t))
theorem and_stay {f : Nat → Bool} {e : Nat → Bool} (hf : ∀ n, f (n + 1) = (f n && e n)) {i : Nat} (h : f i = false) : ∀ d, f (i + d) = false
  | 0 => h
  | d + 1 => by rw [show i + (d + 1) = (i + d) + 1 by omega, hf, and_stay hf h d]; rfl
section B10
variable {h g : HP} {I0 J0 : Nat → Nat → Int32} {M0 : Nat → Nat → Int64} {c : Nat} {K : KT} {A : Nat → Nat → Nat} {w : Int32} {S : ST}
theorem ec_isRest1 {I : Nat → Nat → Int32} {L : Nat → Nat → Int64} (W : CW h I c K A) {F : FT} {o t : Nat} (d : DuC I K F S o t (zQ K + 1) 0) {a b : Nat} (ha : a ≤ zQ K) (hb : b ≤ zQ K) : ∀ (j i n : Nat), i + j = zQ K + 1 → j < n → zirN K F S o t a b i = true → cA_isRest_6 (nn a) (nn b) 9 (fun h6 => some (1, h6)) n (nn i) (hw h I L) = some (bI (zirN K F S o t a b (zQ K + 1)), hw h I L) := by
  have hQ := W.q8
  intro j
  induction j with
  | zero =>
    intro i n hi hn hz
    obtain ⟨n, rfl⟩ : ∃ n', n = n' + 1 := ⟨n - 1, by omega⟩
    rw [cA_isRest_6]
    simp only [bnd_e, cal_s, onr_s, jon_e, gI_hw, gL_hw, gT_hw, gR_hw, gN_hw, sI_hw, sL_hw, cV_hw, shS_hw, shC_hw, shL_hw, ← bt_def, ec_questions W, if_pos (nn_plt (show zQ K < i by omega) (show i < 2147483648 by omega))]
    rw [show zQ K + 1 = i by omega, hz]; rfl
  | succ j ih =>
    intro i n hi hn hz
    obtain ⟨n, rfl⟩ : ∃ n', n = n' + 1 := ⟨n - 1, by omega⟩
    have hiq : i ≤ zQ K := by omega
    have d1 := d i b (by omega) hb
    have d2 := d a b (by omega) hb
    have d3 := d a i (by omega) hiq
    rw [cA_isRest_6]
    simp only [bnd_e, cal_s, onr_s, jon_e, gI_hw, gL_hw, gT_hw, gR_hw, gN_hw, sI_hw, sL_hw, cV_hw, shS_hw, shC_hw, shL_hw, ← bt_def, ec_questions W, if_neg (nn_nlt hiq (show zQ K < 2147483648 by omega)), n9, grd_pos (show inb (nn (9 * i + b)) 81 from nn_inb (by omega) (by omega)), grd_pos (show inb (nn (9 * a + b)) 81 from nn_inb (by omega) (by omega)), grd_pos (show inb (nn (9 * a + i)) 81 from nn_inb (by omega) (by omega)), nn_clamp (show 9 * i + b < 2147483648 by omega), nn_clamp (show 9 * a + b < 2147483648 by omega), nn_clamp (show 9 * a + i < 2147483648 by omega), d1.1, d2.1, d2.2, d3.2, nn_succ]
    have e1 : zirN K F S o t a b (i + 1) = (zirN K F S o t a b i && (decide (¬ zgain S (zdu K F S o t a b) o < zgain S (zdu K F S o t i b) o) && decide (¬ zgain S (zdu K F S o t a b) t < zgain S (zdu K F S o t a i) t))) := rfl
    have bad : zirN K F S o t a b (i + 1) = false → zirN K F S o t a b (zQ K + 1) = false := fun q => by
      have := and_stay (f := zirN K F S o t a b) (fun n => rfl) q j
      rw [show i + 1 + j = zQ K + 1 by omega] at this; exact this
    by_cases z1 : zgain S (zdu K F S o t a b) o < zgain S (zdu K F S o t i b) o
    · rw [if_pos z1, bad (by rw [e1, decide_eq_false (fun y => y z1), Bool.false_and, Bool.and_false])]; rfl
    · rw [if_neg z1]
      by_cases z2 : zgain S (zdu K F S o t a b) t < zgain S (zdu K F S o t a i) t
      · rw [if_neg (Int32.not_le.mpr z2), bad (by rw [e1, decide_eq_true z1, decide_eq_false (show ¬ ¬ zgain S (zdu K F S o t a b) t < zgain S (zdu K F S o t a i) t from fun y => y z2), Bool.and_false, Bool.and_false])]; rfl
      · rw [if_pos (Int32.not_lt.mp z2)]
        exact ih (i + 1) n (by omega) (by omega) (by rw [e1, hz, decide_eq_true z1, decide_eq_true z2]; rfl)
theorem em_isRest1 {J : Nat → Nat → Int32} {M : Nat → Nat → Int64} {F : FT} {o t : Nat} (hQ : zQ K ≤ 8) (d : DuM J K F S o t ((zQ K + 1) * (zQ K + 1))) {a b : Nat} (ha : a ≤ zQ K) (hb : b ≤ zQ K) (f3 f5 : Int32) : ∀ (j i n : Nat), i + j = zQ K + 1 → j < n → ∀ k, m_restAt_175 f3 (nn (zQ K + 1)) f5 (nn ((zQ K + 1) * a + b)) k n (bI (zirN K F S o t a b i)) (nn i) (hw g J M) = k (bI (zirN K F S o t a b (zQ K + 1))) (hw g J M) := by
  have hm : ∀ x y, x ≤ zQ K → y ≤ zQ K → (zQ K + 1) * x + y < (zQ K + 1) * (zQ K + 1) ∧ ((zQ K + 1) * x + y) / (zQ K + 1) = x ∧ ((zQ K + 1) * x + y) % (zQ K + 1) = y := by
    intro x y hx hy
    refine ⟨?_, ?_, ?_⟩
    · have := Nat.mul_le_mul_left (zQ K + 1) hx
      rw [Nat.mul_add (zQ K + 1) (zQ K) 1]; omega
    · rw [Nat.mul_add_div (by omega), Nat.div_eq_of_lt (by omega), Nat.add_zero]
    · rw [Nat.mul_add_mod, Nat.mod_eq_of_lt (by omega)]
  have h81 : (zQ K + 1) * (zQ K + 1) ≤ 81 := Nat.mul_le_mul (show zQ K + 1 ≤ 9 by omega) (show zQ K + 1 ≤ 9 by omega)
  obtain ⟨l0, q0, r0⟩ := hm a b ha hb
  have n0 : ¬ nn (zQ K + 1) = 0 := by rw [← nn0, nn_eq (by omega) (by omega)]; omega
  have c0 : (zQ K + 1) * a + b < 2147483648 := by omega
  have km : nn ((zQ K + 1) * a + b) - nn a * nn (zQ K + 1) = nn b := by
    have := nn_mod c0 (show zQ K + 1 < 2147483648 by omega)
    rw [q0, r0] at this; exact this
  intro j
  induction j with
  | zero =>
    intro i n hi hn k
    obtain ⟨n, rfl⟩ : ∃ n', n = n' + 1 := ⟨n - 1, by omega⟩
    rw [m_restAt_175, if_pos (nn_ple (by omega) (by omega)), show zQ K + 1 = i by omega]
  | succ j ih =>
    intro i n hi hn k
    obtain ⟨n, rfl⟩ : ∃ n', n = n' + 1 := ⟨n - 1, by omega⟩
    have hiq : i ≤ zQ K := by omega
    obtain ⟨l1, q1, r1⟩ := hm i b hiq hb
    obtain ⟨l2, q2, r2⟩ := hm a i ha hiq
    have d1 := (d _ l1).1
    have d2 := d _ l0
    have d3 := (d _ l2).2
    rw [q1, r1] at d1
    rw [q0, r0] at d2
    rw [q2, r2] at d3
    have e := ih (i + 1) n (by omega) (by omega) k
    have e1 : zirN K F S o t a b (i + 1) = (zirN K F S o t a b i && (decide (¬ zgain S (zdu K F S o t a b) o < zgain S (zdu K F S o t i b) o) && decide (¬ zgain S (zdu K F S o t a b) t < zgain S (zdu K F S o t a i) t))) := rfl
    rw [e1] at e
    have k1 : nn (zQ K + 1) * nn i + nn b = nn ((zQ K + 1) * i + b) := by rw [nn_mul, nn_add]
    have k2 : nn a * nn (zQ K + 1) + nn i = nn ((zQ K + 1) * a + i) := by rw [nn_mul, nn_add, Nat.mul_comm]
    rw [m_restAt_175, if_neg (nn_nle (show i < zQ K + 1 by omega) (by omega))]
    simp only [bnd_e, cal_s, onr_s, jon_e, gI_hw, gL_hw, gT_hw, gR_hw, gN_hw, sI_hw, sL_hw, cV_hw, shS_hw, shC_hw, shL_hw, ← bt_def, nn_div c0 (show zQ K + 1 < 2147483648 by omega), q0, km, grd_pos n0, k1, k2, grd_pos (show inb (nn ((zQ K + 1) * i + b)) 81 from nn_inb (by omega) (by omega)), grd_pos (show inb (nn ((zQ K + 1) * a + b)) 81 from nn_inb (by omega) (by omega)), grd_pos (show inb (nn ((zQ K + 1) * a + i)) 81 from nn_inb (by omega) (by omega)), nn_clamp (show (zQ K + 1) * i + b < 2147483648 by omega), nn_clamp c0, nn_clamp (show (zQ K + 1) * a + i < 2147483648 by omega), d1, d2.1, d2.2, d3, nn_succ, bI_eq0]
    cases z0 : zirN K F S o t a b i with
    | false =>
      rw [z0, Bool.false_and, bI_f] at e
      rw [if_pos rfl]; exact e
    | true =>
      rw [z0, Bool.true_and] at e
      rw [if_neg (by decide)]
      by_cases z1 : zgain S (zdu K F S o t a b) o < zgain S (zdu K F S o t i b) o
      · rw [decide_eq_false (fun y => y z1), Bool.false_and, bI_f] at e
        rw [if_pos z1]; exact e
      · rw [decide_eq_true z1, Bool.true_and] at e
        rw [if_neg z1]
        by_cases z2 : zgain S (zdu K F S o t a b) t < zgain S (zdu K F S o t a i) t
        · rw [decide_eq_false (fun y => y z2), bI_f] at e
          rw [if_pos z2]; exact e
        · rw [decide_eq_true z2, bI_t] at e
          rw [if_neg z2]; exact e
theorem b_rest2 {o t : Nat} (x : Int32) {a : Nat} (ha : a ≤ zQ K) (kc : Int32 → HP → Option (Int32 × HP)) (km : Int32 → HP → Option (Int32 × HP)) {I J : Nat → Nat → Int32} {L M : Nat → Nat → Int64} (A' : At h I0 J0 M0 c K A w S I J M) (d : DuC I K (-1, w, 0) S o t (zQ K + 1) 0) (e : DuM J K (-1, w, 0) S o t ((zQ K + 1) * (zQ K + 1))) : ∀ (j b : Nat) (v : Int32) (n m : Nat), b + j = zQ K + 1 → j < n → j + (zQ K - a) * (zQ K + 1) < m → (∀ v m', (zQ K - a) * (zQ K + 1) < m' → B2 h g I0 J0 M0 (kc v (hw h I L)) (m_restAt_159 x (nn (zQ K + 1)) km m' v (nn ((zQ K + 1) * (a + 1))) (hw g J M))) → B2 h g I0 J0 M0 (cA_restOf_15 x (nn a) kc n v (nn b) (hw h I L)) (m_restAt_159 x (nn (zQ K + 1)) km m v (nn ((zQ K + 1) * a + b)) (hw g J M)) := by
  have W := A'.1.1.1
  have hQ := W.q8
  have h81 : (zQ K + 1) * (zQ K + 1) ≤ 81 := Nat.mul_le_mul (show zQ K + 1 ≤ 9 by omega) (show zQ K + 1 ≤ 9 by omega)
  have n0 : ¬ nn (zQ K + 1) = 0 := by rw [← nn0, nn_eq (by omega) (by omega)]; omega
  intro j
  induction j with
  | zero =>
    intro b v n m hb hn hm hk
    obtain ⟨n, rfl⟩ : ∃ n', n = n' + 1 := ⟨n - 1, by omega⟩
    have e1 : (zQ K + 1) * a + b = (zQ K + 1) * (a + 1) := by rw [Nat.mul_add (zQ K + 1) a 1]; omega
    rw [cA_restOf_15, e1]
    simp only [bnd_e, cal_s, onr_s, jon_e, gI_hw, gL_hw, gT_hw, gR_hw, gN_hw, sI_hw, sL_hw, cV_hw, shS_hw, shC_hw, shL_hw, ← bt_def, ec_questions W, if_pos (nn_plt (show zQ K < b by omega) (show b < 2147483648 by omega))]
    exact hk v m (by omega)
  | succ j ih =>
    intro b v n m hb hn hm hk
    obtain ⟨n, rfl⟩ : ∃ n', n = n' + 1 := ⟨n - 1, by omega⟩
    obtain ⟨m, rfl⟩ : ∃ m', m = m' + 1 := ⟨m - 1, by omega⟩
    have hbq : b ≤ zQ K := by omega
    have lt : (zQ K + 1) * a + b < (zQ K + 1) * (zQ K + 1) := by
      have := Nat.mul_le_mul_left (zQ K + 1) ha
      rw [Nat.mul_add (zQ K + 1) (zQ K) 1]; omega
    have q0 : ((zQ K + 1) * a + b) / (zQ K + 1) = a := by rw [Nat.mul_add_div (by omega), Nat.div_eq_of_lt (by omega), Nat.add_zero]
    have r0 : ((zQ K + 1) * a + b) % (zQ K + 1) = b := by rw [Nat.mul_add_mod, Nat.mod_eq_of_lt (by omega)]
    have c0 : (zQ K + 1) * a + b < 2147483648 := by omega
    have km' : nn ((zQ K + 1) * a + b) - nn a * nn (zQ K + 1) = nn b := by
      have := nn_mod c0 (show zQ K + 1 < 2147483648 by omega)
      rw [q0, r0] at this; exact this
    have c1 := ec_isRest1 (L := L) W d ha hbq (zQ K + 1) 0 FU (by omega) (by show _ < 1000; omega) rfl
    have c2 := em_isRest1 (g := g) (M := M) hQ e ha hbq x v (zQ K + 1) 0 FU (by omega) (by show _ < 1000; omega)
    rw [nn0] at c1 c2
    rw [show zirN K (-1, w, 0) S o t a b 0 = true from rfl, bI_t] at c2
    have nx := fun v => ih (b + 1) v n m (by omega) (by omega) (by omega) hk
    rw [show (zQ K + 1) * a + (b + 1) = (zQ K + 1) * a + b + 1 by omega] at nx
    rw [cA_restOf_15, m_restAt_159, nn_mul, if_neg (nn_nle lt (by omega))]
    simp only [bnd_e, cal_s, onr_s, jon_e, gI_hw, gL_hw, gT_hw, gR_hw, gN_hw, sI_hw, sL_hw, cV_hw, shS_hw, shC_hw, shL_hw, ← bt_def, cA_isRest, ec_questions W, if_neg (nn_nlt hbq (show zQ K < 2147483648 by omega)), c1, c2, bI_eq0, nn_div c0 (show zQ K + 1 < 2147483648 by omega), q0, km', grd_pos n0, nn_succ]
    cases z : zirN K (-1, w, 0) S o t a b (zQ K + 1) with
    | false => simp only [eq_self, Bool.true_eq_false, if_true, if_false]; exact nx v
    | true =>
      simp only [eq_self, Bool.true_eq_false, if_true, if_false]
      by_cases z2 : v = x
      · rw [if_pos z2, if_pos z2]; exact A'.end _
      · rw [if_neg z2, if_neg z2]; exact nx (v + 1)
theorem b_rest1 {o t : Nat} (x : Int32) (hx : x = -1 ∨ 0 ≤ x) {I J : Nat → Nat → Int32} {L M : Nat → Nat → Int64} (A' : At h I0 J0 M0 c K A w S I J M) (d : DuC I K (-1, w, 0) S o t (zQ K + 1) 0) (e : DuM J K (-1, w, 0) S o t ((zQ K + 1) * (zQ K + 1))) : ∀ (j a : Nat) (v : Int32) (n m : Nat), a + j = zQ K + 1 → j < n → j * (zQ K + 1) < m → B2 h g I0 J0 M0 (cA_restOf_4 x (fun x16 h17 => if x = -1 then some (x16, h17) else some (-2, h17)) n v (nn a) (hw h I L)) (m_restAt_159 x (nn (zQ K + 1)) (fun x47 h48 => if 0 ≤ x then some (-2, h48) else some (x47, h48)) m v (nn ((zQ K + 1) * a)) (hw g J M)) := by
  have W := A'.1.1.1
  have hQ := W.q8
  have h81 : (zQ K + 1) * (zQ K + 1) ≤ 81 := Nat.mul_le_mul (show zQ K + 1 ≤ 9 by omega) (show zQ K + 1 ≤ 9 by omega)
  intro j
  induction j with
  | zero =>
    intro a v n m ha hn hm
    obtain ⟨n, rfl⟩ : ∃ n', n = n' + 1 := ⟨n - 1, by omega⟩
    obtain ⟨m, rfl⟩ : ∃ m', m = m' + 1 := ⟨m - 1, by omega⟩
    rw [cA_restOf_4, m_restAt_159, nn_mul, show a = zQ K + 1 by omega, if_pos (nn_ple (Nat.le_refl _) (by omega))]
    simp only [bnd_e, cal_s, onr_s, jon_e, gI_hw, gL_hw, gT_hw, gR_hw, gN_hw, sI_hw, sL_hw, cV_hw, shS_hw, shC_hw, shL_hw, ← bt_def, ec_questions W, if_pos (nn_plt (show zQ K < zQ K + 1 by omega) (show zQ K + 1 < 2147483648 by omega))]
    rcases hx with hx | hx
    · rw [if_pos hx, if_neg (by rw [hx]; decide)]; exact A'.end _
    · rw [if_neg (fun y => by rw [y] at hx; exact absurd hx (by decide)), if_pos hx]; exact A'.end _
  | succ j ih =>
    intro a v n m ha hn hm
    obtain ⟨n, rfl⟩ : ∃ n', n = n' + 1 := ⟨n - 1, by omega⟩
    have haq : a ≤ zQ K := by omega
    have e1 : (zQ K - a) = j := by omega
    rw [cA_restOf_4]
    simp only [bnd_e, cal_s, onr_s, jon_e, gI_hw, gL_hw, gT_hw, gR_hw, gN_hw, sI_hw, sL_hw, cV_hw, shS_hw, shC_hw, shL_hw, ← bt_def, ec_questions W, if_neg (nn_nlt haq (show zQ K < 2147483648 by omega)), nn_succ]
    have hm' : (j + 1) * (zQ K + 1) = j * (zQ K + 1) + (zQ K + 1) := by rw [Nat.add_mul, Nat.one_mul]
    exact b_rest2 (S := S) x haq _ _ A' d e (zQ K + 1) 0 v FU m (by omega) (by show _ < 1000; omega) (by rw [e1]; omega) (fun v m' hm2 => ih (a + 1) v n m' (by omega) (by omega) (by rw [e1] at hm2; exact hm2))
theorem ec_areTwo {I : Nat → Nat → Int32} {L : Nat → Nat → Int64} (W : CW h I c K A) (x y : Int32) : cA_areTwo x y (hw h I L) = some (bI (zin x (zP K) && (zin y (zP K) && decide (¬ x = y))), hw h I L) := by
  simp only [cA_areTwo, bnd_e, cal_s, onr_s, jon_e, gI_hw, gL_hw, gT_hw, gR_hw, gN_hw, sI_hw, sL_hw, cV_hw, shS_hw, shC_hw, shL_hw, ← bt_def, ec_isPerson W, bI_eq0]
  cases zin x (zP K) <;> cases zin y (zP K) <;> by_cases z : x = y <;> simp [z, bI]
theorem b_duel {I J : Nat → Nat → Int32} {L M : Nat → Nat → Int64} (a : At h I0 J0 M0 c K A w S I J M) (x y : Int32) : (∃ i j, i < zP K ∧ j < zP K ∧ x = nn i ∧ y = nn j ∧ cA_isDuel x y (hw h I L) = some (1, hw h I L) ∧ m_areTwo x y (hw g J M) = some (1, hw g J M)) ∨ (cA_isDuel x y (hw h I L) = some (0, hw h I L) ∧ m_areTwo x y (hw g J M) = some (0, hw g J M)) := by
  have W := a.1.1.1
  have V := a.1.2.1.1
  have hP := W.p5
  simp only [cA_isDuel, m_areTwo, ec_areTwo W, em_isPerson V, bnd_e, cal_s, onr_s, jon_e, gI_hw, gL_hw, gT_hw, gR_hw, gN_hw, sI_hw, sL_hw, cV_hw, shS_hw, shC_hw, shL_hw, ← bt_def, bI_eq0]
  cases z : zin x (zP K) with
  | false => right; exact ⟨rfl, rfl⟩
  | true =>
    cases z2 : zin y (zP K) with
    | false => right; exact ⟨rfl, rfl⟩
    | true =>
      obtain ⟨i, hi, rfl⟩ := zin_t (by omega) z
      obtain ⟨j, hj, rfl⟩ := zin_t (by omega) z2
      by_cases z3 : nn i = nn j
      · right
        rw [decide_eq_false (fun q => q z3)]
        simp only [Bool.and_false, if_true, Bool.true_eq_false, if_false, if_pos z3]
        refine ⟨?_, ?_⟩ <;> first | trivial | rfl
      · have a1 : I 22 i = sr S i := by have := (a.1.1.2.1 i hi).2.1; rw [if_neg (show ¬ (-1 : Int32) = 1 by decide)] at this; exact this
        have a2 : I 22 j = sr S j := by have := (a.1.1.2.1 j hj).2.1; rw [if_neg (show ¬ (-1 : Int32) = 1 by decide)] at this; exact this
        have a3 : J 31 i = sr S i := by have := (a.1.2.1.2.1 i hi).2.1; rw [show 5 * 0 + i = i by omega] at this; exact this
        have a4 : J 31 j = sr S j := by have := (a.1.2.1.2.1 j hj).2.1; rw [show 5 * 0 + j = j by omega] at this; exact this
        rw [decide_eq_true z3]
        simp only [Bool.and_true, Bool.true_eq_false, if_false, if_neg z3, grd_pos (show inb (nn i) 5 from nn_inb (by omega) (by omega)), grd_pos (show inb (nn j) 5 from nn_inb (by omega) (by omega)), grd_pos (show inb (nn i) 10 from nn_inb (by omega) (by omega)), grd_pos (show inb (nn j) 10 from nn_inb (by omega) (by omega)), nn_clamp (show i < 2147483648 by omega), nn_clamp (show j < 2147483648 by omega), a1, a2, a3, a4]
        by_cases z4 : sr S i = sr S j
        · left
          refine ⟨i, j, hi, hj, rfl, rfl, if_pos z4, if_pos z4⟩
        · right; exact ⟨if_neg z4, if_neg z4⟩
theorem b_restAt {I J : Nat → Nat → Int32} {L M : Nat → Nat → Int64} (a : At h I0 J0 M0 c K A w S I J M) {o t : Nat} (ho : o < zP K) (ht : t < zP K) (x : Int32) (hx : x = -1 ∨ 0 ≤ x) : B2 h g I0 J0 M0 (cal (cA_layDuel (nn o) (nn t) (hw h I L)) (fun r3 h4 => cal (cA_restOf x h4) (fun r5 h6 => some (r5, h6)))) (cal (m_restAt (nn o) (nn t) x (hw g J M)) (fun r4 h5 => some (r4, h5))) := by
  have W := a.1.1.1
  have V := a.1.2.1.1
  have hQ := W.q8
  have h81 : (zQ K + 1) * (zQ K + 1) ≤ 81 := Nat.mul_le_mul (show zQ K + 1 ≤ 9 by omega) (show zQ K + 1 ≤ 9 by omega)
  obtain ⟨I1, L1, e1, d1, f1⟩ := ec_layDuel (L := L) W a.1.1.2 ho ht
  obtain ⟨J1, M1, e2, d2, f2, l2⟩ := em_du (g := g) (w := w) ho ht a.1.2.2 x ((zQ K + 1) * (zQ K + 1)) 0 J M FU V a.1.2.1.2 (fun y hy => by omega) (by omega) (by show _ < 1000; omega)
  rw [nn0] at e2
  have a2 := a.to f1 f2 l2
  obtain ⟨r, I', L', J', M', b1, b2, b3⟩ := b_rest1 (g := g) (L := L1) x hx a2 d1 d2 (zQ K + 1) 0 0 FU FU (by omega) (by show _ < 1000; omega) (by show _ < 1000; omega)
  rw [nn0] at b1
  rw [Nat.mul_zero, nn0] at b2
  refine ⟨r, I', L', J', M', ?_, ?_, b3⟩
  · simp only [e1, cA_restOf, bnd_e, cal_s, onr_s, jon_e, gI_hw, gL_hw, gT_hw, gR_hw, gN_hw, sI_hw, sL_hw, cV_hw, shS_hw, shC_hw, shL_hw, ← bt_def, b1]
  · simp only [m_restAt, bnd_e, cal_s, onr_s, jon_e, gI_hw, gL_hw, gT_hw, gR_hw, gN_hw, sI_hw, sL_hw, cV_hw, shS_hw, shC_hw, shL_hw, ← bt_def, V.1.1.2.2.1, nn_succ, e2, b2]
theorem b_rests {I J : Nat → Nat → Int32} {L M : Nat → Nat → Int64} (a : At h I0 J0 M0 c K A w S I J M) (x y : Int32) : B2 h g I0 J0 M0 (cA_rests x y (hw h I L)) (m_rests x y (hw g J M)) := by
  have a := a.thr
  rcases b_duel (g := g) (L := L) (M := M) a x y with ⟨i, j, hi, hj, rfl, rfl, e1, e2⟩ | ⟨e1, e2⟩
  · simp only [cA_rests, m_rests, bnd_e, sI_hw, e1, e2, cal_s, if_neg i10]
    exact b_restAt a hi hj (-1) (Or.inl rfl)
  · simp only [cA_rests, m_rests, bnd_e, sI_hw, e1, e2, cal_s, if_true]
    exact a.end _
theorem b_rest {I J : Nat → Nat → Int32} {L M : Nat → Nat → Int64} (a : At h I0 J0 M0 c K A w S I J M) (x y z : Int32) : B2 h g I0 J0 M0 (cA_rest x y z (hw h I L)) (m_rest x y z (hw g J M)) := by
  have a := a.thr
  rcases b_duel (g := g) (L := L) (M := M) a x y with ⟨i, j, hi, hj, rfl, rfl, e1, e2⟩ | ⟨e1, e2⟩
  · simp only [cA_rest, m_rest, bnd_e, sI_hw, e1, e2, cal_s, if_neg i10]
    by_cases z0 : 0 ≤ z
    · rw [if_pos z0, if_neg (Int32.not_lt.mpr z0)]
      exact b_restAt a hi hj z (Or.inr z0)
    · rw [if_neg z0, if_pos (Int32.not_le.mp z0)]; exact a.end _
  · simp only [cA_rest, m_rest, bnd_e, sI_hw, e1, e2, cal_s, if_true]
    exact a.end _
end B10
