/-! PURE LEVEL 4: bounds of laws' values; hearing, odds, asking on the component's side -/
section C4
variable {h : HP} {I I' : Nat → Nat → Int32} {L : Nat → Nat → Int64} {c o P : Nat} {K : KT} {A : Nat → Nat → Nat} {F : FT} {S : ST}
def bd (v : Int64) : Prop := -1000000000000 ≤ v.toInt ∧ v.toInt ≤ 1000000000000
theorem bd_i (x : Int32) : bd x.toInt64 := by
  unfold bd
  have h1 := Int32.le_toInt x
  have h2 := Int32.toInt_lt x
  rw [Int32.toInt_toInt64]
  omega
theorem bd_0 : bd 0 := by unfold bd; rw [show (0 : Int64).toInt = 0 from rfl]; omega
theorem bd_1 : bd 1 := by unfold bd; rw [show (1 : Int64).toInt = 1 from rfl]; omega
theorem bd_ite {p : Prop} [Decidable p] {a b : Int64} (ha : bd a) (hb : bd b) : bd (if p then a else b) := by
  by_cases q : p
  · rw [if_pos q]; exact ha
  · rw [if_neg q]; exact hb
theorem bd_sure {x v : Int64} (e : zsure x = some v) : bd v := by
  unfold zsure at e
  by_cases q1 : 0 < lg_cmp x (1000000000000 : Int64)
  · rw [if_pos q1] at e; cases e
  · rw [if_neg q1] at e
    by_cases q2 : 0 ≤ lg_cmp x (-1000000000000 : Int64)
    · rw [if_pos q2] at e
      cases e
      rw [lg_pos, Int64.lt_iff_toInt_lt, show (1000000000000 : Int64).toInt = 1000000000000 from rfl] at q1
      rw [lg_ge, Int64.lt_iff_toInt_lt, show (-1000000000000 : Int64).toInt = -1000000000000 from rfl] at q2
      unfold bd; omega
    · rw [if_neg q2] at e; cases e
theorem zabs_int {x : Int64} (hx : bd x) : (zabs x).toInt = x.toInt.natAbs := by
  unfold zabs
  unfold bd at hx
  by_cases q : 0 < x
  · rw [if_pos q]
    rw [Int64.lt_iff_toInt_lt, show (0 : Int64).toInt = 0 from rfl] at q
    omega
  · rw [if_neg q]
    rw [Int64.lt_iff_toInt_lt, show (0 : Int64).toInt = 0 from rfl] at q
    rw [Int64.toInt_neg, Int.bmod_eq_of_le (by omega) (by omega)]
    omega
theorem bd_times {x y v : Int64} (hx : bd x) (hy : bd y) (e : ztimes x y = some v) : bd v := by
  unfold ztimes at e
  by_cases q1 : lg_cmp x 0 = 0
  · rw [if_pos q1] at e
    cases e
    rw [lg0.mp q1, Int64.zero_mul]; exact bd_0
  · rw [if_neg q1] at e
    by_cases q2 : lg_cmp (zabs y) ((1000000000000 : Int64) / zabs x) ≤ 0
    · rw [if_pos q2] at e
      cases e
      rw [lg_le, Int64.lt_iff_toInt_lt, Int64.toInt_div_of_ne_left _ _ (by decide), zabs_int hy, zabs_int hx, show (1000000000000 : Int64).toInt = ((1000000000000 : Nat) : Int) from rfl, ← Int.ofNat_tdiv] at q2
      have hx0 : x.toInt.natAbs ≠ 0 := by
        intro z
        have z2 : x.toInt = 0 := by omega
        exact q1 (lg0.mpr (Int64.toInt_inj.mp (z2.trans Int64.toInt_zero.symm)))
      have q3 : y.toInt.natAbs ≤ 1000000000000 / x.toInt.natAbs := by omega
      have q4 : y.toInt.natAbs * x.toInt.natAbs ≤ 1000000000000 := (Nat.le_div_iff_mul_le (by omega)).mp q3
      have q5 : (x.toInt * y.toInt).natAbs ≤ 1000000000000 := by rw [Int.natAbs_mul, Nat.mul_comm]; exact q4
      unfold bd
      rw [Int64.toInt_mul, Int.bmod_eq_of_le (by omega) (by omega)]
      omega
    · rw [if_neg q2] at e; cases e
theorem bd_div {x y : Int64} (hx : bd x) : bd (x / y) := by
  unfold bd at hx ⊢
  have q := Int.natAbs_tdiv_le_natAbs x.toInt y.toInt
  rw [Int64.toInt_div, Int.bmod_eq_of_le (by omega) (by omega)]
  omega
theorem bd_z2 {s : Int32} {x y v : Int64} (hx : bd x) (hy : bd y) (e : z2 s x y = some v) : bd v := by
  unfold z2 at e
  by_cases s16 : s = 16
  · rw [if_pos s16] at e; cases e; exact bd_ite bd_0 (bd_ite bd_0 bd_1)
  rw [if_neg s16] at e
  by_cases s42 : s = 42
  · rw [if_pos s42] at e; exact bd_times hx hy e
  rw [if_neg s42] at e
  by_cases s43 : s = 43
  · rw [if_pos s43] at e; exact bd_sure e
  rw [if_neg s43] at e
  by_cases s45 : s = 45
  · rw [if_pos s45] at e; exact bd_sure e
  rw [if_neg s45] at e
  by_cases s47 : s = 47
  · rw [if_pos s47] at e
    by_cases z : lg_cmp y 0 = 0
    · rw [if_pos z] at e; cases e
    · rw [if_neg z] at e; cases e; exact bd_div hx
  rw [if_neg s47] at e
  by_cases s60 : s = 60
  · rw [if_pos s60] at e; cases e; exact bd_ite bd_0 bd_1
  rw [if_neg s60] at e
  by_cases s61 : s = 61
  · rw [if_pos s61] at e; cases e; exact bd_ite bd_1 bd_0
  rw [if_neg s61] at e
  by_cases s62 : s = 62
  · rw [if_pos s62] at e; cases e; exact bd_ite bd_0 bd_1
  rw [if_neg s62] at e
  by_cases s256 : s = 256
  · rw [if_pos s256] at e; cases e; exact bd_ite bd_0 bd_1
  rw [if_neg s256] at e
  by_cases s257 : s = 257
  · rw [if_pos s257] at e; cases e; exact bd_ite bd_0 bd_1
  rw [if_neg s257] at e
  by_cases s258 : s = 258
  · rw [if_pos s258] at e; cases e; exact bd_ite bd_0 bd_1
  rw [if_neg s258] at e
  cases e; exact bd_ite (bd_ite bd_0 bd_1) bd_1
theorem PDn.bd {g : HP} {N : Nat → Int64} (hN : ∀ i, i < 7 → bd (N i)) : ∀ (d p : Nat) (f : LF), PDn g I d p f → ∀ v, f N = some v → bd v
  | 0, _, _, q, _, _ => q.elim
  | d + 1, p, f, q, v, e => by
    rcases q with ⟨t, q⟩ | ⟨t, q1, q⟩ | ⟨t, a, fa, q1, q2, q⟩ | ⟨t, a, b, fa, fb, q1, q2, q3, q4, q⟩
    · rw [q] at e; cases e; exact bd_i _
    · rw [q] at e; cases e
      refine hN _ ?_
      rcases Nat.lt_or_ge (I p 0).toNatClampNeg 7 with z | z
      · exact z
      · exact absurd (Or.inr z) q1
    · rw [q] at e
      unfold zNot at e
      split at e
      · cases e
      · cases e; exact bd_ite bd_1 bd_0
    · rw [q] at e
      unfold zTwo at e
      split at e
      · cases e
      · next x ex =>
        split at e
        · cases e
        · next y ey => exact bd_z2 (PDn.bd hN d a fa q3 x ex) (PDn.bd hN d b fb q4 y ey) e
theorem zN_bd (p q : Nat) : ∀ i, i < 7 → bd (zN K F S p q i) := by
  intro i hi
  have : i = 0 ∨ i = 1 ∨ i = 2 ∨ i = 3 ∨ i = 4 ∨ i = 5 ∨ i = 6 := by omega
  rcases this with rfl | rfl | rfl | rfl | rfl | rfl | rfl <;> exact bd_i _
abbrev mnL : Int64 := -9223372036854775808
theorem bd_mn {v : Int64} (hv : bd v) : ¬ v = mnL := by
  intro e
  rw [e] at hv
  exact absurd hv.1 (by rw [show mnL.toInt = -9223372036854775808 from rfl]; omega)
theorem zlaw_bd (W : CW h I c K A) {j p q : Nat} (hj : j < 2) {v : Int64} (e : zlaw K j (zN K F S p q) = some v) : bd v := by
  have q := W.2.1.2.2.2.2.2.2.2.2.2 j hj
  unfold CL at q
  unfold zlaw at e
  split at e
  · cases e
  · next f ef =>
    rw [ef] at q
    obtain ⟨a, -, q2⟩ := q
    exact PDn.bd (zN_bd _ _) _ _ _ q2 v e
theorem ec_bc (x : Int32) : kJ18_bitCount x (hw h I L) = some (zbc x, hw h I L) := rfl
theorem ec_wit (W : CW h I c K A) (s : shS (cV h) o) (e7 : I o 7 = F.1) {p : Nat} (hp : p < zP K) : cS_wit o (nn p) (hw h I L) = some (zwit K F p, hw h I L) := by
  obtain ⟨t, e0, e1, e2, e3, e4⟩ := W.fP hp
  simp only [cS_wit, bnd_e, cal_s, onr_s, jon_e, gI_hw, gL_hw, gT_hw, gR_hw, gN_hw, sI_hw, sL_hw, cV_hw, shS_hw, shC_hw, shL_hw, ← bt_def, grd_pos s, e7, W.1, grd_pos W.2.1.1, grd_pos W.2.1.2.1.2.1, ec_getP W hp, grd_pos t, e2, zwit]
  by_cases q : F.1 = 4
  · rw [if_pos q, if_pos q]
  · rw [if_neg q, if_neg q]
theorem ib0 : inb (0 : Int32) 7 := by decide
theorem ib1 : inb (1 : Int32) 7 := by decide
theorem ib2 : inb (2 : Int32) 7 := by decide
theorem ib3 : inb (3 : Int32) 7 := by decide
theorem ib4 : inb (4 : Int32) 7 := by decide
theorem ib5 : inb (5 : Int32) 7 := by decide
theorem ib6 : inb (6 : Int32) 7 := by decide
theorem tn0 : (0 : Int32).toNatClampNeg = 0 := rfl
theorem tn1 : (1 : Int32).toNatClampNeg = 1 := rfl
theorem tn2 : (2 : Int32).toNatClampNeg = 2 := rfl
theorem tn3 : (3 : Int32).toNatClampNeg = 3 := rfl
theorem tn4 : (4 : Int32).toNatClampNeg = 4 := rfl
theorem tn5 : (5 : Int32).toNatClampNeg = 5 := rfl
theorem tn6 : (6 : Int32).toNatClampNeg = 6 := rfl
def nmL (L : Nat → Nat → Int64) (a : Nat) (N : Nat → Int64) : Nat → Nat → Int64 := u2 (u2 (u2 (u2 (u2 (u2 (u2 L a 0 (N 0)) a 1 (N 1)) a 2 (N 2)) a 3 (N 3)) a 4 (N 4)) a 5 (N 5)) a 6 (N 6)
theorem nmL_at (L : Nat → Nat → Int64) (a : Nat) (N : Nat → Int64) : ∀ i, i < 7 → nmL L a N a i = N i := by
  intro i hi
  have : i = 0 ∨ i = 1 ∨ i = 2 ∨ i = 3 ∨ i = 4 ∨ i = 5 ∨ i = 6 := by omega
  rcases this with rfl | rfl | rfl | rfl | rfl | rfl | rfl <;> simp [nmL, u2_app]
theorem nmL_ne (L : Nat → Nat → Int64) (a : Nat) (N : Nat → Int64) {x : Nat} (hx : x ≠ a) : nmL L a N x = L x := by
  unfold nmL
  rw [u2_ne hx, u2_ne hx, u2_ne hx, u2_ne hx, u2_ne hx, u2_ne hx, u2_ne hx]
theorem ec_name (W : CW h I c K A) (s : shS (cV h) o) (hS : StC I o (zP K) F S) {p q : Nat} (hp : p < zP K) : cS_name o (nn p) (zt K 8 q) (hw h I L) = some ((), hw h I (nmL L 14 (zN K F S p q))) := by
  have hP := W.p5
  have hp2 : p < 2147483648 := by omega
  have i1 : inb (nn p) 5 := nn_inb hp2 (by omega)
  obtain ⟨t, e0, e1, e2, e3, e4⟩ := W.fP hp
  obtain ⟨s1, s2, s3, s4, s5⟩ := hS
  obtain ⟨k1, k2, k3, k4⟩ := s1 p hp
  simp only [cS_name, bnd_e, cal_s, onr_s, jon_e, gI_hw, gL_hw, gT_hw, gR_hw, gN_hw, sI_hw, sL_hw, cV_hw, shS_hw, shC_hw, shL_hw, ← bt_def, grd_pos s, W.1, grd_pos W.2.1.1, grd_pos W.2.1.2.1.2.1, ec_getP W hp, grd_pos t, grd_pos ib0, grd_pos ib1, grd_pos ib2, grd_pos ib3, grd_pos ib4, grd_pos ib5, grd_pos ib6, tn0, tn1, tn2, tn3, tn4, tn5, tn6, e1, ec_wit W s s3 hp, grd_pos i1, nn_clamp hp2, k1, k3, ec_bc, s2, s3]
  by_cases q3 : F.1 = 1
  · rw [if_pos q3] at k2
    rw [if_pos q3]
    unfold nmL
    simp only [zN]
    rw [← k2]; rfl
  · rw [if_neg q3] at k2
    rw [if_neg q3, k2]; rfl
theorem ec_work (W : CW h I c K A) {j : Nat} (hj : j < 2) {N : Nat → Int64} (hN : ∀ i, i < 7 → L 14 i = N i) : cA_work (nn j) (hw h I L) = some ((zlaw K j N).getD mnL, hw h I L) := by
  have i1 : inb (nn j) 2 := nn_inb (by omega) hj
  have q := W.2.1.2.2.2.2.2.2.2.2.2 j hj
  unfold CL at q
  simp only [cA_work, cA_workX, bnd_e, cal_s, onr_s, jon_e, gI_hw, gL_hw, gT_hw, gR_hw, gN_hw, sI_hw, sL_hw, cV_hw, shS_hw, shC_hw, shL_hw, ← bt_def, W.1, grd_pos W.2.1.1, grd_pos i1, nn_clamp (show j < 2147483648 by omega)]
  unfold zlaw
  cases e : zl K j with
  | none =>
    rw [e] at q
    rw [if_pos q]; rfl
  | some f =>
    rw [e] at q
    obtain ⟨p, q1, q2⟩ := q
    rw [if_neg (by rw [q1]; exact fun z => by cases z), q1, onr_some, ec_of hN _ _ _ q2]
    show unx (calk1 2 (some (zres (f N), hw h I L)) _ _) = some ((f N).getD mnL, hw h I L)
    cases f N <;> rfl
end C4
