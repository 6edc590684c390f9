/-! PURE LEVEL 11: laws on the model's side -/
def mkc (k : Int32) : Int32 := if k = 3 then 16 else if k = 4 then 15 else if k = 5 then 60 else if k = 6 then 256 else if k = 7 then 61 else if k = 8 then 258 else if k = 9 then 257 else if k = 10 then 62 else if k = 11 then 43 else if k = 12 then 45 else if k = 13 then 42 else 47
/-- the knots s .. e mean f -/
def SDn (kn pt ot : Nat → Int32) : Nat → Nat → Nat → LF → Prop
  | 0, _, _, _ => False
  | d + 1, s, e, f => (s = e ∧ kn e = 0 ∧ f = fun _ => some (pt e).toInt64) ∨ (s = e ∧ kn e = 1 ∧ inb (pt e) 7 ∧ f = fun N => some (N (pt e).toNatClampNeg)) ∨ (∃ e1 fa, e = e1 + 1 ∧ kn e = 2 ∧ pt e = nn e1 ∧ SDn kn pt ot d s e1 fa ∧ f = zNot fa) ∨ (∃ k e1 e2 fa fb, e = e2 + 1 ∧ (3 ≤ k ∧ k ≤ 14) ∧ kn e = nn k ∧ pt e = nn e1 ∧ ot e = nn e2 ∧ SDn kn pt ot d s e1 fa ∧ SDn kn pt ot d (e1 + 1) e2 fb ∧ f = zTwo (mkc (nn k)) fa fb)
theorem SDn.le1 {kn pt ot : Nat → Int32} : ∀ (d s e : Nat) (f : LF), SDn kn pt ot d s e f → s ≤ e
  | 0, _, _, _, q => q.elim
  | d + 1, s, e, f, q => by
    rcases q with ⟨q, -⟩ | ⟨q, -⟩ | ⟨e1, fa, q1, -, -, q2, -⟩ | ⟨k, e1, e2, fa, fb, q1, -, -, -, -, q2, q3, -⟩
    · omega
    · omega
    · have := SDn.le1 d s e1 fa q2; omega
    · have := SDn.le1 d s e1 fa q2
      have := SDn.le1 d (e1 + 1) e2 fb q3
      omega
/-- a knot that can be worked out, rightly or not -/
def wfk (kn pt ot : Nat → Int32) (i : Nat) : Prop := kn i = 0 ∨ (kn i = 1 ∧ inb (pt i) 7) ∨ (kn i = 2 ∧ inb (pt i) 64) ∨ ((∃ k, (3 ≤ k ∧ k ≤ 14) ∧ kn i = nn k) ∧ inb (pt i) 64 ∧ inb (ot i) 64)
theorem SDn.wf {kn pt ot : Nat → Int32} : ∀ (d s e : Nat) (f : LF), SDn kn pt ot d s e f → e < 64 → ∀ i, s ≤ i → i ≤ e → wfk kn pt ot i
  | 0, _, _, _, q, _, _, _, _ => q.elim
  | d + 1, s, e, f, q, he, i, h1, h2 => by
    rcases q with ⟨q, q2, -⟩ | ⟨q, q2, q3, -⟩ | ⟨e1, fa, q1, q2, q3, q4, -⟩ | ⟨k, e1, e2, fa, fb, q1, q2, q3, q4, q5, q6, q7, -⟩
    · rw [show i = e by omega]; exact Or.inl q2
    · rw [show i = e by omega]; exact Or.inr (Or.inl ⟨q2, q3⟩)
    · by_cases z : i = e
      · rw [z]; exact Or.inr (Or.inr (Or.inl ⟨q2, by rw [q3]; exact nn_inb (by omega) (by omega)⟩))
      · exact SDn.wf d s e1 fa q4 (by omega) i h1 (by omega)
    · have := SDn.le1 d s e1 fa q6
      have := SDn.le1 d (e1 + 1) e2 fb q7
      by_cases z : i = e
      · rw [z]; exact Or.inr (Or.inr (Or.inr ⟨⟨k, q2, q3⟩, by rw [q4]; exact nn_inb (by omega) (by omega), by rw [q5]; exact nn_inb (by omega) (by omega)⟩))
      · by_cases z2 : i ≤ e1
        · exact SDn.wf d s e1 fa q6 (by omega) i h1 z2
        · exact SDn.wf d (e1 + 1) e2 fb q7 (by omega) i (by omega) (by omega)
theorem u2_id {α : Type} {I : Nat → Nat → α} {a k : Nat} {v : α} (e : I a k = v) : u2 I a k v = I := by
  funext b j
  rw [u2_app]
  by_cases z : b = a ∧ j = k
  · rw [if_pos z, z.1, z.2, e]
  · rw [if_neg z]
theorem div_nn (x : Int64) : ¬ (1000000000000 : Int64) / zabs x < 0 := by
  by_cases z : x = mnL
  · rw [z]; decide
  · have z1 : x.toInt ≠ -9223372036854775808 := fun q => z (Int64.toInt_inj.mp q)
    have z2 := Int64.le_toInt x
    have z3 := Int64.toInt_lt x
    have z4 : 0 ≤ (zabs x).toInt := by
      unfold zabs
      by_cases q : 0 < x
      · rw [if_pos q]
        rw [Int64.lt_iff_toInt_lt, show (0 : Int64).toInt = 0 from rfl] at q
        omega
      · rw [if_neg q]
        rw [Int64.lt_iff_toInt_lt, show (0 : Int64).toInt = 0 from rfl] at q
        rw [Int64.toInt_neg, Int.bmod_eq_of_le (by omega) (by omega)]
        omega
    rw [Int64.lt_iff_toInt_lt, Int64.toInt_div_of_ne_left _ _ (by decide), show (0 : Int64).toInt = 0 from rfl, show (1000000000000 : Int64).toInt = 1000000000000 from rfl]
    have := Int.tdiv_nonneg (show (0 : Int) ≤ 1000000000000 by omega) z4
    omega
theorem mabs (a : Int64) : (if 0 ≤ lg_cmp a 0 then a else -a) = zabs a := by
  unfold zabs
  by_cases q : 0 < a
  · rw [if_pos q, if_pos (lg_ge.mpr (Int64.lt_asymm q))]
  · rw [if_neg q]
    by_cases q2 : 0 ≤ lg_cmp a 0
    · have : a = 0 := by
        by_cases z : a = 0
        · exact z
        · exact absurd (Int64.lt_of_le_of_ne (Int64.not_lt.mp q) z) (lg_ge.mp q2)
      rw [if_pos q2, this]; rfl
    · rw [if_neg q2]
theorem mabs2 (x : Int64) : (0 ≤ lg_cmp x 0 ∧ zabs x = x) ∨ (¬ 0 ≤ lg_cmp x 0 ∧ zabs x = -x) := by
  have q := mabs x
  by_cases z : 0 ≤ lg_cmp x 0
  · rw [if_pos z] at q; exact Or.inl ⟨z, q.symm⟩
  · rw [if_neg z] at q; exact Or.inr ⟨z, q.symm⟩
section M1
variable {h : HP} {I : Nat → Nat → Int32} {L : Nat → Nat → Int64} {N : Nat → Int64}
def erI (I : Nat → Nat → Int32) (r : Option Int64) : Nat → Nat → Int32 := u2 I 0 54 (bI r.isNone)
theorem erI_some (e : I 0 54 = 0) (v : Int64) : erI I (some v) = I := u2_id e
theorem em_bounded (e : I 0 54 = 0) (v : Int64) : m_bounded v (hw h I L) = some ((zsure v).getD 0, hw h (erI I (zsure v)) L) := by
  unfold zsure
  by_cases q1 : 0 < lg_cmp v (1000000000000 : Int64)
  · rw [if_pos q1]
    simp only [m_bounded, bnd_e, cal_s, onr_s, jon_e, gI_hw, gL_hw, gT_hw, gR_hw, gN_hw, sI_hw, sL_hw, cV_hw, shS_hw, shC_hw, shL_hw, ← bt_def, e, if_true, if_pos q1, grd_pos (show isB (1 : Int32) from Or.inr rfl), u2_same, if_neg i10]; rfl
  · rw [if_neg q1]
    by_cases q2 : 0 ≤ lg_cmp v (-1000000000000 : Int64)
    · rw [if_pos q2]
      simp only [m_bounded, bnd_e, cal_s, onr_s, jon_e, gI_hw, gL_hw, gT_hw, gR_hw, gN_hw, sI_hw, sL_hw, cV_hw, shS_hw, shC_hw, shL_hw, ← bt_def, e, if_true, if_neg q1, if_pos q2, grd_pos (show isB (0 : Int32) from Or.inl rfl), u2_same]; rfl
    · rw [if_neg q2]
      simp only [m_bounded, bnd_e, cal_s, onr_s, jon_e, gI_hw, gL_hw, gT_hw, gR_hw, gN_hw, sI_hw, sL_hw, cV_hw, shS_hw, shC_hw, shL_hw, ← bt_def, e, if_true, if_neg q1, if_neg q2, grd_pos (show isB (1 : Int32) from Or.inr rfl), u2_same, if_neg i10]; rfl
theorem em_boundedE (e : I 0 54 = 1) (v : Int64) : m_bounded v (hw h I L) = some (0, hw h I L) := by
  have e0 : ¬ I 0 54 = 0 := by rw [e]; decide
  simp only [m_bounded, bnd_e, cal_s, onr_s, jon_e, gI_hw, gL_hw, gT_hw, gR_hw, gN_hw, sI_hw, sL_hw, cV_hw, shS_hw, shC_hw, shL_hw, ← bt_def, if_neg e0, grd_pos (show isB (1 : Int32) from Or.inr rfl), u2_same, if_neg i10, u2_id e]
theorem em_times (e : I 0 54 = 0) (x y : Int64) : m_times x y (hw h I L) = some ((ztimes x y).getD 0, hw h (erI I (ztimes x y)) L) := by
  unfold ztimes
  by_cases q1 : lg_cmp x 0 = 0
  · rw [if_pos q1]
    simp only [m_times, bnd_e, cal_s, onr_s, jon_e, gI_hw, gL_hw, gT_hw, gR_hw, gN_hw, sI_hw, sL_hw, cV_hw, shS_hw, shC_hw, shL_hw, ← bt_def, e, if_true, if_pos q1, grd_pos (show isB (0 : Int32) from Or.inl rfl), u2_same]; rfl
  · rw [if_neg q1]
    have hx : ¬ zabs x = 0 := zabs_ne (fun z => q1 (lg0.mpr z))
    by_cases q0 : lg_cmp y 0 = 0
    · have hy : lg_cmp (zabs y) ((1000000000000 : Int64) / zabs x) ≤ 0 := by
        rw [lg0.mp q0, show zabs 0 = 0 from rfl, lg_le]; exact div_nn x
      rw [if_pos hy]
      simp only [m_times, bnd_e, cal_s, onr_s, jon_e, gI_hw, gL_hw, gT_hw, gR_hw, gN_hw, sI_hw, sL_hw, cV_hw, shS_hw, shC_hw, shL_hw, ← bt_def, e, if_true, if_neg q1, if_pos q0, grd_pos (show isB (0 : Int32) from Or.inl rfl), u2_same]; rfl
    · have hx' : (0 ≤ lg_cmp x 0 ∧ zabs x = x) ∨ (¬ 0 ≤ lg_cmp x 0 ∧ zabs x = -x) := mabs2 x
      have hy' : (0 ≤ lg_cmp y 0 ∧ zabs y = y) ∨ (¬ 0 ≤ lg_cmp y 0 ∧ zabs y = -y) := mabs2 y
      by_cases q2 : lg_cmp (zabs y) ((1000000000000 : Int64) / zabs x) ≤ 0
      · rw [if_pos q2]
        rcases hx' with ⟨zx, ex⟩ | ⟨zx, ex⟩ <;> rcases hy' with ⟨zy, ey⟩ | ⟨zy, ey⟩ <;> rw [ex, ey] at q2 <;> rw [ex] at hx <;> simp only [m_times, bnd_e, cal_s, onr_s, jon_e, gI_hw, gL_hw, gT_hw, gR_hw, gN_hw, sI_hw, sL_hw, cV_hw, shS_hw, shC_hw, shL_hw, ← bt_def, e, if_true, if_neg q1, if_neg q0, zx, zy, if_false, grd_pos hx, if_pos q2, grd_pos (show isB (0 : Int32) from Or.inl rfl), u2_same] <;> rfl
      · rw [if_neg q2]
        rcases hx' with ⟨zx, ex⟩ | ⟨zx, ex⟩ <;> rcases hy' with ⟨zy, ey⟩ | ⟨zy, ey⟩ <;> rw [ex, ey] at q2 <;> rw [ex] at hx <;> simp only [m_times, bnd_e, cal_s, onr_s, jon_e, gI_hw, gL_hw, gT_hw, gR_hw, gN_hw, sI_hw, sL_hw, cV_hw, shS_hw, shC_hw, shL_hw, ← bt_def, e, if_true, if_neg q1, if_neg q0, zx, zy, if_false, grd_pos hx, if_neg q2, if_neg i10, grd_pos (show isB (1 : Int32) from Or.inr rfl), u2_same] <;> rfl
theorem em_timesE (e : I 0 54 = 1) (x y : Int64) : m_times x y (hw h I L) = some (0, hw h I L) := by
  have e0 : ¬ I 0 54 = 0 := by rw [e]; decide
  by_cases q1 : lg_cmp x 0 = 0
  · simp only [m_times, bnd_e, cal_s, onr_s, jon_e, gI_hw, gL_hw, gT_hw, gR_hw, gN_hw, sI_hw, sL_hw, cV_hw, shS_hw, shC_hw, shL_hw, ← bt_def, if_pos q1, if_neg e0, grd_pos (show isB (1 : Int32) from Or.inr rfl), u2_same, if_neg i10, u2_id e]
  · have hx : ¬ zabs x = 0 := zabs_ne (fun z => q1 (lg0.mpr z))
    by_cases q0 : lg_cmp y 0 = 0
    · simp only [m_times, bnd_e, cal_s, onr_s, jon_e, gI_hw, gL_hw, gT_hw, gR_hw, gN_hw, sI_hw, sL_hw, cV_hw, shS_hw, shC_hw, shL_hw, ← bt_def, if_neg q1, if_pos q0, if_neg e0, grd_pos (show isB (1 : Int32) from Or.inr rfl), u2_same, if_neg i10, u2_id e]
    · have hx' : (0 ≤ lg_cmp x 0 ∧ zabs x = x) ∨ (¬ 0 ≤ lg_cmp x 0 ∧ zabs x = -x) := mabs2 x
      rcases hx' with ⟨zx, ex⟩ | ⟨zx, ex⟩ <;> rw [ex] at hx <;> simp only [m_times, bnd_e, cal_s, onr_s, jon_e, gI_hw, gL_hw, gT_hw, gR_hw, gN_hw, sI_hw, sL_hw, cV_hw, shS_hw, shC_hw, shL_hw, ← bt_def, if_neg q1, if_neg q0, zx, if_true, if_false, grd_pos hx, if_neg e0, grd_pos (show isB (1 : Int32) from Or.inr rfl), u2_same, if_neg i10, u2_id e, ite_self]
/-- a knot of two -/
theorem em_val2 {i k a b : Nat} {x y : Int64} (hi : i < 64) (hk : 3 ≤ k ∧ k ≤ 14) (ha : a < 64) (hb : b < 64) (e22 : I 22 i = nn k) (e23 : I 23 i = nn a) (e24 : I 24 i = nn b) (ex : L 28 a = x) (ey : L 28 b = y) (e : I 0 54 = 0) : m_valueOf (nn i) (hw h I L) = some ((z2 (mkc (nn k)) x y).getD 0, hw h (erI I (z2 (mkc (nn k)) x y)) L) := by
  have hi2 : i < 2147483648 := by omega
  have i1 : inb (nn i) 128 := nn_inb hi2 (by omega)
  have i2 : inb (nn a) 64 := nn_inb (by omega) ha
  have i3 : inb (nn b) 64 := nn_inb (by omega) hb
  have : k = 3 ∨ k = 4 ∨ k = 5 ∨ k = 6 ∨ k = 7 ∨ k = 8 ∨ k = 9 ∨ k = 10 ∨ k = 11 ∨ k = 12 ∨ k = 13 ∨ k = 14 := by omega
  rcases this with rfl | rfl | rfl | rfl | rfl | rfl | rfl | rfl | rfl | rfl | rfl | rfl
  · have e22 : I 22 i = 3 := e22
    rw [show mkc (nn 3) = 16 from rfl]
    by_cases y1 : lg_cmp x 0 = 0 <;> by_cases y2 : lg_cmp y 0 = 0 <;> simp only [m_valueOf, m_compares, z2, bnd_e, cal_s, onr_s, jon_e, gI_hw, gL_hw, gT_hw, gR_hw, gN_hw, sI_hw, sL_hw, cV_hw, shS_hw, shC_hw, shL_hw, ← bt_def, nn_clamp hi2, nn_clamp (show a < 2147483648 by omega), nn_clamp (show b < 2147483648 by omega), grd_pos i1, grd_pos i2, grd_pos i3, e22, e23, e24, ex, ey, show ¬ ((3 : Int32) = 0) by decide, show ¬ ((3 : Int32) = 1) by decide, show ¬ ((3 : Int32) = 2) by decide, if_true, if_false, y1, y2, Option.getD_some, erI_some e]
  · have e22 : I 22 i = 4 := e22
    rw [show mkc (nn 4) = 15 from rfl]
    by_cases y1 : lg_cmp x 0 = 0 <;> by_cases y2 : lg_cmp y 0 = 0 <;> simp only [m_valueOf, m_compares, z2, bnd_e, cal_s, onr_s, jon_e, gI_hw, gL_hw, gT_hw, gR_hw, gN_hw, sI_hw, sL_hw, cV_hw, shS_hw, shC_hw, shL_hw, ← bt_def, nn_clamp hi2, nn_clamp (show a < 2147483648 by omega), nn_clamp (show b < 2147483648 by omega), grd_pos i1, grd_pos i2, grd_pos i3, e22, e23, e24, ex, ey, show ¬ ((4 : Int32) = 0) by decide, show ¬ ((4 : Int32) = 1) by decide, show ¬ ((4 : Int32) = 2) by decide, show ¬ ((4 : Int32) = 3) by decide, if_true, show ¬ ((15 : Int32) = 16) by decide, show ¬ ((15 : Int32) = 42) by decide, show ¬ ((15 : Int32) = 43) by decide, show ¬ ((15 : Int32) = 45) by decide, show ¬ ((15 : Int32) = 47) by decide, show ¬ ((15 : Int32) = 60) by decide, show ¬ ((15 : Int32) = 61) by decide, show ¬ ((15 : Int32) = 62) by decide, show ¬ ((15 : Int32) = 256) by decide, show ¬ ((15 : Int32) = 257) by decide, show ¬ ((15 : Int32) = 258) by decide, if_false, y1, y2, Option.getD_some, erI_some e]
  · have e22 : I 22 i = 5 := e22
    rw [show mkc (nn 5) = 60 from rfl]
    by_cases z : 0 ≤ lg_cmp x y
    · simp only [m_valueOf, m_compares, z2, bnd_e, cal_s, onr_s, jon_e, gI_hw, gL_hw, gT_hw, gR_hw, gN_hw, sI_hw, sL_hw, cV_hw, shS_hw, shC_hw, shL_hw, ← bt_def, nn_clamp hi2, nn_clamp (show a < 2147483648 by omega), nn_clamp (show b < 2147483648 by omega), grd_pos i1, grd_pos i2, grd_pos i3, e22, e23, e24, ex, ey, show ¬ ((5 : Int32) = 0) by decide, show ¬ ((5 : Int32) = 1) by decide, show ¬ ((5 : Int32) = 2) by decide, show ¬ ((5 : Int32) = 3) by decide, show ¬ ((5 : Int32) = 4) by decide, show ¬ ((5 : Int32) = 11) by decide, show ¬ ((5 : Int32) = 12) by decide, show ¬ ((5 : Int32) = 13) by decide, show ¬ ((5 : Int32) = 14) by decide, if_true, show ¬ ((60 : Int32) = 16) by decide, show ¬ ((60 : Int32) = 42) by decide, show ¬ ((60 : Int32) = 43) by decide, show ¬ ((60 : Int32) = 45) by decide, show ¬ ((60 : Int32) = 47) by decide, if_false, if_pos z, if_neg i10, Option.getD_some, erI_some e]
    · simp only [m_valueOf, m_compares, z2, bnd_e, cal_s, onr_s, jon_e, gI_hw, gL_hw, gT_hw, gR_hw, gN_hw, sI_hw, sL_hw, cV_hw, shS_hw, shC_hw, shL_hw, ← bt_def, nn_clamp hi2, nn_clamp (show a < 2147483648 by omega), nn_clamp (show b < 2147483648 by omega), grd_pos i1, grd_pos i2, grd_pos i3, e22, e23, e24, ex, ey, show ¬ ((5 : Int32) = 0) by decide, show ¬ ((5 : Int32) = 1) by decide, show ¬ ((5 : Int32) = 2) by decide, show ¬ ((5 : Int32) = 3) by decide, show ¬ ((5 : Int32) = 4) by decide, show ¬ ((5 : Int32) = 11) by decide, show ¬ ((5 : Int32) = 12) by decide, show ¬ ((5 : Int32) = 13) by decide, show ¬ ((5 : Int32) = 14) by decide, if_true, show ¬ ((60 : Int32) = 16) by decide, show ¬ ((60 : Int32) = 42) by decide, show ¬ ((60 : Int32) = 43) by decide, show ¬ ((60 : Int32) = 45) by decide, show ¬ ((60 : Int32) = 47) by decide, if_false, if_neg z, if_neg i10, Option.getD_some, erI_some e]
  · have e22 : I 22 i = 6 := e22
    rw [show mkc (nn 6) = 256 from rfl]
    by_cases z : 0 < lg_cmp x y
    · simp only [m_valueOf, m_compares, z2, bnd_e, cal_s, onr_s, jon_e, gI_hw, gL_hw, gT_hw, gR_hw, gN_hw, sI_hw, sL_hw, cV_hw, shS_hw, shC_hw, shL_hw, ← bt_def, nn_clamp hi2, nn_clamp (show a < 2147483648 by omega), nn_clamp (show b < 2147483648 by omega), grd_pos i1, grd_pos i2, grd_pos i3, e22, e23, e24, ex, ey, show ¬ ((6 : Int32) = 0) by decide, show ¬ ((6 : Int32) = 1) by decide, show ¬ ((6 : Int32) = 2) by decide, show ¬ ((6 : Int32) = 3) by decide, show ¬ ((6 : Int32) = 4) by decide, show ¬ ((6 : Int32) = 11) by decide, show ¬ ((6 : Int32) = 12) by decide, show ¬ ((6 : Int32) = 13) by decide, show ¬ ((6 : Int32) = 14) by decide, show ¬ ((6 : Int32) = 5) by decide, if_true, show ¬ ((256 : Int32) = 16) by decide, show ¬ ((256 : Int32) = 42) by decide, show ¬ ((256 : Int32) = 43) by decide, show ¬ ((256 : Int32) = 45) by decide, show ¬ ((256 : Int32) = 47) by decide, show ¬ ((256 : Int32) = 60) by decide, show ¬ ((256 : Int32) = 61) by decide, show ¬ ((256 : Int32) = 62) by decide, if_false, if_pos z, if_neg i10, Option.getD_some, erI_some e]
    · simp only [m_valueOf, m_compares, z2, bnd_e, cal_s, onr_s, jon_e, gI_hw, gL_hw, gT_hw, gR_hw, gN_hw, sI_hw, sL_hw, cV_hw, shS_hw, shC_hw, shL_hw, ← bt_def, nn_clamp hi2, nn_clamp (show a < 2147483648 by omega), nn_clamp (show b < 2147483648 by omega), grd_pos i1, grd_pos i2, grd_pos i3, e22, e23, e24, ex, ey, show ¬ ((6 : Int32) = 0) by decide, show ¬ ((6 : Int32) = 1) by decide, show ¬ ((6 : Int32) = 2) by decide, show ¬ ((6 : Int32) = 3) by decide, show ¬ ((6 : Int32) = 4) by decide, show ¬ ((6 : Int32) = 11) by decide, show ¬ ((6 : Int32) = 12) by decide, show ¬ ((6 : Int32) = 13) by decide, show ¬ ((6 : Int32) = 14) by decide, show ¬ ((6 : Int32) = 5) by decide, if_true, show ¬ ((256 : Int32) = 16) by decide, show ¬ ((256 : Int32) = 42) by decide, show ¬ ((256 : Int32) = 43) by decide, show ¬ ((256 : Int32) = 45) by decide, show ¬ ((256 : Int32) = 47) by decide, show ¬ ((256 : Int32) = 60) by decide, show ¬ ((256 : Int32) = 61) by decide, show ¬ ((256 : Int32) = 62) by decide, if_false, if_neg z, if_neg i10, Option.getD_some, erI_some e]
  · have e22 : I 22 i = 7 := e22
    rw [show mkc (nn 7) = 61 from rfl]
    by_cases z : lg_cmp x y = 0
    · simp only [m_valueOf, m_compares, z2, bnd_e, cal_s, onr_s, jon_e, gI_hw, gL_hw, gT_hw, gR_hw, gN_hw, sI_hw, sL_hw, cV_hw, shS_hw, shC_hw, shL_hw, ← bt_def, nn_clamp hi2, nn_clamp (show a < 2147483648 by omega), nn_clamp (show b < 2147483648 by omega), grd_pos i1, grd_pos i2, grd_pos i3, e22, e23, e24, ex, ey, show ¬ ((7 : Int32) = 0) by decide, show ¬ ((7 : Int32) = 1) by decide, show ¬ ((7 : Int32) = 2) by decide, show ¬ ((7 : Int32) = 3) by decide, show ¬ ((7 : Int32) = 4) by decide, show ¬ ((7 : Int32) = 11) by decide, show ¬ ((7 : Int32) = 12) by decide, show ¬ ((7 : Int32) = 13) by decide, show ¬ ((7 : Int32) = 14) by decide, show ¬ ((7 : Int32) = 5) by decide, show ¬ ((7 : Int32) = 6) by decide, if_true, show ¬ ((61 : Int32) = 16) by decide, show ¬ ((61 : Int32) = 42) by decide, show ¬ ((61 : Int32) = 43) by decide, show ¬ ((61 : Int32) = 45) by decide, show ¬ ((61 : Int32) = 47) by decide, show ¬ ((61 : Int32) = 60) by decide, if_false, if_pos z, if_neg i10, Option.getD_some, erI_some e]
    · simp only [m_valueOf, m_compares, z2, bnd_e, cal_s, onr_s, jon_e, gI_hw, gL_hw, gT_hw, gR_hw, gN_hw, sI_hw, sL_hw, cV_hw, shS_hw, shC_hw, shL_hw, ← bt_def, nn_clamp hi2, nn_clamp (show a < 2147483648 by omega), nn_clamp (show b < 2147483648 by omega), grd_pos i1, grd_pos i2, grd_pos i3, e22, e23, e24, ex, ey, show ¬ ((7 : Int32) = 0) by decide, show ¬ ((7 : Int32) = 1) by decide, show ¬ ((7 : Int32) = 2) by decide, show ¬ ((7 : Int32) = 3) by decide, show ¬ ((7 : Int32) = 4) by decide, show ¬ ((7 : Int32) = 11) by decide, show ¬ ((7 : Int32) = 12) by decide, show ¬ ((7 : Int32) = 13) by decide, show ¬ ((7 : Int32) = 14) by decide, show ¬ ((7 : Int32) = 5) by decide, show ¬ ((7 : Int32) = 6) by decide, if_true, show ¬ ((61 : Int32) = 16) by decide, show ¬ ((61 : Int32) = 42) by decide, show ¬ ((61 : Int32) = 43) by decide, show ¬ ((61 : Int32) = 45) by decide, show ¬ ((61 : Int32) = 47) by decide, show ¬ ((61 : Int32) = 60) by decide, if_false, if_neg z, if_neg i10, Option.getD_some, erI_some e]
  · have e22 : I 22 i = 8 := e22
    rw [show mkc (nn 8) = 258 from rfl]
    by_cases z : lg_cmp x y = 0
    · simp only [m_valueOf, m_compares, z2, bnd_e, cal_s, onr_s, jon_e, gI_hw, gL_hw, gT_hw, gR_hw, gN_hw, sI_hw, sL_hw, cV_hw, shS_hw, shC_hw, shL_hw, ← bt_def, nn_clamp hi2, nn_clamp (show a < 2147483648 by omega), nn_clamp (show b < 2147483648 by omega), grd_pos i1, grd_pos i2, grd_pos i3, e22, e23, e24, ex, ey, show ¬ ((8 : Int32) = 0) by decide, show ¬ ((8 : Int32) = 1) by decide, show ¬ ((8 : Int32) = 2) by decide, show ¬ ((8 : Int32) = 3) by decide, show ¬ ((8 : Int32) = 4) by decide, show ¬ ((8 : Int32) = 11) by decide, show ¬ ((8 : Int32) = 12) by decide, show ¬ ((8 : Int32) = 13) by decide, show ¬ ((8 : Int32) = 14) by decide, show ¬ ((8 : Int32) = 5) by decide, show ¬ ((8 : Int32) = 6) by decide, show ¬ ((8 : Int32) = 7) by decide, if_true, show ¬ ((258 : Int32) = 16) by decide, show ¬ ((258 : Int32) = 42) by decide, show ¬ ((258 : Int32) = 43) by decide, show ¬ ((258 : Int32) = 45) by decide, show ¬ ((258 : Int32) = 47) by decide, show ¬ ((258 : Int32) = 60) by decide, show ¬ ((258 : Int32) = 61) by decide, show ¬ ((258 : Int32) = 62) by decide, show ¬ ((258 : Int32) = 256) by decide, show ¬ ((258 : Int32) = 257) by decide, if_false, if_pos z, if_neg i10, Option.getD_some, erI_some e]
    · simp only [m_valueOf, m_compares, z2, bnd_e, cal_s, onr_s, jon_e, gI_hw, gL_hw, gT_hw, gR_hw, gN_hw, sI_hw, sL_hw, cV_hw, shS_hw, shC_hw, shL_hw, ← bt_def, nn_clamp hi2, nn_clamp (show a < 2147483648 by omega), nn_clamp (show b < 2147483648 by omega), grd_pos i1, grd_pos i2, grd_pos i3, e22, e23, e24, ex, ey, show ¬ ((8 : Int32) = 0) by decide, show ¬ ((8 : Int32) = 1) by decide, show ¬ ((8 : Int32) = 2) by decide, show ¬ ((8 : Int32) = 3) by decide, show ¬ ((8 : Int32) = 4) by decide, show ¬ ((8 : Int32) = 11) by decide, show ¬ ((8 : Int32) = 12) by decide, show ¬ ((8 : Int32) = 13) by decide, show ¬ ((8 : Int32) = 14) by decide, show ¬ ((8 : Int32) = 5) by decide, show ¬ ((8 : Int32) = 6) by decide, show ¬ ((8 : Int32) = 7) by decide, if_true, show ¬ ((258 : Int32) = 16) by decide, show ¬ ((258 : Int32) = 42) by decide, show ¬ ((258 : Int32) = 43) by decide, show ¬ ((258 : Int32) = 45) by decide, show ¬ ((258 : Int32) = 47) by decide, show ¬ ((258 : Int32) = 60) by decide, show ¬ ((258 : Int32) = 61) by decide, show ¬ ((258 : Int32) = 62) by decide, show ¬ ((258 : Int32) = 256) by decide, show ¬ ((258 : Int32) = 257) by decide, if_false, if_neg z, if_neg i10, Option.getD_some, erI_some e]
  · have e22 : I 22 i = 9 := e22
    rw [show mkc (nn 9) = 257 from rfl]
    by_cases z : lg_cmp x y < 0
    · simp only [m_valueOf, m_compares, z2, bnd_e, cal_s, onr_s, jon_e, gI_hw, gL_hw, gT_hw, gR_hw, gN_hw, sI_hw, sL_hw, cV_hw, shS_hw, shC_hw, shL_hw, ← bt_def, nn_clamp hi2, nn_clamp (show a < 2147483648 by omega), nn_clamp (show b < 2147483648 by omega), grd_pos i1, grd_pos i2, grd_pos i3, e22, e23, e24, ex, ey, show ¬ ((9 : Int32) = 0) by decide, show ¬ ((9 : Int32) = 1) by decide, show ¬ ((9 : Int32) = 2) by decide, show ¬ ((9 : Int32) = 3) by decide, show ¬ ((9 : Int32) = 4) by decide, show ¬ ((9 : Int32) = 11) by decide, show ¬ ((9 : Int32) = 12) by decide, show ¬ ((9 : Int32) = 13) by decide, show ¬ ((9 : Int32) = 14) by decide, show ¬ ((9 : Int32) = 5) by decide, show ¬ ((9 : Int32) = 6) by decide, show ¬ ((9 : Int32) = 7) by decide, show ¬ ((9 : Int32) = 8) by decide, if_true, show ¬ ((257 : Int32) = 16) by decide, show ¬ ((257 : Int32) = 42) by decide, show ¬ ((257 : Int32) = 43) by decide, show ¬ ((257 : Int32) = 45) by decide, show ¬ ((257 : Int32) = 47) by decide, show ¬ ((257 : Int32) = 60) by decide, show ¬ ((257 : Int32) = 61) by decide, show ¬ ((257 : Int32) = 62) by decide, show ¬ ((257 : Int32) = 256) by decide, if_false, if_pos z, if_neg i10, Option.getD_some, erI_some e]
    · simp only [m_valueOf, m_compares, z2, bnd_e, cal_s, onr_s, jon_e, gI_hw, gL_hw, gT_hw, gR_hw, gN_hw, sI_hw, sL_hw, cV_hw, shS_hw, shC_hw, shL_hw, ← bt_def, nn_clamp hi2, nn_clamp (show a < 2147483648 by omega), nn_clamp (show b < 2147483648 by omega), grd_pos i1, grd_pos i2, grd_pos i3, e22, e23, e24, ex, ey, show ¬ ((9 : Int32) = 0) by decide, show ¬ ((9 : Int32) = 1) by decide, show ¬ ((9 : Int32) = 2) by decide, show ¬ ((9 : Int32) = 3) by decide, show ¬ ((9 : Int32) = 4) by decide, show ¬ ((9 : Int32) = 11) by decide, show ¬ ((9 : Int32) = 12) by decide, show ¬ ((9 : Int32) = 13) by decide, show ¬ ((9 : Int32) = 14) by decide, show ¬ ((9 : Int32) = 5) by decide, show ¬ ((9 : Int32) = 6) by decide, show ¬ ((9 : Int32) = 7) by decide, show ¬ ((9 : Int32) = 8) by decide, if_true, show ¬ ((257 : Int32) = 16) by decide, show ¬ ((257 : Int32) = 42) by decide, show ¬ ((257 : Int32) = 43) by decide, show ¬ ((257 : Int32) = 45) by decide, show ¬ ((257 : Int32) = 47) by decide, show ¬ ((257 : Int32) = 60) by decide, show ¬ ((257 : Int32) = 61) by decide, show ¬ ((257 : Int32) = 62) by decide, show ¬ ((257 : Int32) = 256) by decide, if_false, if_neg z, if_neg i10, Option.getD_some, erI_some e]
  · have e22 : I 22 i = 10 := e22
    rw [show mkc (nn 10) = 62 from rfl]
    by_cases z : lg_cmp x y ≤ 0
    · simp only [m_valueOf, m_compares, z2, bnd_e, cal_s, onr_s, jon_e, gI_hw, gL_hw, gT_hw, gR_hw, gN_hw, sI_hw, sL_hw, cV_hw, shS_hw, shC_hw, shL_hw, ← bt_def, nn_clamp hi2, nn_clamp (show a < 2147483648 by omega), nn_clamp (show b < 2147483648 by omega), grd_pos i1, grd_pos i2, grd_pos i3, e22, e23, e24, ex, ey, show ¬ ((10 : Int32) = 0) by decide, show ¬ ((10 : Int32) = 1) by decide, show ¬ ((10 : Int32) = 2) by decide, show ¬ ((10 : Int32) = 3) by decide, show ¬ ((10 : Int32) = 4) by decide, show ¬ ((10 : Int32) = 11) by decide, show ¬ ((10 : Int32) = 12) by decide, show ¬ ((10 : Int32) = 13) by decide, show ¬ ((10 : Int32) = 14) by decide, show ¬ ((10 : Int32) = 5) by decide, show ¬ ((10 : Int32) = 6) by decide, show ¬ ((10 : Int32) = 7) by decide, show ¬ ((10 : Int32) = 8) by decide, show ¬ ((10 : Int32) = 9) by decide, show ¬ ((62 : Int32) = 16) by decide, show ¬ ((62 : Int32) = 42) by decide, show ¬ ((62 : Int32) = 43) by decide, show ¬ ((62 : Int32) = 45) by decide, show ¬ ((62 : Int32) = 47) by decide, show ¬ ((62 : Int32) = 60) by decide, show ¬ ((62 : Int32) = 61) by decide, if_true, if_false, if_pos z, if_neg i10, Option.getD_some, erI_some e]
    · simp only [m_valueOf, m_compares, z2, bnd_e, cal_s, onr_s, jon_e, gI_hw, gL_hw, gT_hw, gR_hw, gN_hw, sI_hw, sL_hw, cV_hw, shS_hw, shC_hw, shL_hw, ← bt_def, nn_clamp hi2, nn_clamp (show a < 2147483648 by omega), nn_clamp (show b < 2147483648 by omega), grd_pos i1, grd_pos i2, grd_pos i3, e22, e23, e24, ex, ey, show ¬ ((10 : Int32) = 0) by decide, show ¬ ((10 : Int32) = 1) by decide, show ¬ ((10 : Int32) = 2) by decide, show ¬ ((10 : Int32) = 3) by decide, show ¬ ((10 : Int32) = 4) by decide, show ¬ ((10 : Int32) = 11) by decide, show ¬ ((10 : Int32) = 12) by decide, show ¬ ((10 : Int32) = 13) by decide, show ¬ ((10 : Int32) = 14) by decide, show ¬ ((10 : Int32) = 5) by decide, show ¬ ((10 : Int32) = 6) by decide, show ¬ ((10 : Int32) = 7) by decide, show ¬ ((10 : Int32) = 8) by decide, show ¬ ((10 : Int32) = 9) by decide, show ¬ ((62 : Int32) = 16) by decide, show ¬ ((62 : Int32) = 42) by decide, show ¬ ((62 : Int32) = 43) by decide, show ¬ ((62 : Int32) = 45) by decide, show ¬ ((62 : Int32) = 47) by decide, show ¬ ((62 : Int32) = 60) by decide, show ¬ ((62 : Int32) = 61) by decide, if_true, if_false, if_neg z, if_neg i10, Option.getD_some, erI_some e]
  · have e22 : I 22 i = 11 := e22
    rw [show mkc (nn 11) = 43 from rfl]
    simp only [m_valueOf, m_compares, z2, bnd_e, cal_s, onr_s, jon_e, gI_hw, gL_hw, gT_hw, gR_hw, gN_hw, sI_hw, sL_hw, cV_hw, shS_hw, shC_hw, shL_hw, ← bt_def, nn_clamp hi2, nn_clamp (show a < 2147483648 by omega), nn_clamp (show b < 2147483648 by omega), grd_pos i1, grd_pos i2, grd_pos i3, e22, e23, e24, ex, ey, show ¬ ((11 : Int32) = 0) by decide, show ¬ ((11 : Int32) = 1) by decide, show ¬ ((11 : Int32) = 2) by decide, show ¬ ((11 : Int32) = 3) by decide, show ¬ ((11 : Int32) = 4) by decide, if_true, show ¬ ((43 : Int32) = 16) by decide, show ¬ ((43 : Int32) = 42) by decide, if_false, em_bounded e]
  · have e22 : I 22 i = 12 := e22
    rw [show mkc (nn 12) = 45 from rfl]
    simp only [m_valueOf, m_compares, z2, bnd_e, cal_s, onr_s, jon_e, gI_hw, gL_hw, gT_hw, gR_hw, gN_hw, sI_hw, sL_hw, cV_hw, shS_hw, shC_hw, shL_hw, ← bt_def, nn_clamp hi2, nn_clamp (show a < 2147483648 by omega), nn_clamp (show b < 2147483648 by omega), grd_pos i1, grd_pos i2, grd_pos i3, e22, e23, e24, ex, ey, show ¬ ((12 : Int32) = 0) by decide, show ¬ ((12 : Int32) = 1) by decide, show ¬ ((12 : Int32) = 2) by decide, show ¬ ((12 : Int32) = 3) by decide, show ¬ ((12 : Int32) = 4) by decide, show ¬ ((12 : Int32) = 11) by decide, if_true, show ¬ ((45 : Int32) = 16) by decide, show ¬ ((45 : Int32) = 42) by decide, show ¬ ((45 : Int32) = 43) by decide, if_false, em_bounded e]
  · have e22 : I 22 i = 13 := e22
    rw [show mkc (nn 13) = 42 from rfl]
    simp only [m_valueOf, m_compares, z2, bnd_e, cal_s, onr_s, jon_e, gI_hw, gL_hw, gT_hw, gR_hw, gN_hw, sI_hw, sL_hw, cV_hw, shS_hw, shC_hw, shL_hw, ← bt_def, nn_clamp hi2, nn_clamp (show a < 2147483648 by omega), nn_clamp (show b < 2147483648 by omega), grd_pos i1, grd_pos i2, grd_pos i3, e22, e23, e24, ex, ey, show ¬ ((13 : Int32) = 0) by decide, show ¬ ((13 : Int32) = 1) by decide, show ¬ ((13 : Int32) = 2) by decide, show ¬ ((13 : Int32) = 3) by decide, show ¬ ((13 : Int32) = 4) by decide, show ¬ ((13 : Int32) = 11) by decide, show ¬ ((13 : Int32) = 12) by decide, if_true, show ¬ ((42 : Int32) = 16) by decide, if_false, em_times e]
  · have e22 : I 22 i = 14 := e22
    rw [show mkc (nn 14) = 47 from rfl]
    by_cases z : lg_cmp y 0 = 0
    · simp only [m_valueOf, m_compares, z2, bnd_e, cal_s, onr_s, jon_e, gI_hw, gL_hw, gT_hw, gR_hw, gN_hw, sI_hw, sL_hw, cV_hw, shS_hw, shC_hw, shL_hw, ← bt_def, nn_clamp hi2, nn_clamp (show a < 2147483648 by omega), nn_clamp (show b < 2147483648 by omega), grd_pos i1, grd_pos i2, grd_pos i3, e22, e23, e24, ex, ey, show ¬ ((14 : Int32) = 0) by decide, show ¬ ((14 : Int32) = 1) by decide, show ¬ ((14 : Int32) = 2) by decide, show ¬ ((14 : Int32) = 3) by decide, show ¬ ((14 : Int32) = 4) by decide, show ¬ ((14 : Int32) = 11) by decide, show ¬ ((14 : Int32) = 12) by decide, show ¬ ((14 : Int32) = 13) by decide, if_true, show ¬ ((47 : Int32) = 16) by decide, show ¬ ((47 : Int32) = 42) by decide, show ¬ ((47 : Int32) = 43) by decide, show ¬ ((47 : Int32) = 45) by decide, if_false, e, if_pos z, grd_pos (show isB (1 : Int32) from Or.inr rfl), u2_same, if_neg i10]; rfl
    · simp only [m_valueOf, m_compares, z2, bnd_e, cal_s, onr_s, jon_e, gI_hw, gL_hw, gT_hw, gR_hw, gN_hw, sI_hw, sL_hw, cV_hw, shS_hw, shC_hw, shL_hw, ← bt_def, nn_clamp hi2, nn_clamp (show a < 2147483648 by omega), nn_clamp (show b < 2147483648 by omega), grd_pos i1, grd_pos i2, grd_pos i3, e22, e23, e24, ex, ey, show ¬ ((14 : Int32) = 0) by decide, show ¬ ((14 : Int32) = 1) by decide, show ¬ ((14 : Int32) = 2) by decide, show ¬ ((14 : Int32) = 3) by decide, show ¬ ((14 : Int32) = 4) by decide, show ¬ ((14 : Int32) = 11) by decide, show ¬ ((14 : Int32) = 12) by decide, show ¬ ((14 : Int32) = 13) by decide, if_true, show ¬ ((47 : Int32) = 16) by decide, show ¬ ((47 : Int32) = 42) by decide, show ¬ ((47 : Int32) = 43) by decide, show ¬ ((47 : Int32) = 45) by decide, if_false, e, if_neg z, grd_pos (show isB (0 : Int32) from Or.inl rfl), u2_same, grd_pos (show ¬ y = 0 from fun q => z (lg0.mpr q))]; rfl
end M1
