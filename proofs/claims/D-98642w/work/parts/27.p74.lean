set_option maxRecDepth 100000
/-! PURE LEVEL 74: signs and tokens in step -/
section P24
variable {h g : HP} {I J : Nat → Nat → Int32} {L M : Nat → Nat → Int64} {n : Nat} {tb : Nat → Nat} {p m a : Nat}
def sI3 (I : Nat → Nat → Int32) (a : Nat) (s v : Int32) : Nat → Nat → Int32 := u2 (u2 (u2 I 2 0 (nn (a + 1))) 2 3 s) 2 4 v
theorem ec_sgn (T : LxT I J n tb) (ha : a < n) (e0 : I 2 0 = nn a) (e1 : I 2 1 = nn n) : cR_sign (hw h I L) =
    if tb a = 60 ∧ hc n tb (a + 1) = 61 then some ((), hw h (u2 (u2 (sI3 I a 3 (nn (tb a))) 2 4 256) 2 0 (nn (a + 2))) L) else
    if tb a = 60 ∧ hc n tb (a + 1) = 62 then some ((), hw h (u2 (u2 (sI3 I a 3 (nn (tb a))) 2 4 258) 2 0 (nn (a + 2))) L) else
    if tb a = 62 ∧ hc n tb (a + 1) = 61 then some ((), hw h (u2 (u2 (sI3 I a 3 (nn (tb a))) 2 4 257) 2 0 (nn (a + 2))) L) else
    some ((), hw h (sI3 I a (if isSg (tb a) = true then 3 else 5) (nn (tb a))) L) := by
  have hn := T.1
  have t := T.2 a ha
  have hcv : hc n tb a = nn (tb a) := if_pos ha
  obtain ⟨r, e, q⟩ := ec_idx t.1 (hw h (u2 I 2 0 (nn (a + 1))) L)
  have hh : ∀ s, cR_here (hw h (u2 (u2 (u2 I 2 0 (nn (a + 1))) 2 3 s) 2 4 (nn (tb a))) L) = some (hc n tb (a + 1), hw h (u2 (u2 (u2 I 2 0 (nn (a + 1))) 2 3 s) 2 4 (nn (tb a))) L) := fun s => ec_here (T.ui.ui.ui) (by rw [u2_nk _ _ (by decide), u2_nk _ _ (by decide), u2_same]) (by rw [u2_nk _ _ (by decide), u2_nk _ _ (by decide), u2_nk _ _ (by decide)]; exact e1) (by omega)
  have lit : ∀ k, k < 256 → (nn (tb a) = nn k ↔ tb a = k) := fun k hk => nn_eq (by omega) (by omega)
  have lt256 : nn (tb a) < (256 : Int32) := (nn_lt (b := 256) (by omega) (by omega)).mpr t.1
  have v0 : ∀ s w, (u2 (u2 (u2 (u2 I 2 0 (nn (a + 1))) 2 3 s) 2 4 (nn (tb a))) 2 4 w) 2 0 = nn (a + 1) := fun s w => by rw [u2_nk _ _ (by decide), u2_nk _ _ (by decide), u2_nk _ _ (by decide), u2_same]
  have s3 : isSg (tb a) = true → ¬ r < 0 := fun z y => by rw [q.mp y] at z; exact Bool.noConfusion z
  unfold sI3
  simp only [cR_sign, bnd_e, cal_s, onr_s, jon_e, gI_hw, gL_hw, gT_hw, gR_hw, gN_hw, sI_hw, sL_hw, cV_hw, shS_hw, shC_hw, shL_hw, ← bt_def, ec_here T e0 e1 (by omega), hcv, e0, nn_succ, e, hh, u2_same, v0, if_neg (show ¬ (256 : Int32) < 256 by decide), if_neg (show ¬ (257 : Int32) < 256 by decide), if_neg (show ¬ (258 : Int32) < 256 by decide), if_pos lt256]
  rw [show (60 : Int32) = nn 60 from rfl, show (62 : Int32) = nn 62 from rfl, show (61 : Int32) = nn 61 from rfl]
  simp only [lit 60 (by decide), lit 62 (by decide)]
  by_cases c1 : tb a = 60
  · rw [if_neg (s3 (by rw [c1]; rfl))]
    simp only [c1, if_true, true_and]
    by_cases d1 : hc n tb (a + 1) = nn 61
    · simp only [if_pos d1]
    · simp only [if_neg d1]
      by_cases d2 : hc n tb (a + 1) = nn 62
      · simp only [if_pos d2]
      · simp only [if_neg d2]
        rw [if_neg (by omega), if_neg (by omega)]; rfl
  · simp only [c1, if_false, false_and]
    by_cases c2 : tb a = 62
    · rw [if_neg (s3 (by rw [c2]; rfl))]
      simp only [c2, if_true, true_and]
      by_cases d1 : hc n tb (a + 1) = nn 61
      · simp only [if_pos d1]
      · simp only [if_neg d1]; rfl
    · simp only [c2, if_false, false_and]
      cases y : isSg (tb a) with
      | true => rw [if_neg (s3 y)]; rfl
      | false => rw [if_pos (q.mpr y)]; rfl
def hz (n : Nat) (tb : Nat → Nat) (a : Nat) : Int32 := if a < n then nn (tb a) else 0
def isMg (c : Nat) : Bool := c == 59 || c == 40 || c == 41 || c == 43 || c == 45 || c == 42 || c == 47 || c == 37
def sJ2 (J : Nat → Nat → Int32) (a : Nat) (v : Int32) : Nat → Nat → Int32 := u2 (u2 J 0 9 v) 0 7 (nn (a + 1))
theorem em_sgn (T : LxT I J n tb) (ha : a < n) (e7 : J 0 7 = nn a) (e6 : J 0 6 = nn n) : m_signToken (hw g J M) =
    if tb a = 61 then some ((), hw g (u2 (u2 (sJ2 J a (nn (tb a))) 0 8 5) 0 9 2) M) else
    if tb a = 60 then (if hz n tb (a + 1) = 61 then some ((), hw g (u2 (u2 (u2 (sJ2 J a (nn (tb a))) 0 7 (nn (a + 2))) 0 8 5) 0 9 1) M) else if hz n tb (a + 1) = 62 then some ((), hw g (u2 (u2 (u2 (sJ2 J a (nn (tb a))) 0 7 (nn (a + 2))) 0 8 5) 0 9 3) M) else some ((), hw g (u2 (u2 (sJ2 J a (nn (tb a))) 0 8 5) 0 9 0) M)) else
    if tb a = 62 then (if hz n tb (a + 1) = 61 then some ((), hw g (u2 (u2 (u2 (sJ2 J a (nn (tb a))) 0 7 (nn (a + 2))) 0 8 5) 0 9 4) M) else some ((), hw g (u2 (u2 (sJ2 J a (nn (tb a))) 0 8 5) 0 9 5) M)) else
    some ((), hw g (u2 (sJ2 J a (nn (tb a))) 0 8 (if isMg (tb a) = true then 4 else 6)) M) := by
  have hn := T.1
  have t := T.2 a ha
  have lit : ∀ k, k < 256 → (nn (tb a) = nn k ↔ tb a = k) := fun k hk => nn_eq (by omega) (by omega)
  have v0 : ∀ s w, (u2 (u2 J 0 9 s) 0 7 w) 0 9 = s := fun s w => by rw [u2_nk _ _ (by decide), u2_same]
  have v1 : ∀ s w r, (u2 (u2 (u2 J 0 9 s) 0 7 w) 0 8 r) 0 9 = s := fun s w r => by rw [u2_nk _ _ (by decide), u2_nk _ _ (by decide), u2_same]
  have v2 : ∀ s w w' r, (u2 (u2 (u2 (u2 J 0 9 s) 0 7 w) 0 7 w') 0 8 r) 0 9 = s := fun s w w' r => by rw [u2_nk _ _ (by decide), u2_nk _ _ (by decide), u2_nk _ _ (by decide), u2_same]
  have v6 : ∀ s w, (u2 (u2 J 0 9 s) 0 7 w) 0 6 = nn n := fun s w => by rw [u2_nk _ _ (by decide), u2_nk _ _ (by decide)]; exact e6
  have v7 : ∀ s, (u2 J 0 9 s) 0 7 = nn a := fun s => by rw [u2_nk _ _ (by decide)]; exact e7
  unfold sJ2
  simp only [m_signToken, bnd_e, cal_s, onr_s, jon_e, gI_hw, gL_hw, gT_hw, gR_hw, gN_hw, sI_hw, sL_hw, cV_hw, shS_hw, shC_hw, shL_hw, ← bt_def, e7, grd_pos (show inb (nn a) 700 from nn_inb (by omega) (by omega)), nn_clamp (show a < 2147483648 by omega), t.2.2, v7, nn_succ, v0, v1, v2, v6, u2_same, nn_clamp (show a + 1 < 2147483648 by omega)]
  by_cases z : a + 1 < n
  · skip
    have z1 : ¬ nn n ≤ nn (a + 1) := fun e => by have := (nn_le (by omega) (by omega)).mp e; omega
    have z2 : inb (nn (a + 1)) 700 := nn_inb (by omega) (by omega)
    have z3 : (u2 (u2 J 0 9 (nn (tb a))) 0 7 (nn (a + 1))) 1 (a + 1) = nn (tb (a + 1)) := by rw [u2_ne (by decide), u2_ne (by decide), (T.2 (a + 1) z).2.2]
    rw [show hz n tb (a + 1) = nn (tb (a + 1)) from if_pos z]
    simp only [if_neg z1, grd_pos z2, z3]
    generalize nn (tb (a + 1)) = d
    rw [show (60 : Int32) = nn 60 from rfl, show (62 : Int32) = nn 62 from rfl, show (61 : Int32) = nn 61 from rfl, show (59 : Int32) = nn 59 from rfl, show (40 : Int32) = nn 40 from rfl, show (41 : Int32) = nn 41 from rfl, show (43 : Int32) = nn 43 from rfl, show (45 : Int32) = nn 45 from rfl, show (42 : Int32) = nn 42 from rfl, show (47 : Int32) = nn 47 from rfl, show (37 : Int32) = nn 37 from rfl]
    simp only [lit 60 (by decide), lit 62 (by decide), lit 61 (by decide), lit 59 (by decide), lit 40 (by decide), lit 41 (by decide), lit 43 (by decide), lit 45 (by decide), lit 42 (by decide), lit 47 (by decide), lit 37 (by decide), if_neg (show ¬ (1 : Int32) = 0 by decide), if_true, eq_self]
    by_cases c1 : tb a = 61
    · simp only [c1, if_true, if_false, show ¬ 61 = 60 by decide, show ¬ 61 = 62 by decide]
    · by_cases c2 : tb a = 60
      · simp only [c2, if_true, if_false, show ¬ 60 = 61 by decide]
        by_cases d1 : d = nn 61
        · subst d1
          simp only [if_true, if_false, show ¬ nn 61 = nn 62 by decide, if_neg (show ¬ (1 : Int32) = 0 by decide)]
        · simp only [if_neg d1]
      · by_cases c3 : tb a = 62
        · simp only [c3, if_true, if_false, show ¬ 62 = 60 by decide, show ¬ 62 = 61 by decide]
        · simp only [c1, c2, c3, if_false]
          cases y : isMg (tb a) with
          | true =>
            simp only [isMg, Bool.or_eq_true, beq_iff_eq] at y
            rcases y with ((((((y | y) | y) | y) | y) | y) | y) | y <;> simp only [y, if_true, if_false, Nat.reduceEqDiff]
          | false =>
            simp only [isMg, Bool.or_eq_false_iff, beq_eq_false_iff_ne, ne_eq] at y
            obtain ⟨⟨⟨⟨⟨⟨⟨y1, y2⟩, y3⟩, y4⟩, y5⟩, y6⟩, y7⟩, y8⟩ := y
            simp only [y1, y2, y3, y4, y5, y6, y7, y8, if_false, if_true, Bool.false_eq_true]
  · skip
    have z1 : nn n ≤ nn (a + 1) := (nn_le (by omega) (by omega)).mpr (by omega)
    rw [show hz n tb (a + 1) = 0 from if_neg z]
    simp only [if_pos z1, if_neg (show ¬ (0 : Int32) = 61 by decide), if_neg (show ¬ (0 : Int32) = 62 by decide)]
    rw [show (60 : Int32) = nn 60 from rfl, show (62 : Int32) = nn 62 from rfl, show (61 : Int32) = nn 61 from rfl, show (59 : Int32) = nn 59 from rfl, show (40 : Int32) = nn 40 from rfl, show (41 : Int32) = nn 41 from rfl, show (43 : Int32) = nn 43 from rfl, show (45 : Int32) = nn 45 from rfl, show (42 : Int32) = nn 42 from rfl, show (47 : Int32) = nn 47 from rfl, show (37 : Int32) = nn 37 from rfl]
    simp only [lit 60 (by decide), lit 62 (by decide), lit 61 (by decide), lit 59 (by decide), lit 40 (by decide), lit 41 (by decide), lit 43 (by decide), lit 45 (by decide), lit 42 (by decide), lit 47 (by decide), lit 37 (by decide), if_neg (show ¬ (1 : Int32) = 0 by decide), if_true, eq_self]
    by_cases c1 : tb a = 61
    · simp only [c1, if_true, if_false, show ¬ 61 = 60 by decide, show ¬ 61 = 62 by decide]
    · by_cases c2 : tb a = 60
      · simp only [c2, if_true, if_false, show ¬ 60 = 61 by decide]
      · by_cases c3 : tb a = 62
        · simp only [c3, if_true, if_false, show ¬ 62 = 60 by decide, show ¬ 62 = 61 by decide]
        · simp only [c1, c2, c3, if_false]
          cases y : isMg (tb a) with
          | true =>
            simp only [isMg, Bool.or_eq_true, beq_iff_eq] at y
            rcases y with ((((((y | y) | y) | y) | y) | y) | y) | y <;> simp only [y, if_true, if_false, Nat.reduceEqDiff]
          | false =>
            simp only [isMg, Bool.or_eq_false_iff, beq_eq_false_iff_ne, ne_eq] at y
            obtain ⟨⟨⟨⟨⟨⟨⟨y1, y2⟩, y3⟩, y4⟩, y5⟩, y6⟩, y7⟩, y8⟩ := y
            simp only [y1, y2, y3, y4, y5, y6, y7, y8, if_false, if_true, Bool.false_eq_true]
theorem hc_hz {d : Nat} (hd : 0 < d ∧ d < 256) (T : LxT I J n tb) : hc n tb a = nn d ↔ hz n tb a = nn d := by
  unfold hc hz
  by_cases z : a < n
  · rw [if_pos z, if_pos z]
  · rw [if_neg z, if_neg z]
    refine ⟨fun e => absurd e (fun e => nn_nonneg (a := d) (by omega) (by rw [← e]; decide)), fun e => ?_⟩
    rw [← nn0] at e
    have := (nn_eq (by omega) (by omega)).mp e
    omega
theorem hc_n {d : Nat} (hd : d < 256) (e : hc n tb a = nn d) : a < n := by
  unfold hc at e
  by_cases z : a < n
  · exact z
  · rw [if_neg z] at e
    exact absurd (show nn d < 0 by rw [← e]; decide) (nn_nonneg (by omega))
/-- one token read by both -/
def Nx (I J : Nat → Nat → Int32) (n a : Nat) (I' J' : Nat → Nat → Int32) : Prop := ∃ a', a ≤ a' ∧ a' ≤ n ∧ I' 2 0 = nn a' ∧ J' 0 7 = nn a' ∧ TokR (I' 2 3) (I' 2 4) (J' 0 8) (J' 0 9) ∧ (¬ I' 2 3 = 4 → a < a') ∧ frX I I' ∧ frV J J'
theorem b_sign (T : LxT I J n tb) (ha : a < n) (e0 : I 2 0 = nn a) (e1 : I 2 1 = nn n) (e7 : J 0 7 = nn a) (e6 : J 0 6 = nn n) : ∃ I' J', cR_sign (hw h I L) = some ((), hw h I' L) ∧ m_signToken (hw g J M) = some ((), hw g J' M) ∧ Nx I J n a I' J' ∧ I' 2 2 = I 2 2 ∧ J' 0 10 = J 0 10 := by
  have hn := T.1
  have t := T.2 a ha
  rw [ec_sgn T ha e0 e1, em_sgn T ha e7 e6]
  have q1 : hc n tb (a + 1) = 61 ↔ hz n tb (a + 1) = 61 := hc_hz (d := 61) (by decide) T
  have q2 : hc n tb (a + 1) = 62 ↔ hz n tb (a + 1) = 62 := hc_hz (d := 62) (by decide) T
  have fx : ∀ s v w, frX I (u2 (u2 (sI3 I a s v) 2 4 w) 2 0 (nn (a + 2))) := fun s v w => ((((frX.u I _ (by omega)).tr (frX.u _ _ (by omega))).tr (frX.u _ _ (by omega))).tr (frX.u _ _ (by omega))).tr (frX.u _ _ (by omega))
  have fx3 : ∀ s v, frX I (sI3 I a s v) := fun s v => ((frX.u I _ (by omega)).tr (frX.u _ _ (by omega))).tr (frX.u _ _ (by omega))
  have fv2 : ∀ v, frV J (sJ2 J a v) := fun v => (frV.u J _ (by omega)).tr (frV.u _ _ (by omega))
  have fv : ∀ v w, frV J (u2 (u2 (u2 (sJ2 J a v) 0 7 (nn (a + 2))) 0 8 5) 0 9 w) := fun v w => (((fv2 v).tr (frV.u _ _ (by omega))).tr (frV.u _ _ (by omega))).tr (frV.u _ _ (by omega))
  have fw : ∀ v w, frV J (u2 (u2 (sJ2 J a v) 0 8 5) 0 9 w) := fun v w => ((fv2 v).tr (frV.u _ _ (by omega))).tr (frV.u _ _ (by omega))
  have i0 : ∀ s v w, (u2 (u2 (sI3 I a s v) 2 4 w) 2 0 (nn (a + 2))) 2 3 = s ∧ (u2 (u2 (sI3 I a s v) 2 4 w) 2 0 (nn (a + 2))) 2 4 = w ∧ (u2 (u2 (sI3 I a s v) 2 4 w) 2 0 (nn (a + 2))) 2 2 = I 2 2 := fun s v w => ⟨rfl, rfl, rfl⟩
  have i3 : ∀ s v, (sI3 I a s v) 2 0 = nn (a + 1) ∧ (sI3 I a s v) 2 3 = s ∧ (sI3 I a s v) 2 4 = v ∧ (sI3 I a s v) 2 2 = I 2 2 := fun s v => ⟨rfl, rfl, rfl, rfl⟩
  have j0 : ∀ v w, (u2 (u2 (u2 (sJ2 J a v) 0 7 (nn (a + 2))) 0 8 5) 0 9 w) 0 7 = nn (a + 2) ∧ (u2 (u2 (u2 (sJ2 J a v) 0 7 (nn (a + 2))) 0 8 5) 0 9 w) 0 8 = 5 ∧ (u2 (u2 (u2 (sJ2 J a v) 0 7 (nn (a + 2))) 0 8 5) 0 9 w) 0 9 = w ∧ (u2 (u2 (u2 (sJ2 J a v) 0 7 (nn (a + 2))) 0 8 5) 0 9 w) 0 10 = J 0 10 := fun v w => ⟨rfl, rfl, rfl, rfl⟩
  have j1 : ∀ v w, (u2 (u2 (sJ2 J a v) 0 8 5) 0 9 w) 0 7 = nn (a + 1) ∧ (u2 (u2 (sJ2 J a v) 0 8 5) 0 9 w) 0 8 = 5 ∧ (u2 (u2 (sJ2 J a v) 0 8 5) 0 9 w) 0 9 = w ∧ (u2 (u2 (sJ2 J a v) 0 8 5) 0 9 w) 0 10 = J 0 10 := fun v w => ⟨rfl, rfl, rfl, rfl⟩
  have far : ∀ d w, hc n tb (a + 1) = nn d → d < 256 → ∀ v v' x, SgR x 5 w → Nx I J n a (u2 (u2 (sI3 I a 3 v) 2 4 x) 2 0 (nn (a + 2))) (u2 (u2 (u2 (sJ2 J a v') 0 7 (nn (a + 2))) 0 8 5) 0 9 w) := fun d w e hd v v' x sg => ⟨a + 2, by omega, by have := hc_n hd e; omega, u2_same _ _ _ _, (j0 v' w).1, by rw [(i0 3 v x).1, (i0 3 v x).2.1, (j0 v' w).2.1, (j0 v' w).2.2.1]; exact Or.inr (Or.inr (Or.inr (Or.inl ⟨rfl, sg⟩))), fun _ => by omega, fx _ _ _, fv _ _⟩
  have near : ∀ v' x w, SgR x 5 w → Nx I J n a (sI3 I a 3 x) (u2 (u2 (sJ2 J a v') 0 8 5) 0 9 w) := fun v' x w sg => ⟨a + 1, by omega, by omega, (i3 3 x).1, (j1 v' w).1, by rw [(i3 3 x).2.1, (i3 3 x).2.2.1, (j1 v' w).2.1, (j1 v' w).2.2.1]; exact Or.inr (Or.inr (Or.inr (Or.inl ⟨rfl, sg⟩))), fun _ => by omega, fx3 _ _, fw _ _⟩
  by_cases c1 : tb a = 60
  · rw [if_neg (show ¬ tb a = 61 by omega), if_pos c1]
    by_cases d1 : hc n tb (a + 1) = 61
    · rw [if_pos ⟨c1, d1⟩, if_pos (q1.mp d1)]
      exact ⟨_, _, rfl, rfl, far 61 1 d1 (by decide) _ _ 256 (Or.inr ⟨rfl, Or.inr (Or.inl ⟨rfl, rfl⟩)⟩), (i0 _ _ _).2.2, (j0 _ _).2.2.2⟩
    · rw [if_neg (fun e => d1 e.2), if_neg (fun e => d1 (q1.mpr e))]
      by_cases d2 : hc n tb (a + 1) = 62
      · rw [if_pos ⟨c1, d2⟩, if_pos (q2.mp d2)]
        exact ⟨_, _, rfl, rfl, far 62 3 d2 (by decide) _ _ 258 (Or.inr ⟨rfl, Or.inr (Or.inr (Or.inr (Or.inl ⟨rfl, rfl⟩)))⟩), (i0 _ _ _).2.2, (j0 _ _).2.2.2⟩
      · rw [if_neg (fun e => d2 e.2), if_neg (fun e => d2 (q2.mpr e)), if_neg (fun e => by omega), c1]
        exact ⟨_, _, rfl, rfl, near _ 60 0 (Or.inr ⟨rfl, Or.inl ⟨rfl, rfl⟩⟩), (i3 _ _).2.2.2, (j1 _ _).2.2.2⟩
  · rw [if_neg (fun e => c1 e.1), if_neg (fun e => c1 e.1)]
    by_cases c2 : tb a = 62
    · rw [if_neg (show ¬ tb a = 61 by omega), if_neg c1, if_pos c2]
      by_cases d1 : hc n tb (a + 1) = 61
      · rw [if_pos ⟨c2, d1⟩, if_pos (q1.mp d1)]
        exact ⟨_, _, rfl, rfl, far 61 4 d1 (by decide) _ _ 257 (Or.inr ⟨rfl, Or.inr (Or.inr (Or.inr (Or.inr (Or.inl ⟨rfl, rfl⟩))))⟩), (i0 _ _ _).2.2, (j0 _ _).2.2.2⟩
      · rw [if_neg (fun e => d1 e.2), if_neg (fun e => d1 (q1.mpr e)), c2]
        exact ⟨_, _, rfl, rfl, near _ 62 5 (Or.inr ⟨rfl, Or.inr (Or.inr (Or.inr (Or.inr (Or.inr ⟨rfl, rfl⟩))))⟩), (i3 _ _).2.2.2, (j1 _ _).2.2.2⟩
    · rw [if_neg (fun e => c2 e.1)]
      by_cases c3 : tb a = 61
      · rw [if_pos c3, c3]
        exact ⟨_, _, rfl, rfl, near _ 61 2 (Or.inr ⟨rfl, Or.inr (Or.inr (Or.inl ⟨rfl, rfl⟩))⟩), (i3 _ _).2.2.2, (j1 _ _).2.2.2⟩
      · rw [if_neg c3, if_neg c1, if_neg c2]
        refine ⟨_, _, rfl, rfl, ⟨a + 1, by omega, by omega, (i3 _ _).1, rfl, ?_, fun _ => by omega, fx3 _ _, (fv2 _).tr (frV.u _ _ (by omega))⟩, (i3 _ _).2.2.2, rfl⟩
        rw [(i3 _ _).2.1, (i3 _ _).2.2.1, u2_same, show u2 (sJ2 J a (nn (tb a))) 0 8 (if isMg (tb a) = true then 4 else 6) 0 9 = nn (tb a) from rfl]
        cases y : isSg (tb a) with
        | true =>
          have y' : isMg (tb a) = true := by
            simp only [isSg, isMg, Bool.or_eq_true, beq_iff_eq] at y ⊢
            omega
          rw [if_pos rfl, y', if_pos rfl]
          refine Or.inr (Or.inr (Or.inr (Or.inl ⟨rfl, Or.inl ⟨rfl, rfl, ?_⟩⟩)))
          have : tb a = 59 ∨ tb a = 40 ∨ tb a = 41 ∨ tb a = 43 ∨ tb a = 45 ∨ tb a = 42 ∨ tb a = 47 := by
            simp only [isSg, Bool.or_eq_true, beq_iff_eq] at y
            omega
          rcases this with e | e | e | e | e | e | e <;> rw [e] <;> decide
        | false =>
          rw [if_neg (fun e => Bool.noConfusion e)]
          refine Or.inr (Or.inr (Or.inr (Or.inr (Or.inr ⟨rfl, ?_⟩))))
          cases w : isMg (tb a) with
          | false => exact Or.inl rfl
          | true =>
            refine Or.inr ⟨rfl, ?_⟩
            have : tb a = 37 := by
              simp only [isMg, Bool.or_eq_true, beq_iff_eq] at w
              simp only [isSg, Bool.or_eq_false_iff, beq_eq_false_iff_ne, ne_eq] at y
              omega
            rw [this]; rfl
end P24
