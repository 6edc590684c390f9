set_option maxRecDepth 100000
/-! PURE LEVEL A8: one line, both sides, whole -/
section P53
variable {h0 h h' g : HP} {I0 J0 I I' J J' : Nat → Nat → Int32} {L M : Nat → Nat → Int64} {n : Nat} {tb : Nat → Nat} {a a' c kr : Nat} {K : KT} {A : Nat → Nat → Nat} {t ln : Nat} {S U : Nat → Prop} {j : HP → Option ((Unit ⊕ Nat × Nat) × HP)}
/-- a line's answer -/
def LR (g : HP) (M : Nat → Nat → Int64) (h0 : HP) (I0 J0 : Nat → Nat → Int32) (n : Nat) (tb : Nat → Nat) (c : Nat) (h : HP) (m ln : Nat) (tc : Option ((Unit ⊕ Nat × Nat) × HP)) (tm : Option (Int32 × HP)) : Prop := LFl g M h0 I0 J0 (gN h + (m + 3)) (gS h + (12 * m + 40)) tc tm ∨ ∃ h' I' L' J' a' K' A' t', tc = some (.inl (), hw h' I' L') ∧ tm = some (1, hw g J' M) ∧ PSt h0 I0 J0 h' I' J' n tb c a' K' A' t' (ln + 1) ∧ mu n a' (I' 2 3) < m ∧ gN h' + mu n a' (I' 2 3) ≤ gN h + m ∧ gS h' + 12 * mu n a' (I' 2 3) ≤ gS h + 12 * m
theorem LR.of {m m' t' : Nat} {tc : Option ((Unit ⊕ Nat × Nat) × HP)} {tm : Option (Int32 × HP)} (hm : m < m') (q : LFl g M h0 I0 J0 (gN h + (m + 3)) (gS h + (12 * m + 40)) tc tm ∨ ∃ h' I' L' J' a' K' A', tc = some (.inl (), hw h' I' L') ∧ tm = some (1, hw g J' M) ∧ PSt h0 I0 J0 h' I' J' n tb c a' K' A' t' (ln + 1) ∧ mu n a' (I' 2 3) < m ∧ gN h' + mu n a' (I' 2 3) ≤ gN h + m ∧ gS h' + 12 * mu n a' (I' 2 3) ≤ gS h + 12 * m) : LR g M h0 I0 J0 n tb c h m' ln tc tm := by
  rcases q with fl | ⟨h', I', L', J', a', K', A', e1, e2, q, m1, b1, b2⟩
  · exact Or.inl (fl.le (by omega) (by omega))
  · exact Or.inr ⟨h', I', L', J', a', K', A', t', e1, e2, q, by omega, by omega, by omega⟩
theorem LR.w {m : Nat} (q : PSt h0 I0 J0 h I J n tb c a K A t ln) (k : Int32) {tm : Option (Int32 × HP)} (e : tm = m_wrong k (hw g J M)) : LR g M h0 I0 J0 n tb c h m ln (wrC Unit k (hw h I L)) tm := by
  left
  rw [e]
  exact (q.fl (flt_wrong (ρ := Unit) (g := g) (M := M) (L := L) q.1 0 k)).le (by omega) (by omega)
theorem pre (q : PSt h0 I0 J0 h I J n tb c a K A t ln) {u : Nat} (hu : u < 8) (hs : I 2 3 = 0) (J3 : J' 3 0 = bI ((t ||| 2 ^ u).testBit 5) ∧ J' 3 1 = bI ((t ||| 2 ^ u).testBit 6)) (Jx : ∀ x, x ≠ 3 → J' x = J x) : ∃ I2 J2 a2, lnP (nn u) (hw h I L) = lnB (nn u) (hw h I2 L) ∧ m_token (hw g J' M) = some ((), hw g J2 M) ∧ PSt h0 I0 J0 h I2 J2 n tb c a2 K A (t ||| 2 ^ u) ln ∧ mu n a2 (I2 2 3) < mu n a (I 2 3) := by
  obtain ⟨I2, J2, a2, n1, n2, q2, m2⟩ := (q.told hu J3 Jx).nx (L := L) (g := g) (M := M)
  refine ⟨I2, J2, a2, ?_, n2, q2, ?_⟩
  · rw [lnP, gI_hw, q.2.2.2.1.1, (told_or ⟨t, q.2.2.2.1.2.1⟩ ⟨u, hu⟩).1, bnd_e, sI_hw, n1, cal_s]
  · have := m2 (by rw [u2_nk _ _ (by decide), hs]; decide)
    rw [u2_nk _ _ (by decide)] at this; exact this
theorem ec_full (q : PSt h0 I0 J0 h I J n tb c a K A t ln) {u : Nat} (hu : u < 8) : cR_isFull (nn u) (hw h I L) = some (bI (decide ((u = 0 ∧ zF K = 8) ∨ (u = 1 ∧ zP K = 5) ∨ (u = 3 ∧ zQ K = 8) ∨ (u = 4 ∧ zT K = 10))), hw h I L) := by
  have rd := q.1
  have cc := q.2.1.1
  have wk := q.2.1.2.2.1
  have r27 : gR (cV (hw h I L)) 2 7 = some c := rd.2.2.2.1
  have sC : shC (cV (hw h I L)) c := rd.2.2.2.2.1
  have z1 : cL_size (c + 1) (hw h I L) = some (nn (zF K), hw h I L) := by rw [ec_size cc.2.1.1, cc.2.2.2.1.1]
  have z3 : cL_size (c + 3) (hw h I L) = some (nn (zP K), hw h I L) := by rw [ec_size cc.2.1.2.1, cc.2.2.2.1.2.1]
  have z5 : cL_size (c + 5) (hw h I L) = some (nn (zQ K), hw h I L) := by rw [ec_size cc.2.1.2.2, cc.2.2.2.1.2.2]
  have s1 : shL (cV (hw h I L)) (c + 1) := cc.2.1.1
  have s3 : shL (cV (hw h I L)) (c + 3) := cc.2.1.2.1
  have s5 : shL (cV (hw h I L)) (c + 5) := cc.2.1.2.2
  have i7 : gI (hw h I L) c 7 = nn (zT K) := cc.2.2.2.2.1.1
  have lit : ∀ x k, x < 100 → k < 100 → (nn x = nn k ↔ x = k) := fun x k h1 h2 => nn_eq (by omega) (by omega)
  rw [cR_isFull]
  simp only [jon_e, r27, onr_some, grd_pos sC, grd_pos s1, grd_pos s3, grd_pos s5, z1, z3, z5, cal_s, i7]
  rcases (show u = 0 ∨ u = 1 ∨ u = 2 ∨ u = 3 ∨ u = 4 ∨ u = 5 ∨ u = 6 ∨ u = 7 by omega) with rfl | rfl | rfl | rfl | rfl | rfl | rfl | rfl
  · rw [if_pos (show nn 0 = 0 from rfl)]
    by_cases z : zF K = 8
    · rw [if_pos (show nn (zF K) = 8 by rw [z]; rfl), decide_eq_true (by omega)]; rfl
    · rw [if_neg (show ¬ nn (zF K) = 8 from fun e => z ((lit _ 8 (by omega) (by omega)).mp e)), if_neg (by decide), if_neg (by decide), if_neg (by decide), decide_eq_false (by omega)]; rfl
  · rw [if_neg (by decide), if_pos (show nn 1 = 1 from rfl)]
    by_cases z : zP K = 5
    · rw [if_pos (show nn (zP K) = 5 by rw [z]; rfl), decide_eq_true (by omega)]; rfl
    · rw [if_neg (show ¬ nn (zP K) = 5 from fun e => z ((lit _ 5 (by omega) (by omega)).mp e)), if_neg (by decide), if_neg (by decide), decide_eq_false (by omega)]; rfl
  · rw [if_neg (by decide), if_neg (by decide), if_neg (by decide), if_neg (by decide), decide_eq_false (by omega)]; rfl
  · rw [if_neg (by decide), if_neg (by decide), if_pos (show nn 3 = 3 from rfl)]
    by_cases z : zQ K = 8
    · rw [if_pos (show nn (zQ K) = 8 by rw [z]; rfl), decide_eq_true (by omega)]; rfl
    · rw [if_neg (show ¬ nn (zQ K) = 8 from fun e => z ((lit _ 8 (by omega) (by omega)).mp e)), if_neg (by decide), decide_eq_false (by omega)]; rfl
  · rw [if_neg (by decide), if_neg (by decide), if_neg (by decide), if_pos (show nn 4 = 4 from rfl)]
    by_cases z : zT K = 10
    · rw [if_pos (show nn (zT K) = 10 by rw [z]; rfl), decide_eq_true (by omega)]; rfl
    · rw [if_neg (show ¬ nn (zT K) = 10 from fun e => z ((lit _ 10 (by omega) (by omega)).mp e)), decide_eq_false (by omega)]; rfl
  · rw [if_neg (by decide), if_neg (by decide), if_neg (by decide), if_neg (by decide), decide_eq_false (by omega)]; rfl
  · rw [if_neg (by decide), if_neg (by decide), if_neg (by decide), if_neg (by decide), decide_eq_false (by omega)]; rfl
  · rw [if_neg (by decide), if_neg (by decide), if_neg (by decide), if_neg (by decide), decide_eq_false (by omega)]; rfl
theorem r_line (q : PSt h0 I0 J0 h I J n tb c a K A t ln) : LR g M h0 I0 J0 n tb c h (mu n a (I 2 3)) ln (cR_line (hw h I L)) (m_lineRead (hw g J M)) := by
  have rd := q.1
  have tok := rd.2.2.1.1
  have mr := q.2.1.2.1.1
  have wk := q.2.1.2.2.1
  have lit : ∀ x k, x < 100 → k < 100 → (nn x = nn k ↔ x = k) := fun x k h1 h2 => nn_eq (by omega) (by omega)
  rw [line_e, lineRead_e, ec_isWord, cal_s]
  simp only [gI_hw]
  by_cases zw : I 2 3 = 0 ∧ ¬ I 2 4 < 0 ∧ ¬ (7 : Int32) < I 2 4
  case neg =>
    rw [decide_eq_false zw, if_pos (by rfl)]
    refine LR.w q 1 ?_
    rw [m_wr]
    by_cases k1 : J 0 8 = 1
    · rw [if_pos k1]
      by_cases k2 : J 0 9 ≤ 7
      · exfalso
        obtain ⟨u, hu, ev, -, ew⟩ := tk_word tok ((tk_num tok).2.2.mp k1)
        have hs : sw u < 25 := (mF_f ⟨u, hu⟩).2.2.2.2.2
        have n0 : ¬ J 0 9 < nn 0 := by rw [ew]; exact nn_nonneg (by omega)
        exact zw ((tk_rng (lo := 0) (hi := 7) tok (by decide) (by decide)).mpr ⟨k1, n0, k2, tk_rng2 (lo := 0) (hi := 7) tok (by decide) (by decide) k1 n0 k2⟩)
      · rw [if_neg k2]
    · rw [if_neg k1]
  rw [decide_eq_true zw, if_neg (by decide)]
  obtain ⟨k1, -, k2, k3⟩ := (tk_rng (lo := 0) (hi := 7) tok (by decide) (by decide)).mp zw
  obtain ⟨u, hu, ev, -, -⟩ := tk_word tok zw.1
  have u7 : u < 8 := by
    by_cases y : u < 8
    · exact y
    · exact absurd (show (7 : Int32) < I 2 4 by rw [ev]; exact (nn_lt (a := 7) (by omega) (by omega)).mpr (by omega)) zw.2.2
  have k2 : J 0 9 ≤ 7 := k2
  rw [if_pos k1, if_pos k2, k3, ev, ec_full q u7, cal_s]
  rcases (show u = 0 ∨ u = 1 ∨ u = 2 ∨ u = 3 ∨ u = 4 ∨ u = 5 ∨ u = 6 ∨ u = 7 by omega) with rfl | rfl | rfl | rfl | rfl | rfl | rfl | rfl
  · rw [if_pos (show nn 0 = 0 from rfl), factLine_e, gI_hw, mr.1]
    by_cases z : zF K = 8
    · rw [decide_eq_true (by omega), if_neg (by decide), if_pos (show nn (zF K) = 8 by rw [z]; rfl), m_wr]
      exact LR.w q 2 (by rw [em_wrong, cal_s]; rfl)
    · rw [decide_eq_false (by omega), if_pos (by rfl), if_neg (by decide), if_neg (by decide), if_neg (show ¬ nn (zF K) = 8 from fun e => z ((lit _ 8 (by omega) (by omega)).mp e))]
      obtain ⟨I2, J2, a2, e1, e2, q2, m2⟩ := pre (L := L) (g := g) (M := M) q u7 zw.1 (told_same q u7 (by decide) (by decide)) (fun _ _ => rfl)
      rw [e1, e2, cal_s]
      exact LR.of m2 (b_fin (b_fact (j := lnJ) q2 (by omega)) rfl)
  · rw [if_neg (show ¬ nn 1 = 0 by decide), if_pos (show nn 1 = 1 from rfl), personLine_e, gI_hw, mr.2.1]
    by_cases z : zP K = 5
    · rw [decide_eq_true (by omega), if_neg (by decide), if_pos (show nn (zP K) = 5 by rw [z]; rfl), m_wr]
      exact LR.w q 2 (by rw [em_wrong, cal_s]; rfl)
    · rw [decide_eq_false (by omega), if_pos (by rfl), if_neg (by decide), if_neg (by decide), if_neg (show ¬ nn (zP K) = 5 from fun e => z ((lit _ 5 (by omega) (by omega)).mp e))]
      obtain ⟨I2, J2, a2, e1, e2, q2, m2⟩ := pre (L := L) (g := g) (M := M) q u7 zw.1 (told_same q u7 (by decide) (by decide)) (fun _ _ => rfl)
      rw [e1, e2, cal_s]
      exact LR.of m2 (b_fin (b_person (j := lnJ) q2 (by omega)) rfl)
  · rw [if_neg (show ¬ nn 2 = 0 by decide), if_neg (show ¬ nn 2 = 1 by decide), if_pos (show nn 2 = 2 from rfl), knowsLine_e, decide_eq_false (by omega), if_pos (by rfl), if_neg (by decide), if_neg (by decide)]
    obtain ⟨I2, J2, a2, e1, e2, q2, m2⟩ := pre (L := L) (g := g) (M := M) q u7 zw.1 (told_same q u7 (by decide) (by decide)) (fun _ _ => rfl)
    rw [e1, e2, cal_s]
    exact LR.of m2 (b_fin (b_knows (j := lnJ) q2) rfl)
  · rw [if_neg (show ¬ nn 3 = 0 by decide), if_neg (show ¬ nn 3 = 1 by decide), if_neg (show ¬ nn 3 = 2 by decide), if_pos (show nn 3 = 3 from rfl), askLine_e, gI_hw, mr.2.2.1]
    by_cases z : zQ K = 8
    · rw [decide_eq_true (by omega), if_neg (by decide), if_pos (show nn (zQ K) = 8 by rw [z]; rfl), m_wr]
      exact LR.w q 2 (by rw [em_wrong, cal_s]; rfl)
    · rw [decide_eq_false (by omega), if_pos (by rfl), if_neg (by decide), if_neg (by decide), if_neg (show ¬ nn (zQ K) = 8 from fun e => z ((lit _ 8 (by omega) (by omega)).mp e))]
      obtain ⟨I2, J2, a2, e1, e2, q2, m2⟩ := pre (L := L) (g := g) (M := M) q u7 zw.1 (told_same q u7 (by decide) (by decide)) (fun _ _ => rfl)
      rw [e1, e2, cal_s]
      exact LR.of m2 (b_fin (b_quest (j := lnJ) q2 (by omega)) rfl)
  · rw [if_neg (show ¬ nn 4 = 0 by decide), if_neg (show ¬ nn 4 = 1 by decide), if_neg (show ¬ nn 4 = 2 by decide), if_neg (show ¬ nn 4 = 3 by decide), if_pos (show nn 4 = 4 from rfl), talkLine_e, gI_hw, mr.2.2.2.1]
    by_cases z : zT K = 10
    · rw [decide_eq_true (by omega), if_neg (by decide), if_pos (show nn (zT K) = 10 by rw [z]; rfl), m_wr]
      exact LR.w q 2 (by rw [em_wrong, cal_s]; rfl)
    · rw [decide_eq_false (by omega), if_pos (by rfl), if_neg (by decide), if_neg (by decide), if_neg (show ¬ nn (zT K) = 10 from fun e => z ((lit _ 10 (by omega) (by omega)).mp e))]
      obtain ⟨I2, J2, a2, e1, e2, q2, m2⟩ := pre (L := L) (g := g) (M := M) q u7 zw.1 (told_same q u7 (by decide) (by decide)) (fun _ _ => rfl)
      rw [e1, e2, cal_s]
      exact LR.of m2 (b_fin (b_talk (j := lnJ) q2 (by omega)) rfl)
  · have tt := told_tst ⟨t, q.2.2.2.1.2.1⟩ ⟨5, by decide⟩
    have tbt := told_bit ⟨t, q.2.2.2.1.2.1⟩ ⟨5, by decide⟩
    have b3 := q.2.2.2.1.2.2
    simp only [] at tt tbt
    rw [if_neg (show ¬ nn 5 = 0 by decide), if_neg (show ¬ nn 5 = 1 by decide), if_neg (show ¬ nn 5 = 2 by decide), if_neg (show ¬ nn 5 = 3 by decide), if_neg (show ¬ nn 5 = 4 by decide), if_pos (show nn 5 = 5 from rfl), decide_eq_false (by omega), if_pos (by rfl), if_pos (show nn 5 = 5 from rfl), lnC, gI_hw, q.2.2.2.1.1, onceLine_e, gI_hw, grd_pos (show inb (0 : Int32) 2 by decide), show J 3 (0 : Int32).toNatClampNeg = bI (t.testBit 5) from b3.1]
    cases z : t.testBit 5 with
    | true =>
      rw [if_pos (tbt.mpr z), if_neg (by decide), m_wr]
      exact LR.w q 3 (by rw [em_wrong, cal_s]; rfl)
    | false =>
      rw [if_neg (fun y => by have := tbt.mp y; rw [z] at this; exact Bool.noConfusion this), if_pos (by rfl), grd_pos (show inb (0 : Int32) 2 by decide), bnd_e, sI_hw]
      obtain ⟨I2, J2, a2, e1, e2, q2, m2⟩ := pre (L := L) (g := g) (M := M) (J' := u2 J 3 (0 : Int32).toNatClampNeg 1) q u7 zw.1 ⟨by rw [tt.1]; simp; rfl, by rw [tt.2, u2_nk _ _ (show 1 ≠ (0 : Int32).toNatClampNeg by decide)]; simpa using b3.2⟩ (fun x hx => u2_ne hx)
      rw [e1, e2, cal_s]
      exact LR.of m2 (b_fin (b_once (j := lnJ) q2 (i := 0) (by decide) 99) rfl)
  · have tt := told_tst ⟨t, q.2.2.2.1.2.1⟩ ⟨6, by decide⟩
    have tbt := told_bit ⟨t, q.2.2.2.1.2.1⟩ ⟨6, by decide⟩
    have b3 := q.2.2.2.1.2.2
    simp only [] at tt tbt
    rw [if_neg (show ¬ nn 6 = 0 by decide), if_neg (show ¬ nn 6 = 1 by decide), if_neg (show ¬ nn 6 = 2 by decide), if_neg (show ¬ nn 6 = 3 by decide), if_neg (show ¬ nn 6 = 4 by decide), if_neg (show ¬ nn 6 = 5 by decide), if_pos (show nn 6 = 6 from rfl), decide_eq_false (by omega), if_pos (by rfl), if_neg (show ¬ nn 6 = 5 by decide), if_pos (show nn 6 = 6 from rfl), lnC, gI_hw, q.2.2.2.1.1, onceLine_e, gI_hw, grd_pos (show inb (1 : Int32) 2 by decide), show J 3 (1 : Int32).toNatClampNeg = bI (t.testBit 6) from b3.2]
    cases z : t.testBit 6 with
    | true =>
      rw [if_pos (tbt.mpr z), if_neg (by decide), m_wr]
      exact LR.w q 3 (by rw [em_wrong, cal_s]; rfl)
    | false =>
      rw [if_neg (fun y => by have := tbt.mp y; rw [z] at this; exact Bool.noConfusion this), if_pos (by rfl), grd_pos (show inb (1 : Int32) 2 by decide), bnd_e, sI_hw]
      obtain ⟨I2, J2, a2, e1, e2, q2, m2⟩ := pre (L := L) (g := g) (M := M) (J' := u2 J 3 (1 : Int32).toNatClampNeg 1) q u7 zw.1 ⟨by rw [tt.1, u2_nk _ _ (show 0 ≠ (1 : Int32).toNatClampNeg by decide)]; simpa using b3.1, by rw [tt.2]; simp; rfl⟩ (fun x hx => u2_ne hx)
      rw [e1, e2, cal_s]
      exact LR.of m2 (b_fin (b_once (j := lnJ) q2 (i := 1) (by decide) 99999) rfl)
  · rw [if_neg (show ¬ nn 7 = 0 by decide), if_neg (show ¬ nn 7 = 1 by decide), if_neg (show ¬ nn 7 = 2 by decide), if_neg (show ¬ nn 7 = 3 by decide), if_neg (show ¬ nn 7 = 4 by decide), if_neg (show ¬ nn 7 = 5 by decide), if_neg (show ¬ nn 7 = 6 by decide), decide_eq_false (by omega), if_pos (by rfl), if_neg (show ¬ nn 7 = 5 by decide), if_neg (show ¬ nn 7 = 6 by decide)]
    obtain ⟨I2, J2, a2, e1, e2, q2, m2⟩ := pre (L := L) (g := g) (M := M) q u7 zw.1 (told_same q u7 (by decide) (by decide)) (fun _ _ => rfl)
    rw [e1, e2, cal_s]
    rcases b_lawL (L := L) (g := g) (M := M) (j := lnJ) q2 lnJ_no lmJ (fun H => by rw [lmJ, if_pos rfl]) with fl | ⟨h', I', L', J', a', K', A', e3, e4, q3, m3, b1, b2⟩
    · left
      exact LFl.le (by omega) (by omega) fl
    · show LR g M h0 I0 J0 n tb c h _ ln (lnL lnJ (hw h I2 L)) (lmL lmJ (hw g J2 M))
      rw [e3, e4]
      rcases b_end (L := L') (g := g) (M := M) q3 with fl | ⟨I4, J4, a4, e5, e6, q4, m4⟩
      · left
        exact fl.le (by omega) (by omega)
      · right
        exact ⟨h', I4, L', J4, a4, K', A', _, e5, e6, q4, by omega, by omega, by omega⟩
end P53
