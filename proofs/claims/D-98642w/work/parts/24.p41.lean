/-! PURE LEVEL 41: what only reads: named, fault, question, can, law, count, person -/
def zfd (f : Nat → Int32) (x : Int32) : Nat → Nat → Int32
  | 0, _ => -1
  | j + 1, i => if f i = x then nn i else zfd f x j (i + 1)
theorem zfd_cg {f f' : Nat → Int32} {x : Int32} : ∀ (j i : Nat), (∀ k, i ≤ k → k < i + j → f k = f' k) → zfd f x j i = zfd f' x j i
  | 0, _, _ => rfl
  | j + 1, i, h => by
    show (if f i = x then nn i else zfd f x j (i + 1)) = if f' i = x then nn i else zfd f' x j (i + 1)
    rw [h i (by omega) (by omega), zfd_cg j (i + 1) (fun k h1 h2 => h k (by omega) (by omega))]
theorem zfd_in {f : Nat → Int32} {x : Int32} : ∀ (j i : Nat), zfd f x j i = -1 ∨ ∃ k, i ≤ k ∧ k < i + j ∧ zfd f x j i = nn k ∧ f k = x
  | 0, _ => Or.inl rfl
  | j + 1, i => by
    show (if f i = x then nn i else zfd f x j (i + 1)) = -1 ∨ ∃ k, i ≤ k ∧ k < i + (j + 1) ∧ (if f i = x then nn i else zfd f x j (i + 1)) = nn k ∧ f k = x
    by_cases z : f i = x
    · rw [if_pos z]; exact Or.inr ⟨i, by omega, by omega, rfl, z⟩
    · rw [if_neg z]
      rcases zfd_in (f := f) (x := x) j (i + 1) with q | ⟨k, h1, h2, h3, h4⟩
      · exact Or.inl q
      · exact Or.inr ⟨k, by omega, by omega, h3, h4⟩
section B18
variable {h g : HP} {I0 J0 : Nat → Nat → Int32} {M0 : Nat → Nat → Int64} {c : Nat} {K : KT} {A : Nat → Nat → Nat} {w : Int32} {S : ST}
theorem ec_find1 {I : Nat → Nat → Int32} {L : Nat → Nat → Int64} {l m : Nat} {a : Nat → Nat} (hL : shL (cV h) l) (e : I l 2 = nn m) (hm : m ≤ (gT (cV h) (l + 1)).2) (hm2 : m < 2147483648) (hR : ∀ k, k < m → gR (cV h) (l + 1) k = some (a k) ∧ ((gT (cV h) (a k)).1 = 7 ∨ (gT (cV h) (a k)).1 = 8 ∨ (gT (cV h) (a k)).1 = 9)) (x : Int32) : ∀ (j i n : Nat), i + j = m → j < n → kX12_find_2 l x (fun h11 => some (-1, h11)) n (nn i) (hw h I L) = some (zfd (fun k => I (a k) 0) x j i, hw h I L) := by
  intro j
  induction j with
  | zero =>
    intro i n hi hn
    obtain ⟨n, rfl⟩ : ∃ n', n = n' + 1 := ⟨n - 1, by omega⟩
    rw [kX12_find_2]
    simp only [bnd_e, cal_s, onr_s, jon_e, gI_hw, gL_hw, gT_hw, gR_hw, gN_hw, sI_hw, sL_hw, cV_hw, shS_hw, shC_hw, shL_hw, ← bt_def, grd_pos hL, ec_size hL, e, if_pos (nn_ple (show m ≤ i by omega) (show i < 2147483648 by omega))]
    rfl
  | succ j ih =>
    intro i n hi hn
    obtain ⟨n, rfl⟩ : ∃ n', n = n' + 1 := ⟨n - 1, by omega⟩
    obtain ⟨r1, r2⟩ := hR i (by omega)
    have eg : cL_get l (nn i) (hw h I L) = some (a i, hw h I L) := ec_get hL e (show i < m by omega) hm hm2 r1
    rw [kX12_find_2]
    simp only [bnd_e, cal_s, onr_s, jon_e, gI_hw, gL_hw, gT_hw, gR_hw, gN_hw, sI_hw, sL_hw, cV_hw, shS_hw, shC_hw, shL_hw, ← bt_def, grd_pos hL, ec_size hL, e, if_neg (nn_nle (show i < m by omega) hm2), eg, grd_pos r2, nn_succ]
    show _ = some ((if I (a i) 0 = x then nn i else zfd (fun k => I (a k) 0) x j (i + 1)), hw h I L)
    by_cases z : I (a i) 0 = x
    · rw [if_pos z, if_pos z]
    · rw [if_neg z, if_neg z]; exact ih (i + 1) n (by omega) (by omega)
theorem ec_find {I : Nat → Nat → Int32} {L : Nat → Nat → Int64} {l m : Nat} {a : Nat → Nat} (hL : shL (cV h) l) (e : I l 2 = nn m) (hm : m ≤ (gT (cV h) (l + 1)).2) (hm2 : m < 1000) (hR : ∀ k, k < m → gR (cV h) (l + 1) k = some (a k) ∧ ((gT (cV h) (a k)).1 = 7 ∨ (gT (cV h) (a k)).1 = 8 ∨ (gT (cV h) (a k)).1 = 9)) (x : Int32) : kX12_find l x (hw h I L) = some (zfd (fun k => I (a k) 0) x m 0, hw h I L) := by
  have e := ec_find1 (L := L) hL e hm (by omega) hR x m 0 FU (by omega) hm2
  rw [nn0] at e
  rw [kX12_find, bnd_e]; exact e
theorem em_find1 {J : Nat → Nat → Int32} {M : Nat → Nat → Int64} {t o m : Nat} (ht : (mT t).1 = 100) (hm : o + m ≤ (mT t).2) (hs : (mT t).2 < 1000) (x : Int32) : ∀ (j i n : Nat), i + j = m → j < n → m_find_3 t (nn o) (nn m) x (fun h4 => some (-1, h4)) n (nn i) (hw g J M) = some (zfd (fun k => J t (o + k)) x j i, hw g J M) := by
  intro j
  induction j with
  | zero =>
    intro i n hi hn
    obtain ⟨n, rfl⟩ : ∃ n', n = n' + 1 := ⟨n - 1, by omega⟩
    rw [m_find_3, if_pos (nn_ple (show m ≤ i by omega) (show i < 2147483648 by omega))]
    rfl
  | succ j ih =>
    intro i n hi hn
    obtain ⟨n, rfl⟩ : ∃ n', n = n' + 1 := ⟨n - 1, by omega⟩
    rw [m_find_3]
    simp only [bnd_e, cal_s, onr_s, jon_e, gI_hw, gL_hw, gT_hw, gR_hw, gN_hw, sI_hw, sL_hw, cV_hw, shS_hw, shC_hw, shL_hw, ← bt_def, if_neg (nn_nle (show i < m by omega) (show m < 2147483648 by omega)), grd_pos ht, nn_add, grd_pos (show inb (nn (o + i)) (mT t).2 from nn_inb (by omega) (by omega)), nn_clamp (show o + i < 2147483648 by omega), nn_succ]
    show _ = some ((if J t (o + i) = x then nn i else zfd (fun k => J t (o + k)) x j (i + 1)), hw g J M)
    by_cases z : J t (o + i) = x
    · rw [if_pos z, if_pos z]
    · rw [if_neg z, if_neg z]; exact ih (i + 1) n (by omega) (by omega)
theorem em_find {J : Nat → Nat → Int32} {M : Nat → Nat → Int64} {t o m : Nat} (ht : (mT t).1 = 100) (hm : o + m ≤ (mT t).2) (hs : (mT t).2 < 1000) (x : Int32) : m_find t (nn o) (nn m) x (hw g J M) = some (zfd (fun k => J t (o + k)) x m 0, hw g J M) := by
  have e := em_find1 (g := g) (J := J) (M := M) ht hm hs x m 0 FU (by omega) (by show _ < 1000; omega)
  rw [nn0] at e
  rw [m_find, bnd_e]; exact e
theorem b_fault {I J : Nat → Nat → Int32} {L M : Nat → Nat → Int64} (a : At h I0 J0 M0 c K A w S I J M) (e1 : I 0 2 = J 0 4) (e2 : I 0 3 = J 0 5) (x : Int32) : B2 h g I0 J0 M0 (cA_fault x (hw h I L)) (m_fault x (hw g J M)) := by
  have a := a.thr
  simp only [cA_fault, m_fault, bnd_e, cal_s, onr_s, jon_e, gI_hw, gL_hw, gT_hw, gR_hw, gN_hw, sI_hw, sL_hw, cV_hw, shS_hw, shC_hw, shL_hw, ← bt_def, e1, e2, u2_nk J _ (show 4 ≠ 2 by decide), u2_nk J _ (show 5 ≠ 2 by decide)]
  by_cases z : x = 0
  · rw [if_pos z, if_pos z]; exact a.end _
  · rw [if_neg z, if_neg z]
    by_cases z2 : x = 1
    · rw [if_pos z2, if_pos z2]; exact a.end _
    · rw [if_neg z2, if_neg z2]; exact a.end _
theorem b_named {I J : Nat → Nat → Int32} {L M : Nat → Nat → Int64} (a : At h I0 J0 M0 c K A w S I J M) (x y : Int32) : B2 h g I0 J0 M0 (cA_named x y (hw h I L)) (m_named x y (hw g J M)) := by
  have a := a.thr
  have W := a.1.1.1
  have V := a.1.2.1.1
  obtain ⟨w1, ⟨w2, ⟨w3, w4, w5⟩, ⟨w6, w7, w8⟩, ⟨w9, w10, w11⟩, -, w12, w13, w14, -⟩, ⟨⟨k1, k2, k3, -⟩, -⟩⟩ := W
  obtain ⟨⟨v1, v2, v3, -⟩, -, v4, v5, v6, -⟩ := V.1
  simp only [cA_named, m_named, bnd_e, cal_s, onr_s, jon_e, gI_hw, gL_hw, gT_hw, gR_hw, gN_hw, sI_hw, sL_hw, cV_hw, shS_hw, shC_hw, shL_hw, ← bt_def, w1, grd_pos w2, v1, v2, v3]
  by_cases z : x = 0
  · rw [if_pos z, if_pos z]
    have e1 := ec_find (L := L) w3 w9 (by show zF K ≤ (gT (cV h) (c + 2)).2; omega) (by omega) (fun k hk => ⟨(w12 k hk).1, Or.inl (w12 k hk).2.1⟩) y
    have e2 : m_find 5 0 (nn (zF K)) y (hw g (u2 J 0 2 0) M) = _ := em_find (g := g) (M := M) (t := 5) (o := 0) (m := zF K) rfl (by show 0 + zF K ≤ 16; omega) (by decide) y
    rw [e1, e2, cal_s, cal_s, zfd_cg (f' := fun k => zt K 1 k) (zF K) 0 (fun k _ hk => (w12 k (by omega)).2.2), zfd_cg (f' := fun k => zt K 1 k) (f := fun k => u2 J 0 2 0 5 (0 + k)) (zF K) 0 (fun k _ hk => by rw [Nat.zero_add]; exact v4 k (by omega))]
    exact a.end _
  · rw [if_neg z, if_neg z]
    by_cases z1 : x = 1
    · rw [if_pos z1, if_pos z1]
      have e1 := ec_find (L := L) w4 w10 (by show zP K ≤ (gT (cV h) (c + 4)).2; omega) (by omega) (fun k hk => ⟨(w13 k hk).1, Or.inr (Or.inl (w13 k hk).2.1)⟩) y
      have e2 : m_find 6 0 (nn (zP K)) y (hw g (u2 J 0 2 0) M) = _ := em_find (g := g) (M := M) (t := 6) (o := 0) (m := zP K) rfl (by show 0 + zP K ≤ 10; omega) (by decide) y
      rw [e1, e2, cal_s, cal_s, zfd_cg (f' := fun k => zt K 2 k) (zP K) 0 (fun k _ hk => (w13 k (by omega)).2.2.1), zfd_cg (f' := fun k => zt K 2 k) (f := fun k => u2 J 0 2 0 6 (0 + k)) (zP K) 0 (fun k _ hk => by rw [Nat.zero_add]; exact (v5 k (by omega)).1)]
      exact a.end _
    · rw [if_neg z1, if_neg z1]
      by_cases z2 : x = 2
      · rw [if_pos z2, if_pos z2]
        have e1 := ec_find (L := L) w5 w11 (by show zQ K ≤ (gT (cV h) (c + 6)).2; omega) (by omega) (fun k hk => ⟨(w14 k hk).1, Or.inr (Or.inr (w14 k hk).2.1)⟩) y
        have e2 : m_find 11 0 (nn (zQ K)) y (hw g (u2 J 0 2 0) M) = _ := em_find (g := g) (M := M) (t := 11) (o := 0) (m := zQ K) rfl (by show 0 + zQ K ≤ 16; omega) (by decide) y
        rw [e1, e2, cal_s, cal_s, zfd_cg (f' := fun k => zt K 7 k) (zQ K) 0 (fun k _ hk => (w14 k (by omega)).2.2.1), zfd_cg (f' := fun k => zt K 7 k) (f := fun k => u2 J 0 2 0 11 (0 + k)) (zQ K) 0 (fun k _ hk => by rw [Nat.zero_add]; exact (v6 k (by omega)).1)]
        exact a.end _
      · rw [if_neg z2, if_neg z2]; exact a.end _
theorem b_question {I J : Nat → Nat → Int32} {L M : Nat → Nat → Int64} (a : At h I0 J0 M0 c K A w S I J M) (x y : Int32) : B2 h g I0 J0 M0 (cA_question x y (hw h I L)) (m_question x y (hw g J M)) := by
  have a := a.thr
  have W := a.1.1.1
  have V := a.1.2.1.1
  have hQ := W.q8
  simp only [cA_question, m_question, bnd_e, cal_s, onr_s, jon_e, gI_hw, gL_hw, gT_hw, gR_hw, gN_hw, sI_hw, sL_hw, cV_hw, shS_hw, shC_hw, shL_hw, ← bt_def, ec_isQuestion W, em_isQuestion V, bI_eq0]
  cases z : zin x (zQ K) with
  | false => simp only [eq_self, Bool.true_eq_false, if_true, if_false]; exact a.end _
  | true =>
    simp only [eq_self, Bool.true_eq_false, if_true, if_false]
    obtain ⟨q, hq, rfl⟩ := zin_t (by omega) z
    obtain ⟨t, e0, e1, e2, e3, e4⟩ := W.fQ hq
    obtain ⟨q1, q2, q3, q4, q5⟩ := V.1.2.2.2.2.1 q hq
    simp only [W.1, bnd_e, cal_s, onr_s, jon_e, gI_hw, gL_hw, gT_hw, gR_hw, gN_hw, sI_hw, sL_hw, cV_hw, shS_hw, shC_hw, shL_hw, ← bt_def, grd_pos W.2.1.1, grd_pos W.2.1.2.1.2.2, ec_getQ W hq, grd_pos t, e1, e2, e3, e4, grd_pos (show inb (nn q) 16 from nn_inb (by omega) (by omega)), nn_clamp (show q < 2147483648 by omega), q2, q3, q4, q5]
    by_cases z0 : y = 0
    · rw [if_pos z0, if_pos z0]; exact a.end _
    · rw [if_neg z0, if_neg z0]
      by_cases z1 : y = 1
      · rw [if_pos z1, if_pos z1]; exact a.end _
      · rw [if_neg z1, if_neg z1]
        by_cases z2 : y = 2
        · rw [if_pos z2, if_pos z2]; exact a.end _
        · rw [if_neg z2, if_neg z2]
          by_cases z3 : y = 3
          · rw [if_pos z3, if_pos z3]; exact a.end _
          · rw [if_neg z3, if_neg z3]; exact a.end _
theorem b_can {I J : Nat → Nat → Int32} {L M : Nat → Nat → Int64} (a : At h I0 J0 M0 c K A w S I J M) (x y q : Int32) : B2 h g I0 J0 M0 (cA_can x y q (hw h I L)) (m_can x y q (hw g J M)) := by
  have a := a.thr
  have W := a.1.1.1
  have V := a.1.2.1.1
  have hP := W.p5
  have hQ := W.q8
  simp only [cA_can, m_can, bnd_e, cal_s, onr_s, jon_e, gI_hw, gL_hw, gT_hw, gR_hw, gN_hw, sI_hw, sL_hw, cV_hw, shS_hw, shC_hw, shL_hw, ← bt_def, ec_areTwo W, em_isPerson V, ec_isQuestion W, em_isQuestion V, bI_eq0, em_plain]
  cases z : zin x (zP K) with
  | false => simp only [eq_self, Bool.true_eq_false, if_true, if_false]; exact a.end _
  | true =>
    cases z2 : zin y (zP K) with
    | false => simp only [eq_self, Bool.true_eq_false, if_true, if_false]; exact a.end _
    | true =>
      by_cases z3 : x = y
      · simp only [z3, not_true_eq_false, decide_false, Bool.and_false, Bool.true_eq_false, if_true, if_false]; exact a.end _
      · cases z4 : zin q (zQ K) with
        | false => simp only [z3, not_false_eq_true, decide_true, Bool.and_true, Bool.true_eq_false, if_true, if_false]; exact a.end _
        | true =>
          simp only [z3, not_false_eq_true, decide_true, Bool.and_true, Bool.true_eq_false, if_false]
          obtain ⟨i, hi, rfl⟩ := zin_t (by omega) z
          obtain ⟨j, hj, rfl⟩ := zin_t (by omega) z2
          obtain ⟨k, hk, rfl⟩ := zin_t (by omega) z4
          have a2 := a.to (frA.rfl _) (plI_fr (u2 J 0 2 0)) (frL2.rfl _ M)
          have e1 : cS_can 20 (nn i) (nn j) (nn k) 1 (hw h I L) = _ := ec_can (L := L) W (sh20 h) a.1.1.2 hi hj hk true
          have e2 : m_canAsk 0 (nn i) (nn j) (nn k) (hw g (plI (u2 J 0 2 0)) M) = _ := em_can (h := g) (L := M) a2.1.2.1.1 (b := 0) (by omega) a2.1.2.1.2 (plI_fl _ w) (cnt := true) (plI_63 _) hi hj hk
          simp only [e1, e2, bnd_e, cal_s, onr_s, jon_e, gI_hw, gL_hw, gT_hw, gR_hw, gN_hw, sI_hw, sL_hw, cV_hw, shS_hw, shC_hw, shL_hw, ← bt_def, bI_eq0]
          cases zcan K (-1, w, 0) S i j k true with
          | false => simp only [eq_self, Bool.true_eq_false, if_true, if_false]; exact a2.end _
          | true => simp only [eq_self, Bool.true_eq_false, if_true, if_false]; exact a2.end _
theorem b_law {I J : Nat → Nat → Int32} {L M : Nat → Nat → Int64} (a : At h I0 J0 M0 c K A w S I J M) (x y q : Int32) : ∃ r I' L' J' M', cA_law x y q (hw h I L) = some (r, hw h I' L') ∧ m_law x y q (hw g J M) = some (r, hw g J' M') ∧ frA I0 I' ∧ frB J0 J' ∧ frL2 false M0 M' := by
  have a := a.thr
  have W := a.1.1.1
  have V := a.1.2.1.1
  have hP := W.p5
  have hQ := W.q8
  have ei : cA_in x.toInt64 0 1 (hw h I L) = _ := ec_in x 0 1 (hw h I L)
  simp only [cA_law, m_law, bnd_e, cal_s, onr_s, jon_e, gI_hw, gL_hw, gT_hw, gR_hw, gN_hw, sI_hw, sL_hw, cV_hw, shS_hw, shC_hw, shL_hw, ← bt_def, ei, em_in, ec_isPerson W, em_isPerson V, ec_isQuestion W, em_isQuestion V, bI_eq0, em_plain]
  cases z0 : decide (¬ x < 0 ∧ ¬ 1 < x) with
  | false => simp only [eq_self, Bool.true_eq_false, if_true, if_false]; exact ⟨_, _, _, _, _, rfl, rfl, a.2⟩
  | true =>
    simp only [eq_self, Bool.true_eq_false, if_true, if_false]
    rw [decide_eq_true_eq] at z0
    obtain ⟨j, -, hj, rfl⟩ := nn_rng (a := 0) (b := 1) (by omega) (by omega) z0
    have hj2 : j < 2 := by omega
    have ml := V.1.2.2.2.2.2.2 j hj2
    simp only [grd_pos (show inb (nn j) 4 from nn_inb (by omega) (by omega)), nn_clamp (show j < 2147483648 by omega)]
    cases z1 : zin y (zP K) with
    | false =>
      simp only [eq_self, Bool.true_eq_false, if_true, if_false]
      refine ⟨_, _, _, _, _, rfl, ?_, a.2⟩
      by_cases t : u2 J 0 2 0 19 j = 0
      · rw [if_pos t]
      · rw [if_neg t]
    | true =>
      cases z2 : zin q (zQ K) with
      | false =>
        simp only [eq_self, Bool.true_eq_false, if_true, if_false]
        refine ⟨_, _, _, _, _, rfl, ?_, a.2⟩
        by_cases t : u2 J 0 2 0 19 j = 0
        · rw [if_pos t]
        · rw [if_neg t]
      | true =>
        simp only [eq_self, Bool.true_eq_false, if_true, if_false]
        obtain ⟨p, hp, rfl⟩ := zin_t (by omega) z1
        obtain ⟨k, hk, rfl⟩ := zin_t (by omega) z2
        obtain ⟨t, e0, e1, e2, e3, e4⟩ := W.fQ hk
        have en := ec_name (L := L) (q := k) W (sh20 h) a.1.1.2 hp
        have ew := ec_work (L := nmL L 14 (zN K (-1, w, 0) S p k)) W hj2 (nmL_at L 14 (zN K (-1, w, 0) S p k))
        have cj : (if nn j = 0 then cal (cA_work 0 (hw h I (nmL L 14 (zN K (-1, w, 0) S p k)))) (fun r18 h19 => some (r18, h19)) else cal (cA_work 1 (hw h I (nmL L 14 (zN K (-1, w, 0) S p k)))) (fun r18 h19 => some (r18, h19))) = some ((zlaw K j (zN K (-1, w, 0) S p k)).getD mnL, hw h I (nmL L 14 (zN K (-1, w, 0) S p k))) := by
          rcases (show j = 0 ∨ j = 1 by omega) with rfl | rfl
          · have ew : cA_work 0 (hw h I (nmL L 14 (zN K (-1, w, 0) S p k))) = _ := ew
            rw [if_pos nn0, ew, cal_s]
          · have ew : cA_work 1 (hw h I (nmL L 14 (zN K (-1, w, 0) S p k))) = _ := ew
            rw [if_neg (by decide), ew, cal_s]
        simp only [W.1, bnd_e, cal_s, onr_s, jon_e, gI_hw, gL_hw, gT_hw, gR_hw, gN_hw, sI_hw, sL_hw, cV_hw, shS_hw, shC_hw, shL_hw, ← bt_def, grd_pos W.2.1.1, grd_pos W.2.1.2.1.2.2, ec_getQ W hk, grd_pos t, e1, en]
        rw [cj]
        unfold zlaw
        cases hl : zl K j with
        | none =>
          rw [hl] at ml
          have ml : u2 J 0 2 0 19 j = 0 := ml
          rw [if_pos ml]
          exact ⟨_, _, _, _, _, rfl, rfl, a.2⟩
        | some f =>
          rw [hl] at ml
          have m1 : ¬ u2 J 0 2 0 19 j = 0 := by rw [ml.1]; decide
          rw [if_neg m1]
          have a2 := a.to (frA.rfl _) (plI_fr (u2 J 0 2 0)) (frL2.rfl _ M)
          have V2 := a2.1.2.1.1
          have ml2 := V2.1.2.2.2.2.2.2 j hj2
          rw [hl] at ml2
          have en2 : m_layNames 0 (nn p) (nn k) (hw g (plI (u2 J 0 2 0)) M) = _ := em_names (h := g) (L := M) V2 (b := 0) (by omega) a2.1.2.1.2 a.1.2.2 (plI_fl _ w) hp hk
          obtain ⟨L', e5, f5⟩ := em_lawOf (h := g) (N := zN K (-1, w, 0) S p k) (L := nmL M 27 (zN K (-1, w, 0) S p k)) hj2 ml2 (nmL_at M 27 _)
          have fr : frB (plI (u2 J 0 2 0)) (erI (plI (u2 J 0 2 0)) (f (zN K (-1, w, 0) S p k))) := frB.u0 _ _ (by omega)
          have fl : frL2 false M L' := frL2.of false (fun x h1 h2 => by rw [f5 x h2, nmL_ne _ _ _ h1])
          have a3 := a2.to (frA.rfl _) fr fl
          simp only [en2, bnd_e, cal_s, onr_s, jon_e, gI_hw, gL_hw, gT_hw, gR_hw, gN_hw, sI_hw, sL_hw, cV_hw, shS_hw, shC_hw, shL_hw, ← bt_def, e5]
          cases hf : f (zN K (-1, w, 0) S p k) with
          | none =>
            rw [hf] at a3
            simp only [erI, Option.isNone_none, bI_t, u2_same, if_neg i10, Option.getD_none]
            exact ⟨_, _, _, _, _, rfl, rfl, a3.2⟩
          | some v =>
            rw [hf] at a3
            simp only [erI, Option.isNone_some, bI_f, u2_same, if_true, Option.getD_some]
            exact ⟨_, _, _, _, _, rfl, rfl, a3.2⟩
theorem b_sumlost {I J : Nat → Nat → Int32} {L M : Nat → Nat → Int64} (a : At h I0 J0 M0 c K A w S I J M) : ∀ (j i : Nat) (v : Int32) (n m : Nat), i + j = zP K → j < n → j < m → B2 h g I0 J0 M0 (cA_count_119 (fun x h1 => some (x, h1)) n v (nn i) (hw h I L)) (m_count_136 (fun x h1 => some (x, h1)) m v (nn i) (hw g J M)) := by
  have W := a.1.1.1
  have V := a.1.2.1.1
  have hP := W.p5
  intro j
  induction j with
  | zero =>
    intro i v n m hi hn hm
    obtain ⟨n, rfl⟩ : ∃ n', n = n' + 1 := ⟨n - 1, by omega⟩
    obtain ⟨m, rfl⟩ : ∃ m', m = m' + 1 := ⟨m - 1, by omega⟩
    rw [cA_count_119, m_count_136]
    simp only [bnd_e, cal_s, onr_s, jon_e, gI_hw, gL_hw, gT_hw, gR_hw, gN_hw, sI_hw, sL_hw, cV_hw, shS_hw, shC_hw, shL_hw, ← bt_def, ec_persons W, V.1.1.2.1, if_pos (nn_ple (show zP K ≤ i by omega) (show i < 2147483648 by omega))]
    exact a.end _
  | succ j ih =>
    intro i v n m hi hn hm
    obtain ⟨n, rfl⟩ : ∃ n', n = n' + 1 := ⟨n - 1, by omega⟩
    obtain ⟨m, rfl⟩ : ∃ m', m = m' + 1 := ⟨m - 1, by omega⟩
    have hip : i < zP K := by omega
    have k1 : I 23 i = sl S i := (a.1.1.2.1 i hip).2.2.1
    have k2 : J 30 i = sl S i := by have := (a.1.2.1.2.1 i hip).2.2.1; rw [show 5 * 0 + i = i by omega] at this; exact this
    rw [cA_count_119, m_count_136]
    simp only [bnd_e, cal_s, onr_s, jon_e, gI_hw, gL_hw, gT_hw, gR_hw, gN_hw, sI_hw, sL_hw, cV_hw, shS_hw, shC_hw, shL_hw, ← bt_def, ec_persons W, V.1.1.2.1, if_neg (nn_nle hip (show zP K < 2147483648 by omega)), grd_pos (show inb (nn i) 5 from nn_inb (by omega) (by omega)), grd_pos (show inb (nn i) 10 from nn_inb (by omega) (by omega)), nn_clamp (show i < 2147483648 by omega), k1, k2, nn_succ]
    exact ih _ _ _ _ (by omega) (by omega) (by omega)
theorem em_sum6 {J : Nat → Nat → Int32} {M : Nat → Nat → Int64} (V : MW J K) (t : StM J 0 (zP K) S) (ws : WS (zP K) S) (w : Int32) : ∀ (j i n : Nat), i + j = zP K → j < n → m_count_106 (fun x h1 => some (x, h1)) n (zsumN (-1, w, 0) S i) (nn i) (hw g J M) = some (zsum K (-1, w, 0) S, hw g J M) := by
  have hP := V.2.1.2.1
  intro j
  induction j with
  | zero =>
    intro i n hi hn
    obtain ⟨n, rfl⟩ : ∃ n', n = n' + 1 := ⟨n - 1, by omega⟩
    rw [m_count_106]
    simp only [bnd_e, cal_s, onr_s, jon_e, gI_hw, gL_hw, gT_hw, gR_hw, gN_hw, sI_hw, sL_hw, cV_hw, shS_hw, shC_hw, shL_hw, ← bt_def, V.1.1.2.1, if_pos (nn_ple (show zP K ≤ i by omega) (show i < 2147483648 by omega))]
    rw [show i = zP K by omega]; rfl
  | succ j ih =>
    intro i n hi hn
    obtain ⟨n, rfl⟩ : ∃ n', n = n' + 1 := ⟨n - 1, by omega⟩
    have hip : i < zP K := by omega
    have k2 : J 29 i = sk S i := by have := (t.1 i hip).1; rw [show 5 * 0 + i = i by omega] at this; exact this
    have e' : zsumN (-1, w, 0) S (i + 1) = zsumN (-1, w, 0) S i + zbc (sk S i) := by show zsumN (-1, w, 0) S i + (if bt 0 (nn i) = 1 then 0 else zbc (sk S i)) = _; rw [if_neg (by rw [bt0]; decide)]
    have e := ih (i + 1) n (by omega) (by omega)
    rw [e'] at e
    rw [m_count_106]
    simp only [bnd_e, cal_s, onr_s, jon_e, gI_hw, gL_hw, gT_hw, gR_hw, gN_hw, sI_hw, sL_hw, cV_hw, shS_hw, shC_hw, shL_hw, ← bt_def, V.1.1.2.1, if_neg (nn_nle hip (show zP K < 2147483648 by omega)), grd_pos (show inb (nn i) 10 from nn_inb (by omega) (by omega)), nn_clamp (show i < 2147483648 by omega), k2, em_many (ws i hip), nn_succ]
    exact e
theorem b_count {I J : Nat → Nat → Int32} {L M : Nat → Nat → Int64} {D : Nat → Nat} {N : Nat → Nat → Int32} {sn : Nat} {kv : Int32} (a : At h I0 J0 M0 c K A w S I J M) (nt : NtC h I D N sn) (nm : NtM J N sn) (kn : I 0 23 = kv) (kn' : J 0 72 = kv) (hk : knv kv sn) (hs : sn ≤ 24) (al : I 20 5 = J 0 60) (kp : I 0 4 = J 0 75) (x : Int32) : B2 h g I0 J0 M0 (cA_count x (hw h I L)) (m_count x (hw g J M)) := by
  have f0 : frB J (u2 J 0 2 0) := frB.u0 _ _ (by omega)
  have a := a.thr
  have nm := nm.fr f0
  have kn' : u2 J 0 2 0 0 72 = kv := by rw [u2_nk _ _ (by decide)]; exact kn'
  have al' : I 20 5 = u2 J 0 2 0 0 60 := by rw [u2_nk _ _ (by decide)]; exact al
  have kp' : I 0 4 = u2 J 0 2 0 0 75 := by rw [u2_nk _ _ (by decide)]; exact kp
  have W := a.1.1.1
  have V := a.1.2.1.1
  have hP := W.p5
  have d1 : I 20 4 = sd S := a.1.1.2.2.1
  have d2 : u2 J 0 2 0 33 0 = sd S := a.1.2.1.2.2
  obtain ⟨v1, v2, v3, v4, v5⟩ := V.1.1
  obtain ⟨w1, -, -, w4⟩ := W.2.1.2.2.2.2.1
  have e6 := em_sum6 (g := g) (M := M) V a.1.2.1.2 a.1.2.2 w (zP K) 0 FU (by omega) (by show _ < 1000; omega)
  rw [show zsumN (-1, w, 0) S 0 = 0 from rfl, nn0] at e6
  have e7 := b_sumlost (g := g) (L := L) (M := M) a (zP K) 0 0 FU FU (by omega) (by show _ < 1000; omega) (by show _ < 1000; omega)
  rw [nn0] at e7
  simp only [cA_count, m_count, bnd_e, cal_s, onr_s, jon_e, gI_hw, gL_hw, gT_hw, gR_hw, gN_hw, sI_hw, sL_hw, cV_hw, shS_hw, shC_hw, shL_hw, ← bt_def, W.1, grd_pos W.2.1.1, grd_pos W.2.1.2.1.1, ec_facts W, ec_persons W, ec_questions W, w1, w4, v1, v2, v3, v4, v5, d1, tn0, grd_pos (show inb (0 : Int32) 2 by decide), d2, ec_sum W (sh20 h) a.1.1.2, e6, al', ec_size (sh41 h), nt.1, nm.1, ec_knownMany nt kn hk hs, em_knownBy nm kn' hk hs, kp']
  by_cases z0 : x = 0
  · rw [if_pos z0, if_pos z0]; exact a.end _
  rw [if_neg z0, if_neg z0]
  by_cases z1 : x = 1
  · rw [if_pos z1, if_pos z1]; exact a.end _
  rw [if_neg z1, if_neg z1]
  by_cases z2 : x = 2
  · rw [if_pos z2, if_pos z2]; exact a.end _
  rw [if_neg z2, if_neg z2]
  by_cases z3 : x = 3
  · rw [if_pos z3, if_pos z3]; exact a.end _
  rw [if_neg z3, if_neg z3]
  by_cases z4 : x = 4
  · rw [if_pos z4, if_pos z4]; exact a.end _
  rw [if_neg z4, if_neg z4]
  by_cases z5 : x = 5
  · rw [if_pos z5, if_pos z5]; exact a.end _
  rw [if_neg z5, if_neg z5]
  by_cases z6 : x = 6
  · rw [if_pos z6, if_pos z6]; exact a.end _
  rw [if_neg z6, if_neg z6]
  by_cases z7 : x = 7
  · rw [if_pos z7, if_pos z7]; exact e7
  rw [if_neg z7, if_neg z7]
  by_cases z8 : x = 8
  · rw [if_pos z8, if_pos z8]; exact a.end _
  rw [if_neg z8, if_neg z8]
  by_cases z9 : x = 9
  · rw [if_pos z9, if_pos z9]; exact a.end _
  rw [if_neg z9, if_neg z9]
  by_cases z10 : x = 10
  · rw [if_pos z10, if_pos z10]; exact a.end _
  rw [if_neg z10, if_neg z10]
  by_cases z11 : x = 11
  · rw [if_pos z11, if_pos z11]; exact a.end _
  rw [if_neg z11, if_neg z11]; exact a.end _
end B18
