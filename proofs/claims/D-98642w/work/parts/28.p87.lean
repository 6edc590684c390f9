set_option maxRecDepth 100000
/-! PURE LEVEL 87: the levels of the descent that loop -/
theorem tkr (s v : Int32) : (rk (tokK s v) = 6 ↔ s = 3 ∧ (v = 42 ∨ v = 47)) ∧ (rk (tokK s v) = 5 ↔ s = 3 ∧ (v = 43 ∨ v = 45)) ∧ (rk (tokK s v) = 2 ↔ s = 0 ∧ v = 16) ∧ (rk (tokK s v) = 1 ↔ s = 0 ∧ v = 15) ∧ (rk (tokK s v) = 4 ↔ s = 3 ∧ (v = 60 ∨ v = 256 ∨ v = 61 ∨ v = 258 ∨ v = 257 ∨ v = 62)) ∧ rk (tokK s v) ≠ 3 := by
  by_cases s0 : s = 0
  · subst s0
    by_cases v1 : v = 16
    · subst v1; decide
    · by_cases v2 : v = 15
      · subst v2; decide
      · have e : tokK 0 v = 0 := by unfold tokK; rw [if_pos rfl, if_neg v1, if_neg v2]
        rw [e]
        refine ⟨⟨fun y => absurd y (by decide), fun y => absurd y.1 (by decide)⟩, ⟨fun y => absurd y (by decide), fun y => absurd y.1 (by decide)⟩, ⟨fun y => absurd y (by decide), fun y => absurd y.2 v1⟩, ⟨fun y => absurd y (by decide), fun y => absurd y.2 v2⟩, ⟨fun y => absurd y (by decide), fun y => absurd y.1 (by decide)⟩, by decide⟩
  · by_cases s3 : s = 3
    · subst s3
      by_cases q : v = 60 ∨ v = 256 ∨ v = 61 ∨ v = 258 ∨ v = 257 ∨ v = 62 ∨ v = 43 ∨ v = 45 ∨ v = 42 ∨ v = 47
      · rcases q with rfl | rfl | rfl | rfl | rfl | rfl | rfl | rfl | rfl | rfl <;> decide
      · have e : tokK 3 v = 0 := by
          unfold tokK
          rw [if_neg (by decide), if_pos rfl, if_neg (fun y => q (by simp [y])), if_neg (fun y => q (by simp [y])), if_neg (fun y => q (by simp [y])), if_neg (fun y => q (by simp [y])), if_neg (fun y => q (by simp [y])), if_neg (fun y => q (by simp [y])), if_neg (fun y => q (by simp [y])), if_neg (fun y => q (by simp [y])), if_neg (fun y => q (by simp [y])), if_neg (fun y => q (by simp [y]))]
        rw [e]
        refine ⟨⟨fun y => absurd y (by decide), fun y => absurd ?_ q⟩, ⟨fun y => absurd y (by decide), fun y => absurd ?_ q⟩, ⟨fun y => absurd y (by decide), fun y => absurd y.1 (by decide)⟩, ⟨fun y => absurd y (by decide), fun y => absurd y.1 (by decide)⟩, ⟨fun y => absurd y (by decide), fun y => absurd ?_ q⟩, by decide⟩
        · rcases y.2 with y | y <;> simp [y]
        · rcases y.2 with y | y <;> simp [y]
        · rcases y.2 with y | y | y | y | y | y <;> simp [y]
    · have e : tokK s v = 0 := by unfold tokK; rw [if_neg s0, if_neg s3]
      rw [e]
      refine ⟨⟨fun y => absurd y (by decide), fun y => absurd y.1 s3⟩, ⟨fun y => absurd y (by decide), fun y => absurd y.1 s3⟩, ⟨fun y => absurd y (by decide), fun y => absurd y.1 s0⟩, ⟨fun y => absurd y (by decide), fun y => absurd y.1 s0⟩, ⟨fun y => absurd y (by decide), fun y => absurd y.1 s3⟩, by decide⟩
section P36
variable {h h' g : HP} {I I' J J' : Nat → Nat → Int32} {L M : Nat → Nat → Int64} {n : Nat} {tb : Nat → Nat} {a c : Nat} {W P : List Nat} {H Q : List (Nat × LF)} {s0 kr b cnt : Nat} {wn : Int32} {f : LF}
theorem Res.st {h1 : HP} {I1 J1 : Nat → Nat → Int32} {kr1 cnt1 m m1 e e1 dv dv1 r s : Nat} {K : HP → Option (Int32 × HP)} {tc : Option ((Nat ⊕ Nat × Nat) × HP)} {tm : Option (Int32 × HP)} (ef : EF c h I h1 I1) (mf : MF kr J J1) (hk : kr ≤ kr1) (hc : cnt ≤ cnt1) (hd : dv1 + cnt = dv + cnt1) (he : m1 + e ≤ m + e1) (b1 : gN h1 + m1 ≤ gN h + m) (b2 : gS h1 + 12 * m1 ≤ gS h + 12 * m) (q : Res g M n tb c s0 h1 I1 J1 W H kr1 b cnt1 m1 e1 dv1 r s K tc tm) : Res g M n tb c s0 h I J W H kr b cnt m e dv r s K tc tm := by
  obtain ⟨h', I', L', J', a', p, f, P, Q, kr', cnt', fu', q1, q2, q3, ⟨q4, q5⟩, q6, q7, ⟨q8, q9⟩, q10, q11, q12, q13, q14, q15⟩ := q
  exact ⟨h', I', L', J', a', p, f, P, Q, kr', cnt', fu', q1, q2, q3, ⟨q4, by omega⟩, q6, q7, ⟨by omega, by omega⟩, by rw [show dv + (cnt' - cnt) = dv1 + (cnt' - cnt1) by omega]; exact q10, q11, ef.tr q12, mf.tr hk q13, by omega, by omega⟩
theorem lvl_lp {sub : HP → Option ((Nat ⊕ Nat × Nat) × HP)} {lp : Nat → Nat → HP → Option ((Nat ⊕ Nat × Nat) × HP)} {r qs rs ss d : Nat} {nb : Bool} (hs : Sp g M n tb c s0 qs rs ss nb d sub) (hstep : ∀ (k v : Nat) (h : HP) (I : Nat → Nat → Int32) (L : Nat → Nat → Int64), lp (k + 1) v (hw h I L) = if rk (tokK (I 2 3) (I 2 4)) = r then opS sub (lp k) v (hw h I L) else some (.inl v, hw h I L)) (r1 : 1 ≤ r) (r4 : r ≠ 4) (hq : r < qs) (hrs : r ≤ rs) (hn : nb = decide (r < 3)) (hss : ∀ k, rk k < ss → rk k ≠ r → rk k ≠ 3 → rk k < r) (hW : ∀ k W', W = k :: W' → rk k < r) (K : HP → Option (Int32 × HP)) :
    ∀ (m : Nat) (h : HP) (I J : Nat → Nat → Int32) (L : Nat → Nat → Int64) (a : Nat) (P : List Nat) (Q : List (Nat × LF)) (kr cnt v : Nat) (f : LF) (dv nf fu : Nat), ES h I J n tb c a (P ++ W) (Q ++ H) s0 kr b cnt 0 → mu n a (I 2 3) ≤ m → m < nf → mu n a (I 2 3) < fu → (∀ k, k ∈ P → r ≤ rk k) → red P (Q.map Prod.snd) = some f → PDn (cV h) I dv v f → 1 ≤ dv → Pst ss (tokK (I 2 3) (I 2 4)) P Q → 73 ≤ b + cnt + d →
      Flt g M c kr h I J (mu n a (I 2 3) + 2) (lp nf v (hw h I L)) (m_sumRead_25 K fu (hw g J M)) ∨ Res g M n tb c s0 h I J W H kr b cnt (mu n a (I 2 3)) 0 dv r r K (lp nf v (hw h I L)) (m_sumRead_25 K fu (hw g J M)) := by
  intro m
  induction m with
  | zero =>
    intro h I J L a P Q kr cnt v f dv nf fu q hm hnf hf hP hr pd d1 ps hd
    obtain ⟨nf, rfl⟩ : ∃ k, nf = k + 1 := ⟨nf - 1, by omega⟩
    have e3 := (tkr (I 2 3) (I 2 4)).2.2.2.2.2
    rw [hstep]
    by_cases z : rk (tokK (I 2 3) (I 2 4)) = r
    · exfalso
      have : I 2 3 = 4 := by
        unfold mu at hm
        by_cases y : I 2 3 = 4
        · exact y
        · rw [if_neg y] at hm; omega
      rw [this, show tokK 4 (I 2 4) = 0 from rfl] at z
      have : rk 0 = 0 := rfl
      omega
    · rw [if_neg z]
      right
      refine ⟨h, I, L, J, a, v, f, P, Q, kr, cnt, fu, rfl, rfl, q, ⟨hf, by omega⟩, hP, hr, ⟨Nat.le_refl _, Nat.le_refl _⟩, by rw [Nat.sub_self]; exact pd, ?_, EF.rfl _ _ _, MF.rfl _ _, Nat.le_refl _, Nat.le_refl _⟩
      rcases ps with ps | ps
      · exact Or.inl (fun y => hss _ (ps y) z e3)
      · exact Or.inr ps
  | succ m ih =>
    intro h I J L a P Q kr cnt v f dv nf fu q hm hnf hf hP hr pd d1 ps hd
    obtain ⟨nf, rfl⟩ : ∃ k, nf = k + 1 := ⟨nf - 1, by omega⟩
    have e3 := (tkr (I 2 3) (I 2 4)).2.2.2.2.2
    rw [hstep]
    by_cases z : rk (tokK (I 2 3) (I 2 4)) = r
    · rw [if_pos z]
      have k0 : tokK (I 2 3) (I 2 4) ≠ 0 := fun y => by rw [y] at z; have : rk 0 = 0 := rfl; omega
      have hl : r = if rk (tokK (I 2 3) (I 2 4)) = 4 then 5 else rk (tokK (I 2 3) (I 2 4)) := by rw [if_neg (by omega)]; exact z.symm
      rcases op_step (L := L) (lp nf) hs q rfl k0 hl hP (fun k W' e => ⟨hW k W' e, fun y => by omega⟩) hr (by omega) (by rw [z]; exact hn) hd pd d1 K fu hf with fl | ⟨h', I', L', J', a', p, f', g1, P1, Q1, x, kr', cnt', fu', e1, e2, es, ⟨m1, m2⟩, hP1, hr1, -, ⟨c1, k1⟩, pd1, ps1, ef1, mf1, bN, bS⟩
      · exact Or.inl fl
      · rw [e1, e2]
        have hPP : ∀ k, k ∈ P1 ++ [tokK (I 2 3) (I 2 4)] → r ≤ rk k := fun k hk => by
          rcases List.mem_append.mp hk with y | y
          · exact Nat.le_trans hrs (hP1 k y)
          · rw [List.mem_singleton.mp y]; omega
        rcases ih h' I' J' L' a' _ _ kr' cnt' p f' (dv + (cnt' - cnt)) nf fu' es (by omega) (by omega) m1 hPP hr1 pd1 (by omega) ps1.app (by omega) with fl | rs'
        · exact Or.inl (fl.st ef1 mf1 k1 (by omega) (by omega))
        · exact Or.inr (rs'.st ef1 mf1 k1 c1 (by omega) (by omega) bN bS)
    · rw [if_neg z]
      right
      refine ⟨h, I, L, J, a, v, f, P, Q, kr, cnt, fu, rfl, rfl, q, ⟨hf, by omega⟩, hP, hr, ⟨Nat.le_refl _, Nat.le_refl _⟩, by rw [Nat.sub_self]; exact pd, ?_, EF.rfl _ _ _, MF.rfl _ _, Nat.le_refl _, Nat.le_refl _⟩
      rcases ps with ps | ps
      · exact Or.inl (fun y => hss _ (ps y) z e3)
      · exact Or.inr ps
theorem lvl {sub : HP → Option ((Nat ⊕ Nat × Nat) × HP)} {lp : Nat → Nat → HP → Option ((Nat ⊕ Nat × Nat) × HP)} {r qs rs ss d : Nat} {nb : Bool} (hn7 : n ≤ 700) (hs : Sp g M n tb c s0 qs rs ss nb d sub) (hstep : ∀ (k v : Nat) (h : HP) (I : Nat → Nat → Int32) (L : Nat → Nat → Int64), lp (k + 1) v (hw h I L) = if rk (tokK (I 2 3) (I 2 4)) = r then opS sub (lp k) v (hw h I L) else some (.inl v, hw h I L)) (r1 : 1 ≤ r) (r4 : r ≠ 4) (hq : r < qs) (hrs : r ≤ rs) (hn : nb = decide (r < 3)) (hss : ∀ k, rk k < ss → rk k ≠ r → rk k ≠ 3 → rk k < r) :
    Sp g M n tb c s0 r r r nb d (fun H => calx (sub H) (fun v H' => lp FU v H')) := by
  intro h I J L a W H kr b cnt q hW nbc hd K fu hf
  rcases hs h I J L a W H kr b cnt q (fun k W' e => by have := hW k W' e; omega) nbc hd K fu hf with fl | ⟨h', I', L', J', a', p, f, P, Q, kr', cnt', fu', e1, e2, es, ⟨m1, m2⟩, hP, hr, ⟨c1, k1⟩, pd, ps, ef, mf, bN, bS⟩
  · exact Or.inl (fl.cx _)
  · have m7 := mu_le n a' (I' 2 3)
    have dv1 : 1 ≤ cnt' - cnt := by
      rcases Nat.eq_zero_or_pos (cnt' - cnt) with y | y
      · rw [y] at pd; exact absurd pd (fun z => z)
      · exact y
    rw [Nat.zero_add] at pd
    show Flt g M c kr h I J _ (calx (sub (hw h I L)) (fun v H' => lp FU v H')) _ ∨ Res g M n tb c s0 h I J W H kr b cnt _ 1 0 r r K (calx (sub (hw h I L)) (fun v H' => lp FU v H')) _
    rw [e1, e2, calx_l]
    rcases lvl_lp hs hstep r1 r4 hq hrs hn hss hW K (mu n a' (I' 2 3)) h' I' J' L' a' P Q kr' cnt' p f (cnt' - cnt) FU fu' es (Nat.le_refl _) (by show _ < 1000; omega) m1 (fun k hk => Nat.le_trans hrs (hP k hk)) hr pd dv1 ps (by omega) with fl | rs'
    · exact Or.inl (fl.st ef mf k1 (by omega) (by omega))
    · exact Or.inr (rs'.st ef mf k1 c1 (by omega) (by omega) bN bS)
theorem pr_step (f : HP → Option ((Nat ⊕ Nat × Nat) × HP)) (k v : Nat) (h : HP) (I : Nat → Nat → Int32) (L : Nat → Nat → Int64) : cR_product_5 f (fun (x19 : Nat) (h20 : HP) => some (.inl x19, h20)) (k + 1) v (hw h I L) = if rk (tokK (I 2 3) (I 2 4)) = 6 then opS (cR_one f) (cR_product_5 f (fun (x19 : Nat) (h20 : HP) => some (.inl x19, h20)) k) v (hw h I L) else some (.inl v, hw h I L) := by
  have t := (tkr (I 2 3) (I 2 4)).1
  rw [cR_product_5]
  simp only [ec_isSign, cal_s, jon_e, bI_eq0]
  by_cases z1 : I 2 3 = 3 ∧ I 2 4 = 42
  · rw [decide_eq_true z1, if_neg (by decide), if_pos (t.mpr ⟨z1.1, Or.inl z1.2⟩)]; rfl
  · rw [decide_eq_false z1, if_pos rfl]
    by_cases z2 : I 2 3 = 3 ∧ I 2 4 = 47
    · rw [decide_eq_true z2, if_neg (by decide), if_pos (t.mpr ⟨z2.1, Or.inr z2.2⟩)]; rfl
    · rw [decide_eq_false z2, if_pos rfl, if_neg (fun y => (t.mp y).2.elim (fun e => z1 ⟨(t.mp y).1, e⟩) (fun e => z2 ⟨(t.mp y).1, e⟩))]
theorem su_step (f : HP → Option ((Nat ⊕ Nat × Nat) × HP)) (k v : Nat) (h : HP) (I : Nat → Nat → Int32) (L : Nat → Nat → Int64) : cR_sum_5 f (fun (x19 : Nat) (h20 : HP) => some (.inl x19, h20)) (k + 1) v (hw h I L) = if rk (tokK (I 2 3) (I 2 4)) = 5 then opS (cR_product f) (cR_sum_5 f (fun (x19 : Nat) (h20 : HP) => some (.inl x19, h20)) k) v (hw h I L) else some (.inl v, hw h I L) := by
  have t := (tkr (I 2 3) (I 2 4)).2.1
  rw [cR_sum_5]
  simp only [ec_isSign, cal_s, jon_e, bI_eq0]
  by_cases z1 : I 2 3 = 3 ∧ I 2 4 = 43
  · rw [decide_eq_true z1, if_neg (by decide), if_pos (t.mpr ⟨z1.1, Or.inl z1.2⟩)]; rfl
  · rw [decide_eq_false z1, if_pos rfl]
    by_cases z2 : I 2 3 = 3 ∧ I 2 4 = 45
    · rw [decide_eq_true z2, if_neg (by decide), if_pos (t.mpr ⟨z2.1, Or.inr z2.2⟩)]; rfl
    · rw [decide_eq_false z2, if_pos rfl, if_neg (fun y => (t.mp y).2.elim (fun e => z1 ⟨(t.mp y).1, e⟩) (fun e => z2 ⟨(t.mp y).1, e⟩))]
theorem wd_1 {s v x : Int32} : (s = 0 ∧ ¬ v < x ∧ ¬ x < v) ↔ (s = 0 ∧ v = x) := ⟨fun e => ⟨e.1, Int32.le_antisymm (Int32.not_lt.mp e.2.2) (Int32.not_lt.mp e.2.1)⟩, fun e => ⟨e.1, by rw [e.2]; exact Int32.lt_irrefl, by rw [e.2]; exact Int32.lt_irrefl⟩⟩
theorem an_step (f : HP → Option ((Nat ⊕ Nat × Nat) × HP)) (k v : Nat) (h : HP) (I : Nat → Nat → Int32) (L : Nat → Nat → Int64) : cR_and_5 f (fun (x19 : Nat) (h20 : HP) => some (.inl x19, h20)) (k + 1) v (hw h I L) = if rk (tokK (I 2 3) (I 2 4)) = 2 then opS f (cR_and_5 f (fun (x19 : Nat) (h20 : HP) => some (.inl x19, h20)) k) v (hw h I L) else some (.inl v, hw h I L) := by
  have t := (tkr (I 2 3) (I 2 4)).2.2.1
  rw [cR_and_5]
  simp only [ec_isWord, cal_s, jon_e, bI_eq0]
  by_cases z1 : I 2 3 = 0 ∧ I 2 4 = 16
  · rw [decide_eq_true (wd_1.mpr z1), if_neg (by decide), if_pos (t.mpr z1)]; rfl
  · rw [decide_eq_false (fun y => z1 (wd_1.mp y)), if_pos rfl, if_neg (fun y => z1 (t.mp y))]
theorem or_step (f : HP → Option ((Nat ⊕ Nat × Nat) × HP)) (k v : Nat) (h : HP) (I : Nat → Nat → Int32) (L : Nat → Nat → Int64) : cR_or_5 f (fun (x19 : Nat) (h20 : HP) => some (.inl x19, h20)) (k + 1) v (hw h I L) = if rk (tokK (I 2 3) (I 2 4)) = 1 then opS (cR_and f) (cR_or_5 f (fun (x19 : Nat) (h20 : HP) => some (.inl x19, h20)) k) v (hw h I L) else some (.inl v, hw h I L) := by
  have t := (tkr (I 2 3) (I 2 4)).2.2.2.1
  rw [cR_or_5]
  simp only [ec_isWord, cal_s, jon_e, bI_eq0]
  by_cases z1 : I 2 3 = 0 ∧ I 2 4 = 15
  · rw [decide_eq_true (wd_1.mpr z1), if_neg (by decide), if_pos (t.mpr z1)]; rfl
  · rw [decide_eq_false (fun y => z1 (wd_1.mp y)), if_pos rfl, if_neg (fun y => z1 (t.mp y))]
end P36
