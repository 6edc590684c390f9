set_option maxRecDepth 100000
/-! PURE LEVEL A7: one line, both sides -/
def lnJ (h16 : HP) : Option ((Unit ⊕ Nat × Nat) × HP) := cal (cR_isSign (59 : Int32) h16) (fun r17 h18 => if r17 = 0 then wrC Unit 1 h18 else (cal (cR_next h18) (fun r22 h23 => onr (gR (cV h23) 2 7) (fun b24 => grd (shC (cV h23) b24) (bnd (sI h23 b24 11 ((gI h23 b24 11) + (1 : Int32))) (fun h27 => some (.inl (), h27)))))))
def lnB (x6 : Int32) (h14 : HP) : Option ((Unit ⊕ Nat × Nat) × HP) := if x6 = (0 : Int32) then lnF lnJ h14 else if x6 = (1 : Int32) then (calx (cR_person h14) (fun r48 h49 => lnJ h49)) else if x6 = (2 : Int32) then (calx (cR_knows h14) (fun r51 h52 => lnJ h52)) else if x6 = (3 : Int32) then (calx (cR_question h14) (fun r54 h55 => lnJ h55)) else if x6 = (4 : Int32) then (calx (cR_talk h14) (fun r57 h58 => lnJ h58)) else if x6 = (5 : Int32) then (onr (gR (cV h14) 2 7) (fun b60 => calx (cR_number (0 : Int32) (99 : Int32) h14) (fun r62 h63 => grd (shC (cV h63) b60) (bnd (sI h63 b60 8 r62) (fun h65 => lnJ h65))))) else if x6 = (6 : Int32) then (onr (gR (cV h14) 2 7) (fun b69 => calx (cR_number (0 : Int32) (99999 : Int32) h14) (fun r71 h72 => grd (shC (cV h72) b69) (bnd (sI h72 b69 9 r71) (fun h74 => lnJ h74))))) else lnL lnJ h14
def lnP (x6 : Int32) (h8 : HP) : Option ((Unit ⊕ Nat × Nat) × HP) := bnd (sI h8 2 6 ((gI h8 2 6) ||| ((1 : Int32) <<< (x6 &&& 31)))) (fun h10 => cal (cR_next h10) (fun r13 h14 => lnB x6 h14))
def lnC (x6 : Int32) (h8 : HP) : Option ((Unit ⊕ Nat × Nat) × HP) := if (((gI h8 2 6) >>> (x6 &&& 31)) &&& (1 : Int32)) = (1 : Int32) then wrC Unit 3 h8 else lnP x6 h8
theorem line_e (h : HP) : cR_line h = cal (cR_isWord (0 : Int32) (7 : Int32) h) (fun r1 h2 => if r1 = 0 then wrC Unit 1 h2 else (cal (cR_isFull (gI h2 2 4) h2) (fun r7 h8 => if r7 = 0 then (if (gI h2 2 4) = (5 : Int32) then lnC (gI h2 2 4) h8 else (if (gI h2 2 4) = (6 : Int32) then lnC (gI h2 2 4) h8 else lnP (gI h2 2 4) h8)) else wrC Unit 2 h8))) := by
  delta cR_line lnC lnP lnB lnF lnL lnJ wrC jon bnd
  exact Eq.refl _
def lmJ (x6 : Int32) (h7 : HP) : Option (Int32 × HP) := if x6 = 0 then (some ((0 : Int32), h7)) else (cal (m_isSign (59 : Int32) h7) (fun r8 h9 => if r8 = 0 then (cal (m_wrong (1 : Int32) h9) (fun r10 h11 => grd (isB r10) (some (r10, h11)))) else (cal (m_token h9) (fun r13 h14 => some ((1 : Int32), h14)))))
theorem lineRead_e (h : HP) : m_lineRead h = if (gI h 0 8) = (1 : Int32) then (if (gI h 0 9) ≤ (7 : Int32) then (if (gI h 0 9) = (0 : Int32) then (cal (m_factLine h) (fun r16 h17 => lmJ r16 h17)) else if (gI h 0 9) = (1 : Int32) then (cal (m_personLine h) (fun r20 h21 => lmJ r20 h21)) else if (gI h 0 9) = (2 : Int32) then (cal (m_knowsLine h) (fun r24 h25 => lmJ r24 h25)) else if (gI h 0 9) = (3 : Int32) then (cal (m_askLine h) (fun r28 h29 => lmJ r28 h29)) else if (gI h 0 9) = (4 : Int32) then (cal (m_talkLine h) (fun r32 h33 => lmJ r32 h33)) else if (gI h 0 9) = (5 : Int32) then (cal (m_onceLine (0 : Int32) (99 : Int32) h) (fun r36 h37 => lmJ r36 h37)) else if (gI h 0 9) = (6 : Int32) then (cal (m_onceLine (1 : Int32) (99999 : Int32) h) (fun r40 h41 => lmJ r40 h41)) else (cal (m_token h) (fun r43 h44 => lmL lmJ h44))) else (cal (m_wrong (1 : Int32) h) (fun r2 h3 => grd (isB r2) (some (r2, h3))))) else (cal (m_wrong (1 : Int32) h) (fun r2 h3 => grd (isB r2) (some (r2, h3)))) := by
  delta m_lineRead lmL lmL2 lmJ jon bnd
  exact Eq.refl _
theorem factLine_e (h : HP) : m_factLine h = if (gI h 0 17) = (8 : Int32) then (cal (m_wrong (2 : Int32) h) (fun r1 h2 => grd (isB r1) (some (r1, h2)))) else (cal (m_token h) (fun r4 h5 => lmF h5)) := by
  delta m_factLine lmF
  exact Eq.refl _
theorem personLine_e (h : HP) : m_personLine h = if (gI h 0 18) = (5 : Int32) then (cal (m_wrong (2 : Int32) h) (fun r1 h2 => grd (isB r1) (some (r1, h2)))) else (cal (m_token h) (fun r4 h5 => lmP h5)) := by
  delta m_personLine lmP
  exact Eq.refl _
theorem askLine_e (h : HP) : m_askLine h = if (gI h 0 19) = (8 : Int32) then (cal (m_wrong (2 : Int32) h) (fun r1 h2 => grd (isB r1) (some (r1, h2)))) else (cal (m_token h) (fun r4 h5 => lmQ h5)) := by
  delta m_askLine lmQ jon
  exact Eq.refl _
theorem talkLine_e (h : HP) : m_talkLine h = if (gI h 0 20) = (10 : Int32) then (cal (m_wrong (2 : Int32) h) (fun r1 h2 => grd (isB r1) (some (r1, h2)))) else (cal (m_token h) (fun r4 h5 => lmT h5)) := by
  delta m_talkLine lmT
  exact Eq.refl _
theorem knowsLine_e (h : HP) : m_knowsLine h = cal (m_token h) (fun r1 h2 => lmK h2) := by
  delta m_knowsLine lmK
  exact Eq.refl _
theorem onceLine_e (a1 a2 : Int32) (h : HP) : m_onceLine a1 a2 h = grd (inb a1 2) (if (gI h 3 (a1).toNatClampNeg) = 0 then (grd (inb a1 2) (bnd (sI h 3 (a1).toNatClampNeg (1 : Int32)) (fun h1 => cal (m_token h1) (fun r2 h3 => lmO a1 a2 h3)))) else (cal (m_wrong (3 : Int32) h) (fun r7 h8 => grd (isB r7) (some (r7, h8))))) := by
  delta m_onceLine lmO
  exact Eq.refl _
theorem told_or : ∀ t : Fin 256, ∀ u : Fin 8, (nn t.val ||| ((1 : Int32) <<< (nn u.val &&& 31))) = nn (t.val ||| 2 ^ u.val) ∧ t.val ||| 2 ^ u.val < 256 := by decide +kernel
theorem told_bit : ∀ t : Fin 256, ∀ u : Fin 8, (((nn t.val) >>> (nn u.val &&& 31)) &&& (1 : Int32) = 1) ↔ t.val.testBit u.val = true := by decide +kernel
theorem told_tst : ∀ t : Fin 256, ∀ u : Fin 8, (t.val ||| 2 ^ u.val).testBit 5 = (t.val.testBit 5 || u.val == 5) ∧ (t.val ||| 2 ^ u.val).testBit 6 = (t.val.testBit 6 || u.val == 6) := by decide +kernel
section P52
variable {h0 h h' g : HP} {I0 J0 I I' J J' : Nat → Nat → Int32} {L M : Nat → Nat → Int64} {n : Nat} {tb : Nat → Nat} {a a' c kr : Nat} {K : KT} {A : Nat → Nat → Nat} {t ln : Nat} {S U : Nat → Prop} {j : HP → Option ((Unit ⊕ Nat × Nat) × HP)}
theorem lnJ_no (h : HP) (I : Nat → Nat → Int32) (L : Nat → Nat → Int64) (z : ¬ (I 2 3 = 3 ∧ I 2 4 = 59)) : lnJ (hw h I L) = wrC Unit 1 (hw h I L) := by
  rw [lnJ, ec_isSign, cal_s, decide_eq_false z, if_pos (by rfl)]
theorem b_end (q : PSt h0 I0 J0 h I J n tb c a K A t ln) : LFl g M h0 I0 J0 (gN h + 1) (gS h + 12) (lnJ (hw h I L)) (lmJ 1 (hw g J M)) ∨ ∃ I' J' a', lnJ (hw h I L) = some (.inl (), hw h I' L) ∧ lmJ 1 (hw g J M) = some (1, hw g J' M) ∧ PSt h0 I0 J0 h I' J' n tb c a' K A t (ln + 1) ∧ mu n a' (I' 2 3) < mu n a (I 2 3) := by
  have rd := q.1
  have c2 := rd.c2
  have c54 := rd.2.2.2.2.2.1
  have ts := tk_sg rd.2.2.1.1
  rw [lmJ, if_neg (by decide), em_isSign, cal_s]
  by_cases z : I 2 3 = 3 ∧ I 2 4 = 59
  · right
    obtain ⟨I', J', a', n1, n2, q', m'⟩ := q.nx (L := L) (g := g) (M := M)
    have c7 : gR (cV (hw h I' L)) 2 7 = some c := rd.2.2.2.1
    have i11 : I' c 11 = nn ln := q'.2.2.2.2.1
    rw [lnJ, ec_isSign, cal_s, decide_eq_true z, if_neg (by decide), decide_eq_true (ts.mpr z), if_neg (by decide), n1, n2, cal_s, cal_s, c7, onr_some, grd_pos (show shC (cV (hw h I' L)) c from rd.2.2.2.2.1), bnd_e, sI_hw, gI_hw, i11, nn_succ]
    refine ⟨_, J', a', rfl, rfl, ?_, ?_⟩
    · obtain ⟨q1, ⟨q2, q3, q4⟩, ⟨q5, q6⟩, ⟨q7, q8, q9, q10⟩, q11, q12, ⟨q13, q13'⟩, q14, q15⟩ := q'
      have ic : ∀ k, k ≠ 11 → (u2 I' c 11 (nn (ln + 1))) c k = I' c k := fun k hk => u2_nk _ _ hk
      have ix : ∀ x, x ≠ c → (u2 I' c 11 (nn (ln + 1))) x = I' x := fun x hx => u2_ne hx
      have tc : gT (cV h) c = (4, 0) := q1.ty
      refine ⟨q1.wb c54, ⟨?_, q3, q4⟩, ⟨q5, by rw [ix 2 (Ne.symm c2)]; exact q6⟩, ⟨by rw [ix 2 (Ne.symm c2)]; exact q7, q8, q9, q10⟩, u2_same _ _ _ _, q12, ⟨q13, q13'⟩, q14.wb q13' q13, q15⟩
      obtain ⟨⟨a1, a2, a3, a4, a5, a6⟩, ⟨⟨b1, b2, b3⟩, ⟨c1, c2', c3⟩, ⟨d1, d2, d3⟩⟩, w678, ⟨s1, s3, s5⟩, ⟨j7, j8, j9, j10⟩, rF, rP, rQ, rT, rL⟩ := q2
      have ne : ∀ x u, (gT (cV h) x).1 = u → u ≠ 4 → (u2 I' c 11 (nn (ln + 1))) x = I' x := fun x u tx h4 => ix x (fun e => h4 (by rw [← tx, e, a1]))
      have qf : QF h I' h (u2 I' c 11 (nn (ln + 1))) := ⟨fun _ _ => rfl, fun x tx => ⟨rfl, ne x _ rfl (by omega)⟩⟩
      refine ⟨⟨a1, a2, a3, a4, a5, a6⟩, ⟨⟨b1, b2, b3⟩, ⟨c1, c2', c3⟩, ⟨d1, d2, d3⟩⟩, w678, ⟨by rw [ne (c + 1) 5 (by rw [b1]) (by decide)]; exact s1, by rw [ne (c + 3) 5 (by rw [c1]) (by decide)]; exact s3, by rw [ne (c + 5) 5 (by rw [d1]) (by decide)]; exact s5⟩, ⟨by rw [ic 7 (by decide)]; exact j7, by rw [ic 8 (by decide)]; exact j8, by rw [ic 9 (by decide)]; exact j9, by rw [ic 10 (by decide)]; exact j10⟩, fun k hk => ?_, fun k hk => ?_, fun k hk => ?_, fun k hk => ?_, fun i hi => (rL i hi).qf qf rfl⟩
      · obtain ⟨r1, r2, r3⟩ := rF k hk
        rw [ne _ 7 r2 (by decide)]; exact ⟨r1, r2, r3⟩
      · obtain ⟨r1, r2, r3⟩ := rP k hk
        rw [ne _ 8 r2 (by decide)]; exact ⟨r1, r2, r3⟩
      · obtain ⟨r1, r2, r3⟩ := rQ k hk
        rw [ne _ 9 r2 (by decide)]; exact ⟨r1, r2, r3⟩
      · rw [ne (c + 7) 100 (by rw [a3]) (by decide), ne (c + 8) 100 (by rw [a4]) (by decide), ne (c + 9) 100 (by rw [a5]) (by decide)]; exact rT k hk
    · rw [u2_ne (Ne.symm c2)]
      exact m' (by rw [z.1]; decide)
  · left
    rw [lnJ_no _ _ _ z, decide_eq_false (fun y => z (ts.mp y)), if_pos (by rfl), m_wr]
    exact (q.fl (flt_wrong (ρ := Unit) (g := g) (M := M) (L := L) rd 0 1)).le (by omega) (by omega)
/-- the body's end -/
theorem b_fin {m : Nat} {tc : Option ((Unit ⊕ Nat × Nat) × HP)} {tm tm' : Option (Int32 × HP)} (b : BR g M h0 I0 J0 n tb c h m t ln lnJ tc tm) (e : tm' = cal tm (fun r h => lmJ r h)) : LFl g M h0 I0 J0 (gN h + (m + 3)) (gS h + (12 * m + 40)) tc tm' ∨ ∃ h' I' L' J' a' K' A', tc = some (.inl (), hw h' I' L') ∧ tm' = some (1, hw g J' M) ∧ PSt h0 I0 J0 h' I' J' n tb c a' K' A' t (ln + 1) ∧ mu n a' (I' 2 3) < m ∧ gN h' + mu n a' (I' 2 3) ≤ gN h + m ∧ gS h' + 12 * mu n a' (I' 2 3) ≤ gS h + 12 * m := by
  subst e
  rcases b with fl | ⟨h', I', L', J', a', K', A', e1, e2, q, m1, b1, b2⟩
  · left
    refine fl.m (fun H e => ?_)
    rw [e, cal_s, lmJ, if_pos rfl]
  · rw [e1, e2, cal_s]
    rcases b_end (L := L') (g := g) (M := M) q with fl | ⟨I2, J2, a2, e3, e4, q2, m2⟩
    · left
      exact fl.le (by omega) (by omega)
    · right
      exact ⟨h', I2, L', J2, a2, K', A', e3, e4, q2, by omega, by omega, by omega⟩
/-- told, and the next token -/
theorem PSt.told (q : PSt h0 I0 J0 h I J n tb c a K A t ln) {u : Nat} (hu : u < 8) (J3 : J' 3 0 = bI ((t ||| 2 ^ u).testBit 5) ∧ J' 3 1 = bI ((t ||| 2 ^ u).testBit 6)) (Jx : ∀ x, x ≠ 3 → J' x = J x) : PSt h0 I0 J0 h (u2 I 2 6 (nn (t ||| 2 ^ u))) J' n tb c a K A (t ||| 2 ^ u) ln := by
  obtain ⟨q1, ⟨q2, q3, q4⟩, ⟨q5, q6⟩, ⟨q7, q8, q9, q10⟩, q11, q12, ⟨q13, q13'⟩, q14, q15⟩ := q
  have c2 := q1.c2
  have ix : ∀ x, x ≠ 2 → (u2 I 2 6 (nn (t ||| 2 ^ u))) x = I x := fun x hx => u2_ne hx
  have fd : frD (cV h) I (u2 I 2 6 (nn (t ||| 2 ^ u))) := fun x hx => ix x (fun e => by
    subst e
    rw [show gT (cV h) 2 = (3, 0) from rfl, show gT (cV h) (2 + 1) = (4, 0) from rfl] at hx; revert hx; decide)
  refine ⟨q1.cg (ix 1 (by decide)) (fun k hk => u2_nk _ _ (by omega)) (Jx 1 (by decide)) (Jx 2 (by decide)) (fun k _ _ => by rw [Jx 0 (by decide)]), ⟨q2.frD fd, q3.cg (fun x h1 h2 => Jx x (by omega)) (fun k _ _ => by rw [Jx 0 (by decide)]), q4⟩, ⟨by rw [Jx 0 (by decide)]; exact q5, by rw [u2_nk _ _ (by decide)]; exact q6⟩, ⟨u2_same _ _ _ _, (told_or ⟨t, q8⟩ ⟨u, hu⟩).2, J3.1, J3.2⟩, by rw [ix c c2]; exact q11, q12, ⟨q13, q13'⟩, q14.up q13' (fun _ _ => rfl) (fun _ _ _ => rfl) (fun x _ h2 => ix x h2) (Nat.le_refl _), ⟨fun x hx => by rw [Jx x (by omega)]; exact q15.1 x hx, fun x k h1 h2 h3 => by rw [Jx x (by omega)]; exact q15.2.1 x k h1 h2 h3, fun k hk => by rw [Jx 0 (by decide)]; exact q15.2.2 k hk⟩⟩
theorem told_same (q : PSt h0 I0 J0 h I J n tb c a K A t ln) {u : Nat} (hu : u < 8) (h5 : u ≠ 5) (h6 : u ≠ 6) : J 3 0 = bI ((t ||| 2 ^ u).testBit 5) ∧ J 3 1 = bI ((t ||| 2 ^ u).testBit 6) := by
  have := told_tst ⟨t, q.2.2.2.1.2.1⟩ ⟨u, hu⟩
  simp only [] at this
  rw [this.1, this.2, show (u == 5) = false by simp [h5], show (u == 6) = false by simp [h6], Bool.or_false, Bool.or_false]
  exact q.2.2.2.1.2.2
end P52
