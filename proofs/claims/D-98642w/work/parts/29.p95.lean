set_option maxRecDepth 100000
/-! PURE LEVEL 95: what a line adds: persons, questions (printed by gen95.py) -/
section P43
variable {h0 h h' g : HP} {I0 J0 I I' J J' : Nat → Nat → Int32} {L M : Nat → Nat → Int64} {n : Nat} {tb : Nat → Nat} {a a' c kr : Nat} {K : KT} {A : Nat → Nat → Nat} {t ln : Nat} {S U : Nat → Prop}
theorem PSt.person (q : PSt h0 I0 J0 h I J n tb c a K A t ln) (z8 : zP K < 5) {b : Nat} {v : Nat → Int32} (hv : v 6 &&& 255 = v 6) (b0 : gN h0 ≤ b) (bu : (gT (cV h) b).1 = 0) (rd : Rd h' I' J' n tb c a') (tb' : gT (cV h') b = (8, 0)) (ib : I' b 0 = v 2 ∧ I' b 1 = v 3 ∧ I' b 2 = v 4 ∧ I' b 3 = v 5 ∧ I' b 4 = v 6) (f : AF (fun x => x = c + 4) (fun x => x = c + 3) h I h' I')
    (R2 : ∀ k, gR (cV h') (c + 4) k = if k = zP K then some b else gR (cV h) (c + 4) k) (I1 : I' (c + 3) 2 = nn (zP K + 1)) (Jx : ∀ x, x ≠ 0 → (x < 6 ∨ 10 < x) → J' x = J x) (J5 : J' 6 (5 + zP K) = v 2 ∧ J' 7 (5 + zP K) = v 3 ∧ J' 8 (5 + zP K) = v 4 ∧ J' 9 (5 + zP K) = v 5 ∧ J' 10 (5 + zP K) = v 6) (J5' : ∀ x k, 6 ≤ x → x ≤ 10 → k ≠ 5 + zP K → J' x k = J x k) (J17 : J' 0 18 = nn (zP K + 1)) (J0k : ∀ k, (k < 7 ∨ 11 < k) → k ≠ 18 → J' 0 k = J 0 k) :
    PSt h0 I0 J0 h' I' J' n tb c a' (kP K v) (fun i k => if i = 2 ∧ k = zP K then b else A i k) t ln := by
  obtain ⟨q1, ⟨q2, q3, q4⟩, ⟨q5, q6⟩, ⟨q7, q8, q9, q10⟩, q11, ⟨q12, q12'⟩, ⟨q13, q13'⟩, q14, q15⟩ := q
  have sp := q2
  obtain ⟨⟨a1, a2, a3, a4, a5, a6⟩, ⟨⟨b1, b2, b3⟩, ⟨c1, c2, c3⟩, ⟨d1, d2, d3⟩⟩, ⟨w6, w7, w8⟩, ⟨s1, s3, s5⟩, ⟨i7, i8, i9, i10⟩, rF, rP, rQ, rT, rL⟩ := q2
  have qf : QF h I h' I' := f.q (fun x e => by subst e; rw [show (gT (cV h) (c + 4)).1 = 104 from c3]; decide) (fun x e => by subst e; rw [c1]; decide)
  obtain ⟨z1, z2, z3⟩ := sp.shp qf (f.2.1 c (by rw [a1]; decide) (by omega)) (f.2.1 _ (by rw [b1]; decide) (by omega)) (f.2.1 _ (by rw [c1]; decide) (by omega)) (f.2.1 _ (by rw [d1]; decide) (by omega))
  have ic : I' c = I c := f.2.2.1 c (by rw [a1]; decide) q1.c2 (by omega)
  have c2 := q1.c2
  have c54 := q1.2.2.2.2.2.1
  have t7 : ∀ x, (gT (cV h) x).1 = 7 → gT (cV h') x = gT (cV h) x ∧ I' x = I x := fun x tx => ⟨qf.1 x (by omega), (qf.2 x (Or.inl tx)).2⟩
  have t8 : ∀ x, (gT (cV h) x).1 = 8 → gT (cV h') x = gT (cV h) x ∧ I' x = I x := fun x tx => ⟨f.1 x (by omega), f.2.2.1 x (by omega) (fun e => by rw [e] at tx; revert tx; show ¬ 3 = 8; decide) (fun e => by rw [e, c1] at tx; revert tx; decide)⟩
  have t9 : ∀ x, (gT (cV h) x).1 = 9 → gT (cV h') x = gT (cV h) x ∧ I' x = I x := fun x tx => ⟨qf.1 x (by omega), (qf.2 x (Or.inr (by omega))).2⟩
  refine ⟨rd, ⟨⟨z1, z2, z3, ⟨?_, I1, ?_⟩, ⟨by rw [ic]; exact i7, by rw [ic]; exact i8, by rw [ic]; exact i9, by rw [ic]; exact i10⟩, fun k hk => ?_, fun k hk => ?_, fun k hk => ?_, fun k hk => ?_, fun j hj => ?_⟩, ⟨⟨?_, J17, ?_, ?_, ?_⟩, ?_, fun k hk => ?_, fun k hk => ?_, fun k hk => ?_, fun k hk => ?_, fun j hj => ?_⟩, ⟨⟨q4.1.1, ?_, q4.1.2.2.1, q4.1.2.2.2.1, q4.1.2.2.2.2⟩, fun k hk => ?_, q4.2.2.1, fun k hk => ?_, q4.2.2.2.2⟩⟩, ⟨?_, by rw [f.2.2.2.1]; exact q6⟩, ⟨by rw [f.2.2.2.2.1]; exact q7, q8, by rw [Jx 3 (by decide) (by omega)]; exact q9, by rw [Jx 3 (by decide) (by omega)]; exact q10⟩, by rw [ic]; exact q11, ⟨fun i j hi hj hij => ?_, fun i hi => ?_⟩, ⟨q13, q13'⟩, q14.af q13' (fun x e => by omega) (fun x e => by omega) f, ?_⟩
  · rw [f.2.2.1 _ (by rw [b1]; decide) (by omega) (by omega)]; exact s1
  · rw [f.2.2.1 _ (by rw [d1]; decide) (by omega) (by omega)]; exact s5
  · obtain ⟨r1, r2, r3⟩ := rF k hk
    show gR (cV h') (c + 2) k = some (A 1 k) ∧ (gT (cV h') (A 1 k)).1 = 7 ∧ I' (A 1 k) 0 = _
    rw [f.2.1 (c + 2) (by rw [show (gT (cV h) (c + 2)).1 = 104 from b3]; decide) (by omega), (t7 _ r2).1, (t7 _ r2).2]
    exact ⟨r1, r2, r3⟩
  · have hk : k < zP K + 1 := hk
    show gR (cV h') (c + 4) k = some (if 2 = 2 ∧ k = zP K then b else A 2 k) ∧ (gT (cV h') (if 2 = 2 ∧ k = zP K then b else A 2 k)).1 = 8 ∧ I' (if 2 = 2 ∧ k = zP K then b else A 2 k) 0 = (if (2 ≤ 2 ∧ 2 ≤ 6) ∧ k = K.1 1 then v 2 else K.2.1 2 k) ∧ I' (if 2 = 2 ∧ k = zP K then b else A 2 k) 1 = (if (2 ≤ 3 ∧ 3 ≤ 6) ∧ k = K.1 1 then v 3 else K.2.1 3 k) ∧ I' (if 2 = 2 ∧ k = zP K then b else A 2 k) 2 = (if (2 ≤ 4 ∧ 4 ≤ 6) ∧ k = K.1 1 then v 4 else K.2.1 4 k) ∧ I' (if 2 = 2 ∧ k = zP K then b else A 2 k) 3 = (if (2 ≤ 5 ∧ 5 ≤ 6) ∧ k = K.1 1 then v 5 else K.2.1 5 k) ∧ I' (if 2 = 2 ∧ k = zP K then b else A 2 k) 4 = (if (2 ≤ 6 ∧ 6 ≤ 6) ∧ k = K.1 1 then v 6 else K.2.1 6 k)
    rw [R2]
    by_cases z : k = zP K
    · have e : (if 2 = 2 ∧ k = zP K then b else A 2 k) = b := if_pos ⟨rfl, z⟩
      have e2 : ∀ t, 2 ≤ t → True := fun _ _ => trivial
      rw [e, if_pos z, tb', if_pos ⟨by decide, z⟩, if_pos ⟨by decide, z⟩, if_pos ⟨by decide, z⟩, if_pos ⟨by decide, z⟩, if_pos ⟨by decide, z⟩]
      exact ⟨rfl, rfl, ib⟩
    · have e : (if 2 = 2 ∧ k = zP K then b else A 2 k) = A 2 k := if_neg (fun y => z y.2)
      obtain ⟨r1, r2, r3⟩ := rP k (by omega)
      rw [e, if_neg z, if_neg (fun y => z y.2), if_neg (fun y => z y.2), if_neg (fun y => z y.2), if_neg (fun y => z y.2), if_neg (fun y => z y.2), (t8 _ r2).1, (t8 _ r2).2]
      exact ⟨r1, r2, r3⟩
  · obtain ⟨r1, r2, r3⟩ := rQ k hk
    show gR (cV h') (c + 6) k = some (A 3 k) ∧ (gT (cV h') (A 3 k)).1 = 9 ∧ I' (A 3 k) 0 = _ ∧ I' (A 3 k) 1 = _ ∧ I' (A 3 k) 2 = _ ∧ I' (A 3 k) 3 = _ ∧ I' (A 3 k) 4 = _
    rw [f.2.1 (c + 6) (by rw [show (gT (cV h) (c + 6)).1 = 104 from d3]; decide) (by omega), (t9 _ r2).1, (t9 _ r2).2]
    exact ⟨r1, r2, r3⟩
  · rw [f.2.2.1 (c + 7) (by rw [a3]; decide) (by omega) (by omega), f.2.2.1 (c + 8) (by rw [a4]; decide) (by omega) (by omega), f.2.2.1 (c + 9) (by rw [a5]; decide) (by omega) (by omega)]
    exact rT k hk
  · exact (rL j hj).qf qf (by rw [f.2.1 (c + 10) (by rw [a6]; decide) (by omega)])
  · rw [J0k 17 (by omega) (by decide)]; exact q3.1.1
  · rw [J0k 19 (by omega) (by decide)]; exact q3.1.2.2.1
  · rw [J0k 20 (by omega) (by decide)]; exact q3.1.2.2.2.1
  · rw [J0k 21 (by omega) (by decide)]; exact q3.1.2.2.2.2
  · rw [Jx 4 (by decide) (by omega)]; exact q3.2.1
  · rw [Jx 5 (by decide) (by omega)]; exact q3.2.2.1 k hk
  · have hk : k < zP K + 1 := hk
    show J' 6 (5 + k) = (if (2 ≤ 2 ∧ 2 ≤ 6) ∧ k = K.1 1 then v 2 else K.2.1 2 k) ∧ J' 7 (5 + k) = (if (2 ≤ 3 ∧ 3 ≤ 6) ∧ k = K.1 1 then v 3 else K.2.1 3 k) ∧ J' 8 (5 + k) = (if (2 ≤ 4 ∧ 4 ≤ 6) ∧ k = K.1 1 then v 4 else K.2.1 4 k) ∧ J' 9 (5 + k) = (if (2 ≤ 5 ∧ 5 ≤ 6) ∧ k = K.1 1 then v 5 else K.2.1 5 k) ∧ J' 10 (5 + k) = (if (2 ≤ 6 ∧ 6 ≤ 6) ∧ k = K.1 1 then v 6 else K.2.1 6 k)
    by_cases z : k = zP K
    · rw [if_pos ⟨by decide, z⟩, if_pos ⟨by decide, z⟩, if_pos ⟨by decide, z⟩, if_pos ⟨by decide, z⟩, if_pos ⟨by decide, z⟩, z]; exact J5
    · rw [if_neg (fun y => z y.2), if_neg (fun y => z y.2), if_neg (fun y => z y.2), if_neg (fun y => z y.2), if_neg (fun y => z y.2), J5' 6 _ (by decide) (by decide) (by omega), J5' 7 _ (by decide) (by decide) (by omega), J5' 8 _ (by decide) (by decide) (by omega), J5' 9 _ (by decide) (by decide) (by omega), J5' 10 _ (by decide) (by decide) (by omega)]; exact q3.2.2.2.1 k (by omega)
  · rw [Jx 11 (by decide) (by omega), Jx 12 (by decide) (by omega), Jx 13 (by decide) (by omega), Jx 14 (by decide) (by omega), Jx 15 (by decide) (by omega)]; exact q3.2.2.2.2.1 k hk
  · rw [Jx 16 (by decide) (by omega), Jx 17 (by decide) (by omega), Jx 18 (by decide) (by omega)]; exact q3.2.2.2.2.2.1 k hk
  · have := q3.2.2.2.2.2.2 j hj
    show MLr J' (zl K j) j
    unfold MLr kj at this ⊢
    rw [Jx 19 (by decide) (by omega), Jx 20 (by decide) (by omega), Jx 21 (by decide) (by omega), Jx 22 (by decide) (by omega), Jx 23 (by decide) (by omega), Jx 24 (by decide) (by omega), J0k 21 (by omega) (by decide)]
    exact this
  · show zP K + 1 ≤ 5; omega
  · have hk : k < zP K + 1 := hk
    show (if (2 ≤ 6 ∧ 6 ≤ 6) ∧ k = K.1 1 then v 6 else K.2.1 6 k) &&& 255 = (if (2 ≤ 6 ∧ 6 ≤ 6) ∧ k = K.1 1 then v 6 else K.2.1 6 k)
    by_cases z : k = zP K
    · rw [if_pos ⟨by decide, z⟩]; exact hv
    · rw [if_neg (fun y => z y.2)]; exact q4.2.1 k (by omega)
  · obtain ⟨⟨i, hi, e1⟩, ⟨i2, hi2, e2⟩, e3⟩ := q4.2.2.2.1 k hk
    exact ⟨⟨i, Nat.lt_succ_of_lt hi, e1⟩, ⟨i2, Nat.lt_succ_of_lt hi2, e2⟩, e3⟩
  · rw [J0k 49 (by omega) (by decide)]; exact q5
  · have hi : i < zP K + 1 := hi
    have hj : j < zP K + 1 := hj
    have bn : ∀ i, i < zP K → A 2 i ≠ b := fun i hi e => by
      have := (rP i hi).2.1
      rw [e, bu] at this; revert this; decide
    show (if 2 = 2 ∧ i = zP K then b else A 2 i) ≠ (if 2 = 2 ∧ j = zP K then b else A 2 j)
    by_cases y1 : i = zP K
    · rw [if_pos ⟨rfl, y1⟩, if_neg (fun y => hij (y1.trans y.2.symm))]
      exact Ne.symm (bn j (by omega))
    · rw [if_neg (fun y => y1 y.2)]
      by_cases y2 : j = zP K
      · rw [if_pos ⟨rfl, y2⟩]; exact bn i (by omega)
      · rw [if_neg (fun y => y2 y.2)]; exact q12 i j (by omega) (by omega) hij
  · have hi : i < zP K + 1 := hi
    show gN h0 ≤ (if 2 = 2 ∧ i = zP K then b else A 2 i)
    by_cases y1 : i = zP K
    · rw [if_pos ⟨rfl, y1⟩]; exact b0
    · rw [if_neg (fun y => y1 y.2)]; exact q12' i (by omega)
  · refine ⟨fun x hx => (Jx x (by omega) (by omega)).trans (q15.1 x hx), fun x k h1 h2 h3 => ?_, fun k hk => (J0k k (by omega) (by omega)).trans (q15.2.2 k hk)⟩
    by_cases z : 6 ≤ x ∧ x ≤ 10
    · have e : hf x = 5 := by
        rcases (show x = 6 ∨ x = 7 ∨ x = 8 ∨ x = 9 ∨ x = 10 by omega) with rfl | rfl | rfl | rfl | rfl <;> rfl
      rw [J5' x k z.1 z.2 (by omega)]; exact q15.2.1 x k h1 h2 h3
    · rw [Jx x (by omega) (by omega)]; exact q15.2.1 x k h1 h2 h3
theorem PSt.quest (q : PSt h0 I0 J0 h I J n tb c a K A t ln) (z8 : zQ K < 8) {b : Nat} {v : Nat → Int32} (hv8 : ∃ i, i < 4 ∧ v 8 = nn i) (hv9 : okF (v 9) ∧ okF (v 10) ∧ okF (v 11)) (rd : Rd h' I' J' n tb c a') (tb' : gT (cV h') b = (9, 0)) (ib : I' b 0 = v 7 ∧ I' b 1 = v 8 ∧ I' b 2 = v 9 ∧ I' b 3 = v 10 ∧ I' b 4 = v 11) (f : AF (fun x => x = c + 6) (fun x => x = c + 5) h I h' I')
    (R2 : ∀ k, gR (cV h') (c + 6) k = if k = zQ K then some b else gR (cV h) (c + 6) k) (I1 : I' (c + 5) 2 = nn (zQ K + 1)) (Jx : ∀ x, x ≠ 0 → (x < 11 ∨ 15 < x) → J' x = J x) (J5 : J' 11 (8 + zQ K) = v 7 ∧ J' 12 (8 + zQ K) = v 8 ∧ J' 13 (8 + zQ K) = v 9 ∧ J' 14 (8 + zQ K) = v 10 ∧ J' 15 (8 + zQ K) = v 11) (J5' : ∀ x k, 11 ≤ x → x ≤ 15 → k ≠ 8 + zQ K → J' x k = J x k) (J17 : J' 0 19 = nn (zQ K + 1)) (J0k : ∀ k, (k < 7 ∨ 11 < k) → k ≠ 19 → J' 0 k = J 0 k) :
    PSt h0 I0 J0 h' I' J' n tb c a' (kQ K v) (fun i k => if i = 3 ∧ k = zQ K then b else A i k) t ln := by
  obtain ⟨q1, ⟨q2, q3, q4⟩, ⟨q5, q6⟩, ⟨q7, q8, q9, q10⟩, q11, ⟨q12, q12'⟩, ⟨q13, q13'⟩, q14, q15⟩ := q
  have sp := q2
  obtain ⟨⟨a1, a2, a3, a4, a5, a6⟩, ⟨⟨b1, b2, b3⟩, ⟨c1, c2, c3⟩, ⟨d1, d2, d3⟩⟩, ⟨w6, w7, w8⟩, ⟨s1, s3, s5⟩, ⟨i7, i8, i9, i10⟩, rF, rP, rQ, rT, rL⟩ := q2
  have qf : QF h I h' I' := f.q (fun x e => by subst e; rw [show (gT (cV h) (c + 6)).1 = 104 from d3]; decide) (fun x e => by subst e; rw [d1]; decide)
  obtain ⟨z1, z2, z3⟩ := sp.shp qf (f.2.1 c (by rw [a1]; decide) (by omega)) (f.2.1 _ (by rw [b1]; decide) (by omega)) (f.2.1 _ (by rw [c1]; decide) (by omega)) (f.2.1 _ (by rw [d1]; decide) (by omega))
  have ic : I' c = I c := f.2.2.1 c (by rw [a1]; decide) q1.c2 (by omega)
  have c2 := q1.c2
  have c54 := q1.2.2.2.2.2.1
  have t7 : ∀ x, (gT (cV h) x).1 = 7 → gT (cV h') x = gT (cV h) x ∧ I' x = I x := fun x tx => ⟨qf.1 x (by omega), (qf.2 x (Or.inl tx)).2⟩
  have t8 : ∀ x, (gT (cV h) x).1 = 8 → gT (cV h') x = gT (cV h) x ∧ I' x = I x := fun x tx => ⟨f.1 x (by omega), f.2.2.1 x (by omega) (fun e => by rw [e] at tx; revert tx; show ¬ 3 = 8; decide) (fun e => by rw [e, d1] at tx; revert tx; decide)⟩
  have t9 : ∀ x, (gT (cV h) x).1 = 9 → gT (cV h') x = gT (cV h) x ∧ I' x = I x := fun x tx => ⟨qf.1 x (by omega), (qf.2 x (Or.inr (by omega))).2⟩
  refine ⟨rd, ⟨⟨z1, z2, z3, ⟨?_, ?_, I1⟩, ⟨by rw [ic]; exact i7, by rw [ic]; exact i8, by rw [ic]; exact i9, by rw [ic]; exact i10⟩, fun k hk => ?_, fun k hk => ?_, fun k hk => ?_, fun k hk => ?_, fun j hj => ?_⟩, ⟨⟨?_, ?_, J17, ?_, ?_⟩, ?_, fun k hk => ?_, fun k hk => ?_, fun k hk => ?_, fun k hk => ?_, fun j hj => ?_⟩, ⟨⟨q4.1.1, q4.1.2.1, ?_, q4.1.2.2.2.1, q4.1.2.2.2.2⟩, q4.2.1, fun k hk => ?_, fun k hk => ?_, q4.2.2.2.2⟩⟩, ⟨?_, by rw [f.2.2.2.1]; exact q6⟩, ⟨by rw [f.2.2.2.2.1]; exact q7, q8, by rw [Jx 3 (by decide) (by omega)]; exact q9, by rw [Jx 3 (by decide) (by omega)]; exact q10⟩, by rw [ic]; exact q11, ⟨q12, q12'⟩, ⟨q13, q13'⟩, q14.af q13' (fun x e => by omega) (fun x e => by omega) f, ?_⟩
  · rw [f.2.2.1 _ (by rw [b1]; decide) (by omega) (by omega)]; exact s1
  · rw [f.2.2.1 _ (by rw [c1]; decide) (by omega) (by omega)]; exact s3
  · obtain ⟨r1, r2, r3⟩ := rF k hk
    show gR (cV h') (c + 2) k = some (A 1 k) ∧ (gT (cV h') (A 1 k)).1 = 7 ∧ I' (A 1 k) 0 = _
    rw [f.2.1 (c + 2) (by rw [show (gT (cV h) (c + 2)).1 = 104 from b3]; decide) (by omega), (t7 _ r2).1, (t7 _ r2).2]
    exact ⟨r1, r2, r3⟩
  · obtain ⟨r1, r2, r3⟩ := rP k hk
    show gR (cV h') (c + 4) k = some (A 2 k) ∧ (gT (cV h') (A 2 k)).1 = 8 ∧ I' (A 2 k) 0 = _ ∧ I' (A 2 k) 1 = _ ∧ I' (A 2 k) 2 = _ ∧ I' (A 2 k) 3 = _ ∧ I' (A 2 k) 4 = _
    rw [f.2.1 (c + 4) (by rw [show (gT (cV h) (c + 4)).1 = 104 from c3]; decide) (by omega), (t8 _ r2).1, (t8 _ r2).2]
    exact ⟨r1, r2, r3⟩
  · have hk : k < zQ K + 1 := hk
    show gR (cV h') (c + 6) k = some (if 3 = 3 ∧ k = zQ K then b else A 3 k) ∧ (gT (cV h') (if 3 = 3 ∧ k = zQ K then b else A 3 k)).1 = 9 ∧ I' (if 3 = 3 ∧ k = zQ K then b else A 3 k) 0 = (if (7 ≤ 7 ∧ 7 ≤ 11) ∧ k = K.1 2 then v 7 else K.2.1 7 k) ∧ I' (if 3 = 3 ∧ k = zQ K then b else A 3 k) 1 = (if (7 ≤ 8 ∧ 8 ≤ 11) ∧ k = K.1 2 then v 8 else K.2.1 8 k) ∧ I' (if 3 = 3 ∧ k = zQ K then b else A 3 k) 2 = (if (7 ≤ 9 ∧ 9 ≤ 11) ∧ k = K.1 2 then v 9 else K.2.1 9 k) ∧ I' (if 3 = 3 ∧ k = zQ K then b else A 3 k) 3 = (if (7 ≤ 10 ∧ 10 ≤ 11) ∧ k = K.1 2 then v 10 else K.2.1 10 k) ∧ I' (if 3 = 3 ∧ k = zQ K then b else A 3 k) 4 = (if (7 ≤ 11 ∧ 11 ≤ 11) ∧ k = K.1 2 then v 11 else K.2.1 11 k)
    rw [R2]
    by_cases z : k = zQ K
    · have e : (if 3 = 3 ∧ k = zQ K then b else A 3 k) = b := if_pos ⟨rfl, z⟩
      have e2 : ∀ t, 2 ≤ t → True := fun _ _ => trivial
      rw [e, if_pos z, tb', if_pos ⟨by decide, z⟩, if_pos ⟨by decide, z⟩, if_pos ⟨by decide, z⟩, if_pos ⟨by decide, z⟩, if_pos ⟨by decide, z⟩]
      exact ⟨rfl, rfl, ib⟩
    · have e : (if 3 = 3 ∧ k = zQ K then b else A 3 k) = A 3 k := if_neg (fun y => z y.2)
      obtain ⟨r1, r2, r3⟩ := rQ k (by omega)
      rw [e, if_neg z, if_neg (fun y => z y.2), if_neg (fun y => z y.2), if_neg (fun y => z y.2), if_neg (fun y => z y.2), if_neg (fun y => z y.2), (t9 _ r2).1, (t9 _ r2).2]
      exact ⟨r1, r2, r3⟩
  · rw [f.2.2.1 (c + 7) (by rw [a3]; decide) (by omega) (by omega), f.2.2.1 (c + 8) (by rw [a4]; decide) (by omega) (by omega), f.2.2.1 (c + 9) (by rw [a5]; decide) (by omega) (by omega)]
    exact rT k hk
  · exact (rL j hj).qf qf (by rw [f.2.1 (c + 10) (by rw [a6]; decide) (by omega)])
  · rw [J0k 17 (by omega) (by decide)]; exact q3.1.1
  · rw [J0k 18 (by omega) (by decide)]; exact q3.1.2.1
  · rw [J0k 20 (by omega) (by decide)]; exact q3.1.2.2.2.1
  · rw [J0k 21 (by omega) (by decide)]; exact q3.1.2.2.2.2
  · rw [Jx 4 (by decide) (by omega)]; exact q3.2.1
  · rw [Jx 5 (by decide) (by omega)]; exact q3.2.2.1 k hk
  · rw [Jx 6 (by decide) (by omega), Jx 7 (by decide) (by omega), Jx 8 (by decide) (by omega), Jx 9 (by decide) (by omega), Jx 10 (by decide) (by omega)]; exact q3.2.2.2.1 k hk
  · have hk : k < zQ K + 1 := hk
    show J' 11 (8 + k) = (if (7 ≤ 7 ∧ 7 ≤ 11) ∧ k = K.1 2 then v 7 else K.2.1 7 k) ∧ J' 12 (8 + k) = (if (7 ≤ 8 ∧ 8 ≤ 11) ∧ k = K.1 2 then v 8 else K.2.1 8 k) ∧ J' 13 (8 + k) = (if (7 ≤ 9 ∧ 9 ≤ 11) ∧ k = K.1 2 then v 9 else K.2.1 9 k) ∧ J' 14 (8 + k) = (if (7 ≤ 10 ∧ 10 ≤ 11) ∧ k = K.1 2 then v 10 else K.2.1 10 k) ∧ J' 15 (8 + k) = (if (7 ≤ 11 ∧ 11 ≤ 11) ∧ k = K.1 2 then v 11 else K.2.1 11 k)
    by_cases z : k = zQ K
    · rw [if_pos ⟨by decide, z⟩, if_pos ⟨by decide, z⟩, if_pos ⟨by decide, z⟩, if_pos ⟨by decide, z⟩, if_pos ⟨by decide, z⟩, z]; exact J5
    · rw [if_neg (fun y => z y.2), if_neg (fun y => z y.2), if_neg (fun y => z y.2), if_neg (fun y => z y.2), if_neg (fun y => z y.2), J5' 11 _ (by decide) (by decide) (by omega), J5' 12 _ (by decide) (by decide) (by omega), J5' 13 _ (by decide) (by decide) (by omega), J5' 14 _ (by decide) (by decide) (by omega), J5' 15 _ (by decide) (by decide) (by omega)]; exact q3.2.2.2.2.1 k (by omega)
  · rw [Jx 16 (by decide) (by omega), Jx 17 (by decide) (by omega), Jx 18 (by decide) (by omega)]; exact q3.2.2.2.2.2.1 k hk
  · have := q3.2.2.2.2.2.2 j hj
    show MLr J' (zl K j) j
    unfold MLr kj at this ⊢
    rw [Jx 19 (by decide) (by omega), Jx 20 (by decide) (by omega), Jx 21 (by decide) (by omega), Jx 22 (by decide) (by omega), Jx 23 (by decide) (by omega), Jx 24 (by decide) (by omega), J0k 21 (by omega) (by decide)]
    exact this
  · show zQ K + 1 ≤ 8; omega
  · have hk : k < zQ K + 1 := hk
    show (∃ i, i < 4 ∧ (if (7 ≤ 8 ∧ 8 ≤ 11) ∧ k = K.1 2 then v 8 else K.2.1 8 k) = nn i) ∧ okF (if (7 ≤ 9 ∧ 9 ≤ 11) ∧ k = K.1 2 then v 9 else K.2.1 9 k) ∧ okF (if (7 ≤ 10 ∧ 10 ≤ 11) ∧ k = K.1 2 then v 10 else K.2.1 10 k) ∧ okF (if (7 ≤ 11 ∧ 11 ≤ 11) ∧ k = K.1 2 then v 11 else K.2.1 11 k)
    by_cases z : k = zQ K
    · rw [if_pos ⟨by decide, z⟩, if_pos ⟨by decide, z⟩, if_pos ⟨by decide, z⟩, if_pos ⟨by decide, z⟩]; exact ⟨hv8, hv9⟩
    · rw [if_neg (fun y => z y.2), if_neg (fun y => z y.2), if_neg (fun y => z y.2), if_neg (fun y => z y.2)]; exact q4.2.2.1 k (by omega)
  · obtain ⟨e1, e2, ⟨i, hi, e3⟩⟩ := q4.2.2.2.1 k hk
    exact ⟨e1, e2, ⟨i, Nat.lt_succ_of_lt hi, e3⟩⟩
  · rw [J0k 49 (by omega) (by decide)]; exact q5
  · refine ⟨fun x hx => (Jx x (by omega) (by omega)).trans (q15.1 x hx), fun x k h1 h2 h3 => ?_, fun k hk => (J0k k (by omega) (by omega)).trans (q15.2.2 k hk)⟩
    by_cases z : 11 ≤ x ∧ x ≤ 15
    · have e : hf x = 8 := by
        rcases (show x = 11 ∨ x = 12 ∨ x = 13 ∨ x = 14 ∨ x = 15 by omega) with rfl | rfl | rfl | rfl | rfl <;> rfl
      rw [J5' x k z.1 z.2 (by omega)]; exact q15.2.1 x k h1 h2 h3
    · rw [Jx x (by omega) (by omega)]; exact q15.2.1 x k h1 h2 h3
end P43
