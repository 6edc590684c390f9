set_option maxRecDepth 100000
/-! PURE LEVEL 97: what a law's line adds -/
section P45
variable {h0 h h' g : HP} {I0 J0 I I' J J' : Nat → Nat → Int32} {L M : Nat → Nat → Int64} {n : Nat} {tb : Nat → Nat} {a a' c kr : Nat} {K : KT} {A : Nat → Nat → Nat} {t ln : Nat} {S U : Nat → Prop}
theorem PDn.qf (f : QF h I h' I') : ∀ (d p : Nat) (l : LF), PDn (cV h) I d p l → PDn (cV h') I' d p l
  | 0, _, _, q => q.elim
  | d + 1, p, l, q => by
    have ne : ∀ t, (gT (cV h) p).1 = t → 9 ≤ t → t ≤ 13 → gT (cV h') p = gT (cV h) p ∧ gR (cV h') p = gR (cV h) p ∧ I' p = I p := fun t ht h1 h2 => ⟨f.1 p (by omega), (f.2 p (Or.inr (by omega))).1, (f.2 p (Or.inr (by omega))).2⟩
    rcases q with ⟨t, q⟩ | ⟨t, q1, q⟩ | ⟨t, a, fa, q1, q2, q⟩ | ⟨t, a, b, fa, fb, q1, q2, q3, q4, q⟩
    · obtain ⟨e1, e2, e3⟩ := ne 10 t (by decide) (by decide)
      exact Or.inl ⟨by rw [e1]; exact t, by rw [e3]; exact q⟩
    · obtain ⟨e1, e2, e3⟩ := ne 11 t (by decide) (by decide)
      exact Or.inr (Or.inl ⟨by rw [e1]; exact t, by rw [e3]; exact q1, by rw [e3]; exact q⟩)
    · obtain ⟨e1, e2, e3⟩ := ne 12 t (by decide) (by decide)
      exact Or.inr (Or.inr (Or.inl ⟨by rw [e1]; exact t, a, fa, by rw [e2]; exact q1, PDn.qf f d a fa q2, q⟩))
    · obtain ⟨e1, e2, e3⟩ := ne 13 t (by decide) (by decide)
      exact Or.inr (Or.inr (Or.inr ⟨by rw [e1]; exact t, a, b, fa, fb, by rw [e2]; exact q1, by rw [e2]; exact q2, PDn.qf f d a fa q3, PDn.qf f d b fb q4, by rw [e3]; exact q⟩))
theorem PSt.law (q : PSt h0 I0 J0 h I J n tb c a K A t ln) {j : Nat} (hj : j < 2) {p cnt d : Nat} {fp : LF} (rd : Rd h' I' J' n tb c a') (f : AF (fun x => x = c + 10) (fun x => x = c) h I h' I')
    (r10 : ∀ k, gR (cV h') (c + 10) k = if k = j then some p else gR (cV h) (c + 10) k) (pd : PDn (cV h') I' 80 p fp) (ic : ∀ k, k ≠ 10 → I' c k = I c k) (ic10 : I' c 10 = nn cnt) (hc : zKn K < cnt) (hc' : cnt ≤ 64)
    (Jx : ∀ x, x ≠ 0 → (x < 19 ∨ 26 < x) → J' x = J x) (J19 : ∀ k, J' 19 k = if k = 2 + j then 1 else J 19 k) (J20 : ∀ k, J' 20 k = if k = 2 + j then nn (zKn K) else J 20 k) (J21 : ∀ k, J' 21 k = if k = 2 + j then nn cnt else J 21 k)
    (J22 : ∀ k, k < 64 + zKn K → J' 22 k = J 22 k ∧ J' 23 k = J 23 k ∧ J' 24 k = J 24 k) (sd : SDn (kj J' 22) (kj J' 23) (kj J' 24) d (zKn K) (cnt - 1) fp) (J021 : J' 0 21 = nn cnt) (J049 : J' 0 49 = nn cnt) (J0k : ∀ k, (k < 4 ∨ (11 < k ∧ k < 21) ∨ 51 < k) → J' 0 k = J 0 k) :
    PSt h0 I0 J0 h' I' J' n tb c a' (kLw K j cnt fp) A t ln := by
  obtain ⟨q1, ⟨q2, q3, q4⟩, ⟨q5, q6⟩, ⟨q7, q8, q9, q10⟩, q11, ⟨q12, q12'⟩, ⟨q13, q13'⟩, q14, q15⟩ := q
  have c2' := q1.c2
  have c54 := q1.2.2.2.2.2.1
  have sp := q2
  obtain ⟨⟨a1, a2, a3, a4, a5, a6⟩, ⟨⟨b1, b2, b3⟩, ⟨c1, c2, c3⟩, ⟨d1, d2, d3⟩⟩, w678, ⟨s1, s3, s5⟩, ⟨j7, j8, j9, j10⟩, rF, rP, rQ, rT, rL⟩ := q2
  have qf : QF h I h' I' := f.q (fun x e => by subst e; rw [a6]; decide) (fun x e => by subst e; rw [a1]; decide)
  obtain ⟨z1, z2, z3⟩ := sp.shp qf (f.2.1 c (by rw [a1]; decide) (by omega)) (f.2.1 _ (by rw [b1]; decide) (by omega)) (f.2.1 _ (by rw [c1]; decide) (by omega)) (f.2.1 _ (by rw [d1]; decide) (by omega))
  have fi : ∀ x u, (gT (cV h) x).1 = u → u ≠ 0 → u ≠ 3 → u ≠ 4 → gT (cV h') x = gT (cV h) x ∧ I' x = I x := fun x u tx h0 h3 h4 => ⟨f.1 x (by omega), f.2.2.1 x (by omega) (fun e => h3 (by rw [← tx, e]; rfl)) (fun e => h4 (by rw [← tx, e, a1]))⟩
  refine ⟨rd, ⟨⟨z1, z2, z3, ⟨by rw [(fi (c + 1) 5 (by rw [b1]) (by decide) (by decide) (by decide)).2]; exact s1, by rw [(fi (c + 3) 5 (by rw [c1]) (by decide) (by decide) (by decide)).2]; exact s3, by rw [(fi (c + 5) 5 (by rw [d1]) (by decide) (by decide) (by decide)).2]; exact s5⟩, ⟨by rw [ic 7 (by decide)]; exact j7, by rw [ic 8 (by decide)]; exact j8, by rw [ic 9 (by decide)]; exact j9, ic10⟩, fun k hk => ?_, fun k hk => ?_, fun k hk => ?_, fun k hk => ?_, fun i hi => ?_⟩, ⟨⟨?_, ?_, ?_, ?_, J021⟩, ?_, fun k hk => ?_, fun k hk => ?_, fun k hk => ?_, fun k hk => ?_, fun i hi => ?_⟩, ⟨⟨q4.1.1, q4.1.2.1, q4.1.2.2.1, q4.1.2.2.2.1, hc'⟩, q4.2⟩⟩, ⟨J049, by rw [f.2.2.2.1]; exact q6⟩, ⟨by rw [f.2.2.2.2.1]; exact q7, q8, by rw [Jx 3 (by decide) (by omega)]; exact q9, by rw [Jx 3 (by decide) (by omega)]; exact q10⟩, by rw [ic 11 (by decide)]; exact q11, ⟨q12, q12'⟩, ⟨q13, q13'⟩, q14.af q13' (fun x e => by omega) (fun x e => by omega) f, ?_⟩
  · obtain ⟨r1, r2, r3⟩ := rF k hk
    show gR (cV h') (c + 2) k = some (A 1 k) ∧ (gT (cV h') (A 1 k)).1 = 7 ∧ I' (A 1 k) 0 = _
    rw [f.2.1 (c + 2) (by rw [show (gT (cV h) (c + 2)).1 = 104 from b3]; decide) (by omega), (fi _ 7 r2 (by decide) (by decide) (by decide)).1, (fi _ 7 r2 (by decide) (by decide) (by decide)).2]
    exact ⟨r1, r2, r3⟩
  · obtain ⟨r1, r2, r3⟩ := rP k hk
    show gR (cV h') (c + 4) k = some (A 2 k) ∧ (gT (cV h') (A 2 k)).1 = 8 ∧ I' (A 2 k) 0 = _ ∧ I' (A 2 k) 1 = _ ∧ I' (A 2 k) 2 = _ ∧ I' (A 2 k) 3 = _ ∧ I' (A 2 k) 4 = _
    rw [f.2.1 (c + 4) (by rw [show (gT (cV h) (c + 4)).1 = 104 from c3]; decide) (by omega), (fi _ 8 r2 (by decide) (by decide) (by decide)).1, (fi _ 8 r2 (by decide) (by decide) (by decide)).2]
    exact ⟨r1, r2, r3⟩
  · obtain ⟨r1, r2, r3⟩ := rQ k hk
    show gR (cV h') (c + 6) k = some (A 3 k) ∧ (gT (cV h') (A 3 k)).1 = 9 ∧ I' (A 3 k) 0 = _ ∧ I' (A 3 k) 1 = _ ∧ I' (A 3 k) 2 = _ ∧ I' (A 3 k) 3 = _ ∧ I' (A 3 k) 4 = _
    rw [f.2.1 (c + 6) (by rw [show (gT (cV h) (c + 6)).1 = 104 from d3]; decide) (by omega), (fi _ 9 r2 (by decide) (by decide) (by decide)).1, (fi _ 9 r2 (by decide) (by decide) (by decide)).2]
    exact ⟨r1, r2, r3⟩
  · rw [(fi (c + 7) 100 (by rw [a3]) (by decide) (by decide) (by decide)).2, (fi (c + 8) 100 (by rw [a4]) (by decide) (by decide) (by decide)).2, (fi (c + 9) 100 (by rw [a5]) (by decide) (by decide) (by decide)).2]; exact rT k hk
  · show CL (cV h') I' c (if i = j then some fp else zl K i) i
    by_cases z : i = j
    · rw [if_pos z]
      exact ⟨p, by rw [r10, if_pos z], pd⟩
    · rw [if_neg z]
      exact (rL i hi).qf qf (by rw [r10, if_neg z])
  · rw [J0k 17 (by omega)]; exact q3.1.1
  · rw [J0k 18 (by omega)]; exact q3.1.2.1
  · rw [J0k 19 (by omega)]; exact q3.1.2.2.1
  · rw [J0k 20 (by omega)]; exact q3.1.2.2.2.1
  · rw [Jx 4 (by decide) (by omega)]; exact q3.2.1
  · rw [Jx 5 (by decide) (by omega)]; exact q3.2.2.1 k hk
  · rw [Jx 6 (by decide) (by omega), Jx 7 (by decide) (by omega), Jx 8 (by decide) (by omega), Jx 9 (by decide) (by omega), Jx 10 (by decide) (by omega)]; exact q3.2.2.2.1 k hk
  · rw [Jx 11 (by decide) (by omega), Jx 12 (by decide) (by omega), Jx 13 (by decide) (by omega), Jx 14 (by decide) (by omega), Jx 15 (by decide) (by omega)]; exact q3.2.2.2.2.1 k hk
  · rw [Jx 16 (by decide) (by omega), Jx 17 (by decide) (by omega), Jx 18 (by decide) (by omega)]; exact q3.2.2.2.2.2.1 k hk
  · show MLr J' (if i = j then some fp else zl K i) i
    by_cases z : i = j
    · subst z
      rw [if_pos rfl]
      exact ⟨by rw [J19, if_pos rfl], d, zKn K, cnt - 1, by omega, by rw [J20, if_pos rfl], by rw [J21, if_pos rfl, show cnt - 1 + 1 = cnt by omega], sd, cnt, by omega, J021, hc'⟩
    · rw [if_neg z]
      have := q3.2.2.2.2.2.2 i hi
      have n2 : ¬ 2 + i = 2 + j := by omega
      unfold MLr at this ⊢
      rw [J19, if_neg n2, J20, if_neg n2, J21, if_neg n2]
      match zl K i, this with
      | none, w => exact w
      | some f', ⟨w1, dd, s, e, w2, w3, w4, w5, kn, w6, w7, w8⟩ =>
        have ekn : kn = zKn K := (nn_eq (by omega) (by have := q4.1.2.2.2.2; omega)).mp (by rw [← w7]; exact q3.1.2.2.2.2)
        exact ⟨w1, dd, s, e, w2, w3, w4, SDn.cg (m := zKn K) (fun i hi => J22 (64 + i) (by omega)) dd s e f' (by omega) w5, cnt, by omega, J021, hc'⟩
  · refine ⟨fun x hx => (Jx x (by omega) (by omega)).trans (q15.1 x hx), fun x k h1 h2 h3 => ?_, fun k hk => (J0k k (by omega)).trans (q15.2.2 k hk)⟩
    by_cases z : x < 19
    · rw [Jx x (by omega) (by omega)]; exact q15.2.1 x k h1 h2 h3
    · have e1 : hf 19 = 2 ∧ hf 20 = 2 ∧ hf 21 = 2 ∧ hf 22 = 64 ∧ hf 23 = 64 ∧ hf 24 = 64 := by decide
      rcases (show x = 19 ∨ x = 20 ∨ x = 21 ∨ x = 22 ∨ x = 23 ∨ x = 24 by omega) with rfl | rfl | rfl | rfl | rfl | rfl
      · rw [J19, if_neg (by omega)]; exact q15.2.1 19 k h1 h2 h3
      · rw [J20, if_neg (by omega)]; exact q15.2.1 20 k h1 h2 h3
      · rw [J21, if_neg (by omega)]; exact q15.2.1 21 k h1 h2 h3
      · rw [(J22 k (by omega)).1]; exact q15.2.1 22 k h1 h2 h3
      · rw [(J22 k (by omega)).2.1]; exact q15.2.1 23 k h1 h2 h3
      · rw [(J22 k (by omega)).2.2]; exact q15.2.1 24 k h1 h2 h3
end P45
