set_option maxRecDepth 100000
/-! PURE LEVEL 94: what a line adds: facts, persons, questions -/
/-- frames of an addition: cells of S change their references, cells of U their ints -/
def AF (S U : Nat → Prop) (h : HP) (I : Nat → Nat → Int32) (h' : HP) (I' : Nat → Nat → Int32) : Prop := (∀ x, (gT (cV h) x).1 ≠ 0 → gT (cV h') x = gT (cV h) x) ∧ (∀ x, (gT (cV h) x).1 ≠ 0 → ¬ S x → gR (cV h') x = gR (cV h) x) ∧ (∀ x, (gT (cV h) x).1 ≠ 0 → x ≠ 2 → ¬ U x → I' x = I x) ∧ I' 2 5 = I 2 5 ∧ I' 2 6 = I 2 6 ∧ gN h ≤ gN h'
def kF (K : KT) (v : Int32) : KT := (fun i => if i = 0 then K.1 0 + 1 else K.1 i, fun t k => if t = 1 ∧ k = K.1 0 then v else K.2.1 t k, K.2.2)
def kP (K : KT) (v : Nat → Int32) : KT := (fun i => if i = 1 then K.1 1 + 1 else K.1 i, fun t k => if (2 ≤ t ∧ t ≤ 6) ∧ k = K.1 1 then v t else K.2.1 t k, K.2.2)
def kQ (K : KT) (v : Nat → Int32) : KT := (fun i => if i = 2 then K.1 2 + 1 else K.1 i, fun t k => if (7 ≤ t ∧ t ≤ 11) ∧ k = K.1 2 then v t else K.2.1 t k, K.2.2)
section P42
variable {h0 h h' g : HP} {I0 J0 I I' J J' : Nat → Nat → Int32} {L M : Nat → Nat → Int64} {n : Nat} {tb : Nat → Nat} {a a' c kr : Nat} {K : KT} {A : Nat → Nat → Nat} {t ln : Nat} {S U : Nat → Prop}
theorem EF0.af (e : EF0 h0 I0 h I) (sh : Shp h0) (hS : ∀ x, S x → gN h0 ≤ x) (hU : ∀ x, U x → gN h0 ≤ x) (f : AF S U h I h' I') : EF0 h0 I0 h' I' := ⟨fun x t => by
  obtain ⟨e1, e2⟩ := e.1 x t
  have t' : (gT (cV h) x).1 ≠ 0 := by rw [e1]; exact t
  have lt := sh_lt sh t
  exact ⟨(f.1 x t').trans e1, fun h2 => ⟨(f.2.1 x t' (fun y => by have := hS x y; omega)).trans (e2 h2).1, (f.2.2.1 x t' h2 (fun y => by have := hU x y; omega)).trans (e2 h2).2⟩⟩, Nat.le_trans e.2 f.2.2.2.2.2⟩
theorem AF.q (f : AF S U h I h' I') (hS : ∀ x, S x → ¬ ((gT (cV h) x).1 = 7 ∨ (9 ≤ (gT (cV h) x).1 ∧ (gT (cV h) x).1 ≤ 13))) (hU : ∀ x, U x → ¬ ((gT (cV h) x).1 = 7 ∨ (9 ≤ (gT (cV h) x).1 ∧ (gT (cV h) x).1 ≤ 13))) : QF h I h' I' := by
  refine ⟨f.1, fun x tx => ⟨f.2.1 x (by omega) (fun y => hS x y tx), f.2.2.1 x (by omega) (fun e => ?_) (fun y => hU x y tx)⟩⟩
  subst e
  rw [show gT (cV h) 2 = (3, 0) from rfl] at tx
  revert tx; decide
theorem hf_v : hf 4 = 2 ∧ hf 5 = 8 ∧ hf 6 = 5 ∧ hf 7 = 5 ∧ hf 8 = 5 ∧ hf 9 = 5 ∧ hf 10 = 5 ∧ hf 11 = 8 ∧ hf 12 = 8 ∧ hf 13 = 8 ∧ hf 14 = 8 ∧ hf 15 = 8 ∧ hf 16 = 10 ∧ hf 17 = 10 ∧ hf 18 = 10 ∧ hf 19 = 2 ∧ hf 20 = 2 ∧ hf 21 = 2 := by decide
theorem PSt.fact (q : PSt h0 I0 J0 h I J n tb c a K A t ln) (z8 : zF K < 8) {b : Nat} {v : Int32} (rd : Rd h' I' J' n tb c a') (tb' : gT (cV h') b = (7, 0)) (ib : I' b 0 = v) (f : AF (fun x => x = c + 2) (fun x => x = c + 1) h I h' I')
    (R2 : ∀ k, gR (cV h') (c + 2) k = if k = zF K then some b else gR (cV h) (c + 2) k) (I1 : I' (c + 1) 2 = nn (zF K + 1)) (Jx : ∀ x, x ≠ 0 → x ≠ 5 → J' x = J x) (J5 : J' 5 (8 + zF K) = v) (J5' : ∀ k, k ≠ 8 + zF K → J' 5 k = J 5 k) (J17 : J' 0 17 = nn (zF K + 1)) (J0k : ∀ k, (k < 7 ∨ 11 < k) → k ≠ 17 → J' 0 k = J 0 k) :
    PSt h0 I0 J0 h' I' J' n tb c a' (kF K v) (fun i k => if i = 1 ∧ k = zF K then b else A i k) t ln := by
  obtain ⟨q1, ⟨q2, q3, q4⟩, ⟨q5, q6⟩, ⟨q7, q8, q9, q10⟩, q11, q12, ⟨q13, q13'⟩, q14, q15⟩ := q
  have sp := q2
  obtain ⟨⟨a1, a2, a3, a4, a5, a6⟩, ⟨⟨b1, b2, b3⟩, ⟨c1, c2, c3⟩, ⟨d1, d2, d3⟩⟩, ⟨w6, w7, w8⟩, ⟨s1, s3, s5⟩, ⟨i7, i8, i9, i10⟩, rF, rP, rQ, rT, rL⟩ := q2
  have qf : QF h I h' I' := f.q (fun x e => by subst e; rw [show (gT (cV h) (c + 2)).1 = 104 from b3]; decide) (fun x e => by subst e; rw [b1]; decide)
  obtain ⟨z1, z2, z3⟩ := sp.shp qf (f.2.1 c (by rw [a1]; decide) (by omega)) (f.2.1 _ (by rw [b1]; decide) (by omega)) (f.2.1 _ (by rw [c1]; decide) (by omega)) (f.2.1 _ (by rw [d1]; decide) (by omega))
  have ic : I' c = I c := f.2.2.1 c (by rw [a1]; decide) q1.c2 (by omega)
  have c2 := q1.c2
  have c54 := q1.2.2.2.2.2.1
  have t7 : ∀ x, (gT (cV h) x).1 = 7 → gT (cV h') x = gT (cV h) x ∧ I' x = I x := fun x tx => ⟨qf.1 x (by omega), (qf.2 x (Or.inl tx)).2⟩
  have t8 : ∀ x, (gT (cV h) x).1 = 8 → gT (cV h') x = gT (cV h) x ∧ I' x = I x := fun x tx => ⟨f.1 x (by omega), f.2.2.1 x (by omega) (fun e => by rw [e] at tx; revert tx; show ¬ 3 = 8; decide) (fun e => by rw [e, b1] at tx; revert tx; decide)⟩
  have t9 : ∀ x, (gT (cV h) x).1 = 9 → gT (cV h') x = gT (cV h) x ∧ I' x = I x := fun x tx => ⟨qf.1 x (by omega), (qf.2 x (Or.inr (by omega))).2⟩
  refine ⟨rd, ⟨⟨z1, z2, z3, ⟨I1, ?_, ?_⟩, ⟨by rw [ic]; exact i7, by rw [ic]; exact i8, by rw [ic]; exact i9, by rw [ic]; exact i10⟩, fun k hk => ?_, fun k hk => ?_, fun k hk => ?_, fun k hk => ?_, fun j hj => ?_⟩, ⟨⟨J17, ?_, ?_, ?_, ?_⟩, ?_, fun k hk => ?_, fun k hk => ?_, fun k hk => ?_, fun k hk => ?_, fun j hj => ?_⟩, ⟨⟨?_, q4.1.2.1, q4.1.2.2.1, q4.1.2.2.2.1, q4.1.2.2.2.2⟩, q4.2⟩⟩, ⟨?_, by rw [f.2.2.2.1]; exact q6⟩, ⟨by rw [f.2.2.2.2.1]; exact q7, q8, by rw [Jx 3 (by decide) (by decide)]; exact q9, by rw [Jx 3 (by decide) (by decide)]; exact q10⟩, by rw [ic]; exact q11, q12, ⟨q13, q13'⟩, q14.af q13' (fun x e => by omega) (fun x e => by omega) f, ?_⟩
  · rw [f.2.2.1 _ (by rw [c1]; decide) (by omega) (by omega)]; exact s3
  · rw [f.2.2.1 _ (by rw [d1]; decide) (by omega) (by omega)]; exact s5
  · have hk : k < zF K + 1 := hk
    rw [R2]
    by_cases z : k = zF K
    · subst z
      show (if zF K = zF K then some b else _) = some (if 1 = 1 ∧ zF K = zF K then b else A 1 (zF K)) ∧ _
      simp only [eq_self, and_self, if_true]
      exact ⟨trivial, by rw [tb'], by rw [ib]; exact (if_pos ⟨rfl, rfl⟩).symm⟩
    · rw [if_neg z]
      obtain ⟨r1, r2, r3⟩ := rF k (by omega)
      have e : (if 1 = 1 ∧ k = zF K then b else A 1 k) = A 1 k := if_neg (fun y => z y.2)
      show _ = some (if 1 = 1 ∧ k = zF K then b else A 1 k) ∧ (gT (cV h') (if 1 = 1 ∧ k = zF K then b else A 1 k)).1 = 7 ∧ I' (if 1 = 1 ∧ k = zF K then b else A 1 k) 0 = (if 1 = 1 ∧ k = K.1 0 then v else K.2.1 1 k)
      rw [e, if_neg (fun y => z y.2), (t7 _ r2).1, (t7 _ r2).2]
      exact ⟨r1, r2, r3⟩
  · obtain ⟨r1, r2, r3⟩ := rP k hk
    show gR (cV h') (c + 4) k = some (A 2 k) ∧ (gT (cV h') (A 2 k)).1 = 8 ∧ I' (A 2 k) 0 = _ ∧ I' (A 2 k) 1 = _ ∧ I' (A 2 k) 2 = _ ∧ I' (A 2 k) 3 = _ ∧ I' (A 2 k) 4 = _
    rw [f.2.1 (c + 4) (by rw [show (gT (cV h) (c + 4)).1 = 104 from c3]; decide) (by omega), (t8 _ r2).1, (t8 _ r2).2]
    exact ⟨r1, r2, r3⟩
  · obtain ⟨r1, r2, r3⟩ := rQ k hk
    show gR (cV h') (c + 6) k = some (A 3 k) ∧ (gT (cV h') (A 3 k)).1 = 9 ∧ I' (A 3 k) 0 = _ ∧ I' (A 3 k) 1 = _ ∧ I' (A 3 k) 2 = _ ∧ I' (A 3 k) 3 = _ ∧ I' (A 3 k) 4 = _
    rw [f.2.1 (c + 6) (by rw [show (gT (cV h) (c + 6)).1 = 104 from d3]; decide) (by omega), (t9 _ r2).1, (t9 _ r2).2]
    exact ⟨r1, r2, r3⟩
  · rw [f.2.2.1 (c + 7) (by rw [a3]; decide) (by omega) (by omega), f.2.2.1 (c + 8) (by rw [a4]; decide) (by omega) (by omega), f.2.2.1 (c + 9) (by rw [a5]; decide) (by omega) (by omega)]
    exact rT k hk
  · exact (rL j hj).qf qf (by rw [f.2.1 (c + 10) (by rw [a6]; decide) (by omega)])
  · rw [J0k 18 (by omega) (by decide)]; exact q3.1.2.1
  · rw [J0k 19 (by omega) (by decide)]; exact q3.1.2.2.1
  · rw [J0k 20 (by omega) (by decide)]; exact q3.1.2.2.2.1
  · rw [J0k 21 (by omega) (by decide)]; exact q3.1.2.2.2.2
  · rw [Jx 4 (by decide) (by decide)]; exact q3.2.1
  · have hk : k < zF K + 1 := hk
    show J' 5 (8 + k) = (if 1 = 1 ∧ k = K.1 0 then v else K.2.1 1 k)
    by_cases z : k = zF K
    · rw [if_pos ⟨rfl, z⟩, z]; exact J5
    · rw [if_neg (fun y => z y.2), J5' _ (by omega)]; exact q3.2.2.1 k (by omega)
  · rw [Jx 6 (by decide) (by decide), Jx 7 (by decide) (by decide), Jx 8 (by decide) (by decide), Jx 9 (by decide) (by decide), Jx 10 (by decide) (by decide)]; exact q3.2.2.2.1 k hk
  · rw [Jx 11 (by decide) (by decide), Jx 12 (by decide) (by decide), Jx 13 (by decide) (by decide), Jx 14 (by decide) (by decide), Jx 15 (by decide) (by decide)]; exact q3.2.2.2.2.1 k hk
  · rw [Jx 16 (by decide) (by decide), Jx 17 (by decide) (by decide), Jx 18 (by decide) (by decide)]; exact q3.2.2.2.2.2.1 k hk
  · have := q3.2.2.2.2.2.2 j hj
    show MLr J' (zl K j) j
    unfold MLr kj at this ⊢
    rw [Jx 19 (by decide) (by decide), Jx 20 (by decide) (by decide), Jx 21 (by decide) (by decide), Jx 22 (by decide) (by decide), Jx 23 (by decide) (by decide), Jx 24 (by decide) (by decide), J0k 21 (by omega) (by decide)]
    exact this
  · show zF K + 1 ≤ 8; omega
  · rw [J0k 49 (by omega) (by decide)]; exact q5
  · refine ⟨fun x hx => (Jx x (by omega) (by omega)).trans (q15.1 x hx), fun x k h1 h2 h3 => ?_, fun k hk => (J0k k (by omega) (by omega)).trans (q15.2.2 k hk)⟩
    by_cases z : x = 5
    · subst z
      have := hf_v.2.1
      rw [J5' k (by omega)]; exact q15.2.1 5 k h1 h2 h3
    · rw [Jx x (by omega) z]; exact q15.2.1 x k h1 h2 h3
end P42
