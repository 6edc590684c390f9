set_option maxRecDepth 100000
/-! PURE LEVEL 96: what a line adds: talk, knows, nine and seed, a law -/
def kTk (K : KT) (v : Nat → Int32) : KT := (fun i => if i = 3 then K.1 3 + 1 else K.1 i, fun t k => if (12 ≤ t ∧ t ≤ 14) ∧ k = K.1 3 then v t else K.2.1 t k, K.2.2)
def kKn (K : KT) (p : Nat) (v : Int32) : KT := (K.1, fun t k => if t = 6 ∧ k = p then v else K.2.1 t k, K.2.2)
def kOn (K : KT) (j : Nat) (v : Int32) : KT := (K.1, fun t k => if t = 0 ∧ k = j then v else K.2.1 t k, K.2.2)
def kLw (K : KT) (j cnt : Nat) (f : LF) : KT := (fun i => if i = 4 then cnt else K.1 i, K.2.1, fun i => if i = j then some f else K.2.2 i)
section P44
variable {h0 h h' g : HP} {I0 J0 I I' J J' : Nat → Nat → Int32} {L M : Nat → Nat → Int64} {n : Nat} {tb : Nat → Nat} {a a' c kr : Nat} {K : KT} {A : Nat → Nat → Nat} {t ln : Nat} {S U : Nat → Prop}
theorem PSt.talk (q : PSt h0 I0 J0 h I J n tb c a K A t ln) (z8 : zT K < 10) {v : Nat → Int32} (v12 : ∃ i, i < zP K ∧ v 12 = nn i) (v13 : ∃ i, i < zP K ∧ v 13 = nn i) (v14 : ∃ i, i < zQ K ∧ v 14 = nn i) (rd : Rd h I' J' n tb c a')
    (fi : ∀ x, x ≠ 2 → x ≠ c → x ≠ c + 7 → x ≠ c + 8 → x ≠ c + 9 → I' x = I x) (f5 : I' 2 5 = I 2 5) (f6 : I' 2 6 = I 2 6) (ic : ∀ k, k ≠ 7 → I' c k = I c k) (ic7 : I' c 7 = nn (zT K + 1)) (i7 : ∀ k, I' (c + 7) k = if k = zT K then v 12 else I (c + 7) k) (i8 : ∀ k, I' (c + 8) k = if k = zT K then v 13 else I (c + 8) k) (i9 : ∀ k, I' (c + 9) k = if k = zT K then v 14 else I (c + 9) k)
    (Jx : ∀ x, x ≠ 0 → (x < 16 ∨ 18 < x) → J' x = J x) (J5 : J' 16 (10 + zT K) = v 12 ∧ J' 17 (10 + zT K) = v 13 ∧ J' 18 (10 + zT K) = v 14) (J5' : ∀ x k, 16 ≤ x → x ≤ 18 → k ≠ 10 + zT K → J' x k = J x k) (J20 : J' 0 20 = nn (zT K + 1)) (J0k : ∀ k, (k < 7 ∨ 11 < k) → k ≠ 20 → J' 0 k = J 0 k) :
    PSt h0 I0 J0 h I' J' n tb c a' (kTk K v) A t ln := by
  obtain ⟨q1, ⟨q2, q3, q4⟩, ⟨q5, q6⟩, ⟨q7, q8, q9, q10⟩, q11, ⟨q12, q12'⟩, ⟨q13, q13'⟩, q14, q15⟩ := q
  have c2' := q1.c2
  have c54 := q1.2.2.2.2.2.1
  obtain ⟨⟨a1, a2, a3, a4, a5, a6⟩, ⟨⟨b1, b2, b3⟩, ⟨c1, c2, c3⟩, ⟨d1, d2, d3⟩⟩, w678, ⟨s1, s3, s5⟩, ⟨j7, j8, j9, j10⟩, rF, rP, rQ, rT, rL⟩ := q2
  have ty : ∀ x, (7 ≤ (gT (cV h) x).1 ∧ (gT (cV h) x).1 ≤ 13) → I' x = I x := fun x tx => fi x (fun e => by rw [e] at tx; revert tx; show ¬ (7 ≤ 3 ∧ 3 ≤ 13); decide) (fun e => by rw [e, a1] at tx; revert tx; decide) (fun e => by rw [e, a3] at tx; revert tx; decide) (fun e => by rw [e, a4] at tx; revert tx; decide) (fun e => by rw [e, a5] at tx; revert tx; decide)
  have qf : QF h I h I' := ⟨fun _ _ => rfl, fun x tx => ⟨rfl, ty x (by omega)⟩⟩
  refine ⟨rd, ⟨⟨⟨a1, a2, a3, a4, a5, a6⟩, ⟨⟨b1, b2, b3⟩, ⟨c1, c2, c3⟩, ⟨d1, d2, d3⟩⟩, w678, ⟨?_, ?_, ?_⟩, ⟨ic7, by rw [ic 8 (by decide)]; exact j8, by rw [ic 9 (by decide)]; exact j9, by rw [ic 10 (by decide)]; exact j10⟩, fun k hk => ?_, fun k hk => ?_, fun k hk => ?_, fun k hk => ?_, fun j hj => (rL j hj).qf qf rfl⟩, ⟨⟨?_, ?_, ?_, J20, ?_⟩, ?_, fun k hk => ?_, fun k hk => ?_, fun k hk => ?_, fun k hk => ?_, fun j hj => ?_⟩, ⟨⟨q4.1.1, q4.1.2.1, q4.1.2.2.1, ?_, q4.1.2.2.2.2⟩, q4.2.1, q4.2.2.1, fun k hk => ?_, q4.2.2.2.2⟩⟩, ⟨?_, by rw [f5]; exact q6⟩, ⟨by rw [f6]; exact q7, q8, by rw [Jx 3 (by decide) (by omega)]; exact q9, by rw [Jx 3 (by decide) (by omega)]; exact q10⟩, by rw [ic 11 (by decide)]; exact q11, ⟨q12, q12'⟩, ⟨q13, q13'⟩, ?_, ?_⟩
  · rw [fi (c + 1) (by omega) (by omega) (by omega) (by omega) (by omega)]; exact s1
  · rw [fi (c + 3) (by omega) (by omega) (by omega) (by omega) (by omega)]; exact s3
  · rw [fi (c + 5) (by omega) (by omega) (by omega) (by omega) (by omega)]; exact s5
  · obtain ⟨r1, r2, r3⟩ := rF k hk
    rw [ty _ (by omega)]; exact ⟨r1, r2, r3⟩
  · obtain ⟨r1, r2, r3⟩ := rP k hk
    rw [ty _ (by omega)]; exact ⟨r1, r2, r3⟩
  · obtain ⟨r1, r2, r3⟩ := rQ k hk
    rw [ty _ (by omega)]; exact ⟨r1, r2, r3⟩
  · have hk : k < zT K + 1 := hk
    show I' (c + 7) k = (if (12 ≤ 12 ∧ 12 ≤ 14) ∧ k = K.1 3 then v 12 else K.2.1 12 k) ∧ I' (c + 8) k = (if (12 ≤ 13 ∧ 13 ≤ 14) ∧ k = K.1 3 then v 13 else K.2.1 13 k) ∧ I' (c + 9) k = (if (12 ≤ 14 ∧ 14 ≤ 14) ∧ k = K.1 3 then v 14 else K.2.1 14 k)
    rw [i7, i8, i9]
    by_cases z : k = zT K
    · rw [if_pos z, if_pos z, if_pos z, if_pos ⟨by decide, z⟩, if_pos ⟨by decide, z⟩, if_pos ⟨by decide, z⟩]; exact ⟨rfl, rfl, rfl⟩
    · rw [if_neg z, if_neg z, if_neg z, if_neg (fun y => z y.2), if_neg (fun y => z y.2), if_neg (fun y => z y.2)]; exact rT k (by omega)
  · rw [J0k 17 (by omega) (by decide)]; exact q3.1.1
  · rw [J0k 18 (by omega) (by decide)]; exact q3.1.2.1
  · rw [J0k 19 (by omega) (by decide)]; exact q3.1.2.2.1
  · rw [J0k 21 (by omega) (by decide)]; exact q3.1.2.2.2.2
  · rw [Jx 4 (by decide) (by omega)]; exact q3.2.1
  · rw [Jx 5 (by decide) (by omega)]; exact q3.2.2.1 k hk
  · rw [Jx 6 (by decide) (by omega), Jx 7 (by decide) (by omega), Jx 8 (by decide) (by omega), Jx 9 (by decide) (by omega), Jx 10 (by decide) (by omega)]; exact q3.2.2.2.1 k hk
  · rw [Jx 11 (by decide) (by omega), Jx 12 (by decide) (by omega), Jx 13 (by decide) (by omega), Jx 14 (by decide) (by omega), Jx 15 (by decide) (by omega)]; exact q3.2.2.2.2.1 k hk
  · have hk : k < zT K + 1 := hk
    show J' 16 (10 + k) = (if (12 ≤ 12 ∧ 12 ≤ 14) ∧ k = K.1 3 then v 12 else K.2.1 12 k) ∧ J' 17 (10 + k) = (if (12 ≤ 13 ∧ 13 ≤ 14) ∧ k = K.1 3 then v 13 else K.2.1 13 k) ∧ J' 18 (10 + k) = (if (12 ≤ 14 ∧ 14 ≤ 14) ∧ k = K.1 3 then v 14 else K.2.1 14 k)
    by_cases z : k = zT K
    · rw [if_pos ⟨by decide, z⟩, if_pos ⟨by decide, z⟩, if_pos ⟨by decide, z⟩, z]; exact J5
    · rw [if_neg (fun y => z y.2), if_neg (fun y => z y.2), if_neg (fun y => z y.2), J5' 16 _ (by decide) (by decide) (by omega), J5' 17 _ (by decide) (by decide) (by omega), J5' 18 _ (by decide) (by decide) (by omega)]; exact q3.2.2.2.2.2.1 k (by omega)
  · have := q3.2.2.2.2.2.2 j hj
    show MLr J' (zl K j) j
    unfold MLr kj at this ⊢
    rw [Jx 19 (by decide) (by omega), Jx 20 (by decide) (by omega), Jx 21 (by decide) (by omega), Jx 22 (by decide) (by omega), Jx 23 (by decide) (by omega), Jx 24 (by decide) (by omega), J0k 21 (by omega) (by decide)]
    exact this
  · show zT K + 1 ≤ 10; omega
  · have hk : k < zT K + 1 := hk
    show (∃ i, i < zP K ∧ (if (12 ≤ 12 ∧ 12 ≤ 14) ∧ k = K.1 3 then v 12 else K.2.1 12 k) = nn i) ∧ (∃ i, i < zP K ∧ (if (12 ≤ 13 ∧ 13 ≤ 14) ∧ k = K.1 3 then v 13 else K.2.1 13 k) = nn i) ∧ ∃ i, i < zQ K ∧ (if (12 ≤ 14 ∧ 14 ≤ 14) ∧ k = K.1 3 then v 14 else K.2.1 14 k) = nn i
    by_cases z : k = zT K
    · rw [if_pos ⟨by decide, z⟩, if_pos ⟨by decide, z⟩, if_pos ⟨by decide, z⟩]; exact ⟨v12, v13, v14⟩
    · rw [if_neg (fun y => z y.2), if_neg (fun y => z y.2), if_neg (fun y => z y.2)]; exact q4.2.2.2.1 k (by omega)
  · rw [J0k 49 (by omega) (by decide)]; exact q5
  · exact q14.up q13' (fun _ _ => rfl) (fun _ _ _ => rfl) (fun x hx h2 => fi x h2 (by omega) (by omega) (by omega) (by omega)) (Nat.le_refl _)
  · refine ⟨fun x hx => (Jx x (by omega) (by omega)).trans (q15.1 x hx), fun x k h1 h2 h3 => ?_, fun k hk => (J0k k (by omega) (by omega)).trans (q15.2.2 k hk)⟩
    by_cases z : 16 ≤ x ∧ x ≤ 18
    · have e : hf x = 10 := by
        rcases (show x = 16 ∨ x = 17 ∨ x = 18 by omega) with rfl | rfl | rfl <;> rfl
      rw [J5' x k z.1 z.2 (by omega)]; exact q15.2.1 x k h1 h2 h3
    · rw [Jx x (by omega) (by omega)]; exact q15.2.1 x k h1 h2 h3
theorem PSt.knows (q : PSt h0 I0 J0 h I J n tb c a K A t ln) {p : Nat} (hp : p < zP K) {v : Int32} (hv : v &&& 255 = v) (rd : Rd h I' J' n tb c a')
    (fi : ∀ x, x ≠ 2 → x ≠ A 2 p → I' x = I x) (f5 : I' 2 5 = I 2 5) (f6 : I' 2 6 = I 2 6) (ip : ∀ k, I' (A 2 p) k = if k = 4 then v else I (A 2 p) k)
    (Jx : ∀ x, x ≠ 0 → x ≠ 10 → J' x = J x) (J5 : J' 10 (5 + p) = v) (J5' : ∀ k, k ≠ 5 + p → J' 10 k = J 10 k) (J0k : ∀ k, (k < 7 ∨ 11 < k) → J' 0 k = J 0 k) :
    PSt h0 I0 J0 h I' J' n tb c a' (kKn K p v) A t ln := by
  obtain ⟨q1, ⟨q2, q3, q4⟩, ⟨q5, q6⟩, ⟨q7, q8, q9, q10⟩, q11, ⟨q12, q12'⟩, ⟨q13, q13'⟩, q14, q15⟩ := q
  have c2' := q1.c2
  have c54 := q1.2.2.2.2.2.1
  obtain ⟨⟨a1, a2, a3, a4, a5, a6⟩, ⟨⟨b1, b2, b3⟩, ⟨c1, c2, c3⟩, ⟨d1, d2, d3⟩⟩, w678, ⟨s1, s3, s5⟩, ⟨j7, j8, j9, j10⟩, rF, rP, rQ, rT, rL⟩ := q2
  have t8 := (rP p hp).2.1
  have ne : ∀ x u, (gT (cV h) x).1 = u → u ≠ 8 → u ≠ 3 → I' x = I x := fun x u tx h8 h3 => fi x (fun e => h3 (by rw [← tx, e]; rfl)) (fun e => h8 (by rw [← tx, e, t8]))
  have qf : QF h I h I' := ⟨fun _ _ => rfl, fun x tx => ⟨rfl, ne x _ rfl (by omega) (by omega)⟩⟩
  have icc : I' c = I c := ne c 4 (by rw [a1]) (by decide) (by decide)
  refine ⟨rd, ⟨⟨⟨a1, a2, a3, a4, a5, a6⟩, ⟨⟨b1, b2, b3⟩, ⟨c1, c2, c3⟩, ⟨d1, d2, d3⟩⟩, w678, ⟨by rw [ne (c + 1) 5 (by rw [b1]) (by decide) (by decide)]; exact s1, by rw [ne (c + 3) 5 (by rw [c1]) (by decide) (by decide)]; exact s3, by rw [ne (c + 5) 5 (by rw [d1]) (by decide) (by decide)]; exact s5⟩, ⟨by rw [icc]; exact j7, by rw [icc]; exact j8, by rw [icc]; exact j9, by rw [icc]; exact j10⟩, fun k hk => ?_, fun k hk => ?_, fun k hk => ?_, fun k hk => ?_, fun j hj => (rL j hj).qf qf rfl⟩, ⟨⟨?_, ?_, ?_, ?_, ?_⟩, ?_, fun k hk => ?_, fun k hk => ?_, fun k hk => ?_, fun k hk => ?_, fun j hj => ?_⟩, ⟨q4.1, fun k hk => ?_, q4.2.2.1, q4.2.2.2.1, q4.2.2.2.2⟩⟩, ⟨?_, by rw [f5]; exact q6⟩, ⟨by rw [f6]; exact q7, q8, by rw [Jx 3 (by decide) (by omega)]; exact q9, by rw [Jx 3 (by decide) (by omega)]; exact q10⟩, by rw [icc]; exact q11, ⟨q12, q12'⟩, ⟨q13, q13'⟩, ?_, ?_⟩
  · obtain ⟨r1, r2, r3⟩ := rF k hk
    rw [ne _ 7 r2 (by decide) (by decide)]; exact ⟨r1, r2, r3⟩
  · have hk : k < zP K := hk
    obtain ⟨r1, r2, r3, r4, r5, r6, r7⟩ := rP k hk
    refine ⟨r1, r2, ?_⟩
    show I' (A 2 k) 0 = zt K 2 k ∧ I' (A 2 k) 1 = zt K 3 k ∧ I' (A 2 k) 2 = zt K 4 k ∧ I' (A 2 k) 3 = zt K 5 k ∧ I' (A 2 k) 4 = (if 6 = 6 ∧ k = p then v else K.2.1 6 k)
    by_cases z : k = p
    · subst z
      rw [ip, ip, ip, ip, ip, if_neg (by decide), if_neg (by decide), if_neg (by decide), if_neg (by decide), if_pos rfl, if_pos ⟨rfl, rfl⟩]
      exact ⟨r3, r4, r5, r6, rfl⟩
    · rw [if_neg (fun y => z y.2), fi (A 2 k) (fun e => by rw [e] at r2; revert r2; show ¬ 3 = 8; decide) (q12 k p hk hp z)]
      exact ⟨r3, r4, r5, r6, r7⟩
  · obtain ⟨r1, r2, r3⟩ := rQ k hk
    rw [ne _ 9 r2 (by decide) (by decide)]; exact ⟨r1, r2, r3⟩
  · rw [ne (c + 7) 100 (by rw [a3]) (by decide) (by decide), ne (c + 8) 100 (by rw [a4]) (by decide) (by decide), ne (c + 9) 100 (by rw [a5]) (by decide) (by decide)]; exact rT k hk
  · rw [J0k 17 (by omega)]; exact q3.1.1
  · rw [J0k 18 (by omega)]; exact q3.1.2.1
  · rw [J0k 19 (by omega)]; exact q3.1.2.2.1
  · rw [J0k 20 (by omega)]; exact q3.1.2.2.2.1
  · rw [J0k 21 (by omega)]; exact q3.1.2.2.2.2
  · rw [Jx 4 (by decide) (by omega)]; exact q3.2.1
  · rw [Jx 5 (by decide) (by omega)]; exact q3.2.2.1 k hk
  · have hk : k < zP K := hk
    obtain ⟨r3, r4, r5, r6, r7⟩ := q3.2.2.2.1 k hk
    rw [Jx 6 (by decide) (by omega), Jx 7 (by decide) (by omega), Jx 8 (by decide) (by omega), Jx 9 (by decide) (by omega)]
    refine ⟨r3, r4, r5, r6, ?_⟩
    show J' 10 (5 + k) = (if 6 = 6 ∧ k = p then v else K.2.1 6 k)
    by_cases z : k = p
    · rw [if_pos ⟨rfl, z⟩, z]; exact J5
    · rw [if_neg (fun y => z y.2), J5' _ (by omega)]; exact r7
  · rw [Jx 11 (by decide) (by omega), Jx 12 (by decide) (by omega), Jx 13 (by decide) (by omega), Jx 14 (by decide) (by omega), Jx 15 (by decide) (by omega)]; exact q3.2.2.2.2.1 k hk
  · rw [Jx 16 (by decide) (by omega), Jx 17 (by decide) (by omega), Jx 18 (by decide) (by omega)]; exact q3.2.2.2.2.2.1 k hk
  · have := q3.2.2.2.2.2.2 j hj
    show MLr J' (zl K j) j
    unfold MLr kj at this ⊢
    rw [Jx 19 (by decide) (by omega), Jx 20 (by decide) (by omega), Jx 21 (by decide) (by omega), Jx 22 (by decide) (by omega), Jx 23 (by decide) (by omega), Jx 24 (by decide) (by omega), J0k 21 (by omega)]
    exact this
  · show (if 6 = 6 ∧ k = p then v else K.2.1 6 k) &&& 255 = (if 6 = 6 ∧ k = p then v else K.2.1 6 k)
    by_cases z : k = p
    · rw [if_pos ⟨rfl, z⟩]; exact hv
    · rw [if_neg (fun y => z y.2)]; exact q4.2.1 k hk
  · rw [J0k 49 (by omega)]; exact q5
  · exact q14.up q13' (fun _ _ => rfl) (fun _ _ _ => rfl) (fun x hx h2 => fi x h2 (fun e => by have := q12' p hp; omega)) (Nat.le_refl _)
  · refine ⟨fun x hx => (Jx x (by omega) (by omega)).trans (q15.1 x hx), fun x k h1 h2 h3 => ?_, fun k hk => (J0k k (by omega)).trans (q15.2.2 k hk)⟩
    by_cases z : x = 10
    · subst z
      have e : hf 10 = 5 := rfl
      rw [J5' k (by omega)]; exact q15.2.1 10 k h1 h2 h3
    · rw [Jx x (by omega) z]; exact q15.2.1 x k h1 h2 h3
theorem PSt.once (q : PSt h0 I0 J0 h I J n tb c a K A t ln) {j : Nat} (hj : j < 2) {v : Int32} (hv : ¬ v < 0) (rd : Rd h I' J' n tb c a')
    (fi : ∀ x, x ≠ 2 → x ≠ c → I' x = I x) (f5 : I' 2 5 = I 2 5) (f6 : I' 2 6 = I 2 6) (ic : ∀ k, I' c k = if k = 8 + j then v else I c k)
    (Jx : ∀ x, x ≠ 0 → x ≠ 4 → J' x = J x) (J5 : J' 4 (2 + j) = v) (J5' : ∀ k, k ≠ 2 + j → J' 4 k = J 4 k) (J0k : ∀ k, (k < 7 ∨ 11 < k) → J' 0 k = J 0 k) :
    PSt h0 I0 J0 h I' J' n tb c a' (kOn K j v) A t ln := by
  obtain ⟨q1, ⟨q2, q3, q4⟩, ⟨q5, q6⟩, ⟨q7, q8, q9, q10⟩, q11, ⟨q12, q12'⟩, ⟨q13, q13'⟩, q14, q15⟩ := q
  have c2' := q1.c2
  have c54 := q1.2.2.2.2.2.1
  obtain ⟨⟨a1, a2, a3, a4, a5, a6⟩, ⟨⟨b1, b2, b3⟩, ⟨c1, c2, c3⟩, ⟨d1, d2, d3⟩⟩, w678, ⟨s1, s3, s5⟩, ⟨j7, j8, j9, j10⟩, rF, rP, rQ, rT, rL⟩ := q2
  have ne : ∀ x u, (gT (cV h) x).1 = u → u ≠ 4 → u ≠ 3 → I' x = I x := fun x u tx h8 h3 => fi x (fun e => h3 (by rw [← tx, e]; rfl)) (fun e => h8 (by rw [← tx, e, a1]))
  have qf : QF h I h I' := ⟨fun _ _ => rfl, fun x tx => ⟨rfl, ne x _ rfl (by omega) (by omega)⟩⟩
  have zz : ∀ k, zt (kOn K j v) 0 k = if k = j then v else zt K 0 k := fun k => by
    show (if 0 = 0 ∧ k = j then v else K.2.1 0 k) = _
    by_cases y : k = j
    · rw [if_pos ⟨rfl, y⟩, if_pos y]
    · rw [if_neg (fun e => y e.2), if_neg y]; rfl
  refine ⟨rd, ⟨⟨⟨a1, a2, a3, a4, a5, a6⟩, ⟨⟨b1, b2, b3⟩, ⟨c1, c2, c3⟩, ⟨d1, d2, d3⟩⟩, w678, ⟨by rw [ne (c + 1) 5 (by rw [b1]) (by decide) (by decide)]; exact s1, by rw [ne (c + 3) 5 (by rw [c1]) (by decide) (by decide)]; exact s3, by rw [ne (c + 5) 5 (by rw [d1]) (by decide) (by decide)]; exact s5⟩, ⟨by rw [ic, if_neg (by omega)]; exact j7, ?_, ?_, by rw [ic, if_neg (by omega)]; exact j10⟩, fun k hk => ?_, fun k hk => ?_, fun k hk => ?_, fun k hk => ?_, fun i hi => (rL i hi).qf qf rfl⟩, ⟨⟨?_, ?_, ?_, ?_, ?_⟩, ⟨?_, ?_⟩, fun k hk => ?_, fun k hk => ?_, fun k hk => ?_, fun k hk => ?_, fun j hj => ?_⟩, ⟨q4.1, q4.2.1, q4.2.2.1, q4.2.2.2.1, ?_⟩⟩, ⟨?_, by rw [f5]; exact q6⟩, ⟨by rw [f6]; exact q7, q8, by rw [Jx 3 (by decide) (by omega)]; exact q9, by rw [Jx 3 (by decide) (by omega)]; exact q10⟩, by rw [ic, if_neg (by omega)]; exact q11, ⟨q12, q12'⟩, ⟨q13, q13'⟩, ?_, ?_⟩
  · rw [ic, zz]
    by_cases y : j = 0
    · rw [if_pos (by omega), if_pos y.symm]
    · rw [if_neg (by omega), if_neg (fun e => y e.symm)]; exact j8
  · rw [ic, zz]
    by_cases y : j = 1
    · rw [if_pos (by omega), if_pos y.symm]
    · rw [if_neg (by omega), if_neg (fun e => y e.symm)]; exact j9
  · obtain ⟨r1, r2, r3⟩ := rF k hk
    rw [ne _ 7 r2 (by decide) (by decide)]; exact ⟨r1, r2, r3⟩
  · obtain ⟨r1, r2, r3⟩ := rP k hk
    rw [ne _ 8 r2 (by decide) (by decide)]; exact ⟨r1, r2, r3⟩
  · obtain ⟨r1, r2, r3⟩ := rQ k hk
    rw [ne _ 9 r2 (by decide) (by decide)]; exact ⟨r1, r2, r3⟩
  · rw [ne (c + 7) 100 (by rw [a3]) (by decide) (by decide), ne (c + 8) 100 (by rw [a4]) (by decide) (by decide), ne (c + 9) 100 (by rw [a5]) (by decide) (by decide)]; exact rT k hk
  · rw [J0k 17 (by omega)]; exact q3.1.1
  · rw [J0k 18 (by omega)]; exact q3.1.2.1
  · rw [J0k 19 (by omega)]; exact q3.1.2.2.1
  · rw [J0k 20 (by omega)]; exact q3.1.2.2.2.1
  · rw [J0k 21 (by omega)]; exact q3.1.2.2.2.2
  · rw [zz]
    by_cases y : j = 0
    · subst y; rw [if_pos rfl]; exact J5
    · rw [if_neg (fun e => y e.symm), J5' 2 (by omega)]; exact q3.2.1.1
  · rw [zz]
    by_cases y : j = 1
    · subst y; rw [if_pos rfl]; exact J5
    · rw [if_neg (fun e => y e.symm), J5' 3 (by omega)]; exact q3.2.1.2
  · rw [Jx 5 (by decide) (by omega)]; exact q3.2.2.1 k hk
  · rw [Jx 6 (by decide) (by omega), Jx 7 (by decide) (by omega), Jx 8 (by decide) (by omega), Jx 9 (by decide) (by omega), Jx 10 (by decide) (by omega)]; exact q3.2.2.2.1 k hk
  · rw [Jx 11 (by decide) (by omega), Jx 12 (by decide) (by omega), Jx 13 (by decide) (by omega), Jx 14 (by decide) (by omega), Jx 15 (by decide) (by omega)]; exact q3.2.2.2.2.1 k hk
  · rw [Jx 16 (by decide) (by omega), Jx 17 (by decide) (by omega), Jx 18 (by decide) (by omega)]; exact q3.2.2.2.2.2.1 k hk
  · have := q3.2.2.2.2.2.2 j hj
    show MLr J' (zl K j) j
    unfold MLr kj at this ⊢
    rw [Jx 19 (by decide) (by omega), Jx 20 (by decide) (by omega), Jx 21 (by decide) (by omega), Jx 22 (by decide) (by omega), Jx 23 (by decide) (by omega), Jx 24 (by decide) (by omega), J0k 21 (by omega)]
    exact this
  · rw [zz]
    by_cases y : 1 = j
    · rw [if_pos y]; exact hv
    · rw [if_neg y]; exact q4.2.2.2.2
  · rw [J0k 49 (by omega)]; exact q5
  · exact q14.up q13' (fun _ _ => rfl) (fun _ _ _ => rfl) (fun x hx h2 => fi x h2 (by omega)) (Nat.le_refl _)
  · refine ⟨fun x hx => (Jx x (by omega) (by omega)).trans (q15.1 x hx), fun x k h1 h2 h3 => ?_, fun k hk => (J0k k (by omega)).trans (q15.2.2 k hk)⟩
    by_cases z : x = 4
    · subst z
      have e : hf 4 = 2 := rfl
      rw [J5' k (by omega)]; exact q15.2.1 4 k h1 h2 h3
    · rw [Jx x (by omega) z]; exact q15.2.1 x k h1 h2 h3
end P44
