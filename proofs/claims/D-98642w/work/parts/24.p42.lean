/-! PURE LEVEL 42: the invariant of both objects; what trials and readings leave of it -/
abbrev R3 := ST × Int32 × Int32
def StCx (I : Nat → Nat → Int32) (o P : Nat) (X : R3) : Prop := ∃ w' : Int32, StC I o P (-1, w', 0) X.1 ∧ I o 5 = X.2.1 ∧ I o 6 = X.2.2
def StMx (J : Nat → Nat → Int32) (a i : Nat) (P : Nat) (X : R3) : Prop := (∀ p, p < P → J a (i + p) = sk X.1 p ∧ J a (i + 5 + p) = sl X.1 p ∧ J a (i + 10 + p) = sr X.1 p ∧ J a (i + 15 + p) = sa X.1 p) ∧ J a (i + 20) = sd X.1 ∧ J a (i + 21) = X.2.1
def WX (P : Nat) (X : R3) : Prop := WS P X.1 ∧ ¬ X.2.2 < 0
/-- kept states -/
def KpC (h : HP) (I : Nat → Nat → Int32) (P kn : Nat) (U : Nat → R3) : Prop := I 0 4 = nn kn ∧ kn ≤ 20 ∧ (∀ i, i < kn → ∃ b, gR (cV h) 35 i = some b ∧ StCx I b P (U i)) ∧ (∀ i, i < 20 → ∀ b, gR (cV h) 35 i = some b → shS (cV h) b ∧ 54 ≤ b) ∧ ∀ i j, i < 20 → j < 20 → i ≠ j → ∀ b, gR (cV h) 35 i = some b → ¬ gR (cV h) 35 j = some b
def KpM (J : Nat → Nat → Int32) (M : Nat → Nat → Int64) (P kn : Nat) (U : Nat → R3) : Prop := J 0 75 = nn kn ∧ ∀ i, i < kn → StMx J 39 (22 * i) P (U i) ∧ M 40 i = (U i).2.2.toInt64 ∧ WX P (U i)
def Img (I J : Nat → Nat → Int32) (M : Nat → Nat → Int64) (P : Nat) (im : Bool) (X : R3) : Prop := I 0 14 = bI im ∧ J 0 78 = bI im ∧ (im = true → StCx I 30 P X ∧ StMx J 41 0 P X ∧ M 0 80 = X.2.2.toInt64 ∧ WX P X)
def byt (n : Nat) : Int32 := (nn n).toInt8.toInt32
/-- the model's words, each with a blank behind it -/
def wl : List Int32 := [102, 97, 99, 116, 32, 112, 101, 114, 115, 111, 110, 32, 107, 110, 111, 119, 115, 32, 97, 115, 107, 32, 116, 97, 108, 107, 32, 110, 105, 110, 101, 32, 115, 101, 101, 100, 32, 108, 97, 119, 32, 112, 108, 97, 105, 110, 32, 100, 111, 117, 98, 108, 101, 32, 98, 97, 99, 107, 32, 105, 100, 108, 101, 32, 110, 111, 110, 101, 32, 115, 108, 105, 112, 32, 104, 101, 97, 114, 32, 97, 110, 100, 32, 111, 114, 32, 110, 111, 116, 32, 108, 105, 112, 115, 32, 119, 105, 116, 32, 108, 111, 115, 116, 32, 104, 101, 97, 114, 100, 32, 114, 111, 111, 109, 32, 107, 105, 110, 100, 32, 100, 97, 121, 32]
def wds (f : Nat → Int32) : Prop := ∀ i, i < 124 → f i = wl.getD i 0
def Tap (I J : Nat → Nat → Int32) (tp : Nat) (tb : Nat → Nat) : Prop := I 0 1 = nn tp ∧ J 0 1 = nn tp ∧ (tp ≤ 700 ∧ wds (J 2)) ∧ ∀ i, i < tp → tb i < 256 ∧ I 1 i = byt (tb i) ∧ J 1 i = nn (tb i)
def Now (h : HP) (I : Nat → Nat → Int32) (c : Nat) (K : KT) (A : Nat → Nat → Nat) (w : Int32) (S : ST) (al nu : Int32) (J : Nat → Nat → Int32) (M : Nat → Nat → Int64) : Prop := TB h I c K A w S J ∧ I 20 5 = al ∧ J 0 60 = al ∧ I 20 6 = nu ∧ M 0 61 = nu.toInt64 ∧ ¬ nu < 0
def Nts (h : HP) (I J : Nat → Nat → Int32) (K : KT) (D : Nat → Nat) (N : Nat → Nat → Int32) (sn : Nat) (kv : Int32) : Prop := NtC h I D N sn ∧ NtM J N sn ∧ WN K N sn ∧ I 0 23 = kv ∧ J 0 72 = kv ∧ knv kv sn
def Shp (h : HP) : Prop := 54 ≤ gN h ∧ ∀ x, gN h ≤ x → (gT h x).1 = 0
def Inv (h : HP) (I J : Nat → Nat → Int32) (M : Nat → Nat → Int64) : Prop := ∃ (c : Nat) (K : KT) (A : Nat → Nat → Nat) (w : Int32) (S : ST) (al nu : Int32) (D : Nat → Nat) (N : Nat → Nat → Int32) (sn : Nat) (kv : Int32) (kn : Nat) (U : Nat → R3) (im : Bool) (X : R3) (tp : Nat) (tb : Nat → Nat),
  Now h I c K A w S al nu J M ∧ Nts h I J K D N sn kv ∧ (KpC h I (zP K) kn U ∧ KpM J M (zP K) kn U) ∧ Img I J M (zP K) im X ∧ Tap I J tp tb ∧ (I 0 2 = J 0 4 ∧ I 0 3 = J 0 5) ∧ Shp h
theorem StCx.cg {I I' : Nat → Nat → Int32} {o P : Nat} {X : R3} (e : ∀ x, o ≤ x → x ≤ o + 4 → I' x = I x) (q : StCx I o P X) : StCx I' o P X := by
  obtain ⟨w', q1, q2, q3⟩ := q
  refine ⟨w', ?_, by rw [e o (by omega) (by omega)]; exact q2, by rw [e o (by omega) (by omega)]; exact q3⟩
  unfold StC
  rw [e o (by omega) (by omega), e (o + 1) (by omega) (by omega), e (o + 2) (by omega) (by omega), e (o + 3) (by omega) (by omega), e (o + 4) (by omega) (by omega)]; exact q1
theorem Inv.fr {h : HP} {I I' J J' : Nat → Nat → Int32} {M M' : Nat → Nat → Int64} (f : frA I I') (f2 : frB J J') (l : frL2 false M M') (q : Inv h I J M) : Inv h I' J' M' := by
  obtain ⟨c, K, A, w, S, al, nu, D, N, sn, kv, kn, U, im, X, tp, tb, ⟨q1, q2, q3, q4, q5, q6⟩, ⟨n1, n2, n3, n4, n5, n6⟩, ⟨⟨k1, k2, k3, k4, k5⟩, k6, k7⟩, ⟨i1, i2, i3⟩, ⟨t1, t2, t3, t4⟩, ⟨u1, u2'⟩, sh⟩ := q
  have l0 : M' 0 = M 0 := l.2.2 rfl
  have l40 : M' 40 = M 40 := l.1 40 (by decide) (by decide) (by decide)
  have j0 : ∀ k, k ≠ 2 → k ≠ 54 → (k < 62 ∨ 67 < k) → J' 0 k = J 0 k := f2.2.1
  have j39 : J' 39 = J 39 := f2.1 39 (by decide) (by omega)
  have j41 : J' 41 = J 41 := f2.1 41 (by decide) (by omega)
  refine ⟨c, K, A, w, S, al, nu, D, N, sn, kv, kn, U, im, X, tp, tb, ⟨q1.fr f f2, by rw [f.1 20 (by decide) (by omega)]; exact q2, by rw [j0 60 (by decide) (by decide) (by omega)]; exact q3, by rw [f.1 20 (by decide) (by omega)]; exact q4, by rw [l0]; exact q5, q6⟩, ⟨n1.fr f, n2.fr f2, n3, by rw [f.2 23 (by decide) (by decide)]; exact n4, by rw [j0 72 (by decide) (by decide) (by omega)]; exact n5, n6⟩, ⟨⟨by rw [f.2 4 (by decide) (by decide)]; exact k1, k2, fun i hi => ?_, k4, k5⟩, by rw [j0 75 (by decide) (by decide) (by omega)]; exact k6, fun i hi => by rw [l40]; unfold StMx; rw [j39]; exact k7 i hi⟩, ⟨by rw [f.2 14 (by decide) (by decide)]; exact i1, by rw [j0 78 (by decide) (by decide) (by omega)]; exact i2, fun y => ?_⟩, ⟨by rw [f.2 1 (by decide) (by decide)]; exact t1, by rw [j0 1 (by decide) (by decide) (by omega)]; exact t2, ⟨t3.1, by rw [f2.1 2 (by decide) (by omega)]; exact t3.2⟩, by rw [f.1 1 (by decide) (by omega), f2.1 1 (by decide) (by omega)]; exact t4⟩, ⟨by rw [f.2 2 (by decide) (by decide), j0 4 (by decide) (by decide) (by omega)]; exact u1, by rw [f.2 3 (by decide) (by decide), j0 5 (by decide) (by decide) (by omega)]; exact u2'⟩, sh⟩
  · obtain ⟨b, b1, b2⟩ := k3 i hi
    have := (k4 i (by omega) b b1).2
    exact ⟨b, b1, b2.cg (fun x h1 h2 => f.1 x (by omega) (by omega))⟩
  · obtain ⟨y1, y2, y3, y4⟩ := i3 y
    refine ⟨y1.cg (fun x h1 h2 => f.1 x (by omega) (by omega)), ?_, by rw [l0]; exact y3, y4⟩
    unfold StMx; rw [j41]; exact y2
/-- a pair of answers: the same one, and the invariant holds on -/
def PB (h g : HP) (tc tm : Option (Int32 × HP)) : Prop := ∃ r h' I' L' J' M', tc = some (r, hw h' I' L') ∧ tm = some (r, hw g J' M') ∧ Inv h' I' J' M' ∧ gN h' ≤ gN h + 5 ∧ gS h' ≤ gS h + 40
theorem B2.pb {h g : HP} {I J : Nat → Nat → Int32} {M : Nat → Nat → Int64} {tc tm : Option (Int32 × HP)} (q : Inv h I J M) (b : B2 h g I J M tc tm) : PB h g tc tm := by
  obtain ⟨r, I', L', J', M', e1, e2, f, f2, l⟩ := b
  exact ⟨r, h, I', L', J', M', e1, e2, q.fr f f2 l, by omega, by omega⟩
theorem Inv.at {h : HP} {I J : Nat → Nat → Int32} {M : Nat → Nat → Int64} (q : Inv h I J M) : ∃ c K A w S, At h I J M c K A w S I J M := by
  obtain ⟨c, K, A, w, S, al, nu, D, N, sn, kv, kn, U, im, X, tp, tb, ⟨q1, -⟩, -⟩ := q
  exact ⟨c, K, A, w, S, At.st q1⟩
section P1
variable {h g : HP} {I J : Nat → Nat → Int32} {L M : Nat → Nat → Int64}
theorem P_all (q : Inv h I J M) (x0 : Int32) : PB h g (cA_all x0 (hw h I L)) (m_all x0 (hw g J M)) := by
  obtain ⟨c, K, A, w, S, a⟩ := q.at
  exact (b_all a x0).pb q
theorem P_never (q : Inv h I J M) (x0 x1 : Int32) : PB h g (cA_never x0 x1 (hw h I L)) (m_never x0 x1 (hw g J M)) := by
  obtain ⟨c, K, A, w, S, a⟩ := q.at
  exact (b_never a x0 x1).pb q
theorem P_away (q : Inv h I J M) (x0 x1 : Int32) : PB h g (cA_away x0 x1 (hw h I L)) (m_away x0 x1 (hw g J M)) := by
  obtain ⟨c, K, A, w, S, a⟩ := q.at
  exact (b_away a x0 x1).pb q
theorem P_spread (q : Inv h I J M) (x0 : Int32) : PB h g (cA_spread x0 (hw h I L)) (m_spread x0 (hw g J M)) := by
  obtain ⟨c, K, A, w, S, a⟩ := q.at
  exact (b_spread a x0).pb q
theorem P_hint (q : Inv h I J M) (x0 x1 x2 : Int32) : PB h g (cA_hint x0 x1 x2 (hw h I L)) (m_hint x0 x1 x2 (hw g J M)) := by
  obtain ⟨c, K, A, w, S, a⟩ := q.at
  exact (b_hint a x0 x1 x2).pb q
theorem P_unasked (q : Inv h I J M) (x0 : Int32) : PB h g (cA_unasked x0 (hw h I L)) (m_unasked x0 (hw g J M)) := by
  obtain ⟨c, K, A, w, S, a⟩ := q.at
  exact (b_unasked a x0).pb q
theorem P_inRoom (q : Inv h I J M) (x0 x1 : Int32) : PB h g (cA_inRoom x0 x1 (hw h I L)) (m_inRoom x0 x1 (hw g J M)) := by
  obtain ⟨c, K, A, w, S, a⟩ := q.at
  exact (b_inRoom a x0 x1).pb q
theorem P_bestRoom (q : Inv h I J M) (x0 : Int32) : PB h g (cA_bestRoom x0 (hw h I L)) (m_bestRoom x0 (hw g J M)) := by
  obtain ⟨c, K, A, w, S, a⟩ := q.at
  exact (b_bestRoom a x0).pb q
theorem P_way (q : Inv h I J M) (x0 x1 x2 x3 : Int32) : PB h g (cA_way x0 x1 x2 x3 (hw h I L)) (m_way x0 x1 x2 x3 (hw g J M)) := by
  obtain ⟨c, K, A, w, S, a⟩ := q.at
  exact (b_way a x0 x1 x2 x3).pb q
theorem P_step (q : Inv h I J M) (x0 x1 x2 x3 x4 : Int32) : PB h g (cA_step x0 x1 x2 x3 x4 (hw h I L)) (m_step x0 x1 x2 x3 x4 (hw g J M)) := by
  obtain ⟨c, K, A, w, S, a⟩ := q.at
  exact (b_step a x0 x1 x2 x3 x4).pb q
theorem P_care (q : Inv h I J M) (x0 : Int32) : PB h g (cA_care x0 (hw h I L)) (m_care x0 (hw g J M)) := by
  obtain ⟨c, K, A, w, S, a⟩ := q.at
  exact (b_care a x0).pb q
theorem P_best (q : Inv h I J M) (x0 x1 x2 : Int32) : PB h g (cA_best x0 x1 x2 (hw h I L)) (m_best x0 x1 x2 (hw g J M)) := by
  obtain ⟨c, K, A, w, S, a⟩ := q.at
  exact (b_best a x0 x1 x2).pb q
theorem P_rests (q : Inv h I J M) (x0 x1 : Int32) : PB h g (cA_rests x0 x1 (hw h I L)) (m_rests x0 x1 (hw g J M)) := by
  obtain ⟨c, K, A, w, S, a⟩ := q.at
  exact (b_rests a x0 x1).pb q
theorem P_rest (q : Inv h I J M) (x0 x1 x2 : Int32) : PB h g (cA_rest x0 x1 x2 (hw h I L)) (m_rest x0 x1 x2 (hw g J M)) := by
  obtain ⟨c, K, A, w, S, a⟩ := q.at
  exact (b_rest a x0 x1 x2).pb q
theorem P_slipped (q : Inv h I J M) (x0 : Int32) : PB h g (cA_slipped x0 (hw h I L)) (m_slipped x0 (hw g J M)) := by
  obtain ⟨c, K, A, w, S, a⟩ := q.at
  exact (b_slipped a x0).pb q
theorem P_behind (q : Inv h I J M) (x0 x1 : Int32) : PB h g (cA_behind x0 x1 (hw h I L)) (m_behind x0 x1 (hw g J M)) := by
  obtain ⟨c, K, A, w, S, a⟩ := q.at
  exact (b_behind a x0 x1).pb q
theorem P_chance (q : Inv h I J M) (x0 x1 x2 : Int32) : PB h g (cA_chance x0 x1 x2 (hw h I L)) (m_chance x0 x1 x2 (hw g J M)) := by
  obtain ⟨c, K, A, w, S, a⟩ := q.at
  exact (b_chance a x0 x1 x2).pb q
theorem P_tried (q : Inv h I J M) (x0 x1 : Int32) : PB h g (cA_tried x0 x1 (hw h I L)) (m_tried x0 x1 (hw g J M)) := by
  obtain ⟨c, K, A, w, S, a⟩ := q.at
  exact (b_tried a x0 x1).pb q
theorem P_named (q : Inv h I J M) (x0 x1 : Int32) : PB h g (cA_named x0 x1 (hw h I L)) (m_named x0 x1 (hw g J M)) := by
  obtain ⟨c, K, A, w, S, a⟩ := q.at
  exact (b_named a x0 x1).pb q
theorem P_question (q : Inv h I J M) (x0 x1 : Int32) : PB h g (cA_question x0 x1 (hw h I L)) (m_question x0 x1 (hw g J M)) := by
  obtain ⟨c, K, A, w, S, a⟩ := q.at
  exact (b_question a x0 x1).pb q
theorem P_can (q : Inv h I J M) (x0 x1 x2 : Int32) : PB h g (cA_can x0 x1 x2 (hw h I L)) (m_can x0 x1 x2 (hw g J M)) := by
  obtain ⟨c, K, A, w, S, a⟩ := q.at
  exact (b_can a x0 x1 x2).pb q
theorem P_fault (q : Inv h I J M) (x : Int32) : PB h g (cA_fault x (hw h I L)) (m_fault x (hw g J M)) := by
  have q' := q
  obtain ⟨c, K, A, w, S, al, nu, D, N, sn, kv, kn, U, im, X, tp, tb, ⟨q1, -⟩, -, -, -, -, ⟨u1, u2⟩, -⟩ := q'
  exact (b_fault (At.st q1) u1 u2 x).pb q
theorem P_count (q : Inv h I J M) (x : Int32) : PB h g (cA_count x (hw h I L)) (m_count x (hw g J M)) := by
  have q' := q
  obtain ⟨c, K, A, w, S, al, nu, D, N, sn, kv, kn, U, im, X, tp, tb, ⟨q1, q2, q3, -⟩, ⟨n1, n2, n3, n4, n5, n6⟩, ⟨⟨k1, -⟩, k2, -⟩, -⟩ := q'
  exact (b_count (At.st q1) n1 n2 n4 n5 n6 n3.1 (q2.trans q3.symm) (k1.trans k2.symm) x).pb q
theorem P_knew (q : Inv h I J M) (x : Int32) : PB h g (cA_knew x (hw h I L)) (m_knew x (hw g J M)) := by
  have q' := q
  obtain ⟨c, K, A, w, S, al, nu, D, N, sn, kv, kn, U, im, X, tp, tb, ⟨q1, -⟩, ⟨n1, n2, n3, n4, n5, n6⟩, -⟩ := q'
  exact (b_knew (At.st q1) n1 n2 n4 n5 n6 n3 x).pb q
theorem P_law (q : Inv h I J M) (x y z : Int32) : ∃ r I' L' J' M', cA_law x y z (hw h I L) = some (r, hw h I' L') ∧ m_law x y z (hw g J M) = some (r, hw g J' M') ∧ Inv h I' J' M' := by
  obtain ⟨c, K, A, w, S, a⟩ := q.at
  obtain ⟨r, I', L', J', M', e1, e2, f, f2, l⟩ := b_law (g := g) (L := L) a x y z
  exact ⟨r, I', L', J', M', e1, e2, q.fr f f2 l⟩
end P1
