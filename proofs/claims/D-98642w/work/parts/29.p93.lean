set_option maxRecDepth 100000
/-! PURE LEVEL 93: the court that is being read: what a line adds to it -/
def EF0 (h0 : HP) (I0 : Nat → Nat → Int32) (h : HP) (I : Nat → Nat → Int32) : Prop := (∀ x, (gT (cV h0) x).1 ≠ 0 → gT (cV h) x = gT (cV h0) x ∧ (x ≠ 2 → gR (cV h) x = gR (cV h0) x ∧ I x = I0 x)) ∧ gN h0 ≤ gN h
def hf (x : Nat) : Nat := (mT x).2 / 2
def ML0 (J0 J : Nat → Nat → Int32) : Prop := (∀ x, (x = 1 ∨ x = 2 ∨ 27 ≤ x) → J x = J0 x) ∧ (∀ x k, 3 < x → x < 25 → k < hf x → J x k = J0 x k) ∧ ∀ k, (k < 4 ∨ (11 < k ∧ k < 17) ∨ 51 < k) → J 0 k = J0 0 k
def MLr (J : Nat → Nat → Int32) (l : Option LF) (j : Nat) : Prop := match l with
  | none => J 19 (2 + j) = 0
  | some f => J 19 (2 + j) = 1 ∧ ∃ d s e, e < 64 ∧ J 20 (2 + j) = nn s ∧ J 21 (2 + j) = nn (e + 1) ∧ SDn (kj J 22) (kj J 23) (kj J 24) d s e f ∧ ∃ kn, e < kn ∧ J 0 21 = nn kn ∧ kn ≤ 64
def MR (J : Nat → Nat → Int32) (K : KT) : Prop :=
  (J 0 17 = nn (zF K) ∧ J 0 18 = nn (zP K) ∧ J 0 19 = nn (zQ K) ∧ J 0 20 = nn (zT K) ∧ J 0 21 = nn (zKn K)) ∧ (J 4 2 = zt K 0 0 ∧ J 4 3 = zt K 0 1) ∧ (∀ k, k < zF K → J 5 (8 + k) = zt K 1 k) ∧
  (∀ k, k < zP K → J 6 (5 + k) = zt K 2 k ∧ J 7 (5 + k) = zt K 3 k ∧ J 8 (5 + k) = zt K 4 k ∧ J 9 (5 + k) = zt K 5 k ∧ J 10 (5 + k) = zt K 6 k) ∧
  (∀ k, k < zQ K → J 11 (8 + k) = zt K 7 k ∧ J 12 (8 + k) = zt K 8 k ∧ J 13 (8 + k) = zt K 9 k ∧ J 14 (8 + k) = zt K 10 k ∧ J 15 (8 + k) = zt K 11 k) ∧
  (∀ k, k < zT K → J 16 (10 + k) = zt K 12 k ∧ J 17 (10 + k) = zt K 13 k ∧ J 18 (10 + k) = zt K 14 k) ∧ ∀ j, j < 2 → MLr J (zl K j) j
def PSt (h0 : HP) (I0 J0 : Nat → Nat → Int32) (h : HP) (I J : Nat → Nat → Int32) (n : Nat) (tb : Nat → Nat) (c a : Nat) (K : KT) (A : Nat → Nat → Nat) (t ln : Nat) : Prop := Rd h I J n tb c a ∧ (CC (cV h) I c K A ∧ MR J K ∧ WK K) ∧ (J 0 49 = nn (zKn K) ∧ I 2 5 = 0) ∧ (I 2 6 = nn t ∧ t < 256 ∧ J 3 0 = bI (t.testBit 5) ∧ J 3 1 = bI (t.testBit 6)) ∧ I c 11 = nn ln ∧ ((∀ i j, i < zP K → j < zP K → i ≠ j → A 2 i ≠ A 2 j) ∧ ∀ i, i < zP K → gN h0 ≤ A 2 i) ∧ (gN h0 ≤ c ∧ Shp h0) ∧ EF0 h0 I0 h I ∧ ML0 J0 J
def CF (h : HP) (I : Nat → Nat → Int32) (h' : HP) (I' : Nat → Nat → Int32) : Prop := (∀ x, (gT (cV h) x).1 ≠ 0 → gT (cV h') x = gT (cV h) x ∧ gR (cV h') x = gR (cV h) x ∧ (x ≠ 2 → I' x = I x)) ∧ I' 2 5 = I 2 5 ∧ I' 2 6 = I 2 6 ∧ gN h ≤ gN h'
/-- what is not of the court's own cells stays; parts, facts and questions stay -/
def QF (h : HP) (I : Nat → Nat → Int32) (h' : HP) (I' : Nat → Nat → Int32) : Prop := (∀ x, (gT (cV h) x).1 ≠ 0 → gT (cV h') x = gT (cV h) x) ∧ ∀ x, (gT (cV h) x).1 = 7 ∨ (9 ≤ (gT (cV h) x).1 ∧ (gT (cV h) x).1 ≤ 13) → gR (cV h') x = gR (cV h) x ∧ I' x = I x
section P41
variable {h0 h h' g : HP} {I0 J0 I I' J J' : Nat → Nat → Int32} {L M : Nat → Nat → Int64} {n : Nat} {tb : Nat → Nat} {a a' c kr : Nat} {K : KT} {A : Nat → Nat → Nat} {t ln : Nat}
theorem CF.x (f : frX I I') : CF h I h I' := ⟨fun x _ => ⟨rfl, rfl, fun h2 => f.1 x h2⟩, f.2 5 (by decide) (by decide) (by decide) (by decide), f.2 6 (by decide) (by decide) (by decide) (by decide), Nat.le_refl _⟩
theorem CF.tr {h1 h2 : HP} {I1 I2 : Nat → Nat → Int32} (p : CF h I h1 I1) (q : CF h1 I1 h2 I2) : CF h I h2 I2 := by
  have ty : ∀ x, (gT (cV h) x).1 ≠ 0 → (gT (cV h1) x).1 ≠ 0 := fun x t => by rw [(p.1 x t).1]; exact t
  exact ⟨fun x t => ⟨(q.1 x (ty x t)).1.trans (p.1 x t).1, (q.1 x (ty x t)).2.1.trans (p.1 x t).2.1, fun h2 => ((q.1 x (ty x t)).2.2 h2).trans ((p.1 x t).2.2 h2)⟩, q.2.1.trans p.2.1, q.2.2.1.trans p.2.2.1, Nat.le_trans p.2.2.2 q.2.2.2⟩
theorem sh_lt {x : Nat} (sh : Shp h) (t : (gT (cV h) x).1 ≠ 0) : x < gN h := by
  by_cases z : x < 54
  · have := sh.1; omega
  · exact sh.lt (by omega) t
theorem EF0.cf (e : EF0 h0 I0 h I) (f : CF h I h' I') : EF0 h0 I0 h' I' := ⟨fun x t => by
  obtain ⟨e1, e2⟩ := e.1 x t
  have t' : (gT (cV h) x).1 ≠ 0 := by rw [e1]; exact t
  obtain ⟨f1, f2, f3⟩ := f.1 x t'
  exact ⟨f1.trans e1, fun h2 => ⟨f2.trans (e2 h2).1, (f3 h2).trans (e2 h2).2⟩⟩, Nat.le_trans e.2 f.2.2.2⟩
theorem EF0.ef (e : EF0 h0 I0 h I) (sh : Shp h0) (hc : gN h0 ≤ c) (f : EF c h I h' I') : EF0 h0 I0 h' I' := ⟨fun x t => by
  obtain ⟨e1, e2⟩ := e.1 x t
  have t' : (gT (cV h) x).1 ≠ 0 := by rw [e1]; exact t
  have := sh_lt sh t
  exact ⟨(f.1 x t').1.trans e1, fun h2 => ⟨(f.1 x t').2.trans (e2 h2).1, (f.2.1 x t' h2 (by omega)).trans (e2 h2).2⟩⟩, Nat.le_trans e.2 f.2.2.2.2⟩
/-- writes to cells from the start's end on -/
theorem EF0.up (e : EF0 h0 I0 h I) (sh : Shp h0) (ft : ∀ x, x < gN h0 → gT (cV h') x = gT (cV h) x) (fr : ∀ x, x < gN h0 → x ≠ 2 → gR (cV h') x = gR (cV h) x) (fi : ∀ x, x < gN h0 → x ≠ 2 → I' x = I x) (hn : gN h ≤ gN h') : EF0 h0 I0 h' I' := ⟨fun x t => by
  obtain ⟨e1, e2⟩ := e.1 x t
  have := sh_lt sh t
  exact ⟨(ft x this).trans e1, fun h2 => ⟨(fr x this h2).trans (e2 h2).1, (fi x this h2).trans (e2 h2).2⟩⟩, Nat.le_trans e.2 hn⟩
theorem ML0.u (e : ML0 J0 J) (f : frU J J') : ML0 J0 J' := ⟨fun x hx => (f.1 x (by omega)).trans (e.1 x hx), fun x k h1 h2 h3 => by rw [f.1 x (by omega)]; exact e.2.1 x k h1 h2 h3, fun k hk => (f.2 k (by omega)).trans (e.2.2 k hk)⟩
theorem hf_22 : hf 22 = 64 ∧ hf 23 = 64 ∧ hf 24 = 64 := by decide
theorem ML0.mf (e : ML0 J0 J) (f : MF kr J J') : ML0 J0 J' := by
  refine ⟨fun x hx => (f.1 x (by omega) (by omega) (by omega) (by omega) (by omega) (by omega)).trans (e.1 x hx), fun x k h1 h2 h3 => ?_, fun k hk => (f.2.2 k (by omega)).trans (e.2.2 k hk)⟩
  by_cases z : 22 ≤ x
  · have := hf_22
    rcases (show x = 22 ∨ x = 23 ∨ x = 24 by omega) with rfl | rfl | rfl
    · rw [(f.2.1 k (by omega)).1]; exact e.2.1 22 k h1 h2 h3
    · rw [(f.2.1 k (by omega)).2.1]; exact e.2.1 23 k h1 h2 h3
    · rw [(f.2.1 k (by omega)).2.2]; exact e.2.1 24 k h1 h2 h3
  · rw [f.1 x (by omega) (by omega) (by omega) (by omega) (by omega) (by omega)]; exact e.2.1 x k h1 h2 h3
/-- a fault, seen from the start of the text -/
def LFl {ρ : Type} (g : HP) (M : Nat → Nat → Int64) (h0 : HP) (I0 J0 : Nat → Nat → Int32) (B S : Nat) (tc : Option ((ρ ⊕ Nat × Nat) × HP)) (tm : Option (Int32 × HP)) : Prop := ∃ h' I' L' x J', tc = some (.inr (1, x), hw h' I' L') ∧ tm = some (0, hw g J' M) ∧ gT (cV h') x = (20, 0) ∧ I' x 6 = J' 0 4 ∧ I' x 7 = J' 0 5 ∧ EF0 h0 I0 h' I' ∧ ML0 J0 J' ∧ Shp h' ∧ gN h' ≤ B ∧ gS h' ≤ S
theorem LFl.cx {ρ σ : Type} {B S : Nat} {tc : Option ((ρ ⊕ Nat × Nat) × HP)} {tm : Option (Int32 × HP)} (T : ρ → HP → Option ((σ ⊕ Nat × Nat) × HP)) (q : LFl g M h0 I0 J0 B S tc tm) : LFl g M h0 I0 J0 B S (calx tc T) tm := by
  obtain ⟨h', I', L', x, J', q1, q⟩ := q
  exact ⟨h', I', L', x, J', by rw [q1]; rfl, q⟩
theorem LFl.le {ρ : Type} {B S B' S' : Nat} {tc : Option ((ρ ⊕ Nat × Nat) × HP)} {tm : Option (Int32 × HP)} (b : B ≤ B') (s : S ≤ S') (q : LFl g M h0 I0 J0 B S tc tm) : LFl g M h0 I0 J0 B' S' tc tm := by
  obtain ⟨h', I', L', x, J', q1, q2, q3, q4, q5, q6, q7, q8, q9, q10⟩ := q
  exact ⟨h', I', L', x, J', q1, q2, q3, q4, q5, q6, q7, q8, by omega, by omega⟩
/-- the model answers 0 on -/
theorem LFl.m {ρ : Type} {B S : Nat} {tc : Option ((ρ ⊕ Nat × Nat) × HP)} {tm tm' : Option (Int32 × HP)} (e : ∀ H, tm = some (0, H) → tm' = some (0, H)) (q : LFl g M h0 I0 J0 B S tc tm) : LFl g M h0 I0 J0 B S tc tm' := by
  obtain ⟨h', I', L', x, J', q1, q2, q⟩ := q
  exact ⟨h', I', L', x, J', q1, e _ q2, q⟩
theorem Flt.l {ρ : Type} {B : Nat} {tc : Option ((ρ ⊕ Nat × Nat) × HP)} {tm : Option (Int32 × HP)} (e : EF0 h0 I0 h I) (sh : Shp h0) (hc : gN h0 ≤ c) (m : ML0 J0 J) (q : Flt g M c kr h I J B tc tm) : LFl g M h0 I0 J0 (gN h + B) (gS h + 12 * B) tc tm := by
  obtain ⟨h', I', L', x, J', q1, q2, q3, q4, q5, q6, q7, q8, q9, q10⟩ := q
  exact ⟨h', I', L', x, J', q1, q2, q3, q4, q5, e.ef sh hc q6, m.mf q7, q8, q9, q10⟩
theorem MR.cg (q : MR J K) (fx : ∀ x, 4 ≤ x → x ≤ 24 → J' x = J x) (f0 : ∀ k, 17 ≤ k → k ≤ 21 → J' 0 k = J 0 k) : MR J' K := by
  obtain ⟨⟨q1, q2, q3, q4, q5⟩, q6, q7, q8, q9, q10, q11⟩ := q
  refine ⟨⟨by rw [f0 17 (by decide) (by decide)]; exact q1, by rw [f0 18 (by decide) (by decide)]; exact q2, by rw [f0 19 (by decide) (by decide)]; exact q3, by rw [f0 20 (by decide) (by decide)]; exact q4, by rw [f0 21 (by decide) (by decide)]; exact q5⟩, by rw [fx 4 (by decide) (by decide)]; exact q6, fun k hk => by rw [fx 5 (by decide) (by decide)]; exact q7 k hk, fun k hk => by rw [fx 6 (by decide) (by decide), fx 7 (by decide) (by decide), fx 8 (by decide) (by decide), fx 9 (by decide) (by decide), fx 10 (by decide) (by decide)]; exact q8 k hk, fun k hk => by rw [fx 11 (by decide) (by decide), fx 12 (by decide) (by decide), fx 13 (by decide) (by decide), fx 14 (by decide) (by decide), fx 15 (by decide) (by decide)]; exact q9 k hk, fun k hk => by rw [fx 16 (by decide) (by decide), fx 17 (by decide) (by decide), fx 18 (by decide) (by decide)]; exact q10 k hk, fun j hj => ?_⟩
  have := q11 j hj
  unfold MLr kj at this ⊢
  rw [fx 19 (by decide) (by decide), fx 20 (by decide) (by decide), fx 21 (by decide) (by decide), fx 22 (by decide) (by decide), fx 23 (by decide) (by decide), fx 24 (by decide) (by decide), f0 21 (by decide) (by decide)]
  exact this
theorem CF.hx (f : CF h I h' I') : hx h h' := ⟨fun x t => (f.1 x t).1, fun x t _ _ _ => (f.1 x t).2.1⟩
theorem CF.D (f : CF h I h' I') : frD (cV h) I I' := by
  intro x hx
  refine (f.1 x ?_).2.2 (fun e => ?_)
  · rcases hx with e | ⟨e, -⟩ | e | e | e | e | e | e | e | e <;> (rw [e]; decide)
  · subst e
    rw [show gT (cV h) 2 = (3, 0) from rfl, show gT (cV h) (2 + 1) = (4, 0) from rfl] at hx; revert hx; decide
theorem PSt.cg (q : PSt h0 I0 J0 h I J n tb c a K A t ln) (rd : Rd h' I' J' n tb c a') (f : CF h I h' I') (u : frU J J') : PSt h0 I0 J0 h' I' J' n tb c a' K A t ln := by
  obtain ⟨q1, ⟨q2, q3, q4⟩, ⟨q5, q6⟩, ⟨q7, q8, q9, q10⟩, q11, q12, q13, q14, q15⟩ := q
  have cn : (gT (cV h) c).1 ≠ 0 := by rw [q1.ty]; decide
  exact ⟨rd, ⟨(q2.frD f.D).hx f.hx q4, q3.cg (fun x h1 h2 => u.1 x (by omega)) (fun k h1 h2 => u.2 k (by omega)), q4⟩, ⟨by rw [u.2 49 (by omega)]; exact q5, by rw [f.2.1]; exact q6⟩, ⟨by rw [f.2.2.1]; exact q7, q8, by rw [u.1 3 (by decide)]; exact q9, by rw [u.1 3 (by decide)]; exact q10⟩, by rw [(f.1 c cn).2.2 q1.c2]; exact q11, q12, q13, q14.cf f, q15.u u⟩
theorem PSt.nx (q : PSt h0 I0 J0 h I J n tb c a K A t ln) : ∃ I' J' a', cR_next (hw h I L) = some ((), hw h I' L) ∧ m_token (hw g J M) = some ((), hw g J' M) ∧ PSt h0 I0 J0 h I' J' n tb c a' K A t ln ∧ (¬ I 2 3 = 4 → mu n a' (I' 2 3) < mu n a (I 2 3)) := by
  obtain ⟨I', J', a', n1, n2, n3, n4, n5, n6⟩ := r_next (L := L) (g := g) (M := M) q.1
  exact ⟨I', J', a', n1, n2, q.cg n3 (CF.x n5) (frU.v n6), n4⟩
theorem CL.qf {l : Option LF} {j : Nat} (f : QF h I h' I') (r : gR (cV h') (c + 10) j = gR (cV h) (c + 10) j) (q : CL (cV h) I c l j) : CL (cV h') I' c l j := by
  unfold CL at q ⊢
  rw [r]
  match l, q with
  | none, q => exact q
  | some f', ⟨p, q1, q2⟩ =>
    refine ⟨p, q1, ?_⟩
    clear q1
    revert q2
    generalize 80 = d
    induction d generalizing p f' with
    | zero => exact fun q => q.elim
    | succ d ih =>
      intro q
      have ne : ∀ t, (gT (cV h) p).1 = t → 9 ≤ t → t ≤ 13 → gT (cV h') p = gT (cV h) p ∧ gR (cV h') p = gR (cV h) p ∧ I' p = I p := fun t ht h1 h2 => ⟨f.1 p (by omega), (f.2 p (Or.inr (by omega))).1, (f.2 p (Or.inr (by omega))).2⟩
      rcases q with ⟨t, q⟩ | ⟨t, q1, q⟩ | ⟨t, a, fa, q1, q2, q⟩ | ⟨t, a, b, fa, fb, q1, q2, q3, q4, q⟩
      · obtain ⟨e1, e2, e3⟩ := ne 10 t (by decide) (by decide)
        exact Or.inl ⟨by rw [e1]; exact t, by rw [e3]; exact q⟩
      · obtain ⟨e1, e2, e3⟩ := ne 11 t (by decide) (by decide)
        exact Or.inr (Or.inl ⟨by rw [e1]; exact t, by rw [e3]; exact q1, by rw [e3]; exact q⟩)
      · obtain ⟨e1, e2, e3⟩ := ne 12 t (by decide) (by decide)
        exact Or.inr (Or.inr (Or.inl ⟨by rw [e1]; exact t, a, fa, by rw [e2]; exact q1, ih fa a q2, q⟩))
      · obtain ⟨e1, e2, e3⟩ := ne 13 t (by decide) (by decide)
        exact Or.inr (Or.inr (Or.inr ⟨by rw [e1]; exact t, a, b, fa, fb, by rw [e2]; exact q1, by rw [e2]; exact q2, ih fa a q3, ih fb b q4, by rw [e3]; exact q⟩))
theorem CC.shp (q : CC (cV h) I c K A) (f : QF h I h' I') (r0 : gR (cV h') c = gR (cV h) c) (r1 : gR (cV h') (c + 1) = gR (cV h) (c + 1)) (r3 : gR (cV h') (c + 3) = gR (cV h) (c + 3)) (r5 : gR (cV h') (c + 5) = gR (cV h) (c + 5)) : shC (cV h') c ∧ (shL (cV h') (c + 1) ∧ shL (cV h') (c + 3) ∧ shL (cV h') (c + 5)) ∧ ((gT (cV h') (c + 2)).2 = 8 ∧ (gT (cV h') (c + 4)).2 = 5 ∧ (gT (cV h') (c + 6)).2 = 8) := by
  obtain ⟨⟨a1, a2, a3, a4, a5, a6⟩, ⟨⟨b1, b2, b3⟩, ⟨c1, c2, c3⟩, ⟨d1, d2, d3⟩⟩, ⟨w6, w7, w8⟩, -⟩ := q
  have t : ∀ x, (gT (cV h) x).1 ≠ 0 → gT (cV h') x = gT (cV h) x := f.1
  refine ⟨⟨by rw [t c (by rw [a1]; decide)]; exact a1, by rw [r0]; exact a2, by rw [t _ (by rw [a3]; decide)]; exact a3, by rw [t _ (by rw [a4]; decide)]; exact a4, by rw [t _ (by rw [a5]; decide)]; exact a5, by rw [t _ (by rw [a6]; decide)]; exact a6⟩, ⟨⟨by rw [t _ (by rw [b1]; decide)]; exact b1, by rw [r1]; exact b2, by rw [t (c + 1 + 1) (by rw [b3]; decide)]; exact b3⟩, ⟨by rw [t _ (by rw [c1]; decide)]; exact c1, by rw [r3]; exact c2, by rw [t (c + 3 + 1) (by rw [c3]; decide)]; exact c3⟩, ⟨by rw [t _ (by rw [d1]; decide)]; exact d1, by rw [r5]; exact d2, by rw [t (c + 5 + 1) (by rw [d3]; decide)]; exact d3⟩⟩, by rw [t (c + 2) (by rw [b3]; decide)]; exact w6, by rw [t (c + 4) (by rw [c3]; decide)]; exact w7, by rw [t (c + 6) (by rw [d3]; decide)]; exact w8⟩
end P41
