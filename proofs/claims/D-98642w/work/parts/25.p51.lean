/-! PURE LEVEL 51: the invariant with names; one more kept state; the state of now changes -/
def InvP (h : HP) (I J : Nat → Nat → Int32) (M : Nat → Nat → Int64) (c : Nat) (K : KT) (A : Nat → Nat → Nat) (w : Int32) (S : ST) (al nu : Int32) (D : Nat → Nat) (N : Nat → Nat → Int32) (sn : Nat) (kv : Int32) (kn : Nat) (U : Nat → R3) (im : Bool) (X : R3) (tp : Nat) (tb : Nat → Nat) : Prop :=
  Now h I c K A w S al nu J M ∧ Nts h I J K D N sn kv ∧ (KpC h I (zP K) kn U ∧ KpM J M (zP K) kn U) ∧ Img I J M (zP K) im X ∧ Tap I J tp tb ∧ (I 0 2 = J 0 4 ∧ I 0 3 = J 0 5) ∧ Shp h
theorem Inv.p {h : HP} {I J : Nat → Nat → Int32} {M : Nat → Nat → Int64} (q : Inv h I J M) : ∃ c K A w S al nu D N sn kv kn U im X tp tb, InvP h I J M c K A w S al nu D N sn kv kn U im X tp tb := q
section P9
variable {h g : HP} {I J : Nat → Nat → Int32} {L M : Nat → Nat → Int64} {c : Nat} {K : KT} {A : Nat → Nat → Nat} {w : Int32} {S : ST} {al nu : Int32} {D : Nat → Nat} {N : Nat → Nat → Int32} {sn : Nat} {kv : Int32} {kn : Nat} {U : Nat → R3} {im : Bool} {X : R3} {tp : Nat} {tb : Nat → Nat}
theorem InvP.inv (q : InvP h I J M c K A w S al nu D N sn kv kn U im X tp tb) : Inv h I J M := ⟨c, K, A, w, S, al, nu, D, N, sn, kv, kn, U, im, X, tp, tb, q⟩
theorem grw_C {h' : HP} {I' : Nat → Nat → Int32} (f : grw h h' I I') : frC (cV h) I I' := by
  obtain ⟨-, -, -, -, -, f6, f7, f8⟩ := f
  intro x hx
  have h0 : x ≠ 0 := fun e => by
    subst e
    rw [show gT (cV h) 0 = (2, 0) from rfl] at hx; revert hx; decide
  refine f7 x h0 ?_ ?_ ?_
  · rcases hx with e | e | e | e | e | e | e | e | e | e <;> (rw [e]; decide)
  · rcases hx with e | e | e | e | e | e | e | e | e | e <;> (rw [e]; decide)
  · rcases hx with e | e | e | e | e | e | e | e | e | e
    all_goals (intro e'; rw [e'] at e; exact absurd e (by decide))
theorem InvP.rem (q : InvP h I J M c K A w S al nu D N sn kv kn U im X tp tb) : ∃ h' I' L' J' M', cA_keepNow (hw h I L) = some ((), hw h' I' L') ∧ m_remember (hw g J M) = some ((), hw g J' M') ∧ InvP h' I' J' M' c K A w S al nu D N sn kv (zkn kn) (zku U kn (S, al, nu)) im X tp tb ∧ gN h' ≤ gN h + 5 ∧ gS h' ≤ gS h + 40 ∧ grw h h' I I' ∧ frR J J' M M' := by
  obtain ⟨⟨q1, q2, q3, q4, q5, q6⟩, ⟨n1, n2, n3, n4, n5, n6⟩, ⟨kc, km⟩, ⟨i1, i2, i3⟩, ⟨t1, t2, t3, t4⟩, ⟨u1, u2'⟩, sh⟩ := q
  have hP := q1.1.1.p5
  obtain ⟨h', I', L', e1, kc', f⟩ := ec_keepNow (L := L) (X := (S, al, nu)) hP kc q1.1.2 q2 q4 sh
  obtain ⟨J', M', e2, km', r1, r2, r3⟩ := em_remember (g := g) (X := (S, al, nu)) hP kc.2.1 km q1.2.1.2 q3 q5 ⟨q1.2.2, q6⟩
  have fC := grw_C f
  have f' := f
  obtain ⟨f1, f2, f3, f4, f5, f6, f7, f8⟩ := f'
  have g20 : ∀ x, 20 ≤ x → x ≤ 20 + 4 → I' x = I x := fun x h1 h2 => f6 x (by omega) (by omega)
  refine ⟨h', I', L', J', M', e1, e2, ⟨⟨⟨⟨(CW.hx f1 ⟨q1.1.1.1, q1.1.1.2.1.frC fC, q1.1.1.2.2⟩), q1.1.2.cgo g20⟩, ⟨q1.2.1.1.cg (fun x h1 h2 => r1 x (by omega) (by omega)) (fun k h1 h2 => r2 k (by omega)), ?_⟩, q1.2.2⟩, by rw [g20 20 (by omega) (by omega)]; exact q2, by rw [r2 60 (by decide)]; exact q3, by rw [g20 20 (by omega) (by omega)]; exact q4, by rw [r3 0 (by decide)]; exact q5, q6⟩, ⟨NtC.hx f1 f2 ?_, n2.cg (r1 37 (by decide) (by decide)) (r2 71 (by decide)), n3, by rw [f8 23 (by decide)]; exact n4, by rw [r2 72 (by decide)]; exact n5, n6⟩, ⟨kc', km'⟩, ⟨by rw [f8 14 (by decide)]; exact i1, by rw [r2 78 (by decide)]; exact i2, fun y => ?_⟩, ⟨by rw [f8 1 (by decide)]; exact t1, by rw [r2 1 (by decide)]; exact t2, ⟨t3.1, by rw [r1 2 (by decide) (by decide)]; exact t3.2⟩, by rw [f6 1 (by decide) (by decide), r1 1 (by decide) (by decide)]; exact t4⟩, ⟨by rw [f8 2 (by decide), r2 4 (by decide)]; exact u1, by rw [f8 3 (by decide), r2 5 (by decide)]; exact u2'⟩, f3⟩, f4, f5, f, r1, r2, r3⟩
  · have : StM J' 0 (zP K) S := by
      unfold StM
      rw [r1 29 (by decide) (by decide), r1 30 (by decide) (by decide), r1 31 (by decide) (by decide), r1 32 (by decide) (by decide), r1 33 (by decide) (by decide)]; exact q1.2.1.2
    exact this
  · refine ⟨by rw [f6 41 (by decide) (by decide)]; exact n1.1, fun k hk => ?_⟩
    obtain ⟨q1, q2⟩ := n1.2 k hk
    refine ⟨q1, ?_⟩
    rcases q2 with ⟨a, b, c⟩ | ⟨a, b, c⟩
    · have := big_14 (Or.inl b)
      rw [f7 (D k) (by omega) (by rw [b]; decide) (by rw [b]; decide) (fun e => by rw [e] at b; exact absurd b (by decide))]; exact Or.inl ⟨a, b, c⟩
    · have := big_14 (Or.inr b)
      rw [f7 (D k) (by omega) (by rw [b]; decide) (by rw [b]; decide) (fun e => by rw [e] at b; exact absurd b (by decide))]; exact Or.inr ⟨a, b, c⟩
  · obtain ⟨y1, y2, y3, y4⟩ := i3 y
    refine ⟨y1.cg (fun x h1 h2 => f6 x (by omega) (by omega)), ?_, by rw [r3 0 (by decide)]; exact y3, y4⟩
    unfold StMx; rw [r1 41 (by decide) (by decide)]; exact y2
/-- the state of now changes, nothing else -/
theorem InvP.now {I' J' : Nat → Nat → Int32} {M' : Nat → Nat → Int64} {w' : Int32} {S' : ST} {al' nu' : Int32} (q : InvP h I J M c K A w S al nu D N sn kv kn U im X tp tb) (fI : FrO 20 I I') (fJ : ∀ x, x ≠ 0 → (x < 29 ∨ x = 37 ∨ 38 < x) → J' x = J x) (fJ0 : ∀ k, k ≠ 2 → k ≠ 54 → k ≠ 60 → (k < 62 ∨ 67 < k) → J' 0 k = J 0 k) (fM : ∀ x, x ≠ 27 → x ≠ 28 → x ≠ 0 → M' x = M x) (fM0 : ∀ k, k ≠ 61 → M' 0 k = M 0 k) (s : StC I' 20 (zP K) (-1, w', 0) S') (s' : StM J' 0 (zP K) S') (ws : WS (zP K) S') (a1 : I' 20 5 = al') (a2 : J' 0 60 = al') (a3 : I' 20 6 = nu') (a4 : M' 0 61 = nu'.toInt64) (a5 : ¬ nu' < 0) : InvP h I' J' M' c K A w' S' al' nu' D N sn kv kn U im X tp tb := by
  obtain ⟨⟨q1, q2, q3, q4, q5, q6⟩, ⟨n1, n2, n3, n4, n5, n6⟩, ⟨⟨k1, k2, k3, k4, k5⟩, k6, k7⟩, ⟨i1, i2, i3⟩, ⟨t1, t2, t3, t4⟩, ⟨u1, u2'⟩, sh⟩ := q
  have o0 : I' 0 = I 0 := fI 0 (by omega)
  refine ⟨⟨⟨⟨q1.1.1.frO (sh20 h) fI, s⟩, ⟨q1.2.1.1.cg (fun x h1 h2 => fJ x (by omega) (by omega)) (fun k h1 h2 => fJ0 k (by omega) (by omega) (by omega) (by omega)), s'⟩, ws⟩, a1, a2, a3, a4, a5⟩, ⟨n1.cg (fun x hx => fI x (by omega)), n2.cg (fJ 37 (by decide) (by omega)) (fJ0 71 (by decide) (by decide) (by decide) (by omega)), n3, by rw [o0]; exact n4, by rw [fJ0 72 (by decide) (by decide) (by decide) (by omega)]; exact n5, n6⟩, ⟨⟨by rw [o0]; exact k1, k2, fun i hi => ?_, k4, k5⟩, by rw [fJ0 75 (by decide) (by decide) (by decide) (by omega)]; exact k6, fun i hi => ?_⟩, ⟨by rw [o0]; exact i1, by rw [fJ0 78 (by decide) (by decide) (by decide) (by omega)]; exact i2, fun y => ?_⟩, ⟨by rw [o0]; exact t1, by rw [fJ0 1 (by decide) (by decide) (by decide) (by omega)]; exact t2, ⟨t3.1, by rw [fJ 2 (by decide) (by omega)]; exact t3.2⟩, by rw [fI 1 (by omega), fJ 1 (by decide) (by omega)]; exact t4⟩, ⟨by rw [o0, fJ0 4 (by decide) (by decide) (by decide) (by omega)]; exact u1, by rw [o0, fJ0 5 (by decide) (by decide) (by decide) (by omega)]; exact u2'⟩, sh⟩
  · obtain ⟨b, b1, b2⟩ := k3 i hi
    have := (k4 i (by omega) b b1).2
    exact ⟨b, b1, b2.cg (fun x h1 h2 => fI x (by omega))⟩
  · obtain ⟨z1, z2, z3⟩ := k7 i hi
    refine ⟨?_, by rw [fM 40 (by decide) (by decide) (by decide)]; exact z2, z3⟩
    unfold StMx; rw [fJ 39 (by decide) (by omega)]; exact z1
  · obtain ⟨y1, y2, y3, y4⟩ := i3 y
    refine ⟨y1.cg (fun x h1 h2 => fI x (by omega)), ?_, by rw [fM0 80 (by decide)]; exact y3, y4⟩
    unfold StMx; rw [fJ 41 (by decide) (by omega)]; exact y2
end P9
