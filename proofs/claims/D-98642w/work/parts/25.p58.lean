/-! PURE LEVEL 58: notes grow by one -/
/-- the court's own cells, but not the list of notes -/
def frD (g : HP) (I I' : Nat → Nat → Int32) : Prop := ∀ x, (gT g x).1 = 4 ∨ ((gT g x).1 = 5 ∧ ¬ (gT g (x + 1)).2 = 24) ∨ (gT g x).1 = 7 ∨ (gT g x).1 = 8 ∨ (gT g x).1 = 9 ∨ (gT g x).1 = 10 ∨ (gT g x).1 = 11 ∨ (gT g x).1 = 12 ∨ (gT g x).1 = 13 ∨ gT g x = (100, 10) → I' x = I x
theorem frD.k {g : HP} {I I' : Nat → Nat → Int32} (f : frD g I I') {x t : Nat} (ht : (gT g x).1 = t) (h1 : t = 4 ∨ t = 7 ∨ t = 8 ∨ t = 9 ∨ t = 10 ∨ t = 11 ∨ t = 12 ∨ t = 13) : I' x = I x := f x (by omega)
theorem PDn.frD {g : HP} {I I' : Nat → Nat → Int32} (f : frD g I I') : ∀ (d p : Nat) (l : LF), PDn g I d p l → PDn g I' d p l
  | 0, _, _, q => q.elim
  | d + 1, p, l, q => by
    rcases q with ⟨t, q⟩ | ⟨t, q1, q⟩ | ⟨t, a, fa, q1, q2, q⟩ | ⟨t, a, b, fa, fb, q1, q2, q3, q4, q⟩
    · exact Or.inl ⟨t, by rw [f.k t (by omega)]; exact q⟩
    · exact Or.inr (Or.inl ⟨t, by rw [f.k t (by omega)]; exact ⟨q1, q⟩⟩)
    · exact Or.inr (Or.inr (Or.inl ⟨t, a, fa, q1, PDn.frD f d a fa q2, q⟩))
    · exact Or.inr (Or.inr (Or.inr ⟨t, a, b, fa, fb, q1, q2, PDn.frD f d a fa q3, PDn.frD f d b fb q4, by rw [f.k t (by omega)]; exact q⟩))
theorem CC.frD {g : HP} {I I' : Nat → Nat → Int32} {c : Nat} {K : KT} {A : Nat → Nat → Nat} (f : frD g I I') (q : CC g I c K A) : CC g I' c K A := by
  obtain ⟨w2, ⟨w3, w4, w5⟩, w6, ⟨w7, w8, w9⟩, ⟨w10, w11, w12, w13⟩, w14, w15, w16, w17, w18⟩ := q
  have fc : I' c = I c := f.k (t := 4) (by rw [w2.1]) (by omega)
  have f1 : I' (c + 1) = I (c + 1) := f (c + 1) (Or.inr (Or.inl ⟨by rw [w3.1], by rw [show c + 1 + 1 = c + 2 from rfl, w6.1]; decide⟩))
  have f3 : I' (c + 3) = I (c + 3) := f (c + 3) (Or.inr (Or.inl ⟨by rw [w4.1], by rw [show c + 3 + 1 = c + 4 from rfl, w6.2.1]; decide⟩))
  have f5 : I' (c + 5) = I (c + 5) := f (c + 5) (Or.inr (Or.inl ⟨by rw [w5.1], by rw [show c + 5 + 1 = c + 6 from rfl, w6.2.2]; decide⟩))
  have hh : ∀ x, gT g x = (100, 10) → I' x = I x := fun x hx => f x (Or.inr (Or.inr (Or.inr (Or.inr (Or.inr (Or.inr (Or.inr (Or.inr (Or.inr hx)))))))))
  refine ⟨w2, ⟨w3, w4, w5⟩, w6, by rw [f1, f3, f5]; exact ⟨w7, w8, w9⟩, by rw [fc]; exact ⟨w10, w11, w12, w13⟩, fun k hk => ?_, fun k hk => ?_, fun k hk => ?_, fun k hk => by rw [hh _ w2.2.2.1, hh _ w2.2.2.2.1, hh _ w2.2.2.2.2.1]; exact w17 k hk, fun j hj => ?_⟩
  · have q := w14 k hk
    rw [f.k q.2.1 (by omega)]; exact q
  · have q := w15 k hk
    rw [f.k q.2.1 (by omega)]; exact q
  · have q := w16 k hk
    rw [f.k q.2.1 (by omega)]; exact q
  · have q := w18 j hj
    unfold CL at q ⊢
    split at q
    · exact q
    · obtain ⟨p, q1, q2⟩ := q
      exact ⟨p, q1, PDn.frD f _ _ _ q2⟩
section P16
variable {h g : HP} {I J : Nat → Nat → Int32} {L M : Nat → Nat → Int64} {c : Nat} {K : KT} {A : Nat → Nat → Nat} {w : Int32} {S : ST} {al nu : Int32} {D : Nat → Nat} {N : Nat → Nat → Int32} {sn : Nat} {kv : Int32} {kn : Nat} {U : Nat → R3} {im : Bool} {X : R3} {tp : Nat} {tb : Nat → Nat}
/-- a heap h' with one more note at b = gN h; ints changed only at 41 and at b -/
theorem InvP.add {h' : HP} {I' J' : Nat → Nat → Int32} {v : Nat → Int32} (q : InvP h I J M c K A w S al nu D N sn kv kn U im X tp tb) (hs : sn < 24)
    (f1 : ∀ x, x ≠ gN h → gT (cV h') x = gT (cV h) x) (f2 : ∀ x, x ≠ gN h → x ≠ 42 → gR (cV h') x = gR (cV h) x) (f3 : ∀ k, gR (cV h') 42 k = if k = sn then some (gN h) else gR (cV h) 42 k) (f4 : Shp h')
    (fi : ∀ x, x ≠ 41 → x ≠ gN h → I' x = I x) (f41 : I' 41 2 = nn (sn + 1))
    (fj : ∀ x, x ≠ 0 → x ≠ 37 → J' x = J x) (fj0 : ∀ k, k ≠ 71 → J' 0 k = J 0 k) (j71 : J' 0 71 = nn (sn + 1)) (j37 : ∀ k, k < 4 * sn → J' 37 k = J 37 k) (jv : J' 37 (4 * sn) = v 0 ∧ J' 37 (4 * sn + 1) = v 1 ∧ J' 37 (4 * sn + 2) = v 2 ∧ J' 37 (4 * sn + 3) = v 3)
    (nt : (¬ v 0 = -1 ∧ (gT (cV h') (gN h)).1 = 14 ∧ I' (gN h) 0 = v 0 ∧ I' (gN h) 1 = v 1 ∧ I' (gN h) 2 = v 2 ∧ I' (gN h) 3 = v 3) ∨ (v 0 = -1 ∧ (gT (cV h') (gN h)).1 = 15 ∧ I' (gN h) 0 = v 1))
    (wn : (∃ t p, t ≤ zT K ∧ p < zP K ∧ v 0 = nn t ∧ v 1 = nn p ∧ isB (v 3)) ∨ (v 0 = -1 ∧ ∃ x, x < sn ∧ v 1 = nn x)) :
    InvP h' I' J' M c K A w S al nu (fun k => if k = sn then gN h else D k) (fun k => if k = sn then v else N k) (sn + 1) kv kn U im X tp tb := by
  obtain ⟨⟨q1, q2, q3, q4, q5, q6⟩, ⟨n1, n2, n3, n4, n5, n6⟩, ⟨⟨k1, k2, k3, k4, k5⟩, k6, k7⟩, ⟨i1, i2, i3⟩, ⟨t1, t2, t3, t4⟩, ⟨u1, u2'⟩, sh⟩ := q
  have h54 := sh.1
  have fn : ∀ x, x < 54 → x ≠ 41 → I' x = I x := fun x h1 h2 => fi x h2 (by omega)
  have tn : ∀ x, (gT (cV h) x).1 ≠ 0 → x ≠ gN h := fun x t e => by
    rw [e, gTV h54] at t
    exact t (sh.2 _ (by omega))
  have fx : hx h h' := ⟨fun x t => f1 x (tn x t), fun x t _ _ h2 => f2 x (tn x t) h2⟩
  have fd : frD (cV h) I I' := by
    intro x hx
    have h41 : x ≠ 41 := fun e => by
      subst e
      rw [show gT (cV h) 41 = (5, 0) from rfl, show gT (cV h) (41 + 1) = (104, 24) from rfl] at hx; revert hx; decide
    refine fi x h41 (tn x ?_)
    rcases hx with e | ⟨e, -⟩ | e | e | e | e | e | e | e | e <;> (rw [e]; decide)
  refine ⟨⟨⟨⟨CW.hx fx ⟨q1.1.1.1, q1.1.1.2.1.frD fd, q1.1.1.2.2⟩, q1.1.2.cgo (fun x h1 h2 => fn x (by omega) (by omega))⟩, ⟨q1.2.1.1.cg (fun x h1 h2 => fj x (by omega) (by omega)) (fun k h1 h2 => fj0 k (by omega)), ?_⟩, q1.2.2⟩, by rw [fn 20 (by decide) (by decide)]; exact q2, by rw [fj0 60 (by decide)]; exact q3, by rw [fn 20 (by decide) (by decide)]; exact q4, q5, q6⟩, ⟨⟨f41, fun k hk => ?_⟩, ⟨j71, fun k hk => ?_⟩, ⟨by omega, fun k hk => ?_⟩, by rw [fn 0 (by decide) (by decide)]; exact n4, by rw [fj0 72 (by decide)]; exact n5, ?_⟩, ⟨⟨by rw [fn 0 (by decide) (by decide)]; exact k1, k2, fun i hi => ?_, fun i hi b e => ?_, fun i j hi hj hij b e e' => ?_⟩, by rw [fj0 75 (by decide)]; exact k6, fun i hi => ?_⟩, ⟨by rw [fn 0 (by decide) (by decide)]; exact i1, by rw [fj0 78 (by decide)]; exact i2, fun y => ?_⟩, ⟨by rw [fn 0 (by decide) (by decide)]; exact t1, by rw [fj0 1 (by decide)]; exact t2, ⟨t3.1, by rw [fj 2 (by decide) (by decide)]; exact t3.2⟩, by rw [fn 1 (by decide) (by decide), fj 1 (by decide) (by decide)]; exact t4⟩, ⟨by rw [fn 0 (by decide) (by decide), fj0 4 (by decide)]; exact u1, by rw [fn 0 (by decide) (by decide), fj0 5 (by decide)]; exact u2'⟩, f4⟩
  · have : StM J' 0 (zP K) S := by
      unfold StM
      rw [fj 29 (by decide) (by decide), fj 30 (by decide) (by decide), fj 31 (by decide) (by decide), fj 32 (by decide) (by decide), fj 33 (by decide) (by decide)]; exact q1.2.1.2
    exact this
  · simp only []
    rw [f3]
    by_cases z : k = sn
    · rw [if_pos z, if_pos z, if_pos z]
      exact ⟨rfl, nt⟩
    · rw [if_neg z, if_neg z, if_neg z]
      obtain ⟨m1, m2⟩ := n1.2 k (by omega)
      refine ⟨m1, ?_⟩
      rcases m2 with ⟨a, b, c⟩ | ⟨a, b, c⟩
      · have b1 := big_14 (Or.inl b)
        have b2 := tn (D k) (by rw [b]; decide)
        rw [fi (D k) (by omega) b2, f1 _ b2]; exact Or.inl ⟨a, b, c⟩
      · have b1 := big_14 (Or.inr b)
        have b2 := tn (D k) (by rw [b]; decide)
        rw [fi (D k) (by omega) b2, f1 _ b2]; exact Or.inr ⟨a, b, c⟩
  · simp only []
    by_cases z : k = sn
    · rw [if_pos z, z]; exact jv
    · rw [if_neg z, j37 _ (by omega), j37 _ (by omega), j37 _ (by omega), j37 _ (by omega)]; exact n2.2 k (by omega)
  · simp only []
    by_cases z : k = sn
    · rw [if_pos z, z]; exact wn
    · rw [if_neg z]; exact n3.2 k (by omega)
  · rcases n6 with e | ⟨x, hx, e⟩
    · exact Or.inl e
    · exact Or.inr ⟨x, by omega, e⟩
  · obtain ⟨b, b1, b2⟩ := k3 i hi
    obtain ⟨sb, b54⟩ := k4 i (by omega) b b1
    have := sh.lt (x := b + 4) (by omega) (by rw [sb.2.2.2.2.2]; decide)
    exact ⟨b, by rw [f2 35 (by omega) (by decide)]; exact b1, b2.cg (fun x h1 h2 => fi x (by omega) (by omega))⟩
  · rw [f2 35 (by omega) (by decide)] at e
    obtain ⟨sb, b54⟩ := k4 i hi b e
    exact ⟨shS_hx fx sb, b54⟩
  · rw [f2 35 (by omega) (by decide)] at e e'
    exact k5 i j hi hj hij b e e'
  · obtain ⟨z1, z2, z3⟩ := k7 i hi
    refine ⟨?_, z2, z3⟩
    unfold StMx; rw [fj 39 (by decide) (by decide)]; exact z1
  · obtain ⟨y1, y2, y3, y4⟩ := i3 y
    refine ⟨y1.cg (fun x h1 h2 => fn x (by omega) (by omega)), ?_, y3, y4⟩
    unfold StMx; rw [fj 41 (by decide) (by decide)]; exact y2
end P16
