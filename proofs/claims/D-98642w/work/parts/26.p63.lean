/-! PURE LEVEL 63: the invariant over a heap that grows; person -/
section P20
variable {h g : HP} {I J : Nat → Nat → Int32} {L M : Nat → Nat → Int64} {c : Nat} {K : KT} {A : Nat → Nat → Nat} {w : Int32} {S : ST} {al nu : Int32} {D : Nat → Nat} {N : Nat → Nat → Int32} {sn : Nat} {kv : Int32} {kn : Nat} {U : Nat → R3} {im : Bool} {X : R3} {tp : Nat} {tb : Nat → Nat}
theorem ty54 (h : HP) {x : Nat} (hx : x < 54) : (gT (cV h) x).1 ≠ 0 := by
  rw [show gT (cV h) x = cT x from if_pos hx]
  unfold cT
  split <;> decide
theorem InvP.gro {h' : HP} {I' J' : Nat → Nat → Int32} (q : InvP h I J M c K A w S al nu D N sn kv kn U im X tp tb)
    (F1 : ∀ x, (gT (cV h) x).1 ≠ 0 → gT (cV h') x = gT (cV h) x) (F2 : ∀ x, (gT (cV h) x).1 ≠ 0 → x ≠ 2 → gR (cV h') x = gR (cV h) x) (f4 : Shp h')
    (fi : ∀ x, (gT (cV h) x).1 ≠ 0 → x ≠ 0 → x ≠ 2 → I' x = I x) (fi0 : ∀ k, k ≠ 2 → k ≠ 3 → I' 0 k = I 0 k)
    (mw : MW J' K) (fj : ∀ x, 29 ≤ x → J' x = J x) (fj1 : J' 1 = J 1) (fj2 : J' 2 = J 2) (fj0 : ∀ k, (k = 1 ∨ 52 ≤ k) → J' 0 k = J 0 k) (u : I' 0 2 = J' 0 4 ∧ I' 0 3 = J' 0 5) :
    InvP h' I' J' M c K A w S al nu D N sn kv kn U im X tp tb := by
  obtain ⟨⟨q1, q2, q3, q4, q5, q6⟩, ⟨n1, n2, n3, n4, n5, n6⟩, ⟨⟨k1, k2, k3, k4, k5⟩, k6, k7⟩, ⟨i1, i2, i3⟩, ⟨t1, t2, t3, t4⟩, ⟨u1, u2'⟩, sh⟩ := q
  have h54 := sh.1
  have fn : ∀ x, x < 54 → x ≠ 0 → x ≠ 2 → I' x = I x := fun x h1 h2 h3 => fi x (ty54 h h1) h2 h3
  have fx : hx h h' := ⟨F1, fun x t h2 _ _ => F2 x t h2⟩
  have fd : frD (cV h) I I' := by
    intro x hx
    have h0 : x ≠ 0 := fun e => by
      subst e
      rw [show gT (cV h) 0 = (2, 0) from rfl, show gT (cV h) (0 + 1) = (102, 700) from rfl] at hx; revert hx; decide
    have h2 : x ≠ 2 := fun e => by
      subst e
      rw [show gT (cV h) 2 = (3, 0) from rfl, show gT (cV h) (2 + 1) = (4, 0) from rfl] at hx; revert hx; decide
    refine fi x ?_ h0 h2
    rcases hx with e | ⟨e, -⟩ | e | e | e | e | e | e | e | e <;> (rw [e]; decide)
  have r35 : gR (cV h') 35 = gR (cV h) 35 := F2 35 (by show (107 : Nat) ≠ 0; decide) (by decide)
  have r42 : gR (cV h') 42 = gR (cV h) 42 := F2 42 (by show (104 : Nat) ≠ 0; decide) (by decide)
  refine ⟨⟨⟨⟨CW.hx fx ⟨q1.1.1.1, q1.1.1.2.1.frD fd, q1.1.1.2.2⟩, q1.1.2.cgo (fun x h1 h2 => fn x (by omega) (by omega) (by omega))⟩, ⟨mw, ?_⟩, q1.2.2⟩, by rw [fn 20 (by decide) (by decide) (by decide)]; exact q2, by rw [fj0 60 (by omega)]; exact q3, by rw [fn 20 (by decide) (by decide) (by decide)]; exact q4, q5, q6⟩, ⟨⟨by rw [fn 41 (by decide) (by decide) (by decide)]; exact n1.1, fun k hk => ?_⟩, ⟨by rw [fj0 71 (by omega)]; exact n2.1, fun k hk => by rw [fj 37 (by omega)]; exact n2.2 k hk⟩, n3, by rw [fi0 23 (by decide) (by decide)]; exact n4, by rw [fj0 72 (by omega)]; exact n5, n6⟩, ⟨⟨by rw [fi0 4 (by decide) (by decide)]; exact k1, k2, fun i hi => ?_, fun i hi b e => ?_, fun i j hi hj hij b e e' => ?_⟩, by rw [fj0 75 (by omega)]; exact k6, fun i hi => ?_⟩, ⟨by rw [fi0 14 (by decide) (by decide)]; exact i1, by rw [fj0 78 (by omega)]; exact i2, fun y => ?_⟩, ⟨by rw [fi0 1 (by decide) (by decide)]; exact t1, by rw [fj0 1 (by omega)]; exact t2, ⟨t3.1, by rw [fj2]; exact t3.2⟩, by rw [fn 1 (by decide) (by decide) (by decide), fj1]; exact t4⟩, u, f4⟩
  · have : StM J' 0 (zP K) S := by
      unfold StM
      rw [fj 29 (by decide), fj 30 (by decide), fj 31 (by decide), fj 32 (by decide), fj 33 (by decide)]; exact q1.2.1.2
    exact this
  · obtain ⟨m1, m2⟩ := n1.2 k hk
    refine ⟨by rw [r42]; exact m1, ?_⟩
    rcases m2 with ⟨a, b, c⟩ | ⟨a, b, c⟩
    · have b1 := big_14 (Or.inl b)
      have tn : (gT (cV h) (D k)).1 ≠ 0 := by rw [b]; decide
      rw [fi (D k) tn (by omega) (by omega), F1 _ tn]; exact Or.inl ⟨a, b, c⟩
    · have b1 := big_14 (Or.inr b)
      have tn : (gT (cV h) (D k)).1 ≠ 0 := by rw [b]; decide
      rw [fi (D k) tn (by omega) (by omega), F1 _ tn]; exact Or.inr ⟨a, b, c⟩
  · obtain ⟨b, b1, b2⟩ := k3 i hi
    obtain ⟨sb, b54⟩ := k4 i (by omega) b b1
    refine ⟨b, by rw [r35]; exact b1, b2.cg (fun x h1 h2 => fi x ?_ (by omega) (by omega))⟩
    rcases (show x = b ∨ x = b + 1 ∨ x = b + 2 ∨ x = b + 3 ∨ x = b + 4 by omega) with rfl | rfl | rfl | rfl | rfl
    · rw [sb.1]; decide
    · rw [sb.2.2.1]; decide
    · rw [sb.2.2.2.1]; decide
    · rw [sb.2.2.2.2.1]; decide
    · rw [sb.2.2.2.2.2]; decide
  · rw [r35] at e
    obtain ⟨sb, b54⟩ := k4 i (by omega) b e
    exact ⟨shS_hx fx sb, b54⟩
  · rw [r35] at e e'
    exact k5 i j hi hj hij b e e'
  · obtain ⟨z1, z2, z3⟩ := k7 i hi
    refine ⟨?_, z2, z3⟩
    unfold StMx; rw [fj 39 (by decide)]; exact z1
  · obtain ⟨y1, y2, y3, y4⟩ := i3 y
    refine ⟨y1.cg (fun x h1 h2 => fn x (by omega) (by omega) (by omega)), ?_, y3, y4⟩
    unfold StMx; rw [fj 41 (by decide)]; exact y2
/-- answers of a call that may throw (3, 4) and the model's thrown flag (1, 2) -/
def PX (h g : HP) (tc : Option ((Int32 ⊕ Nat × Nat) × HP)) (tm : Option (Int32 × HP)) : Prop := ∃ h' I' L' J' M', Inv h' I' J' M' ∧ gN h' ≤ gN h + 5 ∧ gS h' ≤ gS h + 40 ∧
  ((∃ r, tc = some (.inl r, hw h' I' L') ∧ tm = some (r, hw g J' M') ∧ J' 0 2 = 0) ∨ (tc = some (.inr (3, 0), hw h' I' L') ∧ tm = some (0, hw g J' M') ∧ J' 0 2 = 1) ∨ (tc = some (.inr (4, 0), hw h' I' L') ∧ tm = some (0, hw g J' M') ∧ J' 0 2 = 2))
theorem Inv.thr (q : Inv h I J M) (v : Int32) (m : Nat) : ∃ h' I' L', sA (hw h I L) (0, 0) m = hw h' I' L' ∧ Inv h' I' (u2 J 0 2 v) M ∧ gN h' = gN h + 1 ∧ gS h' = gS h + m := by
  have q0 := q.fr (frA.rfl I) (frB.u0 J (k := 2) v (by omega)) (frL2.rfl _ M)
  obtain ⟨c, K, A, w, S, al, nu, D, N, sn, kv, kn, U, im, X, tp, tb, p⟩ := q0.p
  have sh : Shp h := p.2.2.2.2.2.2
  have h54 := sh.1
  obtain ⟨H, hH, F, tH, fI, nN, nS, sH⟩ := nw_f I L 0 m sh
  have tn : ∀ x, (gT (cV h) x).1 ≠ 0 → x ≠ gN h := fun x t e => by
    rw [e, gTV h54] at t
    exact t (sh.2 _ (by omega))
  exact ⟨H, gI H, gL H, by rw [hH, ← hw_eta], (p.gro (fun x t => (F x (tn x t)).1) (fun x t _ => (F x (tn x t)).2) sH (fun x t _ _ => fI x (tn x t)) (fun k _ _ => by rw [fI 0 (by omega)]) p.1.1.2.1.1 (fun x _ => Eq.refl _) (Eq.refl _) (Eq.refl _) (fun k _ => Eq.refl _) (by rw [fI 0 (by omega)]; exact p.2.2.2.2.2.1)).inv, nN, nS⟩
theorem P_person (q : Inv h I J M) (x y : Int32) : PX h g (cA_person x y (hw h I L)) (m_person x y (hw g J M)) := by
  have q0 := q.fr (frA.rfl I) (frB.u0 J (k := 2) 0 (by omega)) (frL2.rfl _ M)
  have j2 : u2 J 0 2 (0 : Int32) 0 2 = 0 := u2_same _ _ _ _
  simp only [cA_person, m_person, m_fails, bnd_e, cal_s, onr_s, jon_e, gI_hw, gL_hw, gT_hw, gR_hw, gN_hw, sI_hw, sL_hw, cV_hw, shS_hw, shC_hw, shL_hw, ← bt_def]
  generalize u2 J 0 2 0 = J1 at q0 j2 ⊢
  obtain ⟨c, K, A, w, S, al, nu, D, N, sn, kv, kn, U, im, X, tp, tb, p⟩ := q0.p
  have W := p.1.1.1.1
  have V := p.1.1.2.1.1
  have hP := W.p5
  have sh : Shp h := p.2.2.2.2.2.2
  have sS := p.1.1.1.2
  have sM := p.1.1.2.1.2
  have out0 : ∀ r r' : Int32, r = r' → PX h g (some (.inl r, hw h I L)) (some (r', hw g J1 M)) := fun r r' e => by subst e; exact ⟨h, I, L, J1, M, q0, by omega, by omega, Or.inl ⟨r, rfl, rfl, j2⟩⟩
  simp only [ec_isPerson W, em_isPerson V, bnd_e, cal_s, onr_s, jon_e, gI_hw, gL_hw, gT_hw, gR_hw, gN_hw, sI_hw, sL_hw, cV_hw, shS_hw, shC_hw, shL_hw, ← bt_def, bI_eq0]
  cases zy : zin x (zP K) with
  | false =>
    simp only [eq_self, Bool.true_eq_false, if_true, if_false]
    rw [grd_pos sh.1]
    obtain ⟨h', I', L', e1, e2, e3, e4⟩ := q0.thr (L := L) 1 6
    rw [e1]
    exact ⟨h', I', L', _, M, e2, by omega, by omega, Or.inr (Or.inl ⟨rfl, rfl, u2_same _ _ _ _⟩)⟩
  | true =>
    simp only [eq_self, Bool.true_eq_false, if_true, if_false]
    obtain ⟨b, hb, rfl⟩ := zin_t (by omega) zy
    have cP := W.2.1.2.2.2.2.2.2.1 b hb
    have mP := V.1.2.2.2.1 b hb
    have s5 := sS.1 b hb
    have m5 := sM.1 b hb
    simp only [Nat.mul_zero, Nat.zero_add] at m5
    simp only [W.1, onr_some, grd_pos W.2.1.1, grd_pos W.2.1.2.1.2.1, ec_getP W hb, bnd_e, cal_s, onr_s, jon_e, gI_hw, gL_hw, gT_hw, gR_hw, gN_hw, sI_hw, sL_hw, cV_hw, shS_hw, shC_hw, shL_hw, ← bt_def, grd_pos cP.2.1, grd_pos (show inb (nn b) 10 from nn_inb (by omega) (by omega)), grd_pos (show inb (nn b) 5 from nn_inb (by omega) (by omega)), nn_clamp (show b < 2147483648 by omega)]
    by_cases z0 : y = 0
    · simp only [if_pos z0]; exact out0 _ _ (by rw [cP.2.2.2.1, mP.2.1])
    · simp only [if_neg z0]
      by_cases z1 : y = 1
      · simp only [if_pos z1]; exact out0 _ _ (by rw [cP.2.2.2.2.1, mP.2.2.1])
      · simp only [if_neg z1]
        by_cases z2 : y = 2
        · simp only [if_pos z2]; exact out0 _ _ (by rw [m5.2.1, ← s5.2.1]; rfl)
        · simp only [if_neg z2]
          by_cases z3 : y = 3
          · simp only [if_pos z3]; exact out0 _ _ (by rw [m5.1, ← s5.1])
          · simp only [if_neg z3]
            by_cases z4 : y = 4
            · simp only [if_pos z4]; exact out0 _ _ (by rw [m5.2.2.1, ← s5.2.2.1])
            · simp only [if_neg z4]
              by_cases z5 : y = 5
              · simp only [if_pos z5]; exact out0 _ _ (by rw [m5.2.2.2, ← s5.2.2.2])
              · simp only [if_neg z5]
                rw [grd_pos sh.1]
                obtain ⟨h', I', L', e1, e2, e3, e4⟩ := q0.thr (L := L) 2 6
                rw [e1]
                exact ⟨h', I', L', _, M, e2, by omega, by omega, Or.inr (Or.inr ⟨rfl, rfl, u2_same _ _ _ _⟩)⟩
end P20
