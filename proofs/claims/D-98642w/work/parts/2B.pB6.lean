set_option maxRecDepth 100000
/-! PURE LEVEL B6: text, whole -/
def PT (h g : HP) (tc tm : Option (Int32 × HP)) : Prop := ∃ r h' I' L' J' M', tc = some (r, hw h' I' L') ∧ tm = some (r, hw g J' M') ∧ Inv h' I' J' M' ∧ gN h' ≤ gN h + 800 ∧ gS h' ≤ gS h + 9000
section P59
variable {h h' g : HP} {I I' J J' : Nat → Nat → Int32} {L M : Nat → Nat → Int64} {c : Nat} {K : KT} {A : Nat → Nat → Nat} {w : Int32} {S : ST} {al nu : Int32} {D : Nat → Nat} {N : Nat → Nat → Int32} {sn : Nat} {kv : Int32} {kn : Nat} {U : Nat → R3} {im : Bool} {X : R3} {tp n : Nat} {tb : Nat → Nat}
def txI (I : Nat → Nat → Int32) : Nat → Nat → Int32 := u2 (u2 (u2 I 0 1 0) 0 2 0) 0 3 (-1)
def txJ (J : Nat → Nat → Int32) (n : Nat) : Nat → Nat → Int32 := u2 (u2 (u2 (u2 (u2 J 0 6 (nn n)) 0 1 0) 0 4 0) 0 5 (-1)) 0 7 0
theorem txI_v (I : Nat → Nat → Int32) : (∀ x, x ≠ 0 → txI I x = I x) ∧ (∀ k, k ≠ 1 → k ≠ 2 → k ≠ 3 → txI I 0 k = I 0 k) ∧ txI I 0 1 = 0 ∧ txI I 0 2 = 0 ∧ txI I 0 3 = -1 := by
  refine ⟨fun x hx => ?_, fun k h1 h2 h3 => ?_, rfl, rfl, rfl⟩
  · unfold txI; rw [u2_ne hx, u2_ne hx, u2_ne hx]
  · unfold txI; rw [u2_nk _ _ h3, u2_nk _ _ h2, u2_nk _ _ h1]
theorem txJ_v (J : Nat → Nat → Int32) (n : Nat) : (∀ x, x ≠ 0 → txJ J n x = J x) ∧ (∀ k, k ≠ 1 → (k < 4 ∨ 7 < k) → txJ J n 0 k = J 0 k) ∧ txJ J n 0 1 = 0 ∧ txJ J n 0 4 = 0 ∧ txJ J n 0 5 = -1 ∧ txJ J n 0 6 = nn n ∧ txJ J n 0 7 = 0 := by
  refine ⟨fun x hx => ?_, fun k h1 h2 => ?_, rfl, rfl, rfl, rfl, rfl⟩
  · unfold txJ; rw [u2_ne hx, u2_ne hx, u2_ne hx, u2_ne hx, u2_ne hx]
  · unfold txJ; rw [u2_nk _ _ (by omega), u2_nk _ _ (by omega), u2_nk _ _ (by omega), u2_nk _ _ (by omega), u2_nk _ _ (by omega)]
/-- a fault: all stays but the tape and the fault -/
theorem t_fail (p : InvP h I J M c K A w S al nu D N sn kv kn U im X tp tb) (e : EF0 h (txI I) h' I') (m : ML0 (txJ J n) J') (sh : Shp h') {v2 v3 : Int32} (e2 : v2 = J' 0 4) (e3 : v3 = J' 0 5) : Inv h' (u2 (u2 I' 0 2 v2) 0 3 v3) J' M := by
  obtain ⟨ix, i0, i01, i02, i03⟩ := txI_v I
  obtain ⟨jx, j0, j01, j04, j05, j06, j07⟩ := txJ_v J n
  have t1 := p.2.2.2.2.1
  have pT := p.tape (I' := u2 I 0 1 0) (J' := u2 J 0 1 0) (tp' := 0) (tb' := tb) ⟨fun x h0 _ => u2_ne h0, fun k hk => u2_nk _ _ hk⟩ ⟨fun x h0 _ => u2_ne h0, fun k hk => u2_nk _ _ hk⟩ ⟨u2_same _ _ _ _, u2_same _ _ _ _, ⟨by omega, by rw [u2_ne (by decide)]; exact t1.2.2.1.2⟩, fun i hi => by omega⟩
  have mw := p.1.1.2.1.1
  have mw' : MW J' K := mw.ml0 (fun x k h1 h2 h3 => by rw [m.2.1 x k h1 h2 h3, jx x (by omega)]) (fun k hk => by rw [m.2.2 k (by omega), j0 k (by omega) (by omega)])
  have e0 : I' 0 = txI I 0 := ((e.1 0 (by show (2 : Nat) ≠ 0; decide)).2 (by decide)).2
  refine (pT.gro (h' := h') (I' := u2 (u2 I' 0 2 v2) 0 3 v3) (J' := J') (fun x t => (e.1 x t).1) (fun x t h2 => ((e.1 x t).2 h2).1) sh (fun x t h0 h2 => ?_) (fun k h2 h3 => ?_) mw' (fun x hx => ?_) ?_ ?_ (fun k hk => ?_) ⟨?_, ?_⟩).inv
  · rw [u2_ne h0, u2_ne h0, ((e.1 x t).2 h2).2, ix x h0, u2_ne h0]
  · rw [u2_nk _ _ h3, u2_nk _ _ h2, e0]
    by_cases z : k = 1
    · subst z; rw [i01, u2_same]
    · rw [i0 k z h2 h3, u2_nk _ _ z]
  · rw [m.1 x (by omega), jx x (by omega), u2_ne (by omega)]
  · rw [m.1 1 (by omega), jx 1 (by omega), u2_ne (by omega)]
  · rw [m.1 2 (by omega), jx 2 (by omega), u2_ne (by omega)]
  · rw [m.2.2 k (by omega)]
    by_cases z : k = 1
    · subst z; rw [j01, u2_same]
    · rw [j0 k z (by omega), u2_nk _ _ z]
  · rw [u2_nk _ _ (by decide), u2_same]; exact e2
  · rw [u2_same]; exact e3
/-- a text that is taken -/
theorem t_take (p : InvP h I J M c K A w S al nu D N sn kv kn U im X tp tb) {h2 : HP} {I2 J2 : Nat → Nat → Int32} {L2 : Nat → Nat → Int64} {a2 c2 t2 ln2 : Nat} {K2 : KT} {A2 : Nat → Nat → Nat} (q : PSt h (txI I) (txJ J n) h2 I2 J2 n tb c2 a2 K2 A2 t2 ln2) :
    ∃ h3 I3 L3 J3 M3, cal (cS_begin 20 (hw (sR h2 0 6 (some c2)) I2 L2)) (fun r21 h22 => bnd (sI h22 0 4 (0 : Int32)) (fun h23 => bnd (sI h23 0 14 (0 : Int32)) (fun h26 => cal (cL_clear 41 h26) (fun r29 h30 => bnd (sI h30 0 23 (-1 : Int32)) (fun h31 => onr (gR (cV h31) 0 6) (fun b34 => grd (shC (cV h31) b34) (some ((.inl (gI h31 b34 11) : Int32 ⊕ Nat × Nat), h31)))))))) = some (.inl (nn ln2), hw h3 I3 L3) ∧ m_keepText (hw g J2 M) = some ((), hw g J3 M3) ∧ Inv h3 I3 J3 M3 ∧ gN h3 = gN h2 ∧ gS h3 = gS h2 := by
  obtain ⟨ix, i0, i01, i02, i03⟩ := txI_v I
  obtain ⟨jx, j0, j01, j04, j05, j06, j07⟩ := txJ_v J n
  obtain ⟨q1, ⟨q2, q3, q4⟩, -, -, q11, -, ⟨q13, -⟩, q14, q15⟩ := q
  have c54 := q1.2.2.2.2.2.1
  have sh2 : Shp h2 := q1.2.2.2.2.2.2
  -- the court in its place
  have cr : cV (sR h2 0 6 (some c2)) = sR (cV h2) 0 6 (some c2) := cV_sR rfl
  have ft5 : ∀ x, gT (cV (sR h2 0 6 (some c2))) x = gT (cV h2) x := fun x => rfl
  have fr5 : ∀ x, x ≠ 0 → gR (cV (sR h2 0 6 (some c2))) x = gR (cV h2) x := fun x hx => by rw [cr, gR_sR', u2_ne hx]
  have r06 : gR (cV (sR h2 0 6 (some c2))) 0 6 = some c2 := by rw [cr, gR_sR', u2_same]
  have sh5 : Shp (sR h2 0 6 (some c2)) := sh2
  have n5 : gN (sR h2 0 6 (some c2)) = gN h2 ∧ gS (sR h2 0 6 (some c2)) = gS h2 := ⟨rfl, rfl⟩
  generalize sR h2 0 6 (some c2) = h5 at cr ft5 fr5 r06 sh5 n5
  clear cr
  have cw5 : CW h5 I2 c2 K2 A2 := ⟨r06, q2.r0 c54 ft5 (fun x h0 _ => fr5 x h0), q4⟩
  obtain ⟨I6, e6, st6, fo6, v5, v6⟩ := ec_begin (L := L2) cw5 (sh20 h5)
  have iT : ∀ x, (gT (cV h) x).1 ≠ 0 → x ≠ 2 → I2 x = txI I x := fun x t h2 => ((q14.1 x t).2 h2).2
  have t54 : ∀ x, x < 54 → x ≠ 2 → I2 x = txI I x := fun x hx h2 => iT x (ty54 h hx) h2
  have e41 : (u2 (u2 I6 0 4 0) 0 14 0) 41 2 = nn sn := by
    rw [u2_ne (by decide), u2_ne (by decide), fo6 41 (by omega), t54 41 (by decide) (by decide), ix 41 (by decide)]; exact p.2.1.1.1
  have s24 : sn ≤ 24 := p.2.1.2.2.1.1
  obtain ⟨h7, e7, ft7, fr7, nN7, nS7, sh7⟩ := ec_clear (h := h5) (L := L2) s24 e41
  generalize hI8 : u2 (u2 (u2 (u2 (u2 I6 0 4 0) 0 14 0) 41 0 ((u2 (u2 I6 0 4 0) 0 14 0) 41 0 + 1)) 41 2 0) 0 23 (-1) = I8
  have x8 : ∀ x, x ≠ 0 → x ≠ 41 → I8 x = I6 x := fun x h0 h41 => by rw [← hI8, u2_ne h0, u2_ne h41, u2_ne h41, u2_ne h0, u2_ne h0]
  have z8 : ∀ k, k ≠ 4 → k ≠ 14 → k ≠ 23 → I8 0 k = I6 0 k := fun k h1 h2 h3 => by rw [← hI8, u2_nk _ _ h3, u2_ne (by decide), u2_ne (by decide), u2_nk _ _ h2, u2_nk _ _ h1]
  have f8 : ∀ x, x ≠ 0 → x ≠ 41 → (x < 20 ∨ 24 < x) → I8 x = I2 x := fun x h0 h41 hx => by rw [x8 x h0 h41, fo6 x (by omega)]
  have ft : ∀ x, gT (cV h7) x = gT (cV h2) x := fun x => (ft7 x).trans (ft5 x)
  have fr : ∀ x, x ≠ 0 → x ≠ 42 → gR (cV h7) x = gR (cV h2) x := fun x h0 h42 => (fr7 x h42).trans (fr5 x h0)
  have r7 : gR (cV h7) 0 6 = some c2 := by rw [fr7 0 (by decide)]; exact r06
  have fd : frD (cV h7) I2 I8 := fun x hx => by
    refine f8 x (fun e => ?_) (fun e => ?_) ?_
    · subst e; rw [show gT (cV h7) 0 = (2, 0) from rfl, show gT (cV h7) (0 + 1) = (102, 700) from rfl] at hx; revert hx; decide
    · subst e; rw [show gT (cV h7) 41 = (5, 0) from rfl, show gT (cV h7) (41 + 1) = (104, 24) from rfl] at hx; revert hx; decide
    · by_cases z : x < 20 ∨ 24 < x
      · exact z
      · exfalso
        rcases (show x = 20 ∨ x = 21 ∨ x = 22 ∨ x = 23 ∨ x = 24 by omega) with rfl | rfl | rfl | rfl | rfl
        · rw [show gT (cV h7) 20 = (6, 0) from rfl, show gT (cV h7) (20 + 1) = (100, 5) from rfl] at hx; revert hx; decide
        · rw [show gT (cV h7) 21 = (100, 5) from rfl, show gT (cV h7) (21 + 1) = (100, 5) from rfl] at hx; revert hx; decide
        · rw [show gT (cV h7) 22 = (100, 5) from rfl, show gT (cV h7) (22 + 1) = (100, 5) from rfl] at hx; revert hx; decide
        · rw [show gT (cV h7) 23 = (100, 5) from rfl, show gT (cV h7) (23 + 1) = (100, 5) from rfl] at hx; revert hx; decide
        · rw [show gT (cV h7) 24 = (100, 5) from rfl, show gT (cV h7) (24 + 1) = (6, 0) from rfl] at hx; revert hx; decide
  have cc7 : CC (cV h7) I8 c2 K2 A2 := (q2.r0 c54 ft fr).frD fd
  obtain ⟨J3, M3, e3, mw3, sm3, ⟨w60, w61, w71, w72, w75, w78⟩, g0, g1, g2⟩ := em_keep (g := g) (M := M) q3 q4
  have i11 : I8 c2 11 = nn ln2 := by rw [f8 c2 (by omega) (by omega) (by omega)]; exact q11
  refine ⟨h7, I8, L2, J3, M3, ?_, e3, ?_, nN7.trans n5.1, nS7.trans n5.2⟩
  · rw [e6, cal_s, bnd_e, sI_hw, bnd_e, sI_hw, e7, cal_s, bnd_e, sI_hw, hI8, show gR (cV (hw h7 I8 L2)) 0 6 = some c2 from r7, onr_some, grd_pos (show shC (cV (hw h7 I8 L2)) c2 from cc7.1), gI_hw, i11]
  · have k4 := p.2.2.1.1.2.2.2.1
    have k5 := p.2.2.1.1.2.2.2.2
    have r35 : gR (cV h7) 35 = gR (cV h) 35 := by rw [fr 35 (by decide) (by decide)]; exact ((q14.1 35 (ty54 h (by decide))).2 (by decide)).1
    have nn0' : ¬ zt K2 0 1 < 0 := q4.2.2.2.2
    refine ⟨c2, K2, A2, I2 20 8, zbeg K2, 0, zt K2 0 1, D, N, 0, -1, 0, U, false, X, 0, tb, ⟨⟨⟨⟨r7, cc7, q4⟩, ?_⟩, ⟨mw3, sm3⟩, fun p hp => q4.2.1 p hp⟩, ?_, w60, ?_, w61, nn0'⟩, ⟨⟨?_, fun k hk => absurd hk (Nat.not_lt_zero k)⟩, ⟨w71, fun k hk => absurd hk (Nat.not_lt_zero k)⟩, ⟨by omega, fun k hk => absurd hk (Nat.not_lt_zero k)⟩, ?_, w72, Or.inl rfl⟩, ⟨⟨?_, by omega, fun i hi => absurd hi (Nat.not_lt_zero i), fun i hi b e => ?_, fun i j hi hj hij b e e' => ?_⟩, w75, fun i hi => absurd hi (Nat.not_lt_zero i)⟩, ⟨?_, w78, fun e => Bool.noConfusion e⟩, ⟨?_, ?_, ⟨by omega, ?_⟩, fun i hi => absurd hi (Nat.not_lt_zero i)⟩, ⟨?_, ?_⟩, sh7 sh5⟩
    · exact st6.cgo (fun x h1 h2 => x8 x (by omega) (by omega))
    · rw [x8 20 (by decide) (by decide)]; exact v5
    · rw [x8 20 (by decide) (by decide)]; exact v6
    · rw [← hI8, u2_ne (by decide), u2_same]; rfl
    · rw [← hI8, u2_same]
    · rw [← hI8, u2_nk _ _ (by decide), u2_ne (by decide), u2_ne (by decide), u2_nk _ _ (by decide), u2_same]; rfl
    · rw [r35] at e
      obtain ⟨s1, s2⟩ := k4 i hi b e
      refine ⟨shS_c s2 (fun x t => by rw [ft]; exact (q14.1 x t).1) (fun x t h54 => ?_) s1, s2⟩
      rw [fr x (by omega) (by omega)]; exact ((q14.1 x t).2 (by omega)).1
    · rw [r35] at e e'
      exact k5 i j hi hj hij b e e'
    · rw [← hI8, u2_nk _ _ (by decide), u2_ne (by decide), u2_ne (by decide), u2_same]; rfl
    · rw [z8 1 (by decide) (by decide) (by decide), fo6 0 (by omega), t54 0 (by decide) (by decide)]; exact i01
    · rw [g0 1 (by omega), q15.2.2 1 (by omega)]; exact j01
    · rw [g2]; exact q1.1.2
    · rw [z8 2 (by decide) (by decide) (by decide), fo6 0 (by omega), t54 0 (by decide) (by decide), i02, g0 4 (by omega)]; exact q1.2.1.2.2.2.2.2.1.symm
    · rw [z8 3 (by decide) (by decide) (by decide), fo6 0 (by omega), t54 0 (by decide) (by decide), i03, g0 5 (by omega)]; exact q1.2.1.2.2.2.2.2.2.symm
theorem P_text (q : Inv h I J M) (x : Int32) : PT h g (cA_text x (hw h I L)) (m_text x (hw g J M)) := by
  have q0 := q.fr (frA.rfl I) (frB.u0 J (k := 2) 0 (by omega)) (frL2.rfl _ M)
  rw [cA_text, cA_textX, m_text, bnd_e, sI_hw]
  generalize u2 J 0 2 0 = J1 at q0 ⊢
  obtain ⟨c, K, A, w, S, al, nu, D, N, sn, kv, kn, U, im, X, tp, tb, p⟩ := q0.p
  obtain ⟨t1, t2, ⟨t3, tw⟩, t4⟩ := p.2.2.2.2.1
  have sh : Shp h := p.2.2.2.2.2.2
  have h54 := sh.1
  have out0 : PT h g (unx (some ((.inl (-2) : Int32 ⊕ Nat × Nat), hw h I L))) (some (-2, hw g J1 M)) := ⟨-2, h, I, L, J1, M, rfl, rfl, q0, by omega, by omega⟩
  rw [show (0 : Int64) = (0 : Int32).toInt64 from rfl, ec_in, cal_s, gI_hw, t1]
  by_cases z : ¬ x < 0 ∧ ¬ nn tp < x
  case neg =>
    rw [decide_eq_false z, if_pos (by rfl)]
    by_cases y : x < 0
    · rw [if_pos y]; exact out0
    · rw [if_neg y, gI_hw, t2, if_neg (fun e => z ⟨y, Int32.not_lt.mpr e⟩)]; exact out0
  obtain ⟨n, hn, rfl⟩ : ∃ n, n < tp + 1 ∧ x = nn n := nn_of (by omega) z.1 (Int32.lt_of_le_of_lt (Int32.not_lt.mp z.2) ((nn_lt (by omega) (by omega)).mpr (by omega)))
  rw [decide_eq_true z, if_neg (by decide), if_neg z.1, gI_hw, t2, if_pos (Int32.not_lt.mp z.2)]
  obtain ⟨ix, i0, i01, i02, i03⟩ := txI_v I
  obtain ⟨jx, j0, j01, j04, j05, j06, j07⟩ := txJ_v J1 n
  have eI : sI (sI (sI (hw h I L) 0 1 0) 0 2 0) 0 3 (-1) = hw h (txI I) L := rfl
  have eJ : sI (sI (sI (sI (sI (hw g J1 M) 0 6 (nn n)) 0 1 0) 0 4 0) 0 5 (-1)) 0 7 0 = hw g (txJ J1 n) M := rfl
  have T : LxT (txI I) (txJ J1 n) n tb := ⟨by omega, fun i hi => by rw [ix 1 (by decide), jx 1 (by decide)]; exact t4 i (by omega)⟩
  obtain ⟨h2, eh, hc⟩ := t_heap (I := rdI (txI I) n) (L := L) sh
  obtain ⟨I3, J3, a3, n1, n2, q3⟩ := t_start (g := g) (M := M) sh T (by rw [jx 2 (by decide)]; exact tw) j06 j07 j04 j05 hc
  have mm := mu_le n a3 (I3 2 3)
  have N2 := hc.2.2.2.2.2.2.2.2.1
  have S2 := hc.2.2.2.2.2.2.2.2.2
  have rd0 : cR_read (nn n) (hw h (txI I) L) = cR_read_35 (fun (h25 : HP) => onr (gR (cV h25) 2 7) (fun b26 => some (.inl b26, h25))) FU (hw h2 I3 (gL h2)) := by
    rw [cR_read]
    simp only [bnd_e, sI_hw]
    rw [show u2 (u2 (u2 (u2 (txI I) 2 0 0) 2 1 (nn n)) 2 5 0) 2 6 0 = rdI (txI I) n from rfl, gN_hw, grd_pos h54, ec_cinit (H := hw h (rdI (txI I) n) L) (n := gN h) rfl h54, cal_s, eh, n1, cal_s]
  simp only [bnd_e, eI, eJ, em_plainR, cal_s, n2, rd0]
  rcases r_loop (g := g) (M := M) (fun (h25 : HP) => onr (gR (cV h25) 2 7) (fun b26 => some ((.inl b26 : Nat ⊕ Nat × Nat), h25))) (fun (x15 : Int32) (h16 : HP) => cal (m_keepText h16) (fun r17 h18 => some (x15, h18))) (mu n a3 (I3 2 3)) h2 I3 J3 (gL h2) a3 K0 (fun _ _ => 0) 0 0 FU q3 (Nat.le_refl _) (by show _ < 1000; omega) with ⟨J4, ⟨h4, I4, L4, y, J4', r1, r2, r3, r4, r5, r6, r7, r8, r9, r10⟩, e4⟩ | ⟨h4, I4, L4, J4, a4, K4, A4, t4', ln4, e3, e4, q4, b3, b4⟩
  · rw [nn0] at e4
    have r2 : hw g J4 M = hw g J4' M := congrArg Prod.snd (Option.some.inj r2)
    have rJ : J4 = J4' := congrArg gI r2
    rw [r1, e4]
    rw [← rJ] at r4 r5 r7
    refine ⟨-1, h4, u2 (u2 I4 0 2 (I4 y 6)) 0 3 (I4 y 7), L4, J4, M, ?_, rfl, t_fail p r6 r7 r8 r4 r5, by omega, by omega⟩
    have y0 : y ≠ 0 := fun e => by rw [e] at r3; revert r3; show ¬ ((2, 0) : Nat × Nat) = (20, 0); decide
    show unx (if 1 = 1 then grd ((gT (cV (hw h4 I4 L4)) y).1 = 20) (some ((.inl (-1) : Int32 ⊕ Nat × Nat), sI (sI (hw h4 I4 L4) 0 2 (gI (hw h4 I4 L4) y 6)) 0 3 (gI (sI (hw h4 I4 L4) 0 2 (gI (hw h4 I4 L4) y 6)) y 7))) else none) = _
    rw [if_pos rfl, grd_pos (show (gT (cV (hw h4 I4 L4)) y).1 = 20 by rw [cV_hw, gT_hw, r3]), sI_hw, sI_hw, gI_hw, gI_hw, u2_ne y0]
    rfl
  · rw [nn0] at e4
    obtain ⟨h5, I5, L5, J5, M5, e5, e6, inv, nN, nS⟩ := t_take (g := g) (L2 := L4) p q4
    rw [e3, e4, show gR (cV (hw h4 I4 L4)) 2 7 = some (gN h) from q4.1.2.2.2.1, onr_some, e6, cal_s]
    refine ⟨nn ln4, h5, I5, L5, J5, M5, ?_, rfl, inv, by omega, by omega⟩
    exact congrArg unx e5
end P59
