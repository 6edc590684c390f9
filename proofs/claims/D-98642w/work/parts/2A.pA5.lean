set_option maxRecDepth 100000
/-! PURE LEVEL A5: lines: talk, laws -/
def lnL (j : HP → Option ((Unit ⊕ Nat × Nat) × HP)) (h14 : HP) : Option ((Unit ⊕ Nat × Nat) × HP) := cal (cR_isWord (13 : Int32) (14 : Int32) h14) (fun r77 h78 => if r77 = 0 then wrC Unit 1 h78 else (bnd ((gI h78 2 4) - (13 : Int32)) (fun x82 => onr (gR (cV h78) 2 7) (fun b83 => grd (shC (cV h78) b83) (grd (inb x82 2) (if gR (cV h78) (b83 + 10) (x82).toNatClampNeg = none then (cal (cR_next h78) (fun r86 h87 => onr (gR (cV h87) 2 7) (fun b88 => grd (shC (cV h87) b88) (calx (cR_or (cR_notN 100) h87) (fun r91 h92 => grd ((gT (cV h92) (b88 + 10)).1 = 105) (grd (cRs (b88 + 10) (x82).toNatClampNeg = none) (grd ((gT (cV h92) r91).1 = 10 ∨ (gT (cV h92) r91).1 = 11 ∨ (gT (cV h92) r91).1 = 12 ∨ (gT (cV h92) r91).1 = 13) (grd (inb x82 (gT (cV h92) (b88 + 10)).2) (bnd (sR h92 (b88 + 10) (x82).toNatClampNeg (some r91)) (fun h95 => j h95)))))))))) else wrC Unit 3 h78))))))
def lmL2 (k5 : Int32 → HP → Option (Int32 × HP)) (h48 : HP) : Option (Int32 × HP) := bnd (((2 : Int32) + (gI h48 0 9)) - (13 : Int32)) (fun x49 => grd (inb x49 4) (if (gI h48 19 (x49).toNatClampNeg) = 0 then (grd (inb x49 4) (bnd (sI h48 19 (x49).toNatClampNeg (1 : Int32)) (fun h50 => cal (m_token h50) (fun r51 h52 => grd (inb x49 4) (bnd (sI h52 20 (x49).toNatClampNeg (gI h52 0 21)) (fun h53 => cal (m_sumRead h53) (fun r54 h55 => bnd r54 (fun x56 => grd (inb x49 4) (bnd (sI h55 21 (x49).toNatClampNeg (gI h55 0 21)) (fun h57 => k5 x56 h57)))))))))) else (cal (m_wrong (3 : Int32) h48) (fun r58 h59 => grd (isB r58) (some (r58, h59))))))
def lmL (k5 : Int32 → HP → Option (Int32 × HP)) (h44 : HP) : Option (Int32 × HP) := cal (m_isKey (13 : Int32) h44) (fun r45 h46 => if r45 = 0 then (cal (m_isKey (14 : Int32) h46) (fun r61 h62 => if r61 = 0 then (cal (m_wrong (1 : Int32) h62) (fun r63 h64 => grd (isB r63) (some (r63, h64)))) else (lmL2 k5 h62))) else (lmL2 k5 h46))
section P50
variable {h0 h h' g : HP} {I0 J0 I I' J J' : Nat → Nat → Int32} {L M : Nat → Nat → Int64} {n : Nat} {tb : Nat → Nat} {a a' c kr : Nat} {K : KT} {A : Nat → Nat → Nat} {t ln : Nat} {S U : Nat → Prop} {j : HP → Option ((Unit ⊕ Nat × Nat) × HP)}
theorem b_talk (q : PSt h0 I0 J0 h I J n tb c a K A t ln) (z8 : zT K < 10) : BR g M h0 I0 J0 n tb c h (mu n a (I 2 3)) t ln j (calx (cR_talk (hw h I L)) (fun _ h49 => j h49)) (lmT (hw g J M)) := by
  have rd := q.1
  have c2 := rd.c2
  have c54 := rd.2.2.2.2.2.1
  have cc := q.2.1.1
  have mr := q.2.1.2.1
  have sh0 : Shp h0 := q.2.2.2.2.2.2.1.2
  have sh : Shp h := rd.2.2.2.2.2.2
  have gc : gN h0 ≤ c := q.2.2.2.2.2.2.1.1
  have e18 : J 0 18 = nn (zP K) := mr.1.2.1
  have e19 : J 0 19 = nn (zQ K) := mr.1.2.2.1
  have e20 : J 0 20 = nn (zT K) := mr.1.2.2.2.1
  have P5 : zP K ≤ 5 := q.2.1.2.2.1.2.1
  have Q8 : zQ K ≤ 8 := q.2.1.2.2.1.2.2.1
  have m0 := mu_le n a (I 2 3)
  have ix : (10 : Int32) + nn (zT K) = nn (10 + zT K) := nn_add 10 _
  have inx : inb (nn (10 + zT K)) 20 := nn_inb (by omega) (by omega)
  have cx : (nn (10 + zT K)).toNatClampNeg = 10 + zT K := nn_clamp (by omega)
  have ct : (nn (zT K)).toNatClampNeg = zT K := nn_clamp (by omega)
  have r27 : ∀ I, gR (cV (hw h I L)) 2 7 = some c := fun I => rd.2.2.2.1
  have sC : ∀ I, shC (cV (hw h I L)) c := fun I => rd.2.2.2.2.1
  have i10 : inb (nn (zT K)) 10 := nn_inb (by omega) (by omega)
  have t9 : gT (cV h) (c + 9) = (100, 10) := cc.1.2.2.2.2.1
  have un : cR_talk (hw h I L) = calx (cR_ahead (c + 3) (hw h I L)) (fun r8 h9 => onr (gR (cV h9) 2 7) (fun b11 => grd (shC (cV h9) b11) (calx (cR_atHand (b11 + 3) h9) (fun r14 h15 => if r8 = r14 then wrC Unit 5 h15 else (cal (cR_next h15) (fun r20 h21 => onr (gR (cV h21) 2 7) (fun b22 => grd (shC (cV h21) b22) (grd (inb (nn (zT K)) 10) (bnd (sI h21 (b22 + 7) (nn (zT K)).toNatClampNeg r8) (fun h25 => onr (gR (cV h25) 2 7) (fun b28 => grd (shC (cV h25) b28) (grd (inb (nn (zT K)) 10) (bnd (sI h25 (b28 + 8) (nn (zT K)).toNatClampNeg r14) (fun h31 => onr (gR (cV h31) 2 7) (fun b34 => grd (shC (cV h31) b34) (onr (gR (cV h31) 2 7) (fun b37 => grd (shC (cV h31) b37) (calx (cR_ahead (b37 + 5) h31) (fun r40 h41 => grd ((gT (cV h41) (b34 + 9)).1 = 100) (grd (inb (nn (zT K)) (gT (cV h41) (b34 + 9)).2) (bnd (sI h41 (b34 + 9) (nn (zT K)).toNatClampNeg r40) (fun h43 => onr (gR (cV h43) 2 7) (fun b46 => grd (shC (cV h43) b46) (bnd (sI h43 b46 7 ((gI h43 b46 7) + (1 : Int32))) (fun h49 => some (.inl (), h49)))))))))))))))))))))))))) := by
    simp only [cR_talk, cV_hw, gR_hw, rd.2.2.2.1, onr_some, shC_hw, grd_pos rd.2.2.2.2.1, bnd_e, wrC, gI_hw, cc.2.2.2.2.1.1]
  rw [un, lmT, gI_hw, e20, ix, bnd_e, e18]
  rcases r_ahead (L := L) (g := g) (M := M) (kr := 0) rd q.rwP with fl | ⟨p, I3, J3, a3, hp, e1, e2, rd3, j11, fx3, fu3, m3⟩
  · left
    refine (((q.fl fl).cx _).cx _ |>.m (fun H e => ?_)).le (by omega) (by omega)
    show cal (m_there 6 (nn 5) (nn (zP K)) (hw g J M)) _ = _
    rw [e, cal_s, if_pos rfl]
  have q3 : PSt h0 I0 J0 h I3 J3 n tb c a3 K A t ln := q.cg rd3 (CF.x fx3) fu3
  have rd4 : Rd h I3 (u2 J3 16 (10 + zT K) (nn p)) n tb c a3 := rd3.wr (by decide)
  have ml4 : ML0 J0 (u2 J3 16 (10 + zT K) (nn p)) := q3.2.2.2.2.2.2.2.2.wr (by decide) (by decide) (by show 10 ≤ _; omega)
  rw [e1, show (5 : Int32) = nn 5 from rfl, e2, calx_l, cal_s, if_neg (by decide), r27, onr_some, grd_pos (sC _), grd_pos inx, show gI (hw g J3 M) 0 11 = nn p from j11, bnd_e, sI_hw, bnd_e, gI_hw, show u2 J3 16 (nn (10 + zT K)).toNatClampNeg (nn p) = u2 J3 16 (10 + zT K) (nn p) by rw [cx]]
  rw [show (u2 J3 16 (10 + zT K) (nn p)) 0 18 = nn (zP K) by rw [u2_ne (by decide), fu3.2 18 (by omega)]; exact e18]
  have rw4 : Rw h I3 (u2 J3 16 (10 + zT K) (nn p)) (c + 3) (zP K) 6 5 (A 2) := q3.rwP.cg rfl (fun _ _ => rfl) (u2_ne (by decide))
  rcases r_at (L := L) (g := g) (M := M) (kr := 0) rd4 rw4 with fl | ⟨k, I5, J5, a5, hk, e1, en, e2, rd5, j11', fx5, fu5, m5⟩
  · left
    refine (((fl.l1 q3.2.2.2.2.2.2.2.1 q ml4).cx _).cx _ |>.m (fun H e => ?_)).le (by omega) (by omega)
    rw [e, cal_s, if_pos rfl]
  have ml6 : ML0 J0 (u2 J5 17 (10 + zT K) (nn k)) := (ml4.u fu5).wr (by decide) (by decide) (by show 10 ≤ _; omega)
  have j16 : (u2 J5 17 (10 + zT K) (nn k)) 16 (10 + zT K) = nn p := by rw [u2_ne (by decide), fu5.1 16 (by decide), u2_same]
  rw [e1, e2, calx_l, cal_s, if_neg (show ¬ (1 : Int32) = 0 by decide), grd_pos inx, show gI (hw g J5 M) 0 11 = nn k from j11', bnd_e, sI_hw, show u2 J5 17 (nn (10 + zT K)).toNatClampNeg (nn k) = u2 J5 17 (10 + zT K) (nn k) by rw [cx], grd_pos inx, gI_hw, show (u2 J5 17 (10 + zT K) (nn k)) 16 (nn (10 + zT K)).toNatClampNeg = nn p by rw [cx]; exact j16, show (u2 J5 17 (10 + zT K) (nn k)) 0 11 = nn k by rw [u2_ne (by decide)]; exact j11']
  by_cases zb : p = k
  · left
    subst zb
    rw [if_pos rfl, if_pos rfl, bnd_e, sI_hw, m_wr, em_wrong, u2_same]
    have := lfl_w (ρ := Unit) (g := g) (M := M) (L := L) q3.2.2.2.2.2.2.2.1 sh sh0 (ml6.u10 (v := J3 0 10)) 5
    rw [rd3.2.2.1.2] at this
    exact (this.cx _).le (by omega) (by omega)
  have nz1 : ¬ nn p = nn k := fun y => zb ((nn_eq (by omega) (by omega)).mp y)
  rw [if_neg nz1, if_neg (fun y => nz1 y.symm), en, cal_s, r27, onr_some, grd_pos (sC _), grd_pos i10, bnd_e, sI_hw, r27, onr_some, grd_pos (sC _), grd_pos i10, bnd_e, sI_hw, r27, onr_some, grd_pos (sC _), onr_some, grd_pos (sC _), show u2 (u2 I5 (c + 7) (nn (zT K)).toNatClampNeg (nn p)) (c + 8) (nn (zT K)).toNatClampNeg (nn k) = u2 (u2 I5 (c + 7) (zT K) (nn p)) (c + 8) (zT K) (nn k) by rw [ct]]
  generalize hI7 : u2 (u2 I5 (c + 7) (zT K) (nn p)) (c + 8) (zT K) (nn k) = I7
  have x7 : ∀ x, x ≠ c + 7 → x ≠ c + 8 → I7 x = I5 x := fun x h1 h2 => by rw [← hI7, u2_ne h2, u2_ne h1]
  have i72 : I7 2 = I5 2 := x7 2 (by omega) (by omega)
  have rd7 : Rd h I7 (u2 J5 17 (10 + zT K) (nn k)) n tb c a5 := (rd5.wr (by decide)).cg (x7 1 (by omega) (by omega)) (fun k _ => by rw [i72]) rfl rfl (fun _ _ _ => rfl)
  have ef7 : EF0 h0 I0 h I7 := by
    rw [← hI7]
    exact ((q3.2.2.2.2.2.2.2.1.fx fx5).wb sh0 (by omega)).wb sh0 (by omega)
  have x5 : ∀ x, x ≠ 2 → I5 x = I x := fun x h2 => by rw [fx5.1 x h2, fx3.1 x h2]
  have tA : ∀ k, k < zQ K → A 3 k ≠ 2 ∧ A 3 k ≠ c + 7 ∧ A 3 k ≠ c + 8 := fun k hk => by
    have := (cc.2.2.2.2.2.2.2.1 k hk).2.1
    exact ⟨fun e => by rw [e] at this; revert this; show ¬ 3 = 9; decide, fun e => by rw [e, cc.1.2.2.1] at this; revert this; decide, fun e => by rw [e, cc.1.2.2.2.1] at this; revert this; decide⟩
  have y6 : ∀ x, x ≠ 0 → x ≠ 16 → x ≠ 17 → (u2 J5 17 (10 + zT K) (nn k)) x = J x := fun x h1 h2 h3 => by rw [u2_ne h3, fu5.1 x h1, u2_ne h2, fu3.1 x h1]
  have w6 : ∀ i, (i < 7 ∨ 11 < i) → (u2 J5 17 (10 + zT K) (nn k)) 0 i = J 0 i := fun i hi => by rw [u2_ne (by decide), fu5.2 i hi, u2_ne (by decide), fu3.2 i hi]
  have rw7 : Rw h I7 (u2 J5 17 (10 + zT K) (nn k)) (c + 5) (zQ K) 11 8 (A 3) := q.rwQ.cg (by rw [x7 _ (by omega) (by omega), x5 _ (by omega)]) (fun i hi => by rw [x7 _ (tA i hi).2.1 (tA i hi).2.2, x5 _ (tA i hi).1]) (y6 11 (by decide) (by decide) (by decide))
  have m7 : mu n a5 (I7 2 3) = mu n a5 (I5 2 3) := by rw [i72]
  rw [w6 19 (by omega), e19]
  rcases r_ahead (L := L) (g := g) (M := M) (kr := 0) rd7 rw7 with fl | ⟨qq, I9, J9, a9, hqq, e1, e2, rd9, j11'', fx9, fu9, m9⟩
  · left
    refine (((fl.l1 ef7 q ml6).cx _).cx _ |>.m (fun H e => ?_)).le (by omega) (by omega)
    show cal (m_there 11 (nn 8) (nn (zQ K)) (hw g (u2 J5 17 (10 + zT K) (nn k)) M)) _ = _
    rw [e, cal_s, if_pos rfl]
  have j20 : (u2 J9 18 (10 + zT K) (nn qq)) 0 20 = nn (zT K) := by rw [u2_ne (by decide), fu9.2 20 (by omega), w6 20 (by omega)]; exact e20
  have i9c : (u2 I9 (c + 9) (zT K) (nn qq)) c 7 = nn (zT K) := by rw [u2_ne (by omega), fx9.1 c c2, x7 c (by omega) (by omega), x5 c c2]; exact cc.2.2.2.2.1.1
  rw [e1, show (8 : Int32) = nn 8 from rfl, e2, calx_l, cal_s, if_neg (by decide), grd_pos (show (gT (cV (hw h I9 L)) (c + 9)).1 = 100 by rw [cV_hw, gT_hw, t9]), grd_pos (show inb (nn (zT K)) (gT (cV (hw h I9 L)) (c + 9)).2 by rw [cV_hw, gT_hw, t9]; exact i10), bnd_e, sI_hw, show u2 I9 (c + 9) (nn (zT K)).toNatClampNeg (nn qq) = u2 I9 (c + 9) (zT K) (nn qq) by rw [ct], r27, onr_some, grd_pos (sC _), bnd_e, sI_hw, gI_hw, i9c, nn_succ, grd_pos inx, show gI (hw g J9 M) 0 11 = nn qq from j11'', bnd_e, sI_hw, bnd_e, sI_hw, gI_hw, show u2 J9 18 (nn (10 + zT K)).toNatClampNeg (nn qq) = u2 J9 18 (10 + zT K) (nn qq) by rw [cx], j20, nn_succ, calx_l]
  generalize hI10 : u2 (u2 I9 (c + 9) (zT K) (nn qq)) c 7 (nn (zT K + 1)) = I10
  have x10 : ∀ x, x ≠ c → x ≠ c + 9 → I10 x = I9 x := fun x h1 h2 => by rw [← hI10, u2_ne h1, u2_ne h2]
  have i102 : I10 2 = I9 2 := x10 2 (by omega) (by omega)
  have fr5 : ∀ k, k ≠ 0 → k ≠ 2 → k ≠ 3 → k ≠ 4 → I10 2 k = I 2 k := fun k h0 h2 h3 h4 => by
    rw [i102, fx9.2 k h0 h2 h3 h4, i72, fx5.2 k h0 h2 h3 h4, fx3.2 k h0 h2 h3 h4]
  right
  refine ⟨h, I10, L, _, a9, _, _, rfl, rfl, q.talk z8 (v := fun i => if i = 12 then nn p else if i = 13 then nn k else nn qq) ⟨p, hp, rfl⟩ ⟨k, hk, rfl⟩ ⟨qq, hqq, rfl⟩ ((rd9.wr (x := 18) (k := 10 + zT K) (v := nn qq) (by decide)).cg (x10 1 (by omega) (by omega)) (fun k _ => by rw [i102]) (u2_ne (by decide)) (u2_ne (by decide)) (fun k _ _ => u2_nk _ _ (by omega))) (fun x h1 h2 h3 h4 h5 => by rw [x10 x h2 h5, fx9.1 x h1, x7 x h3 h4, x5 x h1]) (fr5 5 (by decide) (by decide) (by decide) (by decide)) (fr5 6 (by decide) (by decide) (by decide) (by decide)) (fun i hi => ?_) ?_ (fun i => ?_) (fun i => ?_) (fun i => ?_) (fun x hx h6 => ?_) ⟨?_, ?_, ?_⟩ (fun x i g1 g2 hi => ?_) (u2_same _ _ _ _) (fun i hi h20 => ?_), ?_, ?_, ?_⟩
  · rw [← hI10, u2_nk _ _ hi, u2_ne (by omega), fx9.1 c c2, x7 c (by omega) (by omega), x5 c c2]
  · rw [← hI10, u2_same]
  · rw [x10 _ (by omega) (by omega), fx9.1 _ (by omega), ← hI7, u2_ne (by omega), u2_eq, x5 _ (by omega)]; rfl
  · rw [x10 _ (by omega) (by omega), fx9.1 _ (by omega), ← hI7, u2_eq, u2_ne (by omega), x5 _ (by omega)]; rfl
  · rw [← hI10, u2_ne (by omega), u2_eq, fx9.1 _ (by omega), x7 _ (by omega) (by omega), x5 _ (by omega)]; rfl
  · rw [u2_ne hx, u2_ne (by omega), fu9.1 x hx]; exact y6 x hx (by omega) (by omega)
  · rw [u2_ne (by decide), u2_ne (by decide), fu9.1 16 (by decide)]; exact j16
  · rw [u2_ne (by decide), u2_ne (by decide), fu9.1 17 (by decide), u2_same]; rfl
  · rw [u2_ne (by decide), u2_same]; rfl
  · rcases (show x = 16 ∨ x = 17 ∨ x = 18 by omega) with rfl | rfl | rfl
    · rw [u2_ne (by decide), u2_ne (by decide), fu9.1 16 (by decide), u2_ne (by decide), fu5.1 16 (by decide), u2_nk _ _ hi, fu3.1 16 (by decide)]
    · rw [u2_ne (by decide), u2_ne (by decide), fu9.1 17 (by decide), u2_nk _ _ hi, fu5.1 17 (by decide), u2_ne (by decide), fu3.1 17 (by decide)]
    · rw [u2_ne (by decide), u2_nk _ _ hi, fu9.1 18 (by decide), y6 18 (by decide) (by decide) (by decide)]
  · rw [u2_nk _ _ h20, u2_ne (by decide), fu9.2 i hi, w6 i hi]
  · rw [i102]; omega
  · rw [i102]; omega
  · rw [i102]; omega
end P50
