set_option maxRecDepth 100000
/-! PURE LEVEL A4: lines: knows, talk, nine and seed -/
def lmK (h2 : HP) : Option (Int32 × HP) := cal (m_there 6 (5 : Int32) (gI h2 0 18) h2) (fun r3 h4 => if r3 = 0 then (some ((0 : Int32), h4)) else (bnd ((5 : Int32) + (gI h4 0 11)) (fun x5 => bnd (gI h4 0 10) (fun x6 => cal (m_there 5 (8 : Int32) (gI h4 0 17) h4) (fun r7 h8 => if r7 = 0 then (some ((0 : Int32), h8)) else (grd (inb x5 10) (cal (m_isOf (gI h8 10 (x5).toNatClampNeg) (gI h8 0 11) h8) (fun r9 h10 => if r9 = 0 then (grd (inb x5 10) (grd (inb x5 10) (bnd (sI h10 10 (x5).toNatClampNeg ((gI h10 10 (x5).toNatClampNeg) ||| ((1 : Int32) <<< ((gI h10 0 11) &&& 31)))) (fun h11 => some ((1 : Int32), h11))))) else (bnd (sI h10 0 10 x6) (fun h12 => cal (m_wrong (3 : Int32) h12) (fun r13 h14 => grd (isB r13) (some (r13, h14)))))))))))))
def lmT (h5 : HP) : Option (Int32 × HP) := bnd ((10 : Int32) + (gI h5 0 20)) (fun x6 => cal (m_there 6 (5 : Int32) (gI h5 0 18) h5) (fun r7 h8 => if r7 = 0 then (some ((0 : Int32), h8)) else (grd (inb x6 20) (bnd (sI h8 16 (x6).toNatClampNeg (gI h8 0 11)) (fun h9 => bnd (gI h9 0 10) (fun x10 => cal (m_there 6 (5 : Int32) (gI h9 0 18) h9) (fun r11 h12 => if r11 = 0 then (some ((0 : Int32), h12)) else (grd (inb x6 20) (bnd (sI h12 17 (x6).toNatClampNeg (gI h12 0 11)) (fun h13 => grd (inb x6 20) (if (gI h13 0 11) = (gI h13 16 (x6).toNatClampNeg) then (bnd (sI h13 0 10 x10) (fun h14 => cal (m_wrong (5 : Int32) h14) (fun r15 h16 => grd (isB r15) (some (r15, h16))))) else (cal (m_there 11 (8 : Int32) (gI h13 0 19) h13) (fun r18 h19 => if r18 = 0 then (some ((0 : Int32), h19)) else (grd (inb x6 20) (bnd (sI h19 18 (x6).toNatClampNeg (gI h19 0 11)) (fun h20 => bnd (sI h20 0 20 ((gI h20 0 20) + (1 : Int32))) (fun h21 => some ((1 : Int32), h21))))))))))))))))))
def lmO (a1 a2 : Int32) (h3 : HP) : Option (Int32 × HP) := cal (m_number (0 : Int32) a2 h3) (fun r4 h5 => if r4 = 0 then (some ((0 : Int32), h5)) else (grd (inb ((2 : Int32) + a1) 4) (bnd (sI h5 4 (((2 : Int32) + a1)).toNatClampNeg (gI h5 0 11)) (fun h6 => some ((1 : Int32), h6)))))
section P49
variable {h0 h h' g : HP} {I0 J0 I I' J J' : Nat → Nat → Int32} {L M : Nat → Nat → Int64} {n : Nat} {tb : Nat → Nat} {a a' c kr : Nat} {K : KT} {A : Nat → Nat → Nat} {t ln : Nat} {S U : Nat → Prop} {j : HP → Option ((Unit ⊕ Nat × Nat) × HP)}
theorem lfl_w {ρ : Type} (e : EF0 h0 I0 h I) (sh : Shp h) (sh0 : Shp h0) (m : ML0 J0 J) (k : Int32) : LFl g M h0 I0 J0 (gN h + 1) (gS h + 8) (wrC ρ k (hw h I L)) (some (0, hw g (u2 (u2 J 0 4 k) 0 5 (I 2 2)) M)) := by
  obtain ⟨h', I', L', e1, t, v6, v7, f, s', nN, nS⟩ := ec_wrong (I := I) (L := L) sh k
  refine ⟨h', I', L', gN h, _, by rw [wrC, e1, cal_s, cV_hw, gT_hw, grd_pos (by rw [t])], rfl, t, ?_, ?_, e.up sh0 (fun x hx => (f x (by have := e.2; omega)).1) (fun x hx _ => (f x (by have := e.2; omega)).2.1) (fun x hx _ => (f x (by have := e.2; omega)).2.2) (by omega), ?_, s', by omega, by omega⟩
  · rw [v6, u2_nk _ _ (by decide), u2_same]
  · rw [v7, u2_same]
  · exact ⟨fun x hx => by rw [u2_ne (by omega), u2_ne (by omega)]; exact m.1 x hx, fun x k g1 g2 g3 => by rw [u2_ne (by omega), u2_ne (by omega)]; exact m.2.1 x k g1 g2 g3, fun k hk => by rw [u2_nk _ _ (by omega), u2_nk _ _ (by omega)]; exact m.2.2 k hk⟩
theorem ML0.u10 {v : Int32} (m : ML0 J0 J) : ML0 J0 (u2 J 0 10 v) := ⟨fun x hx => by rw [u2_ne (by omega)]; exact m.1 x hx, fun x k g1 g2 g3 => by rw [u2_ne (by omega)]; exact m.2.1 x k g1 g2 g3, fun k hk => by rw [u2_nk _ _ (by omega)]; exact m.2.2 k hk⟩
theorem b_knows (q : PSt h0 I0 J0 h I J n tb c a K A t ln) : BR g M h0 I0 J0 n tb c h (mu n a (I 2 3)) t ln j (calx (cR_knows (hw h I L)) (fun _ h49 => j h49)) (lmK (hw g J M)) := by
  have rd := q.1
  have c54 := rd.2.2.2.2.2.1
  have cc := q.2.1.1
  have mr := q.2.1.2.1
  have sh0 : Shp h0 := q.2.2.2.2.2.2.1.2
  have sh : Shp h := rd.2.2.2.2.2.2
  have e18 : J 0 18 = nn (zP K) := mr.1.2.1
  have e17 : J 0 17 = nn (zF K) := mr.1.1
  have P5 : zP K ≤ 5 := q.2.1.2.2.1.2.1
  have F8 : zF K ≤ 8 := q.2.1.2.2.1.1
  have m0 := mu_le n a (I 2 3)
  have un : cR_knows (hw h I L) = calx (cR_ahead (c + 3) (hw h I L)) (fun r7 h8 => grd (shL (cV h8) (c + 3)) (cal (cL_get (c + 3) r7 h8) (fun r9 h10 => grd ((gT (cV h10) r9).1 = 8) (onr (gR (cV h10) 2 7) (fun b13 => grd (shC (cV h10) b13) (calx (cR_atHand (b13 + 1) h10) (fun r16 h17 => grd ((gT (cV h17) r9).1 = 8) (if (((gI h17 r9 4) >>> (r16 &&& 31)) &&& (1 : Int32)) = (1 : Int32) then wrC Unit 3 h17 else (cal (cR_next h17) (fun r23 h24 => grd ((gT (cV h24) r9).1 = 8) (bnd (sI h24 r9 4 ((gI h24 r9 4) ||| ((1 : Int32) <<< (r16 &&& 31)))) (fun h26 => some (.inl (), h26))))))))))))) := by
    simp only [cR_knows, cV_hw, gR_hw, rd.2.2.2.1, onr_some, shC_hw, grd_pos rd.2.2.2.2.1, bnd_e, wrC]
  rw [un, lmK, gI_hw, e18]
  rcases r_ahead (L := L) (g := g) (M := M) (kr := 0) rd q.rwP with fl | ⟨p, I3, J3, a3, hp, e1, e2, rd3, j11, fx3, fu3, m3⟩
  · left
    refine (((q.fl fl).cx _).cx _ |>.m (fun H e => ?_)).le (by omega) (by omega)
    show cal (m_there 6 (nn 5) (nn (zP K)) (hw g J M)) _ = _
    rw [e, cal_s, if_pos rfl]
  have q3 : PSt h0 I0 J0 h I3 J3 n tb c a3 K A t ln := q.cg rd3 (CF.x fx3) fu3
  have cc3 := q3.2.1.1
  have rp := cc3.2.2.2.2.2.2.1 p hp
  have gp : cL_get (c + 3) (nn p) (hw h I3 L) = some (A 2 p, hw h I3 L) := ec_get cc3.2.1.2.1 cc3.2.2.2.1.2.1 hp (by show zP K ≤ (gT (cV h) (c + 4)).2; rw [cc3.2.2.1.2.1]; omega) (by omega) rp.1
  have gA : gN h0 ≤ A 2 p := q.2.2.2.2.2.1.2 p hp
  have cnt54 := sh0.1
  rw [e1, show (5 : Int32) = nn 5 from rfl, e2, calx_l, cal_s, if_neg (by decide), bnd_e, bnd_e, gI_hw, j11, show nn 5 + nn p = nn (5 + p) from nn_add 5 p, grd_pos (show shL (cV (hw h I3 L)) (c + 3) from cc3.2.1.2.1), gp, cal_s, grd_pos (show (gT (cV (hw h I3 L)) (A 2 p)).1 = 8 from rp.2.1), show gR (cV (hw h I3 L)) 2 7 = some c from rd.2.2.2.1, onr_some, grd_pos (show shC (cV (hw h I3 L)) c from rd.2.2.2.2.1), fu3.2 17 (by omega), e17]
  have inx : inb (nn (5 + p)) 10 := nn_inb (by omega) (by omega)
  have cx : (nn (5 + p)).toNatClampNeg = 5 + p := nn_clamp (by omega)
  rcases r_at (L := L) (g := g) (M := M) (kr := 0) rd3 q3.rwF with fl | ⟨k, I5, J5, a5, hk, e1, en, e2, rd5, j11', fx5, fu5, m5⟩
  · left
    refine (((q3.fl fl).cx _).cx _ |>.m (fun H e => ?_)).le (by omega) (by omega)
    show cal (m_there 5 (nn 8) (nn (zF K)) (hw g J3 M)) _ = _
    rw [e, cal_s, if_pos rfl]
  rw [e1, show (8 : Int32) = nn 8 from rfl, e2, calx_l, cal_s, if_neg (show ¬ (1 : Int32) = 0 by decide), grd_pos inx, grd_pos (show (gT (cV (hw h I3 L)) (A 2 p)).1 = 8 from rp.2.1), gI_hw, gI_hw, j11', show J5 10 (nn (5 + p)).toNatClampNeg = zt K 6 p by rw [cx, fu5.1 10 (by decide)]; exact (q3.2.1.2.1.2.2.2.1 p hp).2.2.2.2, show I3 (A 2 p) 4 = zt K 6 p from rp.2.2.2.2.2.2]
  have k6 : zt K 6 p &&& 255 = zt K 6 p := q.2.1.2.2.2.1 p hp
  by_cases zb : ((zt K 6 p) >>> (nn k &&& 31)) &&& (1 : Int32) = 1
  · left
    rw [if_pos zb, m_isOf, if_pos zb, cal_s, if_neg (show ¬ (1 : Int32) = 0 by decide), bnd_e, sI_hw, m_wr, em_wrong, u2_same]
    have := lfl_w (ρ := Unit) (g := g) (M := M) (L := L) q3.2.2.2.2.2.2.2.1 sh sh0 ((q3.2.2.2.2.2.2.2.2.u fu5).u10 (v := J3 0 10)) 3
    rw [rd3.2.2.1.2] at this
    exact (this.cx _).le (by omega) (by omega)
  · right
    rw [if_neg zb, m_isOf, if_neg zb, cal_s, if_pos rfl, en, cal_s, grd_pos (show (gT (cV (hw h I5 L)) (A 2 p)).1 = 8 from rp.2.1), bnd_e, sI_hw, gI_hw, grd_pos inx, grd_pos inx, bnd_e, sI_hw, gI_hw, j11', show J5 10 (nn (5 + p)).toNatClampNeg = zt K 6 p by rw [cx, fu5.1 10 (by decide)]; exact (q3.2.1.2.1.2.2.2.1 p hp).2.2.2.2, show I5 (A 2 p) 4 = zt K 6 p by rw [fx5.1 (A 2 p) (by omega)]; exact rp.2.2.2.2.2.2, show u2 J5 10 (nn (5 + p)).toNatClampNeg (zt K 6 p ||| (1 : Int32) <<< (nn k &&& 31)) = u2 J5 10 (5 + p) (zt K 6 p ||| (1 : Int32) <<< (nn k &&& 31)) by rw [cx], calx_l]
    have p2 : A 2 p ≠ 2 := by omega
    refine ⟨h, _, L, _, a5, _, _, rfl, rfl, q3.knows hp (or255 k6 (shl255 (by omega))) ((rd5.wb (b := A 2 p) (k := 4) (by omega)).wr (x := 10) (by decide)) (fun x h2 hx => by rw [u2_ne hx, fx5.1 x h2]) (by rw [u2_ne (Ne.symm p2)]; exact fx5.2 5 (by decide) (by decide) (by decide) (by decide)) (by rw [u2_ne (Ne.symm p2)]; exact fx5.2 6 (by decide) (by decide) (by decide) (by decide)) (fun k => by rw [u2_eq, fx5.1 _ p2]) (fun x h0 h10 => by rw [u2_ne h10]; exact fu5.1 x h0) (u2_same _ _ _ _) (fun k hk => by rw [u2_nk _ _ hk, fu5.1 10 (by decide)]) (fun k hk => by rw [u2_ne (by decide)]; exact fu5.2 k hk), ?_, ?_, ?_⟩
    · rw [u2_ne (Ne.symm p2)]; omega
    · rw [u2_ne (Ne.symm p2)]; omega
    · rw [u2_ne (Ne.symm p2)]; omega
theorem b_once (q : PSt h0 I0 J0 h I J n tb c a K A t ln) {i : Nat} (hi : i < 2) (most : Int32) : BR g M h0 I0 J0 n tb c h (mu n a (I 2 3)) t ln j (onr (gR (cV (hw h I L)) 2 7) (fun b60 => calx (cR_number (0 : Int32) most (hw h I L)) (fun r62 h63 => grd (shC (cV h63) b60) (bnd (sI h63 b60 (8 + i) r62) (fun h65 => j h65))))) (lmO (nn i) most (hw g J M)) := by
  have rd := q.1
  have c2 := rd.c2
  have c54 := rd.2.2.2.2.2.1
  have m0 := mu_le n a (I 2 3)
  rw [show gR (cV (hw h I L)) 2 7 = some c from rd.2.2.2.1, onr_some, lmO]
  rcases r_num (L := L) (g := g) (M := M) (kr := 0) rd 0 most with fl | ⟨I3, J3, a3, v, e1, e2, rd3, j11, rg, fx3, fu3, m3⟩
  · left
    refine ((q.fl fl).cx _ |>.m (fun H e => ?_)).le (by omega) (by omega)
    rw [e, cal_s, if_pos rfl]
  · right
    have ix : (2 : Int32) + nn i = nn (2 + i) := nn_add 2 i
    rw [e1, e2, calx_l, cal_s, if_neg (by decide), grd_pos (show shC (cV (hw h I3 L)) c from rd.2.2.2.2.1), bnd_e, sI_hw, ix, grd_pos (nn_inb (by omega) (by omega)), bnd_e, sI_hw, gI_hw, j11, nn_clamp (by omega)]
    refine ⟨h, _, L, _, a3, _, _, rfl, rfl, q.once hi rg.1 ((rd3.wb (b := c) (k := 8 + i) c54).wr (x := 4) (by decide)) (fun x h2 hx => by rw [u2_ne hx, fx3.1 x h2]) (by rw [u2_ne (Ne.symm c2)]; exact fx3.2 5 (by decide) (by decide) (by decide) (by decide)) (by rw [u2_ne (Ne.symm c2)]; exact fx3.2 6 (by decide) (by decide) (by decide) (by decide)) (fun k => by rw [u2_eq, fx3.1 _ c2]) (fun x h0 h4 => by rw [u2_ne h4]; exact fu3.1 x h0) (u2_same _ _ _ _) (fun k hk => by rw [u2_nk _ _ hk, fu3.1 4 (by decide)]) (fun k hk => by rw [u2_ne (by decide)]; exact fu3.2 k hk), ?_, ?_, ?_⟩
    · rw [u2_ne (Ne.symm c2)]; omega
    · rw [u2_ne (Ne.symm c2)]; omega
    · rw [u2_ne (Ne.symm c2)]; omega
end P49
