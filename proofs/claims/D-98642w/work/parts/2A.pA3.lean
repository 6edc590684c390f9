set_option maxRecDepth 100000
/-! PURE LEVEL A3: lines: questions -/
def lmQ (h5 : HP) : Option (Int32 × HP) := cal (m_newName 11 (8 : Int32) (gI h5 0 19) h5) (fun r6 h7 => if r6 = 0 then (some ((0 : Int32), h7)) else (bnd ((8 : Int32) + (gI h7 0 19)) (fun x8 => if (gI h7 0 8) = (1 : Int32) then (if (gI h7 0 9) < (8 : Int32) then (cal (m_wrong (1 : Int32) h7) (fun r10 h11 => grd (isB r10) (some (r10, h11)))) else (if (gI h7 0 9) ≤ (11 : Int32) then (grd (inb x8 16) (bnd (sI h7 12 (x8).toNatClampNeg ((gI h7 0 9) - (8 : Int32))) (fun h13 => cal (m_token h13) (fun r14 h15 => cal (m_some h15) (fun r16 h17 => if r16 = 0 then (some ((0 : Int32), h17)) else (grd (inb x8 16) (bnd (sI h17 13 (x8).toNatClampNeg (gI h17 0 11)) (fun h18 => cal (m_some h18) (fun r19 h20 => if r19 = 0 then (some ((0 : Int32), h20)) else (grd (inb x8 16) (bnd (sI h20 14 (x8).toNatClampNeg (gI h20 0 11)) (fun h21 => cal (m_some h21) (fun r22 h23 => if r22 = 0 then (some ((0 : Int32), h23)) else (grd (inb x8 16) (bnd (sI h23 15 (x8).toNatClampNeg (gI h23 0 11)) (fun h24 => bnd (sI h24 0 19 ((gI h24 0 19) + (1 : Int32))) (fun h25 => some ((1 : Int32), h25)))))))))))))))))) else (cal (m_wrong (1 : Int32) h7) (fun r10 h11 => grd (isB r10) (some (r10, h11)))))) else (cal (m_wrong (1 : Int32) h7) (fun r10 h11 => grd (isB r10) (some (r10, h11)))))))
section P48
variable {h0 h h' g : HP} {I0 J0 I I' J J' : Nat → Nat → Int32} {L M : Nat → Nat → Int64} {n : Nat} {tb : Nat → Nat} {a a' c kr : Nat} {K : KT} {A : Nat → Nat → Nat} {t ln : Nat} {S U : Nat → Prop} {j : HP → Option ((Unit ⊕ Nat × Nat) × HP)}
theorem Rw.cg {l m t o : Nat} {ar : Nat → Nat} (q : Rw h I J l m t o ar) (i1 : I' l = I l) (ia : ∀ k, k < m → I' (ar k) = I (ar k)) (jt : J' t = J t) : Rw h I' J' l m t o ar := by
  obtain ⟨⟨q1, q2, q3, q4, q5⟩, q6, q7⟩ := q
  exact ⟨⟨q1, by rw [i1]; exact q2, q3, q4, q5⟩, q6, fun k hk => by rw [ia k hk, jt]; exact q7 k hk⟩
theorem tk_rng {s v k w : Int32} (tk : TokR s v k w) {lo hi : Nat} (hlo : lo ≤ hi) (hhi : hi < 15) : (s = 0 ∧ ¬ v < nn lo ∧ ¬ nn hi < v) ↔ (k = 1 ∧ ¬ w < nn lo ∧ w ≤ nn hi ∧ w = v) := by
  have kn := (tk_num tk).2.2
  constructor
  · intro ⟨e1, e2, e3⟩
    obtain ⟨u, hu, rfl, ek, rfl⟩ := tk_word tk e1
    have u1 : ¬ u < lo := fun y => e2 ((nn_lt (by omega) (by omega)).mpr y)
    have u2 : ¬ hi < u := fun y => e3 ((nn_lt (by omega) (by omega)).mpr y)
    have su : sw u = u := by rcases sw_lit hu with y | y | y <;> omega
    rw [su]
    exact ⟨ek, e2, (nn_le (by omega) (by omega)).mpr (by omega), rfl⟩
  · intro ⟨e1, e2, e3, e4⟩
    rw [e4] at e2 e3
    exact ⟨kn.mp e1, e2, Int32.not_lt.mpr e3⟩
theorem tk_rng2 {s v k w : Int32} (tk : TokR s v k w) {lo hi : Nat} (hlo : lo ≤ hi) (hhi : hi < 15) (h : k = 1) (h2 : ¬ w < nn lo) (h3 : w ≤ nn hi) : w = v := by
  obtain ⟨u, hu, rfl, ek, rfl⟩ := tk_word tk ((tk_num tk).2.2.mp h)
  have hs : sw u < 25 := (mF_f ⟨u, hu⟩).2.2.2.2.2
  have := (nn_le (by omega) (by omega)).mp h3
  have su : sw u = u := by rcases sw_lit hu with y | y | y <;> omega
  rw [su]
theorem b_quest (q : PSt h0 I0 J0 h I J n tb c a K A t ln) (z8 : zQ K < 8) : BR g M h0 I0 J0 n tb c h (mu n a (I 2 3)) t ln j (calx (cR_question (hw h I L)) (fun _ h49 => j h49)) (lmQ (hw g J M)) := by
  have rd := q.1
  have c54 := rd.2.2.2.2.2.1
  obtain ⟨h2, s2, q2, cf, t2, u0, h54, i0, nN, nS, i2, g0⟩ := q.al (L := L) 9 5
  have cn : (gT (cV h) c).1 ≠ 0 := by rw [rd.ty]; decide
  have cc := q.2.1.1
  have cc2 := q2.2.1.1
  have sh0 : Shp h0 := q.2.2.2.2.2.2.1.2
  have b1 : (gT (cV h) (c + 5)).1 ≠ 0 := by rw [cc.2.1.2.2.1]; decide
  have b1' : (gT (cV h) (c + 1)).1 ≠ 0 := by rw [cc.2.1.1.1]; decide
  have sh2 : Shp h2 := q2.1.2.2.2.2.2.2
  have nb : c ≠ gN h ∧ c + 5 ≠ gN h ∧ c + 1 ≠ gN h := ⟨sh_ne rd.2.2.2.2.2.2 cn, sh_ne rd.2.2.2.2.2.2 b1, sh_ne rd.2.2.2.2.2.2 b1'⟩
  have nA : ∀ k, k < zF K → A 1 k ≠ gN h ∧ A 1 k ≠ 2 := fun k hk => by
    have := (cc.2.2.2.2.2.1 k hk).2.1
    exact ⟨sh_ne rd.2.2.2.2.2.2 (by rw [this]; decide), fun e => by rw [e] at this; revert this; show ¬ 3 = 7; decide⟩
  have zF8 : zF K ≤ 8 := q.2.1.2.2.1.1
  have t2' : (gT (cV h2) (gN h)).1 = 9 := by rw [t2]
  have e19 : J 0 19 = nn (zQ K) := q.2.1.2.1.1.2.2.1
  have e17 : J 0 17 = nn (zF K) := q.2.1.2.1.1.1
  have ix : (8 : Int32) + nn (zQ K) = nn (8 + zQ K) := nn_add 8 _
  have inx : inb (nn (8 + zQ K)) 16 := nn_inb (by omega) (by omega)
  have cx : (nn (8 + zQ K)).toNatClampNeg = 8 + zQ K := nn_clamp (by omega)
  have un : cR_question (hw h I L) = calx (cR_fresh (c + 5) (hw h2 (gI h2) (gL h2))) (fun r7 h8 => cal (kX14_init (gN h) r7 h8) (fun r9 h10 => cal (cR_isWord (8 : Int32) (11 : Int32) h10) (fun r11 h12 => if r11 = 0 then wrC Unit 1 h12 else (grd ((gT (cV h12) (gN h)).1 = 9) (bnd (sI h12 (gN h) 1 ((gI h12 2 4) - (8 : Int32))) (fun h17 => cal (cR_next h17) (fun r20 h21 => calx (cR_some h21) (fun r22 h23 => grd ((gT (cV h23) (gN h)).1 = 9) (bnd (sI h23 (gN h) 2 r22) (fun h25 => calx (cR_some h25) (fun r28 h29 => grd ((gT (cV h29) (gN h)).1 = 9) (bnd (sI h29 (gN h) 3 r28) (fun h31 => calx (cR_some h31) (fun r34 h35 => grd ((gT (cV h35) (gN h)).1 = 9) (bnd (sI h35 (gN h) 4 r34) (fun h37 => onr (gR (cV h37) 2 7) (fun b40 => grd (shC (cV h37) b40) (grd (shL (cV h37) (b40 + 5)) (cal (cL_add (b40 + 5) (gN h) h37) (fun r43 h44 => some (.inl (), h44))))))))))))))))))))) := by
    simp only [cR_question, cV_hw, gR_hw, onr_some, shC_hw, gN_hw, grd_pos h54, bnd_e, s2, q2.1.2.2.2.1, grd_pos q2.1.2.2.2.2.1, wrC]
  rw [un, lmQ, gI_hw, e19]
  have m0 := mu_le n a (I 2 3)
  rcases r_fresh (L := gL h2) (g := g) (M := M) (kr := 0) q2.1 q2.rwQ (by show 8 + zQ K < 16; omega) (by decide) with fl | ⟨I3, J3, a3, v0, e1, e2, rd3, j5, j5', jx, j0, fx3, m3⟩
  · left
    refine (((q2.fl fl).cx _).cx _ |>.m (fun H e => ?_)).le (by omega) (by omega)
    show cal (m_newName 11 (nn 8) (nn (zQ K)) (hw g J M)) _ = _
    rw [e, cal_s, if_pos rfl]
  have m3' : mu n a3 (I3 2 3) < mu n a (I 2 3) := by rw [i2] at m3; exact m3
  have ef3 : EF0 h0 I0 h2 I3 := q2.2.2.2.2.2.2.2.1.fx fx3
  have ml3 : ML0 J0 J3 := by
    refine ⟨fun x hx => (jx x (by omega) (by omega)).trans (q.2.2.2.2.2.2.2.2.1 x hx), fun x k g1 g2 g3 => ?_, fun k hk => (j0 k (by omega)).trans (q.2.2.2.2.2.2.2.2.2.2 k hk)⟩
    by_cases z : x = 11
    · subst z
      have : hf 11 = 8 := rfl
      rw [j5' k (by omega)]; exact q.2.2.2.2.2.2.2.2.2.1 11 k g1 g2 g3
    · rw [jx x (by omega) z]; exact q.2.2.2.2.2.2.2.2.2.1 x k g1 g2 g3
  have ki : kX14_init (gN h) v0 (hw h2 I3 (gL h2)) = some ((), hw h2 (u2 I3 (gN h) 0 v0) (gL h2)) := by
    simp only [kX14_init, kX12_init, bnd_e, cal_s, onr_s, jon_e, gI_hw, gL_hw, gT_hw, gR_hw, gN_hw, sI_hw, sL_hw, cV_hw, shS_hw, shC_hw, shL_hw, ← bt_def, grd_pos (show (gT (cV h2) (gN h)).1 = 7 ∨ (gT (cV h2) (gN h)).1 = 8 ∨ (gT (cV h2) (gN h)).1 = 9 from Or.inr (Or.inr t2'))]
  have ef4 : EF0 h0 I0 h2 (u2 I3 (gN h) 0 v0) := ef3.wb sh0 g0
  have e19' : J3 0 19 = nn (zQ K) := by rw [j0 19 (by omega)]; exact e19
  have rd4 : Rd h2 (u2 I3 (gN h) 0 v0) J3 n tb c a3 := rd3.wb (k := 0) (v := v0) h54
  have b2 : gN h ≠ 2 := by omega
  have i42 : (u2 I3 (gN h) 0 v0) 2 = I3 2 := u2_ne (Ne.symm b2)
  rw [e1, show (8 : Int32) = nn 8 from rfl, e2, calx_l, cal_s, if_neg (by decide), ki, cal_s, bnd_e, gI_hw, e19', show nn 8 + nn (zQ K) = nn (8 + zQ K) from ix]
  rw [ec_isWord, cal_s, gI_hw]
  have tok4 := rd4.2.2.1.1
  by_cases zw : (u2 I3 (gN h) 0 v0) 2 3 = 0 ∧ ¬ (u2 I3 (gN h) 0 v0) 2 4 < nn 8 ∧ ¬ (11 : Int32) < (u2 I3 (gN h) 0 v0) 2 4
  case neg =>
    left
    rw [decide_eq_false zw, if_pos (by rfl)]
    have fl := flt_wrong (ρ := Unit) (g := g) (M := M) (L := gL h2) rd4 0 1
    have eM : (if J3 0 8 = (1 : Int32) then (if J3 0 9 < nn 8 then (cal (m_wrong (1 : Int32) (hw g J3 M)) (fun r10 h11 => grd (isB r10) (some (r10, h11)))) else (if J3 0 9 ≤ (11 : Int32) then (grd (inb (nn (8 + zQ K)) 16) (bnd (sI (hw g J3 M) 12 (nn (8 + zQ K)).toNatClampNeg (J3 0 9 - nn 8)) (fun h13 => cal (m_token h13) (fun r14 h15 => cal (m_some h15) (fun r16 h17 => if r16 = 0 then (some ((0 : Int32), h17)) else (grd (inb (nn (8 + zQ K)) 16) (bnd (sI h17 13 (nn (8 + zQ K)).toNatClampNeg (gI h17 0 11)) (fun h18 => cal (m_some h18) (fun r19 h20 => if r19 = 0 then (some ((0 : Int32), h20)) else (grd (inb (nn (8 + zQ K)) 16) (bnd (sI h20 14 (nn (8 + zQ K)).toNatClampNeg (gI h20 0 11)) (fun h21 => cal (m_some h21) (fun r22 h23 => if r22 = 0 then (some ((0 : Int32), h23)) else (grd (inb (nn (8 + zQ K)) 16) (bnd (sI h23 15 (nn (8 + zQ K)).toNatClampNeg (gI h23 0 11)) (fun h24 => bnd (sI h24 0 19 ((gI h24 0 19) + (1 : Int32))) (fun h25 => some ((1 : Int32), h25)))))))))))))))))) else (cal (m_wrong (1 : Int32) (hw g J3 M)) (fun r10 h11 => grd (isB r10) (some (r10, h11)))))) else (cal (m_wrong (1 : Int32) (hw g J3 M)) (fun r10 h11 => grd (isB r10) (some (r10, h11))))) = m_wrong 1 (hw g J3 M) := by
      rw [m_wr]
      by_cases k1 : J3 0 8 = 1
      · rw [if_pos k1]
        by_cases k2 : J3 0 9 < nn 8
        · rw [if_pos k2]
        · rw [if_neg k2, if_neg (show ¬ J3 0 9 ≤ (11 : Int32) from fun k3 => zw ((tk_rng (lo := 8) (hi := 11) tok4 (by decide) (by decide)).mpr ⟨k1, k2, k3, tk_rng2 (lo := 8) (hi := 11) tok4 (by decide) (by decide) k1 k2 k3⟩))]
      · rw [if_neg k1]
    rw [eM]
    exact ((fl.l1 ef4 q ml3).cx _).le (by omega) (by omega)
  case pos =>
  rw [decide_eq_true zw, if_neg (by decide)]
  obtain ⟨k1, k2, k3, k4⟩ := (tk_rng (lo := 8) (hi := 11) tok4 (by decide) (by decide)).mp zw
  obtain ⟨u, hu, ev, -, -⟩ := tk_word tok4 zw.1
  have u8 : 8 ≤ u := by
    by_cases y : 8 ≤ u
    · exact y
    · exact absurd (show (u2 I3 (gN h) 0 v0) 2 4 < nn 8 by rw [ev]; exact (nn_lt (by omega) (by omega)).mpr (by omega)) zw.2.1
  have u11 : u ≤ 11 := by
    by_cases y : u ≤ 11
    · exact y
    · exact absurd (show (11 : Int32) < (u2 I3 (gN h) 0 v0) 2 4 by rw [ev]; exact (nn_lt (a := 11) (by omega) (by omega)).mpr (by omega)) zw.2.2
  have ev8 : nn u - nn 8 = nn (u - 8) := nn_sub (by omega)
  rw [grd_pos (show (gT (cV (hw h2 (u2 I3 (gN h) 0 v0) (gL h2))) (gN h)).1 = 9 from t2'), bnd_e, sI_hw, if_pos k1, if_neg k2, if_pos (show J3 0 9 ≤ (11 : Int32) from k3), grd_pos inx, bnd_e, sI_hw, k4, ev, ev8, show u2 J3 12 (nn (8 + zQ K)).toNatClampNeg (nn (u - 8)) = u2 J3 12 (8 + zQ K) (nn (u - 8)) by rw [cx]]
  have rd5 : Rd h2 (u2 (u2 I3 (gN h) 0 v0) (gN h) 1 (nn (u - 8))) (u2 J3 12 (8 + zQ K) (nn (u - 8))) n tb c a3 := (rd4.wb (k := 1) (v := nn (u - 8)) h54).wr (by decide)
  have ef5 : EF0 h0 I0 h2 (u2 (u2 I3 (gN h) 0 v0) (gN h) 1 (nn (u - 8))) := ef4.wb sh0 g0
  have ml5 : ML0 J0 (u2 J3 12 (8 + zQ K) (nn (u - 8))) := ml3.wr (by decide) (by decide) (by show 8 ≤ _; omega)
  obtain ⟨I5, J5, a5, n1, n2, rd5', n4, fx5, fv5⟩ := r_next (L := gL h2) (g := g) (M := M) rd5
  have i52 : (u2 (u2 I3 (gN h) 0 v0) (gN h) 1 (nn (u - 8))) 2 = I3 2 := by rw [u2_ne (Ne.symm b2), u2_ne (Ne.symm b2)]
  have m5 : mu n a5 (I5 2 3) < mu n a3 (I3 2 3) := by
    have := n4 (by rw [u2_ne (Ne.symm b2), zw.1]; decide)
    rw [i52] at this; exact this
  have ef5' := ef5.fx fx5
  have ml5' := ml5.u (frU.v fv5)
  have rwG : ∀ (I' J' : Nat → Nat → Int32), (∀ x, x ≠ gN h → x ≠ 2 → I' x = gI h2 x) → J' 5 = J 5 → Rw h2 I' J' (c + 1) (zF K) 5 8 (A 1) := fun I' J' hI hJ => q2.rwF.cg (hI _ nb.2.2 (by omega)) (fun k hk => hI _ (nA k hk).1 (nA k hk).2) hJ
  have x5 : ∀ x, x ≠ gN h → x ≠ 2 → I5 x = gI h2 x := fun x h1 h2 => by rw [fx5.1 x h2, u2_ne h1, u2_ne h1, fx3.1 x h2]
  have y5 : ∀ x, x ≠ 0 → x ≠ 11 → x ≠ 12 → J5 x = J x := fun x h1 h2 h3 => by rw [fv5.1 x h1, u2_ne h3, jx x h1 h2]
  have w5 : ∀ k, (k < 7 ∨ 10 < k) → J5 0 k = J 0 k := fun k hk => by rw [fv5.2 k hk, u2_ne (by decide), j0 k hk]
  rw [n1, n2, cal_s, cal_s]
  rcases r_some (L := gL h2) (g := g) (M := M) (kr := 0) rd5' (rwG I5 J5 x5 (y5 5 (by decide) (by decide) (by decide))) (by rw [w5 17 (by omega)]; exact e17) with fl | ⟨v2, I7, J7, a7, o2, e1, e2, rd7, j11, fx7, fu7, m7⟩
  · left
    refine (((fl.l1 ef5' q ml5').cx _).cx _ |>.m (fun H e => ?_)).le (by omega) (by omega)
    rw [e, cal_s, if_pos rfl]
  have ef8 : EF0 h0 I0 h2 (u2 I7 (gN h) 2 v2) := (ef5'.fx fx7).wb sh0 g0
  have ml8 : ML0 J0 (u2 J7 13 (8 + zQ K) v2) := (ml5'.u fu7).wr (by decide) (by decide) (by show 8 ≤ _; omega)
  rw [e1, e2, calx_l, cal_s, if_neg (by decide), grd_pos (show (gT (cV (hw h2 I7 (gL h2))) (gN h)).1 = 9 from t2'), bnd_e, sI_hw, grd_pos inx, bnd_e, sI_hw, gI_hw, j11, show u2 J7 13 (nn (8 + zQ K)).toNatClampNeg v2 = u2 J7 13 (8 + zQ K) v2 by rw [cx]]
  have x8 : ∀ x, x ≠ gN h → x ≠ 2 → (u2 I7 (gN h) 2 v2) x = gI h2 x := fun x h1 h2 => by rw [u2_ne h1, fx7.1 x h2, x5 x h1 h2]
  have y8 : ∀ x, x ≠ 0 → x ≠ 11 → x ≠ 12 → x ≠ 13 → (u2 J7 13 (8 + zQ K) v2) x = J x := fun x h1 h2 h3 h4 => by rw [u2_ne h4, fu7.1 x h1, y5 x h1 h2 h3]
  have w8 : ∀ k, (k < 7 ∨ 11 < k) → (u2 J7 13 (8 + zQ K) v2) 0 k = J 0 k := fun k hk => by rw [u2_ne (by decide), fu7.2 k hk, w5 k (by omega)]
  rcases r_some (L := gL h2) (g := g) (M := M) (kr := 0) ((rd7.wb (k := 2) (v := v2) h54).wr (x := 13) (k := 8 + zQ K) (v := v2) (by decide)) (rwG _ _ x8 (y8 5 (by decide) (by decide) (by decide) (by decide))) (by rw [w8 17 (by omega)]; exact e17) with fl | ⟨v3, I9, J9, a9, o3, e1, e2, rd9, j11', fx9, fu9, m9⟩
  · left
    have mu8 : mu n a7 ((u2 I7 (gN h) 2 v2) 2 3) = mu n a7 (I7 2 3) := by rw [u2_ne (Ne.symm b2)]
    refine (((fl.l1 ef8 q ml8).cx _).cx _ |>.m (fun H e => ?_)).le (by omega) (by omega)
    rw [e, cal_s, if_pos rfl]
  have ef10 : EF0 h0 I0 h2 (u2 I9 (gN h) 3 v3) := (ef8.fx fx9).wb sh0 g0
  have ml10 : ML0 J0 (u2 J9 14 (8 + zQ K) v3) := (ml8.u fu9).wr (by decide) (by decide) (by show 8 ≤ _; omega)
  rw [e1, e2, calx_l, cal_s, if_neg (by decide), grd_pos (show (gT (cV (hw h2 I9 (gL h2))) (gN h)).1 = 9 from t2'), bnd_e, sI_hw, grd_pos inx, bnd_e, sI_hw, gI_hw, j11', show u2 J9 14 (nn (8 + zQ K)).toNatClampNeg v3 = u2 J9 14 (8 + zQ K) v3 by rw [cx]]
  have x10 : ∀ x, x ≠ gN h → x ≠ 2 → (u2 I9 (gN h) 3 v3) x = gI h2 x := fun x h1 h2 => by rw [u2_ne h1, fx9.1 x h2, x8 x h1 h2]
  have y10 : ∀ x, x ≠ 0 → x ≠ 11 → x ≠ 12 → x ≠ 13 → x ≠ 14 → (u2 J9 14 (8 + zQ K) v3) x = J x := fun x h1 h2 h3 h4 h5 => by rw [u2_ne h5, fu9.1 x h1, y8 x h1 h2 h3 h4]
  have w10 : ∀ k, (k < 7 ∨ 11 < k) → (u2 J9 14 (8 + zQ K) v3) 0 k = J 0 k := fun k hk => by rw [u2_ne (by decide), fu9.2 k hk, w8 k hk]
  have mu8 : mu n a7 ((u2 I7 (gN h) 2 v2) 2 3) = mu n a7 (I7 2 3) := by rw [u2_ne (Ne.symm b2)]
  have mu10 : mu n a9 ((u2 I9 (gN h) 3 v3) 2 3) = mu n a9 (I9 2 3) := by rw [u2_ne (Ne.symm b2)]
  rcases r_some (L := gL h2) (g := g) (M := M) (kr := 0) ((rd9.wb (k := 3) (v := v3) h54).wr (x := 14) (k := 8 + zQ K) (v := v3) (by decide)) (rwG _ _ x10 (y10 5 (by decide) (by decide) (by decide) (by decide) (by decide))) (by rw [w10 17 (by omega)]; exact e17) with fl | ⟨v4, I11, J11, a11, o4, e1, e2, rd11, j11'', fx11, fu11, m11⟩
  · left
    refine (((fl.l1 ef10 q ml10).cx _).cx _ |>.m (fun H e => ?_)).le (by omega) (by omega)
    rw [e, cal_s, if_pos rfl]
  have x12 : ∀ x, x ≠ gN h → x ≠ 2 → (u2 I11 (gN h) 4 v4) x = gI h2 x := fun x h1 h2 => by rw [u2_ne h1, fx11.1 x h2, x10 x h1 h2]
  have ad := ec_addG (I := u2 I11 (gN h) 4 v4) (L := gL h2) (b := gN h) cc2.2.1.2.2 (show (u2 I11 (gN h) 4 v4) (c + 5) 2 = nn (zQ K) by rw [x12 _ nb.2.1 (by omega)]; exact cc2.2.2.2.1.2.2) (show (gT (cV h2) (c + 5 + 1)).2 = 8 from cc2.2.2.1.2.2) z8 (by decide) (by omega) (Or.inr (Or.inr t2'))
  obtain ⟨p1, p2, p3, p4, p5, p6⟩ := sR_fr (h := h2) (x := c + 5 + 1) (k := zQ K) (v := some (gN h)) (by omega)
  have w12 : ∀ k, (k < 7 ∨ 11 < k) → (u2 J11 15 (8 + zQ K) v4) 0 k = J 0 k := fun k hk => by rw [u2_ne (by decide), fu11.2 k hk, w10 k hk]
  rw [e1, e2, calx_l, cal_s, if_neg (by decide), grd_pos (show (gT (cV (hw h2 I11 (gL h2))) (gN h)).1 = 9 from t2'), bnd_e, sI_hw, grd_pos inx, bnd_e, sI_hw, gI_hw, j11'', show u2 J11 15 (nn (8 + zQ K)).toNatClampNeg v4 = u2 J11 15 (8 + zQ K) v4 by rw [cx], bnd_e, sI_hw, gI_hw, w12 19 (by omega), e19, nn_succ, show gR (cV (hw h2 (u2 I11 (gN h) 4 v4) (gL h2))) 2 7 = some c from q2.1.2.2.2.1, onr_some, grd_pos (show shC (cV (hw h2 (u2 I11 (gN h) 4 v4) (gL h2))) c from q2.1.2.2.2.2.1), grd_pos (show shL (cV (hw h2 (u2 I11 (gN h) 4 v4) (gL h2))) (c + 5) from cc2.2.1.2.2), ad, cal_s]
  generalize hI13 : u2 (u2 (u2 I11 (gN h) 4 v4) (c + 5) 0 ((u2 I11 (gN h) 4 v4) (c + 5) 0 + 1)) (c + 5) 2 (nn (zQ K + 1)) = I13
  have fI13 : ∀ x, x ≠ c + 5 → I13 x = (u2 I11 (gN h) 4 v4) x := fun x h1 => by rw [← hI13, u2_ne h1, u2_ne h1]
  have fI2 : I13 2 = I11 2 := by rw [fI13 2 (by omega), u2_ne (by omega)]
  have bI : ∀ k, I13 (gN h) k = if k = 4 then v4 else if k = 3 then v3 else if k = 2 then v2 else if k = 1 then nn (u - 8) else if k = 0 then v0 else 0 := fun k => by
    rw [fI13 (gN h) (Ne.symm nb.2.1), u2_eq, fx11.1 _ b2, u2_eq, fx9.1 _ b2, u2_eq, fx7.1 _ b2, fx5.1 _ b2, u2_eq, u2_eq, fx3.1 _ b2, i0]
  have fr5 : ∀ k, k ≠ 0 → k ≠ 2 → k ≠ 3 → k ≠ 4 → I11 2 k = I 2 k := fun k h0 h2 h3 h4 => by
    rw [fx11.2 k h0 h2 h3 h4, u2_ne (Ne.symm b2), fx9.2 k h0 h2 h3 h4, u2_ne (Ne.symm b2), fx7.2 k h0 h2 h3 h4, fx5.2 k h0 h2 h3 h4, i52, fx3.2 k h0 h2 h3 h4, i2]
  have mu13 : mu n a11 (I13 2 3) = mu n a11 (I11 2 3) := by rw [fI2]
  have okf : ∀ v : Int32, (v = -1 ∨ ∃ k, k < zF K ∧ v = nn k) → okF v := fun v hv => by
    rcases hv with y | ⟨k, hk, y⟩
    · exact Or.inl y
    · exact Or.inr ⟨k, by omega, y⟩
  have J11x : ∀ x, x ≠ 0 → J11 x = (u2 J9 14 (8 + zQ K) v3) x := fun x hx => fu11.1 x hx
  have J9x : ∀ x, x ≠ 0 → J9 x = (u2 J7 13 (8 + zQ K) v2) x := fun x hx => fu9.1 x hx
  have J7x : ∀ x, x ≠ 0 → J7 x = J5 x := fun x hx => fu7.1 x hx
  have J5x : ∀ x, x ≠ 0 → J5 x = (u2 J3 12 (8 + zQ K) (nn (u - 8))) x := fun x hx => fv5.1 x hx
  have r0 := mu_le n a11 (I11 2 3)
  right
  refine ⟨_, I13, gL h2, _, a11, _, _, rfl, rfl, q.quest z8 (b := gN h) (v := fun i => if i = 7 then v0 else if i = 8 then nn (u - 8) else if i = 9 then v2 else if i = 10 then v3 else v4) ⟨u - 8, by omega, rfl⟩ ⟨okf v2 o2, okf v3 o3, okf v4 o4⟩ (((rd11.wb (k := 4) (v := v4) h54).wr (x := 15) (k := 8 + zQ K) (v := v4) (by decide)).up (y := c + 5 + 1) p1 p2 (by omega) (by omega) (p6 sh2) (fI13 1 (by omega)) (fun k _ => by rw [fI13 2 (by omega)]) (by rw [u2_ne (by decide)]) (by rw [u2_ne (by decide)]) (fun k _ _ => by rw [u2_nk _ _ (by omega)])) (by rw [p1]; exact t2) ?_ ⟨fun x tx => by rw [p1]; exact (cf.1 x tx).1, fun x tx hx => by rw [p2 x hx]; exact (cf.1 x tx).2.1, fun x tx h2 hx => by rw [fI13 x hx, x12 x (fun e => by rw [e] at tx; exact tx u0) h2]; exact (cf.1 x tx).2.2 h2, by rw [fI2, fr5 5 (by decide) (by decide) (by decide) (by decide)], by rw [fI2, fr5 6 (by decide) (by decide) (by decide) (by decide)], by rw [p4]; omega⟩ (fun k => ?_) ?_ (fun x hx h6 => ?_) ?_ (fun x k g1 g2 hk => ?_) (u2_same _ _ _ _) (fun k hk h19 => ?_), ?_, ?_, ?_⟩
  · simp only [bI]
    exact ⟨rfl, rfl, rfl, rfl, rfl⟩
  · rw [show c + 6 = c + 5 + 1 from rfl, p3, (cf.1 (c + 5 + 1) (by rw [cc.2.1.2.2.2.2]; decide)).2.1]
  · rw [← hI13, u2_same]
  · rw [u2_ne hx, u2_ne (by omega), J11x x hx]; exact y10 x hx (by omega) (by omega) (by omega) (by omega)
  · refine ⟨?_, ?_, ?_, ?_, ?_⟩
    · rw [u2_ne (by decide), u2_ne (by decide), J11x 11 (by decide), u2_ne (by decide), J9x 11 (by decide), u2_ne (by decide), J7x 11 (by decide), J5x 11 (by decide), u2_ne (by decide)]; exact j5
    · rw [u2_ne (by decide), u2_ne (by decide), J11x 12 (by decide), u2_ne (by decide), J9x 12 (by decide), u2_ne (by decide), J7x 12 (by decide), J5x 12 (by decide), u2_same]; rfl
    · rw [u2_ne (by decide), u2_ne (by decide), J11x 13 (by decide), u2_ne (by decide), J9x 13 (by decide), u2_same]; rfl
    · rw [u2_ne (by decide), u2_ne (by decide), J11x 14 (by decide), u2_same]; rfl
    · rw [u2_ne (by decide), u2_same]; rfl
  · rcases (show x = 11 ∨ x = 12 ∨ x = 13 ∨ x = 14 ∨ x = 15 by omega) with rfl | rfl | rfl | rfl | rfl
    · rw [u2_ne (by decide), u2_ne (by decide), J11x 11 (by decide), u2_ne (by decide), J9x 11 (by decide), u2_ne (by decide), J7x 11 (by decide), J5x 11 (by decide), u2_ne (by decide)]; exact j5' k hk
    · rw [u2_ne (by decide), u2_ne (by decide), J11x 12 (by decide), u2_ne (by decide), J9x 12 (by decide), u2_ne (by decide), J7x 12 (by decide), J5x 12 (by decide), u2_nk _ _ hk, jx 12 (by decide) (by decide)]
    · rw [u2_ne (by decide), u2_ne (by decide), J11x 13 (by decide), u2_ne (by decide), J9x 13 (by decide), u2_nk _ _ hk, J7x 13 (by decide)]; rw [y5 13 (by decide) (by decide) (by decide)]
    · rw [u2_ne (by decide), u2_ne (by decide), J11x 14 (by decide), u2_nk _ _ hk, J9x 14 (by decide), u2_ne (by decide), J7x 14 (by decide)]; rw [y5 14 (by decide) (by decide) (by decide)]
    · rw [u2_ne (by decide), u2_nk _ _ hk, J11x 15 (by decide), u2_ne (by decide), J9x 15 (by decide), u2_ne (by decide), J7x 15 (by decide)]; rw [y5 15 (by decide) (by decide) (by decide)]
  · rw [u2_nk _ _ h19]; exact w12 k hk
  · rw [mu13]; omega
  · rw [mu13, p4]; omega
  · rw [mu13, p5]; omega
end P48
