set_option maxRecDepth 100000
/-! PURE LEVEL A2: lines: persons -/
section P47
variable {h0 h h' g : HP} {I0 J0 I I' J J' : Nat → Nat → Int32} {L M : Nat → Nat → Int64} {n : Nat} {tb : Nat → Nat} {a a' c kr : Nat} {K : KT} {A : Nat → Nat → Nat} {t ln : Nat} {S U : Nat → Prop} {j : HP → Option ((Unit ⊕ Nat × Nat) × HP)}
theorem EF0.wb {b k : Nat} {v : Int32} (e : EF0 h0 I0 h I) (sh : Shp h0) (hb : gN h0 ≤ b) : EF0 h0 I0 h (u2 I b k v) := e.up sh (fun _ _ => rfl) (fun _ _ _ => rfl) (fun x hx _ => u2_ne (by omega)) (Nat.le_refl _)
theorem EF0.fx (e : EF0 h0 I0 h I) (f : frX I I') : EF0 h0 I0 h I' := e.cf (CF.x f)
theorem ML0.wr {x k : Nat} {v : Int32} (e : ML0 J0 J) (h1 : 3 < x) (h2 : x < 25) (hk : hf x ≤ k) : ML0 J0 (u2 J x k v) := by
  refine ⟨fun y hy => by rw [u2_ne (by omega)]; exact e.1 y hy, fun y i g1 g2 g3 => ?_, fun i hi => by rw [u2_ne (by omega)]; exact e.2.2 i hi⟩
  by_cases z : y = x
  · subst z; rw [u2_nk _ _ (by omega)]; exact e.2.1 y i g1 g2 g3
  · rw [u2_ne z]; exact e.2.1 y i g1 g2 g3
theorem Rd.wb {b k : Nat} {v : Int32} (q : Rd h I J n tb c a) (hb : 54 ≤ b) : Rd h (u2 I b k v) J n tb c a := q.cg (u2_ne (by omega)) (fun i _ => by rw [u2_ne (by omega)]) rfl rfl (fun _ _ _ => rfl)
theorem Rd.wr {x k : Nat} {v : Int32} (q : Rd h I J n tb c a) (hx : 2 < x) : Rd h I (u2 J x k v) n tb c a := q.cg rfl (fun _ _ => rfl) (u2_ne (by omega)) (u2_ne (by omega)) (fun i _ _ => by rw [u2_ne (by omega)])
theorem Flt.l1 {ρ : Type} {B : Nat} {tc : Option ((ρ ⊕ Nat × Nat) × HP)} {tm : Option (Int32 × HP)} (e : EF0 h0 I0 h I) (q : PSt h0 I0 J0 h' I' J' n tb c a' K A t ln) (m : ML0 J0 J) (f : Flt g M c kr h I J B tc tm) : LFl g M h0 I0 J0 (gN h + B) (gS h + 12 * B) tc tm := f.l e q.2.2.2.2.2.2.1.2 q.2.2.2.2.2.2.1.1 m
theorem b_person (q : PSt h0 I0 J0 h I J n tb c a K A t ln) (z8 : zP K < 5) : BR g M h0 I0 J0 n tb c h (mu n a (I 2 3)) t ln j (calx (cR_person (hw h I L)) (fun _ h49 => j h49)) (lmP (hw g J M)) := by
  have rd := q.1
  have c54 := rd.2.2.2.2.2.1
  obtain ⟨h2, s2, q2, cf, t2, u0, h54, i0, nN, nS, i2, g0⟩ := q.al (L := L) 8 5
  have cn : (gT (cV h) c).1 ≠ 0 := by rw [rd.ty]; decide
  have cc := q.2.1.1
  have cc2 := q2.2.1.1
  have sh0 : Shp h0 := q.2.2.2.2.2.2.1.2
  have b1 : (gT (cV h) (c + 3)).1 ≠ 0 := by rw [cc.2.1.2.1.1]; decide
  have sh2 : Shp h2 := q2.1.2.2.2.2.2.2
  have nb : c ≠ gN h ∧ c + 3 ≠ gN h := ⟨sh_ne rd.2.2.2.2.2.2 cn, sh_ne rd.2.2.2.2.2.2 b1⟩
  have t2' : (gT (cV h2) (gN h)).1 = 8 := by rw [t2]
  have e18 : J 0 18 = nn (zP K) := q.2.1.2.1.1.2.1
  have ix : (5 : Int32) + nn (zP K) = nn (5 + zP K) := nn_add 5 _
  have inx : inb (nn (5 + zP K)) 10 := nn_inb (by omega) (by omega)
  have cx : (nn (5 + zP K)).toNatClampNeg = 5 + zP K := nn_clamp (by omega)
  have un : cR_person (hw h I L) = calx (cR_fresh (c + 3) (hw h2 (gI h2) (gL h2))) (fun r7 h8 => cal (kX13_init (gN h) r7 h8) (fun r9 h10 => calx (cR_number (0 : Int32) (9 : Int32) h10) (fun r11 h12 => grd ((gT (cV h12) (gN h)).1 = 8) (bnd (sI h12 (gN h) 1 r11) (fun h14 => calx (cR_number (0 : Int32) (9 : Int32) h14) (fun r17 h18 => grd ((gT (cV h18) (gN h)).1 = 8) (bnd (sI h18 (gN h) 2 r17) (fun h20 => calx (cR_number (0 : Int32) (3 : Int32) h20) (fun r23 h24 => grd ((gT (cV h24) (gN h)).1 = 8) (bnd (sI h24 (gN h) 3 r23) (fun h26 => onr (gR (cV h26) 2 7) (fun b29 => grd (shC (cV h26) b29) (grd (shL (cV h26) (b29 + 3)) (cal (cL_add (b29 + 3) (gN h) h26) (fun r32 h33 => some (.inl (), h33)))))))))))))))) := by
    simp only [cR_person, cV_hw, gR_hw, onr_some, shC_hw, gN_hw, grd_pos h54, bnd_e, s2, q2.1.2.2.2.1, grd_pos q2.1.2.2.2.2.1]
  rw [un, lmP, gI_hw, e18]
  have m0 := mu_le n a (I 2 3)
  rcases r_fresh (L := gL h2) (g := g) (M := M) (kr := 0) q2.1 q2.rwP (by show 5 + zP K < 10; omega) (by decide) with fl | ⟨I3, J3, a3, v0, e1, e2, rd3, j5, j5', jx, j0, fx3, m3⟩
  · left
    refine (((q2.fl fl).cx _).cx _ |>.m (fun H e => ?_)).le (by omega) (by omega)
    show cal (m_newName 6 (nn 5) (nn (zP K)) (hw g J M)) _ = _
    rw [e, cal_s, if_pos rfl]
  have m3' : mu n a3 (I3 2 3) < mu n a (I 2 3) := by rw [i2] at m3; exact m3
  have ef3 : EF0 h0 I0 h2 I3 := q2.2.2.2.2.2.2.2.1.fx fx3
  have ml3 : ML0 J0 J3 := by
    refine ⟨fun x hx => (jx x (by omega) (by omega)).trans (q.2.2.2.2.2.2.2.2.1 x hx), fun x k g1 g2 g3 => ?_, fun k hk => (j0 k (by omega)).trans (q.2.2.2.2.2.2.2.2.2.2 k hk)⟩
    by_cases z : x = 6
    · subst z
      have : hf 6 = 5 := rfl
      rw [j5' k (by omega)]; exact q.2.2.2.2.2.2.2.2.2.1 6 k g1 g2 g3
    · rw [jx x (by omega) z]; exact q.2.2.2.2.2.2.2.2.2.1 x k g1 g2 g3
  have ki : kX13_init (gN h) v0 (hw h2 I3 (gL h2)) = some ((), hw h2 (u2 I3 (gN h) 0 v0) (gL h2)) := by
    simp only [kX13_init, kX12_init, bnd_e, cal_s, onr_s, jon_e, gI_hw, gL_hw, gT_hw, gR_hw, gN_hw, sI_hw, sL_hw, cV_hw, shS_hw, shC_hw, shL_hw, ← bt_def, grd_pos (show (gT (cV h2) (gN h)).1 = 7 ∨ (gT (cV h2) (gN h)).1 = 8 ∨ (gT (cV h2) (gN h)).1 = 9 from Or.inr (Or.inl t2'))]
  have ef4 : EF0 h0 I0 h2 (u2 I3 (gN h) 0 v0) := ef3.wb sh0 g0
  have e18' : J3 0 18 = nn (zP K) := by rw [j0 18 (by omega)]; exact e18
  rw [e1, show (5 : Int32) = nn 5 from rfl, e2, calx_l, cal_s, if_neg (by decide), ki, cal_s, bnd_e, gI_hw, e18', show nn 5 + nn (zP K) = nn (5 + zP K) from ix]
  have mu4 : mu n a3 ((u2 I3 (gN h) 0 v0) 2 3) = mu n a3 (I3 2 3) := by rw [u2_ne (by omega)]
  rcases r_num (L := gL h2) (g := g) (M := M) (kr := 0) (rd3.wb (k := 0) (v := v0) h54) 0 9 with fl | ⟨I5, J5, a5, v1, e1, e2, rd5, j11, rg1, fx5, fu5, m5⟩
  · left
    refine (((fl.l1 ef4 q ml3).cx _).cx _ |>.m (fun H e => ?_)).le (by omega) (by omega)
    rw [e, cal_s, if_pos rfl]
  have ef5 := (ef4.fx fx5)
  have ef6 : EF0 h0 I0 h2 (u2 I5 (gN h) 1 v1) := ef5.wb sh0 g0
  have ml6 : ML0 J0 (u2 J5 7 (5 + zP K) v1) := (ml3.u fu5).wr (by decide) (by decide) (by show 5 ≤ _; omega)
  rw [e1, e2, calx_l, cal_s, if_neg (by decide), grd_pos (show (gT (cV (hw h2 I5 (gL h2))) (gN h)).1 = 8 from t2'), bnd_e, sI_hw, grd_pos inx, bnd_e, sI_hw, gI_hw, j11, show u2 J5 7 (nn (5 + zP K)).toNatClampNeg v1 = u2 J5 7 (5 + zP K) v1 by rw [cx]]
  have mu6 : mu n a5 ((u2 I5 (gN h) 1 v1) 2 3) = mu n a5 (I5 2 3) := by rw [u2_ne (by omega)]
  rcases r_num (L := gL h2) (g := g) (M := M) (kr := 0) ((rd5.wb (k := 1) (v := v1) h54).wr (x := 7) (k := 5 + zP K) (v := v1) (by decide)) 0 9 with fl | ⟨I7, J7, a7, v2, e1, e2, rd7, j11', rg2, fx7, fu7, m7⟩
  · left
    refine (((fl.l1 ef6 q ml6).cx _).cx _ |>.m (fun H e => ?_)).le (by omega) (by omega)
    rw [e, cal_s, if_pos rfl]
  have ef8 : EF0 h0 I0 h2 (u2 I7 (gN h) 2 v2) := (ef6.fx fx7).wb sh0 g0
  have ml8 : ML0 J0 (u2 J7 8 (5 + zP K) v2) := (ml6.u fu7).wr (by decide) (by decide) (by show 5 ≤ _; omega)
  rw [e1, e2, calx_l, cal_s, if_neg (by decide), grd_pos (show (gT (cV (hw h2 I7 (gL h2))) (gN h)).1 = 8 from t2'), bnd_e, sI_hw, grd_pos inx, bnd_e, sI_hw, gI_hw, j11', show u2 J7 8 (nn (5 + zP K)).toNatClampNeg v2 = u2 J7 8 (5 + zP K) v2 by rw [cx]]
  have mu8 : mu n a7 ((u2 I7 (gN h) 2 v2) 2 3) = mu n a7 (I7 2 3) := by rw [u2_ne (by omega)]
  rcases r_num (L := gL h2) (g := g) (M := M) (kr := 0) ((rd7.wb (k := 2) (v := v2) h54).wr (x := 8) (k := 5 + zP K) (v := v2) (by decide)) 0 3 with fl | ⟨I9, J9, a9, v3, e1, e2, rd9, j11'', rg3, fx9, fu9, m9⟩
  · left
    refine (((fl.l1 ef8 q ml8).cx _).cx _ |>.m (fun H e => ?_)).le (by omega) (by omega)
    rw [e, cal_s, if_pos rfl]
  have c3 : gR (cV h2) 2 7 = some c := q2.1.2.2.2.1
  have i3c : (u2 I9 (gN h) 3 v3) (c + 3) 2 = nn (zP K) := by
    rw [u2_ne nb.2, fx9.1 (c + 3) (by omega), u2_ne nb.2, fx7.1 (c + 3) (by omega), u2_ne nb.2, fx5.1 (c + 3) (by omega), u2_ne nb.2, fx3.1 (c + 3) (by omega)]; exact cc2.2.2.2.1.2.1
  have ad := ec_addG (I := u2 I9 (gN h) 3 v3) (L := gL h2) (b := gN h) cc2.2.1.2.1 i3c (show (gT (cV h2) (c + 3 + 1)).2 = 5 from cc2.2.2.1.2.1) z8 (by decide) (by omega) (Or.inr (Or.inl t2'))
  obtain ⟨p1, p2, p3, p4, p5, p6⟩ := sR_fr (h := h2) (x := c + 3 + 1) (k := zP K) (v := some (gN h)) (by omega)
  rw [e1, e2, calx_l, cal_s, if_neg (by decide), grd_pos (show (gT (cV (hw h2 I9 (gL h2))) (gN h)).1 = 8 from t2'), bnd_e, sI_hw, grd_pos inx, bnd_e, sI_hw, gI_hw, j11'', grd_pos inx, bnd_e, sI_hw, bnd_e, sI_hw, gI_hw, show u2 (u2 J9 9 (nn (5 + zP K)).toNatClampNeg v3) 10 (nn (5 + zP K)).toNatClampNeg 0 = u2 (u2 J9 9 (5 + zP K) v3) 10 (5 + zP K) 0 by rw [cx], show gR (cV (hw h2 (u2 I9 (gN h) 3 v3) (gL h2))) 2 7 = some c from c3, onr_some, grd_pos (show shC (cV (hw h2 (u2 I9 (gN h) 3 v3) (gL h2))) c from q2.1.2.2.2.2.1), grd_pos (show shL (cV (hw h2 (u2 I9 (gN h) 3 v3) (gL h2))) (c + 3) from cc2.2.1.2.1), ad, cal_s]
  have e18'' : (u2 (u2 J9 9 (5 + zP K) v3) 10 (5 + zP K) 0) 0 18 = nn (zP K) := by
    rw [u2_ne (by decide), u2_ne (by decide), fu9.2 18 (by omega), u2_ne (by decide), fu7.2 18 (by omega), u2_ne (by decide), fu5.2 18 (by omega)]; exact e18'
  rw [e18'', nn_succ]
  generalize hI11 : u2 (u2 (u2 I9 (gN h) 3 v3) (c + 3) 0 ((u2 I9 (gN h) 3 v3) (c + 3) 0 + 1)) (c + 3) 2 (nn (zP K + 1)) = I11
  have fI11 : ∀ x, x ≠ c + 3 → I11 x = (u2 I9 (gN h) 3 v3) x := fun x h1 => by rw [← hI11, u2_ne h1, u2_ne h1]
  have fIx : ∀ x, x ≠ gN h → x ≠ c + 3 → x ≠ 2 → I11 x = gI h2 x := fun x h1 h3 h2 => by
    rw [fI11 x h3, u2_ne h1, fx9.1 x h2, u2_ne h1, fx7.1 x h2, u2_ne h1, fx5.1 x h2, u2_ne h1, fx3.1 x h2]
  have fI2 : I11 2 = I9 2 := by rw [fI11 2 (by omega), u2_ne (by omega)]
  have b2 : gN h ≠ 2 := by omega
  have bI : ∀ k, I11 (gN h) k = if k = 3 then v3 else if k = 2 then v2 else if k = 1 then v1 else if k = 0 then v0 else 0 := fun k => by
    rw [fI11 (gN h) (Ne.symm nb.2), u2_eq, fx9.1 _ b2, u2_eq, fx7.1 _ b2, u2_eq, fx5.1 _ b2, u2_eq, fx3.1 _ b2, i0]
  have fr5 : ∀ k, k ≠ 0 → k ≠ 2 → k ≠ 3 → k ≠ 4 → I9 2 k = I 2 k := fun k h0 h2 h3 h4 => by
    rw [fx9.2 k h0 h2 h3 h4, u2_ne (Ne.symm b2), fx7.2 k h0 h2 h3 h4, u2_ne (Ne.symm b2), fx5.2 k h0 h2 h3 h4, u2_ne (Ne.symm b2), fx3.2 k h0 h2 h3 h4, i2]
  have mu11 : mu n a9 (I11 2 3) = mu n a9 (I9 2 3) := by rw [fI2]
  have Jr : ∀ x, x ≠ 0 → (x < 6 ∨ 10 < x) → (u2 (u2 (u2 J9 9 (5 + zP K) v3) 10 (5 + zP K) 0) 0 18 (nn (zP K + 1))) x = J x := fun x hx h6 => by
    rw [u2_ne hx, u2_ne (by omega), u2_ne (by omega), fu9.1 x hx, u2_ne (by omega), fu7.1 x hx, u2_ne (by omega), fu5.1 x hx, jx x hx (by omega)]
  have J9x : ∀ x, x ≠ 0 → J9 x = (u2 J7 8 (5 + zP K) v2) x := fun x hx => fu9.1 x hx
  have J7x : ∀ x, x ≠ 0 → J7 x = (u2 J5 7 (5 + zP K) v1) x := fun x hx => fu7.1 x hx
  have J5x : ∀ x, x ≠ 0 → J5 x = J3 x := fun x hx => fu5.1 x hx
  have r0 := mu_le n a9 (I9 2 3)
  right
  refine ⟨_, I11, gL h2, _, a9, _, _, rfl, rfl, q.person z8 (b := gN h) (v := fun i => if i = 2 then v0 else if i = 3 then v1 else if i = 4 then v2 else if i = 5 then v3 else 0) (show (0 : Int32) &&& 255 = 0 from rfl) g0 u0 (((rd9.wb (k := 3) (v := v3) h54).wr (x := 9) (k := 5 + zP K) (v := v3) (by decide)).up (y := c + 3 + 1) p1 p2 (by omega) (by omega) (p6 sh2) (fI11 1 (by omega)) (fun k _ => by rw [fI11 2 (by omega)]) (by rw [u2_ne (by decide), u2_ne (by decide)]) (by rw [u2_ne (by decide), u2_ne (by decide)]) (fun k _ _ => by rw [u2_nk _ _ (by omega), u2_ne (by decide)])) (by rw [p1]; exact t2) ?_ ⟨fun x tx => by rw [p1]; exact (cf.1 x tx).1, fun x tx hx => by rw [p2 x hx]; exact (cf.1 x tx).2.1, fun x tx h2 hx => by rw [fIx x (fun e => by rw [e] at tx; exact tx u0) hx h2]; exact (cf.1 x tx).2.2 h2, by rw [fI2, fr5 5 (by decide) (by decide) (by decide) (by decide)], by rw [fI2, fr5 6 (by decide) (by decide) (by decide) (by decide)], by rw [p4]; omega⟩ (fun k => ?_) ?_ Jr ?_ (fun x k g1 g2 hk => ?_) (u2_same _ _ _ _) (fun k hk h18 => ?_), ?_, ?_, ?_⟩
  · simp only [bI]
    exact ⟨rfl, rfl, rfl, rfl, rfl⟩
  · rw [show c + 4 = c + 3 + 1 from rfl, p3, (cf.1 (c + 3 + 1) (by rw [cc.2.1.2.1.2.2]; decide)).2.1]
  · rw [← hI11, u2_same]
  · refine ⟨?_, ?_, ?_, ?_, ?_⟩
    · rw [u2_ne (by decide), u2_ne (by decide), u2_ne (by decide), J9x 6 (by decide), u2_ne (by decide), J7x 6 (by decide), u2_ne (by decide), J5x 6 (by decide)]; exact j5
    · rw [u2_ne (by decide), u2_ne (by decide), u2_ne (by decide), J9x 7 (by decide), u2_ne (by decide), J7x 7 (by decide), u2_same]; rfl
    · rw [u2_ne (by decide), u2_ne (by decide), u2_ne (by decide), J9x 8 (by decide), u2_same]; rfl
    · rw [u2_ne (by decide), u2_ne (by decide), u2_same]; rfl
    · rw [u2_ne (by decide), u2_same]; rfl
  · rcases (show x = 6 ∨ x = 7 ∨ x = 8 ∨ x = 9 ∨ x = 10 by omega) with rfl | rfl | rfl | rfl | rfl
    · rw [u2_ne (by decide), u2_ne (by decide), u2_ne (by decide), J9x 6 (by decide), u2_ne (by decide), J7x 6 (by decide), u2_ne (by decide), J5x 6 (by decide)]; exact j5' k hk
    · rw [u2_ne (by decide), u2_ne (by decide), u2_ne (by decide), J9x 7 (by decide), u2_ne (by decide), J7x 7 (by decide), u2_nk _ _ hk, J5x 7 (by decide), jx 7 (by decide) (by decide)]
    · rw [u2_ne (by decide), u2_ne (by decide), u2_ne (by decide), J9x 8 (by decide), u2_nk _ _ hk, J7x 8 (by decide), u2_ne (by decide), J5x 8 (by decide), jx 8 (by decide) (by decide)]
    · rw [u2_ne (by decide), u2_ne (by decide), u2_nk _ _ hk, J9x 9 (by decide), u2_ne (by decide), J7x 9 (by decide), u2_ne (by decide), J5x 9 (by decide), jx 9 (by decide) (by decide)]
    · rw [u2_ne (by decide), u2_nk _ _ hk, u2_ne (by decide), J9x 10 (by decide), u2_ne (by decide), J7x 10 (by decide), u2_ne (by decide), J5x 10 (by decide), jx 10 (by decide) (by decide)]
  · rw [u2_nk _ _ h18, u2_ne (by decide), u2_ne (by decide), fu9.2 k hk, u2_ne (by decide), fu7.2 k hk, u2_ne (by decide), fu5.2 k hk]; exact j0 k (by omega)
  · rw [mu11]; omega
  · rw [mu11, p4]; omega
  · rw [mu11, p5]; omega
end P47
