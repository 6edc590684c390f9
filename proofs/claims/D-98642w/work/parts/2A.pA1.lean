set_option maxRecDepth 100000
/-! PURE LEVEL A1: lines: facts and persons -/
def lnF (j : HP → Option ((Unit ⊕ Nat × Nat) × HP)) (h14 : HP) : Option ((Unit ⊕ Nat × Nat) × HP) := onr (gR (cV h14) 2 7) (fun b31 => grd (shC (cV h14) b31) (grd (54 ≤ gN h14) (bnd (gN h14) (fun b35 => bnd (sA h14 (7, 0) 1) (fun h36 => onr (gR (cV h36) 2 7) (fun b37 => grd (shC (cV h36) b37) (calx (cR_fresh (b37 + 1) h36) (fun r40 h41 => cal (kX12_init b35 r40 h41) (fun r42 h43 => grd (shL (cV h43) (b31 + 1)) (cal (cL_add (b31 + 1) b35 h43) (fun r44 h45 => j h45)))))))))))
def lmF (h5 : HP) : Option (Int32 × HP) := cal (m_newName 5 (8 : Int32) (gI h5 0 17) h5) (fun r6 h7 => if r6 = 0 then (some ((0 : Int32), h7)) else (bnd (sI h7 0 17 ((gI h7 0 17) + (1 : Int32))) (fun h8 => some ((1 : Int32), h8))))
def lmP (h5 : HP) : Option (Int32 × HP) := cal (m_newName 6 (5 : Int32) (gI h5 0 18) h5) (fun r6 h7 => if r6 = 0 then (some ((0 : Int32), h7)) else (bnd ((5 : Int32) + (gI h7 0 18)) (fun x8 => cal (m_number (0 : Int32) (9 : Int32) h7) (fun r9 h10 => if r9 = 0 then (some ((0 : Int32), h10)) else (grd (inb x8 10) (bnd (sI h10 7 (x8).toNatClampNeg (gI h10 0 11)) (fun h11 => cal (m_number (0 : Int32) (9 : Int32) h11) (fun r12 h13 => if r12 = 0 then (some ((0 : Int32), h13)) else (grd (inb x8 10) (bnd (sI h13 8 (x8).toNatClampNeg (gI h13 0 11)) (fun h14 => cal (m_number (0 : Int32) (3 : Int32) h14) (fun r15 h16 => if r15 = 0 then (some ((0 : Int32), h16)) else (grd (inb x8 10) (bnd (sI h16 9 (x8).toNatClampNeg (gI h16 0 11)) (fun h17 => grd (inb x8 10) (bnd (sI h17 10 (x8).toNatClampNeg (0 : Int32)) (fun h18 => bnd (sI h18 0 18 ((gI h18 0 18) + (1 : Int32))) (fun h19 => some ((1 : Int32), h19)))))))))))))))))))
/-- a line's body, both sides -/
def BR (g : HP) (M : Nat → Nat → Int64) (h0 : HP) (I0 J0 : Nat → Nat → Int32) (n : Nat) (tb : Nat → Nat) (c : Nat) (h : HP) (m t ln : Nat) (j : HP → Option ((Unit ⊕ Nat × Nat) × HP)) (tc : Option ((Unit ⊕ Nat × Nat) × HP)) (tm : Option (Int32 × HP)) : Prop :=
  LFl g M h0 I0 J0 (gN h + (m + 3)) (gS h + (12 * m + 40)) tc tm ∨ ∃ h' I' L' J' a' K' A', tc = j (hw h' I' L') ∧ tm = some (1, hw g J' M) ∧ PSt h0 I0 J0 h' I' J' n tb c a' K' A' t ln ∧ mu n a' (I' 2 3) ≤ m ∧ gN h' + mu n a' (I' 2 3) ≤ gN h + m ∧ gS h' + 12 * mu n a' (I' 2 3) ≤ gS h + 12 * m
section P46
variable {h0 h h' g : HP} {I0 J0 I I' J J' : Nat → Nat → Int32} {L M : Nat → Nat → Int64} {n : Nat} {tb : Nat → Nat} {a a' c kr : Nat} {K : KT} {A : Nat → Nat → Nat} {t ln : Nat} {S U : Nat → Prop} {j : HP → Option ((Unit ⊕ Nat × Nat) × HP)}
theorem Rd.up {y : Nat} (q : Rd h I J n tb c a) (ft : ∀ x, gT (cV h') x = gT (cV h) x) (fr : ∀ x, x ≠ y → gR (cV h') x = gR (cV h) x) (y2 : y ≠ 2) (yc : y ≠ c) (sh : Shp h') (i1 : I' 1 = I 1) (i2 : ∀ k, k ≤ 4 → I' 2 k = I 2 k) (j1 : J' 1 = J 1) (j2 : J' 2 = J 2) (j0 : ∀ k, 4 ≤ k → k ≤ 10 → J' 0 k = J 0 k) : Rd h' I' J' n tb c a := by
  have rd' : Rd h' I J n tb c a := by
    obtain ⟨t, r, k, r1, r2, r3, r4⟩ := q
    refine ⟨t, r, k, by rw [fr 2 (Ne.symm y2)]; exact r1, ?_, r3, sh⟩
    obtain ⟨a1, a2, a3, a4, a5, a6⟩ := r2
    exact ⟨by rw [ft]; exact a1, by rw [fr c (Ne.symm yc)]; exact a2, by rw [ft]; exact a3, by rw [ft]; exact a4, by rw [ft]; exact a5, by rw [ft]; exact a6⟩
  exact rd'.cg i1 i2 j1 j2 j0
theorem PSt.al (q : PSt h0 I0 J0 h I J n tb c a K A t ln) (ty m : Nat) : ∃ h', sA (hw h I L) (ty, 0) m = hw h' (gI h') (gL h') ∧ PSt h0 I0 J0 h' (gI h') J n tb c a K A t ln ∧ CF h I h' (gI h') ∧ gT (cV h') (gN h) = (ty, 0) ∧ (gT (cV h) (gN h)).1 = 0 ∧ 54 ≤ gN h ∧ (∀ k, gI h' (gN h) k = 0) ∧ gN h' = gN h + 1 ∧ gS h' = gS h + m ∧ gI h' 2 = I 2 ∧ gN h0 ≤ gN h := by
  have sh : Shp h := q.1.2.2.2.2.2.2
  have h54 := sh.1
  obtain ⟨H', hH, F, tH, fI, nN, nS, sH⟩ := nw_f I L ty m sh
  have ff : ∀ x, (gT (cV h) x).1 ≠ 0 → gT (cV H') x = gT (cV h) x ∧ gR (cV H') x = gR (cV h) x := fun x tx => F x (sh_ne sh tx)
  have cf : CF h I H' (gI H') := ⟨fun x tx => ⟨(ff x tx).1, (ff x tx).2, fun _ => fI x (sh_ne sh tx)⟩, by rw [fI 2 (by omega)], by rw [fI 2 (by omega)], by omega⟩
  have rd : Rd H' (gI H') J n tb c a := (q.1.hp ff sH).cg (fI 1 (by omega)) (fun k _ => by rw [fI 2 (by omega)]) rfl rfl (fun _ _ _ => rfl)
  refine ⟨H', by rw [hH, ← hw_eta], q.cg rd cf ⟨fun _ _ => rfl, fun _ _ => rfl⟩, cf, tH, by rw [gTV h54]; exact sh.2 _ (Nat.le_refl _), h54, fun k => ?_, nN, nS, fI 2 (by omega), q.2.2.2.2.2.2.2.1.2⟩
  rw [← hH, gI_sA, gN_hw, if_pos rfl]
theorem ec_addG {l b m cap : Nat} (hL : shL (cV h) l) (e : I l 2 = nn m) (hc : (gT (cV h) (l + 1)).2 = cap) (hm : m < cap) (hc1 : cap < 1000) (h54 : 54 ≤ l) (tb : (gT (cV h) b).1 = 7 ∨ (gT (cV h) b).1 = 8 ∨ (gT (cV h) b).1 = 9) : cL_add l b (hw h I L) = some (1, hw (sR h (l + 1) m (some b)) (u2 (u2 I l 0 (I l 0 + 1)) l 2 (nn (m + 1))) L) := by
  have e2 : u2 I l 0 (I l 0 + 1) l 2 = nn m := by rw [u2_nk _ _ (by decide)]; exact e
  have ne : ¬ nn m = Int32.ofNat cap := fun x => by have := (nn_eq (a := m) (b := cap) (by omega) (by omega)).mp x; omega
  have t5 : (gT (cV h) b).1 = 7 ∨ (gT (cV h) b).1 = 8 ∨ (gT (cV h) b).1 = 9 ∨ (gT (cV h) b).1 = 14 ∨ (gT (cV h) b).1 = 15 := by omega
  have cr : cRs (l + 1) m = none := cRs_big (by omega)
  have i24 : inb (nn m) cap := nn_inb (by omega) (by omega)
  obtain ⟨p1, p2, p3, p4, p5, p6⟩ := sR_fr (h := h) (x := l + 1) (k := m) (v := some b) (by omega)
  have hL' : shL (cV (sR h (l + 1) m (some b))) l := by
    obtain ⟨s1, s2, s3⟩ := hL
    exact ⟨by rw [p1]; exact s1, by rw [p2 l (by omega)]; exact s2, by rw [p1]; exact s3⟩
  simp only [cL_add, cL_add_2, bnd_e, cal_s, onr_s, jon_e, gI_hw, gL_hw, gT_hw, gR_hw, gN_hw, sI_hw, sL_hw, cV_hw, shS_hw, shC_hw, shL_hw, ← bt_def, grd_pos hL, e2, grd_pos hL.2.2, hc, if_neg ne, nn_clamp (show m < 2147483648 by omega), grd_pos cr, grd_pos t5, grd_pos i24, hw_sR, grd_pos hL', nn_succ]
theorem PSt.rwF (q : PSt h0 I0 J0 h I J n tb c a K A t ln) : Rw h I J (c + 1) (zF K) 5 8 (A 1) := by
  obtain ⟨q1, ⟨q2, q3, q4⟩, -⟩ := q
  obtain ⟨-, ⟨b, -, -⟩, ⟨w6, -, -⟩, ⟨s1, -, -⟩, -, rF, -⟩ := q2
  have := q4.1.1
  exact ⟨⟨b, s1, by show zF K ≤ (gT (cV h) (c + 2)).2; omega, by omega, fun k hk => ⟨(rF k hk).1, Or.inl (rF k hk).2.1⟩⟩, ⟨rfl, by show 8 + zF K ≤ 16; omega, by decide⟩, fun k hk => by rw [(rF k hk).2.2, q3.2.2.1 k hk]⟩
theorem PSt.rwP (q : PSt h0 I0 J0 h I J n tb c a K A t ln) : Rw h I J (c + 3) (zP K) 6 5 (A 2) := by
  obtain ⟨q1, ⟨q2, q3, q4⟩, -⟩ := q
  obtain ⟨-, ⟨-, b, -⟩, ⟨-, w6, -⟩, ⟨-, s1, -⟩, -, -, rF, -⟩ := q2
  have := q4.1.2.1
  exact ⟨⟨b, s1, by show zP K ≤ (gT (cV h) (c + 4)).2; omega, by omega, fun k hk => ⟨(rF k hk).1, Or.inr (Or.inl (rF k hk).2.1)⟩⟩, ⟨rfl, by show 5 + zP K ≤ 10; omega, by decide⟩, fun k hk => by rw [(rF k hk).2.2.1, (q3.2.2.2.1 k hk).1]⟩
theorem PSt.rwQ (q : PSt h0 I0 J0 h I J n tb c a K A t ln) : Rw h I J (c + 5) (zQ K) 11 8 (A 3) := by
  obtain ⟨q1, ⟨q2, q3, q4⟩, -⟩ := q
  obtain ⟨-, ⟨-, -, b⟩, ⟨-, -, w6⟩, ⟨-, -, s1⟩, -, -, -, rF, -⟩ := q2
  have := q4.1.2.2.1
  exact ⟨⟨b, s1, by show zQ K ≤ (gT (cV h) (c + 6)).2; omega, by omega, fun k hk => ⟨(rF k hk).1, Or.inr (Or.inr (rF k hk).2.1)⟩⟩, ⟨rfl, by show 8 + zQ K ≤ 16; omega, by decide⟩, fun k hk => by rw [(rF k hk).2.2.1, (q3.2.2.2.2.1 k hk).1]⟩
theorem PSt.fl {ρ : Type} {B : Nat} {tc : Option ((ρ ⊕ Nat × Nat) × HP)} {tm : Option (Int32 × HP)} (q : PSt h0 I0 J0 h I J n tb c a K A t ln) (f : Flt g M c kr h I J B tc tm) : LFl g M h0 I0 J0 (gN h + B) (gS h + 12 * B) tc tm := f.l q.2.2.2.2.2.2.2.1 q.2.2.2.2.2.2.1.2 q.2.2.2.2.2.2.1.1 q.2.2.2.2.2.2.2.2
theorem b_fact (q : PSt h0 I0 J0 h I J n tb c a K A t ln) (z8 : zF K < 8) : BR g M h0 I0 J0 n tb c h (mu n a (I 2 3)) t ln j (lnF j (hw h I L)) (lmF (hw g J M)) := by
  have rd := q.1
  have c54 := rd.2.2.2.2.2.1
  obtain ⟨h2, s2, q2, cf, t2, u0, h54, i0, nN, nS, i2, g0⟩ := q.al (L := L) 7 1
  have cn : (gT (cV h) c).1 ≠ 0 := by rw [rd.ty]; decide
  have cc := q.2.1.1
  have b1 : (gT (cV h) (c + 1)).1 ≠ 0 := by rw [cc.2.1.1.1]; decide
  have sh2 : Shp h2 := q2.1.2.2.2.2.2.2
  have nb : c ≠ gN h ∧ c + 1 ≠ gN h ∧ c + 2 ≠ gN h := ⟨sh_ne rd.2.2.2.2.2.2 cn, sh_ne rd.2.2.2.2.2.2 b1, sh_ne rd.2.2.2.2.2.2 (by show (gT (cV h) (c + 1 + 1)).1 ≠ 0; rw [cc.2.1.1.2.2]; decide)⟩
  have un : lnF j (hw h I L) = calx (cR_fresh (c + 1) (hw h2 (gI h2) (gL h2))) (fun r40 h41 => cal (kX12_init (gN h) r40 h41) (fun r42 h43 => grd (shL (cV h43) (c + 1)) (cal (cL_add (c + 1) (gN h) h43) (fun r44 h45 => j h45)))) := by
    simp only [lnF, cV_hw, gR_hw, rd.2.2.2.1, onr_some, shC_hw, grd_pos rd.2.2.2.2.1, gN_hw, grd_pos h54, bnd_e, s2, q2.1.2.2.2.1, grd_pos q2.1.2.2.2.2.1]
  rw [un, lmF, gI_hw, q.2.1.2.1.1.1]
  rcases r_fresh (L := gL h2) (g := g) (M := M) (kr := 0) q2.1 q2.rwF (by show 8 + zF K < 16; omega) (by decide) with fl | ⟨I3, J3, a3, v, e1, e2, rd3, j5, j5', jx, j0, fx, m3⟩
  · left
    refine ((q2.fl (fl.cx _)).m (fun H e => ?_)).le (by omega) (by omega)
    show cal (m_newName 5 (nn 8) (nn (zF K)) (hw g J M)) _ = _
    rw [e, cal_s, if_pos rfl]
  · right
    have cc2 := q2.2.1.1
    have cf3 : CF h I h2 I3 := cf.tr (CF.x fx)
    have t2' : (gT (cV h2) (gN h)).1 = 7 := by rw [t2]
    have ki : kX12_init (gN h) v (hw h2 I3 (gL h2)) = some ((), hw h2 (u2 I3 (gN h) 0 v) (gL h2)) := by
      simp only [kX12_init, bnd_e, cal_s, onr_s, jon_e, gI_hw, gL_hw, gT_hw, gR_hw, gN_hw, sI_hw, sL_hw, cV_hw, shS_hw, shC_hw, shL_hw, ← bt_def, grd_pos (show (gT (cV h2) (gN h)).1 = 7 ∨ (gT (cV h2) (gN h)).1 = 8 ∨ (gT (cV h2) (gN h)).1 = 9 from Or.inl t2')]
    have i41 : (u2 I3 (gN h) 0 v) (c + 1) 2 = nn (zF K) := by rw [u2_ne nb.2.1, fx.1 (c + 1) (by omega)]; exact cc2.2.2.2.1.1
    have ad := ec_addG (I := u2 I3 (gN h) 0 v) (L := gL h2) (b := gN h) cc2.2.1.1 i41 (show (gT (cV h2) (c + 1 + 1)).2 = 8 from cc2.2.2.1.1) z8 (by decide) (by omega) (Or.inl t2')
    obtain ⟨p1, p2, p3, p4, p5, p6⟩ := sR_fr (h := h2) (x := c + 1 + 1) (k := zF K) (v := some (gN h)) (by omega)
    generalize hI5 : u2 (u2 (u2 I3 (gN h) 0 v) (c + 1) 0 ((u2 I3 (gN h) 0 v) (c + 1) 0 + 1)) (c + 1) 2 (nn (zF K + 1)) = I5 at ad
    have fI5 : ∀ x, x ≠ gN h → x ≠ c + 1 → I5 x = I3 x := fun x h1 h2 => by rw [← hI5, u2_ne h2, u2_ne h2, u2_ne h1]
    have mu5 : mu n a3 (I5 2 3) = mu n a3 (I3 2 3) := by rw [fI5 2 (by omega) (by omega)]
    have m3' : mu n a3 (I3 2 3) < mu n a (I 2 3) := by rw [i2] at m3; exact m3
    have e17 : J3 0 17 = nn (zF K) := by rw [j0 17 (by omega)]; exact q.2.1.2.1.1.1
    rw [e1, show (8 : Int32) = nn 8 from rfl, e2, calx_l, cal_s, if_neg (by decide), ki, cal_s, grd_pos (show shL (cV (hw h2 (u2 I3 (gN h) 0 v) (gL h2))) (c + 1) from cc2.2.1.1), ad, cal_s, bnd_e, sI_hw, gI_hw, e17, nn_succ]
    refine ⟨_, I5, gL h2, u2 J3 0 17 (nn (zF K + 1)), a3, _, _, rfl, rfl, q.fact z8 (b := gN h) (v := v) (rd3.up (y := c + 1 + 1) p1 p2 (by omega) (by omega) (p6 sh2) (fI5 1 (by omega) (by omega)) (fun k _ => by rw [fI5 2 (by omega) (by omega)]) (u2_ne (by decide)) (u2_ne (by decide)) (fun k _ _ => u2_nk _ _ (by omega))) (by rw [p1]; exact t2) ?_ ⟨fun x tx => by rw [p1]; exact (cf3.1 x tx).1, fun x tx hx => by rw [p2 x hx]; exact (cf3.1 x tx).2.1, fun x tx h2 hx => by rw [fI5 x (fun e => by rw [e] at tx; exact tx u0) hx]; exact (cf3.1 x tx).2.2 h2, by rw [fI5 2 (by omega) (by omega)]; exact cf3.2.1, by rw [fI5 2 (by omega) (by omega)]; exact cf3.2.2.1, by rw [p4]; omega⟩ (fun k => ?_) ?_ (fun x h0 h5 => by rw [u2_ne h0]; exact jx x h0 h5) (by rw [u2_ne (by decide)]; exact j5) (fun k hk => by rw [u2_ne (by decide)]; exact j5' k hk) (u2_same _ _ _ _) (fun k hk h17 => by rw [u2_nk _ _ h17]; exact j0 k (by omega)), ?_, ?_, ?_⟩
    · rw [← hI5, u2_ne (by omega), u2_ne (by omega), u2_same]
    · rw [show c + 2 = c + 1 + 1 from rfl, p3, (cf.1 (c + 1 + 1) (by rw [cc.2.1.1.2.2]; decide)).2.1]
    · rw [← hI5, u2_same]
    · rw [mu5]; omega
    · rw [mu5, p4]; omega
    · rw [mu5, p5]; omega
end P46
