set_option maxRecDepth 100000
/-! PURE LEVEL 89: one; the whole descent -/
section P38
variable {h h' g : HP} {I I' J J' : Nat → Nat → Int32} {L M : Nat → Nat → Int64} {n : Nat} {tb : Nat → Nat} {a c : Nat} {W P : List Nat} {H Q : List (Nat × LF)} {s0 kr b cnt : Nat} {wn : Int32} {f : LF} {F : HP → Option ((Nat ⊕ Nat × Nat) × HP)} {d : Nat}
theorem one_e (F : HP → Option ((Nat ⊕ Nat × Nat) × HP)) (H : HP) : cR_one F H = cal (cR_isSign (40 : Int32) H) (fun r1 h2 => if r1 = 0 then (if (gI h2 2 3) = (2 : Int32) then (if (gI h2 2 4) ≤ (9999 : Int32) then (grd (54 ≤ gN h2) (calx (cR_knot (sA h2 (10, 0) 1)) (fun r6 h7 => cal (kX16_init (gN h2) r6 h7) (fun r8 h9 => some (.inl (gN h2), h9))))) else wrC Nat 2 h2) else (if (gI h2 2 3) = 0 then (if (18 : Int32) ≤ (gI h2 2 4) then (grd (54 ≤ gN h2) (calx (cR_knot (sA h2 (11, 0) 1)) (fun r20 h21 => cal (kX17_init (gN h2) (r20 - (18 : Int32)) h21) (fun r22 h23 => some (.inl (gN h2), h23))))) else wrC Nat 1 h2) else wrC Nat 1 h2)) else (if (gI h2 2 5) = (8 : Int32) then wrC Nat 2 h2 else (cal (cR_next (sI h2 2 5 ((gI h2 2 5) + (1 : Int32)))) (fun r30 h31 => calx (cR_or F h31) (fun r32 h33 => cal (cR_isSign (41 : Int32) h33) (fun r34 h35 => if r34 = 0 then wrC Nat 1 h35 else (cal (cR_next (sI h35 2 5 ((gI h35 2 5) - (1 : Int32)))) (fun r42 h43 => some (.inl r32, h43))))))))) := by
  delta cR_one jon bnd wrC
  exact Eq.refl _
theorem sp_one (hs : Sp g M n tb c s0 1 1 1 true d (cR_or F)) : Sp g M n tb c s0 7 7 7 false (d + 1) (cR_one F) := by
  intro h I J L a W H kr b cnt q hW nbc hd K fu hf
  obtain ⟨fu1, rfl⟩ : ∃ fu1, fu = fu1 + 1 := ⟨fu - 1, by omega⟩
  have hn : n ≤ 700 := q.1.1.1.1
  have tok := q.1.2.2.1.1
  have b8 : b ≤ 8 := q.2.2.1.2.2.1
  have i5 := q.2.2.1.1
  have j48 := q.2.2.1.2.1
  have c64 := q.2.1.2.2.1
  have j49 := q.2.1.2.1
  have cz := q.2.1.2.2.2
  have stk := q.2.2.2.1
  have hlen := HSt.le _ _ stk.2.2.1
  have p7 : ∀ k : Nat, k ≠ 0 → rk k < 7 := fun k _ => by have := rk_6 k; omega
  rw [one_e, ec_isSign, cal_s]
  by_cases z : I 2 3 = 3 ∧ I 2 4 = 40
  · rw [decide_eq_true z, if_neg (by decide), gI_hw, i5]
    have tk := (tk_open tok).mpr z
    by_cases zb : b = 8
    · left
      rw [if_pos (show nn b = 8 by rw [zb]; rfl)]
      refine (st_wr (ρ := Nat) (L := L) 2 q ?_ K fu1).st (EF.rfl _ _ _) (MF.rfl _ _) (Nat.le_refl _) (by omega) (by omega)
      rw [em_lf_open tk.1 tk.2, j48, if_pos (by rw [zb]; rfl)]
    · rw [if_neg (show ¬ nn b = 8 from fun y => zb ((nn_eq (b := 8) (by omega) (by omega)).mp y)), sI_hw, nn_succ]
      obtain ⟨I1, J1, a1, e1, e2, es1, e51, m1, ef1, mf1⟩ := st_open (L := L) (g := g) (M := M) q z.1 z.2 (by omega) K fu1
      rw [e1, e2, cal_s]
      rcases hs h I1 J1 L a1 (0 :: W) H kr (b + 1) cnt es1 (fun k W' e => by cases e; decide) (show nbC true I1 J1 from e51) (by omega) K fu1 (by omega) with fl | ⟨h2, I2, L2, J2, a2, p, f, P, Q, kr2, cnt2, fu2, e3, e4, es2, ⟨m2, m3⟩, hP, hr, ⟨c1, k1⟩, pd, ps, ef2, mf2, bN, bS⟩
      · left
        exact (fl.cx _).st ef1 mf1 (Nat.le_refl _) (by omega) (by omega)
      · rw [e3, e4, calx_l, ec_isSign, cal_s]
        obtain ⟨fu3, rfl⟩ : ∃ fu3, fu2 = fu3 + 1 := ⟨fu2 - 1, by omega⟩
        have tok2 := es2.1.2.2.1.1
        by_cases y : I2 2 3 = 3 ∧ I2 2 4 = 41
        · rw [decide_eq_true y, if_neg (by decide), gI_hw, es2.2.2.1.1, show nn (b + 1) - 1 = nn b from nn_sub (a := b + 1) (b := 1) (by omega), sI_hw]
          obtain ⟨-, I3, J3, a3, x, e5, e6, es3, m4, ef3, mf3⟩ := st_close (L := L2) (g := g) (M := M) es2 y.1 y.2 hP hr K fu3
          rw [show b + 1 - 1 = b by omega] at e5 es3
          rw [e5, e6, cal_s]
          right
          exact ⟨h2, I3, L2, J3, a3, p, f, [], [(x, f)], kr2 + P.length, cnt2, fu3, rfl, rfl, es3, ⟨by omega, by omega⟩, fun k hk => (by cases hk), rfl, ⟨c1, by omega⟩, PDn.ef ef3 es2.ty _ p f pd, Or.inl (p7 _), (ef1.tr ef2).tr ef3, (mf1.tr (Nat.le_refl _) mf2).tr k1 mf3, by omega, by omega⟩
        · rw [decide_eq_false y, if_pos (by rfl)]
          left
          have fin : Flt g M c kr2 h2 I2 J2 1 (wrC Nat 1 (hw h2 I2 L2)) (m_sumRead_25 K (fu3 + 1) (hw g J2 M)) := by
            rcases ps with ps | ⟨w4, P5, k5, P', Q5, Q', g5, rfl, rfl, h5, h6, h7⟩
            · have k0 : tokK (I2 2 3) (I2 2 4) = 0 := by
                by_cases w : tokK (I2 2 3) (I2 2 4) = 0
                · exact w
                · have l1 := (tk_3 tok2 w).1
                  have l2 : 1 ≤ rk (tokK (I2 2 3) (I2 2 4)) := rk_3 ⟨tokK (I2 2 3) (I2 2 4), by omega⟩ l1.1
                  have := ps w
                  omega
              exact st_stuck es2 k0 (fun e => by omega) (fun e => y ⟨e.1, e.2.1⟩) K fu3
            · have es2' : ES h2 I2 J2 n tb c a2 (P5 ++ k5 :: (P' ++ 0 :: W)) (Q5 ++ (Q' ++ H)) s0 kr2 (b + 1) cnt2 0 := by
                have := es2
                rw [List.append_assoc, List.append_assoc] at this
                exact this
              exact st_chain es2' rfl w4 h6 h5 h7 K fu3
          exact fin.st (ef1.tr ef2) (mf1.tr (Nat.le_refl _) mf2) k1 (by omega) (by omega)
  · rw [decide_eq_false z, if_pos (by rfl), gI_hw]
    have nt40 : ¬ (J 0 8 = 4 ∧ J 0 9 = 40) := fun e => z ((tk_open tok).mp e)
    obtain ⟨tn1, tn2, tn3⟩ := tk_num tok
    by_cases s2 : I 2 3 = 2
    · rw [if_pos s2]
      by_cases v9 : I 2 4 ≤ 9999
      · rw [if_pos v9, gN_hw]
        obtain ⟨h2, sa, es2, ef2, t2, r2, nN, nS, h54, u0, i2⟩ := q.al (L := L) 10 1
        rw [grd_pos h54, sa]
        have e8 := tn1.mpr s2
        have e9 := tn2 s2
        rcases st_lf (L := gL h2) (g := g) (M := M) es2 0 (J 0 9) (fun _ => some (J 0 9).toInt64) (by rw [i2, s2]; decide) (Or.inl ⟨rfl, rfl⟩) (em_lf_num e8 (by rw [e9]; exact v9) j49 c64 stk.2.2.2 stk.2.1 (fun _ => by omega) (by omega)) K fu1 with fl | ⟨I1, J1, a1, e1, e2, es1, m1, ef1, mf1⟩
        · left
          rw [i2] at *
          exact (fl.cx _).st ef2 (MF.rfl _ _) (Nat.le_refl _) (by omega) (by omega)
        · right
          rw [i2] at e1 m1
          rw [e1, e2, calx_l]
          have t2' : (gT (cV h2) (gN h)).1 = 10 := by rw [t2]
          have ki : kX16_init (gN h) (I 2 4) (hw h2 I1 (gL h2)) = some ((), hw h2 (u2 I1 (gN h) 0 (I 2 4)) (gL h2)) := by
            simp only [kX16_init, kX15_init, bnd_e, cal_s, onr_s, jon_e, gI_hw, gL_hw, gT_hw, gR_hw, gN_hw, sI_hw, sL_hw, cV_hw, shS_hw, shC_hw, shL_hw, ← bt_def, grd_pos t2']
          rw [ki, cal_s]
          have i42 : (u2 I1 (gN h) 0 (I 2 4)) 2 = I1 2 := u2_ne (by omega)
          have tcn : (gT (cV h) c).1 ≠ 0 := by rw [q.ty]; decide
          refine ⟨h2, _, _, J1, a1, gN h, (fun _ => some (J 0 9).toInt64), [], [(kr, (fun _ => some (J 0 9).toInt64))], kr + 1, cnt + 1, fu1, rfl, rfl, es1.hy (y := gN h) (fun _ => rfl) (fun _ _ => rfl) (fun y hy => u2_ne hy) (by rw [t2]; decide) es1.sh, ⟨by rw [i42]; omega, by rw [i42]; omega⟩, fun k hk => (by cases hk), rfl, ⟨by omega, by omega⟩, ?_, Or.inl (p7 _), (ef2.tr ef1).y (fun _ => rfl) (fun _ _ => rfl) (fun y hy => u2_ne hy) u0 tcn rfl, mf1, by rw [i42]; omega, by rw [i42]; omega⟩
          rw [show 0 + (cnt + 1 - cnt) = 0 + 1 by omega]
          exact Or.inl ⟨t2', by rw [u2_same, e9]⟩
      · rw [if_neg v9]
        left
        exact (st_wr (ρ := Nat) (L := L) 2 q (em_lf_big (tn1.mpr s2) (by rw [tn2 s2]; exact v9)) K fu1).st (EF.rfl _ _ _) (MF.rfl _ _) (Nat.le_refl _) (by omega) (by omega)
    · rw [if_neg s2]
      by_cases s0' : I 2 3 = 0
      · rw [if_pos s0']
        obtain ⟨u, hu, ev, e8, e9⟩ := tk_word tok s0'
        by_cases u18 : 18 ≤ u
        · have su : sw u = u := by
            rcases sw_lit hu with y | y | y
            · omega
            · omega
            · exact y.2.2
          rw [su] at e9
          rw [if_pos (show (18 : Int32) ≤ I 2 4 by rw [ev]; exact (nn_le (a := 18) (by omega) (by omega)).mpr u18), gN_hw]
          obtain ⟨h2, sa, es2, ef2, t2, r2, nN, nS, h54, u0, i2⟩ := q.al (L := L) 11 1
          rw [grd_pos h54, sa]
          have h7 : inb (nn (u - 18)) 7 := nn_inb (by omega) (by omega)
          rcases st_lf (L := gL h2) (g := g) (M := M) es2 1 (nn (u - 18)) (fun N => some (N (nn (u - 18)).toNatClampNeg)) (by rw [i2, s0']; decide) (Or.inr ⟨rfl, h7, rfl⟩) (em_lf_nam e8 hu u18 e9 j49 c64 stk.2.2.2 stk.2.1 (fun _ => by omega) (by omega)) K fu1 with fl | ⟨I1, J1, a1, e1, e2, es1, m1, ef1, mf1⟩
          · left
            exact (fl.cx _).st ef2 (MF.rfl _ _) (Nat.le_refl _) (by omega) (by omega)
          · right
            rw [i2] at e1 m1
            rw [e1, e2, calx_l]
            have t2' : (gT (cV h2) (gN h)).1 = 11 := by rw [t2]
            have ki : kX17_init (gN h) (I 2 4 - 18) (hw h2 I1 (gL h2)) = some ((), hw h2 (u2 I1 (gN h) 0 (nn (u - 18))) (gL h2)) := by
              rw [ev, show nn u - 18 = nn (u - 18) from nn_sub (a := u) (b := 18) (by omega)]
              simp only [kX17_init, kX15_init, bnd_e, cal_s, onr_s, jon_e, gI_hw, gL_hw, gT_hw, gR_hw, gN_hw, sI_hw, sL_hw, cV_hw, shS_hw, shC_hw, shL_hw, ← bt_def, grd_pos t2']
            rw [ki, cal_s]
            have i42 : (u2 I1 (gN h) 0 (nn (u - 18))) 2 = I1 2 := u2_ne (by omega)
            have tcn : (gT (cV h) c).1 ≠ 0 := by rw [q.ty]; decide
            refine ⟨h2, _, _, J1, a1, gN h, (fun N => some (N (nn (u - 18)).toNatClampNeg)), [], [(kr, (fun N => some (N (nn (u - 18)).toNatClampNeg)))], kr + 1, cnt + 1, fu1, rfl, rfl, es1.hy (y := gN h) (fun _ => rfl) (fun _ _ => rfl) (fun y hy => u2_ne hy) (by rw [t2]; decide) es1.sh, ⟨by rw [i42]; omega, by rw [i42]; omega⟩, fun k hk => (by cases hk), rfl, ⟨by omega, by omega⟩, ?_, Or.inl (p7 _), (ef2.tr ef1).y (fun _ => rfl) (fun _ _ => rfl) (fun y hy => u2_ne hy) u0 tcn rfl, mf1, by rw [i42]; omega, by rw [i42]; omega⟩
            rw [show 0 + (cnt + 1 - cnt) = 0 + 1 by omega]
            exact Or.inr (Or.inl ⟨t2', by rw [u2_same]; exact h7, by rw [u2_same]⟩)
        · rw [if_neg (show ¬ (18 : Int32) ≤ I 2 4 from fun y => u18 (by rw [ev] at y; exact (nn_le (a := 18) (by omega) (by omega)).mp y))]
          left
          have s18 : sw u < 18 := by rcases sw_lit hu with y | y | y <;> omega
          refine (st_wr (ρ := Nat) (L := L) 1 q (em_lf_bad nt40 (fun y => s2 (tn1.mp y)) (fun _ => by rw [e9]; exact (nn_lt (b := 18) (by omega) (by omega)).mpr s18) (fun _ y => ?_)) K fu1).st (EF.rfl _ _ _) (MF.rfl _ _) (Nat.le_refl _) (by omega) (by omega)
          have s17 : sw u = 17 := (nn_eq (b := 17) (by omega) (by omega)).mp (by rw [← e9]; exact y)
          have u17 : u = 17 := by rcases sw_lit hu with y | y | y <;> omega
          rcases nbc with w | w
          · exact w
          · exact absurd ⟨s0', by rw [ev, u17]; rfl⟩ w
      · rw [if_neg s0']
        left
        exact (st_wr (ρ := Nat) (L := L) 1 q (em_lf_bad nt40 (fun y => s2 (tn1.mp y)) (fun y => absurd (tn3.mp y) s0') (fun y => absurd (tn3.mp y) s0')) K fu1).st (EF.rfl _ _ _) (MF.rfl _ _) (Nat.le_refl _) (by omega) (by omega)
theorem sp_and (hn7 : n ≤ 700) (hs : Sp g M n tb c s0 4 3 4 true d F) : Sp g M n tb c s0 2 2 2 true d (cR_and F) :=
  lvl hn7 hs (an_step F) (by decide) (by decide) (by decide) (by decide) (by decide) (fun k h1 h2 h3 => by omega)
theorem sp_or (hn7 : n ≤ 700) (hs : Sp g M n tb c s0 4 3 4 true d F) : Sp g M n tb c s0 1 1 1 true d (cR_or F) :=
  lvl hn7 (sp_and hn7 hs) (or_step F) (by decide) (by decide) (by decide) (by decide) (by decide) (fun k h1 h2 h3 => by omega)
theorem sp_notN (hn7 : n ≤ 700) : ∀ d, Sp g M n tb c s0 4 3 4 true d (cR_notN d)
  | 0 => by
    intro h I J L a W H kr b cnt q hW nbc hd K fu hf
    have := q.2.2.1.2.2.1
    have := q.2.1.2.2.1
    omega
  | d + 1 => by
    have ih := sp_notN hn7 d
    have one := sp_one (sp_or hn7 ih)
    have pro : Sp g M n tb c s0 6 6 6 false (d + 1) (cR_product (cR_notN d)) := lvl hn7 one (pr_step (cR_notN d)) (by decide) (by decide) (by decide) (by decide) (by decide) (fun k h1 h2 h3 => by omega)
    have sum : Sp g M n tb c s0 5 5 5 false (d + 1) (cR_sum (cR_notN d)) := lvl hn7 pro (su_step (cR_notN d)) (by decide) (by decide) (by decide) (by decide) (by decide) (fun k h1 h2 h3 => by omega)
    exact sp_not (sp_cmp sum) ih
end P38
