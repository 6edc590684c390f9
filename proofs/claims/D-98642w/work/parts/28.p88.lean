set_option maxRecDepth 100000
/-! PURE LEVEL 88: compare, not, one -/
section P37
variable {h h' g : HP} {I I' J J' : Nat → Nat → Int32} {L M : Nat → Nat → Int64} {n : Nat} {tb : Nat → Nat} {a c : Nat} {W P : List Nat} {H Q : List (Nat × LF)} {s0 kr b cnt : Nat} {wn : Int32} {f : LF} {F : HP → Option ((Nat ⊕ Nat × Nat) × HP)} {d : Nat}
theorem cmp_e (F : HP → Option ((Nat ⊕ Nat × Nat) × HP)) (H : HP) : cR_compare F H = calx (cR_sum F H) (fun r1 h2 => cal (cR_isSign (60 : Int32) h2) (fun r3 h4 => if r3 = 0 then (cal (cR_isSign (62 : Int32) h4) (fun r17 h18 => if r17 = 0 then (cal (cR_isSign (61 : Int32) h18) (fun r19 h20 => if r19 = 0 then (if (gI h20 2 3) = (3 : Int32) then (if (256 : Int32) ≤ (gI h20 2 4) then (opS (cR_sum F) (fun b h => some (.inl b, h)) r1 h20) else (some (.inl r1, h20))) else (some (.inl r1, h20))) else (opS (cR_sum F) (fun b h => some (.inl b, h)) r1 h20))) else (opS (cR_sum F) (fun b h => some (.inl b, h)) r1 h18))) else (opS (cR_sum F) (fun b h => some (.inl b, h)) r1 h4))) := by
  delta cR_compare opS jon
  exact Eq.refl _
theorem cmp_s (F : HP → Option ((Nat ⊕ Nat × Nat) × HP)) {k w : Int32} (t : TokR (I 2 3) (I 2 4) k w) (r1 : Nat) : cal (cR_isSign (60 : Int32) (hw h I L)) (fun r3 h4 => if r3 = 0 then (cal (cR_isSign (62 : Int32) h4) (fun r17 h18 => if r17 = 0 then (cal (cR_isSign (61 : Int32) h18) (fun r19 h20 => if r19 = 0 then (if (gI h20 2 3) = (3 : Int32) then (if (256 : Int32) ≤ (gI h20 2 4) then (opS (cR_sum F) (fun b h => some (.inl b, h)) r1 h20) else (some (.inl r1, h20))) else (some (.inl r1, h20))) else (opS (cR_sum F) (fun b h => some (.inl b, h)) r1 h20))) else (opS (cR_sum F) (fun b h => some (.inl b, h)) r1 h18))) else (opS (cR_sum F) (fun b h => some (.inl b, h)) r1 h4)) = if rk (tokK (I 2 3) (I 2 4)) = 4 then opS (cR_sum F) (fun b h => some (.inl b, h)) r1 (hw h I L) else some (.inl r1, hw h I L) := by
  have tt := (tkr (I 2 3) (I 2 4)).2.2.2.2.1
  simp only [ec_isSign, cal_s, bI_eq0, gI_hw]
  by_cases s3 : I 2 3 = 3
  · rw [s3] at tt t ⊢
    rcases t with ⟨e, -⟩ | ⟨e, -⟩ | ⟨e, -⟩ | ⟨-, ⟨-, -, v⟩ | ⟨-, v⟩⟩ | ⟨e, -⟩ | ⟨e, -⟩
    · exact absurd e (by decide)
    · exact absurd e (by decide)
    · exact absurd e (by decide)
    · have n4 : ¬ rk (tokK 3 (I 2 4)) = 4 := fun y => by
        rcases (tt.mp y).2 with e | e | e | e | e | e <;> (rw [e] at v; revert v; decide)
      rw [if_neg n4]
      rcases v with e | e | e | e | e | e | e <;> (rw [e]; rfl)
    · have n4 : rk (tokK 3 (I 2 4)) = 4 := by
        rcases v with ⟨e, -⟩ | ⟨e, -⟩ | ⟨e, -⟩ | ⟨e, -⟩ | ⟨e, -⟩ | ⟨e, -⟩ <;> (rw [e]; rfl)
      rw [if_pos n4]
      rcases v with ⟨e, -⟩ | ⟨e, -⟩ | ⟨e, -⟩ | ⟨e, -⟩ | ⟨e, -⟩ | ⟨e, -⟩ <;> (rw [e]; rfl)
    · exact absurd e (by decide)
    · exact absurd e (by decide)
  · rw [decide_eq_false (fun e => s3 e.1), decide_eq_false (fun e => s3 e.1), decide_eq_false (fun e => s3 e.1), if_neg (fun y => s3 (tt.mp y).1)]
    simp only [eq_self, Bool.true_eq_false, if_true, if_false]
    rw [if_neg s3]
theorem sp_cmp (hs : Sp g M n tb c s0 5 5 5 false d (cR_sum F)) : Sp g M n tb c s0 4 4 4 false d (cR_compare F) := by
  intro h I J L a W H kr b cnt q hW nbc hd K fu hf
  rw [cmp_e]
  rcases hs h I J L a W H kr b cnt q (fun k W' e => by have := hW k W' e; omega) nbc hd K fu hf with fl | ⟨h', I', L', J', a', p, f, P, Q, kr', cnt', fu', e1, e2, es, ⟨m1, m2⟩, hP, hr, ⟨c1, k1⟩, pd, ps, ef, mf, bN, bS⟩
  · exact Or.inl (fl.cx _)
  · have dv1 : 1 ≤ cnt' - cnt := by
      rcases Nat.eq_zero_or_pos (cnt' - cnt) with y | y
      · rw [y] at pd; exact absurd pd (fun z => z)
      · exact y
    rw [Nat.zero_add] at pd
    rw [e1, e2, calx_l, cmp_s F es.1.2.2.1.1]
    by_cases z : rk (tokK (I' 2 3) (I' 2 4)) = 4
    · rw [if_pos z]
      have k0 : tokK (I' 2 3) (I' 2 4) ≠ 0 := fun y => by rw [y] at z; revert z; decide
      rcases op_step (L := L') (fun b h => some (.inl b, h)) hs es rfl k0 (ll := 5) (by rw [if_pos z]) hP (fun k W' e => ⟨by have := hW k W' e; omega, fun _ => by have := hW k W' e; omega⟩) hr (by omega) (by rw [z]; rfl) (by omega) pd dv1 K fu' m1 with fl | ⟨h2, I2, L2, J2, a2, p2, f2, g1, P1, Q1, x, kr2, cnt2, fu2, e3, e4, es2, ⟨m3, m4⟩, hP1, hr1, hr2, ⟨c2, k2⟩, pd2, ps2, ef2, mf2, bN2, bS2⟩
      · exact Or.inl (fl.st ef mf k1 (by omega) (by omega))
      · right
        rw [e3, e4]
        refine ⟨h2, I2, L2, J2, a2, p2, f2, _, _, kr2, cnt2, fu2, rfl, rfl, es2, ⟨m3, by omega⟩, fun k hk => ?_, hr1, ⟨by omega, by omega⟩, ?_, ?_, ef.tr ef2, mf.tr k1 mf2, by omega, by omega⟩
        · rcases List.mem_append.mp hk with y | y
          · have := hP1 k y; omega
          · rw [List.mem_singleton.mp y]; omega
        · rw [show 0 + (cnt2 - cnt) = cnt' - cnt + (cnt2 - cnt') by omega]; exact pd2
        · rcases ps2 with y | y
          · by_cases w : rk (tokK (I2 2 3) (I2 2 4)) = 4
            · exact Or.inr ⟨w, P1, tokK (I' 2 3) (I' 2 4), [], Q1, [(x, f)], g1, rfl, rfl, hP1, z, hr2⟩
            · exact Or.inl (fun k => by have := y k; omega)
          · exact Pst.app (Or.inr y)
    · rw [if_neg z]
      right
      refine ⟨h', I', L', J', a', p, f, P, Q, kr', cnt', fu', rfl, rfl, es, ⟨m1, m2⟩, fun k hk => by have := hP k hk; omega, hr, ⟨c1, k1⟩, by rw [Nat.zero_add]; exact pd, ?_, ef, mf, bN, bS⟩
      rcases ps with y | y
      · exact Or.inl (fun k => by have := y k; omega)
      · exact absurd y.1 z
theorem sp_not (hs : Sp g M n tb c s0 4 4 4 false (d + 1) (cR_compare F)) (hf' : Sp g M n tb c s0 4 3 4 true d F) : Sp g M n tb c s0 4 3 4 true (d + 1) (cR_not F) := by
  intro h I J L a W H kr b cnt q hW nbc hd K fu hf
  have n51 : J 0 51 = 1 := nbc
  rw [cR_not, ec_isWord, cal_s]
  by_cases z : I 2 3 = 0 ∧ I 2 4 = 17
  · rw [decide_eq_true (wd_1.mpr z), if_neg (by decide)]
    obtain ⟨fu1, rfl⟩ : ∃ fu1, fu = fu1 + 1 := ⟨fu - 1, by omega⟩
    rcases st_not (L := L) (g := g) (M := M) q z.1 z.2 n51 K fu1 with fl | ⟨v, I1, J1, a1, e1, e2, es1, e51, m1, ef1, mf1⟩
    · left
      exact (fl.cx _).st (EF.rfl _ _ _) (MF.rfl _ _) (Nat.le_refl _) (by omega) (by omega)
    · obtain ⟨h2, s2, es2, ef2, t2, r2, nN, nS, h54, u0, i2⟩ := es1.al (L := L) 12 1
      have mu1 : mu n a1 (gI h2 2 3) = mu n a1 (I1 2 3) := by rw [i2]
      have sb := hf' h2 (gI h2) J1 (gL h2) a1 (2 :: W) H kr b (cnt + 1) es2 (fun k W' e => by cases e; decide) (show nbC true (gI h2) J1 from e51) (by omega) K fu1 (by omega)
      rw [mu1] at sb
      rw [e1, e2, calx_l, gN_hw, grd_pos h54, bnd_e, bnd_e, s2]
      rcases sb with fl | ⟨h3, I3, L3, J3, a3, r11, g1, P1, Q1, kr3, cnt3, fu3, e3, e4, es3, ⟨f3, m3⟩, hP1, hr1, ⟨c3, k3⟩, pd3, ps3, ef3, mf3, bN, bS⟩
      · left
        exact (fl.cx _).st (ef1.tr ef2) mf1 (by omega) (by omega) (by omega)
      · right
        have tn : (gT (cV h2) (gN h)).1 ≠ 0 := by rw [t2]; decide
        have t3 : gT (cV h3) (gN h) = (12, 0) := by rw [(ef3.1 _ tn).1]; exact t2
        have r3 : gR (cV h3) (gN h) 0 = none := by rw [(ef3.1 _ tn).2]; exact r2
        obtain ⟨p1, p2, p3, p4, p5, p6⟩ := sR_fr (h := h3) (x := gN h) (k := 0) (v := some r11) h54
        have k2 := ec_nt (h := h3) (I := I3) (L := L3) (x := gN h) (p := r11) (by rw [t3]) h54
        generalize sR h3 (gN h) 0 (some r11) = h4 at k2 p1 p2 p3 p4 p5 p6
        have fi : ∀ y, y ≠ gN h → I3 y = I3 y := fun y _ => rfl
        have tcn : (gT (cV h) c).1 ≠ 0 := by rw [q.ty]; decide
        have efA : EF c h I h4 I3 := ((ef1.tr ef2).tr ef3).y p1 p2 fi u0 tcn p4
        refine ⟨h4, I3, L3, J3, a3, gN h, zNot g1, P1 ++ [2], Q1, kr3, cnt3, fu3, ?_, e4, ?_, ⟨f3, by omega⟩, fun k hk => ?_, ?_, ⟨by omega, by omega⟩, ?_, ?_, efA, mf1.tr (Nat.le_refl _) mf3, ?_, ?_⟩
        · rw [e3, calx_l, k2, cal_s]
        · have := es3.hy (h' := h4) (I' := I3) (y := gN h) p1 p2 fi (by rw [t3]; decide) (p6 es3.sh)
          rw [List.append_assoc]; exact this
        · rcases List.mem_append.mp hk with y | y
          · exact hP1 k y
          · rw [List.mem_singleton.mp y]; decide
        · have := red_app P1 (Q1.map Prod.snd) g1 [2] [] hr1
          rw [List.append_nil] at this
          rw [this]; rfl
        · rw [show 0 + (cnt3 - cnt) = (0 + (cnt3 - (cnt + 1))) + 1 by omega]
          refine Or.inr (Or.inr (Or.inl ⟨by rw [p1, t3], r11, g1, ?_, ?_, rfl⟩))
          · rw [p3, if_pos rfl]
          · exact PDn.chg (x := gN h) (fun y hy => ⟨p1 y, p2 y hy, rfl⟩) (Or.inl (by rw [t3])) r3 _ r11 g1 pd3
        · have := ps3.app (P' := [2]) (Q' := [])
          rw [List.append_nil] at this; exact this
        · rw [p4]; omega
        · rw [p5]; omega
  · rw [decide_eq_false (fun y => z (wd_1.mp y)), if_pos (by rfl)]
    rcases hs h I J L a W H kr b cnt q hW (Or.inr z) hd K fu hf with fl | ⟨h', I', L', J', a', p, f, P, Q, kr', cnt', fu', e1, e2, es, ⟨m1, m2⟩, hP, hr, ⟨c1, k1⟩, pd, ps, ef, mf, bN, bS⟩
    · exact Or.inl (fl.cx _)
    · right
      rw [e1, e2, calx_l]
      exact ⟨h', I', L', J', a', p, f, P, Q, kr', cnt', fu', rfl, rfl, es, ⟨m1, m2⟩, fun k hk => by have := hP k hk; omega, hr, ⟨c1, k1⟩, pd, ps, ef, mf, bN, bS⟩
end P37
