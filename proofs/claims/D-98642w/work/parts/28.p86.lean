set_option maxRecDepth 100000
/-! PURE LEVEL 86: a sign between two, whole -/
def opS (sub : HP → Option ((Nat ⊕ Nat × Nat) × HP)) (lp : Nat → HP → Option ((Nat ⊕ Nat × Nat) × HP)) (v1 : Nat) (h4 : HP) : Option ((Nat ⊕ Nat × Nat) × HP) := calx (cR_knot h4) (fun r5 h6 => bnd r5 (fun x7 => grd (54 ≤ gN h6) (bnd (gN h6) (fun b9 => bnd (sA h6 (13, 0) 3) (fun h10 => calx (sub h10) (fun r11 h12 => cal (kX19_init b9 x7 v1 r11 h12) (fun r13 h14 => lp b9 h14)))))))
theorem calx_l {α ρ : Type} (r : α) (h : HP) (T : α → HP → Option ((ρ ⊕ Nat × Nat) × HP)) : calx (some (.inl r, h)) T = T r h := rfl
section P35
variable {h h' g : HP} {I I' J J' : Nat → Nat → Int32} {L M : Nat → Nat → Int64} {n : Nat} {tb : Nat → Nat} {a c : Nat} {W P : List Nat} {H Q : List (Nat × LF)} {s0 kr b cnt : Nat} {wn : Int32} {f : LF}
theorem ES.hy {y : Nat} (q : ES h I J n tb c a W H s0 kr b cnt wn) (ft : ∀ x, gT (cV h') x = gT (cV h) x) (fr : ∀ x, x ≠ y → gR (cV h') x = gR (cV h) x) (fi : ∀ x, x ≠ y → I' x = I x) (ty : 10 ≤ (gT (cV h) y).1 ∧ (gT (cV h) y).1 ≤ 13) (sh : Shp h') : ES h' I' J n tb c a W H s0 kr b cnt wn := by
  have c4 := q.ty
  obtain ⟨rd, ⟨i10, j49, c64, cz⟩, ⟨i5, j48, b8, bz⟩, stk, j50⟩ := q
  have y1 : 1 ≠ y := fun e => by subst e; revert ty; show ¬ (10 ≤ 102 ∧ 102 ≤ 13); decide
  have y2 : 2 ≠ y := fun e => by subst e; revert ty; show ¬ (10 ≤ 3 ∧ 3 ≤ 13); decide
  have yc : c ≠ y := fun e => by subst e; rw [c4] at ty; revert ty; decide
  have rd' : Rd h' I J n tb c a := by
    obtain ⟨t, r, k, r1, r2, r3, r4⟩ := rd
    refine ⟨t, r, k, by rw [fr 2 y2]; exact r1, ?_, r3, sh⟩
    obtain ⟨a1, a2, a3, a4, a5, a6⟩ := r2
    exact ⟨by rw [ft]; exact a1, by rw [fr c yc]; exact a2, by rw [ft]; exact a3, by rw [ft]; exact a4, by rw [ft]; exact a5, by rw [ft]; exact a6⟩
  exact ⟨rd'.cg (fi 1 y1) (fun k _ => by rw [fi 2 y2]) (Eq.refl _) (Eq.refl _) (fun _ _ _ => Eq.refl _), ⟨by rw [fi c yc]; exact i10, j49, c64, cz⟩, ⟨by rw [fi 2 y2]; exact i5, j48, b8, bz⟩, stk, j50⟩
theorem EF.y {y : Nat} {h1 h2 : HP} {I1 I2 : Nat → Nat → Int32} (e : EF c h I h1 I1) (ft : ∀ x, gT (cV h2) x = gT (cV h1) x) (fr : ∀ x, x ≠ y → gR (cV h2) x = gR (cV h1) x) (fi : ∀ x, x ≠ y → I2 x = I1 x) (u : (gT (cV h) y).1 = 0) (tc : (gT (cV h) c).1 ≠ 0) (nN : gN h2 = gN h1) : EF c h I h2 I2 := by
  have yx : ∀ x, (gT (cV h) x).1 ≠ 0 → x ≠ y := fun x t e => by subst e; exact t u
  have y2 : 2 ≠ y := yx 2 (by show (3 : Nat) ≠ 0; decide)
  exact ⟨fun x t => ⟨(ft x).trans (e.1 x t).1, (fr x (yx x t)).trans (e.1 x t).2⟩, fun x t h2 hc => (fi x (yx x t)).trans (e.2.1 x t h2 hc), fun k hk => by rw [fi c (yx c tc)]; exact e.2.2.1 k hk, by rw [fi 2 y2]; exact e.2.2.2.1, by rw [nN]; exact e.2.2.2.2⟩
theorem op_step {sub : HP → Option ((Nat ⊕ Nat × Nat) × HP)} (lp : Nat → HP → Option ((Nat ⊕ Nat × Nat) × HP)) {qs rs ss d : Nat} {nb : Bool} (hs : Sp g M n tb c s0 qs rs ss nb d sub) (q : ES h I J n tb c a (P ++ W) (Q ++ H) s0 kr b cnt 0) {kk ll : Nat} (hk : tokK (I 2 3) (I 2 4) = kk) (k0 : kk ≠ 0) (hll : ll = if rk kk = 4 then 5 else rk kk) (hP : ∀ k, k ∈ P → ll ≤ rk k) (hW : ∀ k W', W = k :: W' → rk k < ll ∧ (rk kk = 4 → rk k ≠ 4)) (hr : red P (Q.map Prod.snd) = some f)
    (hq : rk kk < qs) (hn : nb = decide (rk kk < 3)) (hd : 73 ≤ b + cnt + d) {v1 dv : Nat} (pd : PDn (cV h) I dv v1 f) (d1 : 1 ≤ dv) (K : HP → Option (Int32 × HP)) (fu : Nat) (hf : mu n a (I 2 3) < fu) :
    Flt g M c kr h I J (mu n a (I 2 3) + 2) (opS sub lp v1 (hw h I L)) (m_sumRead_25 K fu (hw g J M)) ∨
    ∃ h' I' L' J' a' p f' g1 P1 Q1 x kr' cnt' fu', opS sub lp v1 (hw h I L) = lp p (hw h' I' L') ∧ m_sumRead_25 K fu (hw g J M) = m_sumRead_25 K fu' (hw g J' M) ∧ ES h' I' J' n tb c a' ((P1 ++ [kk]) ++ W) ((Q1 ++ [(x, f)]) ++ H) s0 kr' b cnt' 0 ∧ (mu n a' (I' 2 3) < fu' ∧ mu n a' (I' 2 3) + 1 ≤ mu n a (I 2 3)) ∧ (∀ k, k ∈ P1 → rs ≤ rk k) ∧ red (P1 ++ [kk]) ((Q1 ++ [(x, f)]).map Prod.snd) = some f' ∧ red P1 (Q1.map Prod.snd) = some g1 ∧ (cnt ≤ cnt' ∧ kr ≤ kr') ∧ PDn (cV h') I' (dv + (cnt' - cnt)) p f' ∧ Pst ss (tokK (I' 2 3) (I' 2 4)) P1 Q1 ∧ EF c h I h' I' ∧ MF kr J J' ∧ gN h' + mu n a' (I' 2 3) ≤ gN h + mu n a (I 2 3) ∧ gS h' + 12 * mu n a' (I' 2 3) ≤ gS h + 12 * mu n a (I 2 3) := by
  obtain ⟨fu1, rfl⟩ : ∃ fu1, fu = fu1 + 1 := ⟨fu - 1, by omega⟩
  rcases st_op (L := L) (g := g) (M := M) q hk k0 hll hP hW hr K fu1 with fl | ⟨I1, J1, a1, x, e1, e2, es1, e51, m1, ef1, mf1⟩
  · left
    exact (fl.cx _).st (EF.rfl _ _ _) (MF.rfl _ _) (Nat.le_refl _) (by omega) (by omega)
  · obtain ⟨h2, s2, es2, ef2, t2, r2, nN, nS, h54, u0, i2⟩ := es1.al (L := L) 13 3
    have mu1 : mu n a1 (gI h2 2 3) = mu n a1 (I1 2 3) := by rw [i2]
    have kt := tk_3 q.1.2.2.1.1 (by rw [hk]; exact k0)
    rw [hk] at kt
    have un : opS sub lp v1 (hw h I L) = calx (sub (hw h2 (gI h2) (gL h2))) (fun r11 h12 => cal (kX19_init (gN h) (mkc (nn kk)) v1 r11 h12) (fun r13 h14 => lp (gN h) h14)) := by
      rw [opS, e1, calx_l, bnd_e, gN_hw, grd_pos h54, bnd_e, bnd_e, s2]
    have nbc : nbC nb (gI h2) J1 := by
      unfold nbC
      rw [hn]
      by_cases z : rk kk < 3
      · rw [decide_eq_true z, if_pos rfl, e51, if_neg (by omega)]
      · rw [decide_eq_false z, if_neg (fun e => Bool.noConfusion e)]
        exact Or.inl (by rw [e51, if_pos (by omega)])
    have sb := hs h2 (gI h2) J1 (gL h2) a1 (kk :: W) ((x, f) :: H) (kr + P.length) b (cnt + 1) es2 (fun k W' e => by cases e; exact hq) nbc (by omega) K fu1 (by omega)
    rw [mu1] at sb
    rw [e2, un]
    rcases sb with fl | ⟨h3, I3, L3, J3, a3, r11, g1, P1, Q1, kr3, cnt3, fu3, e3, e4, es3, ⟨f3, m3⟩, hP1, hr1, ⟨c3, k3⟩, pd3, ps3, ef3, mf3, bN, bS⟩
    · left
      exact (fl.cx _).st (ef1.tr ef2) mf1 (by omega) (by omega) (by omega)
    · right
      have tn : (gT (cV h2) (gN h)).1 ≠ 0 := by rw [t2]; decide
      have t3 : gT (cV h3) (gN h) = (13, 0) := by rw [(ef3.1 _ tn).1]; exact t2
      have r3 : gR (cV h3) (gN h) 0 = none := by rw [(ef3.1 _ tn).2]; exact r2
      obtain ⟨p1, p2, p3, p4, p5, p6⟩ := sR_fr (h := h3) (x := gN h) (k := 0) (v := some v1) h54
      obtain ⟨o1, o2, o3, o4, o5, o6⟩ := sR_fr (h := sR h3 (gN h) 0 (some v1)) (x := gN h) (k := 2) (v := some r11) h54
      have k2 := ec_two (h := h3) (I := I3) (L := L3) (x := gN h) (p := v1) (r := r11) (s := mkc (nn kk)) (by rw [t3]) h54
      generalize sR (sR h3 (gN h) 0 (some v1)) (gN h) 2 (some r11) = h4 at k2 o1 o2 o3 o4 o5 o6
      have ft : ∀ y, gT (cV h4) y = gT (cV h3) y := fun y => (o1 y).trans (p1 y)
      have fr : ∀ y, y ≠ gN h → gR (cV h4) y = gR (cV h3) y := fun y hy => (o2 y hy).trans (p2 y hy)
      have fi : ∀ y, y ≠ gN h → (u2 I3 (gN h) 1 (mkc (nn kk))) y = I3 y := fun y hy => u2_ne hy
      have tcn : (gT (cV h) c).1 ≠ 0 := by rw [q.ty]; decide
      have efA : EF c h I h4 (u2 I3 (gN h) 1 (mkc (nn kk))) := ((ef1.tr ef2).tr ef3).y ft fr fi u0 tcn (o4.trans p4)
      have i42 : (u2 I3 (gN h) 1 (mkc (nn kk))) 2 = I3 2 := fi 2 (by omega)
      refine ⟨h4, u2 I3 (gN h) 1 (mkc (nn kk)), L3, J3, a3, gN h, zTwo (mkc (nn kk)) f g1, g1, P1, Q1, x, kr3, cnt3, fu3, ?_, e4, ?_, ?_, hP1, ?_, hr1, ⟨by omega, by omega⟩, ?_, ?_, efA, mf1.tr (by omega) mf3, ?_, ?_⟩
      · rw [e3, calx_l, k2, cal_s]
      · have := es3.hy (h' := h4) (I' := u2 I3 (gN h) 1 (mkc (nn kk))) (y := gN h) ft fr fi (by rw [t3]; decide) (o6 (p6 es3.sh))
        rw [List.append_assoc, List.append_assoc]; exact this
      · rw [i42]; exact ⟨f3, by omega⟩
      · rw [List.map_append, red_app _ _ g1 _ _ hr1]
        have : kk ≠ 2 := by have := kt.1.1; omega
        simp only [List.map_cons, List.map_nil, red, if_neg this]
      · have hD : dv + (cnt3 - cnt) = (dv + (cnt3 - cnt) - 1) + 1 := by omega
        rw [hD]
        refine Or.inr (Or.inr (Or.inr ⟨by rw [ft, t3], v1, r11, f, g1, ?_, ?_, ?_, ?_, ?_⟩))
        · rw [o3, if_neg (by decide), p3, if_pos rfl]
        · rw [o3, if_pos rfl]
        · exact PDn.le (d := dv) (by omega) (PDn.ef efA q.ty dv v1 f pd)
        · exact PDn.le (by omega) (PDn.chg (x := gN h) (fun y hy => ⟨ft y, fr y hy, fi y hy⟩) (Or.inr (by rw [t3])) r3 _ r11 g1 pd3)
        · rw [u2_same]
      · rw [i42]; exact ps3
      · rw [i42, o4, p4]; omega
      · rw [i42, o5, p5]; omega
end P35
