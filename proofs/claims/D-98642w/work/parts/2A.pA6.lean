set_option maxRecDepth 100000
/-! PURE LEVEL A6: lines: laws -/
section P51
variable {h0 h h' g : HP} {I0 J0 I I' J J' : Nat → Nat → Int32} {L M : Nat → Nat → Int64} {n : Nat} {tb : Nat → Nat} {a a' c kr : Nat} {K : KT} {A : Nat → Nat → Nat} {t ln : Nat} {S U : Nat → Prop} {j : HP → Option ((Unit ⊕ Nat × Nat) × HP)}
theorem PDn.ty {d p : Nat} {l : LF} (q : PDn (cV h) I d p l) : (gT (cV h) p).1 = 10 ∨ (gT (cV h) p).1 = 11 ∨ (gT (cV h) p).1 = 12 ∨ (gT (cV h) p).1 = 13 := by
  cases d with
  | zero => exact q.elim
  | succ d =>
    rcases q with ⟨t, -⟩ | ⟨t, -⟩ | ⟨t, -⟩ | ⟨t, -⟩
    · exact Or.inl t
    · exact Or.inr (Or.inl t)
    · exact Or.inr (Or.inr (Or.inl t))
    · exact Or.inr (Or.inr (Or.inr t))
theorem LFl.m21 {ρ : Type} {B S x k : Nat} {tc : Option ((ρ ⊕ Nat × Nat) × HP)} {tm tm' : Option (Int32 × HP)} (h1 : 3 < x) (h2 : x < 25) (hk : hf x ≤ k) (e : ∀ J', tm = some (0, hw g J' M) → ∃ v, tm' = some (0, hw g (u2 J' x k v) M)) (q : LFl g M h0 I0 J0 B S tc tm) : LFl g M h0 I0 J0 B S tc tm' := by
  obtain ⟨h', I', L', y, J', q1, q2, q3, q4, q5, q6, q7, q8⟩ := q
  obtain ⟨v, ev⟩ := e J' q2
  exact ⟨h', I', L', y, _, q1, ev, q3, by rw [u2_ne (by omega)]; exact q4, by rw [u2_ne (by omega)]; exact q5, q6, q7.wr h1 h2 hk, q8⟩
theorem flt_inv {ρ : Type} {k : Int32} {B : Nat} {h1 : HP} {I1 : Nat → Nat → Int32} {tm : Option (Int32 × HP)} (sh : Shp h') (q : Flt (ρ := ρ) g M c kr h1 I1 J B (wrC ρ k (hw h' I' L)) tm) : ∃ J', tm = some (0, hw g J' M) ∧ J' 0 4 = k ∧ J' 0 5 = I' 2 2 ∧ MF kr J J' := by
  obtain ⟨h2, I2, L2, x, J', q1, q2, q3, q4, q5, q6, q7, q8, q9, q10⟩ := q
  obtain ⟨h3, I3, L3, e1, t, v6, v7, f, s', nN, nS⟩ := ec_wrong (I := I') (L := L) sh k
  rw [wrC, e1, cal_s, cV_hw, gT_hw, grd_pos (by rw [t])] at q1
  have q1 := Option.some.inj q1
  have qx : gN h' = x := by
    have := congrArg Prod.fst q1
    have := Sum.inr.inj this
    exact congrArg Prod.snd this
  have qI : I3 = I2 := congrArg gI (congrArg Prod.snd q1)
  rw [← qx, ← qI] at q4 q5
  exact ⟨J', q2, by rw [← q4]; exact v6, by rw [← q5]; exact v7, q7⟩
theorem b_lawL (q : PSt h0 I0 J0 h I J n tb c a K A t ln) (hj : ∀ (h : HP) (I : Nat → Nat → Int32) (L : Nat → Nat → Int64), ¬ (I 2 3 = 3 ∧ I 2 4 = 59) → j (hw h I L) = wrC Unit 1 (hw h I L)) (k5 : Int32 → HP → Option (Int32 × HP)) (hk5 : ∀ H, k5 0 H = some (0, H)) :
    LFl g M h0 I0 J0 (gN h + (mu n a (I 2 3) + 3)) (gS h + (12 * mu n a (I 2 3) + 40)) (lnL j (hw h I L)) (lmL k5 (hw g J M)) ∨ ∃ h' I' L' J' a' K' A', lnL j (hw h I L) = j (hw h' I' L') ∧ lmL k5 (hw g J M) = k5 1 (hw g J' M) ∧ PSt h0 I0 J0 h' I' J' n tb c a' K' A' t ln ∧ mu n a' (I' 2 3) ≤ mu n a (I 2 3) ∧ gN h' + mu n a' (I' 2 3) ≤ gN h + mu n a (I 2 3) ∧ gS h' + 12 * mu n a' (I' 2 3) ≤ gS h + 12 * mu n a (I 2 3) := by
  have rd := q.1
  have c2 := rd.c2
  have c54 := rd.2.2.2.2.2.1
  have cc := q.2.1.1
  have mr := q.2.1.2.1
  have sh0 : Shp h0 := q.2.2.2.2.2.2.1.2
  have sh : Shp h := rd.2.2.2.2.2.2
  have gc : gN h0 ≤ c := q.2.2.2.2.2.2.1.1
  have e21 : J 0 21 = nn (zKn K) := mr.1.2.2.2.2
  have e49 : J 0 49 = nn (zKn K) := q.2.2.1.1
  have k64 : zKn K ≤ 64 := q.2.1.2.2.1.2.2.2.2
  have tok := rd.2.2.1.1
  have tk13 : (J 0 8 = 1 ∧ J 0 9 = 13) ↔ (I 2 3 = 0 ∧ I 2 4 = 13) := tk_key (x := 13) tok (by omega)
  have tk14 : (J 0 8 = 1 ∧ J 0 9 = 14) ↔ (I 2 3 = 0 ∧ I 2 4 = 14) := tk_key (x := 14) tok (by omega)
  have m0 := mu_le n a (I 2 3)
  rw [lnL, ec_isWord, cal_s]
  by_cases zw : I 2 3 = 0 ∧ ¬ I 2 4 < 13 ∧ ¬ (14 : Int32) < I 2 4
  case neg =>
    left
    rw [decide_eq_false zw, if_pos (by rfl), lmL, em_isKey, cal_s, decide_eq_false (fun y => zw ⟨(tk13.mp y).1, by rw [(tk13.mp y).2]; decide, by rw [(tk13.mp y).2]; decide⟩), if_pos (by rfl), em_isKey, cal_s, decide_eq_false (fun y => zw ⟨(tk14.mp y).1, by rw [(tk14.mp y).2]; decide, by rw [(tk14.mp y).2]; decide⟩), if_pos (by rfl), m_wr]
    exact (q.fl (flt_wrong (ρ := Unit) (g := g) (M := M) (L := L) rd 0 1)).le (by omega) (by omega)
  rw [decide_eq_true zw, if_neg (by decide)]
  obtain ⟨u, hu, ev, ek, ew⟩ := tk_word tok zw.1
  have u13 : 13 ≤ u := by
    by_cases y : 13 ≤ u
    · exact y
    · exact absurd (show I 2 4 < 13 by rw [ev]; exact (nn_lt (b := 13) (by omega) (by omega)).mpr (by omega)) zw.2.1
  have u14 : u ≤ 14 := by
    by_cases y : u ≤ 14
    · exact y
    · exact absurd (show (14 : Int32) < I 2 4 by rw [ev]; exact (nn_lt (a := 14) (by omega) (by omega)).mpr (by omega)) zw.2.2
  have su : sw u = u := by rcases sw_lit hu with y | y | y <;> omega
  rw [su] at ew
  obtain ⟨i, hi, rfl⟩ : ∃ i, i < 2 ∧ u = 13 + i := ⟨u - 13, by omega, by omega⟩
  have x82 : nn (13 + i) - 13 = nn i := by rw [show (13 : Int32) = nn 13 from rfl, nn_sub (by omega)]; congr 1; omega
  have x49 : (2 : Int32) + nn (13 + i) - 13 = nn (2 + i) := by rw [show (2 : Int32) = nn 2 from rfl, nn_add, show (13 : Int32) = nn 13 from rfl, nn_sub (by omega)]; congr 1; omega
  have mred : lmL k5 (hw g J M) = lmL2 k5 (hw g J M) := by
    rw [lmL, em_isKey, cal_s]
    by_cases y : i = 0
    · subst y
      rw [decide_eq_true ⟨ek, ew⟩, if_neg (by decide)]
    · have y1 : i = 1 := by omega
      subst y1
      rw [decide_eq_false (fun z => by rw [ew] at z; exact absurd z.2 (by decide)), if_pos (by rfl), em_isKey, cal_s, decide_eq_true ⟨ek, ew⟩, if_neg (by decide)]
  have in4 : inb (nn (2 + i)) 4 := nn_inb (by omega) (by omega)
  have in2 : inb (nn i) 2 := nn_inb (by omega) (by omega)
  have c4 : (nn (2 + i)).toNatClampNeg = 2 + i := nn_clamp (by omega)
  have ci : (nn i).toNatClampNeg = i := nn_clamp (by omega)
  rw [mred, lmL2, gI_hw, gI_hw, ev, ew, bnd_e, bnd_e, x82, x49, show gR (cV (hw h I L)) 2 7 = some c from rd.2.2.2.1, onr_some, grd_pos (show shC (cV (hw h I L)) c from rd.2.2.2.2.1), grd_pos in2, grd_pos in4, show gR (cV (hw h I L)) (c + 10) (nn i).toNatClampNeg = gR (cV h) (c + 10) i by rw [ci]; rfl, show J 19 (nn (2 + i)).toNatClampNeg = J 19 (2 + i) by rw [c4]]
  have cl := cc.2.2.2.2.2.2.2.2.2 i hi
  have ml := mr.2.2.2.2.2.2 i hi
  have both : (gR (cV h) (c + 10) i = none ∧ J 19 (2 + i) = 0) ∨ (¬ gR (cV h) (c + 10) i = none ∧ ¬ J 19 (2 + i) = 0) := by
    unfold CL at cl
    unfold MLr at ml
    match zl K i, cl, ml with
    | none, cl, ml => exact Or.inl ⟨cl, ml⟩
    | some f', ⟨p, cl, _⟩, ⟨ml, _⟩ => exact Or.inr ⟨(by rw [cl]; exact fun e => (by cases e)), (by rw [ml]; decide)⟩
  rcases both with ⟨z1, z2⟩ | ⟨z1, z2⟩
  case inr =>
    left
    rw [if_neg z1, if_neg z2, m_wr]
    exact (q.fl (flt_wrong (ρ := Unit) (g := g) (M := M) (L := L) rd 0 3)).le (by omega) (by omega)
  rw [if_pos z1, if_pos z2, grd_pos in4, bnd_e, sI_hw, show u2 J 19 (nn (2 + i)).toNatClampNeg 1 = u2 J 19 (2 + i) 1 by rw [c4]]
  obtain ⟨I2, J2, a2, n1, n2, rd2, n4, fx2, fv2⟩ := r_next (L := L) (g := g) (M := M) (rd.wr (x := 19) (k := 2 + i) (v := 1) (by decide))
  have m2 : mu n a2 (I2 2 3) < mu n a (I 2 3) := n4 (by rw [zw.1]; decide)
  have j21 : J2 0 21 = nn (zKn K) := by rw [fv2.2 21 (by omega), u2_ne (by decide)]; exact e21
  rw [n1, n2, cal_s, cal_s, show gR (cV (hw h I2 L)) 2 7 = some c from rd.2.2.2.1, onr_some, grd_pos (show shC (cV (hw h I2 L)) c from rd.2.2.2.2.1), grd_pos in4, bnd_e, sI_hw, gI_hw, j21, show u2 J2 20 (nn (2 + i)).toNatClampNeg (nn (zKn K)) = u2 J2 20 (2 + i) (nn (zKn K)) by rw [c4]]
  have ef2 : EF0 h0 I0 h I2 := q.2.2.2.2.2.2.2.1.fx fx2
  have ml3 : ML0 J0 (u2 J2 20 (2 + i) (nn (zKn K))) := ((q.2.2.2.2.2.2.2.2.wr (x := 19) (k := 2 + i) (v := 1) (by decide) (by decide) (by show 2 ≤ _; omega)).u (frU.v fv2)).wr (by decide) (by decide) (by show 2 ≤ _; omega)
  have rd3 : Rd h I2 (u2 J2 20 (2 + i) (nn (zKn K))) n tb c a2 := rd2.wr (by decide)
  rcases r_expr (L := L) (g := g) (M := M) (cnt := zKn K) rd3 (by rw [fx2.1 c c2]; exact cc.2.2.2.2.1.2.2.2) (by rw [u2_ne (by decide), fv2.2 49 (by omega), u2_ne (by decide)]; exact e49) (by rw [u2_ne (by decide)]; exact j21) k64 (by rw [fx2.2 5 (by decide) (by decide) (by decide) (by decide)]; exact q.2.2.1.2) with fl | ⟨h4, I4, L4, p, fp, e1, ⟨ef4, sh4, bn4, bs4, pd⟩, alt⟩
  · left
    refine ((fl.l1 ef2 q ml3).cx _ |>.m21 (x := 21) (k := 2 + i) (by decide) (by decide) (by show 2 ≤ _; omega) (fun J' e => ?_)).le (by omega) (by omega)
    rw [e, cal_s, bnd_e, grd_pos in4, bnd_e, sI_hw, hk5, c4]
    exact ⟨_, rfl⟩
  have tcn : (gT (cV h) c).1 ≠ 0 := by rw [rd.ty]; decide
  have t10 : gT (cV h4) (c + 10) = (105, 2) := by rw [(ef4.1 _ (by rw [cc.1.2.2.2.2.2]; decide)).1]; exact cc.1.2.2.2.2.2
  have cr : cRs (c + 10) i = none := cRs_big (by omega)
  obtain ⟨p1, p2, p3, p4, p5, p6⟩ := sR_fr (h := h4) (x := c + 10) (k := i) (v := some p) (by omega)
  rw [e1, calx_l, grd_pos (show (gT (cV (hw h4 I4 L4)) (c + 10)).1 = 105 by rw [cV_hw, gT_hw, t10]), grd_pos (show cRs (c + 10) (nn i).toNatClampNeg = none by rw [ci]; exact cr), grd_pos (show (gT (cV (hw h4 I4 L4)) p).1 = 10 ∨ (gT (cV (hw h4 I4 L4)) p).1 = 11 ∨ (gT (cV (hw h4 I4 L4)) p).1 = 12 ∨ (gT (cV (hw h4 I4 L4)) p).1 = 13 from pd.ty), grd_pos (show inb (nn i) (gT (cV (hw h4 I4 L4)) (c + 10)).2 by rw [cV_hw, gT_hw, t10]; exact in2), bnd_e, hw_sR, show sR h4 (c + 10) (nn i).toNatClampNeg (some p) = sR h4 (c + 10) i (some p) by rw [ci]]
  have ef0 : EF0 h0 I0 (sR h4 (c + 10) i (some p)) I4 := (ef2.ef sh0 gc ef4).up sh0 (fun x _ => p1 x) (fun x hx _ => p2 x (by omega)) (fun x _ _ => rfl) (by rw [p4]; exact Nat.le_refl _)
  rcases alt with ⟨nsg, fl⟩ | ⟨s3, s4, J4, a4, cnt', d, e2, rd4, m4, ⟨i10, j49, j21', i5⟩, cl1, cl2, sd, mf4, bN, bS⟩
  · left
    obtain ⟨J', e3, v4, v5, mf⟩ := flt_inv sh4 (fl Unit)
    rw [hj _ _ _ nsg]
    have := lfl_w (ρ := Unit) (g := g) (M := M) (L := L4) ef0 (p6 sh4) sh0 (ml3.mf mf) 1
    obtain ⟨hh, II, LL, y, JJ, r1, r2, r3, r4, r5, r6, r7, r8, r9, r10⟩ := this
    have r2 := Option.some.inj r2
    have rJ : u2 (u2 J' 0 4 1) 0 5 (I4 2 2) = JJ := congrArg gI (congrArg Prod.snd r2)
    have rJ' : u2 (u2 J' 0 4 1) 0 5 (I4 2 2) = J' := by
      rw [u2_id (I := J') v4, u2_id v5]
    rw [rJ'] at rJ
    subst rJ
    refine ⟨hh, II, LL, y, u2 J' 21 (2 + i) (J' 0 21), r1, ?_, r3, by rw [u2_ne (by decide)]; exact r4, by rw [u2_ne (by decide)]; exact r5, r6, r7.wr (by decide) (by decide) (by show 2 ≤ _; omega), r8, by rw [p4] at r9; omega, by rw [p5] at r10; omega⟩
    rw [e3, cal_s, bnd_e, grd_pos in4, bnd_e, sI_hw, hk5, c4, gI_hw]
  · right
    rw [e2, cal_s, bnd_e, grd_pos in4, bnd_e, sI_hw, gI_hw, j21', show u2 J4 21 (nn (2 + i)).toNatClampNeg (nn cnt') = u2 J4 21 (2 + i) (nn cnt') by rw [c4]]
    have J2x : ∀ x, x ≠ 0 → x ≠ 19 → J2 x = J x := fun x h1 h2 => by rw [fv2.1 x h1, u2_ne h2]
    have J4x : ∀ x, x ≠ 0 → (x < 19 ∨ 26 < x) → (u2 J4 21 (2 + i) (nn cnt')) x = J x := fun x h1 h2 => by
      rw [u2_ne (by omega), mf4.1 x h1 (by omega) (by omega) (by omega) (by omega) (by omega), u2_ne (by omega), J2x x h1 (by omega)]
    have qf4 : QF h4 I4 (sR h4 (c + 10) i (some p)) I4 := ⟨fun x _ => p1 x, fun x tx => ⟨p2 x (fun e => by rw [e, t10] at tx; revert tx; decide), rfl⟩⟩
    refine ⟨sR h4 (c + 10) i (some p), I4, L4, u2 J4 21 (2 + i) (nn cnt'), a4, _, _, rfl, rfl, q.law hi (p := p) (cnt := cnt') (d := d) (fp := fp) ((rd4.up (y := c + 10) (J' := J4) p1 p2 (by omega) (by omega) (p6 sh4) rfl (fun _ _ => rfl) rfl rfl (fun _ _ _ => rfl)).wr (x := 21) (by decide)) ⟨fun x tx => by rw [p1]; exact (ef4.1 x tx).1, fun x tx hx => by rw [p2 x hx]; exact (ef4.1 x tx).2, fun x tx h2 hx => by rw [ef4.2.1 x tx h2 hx, fx2.1 x h2], by rw [i5]; exact q.2.2.1.2.symm, by rw [ef4.2.2.2.1]; exact fx2.2 6 (by decide) (by decide) (by decide) (by decide), by rw [p4]; exact ef4.2.2.2.2⟩ (fun k => by rw [p3, (ef4.1 (c + 10) (by rw [cc.1.2.2.2.2.2]; decide)).2]) (PDn.qf qf4 _ _ _ pd) (fun k hk => by rw [ef4.2.2.1 k hk, fx2.1 c c2]) i10 cl1 cl2 J4x (fun k => ?_) (fun k => ?_) (fun k => ?_) (fun k hk => ?_) ?_ ?_ ?_ (fun k hk => ?_), by omega, by rw [p4]; omega, by rw [p5]; omega⟩
    · rw [u2_ne (by decide), mf4.1 19 (by decide) (by decide) (by decide) (by decide) (by decide) (by decide), u2_ne (by decide), fv2.1 19 (by decide), u2_eq]
    · rw [u2_ne (by decide), mf4.1 20 (by decide) (by decide) (by decide) (by decide) (by decide) (by decide), u2_eq, J2x 20 (by decide) (by decide)]
    · rw [u2_eq, mf4.1 21 (by decide) (by decide) (by decide) (by decide) (by decide) (by decide), u2_ne (by decide), J2x 21 (by decide) (by decide)]
    · have := mf4.2.1 k hk
      rw [u2_ne (by decide), u2_ne (by decide), u2_ne (by decide), this.1, this.2.1, this.2.2, u2_ne (by decide), u2_ne (by decide), u2_ne (by decide), J2x 22 (by decide) (by decide), J2x 23 (by decide) (by decide), J2x 24 (by decide) (by decide)]
      exact ⟨rfl, rfl, rfl⟩
    · exact SDn.cg (m := cnt') (fun i _ => ⟨rfl, rfl, rfl⟩) d (zKn K) (cnt' - 1) fp (by omega) sd
    · rw [u2_ne (by decide)]; exact j21'
    · rw [u2_ne (by decide)]; exact j49
    · rw [u2_ne (by decide), mf4.2.2 k (by omega), u2_ne (by decide), fv2.2 k (by omega), u2_ne (by decide)]
end P51
