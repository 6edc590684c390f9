set_option maxRecDepth 100000
/-! PURE LEVEL 78: the state of reading, both sides; faults; frames -/
def mu (n a : Nat) (s : Int32) : Nat := if s = 4 then 0 else n - a + 1
def Rd (h : HP) (I J : Nat → Nat → Int32) (n : Nat) (tb : Nat → Nat) (c a : Nat) : Prop := (LxT I J n tb ∧ wds (J 2)) ∧ (a ≤ n ∧ I 2 0 = nn a ∧ I 2 1 = nn n ∧ J 0 7 = nn a ∧ J 0 6 = nn n ∧ J 0 4 = 0 ∧ J 0 5 = -1) ∧ (TokR (I 2 3) (I 2 4) (J 0 8) (J 0 9) ∧ I 2 2 = J 0 10) ∧ gR (cV h) 2 7 = some c ∧ shC (cV h) c ∧ 54 ≤ c ∧ Shp h
def EF (c : Nat) (h : HP) (I : Nat → Nat → Int32) (h' : HP) (I' : Nat → Nat → Int32) : Prop := (∀ x, (gT (cV h) x).1 ≠ 0 → gT (cV h') x = gT (cV h) x ∧ gR (cV h') x = gR (cV h) x) ∧ (∀ x, (gT (cV h) x).1 ≠ 0 → x ≠ 2 → x ≠ c → I' x = I x) ∧ (∀ k, k ≠ 10 → I' c k = I c k) ∧ I' 2 6 = I 2 6 ∧ gN h ≤ gN h'
def MF (kr : Nat) (J J' : Nat → Nat → Int32) : Prop := (∀ x, x ≠ 0 → x ≠ 22 → x ≠ 23 → x ≠ 24 → x ≠ 25 → x ≠ 26 → J' x = J x) ∧ (∀ k, k < 64 + kr → J' 22 k = J 22 k ∧ J' 23 k = J 23 k ∧ J' 24 k = J 24 k) ∧ ∀ k, (k < 4 ∨ k = 6 ∨ (10 < k ∧ k < 21) ∨ (21 < k ∧ k < 46) ∨ 51 < k) → J' 0 k = J 0 k
section P28
variable {h h' g : HP} {I I' J J' : Nat → Nat → Int32} {L M : Nat → Nat → Int64} {n : Nat} {tb : Nat → Nat} {a c : Nat}
theorem EF.tr {h1 h2 : HP} {I1 I2 : Nat → Nat → Int32} (p : EF c h I h1 I1) (q : EF c h1 I1 h2 I2) : EF c h I h2 I2 := by
  have ty : ∀ x, (gT (cV h) x).1 ≠ 0 → (gT (cV h1) x).1 ≠ 0 := fun x t => by rw [(p.1 x t).1]; exact t
  exact ⟨fun x t => ⟨(q.1 x (ty x t)).1.trans (p.1 x t).1, (q.1 x (ty x t)).2.trans (p.1 x t).2⟩, fun x t h2 hc => (q.2.1 x (ty x t) h2 hc).trans (p.2.1 x t h2 hc), fun k hk => (q.2.2.1 k hk).trans (p.2.2.1 k hk), q.2.2.2.1.trans p.2.2.2.1, Nat.le_trans p.2.2.2.2 q.2.2.2.2⟩
theorem EF.rfl (c : Nat) (h : HP) (I : Nat → Nat → Int32) : EF c h I h I := ⟨fun _ _ => ⟨Eq.refl _, Eq.refl _⟩, fun _ _ _ _ => Eq.refl _, fun _ _ => Eq.refl _, Eq.refl _, Nat.le_refl _⟩
theorem EF.x (hc : c ≠ 2) (f : frX I I') : EF c h I h I' := ⟨fun _ _ => ⟨Eq.refl _, Eq.refl _⟩, fun x _ h2 _ => f.1 x h2, fun k _ => by rw [f.1 c hc], f.2 6 (by decide) (by decide) (by decide) (by decide), Nat.le_refl _⟩
theorem EF.u5 (hc : c ≠ 2) (v : Int32) : EF c h I h (u2 I 2 5 v) := ⟨fun _ _ => ⟨Eq.refl _, Eq.refl _⟩, fun x _ h2 _ => u2_ne h2, fun k _ => by rw [u2_ne hc], u2_nk _ _ (by decide), Nat.le_refl _⟩
theorem EF.u10 (hc : c ≠ 2) (v : Int32) : EF c h I h (u2 I c 10 v) := ⟨fun _ _ => ⟨Eq.refl _, Eq.refl _⟩, fun x _ _ hx => u2_ne hx, fun k hk => u2_nk _ _ hk, by rw [u2_ne (Ne.symm hc)], Nat.le_refl _⟩
theorem MF.tr {kr kr' : Nat} {J1 J2 : Nat → Nat → Int32} (hk : kr ≤ kr') (p : MF kr J J1) (q : MF kr' J1 J2) : MF kr J J2 :=
  ⟨fun x h0 h1 h2 h3 h4 h5 => (q.1 x h0 h1 h2 h3 h4 h5).trans (p.1 x h0 h1 h2 h3 h4 h5), fun k hk => ⟨(q.2.1 k (by omega)).1.trans (p.2.1 k hk).1, (q.2.1 k (by omega)).2.1.trans (p.2.1 k hk).2.1, (q.2.1 k (by omega)).2.2.trans (p.2.1 k hk).2.2⟩, fun k hk => (q.2.2 k hk).trans (p.2.2 k hk)⟩
theorem MF.rfl (kr : Nat) (J : Nat → Nat → Int32) : MF kr J J := ⟨fun _ _ _ _ _ _ _ => Eq.refl _, fun _ _ => ⟨Eq.refl _, Eq.refl _, Eq.refl _⟩, fun _ _ => Eq.refl _⟩
theorem MF.v {kr : Nat} (f : frV J J') : MF kr J J' := ⟨fun x h0 _ _ _ _ _ => f.1 x h0, fun k _ => by rw [f.1 22 (by decide), f.1 23 (by decide), f.1 24 (by decide)]; exact ⟨Eq.refl _, Eq.refl _, Eq.refl _⟩, fun k hk => f.2 k (by omega)⟩
theorem MF.u0 {kr k : Nat} (v : Int32) (hk : k = 4 ∨ k = 5 ∨ (7 ≤ k ∧ k ≤ 10) ∨ k = 21 ∨ (46 ≤ k ∧ k ≤ 51)) : MF kr J (u2 J 0 k v) := ⟨fun x h0 _ _ _ _ _ => u2_ne h0, fun j _ => by rw [u2_ne (by decide), u2_ne (by decide), u2_ne (by decide)]; exact ⟨Eq.refl _, Eq.refl _, Eq.refl _⟩, fun j hj => u2_nk _ _ (by omega)⟩
theorem MF.b {kr : Nat} (f : MB kr J J') : MF kr J J' := ⟨fun x h0 h1 h2 h3 _ h5 => f.1 x h0 h1 h2 h3 h5, f.2.1, fun k hk => f.2.2 k (by omega) (by omega) (by omega)⟩
theorem MF.w {kr i : Nat} (v : Int32) : MF kr J (u2 J 25 i v) := ⟨fun x _ _ _ _ h5 _ => u2_ne h5, fun j _ => by rw [u2_ne (by decide), u2_ne (by decide), u2_ne (by decide)]; exact ⟨Eq.refl _, Eq.refl _, Eq.refl _⟩, fun j hj => by rw [u2_ne (by decide)]⟩
theorem Rd.cg (q : Rd h I J n tb c a) (i1 : I' 1 = I 1) (i2 : ∀ k, k ≤ 4 → I' 2 k = I 2 k) (j1 : J' 1 = J 1) (j2 : J' 2 = J 2) (j0 : ∀ k, 4 ≤ k → k ≤ 10 → J' 0 k = J 0 k) : Rd h I' J' n tb c a := by
  obtain ⟨⟨t, w⟩, ⟨r0, r1, r2, r3, r4⟩, ⟨k1, k2⟩, r⟩ := q
  exact ⟨⟨t.fr i1 j1, by rw [j2]; exact w⟩, ⟨r0, by rw [i2 0 (by decide)]; exact r1, by rw [i2 1 (by decide)]; exact r2, by rw [j0 7 (by decide) (by decide)]; exact r3, by rw [j0 6 (by decide) (by decide)]; exact r4.1, by rw [j0 4 (by decide) (by decide)]; exact r4.2.1, by rw [j0 5 (by decide) (by decide)]; exact r4.2.2⟩, ⟨by rw [i2 3 (by decide), i2 4 (by decide), j0 8 (by decide) (by decide), j0 9 (by decide) (by decide)]; exact k1, by rw [i2 2 (by decide), j0 10 (by decide) (by decide)]; exact k2⟩, r⟩
theorem Rd.ty (q : Rd h I J n tb c a) : gT (cV h) c = (4, 0) := q.2.2.2.2.1.1
theorem Rd.c2 (q : Rd h I J n tb c a) : c ≠ 2 := by have := q.2.2.2.2.2.1; omega
theorem shC_ef (f : ∀ x, (gT (cV h) x).1 ≠ 0 → gT (cV h') x = gT (cV h) x ∧ gR (cV h') x = gR (cV h) x) (q : shC (cV h) c) : shC (cV h') c := by
  obtain ⟨a1, a2, a3, a4, a5, a6⟩ := q
  have tc : (gT (cV h) c).1 ≠ 0 := by rw [a1]; decide
  refine ⟨by rw [(f c tc).1]; exact a1, by rw [(f c tc).2]; exact a2, ?_, ?_, ?_, ?_⟩
  · rw [(f _ (by rw [a3]; decide)).1]; exact a3
  · rw [(f _ (by rw [a4]; decide)).1]; exact a4
  · rw [(f _ (by rw [a5]; decide)).1]; exact a5
  · rw [(f _ (by rw [a6]; decide)).1]; exact a6
theorem Rd.hp (q : Rd h I J n tb c a) (f : ∀ x, (gT (cV h) x).1 ≠ 0 → gT (cV h') x = gT (cV h) x ∧ gR (cV h') x = gR (cV h) x) (sh : Shp h') : Rd h' I J n tb c a := by
  obtain ⟨t, r, k, r1, r2, r3, r4⟩ := q
  exact ⟨t, r, k, by rw [(f 2 (by show (3 : Nat) ≠ 0; decide)).2]; exact r1, shC_ef f r2, r3, sh⟩
theorem r_next (q : Rd h I J n tb c a) : ∃ I' J' a', cR_next (hw h I L) = some ((), hw h I' L) ∧ m_token (hw g J M) = some ((), hw g J' M) ∧ Rd h I' J' n tb c a' ∧ (¬ I 2 3 = 4 → mu n a' (I' 2 3) < mu n a (I 2 3)) ∧ frX I I' ∧ frV J J' := by
  obtain ⟨⟨t, w⟩, ⟨r0, r1, r2, r3, r4⟩, ⟨k1, k2⟩, r⟩ := q
  obtain ⟨I', J', e, e', ⟨a', g1, g2, g3, g4, g5, g6, g7, g8⟩, pl⟩ := b_next (h := h) (g := g) (L := L) (M := M) w t r0 r1 r2 r3 r4.1
  refine ⟨I', J', a', e, e', ⟨⟨t.fr (g7.1 1 (by decide)) (g8.1 1 (by decide)), by rw [g8.1 2 (by decide)]; exact w⟩, ⟨g2, g3, by rw [g7.2 1 (by decide) (by decide) (by decide) (by decide)]; exact r2, g4, by rw [g8.2 6 (by omega)]; exact r4.1, by rw [g8.2 4 (by omega)]; exact r4.2.1, by rw [g8.2 5 (by omega)]; exact r4.2.2⟩, ⟨g5, pl⟩, r⟩, fun z => ?_, g7, g8⟩
  unfold mu
  rw [if_neg z]
  by_cases y : I' 2 3 = 4
  · rw [if_pos y]; omega
  · rw [if_neg y]; have := g6 y; omega
theorem mu_le (n a : Nat) (s : Int32) : mu n a s ≤ n + 1 := by unfold mu; split <;> omega
/-- a fault of the component is laid -/
theorem ec_wrong (sh : Shp h) (k : Int32) : ∃ h' I' L', cR_wrong k (hw h I L) = some (gN h, hw h' I' L') ∧ gT (cV h') (gN h) = (20, 0) ∧ I' (gN h) 6 = k ∧ I' (gN h) 7 = I 2 2 ∧ (∀ x, x ≠ gN h → gT (cV h') x = gT (cV h) x ∧ gR (cV h') x = gR (cV h) x ∧ I' x = I x) ∧ Shp h' ∧ gN h' = gN h + 1 ∧ gS h' = gS h + 8 := by
  obtain ⟨H, hH, F, tH, fI, nN, nS, sH⟩ := nw_f I L 20 8 sh
  have h54 := sh.1
  have e : kX11_init (gN h) k (gI H 2 2) H = some ((), hw H (u2 (u2 (gI H) (gN h) 6 k) (gN h) 7 (gI H 2 2)) (gL H)) := by
    have t1 : (gT (cV H) (gN h)).1 = 20 := by rw [tH]
    have he : H = hw H (gI H) (gL H) := hw_eta H
    rw [he]
    simp only [kX11_init, kJ11_init, kJ10_init_2, bnd_e, cal_s, onr_s, jon_e, gI_hw, gL_hw, gT_hw, gR_hw, gN_hw, sI_hw, sL_hw, cV_hw, shS_hw, shC_hw, shL_hw, ← bt_def, grd_pos t1, if_true]
    rw [← hw_eta H]
  refine ⟨H, u2 (u2 (gI H) (gN h) 6 k) (gN h) 7 (gI H 2 2), gL H, ?_, tH, ?_, ?_, fun x hx => ⟨(F x hx).1, (F x hx).2, ?_⟩, sH, nN, nS⟩
  · simp only [cR_wrong, bnd_e, cal_s, onr_s, jon_e, gI_hw, gL_hw, gT_hw, gR_hw, gN_hw, sI_hw, sL_hw, cV_hw, shS_hw, shC_hw, shL_hw, ← bt_def, grd_pos sh.1, hH, e]
  · rw [u2_nk _ _ (by decide), u2_same]
  · rw [u2_same, fI 2 (by omega)]
  · rw [u2_ne hx, u2_ne hx, fI x hx]
theorem em_wrong (k : Int32) : m_wrong k (hw g J M) = some (0, hw g (u2 (u2 J 0 4 k) 0 5 (J 0 10)) M) := by
  simp only [m_wrong, bnd_e, cal_s, onr_s, jon_e, gI_hw, gL_hw, gT_hw, gR_hw, gN_hw, sI_hw, sL_hw, cV_hw, shS_hw, shC_hw, shL_hw, ← bt_def, u2n (show 10 ≠ 4 by decide)]
theorem sh_ne {x : Nat} (sh : Shp h) (t : (gT (cV h) x).1 ≠ 0) : x ≠ gN h := fun e => by
  have := sh.1
  rw [e, gTV this] at t
  exact t (sh.2 _ (by omega))
/-- the component throws a fault, the model has laid it, and answers 0 -/
def Flt {ρ : Type} (g : HP) (M : Nat → Nat → Int64) (c kr : Nat) (h : HP) (I J : Nat → Nat → Int32) (B : Nat) (tc : Option ((ρ ⊕ Nat × Nat) × HP)) (tm : Option (Int32 × HP)) : Prop := ∃ h' I' L' x J', tc = some (.inr (1, x), hw h' I' L') ∧ tm = some (0, hw g J' M) ∧ gT (cV h') x = (20, 0) ∧ I' x 6 = J' 0 4 ∧ I' x 7 = J' 0 5 ∧ EF c h I h' I' ∧ MF kr J J' ∧ Shp h' ∧ gN h' ≤ gN h + B ∧ gS h' ≤ gS h + 12 * B
theorem Flt.st {ρ : Type} {kr kr' B B' : Nat} {h1 : HP} {I1 J1 : Nat → Nat → Int32} {tc : Option ((ρ ⊕ Nat × Nat) × HP)} {tm : Option (Int32 × HP)} (f : EF c h I h1 I1) (m : MF kr J J1) (hk : kr ≤ kr') (b1 : gN h1 + B ≤ gN h + B') (b2 : gS h1 + 12 * B ≤ gS h + 12 * B') (q : Flt g M c kr' h1 I1 J1 B tc tm) : Flt g M c kr h I J B' tc tm := by
  obtain ⟨h', I', L', x, J', q1, q2, q3, q4, q5, q6, q7, q8, q9, q10⟩ := q
  exact ⟨h', I', L', x, J', q1, q2, q3, q4, q5, f.tr q6, m.tr hk q7, q8, by omega, by omega⟩
/-- throw: wrong(k) on both sides -/
theorem flt_wrong {ρ : Type} (q : Rd h I J n tb c a) (kr : Nat) (k : Int32) : Flt (ρ := ρ) g M c kr h I J 1 (cal (cR_wrong k (hw h I L)) (fun r h' => grd ((gT (cV h') r).1 = 20) (some (.inr (1, r), h')))) (m_wrong k (hw g J M)) := by
  have sh : Shp h := q.2.2.2.2.2.2
  obtain ⟨h', I', L', e, t, v6, v7, f, s', nN, nS⟩ := ec_wrong (I := I) (L := L) sh k
  have c54 := q.2.2.2.2.2.1
  have cn : c ≠ gN h := sh_ne sh (by rw [q.ty]; decide)
  have h54 := sh.1
  rw [e, em_wrong]
  refine ⟨h', I', L', gN h, _, by rw [cal_s, cV_hw, gT_hw, grd_pos (by rw [t])], rfl, t, ?_, ?_, ⟨fun x tx => ⟨(f x (sh_ne sh tx)).1, (f x (sh_ne sh tx)).2.1⟩, fun x tx _ _ => (f x (sh_ne sh tx)).2.2, fun k _ => by rw [(f c cn).2.2], by rw [(f 2 (by omega)).2.2], by omega⟩, (MF.u0 _ (by omega)).tr (Nat.le_refl _) (MF.u0 _ (by omega)), s', by omega, by omega⟩
  · rw [v6, u2_nk _ _ (by decide), u2_same]
  · rw [v7, u2_same]; exact q.2.2.1.2
end P28
