set_option maxRecDepth 100000
/-! PURE LEVEL B4: the reading begins; its lines -/
def K0 : KT := (fun _ => 0, fun t k => if t = 0 ∧ k = 0 then 9 else 0, fun _ => none)
theorem WK0 : WK K0 := ⟨by decide, fun k hk => absurd hk (Nat.not_lt_zero k), fun k hk => absurd hk (Nat.not_lt_zero k), fun k hk => absurd hk (Nat.not_lt_zero k), by decide⟩
theorem gR_cV {H h : HP} {x : Nat} (e : ∀ k, gR H x k = gR h x k) : gR (cV H) x = gR (cV h) x := by
  funext k
  show (match cRs x k with | some b => some b | none => gR H x k) = (match cRs x k with | some b => some b | none => gR h x k)
  rw [e k]
theorem gT_cV {H h : HP} {x : Nat} (e : gT H x = gT h x) : gT (cV H) x = gT (cV h) x := by
  show (if x < 54 then cT x else gT H x) = (if x < 54 then cT x else gT h x)
  rw [e]
section P57
variable {h0 h h' g : HP} {I0 J0 I I' J J' : Nat → Nat → Int32} {L M : Nat → Nat → Int64} {n : Nat} {tb : Nat → Nat} {a a' c kr : Nat} {K : KT} {A : Nat → Nat → Nat} {t ln : Nat}
def rdI (I : Nat → Nat → Int32) (n : Nat) : Nat → Nat → Int32 := u2 (u2 (u2 (u2 I 2 0 0) 2 1 (nn n)) 2 5 0) 2 6 0
/-- the heap with the new court -/
def Hc (h : HP) (I : Nat → Nat → Int32) (h2 : HP) : Prop := (∀ x, x < gN h → gT h2 x = gT h x ∧ gI h2 x = I x ∧ (x ≠ 2 → ∀ k, gR h2 x k = gR h x k)) ∧ gR (cV h2) 2 7 = some (gN h) ∧ Shp h2 ∧ shC (cV h2) (gN h) ∧ (shL (cV h2) (gN h + 1) ∧ shL (cV h2) (gN h + 3) ∧ shL (cV h2) (gN h + 5)) ∧ ((gT (cV h2) (gN h + 2)).2 = 8 ∧ (gT (cV h2) (gN h + 4)).2 = 5 ∧ (gT (cV h2) (gN h + 6)).2 = 8) ∧ (∀ j, gR (cV h2) (gN h + 10) j = none) ∧ (∀ k j, k ≤ 10 → gI h2 (gN h + k) j = if k = 0 ∧ j = 8 then 9 else 0) ∧ gN h2 = gN h + 11 ∧ gS h2 = gS h + 74
theorem t_heap (sh : Shp h) : ∃ h2, sR (cNw (hw h I L) (gN h)) 2 7 (some (gN h)) = hw h2 (gI h2) (gL h2) ∧ Hc h I h2 := by
  have h54 := sh.1
  have hn : gN (hw h I L) = gN h := rfl
  generalize hH1 : cNw (hw h I L) (gN h) = H1
  have T1 := cN_T hn
  have I1 := cN_I hn
  have R1 : ∀ {x : Nat}, (x < gN h ∨ gN h + 10 < x) → gR (cNw (hw h I L) (gN h)) x = gR (hw h I L) x := fun hx => cN_R hn hx
  have Rn := cN_Rn hn
  have N1 := cN_N hn
  rw [hH1] at T1 I1 R1 Rn N1
  generalize hh2 : sR H1 2 7 (some (gN h)) = h2
  have T2 : ∀ x, gT h2 x = gT H1 x := fun x => by rw [← hh2, gT_sR']
  have I2 : ∀ x, gI h2 x = gI H1 x := fun x => by rw [← hh2, gI_sR']
  have R2 : ∀ x, x ≠ 2 → gR h2 x = gR H1 x := fun x hx => by rw [← hh2, gR_sR', u2_ne hx]
  have R27 : gR h2 2 7 = some (gN h) := by rw [← hh2, gR_sR', u2_same]
  have N2 : gN h2 = gN h + 11 := by rw [← hh2, gN_sR']; exact N1.1
  have S2 : gS h2 = gS h + 74 := by rw [← hh2, gS_sR']; exact N1.2
  clear hH1 hh2
  have tl : ∀ x, x < gN h → gT h2 x = gT h x := fun x hx => by
    rw [T2, T1, if_neg (by omega), if_neg (by omega), if_neg (by omega), if_neg (by omega), if_neg (by omega), if_neg (by omega), gT_hw]
  have tv : ∀ k, gT (cV h2) (gN h + k) = gT H1 (gN h + k) := fun k => by rw [gTV (by omega), T2]
  have rv : ∀ k j, gR (cV h2) (gN h + k) j = gR H1 (gN h + k) j := fun k j => by rw [gRV (by omega), R2 _ (by omega)]
  have ty0 : gT (cV h2) (gN h) = (4, 0) := by have := tv 0; rw [Nat.add_zero] at this; rw [this, T1, if_pos rfl]
  have ty5 : ∀ k, k = 1 ∨ k = 3 ∨ k = 5 → gT (cV h2) (gN h + k) = (5, 0) := fun k hk => by rw [tv, T1, if_neg (by omega), if_pos (by omega)]
  have ty8 : ∀ k, k = 2 ∨ k = 6 → gT (cV h2) (gN h + k) = (104, 8) := fun k hk => by rw [tv, T1, if_neg (by omega), if_neg (by omega), if_pos (by omega)]
  have ty4 : gT (cV h2) (gN h + 4) = (104, 5) := by rw [tv, T1, if_neg (by omega), if_neg (by omega), if_neg (by omega), if_pos rfl]
  have ty7 : ∀ k, k = 7 ∨ k = 8 ∨ k = 9 → gT (cV h2) (gN h + k) = (100, 10) := fun k hk => by rw [tv, T1, if_neg (by omega), if_neg (by omega), if_neg (by omega), if_neg (by omega), if_pos (by omega)]
  have ty10 : gT (cV h2) (gN h + 10) = (105, 2) := by rw [tv, T1, if_neg (by omega), if_neg (by omega), if_neg (by omega), if_neg (by omega), if_neg (by omega), if_pos rfl]
  have rv0 : ∀ j, gR (cV h2) (gN h) j = gR H1 (gN h) j := fun j => by have := rv 0 j; rw [Nat.add_zero] at this; exact this
  refine ⟨h2, by rw [← hw_eta], fun x hx => ⟨tl x hx, by rw [I2, I1, if_neg (by omega), gI_hw], fun z k => by rw [R2 x z, R1 (Or.inl hx), gR_hw]⟩, R27, ⟨by omega, fun x hx => ?_⟩, ⟨ty0, ⟨by rw [rv0]; exact Rn.1.1, by rw [rv0]; exact Rn.1.2.1, by rw [rv0]; exact Rn.1.2.2.1, by rw [rv0]; exact Rn.1.2.2.2.1, by rw [rv0]; exact Rn.1.2.2.2.2.1, by rw [rv0]; exact Rn.1.2.2.2.2.2.1, by rw [rv0]; exact Rn.1.2.2.2.2.2.2⟩, ty7 7 (by omega), ty7 8 (by omega), ty7 9 (by omega), ty10⟩, ⟨⟨ty5 1 (by omega), by rw [rv]; exact Rn.2.1, by rw [Nat.add_assoc, ty8 2 (by omega)]⟩, ⟨ty5 3 (by omega), by rw [rv]; exact Rn.2.2.1, by rw [Nat.add_assoc, ty4]⟩, ⟨ty5 5 (by omega), by rw [rv]; exact Rn.2.2.2.1, by rw [Nat.add_assoc, ty8 6 (by omega)]⟩⟩, ⟨by rw [ty8 2 (by omega)], by rw [ty4], by rw [ty8 6 (by omega)]⟩, fun j => by rw [rv]; exact Rn.2.2.2.2 j, fun k j hk => ?_, N2, S2⟩
  · rw [T2, T1, if_neg (by omega), if_neg (by omega), if_neg (by omega), if_neg (by omega), if_neg (by omega), if_neg (by omega), gT_hw]
    exact sh.2 x (by omega)
  · rw [I2, I1, if_pos (by omega)]
    by_cases z : k = 0 ∧ j = 8
    · rw [if_pos ⟨by omega, z.2⟩, if_pos z]
    · rw [if_neg (fun y => z ⟨by omega, y.2⟩), if_neg z]
theorem plJ_x (J : Nat → Nat → Int32) {x : Nat} (hx : x ≠ 0) (h3 : x ≠ 3) (h4 : x ≠ 4) (h19 : x ≠ 19) : plJ J x = J x := by
  unfold plJ
  rw [u2_ne h19, u2_ne h4, u2_ne h3, u2_ne h19, u2_ne h4, u2_ne h3, u2_ne hx, u2_ne hx, u2_ne hx, u2_ne hx, u2_ne hx, u2_ne hx]
theorem plJ_0 (J : Nat → Nat → Int32) {k : Nat} (hk : k < 17 ∨ (21 < k ∧ k ≠ 49)) : plJ J 0 k = J 0 k := by
  unfold plJ
  rw [u2_ne (by decide), u2_ne (by decide), u2_ne (by decide), u2_ne (by decide), u2_ne (by decide), u2_ne (by decide), u2_nk _ _ (by omega), u2_nk _ _ (by omega), u2_nk _ _ (by omega), u2_nk _ _ (by omega), u2_nk _ _ (by omega), u2_nk _ _ (by omega)]
theorem plJ_4 (J : Nat → Nat → Int32) {k : Nat} (hk : k < 2) : plJ J 4 k = J 4 k ∧ plJ J 19 k = J 19 k := by
  unfold plJ
  constructor
  · rw [u2_ne (by decide), u2_nk _ _ (by omega), u2_ne (by decide), u2_ne (by decide), u2_nk _ _ (by omega), u2_ne (by decide), u2_ne (by decide), u2_ne (by decide), u2_ne (by decide), u2_ne (by decide), u2_ne (by decide), u2_ne (by decide)]
  · rw [u2_nk _ _ (by omega), u2_ne (by decide), u2_ne (by decide), u2_nk _ _ (by omega), u2_ne (by decide), u2_ne (by decide), u2_ne (by decide), u2_ne (by decide), u2_ne (by decide), u2_ne (by decide), u2_ne (by decide), u2_ne (by decide)]
theorem plJ_v (J : Nat → Nat → Int32) : (plJ J 0 17 = 0 ∧ plJ J 0 18 = 0 ∧ plJ J 0 19 = 0 ∧ plJ J 0 20 = 0 ∧ plJ J 0 21 = 0) ∧ plJ J 0 49 = 0 ∧ (plJ J 4 2 = 9 ∧ plJ J 4 3 = 0) ∧ (plJ J 3 0 = 0 ∧ plJ J 3 1 = 0) ∧ plJ J 19 2 = 0 ∧ plJ J 19 3 = 0 := ⟨⟨rfl, rfl, rfl, rfl, rfl⟩, rfl, ⟨rfl, rfl⟩, ⟨rfl, rfl⟩, rfl, rfl⟩
theorem rdI_v (I : Nat → Nat → Int32) (n : Nat) : rdI I n 2 0 = nn 0 ∧ rdI I n 2 1 = nn n ∧ rdI I n 2 5 = 0 ∧ rdI I n 2 6 = nn 0 ∧ ∀ x, x ≠ 2 → rdI I n x = I x := ⟨rfl, rfl, rfl, rfl, fun x hx => by unfold rdI; rw [u2_ne hx, u2_ne hx, u2_ne hx, u2_ne hx]⟩
theorem CC0 {h2 : HP} {I3 : Nat → Nat → Int32} (hc : Hc h I h2) (ic : ∀ k j, k ≤ 10 → I3 (gN h + k) j = if k = 0 ∧ j = 8 then 9 else 0) : CC (cV h2) I3 (gN h) K0 (fun _ _ => 0) := by
  obtain ⟨-, -, -, s1, s2, s3, s4, -⟩ := hc
  have i0 : ∀ j, I3 (gN h) j = if j = 8 then 9 else 0 := fun j => by
    have := ic 0 j (by decide)
    rw [Nat.add_zero] at this
    rw [this]
    by_cases z : j = 8
    · rw [if_pos ⟨rfl, z⟩, if_pos z]
    · rw [if_neg (fun y => z y.2), if_neg z]
  refine ⟨s1, s2, s3, ⟨by rw [ic 1 2 (by decide), if_neg (by decide)]; rfl, by rw [ic 3 2 (by decide), if_neg (by decide)]; rfl, by rw [ic 5 2 (by decide), if_neg (by decide)]; rfl⟩, ⟨by rw [i0, if_neg (by decide)]; rfl, by rw [i0, if_pos rfl]; rfl, by rw [i0, if_neg (by decide)]; rfl, by rw [i0, if_neg (by decide)]; rfl⟩, fun k hk => absurd hk (Nat.not_lt_zero k), fun k hk => absurd hk (Nat.not_lt_zero k), fun k hk => absurd hk (Nat.not_lt_zero k), fun k hk => absurd hk (Nat.not_lt_zero k), fun j _ => s4 j⟩
theorem MR0 {J3 : Nat → Nat → Int32} (fv : frV (plJ J) J3) : MR J3 K0 := by
  obtain ⟨⟨v1, v2, v3, v4, v5⟩, -, ⟨v6, v7⟩, -, v8, v9⟩ := plJ_v J
  refine ⟨⟨by rw [fv.2 17 (by omega)]; exact v1, by rw [fv.2 18 (by omega)]; exact v2, by rw [fv.2 19 (by omega)]; exact v3, by rw [fv.2 20 (by omega)]; exact v4, by rw [fv.2 21 (by omega)]; exact v5⟩, ⟨by rw [fv.1 4 (by decide)]; exact v6, by rw [fv.1 4 (by decide)]; exact v7⟩, fun k hk => absurd hk (Nat.not_lt_zero k), fun k hk => absurd hk (Nat.not_lt_zero k), fun k hk => absurd hk (Nat.not_lt_zero k), fun k hk => absurd hk (Nat.not_lt_zero k), fun j hj => ?_⟩
  show J3 19 (2 + j) = 0
  rw [fv.1 19 (by decide)]
  rcases (show j = 0 ∨ j = 1 by omega) with rfl | rfl
  · exact v8
  · exact v9
theorem t_start (sh : Shp h) (T : LxT I J n tb) (W : wds (J 2)) (j6 : J 0 6 = nn n) (j7 : J 0 7 = 0) (j4 : J 0 4 = 0) (j5 : J 0 5 = -1) {h2 : HP} (hc : Hc h (rdI I n) h2) : ∃ I3 J3 a3, cR_next (hw h2 (gI h2) (gL h2)) = some ((), hw h2 I3 (gL h2)) ∧ m_token (hw g (plJ J) M) = some ((), hw g J3 M) ∧ PSt h I J h2 I3 J3 n tb (gN h) a3 K0 (fun _ _ => 0) 0 0 := by
  have h54 := sh.1
  have hc' := hc
  obtain ⟨lo, r27, sh2, shc, -, -, -, ic0, N2, S2⟩ := hc
  obtain ⟨d0, d1, d5, d6, dx⟩ := rdI_v I n
  have i2v : gI h2 2 = rdI I n 2 := (lo 2 (by omega)).2.1
  have hI1 : gI h2 1 = I 1 := by rw [(lo 1 (by omega)).2.1, dx 1 (by decide)]
  have tk0 : LxT (gI h2) (plJ J) n tb := T.fr hI1 (plJ_x J (by decide) (by decide) (by decide) (by decide))
  have W2 : wds ((plJ J) 2) := by rw [plJ_x J (by decide) (by decide) (by decide) (by decide)]; exact W
  obtain ⟨I3, J3, n1, n2, ⟨a3, g1, g2, g3, g4, g5, g6, fx, fv⟩, pl⟩ := b_next (h := h2) (g := g) (L := gL h2) (M := M) (I := gI h2) (J := plJ J) (a := 0) W2 tk0 (Nat.zero_le _) (by rw [i2v]; exact d0) (by rw [i2v]; exact d1) (by rw [plJ_0 J (by omega)]; exact j7) (by rw [plJ_0 J (by omega)]; exact j6)
  have i3 : ∀ x, x ≠ 2 → I3 x = gI h2 x := fun x hx => fx.1 x hx
  have ic : ∀ k j, k ≤ 10 → I3 (gN h + k) j = if k = 0 ∧ j = 8 then 9 else 0 := fun k j hk => by rw [i3 _ (by omega)]; exact ic0 k j hk
  obtain ⟨-, w49, -, ⟨w30, w31⟩, -⟩ := plJ_v J
  have rd : Rd h2 I3 J3 n tb (gN h) a3 := ⟨⟨tk0.fr (fx.1 1 (by decide)) (fv.1 1 (by decide)), by rw [fv.1 2 (by decide)]; exact W2⟩, ⟨g2, g3, by rw [fx.2 1 (by decide) (by decide) (by decide) (by decide), i2v]; exact d1, g4, by rw [fv.2 6 (by omega), plJ_0 J (by omega)]; exact j6, by rw [fv.2 4 (by omega), plJ_0 J (by omega)]; exact j4, by rw [fv.2 5 (by omega), plJ_0 J (by omega)]; exact j5⟩, ⟨g5, pl⟩, r27, shc, h54, sh2⟩
  have ef : EF0 h I h2 I3 := ⟨fun x tx => by
    have lt := sh_lt sh tx
    obtain ⟨l1, l2, l3⟩ := lo x lt
    exact ⟨gT_cV l1, fun z => ⟨gR_cV (l3 z), by rw [i3 x z, l2, dx x z]⟩⟩, by omega⟩
  have ml : ML0 J J3 := by
    refine ⟨fun x hx => by rw [fv.1 x (by omega), plJ_x J (by omega) (by omega) (by omega) (by omega)], fun x k g1 g2 g3 => ?_, fun k hk => by rw [fv.2 k (by omega), plJ_0 J (by omega)]⟩
    have e4 : hf 4 = 2 ∧ hf 19 = 2 := by decide
    rw [fv.1 x (by omega)]
    by_cases z4 : x = 4
    · subst z4; exact (plJ_4 J (by omega)).1
    · by_cases z19 : x = 19
      · subst z19; exact (plJ_4 J (by omega)).2
      · rw [plJ_x J (by omega) (by omega) z4 z19]
  have i11 : I3 (gN h) 11 = nn 0 := by
    have := ic 0 11 (by decide)
    rw [Nat.add_zero, if_neg (by decide)] at this
    exact this
  exact ⟨I3, J3, a3, n1, n2, rd, ⟨CC0 hc' ic, MR0 fv, WK0⟩, ⟨by rw [fv.2 49 (by omega)]; exact w49, by rw [fx.2 5 (by decide) (by decide) (by decide) (by decide), i2v]; exact d5⟩, ⟨by rw [fx.2 6 (by decide) (by decide) (by decide) (by decide), i2v]; exact d6, by decide, by rw [fv.1 3 (by decide)]; exact w30, by rw [fv.1 3 (by decide)]; exact w31⟩, i11, ⟨fun i j hi => absurd hi (Nat.not_lt_zero i), fun i hi => absurd hi (Nat.not_lt_zero i)⟩, ⟨Nat.le_refl _, sh⟩, ef, ml⟩
theorem tk_e4 {s v k w : Int32} (t : TokR s v k w) : k = 0 ↔ s = 4 := by
  rcases t with ⟨rfl, u, hu, rfl, rfl, rfl⟩ | ⟨rfl, rfl, rfl⟩ | ⟨rfl, rfl, rfl⟩ | ⟨rfl, ⟨rfl, rfl, h⟩ | ⟨rfl, h⟩⟩ | ⟨rfl, rfl⟩ | ⟨rfl, rfl | ⟨rfl, rfl⟩⟩ <;> decide
theorem r_loop (kc : HP → Option ((Nat ⊕ Nat × Nat) × HP)) (km : Int32 → HP → Option (Int32 × HP)) : ∀ (m : Nat) (h : HP) (I J : Nat → Nat → Int32) (L : Nat → Nat → Int64) (a : Nat) (K : KT) (A : Nat → Nat → Nat) (t ln fu : Nat), PSt h0 I0 J0 h I J n tb c a K A t ln → mu n a (I 2 3) ≤ m → m < fu →
    (∃ J', LFl g M h0 I0 J0 (gN h + (mu n a (I 2 3) + 3)) (gS h + (12 * mu n a (I 2 3) + 40)) (cR_read_35 kc fu (hw h I L)) (some (0, hw g J' M)) ∧ m_text_55 km fu (nn ln) (hw g J M) = some (-1, hw g J' M)) ∨
    ∃ h' I' L' J' a' K' A' t' ln', cR_read_35 kc fu (hw h I L) = kc (hw h' I' L') ∧ m_text_55 km fu (nn ln) (hw g J M) = km (nn ln') (hw g J' M) ∧ PSt h0 I0 J0 h' I' J' n tb c a' K' A' t' ln' ∧ gN h' ≤ gN h + mu n a (I 2 3) ∧ gS h' ≤ gS h + 12 * mu n a (I 2 3) := by
  intro m
  induction m with
  | zero =>
    intro h I J L a K A t ln fu q hm hf
    obtain ⟨f, rfl⟩ : ∃ f, fu = f + 1 := ⟨fu - 1, by omega⟩
    have s4 : I 2 3 = 4 := by
      unfold mu at hm
      by_cases y : I 2 3 = 4
      · exact y
      · rw [if_neg y] at hm; omega
    right
    exact ⟨h, I, L, J, a, K, A, t, ln, by rw [cR_read_35, gI_hw, if_pos s4], by rw [m_text_55, gI_hw, if_pos ((tk_e4 q.1.2.2.1.1).mpr s4)], q, by omega, by omega⟩
  | succ m ih =>
    intro h I J L a K A t ln fu q hm hf
    obtain ⟨f, rfl⟩ : ∃ f, fu = f + 1 := ⟨fu - 1, by omega⟩
    by_cases s4 : I 2 3 = 4
    · right
      exact ⟨h, I, L, J, a, K, A, t, ln, by rw [cR_read_35, gI_hw, if_pos s4], by rw [m_text_55, gI_hw, if_pos ((tk_e4 q.1.2.2.1.1).mpr s4)], q, by omega, by omega⟩
    · rw [cR_read_35, gI_hw, if_neg s4, m_text_55, gI_hw, if_neg (fun y => s4 ((tk_e4 q.1.2.2.1.1).mp y))]
      rcases r_line (L := L) (g := g) (M := M) q with fl | ⟨h', I', L', J', a', K', A', t', e1, e2, q', m1, b1, b2⟩
      · left
        obtain ⟨hh, II, LL, x, JJ, r1, r2, r⟩ := fl
        refine ⟨JJ, LFl.le (by omega) (by omega) (LFl.cx _ ⟨hh, II, LL, x, JJ, r1, rfl, r⟩), by rw [r2, cal_s, if_pos rfl]⟩
      · rw [e1, e2, calx_l, cal_s, if_neg (by decide), bnd_e, nn_succ]
        rcases ih h' I' J' L' a' K' A' t' (ln + 1) f q' (by omega) (by omega) with ⟨J2, fl, e3⟩ | ⟨h2, I2, L2, J2, a2, K2, A2, t2, ln2, e3, e4, q2, b3, b4⟩
        · exact Or.inl ⟨J2, fl.le (by omega) (by omega), e3⟩
        · exact Or.inr ⟨h2, I2, L2, J2, a2, K2, A2, t2, ln2, e3, e4, q2, by omega, by omega⟩
end P57
