set_option maxRecDepth 100000
/-! PURE LEVEL 85: what a level of the descent does, against signs that wait -/
def Cc (P : List Nat) (Q : List (Nat × LF)) : Prop := ∃ P5 k1 P' Q5 Q' g, P = P5 ++ k1 :: P' ∧ Q = Q5 ++ Q' ∧ (∀ k, k ∈ P5 → 5 ≤ rk k) ∧ rk k1 = 4 ∧ red P5 (Q5.map Prod.snd) = some g
def Pst (s kk : Nat) (P : List Nat) (Q : List (Nat × LF)) : Prop := (kk ≠ 0 → rk kk < s) ∨ (rk kk = 4 ∧ Cc P Q)
theorem Pst.app {s kk : Nat} {P P' : List Nat} {Q Q' : List (Nat × LF)} (q : Pst s kk P Q) : Pst s kk (P ++ P') (Q ++ Q') := by
  rcases q with q | ⟨q1, P5, k1, P1, Q5, Q1, g, rfl, rfl, q3, q4, q5⟩
  · exact Or.inl q
  · exact Or.inr ⟨q1, P5, k1, P1 ++ P', Q5, Q1 ++ Q', g, by simp, by simp, q3, q4, q5⟩
/-- the answer of a level that began at h I J with cnt knots: the part p means f; what waits on the model's side is P, Q -/
def Res (g : HP) (M : Nat → Nat → Int64) (n : Nat) (tb : Nat → Nat) (c s0 : Nat) (h : HP) (I J : Nat → Nat → Int32) (W : List Nat) (H : List (Nat × LF)) (kr b cnt m e dv r s : Nat) (K : HP → Option (Int32 × HP)) (tc : Option ((Nat ⊕ Nat × Nat) × HP)) (tm : Option (Int32 × HP)) : Prop :=
  ∃ h' I' L' J' a' p f P Q kr' cnt' fu', tc = some (.inl p, hw h' I' L') ∧ tm = m_sumRead_25 K fu' (hw g J' M) ∧ ES h' I' J' n tb c a' (P ++ W) (Q ++ H) s0 kr' b cnt' 0 ∧ (mu n a' (I' 2 3) < fu' ∧ mu n a' (I' 2 3) + e ≤ m) ∧ (∀ k, k ∈ P → r ≤ rk k) ∧ red P (Q.map Prod.snd) = some f ∧ (cnt ≤ cnt' ∧ kr ≤ kr') ∧ PDn (cV h') I' (dv + (cnt' - cnt)) p f ∧ Pst s (tokK (I' 2 3) (I' 2 4)) P Q ∧ EF c h I h' I' ∧ MF kr J J' ∧ gN h' + mu n a' (I' 2 3) ≤ gN h + m ∧ gS h' + 12 * mu n a' (I' 2 3) ≤ gS h + 12 * m
def nbC (nb : Bool) (I J : Nat → Nat → Int32) : Prop := if nb = true then J 0 51 = 1 else (J 0 51 = 0 ∨ ¬ (I 2 3 = 0 ∧ I 2 4 = 17))
def Sp (g : HP) (M : Nat → Nat → Int64) (n : Nat) (tb : Nat → Nat) (c s0 q r s : Nat) (nb : Bool) (d : Nat) (F : HP → Option ((Nat ⊕ Nat × Nat) × HP)) : Prop :=
  ∀ (h : HP) (I J : Nat → Nat → Int32) (L : Nat → Nat → Int64) (a : Nat) (W : List Nat) (H : List (Nat × LF)) (kr b cnt : Nat), ES h I J n tb c a W H s0 kr b cnt 1 → (∀ k W', W = k :: W' → rk k < q) → nbC nb I J → 73 ≤ b + cnt + d → ∀ (K : HP → Option (Int32 × HP)) (fu : Nat), mu n a (I 2 3) < fu →
    Flt g M c kr h I J (mu n a (I 2 3) + 2) (F (hw h I L)) (m_sumRead_25 K fu (hw g J M)) ∨ Res g M n tb c s0 h I J W H kr b cnt (mu n a (I 2 3)) 1 0 r s K (F (hw h I L)) (m_sumRead_25 K fu (hw g J M))
section P34
variable {h h' g : HP} {I I' J J' : Nat → Nat → Int32} {L M : Nat → Nat → Int64} {n : Nat} {tb : Nat → Nat} {a c : Nat} {W P : List Nat} {H Q : List (Nat × LF)} {s0 kr b cnt : Nat} {wn : Int32} {f : LF}
theorem PDn.ef (e : EF c h I h' I') (tc : gT (cV h) c = (4, 0)) : ∀ (d p : Nat) (l : LF), PDn (cV h) I d p l → PDn (cV h') I' d p l
  | 0, _, _, q => q.elim
  | d + 1, p, l, q => by
    have ne : ∀ t, (gT (cV h) p).1 = t → t ≠ 0 → t ≠ 3 → t ≠ 4 → gT (cV h') p = gT (cV h) p ∧ gR (cV h') p = gR (cV h) p ∧ I' p = I p := fun t ht h0 h3 h4 => by
      have t0 : (gT (cV h) p).1 ≠ 0 := by rw [ht]; exact h0
      exact ⟨(e.1 p t0).1, (e.1 p t0).2, e.2.1 p t0 (fun x => h3 (by rw [← ht, x]; rfl)) (fun x => h4 (by rw [← ht, x, tc]))⟩
    rcases q with ⟨t, q⟩ | ⟨t, q1, q⟩ | ⟨t, a, fa, q1, q2, q⟩ | ⟨t, a, b, fa, fb, q1, q2, q3, q4, q⟩
    · obtain ⟨e1, e2, e3⟩ := ne 10 t (by decide) (by decide) (by decide)
      exact Or.inl ⟨by rw [e1]; exact t, by rw [e3]; exact q⟩
    · obtain ⟨e1, e2, e3⟩ := ne 11 t (by decide) (by decide) (by decide)
      exact Or.inr (Or.inl ⟨by rw [e1]; exact t, by rw [e3]; exact q1, by rw [e3]; exact q⟩)
    · obtain ⟨e1, e2, e3⟩ := ne 12 t (by decide) (by decide) (by decide)
      exact Or.inr (Or.inr (Or.inl ⟨by rw [e1]; exact t, a, fa, by rw [e2]; exact q1, PDn.ef e tc d a fa q2, q⟩))
    · obtain ⟨e1, e2, e3⟩ := ne 13 t (by decide) (by decide) (by decide)
      exact Or.inr (Or.inr (Or.inr ⟨by rw [e1]; exact t, a, b, fa, fb, by rw [e2]; exact q1, by rw [e2]; exact q2, PDn.ef e tc d a fa q3, PDn.ef e tc d b fb q4, by rw [e3]; exact q⟩))
/-- a cell that holds no parts yet is no part of a part -/
theorem PDn.chg {G G' : HP} {x : Nat} (e : ∀ y, y ≠ x → gT G' y = gT G y ∧ gR G' y = gR G y ∧ I' y = I y) (hx : (gT G x).1 = 12 ∨ (gT G x).1 = 13) (h0 : gR G x 0 = none) : ∀ (d p : Nat) (l : LF), PDn G I d p l → PDn G' I' d p l
  | 0, _, _, q => q.elim
  | d + 1, p, l, q => by
    have px : p ≠ x := fun y => by
      subst y
      rcases q with ⟨t, q⟩ | ⟨t, q1, q⟩ | ⟨t, a, fa, q1, q2, q⟩ | ⟨t, a, b, fa, fb, q1, q2, q3, q4, q⟩
      · omega
      · omega
      · rw [h0] at q1; cases q1
      · rw [h0] at q1; cases q1
    obtain ⟨e1, e2, e3⟩ := e p px
    rcases q with ⟨t, q⟩ | ⟨t, q1, q⟩ | ⟨t, a, fa, q1, q2, q⟩ | ⟨t, a, b, fa, fb, q1, q2, q3, q4, q⟩
    · exact Or.inl ⟨by rw [e1]; exact t, by rw [e3]; exact q⟩
    · exact Or.inr (Or.inl ⟨by rw [e1]; exact t, by rw [e3]; exact q1, by rw [e3]; exact q⟩)
    · exact Or.inr (Or.inr (Or.inl ⟨by rw [e1]; exact t, a, fa, by rw [e2]; exact q1, PDn.chg e hx h0 d a fa q2, q⟩))
    · exact Or.inr (Or.inr (Or.inr ⟨by rw [e1]; exact t, a, b, fa, fb, by rw [e2]; exact q1, by rw [e2]; exact q2, PDn.chg e hx h0 d a fa q3, PDn.chg e hx h0 d b fb q4, by rw [e3]; exact q⟩))
theorem ES.ty (q : ES h I J n tb c a W H s0 kr b cnt wn) : gT (cV h) c = (4, 0) := q.1.ty
theorem ES.sh (q : ES h I J n tb c a W H s0 kr b cnt wn) : Shp h := q.1.2.2.2.2.2.2
theorem ES.hi (q : ES h I J n tb c a W H s0 kr b cnt wn) (f : ∀ x, (gT (cV h) x).1 ≠ 0 → gT (cV h') x = gT (cV h) x ∧ gR (cV h') x = gR (cV h) x) (sh : Shp h') (i1 : I' 1 = I 1) (i2 : I' 2 = I 2) (ic : I' c = I c) : ES h' I' J n tb c a W H s0 kr b cnt wn := by
  obtain ⟨rd, ⟨i10, j49, c64, cz⟩, ⟨i5, j48, b8, bz⟩, stk, j50⟩ := q
  exact ⟨(rd.hp f sh).cg i1 (fun k _ => by rw [i2]) (Eq.refl _) (Eq.refl _) (fun _ _ _ => Eq.refl _), ⟨by rw [ic]; exact i10, j49, c64, cz⟩, ⟨by rw [i2]; exact i5, j48, b8, bz⟩, stk, j50⟩
/-- a new cell -/
theorem ES.al (q : ES h I J n tb c a W H s0 kr b cnt wn) (t m : Nat) : ∃ h', sA (hw h I L) (t, 0) m = hw h' (gI h') (gL h') ∧ ES h' (gI h') J n tb c a W H s0 kr b cnt wn ∧ EF c h I h' (gI h') ∧ gT (cV h') (gN h) = (t, 0) ∧ gR (cV h') (gN h) 0 = none ∧ gN h' = gN h + 1 ∧ gS h' = gS h + m ∧ 54 ≤ gN h ∧ (gT (cV h) (gN h)).1 = 0 ∧ gI h' 2 = I 2 := by
  have sh := q.sh
  have h54 := sh.1
  obtain ⟨H', hH, F, tH, fI, nN, nS, sH⟩ := nw_f I L t m sh
  have cn : c ≠ gN h := sh_ne sh (by rw [q.ty]; decide)
  have ff : ∀ x, (gT (cV h) x).1 ≠ 0 → gT (cV H') x = gT (cV h) x ∧ gR (cV H') x = gR (cV h) x := fun x tx => F x (sh_ne sh tx)
  refine ⟨H', by rw [hH, ← hw_eta], q.hi ff sH (fI 1 (by omega)) (fI 2 (by omega)) (fI c cn), ⟨ff, fun x tx _ _ => fI x (sh_ne sh tx), fun k _ => by rw [fI c cn], by rw [fI 2 (by omega)], by omega⟩, tH, ?_, nN, nS, h54, by rw [gTV h54]; exact sh.2 _ (Nat.le_refl _), fI 2 (by omega)⟩
  rw [gRV h54, ← hH, gR_sA, gN_hw, if_pos rfl]
theorem hw_sR (h : HP) (I : Nat → Nat → Int32) (L : Nat → Nat → Int64) (x k : Nat) (v : Option Nat) : sR (hw h I L) x k v = hw (sR h x k v) I L := (rfl)
theorem sR_fr {x k : Nat} {v : Option Nat} (h54 : 54 ≤ x) : (∀ y, gT (cV (sR h x k v)) y = gT (cV h) y) ∧ (∀ y, y ≠ x → gR (cV (sR h x k v)) y = gR (cV h) y) ∧ (∀ j, gR (cV (sR h x k v)) x j = if j = k then v else gR (cV h) x j) ∧ gN (sR h x k v) = gN h ∧ gS (sR h x k v) = gS h ∧ (Shp h → Shp (sR h x k v)) := by
  refine ⟨fun y => rfl, fun y hy => ?_, fun j => ?_, rfl, rfl, fun s => s⟩
  · rw [cV_sR (cRs_big h54)]
    show u2 (gR (cV h)) x k v y = _
    rw [u2_ne hy]
  · rw [cV_sR (cRs_big h54)]
    show u2 (gR (cV h)) x k v x j = _
    rw [u2_eq]
theorem ec_two {x p r : Nat} {s : Int32} (t : (gT (cV h) x).1 = 13) (h54 : 54 ≤ x) : kX19_init x s p r (hw h I L) = some ((), hw (sR (sR h x 0 (some p)) x 2 (some r)) (u2 I x 1 s) L) := by
  have t2 : (gT (cV (sR h x 0 (some p))) x).1 = 13 := by rw [(sR_fr h54).1]; exact t
  simp only [kX19_init, kX18_init, kX15_init, bnd_e, cal_s, onr_s, jon_e, gI_hw, gL_hw, gT_hw, gR_hw, gN_hw, sI_hw, sL_hw, cV_hw, shS_hw, shC_hw, shL_hw, ← bt_def, grd_pos (show (gT (cV h) x).1 = 12 ∨ (gT (cV h) x).1 = 13 from Or.inr t), grd_pos h54, hw_sR, grd_pos t2]
theorem ec_nt {x p : Nat} (t : (gT (cV h) x).1 = 12) (h54 : 54 ≤ x) : kX18_init x p (hw h I L) = some ((), hw (sR h x 0 (some p)) I L) := by
  simp only [kX18_init, kX15_init, bnd_e, cal_s, onr_s, jon_e, gI_hw, gL_hw, gT_hw, gR_hw, gN_hw, sI_hw, sL_hw, cV_hw, shS_hw, shC_hw, shL_hw, ← bt_def, grd_pos (show (gT (cV h) x).1 = 12 ∨ (gT (cV h) x).1 = 13 from Or.inl t), grd_pos h54, hw_sR]
end P34
