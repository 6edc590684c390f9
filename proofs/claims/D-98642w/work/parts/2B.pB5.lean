set_option maxRecDepth 100000
/-! PURE LEVEL B5: text -/
section P58
variable {h h' g : HP} {I I' J J' : Nat → Nat → Int32} {L M : Nat → Nat → Int64} {c : Nat} {K : KT} {A : Nat → Nat → Nat}
theorem MW.ml0 (q : MW J K) (v : ∀ x k, 3 < x → x < 25 → k < hf x → J' x k = J x k) (z : ∀ k, 11 < k ∧ k < 17 → J' 0 k = J 0 k) : MW J' K := by
  obtain ⟨⟨⟨q1, q2, q3, q4, q5⟩, ⟨q6, q6'⟩, q7, q8, q9, q10, q11⟩, wk⟩ := q
  obtain ⟨⟨wF, wP, wQ, wT, wN⟩, -⟩ := id wk
  refine ⟨⟨⟨by rw [z 12 (by omega)]; exact q1, by rw [z 13 (by omega)]; exact q2, by rw [z 14 (by omega)]; exact q3, by rw [z 15 (by omega)]; exact q4, by rw [z 16 (by omega)]; exact q5⟩, ⟨by rw [v 4 0 (by decide) (by decide) (by decide)]; exact q6, by rw [v 4 1 (by decide) (by decide) (by decide)]; exact q6'⟩, fun k hk => ?_, fun k hk => ?_, fun k hk => ?_, fun k hk => ?_, fun j hj => ?_⟩, wk⟩
  · rw [v 5 k (by decide) (by decide) (by show k < 8; omega)]; exact q7 k hk
  · rw [v 6 k (by decide) (by decide) (by show k < 5; omega), v 7 k (by decide) (by decide) (by show k < 5; omega), v 8 k (by decide) (by decide) (by show k < 5; omega), v 9 k (by decide) (by decide) (by show k < 5; omega), v 10 k (by decide) (by decide) (by show k < 5; omega)]; exact q8 k hk
  · rw [v 11 k (by decide) (by decide) (by show k < 8; omega), v 12 k (by decide) (by decide) (by show k < 8; omega), v 13 k (by decide) (by decide) (by show k < 8; omega), v 14 k (by decide) (by decide) (by show k < 8; omega), v 15 k (by decide) (by decide) (by show k < 8; omega)]; exact q9 k hk
  · rw [v 16 k (by decide) (by decide) (by show k < 10; omega), v 17 k (by decide) (by decide) (by show k < 10; omega), v 18 k (by decide) (by decide) (by show k < 10; omega)]; exact q10 k hk
  · have := q11 j hj
    unfold ML at this ⊢
    rw [v 19 j (by decide) (by decide) hj, v 20 j (by decide) (by decide) hj, v 21 j (by decide) (by decide) hj]
    match zl K j, this with
    | none, w => exact w
    | some f', ⟨w1, d, s, e, w2, w3, w4, w5⟩ =>
      refine ⟨w1, d, s, e, w2, w3, w4, SDn.cg (m := 64) (fun i hi => ⟨?_, ?_, ?_⟩) d s e f' w2 w5⟩
      · exact v 22 i (by decide) (by decide) (by show i < 64; omega)
      · exact v 23 i (by decide) (by decide) (by show i < 64; omega)
      · exact v 24 i (by decide) (by decide) (by show i < 64; omega)
/-- references of cells other than 0, 2, 35, 42 stay -/
theorem CC.r0 (q : CC (cV h) I c K A) (c54 : 54 ≤ c) (ft : ∀ x, gT (cV h') x = gT (cV h) x) (fr : ∀ x, x ≠ 0 → x ≠ 42 → gR (cV h') x = gR (cV h) x) : CC (cV h') I c K A := by
  have sp := q
  obtain ⟨⟨a1, a2, a3, a4, a5, a6⟩, ⟨⟨b1, b2, b3⟩, ⟨c1, c2', c3⟩, ⟨d1, d2, d3⟩⟩, w678, s135, j789, rF, rP, rQ, rT, rL⟩ := q
  have qf : QF h I h' I := ⟨fun x _ => ft x, fun x tx => ⟨fr x (fun e => by rw [e] at tx; revert tx; show ¬ (2 = 7 ∨ (9 ≤ 2 ∧ 2 ≤ 13)); decide) (fun e => by rw [e] at tx; revert tx; show ¬ (104 = 7 ∨ (9 ≤ 104 ∧ 104 ≤ 13)); decide), rfl⟩⟩
  obtain ⟨z1, z2, z3⟩ := sp.shp qf (fr c (by omega) (by omega)) (fr _ (by omega) (by omega)) (fr _ (by omega) (by omega)) (fr _ (by omega) (by omega))
  refine ⟨z1, z2, z3, s135, j789, fun k hk => ?_, fun k hk => ?_, fun k hk => ?_, rT, fun j hj => (rL j hj).qf qf (by rw [fr _ (by omega) (by omega)])⟩
  · rw [fr _ (by omega) (by omega), ft]; exact rF k hk
  · rw [fr _ (by omega) (by omega), ft]; exact rP k hk
  · rw [fr _ (by omega) (by omega), ft]; exact rQ k hk
theorem ec_cl27 (L : Nat → Nat → Int64) (I : Nat → Nat → Int32) {sn : Nat} (hs : sn ≤ 24) : ∀ (j i : Nat) (h : HP) (fuel : Nat), i + j = sn → j < fuel → ∃ h', (∀ k, cL_clear_27 42 (nn sn) k fuel (nn i) (hw h I L) = k (hw h' I L)) ∧ (∀ x, gT (cV h') x = gT (cV h) x) ∧ (∀ x, x ≠ 42 → gR (cV h') x = gR (cV h) x) ∧ gN h' = gN h ∧ gS h' = gS h ∧ (Shp h → Shp h') := by
  intro j
  induction j with
  | zero =>
    intro i h fuel hj hf
    obtain ⟨f, rfl⟩ : ∃ f, fuel = f + 1 := ⟨fuel - 1, by omega⟩
    exact ⟨h, fun k => by rw [cL_clear_27, if_pos ((nn_le (by omega) (by omega)).mpr (by omega))], fun _ => rfl, fun _ _ => rfl, rfl, rfl, fun s => s⟩
  | succ j ih =>
    intro i h fuel hj hf
    obtain ⟨f, rfl⟩ : ∃ f, fuel = f + 1 := ⟨fuel - 1, by omega⟩
    obtain ⟨h', e, f1, f2, f3, f4, f5⟩ := ih (i + 1) (sR h 42 i none) f (by omega) (by omega)
    obtain ⟨g1, g2, -⟩ := s42_f h i none
    refine ⟨h', fun k => ?_, fun x => by rw [f1, g1], fun x hx => by rw [f2 x hx]; exact g2 x hx, f3, f4, fun s => f5 s⟩
    rw [cL_clear_27, if_neg (fun y => by have := (nn_le (by omega) (by omega)).mp y; omega), grd_pos (show (gT (cV (hw h I L)) 42).1 = 104 from rfl), grd_pos (show cRs 42 (nn i).toNatClampNeg = none by rw [nn_clamp (by omega)]; rfl), grd_pos (show inb (nn i) (gT (cV (hw h I L)) 42).2 from nn_inb (by omega) (by show i < 24; omega)), bnd_e, hw_sR, show sR h 42 (nn i).toNatClampNeg none = sR h 42 i none by rw [nn_clamp (by omega)], bnd_e, nn_succ, e]
theorem ec_clear {sn : Nat} (hs : sn ≤ 24) (e : I 41 2 = nn sn) : ∃ h', cL_clear 41 (hw h I L) = some ((), hw h' (u2 (u2 I 41 0 (I 41 0 + 1)) 41 2 0) L) ∧ (∀ x, gT (cV h') x = gT (cV h) x) ∧ (∀ x, x ≠ 42 → gR (cV h') x = gR (cV h) x) ∧ gN h' = gN h ∧ gS h' = gS h ∧ (Shp h → Shp h') := by
  obtain ⟨h', e1, r⟩ := ec_cl27 L (u2 (u2 I 41 0 (I 41 0 + 1)) 41 2 0) hs sn 0 h FU (by omega) (by show sn < 1000; omega)
  rw [nn0] at e1
  refine ⟨h', ?_, r⟩
  rw [cL_clear, grd_pos (show shL (cV (hw h I L)) 41 from sh41 h), bnd_e, sI_hw, grd_pos (show shL (cV (hw h (u2 I 41 0 (gI (hw h I L) 41 0 + 1)) L)) 41 from sh41 h), bnd_e, bnd_e, sI_hw, bnd_e, gI_hw, gI_hw, u2_nk _ _ (by decide), e, e1]
theorem shS_c {b : Nat} (b54 : 54 ≤ b) (ft : ∀ x, (gT (cV h) x).1 ≠ 0 → gT (cV h') x = gT (cV h) x) (fr : ∀ x, (gT (cV h) x).1 ≠ 0 → 54 ≤ x → gR (cV h') x = gR (cV h) x) (q : shS (cV h) b) : shS (cV h') b := by
  obtain ⟨a1, a2, a3, a4, a5, a6⟩ := q
  exact ⟨by rw [ft b (by rw [a1]; decide)]; exact a1, by rw [fr b (by rw [a1]; decide) b54]; exact a2, by rw [ft _ (by rw [a3]; decide)]; exact a3, by rw [ft _ (by rw [a4]; decide)]; exact a4, by rw [ft _ (by rw [a5]; decide)]; exact a5, by rw [ft _ (by rw [a6]; decide)]; exact a6⟩
end P58
