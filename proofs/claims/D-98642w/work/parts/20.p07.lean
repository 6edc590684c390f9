/-! PURE LEVEL 7: sums, rounds, become, begin, talk on the component's side -/
section C7
variable {h : HP} {c o P : Nat} {K : KT} {A : Nat → Nat → Nat} {F : FT} {S : ST}
theorem zslip_f {S1 : ST} {b q : Nat} (n m : Int32) : (zslip K F S1 b q false n).1 = (zslip K F S1 b q false m).1 := by
  unfold zslip
  split
  · rfl
  · split
    · rfl
    · have e : ¬ (false = true) := by decide
      rw [if_neg e, if_neg e]
      by_cases z : zodds K F S1 b q < 50
      · rw [if_pos z, if_pos z]
      · rw [if_neg z, if_neg z]
theorem zask_f {a b q : Nat} (n : Int32) : (zask K F S a b q false n).2.1 = (zask K F S a b q false 0).2.1 ∧ (zask K F S a b q false n).1 = (zask K F S a b q false 0).1 := by
  unfold zask
  rw [zslip_f n 0]
  split <;> exact ⟨rfl, rfl⟩
theorem ec_sum4 {I : Nat → Nat → Int32} {L : Nat → Nat → Int64} (W : CW h I c K A) (s : shS (cV h) o) (hS : StC I o (zP K) F S) : ∀ (j i fuel : Nat), i + j = zP K → j < fuel → ∀ k, cS_sum_4 o k fuel (zsumN F S i) (nn i) (hw h I L) = k (zsumN F S (zP K)) (hw h I L) := by
  have hP := W.p5
  intro j
  induction j with
  | zero =>
    intro i fuel hi hf k
    obtain ⟨n, rfl⟩ : ∃ n, fuel = n + 1 := ⟨fuel - 1, by omega⟩
    simp only [cS_sum_4, bnd_e, cal_s, onr_s, jon_e, gI_hw, gL_hw, gT_hw, gR_hw, gN_hw, sI_hw, sL_hw, cV_hw, shS_hw, shC_hw, shL_hw, ← bt_def, grd_pos s, ec_persons W, if_pos (nn_ple (show zP K ≤ i by omega) (by omega))]
    rw [show i = zP K by omega]
  | succ j ih =>
    intro i fuel hi hf k
    obtain ⟨n, rfl⟩ : ∃ n, fuel = n + 1 := ⟨fuel - 1, by omega⟩
    have hip : i < zP K := by omega
    have hi2 : i < 2147483648 := by omega
    have i5 : inb (nn i) 5 := nn_inb hi2 (by omega)
    have e := ih (i + 1) n (by omega) (by omega) k
    have k1 := (hS.1 i hip).1
    by_cases x : bt F.2.2 (nn i) = 1
    · have e' : zsumN F S (i + 1) = zsumN F S i + 0 := by show zsumN F S i + (if bt F.2.2 (nn i) = 1 then 0 else zbc (sk S i)) = _; rw [if_pos x]
      rw [e'] at e
      simp only [cS_sum_4, bnd_e, cal_s, onr_s, jon_e, gI_hw, gL_hw, gT_hw, gR_hw, gN_hw, sI_hw, sL_hw, cV_hw, shS_hw, shC_hw, shL_hw, ← bt_def, grd_pos s, ec_persons W, if_neg (nn_nle hip (show zP K < 2147483648 by omega)), hS.2.2.2.2, nn_succ]
      rw [if_pos x]; exact e
    · have e' : zsumN F S (i + 1) = zsumN F S i + zbc (sk S i) := by show zsumN F S i + (if bt F.2.2 (nn i) = 1 then 0 else zbc (sk S i)) = _; rw [if_neg x]
      rw [e'] at e
      simp only [cS_sum_4, bnd_e, cal_s, onr_s, jon_e, gI_hw, gL_hw, gT_hw, gR_hw, gN_hw, sI_hw, sL_hw, cV_hw, shS_hw, shC_hw, shL_hw, ← bt_def, grd_pos s, ec_persons W, if_neg (nn_nle hip (show zP K < 2147483648 by omega)), hS.2.2.2.2, nn_succ, grd_pos i5, nn_clamp hi2, ec_bc, k1]
      rw [if_neg x]; exact e
theorem ec_sum {I : Nat → Nat → Int32} {L : Nat → Nat → Int64} (W : CW h I c K A) (s : shS (cV h) o) (hS : StC I o (zP K) F S) : cS_sum o (hw h I L) = some (zsum K F S, hw h I L) := by
  have hP := W.p5
  exact ec_sum4 W s hS (zP K) 0 FU (by omega) (by show zP K < 1000; omega) _
theorem ec_rq (s : shS (cV h) o) {a b : Nat} (ha : a < zP K) (hb : b < zP K) (f2 : Int32) : ∀ (j i : Nat) (I : Nat → Nat → Int32) (L : Nat → Nat → Int64) (fuel : Nat), CW h I c K A → i + j = zQ K → StC I o (zP K) F (zrq K F a b i S) → j < fuel → ∃ I' L', (∀ k, cS_askAll_42 o f2 (nn a) (nn b) k fuel (nn i) (hw h I L) = k (hw h I' L')) ∧ StC I' o (zP K) F (zrq K F a b (zQ K) S) ∧ FrO o I I' := by
  intro j
  induction j with
  | zero =>
    intro i I L fuel W hi hS hf
    obtain ⟨n, rfl⟩ : ∃ n, fuel = n + 1 := ⟨fuel - 1, by omega⟩
    have hQ := W.q8
    refine ⟨I, L, fun k => ?_, ?_, FrO.rfl o I⟩
    · simp only [cS_askAll_42, bnd_e, cal_s, onr_s, jon_e, gI_hw, gL_hw, gT_hw, gR_hw, gN_hw, sI_hw, sL_hw, cV_hw, shS_hw, shC_hw, shL_hw, ← bt_def, grd_pos s, ec_questions W, if_pos (nn_ple (show zQ K ≤ i by omega) (by omega))]
    · rw [show i = zQ K by omega] at hS; exact hS
  | succ j ih =>
    intro i I L fuel W hi hS hf
    obtain ⟨n, rfl⟩ : ∃ n, fuel = n + 1 := ⟨fuel - 1, by omega⟩
    have hQ := W.q8
    have hip : i < zQ K := by omega
    have nle := nn_nle hip (show zQ K < 2147483648 by omega)
    have ec : ∀ L, cS_can o (nn a) (nn b) (nn i) 0 (hw h I L) = _ := fun L => ec_can (L := L) W s hS ha hb hip false
    cases x : zcan K F (zrq K F a b i S) a b i false with
    | false =>
      rw [x, bI_f] at ec
      have e1 : zrq K F a b (i + 1) S = zrq K F a b i S := by
        show zstep K F a b i (zrq K F a b i S) = _
        unfold zstep
        rw [x]; rfl
      obtain ⟨I2, L2, e2, s2, f2⟩ := ih (i + 1) I L n W (by omega) (by rw [e1]; exact hS) (by omega)
      refine ⟨I2, L2, fun k => ?_, s2, f2⟩
      simp only [cS_askAll_42, bnd_e, cal_s, onr_s, jon_e, gI_hw, gL_hw, gT_hw, gR_hw, gN_hw, sI_hw, sL_hw, cV_hw, shS_hw, shC_hw, shL_hw, ← bt_def, grd_pos s, ec_questions W, if_neg nle, ec, if_true, nn_succ, e2]
    | true =>
      rw [x, bI_t] at ec
      obtain ⟨I1, L1, e1, s1, f1, -, -⟩ := ec_ask (L := L) W s hS ha hb hip false
      have e1 : cS_ask o (nn a) (nn b) (nn i) 0 (hw h I L) = _ := e1
      have e3 : zrq K F a b (i + 1) S = (zask K F (zrq K F a b i S) a b i false 0).2.1 := by
        show zstep K F a b i (zrq K F a b i S) = _
        unfold zstep
        rw [x]; rfl
      rw [(zask_f _).1] at s1
      obtain ⟨I2, L2, e2, s2, f2⟩ := ih (i + 1) I1 L1 n (W.frO s f1) (by omega) (by rw [e3]; exact s1) (by omega)
      refine ⟨I2, L2, fun k => ?_, s2, f1.tr f2⟩
      simp only [cS_askAll_42, bnd_e, cal_s, onr_s, jon_e, gI_hw, gL_hw, gT_hw, gR_hw, gN_hw, sI_hw, sL_hw, cV_hw, shS_hw, shC_hw, shL_hw, ← bt_def, grd_pos s, ec_questions W, if_neg nle, ec, if_neg i10, e1, nn_succ, e2]
theorem ec_rb (s : shS (cV h) o) {a : Nat} (ha : a < zP K) (f2 : Int32) : ∀ (j i : Nat) (I : Nat → Nat → Int32) (L : Nat → Nat → Int64) (fuel : Nat), CW h I c K A → i + j = zP K → StC I o (zP K) F (zrb K F a i S) → j < fuel → ∃ I' L', (∀ k, cS_askAll_27 o f2 (nn a) k fuel (nn i) (hw h I L) = k (hw h I' L')) ∧ StC I' o (zP K) F (zrb K F a (zP K) S) ∧ FrO o I I' := by
  intro j
  induction j with
  | zero =>
    intro i I L fuel W hi hS hf
    obtain ⟨n, rfl⟩ : ∃ n, fuel = n + 1 := ⟨fuel - 1, by omega⟩
    have hP := W.p5
    refine ⟨I, L, fun k => ?_, ?_, FrO.rfl o I⟩
    · simp only [cS_askAll_27, bnd_e, cal_s, onr_s, jon_e, gI_hw, gL_hw, gT_hw, gR_hw, gN_hw, sI_hw, sL_hw, cV_hw, shS_hw, shC_hw, shL_hw, ← bt_def, grd_pos s, ec_persons W, if_pos (nn_ple (show zP K ≤ i by omega) (by omega))]
    · rw [show i = zP K by omega] at hS; exact hS
  | succ j ih =>
    intro i I L fuel W hi hS hf
    obtain ⟨n, rfl⟩ : ∃ n, fuel = n + 1 := ⟨fuel - 1, by omega⟩
    have hP := W.p5
    have hQ := W.q8
    have hip : i < zP K := by omega
    have nle := nn_nle hip (show zP K < 2147483648 by omega)
    obtain ⟨I1, L1, e1, s1, f1⟩ := ec_rq (S := zrb K F a i S) s ha hip f2 (zQ K) 0 I L FU W (by omega) hS (by show zQ K < 1000; omega)
    obtain ⟨I2, L2, e2, s2, f2⟩ := ih (i + 1) I1 L1 n (W.frO s f1) (by omega) s1 (by omega)
    refine ⟨I2, L2, fun k => ?_, s2, f1.tr f2⟩
    rw [nn0] at e1
    simp only [cS_askAll_27, bnd_e, cal_s, onr_s, jon_e, gI_hw, gL_hw, gT_hw, gR_hw, gN_hw, sI_hw, sL_hw, cV_hw, shS_hw, shC_hw, shL_hw, ← bt_def, grd_pos s, ec_persons W, if_neg nle, e1, nn_succ, e2]
theorem ec_ra (s : shS (cV h) o) (f2 : Int32) : ∀ (j i : Nat) (I : Nat → Nat → Int32) (L : Nat → Nat → Int64) (fuel : Nat), CW h I c K A → i + j = zP K → StC I o (zP K) F (zra K F i S) → j < fuel → ∃ I' L', (∀ k, cS_askAll_13 o f2 k fuel (nn i) (hw h I L) = k (hw h I' L')) ∧ StC I' o (zP K) F (zra K F (zP K) S) ∧ FrO o I I' := by
  intro j
  induction j with
  | zero =>
    intro i I L fuel W hi hS hf
    obtain ⟨n, rfl⟩ : ∃ n, fuel = n + 1 := ⟨fuel - 1, by omega⟩
    have hP := W.p5
    refine ⟨I, L, fun k => ?_, ?_, FrO.rfl o I⟩
    · simp only [cS_askAll_13, bnd_e, cal_s, onr_s, jon_e, gI_hw, gL_hw, gT_hw, gR_hw, gN_hw, sI_hw, sL_hw, cV_hw, shS_hw, shC_hw, shL_hw, ← bt_def, grd_pos s, ec_persons W, if_pos (nn_ple (show zP K ≤ i by omega) (by omega))]
    · rw [show i = zP K by omega] at hS; exact hS
  | succ j ih =>
    intro i I L fuel W hi hS hf
    obtain ⟨n, rfl⟩ : ∃ n, fuel = n + 1 := ⟨fuel - 1, by omega⟩
    have hP := W.p5
    have hip : i < zP K := by omega
    have nle := nn_nle hip (show zP K < 2147483648 by omega)
    obtain ⟨I1, L1, e1, s1, f1⟩ := ec_rb (S := zra K F i S) s hip f2 (zP K) 0 I L FU W (by omega) hS (by show zP K < 1000; omega)
    obtain ⟨I2, L2, e2, s2, f2⟩ := ih (i + 1) I1 L1 n (W.frO s f1) (by omega) s1 (by omega)
    refine ⟨I2, L2, fun k => ?_, s2, f1.tr f2⟩
    rw [nn0] at e1
    simp only [cS_askAll_13, bnd_e, cal_s, onr_s, jon_e, gI_hw, gL_hw, gT_hw, gR_hw, gN_hw, sI_hw, sL_hw, cV_hw, shS_hw, shC_hw, shL_hw, ← bt_def, grd_pos s, ec_persons W, if_neg nle, e1, nn_succ, e2]
theorem ec_all2 (s : shS (cV h) o) : ∀ (n : Nat) (I : Nat → Nat → Int32) (L : Nat → Nat → Int64) (S S' : ST) (fuel : Nat), CW h I c K A → StC I o (zP K) F S → zall K F n S = some S' → n < fuel → ∃ I' L', (∀ k, cS_askAll_2 o k fuel 1 (hw h I L) = k (hw h I' L')) ∧ StC I' o (zP K) F S' ∧ FrO o I I' := by
  intro n
  induction n with
  | zero => intro I L S S' fuel W hS e hf; cases e
  | succ n ih =>
    intro I L S S' fuel W hS e hf
    obtain ⟨m, rfl⟩ : ∃ m, fuel = m + 2 := ⟨fuel - 2, by omega⟩
    have hP := W.p5
    obtain ⟨I1, L1, e1, s1, f1⟩ := ec_ra (S := S) s (zsum K F S) (zP K) 0 I L FU W (by omega) hS (by show zP K < 1000; omega)
    rw [nn0] at e1
    have W1 := W.frO s f1
    have hS1 : StC I1 o (zP K) F (zround K F S) := s1
    unfold zall at e
    by_cases x : zsum K F (zround K F S) ≤ zsum K F S
    · rw [if_pos x] at e
      cases e
      refine ⟨I1, L1, fun k => ?_, s1, f1⟩
      rw [cS_askAll_2]
      simp only [bnd_e, cal_s, onr_s, jon_e, gI_hw, gL_hw, gT_hw, gR_hw, gN_hw, sI_hw, sL_hw, cV_hw, shS_hw, shC_hw, shL_hw, ← bt_def, if_neg i10, grd_pos s, ec_sum W s hS, e1, ec_sum W1 s hS1, if_pos x, cS_askAll_2, if_true]
    · rw [if_neg x] at e
      obtain ⟨I2, L2, e2, s2, f2⟩ := ih I1 L1 _ S' (m + 1) W1 hS1 e (by omega)
      refine ⟨I2, L2, fun k => ?_, s2, f1.tr f2⟩
      rw [cS_askAll_2]
      simp only [bnd_e, cal_s, onr_s, jon_e, gI_hw, gL_hw, gT_hw, gR_hw, gN_hw, sI_hw, sL_hw, cV_hw, shS_hw, shC_hw, shL_hw, ← bt_def, if_neg i10, grd_pos s, ec_sum W s hS, e1, ec_sum W1 s hS1, if_neg x, e2]
theorem ec_askAll {I : Nat → Nat → Int32} {L : Nat → Nat → Int64} (W : CW h I c K A) (s : shS (cV h) o) (hS : StC I o (zP K) F S) {S' : ST} {n : Nat} (e : zall K F n S = some S') (hn : n < 1000) : ∃ I' L', cS_askAll o (hw h I L) = some ((), hw h I' L') ∧ StC I' o (zP K) F S' ∧ FrO o I I' := by
  obtain ⟨I1, L1, e1, s1, f1⟩ := ec_all2 s n I L S S' FU W hS e hn
  exact ⟨I1, L1, e1 _, s1, f1⟩
theorem shS_dj {g : HP} {o o' : Nat} (s : shS g o) (s' : shS g o') (hne : o ≠ o') : o' + 4 < o ∨ o + 4 < o' := by
  obtain ⟨t0, -, t1, t2, t3, t4⟩ := s
  obtain ⟨u0, -, u1, u2, u3, u4⟩ := s'
  have z : ∀ x, gT g x = (6, 0) → gT g x = (100, 5) → False := fun x a b => absurd (a.symm.trans b) (by decide)
  by_cases q : o' + 4 < o ∨ o + 4 < o'
  · exact q
  · exfalso
    have : o' = o + 1 ∨ o' = o + 2 ∨ o' = o + 3 ∨ o' = o + 4 ∨ o = o' + 1 ∨ o = o' + 2 ∨ o = o' + 3 ∨ o = o' + 4 := by omega
    rcases this with rfl | rfl | rfl | rfl | rfl | rfl | rfl | rfl
    · exact z _ u0 t1
    · exact z _ u0 t2
    · exact z _ u0 t3
    · exact z _ u0 t4
    · exact z _ t0 u1
    · exact z _ t0 u2
    · exact z _ t0 u3
    · exact z _ t0 u4
theorem ec_become2 {a : Nat} (s : shS (cV h) o) (s' : shS (cV h) a) (dj : a + 4 < o ∨ o + 4 < a) : ∀ (j i : Nat) (I : Nat → Nat → Int32) (L : Nat → Nat → Int64) (fuel : Nat), i + j = 5 → j < fuel → ∃ I', (∀ k, cS_become_2 o a k fuel (nn i) (hw h I L) = k (hw h I' L)) ∧ (∀ p, i ≤ p → p < 5 → I' (o + 1) p = I (a + 1) p ∧ I' (o + 2) p = I (a + 2) p ∧ I' (o + 3) p = I (a + 3) p ∧ I' (o + 4) p = I (a + 4) p) ∧ (∀ p, p < i → I' (o + 1) p = I (o + 1) p ∧ I' (o + 2) p = I (o + 2) p ∧ I' (o + 3) p = I (o + 3) p ∧ I' (o + 4) p = I (o + 4) p) ∧ ∀ x, x ≤ o ∨ o + 4 < x → I' x = I x := by
  intro j
  induction j with
  | zero =>
    intro i I L fuel hi hf
    obtain ⟨n, rfl⟩ : ∃ n, fuel = n + 1 := ⟨fuel - 1, by omega⟩
    refine ⟨I, fun k => ?_, fun p h1 h2 => by omega, fun _ _ => ⟨rfl, rfl, rfl, rfl⟩, fun _ _ => rfl⟩
    have : (5 : Int32) ≤ nn i := nn_ple (n := 5) (by omega) (by omega)
    simp only [cS_become_2, bnd_e, cal_s, onr_s, jon_e, gI_hw, gL_hw, gT_hw, gR_hw, gN_hw, sI_hw, sL_hw, cV_hw, shS_hw, shC_hw, shL_hw, ← bt_def, if_pos this]
  | succ j ih =>
    intro i I L fuel hi hf
    obtain ⟨n, rfl⟩ : ∃ n, fuel = n + 1 := ⟨fuel - 1, by omega⟩
    have hi2 : i < 2147483648 := by omega
    have i5 : inb (nn i) 5 := nn_inb hi2 (by omega)
    have nle : ¬ (5 : Int32) ≤ nn i := nn_nle (n := 5) (by omega) (by omega)
    obtain ⟨I2, e2, a2, b2, f2⟩ := ih (i + 1) (u2 (u2 (u2 (u2 I (o + 1) i (I (a + 1) i)) (o + 2) i (I (a + 2) i)) (o + 3) i (I (a + 3) i)) (o + 4) i (I (a + 4) i)) L n (by omega) (by omega)
    refine ⟨I2, fun k => ?_, fun p h1 h2 => ?_, fun p h1 => ?_, fun x hx => ?_⟩
    · simp only [cS_become_2, bnd_e, cal_s, onr_s, jon_e, gI_hw, gL_hw, gT_hw, gR_hw, gN_hw, sI_hw, sL_hw, cV_hw, shS_hw, shC_hw, shL_hw, ← bt_def, if_neg nle, grd_pos s, grd_pos s', grd_pos i5, nn_clamp hi2, nn_succ, u2_ne (show a + 2 ≠ o + 1 by omega), u2_ne (show a + 3 ≠ o + 1 by omega), u2_ne (show a + 3 ≠ o + 2 by omega), u2_ne (show a + 4 ≠ o + 1 by omega), u2_ne (show a + 4 ≠ o + 2 by omega), u2_ne (show a + 4 ≠ o + 3 by omega), e2]
    · by_cases y : p = i
      · obtain ⟨z1, z2, z3, z4⟩ := b2 p (by omega)
        rw [z1, z2, z3, z4, y]
        simp [u2_app]
      · obtain ⟨z1, z2, z3, z4⟩ := a2 p (by omega) h2
        rw [z1, z2, z3, z4]
        simp [u2_app, y]
    · obtain ⟨z1, z2, z3, z4⟩ := b2 p (by omega)
      rw [z1, z2, z3, z4]
      have : p ≠ i := by omega
      simp [u2_app, this]
    · rw [f2 x hx, u2_ne (by omega), u2_ne (by omega), u2_ne (by omega), u2_ne (by omega)]
theorem ec_become {I : Nat → Nat → Int32} {L : Nat → Nat → Int64} {a : Nat} (s : shS (cV h) o) (s' : shS (cV h) a) (hne : o ≠ a) : ∃ I', cS_become o a (hw h I L) = some ((), hw h I' L) ∧ (∀ p, p < 5 → I' (o + 1) p = I (a + 1) p ∧ I' (o + 2) p = I (a + 2) p ∧ I' (o + 3) p = I (a + 3) p ∧ I' (o + 4) p = I (a + 4) p) ∧ (I' o 4 = I a 4 ∧ I' o 5 = I a 5 ∧ I' o 6 = I a 6 ∧ I' o 7 = I a 7 ∧ I' o 8 = I a 8 ∧ I' o 9 = I a 9) ∧ FrO o I I' := by
  have dj := shS_dj s s' hne
  obtain ⟨I1, e1, a1, -, f1⟩ := ec_become2 s s' dj 5 0 I L FU (by omega) (by show 5 < 1000; omega)
  rw [nn0] at e1
  have fa : I1 a = I a := f1 a (by omega)
  refine ⟨u2 (u2 (u2 (u2 (u2 (u2 I1 o 4 (I1 a 4)) o 5 (I1 a 5)) o 6 (I1 a 6)) o 7 (I1 a 7)) o 8 (I1 a 8)) o 9 (I1 a 9), ?_, fun p hp => ?_, ?_, fun x hx => ?_⟩
  · simp only [cS_become, bnd_e, cal_s, onr_s, jon_e, gI_hw, gL_hw, gT_hw, gR_hw, gN_hw, sI_hw, sL_hw, cV_hw, shS_hw, shC_hw, shL_hw, ← bt_def, e1, grd_pos s, grd_pos s', u2_ne (show a ≠ o by omega)]
  · rw [u2_ne (show o + 1 ≠ o by omega), u2_ne (show o + 1 ≠ o by omega), u2_ne (show o + 1 ≠ o by omega), u2_ne (show o + 1 ≠ o by omega), u2_ne (show o + 1 ≠ o by omega), u2_ne (show o + 1 ≠ o by omega), u2_ne (show o + 2 ≠ o by omega), u2_ne (show o + 2 ≠ o by omega), u2_ne (show o + 2 ≠ o by omega), u2_ne (show o + 2 ≠ o by omega), u2_ne (show o + 2 ≠ o by omega), u2_ne (show o + 2 ≠ o by omega), u2_ne (show o + 3 ≠ o by omega), u2_ne (show o + 3 ≠ o by omega), u2_ne (show o + 3 ≠ o by omega), u2_ne (show o + 3 ≠ o by omega), u2_ne (show o + 3 ≠ o by omega), u2_ne (show o + 3 ≠ o by omega), u2_ne (show o + 4 ≠ o by omega), u2_ne (show o + 4 ≠ o by omega), u2_ne (show o + 4 ≠ o by omega), u2_ne (show o + 4 ≠ o by omega), u2_ne (show o + 4 ≠ o by omega), u2_ne (show o + 4 ≠ o by omega)]
    exact a1 p (by omega) hp
  · rw [fa]; simp [u2_app]
  · have hx' : x ≠ o := by omega
    rw [u2_ne hx', u2_ne hx', u2_ne hx', u2_ne hx', u2_ne hx', u2_ne hx']
    exact f1 x (by omega)
theorem StC.of {I I' : Nat → Nat → Int32} {a : Nat} (hP : P ≤ 5) (hS : StC I a P F S) (e1 : ∀ p, p < 5 → I' (o + 1) p = I (a + 1) p ∧ I' (o + 2) p = I (a + 2) p ∧ I' (o + 3) p = I (a + 3) p ∧ I' (o + 4) p = I (a + 4) p) (e2 : I' o 4 = I a 4 ∧ I' o 5 = I a 5 ∧ I' o 6 = I a 6 ∧ I' o 7 = I a 7 ∧ I' o 8 = I a 8 ∧ I' o 9 = I a 9) : StC I' o P F S := by
  obtain ⟨s1, s2, s3, s4, s5⟩ := hS
  obtain ⟨z4, -, -, z7, z8, z9⟩ := e2
  refine ⟨fun p hp => ?_, z4.trans s2, z7.trans s3, z8.trans s4, z9.trans s5⟩
  obtain ⟨y1, y2, y3, y4⟩ := e1 p (by omega)
  rw [y1, y2, y3, y4]; exact s1 p hp
theorem ec_becomeS {I : Nat → Nat → Int32} {L : Nat → Nat → Int64} {a : Nat} (hP : P ≤ 5) (s : shS (cV h) o) (s' : shS (cV h) a) (hne : o ≠ a) (hS : StC I a P F S) : ∃ I', cS_become o a (hw h I L) = some ((), hw h I' L) ∧ StC I' o P F S ∧ FrO o I I' ∧ I' o 5 = I a 5 ∧ I' o 6 = I a 6 := by
  obtain ⟨I', e, a1, a2, f⟩ := ec_become (I := I) (L := L) s s' hne
  exact ⟨I', e, hS.of hP a1 a2, f, a2.2.1, a2.2.2.1⟩
end C7
