/-! PURE LEVEL 32: the component's ways, by three loops -/
/-- what a search at some level may change: ahead's states from t on, steps from k on -/
def frW (t k : Nat) (I I' : Nat → Nat → Int32) : Prop := (∀ x, x ≠ 37 → (x < t ∨ 53 < x) → I' x = I x) ∧ ∀ j, j < k → I' 37 j = I 37 j
theorem frW.rfl (t k : Nat) (I : Nat → Nat → Int32) : frW t k I I := ⟨fun _ _ _ => Eq.refl _, fun _ _ => Eq.refl _⟩
theorem frW.tr {t k : Nat} {I I1 I2 : Nat → Nat → Int32} (a : frW t k I I1) (b : frW t k I1 I2) : frW t k I I2 := ⟨fun x h1 h2 => (b.1 x h1 h2).trans (a.1 x h1 h2), fun j hj => (b.2 j hj).trans (a.2 j hj)⟩
theorem frW.wk {t k t' k' : Nat} {I I' : Nat → Nat → Int32} (ht : t ≤ t') (hk : k ≤ k') (a : frW t' k' I I') : frW t k I I' := ⟨fun x h1 h2 => a.1 x h1 (by omega), fun j hj => a.2 j (by omega)⟩
theorem frW.a {t k : Nat} (ht : 44 ≤ t) {I I' : Nat → Nat → Int32} (f : frW t k I I') : frA I I' := ⟨fun x h0 h1 => f.1 x (by omega) (by omega), fun k _ _ => by rw [f.1 0 (by omega) (by omega)]⟩
theorem frW.o {t k : Nat} {I I' : Nat → Nat → Int32} (ht : t = 44 ∨ t = 49) (f : FrO t I I') : frW t k I I' := ⟨fun x h1 h2 => f x (by omega), fun j _ => by rw [f 37 (by omega)]⟩
section B12
variable {h : HP} {c : Nat} {K : KT} {A : Nat → Nat → Nat} {w : Int32} {S0 S : ST} {F : FT}
theorem StC.frW {I I' : Nat → Nat → Int32} {o t k P : Nat} (ho : o + 4 < t ∧ (o + 4 < 37 ∨ 37 < o)) (f : frW t k I I') (s : StC I o P F S) : StC I' o P F S := by
  unfold StC
  rw [f.1 o (by omega) (by omega), f.1 (o + 1) (by omega) (by omega), f.1 (o + 2) (by omega) (by omega), f.1 (o + 3) (by omega) (by omega), f.1 (o + 4) (by omega) (by omega)]; exact s
/-- one level: from the state at o, asked ahead into t, what follows is R; X: what lies in steps then -/
def NSp (h : HP) (c : Nat) (K : KT) (A : Nat → Nat → Nat) (w : Int32) (S0 : ST) (t k : Nat) (call : HP → Option (Int32 × HP)) (R : ST → Bool) (X : ST → (Nat → Nat → Int32) → Prop) : Prop := ∀ (I : Nat → Nat → Int32) (L : Nat → Nat → Int64) (S1 : ST), CW h I c K A → StC I 20 (zP K) (-1, w, 0) S0 → StC I t (zP K) (-1, w, 0) S1 → ∃ I' L', call (hw h I L) = some (bI (R S1), hw h I' L') ∧ frW (t + 5) (k + 1) I I' ∧ (R S1 = true → X S1 I')
theorem ec_w52 {o t k : Nat} (hot : (o = 20 ∧ t = 44 ∧ k = 0) ∨ (o = 44 ∧ t = 49 ∧ k = 1)) {many p f oth : Int32} {fn : Nat → Int32 → Int32 → Int32 → Int32 → Int32 → HP → Option (Int32 × HP)} {R : ST → Bool} {X : ST → (Nat → Nat → Int32) → Prop} (hN : NSp h c K A w S0 t k (fn t (nn (k + 1)) many p f oth) R X) {a b : Nat} (ha : a < zP K) (hb : b < zP K) : ∀ (j q : Nat) (I : Nat → Nat → Int32) (L : Nat → Nat → Int64) (n : Nat), CW h I c K A → StC I 20 (zP K) (-1, w, 0) S0 → StC I o (zP K) (-1, w, 0) S → q + j = zQ K → j < n → ∃ I' L', frW t k I I' ∧ ((zf (fun e => zec K (-1, w, 0) S e && R (zes K (-1, w, 0) S e)) j ((a * zP K + b) * zQ K + q) = none ∧ ∀ kk, cA_ways_52 fn o (nn k) many p f oth t (nn a) (nn b) kk n (nn q) (hw h I L) = kk (hw h I' L')) ∨ ∃ e, zf (fun e => zec K (-1, w, 0) S e && R (zes K (-1, w, 0) S e)) j ((a * zP K + b) * zQ K + q) = some e ∧ (∀ kk, cA_ways_52 fn o (nn k) many p f oth t (nn a) (nn b) kk n (nn q) (hw h I L) = some (1, hw h I' L')) ∧ I' 37 k = ecode K e ∧ X (zes K (-1, w, 0) S e) I') := by
  have sho : shS (cV h) o := by rcases hot with ⟨rfl, -, -⟩ | ⟨rfl, -, -⟩; exact sh20 h; exact sh44 h
  have sht : shS (cV h) t := by rcases hot with ⟨-, rfl, -⟩ | ⟨-, rfl, -⟩; exact sh44 h; exact sh49 h
  intro j
  induction j with
  | zero =>
    intro q I L n W s0 s hq hn
    obtain ⟨n, rfl⟩ : ∃ n', n = n' + 1 := ⟨n - 1, by omega⟩
    have hQ := W.q8
    refine ⟨I, L, frW.rfl t k I, Or.inl ⟨rfl, fun kk => ?_⟩⟩
    rw [cA_ways_52]
    simp only [bnd_e, cal_s, onr_s, jon_e, gI_hw, gL_hw, gT_hw, gR_hw, gN_hw, sI_hw, sL_hw, cV_hw, shS_hw, shC_hw, shL_hw, ← bt_def, ec_questions W, if_pos (nn_ple (show zQ K ≤ q by omega) (show q < 2147483648 by omega))]
  | succ j ih =>
    intro q I L n W s0 s hq hn
    obtain ⟨n, rfl⟩ : ∃ n', n = n' + 1 := ⟨n - 1, by omega⟩
    have hQ := W.q8
    have hP := W.p5
    have hqq : q < zQ K := by omega
    have nle := nn_nle hqq (show zQ K < 2147483648 by omega)
    obtain ⟨w1, w2, w3⟩ := e_of (K := K) (a := a) hb hqq
    have ec : cS_can o (nn a) (nn b) (nn q) 1 (hw h I L) = _ := ec_can (L := L) W sho s ha hb hqq true
    have zc : zec K (-1, w, 0) S ((a * zP K + b) * zQ K + q) = zcan K (-1, w, 0) S a b q true := by unfold zec; rw [w1, w2, w3]
    have zs : zes K (-1, w, 0) S ((a * zP K + b) * zQ K + q) = (zask K (-1, w, 0) S a b q false 0).2.1 := by unfold zes; rw [w1, w2, w3]
    have unf : zf (fun e => zec K (-1, w, 0) S e && R (zes K (-1, w, 0) S e)) (j + 1) ((a * zP K + b) * zQ K + q) = if (zcan K (-1, w, 0) S a b q true && R (zask K (-1, w, 0) S a b q false 0).2.1) = true then some ((a * zP K + b) * zQ K + q) else zf (fun e => zec K (-1, w, 0) S e && R (zes K (-1, w, 0) S e)) j ((a * zP K + b) * zQ K + (q + 1)) := by
      show (if (zec K (-1, w, 0) S _ && R (zes K (-1, w, 0) S _)) = true then _ else _) = _
      rw [zc, zs]; rfl
    rw [unf]
    cases z : zcan K (-1, w, 0) S a b q true with
    | false =>
      rw [z, bI_f] at ec
      obtain ⟨I2, L2, f2, r2⟩ := ih (q + 1) I L n W s0 s (by omega) (by omega)
      refine ⟨I2, L2, f2, ?_⟩
      rw [Bool.false_and, if_neg (by decide)]
      rcases r2 with ⟨r1, r2⟩ | ⟨e, r1, r2, r3⟩
      · refine Or.inl ⟨r1, fun kk => ?_⟩
        rw [← r2 kk, cA_ways_52]
        simp only [bnd_e, cal_s, onr_s, jon_e, gI_hw, gL_hw, gT_hw, gR_hw, gN_hw, sI_hw, sL_hw, cV_hw, shS_hw, shC_hw, shL_hw, ← bt_def, ec_questions W, if_neg nle, grd_pos sho, ec, if_true, nn_succ]
      · refine Or.inr ⟨e, r1, fun kk => ?_, r3⟩
        rw [← r2 kk, cA_ways_52]
        simp only [bnd_e, cal_s, onr_s, jon_e, gI_hw, gL_hw, gT_hw, gR_hw, gN_hw, sI_hw, sL_hw, cV_hw, shS_hw, shC_hw, shL_hw, ← bt_def, ec_questions W, if_neg nle, grd_pos sho, ec, if_true, nn_succ]
    | true =>
      rw [z, bI_t] at ec
      obtain ⟨I1, e1, s1, f1, -, -⟩ := ec_becomeS (L := L) hP sht sho (by omega) s
      obtain ⟨I3, L3, e3, s3, f3, -, -⟩ := ec_ask (L := L) (W.frO sht f1) sht s1 ha hb hqq false
      have e3 : cS_ask t (nn a) (nn b) (nn q) 0 (hw h I1 L) = _ := e3
      rw [(zask_f _).1] at s3
      have f13 := f1.tr f3
      have g13 : frW t k I I3 := frW.o (by omega) f13
      have ce : ((100 : Int32) * nn a + (10 : Int32) * nn b) + nn q = ecode K ((a * zP K + b) * zQ K + q) := by
        unfold ecode
        rw [w1, w2, w3, show (100 : Int32) = nn 100 from rfl, show (10 : Int32) = nn 10 from rfl, nn_mul, nn_mul, nn_add, nn_add]
      have g4 : frW t k I3 (u2 I3 37 k (ecode K ((a * zP K + b) * zQ K + q))) := ⟨fun x h1 _ => u2_ne h1, fun i hi => u2_nk _ _ (by omega)⟩
      have g5 := g13.tr g4
      have ga := g5.a (by omega)
      have st : StC (u2 I3 37 k (ecode K ((a * zP K + b) * zQ K + q))) t (zP K) (-1, w, 0) (zask K (-1, w, 0) S a b q false 0).2.1 := by
        unfold StC
        rw [u2_ne (by omega), u2_ne (by omega), u2_ne (by omega), u2_ne (by omega), u2_ne (by omega)]; exact s3
      obtain ⟨I6, L6, e6, f6, x6⟩ := hN (u2 I3 37 k (ecode K ((a * zP K + b) * zQ K + q))) L3 _ (W.frA ga) (s0.frA ga) st
      have g6 := g5.tr (f6.wk (t := t) (k := k) (by omega) (by omega))
      have g6a := g6.a (by omega)
      have ik : inb (nn k) 2 := nn_inb (by omega) (by omega)
      have ck : (nn k).toNatClampNeg = k := nn_clamp (by omega)
      rw [Bool.true_and]
      cases z2 : R (zask K (-1, w, 0) S a b q false 0).2.1 with
      | false =>
        rw [z2, bI_f] at e6
        obtain ⟨I2, L2, f2, r2⟩ := ih (q + 1) I6 L6 n (W.frA g6a) (s0.frA g6a) (s.frW (by omega) g6) (by omega) (by omega)
        refine ⟨I2, L2, g6.tr f2, ?_⟩
        rw [if_neg (by decide)]
        rcases r2 with ⟨r1, r2⟩ | ⟨e, r1, r2, r3⟩
        · refine Or.inl ⟨r1, fun kk => ?_⟩
          rw [← r2 kk, cA_ways_52]
          simp only [bnd_e, cal_s, onr_s, jon_e, gI_hw, gL_hw, gT_hw, gR_hw, gN_hw, sI_hw, sL_hw, cV_hw, shS_hw, shC_hw, shL_hw, ← bt_def, ec_questions W, if_neg nle, grd_pos sho, ec, if_neg i10, grd_pos sht, e1, e3, grd_pos ik, ck, ce, nn_succ, e6, if_true]
        · refine Or.inr ⟨e, r1, fun kk => ?_, r3⟩
          rw [← r2 kk, cA_ways_52]
          simp only [bnd_e, cal_s, onr_s, jon_e, gI_hw, gL_hw, gT_hw, gR_hw, gN_hw, sI_hw, sL_hw, cV_hw, shS_hw, shC_hw, shL_hw, ← bt_def, ec_questions W, if_neg nle, grd_pos sho, ec, if_neg i10, grd_pos sht, e1, e3, grd_pos ik, ck, ce, nn_succ, e6, if_true]
      | true =>
        rw [z2, bI_t] at e6
        refine ⟨I6, L6, g6, Or.inr ⟨_, if_pos rfl, fun kk => ?_, ?_, ?_⟩⟩
        · rw [cA_ways_52]
          simp only [bnd_e, cal_s, onr_s, jon_e, gI_hw, gL_hw, gT_hw, gR_hw, gN_hw, sI_hw, sL_hw, cV_hw, shS_hw, shC_hw, shL_hw, ← bt_def, ec_questions W, if_neg nle, grd_pos sho, ec, if_neg i10, grd_pos sht, e1, e3, grd_pos ik, ck, ce, nn_succ, e6]
        · rw [f6.2 k (by omega), u2_same]
        · rw [zs]; exact x6 z2
theorem ec_w40 {o t k : Nat} (hot : (o = 20 ∧ t = 44 ∧ k = 0) ∨ (o = 44 ∧ t = 49 ∧ k = 1)) {many p f oth : Int32} {fn : Nat → Int32 → Int32 → Int32 → Int32 → Int32 → HP → Option (Int32 × HP)} {R : ST → Bool} {X : ST → (Nat → Nat → Int32) → Prop} (hN : NSp h c K A w S0 t k (fn t (nn (k + 1)) many p f oth) R X) {a : Nat} (ha : a < zP K) : ∀ (j b : Nat) (I : Nat → Nat → Int32) (L : Nat → Nat → Int64) (n : Nat), CW h I c K A → StC I 20 (zP K) (-1, w, 0) S0 → StC I o (zP K) (-1, w, 0) S → b + j = zP K → j < n → ∃ I' L', frW t k I I' ∧ ((zf (fun e => zec K (-1, w, 0) S e && R (zes K (-1, w, 0) S e)) (j * zQ K) ((a * zP K + b) * zQ K) = none ∧ ∀ kk, cA_ways_40 fn o (nn k) many p f oth t (nn a) kk n (nn b) (hw h I L) = kk (hw h I' L')) ∨ ∃ e, zf (fun e => zec K (-1, w, 0) S e && R (zes K (-1, w, 0) S e)) (j * zQ K) ((a * zP K + b) * zQ K) = some e ∧ (∀ kk, cA_ways_40 fn o (nn k) many p f oth t (nn a) kk n (nn b) (hw h I L) = some (1, hw h I' L')) ∧ I' 37 k = ecode K e ∧ X (zes K (-1, w, 0) S e) I') := by
  intro j
  induction j with
  | zero =>
    intro b I L n W s0 s hb hn
    obtain ⟨n, rfl⟩ : ∃ n', n = n' + 1 := ⟨n - 1, by omega⟩
    have hP := W.p5
    refine ⟨I, L, frW.rfl t k I, Or.inl ⟨by rw [Nat.zero_mul]; rfl, fun kk => ?_⟩⟩
    rw [cA_ways_40]
    simp only [bnd_e, cal_s, onr_s, jon_e, gI_hw, gL_hw, gT_hw, gR_hw, gN_hw, sI_hw, sL_hw, cV_hw, shS_hw, shC_hw, shL_hw, ← bt_def, ec_persons W, if_pos (nn_ple (show zP K ≤ b by omega) (show b < 2147483648 by omega))]
  | succ j ih =>
    intro b I L n W s0 s hb hn
    obtain ⟨n, rfl⟩ : ∃ n', n = n' + 1 := ⟨n - 1, by omega⟩
    have hP := W.p5
    have hQ := W.q8
    have nle := nn_nle (show b < zP K by omega) (show zP K < 2147483648 by omega)
    have sp : zf (fun e => zec K (-1, w, 0) S e && R (zes K (-1, w, 0) S e)) ((j + 1) * zQ K) ((a * zP K + b) * zQ K) = match zf (fun e => zec K (-1, w, 0) S e && R (zes K (-1, w, 0) S e)) (zQ K) ((a * zP K + b) * zQ K) with
        | some e => some e
        | none => zf (fun e => zec K (-1, w, 0) S e && R (zes K (-1, w, 0) S e)) (j * zQ K) ((a * zP K + (b + 1)) * zQ K) := by
      rw [Nat.succ_mul, Nat.add_comm (j * zQ K), zf_add, show (a * zP K + b) * zQ K + zQ K = (a * zP K + (b + 1)) * zQ K by rw [← Nat.add_assoc, Nat.succ_mul]]
      cases zf (fun e => zec K (-1, w, 0) S e && R (zes K (-1, w, 0) S e)) (zQ K) ((a * zP K + b) * zQ K) <;> rfl
    obtain ⟨I1, L1, f1, r1⟩ := ec_w52 (S := S) hot hN ha (show b < zP K by omega) (zQ K) 0 I L FU W s0 s (by omega) (by show _ < 1000; omega)
    rw [nn0, Nat.add_zero] at r1
    rw [sp]
    rcases r1 with ⟨q1, q2⟩ | ⟨e, q1, q2, q3⟩
    · rw [q1]
      have fa := f1.a (by omega)
      obtain ⟨I2, L2, f2, r2⟩ := ih (b + 1) I1 L1 n (W.frA fa) (s0.frA fa) (s.frW (by omega) f1) (by omega) (by omega)
      refine ⟨I2, L2, f1.tr f2, ?_⟩
      rcases r2 with ⟨r1, r2⟩ | ⟨e, r1, r2, r3⟩
      · refine Or.inl ⟨r1, fun kk => ?_⟩
        rw [← r2 kk, cA_ways_40]
        simp only [bnd_e, cal_s, onr_s, jon_e, gI_hw, gL_hw, gT_hw, gR_hw, gN_hw, sI_hw, sL_hw, cV_hw, shS_hw, shC_hw, shL_hw, ← bt_def, ec_persons W, if_neg nle, q2, nn_succ]
      · refine Or.inr ⟨e, r1, fun kk => ?_, r3⟩
        rw [← r2 kk, cA_ways_40]
        simp only [bnd_e, cal_s, onr_s, jon_e, gI_hw, gL_hw, gT_hw, gR_hw, gN_hw, sI_hw, sL_hw, cV_hw, shS_hw, shC_hw, shL_hw, ← bt_def, ec_persons W, if_neg nle, q2, nn_succ]
    · rw [q1]
      refine ⟨I1, L1, f1, Or.inr ⟨e, rfl, fun kk => ?_, q3⟩⟩
      rw [cA_ways_40]
      simp only [bnd_e, cal_s, onr_s, jon_e, gI_hw, gL_hw, gT_hw, gR_hw, gN_hw, sI_hw, sL_hw, cV_hw, shS_hw, shC_hw, shL_hw, ← bt_def, ec_persons W, if_neg nle, q2]
theorem ec_w28 {o t k : Nat} (hot : (o = 20 ∧ t = 44 ∧ k = 0) ∨ (o = 44 ∧ t = 49 ∧ k = 1)) {many p f oth : Int32} {fn : Nat → Int32 → Int32 → Int32 → Int32 → Int32 → HP → Option (Int32 × HP)} {R : ST → Bool} {X : ST → (Nat → Nat → Int32) → Prop} (hN : NSp h c K A w S0 t k (fn t (nn (k + 1)) many p f oth) R X) : ∀ (j a : Nat) (I : Nat → Nat → Int32) (L : Nat → Nat → Int64) (n : Nat), CW h I c K A → StC I 20 (zP K) (-1, w, 0) S0 → StC I o (zP K) (-1, w, 0) S → a + j = zP K → j < n → ∃ I' L', frW t k I I' ∧ ((zf (fun e => zec K (-1, w, 0) S e && R (zes K (-1, w, 0) S e)) (j * (zP K * zQ K)) (a * (zP K * zQ K)) = none ∧ ∀ kk, cA_ways_28 fn o (nn k) many p f oth t kk n (nn a) (hw h I L) = kk (hw h I' L')) ∨ ∃ e, zf (fun e => zec K (-1, w, 0) S e && R (zes K (-1, w, 0) S e)) (j * (zP K * zQ K)) (a * (zP K * zQ K)) = some e ∧ (∀ kk, cA_ways_28 fn o (nn k) many p f oth t kk n (nn a) (hw h I L) = some (1, hw h I' L')) ∧ I' 37 k = ecode K e ∧ X (zes K (-1, w, 0) S e) I') := by
  intro j
  induction j with
  | zero =>
    intro a I L n W s0 s hb hn
    obtain ⟨n, rfl⟩ : ∃ n', n = n' + 1 := ⟨n - 1, by omega⟩
    have hP := W.p5
    refine ⟨I, L, frW.rfl t k I, Or.inl ⟨by rw [Nat.zero_mul]; rfl, fun kk => ?_⟩⟩
    rw [cA_ways_28]
    simp only [bnd_e, cal_s, onr_s, jon_e, gI_hw, gL_hw, gT_hw, gR_hw, gN_hw, sI_hw, sL_hw, cV_hw, shS_hw, shC_hw, shL_hw, ← bt_def, ec_persons W, if_pos (nn_ple (show zP K ≤ a by omega) (show a < 2147483648 by omega))]
  | succ j ih =>
    intro a I L n W s0 s hb hn
    obtain ⟨n, rfl⟩ : ∃ n', n = n' + 1 := ⟨n - 1, by omega⟩
    have hP := W.p5
    have hQ := W.q8
    have nle := nn_nle (show a < zP K by omega) (show zP K < 2147483648 by omega)
    have e0 : (a * zP K + 0) * zQ K = a * (zP K * zQ K) := by rw [Nat.add_zero, Nat.mul_assoc]
    have sp : zf (fun e => zec K (-1, w, 0) S e && R (zes K (-1, w, 0) S e)) ((j + 1) * (zP K * zQ K)) (a * (zP K * zQ K)) = match zf (fun e => zec K (-1, w, 0) S e && R (zes K (-1, w, 0) S e)) (zP K * zQ K) (a * (zP K * zQ K)) with
        | some e => some e
        | none => zf (fun e => zec K (-1, w, 0) S e && R (zes K (-1, w, 0) S e)) (j * (zP K * zQ K)) ((a + 1) * (zP K * zQ K)) := by
      rw [Nat.succ_mul, Nat.add_comm (j * (zP K * zQ K)), zf_add, show a * (zP K * zQ K) + zP K * zQ K = (a + 1) * (zP K * zQ K) by rw [Nat.succ_mul]]
      cases zf (fun e => zec K (-1, w, 0) S e && R (zes K (-1, w, 0) S e)) (zP K * zQ K) (a * (zP K * zQ K)) <;> rfl
    obtain ⟨I1, L1, f1, r1⟩ := ec_w40 (S := S) hot hN (show a < zP K by omega) (zP K) 0 I L FU W s0 s (by omega) (by show _ < 1000; omega)
    rw [nn0, e0] at r1
    rw [sp]
    rcases r1 with ⟨q1, q2⟩ | ⟨e, q1, q2, q3⟩
    · rw [q1]
      have fa := f1.a (by omega)
      obtain ⟨I2, L2, f2, r2⟩ := ih (a + 1) I1 L1 n (W.frA fa) (s0.frA fa) (s.frW (by omega) f1) (by omega) (by omega)
      refine ⟨I2, L2, f1.tr f2, ?_⟩
      rcases r2 with ⟨r1, r2⟩ | ⟨e, r1, r2, r3⟩
      · refine Or.inl ⟨r1, fun kk => ?_⟩
        rw [← r2 kk, cA_ways_28]
        simp only [bnd_e, cal_s, onr_s, jon_e, gI_hw, gL_hw, gT_hw, gR_hw, gN_hw, sI_hw, sL_hw, cV_hw, shS_hw, shC_hw, shL_hw, ← bt_def, ec_persons W, if_neg nle, q2, nn_succ]
      · refine Or.inr ⟨e, r1, fun kk => ?_, r3⟩
        rw [← r2 kk, cA_ways_28]
        simp only [bnd_e, cal_s, onr_s, jon_e, gI_hw, gL_hw, gT_hw, gR_hw, gN_hw, sI_hw, sL_hw, cV_hw, shS_hw, shC_hw, shL_hw, ← bt_def, ec_persons W, if_neg nle, q2, nn_succ]
    · rw [q1]
      refine ⟨I1, L1, f1, Or.inr ⟨e, rfl, fun kk => ?_, q3⟩⟩
      rw [cA_ways_28]
      simp only [bnd_e, cal_s, onr_s, jon_e, gI_hw, gL_hw, gT_hw, gR_hw, gN_hw, sI_hw, sL_hw, cV_hw, shS_hw, shC_hw, shL_hw, ← bt_def, ec_persons W, if_neg nle, q2]
/-- the steps that a search found -/
def zs1 (K : KT) (w : Int32) (R : ST → Bool) (S : ST) : Option Nat := zf (fun e => zec K (-1, w, 0) S e && R (zes K (-1, w, 0) S e)) (zN2 K) 0
theorem ec_level {o t k : Nat} (hot : (o = 20 ∧ t = 44 ∧ k = 0) ∨ (o = 44 ∧ t = 49 ∧ k = 1)) {many p f oth : Int32} (hm : ¬ nn k = many) {fn : Nat → Int32 → Int32 → Int32 → Int32 → Int32 → HP → Option (Int32 × HP)} {R : ST → Bool} {X : ST → (Nat → Nat → Int32) → Prop} (hN : NSp h c K A w S0 t k (fn t (nn (k + 1)) many p f oth) R X) {I : Nat → Nat → Int32} {L : Nat → Nat → Int64} (W : CW h I c K A) (s0 : StC I 20 (zP K) (-1, w, 0) S0) (s : StC I o (zP K) (-1, w, 0) S) : ∃ I' L', cA_ways fn o (nn k) many p f oth (hw h I L) = some (bI (zs1 K w R S).isSome, hw h I' L') ∧ frW t k I I' ∧ ∀ e, zs1 K w R S = some e → I' 37 k = ecode K e ∧ X (zes K (-1, w, 0) S e) I' := by
  have hP := W.p5
  have ik : inb (nn k) 2 := nn_inb (by omega) (by omega)
  have ck : (nn k).toNatClampNeg = k := nn_clamp (by omega)
  have eg : gR (cV h) 36 k = some t := by rcases hot with ⟨-, rfl, rfl⟩ | ⟨-, rfl, rfl⟩ <;> rfl
  obtain ⟨I1, L1, f1, r1⟩ := ec_w28 (S := S) hot hN (zP K) 0 I L FU W s0 s (by omega) (by show _ < 1000; omega)
  rw [nn0, Nat.zero_mul, show zP K * (zP K * zQ K) = zN2 K from (Nat.mul_assoc _ _ _).symm] at r1
  unfold zs1
  rcases r1 with ⟨q1, q2⟩ | ⟨e, q1, q2, q3⟩
  · refine ⟨I1, L1, ?_, f1, fun e he => by rw [q1] at he; cases he⟩
    rw [q1]
    simp only [cA_ways, bnd_e, cal_s, onr_s, jon_e, gI_hw, gL_hw, gT_hw, gR_hw, gN_hw, sI_hw, sL_hw, cV_hw, shS_hw, shC_hw, shL_hw, ← bt_def, if_neg hm, grd_pos ik, ck, eg, q2, Option.isSome_none, bI_f]
  · refine ⟨I1, L1, ?_, f1, fun e' he => by rw [q1] at he; cases he; exact q3⟩
    rw [q1]
    simp only [cA_ways, bnd_e, cal_s, onr_s, jon_e, gI_hw, gL_hw, gT_hw, gR_hw, gN_hw, sI_hw, sL_hw, cV_hw, shS_hw, shC_hw, shL_hw, ← bt_def, if_neg hm, grd_pos ik, ck, eg, q2, Option.isSome_some, bI_t]
end B12
