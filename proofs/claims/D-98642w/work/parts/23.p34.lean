/-! PURE LEVEL 34: best -/
abbrev BT := Int32 × Nat × Nat
def zfold (u : Nat → BT → BT) : Nat → Nat → BT → BT
  | 0, _, b => b
  | j + 1, i, b => zfold u j (i + 1) (u i b)
theorem zfold_add (u : Nat → BT → BT) : ∀ (a b i : Nat) (B : BT), zfold u (a + b) i B = zfold u b (i + a) (zfold u a i B)
  | 0, b, i, B => by rw [Nat.zero_add]; rfl
  | a + 1, b, i, B => by
    rw [show a + 1 + b = (a + b) + 1 by omega]
    show zfold u (a + b) (i + 1) (u i B) = zfold u b (i + (a + 1)) (zfold u a (i + 1) (u i B))
    rw [zfold_add u a b (i + 1), show i + 1 + a = i + (a + 1) by omega]
def zE (K : KT) : Nat := zP K * zQ K
def ep (K : KT) (p e : Nat) : Nat := p * zE K + e
def c10 (K : KT) (e : Nat) : Int32 := nn (10 * (e / zQ K) + e % zQ K)
/-- one level of a fold: each question that can be asked now, what follows is U -/
def zup (K : KT) (F : FT) (p : Nat) (U : ST → Nat → BT → BT) (S : ST) : Nat → BT → BT := fun e B => if zec K F S (ep K p e) = true then U (zes K F S (ep K p e)) e B else B
def zU1 (K : KT) (F : FT) : ST → Nat → BT → BT := fun S1 e B => if B.1 < zsum K F S1 then (zsum K F S1, e, 0) else B
def zU2 (K : KT) (F : FT) (e1 : Nat) : ST → Nat → BT → BT := fun S2 e B => if B.1 < zsum K F S2 then (zsum K F S2, e1, e) else B
def zU12 (K : KT) (F : FT) (p : Nat) : ST → Nat → BT → BT := fun S1 e B => zfold (zup K F p (zU2 K F e) S1) (zE K) 0 B
def zBest (K : KT) (F : FT) (S : ST) (p n : Nat) : BT := zfold (zup K F p (if n = 2 then zU12 K F p else zU1 K F) S) (zE K) 0 (-1, 0, 0)
def BC (K : KT) (n : Nat) (I : Nat → Nat → Int32) (B : BT) : Prop := I 0 18 = B.1 ∧ (¬ B.1 = -1 → I 38 0 = c10 K B.2.1 ∧ (n = 2 → I 38 1 = c10 K B.2.2))
def frK (t k : Nat) (I I' : Nat → Nat → Int32) : Prop := (∀ x, x ≠ 0 → x ≠ 37 → x ≠ 38 → (x < t ∨ 53 < x) → I' x = I x) ∧ (∀ j, j ≠ 18 → I' 0 j = I 0 j) ∧ ∀ j, j < k → I' 37 j = I 37 j
theorem frK.rfl (t k : Nat) (I : Nat → Nat → Int32) : frK t k I I := ⟨fun _ _ _ _ _ => Eq.refl _, fun _ _ => Eq.refl _, fun _ _ => Eq.refl _⟩
theorem frK.tr {t k : Nat} {I I1 I2 : Nat → Nat → Int32} (a : frK t k I I1) (b : frK t k I1 I2) : frK t k I I2 := ⟨fun x h0 h1 h2 h3 => (b.1 x h0 h1 h2 h3).trans (a.1 x h0 h1 h2 h3), fun j hj => (b.2.1 j hj).trans (a.2.1 j hj), fun j hj => (b.2.2 j hj).trans (a.2.2 j hj)⟩
theorem frK.wk {t k t' k' : Nat} {I I' : Nat → Nat → Int32} (ht : t ≤ t') (hk : k ≤ k') (a : frK t' k' I I') : frK t k I I' := ⟨fun x h0 h1 h2 h3 => a.1 x h0 h1 h2 (by omega), a.2.1, fun j hj => a.2.2 j (by omega)⟩
theorem frK.a {t k : Nat} (ht : 44 ≤ t) {I I' : Nat → Nat → Int32} (f : frK t k I I') : frA I I' := ⟨fun x h0 h1 => f.1 x h0 (by omega) (by omega) (by omega), fun k _ h2 => f.2.1 k h2⟩
theorem frK.o {t k : Nat} {I I' : Nat → Nat → Int32} (ht : t = 44 ∨ t = 49) (f : FrO t I I') : frK t k I I' := ⟨fun x _ _ _ h2 => f x (by omega), fun j _ => by rw [f 0 (by omega)], fun j _ => by rw [f 37 (by omega)]⟩
theorem ep_of {K : KT} {p b q : Nat} : ep K p (b * zQ K + q) = (p * zP K + b) * zQ K + q := by
  unfold ep zE
  rw [Nat.add_mul, ← Nat.mul_assoc]; omega
section B14
variable {h g : HP} {c : Nat} {K : KT} {A : Nat → Nat → Nat} {w : Int32} {S : ST} {F : FT}
theorem StC.frK {I I' : Nat → Nat → Int32} {o t k P : Nat} (ho : o + 4 < t ∧ 0 < o ∧ (o + 4 < 37 ∨ 38 < o)) (f : frK t k I I') (s : StC I o P F S) : StC I' o P F S := by
  unfold StC
  rw [f.1 o (by omega) (by omega) (by omega) (by omega), f.1 (o + 1) (by omega) (by omega) (by omega) (by omega), f.1 (o + 2) (by omega) (by omega) (by omega) (by omega), f.1 (o + 3) (by omega) (by omega) (by omega) (by omega), f.1 (o + 4) (by omega) (by omega) (by omega) (by omega)]; exact s
def NSb (h : HP) (c : Nat) (K : KT) (A : Nat → Nat → Nat) (w : Int32) (n t k : Nat) (Pre : (Nat → Nat → Int32) → Prop) (call : HP → Option (Unit × HP)) (U : ST → Nat → BT → BT) : Prop := ∀ (I : Nat → Nat → Int32) (L : Nat → Nat → Int64) (S1 : ST) (e : Nat) (B : BT), CW h I c K A → StC I t (zP K) (-1, w, 0) S1 → Pre I → I 37 k = c10 K e → BC K n I B → ∃ I' L', call (hw h I L) = some ((), hw h I' L') ∧ BC K n I' (U S1 e B) ∧ frK (t + 5) (k + 1) I I'
theorem ec_b78 {o t k n p : Nat} (hot : (o = 20 ∧ t = 44 ∧ k = 0) ∨ (o = 44 ∧ t = 49 ∧ k = 1)) (hp : p < zP K) {many : Int32} {Pre : (Nat → Nat → Int32) → Prop} (hPre : ∀ I I', frK t k I I' → Pre I → Pre I') {fn : Nat → Int32 → Int32 → Int32 → HP → Option (Unit × HP)} {U : ST → Nat → BT → BT} (hN : NSb h c K A w n t k Pre (fn t (nn (k + 1)) many (nn p)) U) {b : Nat} (hb : b < zP K) : ∀ (j q : Nat) (I : Nat → Nat → Int32) (L : Nat → Nat → Int64) (fuel : Nat) (B : BT), CW h I c K A → StC I o (zP K) (-1, w, 0) S → Pre I → BC K n I B → q + j = zQ K → j < fuel → ∃ I' L', (∀ kk, cA_asks_78 fn o (nn k) many (nn p) t (nn b) kk fuel (nn q) (hw h I L) = kk (hw h I' L')) ∧ BC K n I' (zfold (zup K (-1, w, 0) p U S) j (b * zQ K + q) B) ∧ frK t k I I' := by
  have sho : shS (cV h) o := by rcases hot with ⟨rfl, -, -⟩ | ⟨rfl, -, -⟩; exact sh20 h; exact sh44 h
  have sht : shS (cV h) t := by rcases hot with ⟨-, rfl, -⟩ | ⟨-, rfl, -⟩; exact sh44 h; exact sh49 h
  intro j
  induction j with
  | zero =>
    intro q I L fuel B W s pr bc hq hf
    obtain ⟨m, rfl⟩ : ∃ m, fuel = m + 1 := ⟨fuel - 1, by omega⟩
    have hQ := W.q8
    refine ⟨I, L, fun kk => ?_, bc, frK.rfl t k I⟩
    rw [cA_asks_78]
    simp only [bnd_e, cal_s, onr_s, jon_e, gI_hw, gL_hw, gT_hw, gR_hw, gN_hw, sI_hw, sL_hw, cV_hw, shS_hw, shC_hw, shL_hw, ← bt_def, ec_questions W, if_pos (nn_ple (show zQ K ≤ q by omega) (show q < 2147483648 by omega))]
  | succ j ih =>
    intro q I L fuel B W s pr bc hq hf
    obtain ⟨m, rfl⟩ : ∃ m, fuel = m + 1 := ⟨fuel - 1, by omega⟩
    have hQ := W.q8
    have hP := W.p5
    have hqq : q < zQ K := by omega
    have nle := nn_nle hqq (show zQ K < 2147483648 by omega)
    obtain ⟨w1, w2, w3⟩ := e_of (K := K) (a := p) hb hqq
    have ec : cS_can o (nn p) (nn b) (nn q) 1 (hw h I L) = _ := ec_can (L := L) W sho s hp hb hqq true
    have zc : zec K (-1, w, 0) S (ep K p (b * zQ K + q)) = zcan K (-1, w, 0) S p b q true := by rw [ep_of]; unfold zec; rw [w1, w2, w3]
    have zs : zes K (-1, w, 0) S (ep K p (b * zQ K + q)) = (zask K (-1, w, 0) S p b q false 0).2.1 := by rw [ep_of]; unfold zes; rw [w1, w2, w3]
    have unf : zfold (zup K (-1, w, 0) p U S) (j + 1) (b * zQ K + q) B = zfold (zup K (-1, w, 0) p U S) j (b * zQ K + (q + 1)) (if zcan K (-1, w, 0) S p b q true = true then U (zask K (-1, w, 0) S p b q false 0).2.1 (b * zQ K + q) B else B) := by
      show zfold (zup K (-1, w, 0) p U S) j (b * zQ K + q + 1) (if zec K (-1, w, 0) S (ep K p (b * zQ K + q)) = true then U (zes K (-1, w, 0) S (ep K p (b * zQ K + q))) (b * zQ K + q) B else B) = _
      rw [zc, zs]; rfl
    rw [unf]
    cases z : zcan K (-1, w, 0) S p b q true with
    | false =>
      rw [z, bI_f] at ec
      rw [if_neg (by decide)]
      obtain ⟨I2, L2, e2, b2, f2⟩ := ih (q + 1) I L m B W s pr bc (by omega) (by omega)
      refine ⟨I2, L2, fun kk => ?_, b2, f2⟩
      rw [cA_asks_78]
      simp only [bnd_e, cal_s, onr_s, jon_e, gI_hw, gL_hw, gT_hw, gR_hw, gN_hw, sI_hw, sL_hw, cV_hw, shS_hw, shC_hw, shL_hw, ← bt_def, ec_questions W, if_neg nle, grd_pos sho, ec, if_true, nn_succ, e2]
    | true =>
      rw [z, bI_t] at ec
      rw [if_pos rfl]
      obtain ⟨I1, e1, s1, f1, -, -⟩ := ec_becomeS (L := L) hP sht sho (by omega) s
      obtain ⟨I3, L3, e3, s3, f3, -, -⟩ := ec_ask (L := L) (W.frO sht f1) sht s1 hp hb hqq false
      have e3 : cS_ask t (nn p) (nn b) (nn q) 0 (hw h I1 L) = _ := e3
      rw [(zask_f _).1] at s3
      have f13 := f1.tr f3
      have ce : (10 : Int32) * nn b + nn q = c10 K (b * zQ K + q) := by
        unfold c10
        rw [show (b * zQ K + q) / zQ K = b by rw [Nat.mul_comm, Nat.mul_add_div (by omega), Nat.div_eq_of_lt hqq, Nat.add_zero], show (b * zQ K + q) % zQ K = q by rw [Nat.mul_comm, Nat.mul_add_mod, Nat.mod_eq_of_lt hqq], show (10 : Int32) = nn 10 from rfl, nn_mul, nn_add]
      have g5 : frK t k I (u2 I3 37 k (c10 K (b * zQ K + q))) := (frK.o (k := k) (by omega) f13).tr ⟨fun x _ h1 _ _ => u2_ne h1, fun j _ => by rw [u2_ne (by decide)], fun i hi => u2_nk _ _ (by omega)⟩
      have st : StC (u2 I3 37 k (c10 K (b * zQ K + q))) t (zP K) (-1, w, 0) (zask K (-1, w, 0) S p b q false 0).2.1 := by
        unfold StC
        rw [u2_ne (by omega), u2_ne (by omega), u2_ne (by omega), u2_ne (by omega), u2_ne (by omega)]; exact s3
      have bc5 : BC K n (u2 I3 37 k (c10 K (b * zQ K + q))) B := by
        unfold BC
        rw [u2_ne (show 0 ≠ 37 by decide), u2_ne (show 38 ≠ 37 by decide), f13 0 (by omega), f13 38 (by omega)]; exact bc
      obtain ⟨I6, L6, e6, b6, f6⟩ := hN _ L3 _ (b * zQ K + q) B (W.frA (g5.a (by omega))) st (hPre _ _ g5 pr) (u2_same _ _ _ _) bc5
      have g6 := g5.tr (f6.wk (t := t) (k := k) (by omega) (by omega))
      have ik : inb (nn k) 2 := nn_inb (by omega) (by omega)
      have ck : (nn k).toNatClampNeg = k := nn_clamp (by omega)
      obtain ⟨I2, L2, e2, b2, f2⟩ := ih (q + 1) I6 L6 m _ (W.frA (g6.a (by omega))) (s.frK (by omega) g6) (hPre _ _ g6 pr) b6 (by omega) (by omega)
      refine ⟨I2, L2, fun kk => ?_, b2, g6.tr f2⟩
      rw [cA_asks_78]
      simp only [bnd_e, cal_s, onr_s, jon_e, gI_hw, gL_hw, gT_hw, gR_hw, gN_hw, sI_hw, sL_hw, cV_hw, shS_hw, shC_hw, shL_hw, ← bt_def, ec_questions W, if_neg nle, grd_pos sho, ec, if_neg i10, grd_pos sht, e1, e3, grd_pos ik, ck, ce, nn_succ, e6, e2]
theorem ec_b66 {o t k n p : Nat} (hot : (o = 20 ∧ t = 44 ∧ k = 0) ∨ (o = 44 ∧ t = 49 ∧ k = 1)) (hp : p < zP K) {many : Int32} {Pre : (Nat → Nat → Int32) → Prop} (hPre : ∀ I I', frK t k I I' → Pre I → Pre I') {fn : Nat → Int32 → Int32 → Int32 → HP → Option (Unit × HP)} {U : ST → Nat → BT → BT} (hN : NSb h c K A w n t k Pre (fn t (nn (k + 1)) many (nn p)) U) : ∀ (j b : Nat) (I : Nat → Nat → Int32) (L : Nat → Nat → Int64) (fuel : Nat) (B : BT), CW h I c K A → StC I o (zP K) (-1, w, 0) S → Pre I → BC K n I B → b + j = zP K → j < fuel → ∃ I' L', (∀ kk, cA_asks_66 fn o (nn k) many (nn p) t kk fuel (nn b) (hw h I L) = kk (hw h I' L')) ∧ BC K n I' (zfold (zup K (-1, w, 0) p U S) (j * zQ K) (b * zQ K) B) ∧ frK t k I I' := by
  intro j
  induction j with
  | zero =>
    intro b I L fuel B W s pr bc hb hf
    obtain ⟨m, rfl⟩ : ∃ m, fuel = m + 1 := ⟨fuel - 1, by omega⟩
    have hP := W.p5
    refine ⟨I, L, fun kk => ?_, by rw [Nat.zero_mul]; exact bc, frK.rfl t k I⟩
    rw [cA_asks_66]
    simp only [bnd_e, cal_s, onr_s, jon_e, gI_hw, gL_hw, gT_hw, gR_hw, gN_hw, sI_hw, sL_hw, cV_hw, shS_hw, shC_hw, shL_hw, ← bt_def, ec_persons W, if_pos (nn_ple (show zP K ≤ b by omega) (show b < 2147483648 by omega))]
  | succ j ih =>
    intro b I L fuel B W s pr bc hb hf
    obtain ⟨m, rfl⟩ : ∃ m, fuel = m + 1 := ⟨fuel - 1, by omega⟩
    have hP := W.p5
    have hQ := W.q8
    obtain ⟨I1, L1, e1, b1, f1⟩ := ec_b78 (S := S) hot hp hPre hN (show b < zP K by omega) (zQ K) 0 I L FU B W s pr bc (by omega) (by show _ < 1000; omega)
    rw [nn0, Nat.add_zero] at *
    obtain ⟨I2, L2, e2, b2, f2⟩ := ih (b + 1) I1 L1 m _ (W.frA (f1.a (by omega))) (s.frK (by omega) f1) (hPre _ _ f1 pr) b1 (by omega) (by omega)
    refine ⟨I2, L2, fun kk => ?_, ?_, f1.tr f2⟩
    · rw [cA_asks_66]
      simp only [bnd_e, cal_s, onr_s, jon_e, gI_hw, gL_hw, gT_hw, gR_hw, gN_hw, sI_hw, sL_hw, cV_hw, shS_hw, shC_hw, shL_hw, ← bt_def, ec_persons W, if_neg (nn_nle (show b < zP K by omega) (show zP K < 2147483648 by omega)), e1, nn_succ, e2]
    · rw [Nat.succ_mul, Nat.add_comm (j * zQ K), zfold_add, show b * zQ K + zQ K = (b + 1) * zQ K by rw [Nat.succ_mul]]; exact b2
theorem ec_blevel {o t k n p : Nat} (hot : (o = 20 ∧ t = 44 ∧ k = 0) ∨ (o = 44 ∧ t = 49 ∧ k = 1)) (hp : p < zP K) {many : Int32} (hm : ¬ nn k = many) {Pre : (Nat → Nat → Int32) → Prop} (hPre : ∀ I I', frK t k I I' → Pre I → Pre I') {fn : Nat → Int32 → Int32 → Int32 → HP → Option (Unit × HP)} {U : ST → Nat → BT → BT} (hN : NSb h c K A w n t k Pre (fn t (nn (k + 1)) many (nn p)) U) {I : Nat → Nat → Int32} {L : Nat → Nat → Int64} {B : BT} (W : CW h I c K A) (s : StC I o (zP K) (-1, w, 0) S) (pr : Pre I) (bc : BC K n I B) : ∃ I' L', cA_asks fn o (nn k) many (nn p) (hw h I L) = some ((), hw h I' L') ∧ BC K n I' (zfold (zup K (-1, w, 0) p U S) (zE K) 0 B) ∧ frK t k I I' := by
  have hP := W.p5
  have ik : inb (nn k) 2 := nn_inb (by omega) (by omega)
  have ck : (nn k).toNatClampNeg = k := nn_clamp (by omega)
  have eg : gR (cV h) 36 k = some t := by rcases hot with ⟨-, rfl, rfl⟩ | ⟨-, rfl, rfl⟩ <;> rfl
  obtain ⟨I1, L1, e1, b1, f1⟩ := ec_b66 (S := S) hot hp hPre hN (zP K) 0 I L FU B W s pr bc (by omega) (by show _ < 1000; omega)
  rw [nn0] at e1
  rw [Nat.zero_mul] at b1
  refine ⟨I1, L1, ?_, b1, f1⟩
  simp only [cA_asks, bnd_e, cal_s, onr_s, jon_e, gI_hw, gL_hw, gT_hw, gR_hw, gN_hw, sI_hw, sL_hw, cV_hw, shS_hw, shC_hw, shL_hw, ← bt_def, if_neg hm, grd_pos ik, ck, eg, e1]
/-- the last level: a sum is greater; steps are kept -/
theorem ec_keep {fn : Nat → Int32 → Int32 → Int32 → HP → Option (Unit × HP)} {n : Nat} (hn : n ≤ 2) : ∀ (j i : Nat) (I : Nat → Nat → Int32) (L : Nat → Nat → Int64) (fuel : Nat), i + j = n → j < fuel → ∃ I', (∀ k, cA_asks_28 fn (nn n) k fuel (nn i) (hw h I L) = k (hw h I' L)) ∧ (∀ x, i ≤ x → x < n → I' 38 x = I 37 x) ∧ (∀ x, x < i → I' 38 x = I 38 x) ∧ ∀ x, x ≠ 38 → I' x = I x := by
  intro j
  induction j with
  | zero =>
    intro i I L fuel hi hf
    obtain ⟨m, rfl⟩ : ∃ m, fuel = m + 1 := ⟨fuel - 1, by omega⟩
    refine ⟨I, fun k => ?_, fun x h1 h2 => by omega, fun _ _ => rfl, fun _ _ => rfl⟩
    rw [cA_asks_28, if_pos (nn_ple (by omega) (by omega))]
  | succ j ih =>
    intro i I L fuel hi hf
    obtain ⟨m, rfl⟩ : ∃ m, fuel = m + 1 := ⟨fuel - 1, by omega⟩
    obtain ⟨I1, e1, a1, b1, f1⟩ := ih (i + 1) (u2 I 38 i (I 37 i)) L m (by omega) (by omega)
    refine ⟨I1, fun k => ?_, fun x h1 h2 => ?_, fun x hx => ?_, fun x hx => (f1 x hx).trans (u2_ne hx)⟩
    · rw [cA_asks_28]
      simp only [bnd_e, cal_s, onr_s, jon_e, gI_hw, gL_hw, gT_hw, gR_hw, gN_hw, sI_hw, sL_hw, cV_hw, shS_hw, shC_hw, shL_hw, ← bt_def, if_neg (nn_nle (show i < n by omega) (show n < 2147483648 by omega)), grd_pos (show inb (nn i) 2 from nn_inb (by omega) (by omega)), nn_clamp (show i < 2147483648 by omega), nn_succ, e1]
    · by_cases z : x = i
      · rw [z, b1 i (by omega), u2_same]
      · rw [a1 x (by omega) h2, u2_ne (by decide)]
    · rw [b1 x (by omega), u2_nk _ _ (by omega)]
theorem ec_last {t n : Nat} (ht : (t = 44 ∧ n = 1) ∨ (t = 49 ∧ n = 2)) (f : Nat) (p : Int32) {I : Nat → Nat → Int32} {L : Nat → Nat → Int64} {S1 : ST} {e1 e2 : Nat} {B : BT} (W : CW h I c K A) (s : StC I t (zP K) (-1, w, 0) S1) (q1 : I 37 0 = c10 K e1) (q2 : n = 2 → I 37 1 = c10 K e2) (bc : BC K n I B) : ∃ I' L', cA_asksN (f + 1) t (nn n) (nn n) p (hw h I L) = some ((), hw h I' L') ∧ BC K n I' (if B.1 < zsum K (-1, w, 0) S1 then (zsum K (-1, w, 0) S1, e1, e2) else B) ∧ frK (t + 5) n I I' := by
  have sht : shS (cV h) t := by rcases ht with ⟨rfl, -⟩ | ⟨rfl, -⟩; exact sh44 h; exact sh49 h
  by_cases z : B.1 < zsum K (-1, w, 0) S1
  · rw [if_pos z]
    obtain ⟨I9, e9, a9, -, f9⟩ := ec_keep (h := h) (fn := cA_asksN f) (n := n) (by omega) n 0 (u2 I 0 18 (zsum K (-1, w, 0) S1)) L FU (by omega) (by show _ < 1000; omega)
    rw [nn0] at e9
    refine ⟨I9, L, ?_, ⟨by rw [f9 0 (by decide), u2_same], fun _ => ⟨?_, fun h2 => ?_⟩⟩, ⟨fun x h0 h1 h2 h3 => by rw [f9 x h2, u2_ne h0], fun j hj => by rw [f9 0 (by decide), u2_nk _ _ hj], fun j hj => by rw [f9 37 (by decide), u2_ne (by decide)]⟩⟩
    · rw [cA_asksN, cA_asks, if_pos rfl]
      simp only [bnd_e, cal_s, onr_s, jon_e, gI_hw, gL_hw, gT_hw, gR_hw, gN_hw, sI_hw, sL_hw, cV_hw, shS_hw, shC_hw, shL_hw, ← bt_def, grd_pos sht, ec_sum W sht s, bc.1, if_pos z, e9]
    · rw [a9 0 (by omega) (by omega), u2_ne (by decide)]; exact q1
    · rw [a9 1 (by omega) (by omega), u2_ne (by decide)]; exact q2 h2
  · rw [if_neg z]
    refine ⟨I, L, ?_, bc, frK.rfl _ _ I⟩
    rw [cA_asksN, cA_asks, if_pos rfl]
    simp only [bnd_e, cal_s, onr_s, jon_e, gI_hw, gL_hw, gT_hw, gR_hw, gN_hw, sI_hw, sL_hw, cV_hw, shS_hw, shC_hw, shL_hw, ← bt_def, grd_pos sht, ec_sum W sht s, bc.1, if_neg z]
end B14
