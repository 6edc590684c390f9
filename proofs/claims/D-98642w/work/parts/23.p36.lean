/-! PURE LEVEL 36: notes; knew -/
def NtC (h : HP) (I : Nat → Nat → Int32) (D : Nat → Nat) (N : Nat → Nat → Int32) (sn : Nat) : Prop := I 41 2 = nn sn ∧ ∀ k, k < sn → gR (cV h) 42 k = some (D k) ∧ ((¬ N k 0 = -1 ∧ (gT (cV h) (D k)).1 = 14 ∧ I (D k) 0 = N k 0 ∧ I (D k) 1 = N k 1 ∧ I (D k) 2 = N k 2 ∧ I (D k) 3 = N k 3) ∨ (N k 0 = -1 ∧ (gT (cV h) (D k)).1 = 15 ∧ I (D k) 0 = N k 1))
def NtM (J : Nat → Nat → Int32) (N : Nat → Nat → Int32) (sn : Nat) : Prop := J 0 71 = nn sn ∧ ∀ k, k < sn → J 37 (4 * k) = N k 0 ∧ J 37 (4 * k + 1) = N k 1 ∧ J 37 (4 * k + 2) = N k 2 ∧ J 37 (4 * k + 3) = N k 3
def WN (K : KT) (N : Nat → Nat → Int32) (sn : Nat) : Prop := sn ≤ 24 ∧ ∀ k, k < sn → (∃ t p, t ≤ zT K ∧ p < zP K ∧ N k 0 = nn t ∧ N k 1 = nn p ∧ isB (N k 3)) ∨ (N k 0 = -1 ∧ ∃ x, x < k ∧ N k 1 = nn x)
def knv (kv : Int32) (sn : Nat) : Prop := kv = -1 ∨ ∃ x, x ≤ sn ∧ kv = nn x
def kmn (kv : Int32) (sn : Nat) : Nat := if kv = -1 then sn else kv.toNatClampNeg
theorem kmn_le {kv : Int32} {sn : Nat} (h : knv kv sn) (hs : sn ≤ 24) : kmn kv sn ≤ sn := by
  unfold kmn
  rcases h with h | ⟨x, hx, h⟩
  · rw [if_pos h]; exact Nat.le_refl _
  · by_cases z : kv = -1
    · rw [if_pos z]; exact Nat.le_refl _
    · rw [if_neg z, h, nn_clamp (by omega)]; exact hx
theorem cT_14 : ∀ x : Fin 54, (cT x).1 ≠ 14 ∧ (cT x).1 ≠ 15 := by decide
theorem big_14 {h : HP} {x : Nat} (t : (gT (cV h) x).1 = 14 ∨ (gT (cV h) x).1 = 15) : 54 ≤ x := by
  rcases Nat.lt_or_ge x 54 with z | z
  · exfalso
    have e : gT (cV h) x = cT x := if_pos z
    rw [e] at t
    have := cT_14 ⟨x, z⟩
    rcases t with t | t
    · exact this.1 t
    · exact this.2 t
  · exact z
theorem NtC.fr {h : HP} {I I' : Nat → Nat → Int32} {D : Nat → Nat} {N : Nat → Nat → Int32} {sn : Nat} (f : frA I I') (q : NtC h I D N sn) : NtC h I' D N sn := by
  refine ⟨by rw [f.1 41 (by decide) (by omega)]; exact q.1, fun k hk => ?_⟩
  obtain ⟨q1, q2⟩ := q.2 k hk
  refine ⟨q1, ?_⟩
  rcases q2 with ⟨a, b, c⟩ | ⟨a, b, c⟩
  · rw [f.1 (D k) (by have := big_14 (Or.inl b); omega) (by have := big_14 (Or.inl b); omega)]; exact Or.inl ⟨a, b, c⟩
  · rw [f.1 (D k) (by have := big_14 (Or.inr b); omega) (by have := big_14 (Or.inr b); omega)]; exact Or.inr ⟨a, b, c⟩
theorem NtM.fr {J J' : Nat → Nat → Int32} {N : Nat → Nat → Int32} {sn : Nat} (f : frB J J') (q : NtM J N sn) : NtM J' N sn := by
  unfold NtM
  rw [f.2.1 71 (by decide) (by decide) (by omega), f.1 37 (by decide) (by omega)]; exact q
def zsoN (N : Nat → Nat → Int32) (st : Nat → Bool) (S : ST) (t : Int32) : Nat → Bool
  | 0 => true
  | n + 1 => zsoN N st S t n && (st n || (decide (¬ N n 0 = t) || decide (bI (decide (¬ bt (sk S (N n 1).toNatClampNeg) (N n 2) = 0)) = N n 3)))
section B16
variable {h g : HP} {I0 J0 : Nat → Nat → Int32} {M0 : Nat → Nat → Int64} {c : Nat} {K : KT} {A : Nat → Nat → Nat} {w : Int32} {S : ST} {D : Nat → Nat} {N : Nat → Nat → Int32} {sn : Nat} {kv : Int32}
theorem sh41 (h : HP) : shL (cV h) 41 := ⟨rfl, rfl, rfl⟩
theorem ec_knownMany {I : Nat → Nat → Int32} {L : Nat → Nat → Int64} (nt : NtC h I D N sn) (kn : I 0 23 = kv) (hk : knv kv sn) (hs : sn ≤ 24) : cA_knownMany (hw h I L) = some (nn (kmn kv sn), hw h I L) := by
  unfold kmn
  by_cases z : kv = -1
  · simp only [cA_knownMany, bnd_e, cal_s, onr_s, jon_e, gI_hw, gL_hw, gT_hw, gR_hw, gN_hw, sI_hw, sL_hw, cV_hw, shS_hw, shC_hw, shL_hw, ← bt_def, kn, if_pos z, ec_size (sh41 h), nt.1]
  · rw [if_neg z]
    rcases hk with hk | ⟨x, hx, hk⟩
    · exact absurd hk z
    · simp only [cA_knownMany, bnd_e, cal_s, onr_s, jon_e, gI_hw, gL_hw, gT_hw, gR_hw, gN_hw, sI_hw, sL_hw, cV_hw, shS_hw, shC_hw, shL_hw, ← bt_def, kn, if_neg z]
      rw [hk, nn_clamp (by omega)]
theorem em_knownBy {J : Nat → Nat → Int32} {M : Nat → Nat → Int64} (nt : NtM J N sn) (kn : J 0 72 = kv) (hk : knv kv sn) (hs : sn ≤ 24) : m_knownBy (hw g J M) = some (nn (kmn kv sn), hw g J M) := by
  unfold kmn
  by_cases z : kv = -1
  · simp only [m_knownBy, bnd_e, cal_s, onr_s, jon_e, gI_hw, gL_hw, gT_hw, gR_hw, gN_hw, sI_hw, sL_hw, cV_hw, shS_hw, shC_hw, shL_hw, ← bt_def, kn, if_neg (show ¬ 0 ≤ kv by rw [z]; decide), nt.1, if_pos z]
  · rw [if_neg z]
    rcases hk with hk | ⟨x, hx, hk⟩
    · exact absurd hk z
    · have p0 : 0 ≤ kv := by rw [hk]; exact nn_ple (n := 0) (by omega) (by omega)
      simp only [m_knownBy, bnd_e, cal_s, onr_s, jon_e, gI_hw, gL_hw, gT_hw, gR_hw, gN_hw, sI_hw, sL_hw, cV_hw, shS_hw, shC_hw, shL_hw, ← bt_def, kn, if_pos p0]
      rw [hk, nn_clamp (by omega)]
theorem ec_getN {I : Nat → Nat → Int32} {L : Nat → Nat → Int64} (nt : NtC h I D N sn) (hs : sn ≤ 24) {k : Nat} (hk : k < sn) : cL_get 41 (nn k) (hw h I L) = some (D k, hw h I L) :=
  ec_get (sh41 h) nt.1 hk (by show sn ≤ 24; exact hs) (by omega) (nt.2 k hk).1
theorem n4 (k j : Nat) : (4 : Int32) * nn k + nn j = nn (4 * k + j) := by
  rw [show (4 : Int32) = nn 4 from rfl, nn_mul, nn_add]
theorem n4' (k : Nat) : (4 : Int32) * nn k = nn (4 * k) := by rw [show (4 : Int32) = nn 4 from rfl, nn_mul]
theorem ec_areSo1 {I : Nat → Nat → Int32} {L : Nat → Nat → Int64} {F : FT} {S' : ST} (nt : NtC h I D N sn) (kn : I 0 23 = kv) (hk : knv kv sn) (wn : WN K N sn) (s : StC I 25 (zP K) F S') (hP : zP K ≤ 5) {st : Nat → Bool} (hst : ∀ k, k < kmn kv sn → I 43 k = bI (st k)) {t : Nat} (ht : t < 2147483648) : ∀ (j i n : Nat), i + j = kmn kv sn → j < n → zsoN N st S' (nn t) i = true → cA_areSo_2 (nn t) (fun h21 => some (1, h21)) n (nn i) (hw h I L) = some (bI (zsoN N st S' (nn t) (kmn kv sn)), hw h I L) := by
  have hs := wn.1
  have hkm := kmn_le hk hs
  intro j
  induction j with
  | zero =>
    intro i n hi hn hz
    obtain ⟨n, rfl⟩ : ∃ n', n = n' + 1 := ⟨n - 1, by omega⟩
    rw [cA_areSo_2]
    simp only [bnd_e, cal_s, onr_s, jon_e, gI_hw, gL_hw, gT_hw, gR_hw, gN_hw, sI_hw, sL_hw, cV_hw, shS_hw, shC_hw, shL_hw, ← bt_def, ec_knownMany nt kn hk hs, if_pos (nn_ple (show kmn kv sn ≤ i by omega) (show i < 2147483648 by omega))]
    rw [show kmn kv sn = i by omega, hz]; rfl
  | succ j ih =>
    intro i n hi hn hz
    obtain ⟨n, rfl⟩ : ∃ n', n = n' + 1 := ⟨n - 1, by omega⟩
    have hik : i < kmn kv sn := by omega
    have his : i < sn := by omega
    have i24 : inb (nn i) 24 := nn_inb (by omega) (by omega)
    have e1 : zsoN N st S' (nn t) (i + 1) = (zsoN N st S' (nn t) i && (st i || (decide (¬ N i 0 = nn t) || decide (bI (decide (¬ bt (sk S' (N i 1).toNatClampNeg) (N i 2) = 0)) = N i 3)))) := rfl
    have nx := fun q => ih (i + 1) n (by omega) (by omega) q
    rw [cA_areSo_2]
    simp only [bnd_e, cal_s, onr_s, jon_e, gI_hw, gL_hw, gT_hw, gR_hw, gN_hw, sI_hw, sL_hw, cV_hw, shS_hw, shC_hw, shL_hw, ← bt_def, ec_knownMany nt kn hk hs, if_neg (nn_nle hik (show kmn kv sn < 2147483648 by omega)), grd_pos i24, nn_clamp (show i < 2147483648 by omega), hst i hik, bI_eq0, ec_getN nt hs his, nn_succ]
    cases z0 : st i with
    | true =>
      rw [if_neg (by decide)]
      exact nx (by rw [e1, hz, z0]; rfl)
    | false =>
      rw [if_pos rfl]
      obtain ⟨-, q⟩ := nt.2 i his
      rcases q with ⟨a, b, c0, c1, c2, c3⟩ | ⟨a, b, c0⟩
      · have t1 : (gT (cV h) (D i)).1 = 14 ∨ (gT (cV h) (D i)).1 = 15 := Or.inl b
        simp only [grd_pos t1, cF_behind, cF_isSo, kX21_behind, kX21_isSo, bnd_e, cal_s, onr_s, jon_e, gI_hw, gL_hw, gT_hw, gR_hw, gN_hw, sI_hw, sL_hw, cV_hw, shS_hw, shC_hw, shL_hw, ← bt_def, if_pos b, grd_pos b, c0, c1, c2, c3]
        by_cases z1 : N i 0 = nn t
        · rw [if_pos z1]
          rcases wn.2 i his with ⟨t', p, ht', hp, w1, w2, w3⟩ | ⟨w1, -⟩
          · have ip : inb (N i 1) 5 := by rw [w2]; exact nn_inb (by omega) (by omega)
            have cp : (N i 1).toNatClampNeg = p := by rw [w2]; exact nn_clamp (by omega)
            have k1 : I (25 + 1) p = sk S' p := (s.1 p hp).1
            rw [cp] at e1
            simp only [ec_getN nt hs his, bnd_e, cal_s, onr_s, jon_e, gI_hw, gL_hw, gT_hw, gR_hw, gN_hw, sI_hw, sL_hw, cV_hw, shS_hw, shC_hw, shL_hw, ← bt_def, grd_pos t1, if_pos b, grd_pos b, c1, c2, c3, grd_pos (sh25 h), grd_pos ip, cp, k1]
            have e2 : ∀ X : HP, (if bt (sk S' p) (N i 2) = 1 then (if (1 : Int32) = N i 3 then some ((1 : Int32), X) else some (0, X)) else (if (0 : Int32) = N i 3 then some (1, X) else some (0, X))) = some (bI (decide (bI (decide (¬ bt (sk S' p) (N i 2) = 0)) = N i 3)), X) := by
              intro X
              by_cases y : bt (sk S' p) (N i 2) = 0
              · rw [if_neg (fun y2 => (bt1.mp y2) y), decide_eq_false (show ¬ ¬ bt (sk S' p) (N i 2) = 0 from fun y2 => y2 y), bI_f]
                by_cases y3 : (0 : Int32) = N i 3
                · rw [if_pos y3, decide_eq_true y3]; rfl
                · rw [if_neg y3, decide_eq_false y3]; rfl
              · rw [if_pos (bt1.mpr y), decide_eq_true y, bI_t]
                by_cases y3 : (1 : Int32) = N i 3
                · rw [if_pos y3, decide_eq_true y3]; rfl
                · rw [if_neg y3, decide_eq_false y3]; rfl
            rw [e2, cal_s]
            cases z2 : decide (bI (decide (¬ bt (sk S' p) (N i 2) = 0)) = N i 3) with
            | false =>
              rw [if_pos bI_f]
              have := and_stay (f := zsoN N st S' (nn t)) (fun n => rfl) (i := i + 1) (by rw [e1, z0, decide_eq_false (fun y => y z1), z2, Bool.and_eq_false_iff]; exact Or.inr rfl) j
              rw [show i + 1 + j = kmn kv sn by omega] at this
              rw [this]; rfl
            | true =>
              rw [if_neg (by decide)]
              exact nx (by rw [e1, hz, z2, Bool.or_true, Bool.or_true]; rfl)
          · exact absurd w1 a
        · rw [if_neg z1]
          exact nx (by rw [e1, hz, decide_eq_true z1, Bool.true_or, Bool.or_true]; rfl)
      · have t1 : (gT (cV h) (D i)).1 = 14 ∨ (gT (cV h) (D i)).1 = 15 := Or.inr b
        have z1 : ¬ N i 0 = nn t := fun y => by rw [a] at y; exact absurd (show nn t < 0 by rw [← y]; decide) (nn_nonneg ht)
        have b' : ¬ (gT (cV h) (D i)).1 = 14 := by rw [b]; decide
        have z3 : ¬ (-1 : Int32) = nn t := by rw [← a]; exact z1
        simp only [grd_pos t1, cF_behind, kX20_behind, bnd_e, cal_s, onr_s, jon_e, gI_hw, gL_hw, gT_hw, gR_hw, gN_hw, sI_hw, sL_hw, cV_hw, shS_hw, shC_hw, shL_hw, ← bt_def, if_neg b', if_pos b, if_neg z3]
        exact nx (by rw [e1, hz, decide_eq_true z1, Bool.true_or, Bool.or_true]; rfl)
theorem em_isSo1 {J : Nat → Nat → Int32} {M : Nat → Nat → Int64} {S' : ST} (nt : NtM J N sn) (kn : J 0 72 = kv) (hk : knv kv sn) (wn : WN K N sn) (s : StM J 1 (zP K) S') (hP : zP K ≤ 5) {st : Nat → Bool} (hst : ∀ k, k < kmn kv sn → J 38 k = bI (!st k)) {t : Nat} (ht : t < 2147483648) : ∀ (j i n : Nat), i + j = kmn kv sn → j < n → zsoN N st S' (nn t) i = true → m_isSo_2 (nn t) (fun h11 => some (1, h11)) n (nn i) (hw g J M) = some (bI (zsoN N st S' (nn t) (kmn kv sn)), hw g J M) := by
  have hs := wn.1
  have hkm := kmn_le hk hs
  intro j
  induction j with
  | zero =>
    intro i n hi hn hz
    obtain ⟨n, rfl⟩ : ∃ n', n = n' + 1 := ⟨n - 1, by omega⟩
    rw [m_isSo_2]
    simp only [bnd_e, cal_s, onr_s, jon_e, gI_hw, gL_hw, gT_hw, gR_hw, gN_hw, sI_hw, sL_hw, cV_hw, shS_hw, shC_hw, shL_hw, ← bt_def, em_knownBy nt kn hk hs, if_pos (nn_ple (show kmn kv sn ≤ i by omega) (show i < 2147483648 by omega))]
    rw [show kmn kv sn = i by omega, hz]; rfl
  | succ j ih =>
    intro i n hi hn hz
    obtain ⟨n, rfl⟩ : ∃ n', n = n' + 1 := ⟨n - 1, by omega⟩
    have hik : i < kmn kv sn := by omega
    have his : i < sn := by omega
    have i24 : inb (nn i) 24 := nn_inb (by omega) (by omega)
    have e1 : zsoN N st S' (nn t) (i + 1) = (zsoN N st S' (nn t) i && (st i || (decide (¬ N i 0 = nn t) || decide (bI (decide (¬ bt (sk S' (N i 1).toNatClampNeg) (N i 2) = 0)) = N i 3)))) := rfl
    have nx := fun q => ih (i + 1) n (by omega) (by omega) q
    obtain ⟨c0, c1, c2, c3⟩ := nt.2 i his
    have m1 : nn (4 * i) + 1 = nn (4 * i + 1) := nn_add (4 * i) 1
    have m2 : nn (4 * i) + 2 = nn (4 * i + 2) := nn_add (4 * i) 2
    have m3 : nn (4 * i) + 3 = nn (4 * i + 3) := nn_add (4 * i) 3
    rw [m_isSo_2]
    simp only [bnd_e, cal_s, onr_s, jon_e, gI_hw, gL_hw, gT_hw, gR_hw, gN_hw, sI_hw, sL_hw, cV_hw, shS_hw, shC_hw, shL_hw, ← bt_def, em_knownBy nt kn hk hs, if_neg (nn_nle hik (show kmn kv sn < 2147483648 by omega)), grd_pos i24, nn_clamp (show i < 2147483648 by omega), hst i hik, bI_eq0, nn_succ, m1, m2, m3, n4', grd_pos (show inb (nn (4 * i)) 96 from nn_inb (by omega) (by omega)), grd_pos (show inb (nn (4 * i + 1)) 96 from nn_inb (by omega) (by omega)), grd_pos (show inb (nn (4 * i + 2)) 96 from nn_inb (by omega) (by omega)), grd_pos (show inb (nn (4 * i + 3)) 96 from nn_inb (by omega) (by omega)), nn_clamp (show 4 * i < 2147483648 by omega), nn_clamp (show 4 * i + 1 < 2147483648 by omega), nn_clamp (show 4 * i + 2 < 2147483648 by omega), nn_clamp (show 4 * i + 3 < 2147483648 by omega), c0, c1, c2, c3]
    cases z0 : st i with
    | true =>
      rw [if_pos (show (!true) = false from rfl)]
      exact nx (by rw [e1, hz, z0]; rfl)
    | false =>
      rw [if_neg (show ¬ (!false) = false by decide)]
      by_cases z1 : N i 0 = nn t
      · rw [if_pos z1]
        rcases wn.2 i his with ⟨t', p, ht', hp, w1, w2, w3⟩ | ⟨w1, -⟩
        · have cp : (N i 1).toNatClampNeg = p := by rw [w2]; exact nn_clamp (by omega)
          have k1 : J 29 (5 + p) = sk S' p := (s.1 p hp).1
          rw [cp] at e1
          simp only [w2, n5p, grd_pos (show inb (nn (5 + p)) 10 from nn_inb (by omega) (by omega)), nn_clamp (show 5 + p < 2147483648 by omega), k1, em_isOf, cal_s, gI_hw, c3]
          have e2 : ∀ X Y : Option (Int32 × HP), (if N i 3 = 1 then (if bI (decide (¬ bt (sk S' p) (N i 2) = 0)) = 1 then X else Y) else (if bI (decide (¬ bt (sk S' p) (N i 2) = 0)) = 0 then X else Y)) = if decide (bI (decide (¬ bt (sk S' p) (N i 2) = 0)) = N i 3) = true then X else Y := by
            intro X Y
            rcases w3 with w3 | w3
            · rw [w3, if_neg (by decide)]
              by_cases y : bI (decide (¬ bt (sk S' p) (N i 2) = 0)) = 0
              · rw [if_pos y, if_pos (decide_eq_true y)]
              · rw [if_neg y, if_neg (fun q => y (of_decide_eq_true q))]
            · rw [w3, if_pos rfl]
              by_cases y : bI (decide (¬ bt (sk S' p) (N i 2) = 0)) = 1
              · rw [if_pos y, if_pos (decide_eq_true y)]
              · rw [if_neg y, if_neg (fun q => y (of_decide_eq_true q))]
          rw [e2]
          cases z2 : decide (bI (decide (¬ bt (sk S' p) (N i 2) = 0)) = N i 3) with
          | false =>
            rw [if_neg (by decide)]
            have := and_stay (f := zsoN N st S' (nn t)) (fun n => rfl) (i := i + 1) (by rw [e1, z0, decide_eq_false (fun y => y z1), z2, Bool.and_eq_false_iff]; exact Or.inr rfl) j
            rw [show i + 1 + j = kmn kv sn by omega] at this
            rw [this]; rfl
          | true =>
            rw [if_pos rfl]
            exact nx (by rw [e1, hz, z2, Bool.or_true, Bool.or_true]; rfl)
        · exact absurd (show nn t < 0 by rw [← z1, w1]; decide) (nn_nonneg ht)
      · rw [if_neg z1]
        exact nx (by rw [e1, hz, decide_eq_true z1, Bool.true_or, Bool.or_true]; rfl)
end B16
