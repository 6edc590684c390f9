/-! PURE LEVEL 37: knew -/
def zfit (K : KT) (F : FT) (N : Nat → Nat → Int32) (st : Nat → Bool) (km : Nat) : Nat → Nat → ST → Bool
  | 0, i, S => zsoN N st S (nn i) km
  | j + 1, i, S => zsoN N st S (nn i) km && zfit K F N st km j (i + 1) (ztalk K F i false S 0).1
section B17
variable {h g : HP} {I0 J0 : Nat → Nat → Int32} {M0 : Nat → Nat → Int64} {c : Nat} {K : KT} {A : Nat → Nat → Nat} {w : Int32} {S : ST} {D : Nat → Nat} {N : Nat → Nat → Int32} {sn : Nat} {kv : Int32}
theorem ec_areSo {I : Nat → Nat → Int32} {L : Nat → Nat → Int64} {F : FT} {S' : ST} (nt : NtC h I D N sn) (kn : I 0 23 = kv) (hk : knv kv sn) (wn : WN K N sn) (s : StC I 25 (zP K) F S') (hP : zP K ≤ 5) {st : Nat → Bool} (hst : ∀ k, k < kmn kv sn → I 43 k = bI (st k)) {t : Nat} (ht : t < 2147483648) : cA_areSo (nn t) (hw h I L) = some (bI (zsoN N st S' (nn t) (kmn kv sn)), hw h I L) := by
  have := kmn_le hk wn.1
  have := wn.1
  have e := ec_areSo1 (L := L) nt kn hk wn s hP hst ht (kmn kv sn) 0 FU (by omega) (by show _ < 1000; omega) rfl
  rw [nn0] at e
  rw [cA_areSo, bnd_e]; exact e
theorem em_isSo {J : Nat → Nat → Int32} {M : Nat → Nat → Int64} {S' : ST} (nt : NtM J N sn) (kn : J 0 72 = kv) (hk : knv kv sn) (wn : WN K N sn) (s : StM J 1 (zP K) S') (hP : zP K ≤ 5) {st : Nat → Bool} (hst : ∀ k, k < kmn kv sn → J 38 k = bI (!st k)) {t : Nat} (ht : t < 2147483648) : m_isSo (nn t) (hw g J M) = some (bI (zsoN N st S' (nn t) (kmn kv sn)), hw g J M) := by
  have := kmn_le hk wn.1
  have := wn.1
  have e := em_isSo1 (g := g) (M := M) nt kn hk wn s hP hst ht (kmn kv sn) 0 FU (by omega) (by show _ < 1000; omega) rfl
  rw [nn0] at e
  rw [m_isSo, bnd_e]; exact e
/-- the component's loop over the talk -/
theorem ec_knew22 {F : FT} (hk : knv kv sn) (wn : WN K N sn) {st : Nat → Bool} : ∀ (j i : Nat) (I : Nat → Nat → Int32) (L : Nat → Nat → Int64) (S' : ST) (n : Nat), CW h I c K A → NtC h I D N sn → I 0 23 = kv → (∀ k, k < kmn kv sn → I 43 k = bI (st k)) → StC I 25 (zP K) F S' → i + j = zT K → j < n → ∃ I' L', cA_isKnew_22 (fun h15 => onr (gR (cV h15) 0 6) (fun b16 => grd (shC (cV h15) b16) (cal (cA_areSo (gI h15 b16 7) h15) (fun r19 h20 => grd (isB r19) (some (r19, h20)))))) n (nn i) (hw h I L) = some (bI (zfit K F N st (kmn kv sn) j i S'), hw h I' L') ∧ FrO 25 I I' := by
  intro j
  induction j with
  | zero =>
    intro i I L S' n W nt kn hst s hi hn
    obtain ⟨n, rfl⟩ : ∃ n', n = n' + 1 := ⟨n - 1, by omega⟩
    have hT := W.2.2.1.2.2.2.1
    have e7 : I c 7 = nn (zT K) := W.2.1.2.2.2.2.1.1
    refine ⟨I, L, ?_, FrO.rfl 25 I⟩
    have e := ec_areSo (L := L) nt kn hk wn s W.p5 hst (t := zT K) (by omega)
    rw [cA_isKnew_22]
    simp only [bnd_e, cal_s, onr_s, jon_e, gI_hw, gL_hw, gT_hw, gR_hw, gN_hw, sI_hw, sL_hw, cV_hw, shS_hw, shC_hw, shL_hw, ← bt_def, W.1, grd_pos W.2.1.1, e7, if_pos (nn_ple (show zT K ≤ i by omega) (show i < 2147483648 by omega)), e, grd_pos (isB_bI _)]
    rw [show i = zT K by omega]; rfl
  | succ j ih =>
    intro i I L S' n W nt kn hst s hi hn
    obtain ⟨n, rfl⟩ : ∃ n', n = n' + 1 := ⟨n - 1, by omega⟩
    have hT := W.2.2.1.2.2.2.1
    have e7 : I c 7 = nn (zT K) := W.2.1.2.2.2.2.1.1
    have e := ec_areSo (L := L) nt kn hk wn s W.p5 hst (t := i) (by omega)
    have nle := nn_nle (show i < zT K by omega) (show zT K < 2147483648 by omega)
    have unf : zfit K F N st (kmn kv sn) (j + 1) i S' = (zsoN N st S' (nn i) (kmn kv sn) && zfit K F N st (kmn kv sn) j (i + 1) (ztalk K F i false S' 0).1) := rfl
    rw [unf]
    cases z : zsoN N st S' (nn i) (kmn kv sn) with
    | false =>
      rw [z, bI_f] at e
      refine ⟨I, L, ?_, FrO.rfl 25 I⟩
      rw [cA_isKnew_22]
      simp only [bnd_e, cal_s, onr_s, jon_e, gI_hw, gL_hw, gT_hw, gR_hw, gN_hw, sI_hw, sL_hw, cV_hw, shS_hw, shC_hw, shL_hw, ← bt_def, W.1, grd_pos W.2.1.1, e7, if_neg nle, e, if_true, Bool.false_and, bI_f]
    | true =>
      rw [z, bI_t] at e
      obtain ⟨I1, L1, e1, s1, f1, -⟩ := ec_talk (L := L) W (sh25 h) s (show i < zT K by omega) false
      have e1 : cS_talk 25 (nn i) 0 (hw h I L) = _ := e1
      rw [ztalk_f] at s1
      have fa := frA.o (o := 25) (by omega) f1
      obtain ⟨I2, L2, e2, f2⟩ := ih (i + 1) I1 L1 _ n (W.frA fa) (nt.fr fa) (by rw [fa.2 23 (by decide) (by decide)]; exact kn) (fun k hk' => by rw [f1 43 (by omega)]; exact hst k hk') s1 (by omega) (by omega)
      refine ⟨I2, L2, ?_, f1.tr f2⟩
      rw [cA_isKnew_22]
      simp only [bnd_e, cal_s, onr_s, jon_e, gI_hw, gL_hw, gT_hw, gR_hw, gN_hw, sI_hw, sL_hw, cV_hw, shS_hw, shC_hw, shL_hw, ← bt_def, W.1, grd_pos W.2.1.1, e7, if_neg nle, e, if_neg i10, e1, nn_succ, e2, Bool.true_and]
theorem em_fits35 {F : FT} (hk : knv kv sn) (wn : WN K N sn) {st : Nat → Bool} : ∀ (j i : Nat) (J : Nat → Nat → Int32) (M : Nat → Nat → Int64) (S' : ST) (n : Nat), MW J K → NtM J N sn → J 0 72 = kv → (∀ k, k < kmn kv sn → J 38 k = bI (!st k)) → StM J 1 (zP K) S' → WS (zP K) S' → FlM J F → J 0 63 = 1 → J 0 62 = 0 → i + j = zT K → j < n → ∃ J' M', m_fits_35 (fun x15 h16 => grd (isB x15) (some (x15, h16))) n (bI (zsoN N st S' (nn i) (kmn kv sn))) (nn i) (hw g J M) = some (bI (zfit K F N st (kmn kv sn) j i S'), hw g J' M') ∧ frM 1 J J' ∧ frL2 false M M' := by
  intro j
  induction j with
  | zero =>
    intro i J M S' n V nt kn hst s ws fl h3 h2 hi hn
    obtain ⟨n, rfl⟩ : ∃ n', n = n' + 1 := ⟨n - 1, by omega⟩
    have hT := V.2.1.2.2.2.1
    refine ⟨J, M, ?_, frM.rfl 1 J, frL2.rfl _ _⟩
    rw [m_fits_35]
    simp only [bnd_e, cal_s, onr_s, jon_e, gI_hw, gL_hw, gT_hw, gR_hw, gN_hw, sI_hw, sL_hw, cV_hw, shS_hw, shC_hw, shL_hw, ← bt_def, V.1.1.2.2.2.1, if_pos (nn_ple (show zT K ≤ i by omega) (show i < 2147483648 by omega)), grd_pos (isB_bI _)]
    rfl
  | succ j ih =>
    intro i J M S' n V nt kn hst s ws fl h3 h2 hi hn
    obtain ⟨n, rfl⟩ : ∃ n', n = n' + 1 := ⟨n - 1, by omega⟩
    have hT := V.2.1.2.2.2.1
    have nle := nn_nle (show i < zT K by omega) (show zT K < 2147483648 by omega)
    have unf : zfit K F N st (kmn kv sn) (j + 1) i S' = (zsoN N st S' (nn i) (kmn kv sn) && zfit K F N st (kmn kv sn) j (i + 1) (ztalk K F i false S' 0).1) := rfl
    rw [unf]
    cases z : zsoN N st S' (nn i) (kmn kv sn) with
    | false =>
      refine ⟨J, M, ?_, frM.rfl 1 J, frL2.rfl _ _⟩
      rw [m_fits_35]
      simp only [bnd_e, cal_s, onr_s, jon_e, gI_hw, gL_hw, gT_hw, gR_hw, gN_hw, sI_hw, sL_hw, cV_hw, shS_hw, shC_hw, shL_hw, ← bt_def, V.1.1.2.2.2.1, if_neg nle, bI_f, if_true, Bool.false_and]
      exact grd_pos (Or.inl rfl)
    | true =>
      obtain ⟨J1, M1, e1, s1, f1, l1, -⟩ := em_talk (h := g) (L := M) V s ws fl h3 (dr := false) h2 (num := 0) (fun z => by cases z) (show i < zT K by omega)
      have V1 := V.fr f1
      have nt1 : NtM J1 N sn := nt.fr (frB.m f1)
      have kn1 : J1 0 72 = kv := by rw [f1.2.1 72 (by decide)]; exact kn
      have hst1 : ∀ k, k < kmn kv sn → J1 38 k = bI (!st k) := fun k hk' => by rw [f1.1 38 (by decide) (by decide) (by decide) (by decide)]; exact hst k hk'
      have e2 := em_isSo (g := g) (M := M1) nt1 kn1 hk wn s1 V.2.1.2.1 hst1 (t := i + 1) (by omega)
      obtain ⟨J3, M3, e3, f3, l3⟩ := ih (i + 1) J1 M1 _ n V1 nt1 kn1 hst1 s1 (ztalk_ws V.2 ws (show i < zT K by omega) false 0) (fl.fr f1) (by rw [f1.2.1 63 (by decide)]; exact h3) (by rw [f1.2.1 62 (by decide)]; exact h2) (by omega) (by omega)
      refine ⟨J3, M3, ?_, f1.tr f3, l1.tr l3⟩
      rw [m_fits_35]
      simp only [bnd_e, cal_s, onr_s, jon_e, gI_hw, gL_hw, gT_hw, gR_hw, gN_hw, sI_hw, sL_hw, cV_hw, shS_hw, shC_hw, shL_hw, ← bt_def, V.1.1.2.2.2.1, if_neg nle, bI_t, if_neg i10, e1, nn_succ, e2, e3, Bool.true_and]
theorem ec_isKnew {I : Nat → Nat → Int32} {L : Nat → Nat → Int64} (W : CW h I c K A) (nt : NtC h I D N sn) (kn : I 0 23 = kv) (hk : knv kv sn) (wn : WN K N sn) {st : Nat → Bool} (hst : ∀ k, k < kmn kv sn → I 43 k = bI (st k)) {p : Nat} (hp : p < zP K) (x : Int32) : ∃ I' L', cA_isKnew (nn p) x (hw h I L) = some (bI (zfit K (-1, I 25 8, 0) N st (kmn kv sn) (zT K) 0 (zput (zbeg K) p x)), hw h I' L') ∧ FrO 25 I I' := by
  have hP := W.p5
  have hT := W.2.2.1.2.2.2.1
  obtain ⟨I1, e1, s1, f1, -⟩ := ec_begin (L := L) W (sh25 h)
  have f2 : FrO 25 I1 (u2 I1 26 p (I1 26 p ||| x)) := FrO.u2 _ _ _ (by omega) (by omega)
  have f12 := f1.tr f2
  have fa := frA.o (o := 25) (by omega) f12
  have s2 : StC (u2 I1 26 p (I1 26 p ||| x)) 25 (zP K) (-1, I 25 8, 0) (zput (zbeg K) p x) := s1.put hp x
  obtain ⟨I3, L3, e3, f3⟩ := ec_knew22 hk wn (st := st) (zT K) 0 _ L _ FU (W.frA fa) (nt.fr fa) (by rw [fa.2 23 (by decide) (by decide)]; exact kn) (fun k hk' => by rw [f12 43 (by omega)]; exact hst k hk') s2 (by omega) (by show _ < 1000; omega)
  rw [nn0] at e3
  refine ⟨I3, L3, ?_, f12.tr f3⟩
  simp only [cA_isKnew, bnd_e, cal_s, onr_s, jon_e, gI_hw, gL_hw, gT_hw, gR_hw, gN_hw, sI_hw, sL_hw, cV_hw, shS_hw, shC_hw, shL_hw, ← bt_def, e1, grd_pos (show inb (nn p) 5 from nn_inb (by omega) (by omega)), nn_clamp (show p < 2147483648 by omega)]
  exact e3
theorem zput0 {S : ST} {p : Nat} : zput S p 0 = S := by
  refine Prod.ext (funext fun q => ?_) rfl
  show (if q = p then sk S q ||| 0 else sk S q) = sk S q
  by_cases z : q = p
  · rw [if_pos z, Int32.or_zero]
  · rw [if_neg z]
theorem em_fits {J : Nat → Nat → Int32} {M : Nat → Nat → Int64} (V : MW J K) (nt : NtM J N sn) (kn : J 0 72 = kv) (hk : knv kv sn) (wn : WN K N sn) {st : Nat → Bool} (hst : ∀ k, k < kmn kv sn → J 38 k = bI (!st k)) {p f : Nat} (hp : p < zP K) (hf : f ≤ zF K) (w : Int32) : ∃ J' M', m_fits (nn p) (nn f) (hw g J M) = some (bI (zfit K (-1, w, 0) N st (kmn kv sn) (zT K) 0 (zput (zbeg K) p (if f < zF K then (1 : Int32) <<< (nn f &&& 31) else 0))), hw g J' M') ∧ frB J J' ∧ frL2 false M M' ∧ J' 38 = J 38 := by
  have hP := V.2.1.2.1
  have hF := V.2.1.1
  have hT := V.2.1.2.2.2.1
  obtain ⟨J1, e1, t1, fl, h3, h2, f1⟩ := em_layText (h := g) (L := M) V
  have j38 : J1 38 = J 38 := by
    obtain ⟨I1, e1', s1, b1, c1, g1⟩ := em_first (h := g) (I := J) (L := M) V (b := 1) (by omega)
    have e1' : m_atFirst 1 (hw g J M) = _ := e1'
    have e2' : m_layTextTried (hw g J M) = some ((), hw g (u2 (plI I1) 0 63 1) M) := by simp only [m_layTextTried, bnd_e, cal_s, onr_s, jon_e, gI_hw, gL_hw, gT_hw, gR_hw, gN_hw, sI_hw, sL_hw, cV_hw, shS_hw, shC_hw, shL_hw, ← bt_def, e1', em_plain]
    rw [e2'] at e1
    have e3' : u2 (plI I1) 0 63 1 = J1 := congrArg (fun r : Unit × HP => gI r.2) (Option.some.inj e1)
    rw [← e3', u2_ne (by decide), plI_ne _ (by decide)]
    exact g1 38 (by omega)
  have key : ∃ J2, (∀ X : HP → Option (Int32 × HP), jon X (fun j3 => if nn (zF K) ≤ nn f then j3 (hw g J1 M) else grd (inb (nn (5 + p)) 10) (grd (inb (nn (5 + p)) 10) (bnd (sI (hw g J1 M) 29 (5 + p) (J1 29 (5 + p) ||| ((1 : Int32) <<< (nn f &&& 31)))) (fun h18 => j3 h18)))) = X (hw g J2 M)) ∧ StM J2 1 (zP K) (zput (zbeg K) p (if f < zF K then (1 : Int32) <<< (nn f &&& 31) else 0)) ∧ (∀ x, x ≠ 29 → J2 x = J1 x) ∧ frB J1 J2 := by
    by_cases z : f < zF K
    · refine ⟨u2 J1 29 (5 + p) (J1 29 (5 + p) ||| ((1 : Int32) <<< (nn f &&& 31))), fun X => ?_, by rw [if_pos z]; exact t1.put hp _, fun x hx => u2_ne hx, frB.us _ _ (by omega)⟩
      rw [jon_e, if_neg (nn_nle z (by omega)), grd_pos (nn_inb (by omega) (by omega)), grd_pos (nn_inb (by omega) (by omega)), bnd_e, sI_hw]
    · refine ⟨J1, fun X => ?_, by rw [if_neg z, zput0]; exact t1, fun _ _ => rfl, frB.rfl _⟩
      rw [jon_e, if_pos (nn_ple (by omega) (by omega))]
  obtain ⟨J2, e2, t2, g2, f2⟩ := key
  have f12 := f1.tr f2
  have V2 := V.frB f12
  have nt2 := nt.fr f12
  have kn2 : J2 0 72 = kv := by rw [f12.2.1 72 (by decide) (by decide) (by omega)]; exact kn
  have hst2 : ∀ k, k < kmn kv sn → J2 38 k = bI (!st k) := fun k hk' => by rw [g2 38 (by decide), j38]; exact hst k hk'
  have ws2 : WS (zP K) (zput (zbeg K) p (if f < zF K then (1 : Int32) <<< (nn f &&& 31) else 0)) := by
    refine (zbeg_ws V.2).put ?_
    by_cases z : f < zF K
    · rw [if_pos z]; exact shl255 (by omega)
    · rw [if_neg z]; rfl
  have e3 : m_isSo 0 (hw g J2 M) = _ := em_isSo (g := g) (M := M) nt2 kn2 hk wn t2 hP hst2 (t := 0) (by omega)
  obtain ⟨J4, M4, e4, f4, l4⟩ := em_fits35 (g := g) hk wn (zT K) 0 J2 M _ FU V2 nt2 kn2 hst2 t2 ws2 ((fl w).ne0 (g2 0 (by decide))) (by rw [g2 0 (by decide)]; exact h3) (by rw [g2 0 (by decide)]; exact h2) (by omega) (by show _ < 1000; omega)
  rw [nn0] at e4
  refine ⟨J4, M4, ?_, f12.tr (frB.m f4), l4, by rw [f4.1 38 (by decide) (by decide) (by decide) (by decide), g2 38 (by decide), j38]⟩
  rw [m_fits, e1, cal_s]
  simp only [gI_hw, (V.frB f1).1.1.1, n5p, nn_clamp (show 5 + p < 2147483648 by omega)]
  rw [e2]
  simp only [bnd_e, cal_s, onr_s, jon_e, gI_hw, gL_hw, gT_hw, gR_hw, gN_hw, sI_hw, sL_hw, cV_hw, shS_hw, shC_hw, shL_hw, ← bt_def, e3]
  exact e4
theorem b_knew3 {p : Nat} (hp : p < zP K) (hk : knv kv sn) (wn : WN K N sn) {st : Nat → Bool} : ∀ (j i : Nat) (v : Int32) (I J : Nat → Nat → Int32) (L M : Nat → Nat → Int64) (n m : Nat), At h I0 J0 M0 c K A w S I J M → NtC h I D N sn → NtM J N sn → I 0 23 = kv → J 0 72 = kv → (∀ k, k < kmn kv sn → I 43 k = bI (st k)) → (∀ k, k < kmn kv sn → J 38 k = bI (!st k)) → i + j = zF K + 1 → j < n → j < m → B2 h g I0 J0 M0 (cA_knew_113 (nn p) (nn (zF K)) (fun x h1 => some (x, h1)) n v (nn i) (hw h I L)) (m_knew_95 (nn p) (fun x h1 => some (x, h1)) m v (nn i) (hw g J M)) := by
  intro j
  induction j with
  | zero =>
    intro i v I J L M n m a nt nm kn km hst hst' hi hn hm
    obtain ⟨n, rfl⟩ : ∃ n', n = n' + 1 := ⟨n - 1, by omega⟩
    obtain ⟨m, rfl⟩ : ∃ m', m = m' + 1 := ⟨m - 1, by omega⟩
    have hF := a.1.1.1.2.2.1.1
    rw [cA_knew_113, m_knew_95]
    simp only [bnd_e, cal_s, onr_s, jon_e, gI_hw, gL_hw, gT_hw, gR_hw, gN_hw, sI_hw, sL_hw, cV_hw, shS_hw, shC_hw, shL_hw, ← bt_def, a.1.2.1.1.1.1.1, if_pos (nn_plt (show zF K < i by omega) (show i < 2147483648 by omega))]
    exact a.end _
  | succ j ih =>
    intro i v I J L M n m a nt nm kn km hst hst' hi hn hm
    obtain ⟨n, rfl⟩ : ∃ n', n = n' + 1 := ⟨n - 1, by omega⟩
    obtain ⟨m, rfl⟩ : ∃ m', m = m' + 1 := ⟨m - 1, by omega⟩
    have W := a.1.1.1
    have V := a.1.2.1.1
    have hF := W.2.2.1.1
    have hiF : i ≤ zF K := by omega
    obtain ⟨I1, L1, e1, f1⟩ := ec_isKnew (L := L) W nt kn hk wn hst hp (if i < zF K then (1 : Int32) <<< (nn i &&& 31) else 0)
    obtain ⟨J1, M1, e2, f2, l2, j38⟩ := em_fits (g := g) (M := M) V nm km hk wn hst' hp hiF (I 25 8)
    have fa := frA.o (o := 25) (by omega) f1
    have a2 := a.to fa f2 l2
    have nx := fun v => ih (i + 1) v I1 J1 L1 M1 n m a2 (nt.fr fa) (nm.fr f2) (by rw [fa.2 23 (by decide) (by decide)]; exact kn) (by rw [f2.2.1 72 (by decide) (by decide) (by omega)]; exact km) (fun k hk' => by rw [f1 43 (by omega)]; exact hst k hk') (fun k hk' => by rw [j38]; exact hst' k hk') (by omega) (by omega) (by omega)
    rw [cA_knew_113, m_knew_95]
    have cj : ∀ (X : Int32 → Option (Int32 × HP)), jon X (fun j44 => if nn (zF K) ≤ nn i then j44 0 else j44 ((1 : Int32) <<< (nn i &&& 31))) = X (if i < zF K then (1 : Int32) <<< (nn i &&& 31) else 0) := by
      intro X
      rw [jon_e]
      by_cases z : i < zF K
      · rw [if_neg (nn_nle z (by omega)), if_pos z]
      · rw [if_pos (nn_ple (by omega) (by omega)), if_neg z]
    rw [if_neg (nn_nlt hiF (by omega)), cj]
    simp only [bnd_e, cal_s, onr_s, jon_e, gI_hw, gL_hw, gT_hw, gR_hw, gN_hw, sI_hw, sL_hw, cV_hw, shS_hw, shC_hw, shL_hw, ← bt_def, V.1.1.1, if_neg (nn_nlt hiF (show zF K < 2147483648 by omega)), e1, e2, bI_eq0, nn_succ]
    cases zfit K (-1, I 25 8, 0) N st (kmn kv sn) (zT K) 0 (zput (zbeg K) p (if i < zF K then (1 : Int32) <<< (nn i &&& 31) else 0)) with
    | false => simp only [eq_self, Bool.true_eq_false, if_true, if_false]; exact nx _
    | true => simp only [eq_self, Bool.true_eq_false, if_true, if_false]; exact nx _
theorem ec_k12 (hk : knv kv sn) (hs : sn ≤ 24) (f1 : Int32) : ∀ (j i : Nat) (I : Nat → Nat → Int32) (L : Nat → Nat → Int64) (n : Nat), NtC h I D N sn → I 0 23 = kv → (∀ x, x < i → I 43 x = 0) → i + j = kmn kv sn → j < n → ∃ I', (∀ k, cA_knew_12 f1 k n (nn i) (hw h I L) = k (hw h I' L)) ∧ (∀ x, x < kmn kv sn → I' 43 x = 0) ∧ ∀ x, x ≠ 43 → I' x = I x := by
  have hkm := kmn_le hk hs
  intro j
  induction j with
  | zero =>
    intro i I L n nt kn hz hi hn
    obtain ⟨n, rfl⟩ : ∃ n', n = n' + 1 := ⟨n - 1, by omega⟩
    refine ⟨I, fun k => ?_, fun x hx => hz x (by omega), fun _ _ => rfl⟩
    rw [cA_knew_12]
    simp only [bnd_e, cal_s, onr_s, jon_e, gI_hw, gL_hw, gT_hw, gR_hw, gN_hw, sI_hw, sL_hw, cV_hw, shS_hw, shC_hw, shL_hw, ← bt_def, ec_knownMany nt kn hk hs, if_pos (nn_ple (show kmn kv sn ≤ i by omega) (show i < 2147483648 by omega))]
  | succ j ih =>
    intro i I L n nt kn hz hi hn
    obtain ⟨n, rfl⟩ : ∃ n', n = n' + 1 := ⟨n - 1, by omega⟩
    have fa : frA I (u2 I 43 i 0) := frA.u _ (by omega)
    obtain ⟨I1, e1, a1, f1⟩ := ih (i + 1) (u2 I 43 i 0) L n (nt.fr fa) (by rw [fa.2 23 (by decide) (by decide)]; exact kn) (fun x hx => by
      by_cases z : x = i
      · rw [z, u2_same]
      · rw [u2_nk _ _ z]; exact hz x (by omega)) (by omega) (by omega)
    refine ⟨I1, fun k => ?_, a1, fun x hx => (f1 x hx).trans (u2_ne hx)⟩
    rw [cA_knew_12]
    simp only [bnd_e, cal_s, onr_s, jon_e, gI_hw, gL_hw, gT_hw, gR_hw, gN_hw, sI_hw, sL_hw, cV_hw, shS_hw, shC_hw, shL_hw, ← bt_def, ec_knownMany nt kn hk hs, if_neg (nn_nle (show i < kmn kv sn by omega) (show kmn kv sn < 2147483648 by omega)), grd_pos (show inb (nn i) 24 from nn_inb (by omega) (by omega)), nn_clamp (show i < 2147483648 by omega), nn_succ, e1]
theorem em_k17 (hk : knv kv sn) (hs : sn ≤ 24) (f1 : Int32) : ∀ (j i : Nat) (J : Nat → Nat → Int32) (M : Nat → Nat → Int64) (n : Nat), NtM J N sn → J 0 72 = kv → (∀ x, x < i → J 38 x = 1) → i + j = kmn kv sn → j < n → ∃ J', (∀ k, m_knew_17 f1 k n (nn i) (hw g J M) = k (hw g J' M)) ∧ (∀ x, x < kmn kv sn → J' 38 x = 1) ∧ ∀ x, x ≠ 38 → J' x = J x := by
  have hkm := kmn_le hk hs
  intro j
  induction j with
  | zero =>
    intro i J M n nt kn hz hi hn
    obtain ⟨n, rfl⟩ : ∃ n', n = n' + 1 := ⟨n - 1, by omega⟩
    refine ⟨J, fun k => ?_, fun x hx => hz x (by omega), fun _ _ => rfl⟩
    rw [m_knew_17]
    simp only [bnd_e, cal_s, onr_s, jon_e, gI_hw, gL_hw, gT_hw, gR_hw, gN_hw, sI_hw, sL_hw, cV_hw, shS_hw, shC_hw, shL_hw, ← bt_def, em_knownBy nt kn hk hs, if_pos (nn_ple (show kmn kv sn ≤ i by omega) (show i < 2147483648 by omega))]
  | succ j ih =>
    intro i J M n nt kn hz hi hn
    obtain ⟨n, rfl⟩ : ∃ n', n = n' + 1 := ⟨n - 1, by omega⟩
    have fa : frB J (u2 J 38 i 1) := frB.us _ _ (by omega)
    obtain ⟨J1, e1, a1, f1⟩ := ih (i + 1) (u2 J 38 i 1) M n (nt.fr fa) (by rw [u2_ne (by decide)]; exact kn) (fun x hx => by
      by_cases z : x = i
      · rw [z, u2_same]
      · rw [u2_nk _ _ z]; exact hz x (by omega)) (by omega) (by omega)
    refine ⟨J1, fun k => ?_, a1, fun x hx => (f1 x hx).trans (u2_ne hx)⟩
    rw [m_knew_17]
    simp only [bnd_e, cal_s, onr_s, jon_e, gI_hw, gL_hw, gT_hw, gR_hw, gN_hw, sI_hw, sL_hw, cV_hw, shS_hw, shC_hw, shL_hw, ← bt_def, em_knownBy nt kn hk hs, if_neg (nn_nle (show i < kmn kv sn by omega) (show kmn kv sn < 2147483648 by omega)), grd_pos (show inb (nn i) 24 from nn_inb (by omega) (by omega)), nn_clamp (show i < 2147483648 by omega), nn_succ, e1]
def vv (i : Nat) : Int32 := nn i - 1
theorem vv_s (i : Nat) : vv (i + 1) = nn i := nn_sub (a := i + 1) (b := 1) (by omega)
theorem vv_m (i : Nat) : nn i + (-1 : Int32) = vv i := (Int32.sub_eq_add_neg _ _).symm
theorem b_knew2 (hk : knv kv sn) (wn : WN K N sn) (f1 : Int32) (kc km : HP → Option (Int32 × HP)) (L M : Nat → Nat → Int64) (hcont : ∀ (I J : Nat → Nat → Int32) (st : Nat → Bool), At h I0 J0 M0 c K A w S I J M → NtC h I D N sn → NtM J N sn → I 0 23 = kv → J 0 72 = kv → (∀ k, k < kmn kv sn → I 43 k = bI (st k)) → (∀ k, k < kmn kv sn → J 38 k = bI (!st k)) → B2 h g I0 J0 M0 (kc (hw h I L)) (km (hw g J M))) : ∀ (i : Nat) (I J : Nat → Nat → Int32) (st : Nat → Bool) (n m : Nat), i ≤ kmn kv sn → At h I0 J0 M0 c K A w S I J M → NtC h I D N sn → NtM J N sn → I 0 23 = kv → J 0 72 = kv → (∀ k, k < kmn kv sn → I 43 k = bI (st k)) → (∀ k, k < kmn kv sn → J 38 k = bI (!st k)) → i < n → i < m → B2 h g I0 J0 M0 (cA_knew_40 f1 kc n (vv i) (hw h I L)) (m_knew_45 f1 km m (vv i) (hw g J M)) := by
  have hs := wn.1
  have hkm := kmn_le hk hs
  intro i
  induction i with
  | zero =>
    intro I J st n m hi a nt nm kn kn' hst hst' hn hm
    obtain ⟨n, rfl⟩ : ∃ n', n = n' + 1 := ⟨n - 1, by omega⟩
    obtain ⟨m, rfl⟩ : ∃ m', m = m' + 1 := ⟨m - 1, by omega⟩
    rw [cA_knew_40, m_knew_45, if_pos (show vv 0 < 0 by decide), if_pos (show vv 0 < 0 by decide)]
    exact hcont I J st a nt nm kn kn' hst hst'
  | succ i ih =>
    intro I J st n m hi a nt nm kn kn' hst hst' hn hm
    obtain ⟨n, rfl⟩ : ∃ n', n = n' + 1 := ⟨n - 1, by omega⟩
    obtain ⟨m, rfl⟩ : ∃ m', m = m' + 1 := ⟨m - 1, by omega⟩
    have hik : i < kmn kv sn := by omega
    have his : i < sn := by omega
    have i24 : inb (nn i) 24 := nn_inb (by omega) (by omega)
    obtain ⟨c0, c1, c2, c3⟩ := nm.2 i his
    have m1 : nn (4 * i) + 1 = nn (4 * i + 1) := nn_add (4 * i) 1
    rw [vv_s, cA_knew_40, m_knew_45]
    simp only [bnd_e, cal_s, onr_s, jon_e, gI_hw, gL_hw, gT_hw, gR_hw, gN_hw, sI_hw, sL_hw, cV_hw, shS_hw, shC_hw, shL_hw, ← bt_def, if_neg (nn_nonneg (show i < 2147483648 by omega)), grd_pos i24, nn_clamp (show i < 2147483648 by omega), hst i hik, hst' i hik, bI_eq0, ec_getN nt hs his, vv_m, n4', m1, grd_pos (show inb (nn (4 * i)) 96 from nn_inb (by omega) (by omega)), grd_pos (show inb (nn (4 * i + 1)) 96 from nn_inb (by omega) (by omega)), nn_clamp (show 4 * i < 2147483648 by omega), nn_clamp (show 4 * i + 1 < 2147483648 by omega), c0, c1]
    cases z0 : st i with
    | true =>
      rw [if_neg (by decide), if_pos (show (!true) = false from rfl)]
      exact ih I J st n m (by omega) a nt nm kn kn' hst hst' (by omega) (by omega)
    | false =>
      rw [if_pos rfl, if_neg (show ¬ (!false) = false by decide)]
      obtain ⟨-, q⟩ := nt.2 i his
      rcases q with ⟨x0, x1, -⟩ | ⟨x0, x1, x2⟩
      · rcases wn.2 i his with ⟨t', p, ht', hp, w1, -⟩ | ⟨w1, -⟩
        · have hT := a.1.1.1.2.2.1.2.2.2.1
          have p0 : 0 ≤ N i 0 := by rw [w1]; exact nn_ple (n := 0) (by omega) (by omega)
          rw [if_pos p0]
          simp only [grd_pos (show (gT (cV h) (D i)).1 = 14 ∨ (gT (cV h) (D i)).1 = 15 from Or.inl x1), cF_struck, kX20_struck, bnd_e, cal_s, onr_s, jon_e, gI_hw, gL_hw, gT_hw, gR_hw, gN_hw, sI_hw, sL_hw, cV_hw, shS_hw, shC_hw, shL_hw, ← bt_def, if_pos x1, if_true]
          exact ih I J st n m (by omega) a nt nm kn kn' hst hst' (by omega) (by omega)
        · exact absurd w1 x0
      · rcases wn.2 i his with ⟨t', p, ht', hp, w1, -⟩ | ⟨-, x, hx, w2⟩
        · exfalso
          rw [x0] at w1
          have hT := a.1.1.1.2.2.1.2.2.2.1
          exact absurd (show nn t' < 0 by rw [← w1]; decide) (nn_nonneg (by omega))
        · have n0 : ¬ 0 ≤ N i 0 := by rw [x0]; decide
          have b' : ¬ (gT (cV h) (D i)).1 = 14 := by rw [x1]; decide
          have nx : ¬ nn x = -1 := fun y => absurd (show nn x < 0 by rw [y]; decide) (nn_nonneg (by omega))
          have ix : inb (nn x) 24 := nn_inb (by omega) (by omega)
          rw [if_neg n0]
          simp only [grd_pos (show (gT (cV h) (D i)).1 = 14 ∨ (gT (cV h) (D i)).1 = 15 from Or.inr x1), cF_struck, kX22_struck, bnd_e, cal_s, onr_s, jon_e, gI_hw, gL_hw, gT_hw, gR_hw, gN_hw, sI_hw, sL_hw, cV_hw, shS_hw, shC_hw, shL_hw, ← bt_def, if_neg b', if_pos x1, grd_pos x1, x2, w2, if_neg nx, ec_getN nt hs his, grd_pos ix, nn_clamp (show x < 2147483648 by omega), vv_m]
          have fa : frA I (u2 I 43 x 1) := frA.u _ (by omega)
          have fb : frB J (u2 J 38 x 0) := frB.us _ _ (by omega)
          refine ih (u2 I 43 x 1) (u2 J 38 x 0) (fun k => if k = x then true else st k) n m (by omega) (a.to fa fb (frL2.rfl _ _)) (nt.fr fa) (nm.fr fb) (by rw [fa.2 23 (by decide) (by decide)]; exact kn) (by rw [u2_ne (by decide)]; exact kn') (fun k hk' => ?_) (fun k hk' => ?_) (by omega) (by omega)
          · by_cases y : k = x
            · rw [y, u2_same, if_pos rfl]; rfl
            · rw [u2_nk _ _ y, if_neg y]; exact hst k hk'
          · by_cases y : k = x
            · rw [y, u2_same, if_pos rfl]; rfl
            · rw [u2_nk _ _ y, if_neg y]; exact hst' k hk'
theorem b_knew {I J : Nat → Nat → Int32} {L M : Nat → Nat → Int64} (a : At h I0 J0 M0 c K A w S I J M) (nt : NtC h I D N sn) (nm : NtM J N sn) (kn : I 0 23 = kv) (kn' : J 0 72 = kv) (hk : knv kv sn) (wn : WN K N sn) (x : Int32) : B2 h g I0 J0 M0 (cA_knew x (hw h I L)) (m_knew x (hw g J M)) := by
  have f0 : frB J (u2 J 0 2 0) := frB.u0 _ _ (by omega)
  have a := a.thr
  have nm := nm.fr f0
  have kn' : u2 J 0 2 0 0 72 = kv := by rw [u2_nk _ _ (by decide)]; exact kn'
  have W := a.1.1.1
  have V := a.1.2.1.1
  have hP := W.p5
  have hs := wn.1
  have hkm := kmn_le hk hs
  simp only [cA_knew, m_knew, bnd_e, cal_s, onr_s, jon_e, gI_hw, gL_hw, gT_hw, gR_hw, gN_hw, sI_hw, sL_hw, cV_hw, shS_hw, shC_hw, shL_hw, ← bt_def, ec_isPerson W, em_isPerson V, bI_eq0]
  cases z : zin x (zP K) with
  | false => simp only [eq_self, Bool.true_eq_false, if_true, if_false]; exact a.end _
  | true =>
    simp only [eq_self, Bool.true_eq_false, if_true, if_false]
    obtain ⟨p, hp, rfl⟩ := zin_t (by omega) z
    obtain ⟨I1, e1, s1, f1⟩ := ec_k12 (h := h) hk hs (nn p) (kmn kv sn) 0 I L FU nt kn (fun x hx => by omega) (by omega) (by show _ < 1000; omega)
    obtain ⟨J1, e2, s2, f2⟩ := em_k17 (g := g) hk hs (nn p) (kmn kv sn) 0 (u2 J 0 2 0) M FU nm kn' (fun x hx => by omega) (by omega) (by show _ < 1000; omega)
    rw [nn0] at e1 e2
    have fa : frA I I1 := ⟨fun x h0 h1 => f1 x (by omega), fun k _ _ => by rw [f1 0 (by decide)]⟩
    have fb : frB (u2 J 0 2 0) J1 := ⟨fun x h0 h1 => f2 x (by omega), fun k _ _ _ => by rw [f2 0 (by decide)], fun k _ => ⟨by rw [f2 29 (by decide)], by rw [f2 30 (by decide)], by rw [f2 31 (by decide)], by rw [f2 32 (by decide)]⟩, by rw [f2 33 (by decide)]⟩
    have a1 := a.to fa fb (frL2.rfl _ M)
    have nt1 := nt.fr fa
    have nm1 := nm.fr fb
    have kn1 : I1 0 23 = kv := by rw [fa.2 23 (by decide) (by decide)]; exact kn
    have kn1' : J1 0 72 = kv := by rw [f2 0 (by decide)]; exact kn'
    simp only [e1, e2, ec_knownMany nt1 kn1 hk hs, em_knownBy nm1 kn1' hk hs, bnd_e, cal_s, onr_s, jon_e, gI_hw, gL_hw, gT_hw, gR_hw, gN_hw, sI_hw, sL_hw, cV_hw, shS_hw, shC_hw, shL_hw, ← bt_def]
    refine b_knew2 (c := c) (A := A) (w := w) (S := S) (D := D) (N := N) hk wn (nn p) _ _ L M (fun I J st a nt nm kn kn' hst hst' => ?_) (kmn kv sn) I1 J1 (fun _ => false) FU FU (Nat.le_refl _) a1 nt1 nm1 kn1 kn1' (fun k hk' => s1 k hk') (fun k hk' => s2 k hk') (by show _ < 1000; omega) (by show _ < 1000; omega)
    have W := a.1.1.1
    have hF := W.2.2.1.1
    simp only [W.1, bnd_e, cal_s, onr_s, jon_e, gI_hw, gL_hw, gT_hw, gR_hw, gN_hw, sI_hw, sL_hw, cV_hw, shS_hw, shC_hw, shL_hw, ← bt_def, grd_pos W.2.1.1, grd_pos W.2.1.2.1.1, ec_facts W]
    exact b_knew3 hp hk wn (zF K + 1) 0 0 I J L M FU FU a nt nm kn kn' hst hst' (by omega) (by show _ < 1000; omega) (by show _ < 1000; omega)
end B17
