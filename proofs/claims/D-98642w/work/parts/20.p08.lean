/-! PURE LEVEL 8: begin, talk on the component's side; rounds come to an end -/
def zbeg (K : KT) : ST := ((fun p => zt K 6 p), (fun _ => 0), (fun p => zt K 5 p), (fun _ => 0), 0)
def zw (K : KT) (k : Nat) : Nat × Nat × Nat := ((zt K 12 k).toNatClampNeg, (zt K 13 k).toNatClampNeg, (zt K 14 k).toNatClampNeg)
def ztalk (K : KT) (F : FT) (k : Nat) (dr : Bool) (S : ST) (num : Int32) : ST × Int32 := if zcan K F S (zw K k).1 (zw K k).2.1 (zw K k).2.2 false = true then (zask K F S (zw K k).1 (zw K k).2.1 (zw K k).2.2 dr num).2 else (S, num)
theorem WK.tk {K : KT} (w : WK K) {k : Nat} (hk : k < zT K) : ((zw K k).1 < zP K ∧ zt K 12 k = nn (zw K k).1) ∧ ((zw K k).2.1 < zP K ∧ zt K 13 k = nn (zw K k).2.1) ∧ ((zw K k).2.2 < zQ K ∧ zt K 14 k = nn (zw K k).2.2) := by
  obtain ⟨⟨h1, h2, h3, h4, h5⟩, -, -, w1, -⟩ := w
  obtain ⟨⟨a, ha, ea⟩, ⟨b, hb, eb⟩, ⟨q, hq, eq⟩⟩ := w1 k hk
  unfold zw
  rw [ea, eb, eq, nn_clamp (show a < 2147483648 by omega), nn_clamp (show b < 2147483648 by omega), nn_clamp (show q < 2147483648 by omega)]
  exact ⟨⟨ha, rfl⟩, ⟨hb, rfl⟩, hq, rfl⟩
section C8
variable {h : HP} {c o P : Nat} {K : KT} {A : Nat → Nat → Nat} {F : FT} {S : ST}
theorem ec_begin2 (s : shS (cV h) o) : ∀ (j i : Nat) (I : Nat → Nat → Int32) (fuel : Nat), CW h I c K A → i + j = zP K → (∀ p, p < i → I (o + 1) p = zt K 6 p ∧ I (o + 2) p = zt K 5 p ∧ I (o + 3) p = 0 ∧ I (o + 4) p = 0) → j < fuel → ∃ I', (∀ k L, cS_begin_2 o k fuel (nn i) (hw h I L) = k (hw h I' L)) ∧ (∀ p, p < zP K → I' (o + 1) p = zt K 6 p ∧ I' (o + 2) p = zt K 5 p ∧ I' (o + 3) p = 0 ∧ I' (o + 4) p = 0) ∧ ∀ x, x ≤ o ∨ o + 4 < x → I' x = I x := by
  intro j
  induction j with
  | zero =>
    intro i I fuel W hi hS hf
    obtain ⟨n, rfl⟩ : ∃ n, fuel = n + 1 := ⟨fuel - 1, by omega⟩
    have hP := W.p5
    refine ⟨I, fun k L => ?_, fun p hp => hS p (by omega), fun _ _ => rfl⟩
    simp only [cS_begin_2, bnd_e, cal_s, onr_s, jon_e, gI_hw, gL_hw, gT_hw, gR_hw, gN_hw, sI_hw, sL_hw, cV_hw, shS_hw, shC_hw, shL_hw, ← bt_def, grd_pos s, ec_persons W, if_pos (nn_ple (show zP K ≤ i by omega) (by omega))]
  | succ j ih =>
    intro i I fuel W hi hS hf
    obtain ⟨n, rfl⟩ : ∃ n, fuel = n + 1 := ⟨fuel - 1, by omega⟩
    have hP := W.p5
    have hip : i < zP K := by omega
    have hi2 : i < 2147483648 := by omega
    have i5 : inb (nn i) 5 := nn_inb hi2 (by omega)
    have nle := nn_nle hip (show zP K < 2147483648 by omega)
    obtain ⟨t, e0, e1, e2, e3, e4⟩ := W.fP hip
    have t1 : (gT (cV h) (o + 1)).1 = 100 := by rw [s.2.2.1]
    have t2 : (gT (cV h) (o + 2)).1 = 100 := by rw [s.2.2.2.1]
    have g1 : inb (nn i) (gT (cV h) (o + 1)).2 := by rw [s.2.2.1]; exact i5
    have g2 : inb (nn i) (gT (cV h) (o + 2)).2 := by rw [s.2.2.2.1]; exact i5
    have W1 : CW h (u2 I (o + 1) i (zt K 6 i)) c K A := W.frO s (FrO.u2 I i _ (by omega) (by omega))
    have ne1 : A 2 i ≠ o + 1 := fun z => by rw [z, t1] at t; exact absurd t (by decide)
    obtain ⟨I2, e5, a2, f2⟩ := ih (i + 1) (u2 (u2 (u2 (u2 I (o + 1) i (zt K 6 i)) (o + 2) i (zt K 5 i)) (o + 3) i 0) (o + 4) i 0) n (W.frO s ((((FrO.u2 I i _ (by omega) (by omega)).tr (FrO.u2 _ i _ (by omega) (by omega))).tr (FrO.u2 _ i _ (by omega) (by omega))).tr (FrO.u2 _ i _ (by omega) (by omega)))) (by omega) (fun p hp => by
      by_cases y : p = i
      · simp [u2_app, y]
      · obtain ⟨z1, z2, z3, z4⟩ := hS p (by omega)
        simp [u2_app, y, z1, z2, z3, z4]) (by omega)
    refine ⟨I2, fun k L => ?_, a2, fun x hx => ?_⟩
    · simp only [cS_begin_2, bnd_e, cal_s, onr_s, jon_e, gI_hw, gL_hw, gT_hw, gR_hw, gN_hw, sI_hw, sL_hw, cV_hw, shS_hw, shC_hw, shL_hw, ← bt_def, grd_pos s, ec_persons W, if_neg nle, W.1, grd_pos W.2.1.1, grd_pos W.2.1.2.1.2.1, ec_getP W hip, ec_getP W1 hip, grd_pos t, grd_pos t1, grd_pos t2, grd_pos g1, grd_pos g2, nn_clamp hi2, e4, u2_ne ne1, e3, grd_pos i5, nn_succ, e5]
    · rw [f2 x hx, u2_ne (by omega), u2_ne (by omega), u2_ne (by omega), u2_ne (by omega)]
theorem ec_begin {I : Nat → Nat → Int32} {L : Nat → Nat → Int64} (W : CW h I c K A) (s : shS (cV h) o) : ∃ I', cS_begin o (hw h I L) = some ((), hw h I' L) ∧ StC I' o (zP K) (-1, I o 8, 0) (zbeg K) ∧ FrO o I I' ∧ I' o 5 = 0 ∧ I' o 6 = zt K 0 1 := by
  have hP := W.p5
  obtain ⟨I1, e1, a1, f1⟩ := ec_begin2 s (zP K) 0 I FU W (by omega) (fun p hp => by omega) (by show zP K < 1000; omega)
  rw [nn0] at e1
  have W1 := W.frO s (show FrO o I I1 from fun x hx => f1 x (by omega))
  have tc : c ≠ o := fun z => by have q := W.2.1.1.1; rw [z, s.1] at q; exact absurd q (by decide)
  have w9 : I1 c 9 = zt K 0 1 := W1.2.1.2.2.2.2.1.2.2.1
  refine ⟨u2 (u2 (u2 (u2 (u2 I1 o 4 0) o 5 0) o 6 (zt K 0 1)) o 7 (-1)) o 9 0, ?_, ⟨fun p hp => ?_, ?_⟩, fun x hx => ?_, ?_, ?_⟩
  · simp only [cS_begin, bnd_e, cal_s, onr_s, jon_e, gI_hw, gL_hw, gT_hw, gR_hw, gN_hw, sI_hw, sL_hw, cV_hw, shS_hw, shC_hw, shL_hw, ← bt_def, e1, grd_pos s, W.1, grd_pos W.2.1.1, u2_ne tc, w9]
  · obtain ⟨z1, z2, z3, z4⟩ := a1 p hp
    have y1 : ∀ k, k ≠ 0 → o + k ≠ o := fun k hk => by omega
    simp [u2_app, zbeg, sk, sl, sr, sa, z1, z2, z3, z4]
  · simp [u2_app, zbeg, sd, f1 o (Or.inl (Nat.le_refl o))]
  · have hx' : x ≠ o := by omega
    rw [u2_ne hx', u2_ne hx', u2_ne hx', u2_ne hx', u2_ne hx']
    exact f1 x (by omega)
  · simp [u2_app]
  · simp [u2_app]
theorem ec_talk {I : Nat → Nat → Int32} {L : Nat → Nat → Int64} (W : CW h I c K A) (s : shS (cV h) o) (hS : StC I o (zP K) F S) {k : Nat} (hk : k < zT K) (dr : Bool) : ∃ I' L', cS_talk o (nn k) (bI dr) (hw h I L) = some ((), hw h I' L') ∧ StC I' o (zP K) F (ztalk K F k dr S (I o 6)).1 ∧ FrO o I I' ∧ I' o 6 = (ztalk K F k dr S (I o 6)).2 := by
  have hT := W.2.2.1.2.2.2.1
  have hk2 : k < 2147483648 := by omega
  have ik : inb (nn k) 10 := nn_inb hk2 (by omega)
  obtain ⟨⟨h1, e1⟩, ⟨h2, e2⟩, h3, e3⟩ := W.wk.tk hk
  obtain ⟨y1, y2, y3⟩ := W.2.1.2.2.2.2.2.2.2.2.1 k hk
  have ec : ∀ L, cS_can o (nn (zw K k).1) (nn (zw K k).2.1) (nn (zw K k).2.2) 0 (hw h I L) = _ := fun L => ec_can (L := L) W s hS h1 h2 h3 false
  unfold ztalk
  cases x : zcan K F S (zw K k).1 (zw K k).2.1 (zw K k).2.2 false with
  | false =>
    rw [x, bI_f] at ec
    refine ⟨I, L, ?_, hS, FrO.rfl o I, rfl⟩
    simp only [cS_talk, bnd_e, cal_s, onr_s, jon_e, gI_hw, gL_hw, gT_hw, gR_hw, gN_hw, sI_hw, sL_hw, cV_hw, shS_hw, shC_hw, shL_hw, ← bt_def, grd_pos s, W.1, grd_pos W.2.1.1, grd_pos ik, nn_clamp hk2, y1, y2, y3, e1, e2, e3, ec, if_true]
  | true =>
    rw [x, bI_t] at ec
    obtain ⟨I1, L1, e5, s5, f5, -, n6⟩ := ec_ask (L := L) W s hS h1 h2 h3 dr
    refine ⟨I1, L1, ?_, s5, f5, n6⟩
    simp only [cS_talk, bnd_e, cal_s, onr_s, jon_e, gI_hw, gL_hw, gT_hw, gR_hw, gN_hw, sI_hw, sL_hw, cV_hw, shS_hw, shC_hw, shL_hw, ← bt_def, grd_pos s, W.1, grd_pos W.2.1.1, grd_pos ik, nn_clamp hk2, y1, y2, y3, e1, e2, e3, ec, if_neg i10, e5]
end C8
/-! rounds end -/
def WS (P : Nat) (S : ST) : Prop := ∀ p, p < P → sk S p &&& 255 = sk S p
theorem and255 {x : Int32} (hx : x &&& 255 = x) : ∃ n : Fin 256, x = nn n := by
  have h1 : x.toBitVec &&& 255#32 = x.toBitVec := congrArg Int32.toBitVec hx
  have h2 : x.toBitVec.toNat < 256 := by
    rw [← h1, BitVec.toNat_and]
    exact Nat.lt_of_le_of_lt Nat.and_le_right (by decide)
  refine ⟨⟨x.toBitVec.toNat, h2⟩, ?_⟩
  apply Int32.toBitVec_inj.1
  show x.toBitVec = BitVec.ofNat 32 x.toBitVec.toNat
  rw [BitVec.ofNat_toNat, BitVec.setWidth_eq]
theorem zbc_8 : ∀ n : Fin 256, zbc (nn n) = nn (zbc (nn n)).toNatClampNeg ∧ (zbc (nn n)).toNatClampNeg ≤ 8 := by decide +kernel
theorem or255 {x y : Int32} (hx : x &&& 255 = x) (hy : y &&& 255 = y) : (x ||| y) &&& 255 = x ||| y := by
  have : (x ||| y) &&& 255 = (x &&& 255) ||| (y &&& 255) := Int32.toBitVec_inj.1 BitVec.and_or_distrib_right
  rw [this, hx, hy]
theorem shl255 {f : Nat} (hf : f < 8) : ((1 : Int32) <<< (nn f &&& 31)) &&& 255 = (1 : Int32) <<< (nn f &&& 31) := by
  have : f = 0 ∨ f = 1 ∨ f = 2 ∨ f = 3 ∨ f = 4 ∨ f = 5 ∨ f = 6 ∨ f = 7 := by omega
  rcases this with rfl | rfl | rfl | rfl | rfl | rfl | rfl | rfl <;> decide
theorem z1_255 {x : Int32} (hx : okF x) : z1 x &&& 255 = z1 x := by
  unfold z1
  rcases hx with rfl | ⟨f, hf, rfl⟩
  · decide
  · by_cases q : nn f = -1
    · rw [if_pos q]; decide
    · rw [if_neg q]; exact shl255 hf
theorem zsup_255 {K : KT} (w : WK K) {q : Nat} (hq : q < zQ K) : zsup K q &&& 255 = zsup K q := by
  obtain ⟨-, -, w1, -⟩ := w
  obtain ⟨-, w2, w3, -⟩ := w1 q hq
  unfold zsup
  by_cases z : zt K 8 q = 1
  · rw [if_pos z]; exact or255 (z1_255 w2) (z1_255 w3)
  · rw [if_neg z]; exact z1_255 w2
theorem WS.ask {K : KT} {F : FT} {S : ST} (w : WK K) (hS : WS (zP K) S) {a b q : Nat} (hq : q < zQ K) (dr : Bool) (n : Int32) : WS (zP K) (zask K F S a b q dr n).2.1 := by
  have h1 : WS (zP K) (zS1 K F S a q) := by
    intro p hp
    show (if p ≠ a ∧ ztog F S a p = true ∧ zhear K F S p q = true then sk S p ||| zsup K q else sk S p) &&& 255 = if p ≠ a ∧ ztog F S a p = true ∧ zhear K F S p q = true then sk S p ||| zsup K q else sk S p
    by_cases z : p ≠ a ∧ ztog F S a p = true ∧ zhear K F S p q = true
    · rw [if_pos z]; exact or255 (hS p hp) (zsup_255 w hq)
    · rw [if_neg z]; exact hS p hp
  unfold zask
  by_cases y : (zslip K F (zS1 K F S a q) b q dr n).1 = true
  · rw [if_pos y]
    intro p hp
    have hx : okF (zasks K q) ∧ zasks K q ≠ -1 := by
      constructor
      · unfold zasks
        by_cases z : zt K 8 q = 3
        · rw [if_pos z]; exact Or.inl rfl
        · rw [if_neg z]; exact (w.2.2.1 q hq).2.2.2
      · intro z
        unfold zslip at y
        rw [if_pos z] at y
        cases y
    show (if ztog F (zS1 K F S a q) b p = true then sk (zS1 K F S a q) p ||| ((1 : Int32) <<< (zasks K q &&& 31)) else sk (zS1 K F S a q) p) &&& 255 = if ztog F (zS1 K F S a q) b p = true then sk (zS1 K F S a q) p ||| ((1 : Int32) <<< (zasks K q &&& 31)) else sk (zS1 K F S a q) p
    by_cases z : ztog F (zS1 K F S a q) b p = true
    · rw [if_pos z]
      rcases hx.1 with x1 | ⟨f, hf, x1⟩
      · exact absurd x1 hx.2
      · rw [x1]; exact or255 (h1 p hp) (shl255 hf)
    · rw [if_neg z]; exact h1 p hp
  · rw [if_neg y]; exact h1
theorem WS.rq {K : KT} {F : FT} {S : ST} (w : WK K) (hS : WS (zP K) S) {a b : Nat} : ∀ n, n ≤ zQ K → WS (zP K) (zrq K F a b n S)
  | 0, _ => hS
  | n + 1, hn => by
    have h1 := WS.rq w hS (F := F) (a := a) (b := b) n (by omega)
    show WS (zP K) (zstep K F a b n (zrq K F a b n S))
    unfold zstep
    by_cases z : zcan K F (zrq K F a b n S) a b n false = true
    · rw [if_pos z]; exact h1.ask w (by omega) false 0
    · rw [if_neg z]; exact h1
theorem WS.rb {K : KT} {F : FT} {S : ST} (w : WK K) (hS : WS (zP K) S) {a : Nat} : ∀ n, WS (zP K) (zrb K F a n S)
  | 0 => hS
  | n + 1 => WS.rq w (WS.rb w hS n) _ (Nat.le_refl _)
theorem WS.ra {K : KT} {F : FT} {S : ST} (w : WK K) (hS : WS (zP K) S) : ∀ n, WS (zP K) (zra K F n S)
  | 0 => hS
  | n + 1 => WS.rb w (WS.ra w hS n) _
theorem zsumN_le {F : FT} {S : ST} {P : Nat} (hS : WS P S) (hP : P ≤ 5) : ∀ i, i ≤ P → ∃ m, m ≤ 8 * i ∧ zsumN F S i = nn m
  | 0, _ => ⟨0, by omega, rfl⟩
  | i + 1, hi => by
    obtain ⟨m, hm, em⟩ := zsumN_le hS hP (F := F) i (by omega)
    show ∃ m, m ≤ 8 * (i + 1) ∧ zsumN F S i + (if bt F.2.2 (nn i) = 1 then 0 else zbc (sk S i)) = nn m
    rw [em]
    by_cases z : bt F.2.2 (nn i) = 1
    · rw [if_pos z]; exact ⟨m, by omega, nn_add m 0⟩
    · rw [if_neg z]
      obtain ⟨x, ex⟩ := and255 (hS i (by omega))
      obtain ⟨y1, y2⟩ := zbc_8 x
      rw [ex, y1]
      exact ⟨m + (zbc (nn x)).toNatClampNeg, by omega, nn_add _ _⟩
theorem zall_some {K : KT} {F : FT} (w : WK K) : ∀ (n m : Nat) (S : ST), WS (zP K) S → zsum K F S = nn m → m ≤ 40 → 40 < n + m → ∃ S', zall K F n S = some S' ∧ WS (zP K) S'
  | 0, m, S, _, _, h1, h2 => by omega
  | n + 1, m, S, hS, e, h1, h2 => by
    have hR : WS (zP K) (zround K F S) := WS.ra w hS _
    have hP := w.1.2.1
    obtain ⟨m', hm', e'⟩ := zsumN_le (F := F) hR hP (zP K) (Nat.le_refl _)
    have e' : zsum K F (zround K F S) = nn m' := e'
    unfold zall
    by_cases z : zsum K F (zround K F S) ≤ zsum K F S
    · rw [if_pos z]; exact ⟨_, rfl, hR⟩
    · rw [if_neg z]
      refine zall_some w n m' _ hR e' (by omega) ?_
      rw [e, e', nn_le (by omega) (by omega)] at z
      omega
theorem zall_ok {K : KT} {F : FT} {S : ST} (w : WK K) (hS : WS (zP K) S) : ∃ S', zall K F 42 S = some S' ∧ WS (zP K) S' := by
  have hP := w.1.2.1
  obtain ⟨m, hm, e⟩ := zsumN_le (F := F) hS hP (zP K) (Nat.le_refl _)
  exact zall_some w 42 m S hS e (by omega) (by omega)
