/-! PURE LEVEL 17: the model's first states and talk; what trials change on both sides; learning -/
section M7
variable {h : HP} {K : KT} {F : FT} {S : ST}
theorem em_first2 {b : Nat} (hb : b < 2) : ∀ (j i : Nat) (I : Nat → Nat → Int32) (L : Nat → Nat → Int64) (fuel : Nat), MW I K → i + j = 5 → j < fuel → (∀ p, p < i → p < zP K → I 29 (5 * b + p) = zt K 6 p ∧ I 31 (5 * b + p) = zt K 5 p ∧ I 30 (5 * b + p) = 0 ∧ I 32 (5 * b + p) = 0) → ∃ I', (∀ k, m_atFirst_2 (nn b) k fuel (nn i) (hw h I L) = k (hw h I' L)) ∧ (∀ p, p < zP K → I' 29 (5 * b + p) = zt K 6 p ∧ I' 31 (5 * b + p) = zt K 5 p ∧ I' 30 (5 * b + p) = 0 ∧ I' 32 (5 * b + p) = 0) ∧ (∀ k, k < 5 * b ∨ 5 * b + 5 ≤ k → I' 29 k = I 29 k ∧ I' 30 k = I 30 k ∧ I' 31 k = I 31 k ∧ I' 32 k = I 32 k) ∧ ∀ x, x < 29 ∨ 32 < x → I' x = I x := by
  intro j
  induction j with
  | zero =>
    intro i I L fuel M hi hf hS
    obtain ⟨n, rfl⟩ : ∃ n, fuel = n + 1 := ⟨fuel - 1, by omega⟩
    have hP := M.2.1.2.1
    have : (5 : Int32) ≤ nn i := nn_ple (n := 5) (by omega) (by omega)
    refine ⟨I, fun k => ?_, fun p hp => hS p (by omega) hp, fun _ _ => ⟨rfl, rfl, rfl, rfl⟩, fun _ _ => rfl⟩
    simp only [m_atFirst_2, bnd_e, cal_s, onr_s, jon_e, gI_hw, gL_hw, gT_hw, gR_hw, gN_hw, sI_hw, sL_hw, cV_hw, shS_hw, shC_hw, shL_hw, ← bt_def, if_pos this]
  | succ j ih =>
    intro i I L fuel M hi hf hS
    obtain ⟨n, rfl⟩ : ∃ n, fuel = n + 1 := ⟨fuel - 1, by omega⟩
    have hP := M.2.1.2.1
    have hi2 : i < 2147483648 := by omega
    have i1 : inb (nn i) 10 := nn_inb hi2 (by omega)
    have i2 : inb (nn (5 * b + i)) 10 := nn_inb (by omega) (by omega)
    have nle : ¬ (5 : Int32) ≤ nn i := nn_nle (n := 5) (by omega) (by omega)
    obtain ⟨v, hv, ev⟩ : ∃ v, (i < zP K → v = zt K 6 i) ∧ ∀ (g : Int32 → Option (Unit × HP)), (if nn (zP K) ≤ nn i then g 0 else g (I 10 i)) = g v := by
      by_cases z : i < zP K
      · exact ⟨I 10 i, fun _ => (M.1.2.2.2.1 i z).2.2.2.2, fun g => if_neg (nn_nle z (by omega))⟩
      · exact ⟨0, fun y => absurd y z, fun g => if_pos (nn_ple (by omega) (by omega))⟩
    have fx : ∀ x, x < 29 ∨ 32 < x → (u2 (u2 (u2 (u2 I 29 (5 * b + i) v) 30 (5 * b + i) 0) 31 (5 * b + i) (I 9 i)) 32 (5 * b + i) 0) x = I x := fun x hx => by rw [u2_ne (by omega), u2_ne (by omega), u2_ne (by omega), u2_ne (by omega)]
    obtain ⟨I2, e2, a2, b2, f2⟩ := ih (i + 1) (u2 (u2 (u2 (u2 I 29 (5 * b + i) v) 30 (5 * b + i) 0) 31 (5 * b + i) (I 9 i)) 32 (5 * b + i) 0) L n ⟨M.1.fr (fun x h1 h2 => fx x (by omega)) (fun k _ _ => by rw [fx 0 (by omega)]), M.2⟩ (by omega) (by omega) (fun p h1 h2 => by
      by_cases y : p = i
      · subst y
        simp [u2_app, hv h2, (M.1.2.2.2.1 p h2).2.2.2.1]
      · obtain ⟨z1, z2, z3, z4⟩ := hS p (by omega) h2
        simp [u2_app, y, z1, z2, z3, z4])
    refine ⟨I2, fun k => ?_, a2, fun k hk => ?_, fun x hx => by rw [f2 x hx]; exact fx x hx⟩
    · rw [m_atFirst_2]
      simp only [bnd_e, cal_s, onr_s, jon_e, gI_hw, gL_hw, gT_hw, gR_hw, gN_hw, sI_hw, sL_hw, cV_hw, shS_hw, shC_hw, shL_hw, ← bt_def, if_neg nle, n5, grd_pos i1, grd_pos i2, nn_clamp hi2, nn_clamp (show 5 * b + i < 2147483648 by omega), nn_succ, M.1.1.2.1, u2_ne (show 9 ≠ 29 by decide), u2_ne (show 9 ≠ 30 by decide)]
      have := ev (fun s => m_atFirst_2 (nn b) k n (nn (i + 1)) (hw h (u2 (u2 (u2 (u2 I 29 (5 * b + i) s) 30 (5 * b + i) 0) 31 (5 * b + i) (I 9 i)) 32 (5 * b + i) 0) L))
      exact this.trans (e2 k)
    · obtain ⟨z1, z2, z3, z4⟩ := b2 k hk
      rw [z1, z2, z3, z4]
      have : k ≠ 5 * b + i := by omega
      simp [u2_app, this]
theorem em_first {I : Nat → Nat → Int32} {L : Nat → Nat → Int64} (M : MW I K) {b : Nat} (hb : b < 2) : ∃ I', m_atFirst (nn b) (hw h I L) = some ((), hw h I' L) ∧ StM I' b (zP K) (zbeg K) ∧ (∀ k, k < 5 * b ∨ 5 * b + 5 ≤ k → I' 29 k = I 29 k ∧ I' 30 k = I 30 k ∧ I' 31 k = I 31 k ∧ I' 32 k = I 32 k) ∧ (∀ k, k ≠ b → I' 33 k = I 33 k) ∧ ∀ x, x < 29 ∨ 33 < x → I' x = I x := by
  obtain ⟨I1, e1, a1, b1, f1⟩ := em_first2 (h := h) hb 5 0 I L FU M (by omega) (by show 5 < 1000; omega) (fun p h1 _ => by omega)
  rw [nn0] at e1
  refine ⟨u2 I1 33 b 0, ?_, ⟨fun p hp => ?_, u2_same _ _ _ _⟩, fun k hk => ?_, fun k hk => ?_, fun x hx => ?_⟩
  · simp only [m_atFirst, bnd_e, cal_s, onr_s, jon_e, gI_hw, gL_hw, gT_hw, gR_hw, gN_hw, sI_hw, sL_hw, cV_hw, shS_hw, shC_hw, shL_hw, ← bt_def, e1, grd_pos (show inb (nn b) 2 from nn_inb (by omega) hb), nn_clamp (show b < 2147483648 by omega)]
  · rw [u2_ne (by decide), u2_ne (by decide), u2_ne (by decide), u2_ne (by decide)]; exact a1 p hp
  · rw [u2_ne (by decide), u2_ne (by decide), u2_ne (by decide), u2_ne (by decide)]; exact b1 k hk
  · rw [u2_nk _ _ hk, f1 33 (by omega)]
  · rw [u2_ne (by omega)]; exact f1 x (by omega)
theorem em_layText {I : Nat → Nat → Int32} {L : Nat → Nat → Int64} (M : MW I K) : ∃ I', m_layTextTried (hw h I L) = some ((), hw h I' L) ∧ StM I' 1 (zP K) (zbeg K) ∧ (∀ w, FlM I' (-1, w, 0)) ∧ I' 0 63 = 1 ∧ I' 0 62 = 0 ∧ frB I I' := by
  obtain ⟨I1, e1, s1, b1, c1, f1⟩ := em_first (h := h) (I := I) (L := L) M (b := 1) (by omega)
  have e1 : m_atFirst 1 (hw h I L) = _ := e1
  have fr1 : frB I I1 := ⟨fun x h0 h1 => f1 x (by omega), fun k _ _ _ => by rw [f1 0 (by omega)], fun k hk => b1 k (by omega), c1 0 (by decide)⟩
  refine ⟨u2 (plI I1) 0 63 1, ?_, ?_, fun w => (plI_fl I1 w).u (by omega), u2_same _ _ _ _, by rw [u2_nk _ _ (by decide)]; exact plI_62 _, (fr1.tr (plI_fr _)).tr (frB.u0 _ _ (by omega))⟩
  · simp only [m_layTextTried, bnd_e, cal_s, onr_s, jon_e, gI_hw, gL_hw, gT_hw, gR_hw, gN_hw, sI_hw, sL_hw, cV_hw, shS_hw, shC_hw, shL_hw, ← bt_def, e1, em_plain]
  · refine StM.u0 ?_
    unfold StM
    rw [plI_ne _ (by decide), plI_ne _ (by decide), plI_ne _ (by decide), plI_ne _ (by decide), plI_ne _ (by decide)]; exact s1
theorem em_talk {I : Nat → Nat → Int32} {L : Nat → Nat → Int64} (M : MW I K) (hS : StM I 1 (zP K) S) (ws : WS (zP K) S) (fl : FlM I F) (h3 : I 0 63 = 1) {dr : Bool} (hd : I 0 62 = bI dr) {num : Int32} (hn : LnK dr num L) {k : Nat} (hk : k < zT K) : ∃ I' L', m_talkOf (nn k) (hw h I L) = some ((), hw h I' L') ∧ StM I' 1 (zP K) (ztalk K F k dr S num).1 ∧ frM 1 I I' ∧ frL2 dr L L' ∧ LnK dr (ztalk K F k dr S num).2 L' := by
  have hT := M.2.1.2.2.2.1
  have hk2 : k < 2147483648 := by omega
  have ik : inb (nn k) 20 := nn_inb hk2 (by omega)
  obtain ⟨⟨h1, e1⟩, ⟨h2, e2⟩, h4, e3⟩ := M.2.tk hk
  obtain ⟨y1, y2, y3⟩ := M.1.2.2.2.2.2.1 k hk
  have ec : ∀ L, m_canAsk 1 (nn (zw K k).1) (nn (zw K k).2.1) (nn (zw K k).2.2) (hw h I L) = _ := fun L => em_can (h := h) (L := L) M (b := 1) (by omega) hS fl (cnt := false) h3 h1 h2 h4
  unfold ztalk
  cases x : zcan K F S (zw K k).1 (zw K k).2.1 (zw K k).2.2 false with
  | false =>
    rw [x, bI_f] at ec
    refine ⟨I, L, ?_, hS, frM.rfl 1 I, frL2.rfl dr L, hn⟩
    simp only [m_talkOf, bnd_e, cal_s, onr_s, jon_e, gI_hw, gL_hw, gT_hw, gR_hw, gN_hw, sI_hw, sL_hw, cV_hw, shS_hw, shC_hw, shL_hw, ← bt_def, grd_pos ik, nn_clamp hk2, y1, y2, y3, e1, e2, e3, ec, if_true]
  | true =>
    rw [x, bI_t] at ec
    obtain ⟨I1, L1, e5, s5, f5, l5, n5⟩ := em_ask (h := h) (L := L) M (b := 1) (by omega) hS ws fl hd hn h1 h2 h4 (zcan_tog x)
    have e5 : m_asks 1 (nn (zw K k).1) (nn (zw K k).2.1) (nn (zw K k).2.2) (hw h I L) = _ := e5
    refine ⟨I1, L1, ?_, s5, f5, l5, n5⟩
    simp only [m_talkOf, bnd_e, cal_s, onr_s, jon_e, gI_hw, gL_hw, gT_hw, gR_hw, gN_hw, sI_hw, sL_hw, cV_hw, shS_hw, shC_hw, shL_hw, ← bt_def, grd_pos ik, nn_clamp hk2, y1, y2, y3, e1, e2, e3, ec, if_neg i10, e5, ite_self]
end M7
theorem ztalk_ws {K : KT} {F : FT} {S : ST} (w : WK K) (ws : WS (zP K) S) {k : Nat} (hk : k < zT K) (dr : Bool) (n : Int32) : WS (zP K) (ztalk K F k dr S n).1 := by
  unfold ztalk
  by_cases z : zcan K F S (zw K k).1 (zw K k).2.1 (zw K k).2.2 false = true
  · rw [if_pos z]; exact ws.ask w (w.tk hk).2.2.1 dr n
  · rw [if_neg z]; exact ws
/-! what trials change on the component's side -/
def frA (I I' : Nat → Nat → Int32) : Prop := (∀ x, x ≠ 0 → (x < 25 ∨ (29 < x ∧ x < 37) ∨ x = 41 ∨ x = 42 ∨ 53 < x) → I' x = I x) ∧ ∀ k, k ≠ 17 → k ≠ 18 → I' 0 k = I 0 k
theorem frA.rfl (I : Nat → Nat → Int32) : frA I I := ⟨fun _ _ _ => Eq.refl _, fun _ _ _ => Eq.refl _⟩
theorem frA.tr {I I1 I2 : Nat → Nat → Int32} (a : frA I I1) (b : frA I1 I2) : frA I I2 := ⟨fun x h0 h1 => (b.1 x h0 h1).trans (a.1 x h0 h1), fun k h0 h1 => (b.2 k h0 h1).trans (a.2 k h0 h1)⟩
theorem frA.o {o : Nat} {I I' : Nat → Nat → Int32} (ho : o = 25 ∨ o = 44 ∨ o = 49) (f : FrO o I I') : frA I I' := ⟨fun x h0 h1 => f x (by omega), fun k _ _ => by rw [f 0 (by omega)]⟩
theorem frA.u {I : Nat → Nat → Int32} {a k : Nat} (v : Int32) (ha : (25 ≤ a ∧ a ≤ 29) ∨ (37 ≤ a ∧ a ≤ 40) ∨ a = 43 ∨ (44 ≤ a ∧ a ≤ 53)) : frA I (u2 I a k v) := ⟨fun x h0 h1 => u2_ne (by omega), fun k _ _ => by rw [u2_ne (by omega)]⟩
theorem frA.u0 {I : Nat → Nat → Int32} {k : Nat} (v : Int32) (hk : k = 17 ∨ k = 18) : frA I (u2 I 0 k v) := ⟨fun x h0 h1 => u2_ne h0, fun j _ _ => u2_nk _ _ (by omega)⟩
theorem sh20 (h : HP) : shS (cV h) 20 := ⟨rfl, ⟨rfl, rfl, rfl, rfl, rfl⟩, rfl, rfl, rfl, rfl⟩
theorem sh25 (h : HP) : shS (cV h) 25 := ⟨rfl, ⟨rfl, rfl, rfl, rfl, rfl⟩, rfl, rfl, rfl, rfl⟩
theorem sh30 (h : HP) : shS (cV h) 30 := ⟨rfl, ⟨rfl, rfl, rfl, rfl, rfl⟩, rfl, rfl, rfl, rfl⟩
theorem sh44 (h : HP) : shS (cV h) 44 := ⟨rfl, ⟨rfl, rfl, rfl, rfl, rfl⟩, rfl, rfl, rfl, rfl⟩
theorem sh49 (h : HP) : shS (cV h) 49 := ⟨rfl, ⟨rfl, rfl, rfl, rfl, rfl⟩, rfl, rfl, rfl, rfl⟩
theorem frA_T {h : HP} {I I' : Nat → Nat → Int32} (f : frA I I') : ∀ x, (gT (cV h) x).1 = 4 ∨ (gT (cV h) x).1 = 5 ∨ (gT (cV h) x).1 = 7 ∨ (gT (cV h) x).1 = 8 ∨ (gT (cV h) x).1 = 9 ∨ (gT (cV h) x).1 = 10 ∨ (gT (cV h) x).1 = 11 ∨ (gT (cV h) x).1 = 12 ∨ (gT (cV h) x).1 = 13 ∨ gT (cV h) x = (100, 10) → I' x = I x := by
  intro x hx
  by_cases z : x ≠ 0 ∧ (x < 25 ∨ (29 < x ∧ x < 37) ∨ x = 41 ∨ x = 42 ∨ 53 < x)
  · exact f.1 x z.1 z.2
  · exfalso
    have : x = 0 ∨ x = 25 ∨ x = 26 ∨ x = 27 ∨ x = 28 ∨ x = 29 ∨ x = 37 ∨ x = 38 ∨ x = 39 ∨ x = 40 ∨ x = 43 ∨ x = 44 ∨ x = 45 ∨ x = 46 ∨ x = 47 ∨ x = 48 ∨ x = 49 ∨ x = 50 ∨ x = 51 ∨ x = 52 ∨ x = 53 := by omega
    rcases this with rfl | rfl | rfl | rfl | rfl | rfl | rfl | rfl | rfl | rfl | rfl | rfl | rfl | rfl | rfl | rfl | rfl | rfl | rfl | rfl | rfl
    · rw [show gT (cV h) 0 = (2, 0) from rfl] at hx; revert hx; decide
    · rw [show gT (cV h) 25 = (6, 0) from rfl] at hx; revert hx; decide
    · rw [show gT (cV h) 26 = (100, 5) from rfl] at hx; revert hx; decide
    · rw [show gT (cV h) 27 = (100, 5) from rfl] at hx; revert hx; decide
    · rw [show gT (cV h) 28 = (100, 5) from rfl] at hx; revert hx; decide
    · rw [show gT (cV h) 29 = (100, 5) from rfl] at hx; revert hx; decide
    · rw [show gT (cV h) 37 = (100, 2) from rfl] at hx; revert hx; decide
    · rw [show gT (cV h) 38 = (100, 2) from rfl] at hx; revert hx; decide
    · rw [show gT (cV h) 39 = (100, 81) from rfl] at hx; revert hx; decide
    · rw [show gT (cV h) 40 = (100, 81) from rfl] at hx; revert hx; decide
    · rw [show gT (cV h) 43 = (103, 24) from rfl] at hx; revert hx; decide
    · rw [show gT (cV h) 44 = (6, 0) from rfl] at hx; revert hx; decide
    · rw [show gT (cV h) 45 = (100, 5) from rfl] at hx; revert hx; decide
    · rw [show gT (cV h) 46 = (100, 5) from rfl] at hx; revert hx; decide
    · rw [show gT (cV h) 47 = (100, 5) from rfl] at hx; revert hx; decide
    · rw [show gT (cV h) 48 = (100, 5) from rfl] at hx; revert hx; decide
    · rw [show gT (cV h) 49 = (6, 0) from rfl] at hx; revert hx; decide
    · rw [show gT (cV h) 50 = (100, 5) from rfl] at hx; revert hx; decide
    · rw [show gT (cV h) 51 = (100, 5) from rfl] at hx; revert hx; decide
    · rw [show gT (cV h) 52 = (100, 5) from rfl] at hx; revert hx; decide
    · rw [show gT (cV h) 53 = (100, 5) from rfl] at hx; revert hx; decide
/-- the court's own cells -/
def frC (g : HP) (I I' : Nat → Nat → Int32) : Prop := ∀ x, (gT g x).1 = 4 ∨ (gT g x).1 = 5 ∨ (gT g x).1 = 7 ∨ (gT g x).1 = 8 ∨ (gT g x).1 = 9 ∨ (gT g x).1 = 10 ∨ (gT g x).1 = 11 ∨ (gT g x).1 = 12 ∨ (gT g x).1 = 13 ∨ gT g x = (100, 10) → I' x = I x
theorem frC.k {g : HP} {I I' : Nat → Nat → Int32} (f : frC g I I') {x t : Nat} (ht : (gT g x).1 = t) (h1 : t = 4 ∨ t = 5 ∨ t = 7 ∨ t = 8 ∨ t = 9 ∨ t = 10 ∨ t = 11 ∨ t = 12 ∨ t = 13) : I' x = I x := f x (by omega)
theorem PDn.frC {g : HP} {I I' : Nat → Nat → Int32} (f : frC g I I') : ∀ (d p : Nat) (l : LF), PDn g I d p l → PDn g I' d p l
  | 0, _, _, q => q.elim
  | d + 1, p, l, q => by
    rcases q with ⟨t, q⟩ | ⟨t, q1, q⟩ | ⟨t, a, fa, q1, q2, q⟩ | ⟨t, a, b, fa, fb, q1, q2, q3, q4, q⟩
    · exact Or.inl ⟨t, by rw [f.k t (by omega)]; exact q⟩
    · exact Or.inr (Or.inl ⟨t, by rw [f.k t (by omega)]; exact ⟨q1, q⟩⟩)
    · exact Or.inr (Or.inr (Or.inl ⟨t, a, fa, q1, PDn.frC f d a fa q2, q⟩))
    · exact Or.inr (Or.inr (Or.inr ⟨t, a, b, fa, fb, q1, q2, PDn.frC f d a fa q3, PDn.frC f d b fb q4, by rw [f.k t (by omega)]; exact q⟩))
theorem CC.frC {g : HP} {I I' : Nat → Nat → Int32} {c : Nat} {K : KT} {A : Nat → Nat → Nat} (f : frC g I I') (q : CC g I c K A) : CC g I' c K A := by
  obtain ⟨w2, ⟨w3, w4, w5⟩, w6, ⟨w7, w8, w9⟩, ⟨w10, w11, w12, w13⟩, w14, w15, w16, w17, w18⟩ := q
  have fc : I' c = I c := f.k (t := 4) (by rw [w2.1]) (by omega)
  have f1 : I' (c + 1) = I (c + 1) := f.k (t := 5) (by rw [w3.1]) (by omega)
  have f3 : I' (c + 3) = I (c + 3) := f.k (t := 5) (by rw [w4.1]) (by omega)
  have f5 : I' (c + 5) = I (c + 5) := f.k (t := 5) (by rw [w5.1]) (by omega)
  have hh : ∀ x, gT g x = (100, 10) → I' x = I x := fun x hx => f x (Or.inr (Or.inr (Or.inr (Or.inr (Or.inr (Or.inr (Or.inr (Or.inr (Or.inr hx)))))))))
  refine ⟨w2, ⟨w3, w4, w5⟩, w6, by rw [f1, f3, f5]; exact ⟨w7, w8, w9⟩, by rw [fc]; exact ⟨w10, w11, w12, w13⟩, fun k hk => ?_, fun k hk => ?_, fun k hk => ?_, fun k hk => by rw [hh _ w2.2.2.1, hh _ w2.2.2.2.1, hh _ w2.2.2.2.2.1]; exact w17 k hk, fun j hj => ?_⟩
  · have q := w14 k hk
    rw [f.k q.2.1 (by omega)]; exact q
  · have q := w15 k hk
    rw [f.k q.2.1 (by omega)]; exact q
  · have q := w16 k hk
    rw [f.k q.2.1 (by omega)]; exact q
  · have q := w18 j hj
    unfold CL at q ⊢
    split at q
    · exact q
    · obtain ⟨p, q1, q2⟩ := q
      exact ⟨p, q1, PDn.frC f _ _ _ q2⟩
theorem CW.frA {h : HP} {I I' : Nat → Nat → Int32} {c : Nat} {K : KT} {A : Nat → Nat → Nat} (f : frA I I') (W : CW h I c K A) : CW h I' c K A := ⟨W.1, W.2.1.frC (frA_T f), W.2.2⟩
theorem StC.frA {I I' : Nat → Nat → Int32} {P : Nat} {F : FT} {S : ST} (f : frA I I') (q : StC I 20 P F S) : StC I' 20 P F S := by
  unfold StC
  rw [f.1 20 (by decide) (by omega), f.1 (20 + 1) (by decide) (by omega), f.1 (20 + 2) (by decide) (by omega), f.1 (20 + 3) (by decide) (by omega), f.1 (20 + 4) (by decide) (by omega)]; exact q
/-- both sides' worlds while something is tried -/
def TB (h : HP) (I : Nat → Nat → Int32) (c : Nat) (K : KT) (A : Nat → Nat → Nat) (w : Int32) (S : ST) (J : Nat → Nat → Int32) : Prop := (CW h I c K A ∧ StC I 20 (zP K) (-1, w, 0) S) ∧ (MW J K ∧ StM J 0 (zP K) S) ∧ WS (zP K) S
theorem TB.fr {h : HP} {I I' : Nat → Nat → Int32} {c : Nat} {K : KT} {A : Nat → Nat → Nat} {w : Int32} {S : ST} {J J' : Nat → Nat → Int32} (f : frA I I') (g : frB J J') (q : TB h I c K A w S J) : TB h I' c K A w S J' := ⟨⟨q.1.1.frA f, q.1.2.frA f⟩, ⟨q.2.1.1.frB g, q.2.1.2.frB q.1.1.p5 g⟩, q.2.2⟩
/-- two trees end with one answer; nothing changed but by trials, from the ints I0 and J0 on -/
def B2 (h g : HP) (I0 J0 : Nat → Nat → Int32) (M0 : Nat → Nat → Int64) (tc tm : Option (Int32 × HP)) : Prop := ∃ r I' L' J' M', tc = some (r, hw h I' L') ∧ tm = some (r, hw g J' M') ∧ frA I0 I' ∧ frB J0 J' ∧ frL2 false M0 M'
def zallS (K : KT) (F : FT) (S : ST) : ST := (zall K F 42 S).getD S
theorem zallS_ok {K : KT} {F : FT} {S : ST} (w : WK K) (ws : WS (zP K) S) : zall K F 42 S = some (zallS K F S) ∧ WS (zP K) (zallS K F S) := by
  obtain ⟨S', e, q⟩ := zall_ok (F := F) w ws
  unfold zallS
  rw [e]; exact ⟨rfl, q⟩
