/-! PURE LEVEL 52: tell, send -/
section P10
variable {h g : HP} {I J : Nat → Nat → Int32} {L M : Nat → Nat → Int64}
theorem P_tell (q : Inv h I J M) (x y : Int32) : PB h g (cA_tell x y (hw h I L)) (m_tell x y (hw g J M)) := by
  have q0 := q.fr (frA.rfl I) (frB.u0 J (k := 2) 0 (by omega)) (frL2.rfl _ M)
  simp only [cA_tell, m_tell, bnd_e, cal_s, onr_s, jon_e, gI_hw, gL_hw, gT_hw, gR_hw, gN_hw, sI_hw, sL_hw, cV_hw, shS_hw, shC_hw, shL_hw, ← bt_def]
  generalize u2 J 0 2 0 = J1 at q0 ⊢
  obtain ⟨c, K, A, w, S, al, nu, D, N, sn, kv, kn, U, im, X, tp, tb, p⟩ := q0.p
  have W := p.1.1.1.1
  have V := p.1.1.2.1.1
  have hP := W.p5
  have hF : zF K ≤ 8 := W.2.2.1.1
  simp only [bnd_e, cal_s, onr_s, jon_e, gI_hw, gL_hw, gT_hw, gR_hw, gN_hw, sI_hw, sL_hw, cV_hw, shS_hw, shC_hw, shL_hw, ← bt_def, ec_isPerson W, em_isPerson V, ec_isFact W, em_isFact V, bI_eq0]
  cases z : zin x (zP K) with
  | false => simp only [eq_self, Bool.true_eq_false, if_true, if_false]; exact ⟨_, h, I, L, _, M, rfl, rfl, q0, by omega, by omega⟩
  | true =>
    simp only [eq_self, Bool.true_eq_false, if_true, if_false]
    obtain ⟨a, ha, rfl⟩ := zin_t (by omega) z
    cases zz : zin y (zF K) with
    | false => simp only [eq_self, Bool.true_eq_false, if_true, if_false]; exact ⟨_, h, I, L, _, M, rfl, rfl, q0, by omega, by omega⟩
    | true =>
      simp only [eq_self, Bool.true_eq_false, if_true, if_false]
      obtain ⟨f, hf, rfl⟩ := zin_t (by omega) zz
      have b5 : inb (nn a) 5 := nn_inb (by omega) (by omega)
      have b10 : inb (nn a) 10 := nn_inb (by omega) (by omega)
      have i21 : I 21 a = sk S a := (p.1.1.1.2.1 a ha).1
      have j29 : J1 29 a = sk S a := by
        have := (p.1.1.2.1.2.1 a ha).1
        rw [show 5 * 0 + a = a by omega] at this; exact this
      obtain ⟨h', I', L', J', M', e1, e2, p', gn, gs, gr, fr⟩ := p.rem (L := L) (g := g)
      simp only [grd_pos b5, grd_pos b10, nn_clamp (show a < 2147483648 by omega), em_isOf, bI_eq0, i21, j29, bnd_e, cal_s, onr_s, jon_e, gI_hw, gL_hw, gT_hw, gR_hw, gN_hw, sI_hw, sL_hw, cV_hw, shS_hw, shC_hw, shL_hw, ← bt_def, e1, e2]
      by_cases y0 : bt (sk S a) (nn f) = 0
      · rw [if_neg (fun e => bt1.mp e y0), if_pos (show decide (¬ bt (sk S a) (nn f) = 0) = false by simp [y0])]
        have s2 := StM.put p'.1.1.2.1.2 ha ((1 : Int32) <<< (nn f &&& 31))
        rw [show 5 * 0 + a = a by omega] at s2
        refine ⟨1, h', _, L', _, M', rfl, rfl, (p'.now (w' := w) (S' := zput S a ((1 : Int32) <<< (nn f &&& 31))) (al' := al) (nu' := nu) (FrO.u2 (a := 21) I' a _ (by omega) (by omega)) (fun x h0 h1 => u2_ne (by omega)) (fun k _ _ _ _ => by rw [u2_ne (by decide)]) (fun _ _ _ _ => rfl) (fun _ _ => rfl) (StC.put p'.1.1.1.2 ha _) s2 (WS.put p'.1.1.2.2 (shl255 (by omega))) ?_ ?_ ?_ p'.1.2.2.2.2.1 p'.1.2.2.2.2.2).inv, gn, gs⟩
        · rw [u2_ne (by decide)]; exact p'.1.2.1
        · rw [u2_ne (by decide)]; exact p'.1.2.2.1
        · rw [u2_ne (by decide)]; exact p'.1.2.2.2.1
      · rw [if_pos (bt1.mpr y0), if_neg (show ¬ decide (¬ bt (sk S a) (nn f) = 0) = false by simp [y0])]
        exact ⟨_, h, I, L, _, M, rfl, rfl, q0, by omega, by omega⟩
theorem P_send (q : Inv h I J M) (x y : Int32) : PB h g (cA_send x y (hw h I L)) (m_send x y (hw g J M)) := by
  have q0 := q.fr (frA.rfl I) (frB.u0 J (k := 2) 0 (by omega)) (frL2.rfl _ M)
  simp only [cA_send, m_send, bnd_e, cal_s, onr_s, jon_e, gI_hw, gL_hw, gT_hw, gR_hw, gN_hw, sI_hw, sL_hw, cV_hw, shS_hw, shC_hw, shL_hw, ← bt_def]
  generalize u2 J 0 2 0 = J1 at q0 ⊢
  obtain ⟨c, K, A, w, S, al, nu, D, N, sn, kv, kn, U, im, X, tp, tb, p⟩ := q0.p
  have W := p.1.1.1.1
  have V := p.1.1.2.1.1
  have hP := W.p5
  simp only [bnd_e, cal_s, onr_s, jon_e, gI_hw, gL_hw, gT_hw, gR_hw, gN_hw, sI_hw, sL_hw, cV_hw, shS_hw, shC_hw, shL_hw, ← bt_def, ec_isPerson W, em_isPerson V, show (0 : Int64) = (0 : Int32).toInt64 from rfl, show (3 : Int64) = (3 : Int32).toInt64 from rfl, ec_in, em_in, bI_eq0]
  cases z : zin x (zP K) with
  | false => simp only [eq_self, Bool.true_eq_false, if_true, if_false]; exact ⟨_, h, I, L, _, M, rfl, rfl, q0, by omega, by omega⟩
  | true =>
    simp only [eq_self, Bool.true_eq_false, if_true, if_false]
    obtain ⟨a, ha, rfl⟩ := zin_t (by omega) z
    cases zz : decide (¬ y < 0 ∧ ¬ 3 < y) with
    | false => simp only [eq_self, Bool.true_eq_false, if_true, if_false]; exact ⟨_, h, I, L, _, M, rfl, rfl, q0, by omega, by omega⟩
    | true =>
      simp only [eq_self, Bool.true_eq_false, if_true, if_false]
      have b5 : inb (nn a) 5 := nn_inb (by omega) (by omega)
      have b10 : inb (nn a) 10 := nn_inb (by omega) (by omega)
      have i22 : I 22 a = sr S a := by
        have := (p.1.1.1.2.1 a ha).2.1
        rw [if_neg (show ¬ (-1 : Int32) = 1 by decide)] at this; exact this
      have j31 : J1 31 a = sr S a := by
        have := (p.1.1.2.1.2.1 a ha).2.1
        rw [show 5 * 0 + a = a by omega] at this; exact this
      obtain ⟨h', I', L', J', M', e1, e2, p', gn, gs, gr, fr⟩ := p.rem (L := L) (g := g)
      simp only [grd_pos b5, grd_pos b10, nn_clamp (show a < 2147483648 by omega), i22, j31, bnd_e, cal_s, onr_s, jon_e, gI_hw, gL_hw, gT_hw, gR_hw, gN_hw, sI_hw, sL_hw, cV_hw, shS_hw, shC_hw, shL_hw, ← bt_def, e1, e2]
      by_cases y0 : sr S a = y
      · rw [if_pos y0, if_pos y0]
        exact ⟨_, h, I, L, _, M, rfl, rfl, q0, by omega, by omega⟩
      · rw [if_neg y0, if_neg y0]
        have s2 := StM.room p'.1.1.2.1.2 (q := a) y
        rw [show 5 * 0 + a = a by omega] at s2
        refine ⟨1, h', _, L', _, M', rfl, rfl, (p'.now (w' := w) (S' := zroom S a y) (al' := al) (nu' := nu) (FrO.u2 (a := 22) I' a _ (by omega) (by omega)) (fun x h0 h1 => u2_ne (by omega)) (fun k _ _ _ _ => by rw [u2_ne (by decide)]) (fun _ _ _ _ => rfl) (fun _ _ => rfl) (StC.room p'.1.1.1.2 (show ¬ (-1 : Int32) = 1 by decide) _) s2 p'.1.1.2.2 ?_ ?_ ?_ p'.1.2.2.2.2.1 p'.1.2.2.2.2.2).inv, gn, gs⟩
        · rw [u2_ne (by decide)]; exact p'.1.2.1
        · rw [u2_ne (by decide)]; exact p'.1.2.2.1
        · rw [u2_ne (by decide)]; exact p'.1.2.2.2.1
end P10
