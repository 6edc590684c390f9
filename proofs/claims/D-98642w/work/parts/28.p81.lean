set_option maxRecDepth 100000
/-! PURE LEVEL 81: steps of an expression, both sides -/
def ES (h : HP) (I J : Nat → Nat → Int32) (n : Nat) (tb : Nat → Nat) (c a : Nat) (W : List Nat) (H : List (Nat × LF)) (s0 kr b cnt : Nat) (wn : Int32) : Prop := Rd h I J n tb c a ∧ (I c 10 = nn cnt ∧ J 0 49 = nn cnt ∧ cnt ≤ 64 ∧ cnt = kr + nz W) ∧ (I 2 5 = nn b ∧ J 0 48 = nn b ∧ b ≤ 8 ∧ zc W = b) ∧ Stk J W H s0 kr ∧ J 0 50 = wn
section P30
variable {h h' g : HP} {I I' J J' : Nat → Nat → Int32} {L M : Nat → Nat → Int64} {n : Nat} {tb : Nat → Nat} {a c : Nat} {W P : List Nat} {H Q : List (Nat × LF)} {s0 kr b cnt : Nat} {wn : Int32} {f : LF}
theorem Flt.cx {ρ σ : Type} {B : Nat} {tc : Option ((ρ ⊕ Nat × Nat) × HP)} {tm : Option (Int32 × HP)} (T : ρ → HP → Option ((σ ⊕ Nat × Nat) × HP)) (q : Flt g M c kr h I J B tc tm) : Flt g M c kr h I J B (calx tc T) tm := by
  obtain ⟨h', I', L', x, J', q1, q⟩ := q
  exact ⟨h', I', L', x, J', by rw [q1]; rfl, q⟩
theorem m_wr (k : Int32) : cal (m_wrong k (hw g J M)) (fun r h => grd (isB r) (some (r, h))) = m_wrong k (hw g J M) := by
  rw [em_wrong, cal_s, grd_pos (Or.inl rfl)]
theorem tk_3 {s v k w : Int32} (t : TokR s v k w) (h0 : tokK s v ≠ 0) : (3 ≤ tokK s v ∧ tokK s v ≤ 14) ∧ v = mkc (nn (tokK s v)) ∧ ¬ (k = 4 ∧ w = 59) ∧ ¬ (k = 4 ∧ w = 41) ∧ ¬ s = 4 := by
  rcases tk_f t with ⟨q, -⟩ | ⟨-, e⟩
  · generalize tokK s v = kk at q ⊢
    rcases q with ⟨rfl, rfl, ⟨rfl, rfl, rfl⟩ | ⟨rfl, rfl, rfl⟩⟩ | ⟨rfl, ⟨rfl, h⟩ | ⟨rfl, h⟩⟩
    · decide
    · decide
    · rcases h with ⟨rfl, rfl, rfl⟩ | ⟨rfl, rfl, rfl⟩ | ⟨rfl, rfl, rfl⟩ | ⟨rfl, rfl, rfl⟩ | ⟨rfl, rfl, rfl⟩ | ⟨rfl, rfl, rfl⟩ <;> decide
    · rcases h with ⟨rfl, rfl, rfl⟩ | ⟨rfl, rfl, rfl⟩ | ⟨rfl, rfl, rfl⟩ | ⟨rfl, rfl, rfl⟩ <;> decide
  · exact absurd e h0
theorem rk_3 : ∀ k : Fin 15, 3 ≤ k.val → 1 ≤ rk k.val := by decide
theorem em_it0 (e50 : J 0 50 = 0) (K : HP → Option (Int32 × HP)) (fu : Nat) : m_sumRead_25 K (fu + 1) (hw g J M) = if J 0 8 = 4 ∧ J 0 9 = 59 ∧ J 0 48 ≤ 0 then K (hw g J M) else cal (m_signs (hw g J M)) (fun r9 h10 => if r9 = 0 then (some ((0 : Int32), h10)) else (m_sumRead_25 K fu h10)) := by
  rw [m_sumRead_25]
  simp only [em_isSign, bnd_e, cal_s, onr_s, jon_e, gI_hw, gL_hw, gT_hw, gR_hw, gN_hw, sI_hw, sL_hw, cV_hw, shS_hw, shC_hw, shL_hw, ← bt_def, bI_eq0, e50, if_true]
  by_cases z : J 0 8 = 4 ∧ J 0 9 = 59
  · rw [decide_eq_true z]
    simp only [eq_self, Bool.true_eq_false, if_true, if_false]
    by_cases y : J 0 48 ≤ 0
    · rw [if_pos y, if_pos ⟨z.1, z.2, y⟩]
    · rw [if_neg y, if_neg (fun e => y e.2.2)]
  · rw [decide_eq_false z]
    simp only [eq_self, Bool.true_eq_false, if_true, if_false]
    rw [if_neg (fun e => z ⟨e.1, e.2.1⟩)]
theorem em_it1 (e50 : J 0 50 = 1) (K : HP → Option (Int32 × HP)) (fu : Nat) : m_sumRead_25 K (fu + 1) (hw g J M) = cal (m_leafRead (hw g J M)) (fun r9 h10 => if r9 = 0 then (some ((0 : Int32), h10)) else (m_sumRead_25 K fu h10)) := by
  rw [m_sumRead_25]
  simp only [em_isSign, bnd_e, cal_s, onr_s, jon_e, gI_hw, gL_hw, gT_hw, gR_hw, gN_hw, sI_hw, sL_hw, cV_hw, shS_hw, shC_hw, shL_hw, ← bt_def, bI_eq0, e50, if_neg (show ¬ (1 : Int32) = 0 by decide)]
  cases decide (J 0 8 = 4 ∧ J 0 9 = 59)
  · simp only [eq_self, Bool.true_eq_false, if_true, if_false]
  · simp only [eq_self, Bool.true_eq_false, if_true, if_false]
theorem em_cnt (e : J 0 49 = nn cnt) (hc : cnt ≤ 64) : m_isCounted (hw g J M) = if cnt = 64 then m_wrong 2 (hw g J M) else some (1, hw g (u2 J 0 49 (nn (cnt + 1))) M) := by
  simp only [m_isCounted, bnd_e, cal_s, onr_s, jon_e, gI_hw, gL_hw, gT_hw, gR_hw, gN_hw, sI_hw, sL_hw, cV_hw, shS_hw, shC_hw, shL_hw, ← bt_def, e, nn_succ]
  by_cases z : cnt = 64
  · rw [if_pos (by rw [z]; rfl), if_pos z, m_wr]
  · rw [if_neg (show ¬ nn cnt = (64 : Int32) from fun y => z ((nn_eq (b := 64) (by omega) (by omega)).mp y)), if_neg z]
theorem em_wait (e : J 0 46 = nn W.length) (hl : W.length < 96) (k : Int32) : m_waitsFor k (hw g J M) = some ((), hw g (u2 (u2 J 25 W.length k) 0 46 (nn (W.length + 1))) M) := by
  simp only [m_waitsFor, bnd_e, cal_s, onr_s, jon_e, gI_hw, gL_hw, gT_hw, gR_hw, gN_hw, sI_hw, sL_hw, cV_hw, shS_hw, shC_hw, shL_hw, ← bt_def, e, nn_clamp (show W.length < 2147483648 by omega), grd_pos (show inb (nn W.length) 96 from nn_inb (by omega) (by omega)), u2_ne (show 0 ≠ 25 by decide), nn_succ]
theorem ec_knot (q : Rd h I J n tb c a) (e : I c 10 = nn cnt) (hc : cnt ≤ 64) : cR_knot (hw h I L) = if cnt = 64 then cal (cR_wrong 2 (hw h I L)) (fun r h' => grd ((gT (cV h') r).1 = 20) (some (.inr (1, r), h'))) else cal (cR_next (hw h (u2 I c 10 (nn (cnt + 1))) L)) (fun _ h15 => some (.inl (I 2 4), h15)) := by
  simp only [cR_knot, bnd_e, cal_s, onr_s, jon_e, gI_hw, gL_hw, gT_hw, gR_hw, gN_hw, sI_hw, sL_hw, cV_hw, shS_hw, shC_hw, shL_hw, ← bt_def, q.2.2.2.1, grd_pos q.2.2.2.2.1, e, nn_succ, u2_ne (Ne.symm q.c2)]
  by_cases z : cnt = 64
  · rw [if_pos (by rw [z]; rfl), if_pos z]
  · rw [if_neg (show ¬ nn cnt = (64 : Int32) from fun y => z ((nn_eq (b := 64) (by omega) (by omega)).mp y)), if_neg z]
theorem Rd.s5 (q : Rd h I J n tb c a) (v : Int32) : Rd h (u2 I 2 5 v) J n tb c a := q.cg (u2_ne (by decide)) (fun k hk => u2_nk _ _ (by omega)) (Eq.refl _) (Eq.refl _) (fun _ _ _ => Eq.refl _)
theorem Rd.s10 (q : Rd h I J n tb c a) (v : Int32) : Rd h (u2 I c 10 v) J n tb c a := q.cg (u2_ne (by have := q.2.2.2.2.2.1; omega)) (fun k hk => by rw [u2_ne (Ne.symm q.c2)]) (Eq.refl _) (Eq.refl _) (fun _ _ _ => Eq.refl _)
theorem Stk.push {kk : Nat} (h14 : kk ≤ 14) (q : Stk J W H s0 kr) (e46 : J' 0 46 = nn (W.length + 1)) (e25 : J' 25 W.length = nn kk) (f25 : ∀ i, i < W.length → J' 25 i = J 25 i) (e47 : J' 0 47 = J 0 47) (e21 : J' 0 21 = J 0 21) (f : ∀ x, 22 ≤ x → x ≤ 26 → x ≠ 25 → J' x = J x) : Stk J' (kk :: W) H s0 kr := by
  obtain ⟨⟨q1, q2⟩, q3, q4, q5⟩ := q
  exact ⟨⟨e46, ⟨e25, h14⟩, WSt.cg W f25 q2⟩, by rw [e47]; exact q3, HSt.cg H kr kr (Nat.le_refl _) (fun i hi => by rw [f 26 (by decide) (by decide) (by decide)]) (fun k hk => by rw [f 22 (by decide) (by decide) (by decide), f 23 (by decide) (by decide) (by decide), f 24 (by decide) (by decide) (by decide)]; exact ⟨rfl, rfl, rfl⟩) q4, by rw [e21]; exact q5⟩
theorem Stk.cg (q : Stk J W H s0 kr) (e0 : ∀ k, k = 46 ∨ k = 47 ∨ k = 21 → J' 0 k = J 0 k) (f : ∀ x, 22 ≤ x → x ≤ 26 → J' x = J x) : Stk J' W H s0 kr := by
  obtain ⟨⟨q1, q2⟩, q3, q4, q5⟩ := q
  exact ⟨⟨by rw [e0 46 (by omega)]; exact q1, WSt.cg W (fun i _ => by rw [f 25 (by decide) (by decide)]) q2⟩, by rw [e0 47 (by omega)]; exact q3, HSt.cg H kr kr (Nat.le_refl _) (fun i hi => by rw [f 26 (by decide) (by decide)]) (fun k hk => by rw [f 22 (by decide) (by decide), f 23 (by decide) (by decide), f 24 (by decide) (by decide)]; exact ⟨rfl, rfl, rfl⟩) q4, by rw [e0 21 (by omega)]; exact q5⟩
theorem em_sgD {kk : Nat} (h14 : kk ≤ 14) (e49 : J 0 49 = nn cnt) (hc : cnt < 64) (e46 : J 0 46 = nn W.length) (hl : W.length < 96) : sgD (nn kk) (hw g J M) = cal (m_token (hw g (u2 (u2 (u2 (u2 (u2 J 0 49 (nn (cnt + 1))) 25 W.length (nn kk)) 0 46 (nn (W.length + 1))) 0 50 1) 0 51 (if 3 ≤ rk kk then 0 else 1)) M)) (fun _ h36 => some (1, h36)) := by
  have r6 := rk_6 kk
  rw [sgD, em_cnt e49 (by omega), if_neg (by omega)]
  rw [cal_s, if_neg (by decide), em_wait (W := W) (by rw [u2_nk _ _ (by decide)]; exact e46) hl]
  simp only [bnd_e, cal_s, onr_s, jon_e, gI_hw, gL_hw, gT_hw, gR_hw, gN_hw, sI_hw, sL_hw, cV_hw, shS_hw, shC_hw, shL_hw, ← bt_def, em_rk h14]
  by_cases z : 3 ≤ rk kk
  · rw [if_pos (show (3 : Int32) ≤ nn (rk kk) from (nn_le (a := 3) (by omega) (by omega)).mpr z), if_pos z, grd_pos (Or.inl rfl)]
  · rw [if_neg (show ¬ (3 : Int32) ≤ nn (rk kk) from fun y => z ((nn_le (a := 3) (by omega) (by omega)).mp y)), if_neg z, grd_pos (Or.inr rfl)]
/-- a sign between two -/
theorem st_op (q : ES h I J n tb c a (P ++ W) (Q ++ H) s0 kr b cnt 0) {kk ll : Nat} (hk : tokK (I 2 3) (I 2 4) = kk) (k0 : kk ≠ 0) (hll : ll = if rk kk = 4 then 5 else rk kk) (hP : ∀ k, k ∈ P → ll ≤ rk k) (hW : ∀ k W', W = k :: W' → rk k < ll ∧ (rk kk = 4 → rk k ≠ 4)) (hr : red P (Q.map Prod.snd) = some f) (K : HP → Option (Int32 × HP)) (fu : Nat) :
    Flt g M c kr h I J 1 (cR_knot (hw h I L)) (m_sumRead_25 K (fu + 1) (hw g J M)) ∨
    ∃ I' J' a' x, cR_knot (hw h I L) = some (.inl (mkc (nn kk)), hw h I' L) ∧ m_sumRead_25 K (fu + 1) (hw g J M) = m_sumRead_25 K fu (hw g J' M) ∧ ES h I' J' n tb c a' (kk :: W) ((x, f) :: H) s0 (kr + P.length) b (cnt + 1) 1 ∧ J' 0 51 = (if 3 ≤ rk kk then 0 else 1) ∧ mu n a' (I' 2 3) < mu n a (I 2 3) ∧ EF c h I h I' ∧ MF kr J J' := by
  obtain ⟨rd, ⟨i10, j49, c64, cz⟩, ⟨i5, j48, b8, bz⟩, stk, j50⟩ := q
  have tok := rd.2.2.1.1
  obtain ⟨⟨k3, k14⟩, vk, n59, n41, s4⟩ := tk_3 tok (by rw [hk]; exact k0)
  rw [hk] at k3 k14 vk
  have rk1 := rk_3 ⟨kk, by omega⟩ k3
  have rk1 : 1 ≤ rk kk := rk1
  have r6 := rk_6 kk
  have l1 : 1 ≤ ll := by rw [hll]; split <;> omega
  have l6 : ll ≤ 6 := by rw [hll]; split <;> omega
  have nzP := nz_rk P (fun k hk => Nat.le_trans l1 (hP k hk))
  have cz' : cnt = kr + P.length + nz W := by rw [nz_app, nzP.1] at cz; omega
  have bz' : zc W = b := by rw [zc_app, nzP.2] at bz; omega
  have len := nz_zc (P ++ W)
  rw [nz_app, zc_app, nzP.1, nzP.2] at len
  have lenW := nz_zc W
  obtain ⟨J1, x, e1, st1, mb⟩ := em_bind (g := g) (M := M) l1 l6 (fun k W' e => (hW k W' e).1) stk hP hr (by omega) (by omega)
  have a0 : ∀ k, k ≠ 21 → k ≠ 46 → k ≠ 47 → J1 0 k = J 0 k := mb.2.2
  have rd1 : Rd h I J1 n tb c a := rd.cg (Eq.refl _) (fun _ _ => Eq.refl _) (mb.1 1 (by decide) (by decide) (by decide) (by decide) (by decide)) (mb.1 2 (by decide) (by decide) (by decide) (by decide) (by decide)) (fun k _ _ => a0 k (by omega) (by omega) (by omega))
  have head : m_sumRead_25 K (fu + 1) (hw g J M) = cal (sgD (nn kk) (hw g J1 M)) (fun r9 h10 => if r9 = 0 then (some ((0 : Int32), h10)) else (m_sumRead_25 K fu h10)) := by
    rw [em_it0 j50, if_neg (fun e => n59 ⟨e.1, e.2.1⟩), m_signs_e, em_isSign, decide_eq_false n41, cal_s]
    rw [if_pos (by rfl), em_sgK sgB tok, hk, sgB, if_neg (show ¬ nn kk = 0 from fun y => k0 ((nn_eq (b := 0) (by omega) (by omega)).mp y)), em_rk k14, cal_s, em_rk k14, cal_s]
    have fin : sgC (nn kk) (nn ll) (hw g J M) = sgD (nn kk) (hw g J1 M) := by
      rw [sgC, e1, cal_s, em_rk k14, cal_s]
      by_cases z : rk kk = 4
      · rw [if_pos (by rw [z]; rfl), gI_hw, st1.1.1]
        have lw0 : W.length < 96 := by omega
        match W, hW, st1, lw0 with
        | [], _, st1, _ => rw [if_pos (by show nn 0 ≤ 0; decide)]
        | w :: W', hW, st1, lw0 =>
          obtain ⟨⟨e25, w14⟩, -⟩ : (J1 25 W'.length = nn w ∧ w ≤ 14) ∧ WSt J1 W' := st1.1.2
          have lw : W'.length + 1 ≤ 96 := Nat.le_of_lt lw0
          have e : nn ((w :: W').length) - 1 = nn W'.length := nn_sub (a := W'.length + 1) (b := 1) (by omega)
          have rw6 := rk_6 w
          rw [if_neg (show ¬ nn ((w :: W').length) ≤ 0 from fun y => by have := (nn_le (a := W'.length + 1) (b := 0) (by omega) (by omega)).mp y; omega), e, grd_pos (nn_inb (by omega) (by omega)), nn_clamp (by omega), e25, em_rk w14, cal_s, if_neg (show ¬ nn (rk w) = (4 : Int32) from fun y => (hW w W' rfl).2 z ((nn_eq (b := 4) (by omega) (by omega)).mp y))]
      · rw [if_neg (show ¬ nn (rk kk) = (4 : Int32) from fun y => z ((nn_eq (b := 4) (by omega) (by omega)).mp y))]
    by_cases z : rk kk = 4
    · rw [if_pos (show nn (rk kk) = 4 by rw [z]; rfl), show (5 : Int32) = nn ll by rw [hll, if_pos z]; rfl, fin]
    · rw [if_neg (show ¬ nn (rk kk) = 4 from fun y => z ((nn_eq (b := 4) (by omega) (by omega)).mp y)), show nn (rk kk) = nn ll by rw [hll, if_neg z], fin]
  rw [head, ec_knot rd i10 c64]
  by_cases z : cnt = 64
  · left
    rw [if_pos z, sgD, em_cnt (by rw [a0 49 (by decide) (by decide) (by decide)]; exact j49) c64, if_pos z]
    have fl := (flt_wrong (ρ := Int32) (g := g) (M := M) (L := L) rd1 kr 2)
    have fl2 := fl.st (EF.rfl c h I) (MF.b mb) (Nat.le_refl _) (Nat.le_refl _) (Nat.le_refl _)
    rw [em_wrong] at fl2 ⊢
    exact fl2
  · right
    rw [if_neg z, em_sgD k14 (by rw [a0 49 (by decide) (by decide) (by decide)]; exact j49) (by omega) st1.1.1 (by omega)]
    generalize hJ2 : u2 (u2 (u2 (u2 (u2 J1 0 49 (nn (cnt + 1))) 25 W.length (nn kk)) 0 46 (nn (W.length + 1))) 0 50 1) 0 51 (if 3 ≤ rk kk then 0 else 1) = J2
    have v0 : ∀ k, k ≠ 49 → k ≠ 46 → k ≠ 50 → k ≠ 51 → J2 0 k = J1 0 k := fun k h1 h2 h3 h4 => by rw [← hJ2, u2_nk _ _ h4, u2_nk _ _ h3, u2_nk _ _ h2, u2_ne (by decide), u2_nk _ _ h1]
    have vx : ∀ x, x ≠ 0 → x ≠ 25 → J2 x = J1 x := fun x h1 h2 => by rw [← hJ2, u2_ne h1, u2_ne h1, u2_ne h1, u2_ne h2, u2_ne h1]
    have v25 : ∀ i, J2 25 i = if i = W.length then nn kk else J1 25 i := fun i => by
      rw [← hJ2, u2_ne (by decide), u2_ne (by decide), u2_ne (by decide), u2_eq, u2_ne (by decide)]
    have v46 : J2 0 46 = nn (W.length + 1) := by rw [← hJ2, u2_nk _ _ (by decide), u2_nk _ _ (by decide), u2_same]
    have v49 : J2 0 49 = nn (cnt + 1) := by rw [← hJ2, u2_nk _ _ (by decide), u2_nk _ _ (by decide), u2_nk _ _ (by decide), u2_ne (by decide), u2_same]
    have v50 : J2 0 50 = 1 := by rw [← hJ2, u2_nk _ _ (by decide), u2_same]
    have v51 : J2 0 51 = if 3 ≤ rk kk then 0 else 1 := by rw [← hJ2, u2_same]
    have st2 : Stk J2 (kk :: W) ((x, f) :: H) s0 (kr + P.length) := st1.push k14 v46 (by rw [v25, if_pos rfl]) (fun i hi => by rw [v25, if_neg (by omega)]) (v0 47 (by decide) (by decide) (by decide) (by decide)) (v0 21 (by decide) (by decide) (by decide) (by decide)) (fun x h1 h2 h3 => vx x (by omega) h3)
    have mf : MF kr J J2 := by
      refine (MF.b mb).tr (Nat.le_refl _) ⟨fun x h0 _ _ _ h5 _ => vx x h0 h5, fun k _ => by rw [vx 22 (by decide) (by decide), vx 23 (by decide) (by decide), vx 24 (by decide) (by decide)]; exact ⟨rfl, rfl, rfl⟩, fun k hk => v0 k (by omega) (by omega) (by omega) (by omega)⟩
    have rd2 : Rd h (u2 I c 10 (nn (cnt + 1))) J2 n tb c a := (rd1.s10 _).cg (Eq.refl _) (fun _ _ => Eq.refl _) (vx 1 (by decide) (by decide)) (vx 2 (by decide) (by decide)) (fun k _ _ => v0 k (by omega) (by omega) (by omega) (by omega))
    obtain ⟨I', J', a', n1, n2, n3, n4, n5, n6⟩ := r_next (L := L) (g := g) (M := M) rd2
    have i23 : (u2 I c 10 (nn (cnt + 1))) 2 = I 2 := u2_ne (Ne.symm rd.c2)
    rw [n1, n2]
    refine ⟨I', J', a', x, by rw [vk]; rfl, rfl, ⟨n3, ⟨?_, ?_, by omega, ?_⟩, ⟨?_, ?_, b8, ?_⟩, st2.cg (fun k hk => n6.2 k (by omega)) (fun x h1 h2 => n6.1 x (by omega)), ?_⟩, ?_, ?_, (EF.u10 rd.c2 _).tr (EF.x rd.c2 n5), mf.tr (Nat.le_refl _) (MF.v n6)⟩
    · rw [n5.1 c rd.c2, u2_same]
    · rw [n6.2 49 (by omega)]; exact v49
    · simp only [nz, if_neg k0]; omega
    · rw [n5.2 5 (by decide) (by decide) (by decide) (by decide), i23]; exact i5
    · rw [n6.2 48 (by omega), v0 48 (by decide) (by decide) (by decide) (by decide), a0 48 (by decide) (by decide) (by decide)]; exact j48
    · simp only [zc, if_neg k0]; omega
    · rw [n6.2 50 (by omega)]; exact v50
    · rw [n6.2 51 (by omega)]; exact v51
    · have := n4 (by rw [i23]; exact s4)
      rw [i23] at this; exact this
end P30
