/-! PURE LEVEL 62: note -/
section P19
variable {h g : HP} {I J : Nat → Nat → Int32} {L M : Nat → Nat → Int64}
theorem P_note (q : Inv h I J M) (x y z v : Int32) (hv : isB v) : PB h g (cA_note x y z v (hw h I L)) (m_note x y z v (hw g J M)) := by
  have q0 := q.fr (frA.rfl I) (frB.u0 J (k := 2) 0 (by omega)) (frL2.rfl _ M)
  simp only [cA_note, m_note, bnd_e, cal_s, onr_s, jon_e, gI_hw, gL_hw, gT_hw, gR_hw, gN_hw, sI_hw, sL_hw, cV_hw, shS_hw, shC_hw, shL_hw, ← bt_def]
  generalize u2 J 0 2 0 = J1 at q0 ⊢
  obtain ⟨c, K, A, w, S, al, nu, D, N, sn, kv, kn, U, im, X, tp, tb, p⟩ := q0.p
  obtain ⟨n1, n2, n3, n4, n5, n6⟩ := p.2.1
  have W := p.1.1.1.1
  have V := p.1.1.2.1.1
  have hs := n3.1
  have hP := W.p5
  have hF : zF K ≤ 8 := W.2.2.1.1
  have hT : zT K ≤ 10 := W.2.2.1.2.2.2.1
  have sh : Shp h := p.2.2.2.2.2.2
  have sz := ec_size (I := I) (L := L) (sh41 h)
  rw [n1.1] at sz
  have cT7 : I c 7 = nn (zT K) := W.2.1.2.2.2.2.1.1
  have j15 : J1 0 15 = nn (zT K) := V.1.1.2.2.2.1
  have out0 : ∀ r, PB h g (some (r, hw h I L)) (some (r, hw g J1 M)) := fun r => ⟨r, h, I, L, J1, M, rfl, rfl, q0, by omega, by omega⟩
  simp only [W.1, onr_some, grd_pos W.2.1.1, cT7, j15, sz, n2.1, bnd_e, cal_s, onr_s, jon_e, gI_hw, gL_hw, gT_hw, gR_hw, gN_hw, sI_hw, sL_hw, cV_hw, shS_hw, shC_hw, shL_hw, ← bt_def, show (0 : Int64) = (0 : Int32).toInt64 from rfl, ec_in, em_in, ec_isPerson W, em_isPerson V, ec_isFact W, em_isFact V, bI_eq0]
  by_cases z24 : sn = 24
  · subst z24
    rw [if_pos (show nn 24 = (24 : Int32) from rfl)]
    cases decide (¬ x < 0 ∧ ¬ nn (zT K) < x) with
    | false => simp only [eq_self, Bool.true_eq_false, if_true, if_false]; exact out0 _
    | true =>
      simp only [eq_self, Bool.true_eq_false, if_true, if_false]
      cases zin y (zP K) with
      | false => simp only [eq_self, Bool.true_eq_false, if_true, if_false]; exact out0 _
      | true =>
        simp only [eq_self, Bool.true_eq_false, if_true, if_false]
        cases zin z (zF K) with
        | false => simp only [eq_self, Bool.true_eq_false, if_true, if_false]; exact out0 _
        | true => simp only [eq_self, Bool.true_eq_false, if_true, if_false]; rw [if_pos (show (24 : Int32) ≤ nn 24 by decide)]; exact out0 _
  · have h24 : sn < 24 := by omega
    rw [if_neg (show ¬ nn sn = (24 : Int32) by rw [show (24 : Int32) = nn 24 from rfl, nn_eq (by omega) (by omega)]; exact z24)]
    cases zx : decide (¬ x < 0 ∧ ¬ nn (zT K) < x) with
    | false => simp only [eq_self, Bool.true_eq_false, if_true, if_false]; exact out0 _
    | true =>
      simp only [eq_self, Bool.true_eq_false, if_true, if_false]
      cases zy : zin y (zP K) with
      | false => simp only [eq_self, Bool.true_eq_false, if_true, if_false]; exact out0 _
      | true =>
        simp only [eq_self, Bool.true_eq_false, if_true, if_false]
        cases zz : zin z (zF K) with
        | false => simp only [eq_self, Bool.true_eq_false, if_true, if_false]; exact out0 _
        | true =>
          simp only [eq_self, Bool.true_eq_false, if_true, if_false]
          obtain ⟨b, hb, rfl⟩ := zin_t (by omega) zy
          obtain ⟨zx0, zx1⟩ := of_decide_eq_true zx
          have xt : ∃ t, t < zT K + 1 ∧ x = nn t := nn_of (by omega) zx0 (Int32.lt_of_le_of_lt (Int32.not_lt.mp zx1) ((nn_lt (by omega) (by omega)).mpr (by omega)))
          have xm : ¬ x = -1 := fun e => by rw [e] at zx0; exact zx0 (by decide)
          rw [if_neg (show ¬ (24 : Int32) ≤ nn sn from nn_nle (n := 24) h24 (by omega)), grd_pos sh.1]
          have h54 := sh.1
          have jv : (if v = 0 then (0 : Int32) else 1) = v := by rcases hv with rfl | rfl <;> rfl
          obtain ⟨H, hH, F, tH, fI, nN, nS, sH⟩ := nw_f I L 14 4 sh
          have k21 := ec_n21 (h := H) (I := gI H) (L := gL H) (b := gN h) (by rw [tH]) x (nn b) z v hv
          rw [← hw_eta] at k21
          have i41 : (u2 (u2 (u2 (u2 (gI H) (gN h) 0 x) (gN h) 1 (nn b)) (gN h) 2 z) (gN h) 3 v) 41 2 = nn sn := by rw [u2_ne (by omega), u2_ne (by omega), u2_ne (by omega), u2_ne (by omega), fI 41 (by omega)]; exact n1.1
          have ad := ec_add (h := H) (I := u2 (u2 (u2 (u2 (gI H) (gN h) 0 x) (gN h) 1 (nn b)) (gN h) 2 z) (gN h) 3 v) (L := gL H) (b := gN h) h24 i41 (Or.inl (by rw [tH]))
          have em := em_noted (g := g) (M := M) h24 n2.1 x (nn b) z v
          have em2 : (if v = 0 then cal (m_noted x (nn b) z 0 (hw g J1 M)) (fun r h => some (r, h)) else cal (m_noted x (nn b) z 1 (hw g J1 M)) (fun r h => some (r, h))) = some (nn sn, hw g (ntJ J1 sn x (nn b) z v) M) := by
            rcases hv with rfl | rfl
            · rw [em]; rfl
            · rw [em]; rfl
          simp only [hH, k21, ad, bnd_e, cal_s, onr_s, jon_e, gI_hw, gL_hw, gT_hw, gR_hw, gN_hw, sI_hw, sL_hw, cV_hw, shS_hw, shC_hw, shL_hw, ← bt_def]
          obtain ⟨c1, c2, c3⟩ := s42_f H sn (some (gN h))
          refine ⟨nn sn, sR H 42 sn (some (gN h)), _, gL H, _, M, rfl, em2, (p.add (h' := sR H 42 sn (some (gN h))) (v := fun i => if i = 0 then x else if i = 1 then nn b else if i = 2 then z else v) h24 (fun x hx => by rw [c1]; exact (F x hx).1) (fun x hx h2 => by rw [c2 x h2]; exact (F x hx).2) (fun j => by rw [c3, (F 42 (by omega)).2]) (show Shp (sR H 42 sn (some (gN h))) from sH) (fun x h1 h2 => by rw [u2_ne h1, u2_ne h1, u2_ne h2, u2_ne h2, u2_ne h2, u2_ne h2, fI x h2]) (u2_same _ _ _ _) (fun x h0 h1 => ?_) (fun j hj => ?_) ?_ (fun j hj => ?_) ?_ (Or.inl ⟨xm, ?_, ?_, ?_, ?_, ?_⟩) (Or.inl ?_)).inv, ?_, ?_⟩
          · unfold ntJ; rw [u2_ne h0, u2_ne h1, u2_ne h1, u2_ne h1, u2_ne h1]
          · unfold ntJ; rw [u2_nk _ _ hj, u2_ne (by decide), u2_ne (by decide), u2_ne (by decide), u2_ne (by decide)]
          · exact u2_same _ _ _ _
          · unfold ntJ; rw [u2_ne (by decide), u2_nk _ _ (by omega), u2_nk _ _ (by omega), u2_nk _ _ (by omega), u2_nk _ _ (by omega)]
          · unfold ntJ
            rw [u2_ne (by decide)]
            refine ⟨?_, ?_, ?_, ?_⟩
            · rw [u2_nk _ _ (by omega), u2_nk _ _ (by omega), u2_nk _ _ (by omega), u2_same]; rfl
            · rw [u2_nk _ _ (by omega), u2_nk _ _ (by omega), u2_same]; rfl
            · rw [u2_nk _ _ (by omega), u2_same]; rfl
            · rw [u2_same]; rfl
          · rw [c1, tH]
          · rw [u2_ne (by omega), u2_ne (by omega), u2_nk _ _ (by decide), u2_nk _ _ (by decide), u2_nk _ _ (by decide), u2_same]; rfl
          · rw [u2_ne (by omega), u2_ne (by omega), u2_nk _ _ (by decide), u2_nk _ _ (by decide), u2_same]; rfl
          · rw [u2_ne (by omega), u2_ne (by omega), u2_nk _ _ (by decide), u2_same]; rfl
          · rw [u2_ne (by omega), u2_ne (by omega), u2_same]; rfl
          · obtain ⟨t, ht, xe⟩ := xt
            exact ⟨t, b, by omega, hb, xe, rfl, hv⟩
          · show gN H ≤ _; omega
          · show gS H ≤ _; omega
end P19
