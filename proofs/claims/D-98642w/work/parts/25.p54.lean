/-! PURE LEVEL 54: ask -/
section P12
variable {h g : HP} {I J : Nat → Nat → Int32} {L M : Nat → Nat → Int64}
theorem P_ask (q : Inv h I J M) (x y u : Int32) : PB h g (cA_ask x y u (hw h I L)) (m_ask x y u (hw g J M)) := by
  have q0 := q.fr (frA.rfl I) (frB.u0 J (k := 2) 0 (by omega)) (frL2.rfl _ M)
  simp only [cA_ask, m_ask, bnd_e, cal_s, onr_s, jon_e, gI_hw, gL_hw, gT_hw, gR_hw, gN_hw, sI_hw, sL_hw, cV_hw, shS_hw, shC_hw, shL_hw, ← bt_def]
  generalize u2 J 0 2 0 = J1 at q0 ⊢
  have q1 := q0.fr (frA.rfl I) (plI_fr J1) (frL2.rfl _ M)
  obtain ⟨c, K, A, w, S, al, nu, D, N, sn, kv, kn, U, im, X, tp, tb, p⟩ := q1.p
  have W := p.1.1.1.1
  have V := p.1.1.2.1.1
  have V1 : MW J1 K := V.cg (fun x h1 h2 => (plI_ne J1 (by omega)).symm) (fun k h1 h2 => ((plI_fr J1).2.1 k (by omega) (by omega) (by omega)).symm)
  have hP := W.p5
  have hQ : zQ K ≤ 8 := W.2.2.1.2.2.1
  have out0 : ∀ r, PB h g (some (r, hw h I L)) (some (r, hw g J1 M)) := fun r => ⟨r, h, I, L, J1, M, rfl, rfl, q0, by omega, by omega⟩
  have out1 : ∀ r, PB h g (some (r, hw h I L)) (some (r, hw g (plI J1) M)) := fun r => ⟨r, h, I, L, plI J1, M, rfl, rfl, q1, by omega, by omega⟩
  simp only [bnd_e, cal_s, onr_s, jon_e, gI_hw, gL_hw, gT_hw, gR_hw, gN_hw, sI_hw, sL_hw, cV_hw, shS_hw, shC_hw, shL_hw, ← bt_def, ec_areTwo W, ec_isQuestion W, em_isPerson V1, em_isQuestion V1, em_plain, bI_eq0]
  cases z : zin x (zP K) with
  | false => simp only [Bool.false_and]; simp only [eq_self, Bool.true_eq_false, if_true, if_false]; exact out0 _
  | true =>
    simp only [Bool.true_and]
    simp only [eq_self, Bool.true_eq_false, if_true, if_false]
    obtain ⟨a, ha, rfl⟩ := zin_t (by omega) z
    cases z' : zin y (zP K) with
    | false => simp only [Bool.false_and]; simp only [eq_self, Bool.true_eq_false, if_true, if_false]; exact out0 _
    | true =>
      simp only [Bool.true_and]
      simp only [eq_self, Bool.true_eq_false, if_true, if_false]
      obtain ⟨b, hb, rfl⟩ := zin_t (by omega) z'
      by_cases ab : nn a = nn b
      · rw [if_pos (show decide (¬ nn a = nn b) = false by simp [ab]), if_pos ab]; exact out0 _
      · rw [if_neg (show ¬ decide (¬ nn a = nn b) = false by simp [ab]), if_neg ab]
        cases z3 : zin u (zQ K) with
        | false => simp only [eq_self, Bool.true_eq_false, if_true, if_false]; exact out0 _
        | true =>
          simp only [eq_self, Bool.true_eq_false, if_true, if_false]
          obtain ⟨k, hk, rfl⟩ := zin_t (by omega) z3
          have cc := ec_can (L := L) W (sh20 h) p.1.1.1.2 ha hb hk true
          have cm := em_can (h := g) (L := M) (F := (-1, w, 0)) V (b := 0) (by omega) p.1.1.2.1.2 (plI_fl J1 w) (cnt := true) (plI_63 J1) ha hb hk
          rw [show bI true = 1 from rfl] at cc
          rw [nn0] at cm
          simp only [cc, cm, bnd_e, cal_s, onr_s, jon_e, gI_hw, gL_hw, gT_hw, gR_hw, gN_hw, sI_hw, sL_hw, cV_hw, shS_hw, shC_hw, shL_hw, ← bt_def, bI_eq0]
          cases z4 : zcan K (-1, w, 0) S a b k true with
          | false => simp only [eq_self, Bool.true_eq_false, if_true, if_false]; exact out1 _
          | true =>
            simp only [eq_self, Bool.true_eq_false, if_true, if_false]
            obtain ⟨h', I', L', J', M', e1, e2, p', gn, gs, gr, fr⟩ := p.rem (L := L) (g := g)
            obtain ⟨⟨⟨W', s1⟩, ⟨V', t1⟩, ws⟩, n1, n2, n3, n4, n5⟩ := p'.1
            obtain ⟨I3, L3, e3, s3, f3, i5, i6⟩ := ec_ask (L := L') W' (sh20 h') s1 ha hb hk true
            have fl : FlM (u2 J' 0 62 1) (-1, w, 0) := by
              refine FlM.u (by omega) ?_
              have := plI_fl J1 w
              unfold FlM at this ⊢
              rw [fr.2.1 64 (by decide), fr.2.1 65 (by decide), fr.2.1 66 (by decide), fr.2.1 67 (by decide)]; exact this
            obtain ⟨J3, M3, e4, t3, g3, l3, nk⟩ := em_ask (h := g) (I := u2 J' 0 62 1) (L := M') (F := (-1, w, 0)) (V'.cg (fun x h1 h2 => u2_ne (by omega)) (fun k h1 h2 => u2_nk _ _ (by omega))) (b := 0) (by omega) t1.u0 ws fl (dr := true) (u2_same J' 0 62 1) (num := nu) (fun _ => ⟨n4, n5⟩) ha hb hk (zcan_tog z4)
            rw [n3] at e3 s3 i6
            rw [show bI true = 1 from rfl] at e3
            rw [nn0] at e4
            obtain ⟨nk1, nk2⟩ := nk rfl
            have j60 : J3 0 60 = al := by rw [g3.2.1 60 (by decide), u2_nk _ _ (by decide)]; exact n2
            have iv : Inv h' I3 (u2 (u2 J3 0 62 0) 0 60 (al + 1)) M3 := by
              refine (p'.now (w' := w) (al' := al + 1) f3 (fun x h0 h1 => ?_) (fun k k1 k2 k3 k4 => ?_) l3.1 l3.2.1 s3 t3.u0.u0 (WS.ask W'.2.2 ws hk true nu) ?_ (u2_same _ _ _ _) i6 nk1 nk2).inv
              · rw [u2_ne h0, u2_ne h0, g3.1 x h0 (by omega) (by omega) (by omega), u2_ne h0]
              · rw [u2_nk _ _ k3, u2_nk _ _ (by omega), g3.2.1 k k2, u2_nk _ _ (by omega)]
              · rw [i5, n1]
            simp only [e1, e2, e3, e4, bnd_e, cal_s, onr_s, jon_e, gI_hw, gL_hw, gT_hw, gR_hw, gN_hw, sI_hw, sL_hw, cV_hw, shS_hw, shC_hw, shL_hw, ← bt_def, u2_nk _ _ (show 60 ≠ 62 by decide), j60, bI_eq0]
            cases (zask K (-1, w, 0) S a b k true nu).1 with
            | false => simp only [eq_self, Bool.true_eq_false, if_true, if_false]; exact ⟨_, h', I3, L3, _, M3, rfl, rfl, iv, gn, gs⟩
            | true => simp only [eq_self, Bool.true_eq_false, if_true, if_false]; exact ⟨_, h', I3, L3, _, M3, rfl, rfl, iv, gn, gs⟩
end P12
