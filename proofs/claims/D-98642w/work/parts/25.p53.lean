/-! PURE LEVEL 53: end, ask -/
def zend (S : ST) : ST := (sk S, sl S, sr S, (fun _ => 0), sd S + 1)
section P11
variable {h g : HP} {I J : Nat → Nat → Int32} {L M : Nat → Nat → Int64}
theorem ec_e34 (L : Nat → Nat → Int64) : ∀ (j i : Nat) (I : Nat → Nat → Int32) (fuel : Nat), i + j = 5 → j < fuel → ∃ I', (∀ k, cA_end_34 k fuel (nn i) (hw h I L) = k (hw h I' L)) ∧ (∀ p, i ≤ p → p < 5 → I' 24 p = 0) ∧ (∀ p, p < i → I' 24 p = I 24 p) ∧ ∀ x, x ≠ 24 → I' x = I x := by
  intro j
  induction j with
  | zero =>
    intro i I fuel hi hf
    obtain ⟨n, rfl⟩ : ∃ n, fuel = n + 1 := ⟨fuel - 1, by omega⟩
    have : (5 : Int32) ≤ nn i := nn_ple (n := 5) (by omega) (by omega)
    exact ⟨I, fun k => by rw [cA_end_34, if_pos this], fun p h1 h2 => by omega, fun _ _ => rfl, fun _ _ => rfl⟩
  | succ j ih =>
    intro i I fuel hi hf
    obtain ⟨n, rfl⟩ : ∃ n, fuel = n + 1 := ⟨fuel - 1, by omega⟩
    have nle : ¬ (5 : Int32) ≤ nn i := nn_nle (n := 5) (by omega) (by omega)
    obtain ⟨I2, e2, a2, c2, f2⟩ := ih (i + 1) (u2 I 24 i 0) n (by omega) (by omega)
    refine ⟨I2, fun k => ?_, fun p h1 h2 => ?_, fun p h1 => by rw [c2 p (by omega), u2_nk _ _ (by omega)], fun x hx => by rw [f2 x hx, u2_ne hx]⟩
    · rw [cA_end_34, if_neg nle]
      simp only [bnd_e, cal_s, onr_s, jon_e, gI_hw, gL_hw, gT_hw, gR_hw, gN_hw, sI_hw, sL_hw, cV_hw, shS_hw, shC_hw, shL_hw, ← bt_def, grd_pos (show inb (nn i) 5 from nn_inb (by omega) (by omega)), nn_clamp (show i < 2147483648 by omega), nn_succ, e2]
    · by_cases z : p = i
      · rw [z, c2 i (by omega), u2_same]
      · exact a2 p (by omega) h2
theorem em_e35 (M : Nat → Nat → Int64) : ∀ (j i : Nat) (I : Nat → Nat → Int32) (fuel : Nat), i + j = 5 → j < fuel → ∃ I', (∀ k, m_end_35 k fuel (nn i) (hw g I M) = k (hw g I' M)) ∧ (∀ p, i ≤ p → p < 5 → I' 32 p = 0) ∧ (∀ p, p < i → I' 32 p = I 32 p) ∧ ∀ x, x ≠ 32 → I' x = I x := by
  intro j
  induction j with
  | zero =>
    intro i I fuel hi hf
    obtain ⟨n, rfl⟩ : ∃ n, fuel = n + 1 := ⟨fuel - 1, by omega⟩
    have : (5 : Int32) ≤ nn i := nn_ple (n := 5) (by omega) (by omega)
    exact ⟨I, fun k => by rw [m_end_35, if_pos this], fun p h1 h2 => by omega, fun _ _ => rfl, fun _ _ => rfl⟩
  | succ j ih =>
    intro i I fuel hi hf
    obtain ⟨n, rfl⟩ : ∃ n, fuel = n + 1 := ⟨fuel - 1, by omega⟩
    have nle : ¬ (5 : Int32) ≤ nn i := nn_nle (n := 5) (by omega) (by omega)
    obtain ⟨I2, e2, a2, c2, f2⟩ := ih (i + 1) (u2 I 32 i 0) n (by omega) (by omega)
    refine ⟨I2, fun k => ?_, fun p h1 h2 => ?_, fun p h1 => by rw [c2 p (by omega), u2_nk _ _ (by omega)], fun x hx => by rw [f2 x hx, u2_ne hx]⟩
    · rw [m_end_35, if_neg nle]
      simp only [bnd_e, cal_s, onr_s, jon_e, gI_hw, gL_hw, gT_hw, gR_hw, gN_hw, sI_hw, sL_hw, cV_hw, shS_hw, shC_hw, shL_hw, ← bt_def, grd_pos (show inb (nn i) 10 from nn_inb (by omega) (by omega)), nn_clamp (show i < 2147483648 by omega), nn_succ, e2]
    · by_cases z : p = i
      · rw [z, c2 i (by omega), u2_same]
      · exact a2 p (by omega) h2
theorem P_end (q : Inv h I J M) : PB h g (cA_end (hw h I L)) (m_end (hw g J M)) := by
  have q0 := q.fr (frA.rfl I) (frB.u0 J (k := 2) 0 (by omega)) (frL2.rfl _ M)
  simp only [cA_end, m_end, bnd_e, cal_s, onr_s, jon_e, gI_hw, gL_hw, gT_hw, gR_hw, gN_hw, sI_hw, sL_hw, cV_hw, shS_hw, shC_hw, shL_hw, ← bt_def]
  generalize u2 J 0 2 0 = J1 at q0 ⊢
  obtain ⟨c, K, A, w, S, al, nu, D, N, sn, kv, kn, U, im, X, tp, tb, p⟩ := q0.p
  have hP := p.1.1.1.1.p5
  have i20 : I 20 4 = sd S := p.1.1.1.2.2.1
  have j33 : J1 33 0 = sd S := p.1.1.2.1.2.2
  obtain ⟨h', I', L', J', M', e1, e2, p', gn, gs, gr, fr⟩ := p.rem (L := L) (g := g)
  have i20' : I' 20 4 = sd S := p'.1.1.1.2.2.1
  have j33' : J' 33 0 = sd S := p'.1.1.2.1.2.2
  obtain ⟨I3, e3, a3, -, f3⟩ := ec_e34 (h := h') L' 5 0 (u2 I' 20 4 (sd S + 1)) FU (by omega) (by show 5 < 1000; omega)
  obtain ⟨J3, e4, a4, -, f4⟩ := em_e35 (g := g) M' 5 0 (u2 J' 33 0 (sd S + 1)) FU (by omega) (by show 5 < 1000; omega)
  rw [nn0] at e3 e4
  simp only [grd_pos (show inb (0 : Int32) 2 by decide), tn0, i20, j33, bnd_e, cal_s, onr_s, jon_e, gI_hw, gL_hw, gT_hw, gR_hw, gN_hw, sI_hw, sL_hw, cV_hw, shS_hw, shC_hw, shL_hw, ← bt_def, e1, e2, i20', j33', e3, e4]
  by_cases y0 : sd S = 999
  · rw [if_pos y0, if_pos y0]
    exact ⟨_, h, I, L, _, M, rfl, rfl, q0, by omega, by omega⟩
  · rw [if_neg y0, if_neg y0]
    have r1 : I3 20 4 = sd S + 1 := by rw [f3 20 (by decide), u2_same]
    have r2 : J3 33 0 = sd S + 1 := by rw [f4 33 (by decide), u2_same]
    rw [r1, r2]
    have fI : FrO 20 I' I3 := fun x hx => by rw [f3 x (by omega), u2_ne (by omega)]
    obtain ⟨⟨⟨-, s1, s2, s3⟩, ⟨-, t1, t2⟩, ws⟩, n1, n2, n3, n4, n5⟩ := p'.1
    refine ⟨_, h', I3, L', J3, M', rfl, rfl, (p'.now (w' := w) (S' := zend S) (al' := al) (nu' := nu) fI (fun x h0 h1 => by rw [f4 x (by omega), u2_ne (by omega)]) (fun k _ _ _ _ => by rw [f4 0 (by decide), u2_ne (by decide)]) (fun _ _ _ _ => rfl) (fun _ _ => rfl) ⟨fun p hp => ?_, r1, ?_⟩ ⟨fun p hp => ?_, r2⟩ ws ?_ ?_ ?_ n4 n5).inv, gn, gs⟩
    · obtain ⟨y1, y2, y3, y4⟩ := s1 p hp
      rw [f3 (20 + 1) (by decide), f3 (20 + 2) (by decide), f3 (20 + 3) (by decide), u2_ne (by decide), u2_ne (by decide), u2_ne (by decide)]
      exact ⟨y1, y2, y3, a3 p (by omega) (by omega)⟩
    · rw [f3 20 (by decide), u2_nk _ _ (by decide), u2_nk _ _ (by decide), u2_nk _ _ (by decide)]; exact s3
    · obtain ⟨y1, y2, y3, y4⟩ := t1 p hp
      rw [f4 29 (by decide), f4 30 (by decide), f4 31 (by decide), u2_ne (by decide), u2_ne (by decide), u2_ne (by decide)]
      refine ⟨y1, y2, y3, ?_⟩
      rw [show 5 * 0 + p = p by omega]; exact a4 p (by omega) (by omega)
    · rw [f3 20 (by decide), u2_nk _ _ (by decide)]; exact n1
    · rw [f4 0 (by decide), u2_ne (by decide)]; exact n2
    · rw [f3 20 (by decide), u2_nk _ _ (by decide)]; exact n3
end P11
