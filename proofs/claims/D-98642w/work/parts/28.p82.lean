set_option maxRecDepth 100000
/-! PURE LEVEL 82: steps of an expression: stuck, chains, brackets -/
section P31
variable {h h' g : HP} {I I' J J' : Nat → Nat → Int32} {L M : Nat → Nat → Int64} {n : Nat} {tb : Nat → Nat} {a c : Nat} {W P : List Nat} {H Q : List (Nat × LF)} {s0 kr b cnt : Nat} {wn : Int32} {f : LF}
/-- the component's throw of wrong(k) -/
def wrC (ρ : Type) (k : Int32) (H : HP) : Option ((ρ ⊕ Nat × Nat) × HP) := cal (cR_wrong k H) (fun r h' => grd ((gT (cV h') r).1 = 20) (some (.inr (1, r), h')))
theorem ES.b0 (q : ES h I J n tb c a W H s0 kr b cnt wn) : J 0 48 ≤ 0 ↔ b = 0 := by
  obtain ⟨-, -, ⟨-, e, b8, -⟩, -⟩ := q
  rw [e]
  constructor
  · intro y; have := (nn_le (b := 0) (by omega) (by omega)).mp y; omega
  · intro y; rw [y]; decide
theorem ES.len (q : ES h I J n tb c a W H s0 kr b cnt wn) : W.length ≤ 72 := by
  obtain ⟨-, ⟨-, -, c64, cz⟩, ⟨-, -, b8, bz⟩, -⟩ := q
  have := nz_zc W
  omega
theorem st_stuck {ρ : Type} (q : ES h I J n tb c a W H s0 kr b cnt 0) (hk : tokK (I 2 3) (I 2 4) = 0) (n1 : ¬ (I 2 3 = 3 ∧ I 2 4 = 59 ∧ b = 0)) (n2 : ¬ (I 2 3 = 3 ∧ I 2 4 = 41 ∧ 0 < b)) (K : HP → Option (Int32 × HP)) (fu : Nat) :
    Flt g M c kr h I J 1 (wrC ρ 1 (hw h I L)) (m_sumRead_25 K (fu + 1) (hw g J M)) := by
  have qb := q.b0
  obtain ⟨rd, ⟨i10, j49, c64, cz⟩, ⟨i5, j48, b8, bz⟩, stk, j50⟩ := q
  have tok := rd.2.2.1.1
  have t0 : Tk0 (I 2 3) (I 2 4) (J 0 8) (J 0 9) := by
    rcases tk_f tok with ⟨-, e⟩ | ⟨e, -⟩
    · exact absurd hk e
    · exact e
  obtain ⟨-, -, -, -, -, -, -, t59, t41, -⟩ := t0
  have e : sgK sgB (hw g J M) = m_wrong 1 (hw g J M) := by
    rw [em_sgK sgB tok, hk, sgB, if_pos (by rfl), m_wr]
  have e2 : m_signs (hw g J M) = m_wrong 1 (hw g J M) := by
    rw [m_signs_e, em_isSign, cal_s, gI_hw]
    by_cases z : J 0 8 = 4 ∧ J 0 9 = 41
    · rw [decide_eq_true z, if_neg (by decide), if_pos (qb.mpr (by have := t41.mp z; by_cases y : b = 0; exact y; exact absurd ⟨this.1, this.2, by omega⟩ n2)), e]
    · rw [decide_eq_false z, if_pos (by rfl), e]
  rw [em_it0 j50, if_neg (fun y => n1 ⟨(t59.mp ⟨y.1, y.2.1⟩).1, (t59.mp ⟨y.1, y.2.1⟩).2, qb.mp y.2.2⟩), e2]
  have fl := flt_wrong (ρ := ρ) (g := g) (M := M) (L := L) rd kr 1
  rw [em_wrong] at fl ⊢
  exact fl
theorem st_end (q : ES h I J n tb c a W H s0 kr b cnt 0) (hs : I 2 3 = 3) (hv : I 2 4 = 59) (hb : b = 0) (K : HP → Option (Int32 × HP)) (fu : Nat) : m_sumRead_25 K (fu + 1) (hw g J M) = K (hw g J M) := by
  have qb := q.b0
  obtain ⟨rd, -, -, -, j50⟩ := q
  have tok := rd.2.2.1.1
  have t0 : Tk0 (I 2 3) (I 2 4) (J 0 8) (J 0 9) := by
    rcases tk_f tok with ⟨-, e⟩ | ⟨e, -⟩
    · rw [hs, hv] at e; exact absurd (by decide) e
    · exact e
  have t59 := t0.2.2.2.2.2.2.2.1
  have := t59.mpr ⟨hs, hv⟩
  rw [em_it0 j50, if_pos ⟨this.1, this.2, qb.mpr hb⟩]
theorem st_chain {ρ : Type} {kk k1 : Nat} (q : ES h I J n tb c a (P ++ k1 :: W) (Q ++ H) s0 kr b cnt 0) (hk : tokK (I 2 3) (I 2 4) = kk) (h4 : rk kk = 4) (h5 : rk k1 = 4) (hP : ∀ k, k ∈ P → 5 ≤ rk k) (hr : red P (Q.map Prod.snd) = some f) (K : HP → Option (Int32 × HP)) (fu : Nat) :
    Flt g M c kr h I J 1 (wrC ρ 1 (hw h I L)) (m_sumRead_25 K (fu + 1) (hw g J M)) := by
  obtain ⟨rd, ⟨i10, j49, c64, cz⟩, ⟨i5, j48, b8, bz⟩, stk, j50⟩ := q
  have tok := rd.2.2.1.1
  have k0 : kk ≠ 0 := fun e => by subst e; revert h4; decide
  obtain ⟨⟨k3, k14⟩, vk, n59, n41, s4⟩ := tk_3 tok (by rw [hk]; exact k0)
  rw [hk] at k3 k14 vk
  have nzP := nz_rk P (fun k hk => Nat.le_trans (by decide) (hP k hk))
  have cz' : cnt = kr + P.length + nz (k1 :: W) := by rw [nz_app, nzP.1] at cz; omega
  have bz' : zc (k1 :: W) = b := by rw [zc_app, nzP.2] at bz; omega
  have len := nz_zc (P ++ k1 :: W)
  rw [nz_app, zc_app, nzP.1, nzP.2] at len
  have lenW := nz_zc (k1 :: W)
  obtain ⟨J1, x, e1, st1, mb⟩ := em_bind (lst := 5) (g := g) (M := M) (by decide) (by decide) (fun k W' e => by cases e; omega) stk hP hr (by omega) (by omega)
  have a0 : ∀ k, k ≠ 21 → k ≠ 46 → k ≠ 47 → J1 0 k = J 0 k := mb.2.2
  have rd1 : Rd h I J1 n tb c a := rd.cg (Eq.refl _) (fun _ _ => Eq.refl _) (mb.1 1 (by decide) (by decide) (by decide) (by decide) (by decide)) (mb.1 2 (by decide) (by decide) (by decide) (by decide) (by decide)) (fun k _ _ => a0 k (by omega) (by omega) (by omega))
  obtain ⟨⟨e25, w14⟩, -⟩ : (J1 25 W.length = nn k1 ∧ k1 ≤ 14) ∧ WSt J1 W := st1.1.2
  have e46 : J1 0 46 = nn (W.length + 1) := st1.1.1
  have lw : W.length + 1 ≤ 96 := by simp only [List.length_cons] at lenW; omega
  have e : nn (W.length + 1) - 1 = nn W.length := nn_sub (a := W.length + 1) (b := 1) (by omega)
  have fl := flt_wrong (ρ := ρ) (g := g) (M := M) (L := L) rd1 kr 1
  have fl2 := fl.st (EF.rfl c h I) (MF.b mb) (Nat.le_refl _) (Nat.le_refl _) (Nat.le_refl _)
  rw [em_it0 j50, if_neg (fun e => n59 ⟨e.1, e.2.1⟩), m_signs_e, em_isSign, decide_eq_false n41, cal_s]
  rw [if_pos (by rfl), em_sgK sgB tok, hk, sgB, if_neg (show ¬ nn kk = 0 from fun y => k0 ((nn_eq (b := 0) (by omega) (by omega)).mp y)), em_rk k14, cal_s, if_pos (show nn (rk kk) = 4 by rw [h4]; rfl)]
  rw [show (5 : Int32) = nn 5 from rfl, sgC, e1, cal_s, em_rk k14, cal_s, if_pos (show nn (rk kk) = 4 by rw [h4]; rfl), gI_hw, e46, if_neg (show ¬ nn (W.length + 1) ≤ 0 from fun y => by have := (nn_le (b := 0) (by omega) (by omega)).mp y; omega), e, grd_pos (nn_inb (by omega) (by omega)), nn_clamp (by omega), e25, em_rk w14, cal_s, if_pos (show nn (rk k1) = 4 by rw [h5]; rfl), m_wr]
  rw [em_wrong] at fl2 ⊢
  exact fl2
theorem st_close (q : ES h I J n tb c a (P ++ 0 :: W) (Q ++ H) s0 kr b cnt 0) (hs : I 2 3 = 3) (hv : I 2 4 = 41) (hP : ∀ k, k ∈ P → 1 ≤ rk k) (hr : red P (Q.map Prod.snd) = some f) (K : HP → Option (Int32 × HP)) (fu : Nat) :
    1 ≤ b ∧ ∃ I' J' a' x, cR_next (hw h (u2 I 2 5 (nn (b - 1))) L) = some ((), hw h I' L) ∧ m_sumRead_25 K (fu + 1) (hw g J M) = m_sumRead_25 K fu (hw g J' M) ∧ ES h I' J' n tb c a' W ((x, f) :: H) s0 (kr + P.length) (b - 1) cnt 0 ∧ mu n a' (I' 2 3) < mu n a (I 2 3) ∧ EF c h I h I' ∧ MF kr J J' := by
  have qb := q.b0
  obtain ⟨rd, ⟨i10, j49, c64, cz⟩, ⟨i5, j48, b8, bz⟩, stk, j50⟩ := q
  have tok := rd.2.2.1.1
  have t0 : Tk0 (I 2 3) (I 2 4) (J 0 8) (J 0 9) := by
    rcases tk_f tok with ⟨-, e⟩ | ⟨e, -⟩
    · rw [hs, hv] at e; exact absurd (by decide) e
    · exact e
  have t41 := t0.2.2.2.2.2.2.2.2.1.mpr ⟨hs, hv⟩
  have t59 : ¬ (J 0 8 = 4 ∧ J 0 9 = 59) := fun e => by have := (t0.2.2.2.2.2.2.2.1.mp e).2; rw [hv] at this; revert this; decide
  have nzP := nz_rk P hP
  have cz' : cnt = kr + P.length + nz W := by
    rw [nz_app, nzP.1] at cz
    simp only [nz, if_true] at cz; omega
  have bz' : zc W + 1 = b := by
    rw [zc_app, nzP.2] at bz
    simp only [zc, if_true] at bz; omega
  have len := nz_zc (P ++ 0 :: W)
  have lenW := nz_zc W
  have lenP : (P ++ 0 :: W).length = P.length + (W.length + 1) := by simp
  obtain ⟨J1, x, e1, st1, mb⟩ := em_bind (lst := 1) (g := g) (M := M) (by decide) (by decide) (fun k W' e => by cases e; decide) stk hP hr (by omega) (by omega)
  have a0 : ∀ k, k ≠ 21 → k ≠ 46 → k ≠ 47 → J1 0 k = J 0 k := mb.2.2
  have rd1 : Rd h I J1 n tb c a := rd.cg (Eq.refl _) (fun _ _ => Eq.refl _) (mb.1 1 (by decide) (by decide) (by decide) (by decide) (by decide)) (mb.1 2 (by decide) (by decide) (by decide) (by decide) (by decide)) (fun k _ _ => a0 k (by omega) (by omega) (by omega))
  have e46 : J1 0 46 = nn (W.length + 1) := st1.1.1
  have j48' : J1 0 48 = nn b := by rw [a0 48 (by decide) (by decide) (by decide)]; exact j48
  have eL : nn (W.length + 1) - 1 = nn W.length := nn_sub (a := W.length + 1) (b := 1) (by omega)
  have eb : nn b - 1 = nn (b - 1) := nn_sub (a := b) (b := 1) (by omega)
  refine ⟨by omega, ?_⟩
  have st2 : Stk (u2 (u2 J1 0 46 (nn W.length)) 0 48 (nn (b - 1))) W ((x, f) :: H) s0 (kr + P.length) := by
    obtain ⟨⟨-, q2⟩, q3, q4, q5⟩ := st1
    exact ⟨⟨by rw [u2_nk _ _ (by decide), u2_same], WSt.cg (J := J1) W (fun i _ => rfl) q2.2⟩, by rw [u2_nk _ _ (by decide), u2_nk _ _ (by decide)]; exact q3, HSt.cg (J := J1) _ _ _ (Nat.le_refl _) (fun i _ => rfl) (fun k _ => ⟨rfl, rfl, rfl⟩) q4, by rw [u2_nk _ _ (by decide), u2_nk _ _ (by decide)]; exact q5⟩
  have rd2 : Rd h (u2 I 2 5 (nn (b - 1))) (u2 (u2 J1 0 46 (nn W.length)) 0 48 (nn (b - 1))) n tb c a := (rd1.s5 _).cg (Eq.refl _) (fun _ _ => Eq.refl _) rfl rfl (fun k _ _ => by rw [u2_nk _ _ (by omega), u2_nk _ _ (by omega)])
  obtain ⟨I', J', a', n1, n2, n3, n4, n5, n6⟩ := r_next (L := L) (g := g) (M := M) rd2
  refine ⟨I', J', a', x, n1, ?_, ⟨n3, ⟨?_, ?_, c64, cz'⟩, ⟨?_, ?_, by omega, by omega⟩, st2.cg (fun k hk => n6.2 k (by omega)) (fun x h1 h2 => n6.1 x (by omega)), ?_⟩, ?_, (EF.u5 rd.c2 _).tr (EF.x rd.c2 n5), ((MF.b mb).tr (Nat.le_refl _) ((MF.u0 _ (by omega)).tr (Nat.le_refl _) (MF.u0 _ (by omega)))).tr (Nat.le_refl _) (MF.v n6)⟩
  · rw [em_it0 j50, if_neg (fun e => t59 ⟨e.1, e.2.1⟩), m_signs_e, em_isSign, decide_eq_true t41, cal_s, if_neg (by decide), gI_hw, if_neg (fun y => by have := qb.mp y; omega)]
    rw [sgE, show (1 : Int32) = nn 1 from rfl, e1]
    simp only [bnd_e, cal_s, onr_s, jon_e, gI_hw, gL_hw, gT_hw, gR_hw, gN_hw, sI_hw, sL_hw, cV_hw, shS_hw, shC_hw, shL_hw, ← bt_def, e46, u2n (show 48 ≠ 46 by decide), j48']
    rw [show nn (W.length + 1) - nn 1 = nn W.length from eL, show nn b - nn 1 = nn (b - 1) from eb, n2]
    simp only [bnd_e, cal_s, onr_s, jon_e, gI_hw, gL_hw, gT_hw, gR_hw, gN_hw, sI_hw, sL_hw, cV_hw, shS_hw, shC_hw, shL_hw, ← bt_def]
    rw [if_neg (by decide)]
  · rw [n5.1 c rd.c2, u2_ne rd.c2]; exact i10
  · rw [n6.2 49 (by omega), u2_nk _ _ (by decide), u2_nk _ _ (by decide), a0 49 (by decide) (by decide) (by decide)]; exact j49
  · rw [n5.2 5 (by decide) (by decide) (by decide) (by decide), u2_same]
  · rw [n6.2 48 (by omega), u2_same]
  · rw [n6.2 50 (by omega), u2_nk _ _ (by decide), u2_nk _ _ (by decide), a0 50 (by decide) (by decide) (by decide)]; exact j50
  · have := n4 (by rw [u2_nk _ _ (by decide), hs]; decide)
    rw [u2_nk _ _ (by decide)] at this; exact this
end P31
