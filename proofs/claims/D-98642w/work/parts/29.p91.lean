set_option maxRecDepth 100000
/-! PURE LEVEL 91: a law's expression, whole -/
section P39
variable {h h' g : HP} {I I' J J' : Nat → Nat → Int32} {L M : Nat → Nat → Int64} {n : Nat} {tb : Nat → Nat} {a c : Nat} {cnt : Nat}
theorem r_expr (rd : Rd h I J n tb c a) (i10 : I c 10 = nn cnt) (j49 : J 0 49 = nn cnt) (j21 : J 0 21 = nn cnt) (c64 : cnt ≤ 64) (i5 : I 2 5 = 0) :
    Flt g M c cnt h I J (mu n a (I 2 3) + 2) (cR_or (cR_notN 100) (hw h I L)) (m_sumRead (hw g J M)) ∨
    ∃ h' I' L' p fp, cR_or (cR_notN 100) (hw h I L) = some (.inl p, hw h' I' L') ∧ (EF c h I h' I' ∧ Shp h' ∧ gN h' ≤ gN h + mu n a (I 2 3) ∧ gS h' ≤ gS h + 12 * mu n a (I 2 3) ∧ PDn (cV h') I' 80 p fp) ∧
      ((¬ (I' 2 3 = 3 ∧ I' 2 4 = 59) ∧ ∀ ρ, Flt (ρ := ρ) g M c cnt h I J (mu n a (I 2 3) + 2) (wrC ρ 1 (hw h' I' L')) (m_sumRead (hw g J M))) ∨
       (I' 2 3 = 3 ∧ I' 2 4 = 59 ∧ ∃ J' a' cnt' d, m_sumRead (hw g J M) = some (1, hw g J' M) ∧ Rd h' I' J' n tb c a' ∧ mu n a' (I' 2 3) < mu n a (I 2 3) ∧ (I' c 10 = nn cnt' ∧ J' 0 49 = nn cnt' ∧ J' 0 21 = nn cnt' ∧ I' 2 5 = 0) ∧ cnt < cnt' ∧ cnt' ≤ 64 ∧ SDn (kj J' 22) (kj J' 23) (kj J' 24) d cnt (cnt' - 1) fp ∧ MF cnt J J' ∧ gN h' + mu n a' (I' 2 3) ≤ gN h + mu n a (I 2 3) ∧ gS h' + 12 * mu n a' (I' 2 3) ≤ gS h + 12 * mu n a (I 2 3))) := by
  have hn : n ≤ 700 := rd.1.1.1
  have hm := mu_le n a (I 2 3)
  generalize hJ1 : u2 (u2 (u2 (u2 (u2 J 0 46 0) 0 47 0) 0 48 0) 0 50 1) 0 51 1 = J1
  have v0 : ∀ k, k < 46 ∨ k = 49 ∨ 51 < k → J1 0 k = J 0 k := fun k hk => by rw [← hJ1, u2_nk _ _ (by omega), u2_nk _ _ (by omega), u2_nk _ _ (by omega), u2_nk _ _ (by omega), u2_nk _ _ (by omega)]
  have vx : ∀ x, x ≠ 0 → J1 x = J x := fun x hx => by rw [← hJ1, u2_ne hx, u2_ne hx, u2_ne hx, u2_ne hx, u2_ne hx]
  have v46 : J1 0 46 = 0 := by rw [← hJ1]; rfl
  have v47 : J1 0 47 = 0 := by rw [← hJ1]; rfl
  have v48 : J1 0 48 = 0 := by rw [← hJ1]; rfl
  have v50 : J1 0 50 = 1 := by rw [← hJ1]; rfl
  have v51 : J1 0 51 = 1 := by rw [← hJ1]; rfl
  have e : m_sumRead (hw g J M) = m_sumRead_25 (fun (h13 : HP) => cal (m_bind (1 : Int32) h13) (fun r14 h15 => some ((1 : Int32), h15))) FU (hw g J1 M) := by
    rw [← hJ1]; rfl
  have mf1 : MF cnt J J1 := ⟨fun x h0 _ _ _ _ _ => vx x h0, fun k _ => by rw [vx 22 (by decide), vx 23 (by decide), vx 24 (by decide)]; exact ⟨rfl, rfl, rfl⟩, fun k hk => v0 k (by omega)⟩
  have rd1 : Rd h I J1 n tb c a := rd.cg (Eq.refl _) (fun _ _ => Eq.refl _) (vx 1 (by decide)) (vx 2 (by decide)) (fun k _ _ => v0 k (by omega))
  have es : ES h I J1 n tb c a [] [] cnt cnt 0 cnt 1 := ⟨rd1, ⟨i10, by rw [v0 49 (by omega)]; exact j49, c64, rfl⟩, ⟨i5, v48, by decide, rfl⟩, ⟨⟨v46, trivial⟩, v47, rfl, by rw [v0 21 (by omega)]; exact j21⟩, v50⟩
  rw [e]
  rcases sp_or (g := g) (M := M) hn (sp_notN hn 100) h I J1 L a [] [] cnt 0 cnt es (fun k W' y => by cases y) (show nbC true I J1 from v51) (by omega) (fun (h13 : HP) => cal (m_bind (1 : Int32) h13) (fun r14 h15 => some ((1 : Int32), h15))) FU (by show _ < 1000; omega) with fl | ⟨h2, I2, L2, J2, a2, p, f, P, Q, kr2, cnt2, fu2, e3, e4, es2, ⟨m2, m3⟩, hP, hr, ⟨c1, k1⟩, pd, ps, ef2, mf2, bN, bS⟩
  · exact Or.inl (fl.st (EF.rfl _ _ _) mf1 (Nat.le_refl _) (Nat.le_refl _) (Nat.le_refl _))
  · right
    have dvz : cnt2 - cnt ≤ 80 := by have := es2.2.1.2.2.1; omega
    refine ⟨h2, I2, L2, p, f, e3, ⟨ef2, es2.sh, by omega, by omega, PDn.le (by omega) pd⟩, ?_⟩
    rw [e4]
    obtain ⟨fu3, rfl⟩ : ∃ fu3, fu2 = fu3 + 1 := ⟨fu2 - 1, by omega⟩
    have tok2 := es2.1.2.2.1.1
    by_cases y : I2 2 3 = 3 ∧ I2 2 4 = 59
    · right
      rw [st_end es2 y.1 y.2 rfl]
      obtain ⟨rd2, ⟨x10, x49, y64, ycz⟩, ⟨x5, x48, -, -⟩, stk2, x50⟩ := es2
      have nzP := nz_rk P hP
      have cz : cnt2 = kr2 + P.length := by rw [nz_app, nzP.1] at ycz; simpa [nz] using ycz
      have len := nz_zc P
      obtain ⟨J3, x, e5, st3, mb⟩ := em_bind (lst := 1) (g := g) (M := M) (by decide) (by decide) (fun k W' e => by cases e) stk2 hP hr (by omega) (by simp only [List.append_nil]; omega)
      have a0 : ∀ k, k ≠ 21 → k ≠ 46 → k ≠ 47 → J3 0 k = J2 0 k := mb.2.2
      obtain ⟨-, -, ⟨q1, -, s, d, q3, q4⟩, q5⟩ := st3
      have q4 : s = cnt := q4
      have q1 : kr2 + P.length = x + 1 := q1
      have dv1 : 1 ≤ cnt2 - cnt := by
        rcases Nat.eq_zero_or_pos (cnt2 - cnt) with z | z
        · rw [z] at pd; exact absurd pd (fun w => w)
        · exact z
      refine ⟨y.1, y.2, J3, a2, cnt2, d, ?_, rd2.cg (Eq.refl _) (fun _ _ => Eq.refl _) (mb.1 1 (by decide) (by decide) (by decide) (by decide) (by decide)) (mb.1 2 (by decide) (by decide) (by decide) (by decide) (by decide)) (fun k _ _ => a0 k (by omega) (by omega) (by omega)), by omega, ⟨x10, by rw [a0 49 (by decide) (by decide) (by decide)]; exact x49, by rw [cz]; exact q5, x5⟩, by omega, y64, ?_, (mf1.tr (Nat.le_refl _) mf2).tr k1 (MF.b mb), bN, bS⟩
      · show cal (m_bind (nn 1) (hw g J2 M)) _ = _
        rw [e5, cal_s]
      · rw [show cnt2 - 1 = x by omega, ← q4]; exact q3
    · left
      refine ⟨y, fun ρ => ?_⟩
      have fin : Flt (ρ := ρ) g M c kr2 h2 I2 J2 1 (wrC ρ 1 (hw h2 I2 L2)) (m_sumRead_25 (fun (h13 : HP) => cal (m_bind (1 : Int32) h13) (fun r14 h15 => some ((1 : Int32), h15))) (fu3 + 1) (hw g J2 M)) := by
        rcases ps with ps | ⟨w4, P5, k5, P', Q5, Q', g5, rfl, rfl, h5, h6, h7⟩
        · have k0 : tokK (I2 2 3) (I2 2 4) = 0 := by
            by_cases w : tokK (I2 2 3) (I2 2 4) = 0
            · exact w
            · have l1 := (tk_3 tok2 w).1
              have l2 : 1 ≤ rk (tokK (I2 2 3) (I2 2 4)) := rk_3 ⟨tokK (I2 2 3) (I2 2 4), by omega⟩ l1.1
              have := ps w
              omega
          exact st_stuck es2 k0 (fun e => y ⟨e.1, e.2.1⟩) (fun e => absurd e.2.2 (by decide)) _ fu3
        · have es2' : ES h2 I2 J2 n tb c a2 (P5 ++ k5 :: (P' ++ [])) (Q5 ++ (Q' ++ [])) cnt kr2 0 cnt2 0 := by
            have := es2
            rw [List.append_assoc, List.append_assoc] at this
            exact this
          exact st_chain es2' rfl w4 h6 h5 h7 _ fu3
      exact fin.st ef2 (mf1.tr (Nat.le_refl _) mf2) k1 (by omega) (by omega)
end P39
