set_option maxRecDepth 100000
/-! PURE LEVEL 77: bind -/
section P27
variable {g : HP} {M : Nat → Nat → Int64} {s0 : Nat}
theorem em_b0 {lst : Nat} (hl1 : 1 ≤ lst) (hl6 : lst ≤ 6) (W : List Nat) (H : List (Nat × LF)) (hW : ∀ k W', W = k :: W' → rk k < lst) (f : LF) : ∀ (P : List Nat) (Q : List (Nat × LF)) (kr : Nat) (J : Nat → Nat → Int32) (fuel : Nat), Stk J (P ++ W) (Q ++ H) s0 kr → (∀ k, k ∈ P → lst ≤ rk k) → red P (Q.map Prod.snd) = some f → kr + P.length ≤ 64 → (P ++ W).length ≤ 96 → P.length < fuel →
    ∃ J' x, (∀ K, m_bind_0 (nn lst) K fuel (hw g J M) = K (hw g J' M)) ∧ Stk J' W ((x, f) :: H) s0 (kr + P.length) ∧ MB kr J J' := by
  intro P
  induction P with
  | nil =>
    intro Q kr J fuel st hP hr hk hw' hf
    obtain ⟨fu, rfl⟩ : ∃ fu, fuel = fu + 1 := ⟨fuel - 1, by omega⟩
    match Q, hr with
    | [q], hr =>
      have hr : some q.2 = some f := hr
      cases hr
      refine ⟨J, q.1, fun K => ?_, st, ⟨fun _ _ _ _ _ _ => rfl, fun _ _ => ⟨rfl, rfl, rfl⟩, fun _ _ _ _ => rfl⟩⟩
      match W, hW, st, hw' with
      | [], _, st, _ =>
        rw [m_bind_0, gI_hw, st.1.1, if_pos (by show nn 0 ≤ 0; decide)]
      | k :: W', hW, st, hw' =>
        have e46 : J 0 46 = nn (W'.length + 1) := st.1.1
        obtain ⟨⟨e25, k14⟩, -⟩ : (J 25 W'.length = nn k ∧ k ≤ 14) ∧ WSt J W' := st.1.2
        have hlen : W'.length + 1 ≤ 96 := by simpa using hw'
        have e : nn (W'.length + 1) - 1 = nn W'.length := nn_sub (a := W'.length + 1) (b := 1) (by omega)
        have r6 := rk_6 k
        rw [m_bind_0]
        simp only [bnd_e, cal_s, onr_s, jon_e, gI_hw, gL_hw, gT_hw, gR_hw, gN_hw, sI_hw, sL_hw, cV_hw, shS_hw, shC_hw, shL_hw, ← bt_def, e46, e, nn_clamp (show W'.length < 2147483648 by omega), e25, em_rk k14]
        rw [if_neg (show ¬ nn (W'.length + 1) ≤ 0 from fun y => by have := (nn_le (b := 0) (by omega) (by omega)).mp y; omega), grd_pos (nn_inb (by omega) (by omega)), if_pos ((nn_lt (by omega) (by omega)).mpr (hW k W' rfl))]
  | cons k P ih =>
    intro Q kr J fuel st hP hr hk hw' hf
    obtain ⟨fu, rfl⟩ : ∃ fu, fuel = fu + 1 := ⟨fuel - 1, by omega⟩
    have hk : kr + (P.length + 1) ≤ 64 := by simpa using hk
    have hlen : (P ++ W).length + 1 ≤ 96 := by simpa using hw'
    have e46 : J 0 46 = nn ((P ++ W).length + 1) := st.1.1
    obtain ⟨⟨e25, k14⟩, wst⟩ : (J 25 (P ++ W).length = nn k ∧ k ≤ 14) ∧ WSt J (P ++ W) := st.1.2
    obtain ⟨-, e47, hst, e21⟩ := st
    have r6 := rk_6 k
    have rl := hP k (List.mem_cons_self ..)
    have hP' : ∀ j, j ∈ P → lst ≤ rk j := fun j hj => hP j (List.mem_cons_of_mem _ hj)
    generalize hm : (P ++ W).length = m at e46 e25 hlen
    have e : nn (m + 1) - 1 = nn m := nn_sub (a := m + 1) (b := 1) (by omega)
    have c1 : ¬ nn (m + 1) ≤ 0 := fun y => by have := (nn_le (b := 0) (by omega) (by omega)).mp y; omega
    have c2 : ¬ nn (rk k) < nn lst := fun y => by have := (nn_lt (by omega) (by omega)).mp y; omega
    have hst0 := hst
    match Q, hr, hst, e47 with
    | q :: Q1, hr, hst, e47 =>
      have e47 : J 0 47 = nn ((Q1 ++ H).length + 1) := e47
      obtain ⟨q1, q2, s, d, q3, q4⟩ := hst
      have sle := SDn.le1 _ _ _ _ q3
      have hl : s0 + (Q1 ++ H).length ≤ s := HSt.le _ _ q4
      have q2 : J 26 (Q1 ++ H).length = nn q.1 := q2
      simp only [List.map_cons, red] at hr
      by_cases z : k = 2
      · subst z
        simp only [if_true] at hr
        have hs : s0 + (Q1 ++ H).length ≤ s := hl
        generalize hn : (Q1 ++ H).length = hl' at e47 q2 hs
        have st3 : Stk (grJ (u2 (u2 J 0 46 (nn m)) 0 47 (nn hl')) kr hl' (nn 2) (nn q.1) (-1)) (P ++ W) (((kr, zNot q.2) :: Q1) ++ H) s0 (kr + 1) := by
          have v := grJ_v (J := u2 (u2 J 0 46 (nn m)) 0 47 (nn hl')) (kr := kr) (hl := hl') (a := nn 2) (b := nn q.1) (c := -1)
          refine ⟨⟨?_, WSt.cg _ (fun i hi => ?_) wst⟩, ?_, ⟨rfl, ?_, s, d + 1, Or.inr (Or.inr (Or.inl ⟨q.1, q.2, q1, v.1, v.2.1, ?_, rfl⟩)), ?_⟩, v.2.2.2.2.2⟩
          · unfold grJ; rw [hm, u2_nk _ _ (by decide), u2_nk _ _ (by decide), u2_ne (by decide), u2_ne (by decide), u2_ne (by decide), u2_ne (by decide), u2_nk _ _ (by decide), u2_same]
          · unfold grJ; rw [u2_ne (by decide), u2_ne (by decide), u2_ne (by decide), u2_ne (by decide), u2_ne (by decide), u2_ne (by decide), u2_ne (by decide), u2_ne (by decide)]
          · rw [v.2.2.2.2.1, ← hn]; rfl
          · show _ = nn kr
            rw [show (Q1.append H).length = hl' from hn]; exact v.2.2.2.1
          · exact gr_SD (by omega) (SDn.cg (m := kr) (fun i hi => by unfold kj; rw [u2_ne (by decide), u2_ne (by decide), u2_ne (by decide), u2_ne (by decide), u2_ne (by decide), u2_ne (by decide)]; exact ⟨rfl, rfl, rfl⟩) d s q.1 q.2 (by omega) q3)
          · exact HSt.gr (by omega) (by show (Q1 ++ H).length ≤ hl'; omega) (HSt.cg _ _ kr (by omega) (fun i hi => by rw [u2_ne (by decide), u2_ne (by decide)]) (fun k hk => by rw [u2_ne (by decide), u2_ne (by decide), u2_ne (by decide), u2_ne (by decide), u2_ne (by decide), u2_ne (by decide)]; exact ⟨rfl, rfl, rfl⟩) q4)
        obtain ⟨J', x, i1, i2, i3⟩ := ih ((kr, zNot q.2) :: Q1) (kr + 1) _ fu st3 hP' hr (by omega) (by omega) (by simpa using hf)
        refine ⟨J', x, fun K => ?_, by rw [show kr + (List.length (2 :: P)) = kr + 1 + P.length by simp; omega]; exact i2, MB.tr (by omega) (((MB.u0 (Or.inl rfl)).tr (Nat.le_refl _) (MB.u0 (Or.inr (Or.inl rfl)))).tr (Nat.le_refl _) MB.gr) i3⟩
        rw [m_bind_0]
        have dr := em_drop (g := g) (M := M) (J := u2 J 0 46 (nn m)) (hl := hl') (by omega) (by rw [u2_nk _ _ (by decide)]; exact e47)
        have gw := em_grown (g := g) (M := M) (J := u2 (u2 J 0 46 (nn m)) 0 47 (nn hl')) (kr := kr) (hl := hl') (by omega) (by omega) (by rw [u2_nk _ _ (by decide), u2_nk _ _ (by decide)]; exact e21) (u2_same _ _ _ _) (nn 2) (nn q.1) (-1)
        rw [u2_ne (by decide), q2] at dr
        simp only [bnd_e, cal_s, onr_s, jon_e, gI_hw, gL_hw, gT_hw, gR_hw, gN_hw, sI_hw, sL_hw, cV_hw, shS_hw, shC_hw, shL_hw, ← bt_def, e46, e, nn_clamp (show m < 2147483648 by omega), e25, em_rk k14, u2_same, u2_ne (show 25 ≠ 0 by decide), if_neg c1, if_neg c2, grd_pos (show inb (nn m) 96 from nn_inb (by omega) (by omega)), if_pos (show nn 2 = 2 from rfl), dr, gw]
        exact i1 K
      · simp only [if_neg z] at hr
        match Q1, hr, q2, q4, e47, hl with
        | q' :: Q2, hr, q2, q4, e47, hl =>
          simp only [List.map_cons] at hr
          obtain ⟨p1, p2, s', d', p3, p4⟩ := q4
          have sle' := SDn.le1 _ _ _ _ p3
          have e47 : J 0 47 = nn ((Q2 ++ H).length + 1 + 1) := e47
          have q2 : J 26 ((Q2 ++ H).length + 1) = nn q.1 := q2
          have p2 : J 26 (Q2 ++ H).length = nn q'.1 := p2
          have hl : s0 + ((Q2 ++ H).length + 1) ≤ s := hl
          have hl2 := HSt.le _ _ p4
          have k3 : 3 ≤ k := by
            have : k ≠ 0 := rk_pos (by omega)
            have : k ≠ 1 := fun e => by subst e; revert rl; show lst ≤ 0 → False; omega
            omega
          generalize hn : (Q2 ++ H).length = hl' at e47 q2 p2 hl
          have st3 : Stk (grJ (u2 (u2 (u2 J 0 46 (nn m)) 0 47 (nn (hl' + 1))) 0 47 (nn hl')) kr hl' (nn k) (nn q'.1) (nn q.1)) (P ++ W) (((kr, zTwo (mkc (nn k)) q'.2 q.2) :: Q2) ++ H) s0 (kr + 1) := by
            have v := grJ_v (J := u2 (u2 (u2 J 0 46 (nn m)) 0 47 (nn (hl' + 1))) 0 47 (nn hl')) (kr := kr) (hl := hl') (a := nn k) (b := nn q'.1) (c := nn q.1)
            have cg : ∀ i, i < kr → kj (u2 (u2 (u2 J 0 46 (nn m)) 0 47 (nn (hl' + 1))) 0 47 (nn hl')) 22 i = kj J 22 i ∧ kj (u2 (u2 (u2 J 0 46 (nn m)) 0 47 (nn (hl' + 1))) 0 47 (nn hl')) 23 i = kj J 23 i ∧ kj (u2 (u2 (u2 J 0 46 (nn m)) 0 47 (nn (hl' + 1))) 0 47 (nn hl')) 24 i = kj J 24 i := fun i _ => ⟨rfl, rfl, rfl⟩
            refine ⟨⟨?_, WSt.cg _ (fun i hi => ?_) wst⟩, ?_, ⟨rfl, ?_, s', d + d' + 1, Or.inr (Or.inr (Or.inr ⟨k, q'.1, q.1, q'.2, q.2, q1, ⟨k3, k14⟩, v.1, v.2.1, v.2.2.1, ?_, ?_, rfl⟩)), ?_⟩, v.2.2.2.2.2⟩
            · unfold grJ; rw [hm, u2_nk _ _ (by decide), u2_nk _ _ (by decide), u2_ne (by decide), u2_ne (by decide), u2_ne (by decide), u2_ne (by decide), u2_nk _ _ (by decide), u2_nk _ _ (by decide), u2_same]
            · unfold grJ; rw [u2_ne (by decide), u2_ne (by decide), u2_ne (by decide), u2_ne (by decide), u2_ne (by decide), u2_ne (by decide), u2_ne (by decide), u2_ne (by decide), u2_ne (by decide)]
            · rw [v.2.2.2.2.1, ← hn]; rfl
            · show _ = nn kr
              rw [show (Q2.append H).length = hl' from hn]; exact v.2.2.2.1
            · exact gr_SD (by omega) (SDn.cg cg (d + d') s' q'.1 q'.2 (by omega) (SDn.le (by omega) p3))
            · exact gr_SD (by omega) (SDn.cg cg (d + d') (q'.1 + 1) q.1 q.2 (by omega) (SDn.le (d := d) (by omega) (by rw [← p1]; exact q3)))
            · exact HSt.gr (by omega) (by show (Q2 ++ H).length ≤ hl'; omega) (HSt.cg (J := J) _ _ kr (by omega) (fun i hi => rfl) (fun k hk => ⟨rfl, rfl, rfl⟩) p4)
          obtain ⟨J', x, i1, i2, i3⟩ := ih ((kr, zTwo (mkc (nn k)) q'.2 q.2) :: Q2) (kr + 1) _ fu st3 hP' hr (by omega) (by omega) (by simpa using hf)
          refine ⟨J', x, fun K => ?_, by rw [show kr + (List.length (k :: P)) = kr + 1 + P.length by simp; omega]; exact i2, MB.tr (by omega) ((((MB.u0 (Or.inl rfl)).tr (Nat.le_refl _) (MB.u0 (Or.inr (Or.inl rfl)))).tr (Nat.le_refl _) (MB.u0 (Or.inr (Or.inl rfl)))).tr (Nat.le_refl _) MB.gr) i3⟩
          rw [m_bind_0]
          have dr := em_drop (g := g) (M := M) (J := u2 J 0 46 (nn m)) (hl := hl' + 1) (by omega) (by rw [u2_nk _ _ (by decide)]; exact e47)
          have dr2 := em_drop (g := g) (M := M) (J := u2 (u2 J 0 46 (nn m)) 0 47 (nn (hl' + 1))) (hl := hl') (by omega) (u2_same _ _ _ _)
          have gw := em_grown (g := g) (M := M) (J := u2 (u2 (u2 J 0 46 (nn m)) 0 47 (nn (hl' + 1))) 0 47 (nn hl')) (kr := kr) (hl := hl') (by omega) (by omega) (by rw [u2_nk _ _ (by decide), u2_nk _ _ (by decide), u2_nk _ _ (by decide)]; exact e21) (u2_same _ _ _ _) (nn k) (nn q'.1) (nn q.1)
          rw [u2_ne (by decide), q2] at dr
          rw [u2_ne (by decide), u2_ne (by decide), p2] at dr2
          simp only [bnd_e, cal_s, onr_s, jon_e, gI_hw, gL_hw, gT_hw, gR_hw, gN_hw, sI_hw, sL_hw, cV_hw, shS_hw, shC_hw, shL_hw, ← bt_def, e46, e, nn_clamp (show m < 2147483648 by omega), e25, em_rk k14, u2_same, u2_ne (show 25 ≠ 0 by decide), if_neg c1, if_neg c2, grd_pos (show inb (nn m) 96 from nn_inb (by omega) (by omega)), if_neg (show ¬ nn k = 2 from fun y => z ((nn_eq (b := 2) (by omega) (by omega)).mp y)), dr, dr2, gw]
          exact i1 K
theorem em_bind {lst : Nat} (hl1 : 1 ≤ lst) (hl6 : lst ≤ 6) {W P : List Nat} {H Q : List (Nat × LF)} {kr : Nat} {f : LF} {J : Nat → Nat → Int32} (hW : ∀ k W', W = k :: W' → rk k < lst) (st : Stk J (P ++ W) (Q ++ H) s0 kr) (hP : ∀ k, k ∈ P → lst ≤ rk k) (hr : red P (Q.map Prod.snd) = some f) (hk : kr + P.length ≤ 64) (hw' : (P ++ W).length ≤ 96) :
    ∃ J' x, m_bind (nn lst) (hw g J M) = some ((), hw g J' M) ∧ Stk J' W ((x, f) :: H) s0 (kr + P.length) ∧ MB kr J J' := by
  obtain ⟨J', x, a, b, c⟩ := em_b0 (g := g) (M := M) hl1 hl6 W H hW f P Q kr J FU st hP hr hk hw' (by show P.length < 1000; omega)
  exact ⟨J', x, by rw [m_bind, a], b, c⟩
end P27
