set_option maxRecDepth 100000
/-! PURE LEVEL 84: leaves, both sides -/
section P33
variable {h h' g : HP} {I I' J J' : Nat → Nat → Int32} {L M : Nat → Nat → Int64} {n : Nat} {tb : Nat → Nat} {a c : Nat} {W P : List Nat} {H Q : List (Nat × LF)} {s0 kr b cnt : Nat} {wn : Int32} {f : LF}
theorem st_wr {ρ : Type} (k : Int32) (q : ES h I J n tb c a W H s0 kr b cnt 1) (e : m_leafRead (hw g J M) = m_wrong k (hw g J M)) (K : HP → Option (Int32 × HP)) (fu : Nat) : Flt g M c kr h I J 1 (wrC ρ k (hw h I L)) (m_sumRead_25 K (fu + 1) (hw g J M)) := by
  have fl := flt_wrong (ρ := ρ) (g := g) (M := M) (L := L) q.1 kr k
  rw [em_it1 q.2.2.2.2, e]
  rw [em_wrong] at fl ⊢
  exact fl
theorem st_open (q : ES h I J n tb c a W H s0 kr b cnt 1) (hs : I 2 3 = 3) (hv : I 2 4 = 40) (hb : b < 8) (K : HP → Option (Int32 × HP)) (fu : Nat) :
    ∃ I' J' a', cR_next (hw h (u2 I 2 5 (nn (b + 1))) L) = some ((), hw h I' L) ∧ m_sumRead_25 K (fu + 1) (hw g J M) = m_sumRead_25 K fu (hw g J' M) ∧ ES h I' J' n tb c a' (0 :: W) H s0 kr (b + 1) cnt 1 ∧ J' 0 51 = 1 ∧ mu n a' (I' 2 3) < mu n a (I 2 3) ∧ EF c h I h I' ∧ MF kr J J' := by
  have ln := q.len
  obtain ⟨rd, ⟨i10, j49, c64, cz⟩, ⟨i5, j48, b8, bz⟩, stk, j50⟩ := q
  have tok := (tk_open rd.2.2.1.1).mpr ⟨hs, hv⟩
  have head : m_sumRead_25 K (fu + 1) (hw g J M) = cal (cal (m_token (hw g (u2 (u2 (u2 (u2 J 0 48 (nn (b + 1))) 25 W.length 0) 0 46 (nn (W.length + 1))) 0 51 1) M)) (fun r41 h42 => some ((1 : Int32), h42))) (fun r9 h10 => if r9 = 0 then (some ((0 : Int32), h10)) else (m_sumRead_25 K fu h10)) := by
    rw [em_it1 j50, em_lf_open tok.1 tok.2, j48, if_neg (show ¬ nn b = (8 : Int32) from fun y => by have := (nn_eq (b := 8) (by omega) (by omega)).mp y; omega), nn_succ, em_wait (W := W) (by rw [u2_nk _ _ (by decide)]; exact stk.1.1) (by omega), cal_s, bnd_e, sI_hw]
  rw [head]
  generalize hJ2 : u2 (u2 (u2 (u2 J 0 48 (nn (b + 1))) 25 W.length 0) 0 46 (nn (W.length + 1))) 0 51 1 = J2
  have v0 : ∀ k, k ≠ 48 → k ≠ 46 → k ≠ 51 → J2 0 k = J 0 k := fun k h1 h2 h4 => by rw [← hJ2, u2_nk _ _ h4, u2_nk _ _ h2, u2_ne (by decide), u2_nk _ _ h1]
  have vx : ∀ x, x ≠ 0 → x ≠ 25 → J2 x = J x := fun x h1 h2 => by rw [← hJ2, u2_ne h1, u2_ne h1, u2_ne h2, u2_ne h1]
  have v25 : ∀ i, J2 25 i = if i = W.length then 0 else J 25 i := fun i => by
    rw [← hJ2, u2_ne (by decide), u2_ne (by decide), u2_eq, u2_ne (by decide)]
  have v46 : J2 0 46 = nn (W.length + 1) := by rw [← hJ2, u2_nk _ _ (by decide), u2_same]
  have v48 : J2 0 48 = nn (b + 1) := by rw [← hJ2, u2_nk _ _ (by decide), u2_nk _ _ (by decide), u2_ne (by decide), u2_same]
  have v51 : J2 0 51 = 1 := by rw [← hJ2, u2_same]
  have st2 : Stk J2 (0 :: W) H s0 kr := stk.push (by decide) v46 (by rw [v25, if_pos rfl]; rfl) (fun i hi => by rw [v25, if_neg (by omega)]) (v0 47 (by decide) (by decide) (by decide)) (v0 21 (by decide) (by decide) (by decide)) (fun x h1 h2 h3 => vx x (by omega) h3)
  have mf : MF kr J J2 := ⟨fun x h0 _ _ _ h5 _ => vx x h0 h5, fun k _ => by rw [vx 22 (by decide) (by decide), vx 23 (by decide) (by decide), vx 24 (by decide) (by decide)]; exact ⟨rfl, rfl, rfl⟩, fun k hk => v0 k (by omega) (by omega) (by omega)⟩
  have rd2 : Rd h (u2 I 2 5 (nn (b + 1))) J2 n tb c a := (rd.s5 _).cg (Eq.refl _) (fun _ _ => Eq.refl _) (vx 1 (by decide) (by decide)) (vx 2 (by decide) (by decide)) (fun k _ _ => v0 k (by omega) (by omega) (by omega))
  obtain ⟨I', J', a', n1, n2, n3, n4, n5, n6⟩ := r_next (L := L) (g := g) (M := M) rd2
  rw [n1, n2]
  refine ⟨I', J', a', rfl, rfl, ⟨n3, ⟨?_, ?_, c64, ?_⟩, ⟨?_, ?_, by omega, ?_⟩, st2.cg (fun k hk => n6.2 k (by omega)) (fun x h1 h2 => n6.1 x (by omega)), ?_⟩, ?_, ?_, (EF.u5 rd.c2 _).tr (EF.x rd.c2 n5), mf.tr (Nat.le_refl _) (MF.v n6)⟩
  · rw [n5.1 c rd.c2, u2_ne rd.c2]; exact i10
  · rw [n6.2 49 (by omega), v0 49 (by decide) (by decide) (by decide)]; exact j49
  · simp only [nz, if_true]; omega
  · rw [n5.2 5 (by decide) (by decide) (by decide) (by decide), u2_same]
  · rw [n6.2 48 (by omega)]; exact v48
  · simp only [zc, if_true]; omega
  · rw [n6.2 50 (by omega), v0 50 (by decide) (by decide) (by decide)]; exact j50
  · rw [n6.2 51 (by omega)]; exact v51
  · have := n4 (by rw [u2_nk _ _ (by decide), hs]; decide)
    rw [u2_nk _ _ (by decide)] at this; exact this
theorem st_not (q : ES h I J n tb c a W H s0 kr b cnt 1) (hs : I 2 3 = 0) (hv : I 2 4 = 17) (h51 : J 0 51 = 1) (K : HP → Option (Int32 × HP)) (fu : Nat) :
    Flt g M c kr h I J 1 (cR_knot (hw h I L)) (m_sumRead_25 K (fu + 1) (hw g J M)) ∨
    ∃ v I' J' a', cR_knot (hw h I L) = some (.inl v, hw h I' L) ∧ m_sumRead_25 K (fu + 1) (hw g J M) = m_sumRead_25 K fu (hw g J' M) ∧ ES h I' J' n tb c a' (2 :: W) H s0 kr b (cnt + 1) 1 ∧ J' 0 51 = 1 ∧ mu n a' (I' 2 3) < mu n a (I 2 3) ∧ EF c h I h I' ∧ MF kr J J' := by
  have ln := q.len
  obtain ⟨rd, ⟨i10, j49, c64, cz⟩, ⟨i5, j48, b8, bz⟩, stk, j50⟩ := q
  obtain ⟨u, hu, e1, e8, e9⟩ := tk_word rd.2.2.1.1 hs
  have u17 : u = 17 := (nn_eq (b := 17) (by omega) (by omega)).mp (by rw [← e1]; exact hv)
  subst u17
  rw [em_it1 j50, em_lf_not e8 (by rw [e9]; rfl) h51, em_cnt j49 c64, ec_knot rd i10 c64]
  by_cases z : cnt = 64
  · left
    rw [if_pos z, if_pos z]
    have fl := flt_wrong (ρ := Int32) (g := g) (M := M) (L := L) rd kr 2
    rw [em_wrong] at fl ⊢
    exact fl
  · right
    rw [if_neg z, if_neg z, cal_s, if_neg (by decide), em_wait (W := W) (by rw [u2_nk _ _ (by decide)]; exact stk.1.1) (by omega), cal_s]
    generalize hJ2 : u2 (u2 (u2 J 0 49 (nn (cnt + 1))) 25 W.length 2) 0 46 (nn (W.length + 1)) = J2
    have v0 : ∀ k, k ≠ 49 → k ≠ 46 → J2 0 k = J 0 k := fun k h1 h2 => by rw [← hJ2, u2_nk _ _ h2, u2_ne (by decide), u2_nk _ _ h1]
    have vx : ∀ x, x ≠ 0 → x ≠ 25 → J2 x = J x := fun x h1 h2 => by rw [← hJ2, u2_ne h1, u2_ne h2, u2_ne h1]
    have v25 : ∀ i, J2 25 i = if i = W.length then 2 else J 25 i := fun i => by
      rw [← hJ2, u2_ne (by decide), u2_eq, u2_ne (by decide)]
    have v46 : J2 0 46 = nn (W.length + 1) := by rw [← hJ2, u2_same]
    have v49 : J2 0 49 = nn (cnt + 1) := by rw [← hJ2, u2_nk _ _ (by decide), u2_ne (by decide), u2_same]
    have st2 : Stk J2 (2 :: W) H s0 kr := stk.push (by decide) v46 (by rw [v25, if_pos rfl]; rfl) (fun i hi => by rw [v25, if_neg (by omega)]) (v0 47 (by decide) (by decide)) (v0 21 (by decide) (by decide)) (fun x h1 h2 h3 => vx x (by omega) h3)
    have mf : MF kr J J2 := ⟨fun x h0 _ _ _ h5 _ => vx x h0 h5, fun k _ => by rw [vx 22 (by decide) (by decide), vx 23 (by decide) (by decide), vx 24 (by decide) (by decide)]; exact ⟨rfl, rfl, rfl⟩, fun k hk => v0 k (by omega) (by omega)⟩
    have rd2 : Rd h (u2 I c 10 (nn (cnt + 1))) J2 n tb c a := (rd.s10 _).cg (Eq.refl _) (fun _ _ => Eq.refl _) (vx 1 (by decide) (by decide)) (vx 2 (by decide) (by decide)) (fun k _ _ => v0 k (by omega) (by omega))
    obtain ⟨I', J', a', n1, n2, n3, n4, n5, n6⟩ := r_next (L := L) (g := g) (M := M) rd2
    have i23 : (u2 I c 10 (nn (cnt + 1))) 2 = I 2 := u2_ne (Ne.symm rd.c2)
    rw [n1, n2]
    refine ⟨_, I', J', a', rfl, rfl, ⟨n3, ⟨?_, ?_, by omega, ?_⟩, ⟨?_, ?_, b8, ?_⟩, st2.cg (fun k hk => n6.2 k (by omega)) (fun x h1 h2 => n6.1 x (by omega)), ?_⟩, ?_, ?_, (EF.u10 rd.c2 _).tr (EF.x rd.c2 n5), mf.tr (Nat.le_refl _) (MF.v n6)⟩
    · rw [n5.1 c rd.c2, u2_same]
    · rw [n6.2 49 (by omega)]; exact v49
    · simp only [nz, if_neg (show ¬ 2 = 0 by decide)]; omega
    · rw [n5.2 5 (by decide) (by decide) (by decide) (by decide), i23]; exact i5
    · rw [n6.2 48 (by omega), v0 48 (by decide) (by decide)]; exact j48
    · simp only [zc, if_neg (show ¬ 2 = 0 by decide)]; omega
    · rw [n6.2 50 (by omega), v0 50 (by decide) (by decide)]; exact j50
    · rw [n6.2 51 (by omega), v0 51 (by decide) (by decide)]; exact h51
    · have := n4 (by rw [i23, hs]; decide)
      rw [i23] at this; exact this
/-- a leaf of kind k: the knot (k, v, 0) means f -/
theorem st_lf (q : ES h I J n tb c a W H s0 kr b cnt 1) (k v : Int32) (f : LF) (s4 : ¬ I 2 3 = 4) (hf : (k = 0 ∧ f = fun _ => some v.toInt64) ∨ (k = 1 ∧ inb v 7 ∧ f = fun N => some (N v.toNatClampNeg)))
    (e : m_leafRead (hw g J M) = if cnt = 64 then m_wrong 2 (hw g J M) else cal (m_token (hw g (u2 (grJ (u2 J 0 49 (nn (cnt + 1))) kr H.length k v 0) 0 50 0) M)) (fun r20 h21 => some ((1 : Int32), h21))) (K : HP → Option (Int32 × HP)) (fu : Nat) :
    Flt g M c kr h I J 1 (cR_knot (hw h I L)) (m_sumRead_25 K (fu + 1) (hw g J M)) ∨
    ∃ I' J' a', cR_knot (hw h I L) = some (.inl (I 2 4), hw h I' L) ∧ m_sumRead_25 K (fu + 1) (hw g J M) = m_sumRead_25 K fu (hw g J' M) ∧ ES h I' J' n tb c a' W ((kr, f) :: H) s0 (kr + 1) b (cnt + 1) 0 ∧ mu n a' (I' 2 3) < mu n a (I 2 3) ∧ EF c h I h I' ∧ MF kr J J' := by
  have ln := q.len
  obtain ⟨rd, ⟨i10, j49, c64, cz⟩, ⟨i5, j48, b8, bz⟩, stk, j50⟩ := q
  rw [em_it1 j50, e, ec_knot rd i10 c64]
  by_cases z : cnt = 64
  · left
    rw [if_pos z, if_pos z]
    have fl := flt_wrong (ρ := Int32) (g := g) (M := M) (L := L) rd kr 2
    rw [em_wrong] at fl ⊢
    exact fl
  · right
    rw [if_neg z, if_neg z]
    have m1 : MB kr (u2 J 0 49 (nn (cnt + 1))) (grJ (u2 J 0 49 (nn (cnt + 1))) kr H.length k v 0) := MB.gr
    have g1 := grJ_v (J := u2 J 0 49 (nn (cnt + 1))) (kr := kr) (hl := H.length) (a := k) (b := v) (c := 0)
    have hs1 : HSt (grJ (u2 J 0 49 (nn (cnt + 1))) kr H.length k v 0) s0 H kr := HSt.gr (Nat.le_refl _) (Nat.le_refl _) (HSt.cg (J := J) H kr kr (Nat.le_refl _) (fun i _ => rfl) (fun k _ => ⟨rfl, rfl, rfl⟩) stk.2.2.1)
    generalize hG : grJ (u2 J 0 49 (nn (cnt + 1))) kr H.length k v 0 = G at m1 g1 hs1
    have v0 : ∀ k, k ≠ 49 → k ≠ 50 → k ≠ 21 → k ≠ 46 → k ≠ 47 → (u2 G 0 50 0) 0 k = J 0 k := fun k h1 h2 h3 h4 h5 => by rw [u2_nk _ _ h2, m1.2.2 k h3 h4 h5, u2_nk _ _ h1]
    have vx : ∀ x, x ≠ 0 → x ≠ 22 → x ≠ 23 → x ≠ 24 → x ≠ 26 → (u2 G 0 50 0) x = J x := fun x h1 h2 h3 h4 h5 => by rw [u2_ne h1, m1.1 x h1 h2 h3 h4 h5, u2_ne h1]
    have v46 : (u2 G 0 50 0) 0 46 = J 0 46 := by
      rw [u2_nk _ _ (by decide), ← hG]; unfold grJ
      rw [u2_nk _ _ (by decide), u2_nk _ _ (by decide), u2_ne (by decide), u2_ne (by decide), u2_ne (by decide), u2_ne (by decide), u2_nk _ _ (by decide)]
    have st2 : Stk (u2 G 0 50 0) W ((kr, f) :: H) s0 (kr + 1) := by
      refine ⟨⟨by rw [v46]; exact stk.1.1, WSt.cg W (fun i _ => by rw [vx 25 (by decide) (by decide) (by decide) (by decide) (by decide)]) stk.1.2⟩, by rw [u2_nk _ _ (by decide), g1.2.2.2.2.1]; rfl, ⟨rfl, g1.2.2.2.1, kr, 1, ?_, HSt.cg (J := G) H kr kr (Nat.le_refl _) (fun i _ => rfl) (fun k _ => ⟨rfl, rfl, rfl⟩) hs1⟩, by rw [u2_nk _ _ (by decide)]; exact g1.2.2.2.2.2⟩
      rcases hf with ⟨rfl, rfl⟩ | ⟨rfl, h7, rfl⟩
      · exact Or.inl ⟨rfl, g1.1, by show _ = fun _ => some (kj G 23 kr).toInt64; rw [g1.2.1]⟩
      · exact Or.inr (Or.inl ⟨rfl, g1.1, by show inb (kj G 23 kr) 7; rw [g1.2.1]; exact h7, by show (fun N => some (N v.toNatClampNeg)) = (fun (N : Nat → Int64) => some (N (kj G 23 kr).toNatClampNeg)); rw [g1.2.1]⟩)
    have mf : MF kr J (u2 G 0 50 0) := ⟨fun x h0 h1 h2 h3 _ h5 => vx x h0 h1 h2 h3 h5, fun k hk => by rw [u2_ne (by decide), u2_ne (by decide), u2_ne (by decide)]; exact m1.2.1 k hk, fun k hk => v0 k (by omega) (by omega) (by omega) (by omega) (by omega)⟩
    have rd2 : Rd h (u2 I c 10 (nn (cnt + 1))) (u2 G 0 50 0) n tb c a := (rd.s10 _).cg (Eq.refl _) (fun _ _ => Eq.refl _) (vx 1 (by decide) (by decide) (by decide) (by decide) (by decide)) (vx 2 (by decide) (by decide) (by decide) (by decide) (by decide)) (fun k _ _ => v0 k (by omega) (by omega) (by omega) (by omega) (by omega))
    obtain ⟨I', J', a', n1, n2, n3, n4, n5, n6⟩ := r_next (L := L) (g := g) (M := M) rd2
    have i23 : (u2 I c 10 (nn (cnt + 1))) 2 = I 2 := u2_ne (Ne.symm rd.c2)
    rw [n1, n2]
    refine ⟨I', J', a', rfl, rfl, ⟨n3, ⟨?_, ?_, by omega, by omega⟩, ⟨?_, ?_, b8, bz⟩, st2.cg (fun k hk => n6.2 k (by omega)) (fun x h1 h2 => n6.1 x (by omega)), ?_⟩, ?_, (EF.u10 rd.c2 _).tr (EF.x rd.c2 n5), mf.tr (Nat.le_refl _) (MF.v n6)⟩
    · rw [n5.1 c rd.c2, u2_same]
    · rw [n6.2 49 (by omega), u2_nk _ _ (by decide), m1.2.2 49 (by decide) (by decide) (by decide), u2_same]
    · rw [n5.2 5 (by decide) (by decide) (by decide) (by decide), i23]; exact i5
    · rw [n6.2 48 (by omega), v0 48 (by decide) (by decide) (by decide) (by decide) (by decide)]; exact j48
    · rw [n6.2 50 (by omega), u2_same]
    · have := n4 (by rw [i23]; exact s4)
      rw [i23] at this; exact this
end P33
