set_option maxRecDepth 100000
/-! PURE LEVEL 92: parts of a line, both sides -/
def frU (J J' : Nat → Nat → Int32) : Prop := (∀ x, x ≠ 0 → J' x = J x) ∧ ∀ k, (k < 7 ∨ 11 < k) → J' 0 k = J 0 k
def Rw (h : HP) (I J : Nat → Nat → Int32) (l m t o : Nat) (ar : Nat → Nat) : Prop := (shL (cV h) l ∧ I l 2 = nn m ∧ m ≤ (gT (cV h) (l + 1)).2 ∧ m < 1000 ∧ ∀ k, k < m → gR (cV h) (l + 1) k = some (ar k) ∧ ((gT (cV h) (ar k)).1 = 7 ∨ (gT (cV h) (ar k)).1 = 8 ∨ (gT (cV h) (ar k)).1 = 9)) ∧ ((mT t).1 = 100 ∧ o + m ≤ (mT t).2 ∧ (mT t).2 < 1000) ∧ ∀ k, k < m → I (ar k) 0 = J t (o + k)
theorem tk_name {s v k w : Int32} (t : TokR s v k w) : (k = 2 ↔ s = 1) ∧ (s = 1 → w = v) := by
  rcases t with ⟨rfl, u, hu, rfl, rfl, rfl⟩ | ⟨rfl, rfl, rfl⟩ | ⟨rfl, rfl, rfl⟩ | ⟨rfl, ⟨rfl, rfl, h⟩ | ⟨rfl, h⟩⟩ | ⟨rfl, rfl⟩ | ⟨rfl, rfl | ⟨rfl, rfl⟩⟩
  · exact ⟨by decide, fun e => absurd e (by decide)⟩
  · exact ⟨by decide, fun _ => rfl⟩
  · exact ⟨by decide, fun e => absurd e (by decide)⟩
  · exact ⟨by decide, fun e => absurd e (by decide)⟩
  · exact ⟨by decide, fun e => absurd e (by decide)⟩
  · exact ⟨by decide, fun e => absurd e (by decide)⟩
  · exact ⟨by decide, fun e => absurd e (by decide)⟩
  · exact ⟨by decide, fun e => absurd e (by decide)⟩
theorem tk_sg {s v k w : Int32} (t : TokR s v k w) : (k = 4 ∧ w = 59) ↔ (s = 3 ∧ v = 59) := by
  rcases tk_f t with ⟨q, h0⟩ | ⟨q, -⟩
  · have := (tk_3 t h0).2.2.1
    refine ⟨fun e => absurd e this, fun e => ?_⟩
    rw [e.1, e.2] at h0; exact absurd (by decide) h0
  · exact q.2.2.2.2.2.2.2.1
theorem tk_key {s v k w : Int32} (t : TokR s v k w) {x : Nat} (hx : x < 15 ∨ (16 < x ∧ x < 25)) : (k = 1 ∧ w = nn x) ↔ (s = 0 ∧ v = nn x) := by
  have kn := (tk_num t).2.2
  constructor
  · intro ⟨e1, e2⟩
    obtain ⟨u, hu, ev, -, ew⟩ := tk_word t (kn.mp e1)
    have e : sw u = x := by
      have hs : sw u < 25 := (mF_f ⟨u, hu⟩).2.2.2.2.2
      exact (nn_eq (by omega) (by omega)).mp (by rw [← ew, e2])
    refine ⟨kn.mp e1, ?_⟩
    rw [ev]
    rcases sw_lit hu with y | y | y
    · omega
    · omega
    · rw [← e, y.2.2]
  · intro ⟨e1, e2⟩
    obtain ⟨u, hu, ev, ek, ew⟩ := tk_word t e1
    have e : u = x := (nn_eq (by omega) (by omega)).mp (by rw [← ev, e2])
    refine ⟨ek, ?_⟩
    rw [ew]
    rcases sw_lit hu with y | y | y
    · omega
    · omega
    · rw [y.2.2, e]
section P40
variable {h h' g : HP} {I I' J J' : Nat → Nat → Int32} {L M : Nat → Nat → Int64} {n : Nat} {tb : Nat → Nat} {a c kr : Nat} {l m t o : Nat} {ar : Nat → Nat}
theorem frU.v (f : frV J J') : frU J J' := ⟨f.1, fun k hk => f.2 k (by omega)⟩
theorem frU.tr {J1 J2 : Nat → Nat → Int32} (p : frU J J1) (q : frU J1 J2) : frU J J2 := ⟨fun x h => (q.1 x h).trans (p.1 x h), fun k hk => (q.2 k hk).trans (p.2 k hk)⟩
theorem frU.u (v : Int32) : frU J (u2 J 0 11 v) := ⟨fun x h => u2_ne h, fun k hk => u2_nk _ _ (by omega)⟩
theorem Rd.j11 (q : Rd h I J n tb c a) (v : Int32) : Rd h I (u2 J 0 11 v) n tb c a := q.cg (Eq.refl _) (fun _ _ => Eq.refl _) (u2_ne (by decide)) (u2_ne (by decide)) (fun k _ _ => u2_nk _ _ (by omega))
theorem b_find (rw' : Rw h I J l m t o ar) (x : Int32) : ∃ r, kX12_find l x (hw h I L) = some (r, hw h I L) ∧ m_find t (nn o) (nn m) x (hw g J M) = some (r, hw g J M) ∧ (r = -1 ∨ ∃ k, k < m ∧ r = nn k) := by
  obtain ⟨⟨r1, r2, r3, r4, r5⟩, ⟨r6, r7, r8⟩, r9⟩ := rw'
  refine ⟨_, ec_find r1 r2 r3 r4 r5 x, ?_, ?_⟩
  · rw [em_find r6 r7 r8 x, zfd_cg m 0 (fun k h1 h2 => (r9 k (by omega)).symm)]
  · rcases zfd_in (f := fun k => I (ar k) 0) (x := x) m 0 with q | ⟨k, h1, h2, h3, -⟩
    · exact Or.inl q
    · exact Or.inr ⟨k, by omega, h3⟩
theorem neg1 {k : Nat} (hk : k < 1000) : ¬ nn k = -1 := fun e => nn_nonneg (a := k) (by omega) (by rw [e]; decide)
theorem r_num (rd : Rd h I J n tb c a) (lo hi : Int32) : Flt g M c kr h I J 1 (cR_number lo hi (hw h I L)) (m_number lo hi (hw g J M)) ∨
    ∃ I' J' a' v, cR_number lo hi (hw h I L) = some (.inl v, hw h I' L) ∧ m_number lo hi (hw g J M) = some (1, hw g J' M) ∧ Rd h I' J' n tb c a' ∧ J' 0 11 = v ∧ (¬ v < lo ∧ ¬ hi < v) ∧ frX I I' ∧ frU J J' ∧ mu n a' (I' 2 3) < mu n a (I 2 3) := by
  obtain ⟨t1, t2, -⟩ := tk_num rd.2.2.1.1
  have fl := fun k => flt_wrong (ρ := Int32) (g := g) (M := M) (L := L) rd kr k
  rw [cR_number, cR_numberAtHand, m_number]
  simp only [gI_hw]
  by_cases z : I 2 3 = 2
  · rw [if_pos z, if_pos (t1.mpr z), ec_in, cal_s, t2 z, em_in, cal_s]
    by_cases y : ¬ I 2 4 < lo ∧ ¬ hi < I 2 4
    · right
      rw [decide_eq_true y, if_neg (by decide), if_neg (by decide), calx_l, bnd_e, bnd_e, sI_hw, gI_hw]
      obtain ⟨I', J', a', n1, n2, n3, n4, n5, n6⟩ := r_next (L := L) (g := g) (M := M) (rd.j11 (I 2 4))
      rw [n1, gI_hw, t2 z, n2]
      exact ⟨I', J', a', I 2 4, rfl, rfl, n3, by rw [n6.2 11 (by omega), u2_same], y, n5, (frU.u _).tr (frU.v n6), n4 (by rw [z]; decide)⟩
    · left
      rw [decide_eq_false y, if_pos (by rfl), if_pos (by rfl), m_wr]
      exact (fl 2).cx _
  · left
    rw [if_neg z, if_neg (fun e => z (t1.mp e)), m_wr]
    exact (fl 1).cx _
theorem r_fresh (rd : Rd h I J n tb c a) (rw' : Rw h I J l m t o ar) (hm : o + m < (mT t).2) (ht : 3 < t) : Flt g M c kr h I J 1 (cR_fresh l (hw h I L)) (m_newName t (nn o) (nn m) (hw g J M)) ∨
    ∃ I' J' a' v, cR_fresh l (hw h I L) = some (.inl v, hw h I' L) ∧ m_newName t (nn o) (nn m) (hw g J M) = some (1, hw g J' M) ∧ Rd h I' J' n tb c a' ∧ J' t (o + m) = v ∧ (∀ k, k ≠ o + m → J' t k = J t k) ∧ (∀ x, x ≠ 0 → x ≠ t → J' x = J x) ∧ (∀ k, (k < 7 ∨ 10 < k) → J' 0 k = J 0 k) ∧ frX I I' ∧ mu n a' (I' 2 3) < mu n a (I 2 3) := by
  obtain ⟨t1, t2⟩ := tk_name rd.2.2.1.1
  have fl := fun k => flt_wrong (ρ := Int32) (g := g) (M := M) (L := L) rd kr k
  have h8 := rw'.2.1
  rw [cR_fresh, m_newName]
  simp only [gI_hw]
  by_cases z : I 2 3 = 1
  · rw [if_pos z, if_pos (t1.mpr z)]
    obtain ⟨r, e1, e2, e3⟩ := b_find (L := L) (g := g) (M := M) rw' (I 2 4)
    rw [e1, t2 z, e2, cal_s, cal_s]
    rcases e3 with rfl | ⟨k, hk, rfl⟩
    · right
      rw [if_pos rfl, if_pos (by decide), bnd_e, grd_pos h8.1, nn_add, grd_pos (nn_inb (by omega) hm), nn_clamp (by omega), bnd_e, sI_hw, gI_hw, gI_hw, t2 z]
      have rd1 : Rd h I (u2 J t (o + m) (I 2 4)) n tb c a := rd.cg (Eq.refl _) (fun _ _ => Eq.refl _) (u2_ne (by omega)) (u2_ne (by omega)) (fun k _ _ => by rw [u2_ne (by omega)])
      obtain ⟨I', J', a', n1, n2, n3, n4, n5, n6⟩ := r_next (L := L) (g := g) (M := M) rd1
      rw [n1, n2]
      exact ⟨I', J', a', I 2 4, rfl, rfl, n3, by rw [n6.1 t (by omega), u2_same], fun k hk => by rw [n6.1 t (by omega), u2_nk _ _ hk], fun x h0 hx => by rw [n6.1 x h0, u2_ne hx], fun k hk => by rw [n6.2 k hk, u2_ne (by omega)], n5, n4 (by rw [z]; decide)⟩
    · left
      have := rw'.1.2.2.2.1
      rw [if_neg (neg1 (by omega)), if_neg (nn_nonneg (by omega)), m_wr]
      exact fl 3
  · left
    rw [if_neg z, if_neg (fun e => z (t1.mp e)), m_wr]
    exact fl 1
theorem r_at (rd : Rd h I J n tb c a) (rw' : Rw h I J l m t o ar) : Flt g M c kr h I J 1 (cR_atHand l (hw h I L)) (m_there t (nn o) (nn m) (hw g J M)) ∨
    ∃ k I' J' a', k < m ∧ cR_atHand l (hw h I L) = some (.inl (nn k), hw h I L) ∧ cR_next (hw h I L) = some ((), hw h I' L) ∧ m_there t (nn o) (nn m) (hw g J M) = some (1, hw g J' M) ∧ Rd h I' J' n tb c a' ∧ J' 0 11 = nn k ∧ frX I I' ∧ frU J J' ∧ mu n a' (I' 2 3) < mu n a (I 2 3) := by
  obtain ⟨t1, t2⟩ := tk_name rd.2.2.1.1
  have fl := fun k => flt_wrong (ρ := Int32) (g := g) (M := M) (L := L) rd kr k
  have h4 := rw'.1.2.2.2.1
  rw [cR_atHand, m_there]
  simp only [gI_hw]
  by_cases z : I 2 3 = 1
  · rw [if_pos z, if_pos (t1.mpr z)]
    obtain ⟨r, e1, e2, e3⟩ := b_find (L := L) (g := g) (M := M) rw' (I 2 4)
    rw [e1, t2 z, e2, cal_s, cal_s, bnd_e, bnd_e]
    rcases e3 with rfl | ⟨k, hk, rfl⟩
    · left
      rw [if_pos rfl, if_neg (by decide), m_wr]
      exact fl 4
    · right
      rw [if_neg (neg1 (by omega)), if_pos (Int32.not_lt.mp (nn_nonneg (by omega)))]
      obtain ⟨I', J', a', n1, n2, n3, n4, n5, n6⟩ := r_next (L := L) (g := g) (M := M) rd
      rw [n1, n2, cal_s, bnd_e, sI_hw]
      exact ⟨k, I', u2 J' 0 11 (nn k), a', hk, rfl, rfl, rfl, n3.j11 _, u2_same _ _ _ _, n5, (frU.v n6).tr (frU.u _), n4 (by rw [z]; decide)⟩
  · left
    rw [if_neg z, if_neg (fun e => z (t1.mp e)), m_wr]
    exact fl 1
theorem r_ahead (rd : Rd h I J n tb c a) (rw' : Rw h I J l m t o ar) : Flt g M c kr h I J 1 (cR_ahead l (hw h I L)) (m_there t (nn o) (nn m) (hw g J M)) ∨
    ∃ k I' J' a', k < m ∧ cR_ahead l (hw h I L) = some (.inl (nn k), hw h I' L) ∧ m_there t (nn o) (nn m) (hw g J M) = some (1, hw g J' M) ∧ Rd h I' J' n tb c a' ∧ J' 0 11 = nn k ∧ frX I I' ∧ frU J J' ∧ mu n a' (I' 2 3) < mu n a (I 2 3) := by
  rcases r_at (L := L) (g := g) (M := M) (kr := kr) rd rw' with fl | ⟨k, I', J', a', hk, e1, e2, e3, r⟩
  · exact Or.inl (fl.cx _)
  · exact Or.inr ⟨k, I', J', a', hk, by rw [cR_ahead, e1, calx_l, bnd_e, e2, cal_s], e3, r⟩
theorem r_some (rd : Rd h I J n tb c a) (rw' : Rw h I J (c + 1) m 5 8 ar) (j17 : J 0 17 = nn m) : Flt g M c kr h I J 1 (cR_some (hw h I L)) (m_some (hw g J M)) ∨
    ∃ v I' J' a', (v = -1 ∨ ∃ k, k < m ∧ v = nn k) ∧ cR_some (hw h I L) = some (.inl v, hw h I' L) ∧ m_some (hw g J M) = some (1, hw g J' M) ∧ Rd h I' J' n tb c a' ∧ J' 0 11 = v ∧ frX I I' ∧ frU J J' ∧ mu n a' (I' 2 3) < mu n a (I 2 3) := by
  have tk : (J 0 8 = 1 ∧ J 0 9 = 12) ↔ (I 2 3 = 0 ∧ I 2 4 = 12) := tk_key (x := 12) rd.2.2.1.1 (by omega)
  rw [cR_some, m_some, ec_isWord, em_isKey, cal_s, cal_s]
  by_cases z : I 2 3 = 0 ∧ I 2 4 = 12
  · right
    rw [decide_eq_true (wd_1.mpr z), decide_eq_true (tk.mpr z), if_neg (by decide), if_neg (by decide)]
    obtain ⟨I', J', a', n1, n2, n3, n4, n5, n6⟩ := r_next (L := L) (g := g) (M := M) rd
    rw [n1, n2, cal_s, cal_s, bnd_e, sI_hw]
    exact ⟨-1, I', u2 J' 0 11 (-1), a', Or.inl rfl, rfl, rfl, n3.j11 _, u2_same _ _ _ _, n5, (frU.v n6).tr (frU.u _), n4 (by rw [z.1]; decide)⟩
  · rw [decide_eq_false (fun y => z (wd_1.mp y)), decide_eq_false (fun y => z (tk.mp y)), if_pos (by rfl), if_pos (by rfl)]
    simp only [cV_hw, gR_hw, rd.2.2.2.1, onr_some, shC_hw, gI_hw, j17]
    rw [grd_pos rd.2.2.2.2.1]
    rcases r_ahead (L := L) (g := g) (M := M) (kr := kr) rd rw' with fl | ⟨k, I', J', a', hk, e1, e2, r⟩
    · left
      have := fl.cx (σ := Int32) (fun r6 h7 => some (.inl r6, h7))
      obtain ⟨h', I', L', x, J', q1, q2, q⟩ := this
      refine ⟨h', I', L', x, J', q1, ?_, q⟩
      rw [show (8 : Int32) = nn 8 from rfl, q2, cal_s, grd_pos (Or.inl rfl)]
    · right
      rw [e1, show (8 : Int32) = nn 8 from rfl, e2, calx_l, cal_s, grd_pos (Or.inr rfl)]
      exact ⟨nn k, I', J', a', Or.inr ⟨k, hk, rfl⟩, rfl, rfl, r⟩
end P40
