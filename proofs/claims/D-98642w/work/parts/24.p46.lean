/-! PURE LEVEL 46: heaps that grow: what stands on typed cells stays -/
section P5
variable {h h' : HP} {I : Nat → Nat → Int32}
def hx (h h' : HP) : Prop := (∀ x, (gT (cV h) x).1 ≠ 0 → gT (cV h') x = gT (cV h) x) ∧ ∀ x, (gT (cV h) x).1 ≠ 0 → x ≠ 2 → x ≠ 35 → x ≠ 42 → gR (cV h') x = gR (cV h) x
theorem hx.rfl (h : HP) : hx h h := ⟨fun _ _ => Eq.refl _, fun _ _ _ _ _ => Eq.refl _⟩
theorem hx.tr {h1 h2 : HP} (a : hx h h1) (b : hx h1 h2) : hx h h2 := ⟨fun x z => (b.1 x (by rw [a.1 x z]; exact z)).trans (a.1 x z), fun x z z0 z1 z2 => (b.2 x (by rw [a.1 x z]; exact z) z0 z1 z2).trans (a.2 x z z0 z1 z2)⟩
theorem hx.t {x t : Nat} (f : hx h h') (ht : (gT (cV h) x).1 = t) (h1 : t ≠ 0) : gT (cV h') x = gT (cV h) x := f.1 x (by rw [ht]; exact h1)
theorem hx.r {x t : Nat} (f : hx h h') (ht : (gT (cV h) x).1 = t) (h1 : t ≠ 0) (h2 : t ≠ 104) (h3 : t ≠ 107) (h4 : t ≠ 3 := by decide) : gR (cV h') x = gR (cV h) x := f.2 x (by rw [ht]; exact h1) (fun e => h4 (by rw [← ht, e]; rfl)) (fun e => h3 (by rw [← ht, e]; rfl)) (fun e => h2 (by rw [← ht, e]; rfl))
theorem PDn.hx (f : hx h h') : ∀ (d p : Nat) (l : LF), PDn (cV h) I d p l → PDn (cV h') I d p l
  | 0, _, _, q => q.elim
  | d + 1, p, l, q => by
    rcases q with ⟨t, q⟩ | ⟨t, q1, q⟩ | ⟨t, a, fa, q1, q2, q⟩ | ⟨t, a, b, fa, fb, q1, q2, q3, q4, q⟩
    · exact Or.inl ⟨by rw [f.t t (by decide)]; exact t, q⟩
    · exact Or.inr (Or.inl ⟨by rw [f.t t (by decide)]; exact t, q1, q⟩)
    · exact Or.inr (Or.inr (Or.inl ⟨by rw [f.t t (by decide)]; exact t, a, fa, by rw [f.r t (by decide) (by decide) (by decide)]; exact q1, PDn.hx f d a fa q2, q⟩))
    · exact Or.inr (Or.inr (Or.inr ⟨by rw [f.t t (by decide)]; exact t, a, b, fa, fb, by rw [f.r t (by decide) (by decide) (by decide)]; exact q1, by rw [f.r t (by decide) (by decide) (by decide)]; exact q2, PDn.hx f d a fa q3, PDn.hx f d b fb q4, q⟩))
theorem CC.hx {c : Nat} {K : KT} {A : Nat → Nat → Nat} (f : hx h h') (wk : WK K) (q : CC (cV h) I c K A) : CC (cV h') I c K A := by
  obtain ⟨⟨a1, a2, a3, a4, a5, a6⟩, ⟨⟨b1, b2, b3⟩, ⟨c1, c2, c3⟩, ⟨d1, d2, d3⟩⟩, ⟨w6, w7', w8'⟩, w7, w10, w14, w15, w16, w17, w18⟩ := q
  have tc : (gT (cV h) c).1 = 4 := by rw [a1]
  have t1 : (gT (cV h) (c + 1)).1 = 5 := by rw [b1]
  have t3 : (gT (cV h) (c + 3)).1 = 5 := by rw [c1]
  have t5 : (gT (cV h) (c + 5)).1 = 5 := by rw [d1]
  have t7 : (gT (cV h) (c + 7)).1 = 100 := by rw [a3]
  have t8 : (gT (cV h) (c + 8)).1 = 100 := by rw [a4]
  have t9 : (gT (cV h) (c + 9)).1 = 100 := by rw [a5]
  have t10 : (gT (cV h) (c + 10)).1 = 105 := by rw [a6]
  have r2 : gR (cV h') (c + 2) = gR (cV h) (c + 2) := f.2 _ (by rw [b3]; decide) (fun e => by rw [e] at b3; exact absurd b3 (by show ¬ 3 = 104; decide)) (fun e => by rw [e] at w6; exact absurd w6 (by show ¬ 20 = 8; decide)) (fun e => by rw [e] at w6; exact absurd w6 (by show ¬ 24 = 8; decide))
  have r4 : gR (cV h') (c + 4) = gR (cV h) (c + 4) := f.2 _ (by rw [c3]; decide) (fun e => by rw [e] at c3; exact absurd c3 (by show ¬ 3 = 104; decide)) (fun e => by rw [e] at w7'; exact absurd w7' (by show ¬ 20 = 5; decide)) (fun e => by rw [e] at w7'; exact absurd w7' (by show ¬ 24 = 5; decide))
  have r6 : gR (cV h') (c + 6) = gR (cV h) (c + 6) := f.2 _ (by rw [d3]; decide) (fun e => by rw [e] at d3; exact absurd d3 (by show ¬ 3 = 104; decide)) (fun e => by rw [e] at w8'; exact absurd w8' (by show ¬ 20 = 8; decide)) (fun e => by rw [e] at w8'; exact absurd w8' (by show ¬ 24 = 8; decide))
  refine ⟨⟨by rw [f.t tc (by decide)]; exact a1, by rw [f.r tc (by decide) (by decide) (by decide)]; exact a2, by rw [f.t t7 (by decide)]; exact a3, by rw [f.t t8 (by decide)]; exact a4, by rw [f.t t9 (by decide)]; exact a5, by rw [f.t t10 (by decide)]; exact a6⟩, ⟨⟨by rw [f.t t1 (by decide)]; exact b1, by rw [f.r t1 (by decide) (by decide) (by decide)]; exact b2, by rw [f.t b3 (by decide)]; exact b3⟩, ⟨by rw [f.t t3 (by decide)]; exact c1, by rw [f.r t3 (by decide) (by decide) (by decide)]; exact c2, by rw [f.t c3 (by decide)]; exact c3⟩, ⟨by rw [f.t t5 (by decide)]; exact d1, by rw [f.r t5 (by decide) (by decide) (by decide)]; exact d2, by rw [f.t d3 (by decide)]; exact d3⟩⟩, ⟨by rw [f.t b3 (by decide)]; exact w6, by rw [f.t c3 (by decide)]; exact w7', by rw [f.t d3 (by decide)]; exact w8'⟩, w7, w10, fun k hk => ?_, fun k hk => ?_, fun k hk => ?_, w17, fun j hj => ?_⟩
  · have q := w14 k hk
    rw [r2, f.t q.2.1 (by decide)]; exact q
  · have q := w15 k hk
    rw [r4, f.t q.2.1 (by decide)]; exact q
  · have q := w16 k hk
    rw [r6, f.t q.2.1 (by decide)]; exact q
  · have q := w18 j hj
    unfold CL at q ⊢
    rw [f.r t10 (by decide) (by decide) (by decide)]
    split at q
    · exact q
    · obtain ⟨p, q1, q2⟩ := q
      exact ⟨p, q1, PDn.hx f _ _ _ q2⟩
theorem CW.hx {c : Nat} {K : KT} {A : Nat → Nat → Nat} (f : hx h h') (q : CW h I c K A) : CW h' I c K A := by
  refine ⟨?_, q.2.1.hx f q.2.2, q.2.2⟩
  rw [f.r (x := 0) (t := 2) (by show (gT (cV h) 0).1 = 2; rfl) (by decide) (by decide) (by decide)]; exact q.1
theorem NtC.hx {D : Nat → Nat} {N : Nat → Nat → Int32} {sn : Nat} (f : hx h h') (f2 : gR (cV h') 42 = gR (cV h) 42) (q : NtC h I D N sn) : NtC h' I D N sn := by
  refine ⟨q.1, fun k hk => ?_⟩
  obtain ⟨q1, q2⟩ := q.2 k hk
  refine ⟨by rw [f2]; exact q1, ?_⟩
  rcases q2 with ⟨a, b, c⟩ | ⟨a, b, c⟩
  · exact Or.inl ⟨a, by rw [f.t b (by decide)]; exact b, c⟩
  · exact Or.inr ⟨a, by rw [f.t b (by decide)]; exact b, c⟩
theorem shS_hx {o : Nat} (f : hx h h') (q : shS (cV h) o) : shS (cV h') o := by
  obtain ⟨a1, a2, a3, a4, a5, a6⟩ := q
  have t0 : (gT (cV h) o).1 = 6 := by rw [a1]
  have t1 : (gT (cV h) (o + 1)).1 = 100 := by rw [a3]
  have t2 : (gT (cV h) (o + 2)).1 = 100 := by rw [a4]
  have t3 : (gT (cV h) (o + 3)).1 = 100 := by rw [a5]
  have t4 : (gT (cV h) (o + 4)).1 = 100 := by rw [a6]
  exact ⟨by rw [f.t t0 (by decide)]; exact a1, by rw [f.r t0 (by decide) (by decide) (by decide)]; exact a2, by rw [f.t t1 (by decide)]; exact a3, by rw [f.t t2 (by decide)]; exact a4, by rw [f.t t3 (by decide)]; exact a5, by rw [f.t t4 (by decide)]; exact a6⟩
/-- the row of kept states, given as a function -/
def hr (h : HP) (f : Nat → Option Nat) : HP := (h.1, h.2.1, h.2.2.1, h.2.2.2.1, fun a k => if a = 35 then f k else gR h a k)
theorem hr_eta (h : HP) : h = hr h (fun k => gR h 35 k) := by
  refine Prod.ext (by exact Eq.refl _) (Prod.ext (by exact Eq.refl _) (Prod.ext (by exact Eq.refl _) (Prod.ext (by exact Eq.refl _) ?_)))
  funext a k
  show gR h a k = if a = 35 then gR h 35 k else gR h a k
  by_cases z : a = 35
  · rw [if_pos z, z]
  · rw [if_neg z]
theorem hr_sR (h : HP) (f : Nat → Option Nat) (I : Nat → Nat → Int32) (L : Nat → Nat → Int64) (k : Nat) (v : Option Nat) : sR (hw (hr h f) I L) 35 k v = hw (hr h (fun j => if j = k then v else f j)) I L := by
  refine Prod.ext (by exact Eq.refl _) (Prod.ext (by exact Eq.refl _) (Prod.ext (by exact Eq.refl _) (Prod.ext (by exact Eq.refl _) ?_)))
  funext a j
  show (if a = 35 ∧ j = k then v else if a = 35 then f j else gR h a j) = if a = 35 then (if j = k then v else f j) else gR h a j
  by_cases z : a = 35
  · by_cases y : j = k
    · rw [if_pos ⟨z, y⟩, if_pos z, if_pos y]
    · rw [if_neg (fun e => y e.2), if_pos z, if_pos z, if_neg y]
  · rw [if_neg (fun e => z e.1), if_neg z, if_neg z]
theorem hr_35 (h : HP) (f : Nat → Option Nat) (k : Nat) : gR (cV (hr h f)) 35 k = f k := by
  show (match cRs 35 k with | some b => some b | none => if 35 = 35 then f k else gR h 35 k) = f k
  rw [if_pos (Eq.refl _)]; exact Eq.refl _
theorem hr_ne (h : HP) (f : Nat → Option Nat) {x : Nat} (z : x ≠ 35) : gR (cV (hr h f)) x = gR (cV h) x := by
  funext k
  show (match cRs x k with | some b => some b | none => if x = 35 then f k else gR h x k) = (match cRs x k with | some b => some b | none => gR h x k)
  rw [if_neg z]
theorem hr_T (h : HP) (f : Nat → Option Nat) : gT (cV (hr h f)) = gT (cV h) := (rfl)
theorem hr_hx (h : HP) (f : Nat → Option Nat) : hx h (hr h f) := ⟨fun x _ => by rw [hr_T], fun x _ _ z _ => hr_ne h f z⟩
end P5
