/-! PURE LEVEL 3: frames of the court; laws on the component's side -/
section C3
variable {h : HP} {I I' : Nat → Nat → Int32} {L : Nat → Nat → Int64} {c o P : Nat} {K : KT} {A : Nat → Nat → Nat} {F : FT} {S : ST}
def frT (g : HP) (I I' : Nat → Nat → Int32) : Prop := ∀ x, (gT g x).1 ≠ 6 → gT g x ≠ (100, 5) → I' x = I x
theorem frT.k {g : HP} (f : frT g I I') {x t : Nat} (ht : (gT g x).1 = t) (h6 : t ≠ 6) (h1 : t ≠ 100) : I' x = I x :=
  f x (by rw [ht]; exact h6) (fun q => h1 (by rw [← ht, q]))
theorem PDn.fr {g : HP} (f : frT g I I') : ∀ (d p : Nat) (l : LF), PDn g I d p l → PDn g I' d p l
  | 0, _, _, q => q.elim
  | d + 1, p, l, q => by
    rcases q with ⟨t, q⟩ | ⟨t, q1, q⟩ | ⟨t, a, fa, q1, q2, q⟩ | ⟨t, a, b, fa, fb, q1, q2, q3, q4, q⟩
    · exact Or.inl ⟨t, by rw [f.k t (by decide) (by decide)]; exact q⟩
    · exact Or.inr (Or.inl ⟨t, by rw [f.k t (by decide) (by decide)]; exact ⟨q1, q⟩⟩)
    · exact Or.inr (Or.inr (Or.inl ⟨t, a, fa, q1, PDn.fr f d a fa q2, q⟩))
    · exact Or.inr (Or.inr (Or.inr ⟨t, a, b, fa, fb, q1, q2, PDn.fr f d a fa q3, PDn.fr f d b fb q4, by rw [f.k t (by decide) (by decide)]; exact q⟩))
theorem PDn.up {g : HP} : ∀ (d p : Nat) (l : LF), PDn g I d p l → PDn g I (d + 1) p l
  | 0, _, _, q => q.elim
  | d + 1, p, l, q => by
    rcases q with q | q | ⟨t, a, fa, q1, q2, q⟩ | ⟨t, a, b, fa, fb, q1, q2, q3, q4, q⟩
    · exact Or.inl q
    · exact Or.inr (Or.inl q)
    · exact Or.inr (Or.inr (Or.inl ⟨t, a, fa, q1, PDn.up d a fa q2, q⟩))
    · exact Or.inr (Or.inr (Or.inr ⟨t, a, b, fa, fb, q1, q2, PDn.up d a fa q3, PDn.up d b fb q4, q⟩))
theorem PDn.le {g : HP} {p : Nat} {l : LF} {d e : Nat} (hd : d ≤ e) (q : PDn g I d p l) : PDn g I e p l := by
  obtain ⟨k, rfl⟩ := Nat.exists_eq_add_of_le hd
  clear hd
  induction k with
  | zero => exact q
  | succ k ih => exact PDn.up _ _ _ ih
theorem CC.fr {g : HP} (f : frT g I I') (q : CC g I c K A) : CC g I' c K A := by
  obtain ⟨w2, ⟨w3, w4, w5⟩, w6, ⟨w7, w8, w9⟩, ⟨w10, w11, w12, w13⟩, w14, w15, w16, w17, w18⟩ := q
  have fc : I' c = I c := f c (by rw [w2.1]; decide) (by rw [w2.1]; decide)
  have f1 : I' (c + 1) = I (c + 1) := f _ (by rw [w3.1]; decide) (by rw [w3.1]; decide)
  have f3 : I' (c + 3) = I (c + 3) := f _ (by rw [w4.1]; decide) (by rw [w4.1]; decide)
  have f5 : I' (c + 5) = I (c + 5) := f _ (by rw [w5.1]; decide) (by rw [w5.1]; decide)
  have f7 : I' (c + 7) = I (c + 7) := f _ (by rw [w2.2.2.1]; decide) (by rw [w2.2.2.1]; decide)
  have f8 : I' (c + 8) = I (c + 8) := f _ (by rw [w2.2.2.2.1]; decide) (by rw [w2.2.2.2.1]; decide)
  have f9 : I' (c + 9) = I (c + 9) := f _ (by rw [w2.2.2.2.2.1]; decide) (by rw [w2.2.2.2.2.1]; decide)
  refine ⟨w2, ⟨w3, w4, w5⟩, w6, by rw [f1, f3, f5]; exact ⟨w7, w8, w9⟩, by rw [fc]; exact ⟨w10, w11, w12, w13⟩, fun k hk => ?_, fun k hk => ?_, fun k hk => ?_, fun k hk => by rw [f7, f8, f9]; exact w17 k hk, fun j hj => ?_⟩
  · have q := w14 k hk
    rw [f.k q.2.1 (by decide) (by decide)]; exact q
  · have q := w15 k hk
    rw [f.k q.2.1 (by decide) (by decide)]; exact q
  · have q := w16 k hk
    rw [f.k q.2.1 (by decide) (by decide)]; exact q
  · have q := w18 j hj
    unfold CL at q ⊢
    split at q
    · exact q
    · obtain ⟨p, q1, q2⟩ := q
      exact ⟨p, q1, PDn.fr f _ _ _ q2⟩
theorem CW.fr (f : frT (cV h) I I') (W : CW h I c K A) : CW h I' c K A := ⟨W.1, W.2.1.fr f, W.2.2⟩
theorem frO_T (s : shS (cV h) o) (f : FrO o I I') : frT (cV h) I I' := by
  intro x h6 h5
  refine f x ?_
  obtain ⟨s0, -, s1, s2, s3, s4⟩ := s
  have e0 : x ≠ o := fun q => h6 (by rw [q, s0])
  have e1 : x ≠ o + 1 := fun q => h5 (by rw [q, s1])
  have e2 : x ≠ o + 2 := fun q => h5 (by rw [q, s2])
  have e3 : x ≠ o + 3 := fun q => h5 (by rw [q, s3])
  have e4 : x ≠ o + 4 := fun q => h5 (by rw [q, s4])
  omega
theorem CW.frO (W : CW h I c K A) (s : shS (cV h) o) (f : FrO o I I') : CW h I' c K A := W.fr (frO_T s f)
/-! laws -/
theorem lg0 {x y : Int64} : lg_cmp x y = 0 ↔ x = y := by
  unfold lg_cmp
  by_cases h1 : x > y
  · rw [if_pos h1]
    exact ⟨fun q => absurd q (by decide), fun q => absurd h1 (by rw [q]; exact Int64.lt_irrefl)⟩
  · rw [if_neg h1]
    by_cases h2 : x = y
    · rw [if_pos h2]; exact ⟨fun _ => h2, fun _ => rfl⟩
    · rw [if_neg h2]; exact ⟨fun q => absurd q (by decide), fun q => absurd q h2⟩
theorem lg_pos {x y : Int64} : 0 < lg_cmp x y ↔ y < x := by
  unfold lg_cmp
  by_cases h1 : x > y
  · rw [if_pos h1]; exact ⟨fun _ => h1, fun _ => by decide⟩
  · rw [if_neg h1]
    by_cases h2 : x = y
    · rw [if_pos h2]; exact ⟨fun q => absurd q (by decide), fun q => absurd q h1⟩
    · rw [if_neg h2]; exact ⟨fun q => absurd q (by decide), fun q => absurd q h1⟩
theorem lg_le {x y : Int64} : lg_cmp x y ≤ 0 ↔ ¬ y < x := by
  rw [← lg_pos]; exact Int32.not_lt.symm
theorem lg_neg {x y : Int64} : lg_cmp x y < 0 ↔ x < y := by
  unfold lg_cmp
  by_cases h1 : x > y
  · rw [if_pos h1]; exact ⟨fun q => absurd q (by decide), fun q => absurd q (Int64.lt_asymm h1)⟩
  · rw [if_neg h1]
    by_cases h2 : x = y
    · rw [if_pos h2]; exact ⟨fun q => absurd q (by decide), fun q => absurd q (by rw [h2]; exact Int64.lt_irrefl)⟩
    · rw [if_neg h2]; exact ⟨fun _ => Int64.lt_of_le_of_ne (Int64.not_lt.mp h1) h2, fun _ => by decide⟩
theorem lg_ge {x y : Int64} : 0 ≤ lg_cmp x y ↔ ¬ x < y := by
  rw [← lg_neg]; exact Int32.not_lt.symm
def zres (r : Option Int64) : Int64 ⊕ Nat × Nat := match r with
  | some v => .inl v
  | none => .inr (2, 0)
theorem zabs_ne {x : Int64} (hx : ¬ x = 0) : ¬ zabs x = 0 := by
  unfold zabs
  by_cases q : 0 < x
  · rw [if_pos q]; exact hx
  · rw [if_neg q]; intro e
    have e2 := congrArg Neg.neg e
    rw [Int64.neg_neg, Int64.neg_zero] at e2
    exact hx e2
theorem ec_sure (v : Int64) (H : HP) : cA_sure v H = some (zres (zsure v), H) := by
  unfold cA_sure zsure
  rw [jon_eq]
  by_cases q1 : 0 < lg_cmp v (1000000000000 : Int64)
  · rw [if_pos q1, if_pos q1]; rfl
  · rw [if_neg q1, if_neg q1]
    by_cases q2 : 0 ≤ lg_cmp v (-1000000000000 : Int64)
    · rw [if_pos q2, if_pos q2]; rfl
    · rw [if_neg q2, if_neg q2]; rfl
theorem ec_times (x y : Int64) (H : HP) : kX19_times x y H = some (zres (ztimes x y), H) := by
  unfold kX19_times ztimes
  by_cases q1 : lg_cmp x 0 = 0
  · rw [if_pos q1, if_pos q1]; rfl
  · rw [if_neg q1, if_neg q1]
    have hx : ¬ zabs x = 0 := zabs_ne (fun e => q1 (lg0.mpr e))
    have e1 : ∀ t : Int64, (if 0 < t then t else -t) = zabs t := fun _ => rfl
    rw [e1 x, e1 y, grd_pos hx]
    by_cases q2 : lg_cmp (zabs y) ((1000000000000 : Int64) / zabs x) ≤ 0
    · rw [if_pos q2, if_pos q2]; rfl
    · rw [if_neg q2, if_neg q2]; rfl
theorem calx_inl {α ρ : Type} (r : α) (H : HP) (T : α → HP → Option ((ρ ⊕ Nat × Nat) × HP)) : calx (some (.inl r, H)) T = T r H := rfl
theorem calx_inr {α ρ : Type} (x : Nat × Nat) (H : HP) (T : α → HP → Option ((ρ ⊕ Nat × Nat) × HP)) : calx (some (.inr x, H)) T = some (.inr x, H) := rfl
theorem is_0 (H : HP) : kX19_is 0 H = some (0, H) := rfl
theorem is_1 (H : HP) : kX19_is 1 H = some (1, H) := rfl
theorem calx_res (r : Option Int64) (H : HP) : calx (some (zres r, H)) (fun (v : Int64) h1 => some ((.inl v : Int64 ⊕ Nat × Nat), h1)) = some (zres r, H) := by
  cases r <;> rfl
theorem ite_some {α : Type} {p : Prop} [Decidable p] (a b : α) : (if p then some a else some b) = some (if p then a else b) := by
  by_cases q : p
  · rw [if_pos q, if_pos q]
  · rw [if_neg q, if_neg q]
theorem ec_of {N : Nat → Int64} (hN : ∀ i, i < 7 → L 14 i = N i) : ∀ (d p : Nat) (f : LF), PDn (cV h) I d p f → cP_of d p 14 (hw h I L) = some (zres (f N), hw h I L)
  | 0, _, _, q => q.elim
  | d + 1, p, f, q => by
    rcases q with ⟨t, q⟩ | ⟨t, q1, q⟩ | ⟨t, a, fa, q1, q2, q⟩ | ⟨t, a, b, fa, fb, q1, q2, q3, q4, q⟩
    · rw [cP_of, if_pos (show (gT (cV (hw h I L)) p).1 = 10 from t), kX16_of, grd_pos (show (gT (cV (hw h I L)) p).1 = 10 from t), q]; rfl
    · have n1 : ¬ (gT (cV (hw h I L)) p).1 = 10 := fun e => absurd (t.symm.trans e) (by decide)
      have q2 : (I p 0).toNatClampNeg < 7 := by
        rcases Nat.lt_or_ge (I p 0).toNatClampNeg 7 with e | e
        · exact e
        · exact absurd (Or.inr e) q1
      rw [cP_of, if_neg n1, if_pos (show (gT (cV (hw h I L)) p).1 = 11 from t), kX17_of, grd_pos (show (gT (cV (hw h I L)) p).1 = 11 from t), grd_pos (show (gT (cV (hw h I L)) 14).1 = 101 from rfl), grd_pos (show inb (gI (hw h I L) p 0) (gT (cV (hw h I L)) 14).2 from q1), gL_hw, gI_hw, hN _ q2, q]; rfl
    · have n1 : ¬ (gT (cV (hw h I L)) p).1 = 10 := fun e => absurd (t.symm.trans e) (by decide)
      have n2 : ¬ (gT (cV (hw h I L)) p).1 = 11 := fun e => absurd (t.symm.trans e) (by decide)
      rw [cP_of, if_neg n1, if_neg n2, if_pos (show (gT (cV (hw h I L)) p).1 = 12 from t), kX18_of, grd_pos (show (gT (cV (hw h I L)) p).1 = 12 from t), show gR (cV (hw h I L)) p 0 = some a from q1, onr_some, ec_of hN d a fa q2, q]
      unfold zNot
      cases fa N with
      | none => rfl
      | some v =>
        show (if lg_cmp v 0 = 0 then some ((.inl (1 : Int64) : Int64 ⊕ Nat × Nat), hw h I L) else some (.inl 0, hw h I L)) = some (.inl (if lg_cmp v 0 = 0 then 1 else 0), hw h I L)
        by_cases e : lg_cmp v 0 = 0
        · rw [if_pos e, if_pos e]
        · rw [if_neg e, if_neg e]
    · have n1 : ¬ (gT (cV (hw h I L)) p).1 = 10 := fun e => absurd (t.symm.trans e) (by decide)
      have n2 : ¬ (gT (cV (hw h I L)) p).1 = 11 := fun e => absurd (t.symm.trans e) (by decide)
      have n3 : ¬ (gT (cV (hw h I L)) p).1 = 12 := fun e => absurd (t.symm.trans e) (by decide)
      have t' : (gT (cV (hw h I L)) p).1 = 13 := t
      rw [cP_of, if_neg n1, if_neg n2, if_neg n3, if_pos t', kX19_of, grd_pos t', show gR (cV (hw h I L)) p 0 = some a from q1, onr_some, ec_of hN d a fa q3, q]
      unfold zTwo
      cases fa N with
      | none => rfl
      | some x =>
        show calx (some (.inl x, hw h I L)) _ = _
        rw [calx_inl, bnd_eq, grd_pos t', show gR (cV (hw h I L)) p 2 = some b from q2, onr_some, ec_of hN d b fb q4]
        cases fb N with
        | none => rfl
        | some y =>
          show calx (some (.inl y, hw h I L)) _ = some (zres (z2 (I p 1) x y), hw h I L)
          rw [calx_inl, bnd_eq, grd_pos t']
          unfold z2
          simp only [gI_hw, is_0, is_1, cal_some, ec_times, ec_sure, calx_res]
          generalize I p 1 = s
          by_cases s1 : s = 16
          · simp only [s1, if_true]
            by_cases e1 : lg_cmp x 0 = 0
            · simp only [e1, if_true]; rfl
            · by_cases e2 : lg_cmp y 0 = 0
              · simp only [e1, e2, if_true, if_false]; rfl
              · simp only [e1, e2, if_false]; rfl
          · rw [if_neg s1, if_neg s1]
            by_cases s2 : s = 42
            · rw [if_pos s2, if_pos s2]
            · rw [if_neg s2, if_neg s2]
              by_cases s3 : s = 43
              · rw [if_pos s3, if_pos s3]
              · rw [if_neg s3, if_neg s3]
                by_cases s4 : s = 45
                · rw [if_pos s4, if_pos s4]
                · rw [if_neg s4, if_neg s4]
                  by_cases s5 : s = 47
                  · rw [if_pos s5, if_pos s5]
                    by_cases e2 : lg_cmp y 0 = 0
                    · rw [if_pos e2, if_pos e2]; rfl
                    · rw [if_neg e2, if_neg e2, grd_pos (show ¬ y = 0 from fun e => e2 (lg0.mpr e))]; rfl
                  · rw [if_neg s5, if_neg s5]
                    split
                    · split <;> rfl
                    · split
                      · split <;> rfl
                      · split
                        · split <;> rfl
                        · split
                          · split <;> rfl
                          · split
                            · split <;> rfl
                            · split
                              · split <;> rfl
                              · split
                                · split <;> rfl
                                · rfl
end C3
