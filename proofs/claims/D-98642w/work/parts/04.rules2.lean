/-! the component's rules: references, nest mates, new cells, other calls -/
section JR
variable {V : HP → HP} {ρ : Type} {X : CTX} {ev : (HP → HP) → CTX → ρ × HP → State → Prop} {rr : ρ × HP} {cc : ByteArray} {own : String} {nL fr lo : Nat} {t : Option (ρ × HP)} {pc : Nat} {ls : List (Nat × Value)} {st : List Value} {h : HP}
/-- the field k of class ci by a nest mate's entry -/
def fn_ok (own : String) (index ci k : Nat) : Prop := ∃ (C : String) (T : u_T) (N : Nat) (host : String), cls_ok ci C T N ∧ k < N ∧ (own, index, (T k).1, (T k).2.1, (T k).2.2.1, host) ∈ nF
def fn_w (own : String) (index ci k : Nat) : Prop := ∃ (C : String) (T : u_T) (N : Nat) (host : String), cls_ok ci C T N ∧ k < N ∧ (own, index, (T k).1, (T k).2.1, (T k).2.2.1, host) ∈ nF ∧ (T k).2.2.2 = false
theorem n_get (hX : okX V X rr cc own nL fr lo) {index ci k a : Nat} (h3 : ft ci k ≠ 3) (hf : fn_ok own index ci k) (ht : (gT (V h) a).1 = ci + 1) (d : decode cc pc = .ok (.getfield index, 3)) (kk : jG V X ev rr t (pc + 3) ls (sv (xz X) (ft ci) (gI h a) (gL h a) (gR (V h) a) k :: st) h) : jG V X ev rr t pc ls (.ref (xz X + a) :: st) h := by
  intro e
  obtain ⟨h1, h2⟩ := kk e
  refine ⟨h1, fun hn H locs la hl hW hS => ?_⟩
  obtain ⟨C, T, N, host, ⟨c1, c0, c2, c3, c4⟩, hk, hlk⟩ := hf
  obtain ⟨⟨hx, hb, hml, hown, hts⟩, ⟨⟨hK, hN, -⟩, hV, -⟩, -⟩ := hX
  obtain ⟨w0, hw0, cell, q1, q2, q3, q4⟩ := (hW.2.2 a).obj ht c0 c1
  obtain ⟨hS', hfc, kC, hkC, hkind⟩ := hK.1 ci _ c1
  obtain ⟨cf, kf, fi, f, hi, hsl⟩ := hS' k hk
  refine va_Wgetf hx hb hown (va_Nw.use rfl (hN.1 _ hlk)) hi (u_facts hfc hkC (u_lays hts c2 hk) hi).1 q1 (by rw [q3]; exact fun h => by cases h) (v := sv (xz X) (ft ci) (gI h a) (gL h a) (gR (V h) a) k) ?_ rfl rfl d (h2 hn H locs la hl hW hS)
  rw [hsl, q4 k hk, hw0 k h3, (hV.1 h).1, (hV.1 h).2]
theorem n_getI (hX : okX V X rr cc own nL fr lo) {index ci k a : Nat} (hf : fn_ok own index ci k) (h0 : ft ci k = 0) (ht : (gT (V h) a).1 = ci + 1) (d : decode cc pc = .ok (.getfield index, 3)) (kk : jG V X ev rr t (pc + 3) ls (.int (gI h a k) :: st) h) : jG V X ev rr t pc ls (.ref (xz X + a) :: st) h := n_get hX (by rw [h0]; decide) hf ht d (by unfold sv; rw [if_pos h0]; exact kk)
theorem n_getL (hX : okX V X rr cc own nL fr lo) {index ci k a : Nat} (hf : fn_ok own index ci k) (h0 : ft ci k = 1) (ht : (gT (V h) a).1 = ci + 1) (d : decode cc pc = .ok (.getfield index, 3)) (kk : jG V X ev rr t (pc + 3) ls (.long (gL h a k) :: st) h) : jG V X ev rr t pc ls (.ref (xz X + a) :: st) h := n_get hX (by rw [h0]; decide) hf ht d (by unfold sv; rw [if_neg (by rw [h0]; decide), if_pos h0]; exact kk)
theorem n_getR (hX : okX V X rr cc own nL fr lo) {index ci k a b : Nat} (hf : fn_ok own index ci k) (h0 : ft ci k = 2) (ht : (gT (V h) a).1 = ci + 1) (hr : gR (V h) a k = some b) (d : decode cc pc = .ok (.getfield index, 3)) (kk : jG V X ev rr t (pc + 3) ls (.ref (xz X + b) :: st) h) : jG V X ev rr t pc ls (.ref (xz X + a) :: st) h := n_get hX (by rw [h0]; decide) hf ht d (by unfold sv; rw [if_neg (by rw [h0]; decide), if_neg (by rw [h0]; decide), if_pos h0, hr]; exact kk)
theorem n_put (hX : okX V X rr cc own nL fr lo) {index ci k a : Nat} {ty : FieldType} {v : Value} {h' : HP} (hf : fn_w own index ci k) (hty : jty ci k = ty) (ht : (gT (V h) a).1 = ci + 1) (hn : narrow ty v = v) (hfit : fits ty v = true) (hN : gN (V h') = gN (V h)) (hS0 : gS (V h') = gS (V h)) (hT : gT (V h') = gT (V h)) (hI : ∀ x, x ≠ a → gI (V h') x = gI (V h) x) (hL : ∀ x, x ≠ a → gL (V h') x = gL (V h) x) (hR : ∀ x, x ≠ a → gR (V h') x = gR (V h) x)
    (hv : ∀ j, sv (xz X) (ft ci) (gI (V h') a) (gL (V h') a) (gR (V h') a) j = if j = k then v else sv (xz X) (ft ci) (gI (V h) a) (gL (V h) a) (gR (V h) a) j) (d : decode cc pc = .ok (.putfield index, 3)) (kk : jG V X ev rr t (pc + 3) ls st h') : jG V X ev rr t pc ls (v :: .ref (xz X + a) :: st) h := by
  intro e
  obtain ⟨h1, h2⟩ := kk e
  rw [hN, hS0] at h1 h2
  refine ⟨h1, fun hn0 H locs la hl hW hS => ?_⟩
  obtain ⟨C, T, N, host, ⟨c1, c0, c2, c3, c4⟩, hk, hlk, hfin⟩ := hf
  obtain ⟨⟨hx, hb, hml, hown, hts⟩, ⟨⟨hK, hNw, -⟩, hV, -⟩, -⟩ := hX
  have hap := va_apart (own := own) (D := xD X) (ci := ci) hts c2 (jty ci) c3 c4 hK c1
  obtain ⟨w0, hw0, cell, q1, q2, q3, q4⟩ := (hW.2.2 a).obj ht c0 c1
  obtain ⟨hS', hfc, kC, hkC, hkind⟩ := hK.1 ci _ c1
  obtain ⟨cf, kf, fi, f, hi, hsl⟩ := hS' k hk
  have hlay := hts _ (c2 _ (u_in_lay hk))
  unfold u_lay at hlay
  rw [if_neg (by rw [hfin]; decide)] at hlay
  have hst := (u_facts hfc hkC (u_lays hts c2 hk) hi).1
  have h6 := u_store hfc hkC hkind hlay hi (by rw [c3 k hk, hty]) hn hfit
  refine va_WputK hx hb (f := f) hown (va_Nw.use rfl (hNw.1 _ hlk)) hi hst (by rw [q2]; exact h6) q1 q3 (by rw [hsl]; exact k2_hasslot (q4 k hk)) rfl rfl d fun H' e1 e2 e3 => ?_
  rw [hsl] at e1 ⊢
  have hO : xO X a := hW.2.1 a (by rw [ht]; exact Nat.succ_ne_zero ci)
  refine h2 hn0 H' _ la hl (hW.write (a := a) hN hT hI hL hR e2 e3 ?_) (hS.put e2 e3 ⟨a, rfl, hO⟩)
  refine Or.inr (Or.inl ⟨by rw [ht]; exact c0, _, updV w0 k v, by rw [ht]; exact c1, ?_, ?_⟩)
  · rw [ht]
    intro j hj
    rw [show ci + 1 - 1 = ci from rfl, hv j]
    unfold updV
    by_cases hq : j = k
    · rw [if_pos hq, if_pos hq]
    · rw [if_neg hq, if_neg hq]; exact hw0 j hj
  · rw [ht]
    exact ⟨_, e1, q2, q3, t_set q4 hap hk v⟩
theorem n_putI (hX : okX V X rr cc own nL fr lo) {index ci k a : Nat} {x : Int32} {T : HP → Option (ρ × HP)} (hf : fn_w own index ci k) (hty : ci ≠ 19 ∧ jty ci k = .int) (ht : (gT (V h) a).1 = ci + 1) (d : decode cc pc = .ok (.putfield index, 3)) (kk : ∀ h', jG V X ev rr (T h') (pc + 3) ls st h') : jG V X ev rr (bnd (sI h a k x) T) pc ls (.int x :: .ref (xz X + a) :: st) h := by
  have hV := hX.2.1.2.1
  have e1 := hV.2.1 h a k x
  have h0 : ft ci k = 0 := by unfold ft; rw [if_neg hty.1, hty.2]; rfl
  refine n_put (h' := sI h a k x) hX hf hty.2 ht rfl rfl (by rw [e1]; rfl) (by rw [e1]; rfl) (by rw [e1]; rfl) (fun y hy => ?_) (fun y hy => by rw [e1]; rfl) (fun y hy => by rw [e1]; rfl) (fun j => ?_) d (kk _)
  · rw [e1]; exact u2_ne hy
  · rw [e1]; exact sv_I h0 (fun j => u2_eq j) j
theorem sv_R {z : Nat} {f : Nat → Nat} {i : Nat → Int32} {l : Nat → Int64} {r r' : Nat → Option Nat} {k : Nat} {v : Option Nat} (h0 : f k = 2) (hi : ∀ j, r' j = if j = k then v else r j) (j : Nat) : sv z f i l r' j = if j = k then rf z v else sv z f i l r j := by
  unfold sv
  by_cases hj : j = k
  · subst hj
    rw [if_neg (by rw [h0]; decide), if_neg (by rw [h0]; decide), if_pos h0, hi j, if_pos rfl, if_pos rfl]
  · rw [hi j, if_neg hj, if_neg hj]
theorem tc2 {ty : FieldType} (h : tcode ty = 2) (a : Nat) : narrow ty (.ref a) = .ref a ∧ fits ty (.ref a) = true := by
  cases ty with
  | object n => exact ⟨rfl, rfl⟩
  | array q => exact ⟨rfl, rfl⟩
  | _ => simp [tcode] at h
theorem ft2 {ci k : Nat} (h : ft ci k = 2) : tcode (jty ci k) = 2 := by
  unfold ft at h
  by_cases h1 : ci = 19
  · rw [if_pos h1] at h
    by_cases h2 : k < 5
    · rw [if_pos h2] at h; cases h
    · rw [if_neg h2] at h; cases h
  · rw [if_neg h1] at h; exact h
/-- a reference is stored into a field of an object -/
theorem j_putR (hX : okX V X rr cc own nL fr lo) {index ci k a b : Nat} {T : HP → Option (ρ × HP)} (hf : fl_w own index ci k) (h0 : ft ci k = 2) (ht : (gT (V h) a).1 = ci + 1) (hVR : V (sR h a k (some b)) = sR (V h) a k (some b)) (d : decode cc pc = .ok (.putfield index, 3)) (kk : ∀ h', jG V X ev rr (T h') (pc + 3) ls st h') : jG V X ev rr (bnd (sR h a k (some b)) T) pc ls (.ref (xz X + b) :: .ref (xz X + a) :: st) h := by
  refine j_put (h' := sR h a k (some b)) (ty := jty ci k) hX hf rfl ht (tc2 (ft2 h0) _).1 (tc2 (ft2 h0) _).2 (by rw [hVR]; rfl) (by rw [hVR]; rfl) (by rw [hVR]; rfl) (fun y hy => by rw [hVR]; rfl) (fun y hy => by rw [hVR]; rfl) (fun y hy => ?_) (fun j => ?_) d (kk _)
  · rw [hVR]; exact u2_ne hy
  · rw [hVR]; exact sv_R h0 (fun j => u2_eq j) j
/-- the world behind a new cell -/
theorem wD.grow {O : Nat → Prop} {D : va_G} {z n : Nat} {k : Nat × Nat} {h : HP} {H H' : Heap} (hW : wD O D z h H) (h0 : gN h ≠ 0) (hk : k.1 ≠ 0) (hs : H'.size = H.size + 1) (ho : ∀ q : Nat, q < H.size → H'[q]? = H[q]?) (hc : cOK D z H' k (gN h) (fun _ => 0) (fun _ => 0) (fun _ => none)) : wD O D z (sA h k n) H' := by
  obtain ⟨w1, w2, w3⟩ := hW
  obtain ⟨w4, w5⟩ := w1 h0
  refine ⟨fun _ => ⟨?_, fun a ha => w5 a (Nat.le_of_succ_le ha)⟩, fun a ha => ?_, fun a => ?_⟩
  · show H'.size = z + (gN h + 1)
    omega
  · by_cases hq : a = gN h
    · subst hq; exact w5 _ (Nat.le_refl _)
    · refine w2 a ?_
      have : gT (sA h k n) a = gT h a := if_neg hq
      rw [← this]; exact ha
  · by_cases hq : a = gN h
    · subst hq
      have e1 : gT (sA h k n) (gN h) = k := if_pos rfl
      have e2 : gI (sA h k n) (gN h) = fun _ => 0 := by funext j; exact if_pos rfl
      have e3 : gL (sA h k n) (gN h) = fun _ => 0 := by funext j; exact if_pos rfl
      have e4 : gR (sA h k n) (gN h) = fun _ => none := by funext j; exact if_pos rfl
      rw [e1, e2, e3, e4]
      exact hc
    · have e1 : gT (sA h k n) a = gT h a := if_neg hq
      have e2 : gI (sA h k n) a = gI h a := by funext j; exact if_neg hq
      have e3 : gL (sA h k n) a = gL h a := by funext j; exact if_neg hq
      have e4 : gR (sA h k n) a = gR h a := by funext j; exact if_neg hq
      rw [e1, e2, e3, e4]
      by_cases hl : gN h ≤ a
      · rcases w3 a with q | ⟨-, -, -, -, -, cell, q4, -⟩ | ⟨-, q4⟩
        · exact Or.inl q
        · exact absurd (Array.getElem?_eq_some_iff.mp q4).1 (by omega)
        · exact absurd (Array.getElem?_eq_some_iff.mp q4).1 (by omega)
      · exact (w3 a).kept (ho _ (by omega))
end JR
