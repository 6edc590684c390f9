/-! a JDK exception is thrown; kinds stored; the whole picture (iV) -/
theorem wD.grow0 {O : Nat → Prop} {D : va_G} {z n : Nat} {k : Nat × Nat} {h : HP} {H H' : Heap} (hW : wD O D z h H) (h0 : gN h ≠ 0) (hs : H'.size = H.size + 1) (ho : ∀ q : Nat, q < H.size → H'[q]? = H[q]?) (hc : cOK D z H' k (gN h) (fun _ => 0) (fun _ => 0) (fun _ => none)) : wD O D z (sA h k n) H' := by
  obtain ⟨w1, w2, w3⟩ := hW
  obtain ⟨w4, w5⟩ := w1 h0
  refine ⟨fun _ => ⟨?_, fun a ha => w5 a (Nat.le_of_succ_le ha)⟩, fun a ha => ?_, fun a => ?_⟩
  · show H'.size = z + (gN h + 1)
    omega
  · by_cases hq : a = gN h
    · subst hq; exact w5 _ (Nat.le_refl _)
    · refine w2 a ?_
      have : gT (sA h k n) a = gT h a := if_neg hq
      rw [← this]; exact ha
  · by_cases hq : a = gN h
    · subst hq
      have e1 : gT (sA h k n) (gN h) = k := if_pos rfl
      have e2 : gI (sA h k n) (gN h) = fun _ => 0 := by funext j; exact if_pos rfl
      have e3 : gL (sA h k n) (gN h) = fun _ => 0 := by funext j; exact if_pos rfl
      have e4 : gR (sA h k n) (gN h) = fun _ => none := by funext j; exact if_pos rfl
      rw [e1, e2, e3, e4]
      exact hc
    · have e1 : gT (sA h k n) a = gT h a := if_neg hq
      have e2 : gI (sA h k n) a = gI h a := by funext j; exact if_neg hq
      have e3 : gL (sA h k n) a = gL h a := by funext j; exact if_neg hq
      have e4 : gR (sA h k n) a = gR h a := by funext j; exact if_neg hq
      rw [e1, e2, e3, e4]
      by_cases hl : gN h ≤ a
      · rcases w3 a with q | ⟨-, -, -, -, -, cell, q4, -⟩ | ⟨-, q4⟩
        · exact Or.inl q
        · exact absurd (Array.getElem?_eq_some_iff.mp q4).1 (by omega)
        · exact absurd (Array.getElem?_eq_some_iff.mp q4).1 (by omega)
      · exact (w3 a).kept (ho _ (by omega))

section JQ
variable {V : HP → HP} {ρ : Type} {X : CTX} {cc : ByteArray} {own : String} {nL fr lo : Nat} {pc : Nat} {ls : List (Nat × Value)} {st : List Value} {h : HP}
theorem x_throwJ {e1 : Nat → ρ → Option Value} {rr : (ρ ⊕ Nat × Nat) × HP} (hX : okX V X rr cc own nL fr lo) (hxt : ∀ x ∈ (xc X).exceptionTable.toList, False) {c0 ik ic : Nat} {names : List String} (hA : vA V h (0, 0) 6) (hc1 : c0 ≠ 1) (hcls : Bundle.fit (exN c0) = true) (hnames : ∀ n ∈ names, Bundle.fit n = true) (q1 : Cond.classLink own ik (exN c0) ∈ lw_all) (q2 : Cond.initialized (exN c0) ∈ lw_all) (hat : ∀ w ∈ vx_at0 own ic (exN c0) names, w ∈ lw_all ∨ w ∈ nC.map (fun q => Cond.castable q.1 q.2) ∨ w ∈ nD.map Cond.declares) (hgood : ∀ w ∈ Cond.classLink own ik (exN c0) :: Cond.initialized (exN c0) :: vx_at0 own ic (exN c0) names, vx_ot w = true) (hr : names.length + 3 < fr ∧ 8 + (13 * (names.length + 1) + 42) ≤ lo) (hw : (st.map fun v => v.category).sum ≤ 8)
    (d0 : decode cc pc = .ok (.new ik, 3)) (d3 : decode cc (pc + 3) = .ok (.dup, 1)) (d4 : decode cc (pc + 4) = .ok (.invokespecial ic, 3)) (d7 : decode cc (pc + 7) = .ok (.athrow, 1)) : jG V X (evX e1) rr (some (.inr (c0, 0), sA h (0, 0) 6)) pc ls st h := by
  intro e
  cases e
  have hN : gN (V (sA h (0, 0) 6)) = gN (V h) + 1 := by rw [hA.1]; rfl
  have hS0 : gS (V (sA h (0, 0) 6)) = gS (V h) + 6 := by rw [hA.1]; rfl
  refine ⟨⟨by show gN (V h) ≤ gN (V (sA h (0, 0) 6)); omega, by show gS (V h) ≤ gS (V (sA h (0, 0) 6)); omega⟩, fun hn H locs la hl hW hS => ?_⟩
  obtain ⟨⟨hx, hb, hml, hown, hts⟩, ⟨⟨hK, hNw, hZ⟩, hV, hlk, hfl⟩, ⟨hR1, hR2, hR3, hR4⟩⟩ := hX
  dsimp only at hR3 hR4
  refine vx_throw0 (names := names) (ik := ik) (ic := ic) (cls := exN c0) hx hb (by unfold Launch.stackTraces; rw [hfl]; decide +kernel) hown hcls hnames (hts _ q1) (hts _ q2) (fun w hw9 => ?_) hgood hZ.2.2.2.1 hZ.2.2.2.2.1 hS hl.1 d0 d3 d4 d7 (fun x hh => (hxt x hh).elim) (by rw [hR1]; exact hr.1) (by rw [hR2]; have := hr.2; omega) (by rw [hR3, hN]; omega) (by rw [hR4, hS0]; omega) hlk (fun t hal hsz heq q9 => ⟨c0, 0, rfl, rfl, fun h1 => absurd h1 hc1, ?_, ?_⟩) hS.2.2 (by show _ ≤ gN (V (sA h (0, 0) 6)) - xn X; rw [hN]; omega) (by show _ ≤ gS (V (sA h (0, 0) 6)) - xk X; rw [hS0]; omega)
  · rcases hat w hw9 with q | q | q
    · exact hts _ q
    · obtain ⟨r, hr9, rfl⟩ := List.mem_map.mp q
      exact va_Nw.use rfl (hNw.2.2.1 _ hr9)
    · obtain ⟨r, hr9, rfl⟩ := List.mem_map.mp q
      exact va_Nw.use rfl (hNw.2.2.2.2 _ hr9)
  · show wD _ _ _ (V (sA h (0, 0) 6)) _
    rw [hA.1]
    exact hW.grow0 (by rw [hA.2.1]; exact hA.2.2) hsz heq (Or.inl rfl)
  · exact ⟨by have := hS.1; omega, fun q h1 h2 => (heq q (Nat.lt_of_lt_of_le h1 hS.1)).trans (hS.2.1 q h1 h2)⟩
end JQ
section JK9
variable {V : HP → HP} {ρ : Type} {X : CTX} {ev : (HP → HP) → CTX → ρ × HP → State → Prop} {rr : ρ × HP} {cc : ByteArray} {own : String} {nL fr lo : Nat} {t : Option (ρ × HP)} {pc : Nat} {ls : List (Nat × Value)} {st : List Value} {h : HP}
theorem j_aastK (hX : okX V X rr cc own nL fr lo) {a b n : Nat} {i : Int32} {T : HP → Option (ρ × HP)} (ht : gT (V h) a = (106, n)) (hg : (gT (V h) b).1 = 16 ∨ (gT (V h) b).1 = 17 ∨ (gT (V h) b).1 = 18 ∨ (gT (V h) b).1 = 19) (hVR : V (sR h a i.toNatClampNeg (some b)) = sR (V h) a i.toNatClampNeg (some b)) (d : decode cc pc = .ok (.aastore, 1)) (kk : ∀ h', jG V X ev rr (T h') (pc + 1) ls st h') : jG V X ev rr (grd (inb i n) (bnd (sR h a i.toNatClampNeg (some b)) T)) pc ls (.ref (xz X + b) :: .int i :: .ref (xz X + a) :: st) h := by
  rcases hg with hg | hg | hg | hg
  · exact j_aast (q := 6) (C := "AskedCourt$Kind") hX (by decide) (fun _ => rfl) ht ckX5 hg (by decide +kernel) hVR d kk
  · exact j_aast (q := 6) (C := "AskedCourt$Kind") hX (by decide) (fun _ => rfl) ht ckX6 hg (by decide +kernel) hVR d kk
  · exact j_aast (q := 6) (C := "AskedCourt$Kind") hX (by decide) (fun _ => rfl) ht ckX7 hg (by decide +kernel) hVR d kk
  · exact j_aast (q := 6) (C := "AskedCourt$Kind") hX (by decide) (fun _ => rfl) ht ckX8 hg (by decide +kernel) hVR d kk
end JK9
def iV (h : HP) : HP := h
theorem iV_ok : pV iV := ⟨fun _ => ⟨rfl, rfl⟩, fun _ _ _ _ => rfl, fun _ _ _ _ => rfl⟩
theorem iV_sR {h : HP} {a k : Nat} {v : Option Nat} {P : Prop} (_ : P) : iV (sR h a k v) = sR (iV h) a k v := rfl
theorem iV_vA {h : HP} {k : Nat × Nat} {n : Nat} (g : 1 ≤ gN h) : vA iV h k n := ⟨rfl, rfl, by omega⟩
