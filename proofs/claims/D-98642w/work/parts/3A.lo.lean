/-! the law's loop -/
set_option maxRecDepth 100000
section LO
variable {p : Program} {l : Launch} {e : Env} {s : State} {m : MethodId} {below : List Frame} {meth : Method} {c : Code} {b L : Nat} {xs : Nat → Int32} {D : va_G}
theorem law_gt {i L : Nat} (hL : L ≤ 384) (hi : i ≤ L) : Int32.ofNat L - 6 < nI i ↔ L < i + 6 := by
  by_cases h : 6 ≤ L
  · rw [show Int32.ofNat L - 6 = nI (L - 6) from (show nI L - nI 6 = nI (L - 6) from pk_sub h), nI_ltI (by omega) (by omega)]
    omega
  · have e : (Int32.ofNat L - 6).toInt < 0 := by
      rcases (show L = 0 ∨ L = 1 ∨ L = 2 ∨ L = 3 ∨ L = 4 ∨ L = 5 by omega) with rfl | rfl | rfl | rfl | rfl | rfl <;> decide
    have e2 : (nI i).toInt = (i : Int) := nI_toInt (by omega)
    refine ⟨fun _ => by omega, fun _ => Int32.lt_iff_toInt_lt.mpr (by rw [e2]; omega)⟩
theorem law_head (X : LX p l s m meth c b L xs D) (hL : L ≤ 384) {i : Nat} {x4 : Int32} (h4 : x4 = nI i) (hiL : i ≤ L) {H : Heap} {locs : List Loc} {la : Array Slot} {N K : Nat} (hl : lv_has la 7 (lwl s b x4)) (hS : va_S (A0 s) s.heap H locs) (hN : N ≤ 603072) (hK : K ≤ 7190634) (kk : i + 6 ≤ L → LW p l e s m below meth c b H locs N K (F0 m 33 la [])) : LW p l e s m below meth c b H locs N K (F0 m 23 la []) := by
  obtain ⟨⟨hx, hb, hr', hml, hown, hts, hX, hbl, hlocks, hgv⟩, -⟩ := id X
  refine lv_iload hx hb dL_law_23 (lv_at hl 4 rfl) ?_
  refine lv_aload_n hx hb dL_law_25 rfl (lv_at hl 0 rfl) ?_
  refine va_slen hx hb hX hbl (A0_no b hbl) hS dL_law_26 ?_
  refine lv_bipush (v := 6) hx hb dL_law_27 (by decide) ?_
  refine lv_isub hx hb dL_law_29 ?_
  refine lv_icmp_gt (tgt := 1632) hx hb dL_law_30 (by decide) (fun _ => ?_) (fun h => ?_)
  · refine lv_iconst (v := 1) hx hb dL_law_1632 (by decide) ?_
    refine va_forget (fun q hq => hS.2.2 q hq) ?_
    refine W.widen (k := 603072) (n := 7190634) hN hK ?_
    exact lw_ret hx hb hr' hlocks dL_law_1633
  · rw [h4, law_gt hL hiL] at h
    exact kk (by omega)
theorem law_loop (X : LX p l s m meth c b L xs D) (hL : L ≤ 384) (K : Nat) : ∀ (n i : Nat) (x4 : Int32) (h g : HP) (I J : Nat → Nat → Int32) (L0 M : Nat → Nat → Int64) (v : Int64) (H : Heap) (locs : List Loc) (la : Array Slot), x4 = nI i → i ≤ L → L ≤ i + 6 * n → Inv h I J M → gN h + 800 * n ≤ 603072 → K + gS h + 9000 * n ≤ 7190634 → lv_has la 7 (lwl s b x4) → LZ s D (hw h I L0) (hw g J M) v H → va_S (A0 s) s.heap H locs → LW p l e s m below meth c b H locs (gN h) (K + gS h) (F0 m 23 la []) := by
  intro n
  induction n with
  | zero =>
    intro i x4 h g I J L0 M v H locs la h4 hiL hn inv hN hK hl hLS hS
    exact law_head X hL h4 hiL hl hS (by omega) (by omega) (fun h => absurd h (by omega))
  | succ n ih =>
    intro i x4 h g I J L0 M v H locs la h4 hiL hn inv hN hK hl hLS hS
    refine law_head X hL h4 hiL hl hS (by omega) (by omega) (fun hi => ?_)
    refine law_body X hL h4 hi inv (by omega) (by omega) hl hLS hS ?_
    intro h' I' L' J' M' v' H1 locs1 la' inv' b1 b2 hl' hLS' hS'
    obtain ⟨⟨hx, hb, -⟩, -⟩ := id X
    refine lv_iinc (v := nI (i + 6)) (k := 4) (lv' := [(4, .int (nI (i + 6))), (0, .ref b), (1, .ref s.heap.size), (2, .ref (s.heap.size + 54)), (3, .ref (s.heap.size + 96))]) hx hb dL_law_1626 hl' rfl (by rw [h4]; exact nI_add i 6) (by decide) rfl (fun la2 hl2 => ?_)
    refine lv_goto (tgt := 23) hx hb dL_law_1629 (by decide) ?_
    exact ih (i + 6) _ h' g I' J' L' M' v' H1 locs1 la2 rfl (by omega) (by omega) inv' (by omega) (by omega) (lv_sub hl2 [1, 2, 3, 4, 0] rfl) hLS' hS'
end LO
