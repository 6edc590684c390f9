/-! the law's own method person: catches what the component's person throws -/
set_option maxRecDepth 100000
abbrev hhP : List (Nat × Nat × Nat × Nat) := [(0, 10, 13, 13), (0, 10, 17, 15)]
def kq (x : Int32 ⊕ Nat × Nat) : Int32 := match x with
  | .inl _ => 0
  | .inr q => if q.1 = 3 then 1 else 2
def vq (v : Int64) (x : Int32 ⊕ Nat × Nat) : Int64 := match x with
  | .inl r => r.toInt64
  | .inr _ => v
def frq (z : Nat) : Nat → Prop := fun q => aA z O1 q ∨ q = z + 96
def Pq (D : va_G) (z : Nat) (hc : HP) (v : Int64) (a1 a2 : Int32) : Array Value → State → Prop := va_Pc [.ref z, .int a1, .int a2, .ref (z + 96)] (fun U => wD O1 D z (cV hc) U.heap ∧ jT D (aA z O1) U U.heap ∧ U.heap[z + 96]? = some (arrV (D.1 101) 1 (fun _ => .long v)) ∧ va_Nc "java/util/NoSuchElementException" "java/lang/IndexOutOfBoundsException" U)
def Qq (D : va_G) (z : Nat) (rr : (Int32 ⊕ Nat × Nat) × HP) (v : Int64) : Array Value → State → Outcome → State → Prop := fun _ st oc t => oc = .returned (some (.int (kq rr.1))) ∧ wD O1 D z (cV rr.2) t.heap ∧ t.heap[z + 96]? = some (arrV (D.1 101) 1 (fun _ => .long (vq v rr.1))) ∧ va_F (frq z) st t
theorem Pq.blind {D : va_G} {z : Nat} {hc : HP} {v : Int64} {a1 a2 : Int32} : FrameBlind (Pq D z hc v a1 a2) := fun a U g mk q => ⟨q.1, q.2.1, jT.same (s := U) (U := U.calling g mk a) rfl q.2.2.1, q.2.2.2.1, q.2.2.2.2.moved (U := U.calling g mk a) (Vm.Alike.refl U.vm)⟩
theorem no96 (z : Nat) : ¬ aA z O1 (z + 96) := by
  rintro ⟨a, e, o⟩
  have o : a < 54 ∨ 97 ≤ a := o
  omega
theorem law_person_t (l : Launch) (hfl : l.flags = flags0) (D : va_G) (z : Nat) (a1 a2 : Int32) (hc : HP) (v : Int64) (rr : (Int32 ⊕ Nat × Nat) × HP) (e : cA_person a1 a2 hc = some rr) (hx34 : ∀ x a, rr.1 = .inr (x, a) → x = 3 ∨ x = 4) :
    vx_Met l yX0_person (wsW_ yX0_person cX0_person 5 (some .int) hhP) { frames := 7, cells := gN (cV rr.2) - gN (cV hc), slots := gS (cV rr.2) - gS (cV hc), locals := 122 } (Pq D z hc v a1 a2) (Qq D z rr v) (fun _ _ _ _ => False) (gN (cV rr.2) - gN (cV hc)) (gS (cV rr.2) - gS (cV hc)) (frq z) := by
  obtain ⟨mono, hMet⟩ := cA_person_t a1 a2 hc rr e
  refine vx_ofWH (cc := cX0_person) (maxL := 5) (ret := some .int) (hh := hhP) (by decide +kernel) rfl ?_
  intro p e' s m args below meth c s₁ B hml hv
  obtain ⟨rfl, hW, hT, hO, hNc⟩ := hv
  have hts0 := atoms_spec (ws := wsW_ yX0_person cX0_person 5 (some .int) hhP) B.pre
  have hts : ∀ w ∈ lw_all, w.before _ s = true := fun w h => hts0 w (List.mem_cons_of_mem _ h)
  have htab : c.exceptionTable.toList = [⟨0, 10, 13, 13⟩, ⟨0, 10, 17, 15⟩] := vx_table (x := yX0_person) B (hts0 _ List.mem_cons_self)
  have hown : s.vm.findClass RX0 = some m.cls := findClass_of_methodNamed B.named
  have hx := B.exec
  have hb := B.bytes
  have hr := B.returns
  have hlk := B.notSynchronized
  have hl := lv_entry ([.ref z, .int a1, .int a2, .ref (z + 96)]) (n := 5) (Nat.le_of_ble_eq_true rfl)
  rw [lg_entry_eq]
  generalize (lg_sl ([.ref z, .int a1, .int a2, .ref (z + 96)]) ++ List.replicate (5 - (lg_sl ([.ref z, .int a1, .int a2, .ref (z + 96)])).length) Slot.unset).toArray = la at hl ⊢
  have hl : lv_has la 5 [(0, .ref z), (1, .int a1), (2, .int a2), (3, .ref (z + 96))] := hl
  refine lv_aload_n hx hb dX0_person_0 rfl (lv_at hl 3 rfl) ?_
  refine lv_iconst (v := 0) hx hb dX0_person_1 (by decide) ?_
  refine lv_aload_n hx hb dX0_person_2 rfl (lv_at hl 0 rfl) ?_
  refine lv_iload_n hx hb dX0_person_3 rfl (lv_at hl 1 rfl) ?_
  refine lv_iload_n hx hb dX0_person_4 rfl (lv_at hl 2 rfl) ?_
  have ho : ∃ cell : Cell, s.heap[z + 0]? = some cell ∧ cell.vm.isStatics = false ∧ s.vm.findClass RX1 = some cell.cls := by
    obtain ⟨c1, c0, -⟩ := ckX1
    obtain ⟨-, -, cell, g1, g2, g3, -⟩ := (hW.2.2 0).obj (ci := 1) rfl c0 c1
    exact ⟨cell, g1, by rw [g3]; rfl, by rw [g2]; exact (hT.1.1 1 _ c1).2.1⟩
  have run := vx_runV (p := p) (l := l) (e := e') (R := (headSpec (wsW_ yX0_person cX0_person 5 (some .int) hhP) { frames := 7, cells := gN (cV rr.2) - gN (cV hc), slots := gS (cV rr.2) - gS (cV hc), locals := 122 }).room) (s := s) (m := m) (args := [Value.ref z, .int a1, .int a2, .ref (z + 96)].toArray) (below := below) (meth := meth) (c := c) (H := s.heap) (locs := []) (cells := 0) (slots := 0) (As := [.int a1, .int a2]) (rest := [.int 0, .ref (z + 96)]) (b := z + 0) (C := RX1) (g := F0 m 5 la [.int a2, .int a1, .ref z, .int 0, .ref (z + 96)]) (Ts := lw_all) ⟨hx, hb, hml, hown, hts⟩ (hMet l D z O1 hfl) (cwV 2 hts (lw_V q1537 q1538 q1539 q140 q1540) rfl rfl rfl ⟨rfl, ymX1_person.2⟩ ⟨Nat.le_of_ble_eq_true rfl, Nat.le_of_ble_eq_true rfl⟩) ⟨Pcn.blind, ho, fun U hU hw => ⟨rfl, by rw [hU]; exact hW, by rw [hU]; exact hT.warm hw⟩⟩ rfl rfl hl.1 rfl (by show 2 * 0 + 2 ≤ 8; decide) dX0_person_5 ⟨by show 0 + _ ≤ _; rw [Nat.zero_add]; exact Nat.le_refl _, by show 0 + _ ≤ _; rw [Nat.zero_add]; exact Nat.le_refl _⟩
  have hlt := (Array.getElem?_eq_some_iff.mp hO).1
  intro T0 hT0 X0
  rcases run T0 hT0 X0 with ⟨v', st₀, t, T', L, h0, X', hL, b1, b2, ⟨r2, hr2, hv, hW1, hF⟩, st1⟩ | ⟨q, st₀, t, T', L, E, ce, h0, X', hL, b1, b2, ⟨c9, a9, hc9, hE, hq9, hW1, hF⟩, hce, hcv, hcl, st1⟩
  · cases hv
    have hF1 := hF.1
    have hF2 := hF.2
    rw [h0] at hF1 hF2
    have hO1 : T'.heap[z + 96]? = some (arrV (D.1 101) 1 (fun _ => .long v)) := by rw [b1, hF2 _ hlt (no96 z)]; exact hO
    have go : W p l e' (headSpec (wsW_ yX0_person cX0_person 5 (some .int) hhP) { frames := 7, cells := gN (cV rr.2) - gN (cV hc), slots := gS (cV rr.2) - gS (cV hc), locals := 122 }).room s m [Value.ref z, .int a1, .int a2, .ref (z + 96)].toArray below meth c T'.heap ([] ++ L) (0 + (gN (cV rr.2) - gN (cV hc))) (0 + (gS (cV rr.2) - gS (cV hc))) (vx_MQ below (Qq D z rr v) (fun _ _ _ _ => False) [Value.ref z, .int a1, .int a2, .ref (z + 96)].toArray s (gN (cV rr.2) - gN (cV hc)) (gS (cV rr.2) - gS (cV hc)) (frq z)) (F0 m (5 + 3) la ((eI z r2).toList ++ [.int 0, .ref (z + 96)])) := by
      rw [Nat.zero_add, Nat.zero_add]
      refine lv_i2l hx hb dX0_person_8 rfl ?_
      refine W.last hx hb hO1 ((hT.1.2 1 _ rfl).1 1 _) (fun z => by cases z) (by rw [arrV_size]; decide) rfl rfl dX0_person_9 fun H' e1 e2 e3 => ?_
      refine lv_goto (tgt := 21) hx hb dX0_person_10 rfl ?_
      refine lv_iconst (v := 0) hx hb dX0_person_21 (by decide) ?_
      refine vx_ret (W.iret hx hb hr ?Q ?F dX0_person_22 hlk)
      case Q =>
        intro t9 ht9 hw9
        refine ⟨by rw [hr2]; rfl, ?_, ?_, ?_⟩
        · rw [ht9]
          exact wD.keep (H := T'.heap) (by rw [b1]; exact hW1) (fun _ => e2) (fun a oa _ => e3 _ (fun h => no96 z ⟨a, h.symm, oa⟩))
        · rw [ht9, e1, hr2]
          rfl
        · refine ⟨by rw [ht9, e2, b1]; exact hF1, fun q h1 h2 => ?_⟩
          rw [ht9, e3 q (fun h => h2 (Or.inr h)), b1]
          exact hF2 q h1 (fun h => h2 (Or.inl h))
      case F =>
        intro q hq
        rcases List.mem_append.mp hq with h | h
        · exact Or.inl (hL q h)
        · rw [List.mem_singleton.mp h]; exact Or.inr rfl
    obtain ⟨t2, w1, w2⟩ := go T' rfl X'
    exact ⟨t2, st1 t2 w1, w2⟩
  · have hF1 := hF.1
    have hF2 := hF.2
    rw [h0] at hF1 hF2
    have hO1 : T'.heap[z + 96]? = some (arrV (D.1 101) 1 (fun _ => .long v)) := by rw [b1, hF2 _ hlt (no96 z)]; exact hO
    have fin : ∀ (pc : Nat) (n : Int) (la' : Array Slot), lv_has la' 5 [(4, .ref q), (0, .ref z), (1, .int a1), (2, .int a2), (3, .ref (z + 96))] → decode cX0_person pc = .ok (.iconst n, 1) → decode cX0_person (pc + 1) = .ok (.ireturn, 1) → Int32.ofInt n = kq rr.1 → W p l e' (headSpec (wsW_ yX0_person cX0_person 5 (some .int) hhP) { frames := 7, cells := gN (cV rr.2) - gN (cV hc), slots := gS (cV rr.2) - gS (cV hc), locals := 122 }).room s m [Value.ref z, .int a1, .int a2, .ref (z + 96)].toArray below meth c T'.heap ([] ++ L) (0 + (gN (cV rr.2) - gN (cV hc))) (0 + (gS (cV rr.2) - gS (cV hc))) (vx_MQ below (Qq D z rr v) (fun _ _ _ _ => False) [Value.ref z, .int a1, .int a2, .ref (z + 96)].toArray s (gN (cV rr.2) - gN (cV hc)) (gS (cV rr.2) - gS (cV hc)) (frq z)) (F0 m pc la' []) := by
      intro pc n la' hl' d1 d2 hn
      rw [Nat.zero_add, Nat.zero_add]
      refine lv_iconst hx hb d1 hn ?_
      refine vx_ret (W.iret hx hb hr ?Q ?F d2 hlk)
      case Q =>
        intro t9 ht9 hw9
        refine ⟨rfl, by rw [ht9, b1]; exact hW1, ?_, by rw [ht9, b1]; exact hF1, fun q h1 h2 => ?_⟩
        · rw [ht9, hO1, hc9]
          rfl
        · rw [ht9, b1]
          exact hF2 q h1 (fun h => h2 (Or.inl h))
      case F =>
        intro q hq
        exact Or.inl (hL q hq)
    rcases hx34 _ _ hc9 with rfl | rfl
    · have go := vx_catch (p := p) (l := l) (e := e') (R := (headSpec (wsW_ yX0_person cX0_person 5 (some .int) hhP) { frames := 7, cells := gN (cV rr.2) - gN (cV hc), slots := gS (cV rr.2) - gS (cV hc), locals := 122 }).room) (s := s) (m := m) (args := [Value.ref z, .int a1, .int a2, .ref (z + 96)].toArray) (below := below) (meth := meth) (c := c) (H := T'.heap) (locs := [] ++ L) (ls := la) (rest := [.int 0, .ref (z + 96)]) (pc := 5) (own := RX0) (name := exN 3) (E := E) (ce := ce) (q := q) hown [] ⟨0, 10, 13, 13⟩ [⟨0, 10, 17, 15⟩] htab (fun z hz => nomatch hz) rfl (by decide) (hts _ q1502) (by rw [hE]; exact va_Nw.use rfl (hT.2.1.2.2.1 _ (show ("java/lang/IndexOutOfBoundsException", "java/lang/IndexOutOfBoundsException") ∈ nC by decide +kernel))) (by rw [b1]; exact hce) hcv hcl (lv_astore (lv' := [(4, .ref q), (0, .ref z), (1, .int a1), (2, .int a2), (3, .ref (z + 96))]) hx hb dX0_person_13 hl (by decide) rfl (fun la' hl' => fin 15 1 la' hl' dX0_person_15 dX0_person_16 (by rw [hc9]; rfl)))
      obtain ⟨t2, w1, w2⟩ := go T' rfl X'
      exact ⟨t2, st1.trans w1, w2⟩
    · have go := vx_catch (p := p) (l := l) (e := e') (R := (headSpec (wsW_ yX0_person cX0_person 5 (some .int) hhP) { frames := 7, cells := gN (cV rr.2) - gN (cV hc), slots := gS (cV rr.2) - gS (cV hc), locals := 122 }).room) (s := s) (m := m) (args := [Value.ref z, .int a1, .int a2, .ref (z + 96)].toArray) (below := below) (meth := meth) (c := c) (H := T'.heap) (locs := [] ++ L) (ls := la) (rest := [.int 0, .ref (z + 96)]) (pc := 5) (own := RX0) (name := exN 4) (E := E) (ce := ce) (q := q) hown [⟨0, 10, 13, 13⟩] ⟨0, 10, 17, 15⟩ [] htab (fun z hz => by rw [List.mem_singleton.mp hz]; exact Or.inr ⟨by decide, _, hts _ q1502, by rw [hE]; exact hNc⟩) rfl (by decide) (hts _ q1536) (by rw [hE]; exact va_Nw.use rfl (hT.2.1.2.2.1 _ (show ("java/util/NoSuchElementException", "java/util/NoSuchElementException") ∈ nC by decide +kernel))) (by rw [b1]; exact hce) hcv hcl (lv_astore (lv' := [(4, .ref q), (0, .ref z), (1, .int a1), (2, .int a2), (3, .ref (z + 96))]) hx hb dX0_person_17 hl (by decide) rfl (fun la' hl' => fin 19 2 la' hl' dX0_person_19 dX0_person_20 (by rw [hc9]; rfl)))
      obtain ⟨t2, w1, w2⟩ := go T' rfl X'
      exact ⟨t2, st1.trans w1, w2⟩
