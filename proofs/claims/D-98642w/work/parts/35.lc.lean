/-! the law's cases, generic: loading of arguments, both calls, the comparison -/
set_option maxRecDepth 100000
def lwl (s : State) (b : Nat) (x4 : Int32) : List (Nat × Value) := [(0, .ref b), (1, .ref s.heap.size), (2, .ref (s.heap.size + 54)), (3, .ref (s.heap.size + 96)), (4, .int x4)]
def bz (v : Int32) : Int32 := if v = 0 then 0 else 1
theorem bz_B (v : Int32) : isB (bz v) := by
  unfold bz
  by_cases h : v = 0
  · rw [if_pos h]; exact Or.inl rfl
  · rw [if_neg h]; exact Or.inr rfl
section LC
variable {p : Program} {l : Launch} {e : Env} {s : State} {m : MethodId} {below : List Frame} {meth : Method} {c : Code} {b L : Nat} {xs : Nat → Int32} {D : va_G}
theorem law_cX {ρ : Type} (e1 : Nat → ρ → Option Value) {r : ρ} {y : MethodName} {cd : ByteArray} {mL n f1 l1 index pc : Nat} {ret : Option FieldType} {hh : List (Nat × Nat × Nat × Nat)} {As : List Value} {hc hc' : HP} (X : LX p l s m meth c b L xs D) (hM : CnX e1 cV y (wsW_ y cd mL ret hh) f1 l1 (fun z => .ref (z + 0) :: As) hc (.inl r, hc')) (hy : y_ok y n) (wd : GoodIn lw_all (wsV R_law index RX1 y (wsW_ y cd mL ret hh))) (hC : y.cls = RX1) (hr : f1 + 1 ≤ 8192 ∧ 8 + (mL + 11) + l1 ≤ 104096) (hn : As.length = n)
    (d : decode code pc = .ok (.invokevirtual index, 3)) : CSt p l e s m below meth c b D pc As hc hc' (e1 s.heap.size r).toList := by
  obtain ⟨mono, hMet⟩ := hM
  refine ⟨mono, fun H locs la k hm v rest hw hla hLS hS g1 g2 kk => ?_⟩
  obtain ⟨⟨hx, hb, hr', hml, hown, hts, hX, hbl, hlocks, hgv⟩, hfl, hT, -⟩ := X
  have hT1 : jT D (aA s.heap.size O1) s s.heap := hT.narrow (fun q h => aA_1 h)
  have hta : ∀ w ∈ lw_all, w.before #[Value.ref b] s = true := fun w h => hts w (lw_all_tbl h)
  have ho : ∃ cell : Cell, H[s.heap.size + 0]? = some cell ∧ cell.vm.isStatics = false ∧ s.vm.findClass RX1 = some cell.cls := by
    obtain ⟨c1, c0, -⟩ := ckX1
    obtain ⟨-, -, cell, g1, g2, g3, -⟩ := (hLS.1.2.2 0).obj (ci := 1) rfl c0 c1
    exact ⟨cell, g1, by rw [g3]; rfl, by rw [g2]; exact (hT.1.1 1 _ c1).2.1⟩
  have run0 := vx_runVX (p := p) (l := l) (e := e) (R := room_1) (s := s) (m := m) (args := #[Value.ref b]) (below := below) (meth := meth) (c := c) (H := H) (locs := locs) (cells := gN (cV hc)) (slots := k) (hh := hh) (As := As) (rest := rest) (b := s.heap.size + 0) (C := RX1) (g := F0 m pc la (As.reverse ++ .ref (s.heap.size + 0) :: rest)) (Ts := lw_all) ⟨hx, hb, hml, hown, hta⟩ (hMet l D s.heap.size O1 hfl) (vx_cwVW n hta wd rfl rfl rfl ⟨hC, hy.2⟩ hr) ⟨Pcn.blind, ho, fun U hU hw => ⟨rfl, by rw [hU]; exact hLS.1, by rw [hU]; exact (hT1.kept (fun a h1 _ => hS.2.1 a h1 (A0_no a h1))).warm hw⟩⟩ rfl hn hla rfl (by show 2 * 0 + _ ≤ 8; omega) d ⟨by have := mono.1; show _ ≤ 603072; dsimp only; dsimp only at this; omega, g2⟩
  have run : va_Run p l e room_1 s m #[Value.ref b] below meth c H locs (gN (cV hc)) k (gN (cV hc') - gN (cV hc)) (gS (cV hc') - gS (cV hc)) (F0 m pc la (As.reverse ++ .ref s.heap.size :: rest)) rest (Qcn cV D s.heap.size O1 (e1 s.heap.size r) hc' #[]) (aA s.heap.size O1) := by
    intro T0 hT0 X0
    rcases run0 T0 hT0 X0 with ⟨v, st₀, t, T', L, h0, X', hL, b1, b2, ⟨r2, hr2, hv, hW1, hF⟩, st1⟩ | ⟨q, st₀, t, T', L, E, ce, h0, X', hL, b1, b2, ⟨c9, a9, hbad, -⟩, -⟩
    · cases hr2
      exact ⟨v, st₀, t, T', L, h0, X', hL, b1, b2, ⟨hv, hW1, hF⟩, st1⟩
    · cases hbad
  refine law_ran run (fun q h => aA_1 h) hS fun H1 locs1 hW1 z1 z2 hk hS1 => ?_
  have m1 := mono.1
  dsimp only at m1
  rw [show gN (cV hc) + (gN (cV hc') - gN (cV hc)) = gN (cV hc') by omega]
  exact kk H1 locs1 (hLS.cc mono.1 hW1 hk) hS1
theorem law_arg (X : LX p l s m meth c b L xs D) (hL : L ≤ 384) {i : Nat} {x4 : Int32} (h4 : x4 = nI i) (hi : i + 6 ≤ L) {k pc : Nat} {n : Int} (hk : k ≤ 5) (hkn : Int32.ofInt n = nI k) (d0 : decode code pc = .ok (.aload_n 0, 1)) (d1 : decode code (pc + 1) = .ok (.iload 4, 2)) (d2 : decode code (pc + 3) = .ok (.iconst n, 1)) (d3 : decode code (pc + 4) = .ok (.iadd, 1)) (d4 : decode code (pc + 5) = .ok (.iaload, 1)) {H : Heap} {locs : List Loc} {N K : Nat} {la : Array Slot} {st : List Value} (hl : lv_has la 7 (lwl s b x4)) (hS : va_S (A0 s) s.heap H locs)
    (kk : LW p l e s m below meth c b H locs N K (F0 m (pc + 6) la (.int (xs (i + k)) :: st))) : LW p l e s m below meth c b H locs N K (F0 m pc la st) := by
  obtain ⟨⟨hx, hb, hr', hml, hown, hts, hX, hbl, hlocks, hgv⟩, -⟩ := X
  refine lv_aload_n hx hb d0 rfl (lv_at hl 0 rfl) ?_
  refine lv_iload hx hb d1 (lv_at hl 4 rfl) ?_
  refine lv_iconst hx hb d2 hkn ?_
  refine lv_iadd hx hb d3 ?_
  rw [show x4 + nI k = nI (i + k) by rw [h4]; exact nI_add i k]
  refine va_sld hx hb hX hbl (A0_no b hbl) hS (vp_in_nI (show i + k < L by omega) (by omega)) d4 ?_
  rw [nI_clamp (show i + k < 2 ^ 31 by omega)]
  exact kk
theorem law_bool (X : LX p l s m meth c b L xs D) {pc : Nat} {v : Int32} (d0 : decode code pc = .ok (.ifCond .eq 7, 3)) (d1 : decode code (pc + 3) = .ok (.iconst 1, 1)) (d2 : decode code (pc + 4) = .ok (.goto 4, 3)) (d3 : decode code (pc + 7) = .ok (.iconst 0, 1)) {H : Heap} {locs : List Loc} {N K : Nat} {la : Array Slot} {st : List Value}
    (kk : LW p l e s m below meth c b H locs N K (F0 m (pc + 8) la (.int (bz v) :: st))) : LW p l e s m below meth c b H locs N K (F0 m pc la (.int v :: st)) := by
  obtain ⟨⟨hx, hb, hr', hml, hown, hts, hX, hbl, hlocks, hgv⟩, -⟩ := X
  refine lv_if_eq (tgt := pc + 7) hx hb d0 (by omega) (fun h => ?_) (fun h => ?_)
  · refine lv_iconst (v := 0) hx hb d3 (by decide) ?_
    rw [show bz v = 0 by unfold bz; rw [if_pos h]] at kk
    exact kk
  · refine lv_iconst (v := 1) hx hb d1 (by decide) ?_
    refine lv_goto (tgt := pc + 8) hx hb d2 (by omega) ?_
    rw [show bz v = 1 by unfold bz; rw [if_neg h]] at kk
    exact kk
/-- what follows a case: the loop's next turn -/
def NxL (p : Program) (l : Launch) (e : Env) (s : State) (m : MethodId) (below : List Frame) (meth : Method) (c : Code) (b : Nat) (D : va_G) (x4 : Int32) (K : Nat) (h g : HP) : Prop :=
  ∀ (h' : HP) (I' : Nat → Nat → Int32) (L' : Nat → Nat → Int64) (J' : Nat → Nat → Int32) (M' : Nat → Nat → Int64) (v' : Int64) (H1 : Heap) (locs1 : List Loc) (la' : Array Slot), Inv h' I' J' M' → gN h' ≤ gN h + 800 → gS h' ≤ gS h + 9000 → lv_has la' 7 (lwl s b x4) → LZ s D (hw h' I' L') (hw g J' M') v' H1 → va_S (A0 s) s.heap H1 locs1 → LW p l e s m below meth c b H1 locs1 (gN h') (K + gS h') (F0 m 1626 la' [])
/-- the arguments' loading -/
def Ld (p : Program) (l : Launch) (e : Env) (s : State) (m : MethodId) (below : List Frame) (meth : Method) (c : Code) (b : Nat) (x4 : Int32) (pc pc' : Nat) (As : List Value) : Prop :=
  ∀ (H : Heap) (locs : List Loc) (N K : Nat) (la : Array Slot) (st : List Value), lv_has la 7 (lwl s b x4) → va_S (A0 s) s.heap H locs → LW p l e s m below meth c b H locs N K (F0 m pc' la (As.reverse ++ st)) → LW p l e s m below meth c b H locs N K (F0 m pc la st)
theorem PB.pt {h g : HP} {tc tm : Option (Int32 × HP)} (q : PB h g tc tm) : PT h g tc tm := by
  obtain ⟨r, h', I', L', J', M', e1, e2, e3, e4, e5⟩ := q
  exact ⟨r, h', I', L', J', M', e1, e2, e3, by omega, by omega⟩
variable {x4 : Int32} {K pc pc1 pc2 : Nat} {h g : HP} {I J : Nat → Nat → Int32} {L0 M : Nat → Nat → Int64} {v : Int64} {H : Heap} {locs : List Loc} {la : Array Slot} {As : List Value} {off : Int}
theorem law_case {tc tm : Option (Int32 × HP)} (X : LX p l s m meth c b L xs D) (hP : PT h g tc tm) (hN : gN h + 800 ≤ 603072) (hK : K + gS h + 9000 ≤ 7190634) (d1 : decode code pc = .ok (.aload_n 1, 1)) (ld1 : Ld p l e s m below meth c b x4 (pc + 1) pc1 As) (cs : ∀ r hc', tc = some (r, hc') → CSt p l e s m below meth c b D pc1 As (hw h I L0) hc' [.int r]) (d2 : decode code (pc1 + 3) = .ok (.aload_n 2, 1)) (ld2 : Ld p l e s m below meth c b x4 (pc1 + 4) pc2 As) (ms : ∀ r hm', tm = some (r, hm') → MSt p l e s m below meth c b D pc2 As (hw g J M) hm' [.int r]) (d3 : decode code (pc2 + 3) = .ok (.if_icmp .eq off, 3)) (ht : ((pc2 + 3 : Nat) : Int) + off = ((1626 : Nat) : Int))
    (hl : lv_has la 7 (lwl s b x4)) (hLS : LZ s D (hw h I L0) (hw g J M) v H) (hS : va_S (A0 s) s.heap H locs) (kk : NxL p l e s m below meth c b D x4 K h g) : LW p l e s m below meth c b H locs (gN h) (K + gS h) (F0 m pc la []) := by
  obtain ⟨r, h', I', L', J', M', e1, e2, inv, b1, b2⟩ := hP
  obtain ⟨⟨hx, hb, hr', hml, hown, hts, hX, hbl, hlocks, hgv⟩, -⟩ := X
  obtain ⟨⟨n1, n2⟩, cs⟩ := cs _ _ e1
  have n1 : gN h ≤ gN h' := n1
  have n2 : gS h ≤ gS h' := n2
  have ms := ms _ _ e2
  refine lv_aload_n hx hb d1 rfl (lv_at hl 1 rfl) ?_
  refine ld1 _ _ _ _ _ _ hl hS ?_
  refine cs H locs la (K + gS h) _ v [] (by decide) hl.1 hLS hS (by show gN h' ≤ _; omega) (by show K + gS h + (gS h' - gS h) ≤ _; omega) fun H1 locs1 hLS1 hS1 => ?_
  rw [show K + gS h + (gS (cV (hw h' I' L')) - gS (cV (hw h I L0))) = K + gS h' by show K + gS h + (gS h' - gS h) = K + gS h'; omega]
  refine lv_aload_n hx hb d2 rfl (lv_at hl 2 rfl) ?_
  refine ld2 _ _ _ _ _ _ hl hS1 ?_
  refine ms H1 locs1 la (K + gS h') _ v [.int r] (by show 1 ≤ 8; decide) hl.1 hLS1 hS1 (by show gN h' ≤ _; omega) (by omega) fun H2 locs2 hLS2 hS2 => ?_
  refine lv_icmp_eq (tgt := 1626) hx hb d3 ht (fun _ => ?_) (fun q => absurd rfl q)
  exact kk h' I' L' J' M' v H2 locs2 la inv b1 b2 hl hLS2 hS2
theorem law_caseL {tc tm : Option (Int64 × HP)} (X : LX p l s m meth c b L xs D) (hP : ∃ r I' L' J' M', tc = some (r, hw h I' L') ∧ tm = some (r, hw g J' M') ∧ Inv h I' J' M') (hN : gN h + 800 ≤ 603072) (hK : K + gS h + 9000 ≤ 7190634) (d1 : decode code pc = .ok (.aload_n 1, 1)) (ld1 : Ld p l e s m below meth c b x4 (pc + 1) pc1 As) (cs : ∀ r hc', tc = some (r, hc') → CSt p l e s m below meth c b D pc1 As (hw h I L0) hc' [.long r]) (d2 : decode code (pc1 + 3) = .ok (.aload_n 2, 1)) (ld2 : Ld p l e s m below meth c b x4 (pc1 + 4) pc2 As) (ms : ∀ r hm', tm = some (r, hm') → MSt p l e s m below meth c b D pc2 As (hw g J M) hm' [.long r]) (d3 : decode code (pc2 + 3) = .ok (.lcmp, 1)) (d4 : decode code (pc2 + 4) = .ok (.ifCond .eq off, 3)) (ht : ((pc2 + 4 : Nat) : Int) + off = ((1626 : Nat) : Int))
    (hl : lv_has la 7 (lwl s b x4)) (hLS : LZ s D (hw h I L0) (hw g J M) v H) (hS : va_S (A0 s) s.heap H locs) (kk : NxL p l e s m below meth c b D x4 K h g) : LW p l e s m below meth c b H locs (gN h) (K + gS h) (F0 m pc la []) := by
  obtain ⟨r, I', L', J', M', e1, e2, inv⟩ := hP
  obtain ⟨⟨hx, hb, hr', hml, hown, hts, hX, hbl, hlocks, hgv⟩, -⟩ := X
  obtain ⟨-, cs⟩ := cs _ _ e1
  have ms := ms _ _ e2
  refine lv_aload_n hx hb d1 rfl (lv_at hl 1 rfl) ?_
  refine ld1 _ _ _ _ _ _ hl hS ?_
  refine cs H locs la (K + gS h) _ v [] (by decide) hl.1 hLS hS (by show gN h ≤ _; omega) (by show K + gS h + (gS h - gS h) ≤ _; omega) fun H1 locs1 hLS1 hS1 => ?_
  rw [show K + gS h + (gS (cV (hw h I' L')) - gS (cV (hw h I L0))) = K + gS h by show K + gS h + (gS h - gS h) = K + gS h; omega]
  refine lv_aload_n hx hb d2 rfl (lv_at hl 2 rfl) ?_
  refine ld2 _ _ _ _ _ _ hl hS1 ?_
  refine ms H1 locs1 la (K + gS h) _ v [.long r] (by show 2 ≤ 8; decide) hl.1 hLS1 hS1 (by show gN h ≤ _; omega) (by omega) fun H2 locs2 hLS2 hS2 => ?_
  refine W.lcmp hx hb d3 ?_
  refine lv_if_eq (tgt := 1626) hx hb d4 ht (fun _ => ?_) (fun q => absurd ?_ q)
  · exact kk h I' L' J' M' v H2 locs2 la inv (by omega) (by omega) hl hLS2 hS2
  · unfold lg_cmp; simp
end LC
