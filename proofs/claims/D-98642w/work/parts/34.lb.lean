/-! THE LAW'S OWN WALK: its world (both objects and the array 'out'), its calls -/
set_option maxRecDepth 100000
def O1 (a : Nat) : Prop := a < 54 ∨ 97 ≤ a
def O2 (a : Nat) : Prop := a < 42
theorem wD.keep {O : Nat → Prop} {D : va_G} {z : Nat} {h : HP} {H H1 : Heap} (hW : wD O D z h H) (hs : gN h ≠ 0 → H1.size = H.size) (hk : ∀ a, O a → z + a < H.size → H1[z + a]? = H[z + a]?) : wD O D z h H1 := by
  obtain ⟨w1, w2, w3⟩ := hW
  refine ⟨fun hb => ?_, w2, fun a => ?_⟩
  · rw [hs hb]; exact w1 hb
  · by_cases ht : (gT h a).1 = 0
    · exact Or.inl ht
    · refine (w3 a).kept (hk a (w2 a ht) ?_)
      rcases w3 a with q | ⟨-, q, w, -, -, ⟨cell, g1, -⟩⟩ | ⟨-, q⟩
      · exact absurd q ht
      · exact (Array.getElem?_eq_some_iff.mp g1).1
      · exact (Array.getElem?_eq_some_iff.mp q).1
def LZ (s : State) (D : va_G) (hc hm : HP) (v : Int64) (H : Heap) : Prop := wD O1 D s.heap.size (cV hc) H ∧ wD O2 D (s.heap.size + 54) (mV hm) H ∧ H[s.heap.size + 96]? = some (arrV (D.1 101) 1 (fun _ => .long v)) ∧ 97 ≤ gN (cV hc)
theorem LZ.cc {s : State} {D : va_G} {hc hc' hm : HP} {v : Int64} {H H1 : Heap} (q : LZ s D hc hm v H) (hn : gN (cV hc) ≤ gN (cV hc')) (w : wD O1 D s.heap.size (cV hc') H1) (hk : ∀ q : Nat, q < H.size → ¬ aA s.heap.size O1 q → H1[q]? = H[q]?) : LZ s D hc' hm v H1 := by
  refine ⟨w, q.2.1.keep (fun h => absurd rfl h) (fun a oa lt => hk _ lt ?_), ?_, Nat.le_trans q.2.2.2 hn⟩
  · rintro ⟨a', e, o⟩
    have oa : a < 42 := oa
    have o : a' < 54 ∨ 97 ≤ a' := o
    omega
  · rw [hk _ (Array.getElem?_eq_some_iff.mp q.2.2.1).1]
    · exact q.2.2.1
    · rintro ⟨a', e, o⟩
      have o : a' < 54 ∨ 97 ≤ a' := o
      omega
theorem LZ.mm {s : State} {D : va_G} {hc hm hm' : HP} {v : Int64} {H H1 : Heap} (q : LZ s D hc hm v H) (w : wD O2 D (s.heap.size + 54) (mV hm') H1) (hz : H1.size = H.size) (hk : ∀ q : Nat, q < H.size → ¬ aA (s.heap.size + 54) O2 q → H1[q]? = H[q]?) : LZ s D hc hm' v H1 := by
  refine ⟨q.1.keep (fun _ => hz) (fun a oa lt => hk _ lt ?_), w, ?_, q.2.2.2⟩
  · rintro ⟨a', e, o⟩
    have oa : a < 54 ∨ 97 ≤ a := oa
    have o : a' < 42 := o
    omega
  · rw [hk _ (Array.getElem?_eq_some_iff.mp q.2.2.1).1]
    · exact q.2.2.1
    · rintro ⟨a', e, o⟩
      have o : a' < 42 := o
      omega
theorem aA_1 {s : State} {q : Nat} (h : aA s.heap.size O1 q) : A0 s q := by
  obtain ⟨a, rfl, -⟩ := h
  exact Nat.le_add_right _ _
theorem aA_2 {s : State} {q : Nat} (h : aA (s.heap.size + 54) O2 q) : A0 s q := by
  obtain ⟨a, rfl, -⟩ := h
  show s.heap.size ≤ s.heap.size + 54 + a
  omega
section LB
variable {p : Program} {l : Launch} {e : Env} {s : State} {m : MethodId} {below : List Frame} {meth : Method} {c : Code} {b L : Nat} {xs : Nat → Int32} {D : va_G}
def LX (p : Program) (l : Launch) (s : State) (m : MethodId) (meth : Method) (c : Code) (b L : Nat) (xs : Nat → Int32) (D : va_G) : Prop := lw_At p s m meth c b L xs ∧ l.flags = flags0 ∧ jT D (A0 s) s s.heap ∧ va_Nc "java/util/NoSuchElementException" "java/lang/IndexOutOfBoundsException" s
abbrev LW (p : Program) (l : Launch) (e : Env) (s : State) (m : MethodId) (below : List Frame) (meth : Method) (c : Code) (b : Nat) (H : Heap) (locs : List Loc) (n k : Nat) (g : JFrame) : Prop := W p l e room_1 s m #[Value.ref b] below meth c H locs n k (lw_Z below #[Value.ref b] s) g
/-- behind a call that has run -/
theorem law_ran {V : HP → HP} {z : Nat} {O : Nat → Prop} {rv : Option Value} {h1 : HP} {av : Array Value} {mc ms cells slots : Nat} {H : Heap} {locs : List Loc} {la : Array Slot} {pc : Nat} {st0 rest : List Value} {Q : State → Prop}
    (hr : va_Run p l e room_1 s m #[Value.ref b] below meth c H locs cells slots mc ms (F0 m pc la st0) rest (Qcn V D z O rv h1 av) (aA z O)) (hA : ∀ q, aA z O q → A0 s q) (hS : va_S (A0 s) s.heap H locs)
    (kk : ∀ (H1 : Heap) (locs1 : List Loc), wD O D z (V h1) H1 → H.size ≤ H1.size → H1.size ≤ s.heap.size + (cells + mc) → (∀ q : Nat, q < H.size → ¬ aA z O q → H1[q]? = H[q]?) → va_S (A0 s) s.heap H1 locs1 → W p l e room_1 s m #[Value.ref b] below meth c H1 locs1 (cells + mc) (slots + ms) Q (F0 m (pc + 3) la (rv.toList ++ rest))) : W p l e room_1 s m #[Value.ref b] below meth c H locs cells slots Q (F0 m pc la st0) := by
  intro T hT X0
  obtain ⟨v, st₀, t, T', L, h0, X', hL, e1, e2, ⟨hv, hW1, hz1, hk⟩, st⟩ := hr T hT X0
  cases hv
  rw [h0] at hz1 hk
  obtain ⟨t2, a1, b1⟩ := kk T'.heap (locs ++ L) (by rw [e1]; exact hW1) (by rw [e1]; exact hz1) X'.heapSize (fun q h1 h2 => by rw [e1]; exact hk q h1 h2) ⟨Nat.le_trans hS.1 (by rw [e1]; exact hz1), fun q h1 h2 => by rw [e1, hk q (Nat.lt_of_lt_of_le h1 hS.1) (fun z => h2 (hA q z))]; exact hS.2.1 q h1 h2, fun q hq => by
      rcases List.mem_append.mp hq with h | h
      · exact hS.2.2 q h
      · exact hA _ (hL q h)⟩ T' rfl X'
  exact ⟨t2, st t2 a1, b1⟩
/-- the component's call at pc, with the answer rv -/
def CSt (p : Program) (l : Launch) (e : Env) (s : State) (m : MethodId) (below : List Frame) (meth : Method) (c : Code) (b : Nat) (D : va_G) (pc : Nat) (As : List Value) (hc hc' : HP) (rv : List Value) : Prop :=
  (gN (cV hc) ≤ gN (cV hc') ∧ gS (cV hc) ≤ gS (cV hc')) ∧ ∀ (H : Heap) (locs : List Loc) (la : Array Slot) (k : Nat) (hm : HP) (v : Int64) (rest : List Value), (rest.map fun v => v.category).sum ≤ 8 → la.size = 7 → LZ s D hc hm v H → va_S (A0 s) s.heap H locs → gN (cV hc') ≤ 603072 → k + (gS (cV hc') - gS (cV hc)) ≤ 7190634 →
    (∀ (H1 : Heap) (locs1 : List Loc), LZ s D hc' hm v H1 → va_S (A0 s) s.heap H1 locs1 → LW p l e s m below meth c b H1 locs1 (gN (cV hc')) (k + (gS (cV hc') - gS (cV hc))) (F0 m (pc + 3) la (rv ++ rest))) → LW p l e s m below meth c b H locs (gN (cV hc)) k (F0 m pc la (As.reverse ++ .ref s.heap.size :: rest))
def MSt (p : Program) (l : Launch) (e : Env) (s : State) (m : MethodId) (below : List Frame) (meth : Method) (c : Code) (b : Nat) (D : va_G) (pc : Nat) (As : List Value) (hm hm' : HP) (rv : List Value) : Prop :=
  ∀ (H : Heap) (locs : List Loc) (la : Array Slot) (k : Nat) (hc : HP) (v : Int64) (rest : List Value), (rest.map fun v => v.category).sum ≤ 8 → la.size = 7 → LZ s D hc hm v H → va_S (A0 s) s.heap H locs → gN (cV hc) ≤ 603072 → k ≤ 7190634 →
    (∀ (H1 : Heap) (locs1 : List Loc), LZ s D hc hm' v H1 → va_S (A0 s) s.heap H1 locs1 → LW p l e s m below meth c b H1 locs1 (gN (cV hc)) k (F0 m (pc + 3) la (rv ++ rest))) → LW p l e s m below meth c b H locs (gN (cV hc)) k (F0 m pc la (As.reverse ++ .ref (s.heap.size + 54) :: rest))
theorem law_c {ρ : Type} (e1 : Nat → ρ → Option Value) {r : ρ} {y : MethodName} {cd : ByteArray} {mL n f1 l1 index pc : Nat} {ret : Option FieldType} {As : List Value} {hc hc' : HP} (X : LX p l s m meth c b L xs D) (hM : Cn cV y (ws_ y cd mL ret) f1 l1 (fun z => .ref (z + 0) :: As) hc (fun z => e1 z r) hc') (hy : y_ok y n) (wd : GoodIn lw_all (wsV R_law index RX1 y (ws_ y cd mL ret))) (hC : y.cls = RX1) (hr : f1 + 1 ≤ 8192 ∧ 8 + (mL + 11) + l1 ≤ 104096) (hn : As.length = n)
    (d : decode code pc = .ok (.invokevirtual index, 3)) : CSt p l e s m below meth c b D pc As hc hc' (e1 s.heap.size r).toList := by
  obtain ⟨mono, hMet⟩ := hM
  refine ⟨mono, fun H locs la k hm v rest hw hla hLS hS g1 g2 kk => ?_⟩
  obtain ⟨⟨hx, hb, hr', hml, hown, hts, hX, hbl, hlocks, hgv⟩, hfl, hT, -⟩ := X
  have hT1 : jT D (aA s.heap.size O1) s s.heap := hT.narrow (fun q h => aA_1 h)
  have hta : ∀ w ∈ lw_all, w.before #[Value.ref b] s = true := fun w h => hts w (lw_all_tbl h)
  have run := va_runV (p := p) (l := l) (e := e) (R := room_1) (s := s) (m := m) (args := #[Value.ref b]) (below := below) (meth := meth) (c := c) (H := H) (locs := locs) (cells := gN (cV hc)) (slots := k) (As := As) (rest := rest) (b := s.heap.size + 0) (g := F0 m pc la (As.reverse ++ .ref (s.heap.size + 0) :: rest)) (Ts := lw_all) ⟨hx, hb, hml, hown, hta⟩ (hMet l D s.heap.size O1 hfl) (cwV n hta wd rfl rfl rfl ⟨hC, hy.2⟩ hr) ⟨Pcn.blind, ?_, fun U hU hw => ⟨rfl, by rw [hU]; exact hLS.1, by rw [hU]; exact (hT1.kept (fun a h1 _ => hS.2.1 a h1 (A0_no a h1))).warm hw⟩⟩ rfl hn hla rfl (by show 2 * 0 + _ ≤ 8; omega) d ⟨by show _ ≤ 603072; omega, g2⟩
  · refine law_ran run (fun q h => aA_1 h) hS fun H1 locs1 hW1 z1 z2 hk hS1 => ?_
    rw [show gN (cV hc) + (gN (cV hc') - gN (cV hc)) = gN (cV hc') by omega]
    exact kk H1 locs1 (hLS.cc mono.1 hW1 hk) hS1
  · obtain ⟨c1, c0, -⟩ := ckX1
    obtain ⟨-, -, cell, g1, g2, g3, -⟩ := (hLS.1.2.2 0).obj (ci := 1) rfl c0 c1
    exact ⟨cell, g1, by rw [g3]; rfl, by rw [g2]; exact (hT.1.1 1 _ c1).2.1⟩
theorem law_m {ρ : Type} (e1 : Nat → ρ → Option Value) {r : ρ} {y : MethodName} {cd : ByteArray} {mL n f1 l1 index pc : Nat} {ret : Option FieldType} {As : List Value} {hm hm' : HP} (X : LX p l s m meth c b L xs D) (hM : Cn mV y (ws_ y cd mL ret) f1 l1 (fun z => .ref (z + 0) :: As) hm (fun z => e1 z r) hm') (hy : y_ok y n) (wd : GoodIn lw_all (wsV R_law index RX10 y (ws_ y cd mL ret))) (hC : y.cls = RX10) (hr : f1 + 1 ≤ 8192 ∧ 8 + (mL + 11) + l1 ≤ 104096) (hn : As.length = n)
    (d : decode code pc = .ok (.invokevirtual index, 3)) : MSt p l e s m below meth c b D pc As hm hm' (e1 (s.heap.size + 54) r).toList := by
  obtain ⟨mono, hMet⟩ := hM
  intro H locs la k hc v rest hw hla hLS hS g1 g2 kk
  obtain ⟨⟨hx, hb, hr', hml, hown, hts, hX, hbl, hlocks, hgv⟩, hfl, hT, -⟩ := X
  have hT1 : jT D (aA (s.heap.size + 54) O2) s s.heap := hT.narrow (fun q h => aA_2 h)
  have hta : ∀ w ∈ lw_all, w.before #[Value.ref b] s = true := fun w h => hts w (lw_all_tbl h)
  have run := va_runV (p := p) (l := l) (e := e) (R := room_1) (s := s) (m := m) (args := #[Value.ref b]) (below := below) (meth := meth) (c := c) (H := H) (locs := locs) (cells := gN (cV hc)) (slots := k) (As := As) (rest := rest) (b := s.heap.size + 54 + 0) (g := F0 m pc la (As.reverse ++ .ref (s.heap.size + 54 + 0) :: rest)) (Ts := lw_all) ⟨hx, hb, hml, hown, hta⟩ (hMet l D (s.heap.size + 54) O2 hfl) (cwV n hta wd rfl rfl rfl ⟨hC, hy.2⟩ hr) ⟨Pcn.blind, ?_, fun U hU hw => ⟨rfl, by rw [hU]; exact hLS.2.1, by rw [hU]; exact (hT1.kept (fun a h1 _ => hS.2.1 a h1 (A0_no a h1))).warm hw⟩⟩ rfl hn hla rfl (by show 2 * 0 + _ ≤ 8; omega) d ⟨g1, g2⟩
  · refine law_ran run (fun q h => aA_2 h) hS fun H1 locs1 hW1 z1 z2 hk hS1 => ?_
    have hsz : H.size = s.heap.size + gN (cV hc) := (hLS.1.1 (fun h0 => by have := hLS.2.2.2; omega)).1
    have z2 : H1.size ≤ s.heap.size + gN (cV hc) := z2
    exact kk H1 locs1 (hLS.mm hW1 (by omega) hk) hS1
  · obtain ⟨c1, c0, -⟩ := ckX10
    obtain ⟨-, -, cell, g1, g2, g3, -⟩ := (hLS.2.1.2.2 0).obj (ci := 0) rfl c0 c1
    exact ⟨cell, g1, by rw [g3]; rfl, by rw [g2]; exact (hT.1.1 0 _ c1).2.1⟩
end LB
