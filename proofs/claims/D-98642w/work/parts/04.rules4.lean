/-! calls of every kind -/
section JC2
variable {V : HP → HP} {ρ : Type} {X : CTX} {ev : (HP → HP) → CTX → ρ × HP → State → Prop} {rr : ρ × HP} {cc : ByteArray} {own : String} {nL fr lo : Nat} {t : Option (ρ × HP)} {pc : Nat} {ls : List (Nat × Value)} {st : List Value} {h : HP}
variable {α : Type} {f : Option (α × HP)} {T : α → HP → Option (ρ × HP)} {e1 : Nat → α → Option Value} {x y : MethodName} {cd : ByteArray} {mL n f1 l1 index a ci : Nat} {ret : Option FieldType} {As : Nat → List Value} {rest st0 : List Value} {C : String} {U : u_T} {N : Nat} {host owner : String}
theorem j_callG {av : Nat → List Value} {ws : List Cond} (hX : okX V X rr cc own nL fr lo) (hM : ∀ r, f = some r → Cn V y ws f1 l1 av h (fun z => e1 z r.1) r.2)
    (hrun : ∀ (mc ms cells slots : Nat) (Qc : Array Value → State → Outcome → State → Prop) (H : Heap) (locs : List Loc) (la : Array Slot), Met (xl X) y ws { frames := f1, cells := mc, slots := ms, locals := l1 } (Pcn V (xD X) (xz X) (xO X) (av (xz X)) h) Qc mc ms (aA (xz X) (xO X)) → lv_has la (xc X).maxLocals ls → wD (xO X) (xD X) (xz X) (V h) H → (∀ U : State, U.heap = H → (xs X).WarmedH U.vm → Pcn V (xD X) (xz X) (xO X) (av (xz X)) h (av (xz X)).toArray U) → cells + mc ≤ (xR X).cells ∧ slots + ms ≤ (xR X).slots → va_Run (xp X) (xl X) (xe X) (xR X) (xs X) (xm X) (xa X) (xb X) (xh X) (xc X) H locs cells slots mc ms (F0 (xm X) pc la st0) rest (Qc (av (xz X)).toArray) (aA (xz X) (xO X)))
    (kk : ∀ r h1, jG V X ev rr (T r h1) (pc + 3) ls ((e1 (xz X) r).toList ++ rest) h1) : jG V X ev rr (cal f T) pc ls st0 h := by
  intro e
  cases hf : f with
  | none => rw [hf] at e; cases e
  | some r =>
    obtain ⟨r, h1⟩ := r
    rw [hf] at e
    obtain ⟨⟨m1, m2⟩, hMet⟩ := hM _ hf
    obtain ⟨⟨k1, k2⟩, k3⟩ := kk r h1 e
    refine ⟨⟨Nat.le_trans m1 k1, Nat.le_trans m2 k2⟩, fun hn0 H locs la hl hW hS => ?_⟩
    obtain ⟨-, ⟨hT, hV, hlk, hfl⟩, ⟨hR1, hR2, hR3, hR4⟩⟩ := hX
    dsimp only at m1 m2 k1 k2 k3 hMet
    have run := hrun _ _ (gN (V h) - xn X) (gS (V h) - xk X) _ H locs la (hMet (xl X) (xD X) (xz X) (xO X) hfl) hl hW (fun U hU hw => ⟨rfl, by rw [hU]; exact hW, by rw [hU]; exact (hT.kept hS.2.1).warm hw⟩) ⟨by rw [hR3]; omega, by rw [hR4]; omega⟩
    refine j_ran run hS fun H1 locs1 hW1 hS1 => ?_
    have q1 : gN (V h) - xn X + (gN (V h1) - gN (V h)) = gN (V h1) - xn X := by omega
    have q2 : gS (V h) - xk X + (gS (V h1) - gS (V h)) = gS (V h1) - xk X := by omega
    rw [q1, q2]
    exact k3 ⟨by omega, by omega⟩ H1 locs1 la hl hW1 hS1
theorem obj_at {H : Heap} (hX : okX V X rr cc own nL fr lo) (hc : cls_ok ci C U N) (ht : (gT (V h) a).1 = ci + 1) (hW : wD (xO X) (xD X) (xz X) (V h) H) : ∃ cell : Cell, H[xz X + a]? = some cell ∧ cell.vm.isStatics = false ∧ (xs X).vm.findClass C = some cell.cls := by
  obtain ⟨c1, c0, -⟩ := hc
  obtain ⟨-, -, cell, g1, g2, g3, -⟩ := (hW.2.2 a).obj ht c0 c1
  exact ⟨cell, g1, by rw [g3]; rfl, by rw [g2]; exact (hX.2.1.1.1.1 ci _ c1).2.1⟩
/-- a private method of a nest mate -/
theorem j_callVN (hX : okX V X rr cc own nL fr lo) (hM : ∀ r, f = some r → Cn V y (ws_ y cd mL ret) f1 l1 (fun z => .ref (z + a) :: As z) h (fun z => e1 z r.1) r.2) (hy : y_ok y n) (q1 : (own, index, y, host) ∈ nM) (q2 : Cond.instanceMethod y ∈ lw_all) (q3 : Cond.selects C y y ∈ lw_all) (q4 : Cond.initialized y.cls ∈ lw_all) (q5 : Cond.code y cd mL ret ∈ lw_all) (hc : cls_ok ci C U N) (ht : (gT (V h) a).1 = ci + 1) (hr : f1 + 1 ≤ fr ∧ 8 + (mL + 11) + l1 ≤ lo) (hn : (As (xz X)).length = n) (hst : st0 = (As (xz X)).reverse ++ .ref (xz X + a) :: rest) (hw : (rest.map fun v => v.category).sum ≤ 8)
    (d : decode cc pc = .ok (.invokevirtual index, 3)) (kk : ∀ r h1, jG V X ev rr (T r h1) (pc + 3) ls ((e1 (xz X) r).toList ++ rest) h1) : jG V X ev rr (cal f T) pc ls st0 h := by
  refine j_callG hX hM (fun mc ms cells slots Qc H locs la hMet hl hW hp hf => ?_) kk
  have ho := obj_at hX hc ht hW
  obtain ⟨⟨hx, hb, hml, hown, hts⟩, ⟨⟨hK, hNw, -⟩, hV, hlk, hfl⟩, ⟨hR1, hR2, hR3, hR4⟩⟩ := hX
  exact va_runVN (As := As (xz X)) (rest := rest) (b := xz X + a) (C := C) (Ts := lw_all) ⟨hx, hb, rfl, hown, hts⟩ hMet ⟨va_cnB n hts (lw_meth q5) rfl rfl rfl (hNw.2.1 _ q1) (hts _ q4) hy.2 ⟨by rw [hR1]; exact hr.1, by rw [hR2]; exact hr.2⟩, hts _ q2, hts _ q3⟩ ⟨Pcn.blind, ho, hp⟩ rfl hn hl.1 hst (by show 2 * 0 + _ ≤ 8; omega) d hf
theorem j_callSN (hX : okX V X rr cc own nL fr lo) (hM : ∀ r, f = some r → Cn V y (ws_ y cd mL ret) f1 l1 As h (fun z => e1 z r.1) r.2) (hy : y_ok y n) (q1 : (own, index, y, host) ∈ nM) (q2 : Cond.static y ∈ lw_all) (q4 : Cond.initialized y.cls ∈ lw_all) (q5 : Cond.code y cd mL ret ∈ lw_all) (hr : f1 + 1 ≤ fr ∧ 8 + (mL + 11) + l1 ≤ lo) (hn : (As (xz X)).length = n) (hst : st0 = (As (xz X)).reverse ++ rest) (hw : (rest.map fun v => v.category).sum ≤ 8)
    (d : decode cc pc = .ok (.invokestatic index, 3)) (kk : ∀ r h1, jG V X ev rr (T r h1) (pc + 3) ls ((e1 (xz X) r).toList ++ rest) h1) : jG V X ev rr (cal f T) pc ls st0 h := by
  refine j_callG hX hM (fun mc ms cells slots Qc H locs la hMet hl hW hp hf => ?_) kk
  obtain ⟨⟨hx, hb, hml, hown, hts⟩, ⟨⟨hK, hNw, -⟩, hV, hlk, hfl⟩, ⟨hR1, hR2, hR3, hR4⟩⟩ := hX
  exact va_runSN (As := As (xz X)) (rest := rest) (Ts := lw_all) ⟨hx, hb, rfl, hown, hts⟩ hMet ⟨va_cnB n hts (lw_meth q5) rfl rfl rfl (hNw.2.1 _ q1) (hts _ q4) hy.2 ⟨by rw [hR1]; exact hr.1, by rw [hR2]; exact hr.2⟩, hts _ q2, trivial⟩ ⟨Pcn.blind, hp⟩ rfl hn hl.1 hst (by show 2 * 0 + _ ≤ 8; omega) d hf
theorem j_callI (hX : okX V X rr cc own nL fr lo) (hM : ∀ r, f = some r → Cn V y (ws_ y cd mL none) f1 l1 (fun z => .ref (z + a) :: As z) h (fun z => e1 z r.1) r.2) (hy : y_ok y n) (hi : y.name = "<init>") (q1 : Cond.methodLink own index y ∈ lw_all) (q2 : Cond.instanceMethod y ∈ lw_all) (q4 : Cond.initialized y.cls ∈ lw_all) (q5 : Cond.code y cd mL none ∈ lw_all) (hr : f1 + 1 ≤ fr ∧ 8 + (mL + 11) + l1 ≤ lo) (hn : (As (xz X)).length = n) (hst : st0 = (As (xz X)).reverse ++ .ref (xz X + a) :: rest) (hw : (rest.map fun v => v.category).sum ≤ 8)
    (d : decode cc pc = .ok (.invokespecial index, 3)) (kk : ∀ r h1, jG V X ev rr (T r h1) (pc + 3) ls ((e1 (xz X) r).toList ++ rest) h1) : jG V X ev rr (cal f T) pc ls st0 h := by
  refine j_callG hX hM (fun mc ms cells slots Qc H locs la hMet hl hW hp hf => ?_) kk
  obtain ⟨⟨hx, hb, hml, hown, hts⟩, ⟨⟨hK, hNw, -⟩, hV, hlk, hfl⟩, ⟨hR1, hR2, hR3, hR4⟩⟩ := hX
  exact va_runI (As := As (xz X)) (rest := rest) (b := xz X + a) (Ts := lw_all) ⟨hx, hb, rfl, hown, hts⟩ hMet (cwI n hts (lw_meth q5) rfl rfl rfl (hts _ q4) (hts _ q1) (hts _ q2) hi hy.2 ⟨by rw [hR1]; exact hr.1, by rw [hR2]; exact hr.2⟩) ⟨Pcn.blind, hp⟩ rfl hn hl.1 hst (by show 2 * 0 + _ ≤ 8; omega) d hf
theorem j_callIN (hX : okX V X rr cc own nL fr lo) (hM : ∀ r, f = some r → Cn V y (ws_ y cd mL none) f1 l1 (fun z => .ref (z + a) :: As z) h (fun z => e1 z r.1) r.2) (hy : y_ok y n) (hi : y.name = "<init>") (q1 : (own, index, y, host) ∈ nM) (q2 : Cond.instanceMethod y ∈ lw_all) (q4 : Cond.initialized y.cls ∈ lw_all) (q5 : Cond.code y cd mL none ∈ lw_all) (hr : f1 + 1 ≤ fr ∧ 8 + (mL + 11) + l1 ≤ lo) (hn : (As (xz X)).length = n) (hst : st0 = (As (xz X)).reverse ++ .ref (xz X + a) :: rest) (hw : (rest.map fun v => v.category).sum ≤ 8)
    (d : decode cc pc = .ok (.invokespecial index, 3)) (kk : ∀ r h1, jG V X ev rr (T r h1) (pc + 3) ls ((e1 (xz X) r).toList ++ rest) h1) : jG V X ev rr (cal f T) pc ls st0 h := by
  refine j_callG hX hM (fun mc ms cells slots Qc H locs la hMet hl hW hp hf => ?_) kk
  obtain ⟨⟨hx, hb, hml, hown, hts⟩, ⟨⟨hK, hNw, -⟩, hV, hlk, hfl⟩, ⟨hR1, hR2, hR3, hR4⟩⟩ := hX
  exact va_runIN (As := As (xz X)) (rest := rest) (b := xz X + a) (Ts := lw_all) ⟨hx, hb, rfl, hown, hts⟩ hMet ⟨va_cnB n hts (lw_meth q5) rfl rfl rfl (hNw.2.1 _ q1) (hts _ q4) hy.2 ⟨by rw [hR1]; exact hr.1, by rw [hR2]; exact hr.2⟩, hi, hts _ q2⟩ ⟨Pcn.blind, hp⟩ rfl hn hl.1 hst (by show 2 * 0 + _ ≤ 8; omega) d hf
/-- a method found by the receiver's class: inherited, overriding, or of an abstract one -/
theorem j_callU (hX : okX V X rr cc own nL fr lo) (hM : ∀ r, f = some r → Cn V y (ws_ y cd mL ret) f1 l1 (fun z => .ref (z + a) :: As z) h (fun z => e1 z r.1) r.2) (hy : y_ok ⟨owner, x.name, x.desc⟩ n) (q1 : Cond.methodLink own index x ∈ lw_all) (q2 : Cond.sameMethod x.cls owner x.name x.desc ∈ lw_all) (q3 : Cond.selects C x y ∈ lw_all) (q4 : Cond.instanceMethod y ∈ lw_all) (q5 : Cond.initialized y.cls ∈ lw_all) (q6 : Cond.code y cd mL ret ∈ lw_all) (hdecl : ∀ (a : Array Value) (s : State), (∀ w ∈ lw_all, w.before a s = true) → jN s → va_Decl s ⟨owner, x.name, x.desc⟩) (hc : cls_ok ci C U N) (ht : (gT (V h) a).1 = ci + 1) (hr : f1 + 1 ≤ fr ∧ 8 + (mL + 11) + l1 ≤ lo) (hn : (As (xz X)).length = n) (hst : st0 = (As (xz X)).reverse ++ .ref (xz X + a) :: rest) (hw : (rest.map fun v => v.category).sum ≤ 8)
    (d : decode cc pc = .ok (.invokevirtual index, 3)) (kk : ∀ r h1, jG V X ev rr (T r h1) (pc + 3) ls ((e1 (xz X) r).toList ++ rest) h1) : jG V X ev rr (cal f T) pc ls st0 h := by
  refine j_callG hX hM (fun mc ms cells slots Qc H locs la hMet hl hW hp hf => ?_) kk
  have ho := obj_at hX hc ht hW
  obtain ⟨⟨hx, hb, hml, hown, hts⟩, ⟨⟨hK, hNw, -⟩, hV, hlk, hfl⟩, ⟨hR1, hR2, hR3, hR4⟩⟩ := hX
  have hcu : va_CU (xR X) (xs X) (xa X) own C owner index x y cd mL ret (ws_ y cd mL ret) { frames := f1, cells := mc, slots := ms, locals := l1 } mc ms n := by
    refine ⟨⟨rfl, rfl, by rw [hR1]; exact hr.1, by rw [hR2]; exact hr.2, pay_in hts (lw_meth q6), List.mem_cons_self⟩, hts _ q6, hts _ q5, ⟨hy.2.1, hy.2.2.1⟩, fun sig h => ?_, hts _ q1, hts _ q2, hdecl _ _ hts hNw, hts _ q3, hts _ q4⟩
    have h2 := hy.2.2.2
    rw [h] at h2
    exact (Option.some.inj h2).symm
  exact va_runU (As := As (xz X)) (rest := rest) (b := xz X + a) (C := C) (Ts := lw_all) ⟨hx, hb, rfl, hown, hts⟩ hMet hcu ⟨Pcn.blind, ho, hp⟩ rfl hn hl.1 hst (by show 2 * 0 + _ ≤ 8; omega) d hf
/-- super.m(..) -/
theorem j_callSU (hX : okX V X rr cc own nL fr lo) (hM : ∀ r, f = some r → Cn V y (ws_ y cd mL ret) f1 l1 (fun z => .ref (z + a) :: As z) h (fun z => e1 z r.1) r.2) (hy : y_ok y n) (hni : y.name ≠ "<init>") (q1 : Cond.methodLink own index y ∈ lw_all) (q2 : Cond.sameMethod y.cls y.cls y.name y.desc ∈ lw_all) (q3 : Cond.superclass own y.cls ∈ lw_all) (q4 : Cond.instanceMethod y ∈ lw_all) (q5 : Cond.initialized y.cls ∈ lw_all) (q6 : Cond.code y cd mL ret ∈ lw_all) (hc : cls_ok ci C U N) (ht : (gT (V h) a).1 = ci + 1) (hr : f1 + 1 ≤ fr ∧ 8 + (mL + 11) + l1 ≤ lo) (hn : (As (xz X)).length = n) (hst : st0 = (As (xz X)).reverse ++ .ref (xz X + a) :: rest) (hw : (rest.map fun v => v.category).sum ≤ 8)
    (d : decode cc pc = .ok (.invokespecial index, 3)) (kk : ∀ r h1, jG V X ev rr (T r h1) (pc + 3) ls ((e1 (xz X) r).toList ++ rest) h1) : jG V X ev rr (cal f T) pc ls st0 h := by
  refine j_callG hX hM (fun mc ms cells slots Qc H locs la hMet hl hW hp hf => ?_) kk
  have ho := obj_at hX hc ht hW
  obtain ⟨⟨hx, hb, hml, hown, hts⟩, ⟨⟨hK, hNw, -⟩, hV, hlk, hfl⟩, ⟨hR1, hR2, hR3, hR4⟩⟩ := hX
  have hat := (hK.1 ci _ hc.1).2
  have hcs : va_CS (xR X) (xs X) (xa X) own index y cd mL ret (ws_ y cd mL ret) { frames := f1, cells := mc, slots := ms, locals := l1 } mc ms n := by
    refine ⟨⟨rfl, rfl, by rw [hR1]; exact hr.1, by rw [hR2]; exact hr.2, pay_in hts (lw_meth q6), List.mem_cons_self⟩, hts _ q1, hts _ q2, hts _ q3, hts _ q4, hts _ q5, hts _ q6, hni, fun sig h => ?_⟩
    have h2 := hy.2.2.2
    rw [h] at h2
    exact (Option.some.inj h2).symm
  exact va_runSU (As := As (xz X)) (rest := rest) (b := xz X + a) (C := C) (Ts := lw_all) hat ⟨hx, hb, rfl, hown, hts⟩ hMet hcs ⟨Pcn.blind, ho, hp⟩ rfl hn hl.1 hst (by show 2 * 0 + _ ≤ 8; omega) d hf
theorem j_objInit (hX : okX V X rr cc own nL fr lo) {v : Nat} (q1 : Cond.methodLink own index Lib.objectInit ∈ lw_all) (q2 : Cond.instanceMethod Lib.objectInit ∈ lw_all) (q3 : Cond.code Lib.objectInit ⟨#[0xb1]⟩ 1 none ∈ lw_all) (hfr : 1 ≤ fr) (hlo : (st.map fun v => v.category).sum + 12 ≤ lo) (d : decode cc pc = .ok (.invokespecial index, 3)) (kk : jG V X ev rr t (pc + 3) ls st h) : jG V X ev rr t pc ls (.ref v :: st) h := by
  intro e
  obtain ⟨g1, g2⟩ := kk e
  refine ⟨g1, fun hn H locs la hl hW hS => ?_⟩
  obtain ⟨⟨hx, hb, hml, hown, hts⟩, -, ⟨hR1, hR2, -⟩⟩ := hX
  exact W.objInit hx hb hown (hts _ q1) (hts _ q2) (hts _ q3) rfl hl.1 rfl d (by rw [hR1]; exact hfr) (by rw [hR2]; show 2 * 0 + _ + 12 ≤ lo; omega) (g2 hn H locs la hl hW hS)
end JC2
