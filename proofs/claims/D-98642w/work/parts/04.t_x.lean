/-! methods that throw: a tree's answer is .inl (it returned) or .inr (class, address): it threw -/
def exN (c : Nat) : String := if c = 1 then "AskedCourt$Fault" else if c = 2 then "AskedCourt$Trouble" else if c = 3 then "java/lang/IndexOutOfBoundsException" else "java/util/NoSuchElementException"
def calx {α ρ : Type} (f : Option ((α ⊕ Nat × Nat) × HP)) (T : α → HP → Option ((ρ ⊕ Nat × Nat) × HP)) : Option ((ρ ⊕ Nat × Nat) × HP) := match f with
  | none => none
  | some (.inr x, h) => some (.inr x, h)
  | some (.inl r, h) => T r h
/-- a call whose exceptions are caught -/
def calk {α ρ : Type} (f : Option ((α ⊕ Nat × Nat) × HP)) (T : α → HP → Option (ρ × HP)) (K : Nat → Nat → HP → Option (ρ × HP)) : Option (ρ × HP) := match f with
  | none => none
  | some (.inr x, h) => K x.1 x.2 h
  | some (.inl r, h) => T r h
def QcX {ρ : Type} (e1 : Nat → ρ → Option Value) (V : HP → HP) (D : va_G) (z : Nat) (O : Nat → Prop) (rr : (ρ ⊕ Nat × Nat) × HP) : Array Value → State → Outcome → State → Prop := fun _ st oc t => ∃ r : ρ, rr.1 = .inl r ∧ oc = .returned (e1 z r) ∧ wD O D z (V rr.2) t.heap ∧ va_F (aA z O) st t
def XcX {ρ : Type} (V : HP → HP) (D : va_G) (z : Nat) (O : Nat → Prop) (rr : (ρ ⊕ Nat × Nat) × HP) : Addr → String → State → State → Prop := fun q E st t => ∃ c a : Nat, rr.1 = .inr (c, a) ∧ E = exN c ∧ (c = 1 → q = z + a) ∧ wD O D z (V rr.2) t.heap ∧ va_F (aA z O) st t
def CnX {ρ : Type} (e1 : Nat → ρ → Option Value) (V : HP → HP) (y : MethodName) (ws : List Cond) (fr lo : Nat) (av : Nat → List Value) (h : HP) (rr : (ρ ⊕ Nat × Nat) × HP) : Prop :=
  (gN (V h) ≤ gN (V rr.2) ∧ gS (V h) ≤ gS (V rr.2)) ∧ ∀ (l : Launch) (D : va_G) (z : Nat) (O : Nat → Prop), l.flags = flags0 → vx_Met l y ws { frames := fr, cells := gN (V rr.2) - gN (V h), slots := gS (V rr.2) - gS (V h), locals := lo } (Pcn V D z O (av z) h) (QcX e1 V D z O rr) (XcX V D z O rr) (gN (V rr.2) - gN (V h)) (gS (V rr.2) - gS (V h)) (aA z O)
def evX {ρ : Type} (e1 : Nat → ρ → Option Value) (V : HP → HP) (X : CTX) (rr : (ρ ⊕ Nat × Nat) × HP) : State → Prop := vx_MQ (xb X) (QcX e1 V (xD X) (xz X) (xO X) rr) (XcX V (xD X) (xz X) (xO X) rr) (xa X) (xs X) (gN (V rr.2) - xn X) (gS (V rr.2) - xk X) (aA (xz X) (xO X))
section XR
variable {V : HP → HP} {ρ : Type} {X : CTX} {cc : ByteArray} {own : String} {nL fr lo : Nat} {pc : Nat} {ls : List (Nat × Value)} {st : List Value} {h : HP}
theorem x_iret {rr : (Int32 ⊕ Nat × Nat) × HP} (hX : okX V X rr cc own nL fr lo) {v : Int32} (hr : (xh X).sig.returnType = some .int) (d : decode cc pc = .ok (.ireturn, 1)) : jG V X (evX eI) rr (some (.inl v, h)) pc ls [.int v] h := by
  intro e
  cases e
  obtain ⟨⟨hx, hb, hml, hown, hts⟩, ⟨-, hV, hlk, -⟩, -⟩ := hX
  exact ⟨⟨Nat.le_refl _, Nat.le_refl _⟩, fun hn H locs la hl hW hS => vx_ret (W.iret hx hb hr (fun t ht hw => ⟨v, rfl, rfl, by rw [ht]; exact hW, hS.F ht⟩) hS.2.2 d hlk)⟩
theorem x_zret {rr : (Int32 ⊕ Nat × Nat) × HP} (hX : okX V X rr cc own nL fr lo) {v : Int32} (hB : isB v) (hr : (xh X).sig.returnType = some .boolean) (d : decode cc pc = .ok (.ireturn, 1)) : jG V X (evX eI) rr (some (.inl v, h)) pc ls [.int v] h := by
  intro e
  cases e
  obtain ⟨⟨hx, hb, hml, hown, hts⟩, ⟨-, hV, hlk, -⟩, -⟩ := hX
  exact ⟨⟨Nat.le_refl _, Nat.le_refl _⟩, fun hn H locs la hl hW hS => vx_ret (W.zret hx hb hr (by rcases hB with rfl | rfl <;> rfl) (fun t ht hw => ⟨v, rfl, rfl, by rw [ht]; exact hW, hS.F ht⟩) hS.2.2 d hlk)⟩
theorem x_lret {rr : (Int64 ⊕ Nat × Nat) × HP} (hX : okX V X rr cc own nL fr lo) {v : Int64} (hr : (xh X).sig.returnType = some .long) (d : decode cc pc = .ok (.lreturn, 1)) : jG V X (evX eL) rr (some (.inl v, h)) pc ls [.long v] h := by
  intro e
  cases e
  obtain ⟨⟨hx, hb, hml, hown, hts⟩, ⟨-, hV, hlk, -⟩, -⟩ := hX
  exact ⟨⟨Nat.le_refl _, Nat.le_refl _⟩, fun hn H locs la hl hW hS => vx_ret (W.lret hx hb hr (fun t ht hw => ⟨v, rfl, rfl, by rw [ht]; exact hW, hS.F ht⟩) hS.2.2 d hlk)⟩
theorem x_vret {rr : (Unit ⊕ Nat × Nat) × HP} (hX : okX V X rr cc own nL fr lo) (hr : (xh X).sig.returnType = none) (d : decode cc pc = .ok (.return_, 1)) : jG V X (evX eV) rr (some (.inl (), h)) pc ls [] h := by
  intro e
  cases e
  obtain ⟨⟨hx, hb, hml, hown, hts⟩, ⟨-, hV, hlk, -⟩, -⟩ := hX
  exact ⟨⟨Nat.le_refl _, Nat.le_refl _⟩, fun hn H locs la hl hW hS => vx_ret (W.vret hx hb hr (fun t ht hw => ⟨(), rfl, rfl, by rw [ht]; exact hW, hS.F ht⟩) hS.2.2 d hlk)⟩
theorem x_aret {rr : (Nat ⊕ Nat × Nat) × HP} (hX : okX V X rr cc own nL fr lo) {a : Nat} {rt : FieldType} (hrt : (∃ n, rt = .object n) ∨ ∃ t, rt = .array t) (hr : (xh X).sig.returnType = some rt) (d : decode cc pc = .ok (.areturn, 1)) : jG V X (evX eR) rr (some (.inl a, h)) pc ls [.ref (xz X + a)] h := by
  intro e
  cases e
  obtain ⟨⟨hx, hb, hml, hown, hts⟩, ⟨-, hV, hlk, -⟩, -⟩ := hX
  exact ⟨⟨Nat.le_refl _, Nat.le_refl _⟩, fun hn H locs la hl hW hS => vx_ret (W.aret hx hb hr hrt (Or.inr ⟨_, rfl⟩) (fun t ht hw => ⟨a, rfl, rfl, by rw [ht]; exact hW, hS.F ht⟩) hS.2.2 d hlk)⟩
variable {e1 : Nat → ρ → Option Value} {rr : (ρ ⊕ Nat × Nat) × HP}
/-- a Fault is thrown, and not caught here -/
theorem x_throwF (hX : okX V X rr cc own nL fr lo) {a : Nat} (hxt : ∀ x ∈ (xc X).exceptionTable.toList, False) (ht : (gT (V h) a).1 = 20) (d : decode cc pc = .ok (.athrow, 1)) : jG V X (evX e1) rr (some (.inr (1, a), h)) pc ls (.ref (xz X + a) :: st) h := by
  intro e
  cases e
  refine ⟨⟨Nat.le_refl _, Nat.le_refl _⟩, fun hn H locs la hl hW hS => ?_⟩
  obtain ⟨⟨hx, hb, hml, hown, hts⟩, ⟨⟨hK, -⟩, hV, hlk, -⟩, -⟩ := hX
  obtain ⟨c1, c0, -⟩ := ckX11
  obtain ⟨-, -, cell, g1, g2, g3, -⟩ := (hW.2.2 a).obj ht c0 c1
  refine vx_athrow hx hb d (vx_out (E := "AskedCourt$Fault") (fun x hh => (hxt x hh).elim) hlk g1 g3 (by rw [g2]; exact (hK.1 19 _ c1).2.1) (fun t hh hw => ⟨1, a, rfl, rfl, fun _ => rfl, by rw [hh]; exact hW, hS.F hh⟩) hS.2.2 (Nat.le_refl _) (Nat.le_refl _))
/-- a call that may throw: what it throws goes on -/
theorem x_callG {α : Type} {f : Option ((α ⊕ Nat × Nat) × HP)} {T : α → HP → Option ((ρ ⊕ Nat × Nat) × HP)} {e2 : Nat → α → Option Value} {y : MethodName} {f1 l1 : Nat} {rest st0 : List Value} {av : Nat → List Value} {ws : List Cond} (hX : okX V X rr cc own nL fr lo) (hxt : ∀ x ∈ (xc X).exceptionTable.toList, False) (hM : ∀ r, f = some r → CnX e2 V y ws f1 l1 av h r)
    (hrun : ∀ (mc ms cells slots : Nat) (Qc : Array Value → State → Outcome → State → Prop) (XC : Addr → String → State → State → Prop) (H : Heap) (locs : List Loc) (la : Array Slot), vx_Met (xl X) y ws { frames := f1, cells := mc, slots := ms, locals := l1 } (Pcn V (xD X) (xz X) (xO X) (av (xz X)) h) Qc XC mc ms (aA (xz X) (xO X)) → lv_has la (xc X).maxLocals ls → wD (xO X) (xD X) (xz X) (V h) H → (∀ U : State, U.heap = H → (xs X).WarmedH U.vm → Pcn V (xD X) (xz X) (xO X) (av (xz X)) h (av (xz X)).toArray U) → cells + mc ≤ (xR X).cells ∧ slots + ms ≤ (xR X).slots → vx_Run (xp X) (xl X) (xe X) (xR X) (xs X) (xm X) (xa X) (xb X) (xh X) (xc X) H locs cells slots mc ms (F0 (xm X) pc la st0) rest (Qc (av (xz X)).toArray) XC (aA (xz X) (xO X)))
    (kk : ∀ r h1, jG V X (evX e1) rr (T r h1) (pc + 3) ls ((e2 (xz X) r).toList ++ rest) h1) : jG V X (evX e1) rr (calx f T) pc ls st0 h := by
  intro e
  cases hf : f with
  | none => rw [hf] at e; cases e
  | some r =>
    obtain ⟨r, h1⟩ := r
    rw [hf] at e
    obtain ⟨⟨m1, m2⟩, hMet⟩ := hM _ hf
    dsimp only at m1 m2 hMet
    cases r with
    | inl r =>
      obtain ⟨⟨k1, k2⟩, k3⟩ := kk r h1 e
      refine ⟨⟨Nat.le_trans m1 k1, Nat.le_trans m2 k2⟩, fun hn0 H locs la hl hW hS => ?_⟩
      obtain ⟨-, ⟨hT, hV, hlk, hfl⟩, ⟨hR1, hR2, hR3, hR4⟩⟩ := hX
      have run := hrun _ _ (gN (V h) - xn X) (gS (V h) - xk X) _ _ H locs la (hMet (xl X) (xD X) (xz X) (xO X) hfl) hl hW (fun U hU hw => ⟨rfl, by rw [hU]; exact hW, by rw [hU]; exact (hT.kept hS.2.1).warm hw⟩) ⟨by rw [hR3]; omega, by rw [hR4]; omega⟩
      intro T0 hT0 X0
      rcases run T0 hT0 X0 with ⟨v, st₀, t, T', L, h0, X', hL, b1, b2, ⟨r2, hr2, hv, hW1, hF⟩, st1⟩ | ⟨q, st₀, t, T', L, E, ce, h0, X', hL, b1, b2, ⟨c9, a9, hbad, -⟩, -⟩
      · cases hr2
        cases hv
        obtain ⟨z1, z2, z3⟩ := vx_keep h0 b1 hS (fun q _ hq => hq) (fun q hq => hq) hL hF
        have q1 : gN (V h) - xn X + (gN (V h1) - gN (V h)) = gN (V h1) - xn X := by omega
        have q2 : gS (V h) - xk X + (gS (V h1) - gS (V h)) = gS (V h1) - xk X := by omega
        rw [q1, q2] at X'
        obtain ⟨t2, a1, b3⟩ := k3 ⟨by omega, by omega⟩ T'.heap (locs ++ L) la hl (by rw [b1]; exact hW1) z3 T' rfl X'
        exact ⟨t2, st1 t2 a1, b3⟩
      · cases hbad
    | inr x =>
      cases e
      refine ⟨⟨m1, m2⟩, fun hn0 H locs la hl hW hS => ?_⟩
      obtain ⟨-, ⟨hT, hV, hlk, hfl⟩, ⟨hR1, hR2, hR3, hR4⟩⟩ := hX
      dsimp only at hR3 hR4
      have run := hrun _ _ (gN (V h) - xn X) (gS (V h) - xk X) _ _ H locs la (hMet (xl X) (xD X) (xz X) (xO X) hfl) hl hW (fun U hU hw => ⟨rfl, by rw [hU]; exact hW, by rw [hU]; exact (hT.kept hS.2.1).warm hw⟩) ⟨by rw [hR3]; omega, by rw [hR4]; omega⟩
      intro T0 hT0 X0
      rcases run T0 hT0 X0 with ⟨v, st₀, t, T', L, h0, X', hL, b1, b2, ⟨r2, hr2, -⟩, -⟩ | ⟨q, st₀, t, T', L, E, ce, h0, X', hL, b1, b2, ⟨c9, a9, hc9, hE, hq9, hW1, hF⟩, hce, hcv, hcl, st1⟩
      · cases hr2
      · cases hc9
        obtain ⟨z1, z2, z3⟩ := vx_keep h0 b1 hS (fun q _ hq => hq) (fun q hq => hq) hL hF
        have q1 : gN (V h) - xn X + (gN (V h1) - gN (V h)) = gN (V h1) - xn X := by omega
        have q2 : gS (V h) - xk X + (gS (V h1) - gS (V h)) = gS (V h1) - xk X := by omega
        rw [q1, q2] at X'
        have out := vx_out (p := xp X) (l := xl X) (e := xe X) (R := xR X) (s := xs X) (m := xm X) (args := xa X) (below := xb X) (meth := xh X) (c := xc X) (H := T'.heap) (locs := locs ++ L) (ls := la) (rest := rest) (pc := pc) (cells := gN (V h1) - xn X) (slots := gS (V h1) - xk X) (mc := gN (V h1) - xn X) (ms := gS (V h1) - xk X) (E := E) (ce := ce) (q := q) (Qc := QcX e1 V (xD X) (xz X) (xO X) (.inr (c9, a9), h1)) (XC := XcX V (xD X) (xz X) (xO X) (((.inr (c9, a9) : ρ ⊕ Nat × Nat), h1))) (free := aA (xz X) (xO X)) (fun x hh => (hxt x hh).elim) hlk (by rw [b1]; exact hce) hcv hcl (fun t' hh hw => ⟨c9, a9, rfl, hE, hq9, by rw [hh, b1]; exact hW1, z3.F hh⟩) z3.2.2 (Nat.le_refl _) (Nat.le_refl _)
        obtain ⟨t2, a1, b3⟩ := out T' rfl X'
        exact ⟨t2, st1.trans a1, b3⟩
section XR2
variable {α : Type} {f : Option ((α ⊕ Nat × Nat) × HP)} {T : α → HP → Option ((ρ ⊕ Nat × Nat) × HP)} {e2 : Nat → α → Option Value} {x y : MethodName} {cd : ByteArray} {mL n f1 l1 index a ci : Nat} {ret : Option FieldType} {As : Nat → List Value} {rest st0 : List Value} {C : String} {U : u_T} {N : Nat} {host owner : String}
theorem x_callV (hX : okX V X rr cc own nL fr lo) (hxt : ∀ x ∈ (xc X).exceptionTable.toList, False) (hM : ∀ r, f = some r → CnX e2 V y (ws_ y cd mL ret) f1 l1 (fun z => .ref (z + a) :: As z) h r) (hy : y_ok y n) (wd : GoodIn lw_all (wsV own index C y (ws_ y cd mL ret))) (hC : y.cls = C) (hc : cls_ok ci C U N) (ht : (gT (V h) a).1 = ci + 1) (hr : f1 + 1 ≤ fr ∧ 8 + (mL + 11) + l1 ≤ lo) (hn : (As (xz X)).length = n) (hst : st0 = (As (xz X)).reverse ++ .ref (xz X + a) :: rest) (hw : (rest.map fun v => v.category).sum ≤ 8)
    (d : decode cc pc = .ok (.invokevirtual index, 3)) (kk : ∀ r h1, jG V X (evX e1) rr (T r h1) (pc + 3) ls ((e2 (xz X) r).toList ++ rest) h1) : jG V X (evX e1) rr (calx f T) pc ls st0 h := by
  refine x_callG hX hxt hM (fun mc ms cells slots Qc XC H locs la hMet hl hW hp hf => ?_) kk
  have ho := obj_at hX hc ht hW
  obtain ⟨⟨hx, hb, hml, hown, hts⟩, ⟨⟨hK, hNw, -⟩, hV, hlk, hfl⟩, ⟨hR1, hR2, hR3, hR4⟩⟩ := hX
  exact vx_runV (As := As (xz X)) (rest := rest) (b := xz X + a) (C := C) (Ts := lw_all) ⟨hx, hb, rfl, hown, hts⟩ hMet (cwV n hts wd rfl rfl rfl ⟨hC, hy.2⟩ ⟨by rw [hR1]; exact hr.1, by rw [hR2]; exact hr.2⟩) ⟨Pcn.blind, ho, hp⟩ rfl hn hl.1 hst (by show 2 * 0 + _ ≤ 8; omega) d hf
theorem x_callS (hX : okX V X rr cc own nL fr lo) (hxt : ∀ x ∈ (xc X).exceptionTable.toList, False) (hM : ∀ r, f = some r → CnX e2 V y (ws_ y cd mL ret) f1 l1 As h r) (hy : y_ok y n) (wd : GoodIn lw_all (va_wsS own index y (ws_ y cd mL ret))) (hr : f1 + 1 ≤ fr ∧ 8 + (mL + 11) + l1 ≤ lo) (hn : (As (xz X)).length = n) (hst : st0 = (As (xz X)).reverse ++ rest) (hw : (rest.map fun v => v.category).sum ≤ 8)
    (d : decode cc pc = .ok (.invokestatic index, 3)) (kk : ∀ r h1, jG V X (evX e1) rr (T r h1) (pc + 3) ls ((e2 (xz X) r).toList ++ rest) h1) : jG V X (evX e1) rr (calx f T) pc ls st0 h := by
  refine x_callG hX hxt hM (fun mc ms cells slots Qc XC H locs la hMet hl hW hp hf => ?_) kk
  obtain ⟨⟨hx, hb, hml, hown, hts⟩, ⟨⟨hK, hNw, -⟩, hV, hlk, hfl⟩, ⟨hR1, hR2, hR3, hR4⟩⟩ := hX
  exact vx_runS (As := As (xz X)) (rest := rest) (Ts := lw_all) ⟨hx, hb, rfl, hown, hts⟩ hMet (va_cwS n hts wd rfl rfl rfl hy.2 ⟨by rw [hR1]; exact hr.1, by rw [hR2]; exact hr.2⟩) ⟨Pcn.blind, hp⟩ rfl hn hl.1 hst (by show 2 * 0 + _ ≤ 8; omega) d hf
theorem x_callSN (hX : okX V X rr cc own nL fr lo) (hxt : ∀ x ∈ (xc X).exceptionTable.toList, False) (hM : ∀ r, f = some r → CnX e2 V y (ws_ y cd mL ret) f1 l1 As h r) (hy : y_ok y n) (q1 : (own, index, y, host) ∈ nM) (q2 : Cond.static y ∈ lw_all) (q4 : Cond.initialized y.cls ∈ lw_all) (q5 : Cond.code y cd mL ret ∈ lw_all) (hr : f1 + 1 ≤ fr ∧ 8 + (mL + 11) + l1 ≤ lo) (hn : (As (xz X)).length = n) (hst : st0 = (As (xz X)).reverse ++ rest) (hw : (rest.map fun v => v.category).sum ≤ 8)
    (d : decode cc pc = .ok (.invokestatic index, 3)) (kk : ∀ r h1, jG V X (evX e1) rr (T r h1) (pc + 3) ls ((e2 (xz X) r).toList ++ rest) h1) : jG V X (evX e1) rr (calx f T) pc ls st0 h := by
  refine x_callG hX hxt hM (fun mc ms cells slots Qc XC H locs la hMet hl hW hp hf => ?_) kk
  obtain ⟨⟨hx, hb, hml, hown, hts⟩, ⟨⟨hK, hNw, -⟩, hV, hlk, hfl⟩, ⟨hR1, hR2, hR3, hR4⟩⟩ := hX
  exact vx_runSN (As := As (xz X)) (rest := rest) (Ts := lw_all) ⟨hx, hb, rfl, hown, hts⟩ hMet ⟨va_cnB n hts (lw_meth q5) rfl rfl rfl (hNw.2.1 _ q1) (hts _ q4) hy.2 ⟨by rw [hR1]; exact hr.1, by rw [hR2]; exact hr.2⟩, hts _ q2, trivial⟩ ⟨Pcn.blind, hp⟩ rfl hn hl.1 hst (by show 2 * 0 + _ ≤ 8; omega) d hf
theorem x_callU (hX : okX V X rr cc own nL fr lo) (hxt : ∀ x ∈ (xc X).exceptionTable.toList, False) (hM : ∀ r, f = some r → CnX e2 V y (ws_ y cd mL ret) f1 l1 (fun z => .ref (z + a) :: As z) h r) (hy : y_ok ⟨owner, x.name, x.desc⟩ n) (q1 : Cond.methodLink own index x ∈ lw_all) (q2 : Cond.sameMethod x.cls owner x.name x.desc ∈ lw_all) (q3 : Cond.selects C x y ∈ lw_all) (q4 : Cond.instanceMethod y ∈ lw_all) (q5 : Cond.initialized y.cls ∈ lw_all) (q6 : Cond.code y cd mL ret ∈ lw_all) (hdecl : ∀ (a : Array Value) (s : State), (∀ w ∈ lw_all, w.before a s = true) → jN s → va_Decl s ⟨owner, x.name, x.desc⟩) (hc : cls_ok ci C U N) (ht : (gT (V h) a).1 = ci + 1) (hr : f1 + 1 ≤ fr ∧ 8 + (mL + 11) + l1 ≤ lo) (hn : (As (xz X)).length = n) (hst : st0 = (As (xz X)).reverse ++ .ref (xz X + a) :: rest) (hw : (rest.map fun v => v.category).sum ≤ 8)
    (d : decode cc pc = .ok (.invokevirtual index, 3)) (kk : ∀ r h1, jG V X (evX e1) rr (T r h1) (pc + 3) ls ((e2 (xz X) r).toList ++ rest) h1) : jG V X (evX e1) rr (calx f T) pc ls st0 h := by
  refine x_callG hX hxt hM (fun mc ms cells slots Qc XC H locs la hMet hl hW hp hf => ?_) kk
  have ho := obj_at hX hc ht hW
  obtain ⟨⟨hx, hb, hml, hown, hts⟩, ⟨⟨hK, hNw, -⟩, hV, hlk, hfl⟩, ⟨hR1, hR2, hR3, hR4⟩⟩ := hX
  have hcu : va_CU (xR X) (xs X) (xa X) own C owner index x y cd mL ret (ws_ y cd mL ret) { frames := f1, cells := mc, slots := ms, locals := l1 } mc ms n := by
    refine ⟨⟨rfl, rfl, by rw [hR1]; exact hr.1, by rw [hR2]; exact hr.2, pay_in hts (lw_meth q6), List.mem_cons_self⟩, hts _ q6, hts _ q5, ⟨hy.2.1, hy.2.2.1⟩, fun sig h => ?_, hts _ q1, hts _ q2, hdecl _ _ hts hNw, hts _ q3, hts _ q4⟩
    have h2 := hy.2.2.2
    rw [h] at h2
    exact (Option.some.inj h2).symm
  exact vx_runU (As := As (xz X)) (rest := rest) (b := xz X + a) (C := C) (Ts := lw_all) ⟨hx, hb, rfl, hown, hts⟩ hMet hcu ⟨Pcn.blind, ho, hp⟩ rfl hn hl.1 hst (by show 2 * 0 + _ ≤ 8; omega) d hf
end XR2
/-- a throwing method's contract out of its walk -/
theorem cnx_of {t : Option ((ρ ⊕ Nat × Nat) × HP)} {y : MethodName} {n : Nat} {ret : Option FieldType} {av : Nat → List Value} (ls : Nat → List (Nat × Value)) (hV : pV V) (mono : gN (V h) ≤ gN (V rr.2) ∧ gS (V h) ≤ gS (V rr.2)) (hy : y_ok y n) (hls : ∀ z, lv_args 0 (av z) = ls z) (hsz : ∀ z, (lg_sl (av z)).length ≤ nL)
    (k : ∀ X : CTX, okX V X rr cc y.cls nL fr lo → (xh X).sig.returnType = ret → (∀ x ∈ (xc X).exceptionTable.toList, False) → jG V X (evX e1) rr t 0 (ls (xz X)) [] h) (e : t = some rr) : CnX e1 V y (ws_ y cc nL ret) fr lo av h rr := by
  refine ⟨mono, fun l D z O hfl => ?_⟩
  refine vx_ofW (cc := cc) (maxL := nL) (ret := ret) hy.1 rfl ?_
  intro p e' s m args below meth c s₁ B hml hxt hv
  obtain ⟨rfl, hW, hK⟩ := hv
  have hts := atoms_spec (ws := ws_ y cc nL ret) B.pre
  have hts : ∀ w ∈ lw_all, w.before _ s = true := fun w h => hts w (List.mem_cons_of_mem _ h)
  have hown : s.vm.findClass y.cls = some m.cls := findClass_of_methodNamed B.named
  have G := k ((p, l, e', { frames := fr, cells := gN (V rr.2) - gN (V h), slots := gS (V rr.2) - gS (V h), locals := lo }, s), (m, (av z).toArray, below, meth, c), (D, z, O), (gN (V h), gS (V h))) ⟨⟨B.exec, B.bytes, hml, hown, hts⟩, ⟨hK, hV, B.notSynchronized, hfl⟩, ⟨rfl, rfl, rfl, rfl⟩⟩ B.returns hxt e
  have hl := lv_entry (av z) (n := nL) (hsz z)
  rw [lg_entry_eq]
  rw [hls z] at hl
  have G2 := G.2 ⟨Nat.le_refl _, Nat.le_refl _⟩ s.heap [] _ (by rw [show (xc ((p, l, e', { frames := fr, cells := gN (V rr.2) - gN (V h), slots := gS (V rr.2) - gS (V h), locals := lo }, s), (m, (av z).toArray, below, meth, c), (D, z, O), (gN (V h), gS (V h)))).maxLocals = nL from hml]; exact hl) hW va_S.rf
  have z1 : gN (V h) - xn ((p, l, e', { frames := fr, cells := gN (V rr.2) - gN (V h), slots := gS (V rr.2) - gS (V h), locals := lo }, s), (m, (av z).toArray, below, meth, c), (D, z, O), (gN (V h), gS (V h))) = 0 := Nat.sub_self _
  have z2 : gS (V h) - xk ((p, l, e', { frames := fr, cells := gN (V rr.2) - gN (V h), slots := gS (V rr.2) - gS (V h), locals := lo }, s), (m, (av z).toArray, below, meth, c), (D, z, O), (gN (V h), gS (V h))) = 0 := Nat.sub_self _
  rw [z1, z2] at G2
  exact G2
end XR
