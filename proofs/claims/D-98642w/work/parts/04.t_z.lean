/-! throwing the constant, catching, methods with handlers, calls of them -/
theorem mg_calx {ρ α : Type} {n s : Nat} {h : HP} {f : Option ((α ⊕ Nat × Nat) × HP)} {T : α → HP → Option ((ρ ⊕ Nat × Nat) × HP)} (hn : mN n s h) (hf : mG (gN h) (gS h) f) (kk : ∀ r h', mN n s h' → mG n s (T r h')) : mG n s (calx f T) := by
  cases f with
  | none => exact mg_none
  | some r =>
    obtain ⟨r, h1⟩ := r
    have h2 := hf _ rfl
    have h3 : mN n s h1 := ⟨Nat.le_trans hn.1 h2.1, Nat.le_trans hn.2 h2.2⟩
    cases r with
    | inl r => exact kk r h1 h3
    | inr x => exact mg_some h3
/-- a call that may throw c0 (caught here), and nothing else -/
def calk1 {α ρ : Type} (c0 : Nat) (f : Option ((α ⊕ Nat × Nat) × HP)) (T : α → HP → Option (ρ × HP)) (K : Nat → HP → Option (ρ × HP)) : Option (ρ × HP) := match f with
  | none => none
  | some (.inr x, h) => if x.1 = c0 then K x.2 h else none
  | some (.inl r, h) => T r h
theorem mg_calk1 {ρ α : Type} {n s c0 : Nat} {h : HP} {f : Option ((α ⊕ Nat × Nat) × HP)} {T : α → HP → Option (ρ × HP)} {K : Nat → HP → Option (ρ × HP)} (hn : mN n s h) (hf : mG (gN h) (gS h) f) (kk : ∀ r h', mN n s h' → mG n s (T r h')) (kx : ∀ a h', mN n s h' → mG n s (K a h')) : mG n s (calk1 c0 f T K) := by
  cases f with
  | none => exact mg_none
  | some r =>
    obtain ⟨r, h1⟩ := r
    have h2 := hf _ rfl
    have h3 : mN n s h1 := ⟨Nat.le_trans hn.1 h2.1, Nat.le_trans hn.2 h2.2⟩
    cases r with
    | inl r => exact kk r h1 h3
    | inr x => exact mg_ite (kx x.2 h1 h3) mg_none
/-- the answer of a method that catches all -/
def unx {α : Type} (f : Option ((α ⊕ Nat × Nat) × HP)) : Option (α × HP) := match f with
  | some (.inl r, h) => some (r, h)
  | _ => none
theorem unx_some {α : Type} {f : Option ((α ⊕ Nat × Nat) × HP)} {r : α × HP} (e : unx f = some r) : f = some (.inl r.1, r.2) := by
  cases f with
  | none => cases e
  | some q =>
    obtain ⟨q, h⟩ := q
    cases q with
    | inl a => cases e; rfl
    | inr x => cases e
theorem mg_unx {α : Type} {n s : Nat} {f : Option ((α ⊕ Nat × Nat) × HP)} (hf : mG n s f) : mG n s (unx f) := fun r e => hf _ (unx_some e)
section XT
variable {V : HP → HP} {ρ : Type} {X : CTX} {cc : ByteArray} {own : String} {nL fr lo : Nat} {pc : Nat} {ls : List (Nat × Value)} {st : List Value} {h : HP}
variable {e1 : Nat → ρ → Option Value} {rr : (ρ ⊕ Nat × Nat) × HP}
theorem x_thrT (hX : okX V X rr cc own nL fr lo) (hxt : ∀ x ∈ (xc X).exceptionTable.toList, False) {q : Nat} {cell : Cell} (hc : (xs X).heap[q]? = some cell) (hv : cell.vm = .none) (hcl : (xs X).vm.findClass "AskedCourt$Trouble" = some cell.cls) (hA : ¬ aA (xz X) (xO X) q) (d : decode cc pc = .ok (.athrow, 1)) : jG V X (evX e1) rr (some (.inr (2, 0), h)) pc ls (.ref q :: st) h := by
  intro e
  cases e
  refine ⟨⟨Nat.le_refl _, Nat.le_refl _⟩, fun hn H locs la hl hW hS => ?_⟩
  obtain ⟨⟨hx, hb, hml, hown, hts⟩, ⟨⟨hK, -⟩, hV, hlk, -⟩, -⟩ := hX
  have hc' : H[q]? = some cell := by rw [hS.2.1 q (Array.getElem?_eq_some_iff.mp hc).1 hA]; exact hc
  exact vx_athrow hx hb d (vx_out (E := "AskedCourt$Trouble") (fun x hh => (hxt x hh).elim) hlk hc' hv hcl (fun t hh hw => ⟨2, 0, rfl, rfl, fun h => absurd h (by decide), by rw [hh]; exact hW, hS.F hh⟩) hS.2.2 (Nat.le_refl _) (Nat.le_refl _))
theorem x_throwT (hX : okX V X rr cc own nL fr lo) (hxt : ∀ x ∈ (xc X).exceptionTable.toList, False) {index : Nat} (q : Cond.fieldLink own index "AskedCourt" "TROUBLE" "LAskedCourt$Trouble;" ∈ lw_all) (d : decode cc pc = .ok (.getstatic index, 3)) (d2 : decode cc (pc + 3) = .ok (.athrow, 1)) : jG V X (evX e1) rr (some (.inr (2, 0), h)) pc ls st h := by
  obtain ⟨t, cell, h1, h2, h3, h4, h5⟩ := hX.2.1.1.2.2.1
  exact j_gets hX h1 q d (x_thrT hX hxt h2 h3 h4 h5 d2)
theorem x_throwTN (hX : okX V X rr cc own nL fr lo) (hxt : ∀ x ∈ (xc X).exceptionTable.toList, False) {index : Nat} {host : String} (q : (own, index, "AskedCourt", "TROUBLE", "LAskedCourt$Trouble;", host) ∈ nF) (d : decode cc pc = .ok (.getstatic index, 3)) (d2 : decode cc (pc + 3) = .ok (.athrow, 1)) : jG V X (evX e1) rr (some (.inr (2, 0), h)) pc ls st h := by
  obtain ⟨t, cell, h1, h2, h3, h4, h5⟩ := hX.2.1.1.2.2.1
  exact j_getsN hX h1 q d (x_thrT hX hxt h2 h3 h4 h5 d2)
/-- dispatch: one of several callees -/
theorem x_callD {α : Type} {e2 : Nat → α → Option Value} {f : Option ((α ⊕ Nat × Nat) × HP)} {T : α → HP → Option ((ρ ⊕ Nat × Nat) × HP)} {rest st0 : List Value} (kk : ∀ r h1, jG V X (evX e1) rr (T r h1) (pc + 3) ls ((e2 (xz X) r).toList ++ rest) h1) (k : (∀ r h1, jG V X (evX e1) rr (T r h1) (pc + 3) ls ((e2 (xz X) r).toList ++ rest) h1) → jG V X (evX e1) rr (calx f T) pc ls st0 h) : jG V X (evX e1) rr (calx f T) pc ls st0 h := k kk
theorem x_calIf {α : Type} {c : Prop} [Decidable c] {f g : Option ((α ⊕ Nat × Nat) × HP)} {T : α → HP → Option ((ρ ⊕ Nat × Nat) × HP)} (ka : c → jG V X (evX e1) rr (calx f T) pc ls st h) (kb : ¬ c → jG V X (evX e1) rr (calx g T) pc ls st h) : jG V X (evX e1) rr (calx (if c then f else g) T) pc ls st h := by
  by_cases hc : c
  · rw [if_pos hc]; exact ka hc
  · rw [if_neg hc]; exact kb hc
theorem x_calN {α : Type} {T : α → HP → Option ((ρ ⊕ Nat × Nat) × HP)} : jG V X (evX e1) rr (calx none T) pc ls st h := fun e => by cases e
/-- a method's contract out of its walk, with handlers -/
theorem cnh_of {t : Option ((ρ ⊕ Nat × Nat) × HP)} {y : MethodName} {n : Nat} {ret : Option FieldType} {hh : List (Nat × Nat × Nat × Nat)} {av : Nat → List Value} (ls : Nat → List (Nat × Value)) (hV : pV V) (mono : gN (V h) ≤ gN (V rr.2) ∧ gS (V h) ≤ gS (V rr.2)) (hy : y_ok y n) (hls : ∀ z, lv_args 0 (av z) = ls z) (hsz : ∀ z, (lg_sl (av z)).length ≤ nL)
    (k : ∀ X : CTX, okX V X rr cc y.cls nL fr lo → (xh X).sig.returnType = ret → (xc X).exceptionTable.toList = tableOf hh → jG V X (evX e1) rr t 0 (ls (xz X)) [] h) (e : t = some rr) : CnX e1 V y (wsW_ y cc nL ret hh) fr lo av h rr := by
  refine ⟨mono, fun l D z O hfl => ?_⟩
  refine vx_ofWH (cc := cc) (maxL := nL) (ret := ret) (hh := hh) hy.1 rfl ?_
  intro p e' s m args below meth c s₁ B hml hv
  obtain ⟨rfl, hW, hK⟩ := hv
  have hts0 := atoms_spec (ws := wsW_ y cc nL ret hh) B.pre
  have hts : ∀ w ∈ lw_all, w.before _ s = true := fun w h => hts0 w (List.mem_cons_of_mem _ h)
  have htab := vx_table (x := y) B (hts0 _ List.mem_cons_self)
  have hown : s.vm.findClass y.cls = some m.cls := findClass_of_methodNamed B.named
  have G := k ((p, l, e', { frames := fr, cells := gN (V rr.2) - gN (V h), slots := gS (V rr.2) - gS (V h), locals := lo }, s), (m, (av z).toArray, below, meth, c), (D, z, O), (gN (V h), gS (V h))) ⟨⟨B.exec, B.bytes, hml, hown, hts⟩, ⟨hK, hV, B.notSynchronized, hfl⟩, ⟨rfl, rfl, rfl, rfl⟩⟩ B.returns htab e
  have hl := lv_entry (av z) (n := nL) (hsz z)
  rw [lg_entry_eq]
  rw [hls z] at hl
  have G2 := G.2 ⟨Nat.le_refl _, Nat.le_refl _⟩ s.heap [] _ (by rw [show (xc ((p, l, e', { frames := fr, cells := gN (V rr.2) - gN (V h), slots := gS (V rr.2) - gS (V h), locals := lo }, s), (m, (av z).toArray, below, meth, c), (D, z, O), (gN (V h), gS (V h)))).maxLocals = nL from hml]; exact hl) hW va_S.rf
  have z1 : gN (V h) - xn ((p, l, e', { frames := fr, cells := gN (V rr.2) - gN (V h), slots := gS (V rr.2) - gS (V h), locals := lo }, s), (m, (av z).toArray, below, meth, c), (D, z, O), (gN (V h), gS (V h))) = 0 := Nat.sub_self _
  have z2 : gS (V h) - xk ((p, l, e', { frames := fr, cells := gN (V rr.2) - gN (V h), slots := gS (V rr.2) - gS (V h), locals := lo }, s), (m, (av z).toArray, below, meth, c), (D, z, O), (gN (V h), gS (V h))) = 0 := Nat.sub_self _
  rw [z1, z2] at G2
  exact G2
end XT
section XH
variable {V : HP → HP} {ρ : Type} {X : CTX} {ev : (HP → HP) → CTX → ρ × HP → State → Prop} {rr : ρ × HP} {cc : ByteArray} {own : String} {nL fr lo : Nat} {t : Option (ρ × HP)} {pc : Nat} {ls : List (Nat × Value)} {st : List Value} {h : HP}
variable {α : Type} {e2 : Nat → α → Option Value} {x y : MethodName} {cd : ByteArray} {mL n f1 l1 index a ci : Nat} {ret : Option FieldType} {hh : List (Nat × Nat × Nat × Nat)} {As : Nat → List Value} {rest st0 : List Value} {C : String} {U : u_T} {N : Nat} {host owner : String}
/-- how a call is run that may throw -/
def xrun (V : HP → HP) (X : CTX) (y : MethodName) (ws : List Cond) (f1 l1 : Nat) (av : Nat → List Value) (h : HP) (pc : Nat) (ls : List (Nat × Value)) (st0 rest : List Value) : Prop :=
  ∀ (mc ms cells slots : Nat) (Qc : Array Value → State → Outcome → State → Prop) (XC : Addr → String → State → State → Prop) (H : Heap) (locs : List Loc) (la : Array Slot), vx_Met (xl X) y ws { frames := f1, cells := mc, slots := ms, locals := l1 } (Pcn V (xD X) (xz X) (xO X) (av (xz X)) h) Qc XC mc ms (aA (xz X) (xO X)) → lv_has la (xc X).maxLocals ls → wD (xO X) (xD X) (xz X) (V h) H → (∀ U : State, U.heap = H → (xs X).WarmedH U.vm → Pcn V (xD X) (xz X) (xO X) (av (xz X)) h (av (xz X)).toArray U) → cells + mc ≤ (xR X).cells ∧ slots + ms ≤ (xR X).slots → vx_Run (xp X) (xl X) (xe X) (xR X) (xs X) (xm X) (xa X) (xb X) (xh X) (xc X) H locs cells slots mc ms (F0 (xm X) pc la st0) rest (Qc (av (xz X)).toArray) XC (aA (xz X) (xO X))
/-- a call of a method with handlers that comes back -/
theorem h_callG {f : Option (α × HP)} {T : α → HP → Option (ρ × HP)} {av : Nat → List Value} {ws : List Cond} (hX : okX V X rr cc own nL fr lo) (hM : ∀ r, f = some r → CnX e2 V y ws f1 l1 av h (.inl r.1, r.2)) (hrun : xrun V X y ws f1 l1 av h pc ls st0 rest)
    (kk : ∀ r h1, jG V X ev rr (T r h1) (pc + 3) ls ((e2 (xz X) r).toList ++ rest) h1) : jG V X ev rr (cal f T) pc ls st0 h := by
  intro e
  cases hf : f with
  | none => rw [hf] at e; cases e
  | some r =>
    obtain ⟨r, h1⟩ := r
    rw [hf] at e
    obtain ⟨⟨m1, m2⟩, hMet⟩ := hM _ hf
    dsimp only at m1 m2 hMet
    obtain ⟨⟨k1, k2⟩, k3⟩ := kk r h1 e
    refine ⟨⟨Nat.le_trans m1 k1, Nat.le_trans m2 k2⟩, fun hn0 H locs la hl hW hS => ?_⟩
    obtain ⟨-, ⟨hT, hV, hlk, hfl⟩, ⟨hR1, hR2, hR3, hR4⟩⟩ := hX
    have run := hrun _ _ (gN (V h) - xn X) (gS (V h) - xk X) _ _ H locs la (hMet (xl X) (xD X) (xz X) (xO X) hfl) hl hW (fun U hU hw => ⟨rfl, by rw [hU]; exact hW, by rw [hU]; exact (hT.kept hS.2.1).warm hw⟩) ⟨by rw [hR3]; omega, by rw [hR4]; omega⟩
    intro T0 hT0 X0
    rcases run T0 hT0 X0 with ⟨v, st₀, t, T', L, h0, X', hL, b1, b2, ⟨r2, hr2, hv, hW1, hF⟩, st1⟩ | ⟨q, st₀, t, T', L, E, ce, h0, X', hL, b1, b2, ⟨c9, a9, hbad, -⟩, -⟩
    · cases hr2
      cases hv
      obtain ⟨z1, z2, z3⟩ := vx_keep h0 b1 hS (fun q _ hq => hq) (fun q hq => hq) hL hF
      have q1 : gN (V h) - xn X + (gN (V h1) - gN (V h)) = gN (V h1) - xn X := by omega
      have q2 : gS (V h) - xk X + (gS (V h1) - gS (V h)) = gS (V h1) - xk X := by omega
      rw [q1, q2] at X'
      obtain ⟨t2, a1, b3⟩ := k3 ⟨by omega, by omega⟩ T'.heap (locs ++ L) la hl (by rw [b1]; exact hW1) z3 T' rfl X'
      exact ⟨t2, st1 t2 a1, b3⟩
    · cases hbad
/-- what is thrown in the range of the table's only row, and is of its class, is caught -/
theorem h_catG {f : Option ((α ⊕ Nat × Nat) × HP)} {T : α → HP → Option (ρ × HP)} {K : Nat → HP → Option (ρ × HP)} {c0 s0 e0 hpc ct : Nat} {av : Nat → List Value} {ws : List Cond} (hX : okX V X rr cc own nL fr lo) (htab : (xc X).exceptionTable.toList = tableOf [(s0, e0, hpc, ct)]) (hcov : covers ⟨s0, e0, hpc, ct⟩ pc = true) (h0 : ct ≠ 0) (hlk0 : Cond.classLink own ct (exN c0) ∈ lw_all) (hcast : (exN c0, exN c0) ∈ nC) (hM : ∀ r, f = some r → CnX e2 V y ws f1 l1 av h r) (hrun : xrun V X y ws f1 l1 av h pc ls st0 rest)
    (kk : ∀ r h1, jG V X ev rr (T r h1) (pc + 3) ls ((e2 (xz X) r).toList ++ rest) h1) (kx : ∀ (a : Nat) (h1 : HP) (q : Nat), (c0 = 1 → q = xz X + a) → jG V X ev rr (K a h1) hpc ls [.ref q] h1) : jG V X ev rr (calk1 c0 f T K) pc ls st0 h := by
  intro e
  cases hf : f with
  | none => rw [hf] at e; cases e
  | some r =>
    obtain ⟨r, h1⟩ := r
    rw [hf] at e
    obtain ⟨⟨m1, m2⟩, hMet⟩ := hM _ hf
    dsimp only at m1 m2 hMet
    cases r with
    | inl r =>
      obtain ⟨⟨k1, k2⟩, k3⟩ := kk r h1 e
      refine ⟨⟨Nat.le_trans m1 k1, Nat.le_trans m2 k2⟩, fun hn0 H locs la hl hW hS => ?_⟩
      obtain ⟨-, ⟨hT, hV, hlk, hfl⟩, ⟨hR1, hR2, hR3, hR4⟩⟩ := hX
      have run := hrun _ _ (gN (V h) - xn X) (gS (V h) - xk X) _ _ H locs la (hMet (xl X) (xD X) (xz X) (xO X) hfl) hl hW (fun U hU hw => ⟨rfl, by rw [hU]; exact hW, by rw [hU]; exact (hT.kept hS.2.1).warm hw⟩) ⟨by rw [hR3]; omega, by rw [hR4]; omega⟩
      intro T0 hT0 X0
      rcases run T0 hT0 X0 with ⟨v, st₀, t, T', L, h0, X', hL, b1, b2, ⟨r2, hr2, hv, hW1, hF⟩, st1⟩ | ⟨q, st₀, t, T', L, E, ce, h0, X', hL, b1, b2, ⟨c9, a9, hbad, -⟩, -⟩
      · cases hr2
        cases hv
        obtain ⟨z1, z2, z3⟩ := vx_keep h0 b1 hS (fun q _ hq => hq) (fun q hq => hq) hL hF
        have q1 : gN (V h) - xn X + (gN (V h1) - gN (V h)) = gN (V h1) - xn X := by omega
        have q2 : gS (V h) - xk X + (gS (V h1) - gS (V h)) = gS (V h1) - xk X := by omega
        rw [q1, q2] at X'
        obtain ⟨t2, a1, b3⟩ := k3 ⟨by omega, by omega⟩ T'.heap (locs ++ L) la hl (by rw [b1]; exact hW1) z3 T' rfl X'
        exact ⟨t2, st1 t2 a1, b3⟩
      · cases hbad
    | inr x =>
      obtain ⟨c9, a9⟩ := x
      have e3 : (if c9 = c0 then K a9 h1 else none) = some rr := e
      by_cases hc : c9 = c0
      · rw [if_pos hc] at e3
        subst hc
        obtain ⟨⟨k1, k2⟩, -⟩ := kx a9 h1 (xz X + a9) (fun _ => rfl) e3
        refine ⟨⟨Nat.le_trans m1 k1, Nat.le_trans m2 k2⟩, fun hn0 H locs la hl hW hS => ?_⟩
        obtain ⟨⟨hx, hb, hml, hown, hts⟩, ⟨hT, hV, hlk, hfl⟩, ⟨hR1, hR2, hR3, hR4⟩⟩ := hX
        have run := hrun _ _ (gN (V h) - xn X) (gS (V h) - xk X) _ _ H locs la (hMet (xl X) (xD X) (xz X) (xO X) hfl) hl hW (fun U hU hw => ⟨rfl, by rw [hU]; exact hW, by rw [hU]; exact (hT.kept hS.2.1).warm hw⟩) ⟨by rw [hR3]; omega, by rw [hR4]; omega⟩
        intro T0 hT0 X0
        rcases run T0 hT0 X0 with ⟨v, st₀, t, T', L, h0, X', hL, b1, b2, ⟨r2, hr2, -⟩, -⟩ | ⟨q, st₀, t, T', L, E, ce, h0', X', hL, b1, b2, ⟨c8, a8, hc8, hE, hq8, hW1, hF⟩, hce, hcv, hcl, st1⟩
        · cases hr2
        · cases hc8
          obtain ⟨z1, z2, z3⟩ := vx_keep h0' b1 hS (fun q _ hq => hq) (fun q hq => hq) hL hF
          have q1 : gN (V h) - xn X + (gN (V h1) - gN (V h)) = gN (V h1) - xn X := by omega
          have q2 : gS (V h) - xk X + (gS (V h1) - gS (V h)) = gS (V h1) - xk X := by omega
          rw [q1, q2] at X'
          have go := (kx a9 h1 q hq8 e3).2 ⟨by omega, by omega⟩ T'.heap (locs ++ L) la hl (by rw [b1]; exact hW1) z3
          have out := vx_catch (p := xp X) (l := xl X) (e := xe X) (R := xR X) (s := xs X) (m := xm X) (args := xa X) (below := xb X) (meth := xh X) (c := xc X) (H := T'.heap) (locs := locs ++ L) (ls := la) (rest := rest) (pc := pc) (own := own) (name := exN c9) (E := E) (ce := ce) (q := q) hown [] ⟨s0, e0, hpc, ct⟩ [] htab (fun z hz => nomatch hz) hcov h0 (hts _ hlk0) (by rw [hE]; exact va_Nw.use rfl (hT.2.1.2.2.1 _ hcast)) (by rw [b1]; exact hce) hcv hcl go
          obtain ⟨t2, a1, b3⟩ := out T' rfl X'
          exact ⟨t2, st1.trans a1, b3⟩
      · rw [if_neg hc] at e3; cases e3
/-- ways to run -/
theorem xr_VW (hX : okX V X rr cc own nL fr lo) (hy : y_ok y n) (q1 : Cond.methodLink own index y ∈ lw_all) (q2 : Cond.instanceMethod y ∈ lw_all) (q3 : Cond.selects C y y ∈ lw_all) (q4 : Cond.initialized C ∈ lw_all) (q5 : Cond.codeWith y cd mL ret hh ∈ lw_all) (hC : y.cls = C) (hc : cls_ok ci C U N) (ht : (gT (V h) a).1 = ci + 1) (hr : f1 + 1 ≤ fr ∧ 8 + (mL + 11) + l1 ≤ lo) (hn : (As (xz X)).length = n) (hst : st0 = (As (xz X)).reverse ++ .ref (xz X + a) :: rest) (hw : (rest.map fun v => v.category).sum ≤ 8) (d : decode cc pc = .ok (.invokevirtual index, 3)) : xrun V X y (wsW_ y cd mL ret hh) f1 l1 (fun z => .ref (z + a) :: As z) h pc ls st0 rest := by
  intro mc ms cells slots Qc XC H locs la hMet hl hW hp hf
  have ho := obj_at hX hc ht hW
  obtain ⟨⟨hx, hb, hml, hown, hts⟩, ⟨⟨hK, hNw, -⟩, hV, hlk, hfl⟩, ⟨hR1, hR2, hR3, hR4⟩⟩ := hX
  exact vx_runVX (hh := hh) (As := As (xz X)) (rest := rest) (b := xz X + a) (C := C) (Ts := lw_all) ⟨hx, hb, rfl, hown, hts⟩ hMet (vx_cwVW n hts (lw_VW q1 q2 q3 q4 q5) rfl rfl rfl ⟨hC, hy.2⟩ ⟨by rw [hR1]; exact hr.1, by rw [hR2]; exact hr.2⟩) ⟨Pcn.blind, ho, hp⟩ rfl hn hl.1 hst (by show 2 * 0 + _ ≤ 8; omega) d hf
theorem xr_V (hX : okX V X rr cc own nL fr lo) (hy : y_ok y n) (wd : GoodIn lw_all (wsV own index C y (ws_ y cd mL ret))) (hC : y.cls = C) (hc : cls_ok ci C U N) (ht : (gT (V h) a).1 = ci + 1) (hr : f1 + 1 ≤ fr ∧ 8 + (mL + 11) + l1 ≤ lo) (hn : (As (xz X)).length = n) (hst : st0 = (As (xz X)).reverse ++ .ref (xz X + a) :: rest) (hw : (rest.map fun v => v.category).sum ≤ 8) (d : decode cc pc = .ok (.invokevirtual index, 3)) : xrun V X y (ws_ y cd mL ret) f1 l1 (fun z => .ref (z + a) :: As z) h pc ls st0 rest := by
  intro mc ms cells slots Qc XC H locs la hMet hl hW hp hf
  have ho := obj_at hX hc ht hW
  obtain ⟨⟨hx, hb, hml, hown, hts⟩, ⟨⟨hK, hNw, -⟩, hV, hlk, hfl⟩, ⟨hR1, hR2, hR3, hR4⟩⟩ := hX
  exact vx_runV (As := As (xz X)) (rest := rest) (b := xz X + a) (C := C) (Ts := lw_all) ⟨hx, hb, rfl, hown, hts⟩ hMet (cwV n hts wd rfl rfl rfl ⟨hC, hy.2⟩ ⟨by rw [hR1]; exact hr.1, by rw [hR2]; exact hr.2⟩) ⟨Pcn.blind, ho, hp⟩ rfl hn hl.1 hst (by show 2 * 0 + _ ≤ 8; omega) d hf
theorem xr_U (hX : okX V X rr cc own nL fr lo) (hy : y_ok ⟨owner, x.name, x.desc⟩ n) (q1 : Cond.methodLink own index x ∈ lw_all) (q2 : Cond.sameMethod x.cls owner x.name x.desc ∈ lw_all) (q3 : Cond.selects C x y ∈ lw_all) (q4 : Cond.instanceMethod y ∈ lw_all) (q5 : Cond.initialized y.cls ∈ lw_all) (q6 : Cond.code y cd mL ret ∈ lw_all) (hdecl : ∀ (a : Array Value) (s : State), (∀ w ∈ lw_all, w.before a s = true) → jN s → va_Decl s ⟨owner, x.name, x.desc⟩) (hc : cls_ok ci C U N) (ht : (gT (V h) a).1 = ci + 1) (hr : f1 + 1 ≤ fr ∧ 8 + (mL + 11) + l1 ≤ lo) (hn : (As (xz X)).length = n) (hst : st0 = (As (xz X)).reverse ++ .ref (xz X + a) :: rest) (hw : (rest.map fun v => v.category).sum ≤ 8) (d : decode cc pc = .ok (.invokevirtual index, 3)) : xrun V X y (ws_ y cd mL ret) f1 l1 (fun z => .ref (z + a) :: As z) h pc ls st0 rest := by
  intro mc ms cells slots Qc XC H locs la hMet hl hW hp hf
  have ho := obj_at hX hc ht hW
  obtain ⟨⟨hx, hb, hml, hown, hts⟩, ⟨⟨hK, hNw, -⟩, hV, hlk, hfl⟩, ⟨hR1, hR2, hR3, hR4⟩⟩ := hX
  have hcu : va_CU (xR X) (xs X) (xa X) own C owner index x y cd mL ret (ws_ y cd mL ret) { frames := f1, cells := mc, slots := ms, locals := l1 } mc ms n := by
    refine ⟨⟨rfl, rfl, by rw [hR1]; exact hr.1, by rw [hR2]; exact hr.2, pay_in hts (lw_meth q6), List.mem_cons_self⟩, hts _ q6, hts _ q5, ⟨hy.2.1, hy.2.2.1⟩, fun sig h => ?_, hts _ q1, hts _ q2, hdecl _ _ hts hNw, hts _ q3, hts _ q4⟩
    have h2 := hy.2.2.2
    rw [h] at h2
    exact (Option.some.inj h2).symm
  exact vx_runU (As := As (xz X)) (rest := rest) (b := xz X + a) (C := C) (Ts := lw_all) ⟨hx, hb, rfl, hown, hts⟩ hMet hcu ⟨Pcn.blind, ho, hp⟩ rfl hn hl.1 hst (by show 2 * 0 + _ ≤ 8; omega) d hf
theorem xr_VWN (hX : okX V X rr cc own nL fr lo) (hy : y_ok y n) (q1 : (own, index, y, host) ∈ nM) (q2 : Cond.instanceMethod y ∈ lw_all) (q3 : Cond.selects C y y ∈ lw_all) (q4 : Cond.initialized y.cls ∈ lw_all) (q5 : Cond.codeWith y cd mL ret hh ∈ lw_all) (hc : cls_ok ci C U N) (ht : (gT (V h) a).1 = ci + 1) (hr : f1 + 1 ≤ fr ∧ 8 + (mL + 11) + l1 ≤ lo) (hn : (As (xz X)).length = n) (hst : st0 = (As (xz X)).reverse ++ .ref (xz X + a) :: rest) (hw : (rest.map fun v => v.category).sum ≤ 8) (d : decode cc pc = .ok (.invokevirtual index, 3)) : xrun V X y (wsW_ y cd mL ret hh) f1 l1 (fun z => .ref (z + a) :: As z) h pc ls st0 rest := by
  intro mc ms cells slots Qc XC H locs la hMet hl hW hp hf
  have ho := obj_at hX hc ht hW
  obtain ⟨⟨hx, hb, hml, hown, hts⟩, ⟨⟨hK, hNw, -⟩, hV, hlk, hfl⟩, ⟨hR1, hR2, hR3, hR4⟩⟩ := hX
  have hcu : vy_CVWN (xR X) (xs X) (xa X) own C host index y cd mL ret hh (wsW_ y cd mL ret hh) { frames := f1, cells := mc, slots := ms, locals := l1 } mc ms n := by
    refine ⟨⟨rfl, rfl, by rw [hR1]; exact hr.1, by rw [hR2]; exact hr.2, pay_in hts (lw_methW q5), List.mem_cons_self⟩, hts _ q5, hts _ q4, ⟨hy.2.1, hy.2.2.1⟩, fun sig h => ?_, va_Nw.use rfl (hNw.2.1 _ q1), hts _ q2, hts _ q3⟩
    have h2 := hy.2.2.2
    rw [h] at h2
    exact (Option.some.inj h2).symm
  exact vy_runVXN (hh := hh) (As := As (xz X)) (rest := rest) (b := xz X + a) (C := C) (Ts := lw_all) ⟨hx, hb, rfl, hown, hts⟩ hMet hcu ⟨Pcn.blind, ho, hp⟩ rfl hn hl.1 hst (by show 2 * 0 + _ ≤ 8; omega) d hf
end XH
