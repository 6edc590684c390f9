/-! calls that the kit has no row for: an inherited static method (Plain.bit is Kind.bit), super.m(..) of a method that the superclass inherits itself. Written after the library's own ways for its nearest kin (StandCalls, StandSuper, NestCalls37). -/
section SI
variable {Q : Unit → Pre} {E : CtlPost} {e : Env} {d : Bool} {acts : List Action} {s s₀ : State} {f : JFrame}
theorem si_cold {index ci n c : Nat} {m : MethodId} {dk ck : Class} {cf : ClassFile} {name desc : String} (hs : s.topJava?.isSome) (hp : e.platform.polymorphicOnlyByInvokevirtual = true) (hW : s₀.WarmedH s.vm) (hE : s₀.MethodEntryUp e s.vm f.method.cls index c m ci) (h1 : s₀.vm.classes[f.method.cls]? = some dk) (h2 : dk.cf = some cf)
    (h3 : cf.constantPool[index]? = some (if false then .interfaceMethodref ci n else .methodref ci n)) (h4 : cf.constantPool.nameAndType? n = some (name, desc)) (hck : s₀.vm.classes[c]? = some ck) (hnone : (ck.methods.any fun x => x.name == name && !x.isStatic && signaturePolymorphic ck x) = false) :
    wp (invokestatic.sem index) Q E e d acts (s.setTop f) ↔ wp (invokestatic.sem index) Q E e d acts ((s.setVm (s.vm.calledUp f.method.cls ci index c m)).setTop f) := by
  obtain ⟨hgc, hrc, hW1, hgm⟩ := hE.classFirst
  obtain ⟨k0, hk0, he0⟩ := hW.alike.2.2 _ _ h1
  obtain ⟨k2, hk2, he2⟩ := hE.warmed.alike.2.2 _ _ h1
  obtain ⟨c1, hc1, hec1⟩ := hW1.alike.2.2 _ _ hck
  obtain ⟨c2, hc2, hec2⟩ := hE.warmed.alike.2.2 _ _ hck
  have hb0 := memberRef_ask_via (e := e) hk0 (by rw [he0]; exact h2) h3 h4
  have hb2 := memberRef_ask_via (e := e) hk2 (by rw [he2]; exact h2) h3 h4
  have hn1 : (c1.methods.any fun x => x.name == name && !x.isStatic && signaturePolymorphic c1 x) = false := by rw [hec1]; exact hnone
  have hn2 : (c2.methods.any fun x => x.name == name && !x.isStatic && signaturePolymorphic c2 x) = false := by rw [hec2]; exact hnone
  have hs1 : (s.setVm (s.vm.noted f.method.cls ci (.cls c))).topJava?.isSome := hs
  have hs2 : (s.setVm (s.vm.calledUp f.method.cls ci index c m)).topJava?.isSome := hs
  have hL : ∀ {Q' : ClassId → Pre} {d' : Bool} {acts' : List Action}, wp (Jvm.resolveClassAt ci) Q' E e d' acts' (s.setTop f) ↔ Q' c d' acts' ((s.setVm (s.vm.noted f.method.cls ci (.cls c))).setTop f) := _root_.Jvm.W.resolveClassAt_links (t := s.setTop f) (State.method?_setTop f hs) hgc
  have hM : ∀ {Q' : MethodId → Pre} {d' : Bool} {acts' : List Action}, wp (Jvm.resolveMethodAt index) Q' E e d' acts' ((s.setVm (s.vm.noted f.method.cls ci (.cls c))).setTop f) ↔ Q' m d' acts' ((s.setVm (s.vm.calledUp f.method.cls ci index c m)).setTop f) := _root_.Jvm.W.resolveMethodAt_links (t := (s.setVm (s.vm.noted f.method.cls ci (.cls c))).setTop f) (State.method?_setTop f hs1) hgm
  simp [invokestatic.sem, hp, Seam.memberRefOf, State.method?_setTop f hs, State.method?_setTop f hs2, hb0, hb2, hL, _root_.Jvm.W.resolveClassAt_ready (s := (s.setVm (s.vm.calledUp f.method.cls ci index c m)).setTop f) (State.method?_setTop f hs2) hE.classReady, hc1, hc2, hn1, hn2, hM, _root_.Jvm.W.resolveMethodAt_ready (s := (s.setVm (s.vm.calledUp f.method.cls ci index c m)).setTop f) (State.method?_setTop f hs2) hE.ready, -Array.any_eq_true]
end SI
section SI2
variable {p : Program} {l : Launch} {e : Env} {R : Room} {s : State} {m : MethodId} {args : Array Value} {below : List Frame} {meth : Method} {c : Code} {T : State} {locs : List Loc} {cells slots : Nat}
theorem si_go (X : Stand p l e R s m args below meth c T locs cells slots) (hexec : p.tables.exec = Jvm.exec) {own owner : String} {index : Nat} {x : MethodName} (hown : s.vm.findClass own = some m.cls) (hlink : (Cond.methodLink own index x).before args s = true) (hsame : (Cond.sameMethod x.cls owner x.name x.desc).before args s = true) (howner : owner ≠ "java/lang/invoke/MethodHandle" ∧ owner ≠ "java/lang/invoke/VarHandle")
    {m' : MethodId} {meth' : Method} {k' : Class} (hn : s.methodNamed? ⟨owner, x.name, x.desc⟩ = some m') (hm' : s.vm.method? m' = some meth') (hstatic : meth'.isStatic = true) (hk' : s.vm.classes[m'.cls]? = some k') (hinit : k'.init = .initialized)
    {g : JFrame} (hg : g.method = m) {argsL rest : List Value} (hlen : argsL.length = meth'.sig.parameters.length) (hstack : g.stack = argsL.reverse ++ rest) (hdg : decode c.code g.pc = .ok (.invokestatic index, 3)) :
    ∃ vm', Stand p l e R s m args below meth c (T.setVm vm') locs cells slots ∧ ∀ target, (∀ acts, Steps p.tables e below (doInvoke e ((T.setVm vm').setTop { g with stack := rest }) acts m' argsL.toArray).1 target) → Steps p.tables e below (T.setTop g) target := by
  have hpl : e.platform.magicAccessors = ({} : Platform).magicAccessors := by rw [X.admits.platform]
  have hpv : e.platform.polymorphicOnlyByInvokevirtual = true := by rw [X.admits.platform]
  obtain ⟨cn, ck, r1, hcn, hck, hni, hf, hn1⟩ := Cond.sameMethod_found hsame
  cases hn.symm.trans hn1
  obtain ⟨ci, hl, hright⟩ := Cond.methodLink_specUp hown hcn hck hni hf hlink e.platform hpl (by rw [X.admits.platform])
  have hE : s.MethodEntryUp e T.vm m.cls index cn m' ci := State.methodEntryUp X.warmed hl hright
  obtain ⟨kx, hkx, hnx⟩ := className_of_methodNamed hn
  cases hk'.symm.trans hkx
  obtain ⟨dk, cfile, nt, mname, mdesc, ck', _, _, hd, hcf, hcp, hnt, -, -, hck', -, hnopoly, -⟩ := hl.here
  cases hck.symm.trans hck'
  have alike := hE.warmed.alike
  obtain ⟨dk2, hdk2, hed2⟩ := alike.2.2 _ _ hd
  obtain ⟨k2, hk2, he2⟩ := alike.2.2 _ _ hk'
  obtain ⟨ck2, hck2, hec2⟩ := alike.2.2 _ _ hck
  have hnone : (ck.methods.any fun y => y.name == mname && !y.isStatic && signaturePolymorphic ck y) = false := by simp [hnopoly]
  have hnone2 : (ck2.methods.any fun y => y.name == mname && !y.isStatic && signaturePolymorphic ck2 y) = false := by rw [hec2]; exact hnone
  have hcp2 : cfile.constantPool[index]? = some (if false then .interfaceMethodref ci nt else .methodref ci nt) := hcp
  refine ⟨T.vm.calledUp m.cls ci index cn m', X.noted hE.warmed, fun target hrest => ?_⟩
  subst hg
  jvm_step X.here [hexec, hdg, si_cold (e := e) (s := T) (s₀ := s) (f := g) X.here.top hpv X.warmed hE hd hcf hcp2 hnt hck hnone, invokestatic.wp_ready (e := e) (s := T.setVm (T.vm.calledUp g.method.cls ci index cn m')) (k := k2) (meth := meth') (m := m') (args := argsL) (rest := rest) (f := g) X.here.top ⟨ci, mname, mdesc, false, cn, ck2, memberRef_ask_via (e := e) hdk2 (by rw [hed2]; exact hcf) hcp2 hnt, hE.classReady, hck2, hnone2⟩ hE.ready hk2 (by show (T.vm.calledUp g.method.cls ci index cn m').method? m' = some meth'; rw [alike.method?]; exact hm') (by rw [he2]; show signaturePolymorphic k' meth' = false; simp [signaturePolymorphic, hnx, howner.1, howner.2]) hstatic (by rw [he2]; exact hinit) hlen hstack]
  exact fun acts => hrest _
end SI2
section SI3
variable {V : HP → HP} {ρ : Type} {X : CTX} {ev : (HP → HP) → CTX → ρ × HP → State → Prop} {rr : ρ × HP} {cc : ByteArray} {own : String} {nL fr lo : Nat} {t : Option (ρ × HP)} {pc : Nat} {ls : List (Nat × Value)} {st : List Value} {h : HP}
variable {α : Type} {f : Option (α × HP)} {T : α → HP → Option (ρ × HP)} {e1 : Nat → α → Option Value} {x : MethodName} {cd : ByteArray} {mL n f1 l1 index a ci : Nat} {ret : Option FieldType} {As : Nat → List Value} {rest st0 : List Value} {C : String} {U : u_T} {N : Nat} {owner : String}
theorem j_callSS (hX : okX V X rr cc own nL fr lo) (hM : ∀ r, f = some r → Cn V ⟨owner, x.name, x.desc⟩ (ws_ ⟨owner, x.name, x.desc⟩ cd mL ret) f1 l1 As h (fun z => e1 z r.1) r.2) (hy : y_ok ⟨owner, x.name, x.desc⟩ n) (q1 : Cond.methodLink own index x ∈ lw_all) (q2 : Cond.sameMethod x.cls owner x.name x.desc ∈ lw_all) (q3 : Cond.static ⟨owner, x.name, x.desc⟩ ∈ lw_all) (q4 : Cond.initialized owner ∈ lw_all) (q5 : Cond.code ⟨owner, x.name, x.desc⟩ cd mL ret ∈ lw_all) (hr : f1 + 1 ≤ fr ∧ 8 + (mL + 11) + l1 ≤ lo) (hn : (As (xz X)).length = n) (hst : st0 = (As (xz X)).reverse ++ rest) (hw : (rest.map fun v => v.category).sum ≤ 8)
    (d : decode cc pc = .ok (.invokestatic index, 3)) (kk : ∀ r h1, jG V X ev rr (T r h1) (pc + 3) ls ((e1 (xz X) r).toList ++ rest) h1) : jG V X ev rr (cal f T) pc ls st0 h := by
  refine j_callG hX hM (fun mc ms cells slots Qc H locs la hMet hl hW hp hf => ?_) kk
  obtain ⟨⟨hx, hb, hml, hown, hts⟩, ⟨⟨hK, hNw, -⟩, hV, hlk, hfl⟩, ⟨hR1, hR2, hR3, hR4⟩⟩ := hX
  have hK2 : Back (xl X) (xR X) (xp X) (xe X) (xb X) (xs X) (xa X) ⟨owner, x.name, x.desc⟩ 3 8 (PreOf (xR X) mc ms _) (PostOf Qc mc ms _) := back_of (bytes := cd) (maxL := mL) (ret := ret) hMet Pcn.blind rfl rfl (by rw [hR1]; exact hr.1) (by rw [hR2]; exact hr.2) (pay_in hts (lw_meth q5)) List.mem_cons_self (fun a' U hW => word_at hW (Or.inl (by first | rfl | simp [Cond.onTables, Cond.keeps, Cond.steady])) (hts _ q4))
  intro T0 hT0 X0
  obtain ⟨mk, hnamed⟩ := Cond.code_named (hts _ q5)
  obtain ⟨methM, cM, hmethM, -, -, -, -, -, -, hsigM⟩ := Cond.code_spec hnamed (hts _ q5)
  have hstatic : methM.isStatic = true := Cond.static_spec hnamed hmethM (hts _ q3)
  obtain ⟨kP, hkP, -⟩ := className_of_methodNamed hnamed
  have hinitP : kP.init = .initialized := Cond.initialized_spec (findClass_of_methodNamed hnamed) hkP (hts _ q4)
  have hlen : (As (xz X)).length = methM.sig.parameters.length := by
    have h2 := hy.2.2.2
    rw [hsigM] at h2
    exact hn.trans (Option.some.inj h2).symm
  obtain ⟨vm1, X1, hstep1⟩ := si_go X0 hx hown (hts _ q1) (hts _ q2) ⟨hy.2.1, hy.2.2.1⟩ hnamed hmethM hstatic hkP hinitP (g := F0 (xm X) pc la st0) rfl (argsL := As (xz X)) (rest := rest) hlen hst (by rw [hb]; exact d)
  obtain ⟨v, ⟨U', l2, c2, s2⟩, X', ⟨g', mk', t, L, b1, b2, hq, h1, hL, h2, h3⟩, hsteps⟩ := hK2 (xm X) (xh X) (xc X) ⟨T0.setVm vm1, locs, cells, slots⟩ { (F0 (xm X) pc la st0) with stack := rest } (.invokestatic index) mk (As (xz X)).toArray X1 rfl hl.1 (by rw [hb]; exact d) (by show 2 * 0 + (rest.map fun v => v.category).sum ≤ 8; omega) (X1.named hnamed) ⟨hf.1, hf.2, hp (T0.setVm vm1) hT0 X1.warmed⟩
  dsimp only [Pt.U, Pt.locs, Pt.cells, Pt.slots] at X' b1 b2 h1 h2 h3 hsteps
  subst h1; subst h2; subst h3
  exact ⟨v, (T0.setVm vm1).calling g' mk' (As (xz X)).toArray, t, U', L, hT0, X', hL, b1, b2, hq, fun target hh => hstep1 _ fun acts => by rw [doInvoke_state]; exact hsteps.trans hh⟩
/-- super.m(..): the superclass itself inherits m from its own superclass -/
theorem j_callSV2 (hX : okX V X rr cc own nL fr lo) (hM : ∀ r, f = some r → Cn V ⟨owner, x.name, x.desc⟩ (ws_ ⟨owner, x.name, x.desc⟩ cd mL ret) f1 l1 (fun z => .ref (z + a) :: As z) h (fun z => e1 z r.1) r.2) (hy : y_ok ⟨owner, x.name, x.desc⟩ n) (hni : x.name ≠ "<init>") (q1 : Cond.methodLink own index x ∈ lw_all) (q2 : Cond.sameMethod x.cls owner x.name x.desc ∈ lw_all) (q3 : Cond.superclass own x.cls ∈ lw_all) (q3b : Cond.superclass x.cls owner ∈ lw_all) (q4 : Cond.instanceMethod ⟨owner, x.name, x.desc⟩ ∈ lw_all) (q5 : Cond.initialized owner ∈ lw_all) (q6 : Cond.code ⟨owner, x.name, x.desc⟩ cd mL ret ∈ lw_all) (hc : cls_ok ci C U N) (ht : (gT (V h) a).1 = ci + 1) (hr : f1 + 1 ≤ fr ∧ 8 + (mL + 11) + l1 ≤ lo) (hn : (As (xz X)).length = n) (hst : st0 = (As (xz X)).reverse ++ .ref (xz X + a) :: rest) (hw : (rest.map fun v => v.category).sum ≤ 8)
    (d : decode cc pc = .ok (.invokespecial index, 3)) (kk : ∀ r h1, jG V X ev rr (T r h1) (pc + 3) ls ((e1 (xz X) r).toList ++ rest) h1) : jG V X ev rr (cal f T) pc ls st0 h := by
  refine j_callG hX hM (fun mc ms cells slots Qc H locs la hMet hl hW hp hf => ?_) kk
  obtain ⟨cellB, ho1, ho2, ho3⟩ := obj_at hX hc ht hW
  obtain ⟨⟨hx, hb, hml, hown, hts⟩, ⟨⟨hK, hNw, -⟩, hV, hlk, hfl⟩, ⟨hR1, hR2, hR3, hR4⟩⟩ := hX
  have hK2 : Back (xl X) (xR X) (xp X) (xe X) (xb X) (xs X) (xa X) ⟨owner, x.name, x.desc⟩ 3 8 (PreOf (xR X) mc ms _) (PostOf Qc mc ms _) := back_of (bytes := cd) (maxL := mL) (ret := ret) hMet Pcn.blind rfl rfl (by rw [hR1]; exact hr.1) (by rw [hR2]; exact hr.2) (pay_in hts (lw_meth q6)) List.mem_cons_self (fun a' U hW => word_at hW (Or.inl (by first | rfl | simp [Cond.onTables, Cond.keeps, Cond.steady])) (hts _ q5))
  have hat := (hK.1 ci _ hc.1).2
  obtain ⟨kB, hkB, -⟩ := hat.2
  have hcB : cellB.cls = (xD X).1 ci := Option.some.inj (ho3.symm.trans hat.1)
  intro T0 hT0 X0
  obtain ⟨mk, methM, hnamed, hmethM, hstM, habM⟩ := Cond.instanceMethod_spec (hts _ q4)
  obtain ⟨methM', cM, hmethM', -, -, -, -, -, -, hsigM⟩ := Cond.code_spec hnamed (hts _ q6)
  cases hmethM.symm.trans hmethM'
  obtain ⟨ps, dk, kp, hps, hdk, hkp, hsuper, -, -, hnid⟩ := Cond.superclass_spec hown (hts _ q3)
  obtain ⟨ps2, dk2, kp2, hps2, hdk2, hkp2, hsuper2, -, -, -⟩ := Cond.superclass_spec hps (hts _ q3b)
  have hpm : ps2 = mk.cls := Option.some.inj (hps2.symm.trans (findClass_of_methodNamed hnamed))
  have hsub : (xs X).vm.isSubclass ps mk.cls = true := by
    have hlt : ps < (xs X).vm.classes.size := (Array.getElem?_eq_some_iff.mp hdk2).1
    obtain ⟨z, hz⟩ : ∃ z, (xs X).vm.classes.size = z + 1 := ⟨(xs X).vm.classes.size.pred, (Nat.succ_pred_eq_of_pos (Nat.lt_of_le_of_lt (Nat.zero_le _) hlt)).symm⟩
    rw [← hpm]
    unfold Vm.isSubclass
    rw [hz]
    unfold Vm.isSubclassAux
    rw [hdk2]
    simp only [hsuper2]
    unfold Vm.isSubclassAux
    simp
  have hlen : (As (xz X)).length = methM.sig.parameters.length := by
    have h2 := hy.2.2.2
    rw [hsigM] at h2
    exact hn.trans (Option.some.inj h2).symm
  obtain ⟨vm1, X1, hstep1⟩ := X0.invokespecialUp hx hown (hts _ q1) (hts _ q2) hnamed hmethM hstM habM hni hdk hnid hps hsuper hsub (a := xz X + a) (cell := cellB) (by rw [hT0]; exact ho1) (fun z h => by rw [h] at ho2; cases ho2) (by rw [hcB]; exact hkB) (g := F0 (xm X) pc la st0) rfl (argsL := As (xz X)) (rest := rest) hlen hst (by rw [hb]; exact d)
  obtain ⟨v, ⟨U', l2, c2, s2⟩, X', ⟨g', mk', t, L, b1, b2, hq, h1, hL, h2, h3⟩, hsteps⟩ := hK2 (xm X) (xh X) (xc X) ⟨T0.setVm vm1, locs, cells, slots⟩ { (F0 (xm X) pc la st0) with stack := rest } (.invokespecial index) mk (Value.ref (xz X + a) :: As (xz X)).toArray X1 rfl hl.1 (by rw [hb]; exact d) (by show 2 * 0 + (rest.map fun v => v.category).sum ≤ 8; omega) (X1.named hnamed) ⟨hf.1, hf.2, hp (T0.setVm vm1) hT0 X1.warmed⟩
  dsimp only [Pt.U, Pt.locs, Pt.cells, Pt.slots] at X' b1 b2 h1 h2 h3 hsteps
  subst h1; subst h2; subst h3
  exact ⟨v, (T0.setVm vm1).calling g' mk' (Value.ref (xz X + a) :: As (xz X)).toArray, t, U', L, hT0, X', hL, b1, b2, hq, fun target hh => hstep1 _ (by rw [doInvoke_state]; exact hsteps.trans hh)⟩
end SI3
