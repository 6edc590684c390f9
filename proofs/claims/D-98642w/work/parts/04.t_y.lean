/-! statics, Strings that are constants, catching, methods with handlers -/
section JS
variable {V : HP → HP} {ρ : Type} {X : CTX} {ev : (HP → HP) → CTX → ρ × HP → State → Prop} {rr : ρ × HP} {cc : ByteArray} {own : String} {nL fr lo : Nat} {t : Option (ρ × HP)} {pc : Nat} {ls : List (Nat × Value)} {st : List Value} {h : HP}
theorem j_stepS {pc' : Nat} {st' : List Value} (hw : ∀ (H : Heap) (locs : List Loc) (la : Array Slot) (cells slots : Nat) (Q : State → Prop), lv_has la (xc X).maxLocals ls → va_S (aA (xz X) (xO X)) (xs X).heap H locs → W (xp X) (xl X) (xe X) (xR X) (xs X) (xm X) (xa X) (xb X) (xh X) (xc X) H locs cells slots Q (F0 (xm X) pc' la st') → W (xp X) (xl X) (xe X) (xR X) (xs X) (xm X) (xa X) (xb X) (xh X) (xc X) H locs cells slots Q (F0 (xm X) pc la st))
    (k : jG V X ev rr t pc' ls st' h) : jG V X ev rr t pc ls st h := by
  intro e
  obtain ⟨h1, h2⟩ := k e
  exact ⟨h1, fun hn H locs la hl hW hS => hw _ _ _ _ _ _ hl hS (h2 hn H locs la hl hW hS)⟩
theorem j_aloadN_n (hX : okX V X rr cc own nL fr lo) {i : Fin 4} (p : Nat) (hl : ls[p]? = some ((i : Nat), .null)) (d : decode cc pc = .ok (.aload_n i, 1)) (k : jG V X ev rr t (pc + 1) ls (.null :: st) h) : jG V X ev rr t pc ls st h := j_step (fun _ _ _ _ _ _ q w => lv_aload_nN hX.1.1 hX.1.2.1 d rfl (lv_at q p hl) w) k
theorem j_i2c (hX : okX V X rr cc own nL fr lo) {x : Int32} (d : decode cc pc = .ok (.i2c, 1)) (k : jG V X ev rr t (pc + 1) ls (.int (x.toUInt32 % 65536).toInt32 :: st) h) : jG V X ev rr t pc ls (.int x :: st) h := j_step (fun _ _ _ _ _ _ _ w => lv_i2c hX.1.1 hX.1.2.1 d rfl w) k
theorem j_gets (hX : okX V X rr cc own nL fr lo) {C n d' : String} {v : Value} {index : Nat} (hZ : va_Z C n d' v (aA (xz X) (xO X)) (xs X) (xs X).heap) (q : Cond.fieldLink own index C n d' ∈ lw_all) (d : decode cc pc = .ok (.getstatic index, 3)) (k : jG V X ev rr t (pc + 3) ls (v :: st) h) : jG V X ev rr t pc ls st h := j_stepS (fun _ _ _ _ _ _ _ hS w => va_gets hX.1.1 hX.1.2.1 hZ hS hX.1.2.2.2.1 (hX.1.2.2.2.2 _ q) (fun _ h => h) d w) k
theorem j_getsN (hX : okX V X rr cc own nL fr lo) {C n d' host : String} {v : Value} {index : Nat} (hZ : va_Z C n d' v (aA (xz X) (xO X)) (xs X) (xs X).heap) (q : (own, index, C, n, d', host) ∈ nF) (d : decode cc pc = .ok (.getstatic index, 3)) (k : jG V X ev rr t (pc + 3) ls (v :: st) h) : jG V X ev rr t pc ls st h := j_stepS (fun _ _ _ _ _ _ _ hS w => va_getsN hX.1.1 hX.1.2.1 hZ hS hX.1.2.2.2.1 (va_Nw.use rfl (hX.2.1.1.2.1.1 _ q)) (fun _ h => h) d w) k
theorem j_getsq (hX : okX V X rr cc own nL fr lo) {C n d' : String} {index : Nat} (hZ : va_Zq C n d' (aA (xz X) (xO X)) (xs X) (xs X).heap) (q : Cond.fieldLink own index C n d' ∈ lw_all) (d : decode cc pc = .ok (.getstatic index, 3)) (k : ∀ v : Value, (v = .null ∨ ∃ a : Nat, v = .ref a) → jG V X ev rr t (pc + 3) ls (v :: st) h) : jG V X ev rr t pc ls st h := by
  rcases hZ with hZ | ⟨a, hZ⟩
  · exact j_gets hX hZ q d (k _ (Or.inl rfl))
  · exact j_gets hX hZ q d (k _ (Or.inr ⟨a, rfl⟩))
theorem j_getsq2 (hX : okX V X rr cc own nL fr lo) {C n d' : String} {index : Nat} (hZ : va_Zq C n d' (aA (xz X) (xO X)) (xs X) (xs X).heap) (q : Cond.fieldLink own index C n d' ∈ lw_all) (d : decode cc pc = .ok (.getstatic index, 3)) (k : jG V X ev rr t (pc + 3) ls (.null :: st) h) (k2 : ∀ a : Nat, jG V X ev rr t (pc + 3) ls (.ref a :: st) h) : jG V X ev rr t pc ls st h := by
  rcases hZ with hZ | ⟨a, hZ⟩
  · exact j_gets hX hZ q d k
  · exact j_gets hX hZ q d (k2 a)
theorem jty19 {k : Nat} (h3 : ft 19 k = 3) : (∃ n, jty 19 k = .object n) ∨ ∃ n, jty 19 k = .array n := by
  by_cases h : k < 5
  · rcases (show k = 0 ∨ k = 1 ∨ k = 2 ∨ k = 3 ∨ k = 4 by omega) with rfl | rfl | rfl | rfl | rfl <;> first | exact Or.inl ⟨_, rfl⟩ | exact Or.inr ⟨_, rfl⟩
  · unfold ft at h3
    rw [if_pos rfl, if_neg h] at h3
    cases h3
/-- a reference or null into an inherited field of a Fault -/
theorem j_putQ (hX : okX V X rr cc own nL fr lo) {index k a : Nat} {v : Value} (hv : v = .null ∨ ∃ q : Nat, v = .ref q) (hf : fl_w own index 19 k) (h3 : ft 19 k = 3) (ht : (gT (V h) a).1 = 20) (d : decode cc pc = .ok (.putfield index, 3)) (kk : jG V X ev rr t (pc + 3) ls st h) : jG V X ev rr t pc ls (v :: .ref (xz X + a) :: st) h := by
  refine j_put3 hX hf h3 ht ?_ ?_ d kk
  · rcases jty19 h3 with ⟨n, e⟩ | ⟨n, e⟩ <;> rw [e] <;> rcases hv with rfl | ⟨q, rfl⟩ <;> rfl
  · rcases jty19 h3 with ⟨n, e⟩ | ⟨n, e⟩ <;> rw [e] <;> rcases hv with rfl | ⟨q, rfl⟩ <;> rfl
theorem j_bret (hX : okX V X rr cc own nL fr lo) {rr : Int32 × HP} {v : Int32} (hB : v.toInt8.toInt32 = v) (hr : (xh X).sig.returnType = some .byte) (d : decode cc pc = .ok (.ireturn, 1)) : jG V X evI rr (some (v, h)) pc ls [.int v] h := by
  intro e
  cases e
  obtain ⟨⟨hx, hb, hml, hown, hts⟩, ⟨⟨hK, -⟩, hV, hlk, -⟩, -⟩ := hX
  exact ⟨⟨Nat.le_refl _, Nat.le_refl _⟩, fun hn H locs la hl hW hS => W.zret hx hb hr (by show Value.int _ = Value.int _; rw [hB]) (fun t ht hw => ⟨rfl, by rw [ht]; exact hW, hS.F ht⟩) hS.2.2 d hlk⟩
theorem j_cret (hX : okX V X rr cc own nL fr lo) {rr : Int32 × HP} {v : Int32} (hB : v.toUInt32.toUInt16.toUInt32.toInt32 = v) (hr : (xh X).sig.returnType = some .char) (d : decode cc pc = .ok (.ireturn, 1)) : jG V X evI rr (some (v, h)) pc ls [.int v] h := by
  intro e
  cases e
  obtain ⟨⟨hx, hb, hml, hown, hts⟩, ⟨⟨hK, -⟩, hV, hlk, -⟩, -⟩ := hX
  exact ⟨⟨Nat.le_refl _, Nat.le_refl _⟩, fun hn H locs la hl hW hS => W.zret hx hb hr (by show Value.int _ = Value.int _; rw [hB]) (fun t ht hw => ⟨rfl, by rw [ht]; exact hW, hS.F ht⟩) hS.2.2 d hlk⟩
theorem j_aastP (hX : okX V X rr cc own nL fr lo) {a b n : Nat} {i : Int32} {T : HP → Option (ρ × HP)} (ht : gT (V h) a = (105, n)) (hg : (gT (V h) b).1 = 10 ∨ (gT (V h) b).1 = 11 ∨ (gT (V h) b).1 = 12 ∨ (gT (V h) b).1 = 13) (hVR : V (sR h a i.toNatClampNeg (some b)) = sR (V h) a i.toNatClampNeg (some b)) (d : decode cc pc = .ok (.aastore, 1)) (kk : ∀ h', jG V X ev rr (T h') (pc + 1) ls st h') : jG V X ev rr (grd (inb i n) (bnd (sR h a i.toNatClampNeg (some b)) T)) pc ls (.ref (xz X + b) :: .int i :: .ref (xz X + a) :: st) h := by
  rcases hg with hg | hg | hg | hg
  · exact j_aast (q := 5) (C := "AskedCourt$Part") hX (by decide) (fun _ => rfl) ht ckX16 hg (by decide +kernel) hVR d kk
  · exact j_aast (q := 5) (C := "AskedCourt$Part") hX (by decide) (fun _ => rfl) ht ckX17 hg (by decide +kernel) hVR d kk
  · exact j_aast (q := 5) (C := "AskedCourt$Part") hX (by decide) (fun _ => rfl) ht ckX18 hg (by decide +kernel) hVR d kk
  · exact j_aast (q := 5) (C := "AskedCourt$Part") hX (by decide) (fun _ => rfl) ht ckX19 hg (by decide +kernel) hVR d kk
theorem inb26 {i : Int32} (g : inb i 25) : i.toNatClampNeg < 26 := Nat.lt_of_lt_of_le (Nat.not_le.mp fun q => g (Or.inr q)) (by decide)
/-! Strings that are constants -/
theorem j_sNames (hX : okX V X rr cc own nL fr lo) {index : Nat} {host : String} (q : (own, index, "AskedCourt", "NAMES", "[Ljava/lang/String;", host) ∈ nF) (d : decode cc pc = .ok (.getstatic index, 3)) (k : jG V X ev rr t (pc + 3) ls (.ref (sTn (xD X)) :: st) h) : jG V X ev rr t pc ls st h := j_getsN hX hX.2.1.1.2.2.2.1.1 q d k
theorem j_sNlen (hX : okX V X rr cc own nL fr lo) (d : decode cc pc = .ok (.arraylength, 1)) (k : jG V X ev rr t (pc + 1) ls (.int 25 :: st) h) : jG V X ev rr t pc ls (.ref (sTn (xD X)) :: st) h := j_stepS (fun _ _ _ _ _ _ _ hS w => va_tlen hX.1.1 hX.1.2.1 hX.2.1.1.2.2.2.1.2.1 hS rfl d w) k
theorem j_sNld (hX : okX V X rr cc own nL fr lo) {i : Int32} (d : decode cc pc = .ok (.aaload, 1)) (k : inb i 25 → jG V X ev rr t (pc + 1) ls (.ref (sK (xD X) i.toNatClampNeg) :: st) h) : jG V X ev rr (grd (inb i 25) t) pc ls (.int i :: .ref (sTn (xD X)) :: st) h := j_grd fun q => j_stepS (fun _ _ _ _ _ _ _ hS w => vb_tq hX.1.1 hX.1.2.1 hX.2.1.1.2.2.2.1.2.1 hS q rfl d w) (k q)
theorem j_ldcS (hX : okX V X rr cc RX2 nL fr lo) (d : decode cc pc = .ok (.ldc 61, 2)) (k : jG V X ev rr t (pc + 2) ls (.ref (sK (xD X) 25) :: st) h) : jG V X ev rr t pc ls st h := j_stepS (fun _ _ _ _ _ _ _ hS w => va_ldcS hX.1.1 hX.1.2.1 hX.1.2.2.2.1 hX.2.1.1.2.2.2.1.2.2.2 d w) k
theorem j_sVal (hX : okX V X rr cc own nL fr lo) {i index : Nat} (hi : i < 26) (q : Cond.fieldLink own index "java/lang/String" "value" "[B" ∈ lw_all) (d : decode cc pc = .ok (.getfield index, 3)) (k : jG V X ev rr t (pc + 3) ls (.ref (sW (xD X) i) :: st) h) : jG V X ev rr t pc ls (.ref (sK (xD X) i) :: st) h := j_stepS (fun _ _ _ _ _ _ _ hS w => vk_getf hX.1.1 hX.1.2.1 (hX.2.1.1.2.2.2.1.2.2.1.1 i hi).2.2.1 hS hX.1.2.2.2.1 (hX.1.2.2.2.2 _ q) (fun _ h => h) d w) k
theorem j_sCod (hX : okX V X rr cc own nL fr lo) {i index : Nat} (hi : i < 26) (q : Cond.fieldLink own index "java/lang/String" "coder" "B" ∈ lw_all) (d : decode cc pc = .ok (.getfield index, 3)) (k : jG V X ev rr t (pc + 3) ls (.int 0 :: st) h) : jG V X ev rr t pc ls (.ref (sK (xD X) i) :: st) h := j_stepS (fun _ _ _ _ _ _ _ hS w => vk_getf hX.1.1 hX.1.2.1 (hX.2.1.1.2.2.2.1.2.2.1.1 i hi).2.1 hS hX.1.2.2.2.1 (hX.1.2.2.2.2 _ q) (fun _ h => h) d w) k
theorem j_sCS (hX : okX V X rr cc own nL fr lo) {index : Nat} (q : Cond.fieldLink own index "java/lang/String" "COMPACT_STRINGS" "Z" ∈ lw_all) (d : decode cc pc = .ok (.getstatic index, 3)) (k : jG V X ev rr t (pc + 3) ls (.int 1 :: st) h) : jG V X ev rr t pc ls st h := j_gets hX hX.2.1.1.2.2.2.2.1 q d k
theorem j_sVlen (hX : okX V X rr cc own nL fr lo) {i : Nat} (hi : i < 26) (d : decode cc pc = .ok (.arraylength, 1)) (k : jG V X ev rr t (pc + 1) ls (.int (Int32.ofNat (sLen.getD i 0)) :: st) h) : jG V X ev rr t pc ls (.ref (sW (xD X) i) :: st) h := j_stepS (fun _ _ _ _ _ _ _ hS w => va_tlen hX.1.1 hX.1.2.1 (hX.2.1.1.2.2.2.1.2.2.1.1 i hi).2.2.2 hS rfl d w) k
theorem j_sVld (hX : okX V X rr cc own nL fr lo) {i : Nat} {j : Int32} (hi : i < 26) (d : decode cc pc = .ok (.baload, 1)) (k : inb j (sLen.getD i 0) → jG V X ev rr t (pc + 1) ls (.int ((sByt.getD i []).getD j.toNatClampNeg 0) :: st) h) : jG V X ev rr (grd (inb j (sLen.getD i 0)) t) pc ls (.int j :: .ref (sW (xD X) i) :: st) h := j_grd fun q => j_stepS (fun _ _ _ _ _ _ _ hS w => va_tb hX.1.1 hX.1.2.1 (hX.2.1.1.2.2.2.1.2.2.1.1 i hi).2.2.2 hS q rfl d w) (k q)
/-- contracts whose arguments may be Strings: they know D -/
def CnD (V : HP → HP) (y : MethodName) (ws : List Cond) (fr lo : Nat) (av : va_G → Nat → List Value) (h : HP) (rv : Nat → Option Value) (rh : HP) : Prop :=
  (gN (V h) ≤ gN (V rh) ∧ gS (V h) ≤ gS (V rh)) ∧ ∀ (l : Launch) (D : va_G) (z : Nat) (O : Nat → Prop), l.flags = flags0 → Met l y ws { frames := fr, cells := gN (V rh) - gN (V h), slots := gS (V rh) - gS (V h), locals := lo } (Pcn V D z O (av D z) h) (Qcn V D z O (rv z) rh) (gN (V rh) - gN (V h)) (gS (V rh) - gS (V h)) (aA z O)
theorem cnd_of {e1 : Nat → ρ → Option Value} {y : MethodName} {n : Nat} {ret : Option FieldType} {av : va_G → Nat → List Value} (ls : va_G → Nat → List (Nat × Value)) (hV : pV V) (mono : gN (V h) ≤ gN (V rr.2) ∧ gS (V h) ≤ gS (V rr.2)) (hy : y_ok y n) (hls : ∀ D z, lv_args 0 (av D z) = ls D z) (hsz : ∀ D z, (lg_sl (av D z)).length ≤ nL)
    (k : ∀ X : CTX, okX V X rr cc y.cls nL fr lo → (xh X).sig.returnType = ret → jG V X (evM e1) rr t 0 (ls (xD X) (xz X)) [] h) (e : t = some rr) : CnD V y (ws_ y cc nL ret) fr lo av h (fun z => e1 z rr.1) rr.2 := by
  refine ⟨mono, fun l D z O hfl => ?_⟩
  refine Met.ofW (cc := cc) (maxL := nL) (ret := ret) hy.1 rfl ?_
  intro p e' s m args below meth c s₁ B hml hv
  obtain ⟨rfl, hW, hK⟩ := hv
  have hts := atoms_spec (ws := ws_ y cc nL ret) B.pre
  have hts : ∀ w ∈ lw_all, w.before _ s = true := fun w h => hts w (List.mem_cons_of_mem _ h)
  have hown : s.vm.findClass y.cls = some m.cls := findClass_of_methodNamed B.named
  have G := k ((p, l, e', { frames := fr, cells := gN (V rr.2) - gN (V h), slots := gS (V rr.2) - gS (V h), locals := lo }, s), (m, (av D z).toArray, below, meth, c), (D, z, O), (gN (V h), gS (V h))) ⟨⟨B.exec, B.bytes, hml, hown, hts⟩, ⟨hK, hV, B.notSynchronized, hfl⟩, ⟨rfl, rfl, rfl, rfl⟩⟩ B.returns e
  have hl := lv_entry (av D z) (n := nL) (hsz D z)
  rw [lg_entry_eq]
  rw [hls D z] at hl
  have G2 := G.2 ⟨Nat.le_refl _, Nat.le_refl _⟩ s.heap [] _ (by rw [show (xc ((p, l, e', { frames := fr, cells := gN (V rr.2) - gN (V h), slots := gS (V rr.2) - gS (V h), locals := lo }, s), (m, (av D z).toArray, below, meth, c), (D, z, O), (gN (V h), gS (V h)))).maxLocals = nL from hml]; exact hl) hW va_S.rf
  have z1 : gN (V h) - xn ((p, l, e', { frames := fr, cells := gN (V rr.2) - gN (V h), slots := gS (V rr.2) - gS (V h), locals := lo }, s), (m, (av D z).toArray, below, meth, c), (D, z, O), (gN (V h), gS (V h))) = 0 := Nat.sub_self _
  have z2 : gS (V h) - xk ((p, l, e', { frames := fr, cells := gN (V rr.2) - gN (V h), slots := gS (V rr.2) - gS (V h), locals := lo }, s), (m, (av D z).toArray, below, meth, c), (D, z, O), (gN (V h), gS (V h))) = 0 := Nat.sub_self _
  rw [z1, z2] at G2
  exact G2
variable {α : Type} {f : Option (α × HP)} {T : α → HP → Option (ρ × HP)} {e1 : Nat → α → Option Value} {x y : MethodName} {cd : ByteArray} {mL n f1 l1 index a ci : Nat} {ret : Option FieldType} {As : Nat → List Value} {AsD : va_G → Nat → List Value} {rest st0 : List Value} {C : String} {U : u_T} {N : Nat} {host owner : String}
theorem d_callG {av : va_G → Nat → List Value} {ws : List Cond} (hX : okX V X rr cc own nL fr lo) (hM : ∀ r, f = some r → CnD V y ws f1 l1 av h (fun z => e1 z r.1) r.2)
    (hrun : ∀ (mc ms cells slots : Nat) (Qc : Array Value → State → Outcome → State → Prop) (H : Heap) (locs : List Loc) (la : Array Slot), va_S (aA (xz X) (xO X)) (xs X).heap H locs → Met (xl X) y ws { frames := f1, cells := mc, slots := ms, locals := l1 } (Pcn V (xD X) (xz X) (xO X) (av (xD X) (xz X)) h) Qc mc ms (aA (xz X) (xO X)) → lv_has la (xc X).maxLocals ls → (∀ U : State, U.heap = H → (xs X).WarmedH U.vm → Pcn V (xD X) (xz X) (xO X) (av (xD X) (xz X)) h (av (xD X) (xz X)).toArray U) → cells + mc ≤ (xR X).cells ∧ slots + ms ≤ (xR X).slots → va_Run (xp X) (xl X) (xe X) (xR X) (xs X) (xm X) (xa X) (xb X) (xh X) (xc X) H locs cells slots mc ms (F0 (xm X) pc la st0) rest (Qc (av (xD X) (xz X)).toArray) (aA (xz X) (xO X)))
    (kk : ∀ r h1, jG V X ev rr (T r h1) (pc + 3) ls ((e1 (xz X) r).toList ++ rest) h1) : jG V X ev rr (cal f T) pc ls st0 h := by
  intro e
  cases hf : f with
  | none => rw [hf] at e; cases e
  | some r =>
    obtain ⟨r, h1⟩ := r
    rw [hf] at e
    obtain ⟨⟨m1, m2⟩, hMet⟩ := hM _ hf
    obtain ⟨⟨k1, k2⟩, k3⟩ := kk r h1 e
    refine ⟨⟨Nat.le_trans m1 k1, Nat.le_trans m2 k2⟩, fun hn0 H locs la hl hW hS => ?_⟩
    obtain ⟨-, ⟨hT, hV, hlk, hfl⟩, ⟨hR1, hR2, hR3, hR4⟩⟩ := hX
    dsimp only at m1 m2 k1 k2 k3 hMet
    have run := hrun _ _ (gN (V h) - xn X) (gS (V h) - xk X) _ H locs la hS (hMet (xl X) (xD X) (xz X) (xO X) hfl) hl (fun U hU hw => ⟨rfl, by rw [hU]; exact hW, by rw [hU]; exact (hT.kept hS.2.1).warm hw⟩) ⟨by rw [hR3]; omega, by rw [hR4]; omega⟩
    refine j_ran run hS fun H1 locs1 hW1 hS1 => ?_
    have q1 : gN (V h) - xn X + (gN (V h1) - gN (V h)) = gN (V h1) - xn X := by omega
    have q2 : gS (V h) - xk X + (gS (V h1) - gS (V h)) = gS (V h1) - xk X := by omega
    rw [q1, q2]
    exact k3 ⟨by omega, by omega⟩ H1 locs1 la hl hW1 hS1
/-- a method of String number i -/
theorem d_callV {i : Nat} (hX : okX V X rr cc own nL fr lo) (hi : i < 26) (hM : ∀ r, f = some r → CnD V y (ws_ y cd mL ret) f1 l1 (fun D z => .ref (sK D i) :: AsD D z) h (fun z => e1 z r.1) r.2) (hy : y_ok y n) (wd : GoodIn lw_all (wsV own index "java/lang/String" y (ws_ y cd mL ret))) (hC : y.cls = "java/lang/String") (hr : f1 + 1 ≤ fr ∧ 8 + (mL + 11) + l1 ≤ lo) (hn : (AsD (xD X) (xz X)).length = n) (hst : st0 = (AsD (xD X) (xz X)).reverse ++ .ref (sK (xD X) i) :: rest) (hw : (rest.map fun v => v.category).sum ≤ 8)
    (d : decode cc pc = .ok (.invokevirtual index, 3)) (kk : ∀ r h1, jG V X ev rr (T r h1) (pc + 3) ls ((e1 (xz X) r).toList ++ rest) h1) : jG V X ev rr (cal f T) pc ls st0 h := by
  refine d_callG hX hM (fun mc ms cells slots Qc H locs la hS hMet hl hp hf => ?_) kk
  have ho := vk_recv hX.2.1.1.2.2.2.1.2.2.1 hi hS
  obtain ⟨⟨hx, hb, hml, hown, hts⟩, ⟨⟨hK, hNw, -⟩, hV, hlk, hfl⟩, ⟨hR1, hR2, hR3, hR4⟩⟩ := hX
  exact va_runV (As := AsD (xD X) (xz X)) (rest := rest) (b := sK (xD X) i) (C := "java/lang/String") (Ts := lw_all) ⟨hx, hb, rfl, hown, hts⟩ hMet (cwV n hts wd rfl rfl rfl ⟨hC, hy.2⟩ ⟨by rw [hR1]; exact hr.1, by rw [hR2]; exact hr.2⟩) ⟨Pcn.blind, ho, hp⟩ rfl hn hl.1 hst (by show 2 * 0 + _ ≤ 8; omega) d hf
theorem d_callS (hX : okX V X rr cc own nL fr lo) (hM : ∀ r, f = some r → CnD V y (ws_ y cd mL ret) f1 l1 AsD h (fun z => e1 z r.1) r.2) (hy : y_ok y n) (wd : GoodIn lw_all (va_wsS own index y (ws_ y cd mL ret))) (hr : f1 + 1 ≤ fr ∧ 8 + (mL + 11) + l1 ≤ lo) (hn : (AsD (xD X) (xz X)).length = n) (hst : st0 = (AsD (xD X) (xz X)).reverse ++ rest) (hw : (rest.map fun v => v.category).sum ≤ 8)
    (d : decode cc pc = .ok (.invokestatic index, 3)) (kk : ∀ r h1, jG V X ev rr (T r h1) (pc + 3) ls ((e1 (xz X) r).toList ++ rest) h1) : jG V X ev rr (cal f T) pc ls st0 h := by
  refine d_callG hX hM (fun mc ms cells slots Qc H locs la hS hMet hl hp hf => ?_) kk
  obtain ⟨⟨hx, hb, hml, hown, hts⟩, ⟨⟨hK, hNw, -⟩, hV, hlk, hfl⟩, ⟨hR1, hR2, hR3, hR4⟩⟩ := hX
  exact va_runS (As := AsD (xD X) (xz X)) (rest := rest) (Ts := lw_all) ⟨hx, hb, rfl, hown, hts⟩ hMet (va_cwS n hts wd rfl rfl rfl hy.2 ⟨by rw [hR1]; exact hr.1, by rw [hR2]; exact hr.2⟩) ⟨Pcn.blind, hp⟩ rfl hn hl.1 hst (by show 2 * 0 + _ ≤ 8; omega) d hf
end JS
