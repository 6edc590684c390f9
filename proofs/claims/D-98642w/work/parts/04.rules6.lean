/-! the rest of the component's rules: bytes, null, final fields, casts and stores by several classes -/
section JX
variable {V : HP → HP} {ρ : Type} {X : CTX} {ev : (HP → HP) → CTX → ρ × HP → State → Prop} {rr : ρ × HP} {cc : ByteArray} {own : String} {nL fr lo : Nat} {t : Option (ρ × HP)} {pc : Nat} {ls : List (Nat × Value)} {st : List Value} {h : HP}
theorem j_i2b (hX : okX V X rr cc own nL fr lo) {x : Int32} (d : decode cc pc = .ok (.i2b, 1)) (k : jG V X ev rr t (pc + 1) ls (.int x.toInt8.toInt32 :: st) h) : jG V X ev rr t pc ls (.int x :: st) h := j_step (fun _ _ _ _ _ _ _ w => lv_i2b hX.1.1 hX.1.2.1 d rfl w) k
theorem j_iushr (hX : okX V X rr cc own nL fr lo) {x y : Int32} (d : decode cc pc = .ok (.iushr, 1)) (k : jG V X ev rr t (pc + 1) ls (.int (x.toUInt32 >>> (y.toUInt32 &&& Int32.toUInt32 31)).toInt32 :: st) h) : jG V X ev rr t pc ls (.int y :: .int x :: st) h := j_step (fun _ _ _ _ _ _ _ w => lv_iushr hX.1.1 hX.1.2.1 d rfl w) k
theorem j_null (hX : okX V X rr cc own nL fr lo) (d : decode cc pc = .ok (.aconst_null, 1)) (k : jG V X ev rr t (pc + 1) ls (.null :: st) h) : jG V X ev rr t pc ls st h := j_step (fun _ _ _ _ _ _ _ w => lv_null hX.1.1 hX.1.2.1 d w) k
/-- a class to itself -/
theorem j_castS (hX : okX V X rr cc own nL fr lo) {a index ci : Nat} {C : String} {U : u_T} {N : Nat} (hc : cls_ok ci C U N) (ht : (gT (V h) a).1 = ci + 1) (q1 : Cond.classLink own index C ∈ lw_all) (d : decode cc pc = .ok (.checkcast index, 3)) (kk : jG V X ev rr t (pc + 3) ls (.ref (xz X + a) :: st) h) : jG V X ev rr t pc ls (.ref (xz X + a) :: st) h := by
  intro e
  obtain ⟨g1, g2⟩ := kk e
  refine ⟨g1, fun hn H locs la hl hW hS => ?_⟩
  have ho := obj_at hX hc ht hW
  obtain ⟨⟨hx, hb, hml, hown, hts⟩, ⟨⟨hK, hNw, -⟩, hV, -⟩, -⟩ := hX
  exact va_castS hx hb hown (hts _ q1) (hK.1 ci _ hc.1).2 ho d (g2 hn H locs la hl hW hS)
/-- any Named -/
theorem j_castNm (hX : okX V X rr cc own nL fr lo) {a index : Nat} (hg : (gT (V h) a).1 = 7 ∨ (gT (V h) a).1 = 8 ∨ (gT (V h) a).1 = 9) (q1 : Cond.classLink own index "AskedCourt$Named" ∈ lw_all) (d : decode cc pc = .ok (.checkcast index, 3)) (kk : jG V X ev rr t (pc + 3) ls (.ref (xz X + a) :: st) h) : jG V X ev rr t pc ls (.ref (xz X + a) :: st) h := by
  rcases hg with hg | hg | hg
  · exact j_castS hX ckX12 hg q1 d kk
  · exact j_cast hX ckX13 hg q1 (show (RX13, "AskedCourt$Named") ∈ nC by decide +kernel) d kk
  · exact j_cast hX ckX14 hg q1 (show (RX14, "AskedCourt$Named") ∈ nC by decide +kernel) d kk
theorem j_getNm (hX : okX V X rr cc own nL fr lo) {a index : Nat} (f1 : f_ok own index 6 0 ∧ ft 6 0 = 0) (f2 : f_ok own index 7 0 ∧ ft 7 0 = 0) (f3 : f_ok own index 8 0 ∧ ft 8 0 = 0) (hg : (gT (V h) a).1 = 7 ∨ (gT (V h) a).1 = 8 ∨ (gT (V h) a).1 = 9) (d : decode cc pc = .ok (.getfield index, 3)) (kk : jG V X ev rr t (pc + 3) ls (.int (gI h a 0) :: st) h) : jG V X ev rr t pc ls (.ref (xz X + a) :: st) h := by
  rcases hg with hg | hg | hg
  · exact c_getI hX f1.1 f1.2 hg d kk
  · exact c_getI hX f2.1 f2.2 hg d kk
  · exact c_getI hX f3.1 f3.2 hg d kk
theorem j_castLf (hX : okX V X rr cc own nL fr lo) {a index : Nat} (hg : (gT (V h) a).1 = 14 ∨ (gT (V h) a).1 = 15) (q1 : Cond.classLink own index "AskedCourt$Leaf" ∈ lw_all) (d : decode cc pc = .ok (.checkcast index, 3)) (kk : jG V X ev rr t (pc + 3) ls (.ref (xz X + a) :: st) h) : jG V X ev rr t pc ls (.ref (xz X + a) :: st) h := by
  rcases hg with hg | hg
  · exact j_cast hX ckX21 hg q1 (show (RX21, "AskedCourt$Leaf") ∈ nC by decide +kernel) d kk
  · exact j_cast hX ckX22 hg q1 (show (RX22, "AskedCourt$Leaf") ∈ nC by decide +kernel) d kk
/-- what lists hold, stored into their data -/
theorem j_aastO (hX : okX V X rr cc own nL fr lo) {a b n : Nat} {i : Int32} {T : HP → Option (ρ × HP)} (ht : gT (V h) a = (104, n)) (hg : (gT (V h) b).1 = 7 ∨ (gT (V h) b).1 = 8 ∨ (gT (V h) b).1 = 9 ∨ (gT (V h) b).1 = 14 ∨ (gT (V h) b).1 = 15) (hVR : V (sR h a i.toNatClampNeg (some b)) = sR (V h) a i.toNatClampNeg (some b)) (d : decode cc pc = .ok (.aastore, 1)) (kk : ∀ h', jG V X ev rr (T h') (pc + 1) ls st h') : jG V X ev rr (grd (inb i n) (bnd (sR h a i.toNatClampNeg (some b)) T)) pc ls (.ref (xz X + b) :: .int i :: .ref (xz X + a) :: st) h := by
  rcases hg with hg | hg | hg | hg | hg
  · exact j_aast (q := 4) (C := "java/lang/Object") hX (by decide) (fun _ => rfl) ht ckX12 hg (by decide +kernel) hVR d kk
  · exact j_aast (q := 4) (C := "java/lang/Object") hX (by decide) (fun _ => rfl) ht ckX13 hg (by decide +kernel) hVR d kk
  · exact j_aast (q := 4) (C := "java/lang/Object") hX (by decide) (fun _ => rfl) ht ckX14 hg (by decide +kernel) hVR d kk
  · exact j_aast (q := 4) (C := "java/lang/Object") hX (by decide) (fun _ => rfl) ht ckX21 hg (by decide +kernel) hVR d kk
  · exact j_aast (q := 4) (C := "java/lang/Object") hX (by decide) (fun _ => rfl) ht ckX22 hg (by decide +kernel) hVR d kk
theorem j_aastN (hX : okX V X rr cc own nL fr lo) {a k n q : Nat} {C : String} {i : Int32} {T : HP → Option (ρ × HP)} (h3 : 104 ≤ k) (hq : ∀ D : va_G, (jtys D)[q]? = some (D.1 k, .object C)) (ht : gT (V h) a = (k, n)) (hVR : V (sR h a i.toNatClampNeg none) = sR (V h) a i.toNatClampNeg none) (d : decode cc pc = .ok (.aastore, 1)) (kk : ∀ h', jG V X ev rr (T h') (pc + 1) ls st h') : jG V X ev rr (grd (inb i n) (bnd (sR h a i.toNatClampNeg none) T)) pc ls (.null :: .int i :: .ref (xz X + a) :: st) h := by
  refine j_grd fun hi => ?_
  intro e
  obtain ⟨h1, h2⟩ := kk _ e
  have z1 : gN (V (sR h a i.toNatClampNeg none)) = gN (V h) := by rw [hVR]; rfl
  have z2 : gS (V (sR h a i.toNatClampNeg none)) = gS (V h) := by rw [hVR]; rfl
  rw [z1, z2] at h1 h2
  refine ⟨h1, fun hn0 H locs la hl hW hS => ?_⟩
  obtain ⟨⟨hx, hb, hml, hown, hts⟩, ⟨⟨hK, hNw, -⟩, hV, -⟩, -⟩ := hX
  have hca := (hW.2.2 a).arr ht (by omega)
  have hO : xO X a := hW.2.1 a (by rw [ht]; show k ≠ 0; omega)
  refine va_WaastN (C := C) hx hb hca ((hK.2 q _ (hq (xD X))).1 n _) (fun h => by cases h) (by rw [arrV_size]; exact hi) rfl rfl d fun H' r1 r2 r3 => ?_
  refine h2 hn0 H' _ la hl (hW.write (a := a) z1 (by rw [hVR]; rfl) (fun y hy => by rw [hVR]; rfl) (fun y hy => by rw [hVR]; rfl) (fun y hy => by rw [hVR]; exact u2_ne hy) r2 r3 ?_) (hS.put r2 r3 ⟨a, rfl, hO⟩)
  refine Or.inr (Or.inr ⟨by rw [ht]; show 100 ≤ k; omega, ?_⟩)
  rw [ht, r1, arrV_store]
  congr 2
  funext j
  have e9 := sv_R (z := xz X) (f := at_ k) (i := gI (V (sR h a i.toNatClampNeg none)) a) (l := gL (V (sR h a i.toNatClampNeg none)) a) (r := gR (V h) a) (r' := gR (V (sR h a i.toNatClampNeg none)) a) (k := i.toNatClampNeg) (v := none) (by unfold at_; rw [if_neg (show k ≠ 101 by omega), if_pos h3]) (fun j => by rw [hVR]; exact u2_eq j) j
  rw [e9]
  show updV _ _ _ j = _
  unfold updV
  by_cases hj : j = i.toNatClampNeg
  · rw [if_pos hj, if_pos hj]; rfl
  · rw [if_neg hj, if_neg hj, hVR]; rfl
/-- a final field, by its class's own constructor -/
def fl_f (own : String) (index ci k : Nat) : Prop := ∃ (C : String) (T : u_T) (N : Nat), cls_ok ci C T N ∧ k < N ∧ Cond.fieldLink own index (T k).1 (T k).2.1 (T k).2.2.1 ∈ lw_all ∧ (T k).2.2.2 = true ∧ (T k).1 = own
theorem c_putF (hX : okX V X rr cc own nL fr lo) (hin : (xh X).name = "<init>") {index ci k a : Nat} {ty : FieldType} {v : Value} {h' : HP} (hf : fl_f own index ci k) (hty : jty ci k = ty) (ht : (gT (V h) a).1 = ci + 1) (hn : narrow ty v = v) (hfit : fits ty v = true) (hN : gN (V h') = gN (V h)) (hS0 : gS (V h') = gS (V h)) (hT : gT (V h') = gT (V h)) (hI : ∀ x, x ≠ a → gI (V h') x = gI (V h) x) (hL : ∀ x, x ≠ a → gL (V h') x = gL (V h) x) (hR : ∀ x, x ≠ a → gR (V h') x = gR (V h) x)
    (hv : ∀ j, sv (xz X) (ft ci) (gI (V h') a) (gL (V h') a) (gR (V h') a) j = if j = k then v else sv (xz X) (ft ci) (gI (V h) a) (gL (V h) a) (gR (V h) a) j) (d : decode cc pc = .ok (.putfield index, 3)) (kk : jG V X ev rr t (pc + 3) ls st h') : jG V X ev rr t pc ls (v :: .ref (xz X + a) :: st) h := by
  intro e
  obtain ⟨h1, h2⟩ := kk e
  rw [hN, hS0] at h1 h2
  refine ⟨h1, fun hn0 H locs la hl hW hS => ?_⟩
  obtain ⟨C, T, N, ⟨c1, c0, c2, c3, c4⟩, hk, hlk, hfin, hdecl⟩ := hf
  obtain ⟨⟨hx, hb, hml, hown, hts⟩, ⟨⟨hK, hNw, -⟩, hV, -⟩, -⟩ := hX
  have hap := va_apart (own := own) (D := xD X) (ci := ci) hts c2 (jty ci) c3 c4 hK c1
  obtain ⟨w0, hw0, cell, q1, q2, q3, q4⟩ := (hW.2.2 a).obj ht c0 c1
  obtain ⟨hS', hfc, kC, hkC, hkind⟩ := hK.1 ci _ c1
  obtain ⟨cf, kf, fi, f, hi, hsl⟩ := hS' k hk
  have hlay := hts _ (c2 _ (u_in_lay hk))
  unfold u_lay at hlay
  rw [if_pos hfin] at hlay
  have hst := (u_facts hfc hkC (u_lays hts c2 hk) hi).1
  have hcf : (xm X).cls = cf := by
    obtain ⟨_, _, c', _, _, _, -, -, hf', -, -, -, hown2, -⟩ := Cond.laysFinal_spec hlay
    have e1 : c' = cf := by have := hi.symm.trans hf'; simp at this; exact this.1.symm
    rw [hdecl] at hown2
    rw [← e1]; exact Option.some.inj (hown.symm.trans hown2)
  have h6 := u_fits hfc hkC hkind (Or.inr hlay) hi (by rw [c3 k hk, hty]) hn hfit
  refine W.putFinK hx hb hown (hts _ hlk) hi hst hcf hin (by rw [q2]; exact h6) q1 q3 (by rw [hsl]; exact k2_hasslot (q4 k hk)) rfl rfl d fun H' e1 e2 e3 => ?_
  rw [hsl] at e1 ⊢
  have hO : xO X a := hW.2.1 a (by rw [ht]; exact Nat.succ_ne_zero ci)
  refine h2 hn0 H' _ la hl (hW.write (a := a) hN hT hI hL hR e2 e3 ?_) (hS.put e2 e3 ⟨a, rfl, hO⟩)
  refine Or.inr (Or.inl ⟨by rw [ht]; exact c0, _, updV w0 k v, by rw [ht]; exact c1, ?_, ?_⟩)
  · rw [ht]
    intro j hj
    rw [show ci + 1 - 1 = ci from rfl, hv j]
    unfold updV
    by_cases hq : j = k
    · rw [if_pos hq, if_pos hq]
    · rw [if_neg hq, if_neg hq]; exact hw0 j hj
  · rw [ht]
    exact ⟨_, e1, q2, q3, t_set q4 hap hk v⟩
theorem c_putF0 (hX : okX V X rr cc own nL fr lo) (hin : (xh X).name = "<init>") {index ci k a : Nat} {ty : FieldType} {x : Int32} {T : HP → Option (ρ × HP)} (hf : fl_f own index ci k) (hty : jty ci k = ty) (hft : ft ci k = 0) (ht : (gT (V h) a).1 = ci + 1) (hn : narrow ty (.int x) = .int x) (hfit : fits ty (.int x) = true) (d : decode cc pc = .ok (.putfield index, 3)) (kk : ∀ h', gT (V h') = gT (V h) → gR (V h') = gR (V h) → jG V X ev rr (T h') (pc + 3) ls st h') : jG V X ev rr (bnd (sI h a k x) T) pc ls (.int x :: .ref (xz X + a) :: st) h := by
  have hV := hX.2.1.2.1
  have e1 := hV.2.1 h a k x
  have h0 : ft ci k = 0 := hft
  refine c_putF (h' := sI h a k x) hX hin hf hty ht hn hfit (by rw [e1]; rfl) (by rw [e1]; rfl) (by rw [e1]; rfl) (fun y hy => ?_) (fun y hy => by rw [e1]; rfl) (fun y hy => by rw [e1]; rfl) (fun j => ?_) d (kk _ (by rw [e1]; rfl) (by rw [e1]; rfl))
  · rw [e1]; exact u2_ne hy
  · rw [e1]; exact sv_I h0 (fun j => u2_eq j) j
theorem c_putFI (hX : okX V X rr cc own nL fr lo) (hin : (xh X).name = "<init>") {index ci k a : Nat} {x : Int32} {T : HP → Option (ρ × HP)} (hf : fl_f own index ci k) (hty : ft ci k = 0 ∧ jty ci k = .int) (ht : (gT (V h) a).1 = ci + 1) (d : decode cc pc = .ok (.putfield index, 3)) (kk : ∀ h', gT (V h') = gT (V h) → gR (V h') = gR (V h) → jG V X ev rr (T h') (pc + 3) ls st h') : jG V X ev rr (bnd (sI h a k x) T) pc ls (.int x :: .ref (xz X + a) :: st) h := c_putF0 hX hin hf hty.2 hty.1 ht rfl rfl d kk
theorem c_putFZ (hX : okX V X rr cc own nL fr lo) (hin : (xh X).name = "<init>") {index ci k a : Nat} {x : Int32} {T : HP → Option (ρ × HP)} (hB : isB x) (hf : fl_f own index ci k) (hty : ft ci k = 0 ∧ jty ci k = .boolean) (ht : (gT (V h) a).1 = ci + 1) (d : decode cc pc = .ok (.putfield index, 3)) (kk : ∀ h', gT (V h') = gT (V h) → gR (V h') = gR (V h) → jG V X ev rr (T h') (pc + 3) ls st h') : jG V X ev rr (bnd (sI h a k x) T) pc ls (.int x :: .ref (xz X + a) :: st) h := c_putF0 hX hin hf hty.2 hty.1 ht (by rcases hB with rfl | rfl <;> rfl) (by rcases hB with rfl | rfl <;> rfl) d kk
theorem c_putFR (hX : okX V X rr cc own nL fr lo) (hin : (xh X).name = "<init>") {index ci k a b : Nat} {T : HP → Option (ρ × HP)} (hf : fl_f own index ci k) (h0 : ft ci k = 2) (ht : (gT (V h) a).1 = ci + 1) (hVR : V (sR h a k (some b)) = sR (V h) a k (some b)) (d : decode cc pc = .ok (.putfield index, 3)) (kk : ∀ h', gT (V h') = gT (V h) → jG V X ev rr (T h') (pc + 3) ls st h') : jG V X ev rr (bnd (sR h a k (some b)) T) pc ls (.ref (xz X + b) :: .ref (xz X + a) :: st) h := by
  refine c_putF (h' := sR h a k (some b)) (ty := jty ci k) hX hin hf rfl ht (tc2 (ft2 h0) _).1 (tc2 (ft2 h0) _).2 (by rw [hVR]; rfl) (by rw [hVR]; rfl) (by rw [hVR]; rfl) (fun y hy => by rw [hVR]; rfl) (fun y hy => by rw [hVR]; rfl) (fun y hy => ?_) (fun j => ?_) d (kk _ (by rw [hVR]; rfl))
  · rw [hVR]; exact u2_ne hy
  · rw [hVR]; exact sv_R h0 (fun j => u2_eq j) j
end JX
theorem cfX3 : cls_dv 3 12 := dv_of (by unfold cls_nf; decide +kernel) (by decide)
theorem cfJ2 : cls_dv 4 3 := dv_of (by unfold cls_nf; decide +kernel) (by decide)
theorem cfX9 : cls_dv 5 11 := dv_of (by unfold cls_nf; decide +kernel) (by decide)
theorem cfX12 : cls_dv 6 1 := dv_of (by unfold cls_nf; decide +kernel) (by decide)
theorem cfX13 : cls_dv 7 5 := dv_of (by unfold cls_nf; decide +kernel) (by decide)
theorem cfX14 : cls_dv 8 5 := dv_of (by unfold cls_nf; decide +kernel) (by decide)
theorem cfX16 : cls_dv 9 1 := dv_of (by unfold cls_nf; decide +kernel) (by decide)
theorem cfX17 : cls_dv 10 1 := dv_of (by unfold cls_nf; decide +kernel) (by decide)
theorem cfX18 : cls_dv 11 1 := dv_of (by unfold cls_nf; decide +kernel) (by decide)
theorem cfX19 : cls_dv 12 3 := dv_of (by unfold cls_nf; decide +kernel) (by decide)
theorem cfX21 : cls_dv 13 4 := dv_of (by unfold cls_nf; decide +kernel) (by decide)
theorem cfX22 : cls_dv 14 1 := dv_of (by unfold cls_nf; decide +kernel) (by decide)
theorem cfX11 : cls_dv 19 8 := by
  intro z k hk
  match k, hk with
  | 0, _ => rfl
  | 1, _ => rfl
  | 2, _ => rfl
  | 3, _ => rfl
  | 4, _ => rfl
  | 5, _ => rfl
  | 6, _ => rfl
  | 7, _ => rfl
  | k + 8, hk => exact absurd hk (by omega)
section JX2
variable {V : HP → HP} {ρ : Type} {X : CTX} {ev : (HP → HP) → CTX → ρ × HP → State → Prop} {rr : ρ × HP} {cc : ByteArray} {own : String} {nL fr lo : Nat} {t : Option (ρ × HP)} {pc : Nat} {ls : List (Nat × Value)} {st : List Value} {h : HP}
/-- a reference to an object of the array's own class -/
theorem j_aastQ (hX : okX V X rr cc own nL fr lo) {a b n : Nat} {i : Int32} {T : HP → Option (ρ × HP)} (ht : gT (V h) a = (107, n)) (htb : (gT (V h) b).1 = 6) (hVR : V (sR h a i.toNatClampNeg (some b)) = sR (V h) a i.toNatClampNeg (some b)) (d : decode cc pc = .ok (.aastore, 1)) (kk : ∀ h', jG V X ev rr (T h') (pc + 1) ls st h') : jG V X ev rr (grd (inb i n) (bnd (sR h a i.toNatClampNeg (some b)) T)) pc ls (.ref (xz X + b) :: .int i :: .ref (xz X + a) :: st) h := by
  refine j_grd fun hi => ?_
  have hlt : i.toNatClampNeg < n := Nat.not_le.mp fun q => hi (Or.inr q)
  intro e
  obtain ⟨h1, h2⟩ := kk _ e
  have z1 : gN (V (sR h a i.toNatClampNeg (some b))) = gN (V h) := by rw [hVR]; rfl
  have z2 : gS (V (sR h a i.toNatClampNeg (some b))) = gS (V h) := by rw [hVR]; rfl
  rw [z1, z2] at h1 h2
  refine ⟨h1, fun hn0 H locs la hl hW hS => ?_⟩
  obtain ⟨⟨hx, hb, hml, hown, hts⟩, ⟨⟨hK, hNw, -⟩, hV, -⟩, -⟩ := hX
  have hca := (hW.2.2 a).arr ht (by decide)
  have hO : xO X a := hW.2.1 a (by rw [ht]; show (107 : Nat) ≠ 0; decide)
  obtain ⟨c1, c0, -⟩ := ckX9
  obtain ⟨-, -, cellV, g1, g2, g3, -⟩ := (hW.2.2 b).obj htb c0 c1
  have hcls := (hK.1 5 _ c1).2
  obtain ⟨kA, comp, k1, k2, k3, -⟩ := (hK.2 7 (( xD X).1 107, .object "AskedCourt$State") rfl).2
  cases k3.symm.trans hcls.1
  obtain ⟨kC, hkC, -⟩ := hcls.2
  refine W.aast hx hb hca (fun q h => by cases h) (fun h => by cases h) k1 k2 rfl hkC ⟨fun z => hi (Or.inl z), by rw [arrV_size]; exact hlt⟩ g1 (fun q h => by rw [g3] at h; cases h) (by rw [g2]; exact hkC) (by rw [g2]; exact va_assign hcls) rfl rfl d fun H' r1 r2 r3 => ?_
  refine h2 hn0 H' _ la hl (hW.write (a := a) z1 (by rw [hVR]; rfl) (fun y hy => by rw [hVR]; rfl) (fun y hy => by rw [hVR]; rfl) (fun y hy => by rw [hVR]; exact u2_ne hy) r2 r3 ?_) (hS.put r2 r3 ⟨a, rfl, hO⟩)
  refine Or.inr (Or.inr ⟨by rw [ht]; show (100 : Nat) ≤ 107; decide, ?_⟩)
  rw [ht, r1, arrV_store]
  congr 2
  funext j
  have e9 := sv_R (z := xz X) (f := at_ 107) (i := gI (V (sR h a i.toNatClampNeg (some b))) a) (l := gL (V (sR h a i.toNatClampNeg (some b))) a) (r := gR (V h) a) (r' := gR (V (sR h a i.toNatClampNeg (some b))) a) (k := i.toNatClampNeg) (v := some b) rfl (fun j => by rw [hVR]; exact u2_eq j) j
  rw [e9]
  show updV _ _ _ j = _
  unfold updV
  by_cases hj : j = i.toNatClampNeg
  · rw [if_pos hj, if_pos hj]; rfl
  · rw [if_neg hj, if_neg hj, hVR]; rfl
end JX2
section JX3
variable {V : HP → HP} {ρ : Type} {X : CTX} {ev : (HP → HP) → CTX → ρ × HP → State → Prop} {rr : ρ × HP} {cc : ByteArray} {own : String} {nL fr lo : Nat} {t : Option (ρ × HP)} {pc : Nat} {ls : List (Nat × Value)} {st : List Value} {h : HP}
theorem c_putNm (hX : okX V X rr cc own nL fr lo) (hin : (xh X).name = "<init>") {index a : Nat} {x : Int32} {T : HP → Option (ρ × HP)} (f1 : fl_f own index 6 0 ∧ (ft 6 0 = 0 ∧ jty 6 0 = .int)) (f2 : fl_f own index 7 0 ∧ (ft 7 0 = 0 ∧ jty 7 0 = .int)) (f3 : fl_f own index 8 0 ∧ (ft 8 0 = 0 ∧ jty 8 0 = .int)) (hg : (gT (V h) a).1 = 7 ∨ (gT (V h) a).1 = 8 ∨ (gT (V h) a).1 = 9) (d : decode cc pc = .ok (.putfield index, 3)) (kk : ∀ h', gT (V h') = gT (V h) → gR (V h') = gR (V h) → jG V X ev rr (T h') (pc + 3) ls st h') : jG V X ev rr (bnd (sI h a 0 x) T) pc ls (.int x :: .ref (xz X + a) :: st) h := by
  rcases hg with hg | hg | hg
  · exact c_putFI hX hin f1.1 f1.2 hg d kk
  · exact c_putFI hX hin f2.1 f2.2 hg d kk
  · exact c_putFI hX hin f3.1 f3.2 hg d kk
theorem c_putNt (hX : okX V X rr cc own nL fr lo) (hin : (xh X).name = "<init>") {index a b : Nat} {T : HP → Option (ρ × HP)} (f1 : fl_f own index 11 0 ∧ ft 11 0 = 2) (f2 : fl_f own index 12 0 ∧ ft 12 0 = 2) (hg : (gT (V h) a).1 = 12 ∨ (gT (V h) a).1 = 13) (hVR : V (sR h a 0 (some b)) = sR (V h) a 0 (some b)) (d : decode cc pc = .ok (.putfield index, 3)) (kk : ∀ h', gT (V h') = gT (V h) → jG V X ev rr (T h') (pc + 3) ls st h') : jG V X ev rr (bnd (sR h a 0 (some b)) T) pc ls (.ref (xz X + b) :: .ref (xz X + a) :: st) h := by
  rcases hg with hg | hg
  · exact c_putFR hX hin f1.1 f1.2 hg hVR d kk
  · exact c_putFR hX hin f2.1 f2.2 hg hVR d kk
end JX3
