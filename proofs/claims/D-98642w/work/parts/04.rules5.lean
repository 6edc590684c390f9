/-! the component's rules with what they keep of types and references; its picture's static parts; how counters never fall -/
section JP
variable {V : HP → HP} {ρ : Type} {X : CTX} {ev : (HP → HP) → CTX → ρ × HP → State → Prop} {rr : ρ × HP} {cc : ByteArray} {own : String} {nL fr lo : Nat} {t : Option (ρ × HP)} {pc : Nat} {ls : List (Nat × Value)} {st : List Value} {h : HP}
def f_ok (own : String) (index ci k : Nat) : Prop := fl_ok own index ci k ∨ fn_ok own index ci k
def f_w (own : String) (index ci k : Nat) : Prop := fl_w own index ci k ∨ fn_w own index ci k
theorem c_getI (hX : okX V X rr cc own nL fr lo) {index ci k a : Nat} (hf : f_ok own index ci k) (h0 : ft ci k = 0) (ht : (gT (V h) a).1 = ci + 1) (d : decode cc pc = .ok (.getfield index, 3)) (kk : jG V X ev rr t (pc + 3) ls (.int (gI h a k) :: st) h) : jG V X ev rr t pc ls (.ref (xz X + a) :: st) h := hf.elim (fun q => j_getI hX q h0 ht d kk) (fun q => n_getI hX q h0 ht d kk)
theorem c_getR (hX : okX V X rr cc own nL fr lo) {index ci k a b : Nat} (hf : f_ok own index ci k) (h0 : ft ci k = 2) (ht : (gT (V h) a).1 = ci + 1) (hr : gR (V h) a k = some b) (d : decode cc pc = .ok (.getfield index, 3)) (kk : jG V X ev rr t (pc + 3) ls (.ref (xz X + b) :: st) h) : jG V X ev rr t pc ls (.ref (xz X + a) :: st) h := hf.elim (fun q => j_getR hX q h0 ht hr d kk) (fun q => n_getR hX q h0 ht hr d kk)
theorem c_put0 (hX : okX V X rr cc own nL fr lo) {index ci k a : Nat} {ty : FieldType} {x : Int32} {T : HP → Option (ρ × HP)} (hf : f_w own index ci k) (h19 : ci ≠ 19) (hty : jty ci k = ty) (htc : tcode ty = 0) (ht : (gT (V h) a).1 = ci + 1) (hn : narrow ty (.int x) = .int x) (hfit : fits ty (.int x) = true) (d : decode cc pc = .ok (.putfield index, 3)) (kk : ∀ h', gT (V h') = gT (V h) → gR (V h') = gR (V h) → jG V X ev rr (T h') (pc + 3) ls st h') : jG V X ev rr (bnd (sI h a k x) T) pc ls (.int x :: .ref (xz X + a) :: st) h := by
  have hV := hX.2.1.2.1
  have e1 := hV.2.1 h a k x
  have h0 : ft ci k = 0 := by unfold ft; rw [if_neg h19, hty]; exact htc
  have k0 := kk (sI h a k x) (by rw [e1]; rfl) (by rw [e1]; rfl)
  rcases hf with hf | hf
  · refine j_put (h' := sI h a k x) hX hf hty ht hn hfit (by rw [e1]; rfl) (by rw [e1]; rfl) (by rw [e1]; rfl) (fun y hy => ?_) (fun y hy => by rw [e1]; rfl) (fun y hy => by rw [e1]; rfl) (fun j => ?_) d k0
    · rw [e1]; exact u2_ne hy
    · rw [e1]; exact sv_I h0 (fun j => u2_eq j) j
  · refine n_put (h' := sI h a k x) hX hf hty ht hn hfit (by rw [e1]; rfl) (by rw [e1]; rfl) (by rw [e1]; rfl) (fun y hy => ?_) (fun y hy => by rw [e1]; rfl) (fun y hy => by rw [e1]; rfl) (fun j => ?_) d k0
    · rw [e1]; exact u2_ne hy
    · rw [e1]; exact sv_I h0 (fun j => u2_eq j) j
theorem c_putI (hX : okX V X rr cc own nL fr lo) {index ci k a : Nat} {x : Int32} {T : HP → Option (ρ × HP)} (hf : f_w own index ci k) (hty : ci ≠ 19 ∧ jty ci k = .int) (ht : (gT (V h) a).1 = ci + 1) (d : decode cc pc = .ok (.putfield index, 3)) (kk : ∀ h', gT (V h') = gT (V h) → gR (V h') = gR (V h) → jG V X ev rr (T h') (pc + 3) ls st h') : jG V X ev rr (bnd (sI h a k x) T) pc ls (.int x :: .ref (xz X + a) :: st) h := c_put0 hX hf hty.1 hty.2 rfl ht rfl rfl d kk
theorem c_putZ (hX : okX V X rr cc own nL fr lo) {index ci k a : Nat} {x : Int32} {T : HP → Option (ρ × HP)} (hB : isB x) (hf : f_w own index ci k) (hty : ci ≠ 19 ∧ jty ci k = .boolean) (ht : (gT (V h) a).1 = ci + 1) (d : decode cc pc = .ok (.putfield index, 3)) (kk : ∀ h', gT (V h') = gT (V h) → gR (V h') = gR (V h) → jG V X ev rr (T h') (pc + 3) ls st h') : jG V X ev rr (bnd (sI h a k x) T) pc ls (.int x :: .ref (xz X + a) :: st) h := c_put0 hX hf hty.1 hty.2 rfl ht (by rcases hB with rfl | rfl <;> rfl) (by rcases hB with rfl | rfl <;> rfl) d kk
theorem c_putR (hX : okX V X rr cc own nL fr lo) {index ci k a b : Nat} {T : HP → Option (ρ × HP)} (hf : f_w own index ci k) (h0 : ft ci k = 2) (ht : (gT (V h) a).1 = ci + 1) (hVR : V (sR h a k (some b)) = sR (V h) a k (some b)) (d : decode cc pc = .ok (.putfield index, 3)) (kk : ∀ h', gT (V h') = gT (V h) → jG V X ev rr (T h') (pc + 3) ls st h') : jG V X ev rr (bnd (sR h a k (some b)) T) pc ls (.ref (xz X + b) :: .ref (xz X + a) :: st) h := by
  have k0 := kk (sR h a k (some b)) (by rw [hVR]; rfl)
  rcases hf with hf | hf
  · refine j_put (h' := sR h a k (some b)) (ty := jty ci k) hX hf rfl ht (tc2 (ft2 h0) _).1 (tc2 (ft2 h0) _).2 (by rw [hVR]; rfl) (by rw [hVR]; rfl) (by rw [hVR]; rfl) (fun y hy => by rw [hVR]; rfl) (fun y hy => by rw [hVR]; rfl) (fun y hy => ?_) (fun j => ?_) d k0
    · rw [hVR]; exact u2_ne hy
    · rw [hVR]; exact sv_R h0 (fun j => u2_eq j) j
  · refine n_put (h' := sR h a k (some b)) (ty := jty ci k) hX hf rfl ht (tc2 (ft2 h0) _).1 (tc2 (ft2 h0) _).2 (by rw [hVR]; rfl) (by rw [hVR]; rfl) (by rw [hVR]; rfl) (fun y hy => by rw [hVR]; rfl) (fun y hy => by rw [hVR]; rfl) (fun y hy => ?_) (fun j => ?_) d k0
    · rw [hVR]; exact u2_ne hy
    · rw [hVR]; exact sv_R h0 (fun j => u2_eq j) j
theorem c_ast1 {a k n q : Nat} {ty : FieldType} {i x x' : Int32} {T : HP → Option (ρ × HP)} (hX : okX V X rr cc own nL fr lo) (h1 : k ≠ 101) (h2 : k < 104) (h3 : 100 ≤ k) (hq : ∀ D : va_G, (jtys D)[q]? = some (D.1 k, ty)) (ht : gT (V h) a = (k, n)) (hi : inb i n)
    (hw : ∀ (H : Heap) (locs : List Loc) (la : Array Slot) (cells slots : Nat) (Q : State → Prop) (cell : Cell), H[xz X + a]? = some cell → (xs X).isArrayOf cell ty → cell.vm ≠ .unknown → ¬ (i < 0 ∨ cell.slots.size ≤ i.toNatClampNeg) → (∀ H' : Heap, H'[xz X + a]? = some (cell.setSlot i.toNatClampNeg (.int x')) → H'.size = H.size → (∀ q, q ≠ xz X + a → H'[q]? = H[q]?) → W (xp X) (xl X) (xe X) (xR X) (xs X) (xm X) (xa X) (xb X) (xh X) (xc X) H' (locs ++ [⟨xz X + a, i.toNatClampNeg⟩]) cells slots Q (F0 (xm X) (pc + 1) la st)) → W (xp X) (xl X) (xe X) (xR X) (xs X) (xm X) (xa X) (xb X) (xh X) (xc X) H locs cells slots Q (F0 (xm X) pc la (.int x :: .int i :: .ref (xz X + a) :: st)))
    (kk : ∀ h', gT (V h') = gT (V h) → gR (V h') = gR (V h) → jG V X ev rr (T h') (pc + 1) ls st h') : jG V X ev rr (bnd (sI h a i.toNatClampNeg x') T) pc ls (.int x :: .int i :: .ref (xz X + a) :: st) h := by
  have hV := hX.2.1.2.1
  have e1 := hV.2.1 h a i.toNatClampNeg x'
  refine j_ast0 (h' := sI h a i.toNatClampNeg x') (j := i.toNatClampNeg) (x := .int x') hX h3 hq ht (by rw [e1]; rfl) (by rw [e1]; rfl) (by rw [e1]; rfl) (fun y hy => ?_) (fun y hy => by rw [e1]; rfl) (fun y hy => by rw [e1]; rfl) (fun j => ?_) (fun H locs la cells slots Q cell a1 a2 a3 a4 w => hw H locs la cells slots Q cell a1 a2 a3 (by rw [a4]; exact hi) w) (kk _ (by rw [e1]; rfl) (by rw [e1]; rfl))
  · rw [e1]; exact u2_ne hy
  · rw [e1]
    exact sv_I (by unfold at_; rw [if_neg h1, if_neg (by omega)]) (fun j => u2_eq j) j
theorem c_iast (hX : okX V X rr cc own nL fr lo) {a n : Nat} {i x : Int32} {T : HP → Option (ρ × HP)} (ht : gT (V h) a = (100, n)) (d : decode cc pc = .ok (.iastore, 1)) (kk : ∀ h', gT (V h') = gT (V h) → gR (V h') = gR (V h) → jG V X ev rr (T h') (pc + 1) ls st h') : jG V X ev rr (grd (inb i n) (bnd (sI h a i.toNatClampNeg x) T)) pc ls (.int x :: .int i :: .ref (xz X + a) :: st) h := j_grd fun hi => c_ast1 (q := 0) hX (by decide) (by decide) (by decide) (fun _ => rfl) ht hi (fun _ _ _ _ _ _ _ a1 a2 a3 a4 w => W.iast hX.1.1 hX.1.2.1 a1 a2 a3 a4 rfl rfl d w) kk
theorem c_bast (hX : okX V X rr cc own nL fr lo) {a n : Nat} {i x : Int32} {T : HP → Option (ρ × HP)} (ht : gT (V h) a = (102, n)) (d : decode cc pc = .ok (.bastore, 1)) (kk : ∀ h', gT (V h') = gT (V h) → gR (V h') = gR (V h) → jG V X ev rr (T h') (pc + 1) ls st h') : jG V X ev rr (grd (inb i n) (bnd (sI h a i.toNatClampNeg x.toInt8.toInt32) T)) pc ls (.int x :: .int i :: .ref (xz X + a) :: st) h := j_grd fun hi => c_ast1 (q := 2) hX (by decide) (by decide) (by decide) (fun _ => rfl) ht hi (fun _ _ _ _ _ _ _ a1 a2 a3 a4 w => W.bast hX.1.1 hX.1.2.1 a1 a2 a3 a4 rfl rfl d w) kk
theorem c_zast (hX : okX V X rr cc own nL fr lo) {a n : Nat} {i x : Int32} {T : HP → Option (ρ × HP)} (hB : isB x) (ht : gT (V h) a = (103, n)) (d : decode cc pc = .ok (.bastore, 1)) (kk : ∀ h', gT (V h') = gT (V h) → gR (V h') = gR (V h) → jG V X ev rr (T h') (pc + 1) ls st h') : jG V X ev rr (grd (inb i n) (bnd (sI h a i.toNatClampNeg x) T)) pc ls (.int x :: .int i :: .ref (xz X + a) :: st) h := j_grd fun hi => c_ast1 (q := 3) hX (by decide) (by decide) (by decide) (fun _ => rfl) ht hi (fun _ _ _ _ _ _ _ a1 a2 a3 a4 w => W.zast hX.1.1 hX.1.2.1 a1 a2 a3 a4 rfl rfl d (by rw [show narrow .boolean (.int x) = .int x by rcases hB with rfl | rfl <;> rfl]; exact w)) kk
theorem c_last (hX : okX V X rr cc own nL fr lo) {a n : Nat} {i : Int32} {x : Int64} {T : HP → Option (ρ × HP)} (ht : gT (V h) a = (101, n)) (d : decode cc pc = .ok (.lastore, 1)) (kk : ∀ h', gT (V h') = gT (V h) → gR (V h') = gR (V h) → jG V X ev rr (T h') (pc + 1) ls st h') : jG V X ev rr (grd (inb i n) (bnd (sL h a i.toNatClampNeg x) T)) pc ls (.long x :: .int i :: .ref (xz X + a) :: st) h := by
  refine j_grd fun hi => ?_
  have hV := hX.2.1.2.1
  have e1 := hV.2.2 h a i.toNatClampNeg x
  refine j_ast0 (q := 1) (h' := sL h a i.toNatClampNeg x) (j := i.toNatClampNeg) (x := .long x) hX (by decide) (fun _ => rfl) ht (by rw [e1]; rfl) (by rw [e1]; rfl) (by rw [e1]; rfl) (fun y hy => by rw [e1]; rfl) (fun y hy => ?_) (fun y hy => by rw [e1]; rfl) (fun j => ?_) (fun H locs la cells slots Q cell a1 a2 a3 a4 w => W.last hX.1.1 hX.1.2.1 a1 a2 a3 (by rw [a4]; exact hi) rfl rfl d w) (kk _ (by rw [e1]; rfl) (by rw [e1]; rfl))
  · rw [e1]; exact u2_ne hy
  · rw [e1]
    exact sv_L (by unfold at_; rw [if_pos rfl]) (fun j => u2_eq j) j
/-- a call whose way on is shown once, then the callee is looked for -/
theorem j_callD {α : Type} {e1 : Nat → α → Option Value} {f : Option (α × HP)} {T : α → HP → Option (ρ × HP)} {rest st0 : List Value} (kk : ∀ r h1, jG V X ev rr (T r h1) (pc + 3) ls ((e1 (xz X) r).toList ++ rest) h1) (k : (∀ r h1, jG V X ev rr (T r h1) (pc + 3) ls ((e1 (xz X) r).toList ++ rest) h1) → jG V X ev rr (cal f T) pc ls st0 h) : jG V X ev rr (cal f T) pc ls st0 h := k kk
theorem j_calIf {α : Type} {c : Prop} [Decidable c] {f g : Option (α × HP)} {T : α → HP → Option (ρ × HP)} (ka : c → jG V X ev rr (cal f T) pc ls st h) (kb : ¬ c → jG V X ev rr (cal g T) pc ls st h) : jG V X ev rr (cal (if c then f else g) T) pc ls st h := by
  by_cases hc : c
  · rw [if_pos hc]; exact ka hc
  · rw [if_neg hc]; exact kb hc
theorem j_calN {α : Type} {T : α → HP → Option (ρ × HP)} : jG V X ev rr (cal none T) pc ls st h := fun e => by cases e
end JP
/-! counters never fall -/
def mG {ρ : Type} (n s : Nat) (t : Option (ρ × HP)) : Prop := ∀ r, t = some r → n ≤ gN r.2 ∧ s ≤ gS r.2
abbrev mN (n s : Nat) (h : HP) : Prop := n ≤ gN h ∧ s ≤ gS h
section MG
variable {ρ : Type} {n s : Nat} {h : HP}
theorem mg_none : mG (ρ := ρ) n s none := fun r e => by cases e
theorem mg_some {v : ρ} (hn : mN n s h) : mG n s (some (v, h)) := fun r e => by cases e; exact hn
theorem mg_grd {c : Prop} [Decidable c] {t : Option (ρ × HP)} (k : mG n s t) : mG n s (grd c t) := by
  intro r e
  by_cases hc : c
  · exact k r (by rw [← e]; exact (grd_pos hc).symm)
  · exact absurd e (by unfold grd; rw [if_neg hc]; exact fun q => by cases q)
theorem mg_bnd {α : Type} {x : α} {T : α → Option (ρ × HP)} (k : ∀ v, mG n s (T v)) : mG n s (bnd x T) := k x
theorem mg_bI {a k : Nat} {v : Int32} {T : HP → Option (ρ × HP)} (hn : mN n s h) (kk : ∀ h', mN n s h' → mG n s (T h')) : mG n s (bnd (sI h a k v) T) := kk _ hn
theorem mg_bL {a k : Nat} {v : Int64} {T : HP → Option (ρ × HP)} (hn : mN n s h) (kk : ∀ h', mN n s h' → mG n s (T h')) : mG n s (bnd (sL h a k v) T) := kk _ hn
theorem mg_bR {a k : Nat} {v : Option Nat} {T : HP → Option (ρ × HP)} (hn : mN n s h) (kk : ∀ h', mN n s h' → mG n s (T h')) : mG n s (bnd (sR h a k v) T) := kk _ hn
theorem mg_bA {k : Nat × Nat} {m : Nat} {T : HP → Option (ρ × HP)} (hn : mN n s h) (kk : ∀ h', mN n s h' → mG n s (T h')) : mG n s (bnd (sA h k m) T) := kk _ ⟨Nat.le_succ_of_le hn.1, Nat.le_trans hn.2 (Nat.le_add_right _ _)⟩
theorem mg_cal {α : Type} {f : Option (α × HP)} {T : α → HP → Option (ρ × HP)} (hn : mN n s h) (hf : mG (gN h) (gS h) f) (kk : ∀ r h', mN n s h' → mG n s (T r h')) : mG n s (cal f T) := by
  intro r e
  cases hq : f with
  | none => rw [hq] at e; cases e
  | some q =>
    rw [hq] at e
    have h1 := hf _ hq
    exact kk q.1 q.2 ⟨Nat.le_trans hn.1 h1.1, Nat.le_trans hn.2 h1.2⟩ r e
theorem mg_onr {x : Option Nat} {T : Nat → Option (ρ × HP)} (k : ∀ b, mG n s (T b)) : mG n s (onr x T) := by
  cases x with
  | none => exact fun r e => by cases e
  | some b => exact k b
theorem mg_ite {c : Prop} [Decidable c] {A B : Option (ρ × HP)} (ka : mG n s A) (kb : mG n s B) : mG n s (if c then A else B) := by
  by_cases hc : c
  · rw [if_pos hc]; exact ka
  · rw [if_neg hc]; exact kb
theorem mg_jon {γ : Type} {J : γ} {T : γ → Option (ρ × HP)} (P : γ → Prop) (hJ : P J) (k : ∀ j, P j → mG n s (T j)) : mG n s (jon J T) := k J hJ
theorem mg_of {f : Option (ρ × HP)} (h1 : mN n s h) (hf : mG (gN h) (gS h) f) : mG n s f := fun r e => ⟨Nat.le_trans h1.1 (hf r e).1, Nat.le_trans h1.2 (hf r e).2⟩
end MG
/-! the component's static cells -/
def cT (a : Nat) : Nat × Nat := match a with
  | 0 => (2, 0)
  | 1 => (102, 700)
  | 2 => (3, 0)
  | 3 => (4, 0)
  | 4 => (5, 0)
  | 5 => (104, 8)
  | 6 => (5, 0)
  | 7 => (104, 5)
  | 8 => (5, 0)
  | 9 => (104, 8)
  | 10 => (100, 10)
  | 11 => (100, 10)
  | 12 => (100, 10)
  | 13 => (105, 2)
  | 14 => (101, 7)
  | 15 => (106, 4)
  | 16 => (16, 0)
  | 17 => (17, 0)
  | 18 => (18, 0)
  | 19 => (19, 0)
  | 20 => (6, 0)
  | 25 => (6, 0)
  | 30 => (6, 0)
  | 35 => (107, 20)
  | 36 => (107, 2)
  | 37 => (100, 2)
  | 38 => (100, 2)
  | 39 => (100, 81)
  | 40 => (100, 81)
  | 41 => (5, 0)
  | 42 => (104, 24)
  | 43 => (103, 24)
  | 44 => (6, 0)
  | 49 => (6, 0)
  | _ => (100, 5)
def cR0 (k : Nat) : Option Nat := match k with
  | 0 => some 1
  | 5 => some 2
  | 7 => some 14
  | 8 => some 15
  | 9 => some 20
  | 10 => some 25
  | 11 => some 30
  | 12 => some 35
  | 13 => some 36
  | 15 => some 37
  | 16 => some 38
  | 19 => some 39
  | 20 => some 40
  | 21 => some 41
  | 22 => some 43
  | _ => none
def cRS (s k : Nat) : Option Nat := match k with
  | 0 => some (s + 1)
  | 1 => some (s + 2)
  | 2 => some (s + 3)
  | 3 => some (s + 4)
  | 10 => some 0
  | _ => none
def cRs (a k : Nat) : Option Nat := match a with
  | 0 => cR0 k
  | 2 => if k = 8 then some 0 else none
  | 15 => match k with
    | 0 => some 16
    | 1 => some 17
    | 2 => some 18
    | 3 => some 19
    | _ => none
  | 20 => cRS 20 k
  | 25 => cRS 25 k
  | 30 => cRS 30 k
  | 36 => match k with
    | 0 => some 44
    | 1 => some 49
    | _ => none
  | 41 => if k = 1 then some 42 else none
  | 44 => cRS 44 k
  | 49 => cRS 49 k
  | _ => none
def cV (h : HP) : HP := (h.1, (fun a => if a < 54 then cT a else gT h a), gI h, gL h, fun a k => match cRs a k with
  | some b => some b
  | none => gR h a k)
theorem cV_ok : pV cV := ⟨fun _ => ⟨rfl, rfl⟩, fun _ _ _ _ => rfl, fun _ _ _ _ => rfl⟩
theorem cV_sR {h : HP} {a k : Nat} {v : Option Nat} (h0 : cRs a k = none) : cV (sR h a k v) = sR (cV h) a k v := by
  refine Prod.ext rfl (Prod.ext rfl (Prod.ext rfl (Prod.ext rfl ?_)))
  funext b j
  show (match cRs b j with | some b => some b | none => u2 (gR h) a k v b j) = u2 (gR (cV h)) a k v b j
  unfold u2
  by_cases hq : b = a ∧ j = k
  · obtain ⟨rfl, rfl⟩ := hq
    rw [h0, if_pos ⟨rfl, rfl⟩, if_pos ⟨rfl, rfl⟩]
  · rw [if_neg hq, if_neg hq]; rfl
theorem cRs_big {a k : Nat} (h : 54 ≤ a) : cRs a k = none := by
  unfold cRs
  split <;> first | rfl | omega
theorem cV_vA {h : HP} {k : Nat × Nat} {n : Nat} (h0 : 54 ≤ gN h) : vA cV h k n := by
  refine ⟨?_, rfl, by omega⟩
  show ((_, _, _, _, _) : HP) = ((_, _, _, _, _) : HP)
  congr 2
  · funext b
    show (if b < 54 then cT b else if b = gN h then k else gT h b) = if b = gN h then k else if b < 54 then cT b else gT h b
    by_cases h1 : b < 54
    · rw [if_pos h1, if_neg (by omega), if_pos h1]
    · rw [if_neg h1, if_neg h1]
  · congr 3
    funext b j
    show (match cRs b j with | some b => some b | none => if b = gN h then none else gR h b j) = if b = gN h then none else match cRs b j with | some b => some b | none => gR h b j
    by_cases h1 : b = gN h
    · rw [if_pos h1, if_pos h1, cRs_big (by omega)]
    · rw [if_neg h1, if_neg h1]
/-! shapes: a State, a Court, a list, with the arrays that lie right behind them -/
abbrev shS (h : HP) (s : Nat) : Prop := gT h s = (6, 0) ∧ (gR h s 0 = some (s + 1) ∧ gR h s 1 = some (s + 2) ∧ gR h s 2 = some (s + 3) ∧ gR h s 3 = some (s + 4) ∧ gR h s 10 = some 0) ∧ gT h (s + 1) = (100, 5) ∧ gT h (s + 2) = (100, 5) ∧ gT h (s + 3) = (100, 5) ∧ gT h (s + 4) = (100, 5)
abbrev shC (h : HP) (c : Nat) : Prop := gT h c = (4, 0) ∧ (gR h c 0 = some (c + 1) ∧ gR h c 1 = some (c + 3) ∧ gR h c 2 = some (c + 5) ∧ gR h c 3 = some (c + 7) ∧ gR h c 4 = some (c + 8) ∧ gR h c 5 = some (c + 9) ∧ gR h c 6 = some (c + 10)) ∧ gT h (c + 7) = (100, 10) ∧ gT h (c + 8) = (100, 10) ∧ gT h (c + 9) = (100, 10) ∧ gT h (c + 10) = (105, 2)
abbrev shL (h : HP) (l : Nat) : Prop := gT h l = (5, 0) ∧ gR h l 1 = some (l + 1) ∧ (gT h (l + 1)).1 = 104
theorem shS_t {h h' : HP} {s : Nat} (q1 : gT h' = gT h) (q2 : gR h' = gR h) (g : shS h s) : shS h' s := by
  unfold shS at *
  rw [q1, q2]; exact g
theorem shC_t {h h' : HP} {s : Nat} (q1 : gT h' = gT h) (q2 : gR h' = gR h) (g : shC h s) : shC h' s := by
  unfold shC at *
  rw [q1, q2]; exact g
theorem shL_t {h h' : HP} {s : Nat} (q1 : gT h' = gT h) (q2 : gR h' = gR h) (g : shL h s) : shL h' s := by
  unfold shL at *
  rw [q1, q2]; exact g
theorem kT_t {h h' : HP} {a k : Nat} (q1 : gT h' = gT h) (g : (gT h a).1 = k) : (gT h' a).1 = k := by rw [q1]; exact g
theorem kA_t {h h' : HP} {a : Nat} {k : Nat × Nat} (q1 : gT h' = gT h) (g : gT h a = k) : gT h' a = k := by rw [q1]; exact g
theorem k1_of {h : HP} {a : Nat} {k : Nat × Nat} (g : gT h a = k) : (gT h a).1 = k.1 := by rw [g]
theorem kA_of {h : HP} {a k : Nat} (g : (gT h a).1 = k) : gT h a = (k, (gT h a).2) := by rw [← g]
