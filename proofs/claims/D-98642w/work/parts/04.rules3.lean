/-! new cells, arrays of references, casts, ends with a reference, other calls -/
section JN
variable {V : HP → HP} {ρ : Type} {X : CTX} {ev : (HP → HP) → CTX → ρ × HP → State → Prop} {rr : ρ × HP} {cc : ByteArray} {own : String} {nL fr lo : Nat} {t : Option (ρ × HP)} {pc : Nat} {ls : List (Nat × Value)} {st : List Value} {h : HP}
/-- what an overlay must let through when a cell is made -/
def vA (V : HP → HP) (h : HP) (k : Nat × Nat) (n : Nat) : Prop := V (sA h k n) = sA (V h) k n ∧ gN (V h) = gN h ∧ gN h ≠ 0
def cls_nf (ci N : Nat) : Prop := ∀ k, k < N → jty ci k ≠ .double ∧ jty ci k ≠ .float
def cls_dv (ci N : Nat) : Prop := ∀ z k, k < N → defaultValue (jty ci k) = sv z (ft ci) (fun _ => 0) (fun _ => 0) (fun _ => none) k
theorem dv_of {ci N : Nat} (hnf : cls_nf ci N) (h19 : ci ≠ 19) : cls_dv ci N := by
  intro z k hk
  have hq := hnf k hk
  unfold sv ft
  rw [if_neg h19]
  revert hq
  cases jty ci k with
  | double => exact fun hq => absurd rfl hq.1
  | float => exact fun hq => absurd rfl hq.2
  | _ => exact fun _ => rfl
theorem j_new (hX : okX V X rr cc own nL fr lo) {index ci n : Nat} {C : String} {U : u_T} {N : Nat} {T : Nat → HP → Option (ρ × HP)} (hc : cls_ok ci C U N) (hdv : cls_dv ci N) (q1 : Cond.classLink own index C ∈ lw_all) (q2 : Cond.instantiable C n ∈ lw_all) (q3 : Cond.initialized C ∈ lw_all) (hVA : vA V h (ci + 1, 0) n) (d : decode cc pc = .ok (.new index, 3)) (kk : ∀ a h', jG V X ev rr (T a h') (pc + 3) ls (.ref (xz X + a) :: st) h') : jG V X ev rr (bnd (gN h) (fun a => bnd (sA h (ci + 1, 0) n) (T a))) pc ls st h := by
  obtain ⟨e1, e2, e3⟩ := hVA
  intro e
  obtain ⟨⟨h1, h2⟩, h3⟩ := kk (gN h) (sA h (ci + 1, 0) n) e
  rw [e1] at h1 h2 h3
  have g1 : gN (sA (V h) (ci + 1, 0) n) = gN (V h) + 1 := rfl
  have g2 : gS (sA (V h) (ci + 1, 0) n) = gS (V h) + n := rfl
  rw [g1] at h1 h3
  rw [g2] at h2 h3
  refine ⟨⟨by omega, by omega⟩, fun hn H locs la hl hW hS => ?_⟩
  obtain ⟨⟨hx, hb, hml, hown, hts⟩, ⟨⟨hK, -⟩, hV, -⟩, ⟨hR1, hR2, hR3, hR4⟩⟩ := hX
  obtain ⟨c1, c0, c2, c3, c4⟩ := hc
  have hKn := hK.1 ci _ c1
  have hz := (hW.1 (by rw [e2]; exact e3)).1
  refine W.newcK hx hb hown (hts _ q1) (hts _ q2) (hts _ q3) rfl d (by rw [hR3]; omega) (by rw [hR4]; omega) hKn.2.1 (h := H.size) rfl fun H1 kC hkC f1 f2 f3 => ?_
  have hcell : cOK (xD X) (xz X) H1 (ci + 1, 0) (gN (V h)) (fun _ => 0) (fun _ => 0) (fun _ => none) := by
    refine Or.inr (Or.inl ⟨c0, _, _, c1, fun j _ => rfl, ?_⟩)
    rw [← hz]
    refine (u_born (jty ci) hts c2 hKn hkC f1 c3).to (fun k hk => ?_)
    show defaultValue (jty ci k) = sv _ (ft ci) _ _ _ k
    exact hdv _ k hk
  have hW1 := hW.grow (n := n) (by rw [e2]; exact e3) (Nat.succ_ne_zero ci) f2 f3 hcell
  have hS1 : va_S (aA (xz X) (xO X)) (xs X).heap H1 locs := ⟨by rw [f2]; exact Nat.le_succ_of_le hS.1, fun q w1 w2 => by rw [f3 q (Nat.lt_of_lt_of_le w1 hS.1)]; exact hS.2.1 q w1 w2, hS.2.2⟩
  have r1 : gN (V h) - xn X + 1 = gN (V h) + 1 - xn X := by omega
  have r2 : gS (V h) - xk X + n = gS (V h) + n - xk X := by omega
  rw [r1, r2]
  have r3 : H.size = xz X + gN h := by rw [hz, e2]
  rw [r3]
  exact h3 ⟨by omega, by omega⟩ H1 locs la hl hW1 hS1
/-- a new array of kind k: n places of zero -/
theorem j_mka (hX : okX V X rr cc own nL fr lo) {k n len : Nat} {i : Int32} {T : Nat → HP → Option (ρ × HP)} (hk : 100 ≤ k) (hi : i.toNatClampNeg = n) (hVA : vA V h (k, n) n) {v0 : Value} (hv0 : ∀ j, sv (xz X) (at_ k) (fun _ => 0) (fun _ => 0) (fun _ => none) j = v0)
    (hw : ∀ (H : Heap) (locs : List Loc) (la : Array Slot) (cells slots : Nat) (Q : State → Prop), cells + 1 ≤ (xR X).cells → slots + n ≤ (xR X).slots → (∀ H1 : Heap, H1[H.size]? = some (arrV ((xD X).1 k) n (fun _ => v0)) → H1.size = H.size + 1 → (∀ q, q < H.size → H1[q]? = H[q]?) → W (xp X) (xl X) (xe X) (xR X) (xs X) (xm X) (xa X) (xb X) (xh X) (xc X) H1 locs (cells + 1) (slots + n) Q (F0 (xm X) (pc + len) la (.ref H.size :: st))) → W (xp X) (xl X) (xe X) (xR X) (xs X) (xm X) (xa X) (xb X) (xh X) (xc X) H locs cells slots Q (F0 (xm X) pc la (.int i :: st)))
    (kk : ∀ a h', jG V X ev rr (T a h') (pc + len) ls (.ref (xz X + a) :: st) h') : jG V X ev rr (bnd (gN h) (fun a => bnd (sA h (k, n) n) (T a))) pc ls (.int i :: st) h := by
  obtain ⟨e1, e2, e3⟩ := hVA
  intro e
  obtain ⟨⟨h1, h2⟩, h3⟩ := kk (gN h) (sA h (k, n) n) e
  rw [e1] at h1 h2 h3
  have g1 : gN (sA (V h) (k, n) n) = gN (V h) + 1 := rfl
  have g2 : gS (sA (V h) (k, n) n) = gS (V h) + n := rfl
  rw [g1] at h1 h3
  rw [g2] at h2 h3
  refine ⟨⟨by omega, by omega⟩, fun hn H locs la hl hW hS => ?_⟩
  obtain ⟨-, -, ⟨hR1, hR2, hR3, hR4⟩⟩ := hX
  have hz := (hW.1 (by rw [e2]; exact e3)).1
  refine hw H locs la _ _ _ (by rw [hR3]; omega) (by rw [hR4]; omega) fun H1 f1 f2 f3 => ?_
  have hcell : cOK (xD X) (xz X) H1 (k, n) (gN (V h)) (fun _ => 0) (fun _ => 0) (fun _ => none) := by
    refine Or.inr (Or.inr ⟨hk, ?_⟩)
    rw [← hz, f1]
    congr 2
    funext j
    exact (hv0 j).symm
  have hW1 := hW.grow (n := n) (by rw [e2]; exact e3) (show k ≠ 0 by omega) f2 f3 hcell
  have hS1 : va_S (aA (xz X) (xO X)) (xs X).heap H1 locs := ⟨by rw [f2]; exact Nat.le_succ_of_le hS.1, fun q w1 w2 => by rw [f3 q (Nat.lt_of_lt_of_le w1 hS.1)]; exact hS.2.1 q w1 w2, hS.2.2⟩
  have r1 : gN (V h) - xn X + 1 = gN (V h) + 1 - xn X := by omega
  have r2 : gS (V h) - xk X + n = gS (V h) + n - xk X := by omega
  rw [r1, r2]
  have r3 : H.size = xz X + gN h := by rw [hz, e2]
  rw [r3]
  exact h3 ⟨by omega, by omega⟩ H1 locs la hl hW1 hS1
theorem j_newa (hX : okX V X rr cc own nL fr lo) {k n q : Nat} {atype : ArrayType} {ty : FieldType} {i : Int32} {T : Nat → HP → Option (ρ × HP)} (hty : newarray.typeOf atype = ty) (hk : 100 ≤ k) (hq : ∀ D : va_G, (jtys D)[q]? = some (D.1 k, ty)) (hno : ∀ C, ty ≠ .object C) (q1 : Cond.arrayClass ty ∈ lw_all) (hi0 : ¬ i < 0) (hi : i.toNatClampNeg = n) (hby : n * componentBytes ty ≤ 536870912) (hVA : vA V h (k, n) n) (hv0 : ∀ j, sv (xz X) (at_ k) (fun _ => 0) (fun _ => 0) (fun _ => none) j = defaultValue ty) (d : decode cc pc = .ok (.newarray atype, 2)) (kk : ∀ a h', jG V X ev rr (T a h') (pc + 2) ls (.ref (xz X + a) :: st) h') : jG V X ev rr (bnd (gN h) (fun a => bnd (sA h (k, n) n) (T a))) pc ls (.int i :: st) h := by
  subst hty
  have hX0 := hX
  obtain ⟨⟨hx, hb, hml, hown, hts⟩, ⟨⟨hK, -⟩, hV, -⟩, -⟩ := hX
  refine j_mka (len := 2) hX0 hk hi hVA hv0 (fun H locs la cells slots Q r1 r2 w => ?_) kk
  refine va_newaK hx hb (hts _ q1) rfl d rfl hi0 hi hby r1 r2 rfl fun H1 cA f1 f2 f3 f4 f5 => ?_
  have hra := (hK.2 q _ (hq (xD X))).2
  have hcA : cA = (xD X).1 k := by
    have : (xs X).vm.findClass ("[" ++ (newarray.typeOf atype).toString) = some ((xD X).1 k) := by
      revert hra hno
      cases newarray.typeOf atype with
      | object C => exact fun hno _ => absurd rfl (hno C)
      | _ => exact fun _ hra => hra
    exact Option.some.inj (f5.symm.trans this)
  subst hcA
  exact w H1 f1 f2 f3
theorem j_newr (hX : okX V X rr cc own nL fr lo) {k n q index : Nat} {C : String} {i : Int32} {T : Nat → HP → Option (ρ × HP)} (hk : 104 ≤ k) (hq : ∀ D : va_G, (jtys D)[q]? = some (D.1 k, .object C)) (q1 : Cond.classLink own index C ∈ lw_all) (qA : C ∈ nA) (hi0 : ¬ i < 0) (hi : i.toNatClampNeg = n) (hby : n * 4 ≤ 536870912) (hVA : vA V h (k, n) n) (d : decode cc pc = .ok (.anewarray index, 3)) (kk : ∀ a h', jG V X ev rr (T a h') (pc + 3) ls (.ref (xz X + a) :: st) h') : jG V X ev rr (bnd (gN h) (fun a => bnd (sA h (k, n) n) (T a))) pc ls (.int i :: st) h := by
  have hX0 := hX
  obtain ⟨⟨hx, hb, hml, hown, hts⟩, ⟨⟨hK, hNw, -⟩, hV, -⟩, -⟩ := hX
  refine j_mka (len := 3) (v0 := .null) hX0 (by omega) hi hVA (fun j => ?_) (fun H locs la cells slots Q r1 r2 w => ?_) kk
  · unfold sv at_
    rw [if_neg (show k ≠ 101 by omega), if_pos hk, if_neg (by decide), if_neg (by decide), if_pos rfl]
    rfl
  · subst hi
    refine W.anew hx hb hown (hts _ q1) (va_AO.use (hNw.2.2.2.1 _ qA)) rfl d rfl hi0 hby r1 r2 fun cA kA comp f1 f2 f3 f4 => ?_
    obtain ⟨kB, comp', g1, g2, g3, g4⟩ := (hK.2 q _ (hq (xD X))).2
    cases f1.symm.trans g4
    generalize hH1 : H.push ({ cls := (xD X).1 k, slots := Array.replicate i.toNatClampNeg .null, vm := .none } : Cell) = H1
    refine w H1 ?_ ?_ ?_
    · rw [← hH1, Array.getElem?_push_size, ← arrV_new]
    · rw [← hH1, Array.size_push]
    · intro q hq
      rw [← hH1, Array.getElem?_push, if_neg (Nat.ne_of_lt hq)]
theorem sv_at2 {z k : Nat} {i : Nat → Int32} {l : Nat → Int64} {r : Nat → Option Nat} (h2 : 104 ≤ k) : sv z (at_ k) i l r = fun j => rf z (r j) := by
  funext j
  unfold sv at_
  rw [if_neg (show k ≠ 101 by omega), if_pos h2, if_neg (by decide), if_neg (by decide), if_pos rfl]
/-- a reference is read out of an array -/
theorem j_aald0 (hX : okX V X rr cc own nL fr lo) {a k n q : Nat} {C : String} {i : Int32} (h3 : 104 ≤ k) (hq : ∀ D : va_G, (jtys D)[q]? = some (D.1 k, .object C)) (ht : gT (V h) a = (k, n)) (hi : inb i n) (d : decode cc pc = .ok (.aaload, 1)) (kk : jG V X ev rr t (pc + 1) ls (rf (xz X) (gR (V h) a i.toNatClampNeg) :: st) h) : jG V X ev rr t pc ls (.int i :: .ref (xz X + a) :: st) h := by
  intro e
  obtain ⟨g1, g2⟩ := kk e
  refine ⟨g1, fun hn H locs la hl hW hS => ?_⟩
  obtain ⟨⟨hx, hb, hml, hown, hts⟩, ⟨⟨hK, -⟩, hV, -⟩, -⟩ := hX
  have hc := (hW.2.2 a).arr ht (by omega)
  rw [sv_at2 h3] at hc
  have hlt : i.toNatClampNeg < n := Nat.not_le.mp fun q => hi (Or.inr q)
  exact W.aald (v := rf (xz X) (gR (V h) a i.toNatClampNeg)) hx hb hc ((hK.2 q _ (hq (xD X))).1 n _) rfl (fun z => by cases z) (by rw [arrV_size]; exact hi) (by rw [arrV_read _ _ hlt]) rfl rfl d (g2 hn H locs la hl hW hS)
theorem j_aald (hX : okX V X rr cc own nL fr lo) {a k n q : Nat} {C : String} {i : Int32} {T : Nat → Option (ρ × HP)} (h3 : 104 ≤ k) (hq : ∀ D : va_G, (jtys D)[q]? = some (D.1 k, .object C)) (ht : gT (V h) a = (k, n)) (d : decode cc pc = .ok (.aaload, 1)) (kk : ∀ b, jG V X ev rr (T b) (pc + 1) ls (.ref (xz X + b) :: st) h) : jG V X ev rr (grd (inb i n) (onr (gR (V h) a i.toNatClampNeg) T)) pc ls (.int i :: .ref (xz X + a) :: st) h := by
  refine j_grd fun hi => j_onr fun b hb => ?_
  refine j_aald0 hX h3 hq ht hi d ?_
  rw [hb]
  exact kk b
/-- read, and asked at once whether it is null -/
theorem j_aaldN (hX : okX V X rr cc own nL fr lo) {a k n q tgt : Nat} {C : String} {i : Int32} {off : Int} {A B : Option (ρ × HP)} (h3 : 104 ≤ k) (hq : ∀ D : va_G, (jtys D)[q]? = some (D.1 k, .object C)) (ht : gT (V h) a = (k, n)) (d : decode cc pc = .ok (.aaload, 1)) (hto : ((pc + 1 : Nat) : Int) + off = (tgt : Int)) (d2 : decode cc (pc + 1) = .ok (.ifnonnull off, 3)) (ka : jG V X ev rr A (pc + 1 + 3) ls st h) (kb : jG V X ev rr B tgt ls st h) : jG V X ev rr (grd (inb i n) (if gR (V h) a i.toNatClampNeg = none then A else B)) pc ls (.int i :: .ref (xz X + a) :: st) h := by
  refine j_grd fun hi => j_ite (fun hb => ?_) (fun hb => ?_)
  · refine j_aald0 hX h3 hq ht hi d ?_
    rw [hb]
    exact j_step (fun _ _ _ _ _ _ _ w => lv_ifnonnullN hX.1.1 hX.1.2.1 d2 w) ka
  · refine j_aald0 hX h3 hq ht hi d ?_
    cases hg : gR (V h) a i.toNatClampNeg with
    | none => exact absurd hg hb
    | some b => exact j_step (fun _ _ _ _ _ _ _ w => lv_ifnonnull hX.1.1 hX.1.2.1 d2 hto w) kb
theorem j_aaldM (hX : okX V X rr cc own nL fr lo) {a k n q tgt : Nat} {C : String} {i : Int32} {off : Int} {A B : Option (ρ × HP)} (h3 : 104 ≤ k) (hq : ∀ D : va_G, (jtys D)[q]? = some (D.1 k, .object C)) (ht : gT (V h) a = (k, n)) (d : decode cc pc = .ok (.aaload, 1)) (hto : ((pc + 1 : Nat) : Int) + off = (tgt : Int)) (d2 : decode cc (pc + 1) = .ok (.ifnull off, 3)) (ka : jG V X ev rr A tgt ls st h) (kb : jG V X ev rr B (pc + 1 + 3) ls st h) : jG V X ev rr (grd (inb i n) (if gR (V h) a i.toNatClampNeg = none then A else B)) pc ls (.int i :: .ref (xz X + a) :: st) h := by
  refine j_grd fun hi => j_ite (fun hb => ?_) (fun hb => ?_)
  · refine j_aald0 hX h3 hq ht hi d ?_
    rw [hb]
    exact j_step (fun _ _ _ _ _ _ _ w => lv_ifnullN hX.1.1 hX.1.2.1 d2 hto w) ka
  · refine j_aald0 hX h3 hq ht hi d ?_
    cases hg : gR (V h) a i.toNatClampNeg with
    | none => exact absurd hg hb
    | some b => exact j_step (fun _ _ _ _ _ _ _ w => lv_ifnull hX.1.1 hX.1.2.1 d2 w) kb
/-- a reference to an object of class ci is stored into an array of C's -/
theorem j_aast (hX : okX V X rr cc own nL fr lo) {a b k n q ci : Nat} {C E : String} {U : u_T} {N : Nat} {i : Int32} {T : HP → Option (ρ × HP)} (h3 : 104 ≤ k) (hq : ∀ D : va_G, (jtys D)[q]? = some (D.1 k, .object C)) (ht : gT (V h) a = (k, n)) (hc : cls_ok ci E U N) (htb : (gT (V h) b).1 = ci + 1) (qC : (E, C) ∈ nC) (hVR : V (sR h a i.toNatClampNeg (some b)) = sR (V h) a i.toNatClampNeg (some b)) (d : decode cc pc = .ok (.aastore, 1)) (kk : ∀ h', jG V X ev rr (T h') (pc + 1) ls st h') : jG V X ev rr (grd (inb i n) (bnd (sR h a i.toNatClampNeg (some b)) T)) pc ls (.ref (xz X + b) :: .int i :: .ref (xz X + a) :: st) h := by
  refine j_grd fun hi => ?_
  have hlt : i.toNatClampNeg < n := Nat.not_le.mp fun q => hi (Or.inr q)
  intro e
  obtain ⟨h1, h2⟩ := kk _ e
  have z1 : gN (V (sR h a i.toNatClampNeg (some b))) = gN (V h) := by rw [hVR]; rfl
  have z2 : gS (V (sR h a i.toNatClampNeg (some b))) = gS (V h) := by rw [hVR]; rfl
  rw [z1, z2] at h1 h2
  refine ⟨h1, fun hn0 H locs la hl hW hS => ?_⟩
  obtain ⟨⟨hx, hb, hml, hown, hts⟩, ⟨⟨hK, hNw, -⟩, hV, -⟩, -⟩ := hX
  have hca := (hW.2.2 a).arr ht (by omega)
  have hO : xO X a := hW.2.1 a (by rw [ht]; show k ≠ 0; omega)
  obtain ⟨c1, c0, -⟩ := hc
  obtain ⟨-, -, cellV, g1, g2, g3, -⟩ := (hW.2.2 b).obj htb c0 c1
  have hcls := (hK.1 ci _ c1).2
  obtain ⟨kA, comp, k1, k2, k3, -⟩ := (hK.2 q _ (hq (xD X))).2
  obtain ⟨e0, t0, f1, f2, f3⟩ := Cond.castable_spec (va_Nw.use (A := xa X) rfl (hNw.2.2.1 _ qC))
  cases f2.symm.trans k3
  cases f1.symm.trans hcls.1
  obtain ⟨kC, hkC, -⟩ := hcls.2
  obtain ⟨kcomp, hkcomp, -⟩ := Vm.findClass_spec k3
  refine W.aast hx hb hca (fun q h => by cases h) (fun h => by cases h) k1 k2 rfl hkcomp ⟨fun z => hi (Or.inl z), by rw [arrV_size]; exact hlt⟩ g1 (fun q h => by rw [g3] at h; cases h) (by rw [g2]; exact hkC) (by rw [g2]; exact f3) rfl rfl d fun H' r1 r2 r3 => ?_
  refine h2 hn0 H' _ la hl (hW.write (a := a) z1 (by rw [hVR]; rfl) (fun y hy => by rw [hVR]; rfl) (fun y hy => by rw [hVR]; rfl) (fun y hy => by rw [hVR]; exact u2_ne hy) r2 r3 ?_) (hS.put r2 r3 ⟨a, rfl, hO⟩)
  refine Or.inr (Or.inr ⟨by rw [ht]; show 100 ≤ k; omega, ?_⟩)
  rw [ht, r1, arrV_store]
  congr 2
  funext j
  have e9 := sv_R (z := xz X) (f := at_ k) (i := gI (V (sR h a i.toNatClampNeg (some b))) a) (l := gL (V (sR h a i.toNatClampNeg (some b))) a) (r := gR (V h) a) (r' := gR (V (sR h a i.toNatClampNeg (some b))) a) (k := i.toNatClampNeg) (v := some b) (by unfold at_; rw [if_neg (show k ≠ 101 by omega), if_pos h3]) (fun j => by rw [hVR]; exact u2_eq j) j
  rw [e9]
  show updV _ _ _ j = _
  unfold updV
  by_cases hj : j = i.toNatClampNeg
  · rw [if_pos hj, if_pos hj]; rfl
  · rw [if_neg hj, if_neg hj, hVR]; rfl
theorem j_cast (hX : okX V X rr cc own nL fr lo) {a index ci : Nat} {C nm : String} {U : u_T} {N : Nat} (hc : cls_ok ci C U N) (ht : (gT (V h) a).1 = ci + 1) (q1 : Cond.classLink own index nm ∈ lw_all) (q2 : (C, nm) ∈ nC) (d : decode cc pc = .ok (.checkcast index, 3)) (kk : jG V X ev rr t (pc + 3) ls (.ref (xz X + a) :: st) h) : jG V X ev rr t pc ls (.ref (xz X + a) :: st) h := by
  intro e
  obtain ⟨g1, g2⟩ := kk e
  refine ⟨g1, fun hn H locs la hl hW hS => ?_⟩
  obtain ⟨⟨hx, hb, hml, hown, hts⟩, ⟨⟨hK, hNw, -⟩, hV, -⟩, -⟩ := hX
  obtain ⟨c1, c0, -⟩ := hc
  obtain ⟨-, -, cell, f1, f2, f3, -⟩ := (hW.2.2 a).obj ht c0 c1
  exact va_castY hx hb hown (hts _ q1) (hNw.2.2.1 _ q2) ⟨cell, f1, by rw [f3]; rfl, by rw [f2]; exact (hK.1 ci _ c1).2.1⟩ d (g2 hn H locs la hl hW hS)
theorem j_aret (hX : okX V X rr cc own nL fr lo) {rr : Nat × HP} {a : Nat} {rt : FieldType} (hrt : (∃ n, rt = .object n) ∨ ∃ t, rt = .array t) (hr : (xh X).sig.returnType = some rt) (d : decode cc pc = .ok (.areturn, 1)) : jG V X evR rr (some (a, h)) pc ls [.ref (xz X + a)] h := by
  intro e
  cases e
  obtain ⟨⟨hx, hb, hml, hown, hts⟩, ⟨⟨hK, -⟩, hV, hlk, -⟩, -⟩ := hX
  exact ⟨⟨Nat.le_refl _, Nat.le_refl _⟩, fun hn H locs la hl hW hS => W.aret hx hb hr hrt (Or.inr ⟨_, rfl⟩) (fun t ht hw => ⟨rfl, by rw [ht]; exact hW, hS.F ht⟩) hS.2.2 d hlk⟩
end JN
