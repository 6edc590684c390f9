/-! branches, stores into locals, the picture's reads and writes, calls, ends -/
section JB
variable {V : HP → HP} {ρ : Type} {X : CTX} {ev : (HP → HP) → CTX → ρ × HP → State → Prop} {rr : ρ × HP} {cc : ByteArray} {own : String} {nL fr lo : Nat} {t : Option (ρ × HP)} {pc : Nat} {ls : List (Nat × Value)} {st : List Value} {h : HP}
/-- a branch: both ways -/
theorem j_br {c : Prop} [Decidable c] {A B : Option (ρ × HP)} {pa pb : Nat} {st' : List Value} (hw : ∀ (H : Heap) (locs : List Loc) (la : Array Slot) (cells slots : Nat) (Q : State → Prop), (c → W (xp X) (xl X) (xe X) (xR X) (xs X) (xm X) (xa X) (xb X) (xh X) (xc X) H locs cells slots Q (F0 (xm X) pa la st')) → (¬ c → W (xp X) (xl X) (xe X) (xR X) (xs X) (xm X) (xa X) (xb X) (xh X) (xc X) H locs cells slots Q (F0 (xm X) pb la st')) → W (xp X) (xl X) (xe X) (xR X) (xs X) (xm X) (xa X) (xb X) (xh X) (xc X) H locs cells slots Q (F0 (xm X) pc la st))
    (ka : c → jG V X ev rr A pa ls st' h) (kb : ¬ c → jG V X ev rr B pb ls st' h) : jG V X ev rr (if c then A else B) pc ls st h := by
  intro e
  by_cases hc : c
  · rw [if_pos hc] at e
    obtain ⟨h1, h2⟩ := ka hc e
    exact ⟨h1, fun hn H locs la hl hW hS => hw _ _ _ _ _ _ (fun _ => h2 hn H locs la hl hW hS) (fun q => absurd hc q)⟩
  · rw [if_neg hc] at e
    obtain ⟨h1, h2⟩ := kb hc e
    exact ⟨h1, fun hn H locs la hl hW hS => hw _ _ _ _ _ _ (fun q => absurd q hc) (fun _ => h2 hn H locs la hl hW hS)⟩
variable {A B : Option (ρ × HP)} {tgt : Nat} {off : Int}
theorem j_ifeq (hX : okX V X rr cc own nL fr lo) {x : Int32} (ht : (pc : Int) + off = (tgt : Int)) (d : decode cc pc = .ok (.ifCond .eq off, 3)) (ka : x = 0 → jG V X ev rr A tgt ls st h) (kb : ¬ x = 0 → jG V X ev rr B (pc + 3) ls st h) : jG V X ev rr (if x = 0 then A else B) pc ls (.int x :: st) h := j_br (fun _ _ _ _ _ _ wa wb => lv_if_eq hX.1.1 hX.1.2.1 d ht wa wb) ka kb
theorem j_ifne (hX : okX V X rr cc own nL fr lo) {x : Int32} (ht : (pc : Int) + off = (tgt : Int)) (d : decode cc pc = .ok (.ifCond .ne off, 3)) (kb : x = 0 → jG V X ev rr B (pc + 3) ls st h) (ka : ¬ x = 0 → jG V X ev rr A tgt ls st h) : jG V X ev rr (if x = 0 then B else A) pc ls (.int x :: st) h := j_br (fun _ _ _ _ _ _ wb wa => lv_if_ne hX.1.1 hX.1.2.1 d ht wa wb) kb ka
theorem j_iflt (hX : okX V X rr cc own nL fr lo) {x : Int32} (ht : (pc : Int) + off = (tgt : Int)) (d : decode cc pc = .ok (.ifCond .lt off, 3)) (ka : x < 0 → jG V X ev rr A tgt ls st h) (kb : ¬ x < 0 → jG V X ev rr B (pc + 3) ls st h) : jG V X ev rr (if x < 0 then A else B) pc ls (.int x :: st) h := j_br (fun _ _ _ _ _ _ wa wb => lv_if_lt hX.1.1 hX.1.2.1 d ht wa wb) ka kb
theorem j_ifge (hX : okX V X rr cc own nL fr lo) {x : Int32} (ht : (pc : Int) + off = (tgt : Int)) (d : decode cc pc = .ok (.ifCond .ge off, 3)) (ka : 0 ≤ x → jG V X ev rr A tgt ls st h) (kb : ¬ 0 ≤ x → jG V X ev rr B (pc + 3) ls st h) : jG V X ev rr (if 0 ≤ x then A else B) pc ls (.int x :: st) h := j_br (fun _ _ _ _ _ _ wa wb => lv_if_ge hX.1.1 hX.1.2.1 d ht wa wb) ka kb
theorem j_ifgt (hX : okX V X rr cc own nL fr lo) {x : Int32} (ht : (pc : Int) + off = (tgt : Int)) (d : decode cc pc = .ok (.ifCond .gt off, 3)) (ka : 0 < x → jG V X ev rr A tgt ls st h) (kb : ¬ 0 < x → jG V X ev rr B (pc + 3) ls st h) : jG V X ev rr (if 0 < x then A else B) pc ls (.int x :: st) h := j_br (fun _ _ _ _ _ _ wa wb => lv_if_gt hX.1.1 hX.1.2.1 d ht wa wb) ka kb
theorem j_ifle (hX : okX V X rr cc own nL fr lo) {x : Int32} (ht : (pc : Int) + off = (tgt : Int)) (d : decode cc pc = .ok (.ifCond .le off, 3)) (ka : x ≤ 0 → jG V X ev rr A tgt ls st h) (kb : ¬ x ≤ 0 → jG V X ev rr B (pc + 3) ls st h) : jG V X ev rr (if x ≤ 0 then A else B) pc ls (.int x :: st) h := j_br (fun _ _ _ _ _ _ wa wb => lv_if_le hX.1.1 hX.1.2.1 d ht wa wb) ka kb
theorem j_ceq (hX : okX V X rr cc own nL fr lo) {x y : Int32} (ht : (pc : Int) + off = (tgt : Int)) (d : decode cc pc = .ok (.if_icmp .eq off, 3)) (ka : x = y → jG V X ev rr A tgt ls st h) (kb : ¬ x = y → jG V X ev rr B (pc + 3) ls st h) : jG V X ev rr (if x = y then A else B) pc ls (.int y :: .int x :: st) h := j_br (fun _ _ _ _ _ _ wa wb => lv_icmp_eq hX.1.1 hX.1.2.1 d ht wa wb) ka kb
theorem j_cne (hX : okX V X rr cc own nL fr lo) {x y : Int32} (ht : (pc : Int) + off = (tgt : Int)) (d : decode cc pc = .ok (.if_icmp .ne off, 3)) (kb : x = y → jG V X ev rr B (pc + 3) ls st h) (ka : ¬ x = y → jG V X ev rr A tgt ls st h) : jG V X ev rr (if x = y then B else A) pc ls (.int y :: .int x :: st) h := j_br (fun _ _ _ _ _ _ wb wa => lv_icmp_ne hX.1.1 hX.1.2.1 d ht wa wb) kb ka
theorem j_clt (hX : okX V X rr cc own nL fr lo) {x y : Int32} (ht : (pc : Int) + off = (tgt : Int)) (d : decode cc pc = .ok (.if_icmp .lt off, 3)) (ka : x < y → jG V X ev rr A tgt ls st h) (kb : ¬ x < y → jG V X ev rr B (pc + 3) ls st h) : jG V X ev rr (if x < y then A else B) pc ls (.int y :: .int x :: st) h := j_br (fun _ _ _ _ _ _ wa wb => lv_icmp_lt hX.1.1 hX.1.2.1 d ht wa wb) ka kb
theorem j_cge (hX : okX V X rr cc own nL fr lo) {x y : Int32} (ht : (pc : Int) + off = (tgt : Int)) (d : decode cc pc = .ok (.if_icmp .ge off, 3)) (ka : y ≤ x → jG V X ev rr A tgt ls st h) (kb : ¬ y ≤ x → jG V X ev rr B (pc + 3) ls st h) : jG V X ev rr (if y ≤ x then A else B) pc ls (.int y :: .int x :: st) h := j_br (fun _ _ _ _ _ _ wa wb => lv_icmp_ge hX.1.1 hX.1.2.1 d ht wa wb) ka kb
theorem j_cgt (hX : okX V X rr cc own nL fr lo) {x y : Int32} (ht : (pc : Int) + off = (tgt : Int)) (d : decode cc pc = .ok (.if_icmp .gt off, 3)) (ka : y < x → jG V X ev rr A tgt ls st h) (kb : ¬ y < x → jG V X ev rr B (pc + 3) ls st h) : jG V X ev rr (if y < x then A else B) pc ls (.int y :: .int x :: st) h := j_br (fun _ _ _ _ _ _ wa wb => lv_icmp_gt hX.1.1 hX.1.2.1 d ht wa wb) ka kb
theorem j_cle (hX : okX V X rr cc own nL fr lo) {x y : Int32} (ht : (pc : Int) + off = (tgt : Int)) (d : decode cc pc = .ok (.if_icmp .le off, 3)) (ka : x ≤ y → jG V X ev rr A tgt ls st h) (kb : ¬ x ≤ y → jG V X ev rr B (pc + 3) ls st h) : jG V X ev rr (if x ≤ y then A else B) pc ls (.int y :: .int x :: st) h := j_br (fun _ _ _ _ _ _ wa wb => lv_icmp_le hX.1.1 hX.1.2.1 d ht wa wb) ka kb
theorem j_tabOut (hX : okX V X rr cc own nL fr lo) {dflt lw hi : Int} {offs : Array Int} {len : Nat} {x : Int32} (hh : x.toInt < lw ∨ hi < x.toInt) (ht : (pc : Int) + dflt = (tgt : Int)) (d : decode cc pc = .ok (.tableswitch dflt lw hi offs, len)) (k : jG V X ev rr t tgt ls st h) : jG V X ev rr t pc ls (.int x :: st) h := j_step (fun _ _ _ _ _ _ _ w => lv_tableOut hX.1.1 hX.1.2.1 d hh ht w) k
theorem j_tabIn (hX : okX V X rr cc own nL fr lo) {dflt lw hi : Int} {offs : Array Int} {len : Nat} {x : Int32} (n : Int) (hn : x.toInt = n) (h1 : ¬ n < lw) (h2 : ¬ hi < n) (ho : offs[(n - lw).toNat]? = some off) (ht : (pc : Int) + off = (tgt : Int)) (d : decode cc pc = .ok (.tableswitch dflt lw hi offs, len)) (k : jG V X ev rr t tgt ls st h) : jG V X ev rr t pc ls (.int x :: st) h := j_step (fun _ _ _ _ _ _ _ w => lv_tableIn hX.1.1 hX.1.2.1 d (by rw [hn]; exact h1) (by rw [hn]; exact h2) (by rw [hn]; exact ho) ht w) k
theorem j_lookup (hX : okX V X rr cc own nL fr lo) {dflt : Int} {ps : Array (Int × Int)} {len : Nat} {x : Int32} (hp : (ps.toList.zip (ps.toList.drop 1)).all (fun (a, next) => a.1 < next.1) = true) (ho : Op.lookupswitch.offset ps.toList dflt x.toInt = off) (ht : (pc : Int) + off = (tgt : Int)) (d : decode cc pc = .ok (.lookupswitch dflt ps, len)) (k : jG V X ev rr t tgt ls st h) : jG V X ev rr t pc ls (.int x :: st) h := j_step (fun _ _ _ _ _ _ _ w => lv_lookup hX.1.1 hX.1.2.1 d hp ho ht w) k
/-- a store into a local: the list of locals behind it -/
def stl1 (ls : List (Nat × Value)) (i : Nat) (v : Value) : List (Nat × Value) := (i, v) :: ls.filter (fun q => !(q.1 == i) && !(q.1 + 1 == i && q.2.category == 2))
def stl2 (ls : List (Nat × Value)) (i : Nat) (v : Value) : List (Nat × Value) := (i, v) :: ls.filter (fun q => !(q.1 == i) && (!(q.1 == i + 1) && !(q.1 + 1 == i && q.2.category == 2)))
theorem j_local {ls' : List (Nat × Value)} {pc' : Nat} {st' : List Value} (hw : ∀ (H : Heap) (locs : List Loc) (la : Array Slot) (cells slots : Nat) (Q : State → Prop), lv_has la (xc X).maxLocals ls → (∀ la' : Array Slot, lv_has la' (xc X).maxLocals ls' → W (xp X) (xl X) (xe X) (xR X) (xs X) (xm X) (xa X) (xb X) (xh X) (xc X) H locs cells slots Q (F0 (xm X) pc' la' st')) → W (xp X) (xl X) (xe X) (xR X) (xs X) (xm X) (xa X) (xb X) (xh X) (xc X) H locs cells slots Q (F0 (xm X) pc la st))
    (k : jG V X ev rr t pc' ls' st' h) : jG V X ev rr t pc ls st h := by
  intro e
  obtain ⟨h1, h2⟩ := k e
  exact ⟨h1, fun hn H locs la hl hW hS => hw _ _ _ _ _ _ hl (fun la' hl' => h2 hn H locs la' hl' hW hS)⟩
theorem j_istore_n (hX : okX V X rr cc own nL fr lo) {i : Fin 4} {x : Int32} {T : Int32 → Option (ρ × HP)} (ls' : Int32 → List (Nat × Value)) (hl : ∀ v, stl1 ls (i : Nat) (.int v) = ls' v) (hn : (i : Nat) < nL) (d : decode cc pc = .ok (.istore_n i, 1)) (k : ∀ v, jG V X ev rr (T v) (pc + 1) (ls' v) st h) : jG V X ev rr (bnd x T) pc ls (.int x :: st) h := j_local (fun _ _ _ _ _ _ q w => lv_istore_n hX.1.1 hX.1.2.1 d rfl q (by rw [hX.1.2.2.1]; exact hn) (hl x) w) (k x)
theorem j_istore (hX : okX V X rr cc own nL fr lo) {i : Nat} {x : Int32} {T : Int32 → Option (ρ × HP)} (ls' : Int32 → List (Nat × Value)) (hl : ∀ v, stl1 ls i (.int v) = ls' v) (hn : i < nL) (d : decode cc pc = .ok (.istore i, 2)) (k : ∀ v, jG V X ev rr (T v) (pc + 2) (ls' v) st h) : jG V X ev rr (bnd x T) pc ls (.int x :: st) h := j_local (fun _ _ _ _ _ _ q w => lv_istore hX.1.1 hX.1.2.1 d q (by rw [hX.1.2.2.1]; exact hn) (hl x) w) (k x)
theorem j_lstore_n (hX : okX V X rr cc own nL fr lo) {i : Fin 4} {x : Int64} {T : Int64 → Option (ρ × HP)} (ls' : Int64 → List (Nat × Value)) (hl : ∀ v, stl2 ls (i : Nat) (.long v) = ls' v) (hn : (i : Nat) + 1 < nL) (d : decode cc pc = .ok (.lstore_n i, 1)) (k : ∀ v, jG V X ev rr (T v) (pc + 1) (ls' v) st h) : jG V X ev rr (bnd x T) pc ls (.long x :: st) h := j_local (fun _ _ _ _ _ _ q w => lv_lstore_n hX.1.1 hX.1.2.1 d rfl q (by rw [hX.1.2.2.1]; exact hn) (hl x) w) (k x)
theorem j_lstore (hX : okX V X rr cc own nL fr lo) {i : Nat} {x : Int64} {T : Int64 → Option (ρ × HP)} (ls' : Int64 → List (Nat × Value)) (hl : ∀ v, stl2 ls i (.long v) = ls' v) (hn : i + 1 < nL) (d : decode cc pc = .ok (.lstore i, 2)) (k : ∀ v, jG V X ev rr (T v) (pc + 2) (ls' v) st h) : jG V X ev rr (bnd x T) pc ls (.long x :: st) h := j_local (fun _ _ _ _ _ _ q w => lv_lstore hX.1.1 hX.1.2.1 d q (by rw [hX.1.2.2.1]; exact hn) (hl x) w) (k x)
theorem j_astore_n (hX : okX V X rr cc own nL fr lo) {i : Fin 4} {x : Nat} {ls' : List (Nat × Value)} (hl : stl1 ls (i : Nat) (.ref x) = ls') (hn : (i : Nat) < nL) (d : decode cc pc = .ok (.astore_n i, 1)) (k : jG V X ev rr t (pc + 1) ls' st h) : jG V X ev rr t pc ls (.ref x :: st) h := j_local (fun _ _ _ _ _ _ q w => lv_astore_n hX.1.1 hX.1.2.1 d rfl q (by rw [hX.1.2.2.1]; exact hn) hl w) k
theorem j_astore (hX : okX V X rr cc own nL fr lo) {i : Nat} {x : Nat} {ls' : List (Nat × Value)} (hl : stl1 ls i (.ref x) = ls') (hn : i < nL) (d : decode cc pc = .ok (.astore i, 2)) (k : jG V X ev rr t (pc + 2) ls' st h) : jG V X ev rr t pc ls (.ref x :: st) h := j_local (fun _ _ _ _ _ _ q w => lv_astore hX.1.1 hX.1.2.1 d q (by rw [hX.1.2.2.1]; exact hn) hl w) k
theorem j_iinc (hX : okX V X rr cc own nL fr lo) {i : Nat} {n : Int} {x : Int32} {T : Int32 → Option (ρ × HP)} (p : Nat) (hp : ls[p]? = some (i, .int x)) (c : Int32) (hc : Int32.ofInt n = c) (ls' : Int32 → List (Nat × Value)) (hl : ∀ v, stl1 ls i (.int v) = ls' v) (hn : i < nL) (d : decode cc pc = .ok (.iinc i n, 3)) (k : ∀ v, jG V X ev rr (T v) (pc + 3) (ls' v) st h) : jG V X ev rr (bnd (x + c) T) pc ls st h := j_local (fun _ _ _ _ _ _ q w => lv_iinc hX.1.1 hX.1.2.1 d q hp (by rw [hc]) (by rw [hX.1.2.2.1]; exact hn) (hl (x + c)) w) (k (x + c))
theorem j_locs {ls' : List (Nat × Value)} (ks : List Nat) (hp : lv_pick ls ks = ls') (k : jG V X ev rr t pc ls' st h) : jG V X ev rr t pc ls st h := by
  intro e
  obtain ⟨h1, h2⟩ := k e
  exact ⟨h1, fun hn H locs la hl hW hS => h2 hn H locs la (lv_sub hl ks hp) hW hS⟩
end JB
/-- the field k of class ci, read or written by the entry 'index' of the class 'own' -/
def fl_ok (own : String) (index ci k : Nat) : Prop := ∃ (C : String) (T : u_T) (N : Nat), cls_ok ci C T N ∧ k < N ∧ ∃ ref : String, Cond.fieldLink own index ref (T k).2.1 (T k).2.2.1 ∈ lw_all ∧ (ref = (T k).1 ∨ Cond.sameField ref (T k).1 (T k).2.1 (T k).2.2.1 ∈ lw_all)
/-- it isn't final -/
def fl_w (own : String) (index ci k : Nat) : Prop := ∃ (C : String) (T : u_T) (N : Nat), cls_ok ci C T N ∧ k < N ∧ (∃ ref : String, Cond.fieldLink own index ref (T k).2.1 (T k).2.2.1 ∈ lw_all ∧ (ref = (T k).1 ∨ Cond.sameField ref (T k).1 (T k).2.1 (T k).2.2.1 ∈ lw_all)) ∧ (T k).2.2.2 = false
theorem fl_w.ok {own : String} {index ci k : Nat} (h : fl_w own index ci k) : fl_ok own index ci k := by
  obtain ⟨C, T, N, h1, h2, h3, -⟩ := h
  exact ⟨C, T, N, h1, h2, h3⟩
section JH
variable {V : HP → HP} {ρ : Type} {X : CTX} {ev : (HP → HP) → CTX → ρ × HP → State → Prop} {rr : ρ × HP} {cc : ByteArray} {own : String} {nL fr lo : Nat} {t : Option (ρ × HP)} {pc : Nat} {ls : List (Nat × Value)} {st : List Value} {h : HP}
theorem j_get (hX : okX V X rr cc own nL fr lo) {index ci k a : Nat} (h3 : ft ci k ≠ 3) (hf : fl_ok own index ci k) (ht : (gT (V h) a).1 = ci + 1) (d : decode cc pc = .ok (.getfield index, 3)) (kk : jG V X ev rr t (pc + 3) ls (sv (xz X) (ft ci) (gI h a) (gL h a) (gR (V h) a) k :: st) h) : jG V X ev rr t pc ls (.ref (xz X + a) :: st) h := by
  intro e
  obtain ⟨h1, h2⟩ := kk e
  refine ⟨h1, fun hn H locs la hl hW hS => ?_⟩
  obtain ⟨C, T, N, ⟨c1, c0, c2, c3, c4⟩, hk, ref, hlk, hsm⟩ := hf
  obtain ⟨⟨hx, hb, hml, hown, hts⟩, ⟨⟨hK, -⟩, hV, -⟩, -⟩ := hX
  obtain ⟨w0, hw0, cell, q1, q2, q3, q4⟩ := (hW.2.2 a).obj ht c0 c1
  obtain ⟨hS', hfc, kC, hkC, hkind⟩ := hK.1 ci _ c1
  obtain ⟨cf, kf, fi, f, hi, hsl⟩ := hS' k hk
  have hi2 : (xs X).fieldFound? ref (T k).2.1 (T k).2.2.1 = some (cf, kf, fi, f) := by
    rcases hsm with rfl | hsm
    · exact hi
    · exact u_same (hts _ hsm) _ hi
  refine W.getf hx hb hown (hts _ hlk) hi2 (u_facts hfc hkC (u_lays hts c2 hk) hi).1 q1 (by rw [q3]; exact fun h => by cases h) (v := sv (xz X) (ft ci) (gI h a) (gL h a) (gR (V h) a) k) ?_ rfl rfl d (h2 hn H locs la hl hW hS)
  rw [hsl, q4 k hk, hw0 k h3, (hV.1 h).1, (hV.1 h).2]
theorem j_getI (hX : okX V X rr cc own nL fr lo) {index ci k a : Nat} (hf : fl_ok own index ci k) (h0 : ft ci k = 0) (ht : (gT (V h) a).1 = ci + 1) (d : decode cc pc = .ok (.getfield index, 3)) (kk : jG V X ev rr t (pc + 3) ls (.int (gI h a k) :: st) h) : jG V X ev rr t pc ls (.ref (xz X + a) :: st) h := j_get hX (by rw [h0]; decide) hf ht d (by unfold sv; rw [if_pos h0]; exact kk)
theorem j_getL (hX : okX V X rr cc own nL fr lo) {index ci k a : Nat} (hf : fl_ok own index ci k) (h0 : ft ci k = 1) (ht : (gT (V h) a).1 = ci + 1) (d : decode cc pc = .ok (.getfield index, 3)) (kk : jG V X ev rr t (pc + 3) ls (.long (gL h a k) :: st) h) : jG V X ev rr t pc ls (.ref (xz X + a) :: st) h := j_get hX (by rw [h0]; decide) hf ht d (by unfold sv; rw [if_neg (by rw [h0]; decide), if_pos h0]; exact kk)
theorem j_getR (hX : okX V X rr cc own nL fr lo) {index ci k a b : Nat} (hf : fl_ok own index ci k) (h0 : ft ci k = 2) (ht : (gT (V h) a).1 = ci + 1) (hr : gR (V h) a k = some b) (d : decode cc pc = .ok (.getfield index, 3)) (kk : jG V X ev rr t (pc + 3) ls (.ref (xz X + b) :: st) h) : jG V X ev rr t pc ls (.ref (xz X + a) :: st) h := j_get hX (by rw [h0]; decide) hf ht d (by unfold sv; rw [if_neg (by rw [h0]; decide), if_neg (by rw [h0]; decide), if_pos h0, hr]; exact kk)
/-- one slot of an object is written -/
theorem j_putG (hX : okX V X rr cc own nL fr lo) {index ci k a : Nat} {ty : FieldType} {v : Value} {h' : HP} (hf : fl_w own index ci k) (hty : jty ci k = ty) (ht : (gT (V h) a).1 = ci + 1) (hn : narrow ty v = v) (hfit : fits ty v = true) (hN : gN (V h') = gN (V h)) (hS0 : gS (V h') = gS (V h)) (hT : gT (V h') = gT (V h)) (hI : ∀ x, x ≠ a → gI (V h') x = gI (V h) x) (hL : ∀ x, x ≠ a → gL (V h') x = gL (V h) x) (hR : ∀ x, x ≠ a → gR (V h') x = gR (V h) x)
    (hv : ∀ j, ft ci j ≠ 3 → sv (xz X) (ft ci) (gI (V h') a) (gL (V h') a) (gR (V h') a) j = if j = k then v else sv (xz X) (ft ci) (gI (V h) a) (gL (V h) a) (gR (V h) a) j) (d : decode cc pc = .ok (.putfield index, 3)) (kk : jG V X ev rr t (pc + 3) ls st h') : jG V X ev rr t pc ls (v :: .ref (xz X + a) :: st) h := by
  intro e
  obtain ⟨h1, h2⟩ := kk e
  rw [hN, hS0] at h1 h2
  refine ⟨h1, fun hn0 H locs la hl hW hS => ?_⟩
  obtain ⟨C, T, N, ⟨c1, c0, c2, c3, c4⟩, hk, ⟨ref, hlk, hsm⟩, hfin⟩ := hf
  obtain ⟨⟨hx, hb, hml, hown, hts⟩, ⟨⟨hK, -⟩, hV, -⟩, -⟩ := hX
  have hap := va_apart (own := own) (D := xD X) (ci := ci) hts c2 (jty ci) c3 c4 hK c1
  obtain ⟨w0, hw0, cell, q1, q2, q3, q4⟩ := (hW.2.2 a).obj ht c0 c1
  obtain ⟨hS', hfc, kC, hkC, hkind⟩ := hK.1 ci _ c1
  obtain ⟨cf, kf, fi, f, hi, hsl⟩ := hS' k hk
  have hlay := hts _ (c2 _ (u_in_lay hk))
  unfold u_lay at hlay
  rw [if_neg (by rw [hfin]; decide)] at hlay
  have hst := (u_facts hfc hkC (u_lays hts c2 hk) hi).1
  have h6 := u_store hfc hkC hkind hlay hi (by rw [c3 k hk, hty]) hn hfit
  have hi2 : (xs X).fieldFound? ref (T k).2.1 (T k).2.2.1 = some (cf, kf, fi, f) := by
    rcases hsm with rfl | hsm
    · exact hi
    · exact u_same (hts _ hsm) _ hi
  refine W.putK hx hb (f := f) ⟨hown, hts _ hlk, ⟨_, _, _, hi2⟩, hst⟩ (by rw [q2]; exact h6) q1 q3 (by rw [hsl]; exact k2_hasslot (q4 k hk)) rfl rfl d fun H' e1 e2 e3 => ?_
  rw [hsl] at e1 ⊢
  have hO : xO X a := hW.2.1 a (by rw [ht]; exact Nat.succ_ne_zero ci)
  refine h2 hn0 H' _ la hl (hW.write (a := a) hN hT hI hL hR e2 e3 ?_) (hS.put e2 e3 ⟨a, rfl, hO⟩)
  refine Or.inr (Or.inl ⟨by rw [ht]; exact c0, _, updV w0 k v, by rw [ht]; exact c1, ?_, ?_⟩)
  · rw [ht]
    intro j hj
    rw [show ci + 1 - 1 = ci from rfl, hv j hj]
    unfold updV
    by_cases hq : j = k
    · rw [if_pos hq, if_pos hq]
    · rw [if_neg hq, if_neg hq]; exact hw0 j hj
  · rw [ht]
    exact ⟨_, e1, q2, q3, t_set q4 hap hk v⟩
theorem j_put (hX : okX V X rr cc own nL fr lo) {index ci k a : Nat} {ty : FieldType} {v : Value} {h' : HP} (hf : fl_w own index ci k) (hty : jty ci k = ty) (ht : (gT (V h) a).1 = ci + 1) (hn : narrow ty v = v) (hfit : fits ty v = true) (hN : gN (V h') = gN (V h)) (hS0 : gS (V h') = gS (V h)) (hT : gT (V h') = gT (V h)) (hI : ∀ x, x ≠ a → gI (V h') x = gI (V h) x) (hL : ∀ x, x ≠ a → gL (V h') x = gL (V h) x) (hR : ∀ x, x ≠ a → gR (V h') x = gR (V h) x)
    (hv : ∀ j, sv (xz X) (ft ci) (gI (V h') a) (gL (V h') a) (gR (V h') a) j = if j = k then v else sv (xz X) (ft ci) (gI (V h) a) (gL (V h) a) (gR (V h) a) j) (d : decode cc pc = .ok (.putfield index, 3)) (kk : jG V X ev rr t (pc + 3) ls st h') : jG V X ev rr t pc ls (v :: .ref (xz X + a) :: st) h := j_putG hX hf hty ht hn hfit hN hS0 hT hI hL hR (fun j _ => hv j) d kk
/-- a field that nobody reads is written: the picture stays -/
theorem j_put3 (hX : okX V X rr cc own nL fr lo) {index ci k a : Nat} {v : Value} (hf : fl_w own index ci k) (h3 : ft ci k = 3) (ht : (gT (V h) a).1 = ci + 1) (hn : narrow (jty ci k) v = v) (hfit : fits (jty ci k) v = true) (d : decode cc pc = .ok (.putfield index, 3)) (kk : jG V X ev rr t (pc + 3) ls st h) : jG V X ev rr t pc ls (v :: .ref (xz X + a) :: st) h :=
  j_putG (h' := h) hX hf rfl ht hn hfit rfl rfl rfl (fun _ _ => rfl) (fun _ _ => rfl) (fun _ _ => rfl) (fun j hj => by
    rw [if_neg (fun hq : j = k => hj (by rw [hq]; exact h3))]) d kk
theorem sv_I {z : Nat} {f : Nat → Nat} {i i' : Nat → Int32} {l : Nat → Int64} {r : Nat → Option Nat} {k : Nat} {v : Int32} (h0 : f k = 0) (hi : ∀ j, i' j = if j = k then v else i j) (j : Nat) : sv z f i' l r j = if j = k then .int v else sv z f i l r j := by
  unfold sv
  by_cases hj : j = k
  · subst hj
    rw [if_pos h0, hi j, if_pos rfl, if_pos rfl]
  · rw [hi j, if_neg hj, if_neg hj]
theorem sv_L {z : Nat} {f : Nat → Nat} {i : Nat → Int32} {l l' : Nat → Int64} {r : Nat → Option Nat} {k : Nat} {v : Int64} (h0 : f k = 1) (hi : ∀ j, l' j = if j = k then v else l j) (j : Nat) : sv z f i l' r j = if j = k then .long v else sv z f i l r j := by
  unfold sv
  by_cases hj : j = k
  · subst hj
    rw [if_neg (by rw [h0]; decide), if_pos h0, hi j, if_pos rfl, if_pos rfl]
  · rw [hi j, if_neg hj, if_neg hj]
theorem j_putI0 (hX : okX V X rr cc own nL fr lo) {index ci k a : Nat} {ty : FieldType} {x : Int32} {T : HP → Option (ρ × HP)} (hf : fl_w own index ci k) (h19 : ci ≠ 19) (hty : jty ci k = ty) (htc : tcode ty = 0) (ht : (gT (V h) a).1 = ci + 1) (hn : narrow ty (.int x) = .int x) (hfit : fits ty (.int x) = true) (d : decode cc pc = .ok (.putfield index, 3)) (kk : ∀ h', jG V X ev rr (T h') (pc + 3) ls st h') : jG V X ev rr (bnd (sI h a k x) T) pc ls (.int x :: .ref (xz X + a) :: st) h := by
  have hV := hX.2.1.2.1
  have e1 := hV.2.1 h a k x
  have h0 : ft ci k = 0 := by unfold ft; rw [if_neg h19, hty]; exact htc
  refine j_put (h' := sI h a k x) hX hf hty ht hn hfit (by rw [e1]; rfl) (by rw [e1]; rfl) (by rw [e1]; rfl) (fun y hy => ?_) (fun y hy => by rw [e1]; rfl) (fun y hy => by rw [e1]; rfl) (fun j => ?_) d (kk _)
  · rw [e1]; exact u2_ne hy
  · rw [e1]; exact sv_I h0 (fun j => u2_eq j) j
theorem j_putI (hX : okX V X rr cc own nL fr lo) {index ci k a : Nat} {x : Int32} {T : HP → Option (ρ × HP)} (hf : fl_w own index ci k) (hty : ci ≠ 19 ∧ jty ci k = .int) (ht : (gT (V h) a).1 = ci + 1) (d : decode cc pc = .ok (.putfield index, 3)) (kk : ∀ h', jG V X ev rr (T h') (pc + 3) ls st h') : jG V X ev rr (bnd (sI h a k x) T) pc ls (.int x :: .ref (xz X + a) :: st) h := j_putI0 hX hf hty.1 hty.2 rfl ht rfl rfl d kk
theorem j_putZ (hX : okX V X rr cc own nL fr lo) {index ci k a : Nat} {x : Int32} {T : HP → Option (ρ × HP)} (hB : isB x) (hf : fl_w own index ci k) (hty : ci ≠ 19 ∧ jty ci k = .boolean) (ht : (gT (V h) a).1 = ci + 1) (d : decode cc pc = .ok (.putfield index, 3)) (kk : ∀ h', jG V X ev rr (T h') (pc + 3) ls st h') : jG V X ev rr (bnd (sI h a k x) T) pc ls (.int x :: .ref (xz X + a) :: st) h := j_putI0 hX hf hty.1 hty.2 rfl ht (by rcases hB with rfl | rfl <;> rfl) (by rcases hB with rfl | rfl <;> rfl) d kk
theorem j_putL (hX : okX V X rr cc own nL fr lo) {index ci k a : Nat} {x : Int64} {T : HP → Option (ρ × HP)} (hf : fl_w own index ci k) (hty : ci ≠ 19 ∧ jty ci k = .long) (ht : (gT (V h) a).1 = ci + 1) (d : decode cc pc = .ok (.putfield index, 3)) (kk : ∀ h', jG V X ev rr (T h') (pc + 3) ls st h') : jG V X ev rr (bnd (sL h a k x) T) pc ls (.long x :: .ref (xz X + a) :: st) h := by
  have hV := hX.2.1.2.1
  have e1 := hV.2.2 h a k x
  have h0 : ft ci k = 1 := by unfold ft; rw [if_neg hty.1, hty.2]; rfl
  refine j_put (h' := sL h a k x) hX hf hty.2 ht rfl rfl (by rw [e1]; rfl) (by rw [e1]; rfl) (by rw [e1]; rfl) (fun y hy => by rw [e1]; rfl) (fun y hy => ?_) (fun y hy => by rw [e1]; rfl) (fun j => ?_) d (kk _)
  · rw [e1]; exact u2_ne hy
  · rw [e1]; exact sv_L h0 (fun j => u2_eq j) j
end JH
/-! arrays, calls, ends -/
section JA
variable {V : HP → HP} {ρ : Type} {X : CTX} {ev : (HP → HP) → CTX → ρ × HP → State → Prop} {rr : ρ × HP} {cc : ByteArray} {own : String} {nL fr lo : Nat} {t : Option (ρ × HP)} {pc : Nat} {ls : List (Nat × Value)} {st : List Value} {h : HP}
theorem sv_at0 {z k : Nat} {i : Nat → Int32} {l : Nat → Int64} {r : Nat → Option Nat} (h1 : k ≠ 101) (h2 : k < 104) : sv z (at_ k) i l r = fun j => .int (i j) := by
  funext j
  unfold sv at_
  simp [h1, Nat.not_le.mpr h2]
theorem sv_at1 {z : Nat} {i : Nat → Int32} {l : Nat → Int64} {r : Nat → Option Nat} : sv z (at_ 101) i l r = fun j => .long (l j) := by
  funext j
  unfold sv at_
  rw [if_pos rfl, if_neg (by decide), if_pos rfl]
/-- an int is read out of an array of kind k -/
theorem j_ald0 (hX : okX V X rr cc own nL fr lo) {a k n q : Nat} {ty : FieldType} {i : Int32} (h1 : k ≠ 101) (h2 : k < 104) (h3 : 100 ≤ k) (hq : ∀ D : va_G, (jtys D)[q]? = some (D.1 k, ty)) (ht : gT (V h) a = (k, n)) (hi : inb i n)
    (hw : ∀ (H : Heap) (locs : List Loc) (la : Array Slot) (cells slots : Nat) (Q : State → Prop) (cell : Cell) (v : Value), H[xz X + a]? = some cell → (xs X).isArrayOf cell ty → cell.vm ≠ .unknown → ¬ (i < 0 ∨ cell.slots.size ≤ i.toNatClampNeg) → cell.slots[i.toNatClampNeg]? = some v → W (xp X) (xl X) (xe X) (xR X) (xs X) (xm X) (xa X) (xb X) (xh X) (xc X) H locs cells slots Q (F0 (xm X) (pc + 1) la (v :: st)) → W (xp X) (xl X) (xe X) (xR X) (xs X) (xm X) (xa X) (xb X) (xh X) (xc X) H locs cells slots Q (F0 (xm X) pc la (.int i :: .ref (xz X + a) :: st)))
    (kk : jG V X ev rr t (pc + 1) ls (.int (gI h a i.toNatClampNeg) :: st) h) : jG V X ev rr t pc ls (.int i :: .ref (xz X + a) :: st) h := by
  intro e
  obtain ⟨g1, g2⟩ := kk e
  refine ⟨g1, fun hn H locs la hl hW hS => ?_⟩
  obtain ⟨⟨hx, hb, hml, hown, hts⟩, ⟨⟨hK, -⟩, hV, -⟩, -⟩ := hX
  have hc := (hW.2.2 a).arr ht h3
  rw [sv_at0 h1 h2, (hV.1 h).1] at hc
  have hlt : i.toNatClampNeg < n := Nat.not_le.mp fun q => hi (Or.inr q)
  exact hw H locs la _ _ _ _ (.int (gI h a i.toNatClampNeg)) hc ((hK.2 q _ (hq (xD X))).1 n _) (fun z => by cases z) (by rw [arrV_size]; exact hi) (by rw [arrV_read _ _ hlt]) (g2 hn H locs la hl hW hS)
theorem j_iald (hX : okX V X rr cc own nL fr lo) {a n : Nat} {i : Int32} (ht : gT (V h) a = (100, n)) (d : decode cc pc = .ok (.iaload, 1)) (kk : inb i n → jG V X ev rr t (pc + 1) ls (.int (gI h a i.toNatClampNeg) :: st) h) : jG V X ev rr (grd (inb i n) t) pc ls (.int i :: .ref (xz X + a) :: st) h := j_grd fun hi => j_ald0 (q := 0) hX (by decide) (by decide) (by decide) (fun _ => rfl) ht hi (fun _ _ _ _ _ _ _ _ a1 a2 a3 a4 a5 w => W.iald hX.1.1 hX.1.2.1 a1 a2 a3 a4 a5 rfl rfl d w) (kk hi)
theorem j_bald (hX : okX V X rr cc own nL fr lo) {a n : Nat} {i : Int32} (ht : gT (V h) a = (102, n)) (d : decode cc pc = .ok (.baload, 1)) (kk : inb i n → jG V X ev rr t (pc + 1) ls (.int (gI h a i.toNatClampNeg) :: st) h) : jG V X ev rr (grd (inb i n) t) pc ls (.int i :: .ref (xz X + a) :: st) h := j_grd fun hi => j_ald0 (q := 2) hX (by decide) (by decide) (by decide) (fun _ => rfl) ht hi (fun _ _ _ _ _ _ _ _ a1 a2 a3 a4 a5 w => W.bald hX.1.1 hX.1.2.1 a1 a2 a3 a4 a5 rfl rfl d w) (kk hi)
theorem j_zald (hX : okX V X rr cc own nL fr lo) {a n : Nat} {i : Int32} (ht : gT (V h) a = (103, n)) (d : decode cc pc = .ok (.baload, 1)) (kk : inb i n → jG V X ev rr t (pc + 1) ls (.int (gI h a i.toNatClampNeg) :: st) h) : jG V X ev rr (grd (inb i n) t) pc ls (.int i :: .ref (xz X + a) :: st) h := j_grd fun hi => j_ald0 (q := 3) hX (by decide) (by decide) (by decide) (fun _ => rfl) ht hi (fun _ _ _ _ _ _ _ _ a1 a2 a3 a4 a5 w => W.zald hX.1.1 hX.1.2.1 a1 a2 a3 a4 a5 rfl rfl d w) (kk hi)
theorem j_lald (hX : okX V X rr cc own nL fr lo) {a n : Nat} {i : Int32} (ht : gT (V h) a = (101, n)) (d : decode cc pc = .ok (.laload, 1)) (kk : inb i n → jG V X ev rr t (pc + 1) ls (.long (gL h a i.toNatClampNeg) :: st) h) : jG V X ev rr (grd (inb i n) t) pc ls (.int i :: .ref (xz X + a) :: st) h := by
  refine j_grd fun hi => ?_
  intro e
  obtain ⟨g1, g2⟩ := kk hi e
  refine ⟨g1, fun hn H locs la hl hW hS => ?_⟩
  obtain ⟨⟨hx, hb, hml, hown, hts⟩, ⟨⟨hK, -⟩, hV, -⟩, -⟩ := hX
  have hc := (hW.2.2 a).arr ht (by decide)
  rw [sv_at1, (hV.1 h).2] at hc
  have hlt : i.toNatClampNeg < n := Nat.not_le.mp fun q => hi (Or.inr q)
  exact W.lald (v := .long (gL h a i.toNatClampNeg)) hx hb hc ((hK.2 1 _ rfl).1 n _) (fun z => by cases z) (by rw [arrV_size]; exact hi) (by rw [arrV_read _ _ hlt]) rfl rfl d (g2 hn H locs la hl hW hS)
theorem j_alen (hX : okX V X rr cc own nL fr lo) {a k n q : Nat} {ty : FieldType} (h3 : 100 ≤ k) (hq : ∀ D : va_G, (jtys D)[q]? = some (D.1 k, ty)) (ht : gT (V h) a = (k, n)) {v : Int32} (hv : Int32.ofNat n = v) (d : decode cc pc = .ok (.arraylength, 1)) (kk : jG V X ev rr t (pc + 1) ls (.int v :: st) h) : jG V X ev rr t pc ls (.ref (xz X + a) :: st) h := by
  intro e
  obtain ⟨g1, g2⟩ := kk e
  refine ⟨g1, fun hn H locs la hl hW hS => ?_⟩
  obtain ⟨⟨hx, hb, hml, hown, hts⟩, ⟨⟨hK, -⟩, hV, -⟩, -⟩ := hX
  have hc := (hW.2.2 a).arr ht h3
  exact W.alen (n := v) hx hb hc ((hK.2 q _ (hq (xD X))).1 n _) (by rw [arrV_size]; exact hv) rfl rfl d (g2 hn H locs la hl hW hS)
/-- one place of an array is written -/
theorem j_ast0 {a k n q j : Nat} {ty : FieldType} {x : Value} {st0 : List Value} {h' : HP} (hX : okX V X rr cc own nL fr lo) (h3 : 100 ≤ k) (hq : ∀ D : va_G, (jtys D)[q]? = some (D.1 k, ty)) (ht : gT (V h) a = (k, n)) (hN : gN (V h') = gN (V h)) (hS0 : gS (V h') = gS (V h)) (hT : gT (V h') = gT (V h)) (hI : ∀ x, x ≠ a → gI (V h') x = gI (V h) x) (hL : ∀ x, x ≠ a → gL (V h') x = gL (V h) x) (hR : ∀ x, x ≠ a → gR (V h') x = gR (V h) x)
    (hv : ∀ i, sv (xz X) (at_ k) (gI (V h') a) (gL (V h') a) (gR (V h') a) i = if i = j then x else sv (xz X) (at_ k) (gI (V h) a) (gL (V h) a) (gR (V h) a) i)
    (hw : ∀ (H : Heap) (locs : List Loc) (la : Array Slot) (cells slots : Nat) (Q : State → Prop) (cell : Cell), H[xz X + a]? = some cell → (xs X).isArrayOf cell ty → cell.vm ≠ .unknown → cell.slots.size = n → (∀ H' : Heap, H'[xz X + a]? = some (cell.setSlot j x) → H'.size = H.size → (∀ q, q ≠ xz X + a → H'[q]? = H[q]?) → W (xp X) (xl X) (xe X) (xR X) (xs X) (xm X) (xa X) (xb X) (xh X) (xc X) H' (locs ++ [⟨xz X + a, j⟩]) cells slots Q (F0 (xm X) (pc + 1) la st)) → W (xp X) (xl X) (xe X) (xR X) (xs X) (xm X) (xa X) (xb X) (xh X) (xc X) H locs cells slots Q (F0 (xm X) pc la st0))
    (kk : jG V X ev rr t (pc + 1) ls st h') : jG V X ev rr t pc ls st0 h := by
  intro e
  obtain ⟨h1, h2⟩ := kk e
  rw [hN, hS0] at h1 h2
  refine ⟨h1, fun hn0 H locs la hl hW hS => ?_⟩
  obtain ⟨⟨hx, hb, hml, hown, hts⟩, ⟨⟨hK, -⟩, hV, -⟩, -⟩ := hX
  have hc := (hW.2.2 a).arr ht h3
  have hO : xO X a := hW.2.1 a (by rw [ht]; show k ≠ 0; omega)
  refine hw H locs la _ _ _ _ hc ((hK.2 q _ (hq (xD X))).1 n _) (fun z => by cases z) (arrV_size _ _ _) fun H' e1 e2 e3 => ?_
  refine h2 hn0 H' _ la hl (hW.write (a := a) hN hT hI hL hR e2 e3 ?_) (hS.put e2 e3 ⟨a, rfl, hO⟩)
  refine Or.inr (Or.inr ⟨by rw [ht]; exact h3, ?_⟩)
  rw [ht, e1, arrV_store]
  congr 2
  funext i
  exact (hv i).symm
theorem j_ast1 {a k n q : Nat} {ty : FieldType} {i x x' : Int32} {T : HP → Option (ρ × HP)} (hX : okX V X rr cc own nL fr lo) (h1 : k ≠ 101) (h2 : k < 104) (h3 : 100 ≤ k) (hq : ∀ D : va_G, (jtys D)[q]? = some (D.1 k, ty)) (ht : gT (V h) a = (k, n)) (hi : inb i n)
    (hw : ∀ (H : Heap) (locs : List Loc) (la : Array Slot) (cells slots : Nat) (Q : State → Prop) (cell : Cell), H[xz X + a]? = some cell → (xs X).isArrayOf cell ty → cell.vm ≠ .unknown → ¬ (i < 0 ∨ cell.slots.size ≤ i.toNatClampNeg) → (∀ H' : Heap, H'[xz X + a]? = some (cell.setSlot i.toNatClampNeg (.int x')) → H'.size = H.size → (∀ q, q ≠ xz X + a → H'[q]? = H[q]?) → W (xp X) (xl X) (xe X) (xR X) (xs X) (xm X) (xa X) (xb X) (xh X) (xc X) H' (locs ++ [⟨xz X + a, i.toNatClampNeg⟩]) cells slots Q (F0 (xm X) (pc + 1) la st)) → W (xp X) (xl X) (xe X) (xR X) (xs X) (xm X) (xa X) (xb X) (xh X) (xc X) H locs cells slots Q (F0 (xm X) pc la (.int x :: .int i :: .ref (xz X + a) :: st)))
    (kk : ∀ h', jG V X ev rr (T h') (pc + 1) ls st h') : jG V X ev rr (bnd (sI h a i.toNatClampNeg x') T) pc ls (.int x :: .int i :: .ref (xz X + a) :: st) h := by
  have hV := hX.2.1.2.1
  have e1 := hV.2.1 h a i.toNatClampNeg x'
  refine j_ast0 (h' := sI h a i.toNatClampNeg x') (j := i.toNatClampNeg) (x := .int x') hX h3 hq ht (by rw [e1]; rfl) (by rw [e1]; rfl) (by rw [e1]; rfl) (fun y hy => ?_) (fun y hy => by rw [e1]; rfl) (fun y hy => by rw [e1]; rfl) (fun j => ?_) (fun H locs la cells slots Q cell a1 a2 a3 a4 w => hw H locs la cells slots Q cell a1 a2 a3 (by rw [a4]; exact hi) w) (kk _)
  · rw [e1]; exact u2_ne hy
  · rw [e1]
    exact sv_I (by unfold at_; rw [if_neg h1, if_neg (by omega)]) (fun j => u2_eq j) j
theorem j_iast (hX : okX V X rr cc own nL fr lo) {a n : Nat} {i x : Int32} {T : HP → Option (ρ × HP)} (ht : gT (V h) a = (100, n)) (d : decode cc pc = .ok (.iastore, 1)) (kk : inb i n → ∀ h', jG V X ev rr (T h') (pc + 1) ls st h') : jG V X ev rr (grd (inb i n) (bnd (sI h a i.toNatClampNeg x) T)) pc ls (.int x :: .int i :: .ref (xz X + a) :: st) h := j_grd fun hi => j_ast1 (q := 0) hX (by decide) (by decide) (by decide) (fun _ => rfl) ht hi (fun _ _ _ _ _ _ _ a1 a2 a3 a4 w => W.iast hX.1.1 hX.1.2.1 a1 a2 a3 a4 rfl rfl d w) (kk hi)
theorem j_bast (hX : okX V X rr cc own nL fr lo) {a n : Nat} {i x : Int32} {T : HP → Option (ρ × HP)} (ht : gT (V h) a = (102, n)) (d : decode cc pc = .ok (.bastore, 1)) (kk : inb i n → ∀ h', jG V X ev rr (T h') (pc + 1) ls st h') : jG V X ev rr (grd (inb i n) (bnd (sI h a i.toNatClampNeg x.toInt8.toInt32) T)) pc ls (.int x :: .int i :: .ref (xz X + a) :: st) h := j_grd fun hi => j_ast1 (q := 2) hX (by decide) (by decide) (by decide) (fun _ => rfl) ht hi (fun _ _ _ _ _ _ _ a1 a2 a3 a4 w => W.bast hX.1.1 hX.1.2.1 a1 a2 a3 a4 rfl rfl d w) (kk hi)
theorem j_zast (hX : okX V X rr cc own nL fr lo) {a n : Nat} {i x : Int32} {T : HP → Option (ρ × HP)} (hB : isB x) (ht : gT (V h) a = (103, n)) (d : decode cc pc = .ok (.bastore, 1)) (kk : inb i n → ∀ h', jG V X ev rr (T h') (pc + 1) ls st h') : jG V X ev rr (grd (inb i n) (bnd (sI h a i.toNatClampNeg x) T)) pc ls (.int x :: .int i :: .ref (xz X + a) :: st) h := j_grd fun hi => j_ast1 (q := 3) hX (by decide) (by decide) (by decide) (fun _ => rfl) ht hi (fun _ _ _ _ _ _ _ a1 a2 a3 a4 w => W.zast hX.1.1 hX.1.2.1 a1 a2 a3 a4 rfl rfl d (by rw [show narrow .boolean (.int x) = .int x by rcases hB with rfl | rfl <;> rfl]; exact w)) (kk hi)
theorem j_last (hX : okX V X rr cc own nL fr lo) {a n : Nat} {i : Int32} {x : Int64} {T : HP → Option (ρ × HP)} (ht : gT (V h) a = (101, n)) (d : decode cc pc = .ok (.lastore, 1)) (kk : inb i n → ∀ h', jG V X ev rr (T h') (pc + 1) ls st h') : jG V X ev rr (grd (inb i n) (bnd (sL h a i.toNatClampNeg x) T)) pc ls (.long x :: .int i :: .ref (xz X + a) :: st) h := by
  refine j_grd fun hi => ?_
  have hV := hX.2.1.2.1
  have e1 := hV.2.2 h a i.toNatClampNeg x
  refine j_ast0 (q := 1) (h' := sL h a i.toNatClampNeg x) (j := i.toNatClampNeg) (x := .long x) hX (by decide) (fun _ => rfl) ht (by rw [e1]; rfl) (by rw [e1]; rfl) (by rw [e1]; rfl) (fun y hy => by rw [e1]; rfl) (fun y hy => ?_) (fun y hy => by rw [e1]; rfl) (fun j => ?_) (fun H locs la cells slots Q cell a1 a2 a3 a4 w => W.last hX.1.1 hX.1.2.1 a1 a2 a3 (by rw [a4]; exact hi) rfl rfl d w) (kk hi _)
  · rw [e1]; exact u2_ne hy
  · rw [e1]
    exact sv_L (by unfold at_; rw [if_pos rfl]) (fun j => u2_eq j) j
/-! ends -/
theorem j_iret (hX : okX V X rr cc own nL fr lo) {rr : Int32 × HP} {v : Int32} (hr : (xh X).sig.returnType = some .int) (d : decode cc pc = .ok (.ireturn, 1)) : jG V X evI rr (some (v, h)) pc ls [.int v] h := by
  intro e
  cases e
  obtain ⟨⟨hx, hb, hml, hown, hts⟩, ⟨⟨hK, -⟩, hV, hlk, -⟩, -⟩ := hX
  exact ⟨⟨Nat.le_refl _, Nat.le_refl _⟩, fun hn H locs la hl hW hS => W.iret hx hb hr (fun t ht hw => ⟨rfl, by rw [ht]; exact hW, hS.F ht⟩) hS.2.2 d hlk⟩
theorem j_zret (hX : okX V X rr cc own nL fr lo) {rr : Int32 × HP} {v : Int32} (hB : isB v) (hr : (xh X).sig.returnType = some .boolean) (d : decode cc pc = .ok (.ireturn, 1)) : jG V X evI rr (some (v, h)) pc ls [.int v] h := by
  intro e
  cases e
  obtain ⟨⟨hx, hb, hml, hown, hts⟩, ⟨⟨hK, -⟩, hV, hlk, -⟩, -⟩ := hX
  exact ⟨⟨Nat.le_refl _, Nat.le_refl _⟩, fun hn H locs la hl hW hS => W.zret hx hb hr (by rcases hB with rfl | rfl <;> rfl) (fun t ht hw => ⟨rfl, by rw [ht]; exact hW, hS.F ht⟩) hS.2.2 d hlk⟩
theorem j_lret (hX : okX V X rr cc own nL fr lo) {rr : Int64 × HP} {v : Int64} (hr : (xh X).sig.returnType = some .long) (d : decode cc pc = .ok (.lreturn, 1)) : jG V X evL rr (some (v, h)) pc ls [.long v] h := by
  intro e
  cases e
  obtain ⟨⟨hx, hb, hml, hown, hts⟩, ⟨⟨hK, -⟩, hV, hlk, -⟩, -⟩ := hX
  exact ⟨⟨Nat.le_refl _, Nat.le_refl _⟩, fun hn H locs la hl hW hS => W.lret hx hb hr (fun t ht hw => ⟨rfl, by rw [ht]; exact hW, hS.F ht⟩) hS.2.2 d hlk⟩
theorem j_vret (hX : okX V X rr cc own nL fr lo) {rr : Unit × HP} (hr : (xh X).sig.returnType = none) (d : decode cc pc = .ok (.return_, 1)) : jG V X evV rr (some ((), h)) pc ls [] h := by
  intro e
  cases e
  obtain ⟨⟨hx, hb, hml, hown, hts⟩, ⟨⟨hK, -⟩, hV, hlk, -⟩, -⟩ := hX
  exact ⟨⟨Nat.le_refl _, Nat.le_refl _⟩, fun hn H locs la hl hW hS => W.vret hx hb hr (fun t ht hw => ⟨rfl, by rw [ht]; exact hW, hS.F ht⟩) hS.2.2 d hlk⟩
/-! calls -/
/-- behind a call that has run -/
theorem j_ran {H : Heap} {locs : List Loc} {la : Array Slot} {mc ms : Nat} {st0 rest : List Value} {rv : Option Value} {h1 : HP} {av : Array Value} {cells slots : Nat} {Q : State → Prop}
    (hr : va_Run (xp X) (xl X) (xe X) (xR X) (xs X) (xm X) (xa X) (xb X) (xh X) (xc X) H locs cells slots mc ms (F0 (xm X) pc la st0) rest (Qcn V (xD X) (xz X) (xO X) rv h1 av) (aA (xz X) (xO X))) (hS : va_S (aA (xz X) (xO X)) (xs X).heap H locs)
    (kk : ∀ (H1 : Heap) (locs1 : List Loc), wD (xO X) (xD X) (xz X) (V h1) H1 → va_S (aA (xz X) (xO X)) (xs X).heap H1 locs1 → W (xp X) (xl X) (xe X) (xR X) (xs X) (xm X) (xa X) (xb X) (xh X) (xc X) H1 locs1 (cells + mc) (slots + ms) Q (F0 (xm X) (pc + 3) la (rv.toList ++ rest))) : W (xp X) (xl X) (xe X) (xR X) (xs X) (xm X) (xa X) (xb X) (xh X) (xc X) H locs cells slots Q (F0 (xm X) pc la st0) := by
  intro T hT X0
  obtain ⟨v, st₀, t, T', L, h0, X', hL, e1, e2, ⟨hv, hW1, hz, hk⟩, st⟩ := hr T hT X0
  cases hv
  rw [h0] at hz hk
  obtain ⟨t2, a1, b1⟩ := kk T'.heap (locs ++ L) (by rw [e1]; exact hW1) ⟨Nat.le_trans hS.1 (by rw [e1]; exact hz), fun q h1 h2 => by rw [e1, hk q (Nat.lt_of_lt_of_le h1 hS.1) h2]; exact hS.2.1 q h1 h2, fun q hq => by
      rcases List.mem_append.mp hq with h | h
      · exact hS.2.2 q h
      · exact hL q h⟩ T' rfl X'
  exact ⟨t2, st t2 a1, b1⟩
/-- what a method's name says of itself: its class is no handle, its arguments are n -/
def y_ok (y : MethodName) (n : Nat) : Prop := plainName y.cls = true ∧ y.cls ≠ "java/lang/invoke/MethodHandle" ∧ y.cls ≠ "java/lang/invoke/VarHandle" ∧ (parseMethodDescriptor y.desc).map (fun d => d.parameters.length) = some n
theorem j_callV {α : Type} {f : Option (α × HP)} {T : α → HP → Option (ρ × HP)} {e1 : Nat → α → Option Value} {y : MethodName} {cd : ByteArray} {mL n f1 l1 index a ci : Nat} {ret : Option FieldType} {As : Nat → List Value} {rest st0 : List Value} {C : String} {U : u_T} {N : Nat} (hX : okX V X rr cc own nL fr lo) (hM : ∀ r, f = some r → Cn V y (ws_ y cd mL ret) f1 l1 (fun z => .ref (z + a) :: As z) h (fun z => e1 z r.1) r.2) (hy : y_ok y n) (wd : GoodIn lw_all (wsV own index C y (ws_ y cd mL ret))) (hC : y.cls = C) (hc : cls_ok ci C U N) (ht : (gT (V h) a).1 = ci + 1) (hr : f1 + 1 ≤ fr ∧ 8 + (mL + 11) + l1 ≤ lo) (hn : (As (xz X)).length = n) (hst : st0 = (As (xz X)).reverse ++ .ref (xz X + a) :: rest) (hw : (rest.map fun v => v.category).sum ≤ 8)
    (d : decode cc pc = .ok (.invokevirtual index, 3)) (kk : ∀ r h1, jG V X ev rr (T r h1) (pc + 3) ls ((e1 (xz X) r).toList ++ rest) h1) : jG V X ev rr (cal f T) pc ls st0 h := by
  intro e
  cases hf : f with
  | none => rw [hf] at e; cases e
  | some r =>
    obtain ⟨r, h1⟩ := r
    rw [hf] at e
    obtain ⟨⟨m1, m2⟩, hMet⟩ := hM _ hf
    obtain ⟨⟨k1, k2⟩, k3⟩ := kk r h1 e
    refine ⟨⟨Nat.le_trans m1 k1, Nat.le_trans m2 k2⟩, fun hn0 H locs la hl hW hS => ?_⟩
    obtain ⟨⟨hx, hb, hml, hown, hts⟩, ⟨hT, hV, hlk, hfl⟩, ⟨hR1, hR2, hR3, hR4⟩⟩ := hX
    dsimp only at m1 m2 k1 k2 k3 hMet
    have run := va_runV (p := xp X) (l := xl X) (e := xe X) (R := xR X) (s := xs X) (m := xm X) (args := xa X) (below := xb X) (meth := xh X) (c := xc X) (H := H) (locs := locs) (cells := gN (V h) - xn X) (slots := gS (V h) - xk X) (As := As (xz X)) (rest := rest) (b := xz X + a) (g := F0 (xm X) pc la st0) (Ts := lw_all) ⟨hx, hb, rfl, hown, hts⟩ (hMet (xl X) (xD X) (xz X) (xO X) hfl) (cwV n hts wd rfl rfl rfl ⟨hC, hy.2⟩ ⟨by rw [hR1]; exact hr.1, by rw [hR2]; exact hr.2⟩) ⟨Pcn.blind, ?_, fun U hU hw => ⟨rfl, by rw [hU]; exact hW, by rw [hU]; exact (hT.kept hS.2.1).warm hw⟩⟩ rfl hn hl.1 hst (by show 2 * 0 + _ ≤ 8; omega) d ⟨by rw [hR3]; omega, by rw [hR4]; omega⟩
    · refine j_ran run hS fun H1 locs1 hW1 hS1 => ?_
      have q1 : gN (V h) - xn X + (gN (V h1) - gN (V h)) = gN (V h1) - xn X := by omega
      have q2 : gS (V h) - xk X + (gS (V h1) - gS (V h)) = gS (V h1) - xk X := by omega
      rw [q1, q2]
      exact k3 ⟨by omega, by omega⟩ H1 locs1 la hl hW1 hS1
    · obtain ⟨c1, c0, -⟩ := hc
      obtain ⟨-, -, cell, g1, g2, g3, -⟩ := (hW.2.2 a).obj ht c0 c1
      exact ⟨cell, g1, by rw [g3]; rfl, by rw [g2]; exact (hT.1.1 ci _ c1).2.1⟩
theorem j_callS {α : Type} {f : Option (α × HP)} {T : α → HP → Option (ρ × HP)} {e1 : Nat → α → Option Value} {y : MethodName} {cd : ByteArray} {mL n f1 l1 index : Nat} {ret : Option FieldType} {As : Nat → List Value} {rest st0 : List Value} (hX : okX V X rr cc own nL fr lo) (hM : ∀ r, f = some r → Cn V y (ws_ y cd mL ret) f1 l1 As h (fun z => e1 z r.1) r.2) (hy : y_ok y n) (wd : GoodIn lw_all (va_wsS own index y (ws_ y cd mL ret))) (hr : f1 + 1 ≤ fr ∧ 8 + (mL + 11) + l1 ≤ lo) (hn : (As (xz X)).length = n) (hst : st0 = (As (xz X)).reverse ++ rest) (hw : (rest.map fun v => v.category).sum ≤ 8)
    (d : decode cc pc = .ok (.invokestatic index, 3)) (kk : ∀ r h1, jG V X ev rr (T r h1) (pc + 3) ls ((e1 (xz X) r).toList ++ rest) h1) : jG V X ev rr (cal f T) pc ls st0 h := by
  intro e
  cases hf : f with
  | none => rw [hf] at e; cases e
  | some r =>
    obtain ⟨r, h1⟩ := r
    rw [hf] at e
    obtain ⟨⟨m1, m2⟩, hMet⟩ := hM _ hf
    obtain ⟨⟨k1, k2⟩, k3⟩ := kk r h1 e
    refine ⟨⟨Nat.le_trans m1 k1, Nat.le_trans m2 k2⟩, fun hn0 H locs la hl hW hS => ?_⟩
    obtain ⟨⟨hx, hb, hml, hown, hts⟩, ⟨hT, hV, hlk, hfl⟩, ⟨hR1, hR2, hR3, hR4⟩⟩ := hX
    dsimp only at m1 m2 k1 k2 k3 hMet
    have run := va_runS (p := xp X) (l := xl X) (e := xe X) (R := xR X) (s := xs X) (m := xm X) (args := xa X) (below := xb X) (meth := xh X) (c := xc X) (H := H) (locs := locs) (cells := gN (V h) - xn X) (slots := gS (V h) - xk X) (As := As (xz X)) (rest := rest) (g := F0 (xm X) pc la st0) (Ts := lw_all) ⟨hx, hb, rfl, hown, hts⟩ (hMet (xl X) (xD X) (xz X) (xO X) hfl) (va_cwS n hts wd rfl rfl rfl hy.2 ⟨by rw [hR1]; exact hr.1, by rw [hR2]; exact hr.2⟩) ⟨Pcn.blind, fun U hU hw => ⟨rfl, by rw [hU]; exact hW, by rw [hU]; exact (hT.kept hS.2.1).warm hw⟩⟩ rfl hn hl.1 hst (by show 2 * 0 + _ ≤ 8; omega) d ⟨by rw [hR3]; omega, by rw [hR4]; omega⟩
    refine j_ran run hS fun H1 locs1 hW1 hS1 => ?_
    have q1 : gN (V h) - xn X + (gN (V h1) - gN (V h)) = gN (V h1) - xn X := by omega
    have q2 : gS (V h) - xk X + (gS (V h1) - gS (V h)) = gS (V h1) - xk X := by omega
    rw [q1, q2]
    exact k3 ⟨by omega, by omega⟩ H1 locs1 la hl hW1 hS1
/-- a method's contract out of its walk -/
theorem cn_of {V : HP → HP} {ρ : Type} {e1 : Nat → ρ → Option Value} {rr : ρ × HP} {t : Option (ρ × HP)} {h : HP} {y : MethodName} {cc : ByteArray} {nL fr lo n : Nat} {ret : Option FieldType} {av : Nat → List Value} (ls : Nat → List (Nat × Value)) (hV : pV V) (mono : gN (V h) ≤ gN (V rr.2) ∧ gS (V h) ≤ gS (V rr.2)) (hy : y_ok y n) (hls : ∀ z, lv_args 0 (av z) = ls z) (hsz : ∀ z, (lg_sl (av z)).length ≤ nL)
    (k : ∀ X : CTX, okX V X rr cc y.cls nL fr lo → (xh X).sig.returnType = ret → (xh X).name = y.name → jG V X (evM e1) rr t 0 (ls (xz X)) [] h) (e : t = some rr) : Cn V y (ws_ y cc nL ret) fr lo av h (fun z => e1 z rr.1) rr.2 := by
  refine ⟨mono, fun l D z O hfl => ?_⟩
  refine Met.ofW (cc := cc) (maxL := nL) (ret := ret) hy.1 rfl ?_
  intro p e' s m args below meth c s₁ B hml hv
  obtain ⟨rfl, hW, hK⟩ := hv
  have hts := atoms_spec (ws := ws_ y cc nL ret) B.pre
  have hts : ∀ w ∈ lw_all, w.before _ s = true := fun w h => hts w (List.mem_cons_of_mem _ h)
  have hown : s.vm.findClass y.cls = some m.cls := findClass_of_methodNamed B.named
  have hnm := (name_of_methodNamed B.named B.method).1
  have G := k ((p, l, e', { frames := fr, cells := gN (V rr.2) - gN (V h), slots := gS (V rr.2) - gS (V h), locals := lo }, s), (m, (av z).toArray, below, meth, c), (D, z, O), (gN (V h), gS (V h))) ⟨⟨B.exec, B.bytes, hml, hown, hts⟩, ⟨hK, hV, B.notSynchronized, hfl⟩, ⟨rfl, rfl, rfl, rfl⟩⟩ B.returns hnm e
  have hl := lv_entry (av z) (n := nL) (hsz z)
  rw [lg_entry_eq]
  rw [hls z] at hl
  have G2 := G.2 ⟨Nat.le_refl _, Nat.le_refl _⟩ s.heap [] _ (by rw [show (xc ((p, l, e', { frames := fr, cells := gN (V rr.2) - gN (V h), slots := gS (V rr.2) - gS (V h), locals := lo }, s), (m, (av z).toArray, below, meth, c), (D, z, O), (gN (V h), gS (V h)))).maxLocals = nL from hml]; exact hl) hW va_S.rf
  have z1 : gN (V h) - xn ((p, l, e', { frames := fr, cells := gN (V rr.2) - gN (V h), slots := gS (V rr.2) - gS (V h), locals := lo }, s), (m, (av z).toArray, below, meth, c), (D, z, O), (gN (V h), gS (V h))) = 0 := Nat.sub_self _
  have z2 : gS (V h) - xk ((p, l, e', { frames := fr, cells := gN (V rr.2) - gN (V h), slots := gS (V rr.2) - gS (V h), locals := lo }, s), (m, (av z).toArray, below, meth, c), (D, z, O), (gN (V h), gS (V h))) = 0 := Nat.sub_self _
  rw [z1, z2] at G2
  exact G2
end JA
/-! calls by the kind of their answer; a switch's default -/
section JC
variable {V : HP → HP} {ρ : Type} {X : CTX} {ev : (HP → HP) → CTX → ρ × HP → State → Prop} {rr : ρ × HP} {cc : ByteArray} {own : String} {nL fr lo : Nat} {t : Option (ρ × HP)} {pc : Nat} {ls : List (Nat × Value)} {st : List Value} {h : HP}
theorem j_callVI {f : Option (Int32 × HP)} {T : Int32 → HP → Option (ρ × HP)} {y : MethodName} {cd : ByteArray} {mL n f1 l1 index a ci : Nat} {ret : Option FieldType} {As : Nat → List Value} {rest st0 : List Value} {C : String} {U : u_T} {N : Nat} (hX : okX V X rr cc own nL fr lo) (hM : ∀ r, f = some r → Cn V y (ws_ y cd mL ret) f1 l1 (fun z => .ref (z + a) :: As z) h (fun z => eI z r.1) r.2) (hy : y_ok y n) (wd : GoodIn lw_all (wsV own index C y (ws_ y cd mL ret))) (hC : y.cls = C) (hc : cls_ok ci C U N) (ht : (gT (V h) a).1 = ci + 1) (hr : f1 + 1 ≤ fr ∧ 8 + (mL + 11) + l1 ≤ lo) (hn : (As (xz X)).length = n) (hst : st0 = (As (xz X)).reverse ++ .ref (xz X + a) :: rest) (hw : (rest.map fun v => v.category).sum ≤ 8)
    (d : decode cc pc = .ok (.invokevirtual index, 3)) (kk : ∀ r h1, jG V X ev rr (T r h1) (pc + 3) ls (.int r :: rest) h1) : jG V X ev rr (cal f T) pc ls st0 h := j_callV (e1 := eI) hX hM hy wd hC hc ht hr hn hst hw d kk
theorem j_callVL {f : Option (Int64 × HP)} {T : Int64 → HP → Option (ρ × HP)} {y : MethodName} {cd : ByteArray} {mL n f1 l1 index a ci : Nat} {ret : Option FieldType} {As : Nat → List Value} {rest st0 : List Value} {C : String} {U : u_T} {N : Nat} (hX : okX V X rr cc own nL fr lo) (hM : ∀ r, f = some r → Cn V y (ws_ y cd mL ret) f1 l1 (fun z => .ref (z + a) :: As z) h (fun z => eL z r.1) r.2) (hy : y_ok y n) (wd : GoodIn lw_all (wsV own index C y (ws_ y cd mL ret))) (hC : y.cls = C) (hc : cls_ok ci C U N) (ht : (gT (V h) a).1 = ci + 1) (hr : f1 + 1 ≤ fr ∧ 8 + (mL + 11) + l1 ≤ lo) (hn : (As (xz X)).length = n) (hst : st0 = (As (xz X)).reverse ++ .ref (xz X + a) :: rest) (hw : (rest.map fun v => v.category).sum ≤ 8)
    (d : decode cc pc = .ok (.invokevirtual index, 3)) (kk : ∀ r h1, jG V X ev rr (T r h1) (pc + 3) ls (.long r :: rest) h1) : jG V X ev rr (cal f T) pc ls st0 h := j_callV (e1 := eL) hX hM hy wd hC hc ht hr hn hst hw d kk
theorem j_callVV {f : Option (Unit × HP)} {T : Unit → HP → Option (ρ × HP)} {y : MethodName} {cd : ByteArray} {mL n f1 l1 index a ci : Nat} {ret : Option FieldType} {As : Nat → List Value} {rest st0 : List Value} {C : String} {U : u_T} {N : Nat} (hX : okX V X rr cc own nL fr lo) (hM : ∀ r, f = some r → Cn V y (ws_ y cd mL ret) f1 l1 (fun z => .ref (z + a) :: As z) h (fun z => eV z r.1) r.2) (hy : y_ok y n) (wd : GoodIn lw_all (wsV own index C y (ws_ y cd mL ret))) (hC : y.cls = C) (hc : cls_ok ci C U N) (ht : (gT (V h) a).1 = ci + 1) (hr : f1 + 1 ≤ fr ∧ 8 + (mL + 11) + l1 ≤ lo) (hn : (As (xz X)).length = n) (hst : st0 = (As (xz X)).reverse ++ .ref (xz X + a) :: rest) (hw : (rest.map fun v => v.category).sum ≤ 8)
    (d : decode cc pc = .ok (.invokevirtual index, 3)) (kk : ∀ r h1, jG V X ev rr (T r h1) (pc + 3) ls rest h1) : jG V X ev rr (cal f T) pc ls st0 h := j_callV (e1 := eV) hX hM hy wd hC hc ht hr hn hst hw d kk
theorem j_callSI {f : Option (Int32 × HP)} {T : Int32 → HP → Option (ρ × HP)} {y : MethodName} {cd : ByteArray} {mL n f1 l1 index : Nat} {ret : Option FieldType} {As : Nat → List Value} {rest st0 : List Value} (hX : okX V X rr cc own nL fr lo) (hM : ∀ r, f = some r → Cn V y (ws_ y cd mL ret) f1 l1 As h (fun z => eI z r.1) r.2) (hy : y_ok y n) (wd : GoodIn lw_all (va_wsS own index y (ws_ y cd mL ret))) (hr : f1 + 1 ≤ fr ∧ 8 + (mL + 11) + l1 ≤ lo) (hn : (As (xz X)).length = n) (hst : st0 = (As (xz X)).reverse ++ rest) (hw : (rest.map fun v => v.category).sum ≤ 8)
    (d : decode cc pc = .ok (.invokestatic index, 3)) (kk : ∀ r h1, jG V X ev rr (T r h1) (pc + 3) ls (.int r :: rest) h1) : jG V X ev rr (cal f T) pc ls st0 h := j_callS (e1 := eI) hX hM hy wd hr hn hst hw d kk
theorem j_callSL {f : Option (Int64 × HP)} {T : Int64 → HP → Option (ρ × HP)} {y : MethodName} {cd : ByteArray} {mL n f1 l1 index : Nat} {ret : Option FieldType} {As : Nat → List Value} {rest st0 : List Value} (hX : okX V X rr cc own nL fr lo) (hM : ∀ r, f = some r → Cn V y (ws_ y cd mL ret) f1 l1 As h (fun z => eL z r.1) r.2) (hy : y_ok y n) (wd : GoodIn lw_all (va_wsS own index y (ws_ y cd mL ret))) (hr : f1 + 1 ≤ fr ∧ 8 + (mL + 11) + l1 ≤ lo) (hn : (As (xz X)).length = n) (hst : st0 = (As (xz X)).reverse ++ rest) (hw : (rest.map fun v => v.category).sum ≤ 8)
    (d : decode cc pc = .ok (.invokestatic index, 3)) (kk : ∀ r h1, jG V X ev rr (T r h1) (pc + 3) ls (.long r :: rest) h1) : jG V X ev rr (cal f T) pc ls st0 h := j_callS (e1 := eL) hX hM hy wd hr hn hst hw d kk
theorem j_callSV {f : Option (Unit × HP)} {T : Unit → HP → Option (ρ × HP)} {y : MethodName} {cd : ByteArray} {mL n f1 l1 index : Nat} {ret : Option FieldType} {As : Nat → List Value} {rest st0 : List Value} (hX : okX V X rr cc own nL fr lo) (hM : ∀ r, f = some r → Cn V y (ws_ y cd mL ret) f1 l1 As h (fun z => eV z r.1) r.2) (hy : y_ok y n) (wd : GoodIn lw_all (va_wsS own index y (ws_ y cd mL ret))) (hr : f1 + 1 ≤ fr ∧ 8 + (mL + 11) + l1 ≤ lo) (hn : (As (xz X)).length = n) (hst : st0 = (As (xz X)).reverse ++ rest) (hw : (rest.map fun v => v.category).sum ≤ 8)
    (d : decode cc pc = .ok (.invokestatic index, 3)) (kk : ∀ r h1, jG V X ev rr (T r h1) (pc + 3) ls rest h1) : jG V X ev rr (cal f T) pc ls st0 h := j_callS (e1 := eV) hX hM hy wd hr hn hst hw d kk
theorem j_tabD {tgt : Nat} (hX : okX V X rr cc own nL fr lo) {dflt lw hi : Int} {offs : Array Int} {len : Nat} {x : Int32} (hh : ∀ n : Int, x.toInt = n → ¬ n < lw → ¬ hi < n → offs[(n - lw).toNat]? = some dflt) (ht : (pc : Int) + dflt = (tgt : Int)) (d : decode cc pc = .ok (.tableswitch dflt lw hi offs, len)) (k : jG V X ev rr t tgt ls st h) : jG V X ev rr t pc ls (.int x :: st) h := by
  by_cases h1 : x.toInt < lw
  · exact j_tabOut hX (Or.inl h1) ht d k
  · by_cases h2 : hi < x.toInt
    · exact j_tabOut hX (Or.inr h2) ht d k
    · exact j_tabIn hX x.toInt rfl h1 h2 (hh _ rfl h1 h2) ht d k
end JC
