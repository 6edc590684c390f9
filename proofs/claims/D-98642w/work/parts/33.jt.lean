/-! what the tables and the constants say at the law's start: jT, for every set of cells that are new -/
set_option maxRecDepth 100000
theorem arrT_of {args : Array Value} {s : State} {ty : FieldType} (hr : ∀ C, ty ≠ .object C) (h : (Cond.arrayClass ty).before args s = true) : ∃ c, ArrOfT s c ty ∧ va_RA s c ty := by
  obtain ⟨c, k, comp, h1, h2, h3⟩ := Cond.arrayClass_spec h
  refine ⟨c, fun n z => ⟨fun k h => (by cases h), k, h2, comp, h3⟩, ?_⟩
  cases ty <;> first | exact h1 | exact absurd rfl (hr _)
theorem arrO_of {args : Array Value} {s : State} {C : String} (h : (Cond.arrayOver (.object C)).before args s = true) : ∃ c, ArrOfT s c (.object C) ∧ va_RA s c (.object C) := by
  obtain ⟨comp, c, k, h1, -, h2, h3, h4⟩ := Cond.arrayOver_spec h
  exact ⟨c, fun n z => ⟨fun k h => (by cases h), k, h2, comp, h3⟩, k, comp, h2, h3, h1, h4⟩
def sPos : List Nat := [425, 427, 429, 430, 431, 432, 434, 436, 438, 440, 442, 444, 446, 448, 450, 452, 454, 456, 458, 459, 460, 461, 463, 464, 465]
def sTm (i : Nat) : Term := if i < 25 then .string "AskedCourt" (sPos.getD i 0) else .string "AskedCourt$Reader" 61
def gfl : List Cond := flatC (Jvm.Cond.and given_1 narrow_1)
def sOff : List Nat := [235, 243, 253, 262, 269, 277, 285, 293, 300, 309, 319, 327, 335, 343, 351, 359, 365, 372, 379, 387, 394, 402, 411, 419, 427, 221]
abbrev sVa (i : Nat) : Term := .field (sTm i) "java/lang/String" "value" "[B"
theorem g_ex : ∀ i, i < 26 → gfl[sOff.getD i 0]? = some (Cond.exactly (sTm i) "java/lang/String") := by decide +kernel
theorem g_co : ∀ i, i < 26 → gfl[sOff.getD i 0 + 1]? = some (Cond.eq (.field (sTm i) "java/lang/String" "coder" "B") (.int 0)) := by decide +kernel
theorem g_ar : ∀ i, i < 26 → gfl[sOff.getD i 0 + 2]? = some (Cond.arrayOf (sVa i) .byte) := by decide +kernel
theorem g_le : ∀ i, i < 26 → gfl[sOff.getD i 0 + 3]? = some (Cond.eq (.length (sVa i)) (.int (Int32.ofNat (sLen.getD i 0)))) := by decide +kernel
theorem g_el : ∀ i, i < 26 → ∀ j, j < sLen.getD i 0 → gfl[sOff.getD i 0 + 4 + j]? = some (Cond.eq (.elem (sVa i) (.int (Int32.ofNat j))) (.int ((sByt.getD i []).getD j 0))) := by decide +kernel
theorem s_len : ∀ i, i < 26 → sLen.getD i 0 < 2 ^ 31 := by decide +kernel
theorem s_diff : ∀ i, i < 26 → ∀ j, j < 26 → i = j ∨ ¬ Int32.ofNat (sLen.getD i 0) = Int32.ofNat (sLen.getD j 0) ∨ ((List.range 10).any fun k => decide (k < sLen.getD i 0) && decide (k < sLen.getD j 0) && decide (¬ (sByt.getD i []).getD k 0 = (sByt.getD j []).getD k 0)) = true := by decide +kernel
abbrev nmT : Term := .static "AskedCourt" "NAMES" "[Ljava/lang/String;"
theorem g_nar : gfl[12]? = some (Cond.arrayOf nmT (.object "java/lang/String")) := by decide +kernel
theorem g_nle : gfl[14]? = some (Cond.eq (.length nmT) (.int (Int32.ofNat 25))) := by decide +kernel
theorem g_nel : ∀ j, j < 25 → gfl[15 + j]? = some (Cond.eq (.elem nmT (.int (Int32.ofNat j))) (sTm j)) := by decide +kernel
theorem g_cs : gfl[40]? = some (Cond.eq (.static "java/lang/String" "COMPACT_STRINGS" "Z") (.int 1)) := by decide +kernel
theorem g_si : gfl[41]? = some (Cond.isRef (.static "jdk/internal/util/Preconditions" "SIOOBE_FORMATTER" "Ljava/util/function/BiFunction;")) := by decide +kernel
theorem g_us : gfl[45]? = some (Cond.isRef (.static "java/lang/Throwable" "UNASSIGNED_STACK" "[Ljava/lang/StackTraceElement;")) := by decide +kernel
theorem g_su : gfl[46]? = some (Cond.isRef (.static "java/lang/Throwable" "SUPPRESSED_SENTINEL" "Ljava/util/List;")) := by decide +kernel
theorem g_tr : gfl[54]? = some (Cond.exactly (.static "AskedCourt" "TROUBLE" "LAskedCourt$Trouble;") "AskedCourt$Trouble") := by decide +kernel
theorem g_tu : gfl[55]? = some (Cond.untouched (.static "AskedCourt" "TROUBLE" "LAskedCourt$Trouble;")) := by decide +kernel
theorem g_nc : gfl[120]? = some (Cond.not (Cond.castable "java/util/NoSuchElementException" "java/lang/IndexOutOfBoundsException")) := by decide +kernel
theorem g_in {args : Array Value} {s : State} (hs : ∀ w ∈ gfl, w.before args s = true) {k : Nat} {w : Cond} (h : gfl[k]? = some w) : w.before args s = true := hs w (List.mem_of_getElem? h)
theorem eq_ref {args : Array Value} {s : State} {t u : Term} {a : Nat} (h : (Cond.eq t u).before args s = true) (hu : u.eval args s none [] s = some (.ref a)) : t.eval args s none [] s = some (.ref a) := by
  cases hv : t.eval args s none [] s with
  | none => simp [Cond.before, Cond.holds, Cond.value, hv] at h
  | some w =>
    simp only [Cond.before, Cond.holds, Cond.value, hv, hu] at h
    cases w <;> simp_all
/-- the cells that are new since s -/
abbrev A0 (s : State) : Nat → Prop := fun q => s.heap.size ≤ q
theorem A0_no {s : State} : ∀ a : Nat, a < s.heap.size → ¬ A0 s a := fun _ h => Nat.not_le.mpr h
theorem law_S {args : Array Value} {s : State} (hs : ∀ w ∈ gfl, w.before args s = true) : ∃ adK adV : Nat → Nat, vk_S 26 sLen sByt adK adV (A0 s) s s.heap ∧ ∀ i : Nat, i < 26 → (sTm i).eval args s none [] s = some (.ref (adK i)) := by
  have h0 : ∀ i : Nat, ∃ q : Nat × Nat, i < 26 → (sTm i).eval args s none [] s = some (.ref q.1) ∧ va_O "java/lang/String" q.1 (A0 s) s s.heap ∧ va_OF "java/lang/String" "coder" "B" (.int 0) q.1 (A0 s) s s.heap ∧ va_OF "java/lang/String" "value" "[B" (.ref q.2) q.1 (A0 s) s s.heap ∧ va_T .byte q.2 (sLen.getD i 0) (fun j => .int ((sByt.getD i []).getD j 0)) (A0 s) s s.heap := by
    intro i
    by_cases hi : i < 26
    · obtain ⟨a, c, cA, kA, q1, q2, q3, q4, q5, q6, -⟩ := Cond.exactly_spec (args := args) (first := s) (o := none) (s := s) (idx := []) (t := sTm i) (cls := "java/lang/String") (g_in hs (g_ex i hi))
      obtain ⟨t, ht, hT⟩ := va_Tof (f := fun j => .int ((sByt.getD i []).getD j 0)) (A := A0 s) (s_len i hi) (g_in hs (g_ar i hi)) (va_eqt (g_in hs (g_le i hi))) (fun j hj => va_eqt (g_in hs (g_el i hi j hj))) A0_no
      exact ⟨(a, t), fun _ => ⟨q1, ⟨cA, q3, q5, by rw [q6]; exact q2, A0_no a (Array.getElem?_eq_some_iff.mp q3).1⟩, vk_OFof q1 (va_eqt (g_in hs (g_co i hi))) A0_no, vk_OFof q1 ht A0_no, hT⟩⟩
    · exact ⟨(0, 0), fun h => absurd h hi⟩
  obtain ⟨ad, had⟩ := Classical.axiomOfChoice h0
  refine ⟨fun i => (ad i).1, fun i => (ad i).2, ⟨fun i hi => (had i hi).2, fun i j hi hj e => ?_⟩, fun i hi => (had i hi).1⟩
  obtain ⟨-, -, -, ⟨cf, k, fi, f, cell, a1, a2, a3, a4, a5, -⟩, ⟨c1, b1, -, -, -, b4, b5, -⟩⟩ := had i hi
  obtain ⟨-, -, -, ⟨cf', k', fi', f', cell', a1', a2', a3', a4', a5', -⟩, ⟨c2, d1, -, -, -, d4, d5, -⟩⟩ := had j hj
  have e : (ad i).1 = (ad j).1 := e
  rw [e] at a3
  cases a1.symm.trans a1'
  cases a3.symm.trans a3'
  have ev := a5.symm.trans a5'
  have ev : (ad i).2 = (ad j).2 := Value.ref.inj (Option.some.inj ev)
  rw [ev] at b1
  cases b1.symm.trans d1
  rcases s_diff i hi j hj with h | h | h
  · exact h
  · exact absurd (b4.symm.trans d4) h
  · obtain ⟨x, -, hx⟩ := List.any_eq_true.mp h
    simp only [Bool.and_eq_true, decide_eq_true_eq] at hx
    have := (b5 x hx.1.1).symm.trans (d5 x hx.1.2)
    injection this with this
    injection this with this
    exact absurd this hx.2
theorem jTr.narrow {A B : Nat → Prop} {U : State} {H : Heap} (hAB : ∀ q, B q → A q) (h : jTr A U H) : jTr B U H := by
  obtain ⟨t, cell, h1, h2, h3, h4, h5⟩ := h
  exact ⟨t, cell, h1.narrow hAB, h2, h3, h4, fun z => h5 (hAB t z)⟩
theorem jT.narrow {D : va_G} {A B : Nat → Prop} {U : State} {H : Heap} (hAB : ∀ q, B q → A q) (h : jT D A U H) : jT D B U H := by
  obtain ⟨hK, hN, h1, ⟨h3, h4, h5, h6⟩, h7, h8, h9, h10⟩ := h
  exact ⟨hK, hN, h1.narrow hAB, ⟨h3.narrow hAB, h4.narrow hAB, h5.narrow hAB, h6⟩, h7.narrow hAB, h8.narrow hAB, h9.narrow hAB, h10.narrow hAB⟩
def jt8 : List FieldType := [.int, .long, .byte, .boolean, .object "java/lang/Object", .object "AskedCourt$Part", .object "AskedCourt$Kind", .object "AskedCourt$State"]
theorem law_jT {args : Array Value} {s : State} (hts : ∀ w ∈ lw_tbl, w.before args s = true) (hs : ∀ w ∈ gfl, w.before args s = true) : ∃ D : va_G, jT D (A0 s) s s.heap := by
  have ht : ∀ w ∈ lw_all, w.before args s = true := fun w h => hts w (lw_all_tbl h)
  have hc : ∀ c : Nat, ∃ x : ClassId × (Nat → Nat), ∀ q, jcl[c]? = some q → u_Kn s q.1 q.2.1 q.2.2 x.1 x.2 := by
    have one : ∀ {c ci : Nat} {C : String} {T : u_T} {N n : Nat}, cls_ok ci C T N → Cond.instantiable C n ∈ lw_all → c = ci → ∃ x : ClassId × (Nat → Nat), ∀ q, jcl[c]? = some q → u_Kn s q.1 q.2.1 q.2.2 x.1 x.2 := by
      intro c ci C T N n ck hi e
      subst e
      obtain ⟨cC, iS, h⟩ := u_known ht ck.2.2.1 (ht _ hi)
      exact ⟨(cC, iS), fun q hq => by cases ck.1.symm.trans hq; exact h⟩
    intro c
    match c with
    | 0 => exact one ckX10 q1579 rfl
    | 1 => exact one ckX1 q183 rfl
    | 2 => exact one ckX2 q191 rfl
    | 3 => exact one ckX3 q226 rfl
    | 4 => exact one ckJ2 q232 rfl
    | 5 => exact one ckX9 q356 rfl
    | 6 => exact one ckX12 q759 rfl
    | 7 => exact one ckX13 q850 rfl
    | 8 => exact one ckX14 q901 rfl
    | 9 => exact one ckX16 q969 rfl
    | 10 => exact one ckX17 q986 rfl
    | 11 => exact one ckX18 q1017 rfl
    | 12 => exact one ckX19 q996 rfl
    | 13 => exact one ckX21 q1388 rfl
    | 14 => exact one ckX22 q1419 rfl
    | 15 => exact one ckX5 q324 rfl
    | 16 => exact one ckX6 q335 rfl
    | 17 => exact one ckX7 q342 rfl
    | 18 => exact one ckX8 q349 rfl
    | 19 => exact one ckX11 q683 rfl
    | n + 20 => exact ⟨(0, fun _ => 0), fun q hq => by simp [jcl] at hq⟩
  have ha : ∀ k : Nat, ∃ c : ClassId, ∀ ty, jt8[k]? = some ty → ArrOfT s c ty ∧ va_RA s c ty := by
    have one : ∀ {k : Nat} {ty0 : FieldType}, jt8[k]? = some ty0 → (∃ c, ArrOfT s c ty0 ∧ va_RA s c ty0) → ∃ c : ClassId, ∀ ty, jt8[k]? = some ty → ArrOfT s c ty ∧ va_RA s c ty := by
      intro k ty0 h0 ⟨c, h⟩
      exact ⟨c, fun ty h1 => by cases h0.symm.trans h1; exact h⟩
    intro k
    match k with
    | 0 => exact one rfl (arrT_of (fun _ h => by cases h) (ht _ q320))
    | 1 => exact one rfl (arrT_of (fun _ h => by cases h) (ht _ q333))
    | 2 => exact one rfl (arrT_of (fun _ h => by cases h) (ht _ q224))
    | 3 => exact one rfl (arrT_of (fun _ h => by cases h) (ht _ q513))
    | 4 => exact one rfl (arrO_of (hts _ q244))
    | 5 => exact one rfl (arrO_of (hts _ q260))
    | 6 => exact one rfl (arrO_of (hts _ q322))
    | 7 => exact one rfl (arrO_of (hts _ q406))
    | n + 8 => exact ⟨0, fun q hq => by simp [jt8] at hq⟩
  obtain ⟨fc, hc⟩ := Classical.axiomOfChoice hc
  obtain ⟨fa, ha⟩ := Classical.axiomOfChoice ha
  obtain ⟨adK, adV, hS, hev⟩ := law_S hs
  obtain ⟨tn, htn, hTn⟩ := va_Tof (tm := nmT) (N := 25) (f := fun j => .ref (adK j)) (A := A0 s) (by decide) (g_in hs g_nar) (va_eqt (g_in hs g_nle)) (fun j hj => eq_ref (g_in hs (g_nel j hj)) (hev j (by omega))) A0_no
  refine ⟨(fun k => if k < 100 then (fc k).1 else fa (k - 100), fun k => if k = 200 then adK else if k = 201 then adV else if k = 202 then fun _ => tn else (fc k).2), ⟨fun c q hq => ?_, fun k q hq => ?_⟩, ?_, ?_⟩
  · have hlt : c < 20 := (List.getElem?_eq_some_iff.mp hq).1
    have := hc c q hq
    show u_Kn s q.1 q.2.1 q.2.2 (if c < 100 then (fc c).1 else fa (c - 100)) (if c = 200 then adK else if c = 201 then adV else if c = 202 then fun _ => tn else (fc c).2)
    rw [if_pos (by omega), if_neg (by omega), if_neg (by omega), if_neg (by omega)]
    exact this
  · have hlt : k < 8 := (List.getElem?_eq_some_iff.mp hq).1
    rcases (show k = 0 ∨ k = 1 ∨ k = 2 ∨ k = 3 ∨ k = 4 ∨ k = 5 ∨ k = 6 ∨ k = 7 by omega) with rfl | rfl | rfl | rfl | rfl | rfl | rfl | rfl
    · cases hq; exact ha 0 _ rfl
    · cases hq; exact ha 1 _ rfl
    · cases hq; exact ha 2 _ rfl
    · cases hq; exact ha 3 _ rfl
    · cases hq; exact ha 4 _ rfl
    · cases hq; exact ha 5 _ rfl
    · cases hq; exact ha 6 _ rfl
    · cases hq; exact ha 7 _ rfl
  · exact ⟨fun q hq => va_Nw.of rfl (hts _ (nF_ok q hq)), fun q hq => va_Nw.of rfl (hts _ (nM_ok q hq)), fun q hq => va_Nw.of rfl (hts _ (nC_ok q hq)), fun q hq => va_AO.of (hts _ (nA_ok q hq)), fun q hq => va_Nw.of rfl (hts _ (nD_ok q hq))⟩
  · obtain ⟨a, c, cell, k, x1, x2, x3, x4, x5, x6, -⟩ := Cond.exactly_spec (args := args) (first := s) (o := none) (s := s) (idx := []) (g_in hs g_tr)
    obtain ⟨a', cell', y1, y2, -, -, y3⟩ := Cond.untouched_spec (args := args) (first := s) (o := none) (s := s) (idx := []) (g_in hs g_tu)
    cases x1.symm.trans y1
    cases x3.symm.trans y2
    exact ⟨⟨a, cell, va_Zref (hts _ q1137) (ht _ q140) x1 A0_no, x3, y3, by rw [x6]; exact x2, A0_no _ (Array.getElem?_eq_some_iff.mp x3).1⟩, ⟨va_Zref (hts _ q552) (ht _ q140) htn A0_no, hTn, hS, vk_R.of (hts _ q610) (hev 25 (by decide))⟩, va_Zof (hts _ q562) (ht _ q155) (va_eqt (g_in hs g_cs)) A0_no, vx_Zqof (hts _ q707) (ht _ q160) (g_in hs g_us) A0_no, vx_Zqof (hts _ q709) (ht _ q160) (g_in hs g_su) A0_no, va_Zqof (hts _ q578) (ht _ q153) (g_in hs g_si) A0_no⟩
