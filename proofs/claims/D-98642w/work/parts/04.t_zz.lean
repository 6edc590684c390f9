/-! Math -/
section JM
variable {V : HP → HP} {ρ : Type} {X : CTX} {ev : (HP → HP) → CTX → ρ × HP → State → Prop} {rr : ρ × HP} {cc : ByteArray} {own : String} {nL fr lo : Nat} {t : Option (ρ × HP)} {pc : Nat} {ls : List (Nat × Value)} {st : List Value} {h : HP}
theorem j_mmax (hX : okX V X rr cc own nL fr lo) {x y : Int32} {index : Nat} (q1 : Cond.methodLink own index yJ8_max ∈ lw_all) (q2 : Cond.static yJ8_max ∈ lw_all) (q3 : Cond.initialized "java/lang/Math" ∈ lw_all) (q4 : Cond.code yJ8_max cJ8_max 2 (some .int) ∈ lw_all) (hr : 1 ≤ fr ∧ 24 ≤ lo) (hw : (st.map fun v => v.category).sum ≤ 8) (d : decode cc pc = .ok (.invokestatic index, 3)) (k : jG V X ev rr t (pc + 3) ls (.int (if x < y then y else x) :: st) h) : jG V X ev rr t pc ls (.int y :: .int x :: st) h := by
  intro e
  obtain ⟨h1, h2⟩ := k e
  refine ⟨h1, fun hn H locs la hl hW hS => ?_⟩
  obtain ⟨⟨hx, hb, hml, hown, hts⟩, -, ⟨hR1, hR2, hR3, hR4⟩⟩ := hX
  exact va_mmax hx hb hl.1.symm hown (hts _ q1) (hts _ q2) (hts _ q3) (hts _ q4) (by rw [hR1]; exact hr.1) (by rw [hR2]; have := hr.2; omega) (by rw [hR3]; omega) (by rw [hR4]; omega) d (h2 hn H locs la hl hW hS)
theorem j_mmin (hX : okX V X rr cc own nL fr lo) {x y : Int32} {index : Nat} (q1 : Cond.methodLink own index yJ8_min ∈ lw_all) (q2 : Cond.static yJ8_min ∈ lw_all) (q3 : Cond.initialized "java/lang/Math" ∈ lw_all) (q4 : Cond.code yJ8_min cJ8_min 2 (some .int) ∈ lw_all) (hr : 1 ≤ fr ∧ 24 ≤ lo) (hw : (st.map fun v => v.category).sum ≤ 8) (d : decode cc pc = .ok (.invokestatic index, 3)) (k : jG V X ev rr t (pc + 3) ls (.int (if y < x then y else x) :: st) h) : jG V X ev rr t pc ls (.int y :: .int x :: st) h := by
  intro e
  obtain ⟨h1, h2⟩ := k e
  refine ⟨h1, fun hn H locs la hl hW hS => ?_⟩
  obtain ⟨⟨hx, hb, hml, hown, hts⟩, -, ⟨hR1, hR2, hR3, hR4⟩⟩ := hX
  exact va_mmin hx hb hl.1.symm hown (hts _ q1) (hts _ q2) (hts _ q3) (hts _ q4) (by rw [hR1]; exact hr.1) (by rw [hR2]; have := hr.2; omega) (by rw [hR3]; omega) (by rw [hR4]; omega) d (h2 hn H locs la hl hW hS)
theorem j_mmaxL (hX : okX V X rr cc own nL fr lo) {x y : Int64} {index : Nat} (q1 : Cond.methodLink own index yJ8_max_2 ∈ lw_all) (q2 : Cond.static yJ8_max_2 ∈ lw_all) (q3 : Cond.initialized "java/lang/Math" ∈ lw_all) (q4 : Cond.code yJ8_max_2 cJ8_max_2 4 (some .long) ∈ lw_all) (hr : 1 ≤ fr ∧ 24 ≤ lo) (hw : (st.map fun v => v.category).sum ≤ 8) (d : decode cc pc = .ok (.invokestatic index, 3)) (k : jG V X ev rr t (pc + 3) ls (.long (if y < x then x else y) :: st) h) : jG V X ev rr t pc ls (.long y :: .long x :: st) h := by
  intro e
  obtain ⟨h1, h2⟩ := k e
  refine ⟨h1, fun hn H locs la hl hW hS => ?_⟩
  obtain ⟨⟨hx, hb, hml, hown, hts⟩, -, ⟨hR1, hR2, hR3, hR4⟩⟩ := hX
  exact va_mmax_long hx hb hl.1.symm hown (hts _ q1) (hts _ q2) (hts _ q3) (hts _ q4) (by rw [hR1]; exact hr.1) (by rw [hR2]; have := hr.2; omega) (by rw [hR3]; omega) (by rw [hR4]; omega) d (h2 hn H locs la hl hW hS)
theorem j_mminL (hX : okX V X rr cc own nL fr lo) {x y : Int64} {index : Nat} (q1 : Cond.methodLink own index yJ8_min_2 ∈ lw_all) (q2 : Cond.static yJ8_min_2 ∈ lw_all) (q3 : Cond.initialized "java/lang/Math" ∈ lw_all) (q4 : Cond.code yJ8_min_2 cJ8_min_2 4 (some .long) ∈ lw_all) (hr : 1 ≤ fr ∧ 24 ≤ lo) (hw : (st.map fun v => v.category).sum ≤ 8) (d : decode cc pc = .ok (.invokestatic index, 3)) (k : jG V X ev rr t (pc + 3) ls (.long (if y < x then y else x) :: st) h) : jG V X ev rr t pc ls (.long y :: .long x :: st) h := by
  intro e
  obtain ⟨h1, h2⟩ := k e
  refine ⟨h1, fun hn H locs la hl hW hS => ?_⟩
  obtain ⟨⟨hx, hb, hml, hown, hts⟩, -, ⟨hR1, hR2, hR3, hR4⟩⟩ := hX
  exact va_mmin_long hx hb hl.1.symm hown (hts _ q1) (hts _ q2) (hts _ q3) (hts _ q4) (by rw [hR1]; exact hr.1) (by rw [hR2]; have := hr.2; omega) (by rw [hR3]; omega) (by rw [hR4]; omega) d (h2 hn H locs la hl hW hS)
theorem j_mabsL (hX : okX V X rr cc own nL fr lo) {x : Int64} {index : Nat} (q1 : Cond.methodLink own index yJ8_abs ∈ lw_all) (q2 : Cond.static yJ8_abs ∈ lw_all) (q3 : Cond.initialized "java/lang/Math" ∈ lw_all) (q4 : Cond.code yJ8_abs cJ8_abs 2 (some .long) ∈ lw_all) (hr : 1 ≤ fr ∧ 24 ≤ lo) (hw : (st.map fun v => v.category).sum ≤ 8) (d : decode cc pc = .ok (.invokestatic index, 3)) (k : jG V X ev rr t (pc + 3) ls (.long (if 0 < x then x else -x) :: st) h) : jG V X ev rr t pc ls (.long x :: st) h := by
  intro e
  obtain ⟨h1, h2⟩ := k e
  refine ⟨h1, fun hn H locs la hl hW hS => ?_⟩
  obtain ⟨⟨hx, hb, hml, hown, hts⟩, -, ⟨hR1, hR2, hR3, hR4⟩⟩ := hX
  exact va_mabs_long hx hb hl.1.symm hown (hts _ q1) (hts _ q2) (hts _ q3) (hts _ q4) (by rw [hR1]; exact hr.1) (by rw [hR2]; have := hr.2; omega) (by rw [hR3]; omega) (by rw [hR4]; omega) d (h2 hn H locs la hl hW hS)
end JM
