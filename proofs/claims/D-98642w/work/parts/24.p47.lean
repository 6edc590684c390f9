/-! PURE LEVEL 47: keepNow -/
section P6
variable {h : HP} {I : Nat → Nat → Int32} {L : Nat → Nat → Int64}
theorem ec_keep18 (b0 : Nat) (I : Nat → Nat → Int32) (L : Nat → Nat → Int64) : ∀ (j i : Nat) (f : Nat → Option Nat) (fuel : Nat), i + j = 20 → 1 ≤ i → j < fuel → (∀ k, i ≤ k → k < 20 → ∃ b, f k = some b ∧ (gT (cV h) b).1 = 6) → ∀ k, cA_keepNow_18 b0 k fuel (nn i) (hw (hr h f) I L) = k (hw (hr h (fun k => if i ≤ k + 1 ∧ k + 1 < 20 then f (k + 1) else f k)) I L) := by
  intro j
  induction j with
  | zero =>
    intro i f fuel hi h1 hf hb k
    obtain ⟨n, rfl⟩ : ∃ n, fuel = n + 1 := ⟨fuel - 1, by omega⟩
    have : (20 : Int32) ≤ nn i := nn_ple (n := 20) (by omega) (by omega)
    rw [cA_keepNow_18, if_pos this]
    have e : (fun k => if i ≤ k + 1 ∧ k + 1 < 20 then f (k + 1) else f k) = f := by
      funext k; rw [if_neg (by omega)]
    rw [e]
  | succ j ih =>
    intro i f fuel hi h1 hf hb k
    obtain ⟨n, rfl⟩ : ∃ n, fuel = n + 1 := ⟨fuel - 1, by omega⟩
    have nle : ¬ (20 : Int32) ≤ nn i := nn_nle (n := 20) (by omega) (by omega)
    have i1 : inb (nn i) 20 := nn_inb (by omega) (by omega)
    have m1 : nn i - 1 = nn (i - 1) := nn_sub (a := i) (b := 1) (by omega)
    have i2 : inb (nn (i - 1)) 20 := nn_inb (by omega) (by omega)
    obtain ⟨b, e1, e2⟩ := hb i (by omega) (by omega)
    have ih' := ih (i + 1) (fun j => if j = i - 1 then some b else f j) n (by omega) (by omega) (by omega) (fun k h2 h3 => by rw [if_neg (by omega)]; exact hb k (by omega) h3) k
    have e : (fun k => if i + 1 ≤ k + 1 ∧ k + 1 < 20 then (if k + 1 = i - 1 then some b else f (k + 1)) else (if k = i - 1 then some b else f k)) = (fun k => if i ≤ k + 1 ∧ k + 1 < 20 then f (k + 1) else f k) := by
      funext k
      by_cases z : i + 1 ≤ k + 1 ∧ k + 1 < 20
      · rw [if_pos z, if_neg (by omega), if_pos (by omega)]
      · rw [if_neg z]
        by_cases y : k = i - 1
        · rw [if_pos y, if_pos (by omega), ← e1, show k + 1 = i by omega]
        · rw [if_neg y, if_neg (by omega)]
    rw [e] at ih'
    rw [cA_keepNow_18, if_neg nle]
    simp only [bnd_e, cal_s, onr_s, jon_e, gI_hw, gL_hw, gT_hw, gR_hw, gN_hw, sI_hw, sL_hw, cV_hw, shS_hw, shC_hw, shL_hw, ← bt_def, grd_pos i1, nn_clamp (show i < 2147483648 by omega), hr_35, e1, onr_some, hr_T, grd_pos e2, m1, grd_pos i2, nn_clamp (show i - 1 < 2147483648 by omega), hr_sR, nn_succ, ih']
/-! a new state -/
theorem gTV {H : HP} {b : Nat} (hb : 54 ≤ b) : gT (cV H) b = gT H b := by
  show (if b < 54 then cT b else gT H b) = gT H b
  rw [if_neg (by omega)]
theorem gRV {H : HP} {b k : Nat} (hb : 54 ≤ b) : gR (cV H) b k = gR H b k := by
  have : cRs b k = none := by
    unfold cRs
    split <;> first | omega | rfl
  show (match cRs b k with | some b => some b | none => gR H b k) = gR H b k
  rw [this]
theorem gT_sA (H : HP) (t : Nat × Nat) (m x : Nat) : gT (sA H t m) x = if x = gN H then t else gT H x := (rfl)
theorem gI_sA (H : HP) (t : Nat × Nat) (m x : Nat) : gI (sA H t m) x = if x = gN H then (fun _ => 0) else gI H x := by
  funext k
  show (if x = gN H then 0 else gI H x k) = _
  by_cases z : x = gN H
  · rw [if_pos z, if_pos z]
  · rw [if_neg z, if_neg z]
theorem gR_sA (H : HP) (t : Nat × Nat) (m x : Nat) : gR (sA H t m) x = if x = gN H then (fun _ => none) else gR H x := by
  funext k
  show (if x = gN H then none else gR H x k) = _
  by_cases z : x = gN H
  · rw [if_pos z, if_pos z]
  · rw [if_neg z, if_neg z]
theorem gN_sA (H : HP) (t : Nat × Nat) (m : Nat) : gN (sA H t m) = gN H + 1 := (rfl)
theorem gS_sA (H : HP) (t : Nat × Nat) (m : Nat) : gS (sA H t m) = gS H + m := (rfl)
theorem gT_sR' (H : HP) (a k : Nat) (v : Option Nat) : gT (sR H a k v) = gT H := (rfl)
theorem gI_sR' (H : HP) (a k : Nat) (v : Option Nat) : gI (sR H a k v) = gI H := (rfl)
theorem gN_sR' (H : HP) (a k : Nat) (v : Option Nat) : gN (sR H a k v) = gN H := (rfl)
theorem gS_sR' (H : HP) (a k : Nat) (v : Option Nat) : gS (sR H a k v) = gS H := (rfl)
theorem gR_sR' (H : HP) (a k : Nat) (v : Option Nat) : gR (sR H a k v) = u2 (gR H) a k v := (rfl)
def alc (H : HP) (n : Nat) : HP := sR (sA (sR (sA (sR (sA (sR (sA (sR (sA H (6, 0) 11) n 10 (some 0)) (100, 5) 5) n 0 (some (n + 1))) (100, 5) 5) n 1 (some (n + 2))) (100, 5) 5) n 2 (some (n + 3))) (100, 5) 5) n 3 (some (n + 4))
theorem ec_init {H : HP} {n : Nat} (hn : gN H = n) (h54 : 54 ≤ n) : cS_init n 0 (sA H (6, 0) 11) = some ((), alc H n) := by
  have a2 : n ≠ n + 1 := by omega
  have a3 : n ≠ n + 1 + 1 := by omega
  have a4 : n ≠ n + 1 + 1 + 1 := by omega
  have a5 : n ≠ n + 1 + 1 + 1 + 1 := by omega
  simp only [cS_init, bnd_e, gTV h54, gT_sA, gT_sR', gN_sA, gN_sR', hn, if_true, if_neg a2, if_neg a3, if_neg a4, if_neg a5]
  simp only [grd_pos trivial, grd_pos h54, grd_pos (show 54 ≤ n + 1 by omega), grd_pos (show 54 ≤ n + 1 + 1 by omega), grd_pos (show 54 ≤ n + 1 + 1 + 1 by omega), grd_pos (show 54 ≤ n + 1 + 1 + 1 + 1 by omega)]
  rfl
theorem alc_T {H : HP} {n : Nat} (hn : gN H = n) (x : Nat) : gT (alc H n) x = if x = n then (6, 0) else if n < x ∧ x ≤ n + 4 then (100, 5) else gT H x := by
  simp only [alc, gT_sA, gT_sR', gN_sA, gN_sR', hn]
  by_cases z : x = n
  · subst z
    rw [if_neg (by omega), if_neg (by omega), if_neg (by omega), if_neg (by omega), if_pos rfl, if_pos rfl]
  · rw [if_neg z, if_neg z]
    by_cases y : n < x ∧ x ≤ n + 4
    · rw [if_pos y]
      split
      · rfl
      · split
        · rfl
        · split
          · rfl
          · split
            · rfl
            · omega
    · rw [if_neg y, if_neg (by omega), if_neg (by omega), if_neg (by omega), if_neg (by omega)]
theorem alc_I {H : HP} {n : Nat} (hn : gN H = n) {x : Nat} (hx : x < n ∨ n + 4 < x) : gI (alc H n) x = gI H x := by
  simp only [alc, gI_sA, gI_sR', gN_sA, gN_sR', hn]
  rw [if_neg (by omega), if_neg (by omega), if_neg (by omega), if_neg (by omega), if_neg (by omega)]
theorem alc_R {H : HP} {n : Nat} (hn : gN H = n) {x : Nat} (hx : x < n ∨ n + 4 < x) : gR (alc H n) x = gR H x := by
  have z : x ≠ n := by omega
  have a2 : ¬ x = n + 1 := by omega
  have a3 : ¬ x = n + 1 + 1 := by omega
  have a4 : ¬ x = n + 1 + 1 + 1 := by omega
  have a5 : ¬ x = n + 1 + 1 + 1 + 1 := by omega
  simp only [alc, gR_sA, gR_sR', gN_sA, gN_sR', hn, u2_ne z, if_neg z, if_neg a2, if_neg a3, if_neg a4, if_neg a5]
theorem alc_Rn {H : HP} {n : Nat} (hn : gN H = n) : gR (alc H n) n 0 = some (n + 1) ∧ gR (alc H n) n 1 = some (n + 2) ∧ gR (alc H n) n 2 = some (n + 3) ∧ gR (alc H n) n 3 = some (n + 4) ∧ gR (alc H n) n 10 = some 0 := by
  have a2 : ¬ n = n + 1 := by omega
  have a3 : ¬ n = n + 1 + 1 := by omega
  have a4 : ¬ n = n + 1 + 1 + 1 := by omega
  have a5 : ¬ n = n + 1 + 1 + 1 + 1 := by omega
  simp [alc, gR_sA, gR_sR', gN_sA, gN_sR', hn, u2_app, a2, a3, a4, a5]
theorem alc_N {H : HP} {n : Nat} (hn : gN H = n) : gN (alc H n) = n + 5 ∧ gS (alc H n) = gS H + 31 := by
  simp only [alc, gN_sA, gN_sR', gS_sA, gS_sR', hn]
  constructor <;> first | trivial | omega
end P6
