/-! PURE LEVEL 43: states are put away and taken back: known, keep, back, undo -/
section P2
variable {h g : HP}
theorem em_put2 {a i : Nat} (ht : (mT a).1 = 100) (hb : i + 22 ≤ (mT a).2) (hm : (mT a).2 < 1000) (ha : 33 < a) (M : Nat → Nat → Int64) : ∀ (j r : Nat) (J : Nat → Nat → Int32) (fuel : Nat), r + j = 5 → j < fuel → ∃ J', (∀ k, m_put_2 a (nn i) k fuel (nn r) (hw g J M) = k (hw g J' M)) ∧ (∀ p, r ≤ p → p < 5 → J' a (i + p) = J 29 p ∧ J' a (i + 5 + p) = J 30 p ∧ J' a (i + 10 + p) = J 31 p ∧ J' a (i + 15 + p) = J 32 p) ∧ (∀ k, (∀ p, r ≤ p → p < 5 → k ≠ i + p ∧ k ≠ i + 5 + p ∧ k ≠ i + 10 + p ∧ k ≠ i + 15 + p) → J' a k = J a k) ∧ ∀ x, x ≠ a → J' x = J x := by
  intro j
  induction j with
  | zero =>
    intro r J fuel hr hf
    obtain ⟨n, rfl⟩ : ∃ n, fuel = n + 1 := ⟨fuel - 1, by omega⟩
    have : (5 : Int32) ≤ nn r := nn_ple (n := 5) (by omega) (by omega)
    refine ⟨J, fun k => ?_, fun p h1 h2 => by omega, fun _ _ => rfl, fun _ _ => rfl⟩
    simp only [m_put_2, bnd_e, cal_s, onr_s, jon_e, gI_hw, gL_hw, gT_hw, gR_hw, gN_hw, sI_hw, sL_hw, cV_hw, shS_hw, shC_hw, shL_hw, ← bt_def, if_pos this]
  | succ j ih =>
    intro r J fuel hr hf
    obtain ⟨n, rfl⟩ : ∃ n, fuel = n + 1 := ⟨fuel - 1, by omega⟩
    have hr2 : r < 2147483648 := by omega
    have i1 : inb (nn r) 10 := nn_inb hr2 (by omega)
    have nle : ¬ (5 : Int32) ≤ nn r := nn_nle (n := 5) (by omega) (by omega)
    have e1 : nn i + nn r = nn (i + r) := nn_add i r
    have e2 : nn i + 5 + nn r = nn (i + 5 + r) := by rw [show (5 : Int32) = nn 5 from rfl, nn_add, nn_add]
    have e3 : nn i + 10 + nn r = nn (i + 10 + r) := by rw [show (10 : Int32) = nn 10 from rfl, nn_add, nn_add]
    have e4 : nn i + 15 + nn r = nn (i + 15 + r) := by rw [show (15 : Int32) = nn 15 from rfl, nn_add, nn_add]
    have b1 : inb (nn (i + r)) (mT a).2 := nn_inb (by omega) (by omega)
    have b2 : inb (nn (i + 5 + r)) (mT a).2 := nn_inb (by omega) (by omega)
    have b3 : inb (nn (i + 10 + r)) (mT a).2 := nn_inb (by omega) (by omega)
    have b4 : inb (nn (i + 15 + r)) (mT a).2 := nn_inb (by omega) (by omega)
    obtain ⟨J2, e5, a2, c2, f2⟩ := ih (r + 1) (u2 (u2 (u2 (u2 J a (i + r) (J 29 r)) a (i + 5 + r) (J 30 r)) a (i + 10 + r) (J 31 r)) a (i + 15 + r) (J 32 r)) n (by omega) (by omega)
    have n29 : 29 ≠ a := by omega
    have n30 : 30 ≠ a := by omega
    have n31 : 31 ≠ a := by omega
    have n32 : 32 ≠ a := by omega
    refine ⟨J2, fun k => ?_, fun p h1 h2 => ?_, fun k hk => ?_, fun x hx => ?_⟩
    · simp only [m_put_2, bnd_e, cal_s, onr_s, jon_e, gI_hw, gL_hw, gT_hw, gR_hw, gN_hw, sI_hw, sL_hw, cV_hw, shS_hw, shC_hw, shL_hw, ← bt_def, if_neg nle, grd_pos i1, grd_pos ht, e1, e2, e3, e4, grd_pos b1, grd_pos b2, grd_pos b3, grd_pos b4, nn_clamp hr2, nn_clamp (show i + r < 2147483648 by omega), nn_clamp (show i + 5 + r < 2147483648 by omega), nn_clamp (show i + 10 + r < 2147483648 by omega), nn_clamp (show i + 15 + r < 2147483648 by omega), nn_succ, u2_ne n29, u2_ne n30, u2_ne n31, u2_ne n32, e5]
    · by_cases y : p = r
      · rw [c2 _ (fun q h3 h4 => by omega), c2 _ (fun q h3 h4 => by omega), c2 _ (fun q h3 h4 => by omega), c2 _ (fun q h3 h4 => by omega), y]
        refine ⟨?_, ?_, ?_, ?_⟩
        · rw [u2_nk _ _ (by omega), u2_nk _ _ (by omega), u2_nk _ _ (by omega), u2_same]
        · rw [u2_nk _ _ (by omega), u2_nk _ _ (by omega), u2_same]
        · rw [u2_nk _ _ (by omega), u2_same]
        · rw [u2_same]
      · obtain ⟨z1, z2, z3, z4⟩ := a2 p (by omega) h2
        rw [z1, z2, z3, z4]
        rw [u2_ne n29, u2_ne n29, u2_ne n29, u2_ne n29, u2_ne n30, u2_ne n30, u2_ne n30, u2_ne n30, u2_ne n31, u2_ne n31, u2_ne n31, u2_ne n31, u2_ne n32, u2_ne n32, u2_ne n32, u2_ne n32]
        exact ⟨rfl, rfl, rfl, rfl⟩
    · obtain ⟨k1, k2, k3, k4⟩ := hk r (by omega) (by omega)
      rw [c2 k (fun q h3 h4 => hk q (by omega) h4), u2_nk _ _ k4, u2_nk _ _ k3, u2_nk _ _ k2, u2_nk _ _ k1]
    · rw [f2 x hx, u2_ne hx, u2_ne hx, u2_ne hx, u2_ne hx]
theorem em_put {a i P : Nat} {S : ST} {J : Nat → Nat → Int32} {M : Nat → Nat → Int64} (ht : (mT a).1 = 100) (hb : i + 22 ≤ (mT a).2) (hm : (mT a).2 < 1000) (ha : 33 < a) (hP : P ≤ 5) (s : StM J 0 P S) : ∃ J', m_put a (nn i) (hw g J M) = some ((), hw g J' M) ∧ (∀ nu, StMx J' a i P (S, J 0 60, nu)) ∧ (∀ k, (k < i ∨ i + 22 ≤ k) → J' a k = J a k) ∧ ∀ x, x ≠ a → J' x = J x := by
  obtain ⟨J1, e1, a1, c1, f1⟩ := em_put2 (g := g) ht hb hm ha M 5 0 J FU (by omega) (by show 5 < 1000; omega)
  rw [nn0] at e1
  have n33 : J1 33 = J 33 := f1 33 (by omega)
  have n0 : J1 0 = J 0 := f1 0 (by omega)
  have e2 : nn i + 20 = nn (i + 20) := nn_add i 20
  have e3 : nn i + 21 = nn (i + 21) := nn_add i 21
  have b2 : inb (nn (i + 20)) (mT a).2 := nn_inb (by omega) (by omega)
  have b3 : inb (nn (i + 21)) (mT a).2 := nn_inb (by omega) (by omega)
  refine ⟨u2 (u2 J1 a (i + 20) (J 33 0)) a (i + 21) (J 0 60), ?_, fun nu => ⟨fun p hp => ?_, ?_, ?_⟩, fun k hk => ?_, fun x hx => ?_⟩
  · simp only [m_put, bnd_e, cal_s, onr_s, jon_e, gI_hw, gL_hw, gT_hw, gR_hw, gN_hw, sI_hw, sL_hw, cV_hw, shS_hw, shC_hw, shL_hw, ← bt_def, e1, grd_pos (show inb (0 : Int32) 2 by decide), grd_pos ht, e2, e3, grd_pos b2, grd_pos b3, tn0, nn_clamp (show i + 20 < 2147483648 by omega), nn_clamp (show i + 21 < 2147483648 by omega), u2_ne (show 0 ≠ a by omega), n33, n0]
  · obtain ⟨z1, z2, z3, z4⟩ := a1 p (by omega) (by omega)
    obtain ⟨y1, y2, y3, y4⟩ := s.1 p hp
    rw [show 5 * 0 + p = p by omega] at y1 y2 y3 y4
    rw [u2_nk _ _ (show i + p ≠ i + 21 by omega), u2_nk _ _ (show i + p ≠ i + 20 by omega), u2_nk _ _ (show i + 5 + p ≠ i + 21 by omega), u2_nk _ _ (show i + 5 + p ≠ i + 20 by omega), u2_nk _ _ (show i + 10 + p ≠ i + 21 by omega), u2_nk _ _ (show i + 10 + p ≠ i + 20 by omega), u2_nk _ _ (show i + 15 + p ≠ i + 21 by omega), u2_nk _ _ (show i + 15 + p ≠ i + 20 by omega), z1, z2, z3, z4]
    exact ⟨y1, y3, y2, y4⟩
  · rw [u2_nk _ _ (by omega), u2_same]; exact s.2
  · rw [u2_same]
  · rw [u2_nk _ _ (by omega), u2_nk _ _ (by omega), c1 k (fun p h1 h2 => by omega)]
  · rw [u2_ne hx, u2_ne hx, f1 x hx]
theorem em_take2 {a i : Nat} (ht : (mT a).1 = 100) (hb : i + 22 ≤ (mT a).2) (hm : (mT a).2 < 1000) (ha : 33 < a) (M : Nat → Nat → Int64) : ∀ (j r : Nat) (J : Nat → Nat → Int32) (fuel : Nat), r + j = 5 → j < fuel → ∃ J', (∀ k, m_take_2 a (nn i) k fuel (nn r) (hw g J M) = k (hw g J' M)) ∧ (∀ p, r ≤ p → p < 5 → J' 29 p = J a (i + p) ∧ J' 30 p = J a (i + 5 + p) ∧ J' 31 p = J a (i + 10 + p) ∧ J' 32 p = J a (i + 15 + p)) ∧ (∀ p, p < r → J' 29 p = J 29 p ∧ J' 30 p = J 30 p ∧ J' 31 p = J 31 p ∧ J' 32 p = J 32 p) ∧ ∀ x, x < 29 ∨ 32 < x → J' x = J x := by
  intro j
  induction j with
  | zero =>
    intro r J fuel hr hf
    obtain ⟨n, rfl⟩ : ∃ n, fuel = n + 1 := ⟨fuel - 1, by omega⟩
    have : (5 : Int32) ≤ nn r := nn_ple (n := 5) (by omega) (by omega)
    refine ⟨J, fun k => ?_, fun p h1 h2 => by omega, fun _ _ => ⟨rfl, rfl, rfl, rfl⟩, fun _ _ => rfl⟩
    simp only [m_take_2, bnd_e, cal_s, onr_s, jon_e, gI_hw, gL_hw, gT_hw, gR_hw, gN_hw, sI_hw, sL_hw, cV_hw, shS_hw, shC_hw, shL_hw, ← bt_def, if_pos this]
  | succ j ih =>
    intro r J fuel hr hf
    obtain ⟨n, rfl⟩ : ∃ n, fuel = n + 1 := ⟨fuel - 1, by omega⟩
    have hr2 : r < 2147483648 := by omega
    have i1 : inb (nn r) 10 := nn_inb hr2 (by omega)
    have nle : ¬ (5 : Int32) ≤ nn r := nn_nle (n := 5) (by omega) (by omega)
    have e1 : nn i + nn r = nn (i + r) := nn_add i r
    have e2 : nn i + 5 + nn r = nn (i + 5 + r) := by rw [show (5 : Int32) = nn 5 from rfl, nn_add, nn_add]
    have e3 : nn i + 10 + nn r = nn (i + 10 + r) := by rw [show (10 : Int32) = nn 10 from rfl, nn_add, nn_add]
    have e4 : nn i + 15 + nn r = nn (i + 15 + r) := by rw [show (15 : Int32) = nn 15 from rfl, nn_add, nn_add]
    have b1 : inb (nn (i + r)) (mT a).2 := nn_inb (by omega) (by omega)
    have b2 : inb (nn (i + 5 + r)) (mT a).2 := nn_inb (by omega) (by omega)
    have b3 : inb (nn (i + 10 + r)) (mT a).2 := nn_inb (by omega) (by omega)
    have b4 : inb (nn (i + 15 + r)) (mT a).2 := nn_inb (by omega) (by omega)
    have n29 : a ≠ 29 := by omega
    have n30 : a ≠ 30 := by omega
    have n31 : a ≠ 31 := by omega
    have n32 : a ≠ 32 := by omega
    obtain ⟨J2, e5, a2, c2, f2⟩ := ih (r + 1) (u2 (u2 (u2 (u2 J 29 r (J a (i + r))) 30 r (J a (i + 5 + r))) 31 r (J a (i + 10 + r))) 32 r (J a (i + 15 + r))) n (by omega) (by omega)
    refine ⟨J2, fun k => ?_, fun p h1 h2 => ?_, fun p h1 => ?_, fun x hx => ?_⟩
    · simp only [m_take_2, bnd_e, cal_s, onr_s, jon_e, gI_hw, gL_hw, gT_hw, gR_hw, gN_hw, sI_hw, sL_hw, cV_hw, shS_hw, shC_hw, shL_hw, ← bt_def, if_neg nle, grd_pos i1, grd_pos ht, e1, e2, e3, e4, grd_pos b1, grd_pos b2, grd_pos b3, grd_pos b4, nn_clamp hr2, nn_clamp (show i + r < 2147483648 by omega), nn_clamp (show i + 5 + r < 2147483648 by omega), nn_clamp (show i + 10 + r < 2147483648 by omega), nn_clamp (show i + 15 + r < 2147483648 by omega), nn_succ, u2_ne n29, u2_ne n30, u2_ne n31, u2_ne n32, e5]
    · by_cases y : p = r
      · obtain ⟨z1, z2, z3, z4⟩ := c2 p (by omega)
        rw [z1, z2, z3, z4, y]
        simp [u2_app]
      · obtain ⟨z1, z2, z3, z4⟩ := a2 p (by omega) h2
        rw [z1, z2, z3, z4]
        simp [u2_app, n29, n30, n31, n32]
    · obtain ⟨z1, z2, z3, z4⟩ := c2 p (by omega)
      rw [z1, z2, z3, z4]
      have : p ≠ r := by omega
      simp [u2_app, this]
    · rw [f2 x hx, u2_ne (by omega), u2_ne (by omega), u2_ne (by omega), u2_ne (by omega)]
theorem em_take {a i P : Nat} {X : R3} {J : Nat → Nat → Int32} {M : Nat → Nat → Int64} (ht : (mT a).1 = 100) (hb : i + 22 ≤ (mT a).2) (hm : (mT a).2 < 1000) (ha : 33 < a) (hP : P ≤ 5) (s : StMx J a i P X) : ∃ J', m_take a (nn i) (hw g J M) = some ((), hw g J' M) ∧ StM J' 0 P X.1 ∧ J' 0 60 = X.2.1 ∧ (∀ x, x ≠ 0 → (x < 29 ∨ 33 < x) → J' x = J x) ∧ ∀ k, k ≠ 60 → J' 0 k = J 0 k := by
  obtain ⟨J1, e1, a1, -, f1⟩ := em_take2 (g := g) ht hb hm ha M 5 0 J FU (by omega) (by show 5 < 1000; omega)
  rw [nn0] at e1
  have na : J1 a = J a := f1 a (by omega)
  have n0 : J1 0 = J 0 := f1 0 (by omega)
  have e2 : nn i + 20 = nn (i + 20) := nn_add i 20
  have e3 : nn i + 21 = nn (i + 21) := nn_add i 21
  have b2 : inb (nn (i + 20)) (mT a).2 := nn_inb (by omega) (by omega)
  have b3 : inb (nn (i + 21)) (mT a).2 := nn_inb (by omega) (by omega)
  obtain ⟨s1, s2, s3⟩ := s
  refine ⟨u2 (u2 J1 33 0 (J a (i + 20))) 0 60 (J a (i + 21)), ?_, ⟨fun p hp => ?_, ?_⟩, ?_, fun x h0 hx => ?_, fun k hk => ?_⟩
  · simp only [m_take, bnd_e, cal_s, onr_s, jon_e, gI_hw, gL_hw, gT_hw, gR_hw, gN_hw, sI_hw, sL_hw, cV_hw, shS_hw, shC_hw, shL_hw, ← bt_def, e1, grd_pos (show inb (0 : Int32) 2 by decide), grd_pos ht, e2, e3, grd_pos b2, grd_pos b3, tn0, nn_clamp (show i + 20 < 2147483648 by omega), nn_clamp (show i + 21 < 2147483648 by omega), u2_ne (show a ≠ 33 by omega), na]
  · obtain ⟨z1, z2, z3, z4⟩ := a1 p (by omega) (by omega)
    obtain ⟨y1, y2, y3, y4⟩ := s1 p hp
    rw [show 5 * 0 + p = p by omega, u2_ne (show 29 ≠ 0 by decide), u2_ne (show 30 ≠ 0 by decide), u2_ne (show 31 ≠ 0 by decide), u2_ne (show 32 ≠ 0 by decide), u2_ne (show 29 ≠ 33 by decide), u2_ne (show 30 ≠ 33 by decide), u2_ne (show 31 ≠ 33 by decide), u2_ne (show 32 ≠ 33 by decide), z1, z2, z3, z4]
    exact ⟨y1, y3, y2, y4⟩
  · rw [u2_ne (show 33 ≠ 0 by decide), u2_same]; exact s2
  · rw [u2_same]; exact s3
  · rw [u2_ne h0, u2_ne (by omega), f1 x (by omega)]
  · rw [u2_nk _ _ hk, u2_ne (show 0 ≠ 33 by decide), n0]
end P2
