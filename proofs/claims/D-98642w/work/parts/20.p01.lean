/-! PURE LEVEL 1: small numbers, pictures with one shape, the court and its states as mathematics -/
def nn (n : Nat) : Int32 := Int32.ofNat n
def bI (b : Bool) : Int32 := if b = true then 1 else 0
theorem bI_t : bI true = 1 := rfl
theorem bI_f : bI false = 0 := rfl
theorem nn0 : nn 0 = 0 := rfl
theorem nn1 : nn 1 = 1 := rfl
theorem nn_clamp {a : Nat} (ha : a < 2147483648) : (nn a).toNatClampNeg = a := Int32.toNatClampNeg_ofNat_of_lt ha
theorem nn_le {a b : Nat} (ha : a < 2147483648) (hb : b < 2147483648) : nn a ≤ nn b ↔ a ≤ b := Int32.ofNat_le_iff_le ha hb
theorem nn_lt {a b : Nat} (ha : a < 2147483648) (hb : b < 2147483648) : nn a < nn b ↔ a < b := Int32.ofNat_lt_iff_lt ha hb
theorem nn_eq {a b : Nat} (ha : a < 2147483648) (hb : b < 2147483648) : nn a = nn b ↔ a = b := by
  constructor
  · intro h
    have := congrArg Int32.toNatClampNeg h
    rw [nn_clamp ha, nn_clamp hb] at this
    exact this
  · intro h; rw [h]
theorem nn_add (a b : Nat) : nn a + nn b = nn (a + b) := (Int32.ofNat_add a b).symm
theorem nn_mul (a b : Nat) : nn a * nn b = nn (a * b) := (Int32.ofNat_mul a b).symm
theorem nn_sub {a b : Nat} (h : b ≤ a) : nn a - nn b = nn (a - b) := (Int32.ofNat_sub a b h).symm
theorem nn_succ (a : Nat) : nn a + (1 : Int32) = nn (a + 1) := nn_add a 1
theorem nn_nonneg {a : Nat} (ha : a < 2147483648) : ¬ nn a < 0 := by
  rw [← nn0, nn_lt ha (by omega)]; omega
theorem nn_inb {a n : Nat} (ha : a < 2147483648) (h : a < n) : inb (nn a) n := by
  intro q
  rcases q with q | q
  · exact nn_nonneg ha q
  · rw [nn_clamp ha] at q; omega
theorem nn_nle {i n : Nat} (h : i < n) (hn : n < 2147483648) : ¬ nn n ≤ nn i := by
  rw [nn_le hn (by omega)]; omega
theorem nn_of {x : Int32} {n : Nat} (hn : n < 2147483648) (h0 : ¬ x < 0) (h1 : x < nn n) : ∃ i, i < n ∧ x = nn i := by
  have h2 : 0 ≤ x := Int32.not_lt.mp h0
  refine ⟨x.toNatClampNeg, ?_, (Int32.ofNat_toNatClampNeg x h2).symm⟩
  have h3 : x = nn x.toNatClampNeg := (Int32.ofNat_toNatClampNeg x h2).symm
  rw [h3, nn_lt (Int32.toNatClampNeg_lt x) hn] at h1
  exact h1
theorem bI_eq0 {b : Bool} : bI b = 0 ↔ b = false := by cases b <;> decide
theorem bI_eq1 {b : Bool} : bI b = 1 ↔ b = true := by cases b <;> decide
theorem isB_bI (b : Bool) : isB (bI b) := by cases b <;> decide
/-! the trees' rows again, not by definition (so that the kernel never looks into loops) -/
theorem bnd_e {α β : Type} (x : α) (f : α → Option β) : bnd x f = f x := (rfl)
theorem cal_s {α β : Type} (r : α) (h : HP) (f : α → HP → Option β) : cal (some (r, h)) f = f r h := (rfl)
theorem onr_s {β : Type} (b : Nat) (f : Nat → Option β) : onr (some b) f = f b := (rfl)
theorem jon_e {γ β : Type} (J : γ) (f : γ → Option β) : jon J f = f J := (rfl)
/-! pictures of one shape -/
def hw (h : HP) (I : Nat → Nat → Int32) (L : Nat → Nat → Int64) : HP := (h.1, h.2.1, I, L, h.2.2.2.2)
section HW
variable (h : HP) (I : Nat → Nat → Int32) (L : Nat → Nat → Int64)
theorem gI_hw : gI (hw h I L) = I := (rfl)
theorem gL_hw : gL (hw h I L) = L := (rfl)
theorem gT_hw : gT (hw h I L) = gT h := (rfl)
theorem gR_hw : gR (hw h I L) = gR h := (rfl)
theorem gN_hw : gN (hw h I L) = gN h := (rfl)
theorem gS_hw : gS (hw h I L) = gS h := (rfl)
theorem sI_hw (a k : Nat) (v : Int32) : sI (hw h I L) a k v = hw h (u2 I a k v) L := (rfl)
theorem sL_hw (a k : Nat) (v : Int64) : sL (hw h I L) a k v = hw h I (u2 L a k v) := (rfl)
theorem cV_hw : cV (hw h I L) = hw (cV h) I L := (rfl)
theorem hw_hw (I' : Nat → Nat → Int32) (L' : Nat → Nat → Int64) : hw (hw h I L) I' L' = hw h I' L' := (rfl)
theorem hw_eta : h = hw h (gI h) (gL h) := (rfl)
theorem shS_hw (o : Nat) : shS (hw h I L) o = shS h o := (rfl)
theorem shC_hw (o : Nat) : shC (hw h I L) o = shC h o := (rfl)
theorem shL_hw (o : Nat) : shL (hw h I L) o = shL h o := (rfl)
end HW
theorem u2_app {α : Type} (f : Nat → Nat → α) (a k : Nat) (v : α) (b j : Nat) : u2 f a k v b j = if b = a ∧ j = k then v else f b j := rfl
theorem u2_same {α : Type} (f : Nat → Nat → α) (a k : Nat) (v : α) : u2 f a k v a k = v := by
  rw [u2_app, if_pos ⟨rfl, rfl⟩]
theorem u2_nk {α : Type} (f : Nat → Nat → α) {a k b j : Nat} (v : α) (h : j ≠ k) : u2 f a k v b j = f b j := by
  rw [u2_app, if_neg (fun q => h q.2)]
/-! the court -/
abbrev LF := (Nat → Int64) → Option Int64
abbrev KT := (Nat → Nat) × (Nat → Nat → Int32) × (Nat → Option LF)
def zF (K : KT) : Nat := K.1 0
def zP (K : KT) : Nat := K.1 1
def zQ (K : KT) : Nat := K.1 2
def zT (K : KT) : Nat := K.1 3
def zKn (K : KT) : Nat := K.1 4
def zt (K : KT) (t k : Nat) : Int32 := K.2.1 t k
def zl (K : KT) (j : Nat) : Option LF := K.2.2 j
abbrev ST := (Nat → Int32) × (Nat → Int32) × (Nat → Int32) × (Nat → Int32) × Int32
def sk (S : ST) : Nat → Int32 := S.1
def sl (S : ST) : Nat → Int32 := S.2.1
def sr (S : ST) : Nat → Int32 := S.2.2.1
def sa (S : ST) : Nat → Int32 := S.2.2.2.1
def sd (S : ST) : Int32 := S.2.2.2.2
abbrev FT := Int32 × Int32 × Int32
def bt (x k : Int32) : Int32 := (x >>> (k &&& 31)) &&& 1
theorem bt_def (x k : Int32) : bt x k = (x >>> (k &&& 31)) &&& 1 := (rfl)
def z1 (k : Int32) : Int32 := if k = -1 then 0 else (1 : Int32) <<< (k &&& 31)
def zsup (K : KT) (q : Nat) : Int32 := if zt K 8 q = 1 then z1 (zt K 9 q) ||| z1 (zt K 10 q) else z1 (zt K 9 q)
def zb1 (a1 : Int32) : Int32 := a1 - (((a1).toUInt32 >>> (((1 : Int32)).toUInt32 &&& Int32.toUInt32 31)).toInt32 &&& (1431655765 : Int32))
def zb2 (x1 : Int32) : Int32 := (x1 &&& (858993459 : Int32)) + (((x1).toUInt32 >>> (((2 : Int32)).toUInt32 &&& Int32.toUInt32 31)).toInt32 &&& (858993459 : Int32))
def zb3 (x2 : Int32) : Int32 := (x2 + ((x2).toUInt32 >>> (((4 : Int32)).toUInt32 &&& Int32.toUInt32 31)).toInt32) &&& (252645135 : Int32)
def zb4 (x3 : Int32) : Int32 := x3 + ((x3).toUInt32 >>> (((8 : Int32)).toUInt32 &&& Int32.toUInt32 31)).toInt32
def zb5 (x4 : Int32) : Int32 := x4 + ((x4).toUInt32 >>> (((16 : Int32)).toUInt32 &&& Int32.toUInt32 31)).toInt32
def zbc (x : Int32) : Int32 := zb5 (zb4 (zb3 (zb2 (zb1 x)))) &&& (63 : Int32)
def ztog (F : FT) (S : ST) (a b : Nat) : Bool := decide (bt F.2.2 (nn a) = 0) && (decide (bt F.2.2 (nn b) = 0) && decide (sr S a = sr S b))
def zcan (K : KT) (F : FT) (S : ST) (a b q : Nat) (cnt : Bool) : Bool := decide (a ≠ b) && (ztog F S a b && (!(decide (F.1 = 3) && decide (F.2.1 = nn q)) && ((!cnt || decide (sa S a < zt K 0 0)) && decide ((zsup K q &&& (sk S a ^^^ (-1 : Int32))) = 0))))
def zwit (K : KT) (F : FT) (p : Nat) : Int32 := if F.1 = 4 then 9 else zt K 4 p
def zN (K : KT) (F : FT) (S : ST) (p q : Nat) : Nat → Int64 := fun i => match i with
  | 0 => (zt K 3 p).toInt64
  | 1 => (zwit K F p).toInt64
  | 2 => (sl S p).toInt64
  | 3 => (zbc (sk S p)).toInt64
  | 4 => (sr S p).toInt64
  | 5 => (zt K 8 q).toInt64
  | 6 => (sd S).toInt64
  | _ => 0
def zlaw (K : KT) (j : Nat) (N : Nat → Int64) : Option Int64 := match zl K j with
  | none => none
  | some f => f N
def zheard (K : KT) (F : FT) (p q : Nat) : Bool := decide (zt K 8 q ≠ 2) || decide (5 ≤ zwit K F p)
def zhear (K : KT) (F : FT) (S : ST) (p q : Nat) : Bool := match zlaw K 1 (zN K F S p q) with
  | none => zheard K F p q
  | some v => decide (v ≠ 0)
def zclamp (v : Int64) : Int32 := (if (if v < (100 : Int64) then v else (100 : Int64)) < (0 : Int64) then (0 : Int64) else (if v < (100 : Int64) then v else (100 : Int64))).toInt32
def zodds (K : KT) (F : FT) (S : ST) (p q : Nat) : Int32 := if F.1 = 0 then 0 else match zlaw K 0 (zN K F S p q) with
  | none => (10 : Int32) * zt K 3 p
  | some v => zclamp v
def zkn1 (K : KT) (F : FT) (S : ST) (a q : Nat) : Nat → Int32 := fun p => if p ≠ a ∧ ztog F S a p = true ∧ zhear K F S p q = true then sk S p ||| zsup K q else sk S p
def zS1 (K : KT) (F : FT) (S : ST) (a q : Nat) : ST := (zkn1 K F S a q, sl S, sr S, (fun p => if p = a then sa S p + 1 else sa S p), sd S)
def zasks (K : KT) (q : Nat) : Int32 := if zt K 8 q = 3 then -1 else zt K 11 q
def zS2 (F : FT) (S : ST) (b : Nat) (x : Int32) : ST := ((fun p => if ztog F S b p = true then sk S p ||| ((1 : Int32) <<< (x &&& 31)) else sk S p), (fun p => if p = b then sl S p + 1 else sl S p), sr S, sa S, sd S)
def znum (n : Int32) : Int32 := ((n * (1103515245 : Int32)) + (12345 : Int32)) &&& (2147483647 : Int32)
def zdraw (n : Int32) : Int32 := (znum n >>> ((16 : Int32) &&& 31)) - (znum n >>> ((16 : Int32) &&& 31)) / 100 * 100
def zslip (K : KT) (F : FT) (S1 : ST) (b q : Nat) (dr : Bool) (num : Int32) : Bool × Int32 :=
  if zasks K q = -1 then (false, num) else if bt (sk S1 b) (zasks K q) = 0 then (false, num) else
  if dr = true then (if zodds K F S1 b q = 100 then (true, num) else if zodds K F S1 b q ≤ 0 then (false, num) else if zodds K F S1 b q ≤ zdraw num then (false, znum num) else (true, znum num))
  else if zodds K F S1 b q < 50 then (false, num) else (true, num)
def zask (K : KT) (F : FT) (S : ST) (a b q : Nat) (dr : Bool) (num : Int32) : Bool × ST × Int32 :=
  if (zslip K F (zS1 K F S a q) b q dr num).1 = true then (true, zS2 F (zS1 K F S a q) b (zasks K q), (zslip K F (zS1 K F S a q) b q dr num).2) else (false, zS1 K F S a q, (zslip K F (zS1 K F S a q) b q dr num).2)
def zsumN (F : FT) (S : ST) : Nat → Int32
  | 0 => 0
  | i + 1 => zsumN F S i + (if bt F.2.2 (nn i) = 1 then 0 else zbc (sk S i))
def zsum (K : KT) (F : FT) (S : ST) : Int32 := zsumN F S (zP K)
def zstep (K : KT) (F : FT) (a b q : Nat) (S : ST) : ST := if zcan K F S a b q false = true then (zask K F S a b q false 0).2.1 else S
def zrq (K : KT) (F : FT) (a b : Nat) : Nat → ST → ST
  | 0, S => S
  | n + 1, S => zstep K F a b n (zrq K F a b n S)
def zrb (K : KT) (F : FT) (a : Nat) : Nat → ST → ST
  | 0, S => S
  | n + 1, S => zrq K F a n (zQ K) (zrb K F a n S)
def zra (K : KT) (F : FT) : Nat → ST → ST
  | 0, S => S
  | n + 1, S => zrb K F n (zP K) (zra K F n S)
def zround (K : KT) (F : FT) (S : ST) : ST := zra K F (zP K) S
def zall (K : KT) (F : FT) : Nat → ST → Option ST
  | 0, _ => none
  | n + 1, S => if zsum K F (zround K F S) ≤ zsum K F S then some (zround K F S) else zall K F n (zround K F S)
/-! laws -/
def zNot (f : LF) : LF := fun N => match f N with
  | none => none
  | some v => some (if lg_cmp v 0 = 0 then 1 else 0)
def zsure (v : Int64) : Option Int64 := if 0 < lg_cmp v (1000000000000 : Int64) then none else if 0 ≤ lg_cmp v (-1000000000000 : Int64) then some v else none
def zabs (v : Int64) : Int64 := if 0 < v then v else -v
def ztimes (x y : Int64) : Option Int64 := if lg_cmp x 0 = 0 then some (x * y) else if lg_cmp (zabs y) ((1000000000000 : Int64) / zabs x) ≤ 0 then some (x * y) else none
def z2 (s : Int32) (x y : Int64) : Option Int64 :=
  if s = 16 then some (if lg_cmp x 0 = 0 then 0 else if lg_cmp y 0 = 0 then 0 else 1)
  else if s = 42 then ztimes x y
  else if s = 43 then zsure (x + y)
  else if s = 45 then zsure (x - y)
  else if s = 47 then (if lg_cmp y 0 = 0 then none else some (x / y))
  else if s = 60 then some (if 0 ≤ lg_cmp x y then 0 else 1)
  else if s = 61 then some (if lg_cmp x y = 0 then 1 else 0)
  else if s = 62 then some (if lg_cmp x y ≤ 0 then 0 else 1)
  else if s = 256 then some (if 0 < lg_cmp x y then 0 else 1)
  else if s = 257 then some (if lg_cmp x y < 0 then 0 else 1)
  else if s = 258 then some (if lg_cmp x y = 0 then 0 else 1)
  else some (if lg_cmp x 0 = 0 then (if lg_cmp y 0 = 0 then 0 else 1) else 1)
def zTwo (s : Int32) (fa fb : LF) : LF := fun N => match fa N with
  | none => none
  | some x => match fb N with
    | none => none
    | some y => z2 s x y
/-! the court on the component's side: at cell c of the picture g, ints I; A: where facts (1), persons (2), questions (3) lie -/
def PDn (g : HP) (I : Nat → Nat → Int32) : Nat → Nat → LF → Prop
  | 0, _, _ => False
  | d + 1, p, f => ((gT g p).1 = 10 ∧ f = fun _ => some (I p 0).toInt64) ∨ ((gT g p).1 = 11 ∧ inb (I p 0) 7 ∧ f = fun N => some (N (I p 0).toNatClampNeg)) ∨ ((gT g p).1 = 12 ∧ ∃ a fa, gR g p 0 = some a ∧ PDn g I d a fa ∧ f = zNot fa) ∨ ((gT g p).1 = 13 ∧ ∃ a b fa fb, gR g p 0 = some a ∧ gR g p 2 = some b ∧ PDn g I d a fa ∧ PDn g I d b fb ∧ f = zTwo (I p 1) fa fb)
def CL (g : HP) (I : Nat → Nat → Int32) (c : Nat) (l : Option LF) (j : Nat) : Prop := match l with
  | none => gR g (c + 10) j = none
  | some f => ∃ p, gR g (c + 10) j = some p ∧ PDn g I 80 p f
def CC (g : HP) (I : Nat → Nat → Int32) (c : Nat) (K : KT) (A : Nat → Nat → Nat) : Prop :=
  shC g c ∧ (shL g (c + 1) ∧ shL g (c + 3) ∧ shL g (c + 5)) ∧ ((gT g (c + 2)).2 = 8 ∧ (gT g (c + 4)).2 = 5 ∧ (gT g (c + 6)).2 = 8) ∧
  (I (c + 1) 2 = nn (zF K) ∧ I (c + 3) 2 = nn (zP K) ∧ I (c + 5) 2 = nn (zQ K)) ∧ (I c 7 = nn (zT K) ∧ I c 8 = zt K 0 0 ∧ I c 9 = zt K 0 1 ∧ I c 10 = nn (zKn K)) ∧
  (∀ k, k < zF K → gR g (c + 2) k = some (A 1 k) ∧ (gT g (A 1 k)).1 = 7 ∧ I (A 1 k) 0 = zt K 1 k) ∧
  (∀ k, k < zP K → gR g (c + 4) k = some (A 2 k) ∧ (gT g (A 2 k)).1 = 8 ∧ I (A 2 k) 0 = zt K 2 k ∧ I (A 2 k) 1 = zt K 3 k ∧ I (A 2 k) 2 = zt K 4 k ∧ I (A 2 k) 3 = zt K 5 k ∧ I (A 2 k) 4 = zt K 6 k) ∧
  (∀ k, k < zQ K → gR g (c + 6) k = some (A 3 k) ∧ (gT g (A 3 k)).1 = 9 ∧ I (A 3 k) 0 = zt K 7 k ∧ I (A 3 k) 1 = zt K 8 k ∧ I (A 3 k) 2 = zt K 9 k ∧ I (A 3 k) 3 = zt K 10 k ∧ I (A 3 k) 4 = zt K 11 k) ∧
  (∀ k, k < zT K → I (c + 7) k = zt K 12 k ∧ I (c + 8) k = zt K 13 k ∧ I (c + 9) k = zt K 14 k) ∧ (∀ j, j < 2 → CL g I c (zl K j) j)
def okF (x : Int32) : Prop := x = -1 ∨ ∃ f, f < 8 ∧ x = nn f
def WK (K : KT) : Prop := (zF K ≤ 8 ∧ zP K ≤ 5 ∧ zQ K ≤ 8 ∧ zT K ≤ 10 ∧ zKn K ≤ 64) ∧ (∀ k, k < zP K → zt K 6 k &&& 255 = zt K 6 k) ∧
  (∀ k, k < zQ K → (∃ i, i < 4 ∧ zt K 8 k = nn i) ∧ okF (zt K 9 k) ∧ okF (zt K 10 k) ∧ okF (zt K 11 k)) ∧
  (∀ k, k < zT K → (∃ i, i < zP K ∧ zt K 12 k = nn i) ∧ (∃ i, i < zP K ∧ zt K 13 k = nn i) ∧ ∃ i, i < zQ K ∧ zt K 14 k = nn i) ∧ ¬ zt K 0 1 < 0
/-- the component's whole court: the one that the object holds -/
def CW (h : HP) (I : Nat → Nat → Int32) (c : Nat) (K : KT) (A : Nat → Nat → Nat) : Prop := gR (cV h) 0 6 = some c ∧ CC (cV h) I c K A ∧ WK K
def StC (I : Nat → Nat → Int32) (o : Nat) (P : Nat) (F : FT) (S : ST) : Prop := (∀ p, p < P → I (o + 1) p = sk S p ∧ (if F.1 = 1 then 0 else I (o + 2) p) = sr S p ∧ I (o + 3) p = sl S p ∧ I (o + 4) p = sa S p) ∧ I o 4 = sd S ∧ I o 7 = F.1 ∧ I o 8 = F.2.1 ∧ I o 9 = F.2.2
def FrO (o : Nat) (I I' : Nat → Nat → Int32) : Prop := ∀ x, x < o ∨ o + 4 < x → I' x = I x
theorem FrO.rfl (o : Nat) (I : Nat → Nat → Int32) : FrO o I I := fun _ _ => Eq.refl _
theorem FrO.tr {o : Nat} {I I1 I2 : Nat → Nat → Int32} (a : FrO o I I1) (b : FrO o I1 I2) : FrO o I I2 := fun x q => (b x q).trans (a x q)
theorem FrO.u2 {o a : Nat} (I : Nat → Nat → Int32) (k : Nat) (v : Int32) (h1 : o ≤ a) (h2 : a ≤ o + 4) : FrO o I (u2 I a k v) := fun x q => u2_ne (by omega)
