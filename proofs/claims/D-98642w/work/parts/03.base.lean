/-! BASE: the picture HP of a part of the heap (addresses relative to a base z), its reading against the machine's heap (wD), the trees of a method's meaning (grd, bnd, cal, onr, jon), the judgement jG: 'the machine at this frame does what the tree t says' -/
abbrev HP : Type := (Nat × Nat) × (Nat → Nat × Nat) × (Nat → Nat → Int32) × (Nat → Nat → Int64) × (Nat → Nat → Option Nat)
def gN (h : HP) : Nat := h.1.1
def gS (h : HP) : Nat := h.1.2
def gT (h : HP) : Nat → Nat × Nat := h.2.1
def gI (h : HP) : Nat → Nat → Int32 := h.2.2.1
def gL (h : HP) : Nat → Nat → Int64 := h.2.2.2.1
def gR (h : HP) : Nat → Nat → Option Nat := h.2.2.2.2
def u2 {α : Type} (f : Nat → Nat → α) (a k : Nat) (v : α) : Nat → Nat → α := fun b j => if b = a ∧ j = k then v else f b j
def sI (h : HP) (a k : Nat) (v : Int32) : HP := (h.1, h.2.1, u2 (gI h) a k v, h.2.2.2.1, h.2.2.2.2)
def sL (h : HP) (a k : Nat) (v : Int64) : HP := (h.1, h.2.1, h.2.2.1, u2 (gL h) a k v, h.2.2.2.2)
def sR (h : HP) (a k : Nat) (v : Option Nat) : HP := (h.1, h.2.1, h.2.2.1, h.2.2.2.1, u2 (gR h) a k v)
/-- a new cell of kind k with n slots, all zero -/
def sA (h : HP) (k : Nat × Nat) (n : Nat) : HP := ((gN h + 1, gS h + n), (fun b => if b = gN h then k else gT h b), (fun b j => if b = gN h then 0 else gI h b j), (fun b j => if b = gN h then 0 else gL h b j), (fun b j => if b = gN h then none else gR h b j))
theorem gN_sI (h : HP) (a k : Nat) (v : Int32) : gN (sI h a k v) = gN h := rfl
theorem gS_sI (h : HP) (a k : Nat) (v : Int32) : gS (sI h a k v) = gS h := rfl
theorem gT_sI (h : HP) (a k : Nat) (v : Int32) : gT (sI h a k v) = gT h := rfl
theorem gL_sI (h : HP) (a k : Nat) (v : Int32) : gL (sI h a k v) = gL h := rfl
theorem gR_sI (h : HP) (a k : Nat) (v : Int32) : gR (sI h a k v) = gR h := rfl
theorem gI_sI (h : HP) (a k : Nat) (v : Int32) (b j : Nat) : gI (sI h a k v) b j = if b = a ∧ j = k then v else gI h b j := rfl
theorem gN_sL (h : HP) (a k : Nat) (v : Int64) : gN (sL h a k v) = gN h := rfl
theorem gS_sL (h : HP) (a k : Nat) (v : Int64) : gS (sL h a k v) = gS h := rfl
theorem gT_sL (h : HP) (a k : Nat) (v : Int64) : gT (sL h a k v) = gT h := rfl
theorem gI_sL (h : HP) (a k : Nat) (v : Int64) : gI (sL h a k v) = gI h := rfl
theorem gR_sL (h : HP) (a k : Nat) (v : Int64) : gR (sL h a k v) = gR h := rfl
theorem gL_sL (h : HP) (a k : Nat) (v : Int64) (b j : Nat) : gL (sL h a k v) b j = if b = a ∧ j = k then v else gL h b j := rfl
theorem gN_sR (h : HP) (a k : Nat) (v : Option Nat) : gN (sR h a k v) = gN h := rfl
theorem gS_sR (h : HP) (a k : Nat) (v : Option Nat) : gS (sR h a k v) = gS h := rfl
theorem gT_sR (h : HP) (a k : Nat) (v : Option Nat) : gT (sR h a k v) = gT h := rfl
theorem gI_sR (h : HP) (a k : Nat) (v : Option Nat) : gI (sR h a k v) = gI h := rfl
theorem gL_sR (h : HP) (a k : Nat) (v : Option Nat) : gL (sR h a k v) = gL h := rfl
theorem gR_sR (h : HP) (a k : Nat) (v : Option Nat) (b j : Nat) : gR (sR h a k v) b j = if b = a ∧ j = k then v else gR h b j := rfl
theorem u2_ne {α : Type} {f : Nat → Nat → α} {a b k : Nat} {v : α} (h : b ≠ a) : u2 f a k v b = f b := by
  funext j
  show (if b = a ∧ j = k then v else f b j) = f b j
  rw [if_neg (fun q => h q.1)]
theorem u2_eq {α : Type} {f : Nat → Nat → α} {a k : Nat} {v : α} (j : Nat) : u2 f a k v a j = if j = k then v else f a j := by
  show (if a = a ∧ j = k then v else f a j) = _
  by_cases h : j = k
  · rw [if_pos ⟨rfl, h⟩, if_pos h]
  · rw [if_neg (fun q => h q.2), if_neg h]
/-! trees -/
def FU : Nat := 1000
def grd {β : Type} (c : Prop) [Decidable c] (t : Option β) : Option β := if c then t else none
def bnd {α β : Type} (x : α) (f : α → Option β) : Option β := f x
def cal {α β : Type} (t : Option (α × HP)) (f : α → HP → Option β) : Option β := match t with
  | none => none
  | some r => f r.1 r.2
def onr {β : Type} (x : Option Nat) (f : Nat → Option β) : Option β := match x with
  | none => none
  | some b => f b
def jon {γ β : Type} (J : γ) (f : γ → Option β) : Option β := f J
theorem grd_pos {β : Type} {c : Prop} [Decidable c] {t : Option β} (h : c) : grd c t = t := if_pos h
theorem bnd_eq {α β : Type} (x : α) (f : α → Option β) : bnd x f = f x := rfl
theorem cal_some {α β : Type} (r : α) (h : HP) (f : α → HP → Option β) : cal (some (r, h)) f = f r h := rfl
theorem cal_none {α β : Type} (f : α → HP → Option β) : cal none f = none := rfl
theorem onr_some {β : Type} (b : Nat) (f : Nat → Option β) : onr (some b) f = f b := rfl
theorem jon_eq {γ β : Type} (J : γ) (f : γ → Option β) : jon J f = f J := rfl
abbrev isB (v : Int32) : Prop := v = 0 ∨ v = 1
abbrev inb (i : Int32) (n : Nat) : Prop := ¬ (i < 0 ∨ n ≤ i.toNatClampNeg)
/-! the classes: jcl (in the tables' part), the codes of slots' types -/
def tcode : FieldType → Nat
  | .long => 1
  | .object _ => 2
  | .array _ => 2
  | _ => 0
/-- of a Fault the inherited references are kept as they are on the machine (code 3) -/
def ft (ci j : Nat) : Nat := if ci = 19 then (if j < 5 then 3 else 0) else tcode (jty ci j)
/-- an array's kind: 100 int, 101 long, 102 byte, 103 boolean, from 104 on references -/
def at_ (k : Nat) : Nat → Nat := fun _ => if k = 101 then 1 else if 104 ≤ k then 2 else 0
def rf (z : Nat) (r : Option Nat) : Value := match r with
  | none => .null
  | some b => .ref (z + b)
def ra (r : Option Nat) : Value := match r with
  | none => .null
  | some b => .ref b
def sv (z : Nat) (f : Nat → Nat) (i : Nat → Int32) (l : Nat → Int64) (r : Nat → Option Nat) (j : Nat) : Value := if f j = 0 then .int (i j) else if f j = 1 then .long (l j) else if f j = 2 then rf z (r j) else ra (r j)
def cOK (D : va_G) (z : Nat) (H : Heap) (k : Nat × Nat) (a : Nat) (i : Nat → Int32) (l : Nat → Int64) (r : Nat → Option Nat) : Prop :=
  k.1 = 0 ∨ (k.1 < 100 ∧ ∃ (q : vw_C) (w : Nat → Value), jcl[k.1 - 1]? = some q ∧ (∀ j, ft (k.1 - 1) j ≠ 3 → w j = sv z (ft (k.1 - 1)) i l r j) ∧ t_OB (z + a) (D.1 (k.1 - 1)) q.2.2 (D.2 (k.1 - 1)) H w) ∨ (100 ≤ k.1 ∧ H[z + a]? = some (arrV (D.1 k.1) k.2 (sv z (at_ k.1) i l r)))
def wD (O : Nat → Prop) (D : va_G) (z : Nat) (h : HP) (H : Heap) : Prop :=
  (gN h ≠ 0 → H.size = z + gN h ∧ ∀ a, gN h ≤ a → O a) ∧ (∀ a, (gT h a).1 ≠ 0 → O a) ∧ ∀ a, cOK D z H (gT h a) a (gI h a) (gL h a) (gR h a)
/-- which cells of the machine's heap the picture's owner may change -/
def aA (z : Nat) (O : Nat → Prop) : Nat → Prop := fun q => ∃ a, q = z + a ∧ O a
def jtys (D : va_G) : List (ClassId × FieldType) := [(D.1 100, .int), (D.1 101, .long), (D.1 102, .byte), (D.1 103, .boolean), (D.1 104, .object "java/lang/Object"), (D.1 105, .object "AskedCourt$Part"), (D.1 106, .object "AskedCourt$Kind"), (D.1 107, .object "AskedCourt$State")]
def jK (D : va_G) (U : State) : Prop := va_K D jcl (jtys D) U
theorem jK.moved {D : va_G} {u U : State} (hvm : u.vm.Alike U.vm) (h : jK D u) : jK D U := va_K.moved hvm h
theorem cOK.kept {D : va_G} {z : Nat} {H H1 : Heap} {k : Nat × Nat} {a : Nat} {i : Nat → Int32} {l : Nat → Int64} {r : Nat → Option Nat} (h : cOK D z H k a i l r) (hq : H1[z + a]? = H[z + a]?) : cOK D z H1 k a i l r := by
  rcases h with h | ⟨h, q, w, h1, h3, h2⟩ | ⟨h, h1⟩
  · exact Or.inl h
  · exact Or.inr (Or.inl ⟨h, q, w, h1, h3, h2.kept hq⟩)
  · exact Or.inr (Or.inr ⟨h, by rw [hq]; exact h1⟩)
theorem cOK.obj {D : va_G} {z : Nat} {H : Heap} {k : Nat × Nat} {a ci : Nat} {i : Nat → Int32} {l : Nat → Int64} {r : Nat → Option Nat} (h : cOK D z H k a i l r) (hk : k.1 = ci + 1) (hc : ci + 1 < 100) {q : vw_C} (hq : jcl[ci]? = some q) : ∃ w : Nat → Value, (∀ j, ft ci j ≠ 3 → w j = sv z (ft ci) i l r j) ∧ t_OB (z + a) (D.1 ci) q.2.2 (D.2 ci) H w := by
  rcases h with h | ⟨h, q', w, h1, h3, h2⟩ | ⟨h, h1⟩
  · omega
  · rw [show k.1 - 1 = ci by omega] at h1 h2 h3
    cases h1.symm.trans hq
    exact ⟨w, h3, h2⟩
  · omega
theorem cOK.arr {D : va_G} {z : Nat} {H : Heap} {k : Nat × Nat} {a t n : Nat} {i : Nat → Int32} {l : Nat → Int64} {r : Nat → Option Nat} (h : cOK D z H k a i l r) (hk : k = (t, n)) (ht : 100 ≤ t) : H[z + a]? = some (arrV (D.1 t) n (sv z (at_ t) i l r)) := by
  subst hk
  rcases h with h | ⟨h, q', w, h1, h3, h2⟩ | ⟨h, h1⟩
  · exact absurd h (show t ≠ 0 by omega)
  · exact absurd h (show ¬ t < 100 by omega)
  · exact h1
/-- one cell is written: the others stay -/
theorem wD.write {O : Nat → Prop} {D : va_G} {z a : Nat} {h h' : HP} {H H' : Heap} (hW : wD O D z h H) (hN : gN h' = gN h) (hT : gT h' = gT h) (hI : ∀ x, x ≠ a → gI h' x = gI h x) (hL : ∀ x, x ≠ a → gL h' x = gL h x) (hR : ∀ x, x ≠ a → gR h' x = gR h x)
    (hs : H'.size = H.size) (ho : ∀ q : Nat, q ≠ z + a → H'[q]? = H[q]?) (hc : cOK D z H' (gT h a) a (gI h' a) (gL h' a) (gR h' a)) : wD O D z h' H' := by
  obtain ⟨w1, w2, w3⟩ := hW
  refine ⟨fun hb => ?_, fun x hx => w2 x (by rw [← hT]; exact hx), fun x => ?_⟩
  · rw [hN] at hb ⊢; rw [hs]; exact w1 hb
  · by_cases hx : x = a
    · subst hx
      rw [hT]
      exact hc
    · rw [hT, hI x hx, hL x hx, hR x hx]
      exact (w3 x).kept (ho _ (by omega))
/-! the frame of a walk: all that stays the same while a method runs -/
abbrev CTX := (Program × Launch × Env × Room × State) × (MethodId × Array Value × List Frame × Method × Code) × (va_G × Nat × (Nat → Prop)) × (Nat × Nat)
def xp (X : CTX) : Program := X.1.1
def xl (X : CTX) : Launch := X.1.2.1
def xe (X : CTX) : Env := X.1.2.2.1
def xR (X : CTX) : Room := X.1.2.2.2.1
def xs (X : CTX) : State := X.1.2.2.2.2
def xm (X : CTX) : MethodId := X.2.1.1
def xa (X : CTX) : Array Value := X.2.1.2.1
def xb (X : CTX) : List Frame := X.2.1.2.2.1
def xh (X : CTX) : Method := X.2.1.2.2.2.1
def xc (X : CTX) : Code := X.2.1.2.2.2.2
def xD (X : CTX) : va_G := X.2.2.1.1
def xz (X : CTX) : Nat := X.2.2.1.2.1
def xO (X : CTX) : Nat → Prop := X.2.2.1.2.2
def xn (X : CTX) : Nat := X.2.2.2.1
def xk (X : CTX) : Nat := X.2.2.2.2
/-- how a picture is read: the whole of it (id), or with parts that never change laid over it -/
def pV (V : HP → HP) : Prop := (∀ h, gI (V h) = gI h ∧ gL (V h) = gL h) ∧ (∀ h a k v, V (sI h a k v) = sI (V h) a k v) ∧ ∀ h a k v, V (sL h a k v) = sL (V h) a k v
/-! what a launch's tables say beside lw_all (nest mates, casts, arrays of references), and the constants that lie in the heap -/
def jN (U : State) : Prop := (∀ q ∈ nF, va_Nw (.fieldLinkNest q.1 q.2.1 q.2.2.1 q.2.2.2.1 q.2.2.2.2.1 q.2.2.2.2.2) U) ∧ (∀ q ∈ nM, va_Nw (.methodLinkNest q.1 q.2.1 q.2.2.1 q.2.2.2) U) ∧ (∀ q ∈ nC, va_Nw (.castable q.1 q.2) U) ∧ (∀ q ∈ nA, va_AO q U) ∧ ∀ q ∈ nD, va_Nw (.declares q) U
theorem jN.warm {s U : State} (hW : s.WarmedH U.vm) (h : jN s) : jN U := ⟨fun q hq => (h.1 q hq).warmF hW, fun q hq => (h.2.1 q hq).warmM hW, fun q hq => (h.2.2.1 q hq).warmC hW, fun q hq => (h.2.2.2.1 q hq).moved hW.alike, fun q hq => (h.2.2.2.2 q hq).warmD hW⟩
theorem jN.same {s U : State} (hv : s.vm = U.vm) (h : jN s) : jN U := ⟨fun q hq => (h.1 q hq).same rfl hv, fun q hq => (h.2.1 q hq).same rfl hv, fun q hq => (h.2.2.1 q hq).same rfl hv, fun q hq => (h.2.2.2.1 q hq).moved (by rw [hv]; exact Vm.Alike.refl _), fun q hq => (h.2.2.2.2 q hq).same rfl hv⟩
def sLen : List Nat := [4, 6, 5, 3, 4, 4, 4, 3, 5, 6, 4, 4, 4, 4, 4, 2, 3, 3, 4, 3, 4, 5, 4, 4, 3, 10]
def sByt : List (List Int32) := [[102, 97, 99, 116], [112, 101, 114, 115, 111, 110], [107, 110, 111, 119, 115], [97, 115, 107], [116, 97, 108, 107], [110, 105, 110, 101], [115, 101, 101, 100], [108, 97, 119], [112, 108, 97, 105, 110], [100, 111, 117, 98, 108, 101], [98, 97, 99, 107], [105, 100, 108, 101], [110, 111, 110, 101], [115, 108, 105, 112], [104, 101, 97, 114], [111, 114], [97, 110, 100], [110, 111, 116], [108, 105, 112, 115], [119, 105, 116], [108, 111, 115, 116], [104, 101, 97, 114, 100], [114, 111, 111, 109], [107, 105, 110, 100], [100, 97, 121], [59, 40, 41, 43, 45, 42, 47, 60, 61, 62]]
def jZs (A : Nat → Prop) (U : State) (H : Heap) (tn : Nat) (adK adV : Nat → Nat) : Prop := va_Z "AskedCourt" "NAMES" "[Ljava/lang/String;" (.ref tn) A U H ∧ va_T (.object "java/lang/String") tn 25 (fun j => .ref (adK j)) A U H ∧ vk_S 26 sLen sByt adK adV A U H ∧ vk_R "AskedCourt$Reader" 61 ";()+-*/<=>" (adK 25) U
/-- addresses of the constants: String number i, its bytes, the array NAMES -/
def sK (D : va_G) : Nat → Nat := D.2 200
def sW (D : va_G) : Nat → Nat := D.2 201
def sTn (D : va_G) : Nat := D.2 202 0
def jTr (A : Nat → Prop) (U : State) (H : Heap) : Prop := ∃ (t : Nat) (cell : Cell), va_Z "AskedCourt" "TROUBLE" "LAskedCourt$Trouble;" (.ref t) A U H ∧ H[t]? = some cell ∧ cell.vm = .none ∧ U.vm.findClass "AskedCourt$Trouble" = some cell.cls ∧ ¬ A t
theorem jTr.kept {A : Nat → Prop} {U : State} {H H1 : Heap} (hq : ∀ a : Nat, a < H.size → ¬ A a → H1[a]? = H[a]?) (h : jTr A U H) : jTr A U H1 := by
  obtain ⟨t, cell, h1, h2, h3, h4, h5⟩ := h
  exact ⟨t, cell, h1.kept hq, by rw [hq t (Array.getElem?_eq_some_iff.mp h2).1 h5]; exact h2, h3, h4, h5⟩
theorem jTr.moved {A : Nat → Prop} {s U : State} {H : Heap} (hA : s.vm.Alike U.vm) (h : jTr A s H) : jTr A U H := by
  obtain ⟨t, cell, h1, h2, h3, h4, h5⟩ := h
  exact ⟨t, cell, h1.moved hA, h2, h3, by rw [hA.findClass]; exact h4, h5⟩
def jZ (D : va_G) (A : Nat → Prop) (U : State) (H : Heap) : Prop :=
  jTr A U H ∧ jZs A U H (sTn D) (sK D) (sW D) ∧ va_Z "java/lang/String" "COMPACT_STRINGS" "Z" (.int 1) A U H ∧ vx_Zq "java/lang/Throwable" "UNASSIGNED_STACK" "[Ljava/lang/StackTraceElement;" A U H ∧ vx_Zq "java/lang/Throwable" "SUPPRESSED_SENTINEL" "Ljava/util/List;" A U H ∧ va_Zq "jdk/internal/util/Preconditions" "SIOOBE_FORMATTER" "Ljava/util/function/BiFunction;" A U H
theorem jZ.kept {D : va_G} {A : Nat → Prop} {U : State} {H H1 : Heap} (hq : ∀ a : Nat, a < H.size → ¬ A a → H1[a]? = H[a]?) (h : jZ D A U H) : jZ D A U H1 := by
  obtain ⟨h1, ⟨h3, h4, h5, h6⟩, h7, h8, h9, h10⟩ := h
  exact ⟨h1.kept hq, ⟨h3.kept hq, h4.kept hq, h5.kept hq, h6⟩, h7.kept hq, h8.kept hq, h9.kept hq, h10.kept hq⟩
theorem jZ.warm {D : va_G} {A : Nat → Prop} {s U : State} {H : Heap} (hW : s.WarmedH U.vm) (h : jZ D A s H) : jZ D A U H := by
  obtain ⟨h1, ⟨h3, h4, h5, h6⟩, h7, h8, h9, h10⟩ := h
  exact ⟨h1.moved hW.alike, ⟨h3.moved hW.alike, h4.moved hW.alike, h5.moved hW.alike, h6.warm hW⟩, h7.moved hW.alike, h8.moved hW.alike, h9.moved hW.alike, h10.moved hW.alike⟩
theorem jZ.same {D : va_G} {A : Nat → Prop} {s U : State} {H : Heap} (hv : s.vm = U.vm) (h : jZ D A s H) : jZ D A U H := by
  have hA : s.vm.Alike U.vm := by rw [hv]; exact Vm.Alike.refl _
  obtain ⟨h1, ⟨h3, h4, h5, h6⟩, h7, h8, h9, h10⟩ := h
  exact ⟨h1.moved hA, ⟨h3.moved hA, h4.moved hA, h5.moved hA, h6.same hv.symm⟩, h7.moved hA, h8.moved hA, h9.moved hA, h10.moved hA⟩
/-- all that is known of the tables at a state -/
def jT (D : va_G) (A : Nat → Prop) (U : State) (H : Heap) : Prop := jK D U ∧ jN U ∧ jZ D A U H
theorem jT.kept {D : va_G} {A : Nat → Prop} {U : State} {H H1 : Heap} (hq : ∀ a : Nat, a < H.size → ¬ A a → H1[a]? = H[a]?) (h : jT D A U H) : jT D A U H1 := ⟨h.1, h.2.1, h.2.2.kept hq⟩
theorem jT.warm {D : va_G} {A : Nat → Prop} {s U : State} {H : Heap} (hW : s.WarmedH U.vm) (h : jT D A s H) : jT D A U H := ⟨h.1.moved hW.alike, h.2.1.warm hW, h.2.2.warm hW⟩
theorem jT.same {D : va_G} {A : Nat → Prop} {s U : State} {H : Heap} (hv : s.vm = U.vm) (h : jT D A s H) : jT D A U H := ⟨h.1.moved (by rw [hv]; exact Vm.Alike.refl _), h.2.1.same hv, h.2.2.same hv⟩
def Pcn (V : HP → HP) (D : va_G) (z : Nat) (O : Nat → Prop) (av : List Value) (h : HP) : Array Value → State → Prop := va_Pc av (fun U => wD O D z (V h) U.heap ∧ jT D (aA z O) U U.heap)
def Qcn (V : HP → HP) (D : va_G) (z : Nat) (O : Nat → Prop) (rv : Option Value) (rh : HP) : Array Value → State → Outcome → State → Prop := fun _ st oc t => oc = .returned rv ∧ wD O D z (V rh) t.heap ∧ va_F (aA z O) st t
/-- a method's contract at its arguments and its picture: it comes back with rv and the picture rh -/
def Cn (V : HP → HP) (y : MethodName) (ws : List Cond) (fr lo : Nat) (av : Nat → List Value) (h : HP) (rv : Nat → Option Value) (rh : HP) : Prop :=
  (gN (V h) ≤ gN (V rh) ∧ gS (V h) ≤ gS (V rh)) ∧ ∀ (l : Launch) (D : va_G) (z : Nat) (O : Nat → Prop), l.flags = flags0 → Met l y ws { frames := fr, cells := gN (V rh) - gN (V h), slots := gS (V rh) - gS (V h), locals := lo } (Pcn V D z O (av z) h) (Qcn V D z O (rv z) rh) (gN (V rh) - gN (V h)) (gS (V rh) - gS (V h)) (aA z O)
theorem Pcn.blind {V : HP → HP} {D : va_G} {z : Nat} {O : Nat → Prop} {av : List Value} {h : HP} : FrameBlind (Pcn V D z O av h) := fun a U g mk q => ⟨q.1, q.2.1, jT.same (s := U) (U := U.calling g mk a) rfl q.2.2⟩
def okX {ρ : Type} (V : HP → HP) (X : CTX) (rr : ρ × HP) (cc : ByteArray) (own : String) (nL fr lo : Nat) : Prop :=
  ((xp X).tables.exec = Jvm.exec ∧ (xc X).code = cc ∧ (xc X).maxLocals = nL ∧ (xs X).vm.findClass own = some (xm X).cls ∧ (∀ w ∈ lw_all, w.before (xa X) (xs X) = true)) ∧ (jT (xD X) (aA (xz X) (xO X)) (xs X) (xs X).heap ∧ pV V ∧ (xh X).locks = false ∧ (xl X).flags = flags0) ∧
    ((xR X).frames = fr ∧ (xR X).locals = lo ∧ (xR X).cells = gN (V rr.2) - xn X ∧ (xR X).slots = gS (V rr.2) - xk X)
/-- the machine's goal behind a picture's tree -/
abbrev Wx (V : HP → HP) {ρ : Type} (X : CTX) (ev : (HP → HP) → CTX → ρ × HP → State → Prop) (rr : ρ × HP) (H : Heap) (locs : List Loc) (cells slots : Nat) (g : JFrame) : Prop :=
  W (xp X) (xl X) (xe X) (xR X) (xs X) (xm X) (xa X) (xb X) (xh X) (xc X) H locs cells slots (ev V X rr) g
def jG (V : HP → HP) {ρ : Type} (X : CTX) (ev : (HP → HP) → CTX → ρ × HP → State → Prop) (rr : ρ × HP) (t : Option (ρ × HP)) (pc : Nat) (ls : List (Nat × Value)) (st : List Value) (h : HP) : Prop :=
  t = some rr → (gN (V h) ≤ gN (V rr.2) ∧ gS (V h) ≤ gS (V rr.2)) ∧ (xn X ≤ gN (V h) ∧ xk X ≤ gS (V h) → ∀ (H : Heap) (locs : List Loc) (la : Array Slot), lv_has la (xc X).maxLocals ls → wD (xO X) (xD X) (xz X) (V h) H → va_S (aA (xz X) (xO X)) (xs X).heap H locs → Wx V X ev rr H locs (gN (V h) - xn X) (gS (V h) - xk X) (F0 (xm X) pc la st))
/-- how an answer looks on the machine's stack -/
def eI : Nat → Int32 → Option Value := fun _ r => some (.int r)
def eL : Nat → Int64 → Option Value := fun _ r => some (.long r)
def eV : Nat → Unit → Option Value := fun _ _ => none
def eR : Nat → Nat → Option Value := fun z r => some (.ref (z + r))
/-- the end of a body that returns -/
def evM {ρ : Type} (e1 : Nat → ρ → Option Value) (V : HP → HP) (X : CTX) (rr : ρ × HP) : State → Prop := MQ (xb X) (Qcn V (xD X) (xz X) (xO X) (e1 (xz X) rr.1) rr.2) (xa X) (xs X) (gN (V rr.2) - xn X) (gS (V rr.2) - xk X) (aA (xz X) (xO X))
abbrev evI := evM eI
abbrev evL := evM eL
abbrev evV := evM eV
abbrev evR := evM eR
section JG
variable {V : HP → HP} {ρ : Type} {X : CTX} {ev : (HP → HP) → CTX → ρ × HP → State → Prop} {rr : ρ × HP} {cc : ByteArray} {own : String} {nL fr lo : Nat} {t : Option (ρ × HP)} {pc : Nat} {ls : List (Nat × Value)} {st : List Value} {h : HP}
theorem j_none : jG V X ev rr none pc ls st h := fun e => by cases e
theorem j_step {pc' : Nat} {st' : List Value} (hw : ∀ (H : Heap) (locs : List Loc) (la : Array Slot) (cells slots : Nat) (Q : State → Prop), lv_has la (xc X).maxLocals ls → W (xp X) (xl X) (xe X) (xR X) (xs X) (xm X) (xa X) (xb X) (xh X) (xc X) H locs cells slots Q (F0 (xm X) pc' la st') → W (xp X) (xl X) (xe X) (xR X) (xs X) (xm X) (xa X) (xb X) (xh X) (xc X) H locs cells slots Q (F0 (xm X) pc la st))
    (k : jG V X ev rr t pc' ls st' h) : jG V X ev rr t pc ls st h := by
  intro e
  obtain ⟨h1, h2⟩ := k e
  exact ⟨h1, fun hn H locs la hl hW hS => hw _ _ _ _ _ _ hl (h2 hn H locs la hl hW hS)⟩
theorem j_grd {c : Prop} [Decidable c] {T : Option (ρ × HP)} (k : c → jG V X ev rr T pc ls st h) : jG V X ev rr (grd c T) pc ls st h := by
  intro e
  by_cases hc : c
  · exact k hc (by rw [← e]; exact (grd_pos hc).symm)
  · exact absurd e (by unfold grd; rw [if_neg hc]; exact fun q => by cases q)
theorem j_bnd {α : Type} {x : α} {T : α → Option (ρ × HP)} (k : ∀ v, v = x → jG V X ev rr (T v) pc ls st h) : jG V X ev rr (bnd x T) pc ls st h := k x rfl
theorem j_onr {x : Option Nat} {T : Nat → Option (ρ × HP)} (k : ∀ b, x = some b → jG V X ev rr (T b) pc ls st h) : jG V X ev rr (onr x T) pc ls st h := by
  cases x with
  | none => exact fun e => by cases e
  | some b => exact k b rfl
theorem j_jon {γ : Type} {J : γ} {T : γ → Option (ρ × HP)} (P : γ → Prop) (hJ : P J) (k : ∀ j, P j → jG V X ev rr (T j) pc ls st h) : jG V X ev rr (jon J T) pc ls st h := k J hJ
theorem j_ite {c : Prop} [Decidable c] {A B : Option (ρ × HP)} (ka : c → jG V X ev rr A pc ls st h) (kb : ¬ c → jG V X ev rr B pc ls st h) : jG V X ev rr (if c then A else B) pc ls st h := by
  by_cases hc : c
  · rw [if_pos hc]; exact ka hc
  · rw [if_neg hc]; exact kb hc
theorem j_iconst (hX : okX V X rr cc own nL fr lo) {n : Int} {v : Int32} (hv : Int32.ofInt n = v) (d : decode cc pc = .ok (.iconst n, 1)) (k : jG V X ev rr t (pc + 1) ls (.int v :: st) h) : jG V X ev rr t pc ls st h := j_step (fun _ _ _ _ _ _ _ w => lv_iconst hX.1.1 hX.1.2.1 d hv w) k
theorem j_bipush (hX : okX V X rr cc own nL fr lo) {n : Int} {v : Int32} (hv : (Int8.ofInt n).toInt32 = v) (d : decode cc pc = .ok (.bipush n, 2)) (k : jG V X ev rr t (pc + 2) ls (.int v :: st) h) : jG V X ev rr t pc ls st h := j_step (fun _ _ _ _ _ _ _ w => lv_bipush hX.1.1 hX.1.2.1 d hv w) k
theorem j_sipush (hX : okX V X rr cc own nL fr lo) {n : Int} {v : Int32} (hv : (Int16.ofInt n).toInt32 = v) (d : decode cc pc = .ok (.sipush n, 3)) (k : jG V X ev rr t (pc + 3) ls (.int v :: st) h) : jG V X ev rr t pc ls st h := j_step (fun _ _ _ _ _ _ _ w => lv_sipush hX.1.1 hX.1.2.1 d hv w) k
theorem j_lconst (hX : okX V X rr cc own nL fr lo) {n : Fin 2} {v : Int64} (hv : Int64.ofNat (n : Nat) = v) (d : decode cc pc = .ok (.lconst n, 1)) (k : jG V X ev rr t (pc + 1) ls (.long v :: st) h) : jG V X ev rr t pc ls st h := j_step (fun _ _ _ _ _ _ _ w => lv_lconst hX.1.1 hX.1.2.1 d hv w) k
theorem j_ldc (hX : okX V X rr cc own nL fr lo) {i : Nat} {v : Int32} (q : Jvm.Cond.constant own i v ∈ lw_all) (d : decode cc pc = .ok (.ldc i, 2)) (k : jG V X ev rr t (pc + 2) ls (.int v :: st) h) : jG V X ev rr t pc ls st h := j_step (fun _ _ _ _ _ _ _ w => lv_ldc hX.1.1 hX.1.2.1 hX.1.2.2.2.1 (hX.1.2.2.2.2 _ q) d w) k
theorem j_ldcw (hX : okX V X rr cc own nL fr lo) {i : Nat} {v : Int32} (q : Jvm.Cond.constant own i v ∈ lw_all) (d : decode cc pc = .ok (.ldc_w i, 3)) (k : jG V X ev rr t (pc + 3) ls (.int v :: st) h) : jG V X ev rr t pc ls st h := j_step (fun _ _ _ _ _ _ _ w => lv_ldcw hX.1.1 hX.1.2.1 hX.1.2.2.2.1 (hX.1.2.2.2.2 _ q) d w) k
theorem j_ldc2 (hX : okX V X rr cc own nL fr lo) {i : Nat} {v : Int64} (q : Jvm.Cond.constantLong own i v ∈ lw_all) (d : decode cc pc = .ok (.ldc2_w i, 3)) (k : jG V X ev rr t (pc + 3) ls (.long v :: st) h) : jG V X ev rr t pc ls st h := j_step (fun _ _ _ _ _ _ _ w => lv_ldc2 hX.1.1 hX.1.2.1 hX.1.2.2.2.1 (hX.1.2.2.2.2 _ q) d w) k
theorem j_iload_n (hX : okX V X rr cc own nL fr lo) {i : Fin 4} {x : Int32} (p : Nat) (hl : ls[p]? = some ((i : Nat), .int x)) (d : decode cc pc = .ok (.iload_n i, 1)) (k : jG V X ev rr t (pc + 1) ls (.int x :: st) h) : jG V X ev rr t pc ls st h := j_step (fun _ _ _ _ _ _ q w => lv_iload_n hX.1.1 hX.1.2.1 d rfl (lv_at q p hl) w) k
theorem j_iload (hX : okX V X rr cc own nL fr lo) {i : Nat} {x : Int32} (p : Nat) (hl : ls[p]? = some (i, .int x)) (d : decode cc pc = .ok (.iload i, 2)) (k : jG V X ev rr t (pc + 2) ls (.int x :: st) h) : jG V X ev rr t pc ls st h := j_step (fun _ _ _ _ _ _ q w => lv_iload hX.1.1 hX.1.2.1 d (lv_at q p hl) w) k
theorem j_lload_n (hX : okX V X rr cc own nL fr lo) {i : Fin 4} {x : Int64} (p : Nat) (hl : ls[p]? = some ((i : Nat), .long x)) (d : decode cc pc = .ok (.lload_n i, 1)) (k : jG V X ev rr t (pc + 1) ls (.long x :: st) h) : jG V X ev rr t pc ls st h := j_step (fun _ _ _ _ _ _ q w => lv_lload_n hX.1.1 hX.1.2.1 d rfl (lv_at q p hl) w) k
theorem j_lload (hX : okX V X rr cc own nL fr lo) {i : Nat} {x : Int64} (p : Nat) (hl : ls[p]? = some (i, .long x)) (d : decode cc pc = .ok (.lload i, 2)) (k : jG V X ev rr t (pc + 2) ls (.long x :: st) h) : jG V X ev rr t pc ls st h := j_step (fun _ _ _ _ _ _ q w => lv_lload hX.1.1 hX.1.2.1 d (lv_at q p hl) w) k
theorem j_aload_n (hX : okX V X rr cc own nL fr lo) {i : Fin 4} {x : Nat} (p : Nat) (hl : ls[p]? = some ((i : Nat), .ref x)) (d : decode cc pc = .ok (.aload_n i, 1)) (k : jG V X ev rr t (pc + 1) ls (.ref x :: st) h) : jG V X ev rr t pc ls st h := j_step (fun _ _ _ _ _ _ q w => lv_aload_n hX.1.1 hX.1.2.1 d rfl (lv_at q p hl) w) k
theorem j_aload (hX : okX V X rr cc own nL fr lo) {i : Nat} {x : Nat} (p : Nat) (hl : ls[p]? = some (i, .ref x)) (d : decode cc pc = .ok (.aload i, 2)) (k : jG V X ev rr t (pc + 2) ls (.ref x :: st) h) : jG V X ev rr t pc ls st h := j_step (fun _ _ _ _ _ _ q w => lv_aload hX.1.1 hX.1.2.1 d (lv_at q p hl) w) k
theorem j_iadd (hX : okX V X rr cc own nL fr lo) {x y : Int32} (d : decode cc pc = .ok (.iadd, 1)) (k : jG V X ev rr t (pc + 1) ls (.int (x + y) :: st) h) : jG V X ev rr t pc ls (.int y :: .int x :: st) h := j_step (fun _ _ _ _ _ _ _ w => lv_iadd hX.1.1 hX.1.2.1 d w) k
theorem j_isub (hX : okX V X rr cc own nL fr lo) {x y : Int32} (d : decode cc pc = .ok (.isub, 1)) (k : jG V X ev rr t (pc + 1) ls (.int (x - y) :: st) h) : jG V X ev rr t pc ls (.int y :: .int x :: st) h := j_step (fun _ _ _ _ _ _ _ w => lv_isub hX.1.1 hX.1.2.1 d w) k
theorem j_imul (hX : okX V X rr cc own nL fr lo) {x y : Int32} (d : decode cc pc = .ok (.imul, 1)) (k : jG V X ev rr t (pc + 1) ls (.int (x * y) :: st) h) : jG V X ev rr t pc ls (.int y :: .int x :: st) h := j_step (fun _ _ _ _ _ _ _ w => lv_imul hX.1.1 hX.1.2.1 d w) k
theorem j_iand (hX : okX V X rr cc own nL fr lo) {x y : Int32} (d : decode cc pc = .ok (.iand, 1)) (k : jG V X ev rr t (pc + 1) ls (.int (x &&& y) :: st) h) : jG V X ev rr t pc ls (.int y :: .int x :: st) h := j_step (fun _ _ _ _ _ _ _ w => lv_iand hX.1.1 hX.1.2.1 d w) k
theorem j_ior (hX : okX V X rr cc own nL fr lo) {x y : Int32} (d : decode cc pc = .ok (.ior, 1)) (k : jG V X ev rr t (pc + 1) ls (.int (x ||| y) :: st) h) : jG V X ev rr t pc ls (.int y :: .int x :: st) h := j_step (fun _ _ _ _ _ _ _ w => lv_ior hX.1.1 hX.1.2.1 d w) k
theorem j_ixor (hX : okX V X rr cc own nL fr lo) {x y : Int32} (d : decode cc pc = .ok (.ixor, 1)) (k : jG V X ev rr t (pc + 1) ls (.int (x ^^^ y) :: st) h) : jG V X ev rr t pc ls (.int y :: .int x :: st) h := j_step (fun _ _ _ _ _ _ _ w => lv_ixor hX.1.1 hX.1.2.1 d w) k
theorem j_idiv (hX : okX V X rr cc own nL fr lo) {x y : Int32} (d : decode cc pc = .ok (.idiv, 1)) (k : ¬ y = 0 → jG V X ev rr t (pc + 1) ls (.int (x / y) :: st) h) : jG V X ev rr (grd (¬ y = 0) t) pc ls (.int y :: .int x :: st) h := j_grd fun q => j_step (fun _ _ _ _ _ _ _ w => lv_idiv hX.1.1 hX.1.2.1 d q w) (k q)
theorem j_irem (hX : okX V X rr cc own nL fr lo) {x y : Int32} (d : decode cc pc = .ok (.irem, 1)) (k : ¬ y = 0 → jG V X ev rr t (pc + 1) ls (.int (x - x / y * y) :: st) h) : jG V X ev rr (grd (¬ y = 0) t) pc ls (.int y :: .int x :: st) h := j_grd fun q => j_step (fun _ _ _ _ _ _ _ w => lv_irem hX.1.1 hX.1.2.1 d q w) (k q)
theorem j_ineg (hX : okX V X rr cc own nL fr lo) {x : Int32} (d : decode cc pc = .ok (.ineg, 1)) (k : jG V X ev rr t (pc + 1) ls (.int (-x) :: st) h) : jG V X ev rr t pc ls (.int x :: st) h := j_step (fun _ _ _ _ _ _ _ w => lv_ineg hX.1.1 hX.1.2.1 d w) k
theorem j_ishl (hX : okX V X rr cc own nL fr lo) {x y : Int32} (d : decode cc pc = .ok (.ishl, 1)) (k : jG V X ev rr t (pc + 1) ls (.int (x <<< (y &&& 31)) :: st) h) : jG V X ev rr t pc ls (.int y :: .int x :: st) h := j_step (fun _ _ _ _ _ _ _ w => lv_ishl hX.1.1 hX.1.2.1 d w) k
theorem j_ishr (hX : okX V X rr cc own nL fr lo) {x y : Int32} (d : decode cc pc = .ok (.ishr, 1)) (k : jG V X ev rr t (pc + 1) ls (.int (x >>> (y &&& 31)) :: st) h) : jG V X ev rr t pc ls (.int y :: .int x :: st) h := j_step (fun _ _ _ _ _ _ _ w => lv_ishr hX.1.1 hX.1.2.1 d w) k
theorem j_ladd (hX : okX V X rr cc own nL fr lo) {x y : Int64} (d : decode cc pc = .ok (.ladd, 1)) (k : jG V X ev rr t (pc + 1) ls (.long (x + y) :: st) h) : jG V X ev rr t pc ls (.long y :: .long x :: st) h := j_step (fun _ _ _ _ _ _ _ w => lv_ladd hX.1.1 hX.1.2.1 d w) k
theorem j_lsub (hX : okX V X rr cc own nL fr lo) {x y : Int64} (d : decode cc pc = .ok (.lsub, 1)) (k : jG V X ev rr t (pc + 1) ls (.long (x - y) :: st) h) : jG V X ev rr t pc ls (.long y :: .long x :: st) h := j_step (fun _ _ _ _ _ _ _ w => lv_lsub hX.1.1 hX.1.2.1 d w) k
theorem j_lmul (hX : okX V X rr cc own nL fr lo) {x y : Int64} (d : decode cc pc = .ok (.lmul, 1)) (k : jG V X ev rr t (pc + 1) ls (.long (x * y) :: st) h) : jG V X ev rr t pc ls (.long y :: .long x :: st) h := j_step (fun _ _ _ _ _ _ _ w => lv_lmul hX.1.1 hX.1.2.1 d w) k
theorem j_land (hX : okX V X rr cc own nL fr lo) {x y : Int64} (d : decode cc pc = .ok (.land, 1)) (k : jG V X ev rr t (pc + 1) ls (.long (x &&& y) :: st) h) : jG V X ev rr t pc ls (.long y :: .long x :: st) h := j_step (fun _ _ _ _ _ _ _ w => lv_land hX.1.1 hX.1.2.1 d w) k
theorem j_ldiv (hX : okX V X rr cc own nL fr lo) {x y : Int64} (d : decode cc pc = .ok (.ldiv, 1)) (k : ¬ y = 0 → jG V X ev rr t (pc + 1) ls (.long (x / y) :: st) h) : jG V X ev rr (grd (¬ y = 0) t) pc ls (.long y :: .long x :: st) h := j_grd fun q => j_step (fun _ _ _ _ _ _ _ w => lv_ldiv hX.1.1 hX.1.2.1 d q w) (k q)
theorem j_lrem (hX : okX V X rr cc own nL fr lo) {x y : Int64} (d : decode cc pc = .ok (.lrem, 1)) (k : ¬ y = 0 → jG V X ev rr t (pc + 1) ls (.long (x - x / y * y) :: st) h) : jG V X ev rr (grd (¬ y = 0) t) pc ls (.long y :: .long x :: st) h := j_grd fun q => j_step (fun _ _ _ _ _ _ _ w => lv_lrem hX.1.1 hX.1.2.1 d q w) (k q)
theorem j_lneg (hX : okX V X rr cc own nL fr lo) {x : Int64} (d : decode cc pc = .ok (.lneg, 1)) (k : jG V X ev rr t (pc + 1) ls (.long (-x) :: st) h) : jG V X ev rr t pc ls (.long x :: st) h := j_step (fun _ _ _ _ _ _ _ w => lv_lneg hX.1.1 hX.1.2.1 d w) k
theorem j_i2l (hX : okX V X rr cc own nL fr lo) {x : Int32} (d : decode cc pc = .ok (.i2l, 1)) (k : jG V X ev rr t (pc + 1) ls (.long x.toInt64 :: st) h) : jG V X ev rr t pc ls (.int x :: st) h := j_step (fun _ _ _ _ _ _ _ w => lv_i2l hX.1.1 hX.1.2.1 d rfl w) k
theorem j_l2i (hX : okX V X rr cc own nL fr lo) {x : Int64} (d : decode cc pc = .ok (.l2i, 1)) (k : jG V X ev rr t (pc + 1) ls (.int x.toInt32 :: st) h) : jG V X ev rr t pc ls (.long x :: st) h := j_step (fun _ _ _ _ _ _ _ w => lv_l2i hX.1.1 hX.1.2.1 d rfl w) k
theorem j_lcmp (hX : okX V X rr cc own nL fr lo) {x y : Int64} (d : decode cc pc = .ok (.lcmp, 1)) (k : jG V X ev rr t (pc + 1) ls (.int (lg_cmp x y) :: st) h) : jG V X ev rr t pc ls (.long y :: .long x :: st) h := j_step (fun _ _ _ _ _ _ _ w => W.lcmp hX.1.1 hX.1.2.1 d w) k
theorem j_dup (hX : okX V X rr cc own nL fr lo) {v : Value} (hv : v.category = 1) (d : decode cc pc = .ok (.dup, 1)) (k : jG V X ev rr t (pc + 1) ls (v :: v :: st) h) : jG V X ev rr t pc ls (v :: st) h := j_step (fun _ _ _ _ _ _ _ w => lv_dup hX.1.1 hX.1.2.1 d hv w) k
theorem j_pop (hX : okX V X rr cc own nL fr lo) {v : Value} (hv : v.category = 1) (d : decode cc pc = .ok (.pop, 1)) (k : jG V X ev rr t (pc + 1) ls st h) : jG V X ev rr t pc ls (v :: st) h := j_step (fun _ _ _ _ _ _ _ w => lv_pop hX.1.1 hX.1.2.1 d hv w) k
theorem j_dup_x1 (hX : okX V X rr cc own nL fr lo) {v u : Value} (hv : v.category = 1) (hu : u.category = 1) (d : decode cc pc = .ok (.dup_x1, 1)) (k : jG V X ev rr t (pc + 1) ls (v :: u :: v :: st) h) : jG V X ev rr t pc ls (v :: u :: st) h := j_step (fun _ _ _ _ _ _ _ w => lv_dup_x1 hX.1.1 hX.1.2.1 d hv hu w) k
theorem j_dup2 (hX : okX V X rr cc own nL fr lo) {v u : Value} (hv : v.category = 1) (hu : u.category = 1) (d : decode cc pc = .ok (.dup2, 1)) (k : jG V X ev rr t (pc + 1) ls (v :: u :: v :: u :: st) h) : jG V X ev rr t pc ls (v :: u :: st) h := j_step (fun _ _ _ _ _ _ _ w => lv_dup2_11 hX.1.1 hX.1.2.1 d hv hu w) k
theorem j_goto (hX : okX V X rr cc own nL fr lo) {off : Int} {tgt : Nat} (ht : (pc : Int) + off = (tgt : Int)) (d : decode cc pc = .ok (.goto off, 3)) (k : jG V X ev rr t tgt ls st h) : jG V X ev rr t pc ls st h := j_step (fun _ _ _ _ _ _ _ w => lv_goto hX.1.1 hX.1.2.1 d ht w) k
end JG
