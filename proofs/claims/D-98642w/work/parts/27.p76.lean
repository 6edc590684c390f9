set_option maxRecDepth 100000
/-! PURE LEVEL 76: signs that wait: the stacks, bind -/
def rk (k : Nat) : Nat := if 13 ≤ k then 6 else if 11 ≤ k then 5 else if 5 ≤ k then 4 else if k = 2 then 3 else if k = 3 then 2 else if k = 4 then 1 else 0
def red : List Nat → List LF → Option LF
  | [], Q => match Q with
    | [f] => some f
    | _ => none
  | k :: P, Q => match Q with
    | [] => none
    | f :: Q1 => if k = 2 then red P (zNot f :: Q1) else match Q1 with
      | [] => none
      | e :: Q2 => red P (zTwo (mkc (nn k)) e f :: Q2)
theorem red_app : ∀ (P : List Nat) (Q : List LF) (g : LF) (P' : List Nat) (Q' : List LF), red P Q = some g → red (P ++ P') (Q ++ Q') = red P' (g :: Q')
  | [], Q, g, P', Q', e => by
    match Q, e with
    | [f], e => cases e; rfl
  | k :: P, Q, g, P', Q', e => by
    match Q, e with
    | f :: Q1, e =>
      simp only [List.cons_append, red] at e ⊢
      by_cases z : k = 2
      · simp only [if_pos z] at e ⊢
        exact red_app P (zNot f :: Q1) g P' Q' e
      · simp only [if_neg z] at e ⊢
        match Q1, e with
        | e1 :: Q2, e => exact red_app P (zTwo (mkc (nn k)) e1 f :: Q2) g P' Q' e
def WSt (J : Nat → Nat → Int32) : List Nat → Prop
  | [] => True
  | k :: W => (J 25 W.length = nn k ∧ k ≤ 14) ∧ WSt J W
def kj (J : Nat → Nat → Int32) (t i : Nat) : Int32 := J t (64 + i)
def HSt (J : Nat → Nat → Int32) (s0 : Nat) : List (Nat × LF) → Nat → Prop
  | [], e => e = s0
  | q :: H, e => e = q.1 + 1 ∧ J 26 H.length = nn q.1 ∧ ∃ s d, SDn (kj J 22) (kj J 23) (kj J 24) d s q.1 q.2 ∧ HSt J s0 H s
def nz : List Nat → Nat
  | [] => 0
  | k :: W => (if k = 0 then 0 else 1) + nz W
def zc : List Nat → Nat
  | [] => 0
  | k :: W => (if k = 0 then 1 else 0) + zc W
theorem nz_zc : ∀ W : List Nat, W.length = nz W + zc W
  | [] => rfl
  | k :: W => by
    have := nz_zc W
    simp only [nz, zc, List.length_cons]
    split <;> omega
theorem nz_app : ∀ (P W : List Nat), nz (P ++ W) = nz P + nz W
  | [], W => by simp only [List.nil_append, nz]; omega
  | k :: P, W => by simp only [List.cons_append, nz, nz_app P W]; omega
theorem zc_app : ∀ (P W : List Nat), zc (P ++ W) = zc P + zc W
  | [], W => by simp only [List.nil_append, zc]; omega
  | k :: P, W => by simp only [List.cons_append, zc, zc_app P W]; omega
theorem rk_pos {k : Nat} (h : 1 ≤ rk k) : k ≠ 0 := fun e => by subst e; revert h; decide
theorem nz_rk : ∀ (P : List Nat), (∀ k, k ∈ P → 1 ≤ rk k) → nz P = P.length ∧ zc P = 0
  | [], _ => ⟨rfl, rfl⟩
  | k :: P, h => by
    have := nz_rk P (fun j hj => h j (List.mem_cons_of_mem _ hj))
    have k0 := rk_pos (h k (List.mem_cons_self ..))
    refine ⟨?_, ?_⟩
    · simp only [nz, List.length_cons, if_neg k0, this.1]; omega
    · simp only [zc, if_neg k0, this.2]
theorem SDn.cg {kn pt ot kn' pt' ot' : Nat → Int32} {m : Nat} (c : ∀ i, i < m → kn' i = kn i ∧ pt' i = pt i ∧ ot' i = ot i) : ∀ (d s e : Nat) (f : LF), e < m → SDn kn pt ot d s e f → SDn kn' pt' ot' d s e f
  | 0, _, _, _, _, q => q.elim
  | d + 1, s, e, f, he, q => by
    obtain ⟨c1, c2, c3⟩ := c e he
    rcases q with ⟨q, q2, q3⟩ | ⟨q, q2, q3, q4⟩ | ⟨e1, fa, q1, q2, q3, q4, q5⟩ | ⟨k, e1, e2, fa, fb, q1, q2, q3, q4, q5, q6, q7, q8⟩
    · exact Or.inl ⟨q, by rw [c1]; exact q2, by rw [c2]; exact q3⟩
    · exact Or.inr (Or.inl ⟨q, by rw [c1]; exact q2, by rw [c2]; exact q3, by rw [c2]; exact q4⟩)
    · exact Or.inr (Or.inr (Or.inl ⟨e1, fa, q1, by rw [c1]; exact q2, by rw [c2]; exact q3, SDn.cg c d s e1 fa (by omega) q4, q5⟩))
    · have := SDn.le1 _ _ _ _ q7
      exact Or.inr (Or.inr (Or.inr ⟨k, e1, e2, fa, fb, q1, q2, by rw [c1]; exact q3, by rw [c2]; exact q4, by rw [c3]; exact q5, SDn.cg c d s e1 fa (by omega) q6, SDn.cg c d (e1 + 1) e2 fb (by omega) q7, q8⟩))
theorem SDn.up {kn pt ot : Nat → Int32} : ∀ (d s e : Nat) (f : LF), SDn kn pt ot d s e f → SDn kn pt ot (d + 1) s e f
  | 0, _, _, _, q => q.elim
  | d + 1, s, e, f, q => by
    rcases q with q | q | ⟨e1, fa, q1, q2, q3, q4, q5⟩ | ⟨k, e1, e2, fa, fb, q1, q2, q3, q4, q5, q6, q7, q8⟩
    · exact Or.inl q
    · exact Or.inr (Or.inl q)
    · exact Or.inr (Or.inr (Or.inl ⟨e1, fa, q1, q2, q3, SDn.up d s e1 fa q4, q5⟩))
    · exact Or.inr (Or.inr (Or.inr ⟨k, e1, e2, fa, fb, q1, q2, q3, q4, q5, SDn.up d s e1 fa q6, SDn.up d _ e2 fb q7, q8⟩))
theorem SDn.le {kn pt ot : Nat → Int32} {s e : Nat} {f : LF} {d d' : Nat} (h : d ≤ d') (q : SDn kn pt ot d s e f) : SDn kn pt ot d' s e f := by
  obtain ⟨k, rfl⟩ := Nat.exists_eq_add_of_le h
  clear h
  induction k with
  | zero => exact q
  | succ k ih => exact SDn.up _ _ _ _ ih
theorem WSt.cg {J J' : Nat → Nat → Int32} : ∀ (W : List Nat), (∀ i, i < W.length → J' 25 i = J 25 i) → WSt J W → WSt J' W
  | [], _, _ => trivial
  | k :: W, c, q => ⟨⟨by rw [c W.length (by simp)]; exact q.1.1, q.1.2⟩, WSt.cg W (fun i hi => c i (by simp; omega)) q.2⟩
theorem HSt.le {J : Nat → Nat → Int32} {s0 : Nat} : ∀ (H : List (Nat × LF)) (e : Nat), HSt J s0 H e → s0 + H.length ≤ e
  | [], e, q => by show s0 + 0 ≤ e; have : e = s0 := q; omega
  | q :: H, e, ⟨q1, _, s, d, q3, q4⟩ => by
    have a := HSt.le H s q4
    have b := SDn.le1 _ _ _ _ q3
    show s0 + (H.length + 1) ≤ e
    omega
theorem HSt.cg {J J' : Nat → Nat → Int32} {s0 : Nat} : ∀ (H : List (Nat × LF)) (e m : Nat), e ≤ m → (∀ i, i < H.length → J' 26 i = J 26 i) → (∀ k, k < 64 + m → J' 22 k = J 22 k ∧ J' 23 k = J 23 k ∧ J' 24 k = J 24 k) → HSt J s0 H e → HSt J' s0 H e
  | [], _, _, _, _, _, q => q
  | q :: H, e, m, hm, c, c2, ⟨q1, q2, s, d, q3, q4⟩ => by
    have b := SDn.le1 _ _ _ _ q3
    exact ⟨q1, by rw [c H.length (by simp)]; exact q2, s, d, SDn.cg (m := m) (fun i hi => c2 (64 + i) (by omega)) d s q.1 q.2 (by omega) q3, HSt.cg H s m (by omega) (fun i hi => c i (by simp; omega)) c2 q4⟩
section P26
variable {g : HP} {J : Nat → Nat → Int32} {M : Nat → Nat → Int64}
theorem em_rk {k : Nat} (hk : k ≤ 14) (H : HP) : m_rank (nn k) H = some (nn (rk k), H) := by
  rcases (show k = 0 ∨ k = 1 ∨ k = 2 ∨ k = 3 ∨ k = 4 ∨ k = 5 ∨ k = 6 ∨ k = 7 ∨ k = 8 ∨ k = 9 ∨ k = 10 ∨ k = 11 ∨ k = 12 ∨ k = 13 ∨ k = 14 by omega) with rfl | rfl | rfl | rfl | rfl | rfl | rfl | rfl | rfl | rfl | rfl | rfl | rfl | rfl | rfl <;> rfl
theorem rk_6 (k : Nat) : rk k ≤ 6 := by
  unfold rk
  split
  · omega
  · split
    · omega
    · split
      · omega
      · split
        · omega
        · split
          · omega
          · split <;> omega
def grJ (J : Nat → Nat → Int32) (kr hl : Nat) (a b c : Int32) : Nat → Nat → Int32 := u2 (u2 (u2 (u2 (u2 (u2 J 22 (64 + kr) a) 23 (64 + kr) b) 24 (64 + kr) c) 26 hl (nn kr)) 0 47 (nn (hl + 1))) 0 21 (nn (kr + 1))
theorem em_grown {kr hl : Nat} (hk : kr < 64) (hh : hl < 96) (e1 : J 0 21 = nn kr) (e2 : J 0 47 = nn hl) (a b c : Int32) : m_grown a b c (hw g J M) = some ((), hw g (grJ J kr hl a b c) M) := by
  have e64 : (64 : Int32) + nn kr = nn (64 + kr) := nn_add 64 kr
  simp only [m_grown, bnd_e, cal_s, onr_s, jon_e, gI_hw, gL_hw, gT_hw, gR_hw, gN_hw, sI_hw, sL_hw, cV_hw, shS_hw, shC_hw, shL_hw, ← bt_def, u2_ne (show 0 ≠ 22 by decide), u2_ne (show 0 ≠ 23 by decide), u2_ne (show 0 ≠ 24 by decide), u2_ne (show 0 ≠ 26 by decide), e1, e2, e64, grd_pos (show inb (nn (64 + kr)) 128 from nn_inb (by omega) (by omega)), grd_pos (show inb (nn hl) 96 from nn_inb (by omega) (by omega)), nn_clamp (show 64 + kr < 2147483648 by omega), nn_clamp (show hl < 2147483648 by omega), nn_succ, u2n (show 21 ≠ 47 by decide)]
  rfl
theorem em_drop {hl : Nat} (hh : hl < 96) (e2 : J 0 47 = nn (hl + 1)) : m_dropHeld (hw g J M) = some (J 26 hl, hw g (u2 J 0 47 (nn hl)) M) := by
  have e : nn (hl + 1) - 1 = nn hl := nn_sub (a := hl + 1) (b := 1) (by omega)
  simp only [m_dropHeld, bnd_e, cal_s, onr_s, jon_e, gI_hw, gL_hw, gT_hw, gR_hw, gN_hw, sI_hw, sL_hw, cV_hw, shS_hw, shC_hw, shL_hw, ← bt_def, e2, e, u2_same, grd_pos (show inb (nn hl) 96 from nn_inb (by omega) (by omega)), nn_clamp (show hl < 2147483648 by omega), u2_ne (show 26 ≠ 0 by decide)]
/-- what bind leaves as it is -/
def MB (kr : Nat) (J J' : Nat → Nat → Int32) : Prop := (∀ x, x ≠ 0 → x ≠ 22 → x ≠ 23 → x ≠ 24 → x ≠ 26 → J' x = J x) ∧ (∀ k, k < 64 + kr → J' 22 k = J 22 k ∧ J' 23 k = J 23 k ∧ J' 24 k = J 24 k) ∧ ∀ k, k ≠ 21 → k ≠ 46 → k ≠ 47 → J' 0 k = J 0 k
theorem MB.tr {kr kr' : Nat} {J1 J2 : Nat → Nat → Int32} (h : kr ≤ kr') (a : MB kr J J1) (b : MB kr' J1 J2) : MB kr J J2 :=
  ⟨fun x h0 h1 h2 h3 h4 => (b.1 x h0 h1 h2 h3 h4).trans (a.1 x h0 h1 h2 h3 h4), fun k hk => ⟨(b.2.1 k (by omega)).1.trans (a.2.1 k hk).1, (b.2.1 k (by omega)).2.1.trans (a.2.1 k hk).2.1, (b.2.1 k (by omega)).2.2.trans (a.2.1 k hk).2.2⟩, fun k h0 h1 h2 => (b.2.2 k h0 h1 h2).trans (a.2.2 k h0 h1 h2)⟩
theorem MB.gr {kr hl : Nat} {a b c : Int32} : MB kr J (grJ J kr hl a b c) := by
  refine ⟨fun x h0 h1 h2 h3 h4 => ?_, fun k hk => ⟨?_, ?_, ?_⟩, fun k h0 h1 h2 => ?_⟩
  · unfold grJ; rw [u2_ne h0, u2_ne h0, u2_ne h4, u2_ne h3, u2_ne h2, u2_ne h1]
  · unfold grJ; rw [u2_ne (by decide), u2_ne (by decide), u2_ne (by decide), u2_ne (by decide), u2_ne (by decide), u2_nk _ _ (by omega)]
  · unfold grJ; rw [u2_ne (by decide), u2_ne (by decide), u2_ne (by decide), u2_ne (by decide), u2_nk _ _ (by omega), u2_ne (by decide)]
  · unfold grJ; rw [u2_ne (by decide), u2_ne (by decide), u2_ne (by decide), u2_nk _ _ (by omega), u2_ne (by decide), u2_ne (by decide)]
  · unfold grJ; rw [u2_nk _ _ h0, u2_nk _ _ h2, u2_ne (by decide), u2_ne (by decide), u2_ne (by decide), u2_ne (by decide)]
theorem MB.u0 {kr k : Nat} {v : Int32} (hk : k = 46 ∨ k = 47 ∨ k = 21) : MB kr J (u2 J 0 k v) := ⟨fun x h0 _ _ _ _ => u2_ne h0, fun k _ => ⟨by rw [u2_ne (by decide)], by rw [u2_ne (by decide)], by rw [u2_ne (by decide)]⟩, fun j h0 h1 h2 => u2_nk _ _ (by omega)⟩
/-- the stacks of the model -/
def Stk (J : Nat → Nat → Int32) (W : List Nat) (H : List (Nat × LF)) (s0 kr : Nat) : Prop := (J 0 46 = nn W.length ∧ WSt J W) ∧ J 0 47 = nn H.length ∧ HSt J s0 H kr ∧ J 0 21 = nn kr
theorem gr_SD {kr hl s e : Nat} {a b c : Int32} {d : Nat} {f : LF} (h : e < kr) (q : SDn (kj J 22) (kj J 23) (kj J 24) d s e f) : SDn (kj (grJ J kr hl a b c) 22) (kj (grJ J kr hl a b c) 23) (kj (grJ J kr hl a b c) 24) d s e f :=
  SDn.cg (m := kr) (fun i hi => (MB.gr (J := J)).2.1 (64 + i) (by omega)) d s e f h q
theorem grJ_v {kr hl : Nat} {a b c : Int32} : kj (grJ J kr hl a b c) 22 kr = a ∧ kj (grJ J kr hl a b c) 23 kr = b ∧ kj (grJ J kr hl a b c) 24 kr = c ∧ grJ J kr hl a b c 26 hl = nn kr ∧ grJ J kr hl a b c 0 47 = nn (hl + 1) ∧ grJ J kr hl a b c 0 21 = nn (kr + 1) := by
  refine ⟨?_, ?_, ?_, ?_, ?_, ?_⟩ <;> (first | unfold kj grJ | unfold grJ)
  · rw [u2_ne (by decide), u2_ne (by decide), u2_ne (by decide), u2_ne (by decide), u2_ne (by decide), u2_same]
  · rw [u2_ne (by decide), u2_ne (by decide), u2_ne (by decide), u2_ne (by decide), u2_same]
  · rw [u2_ne (by decide), u2_ne (by decide), u2_ne (by decide), u2_same]
  · rw [u2_ne (by decide), u2_ne (by decide), u2_same]
  · rw [u2_nk _ _ (by decide), u2_same]
  · rw [u2_same]
theorem HSt.gr {kr hl s0 e : Nat} {a b c : Int32} {H : List (Nat × LF)} (he : e ≤ kr) (hh : H.length ≤ hl) (q : HSt J s0 H e) : HSt (grJ J kr hl a b c) s0 H e := by
  refine HSt.cg H e kr he (fun i hi => ?_) (MB.gr (J := J)).2.1 q
  unfold grJ; rw [u2_ne (by decide), u2_ne (by decide), u2_nk _ _ (by omega), u2_ne (by decide), u2_ne (by decide), u2_ne (by decide)]
end P26
