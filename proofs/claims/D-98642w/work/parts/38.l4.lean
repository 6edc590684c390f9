/-! the law's case 4: person -/
set_option maxRecDepth 100000
section L4
variable {p : Program} {l : Launch} {e : Env} {s : State} {m : MethodId} {below : List Frame} {meth : Method} {c : Code} {b L : Nat} {xs : Nat → Int32} {D : va_G} {x4 : Int32} {K i : Nat} {h g : HP} {I J : Nat → Nat → Int32} {L0 M : Nat → Nat → Int64} {v : Int64} {H : Heap} {locs : List Loc} {la : Array Slot}
theorem PX.ex {tc : Option ((Int32 ⊕ Nat × Nat) × HP)} {tm : Option (Int32 × HP)} (q : PX h g tc tm) : ∃ x rm h' I' L' J' M', tc = some (x, hw h' I' L') ∧ tm = some (rm, hw g J' M') ∧ J' 0 2 = kq x ∧ (∀ r, x = .inl r → rm = r) ∧ (∀ c a, x = .inr (c, a) → c = 3 ∨ c = 4) ∧ Inv h' I' J' M' ∧ gN h' ≤ gN h + 800 ∧ gS h' ≤ gS h + 9000 := by
  obtain ⟨h', I', L', J', M', inv, b1, b2, ⟨r, e1, e2, e3⟩ | ⟨e1, e2, e3⟩ | ⟨e1, e2, e3⟩⟩ := q
  · exact ⟨_, _, h', I', L', J', M', e1, e2, e3, fun r' hr => (by cases hr; rfl), fun c a hr => (by cases hr), inv, by omega, by omega⟩
  · exact ⟨_, _, h', I', L', J', M', e1, e2, e3, fun r' hr => (by cases hr), fun c a hr => (by cases hr; exact Or.inl rfl), inv, by omega, by omega⟩
  · exact ⟨_, _, h', I', L', J', M', e1, e2, e3, fun r' hr => (by cases hr), fun c a hr => (by cases hr; exact Or.inr rfl), inv, by omega, by omega⟩
theorem frq_A {q : Nat} (h : frq s.heap.size q) : A0 s q := by
  rcases h with h | h
  · exact aA_1 h
  · rw [h]; exact Nat.le_add_right _ _
/-- the static call of person -/
theorem law_sp {hc hm : HP} {a1 a2 : Int32} {x : Int32 ⊕ Nat × Nat} {hc' : HP} (X : LX p l s m meth c b L xs D) (ec : cA_person a1 a2 hc = some (x, hc')) (hx34 : ∀ c a, x = .inr (c, a) → c = 3 ∨ c = 4) {k : Nat} (hla : la.size = 7) (hLS : LZ s D hc hm v H) (hS : va_S (A0 s) s.heap H locs) (g1 : gN (cV hc') ≤ 603072) (g2 : k + (gS (cV hc') - gS (cV hc)) ≤ 7190634)
    (kk : ∀ (H1 : Heap) (locs1 : List Loc), LZ s D hc' hm (vq v x) H1 → va_S (A0 s) s.heap H1 locs1 → LW p l e s m below meth c b H1 locs1 (gN (cV hc')) (k + (gS (cV hc') - gS (cV hc))) (F0 m 385 la [.int (kq x)])) : LW p l e s m below meth c b H locs (gN (cV hc)) k (F0 m 382 la [.ref (s.heap.size + 96), .int a2, .int a1, .ref s.heap.size]) := by
  obtain ⟨mono, -⟩ := cA_person_t a1 a2 hc _ ec
  have m1 : gN (cV hc) ≤ gN (cV hc') := mono.1
  obtain ⟨⟨hx, hb, hr', hml, hown, hts, hX, hbl, hlocks, hgv⟩, hfl, hT, hNc⟩ := X
  have hT1 : jT D (aA s.heap.size O1) s s.heap := hT.narrow (fun q h => aA_1 h)
  have hta : ∀ w ∈ lw_all, w.before #[Value.ref b] s = true := fun w h => hts w (lw_all_tbl h)
  have run0 := vx_runSX (p := p) (l := l) (e := e) (R := room_1) (s := s) (m := m) (args := #[Value.ref b]) (below := below) (meth := meth) (c := c) (H := H) (locs := locs) (cells := gN (cV hc)) (slots := k) (hh := hhP) (As := [.ref s.heap.size, .int a1, .int a2, .ref (s.heap.size + 96)]) (rest := []) (g := F0 m 382 la [.ref (s.heap.size + 96), .int a2, .int a1, .ref s.heap.size]) (Ts := lw_all) ⟨hx, hb, hml, hown, hta⟩ (law_person_t l hfl D s.heap.size a1 a2 hc v _ ec hx34) (vx_cwSW 4 hta (lw_SW q1499 q1500 q139 q1501) rfl rfl rfl (by decide +kernel) ⟨Nat.le_of_ble_eq_true rfl, Nat.le_of_ble_eq_true rfl⟩) ⟨Pq.blind, fun U hU hw => ⟨rfl, by rw [hU]; exact hLS.1, by rw [hU]; exact (hT1.kept (fun a h1 _ => hS.2.1 a h1 (A0_no a h1))).warm hw, by rw [hU]; exact hLS.2.2.1, hNc.moved hw.alike⟩⟩ rfl rfl hla rfl (by show 2 * 0 + 0 ≤ 8; decide) dL_law_382 ⟨by show gN (cV hc) + (gN (cV hc') - gN (cV hc)) ≤ 603072; omega, g2⟩
  intro T0 hT0 X0
  rcases run0 T0 hT0 X0 with ⟨v', st₀, t, T', L, h0, X', hL, b1, b2, ⟨hv, hW1, hO1, hF⟩, st1⟩ | ⟨q, st₀, t, T', L, E, ce, h0, X', hL, b1, b2, hbad, -⟩
  · cases hv
    obtain ⟨z1, z2, z3⟩ := vx_keep h0 b1 hS (fun q _ hq => frq_A hq) (fun q hq => frq_A hq) hL hF
    have X2 : Stand p l e room_1 s m #[Value.ref b] below meth c T' (locs ++ L) (gN (cV hc')) (k + (gS (cV hc') - gS (cV hc))) := by
      rw [show gN (cV hc') = gN (cV hc) + (gN (cV hc') - gN (cV hc)) by omega]
      exact X'
    have hm1 : wD O2 D (s.heap.size + 54) (mV hm) T'.heap := hLS.2.1.keep (fun h => absurd rfl h) (fun a oa lt => z2 _ lt (fun hq => by
      have oa : a < 42 := oa
      rcases hq with ⟨a', e, o⟩ | e
      · have o : a' < 54 ∨ 97 ≤ a' := o
        omega
      · omega))
    obtain ⟨t2, a1, b3⟩ := kk T'.heap (locs ++ L) ⟨by rw [b1]; exact hW1, hm1, by rw [b1]; exact hO1, Nat.le_trans hLS.2.2.2 m1⟩ z3 T' rfl X2
    exact ⟨t2, st1 t2 a1, b3⟩
  · exact hbad.elim
theorem thrown_e : m_thrown (hw g J M) = some (J 0 2, hw g J M) := rfl
theorem lc_person (X : LX p l s m meth c b L xs D) (hL : L ≤ 384) (h4 : x4 = nI i) (hi : i + 6 ≤ L) (q : Inv h I J M) (hN : gN h + 800 ≤ 603072) (hK : K + gS h + 9000 ≤ 7190634) (hl : lv_has la 7 (lwl s b x4)) (hLS : LZ s D (hw h I L0) (hw g J M) v H) (hS : va_S (A0 s) s.heap H locs) (kk : NxL p l e s m below meth c b D x4 K h g) : LW p l e s m below meth c b H locs (gN h) (K + gS h) (F0 m 368 la []) := by
  obtain ⟨x, rm, h', I', L', J', M', e1, e2, ek, er, ex, inv, b1, b2⟩ := (P_person (L := L0) (g := g) q (xs (i + 1)) (xs (i + 2))).ex
  obtain ⟨⟨n1, n2⟩, -⟩ := cA_person_t _ _ _ _ e1
  have n1 : gN h ≤ gN h' := n1
  have n2 : gS h ≤ gS h' := n2
  have ms := law_m (e := e) (below := below) eI (r := rm) (hm' := hw g J' M') X (m_t_person _ _ _ _ e2) ymX10_person (lw_V q2000 q2001 q2002 q154 q2003) rfl ⟨Nat.le_of_ble_eq_true rfl, Nat.le_of_ble_eq_true rfl⟩ rfl dL_law_400
  have mt := law_m (e := e) (below := below) eI (r := J' 0 2) (hm' := hw g J' M') (As := []) X (m_t_thrown _ _ (thrown_e (g := g) (J := J') (M := M'))) ymX10_thrown (lw_V q1851 q1852 q1853 q154 q1854) rfl ⟨Nat.le_of_ble_eq_true rfl, Nat.le_of_ble_eq_true rfl⟩ rfl dL_law_406
  obtain ⟨⟨hx, hb, hr', hml, hown, hts, hX, hbl, hlocks, hgv⟩, hfl, hT, hNc⟩ := id X
  refine lv_aload_n hx hb dL_law_368 rfl (lv_at hl 1 rfl) ?_
  refine law_arg X hL h4 hi (k := 1) (by decide) nk1 dL_law_369 dL_law_370 dL_law_372 dL_law_373 dL_law_374 hl hS ?_
  refine law_arg X hL h4 hi (k := 2) (by decide) nk2 dL_law_375 dL_law_376 dL_law_378 dL_law_379 dL_law_380 hl hS ?_
  refine lv_aload_n hx hb dL_law_381 rfl (lv_at hl 3 rfl) ?_
  refine law_sp (k := K + gS h) X e1 ex hl.1 hLS hS (by show gN h' ≤ _; omega) (by show K + gS h + (gS h' - gS h) ≤ _; omega) fun H1 locs1 hLS1 hS1 => ?_
  rw [show K + gS h + (gS (cV (hw h' I' L')) - gS (cV (hw h I L0))) = K + gS h' by show K + gS h + (gS h' - gS h) = K + gS h'; omega]
  refine lv_istore (lv' := (5, .int (kq x)) :: lwl s b x4) hx hb dL_law_385 hl (by decide) rfl (fun la hl => ?_)
  refine lv_aload_n hx hb dL_law_387 rfl (lv_at hl 3 rfl) ?_
  refine law_arg X hL h4 hi (k := 1) (by decide) nk1 dL_law_388 dL_law_389 dL_law_391 dL_law_392 dL_law_393 (lv_sub hl [1, 2, 3, 4, 5] rfl) hS1 ?_
  refine law_arg X hL h4 hi (k := 2) (by decide) nk2 dL_law_394 dL_law_395 dL_law_397 dL_law_398 dL_law_399 (lv_sub hl [1, 2, 3, 4, 5] rfl) hS1 ?_
  refine ms H1 locs1 la (K + gS h') _ _ [] (by decide) hl.1 hLS1 hS1 (by show gN h' ≤ _; omega) (by omega) fun H2 locs2 hLS2 hS2 => ?_
  refine lv_istore (lv' := (6, .int rm) :: (5, .int (kq x)) :: lwl s b x4) hx hb dL_law_403 hl (by decide) rfl (fun la hl => ?_)
  refine lv_aload_n hx hb dL_law_405 rfl (lv_at hl 4 rfl) ?_
  refine mt H2 locs2 la (K + gS h') _ _ [] (by decide) hl.1 hLS2 hS2 (by show gN h' ≤ _; omega) (by omega) fun H3 locs3 hLS3 hS3 => ?_
  refine lv_iload hx hb dL_law_409 (lv_at hl 1 rfl) ?_
  have fin : LW p l e s m below meth c b H3 locs3 (gN h') (K + gS h') (F0 m 433 la []) := by
    refine lv_goto (tgt := 1626) hx hb dL_law_433 (by decide) ?_
    exact kk h' I' L' J' M' _ H3 locs3 la inv b1 b2 (lv_sub hl [2, 3, 4, 5, 6] rfl) hLS3 hS3
  refine lv_icmp_eq (tgt := 416) hx hb dL_law_411 (by decide) (fun _ => ?_) (fun q => absurd ek q)
  refine lv_iload hx hb dL_law_416 (lv_at hl 1 rfl) ?_
  refine lv_if_ne (tgt := 433) hx hb dL_law_418 (by decide) (fun _ => fin) (fun hk0 => ?_)
  have hin : ∃ r, x = .inl r := by
    cases x with
    | inl r => exact ⟨r, rfl⟩
    | inr q =>
      exfalso
      have hk0 : kq (.inr q) = 0 := hk0
      unfold kq at hk0
      by_cases h3 : q.1 = 3
      · simp [h3] at hk0
      · simp [h3] at hk0
  obtain ⟨r, hxr⟩ := hin
  have hrm := er r hxr
  refine lv_aload_n hx hb dL_law_421 rfl (lv_at hl 5 rfl) ?_
  refine lv_iconst (v := 0) hx hb dL_law_422 (by decide) ?_
  refine W.lald (v := .long (vq v x)) hx hb hLS3.2.2.1 ((hT.1.2 1 _ rfl).1 1 _) (fun z => by cases z) (by rw [arrV_size]; decide) rfl rfl rfl dL_law_423 ?_
  refine lv_iload hx hb dL_law_424 (lv_at hl 0 rfl) ?_
  refine lv_i2l hx hb dL_law_426 rfl ?_
  refine W.lcmp hx hb dL_law_427 ?_
  refine lv_if_eq (tgt := 433) hx hb dL_law_428 rfl (fun _ => fin) (fun q => absurd ?_ q)
  rw [hxr, hrm]
  show lg_cmp r.toInt64 r.toInt64 = 0
  unfold lg_cmp; simp
end L4
