/-! the component: walks -/
set_option maxHeartbeats 4000000 in
set_option maxRecDepth 100000 in
theorem cR_product_5_w {X : CTX} {rr : (Nat ⊕ Nat × Nat) × HP} (f : HP → Option ((Nat ⊕ Nat × Nat) × HP)) (F L : Nat) (hf : okNot f F L) (hX : okX cV X rr cX2_product RX2 3 (F + 11) (L + 218)) (hr : (xh X).sig.returnType = some (.object "AskedCourt$Part")) (hxt : ∀ x ∈ (xc X).exceptionTable.toList, False)  (k : Nat → HP → Option ((Nat ⊕ Nat × Nat) × HP)) (hk : ∀ (v1 : Nat) (h : HP), jG cV X (evX eR) rr (k v1 h) 45 [(1, .ref (xz X + v1))] [] h) : ∀ (n : Nat) (v1 : Nat) (h : HP), jG cV X (evX eR) rr (cR_product_5 f k n v1 h) 5 [(0, .ref (xz X + 2)), (1, .ref (xz X + v1))] [] h := by
  intro n
  induction n with
  | zero =>
    intro v1 h
    exact j_none
  | succ n ih =>
    intro v1 h
    rw [cR_product_5]
    refine j_aload_n (pc := 5) hX 0 rfl dX2_product_5 ?_
    refine j_bipush (pc := 6) hX bp_42 dX2_product_6 ?_
    refine j_callV (pc := 8) (e1 := eI) (a := 2) (As := fun z => [.int (42 : Int32)]) (rest := []) hX (fun r e => cR_isSign_t (42 : Int32) h r e) ymX2_isSign (lw_V q964 q966 qs32 q141 q967) rfl ckX2 rfl ⟨by omega, by omega⟩ rfl rfl (Nat.le_of_ble_eq_true rfl) dX2_product_8 (fun r3 h4 => ?_)
    refine j_jon (fun (j5 : HP → Option ((Nat ⊕ Nat × Nat) × HP)) => ∀ (h6 : HP), jG cV X (evX eR) rr (j5 h6) 23 [(0, .ref (xz X + 2)), (1, .ref (xz X + v1))] [] h6) ?_ ?_
    · intro h6
      refine j_aload_n (pc := 23) hX 0 rfl dX2_product_23 ?_
      refine x_callV (pc := 24) (e2 := eI) (a := 2) (As := fun z => []) (rest := []) hX hxt (fun r e => cR_knot_t h6 r e) ymX2_knot (lw_V q970 q972 qs33 q141 q973) rfl ckX2 rfl ⟨by omega, by omega⟩ rfl rfl (Nat.le_of_ble_eq_true rfl) dX2_product_24 (fun r7 h8 => ?_)
      refine j_istore_n (pc := 27) hX (fun x9 => [(2, .int x9), (0, .ref (xz X + 2)), (1, .ref (xz X + v1))]) (fun _ => rfl) (Nat.le_of_ble_eq_true rfl) dX2_product_27 (fun x9 => ?_)
      refine j_grd fun g10 => ?_
      refine j_new (pc := 28) hX ckX19 cfX19 q995 q996 q173 (cV_vA g10) dX2_product_28 (fun b11 h12 => ?_)
      refine j_dup (pc := 31) hX rfl dX2_product_31 ?_
      refine j_iload_n (pc := 32) hX 0 rfl dX2_product_32 ?_
      refine j_aload_n (pc := 33) hX 2 rfl dX2_product_33 ?_
      refine j_aload_n (pc := 34) hX 1 rfl dX2_product_34 ?_
      refine x_callV (pc := 35) (e2 := eR) (a := 2) (As := fun z => []) (rest := [.ref (xz X + v1), .int x9, .ref (xz X + b11), .ref (xz X + b11)]) hX hxt (fun r e => cR_one_t f F L hf h12 r e) ymX2_one (lw_V q960 q962 qs31 q141 q963) rfl ckX2 rfl ⟨by omega, by omega⟩ rfl rfl (Nat.le_of_ble_eq_true rfl) dX2_product_35 (fun r13 h14 => ?_)
      refine j_callI (pc := 38) (e1 := eV) (a := b11) (As := fun z => [.int x9, .ref (z + v1), .ref (z + r13)]) (rest := [.ref (xz X + b11)]) hX (fun r e => kX19_init_t b11 x9 v1 r13 h14 r e) ymX19_init rfl q997 q998 q173 q999 ⟨by omega, by omega⟩ rfl rfl (Nat.le_of_ble_eq_true rfl) dX2_product_38 (fun r15 h16 => ?_)
      refine j_astore_n (pc := 41) (ls' := [(1, .ref (xz X + b11)), (2, .int x9), (0, .ref (xz X + 2))]) hX rfl (Nat.le_of_ble_eq_true rfl) dX2_product_41 ?_
      refine j_goto (pc := 42) (tgt := 5) hX rfl dX2_product_42 ?_
      refine j_locs [2, 0] rfl ?_
      exact ih b11 h16
    · intro j5 hj5
      refine j_ifne (pc := 11) (tgt := 23) hX rfl dX2_product_11 (fun _ => ?_) (fun _ => ?_)
      · refine j_aload_n (pc := 14) hX 0 rfl dX2_product_14 ?_
        refine j_bipush (pc := 15) hX bp_47 dX2_product_15 ?_
        refine j_callV (pc := 17) (e1 := eI) (a := 2) (As := fun z => [.int (47 : Int32)]) (rest := []) hX (fun r e => cR_isSign_t (47 : Int32) h4 r e) ymX2_isSign (lw_V q964 q966 qs32 q141 q967) rfl ckX2 rfl ⟨by omega, by omega⟩ rfl rfl (Nat.le_of_ble_eq_true rfl) dX2_product_17 (fun r17 h18 => ?_)
        refine j_ifeq (pc := 20) (tgt := 45) hX rfl dX2_product_20 (fun _ => ?_) (fun _ => ?_)
        · refine j_locs [1] rfl ?_
          exact hk v1 h18
        · exact hj5 h18
      · exact hj5 h4
set_option maxHeartbeats 4000000 in
set_option maxRecDepth 100000 in
theorem cR_product_t (f : HP → Option ((Nat ⊕ Nat × Nat) × HP)) (F L : Nat) (hf : okNot f F L)   (h : HP) (rr : (Nat ⊕ Nat × Nat) × HP) (e : cR_product f  h = some rr) : CnX eR cV yX2_product (ws_ yX2_product cX2_product 3 (some (.object "AskedCourt$Part"))) (F + 11) (L + 218) (fun z => [.ref (z + 2)]) h rr := by
  refine cnx_of (e1 := eR) (fun z => [(0, .ref (z + 2))]) cV_ok (cR_product_m f (hf.2)  h _ e) ymX2_product (fun _ => rfl) (fun _ => Nat.le_of_ble_eq_true rfl) (fun X hX hr hxt => ?_) e
  have hX : okX cV X rr cX2_product RX2 3 (F + 11) (L + 218) := hX
  rw [cR_product]
  refine j_aload_n (pc := 0) hX 0 rfl dX2_product_0 ?_
  refine x_callV (pc := 1) (e2 := eR) (a := 2) (As := fun z => []) (rest := []) hX hxt (fun r e => cR_one_t f F L hf h r e) ymX2_one (lw_V q960 q962 qs31 q141 q963) rfl ckX2 rfl ⟨by omega, by omega⟩ rfl rfl (Nat.le_of_ble_eq_true rfl) dX2_product_1 (fun r1 h2 => ?_)
  refine j_astore_n (pc := 4) (ls' := [(1, .ref (xz X + r1)), (0, .ref (xz X + 2))]) hX rfl (Nat.le_of_ble_eq_true rfl) dX2_product_4 ?_
  refine j_locs [1, 0] rfl ?_
  refine cR_product_5_w f F L hf hX hr hxt  _ (fun x19 h20 => ?_) FU r1 h2
  refine j_aload_n (pc := 45) hX 0 rfl dX2_product_45 ?_
  exact x_aret (pc := 46) hX (Or.inl ⟨_, rfl⟩) hr dX2_product_46
set_option maxHeartbeats 4000000 in
set_option maxRecDepth 100000 in
theorem cR_sum_5_w {X : CTX} {rr : (Nat ⊕ Nat × Nat) × HP} (f : HP → Option ((Nat ⊕ Nat × Nat) × HP)) (F L : Nat) (hf : okNot f F L) (hX : okX cV X rr cX2_sum RX2 3 (F + 12) (L + 240)) (hr : (xh X).sig.returnType = some (.object "AskedCourt$Part")) (hxt : ∀ x ∈ (xc X).exceptionTable.toList, False)  (k : Nat → HP → Option ((Nat ⊕ Nat × Nat) × HP)) (hk : ∀ (v1 : Nat) (h : HP), jG cV X (evX eR) rr (k v1 h) 45 [(1, .ref (xz X + v1))] [] h) : ∀ (n : Nat) (v1 : Nat) (h : HP), jG cV X (evX eR) rr (cR_sum_5 f k n v1 h) 5 [(0, .ref (xz X + 2)), (1, .ref (xz X + v1))] [] h := by
  intro n
  induction n with
  | zero =>
    intro v1 h
    exact j_none
  | succ n ih =>
    intro v1 h
    rw [cR_sum_5]
    refine j_aload_n (pc := 5) hX 0 rfl dX2_sum_5 ?_
    refine j_bipush (pc := 6) hX bp_43 dX2_sum_6 ?_
    refine j_callV (pc := 8) (e1 := eI) (a := 2) (As := fun z => [.int (43 : Int32)]) (rest := []) hX (fun r e => cR_isSign_t (43 : Int32) h r e) ymX2_isSign (lw_V q964 q966 qs32 q141 q967) rfl ckX2 rfl ⟨by omega, by omega⟩ rfl rfl (Nat.le_of_ble_eq_true rfl) dX2_sum_8 (fun r3 h4 => ?_)
    refine j_jon (fun (j5 : HP → Option ((Nat ⊕ Nat × Nat) × HP)) => ∀ (h6 : HP), jG cV X (evX eR) rr (j5 h6) 23 [(0, .ref (xz X + 2)), (1, .ref (xz X + v1))] [] h6) ?_ ?_
    · intro h6
      refine j_aload_n (pc := 23) hX 0 rfl dX2_sum_23 ?_
      refine x_callV (pc := 24) (e2 := eI) (a := 2) (As := fun z => []) (rest := []) hX hxt (fun r e => cR_knot_t h6 r e) ymX2_knot (lw_V q970 q972 qs33 q141 q973) rfl ckX2 rfl ⟨by omega, by omega⟩ rfl rfl (Nat.le_of_ble_eq_true rfl) dX2_sum_24 (fun r7 h8 => ?_)
      refine j_istore_n (pc := 27) hX (fun x9 => [(2, .int x9), (0, .ref (xz X + 2)), (1, .ref (xz X + v1))]) (fun _ => rfl) (Nat.le_of_ble_eq_true rfl) dX2_sum_27 (fun x9 => ?_)
      refine j_grd fun g10 => ?_
      refine j_new (pc := 28) hX ckX19 cfX19 q995 q996 q173 (cV_vA g10) dX2_sum_28 (fun b11 h12 => ?_)
      refine j_dup (pc := 31) hX rfl dX2_sum_31 ?_
      refine j_iload_n (pc := 32) hX 0 rfl dX2_sum_32 ?_
      refine j_aload_n (pc := 33) hX 2 rfl dX2_sum_33 ?_
      refine j_aload_n (pc := 34) hX 1 rfl dX2_sum_34 ?_
      refine x_callV (pc := 35) (e2 := eR) (a := 2) (As := fun z => []) (rest := [.ref (xz X + v1), .int x9, .ref (xz X + b11), .ref (xz X + b11)]) hX hxt (fun r e => cR_product_t f F L hf h12 r e) ymX2_product (lw_V q956 q958 qs30 q141 q959) rfl ckX2 rfl ⟨by omega, by omega⟩ rfl rfl (Nat.le_of_ble_eq_true rfl) dX2_sum_35 (fun r13 h14 => ?_)
      refine j_callI (pc := 38) (e1 := eV) (a := b11) (As := fun z => [.int x9, .ref (z + v1), .ref (z + r13)]) (rest := [.ref (xz X + b11)]) hX (fun r e => kX19_init_t b11 x9 v1 r13 h14 r e) ymX19_init rfl q997 q998 q173 q999 ⟨by omega, by omega⟩ rfl rfl (Nat.le_of_ble_eq_true rfl) dX2_sum_38 (fun r15 h16 => ?_)
      refine j_astore_n (pc := 41) (ls' := [(1, .ref (xz X + b11)), (2, .int x9), (0, .ref (xz X + 2))]) hX rfl (Nat.le_of_ble_eq_true rfl) dX2_sum_41 ?_
      refine j_goto (pc := 42) (tgt := 5) hX rfl dX2_sum_42 ?_
      refine j_locs [2, 0] rfl ?_
      exact ih b11 h16
    · intro j5 hj5
      refine j_ifne (pc := 11) (tgt := 23) hX rfl dX2_sum_11 (fun _ => ?_) (fun _ => ?_)
      · refine j_aload_n (pc := 14) hX 0 rfl dX2_sum_14 ?_
        refine j_bipush (pc := 15) hX bp_45 dX2_sum_15 ?_
        refine j_callV (pc := 17) (e1 := eI) (a := 2) (As := fun z => [.int (45 : Int32)]) (rest := []) hX (fun r e => cR_isSign_t (45 : Int32) h4 r e) ymX2_isSign (lw_V q964 q966 qs32 q141 q967) rfl ckX2 rfl ⟨by omega, by omega⟩ rfl rfl (Nat.le_of_ble_eq_true rfl) dX2_sum_17 (fun r17 h18 => ?_)
        refine j_ifeq (pc := 20) (tgt := 45) hX rfl dX2_sum_20 (fun _ => ?_) (fun _ => ?_)
        · refine j_locs [1] rfl ?_
          exact hk v1 h18
        · exact hj5 h18
      · exact hj5 h4
set_option maxHeartbeats 4000000 in
set_option maxRecDepth 100000 in
theorem cR_sum_t (f : HP → Option ((Nat ⊕ Nat × Nat) × HP)) (F L : Nat) (hf : okNot f F L)   (h : HP) (rr : (Nat ⊕ Nat × Nat) × HP) (e : cR_sum f  h = some rr) : CnX eR cV yX2_sum (ws_ yX2_sum cX2_sum 3 (some (.object "AskedCourt$Part"))) (F + 12) (L + 240) (fun z => [.ref (z + 2)]) h rr := by
  refine cnx_of (e1 := eR) (fun z => [(0, .ref (z + 2))]) cV_ok (cR_sum_m f (hf.2)  h _ e) ymX2_sum (fun _ => rfl) (fun _ => Nat.le_of_ble_eq_true rfl) (fun X hX hr hxt => ?_) e
  have hX : okX cV X rr cX2_sum RX2 3 (F + 12) (L + 240) := hX
  rw [cR_sum]
  refine j_aload_n (pc := 0) hX 0 rfl dX2_sum_0 ?_
  refine x_callV (pc := 1) (e2 := eR) (a := 2) (As := fun z => []) (rest := []) hX hxt (fun r e => cR_product_t f F L hf h r e) ymX2_product (lw_V q956 q958 qs30 q141 q959) rfl ckX2 rfl ⟨by omega, by omega⟩ rfl rfl (Nat.le_of_ble_eq_true rfl) dX2_sum_1 (fun r1 h2 => ?_)
  refine j_astore_n (pc := 4) (ls' := [(1, .ref (xz X + r1)), (0, .ref (xz X + 2))]) hX rfl (Nat.le_of_ble_eq_true rfl) dX2_sum_4 ?_
  refine j_locs [1, 0] rfl ?_
  refine cR_sum_5_w f F L hf hX hr hxt  _ (fun x19 h20 => ?_) FU r1 h2
  refine j_aload_n (pc := 45) hX 0 rfl dX2_sum_45 ?_
  exact x_aret (pc := 46) hX (Or.inl ⟨_, rfl⟩) hr dX2_sum_46
set_option maxHeartbeats 4000000 in
set_option maxRecDepth 100000 in
theorem cR_compare_t (f : HP → Option ((Nat ⊕ Nat × Nat) × HP)) (F L : Nat) (hf : okNot f F L)   (h : HP) (rr : (Nat ⊕ Nat × Nat) × HP) (e : cR_compare f  h = some rr) : CnX eR cV yX2_compare (ws_ yX2_compare cX2_compare 3 (some (.object "AskedCourt$Part"))) (F + 13) (L + 262) (fun z => [.ref (z + 2)]) h rr := by
  refine cnx_of (e1 := eR) (fun z => [(0, .ref (z + 2))]) cV_ok (cR_compare_m f (hf.2)  h _ e) ymX2_compare (fun _ => rfl) (fun _ => Nat.le_of_ble_eq_true rfl) (fun X hX hr hxt => ?_) e
  have hX : okX cV X rr cX2_compare RX2 3 (F + 13) (L + 262) := hX
  rw [cR_compare]
  refine j_aload_n (pc := 0) hX 0 rfl dX2_compare_0 ?_
  refine x_callV (pc := 1) (e2 := eR) (a := 2) (As := fun z => []) (rest := []) hX hxt (fun r e => cR_sum_t f F L hf h r e) ymX2_sum (lw_V q952 q954 qs29 q141 q955) rfl ckX2 rfl ⟨by omega, by omega⟩ rfl rfl (Nat.le_of_ble_eq_true rfl) dX2_compare_1 (fun r1 h2 => ?_)
  refine j_astore_n (pc := 4) (ls' := [(1, .ref (xz X + r1)), (0, .ref (xz X + 2))]) hX rfl (Nat.le_of_ble_eq_true rfl) dX2_compare_4 ?_
  refine j_aload_n (pc := 5) hX 1 rfl dX2_compare_5 ?_
  refine j_bipush (pc := 6) hX bp_60 dX2_compare_6 ?_
  refine j_callV (pc := 8) (e1 := eI) (a := 2) (As := fun z => [.int (60 : Int32)]) (rest := []) hX (fun r e => cR_isSign_t (60 : Int32) h2 r e) ymX2_isSign (lw_V q964 q966 qs32 q141 q967) rfl ckX2 rfl ⟨by omega, by omega⟩ rfl rfl (Nat.le_of_ble_eq_true rfl) dX2_compare_8 (fun r3 h4 => ?_)
  refine j_jon (fun (j5 : HP → Option ((Nat ⊕ Nat × Nat) × HP)) => ∀ (h6 : HP), jG cV X (evX eR) rr (j5 h6) 52 [(0, .ref (xz X + 2)), (1, .ref (xz X + r1))] [] h6) ?_ ?_
  · intro h6
    refine j_aload_n (pc := 52) hX 0 rfl dX2_compare_52 ?_
    refine x_callV (pc := 53) (e2 := eI) (a := 2) (As := fun z => []) (rest := []) hX hxt (fun r e => cR_knot_t h6 r e) ymX2_knot (lw_V q970 q972 qs33 q141 q973) rfl ckX2 rfl ⟨by omega, by omega⟩ rfl rfl (Nat.le_of_ble_eq_true rfl) dX2_compare_53 (fun r7 h8 => ?_)
    refine j_istore_n (pc := 56) hX (fun x9 => [(2, .int x9), (0, .ref (xz X + 2)), (1, .ref (xz X + r1))]) (fun _ => rfl) (Nat.le_of_ble_eq_true rfl) dX2_compare_56 (fun x9 => ?_)
    refine j_grd fun g10 => ?_
    refine j_new (pc := 57) hX ckX19 cfX19 q995 q996 q173 (cV_vA g10) dX2_compare_57 (fun b11 h12 => ?_)
    refine j_dup (pc := 60) hX rfl dX2_compare_60 ?_
    refine j_iload_n (pc := 61) hX 0 rfl dX2_compare_61 ?_
    refine j_aload_n (pc := 62) hX 2 rfl dX2_compare_62 ?_
    refine j_aload_n (pc := 63) hX 1 rfl dX2_compare_63 ?_
    refine x_callV (pc := 64) (e2 := eR) (a := 2) (As := fun z => []) (rest := [.ref (xz X + r1), .int x9, .ref (xz X + b11), .ref (xz X + b11)]) hX hxt (fun r e => cR_sum_t f F L hf h12 r e) ymX2_sum (lw_V q952 q954 qs29 q141 q955) rfl ckX2 rfl ⟨by omega, by omega⟩ rfl rfl (Nat.le_of_ble_eq_true rfl) dX2_compare_64 (fun r13 h14 => ?_)
    refine j_callI (pc := 67) (e1 := eV) (a := b11) (As := fun z => [.int x9, .ref (z + r1), .ref (z + r13)]) (rest := [.ref (xz X + b11)]) hX (fun r e => kX19_init_t b11 x9 r1 r13 h14 r e) ymX19_init rfl q997 q998 q173 q999 ⟨by omega, by omega⟩ rfl rfl (Nat.le_of_ble_eq_true rfl) dX2_compare_67 (fun r15 h16 => ?_)
    exact x_aret (pc := 70) hX (Or.inl ⟨_, rfl⟩) hr dX2_compare_70
  · intro j5 hj5
    refine j_ifne (pc := 11) (tgt := 52) hX rfl dX2_compare_11 (fun _ => ?_) (fun _ => ?_)
    · refine j_aload_n (pc := 14) hX 1 rfl dX2_compare_14 ?_
      refine j_bipush (pc := 15) hX bp_62 dX2_compare_15 ?_
      refine j_callV (pc := 17) (e1 := eI) (a := 2) (As := fun z => [.int (62 : Int32)]) (rest := []) hX (fun r e => cR_isSign_t (62 : Int32) h4 r e) ymX2_isSign (lw_V q964 q966 qs32 q141 q967) rfl ckX2 rfl ⟨by omega, by omega⟩ rfl rfl (Nat.le_of_ble_eq_true rfl) dX2_compare_17 (fun r17 h18 => ?_)
      refine j_ifne (pc := 20) (tgt := 52) hX rfl dX2_compare_20 (fun _ => ?_) (fun _ => ?_)
      · refine j_aload_n (pc := 23) hX 1 rfl dX2_compare_23 ?_
        refine j_bipush (pc := 24) hX bp_61 dX2_compare_24 ?_
        refine j_callV (pc := 26) (e1 := eI) (a := 2) (As := fun z => [.int (61 : Int32)]) (rest := []) hX (fun r e => cR_isSign_t (61 : Int32) h18 r e) ymX2_isSign (lw_V q964 q966 qs32 q141 q967) rfl ckX2 rfl ⟨by omega, by omega⟩ rfl rfl (Nat.le_of_ble_eq_true rfl) dX2_compare_26 (fun r19 h20 => ?_)
        refine j_ifne (pc := 29) (tgt := 52) hX rfl dX2_compare_29 (fun _ => ?_) (fun _ => ?_)
        · refine j_aload_n (pc := 32) hX 1 rfl dX2_compare_32 ?_
          refine c_getI (pc := 33) hX fgX2_33_X2.1 fgX2_33_X2.2 rfl dX2_compare_33 ?_
          refine j_iconst (pc := 36) hX ic_3 dX2_compare_36 ?_
          refine j_cne (pc := 37) (tgt := 50) hX rfl dX2_compare_37 (fun _ => ?_) (fun _ => ?_)
          · refine j_aload_n (pc := 40) hX 1 rfl dX2_compare_40 ?_
            refine c_getI (pc := 41) hX fgX2_47_X2.1 fgX2_47_X2.2 rfl dX2_compare_41 ?_
            refine j_sipush (pc := 44) hX sp_256 dX2_compare_44 ?_
            refine j_cge (pc := 47) (tgt := 52) hX rfl dX2_compare_47 (fun _ => ?_) (fun _ => ?_)
            · refine j_locs [1, 0] rfl ?_
              exact hj5 h20
            · refine j_aload_n (pc := 50) hX 0 rfl dX2_compare_50 ?_
              exact x_aret (pc := 51) hX (Or.inl ⟨_, rfl⟩) hr dX2_compare_51
          · refine j_aload_n (pc := 50) hX 0 rfl dX2_compare_50 ?_
            exact x_aret (pc := 51) hX (Or.inl ⟨_, rfl⟩) hr dX2_compare_51
        · refine j_locs [1, 0] rfl ?_
          exact hj5 h20
      · refine j_locs [1, 0] rfl ?_
        exact hj5 h18
    · refine j_locs [1, 0] rfl ?_
      exact hj5 h4
set_option maxHeartbeats 4000000 in
set_option maxRecDepth 100000 in
theorem cR_not_t (f : HP → Option ((Nat ⊕ Nat × Nat) × HP)) (F L : Nat) (hf : okNot f F L)   (h : HP) (rr : (Nat ⊕ Nat × Nat) × HP) (e : cR_not f  h = some rr) : CnX eR cV yX2_not (ws_ yX2_not cX2_not 1 (some (.object "AskedCourt$Part"))) (F + 14) (L + 284) (fun z => [.ref (z + 2)]) h rr := by
  refine cnx_of (e1 := eR) (fun z => [(0, .ref (z + 2))]) cV_ok (cR_not_m f (hf.2)  h _ e) ymX2_not (fun _ => rfl) (fun _ => Nat.le_of_ble_eq_true rfl) (fun X hX hr hxt => ?_) e
  have hX : okX cV X rr cX2_not RX2 1 (F + 14) (L + 284) := hX
  rw [cR_not]
  refine j_aload_n (pc := 0) hX 0 rfl dX2_not_0 ?_
  refine j_bipush (pc := 1) hX bp_17 dX2_not_1 ?_
  refine j_bipush (pc := 3) hX bp_17 dX2_not_3 ?_
  refine j_callV (pc := 5) (e1 := eI) (a := 2) (As := fun z => [.int (17 : Int32), .int (17 : Int32)]) (rest := []) hX (fun r e => cR_isWord_t (17 : Int32) (17 : Int32) h r e) ymX2_isWord (lw_V q674 q676 qs8 q141 q677) rfl ckX2 rfl ⟨by omega, by omega⟩ rfl rfl (Nat.le_of_ble_eq_true rfl) dX2_not_5 (fun r1 h2 => ?_)
  refine j_ifne (pc := 8) (tgt := 16) hX rfl dX2_not_8 (fun _ => ?_) (fun _ => ?_)
  · refine j_aload_n (pc := 11) hX 0 rfl dX2_not_11 ?_
    refine x_callV (pc := 12) (e2 := eR) (a := 2) (As := fun z => []) (rest := []) hX hxt (fun r e => cR_compare_t f F L hf h2 r e) ymX2_compare (lw_V q948 q950 qs28 q141 q951) rfl ckX2 rfl ⟨by omega, by omega⟩ rfl rfl (Nat.le_of_ble_eq_true rfl) dX2_not_12 (fun r3 h4 => ?_)
    exact x_aret (pc := 15) hX (Or.inl ⟨_, rfl⟩) hr dX2_not_15
  · refine j_aload_n (pc := 16) hX 0 rfl dX2_not_16 ?_
    refine x_callV (pc := 17) (e2 := eI) (a := 2) (As := fun z => []) (rest := []) hX hxt (fun r e => cR_knot_t h2 r e) ymX2_knot (lw_V q970 q972 qs33 q141 q973) rfl ckX2 rfl ⟨by omega, by omega⟩ rfl rfl (Nat.le_of_ble_eq_true rfl) dX2_not_17 (fun r5 h6 => ?_)
    refine j_pop (pc := 20) hX rfl dX2_not_20 ?_
    refine j_grd fun g7 => ?_
    refine j_new (pc := 21) hX ckX18 cfX18 q1016 q1017 q172 (cV_vA g7) dX2_not_21 (fun b8 h9 => ?_)
    refine j_dup (pc := 24) hX rfl dX2_not_24 ?_
    refine j_aload_n (pc := 25) hX 0 rfl dX2_not_25 ?_
    refine x_callV (pc := 26) (e2 := eR) (a := 2) (As := fun z => []) (rest := [.ref (xz X + b8), .ref (xz X + b8)]) hX hxt (fun r e => hf.1 h9 r e) ymX2_not (lw_V q944 q946 qs27 q141 q947) rfl ckX2 rfl ⟨by omega, by omega⟩ rfl rfl (Nat.le_of_ble_eq_true rfl) dX2_not_26 (fun r10 h11 => ?_)
    refine j_callI (pc := 29) (e1 := eV) (a := b8) (As := fun z => [.ref (z + r10)]) (rest := [.ref (xz X + b8)]) hX (fun r e => kX18_init_t b8 r10 h11 r e) ymX18_init rfl q1018 q1001 q172 q1002 ⟨by omega, by omega⟩ rfl rfl (Nat.le_of_ble_eq_true rfl) dX2_not_29 (fun r12 h13 => ?_)
    exact x_aret (pc := 32) hX (Or.inl ⟨_, rfl⟩) hr dX2_not_32
theorem cR_notN_c : ∀ n : Nat, okNot (cR_notN n) (14 * n) (284 * n) := by
  intro n
  induction n with
  | zero => exact ⟨fun  h rr e => (by cases e), cR_notN_m 0⟩
  | succ n ih => exact ⟨fun  h rr e => cR_not_t (cR_notN n) _ _ ih  h rr e, cR_notN_m (n + 1)⟩
set_option maxHeartbeats 4000000 in
set_option maxRecDepth 100000 in
theorem cR_line_t    (h : HP) (rr : (Unit ⊕ Nat × Nat) × HP) (e : cR_line  h = some rr) : CnX eV cV yX2_line (ws_ yX2_line cX2_line 3 (none)) 1410 28597 (fun z => [.ref (z + 2)]) h rr := by
  refine cnx_of (e1 := eV) (fun z => [(0, .ref (z + 2))]) cV_ok (cR_line_m  h _ e) ymX2_line (fun _ => rfl) (fun _ => Nat.le_of_ble_eq_true rfl) (fun X hX hr hxt => ?_) e
  have hX : okX cV X rr cX2_line RX2 3 1410 28597 := hX
  rw [cR_line]
  refine j_aload_n (pc := 0) hX 0 rfl dX2_line_0 ?_
  refine j_iconst (pc := 1) hX ic_0 dX2_line_1 ?_
  refine j_bipush (pc := 2) hX bp_7 dX2_line_2 ?_
  refine j_callV (pc := 4) (e1 := eI) (a := 2) (As := fun z => [.int (0 : Int32), .int (7 : Int32)]) (rest := []) hX (fun r e => cR_isWord_t (0 : Int32) (7 : Int32) h r e) ymX2_isWord (lw_V q674 q676 qs8 q141 q677) rfl ckX2 rfl ⟨Nat.le_of_ble_eq_true rfl, Nat.le_of_ble_eq_true rfl⟩ rfl rfl (Nat.le_of_ble_eq_true rfl) dX2_line_4 (fun r1 h2 => ?_)
  refine j_ifne (pc := 7) (tgt := 16) hX rfl dX2_line_7 (fun _ => ?_) (fun _ => ?_)
  · refine j_aload_n (pc := 10) hX 0 rfl dX2_line_10 ?_
    refine j_iconst (pc := 11) hX ic_1 dX2_line_11 ?_
    refine j_callV (pc := 12) (e1 := eR) (a := 2) (As := fun z => [.int (1 : Int32)]) (rest := []) hX (fun r e => cR_wrong_t (1 : Int32) h2 r e) ymX2_wrong (lw_V q678 q680 qs9 q141 q681) rfl ckX2 rfl ⟨Nat.le_of_ble_eq_true rfl, Nat.le_of_ble_eq_true rfl⟩ rfl rfl (Nat.le_of_ble_eq_true rfl) dX2_line_12 (fun r3 h4 => ?_)
    refine j_grd fun g5 => ?_
    exact x_throwF (pc := 15) hX hxt g5 dX2_line_15
  · refine j_aload_n (pc := 16) hX 0 rfl dX2_line_16 ?_
    refine c_getI (pc := 17) hX fgX2_47_X2.1 fgX2_47_X2.2 rfl dX2_line_17 ?_
    refine j_istore_n (pc := 20) hX (fun x6 => [(1, .int x6), (0, .ref (xz X + 2))]) (fun _ => rfl) (Nat.le_of_ble_eq_true rfl) dX2_line_20 (fun x6 => ?_)
    refine j_aload_n (pc := 21) hX 1 rfl dX2_line_21 ?_
    refine j_iload_n (pc := 22) hX 0 rfl dX2_line_22 ?_
    refine j_callV (pc := 23) (e1 := eI) (a := 2) (As := fun z => [.int x6]) (rest := []) hX (fun r e => cR_isFull_t x6 h2 r e) ymX2_isFull (lw_V q753 q755 qs11 q141 q756) rfl ckX2 rfl ⟨Nat.le_of_ble_eq_true rfl, Nat.le_of_ble_eq_true rfl⟩ rfl rfl (Nat.le_of_ble_eq_true rfl) dX2_line_23 (fun r7 h8 => ?_)
    refine j_ifeq (pc := 26) (tgt := 35) hX rfl dX2_line_26 (fun _ => ?_) (fun _ => ?_)
    · refine j_iload_n (pc := 35) hX 0 rfl dX2_line_35 ?_
      refine j_iconst (pc := 36) hX ic_5 dX2_line_36 ?_
      refine j_jon (fun (j9 : Unit → Option ((Unit ⊕ Nat × Nat) × HP)) => ∀ (_u : Unit), jG cV X (evX eV) rr (j9 ()) 64 [(0, .ref (xz X + 2)), (1, .int x6)] [] h8) ?_ ?_
      · intro _
        refine j_aload_n (pc := 64) hX 0 rfl dX2_line_64 ?_
        refine j_dup (pc := 65) hX rfl dX2_line_65 ?_
        refine c_getI (pc := 66) hX fgX2_105_X2.1 fgX2_105_X2.2 rfl dX2_line_66 ?_
        refine j_iconst (pc := 69) hX ic_1 dX2_line_69 ?_
        refine j_iload_n (pc := 70) hX 1 rfl dX2_line_70 ?_
        refine j_ishl (pc := 71) hX dX2_line_71 ?_
        refine j_ior (pc := 72) hX dX2_line_72 ?_
        refine c_putI (pc := 73) hX fwX2_105_X2.1 fwX2_105_X2.2 rfl dX2_line_73 (fun h10 q11 q12 => ?_)
        refine j_aload_n (pc := 76) hX 0 rfl dX2_line_76 ?_
        refine j_callV (pc := 77) (e1 := eV) (a := 2) (As := fun z => []) (rest := []) hX (fun r e => cR_next_t h10 r e) ymX2_next (lw_V q536 q538 qs2 q141 q539) rfl ckX2 rfl ⟨Nat.le_of_ble_eq_true rfl, Nat.le_of_ble_eq_true rfl⟩ rfl rfl (Nat.le_of_ble_eq_true rfl) dX2_line_77 (fun r13 h14 => ?_)
        refine j_iload_n (pc := 80) hX 1 rfl dX2_line_80 ?_
        refine j_jon (fun (j15 : HP → Option ((Unit ⊕ Nat × Nat) × HP)) => ∀ (h16 : HP), jG cV X (evX eV) rr (j15 h16) 278 [(0, .ref (xz X + 2))] [] h16) ?_ ?_
        · intro h16
          refine j_aload_n (pc := 278) hX 0 rfl dX2_line_278 ?_
          refine j_bipush (pc := 279) hX bp_59 dX2_line_279 ?_
          refine j_callV (pc := 281) (e1 := eI) (a := 2) (As := fun z => [.int (59 : Int32)]) (rest := []) hX (fun r e => cR_isSign_t (59 : Int32) h16 r e) ymX2_isSign (lw_V q964 q966 qs32 q141 q967) rfl ckX2 rfl ⟨Nat.le_of_ble_eq_true rfl, Nat.le_of_ble_eq_true rfl⟩ rfl rfl (Nat.le_of_ble_eq_true rfl) dX2_line_281 (fun r17 h18 => ?_)
          refine j_ifne (pc := 284) (tgt := 293) hX rfl dX2_line_284 (fun _ => ?_) (fun _ => ?_)
          · refine j_aload_n (pc := 287) hX 0 rfl dX2_line_287 ?_
            refine j_iconst (pc := 288) hX ic_1 dX2_line_288 ?_
            refine j_callV (pc := 289) (e1 := eR) (a := 2) (As := fun z => [.int (1 : Int32)]) (rest := []) hX (fun r e => cR_wrong_t (1 : Int32) h18 r e) ymX2_wrong (lw_V q678 q680 qs9 q141 q681) rfl ckX2 rfl ⟨Nat.le_of_ble_eq_true rfl, Nat.le_of_ble_eq_true rfl⟩ rfl rfl (Nat.le_of_ble_eq_true rfl) dX2_line_289 (fun r19 h20 => ?_)
            refine j_grd fun g21 => ?_
            exact x_throwF (pc := 292) hX hxt g21 dX2_line_292
          · refine j_aload_n (pc := 293) hX 0 rfl dX2_line_293 ?_
            refine j_callV (pc := 294) (e1 := eV) (a := 2) (As := fun z => []) (rest := []) hX (fun r e => cR_next_t h18 r e) ymX2_next (lw_V q536 q538 qs2 q141 q539) rfl ckX2 rfl ⟨Nat.le_of_ble_eq_true rfl, Nat.le_of_ble_eq_true rfl⟩ rfl rfl (Nat.le_of_ble_eq_true rfl) dX2_line_294 (fun r22 h23 => ?_)
            refine j_aload_n (pc := 297) hX 0 rfl dX2_line_297 ?_
            refine j_onr fun b24 e25 => ?_
            refine c_getR (pc := 298) hX fgX2_111_X2.1 fgX2_111_X2.2 rfl e25 dX2_line_298 ?_
            refine j_dup (pc := 301) hX rfl dX2_line_301 ?_
            refine j_grd fun g26 => ?_
            refine c_getI (pc := 302) hX fgX2_185_X3.1 fgX2_185_X3.2 (k1_of g26.1) dX2_line_302 ?_
            refine j_iconst (pc := 305) hX ic_1 dX2_line_305 ?_
            refine j_iadd (pc := 306) hX dX2_line_306 ?_
            refine c_putI (pc := 307) hX fwX2_185_X3.1 fwX2_185_X3.2 (k1_of g26.1) dX2_line_307 (fun h27 q28 q29 => ?_)
            exact x_vret (pc := 310) hX hr dX2_line_310
        · intro j15 hj15
          refine j_ite (fun c30 => ?_) (fun c30 => ?_)
          · refine j_tabIn (pc := 81) (tgt := 124) hX (0) (by rw [c30]; rfl) (by decide) (by decide) rfl rfl dX2_line_81 ?_
            refine j_aload_n (pc := 124) hX 0 rfl dX2_line_124 ?_
            refine j_onr fun b31 e32 => ?_
            refine c_getR (pc := 125) hX fgX2_111_X2.1 fgX2_111_X2.2 rfl e32 dX2_line_125 ?_
            refine j_grd fun g33 => ?_
            refine c_getR (pc := 128) hX fgX2_118_X3.1 fgX2_118_X3.2 (k1_of g33.1) g33.2.1.1 dX2_line_128 ?_
            refine j_grd fun g34 => ?_
            refine j_new (pc := 131) hX ckX12 cfX12 q758 q759 q163 (cV_vA g34) dX2_line_131 (fun b35 h36 => ?_)
            refine j_dup (pc := 134) hX rfl dX2_line_134 ?_
            refine j_aload_n (pc := 135) hX 0 rfl dX2_line_135 ?_
            refine j_aload_n (pc := 136) hX 0 rfl dX2_line_136 ?_
            refine j_onr fun b37 e38 => ?_
            refine c_getR (pc := 137) hX fgX2_111_X2.1 fgX2_111_X2.2 rfl e38 dX2_line_137 ?_
            refine j_grd fun g39 => ?_
            refine c_getR (pc := 140) hX fgX2_118_X3.1 fgX2_118_X3.2 (k1_of g39.1) g39.2.1.1 dX2_line_140 ?_
            refine x_callV (pc := 143) (e2 := eI) (a := 2) (As := fun z => [.ref (z + (b37 + 1))]) (rest := [.ref (xz X + b35), .ref (xz X + b35), .ref (xz X + (b31 + 1))]) hX hxt (fun r e => cR_fresh_t (b37 + 1) h36 r e) ymX2_fresh (lw_V q760 q762 qs12 q141 q763) rfl ckX2 rfl ⟨Nat.le_of_ble_eq_true rfl, Nat.le_of_ble_eq_true rfl⟩ rfl rfl (Nat.le_of_ble_eq_true rfl) dX2_line_143 (fun r40 h41 => ?_)
            refine j_callI (pc := 146) (e1 := eV) (a := b35) (As := fun z => [.int r40]) (rest := [.ref (xz X + b35), .ref (xz X + (b31 + 1))]) hX (fun r e => kX12_init_t b35 r40 h41 r e) ymX12_init rfl q770 q771 q163 q772 ⟨Nat.le_of_ble_eq_true rfl, Nat.le_of_ble_eq_true rfl⟩ rfl rfl (Nat.le_of_ble_eq_true rfl) dX2_line_146 (fun r42 h43 => ?_)
            refine j_grd fun g46 => ?_
            refine j_callV (pc := 149) (e1 := eI) (a := (b31 + 1)) (As := fun z => [.ref (z + b35)]) (rest := []) hX (fun r e => cL_add_t (b31 + 1) b35 h43 r e) ymJ2_add (lw_V q778 q779 q780 q145 q781) rfl ckJ2 (k1_of g46.1) ⟨Nat.le_of_ble_eq_true rfl, Nat.le_of_ble_eq_true rfl⟩ rfl rfl (Nat.le_of_ble_eq_true rfl) dX2_line_149 (fun r44 h45 => ?_)
            refine j_pop (pc := 152) hX rfl dX2_line_152 ?_
            refine j_goto (pc := 153) (tgt := 278) hX rfl dX2_line_153 ?_
            refine j_locs [0] rfl ?_
            exact hj15 h45
          · skip
            refine j_ite (fun c47 => ?_) (fun c47 => ?_)
            · refine j_tabIn (pc := 81) (tgt := 156) hX (1) (by rw [c47]; rfl) (by decide) (by decide) rfl rfl dX2_line_81 ?_
              refine j_aload_n (pc := 156) hX 0 rfl dX2_line_156 ?_
              refine x_callV (pc := 157) (e2 := eV) (a := 2) (As := fun z => []) (rest := []) hX hxt (fun r e => cR_person_t h14 r e) ymX2_person (lw_V q845 q847 qs16 q141 q848) rfl ckX2 rfl ⟨Nat.le_of_ble_eq_true rfl, Nat.le_of_ble_eq_true rfl⟩ rfl rfl (Nat.le_of_ble_eq_true rfl) dX2_line_157 (fun r48 h49 => ?_)
              refine j_goto (pc := 160) (tgt := 278) hX rfl dX2_line_160 ?_
              refine j_locs [0] rfl ?_
              exact hj15 h49
            · skip
              refine j_ite (fun c50 => ?_) (fun c50 => ?_)
              · refine j_tabIn (pc := 81) (tgt := 163) hX (2) (by rw [c50]; rfl) (by decide) (by decide) rfl rfl dX2_line_81 ?_
                refine j_aload_n (pc := 163) hX 0 rfl dX2_line_163 ?_
                refine x_callV (pc := 164) (e2 := eV) (a := 2) (As := fun z => []) (rest := []) hX hxt (fun r e => cR_knows_t h14 r e) ymX2_knows (lw_V q883 q885 qs19 q141 q886) rfl ckX2 rfl ⟨Nat.le_of_ble_eq_true rfl, Nat.le_of_ble_eq_true rfl⟩ rfl rfl (Nat.le_of_ble_eq_true rfl) dX2_line_164 (fun r51 h52 => ?_)
                refine j_goto (pc := 167) (tgt := 278) hX rfl dX2_line_167 ?_
                refine j_locs [0] rfl ?_
                exact hj15 h52
              · skip
                refine j_ite (fun c53 => ?_) (fun c53 => ?_)
                · refine j_tabIn (pc := 81) (tgt := 170) hX (3) (by rw [c53]; rfl) (by decide) (by decide) rfl rfl dX2_line_81 ?_
                  refine j_aload_n (pc := 170) hX 0 rfl dX2_line_170 ?_
                  refine x_callV (pc := 171) (e2 := eV) (a := 2) (As := fun z => []) (rest := []) hX hxt (fun r e => cR_question_t h14 r e) ymX2_question (lw_V q896 q898 qs22 q141 q899) rfl ckX2 rfl ⟨Nat.le_of_ble_eq_true rfl, Nat.le_of_ble_eq_true rfl⟩ rfl rfl (Nat.le_of_ble_eq_true rfl) dX2_line_171 (fun r54 h55 => ?_)
                  refine j_goto (pc := 174) (tgt := 278) hX rfl dX2_line_174 ?_
                  refine j_locs [0] rfl ?_
                  exact hj15 h55
                · skip
                  refine j_ite (fun c56 => ?_) (fun c56 => ?_)
                  · refine j_tabIn (pc := 81) (tgt := 177) hX (4) (by rw [c56]; rfl) (by decide) (by decide) rfl rfl dX2_line_81 ?_
                    refine j_aload_n (pc := 177) hX 0 rfl dX2_line_177 ?_
                    refine x_callV (pc := 178) (e2 := eV) (a := 2) (As := fun z => []) (rest := []) hX hxt (fun r e => cR_talk_t h14 r e) ymX2_talk (lw_V q932 q934 qs24 q141 q935) rfl ckX2 rfl ⟨Nat.le_of_ble_eq_true rfl, Nat.le_of_ble_eq_true rfl⟩ rfl rfl (Nat.le_of_ble_eq_true rfl) dX2_line_178 (fun r57 h58 => ?_)
                    refine j_goto (pc := 181) (tgt := 278) hX rfl dX2_line_181 ?_
                    refine j_locs [0] rfl ?_
                    exact hj15 h58
                  · skip
                    refine j_ite (fun c59 => ?_) (fun c59 => ?_)
                    · refine j_tabIn (pc := 81) (tgt := 184) hX (5) (by rw [c59]; rfl) (by decide) (by decide) rfl rfl dX2_line_81 ?_
                      refine j_aload_n (pc := 184) hX 0 rfl dX2_line_184 ?_
                      refine j_onr fun b60 e61 => ?_
                      refine c_getR (pc := 185) hX fgX2_111_X2.1 fgX2_111_X2.2 rfl e61 dX2_line_185 ?_
                      refine j_aload_n (pc := 188) hX 0 rfl dX2_line_188 ?_
                      refine j_iconst (pc := 189) hX ic_0 dX2_line_189 ?_
                      refine j_bipush (pc := 190) hX bp_99 dX2_line_190 ?_
                      refine x_callV (pc := 192) (e2 := eI) (a := 2) (As := fun z => [.int (0 : Int32), .int (99 : Int32)]) (rest := [.ref (xz X + b60)]) hX hxt (fun r e => cR_number_t (0 : Int32) (99 : Int32) h14 r e) ymX2_number (lw_V q875 q877 qs17 q141 q878) rfl ckX2 rfl ⟨Nat.le_of_ble_eq_true rfl, Nat.le_of_ble_eq_true rfl⟩ rfl rfl (Nat.le_of_ble_eq_true rfl) dX2_line_192 (fun r62 h63 => ?_)
                      refine j_grd fun g64 => ?_
                      refine c_putI (pc := 195) hX fwX2_168_X3.1 fwX2_168_X3.2 (k1_of g64.1) dX2_line_195 (fun h65 q66 q67 => ?_)
                      refine j_goto (pc := 198) (tgt := 278) hX rfl dX2_line_198 ?_
                      refine j_locs [0] rfl ?_
                      exact hj15 h65
                    · skip
                      refine j_ite (fun c68 => ?_) (fun c68 => ?_)
                      · refine j_tabIn (pc := 81) (tgt := 201) hX (6) (by rw [c68]; rfl) (by decide) (by decide) rfl rfl dX2_line_81 ?_
                        refine j_aload_n (pc := 201) hX 0 rfl dX2_line_201 ?_
                        refine j_onr fun b69 e70 => ?_
                        refine c_getR (pc := 202) hX fgX2_111_X2.1 fgX2_111_X2.2 rfl e70 dX2_line_202 ?_
                        refine j_aload_n (pc := 205) hX 0 rfl dX2_line_205 ?_
                        refine j_iconst (pc := 206) hX ic_0 dX2_line_206 ?_
                        refine j_ldc (pc := 207) hX q605 dX2_line_207 ?_
                        refine x_callV (pc := 209) (e2 := eI) (a := 2) (As := fun z => [.int (0 : Int32), .int (99999 : Int32)]) (rest := [.ref (xz X + b69)]) hX hxt (fun r e => cR_number_t (0 : Int32) (99999 : Int32) h14 r e) ymX2_number (lw_V q875 q877 qs17 q141 q878) rfl ckX2 rfl ⟨Nat.le_of_ble_eq_true rfl, Nat.le_of_ble_eq_true rfl⟩ rfl rfl (Nat.le_of_ble_eq_true rfl) dX2_line_209 (fun r71 h72 => ?_)
                        refine j_grd fun g73 => ?_
                        refine c_putI (pc := 212) hX fwX2_171_X3.1 fwX2_171_X3.2 (k1_of g73.1) dX2_line_212 (fun h74 q75 q76 => ?_)
                        refine j_goto (pc := 215) (tgt := 278) hX rfl dX2_line_215 ?_
                        refine j_locs [0] rfl ?_
                        exact hj15 h74
                      · skip
                        refine j_tabD (pc := 81) (tgt := 218) hX (fun n hn h1 h2 => ?_) rfl dX2_line_81 ?_
                        · rcases (show n = 0 ∨ n = 1 ∨ n = 2 ∨ n = 3 ∨ n = 4 ∨ n = 5 ∨ n = 6 by omega) with rfl | rfl | rfl | rfl | rfl | rfl | rfl
                          · exact absurd hn (lv_neT c30 rfl)
                          · exact absurd hn (lv_neT c47 rfl)
                          · exact absurd hn (lv_neT c50 rfl)
                          · exact absurd hn (lv_neT c53 rfl)
                          · exact absurd hn (lv_neT c56 rfl)
                          · exact absurd hn (lv_neT c59 rfl)
                          · exact absurd hn (lv_neT c68 rfl)
                        · refine j_aload_n (pc := 218) hX 0 rfl dX2_line_218 ?_
                          refine j_bipush (pc := 219) hX bp_13 dX2_line_219 ?_
                          refine j_bipush (pc := 221) hX bp_14 dX2_line_221 ?_
                          refine j_callV (pc := 223) (e1 := eI) (a := 2) (As := fun z => [.int (13 : Int32), .int (14 : Int32)]) (rest := []) hX (fun r e => cR_isWord_t (13 : Int32) (14 : Int32) h14 r e) ymX2_isWord (lw_V q674 q676 qs8 q141 q677) rfl ckX2 rfl ⟨Nat.le_of_ble_eq_true rfl, Nat.le_of_ble_eq_true rfl⟩ rfl rfl (Nat.le_of_ble_eq_true rfl) dX2_line_223 (fun r77 h78 => ?_)
                          refine j_ifne (pc := 226) (tgt := 235) hX rfl dX2_line_226 (fun _ => ?_) (fun _ => ?_)
                          · refine j_aload_n (pc := 229) hX 0 rfl dX2_line_229 ?_
                            refine j_iconst (pc := 230) hX ic_1 dX2_line_230 ?_
                            refine j_callV (pc := 231) (e1 := eR) (a := 2) (As := fun z => [.int (1 : Int32)]) (rest := []) hX (fun r e => cR_wrong_t (1 : Int32) h78 r e) ymX2_wrong (lw_V q678 q680 qs9 q141 q681) rfl ckX2 rfl ⟨Nat.le_of_ble_eq_true rfl, Nat.le_of_ble_eq_true rfl⟩ rfl rfl (Nat.le_of_ble_eq_true rfl) dX2_line_231 (fun r79 h80 => ?_)
                            refine j_grd fun g81 => ?_
                            exact x_throwF (pc := 234) hX hxt g81 dX2_line_234
                          · refine j_aload_n (pc := 235) hX 0 rfl dX2_line_235 ?_
                            refine c_getI (pc := 236) hX fgX2_47_X2.1 fgX2_47_X2.2 rfl dX2_line_236 ?_
                            refine j_bipush (pc := 239) hX bp_13 dX2_line_239 ?_
                            refine j_isub (pc := 241) hX dX2_line_241 ?_
                            refine j_istore_n (pc := 242) hX (fun x82 => [(2, .int x82), (0, .ref (xz X + 2)), (1, .int x6)]) (fun _ => rfl) (Nat.le_of_ble_eq_true rfl) dX2_line_242 (fun x82 => ?_)
                            refine j_aload_n (pc := 243) hX 1 rfl dX2_line_243 ?_
                            refine j_onr fun b83 e84 => ?_
                            refine c_getR (pc := 244) hX fgX2_111_X2.1 fgX2_111_X2.2 rfl e84 dX2_line_244 ?_
                            refine j_grd fun g85 => ?_
                            refine c_getR (pc := 247) hX fgX2_174_X3.1 fgX2_174_X3.2 (k1_of g85.1) g85.2.1.2.2.2.2.2.2 dX2_line_247 ?_
                            refine j_iload_n (pc := 250) hX 0 rfl dX2_line_250 ?_
                            refine j_aaldM (pc := 251) (n := 2) (q := 5) (tgt := 261) hX (Nat.le_of_ble_eq_true rfl) (fun _ => rfl) g85.2.2.2.2.2 dX2_line_251 rfl dX2_line_252 ?_ ?_
                            · refine j_aload_n (pc := 261) hX 1 rfl dX2_line_261 ?_
                              refine j_callV (pc := 262) (e1 := eV) (a := 2) (As := fun z => []) (rest := []) hX (fun r e => cR_next_t h78 r e) ymX2_next (lw_V q536 q538 qs2 q141 q539) rfl ckX2 rfl ⟨Nat.le_of_ble_eq_true rfl, Nat.le_of_ble_eq_true rfl⟩ rfl rfl (Nat.le_of_ble_eq_true rfl) dX2_line_262 (fun r86 h87 => ?_)
                              refine j_aload_n (pc := 265) hX 1 rfl dX2_line_265 ?_
                              refine j_onr fun b88 e89 => ?_
                              refine c_getR (pc := 266) hX fgX2_111_X2.1 fgX2_111_X2.2 rfl e89 dX2_line_266 ?_
                              refine j_grd fun g90 => ?_
                              refine c_getR (pc := 269) hX fgX2_174_X3.1 fgX2_174_X3.2 (k1_of g90.1) g90.2.1.2.2.2.2.2.2 dX2_line_269 ?_
                              refine j_iload_n (pc := 272) hX 0 rfl dX2_line_272 ?_
                              refine j_aload_n (pc := 273) hX 1 rfl dX2_line_273 ?_
                              refine x_callV (pc := 274) (e2 := eR) (a := 2) (As := fun z => []) (rest := [.int x82, .ref (xz X + (b88 + 10))]) hX hxt (fun r e => cR_or_t (cR_notN 100) _ _ (cR_notN_c 100) h87 r e) ymX2_or (lw_V q936 q938 qs25 q141 q939) rfl ckX2 rfl ⟨Nat.le_of_ble_eq_true rfl, Nat.le_of_ble_eq_true rfl⟩ rfl rfl (Nat.le_of_ble_eq_true rfl) dX2_line_274 (fun r91 h92 => ?_)
                              refine j_grd fun g93 => ?_
                              refine j_grd fun g94 => ?_
                              refine j_grd fun g96 => ?_
                              refine j_aastP (pc := 277) (n := (gT (cV h92) (b88 + 10)).2) hX (kA_of g93) g96 (cV_sR g94) dX2_line_277 (fun h95 => ?_)
                              refine j_locs [1] rfl ?_
                              exact hj15 h95
                            · refine j_aload_n (pc := 255) hX 1 rfl dX2_line_255 ?_
                              refine j_iconst (pc := 256) hX ic_3 dX2_line_256 ?_
                              refine j_callV (pc := 257) (e1 := eR) (a := 2) (As := fun z => [.int (3 : Int32)]) (rest := []) hX (fun r e => cR_wrong_t (3 : Int32) h78 r e) ymX2_wrong (lw_V q678 q680 qs9 q141 q681) rfl ckX2 rfl ⟨Nat.le_of_ble_eq_true rfl, Nat.le_of_ble_eq_true rfl⟩ rfl rfl (Nat.le_of_ble_eq_true rfl) dX2_line_257 (fun r97 h98 => ?_)
                              refine j_grd fun g99 => ?_
                              exact x_throwF (pc := 260) hX hxt g99 dX2_line_260
      · intro j9 hj9
        refine j_jon (fun (j100 : Unit → Option ((Unit ⊕ Nat × Nat) × HP)) => ∀ (_u : Unit), jG cV X (evX eV) rr (j100 ()) 46 [(0, .ref (xz X + 2)), (1, .int x6)] [] h8) ?_ ?_
        · intro _
          refine j_aload_n (pc := 46) hX 0 rfl dX2_line_46 ?_
          refine c_getI (pc := 47) hX fgX2_105_X2.1 fgX2_105_X2.2 rfl dX2_line_47 ?_
          refine j_iload_n (pc := 50) hX 1 rfl dX2_line_50 ?_
          refine j_ishr (pc := 51) hX dX2_line_51 ?_
          refine j_iconst (pc := 52) hX ic_1 dX2_line_52 ?_
          refine j_iand (pc := 53) hX dX2_line_53 ?_
          refine j_iconst (pc := 54) hX ic_1 dX2_line_54 ?_
          refine j_cne (pc := 55) (tgt := 64) hX rfl dX2_line_55 (fun _ => ?_) (fun _ => ?_)
          · refine j_aload_n (pc := 58) hX 0 rfl dX2_line_58 ?_
            refine j_iconst (pc := 59) hX ic_3 dX2_line_59 ?_
            refine j_callV (pc := 60) (e1 := eR) (a := 2) (As := fun z => [.int (3 : Int32)]) (rest := []) hX (fun r e => cR_wrong_t (3 : Int32) h8 r e) ymX2_wrong (lw_V q678 q680 qs9 q141 q681) rfl ckX2 rfl ⟨Nat.le_of_ble_eq_true rfl, Nat.le_of_ble_eq_true rfl⟩ rfl rfl (Nat.le_of_ble_eq_true rfl) dX2_line_60 (fun r101 h102 => ?_)
            refine j_grd fun g103 => ?_
            exact x_throwF (pc := 63) hX hxt g103 dX2_line_63
          · exact hj9 ()
        · intro j100 hj100
          refine j_ceq (pc := 37) (tgt := 46) hX rfl dX2_line_37 (fun _ => ?_) (fun _ => ?_)
          · refine j_locs [1, 0] rfl ?_
            exact hj100 ()
          · refine j_iload_n (pc := 40) hX 0 rfl dX2_line_40 ?_
            refine j_bipush (pc := 41) hX bp_6 dX2_line_41 ?_
            refine j_cne (pc := 43) (tgt := 64) hX rfl dX2_line_43 (fun _ => ?_) (fun _ => ?_)
            · refine j_locs [1, 0] rfl ?_
              exact hj100 ()
            · refine j_locs [1, 0] rfl ?_
              exact hj9 ()
    · refine j_aload_n (pc := 29) hX 1 rfl dX2_line_29 ?_
      refine j_iconst (pc := 30) hX ic_2 dX2_line_30 ?_
      refine j_callV (pc := 31) (e1 := eR) (a := 2) (As := fun z => [.int (2 : Int32)]) (rest := []) hX (fun r e => cR_wrong_t (2 : Int32) h8 r e) ymX2_wrong (lw_V q678 q680 qs9 q141 q681) rfl ckX2 rfl ⟨Nat.le_of_ble_eq_true rfl, Nat.le_of_ble_eq_true rfl⟩ rfl rfl (Nat.le_of_ble_eq_true rfl) dX2_line_31 (fun r104 h105 => ?_)
      refine j_grd fun g106 => ?_
      exact x_throwF (pc := 34) hX hxt g106 dX2_line_34
set_option maxHeartbeats 4000000 in
set_option maxRecDepth 100000 in
theorem cR_read_35_w {X : CTX} {rr : (Nat ⊕ Nat × Nat) × HP}  (hX : okX cV X rr cX2_read RX2 2 1411 28619) (hr : (xh X).sig.returnType = some (.object "AskedCourt$Court")) (hxt : ∀ x ∈ (xc X).exceptionTable.toList, False)  (k : HP → Option ((Nat ⊕ Nat × Nat) × HP)) (hk : ∀  (h : HP), jG cV X (evX eR) rr (k  h) 50 [(0, .ref (xz X + 2))] [] h) : ∀ (n : Nat)  (h : HP), jG cV X (evX eR) rr (cR_read_35 k n  h) 35 [(0, .ref (xz X + 2))] [] h := by
  intro n
  induction n with
  | zero =>
    intro  h
    exact j_none
  | succ n ih =>
    intro  h
    rw [cR_read_35]
    refine j_aload_n (pc := 35) hX 0 rfl dX2_read_35 ?_
    refine c_getI (pc := 36) hX fgX2_33_X2.1 fgX2_33_X2.2 rfl dX2_read_36 ?_
    refine j_iconst (pc := 39) hX ic_4 dX2_read_39 ?_
    refine j_ceq (pc := 40) (tgt := 50) hX rfl dX2_read_40 (fun _ => ?_) (fun _ => ?_)
    · exact hk h
    · refine j_aload_n (pc := 43) hX 0 rfl dX2_read_43 ?_
      refine x_callV (pc := 44) (e2 := eV) (a := 2) (As := fun z => []) (rest := []) hX hxt (fun r e => cR_line_t h r e) ymX2_line (lw_V q670 q672 qs7 q141 q673) rfl ckX2 rfl ⟨Nat.le_of_ble_eq_true rfl, Nat.le_of_ble_eq_true rfl⟩ rfl rfl (Nat.le_of_ble_eq_true rfl) dX2_read_44 (fun r23 h24 => ?_)
      refine j_goto (pc := 47) (tgt := 35) hX rfl dX2_read_47 ?_
      exact ih h24
set_option maxHeartbeats 4000000 in
set_option maxRecDepth 100000 in
theorem cR_read_t   (a1 : Int32) (h : HP) (rr : (Nat ⊕ Nat × Nat) × HP) (e : cR_read a1 h = some rr) : CnX eR cV yX2_read (ws_ yX2_read cX2_read 2 (some (.object "AskedCourt$Court"))) 1411 28619 (fun z => [.ref (z + 2), .int a1]) h rr := by
  refine cnx_of (e1 := eR) (fun z => [(0, .ref (z + 2)), (1, .int a1)]) cV_ok (cR_read_m a1 h _ e) ymX2_read (fun _ => rfl) (fun _ => Nat.le_of_ble_eq_true rfl) (fun X hX hr hxt => ?_) e
  have hX : okX cV X rr cX2_read RX2 2 1411 28619 := hX
  rw [cR_read]
  refine j_aload_n (pc := 0) hX 0 rfl dX2_read_0 ?_
  refine j_iconst (pc := 1) hX ic_0 dX2_read_1 ?_
  refine c_putI (pc := 2) hX fwX2_15_X2.1 fwX2_15_X2.2 rfl dX2_read_2 (fun h1 q2 q3 => ?_)
  refine j_aload_n (pc := 5) hX 0 rfl dX2_read_5 ?_
  refine j_iload_n (pc := 6) hX 1 rfl dX2_read_6 ?_
  refine c_putI (pc := 7) hX fwX2_19_X2.1 fwX2_19_X2.2 rfl dX2_read_7 (fun h4 q5 q6 => ?_)
  refine j_aload_n (pc := 10) hX 0 rfl dX2_read_10 ?_
  refine j_iconst (pc := 11) hX ic_0 dX2_read_11 ?_
  refine c_putI (pc := 12) hX fwX2_102_X2.1 fwX2_102_X2.2 rfl dX2_read_12 (fun h7 q8 q9 => ?_)
  refine j_aload_n (pc := 15) hX 0 rfl dX2_read_15 ?_
  refine j_iconst (pc := 16) hX ic_0 dX2_read_16 ?_
  refine c_putI (pc := 17) hX fwX2_105_X2.1 fwX2_105_X2.2 rfl dX2_read_17 (fun h10 q11 q12 => ?_)
  refine j_aload_n (pc := 20) hX 0 rfl dX2_read_20 ?_
  refine j_grd fun g13 => ?_
  refine j_new (pc := 21) hX ckX3 cfX3 q534 q226 q142 (cV_vA g13) dX2_read_21 (fun b14 h15 => ?_)
  refine j_dup (pc := 24) hX rfl dX2_read_24 ?_
  refine j_callIN (pc := 25) (e1 := eV) (a := b14) (As := fun z => []) (rest := [.ref (xz X + b14), .ref (xz X + 2)]) hX (fun r e => cC_init_t b14 h15 r e) ymX3_init rfl (List.mem_of_getElem? (i := 14) rfl) q228 q142 q229 ⟨Nat.le_of_ble_eq_true rfl, Nat.le_of_ble_eq_true rfl⟩ rfl rfl (Nat.le_of_ble_eq_true rfl) dX2_read_25 (fun r16 h17 => ?_)
  refine c_putR (pc := 28) hX fwX2_111_X2.1 fwX2_111_X2.2 rfl (cV_sR rfl) dX2_read_28 (fun h18 q19 => ?_)
  refine j_aload_n (pc := 31) hX 0 rfl dX2_read_31 ?_
  refine j_callV (pc := 32) (e1 := eV) (a := 2) (As := fun z => []) (rest := []) hX (fun r e => cR_next_t h18 r e) ymX2_next (lw_V q536 q538 qs2 q141 q539) rfl ckX2 rfl ⟨Nat.le_of_ble_eq_true rfl, Nat.le_of_ble_eq_true rfl⟩ rfl rfl (Nat.le_of_ble_eq_true rfl) dX2_read_32 (fun r21 h22 => ?_)
  refine j_locs [0] rfl ?_
  refine cR_read_35_w hX hr hxt  _ (fun  h25 => ?_) FU h22
  refine j_aload_n (pc := 50) hX 0 rfl dX2_read_50 ?_
  refine j_onr fun b26 e27 => ?_
  refine c_getR (pc := 51) hX fgX2_111_X2.1 fgX2_111_X2.2 rfl e27 dX2_read_51 ?_
  exact x_aret (pc := 54) hX (Or.inl ⟨_, rfl⟩) hr dX2_read_54
set_option maxHeartbeats 4000000 in
set_option maxRecDepth 100000 in
theorem cS_begin_2_w {X : CTX} {rr : Unit × HP}  (hX : okX cV X rr cX9_begin RX9 2 4 64) (hr : (xh X).sig.returnType = none) (f0 : Nat) (k : HP → Option (Unit × HP)) (hk : ∀  (h : HP), jG cV X evV rr (k  h) 85 [(0, .ref (xz X + f0))] [] h) : ∀ (n : Nat) (v1 : Int32) (h : HP), jG cV X evV rr (cS_begin_2 f0 k n v1 h) 2 [(0, .ref (xz X + f0)), (1, .int v1)] [] h := by
  intro n
  induction n with
  | zero =>
    intro v1 h
    exact j_none
  | succ n ih =>
    intro v1 h
    rw [cS_begin_2]
    refine j_iload_n (pc := 2) hX 1 rfl dX9_begin_2 ?_
    refine j_aload_n (pc := 3) hX 0 rfl dX9_begin_3 ?_
    refine j_grd fun g2 => ?_
    refine c_getR (pc := 4) hX fgX9_3_X9.1 fgX9_3_X9.2 (k1_of g2.1) g2.2.1.2.2.2.2 dX9_begin_4 ?_
    refine j_callVN (pc := 7) (e1 := eI) (a := 0) (As := fun z => []) (rest := [.int v1]) hX (fun r e => cA_persons_t h r e) ymX1_persons (List.mem_of_getElem? (i := 18) rfl) q415 qs0 q140 q416 ckX1 rfl ⟨Nat.le_of_ble_eq_true rfl, Nat.le_of_ble_eq_true rfl⟩ rfl rfl (Nat.le_of_ble_eq_true rfl) dX9_begin_7 (fun r3 h4 => ?_)
    refine j_cge (pc := 10) (tgt := 85) hX rfl dX9_begin_10 (fun _ => ?_) (fun _ => ?_)
    · refine j_locs [0] rfl ?_
      exact hk h4
    · refine j_aload_n (pc := 13) hX 0 rfl dX9_begin_13 ?_
      refine j_grd fun g5 => ?_
      refine c_getR (pc := 14) hX fgX9_15_X9.1 fgX9_15_X9.2 (k1_of g5.1) g5.2.1.1 dX9_begin_14 ?_
      refine j_iload_n (pc := 17) hX 1 rfl dX9_begin_17 ?_
      refine j_aload_n (pc := 18) hX 0 rfl dX9_begin_18 ?_
      refine c_getR (pc := 19) hX fgX9_3_X9.1 fgX9_3_X9.2 (k1_of g5.1) g5.2.1.2.2.2.2 dX9_begin_19 ?_
      refine j_onr fun b6 e7 => ?_
      refine c_getR (pc := 22) hX fgX9_32_X1.1 fgX9_32_X1.2 rfl e7 dX9_begin_22 ?_
      refine j_grd fun g8 => ?_
      refine c_getR (pc := 25) hX fgX9_36_X3.1 fgX9_36_X3.2 (k1_of g8.1) g8.2.1.2.1 dX9_begin_25 ?_
      refine j_iload_n (pc := 28) hX 1 rfl dX9_begin_28 ?_
      refine j_grd fun g11 => ?_
      refine j_callV (pc := 29) (e1 := eR) (a := (b6 + 3)) (As := fun z => [.int v1]) (rest := [.int v1, .ref (xz X + (f0 + 1))]) hX (fun r e => cL_get_t (b6 + 3) v1 h4 r e) ymJ2_get (lw_V q421 q422 q423 q145 q424) rfl ckJ2 (k1_of g11.1) ⟨Nat.le_of_ble_eq_true rfl, Nat.le_of_ble_eq_true rfl⟩ rfl rfl (Nat.le_of_ble_eq_true rfl) dX9_begin_29 (fun r9 h10 => ?_)
      refine j_grd fun g12 => ?_
      refine j_castS (pc := 32) hX ckX13 g12 q435 dX9_begin_32 ?_
      refine c_getI (pc := 35) hX fgX9_49_X13.1 fgX9_49_X13.2 g12 dX9_begin_35 ?_
      refine j_grd fun g13 => ?_
      refine c_iast (pc := 38) (n := (gT (cV h10) (f0 + 1)).2) hX (kA_of g13) dX9_begin_38 (fun h14 q15 q16 => ?_)
      refine j_aload_n (pc := 39) hX 0 rfl dX9_begin_39 ?_
      refine j_grd fun g17 => ?_
      refine c_getR (pc := 40) hX fgX9_19_X9.1 fgX9_19_X9.2 (k1_of g17.1) g17.2.1.2.1 dX9_begin_40 ?_
      refine j_iload_n (pc := 43) hX 1 rfl dX9_begin_43 ?_
      refine j_aload_n (pc := 44) hX 0 rfl dX9_begin_44 ?_
      refine c_getR (pc := 45) hX fgX9_3_X9.1 fgX9_3_X9.2 (k1_of g17.1) g17.2.1.2.2.2.2 dX9_begin_45 ?_
      refine j_onr fun b18 e19 => ?_
      refine c_getR (pc := 48) hX fgX9_32_X1.1 fgX9_32_X1.2 rfl e19 dX9_begin_48 ?_
      refine j_grd fun g20 => ?_
      refine c_getR (pc := 51) hX fgX9_36_X3.1 fgX9_36_X3.2 (k1_of g20.1) g20.2.1.2.1 dX9_begin_51 ?_
      refine j_iload_n (pc := 54) hX 1 rfl dX9_begin_54 ?_
      refine j_grd fun g23 => ?_
      refine j_callV (pc := 55) (e1 := eR) (a := (b18 + 3)) (As := fun z => [.int v1]) (rest := [.int v1, .ref (xz X + (f0 + 2))]) hX (fun r e => cL_get_t (b18 + 3) v1 h14 r e) ymJ2_get (lw_V q421 q422 q423 q145 q424) rfl ckJ2 (k1_of g23.1) ⟨Nat.le_of_ble_eq_true rfl, Nat.le_of_ble_eq_true rfl⟩ rfl rfl (Nat.le_of_ble_eq_true rfl) dX9_begin_55 (fun r21 h22 => ?_)
      refine j_grd fun g24 => ?_
      refine j_castS (pc := 58) hX ckX13 g24 q435 dX9_begin_58 ?_
      refine c_getI (pc := 61) hX fgX9_52_X13.1 fgX9_52_X13.2 g24 dX9_begin_61 ?_
      refine j_grd fun g25 => ?_
      refine c_iast (pc := 64) (n := (gT (cV h22) (f0 + 2)).2) hX (kA_of g25) dX9_begin_64 (fun h26 q27 q28 => ?_)
      refine j_aload_n (pc := 65) hX 0 rfl dX9_begin_65 ?_
      refine j_grd fun g29 => ?_
      refine c_getR (pc := 66) hX fgX9_22_X9.1 fgX9_22_X9.2 (k1_of g29.1) g29.2.1.2.2.1 dX9_begin_66 ?_
      refine j_iload_n (pc := 69) hX 1 rfl dX9_begin_69 ?_
      refine j_iconst (pc := 70) hX ic_0 dX9_begin_70 ?_
      refine c_iast (pc := 71) (n := 5) hX g29.2.2.2.2.1 dX9_begin_71 (fun h30 q31 q32 => ?_)
      refine j_aload_n (pc := 72) hX 0 rfl dX9_begin_72 ?_
      refine c_getR (pc := 73) hX fgX9_25_X9.1 fgX9_25_X9.2 (k1_of (shS_t q31 q32 g29).1) (shS_t q31 q32 g29).2.1.2.2.2.1 dX9_begin_73 ?_
      refine j_iload_n (pc := 76) hX 1 rfl dX9_begin_76 ?_
      refine j_iconst (pc := 77) hX ic_0 dX9_begin_77 ?_
      refine c_iast (pc := 78) (n := 5) hX (shS_t q31 q32 g29).2.2.2.2.2 dX9_begin_78 (fun h33 q34 q35 => ?_)
      refine j_iinc (pc := 79) hX 1 rfl (1 : Int32) ic_1 (fun x36 => [(1, .int x36), (0, .ref (xz X + f0))]) (fun _ => rfl) (Nat.le_of_ble_eq_true rfl) dX9_begin_79 (fun x36 => ?_)
      refine j_goto (pc := 82) (tgt := 2) hX rfl dX9_begin_82 ?_
      refine j_locs [1, 0] rfl ?_
      exact ih x36 h33
set_option maxHeartbeats 4000000 in
set_option maxRecDepth 100000 in
theorem cS_begin_t   (o : Nat) (h : HP) (rr : Unit × HP) (e : cS_begin o h = some rr) : Cn cV yX9_begin (ws_ yX9_begin cX9_begin 2 (none)) 4 64 (fun z => [.ref (z + o)]) h (fun z => eV z rr.1) rr.2 := by
  refine cn_of (e1 := eV) (fun z => [(0, .ref (z + o))]) cV_ok (cS_begin_m o h _ e) ymX9_begin (fun _ => rfl) (fun _ => Nat.le_of_ble_eq_true rfl) (fun X hX hr hnm => ?_) e
  have hX : okX cV X rr cX9_begin RX9 2 4 64 := hX
  rw [cS_begin]
  refine j_iconst (pc := 0) hX ic_0 dX9_begin_0 ?_
  refine j_istore_n (pc := 1) hX (fun x1 => [(1, .int x1), (0, .ref (xz X + o))]) (fun _ => rfl) (Nat.le_of_ble_eq_true rfl) dX9_begin_1 (fun x1 => ?_)
  refine j_locs [1, 0] rfl ?_
  refine cS_begin_2_w hX hr o _ (fun  h37 => ?_) FU x1 h
  refine j_aload_n (pc := 85) hX 0 rfl dX9_begin_85 ?_
  refine j_iconst (pc := 86) hX ic_0 dX9_begin_86 ?_
  refine j_grd fun g38 => ?_
  refine c_putI (pc := 87) hX fwX9_54_X9.1 fwX9_54_X9.2 (k1_of g38.1) dX9_begin_87 (fun h39 q40 q41 => ?_)
  refine j_aload_n (pc := 90) hX 0 rfl dX9_begin_90 ?_
  refine j_iconst (pc := 91) hX ic_0 dX9_begin_91 ?_
  refine c_putI (pc := 92) hX fwX9_57_X9.1 fwX9_57_X9.2 (k1_of (shS_t q40 q41 g38).1) dX9_begin_92 (fun h42 q43 q44 => ?_)
  refine j_aload_n (pc := 95) hX 0 rfl dX9_begin_95 ?_
  refine j_aload_n (pc := 96) hX 0 rfl dX9_begin_96 ?_
  refine c_getR (pc := 97) hX fgX9_3_X9.1 fgX9_3_X9.2 (k1_of (shS_t q43 q44 (shS_t q40 q41 g38)).1) (shS_t q43 q44 (shS_t q40 q41 g38)).2.1.2.2.2.2 dX9_begin_97 ?_
  refine j_onr fun b45 e46 => ?_
  refine c_getR (pc := 100) hX fgX9_32_X1.1 fgX9_32_X1.2 rfl e46 dX9_begin_100 ?_
  refine j_grd fun g47 => ?_
  refine c_getI (pc := 103) hX fgX9_60_X3.1 fgX9_60_X3.2 (k1_of g47.1) dX9_begin_103 ?_
  refine c_putI (pc := 106) hX fwX9_63_X9.1 fwX9_63_X9.2 (k1_of (shS_t q43 q44 (shS_t q40 q41 g38)).1) dX9_begin_106 (fun h48 q49 q50 => ?_)
  refine j_aload_n (pc := 109) hX 0 rfl dX9_begin_109 ?_
  refine j_iconst (pc := 110) hX ic_m1 dX9_begin_110 ?_
  refine c_putI (pc := 111) hX fwX9_66_X9.1 fwX9_66_X9.2 (k1_of (shS_t q49 q50 (shS_t q43 q44 (shS_t q40 q41 g38))).1) dX9_begin_111 (fun h51 q52 q53 => ?_)
  refine j_aload_n (pc := 114) hX 0 rfl dX9_begin_114 ?_
  refine j_iconst (pc := 115) hX ic_0 dX9_begin_115 ?_
  refine c_putI (pc := 116) hX fwX9_69_X9.1 fwX9_69_X9.2 (k1_of (shS_t q52 q53 (shS_t q49 q50 (shS_t q43 q44 (shS_t q40 q41 g38)))).1) dX9_begin_116 (fun h54 q55 q56 => ?_)
  exact j_vret (pc := 119) hX hr dX9_begin_119
set_option maxHeartbeats 4000000 in
set_option maxRecDepth 100000 in
theorem cA_textX_t   (a1 : Int32) (h : HP) (rr : (Int32 ⊕ Nat × Nat) × HP) (e : cA_textX a1 h = some rr) : CnX eI cV yX1_text (wsW_ yX1_text cX1_text 3 (some .int) [(32, 44, 47, 158)]) 1412 28640 (fun z => [.ref (z + 0), .int a1]) h rr := by
  refine cnh_of (e1 := eI) (fun z => [(0, .ref (z + 0)), (1, .int a1)]) cV_ok (cA_textX_m a1 h _ e) ymX1_text (fun _ => rfl) (fun _ => Nat.le_of_ble_eq_true rfl) (fun X hX hr htab => ?_) e
  have hX : okX cV X rr cX1_text RX1 3 1412 28640 := hX
  rw [cA_textX]
  refine j_iload_n (pc := 0) hX 1 rfl dX1_text_0 ?_
  refine j_i2l (pc := 1) hX dX1_text_1 ?_
  refine j_lconst (pc := 2) (v := 0) hX rfl dX1_text_2 ?_
  refine j_aload_n (pc := 3) hX 0 rfl dX1_text_3 ?_
  refine c_getI (pc := 4) hX fgX1_141_X1.1 fgX1_141_X1.2 rfl dX1_text_4 ?_
  refine j_i2l (pc := 7) hX dX1_text_7 ?_
  refine j_callS (pc := 8) (e1 := eI) (As := fun z => [.long (a1).toInt64, .long (0 : Int64), .long ((gI h 0 1)).toInt64]) (rest := []) hX (fun r e => cA_in_t (a1).toInt64 (0 : Int64) ((gI h 0 1)).toInt64 h r e) ymX1_in (lw_S q527 q528 q140 q529) ⟨Nat.le_of_ble_eq_true rfl, Nat.le_of_ble_eq_true rfl⟩ rfl rfl (Nat.le_of_ble_eq_true rfl) dX1_text_8 (fun r1 h2 => ?_)
  refine j_ifne (pc := 11) (tgt := 17) hX rfl dX1_text_11 (fun _ => ?_) (fun _ => ?_)
  · refine j_bipush (pc := 14) hX bp_m2 dX1_text_14 ?_
    exact x_iret (pc := 16) hX hr dX1_text_16
  · refine j_aload_n (pc := 17) hX 0 rfl dX1_text_17 ?_
    refine j_iconst (pc := 18) hX ic_0 dX1_text_18 ?_
    refine c_putI (pc := 19) hX fwX1_141_X1.1 fwX1_141_X1.2 rfl dX1_text_19 (fun h3 q4 q5 => ?_)
    refine j_aload_n (pc := 22) hX 0 rfl dX1_text_22 ?_
    refine j_iconst (pc := 23) hX ic_0 dX1_text_23 ?_
    refine c_putI (pc := 24) hX fwX1_151_X1.1 fwX1_151_X1.2 rfl dX1_text_24 (fun h6 q7 q8 => ?_)
    refine j_aload_n (pc := 27) hX 0 rfl dX1_text_27 ?_
    refine j_iconst (pc := 28) hX ic_m1 dX1_text_28 ?_
    refine c_putI (pc := 29) hX fwX1_60_X1.1 fwX1_60_X1.2 rfl dX1_text_29 (fun h9 q10 q11 => ?_)
    refine j_aload_n (pc := 32) hX 0 rfl dX1_text_32 ?_
    refine j_aload_n (pc := 33) hX 0 rfl dX1_text_33 ?_
    refine c_getR (pc := 34) hX fgX1_69_X1.1 fgX1_69_X1.2 rfl rfl dX1_text_34 ?_
    refine j_iload_n (pc := 37) hX 1 rfl dX1_text_37 ?_
    refine h_catG (pc := 38) (c0 := 1) (e2 := eR) hX htab rfl (by decide) q526 (by decide +kernel) (fun r e => cR_read_t a1 h9 r e) (xr_V (pc := 38) (a := 2) (As := fun z => [.int a1]) (rest := [.ref (xz X + 0)]) hX ymX2_read (lw_V q530 q531 q532 q141 q533) rfl ckX2 rfl ⟨Nat.le_of_ble_eq_true rfl, Nat.le_of_ble_eq_true rfl⟩ rfl rfl (Nat.le_of_ble_eq_true rfl) dX1_text_38) (fun r12 h13 => ?_) (fun a14 h15 q16 hq17 => ?_)
    · refine c_putR (pc := 41) hX fwX1_13_X1.1 fwX1_13_X1.2 rfl (cV_sR rfl) dX1_text_41 (fun h18 q19 => ?_)
      refine j_goto (pc := 44) (tgt := 66) hX rfl dX1_text_44 ?_
      refine j_aload_n (pc := 66) hX 0 rfl dX1_text_66 ?_
      refine c_getR (pc := 67) hX fgX1_95_X1.1 fgX1_95_X1.2 rfl rfl dX1_text_67 ?_
      refine j_callV (pc := 70) (e1 := eV) (a := 20) (As := fun z => []) (rest := []) hX (fun r e => cS_begin_t 20 h18 r e) ymX9_begin (lw_V q409 q410 q411 q151 q412) rfl ckX9 rfl ⟨Nat.le_of_ble_eq_true rfl, Nat.le_of_ble_eq_true rfl⟩ rfl rfl (Nat.le_of_ble_eq_true rfl) dX1_text_70 (fun r21 h22 => ?_)
      refine j_aload_n (pc := 73) hX 0 rfl dX1_text_73 ?_
      refine j_iconst (pc := 74) hX ic_0 dX1_text_74 ?_
      refine c_putI (pc := 75) hX fwX1_166_X1.1 fwX1_166_X1.2 rfl dX1_text_75 (fun h23 q24 q25 => ?_)
      refine j_aload_n (pc := 78) hX 0 rfl dX1_text_78 ?_
      refine j_iconst (pc := 79) hX ic_0 dX1_text_79 ?_
      refine c_putZ (pc := 80) hX (Or.inl rfl) fwX1_169_X1.1 fwX1_169_X1.2 rfl dX1_text_80 (fun h26 q27 q28 => ?_)
      refine j_aload_n (pc := 83) hX 0 rfl dX1_text_83 ?_
      refine c_getR (pc := 84) hX fgX1_128_X1.1 fgX1_128_X1.2 rfl rfl dX1_text_84 ?_
      refine j_callV (pc := 87) (e1 := eV) (a := 41) (As := fun z => []) (rest := []) hX (fun r e => cL_clear_t 41 h26 r e) ymJ2_clear (lw_V q1021 q1022 q1023 q145 q1024) rfl ckJ2 rfl ⟨Nat.le_of_ble_eq_true rfl, Nat.le_of_ble_eq_true rfl⟩ rfl rfl (Nat.le_of_ble_eq_true rfl) dX1_text_87 (fun r29 h30 => ?_)
      refine j_aload_n (pc := 90) hX 0 rfl dX1_text_90 ?_
      refine j_iconst (pc := 91) hX ic_m1 dX1_text_91 ?_
      refine c_putI (pc := 92) hX fwX1_135_X1.1 fwX1_135_X1.2 rfl dX1_text_92 (fun h31 q32 q33 => ?_)
      refine j_aload_n (pc := 95) hX 0 rfl dX1_text_95 ?_
      refine j_onr fun b34 e35 => ?_
      refine c_getR (pc := 96) hX fgX1_13_X1.1 fgX1_13_X1.2 rfl e35 dX1_text_96 ?_
      refine j_grd fun g36 => ?_
      refine c_getI (pc := 99) hX fgX1_176_X3.1 fgX1_176_X3.2 (k1_of g36.1) dX1_text_99 ?_
      exact x_iret (pc := 102) hX hr dX1_text_102
    · have hq17 := hq17 rfl
      subst hq17
      refine j_astore_n (pc := 47) (ls' := [(2, .ref (xz X + a14)), (0, .ref (xz X + 0)), (1, .int a1)]) hX rfl (Nat.le_of_ble_eq_true rfl) dX1_text_47 ?_
      refine j_aload_n (pc := 48) hX 1 rfl dX1_text_48 ?_
      refine j_aload_n (pc := 49) hX 0 rfl dX1_text_49 ?_
      refine j_grd fun g37 => ?_
      refine c_getI (pc := 50) hX fgX1_160_X11.1 fgX1_160_X11.2 g37 dX1_text_50 ?_
      refine c_putI (pc := 53) hX fwX1_151_X1.1 fwX1_151_X1.2 rfl dX1_text_53 (fun h38 q39 q40 => ?_)
      refine j_aload_n (pc := 56) hX 1 rfl dX1_text_56 ?_
      refine j_aload_n (pc := 57) hX 0 rfl dX1_text_57 ?_
      refine c_getI (pc := 58) hX fgX1_163_X11.1 fgX1_163_X11.2 (kT_t q39 g37) dX1_text_58 ?_
      refine c_putI (pc := 61) hX fwX1_60_X1.1 fwX1_60_X1.2 rfl dX1_text_61 (fun h41 q42 q43 => ?_)
      refine j_iconst (pc := 64) hX ic_m1 dX1_text_64 ?_
      exact x_iret (pc := 65) hX hr dX1_text_65
theorem cA_text_t (a1 : Int32) (h : HP) (r : Int32 × HP) (e : cA_text a1 h = some r) : CnX eI cV yX1_text (wsW_ yX1_text cX1_text 3 (some .int) [(32, 44, 47, 158)]) 1412 28640 (fun z => [.ref (z + 0), .int a1]) h (.inl r.1, r.2) := cA_textX_t a1 h _ (unx_some e)
set_option maxHeartbeats 4000000 in
set_option maxRecDepth 100000 in
theorem cA_fault_t   (a1 : Int32) (h : HP) (rr : Int32 × HP) (e : cA_fault a1 h = some rr) : Cn cV yX1_fault (ws_ yX1_fault cX1_fault 2 (some .int)) 1 0 (fun z => [.ref (z + 0), .int a1]) h (fun z => eI z rr.1) rr.2 := by
  refine cn_of (e1 := eI) (fun z => [(0, .ref (z + 0)), (1, .int a1)]) cV_ok (cA_fault_m a1 h _ e) ymX1_fault (fun _ => rfl) (fun _ => Nat.le_of_ble_eq_true rfl) (fun X hX hr hnm => ?_) e
  have hX : okX cV X rr cX1_fault RX1 2 1 0 := hX
  rw [cA_fault]
  refine j_iload_n (pc := 0) hX 1 rfl dX1_fault_0 ?_
  refine j_ifne (pc := 1) (tgt := 11) hX rfl dX1_fault_1 (fun _ => ?_) (fun _ => ?_)
  · refine j_aload_n (pc := 4) hX 0 rfl dX1_fault_4 ?_
    refine c_getI (pc := 5) hX fgX1_151_X1.1 fgX1_151_X1.2 rfl dX1_fault_5 ?_
    refine j_goto (pc := 8) (tgt := 24) hX rfl dX1_fault_8 ?_
    exact j_iret (pc := 24) hX hr dX1_fault_24
  · refine j_iload_n (pc := 11) hX 1 rfl dX1_fault_11 ?_
    refine j_iconst (pc := 12) hX ic_1 dX1_fault_12 ?_
    refine j_cne (pc := 13) (tgt := 23) hX rfl dX1_fault_13 (fun _ => ?_) (fun _ => ?_)
    · refine j_aload_n (pc := 16) hX 0 rfl dX1_fault_16 ?_
      refine c_getI (pc := 17) hX fgX1_60_X1.1 fgX1_60_X1.2 rfl dX1_fault_17 ?_
      refine j_goto (pc := 20) (tgt := 24) hX rfl dX1_fault_20 ?_
      exact j_iret (pc := 24) hX hr dX1_fault_24
    · refine j_iconst (pc := 23) hX ic_m1 dX1_fault_23 ?_
      exact j_iret (pc := 24) hX hr dX1_fault_24
set_option maxHeartbeats 4000000 in
set_option maxRecDepth 100000 in
theorem cA_named_t   (a1 : Int32) (a2 : Int32) (h : HP) (rr : Int32 × HP) (e : cA_named a1 a2 h = some rr) : Cn cV yX1_named (ws_ yX1_named cX1_named 3 (some .int)) 5 86 (fun z => [.ref (z + 0), .int a1, .int a2]) h (fun z => eI z rr.1) rr.2 := by
  refine cn_of (e1 := eI) (fun z => [(0, .ref (z + 0)), (1, .int a1), (2, .int a2)]) cV_ok (cA_named_m a1 a2 h _ e) ymX1_named (fun _ => rfl) (fun _ => Nat.le_of_ble_eq_true rfl) (fun X hX hr hnm => ?_) e
  have hX : okX cV X rr cX1_named RX1 3 5 86 := hX
  rw [cA_named]
  refine j_iload_n (pc := 0) hX 1 rfl dX1_named_0 ?_
  refine j_ite (fun c1 => ?_) (fun c1 => ?_)
  · refine j_tabIn (pc := 1) (tgt := 28) hX (0) (by rw [c1]; rfl) (by decide) (by decide) rfl rfl dX1_named_1 ?_
    refine j_aload_n (pc := 28) hX 0 rfl dX1_named_28 ?_
    refine j_onr fun b2 e3 => ?_
    refine c_getR (pc := 29) hX fgX1_13_X1.1 fgX1_13_X1.2 rfl e3 dX1_named_29 ?_
    refine j_grd fun g4 => ?_
    refine c_getR (pc := 32) hX fgX1_179_X3.1 fgX1_179_X3.2 (k1_of g4.1) g4.2.1.1 dX1_named_32 ?_
    refine j_iload_n (pc := 35) hX 2 rfl dX1_named_35 ?_
    refine j_callS (pc := 36) (e1 := eI) (As := fun z => [.ref (z + (b2 + 1)), .int a2]) (rest := []) hX (fun r e => kX12_find_t (b2 + 1) a2 h r e) ymX12_find (lw_S q1033 q765 q163 q766) ⟨Nat.le_of_ble_eq_true rfl, Nat.le_of_ble_eq_true rfl⟩ rfl rfl (Nat.le_of_ble_eq_true rfl) dX1_named_36 (fun r5 h6 => ?_)
    exact j_iret (pc := 39) hX hr dX1_named_39
  · skip
    refine j_ite (fun c7 => ?_) (fun c7 => ?_)
    · refine j_tabIn (pc := 1) (tgt := 40) hX (1) (by rw [c7]; rfl) (by decide) (by decide) rfl rfl dX1_named_1 ?_
      refine j_aload_n (pc := 40) hX 0 rfl dX1_named_40 ?_
      refine j_onr fun b8 e9 => ?_
      refine c_getR (pc := 41) hX fgX1_13_X1.1 fgX1_13_X1.2 rfl e9 dX1_named_41 ?_
      refine j_grd fun g10 => ?_
      refine c_getR (pc := 44) hX fgX1_17_X3.1 fgX1_17_X3.2 (k1_of g10.1) g10.2.1.2.1 dX1_named_44 ?_
      refine j_iload_n (pc := 47) hX 2 rfl dX1_named_47 ?_
      refine j_callS (pc := 48) (e1 := eI) (As := fun z => [.ref (z + (b8 + 3)), .int a2]) (rest := []) hX (fun r e => kX12_find_t (b8 + 3) a2 h r e) ymX12_find (lw_S q1033 q765 q163 q766) ⟨Nat.le_of_ble_eq_true rfl, Nat.le_of_ble_eq_true rfl⟩ rfl rfl (Nat.le_of_ble_eq_true rfl) dX1_named_48 (fun r11 h12 => ?_)
      exact j_iret (pc := 51) hX hr dX1_named_51
    · skip
      refine j_ite (fun c13 => ?_) (fun c13 => ?_)
      · refine j_tabIn (pc := 1) (tgt := 52) hX (2) (by rw [c13]; rfl) (by decide) (by decide) rfl rfl dX1_named_1 ?_
        refine j_aload_n (pc := 52) hX 0 rfl dX1_named_52 ?_
        refine j_onr fun b14 e15 => ?_
        refine c_getR (pc := 53) hX fgX1_13_X1.1 fgX1_13_X1.2 rfl e15 dX1_named_53 ?_
        refine j_grd fun g16 => ?_
        refine c_getR (pc := 56) hX fgX1_29_X3.1 fgX1_29_X3.2 (k1_of g16.1) g16.2.1.2.2.1 dX1_named_56 ?_
        refine j_iload_n (pc := 59) hX 2 rfl dX1_named_59 ?_
        refine j_callS (pc := 60) (e1 := eI) (As := fun z => [.ref (z + (b14 + 5)), .int a2]) (rest := []) hX (fun r e => kX12_find_t (b14 + 5) a2 h r e) ymX12_find (lw_S q1033 q765 q163 q766) ⟨Nat.le_of_ble_eq_true rfl, Nat.le_of_ble_eq_true rfl⟩ rfl rfl (Nat.le_of_ble_eq_true rfl) dX1_named_60 (fun r17 h18 => ?_)
        exact j_iret (pc := 63) hX hr dX1_named_63
      · skip
        refine j_tabD (pc := 1) (tgt := 64) hX (fun n hn h1 h2 => ?_) rfl dX1_named_1 ?_
        · rcases (show n = 0 ∨ n = 1 ∨ n = 2 by omega) with rfl | rfl | rfl
          · exact absurd hn (lv_neT c1 rfl)
          · exact absurd hn (lv_neT c7 rfl)
          · exact absurd hn (lv_neT c13 rfl)
        · refine j_iconst (pc := 64) hX ic_m1 dX1_named_64 ?_
          exact j_iret (pc := 65) hX hr dX1_named_65
set_option maxHeartbeats 4000000 in
set_option maxRecDepth 100000 in
theorem cA_questions_t    (h : HP) (rr : Int32 × HP) (e : cA_questions  h = some rr) : Cn cV yX1_questions (ws_ yX1_questions cX1_questions 1 (some .int)) 2 20 (fun z => [.ref (z + 0)]) h (fun z => eI z rr.1) rr.2 := by
  refine cn_of (e1 := eI) (fun z => [(0, .ref (z + 0))]) cV_ok (cA_questions_m  h _ e) ymX1_questions (fun _ => rfl) (fun _ => Nat.le_of_ble_eq_true rfl) (fun X hX hr hnm => ?_) e
  have hX : okX cV X rr cX1_questions RX1 1 2 20 := hX
  rw [cA_questions]
  refine j_aload_n (pc := 0) hX 0 rfl dX1_questions_0 ?_
  refine j_onr fun b1 e2 => ?_
  refine c_getR (pc := 1) hX fgX1_13_X1.1 fgX1_13_X1.2 rfl e2 dX1_questions_1 ?_
  refine j_grd fun g3 => ?_
  refine c_getR (pc := 4) hX fgX1_29_X3.1 fgX1_29_X3.2 (k1_of g3.1) g3.2.1.2.2.1 dX1_questions_4 ?_
  refine j_grd fun g6 => ?_
  refine j_callV (pc := 7) (e1 := eI) (a := (b1 + 5)) (As := fun z => []) (rest := []) hX (fun r e => cL_size_t (b1 + 5) h r e) ymJ2_size (lw_V q417 q418 q419 q145 q420) rfl ckJ2 (k1_of g6.1) ⟨Nat.le_of_ble_eq_true rfl, Nat.le_of_ble_eq_true rfl⟩ rfl rfl (Nat.le_of_ble_eq_true rfl) dX1_questions_7 (fun r4 h5 => ?_)
  exact j_iret (pc := 10) hX hr dX1_questions_10
set_option maxHeartbeats 4000000 in
set_option maxRecDepth 100000 in
theorem cA_isQuestion_t   (a1 : Int32) (h : HP) (rr : Int32 × HP) (e : cA_isQuestion a1 h = some rr) : Cn cV yX1_isQuestion (ws_ yX1_isQuestion cX1_isQuestion 2 (some .boolean)) 3 40 (fun z => [.ref (z + 0), .int a1]) h (fun z => eI z rr.1) rr.2 := by
  refine cn_of (e1 := eI) (fun z => [(0, .ref (z + 0)), (1, .int a1)]) cV_ok (cA_isQuestion_m a1 h _ e) ymX1_isQuestion (fun _ => rfl) (fun _ => Nat.le_of_ble_eq_true rfl) (fun X hX hr hnm => ?_) e
  have hX : okX cV X rr cX1_isQuestion RX1 2 3 40 := hX
  rw [cA_isQuestion]
  refine j_iload_n (pc := 0) hX 1 rfl dX1_isQuestion_0 ?_
  refine j_i2l (pc := 1) hX dX1_isQuestion_1 ?_
  refine j_lconst (pc := 2) (v := 0) hX rfl dX1_isQuestion_2 ?_
  refine j_aload_n (pc := 3) hX 0 rfl dX1_isQuestion_3 ?_
  refine j_callV (pc := 4) (e1 := eI) (a := 0) (As := fun z => []) (rest := [.long (0 : Int64), .long (a1).toInt64]) hX (fun r e => cA_questions_t h r e) ymX1_questions (lw_V q1042 q1044 qs35 q140 q1045) rfl ckX1 rfl ⟨Nat.le_of_ble_eq_true rfl, Nat.le_of_ble_eq_true rfl⟩ rfl rfl (Nat.le_of_ble_eq_true rfl) dX1_isQuestion_4 (fun r1 h2 => ?_)
  refine j_iconst (pc := 7) hX ic_1 dX1_isQuestion_7 ?_
  refine j_isub (pc := 8) hX dX1_isQuestion_8 ?_
  refine j_i2l (pc := 9) hX dX1_isQuestion_9 ?_
  refine j_callS (pc := 10) (e1 := eI) (As := fun z => [.long (a1).toInt64, .long (0 : Int64), .long ((r1 - (1 : Int32))).toInt64]) (rest := []) hX (fun r e => cA_in_t (a1).toInt64 (0 : Int64) ((r1 - (1 : Int32))).toInt64 h2 r e) ymX1_in (lw_S q527 q528 q140 q529) ⟨Nat.le_of_ble_eq_true rfl, Nat.le_of_ble_eq_true rfl⟩ rfl rfl (Nat.le_of_ble_eq_true rfl) dX1_isQuestion_10 (fun r3 h4 => ?_)
  refine j_grd fun g5 => ?_
  exact j_zret (pc := 13) hX g5 hr dX1_isQuestion_13
set_option maxHeartbeats 4000000 in
set_option maxRecDepth 100000 in
theorem cA_question_t   (a1 : Int32) (a2 : Int32) (h : HP) (rr : Int32 × HP) (e : cA_question a1 a2 h = some rr) : Cn cV yX1_question (ws_ yX1_question cX1_question 4 (some .int)) 4 64 (fun z => [.ref (z + 0), .int a1, .int a2]) h (fun z => eI z rr.1) rr.2 := by
  refine cn_of (e1 := eI) (fun z => [(0, .ref (z + 0)), (1, .int a1), (2, .int a2)]) cV_ok (cA_question_m a1 a2 h _ e) ymX1_question (fun _ => rfl) (fun _ => Nat.le_of_ble_eq_true rfl) (fun X hX hr hnm => ?_) e
  have hX : okX cV X rr cX1_question RX1 4 4 64 := hX
  rw [cA_question]
  refine j_aload_n (pc := 0) hX 0 rfl dX1_question_0 ?_
  refine j_iload_n (pc := 1) hX 1 rfl dX1_question_1 ?_
  refine j_callV (pc := 2) (e1 := eI) (a := 0) (As := fun z => [.int a1]) (rest := []) hX (fun r e => cA_isQuestion_t a1 h r e) ymX1_isQuestion (lw_V q1038 q1040 qs34 q140 q1041) rfl ckX1 rfl ⟨Nat.le_of_ble_eq_true rfl, Nat.le_of_ble_eq_true rfl⟩ rfl rfl (Nat.le_of_ble_eq_true rfl) dX1_question_2 (fun r1 h2 => ?_)
  refine j_ifne (pc := 5) (tgt := 11) hX rfl dX1_question_5 (fun _ => ?_) (fun _ => ?_)
  · refine j_bipush (pc := 8) hX bp_m2 dX1_question_8 ?_
    exact j_iret (pc := 10) hX hr dX1_question_10
  · refine j_aload_n (pc := 11) hX 0 rfl dX1_question_11 ?_
    refine j_onr fun b3 e4 => ?_
    refine c_getR (pc := 12) hX fgX1_13_X1.1 fgX1_13_X1.2 rfl e4 dX1_question_12 ?_
    refine j_grd fun g5 => ?_
    refine c_getR (pc := 15) hX fgX1_29_X3.1 fgX1_29_X3.2 (k1_of g5.1) g5.2.1.2.2.1 dX1_question_15 ?_
    refine j_iload_n (pc := 18) hX 1 rfl dX1_question_18 ?_
    refine j_grd fun g8 => ?_
    refine j_callV (pc := 19) (e1 := eR) (a := (b3 + 5)) (As := fun z => [.int a1]) (rest := []) hX (fun r e => cL_get_t (b3 + 5) a1 h2 r e) ymJ2_get (lw_V q1046 q422 q423 q145 q424) rfl ckJ2 (k1_of g8.1) ⟨Nat.le_of_ble_eq_true rfl, Nat.le_of_ble_eq_true rfl⟩ rfl rfl (Nat.le_of_ble_eq_true rfl) dX1_question_19 (fun r6 h7 => ?_)
    refine j_grd fun g9 => ?_
    refine j_castS (pc := 22) hX ckX14 g9 q1047 dX1_question_22 ?_
    refine j_astore_n (pc := 25) (ls' := [(3, .ref (xz X + r6)), (0, .ref (xz X + 0)), (1, .int a1), (2, .int a2)]) hX rfl (Nat.le_of_ble_eq_true rfl) dX1_question_25 ?_
    refine j_iload_n (pc := 26) hX 3 rfl dX1_question_26 ?_
    refine j_ite (fun c10 => ?_) (fun c10 => ?_)
    · refine j_tabIn (pc := 27) (tgt := 56) hX (0) (by rw [c10]; rfl) (by decide) (by decide) rfl rfl dX1_question_27 ?_
      refine j_aload_n (pc := 56) hX 0 rfl dX1_question_56 ?_
      refine c_getI (pc := 57) hX fgX1_231_X14.1 fgX1_231_X14.2 g9 dX1_question_57 ?_
      exact j_iret (pc := 60) hX hr dX1_question_60
    · skip
      refine j_ite (fun c11 => ?_) (fun c11 => ?_)
      · refine j_tabIn (pc := 27) (tgt := 61) hX (1) (by rw [c11]; rfl) (by decide) (by decide) rfl rfl dX1_question_27 ?_
        refine j_aload_n (pc := 61) hX 0 rfl dX1_question_61 ?_
        refine c_getI (pc := 62) hX fgX1_232_X14.1 fgX1_232_X14.2 g9 dX1_question_62 ?_
        exact j_iret (pc := 65) hX hr dX1_question_65
      · skip
        refine j_ite (fun c12 => ?_) (fun c12 => ?_)
        · refine j_tabIn (pc := 27) (tgt := 66) hX (2) (by rw [c12]; rfl) (by decide) (by decide) rfl rfl dX1_question_27 ?_
          refine j_aload_n (pc := 66) hX 0 rfl dX1_question_66 ?_
          refine c_getI (pc := 67) hX fgX1_235_X14.1 fgX1_235_X14.2 g9 dX1_question_67 ?_
          exact j_iret (pc := 70) hX hr dX1_question_70
        · skip
          refine j_ite (fun c13 => ?_) (fun c13 => ?_)
          · refine j_tabIn (pc := 27) (tgt := 71) hX (3) (by rw [c13]; rfl) (by decide) (by decide) rfl rfl dX1_question_27 ?_
            refine j_aload_n (pc := 71) hX 0 rfl dX1_question_71 ?_
            refine c_getI (pc := 72) hX fgX1_238_X14.1 fgX1_238_X14.2 g9 dX1_question_72 ?_
            exact j_iret (pc := 75) hX hr dX1_question_75
          · skip
            refine j_tabD (pc := 27) (tgt := 76) hX (fun n hn h1 h2 => ?_) rfl dX1_question_27 ?_
            · rcases (show n = 0 ∨ n = 1 ∨ n = 2 ∨ n = 3 by omega) with rfl | rfl | rfl | rfl
              · exact absurd hn (lv_neT c10 rfl)
              · exact absurd hn (lv_neT c11 rfl)
              · exact absurd hn (lv_neT c12 rfl)
              · exact absurd hn (lv_neT c13 rfl)
            · refine j_bipush (pc := 76) hX bp_m2 dX1_question_76 ?_
              exact j_iret (pc := 78) hX hr dX1_question_78
set_option maxHeartbeats 4000000 in
set_option maxRecDepth 100000 in
theorem cA_isPerson_t   (a1 : Int32) (h : HP) (rr : Int32 × HP) (e : cA_isPerson a1 h = some rr) : Cn cV yX1_isPerson (ws_ yX1_isPerson cX1_isPerson 2 (some .boolean)) 3 40 (fun z => [.ref (z + 0), .int a1]) h (fun z => eI z rr.1) rr.2 := by
  refine cn_of (e1 := eI) (fun z => [(0, .ref (z + 0)), (1, .int a1)]) cV_ok (cA_isPerson_m a1 h _ e) ymX1_isPerson (fun _ => rfl) (fun _ => Nat.le_of_ble_eq_true rfl) (fun X hX hr hnm => ?_) e
  have hX : okX cV X rr cX1_isPerson RX1 2 3 40 := hX
  rw [cA_isPerson]
  refine j_iload_n (pc := 0) hX 1 rfl dX1_isPerson_0 ?_
  refine j_i2l (pc := 1) hX dX1_isPerson_1 ?_
  refine j_lconst (pc := 2) (v := 0) hX rfl dX1_isPerson_2 ?_
  refine j_aload_n (pc := 3) hX 0 rfl dX1_isPerson_3 ?_
  refine j_callV (pc := 4) (e1 := eI) (a := 0) (As := fun z => []) (rest := [.long (0 : Int64), .long (a1).toInt64]) hX (fun r e => cA_persons_t h r e) ymX1_persons (lw_V q1060 q415 qs0 q140 q416) rfl ckX1 rfl ⟨Nat.le_of_ble_eq_true rfl, Nat.le_of_ble_eq_true rfl⟩ rfl rfl (Nat.le_of_ble_eq_true rfl) dX1_isPerson_4 (fun r1 h2 => ?_)
  refine j_iconst (pc := 7) hX ic_1 dX1_isPerson_7 ?_
  refine j_isub (pc := 8) hX dX1_isPerson_8 ?_
  refine j_i2l (pc := 9) hX dX1_isPerson_9 ?_
  refine j_callS (pc := 10) (e1 := eI) (As := fun z => [.long (a1).toInt64, .long (0 : Int64), .long ((r1 - (1 : Int32))).toInt64]) (rest := []) hX (fun r e => cA_in_t (a1).toInt64 (0 : Int64) ((r1 - (1 : Int32))).toInt64 h2 r e) ymX1_in (lw_S q527 q528 q140 q529) ⟨Nat.le_of_ble_eq_true rfl, Nat.le_of_ble_eq_true rfl⟩ rfl rfl (Nat.le_of_ble_eq_true rfl) dX1_isPerson_10 (fun r3 h4 => ?_)
  refine j_grd fun g5 => ?_
  exact j_zret (pc := 13) hX g5 hr dX1_isPerson_13
set_option maxHeartbeats 4000000 in
set_option maxRecDepth 100000 in
theorem cA_areTwo_t   (a1 : Int32) (a2 : Int32) (h : HP) (rr : Int32 × HP) (e : cA_areTwo a1 a2 h = some rr) : Cn cV yX1_areTwo (ws_ yX1_areTwo cX1_areTwo 3 (some .boolean)) 4 61 (fun z => [.ref (z + 0), .int a1, .int a2]) h (fun z => eI z rr.1) rr.2 := by
  refine cn_of (e1 := eI) (fun z => [(0, .ref (z + 0)), (1, .int a1), (2, .int a2)]) cV_ok (cA_areTwo_m a1 a2 h _ e) ymX1_areTwo (fun _ => rfl) (fun _ => Nat.le_of_ble_eq_true rfl) (fun X hX hr hnm => ?_) e
  have hX : okX cV X rr cX1_areTwo RX1 3 4 61 := hX
  rw [cA_areTwo]
  refine j_aload_n (pc := 0) hX 0 rfl dX1_areTwo_0 ?_
  refine j_iload_n (pc := 1) hX 1 rfl dX1_areTwo_1 ?_
  refine j_callV (pc := 2) (e1 := eI) (a := 0) (As := fun z => [.int a1]) (rest := []) hX (fun r e => cA_isPerson_t a1 h r e) ymX1_isPerson (lw_V q1056 q1058 qs37 q140 q1059) rfl ckX1 rfl ⟨Nat.le_of_ble_eq_true rfl, Nat.le_of_ble_eq_true rfl⟩ rfl rfl (Nat.le_of_ble_eq_true rfl) dX1_areTwo_2 (fun r1 h2 => ?_)
  refine j_ifeq (pc := 5) (tgt := 25) hX rfl dX1_areTwo_5 (fun _ => ?_) (fun _ => ?_)
  · refine j_iconst (pc := 25) hX ic_0 dX1_areTwo_25 ?_
    exact j_zret (pc := 26) hX (Or.inl rfl) hr dX1_areTwo_26
  · refine j_aload_n (pc := 8) hX 0 rfl dX1_areTwo_8 ?_
    refine j_iload_n (pc := 9) hX 2 rfl dX1_areTwo_9 ?_
    refine j_callV (pc := 10) (e1 := eI) (a := 0) (As := fun z => [.int a2]) (rest := []) hX (fun r e => cA_isPerson_t a2 h2 r e) ymX1_isPerson (lw_V q1056 q1058 qs37 q140 q1059) rfl ckX1 rfl ⟨Nat.le_of_ble_eq_true rfl, Nat.le_of_ble_eq_true rfl⟩ rfl rfl (Nat.le_of_ble_eq_true rfl) dX1_areTwo_10 (fun r3 h4 => ?_)
    refine j_ifeq (pc := 13) (tgt := 25) hX rfl dX1_areTwo_13 (fun _ => ?_) (fun _ => ?_)
    · refine j_iconst (pc := 25) hX ic_0 dX1_areTwo_25 ?_
      exact j_zret (pc := 26) hX (Or.inl rfl) hr dX1_areTwo_26
    · refine j_iload_n (pc := 16) hX 1 rfl dX1_areTwo_16 ?_
      refine j_iload_n (pc := 17) hX 2 rfl dX1_areTwo_17 ?_
      refine j_ceq (pc := 18) (tgt := 25) hX rfl dX1_areTwo_18 (fun _ => ?_) (fun _ => ?_)
      · refine j_iconst (pc := 25) hX ic_0 dX1_areTwo_25 ?_
        exact j_zret (pc := 26) hX (Or.inl rfl) hr dX1_areTwo_26
      · refine j_iconst (pc := 21) hX ic_1 dX1_areTwo_21 ?_
        refine j_goto (pc := 22) (tgt := 26) hX rfl dX1_areTwo_22 ?_
        exact j_zret (pc := 26) hX (Or.inr rfl) hr dX1_areTwo_26
set_option maxHeartbeats 4000000 in
set_option maxRecDepth 100000 in
theorem cS_isThere_t   (o : Nat) (a1 : Int32) (h : HP) (rr : Int32 × HP) (e : cS_isThere o a1 h = some rr) : Cn cV yX9_isThere (ws_ yX9_isThere cX9_isThere 2 (some .boolean)) 1 0 (fun z => [.ref (z + o), .int a1]) h (fun z => eI z rr.1) rr.2 := by
  refine cn_of (e1 := eI) (fun z => [(0, .ref (z + o)), (1, .int a1)]) cV_ok (cS_isThere_m o a1 h _ e) ymX9_isThere (fun _ => rfl) (fun _ => Nat.le_of_ble_eq_true rfl) (fun X hX hr hnm => ?_) e
  have hX : okX cV X rr cX9_isThere RX9 2 1 0 := hX
  rw [cS_isThere]
  refine j_aload_n (pc := 0) hX 0 rfl dX9_isThere_0 ?_
  refine j_grd fun g1 => ?_
  refine c_getI (pc := 1) hX fgX9_69_X9.1 fgX9_69_X9.2 (k1_of g1.1) dX9_isThere_1 ?_
  refine j_iload_n (pc := 4) hX 1 rfl dX9_isThere_4 ?_
  refine j_ishr (pc := 5) hX dX9_isThere_5 ?_
  refine j_iconst (pc := 6) hX ic_1 dX9_isThere_6 ?_
  refine j_iand (pc := 7) hX dX9_isThere_7 ?_
  refine j_ifne (pc := 8) (tgt := 15) hX rfl dX9_isThere_8 (fun _ => ?_) (fun _ => ?_)
  · refine j_iconst (pc := 11) hX ic_1 dX9_isThere_11 ?_
    refine j_goto (pc := 12) (tgt := 16) hX rfl dX9_isThere_12 ?_
    exact j_zret (pc := 16) hX (Or.inr rfl) hr dX9_isThere_16
  · refine j_iconst (pc := 15) hX ic_0 dX9_isThere_15 ?_
    exact j_zret (pc := 16) hX (Or.inl rfl) hr dX9_isThere_16
set_option maxHeartbeats 4000000 in
set_option maxRecDepth 100000 in
theorem cS_areTogether_t   (o : Nat) (a1 : Int32) (a2 : Int32) (h : HP) (rr : Int32 × HP) (e : cS_areTogether o a1 a2 h = some rr) : Cn cV yX9_areTogether (ws_ yX9_areTogether cX9_areTogether 3 (some .boolean)) 2 21 (fun z => [.ref (z + o), .int a1, .int a2]) h (fun z => eI z rr.1) rr.2 := by
  refine cn_of (e1 := eI) (fun z => [(0, .ref (z + o)), (1, .int a1), (2, .int a2)]) cV_ok (cS_areTogether_m o a1 a2 h _ e) ymX9_areTogether (fun _ => rfl) (fun _ => Nat.le_of_ble_eq_true rfl) (fun X hX hr hnm => ?_) e
  have hX : okX cV X rr cX9_areTogether RX9 3 2 21 := hX
  rw [cS_areTogether]
  refine j_aload_n (pc := 0) hX 0 rfl dX9_areTogether_0 ?_
  refine j_iload_n (pc := 1) hX 1 rfl dX9_areTogether_1 ?_
  refine j_grd fun g3 => ?_
  refine j_callV (pc := 2) (e1 := eI) (a := o) (As := fun z => [.int a1]) (rest := []) hX (fun r e => cS_isThere_t o a1 h r e) ymX9_isThere (lw_V q1070 q1071 q1072 q151 q1073) rfl ckX9 (k1_of g3.1) ⟨Nat.le_of_ble_eq_true rfl, Nat.le_of_ble_eq_true rfl⟩ rfl rfl (Nat.le_of_ble_eq_true rfl) dX9_areTogether_2 (fun r1 h2 => ?_)
  refine j_ifeq (pc := 5) (tgt := 43) hX rfl dX9_areTogether_5 (fun _ => ?_) (fun _ => ?_)
  · refine j_iconst (pc := 43) hX ic_0 dX9_areTogether_43 ?_
    exact j_zret (pc := 44) hX (Or.inl rfl) hr dX9_areTogether_44
  · refine j_aload_n (pc := 8) hX 0 rfl dX9_areTogether_8 ?_
    refine j_iload_n (pc := 9) hX 2 rfl dX9_areTogether_9 ?_
    refine j_grd fun g6 => ?_
    refine j_callV (pc := 10) (e1 := eI) (a := o) (As := fun z => [.int a2]) (rest := []) hX (fun r e => cS_isThere_t o a2 h2 r e) ymX9_isThere (lw_V q1070 q1071 q1072 q151 q1073) rfl ckX9 (k1_of g6.1) ⟨Nat.le_of_ble_eq_true rfl, Nat.le_of_ble_eq_true rfl⟩ rfl rfl (Nat.le_of_ble_eq_true rfl) dX9_areTogether_10 (fun r4 h5 => ?_)
    refine j_ifeq (pc := 13) (tgt := 43) hX rfl dX9_areTogether_13 (fun _ => ?_) (fun _ => ?_)
    · refine j_iconst (pc := 43) hX ic_0 dX9_areTogether_43 ?_
      exact j_zret (pc := 44) hX (Or.inl rfl) hr dX9_areTogether_44
    · refine j_aload_n (pc := 16) hX 0 rfl dX9_areTogether_16 ?_
      refine j_grd fun g7 => ?_
      refine c_getI (pc := 17) hX fgX9_66_X9.1 fgX9_66_X9.2 (k1_of g7.1) dX9_areTogether_17 ?_
      refine j_iconst (pc := 20) hX ic_1 dX9_areTogether_20 ?_
      refine j_ceq (pc := 21) (tgt := 39) hX rfl dX9_areTogether_21 (fun _ => ?_) (fun _ => ?_)
      · refine j_iconst (pc := 39) hX ic_1 dX9_areTogether_39 ?_
        refine j_goto (pc := 40) (tgt := 44) hX rfl dX9_areTogether_40 ?_
        exact j_zret (pc := 44) hX (Or.inr rfl) hr dX9_areTogether_44
      · refine j_aload_n (pc := 24) hX 0 rfl dX9_areTogether_24 ?_
        refine c_getR (pc := 25) hX fgX9_19_X9.1 fgX9_19_X9.2 (k1_of g7.1) g7.2.1.2.1 dX9_areTogether_25 ?_
        refine j_iload_n (pc := 28) hX 1 rfl dX9_areTogether_28 ?_
        refine j_iald (pc := 29) (n := 5) hX g7.2.2.2.1 dX9_areTogether_29 (fun _ => ?_)
        refine j_aload_n (pc := 30) hX 0 rfl dX9_areTogether_30 ?_
        refine c_getR (pc := 31) hX fgX9_19_X9.1 fgX9_19_X9.2 (k1_of g7.1) g7.2.1.2.1 dX9_areTogether_31 ?_
        refine j_iload_n (pc := 34) hX 2 rfl dX9_areTogether_34 ?_
        refine j_iald (pc := 35) (n := 5) hX g7.2.2.2.1 dX9_areTogether_35 (fun _ => ?_)
        refine j_cne (pc := 36) (tgt := 43) hX rfl dX9_areTogether_36 (fun _ => ?_) (fun _ => ?_)
        · refine j_iconst (pc := 39) hX ic_1 dX9_areTogether_39 ?_
          refine j_goto (pc := 40) (tgt := 44) hX rfl dX9_areTogether_40 ?_
          exact j_zret (pc := 44) hX (Or.inr rfl) hr dX9_areTogether_44
        · refine j_iconst (pc := 43) hX ic_0 dX9_areTogether_43 ?_
          exact j_zret (pc := 44) hX (Or.inl rfl) hr dX9_areTogether_44
set_option maxHeartbeats 4000000 in
set_option maxRecDepth 100000 in
theorem kX4_bit_t   (a1 : Int32) (h : HP) (rr : Int32 × HP) (e : kX4_bit a1 h = some rr) : Cn cV yX4_bit (ws_ yX4_bit cX4_bit 1 (some .int)) 1 0 (fun z => [.int a1]) h (fun z => eI z rr.1) rr.2 := by
  refine cn_of (e1 := eI) (fun z => [(0, .int a1)]) cV_ok (kX4_bit_m a1 h _ e) ymX4_bit (fun _ => rfl) (fun _ => Nat.le_of_ble_eq_true rfl) (fun X hX hr hnm => ?_) e
  have hX : okX cV X rr cX4_bit RX4 1 1 0 := hX
  rw [kX4_bit]
  refine j_iload_n (pc := 0) hX 0 rfl dX4_bit_0 ?_
  refine j_iconst (pc := 1) hX ic_m1 dX4_bit_1 ?_
  refine j_cne (pc := 2) (tgt := 9) hX rfl dX4_bit_2 (fun _ => ?_) (fun _ => ?_)
  · refine j_iconst (pc := 5) hX ic_0 dX4_bit_5 ?_
    refine j_goto (pc := 6) (tgt := 12) hX rfl dX4_bit_6 ?_
    exact j_iret (pc := 12) hX hr dX4_bit_12
  · refine j_iconst (pc := 9) hX ic_1 dX4_bit_9 ?_
    refine j_iload_n (pc := 10) hX 0 rfl dX4_bit_10 ?_
    refine j_ishl (pc := 11) hX dX4_bit_11 ?_
    exact j_iret (pc := 12) hX hr dX4_bit_12
set_option maxHeartbeats 4000000 in
set_option maxRecDepth 100000 in
theorem kX5_supposes_t   (o : Nat) (a1 : Nat) (h : HP) (rr : Int32 × HP) (e : kX5_supposes o a1 h = some rr) : Cn cV yX5_supposes (ws_ yX5_supposes cX5_supposes 2 (some .int)) 2 20 (fun z => [.ref (z + o), .ref (z + a1)]) h (fun z => eI z rr.1) rr.2 := by
  refine cn_of (e1 := eI) (fun z => [(0, .ref (z + o)), (1, .ref (z + a1))]) cV_ok (kX5_supposes_m o a1 h _ e) ymX5_supposes (fun _ => rfl) (fun _ => Nat.le_of_ble_eq_true rfl) (fun X hX hr hnm => ?_) e
  have hX : okX cV X rr cX5_supposes RX5 2 2 20 := hX
  rw [kX5_supposes]
  refine j_aload_n (pc := 0) hX 1 rfl dX5_supposes_0 ?_
  refine j_grd fun g1 => ?_
  refine c_getI (pc := 1) hX fgX5_7_X14.1 fgX5_7_X14.2 g1 dX5_supposes_1 ?_
  refine j_callSS (pc := 4) (e1 := eI) (x := ⟨"AskedCourt$Plain", "bit", "(I)I"⟩) (owner := "AskedCourt$Kind") (As := fun z => [.int (gI h a1 2)]) (rest := []) hX (fun r e => kX4_bit_t (gI h a1 2) h r e) ymX4_bit q1080 q1081 q1082 q146 q1083 ⟨Nat.le_of_ble_eq_true rfl, Nat.le_of_ble_eq_true rfl⟩ rfl rfl (Nat.le_of_ble_eq_true rfl) dX5_supposes_4 (fun r2 h3 => ?_)
  exact j_iret (pc := 7) hX hr dX5_supposes_7
set_option maxHeartbeats 4000000 in
set_option maxRecDepth 100000 in
theorem kX6_supposes_t   (o : Nat) (a1 : Nat) (h : HP) (rr : Int32 × HP) (e : kX6_supposes o a1 h = some rr) : Cn cV yX6_supposes (ws_ yX6_supposes cX6_supposes 2 (some .int)) 3 41 (fun z => [.ref (z + o), .ref (z + a1)]) h (fun z => eI z rr.1) rr.2 := by
  refine cn_of (e1 := eI) (fun z => [(0, .ref (z + o)), (1, .ref (z + a1))]) cV_ok (kX6_supposes_m o a1 h _ e) ymX6_supposes (fun _ => rfl) (fun _ => Nat.le_of_ble_eq_true rfl) (fun X hX hr hnm => ?_) e
  have hX : okX cV X rr cX6_supposes RX6 2 3 41 := hX
  rw [kX6_supposes]
  refine j_aload_n (pc := 0) hX 0 rfl dX6_supposes_0 ?_
  refine j_aload_n (pc := 1) hX 1 rfl dX6_supposes_1 ?_
  refine j_grd fun g3 => ?_
  refine j_callSU (pc := 2) (e1 := eI) (a := o) (As := fun z => [.ref (z + a1)]) (rest := []) hX (fun r e => kX5_supposes_t o a1 h r e) ymX5_supposes (by decide) q1089 q2323 q340 q1078 q147 q1079 ckX6 g3 ⟨Nat.le_of_ble_eq_true rfl, Nat.le_of_ble_eq_true rfl⟩ rfl rfl (Nat.le_of_ble_eq_true rfl) dX6_supposes_2 (fun r1 h2 => ?_)
  refine j_aload_n (pc := 5) hX 1 rfl dX6_supposes_5 ?_
  refine j_grd fun g4 => ?_
  refine c_getI (pc := 6) hX fgX6_11_X14.1 fgX6_11_X14.2 g4 dX6_supposes_6 ?_
  refine j_callSS (pc := 9) (e1 := eI) (x := ⟨"AskedCourt$Twofold", "bit", "(I)I"⟩) (owner := "AskedCourt$Kind") (As := fun z => [.int (gI h2 a1 3)]) (rest := [.int r1]) hX (fun r e => kX4_bit_t (gI h2 a1 3) h2 r e) ymX4_bit q1090 q1091 q1082 q146 q1083 ⟨Nat.le_of_ble_eq_true rfl, Nat.le_of_ble_eq_true rfl⟩ rfl rfl (Nat.le_of_ble_eq_true rfl) dX6_supposes_9 (fun r5 h6 => ?_)
  refine j_ior (pc := 12) hX dX6_supposes_12 ?_
  exact j_iret (pc := 13) hX hr dX6_supposes_13
set_option maxHeartbeats 4000000 in
set_option maxRecDepth 100000 in
theorem cS_can_t   (o : Nat) (a1 : Int32) (a2 : Int32) (a3 : Int32) (a4 : Int32) (h : HP) (rr : Int32 × HP) (e : cS_can o a1 a2 a3 a4 h = some rr) : Cn cV yX9_can (ws_ yX9_can cX9_can 6 (some .boolean)) 4 64 (fun z => [.ref (z + o), .int a1, .int a2, .int a3, .int a4]) h (fun z => eI z rr.1) rr.2 := by
  refine cn_of (e1 := eI) (fun z => [(0, .ref (z + o)), (1, .int a1), (2, .int a2), (3, .int a3), (4, .int a4)]) cV_ok (cS_can_m o a1 a2 a3 a4 h _ e) ymX9_can (fun _ => rfl) (fun _ => Nat.le_of_ble_eq_true rfl) (fun X hX hr hnm => ?_) e
  have hX : okX cV X rr cX9_can RX9 6 4 64 := hX
  rw [cS_can]
  refine j_aload_n (pc := 0) hX 0 rfl dX9_can_0 ?_
  refine j_grd fun g1 => ?_
  refine c_getR (pc := 1) hX fgX9_3_X9.1 fgX9_3_X9.2 (k1_of g1.1) g1.2.1.2.2.2.2 dX9_can_1 ?_
  refine j_onr fun b2 e3 => ?_
  refine c_getR (pc := 4) hX fgX9_32_X1.1 fgX9_32_X1.2 rfl e3 dX9_can_4 ?_
  refine j_grd fun g4 => ?_
  refine c_getR (pc := 7) hX fgX9_134_X3.1 fgX9_134_X3.2 (k1_of g4.1) g4.2.1.2.2.1 dX9_can_7 ?_
  refine j_iload_n (pc := 10) hX 3 rfl dX9_can_10 ?_
  refine j_grd fun g7 => ?_
  refine j_callV (pc := 11) (e1 := eR) (a := (b2 + 5)) (As := fun z => [.int a3]) (rest := []) hX (fun r e => cL_get_t (b2 + 5) a3 h r e) ymJ2_get (lw_V q421 q422 q423 q145 q424) rfl ckJ2 (k1_of g7.1) ⟨Nat.le_of_ble_eq_true rfl, Nat.le_of_ble_eq_true rfl⟩ rfl rfl (Nat.le_of_ble_eq_true rfl) dX9_can_11 (fun r5 h6 => ?_)
  refine j_grd fun g8 => ?_
  refine j_castS (pc := 14) hX ckX14 g8 q1065 dX9_can_14 ?_
  refine j_astore (pc := 17) (ls' := [(5, .ref (xz X + r5)), (0, .ref (xz X + o)), (1, .int a1), (2, .int a2), (3, .int a3), (4, .int a4)]) hX rfl (Nat.le_of_ble_eq_true rfl) dX9_can_17 ?_
  refine j_iload_n (pc := 19) hX 2 rfl dX9_can_19 ?_
  refine j_iload_n (pc := 20) hX 3 rfl dX9_can_20 ?_
  refine j_ceq (pc := 21) (tgt := 73) hX rfl dX9_can_21 (fun _ => ?_) (fun _ => ?_)
  · refine j_iconst (pc := 73) hX ic_0 dX9_can_73 ?_
    exact j_zret (pc := 74) hX (Or.inl rfl) hr dX9_can_74
  · refine j_aload_n (pc := 24) hX 1 rfl dX9_can_24 ?_
    refine j_iload_n (pc := 25) hX 2 rfl dX9_can_25 ?_
    refine j_iload_n (pc := 26) hX 3 rfl dX9_can_26 ?_
    refine j_grd fun g11 => ?_
    refine j_callV (pc := 27) (e1 := eI) (a := o) (As := fun z => [.int a1, .int a2]) (rest := []) hX (fun r e => cS_areTogether_t o a1 a2 h6 r e) ymX9_areTogether (lw_V q1066 q1067 q1068 q151 q1069) rfl ckX9 (k1_of g11.1) ⟨Nat.le_of_ble_eq_true rfl, Nat.le_of_ble_eq_true rfl⟩ rfl rfl (Nat.le_of_ble_eq_true rfl) dX9_can_27 (fun r9 h10 => ?_)
    refine j_ifeq (pc := 30) (tgt := 73) hX rfl dX9_can_30 (fun _ => ?_) (fun _ => ?_)
    · refine j_iconst (pc := 73) hX ic_0 dX9_can_73 ?_
      exact j_zret (pc := 74) hX (Or.inl rfl) hr dX9_can_74
    · refine j_aload_n (pc := 33) hX 1 rfl dX9_can_33 ?_
      refine j_grd fun g12 => ?_
      refine c_getI (pc := 34) hX fgX9_66_X9.1 fgX9_66_X9.2 (k1_of g12.1) dX9_can_34 ?_
      refine j_iconst (pc := 37) hX ic_3 dX9_can_37 ?_
      refine j_jon (fun (j13 : Unit → Option (Int32 × HP)) => ∀ (_u : Unit), jG cV X evI rr (j13 ()) 49 [(0, .ref (xz X + o)), (1, .int a1), (4, .int a4), (5, .ref (xz X + r5))] [] h10) ?_ ?_
      · intro _
        refine j_iload (pc := 49) hX 2 rfl dX9_can_49 ?_
        refine j_jon (fun (j14 : Unit → Option (Int32 × HP)) => ∀ (_u : Unit), jG cV X evI rr (j14 ()) 75 [(0, .ref (xz X + o)), (1, .int a1), (5, .ref (xz X + r5))] [] h10) ?_ ?_
        · intro _
          refine j_aload_n (pc := 75) hX 0 rfl dX9_can_75 ?_
          refine c_getR (pc := 76) hX fgX9_3_X9.1 fgX9_3_X9.2 (k1_of g12.1) g12.2.1.2.2.2.2 dX9_can_76 ?_
          refine c_getR (pc := 79) hX fgX9_110_X1.1 fgX9_110_X1.2 rfl rfl dX9_can_79 ?_
          refine j_aload (pc := 82) hX 2 rfl dX9_can_82 ?_
          refine j_grd fun g15 => ?_
          refine c_getI (pc := 84) hX fgX9_95_X14.1 fgX9_95_X14.2 g15 dX9_can_84 ?_
          refine j_aald (pc := 87) (n := 4) (q := 6) hX (Nat.le_of_ble_eq_true rfl) (fun _ => rfl) rfl dX9_can_87 (fun b16 => ?_)
          refine j_aload (pc := 88) hX 2 rfl dX9_can_88 ?_
          refine j_callD (pc := 90) (e1 := eI) (rest := []) (fun r17 h18 => ?_) (fun kk => ?_)
          · refine j_aload_n (pc := 93) hX 0 rfl dX9_can_93 ?_
            refine j_grd fun g19 => ?_
            refine c_getR (pc := 94) hX fgX9_15_X9.1 fgX9_15_X9.2 (k1_of g19.1) g19.2.1.1 dX9_can_94 ?_
            refine j_iload_n (pc := 97) hX 1 rfl dX9_can_97 ?_
            refine j_iald (pc := 98) (n := 5) hX g19.2.2.1 dX9_can_98 (fun _ => ?_)
            refine j_iconst (pc := 99) hX ic_m1 dX9_can_99 ?_
            refine j_ixor (pc := 100) hX dX9_can_100 ?_
            refine j_iand (pc := 101) hX dX9_can_101 ?_
            refine j_ifne (pc := 102) (tgt := 109) hX rfl dX9_can_102 (fun _ => ?_) (fun _ => ?_)
            · refine j_iconst (pc := 105) hX ic_1 dX9_can_105 ?_
              refine j_goto (pc := 106) (tgt := 110) hX rfl dX9_can_106 ?_
              exact j_zret (pc := 110) hX (Or.inr rfl) hr dX9_can_110
            · refine j_iconst (pc := 109) hX ic_0 dX9_can_109 ?_
              exact j_zret (pc := 110) hX (Or.inl rfl) hr dX9_can_110
          · rw [cK_supposes]
            refine j_calIf (fun g20 => ?_) (fun _ => ?_)
            · exact j_callU (pc := 90) (e1 := eI) (owner := "AskedCourt$Kind") (As := fun z => [.ref (z + r5)]) (rest := []) hX (fun r e => kX5_supposes_t b16 r5 h10 r e) yo_cK_supposes q1074 q1076 q1085 q1078 q147 q1079 (fun a s _ hN => va_Decl.abs (hN.2.2.2.2 _ (List.mem_of_getElem? (i := 1) rfl))) ckX5 g20 ⟨Nat.le_of_ble_eq_true rfl, Nat.le_of_ble_eq_true rfl⟩ rfl rfl (Nat.le_of_ble_eq_true rfl) dX9_can_90 kk
            refine j_calIf (fun g21 => ?_) (fun _ => ?_)
            · exact j_callU (pc := 90) (e1 := eI) (owner := "AskedCourt$Kind") (As := fun z => [.ref (z + r5)]) (rest := []) hX (fun r e => kX6_supposes_t b16 r5 h10 r e) yo_cK_supposes q1074 q1076 q1086 q1087 q148 q1088 (fun a s _ hN => va_Decl.abs (hN.2.2.2.2 _ (List.mem_of_getElem? (i := 1) rfl))) ckX6 g21 ⟨Nat.le_of_ble_eq_true rfl, Nat.le_of_ble_eq_true rfl⟩ rfl rfl (Nat.le_of_ble_eq_true rfl) dX9_can_90 kk
            refine j_calIf (fun g22 => ?_) (fun _ => ?_)
            · exact j_callU (pc := 90) (e1 := eI) (owner := "AskedCourt$Kind") (As := fun z => [.ref (z + r5)]) (rest := []) hX (fun r e => kX5_supposes_t b16 r5 h10 r e) yo_cK_supposes q1074 q1076 q1077 q1078 q147 q1079 (fun a s _ hN => va_Decl.abs (hN.2.2.2.2 _ (List.mem_of_getElem? (i := 1) rfl))) ckX7 g22 ⟨Nat.le_of_ble_eq_true rfl, Nat.le_of_ble_eq_true rfl⟩ rfl rfl (Nat.le_of_ble_eq_true rfl) dX9_can_90 kk
            refine j_calIf (fun g23 => ?_) (fun _ => ?_)
            · exact j_callU (pc := 90) (e1 := eI) (owner := "AskedCourt$Kind") (As := fun z => [.ref (z + r5)]) (rest := []) hX (fun r e => kX5_supposes_t b16 r5 h10 r e) yo_cK_supposes q1074 q1076 q1084 q1078 q147 q1079 (fun a s _ hN => va_Decl.abs (hN.2.2.2.2 _ (List.mem_of_getElem? (i := 1) rfl))) ckX8 g23 ⟨Nat.le_of_ble_eq_true rfl, Nat.le_of_ble_eq_true rfl⟩ rfl rfl (Nat.le_of_ble_eq_true rfl) dX9_can_90 kk
            exact j_calN
        · intro j14 hj14
          refine j_ifeq (pc := 51) (tgt := 75) hX rfl dX9_can_51 (fun _ => ?_) (fun _ => ?_)
          · refine j_locs [0, 1, 3] rfl ?_
            exact hj14 ()
          · refine j_aload_n (pc := 54) hX 0 rfl dX9_can_54 ?_
            refine c_getR (pc := 55) hX fgX9_25_X9.1 fgX9_25_X9.2 (k1_of g12.1) g12.2.1.2.2.2.1 dX9_can_55 ?_
            refine j_iload_n (pc := 58) hX 1 rfl dX9_can_58 ?_
            refine j_iald (pc := 59) (n := 5) hX g12.2.2.2.2.2 dX9_can_59 (fun _ => ?_)
            refine j_aload_n (pc := 60) hX 0 rfl dX9_can_60 ?_
            refine c_getR (pc := 61) hX fgX9_3_X9.1 fgX9_3_X9.2 (k1_of g12.1) g12.2.1.2.2.2.2 dX9_can_61 ?_
            refine j_onr fun b24 e25 => ?_
            refine c_getR (pc := 64) hX fgX9_32_X1.1 fgX9_32_X1.2 rfl e25 dX9_can_64 ?_
            refine j_grd fun g26 => ?_
            refine c_getI (pc := 67) hX fgX9_141_X3.1 fgX9_141_X3.2 (k1_of g26.1) dX9_can_67 ?_
            refine j_clt (pc := 70) (tgt := 75) hX rfl dX9_can_70 (fun _ => ?_) (fun _ => ?_)
            · refine j_locs [0, 1, 3] rfl ?_
              exact hj14 ()
            · refine j_iconst (pc := 73) hX ic_0 dX9_can_73 ?_
              exact j_zret (pc := 74) hX (Or.inl rfl) hr dX9_can_74
      · intro j13 hj13
        refine j_cne (pc := 38) (tgt := 49) hX rfl dX9_can_38 (fun _ => ?_) (fun _ => ?_)
        · refine j_aload_n (pc := 41) hX 1 rfl dX9_can_41 ?_
          refine c_getI (pc := 42) hX fgX9_72_X9.1 fgX9_72_X9.2 (k1_of g12.1) dX9_can_42 ?_
          refine j_iload_n (pc := 45) hX 4 rfl dX9_can_45 ?_
          refine j_ceq (pc := 46) (tgt := 73) hX rfl dX9_can_46 (fun _ => ?_) (fun _ => ?_)
          · refine j_iconst (pc := 73) hX ic_0 dX9_can_73 ?_
            exact j_zret (pc := 74) hX (Or.inl rfl) hr dX9_can_74
          · refine j_locs [1, 2, 5, 0] rfl ?_
            exact hj13 ()
        · refine j_locs [1, 2, 5, 0] rfl ?_
          exact hj13 ()
