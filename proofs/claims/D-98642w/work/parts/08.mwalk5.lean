/-! the model: walks -/
set_option maxHeartbeats 4000000 in
set_option maxRecDepth 100000 in
theorem m_t_layTextTried  (h : HP) (rr : Unit × HP) (e : m_layTextTried  h = some rr) : Cn mV yX10_layTextTried (ws_ yX10_layTextTried cX10_layTextTried 1 (none)) 2 22 (fun z => [.ref (z + 0)]) h (fun z => eV z rr.1) rr.2 := by
  refine cn_of (e1 := eV) (fun z => [(0, .ref (z + 0))]) mV_ok ⟨Nat.le_refl _, Nat.le_refl _⟩ ymX10_layTextTried (fun _ => rfl) (fun _ => Nat.le_of_ble_eq_true rfl) (fun X hX hr _ => ?_) e
  have hX : okX mV X rr cX10_layTextTried RX10 1 2 22 := hX
  rw [m_layTextTried]
  refine j_aload_n (pc := 0) hX 0 rfl dX10_layTextTried_0 ?_
  refine j_iconst (pc := 1) hX ic_1 dX10_layTextTried_1 ?_
  refine j_callVV (pc := 2) (a := 0) (As := fun z => [.int (1 : Int32)]) (rest := []) hX (fun r e => m_t_atFirst (1 : Int32) h r e) ymX10_atFirst (lw_V q1599 q1601 qs65 q154 q1602) rfl ckX10 rfl ⟨Nat.le_of_ble_eq_true rfl, Nat.le_of_ble_eq_true rfl⟩ rfl rfl (Nat.le_of_ble_eq_true rfl) dX10_layTextTried_2 (fun r1 h2 => ?_)
  refine j_aload_n (pc := 5) hX 0 rfl dX10_layTextTried_5 ?_
  refine j_callVV (pc := 6) (a := 0) (As := fun z => []) (rest := []) hX (fun r e => m_t_plainTried h2 r e) ymX10_plainTried (lw_V q1603 q1605 qs66 q154 q1606) rfl ckX10 rfl ⟨Nat.le_of_ble_eq_true rfl, Nat.le_of_ble_eq_true rfl⟩ rfl rfl (Nat.le_of_ble_eq_true rfl) dX10_layTextTried_6 (fun r3 h4 => ?_)
  refine j_aload_n (pc := 9) hX 0 rfl dX10_layTextTried_9 ?_
  refine j_iconst (pc := 10) hX ic_1 dX10_layTextTried_10 ?_
  refine j_putZ (pc := 11) hX (Or.inr rfl) fwX10_386.1 fwX10_386.2 rfl dX10_layTextTried_11 (fun h5 => ?_)
  exact j_vret (pc := 14) hX hr dX10_layTextTried_14
set_option maxHeartbeats 4000000 in
set_option maxRecDepth 100000 in
theorem m_t_talkOf (a1 : Int32) (h : HP) (rr : Unit × HP) (e : m_talkOf a1 h = some rr) : Cn mV yX10_talkOf (ws_ yX10_talkOf cX10_talkOf 3 (none)) 7 148 (fun z => [.ref (z + 0), .int a1]) h (fun z => eV z rr.1) rr.2 := by
  refine cn_of (e1 := eV) (fun z => [(0, .ref (z + 0)), (1, .int a1)]) mV_ok ⟨Nat.le_refl _, Nat.le_refl _⟩ ymX10_talkOf (fun _ => rfl) (fun _ => Nat.le_of_ble_eq_true rfl) (fun X hX hr _ => ?_) e
  have hX : okX mV X rr cX10_talkOf RX10 3 7 148 := hX
  rw [m_talkOf]
  refine j_aload_n (pc := 0) hX 0 rfl dX10_talkOf_0 ?_
  refine j_iconst (pc := 1) hX ic_1 dX10_talkOf_1 ?_
  refine j_aload_n (pc := 2) hX 0 rfl dX10_talkOf_2 ?_
  refine j_getR (pc := 3) hX fgX10_60.1 fgX10_60.2 rfl rfl dX10_talkOf_3 ?_
  refine j_iload_n (pc := 6) hX 1 rfl dX10_talkOf_6 ?_
  refine j_iald (pc := 7) (n := 20) hX rfl dX10_talkOf_7 (fun _ => ?_)
  refine j_aload_n (pc := 8) hX 0 rfl dX10_talkOf_8 ?_
  refine j_getR (pc := 9) hX fgX10_63.1 fgX10_63.2 rfl rfl dX10_talkOf_9 ?_
  refine j_iload_n (pc := 12) hX 1 rfl dX10_talkOf_12 ?_
  refine j_iald (pc := 13) (n := 20) hX rfl dX10_talkOf_13 (fun _ => ?_)
  refine j_aload_n (pc := 14) hX 0 rfl dX10_talkOf_14 ?_
  refine j_getR (pc := 15) hX fgX10_66.1 fgX10_66.2 rfl rfl dX10_talkOf_15 ?_
  refine j_iload_n (pc := 18) hX 1 rfl dX10_talkOf_18 ?_
  refine j_iald (pc := 19) (n := 20) hX rfl dX10_talkOf_19 (fun _ => ?_)
  refine j_callVI (pc := 20) (a := 0) (As := fun z => [.int (1 : Int32), .int (gI h 16 (a1).toNatClampNeg), .int (gI h 17 (a1).toNatClampNeg), .int (gI h 18 (a1).toNatClampNeg)]) (rest := []) hX (fun r e => m_t_canAsk (1 : Int32) (gI h 16 (a1).toNatClampNeg) (gI h 17 (a1).toNatClampNeg) (gI h 18 (a1).toNatClampNeg) h r e) ymX10_canAsk (lw_V q2024 q2026 qs99 q154 q2027) rfl ckX10 rfl ⟨Nat.le_of_ble_eq_true rfl, Nat.le_of_ble_eq_true rfl⟩ rfl rfl (Nat.le_of_ble_eq_true rfl) dX10_talkOf_20 (fun r1 h2 => ?_)
  refine j_ifeq (pc := 23) (tgt := 56) hX rfl dX10_talkOf_23 (fun _ => ?_) (fun _ => ?_)
  · refine j_iconst (pc := 56) hX ic_0 dX10_talkOf_56 ?_
    refine j_istore_n (pc := 57) hX (fun x3 => [(2, .int x3), (0, .ref (xz X + 0)), (1, .int a1)]) (fun _ => rfl) (Nat.le_of_ble_eq_true rfl) dX10_talkOf_57 (fun x3 => ?_)
    exact j_vret (pc := 58) hX hr dX10_talkOf_58
  · refine j_aload_n (pc := 26) hX 0 rfl dX10_talkOf_26 ?_
    refine j_iconst (pc := 27) hX ic_1 dX10_talkOf_27 ?_
    refine j_aload_n (pc := 28) hX 0 rfl dX10_talkOf_28 ?_
    refine j_getR (pc := 29) hX fgX10_60.1 fgX10_60.2 rfl rfl dX10_talkOf_29 ?_
    refine j_iload_n (pc := 32) hX 1 rfl dX10_talkOf_32 ?_
    refine j_iald (pc := 33) (n := 20) hX rfl dX10_talkOf_33 (fun _ => ?_)
    refine j_aload_n (pc := 34) hX 0 rfl dX10_talkOf_34 ?_
    refine j_getR (pc := 35) hX fgX10_63.1 fgX10_63.2 rfl rfl dX10_talkOf_35 ?_
    refine j_iload_n (pc := 38) hX 1 rfl dX10_talkOf_38 ?_
    refine j_iald (pc := 39) (n := 20) hX rfl dX10_talkOf_39 (fun _ => ?_)
    refine j_aload_n (pc := 40) hX 0 rfl dX10_talkOf_40 ?_
    refine j_getR (pc := 41) hX fgX10_66.1 fgX10_66.2 rfl rfl dX10_talkOf_41 ?_
    refine j_iload_n (pc := 44) hX 1 rfl dX10_talkOf_44 ?_
    refine j_iald (pc := 45) (n := 20) hX rfl dX10_talkOf_45 (fun _ => ?_)
    refine j_callVI (pc := 46) (a := 0) (As := fun z => [.int (1 : Int32), .int (gI h2 16 (a1).toNatClampNeg), .int (gI h2 17 (a1).toNatClampNeg), .int (gI h2 18 (a1).toNatClampNeg)]) (rest := []) hX (fun r e => m_t_asks (1 : Int32) (gI h2 16 (a1).toNatClampNeg) (gI h2 17 (a1).toNatClampNeg) (gI h2 18 (a1).toNatClampNeg) h2 r e) ymX10_asks (lw_V q2081 q2083 qs109 q154 q2084) rfl ckX10 rfl ⟨Nat.le_of_ble_eq_true rfl, Nat.le_of_ble_eq_true rfl⟩ rfl rfl (Nat.le_of_ble_eq_true rfl) dX10_talkOf_46 (fun r4 h5 => ?_)
    refine j_ifeq (pc := 49) (tgt := 56) hX rfl dX10_talkOf_49 (fun _ => ?_) (fun _ => ?_)
    · refine j_iconst (pc := 56) hX ic_0 dX10_talkOf_56 ?_
      refine j_istore_n (pc := 57) hX (fun x6 => [(2, .int x6), (0, .ref (xz X + 0)), (1, .int a1)]) (fun _ => rfl) (Nat.le_of_ble_eq_true rfl) dX10_talkOf_57 (fun x6 => ?_)
      exact j_vret (pc := 58) hX hr dX10_talkOf_58
    · refine j_iconst (pc := 52) hX ic_1 dX10_talkOf_52 ?_
      refine j_goto (pc := 53) (tgt := 57) hX rfl dX10_talkOf_53 ?_
      refine j_istore_n (pc := 57) hX (fun x7 => [(2, .int x7), (0, .ref (xz X + 0)), (1, .int a1)]) (fun _ => rfl) (Nat.le_of_ble_eq_true rfl) dX10_talkOf_57 (fun x7 => ?_)
      exact j_vret (pc := 58) hX hr dX10_talkOf_58
set_option maxHeartbeats 4000000 in
set_option maxRecDepth 100000 in
theorem m_slipped_21_w {X : CTX} {rr : Int32 × HP} (hX : okX mV X rr cX10_slipped RX10 3 8 170) (hr : (xh X).sig.returnType = some .int) (f1 : Int32) (k : HP → Option (Int32 × HP)) (hk : ∀ (h : HP), jG mV X evI rr (k h) 40 [(0, .ref (xz X + 0)), (1, .int f1)] [] h) : ∀ (n : Nat) (v2 : Int32) (h : HP), jG mV X evI rr (m_slipped_21 f1 k n v2 h) 21 [(0, .ref (xz X + 0)), (1, .int f1), (2, .int v2)] [] h := by
  intro n
  induction n with
  | zero =>
    intro v2 h
    exact j_none
  | succ n ih =>
    intro v2 h
    rw [m_slipped_21]
    refine j_iload_n (pc := 21) hX 2 rfl dX10_slipped_21 ?_
    refine j_aload_n (pc := 22) hX 0 rfl dX10_slipped_22 ?_
    refine j_getI (pc := 23) hX fgX10_237.1 fgX10_237.2 rfl dX10_slipped_23 ?_
    refine j_cge (pc := 26) (tgt := 40) hX rfl dX10_slipped_26 (fun _ => ?_) (fun _ => ?_)
    · refine j_locs [0, 1] rfl ?_
      exact hk h
    · refine j_aload_n (pc := 29) hX 0 rfl dX10_slipped_29 ?_
      refine j_iload_n (pc := 30) hX 2 rfl dX10_slipped_30 ?_
      refine j_callVV (pc := 31) (a := 0) (As := fun z => [.int v2]) (rest := []) hX (fun r e => m_t_talkOf v2 h r e) ymX10_talkOf (lw_V q2254 q2256 qs133 q154 q2257) rfl ckX10 rfl ⟨Nat.le_of_ble_eq_true rfl, Nat.le_of_ble_eq_true rfl⟩ rfl rfl (Nat.le_of_ble_eq_true rfl) dX10_slipped_31 (fun r7 h8 => ?_)
      refine j_iinc (pc := 34) hX 2 rfl (1 : Int32) ic_1 (fun x9 => [(2, .int x9), (0, .ref (xz X + 0)), (1, .int f1)]) (fun _ => rfl) (Nat.le_of_ble_eq_true rfl) dX10_slipped_34 (fun x9 => ?_)
      refine j_goto (pc := 37) (tgt := 21) hX rfl dX10_slipped_37 ?_
      refine j_locs [1, 2, 0] rfl ?_
      exact ih x9 h8
set_option maxHeartbeats 4000000 in
set_option maxRecDepth 100000 in
theorem m_t_slipped (a1 : Int32) (h : HP) (rr : Int32 × HP) (e : m_slipped a1 h = some rr) : Cn mV yX10_slipped (ws_ yX10_slipped cX10_slipped 3 (some .int)) 8 170 (fun z => [.ref (z + 0), .int a1]) h (fun z => eI z rr.1) rr.2 := by
  refine cn_of (e1 := eI) (fun z => [(0, .ref (z + 0)), (1, .int a1)]) mV_ok ⟨Nat.le_refl _, Nat.le_refl _⟩ ymX10_slipped (fun _ => rfl) (fun _ => Nat.le_of_ble_eq_true rfl) (fun X hX hr _ => ?_) e
  have hX : okX mV X rr cX10_slipped RX10 3 8 170 := hX
  rw [m_slipped]
  refine j_aload_n (pc := 0) hX 0 rfl dX10_slipped_0 ?_
  refine j_iconst (pc := 1) hX ic_0 dX10_slipped_1 ?_
  refine j_putI (pc := 2) hX fwX10_148.1 fwX10_148.2 rfl dX10_slipped_2 (fun h1 => ?_)
  refine j_aload_n (pc := 5) hX 0 rfl dX10_slipped_5 ?_
  refine j_iload_n (pc := 6) hX 1 rfl dX10_slipped_6 ?_
  refine j_callVI (pc := 7) (a := 0) (As := fun z => [.int a1]) (rest := []) hX (fun r e => m_t_isPerson a1 h1 r e) ymX10_isPerson (lw_V q2004 q2006 qs96 q154 q2007) rfl ckX10 rfl ⟨Nat.le_of_ble_eq_true rfl, Nat.le_of_ble_eq_true rfl⟩ rfl rfl (Nat.le_of_ble_eq_true rfl) dX10_slipped_7 (fun r2 h3 => ?_)
  refine j_ifne (pc := 10) (tgt := 15) hX rfl dX10_slipped_10 (fun _ => ?_) (fun _ => ?_)
  · refine j_iconst (pc := 13) hX ic_m1 dX10_slipped_13 ?_
    exact j_iret (pc := 14) hX hr dX10_slipped_14
  · refine j_aload_n (pc := 15) hX 0 rfl dX10_slipped_15 ?_
    refine j_callVV (pc := 16) (a := 0) (As := fun z => []) (rest := []) hX (fun r e => m_t_layTextTried h3 r e) ymX10_layTextTried (lw_V q2250 q2252 qs132 q154 q2253) rfl ckX10 rfl ⟨Nat.le_of_ble_eq_true rfl, Nat.le_of_ble_eq_true rfl⟩ rfl rfl (Nat.le_of_ble_eq_true rfl) dX10_slipped_16 (fun r4 h5 => ?_)
    refine j_iconst (pc := 19) hX ic_0 dX10_slipped_19 ?_
    refine j_istore_n (pc := 20) hX (fun x6 => [(2, .int x6), (0, .ref (xz X + 0)), (1, .int a1)]) (fun _ => rfl) (Nat.le_of_ble_eq_true rfl) dX10_slipped_20 (fun x6 => ?_)
    refine j_locs [1, 2, 0] rfl ?_
    refine m_slipped_21_w hX hr a1 _ (fun  h10 => ?_) FU x6 h5
    refine j_aload_n (pc := 40) hX 0 rfl dX10_slipped_40 ?_
    refine j_getR (pc := 41) hX fgX10_103.1 fgX10_103.2 rfl rfl dX10_slipped_41 ?_
    refine j_iconst (pc := 44) hX ic_5 dX10_slipped_44 ?_
    refine j_iload_n (pc := 45) hX 1 rfl dX10_slipped_45 ?_
    refine j_iadd (pc := 46) hX dX10_slipped_46 ?_
    refine j_iald (pc := 47) (n := 10) hX rfl dX10_slipped_47 (fun _ => ?_)
    exact j_iret (pc := 48) hX hr dX10_slipped_48
set_option maxHeartbeats 4000000 in
set_option maxRecDepth 100000 in
theorem m_behind_33_w {X : CTX} {rr : Int32 × HP} (hX : okX mV X rr cX10_behind RX10 4 8 170) (hr : (xh X).sig.returnType = some .int) (f1 : Int32) (f2 : Int32) (k : HP → Option (Int32 × HP)) (hk : ∀ (h : HP), jG mV X evI rr (k h) 49 [(0, .ref (xz X + 0)), (2, .int f2)] [] h) : ∀ (n : Nat) (v3 : Int32) (h : HP), jG mV X evI rr (m_behind_33 f1 f2 k n v3 h) 33 [(0, .ref (xz X + 0)), (1, .int f1), (2, .int f2), (3, .int v3)] [] h := by
  intro n
  induction n with
  | zero =>
    intro v3 h
    exact j_none
  | succ n ih =>
    intro v3 h
    rw [m_behind_33]
    refine j_iload_n (pc := 33) hX 3 rfl dX10_behind_33 ?_
    refine j_iload_n (pc := 34) hX 1 rfl dX10_behind_34 ?_
    refine j_cge (pc := 35) (tgt := 49) hX rfl dX10_behind_35 (fun _ => ?_) (fun _ => ?_)
    · refine j_locs [0, 2] rfl ?_
      exact hk h
    · refine j_aload_n (pc := 38) hX 0 rfl dX10_behind_38 ?_
      refine j_iload_n (pc := 39) hX 3 rfl dX10_behind_39 ?_
      refine j_callVV (pc := 40) (a := 0) (As := fun z => [.int v3]) (rest := []) hX (fun r e => m_t_talkOf v3 h r e) ymX10_talkOf (lw_V q2254 q2256 qs133 q154 q2257) rfl ckX10 rfl ⟨Nat.le_of_ble_eq_true rfl, Nat.le_of_ble_eq_true rfl⟩ rfl rfl (Nat.le_of_ble_eq_true rfl) dX10_behind_40 (fun r9 h10 => ?_)
      refine j_iinc (pc := 43) hX 3 rfl (1 : Int32) ic_1 (fun x11 => [(3, .int x11), (0, .ref (xz X + 0)), (1, .int f1), (2, .int f2)]) (fun _ => rfl) (Nat.le_of_ble_eq_true rfl) dX10_behind_43 (fun x11 => ?_)
      refine j_goto (pc := 46) (tgt := 33) hX rfl dX10_behind_46 ?_
      refine j_locs [1, 2, 3, 0] rfl ?_
      exact ih x11 h10
set_option maxHeartbeats 4000000 in
set_option maxRecDepth 100000 in
theorem m_t_behind (a1 : Int32) (a2 : Int32) (h : HP) (rr : Int32 × HP) (e : m_behind a1 a2 h = some rr) : Cn mV yX10_behind (ws_ yX10_behind cX10_behind 4 (some .int)) 8 170 (fun z => [.ref (z + 0), .int a1, .int a2]) h (fun z => eI z rr.1) rr.2 := by
  refine cn_of (e1 := eI) (fun z => [(0, .ref (z + 0)), (1, .int a1), (2, .int a2)]) mV_ok ⟨Nat.le_refl _, Nat.le_refl _⟩ ymX10_behind (fun _ => rfl) (fun _ => Nat.le_of_ble_eq_true rfl) (fun X hX hr _ => ?_) e
  have hX : okX mV X rr cX10_behind RX10 4 8 170 := hX
  rw [m_behind]
  refine j_aload_n (pc := 0) hX 0 rfl dX10_behind_0 ?_
  refine j_iconst (pc := 1) hX ic_0 dX10_behind_1 ?_
  refine j_putI (pc := 2) hX fwX10_148.1 fwX10_148.2 rfl dX10_behind_2 (fun h1 => ?_)
  refine j_iload_n (pc := 5) hX 1 rfl dX10_behind_5 ?_
  refine j_iconst (pc := 6) hX ic_0 dX10_behind_6 ?_
  refine j_aload_n (pc := 7) hX 0 rfl dX10_behind_7 ?_
  refine j_getI (pc := 8) hX fgX10_237.1 fgX10_237.2 rfl dX10_behind_8 ?_
  refine j_callSI (pc := 11) (As := fun z => [.int a1, .int (0 : Int32), .int (gI h1 0 15)]) (rest := []) hX (fun r e => m_t_isIn a1 (0 : Int32) (gI h1 0 15) h1 r e) ymX10_isIn (lw_S q1915 q1916 q154 q1917) ⟨Nat.le_of_ble_eq_true rfl, Nat.le_of_ble_eq_true rfl⟩ rfl rfl (Nat.le_of_ble_eq_true rfl) dX10_behind_11 (fun r2 h3 => ?_)
  refine j_ifeq (pc := 14) (tgt := 25) hX rfl dX10_behind_14 (fun _ => ?_) (fun _ => ?_)
  · refine j_iconst (pc := 25) hX ic_m1 dX10_behind_25 ?_
    exact j_iret (pc := 26) hX hr dX10_behind_26
  · refine j_aload_n (pc := 17) hX 0 rfl dX10_behind_17 ?_
    refine j_iload_n (pc := 18) hX 2 rfl dX10_behind_18 ?_
    refine j_callVI (pc := 19) (a := 0) (As := fun z => [.int a2]) (rest := []) hX (fun r e => m_t_isPerson a2 h3 r e) ymX10_isPerson (lw_V q2004 q2006 qs96 q154 q2007) rfl ckX10 rfl ⟨Nat.le_of_ble_eq_true rfl, Nat.le_of_ble_eq_true rfl⟩ rfl rfl (Nat.le_of_ble_eq_true rfl) dX10_behind_19 (fun r4 h5 => ?_)
    refine j_ifne (pc := 22) (tgt := 27) hX rfl dX10_behind_22 (fun _ => ?_) (fun _ => ?_)
    · refine j_iconst (pc := 25) hX ic_m1 dX10_behind_25 ?_
      exact j_iret (pc := 26) hX hr dX10_behind_26
    · refine j_aload_n (pc := 27) hX 0 rfl dX10_behind_27 ?_
      refine j_callVV (pc := 28) (a := 0) (As := fun z => []) (rest := []) hX (fun r e => m_t_layTextTried h5 r e) ymX10_layTextTried (lw_V q2250 q2252 qs132 q154 q2253) rfl ckX10 rfl ⟨Nat.le_of_ble_eq_true rfl, Nat.le_of_ble_eq_true rfl⟩ rfl rfl (Nat.le_of_ble_eq_true rfl) dX10_behind_28 (fun r6 h7 => ?_)
      refine j_iconst (pc := 31) hX ic_0 dX10_behind_31 ?_
      refine j_istore_n (pc := 32) hX (fun x8 => [(3, .int x8), (0, .ref (xz X + 0)), (1, .int a1), (2, .int a2)]) (fun _ => rfl) (Nat.le_of_ble_eq_true rfl) dX10_behind_32 (fun x8 => ?_)
      refine j_locs [1, 2, 3, 0] rfl ?_
      refine m_behind_33_w hX hr a1 a2 _ (fun  h12 => ?_) FU x8 h7
      refine j_aload_n (pc := 49) hX 0 rfl dX10_behind_49 ?_
      refine j_getR (pc := 50) hX fgX10_100.1 fgX10_100.2 rfl rfl dX10_behind_50 ?_
      refine j_iconst (pc := 53) hX ic_5 dX10_behind_53 ?_
      refine j_iload_n (pc := 54) hX 1 rfl dX10_behind_54 ?_
      refine j_iadd (pc := 55) hX dX10_behind_55 ?_
      refine j_iald (pc := 56) (n := 10) hX rfl dX10_behind_56 (fun _ => ?_)
      exact j_iret (pc := 57) hX hr dX10_behind_57
set_option maxHeartbeats 4000000 in
set_option maxRecDepth 100000 in
theorem m_t_noted (a1 : Int32) (a2 : Int32) (a3 : Int32) (a4 : Int32) (h : HP) (rr : Int32 × HP) (e : m_noted a1 a2 a3 a4 h = some rr) : Cn mV yX10_noted (ws_ yX10_noted cX10_noted 5 (some .int)) 1 0 (fun z => [.ref (z + 0), .int a1, .int a2, .int a3, .int a4]) h (fun z => eI z rr.1) rr.2 := by
  refine cn_of (e1 := eI) (fun z => [(0, .ref (z + 0)), (1, .int a1), (2, .int a2), (3, .int a3), (4, .int a4)]) mV_ok ⟨Nat.le_refl _, Nat.le_refl _⟩ ymX10_noted (fun _ => rfl) (fun _ => Nat.le_of_ble_eq_true rfl) (fun X hX hr _ => ?_) e
  have hX : okX mV X rr cX10_noted RX10 5 1 0 := hX
  rw [m_noted]
  refine j_aload_n (pc := 0) hX 0 rfl dX10_noted_0 ?_
  refine j_getR (pc := 1) hX fgX10_127.1 fgX10_127.2 rfl rfl dX10_noted_1 ?_
  refine j_iconst (pc := 4) hX ic_4 dX10_noted_4 ?_
  refine j_aload_n (pc := 5) hX 0 rfl dX10_noted_5 ?_
  refine j_getI (pc := 6) hX fgX10_374.1 fgX10_374.2 rfl dX10_noted_6 ?_
  refine j_imul (pc := 9) hX dX10_noted_9 ?_
  refine j_iload_n (pc := 10) hX 1 rfl dX10_noted_10 ?_
  refine j_iast (pc := 11) (n := 96) hX rfl dX10_noted_11 (fun _ h1 => ?_)
  refine j_aload_n (pc := 12) hX 0 rfl dX10_noted_12 ?_
  refine j_getR (pc := 13) hX fgX10_127.1 fgX10_127.2 rfl rfl dX10_noted_13 ?_
  refine j_iconst (pc := 16) hX ic_4 dX10_noted_16 ?_
  refine j_aload_n (pc := 17) hX 0 rfl dX10_noted_17 ?_
  refine j_getI (pc := 18) hX fgX10_374.1 fgX10_374.2 rfl dX10_noted_18 ?_
  refine j_imul (pc := 21) hX dX10_noted_21 ?_
  refine j_iconst (pc := 22) hX ic_1 dX10_noted_22 ?_
  refine j_iadd (pc := 23) hX dX10_noted_23 ?_
  refine j_iload_n (pc := 24) hX 2 rfl dX10_noted_24 ?_
  refine j_iast (pc := 25) (n := 96) hX rfl dX10_noted_25 (fun _ h2 => ?_)
  refine j_aload_n (pc := 26) hX 0 rfl dX10_noted_26 ?_
  refine j_getR (pc := 27) hX fgX10_127.1 fgX10_127.2 rfl rfl dX10_noted_27 ?_
  refine j_iconst (pc := 30) hX ic_4 dX10_noted_30 ?_
  refine j_aload_n (pc := 31) hX 0 rfl dX10_noted_31 ?_
  refine j_getI (pc := 32) hX fgX10_374.1 fgX10_374.2 rfl dX10_noted_32 ?_
  refine j_imul (pc := 35) hX dX10_noted_35 ?_
  refine j_iconst (pc := 36) hX ic_2 dX10_noted_36 ?_
  refine j_iadd (pc := 37) hX dX10_noted_37 ?_
  refine j_iload_n (pc := 38) hX 3 rfl dX10_noted_38 ?_
  refine j_iast (pc := 39) (n := 96) hX rfl dX10_noted_39 (fun _ h3 => ?_)
  refine j_aload_n (pc := 40) hX 0 rfl dX10_noted_40 ?_
  refine j_getR (pc := 41) hX fgX10_127.1 fgX10_127.2 rfl rfl dX10_noted_41 ?_
  refine j_iconst (pc := 44) hX ic_4 dX10_noted_44 ?_
  refine j_aload_n (pc := 45) hX 0 rfl dX10_noted_45 ?_
  refine j_getI (pc := 46) hX fgX10_374.1 fgX10_374.2 rfl dX10_noted_46 ?_
  refine j_imul (pc := 49) hX dX10_noted_49 ?_
  refine j_iconst (pc := 50) hX ic_3 dX10_noted_50 ?_
  refine j_iadd (pc := 51) hX dX10_noted_51 ?_
  refine j_iload (pc := 52) hX 4 rfl dX10_noted_52 ?_
  refine j_iast (pc := 54) (n := 96) hX rfl dX10_noted_54 (fun _ h4 => ?_)
  refine j_aload_n (pc := 55) hX 0 rfl dX10_noted_55 ?_
  refine j_dup (pc := 56) hX rfl dX10_noted_56 ?_
  refine j_getI (pc := 57) hX fgX10_374.1 fgX10_374.2 rfl dX10_noted_57 ?_
  refine j_iconst (pc := 60) hX ic_1 dX10_noted_60 ?_
  refine j_iadd (pc := 61) hX dX10_noted_61 ?_
  refine j_putI (pc := 62) hX fwX10_374.1 fwX10_374.2 rfl dX10_noted_62 (fun h5 => ?_)
  refine j_aload_n (pc := 65) hX 0 rfl dX10_noted_65 ?_
  refine j_getI (pc := 66) hX fgX10_374.1 fgX10_374.2 rfl dX10_noted_66 ?_
  refine j_iconst (pc := 69) hX ic_1 dX10_noted_69 ?_
  refine j_isub (pc := 70) hX dX10_noted_70 ?_
  exact j_iret (pc := 71) hX hr dX10_noted_71
set_option maxHeartbeats 4000000 in
set_option maxRecDepth 100000 in
theorem m_t_note (a1 : Int32) (a2 : Int32) (a3 : Int32) (a4 : Int32) (h : HP) (rr : Int32 × HP) (e : m_note a1 a2 a3 a4 h = some rr) : Cn mV yX10_note (ws_ yX10_note cX10_note 5 (some .int)) 2 24 (fun z => [.ref (z + 0), .int a1, .int a2, .int a3, .int a4]) h (fun z => eI z rr.1) rr.2 := by
  refine cn_of (e1 := eI) (fun z => [(0, .ref (z + 0)), (1, .int a1), (2, .int a2), (3, .int a3), (4, .int a4)]) mV_ok ⟨Nat.le_refl _, Nat.le_refl _⟩ ymX10_note (fun _ => rfl) (fun _ => Nat.le_of_ble_eq_true rfl) (fun X hX hr _ => ?_) e
  have hX : okX mV X rr cX10_note RX10 5 2 24 := hX
  rw [m_note]
  refine j_aload_n (pc := 0) hX 0 rfl dX10_note_0 ?_
  refine j_iconst (pc := 1) hX ic_0 dX10_note_1 ?_
  refine j_putI (pc := 2) hX fwX10_148.1 fwX10_148.2 rfl dX10_note_2 (fun h1 => ?_)
  refine j_aload_n (pc := 5) hX 0 rfl dX10_note_5 ?_
  refine j_getI (pc := 6) hX fgX10_374.1 fgX10_374.2 rfl dX10_note_6 ?_
  refine j_bipush (pc := 9) hX bp_24 dX10_note_9 ?_
  refine j_ceq (pc := 11) (tgt := 42) hX rfl dX10_note_11 (fun _ => ?_) (fun _ => ?_)
  · refine j_iconst (pc := 42) hX ic_m1 dX10_note_42 ?_
    refine j_goto (pc := 43) (tgt := 63) hX rfl dX10_note_43 ?_
    exact j_iret (pc := 63) hX hr dX10_note_63
  · refine j_iload_n (pc := 14) hX 1 rfl dX10_note_14 ?_
    refine j_iconst (pc := 15) hX ic_0 dX10_note_15 ?_
    refine j_aload_n (pc := 16) hX 0 rfl dX10_note_16 ?_
    refine j_getI (pc := 17) hX fgX10_237.1 fgX10_237.2 rfl dX10_note_17 ?_
    refine j_callSI (pc := 20) (As := fun z => [.int a1, .int (0 : Int32), .int (gI h1 0 15)]) (rest := []) hX (fun r e => m_t_isIn a1 (0 : Int32) (gI h1 0 15) h1 r e) ymX10_isIn (lw_S q1915 q1916 q154 q1917) ⟨Nat.le_of_ble_eq_true rfl, Nat.le_of_ble_eq_true rfl⟩ rfl rfl (Nat.le_of_ble_eq_true rfl) dX10_note_20 (fun r2 h3 => ?_)
    refine j_ifeq (pc := 23) (tgt := 42) hX rfl dX10_note_23 (fun _ => ?_) (fun _ => ?_)
    · refine j_iconst (pc := 42) hX ic_m1 dX10_note_42 ?_
      refine j_goto (pc := 43) (tgt := 63) hX rfl dX10_note_43 ?_
      exact j_iret (pc := 63) hX hr dX10_note_63
    · refine j_aload_n (pc := 26) hX 0 rfl dX10_note_26 ?_
      refine j_iload_n (pc := 27) hX 2 rfl dX10_note_27 ?_
      refine j_callVI (pc := 28) (a := 0) (As := fun z => [.int a2]) (rest := []) hX (fun r e => m_t_isPerson a2 h3 r e) ymX10_isPerson (lw_V q2004 q2006 qs96 q154 q2007) rfl ckX10 rfl ⟨Nat.le_of_ble_eq_true rfl, Nat.le_of_ble_eq_true rfl⟩ rfl rfl (Nat.le_of_ble_eq_true rfl) dX10_note_28 (fun r4 h5 => ?_)
      refine j_ifeq (pc := 31) (tgt := 42) hX rfl dX10_note_31 (fun _ => ?_) (fun _ => ?_)
      · refine j_iconst (pc := 42) hX ic_m1 dX10_note_42 ?_
        refine j_goto (pc := 43) (tgt := 63) hX rfl dX10_note_43 ?_
        exact j_iret (pc := 63) hX hr dX10_note_63
      · refine j_aload_n (pc := 34) hX 0 rfl dX10_note_34 ?_
        refine j_iload_n (pc := 35) hX 3 rfl dX10_note_35 ?_
        refine j_callVI (pc := 36) (a := 0) (As := fun z => [.int a3]) (rest := []) hX (fun r e => m_t_isFact a3 h5 r e) ymX10_isFact (lw_V q2110 q2112 qs114 q154 q2113) rfl ckX10 rfl ⟨Nat.le_of_ble_eq_true rfl, Nat.le_of_ble_eq_true rfl⟩ rfl rfl (Nat.le_of_ble_eq_true rfl) dX10_note_36 (fun r6 h7 => ?_)
        refine j_ifne (pc := 39) (tgt := 46) hX rfl dX10_note_39 (fun _ => ?_) (fun _ => ?_)
        · refine j_iconst (pc := 42) hX ic_m1 dX10_note_42 ?_
          refine j_goto (pc := 43) (tgt := 63) hX rfl dX10_note_43 ?_
          exact j_iret (pc := 63) hX hr dX10_note_63
        · refine j_aload_n (pc := 46) hX 0 rfl dX10_note_46 ?_
          refine j_iload_n (pc := 47) hX 1 rfl dX10_note_47 ?_
          refine j_iload_n (pc := 48) hX 2 rfl dX10_note_48 ?_
          refine j_iload_n (pc := 49) hX 3 rfl dX10_note_49 ?_
          refine j_iload (pc := 50) hX 4 rfl dX10_note_50 ?_
          refine j_jon (fun (j8 : Int32 → Option (Int32 × HP)) => ∀ (s9 : Int32), jG mV X evI rr (j8 s9) 60 [] [.int s9, .int a3, .int a2, .int a1, .ref (xz X + 0)] h7) ?_ ?_
          · intro s9
            refine j_callVI (pc := 60) (a := 0) (As := fun z => [.int a1, .int a2, .int a3, .int s9]) (rest := []) hX (fun r e => m_t_noted a1 a2 a3 s9 h7 r e) ymX10_noted (lw_V q2266 q2268 qs134 q154 q2269) rfl ckX10 rfl ⟨Nat.le_of_ble_eq_true rfl, Nat.le_of_ble_eq_true rfl⟩ rfl rfl (Nat.le_of_ble_eq_true rfl) dX10_note_60 (fun r10 h11 => ?_)
            exact j_iret (pc := 63) hX hr dX10_note_63
          · intro j8 hj8
            refine j_ifeq (pc := 52) (tgt := 59) hX rfl dX10_note_52 (fun _ => ?_) (fun _ => ?_)
            · refine j_iconst (pc := 59) hX ic_0 dX10_note_59 ?_
              refine j_locs [] rfl ?_
              exact hj8 (0 : Int32)
            · refine j_iconst (pc := 55) hX ic_1 dX10_note_55 ?_
              refine j_goto (pc := 56) (tgt := 60) hX rfl dX10_note_56 ?_
              refine j_locs [] rfl ?_
              exact hj8 (1 : Int32)
set_option maxHeartbeats 4000000 in
set_option maxRecDepth 100000 in
theorem m_t_strike (a1 : Int32) (h : HP) (rr : Int32 × HP) (e : m_strike a1 h = some rr) : Cn mV yX10_strike (ws_ yX10_strike cX10_strike 2 (some .int)) 2 24 (fun z => [.ref (z + 0), .int a1]) h (fun z => eI z rr.1) rr.2 := by
  refine cn_of (e1 := eI) (fun z => [(0, .ref (z + 0)), (1, .int a1)]) mV_ok ⟨Nat.le_refl _, Nat.le_refl _⟩ ymX10_strike (fun _ => rfl) (fun _ => Nat.le_of_ble_eq_true rfl) (fun X hX hr _ => ?_) e
  have hX : okX mV X rr cX10_strike RX10 2 2 24 := hX
  rw [m_strike]
  refine j_aload_n (pc := 0) hX 0 rfl dX10_strike_0 ?_
  refine j_iconst (pc := 1) hX ic_0 dX10_strike_1 ?_
  refine j_putI (pc := 2) hX fwX10_148.1 fwX10_148.2 rfl dX10_strike_2 (fun h1 => ?_)
  refine j_aload_n (pc := 5) hX 0 rfl dX10_strike_5 ?_
  refine j_getI (pc := 6) hX fgX10_374.1 fgX10_374.2 rfl dX10_strike_6 ?_
  refine j_bipush (pc := 9) hX bp_24 dX10_strike_9 ?_
  refine j_ceq (pc := 11) (tgt := 26) hX rfl dX10_strike_11 (fun _ => ?_) (fun _ => ?_)
  · refine j_iconst (pc := 26) hX ic_m1 dX10_strike_26 ?_
    refine j_goto (pc := 27) (tgt := 38) hX rfl dX10_strike_27 ?_
    exact j_iret (pc := 38) hX hr dX10_strike_38
  · refine j_iload_n (pc := 14) hX 1 rfl dX10_strike_14 ?_
    refine j_iflt (pc := 15) (tgt := 26) hX rfl dX10_strike_15 (fun _ => ?_) (fun _ => ?_)
    · refine j_iconst (pc := 26) hX ic_m1 dX10_strike_26 ?_
      refine j_goto (pc := 27) (tgt := 38) hX rfl dX10_strike_27 ?_
      exact j_iret (pc := 38) hX hr dX10_strike_38
    · refine j_iload_n (pc := 18) hX 1 rfl dX10_strike_18 ?_
      refine j_aload_n (pc := 19) hX 0 rfl dX10_strike_19 ?_
      refine j_getI (pc := 20) hX fgX10_374.1 fgX10_374.2 rfl dX10_strike_20 ?_
      refine j_clt (pc := 23) (tgt := 30) hX rfl dX10_strike_23 (fun _ => ?_) (fun _ => ?_)
      · refine j_aload_n (pc := 30) hX 0 rfl dX10_strike_30 ?_
        refine j_iconst (pc := 31) hX ic_m1 dX10_strike_31 ?_
        refine j_iload_n (pc := 32) hX 1 rfl dX10_strike_32 ?_
        refine j_iconst (pc := 33) hX ic_0 dX10_strike_33 ?_
        refine j_iconst (pc := 34) hX ic_0 dX10_strike_34 ?_
        refine j_callVI (pc := 35) (a := 0) (As := fun z => [.int (-1 : Int32), .int a1, .int (0 : Int32), .int (0 : Int32)]) (rest := []) hX (fun r e => m_t_noted (-1 : Int32) a1 (0 : Int32) (0 : Int32) h1 r e) ymX10_noted (lw_V q2266 q2268 qs134 q154 q2269) rfl ckX10 rfl ⟨Nat.le_of_ble_eq_true rfl, Nat.le_of_ble_eq_true rfl⟩ rfl rfl (Nat.le_of_ble_eq_true rfl) dX10_strike_35 (fun r2 h3 => ?_)
        exact j_iret (pc := 38) hX hr dX10_strike_38
      · refine j_iconst (pc := 26) hX ic_m1 dX10_strike_26 ?_
        refine j_goto (pc := 27) (tgt := 38) hX rfl dX10_strike_27 ?_
        exact j_iret (pc := 38) hX hr dX10_strike_38
set_option maxHeartbeats 4000000 in
set_option maxRecDepth 100000 in
theorem m_t_known (a1 : Int32) (h : HP) (rr : Int32 × HP) (e : m_known a1 h = some rr) : Cn mV yX10_known (ws_ yX10_known cX10_known 2 (some .boolean)) 2 22 (fun z => [.ref (z + 0), .int a1]) h (fun z => eI z rr.1) rr.2 := by
  refine cn_of (e1 := eI) (fun z => [(0, .ref (z + 0)), (1, .int a1)]) mV_ok ⟨Nat.le_refl _, Nat.le_refl _⟩ ymX10_known (fun _ => rfl) (fun _ => Nat.le_of_ble_eq_true rfl) (fun X hX hr _ => ?_) e
  have hX : okX mV X rr cX10_known RX10 2 2 22 := hX
  rw [m_known]
  refine j_aload_n (pc := 0) hX 0 rfl dX10_known_0 ?_
  refine j_iconst (pc := 1) hX ic_0 dX10_known_1 ?_
  refine j_putI (pc := 2) hX fwX10_148.1 fwX10_148.2 rfl dX10_known_2 (fun h1 => ?_)
  refine j_iload_n (pc := 5) hX 1 rfl dX10_known_5 ?_
  refine j_iconst (pc := 6) hX ic_m1 dX10_known_6 ?_
  refine j_aload_n (pc := 7) hX 0 rfl dX10_known_7 ?_
  refine j_getI (pc := 8) hX fgX10_374.1 fgX10_374.2 rfl dX10_known_8 ?_
  refine j_callSI (pc := 11) (As := fun z => [.int a1, .int (-1 : Int32), .int (gI h1 0 71)]) (rest := []) hX (fun r e => m_t_isIn a1 (-1 : Int32) (gI h1 0 71) h1 r e) ymX10_isIn (lw_S q1915 q1916 q154 q1917) ⟨Nat.le_of_ble_eq_true rfl, Nat.le_of_ble_eq_true rfl⟩ rfl rfl (Nat.le_of_ble_eq_true rfl) dX10_known_11 (fun r2 h3 => ?_)
  refine j_ifne (pc := 14) (tgt := 19) hX rfl dX10_known_14 (fun _ => ?_) (fun _ => ?_)
  · refine j_iconst (pc := 17) hX ic_0 dX10_known_17 ?_
    exact j_zret (pc := 18) hX (Or.inl rfl) hr dX10_known_18
  · refine j_aload_n (pc := 19) hX 0 rfl dX10_known_19 ?_
    refine j_iload_n (pc := 20) hX 1 rfl dX10_known_20 ?_
    refine j_putI (pc := 21) hX fwX10_124.1 fwX10_124.2 rfl dX10_known_21 (fun h4 => ?_)
    refine j_iconst (pc := 24) hX ic_1 dX10_known_24 ?_
    exact j_zret (pc := 25) hX (Or.inr rfl) hr dX10_known_25
set_option maxHeartbeats 4000000 in
set_option maxRecDepth 100000 in
theorem m_t_knownBy  (h : HP) (rr : Int32 × HP) (e : m_knownBy  h = some rr) : Cn mV yX10_knownBy (ws_ yX10_knownBy cX10_knownBy 1 (some .int)) 1 0 (fun z => [.ref (z + 0)]) h (fun z => eI z rr.1) rr.2 := by
  refine cn_of (e1 := eI) (fun z => [(0, .ref (z + 0))]) mV_ok ⟨Nat.le_refl _, Nat.le_refl _⟩ ymX10_knownBy (fun _ => rfl) (fun _ => Nat.le_of_ble_eq_true rfl) (fun X hX hr _ => ?_) e
  have hX : okX mV X rr cX10_knownBy RX10 1 1 0 := hX
  rw [m_knownBy]
  refine j_aload_n (pc := 0) hX 0 rfl dX10_knownBy_0 ?_
  refine j_getI (pc := 1) hX fgX10_124.1 fgX10_124.2 rfl dX10_knownBy_1 ?_
  refine j_ifge (pc := 4) (tgt := 14) hX rfl dX10_knownBy_4 (fun _ => ?_) (fun _ => ?_)
  · refine j_aload_n (pc := 14) hX 0 rfl dX10_knownBy_14 ?_
    refine j_getI (pc := 15) hX fgX10_124.1 fgX10_124.2 rfl dX10_knownBy_15 ?_
    exact j_iret (pc := 18) hX hr dX10_knownBy_18
  · refine j_aload_n (pc := 7) hX 0 rfl dX10_knownBy_7 ?_
    refine j_getI (pc := 8) hX fgX10_374.1 fgX10_374.2 rfl dX10_knownBy_8 ?_
    refine j_goto (pc := 11) (tgt := 18) hX rfl dX10_knownBy_11 ?_
    exact j_iret (pc := 18) hX hr dX10_knownBy_18
set_option maxHeartbeats 4000000 in
set_option maxRecDepth 100000 in
theorem m_isSo_2_w {X : CTX} {rr : Int32 × HP} (hX : okX mV X rr cX10_isSo RX10 3 2 21) (hr : (xh X).sig.returnType = some .boolean) (f1 : Int32) (k : HP → Option (Int32 × HP)) (hk : ∀ (h : HP), jG mV X evI rr (k h) 94 [] [] h) : ∀ (n : Nat) (v2 : Int32) (h : HP), jG mV X evI rr (m_isSo_2 f1 k n v2 h) 2 [(0, .ref (xz X + 0)), (1, .int f1), (2, .int v2)] [] h := by
  intro n
  induction n with
  | zero =>
    intro v2 h
    exact j_none
  | succ n ih =>
    intro v2 h
    rw [m_isSo_2]
    refine j_iload_n (pc := 2) hX 2 rfl dX10_isSo_2 ?_
    refine j_aload_n (pc := 3) hX 0 rfl dX10_isSo_3 ?_
    refine j_callVI (pc := 4) (a := 0) (As := fun z => []) (rest := [.int v2]) hX (fun r e => m_t_knownBy h r e) ymX10_knownBy (lw_V q2282 q2284 qs135 q154 q2285) rfl ckX10 rfl ⟨Nat.le_of_ble_eq_true rfl, Nat.le_of_ble_eq_true rfl⟩ rfl rfl (Nat.le_of_ble_eq_true rfl) dX10_isSo_4 (fun r2 h3 => ?_)
    refine j_cge (pc := 7) (tgt := 94) hX rfl dX10_isSo_7 (fun _ => ?_) (fun _ => ?_)
    · refine j_locs [] rfl ?_
      exact hk h3
    · refine j_aload_n (pc := 10) hX 0 rfl dX10_isSo_10 ?_
      refine j_getR (pc := 11) hX fgX10_130.1 fgX10_130.2 rfl rfl dX10_isSo_11 ?_
      refine j_iload_n (pc := 14) hX 2 rfl dX10_isSo_14 ?_
      refine j_zald (pc := 15) (n := 24) hX rfl dX10_isSo_15 (fun _ => ?_)
      refine j_ifeq (pc := 16) (tgt := 88) hX rfl dX10_isSo_16 (fun _ => ?_) (fun _ => ?_)
      · refine j_iinc (pc := 88) hX 2 rfl (1 : Int32) ic_1 (fun x4 => [(2, .int x4), (0, .ref (xz X + 0)), (1, .int f1)]) (fun _ => rfl) (Nat.le_of_ble_eq_true rfl) dX10_isSo_88 (fun x4 => ?_)
        refine j_goto (pc := 91) (tgt := 2) hX rfl dX10_isSo_91 ?_
        refine j_locs [1, 2, 0] rfl ?_
        exact ih x4 h3
      · refine j_aload_n (pc := 19) hX 0 rfl dX10_isSo_19 ?_
        refine j_getR (pc := 20) hX fgX10_127.1 fgX10_127.2 rfl rfl dX10_isSo_20 ?_
        refine j_iconst (pc := 23) hX ic_4 dX10_isSo_23 ?_
        refine j_iload_n (pc := 24) hX 2 rfl dX10_isSo_24 ?_
        refine j_imul (pc := 25) hX dX10_isSo_25 ?_
        refine j_iald (pc := 26) (n := 96) hX rfl dX10_isSo_26 (fun _ => ?_)
        refine j_iload_n (pc := 27) hX 1 rfl dX10_isSo_27 ?_
        refine j_ceq (pc := 28) (tgt := 34) hX rfl dX10_isSo_28 (fun _ => ?_) (fun _ => ?_)
        · refine j_aload_n (pc := 34) hX 0 rfl dX10_isSo_34 ?_
          refine j_getR (pc := 35) hX fgX10_100.1 fgX10_100.2 rfl rfl dX10_isSo_35 ?_
          refine j_iconst (pc := 38) hX ic_5 dX10_isSo_38 ?_
          refine j_aload_n (pc := 39) hX 0 rfl dX10_isSo_39 ?_
          refine j_getR (pc := 40) hX fgX10_127.1 fgX10_127.2 rfl rfl dX10_isSo_40 ?_
          refine j_iconst (pc := 43) hX ic_4 dX10_isSo_43 ?_
          refine j_iload_n (pc := 44) hX 2 rfl dX10_isSo_44 ?_
          refine j_imul (pc := 45) hX dX10_isSo_45 ?_
          refine j_iconst (pc := 46) hX ic_1 dX10_isSo_46 ?_
          refine j_iadd (pc := 47) hX dX10_isSo_47 ?_
          refine j_iald (pc := 48) (n := 96) hX rfl dX10_isSo_48 (fun _ => ?_)
          refine j_iadd (pc := 49) hX dX10_isSo_49 ?_
          refine j_iald (pc := 50) (n := 10) hX rfl dX10_isSo_50 (fun _ => ?_)
          refine j_aload_n (pc := 51) hX 0 rfl dX10_isSo_51 ?_
          refine j_getR (pc := 52) hX fgX10_127.1 fgX10_127.2 rfl rfl dX10_isSo_52 ?_
          refine j_iconst (pc := 55) hX ic_4 dX10_isSo_55 ?_
          refine j_iload_n (pc := 56) hX 2 rfl dX10_isSo_56 ?_
          refine j_imul (pc := 57) hX dX10_isSo_57 ?_
          refine j_iconst (pc := 58) hX ic_2 dX10_isSo_58 ?_
          refine j_iadd (pc := 59) hX dX10_isSo_59 ?_
          refine j_iald (pc := 60) (n := 96) hX rfl dX10_isSo_60 (fun _ => ?_)
          refine j_callSI (pc := 61) (As := fun z => [.int (gI h3 29 (((5 : Int32) + (gI h3 37 ((((4 : Int32) * v2) + (1 : Int32))).toNatClampNeg))).toNatClampNeg), .int (gI h3 37 ((((4 : Int32) * v2) + (2 : Int32))).toNatClampNeg)]) (rest := []) hX (fun r e => m_t_isOf (gI h3 29 (((5 : Int32) + (gI h3 37 ((((4 : Int32) * v2) + (1 : Int32))).toNatClampNeg))).toNatClampNeg) (gI h3 37 ((((4 : Int32) * v2) + (2 : Int32))).toNatClampNeg) h3 r e) ymX10_isOf (lw_S q1926 q1927 q154 q1928) ⟨Nat.le_of_ble_eq_true rfl, Nat.le_of_ble_eq_true rfl⟩ rfl rfl (Nat.le_of_ble_eq_true rfl) dX10_isSo_61 (fun r5 h6 => ?_)
          refine j_aload_n (pc := 64) hX 0 rfl dX10_isSo_64 ?_
          refine j_getR (pc := 65) hX fgX10_127.1 fgX10_127.2 rfl rfl dX10_isSo_65 ?_
          refine j_iconst (pc := 68) hX ic_4 dX10_isSo_68 ?_
          refine j_iload_n (pc := 69) hX 2 rfl dX10_isSo_69 ?_
          refine j_imul (pc := 70) hX dX10_isSo_70 ?_
          refine j_iconst (pc := 71) hX ic_3 dX10_isSo_71 ?_
          refine j_iadd (pc := 72) hX dX10_isSo_72 ?_
          refine j_iald (pc := 73) (n := 96) hX rfl dX10_isSo_73 (fun _ => ?_)
          refine j_iconst (pc := 74) hX ic_1 dX10_isSo_74 ?_
          refine j_jon (fun (j7 : Int32 → Option (Int32 × HP)) => ∀ (s8 : Int32), jG mV X evI rr (j7 s8) 83 [(0, .ref (xz X + 0)), (1, .int f1), (2, .int v2)] [.int s8, .int r5] h6) ?_ ?_
          · intro s8
            refine j_ceq (pc := 83) (tgt := 88) hX rfl dX10_isSo_83 (fun _ => ?_) (fun _ => ?_)
            · refine j_iinc (pc := 88) hX 2 rfl (1 : Int32) ic_1 (fun x9 => [(2, .int x9), (0, .ref (xz X + 0)), (1, .int f1)]) (fun _ => rfl) (Nat.le_of_ble_eq_true rfl) dX10_isSo_88 (fun x9 => ?_)
              refine j_goto (pc := 91) (tgt := 2) hX rfl dX10_isSo_91 ?_
              refine j_locs [1, 2, 0] rfl ?_
              exact ih x9 h6
            · refine j_iconst (pc := 86) hX ic_0 dX10_isSo_86 ?_
              exact j_zret (pc := 87) hX (Or.inl rfl) hr dX10_isSo_87
          · intro j7 hj7
            refine j_cne (pc := 75) (tgt := 82) hX rfl dX10_isSo_75 (fun _ => ?_) (fun _ => ?_)
            · refine j_iconst (pc := 78) hX ic_1 dX10_isSo_78 ?_
              refine j_goto (pc := 79) (tgt := 83) hX rfl dX10_isSo_79 ?_
              exact hj7 (1 : Int32)
            · refine j_iconst (pc := 82) hX ic_0 dX10_isSo_82 ?_
              exact hj7 (0 : Int32)
        · refine j_goto (pc := 31) (tgt := 88) hX rfl dX10_isSo_31 ?_
          refine j_iinc (pc := 88) hX 2 rfl (1 : Int32) ic_1 (fun x10 => [(2, .int x10), (0, .ref (xz X + 0)), (1, .int f1)]) (fun _ => rfl) (Nat.le_of_ble_eq_true rfl) dX10_isSo_88 (fun x10 => ?_)
          refine j_goto (pc := 91) (tgt := 2) hX rfl dX10_isSo_91 ?_
          refine j_locs [1, 2, 0] rfl ?_
          exact ih x10 h3
set_option maxHeartbeats 4000000 in
set_option maxRecDepth 100000 in
theorem m_t_isSo (a1 : Int32) (h : HP) (rr : Int32 × HP) (e : m_isSo a1 h = some rr) : Cn mV yX10_isSo (ws_ yX10_isSo cX10_isSo 3 (some .boolean)) 2 21 (fun z => [.ref (z + 0), .int a1]) h (fun z => eI z rr.1) rr.2 := by
  refine cn_of (e1 := eI) (fun z => [(0, .ref (z + 0)), (1, .int a1)]) mV_ok ⟨Nat.le_refl _, Nat.le_refl _⟩ ymX10_isSo (fun _ => rfl) (fun _ => Nat.le_of_ble_eq_true rfl) (fun X hX hr _ => ?_) e
  have hX : okX mV X rr cX10_isSo RX10 3 2 21 := hX
  rw [m_isSo]
  refine j_iconst (pc := 0) hX ic_0 dX10_isSo_0 ?_
  refine j_istore_n (pc := 1) hX (fun x1 => [(2, .int x1), (0, .ref (xz X + 0)), (1, .int a1)]) (fun _ => rfl) (Nat.le_of_ble_eq_true rfl) dX10_isSo_1 (fun x1 => ?_)
  refine j_locs [1, 2, 0] rfl ?_
  refine m_isSo_2_w hX hr a1 _ (fun  h11 => ?_) FU x1 h
  refine j_iconst (pc := 94) hX ic_1 dX10_isSo_94 ?_
  exact j_zret (pc := 95) hX (Or.inr rfl) hr dX10_isSo_95
set_option maxHeartbeats 4000000 in
set_option maxRecDepth 100000 in
theorem m_fits_35_w {X : CTX} {rr : Int32 × HP} (hX : okX mV X rr cX10_fits RX10 5 8 170) (hr : (xh X).sig.returnType = some .boolean)  (k : Int32 → HP → Option (Int32 × HP)) (hk : ∀ (v3 : Int32) (h : HP), jG mV X evI rr (k v3 h) 69 [(3, .int v3)] [] h) : ∀ (n : Nat) (v3 : Int32) (v4 : Int32) (h : HP), jG mV X evI rr (m_fits_35 k n v3 v4 h) 35 [(0, .ref (xz X + 0)), (3, .int v3), (4, .int v4)] [] h := by
  intro n
  induction n with
  | zero =>
    intro v3 v4 h
    exact j_none
  | succ n ih =>
    intro v3 v4 h
    rw [m_fits_35]
    refine j_iload (pc := 35) hX 2 rfl dX10_fits_35 ?_
    refine j_aload_n (pc := 37) hX 0 rfl dX10_fits_37 ?_
    refine j_getI (pc := 38) hX fgX10_237.1 fgX10_237.2 rfl dX10_fits_38 ?_
    refine j_cge (pc := 41) (tgt := 69) hX rfl dX10_fits_41 (fun _ => ?_) (fun _ => ?_)
    · refine j_locs [1] rfl ?_
      exact hk v3 h
    · refine j_iload_n (pc := 44) hX 1 rfl dX10_fits_44 ?_
      refine j_ifeq (pc := 45) (tgt := 69) hX rfl dX10_fits_45 (fun _ => ?_) (fun _ => ?_)
      · refine j_locs [1] rfl ?_
        exact hk v3 h
      · refine j_aload_n (pc := 48) hX 0 rfl dX10_fits_48 ?_
        refine j_iload (pc := 49) hX 2 rfl dX10_fits_49 ?_
        refine j_callVV (pc := 51) (a := 0) (As := fun z => [.int v4]) (rest := []) hX (fun r e => m_t_talkOf v4 h r e) ymX10_talkOf (lw_V q2254 q2256 qs133 q154 q2257) rfl ckX10 rfl ⟨Nat.le_of_ble_eq_true rfl, Nat.le_of_ble_eq_true rfl⟩ rfl rfl (Nat.le_of_ble_eq_true rfl) dX10_fits_51 (fun r9 h10 => ?_)
        refine j_aload_n (pc := 54) hX 0 rfl dX10_fits_54 ?_
        refine j_iload (pc := 55) hX 2 rfl dX10_fits_55 ?_
        refine j_iconst (pc := 57) hX ic_1 dX10_fits_57 ?_
        refine j_iadd (pc := 58) hX dX10_fits_58 ?_
        refine j_callVI (pc := 59) (a := 0) (As := fun z => [.int (v4 + (1 : Int32))]) (rest := []) hX (fun r e => m_t_isSo (v4 + (1 : Int32)) h10 r e) ymX10_isSo (lw_V q2290 q2292 qs137 q154 q2293) rfl ckX10 rfl ⟨Nat.le_of_ble_eq_true rfl, Nat.le_of_ble_eq_true rfl⟩ rfl rfl (Nat.le_of_ble_eq_true rfl) dX10_fits_59 (fun r11 h12 => ?_)
        refine j_istore_n (pc := 62) hX (fun x13 => [(3, .int x13), (0, .ref (xz X + 0)), (4, .int v4)]) (fun _ => rfl) (Nat.le_of_ble_eq_true rfl) dX10_fits_62 (fun x13 => ?_)
        refine j_iinc (pc := 63) hX 2 rfl (1 : Int32) ic_1 (fun x14 => [(4, .int x14), (3, .int x13), (0, .ref (xz X + 0))]) (fun _ => rfl) (Nat.le_of_ble_eq_true rfl) dX10_fits_63 (fun x14 => ?_)
        refine j_goto (pc := 66) (tgt := 35) hX rfl dX10_fits_66 ?_
        refine j_locs [2, 1, 0] rfl ?_
        exact ih x13 x14 h12
set_option maxHeartbeats 4000000 in
set_option maxRecDepth 100000 in
theorem m_t_fits (a1 : Int32) (a2 : Int32) (h : HP) (rr : Int32 × HP) (e : m_fits a1 a2 h = some rr) : Cn mV yX10_fits (ws_ yX10_fits cX10_fits 5 (some .boolean)) 8 170 (fun z => [.ref (z + 0), .int a1, .int a2]) h (fun z => eI z rr.1) rr.2 := by
  refine cn_of (e1 := eI) (fun z => [(0, .ref (z + 0)), (1, .int a1), (2, .int a2)]) mV_ok ⟨Nat.le_refl _, Nat.le_refl _⟩ ymX10_fits (fun _ => rfl) (fun _ => Nat.le_of_ble_eq_true rfl) (fun X hX hr _ => ?_) e
  have hX : okX mV X rr cX10_fits RX10 5 8 170 := hX
  rw [m_fits]
  refine j_aload_n (pc := 0) hX 0 rfl dX10_fits_0 ?_
  refine j_callVV (pc := 1) (a := 0) (As := fun z => []) (rest := []) hX (fun r e => m_t_layTextTried h r e) ymX10_layTextTried (lw_V q2250 q2252 qs132 q154 q2253) rfl ckX10 rfl ⟨Nat.le_of_ble_eq_true rfl, Nat.le_of_ble_eq_true rfl⟩ rfl rfl (Nat.le_of_ble_eq_true rfl) dX10_fits_1 (fun r1 h2 => ?_)
  refine j_iload_n (pc := 4) hX 2 rfl dX10_fits_4 ?_
  refine j_aload_n (pc := 5) hX 0 rfl dX10_fits_5 ?_
  refine j_getI (pc := 6) hX fgX10_228.1 fgX10_228.2 rfl dX10_fits_6 ?_
  refine j_jon (fun (j3 : HP → Option (Int32 × HP)) => ∀ (h4 : HP), jG mV X evI rr (j3 h4) 26 [(0, .ref (xz X + 0))] [] h4) ?_ ?_
  · intro h4
    refine j_aload_n (pc := 26) hX 0 rfl dX10_fits_26 ?_
    refine j_iconst (pc := 27) hX ic_0 dX10_fits_27 ?_
    refine j_callVI (pc := 28) (a := 0) (As := fun z => [.int (0 : Int32)]) (rest := []) hX (fun r e => m_t_isSo (0 : Int32) h4 r e) ymX10_isSo (lw_V q2290 q2292 qs137 q154 q2293) rfl ckX10 rfl ⟨Nat.le_of_ble_eq_true rfl, Nat.le_of_ble_eq_true rfl⟩ rfl rfl (Nat.le_of_ble_eq_true rfl) dX10_fits_28 (fun r5 h6 => ?_)
    refine j_istore_n (pc := 31) hX (fun x7 => [(3, .int x7), (0, .ref (xz X + 0))]) (fun _ => rfl) (Nat.le_of_ble_eq_true rfl) dX10_fits_31 (fun x7 => ?_)
    refine j_iconst (pc := 32) hX ic_0 dX10_fits_32 ?_
    refine j_istore (pc := 33) hX (fun x8 => [(4, .int x8), (3, .int x7), (0, .ref (xz X + 0))]) (fun _ => rfl) (Nat.le_of_ble_eq_true rfl) dX10_fits_33 (fun x8 => ?_)
    refine j_locs [2, 1, 0] rfl ?_
    refine m_fits_35_w hX hr  _ (fun x15 h16 => ?_) FU x7 x8 h6
    refine j_iload_n (pc := 69) hX 0 rfl dX10_fits_69 ?_
    refine j_grd fun g17 => ?_
    exact j_zret (pc := 70) hX g17 hr dX10_fits_70
  · intro j3 hj3
    refine j_cge (pc := 9) (tgt := 26) hX rfl dX10_fits_9 (fun _ => ?_) (fun _ => ?_)
    · refine j_locs [0] rfl ?_
      exact hj3 h2
    · refine j_aload_n (pc := 12) hX 0 rfl dX10_fits_12 ?_
      refine j_getR (pc := 13) hX fgX10_100.1 fgX10_100.2 rfl rfl dX10_fits_13 ?_
      refine j_iconst (pc := 16) hX ic_5 dX10_fits_16 ?_
      refine j_iload_n (pc := 17) hX 1 rfl dX10_fits_17 ?_
      refine j_iadd (pc := 18) hX dX10_fits_18 ?_
      refine j_dup2 (pc := 19) hX rfl rfl dX10_fits_19 ?_
      refine j_iald (pc := 20) (n := 10) hX rfl dX10_fits_20 (fun _ => ?_)
      refine j_iconst (pc := 21) hX ic_1 dX10_fits_21 ?_
      refine j_iload_n (pc := 22) hX 2 rfl dX10_fits_22 ?_
      refine j_ishl (pc := 23) hX dX10_fits_23 ?_
      refine j_ior (pc := 24) hX dX10_fits_24 ?_
      refine j_iast (pc := 25) (n := 10) hX rfl dX10_fits_25 (fun _ h18 => ?_)
      refine j_locs [0] rfl ?_
      exact hj3 h18
set_option maxHeartbeats 4000000 in
set_option maxRecDepth 100000 in
theorem m_knew_17_w {X : CTX} {rr : Int32 × HP} (hX : okX mV X rr cX10_knew RX10 4 9 194) (hr : (xh X).sig.returnType = some .int) (f1 : Int32) (k : HP → Option (Int32 × HP)) (hk : ∀ (h : HP), jG mV X evI rr (k h) 38 [(0, .ref (xz X + 0)), (1, .int f1)] [] h) : ∀ (n : Nat) (v2 : Int32) (h : HP), jG mV X evI rr (m_knew_17 f1 k n v2 h) 17 [(0, .ref (xz X + 0)), (1, .int f1), (2, .int v2)] [] h := by
  intro n
  induction n with
  | zero =>
    intro v2 h
    exact j_none
  | succ n ih =>
    intro v2 h
    rw [m_knew_17]
    refine j_iload_n (pc := 17) hX 2 rfl dX10_knew_17 ?_
    refine j_aload_n (pc := 18) hX 0 rfl dX10_knew_18 ?_
    refine j_callVI (pc := 19) (a := 0) (As := fun z => []) (rest := [.int v2]) hX (fun r e => m_t_knownBy h r e) ymX10_knownBy (lw_V q2282 q2284 qs135 q154 q2285) rfl ckX10 rfl ⟨Nat.le_of_ble_eq_true rfl, Nat.le_of_ble_eq_true rfl⟩ rfl rfl (Nat.le_of_ble_eq_true rfl) dX10_knew_19 (fun r5 h6 => ?_)
    refine j_cge (pc := 22) (tgt := 38) hX rfl dX10_knew_22 (fun _ => ?_) (fun _ => ?_)
    · refine j_locs [0, 1] rfl ?_
      exact hk h6
    · refine j_aload_n (pc := 25) hX 0 rfl dX10_knew_25 ?_
      refine j_getR (pc := 26) hX fgX10_130.1 fgX10_130.2 rfl rfl dX10_knew_26 ?_
      refine j_iload_n (pc := 29) hX 2 rfl dX10_knew_29 ?_
      refine j_iconst (pc := 30) hX ic_1 dX10_knew_30 ?_
      refine j_zast (pc := 31) (n := 24) hX (Or.inr rfl) rfl dX10_knew_31 (fun _ h7 => ?_)
      refine j_iinc (pc := 32) hX 2 rfl (1 : Int32) ic_1 (fun x8 => [(2, .int x8), (0, .ref (xz X + 0)), (1, .int f1)]) (fun _ => rfl) (Nat.le_of_ble_eq_true rfl) dX10_knew_32 (fun x8 => ?_)
      refine j_goto (pc := 35) (tgt := 17) hX rfl dX10_knew_35 ?_
      refine j_locs [1, 2, 0] rfl ?_
      exact ih x8 h7
set_option maxHeartbeats 4000000 in
set_option maxRecDepth 100000 in
theorem m_knew_45_w {X : CTX} {rr : Int32 × HP} (hX : okX mV X rr cX10_knew RX10 4 9 194) (hr : (xh X).sig.returnType = some .int) (f1 : Int32) (k : HP → Option (Int32 × HP)) (hk : ∀ (h : HP), jG mV X evI rr (k h) 91 [(0, .ref (xz X + 0)), (1, .int f1)] [] h) : ∀ (n : Nat) (v2 : Int32) (h : HP), jG mV X evI rr (m_knew_45 f1 k n v2 h) 45 [(0, .ref (xz X + 0)), (1, .int f1), (2, .int v2)] [] h := by
  intro n
  induction n with
  | zero =>
    intro v2 h
    exact j_none
  | succ n ih =>
    intro v2 h
    rw [m_knew_45]
    refine j_iload_n (pc := 45) hX 2 rfl dX10_knew_45 ?_
    refine j_iflt (pc := 46) (tgt := 91) hX rfl dX10_knew_46 (fun _ => ?_) (fun _ => ?_)
    · refine j_locs [0, 1] rfl ?_
      exact hk h
    · refine j_aload_n (pc := 49) hX 0 rfl dX10_knew_49 ?_
      refine j_getR (pc := 50) hX fgX10_130.1 fgX10_130.2 rfl rfl dX10_knew_50 ?_
      refine j_iload_n (pc := 53) hX 2 rfl dX10_knew_53 ?_
      refine j_zald (pc := 54) (n := 24) hX rfl dX10_knew_54 (fun _ => ?_)
      refine j_ifeq (pc := 55) (tgt := 85) hX rfl dX10_knew_55 (fun _ => ?_) (fun _ => ?_)
      · refine j_iinc (pc := 85) hX 2 rfl (-1 : Int32) ic_m1 (fun x13 => [(2, .int x13), (0, .ref (xz X + 0)), (1, .int f1)]) (fun _ => rfl) (Nat.le_of_ble_eq_true rfl) dX10_knew_85 (fun x13 => ?_)
        refine j_goto (pc := 88) (tgt := 45) hX rfl dX10_knew_88 ?_
        refine j_locs [1, 2, 0] rfl ?_
        exact ih x13 h
      · refine j_aload_n (pc := 58) hX 0 rfl dX10_knew_58 ?_
        refine j_getR (pc := 59) hX fgX10_127.1 fgX10_127.2 rfl rfl dX10_knew_59 ?_
        refine j_iconst (pc := 62) hX ic_4 dX10_knew_62 ?_
        refine j_iload_n (pc := 63) hX 2 rfl dX10_knew_63 ?_
        refine j_imul (pc := 64) hX dX10_knew_64 ?_
        refine j_iald (pc := 65) (n := 96) hX rfl dX10_knew_65 (fun _ => ?_)
        refine j_ifge (pc := 66) (tgt := 85) hX rfl dX10_knew_66 (fun _ => ?_) (fun _ => ?_)
        · refine j_iinc (pc := 85) hX 2 rfl (-1 : Int32) ic_m1 (fun x14 => [(2, .int x14), (0, .ref (xz X + 0)), (1, .int f1)]) (fun _ => rfl) (Nat.le_of_ble_eq_true rfl) dX10_knew_85 (fun x14 => ?_)
          refine j_goto (pc := 88) (tgt := 45) hX rfl dX10_knew_88 ?_
          refine j_locs [1, 2, 0] rfl ?_
          exact ih x14 h
        · refine j_aload_n (pc := 69) hX 0 rfl dX10_knew_69 ?_
          refine j_getR (pc := 70) hX fgX10_130.1 fgX10_130.2 rfl rfl dX10_knew_70 ?_
          refine j_aload_n (pc := 73) hX 0 rfl dX10_knew_73 ?_
          refine j_getR (pc := 74) hX fgX10_127.1 fgX10_127.2 rfl rfl dX10_knew_74 ?_
          refine j_iconst (pc := 77) hX ic_4 dX10_knew_77 ?_
          refine j_iload_n (pc := 78) hX 2 rfl dX10_knew_78 ?_
          refine j_imul (pc := 79) hX dX10_knew_79 ?_
          refine j_iconst (pc := 80) hX ic_1 dX10_knew_80 ?_
          refine j_iadd (pc := 81) hX dX10_knew_81 ?_
          refine j_iald (pc := 82) (n := 96) hX rfl dX10_knew_82 (fun _ => ?_)
          refine j_iconst (pc := 83) hX ic_0 dX10_knew_83 ?_
          refine j_zast (pc := 84) (n := 24) hX (Or.inl rfl) rfl dX10_knew_84 (fun _ h15 => ?_)
          refine j_iinc (pc := 85) hX 2 rfl (-1 : Int32) ic_m1 (fun x16 => [(2, .int x16), (0, .ref (xz X + 0)), (1, .int f1)]) (fun _ => rfl) (Nat.le_of_ble_eq_true rfl) dX10_knew_85 (fun x16 => ?_)
          refine j_goto (pc := 88) (tgt := 45) hX rfl dX10_knew_88 ?_
          refine j_locs [1, 2, 0] rfl ?_
          exact ih x16 h15
set_option maxHeartbeats 4000000 in
set_option maxRecDepth 100000 in
theorem m_knew_95_w {X : CTX} {rr : Int32 × HP} (hX : okX mV X rr cX10_knew RX10 4 9 194) (hr : (xh X).sig.returnType = some .int) (f1 : Int32) (k : Int32 → HP → Option (Int32 × HP)) (hk : ∀ (v2 : Int32) (h : HP), jG mV X evI rr (k v2 h) 128 [(2, .int v2)] [] h) : ∀ (n : Nat) (v2 : Int32) (v3 : Int32) (h : HP), jG mV X evI rr (m_knew_95 f1 k n v2 v3 h) 95 [(0, .ref (xz X + 0)), (1, .int f1), (2, .int v2), (3, .int v3)] [] h := by
  intro n
  induction n with
  | zero =>
    intro v2 v3 h
    exact j_none
  | succ n ih =>
    intro v2 v3 h
    rw [m_knew_95]
    refine j_iload_n (pc := 95) hX 3 rfl dX10_knew_95 ?_
    refine j_aload_n (pc := 96) hX 0 rfl dX10_knew_96 ?_
    refine j_getI (pc := 97) hX fgX10_228.1 fgX10_228.2 rfl dX10_knew_97 ?_
    refine j_cgt (pc := 100) (tgt := 128) hX rfl dX10_knew_100 (fun _ => ?_) (fun _ => ?_)
    · refine j_locs [2] rfl ?_
      exact hk v2 h
    · refine j_iload_n (pc := 103) hX 2 rfl dX10_knew_103 ?_
      refine j_aload_n (pc := 104) hX 0 rfl dX10_knew_104 ?_
      refine j_iload_n (pc := 105) hX 1 rfl dX10_knew_105 ?_
      refine j_iload_n (pc := 106) hX 3 rfl dX10_knew_106 ?_
      refine j_callVI (pc := 107) (a := 0) (As := fun z => [.int f1, .int v3]) (rest := [.int v2]) hX (fun r e => m_t_fits f1 v3 h r e) ymX10_fits (lw_V q2286 q2288 qs136 q154 q2289) rfl ckX10 rfl ⟨Nat.le_of_ble_eq_true rfl, Nat.le_of_ble_eq_true rfl⟩ rfl rfl (Nat.le_of_ble_eq_true rfl) dX10_knew_107 (fun r20 h21 => ?_)
      refine j_jon (fun (j22 : Int32 → Option (Int32 × HP)) => ∀ (s23 : Int32), jG mV X evI rr (j22 s23) 120 [(0, .ref (xz X + 0)), (1, .int f1), (3, .int v3)] [.int s23, .int v2] h21) ?_ ?_
      · intro s23
        refine j_ior (pc := 120) hX dX10_knew_120 ?_
        refine j_istore_n (pc := 121) hX (fun x24 => [(2, .int x24), (0, .ref (xz X + 0)), (1, .int f1), (3, .int v3)]) (fun _ => rfl) (Nat.le_of_ble_eq_true rfl) dX10_knew_121 (fun x24 => ?_)
        refine j_iinc (pc := 122) hX 3 rfl (1 : Int32) ic_1 (fun x25 => [(3, .int x25), (2, .int x24), (0, .ref (xz X + 0)), (1, .int f1)]) (fun _ => rfl) (Nat.le_of_ble_eq_true rfl) dX10_knew_122 (fun x25 => ?_)
        refine j_goto (pc := 125) (tgt := 95) hX rfl dX10_knew_125 ?_
        refine j_locs [2, 3, 1, 0] rfl ?_
        exact ih x24 x25 h21
      · intro j22 hj22
        refine j_ifeq (pc := 110) (tgt := 119) hX rfl dX10_knew_110 (fun _ => ?_) (fun _ => ?_)
        · refine j_iconst (pc := 119) hX ic_0 dX10_knew_119 ?_
          refine j_locs [0, 1, 3] rfl ?_
          exact hj22 (0 : Int32)
        · refine j_iconst (pc := 113) hX ic_1 dX10_knew_113 ?_
          refine j_iload_n (pc := 114) hX 3 rfl dX10_knew_114 ?_
          refine j_ishl (pc := 115) hX dX10_knew_115 ?_
          refine j_goto (pc := 116) (tgt := 120) hX rfl dX10_knew_116 ?_
          refine j_locs [0, 1, 3] rfl ?_
          exact hj22 ((1 : Int32) <<< (v3 &&& 31))
set_option maxHeartbeats 4000000 in
set_option maxRecDepth 100000 in
theorem m_t_knew (a1 : Int32) (h : HP) (rr : Int32 × HP) (e : m_knew a1 h = some rr) : Cn mV yX10_knew (ws_ yX10_knew cX10_knew 4 (some .int)) 9 194 (fun z => [.ref (z + 0), .int a1]) h (fun z => eI z rr.1) rr.2 := by
  refine cn_of (e1 := eI) (fun z => [(0, .ref (z + 0)), (1, .int a1)]) mV_ok ⟨Nat.le_refl _, Nat.le_refl _⟩ ymX10_knew (fun _ => rfl) (fun _ => Nat.le_of_ble_eq_true rfl) (fun X hX hr _ => ?_) e
  have hX : okX mV X rr cX10_knew RX10 4 9 194 := hX
  rw [m_knew]
  refine j_aload_n (pc := 0) hX 0 rfl dX10_knew_0 ?_
  refine j_iconst (pc := 1) hX ic_0 dX10_knew_1 ?_
  refine j_putI (pc := 2) hX fwX10_148.1 fwX10_148.2 rfl dX10_knew_2 (fun h1 => ?_)
  refine j_aload_n (pc := 5) hX 0 rfl dX10_knew_5 ?_
  refine j_iload_n (pc := 6) hX 1 rfl dX10_knew_6 ?_
  refine j_callVI (pc := 7) (a := 0) (As := fun z => [.int a1]) (rest := []) hX (fun r e => m_t_isPerson a1 h1 r e) ymX10_isPerson (lw_V q2004 q2006 qs96 q154 q2007) rfl ckX10 rfl ⟨Nat.le_of_ble_eq_true rfl, Nat.le_of_ble_eq_true rfl⟩ rfl rfl (Nat.le_of_ble_eq_true rfl) dX10_knew_7 (fun r2 h3 => ?_)
  refine j_ifne (pc := 10) (tgt := 15) hX rfl dX10_knew_10 (fun _ => ?_) (fun _ => ?_)
  · refine j_iconst (pc := 13) hX ic_m1 dX10_knew_13 ?_
    exact j_iret (pc := 14) hX hr dX10_knew_14
  · refine j_iconst (pc := 15) hX ic_0 dX10_knew_15 ?_
    refine j_istore_n (pc := 16) hX (fun x4 => [(2, .int x4), (0, .ref (xz X + 0)), (1, .int a1)]) (fun _ => rfl) (Nat.le_of_ble_eq_true rfl) dX10_knew_16 (fun x4 => ?_)
    refine j_locs [1, 2, 0] rfl ?_
    refine m_knew_17_w hX hr a1 _ (fun  h9 => ?_) FU x4 h3
    refine j_aload_n (pc := 38) hX 0 rfl dX10_knew_38 ?_
    refine j_callVI (pc := 39) (a := 0) (As := fun z => []) (rest := []) hX (fun r e => m_t_knownBy h9 r e) ymX10_knownBy (lw_V q2282 q2284 qs135 q154 q2285) rfl ckX10 rfl ⟨Nat.le_of_ble_eq_true rfl, Nat.le_of_ble_eq_true rfl⟩ rfl rfl (Nat.le_of_ble_eq_true rfl) dX10_knew_39 (fun r10 h11 => ?_)
    refine j_iconst (pc := 42) hX ic_1 dX10_knew_42 ?_
    refine j_isub (pc := 43) hX dX10_knew_43 ?_
    refine j_istore_n (pc := 44) hX (fun x12 => [(2, .int x12), (0, .ref (xz X + 0)), (1, .int a1)]) (fun _ => rfl) (Nat.le_of_ble_eq_true rfl) dX10_knew_44 (fun x12 => ?_)
    refine j_locs [1, 2, 0] rfl ?_
    refine m_knew_45_w hX hr a1 _ (fun  h17 => ?_) FU x12 h11
    refine j_iconst (pc := 91) hX ic_0 dX10_knew_91 ?_
    refine j_istore_n (pc := 92) hX (fun x18 => [(2, .int x18), (0, .ref (xz X + 0)), (1, .int a1)]) (fun _ => rfl) (Nat.le_of_ble_eq_true rfl) dX10_knew_92 (fun x18 => ?_)
    refine j_iconst (pc := 93) hX ic_0 dX10_knew_93 ?_
    refine j_istore_n (pc := 94) hX (fun x19 => [(3, .int x19), (2, .int x18), (0, .ref (xz X + 0)), (1, .int a1)]) (fun _ => rfl) (Nat.le_of_ble_eq_true rfl) dX10_knew_94 (fun x19 => ?_)
    refine j_locs [2, 3, 1, 0] rfl ?_
    refine m_knew_95_w hX hr a1 _ (fun x26 h27 => ?_) FU x18 x19 h17
    refine j_iload_n (pc := 128) hX 0 rfl dX10_knew_128 ?_
    exact j_iret (pc := 129) hX hr dX10_knew_129
set_option maxHeartbeats 4000000 in
set_option maxRecDepth 100000 in
theorem m_chance_69_w {X : CTX} {rr : Int32 × HP} (hX : okX mV X rr cX10_chance RX10 9 8 170) (hr : (xh X).sig.returnType = some .int) (f2 : Int32) (f3 : Int32) (f4 : Int64) (f6 : Int32) (f7 : Int32) (k : HP → Option (Int32 × HP)) (hk : ∀ (h : HP), jG mV X evI rr (k h) 90 [(0, .ref (xz X + 0)), (2, .int f2), (3, .int f3), (4, .long f4), (6, .int f6), (7, .int f7)] [] h) : ∀ (n : Nat) (v8 : Int32) (h : HP), jG mV X evI rr (m_chance_69 f2 f3 f4 f6 f7 k n v8 h) 69 [(0, .ref (xz X + 0)), (2, .int f2), (3, .int f3), (4, .long f4), (6, .int f6), (7, .int f7), (8, .int v8)] [] h := by
  intro n
  induction n with
  | zero =>
    intro v8 h
    exact j_none
  | succ n ih =>
    intro v8 h
    rw [m_chance_69]
    refine j_iload (pc := 69) hX 6 rfl dX10_chance_69 ?_
    refine j_aload_n (pc := 71) hX 0 rfl dX10_chance_71 ?_
    refine j_getI (pc := 72) hX fgX10_237.1 fgX10_237.2 rfl dX10_chance_72 ?_
    refine j_cge (pc := 75) (tgt := 90) hX rfl dX10_chance_75 (fun _ => ?_) (fun _ => ?_)
    · refine j_locs [0, 1, 2, 3, 4, 5] rfl ?_
      exact hk h
    · refine j_aload_n (pc := 78) hX 0 rfl dX10_chance_78 ?_
      refine j_iload (pc := 79) hX 6 rfl dX10_chance_79 ?_
      refine j_callVV (pc := 81) (a := 0) (As := fun z => [.int v8]) (rest := []) hX (fun r e => m_t_talkOf v8 h r e) ymX10_talkOf (lw_V q2254 q2256 qs133 q154 q2257) rfl ckX10 rfl ⟨Nat.le_of_ble_eq_true rfl, Nat.le_of_ble_eq_true rfl⟩ rfl rfl (Nat.le_of_ble_eq_true rfl) dX10_chance_81 (fun r15 h16 => ?_)
      refine j_iinc (pc := 84) hX 6 rfl (1 : Int32) ic_1 (fun x17 => [(8, .int x17), (0, .ref (xz X + 0)), (2, .int f2), (3, .int f3), (4, .long f4), (6, .int f6), (7, .int f7)]) (fun _ => rfl) (Nat.le_of_ble_eq_true rfl) dX10_chance_84 (fun x17 => ?_)
      refine j_goto (pc := 87) (tgt := 69) hX rfl dX10_chance_87 ?_
      refine j_locs [1, 2, 3, 4, 5, 6, 0] rfl ?_
      exact ih x17 h16
set_option maxHeartbeats 4000000 in
set_option maxRecDepth 100000 in
theorem m_chance_45_w {X : CTX} {rr : Int32 × HP} (hX : okX mV X rr cX10_chance RX10 9 8 170) (hr : (xh X).sig.returnType = some .int) (f2 : Int32) (f3 : Int32) (f4 : Int64) (k : Int32 → HP → Option (Int32 × HP)) (hk : ∀ (v6 : Int32) (h : HP), jG mV X evI rr (k v6 h) 121 [(0, .ref (xz X + 0)), (4, .long f4), (6, .int v6)] [] h) : ∀ (n : Nat) (v6 : Int32) (v7 : Int32) (h : HP), jG mV X evI rr (m_chance_45 f2 f3 f4 k n v6 v7 h) 45 [(0, .ref (xz X + 0)), (2, .int f2), (3, .int f3), (4, .long f4), (6, .int v6), (7, .int v7)] [] h := by
  intro n
  induction n with
  | zero =>
    intro v6 v7 h
    exact j_none
  | succ n ih =>
    intro v6 v7 h
    rw [m_chance_45]
    refine j_iload (pc := 45) hX 5 rfl dX10_chance_45 ?_
    refine j_bipush (pc := 47) hX bp_10 dX10_chance_47 ?_
    refine j_cge (pc := 49) (tgt := 121) hX rfl dX10_chance_49 (fun _ => ?_) (fun _ => ?_)
    · refine j_locs [0, 3, 4] rfl ?_
      exact hk v6 h
    · refine j_aload_n (pc := 52) hX 0 rfl dX10_chance_52 ?_
      refine j_callVV (pc := 53) (a := 0) (As := fun z => []) (rest := []) hX (fun r e => m_t_layTried h r e) ymX10_layTried (lw_V q2126 q2128 qs115 q154 q2129) rfl ckX10 rfl ⟨Nat.le_of_ble_eq_true rfl, Nat.le_of_ble_eq_true rfl⟩ rfl rfl (Nat.le_of_ble_eq_true rfl) dX10_chance_53 (fun r10 h11 => ?_)
      refine j_aload_n (pc := 56) hX 0 rfl dX10_chance_56 ?_
      refine j_iconst (pc := 57) hX ic_1 dX10_chance_57 ?_
      refine j_putZ (pc := 58) hX (Or.inr rfl) fwX10_383.1 fwX10_383.2 rfl dX10_chance_58 (fun h12 => ?_)
      refine j_aload_n (pc := 61) hX 0 rfl dX10_chance_61 ?_
      refine j_iconst (pc := 62) hX ic_1 dX10_chance_62 ?_
      refine j_putZ (pc := 63) hX (Or.inr rfl) fwX10_386.1 fwX10_386.2 rfl dX10_chance_63 (fun h13 => ?_)
      refine j_iconst (pc := 66) hX ic_0 dX10_chance_66 ?_
      refine j_istore (pc := 67) hX (fun x14 => [(8, .int x14), (0, .ref (xz X + 0)), (2, .int f2), (3, .int f3), (4, .long f4), (6, .int v6), (7, .int v7)]) (fun _ => rfl) (Nat.le_of_ble_eq_true rfl) dX10_chance_67 (fun x14 => ?_)
      refine j_locs [1, 2, 3, 4, 5, 6, 0] rfl ?_
      refine m_chance_69_w hX hr f2 f3 f4 v6 v7 _ (fun  h18 => ?_) FU x14 h13
      refine j_iload (pc := 90) hX 4 rfl dX10_chance_90 ?_
      refine j_aload_n (pc := 92) hX 0 rfl dX10_chance_92 ?_
      refine j_getR (pc := 93) hX fgX10_100.1 fgX10_100.2 rfl rfl dX10_chance_93 ?_
      refine j_iconst (pc := 96) hX ic_5 dX10_chance_96 ?_
      refine j_iload_n (pc := 97) hX 1 rfl dX10_chance_97 ?_
      refine j_iadd (pc := 98) hX dX10_chance_98 ?_
      refine j_iald (pc := 99) (n := 10) hX rfl dX10_chance_99 (fun _ => ?_)
      refine j_iload_n (pc := 100) hX 2 rfl dX10_chance_100 ?_
      refine j_callSI (pc := 101) (As := fun z => [.int (gI h18 29 (((5 : Int32) + f2)).toNatClampNeg), .int f3]) (rest := [.int v6]) hX (fun r e => m_t_isOf (gI h18 29 (((5 : Int32) + f2)).toNatClampNeg) f3 h18 r e) ymX10_isOf (lw_S q1926 q1927 q154 q1928) ⟨Nat.le_of_ble_eq_true rfl, Nat.le_of_ble_eq_true rfl⟩ rfl rfl (Nat.le_of_ble_eq_true rfl) dX10_chance_101 (fun r19 h20 => ?_)
      refine j_jon (fun (j21 : Int32 → Option (Int32 × HP)) => ∀ (s22 : Int32), jG mV X evI rr (j21 s22) 112 [(0, .ref (xz X + 0)), (2, .int f2), (3, .int f3), (4, .long f4), (7, .int v7)] [.int s22, .int v6] h20) ?_ ?_
      · intro s22
        refine j_iadd (pc := 112) hX dX10_chance_112 ?_
        refine j_istore (pc := 113) hX (fun x23 => [(6, .int x23), (0, .ref (xz X + 0)), (2, .int f2), (3, .int f3), (4, .long f4), (7, .int v7)]) (fun _ => rfl) (Nat.le_of_ble_eq_true rfl) dX10_chance_113 (fun x23 => ?_)
        refine j_iinc (pc := 115) hX 5 rfl (1 : Int32) ic_1 (fun x24 => [(7, .int x24), (6, .int x23), (0, .ref (xz X + 0)), (2, .int f2), (3, .int f3), (4, .long f4)]) (fun _ => rfl) (Nat.le_of_ble_eq_true rfl) dX10_chance_115 (fun x24 => ?_)
        refine j_goto (pc := 118) (tgt := 45) hX rfl dX10_chance_118 ?_
        refine j_locs [2, 3, 4, 5, 1, 0] rfl ?_
        exact ih x23 x24 h20
      · intro j21 hj21
        refine j_ifeq (pc := 104) (tgt := 111) hX rfl dX10_chance_104 (fun _ => ?_) (fun _ => ?_)
        · refine j_iconst (pc := 111) hX ic_0 dX10_chance_111 ?_
          refine j_locs [0, 1, 2, 3, 5] rfl ?_
          exact hj21 (0 : Int32)
        · refine j_iconst (pc := 107) hX ic_1 dX10_chance_107 ?_
          refine j_goto (pc := 108) (tgt := 112) hX rfl dX10_chance_108 ?_
          refine j_locs [0, 1, 2, 3, 5] rfl ?_
          exact hj21 (1 : Int32)
set_option maxHeartbeats 4000000 in
set_option maxRecDepth 100000 in
theorem m_t_chance (a1 : Int32) (a2 : Int32) (a3 : Int32) (h : HP) (rr : Int32 × HP) (e : m_chance a1 a2 a3 h = some rr) : Cn mV yX10_chance (ws_ yX10_chance cX10_chance 9 (some .int)) 8 170 (fun z => [.ref (z + 0), .int a1, .int a2, .int a3]) h (fun z => eI z rr.1) rr.2 := by
  refine cn_of (e1 := eI) (fun z => [(0, .ref (z + 0)), (1, .int a1), (2, .int a2), (3, .int a3)]) mV_ok ⟨Nat.le_refl _, Nat.le_refl _⟩ ymX10_chance (fun _ => rfl) (fun _ => Nat.le_of_ble_eq_true rfl) (fun X hX hr _ => ?_) e
  have hX : okX mV X rr cX10_chance RX10 9 8 170 := hX
  rw [m_chance]
  refine j_aload_n (pc := 0) hX 0 rfl dX10_chance_0 ?_
  refine j_iconst (pc := 1) hX ic_0 dX10_chance_1 ?_
  refine j_putI (pc := 2) hX fwX10_148.1 fwX10_148.2 rfl dX10_chance_2 (fun h1 => ?_)
  refine j_iload_n (pc := 5) hX 1 rfl dX10_chance_5 ?_
  refine j_iflt (pc := 6) (tgt := 25) hX rfl dX10_chance_6 (fun _ => ?_) (fun _ => ?_)
  · refine j_iconst (pc := 25) hX ic_m1 dX10_chance_25 ?_
    exact j_iret (pc := 26) hX hr dX10_chance_26
  · refine j_aload_n (pc := 9) hX 0 rfl dX10_chance_9 ?_
    refine j_iload_n (pc := 10) hX 2 rfl dX10_chance_10 ?_
    refine j_callVI (pc := 11) (a := 0) (As := fun z => [.int a2]) (rest := []) hX (fun r e => m_t_isPerson a2 h1 r e) ymX10_isPerson (lw_V q2004 q2006 qs96 q154 q2007) rfl ckX10 rfl ⟨Nat.le_of_ble_eq_true rfl, Nat.le_of_ble_eq_true rfl⟩ rfl rfl (Nat.le_of_ble_eq_true rfl) dX10_chance_11 (fun r2 h3 => ?_)
    refine j_ifeq (pc := 14) (tgt := 25) hX rfl dX10_chance_14 (fun _ => ?_) (fun _ => ?_)
    · refine j_iconst (pc := 25) hX ic_m1 dX10_chance_25 ?_
      exact j_iret (pc := 26) hX hr dX10_chance_26
    · refine j_aload_n (pc := 17) hX 0 rfl dX10_chance_17 ?_
      refine j_iload_n (pc := 18) hX 3 rfl dX10_chance_18 ?_
      refine j_callVI (pc := 19) (a := 0) (As := fun z => [.int a3]) (rest := []) hX (fun r e => m_t_isFact a3 h3 r e) ymX10_isFact (lw_V q2110 q2112 qs114 q154 q2113) rfl ckX10 rfl ⟨Nat.le_of_ble_eq_true rfl, Nat.le_of_ble_eq_true rfl⟩ rfl rfl (Nat.le_of_ble_eq_true rfl) dX10_chance_19 (fun r4 h5 => ?_)
      refine j_ifne (pc := 22) (tgt := 27) hX rfl dX10_chance_22 (fun _ => ?_) (fun _ => ?_)
      · refine j_iconst (pc := 25) hX ic_m1 dX10_chance_25 ?_
        exact j_iret (pc := 26) hX hr dX10_chance_26
      · refine j_aload_n (pc := 27) hX 0 rfl dX10_chance_27 ?_
        refine j_getL (pc := 28) hX fgX10_367.1 fgX10_367.2 rfl dX10_chance_28 ?_
        refine j_lstore (pc := 31) hX (fun x6 => [(4, .long x6), (0, .ref (xz X + 0)), (1, .int a1), (2, .int a2), (3, .int a3)]) (fun _ => rfl) (Nat.le_of_ble_eq_true rfl) dX10_chance_31 (fun x6 => ?_)
        refine j_aload_n (pc := 33) hX 1 rfl dX10_chance_33 ?_
        refine j_iload_n (pc := 34) hX 2 rfl dX10_chance_34 ?_
        refine j_i2l (pc := 35) hX dX10_chance_35 ?_
        refine j_putL (pc := 36) hX fwX10_367.1 fwX10_367.2 rfl dX10_chance_36 (fun h7 => ?_)
        refine j_iconst (pc := 39) hX ic_0 dX10_chance_39 ?_
        refine j_istore (pc := 40) hX (fun x8 => [(6, .int x8), (4, .long x6), (0, .ref (xz X + 0)), (1, .int a1), (2, .int a2), (3, .int a3)]) (fun _ => rfl) (Nat.le_of_ble_eq_true rfl) dX10_chance_40 (fun x8 => ?_)
        refine j_iconst (pc := 42) hX ic_0 dX10_chance_42 ?_
        refine j_istore (pc := 43) hX (fun x9 => [(7, .int x9), (6, .int x8), (4, .long x6), (0, .ref (xz X + 0)), (1, .int a1), (2, .int a2), (3, .int a3)]) (fun _ => rfl) (Nat.le_of_ble_eq_true rfl) dX10_chance_43 (fun x9 => ?_)
        refine j_locs [3, 5, 6, 2, 1, 0] rfl ?_
        refine m_chance_45_w hX hr a2 a3 x6 _ (fun x25 h26 => ?_) FU x8 x9 h7
        refine j_aload_n (pc := 121) hX 0 rfl dX10_chance_121 ?_
        refine j_callVV (pc := 122) (a := 0) (As := fun z => []) (rest := []) hX (fun r e => m_t_plainTried h26 r e) ymX10_plainTried (lw_V q1603 q1605 qs66 q154 q1606) rfl ckX10 rfl ⟨Nat.le_of_ble_eq_true rfl, Nat.le_of_ble_eq_true rfl⟩ rfl rfl (Nat.le_of_ble_eq_true rfl) dX10_chance_122 (fun r27 h28 => ?_)
        refine j_aload_n (pc := 125) hX 0 rfl dX10_chance_125 ?_
        refine j_lload (pc := 126) hX 1 rfl dX10_chance_126 ?_
        refine j_putL (pc := 128) hX fwX10_367.1 fwX10_367.2 rfl dX10_chance_128 (fun h29 => ?_)
        refine j_iload (pc := 131) hX 2 rfl dX10_chance_131 ?_
        exact j_iret (pc := 133) hX hr dX10_chance_133
set_option maxHeartbeats 4000000 in
set_option maxRecDepth 100000 in
theorem m_tried_115_w {X : CTX} {rr : Int32 × HP} (hX : okX mV X rr cX10_tried RX10 4 8 174) (hr : (xh X).sig.returnType = some .int) (f1 : Int32) (k : HP → Option (Int32 × HP)) (hk : ∀ (h : HP), jG mV X evI rr (k h) 140 [(0, .ref (xz X + 0))] [] h) : ∀ (n : Nat) (v3 : Int32) (h : HP), jG mV X evI rr (m_tried_115 f1 k n v3 h) 115 [(0, .ref (xz X + 0)), (1, .int f1), (3, .int v3)] [] h := by
  intro n
  induction n with
  | zero =>
    intro v3 h
    exact j_none
  | succ n ih =>
    intro v3 h
    rw [m_tried_115]
    refine j_iload_n (pc := 115) hX 2 rfl dX10_tried_115 ?_
    refine j_iconst (pc := 116) hX ic_5 dX10_tried_116 ?_
    refine j_cge (pc := 117) (tgt := 140) hX rfl dX10_tried_117 (fun _ => ?_) (fun _ => ?_)
    · refine j_locs [0] rfl ?_
      exact hk h
    · refine j_iload_n (pc := 120) hX 1 rfl dX10_tried_120 ?_
      refine j_iconst (pc := 121) hX ic_1 dX10_tried_121 ?_
      refine j_cne (pc := 122) (tgt := 140) hX rfl dX10_tried_122 (fun _ => ?_) (fun _ => ?_)
      · refine j_aload_n (pc := 125) hX 0 rfl dX10_tried_125 ?_
        refine j_getR (pc := 126) hX fgX10_106.1 fgX10_106.2 rfl rfl dX10_tried_126 ?_
        refine j_iconst (pc := 129) hX ic_5 dX10_tried_129 ?_
        refine j_iload_n (pc := 130) hX 2 rfl dX10_tried_130 ?_
        refine j_iadd (pc := 131) hX dX10_tried_131 ?_
        refine j_iconst (pc := 132) hX ic_0 dX10_tried_132 ?_
        refine j_iast (pc := 133) (n := 10) hX rfl dX10_tried_133 (fun _ h23 => ?_)
        refine j_iinc (pc := 134) hX 2 rfl (1 : Int32) ic_1 (fun x24 => [(3, .int x24), (0, .ref (xz X + 0)), (1, .int f1)]) (fun _ => rfl) (Nat.le_of_ble_eq_true rfl) dX10_tried_134 (fun x24 => ?_)
        refine j_goto (pc := 137) (tgt := 115) hX rfl dX10_tried_137 ?_
        refine j_locs [1, 2, 0] rfl ?_
        exact ih x24 h23
      · refine j_locs [0] rfl ?_
        exact hk h
set_option maxHeartbeats 4000000 in
set_option maxRecDepth 100000 in
theorem m_t_tried (a1 : Int32) (a2 : Int32) (h : HP) (rr : Int32 × HP) (e : m_tried a1 a2 h = some rr) : Cn mV yX10_tried (ws_ yX10_tried cX10_tried 4 (some .int)) 8 174 (fun z => [.ref (z + 0), .int a1, .int a2]) h (fun z => eI z rr.1) rr.2 := by
  refine cn_of (e1 := eI) (fun z => [(0, .ref (z + 0)), (1, .int a1), (2, .int a2)]) mV_ok ⟨Nat.le_refl _, Nat.le_refl _⟩ ymX10_tried (fun _ => rfl) (fun _ => Nat.le_of_ble_eq_true rfl) (fun X hX hr _ => ?_) e
  have hX : okX mV X rr cX10_tried RX10 4 8 174 := hX
  rw [m_tried]
  refine j_aload_n (pc := 0) hX 0 rfl dX10_tried_0 ?_
  refine j_iconst (pc := 1) hX ic_0 dX10_tried_1 ?_
  refine j_putI (pc := 2) hX fwX10_148.1 fwX10_148.2 rfl dX10_tried_2 (fun h1 => ?_)
  refine j_iload_n (pc := 5) hX 1 rfl dX10_tried_5 ?_
  refine j_iconst (pc := 6) hX ic_0 dX10_tried_6 ?_
  refine j_iconst (pc := 7) hX ic_4 dX10_tried_7 ?_
  refine j_callSI (pc := 8) (As := fun z => [.int a1, .int (0 : Int32), .int (4 : Int32)]) (rest := []) hX (fun r e => m_t_isIn a1 (0 : Int32) (4 : Int32) h1 r e) ymX10_isIn (lw_S q1915 q1916 q154 q1917) ⟨Nat.le_of_ble_eq_true rfl, Nat.le_of_ble_eq_true rfl⟩ rfl rfl (Nat.le_of_ble_eq_true rfl) dX10_tried_8 (fun r2 h3 => ?_)
  refine j_ifeq (pc := 11) (tgt := 50) hX rfl dX10_tried_11 (fun _ => ?_) (fun _ => ?_)
  · refine j_iconst (pc := 50) hX ic_m1 dX10_tried_50 ?_
    exact j_iret (pc := 51) hX hr dX10_tried_51
  · refine j_iload_n (pc := 14) hX 1 rfl dX10_tried_14 ?_
    refine j_iconst (pc := 15) hX ic_2 dX10_tried_15 ?_
    refine j_jon (fun (j4 : HP → Option (Int32 × HP)) => ∀ (h5 : HP), jG mV X evI rr (j4 h5) 52 [(0, .ref (xz X + 0)), (1, .int a1), (2, .int a2)] [] h5) ?_ ?_
    · intro h5
      refine j_aload_n (pc := 52) hX 0 rfl dX10_tried_52 ?_
      refine j_callVV (pc := 53) (a := 0) (As := fun z => []) (rest := []) hX (fun r e => m_t_layTried h5 r e) ymX10_layTried (lw_V q2126 q2128 qs115 q154 q2129) rfl ckX10 rfl ⟨Nat.le_of_ble_eq_true rfl, Nat.le_of_ble_eq_true rfl⟩ rfl rfl (Nat.le_of_ble_eq_true rfl) dX10_tried_53 (fun r6 h7 => ?_)
      refine j_aload_n (pc := 56) hX 0 rfl dX10_tried_56 ?_
      refine j_iload_n (pc := 57) hX 1 rfl dX10_tried_57 ?_
      refine j_jon (fun (j8 : Int32 → Option (Int32 × HP)) => ∀ (s9 : Int32), jG mV X evI rr (j8 s9) 66 [(0, .ref (xz X + 0)), (1, .int a1), (2, .int a2)] [.int s9, .ref (xz X + 0)] h7) ?_ ?_
      · intro s9
        refine j_grd fun g11 => ?_
        refine j_putZ (pc := 66) hX g11 fwX10_389.1 fwX10_389.2 rfl dX10_tried_66 (fun h10 => ?_)
        refine j_aload_n (pc := 69) hX 0 rfl dX10_tried_69 ?_
        refine j_iload_n (pc := 70) hX 1 rfl dX10_tried_70 ?_
        refine j_iconst (pc := 71) hX ic_2 dX10_tried_71 ?_
        refine j_jon (fun (j12 : Int32 → Option (Int32 × HP)) => ∀ (s13 : Int32), jG mV X evI rr (j12 s13) 82 [(0, .ref (xz X + 0)), (1, .int a1), (2, .int a2)] [.int s13, .ref (xz X + 0)] h10) ?_ ?_
        · intro s13
          refine j_putI (pc := 82) hX fwX10_395.1 fwX10_395.2 rfl dX10_tried_82 (fun h14 => ?_)
          refine j_aload_n (pc := 85) hX 0 rfl dX10_tried_85 ?_
          refine j_iload_n (pc := 86) hX 1 rfl dX10_tried_86 ?_
          refine j_iconst (pc := 87) hX ic_3 dX10_tried_87 ?_
          refine j_jon (fun (j15 : Int32 → Option (Int32 × HP)) => ∀ (s16 : Int32), jG mV X evI rr (j15 s16) 96 [(0, .ref (xz X + 0)), (1, .int a1)] [.int s16, .ref (xz X + 0)] h14) ?_ ?_
          · intro s16
            refine j_putI (pc := 96) hX fwX10_398.1 fwX10_398.2 rfl dX10_tried_96 (fun h17 => ?_)
            refine j_aload_n (pc := 99) hX 0 rfl dX10_tried_99 ?_
            refine j_iload_n (pc := 100) hX 1 rfl dX10_tried_100 ?_
            refine j_iconst (pc := 101) hX ic_4 dX10_tried_101 ?_
            refine j_jon (fun (j18 : Int32 → Option (Int32 × HP)) => ∀ (s19 : Int32), jG mV X evI rr (j18 s19) 110 [(0, .ref (xz X + 0)), (1, .int a1)] [.int s19, .ref (xz X + 0)] h17) ?_ ?_
            · intro s19
              refine j_grd fun g21 => ?_
              refine j_putZ (pc := 110) hX g21 fwX10_392.1 fwX10_392.2 rfl dX10_tried_110 (fun h20 => ?_)
              refine j_iconst (pc := 113) hX ic_0 dX10_tried_113 ?_
              refine j_istore_n (pc := 114) hX (fun x22 => [(3, .int x22), (0, .ref (xz X + 0)), (1, .int a1)]) (fun _ => rfl) (Nat.le_of_ble_eq_true rfl) dX10_tried_114 (fun x22 => ?_)
              refine j_locs [1, 2, 0] rfl ?_
              refine m_tried_115_w hX hr a1 _ (fun  h25 => ?_) FU x22 h20
              refine j_aload_n (pc := 140) hX 0 rfl dX10_tried_140 ?_
              refine j_callVV (pc := 141) (a := 0) (As := fun z => []) (rest := []) hX (fun r e => m_t_askAll h25 r e) ymX10_askAll (lw_V q2130 q2132 qs116 q154 q2133) rfl ckX10 rfl ⟨Nat.le_of_ble_eq_true rfl, Nat.le_of_ble_eq_true rfl⟩ rfl rfl (Nat.le_of_ble_eq_true rfl) dX10_tried_141 (fun r26 h27 => ?_)
              refine j_aload_n (pc := 144) hX 0 rfl dX10_tried_144 ?_
              refine j_iconst (pc := 145) hX ic_1 dX10_tried_145 ?_
              refine j_callVI (pc := 146) (a := 0) (As := fun z => [.int (1 : Int32)]) (rest := []) hX (fun r e => m_t_sumIn (1 : Int32) h27 r e) ymX10_sumIn (lw_V q2134 q2136 qs117 q154 q2137) rfl ckX10 rfl ⟨Nat.le_of_ble_eq_true rfl, Nat.le_of_ble_eq_true rfl⟩ rfl rfl (Nat.le_of_ble_eq_true rfl) dX10_tried_146 (fun r28 h29 => ?_)
              refine j_istore_n (pc := 149) hX (fun x30 => [(3, .int x30), (0, .ref (xz X + 0))]) (fun _ => rfl) (Nat.le_of_ble_eq_true rfl) dX10_tried_149 (fun x30 => ?_)
              refine j_aload_n (pc := 150) hX 1 rfl dX10_tried_150 ?_
              refine j_callVV (pc := 151) (a := 0) (As := fun z => []) (rest := []) hX (fun r e => m_t_plainTried h29 r e) ymX10_plainTried (lw_V q1603 q1605 qs66 q154 q1606) rfl ckX10 rfl ⟨Nat.le_of_ble_eq_true rfl, Nat.le_of_ble_eq_true rfl⟩ rfl rfl (Nat.le_of_ble_eq_true rfl) dX10_tried_151 (fun r31 h32 => ?_)
              refine j_iload_n (pc := 154) hX 0 rfl dX10_tried_154 ?_
              exact j_iret (pc := 155) hX hr dX10_tried_155
            · intro j18 hj18
              refine j_cne (pc := 102) (tgt := 109) hX rfl dX10_tried_102 (fun _ => ?_) (fun _ => ?_)
              · refine j_iconst (pc := 105) hX ic_1 dX10_tried_105 ?_
                refine j_goto (pc := 106) (tgt := 110) hX rfl dX10_tried_106 ?_
                exact hj18 (1 : Int32)
              · refine j_iconst (pc := 109) hX ic_0 dX10_tried_109 ?_
                exact hj18 (0 : Int32)
          · intro j15 hj15
            refine j_cne (pc := 88) (tgt := 95) hX rfl dX10_tried_88 (fun _ => ?_) (fun _ => ?_)
            · refine j_iload_n (pc := 91) hX 2 rfl dX10_tried_91 ?_
              refine j_goto (pc := 92) (tgt := 96) hX rfl dX10_tried_92 ?_
              refine j_locs [0, 1] rfl ?_
              exact hj15 a2
            · refine j_iconst (pc := 95) hX ic_m1 dX10_tried_95 ?_
              refine j_locs [0, 1] rfl ?_
              exact hj15 (-1 : Int32)
        · intro j12 hj12
          refine j_cne (pc := 72) (tgt := 81) hX rfl dX10_tried_72 (fun _ => ?_) (fun _ => ?_)
          · refine j_iconst (pc := 75) hX ic_1 dX10_tried_75 ?_
            refine j_iload_n (pc := 76) hX 2 rfl dX10_tried_76 ?_
            refine j_ishl (pc := 77) hX dX10_tried_77 ?_
            refine j_goto (pc := 78) (tgt := 82) hX rfl dX10_tried_78 ?_
            exact hj12 ((1 : Int32) <<< (a2 &&& 31))
          · refine j_iconst (pc := 81) hX ic_0 dX10_tried_81 ?_
            exact hj12 (0 : Int32)
      · intro j8 hj8
        refine j_ifne (pc := 58) (tgt := 65) hX rfl dX10_tried_58 (fun _ => ?_) (fun _ => ?_)
        · refine j_iconst (pc := 61) hX ic_1 dX10_tried_61 ?_
          refine j_goto (pc := 62) (tgt := 66) hX rfl dX10_tried_62 ?_
          exact hj8 (1 : Int32)
        · refine j_iconst (pc := 65) hX ic_0 dX10_tried_65 ?_
          exact hj8 (0 : Int32)
    · intro j4 hj4
      refine j_cne (pc := 16) (tgt := 30) hX rfl dX10_tried_16 (fun _ => ?_) (fun _ => ?_)
      · refine j_aload_n (pc := 19) hX 0 rfl dX10_tried_19 ?_
        refine j_iload_n (pc := 20) hX 2 rfl dX10_tried_20 ?_
        refine j_callVI (pc := 21) (a := 0) (As := fun z => [.int a2]) (rest := []) hX (fun r e => m_t_isPerson a2 h3 r e) ymX10_isPerson (lw_V q2004 q2006 qs96 q154 q2007) rfl ckX10 rfl ⟨Nat.le_of_ble_eq_true rfl, Nat.le_of_ble_eq_true rfl⟩ rfl rfl (Nat.le_of_ble_eq_true rfl) dX10_tried_21 (fun r33 h34 => ?_)
        refine j_ifne (pc := 24) (tgt := 52) hX rfl dX10_tried_24 (fun _ => ?_) (fun _ => ?_)
        · refine j_goto (pc := 27) (tgt := 50) hX rfl dX10_tried_27 ?_
          refine j_iconst (pc := 50) hX ic_m1 dX10_tried_50 ?_
          exact j_iret (pc := 51) hX hr dX10_tried_51
        · exact hj4 h34
      · refine j_iload_n (pc := 30) hX 1 rfl dX10_tried_30 ?_
        refine j_iconst (pc := 31) hX ic_3 dX10_tried_31 ?_
        refine j_cne (pc := 32) (tgt := 46) hX rfl dX10_tried_32 (fun _ => ?_) (fun _ => ?_)
        · refine j_aload_n (pc := 35) hX 0 rfl dX10_tried_35 ?_
          refine j_iload_n (pc := 36) hX 2 rfl dX10_tried_36 ?_
          refine j_callVI (pc := 37) (a := 0) (As := fun z => [.int a2]) (rest := []) hX (fun r e => m_t_isQuestion a2 h3 r e) ymX10_isQuestion (lw_V q2016 q2018 qs98 q154 q2019) rfl ckX10 rfl ⟨Nat.le_of_ble_eq_true rfl, Nat.le_of_ble_eq_true rfl⟩ rfl rfl (Nat.le_of_ble_eq_true rfl) dX10_tried_37 (fun r35 h36 => ?_)
          refine j_ifne (pc := 40) (tgt := 52) hX rfl dX10_tried_40 (fun _ => ?_) (fun _ => ?_)
          · refine j_goto (pc := 43) (tgt := 50) hX rfl dX10_tried_43 ?_
            refine j_iconst (pc := 50) hX ic_m1 dX10_tried_50 ?_
            exact j_iret (pc := 51) hX hr dX10_tried_51
          · exact hj4 h36
        · refine j_iload_n (pc := 46) hX 2 rfl dX10_tried_46 ?_
          refine j_ifeq (pc := 47) (tgt := 52) hX rfl dX10_tried_47 (fun _ => ?_) (fun _ => ?_)
          · exact hj4 h3
          · refine j_iconst (pc := 50) hX ic_m1 dX10_tried_50 ?_
            exact j_iret (pc := 51) hX hr dX10_tried_51
set_option maxHeartbeats 4000000 in
set_option maxRecDepth 100000 in
theorem m_take_2_w {X : CTX} {rr : Unit × HP} (hX : okX mV X rr cX10_take RX10 4 1 0) (hr : (xh X).sig.returnType = none) (f1 : Nat) (f2 : Int32) (k : HP → Option (Unit × HP)) (hk : ∀ (h : HP), jG mV X evV rr (k h) 65 [(0, .ref (xz X + 0)), (1, .ref (xz X + f1)), (2, .int f2)] [] h) : ∀ (n : Nat) (v3 : Int32) (h : HP), jG mV X evV rr (m_take_2 f1 f2 k n v3 h) 2 [(0, .ref (xz X + 0)), (1, .ref (xz X + f1)), (2, .int f2), (3, .int v3)] [] h := by
  intro n
  induction n with
  | zero =>
    intro v3 h
    exact j_none
  | succ n ih =>
    intro v3 h
    rw [m_take_2]
    refine j_iload_n (pc := 2) hX 3 rfl dX10_take_2 ?_
    refine j_iconst (pc := 3) hX ic_5 dX10_take_3 ?_
    refine j_cge (pc := 4) (tgt := 65) hX rfl dX10_take_4 (fun _ => ?_) (fun _ => ?_)
    · refine j_locs [0, 1, 2] rfl ?_
      exact hk h
    · refine j_aload_n (pc := 7) hX 0 rfl dX10_take_7 ?_
      refine j_getR (pc := 8) hX fgX10_100.1 fgX10_100.2 rfl rfl dX10_take_8 ?_
      refine j_iload_n (pc := 11) hX 3 rfl dX10_take_11 ?_
      refine j_aload_n (pc := 12) hX 1 rfl dX10_take_12 ?_
      refine j_iload_n (pc := 13) hX 2 rfl dX10_take_13 ?_
      refine j_iload_n (pc := 14) hX 3 rfl dX10_take_14 ?_
      refine j_iadd (pc := 15) hX dX10_take_15 ?_
      refine j_grd fun g2 => ?_
      refine j_iald (pc := 16) (n := (mT f1).2) hX (mT_k g2) dX10_take_16 (fun _ => ?_)
      refine j_iast (pc := 17) (n := 10) hX rfl dX10_take_17 (fun _ h3 => ?_)
      refine j_aload_n (pc := 18) hX 0 rfl dX10_take_18 ?_
      refine j_getR (pc := 19) hX fgX10_103.1 fgX10_103.2 rfl rfl dX10_take_19 ?_
      refine j_iload_n (pc := 22) hX 3 rfl dX10_take_22 ?_
      refine j_aload_n (pc := 23) hX 1 rfl dX10_take_23 ?_
      refine j_iload_n (pc := 24) hX 2 rfl dX10_take_24 ?_
      refine j_iconst (pc := 25) hX ic_5 dX10_take_25 ?_
      refine j_iadd (pc := 26) hX dX10_take_26 ?_
      refine j_iload_n (pc := 27) hX 3 rfl dX10_take_27 ?_
      refine j_iadd (pc := 28) hX dX10_take_28 ?_
      refine j_iald (pc := 29) (n := (mT f1).2) hX (mT_k g2) dX10_take_29 (fun _ => ?_)
      refine j_iast (pc := 30) (n := 10) hX rfl dX10_take_30 (fun _ h4 => ?_)
      refine j_aload_n (pc := 31) hX 0 rfl dX10_take_31 ?_
      refine j_getR (pc := 32) hX fgX10_106.1 fgX10_106.2 rfl rfl dX10_take_32 ?_
      refine j_iload_n (pc := 35) hX 3 rfl dX10_take_35 ?_
      refine j_aload_n (pc := 36) hX 1 rfl dX10_take_36 ?_
      refine j_iload_n (pc := 37) hX 2 rfl dX10_take_37 ?_
      refine j_bipush (pc := 38) hX bp_10 dX10_take_38 ?_
      refine j_iadd (pc := 40) hX dX10_take_40 ?_
      refine j_iload_n (pc := 41) hX 3 rfl dX10_take_41 ?_
      refine j_iadd (pc := 42) hX dX10_take_42 ?_
      refine j_iald (pc := 43) (n := (mT f1).2) hX (mT_k g2) dX10_take_43 (fun _ => ?_)
      refine j_iast (pc := 44) (n := 10) hX rfl dX10_take_44 (fun _ h5 => ?_)
      refine j_aload_n (pc := 45) hX 0 rfl dX10_take_45 ?_
      refine j_getR (pc := 46) hX fgX10_109.1 fgX10_109.2 rfl rfl dX10_take_46 ?_
      refine j_iload_n (pc := 49) hX 3 rfl dX10_take_49 ?_
      refine j_aload_n (pc := 50) hX 1 rfl dX10_take_50 ?_
      refine j_iload_n (pc := 51) hX 2 rfl dX10_take_51 ?_
      refine j_bipush (pc := 52) hX bp_15 dX10_take_52 ?_
      refine j_iadd (pc := 54) hX dX10_take_54 ?_
      refine j_iload_n (pc := 55) hX 3 rfl dX10_take_55 ?_
      refine j_iadd (pc := 56) hX dX10_take_56 ?_
      refine j_iald (pc := 57) (n := (mT f1).2) hX (mT_k g2) dX10_take_57 (fun _ => ?_)
      refine j_iast (pc := 58) (n := 10) hX rfl dX10_take_58 (fun _ h6 => ?_)
      refine j_iinc (pc := 59) hX 3 rfl (1 : Int32) ic_1 (fun x7 => [(3, .int x7), (0, .ref (xz X + 0)), (1, .ref (xz X + f1)), (2, .int f2)]) (fun _ => rfl) (Nat.le_of_ble_eq_true rfl) dX10_take_59 (fun x7 => ?_)
      refine j_goto (pc := 62) (tgt := 2) hX rfl dX10_take_62 ?_
      refine j_locs [1, 2, 3, 0] rfl ?_
      exact ih x7 h6
set_option maxHeartbeats 4000000 in
set_option maxRecDepth 100000 in
theorem m_t_take (a1 : Nat) (a2 : Int32) (h : HP) (rr : Unit × HP) (e : m_take a1 a2 h = some rr) : Cn mV yX10_take (ws_ yX10_take cX10_take 4 (none)) 1 0 (fun z => [.ref (z + 0), .ref (z + a1), .int a2]) h (fun z => eV z rr.1) rr.2 := by
  refine cn_of (e1 := eV) (fun z => [(0, .ref (z + 0)), (1, .ref (z + a1)), (2, .int a2)]) mV_ok ⟨Nat.le_refl _, Nat.le_refl _⟩ ymX10_take (fun _ => rfl) (fun _ => Nat.le_of_ble_eq_true rfl) (fun X hX hr _ => ?_) e
  have hX : okX mV X rr cX10_take RX10 4 1 0 := hX
  rw [m_take]
  refine j_iconst (pc := 0) hX ic_0 dX10_take_0 ?_
  refine j_istore_n (pc := 1) hX (fun x1 => [(3, .int x1), (0, .ref (xz X + 0)), (1, .ref (xz X + a1)), (2, .int a2)]) (fun _ => rfl) (Nat.le_of_ble_eq_true rfl) dX10_take_1 (fun x1 => ?_)
  refine j_locs [1, 2, 3, 0] rfl ?_
  refine m_take_2_w hX hr a1 a2 _ (fun  h8 => ?_) FU x1 h
  refine j_aload_n (pc := 65) hX 0 rfl dX10_take_65 ?_
  refine j_getR (pc := 66) hX fgX10_112.1 fgX10_112.2 rfl rfl dX10_take_66 ?_
  refine j_iconst (pc := 69) hX ic_0 dX10_take_69 ?_
  refine j_aload_n (pc := 70) hX 1 rfl dX10_take_70 ?_
  refine j_iload_n (pc := 71) hX 2 rfl dX10_take_71 ?_
  refine j_bipush (pc := 72) hX bp_20 dX10_take_72 ?_
  refine j_iadd (pc := 74) hX dX10_take_74 ?_
  refine j_grd fun g9 => ?_
  refine j_iald (pc := 75) (n := (mT a1).2) hX (mT_k g9) dX10_take_75 (fun _ => ?_)
  refine j_iast (pc := 76) (n := 2) hX rfl dX10_take_76 (fun _ h10 => ?_)
  refine j_aload_n (pc := 77) hX 0 rfl dX10_take_77 ?_
  refine j_aload_n (pc := 78) hX 1 rfl dX10_take_78 ?_
  refine j_iload_n (pc := 79) hX 2 rfl dX10_take_79 ?_
  refine j_bipush (pc := 80) hX bp_21 dX10_take_80 ?_
  refine j_iadd (pc := 82) hX dX10_take_82 ?_
  refine j_iald (pc := 83) (n := (mT a1).2) hX (mT_k g9) dX10_take_83 (fun _ => ?_)
  refine j_putI (pc := 84) hX fwX10_364.1 fwX10_364.2 rfl dX10_take_84 (fun h11 => ?_)
  exact j_vret (pc := 87) hX hr dX10_take_87
set_option maxHeartbeats 4000000 in
set_option maxRecDepth 100000 in
theorem m_t_undo  (h : HP) (rr : Int32 × HP) (e : m_undo  h = some rr) : Cn mV yX10_undo (ws_ yX10_undo cX10_undo 1 (some .int)) 2 23 (fun z => [.ref (z + 0)]) h (fun z => eI z rr.1) rr.2 := by
  refine cn_of (e1 := eI) (fun z => [(0, .ref (z + 0))]) mV_ok ⟨Nat.le_refl _, Nat.le_refl _⟩ ymX10_undo (fun _ => rfl) (fun _ => Nat.le_of_ble_eq_true rfl) (fun X hX hr _ => ?_) e
  have hX : okX mV X rr cX10_undo RX10 1 2 23 := hX
  rw [m_undo]
  refine j_aload_n (pc := 0) hX 0 rfl dX10_undo_0 ?_
  refine j_iconst (pc := 1) hX ic_0 dX10_undo_1 ?_
  refine j_putI (pc := 2) hX fwX10_148.1 fwX10_148.2 rfl dX10_undo_2 (fun h1 => ?_)
  refine j_aload_n (pc := 5) hX 0 rfl dX10_undo_5 ?_
  refine j_getI (pc := 6) hX fgX10_377.1 fgX10_377.2 rfl dX10_undo_6 ?_
  refine j_ifne (pc := 9) (tgt := 14) hX rfl dX10_undo_9 (fun _ => ?_) (fun _ => ?_)
  · refine j_iconst (pc := 12) hX ic_m1 dX10_undo_12 ?_
    exact j_iret (pc := 13) hX hr dX10_undo_13
  · refine j_aload_n (pc := 14) hX 0 rfl dX10_undo_14 ?_
    refine j_dup (pc := 15) hX rfl dX10_undo_15 ?_
    refine j_getI (pc := 16) hX fgX10_377.1 fgX10_377.2 rfl dX10_undo_16 ?_
    refine j_iconst (pc := 19) hX ic_1 dX10_undo_19 ?_
    refine j_isub (pc := 20) hX dX10_undo_20 ?_
    refine j_putI (pc := 21) hX fwX10_377.1 fwX10_377.2 rfl dX10_undo_21 (fun h2 => ?_)
    refine j_aload_n (pc := 24) hX 0 rfl dX10_undo_24 ?_
    refine j_aload_n (pc := 25) hX 0 rfl dX10_undo_25 ?_
    refine j_getR (pc := 26) hX fgX10_133.1 fgX10_133.2 rfl rfl dX10_undo_26 ?_
    refine j_bipush (pc := 29) hX bp_22 dX10_undo_29 ?_
    refine j_aload_n (pc := 31) hX 0 rfl dX10_undo_31 ?_
    refine j_getI (pc := 32) hX fgX10_377.1 fgX10_377.2 rfl dX10_undo_32 ?_
    refine j_imul (pc := 35) hX dX10_undo_35 ?_
    refine j_callVV (pc := 36) (a := 0) (As := fun z => [.ref (z + 39), .int ((22 : Int32) * (gI h2 0 75))]) (rest := []) hX (fun r e => m_t_take 39 ((22 : Int32) * (gI h2 0 75)) h2 r e) ymX10_take (lw_V q2306 q2308 qs138 q154 q2309) rfl ckX10 rfl ⟨Nat.le_of_ble_eq_true rfl, Nat.le_of_ble_eq_true rfl⟩ rfl rfl (Nat.le_of_ble_eq_true rfl) dX10_undo_36 (fun r3 h4 => ?_)
    refine j_aload_n (pc := 39) hX 0 rfl dX10_undo_39 ?_
    refine j_aload_n (pc := 40) hX 0 rfl dX10_undo_40 ?_
    refine j_getR (pc := 41) hX fgX10_136.1 fgX10_136.2 rfl rfl dX10_undo_41 ?_
    refine j_aload_n (pc := 44) hX 0 rfl dX10_undo_44 ?_
    refine j_getI (pc := 45) hX fgX10_377.1 fgX10_377.2 rfl dX10_undo_45 ?_
    refine j_lald (pc := 48) (n := 20) hX rfl dX10_undo_48 (fun _ => ?_)
    refine j_putL (pc := 49) hX fwX10_367.1 fwX10_367.2 rfl dX10_undo_49 (fun h5 => ?_)
    refine j_aload_n (pc := 52) hX 0 rfl dX10_undo_52 ?_
    refine j_getI (pc := 53) hX fgX10_377.1 fgX10_377.2 rfl dX10_undo_53 ?_
    exact j_iret (pc := 56) hX hr dX10_undo_56
set_option maxHeartbeats 4000000 in
set_option maxRecDepth 100000 in
theorem m_t_keep  (h : HP) (rr : Int32 × HP) (e : m_keep  h = some rr) : Cn mV yX10_keep (ws_ yX10_keep cX10_keep 1 (some .int)) 2 23 (fun z => [.ref (z + 0)]) h (fun z => eI z rr.1) rr.2 := by
  refine cn_of (e1 := eI) (fun z => [(0, .ref (z + 0))]) mV_ok ⟨Nat.le_refl _, Nat.le_refl _⟩ ymX10_keep (fun _ => rfl) (fun _ => Nat.le_of_ble_eq_true rfl) (fun X hX hr _ => ?_) e
  have hX : okX mV X rr cX10_keep RX10 1 2 23 := hX
  rw [m_keep]
  refine j_aload_n (pc := 0) hX 0 rfl dX10_keep_0 ?_
  refine j_iconst (pc := 1) hX ic_0 dX10_keep_1 ?_
  refine j_putI (pc := 2) hX fwX10_148.1 fwX10_148.2 rfl dX10_keep_2 (fun h1 => ?_)
  refine j_aload_n (pc := 5) hX 0 rfl dX10_keep_5 ?_
  refine j_iconst (pc := 6) hX ic_1 dX10_keep_6 ?_
  refine j_putZ (pc := 7) hX (Or.inr rfl) fwX10_380.1 fwX10_380.2 rfl dX10_keep_7 (fun h2 => ?_)
  refine j_aload_n (pc := 10) hX 0 rfl dX10_keep_10 ?_
  refine j_aload_n (pc := 11) hX 0 rfl dX10_keep_11 ?_
  refine j_getR (pc := 12) hX fgX10_139.1 fgX10_139.2 rfl rfl dX10_keep_12 ?_
  refine j_iconst (pc := 15) hX ic_0 dX10_keep_15 ?_
  refine j_callVV (pc := 16) (a := 0) (As := fun z => [.ref (z + 41), .int (0 : Int32)]) (rest := []) hX (fun r e => m_t_put 41 (0 : Int32) h2 r e) ymX10_put (lw_V q2077 q2079 qs108 q154 q2080) rfl ckX10 rfl ⟨Nat.le_of_ble_eq_true rfl, Nat.le_of_ble_eq_true rfl⟩ rfl rfl (Nat.le_of_ble_eq_true rfl) dX10_keep_16 (fun r3 h4 => ?_)
  refine j_aload_n (pc := 19) hX 0 rfl dX10_keep_19 ?_
  refine j_aload_n (pc := 20) hX 0 rfl dX10_keep_20 ?_
  refine j_getL (pc := 21) hX fgX10_367.1 fgX10_367.2 rfl dX10_keep_21 ?_
  refine j_putL (pc := 24) hX fwX10_543.1 fwX10_543.2 rfl dX10_keep_24 (fun h5 => ?_)
  refine j_aload_n (pc := 27) hX 0 rfl dX10_keep_27 ?_
  refine j_getR (pc := 28) hX fgX10_112.1 fgX10_112.2 rfl rfl dX10_keep_28 ?_
  refine j_iconst (pc := 31) hX ic_0 dX10_keep_31 ?_
  refine j_iald (pc := 32) (n := 2) hX rfl dX10_keep_32 (fun _ => ?_)
  exact j_iret (pc := 33) hX hr dX10_keep_33
set_option maxHeartbeats 4000000 in
set_option maxRecDepth 100000 in
theorem m_t_back  (h : HP) (rr : Int32 × HP) (e : m_back  h = some rr) : Cn mV yX10_back (ws_ yX10_back cX10_back 1 (some .int)) 2 23 (fun z => [.ref (z + 0)]) h (fun z => eI z rr.1) rr.2 := by
  refine cn_of (e1 := eI) (fun z => [(0, .ref (z + 0))]) mV_ok ⟨Nat.le_refl _, Nat.le_refl _⟩ ymX10_back (fun _ => rfl) (fun _ => Nat.le_of_ble_eq_true rfl) (fun X hX hr _ => ?_) e
  have hX : okX mV X rr cX10_back RX10 1 2 23 := hX
  rw [m_back]
  refine j_aload_n (pc := 0) hX 0 rfl dX10_back_0 ?_
  refine j_iconst (pc := 1) hX ic_0 dX10_back_1 ?_
  refine j_putI (pc := 2) hX fwX10_148.1 fwX10_148.2 rfl dX10_back_2 (fun h1 => ?_)
  refine j_aload_n (pc := 5) hX 0 rfl dX10_back_5 ?_
  refine j_getI (pc := 6) hX fgX10_380.1 fgX10_380.2 rfl dX10_back_6 ?_
  refine j_ifne (pc := 9) (tgt := 14) hX rfl dX10_back_9 (fun _ => ?_) (fun _ => ?_)
  · refine j_iconst (pc := 12) hX ic_m1 dX10_back_12 ?_
    exact j_iret (pc := 13) hX hr dX10_back_13
  · refine j_aload_n (pc := 14) hX 0 rfl dX10_back_14 ?_
    refine j_aload_n (pc := 15) hX 0 rfl dX10_back_15 ?_
    refine j_getR (pc := 16) hX fgX10_139.1 fgX10_139.2 rfl rfl dX10_back_16 ?_
    refine j_iconst (pc := 19) hX ic_0 dX10_back_19 ?_
    refine j_callVV (pc := 20) (a := 0) (As := fun z => [.ref (z + 41), .int (0 : Int32)]) (rest := []) hX (fun r e => m_t_take 41 (0 : Int32) h1 r e) ymX10_take (lw_V q2306 q2308 qs138 q154 q2309) rfl ckX10 rfl ⟨Nat.le_of_ble_eq_true rfl, Nat.le_of_ble_eq_true rfl⟩ rfl rfl (Nat.le_of_ble_eq_true rfl) dX10_back_20 (fun r2 h3 => ?_)
    refine j_aload_n (pc := 23) hX 0 rfl dX10_back_23 ?_
    refine j_aload_n (pc := 24) hX 0 rfl dX10_back_24 ?_
    refine j_getL (pc := 25) hX fgX10_543.1 fgX10_543.2 rfl dX10_back_25 ?_
    refine j_putL (pc := 28) hX fwX10_367.1 fwX10_367.2 rfl dX10_back_28 (fun h4 => ?_)
    refine j_aload_n (pc := 31) hX 0 rfl dX10_back_31 ?_
    refine j_iconst (pc := 32) hX ic_0 dX10_back_32 ?_
    refine j_putI (pc := 33) hX fwX10_377.1 fwX10_377.2 rfl dX10_back_33 (fun h5 => ?_)
    refine j_aload_n (pc := 36) hX 0 rfl dX10_back_36 ?_
    refine j_getR (pc := 37) hX fgX10_112.1 fgX10_112.2 rfl rfl dX10_back_37 ?_
    refine j_iconst (pc := 40) hX ic_0 dX10_back_40 ?_
    refine j_iald (pc := 41) (n := 2) hX rfl dX10_back_41 (fun _ => ?_)
    exact j_iret (pc := 42) hX hr dX10_back_42
set_option maxHeartbeats 4000000 in
set_option maxRecDepth 100000 in
theorem m_count_106_w {X : CTX} {rr : Int32 × HP} (hX : okX mV X rr cX10_count RX10 4 2 22) (hr : (xh X).sig.returnType = some .int)  (k : Int32 → HP → Option (Int32 × HP)) (hk : ∀ (v2 : Int32) (h : HP), jG mV X evI rr (k v2 h) 132 [(2, .int v2)] [] h) : ∀ (n : Nat) (v2 : Int32) (v3 : Int32) (h : HP), jG mV X evI rr (m_count_106 k n v2 v3 h) 106 [(0, .ref (xz X + 0)), (2, .int v2), (3, .int v3)] [] h := by
  intro n
  induction n with
  | zero =>
    intro v2 v3 h
    exact j_none
  | succ n ih =>
    intro v2 v3 h
    rw [m_count_106]
    refine j_iload_n (pc := 106) hX 2 rfl dX10_count_106 ?_
    refine j_aload_n (pc := 107) hX 0 rfl dX10_count_107 ?_
    refine j_getI (pc := 108) hX fgX10_231.1 fgX10_231.2 rfl dX10_count_108 ?_
    refine j_cge (pc := 111) (tgt := 132) hX rfl dX10_count_111 (fun _ => ?_) (fun _ => ?_)
    · refine j_locs [1] rfl ?_
      exact hk v2 h
    · refine j_iload_n (pc := 114) hX 1 rfl dX10_count_114 ?_
      refine j_aload_n (pc := 115) hX 0 rfl dX10_count_115 ?_
      refine j_getR (pc := 116) hX fgX10_100.1 fgX10_100.2 rfl rfl dX10_count_116 ?_
      refine j_iload_n (pc := 119) hX 2 rfl dX10_count_119 ?_
      refine j_iald (pc := 120) (n := 10) hX rfl dX10_count_120 (fun _ => ?_)
      refine j_callSI (pc := 121) (As := fun z => [.int (gI h 29 (v3).toNatClampNeg)]) (rest := [.int v2]) hX (fun r e => m_t_manyOf (gI h 29 (v3).toNatClampNeg) h r e) ymX10_manyOf (lw_S q2045 q2046 q154 q2047) ⟨Nat.le_of_ble_eq_true rfl, Nat.le_of_ble_eq_true rfl⟩ rfl rfl (Nat.le_of_ble_eq_true rfl) dX10_count_121 (fun r11 h12 => ?_)
      refine j_iadd (pc := 124) hX dX10_count_124 ?_
      refine j_istore_n (pc := 125) hX (fun x13 => [(2, .int x13), (0, .ref (xz X + 0)), (3, .int v3)]) (fun _ => rfl) (Nat.le_of_ble_eq_true rfl) dX10_count_125 (fun x13 => ?_)
      refine j_iinc (pc := 126) hX 2 rfl (1 : Int32) ic_1 (fun x14 => [(3, .int x14), (2, .int x13), (0, .ref (xz X + 0))]) (fun _ => rfl) (Nat.le_of_ble_eq_true rfl) dX10_count_126 (fun x14 => ?_)
      refine j_goto (pc := 129) (tgt := 106) hX rfl dX10_count_129 ?_
      refine j_locs [2, 1, 0] rfl ?_
      exact ih x13 x14 h12
set_option maxHeartbeats 4000000 in
set_option maxRecDepth 100000 in
theorem m_count_136_w {X : CTX} {rr : Int32 × HP} (hX : okX mV X rr cX10_count RX10 4 2 22) (hr : (xh X).sig.returnType = some .int)  (k : Int32 → HP → Option (Int32 × HP)) (hk : ∀ (v2 : Int32) (h : HP), jG mV X evI rr (k v2 h) 159 [(2, .int v2)] [] h) : ∀ (n : Nat) (v2 : Int32) (v3 : Int32) (h : HP), jG mV X evI rr (m_count_136 k n v2 v3 h) 136 [(0, .ref (xz X + 0)), (2, .int v2), (3, .int v3)] [] h := by
  intro n
  induction n with
  | zero =>
    intro v2 v3 h
    exact j_none
  | succ n ih =>
    intro v2 v3 h
    rw [m_count_136]
    refine j_iload_n (pc := 136) hX 2 rfl dX10_count_136 ?_
    refine j_aload_n (pc := 137) hX 0 rfl dX10_count_137 ?_
    refine j_getI (pc := 138) hX fgX10_231.1 fgX10_231.2 rfl dX10_count_138 ?_
    refine j_cge (pc := 141) (tgt := 159) hX rfl dX10_count_141 (fun _ => ?_) (fun _ => ?_)
    · refine j_locs [1] rfl ?_
      exact hk v2 h
    · refine j_iload_n (pc := 144) hX 1 rfl dX10_count_144 ?_
      refine j_aload_n (pc := 145) hX 0 rfl dX10_count_145 ?_
      refine j_getR (pc := 146) hX fgX10_103.1 fgX10_103.2 rfl rfl dX10_count_146 ?_
      refine j_iload_n (pc := 149) hX 2 rfl dX10_count_149 ?_
      refine j_iald (pc := 150) (n := 10) hX rfl dX10_count_150 (fun _ => ?_)
      refine j_iadd (pc := 151) hX dX10_count_151 ?_
      refine j_istore_n (pc := 152) hX (fun x19 => [(2, .int x19), (0, .ref (xz X + 0)), (3, .int v3)]) (fun _ => rfl) (Nat.le_of_ble_eq_true rfl) dX10_count_152 (fun x19 => ?_)
      refine j_iinc (pc := 153) hX 2 rfl (1 : Int32) ic_1 (fun x20 => [(3, .int x20), (2, .int x19), (0, .ref (xz X + 0))]) (fun _ => rfl) (Nat.le_of_ble_eq_true rfl) dX10_count_153 (fun x20 => ?_)
      refine j_goto (pc := 156) (tgt := 136) hX rfl dX10_count_156 ?_
      refine j_locs [2, 1, 0] rfl ?_
      exact ih x19 x20 h
set_option maxHeartbeats 4000000 in
set_option maxRecDepth 100000 in
theorem m_t_count (a1 : Int32) (h : HP) (rr : Int32 × HP) (e : m_count a1 h = some rr) : Cn mV yX10_count (ws_ yX10_count cX10_count 4 (some .int)) 2 22 (fun z => [.ref (z + 0), .int a1]) h (fun z => eI z rr.1) rr.2 := by
  refine cn_of (e1 := eI) (fun z => [(0, .ref (z + 0)), (1, .int a1)]) mV_ok ⟨Nat.le_refl _, Nat.le_refl _⟩ ymX10_count (fun _ => rfl) (fun _ => Nat.le_of_ble_eq_true rfl) (fun X hX hr _ => ?_) e
  have hX : okX mV X rr cX10_count RX10 4 2 22 := hX
  rw [m_count]
  refine j_aload_n (pc := 0) hX 0 rfl dX10_count_0 ?_
  refine j_iconst (pc := 1) hX ic_0 dX10_count_1 ?_
  refine j_putI (pc := 2) hX fwX10_148.1 fwX10_148.2 rfl dX10_count_2 (fun h1 => ?_)
  refine j_iconst (pc := 5) hX ic_0 dX10_count_5 ?_
  refine j_istore_n (pc := 6) hX (fun x2 => [(2, .int x2), (0, .ref (xz X + 0)), (1, .int a1)]) (fun _ => rfl) (Nat.le_of_ble_eq_true rfl) dX10_count_6 (fun x2 => ?_)
  refine j_iload_n (pc := 7) hX 2 rfl dX10_count_7 ?_
  refine j_ite (fun c3 => ?_) (fun c3 => ?_)
  · refine j_tabIn (pc := 8) (tgt := 72) hX (0) (by rw [c3]; rfl) (by decide) (by decide) rfl rfl dX10_count_8 ?_
    refine j_aload_n (pc := 72) hX 1 rfl dX10_count_72 ?_
    refine j_getI (pc := 73) hX fgX10_228.1 fgX10_228.2 rfl dX10_count_73 ?_
    exact j_iret (pc := 76) hX hr dX10_count_76
  · skip
    refine j_ite (fun c4 => ?_) (fun c4 => ?_)
    · refine j_tabIn (pc := 8) (tgt := 77) hX (1) (by rw [c4]; rfl) (by decide) (by decide) rfl rfl dX10_count_8 ?_
      refine j_aload_n (pc := 77) hX 1 rfl dX10_count_77 ?_
      refine j_getI (pc := 78) hX fgX10_231.1 fgX10_231.2 rfl dX10_count_78 ?_
      exact j_iret (pc := 81) hX hr dX10_count_81
    · skip
      refine j_ite (fun c5 => ?_) (fun c5 => ?_)
      · refine j_tabIn (pc := 8) (tgt := 82) hX (2) (by rw [c5]; rfl) (by decide) (by decide) rfl rfl dX10_count_8 ?_
        refine j_aload_n (pc := 82) hX 1 rfl dX10_count_82 ?_
        refine j_getI (pc := 83) hX fgX10_234.1 fgX10_234.2 rfl dX10_count_83 ?_
        exact j_iret (pc := 86) hX hr dX10_count_86
      · skip
        refine j_ite (fun c6 => ?_) (fun c6 => ?_)
        · refine j_tabIn (pc := 8) (tgt := 87) hX (3) (by rw [c6]; rfl) (by decide) (by decide) rfl rfl dX10_count_8 ?_
          refine j_aload_n (pc := 87) hX 1 rfl dX10_count_87 ?_
          refine j_getI (pc := 88) hX fgX10_237.1 fgX10_237.2 rfl dX10_count_88 ?_
          exact j_iret (pc := 91) hX hr dX10_count_91
        · skip
          refine j_ite (fun c7 => ?_) (fun c7 => ?_)
          · refine j_tabIn (pc := 8) (tgt := 92) hX (4) (by rw [c7]; rfl) (by decide) (by decide) rfl rfl dX10_count_8 ?_
            refine j_aload_n (pc := 92) hX 1 rfl dX10_count_92 ?_
            refine j_getI (pc := 93) hX fgX10_240.1 fgX10_240.2 rfl dX10_count_93 ?_
            exact j_iret (pc := 96) hX hr dX10_count_96
          · skip
            refine j_ite (fun c8 => ?_) (fun c8 => ?_)
            · refine j_tabIn (pc := 8) (tgt := 97) hX (5) (by rw [c8]; rfl) (by decide) (by decide) rfl rfl dX10_count_8 ?_
              refine j_aload_n (pc := 97) hX 1 rfl dX10_count_97 ?_
              refine j_getR (pc := 98) hX fgX10_112.1 fgX10_112.2 rfl rfl dX10_count_98 ?_
              refine j_iconst (pc := 101) hX ic_0 dX10_count_101 ?_
              refine j_iald (pc := 102) (n := 2) hX rfl dX10_count_102 (fun _ => ?_)
              exact j_iret (pc := 103) hX hr dX10_count_103
            · skip
              refine j_ite (fun c9 => ?_) (fun c9 => ?_)
              · refine j_tabIn (pc := 8) (tgt := 104) hX (6) (by rw [c9]; rfl) (by decide) (by decide) rfl rfl dX10_count_8 ?_
                refine j_iconst (pc := 104) hX ic_0 dX10_count_104 ?_
                refine j_istore_n (pc := 105) hX (fun x10 => [(3, .int x10), (2, .int x2), (0, .ref (xz X + 0)), (1, .int a1)]) (fun _ => rfl) (Nat.le_of_ble_eq_true rfl) dX10_count_105 (fun x10 => ?_)
                refine j_locs [2, 1, 0] rfl ?_
                refine m_count_106_w hX hr  _ (fun x15 h16 => ?_) FU x2 x10 h1
                refine j_iload_n (pc := 132) hX 0 rfl dX10_count_132 ?_
                exact j_iret (pc := 133) hX hr dX10_count_133
              · skip
                refine j_ite (fun c17 => ?_) (fun c17 => ?_)
                · refine j_tabIn (pc := 8) (tgt := 134) hX (7) (by rw [c17]; rfl) (by decide) (by decide) rfl rfl dX10_count_8 ?_
                  refine j_iconst (pc := 134) hX ic_0 dX10_count_134 ?_
                  refine j_istore_n (pc := 135) hX (fun x18 => [(3, .int x18), (2, .int x2), (0, .ref (xz X + 0)), (1, .int a1)]) (fun _ => rfl) (Nat.le_of_ble_eq_true rfl) dX10_count_135 (fun x18 => ?_)
                  refine j_locs [2, 1, 0] rfl ?_
                  refine m_count_136_w hX hr  _ (fun x21 h22 => ?_) FU x2 x18 h1
                  refine j_iload_n (pc := 159) hX 0 rfl dX10_count_159 ?_
                  exact j_iret (pc := 160) hX hr dX10_count_160
                · skip
                  refine j_ite (fun c23 => ?_) (fun c23 => ?_)
                  · refine j_tabIn (pc := 8) (tgt := 161) hX (8) (by rw [c23]; rfl) (by decide) (by decide) rfl rfl dX10_count_8 ?_
                    refine j_aload_n (pc := 161) hX 1 rfl dX10_count_161 ?_
                    refine j_getI (pc := 162) hX fgX10_364.1 fgX10_364.2 rfl dX10_count_162 ?_
                    exact j_iret (pc := 165) hX hr dX10_count_165
                  · skip
                    refine j_ite (fun c24 => ?_) (fun c24 => ?_)
                    · refine j_tabIn (pc := 8) (tgt := 166) hX (9) (by rw [c24]; rfl) (by decide) (by decide) rfl rfl dX10_count_8 ?_
                      refine j_aload_n (pc := 166) hX 1 rfl dX10_count_166 ?_
                      refine j_getI (pc := 167) hX fgX10_374.1 fgX10_374.2 rfl dX10_count_167 ?_
                      exact j_iret (pc := 170) hX hr dX10_count_170
                    · skip
                      refine j_ite (fun c25 => ?_) (fun c25 => ?_)
                      · refine j_tabIn (pc := 8) (tgt := 171) hX (10) (by rw [c25]; rfl) (by decide) (by decide) rfl rfl dX10_count_8 ?_
                        refine j_aload_n (pc := 171) hX 1 rfl dX10_count_171 ?_
                        refine j_callVI (pc := 172) (a := 0) (As := fun z => []) (rest := []) hX (fun r e => m_t_knownBy h1 r e) ymX10_knownBy (lw_V q2282 q2284 qs135 q154 q2285) rfl ckX10 rfl ⟨Nat.le_of_ble_eq_true rfl, Nat.le_of_ble_eq_true rfl⟩ rfl rfl (Nat.le_of_ble_eq_true rfl) dX10_count_172 (fun r26 h27 => ?_)
                        exact j_iret (pc := 175) hX hr dX10_count_175
                      · skip
                        refine j_ite (fun c28 => ?_) (fun c28 => ?_)
                        · refine j_tabIn (pc := 8) (tgt := 176) hX (11) (by rw [c28]; rfl) (by decide) (by decide) rfl rfl dX10_count_8 ?_
                          refine j_aload_n (pc := 176) hX 1 rfl dX10_count_176 ?_
                          refine j_getI (pc := 177) hX fgX10_377.1 fgX10_377.2 rfl dX10_count_177 ?_
                          exact j_iret (pc := 180) hX hr dX10_count_180
                        · skip
                          refine j_tabD (pc := 8) (tgt := 181) hX (fun n hn h1 h2 => ?_) rfl dX10_count_8 ?_
                          · rcases (show n = 0 ∨ n = 1 ∨ n = 2 ∨ n = 3 ∨ n = 4 ∨ n = 5 ∨ n = 6 ∨ n = 7 ∨ n = 8 ∨ n = 9 ∨ n = 10 ∨ n = 11 by omega) with rfl | rfl | rfl | rfl | rfl | rfl | rfl | rfl | rfl | rfl | rfl | rfl
                            · exact absurd hn (lv_neT c3 rfl)
                            · exact absurd hn (lv_neT c4 rfl)
                            · exact absurd hn (lv_neT c5 rfl)
                            · exact absurd hn (lv_neT c6 rfl)
                            · exact absurd hn (lv_neT c7 rfl)
                            · exact absurd hn (lv_neT c8 rfl)
                            · exact absurd hn (lv_neT c9 rfl)
                            · exact absurd hn (lv_neT c17 rfl)
                            · exact absurd hn (lv_neT c23 rfl)
                            · exact absurd hn (lv_neT c24 rfl)
                            · exact absurd hn (lv_neT c25 rfl)
                            · exact absurd hn (lv_neT c28 rfl)
                          · refine j_iconst (pc := 181) hX ic_m1 dX10_count_181 ?_
                            exact j_iret (pc := 182) hX hr dX10_count_182
