/-! the model: walks -/
set_option maxHeartbeats 4000000 in
set_option maxRecDepth 100000 in
theorem m_plain_32_w {X : CTX} {rr : Unit × HP} (hX : okX mV X rr cX10_plain RX10 2 1 0) (hr : (xh X).sig.returnType = none)  (k : HP → Option (Unit × HP)) (hk : ∀ (h : HP), jG mV X evV rr (k h) 77 [] [] h) : ∀ (n : Nat) (v1 : Int32) (h : HP), jG mV X evV rr (m_plain_32 k n v1 h) 32 [(0, .ref (xz X + 0)), (1, .int v1)] [] h := by
  intro n
  induction n with
  | zero =>
    intro v1 h
    exact j_none
  | succ n ih =>
    intro v1 h
    rw [m_plain_32]
    refine j_iload_n (pc := 32) hX 1 rfl dX10_plain_32 ?_
    refine j_iconst (pc := 33) hX ic_2 dX10_plain_33 ?_
    refine j_cge (pc := 34) (tgt := 77) hX rfl dX10_plain_34 (fun _ => ?_) (fun _ => ?_)
    · refine j_locs [] rfl ?_
      exact hk h
    · refine j_aload_n (pc := 37) hX 0 rfl dX10_plain_37 ?_
      refine j_getR (pc := 38) hX fgX10_20.1 fgX10_20.2 rfl rfl dX10_plain_38 ?_
      refine j_iload_n (pc := 41) hX 1 rfl dX10_plain_41 ?_
      refine j_iconst (pc := 42) hX ic_0 dX10_plain_42 ?_
      refine j_zast (pc := 43) (n := 2) hX (Or.inl rfl) rfl dX10_plain_43 (fun _ h8 => ?_)
      refine j_aload_n (pc := 44) hX 0 rfl dX10_plain_44 ?_
      refine j_getR (pc := 45) hX fgX10_24.1 fgX10_24.2 rfl rfl dX10_plain_45 ?_
      refine j_iconst (pc := 48) hX ic_2 dX10_plain_48 ?_
      refine j_iload_n (pc := 49) hX 1 rfl dX10_plain_49 ?_
      refine j_iadd (pc := 50) hX dX10_plain_50 ?_
      refine j_iload_n (pc := 51) hX 1 rfl dX10_plain_51 ?_
      refine j_jon (fun (j9 : Int32 → Option (Unit × HP)) => ∀ (s10 : Int32), jG mV X evV rr (j9 s10) 61 [(0, .ref (xz X + 0)), (1, .int v1)] [.int s10, .int ((2 : Int32) + v1), .ref (xz X + 4)] h8) ?_ ?_
      · intro s10
        refine j_iast (pc := 61) (n := 4) hX rfl dX10_plain_61 (fun _ h11 => ?_)
        refine j_aload_n (pc := 62) hX 0 rfl dX10_plain_62 ?_
        refine j_getR (pc := 63) hX fgX10_69.1 fgX10_69.2 rfl rfl dX10_plain_63 ?_
        refine j_iconst (pc := 66) hX ic_2 dX10_plain_66 ?_
        refine j_iload_n (pc := 67) hX 1 rfl dX10_plain_67 ?_
        refine j_iadd (pc := 68) hX dX10_plain_68 ?_
        refine j_iconst (pc := 69) hX ic_0 dX10_plain_69 ?_
        refine j_zast (pc := 70) (n := 4) hX (Or.inl rfl) rfl dX10_plain_70 (fun _ h12 => ?_)
        refine j_iinc (pc := 71) hX 1 rfl (1 : Int32) ic_1 (fun x13 => [(1, .int x13), (0, .ref (xz X + 0))]) (fun _ => rfl) (Nat.le_of_ble_eq_true rfl) dX10_plain_71 (fun x13 => ?_)
        refine j_goto (pc := 74) (tgt := 32) hX rfl dX10_plain_74 ?_
        refine j_locs [1, 0] rfl ?_
        exact ih x13 h12
      · intro j9 hj9
        refine j_ifne (pc := 52) (tgt := 60) hX rfl dX10_plain_52 (fun _ => ?_) (fun _ => ?_)
        · refine j_bipush (pc := 55) hX bp_9 dX10_plain_55 ?_
          refine j_goto (pc := 57) (tgt := 61) hX rfl dX10_plain_57 ?_
          exact hj9 (9 : Int32)
        · refine j_iconst (pc := 60) hX ic_0 dX10_plain_60 ?_
          exact hj9 (0 : Int32)
set_option maxHeartbeats 4000000 in
set_option maxRecDepth 100000 in
theorem m_t_plain  (h : HP) (rr : Unit × HP) (e : m_plain  h = some rr) : Cn mV yX10_plain (ws_ yX10_plain cX10_plain 2 (none)) 1 0 (fun z => [.ref (z + 0)]) h (fun z => eV z rr.1) rr.2 := by
  refine cn_of (e1 := eV) (fun z => [(0, .ref (z + 0))]) mV_ok ⟨Nat.le_refl _, Nat.le_refl _⟩ ymX10_plain (fun _ => rfl) (fun _ => Nat.le_of_ble_eq_true rfl) (fun X hX hr _ => ?_) e
  have hX : okX mV X rr cX10_plain RX10 2 1 0 := hX
  rw [m_plain]
  refine j_aload_n (pc := 0) hX 0 rfl dX10_plain_0 ?_
  refine j_iconst (pc := 1) hX ic_0 dX10_plain_1 ?_
  refine j_putI (pc := 2) hX fwX10_210.1 fwX10_210.2 rfl dX10_plain_2 (fun h1 => ?_)
  refine j_aload_n (pc := 5) hX 0 rfl dX10_plain_5 ?_
  refine j_iconst (pc := 6) hX ic_0 dX10_plain_6 ?_
  refine j_putI (pc := 7) hX fwX10_213.1 fwX10_213.2 rfl dX10_plain_7 (fun h2 => ?_)
  refine j_aload_n (pc := 10) hX 0 rfl dX10_plain_10 ?_
  refine j_iconst (pc := 11) hX ic_0 dX10_plain_11 ?_
  refine j_putI (pc := 12) hX fwX10_216.1 fwX10_216.2 rfl dX10_plain_12 (fun h3 => ?_)
  refine j_aload_n (pc := 15) hX 0 rfl dX10_plain_15 ?_
  refine j_iconst (pc := 16) hX ic_0 dX10_plain_16 ?_
  refine j_putI (pc := 17) hX fwX10_219.1 fwX10_219.2 rfl dX10_plain_17 (fun h4 => ?_)
  refine j_aload_n (pc := 20) hX 0 rfl dX10_plain_20 ?_
  refine j_iconst (pc := 21) hX ic_0 dX10_plain_21 ?_
  refine j_putI (pc := 22) hX fwX10_222.1 fwX10_222.2 rfl dX10_plain_22 (fun h5 => ?_)
  refine j_aload_n (pc := 25) hX 0 rfl dX10_plain_25 ?_
  refine j_iconst (pc := 26) hX ic_0 dX10_plain_26 ?_
  refine j_putI (pc := 27) hX fwX10_225.1 fwX10_225.2 rfl dX10_plain_27 (fun h6 => ?_)
  refine j_iconst (pc := 30) hX ic_0 dX10_plain_30 ?_
  refine j_istore_n (pc := 31) hX (fun x7 => [(1, .int x7), (0, .ref (xz X + 0))]) (fun _ => rfl) (Nat.le_of_ble_eq_true rfl) dX10_plain_31 (fun x7 => ?_)
  refine j_locs [1, 0] rfl ?_
  refine m_plain_32_w hX hr  _ (fun  h14 => ?_) FU x7 h6
  exact j_vret (pc := 77) hX hr dX10_plain_77
set_option maxHeartbeats 4000000 in
set_option maxRecDepth 100000 in
theorem m_copies_2_w {X : CTX} {rr : Unit × HP} (hX : okX mV X rr cX10_copies RX10 3 1 0) (hr : (xh X).sig.returnType = none) (f0 : Nat) (f1 : Int32) (k : HP → Option (Unit × HP)) (hk : ∀ (h : HP), jG mV X evV rr (k h) 21 [] [] h) : ∀ (n : Nat) (v2 : Int32) (h : HP), jG mV X evV rr (m_copies_2 f0 f1 k n v2 h) 2 [(0, .ref (xz X + f0)), (1, .int f1), (2, .int v2)] [] h := by
  intro n
  induction n with
  | zero =>
    intro v2 h
    exact j_none
  | succ n ih =>
    intro v2 h
    rw [m_copies_2]
    refine j_iload_n (pc := 2) hX 2 rfl dX10_copies_2 ?_
    refine j_iload_n (pc := 3) hX 1 rfl dX10_copies_3 ?_
    refine j_cge (pc := 4) (tgt := 21) hX rfl dX10_copies_4 (fun _ => ?_) (fun _ => ?_)
    · refine j_locs [] rfl ?_
      exact hk h
    · refine j_aload_n (pc := 7) hX 0 rfl dX10_copies_7 ?_
      refine j_iload_n (pc := 8) hX 2 rfl dX10_copies_8 ?_
      refine j_aload_n (pc := 9) hX 0 rfl dX10_copies_9 ?_
      refine j_iload_n (pc := 10) hX 1 rfl dX10_copies_10 ?_
      refine j_iload_n (pc := 11) hX 2 rfl dX10_copies_11 ?_
      refine j_iadd (pc := 12) hX dX10_copies_12 ?_
      refine j_grd fun g2 => ?_
      refine j_iald (pc := 13) (n := (mT f0).2) hX (mT_k g2) dX10_copies_13 (fun _ => ?_)
      refine j_iast (pc := 14) (n := (mT f0).2) hX (mT_k g2) dX10_copies_14 (fun _ h3 => ?_)
      refine j_iinc (pc := 15) hX 2 rfl (1 : Int32) ic_1 (fun x4 => [(2, .int x4), (0, .ref (xz X + f0)), (1, .int f1)]) (fun _ => rfl) (Nat.le_of_ble_eq_true rfl) dX10_copies_15 (fun x4 => ?_)
      refine j_goto (pc := 18) (tgt := 2) hX rfl dX10_copies_18 ?_
      refine j_locs [1, 2, 0] rfl ?_
      exact ih x4 h3
set_option maxHeartbeats 4000000 in
set_option maxRecDepth 100000 in
theorem m_t_copies (a1 : Nat) (a2 : Int32) (h : HP) (rr : Unit × HP) (e : m_copies a1 a2 h = some rr) : Cn mV yX10_copies (ws_ yX10_copies cX10_copies 3 (none)) 1 0 (fun z => [.ref (z + a1), .int a2]) h (fun z => eV z rr.1) rr.2 := by
  refine cn_of (e1 := eV) (fun z => [(0, .ref (z + a1)), (1, .int a2)]) mV_ok ⟨Nat.le_refl _, Nat.le_refl _⟩ ymX10_copies (fun _ => rfl) (fun _ => Nat.le_of_ble_eq_true rfl) (fun X hX hr _ => ?_) e
  have hX : okX mV X rr cX10_copies RX10 3 1 0 := hX
  rw [m_copies]
  refine j_iconst (pc := 0) hX ic_0 dX10_copies_0 ?_
  refine j_istore_n (pc := 1) hX (fun x1 => [(2, .int x1), (0, .ref (xz X + a1)), (1, .int a2)]) (fun _ => rfl) (Nat.le_of_ble_eq_true rfl) dX10_copies_1 (fun x1 => ?_)
  refine j_locs [1, 2, 0] rfl ?_
  refine m_copies_2_w hX hr a1 a2 _ (fun  h5 => ?_) FU x1 h
  exact j_vret (pc := 21) hX hr dX10_copies_21
set_option maxHeartbeats 4000000 in
set_option maxRecDepth 100000 in
theorem m_atFirst_2_w {X : CTX} {rr : Unit × HP} (hX : okX mV X rr cX10_atFirst RX10 3 1 0) (hr : (xh X).sig.returnType = none) (f1 : Int32) (k : HP → Option (Unit × HP)) (hk : ∀ (h : HP), jG mV X evV rr (k h) 79 [(0, .ref (xz X + 0)), (1, .int f1)] [] h) : ∀ (n : Nat) (v2 : Int32) (h : HP), jG mV X evV rr (m_atFirst_2 f1 k n v2 h) 2 [(0, .ref (xz X + 0)), (1, .int f1), (2, .int v2)] [] h := by
  intro n
  induction n with
  | zero =>
    intro v2 h
    exact j_none
  | succ n ih =>
    intro v2 h
    rw [m_atFirst_2]
    refine j_iload_n (pc := 2) hX 2 rfl dX10_atFirst_2 ?_
    refine j_iconst (pc := 3) hX ic_5 dX10_atFirst_3 ?_
    refine j_cge (pc := 4) (tgt := 79) hX rfl dX10_atFirst_4 (fun _ => ?_) (fun _ => ?_)
    · refine j_locs [0, 1] rfl ?_
      exact hk h
    · refine j_aload_n (pc := 7) hX 0 rfl dX10_atFirst_7 ?_
      refine j_getR (pc := 8) hX fgX10_100.1 fgX10_100.2 rfl rfl dX10_atFirst_8 ?_
      refine j_iconst (pc := 11) hX ic_5 dX10_atFirst_11 ?_
      refine j_iload_n (pc := 12) hX 1 rfl dX10_atFirst_12 ?_
      refine j_imul (pc := 13) hX dX10_atFirst_13 ?_
      refine j_iload_n (pc := 14) hX 2 rfl dX10_atFirst_14 ?_
      refine j_iadd (pc := 15) hX dX10_atFirst_15 ?_
      refine j_iload_n (pc := 16) hX 2 rfl dX10_atFirst_16 ?_
      refine j_aload_n (pc := 17) hX 0 rfl dX10_atFirst_17 ?_
      refine j_getI (pc := 18) hX fgX10_231.1 fgX10_231.2 rfl dX10_atFirst_18 ?_
      refine j_jon (fun (j2 : Int32 → Option (Unit × HP)) => ∀ (s3 : Int32), jG mV X evV rr (j2 s3) 34 [(0, .ref (xz X + 0)), (1, .int f1), (2, .int v2)] [.int s3, .int (((5 : Int32) * f1) + v2), .ref (xz X + 29)] h) ?_ ?_
      · intro s3
        refine j_iast (pc := 34) (n := 10) hX rfl dX10_atFirst_34 (fun _ h4 => ?_)
        refine j_aload_n (pc := 35) hX 0 rfl dX10_atFirst_35 ?_
        refine j_getR (pc := 36) hX fgX10_103.1 fgX10_103.2 rfl rfl dX10_atFirst_36 ?_
        refine j_iconst (pc := 39) hX ic_5 dX10_atFirst_39 ?_
        refine j_iload_n (pc := 40) hX 1 rfl dX10_atFirst_40 ?_
        refine j_imul (pc := 41) hX dX10_atFirst_41 ?_
        refine j_iload_n (pc := 42) hX 2 rfl dX10_atFirst_42 ?_
        refine j_iadd (pc := 43) hX dX10_atFirst_43 ?_
        refine j_iconst (pc := 44) hX ic_0 dX10_atFirst_44 ?_
        refine j_iast (pc := 45) (n := 10) hX rfl dX10_atFirst_45 (fun _ h5 => ?_)
        refine j_aload_n (pc := 46) hX 0 rfl dX10_atFirst_46 ?_
        refine j_getR (pc := 47) hX fgX10_106.1 fgX10_106.2 rfl rfl dX10_atFirst_47 ?_
        refine j_iconst (pc := 50) hX ic_5 dX10_atFirst_50 ?_
        refine j_iload_n (pc := 51) hX 1 rfl dX10_atFirst_51 ?_
        refine j_imul (pc := 52) hX dX10_atFirst_52 ?_
        refine j_iload_n (pc := 53) hX 2 rfl dX10_atFirst_53 ?_
        refine j_iadd (pc := 54) hX dX10_atFirst_54 ?_
        refine j_aload_n (pc := 55) hX 0 rfl dX10_atFirst_55 ?_
        refine j_getR (pc := 56) hX fgX10_39.1 fgX10_39.2 rfl rfl dX10_atFirst_56 ?_
        refine j_iload_n (pc := 59) hX 2 rfl dX10_atFirst_59 ?_
        refine j_iald (pc := 60) (n := 10) hX rfl dX10_atFirst_60 (fun _ => ?_)
        refine j_iast (pc := 61) (n := 10) hX rfl dX10_atFirst_61 (fun _ h6 => ?_)
        refine j_aload_n (pc := 62) hX 0 rfl dX10_atFirst_62 ?_
        refine j_getR (pc := 63) hX fgX10_109.1 fgX10_109.2 rfl rfl dX10_atFirst_63 ?_
        refine j_iconst (pc := 66) hX ic_5 dX10_atFirst_66 ?_
        refine j_iload_n (pc := 67) hX 1 rfl dX10_atFirst_67 ?_
        refine j_imul (pc := 68) hX dX10_atFirst_68 ?_
        refine j_iload_n (pc := 69) hX 2 rfl dX10_atFirst_69 ?_
        refine j_iadd (pc := 70) hX dX10_atFirst_70 ?_
        refine j_iconst (pc := 71) hX ic_0 dX10_atFirst_71 ?_
        refine j_iast (pc := 72) (n := 10) hX rfl dX10_atFirst_72 (fun _ h7 => ?_)
        refine j_iinc (pc := 73) hX 2 rfl (1 : Int32) ic_1 (fun x8 => [(2, .int x8), (0, .ref (xz X + 0)), (1, .int f1)]) (fun _ => rfl) (Nat.le_of_ble_eq_true rfl) dX10_atFirst_73 (fun x8 => ?_)
        refine j_goto (pc := 76) (tgt := 2) hX rfl dX10_atFirst_76 ?_
        refine j_locs [1, 2, 0] rfl ?_
        exact ih x8 h7
      · intro j2 hj2
        refine j_cge (pc := 21) (tgt := 33) hX rfl dX10_atFirst_21 (fun _ => ?_) (fun _ => ?_)
        · refine j_iconst (pc := 33) hX ic_0 dX10_atFirst_33 ?_
          exact hj2 (0 : Int32)
        · refine j_aload_n (pc := 24) hX 0 rfl dX10_atFirst_24 ?_
          refine j_getR (pc := 25) hX fgX10_42.1 fgX10_42.2 rfl rfl dX10_atFirst_25 ?_
          refine j_iload_n (pc := 28) hX 2 rfl dX10_atFirst_28 ?_
          refine j_iald (pc := 29) (n := 10) hX rfl dX10_atFirst_29 (fun _ => ?_)
          refine j_goto (pc := 30) (tgt := 34) hX rfl dX10_atFirst_30 ?_
          exact hj2 (gI h 10 (v2).toNatClampNeg)
set_option maxHeartbeats 4000000 in
set_option maxRecDepth 100000 in
theorem m_t_atFirst (a1 : Int32) (h : HP) (rr : Unit × HP) (e : m_atFirst a1 h = some rr) : Cn mV yX10_atFirst (ws_ yX10_atFirst cX10_atFirst 3 (none)) 1 0 (fun z => [.ref (z + 0), .int a1]) h (fun z => eV z rr.1) rr.2 := by
  refine cn_of (e1 := eV) (fun z => [(0, .ref (z + 0)), (1, .int a1)]) mV_ok ⟨Nat.le_refl _, Nat.le_refl _⟩ ymX10_atFirst (fun _ => rfl) (fun _ => Nat.le_of_ble_eq_true rfl) (fun X hX hr _ => ?_) e
  have hX : okX mV X rr cX10_atFirst RX10 3 1 0 := hX
  rw [m_atFirst]
  refine j_iconst (pc := 0) hX ic_0 dX10_atFirst_0 ?_
  refine j_istore_n (pc := 1) hX (fun x1 => [(2, .int x1), (0, .ref (xz X + 0)), (1, .int a1)]) (fun _ => rfl) (Nat.le_of_ble_eq_true rfl) dX10_atFirst_1 (fun x1 => ?_)
  refine j_locs [1, 2, 0] rfl ?_
  refine m_atFirst_2_w hX hr a1 _ (fun  h9 => ?_) FU x1 h
  refine j_aload_n (pc := 79) hX 0 rfl dX10_atFirst_79 ?_
  refine j_getR (pc := 80) hX fgX10_112.1 fgX10_112.2 rfl rfl dX10_atFirst_80 ?_
  refine j_iload_n (pc := 83) hX 1 rfl dX10_atFirst_83 ?_
  refine j_iconst (pc := 84) hX ic_0 dX10_atFirst_84 ?_
  refine j_iast (pc := 85) (n := 2) hX rfl dX10_atFirst_85 (fun _ h10 => ?_)
  exact j_vret (pc := 86) hX hr dX10_atFirst_86
set_option maxHeartbeats 4000000 in
set_option maxRecDepth 100000 in
theorem m_t_plainTried  (h : HP) (rr : Unit × HP) (e : m_plainTried  h = some rr) : Cn mV yX10_plainTried (ws_ yX10_plainTried cX10_plainTried 1 (none)) 1 0 (fun z => [.ref (z + 0)]) h (fun z => eV z rr.1) rr.2 := by
  refine cn_of (e1 := eV) (fun z => [(0, .ref (z + 0))]) mV_ok ⟨Nat.le_refl _, Nat.le_refl _⟩ ymX10_plainTried (fun _ => rfl) (fun _ => Nat.le_of_ble_eq_true rfl) (fun X hX hr _ => ?_) e
  have hX : okX mV X rr cX10_plainTried RX10 1 1 0 := hX
  rw [m_plainTried]
  refine j_aload_n (pc := 0) hX 0 rfl dX10_plainTried_0 ?_
  refine j_iconst (pc := 1) hX ic_0 dX10_plainTried_1 ?_
  refine j_putZ (pc := 2) hX (Or.inl rfl) fwX10_383.1 fwX10_383.2 rfl dX10_plainTried_2 (fun h1 => ?_)
  refine j_aload_n (pc := 5) hX 0 rfl dX10_plainTried_5 ?_
  refine j_iconst (pc := 6) hX ic_0 dX10_plainTried_6 ?_
  refine j_putZ (pc := 7) hX (Or.inl rfl) fwX10_386.1 fwX10_386.2 rfl dX10_plainTried_7 (fun h2 => ?_)
  refine j_aload_n (pc := 10) hX 0 rfl dX10_plainTried_10 ?_
  refine j_iconst (pc := 11) hX ic_0 dX10_plainTried_11 ?_
  refine j_putZ (pc := 12) hX (Or.inl rfl) fwX10_389.1 fwX10_389.2 rfl dX10_plainTried_12 (fun h3 => ?_)
  refine j_aload_n (pc := 15) hX 0 rfl dX10_plainTried_15 ?_
  refine j_iconst (pc := 16) hX ic_0 dX10_plainTried_16 ?_
  refine j_putZ (pc := 17) hX (Or.inl rfl) fwX10_392.1 fwX10_392.2 rfl dX10_plainTried_17 (fun h4 => ?_)
  refine j_aload_n (pc := 20) hX 0 rfl dX10_plainTried_20 ?_
  refine j_iconst (pc := 21) hX ic_0 dX10_plainTried_21 ?_
  refine j_putI (pc := 22) hX fwX10_395.1 fwX10_395.2 rfl dX10_plainTried_22 (fun h5 => ?_)
  refine j_aload_n (pc := 25) hX 0 rfl dX10_plainTried_25 ?_
  refine j_iconst (pc := 26) hX ic_m1 dX10_plainTried_26 ?_
  refine j_putI (pc := 27) hX fwX10_398.1 fwX10_398.2 rfl dX10_plainTried_27 (fun h6 => ?_)
  exact j_vret (pc := 30) hX hr dX10_plainTried_30
set_option maxHeartbeats 4000000 in
set_option maxRecDepth 100000 in
theorem m_t_begin  (h : HP) (rr : Unit × HP) (e : m_begin  h = some rr) : Cn mV yX10_begin (ws_ yX10_begin cX10_begin 1 (none)) 2 22 (fun z => [.ref (z + 0)]) h (fun z => eV z rr.1) rr.2 := by
  refine cn_of (e1 := eV) (fun z => [(0, .ref (z + 0))]) mV_ok ⟨Nat.le_refl _, Nat.le_refl _⟩ ymX10_begin (fun _ => rfl) (fun _ => Nat.le_of_ble_eq_true rfl) (fun X hX hr _ => ?_) e
  have hX : okX mV X rr cX10_begin RX10 1 2 22 := hX
  rw [m_begin]
  refine j_aload_n (pc := 0) hX 0 rfl dX10_begin_0 ?_
  refine j_iconst (pc := 1) hX ic_0 dX10_begin_1 ?_
  refine j_callVV (pc := 2) (a := 0) (As := fun z => [.int (0 : Int32)]) (rest := []) hX (fun r e => m_t_atFirst (0 : Int32) h r e) ymX10_atFirst (lw_V q1599 q1601 qs65 q154 q1602) rfl ckX10 rfl ⟨Nat.le_of_ble_eq_true rfl, Nat.le_of_ble_eq_true rfl⟩ rfl rfl (Nat.le_of_ble_eq_true rfl) dX10_begin_2 (fun r1 h2 => ?_)
  refine j_aload_n (pc := 5) hX 0 rfl dX10_begin_5 ?_
  refine j_iconst (pc := 6) hX ic_0 dX10_begin_6 ?_
  refine j_putI (pc := 7) hX fwX10_364.1 fwX10_364.2 rfl dX10_begin_7 (fun h3 => ?_)
  refine j_aload_n (pc := 10) hX 0 rfl dX10_begin_10 ?_
  refine j_aload_n (pc := 11) hX 0 rfl dX10_begin_11 ?_
  refine j_getR (pc := 12) hX fgX10_24.1 fgX10_24.2 rfl rfl dX10_begin_12 ?_
  refine j_iconst (pc := 15) hX ic_1 dX10_begin_15 ?_
  refine j_iald (pc := 16) (n := 4) hX rfl dX10_begin_16 (fun _ => ?_)
  refine j_i2l (pc := 17) hX dX10_begin_17 ?_
  refine j_putL (pc := 18) hX fwX10_367.1 fwX10_367.2 rfl dX10_begin_18 (fun h4 => ?_)
  refine j_aload_n (pc := 21) hX 0 rfl dX10_begin_21 ?_
  refine j_callVV (pc := 22) (a := 0) (As := fun z => []) (rest := []) hX (fun r e => m_t_plainTried h4 r e) ymX10_plainTried (lw_V q1603 q1605 qs66 q154 q1606) rfl ckX10 rfl ⟨Nat.le_of_ble_eq_true rfl, Nat.le_of_ble_eq_true rfl⟩ rfl rfl (Nat.le_of_ble_eq_true rfl) dX10_begin_22 (fun r5 h6 => ?_)
  refine j_aload_n (pc := 25) hX 0 rfl dX10_begin_25 ?_
  refine j_iconst (pc := 26) hX ic_0 dX10_begin_26 ?_
  refine j_putI (pc := 27) hX fwX10_374.1 fwX10_374.2 rfl dX10_begin_27 (fun h7 => ?_)
  refine j_aload_n (pc := 30) hX 0 rfl dX10_begin_30 ?_
  refine j_iconst (pc := 31) hX ic_m1 dX10_begin_31 ?_
  refine j_putI (pc := 32) hX fwX10_124.1 fwX10_124.2 rfl dX10_begin_32 (fun h8 => ?_)
  refine j_aload_n (pc := 35) hX 0 rfl dX10_begin_35 ?_
  refine j_iconst (pc := 36) hX ic_0 dX10_begin_36 ?_
  refine j_putI (pc := 37) hX fwX10_377.1 fwX10_377.2 rfl dX10_begin_37 (fun h9 => ?_)
  refine j_aload_n (pc := 40) hX 0 rfl dX10_begin_40 ?_
  refine j_iconst (pc := 41) hX ic_0 dX10_begin_41 ?_
  refine j_putZ (pc := 42) hX (Or.inl rfl) fwX10_380.1 fwX10_380.2 rfl dX10_begin_42 (fun h10 => ?_)
  exact j_vret (pc := 45) hX hr dX10_begin_45
set_option maxHeartbeats 4000000 in
set_option maxRecDepth 100000 in
theorem m_keepText_171_w {X : CTX} {rr : Unit × HP} (hX : okX mV X rr cX10_keepText RX10 2 3 42) (hr : (xh X).sig.returnType = none)  (k : HP → Option (Unit × HP)) (hk : ∀ (h : HP), jG mV X evV rr (k h) 196 [(0, .ref (xz X + 0))] [] h) : ∀ (n : Nat) (v1 : Int32) (h : HP), jG mV X evV rr (m_keepText_171 k n v1 h) 171 [(0, .ref (xz X + 0)), (1, .int v1)] [] h := by
  intro n
  induction n with
  | zero =>
    intro v1 h
    exact j_none
  | succ n ih =>
    intro v1 h
    rw [m_keepText_171]
    refine j_iload_n (pc := 171) hX 1 rfl dX10_keepText_171 ?_
    refine j_iconst (pc := 172) hX ic_2 dX10_keepText_172 ?_
    refine j_cge (pc := 173) (tgt := 196) hX rfl dX10_keepText_173 (fun _ => ?_) (fun _ => ?_)
    · refine j_locs [0] rfl ?_
      exact hk h
    · refine j_aload_n (pc := 176) hX 0 rfl dX10_keepText_176 ?_
      refine j_getR (pc := 177) hX fgX10_69.1 fgX10_69.2 rfl rfl dX10_keepText_177 ?_
      refine j_iload_n (pc := 180) hX 1 rfl dX10_keepText_180 ?_
      refine j_aload_n (pc := 181) hX 0 rfl dX10_keepText_181 ?_
      refine j_getR (pc := 182) hX fgX10_69.1 fgX10_69.2 rfl rfl dX10_keepText_182 ?_
      refine j_iconst (pc := 185) hX ic_2 dX10_keepText_185 ?_
      refine j_iload_n (pc := 186) hX 1 rfl dX10_keepText_186 ?_
      refine j_iadd (pc := 187) hX dX10_keepText_187 ?_
      refine j_zald (pc := 188) (n := 4) hX rfl dX10_keepText_188 (fun _ => ?_)
      refine j_grd fun g38 => ?_
      refine j_zast (pc := 189) (n := 4) hX g38 rfl dX10_keepText_189 (fun _ h37 => ?_)
      refine j_iinc (pc := 190) hX 1 rfl (1 : Int32) ic_1 (fun x39 => [(1, .int x39), (0, .ref (xz X + 0))]) (fun _ => rfl) (Nat.le_of_ble_eq_true rfl) dX10_keepText_190 (fun x39 => ?_)
      refine j_goto (pc := 193) (tgt := 171) hX rfl dX10_keepText_193 ?_
      refine j_locs [1, 0] rfl ?_
      exact ih x39 h37
set_option maxHeartbeats 4000000 in
set_option maxRecDepth 100000 in
theorem m_t_keepText  (h : HP) (rr : Unit × HP) (e : m_keepText  h = some rr) : Cn mV yX10_keepText (ws_ yX10_keepText cX10_keepText 2 (none)) 3 42 (fun z => [.ref (z + 0)]) h (fun z => eV z rr.1) rr.2 := by
  refine cn_of (e1 := eV) (fun z => [(0, .ref (z + 0))]) mV_ok ⟨Nat.le_refl _, Nat.le_refl _⟩ ymX10_keepText (fun _ => rfl) (fun _ => Nat.le_of_ble_eq_true rfl) (fun X hX hr _ => ?_) e
  have hX : okX mV X rr cX10_keepText RX10 2 3 42 := hX
  rw [m_keepText]
  refine j_aload_n (pc := 0) hX 0 rfl dX10_keepText_0 ?_
  refine j_aload_n (pc := 1) hX 0 rfl dX10_keepText_1 ?_
  refine j_getI (pc := 2) hX fgX10_210.1 fgX10_210.2 rfl dX10_keepText_2 ?_
  refine j_putI (pc := 5) hX fwX10_228.1 fwX10_228.2 rfl dX10_keepText_5 (fun h1 => ?_)
  refine j_aload_n (pc := 8) hX 0 rfl dX10_keepText_8 ?_
  refine j_aload_n (pc := 9) hX 0 rfl dX10_keepText_9 ?_
  refine j_getI (pc := 10) hX fgX10_213.1 fgX10_213.2 rfl dX10_keepText_10 ?_
  refine j_putI (pc := 13) hX fwX10_231.1 fwX10_231.2 rfl dX10_keepText_13 (fun h2 => ?_)
  refine j_aload_n (pc := 16) hX 0 rfl dX10_keepText_16 ?_
  refine j_aload_n (pc := 17) hX 0 rfl dX10_keepText_17 ?_
  refine j_getI (pc := 18) hX fgX10_216.1 fgX10_216.2 rfl dX10_keepText_18 ?_
  refine j_putI (pc := 21) hX fwX10_234.1 fwX10_234.2 rfl dX10_keepText_21 (fun h3 => ?_)
  refine j_aload_n (pc := 24) hX 0 rfl dX10_keepText_24 ?_
  refine j_aload_n (pc := 25) hX 0 rfl dX10_keepText_25 ?_
  refine j_getI (pc := 26) hX fgX10_219.1 fgX10_219.2 rfl dX10_keepText_26 ?_
  refine j_putI (pc := 29) hX fwX10_237.1 fwX10_237.2 rfl dX10_keepText_29 (fun h4 => ?_)
  refine j_aload_n (pc := 32) hX 0 rfl dX10_keepText_32 ?_
  refine j_aload_n (pc := 33) hX 0 rfl dX10_keepText_33 ?_
  refine j_getI (pc := 34) hX fgX10_222.1 fgX10_222.2 rfl dX10_keepText_34 ?_
  refine j_putI (pc := 37) hX fwX10_240.1 fwX10_240.2 rfl dX10_keepText_37 (fun h5 => ?_)
  refine j_aload_n (pc := 40) hX 0 rfl dX10_keepText_40 ?_
  refine j_getR (pc := 41) hX fgX10_24.1 fgX10_24.2 rfl rfl dX10_keepText_41 ?_
  refine j_iconst (pc := 44) hX ic_2 dX10_keepText_44 ?_
  refine j_callSV (pc := 45) (As := fun z => [.ref (z + 4), .int (2 : Int32)]) (rest := []) hX (fun r e => m_t_copies 4 (2 : Int32) h5 r e) ymX10_copies (lw_S q1592 q1593 q154 q1594) ⟨Nat.le_of_ble_eq_true rfl, Nat.le_of_ble_eq_true rfl⟩ rfl rfl (Nat.le_of_ble_eq_true rfl) dX10_keepText_45 (fun r6 h7 => ?_)
  refine j_aload_n (pc := 48) hX 0 rfl dX10_keepText_48 ?_
  refine j_getR (pc := 49) hX fgX10_27.1 fgX10_27.2 rfl rfl dX10_keepText_49 ?_
  refine j_bipush (pc := 52) hX bp_8 dX10_keepText_52 ?_
  refine j_callSV (pc := 54) (As := fun z => [.ref (z + 5), .int (8 : Int32)]) (rest := []) hX (fun r e => m_t_copies 5 (8 : Int32) h7 r e) ymX10_copies (lw_S q1592 q1593 q154 q1594) ⟨Nat.le_of_ble_eq_true rfl, Nat.le_of_ble_eq_true rfl⟩ rfl rfl (Nat.le_of_ble_eq_true rfl) dX10_keepText_54 (fun r8 h9 => ?_)
  refine j_aload_n (pc := 57) hX 0 rfl dX10_keepText_57 ?_
  refine j_getR (pc := 58) hX fgX10_30.1 fgX10_30.2 rfl rfl dX10_keepText_58 ?_
  refine j_iconst (pc := 61) hX ic_5 dX10_keepText_61 ?_
  refine j_callSV (pc := 62) (As := fun z => [.ref (z + 6), .int (5 : Int32)]) (rest := []) hX (fun r e => m_t_copies 6 (5 : Int32) h9 r e) ymX10_copies (lw_S q1592 q1593 q154 q1594) ⟨Nat.le_of_ble_eq_true rfl, Nat.le_of_ble_eq_true rfl⟩ rfl rfl (Nat.le_of_ble_eq_true rfl) dX10_keepText_62 (fun r10 h11 => ?_)
  refine j_aload_n (pc := 65) hX 0 rfl dX10_keepText_65 ?_
  refine j_getR (pc := 66) hX fgX10_33.1 fgX10_33.2 rfl rfl dX10_keepText_66 ?_
  refine j_iconst (pc := 69) hX ic_5 dX10_keepText_69 ?_
  refine j_callSV (pc := 70) (As := fun z => [.ref (z + 7), .int (5 : Int32)]) (rest := []) hX (fun r e => m_t_copies 7 (5 : Int32) h11 r e) ymX10_copies (lw_S q1592 q1593 q154 q1594) ⟨Nat.le_of_ble_eq_true rfl, Nat.le_of_ble_eq_true rfl⟩ rfl rfl (Nat.le_of_ble_eq_true rfl) dX10_keepText_70 (fun r12 h13 => ?_)
  refine j_aload_n (pc := 73) hX 0 rfl dX10_keepText_73 ?_
  refine j_getR (pc := 74) hX fgX10_36.1 fgX10_36.2 rfl rfl dX10_keepText_74 ?_
  refine j_iconst (pc := 77) hX ic_5 dX10_keepText_77 ?_
  refine j_callSV (pc := 78) (As := fun z => [.ref (z + 8), .int (5 : Int32)]) (rest := []) hX (fun r e => m_t_copies 8 (5 : Int32) h13 r e) ymX10_copies (lw_S q1592 q1593 q154 q1594) ⟨Nat.le_of_ble_eq_true rfl, Nat.le_of_ble_eq_true rfl⟩ rfl rfl (Nat.le_of_ble_eq_true rfl) dX10_keepText_78 (fun r14 h15 => ?_)
  refine j_aload_n (pc := 81) hX 0 rfl dX10_keepText_81 ?_
  refine j_getR (pc := 82) hX fgX10_39.1 fgX10_39.2 rfl rfl dX10_keepText_82 ?_
  refine j_iconst (pc := 85) hX ic_5 dX10_keepText_85 ?_
  refine j_callSV (pc := 86) (As := fun z => [.ref (z + 9), .int (5 : Int32)]) (rest := []) hX (fun r e => m_t_copies 9 (5 : Int32) h15 r e) ymX10_copies (lw_S q1592 q1593 q154 q1594) ⟨Nat.le_of_ble_eq_true rfl, Nat.le_of_ble_eq_true rfl⟩ rfl rfl (Nat.le_of_ble_eq_true rfl) dX10_keepText_86 (fun r16 h17 => ?_)
  refine j_aload_n (pc := 89) hX 0 rfl dX10_keepText_89 ?_
  refine j_getR (pc := 90) hX fgX10_42.1 fgX10_42.2 rfl rfl dX10_keepText_90 ?_
  refine j_iconst (pc := 93) hX ic_5 dX10_keepText_93 ?_
  refine j_callSV (pc := 94) (As := fun z => [.ref (z + 10), .int (5 : Int32)]) (rest := []) hX (fun r e => m_t_copies 10 (5 : Int32) h17 r e) ymX10_copies (lw_S q1592 q1593 q154 q1594) ⟨Nat.le_of_ble_eq_true rfl, Nat.le_of_ble_eq_true rfl⟩ rfl rfl (Nat.le_of_ble_eq_true rfl) dX10_keepText_94 (fun r18 h19 => ?_)
  refine j_aload_n (pc := 97) hX 0 rfl dX10_keepText_97 ?_
  refine j_getR (pc := 98) hX fgX10_45.1 fgX10_45.2 rfl rfl dX10_keepText_98 ?_
  refine j_bipush (pc := 101) hX bp_8 dX10_keepText_101 ?_
  refine j_callSV (pc := 103) (As := fun z => [.ref (z + 11), .int (8 : Int32)]) (rest := []) hX (fun r e => m_t_copies 11 (8 : Int32) h19 r e) ymX10_copies (lw_S q1592 q1593 q154 q1594) ⟨Nat.le_of_ble_eq_true rfl, Nat.le_of_ble_eq_true rfl⟩ rfl rfl (Nat.le_of_ble_eq_true rfl) dX10_keepText_103 (fun r20 h21 => ?_)
  refine j_aload_n (pc := 106) hX 0 rfl dX10_keepText_106 ?_
  refine j_getR (pc := 107) hX fgX10_48.1 fgX10_48.2 rfl rfl dX10_keepText_107 ?_
  refine j_bipush (pc := 110) hX bp_8 dX10_keepText_110 ?_
  refine j_callSV (pc := 112) (As := fun z => [.ref (z + 12), .int (8 : Int32)]) (rest := []) hX (fun r e => m_t_copies 12 (8 : Int32) h21 r e) ymX10_copies (lw_S q1592 q1593 q154 q1594) ⟨Nat.le_of_ble_eq_true rfl, Nat.le_of_ble_eq_true rfl⟩ rfl rfl (Nat.le_of_ble_eq_true rfl) dX10_keepText_112 (fun r22 h23 => ?_)
  refine j_aload_n (pc := 115) hX 0 rfl dX10_keepText_115 ?_
  refine j_getR (pc := 116) hX fgX10_51.1 fgX10_51.2 rfl rfl dX10_keepText_116 ?_
  refine j_bipush (pc := 119) hX bp_8 dX10_keepText_119 ?_
  refine j_callSV (pc := 121) (As := fun z => [.ref (z + 13), .int (8 : Int32)]) (rest := []) hX (fun r e => m_t_copies 13 (8 : Int32) h23 r e) ymX10_copies (lw_S q1592 q1593 q154 q1594) ⟨Nat.le_of_ble_eq_true rfl, Nat.le_of_ble_eq_true rfl⟩ rfl rfl (Nat.le_of_ble_eq_true rfl) dX10_keepText_121 (fun r24 h25 => ?_)
  refine j_aload_n (pc := 124) hX 0 rfl dX10_keepText_124 ?_
  refine j_getR (pc := 125) hX fgX10_54.1 fgX10_54.2 rfl rfl dX10_keepText_125 ?_
  refine j_bipush (pc := 128) hX bp_8 dX10_keepText_128 ?_
  refine j_callSV (pc := 130) (As := fun z => [.ref (z + 14), .int (8 : Int32)]) (rest := []) hX (fun r e => m_t_copies 14 (8 : Int32) h25 r e) ymX10_copies (lw_S q1592 q1593 q154 q1594) ⟨Nat.le_of_ble_eq_true rfl, Nat.le_of_ble_eq_true rfl⟩ rfl rfl (Nat.le_of_ble_eq_true rfl) dX10_keepText_130 (fun r26 h27 => ?_)
  refine j_aload_n (pc := 133) hX 0 rfl dX10_keepText_133 ?_
  refine j_getR (pc := 134) hX fgX10_57.1 fgX10_57.2 rfl rfl dX10_keepText_134 ?_
  refine j_bipush (pc := 137) hX bp_8 dX10_keepText_137 ?_
  refine j_callSV (pc := 139) (As := fun z => [.ref (z + 15), .int (8 : Int32)]) (rest := []) hX (fun r e => m_t_copies 15 (8 : Int32) h27 r e) ymX10_copies (lw_S q1592 q1593 q154 q1594) ⟨Nat.le_of_ble_eq_true rfl, Nat.le_of_ble_eq_true rfl⟩ rfl rfl (Nat.le_of_ble_eq_true rfl) dX10_keepText_139 (fun r28 h29 => ?_)
  refine j_aload_n (pc := 142) hX 0 rfl dX10_keepText_142 ?_
  refine j_getR (pc := 143) hX fgX10_60.1 fgX10_60.2 rfl rfl dX10_keepText_143 ?_
  refine j_bipush (pc := 146) hX bp_10 dX10_keepText_146 ?_
  refine j_callSV (pc := 148) (As := fun z => [.ref (z + 16), .int (10 : Int32)]) (rest := []) hX (fun r e => m_t_copies 16 (10 : Int32) h29 r e) ymX10_copies (lw_S q1592 q1593 q154 q1594) ⟨Nat.le_of_ble_eq_true rfl, Nat.le_of_ble_eq_true rfl⟩ rfl rfl (Nat.le_of_ble_eq_true rfl) dX10_keepText_148 (fun r30 h31 => ?_)
  refine j_aload_n (pc := 151) hX 0 rfl dX10_keepText_151 ?_
  refine j_getR (pc := 152) hX fgX10_63.1 fgX10_63.2 rfl rfl dX10_keepText_152 ?_
  refine j_bipush (pc := 155) hX bp_10 dX10_keepText_155 ?_
  refine j_callSV (pc := 157) (As := fun z => [.ref (z + 17), .int (10 : Int32)]) (rest := []) hX (fun r e => m_t_copies 17 (10 : Int32) h31 r e) ymX10_copies (lw_S q1592 q1593 q154 q1594) ⟨Nat.le_of_ble_eq_true rfl, Nat.le_of_ble_eq_true rfl⟩ rfl rfl (Nat.le_of_ble_eq_true rfl) dX10_keepText_157 (fun r32 h33 => ?_)
  refine j_aload_n (pc := 160) hX 0 rfl dX10_keepText_160 ?_
  refine j_getR (pc := 161) hX fgX10_66.1 fgX10_66.2 rfl rfl dX10_keepText_161 ?_
  refine j_bipush (pc := 164) hX bp_10 dX10_keepText_164 ?_
  refine j_callSV (pc := 166) (As := fun z => [.ref (z + 18), .int (10 : Int32)]) (rest := []) hX (fun r e => m_t_copies 18 (10 : Int32) h33 r e) ymX10_copies (lw_S q1592 q1593 q154 q1594) ⟨Nat.le_of_ble_eq_true rfl, Nat.le_of_ble_eq_true rfl⟩ rfl rfl (Nat.le_of_ble_eq_true rfl) dX10_keepText_166 (fun r34 h35 => ?_)
  refine j_iconst (pc := 169) hX ic_0 dX10_keepText_169 ?_
  refine j_istore_n (pc := 170) hX (fun x36 => [(1, .int x36), (0, .ref (xz X + 0))]) (fun _ => rfl) (Nat.le_of_ble_eq_true rfl) dX10_keepText_170 (fun x36 => ?_)
  refine j_locs [1, 0] rfl ?_
  refine m_keepText_171_w hX hr  _ (fun  h40 => ?_) FU x36 h35
  refine j_aload_n (pc := 196) hX 0 rfl dX10_keepText_196 ?_
  refine j_getR (pc := 197) hX fgX10_72.1 fgX10_72.2 rfl rfl dX10_keepText_197 ?_
  refine j_iconst (pc := 200) hX ic_2 dX10_keepText_200 ?_
  refine j_callSV (pc := 201) (As := fun z => [.ref (z + 20), .int (2 : Int32)]) (rest := []) hX (fun r e => m_t_copies 20 (2 : Int32) h40 r e) ymX10_copies (lw_S q1592 q1593 q154 q1594) ⟨Nat.le_of_ble_eq_true rfl, Nat.le_of_ble_eq_true rfl⟩ rfl rfl (Nat.le_of_ble_eq_true rfl) dX10_keepText_201 (fun r41 h42 => ?_)
  refine j_aload_n (pc := 204) hX 0 rfl dX10_keepText_204 ?_
  refine j_getR (pc := 205) hX fgX10_75.1 fgX10_75.2 rfl rfl dX10_keepText_205 ?_
  refine j_iconst (pc := 208) hX ic_2 dX10_keepText_208 ?_
  refine j_callSV (pc := 209) (As := fun z => [.ref (z + 21), .int (2 : Int32)]) (rest := []) hX (fun r e => m_t_copies 21 (2 : Int32) h42 r e) ymX10_copies (lw_S q1592 q1593 q154 q1594) ⟨Nat.le_of_ble_eq_true rfl, Nat.le_of_ble_eq_true rfl⟩ rfl rfl (Nat.le_of_ble_eq_true rfl) dX10_keepText_209 (fun r43 h44 => ?_)
  refine j_aload_n (pc := 212) hX 0 rfl dX10_keepText_212 ?_
  refine j_getR (pc := 213) hX fgX10_78.1 fgX10_78.2 rfl rfl dX10_keepText_213 ?_
  refine j_bipush (pc := 216) hX bp_64 dX10_keepText_216 ?_
  refine j_callSV (pc := 218) (As := fun z => [.ref (z + 22), .int (64 : Int32)]) (rest := []) hX (fun r e => m_t_copies 22 (64 : Int32) h44 r e) ymX10_copies (lw_S q1592 q1593 q154 q1594) ⟨Nat.le_of_ble_eq_true rfl, Nat.le_of_ble_eq_true rfl⟩ rfl rfl (Nat.le_of_ble_eq_true rfl) dX10_keepText_218 (fun r45 h46 => ?_)
  refine j_aload_n (pc := 221) hX 0 rfl dX10_keepText_221 ?_
  refine j_getR (pc := 222) hX fgX10_81.1 fgX10_81.2 rfl rfl dX10_keepText_222 ?_
  refine j_bipush (pc := 225) hX bp_64 dX10_keepText_225 ?_
  refine j_callSV (pc := 227) (As := fun z => [.ref (z + 23), .int (64 : Int32)]) (rest := []) hX (fun r e => m_t_copies 23 (64 : Int32) h46 r e) ymX10_copies (lw_S q1592 q1593 q154 q1594) ⟨Nat.le_of_ble_eq_true rfl, Nat.le_of_ble_eq_true rfl⟩ rfl rfl (Nat.le_of_ble_eq_true rfl) dX10_keepText_227 (fun r47 h48 => ?_)
  refine j_aload_n (pc := 230) hX 0 rfl dX10_keepText_230 ?_
  refine j_getR (pc := 231) hX fgX10_84.1 fgX10_84.2 rfl rfl dX10_keepText_231 ?_
  refine j_bipush (pc := 234) hX bp_64 dX10_keepText_234 ?_
  refine j_callSV (pc := 236) (As := fun z => [.ref (z + 24), .int (64 : Int32)]) (rest := []) hX (fun r e => m_t_copies 24 (64 : Int32) h48 r e) ymX10_copies (lw_S q1592 q1593 q154 q1594) ⟨Nat.le_of_ble_eq_true rfl, Nat.le_of_ble_eq_true rfl⟩ rfl rfl (Nat.le_of_ble_eq_true rfl) dX10_keepText_236 (fun r49 h50 => ?_)
  refine j_aload_n (pc := 239) hX 0 rfl dX10_keepText_239 ?_
  refine j_callVV (pc := 240) (a := 0) (As := fun z => []) (rest := []) hX (fun r e => m_t_begin h50 r e) ymX10_begin (lw_V q1595 q1597 qs64 q154 q1598) rfl ckX10 rfl ⟨Nat.le_of_ble_eq_true rfl, Nat.le_of_ble_eq_true rfl⟩ rfl rfl (Nat.le_of_ble_eq_true rfl) dX10_keepText_240 (fun r51 h52 => ?_)
  exact j_vret (pc := 243) hX hr dX10_keepText_243
set_option maxHeartbeats 4000000 in
set_option maxRecDepth 100000 in
theorem m_t_thrown  (h : HP) (rr : Int32 × HP) (e : m_thrown  h = some rr) : Cn mV yX10_thrown (ws_ yX10_thrown cX10_thrown 1 (some .int)) 1 0 (fun z => [.ref (z + 0)]) h (fun z => eI z rr.1) rr.2 := by
  refine cn_of (e1 := eI) (fun z => [(0, .ref (z + 0))]) mV_ok ⟨Nat.le_refl _, Nat.le_refl _⟩ ymX10_thrown (fun _ => rfl) (fun _ => Nat.le_of_ble_eq_true rfl) (fun X hX hr _ => ?_) e
  have hX : okX mV X rr cX10_thrown RX10 1 1 0 := hX
  rw [m_thrown]
  refine j_aload_n (pc := 0) hX 0 rfl dX10_thrown_0 ?_
  refine j_getI (pc := 1) hX fgX10_148.1 fgX10_148.2 rfl dX10_thrown_1 ?_
  exact j_iret (pc := 4) hX hr dX10_thrown_4
set_option maxHeartbeats 4000000 in
set_option maxRecDepth 100000 in
theorem m_feed_23_w {X : CTX} {rr : Int32 × HP} (hX : okX mV X rr cX10_feed RX10 8 1 0) (hr : (xh X).sig.returnType = some .int) (f1 : Int32) (f2 : Int32) (f3 : Int32) (f4 : Int32) (f5 : Int32) (k : HP → Option (Int32 × HP)) (hk : ∀ (h : HP), jG mV X evI rr (k h) 113 [(0, .ref (xz X + 0))] [] h) : ∀ (n : Nat) (v6 : Int32) (h : HP), jG mV X evI rr (m_feed_23 f1 f2 f3 f4 f5 k n v6 h) 23 [(0, .ref (xz X + 0)), (1, .int f1), (2, .int f2), (3, .int f3), (4, .int f4), (5, .int f5), (6, .int v6)] [] h := by
  intro n
  induction n with
  | zero =>
    intro v6 h
    exact j_none
  | succ n ih =>
    intro v6 h
    rw [m_feed_23]
    refine j_iload (pc := 23) hX 6 rfl dX10_feed_23 ?_
    refine j_bipush (pc := 25) hX bp_20 dX10_feed_25 ?_
    refine j_cge (pc := 27) (tgt := 113) hX rfl dX10_feed_27 (fun _ => ?_) (fun _ => ?_)
    · refine j_locs [0] rfl ?_
      exact hk h
    · refine j_iload (pc := 30) hX 6 rfl dX10_feed_30 ?_
      refine j_iconst (pc := 32) hX ic_4 dX10_feed_32 ?_
      refine j_jon (fun (j3 : Int32 → Option (Int32 × HP)) => ∀ (s4 : Int32), jG mV X evI rr (j3 s4) 76 [(0, .ref (xz X + 0)), (1, .int f1), (2, .int f2), (3, .int f3), (4, .int f4), (5, .int f5), (6, .int v6)] [.int s4] h) ?_ ?_
      · intro s4
        refine j_istore (pc := 76) hX (fun x5 => [(7, .int x5), (0, .ref (xz X + 0)), (1, .int f1), (2, .int f2), (3, .int f3), (4, .int f4), (5, .int f5), (6, .int v6)]) (fun _ => rfl) (Nat.le_of_ble_eq_true rfl) dX10_feed_76 (fun x5 => ?_)
        refine j_aload_n (pc := 78) hX 1 rfl dX10_feed_78 ?_
        refine j_getR (pc := 79) hX fgX10_7.1 fgX10_7.2 rfl rfl dX10_feed_79 ?_
        refine j_aload_n (pc := 82) hX 1 rfl dX10_feed_82 ?_
        refine j_getI (pc := 83) hX fgX10_151.1 fgX10_151.2 rfl dX10_feed_83 ?_
        refine j_iload (pc := 86) hX 7 rfl dX10_feed_86 ?_
        refine j_iadd (pc := 88) hX dX10_feed_88 ?_
        refine j_iload (pc := 89) hX 0 rfl dX10_feed_89 ?_
        refine j_bipush (pc := 91) hX bp_24 dX10_feed_91 ?_
        refine j_bipush (pc := 93) hX bp_8 dX10_feed_93 ?_
        refine j_iload (pc := 95) hX 7 rfl dX10_feed_95 ?_
        refine j_iconst (pc := 97) hX ic_4 dX10_feed_97 ?_
        refine j_irem (pc := 98) hX dX10_feed_98 (fun _ => ?_)
        refine j_imul (pc := 99) hX dX10_feed_99 ?_
        refine j_isub (pc := 100) hX dX10_feed_100 ?_
        refine j_ishr (pc := 101) hX dX10_feed_101 ?_
        refine j_sipush (pc := 102) hX sp_255 dX10_feed_102 ?_
        refine j_iand (pc := 105) hX dX10_feed_105 ?_
        refine j_iast (pc := 106) (n := 700) hX rfl dX10_feed_106 (fun _ h6 => ?_)
        refine j_iinc (pc := 107) hX 7 rfl (1 : Int32) ic_1 (fun x7 => [(6, .int x7), (7, .int x5), (0, .ref (xz X + 0)), (1, .int f1), (2, .int f2), (3, .int f3), (4, .int f4), (5, .int f5)]) (fun _ => rfl) (Nat.le_of_ble_eq_true rfl) dX10_feed_107 (fun x7 => ?_)
        refine j_goto (pc := 110) (tgt := 23) hX rfl dX10_feed_110 ?_
        refine j_locs [2, 3, 4, 5, 6, 7, 0] rfl ?_
        exact ih x7 h6
      · intro j3 hj3
        refine j_cge (pc := 33) (tgt := 40) hX rfl dX10_feed_33 (fun _ => ?_) (fun _ => ?_)
        · refine j_iload (pc := 40) hX 6 rfl dX10_feed_40 ?_
          refine j_bipush (pc := 42) hX bp_8 dX10_feed_42 ?_
          refine j_cge (pc := 44) (tgt := 51) hX rfl dX10_feed_44 (fun _ => ?_) (fun _ => ?_)
          · refine j_iload (pc := 51) hX 6 rfl dX10_feed_51 ?_
            refine j_bipush (pc := 53) hX bp_12 dX10_feed_53 ?_
            refine j_cge (pc := 55) (tgt := 62) hX rfl dX10_feed_55 (fun _ => ?_) (fun _ => ?_)
            · refine j_iload (pc := 62) hX 6 rfl dX10_feed_62 ?_
              refine j_bipush (pc := 64) hX bp_16 dX10_feed_64 ?_
              refine j_cge (pc := 66) (tgt := 74) hX rfl dX10_feed_66 (fun _ => ?_) (fun _ => ?_)
              · refine j_iload (pc := 74) hX 5 rfl dX10_feed_74 ?_
                exact hj3 f5
              · refine j_iload (pc := 69) hX 4 rfl dX10_feed_69 ?_
                refine j_goto (pc := 71) (tgt := 76) hX rfl dX10_feed_71 ?_
                exact hj3 f4
            · refine j_iload_n (pc := 58) hX 3 rfl dX10_feed_58 ?_
              refine j_goto (pc := 59) (tgt := 76) hX rfl dX10_feed_59 ?_
              exact hj3 f3
          · refine j_iload_n (pc := 47) hX 2 rfl dX10_feed_47 ?_
            refine j_goto (pc := 48) (tgt := 76) hX rfl dX10_feed_48 ?_
            exact hj3 f2
        · refine j_iload_n (pc := 36) hX 1 rfl dX10_feed_36 ?_
          refine j_goto (pc := 37) (tgt := 76) hX rfl dX10_feed_37 ?_
          exact hj3 f1
set_option maxHeartbeats 4000000 in
set_option maxRecDepth 100000 in
theorem m_t_feed (a1 : Int32) (a2 : Int32) (a3 : Int32) (a4 : Int32) (a5 : Int32) (h : HP) (rr : Int32 × HP) (e : m_feed a1 a2 a3 a4 a5 h = some rr) : Cn mV yX10_feed (ws_ yX10_feed cX10_feed 8 (some .int)) 1 0 (fun z => [.ref (z + 0), .int a1, .int a2, .int a3, .int a4, .int a5]) h (fun z => eI z rr.1) rr.2 := by
  refine cn_of (e1 := eI) (fun z => [(0, .ref (z + 0)), (1, .int a1), (2, .int a2), (3, .int a3), (4, .int a4), (5, .int a5)]) mV_ok ⟨Nat.le_refl _, Nat.le_refl _⟩ ymX10_feed (fun _ => rfl) (fun _ => Nat.le_of_ble_eq_true rfl) (fun X hX hr _ => ?_) e
  have hX : okX mV X rr cX10_feed RX10 8 1 0 := hX
  rw [m_feed]
  refine j_aload_n (pc := 0) hX 0 rfl dX10_feed_0 ?_
  refine j_iconst (pc := 1) hX ic_0 dX10_feed_1 ?_
  refine j_putI (pc := 2) hX fwX10_148.1 fwX10_148.2 rfl dX10_feed_2 (fun h1 => ?_)
  refine j_aload_n (pc := 5) hX 0 rfl dX10_feed_5 ?_
  refine j_getI (pc := 6) hX fgX10_151.1 fgX10_151.2 rfl dX10_feed_6 ?_
  refine j_bipush (pc := 9) hX bp_20 dX10_feed_9 ?_
  refine j_iadd (pc := 11) hX dX10_feed_11 ?_
  refine j_sipush (pc := 12) hX sp_700 dX10_feed_12 ?_
  refine j_cle (pc := 15) (tgt := 20) hX rfl dX10_feed_15 (fun _ => ?_) (fun _ => ?_)
  · refine j_iconst (pc := 20) hX ic_0 dX10_feed_20 ?_
    refine j_istore (pc := 21) hX (fun x2 => [(6, .int x2), (0, .ref (xz X + 0)), (1, .int a1), (2, .int a2), (3, .int a3), (4, .int a4), (5, .int a5)]) (fun _ => rfl) (Nat.le_of_ble_eq_true rfl) dX10_feed_21 (fun x2 => ?_)
    refine j_locs [1, 2, 3, 4, 5, 6, 0] rfl ?_
    refine m_feed_23_w hX hr a1 a2 a3 a4 a5 _ (fun  h8 => ?_) FU x2 h1
    refine j_aload_n (pc := 113) hX 0 rfl dX10_feed_113 ?_
    refine j_dup (pc := 114) hX rfl dX10_feed_114 ?_
    refine j_getI (pc := 115) hX fgX10_151.1 fgX10_151.2 rfl dX10_feed_115 ?_
    refine j_bipush (pc := 118) hX bp_20 dX10_feed_118 ?_
    refine j_iadd (pc := 120) hX dX10_feed_120 ?_
    refine j_putI (pc := 121) hX fwX10_151.1 fwX10_151.2 rfl dX10_feed_121 (fun h9 => ?_)
    refine j_aload_n (pc := 124) hX 0 rfl dX10_feed_124 ?_
    refine j_getI (pc := 125) hX fgX10_151.1 fgX10_151.2 rfl dX10_feed_125 ?_
    exact j_iret (pc := 128) hX hr dX10_feed_128
  · refine j_iconst (pc := 18) hX ic_m1 dX10_feed_18 ?_
    exact j_iret (pc := 19) hX hr dX10_feed_19
set_option maxHeartbeats 4000000 in
set_option maxRecDepth 100000 in
theorem m_t_isSmall (a1 : Int32) (h : HP) (rr : Int32 × HP) (e : m_isSmall a1 h = some rr) : Cn mV yX10_isSmall (ws_ yX10_isSmall cX10_isSmall 2 (some .boolean)) 1 0 (fun z => [.ref (z + 0), .int a1]) h (fun z => eI z rr.1) rr.2 := by
  refine cn_of (e1 := eI) (fun z => [(0, .ref (z + 0)), (1, .int a1)]) mV_ok ⟨Nat.le_refl _, Nat.le_refl _⟩ ymX10_isSmall (fun _ => rfl) (fun _ => Nat.le_of_ble_eq_true rfl) (fun X hX hr _ => ?_) e
  have hX : okX mV X rr cX10_isSmall RX10 2 1 0 := hX
  rw [m_isSmall]
  refine j_iload_n (pc := 0) hX 1 rfl dX10_isSmall_0 ?_
  refine j_aload_n (pc := 1) hX 0 rfl dX10_isSmall_1 ?_
  refine j_getI (pc := 2) hX fgX10_160.1 fgX10_160.2 rfl dX10_isSmall_2 ?_
  refine j_cge (pc := 5) (tgt := 34) hX rfl dX10_isSmall_5 (fun _ => ?_) (fun _ => ?_)
  · refine j_iconst (pc := 34) hX ic_0 dX10_isSmall_34 ?_
    exact j_zret (pc := 35) hX (Or.inl rfl) hr dX10_isSmall_35
  · refine j_aload_n (pc := 8) hX 0 rfl dX10_isSmall_8 ?_
    refine j_getR (pc := 9) hX fgX10_7.1 fgX10_7.2 rfl rfl dX10_isSmall_9 ?_
    refine j_iload_n (pc := 12) hX 1 rfl dX10_isSmall_12 ?_
    refine j_iald (pc := 13) (n := 700) hX rfl dX10_isSmall_13 (fun _ => ?_)
    refine j_bipush (pc := 14) hX bp_97 dX10_isSmall_14 ?_
    refine j_clt (pc := 16) (tgt := 34) hX rfl dX10_isSmall_16 (fun _ => ?_) (fun _ => ?_)
    · refine j_iconst (pc := 34) hX ic_0 dX10_isSmall_34 ?_
      exact j_zret (pc := 35) hX (Or.inl rfl) hr dX10_isSmall_35
    · refine j_aload_n (pc := 19) hX 0 rfl dX10_isSmall_19 ?_
      refine j_getR (pc := 20) hX fgX10_7.1 fgX10_7.2 rfl rfl dX10_isSmall_20 ?_
      refine j_iload_n (pc := 23) hX 1 rfl dX10_isSmall_23 ?_
      refine j_iald (pc := 24) (n := 700) hX rfl dX10_isSmall_24 (fun _ => ?_)
      refine j_bipush (pc := 25) hX bp_122 dX10_isSmall_25 ?_
      refine j_cgt (pc := 27) (tgt := 34) hX rfl dX10_isSmall_27 (fun _ => ?_) (fun _ => ?_)
      · refine j_iconst (pc := 34) hX ic_0 dX10_isSmall_34 ?_
        exact j_zret (pc := 35) hX (Or.inl rfl) hr dX10_isSmall_35
      · refine j_iconst (pc := 30) hX ic_1 dX10_isSmall_30 ?_
        refine j_goto (pc := 31) (tgt := 35) hX rfl dX10_isSmall_31 ?_
        exact j_zret (pc := 35) hX (Or.inr rfl) hr dX10_isSmall_35
set_option maxHeartbeats 4000000 in
set_option maxRecDepth 100000 in
theorem m_t_isDigit (a1 : Int32) (h : HP) (rr : Int32 × HP) (e : m_isDigit a1 h = some rr) : Cn mV yX10_isDigit (ws_ yX10_isDigit cX10_isDigit 2 (some .boolean)) 1 0 (fun z => [.ref (z + 0), .int a1]) h (fun z => eI z rr.1) rr.2 := by
  refine cn_of (e1 := eI) (fun z => [(0, .ref (z + 0)), (1, .int a1)]) mV_ok ⟨Nat.le_refl _, Nat.le_refl _⟩ ymX10_isDigit (fun _ => rfl) (fun _ => Nat.le_of_ble_eq_true rfl) (fun X hX hr _ => ?_) e
  have hX : okX mV X rr cX10_isDigit RX10 2 1 0 := hX
  rw [m_isDigit]
  refine j_iload_n (pc := 0) hX 1 rfl dX10_isDigit_0 ?_
  refine j_aload_n (pc := 1) hX 0 rfl dX10_isDigit_1 ?_
  refine j_getI (pc := 2) hX fgX10_160.1 fgX10_160.2 rfl dX10_isDigit_2 ?_
  refine j_cge (pc := 5) (tgt := 34) hX rfl dX10_isDigit_5 (fun _ => ?_) (fun _ => ?_)
  · refine j_iconst (pc := 34) hX ic_0 dX10_isDigit_34 ?_
    exact j_zret (pc := 35) hX (Or.inl rfl) hr dX10_isDigit_35
  · refine j_aload_n (pc := 8) hX 0 rfl dX10_isDigit_8 ?_
    refine j_getR (pc := 9) hX fgX10_7.1 fgX10_7.2 rfl rfl dX10_isDigit_9 ?_
    refine j_iload_n (pc := 12) hX 1 rfl dX10_isDigit_12 ?_
    refine j_iald (pc := 13) (n := 700) hX rfl dX10_isDigit_13 (fun _ => ?_)
    refine j_bipush (pc := 14) hX bp_48 dX10_isDigit_14 ?_
    refine j_clt (pc := 16) (tgt := 34) hX rfl dX10_isDigit_16 (fun _ => ?_) (fun _ => ?_)
    · refine j_iconst (pc := 34) hX ic_0 dX10_isDigit_34 ?_
      exact j_zret (pc := 35) hX (Or.inl rfl) hr dX10_isDigit_35
    · refine j_aload_n (pc := 19) hX 0 rfl dX10_isDigit_19 ?_
      refine j_getR (pc := 20) hX fgX10_7.1 fgX10_7.2 rfl rfl dX10_isDigit_20 ?_
      refine j_iload_n (pc := 23) hX 1 rfl dX10_isDigit_23 ?_
      refine j_iald (pc := 24) (n := 700) hX rfl dX10_isDigit_24 (fun _ => ?_)
      refine j_bipush (pc := 25) hX bp_57 dX10_isDigit_25 ?_
      refine j_cgt (pc := 27) (tgt := 34) hX rfl dX10_isDigit_27 (fun _ => ?_) (fun _ => ?_)
      · refine j_iconst (pc := 34) hX ic_0 dX10_isDigit_34 ?_
        exact j_zret (pc := 35) hX (Or.inl rfl) hr dX10_isDigit_35
      · refine j_iconst (pc := 30) hX ic_1 dX10_isDigit_30 ?_
        refine j_goto (pc := 31) (tgt := 35) hX rfl dX10_isDigit_31 ?_
        exact j_zret (pc := 35) hX (Or.inr rfl) hr dX10_isDigit_35
set_option maxHeartbeats 4000000 in
set_option maxRecDepth 100000 in
theorem m_t_signToken  (h : HP) (rr : Unit × HP) (e : m_signToken  h = some rr) : Cn mV yX10_signToken (ws_ yX10_signToken cX10_signToken 4 (none)) 1 0 (fun z => [.ref (z + 0)]) h (fun z => eV z rr.1) rr.2 := by
  refine cn_of (e1 := eV) (fun z => [(0, .ref (z + 0))]) mV_ok ⟨Nat.le_refl _, Nat.le_refl _⟩ ymX10_signToken (fun _ => rfl) (fun _ => Nat.le_of_ble_eq_true rfl) (fun X hX hr _ => ?_) e
  have hX : okX mV X rr cX10_signToken RX10 4 1 0 := hX
  rw [m_signToken]
  refine j_aload_n (pc := 0) hX 0 rfl dX10_signToken_0 ?_
  refine j_aload_n (pc := 1) hX 0 rfl dX10_signToken_1 ?_
  refine j_getR (pc := 2) hX fgX10_7.1 fgX10_7.2 rfl rfl dX10_signToken_2 ?_
  refine j_aload_n (pc := 5) hX 0 rfl dX10_signToken_5 ?_
  refine j_getI (pc := 6) hX fgX10_163.1 fgX10_163.2 rfl dX10_signToken_6 ?_
  refine j_iald (pc := 9) (n := 700) hX rfl dX10_signToken_9 (fun _ => ?_)
  refine j_putI (pc := 10) hX fwX10_177.1 fwX10_177.2 rfl dX10_signToken_10 (fun h1 => ?_)
  refine j_aload_n (pc := 13) hX 0 rfl dX10_signToken_13 ?_
  refine j_dup (pc := 14) hX rfl dX10_signToken_14 ?_
  refine j_getI (pc := 15) hX fgX10_163.1 fgX10_163.2 rfl dX10_signToken_15 ?_
  refine j_iconst (pc := 18) hX ic_1 dX10_signToken_18 ?_
  refine j_iadd (pc := 19) hX dX10_signToken_19 ?_
  refine j_putI (pc := 20) hX fwX10_163.1 fwX10_163.2 rfl dX10_signToken_20 (fun h2 => ?_)
  refine j_aload_n (pc := 23) hX 0 rfl dX10_signToken_23 ?_
  refine j_getI (pc := 24) hX fgX10_177.1 fgX10_177.2 rfl dX10_signToken_24 ?_
  refine j_bipush (pc := 27) hX bp_60 dX10_signToken_27 ?_
  refine j_jon (fun (j3 : Unit → Option (Unit × HP)) => ∀ (_u : Unit), jG mV X evV rr (j3 ()) 50 [(0, .ref (xz X + 0))] [] h2) ?_ ?_
  · intro _
    refine j_aload_n (pc := 50) hX 0 rfl dX10_signToken_50 ?_
    refine j_getI (pc := 51) hX fgX10_163.1 fgX10_163.2 rfl dX10_signToken_51 ?_
    refine j_aload_n (pc := 54) hX 0 rfl dX10_signToken_54 ?_
    refine j_getI (pc := 55) hX fgX10_160.1 fgX10_160.2 rfl dX10_signToken_55 ?_
    refine j_jon (fun (j4 : Int32 → Option (Unit × HP)) => ∀ (s5 : Int32), jG mV X evV rr (j4 s5) 74 [(0, .ref (xz X + 0))] [.int s5] h2) ?_ ?_
    · intro s5
      refine j_istore_n (pc := 74) hX (fun x6 => [(1, .int x6), (0, .ref (xz X + 0))]) (fun _ => rfl) (Nat.le_of_ble_eq_true rfl) dX10_signToken_74 (fun x6 => ?_)
      refine j_aload_n (pc := 75) hX 1 rfl dX10_signToken_75 ?_
      refine j_getI (pc := 76) hX fgX10_177.1 fgX10_177.2 rfl dX10_signToken_76 ?_
      refine j_bipush (pc := 79) hX bp_61 dX10_signToken_79 ?_
      refine j_jon (fun (j7 : Int32 → Option (Unit × HP)) => ∀ (s8 : Int32), jG mV X evV rr (j7 s8) 95 [(0, .ref (xz X + 0)), (1, .int x6)] [.int s8] h2) ?_ ?_
      · intro s8
        refine j_istore_n (pc := 95) hX (fun x9 => [(2, .int x9), (0, .ref (xz X + 0)), (1, .int x6)]) (fun _ => rfl) (Nat.le_of_ble_eq_true rfl) dX10_signToken_95 (fun x9 => ?_)
        refine j_aload_n (pc := 96) hX 1 rfl dX10_signToken_96 ?_
        refine j_getI (pc := 97) hX fgX10_177.1 fgX10_177.2 rfl dX10_signToken_97 ?_
        refine j_bipush (pc := 100) hX bp_60 dX10_signToken_100 ?_
        refine j_jon (fun (j10 : Int32 → Option (Unit × HP)) => ∀ (s11 : Int32), jG mV X evV rr (j10 s11) 116 [(0, .ref (xz X + 0)), (2, .int x9)] [.int s11] h2) ?_ ?_
        · intro s11
          refine j_istore_n (pc := 116) hX (fun x12 => [(3, .int x12), (0, .ref (xz X + 0)), (2, .int x9)]) (fun _ => rfl) (Nat.le_of_ble_eq_true rfl) dX10_signToken_116 (fun x12 => ?_)
          refine j_iload_n (pc := 117) hX 2 rfl dX10_signToken_117 ?_
          refine j_jon (fun (j13 : HP → Option (Unit × HP)) => ∀ (h14 : HP), jG mV X evV rr (j13 h14) 135 [(0, .ref (xz X + 0)), (2, .int x9), (3, .int x12)] [] h14) ?_ ?_
          · intro h14
            refine j_aload_n (pc := 135) hX 0 rfl dX10_signToken_135 ?_
            refine j_iconst (pc := 136) hX ic_5 dX10_signToken_136 ?_
            refine j_putI (pc := 137) hX fwX10_166.1 fwX10_166.2 rfl dX10_signToken_137 (fun h15 => ?_)
            refine j_aload_n (pc := 140) hX 0 rfl dX10_signToken_140 ?_
            refine j_aload_n (pc := 141) hX 0 rfl dX10_signToken_141 ?_
            refine j_getI (pc := 142) hX fgX10_177.1 fgX10_177.2 rfl dX10_signToken_142 ?_
            refine j_bipush (pc := 145) hX bp_61 dX10_signToken_145 ?_
            refine j_jon (fun (j16 : Int32 → Option (Unit × HP)) => ∀ (s17 : Int32), jG mV X evV rr (j16 s17) 192 [] [.int s17, .ref (xz X + 0)] h15) ?_ ?_
            · intro s17
              refine j_putI (pc := 192) hX fwX10_177.1 fwX10_177.2 rfl dX10_signToken_192 (fun h18 => ?_)
              refine j_goto (pc := 195) (tgt := 290) hX rfl dX10_signToken_195 ?_
              exact j_vret (pc := 290) hX hr dX10_signToken_290
            · intro j16 hj16
              refine j_cne (pc := 147) (tgt := 154) hX rfl dX10_signToken_147 (fun _ => ?_) (fun _ => ?_)
              · refine j_iconst (pc := 150) hX ic_2 dX10_signToken_150 ?_
                refine j_goto (pc := 151) (tgt := 192) hX rfl dX10_signToken_151 ?_
                refine j_locs [] rfl ?_
                exact hj16 (2 : Int32)
              · refine j_aload_n (pc := 154) hX 0 rfl dX10_signToken_154 ?_
                refine j_getI (pc := 155) hX fgX10_177.1 fgX10_177.2 rfl dX10_signToken_155 ?_
                refine j_bipush (pc := 158) hX bp_60 dX10_signToken_158 ?_
                refine j_cne (pc := 160) (tgt := 183) hX rfl dX10_signToken_160 (fun _ => ?_) (fun _ => ?_)
                · refine j_iload_n (pc := 163) hX 1 rfl dX10_signToken_163 ?_
                  refine j_ifeq (pc := 164) (tgt := 171) hX rfl dX10_signToken_164 (fun _ => ?_) (fun _ => ?_)
                  · refine j_iload_n (pc := 171) hX 2 rfl dX10_signToken_171 ?_
                    refine j_ifeq (pc := 172) (tgt := 179) hX rfl dX10_signToken_172 (fun _ => ?_) (fun _ => ?_)
                    · refine j_iconst (pc := 179) hX ic_0 dX10_signToken_179 ?_
                      refine j_goto (pc := 180) (tgt := 192) hX rfl dX10_signToken_180 ?_
                      refine j_locs [] rfl ?_
                      exact hj16 (0 : Int32)
                    · refine j_iconst (pc := 175) hX ic_3 dX10_signToken_175 ?_
                      refine j_goto (pc := 176) (tgt := 192) hX rfl dX10_signToken_176 ?_
                      refine j_locs [] rfl ?_
                      exact hj16 (3 : Int32)
                  · refine j_iconst (pc := 167) hX ic_1 dX10_signToken_167 ?_
                    refine j_goto (pc := 168) (tgt := 192) hX rfl dX10_signToken_168 ?_
                    refine j_locs [] rfl ?_
                    exact hj16 (1 : Int32)
                · refine j_iload_n (pc := 183) hX 1 rfl dX10_signToken_183 ?_
                  refine j_ifeq (pc := 184) (tgt := 191) hX rfl dX10_signToken_184 (fun _ => ?_) (fun _ => ?_)
                  · refine j_iconst (pc := 191) hX ic_5 dX10_signToken_191 ?_
                    refine j_locs [] rfl ?_
                    exact hj16 (5 : Int32)
                  · refine j_iconst (pc := 187) hX ic_4 dX10_signToken_187 ?_
                    refine j_goto (pc := 188) (tgt := 192) hX rfl dX10_signToken_188 ?_
                    refine j_locs [] rfl ?_
                    exact hj16 (4 : Int32)
          · intro j13 hj13
            refine j_jon (fun (j19 : Unit → Option (Unit × HP)) => ∀ (_u : Unit), jG mV X evV rr (j19 ()) 125 [(0, .ref (xz X + 0)), (2, .int x9), (3, .int x12)] [] h2) ?_ ?_
            · intro _
              refine j_aload_n (pc := 125) hX 0 rfl dX10_signToken_125 ?_
              refine j_dup (pc := 126) hX rfl dX10_signToken_126 ?_
              refine j_getI (pc := 127) hX fgX10_163.1 fgX10_163.2 rfl dX10_signToken_127 ?_
              refine j_iconst (pc := 130) hX ic_1 dX10_signToken_130 ?_
              refine j_iadd (pc := 131) hX dX10_signToken_131 ?_
              refine j_putI (pc := 132) hX fwX10_163.1 fwX10_163.2 rfl dX10_signToken_132 (fun h20 => ?_)
              exact hj13 h20
            · intro j19 hj19
              refine j_ifne (pc := 118) (tgt := 125) hX rfl dX10_signToken_118 (fun _ => ?_) (fun _ => ?_)
              · refine j_iload_n (pc := 121) hX 0 rfl dX10_signToken_121 ?_
                refine j_ifeq (pc := 122) (tgt := 135) hX rfl dX10_signToken_122 (fun _ => ?_) (fun _ => ?_)
                · refine j_locs [1, 2, 0] rfl ?_
                  exact hj13 h2
                · refine j_locs [1, 2, 0] rfl ?_
                  exact hj19 ()
              · refine j_locs [1, 2, 0] rfl ?_
                exact hj19 ()
        · intro j10 hj10
          refine j_jon (fun (j21 : Unit → Option (Unit × HP)) => ∀ (_u : Unit), jG mV X evV rr (j21 ()) 115 [(0, .ref (xz X + 0)), (2, .int x9)] [] h2) ?_ ?_
          · intro _
            refine j_iconst (pc := 115) hX ic_0 dX10_signToken_115 ?_
            exact hj10 (0 : Int32)
          · intro j21 hj21
            refine j_cne (pc := 102) (tgt := 115) hX rfl dX10_signToken_102 (fun _ => ?_) (fun _ => ?_)
            · refine j_iload_n (pc := 105) hX 2 rfl dX10_signToken_105 ?_
              refine j_bipush (pc := 106) hX bp_62 dX10_signToken_106 ?_
              refine j_cne (pc := 108) (tgt := 115) hX rfl dX10_signToken_108 (fun _ => ?_) (fun _ => ?_)
              · refine j_iconst (pc := 111) hX ic_1 dX10_signToken_111 ?_
                refine j_goto (pc := 112) (tgt := 116) hX rfl dX10_signToken_112 ?_
                refine j_locs [1, 0] rfl ?_
                exact hj10 (1 : Int32)
              · refine j_locs [1, 0] rfl ?_
                exact hj21 ()
            · refine j_locs [1, 0] rfl ?_
              exact hj21 ()
      · intro j7 hj7
        refine j_jon (fun (j22 : Unit → Option (Unit × HP)) => ∀ (_u : Unit), jG mV X evV rr (j22 ()) 94 [(0, .ref (xz X + 0)), (1, .int x6)] [] h2) ?_ ?_
        · intro _
          refine j_iconst (pc := 94) hX ic_0 dX10_signToken_94 ?_
          exact hj7 (0 : Int32)
        · intro j22 hj22
          refine j_ceq (pc := 81) (tgt := 94) hX rfl dX10_signToken_81 (fun _ => ?_) (fun _ => ?_)
          · refine j_locs [1, 0] rfl ?_
            exact hj22 ()
          · refine j_iload_n (pc := 84) hX 0 rfl dX10_signToken_84 ?_
            refine j_bipush (pc := 85) hX bp_61 dX10_signToken_85 ?_
            refine j_cne (pc := 87) (tgt := 94) hX rfl dX10_signToken_87 (fun _ => ?_) (fun _ => ?_)
            · refine j_iconst (pc := 90) hX ic_1 dX10_signToken_90 ?_
              refine j_goto (pc := 91) (tgt := 95) hX rfl dX10_signToken_91 ?_
              refine j_locs [1, 0] rfl ?_
              exact hj7 (1 : Int32)
            · refine j_locs [1, 0] rfl ?_
              exact hj22 ()
    · intro j4 hj4
      refine j_cge (pc := 58) (tgt := 73) hX rfl dX10_signToken_58 (fun _ => ?_) (fun _ => ?_)
      · refine j_iconst (pc := 73) hX ic_0 dX10_signToken_73 ?_
        exact hj4 (0 : Int32)
      · refine j_aload_n (pc := 61) hX 0 rfl dX10_signToken_61 ?_
        refine j_getR (pc := 62) hX fgX10_7.1 fgX10_7.2 rfl rfl dX10_signToken_62 ?_
        refine j_aload_n (pc := 65) hX 0 rfl dX10_signToken_65 ?_
        refine j_getI (pc := 66) hX fgX10_163.1 fgX10_163.2 rfl dX10_signToken_66 ?_
        refine j_iald (pc := 69) (n := 700) hX rfl dX10_signToken_69 (fun _ => ?_)
        refine j_goto (pc := 70) (tgt := 74) hX rfl dX10_signToken_70 ?_
        exact hj4 (gI h2 1 ((gI h2 0 7)).toNatClampNeg)
  · intro j3 hj3
    refine j_ceq (pc := 29) (tgt := 50) hX rfl dX10_signToken_29 (fun _ => ?_) (fun _ => ?_)
    · exact hj3 ()
    · refine j_aload_n (pc := 32) hX 0 rfl dX10_signToken_32 ?_
      refine j_getI (pc := 33) hX fgX10_177.1 fgX10_177.2 rfl dX10_signToken_33 ?_
      refine j_bipush (pc := 36) hX bp_62 dX10_signToken_36 ?_
      refine j_ceq (pc := 38) (tgt := 50) hX rfl dX10_signToken_38 (fun _ => ?_) (fun _ => ?_)
      · exact hj3 ()
      · refine j_aload_n (pc := 41) hX 0 rfl dX10_signToken_41 ?_
        refine j_getI (pc := 42) hX fgX10_177.1 fgX10_177.2 rfl dX10_signToken_42 ?_
        refine j_bipush (pc := 45) hX bp_61 dX10_signToken_45 ?_
        refine j_cne (pc := 47) (tgt := 198) hX rfl dX10_signToken_47 (fun _ => ?_) (fun _ => ?_)
        · exact hj3 ()
        · refine j_aload_n (pc := 198) hX 0 rfl dX10_signToken_198 ?_
          refine j_getI (pc := 199) hX fgX10_177.1 fgX10_177.2 rfl dX10_signToken_199 ?_
          refine j_bipush (pc := 202) hX bp_59 dX10_signToken_202 ?_
          refine j_jon (fun (j23 : Int32 → Option (Unit × HP)) => ∀ (s24 : Int32), jG mV X evV rr (j23 s24) 275 [(0, .ref (xz X + 0))] [.int s24] h2) ?_ ?_
          · intro s24
            refine j_istore_n (pc := 275) hX (fun x25 => [(1, .int x25), (0, .ref (xz X + 0))]) (fun _ => rfl) (Nat.le_of_ble_eq_true rfl) dX10_signToken_275 (fun x25 => ?_)
            refine j_aload_n (pc := 276) hX 1 rfl dX10_signToken_276 ?_
            refine j_iload_n (pc := 277) hX 0 rfl dX10_signToken_277 ?_
            refine j_jon (fun (j26 : Int32 → Option (Unit × HP)) => ∀ (s27 : Int32), jG mV X evV rr (j26 s27) 287 [] [.int s27, .ref (xz X + 0)] h2) ?_ ?_
            · intro s27
              refine j_putI (pc := 287) hX fwX10_166.1 fwX10_166.2 rfl dX10_signToken_287 (fun h28 => ?_)
              exact j_vret (pc := 290) hX hr dX10_signToken_290
            · intro j26 hj26
              refine j_ifeq (pc := 278) (tgt := 285) hX rfl dX10_signToken_278 (fun _ => ?_) (fun _ => ?_)
              · refine j_bipush (pc := 285) hX bp_6 dX10_signToken_285 ?_
                refine j_locs [] rfl ?_
                exact hj26 (6 : Int32)
              · refine j_iconst (pc := 281) hX ic_4 dX10_signToken_281 ?_
                refine j_goto (pc := 282) (tgt := 287) hX rfl dX10_signToken_282 ?_
                refine j_locs [] rfl ?_
                exact hj26 (4 : Int32)
          · intro j23 hj23
            refine j_jon (fun (j29 : Unit → Option (Unit × HP)) => ∀ (_u : Unit), jG mV X evV rr (j29 ()) 270 [(0, .ref (xz X + 0))] [] h2) ?_ ?_
            · intro _
              refine j_iconst (pc := 270) hX ic_1 dX10_signToken_270 ?_
              refine j_goto (pc := 271) (tgt := 275) hX rfl dX10_signToken_271 ?_
              exact hj23 (1 : Int32)
            · intro j29 hj29
              refine j_ceq (pc := 204) (tgt := 270) hX rfl dX10_signToken_204 (fun _ => ?_) (fun _ => ?_)
              · exact hj29 ()
              · refine j_aload_n (pc := 207) hX 0 rfl dX10_signToken_207 ?_
                refine j_getI (pc := 208) hX fgX10_177.1 fgX10_177.2 rfl dX10_signToken_208 ?_
                refine j_bipush (pc := 211) hX bp_40 dX10_signToken_211 ?_
                refine j_ceq (pc := 213) (tgt := 270) hX rfl dX10_signToken_213 (fun _ => ?_) (fun _ => ?_)
                · exact hj29 ()
                · refine j_aload_n (pc := 216) hX 0 rfl dX10_signToken_216 ?_
                  refine j_getI (pc := 217) hX fgX10_177.1 fgX10_177.2 rfl dX10_signToken_217 ?_
                  refine j_bipush (pc := 220) hX bp_41 dX10_signToken_220 ?_
                  refine j_ceq (pc := 222) (tgt := 270) hX rfl dX10_signToken_222 (fun _ => ?_) (fun _ => ?_)
                  · exact hj29 ()
                  · refine j_aload_n (pc := 225) hX 0 rfl dX10_signToken_225 ?_
                    refine j_getI (pc := 226) hX fgX10_177.1 fgX10_177.2 rfl dX10_signToken_226 ?_
                    refine j_bipush (pc := 229) hX bp_43 dX10_signToken_229 ?_
                    refine j_ceq (pc := 231) (tgt := 270) hX rfl dX10_signToken_231 (fun _ => ?_) (fun _ => ?_)
                    · exact hj29 ()
                    · refine j_aload_n (pc := 234) hX 0 rfl dX10_signToken_234 ?_
                      refine j_getI (pc := 235) hX fgX10_177.1 fgX10_177.2 rfl dX10_signToken_235 ?_
                      refine j_bipush (pc := 238) hX bp_45 dX10_signToken_238 ?_
                      refine j_ceq (pc := 240) (tgt := 270) hX rfl dX10_signToken_240 (fun _ => ?_) (fun _ => ?_)
                      · exact hj29 ()
                      · refine j_aload_n (pc := 243) hX 0 rfl dX10_signToken_243 ?_
                        refine j_getI (pc := 244) hX fgX10_177.1 fgX10_177.2 rfl dX10_signToken_244 ?_
                        refine j_bipush (pc := 247) hX bp_42 dX10_signToken_247 ?_
                        refine j_ceq (pc := 249) (tgt := 270) hX rfl dX10_signToken_249 (fun _ => ?_) (fun _ => ?_)
                        · exact hj29 ()
                        · refine j_aload_n (pc := 252) hX 0 rfl dX10_signToken_252 ?_
                          refine j_getI (pc := 253) hX fgX10_177.1 fgX10_177.2 rfl dX10_signToken_253 ?_
                          refine j_bipush (pc := 256) hX bp_47 dX10_signToken_256 ?_
                          refine j_ceq (pc := 258) (tgt := 270) hX rfl dX10_signToken_258 (fun _ => ?_) (fun _ => ?_)
                          · exact hj29 ()
                          · refine j_aload_n (pc := 261) hX 0 rfl dX10_signToken_261 ?_
                            refine j_getI (pc := 262) hX fgX10_177.1 fgX10_177.2 rfl dX10_signToken_262 ?_
                            refine j_bipush (pc := 265) hX bp_37 dX10_signToken_265 ?_
                            refine j_cne (pc := 267) (tgt := 274) hX rfl dX10_signToken_267 (fun _ => ?_) (fun _ => ?_)
                            · exact hj29 ()
                            · refine j_iconst (pc := 274) hX ic_0 dX10_signToken_274 ?_
                              exact hj23 (0 : Int32)
set_option maxHeartbeats 4000000 in
set_option maxRecDepth 100000 in
theorem m_wordAt_18_w {X : CTX} {rr : Int32 × HP} (hX : okX mV X rr cX10_wordAt RX10 8 1 0) (hr : (xh X).sig.returnType = some .int) (f1 : Int32) (f2 : Int32) (f3 : Int32) (f4 : Int32) (k : Int32 → HP → Option (Int32 × HP)) (hk : ∀ (v5 : Int32) (h : HP), jG mV X evI rr (k v5 h) 39 [(0, .ref (xz X + 0)), (1, .int f1), (2, .int f2), (3, .int f3), (4, .int f4), (5, .int v5)] [] h) : ∀ (n : Nat) (v5 : Int32) (h : HP), jG mV X evI rr (m_wordAt_18 f1 f2 f3 f4 k n v5 h) 18 [(0, .ref (xz X + 0)), (1, .int f1), (2, .int f2), (3, .int f3), (4, .int f4), (5, .int v5)] [] h := by
  intro n
  induction n with
  | zero =>
    intro v5 h
    exact j_none
  | succ n ih =>
    intro v5 h
    rw [m_wordAt_18]
    refine j_aload_n (pc := 18) hX 0 rfl dX10_wordAt_18 ?_
    refine j_getR (pc := 19) hX fgX10_13.1 fgX10_13.2 rfl rfl dX10_wordAt_19 ?_
    refine j_iload (pc := 22) hX 4 rfl dX10_wordAt_22 ?_
    refine j_iload (pc := 24) hX 5 rfl dX10_wordAt_24 ?_
    refine j_iadd (pc := 26) hX dX10_wordAt_26 ?_
    refine j_iald (pc := 27) (n := 124) hX rfl dX10_wordAt_27 (fun _ => ?_)
    refine j_bipush (pc := 28) hX bp_32 dX10_wordAt_28 ?_
    refine j_ceq (pc := 30) (tgt := 39) hX rfl dX10_wordAt_30 (fun _ => ?_) (fun _ => ?_)
    · exact hk v5 h
    · refine j_iinc (pc := 33) hX 5 rfl (1 : Int32) ic_1 (fun x4 => [(5, .int x4), (0, .ref (xz X + 0)), (1, .int f1), (2, .int f2), (3, .int f3), (4, .int f4)]) (fun _ => rfl) (Nat.le_of_ble_eq_true rfl) dX10_wordAt_33 (fun x4 => ?_)
      refine j_goto (pc := 36) (tgt := 18) hX rfl dX10_wordAt_36 ?_
      refine j_locs [1, 2, 3, 4, 5, 0] rfl ?_
      exact ih x4 h
set_option maxHeartbeats 4000000 in
set_option maxRecDepth 100000 in
theorem m_wordAt_57_w {X : CTX} {rr : Int32 × HP} (hX : okX mV X rr cX10_wordAt RX10 8 1 0) (hr : (xh X).sig.returnType = some .int) (f1 : Int32) (f2 : Int32) (f3 : Int32) (f4 : Int32) (f5 : Int32) (k : Int32 → HP → Option (Int32 × HP)) (hk : ∀ (v6 : Int32) (h : HP), jG mV X evI rr (k v6 h) 104 [(0, .ref (xz X + 0)), (1, .int f1), (2, .int f2), (3, .int f3), (4, .int f4), (5, .int f5), (6, .int v6)] [] h) : ∀ (n : Nat) (v6 : Int32) (v7 : Int32) (h : HP), jG mV X evI rr (m_wordAt_57 f1 f2 f3 f4 f5 k n v6 v7 h) 57 [(0, .ref (xz X + 0)), (1, .int f1), (2, .int f2), (3, .int f3), (4, .int f4), (5, .int f5), (6, .int v6), (7, .int v7)] [] h := by
  intro n
  induction n with
  | zero =>
    intro v6 v7 h
    exact j_none
  | succ n ih =>
    intro v6 v7 h
    rw [m_wordAt_57]
    refine j_iload (pc := 57) hX 7 rfl dX10_wordAt_57 ?_
    refine j_iload (pc := 59) hX 5 rfl dX10_wordAt_59 ?_
    refine j_cge (pc := 61) (tgt := 104) hX rfl dX10_wordAt_61 (fun _ => ?_) (fun _ => ?_)
    · refine j_locs [0, 1, 2, 3, 4, 5, 6] rfl ?_
      exact hk v6 h
    · refine j_iload (pc := 64) hX 6 rfl dX10_wordAt_64 ?_
      refine j_ifeq (pc := 66) (tgt := 104) hX rfl dX10_wordAt_66 (fun _ => ?_) (fun _ => ?_)
      · refine j_locs [0, 1, 2, 3, 4, 5, 6] rfl ?_
        exact hk v6 h
      · refine j_aload_n (pc := 69) hX 0 rfl dX10_wordAt_69 ?_
        refine j_getR (pc := 70) hX fgX10_13.1 fgX10_13.2 rfl rfl dX10_wordAt_70 ?_
        refine j_iload (pc := 73) hX 4 rfl dX10_wordAt_73 ?_
        refine j_iload (pc := 75) hX 7 rfl dX10_wordAt_75 ?_
        refine j_iadd (pc := 77) hX dX10_wordAt_77 ?_
        refine j_iald (pc := 78) (n := 124) hX rfl dX10_wordAt_78 (fun _ => ?_)
        refine j_aload_n (pc := 79) hX 0 rfl dX10_wordAt_79 ?_
        refine j_getR (pc := 80) hX fgX10_7.1 fgX10_7.2 rfl rfl dX10_wordAt_80 ?_
        refine j_iload_n (pc := 83) hX 1 rfl dX10_wordAt_83 ?_
        refine j_iload (pc := 84) hX 7 rfl dX10_wordAt_84 ?_
        refine j_iadd (pc := 86) hX dX10_wordAt_86 ?_
        refine j_iald (pc := 87) (n := 700) hX rfl dX10_wordAt_87 (fun _ => ?_)
        refine j_cne (pc := 88) (tgt := 95) hX rfl dX10_wordAt_88 (fun _ => ?_) (fun _ => ?_)
        · refine j_iconst (pc := 91) hX ic_1 dX10_wordAt_91 ?_
          refine j_goto (pc := 92) (tgt := 96) hX rfl dX10_wordAt_92 ?_
          refine j_istore (pc := 96) hX (fun x11 => [(6, .int x11), (0, .ref (xz X + 0)), (1, .int f1), (2, .int f2), (3, .int f3), (4, .int f4), (5, .int f5), (7, .int v7)]) (fun _ => rfl) (Nat.le_of_ble_eq_true rfl) dX10_wordAt_96 (fun x11 => ?_)
          refine j_iinc (pc := 98) hX 7 rfl (1 : Int32) ic_1 (fun x12 => [(7, .int x12), (6, .int x11), (0, .ref (xz X + 0)), (1, .int f1), (2, .int f2), (3, .int f3), (4, .int f4), (5, .int f5)]) (fun _ => rfl) (Nat.le_of_ble_eq_true rfl) dX10_wordAt_98 (fun x12 => ?_)
          refine j_goto (pc := 101) (tgt := 57) hX rfl dX10_wordAt_101 ?_
          refine j_locs [2, 3, 4, 5, 6, 7, 1, 0] rfl ?_
          exact ih x11 x12 h
        · refine j_iconst (pc := 95) hX ic_0 dX10_wordAt_95 ?_
          refine j_istore (pc := 96) hX (fun x13 => [(6, .int x13), (0, .ref (xz X + 0)), (1, .int f1), (2, .int f2), (3, .int f3), (4, .int f4), (5, .int f5), (7, .int v7)]) (fun _ => rfl) (Nat.le_of_ble_eq_true rfl) dX10_wordAt_96 (fun x13 => ?_)
          refine j_iinc (pc := 98) hX 7 rfl (1 : Int32) ic_1 (fun x14 => [(7, .int x14), (6, .int x13), (0, .ref (xz X + 0)), (1, .int f1), (2, .int f2), (3, .int f3), (4, .int f4), (5, .int f5)]) (fun _ => rfl) (Nat.le_of_ble_eq_true rfl) dX10_wordAt_98 (fun x14 => ?_)
          refine j_goto (pc := 101) (tgt := 57) hX rfl dX10_wordAt_101 ?_
          refine j_locs [2, 3, 4, 5, 6, 7, 1, 0] rfl ?_
          exact ih x13 x14 h
set_option maxHeartbeats 4000000 in
set_option maxRecDepth 100000 in
theorem m_wordAt_5_w {X : CTX} {rr : Int32 × HP} (hX : okX mV X rr cX10_wordAt RX10 8 1 0) (hr : (xh X).sig.returnType = some .int) (f1 : Int32) (f2 : Int32) (k : HP → Option (Int32 × HP)) (hk : ∀ (h : HP), jG mV X evI rr (k h) 126 [] [] h) : ∀ (n : Nat) (v3 : Int32) (v4 : Int32) (h : HP), jG mV X evI rr (m_wordAt_5 f1 f2 k n v3 v4 h) 5 [(0, .ref (xz X + 0)), (1, .int f1), (2, .int f2), (3, .int v3), (4, .int v4)] [] h := by
  intro n
  induction n with
  | zero =>
    intro v3 v4 h
    exact j_none
  | succ n ih =>
    intro v3 v4 h
    rw [m_wordAt_5]
    refine j_iload (pc := 5) hX 4 rfl dX10_wordAt_5 ?_
    refine j_aload_n (pc := 7) hX 0 rfl dX10_wordAt_7 ?_
    refine j_getR (pc := 8) hX fgX10_13.1 fgX10_13.2 rfl rfl dX10_wordAt_8 ?_
    refine j_alen (pc := 11) (q := 0) (v := (124 : Int32)) hX (Nat.le_of_ble_eq_true rfl) (fun _ => rfl) rfl rfl dX10_wordAt_11 ?_
    refine j_cge (pc := 12) (tgt := 126) hX rfl dX10_wordAt_12 (fun _ => ?_) (fun _ => ?_)
    · refine j_locs [] rfl ?_
      exact hk h
    · refine j_iconst (pc := 15) hX ic_0 dX10_wordAt_15 ?_
      refine j_istore (pc := 16) hX (fun x3 => [(5, .int x3), (0, .ref (xz X + 0)), (1, .int f1), (2, .int f2), (3, .int v3), (4, .int v4)]) (fun _ => rfl) (Nat.le_of_ble_eq_true rfl) dX10_wordAt_16 (fun x3 => ?_)
      refine j_locs [1, 2, 3, 4, 5, 0] rfl ?_
      refine m_wordAt_18_w hX hr f1 f2 v3 v4 _ (fun x5 h6 => ?_) FU x3 h
      refine j_iload (pc := 39) hX 5 rfl dX10_wordAt_39 ?_
      refine j_iload_n (pc := 41) hX 2 rfl dX10_wordAt_41 ?_
      refine j_iload_n (pc := 42) hX 1 rfl dX10_wordAt_42 ?_
      refine j_isub (pc := 43) hX dX10_wordAt_43 ?_
      refine j_jon (fun (j7 : Int32 → Option (Int32 × HP)) => ∀ (s8 : Int32), jG mV X evI rr (j7 s8) 52 [(0, .ref (xz X + 0)), (1, .int f1), (2, .int f2), (3, .int v3), (4, .int v4), (5, .int x5)] [.int s8] h6) ?_ ?_
      · intro s8
        refine j_istore (pc := 52) hX (fun x9 => [(6, .int x9), (0, .ref (xz X + 0)), (1, .int f1), (2, .int f2), (3, .int v3), (4, .int v4), (5, .int x5)]) (fun _ => rfl) (Nat.le_of_ble_eq_true rfl) dX10_wordAt_52 (fun x9 => ?_)
        refine j_iconst (pc := 54) hX ic_0 dX10_wordAt_54 ?_
        refine j_istore (pc := 55) hX (fun x10 => [(7, .int x10), (6, .int x9), (0, .ref (xz X + 0)), (1, .int f1), (2, .int f2), (3, .int v3), (4, .int v4), (5, .int x5)]) (fun _ => rfl) (Nat.le_of_ble_eq_true rfl) dX10_wordAt_55 (fun x10 => ?_)
        refine j_locs [2, 3, 4, 5, 6, 7, 1, 0] rfl ?_
        refine m_wordAt_57_w hX hr f1 f2 v3 v4 x5 _ (fun x15 h16 => ?_) FU x9 x10 h6
        refine j_iload (pc := 104) hX 6 rfl dX10_wordAt_104 ?_
        refine j_ifeq (pc := 106) (tgt := 111) hX rfl dX10_wordAt_106 (fun _ => ?_) (fun _ => ?_)
        · refine j_iload (pc := 111) hX 4 rfl dX10_wordAt_111 ?_
          refine j_iload (pc := 113) hX 5 rfl dX10_wordAt_113 ?_
          refine j_iconst (pc := 115) hX ic_1 dX10_wordAt_115 ?_
          refine j_iadd (pc := 116) hX dX10_wordAt_116 ?_
          refine j_iadd (pc := 117) hX dX10_wordAt_117 ?_
          refine j_istore (pc := 118) hX (fun x17 => [(4, .int x17), (0, .ref (xz X + 0)), (1, .int f1), (2, .int f2), (3, .int v3), (5, .int x5), (6, .int x15)]) (fun _ => rfl) (Nat.le_of_ble_eq_true rfl) dX10_wordAt_118 (fun x17 => ?_)
          refine j_iinc (pc := 120) hX 4 rfl (1 : Int32) ic_1 (fun x18 => [(3, .int x18), (4, .int x17), (0, .ref (xz X + 0)), (1, .int f1), (2, .int f2), (5, .int x5), (6, .int x15)]) (fun _ => rfl) (Nat.le_of_ble_eq_true rfl) dX10_wordAt_120 (fun x18 => ?_)
          refine j_goto (pc := 123) (tgt := 5) hX rfl dX10_wordAt_123 ?_
          refine j_locs [2, 3, 4, 0, 1] rfl ?_
          exact ih x18 x17 h16
        · refine j_iload_n (pc := 109) hX 3 rfl dX10_wordAt_109 ?_
          exact j_iret (pc := 110) hX hr dX10_wordAt_110
      · intro j7 hj7
        refine j_cne (pc := 44) (tgt := 51) hX rfl dX10_wordAt_44 (fun _ => ?_) (fun _ => ?_)
        · refine j_iconst (pc := 47) hX ic_1 dX10_wordAt_47 ?_
          refine j_goto (pc := 48) (tgt := 52) hX rfl dX10_wordAt_48 ?_
          exact hj7 (1 : Int32)
        · refine j_iconst (pc := 51) hX ic_0 dX10_wordAt_51 ?_
          exact hj7 (0 : Int32)
set_option maxHeartbeats 4000000 in
set_option maxRecDepth 100000 in
theorem m_t_wordAt (a1 : Int32) (a2 : Int32) (h : HP) (rr : Int32 × HP) (e : m_wordAt a1 a2 h = some rr) : Cn mV yX10_wordAt (ws_ yX10_wordAt cX10_wordAt 8 (some .int)) 1 0 (fun z => [.ref (z + 0), .int a1, .int a2]) h (fun z => eI z rr.1) rr.2 := by
  refine cn_of (e1 := eI) (fun z => [(0, .ref (z + 0)), (1, .int a1), (2, .int a2)]) mV_ok ⟨Nat.le_refl _, Nat.le_refl _⟩ ymX10_wordAt (fun _ => rfl) (fun _ => Nat.le_of_ble_eq_true rfl) (fun X hX hr _ => ?_) e
  have hX : okX mV X rr cX10_wordAt RX10 8 1 0 := hX
  rw [m_wordAt]
  refine j_iconst (pc := 0) hX ic_0 dX10_wordAt_0 ?_
  refine j_istore_n (pc := 1) hX (fun x1 => [(3, .int x1), (0, .ref (xz X + 0)), (1, .int a1), (2, .int a2)]) (fun _ => rfl) (Nat.le_of_ble_eq_true rfl) dX10_wordAt_1 (fun x1 => ?_)
  refine j_iconst (pc := 2) hX ic_0 dX10_wordAt_2 ?_
  refine j_istore (pc := 3) hX (fun x2 => [(4, .int x2), (3, .int x1), (0, .ref (xz X + 0)), (1, .int a1), (2, .int a2)]) (fun _ => rfl) (Nat.le_of_ble_eq_true rfl) dX10_wordAt_3 (fun x2 => ?_)
  refine j_locs [2, 3, 4, 1, 0] rfl ?_
  refine m_wordAt_5_w hX hr a1 a2 _ (fun  h19 => ?_) FU x1 x2 h
  refine j_iconst (pc := 126) hX ic_m1 dX10_wordAt_126 ?_
  exact j_iret (pc := 127) hX hr dX10_wordAt_127
set_option maxHeartbeats 4000000 in
set_option maxRecDepth 100000 in
theorem m_packed_5_w {X : CTX} {rr : Int32 × HP} (hX : okX mV X rr cX10_packed RX10 5 1 0) (hr : (xh X).sig.returnType = some .int) (f1 : Int32) (f2 : Int32) (k : Int32 → HP → Option (Int32 × HP)) (hk : ∀ (v3 : Int32) (h : HP), jG mV X evI rr (k v3 h) 45 [(3, .int v3)] [] h) : ∀ (n : Nat) (v3 : Int32) (v4 : Int32) (h : HP), jG mV X evI rr (m_packed_5 f1 f2 k n v3 v4 h) 5 [(0, .ref (xz X + 0)), (1, .int f1), (2, .int f2), (3, .int v3), (4, .int v4)] [] h := by
  intro n
  induction n with
  | zero =>
    intro v3 v4 h
    exact j_none
  | succ n ih =>
    intro v3 v4 h
    rw [m_packed_5]
    refine j_iload (pc := 5) hX 4 rfl dX10_packed_5 ?_
    refine j_iload_n (pc := 7) hX 1 rfl dX10_packed_7 ?_
    refine j_bipush (pc := 8) hX bp_6 dX10_packed_8 ?_
    refine j_iadd (pc := 10) hX dX10_packed_10 ?_
    refine j_cge (pc := 11) (tgt := 45) hX rfl dX10_packed_11 (fun _ => ?_) (fun _ => ?_)
    · refine j_locs [3] rfl ?_
      exact hk v3 h
    · refine j_iload_n (pc := 14) hX 3 rfl dX10_packed_14 ?_
      refine j_iconst (pc := 15) hX ic_5 dX10_packed_15 ?_
      refine j_ishl (pc := 16) hX dX10_packed_16 ?_
      refine j_iload (pc := 17) hX 4 rfl dX10_packed_17 ?_
      refine j_iload_n (pc := 19) hX 2 rfl dX10_packed_19 ?_
      refine j_jon (fun (j3 : Int32 → Option (Int32 × HP)) => ∀ (s4 : Int32), jG mV X evI rr (j3 s4) 37 [(0, .ref (xz X + 0)), (1, .int f1), (2, .int f2), (4, .int v4)] [.int s4, .int (v3 <<< ((5 : Int32) &&& 31))] h) ?_ ?_
      · intro s4
        refine j_ior (pc := 37) hX dX10_packed_37 ?_
        refine j_istore_n (pc := 38) hX (fun x5 => [(3, .int x5), (0, .ref (xz X + 0)), (1, .int f1), (2, .int f2), (4, .int v4)]) (fun _ => rfl) (Nat.le_of_ble_eq_true rfl) dX10_packed_38 (fun x5 => ?_)
        refine j_iinc (pc := 39) hX 4 rfl (1 : Int32) ic_1 (fun x6 => [(4, .int x6), (3, .int x5), (0, .ref (xz X + 0)), (1, .int f1), (2, .int f2)]) (fun _ => rfl) (Nat.le_of_ble_eq_true rfl) dX10_packed_39 (fun x6 => ?_)
        refine j_goto (pc := 42) (tgt := 5) hX rfl dX10_packed_42 ?_
        refine j_locs [2, 3, 4, 1, 0] rfl ?_
        exact ih x5 x6 h
      · intro j3 hj3
        refine j_cge (pc := 20) (tgt := 36) hX rfl dX10_packed_20 (fun _ => ?_) (fun _ => ?_)
        · refine j_iconst (pc := 36) hX ic_0 dX10_packed_36 ?_
          refine j_locs [0, 1, 2, 4] rfl ?_
          exact hj3 (0 : Int32)
        · refine j_aload_n (pc := 23) hX 0 rfl dX10_packed_23 ?_
          refine j_getR (pc := 24) hX fgX10_7.1 fgX10_7.2 rfl rfl dX10_packed_24 ?_
          refine j_iload (pc := 27) hX 4 rfl dX10_packed_27 ?_
          refine j_iald (pc := 29) (n := 700) hX rfl dX10_packed_29 (fun _ => ?_)
          refine j_bipush (pc := 30) hX bp_96 dX10_packed_30 ?_
          refine j_isub (pc := 32) hX dX10_packed_32 ?_
          refine j_goto (pc := 33) (tgt := 37) hX rfl dX10_packed_33 ?_
          refine j_locs [0, 1, 2, 4] rfl ?_
          exact hj3 ((gI h 1 (v4).toNatClampNeg) - (96 : Int32))
set_option maxHeartbeats 4000000 in
set_option maxRecDepth 100000 in
theorem m_t_packed (a1 : Int32) (a2 : Int32) (h : HP) (rr : Int32 × HP) (e : m_packed a1 a2 h = some rr) : Cn mV yX10_packed (ws_ yX10_packed cX10_packed 5 (some .int)) 1 0 (fun z => [.ref (z + 0), .int a1, .int a2]) h (fun z => eI z rr.1) rr.2 := by
  refine cn_of (e1 := eI) (fun z => [(0, .ref (z + 0)), (1, .int a1), (2, .int a2)]) mV_ok ⟨Nat.le_refl _, Nat.le_refl _⟩ ymX10_packed (fun _ => rfl) (fun _ => Nat.le_of_ble_eq_true rfl) (fun X hX hr _ => ?_) e
  have hX : okX mV X rr cX10_packed RX10 5 1 0 := hX
  rw [m_packed]
  refine j_iconst (pc := 0) hX ic_0 dX10_packed_0 ?_
  refine j_istore_n (pc := 1) hX (fun x1 => [(3, .int x1), (0, .ref (xz X + 0)), (1, .int a1), (2, .int a2)]) (fun _ => rfl) (Nat.le_of_ble_eq_true rfl) dX10_packed_1 (fun x1 => ?_)
  refine j_iload_n (pc := 2) hX 2 rfl dX10_packed_2 ?_
  refine j_istore (pc := 3) hX (fun x2 => [(4, .int x2), (3, .int x1), (0, .ref (xz X + 0)), (1, .int a1), (2, .int a2)]) (fun _ => rfl) (Nat.le_of_ble_eq_true rfl) dX10_packed_3 (fun x2 => ?_)
  refine j_locs [2, 3, 4, 1, 0] rfl ?_
  refine m_packed_5_w hX hr a1 a2 _ (fun x7 h8 => ?_) FU x1 x2 h
  refine j_iload_n (pc := 45) hX 0 rfl dX10_packed_45 ?_
  exact j_iret (pc := 46) hX hr dX10_packed_46
set_option maxHeartbeats 4000000 in
set_option maxRecDepth 100000 in
theorem m_token_0_w {X : CTX} {rr : Unit × HP} (hX : okX mV X rr cX10_token RX10 1 2 27) (hr : (xh X).sig.returnType = none)  (k : HP → Option (Unit × HP)) (hk : ∀ (h : HP), jG mV X evV rr (k h) 52 [(0, .ref (xz X + 0))] [] h) : ∀ (n : Nat)  (h : HP), jG mV X evV rr (m_token_0 k n  h) 0 [(0, .ref (xz X + 0))] [] h := by
  intro n
  induction n with
  | zero =>
    intro  h
    exact j_none
  | succ n ih =>
    intro  h
    rw [m_token_0]
    refine j_aload_n (pc := 0) hX 0 rfl dX10_token_0 ?_
    refine j_getI (pc := 1) hX fgX10_163.1 fgX10_163.2 rfl dX10_token_1 ?_
    refine j_aload_n (pc := 4) hX 0 rfl dX10_token_4 ?_
    refine j_getI (pc := 5) hX fgX10_160.1 fgX10_160.2 rfl dX10_token_5 ?_
    refine j_cge (pc := 8) (tgt := 52) hX rfl dX10_token_8 (fun _ => ?_) (fun _ => ?_)
    · exact hk h
    · refine j_aload_n (pc := 11) hX 0 rfl dX10_token_11 ?_
      refine j_getR (pc := 12) hX fgX10_7.1 fgX10_7.2 rfl rfl dX10_token_12 ?_
      refine j_aload_n (pc := 15) hX 0 rfl dX10_token_15 ?_
      refine j_getI (pc := 16) hX fgX10_163.1 fgX10_163.2 rfl dX10_token_16 ?_
      refine j_iald (pc := 19) (n := 700) hX rfl dX10_token_19 (fun _ => ?_)
      refine j_bipush (pc := 20) hX bp_10 dX10_token_20 ?_
      refine j_jon (fun (j1 : Unit → Option (Unit × HP)) => ∀ (_u : Unit), jG mV X evV rr (j1 ()) 39 [(0, .ref (xz X + 0))] [] h) ?_ ?_
      · intro _
        refine j_aload_n (pc := 39) hX 0 rfl dX10_token_39 ?_
        refine j_dup (pc := 40) hX rfl dX10_token_40 ?_
        refine j_getI (pc := 41) hX fgX10_163.1 fgX10_163.2 rfl dX10_token_41 ?_
        refine j_iconst (pc := 44) hX ic_1 dX10_token_44 ?_
        refine j_iadd (pc := 45) hX dX10_token_45 ?_
        refine j_putI (pc := 46) hX fwX10_163.1 fwX10_163.2 rfl dX10_token_46 (fun h2 => ?_)
        refine j_goto (pc := 49) (tgt := 0) hX rfl dX10_token_49 ?_
        exact ih h2
      · intro j1 hj1
        refine j_ceq (pc := 22) (tgt := 39) hX rfl dX10_token_22 (fun _ => ?_) (fun _ => ?_)
        · exact hj1 ()
        · refine j_aload_n (pc := 25) hX 0 rfl dX10_token_25 ?_
          refine j_getR (pc := 26) hX fgX10_7.1 fgX10_7.2 rfl rfl dX10_token_26 ?_
          refine j_aload_n (pc := 29) hX 0 rfl dX10_token_29 ?_
          refine j_getI (pc := 30) hX fgX10_163.1 fgX10_163.2 rfl dX10_token_30 ?_
          refine j_iald (pc := 33) (n := 700) hX rfl dX10_token_33 (fun _ => ?_)
          refine j_bipush (pc := 34) hX bp_32 dX10_token_34 ?_
          refine j_cne (pc := 36) (tgt := 52) hX rfl dX10_token_36 (fun _ => ?_) (fun _ => ?_)
          · exact hj1 ()
          · exact hk h
set_option maxHeartbeats 4000000 in
set_option maxRecDepth 100000 in
theorem m_token_213_w {X : CTX} {rr : Unit × HP} (hX : okX mV X rr cX10_token RX10 1 2 27) (hr : (xh X).sig.returnType = none)  (k : HP → Option (Unit × HP)) (hk : ∀ (h : HP), jG mV X evV rr (k h) 281 [] [] h) : ∀ (n : Nat)  (h : HP), jG mV X evV rr (m_token_213 k n  h) 213 [(0, .ref (xz X + 0))] [] h := by
  intro n
  induction n with
  | zero =>
    intro  h
    exact j_none
  | succ n ih =>
    intro  h
    rw [m_token_213]
    refine j_aload_n (pc := 213) hX 0 rfl dX10_token_213 ?_
    refine j_aload_n (pc := 214) hX 0 rfl dX10_token_214 ?_
    refine j_getI (pc := 215) hX fgX10_163.1 fgX10_163.2 rfl dX10_token_215 ?_
    refine j_callVI (pc := 218) (a := 0) (As := fun z => [.int (gI h 0 7)]) (rest := []) hX (fun r e => m_t_isDigit (gI h 0 7) h r e) ymX10_isDigit (lw_V q1879 q1881 qs71 q154 q1882) rfl ckX10 rfl ⟨Nat.le_of_ble_eq_true rfl, Nat.le_of_ble_eq_true rfl⟩ rfl rfl (Nat.le_of_ble_eq_true rfl) dX10_token_218 (fun r14 h15 => ?_)
    refine j_ifeq (pc := 221) (tgt := 281) hX rfl dX10_token_221 (fun _ => ?_) (fun _ => ?_)
    · refine j_locs [] rfl ?_
      exact hk h15
    · refine j_aload_n (pc := 224) hX 0 rfl dX10_token_224 ?_
      refine j_aload_n (pc := 225) hX 0 rfl dX10_token_225 ?_
      refine j_getI (pc := 226) hX fgX10_177.1 fgX10_177.2 rfl dX10_token_226 ?_
      refine j_ldc (pc := 229) hX q1883 dX10_token_229 ?_
      refine j_jon (fun (j16 : Int32 → Option (Unit × HP)) => ∀ (s17 : Int32), jG mV X evV rr (j16 s17) 261 [(0, .ref (xz X + 0))] [.int s17, .ref (xz X + 0)] h15) ?_ ?_
      · intro s17
        refine j_putI (pc := 261) hX fwX10_177.1 fwX10_177.2 rfl dX10_token_261 (fun h18 => ?_)
        refine j_aload_n (pc := 264) hX 0 rfl dX10_token_264 ?_
        refine j_dup (pc := 265) hX rfl dX10_token_265 ?_
        refine j_getI (pc := 266) hX fgX10_163.1 fgX10_163.2 rfl dX10_token_266 ?_
        refine j_iconst (pc := 269) hX ic_1 dX10_token_269 ?_
        refine j_iadd (pc := 270) hX dX10_token_270 ?_
        refine j_putI (pc := 271) hX fwX10_163.1 fwX10_163.2 rfl dX10_token_271 (fun h19 => ?_)
        refine j_goto (pc := 274) (tgt := 213) hX rfl dX10_token_274 ?_
        exact ih h19
      · intro j16 hj16
        refine j_cle (pc := 231) (tgt := 241) hX rfl dX10_token_231 (fun _ => ?_) (fun _ => ?_)
        · refine j_bipush (pc := 241) hX bp_10 dX10_token_241 ?_
          refine j_aload_n (pc := 243) hX 0 rfl dX10_token_243 ?_
          refine j_getI (pc := 244) hX fgX10_177.1 fgX10_177.2 rfl dX10_token_244 ?_
          refine j_imul (pc := 247) hX dX10_token_247 ?_
          refine j_aload_n (pc := 248) hX 0 rfl dX10_token_248 ?_
          refine j_getR (pc := 249) hX fgX10_7.1 fgX10_7.2 rfl rfl dX10_token_249 ?_
          refine j_aload_n (pc := 252) hX 0 rfl dX10_token_252 ?_
          refine j_getI (pc := 253) hX fgX10_163.1 fgX10_163.2 rfl dX10_token_253 ?_
          refine j_iald (pc := 256) (n := 700) hX rfl dX10_token_256 (fun _ => ?_)
          refine j_iadd (pc := 257) hX dX10_token_257 ?_
          refine j_bipush (pc := 258) hX bp_48 dX10_token_258 ?_
          refine j_isub (pc := 260) hX dX10_token_260 ?_
          exact hj16 ((((10 : Int32) * (gI h15 0 9)) + (gI h15 1 ((gI h15 0 7)).toNatClampNeg)) - (48 : Int32))
        · refine j_aload_n (pc := 234) hX 0 rfl dX10_token_234 ?_
          refine j_getI (pc := 235) hX fgX10_177.1 fgX10_177.2 rfl dX10_token_235 ?_
          refine j_goto (pc := 238) (tgt := 261) hX rfl dX10_token_238 ?_
          exact hj16 (gI h15 0 9)
set_option maxHeartbeats 4000000 in
set_option maxRecDepth 100000 in
theorem m_token_90_w {X : CTX} {rr : Unit × HP} (hX : okX mV X rr cX10_token RX10 1 2 27) (hr : (xh X).sig.returnType = none)  (k : HP → Option (Unit × HP)) (hk : ∀ (h : HP), jG mV X evV rr (k h) 114 [(0, .ref (xz X + 0))] [] h) : ∀ (n : Nat)  (h : HP), jG mV X evV rr (m_token_90 k n  h) 90 [(0, .ref (xz X + 0))] [] h := by
  intro n
  induction n with
  | zero =>
    intro  h
    exact j_none
  | succ n ih =>
    intro  h
    rw [m_token_90]
    refine j_aload_n (pc := 90) hX 0 rfl dX10_token_90 ?_
    refine j_aload_n (pc := 91) hX 0 rfl dX10_token_91 ?_
    refine j_getI (pc := 92) hX fgX10_163.1 fgX10_163.2 rfl dX10_token_92 ?_
    refine j_callVI (pc := 95) (a := 0) (As := fun z => [.int (gI h 0 7)]) (rest := []) hX (fun r e => m_t_isSmall (gI h 0 7) h r e) ymX10_isSmall (lw_V q1867 q1869 qs68 q154 q1870) rfl ckX10 rfl ⟨Nat.le_of_ble_eq_true rfl, Nat.le_of_ble_eq_true rfl⟩ rfl rfl (Nat.le_of_ble_eq_true rfl) dX10_token_95 (fun r21 h22 => ?_)
    refine j_ifeq (pc := 98) (tgt := 114) hX rfl dX10_token_98 (fun _ => ?_) (fun _ => ?_)
    · exact hk h22
    · refine j_aload_n (pc := 101) hX 0 rfl dX10_token_101 ?_
      refine j_dup (pc := 102) hX rfl dX10_token_102 ?_
      refine j_getI (pc := 103) hX fgX10_163.1 fgX10_163.2 rfl dX10_token_103 ?_
      refine j_iconst (pc := 106) hX ic_1 dX10_token_106 ?_
      refine j_iadd (pc := 107) hX dX10_token_107 ?_
      refine j_putI (pc := 108) hX fwX10_163.1 fwX10_163.2 rfl dX10_token_108 (fun h23 => ?_)
      refine j_goto (pc := 111) (tgt := 90) hX rfl dX10_token_111 ?_
      exact ih h23
set_option maxHeartbeats 4000000 in
set_option maxRecDepth 100000 in
theorem m_t_token  (h : HP) (rr : Unit × HP) (e : m_token  h = some rr) : Cn mV yX10_token (ws_ yX10_token cX10_token 1 (none)) 2 27 (fun z => [.ref (z + 0)]) h (fun z => eV z rr.1) rr.2 := by
  refine cn_of (e1 := eV) (fun z => [(0, .ref (z + 0))]) mV_ok ⟨Nat.le_refl _, Nat.le_refl _⟩ ymX10_token (fun _ => rfl) (fun _ => Nat.le_of_ble_eq_true rfl) (fun X hX hr _ => ?_) e
  have hX : okX mV X rr cX10_token RX10 1 2 27 := hX
  rw [m_token]
  refine m_token_0_w hX hr  _ (fun  h3 => ?_) FU h
  refine j_aload_n (pc := 52) hX 0 rfl dX10_token_52 ?_
  refine j_aload_n (pc := 53) hX 0 rfl dX10_token_53 ?_
  refine j_getI (pc := 54) hX fgX10_163.1 fgX10_163.2 rfl dX10_token_54 ?_
  refine j_putI (pc := 57) hX fwX10_157.1 fwX10_157.2 rfl dX10_token_57 (fun h4 => ?_)
  refine j_aload_n (pc := 60) hX 0 rfl dX10_token_60 ?_
  refine j_getI (pc := 61) hX fgX10_163.1 fgX10_163.2 rfl dX10_token_61 ?_
  refine j_aload_n (pc := 64) hX 0 rfl dX10_token_64 ?_
  refine j_getI (pc := 65) hX fgX10_160.1 fgX10_160.2 rfl dX10_token_65 ?_
  refine j_cne (pc := 68) (tgt := 79) hX rfl dX10_token_68 (fun _ => ?_) (fun _ => ?_)
  · refine j_aload_n (pc := 71) hX 0 rfl dX10_token_71 ?_
    refine j_iconst (pc := 72) hX ic_0 dX10_token_72 ?_
    refine j_putI (pc := 73) hX fwX10_166.1 fwX10_166.2 rfl dX10_token_73 (fun h5 => ?_)
    refine j_goto (pc := 76) (tgt := 281) hX rfl dX10_token_76 ?_
    exact j_vret (pc := 281) hX hr dX10_token_281
  · refine j_aload_n (pc := 79) hX 0 rfl dX10_token_79 ?_
    refine j_aload_n (pc := 80) hX 0 rfl dX10_token_80 ?_
    refine j_getI (pc := 81) hX fgX10_163.1 fgX10_163.2 rfl dX10_token_81 ?_
    refine j_callVI (pc := 84) (a := 0) (As := fun z => [.int (gI h4 0 7)]) (rest := []) hX (fun r e => m_t_isSmall (gI h4 0 7) h4 r e) ymX10_isSmall (lw_V q1867 q1869 qs68 q154 q1870) rfl ckX10 rfl ⟨Nat.le_of_ble_eq_true rfl, Nat.le_of_ble_eq_true rfl⟩ rfl rfl (Nat.le_of_ble_eq_true rfl) dX10_token_84 (fun r6 h7 => ?_)
    refine j_ifeq (pc := 87) (tgt := 192) hX rfl dX10_token_87 (fun _ => ?_) (fun _ => ?_)
    · refine j_aload_n (pc := 192) hX 0 rfl dX10_token_192 ?_
      refine j_aload_n (pc := 193) hX 0 rfl dX10_token_193 ?_
      refine j_getI (pc := 194) hX fgX10_163.1 fgX10_163.2 rfl dX10_token_194 ?_
      refine j_callVI (pc := 197) (a := 0) (As := fun z => [.int (gI h7 0 7)]) (rest := []) hX (fun r e => m_t_isDigit (gI h7 0 7) h7 r e) ymX10_isDigit (lw_V q1879 q1881 qs71 q154 q1882) rfl ckX10 rfl ⟨Nat.le_of_ble_eq_true rfl, Nat.le_of_ble_eq_true rfl⟩ rfl rfl (Nat.le_of_ble_eq_true rfl) dX10_token_197 (fun r8 h9 => ?_)
      refine j_ifeq (pc := 200) (tgt := 277) hX rfl dX10_token_200 (fun _ => ?_) (fun _ => ?_)
      · refine j_aload_n (pc := 277) hX 0 rfl dX10_token_277 ?_
        refine j_callVV (pc := 278) (a := 0) (As := fun z => []) (rest := []) hX (fun r e => m_t_signToken h9 r e) ymX10_signToken (lw_V q1884 q1886 qs72 q154 q1887) rfl ckX10 rfl ⟨Nat.le_of_ble_eq_true rfl, Nat.le_of_ble_eq_true rfl⟩ rfl rfl (Nat.le_of_ble_eq_true rfl) dX10_token_278 (fun r10 h11 => ?_)
        exact j_vret (pc := 281) hX hr dX10_token_281
      · refine j_aload_n (pc := 203) hX 0 rfl dX10_token_203 ?_
        refine j_iconst (pc := 204) hX ic_3 dX10_token_204 ?_
        refine j_putI (pc := 205) hX fwX10_166.1 fwX10_166.2 rfl dX10_token_205 (fun h12 => ?_)
        refine j_aload_n (pc := 208) hX 0 rfl dX10_token_208 ?_
        refine j_iconst (pc := 209) hX ic_0 dX10_token_209 ?_
        refine j_putI (pc := 210) hX fwX10_177.1 fwX10_177.2 rfl dX10_token_210 (fun h13 => ?_)
        refine m_token_213_w hX hr  _ (fun  h20 => ?_) FU h13
        exact j_vret (pc := 281) hX hr dX10_token_281
    · refine m_token_90_w hX hr  _ (fun  h24 => ?_) FU h7
      refine j_aload_n (pc := 114) hX 0 rfl dX10_token_114 ?_
      refine j_aload_n (pc := 115) hX 0 rfl dX10_token_115 ?_
      refine j_aload_n (pc := 116) hX 0 rfl dX10_token_116 ?_
      refine j_getI (pc := 117) hX fgX10_157.1 fgX10_157.2 rfl dX10_token_117 ?_
      refine j_aload_n (pc := 120) hX 0 rfl dX10_token_120 ?_
      refine j_getI (pc := 121) hX fgX10_163.1 fgX10_163.2 rfl dX10_token_121 ?_
      refine j_callVI (pc := 124) (a := 0) (As := fun z => [.int (gI h24 0 10), .int (gI h24 0 7)]) (rest := [.ref (xz X + 0)]) hX (fun r e => m_t_wordAt (gI h24 0 10) (gI h24 0 7) h24 r e) ymX10_wordAt (lw_V q1871 q1873 qs69 q154 q1874) rfl ckX10 rfl ⟨Nat.le_of_ble_eq_true rfl, Nat.le_of_ble_eq_true rfl⟩ rfl rfl (Nat.le_of_ble_eq_true rfl) dX10_token_124 (fun r25 h26 => ?_)
      refine j_putI (pc := 127) hX fwX10_177.1 fwX10_177.2 rfl dX10_token_127 (fun h27 => ?_)
      refine j_aload_n (pc := 130) hX 0 rfl dX10_token_130 ?_
      refine j_aload_n (pc := 131) hX 0 rfl dX10_token_131 ?_
      refine j_getI (pc := 132) hX fgX10_177.1 fgX10_177.2 rfl dX10_token_132 ?_
      refine j_jon (fun (j28 : Int32 → Option (Unit × HP)) => ∀ (s29 : Int32), jG mV X evV rr (j28 s29) 162 [(0, .ref (xz X + 0))] [.int s29, .ref (xz X + 0)] h27) ?_ ?_
      · intro s29
        refine j_putI (pc := 162) hX fwX10_166.1 fwX10_166.2 rfl dX10_token_162 (fun h30 => ?_)
        refine j_aload_n (pc := 165) hX 0 rfl dX10_token_165 ?_
        refine j_getI (pc := 166) hX fgX10_166.1 fgX10_166.2 rfl dX10_token_166 ?_
        refine j_iconst (pc := 169) hX ic_2 dX10_token_169 ?_
        refine j_cne (pc := 170) (tgt := 281) hX rfl dX10_token_170 (fun _ => ?_) (fun _ => ?_)
        · refine j_aload_n (pc := 173) hX 0 rfl dX10_token_173 ?_
          refine j_aload_n (pc := 174) hX 0 rfl dX10_token_174 ?_
          refine j_aload_n (pc := 175) hX 0 rfl dX10_token_175 ?_
          refine j_getI (pc := 176) hX fgX10_157.1 fgX10_157.2 rfl dX10_token_176 ?_
          refine j_aload_n (pc := 179) hX 0 rfl dX10_token_179 ?_
          refine j_getI (pc := 180) hX fgX10_163.1 fgX10_163.2 rfl dX10_token_180 ?_
          refine j_callVI (pc := 183) (a := 0) (As := fun z => [.int (gI h30 0 10), .int (gI h30 0 7)]) (rest := [.ref (xz X + 0)]) hX (fun r e => m_t_packed (gI h30 0 10) (gI h30 0 7) h30 r e) ymX10_packed (lw_V q1875 q1877 qs70 q154 q1878) rfl ckX10 rfl ⟨Nat.le_of_ble_eq_true rfl, Nat.le_of_ble_eq_true rfl⟩ rfl rfl (Nat.le_of_ble_eq_true rfl) dX10_token_183 (fun r31 h32 => ?_)
          refine j_putI (pc := 186) hX fwX10_177.1 fwX10_177.2 rfl dX10_token_186 (fun h33 => ?_)
          refine j_goto (pc := 189) (tgt := 281) hX rfl dX10_token_189 ?_
          exact j_vret (pc := 281) hX hr dX10_token_281
        · exact j_vret (pc := 281) hX hr dX10_token_281
      · intro j28 hj28
        refine j_iflt (pc := 135) (tgt := 142) hX rfl dX10_token_135 (fun _ => ?_) (fun _ => ?_)
        · refine j_aload_n (pc := 142) hX 0 rfl dX10_token_142 ?_
          refine j_getI (pc := 143) hX fgX10_163.1 fgX10_163.2 rfl dX10_token_143 ?_
          refine j_aload_n (pc := 146) hX 0 rfl dX10_token_146 ?_
          refine j_getI (pc := 147) hX fgX10_157.1 fgX10_157.2 rfl dX10_token_147 ?_
          refine j_isub (pc := 150) hX dX10_token_150 ?_
          refine j_bipush (pc := 151) hX bp_6 dX10_token_151 ?_
          refine j_cle (pc := 153) (tgt := 161) hX rfl dX10_token_153 (fun _ => ?_) (fun _ => ?_)
          · refine j_iconst (pc := 161) hX ic_2 dX10_token_161 ?_
            exact hj28 (2 : Int32)
          · refine j_bipush (pc := 156) hX bp_6 dX10_token_156 ?_
            refine j_goto (pc := 158) (tgt := 162) hX rfl dX10_token_158 ?_
            exact hj28 (6 : Int32)
        · refine j_iconst (pc := 138) hX ic_1 dX10_token_138 ?_
          refine j_goto (pc := 139) (tgt := 162) hX rfl dX10_token_139 ?_
          exact hj28 (1 : Int32)
set_option maxHeartbeats 4000000 in
set_option maxRecDepth 100000 in
theorem m_t_wrong (a1 : Int32) (h : HP) (rr : Int32 × HP) (e : m_wrong a1 h = some rr) : Cn mV yX10_wrong (ws_ yX10_wrong cX10_wrong 2 (some .boolean)) 1 0 (fun z => [.ref (z + 0), .int a1]) h (fun z => eI z rr.1) rr.2 := by
  refine cn_of (e1 := eI) (fun z => [(0, .ref (z + 0)), (1, .int a1)]) mV_ok ⟨Nat.le_refl _, Nat.le_refl _⟩ ymX10_wrong (fun _ => rfl) (fun _ => Nat.le_of_ble_eq_true rfl) (fun X hX hr _ => ?_) e
  have hX : okX mV X rr cX10_wrong RX10 2 1 0 := hX
  rw [m_wrong]
  refine j_aload_n (pc := 0) hX 0 rfl dX10_wrong_0 ?_
  refine j_iload_n (pc := 1) hX 1 rfl dX10_wrong_1 ?_
  refine j_putI (pc := 2) hX fwX10_154.1 fwX10_154.2 rfl dX10_wrong_2 (fun h1 => ?_)
  refine j_aload_n (pc := 5) hX 0 rfl dX10_wrong_5 ?_
  refine j_aload_n (pc := 6) hX 0 rfl dX10_wrong_6 ?_
  refine j_getI (pc := 7) hX fgX10_157.1 fgX10_157.2 rfl dX10_wrong_7 ?_
  refine j_putI (pc := 10) hX fwX10_16.1 fwX10_16.2 rfl dX10_wrong_10 (fun h2 => ?_)
  refine j_iconst (pc := 13) hX ic_0 dX10_wrong_13 ?_
  exact j_zret (pc := 14) hX (Or.inl rfl) hr dX10_wrong_14
set_option maxHeartbeats 4000000 in
set_option maxRecDepth 100000 in
theorem m_t_isSign (a1 : Int32) (h : HP) (rr : Int32 × HP) (e : m_isSign a1 h = some rr) : Cn mV yX10_isSign (ws_ yX10_isSign cX10_isSign 2 (some .boolean)) 1 0 (fun z => [.ref (z + 0), .int a1]) h (fun z => eI z rr.1) rr.2 := by
  refine cn_of (e1 := eI) (fun z => [(0, .ref (z + 0)), (1, .int a1)]) mV_ok ⟨Nat.le_refl _, Nat.le_refl _⟩ ymX10_isSign (fun _ => rfl) (fun _ => Nat.le_of_ble_eq_true rfl) (fun X hX hr _ => ?_) e
  have hX : okX mV X rr cX10_isSign RX10 2 1 0 := hX
  rw [m_isSign]
  refine j_aload_n (pc := 0) hX 0 rfl dX10_isSign_0 ?_
  refine j_getI (pc := 1) hX fgX10_166.1 fgX10_166.2 rfl dX10_isSign_1 ?_
  refine j_iconst (pc := 4) hX ic_4 dX10_isSign_4 ?_
  refine j_cne (pc := 5) (tgt := 20) hX rfl dX10_isSign_5 (fun _ => ?_) (fun _ => ?_)
  · refine j_aload_n (pc := 8) hX 0 rfl dX10_isSign_8 ?_
    refine j_getI (pc := 9) hX fgX10_177.1 fgX10_177.2 rfl dX10_isSign_9 ?_
    refine j_iload_n (pc := 12) hX 1 rfl dX10_isSign_12 ?_
    refine j_cne (pc := 13) (tgt := 20) hX rfl dX10_isSign_13 (fun _ => ?_) (fun _ => ?_)
    · refine j_iconst (pc := 16) hX ic_1 dX10_isSign_16 ?_
      refine j_goto (pc := 17) (tgt := 21) hX rfl dX10_isSign_17 ?_
      exact j_zret (pc := 21) hX (Or.inr rfl) hr dX10_isSign_21
    · refine j_iconst (pc := 20) hX ic_0 dX10_isSign_20 ?_
      exact j_zret (pc := 21) hX (Or.inl rfl) hr dX10_isSign_21
  · refine j_iconst (pc := 20) hX ic_0 dX10_isSign_20 ?_
    exact j_zret (pc := 21) hX (Or.inl rfl) hr dX10_isSign_21
set_option maxHeartbeats 4000000 in
set_option maxRecDepth 100000 in
theorem m_find_3_w {X : CTX} {rr : Int32 × HP} (hX : okX mV X rr cX10_find RX10 5 1 0) (hr : (xh X).sig.returnType = some .int) (f0 : Nat) (f1 : Int32) (f2 : Int32) (f3 : Int32) (k : HP → Option (Int32 × HP)) (hk : ∀ (h : HP), jG mV X evI rr (k h) 28 [] [] h) : ∀ (n : Nat) (v4 : Int32) (h : HP), jG mV X evI rr (m_find_3 f0 f1 f2 f3 k n v4 h) 3 [(0, .ref (xz X + f0)), (1, .int f1), (2, .int f2), (3, .int f3), (4, .int v4)] [] h := by
  intro n
  induction n with
  | zero =>
    intro v4 h
    exact j_none
  | succ n ih =>
    intro v4 h
    rw [m_find_3]
    refine j_iload (pc := 3) hX 4 rfl dX10_find_3 ?_
    refine j_iload_n (pc := 5) hX 2 rfl dX10_find_5 ?_
    refine j_cge (pc := 6) (tgt := 28) hX rfl dX10_find_6 (fun _ => ?_) (fun _ => ?_)
    · refine j_locs [] rfl ?_
      exact hk h
    · refine j_aload_n (pc := 9) hX 0 rfl dX10_find_9 ?_
      refine j_iload_n (pc := 10) hX 1 rfl dX10_find_10 ?_
      refine j_iload (pc := 11) hX 4 rfl dX10_find_11 ?_
      refine j_iadd (pc := 13) hX dX10_find_13 ?_
      refine j_grd fun g2 => ?_
      refine j_iald (pc := 14) (n := (mT f0).2) hX (mT_k g2) dX10_find_14 (fun _ => ?_)
      refine j_iload_n (pc := 15) hX 3 rfl dX10_find_15 ?_
      refine j_cne (pc := 16) (tgt := 22) hX rfl dX10_find_16 (fun _ => ?_) (fun _ => ?_)
      · refine j_iload (pc := 19) hX 4 rfl dX10_find_19 ?_
        exact j_iret (pc := 21) hX hr dX10_find_21
      · refine j_iinc (pc := 22) hX 4 rfl (1 : Int32) ic_1 (fun x3 => [(4, .int x3), (0, .ref (xz X + f0)), (1, .int f1), (2, .int f2), (3, .int f3)]) (fun _ => rfl) (Nat.le_of_ble_eq_true rfl) dX10_find_22 (fun x3 => ?_)
        refine j_goto (pc := 25) (tgt := 3) hX rfl dX10_find_25 ?_
        refine j_locs [1, 2, 3, 4, 0] rfl ?_
        exact ih x3 h
set_option maxHeartbeats 4000000 in
set_option maxRecDepth 100000 in
theorem m_t_find (a1 : Nat) (a2 : Int32) (a3 : Int32) (a4 : Int32) (h : HP) (rr : Int32 × HP) (e : m_find a1 a2 a3 a4 h = some rr) : Cn mV yX10_find (ws_ yX10_find cX10_find 5 (some .int)) 1 0 (fun z => [.ref (z + a1), .int a2, .int a3, .int a4]) h (fun z => eI z rr.1) rr.2 := by
  refine cn_of (e1 := eI) (fun z => [(0, .ref (z + a1)), (1, .int a2), (2, .int a3), (3, .int a4)]) mV_ok ⟨Nat.le_refl _, Nat.le_refl _⟩ ymX10_find (fun _ => rfl) (fun _ => Nat.le_of_ble_eq_true rfl) (fun X hX hr _ => ?_) e
  have hX : okX mV X rr cX10_find RX10 5 1 0 := hX
  rw [m_find]
  refine j_iconst (pc := 0) hX ic_0 dX10_find_0 ?_
  refine j_istore (pc := 1) hX (fun x1 => [(4, .int x1), (0, .ref (xz X + a1)), (1, .int a2), (2, .int a3), (3, .int a4)]) (fun _ => rfl) (Nat.le_of_ble_eq_true rfl) dX10_find_1 (fun x1 => ?_)
  refine j_locs [1, 2, 3, 4, 0] rfl ?_
  refine m_find_3_w hX hr a1 a2 a3 a4 _ (fun  h4 => ?_) FU x1 h
  refine j_iconst (pc := 28) hX ic_m1 dX10_find_28 ?_
  exact j_iret (pc := 29) hX hr dX10_find_29
set_option maxHeartbeats 4000000 in
set_option maxRecDepth 100000 in
theorem m_t_newName (a1 : Nat) (a2 : Int32) (a3 : Int32) (h : HP) (rr : Int32 × HP) (e : m_newName a1 a2 a3 h = some rr) : Cn mV yX10_newName (ws_ yX10_newName cX10_newName 4 (some .boolean)) 3 47 (fun z => [.ref (z + 0), .ref (z + a1), .int a2, .int a3]) h (fun z => eI z rr.1) rr.2 := by
  refine cn_of (e1 := eI) (fun z => [(0, .ref (z + 0)), (1, .ref (z + a1)), (2, .int a2), (3, .int a3)]) mV_ok ⟨Nat.le_refl _, Nat.le_refl _⟩ ymX10_newName (fun _ => rfl) (fun _ => Nat.le_of_ble_eq_true rfl) (fun X hX hr _ => ?_) e
  have hX : okX mV X rr cX10_newName RX10 4 3 47 := hX
  rw [m_newName]
  refine j_aload_n (pc := 0) hX 0 rfl dX10_newName_0 ?_
  refine j_getI (pc := 1) hX fgX10_166.1 fgX10_166.2 rfl dX10_newName_1 ?_
  refine j_iconst (pc := 4) hX ic_2 dX10_newName_4 ?_
  refine j_ceq (pc := 5) (tgt := 14) hX rfl dX10_newName_5 (fun _ => ?_) (fun _ => ?_)
  · refine j_aload_n (pc := 14) hX 1 rfl dX10_newName_14 ?_
    refine j_iload_n (pc := 15) hX 2 rfl dX10_newName_15 ?_
    refine j_iload_n (pc := 16) hX 3 rfl dX10_newName_16 ?_
    refine j_aload_n (pc := 17) hX 0 rfl dX10_newName_17 ?_
    refine j_getI (pc := 18) hX fgX10_177.1 fgX10_177.2 rfl dX10_newName_18 ?_
    refine j_callSI (pc := 21) (As := fun z => [.ref (z + a1), .int a2, .int a3, .int (gI h 0 9)]) (rest := []) hX (fun r e => m_t_find a1 a2 a3 (gI h 0 9) h r e) ymX10_find (lw_S q1904 q1905 q154 q1906) ⟨Nat.le_of_ble_eq_true rfl, Nat.le_of_ble_eq_true rfl⟩ rfl rfl (Nat.le_of_ble_eq_true rfl) dX10_newName_21 (fun r1 h2 => ?_)
    refine j_iflt (pc := 24) (tgt := 33) hX rfl dX10_newName_24 (fun _ => ?_) (fun _ => ?_)
    · refine j_aload_n (pc := 33) hX 1 rfl dX10_newName_33 ?_
      refine j_iload_n (pc := 34) hX 2 rfl dX10_newName_34 ?_
      refine j_iload_n (pc := 35) hX 3 rfl dX10_newName_35 ?_
      refine j_iadd (pc := 36) hX dX10_newName_36 ?_
      refine j_aload_n (pc := 37) hX 0 rfl dX10_newName_37 ?_
      refine j_getI (pc := 38) hX fgX10_177.1 fgX10_177.2 rfl dX10_newName_38 ?_
      refine j_grd fun g3 => ?_
      refine j_iast (pc := 41) (n := (mT a1).2) hX (mT_k g3) dX10_newName_41 (fun _ h4 => ?_)
      refine j_aload_n (pc := 42) hX 0 rfl dX10_newName_42 ?_
      refine j_callVV (pc := 43) (a := 0) (As := fun z => []) (rest := []) hX (fun r e => m_t_token h4 r e) ymX10_token (lw_V q1863 q1865 qs67 q154 q1866) rfl ckX10 rfl ⟨Nat.le_of_ble_eq_true rfl, Nat.le_of_ble_eq_true rfl⟩ rfl rfl (Nat.le_of_ble_eq_true rfl) dX10_newName_43 (fun r5 h6 => ?_)
      refine j_iconst (pc := 46) hX ic_1 dX10_newName_46 ?_
      exact j_zret (pc := 47) hX (Or.inr rfl) hr dX10_newName_47
    · refine j_aload_n (pc := 27) hX 0 rfl dX10_newName_27 ?_
      refine j_iconst (pc := 28) hX ic_3 dX10_newName_28 ?_
      refine j_callVI (pc := 29) (a := 0) (As := fun z => [.int (3 : Int32)]) (rest := []) hX (fun r e => m_t_wrong (3 : Int32) h2 r e) ymX10_wrong (lw_V q1892 q1894 qs74 q154 q1895) rfl ckX10 rfl ⟨Nat.le_of_ble_eq_true rfl, Nat.le_of_ble_eq_true rfl⟩ rfl rfl (Nat.le_of_ble_eq_true rfl) dX10_newName_29 (fun r7 h8 => ?_)
      refine j_grd fun g9 => ?_
      exact j_zret (pc := 32) hX g9 hr dX10_newName_32
  · refine j_aload_n (pc := 8) hX 0 rfl dX10_newName_8 ?_
    refine j_iconst (pc := 9) hX ic_1 dX10_newName_9 ?_
    refine j_callVI (pc := 10) (a := 0) (As := fun z => [.int (1 : Int32)]) (rest := []) hX (fun r e => m_t_wrong (1 : Int32) h r e) ymX10_wrong (lw_V q1892 q1894 qs74 q154 q1895) rfl ckX10 rfl ⟨Nat.le_of_ble_eq_true rfl, Nat.le_of_ble_eq_true rfl⟩ rfl rfl (Nat.le_of_ble_eq_true rfl) dX10_newName_10 (fun r10 h11 => ?_)
    refine j_grd fun g12 => ?_
    exact j_zret (pc := 13) hX g12 hr dX10_newName_13
set_option maxHeartbeats 4000000 in
set_option maxRecDepth 100000 in
theorem m_t_factLine  (h : HP) (rr : Int32 × HP) (e : m_factLine  h = some rr) : Cn mV yX10_factLine (ws_ yX10_factLine cX10_factLine 1 (some .boolean)) 4 70 (fun z => [.ref (z + 0)]) h (fun z => eI z rr.1) rr.2 := by
  refine cn_of (e1 := eI) (fun z => [(0, .ref (z + 0))]) mV_ok ⟨Nat.le_refl _, Nat.le_refl _⟩ ymX10_factLine (fun _ => rfl) (fun _ => Nat.le_of_ble_eq_true rfl) (fun X hX hr _ => ?_) e
  have hX : okX mV X rr cX10_factLine RX10 1 4 70 := hX
  rw [m_factLine]
  refine j_aload_n (pc := 0) hX 0 rfl dX10_factLine_0 ?_
  refine j_getI (pc := 1) hX fgX10_210.1 fgX10_210.2 rfl dX10_factLine_1 ?_
  refine j_bipush (pc := 4) hX bp_8 dX10_factLine_4 ?_
  refine j_cne (pc := 6) (tgt := 15) hX rfl dX10_factLine_6 (fun _ => ?_) (fun _ => ?_)
  · refine j_aload_n (pc := 9) hX 0 rfl dX10_factLine_9 ?_
    refine j_iconst (pc := 10) hX ic_2 dX10_factLine_10 ?_
    refine j_callVI (pc := 11) (a := 0) (As := fun z => [.int (2 : Int32)]) (rest := []) hX (fun r e => m_t_wrong (2 : Int32) h r e) ymX10_wrong (lw_V q1892 q1894 qs74 q154 q1895) rfl ckX10 rfl ⟨Nat.le_of_ble_eq_true rfl, Nat.le_of_ble_eq_true rfl⟩ rfl rfl (Nat.le_of_ble_eq_true rfl) dX10_factLine_11 (fun r1 h2 => ?_)
    refine j_grd fun g3 => ?_
    exact j_zret (pc := 14) hX g3 hr dX10_factLine_14
  · refine j_aload_n (pc := 15) hX 0 rfl dX10_factLine_15 ?_
    refine j_callVV (pc := 16) (a := 0) (As := fun z => []) (rest := []) hX (fun r e => m_t_token h r e) ymX10_token (lw_V q1863 q1865 qs67 q154 q1866) rfl ckX10 rfl ⟨Nat.le_of_ble_eq_true rfl, Nat.le_of_ble_eq_true rfl⟩ rfl rfl (Nat.le_of_ble_eq_true rfl) dX10_factLine_16 (fun r4 h5 => ?_)
    refine j_aload_n (pc := 19) hX 0 rfl dX10_factLine_19 ?_
    refine j_aload_n (pc := 20) hX 0 rfl dX10_factLine_20 ?_
    refine j_getR (pc := 21) hX fgX10_27.1 fgX10_27.2 rfl rfl dX10_factLine_21 ?_
    refine j_bipush (pc := 24) hX bp_8 dX10_factLine_24 ?_
    refine j_aload_n (pc := 26) hX 0 rfl dX10_factLine_26 ?_
    refine j_getI (pc := 27) hX fgX10_210.1 fgX10_210.2 rfl dX10_factLine_27 ?_
    refine j_callVI (pc := 30) (a := 0) (As := fun z => [.ref (z + 5), .int (8 : Int32), .int (gI h5 0 17)]) (rest := []) hX (fun r e => m_t_newName 5 (8 : Int32) (gI h5 0 17) h5 r e) ymX10_newName (lw_V q1900 q1902 qs76 q154 q1903) rfl ckX10 rfl ⟨Nat.le_of_ble_eq_true rfl, Nat.le_of_ble_eq_true rfl⟩ rfl rfl (Nat.le_of_ble_eq_true rfl) dX10_factLine_30 (fun r6 h7 => ?_)
    refine j_ifne (pc := 33) (tgt := 38) hX rfl dX10_factLine_33 (fun _ => ?_) (fun _ => ?_)
    · refine j_iconst (pc := 36) hX ic_0 dX10_factLine_36 ?_
      exact j_zret (pc := 37) hX (Or.inl rfl) hr dX10_factLine_37
    · refine j_aload_n (pc := 38) hX 0 rfl dX10_factLine_38 ?_
      refine j_dup (pc := 39) hX rfl dX10_factLine_39 ?_
      refine j_getI (pc := 40) hX fgX10_210.1 fgX10_210.2 rfl dX10_factLine_40 ?_
      refine j_iconst (pc := 43) hX ic_1 dX10_factLine_43 ?_
      refine j_iadd (pc := 44) hX dX10_factLine_44 ?_
      refine j_putI (pc := 45) hX fwX10_210.1 fwX10_210.2 rfl dX10_factLine_45 (fun h8 => ?_)
      refine j_iconst (pc := 48) hX ic_1 dX10_factLine_48 ?_
      exact j_zret (pc := 49) hX (Or.inr rfl) hr dX10_factLine_49
set_option maxHeartbeats 4000000 in
set_option maxRecDepth 100000 in
theorem m_t_isIn (a1 : Int32) (a2 : Int32) (a3 : Int32) (h : HP) (rr : Int32 × HP) (e : m_isIn a1 a2 a3 h = some rr) : Cn mV yX10_isIn (ws_ yX10_isIn cX10_isIn 3 (some .boolean)) 1 0 (fun z => [.int a1, .int a2, .int a3]) h (fun z => eI z rr.1) rr.2 := by
  refine cn_of (e1 := eI) (fun z => [(0, .int a1), (1, .int a2), (2, .int a3)]) mV_ok ⟨Nat.le_refl _, Nat.le_refl _⟩ ymX10_isIn (fun _ => rfl) (fun _ => Nat.le_of_ble_eq_true rfl) (fun X hX hr _ => ?_) e
  have hX : okX mV X rr cX10_isIn RX10 3 1 0 := hX
  rw [m_isIn]
  refine j_iload_n (pc := 0) hX 0 rfl dX10_isIn_0 ?_
  refine j_iload_n (pc := 1) hX 1 rfl dX10_isIn_1 ?_
  refine j_clt (pc := 2) (tgt := 14) hX rfl dX10_isIn_2 (fun _ => ?_) (fun _ => ?_)
  · refine j_iconst (pc := 14) hX ic_0 dX10_isIn_14 ?_
    exact j_zret (pc := 15) hX (Or.inl rfl) hr dX10_isIn_15
  · refine j_iload_n (pc := 5) hX 0 rfl dX10_isIn_5 ?_
    refine j_iload_n (pc := 6) hX 2 rfl dX10_isIn_6 ?_
    refine j_cgt (pc := 7) (tgt := 14) hX rfl dX10_isIn_7 (fun _ => ?_) (fun _ => ?_)
    · refine j_iconst (pc := 14) hX ic_0 dX10_isIn_14 ?_
      exact j_zret (pc := 15) hX (Or.inl rfl) hr dX10_isIn_15
    · refine j_iconst (pc := 10) hX ic_1 dX10_isIn_10 ?_
      refine j_goto (pc := 11) (tgt := 15) hX rfl dX10_isIn_11 ?_
      exact j_zret (pc := 15) hX (Or.inr rfl) hr dX10_isIn_15
set_option maxHeartbeats 4000000 in
set_option maxRecDepth 100000 in
theorem m_t_number (a1 : Int32) (a2 : Int32) (h : HP) (rr : Int32 × HP) (e : m_number a1 a2 h = some rr) : Cn mV yX10_number (ws_ yX10_number cX10_number 3 (some .boolean)) 3 47 (fun z => [.ref (z + 0), .int a1, .int a2]) h (fun z => eI z rr.1) rr.2 := by
  refine cn_of (e1 := eI) (fun z => [(0, .ref (z + 0)), (1, .int a1), (2, .int a2)]) mV_ok ⟨Nat.le_refl _, Nat.le_refl _⟩ ymX10_number (fun _ => rfl) (fun _ => Nat.le_of_ble_eq_true rfl) (fun X hX hr _ => ?_) e
  have hX : okX mV X rr cX10_number RX10 3 3 47 := hX
  rw [m_number]
  refine j_aload_n (pc := 0) hX 0 rfl dX10_number_0 ?_
  refine j_getI (pc := 1) hX fgX10_166.1 fgX10_166.2 rfl dX10_number_1 ?_
  refine j_iconst (pc := 4) hX ic_3 dX10_number_4 ?_
  refine j_ceq (pc := 5) (tgt := 14) hX rfl dX10_number_5 (fun _ => ?_) (fun _ => ?_)
  · refine j_aload_n (pc := 14) hX 0 rfl dX10_number_14 ?_
    refine j_getI (pc := 15) hX fgX10_177.1 fgX10_177.2 rfl dX10_number_15 ?_
    refine j_iload_n (pc := 18) hX 1 rfl dX10_number_18 ?_
    refine j_iload_n (pc := 19) hX 2 rfl dX10_number_19 ?_
    refine j_callSI (pc := 20) (As := fun z => [.int (gI h 0 9), .int a1, .int a2]) (rest := []) hX (fun r e => m_t_isIn (gI h 0 9) a1 a2 h r e) ymX10_isIn (lw_S q1915 q1916 q154 q1917) ⟨Nat.le_of_ble_eq_true rfl, Nat.le_of_ble_eq_true rfl⟩ rfl rfl (Nat.le_of_ble_eq_true rfl) dX10_number_20 (fun r1 h2 => ?_)
    refine j_ifne (pc := 23) (tgt := 32) hX rfl dX10_number_23 (fun _ => ?_) (fun _ => ?_)
    · refine j_aload_n (pc := 26) hX 0 rfl dX10_number_26 ?_
      refine j_iconst (pc := 27) hX ic_2 dX10_number_27 ?_
      refine j_callVI (pc := 28) (a := 0) (As := fun z => [.int (2 : Int32)]) (rest := []) hX (fun r e => m_t_wrong (2 : Int32) h2 r e) ymX10_wrong (lw_V q1892 q1894 qs74 q154 q1895) rfl ckX10 rfl ⟨Nat.le_of_ble_eq_true rfl, Nat.le_of_ble_eq_true rfl⟩ rfl rfl (Nat.le_of_ble_eq_true rfl) dX10_number_28 (fun r3 h4 => ?_)
      refine j_grd fun g5 => ?_
      exact j_zret (pc := 31) hX g5 hr dX10_number_31
    · refine j_aload_n (pc := 32) hX 0 rfl dX10_number_32 ?_
      refine j_aload_n (pc := 33) hX 0 rfl dX10_number_33 ?_
      refine j_getI (pc := 34) hX fgX10_177.1 fgX10_177.2 rfl dX10_number_34 ?_
      refine j_putI (pc := 37) hX fwX10_197.1 fwX10_197.2 rfl dX10_number_37 (fun h6 => ?_)
      refine j_aload_n (pc := 40) hX 0 rfl dX10_number_40 ?_
      refine j_callVV (pc := 41) (a := 0) (As := fun z => []) (rest := []) hX (fun r e => m_t_token h6 r e) ymX10_token (lw_V q1863 q1865 qs67 q154 q1866) rfl ckX10 rfl ⟨Nat.le_of_ble_eq_true rfl, Nat.le_of_ble_eq_true rfl⟩ rfl rfl (Nat.le_of_ble_eq_true rfl) dX10_number_41 (fun r7 h8 => ?_)
      refine j_iconst (pc := 44) hX ic_1 dX10_number_44 ?_
      exact j_zret (pc := 45) hX (Or.inr rfl) hr dX10_number_45
  · refine j_aload_n (pc := 8) hX 0 rfl dX10_number_8 ?_
    refine j_iconst (pc := 9) hX ic_1 dX10_number_9 ?_
    refine j_callVI (pc := 10) (a := 0) (As := fun z => [.int (1 : Int32)]) (rest := []) hX (fun r e => m_t_wrong (1 : Int32) h r e) ymX10_wrong (lw_V q1892 q1894 qs74 q154 q1895) rfl ckX10 rfl ⟨Nat.le_of_ble_eq_true rfl, Nat.le_of_ble_eq_true rfl⟩ rfl rfl (Nat.le_of_ble_eq_true rfl) dX10_number_10 (fun r9 h10 => ?_)
    refine j_grd fun g11 => ?_
    exact j_zret (pc := 13) hX g11 hr dX10_number_13
set_option maxHeartbeats 4000000 in
set_option maxRecDepth 100000 in
theorem m_t_personLine  (h : HP) (rr : Int32 × HP) (e : m_personLine  h = some rr) : Cn mV yX10_personLine (ws_ yX10_personLine cX10_personLine 2 (some .boolean)) 4 70 (fun z => [.ref (z + 0)]) h (fun z => eI z rr.1) rr.2 := by
  refine cn_of (e1 := eI) (fun z => [(0, .ref (z + 0))]) mV_ok ⟨Nat.le_refl _, Nat.le_refl _⟩ ymX10_personLine (fun _ => rfl) (fun _ => Nat.le_of_ble_eq_true rfl) (fun X hX hr _ => ?_) e
  have hX : okX mV X rr cX10_personLine RX10 2 4 70 := hX
  rw [m_personLine]
  refine j_aload_n (pc := 0) hX 0 rfl dX10_personLine_0 ?_
  refine j_getI (pc := 1) hX fgX10_213.1 fgX10_213.2 rfl dX10_personLine_1 ?_
  refine j_iconst (pc := 4) hX ic_5 dX10_personLine_4 ?_
  refine j_cne (pc := 5) (tgt := 14) hX rfl dX10_personLine_5 (fun _ => ?_) (fun _ => ?_)
  · refine j_aload_n (pc := 8) hX 0 rfl dX10_personLine_8 ?_
    refine j_iconst (pc := 9) hX ic_2 dX10_personLine_9 ?_
    refine j_callVI (pc := 10) (a := 0) (As := fun z => [.int (2 : Int32)]) (rest := []) hX (fun r e => m_t_wrong (2 : Int32) h r e) ymX10_wrong (lw_V q1892 q1894 qs74 q154 q1895) rfl ckX10 rfl ⟨Nat.le_of_ble_eq_true rfl, Nat.le_of_ble_eq_true rfl⟩ rfl rfl (Nat.le_of_ble_eq_true rfl) dX10_personLine_10 (fun r1 h2 => ?_)
    refine j_grd fun g3 => ?_
    exact j_zret (pc := 13) hX g3 hr dX10_personLine_13
  · refine j_aload_n (pc := 14) hX 0 rfl dX10_personLine_14 ?_
    refine j_callVV (pc := 15) (a := 0) (As := fun z => []) (rest := []) hX (fun r e => m_t_token h r e) ymX10_token (lw_V q1863 q1865 qs67 q154 q1866) rfl ckX10 rfl ⟨Nat.le_of_ble_eq_true rfl, Nat.le_of_ble_eq_true rfl⟩ rfl rfl (Nat.le_of_ble_eq_true rfl) dX10_personLine_15 (fun r4 h5 => ?_)
    refine j_aload_n (pc := 18) hX 0 rfl dX10_personLine_18 ?_
    refine j_aload_n (pc := 19) hX 0 rfl dX10_personLine_19 ?_
    refine j_getR (pc := 20) hX fgX10_30.1 fgX10_30.2 rfl rfl dX10_personLine_20 ?_
    refine j_iconst (pc := 23) hX ic_5 dX10_personLine_23 ?_
    refine j_aload_n (pc := 24) hX 0 rfl dX10_personLine_24 ?_
    refine j_getI (pc := 25) hX fgX10_213.1 fgX10_213.2 rfl dX10_personLine_25 ?_
    refine j_callVI (pc := 28) (a := 0) (As := fun z => [.ref (z + 6), .int (5 : Int32), .int (gI h5 0 18)]) (rest := []) hX (fun r e => m_t_newName 6 (5 : Int32) (gI h5 0 18) h5 r e) ymX10_newName (lw_V q1900 q1902 qs76 q154 q1903) rfl ckX10 rfl ⟨Nat.le_of_ble_eq_true rfl, Nat.le_of_ble_eq_true rfl⟩ rfl rfl (Nat.le_of_ble_eq_true rfl) dX10_personLine_28 (fun r6 h7 => ?_)
    refine j_ifne (pc := 31) (tgt := 36) hX rfl dX10_personLine_31 (fun _ => ?_) (fun _ => ?_)
    · refine j_iconst (pc := 34) hX ic_0 dX10_personLine_34 ?_
      exact j_zret (pc := 35) hX (Or.inl rfl) hr dX10_personLine_35
    · refine j_iconst (pc := 36) hX ic_5 dX10_personLine_36 ?_
      refine j_aload_n (pc := 37) hX 0 rfl dX10_personLine_37 ?_
      refine j_getI (pc := 38) hX fgX10_213.1 fgX10_213.2 rfl dX10_personLine_38 ?_
      refine j_iadd (pc := 41) hX dX10_personLine_41 ?_
      refine j_istore_n (pc := 42) hX (fun x8 => [(1, .int x8), (0, .ref (xz X + 0))]) (fun _ => rfl) (Nat.le_of_ble_eq_true rfl) dX10_personLine_42 (fun x8 => ?_)
      refine j_aload_n (pc := 43) hX 1 rfl dX10_personLine_43 ?_
      refine j_iconst (pc := 44) hX ic_0 dX10_personLine_44 ?_
      refine j_bipush (pc := 45) hX bp_9 dX10_personLine_45 ?_
      refine j_callVI (pc := 47) (a := 0) (As := fun z => [.int (0 : Int32), .int (9 : Int32)]) (rest := []) hX (fun r e => m_t_number (0 : Int32) (9 : Int32) h7 r e) ymX10_number (lw_V q1911 q1913 qs78 q154 q1914) rfl ckX10 rfl ⟨Nat.le_of_ble_eq_true rfl, Nat.le_of_ble_eq_true rfl⟩ rfl rfl (Nat.le_of_ble_eq_true rfl) dX10_personLine_47 (fun r9 h10 => ?_)
      refine j_ifne (pc := 50) (tgt := 55) hX rfl dX10_personLine_50 (fun _ => ?_) (fun _ => ?_)
      · refine j_iconst (pc := 53) hX ic_0 dX10_personLine_53 ?_
        exact j_zret (pc := 54) hX (Or.inl rfl) hr dX10_personLine_54
      · refine j_aload_n (pc := 55) hX 1 rfl dX10_personLine_55 ?_
        refine j_getR (pc := 56) hX fgX10_33.1 fgX10_33.2 rfl rfl dX10_personLine_56 ?_
        refine j_iload_n (pc := 59) hX 0 rfl dX10_personLine_59 ?_
        refine j_aload_n (pc := 60) hX 1 rfl dX10_personLine_60 ?_
        refine j_getI (pc := 61) hX fgX10_197.1 fgX10_197.2 rfl dX10_personLine_61 ?_
        refine j_iast (pc := 64) (n := 10) hX rfl dX10_personLine_64 (fun _ h11 => ?_)
        refine j_aload_n (pc := 65) hX 1 rfl dX10_personLine_65 ?_
        refine j_iconst (pc := 66) hX ic_0 dX10_personLine_66 ?_
        refine j_bipush (pc := 67) hX bp_9 dX10_personLine_67 ?_
        refine j_callVI (pc := 69) (a := 0) (As := fun z => [.int (0 : Int32), .int (9 : Int32)]) (rest := []) hX (fun r e => m_t_number (0 : Int32) (9 : Int32) h11 r e) ymX10_number (lw_V q1911 q1913 qs78 q154 q1914) rfl ckX10 rfl ⟨Nat.le_of_ble_eq_true rfl, Nat.le_of_ble_eq_true rfl⟩ rfl rfl (Nat.le_of_ble_eq_true rfl) dX10_personLine_69 (fun r12 h13 => ?_)
        refine j_ifne (pc := 72) (tgt := 77) hX rfl dX10_personLine_72 (fun _ => ?_) (fun _ => ?_)
        · refine j_iconst (pc := 75) hX ic_0 dX10_personLine_75 ?_
          exact j_zret (pc := 76) hX (Or.inl rfl) hr dX10_personLine_76
        · refine j_aload_n (pc := 77) hX 1 rfl dX10_personLine_77 ?_
          refine j_getR (pc := 78) hX fgX10_36.1 fgX10_36.2 rfl rfl dX10_personLine_78 ?_
          refine j_iload_n (pc := 81) hX 0 rfl dX10_personLine_81 ?_
          refine j_aload_n (pc := 82) hX 1 rfl dX10_personLine_82 ?_
          refine j_getI (pc := 83) hX fgX10_197.1 fgX10_197.2 rfl dX10_personLine_83 ?_
          refine j_iast (pc := 86) (n := 10) hX rfl dX10_personLine_86 (fun _ h14 => ?_)
          refine j_aload_n (pc := 87) hX 1 rfl dX10_personLine_87 ?_
          refine j_iconst (pc := 88) hX ic_0 dX10_personLine_88 ?_
          refine j_iconst (pc := 89) hX ic_3 dX10_personLine_89 ?_
          refine j_callVI (pc := 90) (a := 0) (As := fun z => [.int (0 : Int32), .int (3 : Int32)]) (rest := []) hX (fun r e => m_t_number (0 : Int32) (3 : Int32) h14 r e) ymX10_number (lw_V q1911 q1913 qs78 q154 q1914) rfl ckX10 rfl ⟨Nat.le_of_ble_eq_true rfl, Nat.le_of_ble_eq_true rfl⟩ rfl rfl (Nat.le_of_ble_eq_true rfl) dX10_personLine_90 (fun r15 h16 => ?_)
          refine j_ifne (pc := 93) (tgt := 98) hX rfl dX10_personLine_93 (fun _ => ?_) (fun _ => ?_)
          · refine j_iconst (pc := 96) hX ic_0 dX10_personLine_96 ?_
            exact j_zret (pc := 97) hX (Or.inl rfl) hr dX10_personLine_97
          · refine j_aload_n (pc := 98) hX 1 rfl dX10_personLine_98 ?_
            refine j_getR (pc := 99) hX fgX10_39.1 fgX10_39.2 rfl rfl dX10_personLine_99 ?_
            refine j_iload_n (pc := 102) hX 0 rfl dX10_personLine_102 ?_
            refine j_aload_n (pc := 103) hX 1 rfl dX10_personLine_103 ?_
            refine j_getI (pc := 104) hX fgX10_197.1 fgX10_197.2 rfl dX10_personLine_104 ?_
            refine j_iast (pc := 107) (n := 10) hX rfl dX10_personLine_107 (fun _ h17 => ?_)
            refine j_aload_n (pc := 108) hX 1 rfl dX10_personLine_108 ?_
            refine j_getR (pc := 109) hX fgX10_42.1 fgX10_42.2 rfl rfl dX10_personLine_109 ?_
            refine j_iload_n (pc := 112) hX 0 rfl dX10_personLine_112 ?_
            refine j_iconst (pc := 113) hX ic_0 dX10_personLine_113 ?_
            refine j_iast (pc := 114) (n := 10) hX rfl dX10_personLine_114 (fun _ h18 => ?_)
            refine j_aload_n (pc := 115) hX 1 rfl dX10_personLine_115 ?_
            refine j_dup (pc := 116) hX rfl dX10_personLine_116 ?_
            refine j_getI (pc := 117) hX fgX10_213.1 fgX10_213.2 rfl dX10_personLine_117 ?_
            refine j_iconst (pc := 120) hX ic_1 dX10_personLine_120 ?_
            refine j_iadd (pc := 121) hX dX10_personLine_121 ?_
            refine j_putI (pc := 122) hX fwX10_213.1 fwX10_213.2 rfl dX10_personLine_122 (fun h19 => ?_)
            refine j_iconst (pc := 125) hX ic_1 dX10_personLine_125 ?_
            exact j_zret (pc := 126) hX (Or.inr rfl) hr dX10_personLine_126
