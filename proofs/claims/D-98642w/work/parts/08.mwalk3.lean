/-! the model: walks -/
set_option maxHeartbeats 4000000 in
set_option maxRecDepth 100000 in
theorem m_t_number1 (a1 : Int32) (h : HP) (rr : Int32 × HP) (e : m_number1 a1 h = some rr) : Cn mV yX10_number1 (ws_ yX10_number1 cX10_number1 2 (some .int)) 1 0 (fun z => [.ref (z + 0), .int a1]) h (fun z => eI z rr.1) rr.2 := by
  refine cn_of (e1 := eI) (fun z => [(0, .ref (z + 0)), (1, .int a1)]) mV_ok ⟨Nat.le_refl _, Nat.le_refl _⟩ ymX10_number1 (fun _ => rfl) (fun _ => Nat.le_of_ble_eq_true rfl) (fun X hX hr _ => ?_) e
  have hX : okX mV X rr cX10_number1 RX10 2 1 0 := hX
  rw [m_number1]
  refine j_aload_n (pc := 0) hX 0 rfl dX10_number1_0 ?_
  refine j_aload_n (pc := 1) hX 0 rfl dX10_number1_1 ?_
  refine j_getL (pc := 2) hX fgX10_367.1 fgX10_367.2 rfl dX10_number1_2 ?_
  refine j_ldc2 (pc := 5) hX q2102 dX10_number1_5 ?_
  refine j_lmul (pc := 8) hX dX10_number1_8 ?_
  refine j_ldc2 (pc := 9) hX q2103 dX10_number1_9 ?_
  refine j_ladd (pc := 12) hX dX10_number1_12 ?_
  refine j_ldc2 (pc := 13) hX q2104 dX10_number1_13 ?_
  refine j_land (pc := 16) hX dX10_number1_16 ?_
  refine j_putL (pc := 17) hX fwX10_367.1 fwX10_367.2 rfl dX10_number1_17 (fun h1 => ?_)
  refine j_aload_n (pc := 20) hX 0 rfl dX10_number1_20 ?_
  refine j_getL (pc := 21) hX fgX10_367.1 fgX10_367.2 rfl dX10_number1_21 ?_
  refine j_ldc2 (pc := 24) hX q2105 dX10_number1_24 ?_
  refine j_ldiv (pc := 27) hX dX10_number1_27 (fun _ => ?_)
  refine j_iload_n (pc := 28) hX 1 rfl dX10_number1_28 ?_
  refine j_i2l (pc := 29) hX dX10_number1_29 ?_
  refine j_lrem (pc := 30) hX dX10_number1_30 (fun _ => ?_)
  refine j_l2i (pc := 31) hX dX10_number1_31 ?_
  exact j_iret (pc := 32) hX hr dX10_number1_32
set_option maxHeartbeats 4000000 in
set_option maxRecDepth 100000 in
theorem m_t_isSlip (a1 : Int32) (a2 : Int32) (a3 : Int32) (h : HP) (rr : Int32 × HP) (e : m_isSlip a1 a2 a3 h = some rr) : Cn mV yX10_isSlip (ws_ yX10_isSlip cX10_isSlip 6 (some .boolean)) 5 98 (fun z => [.ref (z + 0), .int a1, .int a2, .int a3]) h (fun z => eI z rr.1) rr.2 := by
  refine cn_of (e1 := eI) (fun z => [(0, .ref (z + 0)), (1, .int a1), (2, .int a2), (3, .int a3)]) mV_ok ⟨Nat.le_refl _, Nat.le_refl _⟩ ymX10_isSlip (fun _ => rfl) (fun _ => Nat.le_of_ble_eq_true rfl) (fun X hX hr _ => ?_) e
  have hX : okX mV X rr cX10_isSlip RX10 6 5 98 := hX
  rw [m_isSlip]
  refine j_aload_n (pc := 0) hX 0 rfl dX10_isSlip_0 ?_
  refine j_getR (pc := 1) hX fgX10_57.1 fgX10_57.2 rfl rfl dX10_isSlip_1 ?_
  refine j_iload_n (pc := 4) hX 3 rfl dX10_isSlip_4 ?_
  refine j_iald (pc := 5) (n := 16) hX rfl dX10_isSlip_5 (fun _ => ?_)
  refine j_istore (pc := 6) hX (fun x1 => [(4, .int x1), (0, .ref (xz X + 0)), (1, .int a1), (2, .int a2), (3, .int a3)]) (fun _ => rfl) (Nat.le_of_ble_eq_true rfl) dX10_isSlip_6 (fun x1 => ?_)
  refine j_aload_n (pc := 8) hX 1 rfl dX10_isSlip_8 ?_
  refine j_getI (pc := 9) hX fgX10_389.1 fgX10_389.2 rfl dX10_isSlip_9 ?_
  refine j_ifne (pc := 12) (tgt := 48) hX rfl dX10_isSlip_12 (fun _ => ?_) (fun _ => ?_)
  · refine j_aload_n (pc := 15) hX 1 rfl dX10_isSlip_15 ?_
    refine j_getR (pc := 16) hX fgX10_48.1 fgX10_48.2 rfl rfl dX10_isSlip_16 ?_
    refine j_iload_n (pc := 19) hX 4 rfl dX10_isSlip_19 ?_
    refine j_iald (pc := 20) (n := 16) hX rfl dX10_isSlip_20 (fun _ => ?_)
    refine j_iconst (pc := 21) hX ic_3 dX10_isSlip_21 ?_
    refine j_ceq (pc := 22) (tgt := 48) hX rfl dX10_isSlip_22 (fun _ => ?_) (fun _ => ?_)
    · refine j_iconst (pc := 48) hX ic_0 dX10_isSlip_48 ?_
      exact j_zret (pc := 49) hX (Or.inl rfl) hr dX10_isSlip_49
    · refine j_iload (pc := 25) hX 0 rfl dX10_isSlip_25 ?_
      refine j_iflt (pc := 27) (tgt := 48) hX rfl dX10_isSlip_27 (fun _ => ?_) (fun _ => ?_)
      · refine j_iconst (pc := 48) hX ic_0 dX10_isSlip_48 ?_
        exact j_zret (pc := 49) hX (Or.inl rfl) hr dX10_isSlip_49
      · refine j_aload_n (pc := 30) hX 1 rfl dX10_isSlip_30 ?_
        refine j_getR (pc := 31) hX fgX10_100.1 fgX10_100.2 rfl rfl dX10_isSlip_31 ?_
        refine j_iconst (pc := 34) hX ic_5 dX10_isSlip_34 ?_
        refine j_iload_n (pc := 35) hX 2 rfl dX10_isSlip_35 ?_
        refine j_imul (pc := 36) hX dX10_isSlip_36 ?_
        refine j_iload_n (pc := 37) hX 3 rfl dX10_isSlip_37 ?_
        refine j_iadd (pc := 38) hX dX10_isSlip_38 ?_
        refine j_iald (pc := 39) (n := 10) hX rfl dX10_isSlip_39 (fun _ => ?_)
        refine j_iload (pc := 40) hX 0 rfl dX10_isSlip_40 ?_
        refine j_callSI (pc := 42) (As := fun z => [.int (gI h 29 ((((5 : Int32) * a1) + a2)).toNatClampNeg), .int x1]) (rest := []) hX (fun r e => m_t_isOf (gI h 29 ((((5 : Int32) * a1) + a2)).toNatClampNeg) x1 h r e) ymX10_isOf (lw_S q1926 q1927 q154 q1928) ⟨Nat.le_of_ble_eq_true rfl, Nat.le_of_ble_eq_true rfl⟩ rfl rfl (Nat.le_of_ble_eq_true rfl) dX10_isSlip_42 (fun r2 h3 => ?_)
        refine j_ifne (pc := 45) (tgt := 50) hX rfl dX10_isSlip_45 (fun _ => ?_) (fun _ => ?_)
        · refine j_iconst (pc := 48) hX ic_0 dX10_isSlip_48 ?_
          exact j_zret (pc := 49) hX (Or.inl rfl) hr dX10_isSlip_49
        · refine j_aload_n (pc := 50) hX 1 rfl dX10_isSlip_50 ?_
          refine j_iload_n (pc := 51) hX 2 rfl dX10_isSlip_51 ?_
          refine j_iload_n (pc := 52) hX 3 rfl dX10_isSlip_52 ?_
          refine j_iload_n (pc := 53) hX 4 rfl dX10_isSlip_53 ?_
          refine j_callVI (pc := 54) (a := 0) (As := fun z => [.int a1, .int a2, .int a3]) (rest := []) hX (fun r e => m_t_slipOf a1 a2 a3 h3 r e) ymX10_slipOf (lw_V q2093 q2095 qs112 q154 q2096) rfl ckX10 rfl ⟨Nat.le_of_ble_eq_true rfl, Nat.le_of_ble_eq_true rfl⟩ rfl rfl (Nat.le_of_ble_eq_true rfl) dX10_isSlip_54 (fun r4 h5 => ?_)
          refine j_istore (pc := 57) hX (fun x6 => [(5, .int x6), (4, .int x1), (0, .ref (xz X + 0)), (1, .int a1), (2, .int a2), (3, .int a3)]) (fun _ => rfl) (Nat.le_of_ble_eq_true rfl) dX10_isSlip_57 (fun x6 => ?_)
          refine j_aload_n (pc := 59) hX 2 rfl dX10_isSlip_59 ?_
          refine j_getI (pc := 60) hX fgX10_383.1 fgX10_383.2 rfl dX10_isSlip_60 ?_
          refine j_ifne (pc := 63) (tgt := 79) hX rfl dX10_isSlip_63 (fun _ => ?_) (fun _ => ?_)
          · refine j_iload (pc := 66) hX 0 rfl dX10_isSlip_66 ?_
            refine j_bipush (pc := 68) hX bp_50 dX10_isSlip_68 ?_
            refine j_clt (pc := 70) (tgt := 77) hX rfl dX10_isSlip_70 (fun _ => ?_) (fun _ => ?_)
            · refine j_iconst (pc := 77) hX ic_0 dX10_isSlip_77 ?_
              exact j_zret (pc := 78) hX (Or.inl rfl) hr dX10_isSlip_78
            · refine j_iconst (pc := 73) hX ic_1 dX10_isSlip_73 ?_
              refine j_goto (pc := 74) (tgt := 78) hX rfl dX10_isSlip_74 ?_
              exact j_zret (pc := 78) hX (Or.inr rfl) hr dX10_isSlip_78
          · refine j_iload (pc := 79) hX 0 rfl dX10_isSlip_79 ?_
            refine j_bipush (pc := 81) hX bp_100 dX10_isSlip_81 ?_
            refine j_ceq (pc := 83) (tgt := 102) hX rfl dX10_isSlip_83 (fun _ => ?_) (fun _ => ?_)
            · refine j_iconst (pc := 102) hX ic_1 dX10_isSlip_102 ?_
              refine j_goto (pc := 103) (tgt := 107) hX rfl dX10_isSlip_103 ?_
              exact j_zret (pc := 107) hX (Or.inr rfl) hr dX10_isSlip_107
            · refine j_iload (pc := 86) hX 0 rfl dX10_isSlip_86 ?_
              refine j_ifle (pc := 88) (tgt := 106) hX rfl dX10_isSlip_88 (fun _ => ?_) (fun _ => ?_)
              · refine j_iconst (pc := 106) hX ic_0 dX10_isSlip_106 ?_
                exact j_zret (pc := 107) hX (Or.inl rfl) hr dX10_isSlip_107
              · refine j_iload (pc := 91) hX 0 rfl dX10_isSlip_91 ?_
                refine j_aload_n (pc := 93) hX 2 rfl dX10_isSlip_93 ?_
                refine j_bipush (pc := 94) hX bp_100 dX10_isSlip_94 ?_
                refine j_callVI (pc := 96) (a := 0) (As := fun z => [.int (100 : Int32)]) (rest := [.int x6]) hX (fun r e => m_t_number1 (100 : Int32) h5 r e) ymX10_number1 (lw_V q2098 q2100 qs113 q154 q2101) rfl ckX10 rfl ⟨Nat.le_of_ble_eq_true rfl, Nat.le_of_ble_eq_true rfl⟩ rfl rfl (Nat.le_of_ble_eq_true rfl) dX10_isSlip_96 (fun r7 h8 => ?_)
                refine j_cle (pc := 99) (tgt := 106) hX rfl dX10_isSlip_99 (fun _ => ?_) (fun _ => ?_)
                · refine j_iconst (pc := 106) hX ic_0 dX10_isSlip_106 ?_
                  exact j_zret (pc := 107) hX (Or.inl rfl) hr dX10_isSlip_107
                · refine j_iconst (pc := 102) hX ic_1 dX10_isSlip_102 ?_
                  refine j_goto (pc := 103) (tgt := 107) hX rfl dX10_isSlip_103 ?_
                  exact j_zret (pc := 107) hX (Or.inr rfl) hr dX10_isSlip_107
  · refine j_iconst (pc := 48) hX ic_0 dX10_isSlip_48 ?_
    exact j_zret (pc := 49) hX (Or.inl rfl) hr dX10_isSlip_49
set_option maxHeartbeats 4000000 in
set_option maxRecDepth 100000 in
theorem m_asks_17_w {X : CTX} {rr : Int32 × HP} (hX : okX mV X rr cX10_asks RX10 6 6 123) (hr : (xh X).sig.returnType = some .boolean) (f1 : Int32) (f2 : Int32) (f3 : Int32) (f4 : Int32) (k : HP → Option (Int32 × HP)) (hk : ∀ (h : HP), jG mV X evI rr (k h) 109 [(0, .ref (xz X + 0)), (1, .int f1), (2, .int f2), (3, .int f3), (4, .int f4)] [] h) : ∀ (n : Nat) (v5 : Int32) (h : HP), jG mV X evI rr (m_asks_17 f1 f2 f3 f4 k n v5 h) 17 [(0, .ref (xz X + 0)), (1, .int f1), (2, .int f2), (3, .int f3), (4, .int f4), (5, .int v5)] [] h := by
  intro n
  induction n with
  | zero =>
    intro v5 h
    exact j_none
  | succ n ih =>
    intro v5 h
    rw [m_asks_17]
    refine j_iload (pc := 17) hX 5 rfl dX10_asks_17 ?_
    refine j_aload_n (pc := 19) hX 0 rfl dX10_asks_19 ?_
    refine j_getI (pc := 20) hX fgX10_231.1 fgX10_231.2 rfl dX10_asks_20 ?_
    refine j_cge (pc := 23) (tgt := 109) hX rfl dX10_asks_23 (fun _ => ?_) (fun _ => ?_)
    · refine j_locs [0, 1, 2, 3, 4] rfl ?_
      exact hk h
    · refine j_iload (pc := 26) hX 5 rfl dX10_asks_26 ?_
      refine j_iload_n (pc := 28) hX 2 rfl dX10_asks_28 ?_
      refine j_ceq (pc := 29) (tgt := 103) hX rfl dX10_asks_29 (fun _ => ?_) (fun _ => ?_)
      · refine j_iinc (pc := 103) hX 5 rfl (1 : Int32) ic_1 (fun x3 => [(5, .int x3), (0, .ref (xz X + 0)), (1, .int f1), (2, .int f2), (3, .int f3), (4, .int f4)]) (fun _ => rfl) (Nat.le_of_ble_eq_true rfl) dX10_asks_103 (fun x3 => ?_)
        refine j_goto (pc := 106) (tgt := 17) hX rfl dX10_asks_106 ?_
        refine j_locs [1, 2, 3, 4, 5, 0] rfl ?_
        exact ih x3 h
      · refine j_aload_n (pc := 32) hX 0 rfl dX10_asks_32 ?_
        refine j_getR (pc := 33) hX fgX10_106.1 fgX10_106.2 rfl rfl dX10_asks_33 ?_
        refine j_iconst (pc := 36) hX ic_5 dX10_asks_36 ?_
        refine j_iload_n (pc := 37) hX 1 rfl dX10_asks_37 ?_
        refine j_imul (pc := 38) hX dX10_asks_38 ?_
        refine j_iload (pc := 39) hX 5 rfl dX10_asks_39 ?_
        refine j_iadd (pc := 41) hX dX10_asks_41 ?_
        refine j_iald (pc := 42) (n := 10) hX rfl dX10_asks_42 (fun _ => ?_)
        refine j_aload_n (pc := 43) hX 0 rfl dX10_asks_43 ?_
        refine j_getR (pc := 44) hX fgX10_106.1 fgX10_106.2 rfl rfl dX10_asks_44 ?_
        refine j_iconst (pc := 47) hX ic_5 dX10_asks_47 ?_
        refine j_iload_n (pc := 48) hX 1 rfl dX10_asks_48 ?_
        refine j_imul (pc := 49) hX dX10_asks_49 ?_
        refine j_iload_n (pc := 50) hX 2 rfl dX10_asks_50 ?_
        refine j_iadd (pc := 51) hX dX10_asks_51 ?_
        refine j_iald (pc := 52) (n := 10) hX rfl dX10_asks_52 (fun _ => ?_)
        refine j_cne (pc := 53) (tgt := 103) hX rfl dX10_asks_53 (fun _ => ?_) (fun _ => ?_)
        · refine j_aload_n (pc := 56) hX 0 rfl dX10_asks_56 ?_
          refine j_getI (pc := 57) hX fgX10_395.1 fgX10_395.2 rfl dX10_asks_57 ?_
          refine j_iload (pc := 60) hX 5 rfl dX10_asks_60 ?_
          refine j_callSI (pc := 62) (As := fun z => [.int (gI h 0 66), .int v5]) (rest := []) hX (fun r e => m_t_isOf (gI h 0 66) v5 h r e) ymX10_isOf (lw_S q1926 q1927 q154 q1928) ⟨Nat.le_of_ble_eq_true rfl, Nat.le_of_ble_eq_true rfl⟩ rfl rfl (Nat.le_of_ble_eq_true rfl) dX10_asks_62 (fun r4 h5 => ?_)
          refine j_ifeq (pc := 65) (tgt := 71) hX rfl dX10_asks_65 (fun _ => ?_) (fun _ => ?_)
          · refine j_aload_n (pc := 71) hX 0 rfl dX10_asks_71 ?_
            refine j_iload_n (pc := 72) hX 1 rfl dX10_asks_72 ?_
            refine j_iload (pc := 73) hX 5 rfl dX10_asks_73 ?_
            refine j_iload (pc := 75) hX 4 rfl dX10_asks_75 ?_
            refine j_callVI (pc := 77) (a := 0) (As := fun z => [.int f1, .int v5, .int f4]) (rest := []) hX (fun r e => m_t_hears f1 v5 f4 h5 r e) ymX10_hears (lw_V q2085 q2087 qs110 q154 q2088) rfl ckX10 rfl ⟨Nat.le_of_ble_eq_true rfl, Nat.le_of_ble_eq_true rfl⟩ rfl rfl (Nat.le_of_ble_eq_true rfl) dX10_asks_77 (fun r6 h7 => ?_)
            refine j_ifeq (pc := 80) (tgt := 103) hX rfl dX10_asks_80 (fun _ => ?_) (fun _ => ?_)
            · refine j_iinc (pc := 103) hX 5 rfl (1 : Int32) ic_1 (fun x8 => [(5, .int x8), (0, .ref (xz X + 0)), (1, .int f1), (2, .int f2), (3, .int f3), (4, .int f4)]) (fun _ => rfl) (Nat.le_of_ble_eq_true rfl) dX10_asks_103 (fun x8 => ?_)
              refine j_goto (pc := 106) (tgt := 17) hX rfl dX10_asks_106 ?_
              refine j_locs [1, 2, 3, 4, 5, 0] rfl ?_
              exact ih x8 h7
            · refine j_aload_n (pc := 83) hX 0 rfl dX10_asks_83 ?_
              refine j_getR (pc := 84) hX fgX10_100.1 fgX10_100.2 rfl rfl dX10_asks_84 ?_
              refine j_iconst (pc := 87) hX ic_5 dX10_asks_87 ?_
              refine j_iload_n (pc := 88) hX 1 rfl dX10_asks_88 ?_
              refine j_imul (pc := 89) hX dX10_asks_89 ?_
              refine j_iload (pc := 90) hX 5 rfl dX10_asks_90 ?_
              refine j_iadd (pc := 92) hX dX10_asks_92 ?_
              refine j_dup2 (pc := 93) hX rfl rfl dX10_asks_93 ?_
              refine j_iald (pc := 94) (n := 10) hX rfl dX10_asks_94 (fun _ => ?_)
              refine j_aload_n (pc := 95) hX 0 rfl dX10_asks_95 ?_
              refine j_iload (pc := 96) hX 4 rfl dX10_asks_96 ?_
              refine j_callVI (pc := 98) (a := 0) (As := fun z => [.int f4]) (rest := [.int (gI h7 29 ((((5 : Int32) * f1) + v5)).toNatClampNeg), .int (((5 : Int32) * f1) + v5), .ref (xz X + 29)]) hX (fun r e => m_t_supposed f4 h7 r e) ymX10_supposed (lw_V q2028 q2030 qs100 q154 q2031) rfl ckX10 rfl ⟨Nat.le_of_ble_eq_true rfl, Nat.le_of_ble_eq_true rfl⟩ rfl rfl (Nat.le_of_ble_eq_true rfl) dX10_asks_98 (fun r9 h10 => ?_)
              refine j_ior (pc := 101) hX dX10_asks_101 ?_
              refine j_iast (pc := 102) (n := 10) hX rfl dX10_asks_102 (fun _ h11 => ?_)
              refine j_iinc (pc := 103) hX 5 rfl (1 : Int32) ic_1 (fun x12 => [(5, .int x12), (0, .ref (xz X + 0)), (1, .int f1), (2, .int f2), (3, .int f3), (4, .int f4)]) (fun _ => rfl) (Nat.le_of_ble_eq_true rfl) dX10_asks_103 (fun x12 => ?_)
              refine j_goto (pc := 106) (tgt := 17) hX rfl dX10_asks_106 ?_
              refine j_locs [1, 2, 3, 4, 5, 0] rfl ?_
              exact ih x12 h11
          · refine j_goto (pc := 68) (tgt := 103) hX rfl dX10_asks_68 ?_
            refine j_iinc (pc := 103) hX 5 rfl (1 : Int32) ic_1 (fun x13 => [(5, .int x13), (0, .ref (xz X + 0)), (1, .int f1), (2, .int f2), (3, .int f3), (4, .int f4)]) (fun _ => rfl) (Nat.le_of_ble_eq_true rfl) dX10_asks_103 (fun x13 => ?_)
            refine j_goto (pc := 106) (tgt := 17) hX rfl dX10_asks_106 ?_
            refine j_locs [1, 2, 3, 4, 5, 0] rfl ?_
            exact ih x13 h5
        · refine j_iinc (pc := 103) hX 5 rfl (1 : Int32) ic_1 (fun x14 => [(5, .int x14), (0, .ref (xz X + 0)), (1, .int f1), (2, .int f2), (3, .int f3), (4, .int f4)]) (fun _ => rfl) (Nat.le_of_ble_eq_true rfl) dX10_asks_103 (fun x14 => ?_)
          refine j_goto (pc := 106) (tgt := 17) hX rfl dX10_asks_106 ?_
          refine j_locs [1, 2, 3, 4, 5, 0] rfl ?_
          exact ih x14 h
set_option maxHeartbeats 4000000 in
set_option maxRecDepth 100000 in
theorem m_asks_125_w {X : CTX} {rr : Int32 × HP} (hX : okX mV X rr cX10_asks RX10 6 6 123) (hr : (xh X).sig.returnType = some .boolean) (f1 : Int32) (f2 : Int32) (f3 : Int32) (f4 : Int32) (k : HP → Option (Int32 × HP)) (hk : ∀ (h : HP), jG mV X evI rr (k h) 199 [(0, .ref (xz X + 0)), (1, .int f1), (3, .int f3)] [] h) : ∀ (n : Nat) (v5 : Int32) (h : HP), jG mV X evI rr (m_asks_125 f1 f2 f3 f4 k n v5 h) 125 [(0, .ref (xz X + 0)), (1, .int f1), (2, .int f2), (3, .int f3), (4, .int f4), (5, .int v5)] [] h := by
  intro n
  induction n with
  | zero =>
    intro v5 h
    exact j_none
  | succ n ih =>
    intro v5 h
    rw [m_asks_125]
    refine j_iload (pc := 125) hX 5 rfl dX10_asks_125 ?_
    refine j_aload_n (pc := 127) hX 0 rfl dX10_asks_127 ?_
    refine j_getI (pc := 128) hX fgX10_231.1 fgX10_231.2 rfl dX10_asks_128 ?_
    refine j_cge (pc := 131) (tgt := 199) hX rfl dX10_asks_131 (fun _ => ?_) (fun _ => ?_)
    · refine j_locs [0, 1, 3] rfl ?_
      exact hk h
    · refine j_aload_n (pc := 134) hX 0 rfl dX10_asks_134 ?_
      refine j_getR (pc := 135) hX fgX10_106.1 fgX10_106.2 rfl rfl dX10_asks_135 ?_
      refine j_iconst (pc := 138) hX ic_5 dX10_asks_138 ?_
      refine j_iload_n (pc := 139) hX 1 rfl dX10_asks_139 ?_
      refine j_imul (pc := 140) hX dX10_asks_140 ?_
      refine j_iload (pc := 141) hX 5 rfl dX10_asks_141 ?_
      refine j_iadd (pc := 143) hX dX10_asks_143 ?_
      refine j_iald (pc := 144) (n := 10) hX rfl dX10_asks_144 (fun _ => ?_)
      refine j_aload_n (pc := 145) hX 0 rfl dX10_asks_145 ?_
      refine j_getR (pc := 146) hX fgX10_106.1 fgX10_106.2 rfl rfl dX10_asks_146 ?_
      refine j_iconst (pc := 149) hX ic_5 dX10_asks_149 ?_
      refine j_iload_n (pc := 150) hX 1 rfl dX10_asks_150 ?_
      refine j_imul (pc := 151) hX dX10_asks_151 ?_
      refine j_iload_n (pc := 152) hX 2 rfl dX10_asks_152 ?_
      refine j_iadd (pc := 153) hX dX10_asks_153 ?_
      refine j_iald (pc := 154) (n := 10) hX rfl dX10_asks_154 (fun _ => ?_)
      refine j_cne (pc := 155) (tgt := 193) hX rfl dX10_asks_155 (fun _ => ?_) (fun _ => ?_)
      · refine j_aload_n (pc := 158) hX 0 rfl dX10_asks_158 ?_
        refine j_getI (pc := 159) hX fgX10_395.1 fgX10_395.2 rfl dX10_asks_159 ?_
        refine j_iload (pc := 162) hX 5 rfl dX10_asks_162 ?_
        refine j_callSI (pc := 164) (As := fun z => [.int (gI h 0 66), .int v5]) (rest := []) hX (fun r e => m_t_isOf (gI h 0 66) v5 h r e) ymX10_isOf (lw_S q1926 q1927 q154 q1928) ⟨Nat.le_of_ble_eq_true rfl, Nat.le_of_ble_eq_true rfl⟩ rfl rfl (Nat.le_of_ble_eq_true rfl) dX10_asks_164 (fun r19 h20 => ?_)
        refine j_ifne (pc := 167) (tgt := 193) hX rfl dX10_asks_167 (fun _ => ?_) (fun _ => ?_)
        · refine j_aload_n (pc := 170) hX 0 rfl dX10_asks_170 ?_
          refine j_getR (pc := 171) hX fgX10_100.1 fgX10_100.2 rfl rfl dX10_asks_171 ?_
          refine j_iconst (pc := 174) hX ic_5 dX10_asks_174 ?_
          refine j_iload_n (pc := 175) hX 1 rfl dX10_asks_175 ?_
          refine j_imul (pc := 176) hX dX10_asks_176 ?_
          refine j_iload (pc := 177) hX 5 rfl dX10_asks_177 ?_
          refine j_iadd (pc := 179) hX dX10_asks_179 ?_
          refine j_dup2 (pc := 180) hX rfl rfl dX10_asks_180 ?_
          refine j_iald (pc := 181) (n := 10) hX rfl dX10_asks_181 (fun _ => ?_)
          refine j_iconst (pc := 182) hX ic_1 dX10_asks_182 ?_
          refine j_aload_n (pc := 183) hX 0 rfl dX10_asks_183 ?_
          refine j_getR (pc := 184) hX fgX10_57.1 fgX10_57.2 rfl rfl dX10_asks_184 ?_
          refine j_iload (pc := 187) hX 4 rfl dX10_asks_187 ?_
          refine j_iald (pc := 189) (n := 16) hX rfl dX10_asks_189 (fun _ => ?_)
          refine j_ishl (pc := 190) hX dX10_asks_190 ?_
          refine j_ior (pc := 191) hX dX10_asks_191 ?_
          refine j_iast (pc := 192) (n := 10) hX rfl dX10_asks_192 (fun _ h21 => ?_)
          refine j_iinc (pc := 193) hX 5 rfl (1 : Int32) ic_1 (fun x22 => [(5, .int x22), (0, .ref (xz X + 0)), (1, .int f1), (2, .int f2), (3, .int f3), (4, .int f4)]) (fun _ => rfl) (Nat.le_of_ble_eq_true rfl) dX10_asks_193 (fun x22 => ?_)
          refine j_goto (pc := 196) (tgt := 125) hX rfl dX10_asks_196 ?_
          refine j_locs [1, 2, 3, 4, 5, 0] rfl ?_
          exact ih x22 h21
        · refine j_iinc (pc := 193) hX 5 rfl (1 : Int32) ic_1 (fun x23 => [(5, .int x23), (0, .ref (xz X + 0)), (1, .int f1), (2, .int f2), (3, .int f3), (4, .int f4)]) (fun _ => rfl) (Nat.le_of_ble_eq_true rfl) dX10_asks_193 (fun x23 => ?_)
          refine j_goto (pc := 196) (tgt := 125) hX rfl dX10_asks_196 ?_
          refine j_locs [1, 2, 3, 4, 5, 0] rfl ?_
          exact ih x23 h20
      · refine j_iinc (pc := 193) hX 5 rfl (1 : Int32) ic_1 (fun x24 => [(5, .int x24), (0, .ref (xz X + 0)), (1, .int f1), (2, .int f2), (3, .int f3), (4, .int f4)]) (fun _ => rfl) (Nat.le_of_ble_eq_true rfl) dX10_asks_193 (fun x24 => ?_)
        refine j_goto (pc := 196) (tgt := 125) hX rfl dX10_asks_196 ?_
        refine j_locs [1, 2, 3, 4, 5, 0] rfl ?_
        exact ih x24 h
set_option maxHeartbeats 4000000 in
set_option maxRecDepth 100000 in
theorem m_t_asks (a1 : Int32) (a2 : Int32) (a3 : Int32) (a4 : Int32) (h : HP) (rr : Int32 × HP) (e : m_asks a1 a2 a3 a4 h = some rr) : Cn mV yX10_asks (ws_ yX10_asks cX10_asks 6 (some .boolean)) 6 123 (fun z => [.ref (z + 0), .int a1, .int a2, .int a3, .int a4]) h (fun z => eI z rr.1) rr.2 := by
  refine cn_of (e1 := eI) (fun z => [(0, .ref (z + 0)), (1, .int a1), (2, .int a2), (3, .int a3), (4, .int a4)]) mV_ok ⟨Nat.le_refl _, Nat.le_refl _⟩ ymX10_asks (fun _ => rfl) (fun _ => Nat.le_of_ble_eq_true rfl) (fun X hX hr _ => ?_) e
  have hX : okX mV X rr cX10_asks RX10 6 6 123 := hX
  rw [m_asks]
  refine j_aload_n (pc := 0) hX 0 rfl dX10_asks_0 ?_
  refine j_getR (pc := 1) hX fgX10_109.1 fgX10_109.2 rfl rfl dX10_asks_1 ?_
  refine j_iconst (pc := 4) hX ic_5 dX10_asks_4 ?_
  refine j_iload_n (pc := 5) hX 1 rfl dX10_asks_5 ?_
  refine j_imul (pc := 6) hX dX10_asks_6 ?_
  refine j_iload_n (pc := 7) hX 2 rfl dX10_asks_7 ?_
  refine j_iadd (pc := 8) hX dX10_asks_8 ?_
  refine j_dup2 (pc := 9) hX rfl rfl dX10_asks_9 ?_
  refine j_iald (pc := 10) (n := 10) hX rfl dX10_asks_10 (fun _ => ?_)
  refine j_iconst (pc := 11) hX ic_1 dX10_asks_11 ?_
  refine j_iadd (pc := 12) hX dX10_asks_12 ?_
  refine j_iast (pc := 13) (n := 10) hX rfl dX10_asks_13 (fun _ h1 => ?_)
  refine j_iconst (pc := 14) hX ic_0 dX10_asks_14 ?_
  refine j_istore (pc := 15) hX (fun x2 => [(5, .int x2), (0, .ref (xz X + 0)), (1, .int a1), (2, .int a2), (3, .int a3), (4, .int a4)]) (fun _ => rfl) (Nat.le_of_ble_eq_true rfl) dX10_asks_15 (fun x2 => ?_)
  refine j_locs [1, 2, 3, 4, 5, 0] rfl ?_
  refine m_asks_17_w hX hr a1 a2 a3 a4 _ (fun  h15 => ?_) FU x2 h1
  refine j_aload_n (pc := 109) hX 0 rfl dX10_asks_109 ?_
  refine j_iload_n (pc := 110) hX 1 rfl dX10_asks_110 ?_
  refine j_iload_n (pc := 111) hX 3 rfl dX10_asks_111 ?_
  refine j_iload (pc := 112) hX 4 rfl dX10_asks_112 ?_
  refine j_callVI (pc := 114) (a := 0) (As := fun z => [.int a1, .int a3, .int a4]) (rest := []) hX (fun r e => m_t_isSlip a1 a3 a4 h15 r e) ymX10_isSlip (lw_V q2089 q2091 qs111 q154 q2092) rfl ckX10 rfl ⟨Nat.le_of_ble_eq_true rfl, Nat.le_of_ble_eq_true rfl⟩ rfl rfl (Nat.le_of_ble_eq_true rfl) dX10_asks_114 (fun r16 h17 => ?_)
  refine j_ifne (pc := 117) (tgt := 122) hX rfl dX10_asks_117 (fun _ => ?_) (fun _ => ?_)
  · refine j_iconst (pc := 120) hX ic_0 dX10_asks_120 ?_
    exact j_zret (pc := 121) hX (Or.inl rfl) hr dX10_asks_121
  · refine j_iconst (pc := 122) hX ic_0 dX10_asks_122 ?_
    refine j_istore (pc := 123) hX (fun x18 => [(5, .int x18), (0, .ref (xz X + 0)), (1, .int a1), (2, .int a2), (3, .int a3), (4, .int a4)]) (fun _ => rfl) (Nat.le_of_ble_eq_true rfl) dX10_asks_123 (fun x18 => ?_)
    refine j_locs [1, 2, 3, 4, 5, 0] rfl ?_
    refine m_asks_125_w hX hr a1 a2 a3 a4 _ (fun  h25 => ?_) FU x18 h17
    refine j_aload_n (pc := 199) hX 0 rfl dX10_asks_199 ?_
    refine j_getR (pc := 200) hX fgX10_103.1 fgX10_103.2 rfl rfl dX10_asks_200 ?_
    refine j_iconst (pc := 203) hX ic_5 dX10_asks_203 ?_
    refine j_iload_n (pc := 204) hX 1 rfl dX10_asks_204 ?_
    refine j_imul (pc := 205) hX dX10_asks_205 ?_
    refine j_iload_n (pc := 206) hX 2 rfl dX10_asks_206 ?_
    refine j_iadd (pc := 207) hX dX10_asks_207 ?_
    refine j_dup2 (pc := 208) hX rfl rfl dX10_asks_208 ?_
    refine j_iald (pc := 209) (n := 10) hX rfl dX10_asks_209 (fun _ => ?_)
    refine j_iconst (pc := 210) hX ic_1 dX10_asks_210 ?_
    refine j_iadd (pc := 211) hX dX10_asks_211 ?_
    refine j_iast (pc := 212) (n := 10) hX rfl dX10_asks_212 (fun _ h26 => ?_)
    refine j_iconst (pc := 213) hX ic_1 dX10_asks_213 ?_
    exact j_zret (pc := 214) hX (Or.inr rfl) hr dX10_asks_214
set_option maxHeartbeats 4000000 in
set_option maxRecDepth 100000 in
theorem m_t_ask (a1 : Int32) (a2 : Int32) (a3 : Int32) (h : HP) (rr : Int32 × HP) (e : m_ask a1 a2 a3 h = some rr) : Cn mV yX10_ask (ws_ yX10_ask cX10_ask 5 (some .int)) 7 148 (fun z => [.ref (z + 0), .int a1, .int a2, .int a3]) h (fun z => eI z rr.1) rr.2 := by
  refine cn_of (e1 := eI) (fun z => [(0, .ref (z + 0)), (1, .int a1), (2, .int a2), (3, .int a3)]) mV_ok ⟨Nat.le_refl _, Nat.le_refl _⟩ ymX10_ask (fun _ => rfl) (fun _ => Nat.le_of_ble_eq_true rfl) (fun X hX hr _ => ?_) e
  have hX : okX mV X rr cX10_ask RX10 5 7 148 := hX
  rw [m_ask]
  refine j_aload_n (pc := 0) hX 0 rfl dX10_ask_0 ?_
  refine j_iconst (pc := 1) hX ic_0 dX10_ask_1 ?_
  refine j_putI (pc := 2) hX fwX10_148.1 fwX10_148.2 rfl dX10_ask_2 (fun h1 => ?_)
  refine j_aload_n (pc := 5) hX 0 rfl dX10_ask_5 ?_
  refine j_iload_n (pc := 6) hX 1 rfl dX10_ask_6 ?_
  refine j_callVI (pc := 7) (a := 0) (As := fun z => [.int a1]) (rest := []) hX (fun r e => m_t_isPerson a1 h1 r e) ymX10_isPerson (lw_V q2004 q2006 qs96 q154 q2007) rfl ckX10 rfl ⟨Nat.le_of_ble_eq_true rfl, Nat.le_of_ble_eq_true rfl⟩ rfl rfl (Nat.le_of_ble_eq_true rfl) dX10_ask_7 (fun r2 h3 => ?_)
  refine j_ifeq (pc := 10) (tgt := 34) hX rfl dX10_ask_10 (fun _ => ?_) (fun _ => ?_)
  · refine j_iconst (pc := 34) hX ic_m1 dX10_ask_34 ?_
    exact j_iret (pc := 35) hX hr dX10_ask_35
  · refine j_aload_n (pc := 13) hX 0 rfl dX10_ask_13 ?_
    refine j_iload_n (pc := 14) hX 2 rfl dX10_ask_14 ?_
    refine j_callVI (pc := 15) (a := 0) (As := fun z => [.int a2]) (rest := []) hX (fun r e => m_t_isPerson a2 h3 r e) ymX10_isPerson (lw_V q2004 q2006 qs96 q154 q2007) rfl ckX10 rfl ⟨Nat.le_of_ble_eq_true rfl, Nat.le_of_ble_eq_true rfl⟩ rfl rfl (Nat.le_of_ble_eq_true rfl) dX10_ask_15 (fun r4 h5 => ?_)
    refine j_ifeq (pc := 18) (tgt := 34) hX rfl dX10_ask_18 (fun _ => ?_) (fun _ => ?_)
    · refine j_iconst (pc := 34) hX ic_m1 dX10_ask_34 ?_
      exact j_iret (pc := 35) hX hr dX10_ask_35
    · refine j_iload_n (pc := 21) hX 1 rfl dX10_ask_21 ?_
      refine j_iload_n (pc := 22) hX 2 rfl dX10_ask_22 ?_
      refine j_ceq (pc := 23) (tgt := 34) hX rfl dX10_ask_23 (fun _ => ?_) (fun _ => ?_)
      · refine j_iconst (pc := 34) hX ic_m1 dX10_ask_34 ?_
        exact j_iret (pc := 35) hX hr dX10_ask_35
      · refine j_aload_n (pc := 26) hX 0 rfl dX10_ask_26 ?_
        refine j_iload_n (pc := 27) hX 3 rfl dX10_ask_27 ?_
        refine j_callVI (pc := 28) (a := 0) (As := fun z => [.int a3]) (rest := []) hX (fun r e => m_t_isQuestion a3 h5 r e) ymX10_isQuestion (lw_V q2016 q2018 qs98 q154 q2019) rfl ckX10 rfl ⟨Nat.le_of_ble_eq_true rfl, Nat.le_of_ble_eq_true rfl⟩ rfl rfl (Nat.le_of_ble_eq_true rfl) dX10_ask_28 (fun r6 h7 => ?_)
        refine j_ifne (pc := 31) (tgt := 36) hX rfl dX10_ask_31 (fun _ => ?_) (fun _ => ?_)
        · refine j_iconst (pc := 34) hX ic_m1 dX10_ask_34 ?_
          exact j_iret (pc := 35) hX hr dX10_ask_35
        · refine j_aload_n (pc := 36) hX 0 rfl dX10_ask_36 ?_
          refine j_callVV (pc := 37) (a := 0) (As := fun z => []) (rest := []) hX (fun r e => m_t_plainTried h7 r e) ymX10_plainTried (lw_V q1603 q1605 qs66 q154 q1606) rfl ckX10 rfl ⟨Nat.le_of_ble_eq_true rfl, Nat.le_of_ble_eq_true rfl⟩ rfl rfl (Nat.le_of_ble_eq_true rfl) dX10_ask_37 (fun r8 h9 => ?_)
          refine j_aload_n (pc := 40) hX 0 rfl dX10_ask_40 ?_
          refine j_iconst (pc := 41) hX ic_0 dX10_ask_41 ?_
          refine j_iload_n (pc := 42) hX 1 rfl dX10_ask_42 ?_
          refine j_iload_n (pc := 43) hX 2 rfl dX10_ask_43 ?_
          refine j_iload_n (pc := 44) hX 3 rfl dX10_ask_44 ?_
          refine j_callVI (pc := 45) (a := 0) (As := fun z => [.int (0 : Int32), .int a1, .int a2, .int a3]) (rest := []) hX (fun r e => m_t_canAsk (0 : Int32) a1 a2 a3 h9 r e) ymX10_canAsk (lw_V q2024 q2026 qs99 q154 q2027) rfl ckX10 rfl ⟨Nat.le_of_ble_eq_true rfl, Nat.le_of_ble_eq_true rfl⟩ rfl rfl (Nat.le_of_ble_eq_true rfl) dX10_ask_45 (fun r10 h11 => ?_)
          refine j_ifne (pc := 48) (tgt := 54) hX rfl dX10_ask_48 (fun _ => ?_) (fun _ => ?_)
          · refine j_bipush (pc := 51) hX bp_m2 dX10_ask_51 ?_
            exact j_iret (pc := 53) hX hr dX10_ask_53
          · refine j_aload_n (pc := 54) hX 0 rfl dX10_ask_54 ?_
            refine j_callVV (pc := 55) (a := 0) (As := fun z => []) (rest := []) hX (fun r e => m_t_remember h11 r e) ymX10_remember (lw_V q2073 q2075 qs107 q154 q2076) rfl ckX10 rfl ⟨Nat.le_of_ble_eq_true rfl, Nat.le_of_ble_eq_true rfl⟩ rfl rfl (Nat.le_of_ble_eq_true rfl) dX10_ask_55 (fun r12 h13 => ?_)
            refine j_aload_n (pc := 58) hX 0 rfl dX10_ask_58 ?_
            refine j_iconst (pc := 59) hX ic_1 dX10_ask_59 ?_
            refine j_putZ (pc := 60) hX (Or.inr rfl) fwX10_383.1 fwX10_383.2 rfl dX10_ask_60 (fun h14 => ?_)
            refine j_aload_n (pc := 63) hX 0 rfl dX10_ask_63 ?_
            refine j_iconst (pc := 64) hX ic_0 dX10_ask_64 ?_
            refine j_iload_n (pc := 65) hX 1 rfl dX10_ask_65 ?_
            refine j_iload_n (pc := 66) hX 2 rfl dX10_ask_66 ?_
            refine j_iload_n (pc := 67) hX 3 rfl dX10_ask_67 ?_
            refine j_callVI (pc := 68) (a := 0) (As := fun z => [.int (0 : Int32), .int a1, .int a2, .int a3]) (rest := []) hX (fun r e => m_t_asks (0 : Int32) a1 a2 a3 h14 r e) ymX10_asks (lw_V q2081 q2083 qs109 q154 q2084) rfl ckX10 rfl ⟨Nat.le_of_ble_eq_true rfl, Nat.le_of_ble_eq_true rfl⟩ rfl rfl (Nat.le_of_ble_eq_true rfl) dX10_ask_68 (fun r15 h16 => ?_)
            refine j_istore (pc := 71) hX (fun x17 => [(4, .int x17), (0, .ref (xz X + 0)), (1, .int a1), (2, .int a2), (3, .int a3)]) (fun _ => rfl) (Nat.le_of_ble_eq_true rfl) dX10_ask_71 (fun x17 => ?_)
            refine j_aload_n (pc := 73) hX 1 rfl dX10_ask_73 ?_
            refine j_iconst (pc := 74) hX ic_0 dX10_ask_74 ?_
            refine j_putZ (pc := 75) hX (Or.inl rfl) fwX10_383.1 fwX10_383.2 rfl dX10_ask_75 (fun h18 => ?_)
            refine j_aload_n (pc := 78) hX 1 rfl dX10_ask_78 ?_
            refine j_dup (pc := 79) hX rfl dX10_ask_79 ?_
            refine j_getI (pc := 80) hX fgX10_364.1 fgX10_364.2 rfl dX10_ask_80 ?_
            refine j_iconst (pc := 83) hX ic_1 dX10_ask_83 ?_
            refine j_iadd (pc := 84) hX dX10_ask_84 ?_
            refine j_putI (pc := 85) hX fwX10_364.1 fwX10_364.2 rfl dX10_ask_85 (fun h19 => ?_)
            refine j_iload (pc := 88) hX 0 rfl dX10_ask_88 ?_
            refine j_ifeq (pc := 90) (tgt := 97) hX rfl dX10_ask_90 (fun _ => ?_) (fun _ => ?_)
            · refine j_iconst (pc := 97) hX ic_0 dX10_ask_97 ?_
              exact j_iret (pc := 98) hX hr dX10_ask_98
            · refine j_iconst (pc := 93) hX ic_1 dX10_ask_93 ?_
              refine j_goto (pc := 94) (tgt := 98) hX rfl dX10_ask_94 ?_
              exact j_iret (pc := 98) hX hr dX10_ask_98
set_option maxHeartbeats 4000000 in
set_option maxRecDepth 100000 in
theorem m_t_isFact (a1 : Int32) (h : HP) (rr : Int32 × HP) (e : m_isFact a1 h = some rr) : Cn mV yX10_isFact (ws_ yX10_isFact cX10_isFact 2 (some .boolean)) 1 0 (fun z => [.ref (z + 0), .int a1]) h (fun z => eI z rr.1) rr.2 := by
  refine cn_of (e1 := eI) (fun z => [(0, .ref (z + 0)), (1, .int a1)]) mV_ok ⟨Nat.le_refl _, Nat.le_refl _⟩ ymX10_isFact (fun _ => rfl) (fun _ => Nat.le_of_ble_eq_true rfl) (fun X hX hr _ => ?_) e
  have hX : okX mV X rr cX10_isFact RX10 2 1 0 := hX
  rw [m_isFact]
  refine j_iload_n (pc := 0) hX 1 rfl dX10_isFact_0 ?_
  refine j_iflt (pc := 1) (tgt := 16) hX rfl dX10_isFact_1 (fun _ => ?_) (fun _ => ?_)
  · refine j_iconst (pc := 16) hX ic_0 dX10_isFact_16 ?_
    exact j_zret (pc := 17) hX (Or.inl rfl) hr dX10_isFact_17
  · refine j_iload_n (pc := 4) hX 1 rfl dX10_isFact_4 ?_
    refine j_aload_n (pc := 5) hX 0 rfl dX10_isFact_5 ?_
    refine j_getI (pc := 6) hX fgX10_228.1 fgX10_228.2 rfl dX10_isFact_6 ?_
    refine j_cge (pc := 9) (tgt := 16) hX rfl dX10_isFact_9 (fun _ => ?_) (fun _ => ?_)
    · refine j_iconst (pc := 16) hX ic_0 dX10_isFact_16 ?_
      exact j_zret (pc := 17) hX (Or.inl rfl) hr dX10_isFact_17
    · refine j_iconst (pc := 12) hX ic_1 dX10_isFact_12 ?_
      refine j_goto (pc := 13) (tgt := 17) hX rfl dX10_isFact_13 ?_
      exact j_zret (pc := 17) hX (Or.inr rfl) hr dX10_isFact_17
set_option maxHeartbeats 4000000 in
set_option maxRecDepth 100000 in
theorem m_t_tell (a1 : Int32) (a2 : Int32) (h : HP) (rr : Int32 × HP) (e : m_tell a1 a2 h = some rr) : Cn mV yX10_tell (ws_ yX10_tell cX10_tell 3 (some .boolean)) 3 44 (fun z => [.ref (z + 0), .int a1, .int a2]) h (fun z => eI z rr.1) rr.2 := by
  refine cn_of (e1 := eI) (fun z => [(0, .ref (z + 0)), (1, .int a1), (2, .int a2)]) mV_ok ⟨Nat.le_refl _, Nat.le_refl _⟩ ymX10_tell (fun _ => rfl) (fun _ => Nat.le_of_ble_eq_true rfl) (fun X hX hr _ => ?_) e
  have hX : okX mV X rr cX10_tell RX10 3 3 44 := hX
  rw [m_tell]
  refine j_aload_n (pc := 0) hX 0 rfl dX10_tell_0 ?_
  refine j_iconst (pc := 1) hX ic_0 dX10_tell_1 ?_
  refine j_putI (pc := 2) hX fwX10_148.1 fwX10_148.2 rfl dX10_tell_2 (fun h1 => ?_)
  refine j_aload_n (pc := 5) hX 0 rfl dX10_tell_5 ?_
  refine j_iload_n (pc := 6) hX 1 rfl dX10_tell_6 ?_
  refine j_callVI (pc := 7) (a := 0) (As := fun z => [.int a1]) (rest := []) hX (fun r e => m_t_isPerson a1 h1 r e) ymX10_isPerson (lw_V q2004 q2006 qs96 q154 q2007) rfl ckX10 rfl ⟨Nat.le_of_ble_eq_true rfl, Nat.le_of_ble_eq_true rfl⟩ rfl rfl (Nat.le_of_ble_eq_true rfl) dX10_tell_7 (fun r2 h3 => ?_)
  refine j_ifeq (pc := 10) (tgt := 34) hX rfl dX10_tell_10 (fun _ => ?_) (fun _ => ?_)
  · refine j_iconst (pc := 34) hX ic_0 dX10_tell_34 ?_
    exact j_zret (pc := 35) hX (Or.inl rfl) hr dX10_tell_35
  · refine j_aload_n (pc := 13) hX 0 rfl dX10_tell_13 ?_
    refine j_iload_n (pc := 14) hX 2 rfl dX10_tell_14 ?_
    refine j_callVI (pc := 15) (a := 0) (As := fun z => [.int a2]) (rest := []) hX (fun r e => m_t_isFact a2 h3 r e) ymX10_isFact (lw_V q2110 q2112 qs114 q154 q2113) rfl ckX10 rfl ⟨Nat.le_of_ble_eq_true rfl, Nat.le_of_ble_eq_true rfl⟩ rfl rfl (Nat.le_of_ble_eq_true rfl) dX10_tell_15 (fun r4 h5 => ?_)
    refine j_ifeq (pc := 18) (tgt := 34) hX rfl dX10_tell_18 (fun _ => ?_) (fun _ => ?_)
    · refine j_iconst (pc := 34) hX ic_0 dX10_tell_34 ?_
      exact j_zret (pc := 35) hX (Or.inl rfl) hr dX10_tell_35
    · refine j_aload_n (pc := 21) hX 0 rfl dX10_tell_21 ?_
      refine j_getR (pc := 22) hX fgX10_100.1 fgX10_100.2 rfl rfl dX10_tell_22 ?_
      refine j_iload_n (pc := 25) hX 1 rfl dX10_tell_25 ?_
      refine j_iald (pc := 26) (n := 10) hX rfl dX10_tell_26 (fun _ => ?_)
      refine j_iload_n (pc := 27) hX 2 rfl dX10_tell_27 ?_
      refine j_callSI (pc := 28) (As := fun z => [.int (gI h5 29 (a1).toNatClampNeg), .int a2]) (rest := []) hX (fun r e => m_t_isOf (gI h5 29 (a1).toNatClampNeg) a2 h5 r e) ymX10_isOf (lw_S q1926 q1927 q154 q1928) ⟨Nat.le_of_ble_eq_true rfl, Nat.le_of_ble_eq_true rfl⟩ rfl rfl (Nat.le_of_ble_eq_true rfl) dX10_tell_28 (fun r6 h7 => ?_)
      refine j_ifeq (pc := 31) (tgt := 36) hX rfl dX10_tell_31 (fun _ => ?_) (fun _ => ?_)
      · refine j_aload_n (pc := 36) hX 0 rfl dX10_tell_36 ?_
        refine j_callVV (pc := 37) (a := 0) (As := fun z => []) (rest := []) hX (fun r e => m_t_remember h7 r e) ymX10_remember (lw_V q2073 q2075 qs107 q154 q2076) rfl ckX10 rfl ⟨Nat.le_of_ble_eq_true rfl, Nat.le_of_ble_eq_true rfl⟩ rfl rfl (Nat.le_of_ble_eq_true rfl) dX10_tell_37 (fun r8 h9 => ?_)
        refine j_aload_n (pc := 40) hX 0 rfl dX10_tell_40 ?_
        refine j_getR (pc := 41) hX fgX10_100.1 fgX10_100.2 rfl rfl dX10_tell_41 ?_
        refine j_iload_n (pc := 44) hX 1 rfl dX10_tell_44 ?_
        refine j_dup2 (pc := 45) hX rfl rfl dX10_tell_45 ?_
        refine j_iald (pc := 46) (n := 10) hX rfl dX10_tell_46 (fun _ => ?_)
        refine j_iconst (pc := 47) hX ic_1 dX10_tell_47 ?_
        refine j_iload_n (pc := 48) hX 2 rfl dX10_tell_48 ?_
        refine j_ishl (pc := 49) hX dX10_tell_49 ?_
        refine j_ior (pc := 50) hX dX10_tell_50 ?_
        refine j_iast (pc := 51) (n := 10) hX rfl dX10_tell_51 (fun _ h10 => ?_)
        refine j_iconst (pc := 52) hX ic_1 dX10_tell_52 ?_
        exact j_zret (pc := 53) hX (Or.inr rfl) hr dX10_tell_53
      · refine j_iconst (pc := 34) hX ic_0 dX10_tell_34 ?_
        exact j_zret (pc := 35) hX (Or.inl rfl) hr dX10_tell_35
set_option maxHeartbeats 4000000 in
set_option maxRecDepth 100000 in
theorem m_t_send (a1 : Int32) (a2 : Int32) (h : HP) (rr : Int32 × HP) (e : m_send a1 a2 h = some rr) : Cn mV yX10_send (ws_ yX10_send cX10_send 3 (some .boolean)) 3 44 (fun z => [.ref (z + 0), .int a1, .int a2]) h (fun z => eI z rr.1) rr.2 := by
  refine cn_of (e1 := eI) (fun z => [(0, .ref (z + 0)), (1, .int a1), (2, .int a2)]) mV_ok ⟨Nat.le_refl _, Nat.le_refl _⟩ ymX10_send (fun _ => rfl) (fun _ => Nat.le_of_ble_eq_true rfl) (fun X hX hr _ => ?_) e
  have hX : okX mV X rr cX10_send RX10 3 3 44 := hX
  rw [m_send]
  refine j_aload_n (pc := 0) hX 0 rfl dX10_send_0 ?_
  refine j_iconst (pc := 1) hX ic_0 dX10_send_1 ?_
  refine j_putI (pc := 2) hX fwX10_148.1 fwX10_148.2 rfl dX10_send_2 (fun h1 => ?_)
  refine j_aload_n (pc := 5) hX 0 rfl dX10_send_5 ?_
  refine j_iload_n (pc := 6) hX 1 rfl dX10_send_6 ?_
  refine j_callVI (pc := 7) (a := 0) (As := fun z => [.int a1]) (rest := []) hX (fun r e => m_t_isPerson a1 h1 r e) ymX10_isPerson (lw_V q2004 q2006 qs96 q154 q2007) rfl ckX10 rfl ⟨Nat.le_of_ble_eq_true rfl, Nat.le_of_ble_eq_true rfl⟩ rfl rfl (Nat.le_of_ble_eq_true rfl) dX10_send_7 (fun r2 h3 => ?_)
  refine j_ifeq (pc := 10) (tgt := 32) hX rfl dX10_send_10 (fun _ => ?_) (fun _ => ?_)
  · refine j_iconst (pc := 32) hX ic_0 dX10_send_32 ?_
    exact j_zret (pc := 33) hX (Or.inl rfl) hr dX10_send_33
  · refine j_iload_n (pc := 13) hX 2 rfl dX10_send_13 ?_
    refine j_iconst (pc := 14) hX ic_0 dX10_send_14 ?_
    refine j_iconst (pc := 15) hX ic_3 dX10_send_15 ?_
    refine j_callSI (pc := 16) (As := fun z => [.int a2, .int (0 : Int32), .int (3 : Int32)]) (rest := []) hX (fun r e => m_t_isIn a2 (0 : Int32) (3 : Int32) h3 r e) ymX10_isIn (lw_S q1915 q1916 q154 q1917) ⟨Nat.le_of_ble_eq_true rfl, Nat.le_of_ble_eq_true rfl⟩ rfl rfl (Nat.le_of_ble_eq_true rfl) dX10_send_16 (fun r4 h5 => ?_)
    refine j_ifeq (pc := 19) (tgt := 32) hX rfl dX10_send_19 (fun _ => ?_) (fun _ => ?_)
    · refine j_iconst (pc := 32) hX ic_0 dX10_send_32 ?_
      exact j_zret (pc := 33) hX (Or.inl rfl) hr dX10_send_33
    · refine j_aload_n (pc := 22) hX 0 rfl dX10_send_22 ?_
      refine j_getR (pc := 23) hX fgX10_106.1 fgX10_106.2 rfl rfl dX10_send_23 ?_
      refine j_iload_n (pc := 26) hX 1 rfl dX10_send_26 ?_
      refine j_iald (pc := 27) (n := 10) hX rfl dX10_send_27 (fun _ => ?_)
      refine j_iload_n (pc := 28) hX 2 rfl dX10_send_28 ?_
      refine j_cne (pc := 29) (tgt := 34) hX rfl dX10_send_29 (fun _ => ?_) (fun _ => ?_)
      · refine j_iconst (pc := 32) hX ic_0 dX10_send_32 ?_
        exact j_zret (pc := 33) hX (Or.inl rfl) hr dX10_send_33
      · refine j_aload_n (pc := 34) hX 0 rfl dX10_send_34 ?_
        refine j_callVV (pc := 35) (a := 0) (As := fun z => []) (rest := []) hX (fun r e => m_t_remember h5 r e) ymX10_remember (lw_V q2073 q2075 qs107 q154 q2076) rfl ckX10 rfl ⟨Nat.le_of_ble_eq_true rfl, Nat.le_of_ble_eq_true rfl⟩ rfl rfl (Nat.le_of_ble_eq_true rfl) dX10_send_35 (fun r6 h7 => ?_)
        refine j_aload_n (pc := 38) hX 0 rfl dX10_send_38 ?_
        refine j_getR (pc := 39) hX fgX10_106.1 fgX10_106.2 rfl rfl dX10_send_39 ?_
        refine j_iload_n (pc := 42) hX 1 rfl dX10_send_42 ?_
        refine j_iload_n (pc := 43) hX 2 rfl dX10_send_43 ?_
        refine j_iast (pc := 44) (n := 10) hX rfl dX10_send_44 (fun _ h8 => ?_)
        refine j_iconst (pc := 45) hX ic_1 dX10_send_45 ?_
        exact j_zret (pc := 46) hX (Or.inr rfl) hr dX10_send_46
set_option maxHeartbeats 4000000 in
set_option maxRecDepth 100000 in
theorem m_end_35_w {X : CTX} {rr : Int32 × HP} (hX : okX mV X rr cX10_end RX10 2 3 44) (hr : (xh X).sig.returnType = some .int)  (k : HP → Option (Int32 × HP)) (hk : ∀ (h : HP), jG mV X evI rr (k h) 53 [(0, .ref (xz X + 0))] [] h) : ∀ (n : Nat) (v1 : Int32) (h : HP), jG mV X evI rr (m_end_35 k n v1 h) 35 [(0, .ref (xz X + 0)), (1, .int v1)] [] h := by
  intro n
  induction n with
  | zero =>
    intro v1 h
    exact j_none
  | succ n ih =>
    intro v1 h
    rw [m_end_35]
    refine j_iload_n (pc := 35) hX 1 rfl dX10_end_35 ?_
    refine j_iconst (pc := 36) hX ic_5 dX10_end_36 ?_
    refine j_cge (pc := 37) (tgt := 53) hX rfl dX10_end_37 (fun _ => ?_) (fun _ => ?_)
    · refine j_locs [0] rfl ?_
      exact hk h
    · refine j_aload_n (pc := 40) hX 0 rfl dX10_end_40 ?_
      refine j_getR (pc := 41) hX fgX10_109.1 fgX10_109.2 rfl rfl dX10_end_41 ?_
      refine j_iload_n (pc := 44) hX 1 rfl dX10_end_44 ?_
      refine j_iconst (pc := 45) hX ic_0 dX10_end_45 ?_
      refine j_iast (pc := 46) (n := 10) hX rfl dX10_end_46 (fun _ h6 => ?_)
      refine j_iinc (pc := 47) hX 1 rfl (1 : Int32) ic_1 (fun x7 => [(1, .int x7), (0, .ref (xz X + 0))]) (fun _ => rfl) (Nat.le_of_ble_eq_true rfl) dX10_end_47 (fun x7 => ?_)
      refine j_goto (pc := 50) (tgt := 35) hX rfl dX10_end_50 ?_
      refine j_locs [1, 0] rfl ?_
      exact ih x7 h6
set_option maxHeartbeats 4000000 in
set_option maxRecDepth 100000 in
theorem m_t_end  (h : HP) (rr : Int32 × HP) (e : m_end  h = some rr) : Cn mV yX10_end (ws_ yX10_end cX10_end 2 (some .int)) 3 44 (fun z => [.ref (z + 0)]) h (fun z => eI z rr.1) rr.2 := by
  refine cn_of (e1 := eI) (fun z => [(0, .ref (z + 0))]) mV_ok ⟨Nat.le_refl _, Nat.le_refl _⟩ ymX10_end (fun _ => rfl) (fun _ => Nat.le_of_ble_eq_true rfl) (fun X hX hr _ => ?_) e
  have hX : okX mV X rr cX10_end RX10 2 3 44 := hX
  rw [m_end]
  refine j_aload_n (pc := 0) hX 0 rfl dX10_end_0 ?_
  refine j_iconst (pc := 1) hX ic_0 dX10_end_1 ?_
  refine j_putI (pc := 2) hX fwX10_148.1 fwX10_148.2 rfl dX10_end_2 (fun h1 => ?_)
  refine j_aload_n (pc := 5) hX 0 rfl dX10_end_5 ?_
  refine j_getR (pc := 6) hX fgX10_112.1 fgX10_112.2 rfl rfl dX10_end_6 ?_
  refine j_iconst (pc := 9) hX ic_0 dX10_end_9 ?_
  refine j_iald (pc := 10) (n := 2) hX rfl dX10_end_10 (fun _ => ?_)
  refine j_sipush (pc := 11) hX sp_999 dX10_end_11 ?_
  refine j_cne (pc := 14) (tgt := 19) hX rfl dX10_end_14 (fun _ => ?_) (fun _ => ?_)
  · refine j_iconst (pc := 17) hX ic_m1 dX10_end_17 ?_
    exact j_iret (pc := 18) hX hr dX10_end_18
  · refine j_aload_n (pc := 19) hX 0 rfl dX10_end_19 ?_
    refine j_callVV (pc := 20) (a := 0) (As := fun z => []) (rest := []) hX (fun r e => m_t_remember h1 r e) ymX10_remember (lw_V q2073 q2075 qs107 q154 q2076) rfl ckX10 rfl ⟨Nat.le_of_ble_eq_true rfl, Nat.le_of_ble_eq_true rfl⟩ rfl rfl (Nat.le_of_ble_eq_true rfl) dX10_end_20 (fun r2 h3 => ?_)
    refine j_aload_n (pc := 23) hX 0 rfl dX10_end_23 ?_
    refine j_getR (pc := 24) hX fgX10_112.1 fgX10_112.2 rfl rfl dX10_end_24 ?_
    refine j_iconst (pc := 27) hX ic_0 dX10_end_27 ?_
    refine j_dup2 (pc := 28) hX rfl rfl dX10_end_28 ?_
    refine j_iald (pc := 29) (n := 2) hX rfl dX10_end_29 (fun _ => ?_)
    refine j_iconst (pc := 30) hX ic_1 dX10_end_30 ?_
    refine j_iadd (pc := 31) hX dX10_end_31 ?_
    refine j_iast (pc := 32) (n := 2) hX rfl dX10_end_32 (fun _ h4 => ?_)
    refine j_iconst (pc := 33) hX ic_0 dX10_end_33 ?_
    refine j_istore_n (pc := 34) hX (fun x5 => [(1, .int x5), (0, .ref (xz X + 0))]) (fun _ => rfl) (Nat.le_of_ble_eq_true rfl) dX10_end_34 (fun x5 => ?_)
    refine j_locs [1, 0] rfl ?_
    refine m_end_35_w hX hr  _ (fun  h8 => ?_) FU x5 h4
    refine j_aload_n (pc := 53) hX 0 rfl dX10_end_53 ?_
    refine j_getR (pc := 54) hX fgX10_112.1 fgX10_112.2 rfl rfl dX10_end_54 ?_
    refine j_iconst (pc := 57) hX ic_0 dX10_end_57 ?_
    refine j_iald (pc := 58) (n := 2) hX rfl dX10_end_58 (fun _ => ?_)
    exact j_iret (pc := 59) hX hr dX10_end_59
set_option maxHeartbeats 4000000 in
set_option maxRecDepth 100000 in
theorem m_layTried_2_w {X : CTX} {rr : Unit × HP} (hX : okX mV X rr cX10_layTried RX10 2 2 20) (hr : (xh X).sig.returnType = none)  (k : HP → Option (Unit × HP)) (hk : ∀ (h : HP), jG mV X evV rr (k h) 69 [(0, .ref (xz X + 0))] [] h) : ∀ (n : Nat) (v1 : Int32) (h : HP), jG mV X evV rr (m_layTried_2 k n v1 h) 2 [(0, .ref (xz X + 0)), (1, .int v1)] [] h := by
  intro n
  induction n with
  | zero =>
    intro v1 h
    exact j_none
  | succ n ih =>
    intro v1 h
    rw [m_layTried_2]
    refine j_iload_n (pc := 2) hX 1 rfl dX10_layTried_2 ?_
    refine j_iconst (pc := 3) hX ic_5 dX10_layTried_3 ?_
    refine j_cge (pc := 4) (tgt := 69) hX rfl dX10_layTried_4 (fun _ => ?_) (fun _ => ?_)
    · refine j_locs [0] rfl ?_
      exact hk h
    · refine j_aload_n (pc := 7) hX 0 rfl dX10_layTried_7 ?_
      refine j_getR (pc := 8) hX fgX10_100.1 fgX10_100.2 rfl rfl dX10_layTried_8 ?_
      refine j_iconst (pc := 11) hX ic_5 dX10_layTried_11 ?_
      refine j_iload_n (pc := 12) hX 1 rfl dX10_layTried_12 ?_
      refine j_iadd (pc := 13) hX dX10_layTried_13 ?_
      refine j_aload_n (pc := 14) hX 0 rfl dX10_layTried_14 ?_
      refine j_getR (pc := 15) hX fgX10_100.1 fgX10_100.2 rfl rfl dX10_layTried_15 ?_
      refine j_iload_n (pc := 18) hX 1 rfl dX10_layTried_18 ?_
      refine j_iald (pc := 19) (n := 10) hX rfl dX10_layTried_19 (fun _ => ?_)
      refine j_iast (pc := 20) (n := 10) hX rfl dX10_layTried_20 (fun _ h2 => ?_)
      refine j_aload_n (pc := 21) hX 0 rfl dX10_layTried_21 ?_
      refine j_getR (pc := 22) hX fgX10_103.1 fgX10_103.2 rfl rfl dX10_layTried_22 ?_
      refine j_iconst (pc := 25) hX ic_5 dX10_layTried_25 ?_
      refine j_iload_n (pc := 26) hX 1 rfl dX10_layTried_26 ?_
      refine j_iadd (pc := 27) hX dX10_layTried_27 ?_
      refine j_aload_n (pc := 28) hX 0 rfl dX10_layTried_28 ?_
      refine j_getR (pc := 29) hX fgX10_103.1 fgX10_103.2 rfl rfl dX10_layTried_29 ?_
      refine j_iload_n (pc := 32) hX 1 rfl dX10_layTried_32 ?_
      refine j_iald (pc := 33) (n := 10) hX rfl dX10_layTried_33 (fun _ => ?_)
      refine j_iast (pc := 34) (n := 10) hX rfl dX10_layTried_34 (fun _ h3 => ?_)
      refine j_aload_n (pc := 35) hX 0 rfl dX10_layTried_35 ?_
      refine j_getR (pc := 36) hX fgX10_106.1 fgX10_106.2 rfl rfl dX10_layTried_36 ?_
      refine j_iconst (pc := 39) hX ic_5 dX10_layTried_39 ?_
      refine j_iload_n (pc := 40) hX 1 rfl dX10_layTried_40 ?_
      refine j_iadd (pc := 41) hX dX10_layTried_41 ?_
      refine j_aload_n (pc := 42) hX 0 rfl dX10_layTried_42 ?_
      refine j_getR (pc := 43) hX fgX10_106.1 fgX10_106.2 rfl rfl dX10_layTried_43 ?_
      refine j_iload_n (pc := 46) hX 1 rfl dX10_layTried_46 ?_
      refine j_iald (pc := 47) (n := 10) hX rfl dX10_layTried_47 (fun _ => ?_)
      refine j_iast (pc := 48) (n := 10) hX rfl dX10_layTried_48 (fun _ h4 => ?_)
      refine j_aload_n (pc := 49) hX 0 rfl dX10_layTried_49 ?_
      refine j_getR (pc := 50) hX fgX10_109.1 fgX10_109.2 rfl rfl dX10_layTried_50 ?_
      refine j_iconst (pc := 53) hX ic_5 dX10_layTried_53 ?_
      refine j_iload_n (pc := 54) hX 1 rfl dX10_layTried_54 ?_
      refine j_iadd (pc := 55) hX dX10_layTried_55 ?_
      refine j_aload_n (pc := 56) hX 0 rfl dX10_layTried_56 ?_
      refine j_getR (pc := 57) hX fgX10_109.1 fgX10_109.2 rfl rfl dX10_layTried_57 ?_
      refine j_iload_n (pc := 60) hX 1 rfl dX10_layTried_60 ?_
      refine j_iald (pc := 61) (n := 10) hX rfl dX10_layTried_61 (fun _ => ?_)
      refine j_iast (pc := 62) (n := 10) hX rfl dX10_layTried_62 (fun _ h5 => ?_)
      refine j_iinc (pc := 63) hX 1 rfl (1 : Int32) ic_1 (fun x6 => [(1, .int x6), (0, .ref (xz X + 0))]) (fun _ => rfl) (Nat.le_of_ble_eq_true rfl) dX10_layTried_63 (fun x6 => ?_)
      refine j_goto (pc := 66) (tgt := 2) hX rfl dX10_layTried_66 ?_
      refine j_locs [1, 0] rfl ?_
      exact ih x6 h5
set_option maxHeartbeats 4000000 in
set_option maxRecDepth 100000 in
theorem m_t_layTried  (h : HP) (rr : Unit × HP) (e : m_layTried  h = some rr) : Cn mV yX10_layTried (ws_ yX10_layTried cX10_layTried 2 (none)) 2 20 (fun z => [.ref (z + 0)]) h (fun z => eV z rr.1) rr.2 := by
  refine cn_of (e1 := eV) (fun z => [(0, .ref (z + 0))]) mV_ok ⟨Nat.le_refl _, Nat.le_refl _⟩ ymX10_layTried (fun _ => rfl) (fun _ => Nat.le_of_ble_eq_true rfl) (fun X hX hr _ => ?_) e
  have hX : okX mV X rr cX10_layTried RX10 2 2 20 := hX
  rw [m_layTried]
  refine j_iconst (pc := 0) hX ic_0 dX10_layTried_0 ?_
  refine j_istore_n (pc := 1) hX (fun x1 => [(1, .int x1), (0, .ref (xz X + 0))]) (fun _ => rfl) (Nat.le_of_ble_eq_true rfl) dX10_layTried_1 (fun x1 => ?_)
  refine j_locs [1, 0] rfl ?_
  refine m_layTried_2_w hX hr  _ (fun  h7 => ?_) FU x1 h
  refine j_aload_n (pc := 69) hX 0 rfl dX10_layTried_69 ?_
  refine j_getR (pc := 70) hX fgX10_112.1 fgX10_112.2 rfl rfl dX10_layTried_70 ?_
  refine j_iconst (pc := 73) hX ic_1 dX10_layTried_73 ?_
  refine j_aload_n (pc := 74) hX 0 rfl dX10_layTried_74 ?_
  refine j_getR (pc := 75) hX fgX10_112.1 fgX10_112.2 rfl rfl dX10_layTried_75 ?_
  refine j_iconst (pc := 78) hX ic_0 dX10_layTried_78 ?_
  refine j_iald (pc := 79) (n := 2) hX rfl dX10_layTried_79 (fun _ => ?_)
  refine j_iast (pc := 80) (n := 2) hX rfl dX10_layTried_80 (fun _ h8 => ?_)
  refine j_aload_n (pc := 81) hX 0 rfl dX10_layTried_81 ?_
  refine j_callVV (pc := 82) (a := 0) (As := fun z => []) (rest := []) hX (fun r e => m_t_plainTried h8 r e) ymX10_plainTried (lw_V q1603 q1605 qs66 q154 q1606) rfl ckX10 rfl ⟨Nat.le_of_ble_eq_true rfl, Nat.le_of_ble_eq_true rfl⟩ rfl rfl (Nat.le_of_ble_eq_true rfl) dX10_layTried_82 (fun r9 h10 => ?_)
  exact j_vret (pc := 85) hX hr dX10_layTried_85
set_option maxHeartbeats 4000000 in
set_option maxRecDepth 100000 in
theorem m_sumIn_4_w {X : CTX} {rr : Int32 × HP} (hX : okX mV X rr cX10_sumIn RX10 4 2 22) (hr : (xh X).sig.returnType = some .int) (f1 : Int32) (k : Int32 → HP → Option (Int32 × HP)) (hk : ∀ (v2 : Int32) (h : HP), jG mV X evI rr (k v2 h) 49 [(2, .int v2)] [] h) : ∀ (n : Nat) (v2 : Int32) (v3 : Int32) (h : HP), jG mV X evI rr (m_sumIn_4 f1 k n v2 v3 h) 4 [(0, .ref (xz X + 0)), (1, .int f1), (2, .int v2), (3, .int v3)] [] h := by
  intro n
  induction n with
  | zero =>
    intro v2 v3 h
    exact j_none
  | succ n ih =>
    intro v2 v3 h
    rw [m_sumIn_4]
    refine j_iload_n (pc := 4) hX 3 rfl dX10_sumIn_4 ?_
    refine j_aload_n (pc := 5) hX 0 rfl dX10_sumIn_5 ?_
    refine j_getI (pc := 6) hX fgX10_231.1 fgX10_231.2 rfl dX10_sumIn_6 ?_
    refine j_cge (pc := 9) (tgt := 49) hX rfl dX10_sumIn_9 (fun _ => ?_) (fun _ => ?_)
    · refine j_locs [2] rfl ?_
      exact hk v2 h
    · refine j_iload_n (pc := 12) hX 2 rfl dX10_sumIn_12 ?_
      refine j_aload_n (pc := 13) hX 0 rfl dX10_sumIn_13 ?_
      refine j_getI (pc := 14) hX fgX10_395.1 fgX10_395.2 rfl dX10_sumIn_14 ?_
      refine j_iload_n (pc := 17) hX 3 rfl dX10_sumIn_17 ?_
      refine j_callSI (pc := 18) (As := fun z => [.int (gI h 0 66), .int v3]) (rest := [.int v2]) hX (fun r e => m_t_isOf (gI h 0 66) v3 h r e) ymX10_isOf (lw_S q1926 q1927 q154 q1928) ⟨Nat.le_of_ble_eq_true rfl, Nat.le_of_ble_eq_true rfl⟩ rfl rfl (Nat.le_of_ble_eq_true rfl) dX10_sumIn_18 (fun r3 h4 => ?_)
      refine j_jon (fun (j5 : Int32 → HP → Option (Int32 × HP)) => ∀ (s6 : Int32) (h7 : HP), jG mV X evI rr (j5 s6 h7) 41 [(0, .ref (xz X + 0)), (1, .int f1), (3, .int v3)] [.int s6, .int v2] h7) ?_ ?_
      · intro s6 h7
        refine j_iadd (pc := 41) hX dX10_sumIn_41 ?_
        refine j_istore_n (pc := 42) hX (fun x8 => [(2, .int x8), (0, .ref (xz X + 0)), (1, .int f1), (3, .int v3)]) (fun _ => rfl) (Nat.le_of_ble_eq_true rfl) dX10_sumIn_42 (fun x8 => ?_)
        refine j_iinc (pc := 43) hX 3 rfl (1 : Int32) ic_1 (fun x9 => [(3, .int x9), (2, .int x8), (0, .ref (xz X + 0)), (1, .int f1)]) (fun _ => rfl) (Nat.le_of_ble_eq_true rfl) dX10_sumIn_43 (fun x9 => ?_)
        refine j_goto (pc := 46) (tgt := 4) hX rfl dX10_sumIn_46 ?_
        refine j_locs [2, 3, 1, 0] rfl ?_
        exact ih x8 x9 h7
      · intro j5 hj5
        refine j_ifeq (pc := 21) (tgt := 28) hX rfl dX10_sumIn_21 (fun _ => ?_) (fun _ => ?_)
        · refine j_aload_n (pc := 28) hX 0 rfl dX10_sumIn_28 ?_
          refine j_getR (pc := 29) hX fgX10_100.1 fgX10_100.2 rfl rfl dX10_sumIn_29 ?_
          refine j_iconst (pc := 32) hX ic_5 dX10_sumIn_32 ?_
          refine j_iload_n (pc := 33) hX 1 rfl dX10_sumIn_33 ?_
          refine j_imul (pc := 34) hX dX10_sumIn_34 ?_
          refine j_iload_n (pc := 35) hX 3 rfl dX10_sumIn_35 ?_
          refine j_iadd (pc := 36) hX dX10_sumIn_36 ?_
          refine j_iald (pc := 37) (n := 10) hX rfl dX10_sumIn_37 (fun _ => ?_)
          refine j_callSI (pc := 38) (As := fun z => [.int (gI h4 29 ((((5 : Int32) * f1) + v3)).toNatClampNeg)]) (rest := [.int v2]) hX (fun r e => m_t_manyOf (gI h4 29 ((((5 : Int32) * f1) + v3)).toNatClampNeg) h4 r e) ymX10_manyOf (lw_S q2045 q2046 q154 q2047) ⟨Nat.le_of_ble_eq_true rfl, Nat.le_of_ble_eq_true rfl⟩ rfl rfl (Nat.le_of_ble_eq_true rfl) dX10_sumIn_38 (fun r10 h11 => ?_)
          refine j_locs [0, 1, 3] rfl ?_
          exact hj5 r10 h11
        · refine j_iconst (pc := 24) hX ic_0 dX10_sumIn_24 ?_
          refine j_goto (pc := 25) (tgt := 41) hX rfl dX10_sumIn_25 ?_
          refine j_locs [0, 1, 3] rfl ?_
          exact hj5 (0 : Int32) h4
set_option maxHeartbeats 4000000 in
set_option maxRecDepth 100000 in
theorem m_t_sumIn (a1 : Int32) (h : HP) (rr : Int32 × HP) (e : m_sumIn a1 h = some rr) : Cn mV yX10_sumIn (ws_ yX10_sumIn cX10_sumIn 4 (some .int)) 2 22 (fun z => [.ref (z + 0), .int a1]) h (fun z => eI z rr.1) rr.2 := by
  refine cn_of (e1 := eI) (fun z => [(0, .ref (z + 0)), (1, .int a1)]) mV_ok ⟨Nat.le_refl _, Nat.le_refl _⟩ ymX10_sumIn (fun _ => rfl) (fun _ => Nat.le_of_ble_eq_true rfl) (fun X hX hr _ => ?_) e
  have hX : okX mV X rr cX10_sumIn RX10 4 2 22 := hX
  rw [m_sumIn]
  refine j_iconst (pc := 0) hX ic_0 dX10_sumIn_0 ?_
  refine j_istore_n (pc := 1) hX (fun x1 => [(2, .int x1), (0, .ref (xz X + 0)), (1, .int a1)]) (fun _ => rfl) (Nat.le_of_ble_eq_true rfl) dX10_sumIn_1 (fun x1 => ?_)
  refine j_iconst (pc := 2) hX ic_0 dX10_sumIn_2 ?_
  refine j_istore_n (pc := 3) hX (fun x2 => [(3, .int x2), (2, .int x1), (0, .ref (xz X + 0)), (1, .int a1)]) (fun _ => rfl) (Nat.le_of_ble_eq_true rfl) dX10_sumIn_3 (fun x2 => ?_)
  refine j_locs [2, 3, 1, 0] rfl ?_
  refine m_sumIn_4_w hX hr a1 _ (fun x12 h13 => ?_) FU x1 x2 h
  refine j_iload_n (pc := 49) hX 0 rfl dX10_sumIn_49 ?_
  exact j_iret (pc := 50) hX hr dX10_sumIn_50
set_option maxHeartbeats 4000000 in
set_option maxRecDepth 100000 in
theorem m_askAll_42_w {X : CTX} {rr : Unit × HP} (hX : okX mV X rr cX10_askAll RX10 7 7 148) (hr : (xh X).sig.returnType = none) (f2 : Int32) (f3 : Int32) (f4 : Int32) (k : HP → Option (Unit × HP)) (hk : ∀ (h : HP), jG mV X evV rr (k h) 90 [(0, .ref (xz X + 0)), (2, .int f2), (3, .int f3), (4, .int f4)] [] h) : ∀ (n : Nat) (v5 : Int32) (h : HP), jG mV X evV rr (m_askAll_42 f2 f3 f4 k n v5 h) 42 [(0, .ref (xz X + 0)), (2, .int f2), (3, .int f3), (4, .int f4), (5, .int v5)] [] h := by
  intro n
  induction n with
  | zero =>
    intro v5 h
    exact j_none
  | succ n ih =>
    intro v5 h
    rw [m_askAll_42]
    refine j_iload (pc := 42) hX 4 rfl dX10_askAll_42 ?_
    refine j_aload_n (pc := 44) hX 0 rfl dX10_askAll_44 ?_
    refine j_getI (pc := 45) hX fgX10_234.1 fgX10_234.2 rfl dX10_askAll_45 ?_
    refine j_cge (pc := 48) (tgt := 90) hX rfl dX10_askAll_48 (fun _ => ?_) (fun _ => ?_)
    · refine j_locs [0, 1, 2, 3] rfl ?_
      exact hk h
    · refine j_aload_n (pc := 51) hX 0 rfl dX10_askAll_51 ?_
      refine j_iconst (pc := 52) hX ic_1 dX10_askAll_52 ?_
      refine j_iload_n (pc := 53) hX 2 rfl dX10_askAll_53 ?_
      refine j_iload (pc := 54) hX 3 rfl dX10_askAll_54 ?_
      refine j_iload (pc := 56) hX 4 rfl dX10_askAll_56 ?_
      refine j_callVI (pc := 58) (a := 0) (As := fun z => [.int (1 : Int32), .int f3, .int f4, .int v5]) (rest := []) hX (fun r e => m_t_canAsk (1 : Int32) f3 f4 v5 h r e) ymX10_canAsk (lw_V q2024 q2026 qs99 q154 q2027) rfl ckX10 rfl ⟨Nat.le_of_ble_eq_true rfl, Nat.le_of_ble_eq_true rfl⟩ rfl rfl (Nat.le_of_ble_eq_true rfl) dX10_askAll_58 (fun r9 h10 => ?_)
      refine j_jon (fun (j11 : HP → Option (Unit × HP)) => ∀ (h12 : HP), jG mV X evV rr (j11 h12) 81 [(0, .ref (xz X + 0)), (2, .int f2), (3, .int f3), (4, .int f4), (5, .int v5)] [] h12) ?_ ?_
      · intro h12
        refine j_iconst (pc := 81) hX ic_0 dX10_askAll_81 ?_
        refine j_istore (pc := 82) hX (fun x13 => [(6, .int x13), (0, .ref (xz X + 0)), (2, .int f2), (3, .int f3), (4, .int f4), (5, .int v5)]) (fun _ => rfl) (Nat.le_of_ble_eq_true rfl) dX10_askAll_82 (fun x13 => ?_)
        refine j_iinc (pc := 84) hX 5 rfl (1 : Int32) ic_1 (fun x14 => [(5, .int x14), (6, .int x13), (0, .ref (xz X + 0)), (2, .int f2), (3, .int f3), (4, .int f4)]) (fun _ => rfl) (Nat.le_of_ble_eq_true rfl) dX10_askAll_84 (fun x14 => ?_)
        refine j_goto (pc := 87) (tgt := 42) hX rfl dX10_askAll_87 ?_
        refine j_locs [2, 3, 4, 5, 0] rfl ?_
        exact ih x14 h12
      · intro j11 hj11
        refine j_ifeq (pc := 61) (tgt := 81) hX rfl dX10_askAll_61 (fun _ => ?_) (fun _ => ?_)
        · exact hj11 h10
        · refine j_aload_n (pc := 64) hX 0 rfl dX10_askAll_64 ?_
          refine j_iconst (pc := 65) hX ic_1 dX10_askAll_65 ?_
          refine j_iload_n (pc := 66) hX 2 rfl dX10_askAll_66 ?_
          refine j_iload (pc := 67) hX 3 rfl dX10_askAll_67 ?_
          refine j_iload (pc := 69) hX 4 rfl dX10_askAll_69 ?_
          refine j_callVI (pc := 71) (a := 0) (As := fun z => [.int (1 : Int32), .int f3, .int f4, .int v5]) (rest := []) hX (fun r e => m_t_asks (1 : Int32) f3 f4 v5 h10 r e) ymX10_asks (lw_V q2081 q2083 qs109 q154 q2084) rfl ckX10 rfl ⟨Nat.le_of_ble_eq_true rfl, Nat.le_of_ble_eq_true rfl⟩ rfl rfl (Nat.le_of_ble_eq_true rfl) dX10_askAll_71 (fun r15 h16 => ?_)
          refine j_ifeq (pc := 74) (tgt := 81) hX rfl dX10_askAll_74 (fun _ => ?_) (fun _ => ?_)
          · exact hj11 h16
          · refine j_iconst (pc := 77) hX ic_1 dX10_askAll_77 ?_
            refine j_goto (pc := 78) (tgt := 82) hX rfl dX10_askAll_78 ?_
            refine j_istore (pc := 82) hX (fun x17 => [(6, .int x17), (0, .ref (xz X + 0)), (2, .int f2), (3, .int f3), (4, .int f4), (5, .int v5)]) (fun _ => rfl) (Nat.le_of_ble_eq_true rfl) dX10_askAll_82 (fun x17 => ?_)
            refine j_iinc (pc := 84) hX 5 rfl (1 : Int32) ic_1 (fun x18 => [(5, .int x18), (6, .int x17), (0, .ref (xz X + 0)), (2, .int f2), (3, .int f3), (4, .int f4)]) (fun _ => rfl) (Nat.le_of_ble_eq_true rfl) dX10_askAll_84 (fun x18 => ?_)
            refine j_goto (pc := 87) (tgt := 42) hX rfl dX10_askAll_87 ?_
            refine j_locs [2, 3, 4, 5, 0] rfl ?_
            exact ih x18 h16
set_option maxHeartbeats 4000000 in
set_option maxRecDepth 100000 in
theorem m_askAll_30_w {X : CTX} {rr : Unit × HP} (hX : okX mV X rr cX10_askAll RX10 7 7 148) (hr : (xh X).sig.returnType = none) (f2 : Int32) (f3 : Int32) (k : HP → Option (Unit × HP)) (hk : ∀ (h : HP), jG mV X evV rr (k h) 96 [(0, .ref (xz X + 0)), (2, .int f2), (3, .int f3)] [] h) : ∀ (n : Nat) (v4 : Int32) (h : HP), jG mV X evV rr (m_askAll_30 f2 f3 k n v4 h) 30 [(0, .ref (xz X + 0)), (2, .int f2), (3, .int f3), (4, .int v4)] [] h := by
  intro n
  induction n with
  | zero =>
    intro v4 h
    exact j_none
  | succ n ih =>
    intro v4 h
    rw [m_askAll_30]
    refine j_iload (pc := 30) hX 3 rfl dX10_askAll_30 ?_
    refine j_aload_n (pc := 32) hX 0 rfl dX10_askAll_32 ?_
    refine j_getI (pc := 33) hX fgX10_231.1 fgX10_231.2 rfl dX10_askAll_33 ?_
    refine j_cge (pc := 36) (tgt := 96) hX rfl dX10_askAll_36 (fun _ => ?_) (fun _ => ?_)
    · refine j_locs [0, 1, 2] rfl ?_
      exact hk h
    · refine j_iconst (pc := 39) hX ic_0 dX10_askAll_39 ?_
      refine j_istore (pc := 40) hX (fun x8 => [(5, .int x8), (0, .ref (xz X + 0)), (2, .int f2), (3, .int f3), (4, .int v4)]) (fun _ => rfl) (Nat.le_of_ble_eq_true rfl) dX10_askAll_40 (fun x8 => ?_)
      refine j_locs [1, 2, 3, 4, 0] rfl ?_
      refine m_askAll_42_w hX hr f2 f3 v4 _ (fun  h19 => ?_) FU x8 h
      refine j_iinc (pc := 90) hX 3 rfl (1 : Int32) ic_1 (fun x20 => [(4, .int x20), (0, .ref (xz X + 0)), (2, .int f2), (3, .int f3)]) (fun _ => rfl) (Nat.le_of_ble_eq_true rfl) dX10_askAll_90 (fun x20 => ?_)
      refine j_goto (pc := 93) (tgt := 30) hX rfl dX10_askAll_93 ?_
      refine j_locs [1, 2, 3, 0] rfl ?_
      exact ih x20 h19
set_option maxHeartbeats 4000000 in
set_option maxRecDepth 100000 in
theorem m_askAll_19_w {X : CTX} {rr : Unit × HP} (hX : okX mV X rr cX10_askAll RX10 7 7 148) (hr : (xh X).sig.returnType = none) (f2 : Int32) (k : HP → Option (Unit × HP)) (hk : ∀ (h : HP), jG mV X evV rr (k h) 102 [(0, .ref (xz X + 0)), (2, .int f2)] [] h) : ∀ (n : Nat) (v3 : Int32) (h : HP), jG mV X evV rr (m_askAll_19 f2 k n v3 h) 19 [(0, .ref (xz X + 0)), (2, .int f2), (3, .int v3)] [] h := by
  intro n
  induction n with
  | zero =>
    intro v3 h
    exact j_none
  | succ n ih =>
    intro v3 h
    rw [m_askAll_19]
    refine j_iload_n (pc := 19) hX 2 rfl dX10_askAll_19 ?_
    refine j_aload_n (pc := 20) hX 0 rfl dX10_askAll_20 ?_
    refine j_getI (pc := 21) hX fgX10_231.1 fgX10_231.2 rfl dX10_askAll_21 ?_
    refine j_cge (pc := 24) (tgt := 102) hX rfl dX10_askAll_24 (fun _ => ?_) (fun _ => ?_)
    · refine j_locs [0, 1] rfl ?_
      exact hk h
    · refine j_iconst (pc := 27) hX ic_0 dX10_askAll_27 ?_
      refine j_istore (pc := 28) hX (fun x7 => [(4, .int x7), (0, .ref (xz X + 0)), (2, .int f2), (3, .int v3)]) (fun _ => rfl) (Nat.le_of_ble_eq_true rfl) dX10_askAll_28 (fun x7 => ?_)
      refine j_locs [1, 2, 3, 0] rfl ?_
      refine m_askAll_30_w hX hr f2 v3 _ (fun  h21 => ?_) FU x7 h
      refine j_iinc (pc := 96) hX 2 rfl (1 : Int32) ic_1 (fun x22 => [(3, .int x22), (0, .ref (xz X + 0)), (2, .int f2)]) (fun _ => rfl) (Nat.le_of_ble_eq_true rfl) dX10_askAll_96 (fun x22 => ?_)
      refine j_goto (pc := 99) (tgt := 19) hX rfl dX10_askAll_99 ?_
      refine j_locs [1, 2, 0] rfl ?_
      exact ih x22 h21
set_option maxHeartbeats 4000000 in
set_option maxRecDepth 100000 in
theorem m_askAll_7_w {X : CTX} {rr : Unit × HP} (hX : okX mV X rr cX10_askAll RX10 7 7 148) (hr : (xh X).sig.returnType = none)  (k : HP → Option (Unit × HP)) (hk : ∀ (h : HP), jG mV X evV rr (k h) 120 [] [] h) : ∀ (n : Nat) (v1 : Int32) (h : HP), jG mV X evV rr (m_askAll_7 k n v1 h) 7 [(0, .ref (xz X + 0)), (1, .int v1)] [] h := by
  intro n
  induction n with
  | zero =>
    intro v1 h
    exact j_none
  | succ n ih =>
    intro v1 h
    rw [m_askAll_7]
    refine j_iload_n (pc := 7) hX 1 rfl dX10_askAll_7 ?_
    refine j_ifeq (pc := 8) (tgt := 120) hX rfl dX10_askAll_8 (fun _ => ?_) (fun _ => ?_)
    · refine j_locs [] rfl ?_
      exact hk h
    · refine j_aload_n (pc := 11) hX 0 rfl dX10_askAll_11 ?_
      refine j_iconst (pc := 12) hX ic_1 dX10_askAll_12 ?_
      refine j_callVI (pc := 13) (a := 0) (As := fun z => [.int (1 : Int32)]) (rest := []) hX (fun r e => m_t_sumIn (1 : Int32) h r e) ymX10_sumIn (lw_V q2134 q2136 qs117 q154 q2137) rfl ckX10 rfl ⟨Nat.le_of_ble_eq_true rfl, Nat.le_of_ble_eq_true rfl⟩ rfl rfl (Nat.le_of_ble_eq_true rfl) dX10_askAll_13 (fun r3 h4 => ?_)
      refine j_istore_n (pc := 16) hX (fun x5 => [(2, .int x5), (0, .ref (xz X + 0)), (1, .int v1)]) (fun _ => rfl) (Nat.le_of_ble_eq_true rfl) dX10_askAll_16 (fun x5 => ?_)
      refine j_iconst (pc := 17) hX ic_0 dX10_askAll_17 ?_
      refine j_istore_n (pc := 18) hX (fun x6 => [(3, .int x6), (2, .int x5), (0, .ref (xz X + 0)), (1, .int v1)]) (fun _ => rfl) (Nat.le_of_ble_eq_true rfl) dX10_askAll_18 (fun x6 => ?_)
      refine j_locs [2, 1, 0] rfl ?_
      refine m_askAll_19_w hX hr x5 _ (fun  h23 => ?_) FU x6 h4
      refine j_aload_n (pc := 102) hX 0 rfl dX10_askAll_102 ?_
      refine j_iconst (pc := 103) hX ic_1 dX10_askAll_103 ?_
      refine j_callVI (pc := 104) (a := 0) (As := fun z => [.int (1 : Int32)]) (rest := []) hX (fun r e => m_t_sumIn (1 : Int32) h23 r e) ymX10_sumIn (lw_V q2134 q2136 qs117 q154 q2137) rfl ckX10 rfl ⟨Nat.le_of_ble_eq_true rfl, Nat.le_of_ble_eq_true rfl⟩ rfl rfl (Nat.le_of_ble_eq_true rfl) dX10_askAll_104 (fun r24 h25 => ?_)
      refine j_iload_n (pc := 107) hX 1 rfl dX10_askAll_107 ?_
      refine j_cle (pc := 108) (tgt := 115) hX rfl dX10_askAll_108 (fun _ => ?_) (fun _ => ?_)
      · refine j_iconst (pc := 115) hX ic_0 dX10_askAll_115 ?_
        refine j_istore_n (pc := 116) hX (fun x26 => [(1, .int x26), (0, .ref (xz X + 0)), (2, .int x5)]) (fun _ => rfl) (Nat.le_of_ble_eq_true rfl) dX10_askAll_116 (fun x26 => ?_)
        refine j_goto (pc := 117) (tgt := 7) hX rfl dX10_askAll_117 ?_
        refine j_locs [1, 0] rfl ?_
        exact ih x26 h25
      · refine j_iconst (pc := 111) hX ic_1 dX10_askAll_111 ?_
        refine j_goto (pc := 112) (tgt := 116) hX rfl dX10_askAll_112 ?_
        refine j_istore_n (pc := 116) hX (fun x27 => [(1, .int x27), (0, .ref (xz X + 0)), (2, .int x5)]) (fun _ => rfl) (Nat.le_of_ble_eq_true rfl) dX10_askAll_116 (fun x27 => ?_)
        refine j_goto (pc := 117) (tgt := 7) hX rfl dX10_askAll_117 ?_
        refine j_locs [1, 0] rfl ?_
        exact ih x27 h25
set_option maxHeartbeats 4000000 in
set_option maxRecDepth 100000 in
theorem m_t_askAll  (h : HP) (rr : Unit × HP) (e : m_askAll  h = some rr) : Cn mV yX10_askAll (ws_ yX10_askAll cX10_askAll 7 (none)) 7 148 (fun z => [.ref (z + 0)]) h (fun z => eV z rr.1) rr.2 := by
  refine cn_of (e1 := eV) (fun z => [(0, .ref (z + 0))]) mV_ok ⟨Nat.le_refl _, Nat.le_refl _⟩ ymX10_askAll (fun _ => rfl) (fun _ => Nat.le_of_ble_eq_true rfl) (fun X hX hr _ => ?_) e
  have hX : okX mV X rr cX10_askAll RX10 7 7 148 := hX
  rw [m_askAll]
  refine j_aload_n (pc := 0) hX 0 rfl dX10_askAll_0 ?_
  refine j_iconst (pc := 1) hX ic_1 dX10_askAll_1 ?_
  refine j_putZ (pc := 2) hX (Or.inr rfl) fwX10_386.1 fwX10_386.2 rfl dX10_askAll_2 (fun h1 => ?_)
  refine j_iconst (pc := 5) hX ic_1 dX10_askAll_5 ?_
  refine j_istore_n (pc := 6) hX (fun x2 => [(1, .int x2), (0, .ref (xz X + 0))]) (fun _ => rfl) (Nat.le_of_ble_eq_true rfl) dX10_askAll_6 (fun x2 => ?_)
  refine j_locs [1, 0] rfl ?_
  refine m_askAll_7_w hX hr  _ (fun  h28 => ?_) FU x2 h1
  exact j_vret (pc := 120) hX hr dX10_askAll_120
set_option maxHeartbeats 4000000 in
set_option maxRecDepth 100000 in
theorem m_t_all (a1 : Int32) (h : HP) (rr : Int32 × HP) (e : m_all a1 h = some rr) : Cn mV yX10_all (ws_ yX10_all cX10_all 2 (some .int)) 8 174 (fun z => [.ref (z + 0), .int a1]) h (fun z => eI z rr.1) rr.2 := by
  refine cn_of (e1 := eI) (fun z => [(0, .ref (z + 0)), (1, .int a1)]) mV_ok ⟨Nat.le_refl _, Nat.le_refl _⟩ ymX10_all (fun _ => rfl) (fun _ => Nat.le_of_ble_eq_true rfl) (fun X hX hr _ => ?_) e
  have hX : okX mV X rr cX10_all RX10 2 8 174 := hX
  rw [m_all]
  refine j_aload_n (pc := 0) hX 0 rfl dX10_all_0 ?_
  refine j_iconst (pc := 1) hX ic_0 dX10_all_1 ?_
  refine j_putI (pc := 2) hX fwX10_148.1 fwX10_148.2 rfl dX10_all_2 (fun h1 => ?_)
  refine j_aload_n (pc := 5) hX 0 rfl dX10_all_5 ?_
  refine j_iload_n (pc := 6) hX 1 rfl dX10_all_6 ?_
  refine j_callVI (pc := 7) (a := 0) (As := fun z => [.int a1]) (rest := []) hX (fun r e => m_t_isPerson a1 h1 r e) ymX10_isPerson (lw_V q2004 q2006 qs96 q154 q2007) rfl ckX10 rfl ⟨Nat.le_of_ble_eq_true rfl, Nat.le_of_ble_eq_true rfl⟩ rfl rfl (Nat.le_of_ble_eq_true rfl) dX10_all_7 (fun r2 h3 => ?_)
  refine j_ifne (pc := 10) (tgt := 15) hX rfl dX10_all_10 (fun _ => ?_) (fun _ => ?_)
  · refine j_iconst (pc := 13) hX ic_m1 dX10_all_13 ?_
    exact j_iret (pc := 14) hX hr dX10_all_14
  · refine j_aload_n (pc := 15) hX 0 rfl dX10_all_15 ?_
    refine j_callVV (pc := 16) (a := 0) (As := fun z => []) (rest := []) hX (fun r e => m_t_layTried h3 r e) ymX10_layTried (lw_V q2126 q2128 qs115 q154 q2129) rfl ckX10 rfl ⟨Nat.le_of_ble_eq_true rfl, Nat.le_of_ble_eq_true rfl⟩ rfl rfl (Nat.le_of_ble_eq_true rfl) dX10_all_16 (fun r4 h5 => ?_)
    refine j_aload_n (pc := 19) hX 0 rfl dX10_all_19 ?_
    refine j_callVV (pc := 20) (a := 0) (As := fun z => []) (rest := []) hX (fun r e => m_t_askAll h5 r e) ymX10_askAll (lw_V q2130 q2132 qs116 q154 q2133) rfl ckX10 rfl ⟨Nat.le_of_ble_eq_true rfl, Nat.le_of_ble_eq_true rfl⟩ rfl rfl (Nat.le_of_ble_eq_true rfl) dX10_all_20 (fun r6 h7 => ?_)
    refine j_aload_n (pc := 23) hX 0 rfl dX10_all_23 ?_
    refine j_getR (pc := 24) hX fgX10_100.1 fgX10_100.2 rfl rfl dX10_all_24 ?_
    refine j_iconst (pc := 27) hX ic_5 dX10_all_27 ?_
    refine j_iload_n (pc := 28) hX 1 rfl dX10_all_28 ?_
    refine j_iadd (pc := 29) hX dX10_all_29 ?_
    refine j_iald (pc := 30) (n := 10) hX rfl dX10_all_30 (fun _ => ?_)
    exact j_iret (pc := 31) hX hr dX10_all_31
set_option maxHeartbeats 4000000 in
set_option maxRecDepth 100000 in
theorem m_t_learns (a1 : Int32) (a2 : Int32) (a3 : Int32) (h : HP) (rr : Int32 × HP) (e : m_learns a1 a2 a3 h = some rr) : Cn mV yX10_learns (ws_ yX10_learns cX10_learns 5 (some .boolean)) 8 174 (fun z => [.ref (z + 0), .int a1, .int a2, .int a3]) h (fun z => eI z rr.1) rr.2 := by
  refine cn_of (e1 := eI) (fun z => [(0, .ref (z + 0)), (1, .int a1), (2, .int a2), (3, .int a3)]) mV_ok ⟨Nat.le_refl _, Nat.le_refl _⟩ ymX10_learns (fun _ => rfl) (fun _ => Nat.le_of_ble_eq_true rfl) (fun X hX hr _ => ?_) e
  have hX : okX mV X rr cX10_learns RX10 5 8 174 := hX
  rw [m_learns]
  refine j_aload_n (pc := 0) hX 0 rfl dX10_learns_0 ?_
  refine j_callVV (pc := 1) (a := 0) (As := fun z => []) (rest := []) hX (fun r e => m_t_layTried h r e) ymX10_layTried (lw_V q2126 q2128 qs115 q154 q2129) rfl ckX10 rfl ⟨Nat.le_of_ble_eq_true rfl, Nat.le_of_ble_eq_true rfl⟩ rfl rfl (Nat.le_of_ble_eq_true rfl) dX10_learns_1 (fun r1 h2 => ?_)
  refine j_aload_n (pc := 4) hX 0 rfl dX10_learns_4 ?_
  refine j_iload_n (pc := 5) hX 3 rfl dX10_learns_5 ?_
  refine j_putI (pc := 6) hX fwX10_395.1 fwX10_395.2 rfl dX10_learns_6 (fun h3 => ?_)
  refine j_aload_n (pc := 9) hX 0 rfl dX10_learns_9 ?_
  refine j_callVV (pc := 10) (a := 0) (As := fun z => []) (rest := []) hX (fun r e => m_t_askAll h3 r e) ymX10_askAll (lw_V q2130 q2132 qs116 q154 q2133) rfl ckX10 rfl ⟨Nat.le_of_ble_eq_true rfl, Nat.le_of_ble_eq_true rfl⟩ rfl rfl (Nat.le_of_ble_eq_true rfl) dX10_learns_10 (fun r4 h5 => ?_)
  refine j_aload_n (pc := 13) hX 0 rfl dX10_learns_13 ?_
  refine j_getR (pc := 14) hX fgX10_100.1 fgX10_100.2 rfl rfl dX10_learns_14 ?_
  refine j_iconst (pc := 17) hX ic_5 dX10_learns_17 ?_
  refine j_iload_n (pc := 18) hX 1 rfl dX10_learns_18 ?_
  refine j_iadd (pc := 19) hX dX10_learns_19 ?_
  refine j_iald (pc := 20) (n := 10) hX rfl dX10_learns_20 (fun _ => ?_)
  refine j_iload_n (pc := 21) hX 2 rfl dX10_learns_21 ?_
  refine j_callSI (pc := 22) (As := fun z => [.int (gI h5 29 (((5 : Int32) + a1)).toNatClampNeg), .int a2]) (rest := []) hX (fun r e => m_t_isOf (gI h5 29 (((5 : Int32) + a1)).toNatClampNeg) a2 h5 r e) ymX10_isOf (lw_S q1926 q1927 q154 q1928) ⟨Nat.le_of_ble_eq_true rfl, Nat.le_of_ble_eq_true rfl⟩ rfl rfl (Nat.le_of_ble_eq_true rfl) dX10_learns_22 (fun r6 h7 => ?_)
  refine j_istore (pc := 25) hX (fun x8 => [(4, .int x8), (0, .ref (xz X + 0)), (1, .int a1), (2, .int a2), (3, .int a3)]) (fun _ => rfl) (Nat.le_of_ble_eq_true rfl) dX10_learns_25 (fun x8 => ?_)
  refine j_aload_n (pc := 27) hX 1 rfl dX10_learns_27 ?_
  refine j_callVV (pc := 28) (a := 0) (As := fun z => []) (rest := []) hX (fun r e => m_t_plainTried h7 r e) ymX10_plainTried (lw_V q1603 q1605 qs66 q154 q1606) rfl ckX10 rfl ⟨Nat.le_of_ble_eq_true rfl, Nat.le_of_ble_eq_true rfl⟩ rfl rfl (Nat.le_of_ble_eq_true rfl) dX10_learns_28 (fun r9 h10 => ?_)
  refine j_iload (pc := 31) hX 0 rfl dX10_learns_31 ?_
  refine j_grd fun g11 => ?_
  exact j_zret (pc := 33) hX g11 hr dX10_learns_33
set_option maxHeartbeats 4000000 in
set_option maxRecDepth 100000 in
theorem m_t_never (a1 : Int32) (a2 : Int32) (h : HP) (rr : Int32 × HP) (e : m_never a1 a2 h = some rr) : Cn mV yX10_never (ws_ yX10_never cX10_never 3 (some .int)) 9 198 (fun z => [.ref (z + 0), .int a1, .int a2]) h (fun z => eI z rr.1) rr.2 := by
  refine cn_of (e1 := eI) (fun z => [(0, .ref (z + 0)), (1, .int a1), (2, .int a2)]) mV_ok ⟨Nat.le_refl _, Nat.le_refl _⟩ ymX10_never (fun _ => rfl) (fun _ => Nat.le_of_ble_eq_true rfl) (fun X hX hr _ => ?_) e
  have hX : okX mV X rr cX10_never RX10 3 9 198 := hX
  rw [m_never]
  refine j_aload_n (pc := 0) hX 0 rfl dX10_never_0 ?_
  refine j_iconst (pc := 1) hX ic_0 dX10_never_1 ?_
  refine j_putI (pc := 2) hX fwX10_148.1 fwX10_148.2 rfl dX10_never_2 (fun h1 => ?_)
  refine j_aload_n (pc := 5) hX 0 rfl dX10_never_5 ?_
  refine j_iload_n (pc := 6) hX 1 rfl dX10_never_6 ?_
  refine j_callVI (pc := 7) (a := 0) (As := fun z => [.int a1]) (rest := []) hX (fun r e => m_t_isPerson a1 h1 r e) ymX10_isPerson (lw_V q2004 q2006 qs96 q154 q2007) rfl ckX10 rfl ⟨Nat.le_of_ble_eq_true rfl, Nat.le_of_ble_eq_true rfl⟩ rfl rfl (Nat.le_of_ble_eq_true rfl) dX10_never_7 (fun r2 h3 => ?_)
  refine j_ifeq (pc := 10) (tgt := 21) hX rfl dX10_never_10 (fun _ => ?_) (fun _ => ?_)
  · refine j_iconst (pc := 21) hX ic_m1 dX10_never_21 ?_
    refine j_goto (pc := 22) (tgt := 40) hX rfl dX10_never_22 ?_
    exact j_iret (pc := 40) hX hr dX10_never_40
  · refine j_aload_n (pc := 13) hX 0 rfl dX10_never_13 ?_
    refine j_iload_n (pc := 14) hX 2 rfl dX10_never_14 ?_
    refine j_callVI (pc := 15) (a := 0) (As := fun z => [.int a2]) (rest := []) hX (fun r e => m_t_isFact a2 h3 r e) ymX10_isFact (lw_V q2110 q2112 qs114 q154 q2113) rfl ckX10 rfl ⟨Nat.le_of_ble_eq_true rfl, Nat.le_of_ble_eq_true rfl⟩ rfl rfl (Nat.le_of_ble_eq_true rfl) dX10_never_15 (fun r4 h5 => ?_)
    refine j_ifne (pc := 18) (tgt := 25) hX rfl dX10_never_18 (fun _ => ?_) (fun _ => ?_)
    · refine j_iconst (pc := 21) hX ic_m1 dX10_never_21 ?_
      refine j_goto (pc := 22) (tgt := 40) hX rfl dX10_never_22 ?_
      exact j_iret (pc := 40) hX hr dX10_never_40
    · refine j_aload_n (pc := 25) hX 0 rfl dX10_never_25 ?_
      refine j_iload_n (pc := 26) hX 1 rfl dX10_never_26 ?_
      refine j_iload_n (pc := 27) hX 2 rfl dX10_never_27 ?_
      refine j_iconst (pc := 28) hX ic_0 dX10_never_28 ?_
      refine j_callVI (pc := 29) (a := 0) (As := fun z => [.int a1, .int a2, .int (0 : Int32)]) (rest := []) hX (fun r e => m_t_learns a1 a2 (0 : Int32) h5 r e) ymX10_learns (lw_V q2142 q2144 qs118 q154 q2145) rfl ckX10 rfl ⟨Nat.le_of_ble_eq_true rfl, Nat.le_of_ble_eq_true rfl⟩ rfl rfl (Nat.le_of_ble_eq_true rfl) dX10_never_29 (fun r6 h7 => ?_)
      refine j_ifeq (pc := 32) (tgt := 39) hX rfl dX10_never_32 (fun _ => ?_) (fun _ => ?_)
      · refine j_iconst (pc := 39) hX ic_1 dX10_never_39 ?_
        exact j_iret (pc := 40) hX hr dX10_never_40
      · refine j_iconst (pc := 35) hX ic_0 dX10_never_35 ?_
        refine j_goto (pc := 36) (tgt := 40) hX rfl dX10_never_36 ?_
        exact j_iret (pc := 40) hX hr dX10_never_40
set_option maxHeartbeats 4000000 in
set_option maxRecDepth 100000 in
theorem m_away_29_w {X : CTX} {rr : Int32 × HP} (hX : okX mV X rr cX10_away RX10 5 9 198) (hr : (xh X).sig.returnType = some .int) (f1 : Int32) (f2 : Int32) (k : Int32 → HP → Option (Int32 × HP)) (hk : ∀ (v3 : Int32) (h : HP), jG mV X evI rr (k v3 h) 88 [(3, .int v3)] [] h) : ∀ (n : Nat) (v3 : Int32) (v4 : Int32) (h : HP), jG mV X evI rr (m_away_29 f1 f2 k n v3 v4 h) 29 [(0, .ref (xz X + 0)), (1, .int f1), (2, .int f2), (3, .int v3), (4, .int v4)] [] h := by
  intro n
  induction n with
  | zero =>
    intro v3 v4 h
    exact j_none
  | succ n ih =>
    intro v3 v4 h
    rw [m_away_29]
    refine j_iload (pc := 29) hX 4 rfl dX10_away_29 ?_
    refine j_iconst (pc := 31) hX ic_1 dX10_away_31 ?_
    refine j_aload_n (pc := 32) hX 0 rfl dX10_away_32 ?_
    refine j_getI (pc := 33) hX fgX10_231.1 fgX10_231.2 rfl dX10_away_33 ?_
    refine j_ishl (pc := 36) hX dX10_away_36 ?_
    refine j_cge (pc := 37) (tgt := 88) hX rfl dX10_away_37 (fun _ => ?_) (fun _ => ?_)
    · refine j_locs [3] rfl ?_
      exact hk v3 h
    · refine j_iload (pc := 40) hX 4 rfl dX10_away_40 ?_
      refine j_iload_n (pc := 42) hX 1 rfl dX10_away_42 ?_
      refine j_callSI (pc := 43) (As := fun z => [.int v4, .int f1]) (rest := []) hX (fun r e => m_t_isOf v4 f1 h r e) ymX10_isOf (lw_S q1926 q1927 q154 q1928) ⟨Nat.le_of_ble_eq_true rfl, Nat.le_of_ble_eq_true rfl⟩ rfl rfl (Nat.le_of_ble_eq_true rfl) dX10_away_43 (fun r8 h9 => ?_)
      refine j_ifne (pc := 46) (tgt := 82) hX rfl dX10_away_46 (fun _ => ?_) (fun _ => ?_)
      · refine j_iload_n (pc := 49) hX 3 rfl dX10_away_49 ?_
        refine j_jon (fun (j10 : HP → Option (Int32 × HP)) => ∀ (h11 : HP), jG mV X evI rr (j10 h11) 68 [(0, .ref (xz X + 0)), (1, .int f1), (2, .int f2), (3, .int v3), (4, .int v4)] [] h11) ?_ ?_
        · intro h11
          refine j_aload_n (pc := 68) hX 0 rfl dX10_away_68 ?_
          refine j_iload_n (pc := 69) hX 1 rfl dX10_away_69 ?_
          refine j_iload_n (pc := 70) hX 2 rfl dX10_away_70 ?_
          refine j_iload (pc := 71) hX 4 rfl dX10_away_71 ?_
          refine j_callVI (pc := 73) (a := 0) (As := fun z => [.int f1, .int f2, .int v4]) (rest := []) hX (fun r e => m_t_learns f1 f2 v4 h11 r e) ymX10_learns (lw_V q2142 q2144 qs118 q154 q2145) rfl ckX10 rfl ⟨Nat.le_of_ble_eq_true rfl, Nat.le_of_ble_eq_true rfl⟩ rfl rfl (Nat.le_of_ble_eq_true rfl) dX10_away_73 (fun r12 h13 => ?_)
          refine j_ifne (pc := 76) (tgt := 82) hX rfl dX10_away_76 (fun _ => ?_) (fun _ => ?_)
          · refine j_iload (pc := 79) hX 4 rfl dX10_away_79 ?_
            refine j_istore_n (pc := 81) hX (fun x14 => [(3, .int x14), (0, .ref (xz X + 0)), (1, .int f1), (2, .int f2), (4, .int v4)]) (fun _ => rfl) (Nat.le_of_ble_eq_true rfl) dX10_away_81 (fun x14 => ?_)
            refine j_iinc (pc := 82) hX 4 rfl (1 : Int32) ic_1 (fun x15 => [(4, .int x15), (3, .int x14), (0, .ref (xz X + 0)), (1, .int f1), (2, .int f2)]) (fun _ => rfl) (Nat.le_of_ble_eq_true rfl) dX10_away_82 (fun x15 => ?_)
            refine j_goto (pc := 85) (tgt := 29) hX rfl dX10_away_85 ?_
            refine j_locs [2, 3, 4, 1, 0] rfl ?_
            exact ih x14 x15 h13
          · refine j_iinc (pc := 82) hX 4 rfl (1 : Int32) ic_1 (fun x16 => [(4, .int x16), (0, .ref (xz X + 0)), (1, .int f1), (2, .int f2), (3, .int v3)]) (fun _ => rfl) (Nat.le_of_ble_eq_true rfl) dX10_away_82 (fun x16 => ?_)
            refine j_goto (pc := 85) (tgt := 29) hX rfl dX10_away_85 ?_
            refine j_locs [1, 2, 3, 4, 0] rfl ?_
            exact ih v3 x16 h13
        · intro j10 hj10
          refine j_iflt (pc := 50) (tgt := 68) hX rfl dX10_away_50 (fun _ => ?_) (fun _ => ?_)
          · exact hj10 h9
          · refine j_iload (pc := 53) hX 4 rfl dX10_away_53 ?_
            refine j_callSI (pc := 55) (As := fun z => [.int v4]) (rest := []) hX (fun r e => m_t_manyOf v4 h9 r e) ymX10_manyOf (lw_S q2045 q2046 q154 q2047) ⟨Nat.le_of_ble_eq_true rfl, Nat.le_of_ble_eq_true rfl⟩ rfl rfl (Nat.le_of_ble_eq_true rfl) dX10_away_55 (fun r17 h18 => ?_)
            refine j_iload_n (pc := 58) hX 3 rfl dX10_away_58 ?_
            refine j_callSI (pc := 59) (As := fun z => [.int v3]) (rest := [.int r17]) hX (fun r e => m_t_manyOf v3 h18 r e) ymX10_manyOf (lw_S q2045 q2046 q154 q2047) ⟨Nat.le_of_ble_eq_true rfl, Nat.le_of_ble_eq_true rfl⟩ rfl rfl (Nat.le_of_ble_eq_true rfl) dX10_away_59 (fun r19 h20 => ?_)
            refine j_clt (pc := 62) (tgt := 68) hX rfl dX10_away_62 (fun _ => ?_) (fun _ => ?_)
            · exact hj10 h20
            · refine j_goto (pc := 65) (tgt := 82) hX rfl dX10_away_65 ?_
              refine j_iinc (pc := 82) hX 4 rfl (1 : Int32) ic_1 (fun x21 => [(4, .int x21), (0, .ref (xz X + 0)), (1, .int f1), (2, .int f2), (3, .int v3)]) (fun _ => rfl) (Nat.le_of_ble_eq_true rfl) dX10_away_82 (fun x21 => ?_)
              refine j_goto (pc := 85) (tgt := 29) hX rfl dX10_away_85 ?_
              refine j_locs [1, 2, 3, 4, 0] rfl ?_
              exact ih v3 x21 h20
      · refine j_iinc (pc := 82) hX 4 rfl (1 : Int32) ic_1 (fun x22 => [(4, .int x22), (0, .ref (xz X + 0)), (1, .int f1), (2, .int f2), (3, .int v3)]) (fun _ => rfl) (Nat.le_of_ble_eq_true rfl) dX10_away_82 (fun x22 => ?_)
        refine j_goto (pc := 85) (tgt := 29) hX rfl dX10_away_85 ?_
        refine j_locs [1, 2, 3, 4, 0] rfl ?_
        exact ih v3 x22 h9
set_option maxHeartbeats 4000000 in
set_option maxRecDepth 100000 in
theorem m_t_away (a1 : Int32) (a2 : Int32) (h : HP) (rr : Int32 × HP) (e : m_away a1 a2 h = some rr) : Cn mV yX10_away (ws_ yX10_away cX10_away 5 (some .int)) 9 198 (fun z => [.ref (z + 0), .int a1, .int a2]) h (fun z => eI z rr.1) rr.2 := by
  refine cn_of (e1 := eI) (fun z => [(0, .ref (z + 0)), (1, .int a1), (2, .int a2)]) mV_ok ⟨Nat.le_refl _, Nat.le_refl _⟩ ymX10_away (fun _ => rfl) (fun _ => Nat.le_of_ble_eq_true rfl) (fun X hX hr _ => ?_) e
  have hX : okX mV X rr cX10_away RX10 5 9 198 := hX
  rw [m_away]
  refine j_aload_n (pc := 0) hX 0 rfl dX10_away_0 ?_
  refine j_iconst (pc := 1) hX ic_0 dX10_away_1 ?_
  refine j_putI (pc := 2) hX fwX10_148.1 fwX10_148.2 rfl dX10_away_2 (fun h1 => ?_)
  refine j_aload_n (pc := 5) hX 0 rfl dX10_away_5 ?_
  refine j_iload_n (pc := 6) hX 1 rfl dX10_away_6 ?_
  refine j_callVI (pc := 7) (a := 0) (As := fun z => [.int a1]) (rest := []) hX (fun r e => m_t_isPerson a1 h1 r e) ymX10_isPerson (lw_V q2004 q2006 qs96 q154 q2007) rfl ckX10 rfl ⟨Nat.le_of_ble_eq_true rfl, Nat.le_of_ble_eq_true rfl⟩ rfl rfl (Nat.le_of_ble_eq_true rfl) dX10_away_7 (fun r2 h3 => ?_)
  refine j_ifeq (pc := 10) (tgt := 21) hX rfl dX10_away_10 (fun _ => ?_) (fun _ => ?_)
  · refine j_iconst (pc := 21) hX ic_m1 dX10_away_21 ?_
    exact j_iret (pc := 22) hX hr dX10_away_22
  · refine j_aload_n (pc := 13) hX 0 rfl dX10_away_13 ?_
    refine j_iload_n (pc := 14) hX 2 rfl dX10_away_14 ?_
    refine j_callVI (pc := 15) (a := 0) (As := fun z => [.int a2]) (rest := []) hX (fun r e => m_t_isFact a2 h3 r e) ymX10_isFact (lw_V q2110 q2112 qs114 q154 q2113) rfl ckX10 rfl ⟨Nat.le_of_ble_eq_true rfl, Nat.le_of_ble_eq_true rfl⟩ rfl rfl (Nat.le_of_ble_eq_true rfl) dX10_away_15 (fun r4 h5 => ?_)
    refine j_ifne (pc := 18) (tgt := 23) hX rfl dX10_away_18 (fun _ => ?_) (fun _ => ?_)
    · refine j_iconst (pc := 21) hX ic_m1 dX10_away_21 ?_
      exact j_iret (pc := 22) hX hr dX10_away_22
    · refine j_bipush (pc := 23) hX bp_m2 dX10_away_23 ?_
      refine j_istore_n (pc := 25) hX (fun x6 => [(3, .int x6), (0, .ref (xz X + 0)), (1, .int a1), (2, .int a2)]) (fun _ => rfl) (Nat.le_of_ble_eq_true rfl) dX10_away_25 (fun x6 => ?_)
      refine j_iconst (pc := 26) hX ic_0 dX10_away_26 ?_
      refine j_istore (pc := 27) hX (fun x7 => [(4, .int x7), (3, .int x6), (0, .ref (xz X + 0)), (1, .int a1), (2, .int a2)]) (fun _ => rfl) (Nat.le_of_ble_eq_true rfl) dX10_away_27 (fun x7 => ?_)
      refine j_locs [2, 3, 4, 1, 0] rfl ?_
      refine m_away_29_w hX hr a1 a2 _ (fun x23 h24 => ?_) FU x6 x7 h5
      refine j_iload_n (pc := 88) hX 0 rfl dX10_away_88 ?_
      exact j_iret (pc := 89) hX hr dX10_away_89
set_option maxHeartbeats 4000000 in
set_option maxRecDepth 100000 in
theorem m_spread_27_w {X : CTX} {rr : Int32 × HP} (hX : okX mV X rr cX10_spread RX10 4 8 174) (hr : (xh X).sig.returnType = some .int) (f1 : Int32) (k : Int32 → HP → Option (Int32 × HP)) (hk : ∀ (v2 : Int32) (h : HP), jG mV X evI rr (k v2 h) 66 [(2, .int v2)] [] h) : ∀ (n : Nat) (v2 : Int32) (v3 : Int32) (h : HP), jG mV X evI rr (m_spread_27 f1 k n v2 v3 h) 27 [(0, .ref (xz X + 0)), (1, .int f1), (2, .int v2), (3, .int v3)] [] h := by
  intro n
  induction n with
  | zero =>
    intro v2 v3 h
    exact j_none
  | succ n ih =>
    intro v2 v3 h
    rw [m_spread_27]
    refine j_iload_n (pc := 27) hX 3 rfl dX10_spread_27 ?_
    refine j_aload_n (pc := 28) hX 0 rfl dX10_spread_28 ?_
    refine j_getI (pc := 29) hX fgX10_231.1 fgX10_231.2 rfl dX10_spread_29 ?_
    refine j_cge (pc := 32) (tgt := 66) hX rfl dX10_spread_32 (fun _ => ?_) (fun _ => ?_)
    · refine j_locs [2] rfl ?_
      exact hk v2 h
    · refine j_iload_n (pc := 35) hX 2 rfl dX10_spread_35 ?_
      refine j_aload_n (pc := 36) hX 0 rfl dX10_spread_36 ?_
      refine j_getR (pc := 37) hX fgX10_100.1 fgX10_100.2 rfl rfl dX10_spread_37 ?_
      refine j_iconst (pc := 40) hX ic_5 dX10_spread_40 ?_
      refine j_iload_n (pc := 41) hX 3 rfl dX10_spread_41 ?_
      refine j_iadd (pc := 42) hX dX10_spread_42 ?_
      refine j_iald (pc := 43) (n := 10) hX rfl dX10_spread_43 (fun _ => ?_)
      refine j_iload_n (pc := 44) hX 1 rfl dX10_spread_44 ?_
      refine j_callSI (pc := 45) (As := fun z => [.int (gI h 29 (((5 : Int32) + v3)).toNatClampNeg), .int f1]) (rest := [.int v2]) hX (fun r e => m_t_isOf (gI h 29 (((5 : Int32) + v3)).toNatClampNeg) f1 h r e) ymX10_isOf (lw_S q1926 q1927 q154 q1928) ⟨Nat.le_of_ble_eq_true rfl, Nat.le_of_ble_eq_true rfl⟩ rfl rfl (Nat.le_of_ble_eq_true rfl) dX10_spread_45 (fun r10 h11 => ?_)
      refine j_jon (fun (j12 : Int32 → Option (Int32 × HP)) => ∀ (s13 : Int32), jG mV X evI rr (j12 s13) 58 [(0, .ref (xz X + 0)), (1, .int f1), (3, .int v3)] [.int s13, .int v2] h11) ?_ ?_
      · intro s13
        refine j_ior (pc := 58) hX dX10_spread_58 ?_
        refine j_istore_n (pc := 59) hX (fun x14 => [(2, .int x14), (0, .ref (xz X + 0)), (1, .int f1), (3, .int v3)]) (fun _ => rfl) (Nat.le_of_ble_eq_true rfl) dX10_spread_59 (fun x14 => ?_)
        refine j_iinc (pc := 60) hX 3 rfl (1 : Int32) ic_1 (fun x15 => [(3, .int x15), (2, .int x14), (0, .ref (xz X + 0)), (1, .int f1)]) (fun _ => rfl) (Nat.le_of_ble_eq_true rfl) dX10_spread_60 (fun x15 => ?_)
        refine j_goto (pc := 63) (tgt := 27) hX rfl dX10_spread_63 ?_
        refine j_locs [2, 3, 1, 0] rfl ?_
        exact ih x14 x15 h11
      · intro j12 hj12
        refine j_ifeq (pc := 48) (tgt := 57) hX rfl dX10_spread_48 (fun _ => ?_) (fun _ => ?_)
        · refine j_iconst (pc := 57) hX ic_0 dX10_spread_57 ?_
          refine j_locs [0, 1, 3] rfl ?_
          exact hj12 (0 : Int32)
        · refine j_iconst (pc := 51) hX ic_1 dX10_spread_51 ?_
          refine j_iload_n (pc := 52) hX 3 rfl dX10_spread_52 ?_
          refine j_ishl (pc := 53) hX dX10_spread_53 ?_
          refine j_goto (pc := 54) (tgt := 58) hX rfl dX10_spread_54 ?_
          refine j_locs [0, 1, 3] rfl ?_
          exact hj12 ((1 : Int32) <<< (v3 &&& 31))
set_option maxHeartbeats 4000000 in
set_option maxRecDepth 100000 in
theorem m_t_spread (a1 : Int32) (h : HP) (rr : Int32 × HP) (e : m_spread a1 h = some rr) : Cn mV yX10_spread (ws_ yX10_spread cX10_spread 4 (some .int)) 8 174 (fun z => [.ref (z + 0), .int a1]) h (fun z => eI z rr.1) rr.2 := by
  refine cn_of (e1 := eI) (fun z => [(0, .ref (z + 0)), (1, .int a1)]) mV_ok ⟨Nat.le_refl _, Nat.le_refl _⟩ ymX10_spread (fun _ => rfl) (fun _ => Nat.le_of_ble_eq_true rfl) (fun X hX hr _ => ?_) e
  have hX : okX mV X rr cX10_spread RX10 4 8 174 := hX
  rw [m_spread]
  refine j_aload_n (pc := 0) hX 0 rfl dX10_spread_0 ?_
  refine j_iconst (pc := 1) hX ic_0 dX10_spread_1 ?_
  refine j_putI (pc := 2) hX fwX10_148.1 fwX10_148.2 rfl dX10_spread_2 (fun h1 => ?_)
  refine j_aload_n (pc := 5) hX 0 rfl dX10_spread_5 ?_
  refine j_iload_n (pc := 6) hX 1 rfl dX10_spread_6 ?_
  refine j_callVI (pc := 7) (a := 0) (As := fun z => [.int a1]) (rest := []) hX (fun r e => m_t_isFact a1 h1 r e) ymX10_isFact (lw_V q2110 q2112 qs114 q154 q2113) rfl ckX10 rfl ⟨Nat.le_of_ble_eq_true rfl, Nat.le_of_ble_eq_true rfl⟩ rfl rfl (Nat.le_of_ble_eq_true rfl) dX10_spread_7 (fun r2 h3 => ?_)
  refine j_ifne (pc := 10) (tgt := 15) hX rfl dX10_spread_10 (fun _ => ?_) (fun _ => ?_)
  · refine j_iconst (pc := 13) hX ic_m1 dX10_spread_13 ?_
    exact j_iret (pc := 14) hX hr dX10_spread_14
  · refine j_aload_n (pc := 15) hX 0 rfl dX10_spread_15 ?_
    refine j_callVV (pc := 16) (a := 0) (As := fun z => []) (rest := []) hX (fun r e => m_t_layTried h3 r e) ymX10_layTried (lw_V q2126 q2128 qs115 q154 q2129) rfl ckX10 rfl ⟨Nat.le_of_ble_eq_true rfl, Nat.le_of_ble_eq_true rfl⟩ rfl rfl (Nat.le_of_ble_eq_true rfl) dX10_spread_16 (fun r4 h5 => ?_)
    refine j_aload_n (pc := 19) hX 0 rfl dX10_spread_19 ?_
    refine j_callVV (pc := 20) (a := 0) (As := fun z => []) (rest := []) hX (fun r e => m_t_askAll h5 r e) ymX10_askAll (lw_V q2130 q2132 qs116 q154 q2133) rfl ckX10 rfl ⟨Nat.le_of_ble_eq_true rfl, Nat.le_of_ble_eq_true rfl⟩ rfl rfl (Nat.le_of_ble_eq_true rfl) dX10_spread_20 (fun r6 h7 => ?_)
    refine j_iconst (pc := 23) hX ic_0 dX10_spread_23 ?_
    refine j_istore_n (pc := 24) hX (fun x8 => [(2, .int x8), (0, .ref (xz X + 0)), (1, .int a1)]) (fun _ => rfl) (Nat.le_of_ble_eq_true rfl) dX10_spread_24 (fun x8 => ?_)
    refine j_iconst (pc := 25) hX ic_0 dX10_spread_25 ?_
    refine j_istore_n (pc := 26) hX (fun x9 => [(3, .int x9), (2, .int x8), (0, .ref (xz X + 0)), (1, .int a1)]) (fun _ => rfl) (Nat.le_of_ble_eq_true rfl) dX10_spread_26 (fun x9 => ?_)
    refine j_locs [2, 3, 1, 0] rfl ?_
    refine m_spread_27_w hX hr a1 _ (fun x16 h17 => ?_) FU x8 x9 h7
    refine j_iload_n (pc := 66) hX 0 rfl dX10_spread_66 ?_
    exact j_iret (pc := 67) hX hr dX10_spread_67
set_option maxHeartbeats 4000000 in
set_option maxRecDepth 100000 in
theorem m_hint_60_w {X : CTX} {rr : Int32 × HP} (hX : okX mV X rr cX10_hint RX10 7 9 198) (hr : (xh X).sig.returnType = some .int) (f1 : Int32) (f2 : Int32) (f3 : Int32) (f4 : Int32) (k : HP → Option (Int32 × HP)) (hk : ∀ (h : HP), jG mV X evI rr (k h) 158 [(0, .ref (xz X + 0)), (1, .int f1), (2, .int f2), (3, .int f3), (4, .int f4)] [] h) : ∀ (n : Nat) (v5 : Int32) (h : HP), jG mV X evI rr (m_hint_60 f1 f2 f3 f4 k n v5 h) 60 [(0, .ref (xz X + 0)), (1, .int f1), (2, .int f2), (3, .int f3), (4, .int f4), (5, .int v5)] [] h := by
  intro n
  induction n with
  | zero =>
    intro v5 h
    exact j_none
  | succ n ih =>
    intro v5 h
    rw [m_hint_60]
    refine j_iload (pc := 60) hX 5 rfl dX10_hint_60 ?_
    refine j_aload_n (pc := 62) hX 0 rfl dX10_hint_62 ?_
    refine j_getI (pc := 63) hX fgX10_228.1 fgX10_228.2 rfl dX10_hint_63 ?_
    refine j_cge (pc := 66) (tgt := 158) hX rfl dX10_hint_66 (fun _ => ?_) (fun _ => ?_)
    · refine j_locs [0, 1, 2, 3, 4] rfl ?_
      exact hk h
    · refine j_iload (pc := 69) hX 5 rfl dX10_hint_69 ?_
      refine j_iload_n (pc := 71) hX 2 rfl dX10_hint_71 ?_
      refine j_ceq (pc := 72) (tgt := 152) hX rfl dX10_hint_72 (fun _ => ?_) (fun _ => ?_)
      · refine j_iinc (pc := 152) hX 5 rfl (1 : Int32) ic_1 (fun x12 => [(5, .int x12), (0, .ref (xz X + 0)), (1, .int f1), (2, .int f2), (3, .int f3), (4, .int f4)]) (fun _ => rfl) (Nat.le_of_ble_eq_true rfl) dX10_hint_152 (fun x12 => ?_)
        refine j_goto (pc := 155) (tgt := 60) hX rfl dX10_hint_155 ?_
        refine j_locs [1, 2, 3, 4, 5, 0] rfl ?_
        exact ih x12 h
      · refine j_aload_n (pc := 75) hX 0 rfl dX10_hint_75 ?_
        refine j_getR (pc := 76) hX fgX10_100.1 fgX10_100.2 rfl rfl dX10_hint_76 ?_
        refine j_iload (pc := 79) hX 4 rfl dX10_hint_79 ?_
        refine j_iald (pc := 81) (n := 10) hX rfl dX10_hint_81 (fun _ => ?_)
        refine j_iload (pc := 82) hX 5 rfl dX10_hint_82 ?_
        refine j_callSI (pc := 84) (As := fun z => [.int (gI h 29 (f4).toNatClampNeg), .int v5]) (rest := []) hX (fun r e => m_t_isOf (gI h 29 (f4).toNatClampNeg) v5 h r e) ymX10_isOf (lw_S q1926 q1927 q154 q1928) ⟨Nat.le_of_ble_eq_true rfl, Nat.le_of_ble_eq_true rfl⟩ rfl rfl (Nat.le_of_ble_eq_true rfl) dX10_hint_84 (fun r13 h14 => ?_)
        refine j_ifeq (pc := 87) (tgt := 93) hX rfl dX10_hint_87 (fun _ => ?_) (fun _ => ?_)
        · refine j_aload_n (pc := 93) hX 0 rfl dX10_hint_93 ?_
          refine j_callVV (pc := 94) (a := 0) (As := fun z => []) (rest := []) hX (fun r e => m_t_layTried h14 r e) ymX10_layTried (lw_V q2126 q2128 qs115 q154 q2129) rfl ckX10 rfl ⟨Nat.le_of_ble_eq_true rfl, Nat.le_of_ble_eq_true rfl⟩ rfl rfl (Nat.le_of_ble_eq_true rfl) dX10_hint_94 (fun r15 h16 => ?_)
          refine j_aload_n (pc := 97) hX 0 rfl dX10_hint_97 ?_
          refine j_getR (pc := 98) hX fgX10_100.1 fgX10_100.2 rfl rfl dX10_hint_98 ?_
          refine j_iconst (pc := 101) hX ic_5 dX10_hint_101 ?_
          refine j_iload (pc := 102) hX 4 rfl dX10_hint_102 ?_
          refine j_iadd (pc := 104) hX dX10_hint_104 ?_
          refine j_dup2 (pc := 105) hX rfl rfl dX10_hint_105 ?_
          refine j_iald (pc := 106) (n := 10) hX rfl dX10_hint_106 (fun _ => ?_)
          refine j_iconst (pc := 107) hX ic_1 dX10_hint_107 ?_
          refine j_iload (pc := 108) hX 5 rfl dX10_hint_108 ?_
          refine j_ishl (pc := 110) hX dX10_hint_110 ?_
          refine j_ior (pc := 111) hX dX10_hint_111 ?_
          refine j_iast (pc := 112) (n := 10) hX rfl dX10_hint_112 (fun _ h17 => ?_)
          refine j_aload_n (pc := 113) hX 0 rfl dX10_hint_113 ?_
          refine j_callVV (pc := 114) (a := 0) (As := fun z => []) (rest := []) hX (fun r e => m_t_askAll h17 r e) ymX10_askAll (lw_V q2130 q2132 qs116 q154 q2133) rfl ckX10 rfl ⟨Nat.le_of_ble_eq_true rfl, Nat.le_of_ble_eq_true rfl⟩ rfl rfl (Nat.le_of_ble_eq_true rfl) dX10_hint_114 (fun r18 h19 => ?_)
          refine j_aload_n (pc := 117) hX 0 rfl dX10_hint_117 ?_
          refine j_getR (pc := 118) hX fgX10_100.1 fgX10_100.2 rfl rfl dX10_hint_118 ?_
          refine j_iconst (pc := 121) hX ic_5 dX10_hint_121 ?_
          refine j_iload_n (pc := 122) hX 1 rfl dX10_hint_122 ?_
          refine j_iadd (pc := 123) hX dX10_hint_123 ?_
          refine j_iald (pc := 124) (n := 10) hX rfl dX10_hint_124 (fun _ => ?_)
          refine j_iload_n (pc := 125) hX 2 rfl dX10_hint_125 ?_
          refine j_callSI (pc := 126) (As := fun z => [.int (gI h19 29 (((5 : Int32) + f1)).toNatClampNeg), .int f2]) (rest := []) hX (fun r e => m_t_isOf (gI h19 29 (((5 : Int32) + f1)).toNatClampNeg) f2 h19 r e) ymX10_isOf (lw_S q1926 q1927 q154 q1928) ⟨Nat.le_of_ble_eq_true rfl, Nat.le_of_ble_eq_true rfl⟩ rfl rfl (Nat.le_of_ble_eq_true rfl) dX10_hint_126 (fun r20 h21 => ?_)
          refine j_istore (pc := 129) hX (fun x22 => [(6, .int x22), (0, .ref (xz X + 0)), (1, .int f1), (2, .int f2), (3, .int f3), (4, .int f4), (5, .int v5)]) (fun _ => rfl) (Nat.le_of_ble_eq_true rfl) dX10_hint_129 (fun x22 => ?_)
          refine j_aload_n (pc := 131) hX 1 rfl dX10_hint_131 ?_
          refine j_callVV (pc := 132) (a := 0) (As := fun z => []) (rest := []) hX (fun r e => m_t_plainTried h21 r e) ymX10_plainTried (lw_V q1603 q1605 qs66 q154 q1606) rfl ckX10 rfl ⟨Nat.le_of_ble_eq_true rfl, Nat.le_of_ble_eq_true rfl⟩ rfl rfl (Nat.le_of_ble_eq_true rfl) dX10_hint_132 (fun r23 h24 => ?_)
          refine j_iload (pc := 135) hX 0 rfl dX10_hint_135 ?_
          refine j_ifeq (pc := 137) (tgt := 152) hX rfl dX10_hint_137 (fun _ => ?_) (fun _ => ?_)
          · refine j_iinc (pc := 152) hX 6 rfl (1 : Int32) ic_1 (fun x25 => [(5, .int x25), (6, .int x22), (0, .ref (xz X + 0)), (1, .int f1), (2, .int f2), (3, .int f3), (4, .int f4)]) (fun _ => rfl) (Nat.le_of_ble_eq_true rfl) dX10_hint_152 (fun x25 => ?_)
            refine j_goto (pc := 155) (tgt := 60) hX rfl dX10_hint_155 ?_
            refine j_locs [2, 3, 4, 5, 6, 0] rfl ?_
            exact ih x25 h24
          · refine j_iload_n (pc := 140) hX 4 rfl dX10_hint_140 ?_
            refine j_ifne (pc := 141) (tgt := 149) hX rfl dX10_hint_141 (fun _ => ?_) (fun _ => ?_)
            · refine j_iload (pc := 144) hX 5 rfl dX10_hint_144 ?_
              refine j_goto (pc := 146) (tgt := 151) hX rfl dX10_hint_146 ?_
              exact j_iret (pc := 151) hX hr dX10_hint_151
            · refine j_iload (pc := 149) hX 6 rfl dX10_hint_149 ?_
              exact j_iret (pc := 151) hX hr dX10_hint_151
        · refine j_goto (pc := 90) (tgt := 152) hX rfl dX10_hint_90 ?_
          refine j_iinc (pc := 152) hX 5 rfl (1 : Int32) ic_1 (fun x26 => [(5, .int x26), (0, .ref (xz X + 0)), (1, .int f1), (2, .int f2), (3, .int f3), (4, .int f4)]) (fun _ => rfl) (Nat.le_of_ble_eq_true rfl) dX10_hint_152 (fun x26 => ?_)
          refine j_goto (pc := 155) (tgt := 60) hX rfl dX10_hint_155 ?_
          refine j_locs [1, 2, 3, 4, 5, 0] rfl ?_
          exact ih x26 h14
set_option maxHeartbeats 4000000 in
set_option maxRecDepth 100000 in
theorem m_hint_48_w {X : CTX} {rr : Int32 × HP} (hX : okX mV X rr cX10_hint RX10 7 9 198) (hr : (xh X).sig.returnType = some .int) (f1 : Int32) (f2 : Int32) (f3 : Int32) (k : HP → Option (Int32 × HP)) (hk : ∀ (h : HP), jG mV X evI rr (k h) 164 [] [] h) : ∀ (n : Nat) (v4 : Int32) (h : HP), jG mV X evI rr (m_hint_48 f1 f2 f3 k n v4 h) 48 [(0, .ref (xz X + 0)), (1, .int f1), (2, .int f2), (3, .int f3), (4, .int v4)] [] h := by
  intro n
  induction n with
  | zero =>
    intro v4 h
    exact j_none
  | succ n ih =>
    intro v4 h
    rw [m_hint_48]
    refine j_iload (pc := 48) hX 4 rfl dX10_hint_48 ?_
    refine j_aload_n (pc := 50) hX 0 rfl dX10_hint_50 ?_
    refine j_getI (pc := 51) hX fgX10_231.1 fgX10_231.2 rfl dX10_hint_51 ?_
    refine j_cge (pc := 54) (tgt := 164) hX rfl dX10_hint_54 (fun _ => ?_) (fun _ => ?_)
    · refine j_locs [] rfl ?_
      exact hk h
    · refine j_iconst (pc := 57) hX ic_0 dX10_hint_57 ?_
      refine j_istore (pc := 58) hX (fun x11 => [(5, .int x11), (0, .ref (xz X + 0)), (1, .int f1), (2, .int f2), (3, .int f3), (4, .int v4)]) (fun _ => rfl) (Nat.le_of_ble_eq_true rfl) dX10_hint_58 (fun x11 => ?_)
      refine j_locs [1, 2, 3, 4, 5, 0] rfl ?_
      refine m_hint_60_w hX hr f1 f2 f3 v4 _ (fun  h27 => ?_) FU x11 h
      refine j_iinc (pc := 158) hX 4 rfl (1 : Int32) ic_1 (fun x28 => [(4, .int x28), (0, .ref (xz X + 0)), (1, .int f1), (2, .int f2), (3, .int f3)]) (fun _ => rfl) (Nat.le_of_ble_eq_true rfl) dX10_hint_158 (fun x28 => ?_)
      refine j_goto (pc := 161) (tgt := 48) hX rfl dX10_hint_161 ?_
      refine j_locs [1, 2, 3, 4, 0] rfl ?_
      exact ih x28 h27
set_option maxHeartbeats 4000000 in
set_option maxRecDepth 100000 in
theorem m_t_hint (a1 : Int32) (a2 : Int32) (a3 : Int32) (h : HP) (rr : Int32 × HP) (e : m_hint a1 a2 a3 h = some rr) : Cn mV yX10_hint (ws_ yX10_hint cX10_hint 7 (some .int)) 9 198 (fun z => [.ref (z + 0), .int a1, .int a2, .int a3]) h (fun z => eI z rr.1) rr.2 := by
  refine cn_of (e1 := eI) (fun z => [(0, .ref (z + 0)), (1, .int a1), (2, .int a2), (3, .int a3)]) mV_ok ⟨Nat.le_refl _, Nat.le_refl _⟩ ymX10_hint (fun _ => rfl) (fun _ => Nat.le_of_ble_eq_true rfl) (fun X hX hr _ => ?_) e
  have hX : okX mV X rr cX10_hint RX10 7 9 198 := hX
  rw [m_hint]
  refine j_aload_n (pc := 0) hX 0 rfl dX10_hint_0 ?_
  refine j_iconst (pc := 1) hX ic_0 dX10_hint_1 ?_
  refine j_putI (pc := 2) hX fwX10_148.1 fwX10_148.2 rfl dX10_hint_2 (fun h1 => ?_)
  refine j_aload_n (pc := 5) hX 0 rfl dX10_hint_5 ?_
  refine j_iload_n (pc := 6) hX 1 rfl dX10_hint_6 ?_
  refine j_callVI (pc := 7) (a := 0) (As := fun z => [.int a1]) (rest := []) hX (fun r e => m_t_isPerson a1 h1 r e) ymX10_isPerson (lw_V q2004 q2006 qs96 q154 q2007) rfl ckX10 rfl ⟨Nat.le_of_ble_eq_true rfl, Nat.le_of_ble_eq_true rfl⟩ rfl rfl (Nat.le_of_ble_eq_true rfl) dX10_hint_7 (fun r2 h3 => ?_)
  refine j_ifeq (pc := 10) (tgt := 30) hX rfl dX10_hint_10 (fun _ => ?_) (fun _ => ?_)
  · refine j_iconst (pc := 30) hX ic_m1 dX10_hint_30 ?_
    exact j_iret (pc := 31) hX hr dX10_hint_31
  · refine j_aload_n (pc := 13) hX 0 rfl dX10_hint_13 ?_
    refine j_iload_n (pc := 14) hX 2 rfl dX10_hint_14 ?_
    refine j_callVI (pc := 15) (a := 0) (As := fun z => [.int a2]) (rest := []) hX (fun r e => m_t_isFact a2 h3 r e) ymX10_isFact (lw_V q2110 q2112 qs114 q154 q2113) rfl ckX10 rfl ⟨Nat.le_of_ble_eq_true rfl, Nat.le_of_ble_eq_true rfl⟩ rfl rfl (Nat.le_of_ble_eq_true rfl) dX10_hint_15 (fun r4 h5 => ?_)
    refine j_ifeq (pc := 18) (tgt := 30) hX rfl dX10_hint_18 (fun _ => ?_) (fun _ => ?_)
    · refine j_iconst (pc := 30) hX ic_m1 dX10_hint_30 ?_
      exact j_iret (pc := 31) hX hr dX10_hint_31
    · refine j_iload_n (pc := 21) hX 3 rfl dX10_hint_21 ?_
      refine j_iconst (pc := 22) hX ic_0 dX10_hint_22 ?_
      refine j_iconst (pc := 23) hX ic_1 dX10_hint_23 ?_
      refine j_callSI (pc := 24) (As := fun z => [.int a3, .int (0 : Int32), .int (1 : Int32)]) (rest := []) hX (fun r e => m_t_isIn a3 (0 : Int32) (1 : Int32) h5 r e) ymX10_isIn (lw_S q1915 q1916 q154 q1917) ⟨Nat.le_of_ble_eq_true rfl, Nat.le_of_ble_eq_true rfl⟩ rfl rfl (Nat.le_of_ble_eq_true rfl) dX10_hint_24 (fun r6 h7 => ?_)
      refine j_ifne (pc := 27) (tgt := 32) hX rfl dX10_hint_27 (fun _ => ?_) (fun _ => ?_)
      · refine j_iconst (pc := 30) hX ic_m1 dX10_hint_30 ?_
        exact j_iret (pc := 31) hX hr dX10_hint_31
      · refine j_aload_n (pc := 32) hX 0 rfl dX10_hint_32 ?_
        refine j_iload_n (pc := 33) hX 1 rfl dX10_hint_33 ?_
        refine j_iload_n (pc := 34) hX 2 rfl dX10_hint_34 ?_
        refine j_iconst (pc := 35) hX ic_0 dX10_hint_35 ?_
        refine j_callVI (pc := 36) (a := 0) (As := fun z => [.int a1, .int a2, .int (0 : Int32)]) (rest := []) hX (fun r e => m_t_learns a1 a2 (0 : Int32) h7 r e) ymX10_learns (lw_V q2142 q2144 qs118 q154 q2145) rfl ckX10 rfl ⟨Nat.le_of_ble_eq_true rfl, Nat.le_of_ble_eq_true rfl⟩ rfl rfl (Nat.le_of_ble_eq_true rfl) dX10_hint_36 (fun r8 h9 => ?_)
        refine j_ifeq (pc := 39) (tgt := 45) hX rfl dX10_hint_39 (fun _ => ?_) (fun _ => ?_)
        · refine j_iconst (pc := 45) hX ic_0 dX10_hint_45 ?_
          refine j_istore (pc := 46) hX (fun x10 => [(4, .int x10), (0, .ref (xz X + 0)), (1, .int a1), (2, .int a2), (3, .int a3)]) (fun _ => rfl) (Nat.le_of_ble_eq_true rfl) dX10_hint_46 (fun x10 => ?_)
          refine j_locs [1, 2, 3, 4, 0] rfl ?_
          refine m_hint_48_w hX hr a1 a2 a3 _ (fun  h29 => ?_) FU x10 h9
          refine j_bipush (pc := 164) hX bp_m2 dX10_hint_164 ?_
          exact j_iret (pc := 166) hX hr dX10_hint_166
        · refine j_bipush (pc := 42) hX bp_m2 dX10_hint_42 ?_
          exact j_iret (pc := 44) hX hr dX10_hint_44
set_option maxHeartbeats 4000000 in
set_option maxRecDepth 100000 in
theorem m_unasked_41_w {X : CTX} {rr : Int32 × HP} (hX : okX mV X rr cX10_unasked RX10 5 3 46) (hr : (xh X).sig.returnType = some .int) (f1 : Int32) (f3 : Int32) (k : Int32 → HP → Option (Int32 × HP)) (hk : ∀ (v2 : Int32) (h : HP), jG mV X evI rr (k v2 h) 76 [(0, .ref (xz X + 0)), (1, .int f1), (2, .int v2), (3, .int f3)] [] h) : ∀ (n : Nat) (v2 : Int32) (v4 : Int32) (h : HP), jG mV X evI rr (m_unasked_41 f1 f3 k n v2 v4 h) 41 [(0, .ref (xz X + 0)), (1, .int f1), (2, .int v2), (3, .int f3), (4, .int v4)] [] h := by
  intro n
  induction n with
  | zero =>
    intro v2 v4 h
    exact j_none
  | succ n ih =>
    intro v2 v4 h
    rw [m_unasked_41]
    refine j_iload (pc := 41) hX 4 rfl dX10_unasked_41 ?_
    refine j_aload_n (pc := 43) hX 0 rfl dX10_unasked_43 ?_
    refine j_getI (pc := 44) hX fgX10_231.1 fgX10_231.2 rfl dX10_unasked_44 ?_
    refine j_cge (pc := 47) (tgt := 76) hX rfl dX10_unasked_47 (fun _ => ?_) (fun _ => ?_)
    · refine j_locs [0, 1, 2, 3] rfl ?_
      exact hk v2 h
    · refine j_aload_n (pc := 50) hX 0 rfl dX10_unasked_50 ?_
      refine j_iconst (pc := 51) hX ic_0 dX10_unasked_51 ?_
      refine j_iload_n (pc := 52) hX 1 rfl dX10_unasked_52 ?_
      refine j_iload (pc := 53) hX 4 rfl dX10_unasked_53 ?_
      refine j_iload_n (pc := 55) hX 3 rfl dX10_unasked_55 ?_
      refine j_callVI (pc := 56) (a := 0) (As := fun z => [.int (0 : Int32), .int f1, .int v4, .int f3]) (rest := []) hX (fun r e => m_t_canAsk (0 : Int32) f1 v4 f3 h r e) ymX10_canAsk (lw_V q2024 q2026 qs99 q154 q2027) rfl ckX10 rfl ⟨Nat.le_of_ble_eq_true rfl, Nat.le_of_ble_eq_true rfl⟩ rfl rfl (Nat.le_of_ble_eq_true rfl) dX10_unasked_56 (fun r9 h10 => ?_)
      refine j_ifeq (pc := 59) (tgt := 70) hX rfl dX10_unasked_59 (fun _ => ?_) (fun _ => ?_)
      · refine j_iinc (pc := 70) hX 4 rfl (1 : Int32) ic_1 (fun x11 => [(4, .int x11), (0, .ref (xz X + 0)), (1, .int f1), (2, .int v2), (3, .int f3)]) (fun _ => rfl) (Nat.le_of_ble_eq_true rfl) dX10_unasked_70 (fun x11 => ?_)
        refine j_goto (pc := 73) (tgt := 41) hX rfl dX10_unasked_73 ?_
        refine j_locs [1, 2, 3, 4, 0] rfl ?_
        exact ih v2 x11 h10
      · refine j_iload_n (pc := 62) hX 2 rfl dX10_unasked_62 ?_
        refine j_iconst (pc := 63) hX ic_1 dX10_unasked_63 ?_
        refine j_iload_n (pc := 64) hX 3 rfl dX10_unasked_64 ?_
        refine j_ishl (pc := 65) hX dX10_unasked_65 ?_
        refine j_iconst (pc := 66) hX ic_m1 dX10_unasked_66 ?_
        refine j_ixor (pc := 67) hX dX10_unasked_67 ?_
        refine j_iand (pc := 68) hX dX10_unasked_68 ?_
        refine j_istore_n (pc := 69) hX (fun x12 => [(2, .int x12), (0, .ref (xz X + 0)), (1, .int f1), (3, .int f3), (4, .int v4)]) (fun _ => rfl) (Nat.le_of_ble_eq_true rfl) dX10_unasked_69 (fun x12 => ?_)
        refine j_iinc (pc := 70) hX 4 rfl (1 : Int32) ic_1 (fun x13 => [(4, .int x13), (2, .int x12), (0, .ref (xz X + 0)), (1, .int f1), (3, .int f3)]) (fun _ => rfl) (Nat.le_of_ble_eq_true rfl) dX10_unasked_70 (fun x13 => ?_)
        refine j_goto (pc := 73) (tgt := 41) hX rfl dX10_unasked_73 ?_
        refine j_locs [2, 3, 1, 4, 0] rfl ?_
        exact ih x12 x13 h10
set_option maxHeartbeats 4000000 in
set_option maxRecDepth 100000 in
theorem m_unasked_30_w {X : CTX} {rr : Int32 × HP} (hX : okX mV X rr cX10_unasked RX10 5 3 46) (hr : (xh X).sig.returnType = some .int) (f1 : Int32) (k : Int32 → HP → Option (Int32 × HP)) (hk : ∀ (v2 : Int32) (h : HP), jG mV X evI rr (k v2 h) 82 [(2, .int v2)] [] h) : ∀ (n : Nat) (v2 : Int32) (v3 : Int32) (h : HP), jG mV X evI rr (m_unasked_30 f1 k n v2 v3 h) 30 [(0, .ref (xz X + 0)), (1, .int f1), (2, .int v2), (3, .int v3)] [] h := by
  intro n
  induction n with
  | zero =>
    intro v2 v3 h
    exact j_none
  | succ n ih =>
    intro v2 v3 h
    rw [m_unasked_30]
    refine j_iload_n (pc := 30) hX 3 rfl dX10_unasked_30 ?_
    refine j_aload_n (pc := 31) hX 0 rfl dX10_unasked_31 ?_
    refine j_getI (pc := 32) hX fgX10_234.1 fgX10_234.2 rfl dX10_unasked_32 ?_
    refine j_cge (pc := 35) (tgt := 82) hX rfl dX10_unasked_35 (fun _ => ?_) (fun _ => ?_)
    · refine j_locs [2] rfl ?_
      exact hk v2 h
    · refine j_iconst (pc := 38) hX ic_0 dX10_unasked_38 ?_
      refine j_istore (pc := 39) hX (fun x8 => [(4, .int x8), (0, .ref (xz X + 0)), (1, .int f1), (2, .int v2), (3, .int v3)]) (fun _ => rfl) (Nat.le_of_ble_eq_true rfl) dX10_unasked_39 (fun x8 => ?_)
      refine j_locs [1, 2, 3, 4, 0] rfl ?_
      refine m_unasked_41_w hX hr f1 v3 _ (fun x14 h15 => ?_) FU v2 x8 h
      refine j_iinc (pc := 76) hX 3 rfl (1 : Int32) ic_1 (fun x16 => [(3, .int x16), (0, .ref (xz X + 0)), (1, .int f1), (2, .int x14)]) (fun _ => rfl) (Nat.le_of_ble_eq_true rfl) dX10_unasked_76 (fun x16 => ?_)
      refine j_goto (pc := 79) (tgt := 30) hX rfl dX10_unasked_79 ?_
      refine j_locs [1, 2, 3, 0] rfl ?_
      exact ih x14 x16 h15
set_option maxHeartbeats 4000000 in
set_option maxRecDepth 100000 in
theorem m_t_unasked (a1 : Int32) (h : HP) (rr : Int32 × HP) (e : m_unasked a1 h = some rr) : Cn mV yX10_unasked (ws_ yX10_unasked cX10_unasked 5 (some .int)) 3 46 (fun z => [.ref (z + 0), .int a1]) h (fun z => eI z rr.1) rr.2 := by
  refine cn_of (e1 := eI) (fun z => [(0, .ref (z + 0)), (1, .int a1)]) mV_ok ⟨Nat.le_refl _, Nat.le_refl _⟩ ymX10_unasked (fun _ => rfl) (fun _ => Nat.le_of_ble_eq_true rfl) (fun X hX hr _ => ?_) e
  have hX : okX mV X rr cX10_unasked RX10 5 3 46 := hX
  rw [m_unasked]
  refine j_aload_n (pc := 0) hX 0 rfl dX10_unasked_0 ?_
  refine j_iconst (pc := 1) hX ic_0 dX10_unasked_1 ?_
  refine j_putI (pc := 2) hX fwX10_148.1 fwX10_148.2 rfl dX10_unasked_2 (fun h1 => ?_)
  refine j_aload_n (pc := 5) hX 0 rfl dX10_unasked_5 ?_
  refine j_iload_n (pc := 6) hX 1 rfl dX10_unasked_6 ?_
  refine j_callVI (pc := 7) (a := 0) (As := fun z => [.int a1]) (rest := []) hX (fun r e => m_t_isPerson a1 h1 r e) ymX10_isPerson (lw_V q2004 q2006 qs96 q154 q2007) rfl ckX10 rfl ⟨Nat.le_of_ble_eq_true rfl, Nat.le_of_ble_eq_true rfl⟩ rfl rfl (Nat.le_of_ble_eq_true rfl) dX10_unasked_7 (fun r2 h3 => ?_)
  refine j_ifne (pc := 10) (tgt := 15) hX rfl dX10_unasked_10 (fun _ => ?_) (fun _ => ?_)
  · refine j_iconst (pc := 13) hX ic_m1 dX10_unasked_13 ?_
    exact j_iret (pc := 14) hX hr dX10_unasked_14
  · refine j_aload_n (pc := 15) hX 0 rfl dX10_unasked_15 ?_
    refine j_callVV (pc := 16) (a := 0) (As := fun z => []) (rest := []) hX (fun r e => m_t_plainTried h3 r e) ymX10_plainTried (lw_V q1603 q1605 qs66 q154 q1606) rfl ckX10 rfl ⟨Nat.le_of_ble_eq_true rfl, Nat.le_of_ble_eq_true rfl⟩ rfl rfl (Nat.le_of_ble_eq_true rfl) dX10_unasked_16 (fun r4 h5 => ?_)
    refine j_iconst (pc := 19) hX ic_1 dX10_unasked_19 ?_
    refine j_aload_n (pc := 20) hX 0 rfl dX10_unasked_20 ?_
    refine j_getI (pc := 21) hX fgX10_234.1 fgX10_234.2 rfl dX10_unasked_21 ?_
    refine j_ishl (pc := 24) hX dX10_unasked_24 ?_
    refine j_iconst (pc := 25) hX ic_1 dX10_unasked_25 ?_
    refine j_isub (pc := 26) hX dX10_unasked_26 ?_
    refine j_istore_n (pc := 27) hX (fun x6 => [(2, .int x6), (0, .ref (xz X + 0)), (1, .int a1)]) (fun _ => rfl) (Nat.le_of_ble_eq_true rfl) dX10_unasked_27 (fun x6 => ?_)
    refine j_iconst (pc := 28) hX ic_0 dX10_unasked_28 ?_
    refine j_istore_n (pc := 29) hX (fun x7 => [(3, .int x7), (2, .int x6), (0, .ref (xz X + 0)), (1, .int a1)]) (fun _ => rfl) (Nat.le_of_ble_eq_true rfl) dX10_unasked_29 (fun x7 => ?_)
    refine j_locs [2, 3, 1, 0] rfl ?_
    refine m_unasked_30_w hX hr a1 _ (fun x17 h18 => ?_) FU x6 x7 h5
    refine j_iload_n (pc := 82) hX 0 rfl dX10_unasked_82 ?_
    exact j_iret (pc := 83) hX hr dX10_unasked_83
set_option maxHeartbeats 4000000 in
set_option maxRecDepth 100000 in
theorem m_t_sumInRoom (a1 : Int32) (a2 : Int32) (h : HP) (rr : Int32 × HP) (e : m_sumInRoom a1 a2 h = some rr) : Cn mV yX10_sumInRoom (ws_ yX10_sumInRoom cX10_sumInRoom 3 (some .int)) 8 174 (fun z => [.ref (z + 0), .int a1, .int a2]) h (fun z => eI z rr.1) rr.2 := by
  refine cn_of (e1 := eI) (fun z => [(0, .ref (z + 0)), (1, .int a1), (2, .int a2)]) mV_ok ⟨Nat.le_refl _, Nat.le_refl _⟩ ymX10_sumInRoom (fun _ => rfl) (fun _ => Nat.le_of_ble_eq_true rfl) (fun X hX hr _ => ?_) e
  have hX : okX mV X rr cX10_sumInRoom RX10 3 8 174 := hX
  rw [m_sumInRoom]
  refine j_aload_n (pc := 0) hX 0 rfl dX10_sumInRoom_0 ?_
  refine j_callVV (pc := 1) (a := 0) (As := fun z => []) (rest := []) hX (fun r e => m_t_layTried h r e) ymX10_layTried (lw_V q2126 q2128 qs115 q154 q2129) rfl ckX10 rfl ⟨Nat.le_of_ble_eq_true rfl, Nat.le_of_ble_eq_true rfl⟩ rfl rfl (Nat.le_of_ble_eq_true rfl) dX10_sumInRoom_1 (fun r1 h2 => ?_)
  refine j_aload_n (pc := 4) hX 0 rfl dX10_sumInRoom_4 ?_
  refine j_getR (pc := 5) hX fgX10_106.1 fgX10_106.2 rfl rfl dX10_sumInRoom_5 ?_
  refine j_iconst (pc := 8) hX ic_5 dX10_sumInRoom_8 ?_
  refine j_iload_n (pc := 9) hX 1 rfl dX10_sumInRoom_9 ?_
  refine j_iadd (pc := 10) hX dX10_sumInRoom_10 ?_
  refine j_iload_n (pc := 11) hX 2 rfl dX10_sumInRoom_11 ?_
  refine j_iast (pc := 12) (n := 10) hX rfl dX10_sumInRoom_12 (fun _ h3 => ?_)
  refine j_aload_n (pc := 13) hX 0 rfl dX10_sumInRoom_13 ?_
  refine j_callVV (pc := 14) (a := 0) (As := fun z => []) (rest := []) hX (fun r e => m_t_askAll h3 r e) ymX10_askAll (lw_V q2130 q2132 qs116 q154 q2133) rfl ckX10 rfl ⟨Nat.le_of_ble_eq_true rfl, Nat.le_of_ble_eq_true rfl⟩ rfl rfl (Nat.le_of_ble_eq_true rfl) dX10_sumInRoom_14 (fun r4 h5 => ?_)
  refine j_aload_n (pc := 17) hX 0 rfl dX10_sumInRoom_17 ?_
  refine j_iconst (pc := 18) hX ic_1 dX10_sumInRoom_18 ?_
  refine j_callVI (pc := 19) (a := 0) (As := fun z => [.int (1 : Int32)]) (rest := []) hX (fun r e => m_t_sumIn (1 : Int32) h5 r e) ymX10_sumIn (lw_V q2134 q2136 qs117 q154 q2137) rfl ckX10 rfl ⟨Nat.le_of_ble_eq_true rfl, Nat.le_of_ble_eq_true rfl⟩ rfl rfl (Nat.le_of_ble_eq_true rfl) dX10_sumInRoom_19 (fun r6 h7 => ?_)
  exact j_iret (pc := 22) hX hr dX10_sumInRoom_22
set_option maxHeartbeats 4000000 in
set_option maxRecDepth 100000 in
theorem m_t_inRoom (a1 : Int32) (a2 : Int32) (h : HP) (rr : Int32 × HP) (e : m_inRoom a1 a2 h = some rr) : Cn mV yX10_inRoom (ws_ yX10_inRoom cX10_inRoom 3 (some .int)) 9 196 (fun z => [.ref (z + 0), .int a1, .int a2]) h (fun z => eI z rr.1) rr.2 := by
  refine cn_of (e1 := eI) (fun z => [(0, .ref (z + 0)), (1, .int a1), (2, .int a2)]) mV_ok ⟨Nat.le_refl _, Nat.le_refl _⟩ ymX10_inRoom (fun _ => rfl) (fun _ => Nat.le_of_ble_eq_true rfl) (fun X hX hr _ => ?_) e
  have hX : okX mV X rr cX10_inRoom RX10 3 9 196 := hX
  rw [m_inRoom]
  refine j_aload_n (pc := 0) hX 0 rfl dX10_inRoom_0 ?_
  refine j_iconst (pc := 1) hX ic_0 dX10_inRoom_1 ?_
  refine j_putI (pc := 2) hX fwX10_148.1 fwX10_148.2 rfl dX10_inRoom_2 (fun h1 => ?_)
  refine j_aload_n (pc := 5) hX 0 rfl dX10_inRoom_5 ?_
  refine j_iload_n (pc := 6) hX 1 rfl dX10_inRoom_6 ?_
  refine j_callVI (pc := 7) (a := 0) (As := fun z => [.int a1]) (rest := []) hX (fun r e => m_t_isPerson a1 h1 r e) ymX10_isPerson (lw_V q2004 q2006 qs96 q154 q2007) rfl ckX10 rfl ⟨Nat.le_of_ble_eq_true rfl, Nat.le_of_ble_eq_true rfl⟩ rfl rfl (Nat.le_of_ble_eq_true rfl) dX10_inRoom_7 (fun r2 h3 => ?_)
  refine j_ifeq (pc := 10) (tgt := 31) hX rfl dX10_inRoom_10 (fun _ => ?_) (fun _ => ?_)
  · refine j_iconst (pc := 31) hX ic_m1 dX10_inRoom_31 ?_
    exact j_iret (pc := 32) hX hr dX10_inRoom_32
  · refine j_iload_n (pc := 13) hX 2 rfl dX10_inRoom_13 ?_
    refine j_iconst (pc := 14) hX ic_0 dX10_inRoom_14 ?_
    refine j_iconst (pc := 15) hX ic_3 dX10_inRoom_15 ?_
    refine j_callSI (pc := 16) (As := fun z => [.int a2, .int (0 : Int32), .int (3 : Int32)]) (rest := []) hX (fun r e => m_t_isIn a2 (0 : Int32) (3 : Int32) h3 r e) ymX10_isIn (lw_S q1915 q1916 q154 q1917) ⟨Nat.le_of_ble_eq_true rfl, Nat.le_of_ble_eq_true rfl⟩ rfl rfl (Nat.le_of_ble_eq_true rfl) dX10_inRoom_16 (fun r4 h5 => ?_)
    refine j_ifeq (pc := 19) (tgt := 31) hX rfl dX10_inRoom_19 (fun _ => ?_) (fun _ => ?_)
    · refine j_iconst (pc := 31) hX ic_m1 dX10_inRoom_31 ?_
      exact j_iret (pc := 32) hX hr dX10_inRoom_32
    · refine j_aload_n (pc := 22) hX 0 rfl dX10_inRoom_22 ?_
      refine j_iload_n (pc := 23) hX 1 rfl dX10_inRoom_23 ?_
      refine j_iload_n (pc := 24) hX 2 rfl dX10_inRoom_24 ?_
      refine j_callVI (pc := 25) (a := 0) (As := fun z => [.int a1, .int a2]) (rest := []) hX (fun r e => m_t_sumInRoom a1 a2 h5 r e) ymX10_sumInRoom (lw_V q2166 q2168 qs119 q154 q2169) rfl ckX10 rfl ⟨Nat.le_of_ble_eq_true rfl, Nat.le_of_ble_eq_true rfl⟩ rfl rfl (Nat.le_of_ble_eq_true rfl) dX10_inRoom_25 (fun r6 h7 => ?_)
      refine j_goto (pc := 28) (tgt := 32) hX rfl dX10_inRoom_28 ?_
      exact j_iret (pc := 32) hX hr dX10_inRoom_32
