/-! the component: walks -/
set_option maxHeartbeats 4000000 in
set_option maxRecDepth 100000 in
theorem cA_can_t   (a1 : Int32) (a2 : Int32) (a3 : Int32) (h : HP) (rr : Int32 × HP) (e : cA_can a1 a2 a3 h = some rr) : Cn cV yX1_can (ws_ yX1_can cX1_can 4 (some .int)) 5 89 (fun z => [.ref (z + 0), .int a1, .int a2, .int a3]) h (fun z => eI z rr.1) rr.2 := by
  refine cn_of (e1 := eI) (fun z => [(0, .ref (z + 0)), (1, .int a1), (2, .int a2), (3, .int a3)]) cV_ok (cA_can_m a1 a2 a3 h _ e) ymX1_can (fun _ => rfl) (fun _ => Nat.le_of_ble_eq_true rfl) (fun X hX hr hnm => ?_) e
  have hX : okX cV X rr cX1_can RX1 4 5 89 := hX
  rw [cA_can]
  refine j_aload_n (pc := 0) hX 0 rfl dX1_can_0 ?_
  refine j_iload_n (pc := 1) hX 1 rfl dX1_can_1 ?_
  refine j_iload_n (pc := 2) hX 2 rfl dX1_can_2 ?_
  refine j_callV (pc := 3) (e1 := eI) (a := 0) (As := fun z => [.int a1, .int a2]) (rest := []) hX (fun r e => cA_areTwo_t a1 a2 h r e) ymX1_areTwo (lw_V q1052 q1054 qs36 q140 q1055) rfl ckX1 rfl ⟨Nat.le_of_ble_eq_true rfl, Nat.le_of_ble_eq_true rfl⟩ rfl rfl (Nat.le_of_ble_eq_true rfl) dX1_can_3 (fun r1 h2 => ?_)
  refine j_ifeq (pc := 6) (tgt := 39) hX rfl dX1_can_6 (fun _ => ?_) (fun _ => ?_)
  · refine j_iconst (pc := 39) hX ic_m1 dX1_can_39 ?_
    exact j_iret (pc := 40) hX hr dX1_can_40
  · refine j_aload_n (pc := 9) hX 0 rfl dX1_can_9 ?_
    refine j_iload_n (pc := 10) hX 3 rfl dX1_can_10 ?_
    refine j_callV (pc := 11) (e1 := eI) (a := 0) (As := fun z => [.int a3]) (rest := []) hX (fun r e => cA_isQuestion_t a3 h2 r e) ymX1_isQuestion (lw_V q1038 q1040 qs34 q140 q1041) rfl ckX1 rfl ⟨Nat.le_of_ble_eq_true rfl, Nat.le_of_ble_eq_true rfl⟩ rfl rfl (Nat.le_of_ble_eq_true rfl) dX1_can_11 (fun r3 h4 => ?_)
    refine j_ifeq (pc := 14) (tgt := 39) hX rfl dX1_can_14 (fun _ => ?_) (fun _ => ?_)
    · refine j_iconst (pc := 39) hX ic_m1 dX1_can_39 ?_
      exact j_iret (pc := 40) hX hr dX1_can_40
    · refine j_aload_n (pc := 17) hX 0 rfl dX1_can_17 ?_
      refine c_getR (pc := 18) hX fgX1_95_X1.1 fgX1_95_X1.2 rfl rfl dX1_can_18 ?_
      refine j_iload_n (pc := 21) hX 1 rfl dX1_can_21 ?_
      refine j_iload_n (pc := 22) hX 2 rfl dX1_can_22 ?_
      refine j_iload_n (pc := 23) hX 3 rfl dX1_can_23 ?_
      refine j_iconst (pc := 24) hX ic_1 dX1_can_24 ?_
      refine j_callV (pc := 25) (e1 := eI) (a := 20) (As := fun z => [.int a1, .int a2, .int a3, .int (1 : Int32)]) (rest := []) hX (fun r e => cS_can_t 20 a1 a2 a3 (1 : Int32) h4 r e) ymX9_can (lw_V q1061 q1062 q1063 q151 q1064) rfl ckX9 rfl ⟨Nat.le_of_ble_eq_true rfl, Nat.le_of_ble_eq_true rfl⟩ rfl rfl (Nat.le_of_ble_eq_true rfl) dX1_can_25 (fun r5 h6 => ?_)
      refine j_ifeq (pc := 28) (tgt := 35) hX rfl dX1_can_28 (fun _ => ?_) (fun _ => ?_)
      · refine j_iconst (pc := 35) hX ic_0 dX1_can_35 ?_
        refine j_goto (pc := 36) (tgt := 40) hX rfl dX1_can_36 ?_
        exact j_iret (pc := 40) hX hr dX1_can_40
      · refine j_iconst (pc := 31) hX ic_1 dX1_can_31 ?_
        refine j_goto (pc := 32) (tgt := 40) hX rfl dX1_can_32 ?_
        exact j_iret (pc := 40) hX hr dX1_can_40
set_option maxHeartbeats 4000000 in
set_option maxRecDepth 100000 in
theorem cS_wit_t   (o : Nat) (a1 : Int32) (h : HP) (rr : Int32 × HP) (e : cS_wit o a1 h = some rr) : Cn cV yX9_wit (ws_ yX9_wit cX9_wit 2 (some .int)) 4 64 (fun z => [.ref (z + o), .int a1]) h (fun z => eI z rr.1) rr.2 := by
  refine cn_of (e1 := eI) (fun z => [(0, .ref (z + o)), (1, .int a1)]) cV_ok (cS_wit_m o a1 h _ e) ymX9_wit (fun _ => rfl) (fun _ => Nat.le_of_ble_eq_true rfl) (fun X hX hr hnm => ?_) e
  have hX : okX cV X rr cX9_wit RX9 2 4 64 := hX
  rw [cS_wit]
  refine j_aload_n (pc := 0) hX 0 rfl dX9_wit_0 ?_
  refine j_grd fun g1 => ?_
  refine c_getI (pc := 1) hX fgX9_66_X9.1 fgX9_66_X9.2 (k1_of g1.1) dX9_wit_1 ?_
  refine j_iconst (pc := 4) hX ic_4 dX9_wit_4 ?_
  refine j_cne (pc := 5) (tgt := 13) hX rfl dX9_wit_5 (fun _ => ?_) (fun _ => ?_)
  · refine j_bipush (pc := 8) hX bp_9 dX9_wit_8 ?_
    refine j_goto (pc := 10) (tgt := 33) hX rfl dX9_wit_10 ?_
    exact j_iret (pc := 33) hX hr dX9_wit_33
  · refine j_aload_n (pc := 13) hX 0 rfl dX9_wit_13 ?_
    refine c_getR (pc := 14) hX fgX9_3_X9.1 fgX9_3_X9.2 (k1_of g1.1) g1.2.1.2.2.2.2 dX9_wit_14 ?_
    refine j_onr fun b2 e3 => ?_
    refine c_getR (pc := 17) hX fgX9_32_X1.1 fgX9_32_X1.2 rfl e3 dX9_wit_17 ?_
    refine j_grd fun g4 => ?_
    refine c_getR (pc := 20) hX fgX9_36_X3.1 fgX9_36_X3.2 (k1_of g4.1) g4.2.1.2.1 dX9_wit_20 ?_
    refine j_iload_n (pc := 23) hX 1 rfl dX9_wit_23 ?_
    refine j_grd fun g7 => ?_
    refine j_callV (pc := 24) (e1 := eR) (a := (b2 + 3)) (As := fun z => [.int a1]) (rest := []) hX (fun r e => cL_get_t (b2 + 3) a1 h r e) ymJ2_get (lw_V q421 q422 q423 q145 q424) rfl ckJ2 (k1_of g7.1) ⟨Nat.le_of_ble_eq_true rfl, Nat.le_of_ble_eq_true rfl⟩ rfl rfl (Nat.le_of_ble_eq_true rfl) dX9_wit_24 (fun r5 h6 => ?_)
    refine j_grd fun g8 => ?_
    refine j_castS (pc := 27) hX ckX13 g8 q435 dX9_wit_27 ?_
    refine c_getI (pc := 30) hX fgX9_83_X13.1 fgX9_83_X13.2 g8 dX9_wit_30 ?_
    exact j_iret (pc := 33) hX hr dX9_wit_33
set_option maxHeartbeats 4000000 in
set_option maxRecDepth 100000 in
theorem cS_name_t   (o : Nat) (a1 : Int32) (a2 : Int32) (h : HP) (rr : Unit × HP) (e : cS_name o a1 a2 h = some rr) : Cn cV yX9_name (ws_ yX9_name cX9_name 3 (none)) 5 85 (fun z => [.ref (z + o), .int a1, .int a2]) h (fun z => eV z rr.1) rr.2 := by
  refine cn_of (e1 := eV) (fun z => [(0, .ref (z + o)), (1, .int a1), (2, .int a2)]) cV_ok (cS_name_m o a1 a2 h _ e) ymX9_name (fun _ => rfl) (fun _ => Nat.le_of_ble_eq_true rfl) (fun X hX hr hnm => ?_) e
  have hX : okX cV X rr cX9_name RX9 3 5 85 := hX
  rw [cS_name]
  refine j_aload_n (pc := 0) hX 0 rfl dX9_name_0 ?_
  refine j_grd fun g1 => ?_
  refine c_getR (pc := 1) hX fgX9_3_X9.1 fgX9_3_X9.2 (k1_of g1.1) g1.2.1.2.2.2.2 dX9_name_1 ?_
  refine c_getR (pc := 4) hX fgX9_86_X1.1 fgX9_86_X1.2 rfl rfl dX9_name_4 ?_
  refine j_iconst (pc := 7) hX ic_0 dX9_name_7 ?_
  refine j_aload_n (pc := 8) hX 0 rfl dX9_name_8 ?_
  refine c_getR (pc := 9) hX fgX9_3_X9.1 fgX9_3_X9.2 (k1_of g1.1) g1.2.1.2.2.2.2 dX9_name_9 ?_
  refine j_onr fun b2 e3 => ?_
  refine c_getR (pc := 12) hX fgX9_32_X1.1 fgX9_32_X1.2 rfl e3 dX9_name_12 ?_
  refine j_grd fun g4 => ?_
  refine c_getR (pc := 15) hX fgX9_36_X3.1 fgX9_36_X3.2 (k1_of g4.1) g4.2.1.2.1 dX9_name_15 ?_
  refine j_iload_n (pc := 18) hX 1 rfl dX9_name_18 ?_
  refine j_grd fun g7 => ?_
  refine j_callV (pc := 19) (e1 := eR) (a := (b2 + 3)) (As := fun z => [.int a1]) (rest := [.int (0 : Int32), .ref (xz X + 14)]) hX (fun r e => cL_get_t (b2 + 3) a1 h r e) ymJ2_get (lw_V q421 q422 q423 q145 q424) rfl ckJ2 (k1_of g7.1) ⟨Nat.le_of_ble_eq_true rfl, Nat.le_of_ble_eq_true rfl⟩ rfl rfl (Nat.le_of_ble_eq_true rfl) dX9_name_19 (fun r5 h6 => ?_)
  refine j_grd fun g8 => ?_
  refine j_castS (pc := 22) hX ckX13 g8 q435 dX9_name_22 ?_
  refine c_getI (pc := 25) hX fgX9_90_X13.1 fgX9_90_X13.2 g8 dX9_name_25 ?_
  refine j_i2l (pc := 28) hX dX9_name_28 ?_
  refine c_last (pc := 29) (n := 7) hX rfl dX9_name_29 (fun h9 q10 q11 => ?_)
  refine j_aload_n (pc := 30) hX 0 rfl dX9_name_30 ?_
  refine j_grd fun g12 => ?_
  refine c_getR (pc := 31) hX fgX9_3_X9.1 fgX9_3_X9.2 (k1_of g12.1) g12.2.1.2.2.2.2 dX9_name_31 ?_
  refine c_getR (pc := 34) hX fgX9_86_X1.1 fgX9_86_X1.2 rfl rfl dX9_name_34 ?_
  refine j_iconst (pc := 37) hX ic_1 dX9_name_37 ?_
  refine j_aload_n (pc := 38) hX 0 rfl dX9_name_38 ?_
  refine j_iload_n (pc := 39) hX 1 rfl dX9_name_39 ?_
  refine j_callV (pc := 40) (e1 := eI) (a := o) (As := fun z => [.int a1]) (rest := [.int (1 : Int32), .ref (xz X + 14)]) hX (fun r e => cS_wit_t o a1 h9 r e) ymX9_wit (lw_V q1101 q1102 q1103 q151 q1104) rfl ckX9 (k1_of g12.1) ⟨Nat.le_of_ble_eq_true rfl, Nat.le_of_ble_eq_true rfl⟩ rfl rfl (Nat.le_of_ble_eq_true rfl) dX9_name_40 (fun r13 h14 => ?_)
  refine j_i2l (pc := 43) hX dX9_name_43 ?_
  refine c_last (pc := 44) (n := 7) hX rfl dX9_name_44 (fun h15 q16 q17 => ?_)
  refine j_aload_n (pc := 45) hX 0 rfl dX9_name_45 ?_
  refine j_grd fun g18 => ?_
  refine c_getR (pc := 46) hX fgX9_3_X9.1 fgX9_3_X9.2 (k1_of g18.1) g18.2.1.2.2.2.2 dX9_name_46 ?_
  refine c_getR (pc := 49) hX fgX9_86_X1.1 fgX9_86_X1.2 rfl rfl dX9_name_49 ?_
  refine j_iconst (pc := 52) hX ic_2 dX9_name_52 ?_
  refine j_aload_n (pc := 53) hX 0 rfl dX9_name_53 ?_
  refine c_getR (pc := 54) hX fgX9_22_X9.1 fgX9_22_X9.2 (k1_of g18.1) g18.2.1.2.2.1 dX9_name_54 ?_
  refine j_iload_n (pc := 57) hX 1 rfl dX9_name_57 ?_
  refine j_iald (pc := 58) (n := 5) hX g18.2.2.2.2.1 dX9_name_58 (fun _ => ?_)
  refine j_i2l (pc := 59) hX dX9_name_59 ?_
  refine c_last (pc := 60) (n := 7) hX rfl dX9_name_60 (fun h19 q20 q21 => ?_)
  refine j_aload_n (pc := 61) hX 0 rfl dX9_name_61 ?_
  refine c_getR (pc := 62) hX fgX9_3_X9.1 fgX9_3_X9.2 (k1_of (shS_t q20 q21 g18).1) (shS_t q20 q21 g18).2.1.2.2.2.2 dX9_name_62 ?_
  refine c_getR (pc := 65) hX fgX9_86_X1.1 fgX9_86_X1.2 rfl rfl dX9_name_65 ?_
  refine j_iconst (pc := 68) hX ic_3 dX9_name_68 ?_
  refine j_aload_n (pc := 69) hX 0 rfl dX9_name_69 ?_
  refine c_getR (pc := 70) hX fgX9_15_X9.1 fgX9_15_X9.2 (k1_of (shS_t q20 q21 g18).1) (shS_t q20 q21 g18).2.1.1 dX9_name_70 ?_
  refine j_iload_n (pc := 73) hX 1 rfl dX9_name_73 ?_
  refine j_iald (pc := 74) (n := 5) hX (shS_t q20 q21 g18).2.2.1 dX9_name_74 (fun _ => ?_)
  refine j_callS (pc := 75) (e1 := eI) (As := fun z => [.int (gI h19 (o + 1) (a1).toNatClampNeg)]) (rest := [.int (3 : Int32), .ref (xz X + 14)]) hX (fun r e => kJ18_bitCount_t (gI h19 (o + 1) (a1).toNatClampNeg) h19 r e) ymJ18_bitCount (lw_S q1105 q1106 q178 q1107) ⟨Nat.le_of_ble_eq_true rfl, Nat.le_of_ble_eq_true rfl⟩ rfl rfl (Nat.le_of_ble_eq_true rfl) dX9_name_75 (fun r22 h23 => ?_)
  refine j_i2l (pc := 78) hX dX9_name_78 ?_
  refine c_last (pc := 79) (n := 7) hX rfl dX9_name_79 (fun h24 q25 q26 => ?_)
  refine j_aload_n (pc := 80) hX 0 rfl dX9_name_80 ?_
  refine j_grd fun g27 => ?_
  refine c_getR (pc := 81) hX fgX9_3_X9.1 fgX9_3_X9.2 (k1_of g27.1) g27.2.1.2.2.2.2 dX9_name_81 ?_
  refine c_getR (pc := 84) hX fgX9_86_X1.1 fgX9_86_X1.2 rfl rfl dX9_name_84 ?_
  refine j_iconst (pc := 87) hX ic_4 dX9_name_87 ?_
  refine j_aload_n (pc := 88) hX 0 rfl dX9_name_88 ?_
  refine c_getI (pc := 89) hX fgX9_66_X9.1 fgX9_66_X9.2 (k1_of g27.1) dX9_name_89 ?_
  refine j_iconst (pc := 92) hX ic_1 dX9_name_92 ?_
  refine j_jon (fun (j28 : Int64 → Option (Unit × HP)) => ∀ (s29 : Int64), jG cV X evV rr (j28 s29) 107 [(0, .ref (xz X + o)), (2, .int a2)] [.long s29, .int (4 : Int32), .ref (xz X + 14)] h24) ?_ ?_
  · intro s29
    refine c_last (pc := 107) (n := 7) hX rfl dX9_name_107 (fun h30 q31 q32 => ?_)
    refine j_aload_n (pc := 108) hX 0 rfl dX9_name_108 ?_
    refine c_getR (pc := 109) hX fgX9_3_X9.1 fgX9_3_X9.2 (k1_of (shS_t q31 q32 g27).1) (shS_t q31 q32 g27).2.1.2.2.2.2 dX9_name_109 ?_
    refine c_getR (pc := 112) hX fgX9_86_X1.1 fgX9_86_X1.2 rfl rfl dX9_name_112 ?_
    refine j_iconst (pc := 115) hX ic_5 dX9_name_115 ?_
    refine j_iload_n (pc := 116) hX 1 rfl dX9_name_116 ?_
    refine j_i2l (pc := 117) hX dX9_name_117 ?_
    refine c_last (pc := 118) (n := 7) hX rfl dX9_name_118 (fun h33 q34 q35 => ?_)
    refine j_aload_n (pc := 119) hX 0 rfl dX9_name_119 ?_
    refine c_getR (pc := 120) hX fgX9_3_X9.1 fgX9_3_X9.2 (k1_of (shS_t q34 q35 (shS_t q31 q32 g27)).1) (shS_t q34 q35 (shS_t q31 q32 g27)).2.1.2.2.2.2 dX9_name_120 ?_
    refine c_getR (pc := 123) hX fgX9_86_X1.1 fgX9_86_X1.2 rfl rfl dX9_name_123 ?_
    refine j_bipush (pc := 126) hX bp_6 dX9_name_126 ?_
    refine j_aload_n (pc := 128) hX 0 rfl dX9_name_128 ?_
    refine c_getI (pc := 129) hX fgX9_54_X9.1 fgX9_54_X9.2 (k1_of (shS_t q34 q35 (shS_t q31 q32 g27)).1) dX9_name_129 ?_
    refine j_i2l (pc := 132) hX dX9_name_132 ?_
    refine c_last (pc := 133) (n := 7) hX rfl dX9_name_133 (fun h36 q37 q38 => ?_)
    exact j_vret (pc := 134) hX hr dX9_name_134
  · intro j28 hj28
    refine j_cne (pc := 93) (tgt := 100) hX rfl dX9_name_93 (fun _ => ?_) (fun _ => ?_)
    · refine j_lconst (pc := 96) (v := 0) hX rfl dX9_name_96 ?_
      refine j_goto (pc := 97) (tgt := 107) hX rfl dX9_name_97 ?_
      refine j_locs [0, 2] rfl ?_
      exact hj28 (0 : Int64)
    · refine j_aload_n (pc := 100) hX 0 rfl dX9_name_100 ?_
      refine c_getR (pc := 101) hX fgX9_19_X9.1 fgX9_19_X9.2 (k1_of g27.1) g27.2.1.2.1 dX9_name_101 ?_
      refine j_iload_n (pc := 104) hX 1 rfl dX9_name_104 ?_
      refine j_iald (pc := 105) (n := 5) hX g27.2.2.2.1 dX9_name_105 (fun _ => ?_)
      refine j_i2l (pc := 106) hX dX9_name_106 ?_
      refine j_locs [0, 2] rfl ?_
      exact hj28 ((gI h24 (o + 2) (a1).toNatClampNeg)).toInt64
set_option maxHeartbeats 4000000 in
set_option maxRecDepth 100000 in
theorem kX16_of_t (f : Nat → Nat → HP → Option ((Int64 ⊕ Nat × Nat) × HP)) (F L : Nat) (hf : okPof f F L)  (o : Nat) (a1 : Nat) (h : HP) (rr : (Int64 ⊕ Nat × Nat) × HP) (e : kX16_of f o a1 h = some rr) : CnX eL cV yX16_of (ws_ yX16_of cX16_of 2 (some .long)) (F + 2) (L + 47) (fun z => [.ref (z + o), .ref (z + a1)]) h rr := by
  refine cnx_of (e1 := eL) (fun z => [(0, .ref (z + o)), (1, .ref (z + a1))]) cV_ok (kX16_of_m f (hf.2) o a1 h _ e) ymX16_of (fun _ => rfl) (fun _ => Nat.le_of_ble_eq_true rfl) (fun X hX hr hxt => ?_) e
  have hX : okX cV X rr cX16_of RX16 2 (F + 2) (L + 47) := hX
  rw [kX16_of]
  refine j_aload_n (pc := 0) hX 0 rfl dX16_of_0 ?_
  refine j_grd fun g1 => ?_
  refine c_getI (pc := 1) hX fgX16_7_X16.1 fgX16_7_X16.2 g1 dX16_of_1 ?_
  refine j_i2l (pc := 4) hX dX16_of_4 ?_
  exact x_lret (pc := 5) hX hr dX16_of_5
set_option maxHeartbeats 4000000 in
set_option maxRecDepth 100000 in
theorem kX17_of_t (f : Nat → Nat → HP → Option ((Int64 ⊕ Nat × Nat) × HP)) (F L : Nat) (hf : okPof f F L)  (o : Nat) (a1 : Nat) (h : HP) (rr : (Int64 ⊕ Nat × Nat) × HP) (e : kX17_of f o a1 h = some rr) : CnX eL cV yX17_of (ws_ yX17_of cX17_of 2 (some .long)) (F + 2) (L + 47) (fun z => [.ref (z + o), .ref (z + a1)]) h rr := by
  refine cnx_of (e1 := eL) (fun z => [(0, .ref (z + o)), (1, .ref (z + a1))]) cV_ok (kX17_of_m f (hf.2) o a1 h _ e) ymX17_of (fun _ => rfl) (fun _ => Nat.le_of_ble_eq_true rfl) (fun X hX hr hxt => ?_) e
  have hX : okX cV X rr cX17_of RX17 2 (F + 2) (L + 47) := hX
  rw [kX17_of]
  refine j_aload_n (pc := 0) hX 1 rfl dX17_of_0 ?_
  refine j_aload_n (pc := 1) hX 0 rfl dX17_of_1 ?_
  refine j_grd fun g1 => ?_
  refine c_getI (pc := 2) hX fgX17_7_X17.1 fgX17_7_X17.2 g1 dX17_of_2 ?_
  refine j_grd fun g2 => ?_
  refine j_lald (pc := 5) (n := (gT (cV h) a1).2) hX (kA_of g2) dX17_of_5 (fun _ => ?_)
  exact x_lret (pc := 6) hX hr dX17_of_6
set_option maxHeartbeats 4000000 in
set_option maxRecDepth 100000 in
theorem kX19_is_t   (a1 : Int32) (h : HP) (rr : Int64 × HP) (e : kX19_is a1 h = some rr) : Cn cV yX19_is (ws_ yX19_is cX19_is 1 (some .long)) 1 0 (fun z => [.int a1]) h (fun z => eL z rr.1) rr.2 := by
  refine cn_of (e1 := eL) (fun z => [(0, .int a1)]) cV_ok (kX19_is_m a1 h _ e) ymX19_is (fun _ => rfl) (fun _ => Nat.le_of_ble_eq_true rfl) (fun X hX hr hnm => ?_) e
  have hX : okX cV X rr cX19_is RX19 1 1 0 := hX
  rw [kX19_is]
  refine j_iload_n (pc := 0) hX 0 rfl dX19_is_0 ?_
  refine j_ifeq (pc := 1) (tgt := 8) hX rfl dX19_is_1 (fun _ => ?_) (fun _ => ?_)
  · refine j_lconst (pc := 8) (v := 0) hX rfl dX19_is_8 ?_
    exact j_lret (pc := 9) hX hr dX19_is_9
  · refine j_lconst (pc := 4) (v := 1) hX rfl dX19_is_4 ?_
    refine j_goto (pc := 5) (tgt := 9) hX rfl dX19_is_5 ?_
    exact j_lret (pc := 9) hX hr dX19_is_9
set_option maxHeartbeats 4000000 in
set_option maxRecDepth 100000 in
theorem kX19_times_t   (a1 : Int64) (a2 : Int64) (h : HP) (rr : (Int64 ⊕ Nat × Nat) × HP) (e : kX19_times a1 a2 h = some rr) : CnX eL cV yX19_times (ws_ yX19_times cX19_times 4 (some .long)) 1 24 (fun z => [.long a1, .long a2]) h rr := by
  refine cnx_of (e1 := eL) (fun z => [(0, .long a1), (2, .long a2)]) cV_ok (kX19_times_m a1 a2 h _ e) ymX19_times (fun _ => rfl) (fun _ => Nat.le_of_ble_eq_true rfl) (fun X hX hr hxt => ?_) e
  have hX : okX cV X rr cX19_times RX19 4 1 24 := hX
  rw [kX19_times]
  refine j_lload_n (pc := 0) hX 0 rfl dX19_times_0 ?_
  refine j_lconst (pc := 1) (v := 0) hX rfl dX19_times_1 ?_
  refine j_lcmp (pc := 2) hX dX19_times_2 ?_
  refine j_ifeq (pc := 3) (tgt := 26) hX rfl dX19_times_3 (fun _ => ?_) (fun _ => ?_)
  · refine j_lload_n (pc := 26) hX 0 rfl dX19_times_26 ?_
    refine j_lload_n (pc := 27) hX 1 rfl dX19_times_27 ?_
    refine j_lmul (pc := 28) hX dX19_times_28 ?_
    exact x_lret (pc := 29) hX hr dX19_times_29
  · refine j_lload_n (pc := 6) hX 1 rfl dX19_times_6 ?_
    refine j_mabsL (pc := 7) hX q1141 q1142 q158 q1143 ⟨Nat.le_of_ble_eq_true rfl, Nat.le_of_ble_eq_true rfl⟩ (Nat.le_of_ble_eq_true rfl) dX19_times_7 ?_
    refine j_ldc2 (pc := 10) hX q1144 dX19_times_10 ?_
    refine j_lload_n (pc := 13) hX 0 rfl dX19_times_13 ?_
    refine j_mabsL (pc := 14) hX q1141 q1142 q158 q1143 ⟨Nat.le_of_ble_eq_true rfl, Nat.le_of_ble_eq_true rfl⟩ (Nat.le_of_ble_eq_true rfl) dX19_times_14 ?_
    refine j_ldiv (pc := 17) hX dX19_times_17 (fun _ => ?_)
    refine j_lcmp (pc := 18) hX dX19_times_18 ?_
    refine j_ifle (pc := 19) (tgt := 26) hX rfl dX19_times_19 (fun _ => ?_) (fun _ => ?_)
    · refine j_lload_n (pc := 26) hX 0 rfl dX19_times_26 ?_
      refine j_lload_n (pc := 27) hX 1 rfl dX19_times_27 ?_
      refine j_lmul (pc := 28) hX dX19_times_28 ?_
      exact x_lret (pc := 29) hX hr dX19_times_29
    · exact x_throwTN (pc := 22) hX hxt (List.mem_of_getElem? (i := 65) rfl) dX19_times_22 dX19_times_25
set_option maxHeartbeats 4000000 in
set_option maxRecDepth 100000 in
theorem cA_sure_t   (a1 : Int64) (h : HP) (rr : (Int64 ⊕ Nat × Nat) × HP) (e : cA_sure a1 h = some rr) : CnX eL cV yX1_sure (ws_ yX1_sure cX1_sure 2 (some .long)) 1 0 (fun z => [.long a1]) h rr := by
  refine cnx_of (e1 := eL) (fun z => [(0, .long a1)]) cV_ok (cA_sure_m a1 h _ e) ymX1_sure (fun _ => rfl) (fun _ => Nat.le_of_ble_eq_true rfl) (fun X hX hr hxt => ?_) e
  have hX : okX cV X rr cX1_sure RX1 2 1 0 := hX
  rw [cA_sure]
  refine j_lload_n (pc := 0) hX 0 rfl dX1_sure_0 ?_
  refine j_ldc2 (pc := 1) hX q1134 dX1_sure_1 ?_
  refine j_lcmp (pc := 4) hX dX1_sure_4 ?_
  refine j_jon (fun (j1 : Unit → Option ((Int64 ⊕ Nat × Nat) × HP)) => ∀ (_u : Unit), jG cV X (evX eL) rr (j1 ()) 16 [] [] h) ?_ ?_
  · intro _
    exact x_throwT (pc := 16) hX hxt q1136 dX1_sure_16 dX1_sure_19
  · intro j1 hj1
    refine j_ifgt (pc := 5) (tgt := 16) hX rfl dX1_sure_5 (fun _ => ?_) (fun _ => ?_)
    · refine j_locs [] rfl ?_
      exact hj1 ()
    · refine j_lload_n (pc := 8) hX 0 rfl dX1_sure_8 ?_
      refine j_ldc2 (pc := 9) hX q1135 dX1_sure_9 ?_
      refine j_lcmp (pc := 12) hX dX1_sure_12 ?_
      refine j_ifge (pc := 13) (tgt := 20) hX rfl dX1_sure_13 (fun _ => ?_) (fun _ => ?_)
      · refine j_lload_n (pc := 20) hX 0 rfl dX1_sure_20 ?_
        exact x_lret (pc := 21) hX hr dX1_sure_21
      · refine j_locs [] rfl ?_
        exact hj1 ()
set_option maxHeartbeats 4000000 in
set_option maxRecDepth 100000 in
theorem kX19_of_t (f : Nat → Nat → HP → Option ((Int64 ⊕ Nat × Nat) × HP)) (F L : Nat) (hf : okPof f F L)  (o : Nat) (a1 : Nat) (h : HP) (rr : (Int64 ⊕ Nat × Nat) × HP) (e : kX19_of f o a1 h = some rr) : CnX eL cV yX19_of (ws_ yX19_of cX19_of 6 (some .long)) (F + 2) (L + 47) (fun z => [.ref (z + o), .ref (z + a1)]) h rr := by
  refine cnx_of (e1 := eL) (fun z => [(0, .ref (z + o)), (1, .ref (z + a1))]) cV_ok (kX19_of_m f (hf.2) o a1 h _ e) ymX19_of (fun _ => rfl) (fun _ => Nat.le_of_ble_eq_true rfl) (fun X hX hr hxt => ?_) e
  have hX : okX cV X rr cX19_of RX19 6 (F + 2) (L + 47) := hX
  rw [kX19_of]
  refine j_aload_n (pc := 0) hX 0 rfl dX19_of_0 ?_
  refine j_grd fun g1 => ?_
  refine j_onr fun b2 e3 => ?_
  refine c_getR (pc := 1) hX fgX19_19_X19.1 fgX19_19_X19.2 g1 e3 dX19_of_1 ?_
  refine j_aload_n (pc := 4) hX 1 rfl dX19_of_4 ?_
  refine x_callP (pc := 5) (rest := []) hX hxt hf q1130 ⟨by omega, by omega⟩ (Nat.le_of_ble_eq_true rfl) dX19_of_5 (fun r4 h5 => ?_)
  refine j_lstore_n (pc := 8) hX (fun x6 => [(2, .long x6), (0, .ref (xz X + o)), (1, .ref (xz X + a1))]) (fun _ => rfl) (Nat.le_of_ble_eq_true rfl) dX19_of_8 (fun x6 => ?_)
  refine j_aload_n (pc := 9) hX 1 rfl dX19_of_9 ?_
  refine j_grd fun g7 => ?_
  refine j_onr fun b8 e9 => ?_
  refine c_getR (pc := 10) hX fgX19_15_X19.1 fgX19_15_X19.2 g7 e9 dX19_of_10 ?_
  refine j_aload_n (pc := 13) hX 2 rfl dX19_of_13 ?_
  refine x_callP (pc := 14) (rest := []) hX hxt hf q1130 ⟨by omega, by omega⟩ (Nat.le_of_ble_eq_true rfl) dX19_of_14 (fun r10 h11 => ?_)
  refine j_lstore (pc := 17) hX (fun x12 => [(4, .long x12), (2, .long x6), (0, .ref (xz X + o)), (1, .ref (xz X + a1))]) (fun _ => rfl) (Nat.le_of_ble_eq_true rfl) dX19_of_17 (fun x12 => ?_)
  refine j_aload_n (pc := 19) hX 2 rfl dX19_of_19 ?_
  refine j_grd fun g13 => ?_
  refine c_getI (pc := 20) hX fgX19_9_X19.1 fgX19_9_X19.2 g13 dX19_of_20 ?_
  refine j_ite (fun c14 => ?_) (fun c14 => ?_)
  · refine j_lookup (pc := 23) (tgt := 255) hX rfl (by rw [c14]) rfl dX19_of_23 ?_
    refine j_lload_n (pc := 255) hX 1 rfl dX19_of_255 ?_
    refine j_lconst (pc := 256) (v := 0) hX rfl dX19_of_256 ?_
    refine j_lcmp (pc := 257) hX dX19_of_257 ?_
    refine j_ifeq (pc := 258) (tgt := 272) hX rfl dX19_of_258 (fun _ => ?_) (fun _ => ?_)
    · refine j_iconst (pc := 272) hX ic_0 dX19_of_272 ?_
      refine j_callS (pc := 273) (e1 := eL) (As := fun z => [.int (0 : Int32)]) (rest := []) hX (fun r e => kX19_is_t (0 : Int32) h11 r e) ymX19_is (lw_S q1146 q1147 q173 q1148) ⟨by omega, by omega⟩ rfl rfl (Nat.le_of_ble_eq_true rfl) dX19_of_273 (fun r15 h16 => ?_)
      exact x_lret (pc := 276) hX hr dX19_of_276
    · refine j_lload (pc := 261) hX 0 rfl dX19_of_261 ?_
      refine j_lconst (pc := 263) (v := 0) hX rfl dX19_of_263 ?_
      refine j_lcmp (pc := 264) hX dX19_of_264 ?_
      refine j_ifeq (pc := 265) (tgt := 272) hX rfl dX19_of_265 (fun _ => ?_) (fun _ => ?_)
      · refine j_iconst (pc := 272) hX ic_0 dX19_of_272 ?_
        refine j_callS (pc := 273) (e1 := eL) (As := fun z => [.int (0 : Int32)]) (rest := []) hX (fun r e => kX19_is_t (0 : Int32) h11 r e) ymX19_is (lw_S q1146 q1147 q173 q1148) ⟨by omega, by omega⟩ rfl rfl (Nat.le_of_ble_eq_true rfl) dX19_of_273 (fun r17 h18 => ?_)
        exact x_lret (pc := 276) hX hr dX19_of_276
      · refine j_iconst (pc := 268) hX ic_1 dX19_of_268 ?_
        refine j_goto (pc := 269) (tgt := 273) hX rfl dX19_of_269 ?_
        refine j_callS (pc := 273) (e1 := eL) (As := fun z => [.int (1 : Int32)]) (rest := []) hX (fun r e => kX19_is_t (1 : Int32) h11 r e) ymX19_is (lw_S q1146 q1147 q173 q1148) ⟨by omega, by omega⟩ rfl rfl (Nat.le_of_ble_eq_true rfl) dX19_of_273 (fun r19 h20 => ?_)
        exact x_lret (pc := 276) hX hr dX19_of_276
  · skip
    refine j_ite (fun c21 => ?_) (fun c21 => ?_)
    · refine j_lookup (pc := 23) (tgt := 136) hX rfl ((lv_osw c14 rfl).trans (by rw [c21])) rfl dX19_of_23 ?_
      refine j_lload_n (pc := 136) hX 1 rfl dX19_of_136 ?_
      refine j_lload (pc := 137) hX 0 rfl dX19_of_137 ?_
      refine x_callS (pc := 139) (e2 := eL) (As := fun z => [.long x6, .long x12]) (rest := []) hX hxt (fun r e => kX19_times_t x6 x12 h11 r e) ymX19_times (lw_S q1138 q1139 q173 q1140) ⟨by omega, by omega⟩ rfl rfl (Nat.le_of_ble_eq_true rfl) dX19_of_139 (fun r22 h23 => ?_)
      exact x_lret (pc := 142) hX hr dX19_of_142
    · skip
      refine j_ite (fun c24 => ?_) (fun c24 => ?_)
      · refine j_lookup (pc := 23) (tgt := 120) hX rfl ((lv_osw c14 rfl).trans ((lv_osw c21 rfl).trans (by rw [c24]))) rfl dX19_of_23 ?_
        refine j_lload_n (pc := 120) hX 1 rfl dX19_of_120 ?_
        refine j_lload (pc := 121) hX 0 rfl dX19_of_121 ?_
        refine j_ladd (pc := 123) hX dX19_of_123 ?_
        refine x_callSN (pc := 124) (e2 := eL) (As := fun z => [.long (x6 + x12)]) (rest := []) hX hxt (fun r e => cA_sure_t (x6 + x12) h11 r e) ymX1_sure (List.mem_of_getElem? (i := 20) rfl) q1132 q140 q1133 ⟨by omega, by omega⟩ rfl rfl (Nat.le_of_ble_eq_true rfl) dX19_of_124 (fun r25 h26 => ?_)
        exact x_lret (pc := 127) hX hr dX19_of_127
      · skip
        refine j_ite (fun c27 => ?_) (fun c27 => ?_)
        · refine j_lookup (pc := 23) (tgt := 128) hX rfl ((lv_osw c14 rfl).trans ((lv_osw c21 rfl).trans ((lv_osw c24 rfl).trans (by rw [c27])))) rfl dX19_of_23 ?_
          refine j_lload_n (pc := 128) hX 1 rfl dX19_of_128 ?_
          refine j_lload (pc := 129) hX 0 rfl dX19_of_129 ?_
          refine j_lsub (pc := 131) hX dX19_of_131 ?_
          refine x_callSN (pc := 132) (e2 := eL) (As := fun z => [.long (x6 - x12)]) (rest := []) hX hxt (fun r e => cA_sure_t (x6 - x12) h11 r e) ymX1_sure (List.mem_of_getElem? (i := 20) rfl) q1132 q140 q1133 ⟨by omega, by omega⟩ rfl rfl (Nat.le_of_ble_eq_true rfl) dX19_of_132 (fun r28 h29 => ?_)
          exact x_lret (pc := 135) hX hr dX19_of_135
        · skip
          refine j_ite (fun c30 => ?_) (fun c30 => ?_)
          · refine j_lookup (pc := 23) (tgt := 143) hX rfl ((lv_osw c14 rfl).trans ((lv_osw c21 rfl).trans ((lv_osw c24 rfl).trans ((lv_osw c27 rfl).trans (by rw [c30]))))) rfl dX19_of_23 ?_
            refine j_lload (pc := 143) hX 0 rfl dX19_of_143 ?_
            refine j_lconst (pc := 145) (v := 0) hX rfl dX19_of_145 ?_
            refine j_lcmp (pc := 146) hX dX19_of_146 ?_
            refine j_ifne (pc := 147) (tgt := 154) hX rfl dX19_of_147 (fun _ => ?_) (fun _ => ?_)
            · exact x_throwTN (pc := 150) hX hxt (List.mem_of_getElem? (i := 65) rfl) dX19_of_150 dX19_of_153
            · refine j_lload_n (pc := 154) hX 1 rfl dX19_of_154 ?_
              refine j_lload (pc := 155) hX 0 rfl dX19_of_155 ?_
              refine j_ldiv (pc := 157) hX dX19_of_157 (fun _ => ?_)
              exact x_lret (pc := 158) hX hr dX19_of_158
          · skip
            refine j_ite (fun c31 => ?_) (fun c31 => ?_)
            · refine j_lookup (pc := 23) (tgt := 159) hX rfl ((lv_osw c14 rfl).trans ((lv_osw c21 rfl).trans ((lv_osw c24 rfl).trans ((lv_osw c27 rfl).trans ((lv_osw c30 rfl).trans (by rw [c31])))))) rfl dX19_of_23 ?_
              refine j_lload_n (pc := 159) hX 1 rfl dX19_of_159 ?_
              refine j_lload (pc := 160) hX 0 rfl dX19_of_160 ?_
              refine j_lcmp (pc := 162) hX dX19_of_162 ?_
              refine j_ifge (pc := 163) (tgt := 170) hX rfl dX19_of_163 (fun _ => ?_) (fun _ => ?_)
              · refine j_iconst (pc := 170) hX ic_0 dX19_of_170 ?_
                refine j_callS (pc := 171) (e1 := eL) (As := fun z => [.int (0 : Int32)]) (rest := []) hX (fun r e => kX19_is_t (0 : Int32) h11 r e) ymX19_is (lw_S q1146 q1147 q173 q1148) ⟨by omega, by omega⟩ rfl rfl (Nat.le_of_ble_eq_true rfl) dX19_of_171 (fun r32 h33 => ?_)
                exact x_lret (pc := 174) hX hr dX19_of_174
              · refine j_iconst (pc := 166) hX ic_1 dX19_of_166 ?_
                refine j_goto (pc := 167) (tgt := 171) hX rfl dX19_of_167 ?_
                refine j_callS (pc := 171) (e1 := eL) (As := fun z => [.int (1 : Int32)]) (rest := []) hX (fun r e => kX19_is_t (1 : Int32) h11 r e) ymX19_is (lw_S q1146 q1147 q173 q1148) ⟨by omega, by omega⟩ rfl rfl (Nat.le_of_ble_eq_true rfl) dX19_of_171 (fun r34 h35 => ?_)
                exact x_lret (pc := 174) hX hr dX19_of_174
            · skip
              refine j_ite (fun c36 => ?_) (fun c36 => ?_)
              · refine j_lookup (pc := 23) (tgt := 191) hX rfl ((lv_osw c14 rfl).trans ((lv_osw c21 rfl).trans ((lv_osw c24 rfl).trans ((lv_osw c27 rfl).trans ((lv_osw c30 rfl).trans ((lv_osw c31 rfl).trans (by rw [c36]))))))) rfl dX19_of_23 ?_
                refine j_lload_n (pc := 191) hX 1 rfl dX19_of_191 ?_
                refine j_lload (pc := 192) hX 0 rfl dX19_of_192 ?_
                refine j_lcmp (pc := 194) hX dX19_of_194 ?_
                refine j_ifne (pc := 195) (tgt := 202) hX rfl dX19_of_195 (fun _ => ?_) (fun _ => ?_)
                · refine j_iconst (pc := 198) hX ic_1 dX19_of_198 ?_
                  refine j_goto (pc := 199) (tgt := 203) hX rfl dX19_of_199 ?_
                  refine j_callS (pc := 203) (e1 := eL) (As := fun z => [.int (1 : Int32)]) (rest := []) hX (fun r e => kX19_is_t (1 : Int32) h11 r e) ymX19_is (lw_S q1146 q1147 q173 q1148) ⟨by omega, by omega⟩ rfl rfl (Nat.le_of_ble_eq_true rfl) dX19_of_203 (fun r37 h38 => ?_)
                  exact x_lret (pc := 206) hX hr dX19_of_206
                · refine j_iconst (pc := 202) hX ic_0 dX19_of_202 ?_
                  refine j_callS (pc := 203) (e1 := eL) (As := fun z => [.int (0 : Int32)]) (rest := []) hX (fun r e => kX19_is_t (0 : Int32) h11 r e) ymX19_is (lw_S q1146 q1147 q173 q1148) ⟨by omega, by omega⟩ rfl rfl (Nat.le_of_ble_eq_true rfl) dX19_of_203 (fun r39 h40 => ?_)
                  exact x_lret (pc := 206) hX hr dX19_of_206
              · skip
                refine j_ite (fun c41 => ?_) (fun c41 => ?_)
                · refine j_lookup (pc := 23) (tgt := 175) hX rfl ((lv_osw c14 rfl).trans ((lv_osw c21 rfl).trans ((lv_osw c24 rfl).trans ((lv_osw c27 rfl).trans ((lv_osw c30 rfl).trans ((lv_osw c31 rfl).trans ((lv_osw c36 rfl).trans (by rw [c41])))))))) rfl dX19_of_23 ?_
                  refine j_lload_n (pc := 175) hX 1 rfl dX19_of_175 ?_
                  refine j_lload (pc := 176) hX 0 rfl dX19_of_176 ?_
                  refine j_lcmp (pc := 178) hX dX19_of_178 ?_
                  refine j_ifle (pc := 179) (tgt := 186) hX rfl dX19_of_179 (fun _ => ?_) (fun _ => ?_)
                  · refine j_iconst (pc := 186) hX ic_0 dX19_of_186 ?_
                    refine j_callS (pc := 187) (e1 := eL) (As := fun z => [.int (0 : Int32)]) (rest := []) hX (fun r e => kX19_is_t (0 : Int32) h11 r e) ymX19_is (lw_S q1146 q1147 q173 q1148) ⟨by omega, by omega⟩ rfl rfl (Nat.le_of_ble_eq_true rfl) dX19_of_187 (fun r42 h43 => ?_)
                    exact x_lret (pc := 190) hX hr dX19_of_190
                  · refine j_iconst (pc := 182) hX ic_1 dX19_of_182 ?_
                    refine j_goto (pc := 183) (tgt := 187) hX rfl dX19_of_183 ?_
                    refine j_callS (pc := 187) (e1 := eL) (As := fun z => [.int (1 : Int32)]) (rest := []) hX (fun r e => kX19_is_t (1 : Int32) h11 r e) ymX19_is (lw_S q1146 q1147 q173 q1148) ⟨by omega, by omega⟩ rfl rfl (Nat.le_of_ble_eq_true rfl) dX19_of_187 (fun r44 h45 => ?_)
                    exact x_lret (pc := 190) hX hr dX19_of_190
                · skip
                  refine j_ite (fun c46 => ?_) (fun c46 => ?_)
                  · refine j_lookup (pc := 23) (tgt := 207) hX rfl ((lv_osw c14 rfl).trans ((lv_osw c21 rfl).trans ((lv_osw c24 rfl).trans ((lv_osw c27 rfl).trans ((lv_osw c30 rfl).trans ((lv_osw c31 rfl).trans ((lv_osw c36 rfl).trans ((lv_osw c41 rfl).trans (by rw [c46]))))))))) rfl dX19_of_23 ?_
                    refine j_lload_n (pc := 207) hX 1 rfl dX19_of_207 ?_
                    refine j_lload (pc := 208) hX 0 rfl dX19_of_208 ?_
                    refine j_lcmp (pc := 210) hX dX19_of_210 ?_
                    refine j_ifgt (pc := 211) (tgt := 218) hX rfl dX19_of_211 (fun _ => ?_) (fun _ => ?_)
                    · refine j_iconst (pc := 218) hX ic_0 dX19_of_218 ?_
                      refine j_callS (pc := 219) (e1 := eL) (As := fun z => [.int (0 : Int32)]) (rest := []) hX (fun r e => kX19_is_t (0 : Int32) h11 r e) ymX19_is (lw_S q1146 q1147 q173 q1148) ⟨by omega, by omega⟩ rfl rfl (Nat.le_of_ble_eq_true rfl) dX19_of_219 (fun r47 h48 => ?_)
                      exact x_lret (pc := 222) hX hr dX19_of_222
                    · refine j_iconst (pc := 214) hX ic_1 dX19_of_214 ?_
                      refine j_goto (pc := 215) (tgt := 219) hX rfl dX19_of_215 ?_
                      refine j_callS (pc := 219) (e1 := eL) (As := fun z => [.int (1 : Int32)]) (rest := []) hX (fun r e => kX19_is_t (1 : Int32) h11 r e) ymX19_is (lw_S q1146 q1147 q173 q1148) ⟨by omega, by omega⟩ rfl rfl (Nat.le_of_ble_eq_true rfl) dX19_of_219 (fun r49 h50 => ?_)
                      exact x_lret (pc := 222) hX hr dX19_of_222
                  · skip
                    refine j_ite (fun c51 => ?_) (fun c51 => ?_)
                    · refine j_lookup (pc := 23) (tgt := 223) hX rfl ((lv_osw c14 rfl).trans ((lv_osw c21 rfl).trans ((lv_osw c24 rfl).trans ((lv_osw c27 rfl).trans ((lv_osw c30 rfl).trans ((lv_osw c31 rfl).trans ((lv_osw c36 rfl).trans ((lv_osw c41 rfl).trans ((lv_osw c46 rfl).trans (by rw [c51])))))))))) rfl dX19_of_23 ?_
                      refine j_lload_n (pc := 223) hX 1 rfl dX19_of_223 ?_
                      refine j_lload (pc := 224) hX 0 rfl dX19_of_224 ?_
                      refine j_lcmp (pc := 226) hX dX19_of_226 ?_
                      refine j_iflt (pc := 227) (tgt := 234) hX rfl dX19_of_227 (fun _ => ?_) (fun _ => ?_)
                      · refine j_iconst (pc := 234) hX ic_0 dX19_of_234 ?_
                        refine j_callS (pc := 235) (e1 := eL) (As := fun z => [.int (0 : Int32)]) (rest := []) hX (fun r e => kX19_is_t (0 : Int32) h11 r e) ymX19_is (lw_S q1146 q1147 q173 q1148) ⟨by omega, by omega⟩ rfl rfl (Nat.le_of_ble_eq_true rfl) dX19_of_235 (fun r52 h53 => ?_)
                        exact x_lret (pc := 238) hX hr dX19_of_238
                      · refine j_iconst (pc := 230) hX ic_1 dX19_of_230 ?_
                        refine j_goto (pc := 231) (tgt := 235) hX rfl dX19_of_231 ?_
                        refine j_callS (pc := 235) (e1 := eL) (As := fun z => [.int (1 : Int32)]) (rest := []) hX (fun r e => kX19_is_t (1 : Int32) h11 r e) ymX19_is (lw_S q1146 q1147 q173 q1148) ⟨by omega, by omega⟩ rfl rfl (Nat.le_of_ble_eq_true rfl) dX19_of_235 (fun r54 h55 => ?_)
                        exact x_lret (pc := 238) hX hr dX19_of_238
                    · skip
                      refine j_ite (fun c56 => ?_) (fun c56 => ?_)
                      · refine j_lookup (pc := 23) (tgt := 239) hX rfl ((lv_osw c14 rfl).trans ((lv_osw c21 rfl).trans ((lv_osw c24 rfl).trans ((lv_osw c27 rfl).trans ((lv_osw c30 rfl).trans ((lv_osw c31 rfl).trans ((lv_osw c36 rfl).trans ((lv_osw c41 rfl).trans ((lv_osw c46 rfl).trans ((lv_osw c51 rfl).trans (by rw [c56]))))))))))) rfl dX19_of_23 ?_
                        refine j_lload_n (pc := 239) hX 1 rfl dX19_of_239 ?_
                        refine j_lload (pc := 240) hX 0 rfl dX19_of_240 ?_
                        refine j_lcmp (pc := 242) hX dX19_of_242 ?_
                        refine j_ifeq (pc := 243) (tgt := 250) hX rfl dX19_of_243 (fun _ => ?_) (fun _ => ?_)
                        · refine j_iconst (pc := 250) hX ic_0 dX19_of_250 ?_
                          refine j_callS (pc := 251) (e1 := eL) (As := fun z => [.int (0 : Int32)]) (rest := []) hX (fun r e => kX19_is_t (0 : Int32) h11 r e) ymX19_is (lw_S q1146 q1147 q173 q1148) ⟨by omega, by omega⟩ rfl rfl (Nat.le_of_ble_eq_true rfl) dX19_of_251 (fun r57 h58 => ?_)
                          exact x_lret (pc := 254) hX hr dX19_of_254
                        · refine j_iconst (pc := 246) hX ic_1 dX19_of_246 ?_
                          refine j_goto (pc := 247) (tgt := 251) hX rfl dX19_of_247 ?_
                          refine j_callS (pc := 251) (e1 := eL) (As := fun z => [.int (1 : Int32)]) (rest := []) hX (fun r e => kX19_is_t (1 : Int32) h11 r e) ymX19_is (lw_S q1146 q1147 q173 q1148) ⟨by omega, by omega⟩ rfl rfl (Nat.le_of_ble_eq_true rfl) dX19_of_251 (fun r59 h60 => ?_)
                          exact x_lret (pc := 254) hX hr dX19_of_254
                      · skip
                        refine j_lookup (pc := 23) (tgt := 277) hX rfl ((lv_osw c14 rfl).trans ((lv_osw c21 rfl).trans ((lv_osw c24 rfl).trans ((lv_osw c27 rfl).trans ((lv_osw c30 rfl).trans ((lv_osw c31 rfl).trans ((lv_osw c36 rfl).trans ((lv_osw c41 rfl).trans ((lv_osw c46 rfl).trans ((lv_osw c51 rfl).trans ((lv_osw c56 rfl).trans (rfl)))))))))))) rfl dX19_of_23 ?_
                        refine j_lload_n (pc := 277) hX 1 rfl dX19_of_277 ?_
                        refine j_lconst (pc := 278) (v := 0) hX rfl dX19_of_278 ?_
                        refine j_lcmp (pc := 279) hX dX19_of_279 ?_
                        refine j_ifne (pc := 280) (tgt := 290) hX rfl dX19_of_280 (fun _ => ?_) (fun _ => ?_)
                        · refine j_lload (pc := 283) hX 0 rfl dX19_of_283 ?_
                          refine j_lconst (pc := 285) (v := 0) hX rfl dX19_of_285 ?_
                          refine j_lcmp (pc := 286) hX dX19_of_286 ?_
                          refine j_ifeq (pc := 287) (tgt := 294) hX rfl dX19_of_287 (fun _ => ?_) (fun _ => ?_)
                          · refine j_iconst (pc := 294) hX ic_0 dX19_of_294 ?_
                            refine j_callS (pc := 295) (e1 := eL) (As := fun z => [.int (0 : Int32)]) (rest := []) hX (fun r e => kX19_is_t (0 : Int32) h11 r e) ymX19_is (lw_S q1146 q1147 q173 q1148) ⟨by omega, by omega⟩ rfl rfl (Nat.le_of_ble_eq_true rfl) dX19_of_295 (fun r61 h62 => ?_)
                            exact x_lret (pc := 298) hX hr dX19_of_298
                          · refine j_iconst (pc := 290) hX ic_1 dX19_of_290 ?_
                            refine j_goto (pc := 291) (tgt := 295) hX rfl dX19_of_291 ?_
                            refine j_callS (pc := 295) (e1 := eL) (As := fun z => [.int (1 : Int32)]) (rest := []) hX (fun r e => kX19_is_t (1 : Int32) h11 r e) ymX19_is (lw_S q1146 q1147 q173 q1148) ⟨by omega, by omega⟩ rfl rfl (Nat.le_of_ble_eq_true rfl) dX19_of_295 (fun r63 h64 => ?_)
                            exact x_lret (pc := 298) hX hr dX19_of_298
                        · refine j_iconst (pc := 290) hX ic_1 dX19_of_290 ?_
                          refine j_goto (pc := 291) (tgt := 295) hX rfl dX19_of_291 ?_
                          refine j_callS (pc := 295) (e1 := eL) (As := fun z => [.int (1 : Int32)]) (rest := []) hX (fun r e => kX19_is_t (1 : Int32) h11 r e) ymX19_is (lw_S q1146 q1147 q173 q1148) ⟨by omega, by omega⟩ rfl rfl (Nat.le_of_ble_eq_true rfl) dX19_of_295 (fun r65 h66 => ?_)
                          exact x_lret (pc := 298) hX hr dX19_of_298
set_option maxHeartbeats 4000000 in
set_option maxRecDepth 100000 in
theorem kX18_of_t (f : Nat → Nat → HP → Option ((Int64 ⊕ Nat × Nat) × HP)) (F L : Nat) (hf : okPof f F L)  (o : Nat) (a1 : Nat) (h : HP) (rr : (Int64 ⊕ Nat × Nat) × HP) (e : kX18_of f o a1 h = some rr) : CnX eL cV yX18_of (ws_ yX18_of cX18_of 2 (some .long)) (F + 2) (L + 47) (fun z => [.ref (z + o), .ref (z + a1)]) h rr := by
  refine cnx_of (e1 := eL) (fun z => [(0, .ref (z + o)), (1, .ref (z + a1))]) cV_ok (kX18_of_m f (hf.2) o a1 h _ e) ymX18_of (fun _ => rfl) (fun _ => Nat.le_of_ble_eq_true rfl) (fun X hX hr hxt => ?_) e
  have hX : okX cV X rr cX18_of RX18 2 (F + 2) (L + 47) := hX
  rw [kX18_of]
  refine j_aload_n (pc := 0) hX 0 rfl dX18_of_0 ?_
  refine j_grd fun g1 => ?_
  refine j_onr fun b2 e3 => ?_
  refine c_getR (pc := 1) hX fgX18_7_X18.1 fgX18_7_X18.2 g1 e3 dX18_of_1 ?_
  refine j_aload_n (pc := 4) hX 1 rfl dX18_of_4 ?_
  refine x_callP (pc := 5) (rest := []) hX hxt hf q1125 ⟨by omega, by omega⟩ (Nat.le_of_ble_eq_true rfl) dX18_of_5 (fun r4 h5 => ?_)
  refine j_lconst (pc := 8) (v := 0) hX rfl dX18_of_8 ?_
  refine j_lcmp (pc := 9) hX dX18_of_9 ?_
  refine j_ifne (pc := 10) (tgt := 17) hX rfl dX18_of_10 (fun _ => ?_) (fun _ => ?_)
  · refine j_lconst (pc := 13) (v := 1) hX rfl dX18_of_13 ?_
    refine j_goto (pc := 14) (tgt := 18) hX rfl dX18_of_14 ?_
    exact x_lret (pc := 18) hX hr dX18_of_18
  · refine j_lconst (pc := 17) (v := 0) hX rfl dX18_of_17 ?_
    exact x_lret (pc := 18) hX hr dX18_of_18
theorem cP_of_c : ∀ n : Nat, okPof (cP_of n) (2 * n) (47 * n) := by
  intro n
  induction n with
  | zero => exact ⟨fun o a h rr e => (by cases e), cP_of_m 0⟩
  | succ n ih =>
    refine ⟨fun o a h rr e => ?_, cP_of_m (n + 1)⟩
    rw [cP_of] at e
    by_cases c0 : (gT (cV h) o).1 = 10
    · rw [if_pos c0] at e
      exact Or.inl ⟨c0, kX16_of_t (cP_of n) _ _ ih o a h rr e⟩
    rw [if_neg c0] at e
    by_cases c1 : (gT (cV h) o).1 = 11
    · rw [if_pos c1] at e
      exact Or.inr (Or.inl ⟨c1, kX17_of_t (cP_of n) _ _ ih o a h rr e⟩)
    rw [if_neg c1] at e
    by_cases c2 : (gT (cV h) o).1 = 12
    · rw [if_pos c2] at e
      exact Or.inr (Or.inr (Or.inl ⟨c2, kX18_of_t (cP_of n) _ _ ih o a h rr e⟩))
    rw [if_neg c2] at e
    by_cases c3 : (gT (cV h) o).1 = 13
    · rw [if_pos c3] at e
      exact Or.inr (Or.inr (Or.inr (⟨c3, kX19_of_t (cP_of n) _ _ ih o a h rr e⟩)))
    rw [if_neg c3] at e
    cases e
set_option maxHeartbeats 4000000 in
set_option maxRecDepth 100000 in
theorem cA_workX_t   (a1 : Int32) (h : HP) (rr : (Int64 ⊕ Nat × Nat) × HP) (e : cA_workX a1 h = some rr) : CnX eL cV yX1_work (wsW_ yX1_work cX1_work 3 (some .long) [(16, 32, 33, 48)]) 161 3785 (fun z => [.ref (z + 0), .int a1]) h rr := by
  refine cnh_of (e1 := eL) (fun z => [(0, .ref (z + 0)), (1, .int a1)]) cV_ok (cA_workX_m a1 h _ e) ymX1_work (fun _ => rfl) (fun _ => Nat.le_of_ble_eq_true rfl) (fun X hX hr htab => ?_) e
  have hX : okX cV X rr cX1_work RX1 3 161 3785 := hX
  rw [cA_workX]
  refine j_aload_n (pc := 0) hX 0 rfl dX1_work_0 ?_
  refine j_onr fun b1 e2 => ?_
  refine c_getR (pc := 1) hX fgX1_13_X1.1 fgX1_13_X1.2 rfl e2 dX1_work_1 ?_
  refine j_grd fun g3 => ?_
  refine c_getR (pc := 4) hX fgX1_32_X3.1 fgX1_32_X3.2 (k1_of g3.1) g3.2.1.2.2.2.2.2.2 dX1_work_4 ?_
  refine j_iload_n (pc := 7) hX 1 rfl dX1_work_7 ?_
  refine j_aaldN (pc := 8) (n := 2) (q := 5) (tgt := 16) hX (Nat.le_of_ble_eq_true rfl) (fun _ => rfl) g3.2.2.2.2.2 dX1_work_8 rfl dX1_work_9 ?_ ?_
  · refine j_ldc2 (pc := 12) hX q1096 dX1_work_12 ?_
    exact x_lret (pc := 15) hX hr dX1_work_15
  · refine j_aload_n (pc := 16) hX 0 rfl dX1_work_16 ?_
    refine j_onr fun b4 e5 => ?_
    refine c_getR (pc := 17) hX fgX1_13_X1.1 fgX1_13_X1.2 rfl e5 dX1_work_17 ?_
    refine j_grd fun g6 => ?_
    refine c_getR (pc := 20) hX fgX1_32_X3.1 fgX1_32_X3.2 (k1_of g6.1) g6.2.1.2.2.2.2.2.2 dX1_work_20 ?_
    refine j_iload_n (pc := 23) hX 1 rfl dX1_work_23 ?_
    refine j_aald (pc := 24) (n := 2) (q := 5) hX (Nat.le_of_ble_eq_true rfl) (fun _ => rfl) g6.2.2.2.2.2 dX1_work_24 (fun b7 => ?_)
    refine j_aload_n (pc := 25) hX 0 rfl dX1_work_25 ?_
    refine c_getR (pc := 26) hX fgX1_38_X1.1 fgX1_38_X1.2 rfl rfl dX1_work_26 ?_
    refine h_catP (pc := 29) (rest := []) hX htab rfl (by decide) q1115 (cP_of_c 80) q1116 ⟨Nat.le_of_ble_eq_true rfl, Nat.le_of_ble_eq_true rfl⟩ (Nat.le_of_ble_eq_true rfl) dX1_work_29 (fun r8 h9 => ?_) (fun a10 h11 q12 hq13 => ?_)
    · exact x_lret (pc := 32) hX hr dX1_work_32
    · refine j_astore_n (pc := 33) (ls' := [(2, .ref q12), (0, .ref (xz X + 0)), (1, .int a1)]) hX rfl (Nat.le_of_ble_eq_true rfl) dX1_work_33 ?_
      refine j_ldc2 (pc := 34) hX q1096 dX1_work_34 ?_
      exact x_lret (pc := 37) hX hr dX1_work_37
theorem cA_work_t (a1 : Int32) (h : HP) (r : Int64 × HP) (e : cA_work a1 h = some r) : CnX eL cV yX1_work (wsW_ yX1_work cX1_work 3 (some .long) [(16, 32, 33, 48)]) 161 3785 (fun z => [.ref (z + 0), .int a1]) h (.inl r.1, r.2) := cA_workX_t a1 h _ (unx_some e)
set_option maxHeartbeats 4000000 in
set_option maxRecDepth 100000 in
theorem cA_law_t   (a1 : Int32) (a2 : Int32) (a3 : Int32) (h : HP) (rr : Int64 × HP) (e : cA_law a1 a2 a3 h = some rr) : Cn cV yX1_law (ws_ yX1_law cX1_law 4 (some .long)) 162 3807 (fun z => [.ref (z + 0), .int a1, .int a2, .int a3]) h (fun z => eL z rr.1) rr.2 := by
  refine cn_of (e1 := eL) (fun z => [(0, .ref (z + 0)), (1, .int a1), (2, .int a2), (3, .int a3)]) cV_ok (cA_law_m a1 a2 a3 h _ e) ymX1_law (fun _ => rfl) (fun _ => Nat.le_of_ble_eq_true rfl) (fun X hX hr hnm => ?_) e
  have hX : okX cV X rr cX1_law RX1 4 162 3807 := hX
  rw [cA_law]
  refine j_iload_n (pc := 0) hX 1 rfl dX1_law_0 ?_
  refine j_i2l (pc := 1) hX dX1_law_1 ?_
  refine j_lconst (pc := 2) (v := 0) hX rfl dX1_law_2 ?_
  refine j_lconst (pc := 3) (v := 1) hX rfl dX1_law_3 ?_
  refine j_callS (pc := 4) (e1 := eI) (As := fun z => [.long (a1).toInt64, .long (0 : Int64), .long (1 : Int64)]) (rest := []) hX (fun r e => cA_in_t (a1).toInt64 (0 : Int64) (1 : Int64) h r e) ymX1_in (lw_S q527 q528 q140 q529) ⟨Nat.le_of_ble_eq_true rfl, Nat.le_of_ble_eq_true rfl⟩ rfl rfl (Nat.le_of_ble_eq_true rfl) dX1_law_4 (fun r1 h2 => ?_)
  refine j_ifeq (pc := 7) (tgt := 26) hX rfl dX1_law_7 (fun _ => ?_) (fun _ => ?_)
  · refine j_ldc2 (pc := 26) hX q1096 dX1_law_26 ?_
    exact j_lret (pc := 29) hX hr dX1_law_29
  · refine j_aload_n (pc := 10) hX 0 rfl dX1_law_10 ?_
    refine j_iload_n (pc := 11) hX 2 rfl dX1_law_11 ?_
    refine j_callV (pc := 12) (e1 := eI) (a := 0) (As := fun z => [.int a2]) (rest := []) hX (fun r e => cA_isPerson_t a2 h2 r e) ymX1_isPerson (lw_V q1056 q1058 qs37 q140 q1059) rfl ckX1 rfl ⟨Nat.le_of_ble_eq_true rfl, Nat.le_of_ble_eq_true rfl⟩ rfl rfl (Nat.le_of_ble_eq_true rfl) dX1_law_12 (fun r3 h4 => ?_)
    refine j_ifeq (pc := 15) (tgt := 26) hX rfl dX1_law_15 (fun _ => ?_) (fun _ => ?_)
    · refine j_ldc2 (pc := 26) hX q1096 dX1_law_26 ?_
      exact j_lret (pc := 29) hX hr dX1_law_29
    · refine j_aload_n (pc := 18) hX 0 rfl dX1_law_18 ?_
      refine j_iload_n (pc := 19) hX 3 rfl dX1_law_19 ?_
      refine j_callV (pc := 20) (e1 := eI) (a := 0) (As := fun z => [.int a3]) (rest := []) hX (fun r e => cA_isQuestion_t a3 h4 r e) ymX1_isQuestion (lw_V q1038 q1040 qs34 q140 q1041) rfl ckX1 rfl ⟨Nat.le_of_ble_eq_true rfl, Nat.le_of_ble_eq_true rfl⟩ rfl rfl (Nat.le_of_ble_eq_true rfl) dX1_law_20 (fun r5 h6 => ?_)
      refine j_ifne (pc := 23) (tgt := 30) hX rfl dX1_law_23 (fun _ => ?_) (fun _ => ?_)
      · refine j_ldc2 (pc := 26) hX q1096 dX1_law_26 ?_
        exact j_lret (pc := 29) hX hr dX1_law_29
      · refine j_aload_n (pc := 30) hX 0 rfl dX1_law_30 ?_
        refine c_getR (pc := 31) hX fgX1_95_X1.1 fgX1_95_X1.2 rfl rfl dX1_law_31 ?_
        refine j_iload_n (pc := 34) hX 2 rfl dX1_law_34 ?_
        refine j_aload_n (pc := 35) hX 0 rfl dX1_law_35 ?_
        refine j_onr fun b7 e8 => ?_
        refine c_getR (pc := 36) hX fgX1_13_X1.1 fgX1_13_X1.2 rfl e8 dX1_law_36 ?_
        refine j_grd fun g9 => ?_
        refine c_getR (pc := 39) hX fgX1_29_X3.1 fgX1_29_X3.2 (k1_of g9.1) g9.2.1.2.2.1 dX1_law_39 ?_
        refine j_iload_n (pc := 42) hX 3 rfl dX1_law_42 ?_
        refine j_grd fun g12 => ?_
        refine j_callV (pc := 43) (e1 := eR) (a := (b7 + 5)) (As := fun z => [.int a3]) (rest := [.int a2, .ref (xz X + 20)]) hX (fun r e => cL_get_t (b7 + 5) a3 h6 r e) ymJ2_get (lw_V q1046 q422 q423 q145 q424) rfl ckJ2 (k1_of g12.1) ⟨Nat.le_of_ble_eq_true rfl, Nat.le_of_ble_eq_true rfl⟩ rfl rfl (Nat.le_of_ble_eq_true rfl) dX1_law_43 (fun r10 h11 => ?_)
        refine j_grd fun g13 => ?_
        refine j_castS (pc := 46) hX ckX14 g13 q1047 dX1_law_46 ?_
        refine c_getI (pc := 49) hX fgX1_231_X14.1 fgX1_231_X14.2 g13 dX1_law_49 ?_
        refine j_callV (pc := 52) (e1 := eV) (a := 20) (As := fun z => [.int a2, .int (gI h11 r10 1)]) (rest := []) hX (fun r e => cS_name_t 20 a2 (gI h11 r10 1) h11 r e) ymX9_name (lw_V q1097 q1098 q1099 q151 q1100) rfl ckX9 rfl ⟨Nat.le_of_ble_eq_true rfl, Nat.le_of_ble_eq_true rfl⟩ rfl rfl (Nat.le_of_ble_eq_true rfl) dX1_law_52 (fun r14 h15 => ?_)
        refine j_aload_n (pc := 55) hX 0 rfl dX1_law_55 ?_
        refine j_iload_n (pc := 56) hX 1 rfl dX1_law_56 ?_
        refine j_jon (fun (j16 : Int32 → Option (Int64 × HP)) => ∀ (s17 : Int32), jG cV X evL rr (j16 s17) 65 [] [.int s17, .ref (xz X + 0)] h15) ?_ ?_
        · intro s17
          refine h_callG (pc := 65) (e2 := eL) hX (fun r e => cA_work_t s17 h15 r e) (xr_VW (pc := 65) (a := 0) (As := fun z => [.int s17]) (rest := []) hX ymX1_work q1111 q1113 qs38 q140 q1114 rfl ckX1 rfl ⟨Nat.le_of_ble_eq_true rfl, Nat.le_of_ble_eq_true rfl⟩ rfl rfl (Nat.le_of_ble_eq_true rfl) dX1_law_65) (fun r18 h19 => ?_)
          exact j_lret (pc := 68) hX hr dX1_law_68
        · intro j16 hj16
          refine j_ifne (pc := 57) (tgt := 64) hX rfl dX1_law_57 (fun _ => ?_) (fun _ => ?_)
          · refine j_iconst (pc := 60) hX ic_0 dX1_law_60 ?_
            refine j_goto (pc := 61) (tgt := 65) hX rfl dX1_law_61 ?_
            refine j_locs [] rfl ?_
            exact hj16 (0 : Int32)
          · refine j_iconst (pc := 64) hX ic_1 dX1_law_64 ?_
            refine j_locs [] rfl ?_
            exact hj16 (1 : Int32)
set_option maxHeartbeats 4000000 in
set_option maxRecDepth 100000 in
theorem cS_init_t   (o : Nat) (a1 : Nat) (h : HP) (rr : Unit × HP) (e : cS_init o a1 h = some rr) : Cn cV yX9_init (ws_ yX9_init cX9_init 2 (none)) 1 12 (fun z => [.ref (z + o), .ref (z + a1)]) h (fun z => eV z rr.1) rr.2 := by
  refine cn_of (e1 := eV) (fun z => [(0, .ref (z + o)), (1, .ref (z + a1))]) cV_ok (cS_init_m o a1 h _ e) ymX9_init (fun _ => rfl) (fun _ => Nat.le_of_ble_eq_true rfl) (fun X hX hr hnm => ?_) e
  have hX : okX cV X rr cX9_init RX9 2 1 12 := hX
  rw [cS_init]
  refine j_aload_n (pc := 0) hX 0 rfl dX9_init_0 ?_
  refine j_aload_n (pc := 1) hX 1 rfl dX9_init_1 ?_
  refine j_grd fun g1 => ?_
  refine j_grd fun g5 => ?_
  refine c_putFR (pc := 2) hX hnm ffX9_3_X9.1 ffX9_3_X9.2 g1 (cV_sR (cRs_big g5)) dX9_init_2 (fun h2 q3 => ?_)
  refine j_aload_n (pc := 5) hX 0 rfl dX9_init_5 ?_
  refine j_objInit (pc := 6) hX q360 q188 q189 (Nat.le_of_ble_eq_true rfl) (Nat.le_of_ble_eq_true rfl) dX9_init_6 ?_
  refine j_aload_n (pc := 9) hX 0 rfl dX9_init_9 ?_
  refine j_iconst (pc := 10) hX ic_5 dX9_init_10 ?_
  refine j_grd fun g6 => ?_
  refine j_newa (pc := 11) (k := 100) (n := 5) (q := 0) (atype := .int) hX rfl (Nat.le_of_ble_eq_true rfl) (fun _ => rfl) (fun _ h => by cases h) q320 (by decide) (by decide) (Nat.le_of_ble_eq_true rfl) (cV_vA g6) (fun _ => rfl) dX9_init_11 (fun b7 h8 => ?_)
  refine j_grd fun g9 => ?_
  refine j_grd fun g13 => ?_
  refine c_putFR (pc := 13) hX hnm ffX9_15_X9.1 ffX9_15_X9.2 g9 (cV_sR (cRs_big g13)) dX9_init_13 (fun h10 q11 => ?_)
  refine j_aload_n (pc := 16) hX 0 rfl dX9_init_16 ?_
  refine j_iconst (pc := 17) hX ic_5 dX9_init_17 ?_
  refine j_grd fun g14 => ?_
  refine j_newa (pc := 18) (k := 100) (n := 5) (q := 0) (atype := .int) hX rfl (Nat.le_of_ble_eq_true rfl) (fun _ => rfl) (fun _ h => by cases h) q320 (by decide) (by decide) (Nat.le_of_ble_eq_true rfl) (cV_vA g14) (fun _ => rfl) dX9_init_18 (fun b15 h16 => ?_)
  refine j_grd fun g17 => ?_
  refine j_grd fun g21 => ?_
  refine c_putFR (pc := 20) hX hnm ffX9_19_X9.1 ffX9_19_X9.2 g17 (cV_sR (cRs_big g21)) dX9_init_20 (fun h18 q19 => ?_)
  refine j_aload_n (pc := 23) hX 0 rfl dX9_init_23 ?_
  refine j_iconst (pc := 24) hX ic_5 dX9_init_24 ?_
  refine j_grd fun g22 => ?_
  refine j_newa (pc := 25) (k := 100) (n := 5) (q := 0) (atype := .int) hX rfl (Nat.le_of_ble_eq_true rfl) (fun _ => rfl) (fun _ h => by cases h) q320 (by decide) (by decide) (Nat.le_of_ble_eq_true rfl) (cV_vA g22) (fun _ => rfl) dX9_init_25 (fun b23 h24 => ?_)
  refine j_grd fun g25 => ?_
  refine j_grd fun g29 => ?_
  refine c_putFR (pc := 27) hX hnm ffX9_22_X9.1 ffX9_22_X9.2 g25 (cV_sR (cRs_big g29)) dX9_init_27 (fun h26 q27 => ?_)
  refine j_aload_n (pc := 30) hX 0 rfl dX9_init_30 ?_
  refine j_iconst (pc := 31) hX ic_5 dX9_init_31 ?_
  refine j_grd fun g30 => ?_
  refine j_newa (pc := 32) (k := 100) (n := 5) (q := 0) (atype := .int) hX rfl (Nat.le_of_ble_eq_true rfl) (fun _ => rfl) (fun _ h => by cases h) q320 (by decide) (by decide) (Nat.le_of_ble_eq_true rfl) (cV_vA g30) (fun _ => rfl) dX9_init_32 (fun b31 h32 => ?_)
  refine j_grd fun g33 => ?_
  refine j_grd fun g37 => ?_
  refine c_putFR (pc := 34) hX hnm ffX9_25_X9.1 ffX9_25_X9.2 g33 (cV_sR (cRs_big g37)) dX9_init_34 (fun h34 q35 => ?_)
  exact j_vret (pc := 37) hX hr dX9_init_37
set_option maxHeartbeats 4000000 in
set_option maxRecDepth 100000 in
theorem cS_become_2_w {X : CTX} {rr : Unit × HP}  (hX : okX cV X rr cX9_become RX9 3 1 0) (hr : (xh X).sig.returnType = none) (f0 : Nat) (f1 : Nat) (k : HP → Option (Unit × HP)) (hk : ∀  (h : HP), jG cV X evV rr (k  h) 61 [(0, .ref (xz X + f0)), (1, .ref (xz X + f1))] [] h) : ∀ (n : Nat) (v2 : Int32) (h : HP), jG cV X evV rr (cS_become_2 f0 f1 k n v2 h) 2 [(0, .ref (xz X + f0)), (1, .ref (xz X + f1)), (2, .int v2)] [] h := by
  intro n
  induction n with
  | zero =>
    intro v2 h
    exact j_none
  | succ n ih =>
    intro v2 h
    rw [cS_become_2]
    refine j_iload_n (pc := 2) hX 2 rfl dX9_become_2 ?_
    refine j_iconst (pc := 3) hX ic_5 dX9_become_3 ?_
    refine j_cge (pc := 4) (tgt := 61) hX rfl dX9_become_4 (fun _ => ?_) (fun _ => ?_)
    · refine j_locs [0, 1] rfl ?_
      exact hk h
    · refine j_aload_n (pc := 7) hX 0 rfl dX9_become_7 ?_
      refine j_grd fun g2 => ?_
      refine c_getR (pc := 8) hX fgX9_15_X9.1 fgX9_15_X9.2 (k1_of g2.1) g2.2.1.1 dX9_become_8 ?_
      refine j_iload_n (pc := 11) hX 2 rfl dX9_become_11 ?_
      refine j_aload_n (pc := 12) hX 1 rfl dX9_become_12 ?_
      refine j_grd fun g3 => ?_
      refine c_getR (pc := 13) hX fgX9_15_X9.1 fgX9_15_X9.2 (k1_of g3.1) g3.2.1.1 dX9_become_13 ?_
      refine j_iload_n (pc := 16) hX 2 rfl dX9_become_16 ?_
      refine j_iald (pc := 17) (n := 5) hX g3.2.2.1 dX9_become_17 (fun _ => ?_)
      refine c_iast (pc := 18) (n := 5) hX g2.2.2.1 dX9_become_18 (fun h4 q5 q6 => ?_)
      refine j_aload_n (pc := 19) hX 0 rfl dX9_become_19 ?_
      refine c_getR (pc := 20) hX fgX9_19_X9.1 fgX9_19_X9.2 (k1_of (shS_t q5 q6 g2).1) (shS_t q5 q6 g2).2.1.2.1 dX9_become_20 ?_
      refine j_iload_n (pc := 23) hX 2 rfl dX9_become_23 ?_
      refine j_aload_n (pc := 24) hX 1 rfl dX9_become_24 ?_
      refine c_getR (pc := 25) hX fgX9_19_X9.1 fgX9_19_X9.2 (k1_of (shS_t q5 q6 g3).1) (shS_t q5 q6 g3).2.1.2.1 dX9_become_25 ?_
      refine j_iload_n (pc := 28) hX 2 rfl dX9_become_28 ?_
      refine j_iald (pc := 29) (n := 5) hX (shS_t q5 q6 g3).2.2.2.1 dX9_become_29 (fun _ => ?_)
      refine c_iast (pc := 30) (n := 5) hX (shS_t q5 q6 g2).2.2.2.1 dX9_become_30 (fun h7 q8 q9 => ?_)
      refine j_aload_n (pc := 31) hX 0 rfl dX9_become_31 ?_
      refine c_getR (pc := 32) hX fgX9_22_X9.1 fgX9_22_X9.2 (k1_of (shS_t q8 q9 (shS_t q5 q6 g2)).1) (shS_t q8 q9 (shS_t q5 q6 g2)).2.1.2.2.1 dX9_become_32 ?_
      refine j_iload_n (pc := 35) hX 2 rfl dX9_become_35 ?_
      refine j_aload_n (pc := 36) hX 1 rfl dX9_become_36 ?_
      refine c_getR (pc := 37) hX fgX9_22_X9.1 fgX9_22_X9.2 (k1_of (shS_t q8 q9 (shS_t q5 q6 g3)).1) (shS_t q8 q9 (shS_t q5 q6 g3)).2.1.2.2.1 dX9_become_37 ?_
      refine j_iload_n (pc := 40) hX 2 rfl dX9_become_40 ?_
      refine j_iald (pc := 41) (n := 5) hX (shS_t q8 q9 (shS_t q5 q6 g3)).2.2.2.2.1 dX9_become_41 (fun _ => ?_)
      refine c_iast (pc := 42) (n := 5) hX (shS_t q8 q9 (shS_t q5 q6 g2)).2.2.2.2.1 dX9_become_42 (fun h10 q11 q12 => ?_)
      refine j_aload_n (pc := 43) hX 0 rfl dX9_become_43 ?_
      refine c_getR (pc := 44) hX fgX9_25_X9.1 fgX9_25_X9.2 (k1_of (shS_t q11 q12 (shS_t q8 q9 (shS_t q5 q6 g2))).1) (shS_t q11 q12 (shS_t q8 q9 (shS_t q5 q6 g2))).2.1.2.2.2.1 dX9_become_44 ?_
      refine j_iload_n (pc := 47) hX 2 rfl dX9_become_47 ?_
      refine j_aload_n (pc := 48) hX 1 rfl dX9_become_48 ?_
      refine c_getR (pc := 49) hX fgX9_25_X9.1 fgX9_25_X9.2 (k1_of (shS_t q11 q12 (shS_t q8 q9 (shS_t q5 q6 g3))).1) (shS_t q11 q12 (shS_t q8 q9 (shS_t q5 q6 g3))).2.1.2.2.2.1 dX9_become_49 ?_
      refine j_iload_n (pc := 52) hX 2 rfl dX9_become_52 ?_
      refine j_iald (pc := 53) (n := 5) hX (shS_t q11 q12 (shS_t q8 q9 (shS_t q5 q6 g3))).2.2.2.2.2 dX9_become_53 (fun _ => ?_)
      refine c_iast (pc := 54) (n := 5) hX (shS_t q11 q12 (shS_t q8 q9 (shS_t q5 q6 g2))).2.2.2.2.2 dX9_become_54 (fun h13 q14 q15 => ?_)
      refine j_iinc (pc := 55) hX 2 rfl (1 : Int32) ic_1 (fun x16 => [(2, .int x16), (0, .ref (xz X + f0)), (1, .ref (xz X + f1))]) (fun _ => rfl) (Nat.le_of_ble_eq_true rfl) dX9_become_55 (fun x16 => ?_)
      refine j_goto (pc := 58) (tgt := 2) hX rfl dX9_become_58 ?_
      refine j_locs [1, 2, 0] rfl ?_
      exact ih x16 h13
set_option maxHeartbeats 4000000 in
set_option maxRecDepth 100000 in
theorem cS_become_t   (o : Nat) (a1 : Nat) (h : HP) (rr : Unit × HP) (e : cS_become o a1 h = some rr) : Cn cV yX9_become (ws_ yX9_become cX9_become 3 (none)) 1 0 (fun z => [.ref (z + o), .ref (z + a1)]) h (fun z => eV z rr.1) rr.2 := by
  refine cn_of (e1 := eV) (fun z => [(0, .ref (z + o)), (1, .ref (z + a1))]) cV_ok (cS_become_m o a1 h _ e) ymX9_become (fun _ => rfl) (fun _ => Nat.le_of_ble_eq_true rfl) (fun X hX hr hnm => ?_) e
  have hX : okX cV X rr cX9_become RX9 3 1 0 := hX
  rw [cS_become]
  refine j_iconst (pc := 0) hX ic_0 dX9_become_0 ?_
  refine j_istore_n (pc := 1) hX (fun x1 => [(2, .int x1), (0, .ref (xz X + o)), (1, .ref (xz X + a1))]) (fun _ => rfl) (Nat.le_of_ble_eq_true rfl) dX9_become_1 (fun x1 => ?_)
  refine j_locs [1, 2, 0] rfl ?_
  refine cS_become_2_w hX hr o a1 _ (fun  h17 => ?_) FU x1 h
  refine j_aload_n (pc := 61) hX 0 rfl dX9_become_61 ?_
  refine j_aload_n (pc := 62) hX 1 rfl dX9_become_62 ?_
  refine j_grd fun g18 => ?_
  refine c_getI (pc := 63) hX fgX9_54_X9.1 fgX9_54_X9.2 (k1_of g18.1) dX9_become_63 ?_
  refine j_grd fun g19 => ?_
  refine c_putI (pc := 66) hX fwX9_54_X9.1 fwX9_54_X9.2 (k1_of g19.1) dX9_become_66 (fun h20 q21 q22 => ?_)
  refine j_aload_n (pc := 69) hX 0 rfl dX9_become_69 ?_
  refine j_aload_n (pc := 70) hX 1 rfl dX9_become_70 ?_
  refine c_getI (pc := 71) hX fgX9_57_X9.1 fgX9_57_X9.2 (k1_of (shS_t q21 q22 g18).1) dX9_become_71 ?_
  refine c_putI (pc := 74) hX fwX9_57_X9.1 fwX9_57_X9.2 (k1_of (shS_t q21 q22 g19).1) dX9_become_74 (fun h23 q24 q25 => ?_)
  refine j_aload_n (pc := 77) hX 0 rfl dX9_become_77 ?_
  refine j_aload_n (pc := 78) hX 1 rfl dX9_become_78 ?_
  refine c_getI (pc := 79) hX fgX9_63_X9.1 fgX9_63_X9.2 (k1_of (shS_t q24 q25 (shS_t q21 q22 g18)).1) dX9_become_79 ?_
  refine c_putI (pc := 82) hX fwX9_63_X9.1 fwX9_63_X9.2 (k1_of (shS_t q24 q25 (shS_t q21 q22 g19)).1) dX9_become_82 (fun h26 q27 q28 => ?_)
  refine j_aload_n (pc := 85) hX 0 rfl dX9_become_85 ?_
  refine j_aload_n (pc := 86) hX 1 rfl dX9_become_86 ?_
  refine c_getI (pc := 87) hX fgX9_66_X9.1 fgX9_66_X9.2 (k1_of (shS_t q27 q28 (shS_t q24 q25 (shS_t q21 q22 g18))).1) dX9_become_87 ?_
  refine c_putI (pc := 90) hX fwX9_66_X9.1 fwX9_66_X9.2 (k1_of (shS_t q27 q28 (shS_t q24 q25 (shS_t q21 q22 g19))).1) dX9_become_90 (fun h29 q30 q31 => ?_)
  refine j_aload_n (pc := 93) hX 0 rfl dX9_become_93 ?_
  refine j_aload_n (pc := 94) hX 1 rfl dX9_become_94 ?_
  refine c_getI (pc := 95) hX fgX9_72_X9.1 fgX9_72_X9.2 (k1_of (shS_t q30 q31 (shS_t q27 q28 (shS_t q24 q25 (shS_t q21 q22 g18)))).1) dX9_become_95 ?_
  refine c_putI (pc := 98) hX fwX9_72_X9.1 fwX9_72_X9.2 (k1_of (shS_t q30 q31 (shS_t q27 q28 (shS_t q24 q25 (shS_t q21 q22 g19)))).1) dX9_become_98 (fun h32 q33 q34 => ?_)
  refine j_aload_n (pc := 101) hX 0 rfl dX9_become_101 ?_
  refine j_aload_n (pc := 102) hX 1 rfl dX9_become_102 ?_
  refine c_getI (pc := 103) hX fgX9_69_X9.1 fgX9_69_X9.2 (k1_of (shS_t q33 q34 (shS_t q30 q31 (shS_t q27 q28 (shS_t q24 q25 (shS_t q21 q22 g18))))).1) dX9_become_103 ?_
  refine c_putI (pc := 106) hX fwX9_69_X9.1 fwX9_69_X9.2 (k1_of (shS_t q33 q34 (shS_t q30 q31 (shS_t q27 q28 (shS_t q24 q25 (shS_t q21 q22 g19))))).1) dX9_become_106 (fun h35 q36 q37 => ?_)
  exact j_vret (pc := 109) hX hr dX9_become_109
set_option maxHeartbeats 4000000 in
set_option maxRecDepth 100000 in
theorem cA_keepNow_18_w {X : CTX} {rr : Unit × HP}  (hX : okX cV X rr cX1_keepNow RX1 3 2 33) (hr : (xh X).sig.returnType = none) (f1 : Nat) (k : HP → Option (Unit × HP)) (hk : ∀  (h : HP), jG cV X evV rr (k  h) 44 [(0, .ref (xz X + 0)), (1, .ref (xz X + f1))] [] h) : ∀ (n : Nat) (v2 : Int32) (h : HP), jG cV X evV rr (cA_keepNow_18 f1 k n v2 h) 18 [(0, .ref (xz X + 0)), (1, .ref (xz X + f1)), (2, .int v2)] [] h := by
  intro n
  induction n with
  | zero =>
    intro v2 h
    exact j_none
  | succ n ih =>
    intro v2 h
    rw [cA_keepNow_18]
    refine j_iload_n (pc := 18) hX 2 rfl dX1_keepNow_18 ?_
    refine j_bipush (pc := 19) hX bp_20 dX1_keepNow_19 ?_
    refine j_cge (pc := 21) (tgt := 44) hX rfl dX1_keepNow_21 (fun _ => ?_) (fun _ => ?_)
    · refine j_locs [0, 1] rfl ?_
      exact hk h
    · refine j_aload_n (pc := 24) hX 0 rfl dX1_keepNow_24 ?_
      refine c_getR (pc := 25) hX fgX1_105_X1.1 fgX1_105_X1.2 rfl rfl dX1_keepNow_25 ?_
      refine j_iload_n (pc := 28) hX 2 rfl dX1_keepNow_28 ?_
      refine j_iconst (pc := 29) hX ic_1 dX1_keepNow_29 ?_
      refine j_isub (pc := 30) hX dX1_keepNow_30 ?_
      refine j_aload_n (pc := 31) hX 0 rfl dX1_keepNow_31 ?_
      refine c_getR (pc := 32) hX fgX1_105_X1.1 fgX1_105_X1.2 rfl rfl dX1_keepNow_32 ?_
      refine j_iload_n (pc := 35) hX 2 rfl dX1_keepNow_35 ?_
      refine j_aald (pc := 36) (n := 20) (q := 7) hX (Nat.le_of_ble_eq_true rfl) (fun _ => rfl) rfl dX1_keepNow_36 (fun b26 => ?_)
      refine j_grd fun g28 => ?_
      refine j_aastQ (pc := 37) (n := 20) hX rfl g28 (cV_sR rfl) dX1_keepNow_37 (fun h27 => ?_)
      refine j_iinc (pc := 38) hX 2 rfl (1 : Int32) ic_1 (fun x29 => [(2, .int x29), (0, .ref (xz X + 0)), (1, .ref (xz X + f1))]) (fun _ => rfl) (Nat.le_of_ble_eq_true rfl) dX1_keepNow_38 (fun x29 => ?_)
      refine j_goto (pc := 41) (tgt := 18) hX rfl dX1_keepNow_41 ?_
      refine j_locs [1, 2, 0] rfl ?_
      exact ih x29 h27
set_option maxHeartbeats 4000000 in
set_option maxRecDepth 100000 in
theorem cA_keepNow_t    (h : HP) (rr : Unit × HP) (e : cA_keepNow  h = some rr) : Cn cV yX1_keepNow (ws_ yX1_keepNow cX1_keepNow 3 (none)) 2 33 (fun z => [.ref (z + 0)]) h (fun z => eV z rr.1) rr.2 := by
  refine cn_of (e1 := eV) (fun z => [(0, .ref (z + 0))]) cV_ok (cA_keepNow_m  h _ e) ymX1_keepNow (fun _ => rfl) (fun _ => Nat.le_of_ble_eq_true rfl) (fun X hX hr hnm => ?_) e
  have hX : okX cV X rr cX1_keepNow RX1 3 2 33 := hX
  rw [cA_keepNow]
  refine j_aload_n (pc := 0) hX 0 rfl dX1_keepNow_0 ?_
  refine c_getI (pc := 1) hX fgX1_166_X1.1 fgX1_166_X1.2 rfl dX1_keepNow_1 ?_
  refine j_bipush (pc := 4) hX bp_20 dX1_keepNow_4 ?_
  refine j_jon (fun (j1 : HP → Option (Unit × HP)) => ∀ (h2 : HP), jG cV X evV rr (j1 h2) 62 [(0, .ref (xz X + 0))] [] h2) ?_ ?_
  · intro h2
    refine j_aload_n (pc := 62) hX 0 rfl dX1_keepNow_62 ?_
    refine c_getR (pc := 63) hX fgX1_105_X1.1 fgX1_105_X1.2 rfl rfl dX1_keepNow_63 ?_
    refine j_aload_n (pc := 66) hX 0 rfl dX1_keepNow_66 ?_
    refine c_getI (pc := 67) hX fgX1_166_X1.1 fgX1_166_X1.2 rfl dX1_keepNow_67 ?_
    refine j_aaldN (pc := 70) (n := 20) (q := 7) (tgt := 91) hX (Nat.le_of_ble_eq_true rfl) (fun _ => rfl) rfl dX1_keepNow_70 rfl dX1_keepNow_71 ?_ ?_
    · refine j_aload_n (pc := 74) hX 0 rfl dX1_keepNow_74 ?_
      refine c_getR (pc := 75) hX fgX1_105_X1.1 fgX1_105_X1.2 rfl rfl dX1_keepNow_75 ?_
      refine j_aload_n (pc := 78) hX 0 rfl dX1_keepNow_78 ?_
      refine c_getI (pc := 79) hX fgX1_166_X1.1 fgX1_166_X1.2 rfl dX1_keepNow_79 ?_
      refine j_grd fun g3 => ?_
      refine j_new (pc := 82) hX ckX9 cfX9 q355 q356 q151 (cV_vA g3) dX1_keepNow_82 (fun b4 h5 => ?_)
      refine j_dup (pc := 85) hX rfl dX1_keepNow_85 ?_
      refine j_aload_n (pc := 86) hX 0 rfl dX1_keepNow_86 ?_
      refine j_callIN (pc := 87) (e1 := eV) (a := b4) (As := fun z => [.ref (z + 0)]) (rest := [.ref (xz X + b4), .int (gI h2 0 4), .ref (xz X + 35)]) hX (fun r e => cS_init_t b4 0 h5 r e) ymX9_init rfl (List.mem_of_getElem? (i := 6) rfl) q358 q151 q359 ⟨Nat.le_of_ble_eq_true rfl, Nat.le_of_ble_eq_true rfl⟩ rfl rfl (Nat.le_of_ble_eq_true rfl) dX1_keepNow_87 (fun r6 h7 => ?_)
      refine j_grd fun g9 => ?_
      refine j_aastQ (pc := 90) (n := 20) hX rfl g9 (cV_sR rfl) dX1_keepNow_90 (fun h8 => ?_)
      refine j_aload_n (pc := 91) hX 0 rfl dX1_keepNow_91 ?_
      refine c_getR (pc := 92) hX fgX1_105_X1.1 fgX1_105_X1.2 rfl rfl dX1_keepNow_92 ?_
      refine j_aload_n (pc := 95) hX 0 rfl dX1_keepNow_95 ?_
      refine c_getI (pc := 96) hX fgX1_166_X1.1 fgX1_166_X1.2 rfl dX1_keepNow_96 ?_
      refine j_aald (pc := 99) (n := 20) (q := 7) hX (Nat.le_of_ble_eq_true rfl) (fun _ => rfl) rfl dX1_keepNow_99 (fun b10 => ?_)
      refine j_aload_n (pc := 100) hX 0 rfl dX1_keepNow_100 ?_
      refine c_getR (pc := 101) hX fgX1_95_X1.1 fgX1_95_X1.2 rfl rfl dX1_keepNow_101 ?_
      refine j_grd fun g13 => ?_
      refine j_callV (pc := 104) (e1 := eV) (a := b10) (As := fun z => [.ref (z + 20)]) (rest := []) hX (fun r e => cS_become_t b10 20 h8 r e) ymX9_become (lw_V q1159 q1160 q1161 q151 q1162) rfl ckX9 (k1_of g13.1) ⟨Nat.le_of_ble_eq_true rfl, Nat.le_of_ble_eq_true rfl⟩ rfl rfl (Nat.le_of_ble_eq_true rfl) dX1_keepNow_104 (fun r11 h12 => ?_)
      refine j_aload_n (pc := 107) hX 0 rfl dX1_keepNow_107 ?_
      refine j_dup (pc := 108) hX rfl dX1_keepNow_108 ?_
      refine c_getI (pc := 109) hX fgX1_166_X1.1 fgX1_166_X1.2 rfl dX1_keepNow_109 ?_
      refine j_iconst (pc := 112) hX ic_1 dX1_keepNow_112 ?_
      refine j_iadd (pc := 113) hX dX1_keepNow_113 ?_
      refine c_putI (pc := 114) hX fwX1_166_X1.1 fwX1_166_X1.2 rfl dX1_keepNow_114 (fun h14 q15 q16 => ?_)
      exact j_vret (pc := 117) hX hr dX1_keepNow_117
    · refine j_aload_n (pc := 91) hX 0 rfl dX1_keepNow_91 ?_
      refine c_getR (pc := 92) hX fgX1_105_X1.1 fgX1_105_X1.2 rfl rfl dX1_keepNow_92 ?_
      refine j_aload_n (pc := 95) hX 0 rfl dX1_keepNow_95 ?_
      refine c_getI (pc := 96) hX fgX1_166_X1.1 fgX1_166_X1.2 rfl dX1_keepNow_96 ?_
      refine j_aald (pc := 99) (n := 20) (q := 7) hX (Nat.le_of_ble_eq_true rfl) (fun _ => rfl) rfl dX1_keepNow_99 (fun b17 => ?_)
      refine j_aload_n (pc := 100) hX 0 rfl dX1_keepNow_100 ?_
      refine c_getR (pc := 101) hX fgX1_95_X1.1 fgX1_95_X1.2 rfl rfl dX1_keepNow_101 ?_
      refine j_grd fun g20 => ?_
      refine j_callV (pc := 104) (e1 := eV) (a := b17) (As := fun z => [.ref (z + 20)]) (rest := []) hX (fun r e => cS_become_t b17 20 h2 r e) ymX9_become (lw_V q1159 q1160 q1161 q151 q1162) rfl ckX9 (k1_of g20.1) ⟨Nat.le_of_ble_eq_true rfl, Nat.le_of_ble_eq_true rfl⟩ rfl rfl (Nat.le_of_ble_eq_true rfl) dX1_keepNow_104 (fun r18 h19 => ?_)
      refine j_aload_n (pc := 107) hX 0 rfl dX1_keepNow_107 ?_
      refine j_dup (pc := 108) hX rfl dX1_keepNow_108 ?_
      refine c_getI (pc := 109) hX fgX1_166_X1.1 fgX1_166_X1.2 rfl dX1_keepNow_109 ?_
      refine j_iconst (pc := 112) hX ic_1 dX1_keepNow_112 ?_
      refine j_iadd (pc := 113) hX dX1_keepNow_113 ?_
      refine c_putI (pc := 114) hX fwX1_166_X1.1 fwX1_166_X1.2 rfl dX1_keepNow_114 (fun h21 q22 q23 => ?_)
      exact j_vret (pc := 117) hX hr dX1_keepNow_117
  · intro j1 hj1
    refine j_cne (pc := 6) (tgt := 62) hX rfl dX1_keepNow_6 (fun _ => ?_) (fun _ => ?_)
    · refine j_aload_n (pc := 9) hX 0 rfl dX1_keepNow_9 ?_
      refine c_getR (pc := 10) hX fgX1_105_X1.1 fgX1_105_X1.2 rfl rfl dX1_keepNow_10 ?_
      refine j_iconst (pc := 13) hX ic_0 dX1_keepNow_13 ?_
      refine j_aald (pc := 14) (n := 20) (q := 7) hX (Nat.le_of_ble_eq_true rfl) (fun _ => rfl) rfl dX1_keepNow_14 (fun b24 => ?_)
      refine j_astore_n (pc := 15) (ls' := [(1, .ref (xz X + b24)), (0, .ref (xz X + 0))]) hX rfl (Nat.le_of_ble_eq_true rfl) dX1_keepNow_15 ?_
      refine j_iconst (pc := 16) hX ic_1 dX1_keepNow_16 ?_
      refine j_istore_n (pc := 17) hX (fun x25 => [(2, .int x25), (1, .ref (xz X + b24)), (0, .ref (xz X + 0))]) (fun _ => rfl) (Nat.le_of_ble_eq_true rfl) dX1_keepNow_17 (fun x25 => ?_)
      refine j_locs [2, 1, 0] rfl ?_
      refine cA_keepNow_18_w hX hr b24 _ (fun  h30 => ?_) FU x25 h
      refine j_aload_n (pc := 44) hX 0 rfl dX1_keepNow_44 ?_
      refine c_getR (pc := 45) hX fgX1_105_X1.1 fgX1_105_X1.2 rfl rfl dX1_keepNow_45 ?_
      refine j_bipush (pc := 48) hX bp_19 dX1_keepNow_48 ?_
      refine j_aload_n (pc := 50) hX 1 rfl dX1_keepNow_50 ?_
      refine j_grd fun g32 => ?_
      refine j_aastQ (pc := 51) (n := 20) hX rfl g32 (cV_sR rfl) dX1_keepNow_51 (fun h31 => ?_)
      refine j_aload_n (pc := 52) hX 0 rfl dX1_keepNow_52 ?_
      refine j_dup (pc := 53) hX rfl dX1_keepNow_53 ?_
      refine c_getI (pc := 54) hX fgX1_166_X1.1 fgX1_166_X1.2 rfl dX1_keepNow_54 ?_
      refine j_iconst (pc := 57) hX ic_1 dX1_keepNow_57 ?_
      refine j_isub (pc := 58) hX dX1_keepNow_58 ?_
      refine c_putI (pc := 59) hX fwX1_166_X1.1 fwX1_166_X1.2 rfl dX1_keepNow_59 (fun h33 q34 q35 => ?_)
      refine j_locs [0] rfl ?_
      exact hj1 h33
    · exact hj1 h
set_option maxHeartbeats 4000000 in
set_option maxRecDepth 100000 in
theorem kX4_isHeard_t   (o : Nat) (a1 : Int32) (h : HP) (rr : Int32 × HP) (e : kX4_isHeard o a1 h = some rr) : Cn cV yX4_isHeard (ws_ yX4_isHeard cX4_isHeard 2 (some .boolean)) 1 0 (fun z => [.ref (z + o), .int a1]) h (fun z => eI z rr.1) rr.2 := by
  refine cn_of (e1 := eI) (fun z => [(0, .ref (z + o)), (1, .int a1)]) cV_ok (kX4_isHeard_m o a1 h _ e) ymX4_isHeard (fun _ => rfl) (fun _ => Nat.le_of_ble_eq_true rfl) (fun X hX hr hnm => ?_) e
  have hX : okX cV X rr cX4_isHeard RX4 2 1 0 := hX
  rw [kX4_isHeard]
  refine j_iconst (pc := 0) hX ic_1 dX4_isHeard_0 ?_
  exact j_zret (pc := 1) hX (Or.inr rfl) hr dX4_isHeard_1
set_option maxHeartbeats 4000000 in
set_option maxRecDepth 100000 in
theorem kX7_isHeard_t   (o : Nat) (a1 : Int32) (h : HP) (rr : Int32 × HP) (e : kX7_isHeard o a1 h = some rr) : Cn cV yX7_isHeard (ws_ yX7_isHeard cX7_isHeard 2 (some .boolean)) 2 21 (fun z => [.ref (z + o), .int a1]) h (fun z => eI z rr.1) rr.2 := by
  refine cn_of (e1 := eI) (fun z => [(0, .ref (z + o)), (1, .int a1)]) cV_ok (kX7_isHeard_m o a1 h _ e) ymX7_isHeard (fun _ => rfl) (fun _ => Nat.le_of_ble_eq_true rfl) (fun X hX hr hnm => ?_) e
  have hX : okX cV X rr cX7_isHeard RX7 2 2 21 := hX
  rw [kX7_isHeard]
  refine j_aload_n (pc := 0) hX 0 rfl dX7_isHeard_0 ?_
  refine j_iload_n (pc := 1) hX 1 rfl dX7_isHeard_1 ?_
  refine j_grd fun g3 => ?_
  refine j_callSV2 (pc := 2) (e1 := eI) (x := ⟨"AskedCourt$Plain", "isHeard", "(I)Z"⟩) (owner := "AskedCourt$Kind") (a := o) (As := fun z => [.int a1]) (rest := []) hX (fun r e => kX4_isHeard_t o a1 h r e) ymX4_isHeard (by decide) q1190 q1191 q347 q332 q1185 q146 q1196 ckX7 g3 ⟨Nat.le_of_ble_eq_true rfl, Nat.le_of_ble_eq_true rfl⟩ rfl rfl (Nat.le_of_ble_eq_true rfl) dX7_isHeard_2 (fun r1 h2 => ?_)
  refine j_ifeq (pc := 5) (tgt := 17) hX rfl dX7_isHeard_5 (fun _ => ?_) (fun _ => ?_)
  · refine j_iconst (pc := 17) hX ic_0 dX7_isHeard_17 ?_
    exact j_zret (pc := 18) hX (Or.inl rfl) hr dX7_isHeard_18
  · refine j_iload_n (pc := 8) hX 1 rfl dX7_isHeard_8 ?_
    refine j_iconst (pc := 9) hX ic_5 dX7_isHeard_9 ?_
    refine j_clt (pc := 10) (tgt := 17) hX rfl dX7_isHeard_10 (fun _ => ?_) (fun _ => ?_)
    · refine j_iconst (pc := 17) hX ic_0 dX7_isHeard_17 ?_
      exact j_zret (pc := 18) hX (Or.inl rfl) hr dX7_isHeard_18
    · refine j_iconst (pc := 13) hX ic_1 dX7_isHeard_13 ?_
      refine j_goto (pc := 14) (tgt := 18) hX rfl dX7_isHeard_14 ?_
      exact j_zret (pc := 18) hX (Or.inr rfl) hr dX7_isHeard_18
set_option maxHeartbeats 4000000 in
set_option maxRecDepth 100000 in
theorem cS_hears_t   (o : Nat) (a1 : Int32) (a2 : Nat) (h : HP) (rr : Int32 × HP) (e : cS_hears o a1 a2 h = some rr) : Cn cV yX9_hears (ws_ yX9_hears cX9_hears 5 (some .boolean)) 162 3807 (fun z => [.ref (z + o), .int a1, .ref (z + a2)]) h (fun z => eI z rr.1) rr.2 := by
  refine cn_of (e1 := eI) (fun z => [(0, .ref (z + o)), (1, .int a1), (2, .ref (z + a2))]) cV_ok (cS_hears_m o a1 a2 h _ e) ymX9_hears (fun _ => rfl) (fun _ => Nat.le_of_ble_eq_true rfl) (fun X hX hr hnm => ?_) e
  have hX : okX cV X rr cX9_hears RX9 5 162 3807 := hX
  rw [cS_hears]
  refine j_aload_n (pc := 0) hX 0 rfl dX9_hears_0 ?_
  refine j_iload_n (pc := 1) hX 1 rfl dX9_hears_1 ?_
  refine j_aload_n (pc := 2) hX 2 rfl dX9_hears_2 ?_
  refine j_grd fun g1 => ?_
  refine c_getI (pc := 3) hX fgX9_95_X14.1 fgX9_95_X14.2 g1 dX9_hears_3 ?_
  refine j_grd fun g4 => ?_
  refine j_callV (pc := 6) (e1 := eV) (a := o) (As := fun z => [.int a1, .int (gI h a2 1)]) (rest := []) hX (fun r e => cS_name_t o a1 (gI h a2 1) h r e) ymX9_name (lw_V q1181 q1098 q1099 q151 q1100) rfl ckX9 (k1_of g4.1) ⟨Nat.le_of_ble_eq_true rfl, Nat.le_of_ble_eq_true rfl⟩ rfl rfl (Nat.le_of_ble_eq_true rfl) dX9_hears_6 (fun r2 h3 => ?_)
  refine j_aload_n (pc := 9) hX 0 rfl dX9_hears_9 ?_
  refine j_grd fun g5 => ?_
  refine c_getR (pc := 10) hX fgX9_3_X9.1 fgX9_3_X9.2 (k1_of g5.1) g5.2.1.2.2.2.2 dX9_hears_10 ?_
  refine j_iconst (pc := 13) hX ic_1 dX9_hears_13 ?_
  refine h_callG (pc := 14) (e2 := eL) hX (fun r e => cA_work_t (1 : Int32) h3 r e) (xr_VWN (pc := 14) (a := 0) (As := fun z => [.int (1 : Int32)]) (rest := []) hX ymX1_work (List.mem_of_getElem? (i := 16) rfl) q1113 qs38 q140 q1114 ckX1 rfl ⟨Nat.le_of_ble_eq_true rfl, Nat.le_of_ble_eq_true rfl⟩ rfl rfl (Nat.le_of_ble_eq_true rfl) dX9_hears_14) (fun r6 h7 => ?_)
  refine j_lstore_n (pc := 17) hX (fun x8 => [(3, .long x8), (0, .ref (xz X + o)), (1, .int a1), (2, .ref (xz X + a2))]) (fun _ => rfl) (Nat.le_of_ble_eq_true rfl) dX9_hears_17 (fun x8 => ?_)
  refine j_lload_n (pc := 18) hX 0 rfl dX9_hears_18 ?_
  refine j_ldc2 (pc := 19) hX q1183 dX9_hears_19 ?_
  refine j_lcmp (pc := 22) hX dX9_hears_22 ?_
  refine j_ifne (pc := 23) (tgt := 49) hX rfl dX9_hears_23 (fun _ => ?_) (fun _ => ?_)
  · refine j_aload_n (pc := 26) hX 1 rfl dX9_hears_26 ?_
    refine j_grd fun g9 => ?_
    refine c_getR (pc := 27) hX fgX9_3_X9.1 fgX9_3_X9.2 (k1_of g9.1) g9.2.1.2.2.2.2 dX9_hears_27 ?_
    refine c_getR (pc := 30) hX fgX9_110_X1.1 fgX9_110_X1.2 rfl rfl dX9_hears_30 ?_
    refine j_aload_n (pc := 33) hX 3 rfl dX9_hears_33 ?_
    refine j_grd fun g10 => ?_
    refine c_getI (pc := 34) hX fgX9_95_X14.1 fgX9_95_X14.2 g10 dX9_hears_34 ?_
    refine j_aald (pc := 37) (n := 4) (q := 6) hX (Nat.le_of_ble_eq_true rfl) (fun _ => rfl) rfl dX9_hears_37 (fun b11 => ?_)
    refine j_aload_n (pc := 38) hX 1 rfl dX9_hears_38 ?_
    refine j_iload_n (pc := 39) hX 2 rfl dX9_hears_39 ?_
    refine j_callV (pc := 40) (e1 := eI) (a := o) (As := fun z => [.int a1]) (rest := [.ref (xz X + b11)]) hX (fun r e => cS_wit_t o a1 h7 r e) ymX9_wit (lw_V q1101 q1102 q1103 q151 q1104) rfl ckX9 (k1_of g9.1) ⟨Nat.le_of_ble_eq_true rfl, Nat.le_of_ble_eq_true rfl⟩ rfl rfl (Nat.le_of_ble_eq_true rfl) dX9_hears_40 (fun r12 h13 => ?_)
    refine j_callD (pc := 43) (e1 := eI) (rest := []) (fun r14 h15 => ?_) (fun kk => ?_)
    · refine j_goto (pc := 46) (tgt := 60) hX rfl dX9_hears_46 ?_
      refine j_grd fun g16 => ?_
      exact j_zret (pc := 60) hX g16 hr dX9_hears_60
    · rw [cK_isHeard]
      refine j_calIf (fun g17 => ?_) (fun _ => ?_)
      · exact j_callU (pc := 43) (e1 := eI) (owner := "AskedCourt$Kind") (As := fun z => [.int r12]) (rest := []) hX (fun r e => kX4_isHeard_t b11 r12 h13 r e) yo_cK_isHeard q1184 q1186 q1194 q1185 q146 q1196 (fun a s hts _ => va_Decl.of (hts _ q1185) (hts _ q1196)) ckX5 g17 ⟨Nat.le_of_ble_eq_true rfl, Nat.le_of_ble_eq_true rfl⟩ rfl rfl (Nat.le_of_ble_eq_true rfl) dX9_hears_43 kk
      refine j_calIf (fun g18 => ?_) (fun _ => ?_)
      · exact j_callU (pc := 43) (e1 := eI) (owner := "AskedCourt$Kind") (As := fun z => [.int r12]) (rest := []) hX (fun r e => kX4_isHeard_t b11 r12 h13 r e) yo_cK_isHeard q1184 q1186 q1195 q1185 q146 q1196 (fun a s hts _ => va_Decl.of (hts _ q1185) (hts _ q1196)) ckX6 g18 ⟨Nat.le_of_ble_eq_true rfl, Nat.le_of_ble_eq_true rfl⟩ rfl rfl (Nat.le_of_ble_eq_true rfl) dX9_hears_43 kk
      refine j_calIf (fun g19 => ?_) (fun _ => ?_)
      · exact j_callU (pc := 43) (e1 := eI) (owner := "AskedCourt$Kind") (As := fun z => [.int r12]) (rest := []) hX (fun r e => kX7_isHeard_t b11 r12 h13 r e) yo_cK_isHeard q1184 q1186 q1187 q1188 q149 q1189 (fun a s hts _ => va_Decl.of (hts _ q1185) (hts _ q1196)) ckX7 g19 ⟨Nat.le_of_ble_eq_true rfl, Nat.le_of_ble_eq_true rfl⟩ rfl rfl (Nat.le_of_ble_eq_true rfl) dX9_hears_43 kk
      refine j_calIf (fun g20 => ?_) (fun _ => ?_)
      · exact j_callU (pc := 43) (e1 := eI) (owner := "AskedCourt$Kind") (As := fun z => [.int r12]) (rest := []) hX (fun r e => kX4_isHeard_t b11 r12 h13 r e) yo_cK_isHeard q1184 q1186 q1193 q1185 q146 q1196 (fun a s hts _ => va_Decl.of (hts _ q1185) (hts _ q1196)) ckX8 g20 ⟨Nat.le_of_ble_eq_true rfl, Nat.le_of_ble_eq_true rfl⟩ rfl rfl (Nat.le_of_ble_eq_true rfl) dX9_hears_43 kk
      exact j_calN
  · refine j_lload_n (pc := 49) hX 0 rfl dX9_hears_49 ?_
    refine j_lconst (pc := 50) (v := 0) hX rfl dX9_hears_50 ?_
    refine j_lcmp (pc := 51) hX dX9_hears_51 ?_
    refine j_ifeq (pc := 52) (tgt := 59) hX rfl dX9_hears_52 (fun _ => ?_) (fun _ => ?_)
    · refine j_iconst (pc := 59) hX ic_0 dX9_hears_59 ?_
      exact j_zret (pc := 60) hX (Or.inl rfl) hr dX9_hears_60
    · refine j_iconst (pc := 55) hX ic_1 dX9_hears_55 ?_
      refine j_goto (pc := 56) (tgt := 60) hX rfl dX9_hears_56 ?_
      exact j_zret (pc := 60) hX (Or.inr rfl) hr dX9_hears_60
set_option maxHeartbeats 4000000 in
set_option maxRecDepth 100000 in
theorem cS_odds_t   (o : Nat) (a1 : Int32) (a2 : Nat) (h : HP) (rr : Int32 × HP) (e : cS_odds o a1 a2 h = some rr) : Cn cV yX9_odds (ws_ yX9_odds cX9_odds 5 (some .int)) 162 3807 (fun z => [.ref (z + o), .int a1, .ref (z + a2)]) h (fun z => eI z rr.1) rr.2 := by
  refine cn_of (e1 := eI) (fun z => [(0, .ref (z + o)), (1, .int a1), (2, .ref (z + a2))]) cV_ok (cS_odds_m o a1 a2 h _ e) ymX9_odds (fun _ => rfl) (fun _ => Nat.le_of_ble_eq_true rfl) (fun X hX hr hnm => ?_) e
  have hX : okX cV X rr cX9_odds RX9 5 162 3807 := hX
  rw [cS_odds]
  refine j_aload_n (pc := 0) hX 0 rfl dX9_odds_0 ?_
  refine j_grd fun g1 => ?_
  refine c_getI (pc := 1) hX fgX9_66_X9.1 fgX9_66_X9.2 (k1_of g1.1) dX9_odds_1 ?_
  refine j_ifne (pc := 4) (tgt := 9) hX rfl dX9_odds_4 (fun _ => ?_) (fun _ => ?_)
  · refine j_iconst (pc := 7) hX ic_0 dX9_odds_7 ?_
    exact j_iret (pc := 8) hX hr dX9_odds_8
  · refine j_aload_n (pc := 9) hX 0 rfl dX9_odds_9 ?_
    refine j_iload_n (pc := 10) hX 1 rfl dX9_odds_10 ?_
    refine j_aload_n (pc := 11) hX 2 rfl dX9_odds_11 ?_
    refine j_grd fun g2 => ?_
    refine c_getI (pc := 12) hX fgX9_95_X14.1 fgX9_95_X14.2 g2 dX9_odds_12 ?_
    refine j_callV (pc := 15) (e1 := eV) (a := o) (As := fun z => [.int a1, .int (gI h a2 1)]) (rest := []) hX (fun r e => cS_name_t o a1 (gI h a2 1) h r e) ymX9_name (lw_V q1181 q1098 q1099 q151 q1100) rfl ckX9 (k1_of g1.1) ⟨Nat.le_of_ble_eq_true rfl, Nat.le_of_ble_eq_true rfl⟩ rfl rfl (Nat.le_of_ble_eq_true rfl) dX9_odds_15 (fun r3 h4 => ?_)
    refine j_aload_n (pc := 18) hX 0 rfl dX9_odds_18 ?_
    refine j_grd fun g5 => ?_
    refine c_getR (pc := 19) hX fgX9_3_X9.1 fgX9_3_X9.2 (k1_of g5.1) g5.2.1.2.2.2.2 dX9_odds_19 ?_
    refine j_iconst (pc := 22) hX ic_0 dX9_odds_22 ?_
    refine h_callG (pc := 23) (e2 := eL) hX (fun r e => cA_work_t (0 : Int32) h4 r e) (xr_VWN (pc := 23) (a := 0) (As := fun z => [.int (0 : Int32)]) (rest := []) hX ymX1_work (List.mem_of_getElem? (i := 16) rfl) q1113 qs38 q140 q1114 ckX1 rfl ⟨Nat.le_of_ble_eq_true rfl, Nat.le_of_ble_eq_true rfl⟩ rfl rfl (Nat.le_of_ble_eq_true rfl) dX9_odds_23) (fun r6 h7 => ?_)
    refine j_lstore_n (pc := 26) hX (fun x8 => [(3, .long x8), (0, .ref (xz X + o)), (1, .int a1), (2, .ref (xz X + a2))]) (fun _ => rfl) (Nat.le_of_ble_eq_true rfl) dX9_odds_26 (fun x8 => ?_)
    refine j_lload_n (pc := 27) hX 0 rfl dX9_odds_27 ?_
    refine j_ldc2 (pc := 28) hX q1183 dX9_odds_28 ?_
    refine j_lcmp (pc := 31) hX dX9_odds_31 ?_
    refine j_ifne (pc := 32) (tgt := 61) hX rfl dX9_odds_32 (fun _ => ?_) (fun _ => ?_)
    · refine j_bipush (pc := 35) hX bp_10 dX9_odds_35 ?_
      refine j_aload_n (pc := 37) hX 1 rfl dX9_odds_37 ?_
      refine j_grd fun g9 => ?_
      refine c_getR (pc := 38) hX fgX9_3_X9.1 fgX9_3_X9.2 (k1_of g9.1) g9.2.1.2.2.2.2 dX9_odds_38 ?_
      refine j_onr fun b10 e11 => ?_
      refine c_getR (pc := 41) hX fgX9_32_X1.1 fgX9_32_X1.2 rfl e11 dX9_odds_41 ?_
      refine j_grd fun g12 => ?_
      refine c_getR (pc := 44) hX fgX9_36_X3.1 fgX9_36_X3.2 (k1_of g12.1) g12.2.1.2.1 dX9_odds_44 ?_
      refine j_iload_n (pc := 47) hX 2 rfl dX9_odds_47 ?_
      refine j_grd fun g15 => ?_
      refine j_callV (pc := 48) (e1 := eR) (a := (b10 + 3)) (As := fun z => [.int a1]) (rest := [.int (10 : Int32)]) hX (fun r e => cL_get_t (b10 + 3) a1 h7 r e) ymJ2_get (lw_V q421 q422 q423 q145 q424) rfl ckJ2 (k1_of g15.1) ⟨Nat.le_of_ble_eq_true rfl, Nat.le_of_ble_eq_true rfl⟩ rfl rfl (Nat.le_of_ble_eq_true rfl) dX9_odds_48 (fun r13 h14 => ?_)
      refine j_grd fun g16 => ?_
      refine j_castS (pc := 51) hX ckX13 g16 q435 dX9_odds_51 ?_
      refine c_getI (pc := 54) hX fgX9_90_X13.1 fgX9_90_X13.2 g16 dX9_odds_54 ?_
      refine j_imul (pc := 57) hX dX9_odds_57 ?_
      refine j_goto (pc := 58) (tgt := 73) hX rfl dX9_odds_58 ?_
      exact j_iret (pc := 73) hX hr dX9_odds_73
    · refine j_lconst (pc := 61) (v := 0) hX rfl dX9_odds_61 ?_
      refine j_ldc2 (pc := 62) hX q1201 dX9_odds_62 ?_
      refine j_lload_n (pc := 65) hX 0 rfl dX9_odds_65 ?_
      refine j_mminL (pc := 66) hX q1202 q1203 q158 q1204 ⟨Nat.le_of_ble_eq_true rfl, Nat.le_of_ble_eq_true rfl⟩ (Nat.le_of_ble_eq_true rfl) dX9_odds_66 ?_
      refine j_mmaxL (pc := 69) hX q1205 q1206 q158 q1207 ⟨Nat.le_of_ble_eq_true rfl, Nat.le_of_ble_eq_true rfl⟩ (Nat.le_of_ble_eq_true rfl) dX9_odds_69 ?_
      refine j_l2i (pc := 72) hX dX9_odds_72 ?_
      exact j_iret (pc := 73) hX hr dX9_odds_73
set_option maxHeartbeats 4000000 in
set_option maxRecDepth 100000 in
theorem cS_draw_t   (o : Nat) (a1 : Int32) (h : HP) (rr : Int32 × HP) (e : cS_draw o a1 h = some rr) : Cn cV yX9_draw (ws_ yX9_draw cX9_draw 2 (some .int)) 1 0 (fun z => [.ref (z + o), .int a1]) h (fun z => eI z rr.1) rr.2 := by
  refine cn_of (e1 := eI) (fun z => [(0, .ref (z + o)), (1, .int a1)]) cV_ok (cS_draw_m o a1 h _ e) ymX9_draw (fun _ => rfl) (fun _ => Nat.le_of_ble_eq_true rfl) (fun X hX hr hnm => ?_) e
  have hX : okX cV X rr cX9_draw RX9 2 1 0 := hX
  rw [cS_draw]
  refine j_aload_n (pc := 0) hX 0 rfl dX9_draw_0 ?_
  refine j_aload_n (pc := 1) hX 0 rfl dX9_draw_1 ?_
  refine j_grd fun g1 => ?_
  refine c_getI (pc := 2) hX fgX9_63_X9.1 fgX9_63_X9.2 (k1_of g1.1) dX9_draw_2 ?_
  refine j_ldc (pc := 5) hX q1212 dX9_draw_5 ?_
  refine j_imul (pc := 7) hX dX9_draw_7 ?_
  refine j_sipush (pc := 8) hX sp_12345 dX9_draw_8 ?_
  refine j_iadd (pc := 11) hX dX9_draw_11 ?_
  refine j_ldc (pc := 12) hX q1213 dX9_draw_12 ?_
  refine j_iand (pc := 14) hX dX9_draw_14 ?_
  refine c_putI (pc := 15) hX fwX9_63_X9.1 fwX9_63_X9.2 (k1_of g1.1) dX9_draw_15 (fun h2 q3 q4 => ?_)
  refine j_aload_n (pc := 18) hX 0 rfl dX9_draw_18 ?_
  refine c_getI (pc := 19) hX fgX9_63_X9.1 fgX9_63_X9.2 (k1_of (shS_t q3 q4 g1).1) dX9_draw_19 ?_
  refine j_bipush (pc := 22) hX bp_16 dX9_draw_22 ?_
  refine j_ishr (pc := 24) hX dX9_draw_24 ?_
  refine j_iload_n (pc := 25) hX 1 rfl dX9_draw_25 ?_
  refine j_irem (pc := 26) hX dX9_draw_26 (fun _ => ?_)
  exact j_iret (pc := 27) hX hr dX9_draw_27
set_option maxHeartbeats 4000000 in
set_option maxRecDepth 100000 in
theorem kX4_asks_t   (o : Nat) (a1 : Nat) (h : HP) (rr : Int32 × HP) (e : kX4_asks o a1 h = some rr) : Cn cV yX4_asks (ws_ yX4_asks cX4_asks 2 (some .int)) 1 0 (fun z => [.ref (z + o), .ref (z + a1)]) h (fun z => eI z rr.1) rr.2 := by
  refine cn_of (e1 := eI) (fun z => [(0, .ref (z + o)), (1, .ref (z + a1))]) cV_ok (kX4_asks_m o a1 h _ e) ymX4_asks (fun _ => rfl) (fun _ => Nat.le_of_ble_eq_true rfl) (fun X hX hr hnm => ?_) e
  have hX : okX cV X rr cX4_asks RX4 2 1 0 := hX
  rw [kX4_asks]
  refine j_aload_n (pc := 0) hX 1 rfl dX4_asks_0 ?_
  refine j_grd fun g1 => ?_
  refine c_getI (pc := 1) hX fgX4_9_X14.1 fgX4_9_X14.2 g1 dX4_asks_1 ?_
  exact j_iret (pc := 4) hX hr dX4_asks_4
set_option maxHeartbeats 4000000 in
set_option maxRecDepth 100000 in
theorem kX8_asks_t   (o : Nat) (a1 : Nat) (h : HP) (rr : Int32 × HP) (e : kX8_asks o a1 h = some rr) : Cn cV yX8_asks (ws_ yX8_asks cX8_asks 2 (some .int)) 1 0 (fun z => [.ref (z + o), .ref (z + a1)]) h (fun z => eI z rr.1) rr.2 := by
  refine cn_of (e1 := eI) (fun z => [(0, .ref (z + o)), (1, .ref (z + a1))]) cV_ok (kX8_asks_m o a1 h _ e) ymX8_asks (fun _ => rfl) (fun _ => Nat.le_of_ble_eq_true rfl) (fun X hX hr hnm => ?_) e
  have hX : okX cV X rr cX8_asks RX8 2 1 0 := hX
  rw [kX8_asks]
  refine j_iconst (pc := 0) hX ic_m1 dX8_asks_0 ?_
  exact j_iret (pc := 1) hX hr dX8_asks_1
set_option maxHeartbeats 4000000 in
set_option maxRecDepth 100000 in
theorem cS_ask_75_w {X : CTX} {rr : Int32 × HP}  (hX : okX cV X rr cX9_ask RX9 12 163 3831) (hr : (xh X).sig.returnType = some .boolean) (f0 : Nat) (f1 : Int32) (f2 : Int32) (f4 : Int32) (f5 : Nat) (f7 : Int32) (f8 : Int32) (k : HP → Option (Int32 × HP)) (hk : ∀  (h : HP), jG cV X evI rr (k  h) 132 [(0, .ref (xz X + f0)), (2, .int f2), (4, .int f4), (5, .ref (xz X + f5)), (8, .int f8)] [] h) : ∀ (n : Nat) (v9 : Int32) (h : HP), jG cV X evI rr (cS_ask_75 f0 f1 f2 f4 f5 f7 f8 k n v9 h) 75 [(0, .ref (xz X + f0)), (1, .int f1), (2, .int f2), (4, .int f4), (5, .ref (xz X + f5)), (7, .int f7), (8, .int f8), (9, .int v9)] [] h := by
  intro n
  induction n with
  | zero =>
    intro v9 h
    exact j_none
  | succ n ih =>
    intro v9 h
    rw [cS_ask_75]
    refine j_iload (pc := 75) hX 7 rfl dX9_ask_75 ?_
    refine j_aload_n (pc := 77) hX 0 rfl dX9_ask_77 ?_
    refine j_grd fun g25 => ?_
    refine c_getR (pc := 78) hX fgX9_3_X9.1 fgX9_3_X9.2 (k1_of g25.1) g25.2.1.2.2.2.2 dX9_ask_78 ?_
    refine j_callVN (pc := 81) (e1 := eI) (a := 0) (As := fun z => []) (rest := [.int v9]) hX (fun r e => cA_persons_t h r e) ymX1_persons (List.mem_of_getElem? (i := 18) rfl) q415 qs0 q140 q416 ckX1 rfl ⟨Nat.le_of_ble_eq_true rfl, Nat.le_of_ble_eq_true rfl⟩ rfl rfl (Nat.le_of_ble_eq_true rfl) dX9_ask_81 (fun r26 h27 => ?_)
    refine j_cge (pc := 84) (tgt := 132) hX rfl dX9_ask_84 (fun _ => ?_) (fun _ => ?_)
    · refine j_locs [0, 2, 3, 4, 6] rfl ?_
      exact hk h27
    · refine j_iload (pc := 87) hX 7 rfl dX9_ask_87 ?_
      refine j_iload_n (pc := 89) hX 1 rfl dX9_ask_89 ?_
      refine j_ceq (pc := 90) (tgt := 126) hX rfl dX9_ask_90 (fun _ => ?_) (fun _ => ?_)
      · refine j_iinc (pc := 126) hX 7 rfl (1 : Int32) ic_1 (fun x28 => [(9, .int x28), (0, .ref (xz X + f0)), (1, .int f1), (2, .int f2), (4, .int f4), (5, .ref (xz X + f5)), (7, .int f7), (8, .int f8)]) (fun _ => rfl) (Nat.le_of_ble_eq_true rfl) dX9_ask_126 (fun x28 => ?_)
        refine j_goto (pc := 129) (tgt := 75) hX rfl dX9_ask_129 ?_
        refine j_locs [1, 2, 3, 4, 5, 6, 7, 0] rfl ?_
        exact ih x28 h27
      · refine j_aload_n (pc := 93) hX 0 rfl dX9_ask_93 ?_
        refine j_iload_n (pc := 94) hX 1 rfl dX9_ask_94 ?_
        refine j_iload (pc := 95) hX 7 rfl dX9_ask_95 ?_
        refine j_grd fun g31 => ?_
        refine j_callV (pc := 97) (e1 := eI) (a := f0) (As := fun z => [.int f1, .int v9]) (rest := []) hX (fun r e => cS_areTogether_t f0 f1 v9 h27 r e) ymX9_areTogether (lw_V q1066 q1067 q1068 q151 q1069) rfl ckX9 (k1_of g31.1) ⟨Nat.le_of_ble_eq_true rfl, Nat.le_of_ble_eq_true rfl⟩ rfl rfl (Nat.le_of_ble_eq_true rfl) dX9_ask_97 (fun r29 h30 => ?_)
        refine j_ifeq (pc := 100) (tgt := 126) hX rfl dX9_ask_100 (fun _ => ?_) (fun _ => ?_)
        · refine j_iinc (pc := 126) hX 7 rfl (1 : Int32) ic_1 (fun x32 => [(9, .int x32), (0, .ref (xz X + f0)), (1, .int f1), (2, .int f2), (4, .int f4), (5, .ref (xz X + f5)), (7, .int f7), (8, .int f8)]) (fun _ => rfl) (Nat.le_of_ble_eq_true rfl) dX9_ask_126 (fun x32 => ?_)
          refine j_goto (pc := 129) (tgt := 75) hX rfl dX9_ask_129 ?_
          refine j_locs [1, 2, 3, 4, 5, 6, 7, 0] rfl ?_
          exact ih x32 h30
        · refine j_aload_n (pc := 103) hX 0 rfl dX9_ask_103 ?_
          refine j_iload (pc := 104) hX 7 rfl dX9_ask_104 ?_
          refine j_aload (pc := 106) hX 4 rfl dX9_ask_106 ?_
          refine j_grd fun g35 => ?_
          refine j_callV (pc := 108) (e1 := eI) (a := f0) (As := fun z => [.int v9, .ref (z + f5)]) (rest := []) hX (fun r e => cS_hears_t f0 v9 f5 h30 r e) ymX9_hears (lw_V q1177 q1178 q1179 q151 q1180) rfl ckX9 (k1_of g35.1) ⟨Nat.le_of_ble_eq_true rfl, Nat.le_of_ble_eq_true rfl⟩ rfl rfl (Nat.le_of_ble_eq_true rfl) dX9_ask_108 (fun r33 h34 => ?_)
          refine j_ifeq (pc := 111) (tgt := 126) hX rfl dX9_ask_111 (fun _ => ?_) (fun _ => ?_)
          · refine j_iinc (pc := 126) hX 7 rfl (1 : Int32) ic_1 (fun x36 => [(9, .int x36), (0, .ref (xz X + f0)), (1, .int f1), (2, .int f2), (4, .int f4), (5, .ref (xz X + f5)), (7, .int f7), (8, .int f8)]) (fun _ => rfl) (Nat.le_of_ble_eq_true rfl) dX9_ask_126 (fun x36 => ?_)
            refine j_goto (pc := 129) (tgt := 75) hX rfl dX9_ask_129 ?_
            refine j_locs [1, 2, 3, 4, 5, 6, 7, 0] rfl ?_
            exact ih x36 h34
          · refine j_aload_n (pc := 114) hX 0 rfl dX9_ask_114 ?_
            refine j_grd fun g37 => ?_
            refine c_getR (pc := 115) hX fgX9_15_X9.1 fgX9_15_X9.2 (k1_of g37.1) g37.2.1.1 dX9_ask_115 ?_
            refine j_iload (pc := 118) hX 7 rfl dX9_ask_118 ?_
            refine j_dup2 (pc := 120) hX rfl rfl dX9_ask_120 ?_
            refine j_iald (pc := 121) (n := 5) hX g37.2.2.1 dX9_ask_121 (fun _ => ?_)
            refine j_iload (pc := 122) hX 5 rfl dX9_ask_122 ?_
            refine j_ior (pc := 124) hX dX9_ask_124 ?_
            refine c_iast (pc := 125) (n := 5) hX g37.2.2.1 dX9_ask_125 (fun h38 q39 q40 => ?_)
            refine j_iinc (pc := 126) hX 7 rfl (1 : Int32) ic_1 (fun x41 => [(9, .int x41), (0, .ref (xz X + f0)), (1, .int f1), (2, .int f2), (4, .int f4), (5, .ref (xz X + f5)), (7, .int f7), (8, .int f8)]) (fun _ => rfl) (Nat.le_of_ble_eq_true rfl) dX9_ask_126 (fun x41 => ?_)
            refine j_goto (pc := 129) (tgt := 75) hX rfl dX9_ask_129 ?_
            refine j_locs [1, 2, 3, 4, 5, 6, 7, 0] rfl ?_
            exact ih x41 h38
