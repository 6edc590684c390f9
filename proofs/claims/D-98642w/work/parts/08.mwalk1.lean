/-! the model: walks -/
set_option maxHeartbeats 4000000 in
set_option maxRecDepth 100000 in
theorem m_t_there (a1 : Nat) (a2 : Int32) (a3 : Int32) (h : HP) (rr : Int32 × HP) (e : m_there a1 a2 a3 h = some rr) : Cn mV yX10_there (ws_ yX10_there cX10_there 5 (some .boolean)) 3 47 (fun z => [.ref (z + 0), .ref (z + a1), .int a2, .int a3]) h (fun z => eI z rr.1) rr.2 := by
  refine cn_of (e1 := eI) (fun z => [(0, .ref (z + 0)), (1, .ref (z + a1)), (2, .int a2), (3, .int a3)]) mV_ok ⟨Nat.le_refl _, Nat.le_refl _⟩ ymX10_there (fun _ => rfl) (fun _ => Nat.le_of_ble_eq_true rfl) (fun X hX hr _ => ?_) e
  have hX : okX mV X rr cX10_there RX10 5 3 47 := hX
  rw [m_there]
  refine j_aload_n (pc := 0) hX 0 rfl dX10_there_0 ?_
  refine j_getI (pc := 1) hX fgX10_166.1 fgX10_166.2 rfl dX10_there_1 ?_
  refine j_iconst (pc := 4) hX ic_2 dX10_there_4 ?_
  refine j_ceq (pc := 5) (tgt := 14) hX rfl dX10_there_5 (fun _ => ?_) (fun _ => ?_)
  · refine j_aload_n (pc := 14) hX 1 rfl dX10_there_14 ?_
    refine j_iload_n (pc := 15) hX 2 rfl dX10_there_15 ?_
    refine j_iload_n (pc := 16) hX 3 rfl dX10_there_16 ?_
    refine j_aload_n (pc := 17) hX 0 rfl dX10_there_17 ?_
    refine j_getI (pc := 18) hX fgX10_177.1 fgX10_177.2 rfl dX10_there_18 ?_
    refine j_callSI (pc := 21) (As := fun z => [.ref (z + a1), .int a2, .int a3, .int (gI h 0 9)]) (rest := []) hX (fun r e => m_t_find a1 a2 a3 (gI h 0 9) h r e) ymX10_find (lw_S q1904 q1905 q154 q1906) ⟨Nat.le_of_ble_eq_true rfl, Nat.le_of_ble_eq_true rfl⟩ rfl rfl (Nat.le_of_ble_eq_true rfl) dX10_there_21 (fun r1 h2 => ?_)
    refine j_istore (pc := 24) hX (fun x3 => [(4, .int x3), (0, .ref (xz X + 0)), (1, .ref (xz X + a1)), (2, .int a2), (3, .int a3)]) (fun _ => rfl) (Nat.le_of_ble_eq_true rfl) dX10_there_24 (fun x3 => ?_)
    refine j_iload (pc := 26) hX 0 rfl dX10_there_26 ?_
    refine j_ifge (pc := 28) (tgt := 37) hX rfl dX10_there_28 (fun _ => ?_) (fun _ => ?_)
    · refine j_aload_n (pc := 37) hX 1 rfl dX10_there_37 ?_
      refine j_callVV (pc := 38) (a := 0) (As := fun z => []) (rest := []) hX (fun r e => m_t_token h2 r e) ymX10_token (lw_V q1863 q1865 qs67 q154 q1866) rfl ckX10 rfl ⟨Nat.le_of_ble_eq_true rfl, Nat.le_of_ble_eq_true rfl⟩ rfl rfl (Nat.le_of_ble_eq_true rfl) dX10_there_38 (fun r4 h5 => ?_)
      refine j_aload_n (pc := 41) hX 1 rfl dX10_there_41 ?_
      refine j_iload (pc := 42) hX 0 rfl dX10_there_42 ?_
      refine j_putI (pc := 44) hX fwX10_197.1 fwX10_197.2 rfl dX10_there_44 (fun h6 => ?_)
      refine j_iconst (pc := 47) hX ic_1 dX10_there_47 ?_
      exact j_zret (pc := 48) hX (Or.inr rfl) hr dX10_there_48
    · refine j_aload_n (pc := 31) hX 1 rfl dX10_there_31 ?_
      refine j_iconst (pc := 32) hX ic_4 dX10_there_32 ?_
      refine j_callVI (pc := 33) (a := 0) (As := fun z => [.int (4 : Int32)]) (rest := []) hX (fun r e => m_t_wrong (4 : Int32) h2 r e) ymX10_wrong (lw_V q1892 q1894 qs74 q154 q1895) rfl ckX10 rfl ⟨Nat.le_of_ble_eq_true rfl, Nat.le_of_ble_eq_true rfl⟩ rfl rfl (Nat.le_of_ble_eq_true rfl) dX10_there_33 (fun r7 h8 => ?_)
      refine j_grd fun g9 => ?_
      exact j_zret (pc := 36) hX g9 hr dX10_there_36
  · refine j_aload_n (pc := 8) hX 0 rfl dX10_there_8 ?_
    refine j_iconst (pc := 9) hX ic_1 dX10_there_9 ?_
    refine j_callVI (pc := 10) (a := 0) (As := fun z => [.int (1 : Int32)]) (rest := []) hX (fun r e => m_t_wrong (1 : Int32) h r e) ymX10_wrong (lw_V q1892 q1894 qs74 q154 q1895) rfl ckX10 rfl ⟨Nat.le_of_ble_eq_true rfl, Nat.le_of_ble_eq_true rfl⟩ rfl rfl (Nat.le_of_ble_eq_true rfl) dX10_there_10 (fun r10 h11 => ?_)
    refine j_grd fun g12 => ?_
    exact j_zret (pc := 13) hX g12 hr dX10_there_13
set_option maxHeartbeats 4000000 in
set_option maxRecDepth 100000 in
theorem m_t_isOf (a1 : Int32) (a2 : Int32) (h : HP) (rr : Int32 × HP) (e : m_isOf a1 a2 h = some rr) : Cn mV yX10_isOf (ws_ yX10_isOf cX10_isOf 2 (some .boolean)) 1 0 (fun z => [.int a1, .int a2]) h (fun z => eI z rr.1) rr.2 := by
  refine cn_of (e1 := eI) (fun z => [(0, .int a1), (1, .int a2)]) mV_ok ⟨Nat.le_refl _, Nat.le_refl _⟩ ymX10_isOf (fun _ => rfl) (fun _ => Nat.le_of_ble_eq_true rfl) (fun X hX hr _ => ?_) e
  have hX : okX mV X rr cX10_isOf RX10 2 1 0 := hX
  rw [m_isOf]
  refine j_iload_n (pc := 0) hX 0 rfl dX10_isOf_0 ?_
  refine j_iload_n (pc := 1) hX 1 rfl dX10_isOf_1 ?_
  refine j_ishr (pc := 2) hX dX10_isOf_2 ?_
  refine j_iconst (pc := 3) hX ic_1 dX10_isOf_3 ?_
  refine j_iand (pc := 4) hX dX10_isOf_4 ?_
  refine j_iconst (pc := 5) hX ic_1 dX10_isOf_5 ?_
  refine j_cne (pc := 6) (tgt := 13) hX rfl dX10_isOf_6 (fun _ => ?_) (fun _ => ?_)
  · refine j_iconst (pc := 9) hX ic_1 dX10_isOf_9 ?_
    refine j_goto (pc := 10) (tgt := 14) hX rfl dX10_isOf_10 ?_
    exact j_zret (pc := 14) hX (Or.inr rfl) hr dX10_isOf_14
  · refine j_iconst (pc := 13) hX ic_0 dX10_isOf_13 ?_
    exact j_zret (pc := 14) hX (Or.inl rfl) hr dX10_isOf_14
set_option maxHeartbeats 4000000 in
set_option maxRecDepth 100000 in
theorem m_t_knowsLine  (h : HP) (rr : Int32 × HP) (e : m_knowsLine  h = some rr) : Cn mV yX10_knowsLine (ws_ yX10_knowsLine cX10_knowsLine 3 (some .boolean)) 4 71 (fun z => [.ref (z + 0)]) h (fun z => eI z rr.1) rr.2 := by
  refine cn_of (e1 := eI) (fun z => [(0, .ref (z + 0))]) mV_ok ⟨Nat.le_refl _, Nat.le_refl _⟩ ymX10_knowsLine (fun _ => rfl) (fun _ => Nat.le_of_ble_eq_true rfl) (fun X hX hr _ => ?_) e
  have hX : okX mV X rr cX10_knowsLine RX10 3 4 71 := hX
  rw [m_knowsLine]
  refine j_aload_n (pc := 0) hX 0 rfl dX10_knowsLine_0 ?_
  refine j_callVV (pc := 1) (a := 0) (As := fun z => []) (rest := []) hX (fun r e => m_t_token h r e) ymX10_token (lw_V q1863 q1865 qs67 q154 q1866) rfl ckX10 rfl ⟨Nat.le_of_ble_eq_true rfl, Nat.le_of_ble_eq_true rfl⟩ rfl rfl (Nat.le_of_ble_eq_true rfl) dX10_knowsLine_1 (fun r1 h2 => ?_)
  refine j_aload_n (pc := 4) hX 0 rfl dX10_knowsLine_4 ?_
  refine j_aload_n (pc := 5) hX 0 rfl dX10_knowsLine_5 ?_
  refine j_getR (pc := 6) hX fgX10_30.1 fgX10_30.2 rfl rfl dX10_knowsLine_6 ?_
  refine j_iconst (pc := 9) hX ic_5 dX10_knowsLine_9 ?_
  refine j_aload_n (pc := 10) hX 0 rfl dX10_knowsLine_10 ?_
  refine j_getI (pc := 11) hX fgX10_213.1 fgX10_213.2 rfl dX10_knowsLine_11 ?_
  refine j_callVI (pc := 14) (a := 0) (As := fun z => [.ref (z + 6), .int (5 : Int32), .int (gI h2 0 18)]) (rest := []) hX (fun r e => m_t_there 6 (5 : Int32) (gI h2 0 18) h2 r e) ymX10_there (lw_V q1922 q1924 qs80 q154 q1925) rfl ckX10 rfl ⟨Nat.le_of_ble_eq_true rfl, Nat.le_of_ble_eq_true rfl⟩ rfl rfl (Nat.le_of_ble_eq_true rfl) dX10_knowsLine_14 (fun r3 h4 => ?_)
  refine j_ifne (pc := 17) (tgt := 22) hX rfl dX10_knowsLine_17 (fun _ => ?_) (fun _ => ?_)
  · refine j_iconst (pc := 20) hX ic_0 dX10_knowsLine_20 ?_
    exact j_zret (pc := 21) hX (Or.inl rfl) hr dX10_knowsLine_21
  · refine j_iconst (pc := 22) hX ic_5 dX10_knowsLine_22 ?_
    refine j_aload_n (pc := 23) hX 0 rfl dX10_knowsLine_23 ?_
    refine j_getI (pc := 24) hX fgX10_197.1 fgX10_197.2 rfl dX10_knowsLine_24 ?_
    refine j_iadd (pc := 27) hX dX10_knowsLine_27 ?_
    refine j_istore_n (pc := 28) hX (fun x5 => [(1, .int x5), (0, .ref (xz X + 0))]) (fun _ => rfl) (Nat.le_of_ble_eq_true rfl) dX10_knowsLine_28 (fun x5 => ?_)
    refine j_aload_n (pc := 29) hX 1 rfl dX10_knowsLine_29 ?_
    refine j_getI (pc := 30) hX fgX10_157.1 fgX10_157.2 rfl dX10_knowsLine_30 ?_
    refine j_istore_n (pc := 33) hX (fun x6 => [(2, .int x6), (1, .int x5), (0, .ref (xz X + 0))]) (fun _ => rfl) (Nat.le_of_ble_eq_true rfl) dX10_knowsLine_33 (fun x6 => ?_)
    refine j_aload_n (pc := 34) hX 2 rfl dX10_knowsLine_34 ?_
    refine j_aload_n (pc := 35) hX 2 rfl dX10_knowsLine_35 ?_
    refine j_getR (pc := 36) hX fgX10_27.1 fgX10_27.2 rfl rfl dX10_knowsLine_36 ?_
    refine j_bipush (pc := 39) hX bp_8 dX10_knowsLine_39 ?_
    refine j_aload_n (pc := 41) hX 2 rfl dX10_knowsLine_41 ?_
    refine j_getI (pc := 42) hX fgX10_210.1 fgX10_210.2 rfl dX10_knowsLine_42 ?_
    refine j_callVI (pc := 45) (a := 0) (As := fun z => [.ref (z + 5), .int (8 : Int32), .int (gI h4 0 17)]) (rest := []) hX (fun r e => m_t_there 5 (8 : Int32) (gI h4 0 17) h4 r e) ymX10_there (lw_V q1922 q1924 qs80 q154 q1925) rfl ckX10 rfl ⟨Nat.le_of_ble_eq_true rfl, Nat.le_of_ble_eq_true rfl⟩ rfl rfl (Nat.le_of_ble_eq_true rfl) dX10_knowsLine_45 (fun r7 h8 => ?_)
    refine j_ifne (pc := 48) (tgt := 53) hX rfl dX10_knowsLine_48 (fun _ => ?_) (fun _ => ?_)
    · refine j_iconst (pc := 51) hX ic_0 dX10_knowsLine_51 ?_
      exact j_zret (pc := 52) hX (Or.inl rfl) hr dX10_knowsLine_52
    · refine j_aload_n (pc := 53) hX 2 rfl dX10_knowsLine_53 ?_
      refine j_getR (pc := 54) hX fgX10_42.1 fgX10_42.2 rfl rfl dX10_knowsLine_54 ?_
      refine j_iload_n (pc := 57) hX 1 rfl dX10_knowsLine_57 ?_
      refine j_iald (pc := 58) (n := 10) hX rfl dX10_knowsLine_58 (fun _ => ?_)
      refine j_aload_n (pc := 59) hX 2 rfl dX10_knowsLine_59 ?_
      refine j_getI (pc := 60) hX fgX10_197.1 fgX10_197.2 rfl dX10_knowsLine_60 ?_
      refine j_callSI (pc := 63) (As := fun z => [.int (gI h8 10 (x5).toNatClampNeg), .int (gI h8 0 11)]) (rest := []) hX (fun r e => m_t_isOf (gI h8 10 (x5).toNatClampNeg) (gI h8 0 11) h8 r e) ymX10_isOf (lw_S q1926 q1927 q154 q1928) ⟨Nat.le_of_ble_eq_true rfl, Nat.le_of_ble_eq_true rfl⟩ rfl rfl (Nat.le_of_ble_eq_true rfl) dX10_knowsLine_63 (fun r9 h10 => ?_)
      refine j_ifeq (pc := 66) (tgt := 80) hX rfl dX10_knowsLine_66 (fun _ => ?_) (fun _ => ?_)
      · refine j_aload_n (pc := 80) hX 2 rfl dX10_knowsLine_80 ?_
        refine j_getR (pc := 81) hX fgX10_42.1 fgX10_42.2 rfl rfl dX10_knowsLine_81 ?_
        refine j_iload_n (pc := 84) hX 1 rfl dX10_knowsLine_84 ?_
        refine j_dup2 (pc := 85) hX rfl rfl dX10_knowsLine_85 ?_
        refine j_iald (pc := 86) (n := 10) hX rfl dX10_knowsLine_86 (fun _ => ?_)
        refine j_iconst (pc := 87) hX ic_1 dX10_knowsLine_87 ?_
        refine j_aload_n (pc := 88) hX 2 rfl dX10_knowsLine_88 ?_
        refine j_getI (pc := 89) hX fgX10_197.1 fgX10_197.2 rfl dX10_knowsLine_89 ?_
        refine j_ishl (pc := 92) hX dX10_knowsLine_92 ?_
        refine j_ior (pc := 93) hX dX10_knowsLine_93 ?_
        refine j_iast (pc := 94) (n := 10) hX rfl dX10_knowsLine_94 (fun _ h11 => ?_)
        refine j_iconst (pc := 95) hX ic_1 dX10_knowsLine_95 ?_
        exact j_zret (pc := 96) hX (Or.inr rfl) hr dX10_knowsLine_96
      · refine j_aload_n (pc := 69) hX 2 rfl dX10_knowsLine_69 ?_
        refine j_iload_n (pc := 70) hX 0 rfl dX10_knowsLine_70 ?_
        refine j_putI (pc := 71) hX fwX10_157.1 fwX10_157.2 rfl dX10_knowsLine_71 (fun h12 => ?_)
        refine j_aload_n (pc := 74) hX 2 rfl dX10_knowsLine_74 ?_
        refine j_iconst (pc := 75) hX ic_3 dX10_knowsLine_75 ?_
        refine j_callVI (pc := 76) (a := 0) (As := fun z => [.int (3 : Int32)]) (rest := []) hX (fun r e => m_t_wrong (3 : Int32) h12 r e) ymX10_wrong (lw_V q1892 q1894 qs74 q154 q1895) rfl ckX10 rfl ⟨Nat.le_of_ble_eq_true rfl, Nat.le_of_ble_eq_true rfl⟩ rfl rfl (Nat.le_of_ble_eq_true rfl) dX10_knowsLine_76 (fun r13 h14 => ?_)
        refine j_grd fun g15 => ?_
        exact j_zret (pc := 79) hX g15 hr dX10_knowsLine_79
set_option maxHeartbeats 4000000 in
set_option maxRecDepth 100000 in
theorem m_t_isKey (a1 : Int32) (h : HP) (rr : Int32 × HP) (e : m_isKey a1 h = some rr) : Cn mV yX10_isKey (ws_ yX10_isKey cX10_isKey 2 (some .boolean)) 1 0 (fun z => [.ref (z + 0), .int a1]) h (fun z => eI z rr.1) rr.2 := by
  refine cn_of (e1 := eI) (fun z => [(0, .ref (z + 0)), (1, .int a1)]) mV_ok ⟨Nat.le_refl _, Nat.le_refl _⟩ ymX10_isKey (fun _ => rfl) (fun _ => Nat.le_of_ble_eq_true rfl) (fun X hX hr _ => ?_) e
  have hX : okX mV X rr cX10_isKey RX10 2 1 0 := hX
  rw [m_isKey]
  refine j_aload_n (pc := 0) hX 0 rfl dX10_isKey_0 ?_
  refine j_getI (pc := 1) hX fgX10_166.1 fgX10_166.2 rfl dX10_isKey_1 ?_
  refine j_iconst (pc := 4) hX ic_1 dX10_isKey_4 ?_
  refine j_cne (pc := 5) (tgt := 20) hX rfl dX10_isKey_5 (fun _ => ?_) (fun _ => ?_)
  · refine j_aload_n (pc := 8) hX 0 rfl dX10_isKey_8 ?_
    refine j_getI (pc := 9) hX fgX10_177.1 fgX10_177.2 rfl dX10_isKey_9 ?_
    refine j_iload_n (pc := 12) hX 1 rfl dX10_isKey_12 ?_
    refine j_cne (pc := 13) (tgt := 20) hX rfl dX10_isKey_13 (fun _ => ?_) (fun _ => ?_)
    · refine j_iconst (pc := 16) hX ic_1 dX10_isKey_16 ?_
      refine j_goto (pc := 17) (tgt := 21) hX rfl dX10_isKey_17 ?_
      exact j_zret (pc := 21) hX (Or.inr rfl) hr dX10_isKey_21
    · refine j_iconst (pc := 20) hX ic_0 dX10_isKey_20 ?_
      exact j_zret (pc := 21) hX (Or.inl rfl) hr dX10_isKey_21
  · refine j_iconst (pc := 20) hX ic_0 dX10_isKey_20 ?_
    exact j_zret (pc := 21) hX (Or.inl rfl) hr dX10_isKey_21
set_option maxHeartbeats 4000000 in
set_option maxRecDepth 100000 in
theorem m_t_some  (h : HP) (rr : Int32 × HP) (e : m_some  h = some rr) : Cn mV yX10_some (ws_ yX10_some cX10_some 1 (some .boolean)) 4 71 (fun z => [.ref (z + 0)]) h (fun z => eI z rr.1) rr.2 := by
  refine cn_of (e1 := eI) (fun z => [(0, .ref (z + 0))]) mV_ok ⟨Nat.le_refl _, Nat.le_refl _⟩ ymX10_some (fun _ => rfl) (fun _ => Nat.le_of_ble_eq_true rfl) (fun X hX hr _ => ?_) e
  have hX : okX mV X rr cX10_some RX10 1 4 71 := hX
  rw [m_some]
  refine j_aload_n (pc := 0) hX 0 rfl dX10_some_0 ?_
  refine j_bipush (pc := 1) hX bp_12 dX10_some_1 ?_
  refine j_callVI (pc := 3) (a := 0) (As := fun z => [.int (12 : Int32)]) (rest := []) hX (fun r e => m_t_isKey (12 : Int32) h r e) ymX10_isKey (lw_V q1937 q1939 qs83 q154 q1940) rfl ckX10 rfl ⟨Nat.le_of_ble_eq_true rfl, Nat.le_of_ble_eq_true rfl⟩ rfl rfl (Nat.le_of_ble_eq_true rfl) dX10_some_3 (fun r1 h2 => ?_)
  refine j_ifne (pc := 6) (tgt := 24) hX rfl dX10_some_6 (fun _ => ?_) (fun _ => ?_)
  · refine j_aload_n (pc := 9) hX 0 rfl dX10_some_9 ?_
    refine j_aload_n (pc := 10) hX 0 rfl dX10_some_10 ?_
    refine j_getR (pc := 11) hX fgX10_27.1 fgX10_27.2 rfl rfl dX10_some_11 ?_
    refine j_bipush (pc := 14) hX bp_8 dX10_some_14 ?_
    refine j_aload_n (pc := 16) hX 0 rfl dX10_some_16 ?_
    refine j_getI (pc := 17) hX fgX10_210.1 fgX10_210.2 rfl dX10_some_17 ?_
    refine j_callVI (pc := 20) (a := 0) (As := fun z => [.ref (z + 5), .int (8 : Int32), .int (gI h2 0 17)]) (rest := []) hX (fun r e => m_t_there 5 (8 : Int32) (gI h2 0 17) h2 r e) ymX10_there (lw_V q1922 q1924 qs80 q154 q1925) rfl ckX10 rfl ⟨Nat.le_of_ble_eq_true rfl, Nat.le_of_ble_eq_true rfl⟩ rfl rfl (Nat.le_of_ble_eq_true rfl) dX10_some_20 (fun r3 h4 => ?_)
    refine j_grd fun g5 => ?_
    exact j_zret (pc := 23) hX g5 hr dX10_some_23
  · refine j_aload_n (pc := 24) hX 0 rfl dX10_some_24 ?_
    refine j_callVV (pc := 25) (a := 0) (As := fun z => []) (rest := []) hX (fun r e => m_t_token h2 r e) ymX10_token (lw_V q1863 q1865 qs67 q154 q1866) rfl ckX10 rfl ⟨Nat.le_of_ble_eq_true rfl, Nat.le_of_ble_eq_true rfl⟩ rfl rfl (Nat.le_of_ble_eq_true rfl) dX10_some_25 (fun r6 h7 => ?_)
    refine j_aload_n (pc := 28) hX 0 rfl dX10_some_28 ?_
    refine j_iconst (pc := 29) hX ic_m1 dX10_some_29 ?_
    refine j_putI (pc := 30) hX fwX10_197.1 fwX10_197.2 rfl dX10_some_30 (fun h8 => ?_)
    refine j_iconst (pc := 33) hX ic_1 dX10_some_33 ?_
    exact j_zret (pc := 34) hX (Or.inr rfl) hr dX10_some_34
set_option maxHeartbeats 4000000 in
set_option maxRecDepth 100000 in
theorem m_t_askLine  (h : HP) (rr : Int32 × HP) (e : m_askLine  h = some rr) : Cn mV yX10_askLine (ws_ yX10_askLine cX10_askLine 2 (some .boolean)) 5 91 (fun z => [.ref (z + 0)]) h (fun z => eI z rr.1) rr.2 := by
  refine cn_of (e1 := eI) (fun z => [(0, .ref (z + 0))]) mV_ok ⟨Nat.le_refl _, Nat.le_refl _⟩ ymX10_askLine (fun _ => rfl) (fun _ => Nat.le_of_ble_eq_true rfl) (fun X hX hr _ => ?_) e
  have hX : okX mV X rr cX10_askLine RX10 2 5 91 := hX
  rw [m_askLine]
  refine j_aload_n (pc := 0) hX 0 rfl dX10_askLine_0 ?_
  refine j_getI (pc := 1) hX fgX10_216.1 fgX10_216.2 rfl dX10_askLine_1 ?_
  refine j_bipush (pc := 4) hX bp_8 dX10_askLine_4 ?_
  refine j_cne (pc := 6) (tgt := 15) hX rfl dX10_askLine_6 (fun _ => ?_) (fun _ => ?_)
  · refine j_aload_n (pc := 9) hX 0 rfl dX10_askLine_9 ?_
    refine j_iconst (pc := 10) hX ic_2 dX10_askLine_10 ?_
    refine j_callVI (pc := 11) (a := 0) (As := fun z => [.int (2 : Int32)]) (rest := []) hX (fun r e => m_t_wrong (2 : Int32) h r e) ymX10_wrong (lw_V q1892 q1894 qs74 q154 q1895) rfl ckX10 rfl ⟨Nat.le_of_ble_eq_true rfl, Nat.le_of_ble_eq_true rfl⟩ rfl rfl (Nat.le_of_ble_eq_true rfl) dX10_askLine_11 (fun r1 h2 => ?_)
    refine j_grd fun g3 => ?_
    exact j_zret (pc := 14) hX g3 hr dX10_askLine_14
  · refine j_aload_n (pc := 15) hX 0 rfl dX10_askLine_15 ?_
    refine j_callVV (pc := 16) (a := 0) (As := fun z => []) (rest := []) hX (fun r e => m_t_token h r e) ymX10_token (lw_V q1863 q1865 qs67 q154 q1866) rfl ckX10 rfl ⟨Nat.le_of_ble_eq_true rfl, Nat.le_of_ble_eq_true rfl⟩ rfl rfl (Nat.le_of_ble_eq_true rfl) dX10_askLine_16 (fun r4 h5 => ?_)
    refine j_aload_n (pc := 19) hX 0 rfl dX10_askLine_19 ?_
    refine j_aload_n (pc := 20) hX 0 rfl dX10_askLine_20 ?_
    refine j_getR (pc := 21) hX fgX10_45.1 fgX10_45.2 rfl rfl dX10_askLine_21 ?_
    refine j_bipush (pc := 24) hX bp_8 dX10_askLine_24 ?_
    refine j_aload_n (pc := 26) hX 0 rfl dX10_askLine_26 ?_
    refine j_getI (pc := 27) hX fgX10_216.1 fgX10_216.2 rfl dX10_askLine_27 ?_
    refine j_callVI (pc := 30) (a := 0) (As := fun z => [.ref (z + 11), .int (8 : Int32), .int (gI h5 0 19)]) (rest := []) hX (fun r e => m_t_newName 11 (8 : Int32) (gI h5 0 19) h5 r e) ymX10_newName (lw_V q1900 q1902 qs76 q154 q1903) rfl ckX10 rfl ⟨Nat.le_of_ble_eq_true rfl, Nat.le_of_ble_eq_true rfl⟩ rfl rfl (Nat.le_of_ble_eq_true rfl) dX10_askLine_30 (fun r6 h7 => ?_)
    refine j_ifne (pc := 33) (tgt := 38) hX rfl dX10_askLine_33 (fun _ => ?_) (fun _ => ?_)
    · refine j_iconst (pc := 36) hX ic_0 dX10_askLine_36 ?_
      exact j_zret (pc := 37) hX (Or.inl rfl) hr dX10_askLine_37
    · refine j_bipush (pc := 38) hX bp_8 dX10_askLine_38 ?_
      refine j_aload_n (pc := 40) hX 0 rfl dX10_askLine_40 ?_
      refine j_getI (pc := 41) hX fgX10_216.1 fgX10_216.2 rfl dX10_askLine_41 ?_
      refine j_iadd (pc := 44) hX dX10_askLine_44 ?_
      refine j_istore_n (pc := 45) hX (fun x8 => [(1, .int x8), (0, .ref (xz X + 0))]) (fun _ => rfl) (Nat.le_of_ble_eq_true rfl) dX10_askLine_45 (fun x8 => ?_)
      refine j_aload_n (pc := 46) hX 1 rfl dX10_askLine_46 ?_
      refine j_getI (pc := 47) hX fgX10_166.1 fgX10_166.2 rfl dX10_askLine_47 ?_
      refine j_iconst (pc := 50) hX ic_1 dX10_askLine_50 ?_
      refine j_jon (fun (j9 : Unit → Option (Int32 × HP)) => ∀ (_u : Unit), jG mV X evI rr (j9 ()) 72 [(0, .ref (xz X + 0))] [] h7) ?_ ?_
      · intro _
        refine j_aload_n (pc := 72) hX 0 rfl dX10_askLine_72 ?_
        refine j_iconst (pc := 73) hX ic_1 dX10_askLine_73 ?_
        refine j_callVI (pc := 74) (a := 0) (As := fun z => [.int (1 : Int32)]) (rest := []) hX (fun r e => m_t_wrong (1 : Int32) h7 r e) ymX10_wrong (lw_V q1892 q1894 qs74 q154 q1895) rfl ckX10 rfl ⟨Nat.le_of_ble_eq_true rfl, Nat.le_of_ble_eq_true rfl⟩ rfl rfl (Nat.le_of_ble_eq_true rfl) dX10_askLine_74 (fun r10 h11 => ?_)
        refine j_grd fun g12 => ?_
        exact j_zret (pc := 77) hX g12 hr dX10_askLine_77
      · intro j9 hj9
        refine j_cne (pc := 51) (tgt := 72) hX rfl dX10_askLine_51 (fun _ => ?_) (fun _ => ?_)
        · refine j_aload_n (pc := 54) hX 1 rfl dX10_askLine_54 ?_
          refine j_getI (pc := 55) hX fgX10_177.1 fgX10_177.2 rfl dX10_askLine_55 ?_
          refine j_bipush (pc := 58) hX bp_8 dX10_askLine_58 ?_
          refine j_clt (pc := 60) (tgt := 72) hX rfl dX10_askLine_60 (fun _ => ?_) (fun _ => ?_)
          · refine j_locs [1] rfl ?_
            exact hj9 ()
          · refine j_aload_n (pc := 63) hX 1 rfl dX10_askLine_63 ?_
            refine j_getI (pc := 64) hX fgX10_177.1 fgX10_177.2 rfl dX10_askLine_64 ?_
            refine j_bipush (pc := 67) hX bp_11 dX10_askLine_67 ?_
            refine j_cle (pc := 69) (tgt := 78) hX rfl dX10_askLine_69 (fun _ => ?_) (fun _ => ?_)
            · refine j_aload_n (pc := 78) hX 1 rfl dX10_askLine_78 ?_
              refine j_getR (pc := 79) hX fgX10_48.1 fgX10_48.2 rfl rfl dX10_askLine_79 ?_
              refine j_iload_n (pc := 82) hX 0 rfl dX10_askLine_82 ?_
              refine j_aload_n (pc := 83) hX 1 rfl dX10_askLine_83 ?_
              refine j_getI (pc := 84) hX fgX10_177.1 fgX10_177.2 rfl dX10_askLine_84 ?_
              refine j_bipush (pc := 87) hX bp_8 dX10_askLine_87 ?_
              refine j_isub (pc := 89) hX dX10_askLine_89 ?_
              refine j_iast (pc := 90) (n := 16) hX rfl dX10_askLine_90 (fun _ h13 => ?_)
              refine j_aload_n (pc := 91) hX 1 rfl dX10_askLine_91 ?_
              refine j_callVV (pc := 92) (a := 0) (As := fun z => []) (rest := []) hX (fun r e => m_t_token h13 r e) ymX10_token (lw_V q1863 q1865 qs67 q154 q1866) rfl ckX10 rfl ⟨Nat.le_of_ble_eq_true rfl, Nat.le_of_ble_eq_true rfl⟩ rfl rfl (Nat.le_of_ble_eq_true rfl) dX10_askLine_92 (fun r14 h15 => ?_)
              refine j_aload_n (pc := 95) hX 1 rfl dX10_askLine_95 ?_
              refine j_callVI (pc := 96) (a := 0) (As := fun z => []) (rest := []) hX (fun r e => m_t_some h15 r e) ymX10_some (lw_V q1933 q1935 qs82 q154 q1936) rfl ckX10 rfl ⟨Nat.le_of_ble_eq_true rfl, Nat.le_of_ble_eq_true rfl⟩ rfl rfl (Nat.le_of_ble_eq_true rfl) dX10_askLine_96 (fun r16 h17 => ?_)
              refine j_ifne (pc := 99) (tgt := 104) hX rfl dX10_askLine_99 (fun _ => ?_) (fun _ => ?_)
              · refine j_iconst (pc := 102) hX ic_0 dX10_askLine_102 ?_
                exact j_zret (pc := 103) hX (Or.inl rfl) hr dX10_askLine_103
              · refine j_aload_n (pc := 104) hX 1 rfl dX10_askLine_104 ?_
                refine j_getR (pc := 105) hX fgX10_51.1 fgX10_51.2 rfl rfl dX10_askLine_105 ?_
                refine j_iload_n (pc := 108) hX 0 rfl dX10_askLine_108 ?_
                refine j_aload_n (pc := 109) hX 1 rfl dX10_askLine_109 ?_
                refine j_getI (pc := 110) hX fgX10_197.1 fgX10_197.2 rfl dX10_askLine_110 ?_
                refine j_iast (pc := 113) (n := 16) hX rfl dX10_askLine_113 (fun _ h18 => ?_)
                refine j_aload_n (pc := 114) hX 1 rfl dX10_askLine_114 ?_
                refine j_callVI (pc := 115) (a := 0) (As := fun z => []) (rest := []) hX (fun r e => m_t_some h18 r e) ymX10_some (lw_V q1933 q1935 qs82 q154 q1936) rfl ckX10 rfl ⟨Nat.le_of_ble_eq_true rfl, Nat.le_of_ble_eq_true rfl⟩ rfl rfl (Nat.le_of_ble_eq_true rfl) dX10_askLine_115 (fun r19 h20 => ?_)
                refine j_ifne (pc := 118) (tgt := 123) hX rfl dX10_askLine_118 (fun _ => ?_) (fun _ => ?_)
                · refine j_iconst (pc := 121) hX ic_0 dX10_askLine_121 ?_
                  exact j_zret (pc := 122) hX (Or.inl rfl) hr dX10_askLine_122
                · refine j_aload_n (pc := 123) hX 1 rfl dX10_askLine_123 ?_
                  refine j_getR (pc := 124) hX fgX10_54.1 fgX10_54.2 rfl rfl dX10_askLine_124 ?_
                  refine j_iload_n (pc := 127) hX 0 rfl dX10_askLine_127 ?_
                  refine j_aload_n (pc := 128) hX 1 rfl dX10_askLine_128 ?_
                  refine j_getI (pc := 129) hX fgX10_197.1 fgX10_197.2 rfl dX10_askLine_129 ?_
                  refine j_iast (pc := 132) (n := 16) hX rfl dX10_askLine_132 (fun _ h21 => ?_)
                  refine j_aload_n (pc := 133) hX 1 rfl dX10_askLine_133 ?_
                  refine j_callVI (pc := 134) (a := 0) (As := fun z => []) (rest := []) hX (fun r e => m_t_some h21 r e) ymX10_some (lw_V q1933 q1935 qs82 q154 q1936) rfl ckX10 rfl ⟨Nat.le_of_ble_eq_true rfl, Nat.le_of_ble_eq_true rfl⟩ rfl rfl (Nat.le_of_ble_eq_true rfl) dX10_askLine_134 (fun r22 h23 => ?_)
                  refine j_ifne (pc := 137) (tgt := 142) hX rfl dX10_askLine_137 (fun _ => ?_) (fun _ => ?_)
                  · refine j_iconst (pc := 140) hX ic_0 dX10_askLine_140 ?_
                    exact j_zret (pc := 141) hX (Or.inl rfl) hr dX10_askLine_141
                  · refine j_aload_n (pc := 142) hX 1 rfl dX10_askLine_142 ?_
                    refine j_getR (pc := 143) hX fgX10_57.1 fgX10_57.2 rfl rfl dX10_askLine_143 ?_
                    refine j_iload_n (pc := 146) hX 0 rfl dX10_askLine_146 ?_
                    refine j_aload_n (pc := 147) hX 1 rfl dX10_askLine_147 ?_
                    refine j_getI (pc := 148) hX fgX10_197.1 fgX10_197.2 rfl dX10_askLine_148 ?_
                    refine j_iast (pc := 151) (n := 16) hX rfl dX10_askLine_151 (fun _ h24 => ?_)
                    refine j_aload_n (pc := 152) hX 1 rfl dX10_askLine_152 ?_
                    refine j_dup (pc := 153) hX rfl dX10_askLine_153 ?_
                    refine j_getI (pc := 154) hX fgX10_216.1 fgX10_216.2 rfl dX10_askLine_154 ?_
                    refine j_iconst (pc := 157) hX ic_1 dX10_askLine_157 ?_
                    refine j_iadd (pc := 158) hX dX10_askLine_158 ?_
                    refine j_putI (pc := 159) hX fwX10_216.1 fwX10_216.2 rfl dX10_askLine_159 (fun h25 => ?_)
                    refine j_iconst (pc := 162) hX ic_1 dX10_askLine_162 ?_
                    exact j_zret (pc := 163) hX (Or.inr rfl) hr dX10_askLine_163
            · refine j_locs [1] rfl ?_
              exact hj9 ()
        · refine j_locs [1] rfl ?_
          exact hj9 ()
set_option maxHeartbeats 4000000 in
set_option maxRecDepth 100000 in
theorem m_t_talkLine  (h : HP) (rr : Int32 × HP) (e : m_talkLine  h = some rr) : Cn mV yX10_talkLine (ws_ yX10_talkLine cX10_talkLine 3 (some .boolean)) 4 71 (fun z => [.ref (z + 0)]) h (fun z => eI z rr.1) rr.2 := by
  refine cn_of (e1 := eI) (fun z => [(0, .ref (z + 0))]) mV_ok ⟨Nat.le_refl _, Nat.le_refl _⟩ ymX10_talkLine (fun _ => rfl) (fun _ => Nat.le_of_ble_eq_true rfl) (fun X hX hr _ => ?_) e
  have hX : okX mV X rr cX10_talkLine RX10 3 4 71 := hX
  rw [m_talkLine]
  refine j_aload_n (pc := 0) hX 0 rfl dX10_talkLine_0 ?_
  refine j_getI (pc := 1) hX fgX10_219.1 fgX10_219.2 rfl dX10_talkLine_1 ?_
  refine j_bipush (pc := 4) hX bp_10 dX10_talkLine_4 ?_
  refine j_cne (pc := 6) (tgt := 15) hX rfl dX10_talkLine_6 (fun _ => ?_) (fun _ => ?_)
  · refine j_aload_n (pc := 9) hX 0 rfl dX10_talkLine_9 ?_
    refine j_iconst (pc := 10) hX ic_2 dX10_talkLine_10 ?_
    refine j_callVI (pc := 11) (a := 0) (As := fun z => [.int (2 : Int32)]) (rest := []) hX (fun r e => m_t_wrong (2 : Int32) h r e) ymX10_wrong (lw_V q1892 q1894 qs74 q154 q1895) rfl ckX10 rfl ⟨Nat.le_of_ble_eq_true rfl, Nat.le_of_ble_eq_true rfl⟩ rfl rfl (Nat.le_of_ble_eq_true rfl) dX10_talkLine_11 (fun r1 h2 => ?_)
    refine j_grd fun g3 => ?_
    exact j_zret (pc := 14) hX g3 hr dX10_talkLine_14
  · refine j_aload_n (pc := 15) hX 0 rfl dX10_talkLine_15 ?_
    refine j_callVV (pc := 16) (a := 0) (As := fun z => []) (rest := []) hX (fun r e => m_t_token h r e) ymX10_token (lw_V q1863 q1865 qs67 q154 q1866) rfl ckX10 rfl ⟨Nat.le_of_ble_eq_true rfl, Nat.le_of_ble_eq_true rfl⟩ rfl rfl (Nat.le_of_ble_eq_true rfl) dX10_talkLine_16 (fun r4 h5 => ?_)
    refine j_bipush (pc := 19) hX bp_10 dX10_talkLine_19 ?_
    refine j_aload_n (pc := 21) hX 0 rfl dX10_talkLine_21 ?_
    refine j_getI (pc := 22) hX fgX10_219.1 fgX10_219.2 rfl dX10_talkLine_22 ?_
    refine j_iadd (pc := 25) hX dX10_talkLine_25 ?_
    refine j_istore_n (pc := 26) hX (fun x6 => [(1, .int x6), (0, .ref (xz X + 0))]) (fun _ => rfl) (Nat.le_of_ble_eq_true rfl) dX10_talkLine_26 (fun x6 => ?_)
    refine j_aload_n (pc := 27) hX 1 rfl dX10_talkLine_27 ?_
    refine j_aload_n (pc := 28) hX 1 rfl dX10_talkLine_28 ?_
    refine j_getR (pc := 29) hX fgX10_30.1 fgX10_30.2 rfl rfl dX10_talkLine_29 ?_
    refine j_iconst (pc := 32) hX ic_5 dX10_talkLine_32 ?_
    refine j_aload_n (pc := 33) hX 1 rfl dX10_talkLine_33 ?_
    refine j_getI (pc := 34) hX fgX10_213.1 fgX10_213.2 rfl dX10_talkLine_34 ?_
    refine j_callVI (pc := 37) (a := 0) (As := fun z => [.ref (z + 6), .int (5 : Int32), .int (gI h5 0 18)]) (rest := []) hX (fun r e => m_t_there 6 (5 : Int32) (gI h5 0 18) h5 r e) ymX10_there (lw_V q1922 q1924 qs80 q154 q1925) rfl ckX10 rfl ⟨Nat.le_of_ble_eq_true rfl, Nat.le_of_ble_eq_true rfl⟩ rfl rfl (Nat.le_of_ble_eq_true rfl) dX10_talkLine_37 (fun r7 h8 => ?_)
    refine j_ifne (pc := 40) (tgt := 45) hX rfl dX10_talkLine_40 (fun _ => ?_) (fun _ => ?_)
    · refine j_iconst (pc := 43) hX ic_0 dX10_talkLine_43 ?_
      exact j_zret (pc := 44) hX (Or.inl rfl) hr dX10_talkLine_44
    · refine j_aload_n (pc := 45) hX 1 rfl dX10_talkLine_45 ?_
      refine j_getR (pc := 46) hX fgX10_60.1 fgX10_60.2 rfl rfl dX10_talkLine_46 ?_
      refine j_iload_n (pc := 49) hX 0 rfl dX10_talkLine_49 ?_
      refine j_aload_n (pc := 50) hX 1 rfl dX10_talkLine_50 ?_
      refine j_getI (pc := 51) hX fgX10_197.1 fgX10_197.2 rfl dX10_talkLine_51 ?_
      refine j_iast (pc := 54) (n := 20) hX rfl dX10_talkLine_54 (fun _ h9 => ?_)
      refine j_aload_n (pc := 55) hX 1 rfl dX10_talkLine_55 ?_
      refine j_getI (pc := 56) hX fgX10_157.1 fgX10_157.2 rfl dX10_talkLine_56 ?_
      refine j_istore_n (pc := 59) hX (fun x10 => [(2, .int x10), (1, .int x6), (0, .ref (xz X + 0))]) (fun _ => rfl) (Nat.le_of_ble_eq_true rfl) dX10_talkLine_59 (fun x10 => ?_)
      refine j_aload_n (pc := 60) hX 2 rfl dX10_talkLine_60 ?_
      refine j_aload_n (pc := 61) hX 2 rfl dX10_talkLine_61 ?_
      refine j_getR (pc := 62) hX fgX10_30.1 fgX10_30.2 rfl rfl dX10_talkLine_62 ?_
      refine j_iconst (pc := 65) hX ic_5 dX10_talkLine_65 ?_
      refine j_aload_n (pc := 66) hX 2 rfl dX10_talkLine_66 ?_
      refine j_getI (pc := 67) hX fgX10_213.1 fgX10_213.2 rfl dX10_talkLine_67 ?_
      refine j_callVI (pc := 70) (a := 0) (As := fun z => [.ref (z + 6), .int (5 : Int32), .int (gI h9 0 18)]) (rest := []) hX (fun r e => m_t_there 6 (5 : Int32) (gI h9 0 18) h9 r e) ymX10_there (lw_V q1922 q1924 qs80 q154 q1925) rfl ckX10 rfl ⟨Nat.le_of_ble_eq_true rfl, Nat.le_of_ble_eq_true rfl⟩ rfl rfl (Nat.le_of_ble_eq_true rfl) dX10_talkLine_70 (fun r11 h12 => ?_)
      refine j_ifne (pc := 73) (tgt := 78) hX rfl dX10_talkLine_73 (fun _ => ?_) (fun _ => ?_)
      · refine j_iconst (pc := 76) hX ic_0 dX10_talkLine_76 ?_
        exact j_zret (pc := 77) hX (Or.inl rfl) hr dX10_talkLine_77
      · refine j_aload_n (pc := 78) hX 2 rfl dX10_talkLine_78 ?_
        refine j_getR (pc := 79) hX fgX10_63.1 fgX10_63.2 rfl rfl dX10_talkLine_79 ?_
        refine j_iload_n (pc := 82) hX 1 rfl dX10_talkLine_82 ?_
        refine j_aload_n (pc := 83) hX 2 rfl dX10_talkLine_83 ?_
        refine j_getI (pc := 84) hX fgX10_197.1 fgX10_197.2 rfl dX10_talkLine_84 ?_
        refine j_iast (pc := 87) (n := 20) hX rfl dX10_talkLine_87 (fun _ h13 => ?_)
        refine j_aload_n (pc := 88) hX 2 rfl dX10_talkLine_88 ?_
        refine j_getI (pc := 89) hX fgX10_197.1 fgX10_197.2 rfl dX10_talkLine_89 ?_
        refine j_aload_n (pc := 92) hX 2 rfl dX10_talkLine_92 ?_
        refine j_getR (pc := 93) hX fgX10_60.1 fgX10_60.2 rfl rfl dX10_talkLine_93 ?_
        refine j_iload_n (pc := 96) hX 1 rfl dX10_talkLine_96 ?_
        refine j_iald (pc := 97) (n := 20) hX rfl dX10_talkLine_97 (fun _ => ?_)
        refine j_cne (pc := 98) (tgt := 112) hX rfl dX10_talkLine_98 (fun _ => ?_) (fun _ => ?_)
        · refine j_aload_n (pc := 101) hX 2 rfl dX10_talkLine_101 ?_
          refine j_iload_n (pc := 102) hX 0 rfl dX10_talkLine_102 ?_
          refine j_putI (pc := 103) hX fwX10_157.1 fwX10_157.2 rfl dX10_talkLine_103 (fun h14 => ?_)
          refine j_aload_n (pc := 106) hX 2 rfl dX10_talkLine_106 ?_
          refine j_iconst (pc := 107) hX ic_5 dX10_talkLine_107 ?_
          refine j_callVI (pc := 108) (a := 0) (As := fun z => [.int (5 : Int32)]) (rest := []) hX (fun r e => m_t_wrong (5 : Int32) h14 r e) ymX10_wrong (lw_V q1892 q1894 qs74 q154 q1895) rfl ckX10 rfl ⟨Nat.le_of_ble_eq_true rfl, Nat.le_of_ble_eq_true rfl⟩ rfl rfl (Nat.le_of_ble_eq_true rfl) dX10_talkLine_108 (fun r15 h16 => ?_)
          refine j_grd fun g17 => ?_
          exact j_zret (pc := 111) hX g17 hr dX10_talkLine_111
        · refine j_aload_n (pc := 112) hX 2 rfl dX10_talkLine_112 ?_
          refine j_aload_n (pc := 113) hX 2 rfl dX10_talkLine_113 ?_
          refine j_getR (pc := 114) hX fgX10_45.1 fgX10_45.2 rfl rfl dX10_talkLine_114 ?_
          refine j_bipush (pc := 117) hX bp_8 dX10_talkLine_117 ?_
          refine j_aload_n (pc := 119) hX 2 rfl dX10_talkLine_119 ?_
          refine j_getI (pc := 120) hX fgX10_216.1 fgX10_216.2 rfl dX10_talkLine_120 ?_
          refine j_callVI (pc := 123) (a := 0) (As := fun z => [.ref (z + 11), .int (8 : Int32), .int (gI h13 0 19)]) (rest := []) hX (fun r e => m_t_there 11 (8 : Int32) (gI h13 0 19) h13 r e) ymX10_there (lw_V q1922 q1924 qs80 q154 q1925) rfl ckX10 rfl ⟨Nat.le_of_ble_eq_true rfl, Nat.le_of_ble_eq_true rfl⟩ rfl rfl (Nat.le_of_ble_eq_true rfl) dX10_talkLine_123 (fun r18 h19 => ?_)
          refine j_ifne (pc := 126) (tgt := 131) hX rfl dX10_talkLine_126 (fun _ => ?_) (fun _ => ?_)
          · refine j_iconst (pc := 129) hX ic_0 dX10_talkLine_129 ?_
            exact j_zret (pc := 130) hX (Or.inl rfl) hr dX10_talkLine_130
          · refine j_aload_n (pc := 131) hX 2 rfl dX10_talkLine_131 ?_
            refine j_getR (pc := 132) hX fgX10_66.1 fgX10_66.2 rfl rfl dX10_talkLine_132 ?_
            refine j_iload_n (pc := 135) hX 1 rfl dX10_talkLine_135 ?_
            refine j_aload_n (pc := 136) hX 2 rfl dX10_talkLine_136 ?_
            refine j_getI (pc := 137) hX fgX10_197.1 fgX10_197.2 rfl dX10_talkLine_137 ?_
            refine j_iast (pc := 140) (n := 20) hX rfl dX10_talkLine_140 (fun _ h20 => ?_)
            refine j_aload_n (pc := 141) hX 2 rfl dX10_talkLine_141 ?_
            refine j_dup (pc := 142) hX rfl dX10_talkLine_142 ?_
            refine j_getI (pc := 143) hX fgX10_219.1 fgX10_219.2 rfl dX10_talkLine_143 ?_
            refine j_iconst (pc := 146) hX ic_1 dX10_talkLine_146 ?_
            refine j_iadd (pc := 147) hX dX10_talkLine_147 ?_
            refine j_putI (pc := 148) hX fwX10_219.1 fwX10_219.2 rfl dX10_talkLine_148 (fun h21 => ?_)
            refine j_iconst (pc := 151) hX ic_1 dX10_talkLine_151 ?_
            exact j_zret (pc := 152) hX (Or.inr rfl) hr dX10_talkLine_152
set_option maxHeartbeats 4000000 in
set_option maxRecDepth 100000 in
theorem m_t_onceLine (a1 : Int32) (a2 : Int32) (h : HP) (rr : Int32 × HP) (e : m_onceLine a1 a2 h = some rr) : Cn mV yX10_onceLine (ws_ yX10_onceLine cX10_onceLine 3 (some .boolean)) 4 69 (fun z => [.ref (z + 0), .int a1, .int a2]) h (fun z => eI z rr.1) rr.2 := by
  refine cn_of (e1 := eI) (fun z => [(0, .ref (z + 0)), (1, .int a1), (2, .int a2)]) mV_ok ⟨Nat.le_refl _, Nat.le_refl _⟩ ymX10_onceLine (fun _ => rfl) (fun _ => Nat.le_of_ble_eq_true rfl) (fun X hX hr _ => ?_) e
  have hX : okX mV X rr cX10_onceLine RX10 3 4 69 := hX
  rw [m_onceLine]
  refine j_aload_n (pc := 0) hX 0 rfl dX10_onceLine_0 ?_
  refine j_getR (pc := 1) hX fgX10_20.1 fgX10_20.2 rfl rfl dX10_onceLine_1 ?_
  refine j_iload_n (pc := 4) hX 1 rfl dX10_onceLine_4 ?_
  refine j_zald (pc := 5) (n := 2) hX rfl dX10_onceLine_5 (fun _ => ?_)
  refine j_ifeq (pc := 6) (tgt := 15) hX rfl dX10_onceLine_6 (fun _ => ?_) (fun _ => ?_)
  · refine j_aload_n (pc := 15) hX 0 rfl dX10_onceLine_15 ?_
    refine j_getR (pc := 16) hX fgX10_20.1 fgX10_20.2 rfl rfl dX10_onceLine_16 ?_
    refine j_iload_n (pc := 19) hX 1 rfl dX10_onceLine_19 ?_
    refine j_iconst (pc := 20) hX ic_1 dX10_onceLine_20 ?_
    refine j_zast (pc := 21) (n := 2) hX (Or.inr rfl) rfl dX10_onceLine_21 (fun _ h1 => ?_)
    refine j_aload_n (pc := 22) hX 0 rfl dX10_onceLine_22 ?_
    refine j_callVV (pc := 23) (a := 0) (As := fun z => []) (rest := []) hX (fun r e => m_t_token h1 r e) ymX10_token (lw_V q1863 q1865 qs67 q154 q1866) rfl ckX10 rfl ⟨Nat.le_of_ble_eq_true rfl, Nat.le_of_ble_eq_true rfl⟩ rfl rfl (Nat.le_of_ble_eq_true rfl) dX10_onceLine_23 (fun r2 h3 => ?_)
    refine j_aload_n (pc := 26) hX 0 rfl dX10_onceLine_26 ?_
    refine j_iconst (pc := 27) hX ic_0 dX10_onceLine_27 ?_
    refine j_iload_n (pc := 28) hX 2 rfl dX10_onceLine_28 ?_
    refine j_callVI (pc := 29) (a := 0) (As := fun z => [.int (0 : Int32), .int a2]) (rest := []) hX (fun r e => m_t_number (0 : Int32) a2 h3 r e) ymX10_number (lw_V q1911 q1913 qs78 q154 q1914) rfl ckX10 rfl ⟨Nat.le_of_ble_eq_true rfl, Nat.le_of_ble_eq_true rfl⟩ rfl rfl (Nat.le_of_ble_eq_true rfl) dX10_onceLine_29 (fun r4 h5 => ?_)
    refine j_ifne (pc := 32) (tgt := 37) hX rfl dX10_onceLine_32 (fun _ => ?_) (fun _ => ?_)
    · refine j_iconst (pc := 35) hX ic_0 dX10_onceLine_35 ?_
      exact j_zret (pc := 36) hX (Or.inl rfl) hr dX10_onceLine_36
    · refine j_aload_n (pc := 37) hX 0 rfl dX10_onceLine_37 ?_
      refine j_getR (pc := 38) hX fgX10_24.1 fgX10_24.2 rfl rfl dX10_onceLine_38 ?_
      refine j_iconst (pc := 41) hX ic_2 dX10_onceLine_41 ?_
      refine j_iload_n (pc := 42) hX 1 rfl dX10_onceLine_42 ?_
      refine j_iadd (pc := 43) hX dX10_onceLine_43 ?_
      refine j_aload_n (pc := 44) hX 0 rfl dX10_onceLine_44 ?_
      refine j_getI (pc := 45) hX fgX10_197.1 fgX10_197.2 rfl dX10_onceLine_45 ?_
      refine j_iast (pc := 48) (n := 4) hX rfl dX10_onceLine_48 (fun _ h6 => ?_)
      refine j_iconst (pc := 49) hX ic_1 dX10_onceLine_49 ?_
      exact j_zret (pc := 50) hX (Or.inr rfl) hr dX10_onceLine_50
  · refine j_aload_n (pc := 9) hX 0 rfl dX10_onceLine_9 ?_
    refine j_iconst (pc := 10) hX ic_3 dX10_onceLine_10 ?_
    refine j_callVI (pc := 11) (a := 0) (As := fun z => [.int (3 : Int32)]) (rest := []) hX (fun r e => m_t_wrong (3 : Int32) h r e) ymX10_wrong (lw_V q1892 q1894 qs74 q154 q1895) rfl ckX10 rfl ⟨Nat.le_of_ble_eq_true rfl, Nat.le_of_ble_eq_true rfl⟩ rfl rfl (Nat.le_of_ble_eq_true rfl) dX10_onceLine_11 (fun r7 h8 => ?_)
    refine j_grd fun g9 => ?_
    exact j_zret (pc := 14) hX g9 hr dX10_onceLine_14
set_option maxHeartbeats 4000000 in
set_option maxRecDepth 100000 in
theorem m_t_rank (a1 : Int32) (h : HP) (rr : Int32 × HP) (e : m_rank a1 h = some rr) : Cn mV yX10_rank (ws_ yX10_rank cX10_rank 1 (some .int)) 1 0 (fun z => [.int a1]) h (fun z => eI z rr.1) rr.2 := by
  refine cn_of (e1 := eI) (fun z => [(0, .int a1)]) mV_ok ⟨Nat.le_refl _, Nat.le_refl _⟩ ymX10_rank (fun _ => rfl) (fun _ => Nat.le_of_ble_eq_true rfl) (fun X hX hr _ => ?_) e
  have hX : okX mV X rr cX10_rank RX10 1 1 0 := hX
  rw [m_rank]
  refine j_iload_n (pc := 0) hX 0 rfl dX10_rank_0 ?_
  refine j_bipush (pc := 1) hX bp_13 dX10_rank_1 ?_
  refine j_clt (pc := 3) (tgt := 11) hX rfl dX10_rank_3 (fun _ => ?_) (fun _ => ?_)
  · refine j_iload_n (pc := 11) hX 0 rfl dX10_rank_11 ?_
    refine j_bipush (pc := 12) hX bp_11 dX10_rank_12 ?_
    refine j_clt (pc := 14) (tgt := 21) hX rfl dX10_rank_14 (fun _ => ?_) (fun _ => ?_)
    · refine j_iload_n (pc := 21) hX 0 rfl dX10_rank_21 ?_
      refine j_iconst (pc := 22) hX ic_5 dX10_rank_22 ?_
      refine j_clt (pc := 23) (tgt := 30) hX rfl dX10_rank_23 (fun _ => ?_) (fun _ => ?_)
      · refine j_iload_n (pc := 30) hX 0 rfl dX10_rank_30 ?_
        refine j_iconst (pc := 31) hX ic_2 dX10_rank_31 ?_
        refine j_cne (pc := 32) (tgt := 39) hX rfl dX10_rank_32 (fun _ => ?_) (fun _ => ?_)
        · refine j_iconst (pc := 35) hX ic_3 dX10_rank_35 ?_
          refine j_goto (pc := 36) (tgt := 58) hX rfl dX10_rank_36 ?_
          exact j_iret (pc := 58) hX hr dX10_rank_58
        · refine j_iload_n (pc := 39) hX 0 rfl dX10_rank_39 ?_
          refine j_iconst (pc := 40) hX ic_3 dX10_rank_40 ?_
          refine j_cne (pc := 41) (tgt := 48) hX rfl dX10_rank_41 (fun _ => ?_) (fun _ => ?_)
          · refine j_iconst (pc := 44) hX ic_2 dX10_rank_44 ?_
            refine j_goto (pc := 45) (tgt := 58) hX rfl dX10_rank_45 ?_
            exact j_iret (pc := 58) hX hr dX10_rank_58
          · refine j_iload_n (pc := 48) hX 0 rfl dX10_rank_48 ?_
            refine j_iconst (pc := 49) hX ic_4 dX10_rank_49 ?_
            refine j_cne (pc := 50) (tgt := 57) hX rfl dX10_rank_50 (fun _ => ?_) (fun _ => ?_)
            · refine j_iconst (pc := 53) hX ic_1 dX10_rank_53 ?_
              refine j_goto (pc := 54) (tgt := 58) hX rfl dX10_rank_54 ?_
              exact j_iret (pc := 58) hX hr dX10_rank_58
            · refine j_iconst (pc := 57) hX ic_0 dX10_rank_57 ?_
              exact j_iret (pc := 58) hX hr dX10_rank_58
      · refine j_iconst (pc := 26) hX ic_4 dX10_rank_26 ?_
        refine j_goto (pc := 27) (tgt := 58) hX rfl dX10_rank_27 ?_
        exact j_iret (pc := 58) hX hr dX10_rank_58
    · refine j_iconst (pc := 17) hX ic_5 dX10_rank_17 ?_
      refine j_goto (pc := 18) (tgt := 58) hX rfl dX10_rank_18 ?_
      exact j_iret (pc := 58) hX hr dX10_rank_58
  · refine j_bipush (pc := 6) hX bp_6 dX10_rank_6 ?_
    refine j_goto (pc := 8) (tgt := 58) hX rfl dX10_rank_8 ?_
    exact j_iret (pc := 58) hX hr dX10_rank_58
set_option maxHeartbeats 4000000 in
set_option maxRecDepth 100000 in
theorem m_t_dropHeld  (h : HP) (rr : Int32 × HP) (e : m_dropHeld  h = some rr) : Cn mV yX10_dropHeld (ws_ yX10_dropHeld cX10_dropHeld 1 (some .int)) 1 0 (fun z => [.ref (z + 0)]) h (fun z => eI z rr.1) rr.2 := by
  refine cn_of (e1 := eI) (fun z => [(0, .ref (z + 0))]) mV_ok ⟨Nat.le_refl _, Nat.le_refl _⟩ ymX10_dropHeld (fun _ => rfl) (fun _ => Nat.le_of_ble_eq_true rfl) (fun X hX hr _ => ?_) e
  have hX : okX mV X rr cX10_dropHeld RX10 1 1 0 := hX
  rw [m_dropHeld]
  refine j_aload_n (pc := 0) hX 0 rfl dX10_dropHeld_0 ?_
  refine j_dup (pc := 1) hX rfl dX10_dropHeld_1 ?_
  refine j_getI (pc := 2) hX fgX10_295.1 fgX10_295.2 rfl dX10_dropHeld_2 ?_
  refine j_iconst (pc := 5) hX ic_1 dX10_dropHeld_5 ?_
  refine j_isub (pc := 6) hX dX10_dropHeld_6 ?_
  refine j_putI (pc := 7) hX fwX10_295.1 fwX10_295.2 rfl dX10_dropHeld_7 (fun h1 => ?_)
  refine j_aload_n (pc := 10) hX 0 rfl dX10_dropHeld_10 ?_
  refine j_getR (pc := 11) hX fgX10_90.1 fgX10_90.2 rfl rfl dX10_dropHeld_11 ?_
  refine j_aload_n (pc := 14) hX 0 rfl dX10_dropHeld_14 ?_
  refine j_getI (pc := 15) hX fgX10_295.1 fgX10_295.2 rfl dX10_dropHeld_15 ?_
  refine j_iald (pc := 18) (n := 96) hX rfl dX10_dropHeld_18 (fun _ => ?_)
  exact j_iret (pc := 19) hX hr dX10_dropHeld_19
set_option maxHeartbeats 4000000 in
set_option maxRecDepth 100000 in
theorem m_t_grown (a1 : Int32) (a2 : Int32) (a3 : Int32) (h : HP) (rr : Unit × HP) (e : m_grown a1 a2 a3 h = some rr) : Cn mV yX10_grown (ws_ yX10_grown cX10_grown 4 (none)) 1 0 (fun z => [.ref (z + 0), .int a1, .int a2, .int a3]) h (fun z => eV z rr.1) rr.2 := by
  refine cn_of (e1 := eV) (fun z => [(0, .ref (z + 0)), (1, .int a1), (2, .int a2), (3, .int a3)]) mV_ok ⟨Nat.le_refl _, Nat.le_refl _⟩ ymX10_grown (fun _ => rfl) (fun _ => Nat.le_of_ble_eq_true rfl) (fun X hX hr _ => ?_) e
  have hX : okX mV X rr cX10_grown RX10 4 1 0 := hX
  rw [m_grown]
  refine j_aload_n (pc := 0) hX 0 rfl dX10_grown_0 ?_
  refine j_getR (pc := 1) hX fgX10_78.1 fgX10_78.2 rfl rfl dX10_grown_1 ?_
  refine j_bipush (pc := 4) hX bp_64 dX10_grown_4 ?_
  refine j_aload_n (pc := 6) hX 0 rfl dX10_grown_6 ?_
  refine j_getI (pc := 7) hX fgX10_222.1 fgX10_222.2 rfl dX10_grown_7 ?_
  refine j_iadd (pc := 10) hX dX10_grown_10 ?_
  refine j_iload_n (pc := 11) hX 1 rfl dX10_grown_11 ?_
  refine j_iast (pc := 12) (n := 128) hX rfl dX10_grown_12 (fun _ h1 => ?_)
  refine j_aload_n (pc := 13) hX 0 rfl dX10_grown_13 ?_
  refine j_getR (pc := 14) hX fgX10_81.1 fgX10_81.2 rfl rfl dX10_grown_14 ?_
  refine j_bipush (pc := 17) hX bp_64 dX10_grown_17 ?_
  refine j_aload_n (pc := 19) hX 0 rfl dX10_grown_19 ?_
  refine j_getI (pc := 20) hX fgX10_222.1 fgX10_222.2 rfl dX10_grown_20 ?_
  refine j_iadd (pc := 23) hX dX10_grown_23 ?_
  refine j_iload_n (pc := 24) hX 2 rfl dX10_grown_24 ?_
  refine j_iast (pc := 25) (n := 128) hX rfl dX10_grown_25 (fun _ h2 => ?_)
  refine j_aload_n (pc := 26) hX 0 rfl dX10_grown_26 ?_
  refine j_getR (pc := 27) hX fgX10_84.1 fgX10_84.2 rfl rfl dX10_grown_27 ?_
  refine j_bipush (pc := 30) hX bp_64 dX10_grown_30 ?_
  refine j_aload_n (pc := 32) hX 0 rfl dX10_grown_32 ?_
  refine j_getI (pc := 33) hX fgX10_222.1 fgX10_222.2 rfl dX10_grown_33 ?_
  refine j_iadd (pc := 36) hX dX10_grown_36 ?_
  refine j_iload_n (pc := 37) hX 3 rfl dX10_grown_37 ?_
  refine j_iast (pc := 38) (n := 128) hX rfl dX10_grown_38 (fun _ h3 => ?_)
  refine j_aload_n (pc := 39) hX 0 rfl dX10_grown_39 ?_
  refine j_getR (pc := 40) hX fgX10_90.1 fgX10_90.2 rfl rfl dX10_grown_40 ?_
  refine j_aload_n (pc := 43) hX 0 rfl dX10_grown_43 ?_
  refine j_getI (pc := 44) hX fgX10_295.1 fgX10_295.2 rfl dX10_grown_44 ?_
  refine j_aload_n (pc := 47) hX 0 rfl dX10_grown_47 ?_
  refine j_getI (pc := 48) hX fgX10_222.1 fgX10_222.2 rfl dX10_grown_48 ?_
  refine j_iast (pc := 51) (n := 96) hX rfl dX10_grown_51 (fun _ h4 => ?_)
  refine j_aload_n (pc := 52) hX 0 rfl dX10_grown_52 ?_
  refine j_dup (pc := 53) hX rfl dX10_grown_53 ?_
  refine j_getI (pc := 54) hX fgX10_295.1 fgX10_295.2 rfl dX10_grown_54 ?_
  refine j_iconst (pc := 57) hX ic_1 dX10_grown_57 ?_
  refine j_iadd (pc := 58) hX dX10_grown_58 ?_
  refine j_putI (pc := 59) hX fwX10_295.1 fwX10_295.2 rfl dX10_grown_59 (fun h5 => ?_)
  refine j_aload_n (pc := 62) hX 0 rfl dX10_grown_62 ?_
  refine j_dup (pc := 63) hX rfl dX10_grown_63 ?_
  refine j_getI (pc := 64) hX fgX10_222.1 fgX10_222.2 rfl dX10_grown_64 ?_
  refine j_iconst (pc := 67) hX ic_1 dX10_grown_67 ?_
  refine j_iadd (pc := 68) hX dX10_grown_68 ?_
  refine j_putI (pc := 69) hX fwX10_222.1 fwX10_222.2 rfl dX10_grown_69 (fun h6 => ?_)
  exact j_vret (pc := 72) hX hr dX10_grown_72
set_option maxHeartbeats 4000000 in
set_option maxRecDepth 100000 in
theorem m_bind_0_w {X : CTX} {rr : Unit × HP} (hX : okX mV X rr cX10_bind RX10 5 2 23) (hr : (xh X).sig.returnType = none) (f1 : Int32) (k : HP → Option (Unit × HP)) (hk : ∀ (h : HP), jG mV X evV rr (k h) 76 [] [] h) : ∀ (n : Nat)  (h : HP), jG mV X evV rr (m_bind_0 f1 k n  h) 0 [(0, .ref (xz X + 0)), (1, .int f1)] [] h := by
  intro n
  induction n with
  | zero =>
    intro  h
    exact j_none
  | succ n ih =>
    intro  h
    rw [m_bind_0]
    refine j_aload_n (pc := 0) hX 0 rfl dX10_bind_0 ?_
    refine j_getI (pc := 1) hX fgX10_298.1 fgX10_298.2 rfl dX10_bind_1 ?_
    refine j_ifle (pc := 4) (tgt := 76) hX rfl dX10_bind_4 (fun _ => ?_) (fun _ => ?_)
    · refine j_locs [] rfl ?_
      exact hk h
    · refine j_aload_n (pc := 7) hX 0 rfl dX10_bind_7 ?_
      refine j_getR (pc := 8) hX fgX10_87.1 fgX10_87.2 rfl rfl dX10_bind_8 ?_
      refine j_aload_n (pc := 11) hX 0 rfl dX10_bind_11 ?_
      refine j_getI (pc := 12) hX fgX10_298.1 fgX10_298.2 rfl dX10_bind_12 ?_
      refine j_iconst (pc := 15) hX ic_1 dX10_bind_15 ?_
      refine j_isub (pc := 16) hX dX10_bind_16 ?_
      refine j_iald (pc := 17) (n := 96) hX rfl dX10_bind_17 (fun _ => ?_)
      refine j_callSI (pc := 18) (As := fun z => [.int (gI h 25 (((gI h 0 46) - (1 : Int32))).toNatClampNeg)]) (rest := []) hX (fun r e => m_t_rank (gI h 25 (((gI h 0 46) - (1 : Int32))).toNatClampNeg) h r e) ymX10_rank (lw_S q1985 q1986 q154 q1987) ⟨Nat.le_of_ble_eq_true rfl, Nat.le_of_ble_eq_true rfl⟩ rfl rfl (Nat.le_of_ble_eq_true rfl) dX10_bind_18 (fun r1 h2 => ?_)
      refine j_iload_n (pc := 21) hX 1 rfl dX10_bind_21 ?_
      refine j_clt (pc := 22) (tgt := 76) hX rfl dX10_bind_22 (fun _ => ?_) (fun _ => ?_)
      · refine j_locs [] rfl ?_
        exact hk h2
      · refine j_aload_n (pc := 25) hX 0 rfl dX10_bind_25 ?_
        refine j_dup (pc := 26) hX rfl dX10_bind_26 ?_
        refine j_getI (pc := 27) hX fgX10_298.1 fgX10_298.2 rfl dX10_bind_27 ?_
        refine j_iconst (pc := 30) hX ic_1 dX10_bind_30 ?_
        refine j_isub (pc := 31) hX dX10_bind_31 ?_
        refine j_putI (pc := 32) hX fwX10_298.1 fwX10_298.2 rfl dX10_bind_32 (fun h3 => ?_)
        refine j_aload_n (pc := 35) hX 0 rfl dX10_bind_35 ?_
        refine j_getR (pc := 36) hX fgX10_87.1 fgX10_87.2 rfl rfl dX10_bind_36 ?_
        refine j_aload_n (pc := 39) hX 0 rfl dX10_bind_39 ?_
        refine j_getI (pc := 40) hX fgX10_298.1 fgX10_298.2 rfl dX10_bind_40 ?_
        refine j_iald (pc := 43) (n := 96) hX rfl dX10_bind_43 (fun _ => ?_)
        refine j_istore_n (pc := 44) hX (fun x4 => [(2, .int x4), (0, .ref (xz X + 0)), (1, .int f1)]) (fun _ => rfl) (Nat.le_of_ble_eq_true rfl) dX10_bind_44 (fun x4 => ?_)
        refine j_iload_n (pc := 45) hX 0 rfl dX10_bind_45 ?_
        refine j_iconst (pc := 46) hX ic_2 dX10_bind_46 ?_
        refine j_jon (fun (j5 : Int32 → HP → Option (Unit × HP)) => ∀ (s6 : Int32) (h7 : HP), jG mV X evV rr (j5 s6 h7) 58 [(0, .ref (xz X + 0)), (1, .int f1), (2, .int x4)] [.int s6] h7) ?_ ?_
        · intro s6 h7
          refine j_istore_n (pc := 58) hX (fun x8 => [(3, .int x8), (0, .ref (xz X + 0)), (1, .int f1), (2, .int x4)]) (fun _ => rfl) (Nat.le_of_ble_eq_true rfl) dX10_bind_58 (fun x8 => ?_)
          refine j_aload_n (pc := 59) hX 1 rfl dX10_bind_59 ?_
          refine j_callVI (pc := 60) (a := 0) (As := fun z => []) (rest := []) hX (fun r e => m_t_dropHeld h7 r e) ymX10_dropHeld (lw_V q1988 q1990 qs95 q154 q1991) rfl ckX10 rfl ⟨Nat.le_of_ble_eq_true rfl, Nat.le_of_ble_eq_true rfl⟩ rfl rfl (Nat.le_of_ble_eq_true rfl) dX10_bind_60 (fun r9 h10 => ?_)
          refine j_istore (pc := 63) hX (fun x11 => [(4, .int x11), (3, .int x8), (0, .ref (xz X + 0)), (1, .int f1), (2, .int x4)]) (fun _ => rfl) (Nat.le_of_ble_eq_true rfl) dX10_bind_63 (fun x11 => ?_)
          refine j_aload_n (pc := 65) hX 2 rfl dX10_bind_65 ?_
          refine j_iload_n (pc := 66) hX 4 rfl dX10_bind_66 ?_
          refine j_iload (pc := 67) hX 0 rfl dX10_bind_67 ?_
          refine j_iload_n (pc := 69) hX 1 rfl dX10_bind_69 ?_
          refine j_callVV (pc := 70) (a := 0) (As := fun z => [.int x4, .int x11, .int x8]) (rest := []) hX (fun r e => m_t_grown x4 x11 x8 h10 r e) ymX10_grown (lw_V q1973 q1975 qs92 q154 q1976) rfl ckX10 rfl ⟨Nat.le_of_ble_eq_true rfl, Nat.le_of_ble_eq_true rfl⟩ rfl rfl (Nat.le_of_ble_eq_true rfl) dX10_bind_70 (fun r12 h13 => ?_)
          refine j_goto (pc := 73) (tgt := 0) hX rfl dX10_bind_73 ?_
          refine j_locs [2, 3] rfl ?_
          exact ih h13
        · intro j5 hj5
          refine j_cne (pc := 47) (tgt := 54) hX rfl dX10_bind_47 (fun _ => ?_) (fun _ => ?_)
          · refine j_iconst (pc := 50) hX ic_m1 dX10_bind_50 ?_
            refine j_goto (pc := 51) (tgt := 58) hX rfl dX10_bind_51 ?_
            refine j_locs [1, 2, 0] rfl ?_
            exact hj5 (-1 : Int32) h3
          · refine j_aload_n (pc := 54) hX 1 rfl dX10_bind_54 ?_
            refine j_callVI (pc := 55) (a := 0) (As := fun z => []) (rest := []) hX (fun r e => m_t_dropHeld h3 r e) ymX10_dropHeld (lw_V q1988 q1990 qs95 q154 q1991) rfl ckX10 rfl ⟨Nat.le_of_ble_eq_true rfl, Nat.le_of_ble_eq_true rfl⟩ rfl rfl (Nat.le_of_ble_eq_true rfl) dX10_bind_55 (fun r14 h15 => ?_)
            refine j_locs [1, 2, 0] rfl ?_
            exact hj5 r14 h15
set_option maxHeartbeats 4000000 in
set_option maxRecDepth 100000 in
theorem m_t_bind (a1 : Int32) (h : HP) (rr : Unit × HP) (e : m_bind a1 h = some rr) : Cn mV yX10_bind (ws_ yX10_bind cX10_bind 5 (none)) 2 23 (fun z => [.ref (z + 0), .int a1]) h (fun z => eV z rr.1) rr.2 := by
  refine cn_of (e1 := eV) (fun z => [(0, .ref (z + 0)), (1, .int a1)]) mV_ok ⟨Nat.le_refl _, Nat.le_refl _⟩ ymX10_bind (fun _ => rfl) (fun _ => Nat.le_of_ble_eq_true rfl) (fun X hX hr _ => ?_) e
  have hX : okX mV X rr cX10_bind RX10 5 2 23 := hX
  rw [m_bind]
  refine m_bind_0_w hX hr a1 _ (fun  h16 => ?_) FU h
  exact j_vret (pc := 76) hX hr dX10_bind_76
set_option maxHeartbeats 4000000 in
set_option maxRecDepth 100000 in
theorem m_t_isCounted  (h : HP) (rr : Int32 × HP) (e : m_isCounted  h = some rr) : Cn mV yX10_isCounted (ws_ yX10_isCounted cX10_isCounted 1 (some .boolean)) 2 21 (fun z => [.ref (z + 0)]) h (fun z => eI z rr.1) rr.2 := by
  refine cn_of (e1 := eI) (fun z => [(0, .ref (z + 0))]) mV_ok ⟨Nat.le_refl _, Nat.le_refl _⟩ ymX10_isCounted (fun _ => rfl) (fun _ => Nat.le_of_ble_eq_true rfl) (fun X hX hr _ => ?_) e
  have hX : okX mV X rr cX10_isCounted RX10 1 2 21 := hX
  rw [m_isCounted]
  refine j_aload_n (pc := 0) hX 0 rfl dX10_isCounted_0 ?_
  refine j_getI (pc := 1) hX fgX10_225.1 fgX10_225.2 rfl dX10_isCounted_1 ?_
  refine j_bipush (pc := 4) hX bp_64 dX10_isCounted_4 ?_
  refine j_cne (pc := 6) (tgt := 15) hX rfl dX10_isCounted_6 (fun _ => ?_) (fun _ => ?_)
  · refine j_aload_n (pc := 9) hX 0 rfl dX10_isCounted_9 ?_
    refine j_iconst (pc := 10) hX ic_2 dX10_isCounted_10 ?_
    refine j_callVI (pc := 11) (a := 0) (As := fun z => [.int (2 : Int32)]) (rest := []) hX (fun r e => m_t_wrong (2 : Int32) h r e) ymX10_wrong (lw_V q1892 q1894 qs74 q154 q1895) rfl ckX10 rfl ⟨Nat.le_of_ble_eq_true rfl, Nat.le_of_ble_eq_true rfl⟩ rfl rfl (Nat.le_of_ble_eq_true rfl) dX10_isCounted_11 (fun r1 h2 => ?_)
    refine j_grd fun g3 => ?_
    exact j_zret (pc := 14) hX g3 hr dX10_isCounted_14
  · refine j_aload_n (pc := 15) hX 0 rfl dX10_isCounted_15 ?_
    refine j_dup (pc := 16) hX rfl dX10_isCounted_16 ?_
    refine j_getI (pc := 17) hX fgX10_225.1 fgX10_225.2 rfl dX10_isCounted_17 ?_
    refine j_iconst (pc := 20) hX ic_1 dX10_isCounted_20 ?_
    refine j_iadd (pc := 21) hX dX10_isCounted_21 ?_
    refine j_putI (pc := 22) hX fwX10_225.1 fwX10_225.2 rfl dX10_isCounted_22 (fun h4 => ?_)
    refine j_iconst (pc := 25) hX ic_1 dX10_isCounted_25 ?_
    exact j_zret (pc := 26) hX (Or.inr rfl) hr dX10_isCounted_26
set_option maxHeartbeats 4000000 in
set_option maxRecDepth 100000 in
theorem m_t_waitsFor (a1 : Int32) (h : HP) (rr : Unit × HP) (e : m_waitsFor a1 h = some rr) : Cn mV yX10_waitsFor (ws_ yX10_waitsFor cX10_waitsFor 2 (none)) 1 0 (fun z => [.ref (z + 0), .int a1]) h (fun z => eV z rr.1) rr.2 := by
  refine cn_of (e1 := eV) (fun z => [(0, .ref (z + 0)), (1, .int a1)]) mV_ok ⟨Nat.le_refl _, Nat.le_refl _⟩ ymX10_waitsFor (fun _ => rfl) (fun _ => Nat.le_of_ble_eq_true rfl) (fun X hX hr _ => ?_) e
  have hX : okX mV X rr cX10_waitsFor RX10 2 1 0 := hX
  rw [m_waitsFor]
  refine j_aload_n (pc := 0) hX 0 rfl dX10_waitsFor_0 ?_
  refine j_getR (pc := 1) hX fgX10_87.1 fgX10_87.2 rfl rfl dX10_waitsFor_1 ?_
  refine j_aload_n (pc := 4) hX 0 rfl dX10_waitsFor_4 ?_
  refine j_getI (pc := 5) hX fgX10_298.1 fgX10_298.2 rfl dX10_waitsFor_5 ?_
  refine j_iload_n (pc := 8) hX 1 rfl dX10_waitsFor_8 ?_
  refine j_iast (pc := 9) (n := 96) hX rfl dX10_waitsFor_9 (fun _ h1 => ?_)
  refine j_aload_n (pc := 10) hX 0 rfl dX10_waitsFor_10 ?_
  refine j_dup (pc := 11) hX rfl dX10_waitsFor_11 ?_
  refine j_getI (pc := 12) hX fgX10_298.1 fgX10_298.2 rfl dX10_waitsFor_12 ?_
  refine j_iconst (pc := 15) hX ic_1 dX10_waitsFor_15 ?_
  refine j_iadd (pc := 16) hX dX10_waitsFor_16 ?_
  refine j_putI (pc := 17) hX fwX10_298.1 fwX10_298.2 rfl dX10_waitsFor_17 (fun h2 => ?_)
  exact j_vret (pc := 20) hX hr dX10_waitsFor_20
set_option maxHeartbeats 4000000 in
set_option maxRecDepth 100000 in
theorem m_t_signs  (h : HP) (rr : Int32 × HP) (e : m_signs  h = some rr) : Cn mV yX10_signs (ws_ yX10_signs cX10_signs 2 (some .boolean)) 3 47 (fun z => [.ref (z + 0)]) h (fun z => eI z rr.1) rr.2 := by
  refine cn_of (e1 := eI) (fun z => [(0, .ref (z + 0))]) mV_ok ⟨Nat.le_refl _, Nat.le_refl _⟩ ymX10_signs (fun _ => rfl) (fun _ => Nat.le_of_ble_eq_true rfl) (fun X hX hr _ => ?_) e
  have hX : okX mV X rr cX10_signs RX10 2 3 47 := hX
  rw [m_signs]
  refine j_aload_n (pc := 0) hX 0 rfl dX10_signs_0 ?_
  refine j_bipush (pc := 1) hX bp_41 dX10_signs_1 ?_
  refine j_callVI (pc := 3) (a := 0) (As := fun z => [.int (41 : Int32)]) (rest := []) hX (fun r e => m_t_isSign (41 : Int32) h r e) ymX10_isSign (lw_V q1953 q1955 qs87 q154 q1956) rfl ckX10 rfl ⟨Nat.le_of_ble_eq_true rfl, Nat.le_of_ble_eq_true rfl⟩ rfl rfl (Nat.le_of_ble_eq_true rfl) dX10_signs_3 (fun r1 h2 => ?_)
  refine j_jon (fun (j3 : Unit → Option (Int32 × HP)) => ∀ (_u : Unit), jG mV X evI rr (j3 ()) 47 [(0, .ref (xz X + 0))] [] h2) ?_ ?_
  · intro _
    refine j_aload_n (pc := 47) hX 0 rfl dX10_signs_47 ?_
    refine j_bipush (pc := 48) hX bp_15 dX10_signs_48 ?_
    refine j_callVI (pc := 50) (a := 0) (As := fun z => [.int (15 : Int32)]) (rest := []) hX (fun r e => m_t_isKey (15 : Int32) h2 r e) ymX10_isKey (lw_V q1937 q1939 qs83 q154 q1940) rfl ckX10 rfl ⟨Nat.le_of_ble_eq_true rfl, Nat.le_of_ble_eq_true rfl⟩ rfl rfl (Nat.le_of_ble_eq_true rfl) dX10_signs_50 (fun r4 h5 => ?_)
    refine j_jon (fun (j6 : Int32 → HP → Option (Int32 × HP)) => ∀ (s7 : Int32) (h8 : HP), jG mV X evI rr (j6 s7 h8) 147 [(0, .ref (xz X + 0))] [.int s7] h8) ?_ ?_
    · intro s7 h8
      refine j_istore_n (pc := 147) hX (fun x9 => [(1, .int x9), (0, .ref (xz X + 0))]) (fun _ => rfl) (Nat.le_of_ble_eq_true rfl) dX10_signs_147 (fun x9 => ?_)
      refine j_iload_n (pc := 148) hX 0 rfl dX10_signs_148 ?_
      refine j_ifne (pc := 149) (tgt := 158) hX rfl dX10_signs_149 (fun _ => ?_) (fun _ => ?_)
      · refine j_aload_n (pc := 152) hX 1 rfl dX10_signs_152 ?_
        refine j_iconst (pc := 153) hX ic_1 dX10_signs_153 ?_
        refine j_callVI (pc := 154) (a := 0) (As := fun z => [.int (1 : Int32)]) (rest := []) hX (fun r e => m_t_wrong (1 : Int32) h8 r e) ymX10_wrong (lw_V q1892 q1894 qs74 q154 q1895) rfl ckX10 rfl ⟨Nat.le_of_ble_eq_true rfl, Nat.le_of_ble_eq_true rfl⟩ rfl rfl (Nat.le_of_ble_eq_true rfl) dX10_signs_154 (fun r10 h11 => ?_)
        refine j_grd fun g12 => ?_
        exact j_zret (pc := 157) hX g12 hr dX10_signs_157
      · refine j_aload_n (pc := 158) hX 1 rfl dX10_signs_158 ?_
        refine j_iload_n (pc := 159) hX 0 rfl dX10_signs_159 ?_
        refine j_callSI (pc := 160) (As := fun z => [.int x9]) (rest := [.ref (xz X + 0)]) hX (fun r e => m_t_rank x9 h8 r e) ymX10_rank (lw_S q1985 q1986 q154 q1987) ⟨Nat.le_of_ble_eq_true rfl, Nat.le_of_ble_eq_true rfl⟩ rfl rfl (Nat.le_of_ble_eq_true rfl) dX10_signs_160 (fun r13 h14 => ?_)
        refine j_iconst (pc := 163) hX ic_4 dX10_signs_163 ?_
        refine j_jon (fun (j15 : Int32 → HP → Option (Int32 × HP)) => ∀ (s16 : Int32) (h17 : HP), jG mV X evI rr (j15 s16 h17) 175 [(0, .ref (xz X + 0)), (1, .int x9)] [.int s16, .ref (xz X + 0)] h17) ?_ ?_
        · intro s16 h17
          refine j_callVV (pc := 175) (a := 0) (As := fun z => [.int s16]) (rest := []) hX (fun r e => m_t_bind s16 h17 r e) ymX10_bind (lw_V q1981 q1983 qs94 q154 q1984) rfl ckX10 rfl ⟨Nat.le_of_ble_eq_true rfl, Nat.le_of_ble_eq_true rfl⟩ rfl rfl (Nat.le_of_ble_eq_true rfl) dX10_signs_175 (fun r18 h19 => ?_)
          refine j_iload_n (pc := 178) hX 1 rfl dX10_signs_178 ?_
          refine j_callSI (pc := 179) (As := fun z => [.int x9]) (rest := []) hX (fun r e => m_t_rank x9 h19 r e) ymX10_rank (lw_S q1985 q1986 q154 q1987) ⟨Nat.le_of_ble_eq_true rfl, Nat.le_of_ble_eq_true rfl⟩ rfl rfl (Nat.le_of_ble_eq_true rfl) dX10_signs_179 (fun r20 h21 => ?_)
          refine j_iconst (pc := 182) hX ic_4 dX10_signs_182 ?_
          refine j_jon (fun (j22 : HP → Option (Int32 × HP)) => ∀ (h23 : HP), jG mV X evI rr (j22 h23) 217 [(0, .ref (xz X + 0)), (1, .int x9)] [] h23) ?_ ?_
          · intro h23
            refine j_aload_n (pc := 217) hX 0 rfl dX10_signs_217 ?_
            refine j_callVI (pc := 218) (a := 0) (As := fun z => []) (rest := []) hX (fun r e => m_t_isCounted h23 r e) ymX10_isCounted (lw_V q1965 q1967 qs90 q154 q1968) rfl ckX10 rfl ⟨Nat.le_of_ble_eq_true rfl, Nat.le_of_ble_eq_true rfl⟩ rfl rfl (Nat.le_of_ble_eq_true rfl) dX10_signs_218 (fun r24 h25 => ?_)
            refine j_ifne (pc := 221) (tgt := 226) hX rfl dX10_signs_221 (fun _ => ?_) (fun _ => ?_)
            · refine j_iconst (pc := 224) hX ic_0 dX10_signs_224 ?_
              exact j_zret (pc := 225) hX (Or.inl rfl) hr dX10_signs_225
            · refine j_aload_n (pc := 226) hX 0 rfl dX10_signs_226 ?_
              refine j_iload_n (pc := 227) hX 1 rfl dX10_signs_227 ?_
              refine j_callVV (pc := 228) (a := 0) (As := fun z => [.int x9]) (rest := []) hX (fun r e => m_t_waitsFor x9 h25 r e) ymX10_waitsFor (lw_V q1961 q1963 qs89 q154 q1964) rfl ckX10 rfl ⟨Nat.le_of_ble_eq_true rfl, Nat.le_of_ble_eq_true rfl⟩ rfl rfl (Nat.le_of_ble_eq_true rfl) dX10_signs_228 (fun r26 h27 => ?_)
              refine j_aload_n (pc := 231) hX 0 rfl dX10_signs_231 ?_
              refine j_iconst (pc := 232) hX ic_1 dX10_signs_232 ?_
              refine j_putZ (pc := 233) hX (Or.inr rfl) fwX10_330.1 fwX10_330.2 rfl dX10_signs_233 (fun h28 => ?_)
              refine j_aload_n (pc := 236) hX 0 rfl dX10_signs_236 ?_
              refine j_iload_n (pc := 237) hX 1 rfl dX10_signs_237 ?_
              refine j_callSI (pc := 238) (As := fun z => [.int x9]) (rest := [.ref (xz X + 0)]) hX (fun r e => m_t_rank x9 h28 r e) ymX10_rank (lw_S q1985 q1986 q154 q1987) ⟨Nat.le_of_ble_eq_true rfl, Nat.le_of_ble_eq_true rfl⟩ rfl rfl (Nat.le_of_ble_eq_true rfl) dX10_signs_238 (fun r29 h30 => ?_)
              refine j_iconst (pc := 241) hX ic_3 dX10_signs_241 ?_
              refine j_jon (fun (j31 : Int32 → Option (Int32 × HP)) => ∀ (s32 : Int32), jG mV X evI rr (j31 s32) 250 [(0, .ref (xz X + 0))] [.int s32, .ref (xz X + 0)] h30) ?_ ?_
              · intro s32
                refine j_grd fun g34 => ?_
                refine j_putZ (pc := 250) hX g34 fwX10_320.1 fwX10_320.2 rfl dX10_signs_250 (fun h33 => ?_)
                refine j_aload_n (pc := 253) hX 0 rfl dX10_signs_253 ?_
                refine j_callVV (pc := 254) (a := 0) (As := fun z => []) (rest := []) hX (fun r e => m_t_token h33 r e) ymX10_token (lw_V q1863 q1865 qs67 q154 q1866) rfl ckX10 rfl ⟨Nat.le_of_ble_eq_true rfl, Nat.le_of_ble_eq_true rfl⟩ rfl rfl (Nat.le_of_ble_eq_true rfl) dX10_signs_254 (fun r35 h36 => ?_)
                refine j_iconst (pc := 257) hX ic_1 dX10_signs_257 ?_
                exact j_zret (pc := 258) hX (Or.inr rfl) hr dX10_signs_258
              · intro j31 hj31
                refine j_cge (pc := 242) (tgt := 249) hX rfl dX10_signs_242 (fun _ => ?_) (fun _ => ?_)
                · refine j_iconst (pc := 249) hX ic_0 dX10_signs_249 ?_
                  refine j_locs [0] rfl ?_
                  exact hj31 (0 : Int32)
                · refine j_iconst (pc := 245) hX ic_1 dX10_signs_245 ?_
                  refine j_goto (pc := 246) (tgt := 250) hX rfl dX10_signs_246 ?_
                  refine j_locs [0] rfl ?_
                  exact hj31 (1 : Int32)
          · intro j22 hj22
            refine j_cne (pc := 183) (tgt := 217) hX rfl dX10_signs_183 (fun _ => ?_) (fun _ => ?_)
            · refine j_aload_n (pc := 186) hX 0 rfl dX10_signs_186 ?_
              refine j_getI (pc := 187) hX fgX10_298.1 fgX10_298.2 rfl dX10_signs_187 ?_
              refine j_ifle (pc := 190) (tgt := 217) hX rfl dX10_signs_190 (fun _ => ?_) (fun _ => ?_)
              · exact hj22 h21
              · refine j_aload_n (pc := 193) hX 0 rfl dX10_signs_193 ?_
                refine j_getR (pc := 194) hX fgX10_87.1 fgX10_87.2 rfl rfl dX10_signs_194 ?_
                refine j_aload_n (pc := 197) hX 0 rfl dX10_signs_197 ?_
                refine j_getI (pc := 198) hX fgX10_298.1 fgX10_298.2 rfl dX10_signs_198 ?_
                refine j_iconst (pc := 201) hX ic_1 dX10_signs_201 ?_
                refine j_isub (pc := 202) hX dX10_signs_202 ?_
                refine j_iald (pc := 203) (n := 96) hX rfl dX10_signs_203 (fun _ => ?_)
                refine j_callSI (pc := 204) (As := fun z => [.int (gI h21 25 (((gI h21 0 46) - (1 : Int32))).toNatClampNeg)]) (rest := []) hX (fun r e => m_t_rank (gI h21 25 (((gI h21 0 46) - (1 : Int32))).toNatClampNeg) h21 r e) ymX10_rank (lw_S q1985 q1986 q154 q1987) ⟨Nat.le_of_ble_eq_true rfl, Nat.le_of_ble_eq_true rfl⟩ rfl rfl (Nat.le_of_ble_eq_true rfl) dX10_signs_204 (fun r37 h38 => ?_)
                refine j_iconst (pc := 207) hX ic_4 dX10_signs_207 ?_
                refine j_cne (pc := 208) (tgt := 217) hX rfl dX10_signs_208 (fun _ => ?_) (fun _ => ?_)
                · refine j_aload_n (pc := 211) hX 0 rfl dX10_signs_211 ?_
                  refine j_iconst (pc := 212) hX ic_1 dX10_signs_212 ?_
                  refine j_callVI (pc := 213) (a := 0) (As := fun z => [.int (1 : Int32)]) (rest := []) hX (fun r e => m_t_wrong (1 : Int32) h38 r e) ymX10_wrong (lw_V q1892 q1894 qs74 q154 q1895) rfl ckX10 rfl ⟨Nat.le_of_ble_eq_true rfl, Nat.le_of_ble_eq_true rfl⟩ rfl rfl (Nat.le_of_ble_eq_true rfl) dX10_signs_213 (fun r39 h40 => ?_)
                  refine j_grd fun g41 => ?_
                  exact j_zret (pc := 216) hX g41 hr dX10_signs_216
                · exact hj22 h38
            · exact hj22 h21
        · intro j15 hj15
          refine j_cne (pc := 164) (tgt := 171) hX rfl dX10_signs_164 (fun _ => ?_) (fun _ => ?_)
          · refine j_iconst (pc := 167) hX ic_5 dX10_signs_167 ?_
            refine j_goto (pc := 168) (tgt := 175) hX rfl dX10_signs_168 ?_
            refine j_locs [1, 0] rfl ?_
            exact hj15 (5 : Int32) h14
          · refine j_iload_n (pc := 171) hX 0 rfl dX10_signs_171 ?_
            refine j_callSI (pc := 172) (As := fun z => [.int x9]) (rest := [.ref (xz X + 0)]) hX (fun r e => m_t_rank x9 h14 r e) ymX10_rank (lw_S q1985 q1986 q154 q1987) ⟨Nat.le_of_ble_eq_true rfl, Nat.le_of_ble_eq_true rfl⟩ rfl rfl (Nat.le_of_ble_eq_true rfl) dX10_signs_172 (fun r42 h43 => ?_)
            refine j_locs [1, 0] rfl ?_
            exact hj15 r42 h43
    · intro j6 hj6
      refine j_ifeq (pc := 53) (tgt := 60) hX rfl dX10_signs_53 (fun _ => ?_) (fun _ => ?_)
      · refine j_aload_n (pc := 60) hX 0 rfl dX10_signs_60 ?_
        refine j_bipush (pc := 61) hX bp_16 dX10_signs_61 ?_
        refine j_callVI (pc := 63) (a := 0) (As := fun z => [.int (16 : Int32)]) (rest := []) hX (fun r e => m_t_isKey (16 : Int32) h5 r e) ymX10_isKey (lw_V q1937 q1939 qs83 q154 q1940) rfl ckX10 rfl ⟨Nat.le_of_ble_eq_true rfl, Nat.le_of_ble_eq_true rfl⟩ rfl rfl (Nat.le_of_ble_eq_true rfl) dX10_signs_63 (fun r44 h45 => ?_)
        refine j_ifeq (pc := 66) (tgt := 73) hX rfl dX10_signs_66 (fun _ => ?_) (fun _ => ?_)
        · refine j_aload_n (pc := 73) hX 0 rfl dX10_signs_73 ?_
          refine j_getI (pc := 74) hX fgX10_166.1 fgX10_166.2 rfl dX10_signs_74 ?_
          refine j_iconst (pc := 77) hX ic_5 dX10_signs_77 ?_
          refine j_cne (pc := 78) (tgt := 90) hX rfl dX10_signs_78 (fun _ => ?_) (fun _ => ?_)
          · refine j_iconst (pc := 81) hX ic_5 dX10_signs_81 ?_
            refine j_aload_n (pc := 82) hX 0 rfl dX10_signs_82 ?_
            refine j_getI (pc := 83) hX fgX10_177.1 fgX10_177.2 rfl dX10_signs_83 ?_
            refine j_iadd (pc := 86) hX dX10_signs_86 ?_
            refine j_goto (pc := 87) (tgt := 147) hX rfl dX10_signs_87 ?_
            exact hj6 ((5 : Int32) + (gI h45 0 9)) h45
          · refine j_aload_n (pc := 90) hX 0 rfl dX10_signs_90 ?_
            refine j_bipush (pc := 91) hX bp_43 dX10_signs_91 ?_
            refine j_callVI (pc := 93) (a := 0) (As := fun z => [.int (43 : Int32)]) (rest := []) hX (fun r e => m_t_isSign (43 : Int32) h45 r e) ymX10_isSign (lw_V q1953 q1955 qs87 q154 q1956) rfl ckX10 rfl ⟨Nat.le_of_ble_eq_true rfl, Nat.le_of_ble_eq_true rfl⟩ rfl rfl (Nat.le_of_ble_eq_true rfl) dX10_signs_93 (fun r46 h47 => ?_)
            refine j_ifeq (pc := 96) (tgt := 104) hX rfl dX10_signs_96 (fun _ => ?_) (fun _ => ?_)
            · refine j_aload_n (pc := 104) hX 0 rfl dX10_signs_104 ?_
              refine j_bipush (pc := 105) hX bp_45 dX10_signs_105 ?_
              refine j_callVI (pc := 107) (a := 0) (As := fun z => [.int (45 : Int32)]) (rest := []) hX (fun r e => m_t_isSign (45 : Int32) h47 r e) ymX10_isSign (lw_V q1953 q1955 qs87 q154 q1956) rfl ckX10 rfl ⟨Nat.le_of_ble_eq_true rfl, Nat.le_of_ble_eq_true rfl⟩ rfl rfl (Nat.le_of_ble_eq_true rfl) dX10_signs_107 (fun r48 h49 => ?_)
              refine j_ifeq (pc := 110) (tgt := 118) hX rfl dX10_signs_110 (fun _ => ?_) (fun _ => ?_)
              · refine j_aload_n (pc := 118) hX 0 rfl dX10_signs_118 ?_
                refine j_bipush (pc := 119) hX bp_42 dX10_signs_119 ?_
                refine j_callVI (pc := 121) (a := 0) (As := fun z => [.int (42 : Int32)]) (rest := []) hX (fun r e => m_t_isSign (42 : Int32) h49 r e) ymX10_isSign (lw_V q1953 q1955 qs87 q154 q1956) rfl ckX10 rfl ⟨Nat.le_of_ble_eq_true rfl, Nat.le_of_ble_eq_true rfl⟩ rfl rfl (Nat.le_of_ble_eq_true rfl) dX10_signs_121 (fun r50 h51 => ?_)
                refine j_ifeq (pc := 124) (tgt := 132) hX rfl dX10_signs_124 (fun _ => ?_) (fun _ => ?_)
                · refine j_aload_n (pc := 132) hX 0 rfl dX10_signs_132 ?_
                  refine j_bipush (pc := 133) hX bp_47 dX10_signs_133 ?_
                  refine j_callVI (pc := 135) (a := 0) (As := fun z => [.int (47 : Int32)]) (rest := []) hX (fun r e => m_t_isSign (47 : Int32) h51 r e) ymX10_isSign (lw_V q1953 q1955 qs87 q154 q1956) rfl ckX10 rfl ⟨Nat.le_of_ble_eq_true rfl, Nat.le_of_ble_eq_true rfl⟩ rfl rfl (Nat.le_of_ble_eq_true rfl) dX10_signs_135 (fun r52 h53 => ?_)
                  refine j_ifeq (pc := 138) (tgt := 146) hX rfl dX10_signs_138 (fun _ => ?_) (fun _ => ?_)
                  · refine j_iconst (pc := 146) hX ic_0 dX10_signs_146 ?_
                    exact hj6 (0 : Int32) h53
                  · refine j_bipush (pc := 141) hX bp_14 dX10_signs_141 ?_
                    refine j_goto (pc := 143) (tgt := 147) hX rfl dX10_signs_143 ?_
                    exact hj6 (14 : Int32) h53
                · refine j_bipush (pc := 127) hX bp_13 dX10_signs_127 ?_
                  refine j_goto (pc := 129) (tgt := 147) hX rfl dX10_signs_129 ?_
                  exact hj6 (13 : Int32) h51
              · refine j_bipush (pc := 113) hX bp_12 dX10_signs_113 ?_
                refine j_goto (pc := 115) (tgt := 147) hX rfl dX10_signs_115 ?_
                exact hj6 (12 : Int32) h49
            · refine j_bipush (pc := 99) hX bp_11 dX10_signs_99 ?_
              refine j_goto (pc := 101) (tgt := 147) hX rfl dX10_signs_101 ?_
              exact hj6 (11 : Int32) h47
        · refine j_iconst (pc := 69) hX ic_4 dX10_signs_69 ?_
          refine j_goto (pc := 70) (tgt := 147) hX rfl dX10_signs_70 ?_
          exact hj6 (4 : Int32) h45
      · refine j_iconst (pc := 56) hX ic_3 dX10_signs_56 ?_
        refine j_goto (pc := 57) (tgt := 147) hX rfl dX10_signs_57 ?_
        exact hj6 (3 : Int32) h5
  · intro j3 hj3
    refine j_ifeq (pc := 6) (tgt := 47) hX rfl dX10_signs_6 (fun _ => ?_) (fun _ => ?_)
    · exact hj3 ()
    · refine j_aload_n (pc := 9) hX 0 rfl dX10_signs_9 ?_
      refine j_getI (pc := 10) hX fgX10_313.1 fgX10_313.2 rfl dX10_signs_10 ?_
      refine j_ifle (pc := 13) (tgt := 47) hX rfl dX10_signs_13 (fun _ => ?_) (fun _ => ?_)
      · exact hj3 ()
      · refine j_aload_n (pc := 16) hX 0 rfl dX10_signs_16 ?_
        refine j_iconst (pc := 17) hX ic_1 dX10_signs_17 ?_
        refine j_callVV (pc := 18) (a := 0) (As := fun z => [.int (1 : Int32)]) (rest := []) hX (fun r e => m_t_bind (1 : Int32) h2 r e) ymX10_bind (lw_V q1981 q1983 qs94 q154 q1984) rfl ckX10 rfl ⟨Nat.le_of_ble_eq_true rfl, Nat.le_of_ble_eq_true rfl⟩ rfl rfl (Nat.le_of_ble_eq_true rfl) dX10_signs_18 (fun r54 h55 => ?_)
        refine j_aload_n (pc := 21) hX 0 rfl dX10_signs_21 ?_
        refine j_dup (pc := 22) hX rfl dX10_signs_22 ?_
        refine j_getI (pc := 23) hX fgX10_298.1 fgX10_298.2 rfl dX10_signs_23 ?_
        refine j_iconst (pc := 26) hX ic_1 dX10_signs_26 ?_
        refine j_isub (pc := 27) hX dX10_signs_27 ?_
        refine j_putI (pc := 28) hX fwX10_298.1 fwX10_298.2 rfl dX10_signs_28 (fun h56 => ?_)
        refine j_aload_n (pc := 31) hX 0 rfl dX10_signs_31 ?_
        refine j_dup (pc := 32) hX rfl dX10_signs_32 ?_
        refine j_getI (pc := 33) hX fgX10_313.1 fgX10_313.2 rfl dX10_signs_33 ?_
        refine j_iconst (pc := 36) hX ic_1 dX10_signs_36 ?_
        refine j_isub (pc := 37) hX dX10_signs_37 ?_
        refine j_putI (pc := 38) hX fwX10_313.1 fwX10_313.2 rfl dX10_signs_38 (fun h57 => ?_)
        refine j_aload_n (pc := 41) hX 0 rfl dX10_signs_41 ?_
        refine j_callVV (pc := 42) (a := 0) (As := fun z => []) (rest := []) hX (fun r e => m_t_token h57 r e) ymX10_token (lw_V q1863 q1865 qs67 q154 q1866) rfl ckX10 rfl ⟨Nat.le_of_ble_eq_true rfl, Nat.le_of_ble_eq_true rfl⟩ rfl rfl (Nat.le_of_ble_eq_true rfl) dX10_signs_42 (fun r58 h59 => ?_)
        refine j_iconst (pc := 45) hX ic_1 dX10_signs_45 ?_
        exact j_zret (pc := 46) hX (Or.inr rfl) hr dX10_signs_46
set_option maxHeartbeats 4000000 in
set_option maxRecDepth 100000 in
theorem m_t_nameMet  (h : HP) (rr : Int32 × HP) (e : m_nameMet  h = some rr) : Cn mV yX10_nameMet (ws_ yX10_nameMet cX10_nameMet 1 (some .int)) 1 0 (fun z => [.ref (z + 0)]) h (fun z => eI z rr.1) rr.2 := by
  refine cn_of (e1 := eI) (fun z => [(0, .ref (z + 0))]) mV_ok ⟨Nat.le_refl _, Nat.le_refl _⟩ ymX10_nameMet (fun _ => rfl) (fun _ => Nat.le_of_ble_eq_true rfl) (fun X hX hr _ => ?_) e
  have hX : okX mV X rr cX10_nameMet RX10 1 1 0 := hX
  rw [m_nameMet]
  refine j_aload_n (pc := 0) hX 0 rfl dX10_nameMet_0 ?_
  refine j_getI (pc := 1) hX fgX10_166.1 fgX10_166.2 rfl dX10_nameMet_1 ?_
  refine j_iconst (pc := 4) hX ic_1 dX10_nameMet_4 ?_
  refine j_cne (pc := 5) (tgt := 27) hX rfl dX10_nameMet_5 (fun _ => ?_) (fun _ => ?_)
  · refine j_aload_n (pc := 8) hX 0 rfl dX10_nameMet_8 ?_
    refine j_getI (pc := 9) hX fgX10_177.1 fgX10_177.2 rfl dX10_nameMet_9 ?_
    refine j_bipush (pc := 12) hX bp_18 dX10_nameMet_12 ?_
    refine j_clt (pc := 14) (tgt := 27) hX rfl dX10_nameMet_14 (fun _ => ?_) (fun _ => ?_)
    · refine j_iconst (pc := 27) hX ic_m1 dX10_nameMet_27 ?_
      exact j_iret (pc := 28) hX hr dX10_nameMet_28
    · refine j_aload_n (pc := 17) hX 0 rfl dX10_nameMet_17 ?_
      refine j_getI (pc := 18) hX fgX10_177.1 fgX10_177.2 rfl dX10_nameMet_18 ?_
      refine j_bipush (pc := 21) hX bp_18 dX10_nameMet_21 ?_
      refine j_isub (pc := 23) hX dX10_nameMet_23 ?_
      refine j_goto (pc := 24) (tgt := 28) hX rfl dX10_nameMet_24 ?_
      exact j_iret (pc := 28) hX hr dX10_nameMet_28
  · refine j_iconst (pc := 27) hX ic_m1 dX10_nameMet_27 ?_
    exact j_iret (pc := 28) hX hr dX10_nameMet_28
set_option maxHeartbeats 4000000 in
set_option maxRecDepth 100000 in
theorem m_t_leafRead  (h : HP) (rr : Int32 × HP) (e : m_leafRead  h = some rr) : Cn mV yX10_leafRead (ws_ yX10_leafRead cX10_leafRead 2 (some .boolean)) 3 47 (fun z => [.ref (z + 0)]) h (fun z => eI z rr.1) rr.2 := by
  refine cn_of (e1 := eI) (fun z => [(0, .ref (z + 0))]) mV_ok ⟨Nat.le_refl _, Nat.le_refl _⟩ ymX10_leafRead (fun _ => rfl) (fun _ => Nat.le_of_ble_eq_true rfl) (fun X hX hr _ => ?_) e
  have hX : okX mV X rr cX10_leafRead RX10 2 3 47 := hX
  rw [m_leafRead]
  refine j_aload_n (pc := 0) hX 0 rfl dX10_leafRead_0 ?_
  refine j_bipush (pc := 1) hX bp_40 dX10_leafRead_1 ?_
  refine j_callVI (pc := 3) (a := 0) (As := fun z => [.int (40 : Int32)]) (rest := []) hX (fun r e => m_t_isSign (40 : Int32) h r e) ymX10_isSign (lw_V q1953 q1955 qs87 q154 q1956) rfl ckX10 rfl ⟨Nat.le_of_ble_eq_true rfl, Nat.le_of_ble_eq_true rfl⟩ rfl rfl (Nat.le_of_ble_eq_true rfl) dX10_leafRead_3 (fun r1 h2 => ?_)
  refine j_ifeq (pc := 6) (tgt := 50) hX rfl dX10_leafRead_6 (fun _ => ?_) (fun _ => ?_)
  · refine j_aload_n (pc := 50) hX 0 rfl dX10_leafRead_50 ?_
    refine j_bipush (pc := 51) hX bp_17 dX10_leafRead_51 ?_
    refine j_callVI (pc := 53) (a := 0) (As := fun z => [.int (17 : Int32)]) (rest := []) hX (fun r e => m_t_isKey (17 : Int32) h2 r e) ymX10_isKey (lw_V q1937 q1939 qs83 q154 q1940) rfl ckX10 rfl ⟨Nat.le_of_ble_eq_true rfl, Nat.le_of_ble_eq_true rfl⟩ rfl rfl (Nat.le_of_ble_eq_true rfl) dX10_leafRead_53 (fun r3 h4 => ?_)
    refine j_jon (fun (j5 : Unit → Option (Int32 × HP)) => ∀ (_u : Unit), jG mV X evI rr (j5 ()) 86 [(0, .ref (xz X + 0))] [] h4) ?_ ?_
    · intro _
      refine j_aload_n (pc := 86) hX 0 rfl dX10_leafRead_86 ?_
      refine j_callVI (pc := 87) (a := 0) (As := fun z => []) (rest := []) hX (fun r e => m_t_nameMet h4 r e) ymX10_nameMet (lw_V q1969 q1971 qs91 q154 q1972) rfl ckX10 rfl ⟨Nat.le_of_ble_eq_true rfl, Nat.le_of_ble_eq_true rfl⟩ rfl rfl (Nat.le_of_ble_eq_true rfl) dX10_leafRead_87 (fun r6 h7 => ?_)
      refine j_istore_n (pc := 90) hX (fun x8 => [(1, .int x8), (0, .ref (xz X + 0))]) (fun _ => rfl) (Nat.le_of_ble_eq_true rfl) dX10_leafRead_90 (fun x8 => ?_)
      refine j_iload_n (pc := 91) hX 0 rfl dX10_leafRead_91 ?_
      refine j_jon (fun (j9 : Unit → Option (Int32 × HP)) => ∀ (_u : Unit), jG mV X evI rr (j9 ()) 109 [(0, .ref (xz X + 0)), (1, .int x8)] [] h7) ?_ ?_
      · intro _
        refine j_iload_n (pc := 109) hX 1 rfl dX10_leafRead_109 ?_
        refine j_jon (fun (j10 : Unit → Option (Int32 × HP)) => ∀ (_u : Unit), jG mV X evI rr (j10 ()) 129 [(0, .ref (xz X + 0)), (1, .int x8)] [] h7) ?_ ?_
        · intro _
          refine j_aload_n (pc := 129) hX 0 rfl dX10_leafRead_129 ?_
          refine j_callVI (pc := 130) (a := 0) (As := fun z => []) (rest := []) hX (fun r e => m_t_isCounted h7 r e) ymX10_isCounted (lw_V q1965 q1967 qs90 q154 q1968) rfl ckX10 rfl ⟨Nat.le_of_ble_eq_true rfl, Nat.le_of_ble_eq_true rfl⟩ rfl rfl (Nat.le_of_ble_eq_true rfl) dX10_leafRead_130 (fun r11 h12 => ?_)
          refine j_ifne (pc := 133) (tgt := 138) hX rfl dX10_leafRead_133 (fun _ => ?_) (fun _ => ?_)
          · refine j_iconst (pc := 136) hX ic_0 dX10_leafRead_136 ?_
            exact j_zret (pc := 137) hX (Or.inl rfl) hr dX10_leafRead_137
          · refine j_aload_n (pc := 138) hX 0 rfl dX10_leafRead_138 ?_
            refine j_iload_n (pc := 139) hX 1 rfl dX10_leafRead_139 ?_
            refine j_jon (fun (j13 : Int32 → Option (Int32 × HP)) => ∀ (s14 : Int32), jG mV X evI rr (j13 s14) 148 [(0, .ref (xz X + 0)), (1, .int x8)] [.int s14, .ref (xz X + 0)] h12) ?_ ?_
            · intro s14
              refine j_iload_n (pc := 148) hX 1 rfl dX10_leafRead_148 ?_
              refine j_jon (fun (j15 : Int32 → Option (Int32 × HP)) => ∀ (s16 : Int32), jG mV X evI rr (j15 s16) 160 [(0, .ref (xz X + 0))] [.int s16, .int s14, .ref (xz X + 0)] h12) ?_ ?_
              · intro s16
                refine j_iconst (pc := 160) hX ic_0 dX10_leafRead_160 ?_
                refine j_callVV (pc := 161) (a := 0) (As := fun z => [.int s14, .int s16, .int (0 : Int32)]) (rest := []) hX (fun r e => m_t_grown s14 s16 (0 : Int32) h12 r e) ymX10_grown (lw_V q1973 q1975 qs92 q154 q1976) rfl ckX10 rfl ⟨Nat.le_of_ble_eq_true rfl, Nat.le_of_ble_eq_true rfl⟩ rfl rfl (Nat.le_of_ble_eq_true rfl) dX10_leafRead_161 (fun r17 h18 => ?_)
                refine j_aload_n (pc := 164) hX 0 rfl dX10_leafRead_164 ?_
                refine j_iconst (pc := 165) hX ic_0 dX10_leafRead_165 ?_
                refine j_putZ (pc := 166) hX (Or.inl rfl) fwX10_330.1 fwX10_330.2 rfl dX10_leafRead_166 (fun h19 => ?_)
                refine j_aload_n (pc := 169) hX 0 rfl dX10_leafRead_169 ?_
                refine j_callVV (pc := 170) (a := 0) (As := fun z => []) (rest := []) hX (fun r e => m_t_token h19 r e) ymX10_token (lw_V q1863 q1865 qs67 q154 q1866) rfl ckX10 rfl ⟨Nat.le_of_ble_eq_true rfl, Nat.le_of_ble_eq_true rfl⟩ rfl rfl (Nat.le_of_ble_eq_true rfl) dX10_leafRead_170 (fun r20 h21 => ?_)
                refine j_iconst (pc := 173) hX ic_1 dX10_leafRead_173 ?_
                exact j_zret (pc := 174) hX (Or.inr rfl) hr dX10_leafRead_174
              · intro j15 hj15
                refine j_iflt (pc := 149) (tgt := 156) hX rfl dX10_leafRead_149 (fun _ => ?_) (fun _ => ?_)
                · refine j_aload_n (pc := 156) hX 0 rfl dX10_leafRead_156 ?_
                  refine j_getI (pc := 157) hX fgX10_177.1 fgX10_177.2 rfl dX10_leafRead_157 ?_
                  refine j_locs [0] rfl ?_
                  exact hj15 (gI h12 0 9)
                · refine j_iload_n (pc := 152) hX 1 rfl dX10_leafRead_152 ?_
                  refine j_goto (pc := 153) (tgt := 160) hX rfl dX10_leafRead_153 ?_
                  refine j_locs [0] rfl ?_
                  exact hj15 x8
            · intro j13 hj13
              refine j_iflt (pc := 140) (tgt := 147) hX rfl dX10_leafRead_140 (fun _ => ?_) (fun _ => ?_)
              · refine j_iconst (pc := 147) hX ic_0 dX10_leafRead_147 ?_
                exact hj13 (0 : Int32)
              · refine j_iconst (pc := 143) hX ic_1 dX10_leafRead_143 ?_
                refine j_goto (pc := 144) (tgt := 148) hX rfl dX10_leafRead_144 ?_
                exact hj13 (1 : Int32)
        · intro j10 hj10
          refine j_ifge (pc := 110) (tgt := 129) hX rfl dX10_leafRead_110 (fun _ => ?_) (fun _ => ?_)
          · exact hj10 ()
          · refine j_aload_n (pc := 113) hX 0 rfl dX10_leafRead_113 ?_
            refine j_getI (pc := 114) hX fgX10_177.1 fgX10_177.2 rfl dX10_leafRead_114 ?_
            refine j_sipush (pc := 117) hX sp_9999 dX10_leafRead_117 ?_
            refine j_cle (pc := 120) (tgt := 129) hX rfl dX10_leafRead_120 (fun _ => ?_) (fun _ => ?_)
            · exact hj10 ()
            · refine j_aload_n (pc := 123) hX 0 rfl dX10_leafRead_123 ?_
              refine j_iconst (pc := 124) hX ic_2 dX10_leafRead_124 ?_
              refine j_callVI (pc := 125) (a := 0) (As := fun z => [.int (2 : Int32)]) (rest := []) hX (fun r e => m_t_wrong (2 : Int32) h7 r e) ymX10_wrong (lw_V q1892 q1894 qs74 q154 q1895) rfl ckX10 rfl ⟨Nat.le_of_ble_eq_true rfl, Nat.le_of_ble_eq_true rfl⟩ rfl rfl (Nat.le_of_ble_eq_true rfl) dX10_leafRead_125 (fun r22 h23 => ?_)
              refine j_grd fun g24 => ?_
              exact j_zret (pc := 128) hX g24 hr dX10_leafRead_128
      · intro j9 hj9
        refine j_ifge (pc := 92) (tgt := 109) hX rfl dX10_leafRead_92 (fun _ => ?_) (fun _ => ?_)
        · refine j_locs [1, 0] rfl ?_
          exact hj9 ()
        · refine j_aload_n (pc := 95) hX 1 rfl dX10_leafRead_95 ?_
          refine j_getI (pc := 96) hX fgX10_166.1 fgX10_166.2 rfl dX10_leafRead_96 ?_
          refine j_iconst (pc := 99) hX ic_3 dX10_leafRead_99 ?_
          refine j_ceq (pc := 100) (tgt := 109) hX rfl dX10_leafRead_100 (fun _ => ?_) (fun _ => ?_)
          · refine j_locs [1, 0] rfl ?_
            exact hj9 ()
          · refine j_aload_n (pc := 103) hX 1 rfl dX10_leafRead_103 ?_
            refine j_iconst (pc := 104) hX ic_1 dX10_leafRead_104 ?_
            refine j_callVI (pc := 105) (a := 0) (As := fun z => [.int (1 : Int32)]) (rest := []) hX (fun r e => m_t_wrong (1 : Int32) h7 r e) ymX10_wrong (lw_V q1892 q1894 qs74 q154 q1895) rfl ckX10 rfl ⟨Nat.le_of_ble_eq_true rfl, Nat.le_of_ble_eq_true rfl⟩ rfl rfl (Nat.le_of_ble_eq_true rfl) dX10_leafRead_105 (fun r25 h26 => ?_)
            refine j_grd fun g27 => ?_
            exact j_zret (pc := 108) hX g27 hr dX10_leafRead_108
    · intro j5 hj5
      refine j_ifeq (pc := 56) (tgt := 86) hX rfl dX10_leafRead_56 (fun _ => ?_) (fun _ => ?_)
      · exact hj5 ()
      · refine j_aload_n (pc := 59) hX 0 rfl dX10_leafRead_59 ?_
        refine j_getI (pc := 60) hX fgX10_320.1 fgX10_320.2 rfl dX10_leafRead_60 ?_
        refine j_ifeq (pc := 63) (tgt := 86) hX rfl dX10_leafRead_63 (fun _ => ?_) (fun _ => ?_)
        · exact hj5 ()
        · refine j_aload_n (pc := 66) hX 0 rfl dX10_leafRead_66 ?_
          refine j_callVI (pc := 67) (a := 0) (As := fun z => []) (rest := []) hX (fun r e => m_t_isCounted h4 r e) ymX10_isCounted (lw_V q1965 q1967 qs90 q154 q1968) rfl ckX10 rfl ⟨Nat.le_of_ble_eq_true rfl, Nat.le_of_ble_eq_true rfl⟩ rfl rfl (Nat.le_of_ble_eq_true rfl) dX10_leafRead_67 (fun r28 h29 => ?_)
          refine j_ifne (pc := 70) (tgt := 75) hX rfl dX10_leafRead_70 (fun _ => ?_) (fun _ => ?_)
          · refine j_iconst (pc := 73) hX ic_0 dX10_leafRead_73 ?_
            exact j_zret (pc := 74) hX (Or.inl rfl) hr dX10_leafRead_74
          · refine j_aload_n (pc := 75) hX 0 rfl dX10_leafRead_75 ?_
            refine j_iconst (pc := 76) hX ic_2 dX10_leafRead_76 ?_
            refine j_callVV (pc := 77) (a := 0) (As := fun z => [.int (2 : Int32)]) (rest := []) hX (fun r e => m_t_waitsFor (2 : Int32) h29 r e) ymX10_waitsFor (lw_V q1961 q1963 qs89 q154 q1964) rfl ckX10 rfl ⟨Nat.le_of_ble_eq_true rfl, Nat.le_of_ble_eq_true rfl⟩ rfl rfl (Nat.le_of_ble_eq_true rfl) dX10_leafRead_77 (fun r30 h31 => ?_)
            refine j_aload_n (pc := 80) hX 0 rfl dX10_leafRead_80 ?_
            refine j_callVV (pc := 81) (a := 0) (As := fun z => []) (rest := []) hX (fun r e => m_t_token h31 r e) ymX10_token (lw_V q1863 q1865 qs67 q154 q1866) rfl ckX10 rfl ⟨Nat.le_of_ble_eq_true rfl, Nat.le_of_ble_eq_true rfl⟩ rfl rfl (Nat.le_of_ble_eq_true rfl) dX10_leafRead_81 (fun r32 h33 => ?_)
            refine j_iconst (pc := 84) hX ic_1 dX10_leafRead_84 ?_
            exact j_zret (pc := 85) hX (Or.inr rfl) hr dX10_leafRead_85
  · refine j_aload_n (pc := 9) hX 0 rfl dX10_leafRead_9 ?_
    refine j_getI (pc := 10) hX fgX10_313.1 fgX10_313.2 rfl dX10_leafRead_10 ?_
    refine j_bipush (pc := 13) hX bp_8 dX10_leafRead_13 ?_
    refine j_cne (pc := 15) (tgt := 24) hX rfl dX10_leafRead_15 (fun _ => ?_) (fun _ => ?_)
    · refine j_aload_n (pc := 18) hX 0 rfl dX10_leafRead_18 ?_
      refine j_iconst (pc := 19) hX ic_2 dX10_leafRead_19 ?_
      refine j_callVI (pc := 20) (a := 0) (As := fun z => [.int (2 : Int32)]) (rest := []) hX (fun r e => m_t_wrong (2 : Int32) h2 r e) ymX10_wrong (lw_V q1892 q1894 qs74 q154 q1895) rfl ckX10 rfl ⟨Nat.le_of_ble_eq_true rfl, Nat.le_of_ble_eq_true rfl⟩ rfl rfl (Nat.le_of_ble_eq_true rfl) dX10_leafRead_20 (fun r34 h35 => ?_)
      refine j_grd fun g36 => ?_
      exact j_zret (pc := 23) hX g36 hr dX10_leafRead_23
    · refine j_aload_n (pc := 24) hX 0 rfl dX10_leafRead_24 ?_
      refine j_dup (pc := 25) hX rfl dX10_leafRead_25 ?_
      refine j_getI (pc := 26) hX fgX10_313.1 fgX10_313.2 rfl dX10_leafRead_26 ?_
      refine j_iconst (pc := 29) hX ic_1 dX10_leafRead_29 ?_
      refine j_iadd (pc := 30) hX dX10_leafRead_30 ?_
      refine j_putI (pc := 31) hX fwX10_313.1 fwX10_313.2 rfl dX10_leafRead_31 (fun h37 => ?_)
      refine j_aload_n (pc := 34) hX 0 rfl dX10_leafRead_34 ?_
      refine j_iconst (pc := 35) hX ic_0 dX10_leafRead_35 ?_
      refine j_callVV (pc := 36) (a := 0) (As := fun z => [.int (0 : Int32)]) (rest := []) hX (fun r e => m_t_waitsFor (0 : Int32) h37 r e) ymX10_waitsFor (lw_V q1961 q1963 qs89 q154 q1964) rfl ckX10 rfl ⟨Nat.le_of_ble_eq_true rfl, Nat.le_of_ble_eq_true rfl⟩ rfl rfl (Nat.le_of_ble_eq_true rfl) dX10_leafRead_36 (fun r38 h39 => ?_)
      refine j_aload_n (pc := 39) hX 0 rfl dX10_leafRead_39 ?_
      refine j_iconst (pc := 40) hX ic_1 dX10_leafRead_40 ?_
      refine j_putZ (pc := 41) hX (Or.inr rfl) fwX10_320.1 fwX10_320.2 rfl dX10_leafRead_41 (fun h40 => ?_)
      refine j_aload_n (pc := 44) hX 0 rfl dX10_leafRead_44 ?_
      refine j_callVV (pc := 45) (a := 0) (As := fun z => []) (rest := []) hX (fun r e => m_t_token h40 r e) ymX10_token (lw_V q1863 q1865 qs67 q154 q1866) rfl ckX10 rfl ⟨Nat.le_of_ble_eq_true rfl, Nat.le_of_ble_eq_true rfl⟩ rfl rfl (Nat.le_of_ble_eq_true rfl) dX10_leafRead_45 (fun r41 h42 => ?_)
      refine j_iconst (pc := 48) hX ic_1 dX10_leafRead_48 ?_
      exact j_zret (pc := 49) hX (Or.inr rfl) hr dX10_leafRead_49
set_option maxHeartbeats 4000000 in
set_option maxRecDepth 100000 in
theorem m_sumRead_25_w {X : CTX} {rr : Int32 × HP} (hX : okX mV X rr cX10_sumRead RX10 1 4 68) (hr : (xh X).sig.returnType = some .boolean)  (k : HP → Option (Int32 × HP)) (hk : ∀ (h : HP), jG mV X evI rr (k h) 74 [(0, .ref (xz X + 0))] [] h) : ∀ (n : Nat)  (h : HP), jG mV X evI rr (m_sumRead_25 k n  h) 25 [(0, .ref (xz X + 0))] [] h := by
  intro n
  induction n with
  | zero =>
    intro  h
    exact j_none
  | succ n ih =>
    intro  h
    rw [m_sumRead_25]
    refine j_aload_n (pc := 25) hX 0 rfl dX10_sumRead_25 ?_
    refine j_bipush (pc := 26) hX bp_59 dX10_sumRead_26 ?_
    refine j_callVI (pc := 28) (a := 0) (As := fun z => [.int (59 : Int32)]) (rest := []) hX (fun r e => m_t_isSign (59 : Int32) h r e) ymX10_isSign (lw_V q1953 q1955 qs87 q154 q1956) rfl ckX10 rfl ⟨Nat.le_of_ble_eq_true rfl, Nat.le_of_ble_eq_true rfl⟩ rfl rfl (Nat.le_of_ble_eq_true rfl) dX10_sumRead_28 (fun r6 h7 => ?_)
    refine j_jon (fun (j8 : Unit → Option (Int32 × HP)) => ∀ (_u : Unit), jG mV X evI rr (j8 ()) 48 [(0, .ref (xz X + 0))] [] h7) ?_ ?_
    · intro _
      refine j_aload_n (pc := 48) hX 0 rfl dX10_sumRead_48 ?_
      refine j_getI (pc := 49) hX fgX10_330.1 fgX10_330.2 rfl dX10_sumRead_49 ?_
      refine j_ifeq (pc := 52) (tgt := 65) hX rfl dX10_sumRead_52 (fun _ => ?_) (fun _ => ?_)
      · refine j_aload_n (pc := 65) hX 0 rfl dX10_sumRead_65 ?_
        refine j_callVI (pc := 66) (a := 0) (As := fun z => []) (rest := []) hX (fun r e => m_t_signs h7 r e) ymX10_signs (lw_V q1977 q1979 qs93 q154 q1980) rfl ckX10 rfl ⟨Nat.le_of_ble_eq_true rfl, Nat.le_of_ble_eq_true rfl⟩ rfl rfl (Nat.le_of_ble_eq_true rfl) dX10_sumRead_66 (fun r9 h10 => ?_)
        refine j_ifne (pc := 69) (tgt := 25) hX rfl dX10_sumRead_69 (fun _ => ?_) (fun _ => ?_)
        · refine j_iconst (pc := 72) hX ic_0 dX10_sumRead_72 ?_
          exact j_zret (pc := 73) hX (Or.inl rfl) hr dX10_sumRead_73
        · exact ih h10
      · refine j_aload_n (pc := 55) hX 0 rfl dX10_sumRead_55 ?_
        refine j_callVI (pc := 56) (a := 0) (As := fun z => []) (rest := []) hX (fun r e => m_t_leafRead h7 r e) ymX10_leafRead (lw_V q1957 q1959 qs88 q154 q1960) rfl ckX10 rfl ⟨Nat.le_of_ble_eq_true rfl, Nat.le_of_ble_eq_true rfl⟩ rfl rfl (Nat.le_of_ble_eq_true rfl) dX10_sumRead_56 (fun r11 h12 => ?_)
        refine j_ifeq (pc := 59) (tgt := 72) hX rfl dX10_sumRead_59 (fun _ => ?_) (fun _ => ?_)
        · refine j_iconst (pc := 72) hX ic_0 dX10_sumRead_72 ?_
          exact j_zret (pc := 73) hX (Or.inl rfl) hr dX10_sumRead_73
        · refine j_goto (pc := 62) (tgt := 25) hX rfl dX10_sumRead_62 ?_
          exact ih h12
    · intro j8 hj8
      refine j_ifeq (pc := 31) (tgt := 48) hX rfl dX10_sumRead_31 (fun _ => ?_) (fun _ => ?_)
      · exact hj8 ()
      · refine j_aload_n (pc := 34) hX 0 rfl dX10_sumRead_34 ?_
        refine j_getI (pc := 35) hX fgX10_330.1 fgX10_330.2 rfl dX10_sumRead_35 ?_
        refine j_ifne (pc := 38) (tgt := 48) hX rfl dX10_sumRead_38 (fun _ => ?_) (fun _ => ?_)
        · refine j_aload_n (pc := 41) hX 0 rfl dX10_sumRead_41 ?_
          refine j_getI (pc := 42) hX fgX10_313.1 fgX10_313.2 rfl dX10_sumRead_42 ?_
          refine j_ifle (pc := 45) (tgt := 74) hX rfl dX10_sumRead_45 (fun _ => ?_) (fun _ => ?_)
          · exact hk h7
          · exact hj8 ()
        · exact hj8 ()
set_option maxHeartbeats 4000000 in
set_option maxRecDepth 100000 in
theorem m_t_sumRead  (h : HP) (rr : Int32 × HP) (e : m_sumRead  h = some rr) : Cn mV yX10_sumRead (ws_ yX10_sumRead cX10_sumRead 1 (some .boolean)) 4 68 (fun z => [.ref (z + 0)]) h (fun z => eI z rr.1) rr.2 := by
  refine cn_of (e1 := eI) (fun z => [(0, .ref (z + 0))]) mV_ok ⟨Nat.le_refl _, Nat.le_refl _⟩ ymX10_sumRead (fun _ => rfl) (fun _ => Nat.le_of_ble_eq_true rfl) (fun X hX hr _ => ?_) e
  have hX : okX mV X rr cX10_sumRead RX10 1 4 68 := hX
  rw [m_sumRead]
  refine j_aload_n (pc := 0) hX 0 rfl dX10_sumRead_0 ?_
  refine j_iconst (pc := 1) hX ic_0 dX10_sumRead_1 ?_
  refine j_putI (pc := 2) hX fwX10_298.1 fwX10_298.2 rfl dX10_sumRead_2 (fun h1 => ?_)
  refine j_aload_n (pc := 5) hX 0 rfl dX10_sumRead_5 ?_
  refine j_iconst (pc := 6) hX ic_0 dX10_sumRead_6 ?_
  refine j_putI (pc := 7) hX fwX10_295.1 fwX10_295.2 rfl dX10_sumRead_7 (fun h2 => ?_)
  refine j_aload_n (pc := 10) hX 0 rfl dX10_sumRead_10 ?_
  refine j_iconst (pc := 11) hX ic_0 dX10_sumRead_11 ?_
  refine j_putI (pc := 12) hX fwX10_313.1 fwX10_313.2 rfl dX10_sumRead_12 (fun h3 => ?_)
  refine j_aload_n (pc := 15) hX 0 rfl dX10_sumRead_15 ?_
  refine j_iconst (pc := 16) hX ic_1 dX10_sumRead_16 ?_
  refine j_putZ (pc := 17) hX (Or.inr rfl) fwX10_330.1 fwX10_330.2 rfl dX10_sumRead_17 (fun h4 => ?_)
  refine j_aload_n (pc := 20) hX 0 rfl dX10_sumRead_20 ?_
  refine j_iconst (pc := 21) hX ic_1 dX10_sumRead_21 ?_
  refine j_putZ (pc := 22) hX (Or.inr rfl) fwX10_320.1 fwX10_320.2 rfl dX10_sumRead_22 (fun h5 => ?_)
  refine m_sumRead_25_w hX hr  _ (fun  h13 => ?_) FU h5
  refine j_aload_n (pc := 74) hX 0 rfl dX10_sumRead_74 ?_
  refine j_iconst (pc := 75) hX ic_1 dX10_sumRead_75 ?_
  refine j_callVV (pc := 76) (a := 0) (As := fun z => [.int (1 : Int32)]) (rest := []) hX (fun r e => m_t_bind (1 : Int32) h13 r e) ymX10_bind (lw_V q1981 q1983 qs94 q154 q1984) rfl ckX10 rfl ⟨Nat.le_of_ble_eq_true rfl, Nat.le_of_ble_eq_true rfl⟩ rfl rfl (Nat.le_of_ble_eq_true rfl) dX10_sumRead_76 (fun r14 h15 => ?_)
  refine j_iconst (pc := 79) hX ic_1 dX10_sumRead_79 ?_
  exact j_zret (pc := 80) hX (Or.inr rfl) hr dX10_sumRead_80
set_option maxHeartbeats 4000000 in
set_option maxRecDepth 100000 in
theorem m_t_lineRead  (h : HP) (rr : Int32 × HP) (e : m_lineRead  h = some rr) : Cn mV yX10_lineRead (ws_ yX10_lineRead cX10_lineRead 3 (some .boolean)) 6 112 (fun z => [.ref (z + 0)]) h (fun z => eI z rr.1) rr.2 := by
  refine cn_of (e1 := eI) (fun z => [(0, .ref (z + 0))]) mV_ok ⟨Nat.le_refl _, Nat.le_refl _⟩ ymX10_lineRead (fun _ => rfl) (fun _ => Nat.le_of_ble_eq_true rfl) (fun X hX hr _ => ?_) e
  have hX : okX mV X rr cX10_lineRead RX10 3 6 112 := hX
  rw [m_lineRead]
  refine j_aload_n (pc := 0) hX 0 rfl dX10_lineRead_0 ?_
  refine j_getI (pc := 1) hX fgX10_166.1 fgX10_166.2 rfl dX10_lineRead_1 ?_
  refine j_iconst (pc := 4) hX ic_1 dX10_lineRead_4 ?_
  refine j_jon (fun (j1 : Unit → Option (Int32 × HP)) => ∀ (_u : Unit), jG mV X evI rr (j1 ()) 17 [(0, .ref (xz X + 0))] [] h) ?_ ?_
  · intro _
    refine j_aload_n (pc := 17) hX 0 rfl dX10_lineRead_17 ?_
    refine j_iconst (pc := 18) hX ic_1 dX10_lineRead_18 ?_
    refine j_callVI (pc := 19) (a := 0) (As := fun z => [.int (1 : Int32)]) (rest := []) hX (fun r e => m_t_wrong (1 : Int32) h r e) ymX10_wrong (lw_V q1892 q1894 qs74 q154 q1895) rfl ckX10 rfl ⟨Nat.le_of_ble_eq_true rfl, Nat.le_of_ble_eq_true rfl⟩ rfl rfl (Nat.le_of_ble_eq_true rfl) dX10_lineRead_19 (fun r2 h3 => ?_)
    refine j_grd fun g4 => ?_
    exact j_zret (pc := 22) hX g4 hr dX10_lineRead_22
  · intro j1 hj1
    refine j_cne (pc := 5) (tgt := 17) hX rfl dX10_lineRead_5 (fun _ => ?_) (fun _ => ?_)
    · refine j_aload_n (pc := 8) hX 0 rfl dX10_lineRead_8 ?_
      refine j_getI (pc := 9) hX fgX10_177.1 fgX10_177.2 rfl dX10_lineRead_9 ?_
      refine j_bipush (pc := 12) hX bp_7 dX10_lineRead_12 ?_
      refine j_cle (pc := 14) (tgt := 23) hX rfl dX10_lineRead_14 (fun _ => ?_) (fun _ => ?_)
      · refine j_aload_n (pc := 23) hX 0 rfl dX10_lineRead_23 ?_
        refine j_getI (pc := 24) hX fgX10_177.1 fgX10_177.2 rfl dX10_lineRead_24 ?_
        refine j_jon (fun (j5 : Int32 → HP → Option (Int32 × HP)) => ∀ (x6 : Int32) (h7 : HP), jG mV X evI rr (j5 x6 h7) 219 [(0, .ref (xz X + 0)), (1, .int x6)] [] h7) ?_ ?_
        · intro x6 h7
          refine j_iload_n (pc := 219) hX 1 rfl dX10_lineRead_219 ?_
          refine j_ifne (pc := 220) (tgt := 225) hX rfl dX10_lineRead_220 (fun _ => ?_) (fun _ => ?_)
          · refine j_iconst (pc := 223) hX ic_0 dX10_lineRead_223 ?_
            exact j_zret (pc := 224) hX (Or.inl rfl) hr dX10_lineRead_224
          · refine j_aload_n (pc := 225) hX 0 rfl dX10_lineRead_225 ?_
            refine j_bipush (pc := 226) hX bp_59 dX10_lineRead_226 ?_
            refine j_callVI (pc := 228) (a := 0) (As := fun z => [.int (59 : Int32)]) (rest := []) hX (fun r e => m_t_isSign (59 : Int32) h7 r e) ymX10_isSign (lw_V q1953 q1955 qs87 q154 q1956) rfl ckX10 rfl ⟨Nat.le_of_ble_eq_true rfl, Nat.le_of_ble_eq_true rfl⟩ rfl rfl (Nat.le_of_ble_eq_true rfl) dX10_lineRead_228 (fun r8 h9 => ?_)
            refine j_ifne (pc := 231) (tgt := 240) hX rfl dX10_lineRead_231 (fun _ => ?_) (fun _ => ?_)
            · refine j_aload_n (pc := 234) hX 0 rfl dX10_lineRead_234 ?_
              refine j_iconst (pc := 235) hX ic_1 dX10_lineRead_235 ?_
              refine j_callVI (pc := 236) (a := 0) (As := fun z => [.int (1 : Int32)]) (rest := []) hX (fun r e => m_t_wrong (1 : Int32) h9 r e) ymX10_wrong (lw_V q1892 q1894 qs74 q154 q1895) rfl ckX10 rfl ⟨Nat.le_of_ble_eq_true rfl, Nat.le_of_ble_eq_true rfl⟩ rfl rfl (Nat.le_of_ble_eq_true rfl) dX10_lineRead_236 (fun r10 h11 => ?_)
              refine j_grd fun g12 => ?_
              exact j_zret (pc := 239) hX g12 hr dX10_lineRead_239
            · refine j_aload_n (pc := 240) hX 0 rfl dX10_lineRead_240 ?_
              refine j_callVV (pc := 241) (a := 0) (As := fun z => []) (rest := []) hX (fun r e => m_t_token h9 r e) ymX10_token (lw_V q1863 q1865 qs67 q154 q1866) rfl ckX10 rfl ⟨Nat.le_of_ble_eq_true rfl, Nat.le_of_ble_eq_true rfl⟩ rfl rfl (Nat.le_of_ble_eq_true rfl) dX10_lineRead_241 (fun r13 h14 => ?_)
              refine j_iconst (pc := 244) hX ic_1 dX10_lineRead_244 ?_
              exact j_zret (pc := 245) hX (Or.inr rfl) hr dX10_lineRead_245
        · intro j5 hj5
          refine j_ite (fun c15 => ?_) (fun c15 => ?_)
          · refine j_tabIn (pc := 27) (tgt := 68) hX (0) (by rw [c15]; rfl) (by decide) (by decide) rfl rfl dX10_lineRead_27 ?_
            refine j_aload_n (pc := 68) hX 0 rfl dX10_lineRead_68 ?_
            refine j_callVI (pc := 69) (a := 0) (As := fun z => []) (rest := []) hX (fun r e => m_t_factLine h r e) ymX10_factLine (lw_V q1896 q1898 qs75 q154 q1899) rfl ckX10 rfl ⟨Nat.le_of_ble_eq_true rfl, Nat.le_of_ble_eq_true rfl⟩ rfl rfl (Nat.le_of_ble_eq_true rfl) dX10_lineRead_69 (fun r16 h17 => ?_)
            refine j_istore_n (pc := 72) hX (fun x18 => [(1, .int x18), (0, .ref (xz X + 0))]) (fun _ => rfl) (Nat.le_of_ble_eq_true rfl) dX10_lineRead_72 (fun x18 => ?_)
            refine j_goto (pc := 73) (tgt := 219) hX rfl dX10_lineRead_73 ?_
            refine j_locs [1, 0] rfl ?_
            exact hj5 x18 h17
          · skip
            refine j_ite (fun c19 => ?_) (fun c19 => ?_)
            · refine j_tabIn (pc := 27) (tgt := 76) hX (1) (by rw [c19]; rfl) (by decide) (by decide) rfl rfl dX10_lineRead_27 ?_
              refine j_aload_n (pc := 76) hX 0 rfl dX10_lineRead_76 ?_
              refine j_callVI (pc := 77) (a := 0) (As := fun z => []) (rest := []) hX (fun r e => m_t_personLine h r e) ymX10_personLine (lw_V q1907 q1909 qs77 q154 q1910) rfl ckX10 rfl ⟨Nat.le_of_ble_eq_true rfl, Nat.le_of_ble_eq_true rfl⟩ rfl rfl (Nat.le_of_ble_eq_true rfl) dX10_lineRead_77 (fun r20 h21 => ?_)
              refine j_istore_n (pc := 80) hX (fun x22 => [(1, .int x22), (0, .ref (xz X + 0))]) (fun _ => rfl) (Nat.le_of_ble_eq_true rfl) dX10_lineRead_80 (fun x22 => ?_)
              refine j_goto (pc := 81) (tgt := 219) hX rfl dX10_lineRead_81 ?_
              refine j_locs [1, 0] rfl ?_
              exact hj5 x22 h21
            · skip
              refine j_ite (fun c23 => ?_) (fun c23 => ?_)
              · refine j_tabIn (pc := 27) (tgt := 84) hX (2) (by rw [c23]; rfl) (by decide) (by decide) rfl rfl dX10_lineRead_27 ?_
                refine j_aload_n (pc := 84) hX 0 rfl dX10_lineRead_84 ?_
                refine j_callVI (pc := 85) (a := 0) (As := fun z => []) (rest := []) hX (fun r e => m_t_knowsLine h r e) ymX10_knowsLine (lw_V q1918 q1920 qs79 q154 q1921) rfl ckX10 rfl ⟨Nat.le_of_ble_eq_true rfl, Nat.le_of_ble_eq_true rfl⟩ rfl rfl (Nat.le_of_ble_eq_true rfl) dX10_lineRead_85 (fun r24 h25 => ?_)
                refine j_istore_n (pc := 88) hX (fun x26 => [(1, .int x26), (0, .ref (xz X + 0))]) (fun _ => rfl) (Nat.le_of_ble_eq_true rfl) dX10_lineRead_88 (fun x26 => ?_)
                refine j_goto (pc := 89) (tgt := 219) hX rfl dX10_lineRead_89 ?_
                refine j_locs [1, 0] rfl ?_
                exact hj5 x26 h25
              · skip
                refine j_ite (fun c27 => ?_) (fun c27 => ?_)
                · refine j_tabIn (pc := 27) (tgt := 92) hX (3) (by rw [c27]; rfl) (by decide) (by decide) rfl rfl dX10_lineRead_27 ?_
                  refine j_aload_n (pc := 92) hX 0 rfl dX10_lineRead_92 ?_
                  refine j_callVI (pc := 93) (a := 0) (As := fun z => []) (rest := []) hX (fun r e => m_t_askLine h r e) ymX10_askLine (lw_V q1929 q1931 qs81 q154 q1932) rfl ckX10 rfl ⟨Nat.le_of_ble_eq_true rfl, Nat.le_of_ble_eq_true rfl⟩ rfl rfl (Nat.le_of_ble_eq_true rfl) dX10_lineRead_93 (fun r28 h29 => ?_)
                  refine j_istore_n (pc := 96) hX (fun x30 => [(1, .int x30), (0, .ref (xz X + 0))]) (fun _ => rfl) (Nat.le_of_ble_eq_true rfl) dX10_lineRead_96 (fun x30 => ?_)
                  refine j_goto (pc := 97) (tgt := 219) hX rfl dX10_lineRead_97 ?_
                  refine j_locs [1, 0] rfl ?_
                  exact hj5 x30 h29
                · skip
                  refine j_ite (fun c31 => ?_) (fun c31 => ?_)
                  · refine j_tabIn (pc := 27) (tgt := 100) hX (4) (by rw [c31]; rfl) (by decide) (by decide) rfl rfl dX10_lineRead_27 ?_
                    refine j_aload_n (pc := 100) hX 0 rfl dX10_lineRead_100 ?_
                    refine j_callVI (pc := 101) (a := 0) (As := fun z => []) (rest := []) hX (fun r e => m_t_talkLine h r e) ymX10_talkLine (lw_V q1941 q1943 qs84 q154 q1944) rfl ckX10 rfl ⟨Nat.le_of_ble_eq_true rfl, Nat.le_of_ble_eq_true rfl⟩ rfl rfl (Nat.le_of_ble_eq_true rfl) dX10_lineRead_101 (fun r32 h33 => ?_)
                    refine j_istore_n (pc := 104) hX (fun x34 => [(1, .int x34), (0, .ref (xz X + 0))]) (fun _ => rfl) (Nat.le_of_ble_eq_true rfl) dX10_lineRead_104 (fun x34 => ?_)
                    refine j_goto (pc := 105) (tgt := 219) hX rfl dX10_lineRead_105 ?_
                    refine j_locs [1, 0] rfl ?_
                    exact hj5 x34 h33
                  · skip
                    refine j_ite (fun c35 => ?_) (fun c35 => ?_)
                    · refine j_tabIn (pc := 27) (tgt := 108) hX (5) (by rw [c35]; rfl) (by decide) (by decide) rfl rfl dX10_lineRead_27 ?_
                      refine j_aload_n (pc := 108) hX 0 rfl dX10_lineRead_108 ?_
                      refine j_iconst (pc := 109) hX ic_0 dX10_lineRead_109 ?_
                      refine j_bipush (pc := 110) hX bp_99 dX10_lineRead_110 ?_
                      refine j_callVI (pc := 112) (a := 0) (As := fun z => [.int (0 : Int32), .int (99 : Int32)]) (rest := []) hX (fun r e => m_t_onceLine (0 : Int32) (99 : Int32) h r e) ymX10_onceLine (lw_V q1945 q1947 qs85 q154 q1948) rfl ckX10 rfl ⟨Nat.le_of_ble_eq_true rfl, Nat.le_of_ble_eq_true rfl⟩ rfl rfl (Nat.le_of_ble_eq_true rfl) dX10_lineRead_112 (fun r36 h37 => ?_)
                      refine j_istore_n (pc := 115) hX (fun x38 => [(1, .int x38), (0, .ref (xz X + 0))]) (fun _ => rfl) (Nat.le_of_ble_eq_true rfl) dX10_lineRead_115 (fun x38 => ?_)
                      refine j_goto (pc := 116) (tgt := 219) hX rfl dX10_lineRead_116 ?_
                      refine j_locs [1, 0] rfl ?_
                      exact hj5 x38 h37
                    · skip
                      refine j_ite (fun c39 => ?_) (fun c39 => ?_)
                      · refine j_tabIn (pc := 27) (tgt := 119) hX (6) (by rw [c39]; rfl) (by decide) (by decide) rfl rfl dX10_lineRead_27 ?_
                        refine j_aload_n (pc := 119) hX 0 rfl dX10_lineRead_119 ?_
                        refine j_iconst (pc := 120) hX ic_1 dX10_lineRead_120 ?_
                        refine j_ldc (pc := 121) hX q1883 dX10_lineRead_121 ?_
                        refine j_callVI (pc := 123) (a := 0) (As := fun z => [.int (1 : Int32), .int (99999 : Int32)]) (rest := []) hX (fun r e => m_t_onceLine (1 : Int32) (99999 : Int32) h r e) ymX10_onceLine (lw_V q1945 q1947 qs85 q154 q1948) rfl ckX10 rfl ⟨Nat.le_of_ble_eq_true rfl, Nat.le_of_ble_eq_true rfl⟩ rfl rfl (Nat.le_of_ble_eq_true rfl) dX10_lineRead_123 (fun r40 h41 => ?_)
                        refine j_istore_n (pc := 126) hX (fun x42 => [(1, .int x42), (0, .ref (xz X + 0))]) (fun _ => rfl) (Nat.le_of_ble_eq_true rfl) dX10_lineRead_126 (fun x42 => ?_)
                        refine j_goto (pc := 127) (tgt := 219) hX rfl dX10_lineRead_127 ?_
                        refine j_locs [1, 0] rfl ?_
                        exact hj5 x42 h41
                      · skip
                        refine j_tabD (pc := 27) (tgt := 130) hX (fun n hn h1 h2 => ?_) rfl dX10_lineRead_27 ?_
                        · rcases (show n = 0 ∨ n = 1 ∨ n = 2 ∨ n = 3 ∨ n = 4 ∨ n = 5 ∨ n = 6 by omega) with rfl | rfl | rfl | rfl | rfl | rfl | rfl
                          · exact absurd hn (lv_neT c15 rfl)
                          · exact absurd hn (lv_neT c19 rfl)
                          · exact absurd hn (lv_neT c23 rfl)
                          · exact absurd hn (lv_neT c27 rfl)
                          · exact absurd hn (lv_neT c31 rfl)
                          · exact absurd hn (lv_neT c35 rfl)
                          · exact absurd hn (lv_neT c39 rfl)
                        · refine j_aload_n (pc := 130) hX 0 rfl dX10_lineRead_130 ?_
                          refine j_callVV (pc := 131) (a := 0) (As := fun z => []) (rest := []) hX (fun r e => m_t_token h r e) ymX10_token (lw_V q1863 q1865 qs67 q154 q1866) rfl ckX10 rfl ⟨Nat.le_of_ble_eq_true rfl, Nat.le_of_ble_eq_true rfl⟩ rfl rfl (Nat.le_of_ble_eq_true rfl) dX10_lineRead_131 (fun r43 h44 => ?_)
                          refine j_aload_n (pc := 134) hX 0 rfl dX10_lineRead_134 ?_
                          refine j_bipush (pc := 135) hX bp_13 dX10_lineRead_135 ?_
                          refine j_callVI (pc := 137) (a := 0) (As := fun z => [.int (13 : Int32)]) (rest := []) hX (fun r e => m_t_isKey (13 : Int32) h44 r e) ymX10_isKey (lw_V q1937 q1939 qs83 q154 q1940) rfl ckX10 rfl ⟨Nat.le_of_ble_eq_true rfl, Nat.le_of_ble_eq_true rfl⟩ rfl rfl (Nat.le_of_ble_eq_true rfl) dX10_lineRead_137 (fun r45 h46 => ?_)
                          refine j_jon (fun (j47 : HP → Option (Int32 × HP)) => ∀ (h48 : HP), jG mV X evI rr (j47 h48) 158 [(0, .ref (xz X + 0))] [] h48) ?_ ?_
                          · intro h48
                            refine j_iconst (pc := 158) hX ic_2 dX10_lineRead_158 ?_
                            refine j_aload_n (pc := 159) hX 0 rfl dX10_lineRead_159 ?_
                            refine j_getI (pc := 160) hX fgX10_177.1 fgX10_177.2 rfl dX10_lineRead_160 ?_
                            refine j_iadd (pc := 163) hX dX10_lineRead_163 ?_
                            refine j_bipush (pc := 164) hX bp_13 dX10_lineRead_164 ?_
                            refine j_isub (pc := 166) hX dX10_lineRead_166 ?_
                            refine j_istore_n (pc := 167) hX (fun x49 => [(2, .int x49), (0, .ref (xz X + 0))]) (fun _ => rfl) (Nat.le_of_ble_eq_true rfl) dX10_lineRead_167 (fun x49 => ?_)
                            refine j_aload_n (pc := 168) hX 1 rfl dX10_lineRead_168 ?_
                            refine j_getR (pc := 169) hX fgX10_69.1 fgX10_69.2 rfl rfl dX10_lineRead_169 ?_
                            refine j_iload_n (pc := 172) hX 0 rfl dX10_lineRead_172 ?_
                            refine j_zald (pc := 173) (n := 4) hX rfl dX10_lineRead_173 (fun _ => ?_)
                            refine j_ifeq (pc := 174) (tgt := 183) hX rfl dX10_lineRead_174 (fun _ => ?_) (fun _ => ?_)
                            · refine j_aload_n (pc := 183) hX 1 rfl dX10_lineRead_183 ?_
                              refine j_getR (pc := 184) hX fgX10_69.1 fgX10_69.2 rfl rfl dX10_lineRead_184 ?_
                              refine j_iload_n (pc := 187) hX 0 rfl dX10_lineRead_187 ?_
                              refine j_iconst (pc := 188) hX ic_1 dX10_lineRead_188 ?_
                              refine j_zast (pc := 189) (n := 4) hX (Or.inr rfl) rfl dX10_lineRead_189 (fun _ h50 => ?_)
                              refine j_aload_n (pc := 190) hX 1 rfl dX10_lineRead_190 ?_
                              refine j_callVV (pc := 191) (a := 0) (As := fun z => []) (rest := []) hX (fun r e => m_t_token h50 r e) ymX10_token (lw_V q1863 q1865 qs67 q154 q1866) rfl ckX10 rfl ⟨Nat.le_of_ble_eq_true rfl, Nat.le_of_ble_eq_true rfl⟩ rfl rfl (Nat.le_of_ble_eq_true rfl) dX10_lineRead_191 (fun r51 h52 => ?_)
                              refine j_aload_n (pc := 194) hX 1 rfl dX10_lineRead_194 ?_
                              refine j_getR (pc := 195) hX fgX10_72.1 fgX10_72.2 rfl rfl dX10_lineRead_195 ?_
                              refine j_iload_n (pc := 198) hX 0 rfl dX10_lineRead_198 ?_
                              refine j_aload_n (pc := 199) hX 1 rfl dX10_lineRead_199 ?_
                              refine j_getI (pc := 200) hX fgX10_222.1 fgX10_222.2 rfl dX10_lineRead_200 ?_
                              refine j_iast (pc := 203) (n := 4) hX rfl dX10_lineRead_203 (fun _ h53 => ?_)
                              refine j_aload_n (pc := 204) hX 1 rfl dX10_lineRead_204 ?_
                              refine j_callVI (pc := 205) (a := 0) (As := fun z => []) (rest := []) hX (fun r e => m_t_sumRead h53 r e) ymX10_sumRead (lw_V q1949 q1951 qs86 q154 q1952) rfl ckX10 rfl ⟨Nat.le_of_ble_eq_true rfl, Nat.le_of_ble_eq_true rfl⟩ rfl rfl (Nat.le_of_ble_eq_true rfl) dX10_lineRead_205 (fun r54 h55 => ?_)
                              refine j_istore_n (pc := 208) hX (fun x56 => [(1, .int x56), (2, .int x49), (0, .ref (xz X + 0))]) (fun _ => rfl) (Nat.le_of_ble_eq_true rfl) dX10_lineRead_208 (fun x56 => ?_)
                              refine j_aload_n (pc := 209) hX 2 rfl dX10_lineRead_209 ?_
                              refine j_getR (pc := 210) hX fgX10_75.1 fgX10_75.2 rfl rfl dX10_lineRead_210 ?_
                              refine j_iload_n (pc := 213) hX 1 rfl dX10_lineRead_213 ?_
                              refine j_aload_n (pc := 214) hX 2 rfl dX10_lineRead_214 ?_
                              refine j_getI (pc := 215) hX fgX10_222.1 fgX10_222.2 rfl dX10_lineRead_215 ?_
                              refine j_iast (pc := 218) (n := 4) hX rfl dX10_lineRead_218 (fun _ h57 => ?_)
                              refine j_locs [2, 0] rfl ?_
                              exact hj5 x56 h57
                            · refine j_aload_n (pc := 177) hX 1 rfl dX10_lineRead_177 ?_
                              refine j_iconst (pc := 178) hX ic_3 dX10_lineRead_178 ?_
                              refine j_callVI (pc := 179) (a := 0) (As := fun z => [.int (3 : Int32)]) (rest := []) hX (fun r e => m_t_wrong (3 : Int32) h48 r e) ymX10_wrong (lw_V q1892 q1894 qs74 q154 q1895) rfl ckX10 rfl ⟨Nat.le_of_ble_eq_true rfl, Nat.le_of_ble_eq_true rfl⟩ rfl rfl (Nat.le_of_ble_eq_true rfl) dX10_lineRead_179 (fun r58 h59 => ?_)
                              refine j_grd fun g60 => ?_
                              exact j_zret (pc := 182) hX g60 hr dX10_lineRead_182
                          · intro j47 hj47
                            refine j_ifne (pc := 140) (tgt := 158) hX rfl dX10_lineRead_140 (fun _ => ?_) (fun _ => ?_)
                            · refine j_aload_n (pc := 143) hX 0 rfl dX10_lineRead_143 ?_
                              refine j_bipush (pc := 144) hX bp_14 dX10_lineRead_144 ?_
                              refine j_callVI (pc := 146) (a := 0) (As := fun z => [.int (14 : Int32)]) (rest := []) hX (fun r e => m_t_isKey (14 : Int32) h46 r e) ymX10_isKey (lw_V q1937 q1939 qs83 q154 q1940) rfl ckX10 rfl ⟨Nat.le_of_ble_eq_true rfl, Nat.le_of_ble_eq_true rfl⟩ rfl rfl (Nat.le_of_ble_eq_true rfl) dX10_lineRead_146 (fun r61 h62 => ?_)
                              refine j_ifne (pc := 149) (tgt := 158) hX rfl dX10_lineRead_149 (fun _ => ?_) (fun _ => ?_)
                              · refine j_aload_n (pc := 152) hX 0 rfl dX10_lineRead_152 ?_
                                refine j_iconst (pc := 153) hX ic_1 dX10_lineRead_153 ?_
                                refine j_callVI (pc := 154) (a := 0) (As := fun z => [.int (1 : Int32)]) (rest := []) hX (fun r e => m_t_wrong (1 : Int32) h62 r e) ymX10_wrong (lw_V q1892 q1894 qs74 q154 q1895) rfl ckX10 rfl ⟨Nat.le_of_ble_eq_true rfl, Nat.le_of_ble_eq_true rfl⟩ rfl rfl (Nat.le_of_ble_eq_true rfl) dX10_lineRead_154 (fun r63 h64 => ?_)
                                refine j_grd fun g65 => ?_
                                exact j_zret (pc := 157) hX g65 hr dX10_lineRead_157
                              · exact hj47 h62
                            · exact hj47 h46
      · exact hj1 ()
    · exact hj1 ()
set_option maxHeartbeats 4000000 in
set_option maxRecDepth 100000 in
theorem m_text_55_w {X : CTX} {rr : Int32 × HP} (hX : okX mV X rr cX10_text RX10 3 7 134) (hr : (xh X).sig.returnType = some .int)  (k : Int32 → HP → Option (Int32 × HP)) (hk : ∀ (v2 : Int32) (h : HP), jG mV X evI rr (k v2 h) 77 [(0, .ref (xz X + 0)), (2, .int v2)] [] h) : ∀ (n : Nat) (v2 : Int32) (h : HP), jG mV X evI rr (m_text_55 k n v2 h) 55 [(0, .ref (xz X + 0)), (2, .int v2)] [] h := by
  intro n
  induction n with
  | zero =>
    intro v2 h
    exact j_none
  | succ n ih =>
    intro v2 h
    rw [m_text_55]
    refine j_aload_n (pc := 55) hX 0 rfl dX10_text_55 ?_
    refine j_getI (pc := 56) hX fgX10_166.1 fgX10_166.2 rfl dX10_text_56 ?_
    refine j_ifeq (pc := 59) (tgt := 77) hX rfl dX10_text_59 (fun _ => ?_) (fun _ => ?_)
    · exact hk v2 h
    · refine j_aload_n (pc := 62) hX 0 rfl dX10_text_62 ?_
      refine j_callVI (pc := 63) (a := 0) (As := fun z => []) (rest := []) hX (fun r e => m_t_lineRead h r e) ymX10_lineRead (lw_V q1888 q1890 qs73 q154 q1891) rfl ckX10 rfl ⟨Nat.le_of_ble_eq_true rfl, Nat.le_of_ble_eq_true rfl⟩ rfl rfl (Nat.le_of_ble_eq_true rfl) dX10_text_63 (fun r12 h13 => ?_)
      refine j_ifne (pc := 66) (tgt := 71) hX rfl dX10_text_66 (fun _ => ?_) (fun _ => ?_)
      · refine j_iconst (pc := 69) hX ic_m1 dX10_text_69 ?_
        exact j_iret (pc := 70) hX hr dX10_text_70
      · refine j_iinc (pc := 71) hX 1 rfl (1 : Int32) ic_1 (fun x14 => [(2, .int x14), (0, .ref (xz X + 0))]) (fun _ => rfl) (Nat.le_of_ble_eq_true rfl) dX10_text_71 (fun x14 => ?_)
        refine j_goto (pc := 74) (tgt := 55) hX rfl dX10_text_74 ?_
        refine j_locs [1, 0] rfl ?_
        exact ih x14 h13
