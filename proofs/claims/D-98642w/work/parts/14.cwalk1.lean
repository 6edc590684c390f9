/-! the component: walks -/
set_option maxHeartbeats 4000000 in
set_option maxRecDepth 100000 in
theorem cR_next_75_w {X : CTX} {rr : Unit × HP}  (hX : okX cV X rr cX2_next RX2 1 6 112) (hr : (xh X).sig.returnType = none)  (k : HP → Option (Unit × HP)) (hk : ∀  (h : HP), jG cV X evV rr (k  h) 105 [(0, .ref (xz X + 2))] [] h) : ∀ (n : Nat)  (h : HP), jG cV X evV rr (cR_next_75 k n  h) 75 [(0, .ref (xz X + 2))] [] h := by
  intro n
  induction n with
  | zero =>
    intro  h
    exact j_none
  | succ n ih =>
    intro  h
    rw [cR_next_75]
    refine j_aload_n (pc := 75) hX 0 rfl dX2_next_75 ?_
    refine j_callV (pc := 76) (e1 := eI) (a := 2) (As := fun z => []) (rest := []) hX (fun r e => cR_here_t h r e) ymX2_here (lw_V q540 q542 qs3 q141 q543) rfl ckX2 rfl ⟨Nat.le_of_ble_eq_true rfl, Nat.le_of_ble_eq_true rfl⟩ rfl rfl (Nat.le_of_ble_eq_true rfl) dX2_next_76 (fun r49 h50 => ?_)
    refine j_i2l (pc := 79) hX dX2_next_79 ?_
    refine j_ldc2 (pc := 80) hX q544 dX2_next_80 ?_
    refine j_ldc2 (pc := 83) hX q545 dX2_next_83 ?_
    refine j_callSN (pc := 86) (e1 := eI) (As := fun z => [.long (r49).toInt64, .long (97 : Int64), .long (122 : Int64)]) (rest := []) hX (fun r e => cA_in_t (r49).toInt64 (97 : Int64) (122 : Int64) h50 r e) ymX1_in (List.mem_of_getElem? (i := 15) rfl) q528 q140 q529 ⟨Nat.le_of_ble_eq_true rfl, Nat.le_of_ble_eq_true rfl⟩ rfl rfl (Nat.le_of_ble_eq_true rfl) dX2_next_86 (fun r51 h52 => ?_)
    refine j_ifeq (pc := 89) (tgt := 105) hX rfl dX2_next_89 (fun _ => ?_) (fun _ => ?_)
    · exact hk h52
    · refine j_aload_n (pc := 92) hX 0 rfl dX2_next_92 ?_
      refine j_dup (pc := 93) hX rfl dX2_next_93 ?_
      refine c_getI (pc := 94) hX fgX2_15_X2.1 fgX2_15_X2.2 rfl dX2_next_94 ?_
      refine j_iconst (pc := 97) hX ic_1 dX2_next_97 ?_
      refine j_iadd (pc := 98) hX dX2_next_98 ?_
      refine c_putI (pc := 99) hX fwX2_15_X2.1 fwX2_15_X2.2 rfl dX2_next_99 (fun h53 q54 q55 => ?_)
      refine j_goto (pc := 102) (tgt := 75) hX rfl dX2_next_102 ?_
      exact ih h53
set_option maxHeartbeats 4000000 in
set_option maxRecDepth 100000 in
theorem cR_next_t    (h : HP) (rr : Unit × HP) (e : cR_next  h = some rr) : Cn cV yX2_next (ws_ yX2_next cX2_next 1 (none)) 6 112 (fun z => [.ref (z + 2)]) h (fun z => eV z rr.1) rr.2 := by
  refine cn_of (e1 := eV) (fun z => [(0, .ref (z + 2))]) cV_ok (cR_next_m  h _ e) ymX2_next (fun _ => rfl) (fun _ => Nat.le_of_ble_eq_true rfl) (fun X hX hr hnm => ?_) e
  have hX : okX cV X rr cX2_next RX2 1 6 112 := hX
  rw [cR_next]
  refine cR_next_0_w hX hr  _ (fun  h10 => ?_) FU h
  refine j_aload_n (pc := 31) hX 0 rfl dX2_next_31 ?_
  refine j_aload_n (pc := 32) hX 0 rfl dX2_next_32 ?_
  refine c_getI (pc := 33) hX fgX2_15_X2.1 fgX2_15_X2.2 rfl dX2_next_33 ?_
  refine c_putI (pc := 36) hX fwX2_30_X2.1 fwX2_30_X2.2 rfl dX2_next_36 (fun h11 q12 q13 => ?_)
  refine j_aload_n (pc := 39) hX 0 rfl dX2_next_39 ?_
  refine c_getI (pc := 40) hX fgX2_15_X2.1 fgX2_15_X2.2 rfl dX2_next_40 ?_
  refine j_aload_n (pc := 43) hX 0 rfl dX2_next_43 ?_
  refine c_getI (pc := 44) hX fgX2_19_X2.1 fgX2_19_X2.2 rfl dX2_next_44 ?_
  refine j_cne (pc := 47) (tgt := 58) hX rfl dX2_next_47 (fun _ => ?_) (fun _ => ?_)
  · refine j_aload_n (pc := 50) hX 0 rfl dX2_next_50 ?_
    refine j_iconst (pc := 51) hX ic_4 dX2_next_51 ?_
    refine c_putI (pc := 52) hX fwX2_33_X2.1 fwX2_33_X2.2 rfl dX2_next_52 (fun h14 q15 q16 => ?_)
    refine j_goto (pc := 55) (tgt := 259) hX rfl dX2_next_55 ?_
    exact j_vret (pc := 259) hX hr dX2_next_259
  · refine j_aload_n (pc := 58) hX 0 rfl dX2_next_58 ?_
    refine j_callV (pc := 59) (e1 := eI) (a := 2) (As := fun z => []) (rest := []) hX (fun r e => cR_here_t h11 r e) ymX2_here (lw_V q540 q542 qs3 q141 q543) rfl ckX2 rfl ⟨Nat.le_of_ble_eq_true rfl, Nat.le_of_ble_eq_true rfl⟩ rfl rfl (Nat.le_of_ble_eq_true rfl) dX2_next_59 (fun r17 h18 => ?_)
    refine j_i2l (pc := 62) hX dX2_next_62 ?_
    refine j_ldc2 (pc := 63) hX q544 dX2_next_63 ?_
    refine j_ldc2 (pc := 66) hX q545 dX2_next_66 ?_
    refine j_callSN (pc := 69) (e1 := eI) (As := fun z => [.long (r17).toInt64, .long (97 : Int64), .long (122 : Int64)]) (rest := []) hX (fun r e => cA_in_t (r17).toInt64 (97 : Int64) (122 : Int64) h18 r e) ymX1_in (List.mem_of_getElem? (i := 15) rfl) q528 q140 q529 ⟨Nat.le_of_ble_eq_true rfl, Nat.le_of_ble_eq_true rfl⟩ rfl rfl (Nat.le_of_ble_eq_true rfl) dX2_next_69 (fun r19 h20 => ?_)
    refine j_ifeq (pc := 72) (tgt := 163) hX rfl dX2_next_72 (fun _ => ?_) (fun _ => ?_)
    · refine j_aload_n (pc := 163) hX 0 rfl dX2_next_163 ?_
      refine j_callV (pc := 164) (e1 := eI) (a := 2) (As := fun z => []) (rest := []) hX (fun r e => cR_here_t h20 r e) ymX2_here (lw_V q540 q542 qs3 q141 q543) rfl ckX2 rfl ⟨Nat.le_of_ble_eq_true rfl, Nat.le_of_ble_eq_true rfl⟩ rfl rfl (Nat.le_of_ble_eq_true rfl) dX2_next_164 (fun r21 h22 => ?_)
      refine j_i2l (pc := 167) hX dX2_next_167 ?_
      refine j_ldc2 (pc := 168) hX q603 dX2_next_168 ?_
      refine j_ldc2 (pc := 171) hX q604 dX2_next_171 ?_
      refine j_callSN (pc := 174) (e1 := eI) (As := fun z => [.long (r21).toInt64, .long (48 : Int64), .long (57 : Int64)]) (rest := []) hX (fun r e => cA_in_t (r21).toInt64 (48 : Int64) (57 : Int64) h22 r e) ymX1_in (List.mem_of_getElem? (i := 15) rfl) q528 q140 q529 ⟨Nat.le_of_ble_eq_true rfl, Nat.le_of_ble_eq_true rfl⟩ rfl rfl (Nat.le_of_ble_eq_true rfl) dX2_next_174 (fun r23 h24 => ?_)
      refine j_ifeq (pc := 177) (tgt := 255) hX rfl dX2_next_177 (fun _ => ?_) (fun _ => ?_)
      · refine j_aload_n (pc := 255) hX 0 rfl dX2_next_255 ?_
        refine j_callV (pc := 256) (e1 := eV) (a := 2) (As := fun z => []) (rest := []) hX (fun r e => cR_sign_t h24 r e) ymX2_sign (lw_V q606 q608 qs6 q141 q609) rfl ckX2 rfl ⟨Nat.le_of_ble_eq_true rfl, Nat.le_of_ble_eq_true rfl⟩ rfl rfl (Nat.le_of_ble_eq_true rfl) dX2_next_256 (fun r25 h26 => ?_)
        exact j_vret (pc := 259) hX hr dX2_next_259
      · refine j_aload_n (pc := 180) hX 0 rfl dX2_next_180 ?_
        refine j_iconst (pc := 181) hX ic_2 dX2_next_181 ?_
        refine c_putI (pc := 182) hX fwX2_33_X2.1 fwX2_33_X2.2 rfl dX2_next_182 (fun h27 q28 q29 => ?_)
        refine j_aload_n (pc := 185) hX 0 rfl dX2_next_185 ?_
        refine j_iconst (pc := 186) hX ic_0 dX2_next_186 ?_
        refine c_putI (pc := 187) hX fwX2_47_X2.1 fwX2_47_X2.2 rfl dX2_next_187 (fun h30 q31 q32 => ?_)
        refine cR_next_190_w hX hr  _ (fun  h48 => ?_) FU h30
        exact j_vret (pc := 259) hX hr dX2_next_259
    · refine cR_next_75_w hX hr  _ (fun  h56 => ?_) FU h20
      refine j_aload_n (pc := 105) hX 0 rfl dX2_next_105 ?_
      refine j_aload_n (pc := 106) hX 0 rfl dX2_next_106 ?_
      refine j_callV (pc := 107) (e1 := eI) (a := 2) (As := fun z => []) (rest := [.ref (xz X + 2)]) hX (fun r e => cR_word_t h56 r e) ymX2_word (lw_V q547 q549 qs4 q141 q550) rfl ckX2 rfl ⟨Nat.le_of_ble_eq_true rfl, Nat.le_of_ble_eq_true rfl⟩ rfl rfl (Nat.le_of_ble_eq_true rfl) dX2_next_107 (fun r57 h58 => ?_)
      refine c_putI (pc := 110) hX fwX2_47_X2.1 fwX2_47_X2.2 rfl dX2_next_110 (fun h59 q60 q61 => ?_)
      refine j_aload_n (pc := 113) hX 0 rfl dX2_next_113 ?_
      refine j_aload_n (pc := 114) hX 0 rfl dX2_next_114 ?_
      refine c_getI (pc := 115) hX fgX2_47_X2.1 fgX2_47_X2.2 rfl dX2_next_115 ?_
      refine j_iconst (pc := 118) hX ic_m1 dX2_next_118 ?_
      refine j_jon (fun (j62 : Int32 → Option (Unit × HP)) => ∀ (s63 : Int32), jG cV X evV rr (j62 s63) 145 [(0, .ref (xz X + 2))] [.int s63, .ref (xz X + 2)] h59) ?_ ?_
      · intro s63
        refine c_putI (pc := 145) hX fwX2_33_X2.1 fwX2_33_X2.2 rfl dX2_next_145 (fun h64 q65 q66 => ?_)
        refine j_aload_n (pc := 148) hX 0 rfl dX2_next_148 ?_
        refine c_getI (pc := 149) hX fgX2_33_X2.1 fgX2_33_X2.2 rfl dX2_next_149 ?_
        refine j_iconst (pc := 152) hX ic_1 dX2_next_152 ?_
        refine j_cne (pc := 153) (tgt := 259) hX rfl dX2_next_153 (fun _ => ?_) (fun _ => ?_)
        · refine j_aload_n (pc := 156) hX 0 rfl dX2_next_156 ?_
          refine j_callV (pc := 157) (e1 := eV) (a := 2) (As := fun z => []) (rest := []) hX (fun r e => cR_name_t h64 r e) ymX2_name (lw_V q599 q601 qs5 q141 q602) rfl ckX2 rfl ⟨Nat.le_of_ble_eq_true rfl, Nat.le_of_ble_eq_true rfl⟩ rfl rfl (Nat.le_of_ble_eq_true rfl) dX2_next_157 (fun r67 h68 => ?_)
          refine j_goto (pc := 160) (tgt := 259) hX rfl dX2_next_160 ?_
          exact j_vret (pc := 259) hX hr dX2_next_259
        · exact j_vret (pc := 259) hX hr dX2_next_259
      · intro j62 hj62
        refine j_ceq (pc := 119) (tgt := 126) hX rfl dX2_next_119 (fun _ => ?_) (fun _ => ?_)
        · refine j_aload_n (pc := 126) hX 0 rfl dX2_next_126 ?_
          refine c_getI (pc := 127) hX fgX2_15_X2.1 fgX2_15_X2.2 rfl dX2_next_127 ?_
          refine j_aload_n (pc := 130) hX 0 rfl dX2_next_130 ?_
          refine c_getI (pc := 131) hX fgX2_30_X2.1 fgX2_30_X2.2 rfl dX2_next_131 ?_
          refine j_isub (pc := 134) hX dX2_next_134 ?_
          refine j_bipush (pc := 135) hX bp_6 dX2_next_135 ?_
          refine j_cle (pc := 137) (tgt := 144) hX rfl dX2_next_137 (fun _ => ?_) (fun _ => ?_)
          · refine j_iconst (pc := 144) hX ic_1 dX2_next_144 ?_
            exact hj62 (1 : Int32)
          · refine j_iconst (pc := 140) hX ic_5 dX2_next_140 ?_
            refine j_goto (pc := 141) (tgt := 145) hX rfl dX2_next_141 ?_
            exact hj62 (5 : Int32)
        · refine j_iconst (pc := 122) hX ic_0 dX2_next_122 ?_
          refine j_goto (pc := 123) (tgt := 145) hX rfl dX2_next_123 ?_
          exact hj62 (0 : Int32)
set_option maxHeartbeats 4000000 in
set_option maxRecDepth 100000 in
theorem cR_isWord_t   (a1 : Int32) (a2 : Int32) (h : HP) (rr : Int32 × HP) (e : cR_isWord a1 a2 h = some rr) : Cn cV yX2_isWord (ws_ yX2_isWord cX2_isWord 3 (some .boolean)) 2 25 (fun z => [.ref (z + 2), .int a1, .int a2]) h (fun z => eI z rr.1) rr.2 := by
  refine cn_of (e1 := eI) (fun z => [(0, .ref (z + 2)), (1, .int a1), (2, .int a2)]) cV_ok (cR_isWord_m a1 a2 h _ e) ymX2_isWord (fun _ => rfl) (fun _ => Nat.le_of_ble_eq_true rfl) (fun X hX hr hnm => ?_) e
  have hX : okX cV X rr cX2_isWord RX2 3 2 25 := hX
  rw [cR_isWord]
  refine j_aload_n (pc := 0) hX 0 rfl dX2_isWord_0 ?_
  refine c_getI (pc := 1) hX fgX2_33_X2.1 fgX2_33_X2.2 rfl dX2_isWord_1 ?_
  refine j_ifne (pc := 4) (tgt := 26) hX rfl dX2_isWord_4 (fun _ => ?_) (fun _ => ?_)
  · refine j_aload_n (pc := 7) hX 0 rfl dX2_isWord_7 ?_
    refine c_getI (pc := 8) hX fgX2_47_X2.1 fgX2_47_X2.2 rfl dX2_isWord_8 ?_
    refine j_i2l (pc := 11) hX dX2_isWord_11 ?_
    refine j_iload_n (pc := 12) hX 1 rfl dX2_isWord_12 ?_
    refine j_i2l (pc := 13) hX dX2_isWord_13 ?_
    refine j_iload_n (pc := 14) hX 2 rfl dX2_isWord_14 ?_
    refine j_i2l (pc := 15) hX dX2_isWord_15 ?_
    refine j_callSN (pc := 16) (e1 := eI) (As := fun z => [.long ((gI h 2 4)).toInt64, .long (a1).toInt64, .long (a2).toInt64]) (rest := []) hX (fun r e => cA_in_t ((gI h 2 4)).toInt64 (a1).toInt64 (a2).toInt64 h r e) ymX1_in (List.mem_of_getElem? (i := 15) rfl) q528 q140 q529 ⟨Nat.le_of_ble_eq_true rfl, Nat.le_of_ble_eq_true rfl⟩ rfl rfl (Nat.le_of_ble_eq_true rfl) dX2_isWord_16 (fun r1 h2 => ?_)
    refine j_ifeq (pc := 19) (tgt := 26) hX rfl dX2_isWord_19 (fun _ => ?_) (fun _ => ?_)
    · refine j_iconst (pc := 26) hX ic_0 dX2_isWord_26 ?_
      exact j_zret (pc := 27) hX (Or.inl rfl) hr dX2_isWord_27
    · refine j_iconst (pc := 22) hX ic_1 dX2_isWord_22 ?_
      refine j_goto (pc := 23) (tgt := 27) hX rfl dX2_isWord_23 ?_
      exact j_zret (pc := 27) hX (Or.inr rfl) hr dX2_isWord_27
  · refine j_iconst (pc := 26) hX ic_0 dX2_isWord_26 ?_
    exact j_zret (pc := 27) hX (Or.inl rfl) hr dX2_isWord_27
set_option maxHeartbeats 4000000 in
set_option maxRecDepth 100000 in
theorem kX11_init_t   (o : Nat) (a1 : Int32) (a2 : Int32) (h : HP) (rr : Unit × HP) (e : kX11_init o a1 a2 h = some rr) : Cn cV yX11_init (ws_ yX11_init cX11_init 3 (none)) 3 60 (fun z => [.ref (z + o), .int a1, .int a2]) h (fun z => eV z rr.1) rr.2 := by
  refine cn_of (e1 := eV) (fun z => [(0, .ref (z + o)), (1, .int a1), (2, .int a2)]) cV_ok (kX11_init_m o a1 a2 h _ e) ymX11_init (fun _ => rfl) (fun _ => Nat.le_of_ble_eq_true rfl) (fun X hX hr hnm => ?_) e
  have hX : okX cV X rr cX11_init RX11 3 3 60 := hX
  rw [kX11_init]
  refine j_aload_n (pc := 0) hX 0 rfl dX11_init_0 ?_
  refine j_null (pc := 1) hX dX11_init_1 ?_
  refine j_null (pc := 2) hX dX11_init_2 ?_
  refine j_iconst (pc := 3) hX ic_0 dX11_init_3 ?_
  refine j_iconst (pc := 4) hX ic_0 dX11_init_4 ?_
  refine j_callI (pc := 5) (e1 := eV) (a := o) (As := fun z => [.null, .null, .int (0 : Int32), .int (0 : Int32)]) (rest := []) hX (fun r e => kJ11_init_t o (0 : Int32) (0 : Int32) h r e) ymJ11_init rfl q726 q727 q161 q728 ⟨Nat.le_of_ble_eq_true rfl, Nat.le_of_ble_eq_true rfl⟩ rfl rfl (Nat.le_of_ble_eq_true rfl) dX11_init_5 (fun r1 h2 => ?_)
  refine j_aload_n (pc := 8) hX 0 rfl dX11_init_8 ?_
  refine j_iload_n (pc := 9) hX 1 rfl dX11_init_9 ?_
  refine j_grd fun g3 => ?_
  refine c_putFI (pc := 10) hX hnm ffX11_7_X11.1 ffX11_7_X11.2 g3 dX11_init_10 (fun h4 q5 q6 => ?_)
  refine j_aload_n (pc := 13) hX 0 rfl dX11_init_13 ?_
  refine j_iload_n (pc := 14) hX 2 rfl dX11_init_14 ?_
  refine c_putFI (pc := 15) hX hnm ffX11_13_X11.1 ffX11_13_X11.2 (kT_t q5 g3) dX11_init_15 (fun h7 q8 q9 => ?_)
  exact j_vret (pc := 18) hX hr dX11_init_18
set_option maxHeartbeats 4000000 in
set_option maxRecDepth 100000 in
theorem cR_wrong_t   (a1 : Int32) (h : HP) (rr : Nat × HP) (e : cR_wrong a1 h = some rr) : Cn cV yX2_wrong (ws_ yX2_wrong cX2_wrong 2 (some (.object "AskedCourt$Fault"))) 4 82 (fun z => [.ref (z + 2), .int a1]) h (fun z => eR z rr.1) rr.2 := by
  refine cn_of (e1 := eR) (fun z => [(0, .ref (z + 2)), (1, .int a1)]) cV_ok (cR_wrong_m a1 h _ e) ymX2_wrong (fun _ => rfl) (fun _ => Nat.le_of_ble_eq_true rfl) (fun X hX hr hnm => ?_) e
  have hX : okX cV X rr cX2_wrong RX2 2 4 82 := hX
  rw [cR_wrong]
  refine j_grd fun g1 => ?_
  refine j_new (pc := 0) hX ckX11 cfX11 q682 q683 q162 (cV_vA g1) dX2_wrong_0 (fun b2 h3 => ?_)
  refine j_dup (pc := 3) hX rfl dX2_wrong_3 ?_
  refine j_iload_n (pc := 4) hX 1 rfl dX2_wrong_4 ?_
  refine j_aload_n (pc := 5) hX 0 rfl dX2_wrong_5 ?_
  refine c_getI (pc := 6) hX fgX2_30_X2.1 fgX2_30_X2.2 rfl dX2_wrong_6 ?_
  refine j_callI (pc := 9) (e1 := eV) (a := b2) (As := fun z => [.int a1, .int (gI h3 2 2)]) (rest := [.ref (xz X + b2)]) hX (fun r e => kX11_init_t b2 a1 (gI h3 2 2) h3 r e) ymX11_init rfl q723 q724 q162 q725 ⟨Nat.le_of_ble_eq_true rfl, Nat.le_of_ble_eq_true rfl⟩ rfl rfl (Nat.le_of_ble_eq_true rfl) dX2_wrong_9 (fun r4 h5 => ?_)
  exact j_aret (pc := 12) hX (Or.inl ⟨_, rfl⟩) hr dX2_wrong_12
set_option maxHeartbeats 4000000 in
set_option maxRecDepth 100000 in
theorem cR_isFull_t   (a1 : Int32) (h : HP) (rr : Int32 × HP) (e : cR_isFull a1 h = some rr) : Cn cV yX2_isFull (ws_ yX2_isFull cX2_isFull 2 (some .boolean)) 2 20 (fun z => [.ref (z + 2), .int a1]) h (fun z => eI z rr.1) rr.2 := by
  refine cn_of (e1 := eI) (fun z => [(0, .ref (z + 2)), (1, .int a1)]) cV_ok (cR_isFull_m a1 h _ e) ymX2_isFull (fun _ => rfl) (fun _ => Nat.le_of_ble_eq_true rfl) (fun X hX hr hnm => ?_) e
  have hX : okX cV X rr cX2_isFull RX2 2 2 20 := hX
  rw [cR_isFull]
  refine j_iload_n (pc := 0) hX 1 rfl dX2_isFull_0 ?_
  refine j_jon (fun (j1 : HP → Option (Int32 × HP)) => ∀ (h2 : HP), jG cV X evI rr (j1 h2) 19 [(0, .ref (xz X + 2)), (1, .int a1)] [] h2) ?_ ?_
  · intro h2
    refine j_iload_n (pc := 19) hX 1 rfl dX2_isFull_19 ?_
    refine j_iconst (pc := 20) hX ic_1 dX2_isFull_20 ?_
    refine j_jon (fun (j3 : HP → Option (Int32 × HP)) => ∀ (h4 : HP), jG cV X evI rr (j3 h4) 38 [(0, .ref (xz X + 2)), (1, .int a1)] [] h4) ?_ ?_
    · intro h4
      refine j_iload_n (pc := 38) hX 1 rfl dX2_isFull_38 ?_
      refine j_iconst (pc := 39) hX ic_3 dX2_isFull_39 ?_
      refine j_jon (fun (j5 : HP → Option (Int32 × HP)) => ∀ (h6 : HP), jG cV X evI rr (j5 h6) 58 [(0, .ref (xz X + 2)), (1, .int a1)] [] h6) ?_ ?_
      · intro h6
        refine j_iload_n (pc := 58) hX 1 rfl dX2_isFull_58 ?_
        refine j_iconst (pc := 59) hX ic_4 dX2_isFull_59 ?_
        refine j_cne (pc := 60) (tgt := 79) hX rfl dX2_isFull_60 (fun _ => ?_) (fun _ => ?_)
        · refine j_aload_n (pc := 63) hX 0 rfl dX2_isFull_63 ?_
          refine j_onr fun b7 e8 => ?_
          refine c_getR (pc := 64) hX fgX2_111_X2.1 fgX2_111_X2.2 rfl e8 dX2_isFull_64 ?_
          refine j_grd fun g9 => ?_
          refine c_getI (pc := 67) hX fgX2_132_X3.1 fgX2_132_X3.2 (k1_of g9.1) dX2_isFull_67 ?_
          refine j_bipush (pc := 70) hX bp_10 dX2_isFull_70 ?_
          refine j_cne (pc := 72) (tgt := 79) hX rfl dX2_isFull_72 (fun _ => ?_) (fun _ => ?_)
          · refine j_iconst (pc := 75) hX ic_1 dX2_isFull_75 ?_
            refine j_goto (pc := 76) (tgt := 80) hX rfl dX2_isFull_76 ?_
            exact j_zret (pc := 80) hX (Or.inr rfl) hr dX2_isFull_80
          · refine j_iconst (pc := 79) hX ic_0 dX2_isFull_79 ?_
            exact j_zret (pc := 80) hX (Or.inl rfl) hr dX2_isFull_80
        · refine j_iconst (pc := 79) hX ic_0 dX2_isFull_79 ?_
          exact j_zret (pc := 80) hX (Or.inl rfl) hr dX2_isFull_80
      · intro j5 hj5
        refine j_cne (pc := 40) (tgt := 58) hX rfl dX2_isFull_40 (fun _ => ?_) (fun _ => ?_)
        · refine j_aload_n (pc := 43) hX 0 rfl dX2_isFull_43 ?_
          refine j_onr fun b10 e11 => ?_
          refine c_getR (pc := 44) hX fgX2_111_X2.1 fgX2_111_X2.2 rfl e11 dX2_isFull_44 ?_
          refine j_grd fun g12 => ?_
          refine c_getR (pc := 47) hX fgX2_129_X3.1 fgX2_129_X3.2 (k1_of g12.1) g12.2.1.2.2.1 dX2_isFull_47 ?_
          refine j_grd fun g15 => ?_
          refine j_callV (pc := 50) (e1 := eI) (a := (b10 + 5)) (As := fun z => []) (rest := []) hX (fun r e => cL_size_t (b10 + 5) h4 r e) ymJ2_size (lw_V q757 q418 q419 q145 q420) rfl ckJ2 (k1_of g15.1) ⟨Nat.le_of_ble_eq_true rfl, Nat.le_of_ble_eq_true rfl⟩ rfl rfl (Nat.le_of_ble_eq_true rfl) dX2_isFull_50 (fun r13 h14 => ?_)
          refine j_bipush (pc := 53) hX bp_8 dX2_isFull_53 ?_
          refine j_ceq (pc := 55) (tgt := 75) hX rfl dX2_isFull_55 (fun _ => ?_) (fun _ => ?_)
          · refine j_iconst (pc := 75) hX ic_1 dX2_isFull_75 ?_
            refine j_goto (pc := 76) (tgt := 80) hX rfl dX2_isFull_76 ?_
            exact j_zret (pc := 80) hX (Or.inr rfl) hr dX2_isFull_80
          · exact hj5 h14
        · exact hj5 h4
    · intro j3 hj3
      refine j_cne (pc := 21) (tgt := 38) hX rfl dX2_isFull_21 (fun _ => ?_) (fun _ => ?_)
      · refine j_aload_n (pc := 24) hX 0 rfl dX2_isFull_24 ?_
        refine j_onr fun b16 e17 => ?_
        refine c_getR (pc := 25) hX fgX2_111_X2.1 fgX2_111_X2.2 rfl e17 dX2_isFull_25 ?_
        refine j_grd fun g18 => ?_
        refine c_getR (pc := 28) hX fgX2_126_X3.1 fgX2_126_X3.2 (k1_of g18.1) g18.2.1.2.1 dX2_isFull_28 ?_
        refine j_grd fun g21 => ?_
        refine j_callV (pc := 31) (e1 := eI) (a := (b16 + 3)) (As := fun z => []) (rest := []) hX (fun r e => cL_size_t (b16 + 3) h2 r e) ymJ2_size (lw_V q757 q418 q419 q145 q420) rfl ckJ2 (k1_of g21.1) ⟨Nat.le_of_ble_eq_true rfl, Nat.le_of_ble_eq_true rfl⟩ rfl rfl (Nat.le_of_ble_eq_true rfl) dX2_isFull_31 (fun r19 h20 => ?_)
        refine j_iconst (pc := 34) hX ic_5 dX2_isFull_34 ?_
        refine j_ceq (pc := 35) (tgt := 75) hX rfl dX2_isFull_35 (fun _ => ?_) (fun _ => ?_)
        · refine j_iconst (pc := 75) hX ic_1 dX2_isFull_75 ?_
          refine j_goto (pc := 76) (tgt := 80) hX rfl dX2_isFull_76 ?_
          exact j_zret (pc := 80) hX (Or.inr rfl) hr dX2_isFull_80
        · exact hj3 h20
      · exact hj3 h2
  · intro j1 hj1
    refine j_ifne (pc := 1) (tgt := 19) hX rfl dX2_isFull_1 (fun _ => ?_) (fun _ => ?_)
    · refine j_aload_n (pc := 4) hX 0 rfl dX2_isFull_4 ?_
      refine j_onr fun b22 e23 => ?_
      refine c_getR (pc := 5) hX fgX2_111_X2.1 fgX2_111_X2.2 rfl e23 dX2_isFull_5 ?_
      refine j_grd fun g24 => ?_
      refine c_getR (pc := 8) hX fgX2_118_X3.1 fgX2_118_X3.2 (k1_of g24.1) g24.2.1.1 dX2_isFull_8 ?_
      refine j_grd fun g27 => ?_
      refine j_callV (pc := 11) (e1 := eI) (a := (b22 + 1)) (As := fun z => []) (rest := []) hX (fun r e => cL_size_t (b22 + 1) h r e) ymJ2_size (lw_V q757 q418 q419 q145 q420) rfl ckJ2 (k1_of g27.1) ⟨Nat.le_of_ble_eq_true rfl, Nat.le_of_ble_eq_true rfl⟩ rfl rfl (Nat.le_of_ble_eq_true rfl) dX2_isFull_11 (fun r25 h26 => ?_)
      refine j_bipush (pc := 14) hX bp_8 dX2_isFull_14 ?_
      refine j_ceq (pc := 16) (tgt := 75) hX rfl dX2_isFull_16 (fun _ => ?_) (fun _ => ?_)
      · refine j_iconst (pc := 75) hX ic_1 dX2_isFull_75 ?_
        refine j_goto (pc := 76) (tgt := 80) hX rfl dX2_isFull_76 ?_
        exact j_zret (pc := 80) hX (Or.inr rfl) hr dX2_isFull_80
      · exact hj1 h26
    · exact hj1 h
set_option maxHeartbeats 4000000 in
set_option maxRecDepth 100000 in
theorem cR_isSign_t   (a1 : Int32) (h : HP) (rr : Int32 × HP) (e : cR_isSign a1 h = some rr) : Cn cV yX2_isSign (ws_ yX2_isSign cX2_isSign 2 (some .boolean)) 1 0 (fun z => [.ref (z + 2), .int a1]) h (fun z => eI z rr.1) rr.2 := by
  refine cn_of (e1 := eI) (fun z => [(0, .ref (z + 2)), (1, .int a1)]) cV_ok (cR_isSign_m a1 h _ e) ymX2_isSign (fun _ => rfl) (fun _ => Nat.le_of_ble_eq_true rfl) (fun X hX hr hnm => ?_) e
  have hX : okX cV X rr cX2_isSign RX2 2 1 0 := hX
  rw [cR_isSign]
  refine j_aload_n (pc := 0) hX 0 rfl dX2_isSign_0 ?_
  refine c_getI (pc := 1) hX fgX2_33_X2.1 fgX2_33_X2.2 rfl dX2_isSign_1 ?_
  refine j_iconst (pc := 4) hX ic_3 dX2_isSign_4 ?_
  refine j_cne (pc := 5) (tgt := 20) hX rfl dX2_isSign_5 (fun _ => ?_) (fun _ => ?_)
  · refine j_aload_n (pc := 8) hX 0 rfl dX2_isSign_8 ?_
    refine c_getI (pc := 9) hX fgX2_47_X2.1 fgX2_47_X2.2 rfl dX2_isSign_9 ?_
    refine j_iload_n (pc := 12) hX 1 rfl dX2_isSign_12 ?_
    refine j_cne (pc := 13) (tgt := 20) hX rfl dX2_isSign_13 (fun _ => ?_) (fun _ => ?_)
    · refine j_iconst (pc := 16) hX ic_1 dX2_isSign_16 ?_
      refine j_goto (pc := 17) (tgt := 21) hX rfl dX2_isSign_17 ?_
      exact j_zret (pc := 21) hX (Or.inr rfl) hr dX2_isSign_21
    · refine j_iconst (pc := 20) hX ic_0 dX2_isSign_20 ?_
      exact j_zret (pc := 21) hX (Or.inl rfl) hr dX2_isSign_21
  · refine j_iconst (pc := 20) hX ic_0 dX2_isSign_20 ?_
    exact j_zret (pc := 21) hX (Or.inl rfl) hr dX2_isSign_21
set_option maxHeartbeats 4000000 in
set_option maxRecDepth 100000 in
theorem kX12_find_2_w {X : CTX} {rr : Int32 × HP}  (hX : okX cV X rr cX12_find RX12 3 4 64) (hr : (xh X).sig.returnType = some .int) (f0 : Nat) (f1 : Int32) (k : HP → Option (Int32 × HP)) (hk : ∀  (h : HP), jG cV X evI rr (k  h) 33 [] [] h) : ∀ (n : Nat) (v2 : Int32) (h : HP), jG cV X evI rr (kX12_find_2 f0 f1 k n v2 h) 2 [(0, .ref (xz X + f0)), (1, .int f1), (2, .int v2)] [] h := by
  intro n
  induction n with
  | zero =>
    intro v2 h
    exact j_none
  | succ n ih =>
    intro v2 h
    rw [kX12_find_2]
    refine j_iload_n (pc := 2) hX 2 rfl dX12_find_2 ?_
    refine j_aload_n (pc := 3) hX 0 rfl dX12_find_3 ?_
    refine j_grd fun g4 => ?_
    refine j_callV (pc := 4) (e1 := eI) (a := f0) (As := fun z => []) (rest := [.int v2]) hX (fun r e => cL_size_t f0 h r e) ymJ2_size (lw_V q767 q418 q419 q145 q420) rfl ckJ2 (k1_of g4.1) ⟨Nat.le_of_ble_eq_true rfl, Nat.le_of_ble_eq_true rfl⟩ rfl rfl (Nat.le_of_ble_eq_true rfl) dX12_find_4 (fun r2 h3 => ?_)
    refine j_cge (pc := 7) (tgt := 33) hX rfl dX12_find_7 (fun _ => ?_) (fun _ => ?_)
    · refine j_locs [] rfl ?_
      exact hk h3
    · refine j_aload_n (pc := 10) hX 0 rfl dX12_find_10 ?_
      refine j_iload_n (pc := 11) hX 2 rfl dX12_find_11 ?_
      refine j_grd fun g7 => ?_
      refine j_callV (pc := 12) (e1 := eR) (a := f0) (As := fun z => [.int v2]) (rest := []) hX (fun r e => cL_get_t f0 v2 h3 r e) ymJ2_get (lw_V q768 q422 q423 q145 q424) rfl ckJ2 (k1_of g7.1) ⟨Nat.le_of_ble_eq_true rfl, Nat.le_of_ble_eq_true rfl⟩ rfl rfl (Nat.le_of_ble_eq_true rfl) dX12_find_12 (fun r5 h6 => ?_)
      refine j_grd fun g8 => ?_
      refine j_castNm (pc := 15) hX g8 q769 dX12_find_15 ?_
      refine j_grd fun g9 => ?_
      refine j_getNm (pc := 18) hX fgX12_9_X12 fgX12_9_X13 fgX12_9_X14 g9 dX12_find_18 ?_
      refine j_iload_n (pc := 21) hX 1 rfl dX12_find_21 ?_
      refine j_cne (pc := 22) (tgt := 27) hX rfl dX12_find_22 (fun _ => ?_) (fun _ => ?_)
      · refine j_iload_n (pc := 25) hX 2 rfl dX12_find_25 ?_
        exact j_iret (pc := 26) hX hr dX12_find_26
      · refine j_iinc (pc := 27) hX 2 rfl (1 : Int32) ic_1 (fun x10 => [(2, .int x10), (0, .ref (xz X + f0)), (1, .int f1)]) (fun _ => rfl) (Nat.le_of_ble_eq_true rfl) dX12_find_27 (fun x10 => ?_)
        refine j_goto (pc := 30) (tgt := 2) hX rfl dX12_find_30 ?_
        refine j_locs [1, 2, 0] rfl ?_
        exact ih x10 h6
set_option maxHeartbeats 4000000 in
set_option maxRecDepth 100000 in
theorem kX12_find_t   (a1 : Nat) (a2 : Int32) (h : HP) (rr : Int32 × HP) (e : kX12_find a1 a2 h = some rr) : Cn cV yX12_find (ws_ yX12_find cX12_find 3 (some .int)) 4 64 (fun z => [.ref (z + a1), .int a2]) h (fun z => eI z rr.1) rr.2 := by
  refine cn_of (e1 := eI) (fun z => [(0, .ref (z + a1)), (1, .int a2)]) cV_ok (kX12_find_m a1 a2 h _ e) ymX12_find (fun _ => rfl) (fun _ => Nat.le_of_ble_eq_true rfl) (fun X hX hr hnm => ?_) e
  have hX : okX cV X rr cX12_find RX12 3 4 64 := hX
  rw [kX12_find]
  refine j_iconst (pc := 0) hX ic_0 dX12_find_0 ?_
  refine j_istore_n (pc := 1) hX (fun x1 => [(2, .int x1), (0, .ref (xz X + a1)), (1, .int a2)]) (fun _ => rfl) (Nat.le_of_ble_eq_true rfl) dX12_find_1 (fun x1 => ?_)
  refine j_locs [1, 2, 0] rfl ?_
  refine kX12_find_2_w hX hr a1 a2 _ (fun  h11 => ?_) FU x1 h
  refine j_iconst (pc := 33) hX ic_m1 dX12_find_33 ?_
  exact j_iret (pc := 34) hX hr dX12_find_34
set_option maxHeartbeats 4000000 in
set_option maxRecDepth 100000 in
theorem cR_fresh_t   (a1 : Nat) (h : HP) (rr : (Int32 ⊕ Nat × Nat) × HP) (e : cR_fresh a1 h = some rr) : CnX eI cV yX2_fresh (ws_ yX2_fresh cX2_fresh 3 (some .int)) 7 132 (fun z => [.ref (z + 2), .ref (z + a1)]) h rr := by
  refine cnx_of (e1 := eI) (fun z => [(0, .ref (z + 2)), (1, .ref (z + a1))]) cV_ok (cR_fresh_m a1 h _ e) ymX2_fresh (fun _ => rfl) (fun _ => Nat.le_of_ble_eq_true rfl) (fun X hX hr hxt => ?_) e
  have hX : okX cV X rr cX2_fresh RX2 3 7 132 := hX
  rw [cR_fresh]
  refine j_aload_n (pc := 0) hX 0 rfl dX2_fresh_0 ?_
  refine c_getI (pc := 1) hX fgX2_33_X2.1 fgX2_33_X2.2 rfl dX2_fresh_1 ?_
  refine j_iconst (pc := 4) hX ic_1 dX2_fresh_4 ?_
  refine j_ceq (pc := 5) (tgt := 14) hX rfl dX2_fresh_5 (fun _ => ?_) (fun _ => ?_)
  · refine j_aload_n (pc := 14) hX 1 rfl dX2_fresh_14 ?_
    refine j_aload_n (pc := 15) hX 0 rfl dX2_fresh_15 ?_
    refine c_getI (pc := 16) hX fgX2_47_X2.1 fgX2_47_X2.2 rfl dX2_fresh_16 ?_
    refine j_callS (pc := 19) (e1 := eI) (As := fun z => [.ref (z + a1), .int (gI h 2 4)]) (rest := []) hX (fun r e => kX12_find_t a1 (gI h 2 4) h r e) ymX12_find (lw_S q764 q765 q163 q766) ⟨Nat.le_of_ble_eq_true rfl, Nat.le_of_ble_eq_true rfl⟩ rfl rfl (Nat.le_of_ble_eq_true rfl) dX2_fresh_19 (fun r1 h2 => ?_)
    refine j_iconst (pc := 22) hX ic_m1 dX2_fresh_22 ?_
    refine j_ceq (pc := 23) (tgt := 32) hX rfl dX2_fresh_23 (fun _ => ?_) (fun _ => ?_)
    · refine j_aload_n (pc := 32) hX 0 rfl dX2_fresh_32 ?_
      refine c_getI (pc := 33) hX fgX2_47_X2.1 fgX2_47_X2.2 rfl dX2_fresh_33 ?_
      refine j_istore_n (pc := 36) hX (fun x3 => [(2, .int x3), (0, .ref (xz X + 2)), (1, .ref (xz X + a1))]) (fun _ => rfl) (Nat.le_of_ble_eq_true rfl) dX2_fresh_36 (fun x3 => ?_)
      refine j_aload_n (pc := 37) hX 1 rfl dX2_fresh_37 ?_
      refine j_callV (pc := 38) (e1 := eV) (a := 2) (As := fun z => []) (rest := []) hX (fun r e => cR_next_t h2 r e) ymX2_next (lw_V q536 q538 qs2 q141 q539) rfl ckX2 rfl ⟨Nat.le_of_ble_eq_true rfl, Nat.le_of_ble_eq_true rfl⟩ rfl rfl (Nat.le_of_ble_eq_true rfl) dX2_fresh_38 (fun r4 h5 => ?_)
      refine j_iload_n (pc := 41) hX 0 rfl dX2_fresh_41 ?_
      exact x_iret (pc := 42) hX hr dX2_fresh_42
    · refine j_aload_n (pc := 26) hX 0 rfl dX2_fresh_26 ?_
      refine j_iconst (pc := 27) hX ic_3 dX2_fresh_27 ?_
      refine j_callV (pc := 28) (e1 := eR) (a := 2) (As := fun z => [.int (3 : Int32)]) (rest := []) hX (fun r e => cR_wrong_t (3 : Int32) h2 r e) ymX2_wrong (lw_V q678 q680 qs9 q141 q681) rfl ckX2 rfl ⟨Nat.le_of_ble_eq_true rfl, Nat.le_of_ble_eq_true rfl⟩ rfl rfl (Nat.le_of_ble_eq_true rfl) dX2_fresh_28 (fun r6 h7 => ?_)
      refine j_grd fun g8 => ?_
      exact x_throwF (pc := 31) hX hxt g8 dX2_fresh_31
  · refine j_aload_n (pc := 8) hX 0 rfl dX2_fresh_8 ?_
    refine j_iconst (pc := 9) hX ic_1 dX2_fresh_9 ?_
    refine j_callV (pc := 10) (e1 := eR) (a := 2) (As := fun z => [.int (1 : Int32)]) (rest := []) hX (fun r e => cR_wrong_t (1 : Int32) h r e) ymX2_wrong (lw_V q678 q680 qs9 q141 q681) rfl ckX2 rfl ⟨Nat.le_of_ble_eq_true rfl, Nat.le_of_ble_eq_true rfl⟩ rfl rfl (Nat.le_of_ble_eq_true rfl) dX2_fresh_10 (fun r9 h10 => ?_)
    refine j_grd fun g11 => ?_
    exact x_throwF (pc := 13) hX hxt g11 dX2_fresh_13
set_option maxHeartbeats 4000000 in
set_option maxRecDepth 100000 in
theorem kX12_init_t   (o : Nat) (a1 : Int32) (h : HP) (rr : Unit × HP) (e : kX12_init o a1 h = some rr) : Cn cV yX12_init (ws_ yX12_init cX12_init 2 (none)) 1 12 (fun z => [.ref (z + o), .int a1]) h (fun z => eV z rr.1) rr.2 := by
  refine cn_of (e1 := eV) (fun z => [(0, .ref (z + o)), (1, .int a1)]) cV_ok (kX12_init_m o a1 h _ e) ymX12_init (fun _ => rfl) (fun _ => Nat.le_of_ble_eq_true rfl) (fun X hX hr hnm => ?_) e
  have hX : okX cV X rr cX12_init RX12 2 1 12 := hX
  rw [kX12_init]
  refine j_aload_n (pc := 0) hX 0 rfl dX12_init_0 ?_
  refine j_objInit (pc := 1) hX q773 q188 q189 (Nat.le_of_ble_eq_true rfl) (Nat.le_of_ble_eq_true rfl) dX12_init_1 ?_
  refine j_aload_n (pc := 4) hX 0 rfl dX12_init_4 ?_
  refine j_iload_n (pc := 5) hX 1 rfl dX12_init_5 ?_
  refine j_grd fun g1 => ?_
  refine c_putNm (pc := 6) hX hnm ffX12_9_X12 ffX12_9_X13 ffX12_9_X14 g1 dX12_init_6 (fun h2 q3 q4 => ?_)
  exact j_vret (pc := 9) hX hr dX12_init_9
set_option maxHeartbeats 4000000 in
set_option maxRecDepth 100000 in
theorem kX13_init_t   (o : Nat) (a1 : Int32) (h : HP) (rr : Unit × HP) (e : kX13_init o a1 h = some rr) : Cn cV yX13_init (ws_ yX13_init cX13_init 2 (none)) 2 33 (fun z => [.ref (z + o), .int a1]) h (fun z => eV z rr.1) rr.2 := by
  refine cn_of (e1 := eV) (fun z => [(0, .ref (z + o)), (1, .int a1)]) cV_ok (kX13_init_m o a1 h _ e) ymX13_init (fun _ => rfl) (fun _ => Nat.le_of_ble_eq_true rfl) (fun X hX hr hnm => ?_) e
  have hX : okX cV X rr cX13_init RX13 2 2 33 := hX
  rw [kX13_init]
  refine j_aload_n (pc := 0) hX 0 rfl dX13_init_0 ?_
  refine j_iload_n (pc := 1) hX 1 rfl dX13_init_1 ?_
  refine j_callI (pc := 2) (e1 := eV) (a := o) (As := fun z => [.int a1]) (rest := []) hX (fun r e => kX12_init_t o a1 h r e) ymX12_init rfl q854 q771 q163 q772 ⟨Nat.le_of_ble_eq_true rfl, Nat.le_of_ble_eq_true rfl⟩ rfl rfl (Nat.le_of_ble_eq_true rfl) dX13_init_2 (fun r1 h2 => ?_)
  exact j_vret (pc := 5) hX hr dX13_init_5
set_option maxHeartbeats 4000000 in
set_option maxRecDepth 100000 in
theorem cR_numberAtHand_t   (a1 : Int32) (a2 : Int32) (h : HP) (rr : (Int32 ⊕ Nat × Nat) × HP) (e : cR_numberAtHand a1 a2 h = some rr) : CnX eI cV yX2_numberAtHand (ws_ yX2_numberAtHand cX2_numberAtHand 3 (some .int)) 5 103 (fun z => [.ref (z + 2), .int a1, .int a2]) h rr := by
  refine cnx_of (e1 := eI) (fun z => [(0, .ref (z + 2)), (1, .int a1), (2, .int a2)]) cV_ok (cR_numberAtHand_m a1 a2 h _ e) ymX2_numberAtHand (fun _ => rfl) (fun _ => Nat.le_of_ble_eq_true rfl) (fun X hX hr hxt => ?_) e
  have hX : okX cV X rr cX2_numberAtHand RX2 3 5 103 := hX
  rw [cR_numberAtHand]
  refine j_aload_n (pc := 0) hX 0 rfl dX2_numberAtHand_0 ?_
  refine c_getI (pc := 1) hX fgX2_33_X2.1 fgX2_33_X2.2 rfl dX2_numberAtHand_1 ?_
  refine j_iconst (pc := 4) hX ic_2 dX2_numberAtHand_4 ?_
  refine j_ceq (pc := 5) (tgt := 14) hX rfl dX2_numberAtHand_5 (fun _ => ?_) (fun _ => ?_)
  · refine j_aload_n (pc := 14) hX 0 rfl dX2_numberAtHand_14 ?_
    refine c_getI (pc := 15) hX fgX2_47_X2.1 fgX2_47_X2.2 rfl dX2_numberAtHand_15 ?_
    refine j_i2l (pc := 18) hX dX2_numberAtHand_18 ?_
    refine j_iload_n (pc := 19) hX 1 rfl dX2_numberAtHand_19 ?_
    refine j_i2l (pc := 20) hX dX2_numberAtHand_20 ?_
    refine j_iload_n (pc := 21) hX 2 rfl dX2_numberAtHand_21 ?_
    refine j_i2l (pc := 22) hX dX2_numberAtHand_22 ?_
    refine j_callSN (pc := 23) (e1 := eI) (As := fun z => [.long ((gI h 2 4)).toInt64, .long (a1).toInt64, .long (a2).toInt64]) (rest := []) hX (fun r e => cA_in_t ((gI h 2 4)).toInt64 (a1).toInt64 (a2).toInt64 h r e) ymX1_in (List.mem_of_getElem? (i := 15) rfl) q528 q140 q529 ⟨Nat.le_of_ble_eq_true rfl, Nat.le_of_ble_eq_true rfl⟩ rfl rfl (Nat.le_of_ble_eq_true rfl) dX2_numberAtHand_23 (fun r1 h2 => ?_)
    refine j_ifne (pc := 26) (tgt := 35) hX rfl dX2_numberAtHand_26 (fun _ => ?_) (fun _ => ?_)
    · refine j_aload_n (pc := 29) hX 0 rfl dX2_numberAtHand_29 ?_
      refine j_iconst (pc := 30) hX ic_2 dX2_numberAtHand_30 ?_
      refine j_callV (pc := 31) (e1 := eR) (a := 2) (As := fun z => [.int (2 : Int32)]) (rest := []) hX (fun r e => cR_wrong_t (2 : Int32) h2 r e) ymX2_wrong (lw_V q678 q680 qs9 q141 q681) rfl ckX2 rfl ⟨Nat.le_of_ble_eq_true rfl, Nat.le_of_ble_eq_true rfl⟩ rfl rfl (Nat.le_of_ble_eq_true rfl) dX2_numberAtHand_31 (fun r3 h4 => ?_)
      refine j_grd fun g5 => ?_
      exact x_throwF (pc := 34) hX hxt g5 dX2_numberAtHand_34
    · refine j_aload_n (pc := 35) hX 0 rfl dX2_numberAtHand_35 ?_
      refine c_getI (pc := 36) hX fgX2_47_X2.1 fgX2_47_X2.2 rfl dX2_numberAtHand_36 ?_
      exact x_iret (pc := 39) hX hr dX2_numberAtHand_39
  · refine j_aload_n (pc := 8) hX 0 rfl dX2_numberAtHand_8 ?_
    refine j_iconst (pc := 9) hX ic_1 dX2_numberAtHand_9 ?_
    refine j_callV (pc := 10) (e1 := eR) (a := 2) (As := fun z => [.int (1 : Int32)]) (rest := []) hX (fun r e => cR_wrong_t (1 : Int32) h r e) ymX2_wrong (lw_V q678 q680 qs9 q141 q681) rfl ckX2 rfl ⟨Nat.le_of_ble_eq_true rfl, Nat.le_of_ble_eq_true rfl⟩ rfl rfl (Nat.le_of_ble_eq_true rfl) dX2_numberAtHand_10 (fun r6 h7 => ?_)
    refine j_grd fun g8 => ?_
    exact x_throwF (pc := 13) hX hxt g8 dX2_numberAtHand_13
set_option maxHeartbeats 4000000 in
set_option maxRecDepth 100000 in
theorem cR_number_t   (a1 : Int32) (a2 : Int32) (h : HP) (rr : (Int32 ⊕ Nat × Nat) × HP) (e : cR_number a1 a2 h = some rr) : CnX eI cV yX2_number (ws_ yX2_number cX2_number 4 (some .int)) 7 132 (fun z => [.ref (z + 2), .int a1, .int a2]) h rr := by
  refine cnx_of (e1 := eI) (fun z => [(0, .ref (z + 2)), (1, .int a1), (2, .int a2)]) cV_ok (cR_number_m a1 a2 h _ e) ymX2_number (fun _ => rfl) (fun _ => Nat.le_of_ble_eq_true rfl) (fun X hX hr hxt => ?_) e
  have hX : okX cV X rr cX2_number RX2 4 7 132 := hX
  rw [cR_number]
  refine j_aload_n (pc := 0) hX 0 rfl dX2_number_0 ?_
  refine j_iload_n (pc := 1) hX 1 rfl dX2_number_1 ?_
  refine j_iload_n (pc := 2) hX 2 rfl dX2_number_2 ?_
  refine x_callV (pc := 3) (e2 := eI) (a := 2) (As := fun z => [.int a1, .int a2]) (rest := []) hX hxt (fun r e => cR_numberAtHand_t a1 a2 h r e) ymX2_numberAtHand (lw_V q879 q881 qs18 q141 q882) rfl ckX2 rfl ⟨Nat.le_of_ble_eq_true rfl, Nat.le_of_ble_eq_true rfl⟩ rfl rfl (Nat.le_of_ble_eq_true rfl) dX2_number_3 (fun r1 h2 => ?_)
  refine j_istore_n (pc := 6) hX (fun x3 => [(3, .int x3), (0, .ref (xz X + 2)), (1, .int a1), (2, .int a2)]) (fun _ => rfl) (Nat.le_of_ble_eq_true rfl) dX2_number_6 (fun x3 => ?_)
  refine j_aload_n (pc := 7) hX 1 rfl dX2_number_7 ?_
  refine j_callV (pc := 8) (e1 := eV) (a := 2) (As := fun z => []) (rest := []) hX (fun r e => cR_next_t h2 r e) ymX2_next (lw_V q536 q538 qs2 q141 q539) rfl ckX2 rfl ⟨Nat.le_of_ble_eq_true rfl, Nat.le_of_ble_eq_true rfl⟩ rfl rfl (Nat.le_of_ble_eq_true rfl) dX2_number_8 (fun r4 h5 => ?_)
  refine j_iload_n (pc := 11) hX 0 rfl dX2_number_11 ?_
  exact x_iret (pc := 12) hX hr dX2_number_12
set_option maxHeartbeats 4000000 in
set_option maxRecDepth 100000 in
theorem cR_person_t    (h : HP) (rr : (Unit ⊕ Nat × Nat) × HP) (e : cR_person  h = some rr) : CnX eV cV yX2_person (ws_ yX2_person cX2_person 2 (none)) 8 155 (fun z => [.ref (z + 2)]) h rr := by
  refine cnx_of (e1 := eV) (fun z => [(0, .ref (z + 2))]) cV_ok (cR_person_m  h _ e) ymX2_person (fun _ => rfl) (fun _ => Nat.le_of_ble_eq_true rfl) (fun X hX hr hxt => ?_) e
  have hX : okX cV X rr cX2_person RX2 2 8 155 := hX
  rw [cR_person]
  refine j_grd fun g1 => ?_
  refine j_new (pc := 0) hX ckX13 cfX13 q849 q850 q167 (cV_vA g1) dX2_person_0 (fun b2 h3 => ?_)
  refine j_dup (pc := 3) hX rfl dX2_person_3 ?_
  refine j_aload_n (pc := 4) hX 0 rfl dX2_person_4 ?_
  refine j_aload_n (pc := 5) hX 0 rfl dX2_person_5 ?_
  refine j_onr fun b4 e5 => ?_
  refine c_getR (pc := 6) hX fgX2_111_X2.1 fgX2_111_X2.2 rfl e5 dX2_person_6 ?_
  refine j_grd fun g6 => ?_
  refine c_getR (pc := 9) hX fgX2_126_X3.1 fgX2_126_X3.2 (k1_of g6.1) g6.2.1.2.1 dX2_person_9 ?_
  refine x_callV (pc := 12) (e2 := eI) (a := 2) (As := fun z => [.ref (z + (b4 + 3))]) (rest := [.ref (xz X + b2), .ref (xz X + b2)]) hX hxt (fun r e => cR_fresh_t (b4 + 3) h3 r e) ymX2_fresh (lw_V q760 q762 qs12 q141 q763) rfl ckX2 rfl ⟨Nat.le_of_ble_eq_true rfl, Nat.le_of_ble_eq_true rfl⟩ rfl rfl (Nat.le_of_ble_eq_true rfl) dX2_person_12 (fun r7 h8 => ?_)
  refine j_callI (pc := 15) (e1 := eV) (a := b2) (As := fun z => [.int r7]) (rest := [.ref (xz X + b2)]) hX (fun r e => kX13_init_t b2 r7 h8 r e) ymX13_init rfl q851 q852 q167 q853 ⟨Nat.le_of_ble_eq_true rfl, Nat.le_of_ble_eq_true rfl⟩ rfl rfl (Nat.le_of_ble_eq_true rfl) dX2_person_15 (fun r9 h10 => ?_)
  refine j_astore_n (pc := 18) (ls' := [(1, .ref (xz X + b2)), (0, .ref (xz X + 2))]) hX rfl (Nat.le_of_ble_eq_true rfl) dX2_person_18 ?_
  refine j_aload_n (pc := 19) hX 0 rfl dX2_person_19 ?_
  refine j_aload_n (pc := 20) hX 1 rfl dX2_person_20 ?_
  refine j_iconst (pc := 21) hX ic_0 dX2_person_21 ?_
  refine j_bipush (pc := 22) hX bp_9 dX2_person_22 ?_
  refine x_callV (pc := 24) (e2 := eI) (a := 2) (As := fun z => [.int (0 : Int32), .int (9 : Int32)]) (rest := [.ref (xz X + b2)]) hX hxt (fun r e => cR_number_t (0 : Int32) (9 : Int32) h10 r e) ymX2_number (lw_V q875 q877 qs17 q141 q878) rfl ckX2 rfl ⟨Nat.le_of_ble_eq_true rfl, Nat.le_of_ble_eq_true rfl⟩ rfl rfl (Nat.le_of_ble_eq_true rfl) dX2_person_24 (fun r11 h12 => ?_)
  refine j_grd fun g13 => ?_
  refine c_putI (pc := 27) hX fwX2_194_X13.1 fwX2_194_X13.2 g13 dX2_person_27 (fun h14 q15 q16 => ?_)
  refine j_aload_n (pc := 30) hX 0 rfl dX2_person_30 ?_
  refine j_aload_n (pc := 31) hX 1 rfl dX2_person_31 ?_
  refine j_iconst (pc := 32) hX ic_0 dX2_person_32 ?_
  refine j_bipush (pc := 33) hX bp_9 dX2_person_33 ?_
  refine x_callV (pc := 35) (e2 := eI) (a := 2) (As := fun z => [.int (0 : Int32), .int (9 : Int32)]) (rest := [.ref (xz X + b2)]) hX hxt (fun r e => cR_number_t (0 : Int32) (9 : Int32) h14 r e) ymX2_number (lw_V q875 q877 qs17 q141 q878) rfl ckX2 rfl ⟨Nat.le_of_ble_eq_true rfl, Nat.le_of_ble_eq_true rfl⟩ rfl rfl (Nat.le_of_ble_eq_true rfl) dX2_person_35 (fun r17 h18 => ?_)
  refine j_grd fun g19 => ?_
  refine c_putI (pc := 38) hX fwX2_197_X13.1 fwX2_197_X13.2 g19 dX2_person_38 (fun h20 q21 q22 => ?_)
  refine j_aload_n (pc := 41) hX 0 rfl dX2_person_41 ?_
  refine j_aload_n (pc := 42) hX 1 rfl dX2_person_42 ?_
  refine j_iconst (pc := 43) hX ic_0 dX2_person_43 ?_
  refine j_iconst (pc := 44) hX ic_3 dX2_person_44 ?_
  refine x_callV (pc := 45) (e2 := eI) (a := 2) (As := fun z => [.int (0 : Int32), .int (3 : Int32)]) (rest := [.ref (xz X + b2)]) hX hxt (fun r e => cR_number_t (0 : Int32) (3 : Int32) h20 r e) ymX2_number (lw_V q875 q877 qs17 q141 q878) rfl ckX2 rfl ⟨Nat.le_of_ble_eq_true rfl, Nat.le_of_ble_eq_true rfl⟩ rfl rfl (Nat.le_of_ble_eq_true rfl) dX2_person_45 (fun r23 h24 => ?_)
  refine j_grd fun g25 => ?_
  refine c_putI (pc := 48) hX fwX2_200_X13.1 fwX2_200_X13.2 g25 dX2_person_48 (fun h26 q27 q28 => ?_)
  refine j_aload_n (pc := 51) hX 1 rfl dX2_person_51 ?_
  refine j_onr fun b29 e30 => ?_
  refine c_getR (pc := 52) hX fgX2_111_X2.1 fgX2_111_X2.2 rfl e30 dX2_person_52 ?_
  refine j_grd fun g31 => ?_
  refine c_getR (pc := 55) hX fgX2_126_X3.1 fgX2_126_X3.2 (k1_of g31.1) g31.2.1.2.1 dX2_person_55 ?_
  refine j_aload_n (pc := 58) hX 0 rfl dX2_person_58 ?_
  refine j_grd fun g34 => ?_
  refine j_callV (pc := 59) (e1 := eI) (a := (b29 + 3)) (As := fun z => [.ref (z + b2)]) (rest := []) hX (fun r e => cL_add_t (b29 + 3) b2 h26 r e) ymJ2_add (lw_V q778 q779 q780 q145 q781) rfl ckJ2 (k1_of g34.1) ⟨Nat.le_of_ble_eq_true rfl, Nat.le_of_ble_eq_true rfl⟩ rfl rfl (Nat.le_of_ble_eq_true rfl) dX2_person_59 (fun r32 h33 => ?_)
  refine j_pop (pc := 62) hX rfl dX2_person_62 ?_
  exact x_vret (pc := 63) hX hr dX2_person_63
set_option maxHeartbeats 4000000 in
set_option maxRecDepth 100000 in
theorem cR_atHand_t   (a1 : Nat) (h : HP) (rr : (Int32 ⊕ Nat × Nat) × HP) (e : cR_atHand a1 h = some rr) : CnX eI cV yX2_atHand (ws_ yX2_atHand cX2_atHand 3 (some .int)) 5 103 (fun z => [.ref (z + 2), .ref (z + a1)]) h rr := by
  refine cnx_of (e1 := eI) (fun z => [(0, .ref (z + 2)), (1, .ref (z + a1))]) cV_ok (cR_atHand_m a1 h _ e) ymX2_atHand (fun _ => rfl) (fun _ => Nat.le_of_ble_eq_true rfl) (fun X hX hr hxt => ?_) e
  have hX : okX cV X rr cX2_atHand RX2 3 5 103 := hX
  rw [cR_atHand]
  refine j_aload_n (pc := 0) hX 0 rfl dX2_atHand_0 ?_
  refine c_getI (pc := 1) hX fgX2_33_X2.1 fgX2_33_X2.2 rfl dX2_atHand_1 ?_
  refine j_iconst (pc := 4) hX ic_1 dX2_atHand_4 ?_
  refine j_ceq (pc := 5) (tgt := 14) hX rfl dX2_atHand_5 (fun _ => ?_) (fun _ => ?_)
  · refine j_aload_n (pc := 14) hX 1 rfl dX2_atHand_14 ?_
    refine j_aload_n (pc := 15) hX 0 rfl dX2_atHand_15 ?_
    refine c_getI (pc := 16) hX fgX2_47_X2.1 fgX2_47_X2.2 rfl dX2_atHand_16 ?_
    refine j_callS (pc := 19) (e1 := eI) (As := fun z => [.ref (z + a1), .int (gI h 2 4)]) (rest := []) hX (fun r e => kX12_find_t a1 (gI h 2 4) h r e) ymX12_find (lw_S q764 q765 q163 q766) ⟨Nat.le_of_ble_eq_true rfl, Nat.le_of_ble_eq_true rfl⟩ rfl rfl (Nat.le_of_ble_eq_true rfl) dX2_atHand_19 (fun r1 h2 => ?_)
    refine j_istore_n (pc := 22) hX (fun x3 => [(2, .int x3), (0, .ref (xz X + 2)), (1, .ref (xz X + a1))]) (fun _ => rfl) (Nat.le_of_ble_eq_true rfl) dX2_atHand_22 (fun x3 => ?_)
    refine j_iload_n (pc := 23) hX 0 rfl dX2_atHand_23 ?_
    refine j_iconst (pc := 24) hX ic_m1 dX2_atHand_24 ?_
    refine j_cne (pc := 25) (tgt := 34) hX rfl dX2_atHand_25 (fun _ => ?_) (fun _ => ?_)
    · refine j_aload_n (pc := 28) hX 1 rfl dX2_atHand_28 ?_
      refine j_iconst (pc := 29) hX ic_4 dX2_atHand_29 ?_
      refine j_callV (pc := 30) (e1 := eR) (a := 2) (As := fun z => [.int (4 : Int32)]) (rest := []) hX (fun r e => cR_wrong_t (4 : Int32) h2 r e) ymX2_wrong (lw_V q678 q680 qs9 q141 q681) rfl ckX2 rfl ⟨Nat.le_of_ble_eq_true rfl, Nat.le_of_ble_eq_true rfl⟩ rfl rfl (Nat.le_of_ble_eq_true rfl) dX2_atHand_30 (fun r4 h5 => ?_)
      refine j_grd fun g6 => ?_
      exact x_throwF (pc := 33) hX hxt g6 dX2_atHand_33
    · refine j_iload_n (pc := 34) hX 0 rfl dX2_atHand_34 ?_
      exact x_iret (pc := 35) hX hr dX2_atHand_35
  · refine j_aload_n (pc := 8) hX 0 rfl dX2_atHand_8 ?_
    refine j_iconst (pc := 9) hX ic_1 dX2_atHand_9 ?_
    refine j_callV (pc := 10) (e1 := eR) (a := 2) (As := fun z => [.int (1 : Int32)]) (rest := []) hX (fun r e => cR_wrong_t (1 : Int32) h r e) ymX2_wrong (lw_V q678 q680 qs9 q141 q681) rfl ckX2 rfl ⟨Nat.le_of_ble_eq_true rfl, Nat.le_of_ble_eq_true rfl⟩ rfl rfl (Nat.le_of_ble_eq_true rfl) dX2_atHand_10 (fun r7 h8 => ?_)
    refine j_grd fun g9 => ?_
    exact x_throwF (pc := 13) hX hxt g9 dX2_atHand_13
set_option maxHeartbeats 4000000 in
set_option maxRecDepth 100000 in
theorem cR_ahead_t   (a1 : Nat) (h : HP) (rr : (Int32 ⊕ Nat × Nat) × HP) (e : cR_ahead a1 h = some rr) : CnX eI cV yX2_ahead (ws_ yX2_ahead cX2_ahead 3 (some .int)) 7 132 (fun z => [.ref (z + 2), .ref (z + a1)]) h rr := by
  refine cnx_of (e1 := eI) (fun z => [(0, .ref (z + 2)), (1, .ref (z + a1))]) cV_ok (cR_ahead_m a1 h _ e) ymX2_ahead (fun _ => rfl) (fun _ => Nat.le_of_ble_eq_true rfl) (fun X hX hr hxt => ?_) e
  have hX : okX cV X rr cX2_ahead RX2 3 7 132 := hX
  rw [cR_ahead]
  refine j_aload_n (pc := 0) hX 0 rfl dX2_ahead_0 ?_
  refine j_aload_n (pc := 1) hX 1 rfl dX2_ahead_1 ?_
  refine x_callV (pc := 2) (e2 := eI) (a := 2) (As := fun z => [.ref (z + a1)]) (rest := []) hX hxt (fun r e => cR_atHand_t a1 h r e) ymX2_atHand (lw_V q891 q893 qs21 q141 q894) rfl ckX2 rfl ⟨Nat.le_of_ble_eq_true rfl, Nat.le_of_ble_eq_true rfl⟩ rfl rfl (Nat.le_of_ble_eq_true rfl) dX2_ahead_2 (fun r1 h2 => ?_)
  refine j_istore_n (pc := 5) hX (fun x3 => [(2, .int x3), (0, .ref (xz X + 2)), (1, .ref (xz X + a1))]) (fun _ => rfl) (Nat.le_of_ble_eq_true rfl) dX2_ahead_5 (fun x3 => ?_)
  refine j_aload_n (pc := 6) hX 1 rfl dX2_ahead_6 ?_
  refine j_callV (pc := 7) (e1 := eV) (a := 2) (As := fun z => []) (rest := []) hX (fun r e => cR_next_t h2 r e) ymX2_next (lw_V q536 q538 qs2 q141 q539) rfl ckX2 rfl ⟨Nat.le_of_ble_eq_true rfl, Nat.le_of_ble_eq_true rfl⟩ rfl rfl (Nat.le_of_ble_eq_true rfl) dX2_ahead_7 (fun r4 h5 => ?_)
  refine j_iload_n (pc := 10) hX 0 rfl dX2_ahead_10 ?_
  exact x_iret (pc := 11) hX hr dX2_ahead_11
set_option maxHeartbeats 4000000 in
set_option maxRecDepth 100000 in
theorem cR_knows_t    (h : HP) (rr : (Unit ⊕ Nat × Nat) × HP) (e : cR_knows  h = some rr) : CnX eV cV yX2_knows (ws_ yX2_knows cX2_knows 3 (none)) 8 154 (fun z => [.ref (z + 2)]) h rr := by
  refine cnx_of (e1 := eV) (fun z => [(0, .ref (z + 2))]) cV_ok (cR_knows_m  h _ e) ymX2_knows (fun _ => rfl) (fun _ => Nat.le_of_ble_eq_true rfl) (fun X hX hr hxt => ?_) e
  have hX : okX cV X rr cX2_knows RX2 3 8 154 := hX
  rw [cR_knows]
  refine j_aload_n (pc := 0) hX 0 rfl dX2_knows_0 ?_
  refine j_onr fun b1 e2 => ?_
  refine c_getR (pc := 1) hX fgX2_111_X2.1 fgX2_111_X2.2 rfl e2 dX2_knows_1 ?_
  refine j_grd fun g3 => ?_
  refine c_getR (pc := 4) hX fgX2_126_X3.1 fgX2_126_X3.2 (k1_of g3.1) g3.2.1.2.1 dX2_knows_4 ?_
  refine j_aload_n (pc := 7) hX 0 rfl dX2_knows_7 ?_
  refine j_aload_n (pc := 8) hX 0 rfl dX2_knows_8 ?_
  refine j_onr fun b4 e5 => ?_
  refine c_getR (pc := 9) hX fgX2_111_X2.1 fgX2_111_X2.2 rfl e5 dX2_knows_9 ?_
  refine j_grd fun g6 => ?_
  refine c_getR (pc := 12) hX fgX2_126_X3.1 fgX2_126_X3.2 (k1_of g6.1) g6.2.1.2.1 dX2_knows_12 ?_
  refine x_callV (pc := 15) (e2 := eI) (a := 2) (As := fun z => [.ref (z + (b4 + 3))]) (rest := [.ref (xz X + (b1 + 3))]) hX hxt (fun r e => cR_ahead_t (b4 + 3) h r e) ymX2_ahead (lw_V q887 q889 qs20 q141 q890) rfl ckX2 rfl ⟨Nat.le_of_ble_eq_true rfl, Nat.le_of_ble_eq_true rfl⟩ rfl rfl (Nat.le_of_ble_eq_true rfl) dX2_knows_15 (fun r7 h8 => ?_)
  refine j_grd fun g11 => ?_
  refine j_callV (pc := 18) (e1 := eR) (a := (b1 + 3)) (As := fun z => [.int r7]) (rest := []) hX (fun r e => cL_get_t (b1 + 3) r7 h8 r e) ymJ2_get (lw_V q895 q422 q423 q145 q424) rfl ckJ2 (k1_of g11.1) ⟨Nat.le_of_ble_eq_true rfl, Nat.le_of_ble_eq_true rfl⟩ rfl rfl (Nat.le_of_ble_eq_true rfl) dX2_knows_18 (fun r9 h10 => ?_)
  refine j_grd fun g12 => ?_
  refine j_castS (pc := 21) hX ckX13 g12 q849 dX2_knows_21 ?_
  refine j_astore_n (pc := 24) (ls' := [(1, .ref (xz X + r9)), (0, .ref (xz X + 2))]) hX rfl (Nat.le_of_ble_eq_true rfl) dX2_knows_24 ?_
  refine j_aload_n (pc := 25) hX 1 rfl dX2_knows_25 ?_
  refine j_aload_n (pc := 26) hX 1 rfl dX2_knows_26 ?_
  refine j_onr fun b13 e14 => ?_
  refine c_getR (pc := 27) hX fgX2_111_X2.1 fgX2_111_X2.2 rfl e14 dX2_knows_27 ?_
  refine j_grd fun g15 => ?_
  refine c_getR (pc := 30) hX fgX2_118_X3.1 fgX2_118_X3.2 (k1_of g15.1) g15.2.1.1 dX2_knows_30 ?_
  refine x_callV (pc := 33) (e2 := eI) (a := 2) (As := fun z => [.ref (z + (b13 + 1))]) (rest := []) hX hxt (fun r e => cR_atHand_t (b13 + 1) h10 r e) ymX2_atHand (lw_V q891 q893 qs21 q141 q894) rfl ckX2 rfl ⟨Nat.le_of_ble_eq_true rfl, Nat.le_of_ble_eq_true rfl⟩ rfl rfl (Nat.le_of_ble_eq_true rfl) dX2_knows_33 (fun r16 h17 => ?_)
  refine j_istore_n (pc := 36) hX (fun x18 => [(2, .int x18), (1, .ref (xz X + r9)), (0, .ref (xz X + 2))]) (fun _ => rfl) (Nat.le_of_ble_eq_true rfl) dX2_knows_36 (fun x18 => ?_)
  refine j_aload_n (pc := 37) hX 1 rfl dX2_knows_37 ?_
  refine j_grd fun g19 => ?_
  refine c_getI (pc := 38) hX fgX2_210_X13.1 fgX2_210_X13.2 g19 dX2_knows_38 ?_
  refine j_iload_n (pc := 41) hX 0 rfl dX2_knows_41 ?_
  refine j_ishr (pc := 42) hX dX2_knows_42 ?_
  refine j_iconst (pc := 43) hX ic_1 dX2_knows_43 ?_
  refine j_iand (pc := 44) hX dX2_knows_44 ?_
  refine j_iconst (pc := 45) hX ic_1 dX2_knows_45 ?_
  refine j_cne (pc := 46) (tgt := 55) hX rfl dX2_knows_46 (fun _ => ?_) (fun _ => ?_)
  · refine j_aload_n (pc := 49) hX 2 rfl dX2_knows_49 ?_
    refine j_iconst (pc := 50) hX ic_3 dX2_knows_50 ?_
    refine j_callV (pc := 51) (e1 := eR) (a := 2) (As := fun z => [.int (3 : Int32)]) (rest := []) hX (fun r e => cR_wrong_t (3 : Int32) h17 r e) ymX2_wrong (lw_V q678 q680 qs9 q141 q681) rfl ckX2 rfl ⟨Nat.le_of_ble_eq_true rfl, Nat.le_of_ble_eq_true rfl⟩ rfl rfl (Nat.le_of_ble_eq_true rfl) dX2_knows_51 (fun r20 h21 => ?_)
    refine j_grd fun g22 => ?_
    exact x_throwF (pc := 54) hX hxt g22 dX2_knows_54
  · refine j_aload_n (pc := 55) hX 2 rfl dX2_knows_55 ?_
    refine j_callV (pc := 56) (e1 := eV) (a := 2) (As := fun z => []) (rest := []) hX (fun r e => cR_next_t h17 r e) ymX2_next (lw_V q536 q538 qs2 q141 q539) rfl ckX2 rfl ⟨Nat.le_of_ble_eq_true rfl, Nat.le_of_ble_eq_true rfl⟩ rfl rfl (Nat.le_of_ble_eq_true rfl) dX2_knows_56 (fun r23 h24 => ?_)
    refine j_aload_n (pc := 59) hX 1 rfl dX2_knows_59 ?_
    refine j_dup (pc := 60) hX rfl dX2_knows_60 ?_
    refine j_grd fun g25 => ?_
    refine c_getI (pc := 61) hX fgX2_210_X13.1 fgX2_210_X13.2 g25 dX2_knows_61 ?_
    refine j_iconst (pc := 64) hX ic_1 dX2_knows_64 ?_
    refine j_iload_n (pc := 65) hX 0 rfl dX2_knows_65 ?_
    refine j_ishl (pc := 66) hX dX2_knows_66 ?_
    refine j_ior (pc := 67) hX dX2_knows_67 ?_
    refine c_putI (pc := 68) hX fwX2_210_X13.1 fwX2_210_X13.2 g25 dX2_knows_68 (fun h26 q27 q28 => ?_)
    exact x_vret (pc := 71) hX hr dX2_knows_71
set_option maxHeartbeats 4000000 in
set_option maxRecDepth 100000 in
theorem kX14_init_t   (o : Nat) (a1 : Int32) (h : HP) (rr : Unit × HP) (e : kX14_init o a1 h = some rr) : Cn cV yX14_init (ws_ yX14_init cX14_init 2 (none)) 2 33 (fun z => [.ref (z + o), .int a1]) h (fun z => eV z rr.1) rr.2 := by
  refine cn_of (e1 := eV) (fun z => [(0, .ref (z + o)), (1, .int a1)]) cV_ok (kX14_init_m o a1 h _ e) ymX14_init (fun _ => rfl) (fun _ => Nat.le_of_ble_eq_true rfl) (fun X hX hr hnm => ?_) e
  have hX : okX cV X rr cX14_init RX14 2 2 33 := hX
  rw [kX14_init]
  refine j_aload_n (pc := 0) hX 0 rfl dX14_init_0 ?_
  refine j_iload_n (pc := 1) hX 1 rfl dX14_init_1 ?_
  refine j_callI (pc := 2) (e1 := eV) (a := o) (As := fun z => [.int a1]) (rest := []) hX (fun r e => kX12_init_t o a1 h r e) ymX12_init rfl q905 q771 q163 q772 ⟨Nat.le_of_ble_eq_true rfl, Nat.le_of_ble_eq_true rfl⟩ rfl rfl (Nat.le_of_ble_eq_true rfl) dX14_init_2 (fun r1 h2 => ?_)
  exact j_vret (pc := 5) hX hr dX14_init_5
set_option maxHeartbeats 4000000 in
set_option maxRecDepth 100000 in
theorem cR_some_t    (h : HP) (rr : (Int32 ⊕ Nat × Nat) × HP) (e : cR_some  h = some rr) : CnX eI cV yX2_some (ws_ yX2_some cX2_some 1 (some .int)) 8 154 (fun z => [.ref (z + 2)]) h rr := by
  refine cnx_of (e1 := eI) (fun z => [(0, .ref (z + 2))]) cV_ok (cR_some_m  h _ e) ymX2_some (fun _ => rfl) (fun _ => Nat.le_of_ble_eq_true rfl) (fun X hX hr hxt => ?_) e
  have hX : okX cV X rr cX2_some RX2 1 8 154 := hX
  rw [cR_some]
  refine j_aload_n (pc := 0) hX 0 rfl dX2_some_0 ?_
  refine j_bipush (pc := 1) hX bp_12 dX2_some_1 ?_
  refine j_bipush (pc := 3) hX bp_12 dX2_some_3 ?_
  refine j_callV (pc := 5) (e1 := eI) (a := 2) (As := fun z => [.int (12 : Int32), .int (12 : Int32)]) (rest := []) hX (fun r e => cR_isWord_t (12 : Int32) (12 : Int32) h r e) ymX2_isWord (lw_V q674 q676 qs8 q141 q677) rfl ckX2 rfl ⟨Nat.le_of_ble_eq_true rfl, Nat.le_of_ble_eq_true rfl⟩ rfl rfl (Nat.le_of_ble_eq_true rfl) dX2_some_5 (fun r1 h2 => ?_)
  refine j_ifne (pc := 8) (tgt := 23) hX rfl dX2_some_8 (fun _ => ?_) (fun _ => ?_)
  · refine j_aload_n (pc := 11) hX 0 rfl dX2_some_11 ?_
    refine j_aload_n (pc := 12) hX 0 rfl dX2_some_12 ?_
    refine j_onr fun b3 e4 => ?_
    refine c_getR (pc := 13) hX fgX2_111_X2.1 fgX2_111_X2.2 rfl e4 dX2_some_13 ?_
    refine j_grd fun g5 => ?_
    refine c_getR (pc := 16) hX fgX2_118_X3.1 fgX2_118_X3.2 (k1_of g5.1) g5.2.1.1 dX2_some_16 ?_
    refine x_callV (pc := 19) (e2 := eI) (a := 2) (As := fun z => [.ref (z + (b3 + 1))]) (rest := []) hX hxt (fun r e => cR_ahead_t (b3 + 1) h2 r e) ymX2_ahead (lw_V q887 q889 qs20 q141 q890) rfl ckX2 rfl ⟨Nat.le_of_ble_eq_true rfl, Nat.le_of_ble_eq_true rfl⟩ rfl rfl (Nat.le_of_ble_eq_true rfl) dX2_some_19 (fun r6 h7 => ?_)
    exact x_iret (pc := 22) hX hr dX2_some_22
  · refine j_aload_n (pc := 23) hX 0 rfl dX2_some_23 ?_
    refine j_callV (pc := 24) (e1 := eV) (a := 2) (As := fun z => []) (rest := []) hX (fun r e => cR_next_t h2 r e) ymX2_next (lw_V q536 q538 qs2 q141 q539) rfl ckX2 rfl ⟨Nat.le_of_ble_eq_true rfl, Nat.le_of_ble_eq_true rfl⟩ rfl rfl (Nat.le_of_ble_eq_true rfl) dX2_some_24 (fun r8 h9 => ?_)
    refine j_iconst (pc := 27) hX ic_m1 dX2_some_27 ?_
    exact x_iret (pc := 28) hX hr dX2_some_28
set_option maxHeartbeats 4000000 in
set_option maxRecDepth 100000 in
theorem cR_question_t    (h : HP) (rr : (Unit ⊕ Nat × Nat) × HP) (e : cR_question  h = some rr) : CnX eV cV yX2_question (ws_ yX2_question cX2_question 2 (none)) 9 174 (fun z => [.ref (z + 2)]) h rr := by
  refine cnx_of (e1 := eV) (fun z => [(0, .ref (z + 2))]) cV_ok (cR_question_m  h _ e) ymX2_question (fun _ => rfl) (fun _ => Nat.le_of_ble_eq_true rfl) (fun X hX hr hxt => ?_) e
  have hX : okX cV X rr cX2_question RX2 2 9 174 := hX
  rw [cR_question]
  refine j_grd fun g1 => ?_
  refine j_new (pc := 0) hX ckX14 cfX14 q900 q901 q168 (cV_vA g1) dX2_question_0 (fun b2 h3 => ?_)
  refine j_dup (pc := 3) hX rfl dX2_question_3 ?_
  refine j_aload_n (pc := 4) hX 0 rfl dX2_question_4 ?_
  refine j_aload_n (pc := 5) hX 0 rfl dX2_question_5 ?_
  refine j_onr fun b4 e5 => ?_
  refine c_getR (pc := 6) hX fgX2_111_X2.1 fgX2_111_X2.2 rfl e5 dX2_question_6 ?_
  refine j_grd fun g6 => ?_
  refine c_getR (pc := 9) hX fgX2_129_X3.1 fgX2_129_X3.2 (k1_of g6.1) g6.2.1.2.2.1 dX2_question_9 ?_
  refine x_callV (pc := 12) (e2 := eI) (a := 2) (As := fun z => [.ref (z + (b4 + 5))]) (rest := [.ref (xz X + b2), .ref (xz X + b2)]) hX hxt (fun r e => cR_fresh_t (b4 + 5) h3 r e) ymX2_fresh (lw_V q760 q762 qs12 q141 q763) rfl ckX2 rfl ⟨Nat.le_of_ble_eq_true rfl, Nat.le_of_ble_eq_true rfl⟩ rfl rfl (Nat.le_of_ble_eq_true rfl) dX2_question_12 (fun r7 h8 => ?_)
  refine j_callI (pc := 15) (e1 := eV) (a := b2) (As := fun z => [.int r7]) (rest := [.ref (xz X + b2)]) hX (fun r e => kX14_init_t b2 r7 h8 r e) ymX14_init rfl q902 q903 q168 q904 ⟨Nat.le_of_ble_eq_true rfl, Nat.le_of_ble_eq_true rfl⟩ rfl rfl (Nat.le_of_ble_eq_true rfl) dX2_question_15 (fun r9 h10 => ?_)
  refine j_astore_n (pc := 18) (ls' := [(1, .ref (xz X + b2)), (0, .ref (xz X + 2))]) hX rfl (Nat.le_of_ble_eq_true rfl) dX2_question_18 ?_
  refine j_aload_n (pc := 19) hX 1 rfl dX2_question_19 ?_
  refine j_bipush (pc := 20) hX bp_8 dX2_question_20 ?_
  refine j_bipush (pc := 22) hX bp_11 dX2_question_22 ?_
  refine j_callV (pc := 24) (e1 := eI) (a := 2) (As := fun z => [.int (8 : Int32), .int (11 : Int32)]) (rest := []) hX (fun r e => cR_isWord_t (8 : Int32) (11 : Int32) h10 r e) ymX2_isWord (lw_V q674 q676 qs8 q141 q677) rfl ckX2 rfl ⟨Nat.le_of_ble_eq_true rfl, Nat.le_of_ble_eq_true rfl⟩ rfl rfl (Nat.le_of_ble_eq_true rfl) dX2_question_24 (fun r11 h12 => ?_)
  refine j_ifne (pc := 27) (tgt := 36) hX rfl dX2_question_27 (fun _ => ?_) (fun _ => ?_)
  · refine j_aload_n (pc := 30) hX 1 rfl dX2_question_30 ?_
    refine j_iconst (pc := 31) hX ic_1 dX2_question_31 ?_
    refine j_callV (pc := 32) (e1 := eR) (a := 2) (As := fun z => [.int (1 : Int32)]) (rest := []) hX (fun r e => cR_wrong_t (1 : Int32) h12 r e) ymX2_wrong (lw_V q678 q680 qs9 q141 q681) rfl ckX2 rfl ⟨Nat.le_of_ble_eq_true rfl, Nat.le_of_ble_eq_true rfl⟩ rfl rfl (Nat.le_of_ble_eq_true rfl) dX2_question_32 (fun r13 h14 => ?_)
    refine j_grd fun g15 => ?_
    exact x_throwF (pc := 35) hX hxt g15 dX2_question_35
  · refine j_aload_n (pc := 36) hX 0 rfl dX2_question_36 ?_
    refine j_aload_n (pc := 37) hX 1 rfl dX2_question_37 ?_
    refine c_getI (pc := 38) hX fgX2_47_X2.1 fgX2_47_X2.2 rfl dX2_question_38 ?_
    refine j_bipush (pc := 41) hX bp_8 dX2_question_41 ?_
    refine j_isub (pc := 43) hX dX2_question_43 ?_
    refine j_grd fun g16 => ?_
    refine c_putI (pc := 44) hX fwX2_215_X14.1 fwX2_215_X14.2 g16 dX2_question_44 (fun h17 q18 q19 => ?_)
    refine j_aload_n (pc := 47) hX 1 rfl dX2_question_47 ?_
    refine j_callV (pc := 48) (e1 := eV) (a := 2) (As := fun z => []) (rest := []) hX (fun r e => cR_next_t h17 r e) ymX2_next (lw_V q536 q538 qs2 q141 q539) rfl ckX2 rfl ⟨Nat.le_of_ble_eq_true rfl, Nat.le_of_ble_eq_true rfl⟩ rfl rfl (Nat.le_of_ble_eq_true rfl) dX2_question_48 (fun r20 h21 => ?_)
    refine j_aload_n (pc := 51) hX 0 rfl dX2_question_51 ?_
    refine j_aload_n (pc := 52) hX 1 rfl dX2_question_52 ?_
    refine x_callV (pc := 53) (e2 := eI) (a := 2) (As := fun z => []) (rest := [.ref (xz X + b2)]) hX hxt (fun r e => cR_some_t h21 r e) ymX2_some (lw_V q928 q930 qs23 q141 q931) rfl ckX2 rfl ⟨Nat.le_of_ble_eq_true rfl, Nat.le_of_ble_eq_true rfl⟩ rfl rfl (Nat.le_of_ble_eq_true rfl) dX2_question_53 (fun r22 h23 => ?_)
    refine j_grd fun g24 => ?_
    refine c_putI (pc := 56) hX fwX2_221_X14.1 fwX2_221_X14.2 g24 dX2_question_56 (fun h25 q26 q27 => ?_)
    refine j_aload_n (pc := 59) hX 0 rfl dX2_question_59 ?_
    refine j_aload_n (pc := 60) hX 1 rfl dX2_question_60 ?_
    refine x_callV (pc := 61) (e2 := eI) (a := 2) (As := fun z => []) (rest := [.ref (xz X + b2)]) hX hxt (fun r e => cR_some_t h25 r e) ymX2_some (lw_V q928 q930 qs23 q141 q931) rfl ckX2 rfl ⟨Nat.le_of_ble_eq_true rfl, Nat.le_of_ble_eq_true rfl⟩ rfl rfl (Nat.le_of_ble_eq_true rfl) dX2_question_61 (fun r28 h29 => ?_)
    refine j_grd fun g30 => ?_
    refine c_putI (pc := 64) hX fwX2_224_X14.1 fwX2_224_X14.2 g30 dX2_question_64 (fun h31 q32 q33 => ?_)
    refine j_aload_n (pc := 67) hX 0 rfl dX2_question_67 ?_
    refine j_aload_n (pc := 68) hX 1 rfl dX2_question_68 ?_
    refine x_callV (pc := 69) (e2 := eI) (a := 2) (As := fun z => []) (rest := [.ref (xz X + b2)]) hX hxt (fun r e => cR_some_t h31 r e) ymX2_some (lw_V q928 q930 qs23 q141 q931) rfl ckX2 rfl ⟨Nat.le_of_ble_eq_true rfl, Nat.le_of_ble_eq_true rfl⟩ rfl rfl (Nat.le_of_ble_eq_true rfl) dX2_question_69 (fun r34 h35 => ?_)
    refine j_grd fun g36 => ?_
    refine c_putI (pc := 72) hX fwX2_227_X14.1 fwX2_227_X14.2 g36 dX2_question_72 (fun h37 q38 q39 => ?_)
    refine j_aload_n (pc := 75) hX 1 rfl dX2_question_75 ?_
    refine j_onr fun b40 e41 => ?_
    refine c_getR (pc := 76) hX fgX2_111_X2.1 fgX2_111_X2.2 rfl e41 dX2_question_76 ?_
    refine j_grd fun g42 => ?_
    refine c_getR (pc := 79) hX fgX2_129_X3.1 fgX2_129_X3.2 (k1_of g42.1) g42.2.1.2.2.1 dX2_question_79 ?_
    refine j_aload_n (pc := 82) hX 0 rfl dX2_question_82 ?_
    refine j_grd fun g45 => ?_
    refine j_callV (pc := 83) (e1 := eI) (a := (b40 + 5)) (As := fun z => [.ref (z + b2)]) (rest := []) hX (fun r e => cL_add_t (b40 + 5) b2 h37 r e) ymJ2_add (lw_V q778 q779 q780 q145 q781) rfl ckJ2 (k1_of g45.1) ⟨Nat.le_of_ble_eq_true rfl, Nat.le_of_ble_eq_true rfl⟩ rfl rfl (Nat.le_of_ble_eq_true rfl) dX2_question_83 (fun r43 h44 => ?_)
    refine j_pop (pc := 86) hX rfl dX2_question_86 ?_
    exact x_vret (pc := 87) hX hr dX2_question_87
set_option maxHeartbeats 4000000 in
set_option maxRecDepth 100000 in
theorem cR_talk_t    (h : HP) (rr : (Unit ⊕ Nat × Nat) × HP) (e : cR_talk  h = some rr) : CnX eV cV yX2_talk (ws_ yX2_talk cX2_talk 4 (none)) 8 154 (fun z => [.ref (z + 2)]) h rr := by
  refine cnx_of (e1 := eV) (fun z => [(0, .ref (z + 2))]) cV_ok (cR_talk_m  h _ e) ymX2_talk (fun _ => rfl) (fun _ => Nat.le_of_ble_eq_true rfl) (fun X hX hr hxt => ?_) e
  have hX : okX cV X rr cX2_talk RX2 4 8 154 := hX
  rw [cR_talk]
  refine j_aload_n (pc := 0) hX 0 rfl dX2_talk_0 ?_
  refine j_onr fun b1 e2 => ?_
  refine c_getR (pc := 1) hX fgX2_111_X2.1 fgX2_111_X2.2 rfl e2 dX2_talk_1 ?_
  refine j_grd fun g3 => ?_
  refine c_getI (pc := 4) hX fgX2_132_X3.1 fgX2_132_X3.2 (k1_of g3.1) dX2_talk_4 ?_
  refine j_istore_n (pc := 7) hX (fun x4 => [(1, .int x4), (0, .ref (xz X + 2))]) (fun _ => rfl) (Nat.le_of_ble_eq_true rfl) dX2_talk_7 (fun x4 => ?_)
  refine j_aload_n (pc := 8) hX 1 rfl dX2_talk_8 ?_
  refine j_aload_n (pc := 9) hX 1 rfl dX2_talk_9 ?_
  refine j_onr fun b5 e6 => ?_
  refine c_getR (pc := 10) hX fgX2_111_X2.1 fgX2_111_X2.2 rfl e6 dX2_talk_10 ?_
  refine j_grd fun g7 => ?_
  refine c_getR (pc := 13) hX fgX2_126_X3.1 fgX2_126_X3.2 (k1_of g7.1) g7.2.1.2.1 dX2_talk_13 ?_
  refine x_callV (pc := 16) (e2 := eI) (a := 2) (As := fun z => [.ref (z + (b5 + 3))]) (rest := []) hX hxt (fun r e => cR_ahead_t (b5 + 3) h r e) ymX2_ahead (lw_V q887 q889 qs20 q141 q890) rfl ckX2 rfl ⟨Nat.le_of_ble_eq_true rfl, Nat.le_of_ble_eq_true rfl⟩ rfl rfl (Nat.le_of_ble_eq_true rfl) dX2_talk_16 (fun r8 h9 => ?_)
  refine j_istore_n (pc := 19) hX (fun x10 => [(2, .int x10), (1, .int x4), (0, .ref (xz X + 2))]) (fun _ => rfl) (Nat.le_of_ble_eq_true rfl) dX2_talk_19 (fun x10 => ?_)
  refine j_aload_n (pc := 20) hX 2 rfl dX2_talk_20 ?_
  refine j_aload_n (pc := 21) hX 2 rfl dX2_talk_21 ?_
  refine j_onr fun b11 e12 => ?_
  refine c_getR (pc := 22) hX fgX2_111_X2.1 fgX2_111_X2.2 rfl e12 dX2_talk_22 ?_
  refine j_grd fun g13 => ?_
  refine c_getR (pc := 25) hX fgX2_126_X3.1 fgX2_126_X3.2 (k1_of g13.1) g13.2.1.2.1 dX2_talk_25 ?_
  refine x_callV (pc := 28) (e2 := eI) (a := 2) (As := fun z => [.ref (z + (b11 + 3))]) (rest := []) hX hxt (fun r e => cR_atHand_t (b11 + 3) h9 r e) ymX2_atHand (lw_V q891 q893 qs21 q141 q894) rfl ckX2 rfl ⟨Nat.le_of_ble_eq_true rfl, Nat.le_of_ble_eq_true rfl⟩ rfl rfl (Nat.le_of_ble_eq_true rfl) dX2_talk_28 (fun r14 h15 => ?_)
  refine j_istore_n (pc := 31) hX (fun x16 => [(3, .int x16), (2, .int x10), (1, .int x4), (0, .ref (xz X + 2))]) (fun _ => rfl) (Nat.le_of_ble_eq_true rfl) dX2_talk_31 (fun x16 => ?_)
  refine j_iload_n (pc := 32) hX 1 rfl dX2_talk_32 ?_
  refine j_iload_n (pc := 33) hX 0 rfl dX2_talk_33 ?_
  refine j_cne (pc := 34) (tgt := 43) hX rfl dX2_talk_34 (fun _ => ?_) (fun _ => ?_)
  · refine j_aload_n (pc := 37) hX 3 rfl dX2_talk_37 ?_
    refine j_iconst (pc := 38) hX ic_5 dX2_talk_38 ?_
    refine j_callV (pc := 39) (e1 := eR) (a := 2) (As := fun z => [.int (5 : Int32)]) (rest := []) hX (fun r e => cR_wrong_t (5 : Int32) h15 r e) ymX2_wrong (lw_V q678 q680 qs9 q141 q681) rfl ckX2 rfl ⟨Nat.le_of_ble_eq_true rfl, Nat.le_of_ble_eq_true rfl⟩ rfl rfl (Nat.le_of_ble_eq_true rfl) dX2_talk_39 (fun r17 h18 => ?_)
    refine j_grd fun g19 => ?_
    exact x_throwF (pc := 42) hX hxt g19 dX2_talk_42
  · refine j_aload_n (pc := 43) hX 3 rfl dX2_talk_43 ?_
    refine j_callV (pc := 44) (e1 := eV) (a := 2) (As := fun z => []) (rest := []) hX (fun r e => cR_next_t h15 r e) ymX2_next (lw_V q536 q538 qs2 q141 q539) rfl ckX2 rfl ⟨Nat.le_of_ble_eq_true rfl, Nat.le_of_ble_eq_true rfl⟩ rfl rfl (Nat.le_of_ble_eq_true rfl) dX2_talk_44 (fun r20 h21 => ?_)
    refine j_aload_n (pc := 47) hX 3 rfl dX2_talk_47 ?_
    refine j_onr fun b22 e23 => ?_
    refine c_getR (pc := 48) hX fgX2_111_X2.1 fgX2_111_X2.2 rfl e23 dX2_talk_48 ?_
    refine j_grd fun g24 => ?_
    refine c_getR (pc := 51) hX fgX2_230_X3.1 fgX2_230_X3.2 (k1_of g24.1) g24.2.1.2.2.2.1 dX2_talk_51 ?_
    refine j_iload_n (pc := 54) hX 2 rfl dX2_talk_54 ?_
    refine j_iload_n (pc := 55) hX 1 rfl dX2_talk_55 ?_
    refine c_iast (pc := 56) (n := 10) hX g24.2.2.1 dX2_talk_56 (fun h25 q26 q27 => ?_)
    refine j_aload_n (pc := 57) hX 3 rfl dX2_talk_57 ?_
    refine j_onr fun b28 e29 => ?_
    refine c_getR (pc := 58) hX fgX2_111_X2.1 fgX2_111_X2.2 rfl e29 dX2_talk_58 ?_
    refine j_grd fun g30 => ?_
    refine c_getR (pc := 61) hX fgX2_234_X3.1 fgX2_234_X3.2 (k1_of g30.1) g30.2.1.2.2.2.2.1 dX2_talk_61 ?_
    refine j_iload_n (pc := 64) hX 2 rfl dX2_talk_64 ?_
    refine j_iload_n (pc := 65) hX 0 rfl dX2_talk_65 ?_
    refine c_iast (pc := 66) (n := 10) hX g30.2.2.2.1 dX2_talk_66 (fun h31 q32 q33 => ?_)
    refine j_aload_n (pc := 67) hX 3 rfl dX2_talk_67 ?_
    refine j_onr fun b34 e35 => ?_
    refine c_getR (pc := 68) hX fgX2_111_X2.1 fgX2_111_X2.2 rfl e35 dX2_talk_68 ?_
    refine j_grd fun g36 => ?_
    refine c_getR (pc := 71) hX fgX2_237_X3.1 fgX2_237_X3.2 (k1_of g36.1) g36.2.1.2.2.2.2.2.1 dX2_talk_71 ?_
    refine j_iload_n (pc := 74) hX 2 rfl dX2_talk_74 ?_
    refine j_aload_n (pc := 75) hX 3 rfl dX2_talk_75 ?_
    refine j_aload_n (pc := 76) hX 3 rfl dX2_talk_76 ?_
    refine j_onr fun b37 e38 => ?_
    refine c_getR (pc := 77) hX fgX2_111_X2.1 fgX2_111_X2.2 rfl e38 dX2_talk_77 ?_
    refine j_grd fun g39 => ?_
    refine c_getR (pc := 80) hX fgX2_129_X3.1 fgX2_129_X3.2 (k1_of g39.1) g39.2.1.2.2.1 dX2_talk_80 ?_
    refine x_callV (pc := 83) (e2 := eI) (a := 2) (As := fun z => [.ref (z + (b37 + 5))]) (rest := [.int x4, .ref (xz X + (b34 + 9))]) hX hxt (fun r e => cR_ahead_t (b37 + 5) h31 r e) ymX2_ahead (lw_V q887 q889 qs20 q141 q890) rfl ckX2 rfl ⟨Nat.le_of_ble_eq_true rfl, Nat.le_of_ble_eq_true rfl⟩ rfl rfl (Nat.le_of_ble_eq_true rfl) dX2_talk_83 (fun r40 h41 => ?_)
    refine j_grd fun g42 => ?_
    refine c_iast (pc := 86) (n := (gT (cV h41) (b34 + 9)).2) hX (kA_of g42) dX2_talk_86 (fun h43 q44 q45 => ?_)
    refine j_aload_n (pc := 87) hX 3 rfl dX2_talk_87 ?_
    refine j_onr fun b46 e47 => ?_
    refine c_getR (pc := 88) hX fgX2_111_X2.1 fgX2_111_X2.2 rfl e47 dX2_talk_88 ?_
    refine j_dup (pc := 91) hX rfl dX2_talk_91 ?_
    refine j_grd fun g48 => ?_
    refine c_getI (pc := 92) hX fgX2_132_X3.1 fgX2_132_X3.2 (k1_of g48.1) dX2_talk_92 ?_
    refine j_iconst (pc := 95) hX ic_1 dX2_talk_95 ?_
    refine j_iadd (pc := 96) hX dX2_talk_96 ?_
    refine c_putI (pc := 97) hX fwX2_132_X3.1 fwX2_132_X3.2 (k1_of g48.1) dX2_talk_97 (fun h49 q50 q51 => ?_)
    exact x_vret (pc := 100) hX hr dX2_talk_100
set_option maxHeartbeats 4000000 in
set_option maxRecDepth 100000 in
theorem cR_knot_t    (h : HP) (rr : (Int32 ⊕ Nat × Nat) × HP) (e : cR_knot  h = some rr) : CnX eI cV yX2_knot (ws_ yX2_knot cX2_knot 2 (some .int)) 7 132 (fun z => [.ref (z + 2)]) h rr := by
  refine cnx_of (e1 := eI) (fun z => [(0, .ref (z + 2))]) cV_ok (cR_knot_m  h _ e) ymX2_knot (fun _ => rfl) (fun _ => Nat.le_of_ble_eq_true rfl) (fun X hX hr hxt => ?_) e
  have hX : okX cV X rr cX2_knot RX2 2 7 132 := hX
  rw [cR_knot]
  refine j_aload_n (pc := 0) hX 0 rfl dX2_knot_0 ?_
  refine j_onr fun b1 e2 => ?_
  refine c_getR (pc := 1) hX fgX2_111_X2.1 fgX2_111_X2.2 rfl e2 dX2_knot_1 ?_
  refine j_grd fun g3 => ?_
  refine c_getI (pc := 4) hX fgX2_240_X3.1 fgX2_240_X3.2 (k1_of g3.1) dX2_knot_4 ?_
  refine j_bipush (pc := 7) hX bp_64 dX2_knot_7 ?_
  refine j_cne (pc := 9) (tgt := 18) hX rfl dX2_knot_9 (fun _ => ?_) (fun _ => ?_)
  · refine j_aload_n (pc := 12) hX 0 rfl dX2_knot_12 ?_
    refine j_iconst (pc := 13) hX ic_2 dX2_knot_13 ?_
    refine j_callV (pc := 14) (e1 := eR) (a := 2) (As := fun z => [.int (2 : Int32)]) (rest := []) hX (fun r e => cR_wrong_t (2 : Int32) h r e) ymX2_wrong (lw_V q678 q680 qs9 q141 q681) rfl ckX2 rfl ⟨Nat.le_of_ble_eq_true rfl, Nat.le_of_ble_eq_true rfl⟩ rfl rfl (Nat.le_of_ble_eq_true rfl) dX2_knot_14 (fun r4 h5 => ?_)
    refine j_grd fun g6 => ?_
    exact x_throwF (pc := 17) hX hxt g6 dX2_knot_17
  · refine j_aload_n (pc := 18) hX 0 rfl dX2_knot_18 ?_
    refine j_onr fun b7 e8 => ?_
    refine c_getR (pc := 19) hX fgX2_111_X2.1 fgX2_111_X2.2 rfl e8 dX2_knot_19 ?_
    refine j_dup (pc := 22) hX rfl dX2_knot_22 ?_
    refine j_grd fun g9 => ?_
    refine c_getI (pc := 23) hX fgX2_240_X3.1 fgX2_240_X3.2 (k1_of g9.1) dX2_knot_23 ?_
    refine j_iconst (pc := 26) hX ic_1 dX2_knot_26 ?_
    refine j_iadd (pc := 27) hX dX2_knot_27 ?_
    refine c_putI (pc := 28) hX fwX2_240_X3.1 fwX2_240_X3.2 (k1_of g9.1) dX2_knot_28 (fun h10 q11 q12 => ?_)
    refine j_aload_n (pc := 31) hX 0 rfl dX2_knot_31 ?_
    refine c_getI (pc := 32) hX fgX2_47_X2.1 fgX2_47_X2.2 rfl dX2_knot_32 ?_
    refine j_istore_n (pc := 35) hX (fun x13 => [(1, .int x13), (0, .ref (xz X + 2))]) (fun _ => rfl) (Nat.le_of_ble_eq_true rfl) dX2_knot_35 (fun x13 => ?_)
    refine j_aload_n (pc := 36) hX 1 rfl dX2_knot_36 ?_
    refine j_callV (pc := 37) (e1 := eV) (a := 2) (As := fun z => []) (rest := []) hX (fun r e => cR_next_t h10 r e) ymX2_next (lw_V q536 q538 qs2 q141 q539) rfl ckX2 rfl ⟨Nat.le_of_ble_eq_true rfl, Nat.le_of_ble_eq_true rfl⟩ rfl rfl (Nat.le_of_ble_eq_true rfl) dX2_knot_37 (fun r14 h15 => ?_)
    refine j_iload_n (pc := 40) hX 0 rfl dX2_knot_40 ?_
    exact x_iret (pc := 41) hX hr dX2_knot_41
set_option maxHeartbeats 4000000 in
set_option maxRecDepth 100000 in
theorem kX15_init_t   (o : Nat) (h : HP) (rr : Unit × HP) (e : kX15_init o h = some rr) : Cn cV yX15_init (ws_ yX15_init cX15_init 1 (none)) 1 12 (fun z => [.ref (z + o)]) h (fun z => eV z rr.1) rr.2 := by
  refine cn_of (e1 := eV) (fun z => [(0, .ref (z + o))]) cV_ok (kX15_init_m o h _ e) ymX15_init (fun _ => rfl) (fun _ => Nat.le_of_ble_eq_true rfl) (fun X hX hr hnm => ?_) e
  have hX : okX cV X rr cX15_init RX15 1 1 12 := hX
  rw [kX15_init]
  refine j_aload_n (pc := 0) hX 0 rfl dX15_init_0 ?_
  refine j_objInit (pc := 1) hX q980 q188 q189 (Nat.le_of_ble_eq_true rfl) (Nat.le_of_ble_eq_true rfl) dX15_init_1 ?_
  exact j_vret (pc := 4) hX hr dX15_init_4
set_option maxHeartbeats 4000000 in
set_option maxRecDepth 100000 in
theorem kX18_init_t   (o : Nat) (a1 : Nat) (h : HP) (rr : Unit × HP) (e : kX18_init o a1 h = some rr) : Cn cV yX18_init (ws_ yX18_init cX18_init 2 (none)) 2 32 (fun z => [.ref (z + o), .ref (z + a1)]) h (fun z => eV z rr.1) rr.2 := by
  refine cn_of (e1 := eV) (fun z => [(0, .ref (z + o)), (1, .ref (z + a1))]) cV_ok (kX18_init_m o a1 h _ e) ymX18_init (fun _ => rfl) (fun _ => Nat.le_of_ble_eq_true rfl) (fun X hX hr hnm => ?_) e
  have hX : okX cV X rr cX18_init RX18 2 2 32 := hX
  rw [kX18_init]
  refine j_aload_n (pc := 0) hX 0 rfl dX18_init_0 ?_
  refine j_callIN (pc := 1) (e1 := eV) (a := o) (As := fun z => []) (rest := []) hX (fun r e => kX15_init_t o h r e) ymX15_init rfl (List.mem_of_getElem? (i := 10) rfl) q978 q169 q979 ⟨Nat.le_of_ble_eq_true rfl, Nat.le_of_ble_eq_true rfl⟩ rfl rfl (Nat.le_of_ble_eq_true rfl) dX18_init_1 (fun r1 h2 => ?_)
  refine j_aload_n (pc := 4) hX 0 rfl dX18_init_4 ?_
  refine j_aload_n (pc := 5) hX 1 rfl dX18_init_5 ?_
  refine j_grd fun g3 => ?_
  refine j_grd fun g7 => ?_
  refine c_putNt (pc := 6) hX hnm ffX18_7_X18 ffX18_7_X19 g3 (cV_sR (cRs_big g7)) dX18_init_6 (fun h4 q5 => ?_)
  exact j_vret (pc := 9) hX hr dX18_init_9
set_option maxHeartbeats 4000000 in
set_option maxRecDepth 100000 in
theorem kX19_init_t   (o : Nat) (a1 : Int32) (a2 : Nat) (a3 : Nat) (h : HP) (rr : Unit × HP) (e : kX19_init o a1 a2 a3 h = some rr) : Cn cV yX19_init (ws_ yX19_init cX19_init 4 (none)) 3 53 (fun z => [.ref (z + o), .int a1, .ref (z + a2), .ref (z + a3)]) h (fun z => eV z rr.1) rr.2 := by
  refine cn_of (e1 := eV) (fun z => [(0, .ref (z + o)), (1, .int a1), (2, .ref (z + a2)), (3, .ref (z + a3))]) cV_ok (kX19_init_m o a1 a2 a3 h _ e) ymX19_init (fun _ => rfl) (fun _ => Nat.le_of_ble_eq_true rfl) (fun X hX hr hnm => ?_) e
  have hX : okX cV X rr cX19_init RX19 4 3 53 := hX
  rw [kX19_init]
  refine j_aload_n (pc := 0) hX 0 rfl dX19_init_0 ?_
  refine j_aload_n (pc := 1) hX 2 rfl dX19_init_1 ?_
  refine j_callI (pc := 2) (e1 := eV) (a := o) (As := fun z => [.ref (z + a2)]) (rest := []) hX (fun r e => kX18_init_t o a2 h r e) ymX18_init rfl q1000 q1001 q172 q1002 ⟨Nat.le_of_ble_eq_true rfl, Nat.le_of_ble_eq_true rfl⟩ rfl rfl (Nat.le_of_ble_eq_true rfl) dX19_init_2 (fun r1 h2 => ?_)
  refine j_aload_n (pc := 5) hX 0 rfl dX19_init_5 ?_
  refine j_iload_n (pc := 6) hX 1 rfl dX19_init_6 ?_
  refine j_grd fun g3 => ?_
  refine c_putFI (pc := 7) hX hnm ffX19_9_X19.1 ffX19_9_X19.2 g3 dX19_init_7 (fun h4 q5 q6 => ?_)
  refine j_aload_n (pc := 10) hX 0 rfl dX19_init_10 ?_
  refine j_aload_n (pc := 11) hX 3 rfl dX19_init_11 ?_
  refine j_grd fun g10 => ?_
  refine c_putFR (pc := 12) hX hnm ffX19_15_X19.1 ffX19_15_X19.2 (kT_t q5 g3) (cV_sR (cRs_big g10)) dX19_init_12 (fun h7 q8 => ?_)
  exact j_vret (pc := 15) hX hr dX19_init_15
set_option maxHeartbeats 4000000 in
set_option maxRecDepth 100000 in
theorem cR_and_5_w {X : CTX} {rr : (Nat ⊕ Nat × Nat) × HP} (f : HP → Option ((Nat ⊕ Nat × Nat) × HP)) (F L : Nat) (hf : okNot f F L) (hX : okX cV X rr cX2_and RX2 3 (F + 8) (L + 153)) (hr : (xh X).sig.returnType = some (.object "AskedCourt$Part")) (hxt : ∀ x ∈ (xc X).exceptionTable.toList, False)  (k : Nat → HP → Option ((Nat ⊕ Nat × Nat) × HP)) (hk : ∀ (v1 : Nat) (h : HP), jG cV X (evX eR) rr (k v1 h) 38 [(1, .ref (xz X + v1))] [] h) : ∀ (n : Nat) (v1 : Nat) (h : HP), jG cV X (evX eR) rr (cR_and_5 f k n v1 h) 5 [(0, .ref (xz X + 2)), (1, .ref (xz X + v1))] [] h := by
  intro n
  induction n with
  | zero =>
    intro v1 h
    exact j_none
  | succ n ih =>
    intro v1 h
    rw [cR_and_5]
    refine j_aload_n (pc := 5) hX 0 rfl dX2_and_5 ?_
    refine j_bipush (pc := 6) hX bp_16 dX2_and_6 ?_
    refine j_bipush (pc := 8) hX bp_16 dX2_and_8 ?_
    refine j_callV (pc := 10) (e1 := eI) (a := 2) (As := fun z => [.int (16 : Int32), .int (16 : Int32)]) (rest := []) hX (fun r e => cR_isWord_t (16 : Int32) (16 : Int32) h r e) ymX2_isWord (lw_V q674 q676 qs8 q141 q677) rfl ckX2 rfl ⟨by omega, by omega⟩ rfl rfl (Nat.le_of_ble_eq_true rfl) dX2_and_10 (fun r3 h4 => ?_)
    refine j_ifeq (pc := 13) (tgt := 38) hX rfl dX2_and_13 (fun _ => ?_) (fun _ => ?_)
    · refine j_locs [1] rfl ?_
      exact hk v1 h4
    · refine j_aload_n (pc := 16) hX 0 rfl dX2_and_16 ?_
      refine x_callV (pc := 17) (e2 := eI) (a := 2) (As := fun z => []) (rest := []) hX hxt (fun r e => cR_knot_t h4 r e) ymX2_knot (lw_V q970 q972 qs33 q141 q973) rfl ckX2 rfl ⟨by omega, by omega⟩ rfl rfl (Nat.le_of_ble_eq_true rfl) dX2_and_17 (fun r5 h6 => ?_)
      refine j_istore_n (pc := 20) hX (fun x7 => [(2, .int x7), (0, .ref (xz X + 2)), (1, .ref (xz X + v1))]) (fun _ => rfl) (Nat.le_of_ble_eq_true rfl) dX2_and_20 (fun x7 => ?_)
      refine j_grd fun g8 => ?_
      refine j_new (pc := 21) hX ckX19 cfX19 q995 q996 q173 (cV_vA g8) dX2_and_21 (fun b9 h10 => ?_)
      refine j_dup (pc := 24) hX rfl dX2_and_24 ?_
      refine j_iload_n (pc := 25) hX 0 rfl dX2_and_25 ?_
      refine j_aload_n (pc := 26) hX 2 rfl dX2_and_26 ?_
      refine j_aload_n (pc := 27) hX 1 rfl dX2_and_27 ?_
      refine x_callV (pc := 28) (e2 := eR) (a := 2) (As := fun z => []) (rest := [.ref (xz X + v1), .int x7, .ref (xz X + b9), .ref (xz X + b9)]) hX hxt (fun r e => hf.1 h10 r e) ymX2_not (lw_V q944 q946 qs27 q141 q947) rfl ckX2 rfl ⟨by omega, by omega⟩ rfl rfl (Nat.le_of_ble_eq_true rfl) dX2_and_28 (fun r11 h12 => ?_)
      refine j_callI (pc := 31) (e1 := eV) (a := b9) (As := fun z => [.int x7, .ref (z + v1), .ref (z + r11)]) (rest := [.ref (xz X + b9)]) hX (fun r e => kX19_init_t b9 x7 v1 r11 h12 r e) ymX19_init rfl q997 q998 q173 q999 ⟨by omega, by omega⟩ rfl rfl (Nat.le_of_ble_eq_true rfl) dX2_and_31 (fun r13 h14 => ?_)
      refine j_astore_n (pc := 34) (ls' := [(1, .ref (xz X + b9)), (2, .int x7), (0, .ref (xz X + 2))]) hX rfl (Nat.le_of_ble_eq_true rfl) dX2_and_34 ?_
      refine j_goto (pc := 35) (tgt := 5) hX rfl dX2_and_35 ?_
      refine j_locs [2, 0] rfl ?_
      exact ih b9 h14
set_option maxHeartbeats 4000000 in
set_option maxRecDepth 100000 in
theorem cR_and_t (f : HP → Option ((Nat ⊕ Nat × Nat) × HP)) (F L : Nat) (hf : okNot f F L)   (h : HP) (rr : (Nat ⊕ Nat × Nat) × HP) (e : cR_and f  h = some rr) : CnX eR cV yX2_and (ws_ yX2_and cX2_and 3 (some (.object "AskedCourt$Part"))) (F + 8) (L + 153) (fun z => [.ref (z + 2)]) h rr := by
  refine cnx_of (e1 := eR) (fun z => [(0, .ref (z + 2))]) cV_ok (cR_and_m f (hf.2)  h _ e) ymX2_and (fun _ => rfl) (fun _ => Nat.le_of_ble_eq_true rfl) (fun X hX hr hxt => ?_) e
  have hX : okX cV X rr cX2_and RX2 3 (F + 8) (L + 153) := hX
  rw [cR_and]
  refine j_aload_n (pc := 0) hX 0 rfl dX2_and_0 ?_
  refine x_callV (pc := 1) (e2 := eR) (a := 2) (As := fun z => []) (rest := []) hX hxt (fun r e => hf.1 h r e) ymX2_not (lw_V q944 q946 qs27 q141 q947) rfl ckX2 rfl ⟨by omega, by omega⟩ rfl rfl (Nat.le_of_ble_eq_true rfl) dX2_and_1 (fun r1 h2 => ?_)
  refine j_astore_n (pc := 4) (ls' := [(1, .ref (xz X + r1)), (0, .ref (xz X + 2))]) hX rfl (Nat.le_of_ble_eq_true rfl) dX2_and_4 ?_
  refine j_locs [1, 0] rfl ?_
  refine cR_and_5_w f F L hf hX hr hxt  _ (fun x15 h16 => ?_) FU r1 h2
  refine j_aload_n (pc := 38) hX 0 rfl dX2_and_38 ?_
  exact x_aret (pc := 39) hX (Or.inl ⟨_, rfl⟩) hr dX2_and_39
set_option maxHeartbeats 4000000 in
set_option maxRecDepth 100000 in
theorem cR_or_5_w {X : CTX} {rr : (Nat ⊕ Nat × Nat) × HP} (f : HP → Option ((Nat ⊕ Nat × Nat) × HP)) (F L : Nat) (hf : okNot f F L) (hX : okX cV X rr cX2_or RX2 3 (F + 9) (L + 175)) (hr : (xh X).sig.returnType = some (.object "AskedCourt$Part")) (hxt : ∀ x ∈ (xc X).exceptionTable.toList, False)  (k : Nat → HP → Option ((Nat ⊕ Nat × Nat) × HP)) (hk : ∀ (v1 : Nat) (h : HP), jG cV X (evX eR) rr (k v1 h) 38 [(1, .ref (xz X + v1))] [] h) : ∀ (n : Nat) (v1 : Nat) (h : HP), jG cV X (evX eR) rr (cR_or_5 f k n v1 h) 5 [(0, .ref (xz X + 2)), (1, .ref (xz X + v1))] [] h := by
  intro n
  induction n with
  | zero =>
    intro v1 h
    exact j_none
  | succ n ih =>
    intro v1 h
    rw [cR_or_5]
    refine j_aload_n (pc := 5) hX 0 rfl dX2_or_5 ?_
    refine j_bipush (pc := 6) hX bp_15 dX2_or_6 ?_
    refine j_bipush (pc := 8) hX bp_15 dX2_or_8 ?_
    refine j_callV (pc := 10) (e1 := eI) (a := 2) (As := fun z => [.int (15 : Int32), .int (15 : Int32)]) (rest := []) hX (fun r e => cR_isWord_t (15 : Int32) (15 : Int32) h r e) ymX2_isWord (lw_V q674 q676 qs8 q141 q677) rfl ckX2 rfl ⟨by omega, by omega⟩ rfl rfl (Nat.le_of_ble_eq_true rfl) dX2_or_10 (fun r3 h4 => ?_)
    refine j_ifeq (pc := 13) (tgt := 38) hX rfl dX2_or_13 (fun _ => ?_) (fun _ => ?_)
    · refine j_locs [1] rfl ?_
      exact hk v1 h4
    · refine j_aload_n (pc := 16) hX 0 rfl dX2_or_16 ?_
      refine x_callV (pc := 17) (e2 := eI) (a := 2) (As := fun z => []) (rest := []) hX hxt (fun r e => cR_knot_t h4 r e) ymX2_knot (lw_V q970 q972 qs33 q141 q973) rfl ckX2 rfl ⟨by omega, by omega⟩ rfl rfl (Nat.le_of_ble_eq_true rfl) dX2_or_17 (fun r5 h6 => ?_)
      refine j_istore_n (pc := 20) hX (fun x7 => [(2, .int x7), (0, .ref (xz X + 2)), (1, .ref (xz X + v1))]) (fun _ => rfl) (Nat.le_of_ble_eq_true rfl) dX2_or_20 (fun x7 => ?_)
      refine j_grd fun g8 => ?_
      refine j_new (pc := 21) hX ckX19 cfX19 q995 q996 q173 (cV_vA g8) dX2_or_21 (fun b9 h10 => ?_)
      refine j_dup (pc := 24) hX rfl dX2_or_24 ?_
      refine j_iload_n (pc := 25) hX 0 rfl dX2_or_25 ?_
      refine j_aload_n (pc := 26) hX 2 rfl dX2_or_26 ?_
      refine j_aload_n (pc := 27) hX 1 rfl dX2_or_27 ?_
      refine x_callV (pc := 28) (e2 := eR) (a := 2) (As := fun z => []) (rest := [.ref (xz X + v1), .int x7, .ref (xz X + b9), .ref (xz X + b9)]) hX hxt (fun r e => cR_and_t f F L hf h10 r e) ymX2_and (lw_V q940 q942 qs26 q141 q943) rfl ckX2 rfl ⟨by omega, by omega⟩ rfl rfl (Nat.le_of_ble_eq_true rfl) dX2_or_28 (fun r11 h12 => ?_)
      refine j_callI (pc := 31) (e1 := eV) (a := b9) (As := fun z => [.int x7, .ref (z + v1), .ref (z + r11)]) (rest := [.ref (xz X + b9)]) hX (fun r e => kX19_init_t b9 x7 v1 r11 h12 r e) ymX19_init rfl q997 q998 q173 q999 ⟨by omega, by omega⟩ rfl rfl (Nat.le_of_ble_eq_true rfl) dX2_or_31 (fun r13 h14 => ?_)
      refine j_astore_n (pc := 34) (ls' := [(1, .ref (xz X + b9)), (2, .int x7), (0, .ref (xz X + 2))]) hX rfl (Nat.le_of_ble_eq_true rfl) dX2_or_34 ?_
      refine j_goto (pc := 35) (tgt := 5) hX rfl dX2_or_35 ?_
      refine j_locs [2, 0] rfl ?_
      exact ih b9 h14
set_option maxHeartbeats 4000000 in
set_option maxRecDepth 100000 in
theorem cR_or_t (f : HP → Option ((Nat ⊕ Nat × Nat) × HP)) (F L : Nat) (hf : okNot f F L)   (h : HP) (rr : (Nat ⊕ Nat × Nat) × HP) (e : cR_or f  h = some rr) : CnX eR cV yX2_or (ws_ yX2_or cX2_or 3 (some (.object "AskedCourt$Part"))) (F + 9) (L + 175) (fun z => [.ref (z + 2)]) h rr := by
  refine cnx_of (e1 := eR) (fun z => [(0, .ref (z + 2))]) cV_ok (cR_or_m f (hf.2)  h _ e) ymX2_or (fun _ => rfl) (fun _ => Nat.le_of_ble_eq_true rfl) (fun X hX hr hxt => ?_) e
  have hX : okX cV X rr cX2_or RX2 3 (F + 9) (L + 175) := hX
  rw [cR_or]
  refine j_aload_n (pc := 0) hX 0 rfl dX2_or_0 ?_
  refine x_callV (pc := 1) (e2 := eR) (a := 2) (As := fun z => []) (rest := []) hX hxt (fun r e => cR_and_t f F L hf h r e) ymX2_and (lw_V q940 q942 qs26 q141 q943) rfl ckX2 rfl ⟨by omega, by omega⟩ rfl rfl (Nat.le_of_ble_eq_true rfl) dX2_or_1 (fun r1 h2 => ?_)
  refine j_astore_n (pc := 4) (ls' := [(1, .ref (xz X + r1)), (0, .ref (xz X + 2))]) hX rfl (Nat.le_of_ble_eq_true rfl) dX2_or_4 ?_
  refine j_locs [1, 0] rfl ?_
  refine cR_or_5_w f F L hf hX hr hxt  _ (fun x15 h16 => ?_) FU r1 h2
  refine j_aload_n (pc := 38) hX 0 rfl dX2_or_38 ?_
  exact x_aret (pc := 39) hX (Or.inl ⟨_, rfl⟩) hr dX2_or_39
set_option maxHeartbeats 4000000 in
set_option maxRecDepth 100000 in
theorem kX16_init_t   (o : Nat) (a1 : Int32) (h : HP) (rr : Unit × HP) (e : kX16_init o a1 h = some rr) : Cn cV yX16_init (ws_ yX16_init cX16_init 2 (none)) 2 32 (fun z => [.ref (z + o), .int a1]) h (fun z => eV z rr.1) rr.2 := by
  refine cn_of (e1 := eV) (fun z => [(0, .ref (z + o)), (1, .int a1)]) cV_ok (kX16_init_m o a1 h _ e) ymX16_init (fun _ => rfl) (fun _ => Nat.le_of_ble_eq_true rfl) (fun X hX hr hnm => ?_) e
  have hX : okX cV X rr cX16_init RX16 2 2 32 := hX
  rw [kX16_init]
  refine j_aload_n (pc := 0) hX 0 rfl dX16_init_0 ?_
  refine j_callIN (pc := 1) (e1 := eV) (a := o) (As := fun z => []) (rest := []) hX (fun r e => kX15_init_t o h r e) ymX15_init rfl (List.mem_of_getElem? (i := 12) rfl) q978 q169 q979 ⟨Nat.le_of_ble_eq_true rfl, Nat.le_of_ble_eq_true rfl⟩ rfl rfl (Nat.le_of_ble_eq_true rfl) dX16_init_1 (fun r1 h2 => ?_)
  refine j_aload_n (pc := 4) hX 0 rfl dX16_init_4 ?_
  refine j_iload_n (pc := 5) hX 1 rfl dX16_init_5 ?_
  refine j_grd fun g3 => ?_
  refine c_putFI (pc := 6) hX hnm ffX16_7_X16.1 ffX16_7_X16.2 g3 dX16_init_6 (fun h4 q5 q6 => ?_)
  exact j_vret (pc := 9) hX hr dX16_init_9
set_option maxHeartbeats 4000000 in
set_option maxRecDepth 100000 in
theorem kX17_init_t   (o : Nat) (a1 : Int32) (h : HP) (rr : Unit × HP) (e : kX17_init o a1 h = some rr) : Cn cV yX17_init (ws_ yX17_init cX17_init 2 (none)) 2 32 (fun z => [.ref (z + o), .int a1]) h (fun z => eV z rr.1) rr.2 := by
  refine cn_of (e1 := eV) (fun z => [(0, .ref (z + o)), (1, .int a1)]) cV_ok (kX17_init_m o a1 h _ e) ymX17_init (fun _ => rfl) (fun _ => Nat.le_of_ble_eq_true rfl) (fun X hX hr hnm => ?_) e
  have hX : okX cV X rr cX17_init RX17 2 2 32 := hX
  rw [kX17_init]
  refine j_aload_n (pc := 0) hX 0 rfl dX17_init_0 ?_
  refine j_callIN (pc := 1) (e1 := eV) (a := o) (As := fun z => []) (rest := []) hX (fun r e => kX15_init_t o h r e) ymX15_init rfl (List.mem_of_getElem? (i := 9) rfl) q978 q169 q979 ⟨Nat.le_of_ble_eq_true rfl, Nat.le_of_ble_eq_true rfl⟩ rfl rfl (Nat.le_of_ble_eq_true rfl) dX17_init_1 (fun r1 h2 => ?_)
  refine j_aload_n (pc := 4) hX 0 rfl dX17_init_4 ?_
  refine j_iload_n (pc := 5) hX 1 rfl dX17_init_5 ?_
  refine j_grd fun g3 => ?_
  refine c_putFI (pc := 6) hX hnm ffX17_7_X17.1 ffX17_7_X17.2 g3 dX17_init_6 (fun h4 q5 q6 => ?_)
  exact j_vret (pc := 9) hX hr dX17_init_9
set_option maxHeartbeats 4000000 in
set_option maxRecDepth 100000 in
theorem cR_one_t (f : HP → Option ((Nat ⊕ Nat × Nat) × HP)) (F L : Nat) (hf : okNot f F L)   (h : HP) (rr : (Nat ⊕ Nat × Nat) × HP) (e : cR_one f  h = some rr) : CnX eR cV yX2_one (ws_ yX2_one cX2_one 2 (some (.object "AskedCourt$Part"))) (F + 10) (L + 197) (fun z => [.ref (z + 2)]) h rr := by
  refine cnx_of (e1 := eR) (fun z => [(0, .ref (z + 2))]) cV_ok (cR_one_m f (hf.2)  h _ e) ymX2_one (fun _ => rfl) (fun _ => Nat.le_of_ble_eq_true rfl) (fun X hX hr hxt => ?_) e
  have hX : okX cV X rr cX2_one RX2 2 (F + 10) (L + 197) := hX
  rw [cR_one]
  refine j_aload_n (pc := 0) hX 0 rfl dX2_one_0 ?_
  refine j_bipush (pc := 1) hX bp_40 dX2_one_1 ?_
  refine j_callV (pc := 3) (e1 := eI) (a := 2) (As := fun z => [.int (40 : Int32)]) (rest := []) hX (fun r e => cR_isSign_t (40 : Int32) h r e) ymX2_isSign (lw_V q964 q966 qs32 q141 q967) rfl ckX2 rfl ⟨by omega, by omega⟩ rfl rfl (Nat.le_of_ble_eq_true rfl) dX2_one_3 (fun r1 h2 => ?_)
  refine j_ifeq (pc := 6) (tgt := 74) hX rfl dX2_one_6 (fun _ => ?_) (fun _ => ?_)
  · refine j_aload_n (pc := 74) hX 0 rfl dX2_one_74 ?_
    refine c_getI (pc := 75) hX fgX2_33_X2.1 fgX2_33_X2.2 rfl dX2_one_75 ?_
    refine j_iconst (pc := 78) hX ic_2 dX2_one_78 ?_
    refine j_cne (pc := 79) (tgt := 110) hX rfl dX2_one_79 (fun _ => ?_) (fun _ => ?_)
    · refine j_aload_n (pc := 82) hX 0 rfl dX2_one_82 ?_
      refine c_getI (pc := 83) hX fgX2_47_X2.1 fgX2_47_X2.2 rfl dX2_one_83 ?_
      refine j_sipush (pc := 86) hX sp_9999 dX2_one_86 ?_
      refine j_cle (pc := 89) (tgt := 98) hX rfl dX2_one_89 (fun _ => ?_) (fun _ => ?_)
      · refine j_grd fun g3 => ?_
        refine j_new (pc := 98) hX ckX16 cfX16 q968 q969 q170 (cV_vA g3) dX2_one_98 (fun b4 h5 => ?_)
        refine j_dup (pc := 101) hX rfl dX2_one_101 ?_
        refine j_aload_n (pc := 102) hX 0 rfl dX2_one_102 ?_
        refine x_callV (pc := 103) (e2 := eI) (a := 2) (As := fun z => []) (rest := [.ref (xz X + b4), .ref (xz X + b4)]) hX hxt (fun r e => cR_knot_t h5 r e) ymX2_knot (lw_V q970 q972 qs33 q141 q973) rfl ckX2 rfl ⟨by omega, by omega⟩ rfl rfl (Nat.le_of_ble_eq_true rfl) dX2_one_103 (fun r6 h7 => ?_)
        refine j_callI (pc := 106) (e1 := eV) (a := b4) (As := fun z => [.int r6]) (rest := [.ref (xz X + b4)]) hX (fun r e => kX16_init_t b4 r6 h7 r e) ymX16_init rfl q974 q975 q170 q976 ⟨by omega, by omega⟩ rfl rfl (Nat.le_of_ble_eq_true rfl) dX2_one_106 (fun r8 h9 => ?_)
        exact x_aret (pc := 109) hX (Or.inl ⟨_, rfl⟩) hr dX2_one_109
      · refine j_aload_n (pc := 92) hX 0 rfl dX2_one_92 ?_
        refine j_iconst (pc := 93) hX ic_2 dX2_one_93 ?_
        refine j_callV (pc := 94) (e1 := eR) (a := 2) (As := fun z => [.int (2 : Int32)]) (rest := []) hX (fun r e => cR_wrong_t (2 : Int32) h2 r e) ymX2_wrong (lw_V q678 q680 qs9 q141 q681) rfl ckX2 rfl ⟨by omega, by omega⟩ rfl rfl (Nat.le_of_ble_eq_true rfl) dX2_one_94 (fun r10 h11 => ?_)
        refine j_grd fun g12 => ?_
        exact x_throwF (pc := 97) hX hxt g12 dX2_one_97
    · refine j_aload_n (pc := 110) hX 0 rfl dX2_one_110 ?_
      refine c_getI (pc := 111) hX fgX2_33_X2.1 fgX2_33_X2.2 rfl dX2_one_111 ?_
      refine j_jon (fun (j13 : Unit → Option ((Nat ⊕ Nat × Nat) × HP)) => ∀ (_u : Unit), jG cV X (evX eR) rr (j13 ()) 126 [(0, .ref (xz X + 2))] [] h2) ?_ ?_
      · intro _
        refine j_aload_n (pc := 126) hX 0 rfl dX2_one_126 ?_
        refine j_iconst (pc := 127) hX ic_1 dX2_one_127 ?_
        refine j_callV (pc := 128) (e1 := eR) (a := 2) (As := fun z => [.int (1 : Int32)]) (rest := []) hX (fun r e => cR_wrong_t (1 : Int32) h2 r e) ymX2_wrong (lw_V q678 q680 qs9 q141 q681) rfl ckX2 rfl ⟨by omega, by omega⟩ rfl rfl (Nat.le_of_ble_eq_true rfl) dX2_one_128 (fun r14 h15 => ?_)
        refine j_grd fun g16 => ?_
        exact x_throwF (pc := 131) hX hxt g16 dX2_one_131
      · intro j13 hj13
        refine j_ifne (pc := 114) (tgt := 126) hX rfl dX2_one_114 (fun _ => ?_) (fun _ => ?_)
        · refine j_aload_n (pc := 117) hX 0 rfl dX2_one_117 ?_
          refine c_getI (pc := 118) hX fgX2_47_X2.1 fgX2_47_X2.2 rfl dX2_one_118 ?_
          refine j_bipush (pc := 121) hX bp_18 dX2_one_121 ?_
          refine j_cge (pc := 123) (tgt := 132) hX rfl dX2_one_123 (fun _ => ?_) (fun _ => ?_)
          · refine j_grd fun g17 => ?_
            refine j_new (pc := 132) hX ckX17 cfX17 q985 q986 q171 (cV_vA g17) dX2_one_132 (fun b18 h19 => ?_)
            refine j_dup (pc := 135) hX rfl dX2_one_135 ?_
            refine j_aload_n (pc := 136) hX 0 rfl dX2_one_136 ?_
            refine x_callV (pc := 137) (e2 := eI) (a := 2) (As := fun z => []) (rest := [.ref (xz X + b18), .ref (xz X + b18)]) hX hxt (fun r e => cR_knot_t h19 r e) ymX2_knot (lw_V q970 q972 qs33 q141 q973) rfl ckX2 rfl ⟨by omega, by omega⟩ rfl rfl (Nat.le_of_ble_eq_true rfl) dX2_one_137 (fun r20 h21 => ?_)
            refine j_bipush (pc := 140) hX bp_18 dX2_one_140 ?_
            refine j_isub (pc := 142) hX dX2_one_142 ?_
            refine j_callI (pc := 143) (e1 := eV) (a := b18) (As := fun z => [.int (r20 - (18 : Int32))]) (rest := [.ref (xz X + b18)]) hX (fun r e => kX17_init_t b18 (r20 - (18 : Int32)) h21 r e) ymX17_init rfl q987 q988 q171 q989 ⟨by omega, by omega⟩ rfl rfl (Nat.le_of_ble_eq_true rfl) dX2_one_143 (fun r22 h23 => ?_)
            exact x_aret (pc := 146) hX (Or.inl ⟨_, rfl⟩) hr dX2_one_146
          · exact hj13 ()
        · exact hj13 ()
  · refine j_aload_n (pc := 9) hX 0 rfl dX2_one_9 ?_
    refine c_getI (pc := 10) hX fgX2_102_X2.1 fgX2_102_X2.2 rfl dX2_one_10 ?_
    refine j_bipush (pc := 13) hX bp_8 dX2_one_13 ?_
    refine j_cne (pc := 15) (tgt := 24) hX rfl dX2_one_15 (fun _ => ?_) (fun _ => ?_)
    · refine j_aload_n (pc := 18) hX 0 rfl dX2_one_18 ?_
      refine j_iconst (pc := 19) hX ic_2 dX2_one_19 ?_
      refine j_callV (pc := 20) (e1 := eR) (a := 2) (As := fun z => [.int (2 : Int32)]) (rest := []) hX (fun r e => cR_wrong_t (2 : Int32) h2 r e) ymX2_wrong (lw_V q678 q680 qs9 q141 q681) rfl ckX2 rfl ⟨by omega, by omega⟩ rfl rfl (Nat.le_of_ble_eq_true rfl) dX2_one_20 (fun r24 h25 => ?_)
      refine j_grd fun g26 => ?_
      exact x_throwF (pc := 23) hX hxt g26 dX2_one_23
    · refine j_aload_n (pc := 24) hX 0 rfl dX2_one_24 ?_
      refine j_dup (pc := 25) hX rfl dX2_one_25 ?_
      refine c_getI (pc := 26) hX fgX2_102_X2.1 fgX2_102_X2.2 rfl dX2_one_26 ?_
      refine j_iconst (pc := 29) hX ic_1 dX2_one_29 ?_
      refine j_iadd (pc := 30) hX dX2_one_30 ?_
      refine c_putI (pc := 31) hX fwX2_102_X2.1 fwX2_102_X2.2 rfl dX2_one_31 (fun h27 q28 q29 => ?_)
      refine j_aload_n (pc := 34) hX 0 rfl dX2_one_34 ?_
      refine j_callV (pc := 35) (e1 := eV) (a := 2) (As := fun z => []) (rest := []) hX (fun r e => cR_next_t h27 r e) ymX2_next (lw_V q536 q538 qs2 q141 q539) rfl ckX2 rfl ⟨by omega, by omega⟩ rfl rfl (Nat.le_of_ble_eq_true rfl) dX2_one_35 (fun r30 h31 => ?_)
      refine j_aload_n (pc := 38) hX 0 rfl dX2_one_38 ?_
      refine x_callV (pc := 39) (e2 := eR) (a := 2) (As := fun z => []) (rest := []) hX hxt (fun r e => cR_or_t f F L hf h31 r e) ymX2_or (lw_V q936 q938 qs25 q141 q939) rfl ckX2 rfl ⟨by omega, by omega⟩ rfl rfl (Nat.le_of_ble_eq_true rfl) dX2_one_39 (fun r32 h33 => ?_)
      refine j_astore_n (pc := 42) (ls' := [(1, .ref (xz X + r32)), (0, .ref (xz X + 2))]) hX rfl (Nat.le_of_ble_eq_true rfl) dX2_one_42 ?_
      refine j_aload_n (pc := 43) hX 1 rfl dX2_one_43 ?_
      refine j_bipush (pc := 44) hX bp_41 dX2_one_44 ?_
      refine j_callV (pc := 46) (e1 := eI) (a := 2) (As := fun z => [.int (41 : Int32)]) (rest := []) hX (fun r e => cR_isSign_t (41 : Int32) h33 r e) ymX2_isSign (lw_V q964 q966 qs32 q141 q967) rfl ckX2 rfl ⟨by omega, by omega⟩ rfl rfl (Nat.le_of_ble_eq_true rfl) dX2_one_46 (fun r34 h35 => ?_)
      refine j_ifne (pc := 49) (tgt := 58) hX rfl dX2_one_49 (fun _ => ?_) (fun _ => ?_)
      · refine j_aload_n (pc := 52) hX 1 rfl dX2_one_52 ?_
        refine j_iconst (pc := 53) hX ic_1 dX2_one_53 ?_
        refine j_callV (pc := 54) (e1 := eR) (a := 2) (As := fun z => [.int (1 : Int32)]) (rest := []) hX (fun r e => cR_wrong_t (1 : Int32) h35 r e) ymX2_wrong (lw_V q678 q680 qs9 q141 q681) rfl ckX2 rfl ⟨by omega, by omega⟩ rfl rfl (Nat.le_of_ble_eq_true rfl) dX2_one_54 (fun r36 h37 => ?_)
        refine j_grd fun g38 => ?_
        exact x_throwF (pc := 57) hX hxt g38 dX2_one_57
      · refine j_aload_n (pc := 58) hX 1 rfl dX2_one_58 ?_
        refine j_dup (pc := 59) hX rfl dX2_one_59 ?_
        refine c_getI (pc := 60) hX fgX2_102_X2.1 fgX2_102_X2.2 rfl dX2_one_60 ?_
        refine j_iconst (pc := 63) hX ic_1 dX2_one_63 ?_
        refine j_isub (pc := 64) hX dX2_one_64 ?_
        refine c_putI (pc := 65) hX fwX2_102_X2.1 fwX2_102_X2.2 rfl dX2_one_65 (fun h39 q40 q41 => ?_)
        refine j_aload_n (pc := 68) hX 1 rfl dX2_one_68 ?_
        refine j_callV (pc := 69) (e1 := eV) (a := 2) (As := fun z => []) (rest := []) hX (fun r e => cR_next_t h39 r e) ymX2_next (lw_V q536 q538 qs2 q141 q539) rfl ckX2 rfl ⟨by omega, by omega⟩ rfl rfl (Nat.le_of_ble_eq_true rfl) dX2_one_69 (fun r42 h43 => ?_)
        refine j_aload_n (pc := 72) hX 0 rfl dX2_one_72 ?_
        exact x_aret (pc := 73) hX (Or.inl ⟨_, rfl⟩) hr dX2_one_73
