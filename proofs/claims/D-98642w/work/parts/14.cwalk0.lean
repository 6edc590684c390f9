/-! the component: walks -/
set_option maxHeartbeats 4000000 in
set_option maxRecDepth 100000 in
theorem kJ0_init_t   (o : Nat) (h : HP) (rr : Unit × HP) (e : kJ0_init o h = some rr) : Cn cV yJ0_init (ws_ yJ0_init cJ0_init 1 (none)) 1 12 (fun z => [.ref (z + o)]) h (fun z => eV z rr.1) rr.2 := by
  refine cn_of (e1 := eV) (fun z => [(0, .ref (z + o))]) cV_ok (kJ0_init_m o h _ e) ymJ0_init (fun _ => rfl) (fun _ => Nat.le_of_ble_eq_true rfl) (fun X hX hr hnm => ?_) e
  have hX : okX cV X rr cJ0_init RJ0 1 1 12 := hX
  rw [kJ0_init]
  refine j_aload_n (pc := 0) hX 0 rfl dJ0_init_0 ?_
  refine j_objInit (pc := 1) hX q242 q188 q189 (Nat.le_of_ble_eq_true rfl) (Nat.le_of_ble_eq_true rfl) dJ0_init_1 ?_
  exact j_vret (pc := 4) hX hr dJ0_init_4
set_option maxHeartbeats 4000000 in
set_option maxRecDepth 100000 in
theorem kJ1_init_t   (o : Nat) (h : HP) (rr : Unit × HP) (e : kJ1_init o h = some rr) : Cn cV yJ1_init (ws_ yJ1_init cJ1_init 1 (none)) 2 32 (fun z => [.ref (z + o)]) h (fun z => eV z rr.1) rr.2 := by
  refine cn_of (e1 := eV) (fun z => [(0, .ref (z + o))]) cV_ok (kJ1_init_m o h _ e) ymJ1_init (fun _ => rfl) (fun _ => Nat.le_of_ble_eq_true rfl) (fun X hX hr hnm => ?_) e
  have hX : okX cV X rr cJ1_init RJ1 1 2 32 := hX
  rw [kJ1_init]
  refine j_aload_n (pc := 0) hX 0 rfl dJ1_init_0 ?_
  refine j_callI (pc := 1) (e1 := eV) (a := o) (As := fun z => []) (rest := []) hX (fun r e => kJ0_init_t o h r e) ymJ0_init rfl q239 q240 q143 q241 ⟨Nat.le_of_ble_eq_true rfl, Nat.le_of_ble_eq_true rfl⟩ rfl rfl (Nat.le_of_ble_eq_true rfl) dJ1_init_1 (fun r1 h2 => ?_)
  refine j_aload_n (pc := 4) hX 0 rfl dJ1_init_4 ?_
  refine j_iconst (pc := 5) hX ic_0 dJ1_init_5 ?_
  refine j_grd fun g3 => ?_
  refine c_putI (pc := 6) hX fwJ1_7_J2.1 fwJ1_7_J2.2 g3 dJ1_init_6 (fun h4 q5 q6 => ?_)
  exact j_vret (pc := 9) hX hr dJ1_init_9
set_option maxHeartbeats 4000000 in
set_option maxRecDepth 100000 in
theorem kJ10_init_2_t   (o : Nat) (a3 : Int32) (a4 : Int32) (h : HP) (rr : Unit × HP) (e : kJ10_init_2 o a3 a4 h = some rr) : Cn cV yJ10_init_2 (ws_ yJ10_init_2 cJ10_init_2 5 (none)) 1 12 (fun z => [.ref (z + o), .null, .null, .int a3, .int a4]) h (fun z => eV z rr.1) rr.2 := by
  refine cn_of (e1 := eV) (fun z => [(0, .ref (z + o)), (1, .null), (2, .null), (3, .int a3), (4, .int a4)]) cV_ok (kJ10_init_2_m o a3 a4 h _ e) ymJ10_init_2 (fun _ => rfl) (fun _ => Nat.le_of_ble_eq_true rfl) (fun X hX hr hnm => ?_) e
  have hX : okX cV X rr cJ10_init_2 RJ10 5 1 12 := hX
  rw [kJ10_init_2]
  refine j_aload_n (pc := 0) hX 0 rfl dJ10_init_2_0 ?_
  refine j_objInit (pc := 1) hX q705 q188 q189 (Nat.le_of_ble_eq_true rfl) (Nat.le_of_ble_eq_true rfl) dJ10_init_2_1 ?_
  refine j_aload_n (pc := 4) hX 0 rfl dJ10_init_2_4 ?_
  refine j_aload_n (pc := 5) hX 0 rfl dJ10_init_2_5 ?_
  refine j_grd fun g1 => ?_
  refine j_putQ (pc := 6) hX (Or.inr ⟨_, rfl⟩) f3J10_7.1 f3J10_7.2 g1 dJ10_init_2_6 ?_
  refine j_aload_n (pc := 9) hX 0 rfl dJ10_init_2_9 ?_
  refine j_getsq (pc := 10) hX hX.2.1.1.2.2.2.2.2.1.1 q706 dJ10_init_2_10 (fun v2 hv3 => ?_)
  refine j_putQ (pc := 13) hX hv3 f3J10_17.1 f3J10_17.2 g1 dJ10_init_2_13 ?_
  refine j_aload_n (pc := 16) hX 0 rfl dJ10_init_2_16 ?_
  refine j_getsq (pc := 17) hX hX.2.1.1.2.2.2.2.2.2.1.1 q708 dJ10_init_2_17 (fun v4 hv5 => ?_)
  refine j_putQ (pc := 20) hX hv5 f3J10_24.1 f3J10_24.2 g1 dJ10_init_2_20 ?_
  refine j_iload (pc := 23) hX 4 rfl dJ10_init_2_23 ?_
  refine j_jon (fun (j6 : HP → Option (Unit × HP)) => ∀ (h7 : HP), jG cV X evV rr (j6 h7) 41 [(0, .ref (xz X + o)), (1, .null), (2, .null), (3, .int a3)] [] h7) ?_ ?_
  · intro h7
    refine j_aload_n (pc := 41) hX 0 rfl dJ10_init_2_41 ?_
    refine j_aloadN_n (pc := 42) hX 1 rfl dJ10_init_2_42 ?_
    refine j_grd fun g8 => ?_
    refine j_putQ (pc := 43) hX (Or.inl rfl) f3J10_31.1 f3J10_31.2 g8 dJ10_init_2_43 ?_
    refine j_aload_n (pc := 46) hX 0 rfl dJ10_init_2_46 ?_
    refine j_aloadN_n (pc := 47) hX 2 rfl dJ10_init_2_47 ?_
    refine j_putQ (pc := 48) hX (Or.inl rfl) f3J10_7.1 f3J10_7.2 g8 dJ10_init_2_48 ?_
    refine j_iload_n (pc := 51) hX 3 rfl dJ10_init_2_51 ?_
    refine j_ifne (pc := 52) (tgt := 60) hX rfl dJ10_init_2_52 (fun _ => ?_) (fun _ => ?_)
    · refine j_aload_n (pc := 55) hX 0 rfl dJ10_init_2_55 ?_
      refine j_null (pc := 56) hX dJ10_init_2_56 ?_
      refine j_putQ (pc := 57) hX (Or.inl rfl) f3J10_24.1 f3J10_24.2 g8 dJ10_init_2_57 ?_
      exact j_vret (pc := 60) hX hr dJ10_init_2_60
    · exact j_vret (pc := 60) hX hr dJ10_init_2_60
  · intro j6 hj6
    refine j_ifeq (pc := 25) (tgt := 36) hX rfl dJ10_init_2_25 (fun _ => ?_) (fun _ => ?_)
    · refine j_aload_n (pc := 36) hX 0 rfl dJ10_init_2_36 ?_
      refine j_null (pc := 37) hX dJ10_init_2_37 ?_
      refine j_putQ (pc := 38) hX (Or.inl rfl) f3J10_17.1 f3J10_17.2 g1 dJ10_init_2_38 ?_
      refine j_locs [0, 1, 2, 3] rfl ?_
      exact hj6 h
    · refine j_aload_n (pc := 28) hX 0 rfl dJ10_init_2_28 ?_
      exact j_none
set_option maxHeartbeats 4000000 in
set_option maxRecDepth 100000 in
theorem kJ11_init_t   (o : Nat) (a3 : Int32) (a4 : Int32) (h : HP) (rr : Unit × HP) (e : kJ11_init o a3 a4 h = some rr) : Cn cV yJ11_init (ws_ yJ11_init cJ11_init 5 (none)) 2 36 (fun z => [.ref (z + o), .null, .null, .int a3, .int a4]) h (fun z => eV z rr.1) rr.2 := by
  refine cn_of (e1 := eV) (fun z => [(0, .ref (z + o)), (1, .null), (2, .null), (3, .int a3), (4, .int a4)]) cV_ok (kJ11_init_m o a3 a4 h _ e) ymJ11_init (fun _ => rfl) (fun _ => Nat.le_of_ble_eq_true rfl) (fun X hX hr hnm => ?_) e
  have hX : okX cV X rr cJ11_init RJ11 5 2 36 := hX
  rw [kJ11_init]
  refine j_aload_n (pc := 0) hX 0 rfl dJ11_init_0 ?_
  refine j_aloadN_n (pc := 1) hX 1 rfl dJ11_init_1 ?_
  refine j_aloadN_n (pc := 2) hX 2 rfl dJ11_init_2 ?_
  refine j_iload_n (pc := 3) hX 3 rfl dJ11_init_3 ?_
  refine j_iload (pc := 4) hX 4 rfl dJ11_init_4 ?_
  refine j_callI (pc := 6) (e1 := eV) (a := o) (As := fun z => [.null, .null, .int a3, .int a4]) (rest := []) hX (fun r e => kJ10_init_2_t o a3 a4 h r e) ymJ10_init_2 rfl q729 q730 q160 q731 ⟨Nat.le_of_ble_eq_true rfl, Nat.le_of_ble_eq_true rfl⟩ rfl rfl (Nat.le_of_ble_eq_true rfl) dJ11_init_6 (fun r1 h2 => ?_)
  exact j_vret (pc := 9) hX hr dJ11_init_9
set_option maxHeartbeats 4000000 in
set_option maxRecDepth 100000 in
theorem kJ18_bitCount_t   (a1 : Int32) (h : HP) (rr : Int32 × HP) (e : kJ18_bitCount a1 h = some rr) : Cn cV yJ18_bitCount (ws_ yJ18_bitCount cJ18_bitCount 1 (some .int)) 1 0 (fun z => [.int a1]) h (fun z => eI z rr.1) rr.2 := by
  refine cn_of (e1 := eI) (fun z => [(0, .int a1)]) cV_ok (kJ18_bitCount_m a1 h _ e) ymJ18_bitCount (fun _ => rfl) (fun _ => Nat.le_of_ble_eq_true rfl) (fun X hX hr hnm => ?_) e
  have hX : okX cV X rr cJ18_bitCount RJ18 1 1 0 := hX
  rw [kJ18_bitCount]
  refine j_iload_n (pc := 0) hX 0 rfl dJ18_bitCount_0 ?_
  refine j_iload_n (pc := 1) hX 0 rfl dJ18_bitCount_1 ?_
  refine j_iconst (pc := 2) hX ic_1 dJ18_bitCount_2 ?_
  refine j_iushr (pc := 3) hX dJ18_bitCount_3 ?_
  refine j_ldcw (pc := 4) hX q1108 dJ18_bitCount_4 ?_
  refine j_iand (pc := 7) hX dJ18_bitCount_7 ?_
  refine j_isub (pc := 8) hX dJ18_bitCount_8 ?_
  refine j_istore_n (pc := 9) hX (fun x1 => [(0, .int x1)]) (fun _ => rfl) (Nat.le_of_ble_eq_true rfl) dJ18_bitCount_9 (fun x1 => ?_)
  refine j_iload_n (pc := 10) hX 0 rfl dJ18_bitCount_10 ?_
  refine j_ldcw (pc := 11) hX q1109 dJ18_bitCount_11 ?_
  refine j_iand (pc := 14) hX dJ18_bitCount_14 ?_
  refine j_iload_n (pc := 15) hX 0 rfl dJ18_bitCount_15 ?_
  refine j_iconst (pc := 16) hX ic_2 dJ18_bitCount_16 ?_
  refine j_iushr (pc := 17) hX dJ18_bitCount_17 ?_
  refine j_ldcw (pc := 18) hX q1109 dJ18_bitCount_18 ?_
  refine j_iand (pc := 21) hX dJ18_bitCount_21 ?_
  refine j_iadd (pc := 22) hX dJ18_bitCount_22 ?_
  refine j_istore_n (pc := 23) hX (fun x2 => [(0, .int x2)]) (fun _ => rfl) (Nat.le_of_ble_eq_true rfl) dJ18_bitCount_23 (fun x2 => ?_)
  refine j_iload_n (pc := 24) hX 0 rfl dJ18_bitCount_24 ?_
  refine j_iload_n (pc := 25) hX 0 rfl dJ18_bitCount_25 ?_
  refine j_iconst (pc := 26) hX ic_4 dJ18_bitCount_26 ?_
  refine j_iushr (pc := 27) hX dJ18_bitCount_27 ?_
  refine j_iadd (pc := 28) hX dJ18_bitCount_28 ?_
  refine j_ldcw (pc := 29) hX q1110 dJ18_bitCount_29 ?_
  refine j_iand (pc := 32) hX dJ18_bitCount_32 ?_
  refine j_istore_n (pc := 33) hX (fun x3 => [(0, .int x3)]) (fun _ => rfl) (Nat.le_of_ble_eq_true rfl) dJ18_bitCount_33 (fun x3 => ?_)
  refine j_iload_n (pc := 34) hX 0 rfl dJ18_bitCount_34 ?_
  refine j_iload_n (pc := 35) hX 0 rfl dJ18_bitCount_35 ?_
  refine j_bipush (pc := 36) hX bp_8 dJ18_bitCount_36 ?_
  refine j_iushr (pc := 38) hX dJ18_bitCount_38 ?_
  refine j_iadd (pc := 39) hX dJ18_bitCount_39 ?_
  refine j_istore_n (pc := 40) hX (fun x4 => [(0, .int x4)]) (fun _ => rfl) (Nat.le_of_ble_eq_true rfl) dJ18_bitCount_40 (fun x4 => ?_)
  refine j_iload_n (pc := 41) hX 0 rfl dJ18_bitCount_41 ?_
  refine j_iload_n (pc := 42) hX 0 rfl dJ18_bitCount_42 ?_
  refine j_bipush (pc := 43) hX bp_16 dJ18_bitCount_43 ?_
  refine j_iushr (pc := 45) hX dJ18_bitCount_45 ?_
  refine j_iadd (pc := 46) hX dJ18_bitCount_46 ?_
  refine j_istore_n (pc := 47) hX (fun x5 => [(0, .int x5)]) (fun _ => rfl) (Nat.le_of_ble_eq_true rfl) dJ18_bitCount_47 (fun x5 => ?_)
  refine j_iload_n (pc := 48) hX 0 rfl dJ18_bitCount_48 ?_
  refine j_bipush (pc := 49) hX bp_63 dJ18_bitCount_49 ?_
  refine j_iand (pc := 51) hX dJ18_bitCount_51 ?_
  exact j_iret (pc := 52) hX hr dJ18_bitCount_52
set_option maxHeartbeats 4000000 in
set_option maxRecDepth 100000 in
theorem cL_init_t   (o : Nat) (a1 : Int32) (h : HP) (rr : Unit × HP) (e : cL_init o a1 h = some rr) : Cn cV yJ2_init (ws_ yJ2_init cJ2_init 2 (none)) 3 52 (fun z => [.ref (z + o), .int a1]) h (fun z => eV z rr.1) rr.2 := by
  refine cn_of (e1 := eV) (fun z => [(0, .ref (z + o)), (1, .int a1)]) cV_ok (cL_init_m o a1 h _ e) ymJ2_init (fun _ => rfl) (fun _ => Nat.le_of_ble_eq_true rfl) (fun X hX hr hnm => ?_) e
  have hX : okX cV X rr cJ2_init RJ2 2 3 52 := hX
  rw [cL_init]
  refine j_aload_n (pc := 0) hX 0 rfl dJ2_init_0 ?_
  refine j_callI (pc := 1) (e1 := eV) (a := o) (As := fun z => []) (rest := []) hX (fun r e => kJ1_init_t o h r e) ymJ1_init rfl q236 q237 q144 q238 ⟨Nat.le_of_ble_eq_true rfl, Nat.le_of_ble_eq_true rfl⟩ rfl rfl (Nat.le_of_ble_eq_true rfl) dJ2_init_1 (fun r1 h2 => ?_)
  refine j_iload_n (pc := 4) hX 1 rfl dJ2_init_4 ?_
  refine j_ifle (pc := 5) (tgt := 19) hX rfl dJ2_init_5 (fun _ => ?_) (fun _ => ?_)
  · refine j_iload_n (pc := 19) hX 1 rfl dJ2_init_19 ?_
    refine j_ifne (pc := 20) (tgt := 33) hX rfl dJ2_init_20 (fun _ => ?_) (fun _ => ?_)
    · refine j_aload_n (pc := 23) hX 0 rfl dJ2_init_23 ?_
      exact j_none
    · exact j_none
  · refine j_aload_n (pc := 8) hX 0 rfl dJ2_init_8 ?_
    refine j_iload_n (pc := 9) hX 1 rfl dJ2_init_9 ?_
    refine j_grd fun g6 => ?_
    refine j_grd fun g7 => ?_
    refine j_grd fun g3 => ?_
    refine j_newr (pc := 10) (k := 104) (n := (a1).toNatClampNeg) (q := 4) hX (Nat.le_of_ble_eq_true rfl) (fun _ => rfl) q243 (List.mem_of_getElem? (i := 3) rfl) g6 rfl g7 (cV_vA g3) dJ2_init_10 (fun b4 h5 => ?_)
    refine j_grd fun g8 => ?_
    refine j_grd fun g12 => ?_
    refine c_putR (pc := 13) hX fwJ2_9_J2.1 fwJ2_9_J2.2 g8 (cV_sR (cRs_big g12)) dJ2_init_13 (fun h9 q10 => ?_)
    refine j_goto (pc := 16) (tgt := 60) hX rfl dJ2_init_16 ?_
    exact j_vret (pc := 60) hX hr dJ2_init_60
set_option maxHeartbeats 4000000 in
set_option maxRecDepth 100000 in
theorem cL_size_t   (o : Nat) (h : HP) (rr : Int32 × HP) (e : cL_size o h = some rr) : Cn cV yJ2_size (ws_ yJ2_size cJ2_size 1 (some .int)) 1 0 (fun z => [.ref (z + o)]) h (fun z => eI z rr.1) rr.2 := by
  refine cn_of (e1 := eI) (fun z => [(0, .ref (z + o))]) cV_ok (cL_size_m o h _ e) ymJ2_size (fun _ => rfl) (fun _ => Nat.le_of_ble_eq_true rfl) (fun X hX hr hnm => ?_) e
  have hX : okX cV X rr cJ2_size RJ2 1 1 0 := hX
  rw [cL_size]
  refine j_aload_n (pc := 0) hX 0 rfl dJ2_size_0 ?_
  refine j_grd fun g1 => ?_
  refine c_getI (pc := 1) hX fgJ2_48_J2.1 fgJ2_48_J2.2 (k1_of g1.1) dJ2_size_1 ?_
  exact j_iret (pc := 4) hX hr dJ2_size_4
set_option maxHeartbeats 4000000 in
set_option maxRecDepth 100000 in
theorem kJ4_checkIndex_t   (a1 : Int32) (a2 : Int32) (h : HP) (rr : Int32 × HP) (e : kJ4_checkIndex a1 a2 h = some rr) : Cn cV yJ4_checkIndex (ws_ yJ4_checkIndex cJ4_checkIndex 3 (some .int)) 1 0 (fun z => [.int a1, .int a2, .null]) h (fun z => eI z rr.1) rr.2 := by
  refine cn_of (e1 := eI) (fun z => [(0, .int a1), (1, .int a2), (2, .null)]) cV_ok (kJ4_checkIndex_m a1 a2 h _ e) ymJ4_checkIndex (fun _ => rfl) (fun _ => Nat.le_of_ble_eq_true rfl) (fun X hX hr hnm => ?_) e
  have hX : okX cV X rr cJ4_checkIndex RJ4 3 1 0 := hX
  rw [kJ4_checkIndex]
  refine j_iload_n (pc := 0) hX 0 rfl dJ4_checkIndex_0 ?_
  refine j_jon (fun (j1 : Unit → Option (Int32 × HP)) => ∀ (_u : Unit), jG cV X evI rr (j1 ()) 9 [(0, .int a1), (1, .int a2), (2, .null)] [] h) ?_ ?_
  · intro _
    refine j_aloadN_n (pc := 9) hX 2 rfl dJ4_checkIndex_9 ?_
    refine j_iload_n (pc := 10) hX 0 rfl dJ4_checkIndex_10 ?_
    refine j_iload_n (pc := 11) hX 1 rfl dJ4_checkIndex_11 ?_
    exact j_none
  · intro j1 hj1
    refine j_iflt (pc := 1) (tgt := 9) hX rfl dJ4_checkIndex_1 (fun _ => ?_) (fun _ => ?_)
    · exact hj1 ()
    · refine j_iload_n (pc := 4) hX 0 rfl dJ4_checkIndex_4 ?_
      refine j_iload_n (pc := 5) hX 1 rfl dJ4_checkIndex_5 ?_
      refine j_clt (pc := 6) (tgt := 16) hX rfl dJ4_checkIndex_6 (fun _ => ?_) (fun _ => ?_)
      · refine j_iload_n (pc := 16) hX 0 rfl dJ4_checkIndex_16 ?_
        exact j_iret (pc := 17) hX hr dJ4_checkIndex_17
      · exact hj1 ()
set_option maxHeartbeats 4000000 in
set_option maxRecDepth 100000 in
theorem kJ4_checkIndex_r  (q : Nat) (a1 : Int32) (a2 : Int32) (h : HP) (rr : Int32 × HP) (e : kJ4_checkIndex a1 a2 h = some rr) : Cn cV yJ4_checkIndex (ws_ yJ4_checkIndex cJ4_checkIndex 3 (some .int)) 1 0 (fun z => [.int a1, .int a2, .ref q]) h (fun z => eI z rr.1) rr.2 := by
  refine cn_of (e1 := eI) (fun z => [(0, .int a1), (1, .int a2), (2, .ref q)]) cV_ok (kJ4_checkIndex_m a1 a2 h _ e) ymJ4_checkIndex (fun _ => rfl) (fun _ => Nat.le_of_ble_eq_true rfl) (fun X hX hr hnm => ?_) e
  have hX : okX cV X rr cJ4_checkIndex RJ4 3 1 0 := hX
  rw [kJ4_checkIndex]
  refine j_iload_n (pc := 0) hX 0 rfl dJ4_checkIndex_0 ?_
  refine j_jon (fun (j2 : Unit → Option (Int32 × HP)) => ∀ (_u : Unit), jG cV X evI rr (j2 ()) 9 [(0, .int a1), (1, .int a2), (2, .ref q)] [] h) ?_ ?_
  · intro _
    refine j_aload_n (pc := 9) hX 2 rfl dJ4_checkIndex_9 ?_
    refine j_iload_n (pc := 10) hX 0 rfl dJ4_checkIndex_10 ?_
    refine j_iload_n (pc := 11) hX 1 rfl dJ4_checkIndex_11 ?_
    exact j_none
  · intro j2 hj2
    refine j_iflt (pc := 1) (tgt := 9) hX rfl dJ4_checkIndex_1 (fun _ => ?_) (fun _ => ?_)
    · exact hj2 ()
    · refine j_iload_n (pc := 4) hX 0 rfl dJ4_checkIndex_4 ?_
      refine j_iload_n (pc := 5) hX 1 rfl dJ4_checkIndex_5 ?_
      refine j_clt (pc := 6) (tgt := 16) hX rfl dJ4_checkIndex_6 (fun _ => ?_) (fun _ => ?_)
      · refine j_iload_n (pc := 16) hX 0 rfl dJ4_checkIndex_16 ?_
        exact j_iret (pc := 17) hX hr dJ4_checkIndex_17
      · exact hj2 ()
set_option maxHeartbeats 4000000 in
set_option maxRecDepth 100000 in
theorem kJ3_checkIndex_t   (a1 : Int32) (a2 : Int32) (h : HP) (rr : Int32 × HP) (e : kJ3_checkIndex a1 a2 h = some rr) : Cn cV yJ3_checkIndex (ws_ yJ3_checkIndex cJ3_checkIndex 2 (some .int)) 2 22 (fun z => [.int a1, .int a2]) h (fun z => eI z rr.1) rr.2 := by
  refine cn_of (e1 := eI) (fun z => [(0, .int a1), (1, .int a2)]) cV_ok (kJ3_checkIndex_m a1 a2 h _ e) ymJ3_checkIndex (fun _ => rfl) (fun _ => Nat.le_of_ble_eq_true rfl) (fun X hX hr hnm => ?_) e
  have hX : okX cV X rr cJ3_checkIndex RJ3 2 2 22 := hX
  rw [kJ3_checkIndex]
  refine j_iload_n (pc := 0) hX 0 rfl dJ3_checkIndex_0 ?_
  refine j_iload_n (pc := 1) hX 1 rfl dJ3_checkIndex_1 ?_
  refine j_null (pc := 2) hX dJ3_checkIndex_2 ?_
  refine j_callS (pc := 3) (e1 := eI) (As := fun z => [.int a1, .int a2, .null]) (rest := []) hX (fun r e => kJ4_checkIndex_t a1 a2 h r e) ymJ4_checkIndex (lw_S q428 q429 q153 q430) ⟨Nat.le_of_ble_eq_true rfl, Nat.le_of_ble_eq_true rfl⟩ rfl rfl (Nat.le_of_ble_eq_true rfl) dJ3_checkIndex_3 (fun r1 h2 => ?_)
  exact j_iret (pc := 6) hX hr dJ3_checkIndex_6
set_option maxHeartbeats 4000000 in
set_option maxRecDepth 100000 in
theorem cL_elementData_t   (o : Nat) (a1 : Int32) (h : HP) (rr : Nat × HP) (e : cL_elementData o a1 h = some rr) : Cn cV yJ2_elementData (ws_ yJ2_elementData cJ2_elementData 2 (some (.object "java/lang/Object"))) 1 0 (fun z => [.ref (z + o), .int a1]) h (fun z => eR z rr.1) rr.2 := by
  refine cn_of (e1 := eR) (fun z => [(0, .ref (z + o)), (1, .int a1)]) cV_ok (cL_elementData_m o a1 h _ e) ymJ2_elementData (fun _ => rfl) (fun _ => Nat.le_of_ble_eq_true rfl) (fun X hX hr hnm => ?_) e
  have hX : okX cV X rr cJ2_elementData RJ2 2 1 0 := hX
  rw [cL_elementData]
  refine j_aload_n (pc := 0) hX 0 rfl dJ2_elementData_0 ?_
  refine j_grd fun g1 => ?_
  refine c_getR (pc := 1) hX fgJ2_9_J2.1 fgJ2_9_J2.2 (k1_of g1.1) g1.2.1 dJ2_elementData_1 ?_
  refine j_iload_n (pc := 4) hX 1 rfl dJ2_elementData_4 ?_
  refine j_aald (pc := 5) (n := (gT (cV h) (o + 1)).2) (q := 4) hX (Nat.le_of_ble_eq_true rfl) (fun _ => rfl) (kA_of g1.2.2) dJ2_elementData_5 (fun b2 => ?_)
  exact j_aret (pc := 6) hX (Or.inl ⟨_, rfl⟩) hr dJ2_elementData_6
set_option maxHeartbeats 4000000 in
set_option maxRecDepth 100000 in
theorem cL_get_t   (o : Nat) (a1 : Int32) (h : HP) (rr : Nat × HP) (e : cL_get o a1 h = some rr) : Cn cV yJ2_get (ws_ yJ2_get cJ2_get 2 (some (.object "java/lang/Object"))) 3 43 (fun z => [.ref (z + o), .int a1]) h (fun z => eR z rr.1) rr.2 := by
  refine cn_of (e1 := eR) (fun z => [(0, .ref (z + o)), (1, .int a1)]) cV_ok (cL_get_m o a1 h _ e) ymJ2_get (fun _ => rfl) (fun _ => Nat.le_of_ble_eq_true rfl) (fun X hX hr hnm => ?_) e
  have hX : okX cV X rr cJ2_get RJ2 2 3 43 := hX
  rw [cL_get]
  refine j_iload_n (pc := 0) hX 1 rfl dJ2_get_0 ?_
  refine j_aload_n (pc := 1) hX 0 rfl dJ2_get_1 ?_
  refine j_grd fun g1 => ?_
  refine c_getI (pc := 2) hX fgJ2_48_J2.1 fgJ2_48_J2.2 (k1_of g1.1) dJ2_get_2 ?_
  refine j_callS (pc := 5) (e1 := eI) (As := fun z => [.int a1, .int (gI h o 2)]) (rest := []) hX (fun r e => kJ3_checkIndex_t a1 (gI h o 2) h r e) ymJ3_checkIndex (lw_S q425 q426 q152 q427) ⟨Nat.le_of_ble_eq_true rfl, Nat.le_of_ble_eq_true rfl⟩ rfl rfl (Nat.le_of_ble_eq_true rfl) dJ2_get_5 (fun r2 h3 => ?_)
  refine j_pop (pc := 8) hX rfl dJ2_get_8 ?_
  refine j_aload_n (pc := 9) hX 0 rfl dJ2_get_9 ?_
  refine j_iload_n (pc := 10) hX 1 rfl dJ2_get_10 ?_
  refine j_grd fun g6 => ?_
  refine j_callV (pc := 11) (e1 := eR) (a := o) (As := fun z => [.int a1]) (rest := []) hX (fun r e => cL_elementData_t o a1 h3 r e) ymJ2_elementData (lw_V q431 q432 q433 q145 q434) rfl ckJ2 (k1_of g6.1) ⟨Nat.le_of_ble_eq_true rfl, Nat.le_of_ble_eq_true rfl⟩ rfl rfl (Nat.le_of_ble_eq_true rfl) dJ2_get_11 (fun r4 h5 => ?_)
  exact j_aret (pc := 14) hX (Or.inl ⟨_, rfl⟩) hr dJ2_get_14
set_option maxHeartbeats 4000000 in
set_option maxRecDepth 100000 in
theorem cL_add_2_t   (o : Nat) (a1 : Nat) (a2 : Nat) (a3 : Int32) (h : HP) (rr : Unit × HP) (e : cL_add_2 o a1 a2 a3 h = some rr) : Cn cV yJ2_add_2 (ws_ yJ2_add_2 cJ2_add_2 4 (none)) 1 0 (fun z => [.ref (z + o), .ref (z + a1), .ref (z + a2), .int a3]) h (fun z => eV z rr.1) rr.2 := by
  refine cn_of (e1 := eV) (fun z => [(0, .ref (z + o)), (1, .ref (z + a1)), (2, .ref (z + a2)), (3, .int a3)]) cV_ok (cL_add_2_m o a1 a2 a3 h _ e) ymJ2_add_2 (fun _ => rfl) (fun _ => Nat.le_of_ble_eq_true rfl) (fun X hX hr hnm => ?_) e
  have hX : okX cV X rr cJ2_add_2 RJ2 4 1 0 := hX
  rw [cL_add_2]
  refine j_iload_n (pc := 0) hX 3 rfl dJ2_add_2_0 ?_
  refine j_aload_n (pc := 1) hX 2 rfl dJ2_add_2_1 ?_
  refine j_grd fun g1 => ?_
  refine j_alen (pc := 2) (q := 4) (v := (Int32.ofNat (gT (cV h) a2).2)) hX (Nat.le_of_ble_eq_true rfl) (fun _ => rfl) (kA_of g1) rfl dJ2_add_2_2 ?_
  refine j_jon (fun (j2 : Nat → HP → Option (Unit × HP)) => ∀ (x3 : Nat) (h4 : HP), jG cV X evV rr (j2 x3 h4) 11 [(0, .ref (xz X + o)), (1, .ref (xz X + a1)), (2, .ref (xz X + x3)), (3, .int a3)] [] h4) ?_ ?_
  · intro x3 h4
    refine j_aload_n (pc := 11) hX 2 rfl dJ2_add_2_11 ?_
    refine j_iload_n (pc := 12) hX 3 rfl dJ2_add_2_12 ?_
    refine j_aload_n (pc := 13) hX 1 rfl dJ2_add_2_13 ?_
    refine j_grd fun g5 => ?_
    refine j_grd fun g6 => ?_
    refine j_grd fun g8 => ?_
    refine j_aastO (pc := 14) (n := (gT (cV h4) x3).2) hX (kA_of g5) g8 (cV_sR g6) dJ2_add_2_14 (fun h7 => ?_)
    refine j_aload_n (pc := 15) hX 0 rfl dJ2_add_2_15 ?_
    refine j_iload_n (pc := 16) hX 3 rfl dJ2_add_2_16 ?_
    refine j_iconst (pc := 17) hX ic_1 dJ2_add_2_17 ?_
    refine j_iadd (pc := 18) hX dJ2_add_2_18 ?_
    refine j_grd fun g9 => ?_
    refine c_putI (pc := 19) hX fwJ2_48_J2.1 fwJ2_48_J2.2 (k1_of g9.1) dJ2_add_2_19 (fun h10 q11 q12 => ?_)
    exact j_vret (pc := 22) hX hr dJ2_add_2_22
  · intro j2 hj2
    refine j_cne (pc := 3) (tgt := 11) hX rfl dJ2_add_2_3 (fun _ => ?_) (fun _ => ?_)
    · refine j_aload_n (pc := 6) hX 0 rfl dJ2_add_2_6 ?_
      exact j_none
    · exact hj2 a2 h
set_option maxHeartbeats 4000000 in
set_option maxRecDepth 100000 in
theorem cL_add_t   (o : Nat) (a1 : Nat) (h : HP) (rr : Int32 × HP) (e : cL_add o a1 h = some rr) : Cn cV yJ2_add (ws_ yJ2_add cJ2_add 2 (some .boolean)) 2 23 (fun z => [.ref (z + o), .ref (z + a1)]) h (fun z => eI z rr.1) rr.2 := by
  refine cn_of (e1 := eI) (fun z => [(0, .ref (z + o)), (1, .ref (z + a1))]) cV_ok (cL_add_m o a1 h _ e) ymJ2_add (fun _ => rfl) (fun _ => Nat.le_of_ble_eq_true rfl) (fun X hX hr hnm => ?_) e
  have hX : okX cV X rr cJ2_add RJ2 2 2 23 := hX
  rw [cL_add]
  refine j_aload_n (pc := 0) hX 0 rfl dJ2_add_0 ?_
  refine j_dup (pc := 1) hX rfl dJ2_add_1 ?_
  refine j_grd fun g1 => ?_
  refine c_getI (pc := 2) hX fgJ2_63_J2.1 fgJ2_63_J2.2 (k1_of g1.1) dJ2_add_2 ?_
  refine j_iconst (pc := 5) hX ic_1 dJ2_add_5 ?_
  refine j_iadd (pc := 6) hX dJ2_add_6 ?_
  refine c_putI (pc := 7) hX fwJ2_63_J2.1 fwJ2_63_J2.2 (k1_of g1.1) dJ2_add_7 (fun h2 q3 q4 => ?_)
  refine j_aload_n (pc := 10) hX 0 rfl dJ2_add_10 ?_
  refine j_aload_n (pc := 11) hX 1 rfl dJ2_add_11 ?_
  refine j_aload_n (pc := 12) hX 0 rfl dJ2_add_12 ?_
  refine j_grd fun g5 => ?_
  refine c_getR (pc := 13) hX fgJ2_9_J2.1 fgJ2_9_J2.2 (k1_of g5.1) g5.2.1 dJ2_add_13 ?_
  refine j_aload_n (pc := 16) hX 0 rfl dJ2_add_16 ?_
  refine c_getI (pc := 17) hX fgJ2_48_J2.1 fgJ2_48_J2.2 (k1_of g5.1) dJ2_add_17 ?_
  refine j_callV (pc := 20) (e1 := eV) (a := o) (As := fun z => [.ref (z + a1), .ref (z + (o + 1)), .int (gI h2 o 2)]) (rest := []) hX (fun r e => cL_add_2_t o a1 (o + 1) (gI h2 o 2) h2 r e) ymJ2_add_2 (lw_V q782 q784 qs13 q145 q785) rfl ckJ2 (k1_of g5.1) ⟨Nat.le_of_ble_eq_true rfl, Nat.le_of_ble_eq_true rfl⟩ rfl rfl (Nat.le_of_ble_eq_true rfl) dJ2_add_20 (fun r6 h7 => ?_)
  refine j_iconst (pc := 23) hX ic_1 dJ2_add_23 ?_
  exact j_zret (pc := 24) hX (Or.inr rfl) hr dJ2_add_24
set_option maxHeartbeats 4000000 in
set_option maxRecDepth 100000 in
theorem cL_clear_27_w {X : CTX} {rr : Unit × HP}  (hX : okX cV X rr cJ2_clear RJ2 4 1 0) (hr : (xh X).sig.returnType = none) (f1 : Nat) (f2 : Int32) (k : HP → Option (Unit × HP)) (hk : ∀  (h : HP), jG cV X evV rr (k  h) 42 [] [] h) : ∀ (n : Nat) (v3 : Int32) (h : HP), jG cV X evV rr (cL_clear_27 f1 f2 k n v3 h) 27 [(1, .ref (xz X + f1)), (2, .int f2), (3, .int v3)] [] h := by
  intro n
  induction n with
  | zero =>
    intro v3 h
    exact j_none
  | succ n ih =>
    intro v3 h
    rw [cL_clear_27]
    refine j_iload_n (pc := 27) hX 2 rfl dJ2_clear_27 ?_
    refine j_iload_n (pc := 28) hX 1 rfl dJ2_clear_28 ?_
    refine j_cge (pc := 29) (tgt := 42) hX rfl dJ2_clear_29 (fun _ => ?_) (fun _ => ?_)
    · refine j_locs [] rfl ?_
      exact hk h
    · refine j_aload_n (pc := 32) hX 0 rfl dJ2_clear_32 ?_
      refine j_iload_n (pc := 33) hX 2 rfl dJ2_clear_33 ?_
      refine j_null (pc := 34) hX dJ2_clear_34 ?_
      refine j_grd fun g11 => ?_
      refine j_grd fun g12 => ?_
      refine j_aastN (pc := 35) (n := (gT (cV h) f1).2) (q := 4) hX (Nat.le_of_ble_eq_true rfl) (fun _ => rfl) (kA_of g11) (cV_sR g12) dJ2_clear_35 (fun h13 => ?_)
      refine j_iinc (pc := 36) hX 2 rfl (1 : Int32) ic_1 (fun x14 => [(3, .int x14), (1, .ref (xz X + f1)), (2, .int f2)]) (fun _ => rfl) (Nat.le_of_ble_eq_true rfl) dJ2_clear_36 (fun x14 => ?_)
      refine j_goto (pc := 39) (tgt := 27) hX rfl dJ2_clear_39 ?_
      refine j_locs [1, 2, 0] rfl ?_
      exact ih x14 h13
set_option maxHeartbeats 4000000 in
set_option maxRecDepth 100000 in
theorem cL_clear_t   (o : Nat) (h : HP) (rr : Unit × HP) (e : cL_clear o h = some rr) : Cn cV yJ2_clear (ws_ yJ2_clear cJ2_clear 4 (none)) 1 0 (fun z => [.ref (z + o)]) h (fun z => eV z rr.1) rr.2 := by
  refine cn_of (e1 := eV) (fun z => [(0, .ref (z + o))]) cV_ok (cL_clear_m o h _ e) ymJ2_clear (fun _ => rfl) (fun _ => Nat.le_of_ble_eq_true rfl) (fun X hX hr hnm => ?_) e
  have hX : okX cV X rr cJ2_clear RJ2 4 1 0 := hX
  rw [cL_clear]
  refine j_aload_n (pc := 0) hX 0 rfl dJ2_clear_0 ?_
  refine j_dup (pc := 1) hX rfl dJ2_clear_1 ?_
  refine j_grd fun g1 => ?_
  refine c_getI (pc := 2) hX fgJ2_63_J2.1 fgJ2_63_J2.2 (k1_of g1.1) dJ2_clear_2 ?_
  refine j_iconst (pc := 5) hX ic_1 dJ2_clear_5 ?_
  refine j_iadd (pc := 6) hX dJ2_clear_6 ?_
  refine c_putI (pc := 7) hX fwJ2_63_J2.1 fwJ2_63_J2.2 (k1_of g1.1) dJ2_clear_7 (fun h2 q3 q4 => ?_)
  refine j_aload_n (pc := 10) hX 0 rfl dJ2_clear_10 ?_
  refine j_grd fun g5 => ?_
  refine c_getR (pc := 11) hX fgJ2_9_J2.1 fgJ2_9_J2.2 (k1_of g5.1) g5.2.1 dJ2_clear_11 ?_
  refine j_astore_n (pc := 14) (ls' := [(1, .ref (xz X + (o + 1))), (0, .ref (xz X + o))]) hX rfl (Nat.le_of_ble_eq_true rfl) dJ2_clear_14 ?_
  refine j_aload_n (pc := 15) hX 1 rfl dJ2_clear_15 ?_
  refine c_getI (pc := 16) hX fgJ2_48_J2.1 fgJ2_48_J2.2 (k1_of g5.1) dJ2_clear_16 ?_
  refine j_istore_n (pc := 19) hX (fun x6 => [(2, .int x6), (1, .ref (xz X + (o + 1))), (0, .ref (xz X + o))]) (fun _ => rfl) (Nat.le_of_ble_eq_true rfl) dJ2_clear_19 (fun x6 => ?_)
  refine j_aload_n (pc := 20) hX 2 rfl dJ2_clear_20 ?_
  refine j_iconst (pc := 21) hX ic_0 dJ2_clear_21 ?_
  refine j_dup_x1 (pc := 22) hX rfl rfl dJ2_clear_22 ?_
  refine c_putI (pc := 23) hX fwJ2_48_J2.1 fwJ2_48_J2.2 (k1_of g5.1) dJ2_clear_23 (fun h7 q8 q9 => ?_)
  refine j_istore_n (pc := 26) hX (fun x10 => [(3, .int x10), (2, .int x6), (1, .ref (xz X + (o + 1))), (0, .ref (xz X + o))]) (fun _ => rfl) (Nat.le_of_ble_eq_true rfl) dJ2_clear_26 (fun x10 => ?_)
  refine j_locs [2, 1, 0] rfl ?_
  refine cL_clear_27_w hX hr (o + 1) x6 _ (fun  h15 => ?_) FU x10 h7
  exact j_vret (pc := 42) hX hr dJ2_clear_42
set_option maxHeartbeats 4000000 in
set_option maxRecDepth 100000 in
theorem kJ5_coder_t   (o : Nat) (h : HP) (rr : Int32 × HP) (e : kJ5_coder o h = some rr) : CnD cV yJ5_coder (ws_ yJ5_coder cJ5_coder 1 (some .byte)) 1 0 (fun D z => [.ref (sK D o)]) h (fun z => eI z rr.1) rr.2 := by
  refine cnd_of (e1 := eI) (fun D z => [(0, .ref (sK D o))]) cV_ok (kJ5_coder_m o h _ e) ymJ5_coder (fun _ _ => rfl) (fun _ _ => Nat.le_of_ble_eq_true rfl) (fun X hX hr => ?_) e
  have hX : okX cV X rr cJ5_coder RJ5 1 1 0 := hX
  rw [kJ5_coder]
  refine j_sCS (pc := 0) hX q561 dJ5_coder_0 ?_
  refine j_ifeq (pc := 3) (tgt := 13) hX rfl dJ5_coder_3 (fun _ => ?_) (fun _ => ?_)
  · refine j_iconst (pc := 13) hX ic_1 dJ5_coder_13 ?_
    refine j_grd fun g1 => ?_
    exact j_bret (pc := 14) hX g1 hr dJ5_coder_14
  · refine j_aload_n (pc := 6) hX 0 rfl dJ5_coder_6 ?_
    refine j_grd fun g2 => ?_
    refine j_sCod (pc := 7) hX g2 q2380 dJ5_coder_7 ?_
    refine j_goto (pc := 10) (tgt := 14) hX rfl dJ5_coder_10 ?_
    refine j_grd fun g3 => ?_
    exact j_bret (pc := 14) hX g3 hr dJ5_coder_14
set_option maxHeartbeats 4000000 in
set_option maxRecDepth 100000 in
theorem kJ5_length_t   (o : Nat) (h : HP) (rr : Int32 × HP) (e : kJ5_length o h = some rr) : CnD cV yJ5_length (ws_ yJ5_length cJ5_length 1 (some .int)) 2 20 (fun D z => [.ref (sK D o)]) h (fun z => eI z rr.1) rr.2 := by
  refine cnd_of (e1 := eI) (fun D z => [(0, .ref (sK D o))]) cV_ok (kJ5_length_m o h _ e) ymJ5_length (fun _ _ => rfl) (fun _ _ => Nat.le_of_ble_eq_true rfl) (fun X hX hr => ?_) e
  have hX : okX cV X rr cJ5_length RJ5 1 2 20 := hX
  rw [kJ5_length]
  refine j_aload_n (pc := 0) hX 0 rfl dJ5_length_0 ?_
  refine j_grd fun g1 => ?_
  refine j_sVal (pc := 1) hX g1 q2379 dJ5_length_1 ?_
  refine j_sVlen (pc := 4) hX g1 dJ5_length_4 ?_
  refine j_aload_n (pc := 5) hX 0 rfl dJ5_length_5 ?_
  refine d_callV (pc := 6) (e1 := eI) (AsD := fun D z => []) (rest := [.int (Int32.ofNat (sLen.getD o 0))]) hX g1 (fun r e => kJ5_coder_t o h r e) ymJ5_coder (lw_V q557 q558 q559 q155 q560) rfl ⟨Nat.le_of_ble_eq_true rfl, Nat.le_of_ble_eq_true rfl⟩ rfl rfl (Nat.le_of_ble_eq_true rfl) dJ5_length_6 (fun r2 h3 => ?_)
  refine j_ishr (pc := 9) hX dJ5_length_9 ?_
  exact j_iret (pc := 10) hX hr dJ5_length_10
set_option maxHeartbeats 4000000 in
set_option maxRecDepth 100000 in
theorem kJ5_isLatin1_t   (o : Nat) (h : HP) (rr : Int32 × HP) (e : kJ5_isLatin1 o h = some rr) : CnD cV yJ5_isLatin1 (ws_ yJ5_isLatin1 cJ5_isLatin1 1 (some .boolean)) 1 0 (fun D z => [.ref (sK D o)]) h (fun z => eI z rr.1) rr.2 := by
  refine cnd_of (e1 := eI) (fun D z => [(0, .ref (sK D o))]) cV_ok (kJ5_isLatin1_m o h _ e) ymJ5_isLatin1 (fun _ _ => rfl) (fun _ _ => Nat.le_of_ble_eq_true rfl) (fun X hX hr => ?_) e
  have hX : okX cV X rr cJ5_isLatin1 RJ5 1 1 0 := hX
  rw [kJ5_isLatin1]
  refine j_sCS (pc := 0) hX q561 dJ5_isLatin1_0 ?_
  refine j_ifeq (pc := 3) (tgt := 17) hX rfl dJ5_isLatin1_3 (fun _ => ?_) (fun _ => ?_)
  · refine j_iconst (pc := 17) hX ic_0 dJ5_isLatin1_17 ?_
    exact j_zret (pc := 18) hX (Or.inl rfl) hr dJ5_isLatin1_18
  · refine j_aload_n (pc := 6) hX 0 rfl dJ5_isLatin1_6 ?_
    refine j_grd fun g1 => ?_
    refine j_sCod (pc := 7) hX g1 q2380 dJ5_isLatin1_7 ?_
    refine j_ifne (pc := 10) (tgt := 17) hX rfl dJ5_isLatin1_10 (fun _ => ?_) (fun _ => ?_)
    · refine j_iconst (pc := 13) hX ic_1 dJ5_isLatin1_13 ?_
      refine j_goto (pc := 14) (tgt := 18) hX rfl dJ5_isLatin1_14 ?_
      exact j_zret (pc := 18) hX (Or.inr rfl) hr dJ5_isLatin1_18
    · refine j_iconst (pc := 17) hX ic_0 dJ5_isLatin1_17 ?_
      exact j_zret (pc := 18) hX (Or.inl rfl) hr dJ5_isLatin1_18
set_option maxHeartbeats 4000000 in
set_option maxRecDepth 100000 in
theorem kJ5_checkIndex_t   (a1 : Int32) (a2 : Int32) (h : HP) (rr : Unit × HP) (e : kJ5_checkIndex a1 a2 h = some rr) : Cn cV yJ5_checkIndex (ws_ yJ5_checkIndex cJ5_checkIndex 2 (none)) 2 22 (fun z => [.int a1, .int a2]) h (fun z => eV z rr.1) rr.2 := by
  refine cn_of (e1 := eV) (fun z => [(0, .int a1), (1, .int a2)]) cV_ok (kJ5_checkIndex_m a1 a2 h _ e) ymJ5_checkIndex (fun _ => rfl) (fun _ => Nat.le_of_ble_eq_true rfl) (fun X hX hr hnm => ?_) e
  have hX : okX cV X rr cJ5_checkIndex RJ5 2 2 22 := hX
  rw [kJ5_checkIndex]
  refine j_iload_n (pc := 0) hX 0 rfl dJ5_checkIndex_0 ?_
  refine j_iload_n (pc := 1) hX 1 rfl dJ5_checkIndex_1 ?_
  refine j_getsq2 (pc := 2) hX hX.2.1.1.2.2.2.2.2.2.2 q577 dJ5_checkIndex_2 ?_ (fun q1 => ?_)
  · refine j_callS (pc := 5) (e1 := eI) (As := fun z => [.int a1, .int a2, .null]) (rest := []) hX (fun r e => kJ4_checkIndex_t a1 a2 h r e) ymJ4_checkIndex (lw_S q579 q429 q153 q430) ⟨Nat.le_of_ble_eq_true rfl, Nat.le_of_ble_eq_true rfl⟩ rfl rfl (Nat.le_of_ble_eq_true rfl) dJ5_checkIndex_5 (fun r2 h3 => ?_)
    refine j_pop (pc := 8) hX rfl dJ5_checkIndex_8 ?_
    exact j_vret (pc := 9) hX hr dJ5_checkIndex_9
  · refine j_callS (pc := 5) (e1 := eI) (As := fun z => [.int a1, .int a2, .ref q1]) (rest := []) hX (fun r e => kJ4_checkIndex_r q1 a1 a2 h r e) ymJ4_checkIndex (lw_S q579 q429 q153 q430) ⟨Nat.le_of_ble_eq_true rfl, Nat.le_of_ble_eq_true rfl⟩ rfl rfl (Nat.le_of_ble_eq_true rfl) dJ5_checkIndex_5 (fun r4 h5 => ?_)
    refine j_pop (pc := 8) hX rfl dJ5_checkIndex_8 ?_
    exact j_vret (pc := 9) hX hr dJ5_checkIndex_9
set_option maxHeartbeats 4000000 in
set_option maxRecDepth 100000 in
theorem kJ6_charAt_t   (a1 : Nat) (a2 : Int32) (h : HP) (rr : Int32 × HP) (e : kJ6_charAt a1 a2 h = some rr) : CnD cV yJ6_charAt (ws_ yJ6_charAt cJ6_charAt 2 (some .char)) 3 43 (fun D z => [.ref (sW D a1), .int a2]) h (fun z => eI z rr.1) rr.2 := by
  refine cnd_of (e1 := eI) (fun D z => [(0, .ref (sW D a1)), (1, .int a2)]) cV_ok (kJ6_charAt_m a1 a2 h _ e) ymJ6_charAt (fun _ _ => rfl) (fun _ _ => Nat.le_of_ble_eq_true rfl) (fun X hX hr => ?_) e
  have hX : okX cV X rr cJ6_charAt RJ6 2 3 43 := hX
  rw [kJ6_charAt]
  refine j_iload_n (pc := 0) hX 1 rfl dJ6_charAt_0 ?_
  refine j_aload_n (pc := 1) hX 0 rfl dJ6_charAt_1 ?_
  refine j_grd fun g1 => ?_
  refine j_sVlen (pc := 2) hX g1 dJ6_charAt_2 ?_
  refine j_callS (pc := 3) (e1 := eV) (As := fun z => [.int a2, .int (Int32.ofNat (sLen.getD a1 0))]) (rest := []) hX (fun r e => kJ5_checkIndex_t a2 (Int32.ofNat (sLen.getD a1 0)) h r e) ymJ5_checkIndex (lw_S q574 q575 q155 q576) ⟨Nat.le_of_ble_eq_true rfl, Nat.le_of_ble_eq_true rfl⟩ rfl rfl (Nat.le_of_ble_eq_true rfl) dJ6_charAt_3 (fun r2 h3 => ?_)
  refine j_aload_n (pc := 6) hX 0 rfl dJ6_charAt_6 ?_
  refine j_iload_n (pc := 7) hX 1 rfl dJ6_charAt_7 ?_
  refine j_grd fun g4 => ?_
  refine j_sVld (pc := 8) hX g4 dJ6_charAt_8 (fun _ => ?_)
  refine j_sipush (pc := 9) hX sp_255 dJ6_charAt_9 ?_
  refine j_iand (pc := 12) hX dJ6_charAt_12 ?_
  refine j_i2c (pc := 13) hX dJ6_charAt_13 ?_
  refine j_grd fun g5 => ?_
  exact j_cret (pc := 14) hX g5 hr dJ6_charAt_14
set_option maxHeartbeats 4000000 in
set_option maxRecDepth 100000 in
theorem kJ5_charAt_t   (o : Nat) (a1 : Int32) (h : HP) (rr : Int32 × HP) (e : kJ5_charAt o a1 h = some rr) : CnD cV yJ5_charAt (ws_ yJ5_charAt cJ5_charAt 2 (some .char)) 4 64 (fun D z => [.ref (sK D o), .int a1]) h (fun z => eI z rr.1) rr.2 := by
  refine cnd_of (e1 := eI) (fun D z => [(0, .ref (sK D o)), (1, .int a1)]) cV_ok (kJ5_charAt_m o a1 h _ e) ymJ5_charAt (fun _ _ => rfl) (fun _ _ => Nat.le_of_ble_eq_true rfl) (fun X hX hr => ?_) e
  have hX : okX cV X rr cJ5_charAt RJ5 2 4 64 := hX
  rw [kJ5_charAt]
  refine j_aload_n (pc := 0) hX 0 rfl dJ5_charAt_0 ?_
  refine j_grd fun g3 => ?_
  refine d_callV (pc := 1) (e1 := eI) (AsD := fun D z => []) (rest := []) hX g3 (fun r e => kJ5_isLatin1_t o h r e) ymJ5_isLatin1 (lw_V q567 q568 q569 q155 q570) rfl ⟨Nat.le_of_ble_eq_true rfl, Nat.le_of_ble_eq_true rfl⟩ rfl rfl (Nat.le_of_ble_eq_true rfl) dJ5_charAt_1 (fun r1 h2 => ?_)
  refine j_ifeq (pc := 4) (tgt := 16) hX rfl dJ5_charAt_4 (fun _ => ?_) (fun _ => ?_)
  · refine j_aload_n (pc := 16) hX 0 rfl dJ5_charAt_16 ?_
    refine j_sVal (pc := 17) hX g3 q2379 dJ5_charAt_17 ?_
    refine j_iload_n (pc := 20) hX 1 rfl dJ5_charAt_20 ?_
    exact j_none
  · refine j_aload_n (pc := 7) hX 0 rfl dJ5_charAt_7 ?_
    refine j_sVal (pc := 8) hX g3 q2379 dJ5_charAt_8 ?_
    refine j_iload_n (pc := 11) hX 1 rfl dJ5_charAt_11 ?_
    refine d_callS (pc := 12) (e1 := eI) (AsD := fun D z => [.ref (sW D o), .int a1]) (rest := []) hX (fun r e => kJ6_charAt_t o a1 h2 r e) ymJ6_charAt (lw_S q571 q572 q156 q573) ⟨Nat.le_of_ble_eq_true rfl, Nat.le_of_ble_eq_true rfl⟩ rfl rfl (Nat.le_of_ble_eq_true rfl) dJ5_charAt_12 (fun r6 h7 => ?_)
    refine j_grd fun g8 => ?_
    exact j_cret (pc := 15) hX g8 hr dJ5_charAt_15
set_option maxHeartbeats 4000000 in
set_option maxRecDepth 100000 in
theorem kJ6_canEncode_t   (a1 : Int32) (h : HP) (rr : Int32 × HP) (e : kJ6_canEncode a1 h = some rr) : Cn cV yJ6_canEncode (ws_ yJ6_canEncode cJ6_canEncode 1 (some .boolean)) 1 0 (fun z => [.int a1]) h (fun z => eI z rr.1) rr.2 := by
  refine cn_of (e1 := eI) (fun z => [(0, .int a1)]) cV_ok (kJ6_canEncode_m a1 h _ e) ymJ6_canEncode (fun _ => rfl) (fun _ => Nat.le_of_ble_eq_true rfl) (fun X hX hr hnm => ?_) e
  have hX : okX cV X rr cJ6_canEncode RJ6 1 1 0 := hX
  rw [kJ6_canEncode]
  refine j_iload_n (pc := 0) hX 0 rfl dJ6_canEncode_0 ?_
  refine j_iflt (pc := 1) (tgt := 15) hX rfl dJ6_canEncode_1 (fun _ => ?_) (fun _ => ?_)
  · refine j_iconst (pc := 15) hX ic_0 dJ6_canEncode_15 ?_
    exact j_zret (pc := 16) hX (Or.inl rfl) hr dJ6_canEncode_16
  · refine j_iload_n (pc := 4) hX 0 rfl dJ6_canEncode_4 ?_
    refine j_sipush (pc := 5) hX sp_255 dJ6_canEncode_5 ?_
    refine j_cgt (pc := 8) (tgt := 15) hX rfl dJ6_canEncode_8 (fun _ => ?_) (fun _ => ?_)
    · refine j_iconst (pc := 15) hX ic_0 dJ6_canEncode_15 ?_
      exact j_zret (pc := 16) hX (Or.inl rfl) hr dJ6_canEncode_16
    · refine j_iconst (pc := 11) hX ic_1 dJ6_canEncode_11 ?_
      refine j_goto (pc := 12) (tgt := 16) hX rfl dJ6_canEncode_12 ?_
      exact j_zret (pc := 16) hX (Or.inr rfl) hr dJ6_canEncode_16
set_option maxHeartbeats 4000000 in
set_option maxRecDepth 100000 in
theorem kJ6_indexOfChar_7_w {X : CTX} {rr : Int32 × HP}  (hX : okX cV X rr cJ6_indexOfChar RJ6 6 1 0) (hr : (xh X).sig.returnType = some .int) (f0 : Nat) (f3 : Int32) (f4 : Int32) (k : HP → Option (Int32 × HP)) (hk : ∀  (h : HP), jG cV X evI rr (k  h) 31 [] [] h) : ∀ (n : Nat) (v5 : Int32) (h : HP), jG cV X evI rr (kJ6_indexOfChar_7 f0 f3 f4 k n v5 h) 7 [(0, .ref (sW (xD X) f0)), (3, .int f3), (4, .int f4), (5, .int v5)] [] h := by
  intro n
  induction n with
  | zero =>
    intro v5 h
    exact j_none
  | succ n ih =>
    intro v5 h
    rw [kJ6_indexOfChar_7]
    refine j_iload (pc := 7) hX 3 rfl dJ6_indexOfChar_7 ?_
    refine j_iload_n (pc := 9) hX 1 rfl dJ6_indexOfChar_9 ?_
    refine j_cge (pc := 10) (tgt := 31) hX rfl dJ6_indexOfChar_10 (fun _ => ?_) (fun _ => ?_)
    · refine j_locs [] rfl ?_
      exact hk h
    · refine j_aload_n (pc := 13) hX 0 rfl dJ6_indexOfChar_13 ?_
      refine j_iload (pc := 14) hX 3 rfl dJ6_indexOfChar_14 ?_
      refine j_grd fun g3 => ?_
      refine j_sVld (pc := 16) hX g3 dJ6_indexOfChar_16 (fun _ => ?_)
      refine j_iload (pc := 17) hX 2 rfl dJ6_indexOfChar_17 ?_
      refine j_cne (pc := 19) (tgt := 25) hX rfl dJ6_indexOfChar_19 (fun _ => ?_) (fun _ => ?_)
      · refine j_iload (pc := 22) hX 3 rfl dJ6_indexOfChar_22 ?_
        exact j_iret (pc := 24) hX hr dJ6_indexOfChar_24
      · refine j_iinc (pc := 25) hX 3 rfl (1 : Int32) ic_1 (fun x4 => [(5, .int x4), (0, .ref (sW (xD X) f0)), (3, .int f3), (4, .int f4)]) (fun _ => rfl) (Nat.le_of_ble_eq_true rfl) dJ6_indexOfChar_25 (fun x4 => ?_)
        refine j_goto (pc := 28) (tgt := 7) hX rfl dJ6_indexOfChar_28 ?_
        refine j_locs [1, 2, 3, 0] rfl ?_
        exact ih x4 h
set_option maxHeartbeats 4000000 in
set_option maxRecDepth 100000 in
theorem kJ6_indexOfChar_t   (a1 : Nat) (a2 : Int32) (a3 : Int32) (a4 : Int32) (h : HP) (rr : Int32 × HP) (e : kJ6_indexOfChar a1 a2 a3 a4 h = some rr) : CnD cV yJ6_indexOfChar (ws_ yJ6_indexOfChar cJ6_indexOfChar 6 (some .int)) 1 0 (fun D z => [.ref (sW D a1), .int a2, .int a3, .int a4]) h (fun z => eI z rr.1) rr.2 := by
  refine cnd_of (e1 := eI) (fun D z => [(0, .ref (sW D a1)), (1, .int a2), (2, .int a3), (3, .int a4)]) cV_ok (kJ6_indexOfChar_m a1 a2 a3 a4 h _ e) ymJ6_indexOfChar (fun _ _ => rfl) (fun _ _ => Nat.le_of_ble_eq_true rfl) (fun X hX hr => ?_) e
  have hX : okX cV X rr cJ6_indexOfChar RJ6 6 1 0 := hX
  rw [kJ6_indexOfChar]
  refine j_iload_n (pc := 0) hX 1 rfl dJ6_indexOfChar_0 ?_
  refine j_i2b (pc := 1) hX dJ6_indexOfChar_1 ?_
  refine j_istore (pc := 2) hX (fun x1 => [(4, .int x1), (0, .ref (sW (xD X) a1)), (1, .int a2), (2, .int a3), (3, .int a4)]) (fun _ => rfl) (Nat.le_of_ble_eq_true rfl) dJ6_indexOfChar_2 (fun x1 => ?_)
  refine j_iload_n (pc := 4) hX 3 rfl dJ6_indexOfChar_4 ?_
  refine j_istore (pc := 5) hX (fun x2 => [(5, .int x2), (4, .int x1), (0, .ref (sW (xD X) a1)), (1, .int a2), (2, .int a3), (3, .int a4)]) (fun _ => rfl) (Nat.le_of_ble_eq_true rfl) dJ6_indexOfChar_5 (fun x2 => ?_)
  refine j_locs [2, 5, 1, 0] rfl ?_
  refine kJ6_indexOfChar_7_w hX hr a1 a4 x1 _ (fun  h5 => ?_) FU x2 h
  refine j_iconst (pc := 31) hX ic_m1 dJ6_indexOfChar_31 ?_
  exact j_iret (pc := 32) hX hr dJ6_indexOfChar_32
set_option maxHeartbeats 4000000 in
set_option maxRecDepth 100000 in
theorem kJ6_indexOf_t   (a1 : Nat) (a2 : Int32) (a3 : Int32) (a4 : Int32) (h : HP) (rr : Int32 × HP) (e : kJ6_indexOf a1 a2 a3 a4 h = some rr) : CnD cV yJ6_indexOf (ws_ yJ6_indexOf cJ6_indexOf 4 (some .int)) 2 25 (fun D z => [.ref (sW D a1), .int a2, .int a3, .int a4]) h (fun z => eI z rr.1) rr.2 := by
  refine cnd_of (e1 := eI) (fun D z => [(0, .ref (sW D a1)), (1, .int a2), (2, .int a3), (3, .int a4)]) cV_ok (kJ6_indexOf_m a1 a2 a3 a4 h _ e) ymJ6_indexOf (fun _ _ => rfl) (fun _ _ => Nat.le_of_ble_eq_true rfl) (fun X hX hr => ?_) e
  have hX : okX cV X rr cJ6_indexOf RJ6 4 2 25 := hX
  rw [kJ6_indexOf]
  refine j_iload_n (pc := 0) hX 1 rfl dJ6_indexOf_0 ?_
  refine j_callS (pc := 1) (e1 := eI) (As := fun z => [.int a2]) (rest := []) hX (fun r e => kJ6_canEncode_t a2 h r e) ymJ6_canEncode (lw_S q623 q624 q156 q625) ⟨Nat.le_of_ble_eq_true rfl, Nat.le_of_ble_eq_true rfl⟩ rfl rfl (Nat.le_of_ble_eq_true rfl) dJ6_indexOf_1 (fun r1 h2 => ?_)
  refine j_ifne (pc := 4) (tgt := 9) hX rfl dJ6_indexOf_4 (fun _ => ?_) (fun _ => ?_)
  · refine j_iconst (pc := 7) hX ic_m1 dJ6_indexOf_7 ?_
    exact j_iret (pc := 8) hX hr dJ6_indexOf_8
  · refine j_iload_n (pc := 9) hX 2 rfl dJ6_indexOf_9 ?_
    refine j_iconst (pc := 10) hX ic_0 dJ6_indexOf_10 ?_
    refine j_mmax (pc := 11) hX q626 q627 q158 q628 ⟨Nat.le_of_ble_eq_true rfl, Nat.le_of_ble_eq_true rfl⟩ (Nat.le_of_ble_eq_true rfl) dJ6_indexOf_11 ?_
    refine j_istore_n (pc := 14) hX (fun x5 => [(2, .int x5), (0, .ref (sW (xD X) a1)), (1, .int a2), (3, .int a4)]) (fun _ => rfl) (Nat.le_of_ble_eq_true rfl) dJ6_indexOf_14 (fun x5 => ?_)
    refine j_iload_n (pc := 15) hX 3 rfl dJ6_indexOf_15 ?_
    refine j_aload_n (pc := 16) hX 1 rfl dJ6_indexOf_16 ?_
    refine j_grd fun g6 => ?_
    refine j_sVlen (pc := 17) hX g6 dJ6_indexOf_17 ?_
    refine j_mmin (pc := 18) hX q629 q630 q158 q631 ⟨Nat.le_of_ble_eq_true rfl, Nat.le_of_ble_eq_true rfl⟩ (Nat.le_of_ble_eq_true rfl) dJ6_indexOf_18 ?_
    refine j_istore_n (pc := 21) hX (fun x9 => [(3, .int x9), (2, .int x5), (0, .ref (sW (xD X) a1)), (1, .int a2)]) (fun _ => rfl) (Nat.le_of_ble_eq_true rfl) dJ6_indexOf_21 (fun x9 => ?_)
    refine j_iload_n (pc := 22) hX 1 rfl dJ6_indexOf_22 ?_
    refine j_iload_n (pc := 23) hX 0 rfl dJ6_indexOf_23 ?_
    refine j_clt (pc := 24) (tgt := 29) hX rfl dJ6_indexOf_24 (fun _ => ?_) (fun _ => ?_)
    · refine j_aload_n (pc := 29) hX 2 rfl dJ6_indexOf_29 ?_
      refine j_iload_n (pc := 30) hX 3 rfl dJ6_indexOf_30 ?_
      refine j_iload_n (pc := 31) hX 1 rfl dJ6_indexOf_31 ?_
      refine j_iload_n (pc := 32) hX 0 rfl dJ6_indexOf_32 ?_
      refine d_callS (pc := 33) (e1 := eI) (AsD := fun D z => [.ref (sW D a1), .int a2, .int x5, .int x9]) (rest := []) hX (fun r e => kJ6_indexOfChar_t a1 a2 x5 x9 h2 r e) ymJ6_indexOfChar (lw_S q632 q633 q156 q634) ⟨Nat.le_of_ble_eq_true rfl, Nat.le_of_ble_eq_true rfl⟩ rfl rfl (Nat.le_of_ble_eq_true rfl) dJ6_indexOf_33 (fun r10 h11 => ?_)
      exact j_iret (pc := 36) hX hr dJ6_indexOf_36
    · refine j_iconst (pc := 27) hX ic_m1 dJ6_indexOf_27 ?_
      exact j_iret (pc := 28) hX hr dJ6_indexOf_28
set_option maxHeartbeats 4000000 in
set_option maxRecDepth 100000 in
theorem kJ5_indexOf_2_t   (o : Nat) (a1 : Int32) (a2 : Int32) (h : HP) (rr : Int32 × HP) (e : kJ5_indexOf_2 o a1 a2 h = some rr) : CnD cV yJ5_indexOf_2 (ws_ yJ5_indexOf_2 cJ5_indexOf_2 3 (some .int)) 3 48 (fun D z => [.ref (sK D o), .int a1, .int a2]) h (fun z => eI z rr.1) rr.2 := by
  refine cnd_of (e1 := eI) (fun D z => [(0, .ref (sK D o)), (1, .int a1), (2, .int a2)]) cV_ok (kJ5_indexOf_2_m o a1 a2 h _ e) ymJ5_indexOf_2 (fun _ _ => rfl) (fun _ _ => Nat.le_of_ble_eq_true rfl) (fun X hX hr => ?_) e
  have hX : okX cV X rr cJ5_indexOf_2 RJ5 3 3 48 := hX
  rw [kJ5_indexOf_2]
  refine j_aload_n (pc := 0) hX 0 rfl dJ5_indexOf_2_0 ?_
  refine j_grd fun g3 => ?_
  refine d_callV (pc := 1) (e1 := eI) (AsD := fun D z => []) (rest := []) hX g3 (fun r e => kJ5_isLatin1_t o h r e) ymJ5_isLatin1 (lw_V q567 q568 q569 q155 q570) rfl ⟨Nat.le_of_ble_eq_true rfl, Nat.le_of_ble_eq_true rfl⟩ rfl rfl (Nat.le_of_ble_eq_true rfl) dJ5_indexOf_2_1 (fun r1 h2 => ?_)
  refine j_ifeq (pc := 4) (tgt := 23) hX rfl dJ5_indexOf_2_4 (fun _ => ?_) (fun _ => ?_)
  · refine j_aload_n (pc := 23) hX 0 rfl dJ5_indexOf_2_23 ?_
    refine j_sVal (pc := 24) hX g3 q2379 dJ5_indexOf_2_24 ?_
    refine j_iload_n (pc := 27) hX 1 rfl dJ5_indexOf_2_27 ?_
    refine j_iload_n (pc := 28) hX 2 rfl dJ5_indexOf_2_28 ?_
    refine j_aload_n (pc := 29) hX 0 rfl dJ5_indexOf_2_29 ?_
    refine d_callV (pc := 30) (e1 := eI) (AsD := fun D z => []) (rest := [.int a2, .int a1, .ref (sW (xD X) o)]) hX g3 (fun r e => kJ5_length_t o h2 r e) ymJ5_length (lw_V q619 q554 q555 q155 q556) rfl ⟨Nat.le_of_ble_eq_true rfl, Nat.le_of_ble_eq_true rfl⟩ rfl rfl (Nat.le_of_ble_eq_true rfl) dJ5_indexOf_2_30 (fun r4 h5 => ?_)
    exact j_none
  · refine j_aload_n (pc := 7) hX 0 rfl dJ5_indexOf_2_7 ?_
    refine j_sVal (pc := 8) hX g3 q2379 dJ5_indexOf_2_8 ?_
    refine j_iload_n (pc := 11) hX 1 rfl dJ5_indexOf_2_11 ?_
    refine j_iload_n (pc := 12) hX 2 rfl dJ5_indexOf_2_12 ?_
    refine j_aload_n (pc := 13) hX 0 rfl dJ5_indexOf_2_13 ?_
    refine d_callV (pc := 14) (e1 := eI) (AsD := fun D z => []) (rest := [.int a2, .int a1, .ref (sW (xD X) o)]) hX g3 (fun r e => kJ5_length_t o h2 r e) ymJ5_length (lw_V q619 q554 q555 q155 q556) rfl ⟨Nat.le_of_ble_eq_true rfl, Nat.le_of_ble_eq_true rfl⟩ rfl rfl (Nat.le_of_ble_eq_true rfl) dJ5_indexOf_2_14 (fun r8 h9 => ?_)
    refine d_callS (pc := 17) (e1 := eI) (AsD := fun D z => [.ref (sW D o), .int a1, .int a2, .int r8]) (rest := []) hX (fun r e => kJ6_indexOf_t o a1 a2 r8 h9 r e) ymJ6_indexOf (lw_S q620 q621 q156 q622) ⟨Nat.le_of_ble_eq_true rfl, Nat.le_of_ble_eq_true rfl⟩ rfl rfl (Nat.le_of_ble_eq_true rfl) dJ5_indexOf_2_17 (fun r10 h11 => ?_)
    refine j_goto (pc := 20) (tgt := 36) hX rfl dJ5_indexOf_2_20 ?_
    exact j_iret (pc := 36) hX hr dJ5_indexOf_2_36
set_option maxHeartbeats 4000000 in
set_option maxRecDepth 100000 in
theorem kJ5_indexOf_t   (o : Nat) (a1 : Int32) (h : HP) (rr : Int32 × HP) (e : kJ5_indexOf o a1 h = some rr) : CnD cV yJ5_indexOf (ws_ yJ5_indexOf cJ5_indexOf 2 (some .int)) 4 70 (fun D z => [.ref (sK D o), .int a1]) h (fun z => eI z rr.1) rr.2 := by
  refine cnd_of (e1 := eI) (fun D z => [(0, .ref (sK D o)), (1, .int a1)]) cV_ok (kJ5_indexOf_m o a1 h _ e) ymJ5_indexOf (fun _ _ => rfl) (fun _ _ => Nat.le_of_ble_eq_true rfl) (fun X hX hr => ?_) e
  have hX : okX cV X rr cJ5_indexOf RJ5 2 4 70 := hX
  rw [kJ5_indexOf]
  refine j_aload_n (pc := 0) hX 0 rfl dJ5_indexOf_0 ?_
  refine j_iload_n (pc := 1) hX 1 rfl dJ5_indexOf_1 ?_
  refine j_iconst (pc := 2) hX ic_0 dJ5_indexOf_2 ?_
  refine j_grd fun g3 => ?_
  refine d_callV (pc := 3) (e1 := eI) (AsD := fun D z => [.int a1, .int (0 : Int32)]) (rest := []) hX g3 (fun r e => kJ5_indexOf_2_t o a1 (0 : Int32) h r e) ymJ5_indexOf_2 (lw_V q615 q616 q617 q155 q618) rfl ⟨Nat.le_of_ble_eq_true rfl, Nat.le_of_ble_eq_true rfl⟩ rfl rfl (Nat.le_of_ble_eq_true rfl) dJ5_indexOf_3 (fun r1 h2 => ?_)
  exact j_iret (pc := 6) hX hr dJ5_indexOf_6
set_option maxHeartbeats 4000000 in
set_option maxRecDepth 100000 in
theorem cA_persons_t    (h : HP) (rr : Int32 × HP) (e : cA_persons  h = some rr) : Cn cV yX1_persons (ws_ yX1_persons cX1_persons 1 (some .int)) 2 20 (fun z => [.ref (z + 0)]) h (fun z => eI z rr.1) rr.2 := by
  refine cn_of (e1 := eI) (fun z => [(0, .ref (z + 0))]) cV_ok (cA_persons_m  h _ e) ymX1_persons (fun _ => rfl) (fun _ => Nat.le_of_ble_eq_true rfl) (fun X hX hr hnm => ?_) e
  have hX : okX cV X rr cX1_persons RX1 1 2 20 := hX
  rw [cA_persons]
  refine j_aload_n (pc := 0) hX 0 rfl dX1_persons_0 ?_
  refine j_onr fun b1 e2 => ?_
  refine c_getR (pc := 1) hX fgX1_13_X1.1 fgX1_13_X1.2 rfl e2 dX1_persons_1 ?_
  refine j_grd fun g3 => ?_
  refine c_getR (pc := 4) hX fgX1_17_X3.1 fgX1_17_X3.2 (k1_of g3.1) g3.2.1.2.1 dX1_persons_4 ?_
  refine j_grd fun g6 => ?_
  refine j_callV (pc := 7) (e1 := eI) (a := (b1 + 3)) (As := fun z => []) (rest := []) hX (fun r e => cL_size_t (b1 + 3) h r e) ymJ2_size (lw_V q417 q418 q419 q145 q420) rfl ckJ2 (k1_of g6.1) ⟨Nat.le_of_ble_eq_true rfl, Nat.le_of_ble_eq_true rfl⟩ rfl rfl (Nat.le_of_ble_eq_true rfl) dX1_persons_7 (fun r4 h5 => ?_)
  exact j_iret (pc := 10) hX hr dX1_persons_10
set_option maxHeartbeats 4000000 in
set_option maxRecDepth 100000 in
theorem cA_put_3_w {X : CTX} {rr : Unit × HP}  (hX : okX cV X rr cX1_put RX1 3 1 0) (hr : (xh X).sig.returnType = none) (f1 : Int32) (k : HP → Option (Unit × HP)) (hk : ∀  (h : HP), jG cV X evV rr (k  h) 33 [] [] h) : ∀ (n : Nat) (v2 : Int32) (h : HP), jG cV X evV rr (cA_put_3 f1 k n v2 h) 3 [(0, .ref (xz X + 0)), (1, .int f1), (2, .int v2)] [] h := by
  intro n
  induction n with
  | zero =>
    intro v2 h
    exact j_none
  | succ n ih =>
    intro v2 h
    rw [cA_put_3]
    refine j_iload_n (pc := 3) hX 2 rfl dX1_put_3 ?_
    refine j_iflt (pc := 4) (tgt := 33) hX rfl dX1_put_4 (fun _ => ?_) (fun _ => ?_)
    · refine j_locs [] rfl ?_
      exact hk h
    · refine j_aload_n (pc := 7) hX 0 rfl dX1_put_7 ?_
      refine c_getR (pc := 8) hX fgX1_56_X1.1 fgX1_56_X1.2 rfl rfl dX1_put_8 ?_
      refine j_aload_n (pc := 11) hX 0 rfl dX1_put_11 ?_
      refine j_dup (pc := 12) hX rfl dX1_put_12 ?_
      refine c_getI (pc := 13) hX fgX1_141_X1.1 fgX1_141_X1.2 rfl dX1_put_13 ?_
      refine j_dup_x1 (pc := 16) hX rfl rfl dX1_put_16 ?_
      refine j_iconst (pc := 17) hX ic_1 dX1_put_17 ?_
      refine j_iadd (pc := 18) hX dX1_put_18 ?_
      refine c_putI (pc := 19) hX fwX1_141_X1.1 fwX1_141_X1.2 rfl dX1_put_19 (fun h2 q3 q4 => ?_)
      refine j_iload_n (pc := 22) hX 1 rfl dX1_put_22 ?_
      refine j_iload_n (pc := 23) hX 2 rfl dX1_put_23 ?_
      refine j_ishr (pc := 24) hX dX1_put_24 ?_
      refine j_i2b (pc := 25) hX dX1_put_25 ?_
      refine c_bast (pc := 26) (n := 700) hX rfl dX1_put_26 (fun h5 q6 q7 => ?_)
      refine j_iinc (pc := 27) hX 2 rfl (-8 : Int32) ic_m8 (fun x8 => [(2, .int x8), (0, .ref (xz X + 0)), (1, .int f1)]) (fun _ => rfl) (Nat.le_of_ble_eq_true rfl) dX1_put_27 (fun x8 => ?_)
      refine j_goto (pc := 30) (tgt := 3) hX rfl dX1_put_30 ?_
      refine j_locs [1, 2, 0] rfl ?_
      exact ih x8 h5
set_option maxHeartbeats 4000000 in
set_option maxRecDepth 100000 in
theorem cA_put_t   (a1 : Int32) (h : HP) (rr : Unit × HP) (e : cA_put a1 h = some rr) : Cn cV yX1_put (ws_ yX1_put cX1_put 3 (none)) 1 0 (fun z => [.ref (z + 0), .int a1]) h (fun z => eV z rr.1) rr.2 := by
  refine cn_of (e1 := eV) (fun z => [(0, .ref (z + 0)), (1, .int a1)]) cV_ok (cA_put_m a1 h _ e) ymX1_put (fun _ => rfl) (fun _ => Nat.le_of_ble_eq_true rfl) (fun X hX hr hnm => ?_) e
  have hX : okX cV X rr cX1_put RX1 3 1 0 := hX
  rw [cA_put]
  refine j_bipush (pc := 0) hX bp_24 dX1_put_0 ?_
  refine j_istore_n (pc := 2) hX (fun x1 => [(2, .int x1), (0, .ref (xz X + 0)), (1, .int a1)]) (fun _ => rfl) (Nat.le_of_ble_eq_true rfl) dX1_put_2 (fun x1 => ?_)
  refine j_locs [1, 2, 0] rfl ?_
  refine cA_put_3_w hX hr a1 _ (fun  h9 => ?_) FU x1 h
  exact j_vret (pc := 33) hX hr dX1_put_33
set_option maxHeartbeats 4000000 in
set_option maxRecDepth 100000 in
theorem cA_feed_t   (a1 : Int32) (a2 : Int32) (a3 : Int32) (a4 : Int32) (a5 : Int32) (h : HP) (rr : Int32 × HP) (e : cA_feed a1 a2 a3 a4 a5 h = some rr) : Cn cV yX1_feed (ws_ yX1_feed cX1_feed 6 (some .int)) 2 22 (fun z => [.ref (z + 0), .int a1, .int a2, .int a3, .int a4, .int a5]) h (fun z => eI z rr.1) rr.2 := by
  refine cn_of (e1 := eI) (fun z => [(0, .ref (z + 0)), (1, .int a1), (2, .int a2), (3, .int a3), (4, .int a4), (5, .int a5)]) cV_ok (cA_feed_m a1 a2 a3 a4 a5 h _ e) ymX1_feed (fun _ => rfl) (fun _ => Nat.le_of_ble_eq_true rfl) (fun X hX hr hnm => ?_) e
  have hX : okX cV X rr cX1_feed RX1 6 2 22 := hX
  rw [cA_feed]
  refine j_aload_n (pc := 0) hX 0 rfl dX1_feed_0 ?_
  refine c_getI (pc := 1) hX fgX1_141_X1.1 fgX1_141_X1.2 rfl dX1_feed_1 ?_
  refine j_bipush (pc := 4) hX bp_20 dX1_feed_4 ?_
  refine j_iadd (pc := 6) hX dX1_feed_6 ?_
  refine j_sipush (pc := 7) hX sp_700 dX1_feed_7 ?_
  refine j_cle (pc := 10) (tgt := 15) hX rfl dX1_feed_10 (fun _ => ?_) (fun _ => ?_)
  · refine j_aload_n (pc := 15) hX 0 rfl dX1_feed_15 ?_
    refine j_iload_n (pc := 16) hX 1 rfl dX1_feed_16 ?_
    refine j_callV (pc := 17) (e1 := eV) (a := 0) (As := fun z => [.int a1]) (rest := []) hX (fun r e => cA_put_t a1 h r e) ymX1_put (lw_V q518 q520 qs1 q140 q521) rfl ckX1 rfl ⟨Nat.le_of_ble_eq_true rfl, Nat.le_of_ble_eq_true rfl⟩ rfl rfl (Nat.le_of_ble_eq_true rfl) dX1_feed_17 (fun r1 h2 => ?_)
    refine j_aload_n (pc := 20) hX 0 rfl dX1_feed_20 ?_
    refine j_iload_n (pc := 21) hX 2 rfl dX1_feed_21 ?_
    refine j_callV (pc := 22) (e1 := eV) (a := 0) (As := fun z => [.int a2]) (rest := []) hX (fun r e => cA_put_t a2 h2 r e) ymX1_put (lw_V q518 q520 qs1 q140 q521) rfl ckX1 rfl ⟨Nat.le_of_ble_eq_true rfl, Nat.le_of_ble_eq_true rfl⟩ rfl rfl (Nat.le_of_ble_eq_true rfl) dX1_feed_22 (fun r3 h4 => ?_)
    refine j_aload_n (pc := 25) hX 0 rfl dX1_feed_25 ?_
    refine j_iload_n (pc := 26) hX 3 rfl dX1_feed_26 ?_
    refine j_callV (pc := 27) (e1 := eV) (a := 0) (As := fun z => [.int a3]) (rest := []) hX (fun r e => cA_put_t a3 h4 r e) ymX1_put (lw_V q518 q520 qs1 q140 q521) rfl ckX1 rfl ⟨Nat.le_of_ble_eq_true rfl, Nat.le_of_ble_eq_true rfl⟩ rfl rfl (Nat.le_of_ble_eq_true rfl) dX1_feed_27 (fun r5 h6 => ?_)
    refine j_aload_n (pc := 30) hX 0 rfl dX1_feed_30 ?_
    refine j_iload (pc := 31) hX 4 rfl dX1_feed_31 ?_
    refine j_callV (pc := 33) (e1 := eV) (a := 0) (As := fun z => [.int a4]) (rest := []) hX (fun r e => cA_put_t a4 h6 r e) ymX1_put (lw_V q518 q520 qs1 q140 q521) rfl ckX1 rfl ⟨Nat.le_of_ble_eq_true rfl, Nat.le_of_ble_eq_true rfl⟩ rfl rfl (Nat.le_of_ble_eq_true rfl) dX1_feed_33 (fun r7 h8 => ?_)
    refine j_aload_n (pc := 36) hX 0 rfl dX1_feed_36 ?_
    refine j_iload (pc := 37) hX 5 rfl dX1_feed_37 ?_
    refine j_callV (pc := 39) (e1 := eV) (a := 0) (As := fun z => [.int a5]) (rest := []) hX (fun r e => cA_put_t a5 h8 r e) ymX1_put (lw_V q518 q520 qs1 q140 q521) rfl ckX1 rfl ⟨Nat.le_of_ble_eq_true rfl, Nat.le_of_ble_eq_true rfl⟩ rfl rfl (Nat.le_of_ble_eq_true rfl) dX1_feed_39 (fun r9 h10 => ?_)
    refine j_aload_n (pc := 42) hX 0 rfl dX1_feed_42 ?_
    refine c_getI (pc := 43) hX fgX1_141_X1.1 fgX1_141_X1.2 rfl dX1_feed_43 ?_
    exact j_iret (pc := 46) hX hr dX1_feed_46
  · refine j_iconst (pc := 13) hX ic_m1 dX1_feed_13 ?_
    exact j_iret (pc := 14) hX hr dX1_feed_14
set_option maxHeartbeats 4000000 in
set_option maxRecDepth 100000 in
theorem cA_in_t   (a1 : Int64) (a2 : Int64) (a3 : Int64) (h : HP) (rr : Int32 × HP) (e : cA_in a1 a2 a3 h = some rr) : Cn cV yX1_in (ws_ yX1_in cX1_in 6 (some .boolean)) 1 0 (fun z => [.long a1, .long a2, .long a3]) h (fun z => eI z rr.1) rr.2 := by
  refine cn_of (e1 := eI) (fun z => [(0, .long a1), (2, .long a2), (4, .long a3)]) cV_ok (cA_in_m a1 a2 a3 h _ e) ymX1_in (fun _ => rfl) (fun _ => Nat.le_of_ble_eq_true rfl) (fun X hX hr hnm => ?_) e
  have hX : okX cV X rr cX1_in RX1 6 1 0 := hX
  rw [cA_in]
  refine j_lload_n (pc := 0) hX 0 rfl dX1_in_0 ?_
  refine j_lload_n (pc := 1) hX 1 rfl dX1_in_1 ?_
  refine j_lcmp (pc := 2) hX dX1_in_2 ?_
  refine j_iflt (pc := 3) (tgt := 17) hX rfl dX1_in_3 (fun _ => ?_) (fun _ => ?_)
  · refine j_iconst (pc := 17) hX ic_0 dX1_in_17 ?_
    exact j_zret (pc := 18) hX (Or.inl rfl) hr dX1_in_18
  · refine j_lload_n (pc := 6) hX 0 rfl dX1_in_6 ?_
    refine j_lload (pc := 7) hX 2 rfl dX1_in_7 ?_
    refine j_lcmp (pc := 9) hX dX1_in_9 ?_
    refine j_ifgt (pc := 10) (tgt := 17) hX rfl dX1_in_10 (fun _ => ?_) (fun _ => ?_)
    · refine j_iconst (pc := 17) hX ic_0 dX1_in_17 ?_
      exact j_zret (pc := 18) hX (Or.inl rfl) hr dX1_in_18
    · refine j_iconst (pc := 13) hX ic_1 dX1_in_13 ?_
      refine j_goto (pc := 14) (tgt := 18) hX rfl dX1_in_14 ?_
      exact j_zret (pc := 18) hX (Or.inr rfl) hr dX1_in_18
set_option maxHeartbeats 4000000 in
set_option maxRecDepth 100000 in
theorem cC_init_t   (o : Nat) (h : HP) (rr : Unit × HP) (e : cC_init o h = some rr) : Cn cV yX3_init (ws_ yX3_init cX3_init 1 (none)) 4 73 (fun z => [.ref (z + o)]) h (fun z => eV z rr.1) rr.2 := by
  refine cn_of (e1 := eV) (fun z => [(0, .ref (z + o))]) cV_ok (cC_init_m o h _ e) ymX3_init (fun _ => rfl) (fun _ => Nat.le_of_ble_eq_true rfl) (fun X hX hr hnm => ?_) e
  have hX : okX cV X rr cX3_init RX3 1 4 73 := hX
  rw [cC_init]
  refine j_aload_n (pc := 0) hX 0 rfl dX3_init_0 ?_
  refine j_objInit (pc := 1) hX q230 q188 q189 (Nat.le_of_ble_eq_true rfl) (Nat.le_of_ble_eq_true rfl) dX3_init_1 ?_
  refine j_aload_n (pc := 4) hX 0 rfl dX3_init_4 ?_
  refine j_grd fun g1 => ?_
  refine j_new (pc := 5) hX ckJ2 cfJ2 q231 q232 q145 (cV_vA g1) dX3_init_5 (fun b2 h3 => ?_)
  refine j_dup (pc := 8) hX rfl dX3_init_8 ?_
  refine j_bipush (pc := 9) hX bp_8 dX3_init_9 ?_
  refine j_callI (pc := 11) (e1 := eV) (a := b2) (As := fun z => [.int (8 : Int32)]) (rest := [.ref (xz X + b2), .ref (xz X + o)]) hX (fun r e => cL_init_t b2 (8 : Int32) h3 r e) ymJ2_init rfl q233 q234 q145 q235 ⟨Nat.le_of_ble_eq_true rfl, Nat.le_of_ble_eq_true rfl⟩ rfl rfl (Nat.le_of_ble_eq_true rfl) dX3_init_11 (fun r4 h5 => ?_)
  refine j_grd fun g6 => ?_
  refine j_grd fun g10 => ?_
  refine c_putFR (pc := 14) hX hnm ffX3_14_X3.1 ffX3_14_X3.2 g6 (cV_sR (cRs_big g10)) dX3_init_14 (fun h7 q8 => ?_)
  refine j_aload_n (pc := 17) hX 0 rfl dX3_init_17 ?_
  refine j_grd fun g11 => ?_
  refine j_new (pc := 18) hX ckJ2 cfJ2 q231 q232 q145 (cV_vA g11) dX3_init_18 (fun b12 h13 => ?_)
  refine j_dup (pc := 21) hX rfl dX3_init_21 ?_
  refine j_iconst (pc := 22) hX ic_5 dX3_init_22 ?_
  refine j_callI (pc := 23) (e1 := eV) (a := b12) (As := fun z => [.int (5 : Int32)]) (rest := [.ref (xz X + b12), .ref (xz X + o)]) hX (fun r e => cL_init_t b12 (5 : Int32) h13 r e) ymJ2_init rfl q233 q234 q145 q235 ⟨Nat.le_of_ble_eq_true rfl, Nat.le_of_ble_eq_true rfl⟩ rfl rfl (Nat.le_of_ble_eq_true rfl) dX3_init_23 (fun r14 h15 => ?_)
  refine j_grd fun g16 => ?_
  refine j_grd fun g20 => ?_
  refine c_putFR (pc := 26) hX hnm ffX3_20_X3.1 ffX3_20_X3.2 g16 (cV_sR (cRs_big g20)) dX3_init_26 (fun h17 q18 => ?_)
  refine j_aload_n (pc := 29) hX 0 rfl dX3_init_29 ?_
  refine j_grd fun g21 => ?_
  refine j_new (pc := 30) hX ckJ2 cfJ2 q231 q232 q145 (cV_vA g21) dX3_init_30 (fun b22 h23 => ?_)
  refine j_dup (pc := 33) hX rfl dX3_init_33 ?_
  refine j_bipush (pc := 34) hX bp_8 dX3_init_34 ?_
  refine j_callI (pc := 36) (e1 := eV) (a := b22) (As := fun z => [.int (8 : Int32)]) (rest := [.ref (xz X + b22), .ref (xz X + o)]) hX (fun r e => cL_init_t b22 (8 : Int32) h23 r e) ymJ2_init rfl q233 q234 q145 q235 ⟨Nat.le_of_ble_eq_true rfl, Nat.le_of_ble_eq_true rfl⟩ rfl rfl (Nat.le_of_ble_eq_true rfl) dX3_init_36 (fun r24 h25 => ?_)
  refine j_grd fun g26 => ?_
  refine j_grd fun g30 => ?_
  refine c_putFR (pc := 39) hX hnm ffX3_23_X3.1 ffX3_23_X3.2 g26 (cV_sR (cRs_big g30)) dX3_init_39 (fun h27 q28 => ?_)
  refine j_aload_n (pc := 42) hX 0 rfl dX3_init_42 ?_
  refine j_bipush (pc := 43) hX bp_10 dX3_init_43 ?_
  refine j_grd fun g31 => ?_
  refine j_newa (pc := 45) (k := 100) (n := 10) (q := 0) (atype := .int) hX rfl (Nat.le_of_ble_eq_true rfl) (fun _ => rfl) (fun _ h => by cases h) q320 (by decide) (by decide) (Nat.le_of_ble_eq_true rfl) (cV_vA g31) (fun _ => rfl) dX3_init_45 (fun b32 h33 => ?_)
  refine j_grd fun g34 => ?_
  refine j_grd fun g38 => ?_
  refine c_putFR (pc := 47) hX hnm ffX3_26_X3.1 ffX3_26_X3.2 g34 (cV_sR (cRs_big g38)) dX3_init_47 (fun h35 q36 => ?_)
  refine j_aload_n (pc := 50) hX 0 rfl dX3_init_50 ?_
  refine j_bipush (pc := 51) hX bp_10 dX3_init_51 ?_
  refine j_grd fun g39 => ?_
  refine j_newa (pc := 53) (k := 100) (n := 10) (q := 0) (atype := .int) hX rfl (Nat.le_of_ble_eq_true rfl) (fun _ => rfl) (fun _ h => by cases h) q320 (by decide) (by decide) (Nat.le_of_ble_eq_true rfl) (cV_vA g39) (fun _ => rfl) dX3_init_53 (fun b40 h41 => ?_)
  refine j_grd fun g42 => ?_
  refine j_grd fun g46 => ?_
  refine c_putFR (pc := 55) hX hnm ffX3_30_X3.1 ffX3_30_X3.2 g42 (cV_sR (cRs_big g46)) dX3_init_55 (fun h43 q44 => ?_)
  refine j_aload_n (pc := 58) hX 0 rfl dX3_init_58 ?_
  refine j_bipush (pc := 59) hX bp_10 dX3_init_59 ?_
  refine j_grd fun g47 => ?_
  refine j_newa (pc := 61) (k := 100) (n := 10) (q := 0) (atype := .int) hX rfl (Nat.le_of_ble_eq_true rfl) (fun _ => rfl) (fun _ h => by cases h) q320 (by decide) (by decide) (Nat.le_of_ble_eq_true rfl) (cV_vA g47) (fun _ => rfl) dX3_init_61 (fun b48 h49 => ?_)
  refine j_grd fun g50 => ?_
  refine j_grd fun g54 => ?_
  refine c_putFR (pc := 63) hX hnm ffX3_33_X3.1 ffX3_33_X3.2 g50 (cV_sR (cRs_big g54)) dX3_init_63 (fun h51 q52 => ?_)
  refine j_aload_n (pc := 66) hX 0 rfl dX3_init_66 ?_
  refine j_iconst (pc := 67) hX ic_2 dX3_init_67 ?_
  refine j_grd fun g55 => ?_
  refine j_newr (pc := 68) (k := 105) (n := 2) (q := 5) hX (Nat.le_of_ble_eq_true rfl) (fun _ => rfl) q259 (List.mem_of_getElem? (i := 1) rfl) (by decide) (by decide) (Nat.le_of_ble_eq_true rfl) (cV_vA g55) dX3_init_68 (fun b56 h57 => ?_)
  refine j_grd fun g58 => ?_
  refine j_grd fun g62 => ?_
  refine c_putFR (pc := 71) hX hnm ffX3_38_X3.1 ffX3_38_X3.2 g58 (cV_sR (cRs_big g62)) dX3_init_71 (fun h59 q60 => ?_)
  refine j_aload_n (pc := 74) hX 0 rfl dX3_init_74 ?_
  refine j_bipush (pc := 75) hX bp_9 dX3_init_75 ?_
  refine c_putI (pc := 77) hX fwX3_42_X3.1 fwX3_42_X3.2 (kT_t q60 g58) dX3_init_77 (fun h63 q64 q65 => ?_)
  exact j_vret (pc := 80) hX hr dX3_init_80
set_option maxHeartbeats 4000000 in
set_option maxRecDepth 100000 in
theorem cR_here_t    (h : HP) (rr : Int32 × HP) (e : cR_here  h = some rr) : Cn cV yX2_here (ws_ yX2_here cX2_here 1 (some .int)) 1 0 (fun z => [.ref (z + 2)]) h (fun z => eI z rr.1) rr.2 := by
  refine cn_of (e1 := eI) (fun z => [(0, .ref (z + 2))]) cV_ok (cR_here_m  h _ e) ymX2_here (fun _ => rfl) (fun _ => Nat.le_of_ble_eq_true rfl) (fun X hX hr hnm => ?_) e
  have hX : okX cV X rr cX2_here RX2 1 1 0 := hX
  rw [cR_here]
  refine j_aload_n (pc := 0) hX 0 rfl dX2_here_0 ?_
  refine c_getI (pc := 1) hX fgX2_15_X2.1 fgX2_15_X2.2 rfl dX2_here_1 ?_
  refine j_aload_n (pc := 4) hX 0 rfl dX2_here_4 ?_
  refine c_getI (pc := 5) hX fgX2_19_X2.1 fgX2_19_X2.2 rfl dX2_here_5 ?_
  refine j_cge (pc := 8) (tgt := 30) hX rfl dX2_here_8 (fun _ => ?_) (fun _ => ?_)
  · refine j_iconst (pc := 30) hX ic_m1 dX2_here_30 ?_
    exact j_iret (pc := 31) hX hr dX2_here_31
  · refine j_aload_n (pc := 11) hX 0 rfl dX2_here_11 ?_
    refine c_getR (pc := 12) hX fgX2_3_X2.1 fgX2_3_X2.2 rfl rfl dX2_here_12 ?_
    refine c_getR (pc := 15) hX fgX2_22_X1.1 fgX2_22_X1.2 rfl rfl dX2_here_15 ?_
    refine j_aload_n (pc := 18) hX 0 rfl dX2_here_18 ?_
    refine c_getI (pc := 19) hX fgX2_15_X2.1 fgX2_15_X2.2 rfl dX2_here_19 ?_
    refine j_bald (pc := 22) (n := 700) hX rfl dX2_here_22 (fun _ => ?_)
    refine j_sipush (pc := 23) hX sp_255 dX2_here_23 ?_
    refine j_iand (pc := 26) hX dX2_here_26 ?_
    refine j_goto (pc := 27) (tgt := 31) hX rfl dX2_here_27 ?_
    exact j_iret (pc := 31) hX hr dX2_here_31
set_option maxHeartbeats 4000000 in
set_option maxRecDepth 100000 in
theorem cR_sign_t    (h : HP) (rr : Unit × HP) (e : cR_sign  h = some rr) : Cn cV yX2_sign (ws_ yX2_sign cX2_sign 2 (none)) 5 91 (fun z => [.ref (z + 2)]) h (fun z => eV z rr.1) rr.2 := by
  refine cn_of (e1 := eV) (fun z => [(0, .ref (z + 2))]) cV_ok (cR_sign_m  h _ e) ymX2_sign (fun _ => rfl) (fun _ => Nat.le_of_ble_eq_true rfl) (fun X hX hr hnm => ?_) e
  have hX : okX cV X rr cX2_sign RX2 2 5 91 := hX
  rw [cR_sign]
  refine j_aload_n (pc := 0) hX 0 rfl dX2_sign_0 ?_
  refine j_callV (pc := 1) (e1 := eI) (a := 2) (As := fun z => []) (rest := []) hX (fun r e => cR_here_t h r e) ymX2_here (lw_V q540 q542 qs3 q141 q543) rfl ckX2 rfl ⟨Nat.le_of_ble_eq_true rfl, Nat.le_of_ble_eq_true rfl⟩ rfl rfl (Nat.le_of_ble_eq_true rfl) dX2_sign_1 (fun r1 h2 => ?_)
  refine j_istore_n (pc := 4) hX (fun x3 => [(1, .int x3), (0, .ref (xz X + 2))]) (fun _ => rfl) (Nat.le_of_ble_eq_true rfl) dX2_sign_4 (fun x3 => ?_)
  refine j_aload_n (pc := 5) hX 1 rfl dX2_sign_5 ?_
  refine j_dup (pc := 6) hX rfl dX2_sign_6 ?_
  refine c_getI (pc := 7) hX fgX2_15_X2.1 fgX2_15_X2.2 rfl dX2_sign_7 ?_
  refine j_iconst (pc := 10) hX ic_1 dX2_sign_10 ?_
  refine j_iadd (pc := 11) hX dX2_sign_11 ?_
  refine c_putI (pc := 12) hX fwX2_15_X2.1 fwX2_15_X2.2 rfl dX2_sign_12 (fun h4 q5 q6 => ?_)
  refine j_aload_n (pc := 15) hX 1 rfl dX2_sign_15 ?_
  refine j_ldcS (pc := 16) hX dX2_sign_16 ?_
  refine j_iload_n (pc := 18) hX 0 rfl dX2_sign_18 ?_
  refine d_callV (pc := 19) (e1 := eI) (AsD := fun D z => [.int x3]) (rest := [.ref (xz X + 2)]) hX (by decide) (fun r e => kJ5_indexOf_t 25 x3 h4 r e) ymJ5_indexOf (lw_V q611 q612 q613 q155 q614) rfl ⟨Nat.le_of_ble_eq_true rfl, Nat.le_of_ble_eq_true rfl⟩ rfl rfl (Nat.le_of_ble_eq_true rfl) dX2_sign_19 (fun r7 h8 => ?_)
  refine j_jon (fun (j9 : Int32 → Option (Unit × HP)) => ∀ (s10 : Int32), jG cV X evV rr (j9 s10) 30 [(0, .ref (xz X + 2)), (1, .int x3)] [.int s10, .ref (xz X + 2)] h8) ?_ ?_
  · intro s10
    refine c_putI (pc := 30) hX fwX2_33_X2.1 fwX2_33_X2.2 rfl dX2_sign_30 (fun h11 q12 q13 => ?_)
    refine j_aload_n (pc := 33) hX 0 rfl dX2_sign_33 ?_
    refine j_iload_n (pc := 34) hX 1 rfl dX2_sign_34 ?_
    refine c_putI (pc := 35) hX fwX2_47_X2.1 fwX2_47_X2.2 rfl dX2_sign_35 (fun h14 q15 q16 => ?_)
    refine j_iload_n (pc := 38) hX 1 rfl dX2_sign_38 ?_
    refine j_bipush (pc := 39) hX bp_60 dX2_sign_39 ?_
    refine j_jon (fun (j17 : HP → Option (Unit × HP)) => ∀ (h18 : HP), jG cV X evV rr (j17 h18) 110 [(0, .ref (xz X + 2))] [] h18) ?_ ?_
    · intro h18
      refine j_aload_n (pc := 110) hX 0 rfl dX2_sign_110 ?_
      refine c_getI (pc := 111) hX fgX2_47_X2.1 fgX2_47_X2.2 rfl dX2_sign_111 ?_
      refine j_sipush (pc := 114) hX sp_256 dX2_sign_114 ?_
      refine j_clt (pc := 117) (tgt := 130) hX rfl dX2_sign_117 (fun _ => ?_) (fun _ => ?_)
      · exact j_vret (pc := 130) hX hr dX2_sign_130
      · refine j_aload_n (pc := 120) hX 0 rfl dX2_sign_120 ?_
        refine j_dup (pc := 121) hX rfl dX2_sign_121 ?_
        refine c_getI (pc := 122) hX fgX2_15_X2.1 fgX2_15_X2.2 rfl dX2_sign_122 ?_
        refine j_iconst (pc := 125) hX ic_1 dX2_sign_125 ?_
        refine j_iadd (pc := 126) hX dX2_sign_126 ?_
        refine c_putI (pc := 127) hX fwX2_15_X2.1 fwX2_15_X2.2 rfl dX2_sign_127 (fun h19 q20 q21 => ?_)
        exact j_vret (pc := 130) hX hr dX2_sign_130
    · intro j17 hj17
      refine j_jon (fun (j22 : HP → Option (Unit × HP)) => ∀ (h23 : HP), jG cV X evV rr (j22 h23) 63 [(0, .ref (xz X + 2)), (1, .int x3)] [] h23) ?_ ?_
      · intro h23
        refine j_iload_n (pc := 63) hX 1 rfl dX2_sign_63 ?_
        refine j_bipush (pc := 64) hX bp_60 dX2_sign_64 ?_
        refine j_jon (fun (j24 : HP → Option (Unit × HP)) => ∀ (h25 : HP), jG cV X evV rr (j24 h25) 88 [(0, .ref (xz X + 2)), (1, .int x3)] [] h25) ?_ ?_
        · intro h25
          refine j_iload_n (pc := 88) hX 1 rfl dX2_sign_88 ?_
          refine j_bipush (pc := 89) hX bp_62 dX2_sign_89 ?_
          refine j_cne (pc := 91) (tgt := 110) hX rfl dX2_sign_91 (fun _ => ?_) (fun _ => ?_)
          · refine j_aload_n (pc := 94) hX 0 rfl dX2_sign_94 ?_
            refine j_callV (pc := 95) (e1 := eI) (a := 2) (As := fun z => []) (rest := []) hX (fun r e => cR_here_t h25 r e) ymX2_here (lw_V q540 q542 qs3 q141 q543) rfl ckX2 rfl ⟨Nat.le_of_ble_eq_true rfl, Nat.le_of_ble_eq_true rfl⟩ rfl rfl (Nat.le_of_ble_eq_true rfl) dX2_sign_95 (fun r26 h27 => ?_)
            refine j_bipush (pc := 98) hX bp_61 dX2_sign_98 ?_
            refine j_cne (pc := 100) (tgt := 110) hX rfl dX2_sign_100 (fun _ => ?_) (fun _ => ?_)
            · refine j_aload_n (pc := 103) hX 0 rfl dX2_sign_103 ?_
              refine j_sipush (pc := 104) hX sp_257 dX2_sign_104 ?_
              refine c_putI (pc := 107) hX fwX2_47_X2.1 fwX2_47_X2.2 rfl dX2_sign_107 (fun h28 q29 q30 => ?_)
              refine j_locs [0] rfl ?_
              exact hj17 h28
            · refine j_locs [0] rfl ?_
              exact hj17 h27
          · refine j_locs [0] rfl ?_
            exact hj17 h25
        · intro j24 hj24
          refine j_cne (pc := 66) (tgt := 88) hX rfl dX2_sign_66 (fun _ => ?_) (fun _ => ?_)
          · refine j_aload_n (pc := 69) hX 0 rfl dX2_sign_69 ?_
            refine j_callV (pc := 70) (e1 := eI) (a := 2) (As := fun z => []) (rest := []) hX (fun r e => cR_here_t h23 r e) ymX2_here (lw_V q540 q542 qs3 q141 q543) rfl ckX2 rfl ⟨Nat.le_of_ble_eq_true rfl, Nat.le_of_ble_eq_true rfl⟩ rfl rfl (Nat.le_of_ble_eq_true rfl) dX2_sign_70 (fun r31 h32 => ?_)
            refine j_bipush (pc := 73) hX bp_62 dX2_sign_73 ?_
            refine j_cne (pc := 75) (tgt := 88) hX rfl dX2_sign_75 (fun _ => ?_) (fun _ => ?_)
            · refine j_aload_n (pc := 78) hX 0 rfl dX2_sign_78 ?_
              refine j_sipush (pc := 79) hX sp_258 dX2_sign_79 ?_
              refine c_putI (pc := 82) hX fwX2_47_X2.1 fwX2_47_X2.2 rfl dX2_sign_82 (fun h33 q34 q35 => ?_)
              refine j_goto (pc := 85) (tgt := 110) hX rfl dX2_sign_85 ?_
              refine j_locs [0] rfl ?_
              exact hj17 h33
            · exact hj24 h32
          · exact hj24 h23
      · intro j22 hj22
        refine j_cne (pc := 41) (tgt := 63) hX rfl dX2_sign_41 (fun _ => ?_) (fun _ => ?_)
        · refine j_aload_n (pc := 44) hX 0 rfl dX2_sign_44 ?_
          refine j_callV (pc := 45) (e1 := eI) (a := 2) (As := fun z => []) (rest := []) hX (fun r e => cR_here_t h14 r e) ymX2_here (lw_V q540 q542 qs3 q141 q543) rfl ckX2 rfl ⟨Nat.le_of_ble_eq_true rfl, Nat.le_of_ble_eq_true rfl⟩ rfl rfl (Nat.le_of_ble_eq_true rfl) dX2_sign_45 (fun r36 h37 => ?_)
          refine j_bipush (pc := 48) hX bp_61 dX2_sign_48 ?_
          refine j_cne (pc := 50) (tgt := 63) hX rfl dX2_sign_50 (fun _ => ?_) (fun _ => ?_)
          · refine j_aload_n (pc := 53) hX 0 rfl dX2_sign_53 ?_
            refine j_sipush (pc := 54) hX sp_256 dX2_sign_54 ?_
            refine c_putI (pc := 57) hX fwX2_47_X2.1 fwX2_47_X2.2 rfl dX2_sign_57 (fun h38 q39 q40 => ?_)
            refine j_goto (pc := 60) (tgt := 110) hX rfl dX2_sign_60 ?_
            refine j_locs [0] rfl ?_
            exact hj17 h38
          · exact hj22 h37
        · exact hj22 h14
  · intro j9 hj9
    refine j_iflt (pc := 22) (tgt := 29) hX rfl dX2_sign_22 (fun _ => ?_) (fun _ => ?_)
    · refine j_iconst (pc := 29) hX ic_5 dX2_sign_29 ?_
      refine j_locs [1, 0] rfl ?_
      exact hj9 (5 : Int32)
    · refine j_iconst (pc := 25) hX ic_3 dX2_sign_25 ?_
      refine j_goto (pc := 26) (tgt := 30) hX rfl dX2_sign_26 ?_
      refine j_locs [1, 0] rfl ?_
      exact hj9 (3 : Int32)
set_option maxHeartbeats 4000000 in
set_option maxRecDepth 100000 in
theorem cR_word_35_w {X : CTX} {rr : Int32 × HP}  (hX : okX cV X rr cX2_word RX2 3 5 85) (hr : (xh X).sig.returnType = some .int) (f1 : Int32) (k : Int32 → HP → Option (Int32 × HP)) (hk : ∀ (v2 : Int32) (h : HP), jG cV X evI rr (k v2 h) 80 [(0, .ref (xz X + 2)), (1, .int f1), (2, .int v2)] [] h) : ∀ (n : Nat) (v2 : Int32) (h : HP), jG cV X evI rr (cR_word_35 f1 k n v2 h) 35 [(0, .ref (xz X + 2)), (1, .int f1), (2, .int v2)] [] h := by
  intro n
  induction n with
  | zero =>
    intro v2 h
    exact j_none
  | succ n ih =>
    intro v2 h
    rw [cR_word_35]
    refine j_aload_n (pc := 35) hX 0 rfl dX2_word_35 ?_
    refine c_getI (pc := 36) hX fgX2_30_X2.1 fgX2_30_X2.2 rfl dX2_word_36 ?_
    refine j_iload_n (pc := 39) hX 2 rfl dX2_word_39 ?_
    refine j_iadd (pc := 40) hX dX2_word_40 ?_
    refine j_aload_n (pc := 41) hX 0 rfl dX2_word_41 ?_
    refine c_getI (pc := 42) hX fgX2_15_X2.1 fgX2_15_X2.2 rfl dX2_word_42 ?_
    refine j_cge (pc := 45) (tgt := 80) hX rfl dX2_word_45 (fun _ => ?_) (fun _ => ?_)
    · exact hk v2 h
    · refine j_sNames (pc := 48) hX (List.mem_of_getElem? (i := 29) rfl) dX2_word_48 ?_
      refine j_iload_n (pc := 51) hX 1 rfl dX2_word_51 ?_
      refine j_sNld (pc := 52) hX dX2_word_52 (fun g6 => ?_)
      refine j_iload_n (pc := 53) hX 2 rfl dX2_word_53 ?_
      refine d_callV (pc := 54) (e1 := eI) (AsD := fun D z => [.int v2]) (rest := []) hX (inb26 g6) (fun r e => kJ5_charAt_t (f1).toNatClampNeg v2 h r e) ymJ5_charAt (lw_V q563 q564 q565 q155 q566) rfl ⟨Nat.le_of_ble_eq_true rfl, Nat.le_of_ble_eq_true rfl⟩ rfl rfl (Nat.le_of_ble_eq_true rfl) dX2_word_54 (fun r7 h8 => ?_)
      refine j_aload_n (pc := 57) hX 0 rfl dX2_word_57 ?_
      refine c_getR (pc := 58) hX fgX2_3_X2.1 fgX2_3_X2.2 rfl rfl dX2_word_58 ?_
      refine c_getR (pc := 61) hX fgX2_22_X1.1 fgX2_22_X1.2 rfl rfl dX2_word_61 ?_
      refine j_aload_n (pc := 64) hX 0 rfl dX2_word_64 ?_
      refine c_getI (pc := 65) hX fgX2_30_X2.1 fgX2_30_X2.2 rfl dX2_word_65 ?_
      refine j_iload_n (pc := 68) hX 2 rfl dX2_word_68 ?_
      refine j_iadd (pc := 69) hX dX2_word_69 ?_
      refine j_bald (pc := 70) (n := 700) hX rfl dX2_word_70 (fun _ => ?_)
      refine j_cne (pc := 71) (tgt := 80) hX rfl dX2_word_71 (fun _ => ?_) (fun _ => ?_)
      · refine j_iinc (pc := 74) hX 2 rfl (1 : Int32) ic_1 (fun x9 => [(2, .int x9), (0, .ref (xz X + 2)), (1, .int f1)]) (fun _ => rfl) (Nat.le_of_ble_eq_true rfl) dX2_word_74 (fun x9 => ?_)
        refine j_goto (pc := 77) (tgt := 35) hX rfl dX2_word_77 ?_
        refine j_locs [1, 2, 0] rfl ?_
        exact ih x9 h8
      · exact hk v2 h8
set_option maxHeartbeats 4000000 in
set_option maxRecDepth 100000 in
theorem cR_word_2_w {X : CTX} {rr : Int32 × HP}  (hX : okX cV X rr cX2_word RX2 3 5 85) (hr : (xh X).sig.returnType = some .int)  (k : HP → Option (Int32 × HP)) (hk : ∀  (h : HP), jG cV X evI rr (k  h) 101 [] [] h) : ∀ (n : Nat) (v1 : Int32) (h : HP), jG cV X evI rr (cR_word_2 k n v1 h) 2 [(0, .ref (xz X + 2)), (1, .int v1)] [] h := by
  intro n
  induction n with
  | zero =>
    intro v1 h
    exact j_none
  | succ n ih =>
    intro v1 h
    rw [cR_word_2]
    refine j_iload_n (pc := 2) hX 1 rfl dX2_word_2 ?_
    refine j_sNames (pc := 3) hX (List.mem_of_getElem? (i := 29) rfl) dX2_word_3 ?_
    refine j_sNlen (pc := 6) hX dX2_word_6 ?_
    refine j_cge (pc := 7) (tgt := 101) hX rfl dX2_word_7 (fun _ => ?_) (fun _ => ?_)
    · refine j_locs [] rfl ?_
      exact hk h
    · refine j_sNames (pc := 10) hX (List.mem_of_getElem? (i := 29) rfl) dX2_word_10 ?_
      refine j_iload_n (pc := 13) hX 1 rfl dX2_word_13 ?_
      refine j_sNld (pc := 14) hX dX2_word_14 (fun g2 => ?_)
      refine d_callV (pc := 15) (e1 := eI) (AsD := fun D z => []) (rest := []) hX (inb26 g2) (fun r e => kJ5_length_t (v1).toNatClampNeg h r e) ymJ5_length (lw_V q553 q554 q555 q155 q556) rfl ⟨Nat.le_of_ble_eq_true rfl, Nat.le_of_ble_eq_true rfl⟩ rfl rfl (Nat.le_of_ble_eq_true rfl) dX2_word_15 (fun r3 h4 => ?_)
      refine j_aload_n (pc := 18) hX 0 rfl dX2_word_18 ?_
      refine c_getI (pc := 19) hX fgX2_15_X2.1 fgX2_15_X2.2 rfl dX2_word_19 ?_
      refine j_aload_n (pc := 22) hX 0 rfl dX2_word_22 ?_
      refine c_getI (pc := 23) hX fgX2_30_X2.1 fgX2_30_X2.2 rfl dX2_word_23 ?_
      refine j_isub (pc := 26) hX dX2_word_26 ?_
      refine j_ceq (pc := 27) (tgt := 33) hX rfl dX2_word_27 (fun _ => ?_) (fun _ => ?_)
      · refine j_iconst (pc := 33) hX ic_0 dX2_word_33 ?_
        refine j_istore_n (pc := 34) hX (fun x5 => [(2, .int x5), (0, .ref (xz X + 2)), (1, .int v1)]) (fun _ => rfl) (Nat.le_of_ble_eq_true rfl) dX2_word_34 (fun x5 => ?_)
        refine j_locs [1, 2, 0] rfl ?_
        refine cR_word_35_w hX hr v1 _ (fun x10 h11 => ?_) FU x5 h4
        refine j_aload_n (pc := 80) hX 0 rfl dX2_word_80 ?_
        refine c_getI (pc := 81) hX fgX2_30_X2.1 fgX2_30_X2.2 rfl dX2_word_81 ?_
        refine j_iload_n (pc := 84) hX 2 rfl dX2_word_84 ?_
        refine j_iadd (pc := 85) hX dX2_word_85 ?_
        refine j_aload_n (pc := 86) hX 0 rfl dX2_word_86 ?_
        refine c_getI (pc := 87) hX fgX2_15_X2.1 fgX2_15_X2.2 rfl dX2_word_87 ?_
        refine j_cne (pc := 90) (tgt := 95) hX rfl dX2_word_90 (fun _ => ?_) (fun _ => ?_)
        · refine j_iload_n (pc := 93) hX 1 rfl dX2_word_93 ?_
          exact j_iret (pc := 94) hX hr dX2_word_94
        · refine j_iinc (pc := 95) hX 1 rfl (1 : Int32) ic_1 (fun x12 => [(1, .int x12), (0, .ref (xz X + 2)), (2, .int x10)]) (fun _ => rfl) (Nat.le_of_ble_eq_true rfl) dX2_word_95 (fun x12 => ?_)
          refine j_goto (pc := 98) (tgt := 2) hX rfl dX2_word_98 ?_
          refine j_locs [1, 0] rfl ?_
          exact ih x12 h11
      · refine j_goto (pc := 30) (tgt := 95) hX rfl dX2_word_30 ?_
        refine j_iinc (pc := 95) hX 1 rfl (1 : Int32) ic_1 (fun x13 => [(1, .int x13), (0, .ref (xz X + 2))]) (fun _ => rfl) (Nat.le_of_ble_eq_true rfl) dX2_word_95 (fun x13 => ?_)
        refine j_goto (pc := 98) (tgt := 2) hX rfl dX2_word_98 ?_
        refine j_locs [1, 0] rfl ?_
        exact ih x13 h4
set_option maxHeartbeats 4000000 in
set_option maxRecDepth 100000 in
theorem cR_word_t    (h : HP) (rr : Int32 × HP) (e : cR_word  h = some rr) : Cn cV yX2_word (ws_ yX2_word cX2_word 3 (some .int)) 5 85 (fun z => [.ref (z + 2)]) h (fun z => eI z rr.1) rr.2 := by
  refine cn_of (e1 := eI) (fun z => [(0, .ref (z + 2))]) cV_ok (cR_word_m  h _ e) ymX2_word (fun _ => rfl) (fun _ => Nat.le_of_ble_eq_true rfl) (fun X hX hr hnm => ?_) e
  have hX : okX cV X rr cX2_word RX2 3 5 85 := hX
  rw [cR_word]
  refine j_iconst (pc := 0) hX ic_0 dX2_word_0 ?_
  refine j_istore_n (pc := 1) hX (fun x1 => [(1, .int x1), (0, .ref (xz X + 2))]) (fun _ => rfl) (Nat.le_of_ble_eq_true rfl) dX2_word_1 (fun x1 => ?_)
  refine j_locs [1, 0] rfl ?_
  refine cR_word_2_w hX hr  _ (fun  h14 => ?_) FU x1 h
  refine j_iconst (pc := 101) hX ic_m1 dX2_word_101 ?_
  exact j_iret (pc := 102) hX hr dX2_word_102
set_option maxHeartbeats 4000000 in
set_option maxRecDepth 100000 in
theorem cR_name_7_w {X : CTX} {rr : Unit × HP}  (hX : okX cV X rr cX2_name RX2 2 1 0) (hr : (xh X).sig.returnType = none)  (k : HP → Option (Unit × HP)) (hk : ∀  (h : HP), jG cV X evV rr (k  h) 66 [] [] h) : ∀ (n : Nat) (v1 : Int32) (h : HP), jG cV X evV rr (cR_name_7 k n v1 h) 7 [(0, .ref (xz X + 2)), (1, .int v1)] [] h := by
  intro n
  induction n with
  | zero =>
    intro v1 h
    exact j_none
  | succ n ih =>
    intro v1 h
    rw [cR_name_7]
    refine j_iload_n (pc := 7) hX 1 rfl dX2_name_7 ?_
    refine j_bipush (pc := 8) hX bp_6 dX2_name_8 ?_
    refine j_cge (pc := 10) (tgt := 66) hX rfl dX2_name_10 (fun _ => ?_) (fun _ => ?_)
    · refine j_locs [] rfl ?_
      exact hk h
    · refine j_aload_n (pc := 13) hX 0 rfl dX2_name_13 ?_
      refine j_aload_n (pc := 14) hX 0 rfl dX2_name_14 ?_
      refine c_getI (pc := 15) hX fgX2_47_X2.1 fgX2_47_X2.2 rfl dX2_name_15 ?_
      refine j_iconst (pc := 18) hX ic_5 dX2_name_18 ?_
      refine j_ishl (pc := 19) hX dX2_name_19 ?_
      refine j_aload_n (pc := 20) hX 0 rfl dX2_name_20 ?_
      refine c_getI (pc := 21) hX fgX2_30_X2.1 fgX2_30_X2.2 rfl dX2_name_21 ?_
      refine j_iload_n (pc := 24) hX 1 rfl dX2_name_24 ?_
      refine j_iadd (pc := 25) hX dX2_name_25 ?_
      refine j_aload_n (pc := 26) hX 0 rfl dX2_name_26 ?_
      refine c_getI (pc := 27) hX fgX2_15_X2.1 fgX2_15_X2.2 rfl dX2_name_27 ?_
      refine j_jon (fun (j5 : Int32 → Option (Unit × HP)) => ∀ (s6 : Int32), jG cV X evV rr (j5 s6) 56 [(0, .ref (xz X + 2)), (1, .int v1)] [.int s6, .int ((gI h 2 4) <<< ((5 : Int32) &&& 31)), .ref (xz X + 2)] h) ?_ ?_
      · intro s6
        refine j_ior (pc := 56) hX dX2_name_56 ?_
        refine c_putI (pc := 57) hX fwX2_47_X2.1 fwX2_47_X2.2 rfl dX2_name_57 (fun h7 q8 q9 => ?_)
        refine j_iinc (pc := 60) hX 1 rfl (1 : Int32) ic_1 (fun x10 => [(1, .int x10), (0, .ref (xz X + 2))]) (fun _ => rfl) (Nat.le_of_ble_eq_true rfl) dX2_name_60 (fun x10 => ?_)
        refine j_goto (pc := 63) (tgt := 7) hX rfl dX2_name_63 ?_
        refine j_locs [1, 0] rfl ?_
        exact ih x10 h7
      · intro j5 hj5
        refine j_cge (pc := 30) (tgt := 55) hX rfl dX2_name_30 (fun _ => ?_) (fun _ => ?_)
        · refine j_iconst (pc := 55) hX ic_0 dX2_name_55 ?_
          exact hj5 (0 : Int32)
        · refine j_aload_n (pc := 33) hX 0 rfl dX2_name_33 ?_
          refine c_getR (pc := 34) hX fgX2_3_X2.1 fgX2_3_X2.2 rfl rfl dX2_name_34 ?_
          refine c_getR (pc := 37) hX fgX2_22_X1.1 fgX2_22_X1.2 rfl rfl dX2_name_37 ?_
          refine j_aload_n (pc := 40) hX 0 rfl dX2_name_40 ?_
          refine c_getI (pc := 41) hX fgX2_30_X2.1 fgX2_30_X2.2 rfl dX2_name_41 ?_
          refine j_iload_n (pc := 44) hX 1 rfl dX2_name_44 ?_
          refine j_iadd (pc := 45) hX dX2_name_45 ?_
          refine j_bald (pc := 46) (n := 700) hX rfl dX2_name_46 (fun _ => ?_)
          refine j_bipush (pc := 47) hX bp_97 dX2_name_47 ?_
          refine j_isub (pc := 49) hX dX2_name_49 ?_
          refine j_iconst (pc := 50) hX ic_1 dX2_name_50 ?_
          refine j_iadd (pc := 51) hX dX2_name_51 ?_
          refine j_goto (pc := 52) (tgt := 56) hX rfl dX2_name_52 ?_
          exact hj5 (((gI h 1 (((gI h 2 2) + v1)).toNatClampNeg) - (97 : Int32)) + (1 : Int32))
set_option maxHeartbeats 4000000 in
set_option maxRecDepth 100000 in
theorem cR_name_t    (h : HP) (rr : Unit × HP) (e : cR_name  h = some rr) : Cn cV yX2_name (ws_ yX2_name cX2_name 2 (none)) 1 0 (fun z => [.ref (z + 2)]) h (fun z => eV z rr.1) rr.2 := by
  refine cn_of (e1 := eV) (fun z => [(0, .ref (z + 2))]) cV_ok (cR_name_m  h _ e) ymX2_name (fun _ => rfl) (fun _ => Nat.le_of_ble_eq_true rfl) (fun X hX hr hnm => ?_) e
  have hX : okX cV X rr cX2_name RX2 2 1 0 := hX
  rw [cR_name]
  refine j_aload_n (pc := 0) hX 0 rfl dX2_name_0 ?_
  refine j_iconst (pc := 1) hX ic_0 dX2_name_1 ?_
  refine c_putI (pc := 2) hX fwX2_47_X2.1 fwX2_47_X2.2 rfl dX2_name_2 (fun h1 q2 q3 => ?_)
  refine j_iconst (pc := 5) hX ic_0 dX2_name_5 ?_
  refine j_istore_n (pc := 6) hX (fun x4 => [(1, .int x4), (0, .ref (xz X + 2))]) (fun _ => rfl) (Nat.le_of_ble_eq_true rfl) dX2_name_6 (fun x4 => ?_)
  refine j_locs [1, 0] rfl ?_
  refine cR_name_7_w hX hr  _ (fun  h11 => ?_) FU x4 h1
  exact j_vret (pc := 66) hX hr dX2_name_66
set_option maxHeartbeats 4000000 in
set_option maxRecDepth 100000 in
theorem cR_next_0_w {X : CTX} {rr : Unit × HP}  (hX : okX cV X rr cX2_next RX2 1 6 112) (hr : (xh X).sig.returnType = none)  (k : HP → Option (Unit × HP)) (hk : ∀  (h : HP), jG cV X evV rr (k  h) 31 [(0, .ref (xz X + 2))] [] h) : ∀ (n : Nat)  (h : HP), jG cV X evV rr (cR_next_0 k n  h) 0 [(0, .ref (xz X + 2))] [] h := by
  intro n
  induction n with
  | zero =>
    intro  h
    exact j_none
  | succ n ih =>
    intro  h
    rw [cR_next_0]
    refine j_aload_n (pc := 0) hX 0 rfl dX2_next_0 ?_
    refine j_callV (pc := 1) (e1 := eI) (a := 2) (As := fun z => []) (rest := []) hX (fun r e => cR_here_t h r e) ymX2_here (lw_V q540 q542 qs3 q141 q543) rfl ckX2 rfl ⟨Nat.le_of_ble_eq_true rfl, Nat.le_of_ble_eq_true rfl⟩ rfl rfl (Nat.le_of_ble_eq_true rfl) dX2_next_1 (fun r1 h2 => ?_)
    refine j_bipush (pc := 4) hX bp_10 dX2_next_4 ?_
    refine j_jon (fun (j3 : HP → Option (Unit × HP)) => ∀ (h4 : HP), jG cV X evV rr (j3 h4) 18 [(0, .ref (xz X + 2))] [] h4) ?_ ?_
    · intro h4
      refine j_aload_n (pc := 18) hX 0 rfl dX2_next_18 ?_
      refine j_dup (pc := 19) hX rfl dX2_next_19 ?_
      refine c_getI (pc := 20) hX fgX2_15_X2.1 fgX2_15_X2.2 rfl dX2_next_20 ?_
      refine j_iconst (pc := 23) hX ic_1 dX2_next_23 ?_
      refine j_iadd (pc := 24) hX dX2_next_24 ?_
      refine c_putI (pc := 25) hX fwX2_15_X2.1 fwX2_15_X2.2 rfl dX2_next_25 (fun h5 q6 q7 => ?_)
      refine j_goto (pc := 28) (tgt := 0) hX rfl dX2_next_28 ?_
      exact ih h5
    · intro j3 hj3
      refine j_ceq (pc := 6) (tgt := 18) hX rfl dX2_next_6 (fun _ => ?_) (fun _ => ?_)
      · exact hj3 h2
      · refine j_aload_n (pc := 9) hX 0 rfl dX2_next_9 ?_
        refine j_callV (pc := 10) (e1 := eI) (a := 2) (As := fun z => []) (rest := []) hX (fun r e => cR_here_t h2 r e) ymX2_here (lw_V q540 q542 qs3 q141 q543) rfl ckX2 rfl ⟨Nat.le_of_ble_eq_true rfl, Nat.le_of_ble_eq_true rfl⟩ rfl rfl (Nat.le_of_ble_eq_true rfl) dX2_next_10 (fun r8 h9 => ?_)
        refine j_bipush (pc := 13) hX bp_32 dX2_next_13 ?_
        refine j_cne (pc := 15) (tgt := 31) hX rfl dX2_next_15 (fun _ => ?_) (fun _ => ?_)
        · exact hj3 h9
        · exact hk h9
set_option maxHeartbeats 4000000 in
set_option maxRecDepth 100000 in
theorem cR_next_190_w {X : CTX} {rr : Unit × HP}  (hX : okX cV X rr cX2_next RX2 1 6 112) (hr : (xh X).sig.returnType = none)  (k : HP → Option (Unit × HP)) (hk : ∀  (h : HP), jG cV X evV rr (k  h) 259 [] [] h) : ∀ (n : Nat)  (h : HP), jG cV X evV rr (cR_next_190 k n  h) 190 [(0, .ref (xz X + 2))] [] h := by
  intro n
  induction n with
  | zero =>
    intro  h
    exact j_none
  | succ n ih =>
    intro  h
    rw [cR_next_190]
    refine j_aload_n (pc := 190) hX 0 rfl dX2_next_190 ?_
    refine j_callV (pc := 191) (e1 := eI) (a := 2) (As := fun z => []) (rest := []) hX (fun r e => cR_here_t h r e) ymX2_here (lw_V q540 q542 qs3 q141 q543) rfl ckX2 rfl ⟨Nat.le_of_ble_eq_true rfl, Nat.le_of_ble_eq_true rfl⟩ rfl rfl (Nat.le_of_ble_eq_true rfl) dX2_next_191 (fun r33 h34 => ?_)
    refine j_i2l (pc := 194) hX dX2_next_194 ?_
    refine j_ldc2 (pc := 195) hX q603 dX2_next_195 ?_
    refine j_ldc2 (pc := 198) hX q604 dX2_next_198 ?_
    refine j_callSN (pc := 201) (e1 := eI) (As := fun z => [.long (r33).toInt64, .long (48 : Int64), .long (57 : Int64)]) (rest := []) hX (fun r e => cA_in_t (r33).toInt64 (48 : Int64) (57 : Int64) h34 r e) ymX1_in (List.mem_of_getElem? (i := 15) rfl) q528 q140 q529 ⟨Nat.le_of_ble_eq_true rfl, Nat.le_of_ble_eq_true rfl⟩ rfl rfl (Nat.le_of_ble_eq_true rfl) dX2_next_201 (fun r35 h36 => ?_)
    refine j_ifeq (pc := 204) (tgt := 259) hX rfl dX2_next_204 (fun _ => ?_) (fun _ => ?_)
    · refine j_locs [] rfl ?_
      exact hk h36
    · refine j_aload_n (pc := 207) hX 0 rfl dX2_next_207 ?_
      refine j_aload_n (pc := 208) hX 0 rfl dX2_next_208 ?_
      refine c_getI (pc := 209) hX fgX2_47_X2.1 fgX2_47_X2.2 rfl dX2_next_209 ?_
      refine j_ldc (pc := 212) hX q605 dX2_next_212 ?_
      refine j_jon (fun (j37 : Int32 → HP → Option (Unit × HP)) => ∀ (s38 : Int32) (h39 : HP), jG cV X evV rr (j37 s38 h39) 239 [(0, .ref (xz X + 2))] [.int s38, .ref (xz X + 2)] h39) ?_ ?_
      · intro s38 h39
        refine c_putI (pc := 239) hX fwX2_47_X2.1 fwX2_47_X2.2 rfl dX2_next_239 (fun h40 q41 q42 => ?_)
        refine j_aload_n (pc := 242) hX 0 rfl dX2_next_242 ?_
        refine j_dup (pc := 243) hX rfl dX2_next_243 ?_
        refine c_getI (pc := 244) hX fgX2_15_X2.1 fgX2_15_X2.2 rfl dX2_next_244 ?_
        refine j_iconst (pc := 247) hX ic_1 dX2_next_247 ?_
        refine j_iadd (pc := 248) hX dX2_next_248 ?_
        refine c_putI (pc := 249) hX fwX2_15_X2.1 fwX2_15_X2.2 rfl dX2_next_249 (fun h43 q44 q45 => ?_)
        refine j_goto (pc := 252) (tgt := 190) hX rfl dX2_next_252 ?_
        exact ih h43
      · intro j37 hj37
        refine j_cle (pc := 214) (tgt := 224) hX rfl dX2_next_214 (fun _ => ?_) (fun _ => ?_)
        · refine j_bipush (pc := 224) hX bp_10 dX2_next_224 ?_
          refine j_aload_n (pc := 226) hX 0 rfl dX2_next_226 ?_
          refine c_getI (pc := 227) hX fgX2_47_X2.1 fgX2_47_X2.2 rfl dX2_next_227 ?_
          refine j_imul (pc := 230) hX dX2_next_230 ?_
          refine j_aload_n (pc := 231) hX 0 rfl dX2_next_231 ?_
          refine j_callV (pc := 232) (e1 := eI) (a := 2) (As := fun z => []) (rest := [.int ((10 : Int32) * (gI h36 2 4)), .ref (xz X + 2)]) hX (fun r e => cR_here_t h36 r e) ymX2_here (lw_V q540 q542 qs3 q141 q543) rfl ckX2 rfl ⟨Nat.le_of_ble_eq_true rfl, Nat.le_of_ble_eq_true rfl⟩ rfl rfl (Nat.le_of_ble_eq_true rfl) dX2_next_232 (fun r46 h47 => ?_)
          refine j_iadd (pc := 235) hX dX2_next_235 ?_
          refine j_bipush (pc := 236) hX bp_48 dX2_next_236 ?_
          refine j_isub (pc := 238) hX dX2_next_238 ?_
          exact hj37 ((((10 : Int32) * (gI h36 2 4)) + r46) - (48 : Int32)) h47
        · refine j_aload_n (pc := 217) hX 0 rfl dX2_next_217 ?_
          refine c_getI (pc := 218) hX fgX2_47_X2.1 fgX2_47_X2.2 rfl dX2_next_218 ?_
          refine j_goto (pc := 221) (tgt := 239) hX rfl dX2_next_221 ?_
          exact hj37 (gI h36 2 4) h36
