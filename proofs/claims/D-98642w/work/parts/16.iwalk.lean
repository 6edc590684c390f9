/-! the constructors: walks -/
set_option maxRecDepth 100000
set_option maxHeartbeats 4000000 in
set_option maxRecDepth 100000 in
theorem icR_init_t   (o : Nat) (a1 : Nat) (h : HP) (rr : Unit × HP) (e : icR_init o a1 h = some rr) : Cn iV yX2_init (ws_ yX2_init cX2_init 2 (none)) 1 12 (fun z => [.ref (z + o), .ref (z + a1)]) h (fun z => eV z rr.1) rr.2 := by
  refine cn_of (e1 := eV) (fun z => [(0, .ref (z + o)), (1, .ref (z + a1))]) iV_ok (icR_init_m o a1 h _ e) ymX2_init (fun _ => rfl) (fun _ => Nat.le_of_ble_eq_true rfl) (fun X hX hr hnm => ?_) e
  have hX : okX iV X rr cX2_init RX2 2 1 12 := hX
  rw [icR_init]
  refine j_aload_n (pc := 0) hX 0 rfl dX2_init_0 ?_
  refine j_aload_n (pc := 1) hX 1 rfl dX2_init_1 ?_
  refine j_grd fun g1 => ?_
  refine c_putFR (pc := 2) hX hnm ijX2_3_X2.1 ijX2_3_X2.2 g1 (iV_sR trivial) dX2_init_2 (fun h2 qz3 => ?_)
  refine j_aload_n (pc := 5) hX 0 rfl dX2_init_5 ?_
  refine j_objInit (pc := 6) hX q195 q188 q189 (Nat.le_of_ble_eq_true rfl) (Nat.le_of_ble_eq_true rfl) dX2_init_6 ?_
  exact j_vret (pc := 9) hX hr dX2_init_9
set_option maxHeartbeats 4000000 in
set_option maxRecDepth 100000 in
theorem ikJ0_init_t   (o : Nat) (h : HP) (rr : Unit × HP) (e : ikJ0_init o h = some rr) : Cn iV yJ0_init (ws_ yJ0_init cJ0_init 1 (none)) 1 12 (fun z => [.ref (z + o)]) h (fun z => eV z rr.1) rr.2 := by
  refine cn_of (e1 := eV) (fun z => [(0, .ref (z + o))]) iV_ok (ikJ0_init_m o h _ e) ymJ0_init (fun _ => rfl) (fun _ => Nat.le_of_ble_eq_true rfl) (fun X hX hr hnm => ?_) e
  have hX : okX iV X rr cJ0_init RJ0 1 1 12 := hX
  rw [ikJ0_init]
  refine j_aload_n (pc := 0) hX 0 rfl dJ0_init_0 ?_
  refine j_objInit (pc := 1) hX q242 q188 q189 (Nat.le_of_ble_eq_true rfl) (Nat.le_of_ble_eq_true rfl) dJ0_init_1 ?_
  exact j_vret (pc := 4) hX hr dJ0_init_4
set_option maxHeartbeats 4000000 in
set_option maxRecDepth 100000 in
theorem ikJ1_init_t   (o : Nat) (h : HP) (rr : Unit × HP) (e : ikJ1_init o h = some rr) : Cn iV yJ1_init (ws_ yJ1_init cJ1_init 1 (none)) 2 32 (fun z => [.ref (z + o)]) h (fun z => eV z rr.1) rr.2 := by
  refine cn_of (e1 := eV) (fun z => [(0, .ref (z + o))]) iV_ok (ikJ1_init_m o h _ e) ymJ1_init (fun _ => rfl) (fun _ => Nat.le_of_ble_eq_true rfl) (fun X hX hr hnm => ?_) e
  have hX : okX iV X rr cJ1_init RJ1 1 2 32 := hX
  rw [ikJ1_init]
  refine j_aload_n (pc := 0) hX 0 rfl dJ1_init_0 ?_
  refine j_callI (pc := 1) (e1 := eV) (a := o) (As := fun z => []) (rest := []) hX (fun r e => ikJ0_init_t o h r e) ymJ0_init rfl q239 q240 q143 q241 ⟨Nat.le_of_ble_eq_true rfl, Nat.le_of_ble_eq_true rfl⟩ rfl rfl (Nat.le_of_ble_eq_true rfl) dJ1_init_1 (fun r1 h2 => ?_)
  refine j_aload_n (pc := 4) hX 0 rfl dJ1_init_4 ?_
  refine j_iconst (pc := 5) hX ic_0 dJ1_init_5 ?_
  refine j_grd fun g3 => ?_
  refine c_putI (pc := 6) hX iwJ1_7_J2.1 iwJ1_7_J2.2 g3 dJ1_init_6 (fun h4 qz5 qz6 => ?_)
  exact j_vret (pc := 9) hX hr dJ1_init_9
set_option maxHeartbeats 4000000 in
set_option maxRecDepth 100000 in
theorem icL_init_t   (o : Nat) (a1 : Int32) (h : HP) (rr : Unit × HP) (e : icL_init o a1 h = some rr) : Cn iV yJ2_init (ws_ yJ2_init cJ2_init 2 (none)) 3 52 (fun z => [.ref (z + o), .int a1]) h (fun z => eV z rr.1) rr.2 := by
  refine cn_of (e1 := eV) (fun z => [(0, .ref (z + o)), (1, .int a1)]) iV_ok (icL_init_m o a1 h _ e) ymJ2_init (fun _ => rfl) (fun _ => Nat.le_of_ble_eq_true rfl) (fun X hX hr hnm => ?_) e
  have hX : okX iV X rr cJ2_init RJ2 2 3 52 := hX
  rw [icL_init]
  refine j_aload_n (pc := 0) hX 0 rfl dJ2_init_0 ?_
  refine j_callI (pc := 1) (e1 := eV) (a := o) (As := fun z => []) (rest := []) hX (fun r e => ikJ1_init_t o h r e) ymJ1_init rfl q236 q237 q144 q238 ⟨Nat.le_of_ble_eq_true rfl, Nat.le_of_ble_eq_true rfl⟩ rfl rfl (Nat.le_of_ble_eq_true rfl) dJ2_init_1 (fun r1 h2 => ?_)
  refine j_iload_n (pc := 4) hX 1 rfl dJ2_init_4 ?_
  refine j_ifle (pc := 5) (tgt := 19) hX rfl dJ2_init_5 (fun _ => ?_) (fun _ => ?_)
  · refine j_iload_n (pc := 19) hX 1 rfl dJ2_init_19 ?_
    refine j_ifne (pc := 20) (tgt := 33) hX rfl dJ2_init_20 (fun _ => ?_) (fun _ => ?_)
    · refine j_aload_n (pc := 23) hX 0 rfl dJ2_init_23 ?_
      exact j_none
    · exact j_none
  · refine j_aload_n (pc := 8) hX 0 rfl dJ2_init_8 ?_
    refine j_iload_n (pc := 9) hX 1 rfl dJ2_init_9 ?_
    refine j_grd fun g6 => ?_
    refine j_grd fun g7 => ?_
    refine j_grd fun g3 => ?_
    refine j_newr (pc := 10) (k := 104) (n := (a1).toNatClampNeg) (q := 4) hX (Nat.le_of_ble_eq_true rfl) (fun _ => rfl) q243 (List.mem_of_getElem? (i := 3) rfl) g6 rfl g7 (iV_vA g3) dJ2_init_10 (fun b4 h5 => ?_)
    refine j_grd fun g8 => ?_
    refine c_putR (pc := 13) hX iwJ2_9_J2.1 iwJ2_9_J2.2 g8 (iV_sR trivial) dJ2_init_13 (fun h9 qz10 => ?_)
    refine j_goto (pc := 16) (tgt := 60) hX rfl dJ2_init_16 ?_
    exact j_vret (pc := 60) hX hr dJ2_init_60
set_option maxHeartbeats 4000000 in
set_option maxRecDepth 100000 in
theorem icC_init_t   (o : Nat) (h : HP) (rr : Unit × HP) (e : icC_init o h = some rr) : Cn iV yX3_init (ws_ yX3_init cX3_init 1 (none)) 4 73 (fun z => [.ref (z + o)]) h (fun z => eV z rr.1) rr.2 := by
  refine cn_of (e1 := eV) (fun z => [(0, .ref (z + o))]) iV_ok (icC_init_m o h _ e) ymX3_init (fun _ => rfl) (fun _ => Nat.le_of_ble_eq_true rfl) (fun X hX hr hnm => ?_) e
  have hX : okX iV X rr cX3_init RX3 1 4 73 := hX
  rw [icC_init]
  refine j_aload_n (pc := 0) hX 0 rfl dX3_init_0 ?_
  refine j_objInit (pc := 1) hX q230 q188 q189 (Nat.le_of_ble_eq_true rfl) (Nat.le_of_ble_eq_true rfl) dX3_init_1 ?_
  refine j_aload_n (pc := 4) hX 0 rfl dX3_init_4 ?_
  refine j_grd fun g1 => ?_
  refine j_new (pc := 5) hX ckJ2 cfJ2 q231 q232 q145 (iV_vA g1) dX3_init_5 (fun b2 h3 => ?_)
  refine j_dup (pc := 8) hX rfl dX3_init_8 ?_
  refine j_bipush (pc := 9) hX bp_8 dX3_init_9 ?_
  refine j_callI (pc := 11) (e1 := eV) (a := b2) (As := fun z => [.int (8 : Int32)]) (rest := [.ref (xz X + b2), .ref (xz X + o)]) hX (fun r e => icL_init_t b2 (8 : Int32) h3 r e) ymJ2_init rfl q233 q234 q145 q235 ⟨Nat.le_of_ble_eq_true rfl, Nat.le_of_ble_eq_true rfl⟩ rfl rfl (Nat.le_of_ble_eq_true rfl) dX3_init_11 (fun r4 h5 => ?_)
  refine j_grd fun g6 => ?_
  refine c_putFR (pc := 14) hX hnm ijX3_14_X3.1 ijX3_14_X3.2 g6 (iV_sR trivial) dX3_init_14 (fun h7 qz8 => ?_)
  refine j_aload_n (pc := 17) hX 0 rfl dX3_init_17 ?_
  refine j_grd fun g10 => ?_
  refine j_new (pc := 18) hX ckJ2 cfJ2 q231 q232 q145 (iV_vA g10) dX3_init_18 (fun b11 h12 => ?_)
  refine j_dup (pc := 21) hX rfl dX3_init_21 ?_
  refine j_iconst (pc := 22) hX ic_5 dX3_init_22 ?_
  refine j_callI (pc := 23) (e1 := eV) (a := b11) (As := fun z => [.int (5 : Int32)]) (rest := [.ref (xz X + b11), .ref (xz X + o)]) hX (fun r e => icL_init_t b11 (5 : Int32) h12 r e) ymJ2_init rfl q233 q234 q145 q235 ⟨Nat.le_of_ble_eq_true rfl, Nat.le_of_ble_eq_true rfl⟩ rfl rfl (Nat.le_of_ble_eq_true rfl) dX3_init_23 (fun r13 h14 => ?_)
  refine j_grd fun g15 => ?_
  refine c_putFR (pc := 26) hX hnm ijX3_20_X3.1 ijX3_20_X3.2 g15 (iV_sR trivial) dX3_init_26 (fun h16 qz17 => ?_)
  refine j_aload_n (pc := 29) hX 0 rfl dX3_init_29 ?_
  refine j_grd fun g19 => ?_
  refine j_new (pc := 30) hX ckJ2 cfJ2 q231 q232 q145 (iV_vA g19) dX3_init_30 (fun b20 h21 => ?_)
  refine j_dup (pc := 33) hX rfl dX3_init_33 ?_
  refine j_bipush (pc := 34) hX bp_8 dX3_init_34 ?_
  refine j_callI (pc := 36) (e1 := eV) (a := b20) (As := fun z => [.int (8 : Int32)]) (rest := [.ref (xz X + b20), .ref (xz X + o)]) hX (fun r e => icL_init_t b20 (8 : Int32) h21 r e) ymJ2_init rfl q233 q234 q145 q235 ⟨Nat.le_of_ble_eq_true rfl, Nat.le_of_ble_eq_true rfl⟩ rfl rfl (Nat.le_of_ble_eq_true rfl) dX3_init_36 (fun r22 h23 => ?_)
  refine j_grd fun g24 => ?_
  refine c_putFR (pc := 39) hX hnm ijX3_23_X3.1 ijX3_23_X3.2 g24 (iV_sR trivial) dX3_init_39 (fun h25 qz26 => ?_)
  refine j_aload_n (pc := 42) hX 0 rfl dX3_init_42 ?_
  refine j_bipush (pc := 43) hX bp_10 dX3_init_43 ?_
  refine j_grd fun g28 => ?_
  refine j_newa (pc := 45) (k := 100) (n := 10) (q := 0) (atype := .int) hX rfl (Nat.le_of_ble_eq_true rfl) (fun _ => rfl) (fun _ h => by cases h) q320 (by decide) (by decide) (Nat.le_of_ble_eq_true rfl) (iV_vA g28) (fun _ => rfl) dX3_init_45 (fun b29 h30 => ?_)
  refine j_grd fun g31 => ?_
  refine c_putFR (pc := 47) hX hnm ijX3_26_X3.1 ijX3_26_X3.2 g31 (iV_sR trivial) dX3_init_47 (fun h32 qz33 => ?_)
  refine j_aload_n (pc := 50) hX 0 rfl dX3_init_50 ?_
  refine j_bipush (pc := 51) hX bp_10 dX3_init_51 ?_
  refine j_grd fun g35 => ?_
  refine j_newa (pc := 53) (k := 100) (n := 10) (q := 0) (atype := .int) hX rfl (Nat.le_of_ble_eq_true rfl) (fun _ => rfl) (fun _ h => by cases h) q320 (by decide) (by decide) (Nat.le_of_ble_eq_true rfl) (iV_vA g35) (fun _ => rfl) dX3_init_53 (fun b36 h37 => ?_)
  refine j_grd fun g38 => ?_
  refine c_putFR (pc := 55) hX hnm ijX3_30_X3.1 ijX3_30_X3.2 g38 (iV_sR trivial) dX3_init_55 (fun h39 qz40 => ?_)
  refine j_aload_n (pc := 58) hX 0 rfl dX3_init_58 ?_
  refine j_bipush (pc := 59) hX bp_10 dX3_init_59 ?_
  refine j_grd fun g42 => ?_
  refine j_newa (pc := 61) (k := 100) (n := 10) (q := 0) (atype := .int) hX rfl (Nat.le_of_ble_eq_true rfl) (fun _ => rfl) (fun _ h => by cases h) q320 (by decide) (by decide) (Nat.le_of_ble_eq_true rfl) (iV_vA g42) (fun _ => rfl) dX3_init_61 (fun b43 h44 => ?_)
  refine j_grd fun g45 => ?_
  refine c_putFR (pc := 63) hX hnm ijX3_33_X3.1 ijX3_33_X3.2 g45 (iV_sR trivial) dX3_init_63 (fun h46 qz47 => ?_)
  refine j_aload_n (pc := 66) hX 0 rfl dX3_init_66 ?_
  refine j_iconst (pc := 67) hX ic_2 dX3_init_67 ?_
  refine j_grd fun g49 => ?_
  refine j_newr (pc := 68) (k := 105) (n := 2) (q := 5) hX (Nat.le_of_ble_eq_true rfl) (fun _ => rfl) q259 (List.mem_of_getElem? (i := 1) rfl) (by decide) (by decide) (Nat.le_of_ble_eq_true rfl) (iV_vA g49) dX3_init_68 (fun b50 h51 => ?_)
  refine j_grd fun g52 => ?_
  refine c_putFR (pc := 71) hX hnm ijX3_38_X3.1 ijX3_38_X3.2 g52 (iV_sR trivial) dX3_init_71 (fun h53 qz54 => ?_)
  refine j_aload_n (pc := 74) hX 0 rfl dX3_init_74 ?_
  refine j_bipush (pc := 75) hX bp_9 dX3_init_75 ?_
  refine j_grd fun g56 => ?_
  refine c_putI (pc := 77) hX iwX3_42_X3.1 iwX3_42_X3.2 g56 dX3_init_77 (fun h57 qz58 qz59 => ?_)
  exact j_vret (pc := 80) hX hr dX3_init_80
set_option maxHeartbeats 4000000 in
set_option maxRecDepth 100000 in
theorem ikX4_init_t   (o : Nat) (h : HP) (rr : Unit × HP) (e : ikX4_init o h = some rr) : Cn iV yX4_init (ws_ yX4_init cX4_init 1 (none)) 1 12 (fun z => [.ref (z + o)]) h (fun z => eV z rr.1) rr.2 := by
  refine cn_of (e1 := eV) (fun z => [(0, .ref (z + o))]) iV_ok (ikX4_init_m o h _ e) ymX4_init (fun _ => rfl) (fun _ => Nat.le_of_ble_eq_true rfl) (fun X hX hr hnm => ?_) e
  have hX : okX iV X rr cX4_init RX4 1 1 12 := hX
  rw [ikX4_init]
  refine j_aload_n (pc := 0) hX 0 rfl dX4_init_0 ?_
  refine j_objInit (pc := 1) hX q331 q188 q189 (Nat.le_of_ble_eq_true rfl) (Nat.le_of_ble_eq_true rfl) dX4_init_1 ?_
  exact j_vret (pc := 4) hX hr dX4_init_4
set_option maxHeartbeats 4000000 in
set_option maxRecDepth 100000 in
theorem ikX5_init_t   (o : Nat) (h : HP) (rr : Unit × HP) (e : ikX5_init o h = some rr) : Cn iV yX5_init (ws_ yX5_init cX5_init 1 (none)) 2 32 (fun z => [.ref (z + o)]) h (fun z => eV z rr.1) rr.2 := by
  refine cn_of (e1 := eV) (fun z => [(0, .ref (z + o))]) iV_ok (ikX5_init_m o h _ e) ymX5_init (fun _ => rfl) (fun _ => Nat.le_of_ble_eq_true rfl) (fun X hX hr hnm => ?_) e
  have hX : okX iV X rr cX5_init RX5 1 2 32 := hX
  rw [ikX5_init]
  refine j_aload_n (pc := 0) hX 0 rfl dX5_init_0 ?_
  refine j_callIN (pc := 1) (e1 := eV) (a := o) (As := fun z => []) (rest := []) hX (fun r e => ikX4_init_t o h r e) ymX4_init rfl (List.mem_of_getElem? (i := 13) rfl) q329 q146 q330 ⟨Nat.le_of_ble_eq_true rfl, Nat.le_of_ble_eq_true rfl⟩ rfl rfl (Nat.le_of_ble_eq_true rfl) dX5_init_1 (fun r1 h2 => ?_)
  exact j_vret (pc := 4) hX hr dX5_init_4
set_option maxHeartbeats 4000000 in
set_option maxRecDepth 100000 in
theorem ikX6_init_t   (o : Nat) (h : HP) (rr : Unit × HP) (e : ikX6_init o h = some rr) : Cn iV yX6_init (ws_ yX6_init cX6_init 1 (none)) 3 52 (fun z => [.ref (z + o)]) h (fun z => eV z rr.1) rr.2 := by
  refine cn_of (e1 := eV) (fun z => [(0, .ref (z + o))]) iV_ok (ikX6_init_m o h _ e) ymX6_init (fun _ => rfl) (fun _ => Nat.le_of_ble_eq_true rfl) (fun X hX hr hnm => ?_) e
  have hX : okX iV X rr cX6_init RX6 1 3 52 := hX
  rw [ikX6_init]
  refine j_aload_n (pc := 0) hX 0 rfl dX6_init_0 ?_
  refine j_callIN (pc := 1) (e1 := eV) (a := o) (As := fun z => []) (rest := []) hX (fun r e => ikX5_init_t o h r e) ymX5_init rfl (List.mem_of_getElem? (i := 21) rfl) q326 q147 q327 ⟨Nat.le_of_ble_eq_true rfl, Nat.le_of_ble_eq_true rfl⟩ rfl rfl (Nat.le_of_ble_eq_true rfl) dX6_init_1 (fun r1 h2 => ?_)
  exact j_vret (pc := 4) hX hr dX6_init_4
set_option maxHeartbeats 4000000 in
set_option maxRecDepth 100000 in
theorem ikX7_init_t   (o : Nat) (h : HP) (rr : Unit × HP) (e : ikX7_init o h = some rr) : Cn iV yX7_init (ws_ yX7_init cX7_init 1 (none)) 3 52 (fun z => [.ref (z + o)]) h (fun z => eV z rr.1) rr.2 := by
  refine cn_of (e1 := eV) (fun z => [(0, .ref (z + o))]) iV_ok (ikX7_init_m o h _ e) ymX7_init (fun _ => rfl) (fun _ => Nat.le_of_ble_eq_true rfl) (fun X hX hr hnm => ?_) e
  have hX : okX iV X rr cX7_init RX7 1 3 52 := hX
  rw [ikX7_init]
  refine j_aload_n (pc := 0) hX 0 rfl dX7_init_0 ?_
  refine j_callIN (pc := 1) (e1 := eV) (a := o) (As := fun z => []) (rest := []) hX (fun r e => ikX5_init_t o h r e) ymX5_init rfl (List.mem_of_getElem? (i := 7) rfl) q326 q147 q327 ⟨Nat.le_of_ble_eq_true rfl, Nat.le_of_ble_eq_true rfl⟩ rfl rfl (Nat.le_of_ble_eq_true rfl) dX7_init_1 (fun r1 h2 => ?_)
  exact j_vret (pc := 4) hX hr dX7_init_4
set_option maxHeartbeats 4000000 in
set_option maxRecDepth 100000 in
theorem ikX8_init_t   (o : Nat) (h : HP) (rr : Unit × HP) (e : ikX8_init o h = some rr) : Cn iV yX8_init (ws_ yX8_init cX8_init 1 (none)) 3 52 (fun z => [.ref (z + o)]) h (fun z => eV z rr.1) rr.2 := by
  refine cn_of (e1 := eV) (fun z => [(0, .ref (z + o))]) iV_ok (ikX8_init_m o h _ e) ymX8_init (fun _ => rfl) (fun _ => Nat.le_of_ble_eq_true rfl) (fun X hX hr hnm => ?_) e
  have hX : okX iV X rr cX8_init RX8 1 3 52 := hX
  rw [ikX8_init]
  refine j_aload_n (pc := 0) hX 0 rfl dX8_init_0 ?_
  refine j_callIN (pc := 1) (e1 := eV) (a := o) (As := fun z => []) (rest := []) hX (fun r e => ikX5_init_t o h r e) ymX5_init rfl (List.mem_of_getElem? (i := 8) rfl) q326 q147 q327 ⟨Nat.le_of_ble_eq_true rfl, Nat.le_of_ble_eq_true rfl⟩ rfl rfl (Nat.le_of_ble_eq_true rfl) dX8_init_1 (fun r1 h2 => ?_)
  exact j_vret (pc := 4) hX hr dX8_init_4
set_option maxHeartbeats 4000000 in
set_option maxRecDepth 100000 in
theorem icS_init_t   (o : Nat) (a1 : Nat) (h : HP) (rr : Unit × HP) (e : icS_init o a1 h = some rr) : Cn iV yX9_init (ws_ yX9_init cX9_init 2 (none)) 1 12 (fun z => [.ref (z + o), .ref (z + a1)]) h (fun z => eV z rr.1) rr.2 := by
  refine cn_of (e1 := eV) (fun z => [(0, .ref (z + o)), (1, .ref (z + a1))]) iV_ok (icS_init_m o a1 h _ e) ymX9_init (fun _ => rfl) (fun _ => Nat.le_of_ble_eq_true rfl) (fun X hX hr hnm => ?_) e
  have hX : okX iV X rr cX9_init RX9 2 1 12 := hX
  rw [icS_init]
  refine j_aload_n (pc := 0) hX 0 rfl dX9_init_0 ?_
  refine j_aload_n (pc := 1) hX 1 rfl dX9_init_1 ?_
  refine j_grd fun g1 => ?_
  refine c_putFR (pc := 2) hX hnm ijX9_3_X9.1 ijX9_3_X9.2 g1 (iV_sR trivial) dX9_init_2 (fun h2 qz3 => ?_)
  refine j_aload_n (pc := 5) hX 0 rfl dX9_init_5 ?_
  refine j_objInit (pc := 6) hX q360 q188 q189 (Nat.le_of_ble_eq_true rfl) (Nat.le_of_ble_eq_true rfl) dX9_init_6 ?_
  refine j_aload_n (pc := 9) hX 0 rfl dX9_init_9 ?_
  refine j_iconst (pc := 10) hX ic_5 dX9_init_10 ?_
  refine j_grd fun g5 => ?_
  refine j_newa (pc := 11) (k := 100) (n := 5) (q := 0) (atype := .int) hX rfl (Nat.le_of_ble_eq_true rfl) (fun _ => rfl) (fun _ h => by cases h) q320 (by decide) (by decide) (Nat.le_of_ble_eq_true rfl) (iV_vA g5) (fun _ => rfl) dX9_init_11 (fun b6 h7 => ?_)
  refine j_grd fun g8 => ?_
  refine c_putFR (pc := 13) hX hnm ijX9_15_X9.1 ijX9_15_X9.2 g8 (iV_sR trivial) dX9_init_13 (fun h9 qz10 => ?_)
  refine j_aload_n (pc := 16) hX 0 rfl dX9_init_16 ?_
  refine j_iconst (pc := 17) hX ic_5 dX9_init_17 ?_
  refine j_grd fun g12 => ?_
  refine j_newa (pc := 18) (k := 100) (n := 5) (q := 0) (atype := .int) hX rfl (Nat.le_of_ble_eq_true rfl) (fun _ => rfl) (fun _ h => by cases h) q320 (by decide) (by decide) (Nat.le_of_ble_eq_true rfl) (iV_vA g12) (fun _ => rfl) dX9_init_18 (fun b13 h14 => ?_)
  refine j_grd fun g15 => ?_
  refine c_putFR (pc := 20) hX hnm ijX9_19_X9.1 ijX9_19_X9.2 g15 (iV_sR trivial) dX9_init_20 (fun h16 qz17 => ?_)
  refine j_aload_n (pc := 23) hX 0 rfl dX9_init_23 ?_
  refine j_iconst (pc := 24) hX ic_5 dX9_init_24 ?_
  refine j_grd fun g19 => ?_
  refine j_newa (pc := 25) (k := 100) (n := 5) (q := 0) (atype := .int) hX rfl (Nat.le_of_ble_eq_true rfl) (fun _ => rfl) (fun _ h => by cases h) q320 (by decide) (by decide) (Nat.le_of_ble_eq_true rfl) (iV_vA g19) (fun _ => rfl) dX9_init_25 (fun b20 h21 => ?_)
  refine j_grd fun g22 => ?_
  refine c_putFR (pc := 27) hX hnm ijX9_22_X9.1 ijX9_22_X9.2 g22 (iV_sR trivial) dX9_init_27 (fun h23 qz24 => ?_)
  refine j_aload_n (pc := 30) hX 0 rfl dX9_init_30 ?_
  refine j_iconst (pc := 31) hX ic_5 dX9_init_31 ?_
  refine j_grd fun g26 => ?_
  refine j_newa (pc := 32) (k := 100) (n := 5) (q := 0) (atype := .int) hX rfl (Nat.le_of_ble_eq_true rfl) (fun _ => rfl) (fun _ h => by cases h) q320 (by decide) (by decide) (Nat.le_of_ble_eq_true rfl) (iV_vA g26) (fun _ => rfl) dX9_init_32 (fun b27 h28 => ?_)
  refine j_grd fun g29 => ?_
  refine c_putFR (pc := 34) hX hnm ijX9_25_X9.1 ijX9_25_X9.2 g29 (iV_sR trivial) dX9_init_34 (fun h30 qz31 => ?_)
  exact j_vret (pc := 37) hX hr dX9_init_37
set_option maxHeartbeats 4000000 in
set_option maxRecDepth 100000 in
theorem icL_size_t   (o : Nat) (h : HP) (rr : Int32 × HP) (e : icL_size o h = some rr) : Cn iV yJ2_size (ws_ yJ2_size cJ2_size 1 (some .int)) 1 0 (fun z => [.ref (z + o)]) h (fun z => eI z rr.1) rr.2 := by
  refine cn_of (e1 := eI) (fun z => [(0, .ref (z + o))]) iV_ok (icL_size_m o h _ e) ymJ2_size (fun _ => rfl) (fun _ => Nat.le_of_ble_eq_true rfl) (fun X hX hr hnm => ?_) e
  have hX : okX iV X rr cJ2_size RJ2 1 1 0 := hX
  rw [icL_size]
  refine j_aload_n (pc := 0) hX 0 rfl dJ2_size_0 ?_
  refine j_grd fun g1 => ?_
  refine c_getI (pc := 1) hX igJ2_48_J2.1 igJ2_48_J2.2 (k1_of g1.1) dJ2_size_1 ?_
  exact j_iret (pc := 4) hX hr dJ2_size_4
set_option maxHeartbeats 4000000 in
set_option maxRecDepth 100000 in
theorem icA_persons_t    (h : HP) (rr : Int32 × HP) (e : icA_persons  h = some rr) : Cn iV yX1_persons (ws_ yX1_persons cX1_persons 1 (some .int)) 2 20 (fun z => [.ref (z + 0)]) h (fun z => eI z rr.1) rr.2 := by
  refine cn_of (e1 := eI) (fun z => [(0, .ref (z + 0))]) iV_ok (icA_persons_m  h _ e) ymX1_persons (fun _ => rfl) (fun _ => Nat.le_of_ble_eq_true rfl) (fun X hX hr hnm => ?_) e
  have hX : okX iV X rr cX1_persons RX1 1 2 20 := hX
  rw [icA_persons]
  refine j_aload_n (pc := 0) hX 0 rfl dX1_persons_0 ?_
  refine j_grd fun g1 => ?_
  refine j_onr fun b2 e3 => ?_
  refine c_getR (pc := 1) hX igX1_13_X1.1 igX1_13_X1.2 g1 e3 dX1_persons_1 ?_
  refine j_grd fun g4 => ?_
  refine c_getR (pc := 4) hX igX1_17_X3.1 igX1_17_X3.2 (k1_of g4.1) g4.2.1.2.1 dX1_persons_4 ?_
  refine j_grd fun g7 => ?_
  refine j_callV (pc := 7) (e1 := eI) (a := (b2 + 3)) (As := fun z => []) (rest := []) hX (fun r e => icL_size_t (b2 + 3) h r e) ymJ2_size (lw_V q417 q418 q419 q145 q420) rfl ckJ2 (k1_of g7.1) ⟨Nat.le_of_ble_eq_true rfl, Nat.le_of_ble_eq_true rfl⟩ rfl rfl (Nat.le_of_ble_eq_true rfl) dX1_persons_7 (fun r5 h6 => ?_)
  exact j_iret (pc := 10) hX hr dX1_persons_10
set_option maxHeartbeats 4000000 in
set_option maxRecDepth 100000 in
theorem ikJ4_checkIndex_t   (a1 : Int32) (a2 : Int32) (h : HP) (rr : Int32 × HP) (e : ikJ4_checkIndex a1 a2 h = some rr) : Cn iV yJ4_checkIndex (ws_ yJ4_checkIndex cJ4_checkIndex 3 (some .int)) 1 0 (fun z => [.int a1, .int a2, .null]) h (fun z => eI z rr.1) rr.2 := by
  refine cn_of (e1 := eI) (fun z => [(0, .int a1), (1, .int a2), (2, .null)]) iV_ok (ikJ4_checkIndex_m a1 a2 h _ e) ymJ4_checkIndex (fun _ => rfl) (fun _ => Nat.le_of_ble_eq_true rfl) (fun X hX hr hnm => ?_) e
  have hX : okX iV X rr cJ4_checkIndex RJ4 3 1 0 := hX
  rw [ikJ4_checkIndex]
  refine j_iload_n (pc := 0) hX 0 rfl dJ4_checkIndex_0 ?_
  refine j_jon (fun (j1 : Unit → Option (Int32 × HP)) => ∀ (_u : Unit), jG iV X evI rr (j1 ()) 9 [(0, .int a1), (1, .int a2), (2, .null)] [] h) ?_ ?_
  · intro _
    refine j_aloadN_n (pc := 9) hX 2 rfl dJ4_checkIndex_9 ?_
    refine j_iload_n (pc := 10) hX 0 rfl dJ4_checkIndex_10 ?_
    refine j_iload_n (pc := 11) hX 1 rfl dJ4_checkIndex_11 ?_
    exact j_none
  · intro j1 hj1
    refine j_iflt (pc := 1) (tgt := 9) hX rfl dJ4_checkIndex_1 (fun _ => ?_) (fun _ => ?_)
    · exact hj1 ()
    · refine j_iload_n (pc := 4) hX 0 rfl dJ4_checkIndex_4 ?_
      refine j_iload_n (pc := 5) hX 1 rfl dJ4_checkIndex_5 ?_
      refine j_clt (pc := 6) (tgt := 16) hX rfl dJ4_checkIndex_6 (fun _ => ?_) (fun _ => ?_)
      · refine j_iload_n (pc := 16) hX 0 rfl dJ4_checkIndex_16 ?_
        exact j_iret (pc := 17) hX hr dJ4_checkIndex_17
      · exact hj1 ()
set_option maxHeartbeats 4000000 in
set_option maxRecDepth 100000 in
theorem ikJ4_checkIndex_r  (q : Nat) (a1 : Int32) (a2 : Int32) (h : HP) (rr : Int32 × HP) (e : ikJ4_checkIndex a1 a2 h = some rr) : Cn iV yJ4_checkIndex (ws_ yJ4_checkIndex cJ4_checkIndex 3 (some .int)) 1 0 (fun z => [.int a1, .int a2, .ref q]) h (fun z => eI z rr.1) rr.2 := by
  refine cn_of (e1 := eI) (fun z => [(0, .int a1), (1, .int a2), (2, .ref q)]) iV_ok (ikJ4_checkIndex_m a1 a2 h _ e) ymJ4_checkIndex (fun _ => rfl) (fun _ => Nat.le_of_ble_eq_true rfl) (fun X hX hr hnm => ?_) e
  have hX : okX iV X rr cJ4_checkIndex RJ4 3 1 0 := hX
  rw [ikJ4_checkIndex]
  refine j_iload_n (pc := 0) hX 0 rfl dJ4_checkIndex_0 ?_
  refine j_jon (fun (j2 : Unit → Option (Int32 × HP)) => ∀ (_u : Unit), jG iV X evI rr (j2 ()) 9 [(0, .int a1), (1, .int a2), (2, .ref q)] [] h) ?_ ?_
  · intro _
    refine j_aload_n (pc := 9) hX 2 rfl dJ4_checkIndex_9 ?_
    refine j_iload_n (pc := 10) hX 0 rfl dJ4_checkIndex_10 ?_
    refine j_iload_n (pc := 11) hX 1 rfl dJ4_checkIndex_11 ?_
    exact j_none
  · intro j2 hj2
    refine j_iflt (pc := 1) (tgt := 9) hX rfl dJ4_checkIndex_1 (fun _ => ?_) (fun _ => ?_)
    · exact hj2 ()
    · refine j_iload_n (pc := 4) hX 0 rfl dJ4_checkIndex_4 ?_
      refine j_iload_n (pc := 5) hX 1 rfl dJ4_checkIndex_5 ?_
      refine j_clt (pc := 6) (tgt := 16) hX rfl dJ4_checkIndex_6 (fun _ => ?_) (fun _ => ?_)
      · refine j_iload_n (pc := 16) hX 0 rfl dJ4_checkIndex_16 ?_
        exact j_iret (pc := 17) hX hr dJ4_checkIndex_17
      · exact hj2 ()
set_option maxHeartbeats 4000000 in
set_option maxRecDepth 100000 in
theorem ikJ3_checkIndex_t   (a1 : Int32) (a2 : Int32) (h : HP) (rr : Int32 × HP) (e : ikJ3_checkIndex a1 a2 h = some rr) : Cn iV yJ3_checkIndex (ws_ yJ3_checkIndex cJ3_checkIndex 2 (some .int)) 2 22 (fun z => [.int a1, .int a2]) h (fun z => eI z rr.1) rr.2 := by
  refine cn_of (e1 := eI) (fun z => [(0, .int a1), (1, .int a2)]) iV_ok (ikJ3_checkIndex_m a1 a2 h _ e) ymJ3_checkIndex (fun _ => rfl) (fun _ => Nat.le_of_ble_eq_true rfl) (fun X hX hr hnm => ?_) e
  have hX : okX iV X rr cJ3_checkIndex RJ3 2 2 22 := hX
  rw [ikJ3_checkIndex]
  refine j_iload_n (pc := 0) hX 0 rfl dJ3_checkIndex_0 ?_
  refine j_iload_n (pc := 1) hX 1 rfl dJ3_checkIndex_1 ?_
  refine j_null (pc := 2) hX dJ3_checkIndex_2 ?_
  refine j_callS (pc := 3) (e1 := eI) (As := fun z => [.int a1, .int a2, .null]) (rest := []) hX (fun r e => ikJ4_checkIndex_t a1 a2 h r e) ymJ4_checkIndex (lw_S q428 q429 q153 q430) ⟨Nat.le_of_ble_eq_true rfl, Nat.le_of_ble_eq_true rfl⟩ rfl rfl (Nat.le_of_ble_eq_true rfl) dJ3_checkIndex_3 (fun r1 h2 => ?_)
  exact j_iret (pc := 6) hX hr dJ3_checkIndex_6
set_option maxHeartbeats 4000000 in
set_option maxRecDepth 100000 in
theorem icL_elementData_t   (o : Nat) (a1 : Int32) (h : HP) (rr : Nat × HP) (e : icL_elementData o a1 h = some rr) : Cn iV yJ2_elementData (ws_ yJ2_elementData cJ2_elementData 2 (some (.object "java/lang/Object"))) 1 0 (fun z => [.ref (z + o), .int a1]) h (fun z => eR z rr.1) rr.2 := by
  refine cn_of (e1 := eR) (fun z => [(0, .ref (z + o)), (1, .int a1)]) iV_ok (icL_elementData_m o a1 h _ e) ymJ2_elementData (fun _ => rfl) (fun _ => Nat.le_of_ble_eq_true rfl) (fun X hX hr hnm => ?_) e
  have hX : okX iV X rr cJ2_elementData RJ2 2 1 0 := hX
  rw [icL_elementData]
  refine j_aload_n (pc := 0) hX 0 rfl dJ2_elementData_0 ?_
  refine j_grd fun g1 => ?_
  refine c_getR (pc := 1) hX igJ2_9_J2.1 igJ2_9_J2.2 (k1_of g1.1) g1.2.1 dJ2_elementData_1 ?_
  refine j_iload_n (pc := 4) hX 1 rfl dJ2_elementData_4 ?_
  refine j_aald (pc := 5) (n := (gT (iV h) (o + 1)).2) (q := 4) hX (Nat.le_of_ble_eq_true rfl) (fun _ => rfl) (kA_of g1.2.2) dJ2_elementData_5 (fun b2 => ?_)
  exact j_aret (pc := 6) hX (Or.inl ⟨_, rfl⟩) hr dJ2_elementData_6
set_option maxHeartbeats 4000000 in
set_option maxRecDepth 100000 in
theorem icL_get_t   (o : Nat) (a1 : Int32) (h : HP) (rr : Nat × HP) (e : icL_get o a1 h = some rr) : Cn iV yJ2_get (ws_ yJ2_get cJ2_get 2 (some (.object "java/lang/Object"))) 3 43 (fun z => [.ref (z + o), .int a1]) h (fun z => eR z rr.1) rr.2 := by
  refine cn_of (e1 := eR) (fun z => [(0, .ref (z + o)), (1, .int a1)]) iV_ok (icL_get_m o a1 h _ e) ymJ2_get (fun _ => rfl) (fun _ => Nat.le_of_ble_eq_true rfl) (fun X hX hr hnm => ?_) e
  have hX : okX iV X rr cJ2_get RJ2 2 3 43 := hX
  rw [icL_get]
  refine j_iload_n (pc := 0) hX 1 rfl dJ2_get_0 ?_
  refine j_aload_n (pc := 1) hX 0 rfl dJ2_get_1 ?_
  refine j_grd fun g1 => ?_
  refine c_getI (pc := 2) hX igJ2_48_J2.1 igJ2_48_J2.2 (k1_of g1.1) dJ2_get_2 ?_
  refine j_callS (pc := 5) (e1 := eI) (As := fun z => [.int a1, .int (gI h o 2)]) (rest := []) hX (fun r e => ikJ3_checkIndex_t a1 (gI h o 2) h r e) ymJ3_checkIndex (lw_S q425 q426 q152 q427) ⟨Nat.le_of_ble_eq_true rfl, Nat.le_of_ble_eq_true rfl⟩ rfl rfl (Nat.le_of_ble_eq_true rfl) dJ2_get_5 (fun r2 h3 => ?_)
  refine j_pop (pc := 8) hX rfl dJ2_get_8 ?_
  refine j_aload_n (pc := 9) hX 0 rfl dJ2_get_9 ?_
  refine j_iload_n (pc := 10) hX 1 rfl dJ2_get_10 ?_
  refine j_grd fun g6 => ?_
  refine j_callV (pc := 11) (e1 := eR) (a := o) (As := fun z => [.int a1]) (rest := []) hX (fun r e => icL_elementData_t o a1 h3 r e) ymJ2_elementData (lw_V q431 q432 q433 q145 q434) rfl ckJ2 (k1_of g6.1) ⟨Nat.le_of_ble_eq_true rfl, Nat.le_of_ble_eq_true rfl⟩ rfl rfl (Nat.le_of_ble_eq_true rfl) dJ2_get_11 (fun r4 h5 => ?_)
  exact j_aret (pc := 14) hX (Or.inl ⟨_, rfl⟩) hr dJ2_get_14
set_option maxHeartbeats 4000000 in
set_option maxRecDepth 100000 in
theorem icS_begin_2_w {X : CTX} {rr : Unit × HP}  (hX : okX iV X rr cX9_begin RX9 2 4 64) (hr : (xh X).sig.returnType = none) (f0 : Nat) (k : HP → Option (Unit × HP)) (hk : ∀  (h : HP), jG iV X evV rr (k  h) 85 [(0, .ref (xz X + f0))] [] h) : ∀ (n : Nat) (v1 : Int32) (h : HP), jG iV X evV rr (icS_begin_2 f0 k n v1 h) 2 [(0, .ref (xz X + f0)), (1, .int v1)] [] h := by
  intro n
  induction n with
  | zero =>
    intro v1 h
    exact j_none
  | succ n ih =>
    intro v1 h
    rw [icS_begin_2]
    refine j_iload_n (pc := 2) hX 1 rfl dX9_begin_2 ?_
    refine j_aload_n (pc := 3) hX 0 rfl dX9_begin_3 ?_
    refine j_grd fun g2 => ?_
    refine c_getR (pc := 4) hX igX9_3_X9.1 igX9_3_X9.2 (k1_of g2.1) g2.2.1.2.2.2.2 dX9_begin_4 ?_
    refine j_grd fun g5 => ?_
    refine j_callVN (pc := 7) (e1 := eI) (a := 0) (As := fun z => []) (rest := [.int v1]) hX (fun r e => icA_persons_t h r e) ymX1_persons (List.mem_of_getElem? (i := 18) rfl) q415 qs0 q140 q416 ckX1 g5 ⟨Nat.le_of_ble_eq_true rfl, Nat.le_of_ble_eq_true rfl⟩ rfl rfl (Nat.le_of_ble_eq_true rfl) dX9_begin_7 (fun r3 h4 => ?_)
    refine j_cge (pc := 10) (tgt := 85) hX rfl dX9_begin_10 (fun _ => ?_) (fun _ => ?_)
    · refine j_locs [0] rfl ?_
      exact hk h4
    · refine j_aload_n (pc := 13) hX 0 rfl dX9_begin_13 ?_
      refine j_grd fun g6 => ?_
      refine c_getR (pc := 14) hX igX9_15_X9.1 igX9_15_X9.2 (k1_of g6.1) g6.2.1.1 dX9_begin_14 ?_
      refine j_iload_n (pc := 17) hX 1 rfl dX9_begin_17 ?_
      refine j_aload_n (pc := 18) hX 0 rfl dX9_begin_18 ?_
      refine c_getR (pc := 19) hX igX9_3_X9.1 igX9_3_X9.2 (k1_of g6.1) g6.2.1.2.2.2.2 dX9_begin_19 ?_
      refine j_grd fun g7 => ?_
      refine j_onr fun b8 e9 => ?_
      refine c_getR (pc := 22) hX igX9_32_X1.1 igX9_32_X1.2 g7 e9 dX9_begin_22 ?_
      refine j_grd fun g10 => ?_
      refine c_getR (pc := 25) hX igX9_36_X3.1 igX9_36_X3.2 (k1_of g10.1) g10.2.1.2.1 dX9_begin_25 ?_
      refine j_iload_n (pc := 28) hX 1 rfl dX9_begin_28 ?_
      refine j_grd fun g13 => ?_
      refine j_callV (pc := 29) (e1 := eR) (a := (b8 + 3)) (As := fun z => [.int v1]) (rest := [.int v1, .ref (xz X + (f0 + 1))]) hX (fun r e => icL_get_t (b8 + 3) v1 h4 r e) ymJ2_get (lw_V q421 q422 q423 q145 q424) rfl ckJ2 (k1_of g13.1) ⟨Nat.le_of_ble_eq_true rfl, Nat.le_of_ble_eq_true rfl⟩ rfl rfl (Nat.le_of_ble_eq_true rfl) dX9_begin_29 (fun r11 h12 => ?_)
      refine j_grd fun g14 => ?_
      refine j_castS (pc := 32) hX ckX13 g14 q435 dX9_begin_32 ?_
      refine c_getI (pc := 35) hX igX9_49_X13.1 igX9_49_X13.2 g14 dX9_begin_35 ?_
      refine j_grd fun g15 => ?_
      refine c_iast (pc := 38) (n := (gT (iV h12) (f0 + 1)).2) hX (kA_of g15) dX9_begin_38 (fun h16 qz17 qz18 => ?_)
      refine j_aload_n (pc := 39) hX 0 rfl dX9_begin_39 ?_
      refine j_grd fun g19 => ?_
      refine c_getR (pc := 40) hX igX9_19_X9.1 igX9_19_X9.2 (k1_of g19.1) g19.2.1.2.1 dX9_begin_40 ?_
      refine j_iload_n (pc := 43) hX 1 rfl dX9_begin_43 ?_
      refine j_aload_n (pc := 44) hX 0 rfl dX9_begin_44 ?_
      refine c_getR (pc := 45) hX igX9_3_X9.1 igX9_3_X9.2 (k1_of g19.1) g19.2.1.2.2.2.2 dX9_begin_45 ?_
      refine j_grd fun g20 => ?_
      refine j_onr fun b21 e22 => ?_
      refine c_getR (pc := 48) hX igX9_32_X1.1 igX9_32_X1.2 g20 e22 dX9_begin_48 ?_
      refine j_grd fun g23 => ?_
      refine c_getR (pc := 51) hX igX9_36_X3.1 igX9_36_X3.2 (k1_of g23.1) g23.2.1.2.1 dX9_begin_51 ?_
      refine j_iload_n (pc := 54) hX 1 rfl dX9_begin_54 ?_
      refine j_grd fun g26 => ?_
      refine j_callV (pc := 55) (e1 := eR) (a := (b21 + 3)) (As := fun z => [.int v1]) (rest := [.int v1, .ref (xz X + (f0 + 2))]) hX (fun r e => icL_get_t (b21 + 3) v1 h16 r e) ymJ2_get (lw_V q421 q422 q423 q145 q424) rfl ckJ2 (k1_of g26.1) ⟨Nat.le_of_ble_eq_true rfl, Nat.le_of_ble_eq_true rfl⟩ rfl rfl (Nat.le_of_ble_eq_true rfl) dX9_begin_55 (fun r24 h25 => ?_)
      refine j_grd fun g27 => ?_
      refine j_castS (pc := 58) hX ckX13 g27 q435 dX9_begin_58 ?_
      refine c_getI (pc := 61) hX igX9_52_X13.1 igX9_52_X13.2 g27 dX9_begin_61 ?_
      refine j_grd fun g28 => ?_
      refine c_iast (pc := 64) (n := (gT (iV h25) (f0 + 2)).2) hX (kA_of g28) dX9_begin_64 (fun h29 qz30 qz31 => ?_)
      refine j_aload_n (pc := 65) hX 0 rfl dX9_begin_65 ?_
      refine j_grd fun g32 => ?_
      refine c_getR (pc := 66) hX igX9_22_X9.1 igX9_22_X9.2 (k1_of g32.1) g32.2.1.2.2.1 dX9_begin_66 ?_
      refine j_iload_n (pc := 69) hX 1 rfl dX9_begin_69 ?_
      refine j_iconst (pc := 70) hX ic_0 dX9_begin_70 ?_
      refine c_iast (pc := 71) (n := 5) hX g32.2.2.2.2.1 dX9_begin_71 (fun h33 qz34 qz35 => ?_)
      refine j_aload_n (pc := 72) hX 0 rfl dX9_begin_72 ?_
      refine j_grd fun g36 => ?_
      refine c_getR (pc := 73) hX igX9_25_X9.1 igX9_25_X9.2 (k1_of g36.1) g36.2.1.2.2.2.1 dX9_begin_73 ?_
      refine j_iload_n (pc := 76) hX 1 rfl dX9_begin_76 ?_
      refine j_iconst (pc := 77) hX ic_0 dX9_begin_77 ?_
      refine c_iast (pc := 78) (n := 5) hX g36.2.2.2.2.2 dX9_begin_78 (fun h37 qz38 qz39 => ?_)
      refine j_iinc (pc := 79) hX 1 rfl (1 : Int32) ic_1 (fun x40 => [(1, .int x40), (0, .ref (xz X + f0))]) (fun _ => rfl) (Nat.le_of_ble_eq_true rfl) dX9_begin_79 (fun x40 => ?_)
      refine j_goto (pc := 82) (tgt := 2) hX rfl dX9_begin_82 ?_
      refine j_locs [1, 0] rfl ?_
      exact ih x40 h37
set_option maxHeartbeats 4000000 in
set_option maxRecDepth 100000 in
theorem icS_begin_t   (o : Nat) (h : HP) (rr : Unit × HP) (e : icS_begin o h = some rr) : Cn iV yX9_begin (ws_ yX9_begin cX9_begin 2 (none)) 4 64 (fun z => [.ref (z + o)]) h (fun z => eV z rr.1) rr.2 := by
  refine cn_of (e1 := eV) (fun z => [(0, .ref (z + o))]) iV_ok (icS_begin_m o h _ e) ymX9_begin (fun _ => rfl) (fun _ => Nat.le_of_ble_eq_true rfl) (fun X hX hr hnm => ?_) e
  have hX : okX iV X rr cX9_begin RX9 2 4 64 := hX
  rw [icS_begin]
  refine j_iconst (pc := 0) hX ic_0 dX9_begin_0 ?_
  refine j_istore_n (pc := 1) hX (fun x1 => [(1, .int x1), (0, .ref (xz X + o))]) (fun _ => rfl) (Nat.le_of_ble_eq_true rfl) dX9_begin_1 (fun x1 => ?_)
  refine j_locs [1, 0] rfl ?_
  refine icS_begin_2_w hX hr o _ (fun  h41 => ?_) FU x1 h
  refine j_aload_n (pc := 85) hX 0 rfl dX9_begin_85 ?_
  refine j_iconst (pc := 86) hX ic_0 dX9_begin_86 ?_
  refine j_grd fun g42 => ?_
  refine c_putI (pc := 87) hX iwX9_54_X9.1 iwX9_54_X9.2 (k1_of g42.1) dX9_begin_87 (fun h43 qz44 qz45 => ?_)
  refine j_aload_n (pc := 90) hX 0 rfl dX9_begin_90 ?_
  refine j_iconst (pc := 91) hX ic_0 dX9_begin_91 ?_
  refine j_grd fun g46 => ?_
  refine c_putI (pc := 92) hX iwX9_57_X9.1 iwX9_57_X9.2 (k1_of g46.1) dX9_begin_92 (fun h47 qz48 qz49 => ?_)
  refine j_aload_n (pc := 95) hX 0 rfl dX9_begin_95 ?_
  refine j_aload_n (pc := 96) hX 0 rfl dX9_begin_96 ?_
  refine j_grd fun g50 => ?_
  refine c_getR (pc := 97) hX igX9_3_X9.1 igX9_3_X9.2 (k1_of g50.1) g50.2.1.2.2.2.2 dX9_begin_97 ?_
  refine j_grd fun g51 => ?_
  refine j_onr fun b52 e53 => ?_
  refine c_getR (pc := 100) hX igX9_32_X1.1 igX9_32_X1.2 g51 e53 dX9_begin_100 ?_
  refine j_grd fun g54 => ?_
  refine c_getI (pc := 103) hX igX9_60_X3.1 igX9_60_X3.2 (k1_of g54.1) dX9_begin_103 ?_
  refine c_putI (pc := 106) hX iwX9_63_X9.1 iwX9_63_X9.2 (k1_of g50.1) dX9_begin_106 (fun h55 qz56 qz57 => ?_)
  refine j_aload_n (pc := 109) hX 0 rfl dX9_begin_109 ?_
  refine j_iconst (pc := 110) hX ic_m1 dX9_begin_110 ?_
  refine j_grd fun g58 => ?_
  refine c_putI (pc := 111) hX iwX9_66_X9.1 iwX9_66_X9.2 (k1_of g58.1) dX9_begin_111 (fun h59 qz60 qz61 => ?_)
  refine j_aload_n (pc := 114) hX 0 rfl dX9_begin_114 ?_
  refine j_iconst (pc := 115) hX ic_0 dX9_begin_115 ?_
  refine j_grd fun g62 => ?_
  refine c_putI (pc := 116) hX iwX9_69_X9.1 iwX9_69_X9.2 (k1_of g62.1) dX9_begin_116 (fun h63 qz64 qz65 => ?_)
  exact j_vret (pc := 119) hX hr dX9_begin_119
set_option maxHeartbeats 4000000 in
set_option maxRecDepth 100000 in
theorem icA_init_208_w {X : CTX} {rr : Unit × HP}  (hX : okX iV X rr cX1_init RX1 2 5 93) (hr : (xh X).sig.returnType = none)  (k : HP → Option (Unit × HP)) (hk : ∀  (h : HP), jG iV X evV rr (k  h) 233 [(0, .ref (xz X + 0))] [] h) : ∀ (n : Nat) (v1 : Int32) (h : HP), jG iV X evV rr (icA_init_208 k n v1 h) 208 [(0, .ref (xz X + 0)), (1, .int v1)] [] h := by
  intro n
  induction n with
  | zero =>
    intro v1 h
    exact j_none
  | succ n ih =>
    intro v1 h
    rw [icA_init_208]
    refine j_iload_n (pc := 208) hX 1 rfl dX1_init_208 ?_
    refine j_iconst (pc := 209) hX ic_2 dX1_init_209 ?_
    refine j_cge (pc := 210) (tgt := 233) hX rfl dX1_init_210 (fun _ => ?_) (fun _ => ?_)
    · refine j_locs [0] rfl ?_
      exact hk h
    · refine j_aload_n (pc := 213) hX 0 rfl dX1_init_213 ?_
      refine j_grd fun g166 => ?_
      refine j_onr fun b167 e168 => ?_
      refine c_getR (pc := 214) hX igX1_109_X1.1 igX1_109_X1.2 g166 e168 dX1_init_214 ?_
      refine j_iload_n (pc := 217) hX 1 rfl dX1_init_217 ?_
      refine j_grd fun g169 => ?_
      refine j_new (pc := 218) hX ckX9 cfX9 q355 q356 q151 (iV_vA g169) dX1_init_218 (fun b170 h171 => ?_)
      refine j_dup (pc := 221) hX rfl dX1_init_221 ?_
      refine j_aload_n (pc := 222) hX 0 rfl dX1_init_222 ?_
      refine j_callIN (pc := 223) (e1 := eV) (a := b170) (As := fun z => [.ref (z + 0)]) (rest := [.ref (xz X + b170), .int v1, .ref (xz X + b167)]) hX (fun r e => icS_init_t b170 0 h171 r e) ymX9_init rfl (List.mem_of_getElem? (i := 6) rfl) q358 q151 q359 ⟨Nat.le_of_ble_eq_true rfl, Nat.le_of_ble_eq_true rfl⟩ rfl rfl (Nat.le_of_ble_eq_true rfl) dX1_init_223 (fun r172 h173 => ?_)
      refine j_grd fun g174 => ?_
      refine j_grd fun g176 => ?_
      refine j_aastQ (pc := 226) (n := (gT (iV h173) b167).2) hX (kA_of g174) g176 (iV_sR trivial) dX1_init_226 (fun h175 => ?_)
      refine j_iinc (pc := 227) hX 1 rfl (1 : Int32) ic_1 (fun x177 => [(1, .int x177), (0, .ref (xz X + 0))]) (fun _ => rfl) (Nat.le_of_ble_eq_true rfl) dX1_init_227 (fun x177 => ?_)
      refine j_goto (pc := 230) (tgt := 208) hX rfl dX1_init_230 ?_
      refine j_locs [1, 0] rfl ?_
      exact ih x177 h175
set_option maxHeartbeats 4000000 in
set_option maxRecDepth 100000 in
theorem icA_init_t    (h : HP) (rr : Unit × HP) (e : icA_init  h = some rr) : Cn iV yX1_init (ws_ yX1_init cX1_init 2 (none)) 5 93 (fun z => [.ref (z + 0)]) h (fun z => eV z rr.1) rr.2 := by
  refine cn_of (e1 := eV) (fun z => [(0, .ref (z + 0))]) iV_ok (icA_init_m  h _ e) ymX1_init (fun _ => rfl) (fun _ => Nat.le_of_ble_eq_true rfl) (fun X hX hr hnm => ?_) e
  have hX : okX iV X rr cX1_init RX1 2 5 93 := hX
  rw [icA_init]
  refine j_aload_n (pc := 0) hX 0 rfl dX1_init_0 ?_
  refine j_objInit (pc := 1) hX q187 q188 q189 (Nat.le_of_ble_eq_true rfl) (Nat.le_of_ble_eq_true rfl) dX1_init_1 ?_
  refine j_aload_n (pc := 4) hX 0 rfl dX1_init_4 ?_
  refine j_sipush (pc := 5) hX sp_700 dX1_init_5 ?_
  refine j_grd fun g1 => ?_
  refine j_newa (pc := 8) (k := 102) (n := 700) (q := 2) (atype := .byte) hX rfl (Nat.le_of_ble_eq_true rfl) (fun _ => rfl) (fun _ h => by cases h) q224 (by decide) (by decide) (Nat.le_of_ble_eq_true rfl) (iV_vA g1) (fun _ => rfl) dX1_init_8 (fun b2 h3 => ?_)
  refine j_grd fun g4 => ?_
  refine c_putFR (pc := 10) hX hnm ijX1_56_X1.1 ijX1_56_X1.2 g4 (iV_sR trivial) dX1_init_10 (fun h5 qz6 => ?_)
  refine j_aload_n (pc := 13) hX 0 rfl dX1_init_13 ?_
  refine j_iconst (pc := 14) hX ic_m1 dX1_init_14 ?_
  refine j_grd fun g8 => ?_
  refine c_putI (pc := 15) hX iwX1_60_X1.1 iwX1_60_X1.2 g8 dX1_init_15 (fun h9 qz10 qz11 => ?_)
  refine j_aload_n (pc := 18) hX 0 rfl dX1_init_18 ?_
  refine j_grd fun g12 => ?_
  refine j_new (pc := 19) hX ckX2 cfX2 q190 q191 q141 (iV_vA g12) dX1_init_19 (fun b13 h14 => ?_)
  refine j_dup (pc := 22) hX rfl dX1_init_22 ?_
  refine j_aload_n (pc := 23) hX 0 rfl dX1_init_23 ?_
  refine j_callIN (pc := 24) (e1 := eV) (a := b13) (As := fun z => [.ref (z + 0)]) (rest := [.ref (xz X + b13), .ref (xz X + 0)]) hX (fun r e => icR_init_t b13 0 h14 r e) ymX2_init rfl (List.mem_of_getElem? (i := 0) rfl) q193 q141 q194 ⟨Nat.le_of_ble_eq_true rfl, Nat.le_of_ble_eq_true rfl⟩ rfl rfl (Nat.le_of_ble_eq_true rfl) dX1_init_24 (fun r15 h16 => ?_)
  refine j_grd fun g17 => ?_
  refine c_putFR (pc := 27) hX hnm ijX1_69_X1.1 ijX1_69_X1.2 g17 (iV_sR trivial) dX1_init_27 (fun h18 qz19 => ?_)
  refine j_aload_n (pc := 30) hX 0 rfl dX1_init_30 ?_
  refine j_grd fun g21 => ?_
  refine j_new (pc := 31) hX ckX3 cfX3 q225 q226 q142 (iV_vA g21) dX1_init_31 (fun b22 h23 => ?_)
  refine j_dup (pc := 34) hX rfl dX1_init_34 ?_
  refine j_callIN (pc := 35) (e1 := eV) (a := b22) (As := fun z => []) (rest := [.ref (xz X + b22), .ref (xz X + 0)]) hX (fun r e => icC_init_t b22 h23 r e) ymX3_init rfl (List.mem_of_getElem? (i := 1) rfl) q228 q142 q229 ⟨Nat.le_of_ble_eq_true rfl, Nat.le_of_ble_eq_true rfl⟩ rfl rfl (Nat.le_of_ble_eq_true rfl) dX1_init_35 (fun r24 h25 => ?_)
  refine j_grd fun g26 => ?_
  refine c_putR (pc := 38) hX iwX1_13_X1.1 iwX1_13_X1.2 g26 (iV_sR trivial) dX1_init_38 (fun h27 qz28 => ?_)
  refine j_aload_n (pc := 41) hX 0 rfl dX1_init_41 ?_
  refine j_bipush (pc := 42) hX bp_7 dX1_init_42 ?_
  refine j_grd fun g30 => ?_
  refine j_newa (pc := 44) (k := 101) (n := 7) (q := 1) (atype := .long) hX rfl (Nat.le_of_ble_eq_true rfl) (fun _ => rfl) (fun _ h => by cases h) q333 (by decide) (by decide) (Nat.le_of_ble_eq_true rfl) (iV_vA g30) (fun _ => rfl) dX1_init_44 (fun b31 h32 => ?_)
  refine j_grd fun g33 => ?_
  refine c_putFR (pc := 46) hX hnm ijX1_38_X1.1 ijX1_38_X1.2 g33 (iV_sR trivial) dX1_init_46 (fun h34 qz35 => ?_)
  refine j_aload_n (pc := 49) hX 0 rfl dX1_init_49 ?_
  refine j_iconst (pc := 50) hX ic_4 dX1_init_50 ?_
  refine j_grd fun g37 => ?_
  refine j_newr (pc := 51) (k := 106) (n := 4) (q := 6) hX (Nat.le_of_ble_eq_true rfl) (fun _ => rfl) q321 (List.mem_of_getElem? (i := 0) rfl) (by decide) (by decide) (Nat.le_of_ble_eq_true rfl) (iV_vA g37) dX1_init_51 (fun b38 h39 => ?_)
  refine j_dup (pc := 54) hX rfl dX1_init_54 ?_
  refine j_iconst (pc := 55) hX ic_0 dX1_init_55 ?_
  refine j_grd fun g40 => ?_
  refine j_new (pc := 56) hX ckX5 cfX5 q323 q324 q147 (iV_vA g40) dX1_init_56 (fun b41 h42 => ?_)
  refine j_dup (pc := 59) hX rfl dX1_init_59 ?_
  refine j_callIN (pc := 60) (e1 := eV) (a := b41) (As := fun z => []) (rest := [.ref (xz X + b41), .int (0 : Int32), .ref (xz X + b38), .ref (xz X + b38), .ref (xz X + 0)]) hX (fun r e => ikX5_init_t b41 h42 r e) ymX5_init rfl (List.mem_of_getElem? (i := 2) rfl) q326 q147 q327 ⟨Nat.le_of_ble_eq_true rfl, Nat.le_of_ble_eq_true rfl⟩ rfl rfl (Nat.le_of_ble_eq_true rfl) dX1_init_60 (fun r43 h44 => ?_)
  refine j_grd fun g45 => ?_
  refine j_grd fun g47 => ?_
  refine j_aastK (pc := 63) (n := (gT (iV h44) b38).2) hX (kA_of g45) g47 (iV_sR trivial) dX1_init_63 (fun h46 => ?_)
  refine j_dup (pc := 64) hX rfl dX1_init_64 ?_
  refine j_iconst (pc := 65) hX ic_1 dX1_init_65 ?_
  refine j_grd fun g48 => ?_
  refine j_new (pc := 66) hX ckX6 cfX6 q334 q335 q148 (iV_vA g48) dX1_init_66 (fun b49 h50 => ?_)
  refine j_dup (pc := 69) hX rfl dX1_init_69 ?_
  refine j_callIN (pc := 70) (e1 := eV) (a := b49) (As := fun z => []) (rest := [.ref (xz X + b49), .int (1 : Int32), .ref (xz X + b38), .ref (xz X + b38), .ref (xz X + 0)]) hX (fun r e => ikX6_init_t b49 h50 r e) ymX6_init rfl (List.mem_of_getElem? (i := 3) rfl) q337 q148 q338 ⟨Nat.le_of_ble_eq_true rfl, Nat.le_of_ble_eq_true rfl⟩ rfl rfl (Nat.le_of_ble_eq_true rfl) dX1_init_70 (fun r51 h52 => ?_)
  refine j_grd fun g53 => ?_
  refine j_grd fun g55 => ?_
  refine j_aastK (pc := 73) (n := (gT (iV h52) b38).2) hX (kA_of g53) g55 (iV_sR trivial) dX1_init_73 (fun h54 => ?_)
  refine j_dup (pc := 74) hX rfl dX1_init_74 ?_
  refine j_iconst (pc := 75) hX ic_2 dX1_init_75 ?_
  refine j_grd fun g56 => ?_
  refine j_new (pc := 76) hX ckX7 cfX7 q341 q342 q149 (iV_vA g56) dX1_init_76 (fun b57 h58 => ?_)
  refine j_dup (pc := 79) hX rfl dX1_init_79 ?_
  refine j_callIN (pc := 80) (e1 := eV) (a := b57) (As := fun z => []) (rest := [.ref (xz X + b57), .int (2 : Int32), .ref (xz X + b38), .ref (xz X + b38), .ref (xz X + 0)]) hX (fun r e => ikX7_init_t b57 h58 r e) ymX7_init rfl (List.mem_of_getElem? (i := 4) rfl) q344 q149 q345 ⟨Nat.le_of_ble_eq_true rfl, Nat.le_of_ble_eq_true rfl⟩ rfl rfl (Nat.le_of_ble_eq_true rfl) dX1_init_80 (fun r59 h60 => ?_)
  refine j_grd fun g61 => ?_
  refine j_grd fun g63 => ?_
  refine j_aastK (pc := 83) (n := (gT (iV h60) b38).2) hX (kA_of g61) g63 (iV_sR trivial) dX1_init_83 (fun h62 => ?_)
  refine j_dup (pc := 84) hX rfl dX1_init_84 ?_
  refine j_iconst (pc := 85) hX ic_3 dX1_init_85 ?_
  refine j_grd fun g64 => ?_
  refine j_new (pc := 86) hX ckX8 cfX8 q348 q349 q150 (iV_vA g64) dX1_init_86 (fun b65 h66 => ?_)
  refine j_dup (pc := 89) hX rfl dX1_init_89 ?_
  refine j_callIN (pc := 90) (e1 := eV) (a := b65) (As := fun z => []) (rest := [.ref (xz X + b65), .int (3 : Int32), .ref (xz X + b38), .ref (xz X + b38), .ref (xz X + 0)]) hX (fun r e => ikX8_init_t b65 h66 r e) ymX8_init rfl (List.mem_of_getElem? (i := 5) rfl) q351 q150 q352 ⟨Nat.le_of_ble_eq_true rfl, Nat.le_of_ble_eq_true rfl⟩ rfl rfl (Nat.le_of_ble_eq_true rfl) dX1_init_90 (fun r67 h68 => ?_)
  refine j_grd fun g69 => ?_
  refine j_grd fun g71 => ?_
  refine j_aastK (pc := 93) (n := (gT (iV h68) b38).2) hX (kA_of g69) g71 (iV_sR trivial) dX1_init_93 (fun h70 => ?_)
  refine j_grd fun g72 => ?_
  refine c_putFR (pc := 94) hX hnm ijX1_88_X1.1 ijX1_88_X1.2 g72 (iV_sR trivial) dX1_init_94 (fun h73 qz74 => ?_)
  refine j_aload_n (pc := 97) hX 0 rfl dX1_init_97 ?_
  refine j_grd fun g76 => ?_
  refine j_new (pc := 98) hX ckX9 cfX9 q355 q356 q151 (iV_vA g76) dX1_init_98 (fun b77 h78 => ?_)
  refine j_dup (pc := 101) hX rfl dX1_init_101 ?_
  refine j_aload_n (pc := 102) hX 0 rfl dX1_init_102 ?_
  refine j_callIN (pc := 103) (e1 := eV) (a := b77) (As := fun z => [.ref (z + 0)]) (rest := [.ref (xz X + b77), .ref (xz X + 0)]) hX (fun r e => icS_init_t b77 0 h78 r e) ymX9_init rfl (List.mem_of_getElem? (i := 6) rfl) q358 q151 q359 ⟨Nat.le_of_ble_eq_true rfl, Nat.le_of_ble_eq_true rfl⟩ rfl rfl (Nat.le_of_ble_eq_true rfl) dX1_init_103 (fun r79 h80 => ?_)
  refine j_grd fun g81 => ?_
  refine c_putFR (pc := 106) hX hnm ijX1_95_X1.1 ijX1_95_X1.2 g81 (iV_sR trivial) dX1_init_106 (fun h82 qz83 => ?_)
  refine j_aload_n (pc := 109) hX 0 rfl dX1_init_109 ?_
  refine j_grd fun g85 => ?_
  refine j_new (pc := 110) hX ckX9 cfX9 q355 q356 q151 (iV_vA g85) dX1_init_110 (fun b86 h87 => ?_)
  refine j_dup (pc := 113) hX rfl dX1_init_113 ?_
  refine j_aload_n (pc := 114) hX 0 rfl dX1_init_114 ?_
  refine j_callIN (pc := 115) (e1 := eV) (a := b86) (As := fun z => [.ref (z + 0)]) (rest := [.ref (xz X + b86), .ref (xz X + 0)]) hX (fun r e => icS_init_t b86 0 h87 r e) ymX9_init rfl (List.mem_of_getElem? (i := 6) rfl) q358 q151 q359 ⟨Nat.le_of_ble_eq_true rfl, Nat.le_of_ble_eq_true rfl⟩ rfl rfl (Nat.le_of_ble_eq_true rfl) dX1_init_115 (fun r88 h89 => ?_)
  refine j_grd fun g90 => ?_
  refine c_putFR (pc := 118) hX hnm ijX1_99_X1.1 ijX1_99_X1.2 g90 (iV_sR trivial) dX1_init_118 (fun h91 qz92 => ?_)
  refine j_aload_n (pc := 121) hX 0 rfl dX1_init_121 ?_
  refine j_grd fun g94 => ?_
  refine j_new (pc := 122) hX ckX9 cfX9 q355 q356 q151 (iV_vA g94) dX1_init_122 (fun b95 h96 => ?_)
  refine j_dup (pc := 125) hX rfl dX1_init_125 ?_
  refine j_aload_n (pc := 126) hX 0 rfl dX1_init_126 ?_
  refine j_callIN (pc := 127) (e1 := eV) (a := b95) (As := fun z => [.ref (z + 0)]) (rest := [.ref (xz X + b95), .ref (xz X + 0)]) hX (fun r e => icS_init_t b95 0 h96 r e) ymX9_init rfl (List.mem_of_getElem? (i := 6) rfl) q358 q151 q359 ⟨Nat.le_of_ble_eq_true rfl, Nat.le_of_ble_eq_true rfl⟩ rfl rfl (Nat.le_of_ble_eq_true rfl) dX1_init_127 (fun r97 h98 => ?_)
  refine j_grd fun g99 => ?_
  refine c_putFR (pc := 130) hX hnm ijX1_102_X1.1 ijX1_102_X1.2 g99 (iV_sR trivial) dX1_init_130 (fun h100 qz101 => ?_)
  refine j_aload_n (pc := 133) hX 0 rfl dX1_init_133 ?_
  refine j_bipush (pc := 134) hX bp_20 dX1_init_134 ?_
  refine j_grd fun g103 => ?_
  refine j_newr (pc := 136) (k := 107) (n := 20) (q := 7) hX (Nat.le_of_ble_eq_true rfl) (fun _ => rfl) q355 (List.mem_of_getElem? (i := 2) rfl) (by decide) (by decide) (Nat.le_of_ble_eq_true rfl) (iV_vA g103) dX1_init_136 (fun b104 h105 => ?_)
  refine j_grd fun g106 => ?_
  refine c_putFR (pc := 139) hX hnm ijX1_105_X1.1 ijX1_105_X1.2 g106 (iV_sR trivial) dX1_init_139 (fun h107 qz108 => ?_)
  refine j_aload_n (pc := 142) hX 0 rfl dX1_init_142 ?_
  refine j_iconst (pc := 143) hX ic_2 dX1_init_143 ?_
  refine j_grd fun g110 => ?_
  refine j_newr (pc := 144) (k := 107) (n := 2) (q := 7) hX (Nat.le_of_ble_eq_true rfl) (fun _ => rfl) q355 (List.mem_of_getElem? (i := 2) rfl) (by decide) (by decide) (Nat.le_of_ble_eq_true rfl) (iV_vA g110) dX1_init_144 (fun b111 h112 => ?_)
  refine j_grd fun g113 => ?_
  refine c_putFR (pc := 147) hX hnm ijX1_109_X1.1 ijX1_109_X1.2 g113 (iV_sR trivial) dX1_init_147 (fun h114 qz115 => ?_)
  refine j_aload_n (pc := 150) hX 0 rfl dX1_init_150 ?_
  refine j_iconst (pc := 151) hX ic_2 dX1_init_151 ?_
  refine j_grd fun g117 => ?_
  refine j_newa (pc := 152) (k := 100) (n := 2) (q := 0) (atype := .int) hX rfl (Nat.le_of_ble_eq_true rfl) (fun _ => rfl) (fun _ h => by cases h) q320 (by decide) (by decide) (Nat.le_of_ble_eq_true rfl) (iV_vA g117) (fun _ => rfl) dX1_init_152 (fun b118 h119 => ?_)
  refine j_grd fun g120 => ?_
  refine c_putFR (pc := 154) hX hnm ijX1_112_X1.1 ijX1_112_X1.2 g120 (iV_sR trivial) dX1_init_154 (fun h121 qz122 => ?_)
  refine j_aload_n (pc := 157) hX 0 rfl dX1_init_157 ?_
  refine j_iconst (pc := 158) hX ic_2 dX1_init_158 ?_
  refine j_grd fun g124 => ?_
  refine j_newa (pc := 159) (k := 100) (n := 2) (q := 0) (atype := .int) hX rfl (Nat.le_of_ble_eq_true rfl) (fun _ => rfl) (fun _ h => by cases h) q320 (by decide) (by decide) (Nat.le_of_ble_eq_true rfl) (iV_vA g124) (fun _ => rfl) dX1_init_159 (fun b125 h126 => ?_)
  refine j_grd fun g127 => ?_
  refine c_putFR (pc := 161) hX hnm ijX1_116_X1.1 ijX1_116_X1.2 g127 (iV_sR trivial) dX1_init_161 (fun h128 qz129 => ?_)
  refine j_aload_n (pc := 164) hX 0 rfl dX1_init_164 ?_
  refine j_bipush (pc := 165) hX bp_81 dX1_init_165 ?_
  refine j_grd fun g131 => ?_
  refine j_newa (pc := 167) (k := 100) (n := 81) (q := 0) (atype := .int) hX rfl (Nat.le_of_ble_eq_true rfl) (fun _ => rfl) (fun _ h => by cases h) q320 (by decide) (by decide) (Nat.le_of_ble_eq_true rfl) (iV_vA g131) (fun _ => rfl) dX1_init_167 (fun b132 h133 => ?_)
  refine j_grd fun g134 => ?_
  refine c_putFR (pc := 169) hX hnm ijX1_119_X1.1 ijX1_119_X1.2 g134 (iV_sR trivial) dX1_init_169 (fun h135 qz136 => ?_)
  refine j_aload_n (pc := 172) hX 0 rfl dX1_init_172 ?_
  refine j_bipush (pc := 173) hX bp_81 dX1_init_173 ?_
  refine j_grd fun g138 => ?_
  refine j_newa (pc := 175) (k := 100) (n := 81) (q := 0) (atype := .int) hX rfl (Nat.le_of_ble_eq_true rfl) (fun _ => rfl) (fun _ h => by cases h) q320 (by decide) (by decide) (Nat.le_of_ble_eq_true rfl) (iV_vA g138) (fun _ => rfl) dX1_init_175 (fun b139 h140 => ?_)
  refine j_grd fun g141 => ?_
  refine c_putFR (pc := 177) hX hnm ijX1_122_X1.1 ijX1_122_X1.2 g141 (iV_sR trivial) dX1_init_177 (fun h142 qz143 => ?_)
  refine j_aload_n (pc := 180) hX 0 rfl dX1_init_180 ?_
  refine j_grd fun g145 => ?_
  refine j_new (pc := 181) hX ckJ2 cfJ2 q407 q232 q145 (iV_vA g145) dX1_init_181 (fun b146 h147 => ?_)
  refine j_dup (pc := 184) hX rfl dX1_init_184 ?_
  refine j_bipush (pc := 185) hX bp_24 dX1_init_185 ?_
  refine j_callI (pc := 187) (e1 := eV) (a := b146) (As := fun z => [.int (24 : Int32)]) (rest := [.ref (xz X + b146), .ref (xz X + 0)]) hX (fun r e => icL_init_t b146 (24 : Int32) h147 r e) ymJ2_init rfl q408 q234 q145 q235 ⟨Nat.le_of_ble_eq_true rfl, Nat.le_of_ble_eq_true rfl⟩ rfl rfl (Nat.le_of_ble_eq_true rfl) dX1_init_187 (fun r148 h149 => ?_)
  refine j_grd fun g150 => ?_
  refine c_putFR (pc := 190) hX hnm ijX1_128_X1.1 ijX1_128_X1.2 g150 (iV_sR trivial) dX1_init_190 (fun h151 qz152 => ?_)
  refine j_aload_n (pc := 193) hX 0 rfl dX1_init_193 ?_
  refine j_bipush (pc := 194) hX bp_24 dX1_init_194 ?_
  refine j_grd fun g154 => ?_
  refine j_newa (pc := 196) (k := 103) (n := 24) (q := 3) (atype := .boolean) hX rfl (Nat.le_of_ble_eq_true rfl) (fun _ => rfl) (fun _ h => by cases h) q513 (by decide) (by decide) (Nat.le_of_ble_eq_true rfl) (iV_vA g154) (fun _ => rfl) dX1_init_196 (fun b155 h156 => ?_)
  refine j_grd fun g157 => ?_
  refine c_putFR (pc := 198) hX hnm ijX1_131_X1.1 ijX1_131_X1.2 g157 (iV_sR trivial) dX1_init_198 (fun h158 qz159 => ?_)
  refine j_aload_n (pc := 201) hX 0 rfl dX1_init_201 ?_
  refine j_iconst (pc := 202) hX ic_m1 dX1_init_202 ?_
  refine j_grd fun g161 => ?_
  refine c_putI (pc := 203) hX iwX1_135_X1.1 iwX1_135_X1.2 g161 dX1_init_203 (fun h162 qz163 qz164 => ?_)
  refine j_iconst (pc := 206) hX ic_0 dX1_init_206 ?_
  refine j_istore_n (pc := 207) hX (fun x165 => [(1, .int x165), (0, .ref (xz X + 0))]) (fun _ => rfl) (Nat.le_of_ble_eq_true rfl) dX1_init_207 (fun x165 => ?_)
  refine j_locs [1, 0] rfl ?_
  refine icA_init_208_w hX hr  _ (fun  h178 => ?_) FU x165 h162
  refine j_aload_n (pc := 233) hX 0 rfl dX1_init_233 ?_
  refine j_grd fun g179 => ?_
  refine j_onr fun b180 e181 => ?_
  refine c_getR (pc := 234) hX igX1_95_X1.1 igX1_95_X1.2 g179 e181 dX1_init_234 ?_
  refine j_grd fun g184 => ?_
  refine j_callV (pc := 237) (e1 := eV) (a := b180) (As := fun z => []) (rest := []) hX (fun r e => icS_begin_t b180 h178 r e) ymX9_begin (lw_V q409 q410 q411 q151 q412) rfl ckX9 (k1_of g184.1) ⟨Nat.le_of_ble_eq_true rfl, Nat.le_of_ble_eq_true rfl⟩ rfl rfl (Nat.le_of_ble_eq_true rfl) dX1_init_237 (fun r182 h183 => ?_)
  exact j_vret (pc := 240) hX hr dX1_init_240
set_option maxHeartbeats 4000000 in
set_option maxRecDepth 100000 in
theorem ikX10_plain_32_w {X : CTX} {rr : Unit × HP}  (hX : okX iV X rr cX10_plain RX10 2 1 0) (hr : (xh X).sig.returnType = none)  (k : HP → Option (Unit × HP)) (hk : ∀  (h : HP), jG iV X evV rr (k  h) 77 [] [] h) : ∀ (n : Nat) (v1 : Int32) (h : HP), jG iV X evV rr (ikX10_plain_32 k n v1 h) 32 [(0, .ref (xz X + 0)), (1, .int v1)] [] h := by
  intro n
  induction n with
  | zero =>
    intro v1 h
    exact j_none
  | succ n ih =>
    intro v1 h
    rw [ikX10_plain_32]
    refine j_iload_n (pc := 32) hX 1 rfl dX10_plain_32 ?_
    refine j_iconst (pc := 33) hX ic_2 dX10_plain_33 ?_
    refine j_cge (pc := 34) (tgt := 77) hX rfl dX10_plain_34 (fun _ => ?_) (fun _ => ?_)
    · refine j_locs [] rfl ?_
      exact hk h
    · refine j_aload_n (pc := 37) hX 0 rfl dX10_plain_37 ?_
      refine j_grd fun g26 => ?_
      refine j_onr fun b27 e28 => ?_
      refine c_getR (pc := 38) hX igX10_20_X10.1 igX10_20_X10.2 g26 e28 dX10_plain_38 ?_
      refine j_iload_n (pc := 41) hX 1 rfl dX10_plain_41 ?_
      refine j_iconst (pc := 42) hX ic_0 dX10_plain_42 ?_
      refine j_grd fun g29 => ?_
      refine c_zast (pc := 43) (n := (gT (iV h) b27).2) hX (Or.inl rfl) (kA_of g29) dX10_plain_43 (fun h30 qz31 qz32 => ?_)
      refine j_aload_n (pc := 44) hX 0 rfl dX10_plain_44 ?_
      refine j_grd fun g33 => ?_
      refine j_onr fun b34 e35 => ?_
      refine c_getR (pc := 45) hX igX10_24_X10.1 igX10_24_X10.2 g33 e35 dX10_plain_45 ?_
      refine j_iconst (pc := 48) hX ic_2 dX10_plain_48 ?_
      refine j_iload_n (pc := 49) hX 1 rfl dX10_plain_49 ?_
      refine j_iadd (pc := 50) hX dX10_plain_50 ?_
      refine j_iload_n (pc := 51) hX 1 rfl dX10_plain_51 ?_
      refine j_jon (fun (j36 : Int32 → Option (Unit × HP)) => ∀ (s37 : Int32), jG iV X evV rr (j36 s37) 61 [(0, .ref (xz X + 0)), (1, .int v1)] [.int s37, .int ((2 : Int32) + v1), .ref (xz X + b34)] h30) ?_ ?_
      · intro s37
        refine j_grd fun g38 => ?_
        refine c_iast (pc := 61) (n := (gT (iV h30) b34).2) hX (kA_of g38) dX10_plain_61 (fun h39 qz40 qz41 => ?_)
        refine j_aload_n (pc := 62) hX 0 rfl dX10_plain_62 ?_
        refine j_grd fun g42 => ?_
        refine j_onr fun b43 e44 => ?_
        refine c_getR (pc := 63) hX igX10_69_X10.1 igX10_69_X10.2 g42 e44 dX10_plain_63 ?_
        refine j_iconst (pc := 66) hX ic_2 dX10_plain_66 ?_
        refine j_iload_n (pc := 67) hX 1 rfl dX10_plain_67 ?_
        refine j_iadd (pc := 68) hX dX10_plain_68 ?_
        refine j_iconst (pc := 69) hX ic_0 dX10_plain_69 ?_
        refine j_grd fun g45 => ?_
        refine c_zast (pc := 70) (n := (gT (iV h39) b43).2) hX (Or.inl rfl) (kA_of g45) dX10_plain_70 (fun h46 qz47 qz48 => ?_)
        refine j_iinc (pc := 71) hX 1 rfl (1 : Int32) ic_1 (fun x49 => [(1, .int x49), (0, .ref (xz X + 0))]) (fun _ => rfl) (Nat.le_of_ble_eq_true rfl) dX10_plain_71 (fun x49 => ?_)
        refine j_goto (pc := 74) (tgt := 32) hX rfl dX10_plain_74 ?_
        refine j_locs [1, 0] rfl ?_
        exact ih x49 h46
      · intro j36 hj36
        refine j_ifne (pc := 52) (tgt := 60) hX rfl dX10_plain_52 (fun _ => ?_) (fun _ => ?_)
        · refine j_bipush (pc := 55) hX bp_9 dX10_plain_55 ?_
          refine j_goto (pc := 57) (tgt := 61) hX rfl dX10_plain_57 ?_
          exact hj36 (9 : Int32)
        · refine j_iconst (pc := 60) hX ic_0 dX10_plain_60 ?_
          exact hj36 (0 : Int32)
set_option maxHeartbeats 4000000 in
set_option maxRecDepth 100000 in
theorem ikX10_plain_t    (h : HP) (rr : Unit × HP) (e : ikX10_plain  h = some rr) : Cn iV yX10_plain (ws_ yX10_plain cX10_plain 2 (none)) 1 0 (fun z => [.ref (z + 0)]) h (fun z => eV z rr.1) rr.2 := by
  refine cn_of (e1 := eV) (fun z => [(0, .ref (z + 0))]) iV_ok (ikX10_plain_m  h _ e) ymX10_plain (fun _ => rfl) (fun _ => Nat.le_of_ble_eq_true rfl) (fun X hX hr hnm => ?_) e
  have hX : okX iV X rr cX10_plain RX10 2 1 0 := hX
  rw [ikX10_plain]
  refine j_aload_n (pc := 0) hX 0 rfl dX10_plain_0 ?_
  refine j_iconst (pc := 1) hX ic_0 dX10_plain_1 ?_
  refine j_grd fun g1 => ?_
  refine c_putI (pc := 2) hX iwX10_210_X10.1 iwX10_210_X10.2 g1 dX10_plain_2 (fun h2 qz3 qz4 => ?_)
  refine j_aload_n (pc := 5) hX 0 rfl dX10_plain_5 ?_
  refine j_iconst (pc := 6) hX ic_0 dX10_plain_6 ?_
  refine j_grd fun g5 => ?_
  refine c_putI (pc := 7) hX iwX10_213_X10.1 iwX10_213_X10.2 g5 dX10_plain_7 (fun h6 qz7 qz8 => ?_)
  refine j_aload_n (pc := 10) hX 0 rfl dX10_plain_10 ?_
  refine j_iconst (pc := 11) hX ic_0 dX10_plain_11 ?_
  refine j_grd fun g9 => ?_
  refine c_putI (pc := 12) hX iwX10_216_X10.1 iwX10_216_X10.2 g9 dX10_plain_12 (fun h10 qz11 qz12 => ?_)
  refine j_aload_n (pc := 15) hX 0 rfl dX10_plain_15 ?_
  refine j_iconst (pc := 16) hX ic_0 dX10_plain_16 ?_
  refine j_grd fun g13 => ?_
  refine c_putI (pc := 17) hX iwX10_219_X10.1 iwX10_219_X10.2 g13 dX10_plain_17 (fun h14 qz15 qz16 => ?_)
  refine j_aload_n (pc := 20) hX 0 rfl dX10_plain_20 ?_
  refine j_iconst (pc := 21) hX ic_0 dX10_plain_21 ?_
  refine j_grd fun g17 => ?_
  refine c_putI (pc := 22) hX iwX10_222_X10.1 iwX10_222_X10.2 g17 dX10_plain_22 (fun h18 qz19 qz20 => ?_)
  refine j_aload_n (pc := 25) hX 0 rfl dX10_plain_25 ?_
  refine j_iconst (pc := 26) hX ic_0 dX10_plain_26 ?_
  refine j_grd fun g21 => ?_
  refine c_putI (pc := 27) hX iwX10_225_X10.1 iwX10_225_X10.2 g21 dX10_plain_27 (fun h22 qz23 qz24 => ?_)
  refine j_iconst (pc := 30) hX ic_0 dX10_plain_30 ?_
  refine j_istore_n (pc := 31) hX (fun x25 => [(1, .int x25), (0, .ref (xz X + 0))]) (fun _ => rfl) (Nat.le_of_ble_eq_true rfl) dX10_plain_31 (fun x25 => ?_)
  refine j_locs [1, 0] rfl ?_
  refine ikX10_plain_32_w hX hr  _ (fun  h50 => ?_) FU x25 h22
  exact j_vret (pc := 77) hX hr dX10_plain_77
set_option maxHeartbeats 4000000 in
set_option maxRecDepth 100000 in
theorem ikX10_copies_2_w {X : CTX} {rr : Unit × HP}  (hX : okX iV X rr cX10_copies RX10 3 1 0) (hr : (xh X).sig.returnType = none) (f0 : Nat) (f1 : Int32) (k : HP → Option (Unit × HP)) (hk : ∀  (h : HP), jG iV X evV rr (k  h) 21 [] [] h) : ∀ (n : Nat) (v2 : Int32) (h : HP), jG iV X evV rr (ikX10_copies_2 f0 f1 k n v2 h) 2 [(0, .ref (xz X + f0)), (1, .int f1), (2, .int v2)] [] h := by
  intro n
  induction n with
  | zero =>
    intro v2 h
    exact j_none
  | succ n ih =>
    intro v2 h
    rw [ikX10_copies_2]
    refine j_iload_n (pc := 2) hX 2 rfl dX10_copies_2 ?_
    refine j_iload_n (pc := 3) hX 1 rfl dX10_copies_3 ?_
    refine j_cge (pc := 4) (tgt := 21) hX rfl dX10_copies_4 (fun _ => ?_) (fun _ => ?_)
    · refine j_locs [] rfl ?_
      exact hk h
    · refine j_aload_n (pc := 7) hX 0 rfl dX10_copies_7 ?_
      refine j_iload_n (pc := 8) hX 2 rfl dX10_copies_8 ?_
      refine j_aload_n (pc := 9) hX 0 rfl dX10_copies_9 ?_
      refine j_iload_n (pc := 10) hX 1 rfl dX10_copies_10 ?_
      refine j_iload_n (pc := 11) hX 2 rfl dX10_copies_11 ?_
      refine j_iadd (pc := 12) hX dX10_copies_12 ?_
      refine j_grd fun g2 => ?_
      refine j_iald (pc := 13) (n := (gT (iV h) f0).2) hX (kA_of g2) dX10_copies_13 (fun _ => ?_)
      refine c_iast (pc := 14) (n := (gT (iV h) f0).2) hX (kA_of g2) dX10_copies_14 (fun h3 qz4 qz5 => ?_)
      refine j_iinc (pc := 15) hX 2 rfl (1 : Int32) ic_1 (fun x6 => [(2, .int x6), (0, .ref (xz X + f0)), (1, .int f1)]) (fun _ => rfl) (Nat.le_of_ble_eq_true rfl) dX10_copies_15 (fun x6 => ?_)
      refine j_goto (pc := 18) (tgt := 2) hX rfl dX10_copies_18 ?_
      refine j_locs [1, 2, 0] rfl ?_
      exact ih x6 h3
set_option maxHeartbeats 4000000 in
set_option maxRecDepth 100000 in
theorem ikX10_copies_t   (a1 : Nat) (a2 : Int32) (h : HP) (rr : Unit × HP) (e : ikX10_copies a1 a2 h = some rr) : Cn iV yX10_copies (ws_ yX10_copies cX10_copies 3 (none)) 1 0 (fun z => [.ref (z + a1), .int a2]) h (fun z => eV z rr.1) rr.2 := by
  refine cn_of (e1 := eV) (fun z => [(0, .ref (z + a1)), (1, .int a2)]) iV_ok (ikX10_copies_m a1 a2 h _ e) ymX10_copies (fun _ => rfl) (fun _ => Nat.le_of_ble_eq_true rfl) (fun X hX hr hnm => ?_) e
  have hX : okX iV X rr cX10_copies RX10 3 1 0 := hX
  rw [ikX10_copies]
  refine j_iconst (pc := 0) hX ic_0 dX10_copies_0 ?_
  refine j_istore_n (pc := 1) hX (fun x1 => [(2, .int x1), (0, .ref (xz X + a1)), (1, .int a2)]) (fun _ => rfl) (Nat.le_of_ble_eq_true rfl) dX10_copies_1 (fun x1 => ?_)
  refine j_locs [1, 2, 0] rfl ?_
  refine ikX10_copies_2_w hX hr a1 a2 _ (fun  h7 => ?_) FU x1 h
  exact j_vret (pc := 21) hX hr dX10_copies_21
set_option maxHeartbeats 4000000 in
set_option maxRecDepth 100000 in
theorem ikX10_atFirst_2_w {X : CTX} {rr : Unit × HP}  (hX : okX iV X rr cX10_atFirst RX10 3 1 0) (hr : (xh X).sig.returnType = none) (f1 : Int32) (k : HP → Option (Unit × HP)) (hk : ∀  (h : HP), jG iV X evV rr (k  h) 79 [(0, .ref (xz X + 0)), (1, .int f1)] [] h) : ∀ (n : Nat) (v2 : Int32) (h : HP), jG iV X evV rr (ikX10_atFirst_2 f1 k n v2 h) 2 [(0, .ref (xz X + 0)), (1, .int f1), (2, .int v2)] [] h := by
  intro n
  induction n with
  | zero =>
    intro v2 h
    exact j_none
  | succ n ih =>
    intro v2 h
    rw [ikX10_atFirst_2]
    refine j_iload_n (pc := 2) hX 2 rfl dX10_atFirst_2 ?_
    refine j_iconst (pc := 3) hX ic_5 dX10_atFirst_3 ?_
    refine j_cge (pc := 4) (tgt := 79) hX rfl dX10_atFirst_4 (fun _ => ?_) (fun _ => ?_)
    · refine j_locs [0, 1] rfl ?_
      exact hk h
    · refine j_aload_n (pc := 7) hX 0 rfl dX10_atFirst_7 ?_
      refine j_grd fun g2 => ?_
      refine j_onr fun b3 e4 => ?_
      refine c_getR (pc := 8) hX igX10_100_X10.1 igX10_100_X10.2 g2 e4 dX10_atFirst_8 ?_
      refine j_iconst (pc := 11) hX ic_5 dX10_atFirst_11 ?_
      refine j_iload_n (pc := 12) hX 1 rfl dX10_atFirst_12 ?_
      refine j_imul (pc := 13) hX dX10_atFirst_13 ?_
      refine j_iload_n (pc := 14) hX 2 rfl dX10_atFirst_14 ?_
      refine j_iadd (pc := 15) hX dX10_atFirst_15 ?_
      refine j_iload_n (pc := 16) hX 2 rfl dX10_atFirst_16 ?_
      refine j_aload_n (pc := 17) hX 0 rfl dX10_atFirst_17 ?_
      refine c_getI (pc := 18) hX igX10_231_X10.1 igX10_231_X10.2 g2 dX10_atFirst_18 ?_
      refine j_jon (fun (j5 : Int32 → Option (Unit × HP)) => ∀ (s6 : Int32), jG iV X evV rr (j5 s6) 34 [(0, .ref (xz X + 0)), (1, .int f1), (2, .int v2)] [.int s6, .int (((5 : Int32) * f1) + v2), .ref (xz X + b3)] h) ?_ ?_
      · intro s6
        refine j_grd fun g7 => ?_
        refine c_iast (pc := 34) (n := (gT (iV h) b3).2) hX (kA_of g7) dX10_atFirst_34 (fun h8 qz9 qz10 => ?_)
        refine j_aload_n (pc := 35) hX 0 rfl dX10_atFirst_35 ?_
        refine j_grd fun g11 => ?_
        refine j_onr fun b12 e13 => ?_
        refine c_getR (pc := 36) hX igX10_103_X10.1 igX10_103_X10.2 g11 e13 dX10_atFirst_36 ?_
        refine j_iconst (pc := 39) hX ic_5 dX10_atFirst_39 ?_
        refine j_iload_n (pc := 40) hX 1 rfl dX10_atFirst_40 ?_
        refine j_imul (pc := 41) hX dX10_atFirst_41 ?_
        refine j_iload_n (pc := 42) hX 2 rfl dX10_atFirst_42 ?_
        refine j_iadd (pc := 43) hX dX10_atFirst_43 ?_
        refine j_iconst (pc := 44) hX ic_0 dX10_atFirst_44 ?_
        refine j_grd fun g14 => ?_
        refine c_iast (pc := 45) (n := (gT (iV h8) b12).2) hX (kA_of g14) dX10_atFirst_45 (fun h15 qz16 qz17 => ?_)
        refine j_aload_n (pc := 46) hX 0 rfl dX10_atFirst_46 ?_
        refine j_grd fun g18 => ?_
        refine j_onr fun b19 e20 => ?_
        refine c_getR (pc := 47) hX igX10_106_X10.1 igX10_106_X10.2 g18 e20 dX10_atFirst_47 ?_
        refine j_iconst (pc := 50) hX ic_5 dX10_atFirst_50 ?_
        refine j_iload_n (pc := 51) hX 1 rfl dX10_atFirst_51 ?_
        refine j_imul (pc := 52) hX dX10_atFirst_52 ?_
        refine j_iload_n (pc := 53) hX 2 rfl dX10_atFirst_53 ?_
        refine j_iadd (pc := 54) hX dX10_atFirst_54 ?_
        refine j_aload_n (pc := 55) hX 0 rfl dX10_atFirst_55 ?_
        refine j_onr fun b21 e22 => ?_
        refine c_getR (pc := 56) hX igX10_39_X10.1 igX10_39_X10.2 g18 e22 dX10_atFirst_56 ?_
        refine j_iload_n (pc := 59) hX 2 rfl dX10_atFirst_59 ?_
        refine j_grd fun g23 => ?_
        refine j_iald (pc := 60) (n := (gT (iV h15) b21).2) hX (kA_of g23) dX10_atFirst_60 (fun _ => ?_)
        refine j_grd fun g24 => ?_
        refine c_iast (pc := 61) (n := (gT (iV h15) b19).2) hX (kA_of g24) dX10_atFirst_61 (fun h25 qz26 qz27 => ?_)
        refine j_aload_n (pc := 62) hX 0 rfl dX10_atFirst_62 ?_
        refine j_grd fun g28 => ?_
        refine j_onr fun b29 e30 => ?_
        refine c_getR (pc := 63) hX igX10_109_X10.1 igX10_109_X10.2 g28 e30 dX10_atFirst_63 ?_
        refine j_iconst (pc := 66) hX ic_5 dX10_atFirst_66 ?_
        refine j_iload_n (pc := 67) hX 1 rfl dX10_atFirst_67 ?_
        refine j_imul (pc := 68) hX dX10_atFirst_68 ?_
        refine j_iload_n (pc := 69) hX 2 rfl dX10_atFirst_69 ?_
        refine j_iadd (pc := 70) hX dX10_atFirst_70 ?_
        refine j_iconst (pc := 71) hX ic_0 dX10_atFirst_71 ?_
        refine j_grd fun g31 => ?_
        refine c_iast (pc := 72) (n := (gT (iV h25) b29).2) hX (kA_of g31) dX10_atFirst_72 (fun h32 qz33 qz34 => ?_)
        refine j_iinc (pc := 73) hX 2 rfl (1 : Int32) ic_1 (fun x35 => [(2, .int x35), (0, .ref (xz X + 0)), (1, .int f1)]) (fun _ => rfl) (Nat.le_of_ble_eq_true rfl) dX10_atFirst_73 (fun x35 => ?_)
        refine j_goto (pc := 76) (tgt := 2) hX rfl dX10_atFirst_76 ?_
        refine j_locs [1, 2, 0] rfl ?_
        exact ih x35 h32
      · intro j5 hj5
        refine j_cge (pc := 21) (tgt := 33) hX rfl dX10_atFirst_21 (fun _ => ?_) (fun _ => ?_)
        · refine j_iconst (pc := 33) hX ic_0 dX10_atFirst_33 ?_
          exact hj5 (0 : Int32)
        · refine j_aload_n (pc := 24) hX 0 rfl dX10_atFirst_24 ?_
          refine j_onr fun b36 e37 => ?_
          refine c_getR (pc := 25) hX igX10_42_X10.1 igX10_42_X10.2 g2 e37 dX10_atFirst_25 ?_
          refine j_iload_n (pc := 28) hX 2 rfl dX10_atFirst_28 ?_
          refine j_grd fun g38 => ?_
          refine j_iald (pc := 29) (n := (gT (iV h) b36).2) hX (kA_of g38) dX10_atFirst_29 (fun _ => ?_)
          refine j_goto (pc := 30) (tgt := 34) hX rfl dX10_atFirst_30 ?_
          exact hj5 (gI h b36 (v2).toNatClampNeg)
set_option maxHeartbeats 4000000 in
set_option maxRecDepth 100000 in
theorem ikX10_atFirst_t   (a1 : Int32) (h : HP) (rr : Unit × HP) (e : ikX10_atFirst a1 h = some rr) : Cn iV yX10_atFirst (ws_ yX10_atFirst cX10_atFirst 3 (none)) 1 0 (fun z => [.ref (z + 0), .int a1]) h (fun z => eV z rr.1) rr.2 := by
  refine cn_of (e1 := eV) (fun z => [(0, .ref (z + 0)), (1, .int a1)]) iV_ok (ikX10_atFirst_m a1 h _ e) ymX10_atFirst (fun _ => rfl) (fun _ => Nat.le_of_ble_eq_true rfl) (fun X hX hr hnm => ?_) e
  have hX : okX iV X rr cX10_atFirst RX10 3 1 0 := hX
  rw [ikX10_atFirst]
  refine j_iconst (pc := 0) hX ic_0 dX10_atFirst_0 ?_
  refine j_istore_n (pc := 1) hX (fun x1 => [(2, .int x1), (0, .ref (xz X + 0)), (1, .int a1)]) (fun _ => rfl) (Nat.le_of_ble_eq_true rfl) dX10_atFirst_1 (fun x1 => ?_)
  refine j_locs [1, 2, 0] rfl ?_
  refine ikX10_atFirst_2_w hX hr a1 _ (fun  h39 => ?_) FU x1 h
  refine j_aload_n (pc := 79) hX 0 rfl dX10_atFirst_79 ?_
  refine j_grd fun g40 => ?_
  refine j_onr fun b41 e42 => ?_
  refine c_getR (pc := 80) hX igX10_112_X10.1 igX10_112_X10.2 g40 e42 dX10_atFirst_80 ?_
  refine j_iload_n (pc := 83) hX 1 rfl dX10_atFirst_83 ?_
  refine j_iconst (pc := 84) hX ic_0 dX10_atFirst_84 ?_
  refine j_grd fun g43 => ?_
  refine c_iast (pc := 85) (n := (gT (iV h39) b41).2) hX (kA_of g43) dX10_atFirst_85 (fun h44 qz45 qz46 => ?_)
  exact j_vret (pc := 86) hX hr dX10_atFirst_86
set_option maxHeartbeats 4000000 in
set_option maxRecDepth 100000 in
theorem ikX10_plainTried_t    (h : HP) (rr : Unit × HP) (e : ikX10_plainTried  h = some rr) : Cn iV yX10_plainTried (ws_ yX10_plainTried cX10_plainTried 1 (none)) 1 0 (fun z => [.ref (z + 0)]) h (fun z => eV z rr.1) rr.2 := by
  refine cn_of (e1 := eV) (fun z => [(0, .ref (z + 0))]) iV_ok (ikX10_plainTried_m  h _ e) ymX10_plainTried (fun _ => rfl) (fun _ => Nat.le_of_ble_eq_true rfl) (fun X hX hr hnm => ?_) e
  have hX : okX iV X rr cX10_plainTried RX10 1 1 0 := hX
  rw [ikX10_plainTried]
  refine j_aload_n (pc := 0) hX 0 rfl dX10_plainTried_0 ?_
  refine j_iconst (pc := 1) hX ic_0 dX10_plainTried_1 ?_
  refine j_grd fun g1 => ?_
  refine c_putZ (pc := 2) hX (Or.inl rfl) iwX10_383_X10.1 iwX10_383_X10.2 g1 dX10_plainTried_2 (fun h2 qz3 qz4 => ?_)
  refine j_aload_n (pc := 5) hX 0 rfl dX10_plainTried_5 ?_
  refine j_iconst (pc := 6) hX ic_0 dX10_plainTried_6 ?_
  refine j_grd fun g5 => ?_
  refine c_putZ (pc := 7) hX (Or.inl rfl) iwX10_386_X10.1 iwX10_386_X10.2 g5 dX10_plainTried_7 (fun h6 qz7 qz8 => ?_)
  refine j_aload_n (pc := 10) hX 0 rfl dX10_plainTried_10 ?_
  refine j_iconst (pc := 11) hX ic_0 dX10_plainTried_11 ?_
  refine j_grd fun g9 => ?_
  refine c_putZ (pc := 12) hX (Or.inl rfl) iwX10_389_X10.1 iwX10_389_X10.2 g9 dX10_plainTried_12 (fun h10 qz11 qz12 => ?_)
  refine j_aload_n (pc := 15) hX 0 rfl dX10_plainTried_15 ?_
  refine j_iconst (pc := 16) hX ic_0 dX10_plainTried_16 ?_
  refine j_grd fun g13 => ?_
  refine c_putZ (pc := 17) hX (Or.inl rfl) iwX10_392_X10.1 iwX10_392_X10.2 g13 dX10_plainTried_17 (fun h14 qz15 qz16 => ?_)
  refine j_aload_n (pc := 20) hX 0 rfl dX10_plainTried_20 ?_
  refine j_iconst (pc := 21) hX ic_0 dX10_plainTried_21 ?_
  refine j_grd fun g17 => ?_
  refine c_putI (pc := 22) hX iwX10_395_X10.1 iwX10_395_X10.2 g17 dX10_plainTried_22 (fun h18 qz19 qz20 => ?_)
  refine j_aload_n (pc := 25) hX 0 rfl dX10_plainTried_25 ?_
  refine j_iconst (pc := 26) hX ic_m1 dX10_plainTried_26 ?_
  refine j_grd fun g21 => ?_
  refine c_putI (pc := 27) hX iwX10_398_X10.1 iwX10_398_X10.2 g21 dX10_plainTried_27 (fun h22 qz23 qz24 => ?_)
  exact j_vret (pc := 30) hX hr dX10_plainTried_30
set_option maxHeartbeats 4000000 in
set_option maxRecDepth 100000 in
theorem ikX10_begin_t    (h : HP) (rr : Unit × HP) (e : ikX10_begin  h = some rr) : Cn iV yX10_begin (ws_ yX10_begin cX10_begin 1 (none)) 2 22 (fun z => [.ref (z + 0)]) h (fun z => eV z rr.1) rr.2 := by
  refine cn_of (e1 := eV) (fun z => [(0, .ref (z + 0))]) iV_ok (ikX10_begin_m  h _ e) ymX10_begin (fun _ => rfl) (fun _ => Nat.le_of_ble_eq_true rfl) (fun X hX hr hnm => ?_) e
  have hX : okX iV X rr cX10_begin RX10 1 2 22 := hX
  rw [ikX10_begin]
  refine j_aload_n (pc := 0) hX 0 rfl dX10_begin_0 ?_
  refine j_iconst (pc := 1) hX ic_0 dX10_begin_1 ?_
  refine j_grd fun g3 => ?_
  refine j_callV (pc := 2) (e1 := eV) (a := 0) (As := fun z => [.int (0 : Int32)]) (rest := []) hX (fun r e => ikX10_atFirst_t (0 : Int32) h r e) ymX10_atFirst (lw_V q1599 q1601 qs65 q154 q1602) rfl ckX10 g3 ⟨Nat.le_of_ble_eq_true rfl, Nat.le_of_ble_eq_true rfl⟩ rfl rfl (Nat.le_of_ble_eq_true rfl) dX10_begin_2 (fun r1 h2 => ?_)
  refine j_aload_n (pc := 5) hX 0 rfl dX10_begin_5 ?_
  refine j_iconst (pc := 6) hX ic_0 dX10_begin_6 ?_
  refine j_grd fun g4 => ?_
  refine c_putI (pc := 7) hX iwX10_364_X10.1 iwX10_364_X10.2 g4 dX10_begin_7 (fun h5 qz6 qz7 => ?_)
  refine j_aload_n (pc := 10) hX 0 rfl dX10_begin_10 ?_
  refine j_aload_n (pc := 11) hX 0 rfl dX10_begin_11 ?_
  refine j_grd fun g8 => ?_
  refine j_onr fun b9 e10 => ?_
  refine c_getR (pc := 12) hX igX10_24_X10.1 igX10_24_X10.2 g8 e10 dX10_begin_12 ?_
  refine j_iconst (pc := 15) hX ic_1 dX10_begin_15 ?_
  refine j_grd fun g11 => ?_
  refine j_iald (pc := 16) (n := (gT (iV h5) b9).2) hX (kA_of g11) dX10_begin_16 (fun _ => ?_)
  refine j_i2l (pc := 17) hX dX10_begin_17 ?_
  refine j_putL (pc := 18) hX iwX10_367_X10.1 iwX10_367_X10.2 g8 dX10_begin_18 (fun h12 => ?_)
  refine j_aload_n (pc := 21) hX 0 rfl dX10_begin_21 ?_
  refine j_grd fun g17 => ?_
  refine j_callV (pc := 22) (e1 := eV) (a := 0) (As := fun z => []) (rest := []) hX (fun r e => ikX10_plainTried_t h12 r e) ymX10_plainTried (lw_V q1603 q1605 qs66 q154 q1606) rfl ckX10 g17 ⟨Nat.le_of_ble_eq_true rfl, Nat.le_of_ble_eq_true rfl⟩ rfl rfl (Nat.le_of_ble_eq_true rfl) dX10_begin_22 (fun r15 h16 => ?_)
  refine j_aload_n (pc := 25) hX 0 rfl dX10_begin_25 ?_
  refine j_iconst (pc := 26) hX ic_0 dX10_begin_26 ?_
  refine j_grd fun g18 => ?_
  refine c_putI (pc := 27) hX iwX10_374_X10.1 iwX10_374_X10.2 g18 dX10_begin_27 (fun h19 qz20 qz21 => ?_)
  refine j_aload_n (pc := 30) hX 0 rfl dX10_begin_30 ?_
  refine j_iconst (pc := 31) hX ic_m1 dX10_begin_31 ?_
  refine j_grd fun g22 => ?_
  refine c_putI (pc := 32) hX iwX10_124_X10.1 iwX10_124_X10.2 g22 dX10_begin_32 (fun h23 qz24 qz25 => ?_)
  refine j_aload_n (pc := 35) hX 0 rfl dX10_begin_35 ?_
  refine j_iconst (pc := 36) hX ic_0 dX10_begin_36 ?_
  refine j_grd fun g26 => ?_
  refine c_putI (pc := 37) hX iwX10_377_X10.1 iwX10_377_X10.2 g26 dX10_begin_37 (fun h27 qz28 qz29 => ?_)
  refine j_aload_n (pc := 40) hX 0 rfl dX10_begin_40 ?_
  refine j_iconst (pc := 41) hX ic_0 dX10_begin_41 ?_
  refine j_grd fun g30 => ?_
  refine c_putZ (pc := 42) hX (Or.inl rfl) iwX10_380_X10.1 iwX10_380_X10.2 g30 dX10_begin_42 (fun h31 qz32 qz33 => ?_)
  exact j_vret (pc := 45) hX hr dX10_begin_45
set_option maxHeartbeats 4000000 in
set_option maxRecDepth 100000 in
theorem ikX10_keepText_171_w {X : CTX} {rr : Unit × HP}  (hX : okX iV X rr cX10_keepText RX10 2 3 42) (hr : (xh X).sig.returnType = none)  (k : HP → Option (Unit × HP)) (hk : ∀  (h : HP), jG iV X evV rr (k  h) 196 [(0, .ref (xz X + 0))] [] h) : ∀ (n : Nat) (v1 : Int32) (h : HP), jG iV X evV rr (ikX10_keepText_171 k n v1 h) 171 [(0, .ref (xz X + 0)), (1, .int v1)] [] h := by
  intro n
  induction n with
  | zero =>
    intro v1 h
    exact j_none
  | succ n ih =>
    intro v1 h
    rw [ikX10_keepText_171]
    refine j_iload_n (pc := 171) hX 1 rfl dX10_keepText_171 ?_
    refine j_iconst (pc := 172) hX ic_2 dX10_keepText_172 ?_
    refine j_cge (pc := 173) (tgt := 196) hX rfl dX10_keepText_173 (fun _ => ?_) (fun _ => ?_)
    · refine j_locs [0] rfl ?_
      exact hk h
    · refine j_aload_n (pc := 176) hX 0 rfl dX10_keepText_176 ?_
      refine j_grd fun g97 => ?_
      refine j_onr fun b98 e99 => ?_
      refine c_getR (pc := 177) hX igX10_69_X10.1 igX10_69_X10.2 g97 e99 dX10_keepText_177 ?_
      refine j_iload_n (pc := 180) hX 1 rfl dX10_keepText_180 ?_
      refine j_aload_n (pc := 181) hX 0 rfl dX10_keepText_181 ?_
      refine j_onr fun b100 e101 => ?_
      refine c_getR (pc := 182) hX igX10_69_X10.1 igX10_69_X10.2 g97 e101 dX10_keepText_182 ?_
      refine j_iconst (pc := 185) hX ic_2 dX10_keepText_185 ?_
      refine j_iload_n (pc := 186) hX 1 rfl dX10_keepText_186 ?_
      refine j_iadd (pc := 187) hX dX10_keepText_187 ?_
      refine j_grd fun g102 => ?_
      refine j_zald (pc := 188) (n := (gT (iV h) b100).2) hX (kA_of g102) dX10_keepText_188 (fun _ => ?_)
      refine j_grd fun g103 => ?_
      refine j_grd fun g104 => ?_
      refine c_zast (pc := 189) (n := (gT (iV h) b98).2) hX g104 (kA_of g103) dX10_keepText_189 (fun h105 qz106 qz107 => ?_)
      refine j_iinc (pc := 190) hX 1 rfl (1 : Int32) ic_1 (fun x108 => [(1, .int x108), (0, .ref (xz X + 0))]) (fun _ => rfl) (Nat.le_of_ble_eq_true rfl) dX10_keepText_190 (fun x108 => ?_)
      refine j_goto (pc := 193) (tgt := 171) hX rfl dX10_keepText_193 ?_
      refine j_locs [1, 0] rfl ?_
      exact ih x108 h105
set_option maxHeartbeats 4000000 in
set_option maxRecDepth 100000 in
theorem ikX10_keepText_t    (h : HP) (rr : Unit × HP) (e : ikX10_keepText  h = some rr) : Cn iV yX10_keepText (ws_ yX10_keepText cX10_keepText 2 (none)) 3 42 (fun z => [.ref (z + 0)]) h (fun z => eV z rr.1) rr.2 := by
  refine cn_of (e1 := eV) (fun z => [(0, .ref (z + 0))]) iV_ok (ikX10_keepText_m  h _ e) ymX10_keepText (fun _ => rfl) (fun _ => Nat.le_of_ble_eq_true rfl) (fun X hX hr hnm => ?_) e
  have hX : okX iV X rr cX10_keepText RX10 2 3 42 := hX
  rw [ikX10_keepText]
  refine j_aload_n (pc := 0) hX 0 rfl dX10_keepText_0 ?_
  refine j_aload_n (pc := 1) hX 0 rfl dX10_keepText_1 ?_
  refine j_grd fun g1 => ?_
  refine c_getI (pc := 2) hX igX10_210_X10.1 igX10_210_X10.2 g1 dX10_keepText_2 ?_
  refine c_putI (pc := 5) hX iwX10_228_X10.1 iwX10_228_X10.2 g1 dX10_keepText_5 (fun h2 qz3 qz4 => ?_)
  refine j_aload_n (pc := 8) hX 0 rfl dX10_keepText_8 ?_
  refine j_aload_n (pc := 9) hX 0 rfl dX10_keepText_9 ?_
  refine j_grd fun g5 => ?_
  refine c_getI (pc := 10) hX igX10_213_X10.1 igX10_213_X10.2 g5 dX10_keepText_10 ?_
  refine c_putI (pc := 13) hX iwX10_231_X10.1 iwX10_231_X10.2 g5 dX10_keepText_13 (fun h6 qz7 qz8 => ?_)
  refine j_aload_n (pc := 16) hX 0 rfl dX10_keepText_16 ?_
  refine j_aload_n (pc := 17) hX 0 rfl dX10_keepText_17 ?_
  refine j_grd fun g9 => ?_
  refine c_getI (pc := 18) hX igX10_216_X10.1 igX10_216_X10.2 g9 dX10_keepText_18 ?_
  refine c_putI (pc := 21) hX iwX10_234_X10.1 iwX10_234_X10.2 g9 dX10_keepText_21 (fun h10 qz11 qz12 => ?_)
  refine j_aload_n (pc := 24) hX 0 rfl dX10_keepText_24 ?_
  refine j_aload_n (pc := 25) hX 0 rfl dX10_keepText_25 ?_
  refine j_grd fun g13 => ?_
  refine c_getI (pc := 26) hX igX10_219_X10.1 igX10_219_X10.2 g13 dX10_keepText_26 ?_
  refine c_putI (pc := 29) hX iwX10_237_X10.1 iwX10_237_X10.2 g13 dX10_keepText_29 (fun h14 qz15 qz16 => ?_)
  refine j_aload_n (pc := 32) hX 0 rfl dX10_keepText_32 ?_
  refine j_aload_n (pc := 33) hX 0 rfl dX10_keepText_33 ?_
  refine j_grd fun g17 => ?_
  refine c_getI (pc := 34) hX igX10_222_X10.1 igX10_222_X10.2 g17 dX10_keepText_34 ?_
  refine c_putI (pc := 37) hX iwX10_240_X10.1 iwX10_240_X10.2 g17 dX10_keepText_37 (fun h18 qz19 qz20 => ?_)
  refine j_aload_n (pc := 40) hX 0 rfl dX10_keepText_40 ?_
  refine j_grd fun g21 => ?_
  refine j_onr fun b22 e23 => ?_
  refine c_getR (pc := 41) hX igX10_24_X10.1 igX10_24_X10.2 g21 e23 dX10_keepText_41 ?_
  refine j_iconst (pc := 44) hX ic_2 dX10_keepText_44 ?_
  refine j_callS (pc := 45) (e1 := eV) (As := fun z => [.ref (z + b22), .int (2 : Int32)]) (rest := []) hX (fun r e => ikX10_copies_t b22 (2 : Int32) h18 r e) ymX10_copies (lw_S q1592 q1593 q154 q1594) ⟨Nat.le_of_ble_eq_true rfl, Nat.le_of_ble_eq_true rfl⟩ rfl rfl (Nat.le_of_ble_eq_true rfl) dX10_keepText_45 (fun r24 h25 => ?_)
  refine j_aload_n (pc := 48) hX 0 rfl dX10_keepText_48 ?_
  refine j_grd fun g26 => ?_
  refine j_onr fun b27 e28 => ?_
  refine c_getR (pc := 49) hX igX10_27_X10.1 igX10_27_X10.2 g26 e28 dX10_keepText_49 ?_
  refine j_bipush (pc := 52) hX bp_8 dX10_keepText_52 ?_
  refine j_callS (pc := 54) (e1 := eV) (As := fun z => [.ref (z + b27), .int (8 : Int32)]) (rest := []) hX (fun r e => ikX10_copies_t b27 (8 : Int32) h25 r e) ymX10_copies (lw_S q1592 q1593 q154 q1594) ⟨Nat.le_of_ble_eq_true rfl, Nat.le_of_ble_eq_true rfl⟩ rfl rfl (Nat.le_of_ble_eq_true rfl) dX10_keepText_54 (fun r29 h30 => ?_)
  refine j_aload_n (pc := 57) hX 0 rfl dX10_keepText_57 ?_
  refine j_grd fun g31 => ?_
  refine j_onr fun b32 e33 => ?_
  refine c_getR (pc := 58) hX igX10_30_X10.1 igX10_30_X10.2 g31 e33 dX10_keepText_58 ?_
  refine j_iconst (pc := 61) hX ic_5 dX10_keepText_61 ?_
  refine j_callS (pc := 62) (e1 := eV) (As := fun z => [.ref (z + b32), .int (5 : Int32)]) (rest := []) hX (fun r e => ikX10_copies_t b32 (5 : Int32) h30 r e) ymX10_copies (lw_S q1592 q1593 q154 q1594) ⟨Nat.le_of_ble_eq_true rfl, Nat.le_of_ble_eq_true rfl⟩ rfl rfl (Nat.le_of_ble_eq_true rfl) dX10_keepText_62 (fun r34 h35 => ?_)
  refine j_aload_n (pc := 65) hX 0 rfl dX10_keepText_65 ?_
  refine j_grd fun g36 => ?_
  refine j_onr fun b37 e38 => ?_
  refine c_getR (pc := 66) hX igX10_33_X10.1 igX10_33_X10.2 g36 e38 dX10_keepText_66 ?_
  refine j_iconst (pc := 69) hX ic_5 dX10_keepText_69 ?_
  refine j_callS (pc := 70) (e1 := eV) (As := fun z => [.ref (z + b37), .int (5 : Int32)]) (rest := []) hX (fun r e => ikX10_copies_t b37 (5 : Int32) h35 r e) ymX10_copies (lw_S q1592 q1593 q154 q1594) ⟨Nat.le_of_ble_eq_true rfl, Nat.le_of_ble_eq_true rfl⟩ rfl rfl (Nat.le_of_ble_eq_true rfl) dX10_keepText_70 (fun r39 h40 => ?_)
  refine j_aload_n (pc := 73) hX 0 rfl dX10_keepText_73 ?_
  refine j_grd fun g41 => ?_
  refine j_onr fun b42 e43 => ?_
  refine c_getR (pc := 74) hX igX10_36_X10.1 igX10_36_X10.2 g41 e43 dX10_keepText_74 ?_
  refine j_iconst (pc := 77) hX ic_5 dX10_keepText_77 ?_
  refine j_callS (pc := 78) (e1 := eV) (As := fun z => [.ref (z + b42), .int (5 : Int32)]) (rest := []) hX (fun r e => ikX10_copies_t b42 (5 : Int32) h40 r e) ymX10_copies (lw_S q1592 q1593 q154 q1594) ⟨Nat.le_of_ble_eq_true rfl, Nat.le_of_ble_eq_true rfl⟩ rfl rfl (Nat.le_of_ble_eq_true rfl) dX10_keepText_78 (fun r44 h45 => ?_)
  refine j_aload_n (pc := 81) hX 0 rfl dX10_keepText_81 ?_
  refine j_grd fun g46 => ?_
  refine j_onr fun b47 e48 => ?_
  refine c_getR (pc := 82) hX igX10_39_X10.1 igX10_39_X10.2 g46 e48 dX10_keepText_82 ?_
  refine j_iconst (pc := 85) hX ic_5 dX10_keepText_85 ?_
  refine j_callS (pc := 86) (e1 := eV) (As := fun z => [.ref (z + b47), .int (5 : Int32)]) (rest := []) hX (fun r e => ikX10_copies_t b47 (5 : Int32) h45 r e) ymX10_copies (lw_S q1592 q1593 q154 q1594) ⟨Nat.le_of_ble_eq_true rfl, Nat.le_of_ble_eq_true rfl⟩ rfl rfl (Nat.le_of_ble_eq_true rfl) dX10_keepText_86 (fun r49 h50 => ?_)
  refine j_aload_n (pc := 89) hX 0 rfl dX10_keepText_89 ?_
  refine j_grd fun g51 => ?_
  refine j_onr fun b52 e53 => ?_
  refine c_getR (pc := 90) hX igX10_42_X10.1 igX10_42_X10.2 g51 e53 dX10_keepText_90 ?_
  refine j_iconst (pc := 93) hX ic_5 dX10_keepText_93 ?_
  refine j_callS (pc := 94) (e1 := eV) (As := fun z => [.ref (z + b52), .int (5 : Int32)]) (rest := []) hX (fun r e => ikX10_copies_t b52 (5 : Int32) h50 r e) ymX10_copies (lw_S q1592 q1593 q154 q1594) ⟨Nat.le_of_ble_eq_true rfl, Nat.le_of_ble_eq_true rfl⟩ rfl rfl (Nat.le_of_ble_eq_true rfl) dX10_keepText_94 (fun r54 h55 => ?_)
  refine j_aload_n (pc := 97) hX 0 rfl dX10_keepText_97 ?_
  refine j_grd fun g56 => ?_
  refine j_onr fun b57 e58 => ?_
  refine c_getR (pc := 98) hX igX10_45_X10.1 igX10_45_X10.2 g56 e58 dX10_keepText_98 ?_
  refine j_bipush (pc := 101) hX bp_8 dX10_keepText_101 ?_
  refine j_callS (pc := 103) (e1 := eV) (As := fun z => [.ref (z + b57), .int (8 : Int32)]) (rest := []) hX (fun r e => ikX10_copies_t b57 (8 : Int32) h55 r e) ymX10_copies (lw_S q1592 q1593 q154 q1594) ⟨Nat.le_of_ble_eq_true rfl, Nat.le_of_ble_eq_true rfl⟩ rfl rfl (Nat.le_of_ble_eq_true rfl) dX10_keepText_103 (fun r59 h60 => ?_)
  refine j_aload_n (pc := 106) hX 0 rfl dX10_keepText_106 ?_
  refine j_grd fun g61 => ?_
  refine j_onr fun b62 e63 => ?_
  refine c_getR (pc := 107) hX igX10_48_X10.1 igX10_48_X10.2 g61 e63 dX10_keepText_107 ?_
  refine j_bipush (pc := 110) hX bp_8 dX10_keepText_110 ?_
  refine j_callS (pc := 112) (e1 := eV) (As := fun z => [.ref (z + b62), .int (8 : Int32)]) (rest := []) hX (fun r e => ikX10_copies_t b62 (8 : Int32) h60 r e) ymX10_copies (lw_S q1592 q1593 q154 q1594) ⟨Nat.le_of_ble_eq_true rfl, Nat.le_of_ble_eq_true rfl⟩ rfl rfl (Nat.le_of_ble_eq_true rfl) dX10_keepText_112 (fun r64 h65 => ?_)
  refine j_aload_n (pc := 115) hX 0 rfl dX10_keepText_115 ?_
  refine j_grd fun g66 => ?_
  refine j_onr fun b67 e68 => ?_
  refine c_getR (pc := 116) hX igX10_51_X10.1 igX10_51_X10.2 g66 e68 dX10_keepText_116 ?_
  refine j_bipush (pc := 119) hX bp_8 dX10_keepText_119 ?_
  refine j_callS (pc := 121) (e1 := eV) (As := fun z => [.ref (z + b67), .int (8 : Int32)]) (rest := []) hX (fun r e => ikX10_copies_t b67 (8 : Int32) h65 r e) ymX10_copies (lw_S q1592 q1593 q154 q1594) ⟨Nat.le_of_ble_eq_true rfl, Nat.le_of_ble_eq_true rfl⟩ rfl rfl (Nat.le_of_ble_eq_true rfl) dX10_keepText_121 (fun r69 h70 => ?_)
  refine j_aload_n (pc := 124) hX 0 rfl dX10_keepText_124 ?_
  refine j_grd fun g71 => ?_
  refine j_onr fun b72 e73 => ?_
  refine c_getR (pc := 125) hX igX10_54_X10.1 igX10_54_X10.2 g71 e73 dX10_keepText_125 ?_
  refine j_bipush (pc := 128) hX bp_8 dX10_keepText_128 ?_
  refine j_callS (pc := 130) (e1 := eV) (As := fun z => [.ref (z + b72), .int (8 : Int32)]) (rest := []) hX (fun r e => ikX10_copies_t b72 (8 : Int32) h70 r e) ymX10_copies (lw_S q1592 q1593 q154 q1594) ⟨Nat.le_of_ble_eq_true rfl, Nat.le_of_ble_eq_true rfl⟩ rfl rfl (Nat.le_of_ble_eq_true rfl) dX10_keepText_130 (fun r74 h75 => ?_)
  refine j_aload_n (pc := 133) hX 0 rfl dX10_keepText_133 ?_
  refine j_grd fun g76 => ?_
  refine j_onr fun b77 e78 => ?_
  refine c_getR (pc := 134) hX igX10_57_X10.1 igX10_57_X10.2 g76 e78 dX10_keepText_134 ?_
  refine j_bipush (pc := 137) hX bp_8 dX10_keepText_137 ?_
  refine j_callS (pc := 139) (e1 := eV) (As := fun z => [.ref (z + b77), .int (8 : Int32)]) (rest := []) hX (fun r e => ikX10_copies_t b77 (8 : Int32) h75 r e) ymX10_copies (lw_S q1592 q1593 q154 q1594) ⟨Nat.le_of_ble_eq_true rfl, Nat.le_of_ble_eq_true rfl⟩ rfl rfl (Nat.le_of_ble_eq_true rfl) dX10_keepText_139 (fun r79 h80 => ?_)
  refine j_aload_n (pc := 142) hX 0 rfl dX10_keepText_142 ?_
  refine j_grd fun g81 => ?_
  refine j_onr fun b82 e83 => ?_
  refine c_getR (pc := 143) hX igX10_60_X10.1 igX10_60_X10.2 g81 e83 dX10_keepText_143 ?_
  refine j_bipush (pc := 146) hX bp_10 dX10_keepText_146 ?_
  refine j_callS (pc := 148) (e1 := eV) (As := fun z => [.ref (z + b82), .int (10 : Int32)]) (rest := []) hX (fun r e => ikX10_copies_t b82 (10 : Int32) h80 r e) ymX10_copies (lw_S q1592 q1593 q154 q1594) ⟨Nat.le_of_ble_eq_true rfl, Nat.le_of_ble_eq_true rfl⟩ rfl rfl (Nat.le_of_ble_eq_true rfl) dX10_keepText_148 (fun r84 h85 => ?_)
  refine j_aload_n (pc := 151) hX 0 rfl dX10_keepText_151 ?_
  refine j_grd fun g86 => ?_
  refine j_onr fun b87 e88 => ?_
  refine c_getR (pc := 152) hX igX10_63_X10.1 igX10_63_X10.2 g86 e88 dX10_keepText_152 ?_
  refine j_bipush (pc := 155) hX bp_10 dX10_keepText_155 ?_
  refine j_callS (pc := 157) (e1 := eV) (As := fun z => [.ref (z + b87), .int (10 : Int32)]) (rest := []) hX (fun r e => ikX10_copies_t b87 (10 : Int32) h85 r e) ymX10_copies (lw_S q1592 q1593 q154 q1594) ⟨Nat.le_of_ble_eq_true rfl, Nat.le_of_ble_eq_true rfl⟩ rfl rfl (Nat.le_of_ble_eq_true rfl) dX10_keepText_157 (fun r89 h90 => ?_)
  refine j_aload_n (pc := 160) hX 0 rfl dX10_keepText_160 ?_
  refine j_grd fun g91 => ?_
  refine j_onr fun b92 e93 => ?_
  refine c_getR (pc := 161) hX igX10_66_X10.1 igX10_66_X10.2 g91 e93 dX10_keepText_161 ?_
  refine j_bipush (pc := 164) hX bp_10 dX10_keepText_164 ?_
  refine j_callS (pc := 166) (e1 := eV) (As := fun z => [.ref (z + b92), .int (10 : Int32)]) (rest := []) hX (fun r e => ikX10_copies_t b92 (10 : Int32) h90 r e) ymX10_copies (lw_S q1592 q1593 q154 q1594) ⟨Nat.le_of_ble_eq_true rfl, Nat.le_of_ble_eq_true rfl⟩ rfl rfl (Nat.le_of_ble_eq_true rfl) dX10_keepText_166 (fun r94 h95 => ?_)
  refine j_iconst (pc := 169) hX ic_0 dX10_keepText_169 ?_
  refine j_istore_n (pc := 170) hX (fun x96 => [(1, .int x96), (0, .ref (xz X + 0))]) (fun _ => rfl) (Nat.le_of_ble_eq_true rfl) dX10_keepText_170 (fun x96 => ?_)
  refine j_locs [1, 0] rfl ?_
  refine ikX10_keepText_171_w hX hr  _ (fun  h109 => ?_) FU x96 h95
  refine j_aload_n (pc := 196) hX 0 rfl dX10_keepText_196 ?_
  refine j_grd fun g110 => ?_
  refine j_onr fun b111 e112 => ?_
  refine c_getR (pc := 197) hX igX10_72_X10.1 igX10_72_X10.2 g110 e112 dX10_keepText_197 ?_
  refine j_iconst (pc := 200) hX ic_2 dX10_keepText_200 ?_
  refine j_callS (pc := 201) (e1 := eV) (As := fun z => [.ref (z + b111), .int (2 : Int32)]) (rest := []) hX (fun r e => ikX10_copies_t b111 (2 : Int32) h109 r e) ymX10_copies (lw_S q1592 q1593 q154 q1594) ⟨Nat.le_of_ble_eq_true rfl, Nat.le_of_ble_eq_true rfl⟩ rfl rfl (Nat.le_of_ble_eq_true rfl) dX10_keepText_201 (fun r113 h114 => ?_)
  refine j_aload_n (pc := 204) hX 0 rfl dX10_keepText_204 ?_
  refine j_grd fun g115 => ?_
  refine j_onr fun b116 e117 => ?_
  refine c_getR (pc := 205) hX igX10_75_X10.1 igX10_75_X10.2 g115 e117 dX10_keepText_205 ?_
  refine j_iconst (pc := 208) hX ic_2 dX10_keepText_208 ?_
  refine j_callS (pc := 209) (e1 := eV) (As := fun z => [.ref (z + b116), .int (2 : Int32)]) (rest := []) hX (fun r e => ikX10_copies_t b116 (2 : Int32) h114 r e) ymX10_copies (lw_S q1592 q1593 q154 q1594) ⟨Nat.le_of_ble_eq_true rfl, Nat.le_of_ble_eq_true rfl⟩ rfl rfl (Nat.le_of_ble_eq_true rfl) dX10_keepText_209 (fun r118 h119 => ?_)
  refine j_aload_n (pc := 212) hX 0 rfl dX10_keepText_212 ?_
  refine j_grd fun g120 => ?_
  refine j_onr fun b121 e122 => ?_
  refine c_getR (pc := 213) hX igX10_78_X10.1 igX10_78_X10.2 g120 e122 dX10_keepText_213 ?_
  refine j_bipush (pc := 216) hX bp_64 dX10_keepText_216 ?_
  refine j_callS (pc := 218) (e1 := eV) (As := fun z => [.ref (z + b121), .int (64 : Int32)]) (rest := []) hX (fun r e => ikX10_copies_t b121 (64 : Int32) h119 r e) ymX10_copies (lw_S q1592 q1593 q154 q1594) ⟨Nat.le_of_ble_eq_true rfl, Nat.le_of_ble_eq_true rfl⟩ rfl rfl (Nat.le_of_ble_eq_true rfl) dX10_keepText_218 (fun r123 h124 => ?_)
  refine j_aload_n (pc := 221) hX 0 rfl dX10_keepText_221 ?_
  refine j_grd fun g125 => ?_
  refine j_onr fun b126 e127 => ?_
  refine c_getR (pc := 222) hX igX10_81_X10.1 igX10_81_X10.2 g125 e127 dX10_keepText_222 ?_
  refine j_bipush (pc := 225) hX bp_64 dX10_keepText_225 ?_
  refine j_callS (pc := 227) (e1 := eV) (As := fun z => [.ref (z + b126), .int (64 : Int32)]) (rest := []) hX (fun r e => ikX10_copies_t b126 (64 : Int32) h124 r e) ymX10_copies (lw_S q1592 q1593 q154 q1594) ⟨Nat.le_of_ble_eq_true rfl, Nat.le_of_ble_eq_true rfl⟩ rfl rfl (Nat.le_of_ble_eq_true rfl) dX10_keepText_227 (fun r128 h129 => ?_)
  refine j_aload_n (pc := 230) hX 0 rfl dX10_keepText_230 ?_
  refine j_grd fun g130 => ?_
  refine j_onr fun b131 e132 => ?_
  refine c_getR (pc := 231) hX igX10_84_X10.1 igX10_84_X10.2 g130 e132 dX10_keepText_231 ?_
  refine j_bipush (pc := 234) hX bp_64 dX10_keepText_234 ?_
  refine j_callS (pc := 236) (e1 := eV) (As := fun z => [.ref (z + b131), .int (64 : Int32)]) (rest := []) hX (fun r e => ikX10_copies_t b131 (64 : Int32) h129 r e) ymX10_copies (lw_S q1592 q1593 q154 q1594) ⟨Nat.le_of_ble_eq_true rfl, Nat.le_of_ble_eq_true rfl⟩ rfl rfl (Nat.le_of_ble_eq_true rfl) dX10_keepText_236 (fun r133 h134 => ?_)
  refine j_aload_n (pc := 239) hX 0 rfl dX10_keepText_239 ?_
  refine j_grd fun g137 => ?_
  refine j_callV (pc := 240) (e1 := eV) (a := 0) (As := fun z => []) (rest := []) hX (fun r e => ikX10_begin_t h134 r e) ymX10_begin (lw_V q1595 q1597 qs64 q154 q1598) rfl ckX10 g137 ⟨Nat.le_of_ble_eq_true rfl, Nat.le_of_ble_eq_true rfl⟩ rfl rfl (Nat.le_of_ble_eq_true rfl) dX10_keepText_240 (fun r135 h136 => ?_)
  exact j_vret (pc := 243) hX hr dX10_keepText_243
set_option maxHeartbeats 4000000 in
set_option maxRecDepth 100000 in
theorem ikX10_init_t    (h : HP) (rr : Unit × HP) (e : ikX10_init  h = some rr) : Cn iV yX10_init (ws_ yX10_init cX10_init 1 (none)) 4 63 (fun z => [.ref (z + 0)]) h (fun z => eV z rr.1) rr.2 := by
  refine cn_of (e1 := eV) (fun z => [(0, .ref (z + 0))]) iV_ok (ikX10_init_m  h _ e) ymX10_init (fun _ => rfl) (fun _ => Nat.le_of_ble_eq_true rfl) (fun X hX hr hnm => ?_) e
  have hX : okX iV X rr cX10_init RX10 1 4 63 := hX
  rw [ikX10_init]
  refine j_aload_n (pc := 0) hX 0 rfl dX10_init_0 ?_
  refine j_objInit (pc := 1) hX q1583 q188 q189 (Nat.le_of_ble_eq_true rfl) (Nat.le_of_ble_eq_true rfl) dX10_init_1 ?_
  refine j_aload_n (pc := 4) hX 0 rfl dX10_init_4 ?_
  refine j_sipush (pc := 5) hX sp_700 dX10_init_5 ?_
  refine j_grd fun g1 => ?_
  refine j_newa (pc := 8) (k := 100) (n := 700) (q := 0) (atype := .int) hX rfl (Nat.le_of_ble_eq_true rfl) (fun _ => rfl) (fun _ h => by cases h) q320 (by decide) (by decide) (Nat.le_of_ble_eq_true rfl) (iV_vA g1) (fun _ => rfl) dX10_init_8 (fun b2 h3 => ?_)
  refine j_grd fun g4 => ?_
  refine c_putFR (pc := 10) hX hnm ijX10_7_X10.1 ijX10_7_X10.2 g4 (iV_sR trivial) dX10_init_10 (fun h5 qz6 => ?_)
  refine j_aload_n (pc := 13) hX 0 rfl dX10_init_13 ?_
  refine j_bipush (pc := 14) hX bp_124 dX10_init_14 ?_
  refine j_grd fun g8 => ?_
  refine j_newa (pc := 16) (k := 100) (n := 124) (q := 0) (atype := .int) hX rfl (Nat.le_of_ble_eq_true rfl) (fun _ => rfl) (fun _ h => by cases h) q320 (by decide) (by decide) (Nat.le_of_ble_eq_true rfl) (iV_vA g8) (fun _ => rfl) dX10_init_16 (fun b9 h10 => ?_)
  refine j_dup (pc := 18) hX rfl dX10_init_18 ?_
  refine j_iconst (pc := 19) hX ic_0 dX10_init_19 ?_
  refine j_bipush (pc := 20) hX bp_102 dX10_init_20 ?_
  refine j_grd fun g11 => ?_
  refine c_iast (pc := 22) (n := (gT (iV h10) b9).2) hX (kA_of g11) dX10_init_22 (fun h12 qz13 qz14 => ?_)
  refine j_dup (pc := 23) hX rfl dX10_init_23 ?_
  refine j_iconst (pc := 24) hX ic_1 dX10_init_24 ?_
  refine j_bipush (pc := 25) hX bp_97 dX10_init_25 ?_
  refine j_grd fun g15 => ?_
  refine c_iast (pc := 27) (n := (gT (iV h12) b9).2) hX (kA_of g15) dX10_init_27 (fun h16 qz17 qz18 => ?_)
  refine j_dup (pc := 28) hX rfl dX10_init_28 ?_
  refine j_iconst (pc := 29) hX ic_2 dX10_init_29 ?_
  refine j_bipush (pc := 30) hX bp_99 dX10_init_30 ?_
  refine j_grd fun g19 => ?_
  refine c_iast (pc := 32) (n := (gT (iV h16) b9).2) hX (kA_of g19) dX10_init_32 (fun h20 qz21 qz22 => ?_)
  refine j_dup (pc := 33) hX rfl dX10_init_33 ?_
  refine j_iconst (pc := 34) hX ic_3 dX10_init_34 ?_
  refine j_bipush (pc := 35) hX bp_116 dX10_init_35 ?_
  refine j_grd fun g23 => ?_
  refine c_iast (pc := 37) (n := (gT (iV h20) b9).2) hX (kA_of g23) dX10_init_37 (fun h24 qz25 qz26 => ?_)
  refine j_dup (pc := 38) hX rfl dX10_init_38 ?_
  refine j_iconst (pc := 39) hX ic_4 dX10_init_39 ?_
  refine j_bipush (pc := 40) hX bp_32 dX10_init_40 ?_
  refine j_grd fun g27 => ?_
  refine c_iast (pc := 42) (n := (gT (iV h24) b9).2) hX (kA_of g27) dX10_init_42 (fun h28 qz29 qz30 => ?_)
  refine j_dup (pc := 43) hX rfl dX10_init_43 ?_
  refine j_iconst (pc := 44) hX ic_5 dX10_init_44 ?_
  refine j_bipush (pc := 45) hX bp_112 dX10_init_45 ?_
  refine j_grd fun g31 => ?_
  refine c_iast (pc := 47) (n := (gT (iV h28) b9).2) hX (kA_of g31) dX10_init_47 (fun h32 qz33 qz34 => ?_)
  refine j_dup (pc := 48) hX rfl dX10_init_48 ?_
  refine j_bipush (pc := 49) hX bp_6 dX10_init_49 ?_
  refine j_bipush (pc := 51) hX bp_101 dX10_init_51 ?_
  refine j_grd fun g35 => ?_
  refine c_iast (pc := 53) (n := (gT (iV h32) b9).2) hX (kA_of g35) dX10_init_53 (fun h36 qz37 qz38 => ?_)
  refine j_dup (pc := 54) hX rfl dX10_init_54 ?_
  refine j_bipush (pc := 55) hX bp_7 dX10_init_55 ?_
  refine j_bipush (pc := 57) hX bp_114 dX10_init_57 ?_
  refine j_grd fun g39 => ?_
  refine c_iast (pc := 59) (n := (gT (iV h36) b9).2) hX (kA_of g39) dX10_init_59 (fun h40 qz41 qz42 => ?_)
  refine j_dup (pc := 60) hX rfl dX10_init_60 ?_
  refine j_bipush (pc := 61) hX bp_8 dX10_init_61 ?_
  refine j_bipush (pc := 63) hX bp_115 dX10_init_63 ?_
  refine j_grd fun g43 => ?_
  refine c_iast (pc := 65) (n := (gT (iV h40) b9).2) hX (kA_of g43) dX10_init_65 (fun h44 qz45 qz46 => ?_)
  refine j_dup (pc := 66) hX rfl dX10_init_66 ?_
  refine j_bipush (pc := 67) hX bp_9 dX10_init_67 ?_
  refine j_bipush (pc := 69) hX bp_111 dX10_init_69 ?_
  refine j_grd fun g47 => ?_
  refine c_iast (pc := 71) (n := (gT (iV h44) b9).2) hX (kA_of g47) dX10_init_71 (fun h48 qz49 qz50 => ?_)
  refine j_dup (pc := 72) hX rfl dX10_init_72 ?_
  refine j_bipush (pc := 73) hX bp_10 dX10_init_73 ?_
  refine j_bipush (pc := 75) hX bp_110 dX10_init_75 ?_
  refine j_grd fun g51 => ?_
  refine c_iast (pc := 77) (n := (gT (iV h48) b9).2) hX (kA_of g51) dX10_init_77 (fun h52 qz53 qz54 => ?_)
  refine j_dup (pc := 78) hX rfl dX10_init_78 ?_
  refine j_bipush (pc := 79) hX bp_11 dX10_init_79 ?_
  refine j_bipush (pc := 81) hX bp_32 dX10_init_81 ?_
  refine j_grd fun g55 => ?_
  refine c_iast (pc := 83) (n := (gT (iV h52) b9).2) hX (kA_of g55) dX10_init_83 (fun h56 qz57 qz58 => ?_)
  refine j_dup (pc := 84) hX rfl dX10_init_84 ?_
  refine j_bipush (pc := 85) hX bp_12 dX10_init_85 ?_
  refine j_bipush (pc := 87) hX bp_107 dX10_init_87 ?_
  refine j_grd fun g59 => ?_
  refine c_iast (pc := 89) (n := (gT (iV h56) b9).2) hX (kA_of g59) dX10_init_89 (fun h60 qz61 qz62 => ?_)
  refine j_dup (pc := 90) hX rfl dX10_init_90 ?_
  refine j_bipush (pc := 91) hX bp_13 dX10_init_91 ?_
  refine j_bipush (pc := 93) hX bp_110 dX10_init_93 ?_
  refine j_grd fun g63 => ?_
  refine c_iast (pc := 95) (n := (gT (iV h60) b9).2) hX (kA_of g63) dX10_init_95 (fun h64 qz65 qz66 => ?_)
  refine j_dup (pc := 96) hX rfl dX10_init_96 ?_
  refine j_bipush (pc := 97) hX bp_14 dX10_init_97 ?_
  refine j_bipush (pc := 99) hX bp_111 dX10_init_99 ?_
  refine j_grd fun g67 => ?_
  refine c_iast (pc := 101) (n := (gT (iV h64) b9).2) hX (kA_of g67) dX10_init_101 (fun h68 qz69 qz70 => ?_)
  refine j_dup (pc := 102) hX rfl dX10_init_102 ?_
  refine j_bipush (pc := 103) hX bp_15 dX10_init_103 ?_
  refine j_bipush (pc := 105) hX bp_119 dX10_init_105 ?_
  refine j_grd fun g71 => ?_
  refine c_iast (pc := 107) (n := (gT (iV h68) b9).2) hX (kA_of g71) dX10_init_107 (fun h72 qz73 qz74 => ?_)
  refine j_dup (pc := 108) hX rfl dX10_init_108 ?_
  refine j_bipush (pc := 109) hX bp_16 dX10_init_109 ?_
  refine j_bipush (pc := 111) hX bp_115 dX10_init_111 ?_
  refine j_grd fun g75 => ?_
  refine c_iast (pc := 113) (n := (gT (iV h72) b9).2) hX (kA_of g75) dX10_init_113 (fun h76 qz77 qz78 => ?_)
  refine j_dup (pc := 114) hX rfl dX10_init_114 ?_
  refine j_bipush (pc := 115) hX bp_17 dX10_init_115 ?_
  refine j_bipush (pc := 117) hX bp_32 dX10_init_117 ?_
  refine j_grd fun g79 => ?_
  refine c_iast (pc := 119) (n := (gT (iV h76) b9).2) hX (kA_of g79) dX10_init_119 (fun h80 qz81 qz82 => ?_)
  refine j_dup (pc := 120) hX rfl dX10_init_120 ?_
  refine j_bipush (pc := 121) hX bp_18 dX10_init_121 ?_
  refine j_bipush (pc := 123) hX bp_97 dX10_init_123 ?_
  refine j_grd fun g83 => ?_
  refine c_iast (pc := 125) (n := (gT (iV h80) b9).2) hX (kA_of g83) dX10_init_125 (fun h84 qz85 qz86 => ?_)
  refine j_dup (pc := 126) hX rfl dX10_init_126 ?_
  refine j_bipush (pc := 127) hX bp_19 dX10_init_127 ?_
  refine j_bipush (pc := 129) hX bp_115 dX10_init_129 ?_
  refine j_grd fun g87 => ?_
  refine c_iast (pc := 131) (n := (gT (iV h84) b9).2) hX (kA_of g87) dX10_init_131 (fun h88 qz89 qz90 => ?_)
  refine j_dup (pc := 132) hX rfl dX10_init_132 ?_
  refine j_bipush (pc := 133) hX bp_20 dX10_init_133 ?_
  refine j_bipush (pc := 135) hX bp_107 dX10_init_135 ?_
  refine j_grd fun g91 => ?_
  refine c_iast (pc := 137) (n := (gT (iV h88) b9).2) hX (kA_of g91) dX10_init_137 (fun h92 qz93 qz94 => ?_)
  refine j_dup (pc := 138) hX rfl dX10_init_138 ?_
  refine j_bipush (pc := 139) hX bp_21 dX10_init_139 ?_
  refine j_bipush (pc := 141) hX bp_32 dX10_init_141 ?_
  refine j_grd fun g95 => ?_
  refine c_iast (pc := 143) (n := (gT (iV h92) b9).2) hX (kA_of g95) dX10_init_143 (fun h96 qz97 qz98 => ?_)
  refine j_dup (pc := 144) hX rfl dX10_init_144 ?_
  refine j_bipush (pc := 145) hX bp_22 dX10_init_145 ?_
  refine j_bipush (pc := 147) hX bp_116 dX10_init_147 ?_
  refine j_grd fun g99 => ?_
  refine c_iast (pc := 149) (n := (gT (iV h96) b9).2) hX (kA_of g99) dX10_init_149 (fun h100 qz101 qz102 => ?_)
  refine j_dup (pc := 150) hX rfl dX10_init_150 ?_
  refine j_bipush (pc := 151) hX bp_23 dX10_init_151 ?_
  refine j_bipush (pc := 153) hX bp_97 dX10_init_153 ?_
  refine j_grd fun g103 => ?_
  refine c_iast (pc := 155) (n := (gT (iV h100) b9).2) hX (kA_of g103) dX10_init_155 (fun h104 qz105 qz106 => ?_)
  refine j_dup (pc := 156) hX rfl dX10_init_156 ?_
  refine j_bipush (pc := 157) hX bp_24 dX10_init_157 ?_
  refine j_bipush (pc := 159) hX bp_108 dX10_init_159 ?_
  refine j_grd fun g107 => ?_
  refine c_iast (pc := 161) (n := (gT (iV h104) b9).2) hX (kA_of g107) dX10_init_161 (fun h108 qz109 qz110 => ?_)
  refine j_dup (pc := 162) hX rfl dX10_init_162 ?_
  refine j_bipush (pc := 163) hX bp_25 dX10_init_163 ?_
  refine j_bipush (pc := 165) hX bp_107 dX10_init_165 ?_
  refine j_grd fun g111 => ?_
  refine c_iast (pc := 167) (n := (gT (iV h108) b9).2) hX (kA_of g111) dX10_init_167 (fun h112 qz113 qz114 => ?_)
  refine j_dup (pc := 168) hX rfl dX10_init_168 ?_
  refine j_bipush (pc := 169) hX bp_26 dX10_init_169 ?_
  refine j_bipush (pc := 171) hX bp_32 dX10_init_171 ?_
  refine j_grd fun g115 => ?_
  refine c_iast (pc := 173) (n := (gT (iV h112) b9).2) hX (kA_of g115) dX10_init_173 (fun h116 qz117 qz118 => ?_)
  refine j_dup (pc := 174) hX rfl dX10_init_174 ?_
  refine j_bipush (pc := 175) hX bp_27 dX10_init_175 ?_
  refine j_bipush (pc := 177) hX bp_110 dX10_init_177 ?_
  refine j_grd fun g119 => ?_
  refine c_iast (pc := 179) (n := (gT (iV h116) b9).2) hX (kA_of g119) dX10_init_179 (fun h120 qz121 qz122 => ?_)
  refine j_dup (pc := 180) hX rfl dX10_init_180 ?_
  refine j_bipush (pc := 181) hX bp_28 dX10_init_181 ?_
  refine j_bipush (pc := 183) hX bp_105 dX10_init_183 ?_
  refine j_grd fun g123 => ?_
  refine c_iast (pc := 185) (n := (gT (iV h120) b9).2) hX (kA_of g123) dX10_init_185 (fun h124 qz125 qz126 => ?_)
  refine j_dup (pc := 186) hX rfl dX10_init_186 ?_
  refine j_bipush (pc := 187) hX bp_29 dX10_init_187 ?_
  refine j_bipush (pc := 189) hX bp_110 dX10_init_189 ?_
  refine j_grd fun g127 => ?_
  refine c_iast (pc := 191) (n := (gT (iV h124) b9).2) hX (kA_of g127) dX10_init_191 (fun h128 qz129 qz130 => ?_)
  refine j_dup (pc := 192) hX rfl dX10_init_192 ?_
  refine j_bipush (pc := 193) hX bp_30 dX10_init_193 ?_
  refine j_bipush (pc := 195) hX bp_101 dX10_init_195 ?_
  refine j_grd fun g131 => ?_
  refine c_iast (pc := 197) (n := (gT (iV h128) b9).2) hX (kA_of g131) dX10_init_197 (fun h132 qz133 qz134 => ?_)
  refine j_dup (pc := 198) hX rfl dX10_init_198 ?_
  refine j_bipush (pc := 199) hX bp_31 dX10_init_199 ?_
  refine j_bipush (pc := 201) hX bp_32 dX10_init_201 ?_
  refine j_grd fun g135 => ?_
  refine c_iast (pc := 203) (n := (gT (iV h132) b9).2) hX (kA_of g135) dX10_init_203 (fun h136 qz137 qz138 => ?_)
  refine j_dup (pc := 204) hX rfl dX10_init_204 ?_
  refine j_bipush (pc := 205) hX bp_32 dX10_init_205 ?_
  refine j_bipush (pc := 207) hX bp_115 dX10_init_207 ?_
  refine j_grd fun g139 => ?_
  refine c_iast (pc := 209) (n := (gT (iV h136) b9).2) hX (kA_of g139) dX10_init_209 (fun h140 qz141 qz142 => ?_)
  refine j_dup (pc := 210) hX rfl dX10_init_210 ?_
  refine j_bipush (pc := 211) hX bp_33 dX10_init_211 ?_
  refine j_bipush (pc := 213) hX bp_101 dX10_init_213 ?_
  refine j_grd fun g143 => ?_
  refine c_iast (pc := 215) (n := (gT (iV h140) b9).2) hX (kA_of g143) dX10_init_215 (fun h144 qz145 qz146 => ?_)
  refine j_dup (pc := 216) hX rfl dX10_init_216 ?_
  refine j_bipush (pc := 217) hX bp_34 dX10_init_217 ?_
  refine j_bipush (pc := 219) hX bp_101 dX10_init_219 ?_
  refine j_grd fun g147 => ?_
  refine c_iast (pc := 221) (n := (gT (iV h144) b9).2) hX (kA_of g147) dX10_init_221 (fun h148 qz149 qz150 => ?_)
  refine j_dup (pc := 222) hX rfl dX10_init_222 ?_
  refine j_bipush (pc := 223) hX bp_35 dX10_init_223 ?_
  refine j_bipush (pc := 225) hX bp_100 dX10_init_225 ?_
  refine j_grd fun g151 => ?_
  refine c_iast (pc := 227) (n := (gT (iV h148) b9).2) hX (kA_of g151) dX10_init_227 (fun h152 qz153 qz154 => ?_)
  refine j_dup (pc := 228) hX rfl dX10_init_228 ?_
  refine j_bipush (pc := 229) hX bp_36 dX10_init_229 ?_
  refine j_bipush (pc := 231) hX bp_32 dX10_init_231 ?_
  refine j_grd fun g155 => ?_
  refine c_iast (pc := 233) (n := (gT (iV h152) b9).2) hX (kA_of g155) dX10_init_233 (fun h156 qz157 qz158 => ?_)
  refine j_dup (pc := 234) hX rfl dX10_init_234 ?_
  refine j_bipush (pc := 235) hX bp_37 dX10_init_235 ?_
  refine j_bipush (pc := 237) hX bp_108 dX10_init_237 ?_
  refine j_grd fun g159 => ?_
  refine c_iast (pc := 239) (n := (gT (iV h156) b9).2) hX (kA_of g159) dX10_init_239 (fun h160 qz161 qz162 => ?_)
  refine j_dup (pc := 240) hX rfl dX10_init_240 ?_
  refine j_bipush (pc := 241) hX bp_38 dX10_init_241 ?_
  refine j_bipush (pc := 243) hX bp_97 dX10_init_243 ?_
  refine j_grd fun g163 => ?_
  refine c_iast (pc := 245) (n := (gT (iV h160) b9).2) hX (kA_of g163) dX10_init_245 (fun h164 qz165 qz166 => ?_)
  refine j_dup (pc := 246) hX rfl dX10_init_246 ?_
  refine j_bipush (pc := 247) hX bp_39 dX10_init_247 ?_
  refine j_bipush (pc := 249) hX bp_119 dX10_init_249 ?_
  refine j_grd fun g167 => ?_
  refine c_iast (pc := 251) (n := (gT (iV h164) b9).2) hX (kA_of g167) dX10_init_251 (fun h168 qz169 qz170 => ?_)
  refine j_dup (pc := 252) hX rfl dX10_init_252 ?_
  refine j_bipush (pc := 253) hX bp_40 dX10_init_253 ?_
  refine j_bipush (pc := 255) hX bp_32 dX10_init_255 ?_
  refine j_grd fun g171 => ?_
  refine c_iast (pc := 257) (n := (gT (iV h168) b9).2) hX (kA_of g171) dX10_init_257 (fun h172 qz173 qz174 => ?_)
  refine j_dup (pc := 258) hX rfl dX10_init_258 ?_
  refine j_bipush (pc := 259) hX bp_41 dX10_init_259 ?_
  refine j_bipush (pc := 261) hX bp_112 dX10_init_261 ?_
  refine j_grd fun g175 => ?_
  refine c_iast (pc := 263) (n := (gT (iV h172) b9).2) hX (kA_of g175) dX10_init_263 (fun h176 qz177 qz178 => ?_)
  refine j_dup (pc := 264) hX rfl dX10_init_264 ?_
  refine j_bipush (pc := 265) hX bp_42 dX10_init_265 ?_
  refine j_bipush (pc := 267) hX bp_108 dX10_init_267 ?_
  refine j_grd fun g179 => ?_
  refine c_iast (pc := 269) (n := (gT (iV h176) b9).2) hX (kA_of g179) dX10_init_269 (fun h180 qz181 qz182 => ?_)
  refine j_dup (pc := 270) hX rfl dX10_init_270 ?_
  refine j_bipush (pc := 271) hX bp_43 dX10_init_271 ?_
  refine j_bipush (pc := 273) hX bp_97 dX10_init_273 ?_
  refine j_grd fun g183 => ?_
  refine c_iast (pc := 275) (n := (gT (iV h180) b9).2) hX (kA_of g183) dX10_init_275 (fun h184 qz185 qz186 => ?_)
  refine j_dup (pc := 276) hX rfl dX10_init_276 ?_
  refine j_bipush (pc := 277) hX bp_44 dX10_init_277 ?_
  refine j_bipush (pc := 279) hX bp_105 dX10_init_279 ?_
  refine j_grd fun g187 => ?_
  refine c_iast (pc := 281) (n := (gT (iV h184) b9).2) hX (kA_of g187) dX10_init_281 (fun h188 qz189 qz190 => ?_)
  refine j_dup (pc := 282) hX rfl dX10_init_282 ?_
  refine j_bipush (pc := 283) hX bp_45 dX10_init_283 ?_
  refine j_bipush (pc := 285) hX bp_110 dX10_init_285 ?_
  refine j_grd fun g191 => ?_
  refine c_iast (pc := 287) (n := (gT (iV h188) b9).2) hX (kA_of g191) dX10_init_287 (fun h192 qz193 qz194 => ?_)
  refine j_dup (pc := 288) hX rfl dX10_init_288 ?_
  refine j_bipush (pc := 289) hX bp_46 dX10_init_289 ?_
  refine j_bipush (pc := 291) hX bp_32 dX10_init_291 ?_
  refine j_grd fun g195 => ?_
  refine c_iast (pc := 293) (n := (gT (iV h192) b9).2) hX (kA_of g195) dX10_init_293 (fun h196 qz197 qz198 => ?_)
  refine j_dup (pc := 294) hX rfl dX10_init_294 ?_
  refine j_bipush (pc := 295) hX bp_47 dX10_init_295 ?_
  refine j_bipush (pc := 297) hX bp_100 dX10_init_297 ?_
  refine j_grd fun g199 => ?_
  refine c_iast (pc := 299) (n := (gT (iV h196) b9).2) hX (kA_of g199) dX10_init_299 (fun h200 qz201 qz202 => ?_)
  refine j_dup (pc := 300) hX rfl dX10_init_300 ?_
  refine j_bipush (pc := 301) hX bp_48 dX10_init_301 ?_
  refine j_bipush (pc := 303) hX bp_111 dX10_init_303 ?_
  refine j_grd fun g203 => ?_
  refine c_iast (pc := 305) (n := (gT (iV h200) b9).2) hX (kA_of g203) dX10_init_305 (fun h204 qz205 qz206 => ?_)
  refine j_dup (pc := 306) hX rfl dX10_init_306 ?_
  refine j_bipush (pc := 307) hX bp_49 dX10_init_307 ?_
  refine j_bipush (pc := 309) hX bp_117 dX10_init_309 ?_
  refine j_grd fun g207 => ?_
  refine c_iast (pc := 311) (n := (gT (iV h204) b9).2) hX (kA_of g207) dX10_init_311 (fun h208 qz209 qz210 => ?_)
  refine j_dup (pc := 312) hX rfl dX10_init_312 ?_
  refine j_bipush (pc := 313) hX bp_50 dX10_init_313 ?_
  refine j_bipush (pc := 315) hX bp_98 dX10_init_315 ?_
  refine j_grd fun g211 => ?_
  refine c_iast (pc := 317) (n := (gT (iV h208) b9).2) hX (kA_of g211) dX10_init_317 (fun h212 qz213 qz214 => ?_)
  refine j_dup (pc := 318) hX rfl dX10_init_318 ?_
  refine j_bipush (pc := 319) hX bp_51 dX10_init_319 ?_
  refine j_bipush (pc := 321) hX bp_108 dX10_init_321 ?_
  refine j_grd fun g215 => ?_
  refine c_iast (pc := 323) (n := (gT (iV h212) b9).2) hX (kA_of g215) dX10_init_323 (fun h216 qz217 qz218 => ?_)
  refine j_dup (pc := 324) hX rfl dX10_init_324 ?_
  refine j_bipush (pc := 325) hX bp_52 dX10_init_325 ?_
  refine j_bipush (pc := 327) hX bp_101 dX10_init_327 ?_
  refine j_grd fun g219 => ?_
  refine c_iast (pc := 329) (n := (gT (iV h216) b9).2) hX (kA_of g219) dX10_init_329 (fun h220 qz221 qz222 => ?_)
  refine j_dup (pc := 330) hX rfl dX10_init_330 ?_
  refine j_bipush (pc := 331) hX bp_53 dX10_init_331 ?_
  refine j_bipush (pc := 333) hX bp_32 dX10_init_333 ?_
  refine j_grd fun g223 => ?_
  refine c_iast (pc := 335) (n := (gT (iV h220) b9).2) hX (kA_of g223) dX10_init_335 (fun h224 qz225 qz226 => ?_)
  refine j_dup (pc := 336) hX rfl dX10_init_336 ?_
  refine j_bipush (pc := 337) hX bp_54 dX10_init_337 ?_
  refine j_bipush (pc := 339) hX bp_98 dX10_init_339 ?_
  refine j_grd fun g227 => ?_
  refine c_iast (pc := 341) (n := (gT (iV h224) b9).2) hX (kA_of g227) dX10_init_341 (fun h228 qz229 qz230 => ?_)
  refine j_dup (pc := 342) hX rfl dX10_init_342 ?_
  refine j_bipush (pc := 343) hX bp_55 dX10_init_343 ?_
  refine j_bipush (pc := 345) hX bp_97 dX10_init_345 ?_
  refine j_grd fun g231 => ?_
  refine c_iast (pc := 347) (n := (gT (iV h228) b9).2) hX (kA_of g231) dX10_init_347 (fun h232 qz233 qz234 => ?_)
  refine j_dup (pc := 348) hX rfl dX10_init_348 ?_
  refine j_bipush (pc := 349) hX bp_56 dX10_init_349 ?_
  refine j_bipush (pc := 351) hX bp_99 dX10_init_351 ?_
  refine j_grd fun g235 => ?_
  refine c_iast (pc := 353) (n := (gT (iV h232) b9).2) hX (kA_of g235) dX10_init_353 (fun h236 qz237 qz238 => ?_)
  refine j_dup (pc := 354) hX rfl dX10_init_354 ?_
  refine j_bipush (pc := 355) hX bp_57 dX10_init_355 ?_
  refine j_bipush (pc := 357) hX bp_107 dX10_init_357 ?_
  refine j_grd fun g239 => ?_
  refine c_iast (pc := 359) (n := (gT (iV h236) b9).2) hX (kA_of g239) dX10_init_359 (fun h240 qz241 qz242 => ?_)
  refine j_dup (pc := 360) hX rfl dX10_init_360 ?_
  refine j_bipush (pc := 361) hX bp_58 dX10_init_361 ?_
  refine j_bipush (pc := 363) hX bp_32 dX10_init_363 ?_
  refine j_grd fun g243 => ?_
  refine c_iast (pc := 365) (n := (gT (iV h240) b9).2) hX (kA_of g243) dX10_init_365 (fun h244 qz245 qz246 => ?_)
  refine j_dup (pc := 366) hX rfl dX10_init_366 ?_
  refine j_bipush (pc := 367) hX bp_59 dX10_init_367 ?_
  refine j_bipush (pc := 369) hX bp_105 dX10_init_369 ?_
  refine j_grd fun g247 => ?_
  refine c_iast (pc := 371) (n := (gT (iV h244) b9).2) hX (kA_of g247) dX10_init_371 (fun h248 qz249 qz250 => ?_)
  refine j_dup (pc := 372) hX rfl dX10_init_372 ?_
  refine j_bipush (pc := 373) hX bp_60 dX10_init_373 ?_
  refine j_bipush (pc := 375) hX bp_100 dX10_init_375 ?_
  refine j_grd fun g251 => ?_
  refine c_iast (pc := 377) (n := (gT (iV h248) b9).2) hX (kA_of g251) dX10_init_377 (fun h252 qz253 qz254 => ?_)
  refine j_dup (pc := 378) hX rfl dX10_init_378 ?_
  refine j_bipush (pc := 379) hX bp_61 dX10_init_379 ?_
  refine j_bipush (pc := 381) hX bp_108 dX10_init_381 ?_
  refine j_grd fun g255 => ?_
  refine c_iast (pc := 383) (n := (gT (iV h252) b9).2) hX (kA_of g255) dX10_init_383 (fun h256 qz257 qz258 => ?_)
  refine j_dup (pc := 384) hX rfl dX10_init_384 ?_
  refine j_bipush (pc := 385) hX bp_62 dX10_init_385 ?_
  refine j_bipush (pc := 387) hX bp_101 dX10_init_387 ?_
  refine j_grd fun g259 => ?_
  refine c_iast (pc := 389) (n := (gT (iV h256) b9).2) hX (kA_of g259) dX10_init_389 (fun h260 qz261 qz262 => ?_)
  refine j_dup (pc := 390) hX rfl dX10_init_390 ?_
  refine j_bipush (pc := 391) hX bp_63 dX10_init_391 ?_
  refine j_bipush (pc := 393) hX bp_32 dX10_init_393 ?_
  refine j_grd fun g263 => ?_
  refine c_iast (pc := 395) (n := (gT (iV h260) b9).2) hX (kA_of g263) dX10_init_395 (fun h264 qz265 qz266 => ?_)
  refine j_dup (pc := 396) hX rfl dX10_init_396 ?_
  refine j_bipush (pc := 397) hX bp_64 dX10_init_397 ?_
  refine j_bipush (pc := 399) hX bp_110 dX10_init_399 ?_
  refine j_grd fun g267 => ?_
  refine c_iast (pc := 401) (n := (gT (iV h264) b9).2) hX (kA_of g267) dX10_init_401 (fun h268 qz269 qz270 => ?_)
  refine j_dup (pc := 402) hX rfl dX10_init_402 ?_
  refine j_bipush (pc := 403) hX bp_65 dX10_init_403 ?_
  refine j_bipush (pc := 405) hX bp_111 dX10_init_405 ?_
  refine j_grd fun g271 => ?_
  refine c_iast (pc := 407) (n := (gT (iV h268) b9).2) hX (kA_of g271) dX10_init_407 (fun h272 qz273 qz274 => ?_)
  refine j_dup (pc := 408) hX rfl dX10_init_408 ?_
  refine j_bipush (pc := 409) hX bp_66 dX10_init_409 ?_
  refine j_bipush (pc := 411) hX bp_110 dX10_init_411 ?_
  refine j_grd fun g275 => ?_
  refine c_iast (pc := 413) (n := (gT (iV h272) b9).2) hX (kA_of g275) dX10_init_413 (fun h276 qz277 qz278 => ?_)
  refine j_dup (pc := 414) hX rfl dX10_init_414 ?_
  refine j_bipush (pc := 415) hX bp_67 dX10_init_415 ?_
  refine j_bipush (pc := 417) hX bp_101 dX10_init_417 ?_
  refine j_grd fun g279 => ?_
  refine c_iast (pc := 419) (n := (gT (iV h276) b9).2) hX (kA_of g279) dX10_init_419 (fun h280 qz281 qz282 => ?_)
  refine j_dup (pc := 420) hX rfl dX10_init_420 ?_
  refine j_bipush (pc := 421) hX bp_68 dX10_init_421 ?_
  refine j_bipush (pc := 423) hX bp_32 dX10_init_423 ?_
  refine j_grd fun g283 => ?_
  refine c_iast (pc := 425) (n := (gT (iV h280) b9).2) hX (kA_of g283) dX10_init_425 (fun h284 qz285 qz286 => ?_)
  refine j_dup (pc := 426) hX rfl dX10_init_426 ?_
  refine j_bipush (pc := 427) hX bp_69 dX10_init_427 ?_
  refine j_bipush (pc := 429) hX bp_115 dX10_init_429 ?_
  refine j_grd fun g287 => ?_
  refine c_iast (pc := 431) (n := (gT (iV h284) b9).2) hX (kA_of g287) dX10_init_431 (fun h288 qz289 qz290 => ?_)
  refine j_dup (pc := 432) hX rfl dX10_init_432 ?_
  refine j_bipush (pc := 433) hX bp_70 dX10_init_433 ?_
  refine j_bipush (pc := 435) hX bp_108 dX10_init_435 ?_
  refine j_grd fun g291 => ?_
  refine c_iast (pc := 437) (n := (gT (iV h288) b9).2) hX (kA_of g291) dX10_init_437 (fun h292 qz293 qz294 => ?_)
  refine j_dup (pc := 438) hX rfl dX10_init_438 ?_
  refine j_bipush (pc := 439) hX bp_71 dX10_init_439 ?_
  refine j_bipush (pc := 441) hX bp_105 dX10_init_441 ?_
  refine j_grd fun g295 => ?_
  refine c_iast (pc := 443) (n := (gT (iV h292) b9).2) hX (kA_of g295) dX10_init_443 (fun h296 qz297 qz298 => ?_)
  refine j_dup (pc := 444) hX rfl dX10_init_444 ?_
  refine j_bipush (pc := 445) hX bp_72 dX10_init_445 ?_
  refine j_bipush (pc := 447) hX bp_112 dX10_init_447 ?_
  refine j_grd fun g299 => ?_
  refine c_iast (pc := 449) (n := (gT (iV h296) b9).2) hX (kA_of g299) dX10_init_449 (fun h300 qz301 qz302 => ?_)
  refine j_dup (pc := 450) hX rfl dX10_init_450 ?_
  refine j_bipush (pc := 451) hX bp_73 dX10_init_451 ?_
  refine j_bipush (pc := 453) hX bp_32 dX10_init_453 ?_
  refine j_grd fun g303 => ?_
  refine c_iast (pc := 455) (n := (gT (iV h300) b9).2) hX (kA_of g303) dX10_init_455 (fun h304 qz305 qz306 => ?_)
  refine j_dup (pc := 456) hX rfl dX10_init_456 ?_
  refine j_bipush (pc := 457) hX bp_74 dX10_init_457 ?_
  refine j_bipush (pc := 459) hX bp_104 dX10_init_459 ?_
  refine j_grd fun g307 => ?_
  refine c_iast (pc := 461) (n := (gT (iV h304) b9).2) hX (kA_of g307) dX10_init_461 (fun h308 qz309 qz310 => ?_)
  refine j_dup (pc := 462) hX rfl dX10_init_462 ?_
  refine j_bipush (pc := 463) hX bp_75 dX10_init_463 ?_
  refine j_bipush (pc := 465) hX bp_101 dX10_init_465 ?_
  refine j_grd fun g311 => ?_
  refine c_iast (pc := 467) (n := (gT (iV h308) b9).2) hX (kA_of g311) dX10_init_467 (fun h312 qz313 qz314 => ?_)
  refine j_dup (pc := 468) hX rfl dX10_init_468 ?_
  refine j_bipush (pc := 469) hX bp_76 dX10_init_469 ?_
  refine j_bipush (pc := 471) hX bp_97 dX10_init_471 ?_
  refine j_grd fun g315 => ?_
  refine c_iast (pc := 473) (n := (gT (iV h312) b9).2) hX (kA_of g315) dX10_init_473 (fun h316 qz317 qz318 => ?_)
  refine j_dup (pc := 474) hX rfl dX10_init_474 ?_
  refine j_bipush (pc := 475) hX bp_77 dX10_init_475 ?_
  refine j_bipush (pc := 477) hX bp_114 dX10_init_477 ?_
  refine j_grd fun g319 => ?_
  refine c_iast (pc := 479) (n := (gT (iV h316) b9).2) hX (kA_of g319) dX10_init_479 (fun h320 qz321 qz322 => ?_)
  refine j_dup (pc := 480) hX rfl dX10_init_480 ?_
  refine j_bipush (pc := 481) hX bp_78 dX10_init_481 ?_
  refine j_bipush (pc := 483) hX bp_32 dX10_init_483 ?_
  refine j_grd fun g323 => ?_
  refine c_iast (pc := 485) (n := (gT (iV h320) b9).2) hX (kA_of g323) dX10_init_485 (fun h324 qz325 qz326 => ?_)
  refine j_dup (pc := 486) hX rfl dX10_init_486 ?_
  refine j_bipush (pc := 487) hX bp_79 dX10_init_487 ?_
  refine j_bipush (pc := 489) hX bp_97 dX10_init_489 ?_
  refine j_grd fun g327 => ?_
  refine c_iast (pc := 491) (n := (gT (iV h324) b9).2) hX (kA_of g327) dX10_init_491 (fun h328 qz329 qz330 => ?_)
  refine j_dup (pc := 492) hX rfl dX10_init_492 ?_
  refine j_bipush (pc := 493) hX bp_80 dX10_init_493 ?_
  refine j_bipush (pc := 495) hX bp_110 dX10_init_495 ?_
  refine j_grd fun g331 => ?_
  refine c_iast (pc := 497) (n := (gT (iV h328) b9).2) hX (kA_of g331) dX10_init_497 (fun h332 qz333 qz334 => ?_)
  refine j_dup (pc := 498) hX rfl dX10_init_498 ?_
  refine j_bipush (pc := 499) hX bp_81 dX10_init_499 ?_
  refine j_bipush (pc := 501) hX bp_100 dX10_init_501 ?_
  refine j_grd fun g335 => ?_
  refine c_iast (pc := 503) (n := (gT (iV h332) b9).2) hX (kA_of g335) dX10_init_503 (fun h336 qz337 qz338 => ?_)
  refine j_dup (pc := 504) hX rfl dX10_init_504 ?_
  refine j_bipush (pc := 505) hX bp_82 dX10_init_505 ?_
  refine j_bipush (pc := 507) hX bp_32 dX10_init_507 ?_
  refine j_grd fun g339 => ?_
  refine c_iast (pc := 509) (n := (gT (iV h336) b9).2) hX (kA_of g339) dX10_init_509 (fun h340 qz341 qz342 => ?_)
  refine j_dup (pc := 510) hX rfl dX10_init_510 ?_
  refine j_bipush (pc := 511) hX bp_83 dX10_init_511 ?_
  refine j_bipush (pc := 513) hX bp_111 dX10_init_513 ?_
  refine j_grd fun g343 => ?_
  refine c_iast (pc := 515) (n := (gT (iV h340) b9).2) hX (kA_of g343) dX10_init_515 (fun h344 qz345 qz346 => ?_)
  refine j_dup (pc := 516) hX rfl dX10_init_516 ?_
  refine j_bipush (pc := 517) hX bp_84 dX10_init_517 ?_
  refine j_bipush (pc := 519) hX bp_114 dX10_init_519 ?_
  refine j_grd fun g347 => ?_
  refine c_iast (pc := 521) (n := (gT (iV h344) b9).2) hX (kA_of g347) dX10_init_521 (fun h348 qz349 qz350 => ?_)
  refine j_dup (pc := 522) hX rfl dX10_init_522 ?_
  refine j_bipush (pc := 523) hX bp_85 dX10_init_523 ?_
  refine j_bipush (pc := 525) hX bp_32 dX10_init_525 ?_
  refine j_grd fun g351 => ?_
  refine c_iast (pc := 527) (n := (gT (iV h348) b9).2) hX (kA_of g351) dX10_init_527 (fun h352 qz353 qz354 => ?_)
  refine j_dup (pc := 528) hX rfl dX10_init_528 ?_
  refine j_bipush (pc := 529) hX bp_86 dX10_init_529 ?_
  refine j_bipush (pc := 531) hX bp_110 dX10_init_531 ?_
  refine j_grd fun g355 => ?_
  refine c_iast (pc := 533) (n := (gT (iV h352) b9).2) hX (kA_of g355) dX10_init_533 (fun h356 qz357 qz358 => ?_)
  refine j_dup (pc := 534) hX rfl dX10_init_534 ?_
  refine j_bipush (pc := 535) hX bp_87 dX10_init_535 ?_
  refine j_bipush (pc := 537) hX bp_111 dX10_init_537 ?_
  refine j_grd fun g359 => ?_
  refine c_iast (pc := 539) (n := (gT (iV h356) b9).2) hX (kA_of g359) dX10_init_539 (fun h360 qz361 qz362 => ?_)
  refine j_dup (pc := 540) hX rfl dX10_init_540 ?_
  refine j_bipush (pc := 541) hX bp_88 dX10_init_541 ?_
  refine j_bipush (pc := 543) hX bp_116 dX10_init_543 ?_
  refine j_grd fun g363 => ?_
  refine c_iast (pc := 545) (n := (gT (iV h360) b9).2) hX (kA_of g363) dX10_init_545 (fun h364 qz365 qz366 => ?_)
  refine j_dup (pc := 546) hX rfl dX10_init_546 ?_
  refine j_bipush (pc := 547) hX bp_89 dX10_init_547 ?_
  refine j_bipush (pc := 549) hX bp_32 dX10_init_549 ?_
  refine j_grd fun g367 => ?_
  refine c_iast (pc := 551) (n := (gT (iV h364) b9).2) hX (kA_of g367) dX10_init_551 (fun h368 qz369 qz370 => ?_)
  refine j_dup (pc := 552) hX rfl dX10_init_552 ?_
  refine j_bipush (pc := 553) hX bp_90 dX10_init_553 ?_
  refine j_bipush (pc := 555) hX bp_108 dX10_init_555 ?_
  refine j_grd fun g371 => ?_
  refine c_iast (pc := 557) (n := (gT (iV h368) b9).2) hX (kA_of g371) dX10_init_557 (fun h372 qz373 qz374 => ?_)
  refine j_dup (pc := 558) hX rfl dX10_init_558 ?_
  refine j_bipush (pc := 559) hX bp_91 dX10_init_559 ?_
  refine j_bipush (pc := 561) hX bp_105 dX10_init_561 ?_
  refine j_grd fun g375 => ?_
  refine c_iast (pc := 563) (n := (gT (iV h372) b9).2) hX (kA_of g375) dX10_init_563 (fun h376 qz377 qz378 => ?_)
  refine j_dup (pc := 564) hX rfl dX10_init_564 ?_
  refine j_bipush (pc := 565) hX bp_92 dX10_init_565 ?_
  refine j_bipush (pc := 567) hX bp_112 dX10_init_567 ?_
  refine j_grd fun g379 => ?_
  refine c_iast (pc := 569) (n := (gT (iV h376) b9).2) hX (kA_of g379) dX10_init_569 (fun h380 qz381 qz382 => ?_)
  refine j_dup (pc := 570) hX rfl dX10_init_570 ?_
  refine j_bipush (pc := 571) hX bp_93 dX10_init_571 ?_
  refine j_bipush (pc := 573) hX bp_115 dX10_init_573 ?_
  refine j_grd fun g383 => ?_
  refine c_iast (pc := 575) (n := (gT (iV h380) b9).2) hX (kA_of g383) dX10_init_575 (fun h384 qz385 qz386 => ?_)
  refine j_dup (pc := 576) hX rfl dX10_init_576 ?_
  refine j_bipush (pc := 577) hX bp_94 dX10_init_577 ?_
  refine j_bipush (pc := 579) hX bp_32 dX10_init_579 ?_
  refine j_grd fun g387 => ?_
  refine c_iast (pc := 581) (n := (gT (iV h384) b9).2) hX (kA_of g387) dX10_init_581 (fun h388 qz389 qz390 => ?_)
  refine j_dup (pc := 582) hX rfl dX10_init_582 ?_
  refine j_bipush (pc := 583) hX bp_95 dX10_init_583 ?_
  refine j_bipush (pc := 585) hX bp_119 dX10_init_585 ?_
  refine j_grd fun g391 => ?_
  refine c_iast (pc := 587) (n := (gT (iV h388) b9).2) hX (kA_of g391) dX10_init_587 (fun h392 qz393 qz394 => ?_)
  refine j_dup (pc := 588) hX rfl dX10_init_588 ?_
  refine j_bipush (pc := 589) hX bp_96 dX10_init_589 ?_
  refine j_bipush (pc := 591) hX bp_105 dX10_init_591 ?_
  refine j_grd fun g395 => ?_
  refine c_iast (pc := 593) (n := (gT (iV h392) b9).2) hX (kA_of g395) dX10_init_593 (fun h396 qz397 qz398 => ?_)
  refine j_dup (pc := 594) hX rfl dX10_init_594 ?_
  refine j_bipush (pc := 595) hX bp_97 dX10_init_595 ?_
  refine j_bipush (pc := 597) hX bp_116 dX10_init_597 ?_
  refine j_grd fun g399 => ?_
  refine c_iast (pc := 599) (n := (gT (iV h396) b9).2) hX (kA_of g399) dX10_init_599 (fun h400 qz401 qz402 => ?_)
  refine j_dup (pc := 600) hX rfl dX10_init_600 ?_
  refine j_bipush (pc := 601) hX bp_98 dX10_init_601 ?_
  refine j_bipush (pc := 603) hX bp_32 dX10_init_603 ?_
  refine j_grd fun g403 => ?_
  refine c_iast (pc := 605) (n := (gT (iV h400) b9).2) hX (kA_of g403) dX10_init_605 (fun h404 qz405 qz406 => ?_)
  refine j_dup (pc := 606) hX rfl dX10_init_606 ?_
  refine j_bipush (pc := 607) hX bp_99 dX10_init_607 ?_
  refine j_bipush (pc := 609) hX bp_108 dX10_init_609 ?_
  refine j_grd fun g407 => ?_
  refine c_iast (pc := 611) (n := (gT (iV h404) b9).2) hX (kA_of g407) dX10_init_611 (fun h408 qz409 qz410 => ?_)
  refine j_dup (pc := 612) hX rfl dX10_init_612 ?_
  refine j_bipush (pc := 613) hX bp_100 dX10_init_613 ?_
  refine j_bipush (pc := 615) hX bp_111 dX10_init_615 ?_
  refine j_grd fun g411 => ?_
  refine c_iast (pc := 617) (n := (gT (iV h408) b9).2) hX (kA_of g411) dX10_init_617 (fun h412 qz413 qz414 => ?_)
  refine j_dup (pc := 618) hX rfl dX10_init_618 ?_
  refine j_bipush (pc := 619) hX bp_101 dX10_init_619 ?_
  refine j_bipush (pc := 621) hX bp_115 dX10_init_621 ?_
  refine j_grd fun g415 => ?_
  refine c_iast (pc := 623) (n := (gT (iV h412) b9).2) hX (kA_of g415) dX10_init_623 (fun h416 qz417 qz418 => ?_)
  refine j_dup (pc := 624) hX rfl dX10_init_624 ?_
  refine j_bipush (pc := 625) hX bp_102 dX10_init_625 ?_
  refine j_bipush (pc := 627) hX bp_116 dX10_init_627 ?_
  refine j_grd fun g419 => ?_
  refine c_iast (pc := 629) (n := (gT (iV h416) b9).2) hX (kA_of g419) dX10_init_629 (fun h420 qz421 qz422 => ?_)
  refine j_dup (pc := 630) hX rfl dX10_init_630 ?_
  refine j_bipush (pc := 631) hX bp_103 dX10_init_631 ?_
  refine j_bipush (pc := 633) hX bp_32 dX10_init_633 ?_
  refine j_grd fun g423 => ?_
  refine c_iast (pc := 635) (n := (gT (iV h420) b9).2) hX (kA_of g423) dX10_init_635 (fun h424 qz425 qz426 => ?_)
  refine j_dup (pc := 636) hX rfl dX10_init_636 ?_
  refine j_bipush (pc := 637) hX bp_104 dX10_init_637 ?_
  refine j_bipush (pc := 639) hX bp_104 dX10_init_639 ?_
  refine j_grd fun g427 => ?_
  refine c_iast (pc := 641) (n := (gT (iV h424) b9).2) hX (kA_of g427) dX10_init_641 (fun h428 qz429 qz430 => ?_)
  refine j_dup (pc := 642) hX rfl dX10_init_642 ?_
  refine j_bipush (pc := 643) hX bp_105 dX10_init_643 ?_
  refine j_bipush (pc := 645) hX bp_101 dX10_init_645 ?_
  refine j_grd fun g431 => ?_
  refine c_iast (pc := 647) (n := (gT (iV h428) b9).2) hX (kA_of g431) dX10_init_647 (fun h432 qz433 qz434 => ?_)
  refine j_dup (pc := 648) hX rfl dX10_init_648 ?_
  refine j_bipush (pc := 649) hX bp_106 dX10_init_649 ?_
  refine j_bipush (pc := 651) hX bp_97 dX10_init_651 ?_
  refine j_grd fun g435 => ?_
  refine c_iast (pc := 653) (n := (gT (iV h432) b9).2) hX (kA_of g435) dX10_init_653 (fun h436 qz437 qz438 => ?_)
  refine j_dup (pc := 654) hX rfl dX10_init_654 ?_
  refine j_bipush (pc := 655) hX bp_107 dX10_init_655 ?_
  refine j_bipush (pc := 657) hX bp_114 dX10_init_657 ?_
  refine j_grd fun g439 => ?_
  refine c_iast (pc := 659) (n := (gT (iV h436) b9).2) hX (kA_of g439) dX10_init_659 (fun h440 qz441 qz442 => ?_)
  refine j_dup (pc := 660) hX rfl dX10_init_660 ?_
  refine j_bipush (pc := 661) hX bp_108 dX10_init_661 ?_
  refine j_bipush (pc := 663) hX bp_100 dX10_init_663 ?_
  refine j_grd fun g443 => ?_
  refine c_iast (pc := 665) (n := (gT (iV h440) b9).2) hX (kA_of g443) dX10_init_665 (fun h444 qz445 qz446 => ?_)
  refine j_dup (pc := 666) hX rfl dX10_init_666 ?_
  refine j_bipush (pc := 667) hX bp_109 dX10_init_667 ?_
  refine j_bipush (pc := 669) hX bp_32 dX10_init_669 ?_
  refine j_grd fun g447 => ?_
  refine c_iast (pc := 671) (n := (gT (iV h444) b9).2) hX (kA_of g447) dX10_init_671 (fun h448 qz449 qz450 => ?_)
  refine j_dup (pc := 672) hX rfl dX10_init_672 ?_
  refine j_bipush (pc := 673) hX bp_110 dX10_init_673 ?_
  refine j_bipush (pc := 675) hX bp_114 dX10_init_675 ?_
  refine j_grd fun g451 => ?_
  refine c_iast (pc := 677) (n := (gT (iV h448) b9).2) hX (kA_of g451) dX10_init_677 (fun h452 qz453 qz454 => ?_)
  refine j_dup (pc := 678) hX rfl dX10_init_678 ?_
  refine j_bipush (pc := 679) hX bp_111 dX10_init_679 ?_
  refine j_bipush (pc := 681) hX bp_111 dX10_init_681 ?_
  refine j_grd fun g455 => ?_
  refine c_iast (pc := 683) (n := (gT (iV h452) b9).2) hX (kA_of g455) dX10_init_683 (fun h456 qz457 qz458 => ?_)
  refine j_dup (pc := 684) hX rfl dX10_init_684 ?_
  refine j_bipush (pc := 685) hX bp_112 dX10_init_685 ?_
  refine j_bipush (pc := 687) hX bp_111 dX10_init_687 ?_
  refine j_grd fun g459 => ?_
  refine c_iast (pc := 689) (n := (gT (iV h456) b9).2) hX (kA_of g459) dX10_init_689 (fun h460 qz461 qz462 => ?_)
  refine j_dup (pc := 690) hX rfl dX10_init_690 ?_
  refine j_bipush (pc := 691) hX bp_113 dX10_init_691 ?_
  refine j_bipush (pc := 693) hX bp_109 dX10_init_693 ?_
  refine j_grd fun g463 => ?_
  refine c_iast (pc := 695) (n := (gT (iV h460) b9).2) hX (kA_of g463) dX10_init_695 (fun h464 qz465 qz466 => ?_)
  refine j_dup (pc := 696) hX rfl dX10_init_696 ?_
  refine j_bipush (pc := 697) hX bp_114 dX10_init_697 ?_
  refine j_bipush (pc := 699) hX bp_32 dX10_init_699 ?_
  refine j_grd fun g467 => ?_
  refine c_iast (pc := 701) (n := (gT (iV h464) b9).2) hX (kA_of g467) dX10_init_701 (fun h468 qz469 qz470 => ?_)
  refine j_dup (pc := 702) hX rfl dX10_init_702 ?_
  refine j_bipush (pc := 703) hX bp_115 dX10_init_703 ?_
  refine j_bipush (pc := 705) hX bp_107 dX10_init_705 ?_
  refine j_grd fun g471 => ?_
  refine c_iast (pc := 707) (n := (gT (iV h468) b9).2) hX (kA_of g471) dX10_init_707 (fun h472 qz473 qz474 => ?_)
  refine j_dup (pc := 708) hX rfl dX10_init_708 ?_
  refine j_bipush (pc := 709) hX bp_116 dX10_init_709 ?_
  refine j_bipush (pc := 711) hX bp_105 dX10_init_711 ?_
  refine j_grd fun g475 => ?_
  refine c_iast (pc := 713) (n := (gT (iV h472) b9).2) hX (kA_of g475) dX10_init_713 (fun h476 qz477 qz478 => ?_)
  refine j_dup (pc := 714) hX rfl dX10_init_714 ?_
  refine j_bipush (pc := 715) hX bp_117 dX10_init_715 ?_
  refine j_bipush (pc := 717) hX bp_110 dX10_init_717 ?_
  refine j_grd fun g479 => ?_
  refine c_iast (pc := 719) (n := (gT (iV h476) b9).2) hX (kA_of g479) dX10_init_719 (fun h480 qz481 qz482 => ?_)
  refine j_dup (pc := 720) hX rfl dX10_init_720 ?_
  refine j_bipush (pc := 721) hX bp_118 dX10_init_721 ?_
  refine j_bipush (pc := 723) hX bp_100 dX10_init_723 ?_
  refine j_grd fun g483 => ?_
  refine c_iast (pc := 725) (n := (gT (iV h480) b9).2) hX (kA_of g483) dX10_init_725 (fun h484 qz485 qz486 => ?_)
  refine j_dup (pc := 726) hX rfl dX10_init_726 ?_
  refine j_bipush (pc := 727) hX bp_119 dX10_init_727 ?_
  refine j_bipush (pc := 729) hX bp_32 dX10_init_729 ?_
  refine j_grd fun g487 => ?_
  refine c_iast (pc := 731) (n := (gT (iV h484) b9).2) hX (kA_of g487) dX10_init_731 (fun h488 qz489 qz490 => ?_)
  refine j_dup (pc := 732) hX rfl dX10_init_732 ?_
  refine j_bipush (pc := 733) hX bp_120 dX10_init_733 ?_
  refine j_bipush (pc := 735) hX bp_100 dX10_init_735 ?_
  refine j_grd fun g491 => ?_
  refine c_iast (pc := 737) (n := (gT (iV h488) b9).2) hX (kA_of g491) dX10_init_737 (fun h492 qz493 qz494 => ?_)
  refine j_dup (pc := 738) hX rfl dX10_init_738 ?_
  refine j_bipush (pc := 739) hX bp_121 dX10_init_739 ?_
  refine j_bipush (pc := 741) hX bp_97 dX10_init_741 ?_
  refine j_grd fun g495 => ?_
  refine c_iast (pc := 743) (n := (gT (iV h492) b9).2) hX (kA_of g495) dX10_init_743 (fun h496 qz497 qz498 => ?_)
  refine j_dup (pc := 744) hX rfl dX10_init_744 ?_
  refine j_bipush (pc := 745) hX bp_122 dX10_init_745 ?_
  refine j_bipush (pc := 747) hX bp_121 dX10_init_747 ?_
  refine j_grd fun g499 => ?_
  refine c_iast (pc := 749) (n := (gT (iV h496) b9).2) hX (kA_of g499) dX10_init_749 (fun h500 qz501 qz502 => ?_)
  refine j_dup (pc := 750) hX rfl dX10_init_750 ?_
  refine j_bipush (pc := 751) hX bp_123 dX10_init_751 ?_
  refine j_bipush (pc := 753) hX bp_32 dX10_init_753 ?_
  refine j_grd fun g503 => ?_
  refine c_iast (pc := 755) (n := (gT (iV h500) b9).2) hX (kA_of g503) dX10_init_755 (fun h504 qz505 qz506 => ?_)
  refine j_grd fun g507 => ?_
  refine c_putFR (pc := 756) hX hnm ijX10_13_X10.1 ijX10_13_X10.2 g507 (iV_sR trivial) dX10_init_756 (fun h508 qz509 => ?_)
  refine j_aload_n (pc := 759) hX 0 rfl dX10_init_759 ?_
  refine j_iconst (pc := 760) hX ic_m1 dX10_init_760 ?_
  refine j_grd fun g511 => ?_
  refine c_putI (pc := 761) hX iwX10_16_X10.1 iwX10_16_X10.2 g511 dX10_init_761 (fun h512 qz513 qz514 => ?_)
  refine j_aload_n (pc := 764) hX 0 rfl dX10_init_764 ?_
  refine j_iconst (pc := 765) hX ic_2 dX10_init_765 ?_
  refine j_grd fun g515 => ?_
  refine j_newa (pc := 766) (k := 103) (n := 2) (q := 3) (atype := .boolean) hX rfl (Nat.le_of_ble_eq_true rfl) (fun _ => rfl) (fun _ h => by cases h) q513 (by decide) (by decide) (Nat.le_of_ble_eq_true rfl) (iV_vA g515) (fun _ => rfl) dX10_init_766 (fun b516 h517 => ?_)
  refine j_grd fun g518 => ?_
  refine c_putFR (pc := 768) hX hnm ijX10_20_X10.1 ijX10_20_X10.2 g518 (iV_sR trivial) dX10_init_768 (fun h519 qz520 => ?_)
  refine j_aload_n (pc := 771) hX 0 rfl dX10_init_771 ?_
  refine j_iconst (pc := 772) hX ic_4 dX10_init_772 ?_
  refine j_grd fun g522 => ?_
  refine j_newa (pc := 773) (k := 100) (n := 4) (q := 0) (atype := .int) hX rfl (Nat.le_of_ble_eq_true rfl) (fun _ => rfl) (fun _ h => by cases h) q320 (by decide) (by decide) (Nat.le_of_ble_eq_true rfl) (iV_vA g522) (fun _ => rfl) dX10_init_773 (fun b523 h524 => ?_)
  refine j_grd fun g525 => ?_
  refine c_putFR (pc := 775) hX hnm ijX10_24_X10.1 ijX10_24_X10.2 g525 (iV_sR trivial) dX10_init_775 (fun h526 qz527 => ?_)
  refine j_aload_n (pc := 778) hX 0 rfl dX10_init_778 ?_
  refine j_bipush (pc := 779) hX bp_16 dX10_init_779 ?_
  refine j_grd fun g529 => ?_
  refine j_newa (pc := 781) (k := 100) (n := 16) (q := 0) (atype := .int) hX rfl (Nat.le_of_ble_eq_true rfl) (fun _ => rfl) (fun _ h => by cases h) q320 (by decide) (by decide) (Nat.le_of_ble_eq_true rfl) (iV_vA g529) (fun _ => rfl) dX10_init_781 (fun b530 h531 => ?_)
  refine j_grd fun g532 => ?_
  refine c_putFR (pc := 783) hX hnm ijX10_27_X10.1 ijX10_27_X10.2 g532 (iV_sR trivial) dX10_init_783 (fun h533 qz534 => ?_)
  refine j_aload_n (pc := 786) hX 0 rfl dX10_init_786 ?_
  refine j_bipush (pc := 787) hX bp_10 dX10_init_787 ?_
  refine j_grd fun g536 => ?_
  refine j_newa (pc := 789) (k := 100) (n := 10) (q := 0) (atype := .int) hX rfl (Nat.le_of_ble_eq_true rfl) (fun _ => rfl) (fun _ h => by cases h) q320 (by decide) (by decide) (Nat.le_of_ble_eq_true rfl) (iV_vA g536) (fun _ => rfl) dX10_init_789 (fun b537 h538 => ?_)
  refine j_grd fun g539 => ?_
  refine c_putFR (pc := 791) hX hnm ijX10_30_X10.1 ijX10_30_X10.2 g539 (iV_sR trivial) dX10_init_791 (fun h540 qz541 => ?_)
  refine j_aload_n (pc := 794) hX 0 rfl dX10_init_794 ?_
  refine j_bipush (pc := 795) hX bp_10 dX10_init_795 ?_
  refine j_grd fun g543 => ?_
  refine j_newa (pc := 797) (k := 100) (n := 10) (q := 0) (atype := .int) hX rfl (Nat.le_of_ble_eq_true rfl) (fun _ => rfl) (fun _ h => by cases h) q320 (by decide) (by decide) (Nat.le_of_ble_eq_true rfl) (iV_vA g543) (fun _ => rfl) dX10_init_797 (fun b544 h545 => ?_)
  refine j_grd fun g546 => ?_
  refine c_putFR (pc := 799) hX hnm ijX10_33_X10.1 ijX10_33_X10.2 g546 (iV_sR trivial) dX10_init_799 (fun h547 qz548 => ?_)
  refine j_aload_n (pc := 802) hX 0 rfl dX10_init_802 ?_
  refine j_bipush (pc := 803) hX bp_10 dX10_init_803 ?_
  refine j_grd fun g550 => ?_
  refine j_newa (pc := 805) (k := 100) (n := 10) (q := 0) (atype := .int) hX rfl (Nat.le_of_ble_eq_true rfl) (fun _ => rfl) (fun _ h => by cases h) q320 (by decide) (by decide) (Nat.le_of_ble_eq_true rfl) (iV_vA g550) (fun _ => rfl) dX10_init_805 (fun b551 h552 => ?_)
  refine j_grd fun g553 => ?_
  refine c_putFR (pc := 807) hX hnm ijX10_36_X10.1 ijX10_36_X10.2 g553 (iV_sR trivial) dX10_init_807 (fun h554 qz555 => ?_)
  refine j_aload_n (pc := 810) hX 0 rfl dX10_init_810 ?_
  refine j_bipush (pc := 811) hX bp_10 dX10_init_811 ?_
  refine j_grd fun g557 => ?_
  refine j_newa (pc := 813) (k := 100) (n := 10) (q := 0) (atype := .int) hX rfl (Nat.le_of_ble_eq_true rfl) (fun _ => rfl) (fun _ h => by cases h) q320 (by decide) (by decide) (Nat.le_of_ble_eq_true rfl) (iV_vA g557) (fun _ => rfl) dX10_init_813 (fun b558 h559 => ?_)
  refine j_grd fun g560 => ?_
  refine c_putFR (pc := 815) hX hnm ijX10_39_X10.1 ijX10_39_X10.2 g560 (iV_sR trivial) dX10_init_815 (fun h561 qz562 => ?_)
  refine j_aload_n (pc := 818) hX 0 rfl dX10_init_818 ?_
  refine j_bipush (pc := 819) hX bp_10 dX10_init_819 ?_
  refine j_grd fun g564 => ?_
  refine j_newa (pc := 821) (k := 100) (n := 10) (q := 0) (atype := .int) hX rfl (Nat.le_of_ble_eq_true rfl) (fun _ => rfl) (fun _ h => by cases h) q320 (by decide) (by decide) (Nat.le_of_ble_eq_true rfl) (iV_vA g564) (fun _ => rfl) dX10_init_821 (fun b565 h566 => ?_)
  refine j_grd fun g567 => ?_
  refine c_putFR (pc := 823) hX hnm ijX10_42_X10.1 ijX10_42_X10.2 g567 (iV_sR trivial) dX10_init_823 (fun h568 qz569 => ?_)
  refine j_aload_n (pc := 826) hX 0 rfl dX10_init_826 ?_
  refine j_bipush (pc := 827) hX bp_16 dX10_init_827 ?_
  refine j_grd fun g571 => ?_
  refine j_newa (pc := 829) (k := 100) (n := 16) (q := 0) (atype := .int) hX rfl (Nat.le_of_ble_eq_true rfl) (fun _ => rfl) (fun _ h => by cases h) q320 (by decide) (by decide) (Nat.le_of_ble_eq_true rfl) (iV_vA g571) (fun _ => rfl) dX10_init_829 (fun b572 h573 => ?_)
  refine j_grd fun g574 => ?_
  refine c_putFR (pc := 831) hX hnm ijX10_45_X10.1 ijX10_45_X10.2 g574 (iV_sR trivial) dX10_init_831 (fun h575 qz576 => ?_)
  refine j_aload_n (pc := 834) hX 0 rfl dX10_init_834 ?_
  refine j_bipush (pc := 835) hX bp_16 dX10_init_835 ?_
  refine j_grd fun g578 => ?_
  refine j_newa (pc := 837) (k := 100) (n := 16) (q := 0) (atype := .int) hX rfl (Nat.le_of_ble_eq_true rfl) (fun _ => rfl) (fun _ h => by cases h) q320 (by decide) (by decide) (Nat.le_of_ble_eq_true rfl) (iV_vA g578) (fun _ => rfl) dX10_init_837 (fun b579 h580 => ?_)
  refine j_grd fun g581 => ?_
  refine c_putFR (pc := 839) hX hnm ijX10_48_X10.1 ijX10_48_X10.2 g581 (iV_sR trivial) dX10_init_839 (fun h582 qz583 => ?_)
  refine j_aload_n (pc := 842) hX 0 rfl dX10_init_842 ?_
  refine j_bipush (pc := 843) hX bp_16 dX10_init_843 ?_
  refine j_grd fun g585 => ?_
  refine j_newa (pc := 845) (k := 100) (n := 16) (q := 0) (atype := .int) hX rfl (Nat.le_of_ble_eq_true rfl) (fun _ => rfl) (fun _ h => by cases h) q320 (by decide) (by decide) (Nat.le_of_ble_eq_true rfl) (iV_vA g585) (fun _ => rfl) dX10_init_845 (fun b586 h587 => ?_)
  refine j_grd fun g588 => ?_
  refine c_putFR (pc := 847) hX hnm ijX10_51_X10.1 ijX10_51_X10.2 g588 (iV_sR trivial) dX10_init_847 (fun h589 qz590 => ?_)
  refine j_aload_n (pc := 850) hX 0 rfl dX10_init_850 ?_
  refine j_bipush (pc := 851) hX bp_16 dX10_init_851 ?_
  refine j_grd fun g592 => ?_
  refine j_newa (pc := 853) (k := 100) (n := 16) (q := 0) (atype := .int) hX rfl (Nat.le_of_ble_eq_true rfl) (fun _ => rfl) (fun _ h => by cases h) q320 (by decide) (by decide) (Nat.le_of_ble_eq_true rfl) (iV_vA g592) (fun _ => rfl) dX10_init_853 (fun b593 h594 => ?_)
  refine j_grd fun g595 => ?_
  refine c_putFR (pc := 855) hX hnm ijX10_54_X10.1 ijX10_54_X10.2 g595 (iV_sR trivial) dX10_init_855 (fun h596 qz597 => ?_)
  refine j_aload_n (pc := 858) hX 0 rfl dX10_init_858 ?_
  refine j_bipush (pc := 859) hX bp_16 dX10_init_859 ?_
  refine j_grd fun g599 => ?_
  refine j_newa (pc := 861) (k := 100) (n := 16) (q := 0) (atype := .int) hX rfl (Nat.le_of_ble_eq_true rfl) (fun _ => rfl) (fun _ h => by cases h) q320 (by decide) (by decide) (Nat.le_of_ble_eq_true rfl) (iV_vA g599) (fun _ => rfl) dX10_init_861 (fun b600 h601 => ?_)
  refine j_grd fun g602 => ?_
  refine c_putFR (pc := 863) hX hnm ijX10_57_X10.1 ijX10_57_X10.2 g602 (iV_sR trivial) dX10_init_863 (fun h603 qz604 => ?_)
  refine j_aload_n (pc := 866) hX 0 rfl dX10_init_866 ?_
  refine j_bipush (pc := 867) hX bp_20 dX10_init_867 ?_
  refine j_grd fun g606 => ?_
  refine j_newa (pc := 869) (k := 100) (n := 20) (q := 0) (atype := .int) hX rfl (Nat.le_of_ble_eq_true rfl) (fun _ => rfl) (fun _ h => by cases h) q320 (by decide) (by decide) (Nat.le_of_ble_eq_true rfl) (iV_vA g606) (fun _ => rfl) dX10_init_869 (fun b607 h608 => ?_)
  refine j_grd fun g609 => ?_
  refine c_putFR (pc := 871) hX hnm ijX10_60_X10.1 ijX10_60_X10.2 g609 (iV_sR trivial) dX10_init_871 (fun h610 qz611 => ?_)
  refine j_aload_n (pc := 874) hX 0 rfl dX10_init_874 ?_
  refine j_bipush (pc := 875) hX bp_20 dX10_init_875 ?_
  refine j_grd fun g613 => ?_
  refine j_newa (pc := 877) (k := 100) (n := 20) (q := 0) (atype := .int) hX rfl (Nat.le_of_ble_eq_true rfl) (fun _ => rfl) (fun _ h => by cases h) q320 (by decide) (by decide) (Nat.le_of_ble_eq_true rfl) (iV_vA g613) (fun _ => rfl) dX10_init_877 (fun b614 h615 => ?_)
  refine j_grd fun g616 => ?_
  refine c_putFR (pc := 879) hX hnm ijX10_63_X10.1 ijX10_63_X10.2 g616 (iV_sR trivial) dX10_init_879 (fun h617 qz618 => ?_)
  refine j_aload_n (pc := 882) hX 0 rfl dX10_init_882 ?_
  refine j_bipush (pc := 883) hX bp_20 dX10_init_883 ?_
  refine j_grd fun g620 => ?_
  refine j_newa (pc := 885) (k := 100) (n := 20) (q := 0) (atype := .int) hX rfl (Nat.le_of_ble_eq_true rfl) (fun _ => rfl) (fun _ h => by cases h) q320 (by decide) (by decide) (Nat.le_of_ble_eq_true rfl) (iV_vA g620) (fun _ => rfl) dX10_init_885 (fun b621 h622 => ?_)
  refine j_grd fun g623 => ?_
  refine c_putFR (pc := 887) hX hnm ijX10_66_X10.1 ijX10_66_X10.2 g623 (iV_sR trivial) dX10_init_887 (fun h624 qz625 => ?_)
  refine j_aload_n (pc := 890) hX 0 rfl dX10_init_890 ?_
  refine j_iconst (pc := 891) hX ic_4 dX10_init_891 ?_
  refine j_grd fun g627 => ?_
  refine j_newa (pc := 892) (k := 103) (n := 4) (q := 3) (atype := .boolean) hX rfl (Nat.le_of_ble_eq_true rfl) (fun _ => rfl) (fun _ h => by cases h) q513 (by decide) (by decide) (Nat.le_of_ble_eq_true rfl) (iV_vA g627) (fun _ => rfl) dX10_init_892 (fun b628 h629 => ?_)
  refine j_grd fun g630 => ?_
  refine c_putFR (pc := 894) hX hnm ijX10_69_X10.1 ijX10_69_X10.2 g630 (iV_sR trivial) dX10_init_894 (fun h631 qz632 => ?_)
  refine j_aload_n (pc := 897) hX 0 rfl dX10_init_897 ?_
  refine j_iconst (pc := 898) hX ic_4 dX10_init_898 ?_
  refine j_grd fun g634 => ?_
  refine j_newa (pc := 899) (k := 100) (n := 4) (q := 0) (atype := .int) hX rfl (Nat.le_of_ble_eq_true rfl) (fun _ => rfl) (fun _ h => by cases h) q320 (by decide) (by decide) (Nat.le_of_ble_eq_true rfl) (iV_vA g634) (fun _ => rfl) dX10_init_899 (fun b635 h636 => ?_)
  refine j_grd fun g637 => ?_
  refine c_putFR (pc := 901) hX hnm ijX10_72_X10.1 ijX10_72_X10.2 g637 (iV_sR trivial) dX10_init_901 (fun h638 qz639 => ?_)
  refine j_aload_n (pc := 904) hX 0 rfl dX10_init_904 ?_
  refine j_iconst (pc := 905) hX ic_4 dX10_init_905 ?_
  refine j_grd fun g641 => ?_
  refine j_newa (pc := 906) (k := 100) (n := 4) (q := 0) (atype := .int) hX rfl (Nat.le_of_ble_eq_true rfl) (fun _ => rfl) (fun _ h => by cases h) q320 (by decide) (by decide) (Nat.le_of_ble_eq_true rfl) (iV_vA g641) (fun _ => rfl) dX10_init_906 (fun b642 h643 => ?_)
  refine j_grd fun g644 => ?_
  refine c_putFR (pc := 908) hX hnm ijX10_75_X10.1 ijX10_75_X10.2 g644 (iV_sR trivial) dX10_init_908 (fun h645 qz646 => ?_)
  refine j_aload_n (pc := 911) hX 0 rfl dX10_init_911 ?_
  refine j_sipush (pc := 912) hX sp_128 dX10_init_912 ?_
  refine j_grd fun g648 => ?_
  refine j_newa (pc := 915) (k := 100) (n := 128) (q := 0) (atype := .int) hX rfl (Nat.le_of_ble_eq_true rfl) (fun _ => rfl) (fun _ h => by cases h) q320 (by decide) (by decide) (Nat.le_of_ble_eq_true rfl) (iV_vA g648) (fun _ => rfl) dX10_init_915 (fun b649 h650 => ?_)
  refine j_grd fun g651 => ?_
  refine c_putFR (pc := 917) hX hnm ijX10_78_X10.1 ijX10_78_X10.2 g651 (iV_sR trivial) dX10_init_917 (fun h652 qz653 => ?_)
  refine j_aload_n (pc := 920) hX 0 rfl dX10_init_920 ?_
  refine j_sipush (pc := 921) hX sp_128 dX10_init_921 ?_
  refine j_grd fun g655 => ?_
  refine j_newa (pc := 924) (k := 100) (n := 128) (q := 0) (atype := .int) hX rfl (Nat.le_of_ble_eq_true rfl) (fun _ => rfl) (fun _ h => by cases h) q320 (by decide) (by decide) (Nat.le_of_ble_eq_true rfl) (iV_vA g655) (fun _ => rfl) dX10_init_924 (fun b656 h657 => ?_)
  refine j_grd fun g658 => ?_
  refine c_putFR (pc := 926) hX hnm ijX10_81_X10.1 ijX10_81_X10.2 g658 (iV_sR trivial) dX10_init_926 (fun h659 qz660 => ?_)
  refine j_aload_n (pc := 929) hX 0 rfl dX10_init_929 ?_
  refine j_sipush (pc := 930) hX sp_128 dX10_init_930 ?_
  refine j_grd fun g662 => ?_
  refine j_newa (pc := 933) (k := 100) (n := 128) (q := 0) (atype := .int) hX rfl (Nat.le_of_ble_eq_true rfl) (fun _ => rfl) (fun _ h => by cases h) q320 (by decide) (by decide) (Nat.le_of_ble_eq_true rfl) (iV_vA g662) (fun _ => rfl) dX10_init_933 (fun b663 h664 => ?_)
  refine j_grd fun g665 => ?_
  refine c_putFR (pc := 935) hX hnm ijX10_84_X10.1 ijX10_84_X10.2 g665 (iV_sR trivial) dX10_init_935 (fun h666 qz667 => ?_)
  refine j_aload_n (pc := 938) hX 0 rfl dX10_init_938 ?_
  refine j_bipush (pc := 939) hX bp_96 dX10_init_939 ?_
  refine j_grd fun g669 => ?_
  refine j_newa (pc := 941) (k := 100) (n := 96) (q := 0) (atype := .int) hX rfl (Nat.le_of_ble_eq_true rfl) (fun _ => rfl) (fun _ h => by cases h) q320 (by decide) (by decide) (Nat.le_of_ble_eq_true rfl) (iV_vA g669) (fun _ => rfl) dX10_init_941 (fun b670 h671 => ?_)
  refine j_grd fun g672 => ?_
  refine c_putFR (pc := 943) hX hnm ijX10_87_X10.1 ijX10_87_X10.2 g672 (iV_sR trivial) dX10_init_943 (fun h673 qz674 => ?_)
  refine j_aload_n (pc := 946) hX 0 rfl dX10_init_946 ?_
  refine j_bipush (pc := 947) hX bp_96 dX10_init_947 ?_
  refine j_grd fun g676 => ?_
  refine j_newa (pc := 949) (k := 100) (n := 96) (q := 0) (atype := .int) hX rfl (Nat.le_of_ble_eq_true rfl) (fun _ => rfl) (fun _ h => by cases h) q320 (by decide) (by decide) (Nat.le_of_ble_eq_true rfl) (iV_vA g676) (fun _ => rfl) dX10_init_949 (fun b677 h678 => ?_)
  refine j_grd fun g679 => ?_
  refine c_putFR (pc := 951) hX hnm ijX10_90_X10.1 ijX10_90_X10.2 g679 (iV_sR trivial) dX10_init_951 (fun h680 qz681 => ?_)
  refine j_aload_n (pc := 954) hX 0 rfl dX10_init_954 ?_
  refine j_bipush (pc := 955) hX bp_7 dX10_init_955 ?_
  refine j_grd fun g683 => ?_
  refine j_newa (pc := 957) (k := 101) (n := 7) (q := 1) (atype := .long) hX rfl (Nat.le_of_ble_eq_true rfl) (fun _ => rfl) (fun _ h => by cases h) q333 (by decide) (by decide) (Nat.le_of_ble_eq_true rfl) (iV_vA g683) (fun _ => rfl) dX10_init_957 (fun b684 h685 => ?_)
  refine j_grd fun g686 => ?_
  refine c_putFR (pc := 959) hX hnm ijX10_93_X10.1 ijX10_93_X10.2 g686 (iV_sR trivial) dX10_init_959 (fun h687 qz688 => ?_)
  refine j_aload_n (pc := 962) hX 0 rfl dX10_init_962 ?_
  refine j_bipush (pc := 963) hX bp_64 dX10_init_963 ?_
  refine j_grd fun g690 => ?_
  refine j_newa (pc := 965) (k := 101) (n := 64) (q := 1) (atype := .long) hX rfl (Nat.le_of_ble_eq_true rfl) (fun _ => rfl) (fun _ h => by cases h) q333 (by decide) (by decide) (Nat.le_of_ble_eq_true rfl) (iV_vA g690) (fun _ => rfl) dX10_init_965 (fun b691 h692 => ?_)
  refine j_grd fun g693 => ?_
  refine c_putFR (pc := 967) hX hnm ijX10_97_X10.1 ijX10_97_X10.2 g693 (iV_sR trivial) dX10_init_967 (fun h694 qz695 => ?_)
  refine j_aload_n (pc := 970) hX 0 rfl dX10_init_970 ?_
  refine j_bipush (pc := 971) hX bp_10 dX10_init_971 ?_
  refine j_grd fun g697 => ?_
  refine j_newa (pc := 973) (k := 100) (n := 10) (q := 0) (atype := .int) hX rfl (Nat.le_of_ble_eq_true rfl) (fun _ => rfl) (fun _ h => by cases h) q320 (by decide) (by decide) (Nat.le_of_ble_eq_true rfl) (iV_vA g697) (fun _ => rfl) dX10_init_973 (fun b698 h699 => ?_)
  refine j_grd fun g700 => ?_
  refine c_putFR (pc := 975) hX hnm ijX10_100_X10.1 ijX10_100_X10.2 g700 (iV_sR trivial) dX10_init_975 (fun h701 qz702 => ?_)
  refine j_aload_n (pc := 978) hX 0 rfl dX10_init_978 ?_
  refine j_bipush (pc := 979) hX bp_10 dX10_init_979 ?_
  refine j_grd fun g704 => ?_
  refine j_newa (pc := 981) (k := 100) (n := 10) (q := 0) (atype := .int) hX rfl (Nat.le_of_ble_eq_true rfl) (fun _ => rfl) (fun _ h => by cases h) q320 (by decide) (by decide) (Nat.le_of_ble_eq_true rfl) (iV_vA g704) (fun _ => rfl) dX10_init_981 (fun b705 h706 => ?_)
  refine j_grd fun g707 => ?_
  refine c_putFR (pc := 983) hX hnm ijX10_103_X10.1 ijX10_103_X10.2 g707 (iV_sR trivial) dX10_init_983 (fun h708 qz709 => ?_)
  refine j_aload_n (pc := 986) hX 0 rfl dX10_init_986 ?_
  refine j_bipush (pc := 987) hX bp_10 dX10_init_987 ?_
  refine j_grd fun g711 => ?_
  refine j_newa (pc := 989) (k := 100) (n := 10) (q := 0) (atype := .int) hX rfl (Nat.le_of_ble_eq_true rfl) (fun _ => rfl) (fun _ h => by cases h) q320 (by decide) (by decide) (Nat.le_of_ble_eq_true rfl) (iV_vA g711) (fun _ => rfl) dX10_init_989 (fun b712 h713 => ?_)
  refine j_grd fun g714 => ?_
  refine c_putFR (pc := 991) hX hnm ijX10_106_X10.1 ijX10_106_X10.2 g714 (iV_sR trivial) dX10_init_991 (fun h715 qz716 => ?_)
  refine j_aload_n (pc := 994) hX 0 rfl dX10_init_994 ?_
  refine j_bipush (pc := 995) hX bp_10 dX10_init_995 ?_
  refine j_grd fun g718 => ?_
  refine j_newa (pc := 997) (k := 100) (n := 10) (q := 0) (atype := .int) hX rfl (Nat.le_of_ble_eq_true rfl) (fun _ => rfl) (fun _ h => by cases h) q320 (by decide) (by decide) (Nat.le_of_ble_eq_true rfl) (iV_vA g718) (fun _ => rfl) dX10_init_997 (fun b719 h720 => ?_)
  refine j_grd fun g721 => ?_
  refine c_putFR (pc := 999) hX hnm ijX10_109_X10.1 ijX10_109_X10.2 g721 (iV_sR trivial) dX10_init_999 (fun h722 qz723 => ?_)
  refine j_aload_n (pc := 1002) hX 0 rfl dX10_init_1002 ?_
  refine j_iconst (pc := 1003) hX ic_2 dX10_init_1003 ?_
  refine j_grd fun g725 => ?_
  refine j_newa (pc := 1004) (k := 100) (n := 2) (q := 0) (atype := .int) hX rfl (Nat.le_of_ble_eq_true rfl) (fun _ => rfl) (fun _ h => by cases h) q320 (by decide) (by decide) (Nat.le_of_ble_eq_true rfl) (iV_vA g725) (fun _ => rfl) dX10_init_1004 (fun b726 h727 => ?_)
  refine j_grd fun g728 => ?_
  refine c_putFR (pc := 1006) hX hnm ijX10_112_X10.1 ijX10_112_X10.2 g728 (iV_sR trivial) dX10_init_1006 (fun h729 qz730 => ?_)
  refine j_aload_n (pc := 1009) hX 0 rfl dX10_init_1009 ?_
  refine j_iconst (pc := 1010) hX ic_2 dX10_init_1010 ?_
  refine j_grd fun g732 => ?_
  refine j_newa (pc := 1011) (k := 100) (n := 2) (q := 0) (atype := .int) hX rfl (Nat.le_of_ble_eq_true rfl) (fun _ => rfl) (fun _ h => by cases h) q320 (by decide) (by decide) (Nat.le_of_ble_eq_true rfl) (iV_vA g732) (fun _ => rfl) dX10_init_1011 (fun b733 h734 => ?_)
  refine j_grd fun g735 => ?_
  refine c_putFR (pc := 1013) hX hnm ijX10_115_X10.1 ijX10_115_X10.2 g735 (iV_sR trivial) dX10_init_1013 (fun h736 qz737 => ?_)
  refine j_aload_n (pc := 1016) hX 0 rfl dX10_init_1016 ?_
  refine j_bipush (pc := 1017) hX bp_81 dX10_init_1017 ?_
  refine j_grd fun g739 => ?_
  refine j_newa (pc := 1019) (k := 100) (n := 81) (q := 0) (atype := .int) hX rfl (Nat.le_of_ble_eq_true rfl) (fun _ => rfl) (fun _ h => by cases h) q320 (by decide) (by decide) (Nat.le_of_ble_eq_true rfl) (iV_vA g739) (fun _ => rfl) dX10_init_1019 (fun b740 h741 => ?_)
  refine j_grd fun g742 => ?_
  refine c_putFR (pc := 1021) hX hnm ijX10_118_X10.1 ijX10_118_X10.2 g742 (iV_sR trivial) dX10_init_1021 (fun h743 qz744 => ?_)
  refine j_aload_n (pc := 1024) hX 0 rfl dX10_init_1024 ?_
  refine j_bipush (pc := 1025) hX bp_81 dX10_init_1025 ?_
  refine j_grd fun g746 => ?_
  refine j_newa (pc := 1027) (k := 100) (n := 81) (q := 0) (atype := .int) hX rfl (Nat.le_of_ble_eq_true rfl) (fun _ => rfl) (fun _ h => by cases h) q320 (by decide) (by decide) (Nat.le_of_ble_eq_true rfl) (iV_vA g746) (fun _ => rfl) dX10_init_1027 (fun b747 h748 => ?_)
  refine j_grd fun g749 => ?_
  refine c_putFR (pc := 1029) hX hnm ijX10_121_X10.1 ijX10_121_X10.2 g749 (iV_sR trivial) dX10_init_1029 (fun h750 qz751 => ?_)
  refine j_aload_n (pc := 1032) hX 0 rfl dX10_init_1032 ?_
  refine j_iconst (pc := 1033) hX ic_m1 dX10_init_1033 ?_
  refine j_grd fun g753 => ?_
  refine c_putI (pc := 1034) hX iwX10_124_X10.1 iwX10_124_X10.2 g753 dX10_init_1034 (fun h754 qz755 qz756 => ?_)
  refine j_aload_n (pc := 1037) hX 0 rfl dX10_init_1037 ?_
  refine j_bipush (pc := 1038) hX bp_96 dX10_init_1038 ?_
  refine j_grd fun g757 => ?_
  refine j_newa (pc := 1040) (k := 100) (n := 96) (q := 0) (atype := .int) hX rfl (Nat.le_of_ble_eq_true rfl) (fun _ => rfl) (fun _ h => by cases h) q320 (by decide) (by decide) (Nat.le_of_ble_eq_true rfl) (iV_vA g757) (fun _ => rfl) dX10_init_1040 (fun b758 h759 => ?_)
  refine j_grd fun g760 => ?_
  refine c_putFR (pc := 1042) hX hnm ijX10_127_X10.1 ijX10_127_X10.2 g760 (iV_sR trivial) dX10_init_1042 (fun h761 qz762 => ?_)
  refine j_aload_n (pc := 1045) hX 0 rfl dX10_init_1045 ?_
  refine j_bipush (pc := 1046) hX bp_24 dX10_init_1046 ?_
  refine j_grd fun g764 => ?_
  refine j_newa (pc := 1048) (k := 103) (n := 24) (q := 3) (atype := .boolean) hX rfl (Nat.le_of_ble_eq_true rfl) (fun _ => rfl) (fun _ h => by cases h) q513 (by decide) (by decide) (Nat.le_of_ble_eq_true rfl) (iV_vA g764) (fun _ => rfl) dX10_init_1048 (fun b765 h766 => ?_)
  refine j_grd fun g767 => ?_
  refine c_putFR (pc := 1050) hX hnm ijX10_130_X10.1 ijX10_130_X10.2 g767 (iV_sR trivial) dX10_init_1050 (fun h768 qz769 => ?_)
  refine j_aload_n (pc := 1053) hX 0 rfl dX10_init_1053 ?_
  refine j_sipush (pc := 1054) hX sp_440 dX10_init_1054 ?_
  refine j_grd fun g771 => ?_
  refine j_newa (pc := 1057) (k := 100) (n := 440) (q := 0) (atype := .int) hX rfl (Nat.le_of_ble_eq_true rfl) (fun _ => rfl) (fun _ h => by cases h) q320 (by decide) (by decide) (Nat.le_of_ble_eq_true rfl) (iV_vA g771) (fun _ => rfl) dX10_init_1057 (fun b772 h773 => ?_)
  refine j_grd fun g774 => ?_
  refine c_putFR (pc := 1059) hX hnm ijX10_133_X10.1 ijX10_133_X10.2 g774 (iV_sR trivial) dX10_init_1059 (fun h775 qz776 => ?_)
  refine j_aload_n (pc := 1062) hX 0 rfl dX10_init_1062 ?_
  refine j_bipush (pc := 1063) hX bp_20 dX10_init_1063 ?_
  refine j_grd fun g778 => ?_
  refine j_newa (pc := 1065) (k := 101) (n := 20) (q := 1) (atype := .long) hX rfl (Nat.le_of_ble_eq_true rfl) (fun _ => rfl) (fun _ h => by cases h) q333 (by decide) (by decide) (Nat.le_of_ble_eq_true rfl) (iV_vA g778) (fun _ => rfl) dX10_init_1065 (fun b779 h780 => ?_)
  refine j_grd fun g781 => ?_
  refine c_putFR (pc := 1067) hX hnm ijX10_136_X10.1 ijX10_136_X10.2 g781 (iV_sR trivial) dX10_init_1067 (fun h782 qz783 => ?_)
  refine j_aload_n (pc := 1070) hX 0 rfl dX10_init_1070 ?_
  refine j_bipush (pc := 1071) hX bp_22 dX10_init_1071 ?_
  refine j_grd fun g785 => ?_
  refine j_newa (pc := 1073) (k := 100) (n := 22) (q := 0) (atype := .int) hX rfl (Nat.le_of_ble_eq_true rfl) (fun _ => rfl) (fun _ h => by cases h) q320 (by decide) (by decide) (Nat.le_of_ble_eq_true rfl) (iV_vA g785) (fun _ => rfl) dX10_init_1073 (fun b786 h787 => ?_)
  refine j_grd fun g788 => ?_
  refine c_putFR (pc := 1075) hX hnm ijX10_139_X10.1 ijX10_139_X10.2 g788 (iV_sR trivial) dX10_init_1075 (fun h789 qz790 => ?_)
  refine j_aload_n (pc := 1078) hX 0 rfl dX10_init_1078 ?_
  refine j_grd fun g794 => ?_
  refine j_callV (pc := 1079) (e1 := eV) (a := 0) (As := fun z => []) (rest := []) hX (fun r e => ikX10_plain_t h789 r e) ymX10_plain (lw_V q1584 q1586 qs62 q154 q1587) rfl ckX10 g794 ⟨Nat.le_of_ble_eq_true rfl, Nat.le_of_ble_eq_true rfl⟩ rfl rfl (Nat.le_of_ble_eq_true rfl) dX10_init_1079 (fun r792 h793 => ?_)
  refine j_aload_n (pc := 1082) hX 0 rfl dX10_init_1082 ?_
  refine j_grd fun g797 => ?_
  refine j_callV (pc := 1083) (e1 := eV) (a := 0) (As := fun z => []) (rest := []) hX (fun r e => ikX10_keepText_t h793 r e) ymX10_keepText (lw_V q1588 q1590 qs63 q154 q1591) rfl ckX10 g797 ⟨Nat.le_of_ble_eq_true rfl, Nat.le_of_ble_eq_true rfl⟩ rfl rfl (Nat.le_of_ble_eq_true rfl) dX10_init_1083 (fun r795 h796 => ?_)
  exact j_vret (pc := 1086) hX hr dX10_init_1086
