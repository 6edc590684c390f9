/-! the component: walks -/
set_option maxHeartbeats 4000000 in
set_option maxRecDepth 100000 in
theorem cA_asks_66_w {X : CTX} {rr : Unit × HP} (f : Nat → Int32 → Int32 → Int32 → HP → Option (Unit × HP)) (F L : Nat) (hf : okAsks f F L) (hX : okX cV X rr cX1_asks RX1 8 (F + 164) (L + 3862)) (hr : (xh X).sig.returnType = none) (f1 : Nat) (f2 : Int32) (f3 : Int32) (f4 : Int32) (f5 : Nat) (k : HP → Option (Unit × HP)) (hk : ∀  (h : HP), jG cV X evV rr (k  h) 161 [] [] h) : ∀ (n : Nat) (v6 : Int32) (h : HP), jG cV X evV rr (cA_asks_66 f f1 f2 f3 f4 f5 k n v6 h) 66 [(0, .ref (xz X + 0)), (1, .ref (xz X + f1)), (2, .int f2), (3, .int f3), (4, .int f4), (5, .ref (xz X + f5)), (6, .int v6)] [] h := by
  intro n
  induction n with
  | zero =>
    intro v6 h
    exact j_none
  | succ n ih =>
    intro v6 h
    rw [cA_asks_66]
    refine j_iload (pc := 66) hX 6 rfl dX1_asks_66 ?_
    refine j_aload_n (pc := 68) hX 0 rfl dX1_asks_68 ?_
    refine j_callV (pc := 69) (e1 := eI) (a := 0) (As := fun z => []) (rest := [.int v6]) hX (fun r e => cA_persons_t h r e) ymX1_persons (lw_V q1060 q415 qs0 q140 q416) rfl ckX1 rfl ⟨by omega, by omega⟩ rfl rfl (Nat.le_of_ble_eq_true rfl) dX1_asks_69 (fun r18 h19 => ?_)
    refine j_cge (pc := 72) (tgt := 161) hX rfl dX1_asks_72 (fun _ => ?_) (fun _ => ?_)
    · refine j_locs [] rfl ?_
      exact hk h19
    · refine j_iconst (pc := 75) hX ic_0 dX1_asks_75 ?_
      refine j_istore (pc := 76) hX (fun x20 => [(7, .int x20), (0, .ref (xz X + 0)), (1, .ref (xz X + f1)), (2, .int f2), (3, .int f3), (4, .int f4), (5, .ref (xz X + f5)), (6, .int v6)]) (fun _ => rfl) (Nat.le_of_ble_eq_true rfl) dX1_asks_76 (fun x20 => ?_)
      refine j_locs [1, 2, 3, 4, 5, 6, 7, 0] rfl ?_
      refine cA_asks_78_w f F L hf hX hr f1 f2 f3 f4 f5 v6 _ (fun  h39 => ?_) FU x20 h19
      refine j_iinc (pc := 155) hX 6 rfl (1 : Int32) ic_1 (fun x40 => [(6, .int x40), (0, .ref (xz X + 0)), (1, .ref (xz X + f1)), (2, .int f2), (3, .int f3), (4, .int f4), (5, .ref (xz X + f5))]) (fun _ => rfl) (Nat.le_of_ble_eq_true rfl) dX1_asks_155 (fun x40 => ?_)
      refine j_goto (pc := 158) (tgt := 66) hX rfl dX1_asks_158 ?_
      refine j_locs [1, 2, 3, 4, 5, 6, 0] rfl ?_
      exact ih x40 h39
set_option maxHeartbeats 4000000 in
set_option maxRecDepth 100000 in
theorem cA_asks_t (f : Nat → Int32 → Int32 → Int32 → HP → Option (Unit × HP)) (F L : Nat) (hf : okAsks f F L)  (a1 : Nat) (a2 : Int32) (a3 : Int32) (a4 : Int32) (h : HP) (rr : Unit × HP) (e : cA_asks f a1 a2 a3 a4 h = some rr) : Cn cV yX1_asks (ws_ yX1_asks cX1_asks 8 (none)) (F + 164) (L + 3862) (fun z => [.ref (z + 0), .ref (z + a1), .int a2, .int a3, .int a4]) h (fun z => eV z rr.1) rr.2 := by
  refine cn_of (e1 := eV) (fun z => [(0, .ref (z + 0)), (1, .ref (z + a1)), (2, .int a2), (3, .int a3), (4, .int a4)]) cV_ok (cA_asks_m f (hf.2) a1 a2 a3 a4 h _ e) ymX1_asks (fun _ => rfl) (fun _ => Nat.le_of_ble_eq_true rfl) (fun X hX hr hnm => ?_) e
  have hX : okX cV X rr cX1_asks RX1 8 (F + 164) (L + 3862) := hX
  rw [cA_asks]
  refine j_iload_n (pc := 0) hX 2 rfl dX1_asks_0 ?_
  refine j_iload_n (pc := 1) hX 3 rfl dX1_asks_1 ?_
  refine j_cne (pc := 2) (tgt := 55) hX rfl dX1_asks_2 (fun _ => ?_) (fun _ => ?_)
  · refine j_aload_n (pc := 5) hX 1 rfl dX1_asks_5 ?_
    refine j_grd fun g3 => ?_
    refine j_callV (pc := 6) (e1 := eI) (a := a1) (As := fun z => []) (rest := []) hX (fun r e => cS_sum_t a1 h r e) ymX9_sum (lw_V q1291 q1244 q1245 q151 q1246) rfl ckX9 (k1_of g3.1) ⟨by omega, by omega⟩ rfl rfl (Nat.le_of_ble_eq_true rfl) dX1_asks_6 (fun r1 h2 => ?_)
    refine j_aload_n (pc := 9) hX 0 rfl dX1_asks_9 ?_
    refine c_getI (pc := 10) hX fgX1_337_X1.1 fgX1_337_X1.2 rfl dX1_asks_10 ?_
    refine j_cgt (pc := 13) (tgt := 17) hX rfl dX1_asks_13 (fun _ => ?_) (fun _ => ?_)
    · refine j_aload_n (pc := 17) hX 0 rfl dX1_asks_17 ?_
      refine j_aload_n (pc := 18) hX 1 rfl dX1_asks_18 ?_
      refine j_grd fun g6 => ?_
      refine j_callV (pc := 19) (e1 := eI) (a := a1) (As := fun z => []) (rest := [.ref (xz X + 0)]) hX (fun r e => cS_sum_t a1 h2 r e) ymX9_sum (lw_V q1291 q1244 q1245 q151 q1246) rfl ckX9 (k1_of g6.1) ⟨by omega, by omega⟩ rfl rfl (Nat.le_of_ble_eq_true rfl) dX1_asks_19 (fun r4 h5 => ?_)
      refine c_putI (pc := 22) hX fwX1_337_X1.1 fwX1_337_X1.2 rfl dX1_asks_22 (fun h7 q8 q9 => ?_)
      refine j_iconst (pc := 25) hX ic_0 dX1_asks_25 ?_
      refine j_istore (pc := 26) hX (fun x10 => [(5, .int x10), (0, .ref (xz X + 0)), (1, .ref (xz X + a1)), (2, .int a2), (3, .int a3), (4, .int a4)]) (fun _ => rfl) (Nat.le_of_ble_eq_true rfl) dX1_asks_26 (fun x10 => ?_)
      refine j_locs [1, 4, 0] rfl ?_
      refine cA_asks_28_w f F L hf hX hr a3 _ (fun  h15 => ?_) FU x10 h7
      exact j_vret (pc := 54) hX hr dX1_asks_54
    · exact j_vret (pc := 16) hX hr dX1_asks_16
  · refine j_aload_n (pc := 55) hX 0 rfl dX1_asks_55 ?_
    refine c_getR (pc := 56) hX fgX1_109_X1.1 fgX1_109_X1.2 rfl rfl dX1_asks_56 ?_
    refine j_iload_n (pc := 59) hX 2 rfl dX1_asks_59 ?_
    refine j_aald (pc := 60) (n := 2) (q := 7) hX (Nat.le_of_ble_eq_true rfl) (fun _ => rfl) rfl dX1_asks_60 (fun b16 => ?_)
    refine j_astore (pc := 61) (ls' := [(5, .ref (xz X + b16)), (0, .ref (xz X + 0)), (1, .ref (xz X + a1)), (2, .int a2), (3, .int a3), (4, .int a4)]) hX rfl (Nat.le_of_ble_eq_true rfl) dX1_asks_61 ?_
    refine j_iconst (pc := 63) hX ic_0 dX1_asks_63 ?_
    refine j_istore (pc := 64) hX (fun x17 => [(6, .int x17), (5, .ref (xz X + b16)), (0, .ref (xz X + 0)), (1, .ref (xz X + a1)), (2, .int a2), (3, .int a3), (4, .int a4)]) (fun _ => rfl) (Nat.le_of_ble_eq_true rfl) dX1_asks_64 (fun x17 => ?_)
    refine j_locs [2, 3, 4, 5, 6, 1, 0] rfl ?_
    refine cA_asks_66_w f F L hf hX hr a1 a2 a3 a4 b16 _ (fun  h41 => ?_) FU x17 h
    exact j_vret (pc := 161) hX hr dX1_asks_161
theorem cA_asksN_c : ∀ n : Nat, okAsks (cA_asksN n) (164 * n) (3862 * n) := by
  intro n
  induction n with
  | zero => exact ⟨fun x0 x1 x2 x3 h rr e => (by cases e), cA_asksN_m 0⟩
  | succ n ih => exact ⟨fun x0 x1 x2 x3 h rr e => cA_asks_t (cA_asksN n) _ _ ih x0 x1 x2 x3 h rr e, cA_asksN_m (n + 1)⟩
set_option maxHeartbeats 4000000 in
set_option maxRecDepth 100000 in
theorem cA_best_t   (a1 : Int32) (a2 : Int32) (a3 : Int32) (h : HP) (rr : Int32 × HP) (e : cA_best a1 a2 a3 h = some rr) : Cn cV yX1_best (ws_ yX1_best cX1_best 4 (some .int)) 657 15475 (fun z => [.ref (z + 0), .int a1, .int a2, .int a3]) h (fun z => eI z rr.1) rr.2 := by
  refine cn_of (e1 := eI) (fun z => [(0, .ref (z + 0)), (1, .int a1), (2, .int a2), (3, .int a3)]) cV_ok (cA_best_m a1 a2 a3 h _ e) ymX1_best (fun _ => rfl) (fun _ => Nat.le_of_ble_eq_true rfl) (fun X hX hr hnm => ?_) e
  have hX : okX cV X rr cX1_best RX1 4 657 15475 := hX
  rw [cA_best]
  refine j_aload_n (pc := 0) hX 0 rfl dX1_best_0 ?_
  refine j_iload_n (pc := 1) hX 1 rfl dX1_best_1 ?_
  refine j_callV (pc := 2) (e1 := eI) (a := 0) (As := fun z => [.int a1]) (rest := []) hX (fun r e => cA_isPerson_t a1 h r e) ymX1_isPerson (lw_V q1056 q1058 qs37 q140 q1059) rfl ckX1 rfl ⟨Nat.le_of_ble_eq_true rfl, Nat.le_of_ble_eq_true rfl⟩ rfl rfl (Nat.le_of_ble_eq_true rfl) dX1_best_2 (fun r1 h2 => ?_)
  refine j_ifeq (pc := 5) (tgt := 32) hX rfl dX1_best_5 (fun _ => ?_) (fun _ => ?_)
  · refine j_iconst (pc := 32) hX ic_m1 dX1_best_32 ?_
    exact j_iret (pc := 33) hX hr dX1_best_33
  · refine j_iload_n (pc := 8) hX 2 rfl dX1_best_8 ?_
    refine j_i2l (pc := 9) hX dX1_best_9 ?_
    refine j_lconst (pc := 10) (v := 1) hX rfl dX1_best_10 ?_
    refine j_ldc2 (pc := 11) hX q1304 dX1_best_11 ?_
    refine j_callS (pc := 14) (e1 := eI) (As := fun z => [.long (a2).toInt64, .long (1 : Int64), .long (2 : Int64)]) (rest := []) hX (fun r e => cA_in_t (a2).toInt64 (1 : Int64) (2 : Int64) h2 r e) ymX1_in (lw_S q527 q528 q140 q529) ⟨Nat.le_of_ble_eq_true rfl, Nat.le_of_ble_eq_true rfl⟩ rfl rfl (Nat.le_of_ble_eq_true rfl) dX1_best_14 (fun r3 h4 => ?_)
    refine j_ifeq (pc := 17) (tgt := 32) hX rfl dX1_best_17 (fun _ => ?_) (fun _ => ?_)
    · refine j_iconst (pc := 32) hX ic_m1 dX1_best_32 ?_
      exact j_iret (pc := 33) hX hr dX1_best_33
    · refine j_iload_n (pc := 20) hX 3 rfl dX1_best_20 ?_
      refine j_i2l (pc := 21) hX dX1_best_21 ?_
      refine j_lconst (pc := 22) (v := 0) hX rfl dX1_best_22 ?_
      refine j_ldc2 (pc := 23) hX q1304 dX1_best_23 ?_
      refine j_callS (pc := 26) (e1 := eI) (As := fun z => [.long (a3).toInt64, .long (0 : Int64), .long (2 : Int64)]) (rest := []) hX (fun r e => cA_in_t (a3).toInt64 (0 : Int64) (2 : Int64) h4 r e) ymX1_in (lw_S q527 q528 q140 q529) ⟨Nat.le_of_ble_eq_true rfl, Nat.le_of_ble_eq_true rfl⟩ rfl rfl (Nat.le_of_ble_eq_true rfl) dX1_best_26 (fun r5 h6 => ?_)
      refine j_ifne (pc := 29) (tgt := 34) hX rfl dX1_best_29 (fun _ => ?_) (fun _ => ?_)
      · refine j_iconst (pc := 32) hX ic_m1 dX1_best_32 ?_
        exact j_iret (pc := 33) hX hr dX1_best_33
      · refine j_aload_n (pc := 34) hX 0 rfl dX1_best_34 ?_
        refine j_iconst (pc := 35) hX ic_m1 dX1_best_35 ?_
        refine c_putI (pc := 36) hX fwX1_337_X1.1 fwX1_337_X1.2 rfl dX1_best_36 (fun h7 q8 q9 => ?_)
        refine j_aload_n (pc := 39) hX 0 rfl dX1_best_39 ?_
        refine j_aload_n (pc := 40) hX 0 rfl dX1_best_40 ?_
        refine c_getR (pc := 41) hX fgX1_95_X1.1 fgX1_95_X1.2 rfl rfl dX1_best_41 ?_
        refine j_iconst (pc := 44) hX ic_0 dX1_best_44 ?_
        refine j_iload_n (pc := 45) hX 2 rfl dX1_best_45 ?_
        refine j_iload_n (pc := 46) hX 1 rfl dX1_best_46 ?_
        refine j_callV (pc := 47) (e1 := eV) (a := 0) (As := fun z => [.ref (z + 20), .int (0 : Int32), .int a2, .int a1]) (rest := []) hX (fun r e => (cA_asksN_c 4).1 20 (0 : Int32) a2 a1 h7 r e) ymX1_asks (lw_V q1335 q1337 qs51 q140 q1338) rfl ckX1 rfl ⟨Nat.le_of_ble_eq_true rfl, Nat.le_of_ble_eq_true rfl⟩ rfl rfl (Nat.le_of_ble_eq_true rfl) dX1_best_47 (fun r10 h11 => ?_)
        refine j_aload_n (pc := 50) hX 0 rfl dX1_best_50 ?_
        refine c_getI (pc := 51) hX fgX1_337_X1.1 fgX1_337_X1.2 rfl dX1_best_51 ?_
        refine j_iconst (pc := 54) hX ic_m1 dX1_best_54 ?_
        refine j_cne (pc := 55) (tgt := 61) hX rfl dX1_best_55 (fun _ => ?_) (fun _ => ?_)
        · refine j_bipush (pc := 58) hX bp_m3 dX1_best_58 ?_
          exact j_iret (pc := 60) hX hr dX1_best_60
        · refine j_iload_n (pc := 61) hX 3 rfl dX1_best_61 ?_
          refine j_ifne (pc := 62) (tgt := 72) hX rfl dX1_best_62 (fun _ => ?_) (fun _ => ?_)
          · refine j_aload_n (pc := 65) hX 0 rfl dX1_best_65 ?_
            refine c_getI (pc := 66) hX fgX1_337_X1.1 fgX1_337_X1.2 rfl dX1_best_66 ?_
            refine j_goto (pc := 69) (tgt := 90) hX rfl dX1_best_69 ?_
            exact j_iret (pc := 90) hX hr dX1_best_90
          · refine j_iload_n (pc := 72) hX 3 rfl dX1_best_72 ?_
            refine j_iload_n (pc := 73) hX 2 rfl dX1_best_73 ?_
            refine j_cgt (pc := 74) (tgt := 88) hX rfl dX1_best_74 (fun _ => ?_) (fun _ => ?_)
            · refine j_bipush (pc := 88) hX bp_m2 dX1_best_88 ?_
              exact j_iret (pc := 90) hX hr dX1_best_90
            · refine j_aload_n (pc := 77) hX 0 rfl dX1_best_77 ?_
              refine c_getR (pc := 78) hX fgX1_116_X1.1 fgX1_116_X1.2 rfl rfl dX1_best_78 ?_
              refine j_iload_n (pc := 81) hX 3 rfl dX1_best_81 ?_
              refine j_iconst (pc := 82) hX ic_1 dX1_best_82 ?_
              refine j_isub (pc := 83) hX dX1_best_83 ?_
              refine j_iald (pc := 84) (n := 2) hX rfl dX1_best_84 (fun _ => ?_)
              refine j_goto (pc := 85) (tgt := 90) hX rfl dX1_best_85 ?_
              exact j_iret (pc := 90) hX hr dX1_best_90
set_option maxHeartbeats 4000000 in
set_option maxRecDepth 100000 in
theorem cA_isDuel_t   (a1 : Int32) (a2 : Int32) (h : HP) (rr : Int32 × HP) (e : cA_isDuel a1 a2 h = some rr) : Cn cV yX1_isDuel (ws_ yX1_isDuel cX1_isDuel 3 (some .boolean)) 5 83 (fun z => [.ref (z + 0), .int a1, .int a2]) h (fun z => eI z rr.1) rr.2 := by
  refine cn_of (e1 := eI) (fun z => [(0, .ref (z + 0)), (1, .int a1), (2, .int a2)]) cV_ok (cA_isDuel_m a1 a2 h _ e) ymX1_isDuel (fun _ => rfl) (fun _ => Nat.le_of_ble_eq_true rfl) (fun X hX hr hnm => ?_) e
  have hX : okX cV X rr cX1_isDuel RX1 3 5 83 := hX
  rw [cA_isDuel]
  refine j_aload_n (pc := 0) hX 0 rfl dX1_isDuel_0 ?_
  refine j_iload_n (pc := 1) hX 1 rfl dX1_isDuel_1 ?_
  refine j_iload_n (pc := 2) hX 2 rfl dX1_isDuel_2 ?_
  refine j_callV (pc := 3) (e1 := eI) (a := 0) (As := fun z => [.int a1, .int a2]) (rest := []) hX (fun r e => cA_areTwo_t a1 a2 h r e) ymX1_areTwo (lw_V q1052 q1054 qs36 q140 q1055) rfl ckX1 rfl ⟨Nat.le_of_ble_eq_true rfl, Nat.le_of_ble_eq_true rfl⟩ rfl rfl (Nat.le_of_ble_eq_true rfl) dX1_isDuel_3 (fun r1 h2 => ?_)
  refine j_ifeq (pc := 6) (tgt := 34) hX rfl dX1_isDuel_6 (fun _ => ?_) (fun _ => ?_)
  · refine j_iconst (pc := 34) hX ic_0 dX1_isDuel_34 ?_
    exact j_zret (pc := 35) hX (Or.inl rfl) hr dX1_isDuel_35
  · refine j_aload_n (pc := 9) hX 0 rfl dX1_isDuel_9 ?_
    refine c_getR (pc := 10) hX fgX1_95_X1.1 fgX1_95_X1.2 rfl rfl dX1_isDuel_10 ?_
    refine c_getR (pc := 13) hX fgX1_211_X9.1 fgX1_211_X9.2 rfl rfl dX1_isDuel_13 ?_
    refine j_iload_n (pc := 16) hX 1 rfl dX1_isDuel_16 ?_
    refine j_iald (pc := 17) (n := 5) hX rfl dX1_isDuel_17 (fun _ => ?_)
    refine j_aload_n (pc := 18) hX 0 rfl dX1_isDuel_18 ?_
    refine c_getR (pc := 19) hX fgX1_95_X1.1 fgX1_95_X1.2 rfl rfl dX1_isDuel_19 ?_
    refine c_getR (pc := 22) hX fgX1_211_X9.1 fgX1_211_X9.2 rfl rfl dX1_isDuel_22 ?_
    refine j_iload_n (pc := 25) hX 2 rfl dX1_isDuel_25 ?_
    refine j_iald (pc := 26) (n := 5) hX rfl dX1_isDuel_26 (fun _ => ?_)
    refine j_cne (pc := 27) (tgt := 34) hX rfl dX1_isDuel_27 (fun _ => ?_) (fun _ => ?_)
    · refine j_iconst (pc := 30) hX ic_1 dX1_isDuel_30 ?_
      refine j_goto (pc := 31) (tgt := 35) hX rfl dX1_isDuel_31 ?_
      exact j_zret (pc := 35) hX (Or.inr rfl) hr dX1_isDuel_35
    · refine j_iconst (pc := 34) hX ic_0 dX1_isDuel_34 ?_
      exact j_zret (pc := 35) hX (Or.inl rfl) hr dX1_isDuel_35
set_option maxHeartbeats 4000000 in
set_option maxRecDepth 100000 in
theorem cA_ends_t   (a1 : Int32) (h : HP) (rr : Int32 × HP) (e : cA_ends a1 h = some rr) : Cn cV yX1_ends (ws_ yX1_ends cX1_ends 2 (some .int)) 2 20 (fun z => [.ref (z + 0), .int a1]) h (fun z => eI z rr.1) rr.2 := by
  refine cn_of (e1 := eI) (fun z => [(0, .ref (z + 0)), (1, .int a1)]) cV_ok (cA_ends_m a1 h _ e) ymX1_ends (fun _ => rfl) (fun _ => Nat.le_of_ble_eq_true rfl) (fun X hX hr hnm => ?_) e
  have hX : okX cV X rr cX1_ends RX1 2 2 20 := hX
  rw [cA_ends]
  refine j_aload_n (pc := 0) hX 0 rfl dX1_ends_0 ?_
  refine c_getR (pc := 1) hX fgX1_99_X1.1 fgX1_99_X1.2 rfl rfl dX1_ends_1 ?_
  refine c_getR (pc := 4) hX fgX1_214_X9.1 fgX1_214_X9.2 rfl rfl dX1_ends_4 ?_
  refine j_iload_n (pc := 7) hX 1 rfl dX1_ends_7 ?_
  refine j_iald (pc := 8) (n := 5) hX rfl dX1_ends_8 (fun _ => ?_)
  refine j_callS (pc := 9) (e1 := eI) (As := fun z => [.int (gI h 26 (a1).toNatClampNeg)]) (rest := []) hX (fun r e => kJ18_bitCount_t (gI h 26 (a1).toNatClampNeg) h r e) ymJ18_bitCount (lw_S q1262 q1106 q178 q1107) ⟨Nat.le_of_ble_eq_true rfl, Nat.le_of_ble_eq_true rfl⟩ rfl rfl (Nat.le_of_ble_eq_true rfl) dX1_ends_9 (fun r1 h2 => ?_)
  refine j_aload_n (pc := 12) hX 0 rfl dX1_ends_12 ?_
  refine c_getR (pc := 13) hX fgX1_95_X1.1 fgX1_95_X1.2 rfl rfl dX1_ends_13 ?_
  refine c_getR (pc := 16) hX fgX1_214_X9.1 fgX1_214_X9.2 rfl rfl dX1_ends_16 ?_
  refine j_iload_n (pc := 19) hX 1 rfl dX1_ends_19 ?_
  refine j_iald (pc := 20) (n := 5) hX rfl dX1_ends_20 (fun _ => ?_)
  refine j_callS (pc := 21) (e1 := eI) (As := fun z => [.int (gI h2 21 (a1).toNatClampNeg)]) (rest := [.int r1]) hX (fun r e => kJ18_bitCount_t (gI h2 21 (a1).toNatClampNeg) h2 r e) ymJ18_bitCount (lw_S q1262 q1106 q178 q1107) ⟨Nat.le_of_ble_eq_true rfl, Nat.le_of_ble_eq_true rfl⟩ rfl rfl (Nat.le_of_ble_eq_true rfl) dX1_ends_21 (fun r3 h4 => ?_)
  refine j_isub (pc := 24) hX dX1_ends_24 ?_
  refine j_iconst (pc := 25) hX ic_2 dX1_ends_25 ?_
  refine j_aload_n (pc := 26) hX 0 rfl dX1_ends_26 ?_
  refine c_getR (pc := 27) hX fgX1_99_X1.1 fgX1_99_X1.2 rfl rfl dX1_ends_27 ?_
  refine c_getR (pc := 30) hX fgX1_217_X9.1 fgX1_217_X9.2 rfl rfl dX1_ends_30 ?_
  refine j_iload_n (pc := 33) hX 1 rfl dX1_ends_33 ?_
  refine j_iald (pc := 34) (n := 5) hX rfl dX1_ends_34 (fun _ => ?_)
  refine j_aload_n (pc := 35) hX 0 rfl dX1_ends_35 ?_
  refine c_getR (pc := 36) hX fgX1_95_X1.1 fgX1_95_X1.2 rfl rfl dX1_ends_36 ?_
  refine c_getR (pc := 39) hX fgX1_217_X9.1 fgX1_217_X9.2 rfl rfl dX1_ends_39 ?_
  refine j_iload_n (pc := 42) hX 1 rfl dX1_ends_42 ?_
  refine j_iald (pc := 43) (n := 5) hX rfl dX1_ends_43 (fun _ => ?_)
  refine j_isub (pc := 44) hX dX1_ends_44 ?_
  refine j_imul (pc := 45) hX dX1_ends_45 ?_
  refine j_isub (pc := 46) hX dX1_ends_46 ?_
  exact j_iret (pc := 47) hX hr dX1_ends_47
set_option maxHeartbeats 4000000 in
set_option maxRecDepth 100000 in
theorem cA_layDuel_17_w {X : CTX} {rr : Unit × HP}  (hX : okX cV X rr cX1_layDuel RX1 6 164 3862) (hr : (xh X).sig.returnType = none) (f1 : Int32) (f2 : Int32) (f3 : Int32) (f4 : Int32) (k : HP → Option (Unit × HP)) (hk : ∀  (h : HP), jG cV X evV rr (k  h) 144 [(0, .ref (xz X + 0)), (1, .int f1), (2, .int f2), (3, .int f3), (4, .int f4)] [] h) : ∀ (n : Nat) (v5 : Int32) (h : HP), jG cV X evV rr (cA_layDuel_17 f1 f2 f3 f4 k n v5 h) 17 [(0, .ref (xz X + 0)), (1, .int f1), (2, .int f2), (3, .int f3), (4, .int f4), (5, .int v5)] [] h := by
  intro n
  induction n with
  | zero =>
    intro v5 h
    exact j_none
  | succ n ih =>
    intro v5 h
    rw [cA_layDuel_17]
    refine j_iload (pc := 17) hX 5 rfl dX1_layDuel_17 ?_
    refine j_iload_n (pc := 19) hX 3 rfl dX1_layDuel_19 ?_
    refine j_cgt (pc := 20) (tgt := 144) hX rfl dX1_layDuel_20 (fun _ => ?_) (fun _ => ?_)
    · refine j_locs [0, 1, 2, 3, 4] rfl ?_
      exact hk h
    · refine j_aload_n (pc := 23) hX 0 rfl dX1_layDuel_23 ?_
      refine c_getR (pc := 24) hX fgX1_99_X1.1 fgX1_99_X1.2 rfl rfl dX1_layDuel_24 ?_
      refine j_aload_n (pc := 27) hX 0 rfl dX1_layDuel_27 ?_
      refine c_getR (pc := 28) hX fgX1_95_X1.1 fgX1_95_X1.2 rfl rfl dX1_layDuel_28 ?_
      refine j_callV (pc := 31) (e1 := eV) (a := 25) (As := fun z => [.ref (z + 20)]) (rest := []) hX (fun r e => cS_become_t 25 20 h r e) ymX9_become (lw_V q1159 q1160 q1161 q151 q1162) rfl ckX9 rfl ⟨Nat.le_of_ble_eq_true rfl, Nat.le_of_ble_eq_true rfl⟩ rfl rfl (Nat.le_of_ble_eq_true rfl) dX1_layDuel_31 (fun r6 h7 => ?_)
      refine j_iload (pc := 34) hX 4 rfl dX1_layDuel_34 ?_
      refine j_iload_n (pc := 36) hX 3 rfl dX1_layDuel_36 ?_
      refine j_jon (fun (j8 : HP → Option (Unit × HP)) => ∀ (h9 : HP), jG cV X evV rr (j8 h9) 68 [(0, .ref (xz X + 0)), (1, .int f1), (2, .int f2), (3, .int f3), (4, .int f4), (5, .int v5)] [] h9) ?_ ?_
      · intro h9
        refine j_iload (pc := 68) hX 5 rfl dX1_layDuel_68 ?_
        refine j_iload_n (pc := 70) hX 3 rfl dX1_layDuel_70 ?_
        refine j_jon (fun (j10 : HP → Option (Unit × HP)) => ∀ (h11 : HP), jG cV X evV rr (j10 h11) 102 [(0, .ref (xz X + 0)), (1, .int f1), (2, .int f2), (3, .int f3), (4, .int f4), (5, .int v5)] [] h11) ?_ ?_
        · intro h11
          refine j_aload_n (pc := 102) hX 0 rfl dX1_layDuel_102 ?_
          refine c_getR (pc := 103) hX fgX1_119_X1.1 fgX1_119_X1.2 rfl rfl dX1_layDuel_103 ?_
          refine j_bipush (pc := 106) hX bp_9 dX1_layDuel_106 ?_
          refine j_iload (pc := 108) hX 4 rfl dX1_layDuel_108 ?_
          refine j_imul (pc := 110) hX dX1_layDuel_110 ?_
          refine j_iload (pc := 111) hX 5 rfl dX1_layDuel_111 ?_
          refine j_iadd (pc := 113) hX dX1_layDuel_113 ?_
          refine j_aload_n (pc := 114) hX 0 rfl dX1_layDuel_114 ?_
          refine j_iload_n (pc := 115) hX 1 rfl dX1_layDuel_115 ?_
          refine j_callV (pc := 116) (e1 := eI) (a := 0) (As := fun z => [.int f1]) (rest := [.int (((9 : Int32) * f4) + v5), .ref (xz X + 39)]) hX (fun r e => cA_ends_t f1 h11 r e) ymX1_ends (lw_V q1351 q1353 qs54 q140 q1354) rfl ckX1 rfl ⟨Nat.le_of_ble_eq_true rfl, Nat.le_of_ble_eq_true rfl⟩ rfl rfl (Nat.le_of_ble_eq_true rfl) dX1_layDuel_116 (fun r12 h13 => ?_)
          refine c_iast (pc := 119) (n := 81) hX rfl dX1_layDuel_119 (fun h14 q15 q16 => ?_)
          refine j_aload_n (pc := 120) hX 0 rfl dX1_layDuel_120 ?_
          refine c_getR (pc := 121) hX fgX1_122_X1.1 fgX1_122_X1.2 rfl rfl dX1_layDuel_121 ?_
          refine j_bipush (pc := 124) hX bp_9 dX1_layDuel_124 ?_
          refine j_iload (pc := 126) hX 4 rfl dX1_layDuel_126 ?_
          refine j_imul (pc := 128) hX dX1_layDuel_128 ?_
          refine j_iload (pc := 129) hX 5 rfl dX1_layDuel_129 ?_
          refine j_iadd (pc := 131) hX dX1_layDuel_131 ?_
          refine j_aload_n (pc := 132) hX 0 rfl dX1_layDuel_132 ?_
          refine j_iload_n (pc := 133) hX 2 rfl dX1_layDuel_133 ?_
          refine j_callV (pc := 134) (e1 := eI) (a := 0) (As := fun z => [.int f2]) (rest := [.int (((9 : Int32) * f4) + v5), .ref (xz X + 40)]) hX (fun r e => cA_ends_t f2 h14 r e) ymX1_ends (lw_V q1351 q1353 qs54 q140 q1354) rfl ckX1 rfl ⟨Nat.le_of_ble_eq_true rfl, Nat.le_of_ble_eq_true rfl⟩ rfl rfl (Nat.le_of_ble_eq_true rfl) dX1_layDuel_134 (fun r17 h18 => ?_)
          refine c_iast (pc := 137) (n := 81) hX rfl dX1_layDuel_137 (fun h19 q20 q21 => ?_)
          refine j_iinc (pc := 138) hX 5 rfl (1 : Int32) ic_1 (fun x22 => [(5, .int x22), (0, .ref (xz X + 0)), (1, .int f1), (2, .int f2), (3, .int f3), (4, .int f4)]) (fun _ => rfl) (Nat.le_of_ble_eq_true rfl) dX1_layDuel_138 (fun x22 => ?_)
          refine j_goto (pc := 141) (tgt := 17) hX rfl dX1_layDuel_141 ?_
          refine j_locs [1, 2, 3, 4, 5, 0] rfl ?_
          exact ih x22 h19
        · intro j10 hj10
          refine j_cge (pc := 71) (tgt := 102) hX rfl dX1_layDuel_71 (fun _ => ?_) (fun _ => ?_)
          · exact hj10 h9
          · refine j_aload_n (pc := 74) hX 0 rfl dX1_layDuel_74 ?_
            refine c_getR (pc := 75) hX fgX1_99_X1.1 fgX1_99_X1.2 rfl rfl dX1_layDuel_75 ?_
            refine j_iload_n (pc := 78) hX 2 rfl dX1_layDuel_78 ?_
            refine j_iload_n (pc := 79) hX 1 rfl dX1_layDuel_79 ?_
            refine j_iload (pc := 80) hX 5 rfl dX1_layDuel_80 ?_
            refine j_iconst (pc := 82) hX ic_1 dX1_layDuel_82 ?_
            refine j_callV (pc := 83) (e1 := eI) (a := 25) (As := fun z => [.int f2, .int f1, .int v5, .int (1 : Int32)]) (rest := []) hX (fun r e => cS_can_t 25 f2 f1 v5 (1 : Int32) h9 r e) ymX9_can (lw_V q1061 q1062 q1063 q151 q1064) rfl ckX9 rfl ⟨Nat.le_of_ble_eq_true rfl, Nat.le_of_ble_eq_true rfl⟩ rfl rfl (Nat.le_of_ble_eq_true rfl) dX1_layDuel_83 (fun r23 h24 => ?_)
            refine j_ifeq (pc := 86) (tgt := 102) hX rfl dX1_layDuel_86 (fun _ => ?_) (fun _ => ?_)
            · exact hj10 h24
            · refine j_aload_n (pc := 89) hX 0 rfl dX1_layDuel_89 ?_
              refine c_getR (pc := 90) hX fgX1_99_X1.1 fgX1_99_X1.2 rfl rfl dX1_layDuel_90 ?_
              refine j_iload_n (pc := 93) hX 2 rfl dX1_layDuel_93 ?_
              refine j_iload_n (pc := 94) hX 1 rfl dX1_layDuel_94 ?_
              refine j_iload (pc := 95) hX 5 rfl dX1_layDuel_95 ?_
              refine j_iconst (pc := 97) hX ic_0 dX1_layDuel_97 ?_
              refine j_callV (pc := 98) (e1 := eI) (a := 25) (As := fun z => [.int f2, .int f1, .int v5, .int (0 : Int32)]) (rest := []) hX (fun r e => cS_ask_t 25 f2 f1 v5 (0 : Int32) h24 r e) ymX9_ask (lw_V q1163 q1164 q1165 q151 q1166) rfl ckX9 rfl ⟨Nat.le_of_ble_eq_true rfl, Nat.le_of_ble_eq_true rfl⟩ rfl rfl (Nat.le_of_ble_eq_true rfl) dX1_layDuel_98 (fun r25 h26 => ?_)
              refine j_pop (pc := 101) hX rfl dX1_layDuel_101 ?_
              exact hj10 h26
      · intro j8 hj8
        refine j_cge (pc := 37) (tgt := 68) hX rfl dX1_layDuel_37 (fun _ => ?_) (fun _ => ?_)
        · exact hj8 h7
        · refine j_aload_n (pc := 40) hX 0 rfl dX1_layDuel_40 ?_
          refine c_getR (pc := 41) hX fgX1_99_X1.1 fgX1_99_X1.2 rfl rfl dX1_layDuel_41 ?_
          refine j_iload_n (pc := 44) hX 1 rfl dX1_layDuel_44 ?_
          refine j_iload_n (pc := 45) hX 2 rfl dX1_layDuel_45 ?_
          refine j_iload (pc := 46) hX 4 rfl dX1_layDuel_46 ?_
          refine j_iconst (pc := 48) hX ic_1 dX1_layDuel_48 ?_
          refine j_callV (pc := 49) (e1 := eI) (a := 25) (As := fun z => [.int f1, .int f2, .int f4, .int (1 : Int32)]) (rest := []) hX (fun r e => cS_can_t 25 f1 f2 f4 (1 : Int32) h7 r e) ymX9_can (lw_V q1061 q1062 q1063 q151 q1064) rfl ckX9 rfl ⟨Nat.le_of_ble_eq_true rfl, Nat.le_of_ble_eq_true rfl⟩ rfl rfl (Nat.le_of_ble_eq_true rfl) dX1_layDuel_49 (fun r27 h28 => ?_)
          refine j_ifeq (pc := 52) (tgt := 68) hX rfl dX1_layDuel_52 (fun _ => ?_) (fun _ => ?_)
          · exact hj8 h28
          · refine j_aload_n (pc := 55) hX 0 rfl dX1_layDuel_55 ?_
            refine c_getR (pc := 56) hX fgX1_99_X1.1 fgX1_99_X1.2 rfl rfl dX1_layDuel_56 ?_
            refine j_iload_n (pc := 59) hX 1 rfl dX1_layDuel_59 ?_
            refine j_iload_n (pc := 60) hX 2 rfl dX1_layDuel_60 ?_
            refine j_iload (pc := 61) hX 4 rfl dX1_layDuel_61 ?_
            refine j_iconst (pc := 63) hX ic_0 dX1_layDuel_63 ?_
            refine j_callV (pc := 64) (e1 := eI) (a := 25) (As := fun z => [.int f1, .int f2, .int f4, .int (0 : Int32)]) (rest := []) hX (fun r e => cS_ask_t 25 f1 f2 f4 (0 : Int32) h28 r e) ymX9_ask (lw_V q1163 q1164 q1165 q151 q1166) rfl ckX9 rfl ⟨Nat.le_of_ble_eq_true rfl, Nat.le_of_ble_eq_true rfl⟩ rfl rfl (Nat.le_of_ble_eq_true rfl) dX1_layDuel_64 (fun r29 h30 => ?_)
            refine j_pop (pc := 67) hX rfl dX1_layDuel_67 ?_
            exact hj8 h30
set_option maxHeartbeats 4000000 in
set_option maxRecDepth 100000 in
theorem cA_layDuel_8_w {X : CTX} {rr : Unit × HP}  (hX : okX cV X rr cX1_layDuel RX1 6 164 3862) (hr : (xh X).sig.returnType = none) (f1 : Int32) (f2 : Int32) (f3 : Int32) (k : HP → Option (Unit × HP)) (hk : ∀  (h : HP), jG cV X evV rr (k  h) 150 [] [] h) : ∀ (n : Nat) (v4 : Int32) (h : HP), jG cV X evV rr (cA_layDuel_8 f1 f2 f3 k n v4 h) 8 [(0, .ref (xz X + 0)), (1, .int f1), (2, .int f2), (3, .int f3), (4, .int v4)] [] h := by
  intro n
  induction n with
  | zero =>
    intro v4 h
    exact j_none
  | succ n ih =>
    intro v4 h
    rw [cA_layDuel_8]
    refine j_iload (pc := 8) hX 4 rfl dX1_layDuel_8 ?_
    refine j_iload_n (pc := 10) hX 3 rfl dX1_layDuel_10 ?_
    refine j_cgt (pc := 11) (tgt := 150) hX rfl dX1_layDuel_11 (fun _ => ?_) (fun _ => ?_)
    · refine j_locs [] rfl ?_
      exact hk h
    · refine j_iconst (pc := 14) hX ic_0 dX1_layDuel_14 ?_
      refine j_istore (pc := 15) hX (fun x5 => [(5, .int x5), (0, .ref (xz X + 0)), (1, .int f1), (2, .int f2), (3, .int f3), (4, .int v4)]) (fun _ => rfl) (Nat.le_of_ble_eq_true rfl) dX1_layDuel_15 (fun x5 => ?_)
      refine j_locs [1, 2, 3, 4, 5, 0] rfl ?_
      refine cA_layDuel_17_w hX hr f1 f2 f3 v4 _ (fun  h31 => ?_) FU x5 h
      refine j_iinc (pc := 144) hX 4 rfl (1 : Int32) ic_1 (fun x32 => [(4, .int x32), (0, .ref (xz X + 0)), (1, .int f1), (2, .int f2), (3, .int f3)]) (fun _ => rfl) (Nat.le_of_ble_eq_true rfl) dX1_layDuel_144 (fun x32 => ?_)
      refine j_goto (pc := 147) (tgt := 8) hX rfl dX1_layDuel_147 ?_
      refine j_locs [1, 2, 3, 4, 0] rfl ?_
      exact ih x32 h31
set_option maxHeartbeats 4000000 in
set_option maxRecDepth 100000 in
theorem cA_layDuel_t   (a1 : Int32) (a2 : Int32) (h : HP) (rr : Unit × HP) (e : cA_layDuel a1 a2 h = some rr) : Cn cV yX1_layDuel (ws_ yX1_layDuel cX1_layDuel 6 (none)) 164 3862 (fun z => [.ref (z + 0), .int a1, .int a2]) h (fun z => eV z rr.1) rr.2 := by
  refine cn_of (e1 := eV) (fun z => [(0, .ref (z + 0)), (1, .int a1), (2, .int a2)]) cV_ok (cA_layDuel_m a1 a2 h _ e) ymX1_layDuel (fun _ => rfl) (fun _ => Nat.le_of_ble_eq_true rfl) (fun X hX hr hnm => ?_) e
  have hX : okX cV X rr cX1_layDuel RX1 6 164 3862 := hX
  rw [cA_layDuel]
  refine j_aload_n (pc := 0) hX 0 rfl dX1_layDuel_0 ?_
  refine j_callV (pc := 1) (e1 := eI) (a := 0) (As := fun z => []) (rest := []) hX (fun r e => cA_questions_t h r e) ymX1_questions (lw_V q1042 q1044 qs35 q140 q1045) rfl ckX1 rfl ⟨Nat.le_of_ble_eq_true rfl, Nat.le_of_ble_eq_true rfl⟩ rfl rfl (Nat.le_of_ble_eq_true rfl) dX1_layDuel_1 (fun r1 h2 => ?_)
  refine j_istore_n (pc := 4) hX (fun x3 => [(3, .int x3), (0, .ref (xz X + 0)), (1, .int a1), (2, .int a2)]) (fun _ => rfl) (Nat.le_of_ble_eq_true rfl) dX1_layDuel_4 (fun x3 => ?_)
  refine j_iconst (pc := 5) hX ic_0 dX1_layDuel_5 ?_
  refine j_istore (pc := 6) hX (fun x4 => [(4, .int x4), (3, .int x3), (0, .ref (xz X + 0)), (1, .int a1), (2, .int a2)]) (fun _ => rfl) (Nat.le_of_ble_eq_true rfl) dX1_layDuel_6 (fun x4 => ?_)
  refine j_locs [2, 3, 4, 1, 0] rfl ?_
  refine cA_layDuel_8_w hX hr a1 a2 x3 _ (fun  h33 => ?_) FU x4 h2
  exact j_vret (pc := 150) hX hr dX1_layDuel_150
set_option maxHeartbeats 4000000 in
set_option maxRecDepth 100000 in
theorem cA_isRest_6_w {X : CTX} {rr : Int32 × HP}  (hX : okX cV X rr cX1_isRest RX1 5 3 40) (hr : (xh X).sig.returnType = some .boolean) (f1 : Int32) (f2 : Int32) (f3 : Int32) (k : HP → Option (Int32 × HP)) (hk : ∀  (h : HP), jG cV X evI rr (k  h) 71 [] [] h) : ∀ (n : Nat) (v4 : Int32) (h : HP), jG cV X evI rr (cA_isRest_6 f1 f2 f3 k n v4 h) 6 [(0, .ref (xz X + 0)), (1, .int f1), (2, .int f2), (3, .int f3), (4, .int v4)] [] h := by
  intro n
  induction n with
  | zero =>
    intro v4 h
    exact j_none
  | succ n ih =>
    intro v4 h
    rw [cA_isRest_6]
    refine j_iload (pc := 6) hX 4 rfl dX1_isRest_6 ?_
    refine j_aload_n (pc := 8) hX 0 rfl dX1_isRest_8 ?_
    refine j_callV (pc := 9) (e1 := eI) (a := 0) (As := fun z => []) (rest := [.int v4]) hX (fun r e => cA_questions_t h r e) ymX1_questions (lw_V q1042 q1044 qs35 q140 q1045) rfl ckX1 rfl ⟨Nat.le_of_ble_eq_true rfl, Nat.le_of_ble_eq_true rfl⟩ rfl rfl (Nat.le_of_ble_eq_true rfl) dX1_isRest_9 (fun r3 h4 => ?_)
    refine j_cgt (pc := 12) (tgt := 71) hX rfl dX1_isRest_12 (fun _ => ?_) (fun _ => ?_)
    · refine j_locs [] rfl ?_
      exact hk h4
    · refine j_aload_n (pc := 15) hX 0 rfl dX1_isRest_15 ?_
      refine c_getR (pc := 16) hX fgX1_119_X1.1 fgX1_119_X1.2 rfl rfl dX1_isRest_16 ?_
      refine j_iload_n (pc := 19) hX 3 rfl dX1_isRest_19 ?_
      refine j_iload (pc := 20) hX 4 rfl dX1_isRest_20 ?_
      refine j_imul (pc := 22) hX dX1_isRest_22 ?_
      refine j_iload_n (pc := 23) hX 2 rfl dX1_isRest_23 ?_
      refine j_iadd (pc := 24) hX dX1_isRest_24 ?_
      refine j_iald (pc := 25) (n := 81) hX rfl dX1_isRest_25 (fun _ => ?_)
      refine j_aload_n (pc := 26) hX 0 rfl dX1_isRest_26 ?_
      refine c_getR (pc := 27) hX fgX1_119_X1.1 fgX1_119_X1.2 rfl rfl dX1_isRest_27 ?_
      refine j_iload_n (pc := 30) hX 3 rfl dX1_isRest_30 ?_
      refine j_iload_n (pc := 31) hX 1 rfl dX1_isRest_31 ?_
      refine j_imul (pc := 32) hX dX1_isRest_32 ?_
      refine j_iload_n (pc := 33) hX 2 rfl dX1_isRest_33 ?_
      refine j_iadd (pc := 34) hX dX1_isRest_34 ?_
      refine j_iald (pc := 35) (n := 81) hX rfl dX1_isRest_35 (fun _ => ?_)
      refine j_cgt (pc := 36) (tgt := 63) hX rfl dX1_isRest_36 (fun _ => ?_) (fun _ => ?_)
      · refine j_iconst (pc := 63) hX ic_0 dX1_isRest_63 ?_
        exact j_zret (pc := 64) hX (Or.inl rfl) hr dX1_isRest_64
      · refine j_aload_n (pc := 39) hX 0 rfl dX1_isRest_39 ?_
        refine c_getR (pc := 40) hX fgX1_122_X1.1 fgX1_122_X1.2 rfl rfl dX1_isRest_40 ?_
        refine j_iload_n (pc := 43) hX 3 rfl dX1_isRest_43 ?_
        refine j_iload_n (pc := 44) hX 1 rfl dX1_isRest_44 ?_
        refine j_imul (pc := 45) hX dX1_isRest_45 ?_
        refine j_iload (pc := 46) hX 4 rfl dX1_isRest_46 ?_
        refine j_iadd (pc := 48) hX dX1_isRest_48 ?_
        refine j_iald (pc := 49) (n := 81) hX rfl dX1_isRest_49 (fun _ => ?_)
        refine j_aload_n (pc := 50) hX 0 rfl dX1_isRest_50 ?_
        refine c_getR (pc := 51) hX fgX1_122_X1.1 fgX1_122_X1.2 rfl rfl dX1_isRest_51 ?_
        refine j_iload_n (pc := 54) hX 3 rfl dX1_isRest_54 ?_
        refine j_iload_n (pc := 55) hX 1 rfl dX1_isRest_55 ?_
        refine j_imul (pc := 56) hX dX1_isRest_56 ?_
        refine j_iload_n (pc := 57) hX 2 rfl dX1_isRest_57 ?_
        refine j_iadd (pc := 58) hX dX1_isRest_58 ?_
        refine j_iald (pc := 59) (n := 81) hX rfl dX1_isRest_59 (fun _ => ?_)
        refine j_cle (pc := 60) (tgt := 65) hX rfl dX1_isRest_60 (fun _ => ?_) (fun _ => ?_)
        · refine j_iinc (pc := 65) hX 4 rfl (1 : Int32) ic_1 (fun x5 => [(4, .int x5), (0, .ref (xz X + 0)), (1, .int f1), (2, .int f2), (3, .int f3)]) (fun _ => rfl) (Nat.le_of_ble_eq_true rfl) dX1_isRest_65 (fun x5 => ?_)
          refine j_goto (pc := 68) (tgt := 6) hX rfl dX1_isRest_68 ?_
          refine j_locs [1, 2, 3, 4, 0] rfl ?_
          exact ih x5 h4
        · refine j_iconst (pc := 63) hX ic_0 dX1_isRest_63 ?_
          exact j_zret (pc := 64) hX (Or.inl rfl) hr dX1_isRest_64
set_option maxHeartbeats 4000000 in
set_option maxRecDepth 100000 in
theorem cA_isRest_t   (a1 : Int32) (a2 : Int32) (h : HP) (rr : Int32 × HP) (e : cA_isRest a1 a2 h = some rr) : Cn cV yX1_isRest (ws_ yX1_isRest cX1_isRest 5 (some .boolean)) 3 40 (fun z => [.ref (z + 0), .int a1, .int a2]) h (fun z => eI z rr.1) rr.2 := by
  refine cn_of (e1 := eI) (fun z => [(0, .ref (z + 0)), (1, .int a1), (2, .int a2)]) cV_ok (cA_isRest_m a1 a2 h _ e) ymX1_isRest (fun _ => rfl) (fun _ => Nat.le_of_ble_eq_true rfl) (fun X hX hr hnm => ?_) e
  have hX : okX cV X rr cX1_isRest RX1 5 3 40 := hX
  rw [cA_isRest]
  refine j_bipush (pc := 0) hX bp_9 dX1_isRest_0 ?_
  refine j_istore_n (pc := 2) hX (fun x1 => [(3, .int x1), (0, .ref (xz X + 0)), (1, .int a1), (2, .int a2)]) (fun _ => rfl) (Nat.le_of_ble_eq_true rfl) dX1_isRest_2 (fun x1 => ?_)
  refine j_iconst (pc := 3) hX ic_0 dX1_isRest_3 ?_
  refine j_istore (pc := 4) hX (fun x2 => [(4, .int x2), (3, .int x1), (0, .ref (xz X + 0)), (1, .int a1), (2, .int a2)]) (fun _ => rfl) (Nat.le_of_ble_eq_true rfl) dX1_isRest_4 (fun x2 => ?_)
  refine j_locs [2, 3, 4, 1, 0] rfl ?_
  refine cA_isRest_6_w hX hr a1 a2 x1 _ (fun  h6 => ?_) FU x2 h
  refine j_iconst (pc := 71) hX ic_1 dX1_isRest_71 ?_
  exact j_zret (pc := 72) hX (Or.inr rfl) hr dX1_isRest_72
set_option maxHeartbeats 4000000 in
set_option maxRecDepth 100000 in
theorem cA_restOf_15_w {X : CTX} {rr : Int32 × HP}  (hX : okX cV X rr cX1_restOf RX1 5 4 64) (hr : (xh X).sig.returnType = some .int) (f1 : Int32) (f3 : Int32) (k : Int32 → HP → Option (Int32 × HP)) (hk : ∀ (v2 : Int32) (h : HP), jG cV X evI rr (k v2 h) 59 [(0, .ref (xz X + 0)), (1, .int f1), (2, .int v2), (3, .int f3)] [] h) : ∀ (n : Nat) (v2 : Int32) (v4 : Int32) (h : HP), jG cV X evI rr (cA_restOf_15 f1 f3 k n v2 v4 h) 15 [(0, .ref (xz X + 0)), (1, .int f1), (2, .int v2), (3, .int f3), (4, .int v4)] [] h := by
  intro n
  induction n with
  | zero =>
    intro v2 v4 h
    exact j_none
  | succ n ih =>
    intro v2 v4 h
    rw [cA_restOf_15]
    refine j_iload (pc := 15) hX 4 rfl dX1_restOf_15 ?_
    refine j_aload_n (pc := 17) hX 0 rfl dX1_restOf_17 ?_
    refine j_callV (pc := 18) (e1 := eI) (a := 0) (As := fun z => []) (rest := [.int v4]) hX (fun r e => cA_questions_t h r e) ymX1_questions (lw_V q1042 q1044 qs35 q140 q1045) rfl ckX1 rfl ⟨Nat.le_of_ble_eq_true rfl, Nat.le_of_ble_eq_true rfl⟩ rfl rfl (Nat.le_of_ble_eq_true rfl) dX1_restOf_18 (fun r6 h7 => ?_)
    refine j_cgt (pc := 21) (tgt := 59) hX rfl dX1_restOf_21 (fun _ => ?_) (fun _ => ?_)
    · refine j_locs [0, 1, 2, 3] rfl ?_
      exact hk v2 h7
    · refine j_aload_n (pc := 24) hX 0 rfl dX1_restOf_24 ?_
      refine j_iload_n (pc := 25) hX 3 rfl dX1_restOf_25 ?_
      refine j_iload (pc := 26) hX 4 rfl dX1_restOf_26 ?_
      refine j_callV (pc := 28) (e1 := eI) (a := 0) (As := fun z => [.int f3, .int v4]) (rest := []) hX (fun r e => cA_isRest_t f3 v4 h7 r e) ymX1_isRest (lw_V q1359 q1361 qs56 q140 q1362) rfl ckX1 rfl ⟨Nat.le_of_ble_eq_true rfl, Nat.le_of_ble_eq_true rfl⟩ rfl rfl (Nat.le_of_ble_eq_true rfl) dX1_restOf_28 (fun r8 h9 => ?_)
      refine j_ifne (pc := 31) (tgt := 37) hX rfl dX1_restOf_31 (fun _ => ?_) (fun _ => ?_)
      · refine j_goto (pc := 34) (tgt := 53) hX rfl dX1_restOf_34 ?_
        refine j_iinc (pc := 53) hX 4 rfl (1 : Int32) ic_1 (fun x10 => [(4, .int x10), (0, .ref (xz X + 0)), (1, .int f1), (2, .int v2), (3, .int f3)]) (fun _ => rfl) (Nat.le_of_ble_eq_true rfl) dX1_restOf_53 (fun x10 => ?_)
        refine j_goto (pc := 56) (tgt := 15) hX rfl dX1_restOf_56 ?_
        refine j_locs [1, 2, 3, 4, 0] rfl ?_
        exact ih v2 x10 h9
      · refine j_iload_n (pc := 37) hX 2 rfl dX1_restOf_37 ?_
        refine j_iload_n (pc := 38) hX 1 rfl dX1_restOf_38 ?_
        refine j_cne (pc := 39) (tgt := 50) hX rfl dX1_restOf_39 (fun _ => ?_) (fun _ => ?_)
        · refine j_bipush (pc := 42) hX bp_100 dX1_restOf_42 ?_
          refine j_iload_n (pc := 44) hX 3 rfl dX1_restOf_44 ?_
          refine j_imul (pc := 45) hX dX1_restOf_45 ?_
          refine j_iload (pc := 46) hX 4 rfl dX1_restOf_46 ?_
          refine j_iadd (pc := 48) hX dX1_restOf_48 ?_
          exact j_iret (pc := 49) hX hr dX1_restOf_49
        · refine j_iinc (pc := 50) hX 2 rfl (1 : Int32) ic_1 (fun x11 => [(2, .int x11), (0, .ref (xz X + 0)), (1, .int f1), (3, .int f3), (4, .int v4)]) (fun _ => rfl) (Nat.le_of_ble_eq_true rfl) dX1_restOf_50 (fun x11 => ?_)
          refine j_iinc (pc := 53) hX 4 rfl (1 : Int32) ic_1 (fun x12 => [(4, .int x12), (2, .int x11), (0, .ref (xz X + 0)), (1, .int f1), (3, .int f3)]) (fun _ => rfl) (Nat.le_of_ble_eq_true rfl) dX1_restOf_53 (fun x12 => ?_)
          refine j_goto (pc := 56) (tgt := 15) hX rfl dX1_restOf_56 ?_
          refine j_locs [2, 3, 1, 4, 0] rfl ?_
          exact ih x11 x12 h9
set_option maxHeartbeats 4000000 in
set_option maxRecDepth 100000 in
theorem cA_restOf_4_w {X : CTX} {rr : Int32 × HP}  (hX : okX cV X rr cX1_restOf RX1 5 4 64) (hr : (xh X).sig.returnType = some .int) (f1 : Int32) (k : Int32 → HP → Option (Int32 × HP)) (hk : ∀ (v2 : Int32) (h : HP), jG cV X evI rr (k v2 h) 65 [(1, .int f1), (2, .int v2)] [] h) : ∀ (n : Nat) (v2 : Int32) (v3 : Int32) (h : HP), jG cV X evI rr (cA_restOf_4 f1 k n v2 v3 h) 4 [(0, .ref (xz X + 0)), (1, .int f1), (2, .int v2), (3, .int v3)] [] h := by
  intro n
  induction n with
  | zero =>
    intro v2 v3 h
    exact j_none
  | succ n ih =>
    intro v2 v3 h
    rw [cA_restOf_4]
    refine j_iload_n (pc := 4) hX 3 rfl dX1_restOf_4 ?_
    refine j_aload_n (pc := 5) hX 0 rfl dX1_restOf_5 ?_
    refine j_callV (pc := 6) (e1 := eI) (a := 0) (As := fun z => []) (rest := [.int v3]) hX (fun r e => cA_questions_t h r e) ymX1_questions (lw_V q1042 q1044 qs35 q140 q1045) rfl ckX1 rfl ⟨Nat.le_of_ble_eq_true rfl, Nat.le_of_ble_eq_true rfl⟩ rfl rfl (Nat.le_of_ble_eq_true rfl) dX1_restOf_6 (fun r3 h4 => ?_)
    refine j_cgt (pc := 9) (tgt := 65) hX rfl dX1_restOf_9 (fun _ => ?_) (fun _ => ?_)
    · refine j_locs [1, 2] rfl ?_
      exact hk v2 h4
    · refine j_iconst (pc := 12) hX ic_0 dX1_restOf_12 ?_
      refine j_istore (pc := 13) hX (fun x5 => [(4, .int x5), (0, .ref (xz X + 0)), (1, .int f1), (2, .int v2), (3, .int v3)]) (fun _ => rfl) (Nat.le_of_ble_eq_true rfl) dX1_restOf_13 (fun x5 => ?_)
      refine j_locs [1, 2, 3, 4, 0] rfl ?_
      refine cA_restOf_15_w hX hr f1 v3 _ (fun x13 h14 => ?_) FU v2 x5 h4
      refine j_iinc (pc := 59) hX 3 rfl (1 : Int32) ic_1 (fun x15 => [(3, .int x15), (0, .ref (xz X + 0)), (1, .int f1), (2, .int x13)]) (fun _ => rfl) (Nat.le_of_ble_eq_true rfl) dX1_restOf_59 (fun x15 => ?_)
      refine j_goto (pc := 62) (tgt := 4) hX rfl dX1_restOf_62 ?_
      refine j_locs [1, 2, 3, 0] rfl ?_
      exact ih x13 x15 h14
set_option maxHeartbeats 4000000 in
set_option maxRecDepth 100000 in
theorem cA_restOf_t   (a1 : Int32) (h : HP) (rr : Int32 × HP) (e : cA_restOf a1 h = some rr) : Cn cV yX1_restOf (ws_ yX1_restOf cX1_restOf 5 (some .int)) 4 64 (fun z => [.ref (z + 0), .int a1]) h (fun z => eI z rr.1) rr.2 := by
  refine cn_of (e1 := eI) (fun z => [(0, .ref (z + 0)), (1, .int a1)]) cV_ok (cA_restOf_m a1 h _ e) ymX1_restOf (fun _ => rfl) (fun _ => Nat.le_of_ble_eq_true rfl) (fun X hX hr hnm => ?_) e
  have hX : okX cV X rr cX1_restOf RX1 5 4 64 := hX
  rw [cA_restOf]
  refine j_iconst (pc := 0) hX ic_0 dX1_restOf_0 ?_
  refine j_istore_n (pc := 1) hX (fun x1 => [(2, .int x1), (0, .ref (xz X + 0)), (1, .int a1)]) (fun _ => rfl) (Nat.le_of_ble_eq_true rfl) dX1_restOf_1 (fun x1 => ?_)
  refine j_iconst (pc := 2) hX ic_0 dX1_restOf_2 ?_
  refine j_istore_n (pc := 3) hX (fun x2 => [(3, .int x2), (2, .int x1), (0, .ref (xz X + 0)), (1, .int a1)]) (fun _ => rfl) (Nat.le_of_ble_eq_true rfl) dX1_restOf_3 (fun x2 => ?_)
  refine j_locs [2, 3, 1, 0] rfl ?_
  refine cA_restOf_4_w hX hr a1 _ (fun x16 h17 => ?_) FU x1 x2 h
  refine j_iload_n (pc := 65) hX 0 rfl dX1_restOf_65 ?_
  refine j_iconst (pc := 66) hX ic_m1 dX1_restOf_66 ?_
  refine j_cne (pc := 67) (tgt := 74) hX rfl dX1_restOf_67 (fun _ => ?_) (fun _ => ?_)
  · refine j_iload_n (pc := 70) hX 1 rfl dX1_restOf_70 ?_
    refine j_goto (pc := 71) (tgt := 76) hX rfl dX1_restOf_71 ?_
    exact j_iret (pc := 76) hX hr dX1_restOf_76
  · refine j_bipush (pc := 74) hX bp_m2 dX1_restOf_74 ?_
    exact j_iret (pc := 76) hX hr dX1_restOf_76
set_option maxHeartbeats 4000000 in
set_option maxRecDepth 100000 in
theorem cA_rests_t   (a1 : Int32) (a2 : Int32) (h : HP) (rr : Int32 × HP) (e : cA_rests a1 a2 h = some rr) : Cn cV yX1_rests (ws_ yX1_rests cX1_rests 3 (some .int)) 165 3887 (fun z => [.ref (z + 0), .int a1, .int a2]) h (fun z => eI z rr.1) rr.2 := by
  refine cn_of (e1 := eI) (fun z => [(0, .ref (z + 0)), (1, .int a1), (2, .int a2)]) cV_ok (cA_rests_m a1 a2 h _ e) ymX1_rests (fun _ => rfl) (fun _ => Nat.le_of_ble_eq_true rfl) (fun X hX hr hnm => ?_) e
  have hX : okX cV X rr cX1_rests RX1 3 165 3887 := hX
  rw [cA_rests]
  refine j_aload_n (pc := 0) hX 0 rfl dX1_rests_0 ?_
  refine j_iload_n (pc := 1) hX 1 rfl dX1_rests_1 ?_
  refine j_iload_n (pc := 2) hX 2 rfl dX1_rests_2 ?_
  refine j_callV (pc := 3) (e1 := eI) (a := 0) (As := fun z => [.int a1, .int a2]) (rest := []) hX (fun r e => cA_isDuel_t a1 a2 h r e) ymX1_isDuel (lw_V q1343 q1345 qs52 q140 q1346) rfl ckX1 rfl ⟨Nat.le_of_ble_eq_true rfl, Nat.le_of_ble_eq_true rfl⟩ rfl rfl (Nat.le_of_ble_eq_true rfl) dX1_rests_3 (fun r1 h2 => ?_)
  refine j_ifne (pc := 6) (tgt := 11) hX rfl dX1_rests_6 (fun _ => ?_) (fun _ => ?_)
  · refine j_iconst (pc := 9) hX ic_m1 dX1_rests_9 ?_
    exact j_iret (pc := 10) hX hr dX1_rests_10
  · refine j_aload_n (pc := 11) hX 0 rfl dX1_rests_11 ?_
    refine j_iload_n (pc := 12) hX 1 rfl dX1_rests_12 ?_
    refine j_iload_n (pc := 13) hX 2 rfl dX1_rests_13 ?_
    refine j_callV (pc := 14) (e1 := eV) (a := 0) (As := fun z => [.int a1, .int a2]) (rest := []) hX (fun r e => cA_layDuel_t a1 a2 h2 r e) ymX1_layDuel (lw_V q1347 q1349 qs53 q140 q1350) rfl ckX1 rfl ⟨Nat.le_of_ble_eq_true rfl, Nat.le_of_ble_eq_true rfl⟩ rfl rfl (Nat.le_of_ble_eq_true rfl) dX1_rests_14 (fun r3 h4 => ?_)
    refine j_aload_n (pc := 17) hX 0 rfl dX1_rests_17 ?_
    refine j_iconst (pc := 18) hX ic_m1 dX1_rests_18 ?_
    refine j_callV (pc := 19) (e1 := eI) (a := 0) (As := fun z => [.int (-1 : Int32)]) (rest := []) hX (fun r e => cA_restOf_t (-1 : Int32) h4 r e) ymX1_restOf (lw_V q1355 q1357 qs55 q140 q1358) rfl ckX1 rfl ⟨Nat.le_of_ble_eq_true rfl, Nat.le_of_ble_eq_true rfl⟩ rfl rfl (Nat.le_of_ble_eq_true rfl) dX1_rests_19 (fun r5 h6 => ?_)
    exact j_iret (pc := 22) hX hr dX1_rests_22
set_option maxHeartbeats 4000000 in
set_option maxRecDepth 100000 in
theorem cA_rest_t   (a1 : Int32) (a2 : Int32) (a3 : Int32) (h : HP) (rr : Int32 × HP) (e : cA_rest a1 a2 a3 h = some rr) : Cn cV yX1_rest (ws_ yX1_rest cX1_rest 4 (some .int)) 165 3887 (fun z => [.ref (z + 0), .int a1, .int a2, .int a3]) h (fun z => eI z rr.1) rr.2 := by
  refine cn_of (e1 := eI) (fun z => [(0, .ref (z + 0)), (1, .int a1), (2, .int a2), (3, .int a3)]) cV_ok (cA_rest_m a1 a2 a3 h _ e) ymX1_rest (fun _ => rfl) (fun _ => Nat.le_of_ble_eq_true rfl) (fun X hX hr hnm => ?_) e
  have hX : okX cV X rr cX1_rest RX1 4 165 3887 := hX
  rw [cA_rest]
  refine j_aload_n (pc := 0) hX 0 rfl dX1_rest_0 ?_
  refine j_iload_n (pc := 1) hX 1 rfl dX1_rest_1 ?_
  refine j_iload_n (pc := 2) hX 2 rfl dX1_rest_2 ?_
  refine j_callV (pc := 3) (e1 := eI) (a := 0) (As := fun z => [.int a1, .int a2]) (rest := []) hX (fun r e => cA_isDuel_t a1 a2 h r e) ymX1_isDuel (lw_V q1343 q1345 qs52 q140 q1346) rfl ckX1 rfl ⟨Nat.le_of_ble_eq_true rfl, Nat.le_of_ble_eq_true rfl⟩ rfl rfl (Nat.le_of_ble_eq_true rfl) dX1_rest_3 (fun r1 h2 => ?_)
  refine j_ifeq (pc := 6) (tgt := 13) hX rfl dX1_rest_6 (fun _ => ?_) (fun _ => ?_)
  · refine j_iconst (pc := 13) hX ic_m1 dX1_rest_13 ?_
    exact j_iret (pc := 14) hX hr dX1_rest_14
  · refine j_iload_n (pc := 9) hX 3 rfl dX1_rest_9 ?_
    refine j_ifge (pc := 10) (tgt := 15) hX rfl dX1_rest_10 (fun _ => ?_) (fun _ => ?_)
    · refine j_aload_n (pc := 15) hX 0 rfl dX1_rest_15 ?_
      refine j_iload_n (pc := 16) hX 1 rfl dX1_rest_16 ?_
      refine j_iload_n (pc := 17) hX 2 rfl dX1_rest_17 ?_
      refine j_callV (pc := 18) (e1 := eV) (a := 0) (As := fun z => [.int a1, .int a2]) (rest := []) hX (fun r e => cA_layDuel_t a1 a2 h2 r e) ymX1_layDuel (lw_V q1347 q1349 qs53 q140 q1350) rfl ckX1 rfl ⟨Nat.le_of_ble_eq_true rfl, Nat.le_of_ble_eq_true rfl⟩ rfl rfl (Nat.le_of_ble_eq_true rfl) dX1_rest_18 (fun r3 h4 => ?_)
      refine j_aload_n (pc := 21) hX 0 rfl dX1_rest_21 ?_
      refine j_iload_n (pc := 22) hX 3 rfl dX1_rest_22 ?_
      refine j_callV (pc := 23) (e1 := eI) (a := 0) (As := fun z => [.int a3]) (rest := []) hX (fun r e => cA_restOf_t a3 h4 r e) ymX1_restOf (lw_V q1355 q1357 qs55 q140 q1358) rfl ckX1 rfl ⟨Nat.le_of_ble_eq_true rfl, Nat.le_of_ble_eq_true rfl⟩ rfl rfl (Nat.le_of_ble_eq_true rfl) dX1_rest_23 (fun r5 h6 => ?_)
      exact j_iret (pc := 26) hX hr dX1_rest_26
    · refine j_iconst (pc := 13) hX ic_m1 dX1_rest_13 ?_
      exact j_iret (pc := 14) hX hr dX1_rest_14
set_option maxHeartbeats 4000000 in
set_option maxRecDepth 100000 in
theorem cS_talk_t   (o : Nat) (a1 : Int32) (a2 : Int32) (h : HP) (rr : Unit × HP) (e : cS_talk o a1 a2 h = some rr) : Cn cV yX9_talk (ws_ yX9_talk cX9_talk 3 (none)) 164 3862 (fun z => [.ref (z + o), .int a1, .int a2]) h (fun z => eV z rr.1) rr.2 := by
  refine cn_of (e1 := eV) (fun z => [(0, .ref (z + o)), (1, .int a1), (2, .int a2)]) cV_ok (cS_talk_m o a1 a2 h _ e) ymX9_talk (fun _ => rfl) (fun _ => Nat.le_of_ble_eq_true rfl) (fun X hX hr hnm => ?_) e
  have hX : okX cV X rr cX9_talk RX9 3 164 3862 := hX
  rw [cS_talk]
  refine j_aload_n (pc := 0) hX 0 rfl dX9_talk_0 ?_
  refine j_aload_n (pc := 1) hX 0 rfl dX9_talk_1 ?_
  refine j_grd fun g1 => ?_
  refine c_getR (pc := 2) hX fgX9_3_X9.1 fgX9_3_X9.2 (k1_of g1.1) g1.2.1.2.2.2.2 dX9_talk_2 ?_
  refine j_onr fun b2 e3 => ?_
  refine c_getR (pc := 5) hX fgX9_32_X1.1 fgX9_32_X1.2 rfl e3 dX9_talk_5 ?_
  refine j_grd fun g4 => ?_
  refine c_getR (pc := 8) hX fgX9_174_X3.1 fgX9_174_X3.2 (k1_of g4.1) g4.2.1.2.2.2.1 dX9_talk_8 ?_
  refine j_iload_n (pc := 11) hX 1 rfl dX9_talk_11 ?_
  refine j_iald (pc := 12) (n := 10) hX g4.2.2.1 dX9_talk_12 (fun _ => ?_)
  refine j_aload_n (pc := 13) hX 0 rfl dX9_talk_13 ?_
  refine c_getR (pc := 14) hX fgX9_3_X9.1 fgX9_3_X9.2 (k1_of g1.1) g1.2.1.2.2.2.2 dX9_talk_14 ?_
  refine j_onr fun b5 e6 => ?_
  refine c_getR (pc := 17) hX fgX9_32_X1.1 fgX9_32_X1.2 rfl e6 dX9_talk_17 ?_
  refine j_grd fun g7 => ?_
  refine c_getR (pc := 20) hX fgX9_177_X3.1 fgX9_177_X3.2 (k1_of g7.1) g7.2.1.2.2.2.2.1 dX9_talk_20 ?_
  refine j_iload_n (pc := 23) hX 1 rfl dX9_talk_23 ?_
  refine j_iald (pc := 24) (n := 10) hX g7.2.2.2.1 dX9_talk_24 (fun _ => ?_)
  refine j_aload_n (pc := 25) hX 0 rfl dX9_talk_25 ?_
  refine c_getR (pc := 26) hX fgX9_3_X9.1 fgX9_3_X9.2 (k1_of g1.1) g1.2.1.2.2.2.2 dX9_talk_26 ?_
  refine j_onr fun b8 e9 => ?_
  refine c_getR (pc := 29) hX fgX9_32_X1.1 fgX9_32_X1.2 rfl e9 dX9_talk_29 ?_
  refine j_grd fun g10 => ?_
  refine c_getR (pc := 32) hX fgX9_180_X3.1 fgX9_180_X3.2 (k1_of g10.1) g10.2.1.2.2.2.2.2.1 dX9_talk_32 ?_
  refine j_iload_n (pc := 35) hX 1 rfl dX9_talk_35 ?_
  refine j_iald (pc := 36) (n := 10) hX g10.2.2.2.2.1 dX9_talk_36 (fun _ => ?_)
  refine j_iconst (pc := 37) hX ic_0 dX9_talk_37 ?_
  refine j_callV (pc := 38) (e1 := eI) (a := o) (As := fun z => [.int (gI h (b2 + 7) (a1).toNatClampNeg), .int (gI h (b5 + 8) (a1).toNatClampNeg), .int (gI h (b8 + 9) (a1).toNatClampNeg), .int (0 : Int32)]) (rest := []) hX (fun r e => cS_can_t o (gI h (b2 + 7) (a1).toNatClampNeg) (gI h (b5 + 8) (a1).toNatClampNeg) (gI h (b8 + 9) (a1).toNatClampNeg) (0 : Int32) h r e) ymX9_can (lw_V q1248 q1062 q1063 q151 q1064) rfl ckX9 (k1_of g1.1) ⟨Nat.le_of_ble_eq_true rfl, Nat.le_of_ble_eq_true rfl⟩ rfl rfl (Nat.le_of_ble_eq_true rfl) dX9_talk_38 (fun r11 h12 => ?_)
  refine j_ifeq (pc := 41) (tgt := 86) hX rfl dX9_talk_41 (fun _ => ?_) (fun _ => ?_)
  · exact j_vret (pc := 86) hX hr dX9_talk_86
  · refine j_aload_n (pc := 44) hX 0 rfl dX9_talk_44 ?_
    refine j_aload_n (pc := 45) hX 0 rfl dX9_talk_45 ?_
    refine j_grd fun g13 => ?_
    refine c_getR (pc := 46) hX fgX9_3_X9.1 fgX9_3_X9.2 (k1_of g13.1) g13.2.1.2.2.2.2 dX9_talk_46 ?_
    refine j_onr fun b14 e15 => ?_
    refine c_getR (pc := 49) hX fgX9_32_X1.1 fgX9_32_X1.2 rfl e15 dX9_talk_49 ?_
    refine j_grd fun g16 => ?_
    refine c_getR (pc := 52) hX fgX9_174_X3.1 fgX9_174_X3.2 (k1_of g16.1) g16.2.1.2.2.2.1 dX9_talk_52 ?_
    refine j_iload_n (pc := 55) hX 1 rfl dX9_talk_55 ?_
    refine j_iald (pc := 56) (n := 10) hX g16.2.2.1 dX9_talk_56 (fun _ => ?_)
    refine j_aload_n (pc := 57) hX 0 rfl dX9_talk_57 ?_
    refine c_getR (pc := 58) hX fgX9_3_X9.1 fgX9_3_X9.2 (k1_of g13.1) g13.2.1.2.2.2.2 dX9_talk_58 ?_
    refine j_onr fun b17 e18 => ?_
    refine c_getR (pc := 61) hX fgX9_32_X1.1 fgX9_32_X1.2 rfl e18 dX9_talk_61 ?_
    refine j_grd fun g19 => ?_
    refine c_getR (pc := 64) hX fgX9_177_X3.1 fgX9_177_X3.2 (k1_of g19.1) g19.2.1.2.2.2.2.1 dX9_talk_64 ?_
    refine j_iload_n (pc := 67) hX 1 rfl dX9_talk_67 ?_
    refine j_iald (pc := 68) (n := 10) hX g19.2.2.2.1 dX9_talk_68 (fun _ => ?_)
    refine j_aload_n (pc := 69) hX 0 rfl dX9_talk_69 ?_
    refine c_getR (pc := 70) hX fgX9_3_X9.1 fgX9_3_X9.2 (k1_of g13.1) g13.2.1.2.2.2.2 dX9_talk_70 ?_
    refine j_onr fun b20 e21 => ?_
    refine c_getR (pc := 73) hX fgX9_32_X1.1 fgX9_32_X1.2 rfl e21 dX9_talk_73 ?_
    refine j_grd fun g22 => ?_
    refine c_getR (pc := 76) hX fgX9_180_X3.1 fgX9_180_X3.2 (k1_of g22.1) g22.2.1.2.2.2.2.2.1 dX9_talk_76 ?_
    refine j_iload_n (pc := 79) hX 1 rfl dX9_talk_79 ?_
    refine j_iald (pc := 80) (n := 10) hX g22.2.2.2.2.1 dX9_talk_80 (fun _ => ?_)
    refine j_iload_n (pc := 81) hX 2 rfl dX9_talk_81 ?_
    refine j_callV (pc := 82) (e1 := eI) (a := o) (As := fun z => [.int (gI h12 (b14 + 7) (a1).toNatClampNeg), .int (gI h12 (b17 + 8) (a1).toNatClampNeg), .int (gI h12 (b20 + 9) (a1).toNatClampNeg), .int a2]) (rest := []) hX (fun r e => cS_ask_t o (gI h12 (b14 + 7) (a1).toNatClampNeg) (gI h12 (b17 + 8) (a1).toNatClampNeg) (gI h12 (b20 + 9) (a1).toNatClampNeg) a2 h12 r e) ymX9_ask (lw_V q1249 q1164 q1165 q151 q1166) rfl ckX9 (k1_of g13.1) ⟨Nat.le_of_ble_eq_true rfl, Nat.le_of_ble_eq_true rfl⟩ rfl rfl (Nat.le_of_ble_eq_true rfl) dX9_talk_82 (fun r23 h24 => ?_)
    refine j_pop (pc := 85) hX rfl dX9_talk_85 ?_
    exact j_vret (pc := 86) hX hr dX9_talk_86
set_option maxHeartbeats 4000000 in
set_option maxRecDepth 100000 in
theorem cA_layTalk_9_w {X : CTX} {rr : Unit × HP}  (hX : okX cV X rr cX1_layTalk RX1 3 165 3884) (hr : (xh X).sig.returnType = none) (f1 : Int32) (k : HP → Option (Unit × HP)) (hk : ∀  (h : HP), jG cV X evV rr (k  h) 29 [] [] h) : ∀ (n : Nat) (v2 : Int32) (h : HP), jG cV X evV rr (cA_layTalk_9 f1 k n v2 h) 9 [(0, .ref (xz X + 0)), (1, .int f1), (2, .int v2)] [] h := by
  intro n
  induction n with
  | zero =>
    intro v2 h
    exact j_none
  | succ n ih =>
    intro v2 h
    rw [cA_layTalk_9]
    refine j_iload_n (pc := 9) hX 2 rfl dX1_layTalk_9 ?_
    refine j_iload_n (pc := 10) hX 1 rfl dX1_layTalk_10 ?_
    refine j_cge (pc := 11) (tgt := 29) hX rfl dX1_layTalk_11 (fun _ => ?_) (fun _ => ?_)
    · refine j_locs [] rfl ?_
      exact hk h
    · refine j_aload_n (pc := 14) hX 0 rfl dX1_layTalk_14 ?_
      refine c_getR (pc := 15) hX fgX1_99_X1.1 fgX1_99_X1.2 rfl rfl dX1_layTalk_15 ?_
      refine j_iload_n (pc := 18) hX 2 rfl dX1_layTalk_18 ?_
      refine j_iconst (pc := 19) hX ic_0 dX1_layTalk_19 ?_
      refine j_callV (pc := 20) (e1 := eV) (a := 25) (As := fun z => [.int v2, .int (0 : Int32)]) (rest := []) hX (fun r e => cS_talk_t 25 v2 (0 : Int32) h r e) ymX9_talk (lw_V q1375 q1376 q1377 q151 q1378) rfl ckX9 rfl ⟨Nat.le_of_ble_eq_true rfl, Nat.le_of_ble_eq_true rfl⟩ rfl rfl (Nat.le_of_ble_eq_true rfl) dX1_layTalk_20 (fun r4 h5 => ?_)
      refine j_iinc (pc := 23) hX 2 rfl (1 : Int32) ic_1 (fun x6 => [(2, .int x6), (0, .ref (xz X + 0)), (1, .int f1)]) (fun _ => rfl) (Nat.le_of_ble_eq_true rfl) dX1_layTalk_23 (fun x6 => ?_)
      refine j_goto (pc := 26) (tgt := 9) hX rfl dX1_layTalk_26 ?_
      refine j_locs [1, 2, 0] rfl ?_
      exact ih x6 h5
set_option maxHeartbeats 4000000 in
set_option maxRecDepth 100000 in
theorem cA_layTalk_t   (a1 : Int32) (h : HP) (rr : Unit × HP) (e : cA_layTalk a1 h = some rr) : Cn cV yX1_layTalk (ws_ yX1_layTalk cX1_layTalk 3 (none)) 165 3884 (fun z => [.ref (z + 0), .int a1]) h (fun z => eV z rr.1) rr.2 := by
  refine cn_of (e1 := eV) (fun z => [(0, .ref (z + 0)), (1, .int a1)]) cV_ok (cA_layTalk_m a1 h _ e) ymX1_layTalk (fun _ => rfl) (fun _ => Nat.le_of_ble_eq_true rfl) (fun X hX hr hnm => ?_) e
  have hX : okX cV X rr cX1_layTalk RX1 3 165 3884 := hX
  rw [cA_layTalk]
  refine j_aload_n (pc := 0) hX 0 rfl dX1_layTalk_0 ?_
  refine c_getR (pc := 1) hX fgX1_99_X1.1 fgX1_99_X1.2 rfl rfl dX1_layTalk_1 ?_
  refine j_callV (pc := 4) (e1 := eV) (a := 25) (As := fun z => []) (rest := []) hX (fun r e => cS_begin_t 25 h r e) ymX9_begin (lw_V q409 q410 q411 q151 q412) rfl ckX9 rfl ⟨Nat.le_of_ble_eq_true rfl, Nat.le_of_ble_eq_true rfl⟩ rfl rfl (Nat.le_of_ble_eq_true rfl) dX1_layTalk_4 (fun r1 h2 => ?_)
  refine j_iconst (pc := 7) hX ic_0 dX1_layTalk_7 ?_
  refine j_istore_n (pc := 8) hX (fun x3 => [(2, .int x3), (0, .ref (xz X + 0)), (1, .int a1)]) (fun _ => rfl) (Nat.le_of_ble_eq_true rfl) dX1_layTalk_8 (fun x3 => ?_)
  refine j_locs [1, 2, 0] rfl ?_
  refine cA_layTalk_9_w hX hr a1 _ (fun  h7 => ?_) FU x3 h2
  exact j_vret (pc := 29) hX hr dX1_layTalk_29
set_option maxHeartbeats 4000000 in
set_option maxRecDepth 100000 in
theorem cA_slipped_t   (a1 : Int32) (h : HP) (rr : Int32 × HP) (e : cA_slipped a1 h = some rr) : Cn cV yX1_slipped (ws_ yX1_slipped cX1_slipped 2 (some .int)) 166 3906 (fun z => [.ref (z + 0), .int a1]) h (fun z => eI z rr.1) rr.2 := by
  refine cn_of (e1 := eI) (fun z => [(0, .ref (z + 0)), (1, .int a1)]) cV_ok (cA_slipped_m a1 h _ e) ymX1_slipped (fun _ => rfl) (fun _ => Nat.le_of_ble_eq_true rfl) (fun X hX hr hnm => ?_) e
  have hX : okX cV X rr cX1_slipped RX1 2 166 3906 := hX
  rw [cA_slipped]
  refine j_aload_n (pc := 0) hX 0 rfl dX1_slipped_0 ?_
  refine j_iload_n (pc := 1) hX 1 rfl dX1_slipped_1 ?_
  refine j_callV (pc := 2) (e1 := eI) (a := 0) (As := fun z => [.int a1]) (rest := []) hX (fun r e => cA_isPerson_t a1 h r e) ymX1_isPerson (lw_V q1056 q1058 qs37 q140 q1059) rfl ckX1 rfl ⟨Nat.le_of_ble_eq_true rfl, Nat.le_of_ble_eq_true rfl⟩ rfl rfl (Nat.le_of_ble_eq_true rfl) dX1_slipped_2 (fun r1 h2 => ?_)
  refine j_ifne (pc := 5) (tgt := 10) hX rfl dX1_slipped_5 (fun _ => ?_) (fun _ => ?_)
  · refine j_iconst (pc := 8) hX ic_m1 dX1_slipped_8 ?_
    exact j_iret (pc := 9) hX hr dX1_slipped_9
  · refine j_aload_n (pc := 10) hX 0 rfl dX1_slipped_10 ?_
    refine j_aload_n (pc := 11) hX 0 rfl dX1_slipped_11 ?_
    refine j_onr fun b3 e4 => ?_
    refine c_getR (pc := 12) hX fgX1_13_X1.1 fgX1_13_X1.2 rfl e4 dX1_slipped_12 ?_
    refine j_grd fun g5 => ?_
    refine c_getI (pc := 15) hX fgX1_362_X3.1 fgX1_362_X3.2 (k1_of g5.1) dX1_slipped_15 ?_
    refine j_callV (pc := 18) (e1 := eV) (a := 0) (As := fun z => [.int (gI h2 b3 7)]) (rest := []) hX (fun r e => cA_layTalk_t (gI h2 b3 7) h2 r e) ymX1_layTalk (lw_V q1371 q1373 qs57 q140 q1374) rfl ckX1 rfl ⟨Nat.le_of_ble_eq_true rfl, Nat.le_of_ble_eq_true rfl⟩ rfl rfl (Nat.le_of_ble_eq_true rfl) dX1_slipped_18 (fun r6 h7 => ?_)
    refine j_aload_n (pc := 21) hX 0 rfl dX1_slipped_21 ?_
    refine c_getR (pc := 22) hX fgX1_99_X1.1 fgX1_99_X1.2 rfl rfl dX1_slipped_22 ?_
    refine c_getR (pc := 25) hX fgX1_217_X9.1 fgX1_217_X9.2 rfl rfl dX1_slipped_25 ?_
    refine j_iload_n (pc := 28) hX 1 rfl dX1_slipped_28 ?_
    refine j_iald (pc := 29) (n := 5) hX rfl dX1_slipped_29 (fun _ => ?_)
    exact j_iret (pc := 30) hX hr dX1_slipped_30
set_option maxHeartbeats 4000000 in
set_option maxRecDepth 100000 in
theorem cA_behind_t   (a1 : Int32) (a2 : Int32) (h : HP) (rr : Int32 × HP) (e : cA_behind a1 a2 h = some rr) : Cn cV yX1_behind (ws_ yX1_behind cX1_behind 3 (some .int)) 166 3906 (fun z => [.ref (z + 0), .int a1, .int a2]) h (fun z => eI z rr.1) rr.2 := by
  refine cn_of (e1 := eI) (fun z => [(0, .ref (z + 0)), (1, .int a1), (2, .int a2)]) cV_ok (cA_behind_m a1 a2 h _ e) ymX1_behind (fun _ => rfl) (fun _ => Nat.le_of_ble_eq_true rfl) (fun X hX hr hnm => ?_) e
  have hX : okX cV X rr cX1_behind RX1 3 166 3906 := hX
  rw [cA_behind]
  refine j_aload_n (pc := 0) hX 0 rfl dX1_behind_0 ?_
  refine j_iload_n (pc := 1) hX 2 rfl dX1_behind_1 ?_
  refine j_callV (pc := 2) (e1 := eI) (a := 0) (As := fun z => [.int a2]) (rest := []) hX (fun r e => cA_isPerson_t a2 h r e) ymX1_isPerson (lw_V q1056 q1058 qs37 q140 q1059) rfl ckX1 rfl ⟨Nat.le_of_ble_eq_true rfl, Nat.le_of_ble_eq_true rfl⟩ rfl rfl (Nat.le_of_ble_eq_true rfl) dX1_behind_2 (fun r1 h2 => ?_)
  refine j_ifeq (pc := 5) (tgt := 25) hX rfl dX1_behind_5 (fun _ => ?_) (fun _ => ?_)
  · refine j_iconst (pc := 25) hX ic_m1 dX1_behind_25 ?_
    exact j_iret (pc := 26) hX hr dX1_behind_26
  · refine j_iload_n (pc := 8) hX 1 rfl dX1_behind_8 ?_
    refine j_i2l (pc := 9) hX dX1_behind_9 ?_
    refine j_lconst (pc := 10) (v := 0) hX rfl dX1_behind_10 ?_
    refine j_aload_n (pc := 11) hX 0 rfl dX1_behind_11 ?_
    refine j_onr fun b3 e4 => ?_
    refine c_getR (pc := 12) hX fgX1_13_X1.1 fgX1_13_X1.2 rfl e4 dX1_behind_12 ?_
    refine j_grd fun g5 => ?_
    refine c_getI (pc := 15) hX fgX1_362_X3.1 fgX1_362_X3.2 (k1_of g5.1) dX1_behind_15 ?_
    refine j_i2l (pc := 18) hX dX1_behind_18 ?_
    refine j_callS (pc := 19) (e1 := eI) (As := fun z => [.long (a1).toInt64, .long (0 : Int64), .long ((gI h2 b3 7)).toInt64]) (rest := []) hX (fun r e => cA_in_t (a1).toInt64 (0 : Int64) ((gI h2 b3 7)).toInt64 h2 r e) ymX1_in (lw_S q527 q528 q140 q529) ⟨Nat.le_of_ble_eq_true rfl, Nat.le_of_ble_eq_true rfl⟩ rfl rfl (Nat.le_of_ble_eq_true rfl) dX1_behind_19 (fun r6 h7 => ?_)
    refine j_ifne (pc := 22) (tgt := 27) hX rfl dX1_behind_22 (fun _ => ?_) (fun _ => ?_)
    · refine j_iconst (pc := 25) hX ic_m1 dX1_behind_25 ?_
      exact j_iret (pc := 26) hX hr dX1_behind_26
    · refine j_aload_n (pc := 27) hX 0 rfl dX1_behind_27 ?_
      refine j_iload_n (pc := 28) hX 1 rfl dX1_behind_28 ?_
      refine j_callV (pc := 29) (e1 := eV) (a := 0) (As := fun z => [.int a1]) (rest := []) hX (fun r e => cA_layTalk_t a1 h7 r e) ymX1_layTalk (lw_V q1371 q1373 qs57 q140 q1374) rfl ckX1 rfl ⟨Nat.le_of_ble_eq_true rfl, Nat.le_of_ble_eq_true rfl⟩ rfl rfl (Nat.le_of_ble_eq_true rfl) dX1_behind_29 (fun r8 h9 => ?_)
      refine j_aload_n (pc := 32) hX 0 rfl dX1_behind_32 ?_
      refine c_getR (pc := 33) hX fgX1_99_X1.1 fgX1_99_X1.2 rfl rfl dX1_behind_33 ?_
      refine c_getR (pc := 36) hX fgX1_214_X9.1 fgX1_214_X9.2 rfl rfl dX1_behind_36 ?_
      refine j_iload_n (pc := 39) hX 2 rfl dX1_behind_39 ?_
      refine j_iald (pc := 40) (n := 5) hX rfl dX1_behind_40 (fun _ => ?_)
      exact j_iret (pc := 41) hX hr dX1_behind_41
set_option maxHeartbeats 4000000 in
set_option maxRecDepth 100000 in
theorem kX20_init_t   (o : Nat) (h : HP) (rr : Unit × HP) (e : kX20_init o h = some rr) : Cn cV yX20_init (ws_ yX20_init cX20_init 1 (none)) 1 12 (fun z => [.ref (z + o)]) h (fun z => eV z rr.1) rr.2 := by
  refine cn_of (e1 := eV) (fun z => [(0, .ref (z + o))]) cV_ok (kX20_init_m o h _ e) ymX20_init (fun _ => rfl) (fun _ => Nat.le_of_ble_eq_true rfl) (fun X hX hr hnm => ?_) e
  have hX : okX cV X rr cX20_init RX20 1 1 12 := hX
  rw [kX20_init]
  refine j_aload_n (pc := 0) hX 0 rfl dX20_init_0 ?_
  refine j_objInit (pc := 1) hX q1395 q188 q189 (Nat.le_of_ble_eq_true rfl) (Nat.le_of_ble_eq_true rfl) dX20_init_1 ?_
  exact j_vret (pc := 4) hX hr dX20_init_4
set_option maxHeartbeats 4000000 in
set_option maxRecDepth 100000 in
theorem kX21_init_t   (o : Nat) (a1 : Int32) (a2 : Int32) (a3 : Int32) (a4 : Int32) (h : HP) (rr : Unit × HP) (e : kX21_init o a1 a2 a3 a4 h = some rr) : Cn cV yX21_init (ws_ yX21_init cX21_init 5 (none)) 2 32 (fun z => [.ref (z + o), .int a1, .int a2, .int a3, .int a4]) h (fun z => eV z rr.1) rr.2 := by
  refine cn_of (e1 := eV) (fun z => [(0, .ref (z + o)), (1, .int a1), (2, .int a2), (3, .int a3), (4, .int a4)]) cV_ok (kX21_init_m o a1 a2 a3 a4 h _ e) ymX21_init (fun _ => rfl) (fun _ => Nat.le_of_ble_eq_true rfl) (fun X hX hr hnm => ?_) e
  have hX : okX cV X rr cX21_init RX21 5 2 32 := hX
  rw [kX21_init]
  refine j_aload_n (pc := 0) hX 0 rfl dX21_init_0 ?_
  refine j_callIN (pc := 1) (e1 := eV) (a := o) (As := fun z => []) (rest := []) hX (fun r e => kX20_init_t o h r e) ymX20_init rfl (List.mem_of_getElem? (i := 11) rfl) q1393 q179 q1394 ⟨Nat.le_of_ble_eq_true rfl, Nat.le_of_ble_eq_true rfl⟩ rfl rfl (Nat.le_of_ble_eq_true rfl) dX21_init_1 (fun r1 h2 => ?_)
  refine j_aload_n (pc := 4) hX 0 rfl dX21_init_4 ?_
  refine j_iload_n (pc := 5) hX 1 rfl dX21_init_5 ?_
  refine j_grd fun g3 => ?_
  refine c_putFI (pc := 6) hX hnm ffX21_7_X21.1 ffX21_7_X21.2 g3 dX21_init_6 (fun h4 q5 q6 => ?_)
  refine j_aload_n (pc := 9) hX 0 rfl dX21_init_9 ?_
  refine j_iload_n (pc := 10) hX 2 rfl dX21_init_10 ?_
  refine c_putFI (pc := 11) hX hnm ffX21_13_X21.1 ffX21_13_X21.2 (kT_t q5 g3) dX21_init_11 (fun h7 q8 q9 => ?_)
  refine j_aload_n (pc := 14) hX 0 rfl dX21_init_14 ?_
  refine j_iload_n (pc := 15) hX 3 rfl dX21_init_15 ?_
  refine c_putFI (pc := 16) hX hnm ffX21_16_X21.1 ffX21_16_X21.2 (kT_t q8 (kT_t q5 g3)) dX21_init_16 (fun h10 q11 q12 => ?_)
  refine j_aload_n (pc := 19) hX 0 rfl dX21_init_19 ?_
  refine j_iload (pc := 20) hX 4 rfl dX21_init_20 ?_
  refine j_grd fun g13 => ?_
  refine c_putFZ (pc := 22) hX hnm g13 ffX21_19_X21.1 ffX21_19_X21.2 (kT_t q11 (kT_t q8 (kT_t q5 g3))) dX21_init_22 (fun h14 q15 q16 => ?_)
  exact j_vret (pc := 25) hX hr dX21_init_25
set_option maxHeartbeats 4000000 in
set_option maxRecDepth 100000 in
theorem cA_add_t   (a1 : Nat) (h : HP) (rr : Int32 × HP) (e : cA_add a1 h = some rr) : Cn cV yX1_add (ws_ yX1_add cX1_add 2 (some .int)) 3 44 (fun z => [.ref (z + 0), .ref (z + a1)]) h (fun z => eI z rr.1) rr.2 := by
  refine cn_of (e1 := eI) (fun z => [(0, .ref (z + 0)), (1, .ref (z + a1))]) cV_ok (cA_add_m a1 h _ e) ymX1_add (fun _ => rfl) (fun _ => Nat.le_of_ble_eq_true rfl) (fun X hX hr hnm => ?_) e
  have hX : okX cV X rr cX1_add RX1 2 3 44 := hX
  rw [cA_add]
  refine j_aload_n (pc := 0) hX 0 rfl dX1_add_0 ?_
  refine c_getR (pc := 1) hX fgX1_128_X1.1 fgX1_128_X1.2 rfl rfl dX1_add_1 ?_
  refine j_aload_n (pc := 4) hX 1 rfl dX1_add_4 ?_
  refine j_callV (pc := 5) (e1 := eI) (a := 41) (As := fun z => [.ref (z + a1)]) (rest := []) hX (fun r e => cL_add_t 41 a1 h r e) ymJ2_add (lw_V q1413 q779 q780 q145 q781) rfl ckJ2 rfl ⟨Nat.le_of_ble_eq_true rfl, Nat.le_of_ble_eq_true rfl⟩ rfl rfl (Nat.le_of_ble_eq_true rfl) dX1_add_5 (fun r1 h2 => ?_)
  refine j_pop (pc := 8) hX rfl dX1_add_8 ?_
  refine j_aload_n (pc := 9) hX 0 rfl dX1_add_9 ?_
  refine c_getR (pc := 10) hX fgX1_128_X1.1 fgX1_128_X1.2 rfl rfl dX1_add_10 ?_
  refine j_callV (pc := 13) (e1 := eI) (a := 41) (As := fun z => []) (rest := []) hX (fun r e => cL_size_t 41 h2 r e) ymJ2_size (lw_V q417 q418 q419 q145 q420) rfl ckJ2 rfl ⟨Nat.le_of_ble_eq_true rfl, Nat.le_of_ble_eq_true rfl⟩ rfl rfl (Nat.le_of_ble_eq_true rfl) dX1_add_13 (fun r3 h4 => ?_)
  refine j_iconst (pc := 16) hX ic_1 dX1_add_16 ?_
  refine j_isub (pc := 17) hX dX1_add_17 ?_
  exact j_iret (pc := 18) hX hr dX1_add_18
set_option maxHeartbeats 4000000 in
set_option maxRecDepth 100000 in
theorem cA_note_t   (a1 : Int32) (a2 : Int32) (a3 : Int32) (a4 : Int32) (h : HP) (rr : Int32 × HP) (e : cA_note a1 a2 a3 a4 h = some rr) : Cn cV yX1_note (ws_ yX1_note cX1_note 5 (some .int)) 4 65 (fun z => [.ref (z + 0), .int a1, .int a2, .int a3, .int a4]) h (fun z => eI z rr.1) rr.2 := by
  refine cn_of (e1 := eI) (fun z => [(0, .ref (z + 0)), (1, .int a1), (2, .int a2), (3, .int a3), (4, .int a4)]) cV_ok (cA_note_m a1 a2 a3 a4 h _ e) ymX1_note (fun _ => rfl) (fun _ => Nat.le_of_ble_eq_true rfl) (fun X hX hr hnm => ?_) e
  have hX : okX cV X rr cX1_note RX1 5 4 65 := hX
  rw [cA_note]
  refine j_iload_n (pc := 0) hX 1 rfl dX1_note_0 ?_
  refine j_i2l (pc := 1) hX dX1_note_1 ?_
  refine j_lconst (pc := 2) (v := 0) hX rfl dX1_note_2 ?_
  refine j_aload_n (pc := 3) hX 0 rfl dX1_note_3 ?_
  refine j_onr fun b1 e2 => ?_
  refine c_getR (pc := 4) hX fgX1_13_X1.1 fgX1_13_X1.2 rfl e2 dX1_note_4 ?_
  refine j_grd fun g3 => ?_
  refine c_getI (pc := 7) hX fgX1_362_X3.1 fgX1_362_X3.2 (k1_of g3.1) dX1_note_7 ?_
  refine j_i2l (pc := 10) hX dX1_note_10 ?_
  refine j_callS (pc := 11) (e1 := eI) (As := fun z => [.long (a1).toInt64, .long (0 : Int64), .long ((gI h b1 7)).toInt64]) (rest := []) hX (fun r e => cA_in_t (a1).toInt64 (0 : Int64) ((gI h b1 7)).toInt64 h r e) ymX1_in (lw_S q527 q528 q140 q529) ⟨Nat.le_of_ble_eq_true rfl, Nat.le_of_ble_eq_true rfl⟩ rfl rfl (Nat.le_of_ble_eq_true rfl) dX1_note_11 (fun r4 h5 => ?_)
  refine j_ifeq (pc := 14) (tgt := 64) hX rfl dX1_note_14 (fun _ => ?_) (fun _ => ?_)
  · refine j_iconst (pc := 64) hX ic_m1 dX1_note_64 ?_
    exact j_iret (pc := 65) hX hr dX1_note_65
  · refine j_aload_n (pc := 17) hX 0 rfl dX1_note_17 ?_
    refine j_iload_n (pc := 18) hX 2 rfl dX1_note_18 ?_
    refine j_callV (pc := 19) (e1 := eI) (a := 0) (As := fun z => [.int a2]) (rest := []) hX (fun r e => cA_isPerson_t a2 h5 r e) ymX1_isPerson (lw_V q1056 q1058 qs37 q140 q1059) rfl ckX1 rfl ⟨Nat.le_of_ble_eq_true rfl, Nat.le_of_ble_eq_true rfl⟩ rfl rfl (Nat.le_of_ble_eq_true rfl) dX1_note_19 (fun r6 h7 => ?_)
    refine j_ifeq (pc := 22) (tgt := 64) hX rfl dX1_note_22 (fun _ => ?_) (fun _ => ?_)
    · refine j_iconst (pc := 64) hX ic_m1 dX1_note_64 ?_
      exact j_iret (pc := 65) hX hr dX1_note_65
    · refine j_aload_n (pc := 25) hX 0 rfl dX1_note_25 ?_
      refine j_iload_n (pc := 26) hX 3 rfl dX1_note_26 ?_
      refine j_callV (pc := 27) (e1 := eI) (a := 0) (As := fun z => [.int a3]) (rest := []) hX (fun r e => cA_isFact_t a3 h7 r e) ymX1_isFact (lw_V q1218 q1220 qs40 q140 q1221) rfl ckX1 rfl ⟨Nat.le_of_ble_eq_true rfl, Nat.le_of_ble_eq_true rfl⟩ rfl rfl (Nat.le_of_ble_eq_true rfl) dX1_note_27 (fun r8 h9 => ?_)
      refine j_ifeq (pc := 30) (tgt := 64) hX rfl dX1_note_30 (fun _ => ?_) (fun _ => ?_)
      · refine j_iconst (pc := 64) hX ic_m1 dX1_note_64 ?_
        exact j_iret (pc := 65) hX hr dX1_note_65
      · refine j_aload_n (pc := 33) hX 0 rfl dX1_note_33 ?_
        refine c_getR (pc := 34) hX fgX1_128_X1.1 fgX1_128_X1.2 rfl rfl dX1_note_34 ?_
        refine j_callV (pc := 37) (e1 := eI) (a := 41) (As := fun z => []) (rest := []) hX (fun r e => cL_size_t 41 h9 r e) ymJ2_size (lw_V q417 q418 q419 q145 q420) rfl ckJ2 rfl ⟨Nat.le_of_ble_eq_true rfl, Nat.le_of_ble_eq_true rfl⟩ rfl rfl (Nat.le_of_ble_eq_true rfl) dX1_note_37 (fun r10 h11 => ?_)
        refine j_bipush (pc := 40) hX bp_24 dX1_note_40 ?_
        refine j_cge (pc := 42) (tgt := 64) hX rfl dX1_note_42 (fun _ => ?_) (fun _ => ?_)
        · refine j_iconst (pc := 64) hX ic_m1 dX1_note_64 ?_
          exact j_iret (pc := 65) hX hr dX1_note_65
        · refine j_aload_n (pc := 45) hX 0 rfl dX1_note_45 ?_
          refine j_grd fun g12 => ?_
          refine j_new (pc := 46) hX ckX21 cfX21 q1387 q1388 q180 (cV_vA g12) dX1_note_46 (fun b13 h14 => ?_)
          refine j_dup (pc := 49) hX rfl dX1_note_49 ?_
          refine j_iload_n (pc := 50) hX 1 rfl dX1_note_50 ?_
          refine j_iload_n (pc := 51) hX 2 rfl dX1_note_51 ?_
          refine j_iload_n (pc := 52) hX 3 rfl dX1_note_52 ?_
          refine j_iload (pc := 53) hX 4 rfl dX1_note_53 ?_
          refine j_callI (pc := 55) (e1 := eV) (a := b13) (As := fun z => [.int a1, .int a2, .int a3, .int a4]) (rest := [.ref (xz X + b13), .ref (xz X + 0)]) hX (fun r e => kX21_init_t b13 a1 a2 a3 a4 h14 r e) ymX21_init rfl q1389 q1390 q180 q1391 ⟨Nat.le_of_ble_eq_true rfl, Nat.le_of_ble_eq_true rfl⟩ rfl rfl (Nat.le_of_ble_eq_true rfl) dX1_note_55 (fun r15 h16 => ?_)
          refine j_callV (pc := 58) (e1 := eI) (a := 0) (As := fun z => [.ref (z + b13)]) (rest := []) hX (fun r e => cA_add_t b13 h16 r e) ymX1_add (lw_V q1409 q1411 qs58 q140 q1412) rfl ckX1 rfl ⟨Nat.le_of_ble_eq_true rfl, Nat.le_of_ble_eq_true rfl⟩ rfl rfl (Nat.le_of_ble_eq_true rfl) dX1_note_58 (fun r17 h18 => ?_)
          refine j_goto (pc := 61) (tgt := 65) hX rfl dX1_note_61 ?_
          exact j_iret (pc := 65) hX hr dX1_note_65
set_option maxHeartbeats 4000000 in
set_option maxRecDepth 100000 in
theorem kX22_init_t   (o : Nat) (a1 : Int32) (h : HP) (rr : Unit × HP) (e : kX22_init o a1 h = some rr) : Cn cV yX22_init (ws_ yX22_init cX22_init 2 (none)) 2 32 (fun z => [.ref (z + o), .int a1]) h (fun z => eV z rr.1) rr.2 := by
  refine cn_of (e1 := eV) (fun z => [(0, .ref (z + o)), (1, .int a1)]) cV_ok (kX22_init_m o a1 h _ e) ymX22_init (fun _ => rfl) (fun _ => Nat.le_of_ble_eq_true rfl) (fun X hX hr hnm => ?_) e
  have hX : okX cV X rr cX22_init RX22 2 2 32 := hX
  rw [kX22_init]
  refine j_aload_n (pc := 0) hX 0 rfl dX22_init_0 ?_
  refine j_callIN (pc := 1) (e1 := eV) (a := o) (As := fun z => []) (rest := []) hX (fun r e => kX20_init_t o h r e) ymX20_init rfl (List.mem_of_getElem? (i := 19) rfl) q1393 q179 q1394 ⟨Nat.le_of_ble_eq_true rfl, Nat.le_of_ble_eq_true rfl⟩ rfl rfl (Nat.le_of_ble_eq_true rfl) dX22_init_1 (fun r1 h2 => ?_)
  refine j_aload_n (pc := 4) hX 0 rfl dX22_init_4 ?_
  refine j_iload_n (pc := 5) hX 1 rfl dX22_init_5 ?_
  refine j_grd fun g3 => ?_
  refine c_putFI (pc := 6) hX hnm ffX22_7_X22.1 ffX22_7_X22.2 g3 dX22_init_6 (fun h4 q5 q6 => ?_)
  exact j_vret (pc := 9) hX hr dX22_init_9
set_option maxHeartbeats 4000000 in
set_option maxRecDepth 100000 in
theorem cA_strike_t   (a1 : Int32) (h : HP) (rr : Int32 × HP) (e : cA_strike a1 h = some rr) : Cn cV yX1_strike (ws_ yX1_strike cX1_strike 2 (some .int)) 4 65 (fun z => [.ref (z + 0), .int a1]) h (fun z => eI z rr.1) rr.2 := by
  refine cn_of (e1 := eI) (fun z => [(0, .ref (z + 0)), (1, .int a1)]) cV_ok (cA_strike_m a1 h _ e) ymX1_strike (fun _ => rfl) (fun _ => Nat.le_of_ble_eq_true rfl) (fun X hX hr hnm => ?_) e
  have hX : okX cV X rr cX1_strike RX1 2 4 65 := hX
  rw [cA_strike]
  refine j_iload_n (pc := 0) hX 1 rfl dX1_strike_0 ?_
  refine j_i2l (pc := 1) hX dX1_strike_1 ?_
  refine j_lconst (pc := 2) (v := 0) hX rfl dX1_strike_2 ?_
  refine j_aload_n (pc := 3) hX 0 rfl dX1_strike_3 ?_
  refine c_getR (pc := 4) hX fgX1_128_X1.1 fgX1_128_X1.2 rfl rfl dX1_strike_4 ?_
  refine j_callV (pc := 7) (e1 := eI) (a := 41) (As := fun z => []) (rest := [.long (0 : Int64), .long (a1).toInt64]) hX (fun r e => cL_size_t 41 h r e) ymJ2_size (lw_V q417 q418 q419 q145 q420) rfl ckJ2 rfl ⟨Nat.le_of_ble_eq_true rfl, Nat.le_of_ble_eq_true rfl⟩ rfl rfl (Nat.le_of_ble_eq_true rfl) dX1_strike_7 (fun r1 h2 => ?_)
  refine j_iconst (pc := 10) hX ic_1 dX1_strike_10 ?_
  refine j_isub (pc := 11) hX dX1_strike_11 ?_
  refine j_i2l (pc := 12) hX dX1_strike_12 ?_
  refine j_callS (pc := 13) (e1 := eI) (As := fun z => [.long (a1).toInt64, .long (0 : Int64), .long ((r1 - (1 : Int32))).toInt64]) (rest := []) hX (fun r e => cA_in_t (a1).toInt64 (0 : Int64) ((r1 - (1 : Int32))).toInt64 h2 r e) ymX1_in (lw_S q527 q528 q140 q529) ⟨Nat.le_of_ble_eq_true rfl, Nat.le_of_ble_eq_true rfl⟩ rfl rfl (Nat.le_of_ble_eq_true rfl) dX1_strike_13 (fun r3 h4 => ?_)
  refine j_ifeq (pc := 16) (tgt := 46) hX rfl dX1_strike_16 (fun _ => ?_) (fun _ => ?_)
  · refine j_iconst (pc := 46) hX ic_m1 dX1_strike_46 ?_
    exact j_iret (pc := 47) hX hr dX1_strike_47
  · refine j_aload_n (pc := 19) hX 0 rfl dX1_strike_19 ?_
    refine c_getR (pc := 20) hX fgX1_128_X1.1 fgX1_128_X1.2 rfl rfl dX1_strike_20 ?_
    refine j_callV (pc := 23) (e1 := eI) (a := 41) (As := fun z => []) (rest := []) hX (fun r e => cL_size_t 41 h4 r e) ymJ2_size (lw_V q417 q418 q419 q145 q420) rfl ckJ2 rfl ⟨Nat.le_of_ble_eq_true rfl, Nat.le_of_ble_eq_true rfl⟩ rfl rfl (Nat.le_of_ble_eq_true rfl) dX1_strike_23 (fun r5 h6 => ?_)
    refine j_bipush (pc := 26) hX bp_24 dX1_strike_26 ?_
    refine j_cge (pc := 28) (tgt := 46) hX rfl dX1_strike_28 (fun _ => ?_) (fun _ => ?_)
    · refine j_iconst (pc := 46) hX ic_m1 dX1_strike_46 ?_
      exact j_iret (pc := 47) hX hr dX1_strike_47
    · refine j_aload_n (pc := 31) hX 0 rfl dX1_strike_31 ?_
      refine j_grd fun g7 => ?_
      refine j_new (pc := 32) hX ckX22 cfX22 q1418 q1419 q181 (cV_vA g7) dX1_strike_32 (fun b8 h9 => ?_)
      refine j_dup (pc := 35) hX rfl dX1_strike_35 ?_
      refine j_iload_n (pc := 36) hX 1 rfl dX1_strike_36 ?_
      refine j_callI (pc := 37) (e1 := eV) (a := b8) (As := fun z => [.int a1]) (rest := [.ref (xz X + b8), .ref (xz X + 0)]) hX (fun r e => kX22_init_t b8 a1 h9 r e) ymX22_init rfl q1420 q1421 q181 q1422 ⟨Nat.le_of_ble_eq_true rfl, Nat.le_of_ble_eq_true rfl⟩ rfl rfl (Nat.le_of_ble_eq_true rfl) dX1_strike_37 (fun r10 h11 => ?_)
      refine j_callV (pc := 40) (e1 := eI) (a := 0) (As := fun z => [.ref (z + b8)]) (rest := []) hX (fun r e => cA_add_t b8 h11 r e) ymX1_add (lw_V q1409 q1411 qs58 q140 q1412) rfl ckX1 rfl ⟨Nat.le_of_ble_eq_true rfl, Nat.le_of_ble_eq_true rfl⟩ rfl rfl (Nat.le_of_ble_eq_true rfl) dX1_strike_40 (fun r12 h13 => ?_)
      refine j_goto (pc := 43) (tgt := 47) hX rfl dX1_strike_43 ?_
      exact j_iret (pc := 47) hX hr dX1_strike_47
set_option maxHeartbeats 4000000 in
set_option maxRecDepth 100000 in
theorem cA_known_t   (a1 : Int32) (h : HP) (rr : Int32 × HP) (e : cA_known a1 h = some rr) : Cn cV yX1_known (ws_ yX1_known cX1_known 2 (some .boolean)) 2 25 (fun z => [.ref (z + 0), .int a1]) h (fun z => eI z rr.1) rr.2 := by
  refine cn_of (e1 := eI) (fun z => [(0, .ref (z + 0)), (1, .int a1)]) cV_ok (cA_known_m a1 h _ e) ymX1_known (fun _ => rfl) (fun _ => Nat.le_of_ble_eq_true rfl) (fun X hX hr hnm => ?_) e
  have hX : okX cV X rr cX1_known RX1 2 2 25 := hX
  rw [cA_known]
  refine j_iload_n (pc := 0) hX 1 rfl dX1_known_0 ?_
  refine j_i2l (pc := 1) hX dX1_known_1 ?_
  refine j_ldc2 (pc := 2) hX q1432 dX1_known_2 ?_
  refine j_aload_n (pc := 5) hX 0 rfl dX1_known_5 ?_
  refine c_getR (pc := 6) hX fgX1_128_X1.1 fgX1_128_X1.2 rfl rfl dX1_known_6 ?_
  refine j_callV (pc := 9) (e1 := eI) (a := 41) (As := fun z => []) (rest := [.long (-1 : Int64), .long (a1).toInt64]) hX (fun r e => cL_size_t 41 h r e) ymJ2_size (lw_V q417 q418 q419 q145 q420) rfl ckJ2 rfl ⟨Nat.le_of_ble_eq_true rfl, Nat.le_of_ble_eq_true rfl⟩ rfl rfl (Nat.le_of_ble_eq_true rfl) dX1_known_9 (fun r1 h2 => ?_)
  refine j_i2l (pc := 12) hX dX1_known_12 ?_
  refine j_callS (pc := 13) (e1 := eI) (As := fun z => [.long (a1).toInt64, .long (-1 : Int64), .long (r1).toInt64]) (rest := []) hX (fun r e => cA_in_t (a1).toInt64 (-1 : Int64) (r1).toInt64 h2 r e) ymX1_in (lw_S q527 q528 q140 q529) ⟨Nat.le_of_ble_eq_true rfl, Nat.le_of_ble_eq_true rfl⟩ rfl rfl (Nat.le_of_ble_eq_true rfl) dX1_known_13 (fun r3 h4 => ?_)
  refine j_ifne (pc := 16) (tgt := 21) hX rfl dX1_known_16 (fun _ => ?_) (fun _ => ?_)
  · refine j_iconst (pc := 19) hX ic_0 dX1_known_19 ?_
    exact j_zret (pc := 20) hX (Or.inl rfl) hr dX1_known_20
  · refine j_aload_n (pc := 21) hX 0 rfl dX1_known_21 ?_
    refine j_iload_n (pc := 22) hX 1 rfl dX1_known_22 ?_
    refine c_putI (pc := 23) hX fwX1_135_X1.1 fwX1_135_X1.2 rfl dX1_known_23 (fun h5 q6 q7 => ?_)
    refine j_iconst (pc := 26) hX ic_1 dX1_known_26 ?_
    exact j_zret (pc := 27) hX (Or.inr rfl) hr dX1_known_27
set_option maxHeartbeats 4000000 in
set_option maxRecDepth 100000 in
theorem cA_knownMany_t    (h : HP) (rr : Int32 × HP) (e : cA_knownMany  h = some rr) : Cn cV yX1_knownMany (ws_ yX1_knownMany cX1_knownMany 1 (some .int)) 2 20 (fun z => [.ref (z + 0)]) h (fun z => eI z rr.1) rr.2 := by
  refine cn_of (e1 := eI) (fun z => [(0, .ref (z + 0))]) cV_ok (cA_knownMany_m  h _ e) ymX1_knownMany (fun _ => rfl) (fun _ => Nat.le_of_ble_eq_true rfl) (fun X hX hr hnm => ?_) e
  have hX : okX cV X rr cX1_knownMany RX1 1 2 20 := hX
  rw [cA_knownMany]
  refine j_aload_n (pc := 0) hX 0 rfl dX1_knownMany_0 ?_
  refine c_getI (pc := 1) hX fgX1_135_X1.1 fgX1_135_X1.2 rfl dX1_knownMany_1 ?_
  refine j_iconst (pc := 4) hX ic_m1 dX1_knownMany_4 ?_
  refine j_cne (pc := 5) (tgt := 18) hX rfl dX1_knownMany_5 (fun _ => ?_) (fun _ => ?_)
  · refine j_aload_n (pc := 8) hX 0 rfl dX1_knownMany_8 ?_
    refine c_getR (pc := 9) hX fgX1_128_X1.1 fgX1_128_X1.2 rfl rfl dX1_knownMany_9 ?_
    refine j_callV (pc := 12) (e1 := eI) (a := 41) (As := fun z => []) (rest := []) hX (fun r e => cL_size_t 41 h r e) ymJ2_size (lw_V q417 q418 q419 q145 q420) rfl ckJ2 rfl ⟨Nat.le_of_ble_eq_true rfl, Nat.le_of_ble_eq_true rfl⟩ rfl rfl (Nat.le_of_ble_eq_true rfl) dX1_knownMany_12 (fun r1 h2 => ?_)
    refine j_goto (pc := 15) (tgt := 22) hX rfl dX1_knownMany_15 ?_
    exact j_iret (pc := 22) hX hr dX1_knownMany_22
  · refine j_aload_n (pc := 18) hX 0 rfl dX1_knownMany_18 ?_
    refine c_getI (pc := 19) hX fgX1_135_X1.1 fgX1_135_X1.2 rfl dX1_knownMany_19 ?_
    exact j_iret (pc := 22) hX hr dX1_knownMany_22
set_option maxHeartbeats 4000000 in
set_option maxRecDepth 100000 in
theorem kX20_struck_t   (o : Nat) (h : HP) (rr : Int32 × HP) (e : kX20_struck o h = some rr) : Cn cV yX20_struck (ws_ yX20_struck cX20_struck 1 (some .int)) 1 0 (fun z => [.ref (z + o)]) h (fun z => eI z rr.1) rr.2 := by
  refine cn_of (e1 := eI) (fun z => [(0, .ref (z + o))]) cV_ok (kX20_struck_m o h _ e) ymX20_struck (fun _ => rfl) (fun _ => Nat.le_of_ble_eq_true rfl) (fun X hX hr hnm => ?_) e
  have hX : okX cV X rr cX20_struck RX20 1 1 0 := hX
  rw [kX20_struck]
  refine j_iconst (pc := 0) hX ic_m1 dX20_struck_0 ?_
  exact j_iret (pc := 1) hX hr dX20_struck_1
set_option maxHeartbeats 4000000 in
set_option maxRecDepth 100000 in
theorem kX22_struck_t   (o : Nat) (h : HP) (rr : Int32 × HP) (e : kX22_struck o h = some rr) : Cn cV yX22_struck (ws_ yX22_struck cX22_struck 1 (some .int)) 1 0 (fun z => [.ref (z + o)]) h (fun z => eI z rr.1) rr.2 := by
  refine cn_of (e1 := eI) (fun z => [(0, .ref (z + o))]) cV_ok (kX22_struck_m o h _ e) ymX22_struck (fun _ => rfl) (fun _ => Nat.le_of_ble_eq_true rfl) (fun X hX hr hnm => ?_) e
  have hX : okX cV X rr cX22_struck RX22 1 1 0 := hX
  rw [kX22_struck]
  refine j_aload_n (pc := 0) hX 0 rfl dX22_struck_0 ?_
  refine j_grd fun g1 => ?_
  refine c_getI (pc := 1) hX fgX22_7_X22.1 fgX22_7_X22.2 g1 dX22_struck_1 ?_
  exact j_iret (pc := 4) hX hr dX22_struck_4
set_option maxHeartbeats 4000000 in
set_option maxRecDepth 100000 in
theorem kX21_isSo_t   (o : Nat) (a1 : Nat) (h : HP) (rr : Int32 × HP) (e : kX21_isSo o a1 h = some rr) : Cn cV yX21_isSo (ws_ yX21_isSo cX21_isSo 2 (some .boolean)) 1 0 (fun z => [.ref (z + o), .ref (z + a1)]) h (fun z => eI z rr.1) rr.2 := by
  refine cn_of (e1 := eI) (fun z => [(0, .ref (z + o)), (1, .ref (z + a1))]) cV_ok (kX21_isSo_m o a1 h _ e) ymX21_isSo (fun _ => rfl) (fun _ => Nat.le_of_ble_eq_true rfl) (fun X hX hr hnm => ?_) e
  have hX : okX cV X rr cX21_isSo RX21 2 1 0 := hX
  rw [kX21_isSo]
  refine j_aload_n (pc := 0) hX 1 rfl dX21_isSo_0 ?_
  refine j_grd fun g1 => ?_
  refine c_getR (pc := 1) hX fgX21_23_X9.1 fgX21_23_X9.2 (k1_of g1.1) g1.2.1.1 dX21_isSo_1 ?_
  refine j_aload_n (pc := 4) hX 0 rfl dX21_isSo_4 ?_
  refine j_grd fun g2 => ?_
  refine c_getI (pc := 5) hX fgX21_13_X21.1 fgX21_13_X21.2 g2 dX21_isSo_5 ?_
  refine j_iald (pc := 8) (n := 5) hX g1.2.2.1 dX21_isSo_8 (fun _ => ?_)
  refine j_aload_n (pc := 9) hX 0 rfl dX21_isSo_9 ?_
  refine c_getI (pc := 10) hX fgX21_16_X21.1 fgX21_16_X21.2 g2 dX21_isSo_10 ?_
  refine j_ishr (pc := 13) hX dX21_isSo_13 ?_
  refine j_iconst (pc := 14) hX ic_1 dX21_isSo_14 ?_
  refine j_iand (pc := 15) hX dX21_isSo_15 ?_
  refine j_iconst (pc := 16) hX ic_1 dX21_isSo_16 ?_
  refine j_jon (fun (j3 : Int32 → Option (Int32 × HP)) => ∀ (s4 : Int32), jG cV X evI rr (j3 s4) 25 [(0, .ref (xz X + o))] [.int s4] h) ?_ ?_
  · intro s4
    refine j_aload_n (pc := 25) hX 0 rfl dX21_isSo_25 ?_
    refine c_getI (pc := 26) hX fgX21_19_X21.1 fgX21_19_X21.2 g2 dX21_isSo_26 ?_
    refine j_cne (pc := 29) (tgt := 36) hX rfl dX21_isSo_29 (fun _ => ?_) (fun _ => ?_)
    · refine j_iconst (pc := 32) hX ic_1 dX21_isSo_32 ?_
      refine j_goto (pc := 33) (tgt := 37) hX rfl dX21_isSo_33 ?_
      exact j_zret (pc := 37) hX (Or.inr rfl) hr dX21_isSo_37
    · refine j_iconst (pc := 36) hX ic_0 dX21_isSo_36 ?_
      exact j_zret (pc := 37) hX (Or.inl rfl) hr dX21_isSo_37
  · intro j3 hj3
    refine j_cne (pc := 17) (tgt := 24) hX rfl dX21_isSo_17 (fun _ => ?_) (fun _ => ?_)
    · refine j_iconst (pc := 20) hX ic_1 dX21_isSo_20 ?_
      refine j_goto (pc := 21) (tgt := 25) hX rfl dX21_isSo_21 ?_
      refine j_locs [0] rfl ?_
      exact hj3 (1 : Int32)
    · refine j_iconst (pc := 24) hX ic_0 dX21_isSo_24 ?_
      refine j_locs [0] rfl ?_
      exact hj3 (0 : Int32)
set_option maxHeartbeats 4000000 in
set_option maxRecDepth 100000 in
theorem kX20_isSo_t   (o : Nat) (a1 : Nat) (h : HP) (rr : Int32 × HP) (e : kX20_isSo o a1 h = some rr) : Cn cV yX20_isSo (ws_ yX20_isSo cX20_isSo 2 (some .boolean)) 1 0 (fun z => [.ref (z + o), .ref (z + a1)]) h (fun z => eI z rr.1) rr.2 := by
  refine cn_of (e1 := eI) (fun z => [(0, .ref (z + o)), (1, .ref (z + a1))]) cV_ok (kX20_isSo_m o a1 h _ e) ymX20_isSo (fun _ => rfl) (fun _ => Nat.le_of_ble_eq_true rfl) (fun X hX hr hnm => ?_) e
  have hX : okX cV X rr cX20_isSo RX20 2 1 0 := hX
  rw [kX20_isSo]
  refine j_iconst (pc := 0) hX ic_1 dX20_isSo_0 ?_
  exact j_zret (pc := 1) hX (Or.inr rfl) hr dX20_isSo_1
set_option maxHeartbeats 4000000 in
set_option maxRecDepth 100000 in
theorem kX21_behind_t   (o : Nat) (h : HP) (rr : Int32 × HP) (e : kX21_behind o h = some rr) : Cn cV yX21_behind (ws_ yX21_behind cX21_behind 1 (some .int)) 1 0 (fun z => [.ref (z + o)]) h (fun z => eI z rr.1) rr.2 := by
  refine cn_of (e1 := eI) (fun z => [(0, .ref (z + o))]) cV_ok (kX21_behind_m o h _ e) ymX21_behind (fun _ => rfl) (fun _ => Nat.le_of_ble_eq_true rfl) (fun X hX hr hnm => ?_) e
  have hX : okX cV X rr cX21_behind RX21 1 1 0 := hX
  rw [kX21_behind]
  refine j_aload_n (pc := 0) hX 0 rfl dX21_behind_0 ?_
  refine j_grd fun g1 => ?_
  refine c_getI (pc := 1) hX fgX21_7_X21.1 fgX21_7_X21.2 g1 dX21_behind_1 ?_
  exact j_iret (pc := 4) hX hr dX21_behind_4
set_option maxHeartbeats 4000000 in
set_option maxRecDepth 100000 in
theorem kX20_behind_t   (o : Nat) (h : HP) (rr : Int32 × HP) (e : kX20_behind o h = some rr) : Cn cV yX20_behind (ws_ yX20_behind cX20_behind 1 (some .int)) 1 0 (fun z => [.ref (z + o)]) h (fun z => eI z rr.1) rr.2 := by
  refine cn_of (e1 := eI) (fun z => [(0, .ref (z + o))]) cV_ok (kX20_behind_m o h _ e) ymX20_behind (fun _ => rfl) (fun _ => Nat.le_of_ble_eq_true rfl) (fun X hX hr hnm => ?_) e
  have hX : okX cV X rr cX20_behind RX20 1 1 0 := hX
  rw [kX20_behind]
  refine j_iconst (pc := 0) hX ic_m1 dX20_behind_0 ?_
  exact j_iret (pc := 1) hX hr dX20_behind_1
set_option maxHeartbeats 4000000 in
set_option maxRecDepth 100000 in
theorem cA_areSo_2_w {X : CTX} {rr : Int32 × HP}  (hX : okX cV X rr cX1_areSo RX1 3 4 64) (hr : (xh X).sig.returnType = some .boolean) (f1 : Int32) (k : HP → Option (Int32 × HP)) (hk : ∀  (h : HP), jG cV X evI rr (k  h) 66 [] [] h) : ∀ (n : Nat) (v2 : Int32) (h : HP), jG cV X evI rr (cA_areSo_2 f1 k n v2 h) 2 [(0, .ref (xz X + 0)), (1, .int f1), (2, .int v2)] [] h := by
  intro n
  induction n with
  | zero =>
    intro v2 h
    exact j_none
  | succ n ih =>
    intro v2 h
    rw [cA_areSo_2]
    refine j_iload_n (pc := 2) hX 2 rfl dX1_areSo_2 ?_
    refine j_aload_n (pc := 3) hX 0 rfl dX1_areSo_3 ?_
    refine j_callV (pc := 4) (e1 := eI) (a := 0) (As := fun z => []) (rest := [.int v2]) hX (fun r e => cA_knownMany_t h r e) ymX1_knownMany (lw_V q1437 q1439 qs59 q140 q1440) rfl ckX1 rfl ⟨Nat.le_of_ble_eq_true rfl, Nat.le_of_ble_eq_true rfl⟩ rfl rfl (Nat.le_of_ble_eq_true rfl) dX1_areSo_4 (fun r2 h3 => ?_)
    refine j_cge (pc := 7) (tgt := 66) hX rfl dX1_areSo_7 (fun _ => ?_) (fun _ => ?_)
    · refine j_locs [] rfl ?_
      exact hk h3
    · refine j_aload_n (pc := 10) hX 0 rfl dX1_areSo_10 ?_
      refine c_getR (pc := 11) hX fgX1_131_X1.1 fgX1_131_X1.2 rfl rfl dX1_areSo_11 ?_
      refine j_iload_n (pc := 14) hX 2 rfl dX1_areSo_14 ?_
      refine j_zald (pc := 15) (n := 24) hX rfl dX1_areSo_15 (fun _ => ?_)
      refine j_ifne (pc := 16) (tgt := 60) hX rfl dX1_areSo_16 (fun _ => ?_) (fun _ => ?_)
      · refine j_aload_n (pc := 19) hX 0 rfl dX1_areSo_19 ?_
        refine c_getR (pc := 20) hX fgX1_128_X1.1 fgX1_128_X1.2 rfl rfl dX1_areSo_20 ?_
        refine j_iload_n (pc := 23) hX 2 rfl dX1_areSo_23 ?_
        refine j_callV (pc := 24) (e1 := eR) (a := 41) (As := fun z => [.int v2]) (rest := []) hX (fun r e => cL_get_t 41 v2 h3 r e) ymJ2_get (lw_V q1046 q422 q423 q145 q424) rfl ckJ2 rfl ⟨Nat.le_of_ble_eq_true rfl, Nat.le_of_ble_eq_true rfl⟩ rfl rfl (Nat.le_of_ble_eq_true rfl) dX1_areSo_24 (fun r4 h5 => ?_)
        refine j_grd fun g6 => ?_
        refine j_castLf (pc := 27) hX g6 q1441 dX1_areSo_27 ?_
        refine j_callD (pc := 30) (e1 := eI) (rest := []) (fun r7 h8 => ?_) (fun kk => ?_)
        · refine j_iload_n (pc := 33) hX 1 rfl dX1_areSo_33 ?_
          refine j_cne (pc := 34) (tgt := 60) hX rfl dX1_areSo_34 (fun _ => ?_) (fun _ => ?_)
          · refine j_aload_n (pc := 37) hX 0 rfl dX1_areSo_37 ?_
            refine c_getR (pc := 38) hX fgX1_128_X1.1 fgX1_128_X1.2 rfl rfl dX1_areSo_38 ?_
            refine j_iload_n (pc := 41) hX 2 rfl dX1_areSo_41 ?_
            refine j_callV (pc := 42) (e1 := eR) (a := 41) (As := fun z => [.int v2]) (rest := []) hX (fun r e => cL_get_t 41 v2 h8 r e) ymJ2_get (lw_V q1046 q422 q423 q145 q424) rfl ckJ2 rfl ⟨Nat.le_of_ble_eq_true rfl, Nat.le_of_ble_eq_true rfl⟩ rfl rfl (Nat.le_of_ble_eq_true rfl) dX1_areSo_42 (fun r9 h10 => ?_)
            refine j_grd fun g11 => ?_
            refine j_castLf (pc := 45) hX g11 q1441 dX1_areSo_45 ?_
            refine j_aload_n (pc := 48) hX 0 rfl dX1_areSo_48 ?_
            refine c_getR (pc := 49) hX fgX1_99_X1.1 fgX1_99_X1.2 rfl rfl dX1_areSo_49 ?_
            refine j_callD (pc := 52) (e1 := eI) (rest := []) (fun r12 h13 => ?_) (fun kk => ?_)
            · refine j_ifne (pc := 55) (tgt := 60) hX rfl dX1_areSo_55 (fun _ => ?_) (fun _ => ?_)
              · refine j_iconst (pc := 58) hX ic_0 dX1_areSo_58 ?_
                exact j_zret (pc := 59) hX (Or.inl rfl) hr dX1_areSo_59
              · refine j_iinc (pc := 60) hX 2 rfl (1 : Int32) ic_1 (fun x14 => [(2, .int x14), (0, .ref (xz X + 0)), (1, .int f1)]) (fun _ => rfl) (Nat.le_of_ble_eq_true rfl) dX1_areSo_60 (fun x14 => ?_)
                refine j_goto (pc := 63) (tgt := 2) hX rfl dX1_areSo_63 ?_
                refine j_locs [1, 2, 0] rfl ?_
                exact ih x14 h13
            · rw [cF_isSo]
              refine j_calIf (fun g15 => ?_) (fun _ => ?_)
              · exact j_callU (pc := 52) (e1 := eI) (owner := "AskedCourt$Leaf") (As := fun z => [.ref (z + 25)]) (rest := []) hX (fun r e => kX21_isSo_t r9 25 h10 r e) yo_cF_isSo q1466 q1468 q1469 q1470 q180 q1471 (fun a s hts _ => va_Decl.of (hts _ q1467) (hts _ q1473)) ckX21 g15 ⟨Nat.le_of_ble_eq_true rfl, Nat.le_of_ble_eq_true rfl⟩ rfl rfl (Nat.le_of_ble_eq_true rfl) dX1_areSo_52 kk
              refine j_calIf (fun g16 => ?_) (fun _ => ?_)
              · exact j_callU (pc := 52) (e1 := eI) (owner := "AskedCourt$Leaf") (As := fun z => [.ref (z + 25)]) (rest := []) hX (fun r e => kX20_isSo_t r9 25 h10 r e) yo_cF_isSo q1466 q1468 q1472 q1467 q179 q1473 (fun a s hts _ => va_Decl.of (hts _ q1467) (hts _ q1473)) ckX22 g16 ⟨Nat.le_of_ble_eq_true rfl, Nat.le_of_ble_eq_true rfl⟩ rfl rfl (Nat.le_of_ble_eq_true rfl) dX1_areSo_52 kk
              exact j_calN
          · refine j_iinc (pc := 60) hX 2 rfl (1 : Int32) ic_1 (fun x17 => [(2, .int x17), (0, .ref (xz X + 0)), (1, .int f1)]) (fun _ => rfl) (Nat.le_of_ble_eq_true rfl) dX1_areSo_60 (fun x17 => ?_)
            refine j_goto (pc := 63) (tgt := 2) hX rfl dX1_areSo_63 ?_
            refine j_locs [1, 2, 0] rfl ?_
            exact ih x17 h8
        · rw [cF_behind]
          refine j_calIf (fun g18 => ?_) (fun _ => ?_)
          · exact j_callU (pc := 30) (e1 := eI) (owner := "AskedCourt$Leaf") (As := fun z => []) (rest := []) hX (fun r e => kX21_behind_t r4 h5 r e) yo_cF_behind q1458 q1460 q1461 q1462 q180 q1463 (fun a s hts _ => va_Decl.of (hts _ q1459) (hts _ q1465)) ckX21 g18 ⟨Nat.le_of_ble_eq_true rfl, Nat.le_of_ble_eq_true rfl⟩ rfl rfl (Nat.le_of_ble_eq_true rfl) dX1_areSo_30 kk
          refine j_calIf (fun g19 => ?_) (fun _ => ?_)
          · exact j_callU (pc := 30) (e1 := eI) (owner := "AskedCourt$Leaf") (As := fun z => []) (rest := []) hX (fun r e => kX20_behind_t r4 h5 r e) yo_cF_behind q1458 q1460 q1464 q1459 q179 q1465 (fun a s hts _ => va_Decl.of (hts _ q1459) (hts _ q1465)) ckX22 g19 ⟨Nat.le_of_ble_eq_true rfl, Nat.le_of_ble_eq_true rfl⟩ rfl rfl (Nat.le_of_ble_eq_true rfl) dX1_areSo_30 kk
          exact j_calN
      · refine j_iinc (pc := 60) hX 2 rfl (1 : Int32) ic_1 (fun x20 => [(2, .int x20), (0, .ref (xz X + 0)), (1, .int f1)]) (fun _ => rfl) (Nat.le_of_ble_eq_true rfl) dX1_areSo_60 (fun x20 => ?_)
        refine j_goto (pc := 63) (tgt := 2) hX rfl dX1_areSo_63 ?_
        refine j_locs [1, 2, 0] rfl ?_
        exact ih x20 h3
