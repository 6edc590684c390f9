/-! the component: walks -/
set_option maxHeartbeats 4000000 in
set_option maxRecDepth 100000 in
theorem cA_areSo_t   (a1 : Int32) (h : HP) (rr : Int32 × HP) (e : cA_areSo a1 h = some rr) : Cn cV yX1_areSo (ws_ yX1_areSo cX1_areSo 3 (some .boolean)) 4 64 (fun z => [.ref (z + 0), .int a1]) h (fun z => eI z rr.1) rr.2 := by
  refine cn_of (e1 := eI) (fun z => [(0, .ref (z + 0)), (1, .int a1)]) cV_ok (cA_areSo_m a1 h _ e) ymX1_areSo (fun _ => rfl) (fun _ => Nat.le_of_ble_eq_true rfl) (fun X hX hr hnm => ?_) e
  have hX : okX cV X rr cX1_areSo RX1 3 4 64 := hX
  rw [cA_areSo]
  refine j_iconst (pc := 0) hX ic_0 dX1_areSo_0 ?_
  refine j_istore_n (pc := 1) hX (fun x1 => [(2, .int x1), (0, .ref (xz X + 0)), (1, .int a1)]) (fun _ => rfl) (Nat.le_of_ble_eq_true rfl) dX1_areSo_1 (fun x1 => ?_)
  refine j_locs [1, 2, 0] rfl ?_
  refine cA_areSo_2_w hX hr a1 _ (fun  h21 => ?_) FU x1 h
  refine j_iconst (pc := 66) hX ic_1 dX1_areSo_66 ?_
  exact j_zret (pc := 67) hX (Or.inr rfl) hr dX1_areSo_67
set_option maxHeartbeats 4000000 in
set_option maxRecDepth 100000 in
theorem cA_isKnew_22_w {X : CTX} {rr : Int32 × HP}  (hX : okX cV X rr cX1_isKnew RX1 4 165 3884) (hr : (xh X).sig.returnType = some .boolean)  (k : HP → Option (Int32 × HP)) (hk : ∀  (h : HP), jG cV X evI rr (k  h) 58 [(0, .ref (xz X + 0))] [] h) : ∀ (n : Nat) (v3 : Int32) (h : HP), jG cV X evI rr (cA_isKnew_22 k n v3 h) 22 [(0, .ref (xz X + 0)), (3, .int v3)] [] h := by
  intro n
  induction n with
  | zero =>
    intro v3 h
    exact j_none
  | succ n ih =>
    intro v3 h
    rw [cA_isKnew_22]
    refine j_iload_n (pc := 22) hX 1 rfl dX1_isKnew_22 ?_
    refine j_aload_n (pc := 23) hX 0 rfl dX1_isKnew_23 ?_
    refine j_onr fun b7 e8 => ?_
    refine c_getR (pc := 24) hX fgX1_13_X1.1 fgX1_13_X1.2 rfl e8 dX1_isKnew_24 ?_
    refine j_grd fun g9 => ?_
    refine c_getI (pc := 27) hX fgX1_362_X3.1 fgX1_362_X3.2 (k1_of g9.1) dX1_isKnew_27 ?_
    refine j_cge (pc := 30) (tgt := 58) hX rfl dX1_isKnew_30 (fun _ => ?_) (fun _ => ?_)
    · refine j_locs [0] rfl ?_
      exact hk h
    · refine j_aload_n (pc := 33) hX 0 rfl dX1_isKnew_33 ?_
      refine j_iload_n (pc := 34) hX 1 rfl dX1_isKnew_34 ?_
      refine j_callV (pc := 35) (e1 := eI) (a := 0) (As := fun z => [.int v3]) (rest := []) hX (fun r e => cA_areSo_t v3 h r e) ymX1_areSo (lw_V q1454 q1456 qs61 q140 q1457) rfl ckX1 rfl ⟨Nat.le_of_ble_eq_true rfl, Nat.le_of_ble_eq_true rfl⟩ rfl rfl (Nat.le_of_ble_eq_true rfl) dX1_isKnew_35 (fun r10 h11 => ?_)
      refine j_ifne (pc := 38) (tgt := 43) hX rfl dX1_isKnew_38 (fun _ => ?_) (fun _ => ?_)
      · refine j_iconst (pc := 41) hX ic_0 dX1_isKnew_41 ?_
        exact j_zret (pc := 42) hX (Or.inl rfl) hr dX1_isKnew_42
      · refine j_aload_n (pc := 43) hX 0 rfl dX1_isKnew_43 ?_
        refine c_getR (pc := 44) hX fgX1_99_X1.1 fgX1_99_X1.2 rfl rfl dX1_isKnew_44 ?_
        refine j_iload_n (pc := 47) hX 1 rfl dX1_isKnew_47 ?_
        refine j_iconst (pc := 48) hX ic_0 dX1_isKnew_48 ?_
        refine j_callV (pc := 49) (e1 := eV) (a := 25) (As := fun z => [.int v3, .int (0 : Int32)]) (rest := []) hX (fun r e => cS_talk_t 25 v3 (0 : Int32) h11 r e) ymX9_talk (lw_V q1375 q1376 q1377 q151 q1378) rfl ckX9 rfl ⟨Nat.le_of_ble_eq_true rfl, Nat.le_of_ble_eq_true rfl⟩ rfl rfl (Nat.le_of_ble_eq_true rfl) dX1_isKnew_49 (fun r12 h13 => ?_)
        refine j_iinc (pc := 52) hX 1 rfl (1 : Int32) ic_1 (fun x14 => [(3, .int x14), (0, .ref (xz X + 0))]) (fun _ => rfl) (Nat.le_of_ble_eq_true rfl) dX1_isKnew_52 (fun x14 => ?_)
        refine j_goto (pc := 55) (tgt := 22) hX rfl dX1_isKnew_55 ?_
        refine j_locs [1, 0] rfl ?_
        exact ih x14 h13
set_option maxHeartbeats 4000000 in
set_option maxRecDepth 100000 in
theorem cA_isKnew_t   (a1 : Int32) (a2 : Int32) (h : HP) (rr : Int32 × HP) (e : cA_isKnew a1 a2 h = some rr) : Cn cV yX1_isKnew (ws_ yX1_isKnew cX1_isKnew 4 (some .boolean)) 165 3884 (fun z => [.ref (z + 0), .int a1, .int a2]) h (fun z => eI z rr.1) rr.2 := by
  refine cn_of (e1 := eI) (fun z => [(0, .ref (z + 0)), (1, .int a1), (2, .int a2)]) cV_ok (cA_isKnew_m a1 a2 h _ e) ymX1_isKnew (fun _ => rfl) (fun _ => Nat.le_of_ble_eq_true rfl) (fun X hX hr hnm => ?_) e
  have hX : okX cV X rr cX1_isKnew RX1 4 165 3884 := hX
  rw [cA_isKnew]
  refine j_aload_n (pc := 0) hX 0 rfl dX1_isKnew_0 ?_
  refine c_getR (pc := 1) hX fgX1_99_X1.1 fgX1_99_X1.2 rfl rfl dX1_isKnew_1 ?_
  refine j_callV (pc := 4) (e1 := eV) (a := 25) (As := fun z => []) (rest := []) hX (fun r e => cS_begin_t 25 h r e) ymX9_begin (lw_V q409 q410 q411 q151 q412) rfl ckX9 rfl ⟨Nat.le_of_ble_eq_true rfl, Nat.le_of_ble_eq_true rfl⟩ rfl rfl (Nat.le_of_ble_eq_true rfl) dX1_isKnew_4 (fun r1 h2 => ?_)
  refine j_aload_n (pc := 7) hX 0 rfl dX1_isKnew_7 ?_
  refine c_getR (pc := 8) hX fgX1_99_X1.1 fgX1_99_X1.2 rfl rfl dX1_isKnew_8 ?_
  refine c_getR (pc := 11) hX fgX1_214_X9.1 fgX1_214_X9.2 rfl rfl dX1_isKnew_11 ?_
  refine j_iload_n (pc := 14) hX 1 rfl dX1_isKnew_14 ?_
  refine j_dup2 (pc := 15) hX rfl rfl dX1_isKnew_15 ?_
  refine j_iald (pc := 16) (n := 5) hX rfl dX1_isKnew_16 (fun _ => ?_)
  refine j_iload_n (pc := 17) hX 2 rfl dX1_isKnew_17 ?_
  refine j_ior (pc := 18) hX dX1_isKnew_18 ?_
  refine c_iast (pc := 19) (n := 5) hX rfl dX1_isKnew_19 (fun h3 q4 q5 => ?_)
  refine j_iconst (pc := 20) hX ic_0 dX1_isKnew_20 ?_
  refine j_istore_n (pc := 21) hX (fun x6 => [(3, .int x6), (0, .ref (xz X + 0)), (1, .int a1), (2, .int a2)]) (fun _ => rfl) (Nat.le_of_ble_eq_true rfl) dX1_isKnew_21 (fun x6 => ?_)
  refine j_locs [1, 0] rfl ?_
  refine cA_isKnew_22_w hX hr  _ (fun  h15 => ?_) FU x6 h3
  refine j_aload_n (pc := 58) hX 0 rfl dX1_isKnew_58 ?_
  refine j_aload_n (pc := 59) hX 0 rfl dX1_isKnew_59 ?_
  refine j_onr fun b16 e17 => ?_
  refine c_getR (pc := 60) hX fgX1_13_X1.1 fgX1_13_X1.2 rfl e17 dX1_isKnew_60 ?_
  refine j_grd fun g18 => ?_
  refine c_getI (pc := 63) hX fgX1_362_X3.1 fgX1_362_X3.2 (k1_of g18.1) dX1_isKnew_63 ?_
  refine j_callV (pc := 66) (e1 := eI) (a := 0) (As := fun z => [.int (gI h15 b16 7)]) (rest := []) hX (fun r e => cA_areSo_t (gI h15 b16 7) h15 r e) ymX1_areSo (lw_V q1454 q1456 qs61 q140 q1457) rfl ckX1 rfl ⟨Nat.le_of_ble_eq_true rfl, Nat.le_of_ble_eq_true rfl⟩ rfl rfl (Nat.le_of_ble_eq_true rfl) dX1_isKnew_66 (fun r19 h20 => ?_)
  refine j_grd fun g21 => ?_
  exact j_zret (pc := 69) hX g21 hr dX1_isKnew_69
set_option maxHeartbeats 4000000 in
set_option maxRecDepth 100000 in
theorem cA_knew_12_w {X : CTX} {rr : Int32 × HP}  (hX : okX cV X rr cX1_knew RX1 5 166 3907) (hr : (xh X).sig.returnType = some .int) (f1 : Int32) (k : HP → Option (Int32 × HP)) (hk : ∀  (h : HP), jG cV X evI rr (k  h) 33 [(0, .ref (xz X + 0)), (1, .int f1)] [] h) : ∀ (n : Nat) (v2 : Int32) (h : HP), jG cV X evI rr (cA_knew_12 f1 k n v2 h) 12 [(0, .ref (xz X + 0)), (1, .int f1), (2, .int v2)] [] h := by
  intro n
  induction n with
  | zero =>
    intro v2 h
    exact j_none
  | succ n ih =>
    intro v2 h
    rw [cA_knew_12]
    refine j_iload_n (pc := 12) hX 2 rfl dX1_knew_12 ?_
    refine j_aload_n (pc := 13) hX 0 rfl dX1_knew_13 ?_
    refine j_callV (pc := 14) (e1 := eI) (a := 0) (As := fun z => []) (rest := [.int v2]) hX (fun r e => cA_knownMany_t h r e) ymX1_knownMany (lw_V q1437 q1439 qs59 q140 q1440) rfl ckX1 rfl ⟨Nat.le_of_ble_eq_true rfl, Nat.le_of_ble_eq_true rfl⟩ rfl rfl (Nat.le_of_ble_eq_true rfl) dX1_knew_14 (fun r4 h5 => ?_)
    refine j_cge (pc := 17) (tgt := 33) hX rfl dX1_knew_17 (fun _ => ?_) (fun _ => ?_)
    · refine j_locs [0, 1] rfl ?_
      exact hk h5
    · refine j_aload_n (pc := 20) hX 0 rfl dX1_knew_20 ?_
      refine c_getR (pc := 21) hX fgX1_131_X1.1 fgX1_131_X1.2 rfl rfl dX1_knew_21 ?_
      refine j_iload_n (pc := 24) hX 2 rfl dX1_knew_24 ?_
      refine j_iconst (pc := 25) hX ic_0 dX1_knew_25 ?_
      refine c_zast (pc := 26) (n := 24) hX (Or.inl rfl) rfl dX1_knew_26 (fun h6 q7 q8 => ?_)
      refine j_iinc (pc := 27) hX 2 rfl (1 : Int32) ic_1 (fun x9 => [(2, .int x9), (0, .ref (xz X + 0)), (1, .int f1)]) (fun _ => rfl) (Nat.le_of_ble_eq_true rfl) dX1_knew_27 (fun x9 => ?_)
      refine j_goto (pc := 30) (tgt := 12) hX rfl dX1_knew_30 ?_
      refine j_locs [1, 2, 0] rfl ?_
      exact ih x9 h6
set_option maxHeartbeats 4000000 in
set_option maxRecDepth 100000 in
theorem cA_knew_40_w {X : CTX} {rr : Int32 × HP}  (hX : okX cV X rr cX1_knew RX1 5 166 3907) (hr : (xh X).sig.returnType = some .int) (f1 : Int32) (k : HP → Option (Int32 × HP)) (hk : ∀  (h : HP), jG cV X evI rr (k  h) 97 [(0, .ref (xz X + 0)), (1, .int f1)] [] h) : ∀ (n : Nat) (v2 : Int32) (h : HP), jG cV X evI rr (cA_knew_40 f1 k n v2 h) 40 [(0, .ref (xz X + 0)), (1, .int f1), (2, .int v2)] [] h := by
  intro n
  induction n with
  | zero =>
    intro v2 h
    exact j_none
  | succ n ih =>
    intro v2 h
    rw [cA_knew_40]
    refine j_iload_n (pc := 40) hX 2 rfl dX1_knew_40 ?_
    refine j_iflt (pc := 41) (tgt := 97) hX rfl dX1_knew_41 (fun _ => ?_) (fun _ => ?_)
    · refine j_locs [0, 1] rfl ?_
      exact hk h
    · refine j_aload_n (pc := 44) hX 0 rfl dX1_knew_44 ?_
      refine c_getR (pc := 45) hX fgX1_131_X1.1 fgX1_131_X1.2 rfl rfl dX1_knew_45 ?_
      refine j_iload_n (pc := 48) hX 2 rfl dX1_knew_48 ?_
      refine j_zald (pc := 49) (n := 24) hX rfl dX1_knew_49 (fun _ => ?_)
      refine j_ifne (pc := 50) (tgt := 91) hX rfl dX1_knew_50 (fun _ => ?_) (fun _ => ?_)
      · refine j_aload_n (pc := 53) hX 0 rfl dX1_knew_53 ?_
        refine c_getR (pc := 54) hX fgX1_128_X1.1 fgX1_128_X1.2 rfl rfl dX1_knew_54 ?_
        refine j_iload_n (pc := 57) hX 2 rfl dX1_knew_57 ?_
        refine j_callV (pc := 58) (e1 := eR) (a := 41) (As := fun z => [.int v2]) (rest := []) hX (fun r e => cL_get_t 41 v2 h r e) ymJ2_get (lw_V q1046 q422 q423 q145 q424) rfl ckJ2 rfl ⟨Nat.le_of_ble_eq_true rfl, Nat.le_of_ble_eq_true rfl⟩ rfl rfl (Nat.le_of_ble_eq_true rfl) dX1_knew_58 (fun r14 h15 => ?_)
        refine j_grd fun g16 => ?_
        refine j_castLf (pc := 61) hX g16 q1441 dX1_knew_61 ?_
        refine j_callD (pc := 64) (e1 := eI) (rest := []) (fun r17 h18 => ?_) (fun kk => ?_)
        · refine j_iconst (pc := 67) hX ic_m1 dX1_knew_67 ?_
          refine j_ceq (pc := 68) (tgt := 91) hX rfl dX1_knew_68 (fun _ => ?_) (fun _ => ?_)
          · refine j_iinc (pc := 91) hX 2 rfl (-1 : Int32) ic_m1 (fun x19 => [(2, .int x19), (0, .ref (xz X + 0)), (1, .int f1)]) (fun _ => rfl) (Nat.le_of_ble_eq_true rfl) dX1_knew_91 (fun x19 => ?_)
            refine j_goto (pc := 94) (tgt := 40) hX rfl dX1_knew_94 ?_
            refine j_locs [1, 2, 0] rfl ?_
            exact ih x19 h18
          · refine j_aload_n (pc := 71) hX 0 rfl dX1_knew_71 ?_
            refine c_getR (pc := 72) hX fgX1_131_X1.1 fgX1_131_X1.2 rfl rfl dX1_knew_72 ?_
            refine j_aload_n (pc := 75) hX 0 rfl dX1_knew_75 ?_
            refine c_getR (pc := 76) hX fgX1_128_X1.1 fgX1_128_X1.2 rfl rfl dX1_knew_76 ?_
            refine j_iload_n (pc := 79) hX 2 rfl dX1_knew_79 ?_
            refine j_callV (pc := 80) (e1 := eR) (a := 41) (As := fun z => [.int v2]) (rest := [.ref (xz X + 43)]) hX (fun r e => cL_get_t 41 v2 h18 r e) ymJ2_get (lw_V q1046 q422 q423 q145 q424) rfl ckJ2 rfl ⟨Nat.le_of_ble_eq_true rfl, Nat.le_of_ble_eq_true rfl⟩ rfl rfl (Nat.le_of_ble_eq_true rfl) dX1_knew_80 (fun r20 h21 => ?_)
            refine j_grd fun g22 => ?_
            refine j_castLf (pc := 83) hX g22 q1441 dX1_knew_83 ?_
            refine j_callD (pc := 86) (e1 := eI) (rest := [.ref (xz X + 43)]) (fun r23 h24 => ?_) (fun kk => ?_)
            · refine j_iconst (pc := 89) hX ic_1 dX1_knew_89 ?_
              refine c_zast (pc := 90) (n := 24) hX (Or.inr rfl) rfl dX1_knew_90 (fun h25 q26 q27 => ?_)
              refine j_iinc (pc := 91) hX 2 rfl (-1 : Int32) ic_m1 (fun x28 => [(2, .int x28), (0, .ref (xz X + 0)), (1, .int f1)]) (fun _ => rfl) (Nat.le_of_ble_eq_true rfl) dX1_knew_91 (fun x28 => ?_)
              refine j_goto (pc := 94) (tgt := 40) hX rfl dX1_knew_94 ?_
              refine j_locs [1, 2, 0] rfl ?_
              exact ih x28 h25
            · rw [cF_struck]
              refine j_calIf (fun g29 => ?_) (fun _ => ?_)
              · exact j_callU (pc := 86) (e1 := eI) (owner := "AskedCourt$Leaf") (As := fun z => []) (rest := [.ref (xz X + 43)]) hX (fun r e => kX20_struck_t r20 h21 r e) yo_cF_struck q1442 q1444 q1445 q1443 q179 q1449 (fun a s hts _ => va_Decl.of (hts _ q1443) (hts _ q1449)) ckX21 g29 ⟨Nat.le_of_ble_eq_true rfl, Nat.le_of_ble_eq_true rfl⟩ rfl rfl (Nat.le_of_ble_eq_true rfl) dX1_knew_86 kk
              refine j_calIf (fun g30 => ?_) (fun _ => ?_)
              · exact j_callU (pc := 86) (e1 := eI) (owner := "AskedCourt$Leaf") (As := fun z => []) (rest := [.ref (xz X + 43)]) hX (fun r e => kX22_struck_t r20 h21 r e) yo_cF_struck q1442 q1444 q1446 q1447 q181 q1448 (fun a s hts _ => va_Decl.of (hts _ q1443) (hts _ q1449)) ckX22 g30 ⟨Nat.le_of_ble_eq_true rfl, Nat.le_of_ble_eq_true rfl⟩ rfl rfl (Nat.le_of_ble_eq_true rfl) dX1_knew_86 kk
              exact j_calN
        · rw [cF_struck]
          refine j_calIf (fun g31 => ?_) (fun _ => ?_)
          · exact j_callU (pc := 64) (e1 := eI) (owner := "AskedCourt$Leaf") (As := fun z => []) (rest := []) hX (fun r e => kX20_struck_t r14 h15 r e) yo_cF_struck q1442 q1444 q1445 q1443 q179 q1449 (fun a s hts _ => va_Decl.of (hts _ q1443) (hts _ q1449)) ckX21 g31 ⟨Nat.le_of_ble_eq_true rfl, Nat.le_of_ble_eq_true rfl⟩ rfl rfl (Nat.le_of_ble_eq_true rfl) dX1_knew_64 kk
          refine j_calIf (fun g32 => ?_) (fun _ => ?_)
          · exact j_callU (pc := 64) (e1 := eI) (owner := "AskedCourt$Leaf") (As := fun z => []) (rest := []) hX (fun r e => kX22_struck_t r14 h15 r e) yo_cF_struck q1442 q1444 q1446 q1447 q181 q1448 (fun a s hts _ => va_Decl.of (hts _ q1443) (hts _ q1449)) ckX22 g32 ⟨Nat.le_of_ble_eq_true rfl, Nat.le_of_ble_eq_true rfl⟩ rfl rfl (Nat.le_of_ble_eq_true rfl) dX1_knew_64 kk
          exact j_calN
      · refine j_iinc (pc := 91) hX 2 rfl (-1 : Int32) ic_m1 (fun x33 => [(2, .int x33), (0, .ref (xz X + 0)), (1, .int f1)]) (fun _ => rfl) (Nat.le_of_ble_eq_true rfl) dX1_knew_91 (fun x33 => ?_)
        refine j_goto (pc := 94) (tgt := 40) hX rfl dX1_knew_94 ?_
        refine j_locs [1, 2, 0] rfl ?_
        exact ih x33 h
set_option maxHeartbeats 4000000 in
set_option maxRecDepth 100000 in
theorem cA_knew_113_w {X : CTX} {rr : Int32 × HP}  (hX : okX cV X rr cX1_knew RX1 5 166 3907) (hr : (xh X).sig.returnType = some .int) (f1 : Int32) (f2 : Int32) (k : Int32 → HP → Option (Int32 × HP)) (hk : ∀ (v3 : Int32) (h : HP), jG cV X evI rr (k v3 h) 158 [(3, .int v3)] [] h) : ∀ (n : Nat) (v3 : Int32) (v4 : Int32) (h : HP), jG cV X evI rr (cA_knew_113 f1 f2 k n v3 v4 h) 113 [(0, .ref (xz X + 0)), (1, .int f1), (2, .int f2), (3, .int v3), (4, .int v4)] [] h := by
  intro n
  induction n with
  | zero =>
    intro v3 v4 h
    exact j_none
  | succ n ih =>
    intro v3 v4 h
    rw [cA_knew_113]
    refine j_iload (pc := 113) hX 4 rfl dX1_knew_113 ?_
    refine j_iload_n (pc := 115) hX 2 rfl dX1_knew_115 ?_
    refine j_cgt (pc := 116) (tgt := 158) hX rfl dX1_knew_116 (fun _ => ?_) (fun _ => ?_)
    · refine j_locs [3] rfl ?_
      exact hk v3 h
    · refine j_iload_n (pc := 119) hX 3 rfl dX1_knew_119 ?_
      refine j_aload_n (pc := 120) hX 0 rfl dX1_knew_120 ?_
      refine j_iload_n (pc := 121) hX 1 rfl dX1_knew_121 ?_
      refine j_iload (pc := 122) hX 4 rfl dX1_knew_122 ?_
      refine j_iload_n (pc := 124) hX 2 rfl dX1_knew_124 ?_
      refine j_jon (fun (j44 : Int32 → Option (Int32 × HP)) => ∀ (s45 : Int32), jG cV X evI rr (j44 s45) 136 [(0, .ref (xz X + 0)), (1, .int f1), (2, .int f2), (4, .int v4)] [.int s45, .int f1, .ref (xz X + 0), .int v3] h) ?_ ?_
      · intro s45
        refine j_callV (pc := 136) (e1 := eI) (a := 0) (As := fun z => [.int f1, .int s45]) (rest := [.int v3]) hX (fun r e => cA_isKnew_t f1 s45 h r e) ymX1_isKnew (lw_V q1450 q1452 qs60 q140 q1453) rfl ckX1 rfl ⟨Nat.le_of_ble_eq_true rfl, Nat.le_of_ble_eq_true rfl⟩ rfl rfl (Nat.le_of_ble_eq_true rfl) dX1_knew_136 (fun r46 h47 => ?_)
        refine j_jon (fun (j48 : Int32 → Option (Int32 × HP)) => ∀ (s49 : Int32), jG cV X evI rr (j48 s49) 150 [(0, .ref (xz X + 0)), (1, .int f1), (2, .int f2), (4, .int v4)] [.int s49, .int v3] h47) ?_ ?_
        · intro s49
          refine j_ior (pc := 150) hX dX1_knew_150 ?_
          refine j_istore_n (pc := 151) hX (fun x50 => [(3, .int x50), (0, .ref (xz X + 0)), (1, .int f1), (2, .int f2), (4, .int v4)]) (fun _ => rfl) (Nat.le_of_ble_eq_true rfl) dX1_knew_151 (fun x50 => ?_)
          refine j_iinc (pc := 152) hX 4 rfl (1 : Int32) ic_1 (fun x51 => [(4, .int x51), (3, .int x50), (0, .ref (xz X + 0)), (1, .int f1), (2, .int f2)]) (fun _ => rfl) (Nat.le_of_ble_eq_true rfl) dX1_knew_152 (fun x51 => ?_)
          refine j_goto (pc := 155) (tgt := 113) hX rfl dX1_knew_155 ?_
          refine j_locs [2, 3, 4, 1, 0] rfl ?_
          exact ih x50 x51 h47
        · intro j48 hj48
          refine j_ifeq (pc := 139) (tgt := 149) hX rfl dX1_knew_139 (fun _ => ?_) (fun _ => ?_)
          · refine j_iconst (pc := 149) hX ic_0 dX1_knew_149 ?_
            exact hj48 (0 : Int32)
          · refine j_iconst (pc := 142) hX ic_1 dX1_knew_142 ?_
            refine j_iload (pc := 143) hX 3 rfl dX1_knew_143 ?_
            refine j_ishl (pc := 145) hX dX1_knew_145 ?_
            refine j_goto (pc := 146) (tgt := 150) hX rfl dX1_knew_146 ?_
            exact hj48 ((1 : Int32) <<< (v4 &&& 31))
      · intro j44 hj44
        refine j_cge (pc := 125) (tgt := 135) hX rfl dX1_knew_125 (fun _ => ?_) (fun _ => ?_)
        · refine j_iconst (pc := 135) hX ic_0 dX1_knew_135 ?_
          refine j_locs [0, 1, 2, 4] rfl ?_
          exact hj44 (0 : Int32)
        · refine j_iconst (pc := 128) hX ic_1 dX1_knew_128 ?_
          refine j_iload (pc := 129) hX 4 rfl dX1_knew_129 ?_
          refine j_ishl (pc := 131) hX dX1_knew_131 ?_
          refine j_goto (pc := 132) (tgt := 136) hX rfl dX1_knew_132 ?_
          refine j_locs [0, 1, 2, 4] rfl ?_
          exact hj44 ((1 : Int32) <<< (v4 &&& 31))
set_option maxHeartbeats 4000000 in
set_option maxRecDepth 100000 in
theorem cA_knew_t   (a1 : Int32) (h : HP) (rr : Int32 × HP) (e : cA_knew a1 h = some rr) : Cn cV yX1_knew (ws_ yX1_knew cX1_knew 5 (some .int)) 166 3907 (fun z => [.ref (z + 0), .int a1]) h (fun z => eI z rr.1) rr.2 := by
  refine cn_of (e1 := eI) (fun z => [(0, .ref (z + 0)), (1, .int a1)]) cV_ok (cA_knew_m a1 h _ e) ymX1_knew (fun _ => rfl) (fun _ => Nat.le_of_ble_eq_true rfl) (fun X hX hr hnm => ?_) e
  have hX : okX cV X rr cX1_knew RX1 5 166 3907 := hX
  rw [cA_knew]
  refine j_aload_n (pc := 0) hX 0 rfl dX1_knew_0 ?_
  refine j_iload_n (pc := 1) hX 1 rfl dX1_knew_1 ?_
  refine j_callV (pc := 2) (e1 := eI) (a := 0) (As := fun z => [.int a1]) (rest := []) hX (fun r e => cA_isPerson_t a1 h r e) ymX1_isPerson (lw_V q1056 q1058 qs37 q140 q1059) rfl ckX1 rfl ⟨Nat.le_of_ble_eq_true rfl, Nat.le_of_ble_eq_true rfl⟩ rfl rfl (Nat.le_of_ble_eq_true rfl) dX1_knew_2 (fun r1 h2 => ?_)
  refine j_ifne (pc := 5) (tgt := 10) hX rfl dX1_knew_5 (fun _ => ?_) (fun _ => ?_)
  · refine j_iconst (pc := 8) hX ic_m1 dX1_knew_8 ?_
    exact j_iret (pc := 9) hX hr dX1_knew_9
  · refine j_iconst (pc := 10) hX ic_0 dX1_knew_10 ?_
    refine j_istore_n (pc := 11) hX (fun x3 => [(2, .int x3), (0, .ref (xz X + 0)), (1, .int a1)]) (fun _ => rfl) (Nat.le_of_ble_eq_true rfl) dX1_knew_11 (fun x3 => ?_)
    refine j_locs [1, 2, 0] rfl ?_
    refine cA_knew_12_w hX hr a1 _ (fun  h10 => ?_) FU x3 h2
    refine j_aload_n (pc := 33) hX 0 rfl dX1_knew_33 ?_
    refine j_callV (pc := 34) (e1 := eI) (a := 0) (As := fun z => []) (rest := []) hX (fun r e => cA_knownMany_t h10 r e) ymX1_knownMany (lw_V q1437 q1439 qs59 q140 q1440) rfl ckX1 rfl ⟨Nat.le_of_ble_eq_true rfl, Nat.le_of_ble_eq_true rfl⟩ rfl rfl (Nat.le_of_ble_eq_true rfl) dX1_knew_34 (fun r11 h12 => ?_)
    refine j_iconst (pc := 37) hX ic_1 dX1_knew_37 ?_
    refine j_isub (pc := 38) hX dX1_knew_38 ?_
    refine j_istore_n (pc := 39) hX (fun x13 => [(2, .int x13), (0, .ref (xz X + 0)), (1, .int a1)]) (fun _ => rfl) (Nat.le_of_ble_eq_true rfl) dX1_knew_39 (fun x13 => ?_)
    refine j_locs [1, 2, 0] rfl ?_
    refine cA_knew_40_w hX hr a1 _ (fun  h34 => ?_) FU x13 h12
    refine j_aload_n (pc := 97) hX 0 rfl dX1_knew_97 ?_
    refine j_onr fun b35 e36 => ?_
    refine c_getR (pc := 98) hX fgX1_13_X1.1 fgX1_13_X1.2 rfl e36 dX1_knew_98 ?_
    refine j_grd fun g37 => ?_
    refine c_getR (pc := 101) hX fgX1_179_X3.1 fgX1_179_X3.2 (k1_of g37.1) g37.2.1.1 dX1_knew_101 ?_
    refine j_grd fun g40 => ?_
    refine j_callV (pc := 104) (e1 := eI) (a := (b35 + 1)) (As := fun z => []) (rest := []) hX (fun r e => cL_size_t (b35 + 1) h34 r e) ymJ2_size (lw_V q417 q418 q419 q145 q420) rfl ckJ2 (k1_of g40.1) ⟨Nat.le_of_ble_eq_true rfl, Nat.le_of_ble_eq_true rfl⟩ rfl rfl (Nat.le_of_ble_eq_true rfl) dX1_knew_104 (fun r38 h39 => ?_)
    refine j_istore_n (pc := 107) hX (fun x41 => [(2, .int x41), (0, .ref (xz X + 0)), (1, .int a1)]) (fun _ => rfl) (Nat.le_of_ble_eq_true rfl) dX1_knew_107 (fun x41 => ?_)
    refine j_iconst (pc := 108) hX ic_0 dX1_knew_108 ?_
    refine j_istore_n (pc := 109) hX (fun x42 => [(3, .int x42), (2, .int x41), (0, .ref (xz X + 0)), (1, .int a1)]) (fun _ => rfl) (Nat.le_of_ble_eq_true rfl) dX1_knew_109 (fun x42 => ?_)
    refine j_iconst (pc := 110) hX ic_0 dX1_knew_110 ?_
    refine j_istore (pc := 111) hX (fun x43 => [(4, .int x43), (3, .int x42), (2, .int x41), (0, .ref (xz X + 0)), (1, .int a1)]) (fun _ => rfl) (Nat.le_of_ble_eq_true rfl) dX1_knew_111 (fun x43 => ?_)
    refine j_locs [3, 4, 2, 1, 0] rfl ?_
    refine cA_knew_113_w hX hr a1 x41 _ (fun x52 h53 => ?_) FU x42 x43 h39
    refine j_iload_n (pc := 158) hX 0 rfl dX1_knew_158 ?_
    exact j_iret (pc := 159) hX hr dX1_knew_159
set_option maxHeartbeats 4000000 in
set_option maxRecDepth 100000 in
theorem cA_chance_61_w {X : CTX} {rr : Int32 × HP}  (hX : okX cV X rr cX1_chance RX1 8 165 3884) (hr : (xh X).sig.returnType = some .int) (f2 : Int32) (f3 : Int32) (f4 : Int32) (f6 : Int32) (k : HP → Option (Int32 × HP)) (hk : ∀  (h : HP), jG cV X evI rr (k  h) 89 [(0, .ref (xz X + 0)), (2, .int f2), (3, .int f3), (4, .int f4), (6, .int f6)] [] h) : ∀ (n : Nat) (v7 : Int32) (h : HP), jG cV X evI rr (cA_chance_61 f2 f3 f4 f6 k n v7 h) 61 [(0, .ref (xz X + 0)), (2, .int f2), (3, .int f3), (4, .int f4), (6, .int f6), (7, .int v7)] [] h := by
  intro n
  induction n with
  | zero =>
    intro v7 h
    exact j_none
  | succ n ih =>
    intro v7 h
    rw [cA_chance_61]
    refine j_iload (pc := 61) hX 5 rfl dX1_chance_61 ?_
    refine j_aload_n (pc := 63) hX 0 rfl dX1_chance_63 ?_
    refine j_onr fun b14 e15 => ?_
    refine c_getR (pc := 64) hX fgX1_13_X1.1 fgX1_13_X1.2 rfl e15 dX1_chance_64 ?_
    refine j_grd fun g16 => ?_
    refine c_getI (pc := 67) hX fgX1_362_X3.1 fgX1_362_X3.2 (k1_of g16.1) dX1_chance_67 ?_
    refine j_cge (pc := 70) (tgt := 89) hX rfl dX1_chance_70 (fun _ => ?_) (fun _ => ?_)
    · refine j_locs [0, 1, 2, 3, 4] rfl ?_
      exact hk h
    · refine j_aload_n (pc := 73) hX 0 rfl dX1_chance_73 ?_
      refine c_getR (pc := 74) hX fgX1_99_X1.1 fgX1_99_X1.2 rfl rfl dX1_chance_74 ?_
      refine j_iload (pc := 77) hX 5 rfl dX1_chance_77 ?_
      refine j_iconst (pc := 79) hX ic_1 dX1_chance_79 ?_
      refine j_callV (pc := 80) (e1 := eV) (a := 25) (As := fun z => [.int v7, .int (1 : Int32)]) (rest := []) hX (fun r e => cS_talk_t 25 v7 (1 : Int32) h r e) ymX9_talk (lw_V q1375 q1376 q1377 q151 q1378) rfl ckX9 rfl ⟨Nat.le_of_ble_eq_true rfl, Nat.le_of_ble_eq_true rfl⟩ rfl rfl (Nat.le_of_ble_eq_true rfl) dX1_chance_80 (fun r17 h18 => ?_)
      refine j_iinc (pc := 83) hX 5 rfl (1 : Int32) ic_1 (fun x19 => [(7, .int x19), (0, .ref (xz X + 0)), (2, .int f2), (3, .int f3), (4, .int f4), (6, .int f6)]) (fun _ => rfl) (Nat.le_of_ble_eq_true rfl) dX1_chance_83 (fun x19 => ?_)
      refine j_goto (pc := 86) (tgt := 61) hX rfl dX1_chance_86 ?_
      refine j_locs [1, 2, 3, 4, 5, 0] rfl ?_
      exact ih x19 h18
set_option maxHeartbeats 4000000 in
set_option maxRecDepth 100000 in
theorem cA_chance_31_w {X : CTX} {rr : Int32 × HP}  (hX : okX cV X rr cX1_chance RX1 8 165 3884) (hr : (xh X).sig.returnType = some .int) (f2 : Int32) (f3 : Int32) (k : Int32 → HP → Option (Int32 × HP)) (hk : ∀ (v4 : Int32) (h : HP), jG cV X evI rr (k v4 h) 122 [(4, .int v4)] [] h) : ∀ (n : Nat) (v4 : Int32) (v5 : Int32) (v6 : Int32) (h : HP), jG cV X evI rr (cA_chance_31 f2 f3 k n v4 v5 v6 h) 31 [(0, .ref (xz X + 0)), (2, .int f2), (3, .int f3), (4, .int v4), (5, .int v5), (6, .int v6)] [] h := by
  intro n
  induction n with
  | zero =>
    intro v4 v5 v6 h
    exact j_none
  | succ n ih =>
    intro v4 v5 v6 h
    rw [cA_chance_31]
    refine j_iload (pc := 31) hX 5 rfl dX1_chance_31 ?_
    refine j_bipush (pc := 33) hX bp_10 dX1_chance_33 ?_
    refine j_cge (pc := 35) (tgt := 122) hX rfl dX1_chance_35 (fun _ => ?_) (fun _ => ?_)
    · refine j_locs [3] rfl ?_
      exact hk v4 h
    · refine j_aload_n (pc := 38) hX 0 rfl dX1_chance_38 ?_
      refine c_getR (pc := 39) hX fgX1_99_X1.1 fgX1_99_X1.2 rfl rfl dX1_chance_39 ?_
      refine j_aload_n (pc := 42) hX 0 rfl dX1_chance_42 ?_
      refine c_getR (pc := 43) hX fgX1_95_X1.1 fgX1_95_X1.2 rfl rfl dX1_chance_43 ?_
      refine j_callV (pc := 46) (e1 := eV) (a := 25) (As := fun z => [.ref (z + 20)]) (rest := []) hX (fun r e => cS_become_t 25 20 h r e) ymX9_become (lw_V q1159 q1160 q1161 q151 q1162) rfl ckX9 rfl ⟨Nat.le_of_ble_eq_true rfl, Nat.le_of_ble_eq_true rfl⟩ rfl rfl (Nat.le_of_ble_eq_true rfl) dX1_chance_46 (fun r8 h9 => ?_)
      refine j_aload_n (pc := 49) hX 0 rfl dX1_chance_49 ?_
      refine c_getR (pc := 50) hX fgX1_99_X1.1 fgX1_99_X1.2 rfl rfl dX1_chance_50 ?_
      refine j_iload (pc := 53) hX 4 rfl dX1_chance_53 ?_
      refine c_putI (pc := 55) hX fwX1_405_X9.1 fwX1_405_X9.2 rfl dX1_chance_55 (fun h10 q11 q12 => ?_)
      refine j_iconst (pc := 58) hX ic_0 dX1_chance_58 ?_
      refine j_istore (pc := 59) hX (fun x13 => [(7, .int x13), (0, .ref (xz X + 0)), (2, .int f2), (3, .int f3), (4, .int v4), (5, .int v5), (6, .int v6)]) (fun _ => rfl) (Nat.le_of_ble_eq_true rfl) dX1_chance_59 (fun x13 => ?_)
      refine j_locs [1, 2, 3, 4, 6, 0] rfl ?_
      refine cA_chance_61_w hX hr f2 f3 v4 v6 _ (fun  h20 => ?_) FU x13 h10
      refine j_aload_n (pc := 89) hX 0 rfl dX1_chance_89 ?_
      refine c_getR (pc := 90) hX fgX1_99_X1.1 fgX1_99_X1.2 rfl rfl dX1_chance_90 ?_
      refine c_getI (pc := 93) hX fgX1_405_X9.1 fgX1_405_X9.2 rfl dX1_chance_93 ?_
      refine j_istore (pc := 96) hX (fun x21 => [(5, .int x21), (0, .ref (xz X + 0)), (2, .int f2), (3, .int f3), (4, .int v4), (6, .int v6)]) (fun _ => rfl) (Nat.le_of_ble_eq_true rfl) dX1_chance_96 (fun x21 => ?_)
      refine j_iload (pc := 98) hX 4 rfl dX1_chance_98 ?_
      refine j_aload_n (pc := 100) hX 1 rfl dX1_chance_100 ?_
      refine c_getR (pc := 101) hX fgX1_99_X1.1 fgX1_99_X1.2 rfl rfl dX1_chance_101 ?_
      refine c_getR (pc := 104) hX fgX1_214_X9.1 fgX1_214_X9.2 rfl rfl dX1_chance_104 ?_
      refine j_iload_n (pc := 107) hX 2 rfl dX1_chance_107 ?_
      refine j_iald (pc := 108) (n := 5) hX rfl dX1_chance_108 (fun _ => ?_)
      refine j_iload_n (pc := 109) hX 3 rfl dX1_chance_109 ?_
      refine j_ishr (pc := 110) hX dX1_chance_110 ?_
      refine j_iconst (pc := 111) hX ic_1 dX1_chance_111 ?_
      refine j_iand (pc := 112) hX dX1_chance_112 ?_
      refine j_iadd (pc := 113) hX dX1_chance_113 ?_
      refine j_istore (pc := 114) hX (fun x22 => [(4, .int x22), (5, .int x21), (0, .ref (xz X + 0)), (2, .int f2), (3, .int f3), (6, .int v6)]) (fun _ => rfl) (Nat.le_of_ble_eq_true rfl) dX1_chance_114 (fun x22 => ?_)
      refine j_iinc (pc := 116) hX 5 rfl (1 : Int32) ic_1 (fun x23 => [(6, .int x23), (4, .int x22), (5, .int x21), (0, .ref (xz X + 0)), (2, .int f2), (3, .int f3)]) (fun _ => rfl) (Nat.le_of_ble_eq_true rfl) dX1_chance_116 (fun x23 => ?_)
      refine j_goto (pc := 119) (tgt := 31) hX rfl dX1_chance_119 ?_
      refine j_locs [3, 4, 5, 1, 2, 0] rfl ?_
      exact ih x22 x21 x23 h20
set_option maxHeartbeats 4000000 in
set_option maxRecDepth 100000 in
theorem cA_chance_t   (a1 : Int32) (a2 : Int32) (a3 : Int32) (h : HP) (rr : Int32 × HP) (e : cA_chance a1 a2 a3 h = some rr) : Cn cV yX1_chance (ws_ yX1_chance cX1_chance 8 (some .int)) 165 3884 (fun z => [.ref (z + 0), .int a1, .int a2, .int a3]) h (fun z => eI z rr.1) rr.2 := by
  refine cn_of (e1 := eI) (fun z => [(0, .ref (z + 0)), (1, .int a1), (2, .int a2), (3, .int a3)]) cV_ok (cA_chance_m a1 a2 a3 h _ e) ymX1_chance (fun _ => rfl) (fun _ => Nat.le_of_ble_eq_true rfl) (fun X hX hr hnm => ?_) e
  have hX : okX cV X rr cX1_chance RX1 8 165 3884 := hX
  rw [cA_chance]
  refine j_iload_n (pc := 0) hX 1 rfl dX1_chance_0 ?_
  refine j_iflt (pc := 1) (tgt := 20) hX rfl dX1_chance_1 (fun _ => ?_) (fun _ => ?_)
  · refine j_iconst (pc := 20) hX ic_m1 dX1_chance_20 ?_
    exact j_iret (pc := 21) hX hr dX1_chance_21
  · refine j_aload_n (pc := 4) hX 0 rfl dX1_chance_4 ?_
    refine j_iload_n (pc := 5) hX 2 rfl dX1_chance_5 ?_
    refine j_callV (pc := 6) (e1 := eI) (a := 0) (As := fun z => [.int a2]) (rest := []) hX (fun r e => cA_isPerson_t a2 h r e) ymX1_isPerson (lw_V q1056 q1058 qs37 q140 q1059) rfl ckX1 rfl ⟨Nat.le_of_ble_eq_true rfl, Nat.le_of_ble_eq_true rfl⟩ rfl rfl (Nat.le_of_ble_eq_true rfl) dX1_chance_6 (fun r1 h2 => ?_)
    refine j_ifeq (pc := 9) (tgt := 20) hX rfl dX1_chance_9 (fun _ => ?_) (fun _ => ?_)
    · refine j_iconst (pc := 20) hX ic_m1 dX1_chance_20 ?_
      exact j_iret (pc := 21) hX hr dX1_chance_21
    · refine j_aload_n (pc := 12) hX 0 rfl dX1_chance_12 ?_
      refine j_iload_n (pc := 13) hX 3 rfl dX1_chance_13 ?_
      refine j_callV (pc := 14) (e1 := eI) (a := 0) (As := fun z => [.int a3]) (rest := []) hX (fun r e => cA_isFact_t a3 h2 r e) ymX1_isFact (lw_V q1218 q1220 qs40 q140 q1221) rfl ckX1 rfl ⟨Nat.le_of_ble_eq_true rfl, Nat.le_of_ble_eq_true rfl⟩ rfl rfl (Nat.le_of_ble_eq_true rfl) dX1_chance_14 (fun r3 h4 => ?_)
      refine j_ifne (pc := 17) (tgt := 22) hX rfl dX1_chance_17 (fun _ => ?_) (fun _ => ?_)
      · refine j_iconst (pc := 20) hX ic_m1 dX1_chance_20 ?_
        exact j_iret (pc := 21) hX hr dX1_chance_21
      · refine j_iconst (pc := 22) hX ic_0 dX1_chance_22 ?_
        refine j_istore (pc := 23) hX (fun x5 => [(4, .int x5), (0, .ref (xz X + 0)), (1, .int a1), (2, .int a2), (3, .int a3)]) (fun _ => rfl) (Nat.le_of_ble_eq_true rfl) dX1_chance_23 (fun x5 => ?_)
        refine j_iload_n (pc := 25) hX 2 rfl dX1_chance_25 ?_
        refine j_istore (pc := 26) hX (fun x6 => [(5, .int x6), (4, .int x5), (0, .ref (xz X + 0)), (1, .int a1), (2, .int a2), (3, .int a3)]) (fun _ => rfl) (Nat.le_of_ble_eq_true rfl) dX1_chance_26 (fun x6 => ?_)
        refine j_iconst (pc := 28) hX ic_0 dX1_chance_28 ?_
        refine j_istore (pc := 29) hX (fun x7 => [(6, .int x7), (5, .int x6), (4, .int x5), (0, .ref (xz X + 0)), (1, .int a1), (2, .int a2), (3, .int a3)]) (fun _ => rfl) (Nat.le_of_ble_eq_true rfl) dX1_chance_29 (fun x7 => ?_)
        refine j_locs [3, 5, 6, 2, 1, 0] rfl ?_
        refine cA_chance_31_w hX hr a2 a3 _ (fun x24 h25 => ?_) FU x5 x6 x7 h4
        refine j_iload (pc := 122) hX 0 rfl dX1_chance_122 ?_
        exact j_iret (pc := 124) hX hr dX1_chance_124
set_option maxHeartbeats 4000000 in
set_option maxRecDepth 100000 in
theorem cA_tried_t   (a1 : Int32) (a2 : Int32) (h : HP) (rr : Int32 × HP) (e : cA_tried a1 a2 h = some rr) : Cn cV yX1_tried (ws_ yX1_tried cX1_tried 4 (some .int)) 165 3887 (fun z => [.ref (z + 0), .int a1, .int a2]) h (fun z => eI z rr.1) rr.2 := by
  refine cn_of (e1 := eI) (fun z => [(0, .ref (z + 0)), (1, .int a1), (2, .int a2)]) cV_ok (cA_tried_m a1 a2 h _ e) ymX1_tried (fun _ => rfl) (fun _ => Nat.le_of_ble_eq_true rfl) (fun X hX hr hnm => ?_) e
  have hX : okX cV X rr cX1_tried RX1 4 165 3887 := hX
  rw [cA_tried]
  refine j_iload_n (pc := 0) hX 1 rfl dX1_tried_0 ?_
  refine j_iconst (pc := 1) hX ic_2 dX1_tried_1 ?_
  refine j_jon (fun (j1 : Int32 → HP → Option (Int32 × HP)) => ∀ (s2 : Int32) (h3 : HP), jG cV X evI rr (j1 s2 h3) 47 [(0, .ref (xz X + 0)), (1, .int a1), (2, .int a2)] [.int s2] h3) ?_ ?_
  · intro s2 h3
    refine j_istore_n (pc := 47) hX (fun x4 => [(3, .int x4), (0, .ref (xz X + 0)), (1, .int a1), (2, .int a2)]) (fun _ => rfl) (Nat.le_of_ble_eq_true rfl) dX1_tried_47 (fun x4 => ?_)
    refine j_iload_n (pc := 48) hX 0 rfl dX1_tried_48 ?_
    refine j_ifne (pc := 49) (tgt := 54) hX rfl dX1_tried_49 (fun _ => ?_) (fun _ => ?_)
    · refine j_iconst (pc := 52) hX ic_m1 dX1_tried_52 ?_
      exact j_iret (pc := 53) hX hr dX1_tried_53
    · refine j_aload_n (pc := 54) hX 1 rfl dX1_tried_54 ?_
      refine c_getR (pc := 55) hX fgX1_99_X1.1 fgX1_99_X1.2 rfl rfl dX1_tried_55 ?_
      refine j_aload_n (pc := 58) hX 1 rfl dX1_tried_58 ?_
      refine c_getR (pc := 59) hX fgX1_95_X1.1 fgX1_95_X1.2 rfl rfl dX1_tried_59 ?_
      refine j_callV (pc := 62) (e1 := eV) (a := 25) (As := fun z => [.ref (z + 20)]) (rest := []) hX (fun r e => cS_become_t 25 20 h3 r e) ymX9_become (lw_V q1159 q1160 q1161 q151 q1162) rfl ckX9 rfl ⟨Nat.le_of_ble_eq_true rfl, Nat.le_of_ble_eq_true rfl⟩ rfl rfl (Nat.le_of_ble_eq_true rfl) dX1_tried_62 (fun r5 h6 => ?_)
      refine j_aload_n (pc := 65) hX 1 rfl dX1_tried_65 ?_
      refine c_getR (pc := 66) hX fgX1_99_X1.1 fgX1_99_X1.2 rfl rfl dX1_tried_66 ?_
      refine j_iload_n (pc := 69) hX 2 rfl dX1_tried_69 ?_
      refine c_putI (pc := 70) hX fwX1_410_X9.1 fwX1_410_X9.2 rfl dX1_tried_70 (fun h7 q8 q9 => ?_)
      refine j_aload_n (pc := 73) hX 1 rfl dX1_tried_73 ?_
      refine c_getR (pc := 74) hX fgX1_99_X1.1 fgX1_99_X1.2 rfl rfl dX1_tried_74 ?_
      refine j_iload_n (pc := 77) hX 3 rfl dX1_tried_77 ?_
      refine c_putI (pc := 78) hX fwX1_413_X9.1 fwX1_413_X9.2 rfl dX1_tried_78 (fun h10 q11 q12 => ?_)
      refine j_iload_n (pc := 81) hX 2 rfl dX1_tried_81 ?_
      refine j_iconst (pc := 82) hX ic_2 dX1_tried_82 ?_
      refine j_jon (fun (j13 : HP → Option (Int32 × HP)) => ∀ (h14 : HP), jG cV X evI rr (j13 h14) 96 [(0, .ref (xz X + 0))] [] h14) ?_ ?_
      · intro h14
        refine j_aload_n (pc := 96) hX 0 rfl dX1_tried_96 ?_
        refine c_getR (pc := 97) hX fgX1_99_X1.1 fgX1_99_X1.2 rfl rfl dX1_tried_97 ?_
        refine j_callV (pc := 100) (e1 := eV) (a := 25) (As := fun z => []) (rest := []) hX (fun r e => cS_askAll_t 25 h14 r e) ymX9_askAll (lw_V q1239 q1240 q1241 q151 q1242) rfl ckX9 rfl ⟨Nat.le_of_ble_eq_true rfl, Nat.le_of_ble_eq_true rfl⟩ rfl rfl (Nat.le_of_ble_eq_true rfl) dX1_tried_100 (fun r15 h16 => ?_)
        refine j_aload_n (pc := 103) hX 0 rfl dX1_tried_103 ?_
        refine c_getR (pc := 104) hX fgX1_99_X1.1 fgX1_99_X1.2 rfl rfl dX1_tried_104 ?_
        refine j_callV (pc := 107) (e1 := eI) (a := 25) (As := fun z => []) (rest := []) hX (fun r e => cS_sum_t 25 h16 r e) ymX9_sum (lw_V q1291 q1244 q1245 q151 q1246) rfl ckX9 rfl ⟨Nat.le_of_ble_eq_true rfl, Nat.le_of_ble_eq_true rfl⟩ rfl rfl (Nat.le_of_ble_eq_true rfl) dX1_tried_107 (fun r17 h18 => ?_)
        exact j_iret (pc := 110) hX hr dX1_tried_110
      · intro j13 hj13
        refine j_cne (pc := 83) (tgt := 96) hX rfl dX1_tried_83 (fun _ => ?_) (fun _ => ?_)
        · refine j_aload_n (pc := 86) hX 1 rfl dX1_tried_86 ?_
          refine c_getR (pc := 87) hX fgX1_99_X1.1 fgX1_99_X1.2 rfl rfl dX1_tried_87 ?_
          refine j_iconst (pc := 90) hX ic_1 dX1_tried_90 ?_
          refine j_iload_n (pc := 91) hX 3 rfl dX1_tried_91 ?_
          refine j_ishl (pc := 92) hX dX1_tried_92 ?_
          refine c_putI (pc := 93) hX fwX1_275_X9.1 fwX1_275_X9.2 rfl dX1_tried_93 (fun h19 q20 q21 => ?_)
          refine j_locs [1] rfl ?_
          exact hj13 h19
        · refine j_locs [1] rfl ?_
          exact hj13 h10
  · intro j1 hj1
    refine j_cne (pc := 2) (tgt := 13) hX rfl dX1_tried_2 (fun _ => ?_) (fun _ => ?_)
    · refine j_aload_n (pc := 5) hX 0 rfl dX1_tried_5 ?_
      refine j_iload_n (pc := 6) hX 2 rfl dX1_tried_6 ?_
      refine j_callV (pc := 7) (e1 := eI) (a := 0) (As := fun z => [.int a2]) (rest := []) hX (fun r e => cA_isPerson_t a2 h r e) ymX1_isPerson (lw_V q1056 q1058 qs37 q140 q1059) rfl ckX1 rfl ⟨Nat.le_of_ble_eq_true rfl, Nat.le_of_ble_eq_true rfl⟩ rfl rfl (Nat.le_of_ble_eq_true rfl) dX1_tried_7 (fun r22 h23 => ?_)
      refine j_goto (pc := 10) (tgt := 47) hX rfl dX1_tried_10 ?_
      exact hj1 r22 h23
    · refine j_iload_n (pc := 13) hX 1 rfl dX1_tried_13 ?_
      refine j_iconst (pc := 14) hX ic_3 dX1_tried_14 ?_
      refine j_cne (pc := 15) (tgt := 26) hX rfl dX1_tried_15 (fun _ => ?_) (fun _ => ?_)
      · refine j_aload_n (pc := 18) hX 0 rfl dX1_tried_18 ?_
        refine j_iload_n (pc := 19) hX 2 rfl dX1_tried_19 ?_
        refine j_callV (pc := 20) (e1 := eI) (a := 0) (As := fun z => [.int a2]) (rest := []) hX (fun r e => cA_isQuestion_t a2 h r e) ymX1_isQuestion (lw_V q1038 q1040 qs34 q140 q1041) rfl ckX1 rfl ⟨Nat.le_of_ble_eq_true rfl, Nat.le_of_ble_eq_true rfl⟩ rfl rfl (Nat.le_of_ble_eq_true rfl) dX1_tried_20 (fun r24 h25 => ?_)
        refine j_goto (pc := 23) (tgt := 47) hX rfl dX1_tried_23 ?_
        exact hj1 r24 h25
      · refine j_iload_n (pc := 26) hX 1 rfl dX1_tried_26 ?_
        refine j_i2l (pc := 27) hX dX1_tried_27 ?_
        refine j_lconst (pc := 28) (v := 0) hX rfl dX1_tried_28 ?_
        refine j_ldc2 (pc := 29) hX q1482 dX1_tried_29 ?_
        refine j_callS (pc := 32) (e1 := eI) (As := fun z => [.long (a1).toInt64, .long (0 : Int64), .long (4 : Int64)]) (rest := []) hX (fun r e => cA_in_t (a1).toInt64 (0 : Int64) (4 : Int64) h r e) ymX1_in (lw_S q527 q528 q140 q529) ⟨Nat.le_of_ble_eq_true rfl, Nat.le_of_ble_eq_true rfl⟩ rfl rfl (Nat.le_of_ble_eq_true rfl) dX1_tried_32 (fun r26 h27 => ?_)
        refine j_jon (fun (j28 : Unit → Option (Int32 × HP)) => ∀ (_u : Unit), jG cV X evI rr (j28 ()) 46 [(0, .ref (xz X + 0)), (1, .int a1), (2, .int a2)] [] h27) ?_ ?_
        · intro _
          refine j_iconst (pc := 46) hX ic_0 dX1_tried_46 ?_
          exact hj1 (0 : Int32) h27
        · intro j28 hj28
          refine j_ifeq (pc := 35) (tgt := 46) hX rfl dX1_tried_35 (fun _ => ?_) (fun _ => ?_)
          · exact hj28 ()
          · refine j_iload_n (pc := 38) hX 2 rfl dX1_tried_38 ?_
            refine j_ifne (pc := 39) (tgt := 46) hX rfl dX1_tried_39 (fun _ => ?_) (fun _ => ?_)
            · refine j_iconst (pc := 42) hX ic_1 dX1_tried_42 ?_
              refine j_goto (pc := 43) (tgt := 47) hX rfl dX1_tried_43 ?_
              exact hj1 (1 : Int32) h27
            · exact hj28 ()
set_option maxHeartbeats 4000000 in
set_option maxRecDepth 100000 in
theorem cA_undo_t    (h : HP) (rr : Int32 × HP) (e : cA_undo  h = some rr) : Cn cV yX1_undo (ws_ yX1_undo cX1_undo 1 (some .int)) 2 22 (fun z => [.ref (z + 0)]) h (fun z => eI z rr.1) rr.2 := by
  refine cn_of (e1 := eI) (fun z => [(0, .ref (z + 0))]) cV_ok (cA_undo_m  h _ e) ymX1_undo (fun _ => rfl) (fun _ => Nat.le_of_ble_eq_true rfl) (fun X hX hr hnm => ?_) e
  have hX : okX cV X rr cX1_undo RX1 1 2 22 := hX
  rw [cA_undo]
  refine j_aload_n (pc := 0) hX 0 rfl dX1_undo_0 ?_
  refine c_getI (pc := 1) hX fgX1_166_X1.1 fgX1_166_X1.2 rfl dX1_undo_1 ?_
  refine j_ifne (pc := 4) (tgt := 9) hX rfl dX1_undo_4 (fun _ => ?_) (fun _ => ?_)
  · refine j_iconst (pc := 7) hX ic_m1 dX1_undo_7 ?_
    exact j_iret (pc := 8) hX hr dX1_undo_8
  · refine j_aload_n (pc := 9) hX 0 rfl dX1_undo_9 ?_
    refine j_dup (pc := 10) hX rfl dX1_undo_10 ?_
    refine c_getI (pc := 11) hX fgX1_166_X1.1 fgX1_166_X1.2 rfl dX1_undo_11 ?_
    refine j_iconst (pc := 14) hX ic_1 dX1_undo_14 ?_
    refine j_isub (pc := 15) hX dX1_undo_15 ?_
    refine c_putI (pc := 16) hX fwX1_166_X1.1 fwX1_166_X1.2 rfl dX1_undo_16 (fun h1 q2 q3 => ?_)
    refine j_aload_n (pc := 19) hX 0 rfl dX1_undo_19 ?_
    refine c_getR (pc := 20) hX fgX1_95_X1.1 fgX1_95_X1.2 rfl rfl dX1_undo_20 ?_
    refine j_aload_n (pc := 23) hX 0 rfl dX1_undo_23 ?_
    refine c_getR (pc := 24) hX fgX1_105_X1.1 fgX1_105_X1.2 rfl rfl dX1_undo_24 ?_
    refine j_aload_n (pc := 27) hX 0 rfl dX1_undo_27 ?_
    refine c_getI (pc := 28) hX fgX1_166_X1.1 fgX1_166_X1.2 rfl dX1_undo_28 ?_
    refine j_aald (pc := 31) (n := 20) (q := 7) hX (Nat.le_of_ble_eq_true rfl) (fun _ => rfl) rfl dX1_undo_31 (fun b4 => ?_)
    refine j_callV (pc := 32) (e1 := eV) (a := 20) (As := fun z => [.ref (z + b4)]) (rest := []) hX (fun r e => cS_become_t 20 b4 h1 r e) ymX9_become (lw_V q1159 q1160 q1161 q151 q1162) rfl ckX9 rfl ⟨Nat.le_of_ble_eq_true rfl, Nat.le_of_ble_eq_true rfl⟩ rfl rfl (Nat.le_of_ble_eq_true rfl) dX1_undo_32 (fun r5 h6 => ?_)
    refine j_aload_n (pc := 35) hX 0 rfl dX1_undo_35 ?_
    refine c_getI (pc := 36) hX fgX1_166_X1.1 fgX1_166_X1.2 rfl dX1_undo_36 ?_
    exact j_iret (pc := 39) hX hr dX1_undo_39
set_option maxHeartbeats 4000000 in
set_option maxRecDepth 100000 in
theorem cA_keep_t    (h : HP) (rr : Int32 × HP) (e : cA_keep  h = some rr) : Cn cV yX1_keep (ws_ yX1_keep cX1_keep 1 (some .int)) 2 22 (fun z => [.ref (z + 0)]) h (fun z => eI z rr.1) rr.2 := by
  refine cn_of (e1 := eI) (fun z => [(0, .ref (z + 0))]) cV_ok (cA_keep_m  h _ e) ymX1_keep (fun _ => rfl) (fun _ => Nat.le_of_ble_eq_true rfl) (fun X hX hr hnm => ?_) e
  have hX : okX cV X rr cX1_keep RX1 1 2 22 := hX
  rw [cA_keep]
  refine j_aload_n (pc := 0) hX 0 rfl dX1_keep_0 ?_
  refine c_getR (pc := 1) hX fgX1_102_X1.1 fgX1_102_X1.2 rfl rfl dX1_keep_1 ?_
  refine j_aload_n (pc := 4) hX 0 rfl dX1_keep_4 ?_
  refine c_getR (pc := 5) hX fgX1_95_X1.1 fgX1_95_X1.2 rfl rfl dX1_keep_5 ?_
  refine j_callV (pc := 8) (e1 := eV) (a := 30) (As := fun z => [.ref (z + 20)]) (rest := []) hX (fun r e => cS_become_t 30 20 h r e) ymX9_become (lw_V q1159 q1160 q1161 q151 q1162) rfl ckX9 rfl ⟨Nat.le_of_ble_eq_true rfl, Nat.le_of_ble_eq_true rfl⟩ rfl rfl (Nat.le_of_ble_eq_true rfl) dX1_keep_8 (fun r1 h2 => ?_)
  refine j_aload_n (pc := 11) hX 0 rfl dX1_keep_11 ?_
  refine j_iconst (pc := 12) hX ic_1 dX1_keep_12 ?_
  refine c_putZ (pc := 13) hX (Or.inr rfl) fwX1_169_X1.1 fwX1_169_X1.2 rfl dX1_keep_13 (fun h3 q4 q5 => ?_)
  refine j_aload_n (pc := 16) hX 0 rfl dX1_keep_16 ?_
  refine c_getR (pc := 17) hX fgX1_95_X1.1 fgX1_95_X1.2 rfl rfl dX1_keep_17 ?_
  refine c_getI (pc := 20) hX fgX1_272_X9.1 fgX1_272_X9.2 rfl dX1_keep_20 ?_
  exact j_iret (pc := 23) hX hr dX1_keep_23
set_option maxHeartbeats 4000000 in
set_option maxRecDepth 100000 in
theorem cA_back_t    (h : HP) (rr : Int32 × HP) (e : cA_back  h = some rr) : Cn cV yX1_back (ws_ yX1_back cX1_back 1 (some .int)) 2 22 (fun z => [.ref (z + 0)]) h (fun z => eI z rr.1) rr.2 := by
  refine cn_of (e1 := eI) (fun z => [(0, .ref (z + 0))]) cV_ok (cA_back_m  h _ e) ymX1_back (fun _ => rfl) (fun _ => Nat.le_of_ble_eq_true rfl) (fun X hX hr hnm => ?_) e
  have hX : okX cV X rr cX1_back RX1 1 2 22 := hX
  rw [cA_back]
  refine j_aload_n (pc := 0) hX 0 rfl dX1_back_0 ?_
  refine c_getI (pc := 1) hX fgX1_169_X1.1 fgX1_169_X1.2 rfl dX1_back_1 ?_
  refine j_ifne (pc := 4) (tgt := 9) hX rfl dX1_back_4 (fun _ => ?_) (fun _ => ?_)
  · refine j_iconst (pc := 7) hX ic_m1 dX1_back_7 ?_
    exact j_iret (pc := 8) hX hr dX1_back_8
  · refine j_aload_n (pc := 9) hX 0 rfl dX1_back_9 ?_
    refine c_getR (pc := 10) hX fgX1_95_X1.1 fgX1_95_X1.2 rfl rfl dX1_back_10 ?_
    refine j_aload_n (pc := 13) hX 0 rfl dX1_back_13 ?_
    refine c_getR (pc := 14) hX fgX1_102_X1.1 fgX1_102_X1.2 rfl rfl dX1_back_14 ?_
    refine j_callV (pc := 17) (e1 := eV) (a := 20) (As := fun z => [.ref (z + 30)]) (rest := []) hX (fun r e => cS_become_t 20 30 h r e) ymX9_become (lw_V q1159 q1160 q1161 q151 q1162) rfl ckX9 rfl ⟨Nat.le_of_ble_eq_true rfl, Nat.le_of_ble_eq_true rfl⟩ rfl rfl (Nat.le_of_ble_eq_true rfl) dX1_back_17 (fun r1 h2 => ?_)
    refine j_aload_n (pc := 20) hX 0 rfl dX1_back_20 ?_
    refine j_iconst (pc := 21) hX ic_0 dX1_back_21 ?_
    refine c_putI (pc := 22) hX fwX1_166_X1.1 fwX1_166_X1.2 rfl dX1_back_22 (fun h3 q4 q5 => ?_)
    refine j_aload_n (pc := 25) hX 0 rfl dX1_back_25 ?_
    refine c_getR (pc := 26) hX fgX1_95_X1.1 fgX1_95_X1.2 rfl rfl dX1_back_26 ?_
    refine c_getI (pc := 29) hX fgX1_272_X9.1 fgX1_272_X9.2 rfl dX1_back_29 ?_
    exact j_iret (pc := 32) hX hr dX1_back_32
set_option maxHeartbeats 4000000 in
set_option maxRecDepth 100000 in
theorem cA_count_119_w {X : CTX} {rr : Int32 × HP}  (hX : okX cV X rr cX1_count RX1 4 4 62) (hr : (xh X).sig.returnType = some .int)  (k : Int32 → HP → Option (Int32 × HP)) (hk : ∀ (v2 : Int32) (h : HP), jG cV X evI rr (k v2 h) 145 [(2, .int v2)] [] h) : ∀ (n : Nat) (v2 : Int32) (v3 : Int32) (h : HP), jG cV X evI rr (cA_count_119 k n v2 v3 h) 119 [(0, .ref (xz X + 0)), (2, .int v2), (3, .int v3)] [] h := by
  intro n
  induction n with
  | zero =>
    intro v2 v3 h
    exact j_none
  | succ n ih =>
    intro v2 v3 h
    rw [cA_count_119]
    refine j_iload_n (pc := 119) hX 2 rfl dX1_count_119 ?_
    refine j_aload_n (pc := 120) hX 0 rfl dX1_count_120 ?_
    refine j_callV (pc := 121) (e1 := eI) (a := 0) (As := fun z => []) (rest := [.int v3]) hX (fun r e => cA_persons_t h r e) ymX1_persons (lw_V q1060 q415 qs0 q140 q416) rfl ckX1 rfl ⟨Nat.le_of_ble_eq_true rfl, Nat.le_of_ble_eq_true rfl⟩ rfl rfl (Nat.le_of_ble_eq_true rfl) dX1_count_121 (fun r29 h30 => ?_)
    refine j_cge (pc := 124) (tgt := 145) hX rfl dX1_count_124 (fun _ => ?_) (fun _ => ?_)
    · refine j_locs [1] rfl ?_
      exact hk v2 h30
    · refine j_iload_n (pc := 127) hX 1 rfl dX1_count_127 ?_
      refine j_aload_n (pc := 128) hX 0 rfl dX1_count_128 ?_
      refine c_getR (pc := 129) hX fgX1_95_X1.1 fgX1_95_X1.2 rfl rfl dX1_count_129 ?_
      refine c_getR (pc := 132) hX fgX1_217_X9.1 fgX1_217_X9.2 rfl rfl dX1_count_132 ?_
      refine j_iload_n (pc := 135) hX 2 rfl dX1_count_135 ?_
      refine j_iald (pc := 136) (n := 5) hX rfl dX1_count_136 (fun _ => ?_)
      refine j_iadd (pc := 137) hX dX1_count_137 ?_
      refine j_istore_n (pc := 138) hX (fun x31 => [(2, .int x31), (0, .ref (xz X + 0)), (3, .int v3)]) (fun _ => rfl) (Nat.le_of_ble_eq_true rfl) dX1_count_138 (fun x31 => ?_)
      refine j_iinc (pc := 139) hX 2 rfl (1 : Int32) ic_1 (fun x32 => [(3, .int x32), (2, .int x31), (0, .ref (xz X + 0))]) (fun _ => rfl) (Nat.le_of_ble_eq_true rfl) dX1_count_139 (fun x32 => ?_)
      refine j_goto (pc := 142) (tgt := 119) hX rfl dX1_count_142 ?_
      refine j_locs [2, 1, 0] rfl ?_
      exact ih x31 x32 h30
set_option maxHeartbeats 4000000 in
set_option maxRecDepth 100000 in
theorem cA_count_t   (a1 : Int32) (h : HP) (rr : Int32 × HP) (e : cA_count a1 h = some rr) : Cn cV yX1_count (ws_ yX1_count cX1_count 4 (some .int)) 4 62 (fun z => [.ref (z + 0), .int a1]) h (fun z => eI z rr.1) rr.2 := by
  refine cn_of (e1 := eI) (fun z => [(0, .ref (z + 0)), (1, .int a1)]) cV_ok (cA_count_m a1 h _ e) ymX1_count (fun _ => rfl) (fun _ => Nat.le_of_ble_eq_true rfl) (fun X hX hr hnm => ?_) e
  have hX : okX cV X rr cX1_count RX1 4 4 62 := hX
  rw [cA_count]
  refine j_iconst (pc := 0) hX ic_0 dX1_count_0 ?_
  refine j_istore_n (pc := 1) hX (fun x1 => [(2, .int x1), (0, .ref (xz X + 0)), (1, .int a1)]) (fun _ => rfl) (Nat.le_of_ble_eq_true rfl) dX1_count_1 (fun x1 => ?_)
  refine j_iload_n (pc := 2) hX 2 rfl dX1_count_2 ?_
  refine j_ite (fun c2 => ?_) (fun c2 => ?_)
  · refine j_tabIn (pc := 3) (tgt := 64) hX (0) (by rw [c2]; rfl) (by decide) (by decide) rfl rfl dX1_count_3 ?_
    refine j_aload_n (pc := 64) hX 1 rfl dX1_count_64 ?_
    refine j_onr fun b3 e4 => ?_
    refine c_getR (pc := 65) hX fgX1_13_X1.1 fgX1_13_X1.2 rfl e4 dX1_count_65 ?_
    refine j_grd fun g5 => ?_
    refine c_getR (pc := 68) hX fgX1_179_X3.1 fgX1_179_X3.2 (k1_of g5.1) g5.2.1.1 dX1_count_68 ?_
    refine j_grd fun g8 => ?_
    refine j_callV (pc := 71) (e1 := eI) (a := (b3 + 1)) (As := fun z => []) (rest := []) hX (fun r e => cL_size_t (b3 + 1) h r e) ymJ2_size (lw_V q417 q418 q419 q145 q420) rfl ckJ2 (k1_of g8.1) ⟨Nat.le_of_ble_eq_true rfl, Nat.le_of_ble_eq_true rfl⟩ rfl rfl (Nat.le_of_ble_eq_true rfl) dX1_count_71 (fun r6 h7 => ?_)
    exact j_iret (pc := 74) hX hr dX1_count_74
  · skip
    refine j_ite (fun c9 => ?_) (fun c9 => ?_)
    · refine j_tabIn (pc := 3) (tgt := 75) hX (1) (by rw [c9]; rfl) (by decide) (by decide) rfl rfl dX1_count_3 ?_
      refine j_aload_n (pc := 75) hX 1 rfl dX1_count_75 ?_
      refine j_callV (pc := 76) (e1 := eI) (a := 0) (As := fun z => []) (rest := []) hX (fun r e => cA_persons_t h r e) ymX1_persons (lw_V q1060 q415 qs0 q140 q416) rfl ckX1 rfl ⟨Nat.le_of_ble_eq_true rfl, Nat.le_of_ble_eq_true rfl⟩ rfl rfl (Nat.le_of_ble_eq_true rfl) dX1_count_76 (fun r10 h11 => ?_)
      exact j_iret (pc := 79) hX hr dX1_count_79
    · skip
      refine j_ite (fun c12 => ?_) (fun c12 => ?_)
      · refine j_tabIn (pc := 3) (tgt := 80) hX (2) (by rw [c12]; rfl) (by decide) (by decide) rfl rfl dX1_count_3 ?_
        refine j_aload_n (pc := 80) hX 1 rfl dX1_count_80 ?_
        refine j_callV (pc := 81) (e1 := eI) (a := 0) (As := fun z => []) (rest := []) hX (fun r e => cA_questions_t h r e) ymX1_questions (lw_V q1042 q1044 qs35 q140 q1045) rfl ckX1 rfl ⟨Nat.le_of_ble_eq_true rfl, Nat.le_of_ble_eq_true rfl⟩ rfl rfl (Nat.le_of_ble_eq_true rfl) dX1_count_81 (fun r13 h14 => ?_)
        exact j_iret (pc := 84) hX hr dX1_count_84
      · skip
        refine j_ite (fun c15 => ?_) (fun c15 => ?_)
        · refine j_tabIn (pc := 3) (tgt := 85) hX (3) (by rw [c15]; rfl) (by decide) (by decide) rfl rfl dX1_count_3 ?_
          refine j_aload_n (pc := 85) hX 1 rfl dX1_count_85 ?_
          refine j_onr fun b16 e17 => ?_
          refine c_getR (pc := 86) hX fgX1_13_X1.1 fgX1_13_X1.2 rfl e17 dX1_count_86 ?_
          refine j_grd fun g18 => ?_
          refine c_getI (pc := 89) hX fgX1_362_X3.1 fgX1_362_X3.2 (k1_of g18.1) dX1_count_89 ?_
          exact j_iret (pc := 92) hX hr dX1_count_92
        · skip
          refine j_ite (fun c19 => ?_) (fun c19 => ?_)
          · refine j_tabIn (pc := 3) (tgt := 93) hX (4) (by rw [c19]; rfl) (by decide) (by decide) rfl rfl dX1_count_3 ?_
            refine j_aload_n (pc := 93) hX 1 rfl dX1_count_93 ?_
            refine j_onr fun b20 e21 => ?_
            refine c_getR (pc := 94) hX fgX1_13_X1.1 fgX1_13_X1.2 rfl e21 dX1_count_94 ?_
            refine j_grd fun g22 => ?_
            refine c_getI (pc := 97) hX fgX1_416_X3.1 fgX1_416_X3.2 (k1_of g22.1) dX1_count_97 ?_
            exact j_iret (pc := 100) hX hr dX1_count_100
          · skip
            refine j_ite (fun c23 => ?_) (fun c23 => ?_)
            · refine j_tabIn (pc := 3) (tgt := 101) hX (5) (by rw [c23]; rfl) (by decide) (by decide) rfl rfl dX1_count_3 ?_
              refine j_aload_n (pc := 101) hX 1 rfl dX1_count_101 ?_
              refine c_getR (pc := 102) hX fgX1_95_X1.1 fgX1_95_X1.2 rfl rfl dX1_count_102 ?_
              refine c_getI (pc := 105) hX fgX1_272_X9.1 fgX1_272_X9.2 rfl dX1_count_105 ?_
              exact j_iret (pc := 108) hX hr dX1_count_108
            · skip
              refine j_ite (fun c24 => ?_) (fun c24 => ?_)
              · refine j_tabIn (pc := 3) (tgt := 109) hX (6) (by rw [c24]; rfl) (by decide) (by decide) rfl rfl dX1_count_3 ?_
                refine j_aload_n (pc := 109) hX 1 rfl dX1_count_109 ?_
                refine c_getR (pc := 110) hX fgX1_95_X1.1 fgX1_95_X1.2 rfl rfl dX1_count_110 ?_
                refine j_callV (pc := 113) (e1 := eI) (a := 20) (As := fun z => []) (rest := []) hX (fun r e => cS_sum_t 20 h r e) ymX9_sum (lw_V q1291 q1244 q1245 q151 q1246) rfl ckX9 rfl ⟨Nat.le_of_ble_eq_true rfl, Nat.le_of_ble_eq_true rfl⟩ rfl rfl (Nat.le_of_ble_eq_true rfl) dX1_count_113 (fun r25 h26 => ?_)
                exact j_iret (pc := 116) hX hr dX1_count_116
              · skip
                refine j_ite (fun c27 => ?_) (fun c27 => ?_)
                · refine j_tabIn (pc := 3) (tgt := 117) hX (7) (by rw [c27]; rfl) (by decide) (by decide) rfl rfl dX1_count_3 ?_
                  refine j_iconst (pc := 117) hX ic_0 dX1_count_117 ?_
                  refine j_istore_n (pc := 118) hX (fun x28 => [(3, .int x28), (2, .int x1), (0, .ref (xz X + 0)), (1, .int a1)]) (fun _ => rfl) (Nat.le_of_ble_eq_true rfl) dX1_count_118 (fun x28 => ?_)
                  refine j_locs [2, 1, 0] rfl ?_
                  refine cA_count_119_w hX hr  _ (fun x33 h34 => ?_) FU x1 x28 h
                  refine j_iload_n (pc := 145) hX 0 rfl dX1_count_145 ?_
                  exact j_iret (pc := 146) hX hr dX1_count_146
                · skip
                  refine j_ite (fun c35 => ?_) (fun c35 => ?_)
                  · refine j_tabIn (pc := 3) (tgt := 147) hX (8) (by rw [c35]; rfl) (by decide) (by decide) rfl rfl dX1_count_3 ?_
                    refine j_aload_n (pc := 147) hX 1 rfl dX1_count_147 ?_
                    refine c_getR (pc := 148) hX fgX1_95_X1.1 fgX1_95_X1.2 rfl rfl dX1_count_148 ?_
                    refine c_getI (pc := 151) hX fgX1_419_X9.1 fgX1_419_X9.2 rfl dX1_count_151 ?_
                    exact j_iret (pc := 154) hX hr dX1_count_154
                  · skip
                    refine j_ite (fun c36 => ?_) (fun c36 => ?_)
                    · refine j_tabIn (pc := 3) (tgt := 155) hX (9) (by rw [c36]; rfl) (by decide) (by decide) rfl rfl dX1_count_3 ?_
                      refine j_aload_n (pc := 155) hX 1 rfl dX1_count_155 ?_
                      refine c_getR (pc := 156) hX fgX1_128_X1.1 fgX1_128_X1.2 rfl rfl dX1_count_156 ?_
                      refine j_callV (pc := 159) (e1 := eI) (a := 41) (As := fun z => []) (rest := []) hX (fun r e => cL_size_t 41 h r e) ymJ2_size (lw_V q417 q418 q419 q145 q420) rfl ckJ2 rfl ⟨Nat.le_of_ble_eq_true rfl, Nat.le_of_ble_eq_true rfl⟩ rfl rfl (Nat.le_of_ble_eq_true rfl) dX1_count_159 (fun r37 h38 => ?_)
                      exact j_iret (pc := 162) hX hr dX1_count_162
                    · skip
                      refine j_ite (fun c39 => ?_) (fun c39 => ?_)
                      · refine j_tabIn (pc := 3) (tgt := 163) hX (10) (by rw [c39]; rfl) (by decide) (by decide) rfl rfl dX1_count_3 ?_
                        refine j_aload_n (pc := 163) hX 1 rfl dX1_count_163 ?_
                        refine j_callV (pc := 164) (e1 := eI) (a := 0) (As := fun z => []) (rest := []) hX (fun r e => cA_knownMany_t h r e) ymX1_knownMany (lw_V q1437 q1439 qs59 q140 q1440) rfl ckX1 rfl ⟨Nat.le_of_ble_eq_true rfl, Nat.le_of_ble_eq_true rfl⟩ rfl rfl (Nat.le_of_ble_eq_true rfl) dX1_count_164 (fun r40 h41 => ?_)
                        exact j_iret (pc := 167) hX hr dX1_count_167
                      · skip
                        refine j_ite (fun c42 => ?_) (fun c42 => ?_)
                        · refine j_tabIn (pc := 3) (tgt := 168) hX (11) (by rw [c42]; rfl) (by decide) (by decide) rfl rfl dX1_count_3 ?_
                          refine j_aload_n (pc := 168) hX 1 rfl dX1_count_168 ?_
                          refine c_getI (pc := 169) hX fgX1_166_X1.1 fgX1_166_X1.2 rfl dX1_count_169 ?_
                          exact j_iret (pc := 172) hX hr dX1_count_172
                        · skip
                          refine j_tabD (pc := 3) (tgt := 173) hX (fun n hn h1 h2 => ?_) rfl dX1_count_3 ?_
                          · rcases (show n = 0 ∨ n = 1 ∨ n = 2 ∨ n = 3 ∨ n = 4 ∨ n = 5 ∨ n = 6 ∨ n = 7 ∨ n = 8 ∨ n = 9 ∨ n = 10 ∨ n = 11 by omega) with rfl | rfl | rfl | rfl | rfl | rfl | rfl | rfl | rfl | rfl | rfl | rfl
                            · exact absurd hn (lv_neT c2 rfl)
                            · exact absurd hn (lv_neT c9 rfl)
                            · exact absurd hn (lv_neT c12 rfl)
                            · exact absurd hn (lv_neT c15 rfl)
                            · exact absurd hn (lv_neT c19 rfl)
                            · exact absurd hn (lv_neT c23 rfl)
                            · exact absurd hn (lv_neT c24 rfl)
                            · exact absurd hn (lv_neT c27 rfl)
                            · exact absurd hn (lv_neT c35 rfl)
                            · exact absurd hn (lv_neT c36 rfl)
                            · exact absurd hn (lv_neT c39 rfl)
                            · exact absurd hn (lv_neT c42 rfl)
                          · refine j_iconst (pc := 173) hX ic_m1 dX1_count_173 ?_
                            exact j_iret (pc := 174) hX hr dX1_count_174
set_option maxHeartbeats 4000000 in
set_option maxRecDepth 100000 in
theorem kX4_init_t   (o : Nat) (h : HP) (rr : Unit × HP) (e : kX4_init o h = some rr) : Cn cV yX4_init (ws_ yX4_init cX4_init 1 (none)) 1 12 (fun z => [.ref (z + o)]) h (fun z => eV z rr.1) rr.2 := by
  refine cn_of (e1 := eV) (fun z => [(0, .ref (z + o))]) cV_ok (kX4_init_m o h _ e) ymX4_init (fun _ => rfl) (fun _ => Nat.le_of_ble_eq_true rfl) (fun X hX hr hnm => ?_) e
  have hX : okX cV X rr cX4_init RX4 1 1 12 := hX
  rw [kX4_init]
  refine j_aload_n (pc := 0) hX 0 rfl dX4_init_0 ?_
  refine j_objInit (pc := 1) hX q331 q188 q189 (Nat.le_of_ble_eq_true rfl) (Nat.le_of_ble_eq_true rfl) dX4_init_1 ?_
  exact j_vret (pc := 4) hX hr dX4_init_4
set_option maxHeartbeats 4000000 in
set_option maxRecDepth 100000 in
theorem kX5_init_t   (o : Nat) (h : HP) (rr : Unit × HP) (e : kX5_init o h = some rr) : Cn cV yX5_init (ws_ yX5_init cX5_init 1 (none)) 2 32 (fun z => [.ref (z + o)]) h (fun z => eV z rr.1) rr.2 := by
  refine cn_of (e1 := eV) (fun z => [(0, .ref (z + o))]) cV_ok (kX5_init_m o h _ e) ymX5_init (fun _ => rfl) (fun _ => Nat.le_of_ble_eq_true rfl) (fun X hX hr hnm => ?_) e
  have hX : okX cV X rr cX5_init RX5 1 2 32 := hX
  rw [kX5_init]
  refine j_aload_n (pc := 0) hX 0 rfl dX5_init_0 ?_
  refine j_callIN (pc := 1) (e1 := eV) (a := o) (As := fun z => []) (rest := []) hX (fun r e => kX4_init_t o h r e) ymX4_init rfl (List.mem_of_getElem? (i := 13) rfl) q329 q146 q330 ⟨Nat.le_of_ble_eq_true rfl, Nat.le_of_ble_eq_true rfl⟩ rfl rfl (Nat.le_of_ble_eq_true rfl) dX5_init_1 (fun r1 h2 => ?_)
  exact j_vret (pc := 4) hX hr dX5_init_4
set_option maxHeartbeats 4000000 in
set_option maxRecDepth 100000 in
theorem kX6_init_t   (o : Nat) (h : HP) (rr : Unit × HP) (e : kX6_init o h = some rr) : Cn cV yX6_init (ws_ yX6_init cX6_init 1 (none)) 3 52 (fun z => [.ref (z + o)]) h (fun z => eV z rr.1) rr.2 := by
  refine cn_of (e1 := eV) (fun z => [(0, .ref (z + o))]) cV_ok (kX6_init_m o h _ e) ymX6_init (fun _ => rfl) (fun _ => Nat.le_of_ble_eq_true rfl) (fun X hX hr hnm => ?_) e
  have hX : okX cV X rr cX6_init RX6 1 3 52 := hX
  rw [kX6_init]
  refine j_aload_n (pc := 0) hX 0 rfl dX6_init_0 ?_
  refine j_callIN (pc := 1) (e1 := eV) (a := o) (As := fun z => []) (rest := []) hX (fun r e => kX5_init_t o h r e) ymX5_init rfl (List.mem_of_getElem? (i := 21) rfl) q326 q147 q327 ⟨Nat.le_of_ble_eq_true rfl, Nat.le_of_ble_eq_true rfl⟩ rfl rfl (Nat.le_of_ble_eq_true rfl) dX6_init_1 (fun r1 h2 => ?_)
  exact j_vret (pc := 4) hX hr dX6_init_4
set_option maxHeartbeats 4000000 in
set_option maxRecDepth 100000 in
theorem kX7_init_t   (o : Nat) (h : HP) (rr : Unit × HP) (e : kX7_init o h = some rr) : Cn cV yX7_init (ws_ yX7_init cX7_init 1 (none)) 3 52 (fun z => [.ref (z + o)]) h (fun z => eV z rr.1) rr.2 := by
  refine cn_of (e1 := eV) (fun z => [(0, .ref (z + o))]) cV_ok (kX7_init_m o h _ e) ymX7_init (fun _ => rfl) (fun _ => Nat.le_of_ble_eq_true rfl) (fun X hX hr hnm => ?_) e
  have hX : okX cV X rr cX7_init RX7 1 3 52 := hX
  rw [kX7_init]
  refine j_aload_n (pc := 0) hX 0 rfl dX7_init_0 ?_
  refine j_callIN (pc := 1) (e1 := eV) (a := o) (As := fun z => []) (rest := []) hX (fun r e => kX5_init_t o h r e) ymX5_init rfl (List.mem_of_getElem? (i := 7) rfl) q326 q147 q327 ⟨Nat.le_of_ble_eq_true rfl, Nat.le_of_ble_eq_true rfl⟩ rfl rfl (Nat.le_of_ble_eq_true rfl) dX7_init_1 (fun r1 h2 => ?_)
  exact j_vret (pc := 4) hX hr dX7_init_4
set_option maxHeartbeats 4000000 in
set_option maxRecDepth 100000 in
theorem kX8_init_t   (o : Nat) (h : HP) (rr : Unit × HP) (e : kX8_init o h = some rr) : Cn cV yX8_init (ws_ yX8_init cX8_init 1 (none)) 3 52 (fun z => [.ref (z + o)]) h (fun z => eV z rr.1) rr.2 := by
  refine cn_of (e1 := eV) (fun z => [(0, .ref (z + o))]) cV_ok (kX8_init_m o h _ e) ymX8_init (fun _ => rfl) (fun _ => Nat.le_of_ble_eq_true rfl) (fun X hX hr hnm => ?_) e
  have hX : okX cV X rr cX8_init RX8 1 3 52 := hX
  rw [kX8_init]
  refine j_aload_n (pc := 0) hX 0 rfl dX8_init_0 ?_
  refine j_callIN (pc := 1) (e1 := eV) (a := o) (As := fun z => []) (rest := []) hX (fun r e => kX5_init_t o h r e) ymX5_init rfl (List.mem_of_getElem? (i := 8) rfl) q326 q147 q327 ⟨Nat.le_of_ble_eq_true rfl, Nat.le_of_ble_eq_true rfl⟩ rfl rfl (Nat.le_of_ble_eq_true rfl) dX8_init_1 (fun r1 h2 => ?_)
  exact j_vret (pc := 4) hX hr dX8_init_4
