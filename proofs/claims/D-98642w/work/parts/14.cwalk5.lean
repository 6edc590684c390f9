/-! the component: walks -/
set_option maxHeartbeats 4000000 in
set_option maxRecDepth 100000 in
theorem cA_hint_t   (a1 : Int32) (a2 : Int32) (a3 : Int32) (h : HP) (rr : Int32 × HP) (e : cA_hint a1 a2 a3 h = some rr) : Cn cV yX1_hint (ws_ yX1_hint cX1_hint 7 (some .int)) 167 3931 (fun z => [.ref (z + 0), .int a1, .int a2, .int a3]) h (fun z => eI z rr.1) rr.2 := by
  refine cn_of (e1 := eI) (fun z => [(0, .ref (z + 0)), (1, .int a1), (2, .int a2), (3, .int a3)]) cV_ok (cA_hint_m a1 a2 a3 h _ e) ymX1_hint (fun _ => rfl) (fun _ => Nat.le_of_ble_eq_true rfl) (fun X hX hr hnm => ?_) e
  have hX : okX cV X rr cX1_hint RX1 7 167 3931 := hX
  rw [cA_hint]
  refine j_aload_n (pc := 0) hX 0 rfl dX1_hint_0 ?_
  refine j_iload_n (pc := 1) hX 1 rfl dX1_hint_1 ?_
  refine j_callV (pc := 2) (e1 := eI) (a := 0) (As := fun z => [.int a1]) (rest := []) hX (fun r e => cA_isPerson_t a1 h r e) ymX1_isPerson (lw_V q1056 q1058 qs37 q140 q1059) rfl ckX1 rfl ⟨Nat.le_of_ble_eq_true rfl, Nat.le_of_ble_eq_true rfl⟩ rfl rfl (Nat.le_of_ble_eq_true rfl) dX1_hint_2 (fun r1 h2 => ?_)
  refine j_ifeq (pc := 5) (tgt := 26) hX rfl dX1_hint_5 (fun _ => ?_) (fun _ => ?_)
  · refine j_iconst (pc := 26) hX ic_m1 dX1_hint_26 ?_
    exact j_iret (pc := 27) hX hr dX1_hint_27
  · refine j_aload_n (pc := 8) hX 0 rfl dX1_hint_8 ?_
    refine j_iload_n (pc := 9) hX 2 rfl dX1_hint_9 ?_
    refine j_callV (pc := 10) (e1 := eI) (a := 0) (As := fun z => [.int a2]) (rest := []) hX (fun r e => cA_isFact_t a2 h2 r e) ymX1_isFact (lw_V q1218 q1220 qs40 q140 q1221) rfl ckX1 rfl ⟨Nat.le_of_ble_eq_true rfl, Nat.le_of_ble_eq_true rfl⟩ rfl rfl (Nat.le_of_ble_eq_true rfl) dX1_hint_10 (fun r3 h4 => ?_)
    refine j_ifeq (pc := 13) (tgt := 26) hX rfl dX1_hint_13 (fun _ => ?_) (fun _ => ?_)
    · refine j_iconst (pc := 26) hX ic_m1 dX1_hint_26 ?_
      exact j_iret (pc := 27) hX hr dX1_hint_27
    · refine j_iload_n (pc := 16) hX 3 rfl dX1_hint_16 ?_
      refine j_i2l (pc := 17) hX dX1_hint_17 ?_
      refine j_lconst (pc := 18) (v := 0) hX rfl dX1_hint_18 ?_
      refine j_lconst (pc := 19) (v := 1) hX rfl dX1_hint_19 ?_
      refine j_callS (pc := 20) (e1 := eI) (As := fun z => [.long (a3).toInt64, .long (0 : Int64), .long (1 : Int64)]) (rest := []) hX (fun r e => cA_in_t (a3).toInt64 (0 : Int64) (1 : Int64) h4 r e) ymX1_in (lw_S q527 q528 q140 q529) ⟨Nat.le_of_ble_eq_true rfl, Nat.le_of_ble_eq_true rfl⟩ rfl rfl (Nat.le_of_ble_eq_true rfl) dX1_hint_20 (fun r5 h6 => ?_)
      refine j_ifne (pc := 23) (tgt := 28) hX rfl dX1_hint_23 (fun _ => ?_) (fun _ => ?_)
      · refine j_iconst (pc := 26) hX ic_m1 dX1_hint_26 ?_
        exact j_iret (pc := 27) hX hr dX1_hint_27
      · refine j_aload_n (pc := 28) hX 0 rfl dX1_hint_28 ?_
        refine j_iload_n (pc := 29) hX 1 rfl dX1_hint_29 ?_
        refine j_iload_n (pc := 30) hX 2 rfl dX1_hint_30 ?_
        refine j_iconst (pc := 31) hX ic_0 dX1_hint_31 ?_
        refine j_callV (pc := 32) (e1 := eI) (a := 0) (As := fun z => [.int a1, .int a2, .int (0 : Int32)]) (rest := []) hX (fun r e => cA_learns_t a1 a2 (0 : Int32) h6 r e) ymX1_learns (lw_V q1254 q1256 qs42 q140 q1257) rfl ckX1 rfl ⟨Nat.le_of_ble_eq_true rfl, Nat.le_of_ble_eq_true rfl⟩ rfl rfl (Nat.le_of_ble_eq_true rfl) dX1_hint_32 (fun r7 h8 => ?_)
        refine j_ifeq (pc := 35) (tgt := 41) hX rfl dX1_hint_35 (fun _ => ?_) (fun _ => ?_)
        · refine j_iconst (pc := 41) hX ic_0 dX1_hint_41 ?_
          refine j_istore (pc := 42) hX (fun x9 => [(4, .int x9), (0, .ref (xz X + 0)), (1, .int a1), (2, .int a2), (3, .int a3)]) (fun _ => rfl) (Nat.le_of_ble_eq_true rfl) dX1_hint_42 (fun x9 => ?_)
          refine j_locs [1, 2, 3, 4, 0] rfl ?_
          refine cA_hint_44_w hX hr a1 a2 a3 _ (fun  h29 => ?_) FU x9 h8
          refine j_bipush (pc := 144) hX bp_m2 dX1_hint_144 ?_
          exact j_iret (pc := 146) hX hr dX1_hint_146
        · refine j_bipush (pc := 38) hX bp_m2 dX1_hint_38 ?_
          exact j_iret (pc := 40) hX hr dX1_hint_40
set_option maxHeartbeats 4000000 in
set_option maxRecDepth 100000 in
theorem cA_isAskable_2_w {X : CTX} {rr : Int32 × HP}  (hX : okX cV X rr cX1_isAskable RX1 4 5 89) (hr : (xh X).sig.returnType = some .boolean) (f1 : Int32) (f2 : Int32) (k : HP → Option (Int32 × HP)) (hk : ∀  (h : HP), jG cV X evI rr (k  h) 32 [] [] h) : ∀ (n : Nat) (v3 : Int32) (h : HP), jG cV X evI rr (cA_isAskable_2 f1 f2 k n v3 h) 2 [(0, .ref (xz X + 0)), (1, .int f1), (2, .int f2), (3, .int v3)] [] h := by
  intro n
  induction n with
  | zero =>
    intro v3 h
    exact j_none
  | succ n ih =>
    intro v3 h
    rw [cA_isAskable_2]
    refine j_iload_n (pc := 2) hX 3 rfl dX1_isAskable_2 ?_
    refine j_aload_n (pc := 3) hX 0 rfl dX1_isAskable_3 ?_
    refine j_callV (pc := 4) (e1 := eI) (a := 0) (As := fun z => []) (rest := [.int v3]) hX (fun r e => cA_persons_t h r e) ymX1_persons (lw_V q1060 q415 qs0 q140 q416) rfl ckX1 rfl ⟨Nat.le_of_ble_eq_true rfl, Nat.le_of_ble_eq_true rfl⟩ rfl rfl (Nat.le_of_ble_eq_true rfl) dX1_isAskable_4 (fun r2 h3 => ?_)
    refine j_cge (pc := 7) (tgt := 32) hX rfl dX1_isAskable_7 (fun _ => ?_) (fun _ => ?_)
    · refine j_locs [] rfl ?_
      exact hk h3
    · refine j_aload_n (pc := 10) hX 0 rfl dX1_isAskable_10 ?_
      refine c_getR (pc := 11) hX fgX1_95_X1.1 fgX1_95_X1.2 rfl rfl dX1_isAskable_11 ?_
      refine j_iload_n (pc := 14) hX 1 rfl dX1_isAskable_14 ?_
      refine j_iload_n (pc := 15) hX 3 rfl dX1_isAskable_15 ?_
      refine j_iload_n (pc := 16) hX 2 rfl dX1_isAskable_16 ?_
      refine j_iconst (pc := 17) hX ic_1 dX1_isAskable_17 ?_
      refine j_callV (pc := 18) (e1 := eI) (a := 20) (As := fun z => [.int f1, .int v3, .int f2, .int (1 : Int32)]) (rest := []) hX (fun r e => cS_can_t 20 f1 v3 f2 (1 : Int32) h3 r e) ymX9_can (lw_V q1061 q1062 q1063 q151 q1064) rfl ckX9 rfl ⟨Nat.le_of_ble_eq_true rfl, Nat.le_of_ble_eq_true rfl⟩ rfl rfl (Nat.le_of_ble_eq_true rfl) dX1_isAskable_18 (fun r4 h5 => ?_)
      refine j_ifeq (pc := 21) (tgt := 26) hX rfl dX1_isAskable_21 (fun _ => ?_) (fun _ => ?_)
      · refine j_iinc (pc := 26) hX 3 rfl (1 : Int32) ic_1 (fun x6 => [(3, .int x6), (0, .ref (xz X + 0)), (1, .int f1), (2, .int f2)]) (fun _ => rfl) (Nat.le_of_ble_eq_true rfl) dX1_isAskable_26 (fun x6 => ?_)
        refine j_goto (pc := 29) (tgt := 2) hX rfl dX1_isAskable_29 ?_
        refine j_locs [1, 2, 3, 0] rfl ?_
        exact ih x6 h5
      · refine j_iconst (pc := 24) hX ic_1 dX1_isAskable_24 ?_
        exact j_zret (pc := 25) hX (Or.inr rfl) hr dX1_isAskable_25
set_option maxHeartbeats 4000000 in
set_option maxRecDepth 100000 in
theorem cA_isAskable_t   (a1 : Int32) (a2 : Int32) (h : HP) (rr : Int32 × HP) (e : cA_isAskable a1 a2 h = some rr) : Cn cV yX1_isAskable (ws_ yX1_isAskable cX1_isAskable 4 (some .boolean)) 5 89 (fun z => [.ref (z + 0), .int a1, .int a2]) h (fun z => eI z rr.1) rr.2 := by
  refine cn_of (e1 := eI) (fun z => [(0, .ref (z + 0)), (1, .int a1), (2, .int a2)]) cV_ok (cA_isAskable_m a1 a2 h _ e) ymX1_isAskable (fun _ => rfl) (fun _ => Nat.le_of_ble_eq_true rfl) (fun X hX hr hnm => ?_) e
  have hX : okX cV X rr cX1_isAskable RX1 4 5 89 := hX
  rw [cA_isAskable]
  refine j_iconst (pc := 0) hX ic_0 dX1_isAskable_0 ?_
  refine j_istore_n (pc := 1) hX (fun x1 => [(3, .int x1), (0, .ref (xz X + 0)), (1, .int a1), (2, .int a2)]) (fun _ => rfl) (Nat.le_of_ble_eq_true rfl) dX1_isAskable_1 (fun x1 => ?_)
  refine j_locs [1, 2, 3, 0] rfl ?_
  refine cA_isAskable_2_w hX hr a1 a2 _ (fun  h7 => ?_) FU x1 h
  refine j_iconst (pc := 32) hX ic_0 dX1_isAskable_32 ?_
  exact j_zret (pc := 33) hX (Or.inl rfl) hr dX1_isAskable_33
set_option maxHeartbeats 4000000 in
set_option maxRecDepth 100000 in
theorem cA_unasked_14_w {X : CTX} {rr : Int32 × HP}  (hX : okX cV X rr cX1_unasked RX1 4 6 112) (hr : (xh X).sig.returnType = some .int) (f1 : Int32) (k : Int32 → HP → Option (Int32 × HP)) (hk : ∀ (v2 : Int32) (h : HP), jG cV X evI rr (k v2 h) 47 [(2, .int v2)] [] h) : ∀ (n : Nat) (v2 : Int32) (v3 : Int32) (h : HP), jG cV X evI rr (cA_unasked_14 f1 k n v2 v3 h) 14 [(0, .ref (xz X + 0)), (1, .int f1), (2, .int v2), (3, .int v3)] [] h := by
  intro n
  induction n with
  | zero =>
    intro v2 v3 h
    exact j_none
  | succ n ih =>
    intro v2 v3 h
    rw [cA_unasked_14]
    refine j_iload_n (pc := 14) hX 3 rfl dX1_unasked_14 ?_
    refine j_aload_n (pc := 15) hX 0 rfl dX1_unasked_15 ?_
    refine j_callV (pc := 16) (e1 := eI) (a := 0) (As := fun z => []) (rest := [.int v3]) hX (fun r e => cA_questions_t h r e) ymX1_questions (lw_V q1042 q1044 qs35 q140 q1045) rfl ckX1 rfl ⟨Nat.le_of_ble_eq_true rfl, Nat.le_of_ble_eq_true rfl⟩ rfl rfl (Nat.le_of_ble_eq_true rfl) dX1_unasked_16 (fun r5 h6 => ?_)
    refine j_cge (pc := 19) (tgt := 47) hX rfl dX1_unasked_19 (fun _ => ?_) (fun _ => ?_)
    · refine j_locs [2] rfl ?_
      exact hk v2 h6
    · refine j_iload_n (pc := 22) hX 2 rfl dX1_unasked_22 ?_
      refine j_aload_n (pc := 23) hX 0 rfl dX1_unasked_23 ?_
      refine j_iload_n (pc := 24) hX 1 rfl dX1_unasked_24 ?_
      refine j_iload_n (pc := 25) hX 3 rfl dX1_unasked_25 ?_
      refine j_callV (pc := 26) (e1 := eI) (a := 0) (As := fun z => [.int f1, .int v3]) (rest := [.int v2]) hX (fun r e => cA_isAskable_t f1 v3 h6 r e) ymX1_isAskable (lw_V q1279 q1281 qs44 q140 q1282) rfl ckX1 rfl ⟨Nat.le_of_ble_eq_true rfl, Nat.le_of_ble_eq_true rfl⟩ rfl rfl (Nat.le_of_ble_eq_true rfl) dX1_unasked_26 (fun r7 h8 => ?_)
      refine j_jon (fun (j9 : Int32 → Option (Int32 × HP)) => ∀ (s10 : Int32), jG cV X evI rr (j9 s10) 39 [(0, .ref (xz X + 0)), (1, .int f1), (3, .int v3)] [.int s10, .int v2] h8) ?_ ?_
      · intro s10
        refine j_ior (pc := 39) hX dX1_unasked_39 ?_
        refine j_istore_n (pc := 40) hX (fun x11 => [(2, .int x11), (0, .ref (xz X + 0)), (1, .int f1), (3, .int v3)]) (fun _ => rfl) (Nat.le_of_ble_eq_true rfl) dX1_unasked_40 (fun x11 => ?_)
        refine j_iinc (pc := 41) hX 3 rfl (1 : Int32) ic_1 (fun x12 => [(3, .int x12), (2, .int x11), (0, .ref (xz X + 0)), (1, .int f1)]) (fun _ => rfl) (Nat.le_of_ble_eq_true rfl) dX1_unasked_41 (fun x12 => ?_)
        refine j_goto (pc := 44) (tgt := 14) hX rfl dX1_unasked_44 ?_
        refine j_locs [2, 3, 1, 0] rfl ?_
        exact ih x11 x12 h8
      · intro j9 hj9
        refine j_ifeq (pc := 29) (tgt := 36) hX rfl dX1_unasked_29 (fun _ => ?_) (fun _ => ?_)
        · refine j_iconst (pc := 36) hX ic_1 dX1_unasked_36 ?_
          refine j_iload_n (pc := 37) hX 3 rfl dX1_unasked_37 ?_
          refine j_ishl (pc := 38) hX dX1_unasked_38 ?_
          refine j_locs [0, 1, 3] rfl ?_
          exact hj9 ((1 : Int32) <<< (v3 &&& 31))
        · refine j_iconst (pc := 32) hX ic_0 dX1_unasked_32 ?_
          refine j_goto (pc := 33) (tgt := 39) hX rfl dX1_unasked_33 ?_
          refine j_locs [0, 1, 3] rfl ?_
          exact hj9 (0 : Int32)
set_option maxHeartbeats 4000000 in
set_option maxRecDepth 100000 in
theorem cA_unasked_t   (a1 : Int32) (h : HP) (rr : Int32 × HP) (e : cA_unasked a1 h = some rr) : Cn cV yX1_unasked (ws_ yX1_unasked cX1_unasked 4 (some .int)) 6 112 (fun z => [.ref (z + 0), .int a1]) h (fun z => eI z rr.1) rr.2 := by
  refine cn_of (e1 := eI) (fun z => [(0, .ref (z + 0)), (1, .int a1)]) cV_ok (cA_unasked_m a1 h _ e) ymX1_unasked (fun _ => rfl) (fun _ => Nat.le_of_ble_eq_true rfl) (fun X hX hr hnm => ?_) e
  have hX : okX cV X rr cX1_unasked RX1 4 6 112 := hX
  rw [cA_unasked]
  refine j_aload_n (pc := 0) hX 0 rfl dX1_unasked_0 ?_
  refine j_iload_n (pc := 1) hX 1 rfl dX1_unasked_1 ?_
  refine j_callV (pc := 2) (e1 := eI) (a := 0) (As := fun z => [.int a1]) (rest := []) hX (fun r e => cA_isPerson_t a1 h r e) ymX1_isPerson (lw_V q1056 q1058 qs37 q140 q1059) rfl ckX1 rfl ⟨Nat.le_of_ble_eq_true rfl, Nat.le_of_ble_eq_true rfl⟩ rfl rfl (Nat.le_of_ble_eq_true rfl) dX1_unasked_2 (fun r1 h2 => ?_)
  refine j_ifne (pc := 5) (tgt := 10) hX rfl dX1_unasked_5 (fun _ => ?_) (fun _ => ?_)
  · refine j_iconst (pc := 8) hX ic_m1 dX1_unasked_8 ?_
    exact j_iret (pc := 9) hX hr dX1_unasked_9
  · refine j_iconst (pc := 10) hX ic_0 dX1_unasked_10 ?_
    refine j_istore_n (pc := 11) hX (fun x3 => [(2, .int x3), (0, .ref (xz X + 0)), (1, .int a1)]) (fun _ => rfl) (Nat.le_of_ble_eq_true rfl) dX1_unasked_11 (fun x3 => ?_)
    refine j_iconst (pc := 12) hX ic_0 dX1_unasked_12 ?_
    refine j_istore_n (pc := 13) hX (fun x4 => [(3, .int x4), (2, .int x3), (0, .ref (xz X + 0)), (1, .int a1)]) (fun _ => rfl) (Nat.le_of_ble_eq_true rfl) dX1_unasked_13 (fun x4 => ?_)
    refine j_locs [2, 3, 1, 0] rfl ?_
    refine cA_unasked_14_w hX hr a1 _ (fun x13 h14 => ?_) FU x3 x4 h2
    refine j_iload_n (pc := 47) hX 0 rfl dX1_unasked_47 ?_
    exact j_iret (pc := 48) hX hr dX1_unasked_48
set_option maxHeartbeats 4000000 in
set_option maxRecDepth 100000 in
theorem cA_sumIn_t   (a1 : Int32) (a2 : Int32) (h : HP) (rr : Int32 × HP) (e : cA_sumIn a1 a2 h = some rr) : Cn cV yX1_sumIn (ws_ yX1_sumIn cX1_sumIn 3 (some .int)) 165 3887 (fun z => [.ref (z + 0), .int a1, .int a2]) h (fun z => eI z rr.1) rr.2 := by
  refine cn_of (e1 := eI) (fun z => [(0, .ref (z + 0)), (1, .int a1), (2, .int a2)]) cV_ok (cA_sumIn_m a1 a2 h _ e) ymX1_sumIn (fun _ => rfl) (fun _ => Nat.le_of_ble_eq_true rfl) (fun X hX hr hnm => ?_) e
  have hX : okX cV X rr cX1_sumIn RX1 3 165 3887 := hX
  rw [cA_sumIn]
  refine j_aload_n (pc := 0) hX 0 rfl dX1_sumIn_0 ?_
  refine c_getR (pc := 1) hX fgX1_99_X1.1 fgX1_99_X1.2 rfl rfl dX1_sumIn_1 ?_
  refine j_aload_n (pc := 4) hX 0 rfl dX1_sumIn_4 ?_
  refine c_getR (pc := 5) hX fgX1_95_X1.1 fgX1_95_X1.2 rfl rfl dX1_sumIn_5 ?_
  refine j_callV (pc := 8) (e1 := eV) (a := 25) (As := fun z => [.ref (z + 20)]) (rest := []) hX (fun r e => cS_become_t 25 20 h r e) ymX9_become (lw_V q1159 q1160 q1161 q151 q1162) rfl ckX9 rfl ⟨Nat.le_of_ble_eq_true rfl, Nat.le_of_ble_eq_true rfl⟩ rfl rfl (Nat.le_of_ble_eq_true rfl) dX1_sumIn_8 (fun r1 h2 => ?_)
  refine j_aload_n (pc := 11) hX 0 rfl dX1_sumIn_11 ?_
  refine c_getR (pc := 12) hX fgX1_99_X1.1 fgX1_99_X1.2 rfl rfl dX1_sumIn_12 ?_
  refine c_getR (pc := 15) hX fgX1_211_X9.1 fgX1_211_X9.2 rfl rfl dX1_sumIn_15 ?_
  refine j_iload_n (pc := 18) hX 1 rfl dX1_sumIn_18 ?_
  refine j_iload_n (pc := 19) hX 2 rfl dX1_sumIn_19 ?_
  refine c_iast (pc := 20) (n := 5) hX rfl dX1_sumIn_20 (fun h3 q4 q5 => ?_)
  refine j_aload_n (pc := 21) hX 0 rfl dX1_sumIn_21 ?_
  refine c_getR (pc := 22) hX fgX1_99_X1.1 fgX1_99_X1.2 rfl rfl dX1_sumIn_22 ?_
  refine j_callV (pc := 25) (e1 := eV) (a := 25) (As := fun z => []) (rest := []) hX (fun r e => cS_askAll_t 25 h3 r e) ymX9_askAll (lw_V q1239 q1240 q1241 q151 q1242) rfl ckX9 rfl ⟨Nat.le_of_ble_eq_true rfl, Nat.le_of_ble_eq_true rfl⟩ rfl rfl (Nat.le_of_ble_eq_true rfl) dX1_sumIn_25 (fun r6 h7 => ?_)
  refine j_aload_n (pc := 28) hX 0 rfl dX1_sumIn_28 ?_
  refine c_getR (pc := 29) hX fgX1_99_X1.1 fgX1_99_X1.2 rfl rfl dX1_sumIn_29 ?_
  refine j_callV (pc := 32) (e1 := eI) (a := 25) (As := fun z => []) (rest := []) hX (fun r e => cS_sum_t 25 h7 r e) ymX9_sum (lw_V q1291 q1244 q1245 q151 q1246) rfl ckX9 rfl ⟨Nat.le_of_ble_eq_true rfl, Nat.le_of_ble_eq_true rfl⟩ rfl rfl (Nat.le_of_ble_eq_true rfl) dX1_sumIn_32 (fun r8 h9 => ?_)
  exact j_iret (pc := 35) hX hr dX1_sumIn_35
set_option maxHeartbeats 4000000 in
set_option maxRecDepth 100000 in
theorem cA_inRoom_t   (a1 : Int32) (a2 : Int32) (h : HP) (rr : Int32 × HP) (e : cA_inRoom a1 a2 h = some rr) : Cn cV yX1_inRoom (ws_ yX1_inRoom cX1_inRoom 3 (some .int)) 166 3909 (fun z => [.ref (z + 0), .int a1, .int a2]) h (fun z => eI z rr.1) rr.2 := by
  refine cn_of (e1 := eI) (fun z => [(0, .ref (z + 0)), (1, .int a1), (2, .int a2)]) cV_ok (cA_inRoom_m a1 a2 h _ e) ymX1_inRoom (fun _ => rfl) (fun _ => Nat.le_of_ble_eq_true rfl) (fun X hX hr hnm => ?_) e
  have hX : okX cV X rr cX1_inRoom RX1 3 166 3909 := hX
  rw [cA_inRoom]
  refine j_aload_n (pc := 0) hX 0 rfl dX1_inRoom_0 ?_
  refine j_iload_n (pc := 1) hX 1 rfl dX1_inRoom_1 ?_
  refine j_callV (pc := 2) (e1 := eI) (a := 0) (As := fun z => [.int a1]) (rest := []) hX (fun r e => cA_isPerson_t a1 h r e) ymX1_isPerson (lw_V q1056 q1058 qs37 q140 q1059) rfl ckX1 rfl ⟨Nat.le_of_ble_eq_true rfl, Nat.le_of_ble_eq_true rfl⟩ rfl rfl (Nat.le_of_ble_eq_true rfl) dX1_inRoom_2 (fun r1 h2 => ?_)
  refine j_ifeq (pc := 5) (tgt := 29) hX rfl dX1_inRoom_5 (fun _ => ?_) (fun _ => ?_)
  · refine j_iconst (pc := 29) hX ic_m1 dX1_inRoom_29 ?_
    exact j_iret (pc := 30) hX hr dX1_inRoom_30
  · refine j_iload_n (pc := 8) hX 2 rfl dX1_inRoom_8 ?_
    refine j_i2l (pc := 9) hX dX1_inRoom_9 ?_
    refine j_lconst (pc := 10) (v := 0) hX rfl dX1_inRoom_10 ?_
    refine j_ldc2 (pc := 11) hX q1226 dX1_inRoom_11 ?_
    refine j_callS (pc := 14) (e1 := eI) (As := fun z => [.long (a2).toInt64, .long (0 : Int64), .long (3 : Int64)]) (rest := []) hX (fun r e => cA_in_t (a2).toInt64 (0 : Int64) (3 : Int64) h2 r e) ymX1_in (lw_S q527 q528 q140 q529) ⟨Nat.le_of_ble_eq_true rfl, Nat.le_of_ble_eq_true rfl⟩ rfl rfl (Nat.le_of_ble_eq_true rfl) dX1_inRoom_14 (fun r3 h4 => ?_)
    refine j_ifeq (pc := 17) (tgt := 29) hX rfl dX1_inRoom_17 (fun _ => ?_) (fun _ => ?_)
    · refine j_iconst (pc := 29) hX ic_m1 dX1_inRoom_29 ?_
      exact j_iret (pc := 30) hX hr dX1_inRoom_30
    · refine j_aload_n (pc := 20) hX 0 rfl dX1_inRoom_20 ?_
      refine j_iload_n (pc := 21) hX 1 rfl dX1_inRoom_21 ?_
      refine j_iload_n (pc := 22) hX 2 rfl dX1_inRoom_22 ?_
      refine j_callV (pc := 23) (e1 := eI) (a := 0) (As := fun z => [.int a1, .int a2]) (rest := []) hX (fun r e => cA_sumIn_t a1 a2 h4 r e) ymX1_sumIn (lw_V q1287 q1289 qs45 q140 q1290) rfl ckX1 rfl ⟨Nat.le_of_ble_eq_true rfl, Nat.le_of_ble_eq_true rfl⟩ rfl rfl (Nat.le_of_ble_eq_true rfl) dX1_inRoom_23 (fun r5 h6 => ?_)
      refine j_goto (pc := 26) (tgt := 30) hX rfl dX1_inRoom_26 ?_
      exact j_iret (pc := 30) hX hr dX1_inRoom_30
set_option maxHeartbeats 4000000 in
set_option maxRecDepth 100000 in
theorem cA_bestRoom_14_w {X : CTX} {rr : Int32 × HP}  (hX : okX cV X rr cX1_bestRoom RX1 4 166 3909) (hr : (xh X).sig.returnType = some .int) (f1 : Int32) (k : Int32 → HP → Option (Int32 × HP)) (hk : ∀ (v2 : Int32) (h : HP), jG cV X evI rr (k v2 h) 42 [(2, .int v2)] [] h) : ∀ (n : Nat) (v2 : Int32) (v3 : Int32) (h : HP), jG cV X evI rr (cA_bestRoom_14 f1 k n v2 v3 h) 14 [(0, .ref (xz X + 0)), (1, .int f1), (2, .int v2), (3, .int v3)] [] h := by
  intro n
  induction n with
  | zero =>
    intro v2 v3 h
    exact j_none
  | succ n ih =>
    intro v2 v3 h
    rw [cA_bestRoom_14]
    refine j_iload_n (pc := 14) hX 3 rfl dX1_bestRoom_14 ?_
    refine j_iconst (pc := 15) hX ic_4 dX1_bestRoom_15 ?_
    refine j_cge (pc := 16) (tgt := 42) hX rfl dX1_bestRoom_16 (fun _ => ?_) (fun _ => ?_)
    · refine j_locs [2] rfl ?_
      exact hk v2 h
    · refine j_aload_n (pc := 19) hX 0 rfl dX1_bestRoom_19 ?_
      refine j_iload_n (pc := 20) hX 1 rfl dX1_bestRoom_20 ?_
      refine j_iload_n (pc := 21) hX 3 rfl dX1_bestRoom_21 ?_
      refine j_callV (pc := 22) (e1 := eI) (a := 0) (As := fun z => [.int f1, .int v3]) (rest := []) hX (fun r e => cA_sumIn_t f1 v3 h r e) ymX1_sumIn (lw_V q1287 q1289 qs45 q140 q1290) rfl ckX1 rfl ⟨Nat.le_of_ble_eq_true rfl, Nat.le_of_ble_eq_true rfl⟩ rfl rfl (Nat.le_of_ble_eq_true rfl) dX1_bestRoom_22 (fun r5 h6 => ?_)
      refine j_aload_n (pc := 25) hX 0 rfl dX1_bestRoom_25 ?_
      refine j_iload_n (pc := 26) hX 1 rfl dX1_bestRoom_26 ?_
      refine j_iload_n (pc := 27) hX 2 rfl dX1_bestRoom_27 ?_
      refine j_callV (pc := 28) (e1 := eI) (a := 0) (As := fun z => [.int f1, .int v2]) (rest := [.int r5]) hX (fun r e => cA_sumIn_t f1 v2 h6 r e) ymX1_sumIn (lw_V q1287 q1289 qs45 q140 q1290) rfl ckX1 rfl ⟨Nat.le_of_ble_eq_true rfl, Nat.le_of_ble_eq_true rfl⟩ rfl rfl (Nat.le_of_ble_eq_true rfl) dX1_bestRoom_28 (fun r7 h8 => ?_)
      refine j_cle (pc := 31) (tgt := 36) hX rfl dX1_bestRoom_31 (fun _ => ?_) (fun _ => ?_)
      · refine j_iinc (pc := 36) hX 3 rfl (1 : Int32) ic_1 (fun x9 => [(3, .int x9), (0, .ref (xz X + 0)), (1, .int f1), (2, .int v2)]) (fun _ => rfl) (Nat.le_of_ble_eq_true rfl) dX1_bestRoom_36 (fun x9 => ?_)
        refine j_goto (pc := 39) (tgt := 14) hX rfl dX1_bestRoom_39 ?_
        refine j_locs [1, 2, 3, 0] rfl ?_
        exact ih v2 x9 h8
      · refine j_iload_n (pc := 34) hX 3 rfl dX1_bestRoom_34 ?_
        refine j_istore_n (pc := 35) hX (fun x10 => [(2, .int x10), (0, .ref (xz X + 0)), (1, .int f1), (3, .int v3)]) (fun _ => rfl) (Nat.le_of_ble_eq_true rfl) dX1_bestRoom_35 (fun x10 => ?_)
        refine j_iinc (pc := 36) hX 3 rfl (1 : Int32) ic_1 (fun x11 => [(3, .int x11), (2, .int x10), (0, .ref (xz X + 0)), (1, .int f1)]) (fun _ => rfl) (Nat.le_of_ble_eq_true rfl) dX1_bestRoom_36 (fun x11 => ?_)
        refine j_goto (pc := 39) (tgt := 14) hX rfl dX1_bestRoom_39 ?_
        refine j_locs [2, 3, 1, 0] rfl ?_
        exact ih x10 x11 h8
set_option maxHeartbeats 4000000 in
set_option maxRecDepth 100000 in
theorem cA_bestRoom_t   (a1 : Int32) (h : HP) (rr : Int32 × HP) (e : cA_bestRoom a1 h = some rr) : Cn cV yX1_bestRoom (ws_ yX1_bestRoom cX1_bestRoom 4 (some .int)) 166 3909 (fun z => [.ref (z + 0), .int a1]) h (fun z => eI z rr.1) rr.2 := by
  refine cn_of (e1 := eI) (fun z => [(0, .ref (z + 0)), (1, .int a1)]) cV_ok (cA_bestRoom_m a1 h _ e) ymX1_bestRoom (fun _ => rfl) (fun _ => Nat.le_of_ble_eq_true rfl) (fun X hX hr hnm => ?_) e
  have hX : okX cV X rr cX1_bestRoom RX1 4 166 3909 := hX
  rw [cA_bestRoom]
  refine j_aload_n (pc := 0) hX 0 rfl dX1_bestRoom_0 ?_
  refine j_iload_n (pc := 1) hX 1 rfl dX1_bestRoom_1 ?_
  refine j_callV (pc := 2) (e1 := eI) (a := 0) (As := fun z => [.int a1]) (rest := []) hX (fun r e => cA_isPerson_t a1 h r e) ymX1_isPerson (lw_V q1056 q1058 qs37 q140 q1059) rfl ckX1 rfl ⟨Nat.le_of_ble_eq_true rfl, Nat.le_of_ble_eq_true rfl⟩ rfl rfl (Nat.le_of_ble_eq_true rfl) dX1_bestRoom_2 (fun r1 h2 => ?_)
  refine j_ifne (pc := 5) (tgt := 10) hX rfl dX1_bestRoom_5 (fun _ => ?_) (fun _ => ?_)
  · refine j_iconst (pc := 8) hX ic_m1 dX1_bestRoom_8 ?_
    exact j_iret (pc := 9) hX hr dX1_bestRoom_9
  · refine j_iconst (pc := 10) hX ic_0 dX1_bestRoom_10 ?_
    refine j_istore_n (pc := 11) hX (fun x3 => [(2, .int x3), (0, .ref (xz X + 0)), (1, .int a1)]) (fun _ => rfl) (Nat.le_of_ble_eq_true rfl) dX1_bestRoom_11 (fun x3 => ?_)
    refine j_iconst (pc := 12) hX ic_1 dX1_bestRoom_12 ?_
    refine j_istore_n (pc := 13) hX (fun x4 => [(3, .int x4), (2, .int x3), (0, .ref (xz X + 0)), (1, .int a1)]) (fun _ => rfl) (Nat.le_of_ble_eq_true rfl) dX1_bestRoom_13 (fun x4 => ?_)
    refine j_locs [2, 3, 1, 0] rfl ?_
    refine cA_bestRoom_14_w hX hr a1 _ (fun x12 h13 => ?_) FU x3 x4 h2
    refine j_iload_n (pc := 42) hX 0 rfl dX1_bestRoom_42 ?_
    exact j_iret (pc := 43) hX hr dX1_bestRoom_43
set_option maxHeartbeats 4000000 in
set_option maxRecDepth 100000 in
theorem cA_isAsked_t   (a1 : Int32) (a2 : Int32) (a3 : Int32) (a4 : Int32) (h : HP) (rr : Int32 × HP) (e : cA_isAsked a1 a2 a3 a4 h = some rr) : Cn cV yX1_isAsked (ws_ yX1_isAsked cX1_isAsked 5 (some .boolean)) 4 61 (fun z => [.ref (z + 0), .int a1, .int a2, .int a3, .int a4]) h (fun z => eI z rr.1) rr.2 := by
  refine cn_of (e1 := eI) (fun z => [(0, .ref (z + 0)), (1, .int a1), (2, .int a2), (3, .int a3), (4, .int a4)]) cV_ok (cA_isAsked_m a1 a2 a3 a4 h _ e) ymX1_isAsked (fun _ => rfl) (fun _ => Nat.le_of_ble_eq_true rfl) (fun X hX hr hnm => ?_) e
  have hX : okX cV X rr cX1_isAsked RX1 5 4 61 := hX
  rw [cA_isAsked]
  refine j_aload_n (pc := 0) hX 0 rfl dX1_isAsked_0 ?_
  refine j_iload_n (pc := 1) hX 1 rfl dX1_isAsked_1 ?_
  refine j_callV (pc := 2) (e1 := eI) (a := 0) (As := fun z => [.int a1]) (rest := []) hX (fun r e => cA_isPerson_t a1 h r e) ymX1_isPerson (lw_V q1056 q1058 qs37 q140 q1059) rfl ckX1 rfl ⟨Nat.le_of_ble_eq_true rfl, Nat.le_of_ble_eq_true rfl⟩ rfl rfl (Nat.le_of_ble_eq_true rfl) dX1_isAsked_2 (fun r1 h2 => ?_)
  refine j_ifeq (pc := 5) (tgt := 54) hX rfl dX1_isAsked_5 (fun _ => ?_) (fun _ => ?_)
  · refine j_iconst (pc := 54) hX ic_0 dX1_isAsked_54 ?_
    exact j_zret (pc := 55) hX (Or.inl rfl) hr dX1_isAsked_55
  · refine j_aload_n (pc := 8) hX 0 rfl dX1_isAsked_8 ?_
    refine j_iload_n (pc := 9) hX 2 rfl dX1_isAsked_9 ?_
    refine j_callV (pc := 10) (e1 := eI) (a := 0) (As := fun z => [.int a2]) (rest := []) hX (fun r e => cA_isFact_t a2 h2 r e) ymX1_isFact (lw_V q1218 q1220 qs40 q140 q1221) rfl ckX1 rfl ⟨Nat.le_of_ble_eq_true rfl, Nat.le_of_ble_eq_true rfl⟩ rfl rfl (Nat.le_of_ble_eq_true rfl) dX1_isAsked_10 (fun r3 h4 => ?_)
    refine j_ifeq (pc := 13) (tgt := 54) hX rfl dX1_isAsked_13 (fun _ => ?_) (fun _ => ?_)
    · refine j_iconst (pc := 54) hX ic_0 dX1_isAsked_54 ?_
      exact j_zret (pc := 55) hX (Or.inl rfl) hr dX1_isAsked_55
    · refine j_iload_n (pc := 16) hX 3 rfl dX1_isAsked_16 ?_
      refine j_iflt (pc := 17) (tgt := 54) hX rfl dX1_isAsked_17 (fun _ => ?_) (fun _ => ?_)
      · refine j_iconst (pc := 54) hX ic_0 dX1_isAsked_54 ?_
        exact j_zret (pc := 55) hX (Or.inl rfl) hr dX1_isAsked_55
      · refine j_iload_n (pc := 20) hX 3 rfl dX1_isAsked_20 ?_
        refine j_aload_n (pc := 21) hX 0 rfl dX1_isAsked_21 ?_
        refine j_callV (pc := 22) (e1 := eI) (a := 0) (As := fun z => []) (rest := [.int a3]) hX (fun r e => cA_persons_t h4 r e) ymX1_persons (lw_V q1060 q415 qs0 q140 q416) rfl ckX1 rfl ⟨Nat.le_of_ble_eq_true rfl, Nat.le_of_ble_eq_true rfl⟩ rfl rfl (Nat.le_of_ble_eq_true rfl) dX1_isAsked_22 (fun r5 h6 => ?_)
        refine j_ishr (pc := 25) hX dX1_isAsked_25 ?_
        refine j_ifne (pc := 26) (tgt := 54) hX rfl dX1_isAsked_26 (fun _ => ?_) (fun _ => ?_)
        · refine j_iload_n (pc := 29) hX 3 rfl dX1_isAsked_29 ?_
          refine j_iload_n (pc := 30) hX 1 rfl dX1_isAsked_30 ?_
          refine j_ishr (pc := 31) hX dX1_isAsked_31 ?_
          refine j_iconst (pc := 32) hX ic_1 dX1_isAsked_32 ?_
          refine j_iand (pc := 33) hX dX1_isAsked_33 ?_
          refine j_ifne (pc := 34) (tgt := 54) hX rfl dX1_isAsked_34 (fun _ => ?_) (fun _ => ?_)
          · refine j_iload (pc := 37) hX 4 rfl dX1_isAsked_37 ?_
            refine j_i2l (pc := 39) hX dX1_isAsked_39 ?_
            refine j_lconst (pc := 40) (v := 1) hX rfl dX1_isAsked_40 ?_
            refine j_ldc2 (pc := 41) hX q1304 dX1_isAsked_41 ?_
            refine j_callS (pc := 44) (e1 := eI) (As := fun z => [.long (a4).toInt64, .long (1 : Int64), .long (2 : Int64)]) (rest := []) hX (fun r e => cA_in_t (a4).toInt64 (1 : Int64) (2 : Int64) h6 r e) ymX1_in (lw_S q527 q528 q140 q529) ⟨Nat.le_of_ble_eq_true rfl, Nat.le_of_ble_eq_true rfl⟩ rfl rfl (Nat.le_of_ble_eq_true rfl) dX1_isAsked_44 (fun r7 h8 => ?_)
            refine j_ifeq (pc := 47) (tgt := 54) hX rfl dX1_isAsked_47 (fun _ => ?_) (fun _ => ?_)
            · refine j_iconst (pc := 54) hX ic_0 dX1_isAsked_54 ?_
              exact j_zret (pc := 55) hX (Or.inl rfl) hr dX1_isAsked_55
            · refine j_iconst (pc := 50) hX ic_1 dX1_isAsked_50 ?_
              refine j_goto (pc := 51) (tgt := 55) hX rfl dX1_isAsked_51 ?_
              exact j_zret (pc := 55) hX (Or.inr rfl) hr dX1_isAsked_55
          · refine j_iconst (pc := 54) hX ic_0 dX1_isAsked_54 ?_
            exact j_zret (pc := 55) hX (Or.inl rfl) hr dX1_isAsked_55
        · refine j_iconst (pc := 54) hX ic_0 dX1_isAsked_54 ?_
          exact j_zret (pc := 55) hX (Or.inl rfl) hr dX1_isAsked_55
set_option maxHeartbeats 4000000 in
set_option maxRecDepth 100000 in
theorem cA_isWay_3_w {X : CTX} {rr : Int32 × HP}  (hX : okX cV X rr cX1_isWay RX1 6 3 40) (hr : (xh X).sig.returnType = some .boolean) (f1 : Nat) (f2 : Int32) (f3 : Int32) (f4 : Int32) (k : HP → Option (Int32 × HP)) (hk : ∀  (h : HP), jG cV X evI rr (k  h) 63 [(1, .ref (xz X + f1)), (2, .int f2), (3, .int f3)] [] h) : ∀ (n : Nat) (v5 : Int32) (h : HP), jG cV X evI rr (cA_isWay_3 f1 f2 f3 f4 k n v5 h) 3 [(0, .ref (xz X + 0)), (1, .ref (xz X + f1)), (2, .int f2), (3, .int f3), (4, .int f4), (5, .int v5)] [] h := by
  intro n
  induction n with
  | zero =>
    intro v5 h
    exact j_none
  | succ n ih =>
    intro v5 h
    rw [cA_isWay_3]
    refine j_iload (pc := 3) hX 5 rfl dX1_isWay_3 ?_
    refine j_aload_n (pc := 5) hX 0 rfl dX1_isWay_5 ?_
    refine j_callV (pc := 6) (e1 := eI) (a := 0) (As := fun z => []) (rest := [.int v5]) hX (fun r e => cA_persons_t h r e) ymX1_persons (lw_V q1060 q415 qs0 q140 q416) rfl ckX1 rfl ⟨Nat.le_of_ble_eq_true rfl, Nat.le_of_ble_eq_true rfl⟩ rfl rfl (Nat.le_of_ble_eq_true rfl) dX1_isWay_6 (fun r2 h3 => ?_)
    refine j_cge (pc := 9) (tgt := 63) hX rfl dX1_isWay_9 (fun _ => ?_) (fun _ => ?_)
    · refine j_locs [1, 2, 3] rfl ?_
      exact hk h3
    · refine j_iload (pc := 12) hX 4 rfl dX1_isWay_12 ?_
      refine j_iload (pc := 14) hX 5 rfl dX1_isWay_14 ?_
      refine j_ishr (pc := 16) hX dX1_isWay_16 ?_
      refine j_iconst (pc := 17) hX ic_1 dX1_isWay_17 ?_
      refine j_iand (pc := 18) hX dX1_isWay_18 ?_
      refine j_iconst (pc := 19) hX ic_1 dX1_isWay_19 ?_
      refine j_cne (pc := 20) (tgt := 57) hX rfl dX1_isWay_20 (fun _ => ?_) (fun _ => ?_)
      · refine j_aload_n (pc := 23) hX 1 rfl dX1_isWay_23 ?_
        refine j_grd fun g4 => ?_
        refine c_getR (pc := 24) hX fgX1_214_X9.1 fgX1_214_X9.2 (k1_of g4.1) g4.2.1.1 dX1_isWay_24 ?_
        refine j_iload (pc := 27) hX 5 rfl dX1_isWay_27 ?_
        refine j_iald (pc := 29) (n := 5) hX g4.2.2.1 dX1_isWay_29 (fun _ => ?_)
        refine j_iload_n (pc := 30) hX 3 rfl dX1_isWay_30 ?_
        refine j_ishr (pc := 31) hX dX1_isWay_31 ?_
        refine j_iconst (pc := 32) hX ic_1 dX1_isWay_32 ?_
        refine j_iand (pc := 33) hX dX1_isWay_33 ?_
        refine j_iconst (pc := 34) hX ic_1 dX1_isWay_34 ?_
        refine j_cne (pc := 35) (tgt := 57) hX rfl dX1_isWay_35 (fun _ => ?_) (fun _ => ?_)
        · refine j_aload_n (pc := 38) hX 0 rfl dX1_isWay_38 ?_
          refine c_getR (pc := 39) hX fgX1_95_X1.1 fgX1_95_X1.2 rfl rfl dX1_isWay_39 ?_
          refine c_getR (pc := 42) hX fgX1_214_X9.1 fgX1_214_X9.2 rfl rfl dX1_isWay_42 ?_
          refine j_iload (pc := 45) hX 5 rfl dX1_isWay_45 ?_
          refine j_iald (pc := 47) (n := 5) hX rfl dX1_isWay_47 (fun _ => ?_)
          refine j_iload_n (pc := 48) hX 3 rfl dX1_isWay_48 ?_
          refine j_ishr (pc := 49) hX dX1_isWay_49 ?_
          refine j_iconst (pc := 50) hX ic_1 dX1_isWay_50 ?_
          refine j_iand (pc := 51) hX dX1_isWay_51 ?_
          refine j_ifne (pc := 52) (tgt := 57) hX rfl dX1_isWay_52 (fun _ => ?_) (fun _ => ?_)
          · refine j_iconst (pc := 55) hX ic_0 dX1_isWay_55 ?_
            exact j_zret (pc := 56) hX (Or.inl rfl) hr dX1_isWay_56
          · refine j_iinc (pc := 57) hX 5 rfl (1 : Int32) ic_1 (fun x5 => [(5, .int x5), (0, .ref (xz X + 0)), (1, .ref (xz X + f1)), (2, .int f2), (3, .int f3), (4, .int f4)]) (fun _ => rfl) (Nat.le_of_ble_eq_true rfl) dX1_isWay_57 (fun x5 => ?_)
            refine j_goto (pc := 60) (tgt := 3) hX rfl dX1_isWay_60 ?_
            refine j_locs [1, 2, 3, 4, 5, 0] rfl ?_
            exact ih x5 h3
        · refine j_iinc (pc := 57) hX 5 rfl (1 : Int32) ic_1 (fun x6 => [(5, .int x6), (0, .ref (xz X + 0)), (1, .ref (xz X + f1)), (2, .int f2), (3, .int f3), (4, .int f4)]) (fun _ => rfl) (Nat.le_of_ble_eq_true rfl) dX1_isWay_57 (fun x6 => ?_)
          refine j_goto (pc := 60) (tgt := 3) hX rfl dX1_isWay_60 ?_
          refine j_locs [1, 2, 3, 4, 5, 0] rfl ?_
          exact ih x6 h3
      · refine j_iinc (pc := 57) hX 5 rfl (1 : Int32) ic_1 (fun x7 => [(5, .int x7), (0, .ref (xz X + 0)), (1, .ref (xz X + f1)), (2, .int f2), (3, .int f3), (4, .int f4)]) (fun _ => rfl) (Nat.le_of_ble_eq_true rfl) dX1_isWay_57 (fun x7 => ?_)
        refine j_goto (pc := 60) (tgt := 3) hX rfl dX1_isWay_60 ?_
        refine j_locs [1, 2, 3, 4, 5, 0] rfl ?_
        exact ih x7 h3
set_option maxHeartbeats 4000000 in
set_option maxRecDepth 100000 in
theorem cA_isWay_t   (a1 : Nat) (a2 : Int32) (a3 : Int32) (a4 : Int32) (h : HP) (rr : Int32 × HP) (e : cA_isWay a1 a2 a3 a4 h = some rr) : Cn cV yX1_isWay (ws_ yX1_isWay cX1_isWay 6 (some .boolean)) 3 40 (fun z => [.ref (z + 0), .ref (z + a1), .int a2, .int a3, .int a4]) h (fun z => eI z rr.1) rr.2 := by
  refine cn_of (e1 := eI) (fun z => [(0, .ref (z + 0)), (1, .ref (z + a1)), (2, .int a2), (3, .int a3), (4, .int a4)]) cV_ok (cA_isWay_m a1 a2 a3 a4 h _ e) ymX1_isWay (fun _ => rfl) (fun _ => Nat.le_of_ble_eq_true rfl) (fun X hX hr hnm => ?_) e
  have hX : okX cV X rr cX1_isWay RX1 6 3 40 := hX
  rw [cA_isWay]
  refine j_iconst (pc := 0) hX ic_0 dX1_isWay_0 ?_
  refine j_istore (pc := 1) hX (fun x1 => [(5, .int x1), (0, .ref (xz X + 0)), (1, .ref (xz X + a1)), (2, .int a2), (3, .int a3), (4, .int a4)]) (fun _ => rfl) (Nat.le_of_ble_eq_true rfl) dX1_isWay_1 (fun x1 => ?_)
  refine j_locs [1, 2, 3, 4, 5, 0] rfl ?_
  refine cA_isWay_3_w hX hr a1 a2 a3 a4 _ (fun  h8 => ?_) FU x1 h
  refine j_aload_n (pc := 63) hX 0 rfl dX1_isWay_63 ?_
  refine j_grd fun g9 => ?_
  refine c_getR (pc := 64) hX fgX1_214_X9.1 fgX1_214_X9.2 (k1_of g9.1) g9.2.1.1 dX1_isWay_64 ?_
  refine j_iload_n (pc := 67) hX 1 rfl dX1_isWay_67 ?_
  refine j_iald (pc := 68) (n := 5) hX g9.2.2.1 dX1_isWay_68 (fun _ => ?_)
  refine j_iload_n (pc := 69) hX 2 rfl dX1_isWay_69 ?_
  refine j_ishr (pc := 70) hX dX1_isWay_70 ?_
  refine j_iconst (pc := 71) hX ic_1 dX1_isWay_71 ?_
  refine j_iand (pc := 72) hX dX1_isWay_72 ?_
  refine j_iconst (pc := 73) hX ic_1 dX1_isWay_73 ?_
  refine j_cne (pc := 74) (tgt := 81) hX rfl dX1_isWay_74 (fun _ => ?_) (fun _ => ?_)
  · refine j_iconst (pc := 77) hX ic_1 dX1_isWay_77 ?_
    refine j_goto (pc := 78) (tgt := 82) hX rfl dX1_isWay_78 ?_
    exact j_zret (pc := 82) hX (Or.inr rfl) hr dX1_isWay_82
  · refine j_iconst (pc := 81) hX ic_0 dX1_isWay_81 ?_
    exact j_zret (pc := 82) hX (Or.inl rfl) hr dX1_isWay_82
set_option maxHeartbeats 4000000 in
set_option maxRecDepth 100000 in
theorem cA_ways_52_w {X : CTX} {rr : Int32 × HP} (f : Nat → Int32 → Int32 → Int32 → Int32 → Int32 → HP → Option (Int32 × HP)) (F L : Nat) (hf : okWays f F L) (hX : okX cV X rr cX1_ways RX1 11 (F + 164) (L + 3862)) (hr : (xh X).sig.returnType = some .boolean) (f1 : Nat) (f2 : Int32) (f3 : Int32) (f4 : Int32) (f5 : Int32) (f6 : Int32) (f7 : Nat) (f8 : Int32) (f9 : Int32) (k : HP → Option (Int32 × HP)) (hk : ∀  (h : HP), jG cV X evI rr (k  h) 144 [(0, .ref (xz X + 0)), (1, .ref (xz X + f1)), (2, .int f2), (3, .int f3), (4, .int f4), (5, .int f5), (6, .int f6), (7, .ref (xz X + f7)), (8, .int f8), (9, .int f9)] [] h) : ∀ (n : Nat) (v10 : Int32) (h : HP), jG cV X evI rr (cA_ways_52 f f1 f2 f3 f4 f5 f6 f7 f8 f9 k n v10 h) 52 [(0, .ref (xz X + 0)), (1, .ref (xz X + f1)), (2, .int f2), (3, .int f3), (4, .int f4), (5, .int f5), (6, .int f6), (7, .ref (xz X + f7)), (8, .int f8), (9, .int f9), (10, .int v10)] [] h := by
  intro n
  induction n with
  | zero =>
    intro v10 h
    exact j_none
  | succ n ih =>
    intro v10 h
    rw [cA_ways_52]
    refine j_iload (pc := 52) hX 10 rfl dX1_ways_52 ?_
    refine j_aload_n (pc := 54) hX 0 rfl dX1_ways_54 ?_
    refine j_callV (pc := 55) (e1 := eI) (a := 0) (As := fun z => []) (rest := [.int v10]) hX (fun r e => cA_questions_t h r e) ymX1_questions (lw_V q1042 q1044 qs35 q140 q1045) rfl ckX1 rfl ⟨by omega, by omega⟩ rfl rfl (Nat.le_of_ble_eq_true rfl) dX1_ways_55 (fun r12 h13 => ?_)
    refine j_cge (pc := 58) (tgt := 144) hX rfl dX1_ways_58 (fun _ => ?_) (fun _ => ?_)
    · refine j_locs [0, 1, 2, 3, 4, 5, 6, 7, 8, 9] rfl ?_
      exact hk h13
    · refine j_aload_n (pc := 61) hX 1 rfl dX1_ways_61 ?_
      refine j_iload (pc := 62) hX 8 rfl dX1_ways_62 ?_
      refine j_iload (pc := 64) hX 9 rfl dX1_ways_64 ?_
      refine j_iload (pc := 66) hX 10 rfl dX1_ways_66 ?_
      refine j_iconst (pc := 68) hX ic_1 dX1_ways_68 ?_
      refine j_grd fun g16 => ?_
      refine j_callV (pc := 69) (e1 := eI) (a := f1) (As := fun z => [.int f8, .int f9, .int v10, .int (1 : Int32)]) (rest := []) hX (fun r e => cS_can_t f1 f8 f9 v10 (1 : Int32) h13 r e) ymX9_can (lw_V q1061 q1062 q1063 q151 q1064) rfl ckX9 (k1_of g16.1) ⟨by omega, by omega⟩ rfl rfl (Nat.le_of_ble_eq_true rfl) dX1_ways_69 (fun r14 h15 => ?_)
      refine j_ifne (pc := 72) (tgt := 78) hX rfl dX1_ways_72 (fun _ => ?_) (fun _ => ?_)
      · refine j_goto (pc := 75) (tgt := 138) hX rfl dX1_ways_75 ?_
        refine j_iinc (pc := 138) hX 10 rfl (1 : Int32) ic_1 (fun x17 => [(10, .int x17), (0, .ref (xz X + 0)), (1, .ref (xz X + f1)), (2, .int f2), (3, .int f3), (4, .int f4), (5, .int f5), (6, .int f6), (7, .ref (xz X + f7)), (8, .int f8), (9, .int f9)]) (fun _ => rfl) (Nat.le_of_ble_eq_true rfl) dX1_ways_138 (fun x17 => ?_)
        refine j_goto (pc := 141) (tgt := 52) hX rfl dX1_ways_141 ?_
        refine j_locs [1, 2, 3, 4, 5, 6, 7, 8, 9, 10, 0] rfl ?_
        exact ih x17 h15
      · refine j_aload (pc := 78) hX 7 rfl dX1_ways_78 ?_
        refine j_aload_n (pc := 80) hX 1 rfl dX1_ways_80 ?_
        refine j_grd fun g20 => ?_
        refine j_callV (pc := 81) (e1 := eV) (a := f7) (As := fun z => [.ref (z + f1)]) (rest := []) hX (fun r e => cS_become_t f7 f1 h15 r e) ymX9_become (lw_V q1159 q1160 q1161 q151 q1162) rfl ckX9 (k1_of g20.1) ⟨by omega, by omega⟩ rfl rfl (Nat.le_of_ble_eq_true rfl) dX1_ways_81 (fun r18 h19 => ?_)
        refine j_aload (pc := 84) hX 7 rfl dX1_ways_84 ?_
        refine j_iload (pc := 86) hX 8 rfl dX1_ways_86 ?_
        refine j_iload (pc := 88) hX 9 rfl dX1_ways_88 ?_
        refine j_iload (pc := 90) hX 10 rfl dX1_ways_90 ?_
        refine j_iconst (pc := 92) hX ic_0 dX1_ways_92 ?_
        refine j_grd fun g23 => ?_
        refine j_callV (pc := 93) (e1 := eI) (a := f7) (As := fun z => [.int f8, .int f9, .int v10, .int (0 : Int32)]) (rest := []) hX (fun r e => cS_ask_t f7 f8 f9 v10 (0 : Int32) h19 r e) ymX9_ask (lw_V q1163 q1164 q1165 q151 q1166) rfl ckX9 (k1_of g23.1) ⟨by omega, by omega⟩ rfl rfl (Nat.le_of_ble_eq_true rfl) dX1_ways_93 (fun r21 h22 => ?_)
        refine j_pop (pc := 96) hX rfl dX1_ways_96 ?_
        refine j_aload_n (pc := 97) hX 0 rfl dX1_ways_97 ?_
        refine c_getR (pc := 98) hX fgX1_112_X1.1 fgX1_112_X1.2 rfl rfl dX1_ways_98 ?_
        refine j_iload_n (pc := 101) hX 2 rfl dX1_ways_101 ?_
        refine j_bipush (pc := 102) hX bp_100 dX1_ways_102 ?_
        refine j_iload (pc := 104) hX 8 rfl dX1_ways_104 ?_
        refine j_imul (pc := 106) hX dX1_ways_106 ?_
        refine j_bipush (pc := 107) hX bp_10 dX1_ways_107 ?_
        refine j_iload (pc := 109) hX 9 rfl dX1_ways_109 ?_
        refine j_imul (pc := 111) hX dX1_ways_111 ?_
        refine j_iadd (pc := 112) hX dX1_ways_112 ?_
        refine j_iload (pc := 113) hX 10 rfl dX1_ways_113 ?_
        refine j_iadd (pc := 115) hX dX1_ways_115 ?_
        refine c_iast (pc := 116) (n := 2) hX rfl dX1_ways_116 (fun h24 q25 q26 => ?_)
        refine j_aload_n (pc := 117) hX 0 rfl dX1_ways_117 ?_
        refine j_aload (pc := 118) hX 7 rfl dX1_ways_118 ?_
        refine j_iload_n (pc := 120) hX 2 rfl dX1_ways_120 ?_
        refine j_iconst (pc := 121) hX ic_1 dX1_ways_121 ?_
        refine j_iadd (pc := 122) hX dX1_ways_122 ?_
        refine j_iload_n (pc := 123) hX 3 rfl dX1_ways_123 ?_
        refine j_iload (pc := 124) hX 4 rfl dX1_ways_124 ?_
        refine j_iload (pc := 126) hX 5 rfl dX1_ways_126 ?_
        refine j_iload (pc := 128) hX 6 rfl dX1_ways_128 ?_
        refine j_callV (pc := 130) (e1 := eI) (a := 0) (As := fun z => [.ref (z + f7), .int (f2 + (1 : Int32)), .int f3, .int f4, .int f5, .int f6]) (rest := []) hX (fun r e => hf.1 f7 (f2 + (1 : Int32)) f3 f4 f5 f6 h24 r e) ymX1_ways (lw_V q1309 q1311 qs48 q140 q1312) rfl ckX1 rfl ⟨by omega, by omega⟩ rfl rfl (Nat.le_of_ble_eq_true rfl) dX1_ways_130 (fun r27 h28 => ?_)
        refine j_ifeq (pc := 133) (tgt := 138) hX rfl dX1_ways_133 (fun _ => ?_) (fun _ => ?_)
        · refine j_iinc (pc := 138) hX 10 rfl (1 : Int32) ic_1 (fun x29 => [(10, .int x29), (0, .ref (xz X + 0)), (1, .ref (xz X + f1)), (2, .int f2), (3, .int f3), (4, .int f4), (5, .int f5), (6, .int f6), (7, .ref (xz X + f7)), (8, .int f8), (9, .int f9)]) (fun _ => rfl) (Nat.le_of_ble_eq_true rfl) dX1_ways_138 (fun x29 => ?_)
          refine j_goto (pc := 141) (tgt := 52) hX rfl dX1_ways_141 ?_
          refine j_locs [1, 2, 3, 4, 5, 6, 7, 8, 9, 10, 0] rfl ?_
          exact ih x29 h28
        · refine j_iconst (pc := 136) hX ic_1 dX1_ways_136 ?_
          exact j_zret (pc := 137) hX (Or.inr rfl) hr dX1_ways_137
set_option maxHeartbeats 4000000 in
set_option maxRecDepth 100000 in
theorem cA_ways_40_w {X : CTX} {rr : Int32 × HP} (f : Nat → Int32 → Int32 → Int32 → Int32 → Int32 → HP → Option (Int32 × HP)) (F L : Nat) (hf : okWays f F L) (hX : okX cV X rr cX1_ways RX1 11 (F + 164) (L + 3862)) (hr : (xh X).sig.returnType = some .boolean) (f1 : Nat) (f2 : Int32) (f3 : Int32) (f4 : Int32) (f5 : Int32) (f6 : Int32) (f7 : Nat) (f8 : Int32) (k : HP → Option (Int32 × HP)) (hk : ∀  (h : HP), jG cV X evI rr (k  h) 150 [(0, .ref (xz X + 0)), (1, .ref (xz X + f1)), (2, .int f2), (3, .int f3), (4, .int f4), (5, .int f5), (6, .int f6), (7, .ref (xz X + f7)), (8, .int f8)] [] h) : ∀ (n : Nat) (v9 : Int32) (h : HP), jG cV X evI rr (cA_ways_40 f f1 f2 f3 f4 f5 f6 f7 f8 k n v9 h) 40 [(0, .ref (xz X + 0)), (1, .ref (xz X + f1)), (2, .int f2), (3, .int f3), (4, .int f4), (5, .int f5), (6, .int f6), (7, .ref (xz X + f7)), (8, .int f8), (9, .int v9)] [] h := by
  intro n
  induction n with
  | zero =>
    intro v9 h
    exact j_none
  | succ n ih =>
    intro v9 h
    rw [cA_ways_40]
    refine j_iload (pc := 40) hX 9 rfl dX1_ways_40 ?_
    refine j_aload_n (pc := 42) hX 0 rfl dX1_ways_42 ?_
    refine j_callV (pc := 43) (e1 := eI) (a := 0) (As := fun z => []) (rest := [.int v9]) hX (fun r e => cA_persons_t h r e) ymX1_persons (lw_V q1060 q415 qs0 q140 q416) rfl ckX1 rfl ⟨by omega, by omega⟩ rfl rfl (Nat.le_of_ble_eq_true rfl) dX1_ways_43 (fun r9 h10 => ?_)
    refine j_cge (pc := 46) (tgt := 150) hX rfl dX1_ways_46 (fun _ => ?_) (fun _ => ?_)
    · refine j_locs [0, 1, 2, 3, 4, 5, 6, 7, 8] rfl ?_
      exact hk h10
    · refine j_iconst (pc := 49) hX ic_0 dX1_ways_49 ?_
      refine j_istore (pc := 50) hX (fun x11 => [(10, .int x11), (0, .ref (xz X + 0)), (1, .ref (xz X + f1)), (2, .int f2), (3, .int f3), (4, .int f4), (5, .int f5), (6, .int f6), (7, .ref (xz X + f7)), (8, .int f8), (9, .int v9)]) (fun _ => rfl) (Nat.le_of_ble_eq_true rfl) dX1_ways_50 (fun x11 => ?_)
      refine j_locs [1, 2, 3, 4, 5, 6, 7, 8, 9, 10, 0] rfl ?_
      refine cA_ways_52_w f F L hf hX hr f1 f2 f3 f4 f5 f6 f7 f8 v9 _ (fun  h30 => ?_) FU x11 h10
      refine j_iinc (pc := 144) hX 9 rfl (1 : Int32) ic_1 (fun x31 => [(9, .int x31), (0, .ref (xz X + 0)), (1, .ref (xz X + f1)), (2, .int f2), (3, .int f3), (4, .int f4), (5, .int f5), (6, .int f6), (7, .ref (xz X + f7)), (8, .int f8)]) (fun _ => rfl) (Nat.le_of_ble_eq_true rfl) dX1_ways_144 (fun x31 => ?_)
      refine j_goto (pc := 147) (tgt := 40) hX rfl dX1_ways_147 ?_
      refine j_locs [1, 2, 3, 4, 5, 6, 7, 8, 9, 0] rfl ?_
      exact ih x31 h30
set_option maxHeartbeats 4000000 in
set_option maxRecDepth 100000 in
theorem cA_ways_28_w {X : CTX} {rr : Int32 × HP} (f : Nat → Int32 → Int32 → Int32 → Int32 → Int32 → HP → Option (Int32 × HP)) (F L : Nat) (hf : okWays f F L) (hX : okX cV X rr cX1_ways RX1 11 (F + 164) (L + 3862)) (hr : (xh X).sig.returnType = some .boolean) (f1 : Nat) (f2 : Int32) (f3 : Int32) (f4 : Int32) (f5 : Int32) (f6 : Int32) (f7 : Nat) (k : HP → Option (Int32 × HP)) (hk : ∀  (h : HP), jG cV X evI rr (k  h) 156 [] [] h) : ∀ (n : Nat) (v8 : Int32) (h : HP), jG cV X evI rr (cA_ways_28 f f1 f2 f3 f4 f5 f6 f7 k n v8 h) 28 [(0, .ref (xz X + 0)), (1, .ref (xz X + f1)), (2, .int f2), (3, .int f3), (4, .int f4), (5, .int f5), (6, .int f6), (7, .ref (xz X + f7)), (8, .int v8)] [] h := by
  intro n
  induction n with
  | zero =>
    intro v8 h
    exact j_none
  | succ n ih =>
    intro v8 h
    rw [cA_ways_28]
    refine j_iload (pc := 28) hX 8 rfl dX1_ways_28 ?_
    refine j_aload_n (pc := 30) hX 0 rfl dX1_ways_30 ?_
    refine j_callV (pc := 31) (e1 := eI) (a := 0) (As := fun z => []) (rest := [.int v8]) hX (fun r e => cA_persons_t h r e) ymX1_persons (lw_V q1060 q415 qs0 q140 q416) rfl ckX1 rfl ⟨by omega, by omega⟩ rfl rfl (Nat.le_of_ble_eq_true rfl) dX1_ways_31 (fun r6 h7 => ?_)
    refine j_cge (pc := 34) (tgt := 156) hX rfl dX1_ways_34 (fun _ => ?_) (fun _ => ?_)
    · refine j_locs [] rfl ?_
      exact hk h7
    · refine j_iconst (pc := 37) hX ic_0 dX1_ways_37 ?_
      refine j_istore (pc := 38) hX (fun x8 => [(9, .int x8), (0, .ref (xz X + 0)), (1, .ref (xz X + f1)), (2, .int f2), (3, .int f3), (4, .int f4), (5, .int f5), (6, .int f6), (7, .ref (xz X + f7)), (8, .int v8)]) (fun _ => rfl) (Nat.le_of_ble_eq_true rfl) dX1_ways_38 (fun x8 => ?_)
      refine j_locs [1, 2, 3, 4, 5, 6, 7, 8, 9, 0] rfl ?_
      refine cA_ways_40_w f F L hf hX hr f1 f2 f3 f4 f5 f6 f7 v8 _ (fun  h32 => ?_) FU x8 h7
      refine j_iinc (pc := 150) hX 8 rfl (1 : Int32) ic_1 (fun x33 => [(8, .int x33), (0, .ref (xz X + 0)), (1, .ref (xz X + f1)), (2, .int f2), (3, .int f3), (4, .int f4), (5, .int f5), (6, .int f6), (7, .ref (xz X + f7))]) (fun _ => rfl) (Nat.le_of_ble_eq_true rfl) dX1_ways_150 (fun x33 => ?_)
      refine j_goto (pc := 153) (tgt := 28) hX rfl dX1_ways_153 ?_
      refine j_locs [1, 2, 3, 4, 5, 6, 7, 8, 0] rfl ?_
      exact ih x33 h32
set_option maxHeartbeats 4000000 in
set_option maxRecDepth 100000 in
theorem cA_ways_t (f : Nat → Int32 → Int32 → Int32 → Int32 → Int32 → HP → Option (Int32 × HP)) (F L : Nat) (hf : okWays f F L)  (a1 : Nat) (a2 : Int32) (a3 : Int32) (a4 : Int32) (a5 : Int32) (a6 : Int32) (h : HP) (rr : Int32 × HP) (e : cA_ways f a1 a2 a3 a4 a5 a6 h = some rr) : Cn cV yX1_ways (ws_ yX1_ways cX1_ways 11 (some .boolean)) (F + 164) (L + 3862) (fun z => [.ref (z + 0), .ref (z + a1), .int a2, .int a3, .int a4, .int a5, .int a6]) h (fun z => eI z rr.1) rr.2 := by
  refine cn_of (e1 := eI) (fun z => [(0, .ref (z + 0)), (1, .ref (z + a1)), (2, .int a2), (3, .int a3), (4, .int a4), (5, .int a5), (6, .int a6)]) cV_ok (cA_ways_m f (hf.2) a1 a2 a3 a4 a5 a6 h _ e) ymX1_ways (fun _ => rfl) (fun _ => Nat.le_of_ble_eq_true rfl) (fun X hX hr hnm => ?_) e
  have hX : okX cV X rr cX1_ways RX1 11 (F + 164) (L + 3862) := hX
  rw [cA_ways]
  refine j_iload_n (pc := 0) hX 2 rfl dX1_ways_0 ?_
  refine j_iload_n (pc := 1) hX 3 rfl dX1_ways_1 ?_
  refine j_cne (pc := 2) (tgt := 17) hX rfl dX1_ways_2 (fun _ => ?_) (fun _ => ?_)
  · refine j_aload_n (pc := 5) hX 0 rfl dX1_ways_5 ?_
    refine j_aload_n (pc := 6) hX 1 rfl dX1_ways_6 ?_
    refine j_iload (pc := 7) hX 4 rfl dX1_ways_7 ?_
    refine j_iload (pc := 9) hX 5 rfl dX1_ways_9 ?_
    refine j_iload (pc := 11) hX 6 rfl dX1_ways_11 ?_
    refine j_callV (pc := 13) (e1 := eI) (a := 0) (As := fun z => [.ref (z + a1), .int a4, .int a5, .int a6]) (rest := []) hX (fun r e => cA_isWay_t a1 a4 a5 a6 h r e) ymX1_isWay (lw_V q1313 q1315 qs49 q140 q1316) rfl ckX1 rfl ⟨by omega, by omega⟩ rfl rfl (Nat.le_of_ble_eq_true rfl) dX1_ways_13 (fun r1 h2 => ?_)
    refine j_grd fun g3 => ?_
    exact j_zret (pc := 16) hX g3 hr dX1_ways_16
  · refine j_aload_n (pc := 17) hX 0 rfl dX1_ways_17 ?_
    refine c_getR (pc := 18) hX fgX1_109_X1.1 fgX1_109_X1.2 rfl rfl dX1_ways_18 ?_
    refine j_iload_n (pc := 21) hX 2 rfl dX1_ways_21 ?_
    refine j_aald (pc := 22) (n := 2) (q := 7) hX (Nat.le_of_ble_eq_true rfl) (fun _ => rfl) rfl dX1_ways_22 (fun b4 => ?_)
    refine j_astore (pc := 23) (ls' := [(7, .ref (xz X + b4)), (0, .ref (xz X + 0)), (1, .ref (xz X + a1)), (2, .int a2), (3, .int a3), (4, .int a4), (5, .int a5), (6, .int a6)]) hX rfl (Nat.le_of_ble_eq_true rfl) dX1_ways_23 ?_
    refine j_iconst (pc := 25) hX ic_0 dX1_ways_25 ?_
    refine j_istore (pc := 26) hX (fun x5 => [(8, .int x5), (7, .ref (xz X + b4)), (0, .ref (xz X + 0)), (1, .ref (xz X + a1)), (2, .int a2), (3, .int a3), (4, .int a4), (5, .int a5), (6, .int a6)]) (fun _ => rfl) (Nat.le_of_ble_eq_true rfl) dX1_ways_26 (fun x5 => ?_)
    refine j_locs [2, 3, 4, 5, 6, 7, 8, 1, 0] rfl ?_
    refine cA_ways_28_w f F L hf hX hr a1 a2 a3 a4 a5 a6 b4 _ (fun  h34 => ?_) FU x5 h
    refine j_iconst (pc := 156) hX ic_0 dX1_ways_156 ?_
    exact j_zret (pc := 157) hX (Or.inl rfl) hr dX1_ways_157
theorem cA_waysN_c : ∀ n : Nat, okWays (cA_waysN n) (164 * n) (3862 * n) := by
  intro n
  induction n with
  | zero => exact ⟨fun x0 x1 x2 x3 x4 x5 h rr e => (by cases e), cA_waysN_m 0⟩
  | succ n ih => exact ⟨fun x0 x1 x2 x3 x4 x5 h rr e => cA_ways_t (cA_waysN n) _ _ ih x0 x1 x2 x3 x4 x5 h rr e, cA_waysN_m (n + 1)⟩
set_option maxHeartbeats 4000000 in
set_option maxRecDepth 100000 in
theorem cA_layWay_8_w {X : CTX} {rr : Unit × HP}  (hX : okX cV X rr cX1_layWay RX1 6 657 15478) (hr : (xh X).sig.returnType = none) (f1 : Int32) (f2 : Int32) (f3 : Int32) (f4 : Int32) (k : HP → Option (Unit × HP)) (hk : ∀  (h : HP), jG cV X evV rr (k  h) 52 [(0, .ref (xz X + 0))] [] h) : ∀ (n : Nat) (v5 : Int32) (h : HP), jG cV X evV rr (cA_layWay_8 f1 f2 f3 f4 k n v5 h) 8 [(0, .ref (xz X + 0)), (1, .int f1), (2, .int f2), (3, .int f3), (4, .int f4), (5, .int v5)] [] h := by
  intro n
  induction n with
  | zero =>
    intro v5 h
    exact j_none
  | succ n ih =>
    intro v5 h
    rw [cA_layWay_8]
    refine j_iload (pc := 8) hX 5 rfl dX1_layWay_8 ?_
    refine j_iload (pc := 10) hX 4 rfl dX1_layWay_10 ?_
    refine j_cgt (pc := 12) (tgt := 52) hX rfl dX1_layWay_12 (fun _ => ?_) (fun _ => ?_)
    · refine j_locs [0] rfl ?_
      exact hk h
    · refine j_aload_n (pc := 15) hX 0 rfl dX1_layWay_15 ?_
      refine c_getI (pc := 16) hX fgX1_318_X1.1 fgX1_318_X1.2 rfl dX1_layWay_16 ?_
      refine j_iconst (pc := 19) hX ic_m1 dX1_layWay_19 ?_
      refine j_cne (pc := 20) (tgt := 52) hX rfl dX1_layWay_20 (fun _ => ?_) (fun _ => ?_)
      · refine j_aload_n (pc := 23) hX 0 rfl dX1_layWay_23 ?_
        refine j_aload_n (pc := 24) hX 0 rfl dX1_layWay_24 ?_
        refine c_getR (pc := 25) hX fgX1_95_X1.1 fgX1_95_X1.2 rfl rfl dX1_layWay_25 ?_
        refine j_iconst (pc := 28) hX ic_0 dX1_layWay_28 ?_
        refine j_iload (pc := 29) hX 5 rfl dX1_layWay_29 ?_
        refine j_iload_n (pc := 31) hX 1 rfl dX1_layWay_31 ?_
        refine j_iload_n (pc := 32) hX 2 rfl dX1_layWay_32 ?_
        refine j_iload_n (pc := 33) hX 3 rfl dX1_layWay_33 ?_
        refine j_callV (pc := 34) (e1 := eI) (a := 0) (As := fun z => [.ref (z + 20), .int (0 : Int32), .int v5, .int f1, .int f2, .int f3]) (rest := []) hX (fun r e => (cA_waysN_c 4).1 20 (0 : Int32) v5 f1 f2 f3 h r e) ymX1_ways (lw_V q1309 q1311 qs48 q140 q1312) rfl ckX1 rfl ⟨Nat.le_of_ble_eq_true rfl, Nat.le_of_ble_eq_true rfl⟩ rfl rfl (Nat.le_of_ble_eq_true rfl) dX1_layWay_34 (fun r5 h6 => ?_)
        refine j_ifeq (pc := 37) (tgt := 46) hX rfl dX1_layWay_37 (fun _ => ?_) (fun _ => ?_)
        · refine j_iinc (pc := 46) hX 5 rfl (1 : Int32) ic_1 (fun x7 => [(5, .int x7), (0, .ref (xz X + 0)), (1, .int f1), (2, .int f2), (3, .int f3), (4, .int f4)]) (fun _ => rfl) (Nat.le_of_ble_eq_true rfl) dX1_layWay_46 (fun x7 => ?_)
          refine j_goto (pc := 49) (tgt := 8) hX rfl dX1_layWay_49 ?_
          refine j_locs [1, 2, 3, 4, 5, 0] rfl ?_
          exact ih x7 h6
        · refine j_aload_n (pc := 40) hX 0 rfl dX1_layWay_40 ?_
          refine j_iload (pc := 41) hX 5 rfl dX1_layWay_41 ?_
          refine c_putI (pc := 43) hX fwX1_318_X1.1 fwX1_318_X1.2 rfl dX1_layWay_43 (fun h8 q9 q10 => ?_)
          refine j_iinc (pc := 46) hX 5 rfl (1 : Int32) ic_1 (fun x11 => [(5, .int x11), (0, .ref (xz X + 0)), (1, .int f1), (2, .int f2), (3, .int f3), (4, .int f4)]) (fun _ => rfl) (Nat.le_of_ble_eq_true rfl) dX1_layWay_46 (fun x11 => ?_)
          refine j_goto (pc := 49) (tgt := 8) hX rfl dX1_layWay_49 ?_
          refine j_locs [1, 2, 3, 4, 5, 0] rfl ?_
          exact ih x11 h8
      · refine j_locs [0] rfl ?_
        exact hk h
set_option maxHeartbeats 4000000 in
set_option maxRecDepth 100000 in
theorem cA_layWay_55_w {X : CTX} {rr : Unit × HP}  (hX : okX cV X rr cX1_layWay RX1 6 657 15478) (hr : (xh X).sig.returnType = none)  (k : HP → Option (Unit × HP)) (hk : ∀  (h : HP), jG cV X evV rr (k  h) 84 [] [] h) : ∀ (n : Nat) (v5 : Int32) (h : HP), jG cV X evV rr (cA_layWay_55 k n v5 h) 55 [(0, .ref (xz X + 0)), (5, .int v5)] [] h := by
  intro n
  induction n with
  | zero =>
    intro v5 h
    exact j_none
  | succ n ih =>
    intro v5 h
    rw [cA_layWay_55]
    refine j_iload (pc := 55) hX 1 rfl dX1_layWay_55 ?_
    refine j_aload_n (pc := 57) hX 0 rfl dX1_layWay_57 ?_
    refine c_getI (pc := 58) hX fgX1_318_X1.1 fgX1_318_X1.2 rfl dX1_layWay_58 ?_
    refine j_cge (pc := 61) (tgt := 84) hX rfl dX1_layWay_61 (fun _ => ?_) (fun _ => ?_)
    · refine j_locs [] rfl ?_
      exact hk h
    · refine j_aload_n (pc := 64) hX 0 rfl dX1_layWay_64 ?_
      refine c_getR (pc := 65) hX fgX1_116_X1.1 fgX1_116_X1.2 rfl rfl dX1_layWay_65 ?_
      refine j_iload (pc := 68) hX 1 rfl dX1_layWay_68 ?_
      refine j_aload_n (pc := 70) hX 0 rfl dX1_layWay_70 ?_
      refine c_getR (pc := 71) hX fgX1_112_X1.1 fgX1_112_X1.2 rfl rfl dX1_layWay_71 ?_
      refine j_iload (pc := 74) hX 1 rfl dX1_layWay_74 ?_
      refine j_iald (pc := 76) (n := 2) hX rfl dX1_layWay_76 (fun _ => ?_)
      refine c_iast (pc := 77) (n := 2) hX rfl dX1_layWay_77 (fun h14 q15 q16 => ?_)
      refine j_iinc (pc := 78) hX 1 rfl (1 : Int32) ic_1 (fun x17 => [(5, .int x17), (0, .ref (xz X + 0))]) (fun _ => rfl) (Nat.le_of_ble_eq_true rfl) dX1_layWay_78 (fun x17 => ?_)
      refine j_goto (pc := 81) (tgt := 55) hX rfl dX1_layWay_81 ?_
      refine j_locs [1, 0] rfl ?_
      exact ih x17 h14
set_option maxHeartbeats 4000000 in
set_option maxRecDepth 100000 in
theorem cA_layWay_t   (a1 : Int32) (a2 : Int32) (a3 : Int32) (a4 : Int32) (h : HP) (rr : Unit × HP) (e : cA_layWay a1 a2 a3 a4 h = some rr) : Cn cV yX1_layWay (ws_ yX1_layWay cX1_layWay 6 (none)) 657 15478 (fun z => [.ref (z + 0), .int a1, .int a2, .int a3, .int a4]) h (fun z => eV z rr.1) rr.2 := by
  refine cn_of (e1 := eV) (fun z => [(0, .ref (z + 0)), (1, .int a1), (2, .int a2), (3, .int a3), (4, .int a4)]) cV_ok (cA_layWay_m a1 a2 a3 a4 h _ e) ymX1_layWay (fun _ => rfl) (fun _ => Nat.le_of_ble_eq_true rfl) (fun X hX hr hnm => ?_) e
  have hX : okX cV X rr cX1_layWay RX1 6 657 15478 := hX
  rw [cA_layWay]
  refine j_aload_n (pc := 0) hX 0 rfl dX1_layWay_0 ?_
  refine j_iconst (pc := 1) hX ic_m1 dX1_layWay_1 ?_
  refine c_putI (pc := 2) hX fwX1_318_X1.1 fwX1_318_X1.2 rfl dX1_layWay_2 (fun h1 q2 q3 => ?_)
  refine j_iconst (pc := 5) hX ic_0 dX1_layWay_5 ?_
  refine j_istore (pc := 6) hX (fun x4 => [(5, .int x4), (0, .ref (xz X + 0)), (1, .int a1), (2, .int a2), (3, .int a3), (4, .int a4)]) (fun _ => rfl) (Nat.le_of_ble_eq_true rfl) dX1_layWay_6 (fun x4 => ?_)
  refine j_locs [1, 2, 3, 4, 5, 0] rfl ?_
  refine cA_layWay_8_w hX hr a1 a2 a3 a4 _ (fun  h12 => ?_) FU x4 h1
  refine j_iconst (pc := 52) hX ic_0 dX1_layWay_52 ?_
  refine j_istore (pc := 53) hX (fun x13 => [(5, .int x13), (0, .ref (xz X + 0))]) (fun _ => rfl) (Nat.le_of_ble_eq_true rfl) dX1_layWay_53 (fun x13 => ?_)
  refine j_locs [1, 0] rfl ?_
  refine cA_layWay_55_w hX hr  _ (fun  h18 => ?_) FU x13 h12
  exact j_vret (pc := 84) hX hr dX1_layWay_84
set_option maxHeartbeats 4000000 in
set_option maxRecDepth 100000 in
theorem cA_way_t   (a1 : Int32) (a2 : Int32) (a3 : Int32) (a4 : Int32) (h : HP) (rr : Int32 × HP) (e : cA_way a1 a2 a3 a4 h = some rr) : Cn cV yX1_way (ws_ yX1_way cX1_way 5 (some .int)) 658 15503 (fun z => [.ref (z + 0), .int a1, .int a2, .int a3, .int a4]) h (fun z => eI z rr.1) rr.2 := by
  refine cn_of (e1 := eI) (fun z => [(0, .ref (z + 0)), (1, .int a1), (2, .int a2), (3, .int a3), (4, .int a4)]) cV_ok (cA_way_m a1 a2 a3 a4 h _ e) ymX1_way (fun _ => rfl) (fun _ => Nat.le_of_ble_eq_true rfl) (fun X hX hr hnm => ?_) e
  have hX : okX cV X rr cX1_way RX1 5 658 15503 := hX
  rw [cA_way]
  refine j_aload_n (pc := 0) hX 0 rfl dX1_way_0 ?_
  refine j_iload_n (pc := 1) hX 1 rfl dX1_way_1 ?_
  refine j_iload_n (pc := 2) hX 2 rfl dX1_way_2 ?_
  refine j_iload_n (pc := 3) hX 3 rfl dX1_way_3 ?_
  refine j_iload (pc := 4) hX 4 rfl dX1_way_4 ?_
  refine j_callV (pc := 6) (e1 := eI) (a := 0) (As := fun z => [.int a1, .int a2, .int a3, .int a4]) (rest := []) hX (fun r e => cA_isAsked_t a1 a2 a3 a4 h r e) ymX1_isAsked (lw_V q1300 q1302 qs46 q140 q1303) rfl ckX1 rfl ⟨Nat.le_of_ble_eq_true rfl, Nat.le_of_ble_eq_true rfl⟩ rfl rfl (Nat.le_of_ble_eq_true rfl) dX1_way_6 (fun r1 h2 => ?_)
  refine j_ifne (pc := 9) (tgt := 14) hX rfl dX1_way_9 (fun _ => ?_) (fun _ => ?_)
  · refine j_iconst (pc := 12) hX ic_m1 dX1_way_12 ?_
    exact j_iret (pc := 13) hX hr dX1_way_13
  · refine j_aload_n (pc := 14) hX 0 rfl dX1_way_14 ?_
    refine j_iload_n (pc := 15) hX 1 rfl dX1_way_15 ?_
    refine j_iload_n (pc := 16) hX 2 rfl dX1_way_16 ?_
    refine j_iload_n (pc := 17) hX 3 rfl dX1_way_17 ?_
    refine j_iload (pc := 18) hX 4 rfl dX1_way_18 ?_
    refine j_callV (pc := 20) (e1 := eV) (a := 0) (As := fun z => [.int a1, .int a2, .int a3, .int a4]) (rest := []) hX (fun r e => cA_layWay_t a1 a2 a3 a4 h2 r e) ymX1_layWay (lw_V q1305 q1307 qs47 q140 q1308) rfl ckX1 rfl ⟨Nat.le_of_ble_eq_true rfl, Nat.le_of_ble_eq_true rfl⟩ rfl rfl (Nat.le_of_ble_eq_true rfl) dX1_way_20 (fun r3 h4 => ?_)
    refine j_aload_n (pc := 23) hX 0 rfl dX1_way_23 ?_
    refine c_getI (pc := 24) hX fgX1_318_X1.1 fgX1_318_X1.2 rfl dX1_way_24 ?_
    refine j_iconst (pc := 27) hX ic_m1 dX1_way_27 ?_
    refine j_cne (pc := 28) (tgt := 36) hX rfl dX1_way_28 (fun _ => ?_) (fun _ => ?_)
    · refine j_bipush (pc := 31) hX bp_m2 dX1_way_31 ?_
      refine j_goto (pc := 33) (tgt := 40) hX rfl dX1_way_33 ?_
      exact j_iret (pc := 40) hX hr dX1_way_40
    · refine j_aload_n (pc := 36) hX 0 rfl dX1_way_36 ?_
      refine c_getI (pc := 37) hX fgX1_318_X1.1 fgX1_318_X1.2 rfl dX1_way_37 ?_
      exact j_iret (pc := 40) hX hr dX1_way_40
set_option maxHeartbeats 4000000 in
set_option maxRecDepth 100000 in
theorem cA_step_t   (a1 : Int32) (a2 : Int32) (a3 : Int32) (a4 : Int32) (a5 : Int32) (h : HP) (rr : Int32 × HP) (e : cA_step a1 a2 a3 a4 a5 h = some rr) : Cn cV yX1_step (ws_ yX1_step cX1_step 6 (some .int)) 658 15503 (fun z => [.ref (z + 0), .int a1, .int a2, .int a3, .int a4, .int a5]) h (fun z => eI z rr.1) rr.2 := by
  refine cn_of (e1 := eI) (fun z => [(0, .ref (z + 0)), (1, .int a1), (2, .int a2), (3, .int a3), (4, .int a4), (5, .int a5)]) cV_ok (cA_step_m a1 a2 a3 a4 a5 h _ e) ymX1_step (fun _ => rfl) (fun _ => Nat.le_of_ble_eq_true rfl) (fun X hX hr hnm => ?_) e
  have hX : okX cV X rr cX1_step RX1 6 658 15503 := hX
  rw [cA_step]
  refine j_aload_n (pc := 0) hX 0 rfl dX1_step_0 ?_
  refine j_iload_n (pc := 1) hX 1 rfl dX1_step_1 ?_
  refine j_iload_n (pc := 2) hX 2 rfl dX1_step_2 ?_
  refine j_iload_n (pc := 3) hX 3 rfl dX1_step_3 ?_
  refine j_iload (pc := 4) hX 4 rfl dX1_step_4 ?_
  refine j_callV (pc := 6) (e1 := eI) (a := 0) (As := fun z => [.int a1, .int a2, .int a3, .int a4]) (rest := []) hX (fun r e => cA_isAsked_t a1 a2 a3 a4 h r e) ymX1_isAsked (lw_V q1300 q1302 qs46 q140 q1303) rfl ckX1 rfl ⟨Nat.le_of_ble_eq_true rfl, Nat.le_of_ble_eq_true rfl⟩ rfl rfl (Nat.le_of_ble_eq_true rfl) dX1_step_6 (fun r1 h2 => ?_)
  refine j_ifeq (pc := 9) (tgt := 17) hX rfl dX1_step_9 (fun _ => ?_) (fun _ => ?_)
  · refine j_iconst (pc := 17) hX ic_m1 dX1_step_17 ?_
    exact j_iret (pc := 18) hX hr dX1_step_18
  · refine j_iload (pc := 12) hX 5 rfl dX1_step_12 ?_
    refine j_ifge (pc := 14) (tgt := 19) hX rfl dX1_step_14 (fun _ => ?_) (fun _ => ?_)
    · refine j_aload_n (pc := 19) hX 0 rfl dX1_step_19 ?_
      refine j_iload_n (pc := 20) hX 1 rfl dX1_step_20 ?_
      refine j_iload_n (pc := 21) hX 2 rfl dX1_step_21 ?_
      refine j_iload_n (pc := 22) hX 3 rfl dX1_step_22 ?_
      refine j_iload (pc := 23) hX 4 rfl dX1_step_23 ?_
      refine j_callV (pc := 25) (e1 := eV) (a := 0) (As := fun z => [.int a1, .int a2, .int a3, .int a4]) (rest := []) hX (fun r e => cA_layWay_t a1 a2 a3 a4 h2 r e) ymX1_layWay (lw_V q1305 q1307 qs47 q140 q1308) rfl ckX1 rfl ⟨Nat.le_of_ble_eq_true rfl, Nat.le_of_ble_eq_true rfl⟩ rfl rfl (Nat.le_of_ble_eq_true rfl) dX1_step_25 (fun r3 h4 => ?_)
      refine j_iload (pc := 28) hX 5 rfl dX1_step_28 ?_
      refine j_aload_n (pc := 30) hX 0 rfl dX1_step_30 ?_
      refine c_getI (pc := 31) hX fgX1_318_X1.1 fgX1_318_X1.2 rfl dX1_step_31 ?_
      refine j_cge (pc := 34) (tgt := 47) hX rfl dX1_step_34 (fun _ => ?_) (fun _ => ?_)
      · refine j_bipush (pc := 47) hX bp_m2 dX1_step_47 ?_
        exact j_iret (pc := 49) hX hr dX1_step_49
      · refine j_aload_n (pc := 37) hX 0 rfl dX1_step_37 ?_
        refine c_getR (pc := 38) hX fgX1_116_X1.1 fgX1_116_X1.2 rfl rfl dX1_step_38 ?_
        refine j_iload (pc := 41) hX 5 rfl dX1_step_41 ?_
        refine j_iald (pc := 43) (n := 2) hX rfl dX1_step_43 (fun _ => ?_)
        refine j_goto (pc := 44) (tgt := 49) hX rfl dX1_step_44 ?_
        exact j_iret (pc := 49) hX hr dX1_step_49
    · refine j_iconst (pc := 17) hX ic_m1 dX1_step_17 ?_
      exact j_iret (pc := 18) hX hr dX1_step_18
set_option maxHeartbeats 4000000 in
set_option maxRecDepth 100000 in
theorem cA_isTrap_87_w {X : CTX} {rr : Int32 × HP}  (hX : okX cV X rr cX1_isTrap RX1 6 164 3862) (hr : (xh X).sig.returnType = some .boolean) (f2 : Int32) (f4 : Int32) (k : HP → Option (Int32 × HP)) (hk : ∀  (h : HP), jG cV X evI rr (k  h) 141 [] [] h) : ∀ (n : Nat) (v5 : Int32) (h : HP), jG cV X evI rr (cA_isTrap_87 f2 f4 k n v5 h) 87 [(0, .ref (xz X + 0)), (2, .int f2), (4, .int f4), (5, .int v5)] [] h := by
  intro n
  induction n with
  | zero =>
    intro v5 h
    exact j_none
  | succ n ih =>
    intro v5 h
    rw [cA_isTrap_87]
    refine j_iload (pc := 87) hX 3 rfl dX1_isTrap_87 ?_
    refine j_aload_n (pc := 89) hX 0 rfl dX1_isTrap_89 ?_
    refine j_callV (pc := 90) (e1 := eI) (a := 0) (As := fun z => []) (rest := [.int v5]) hX (fun r e => cA_persons_t h r e) ymX1_persons (lw_V q1060 q415 qs0 q140 q416) rfl ckX1 rfl ⟨Nat.le_of_ble_eq_true rfl, Nat.le_of_ble_eq_true rfl⟩ rfl rfl (Nat.le_of_ble_eq_true rfl) dX1_isTrap_90 (fun r26 h27 => ?_)
    refine j_cge (pc := 93) (tgt := 141) hX rfl dX1_isTrap_93 (fun _ => ?_) (fun _ => ?_)
    · refine j_locs [] rfl ?_
      exact hk h27
    · refine j_iload (pc := 96) hX 3 rfl dX1_isTrap_96 ?_
      refine j_iload_n (pc := 98) hX 1 rfl dX1_isTrap_98 ?_
      refine j_ceq (pc := 99) (tgt := 135) hX rfl dX1_isTrap_99 (fun _ => ?_) (fun _ => ?_)
      · refine j_iinc (pc := 135) hX 3 rfl (1 : Int32) ic_1 (fun x28 => [(5, .int x28), (0, .ref (xz X + 0)), (2, .int f2), (4, .int f4)]) (fun _ => rfl) (Nat.le_of_ble_eq_true rfl) dX1_isTrap_135 (fun x28 => ?_)
        refine j_goto (pc := 138) (tgt := 87) hX rfl dX1_isTrap_138 ?_
        refine j_locs [1, 2, 3, 0] rfl ?_
        exact ih x28 h27
      · refine j_aload_n (pc := 102) hX 0 rfl dX1_isTrap_102 ?_
        refine c_getR (pc := 103) hX fgX1_95_X1.1 fgX1_95_X1.2 rfl rfl dX1_isTrap_103 ?_
        refine j_iload (pc := 106) hX 3 rfl dX1_isTrap_106 ?_
        refine j_iload_n (pc := 108) hX 1 rfl dX1_isTrap_108 ?_
        refine j_callV (pc := 109) (e1 := eI) (a := 20) (As := fun z => [.int v5, .int f2]) (rest := []) hX (fun r e => cS_areTogether_t 20 v5 f2 h27 r e) ymX9_areTogether (lw_V q1330 q1067 q1068 q151 q1069) rfl ckX9 rfl ⟨Nat.le_of_ble_eq_true rfl, Nat.le_of_ble_eq_true rfl⟩ rfl rfl (Nat.le_of_ble_eq_true rfl) dX1_isTrap_109 (fun r29 h30 => ?_)
        refine j_ifeq (pc := 112) (tgt := 135) hX rfl dX1_isTrap_112 (fun _ => ?_) (fun _ => ?_)
        · refine j_iinc (pc := 135) hX 3 rfl (1 : Int32) ic_1 (fun x31 => [(5, .int x31), (0, .ref (xz X + 0)), (2, .int f2), (4, .int f4)]) (fun _ => rfl) (Nat.le_of_ble_eq_true rfl) dX1_isTrap_135 (fun x31 => ?_)
          refine j_goto (pc := 138) (tgt := 87) hX rfl dX1_isTrap_138 ?_
          refine j_locs [1, 2, 3, 0] rfl ?_
          exact ih x31 h30
        · refine j_aload_n (pc := 115) hX 0 rfl dX1_isTrap_115 ?_
          refine c_getR (pc := 116) hX fgX1_95_X1.1 fgX1_95_X1.2 rfl rfl dX1_isTrap_116 ?_
          refine c_getR (pc := 119) hX fgX1_214_X9.1 fgX1_214_X9.2 rfl rfl dX1_isTrap_119 ?_
          refine j_iload (pc := 122) hX 3 rfl dX1_isTrap_122 ?_
          refine j_iald (pc := 124) (n := 5) hX rfl dX1_isTrap_124 (fun _ => ?_)
          refine j_iload (pc := 125) hX 2 rfl dX1_isTrap_125 ?_
          refine j_ishr (pc := 127) hX dX1_isTrap_127 ?_
          refine j_iconst (pc := 128) hX ic_1 dX1_isTrap_128 ?_
          refine j_iand (pc := 129) hX dX1_isTrap_129 ?_
          refine j_ifne (pc := 130) (tgt := 135) hX rfl dX1_isTrap_130 (fun _ => ?_) (fun _ => ?_)
          · refine j_iconst (pc := 133) hX ic_1 dX1_isTrap_133 ?_
            exact j_zret (pc := 134) hX (Or.inr rfl) hr dX1_isTrap_134
          · refine j_iinc (pc := 135) hX 3 rfl (1 : Int32) ic_1 (fun x32 => [(5, .int x32), (0, .ref (xz X + 0)), (2, .int f2), (4, .int f4)]) (fun _ => rfl) (Nat.le_of_ble_eq_true rfl) dX1_isTrap_135 (fun x32 => ?_)
            refine j_goto (pc := 138) (tgt := 87) hX rfl dX1_isTrap_138 ?_
            refine j_locs [1, 2, 3, 0] rfl ?_
            exact ih x32 h30
set_option maxHeartbeats 4000000 in
set_option maxRecDepth 100000 in
theorem cA_isTrap_t   (a1 : Int32) (a2 : Int32) (a3 : Int32) (h : HP) (rr : Int32 × HP) (e : cA_isTrap a1 a2 a3 h = some rr) : Cn cV yX1_isTrap (ws_ yX1_isTrap cX1_isTrap 6 (some .boolean)) 164 3862 (fun z => [.ref (z + 0), .int a1, .int a2, .int a3]) h (fun z => eI z rr.1) rr.2 := by
  refine cn_of (e1 := eI) (fun z => [(0, .ref (z + 0)), (1, .int a1), (2, .int a2), (3, .int a3)]) cV_ok (cA_isTrap_m a1 a2 a3 h _ e) ymX1_isTrap (fun _ => rfl) (fun _ => Nat.le_of_ble_eq_true rfl) (fun X hX hr hnm => ?_) e
  have hX : okX cV X rr cX1_isTrap RX1 6 164 3862 := hX
  rw [cA_isTrap]
  refine j_aload_n (pc := 0) hX 0 rfl dX1_isTrap_0 ?_
  refine c_getR (pc := 1) hX fgX1_95_X1.1 fgX1_95_X1.2 rfl rfl dX1_isTrap_1 ?_
  refine j_iload_n (pc := 4) hX 1 rfl dX1_isTrap_4 ?_
  refine j_iload_n (pc := 5) hX 2 rfl dX1_isTrap_5 ?_
  refine j_iload_n (pc := 6) hX 3 rfl dX1_isTrap_6 ?_
  refine j_iconst (pc := 7) hX ic_1 dX1_isTrap_7 ?_
  refine j_callV (pc := 8) (e1 := eI) (a := 20) (As := fun z => [.int a1, .int a2, .int a3, .int (1 : Int32)]) (rest := []) hX (fun r e => cS_can_t 20 a1 a2 a3 (1 : Int32) h r e) ymX9_can (lw_V q1061 q1062 q1063 q151 q1064) rfl ckX9 rfl ⟨Nat.le_of_ble_eq_true rfl, Nat.le_of_ble_eq_true rfl⟩ rfl rfl (Nat.le_of_ble_eq_true rfl) dX1_isTrap_8 (fun r1 h2 => ?_)
  refine j_ifne (pc := 11) (tgt := 16) hX rfl dX1_isTrap_11 (fun _ => ?_) (fun _ => ?_)
  · refine j_iconst (pc := 14) hX ic_0 dX1_isTrap_14 ?_
    exact j_zret (pc := 15) hX (Or.inl rfl) hr dX1_isTrap_15
  · refine j_aload_n (pc := 16) hX 0 rfl dX1_isTrap_16 ?_
    refine c_getR (pc := 17) hX fgX1_99_X1.1 fgX1_99_X1.2 rfl rfl dX1_isTrap_17 ?_
    refine j_aload_n (pc := 20) hX 0 rfl dX1_isTrap_20 ?_
    refine c_getR (pc := 21) hX fgX1_95_X1.1 fgX1_95_X1.2 rfl rfl dX1_isTrap_21 ?_
    refine j_callV (pc := 24) (e1 := eV) (a := 25) (As := fun z => [.ref (z + 20)]) (rest := []) hX (fun r e => cS_become_t 25 20 h2 r e) ymX9_become (lw_V q1159 q1160 q1161 q151 q1162) rfl ckX9 rfl ⟨Nat.le_of_ble_eq_true rfl, Nat.le_of_ble_eq_true rfl⟩ rfl rfl (Nat.le_of_ble_eq_true rfl) dX1_isTrap_24 (fun r3 h4 => ?_)
    refine j_aload_n (pc := 27) hX 0 rfl dX1_isTrap_27 ?_
    refine c_getR (pc := 28) hX fgX1_99_X1.1 fgX1_99_X1.2 rfl rfl dX1_isTrap_28 ?_
    refine j_iload_n (pc := 31) hX 1 rfl dX1_isTrap_31 ?_
    refine j_iload_n (pc := 32) hX 2 rfl dX1_isTrap_32 ?_
    refine j_iload_n (pc := 33) hX 3 rfl dX1_isTrap_33 ?_
    refine j_iconst (pc := 34) hX ic_0 dX1_isTrap_34 ?_
    refine j_callV (pc := 35) (e1 := eI) (a := 25) (As := fun z => [.int a1, .int a2, .int a3, .int (0 : Int32)]) (rest := []) hX (fun r e => cS_ask_t 25 a1 a2 a3 (0 : Int32) h4 r e) ymX9_ask (lw_V q1163 q1164 q1165 q151 q1166) rfl ckX9 rfl ⟨Nat.le_of_ble_eq_true rfl, Nat.le_of_ble_eq_true rfl⟩ rfl rfl (Nat.le_of_ble_eq_true rfl) dX1_isTrap_35 (fun r5 h6 => ?_)
    refine j_ifne (pc := 38) (tgt := 43) hX rfl dX1_isTrap_38 (fun _ => ?_) (fun _ => ?_)
    · refine j_iconst (pc := 41) hX ic_0 dX1_isTrap_41 ?_
      exact j_zret (pc := 42) hX (Or.inl rfl) hr dX1_isTrap_42
    · refine j_aload_n (pc := 43) hX 0 rfl dX1_isTrap_43 ?_
      refine c_getR (pc := 44) hX fgX1_88_X1.1 fgX1_88_X1.2 rfl rfl dX1_isTrap_44 ?_
      refine j_aload_n (pc := 47) hX 0 rfl dX1_isTrap_47 ?_
      refine j_onr fun b7 e8 => ?_
      refine c_getR (pc := 48) hX fgX1_13_X1.1 fgX1_13_X1.2 rfl e8 dX1_isTrap_48 ?_
      refine j_grd fun g9 => ?_
      refine c_getR (pc := 51) hX fgX1_29_X3.1 fgX1_29_X3.2 (k1_of g9.1) g9.2.1.2.2.1 dX1_isTrap_51 ?_
      refine j_iload_n (pc := 54) hX 3 rfl dX1_isTrap_54 ?_
      refine j_grd fun g12 => ?_
      refine j_callV (pc := 55) (e1 := eR) (a := (b7 + 5)) (As := fun z => [.int a3]) (rest := [.ref (xz X + 15)]) hX (fun r e => cL_get_t (b7 + 5) a3 h6 r e) ymJ2_get (lw_V q1046 q422 q423 q145 q424) rfl ckJ2 (k1_of g12.1) ⟨Nat.le_of_ble_eq_true rfl, Nat.le_of_ble_eq_true rfl⟩ rfl rfl (Nat.le_of_ble_eq_true rfl) dX1_isTrap_55 (fun r10 h11 => ?_)
      refine j_grd fun g13 => ?_
      refine j_castS (pc := 58) hX ckX14 g13 q1047 dX1_isTrap_58 ?_
      refine c_getI (pc := 61) hX fgX1_231_X14.1 fgX1_231_X14.2 g13 dX1_isTrap_61 ?_
      refine j_aald (pc := 64) (n := 4) (q := 6) hX (Nat.le_of_ble_eq_true rfl) (fun _ => rfl) rfl dX1_isTrap_64 (fun b14 => ?_)
      refine j_aload_n (pc := 65) hX 0 rfl dX1_isTrap_65 ?_
      refine j_onr fun b15 e16 => ?_
      refine c_getR (pc := 66) hX fgX1_13_X1.1 fgX1_13_X1.2 rfl e16 dX1_isTrap_66 ?_
      refine j_grd fun g17 => ?_
      refine c_getR (pc := 69) hX fgX1_29_X3.1 fgX1_29_X3.2 (k1_of g17.1) g17.2.1.2.2.1 dX1_isTrap_69 ?_
      refine j_iload_n (pc := 72) hX 3 rfl dX1_isTrap_72 ?_
      refine j_grd fun g20 => ?_
      refine j_callV (pc := 73) (e1 := eR) (a := (b15 + 5)) (As := fun z => [.int a3]) (rest := [.ref (xz X + b14)]) hX (fun r e => cL_get_t (b15 + 5) a3 h11 r e) ymJ2_get (lw_V q1046 q422 q423 q145 q424) rfl ckJ2 (k1_of g20.1) ⟨Nat.le_of_ble_eq_true rfl, Nat.le_of_ble_eq_true rfl⟩ rfl rfl (Nat.le_of_ble_eq_true rfl) dX1_isTrap_73 (fun r18 h19 => ?_)
      refine j_grd fun g21 => ?_
      refine j_castS (pc := 76) hX ckX14 g21 q1047 dX1_isTrap_76 ?_
      refine j_callD (pc := 79) (e1 := eI) (rest := []) (fun r22 h23 => ?_) (fun kk => ?_)
      · refine j_istore (pc := 82) hX (fun x24 => [(4, .int x24), (0, .ref (xz X + 0)), (1, .int a1), (2, .int a2), (3, .int a3)]) (fun _ => rfl) (Nat.le_of_ble_eq_true rfl) dX1_isTrap_82 (fun x24 => ?_)
        refine j_iconst (pc := 84) hX ic_0 dX1_isTrap_84 ?_
        refine j_istore (pc := 85) hX (fun x25 => [(5, .int x25), (4, .int x24), (0, .ref (xz X + 0)), (1, .int a1), (2, .int a2), (3, .int a3)]) (fun _ => rfl) (Nat.le_of_ble_eq_true rfl) dX1_isTrap_85 (fun x25 => ?_)
        refine j_locs [2, 4, 1, 0] rfl ?_
        refine cA_isTrap_87_w hX hr a2 x24 _ (fun  h33 => ?_) FU x25 h23
        refine j_iconst (pc := 141) hX ic_0 dX1_isTrap_141 ?_
        exact j_zret (pc := 142) hX (Or.inl rfl) hr dX1_isTrap_142
      · rw [cK_asks]
        refine j_calIf (fun g34 => ?_) (fun _ => ?_)
        · exact j_callU (pc := 79) (e1 := eI) (owner := "AskedCourt$Kind") (As := fun z => [.ref (z + r18)]) (rest := []) hX (fun r e => kX4_asks_t b14 r18 h19 r e) yo_cK_asks q1329 q1169 q1174 q1168 q146 q1176 (fun a s hts _ => va_Decl.of (hts _ q1168) (hts _ q1176)) ckX5 g34 ⟨Nat.le_of_ble_eq_true rfl, Nat.le_of_ble_eq_true rfl⟩ rfl rfl (Nat.le_of_ble_eq_true rfl) dX1_isTrap_79 kk
        refine j_calIf (fun g35 => ?_) (fun _ => ?_)
        · exact j_callU (pc := 79) (e1 := eI) (owner := "AskedCourt$Kind") (As := fun z => [.ref (z + r18)]) (rest := []) hX (fun r e => kX4_asks_t b14 r18 h19 r e) yo_cK_asks q1329 q1169 q1175 q1168 q146 q1176 (fun a s hts _ => va_Decl.of (hts _ q1168) (hts _ q1176)) ckX6 g35 ⟨Nat.le_of_ble_eq_true rfl, Nat.le_of_ble_eq_true rfl⟩ rfl rfl (Nat.le_of_ble_eq_true rfl) dX1_isTrap_79 kk
        refine j_calIf (fun g36 => ?_) (fun _ => ?_)
        · exact j_callU (pc := 79) (e1 := eI) (owner := "AskedCourt$Kind") (As := fun z => [.ref (z + r18)]) (rest := []) hX (fun r e => kX4_asks_t b14 r18 h19 r e) yo_cK_asks q1329 q1169 q1170 q1168 q146 q1176 (fun a s hts _ => va_Decl.of (hts _ q1168) (hts _ q1176)) ckX7 g36 ⟨Nat.le_of_ble_eq_true rfl, Nat.le_of_ble_eq_true rfl⟩ rfl rfl (Nat.le_of_ble_eq_true rfl) dX1_isTrap_79 kk
        refine j_calIf (fun g37 => ?_) (fun _ => ?_)
        · exact j_callU (pc := 79) (e1 := eI) (owner := "AskedCourt$Kind") (As := fun z => [.ref (z + r18)]) (rest := []) hX (fun r e => kX8_asks_t b14 r18 h19 r e) yo_cK_asks q1329 q1169 q1171 q1172 q150 q1173 (fun a s hts _ => va_Decl.of (hts _ q1168) (hts _ q1176)) ckX8 g37 ⟨Nat.le_of_ble_eq_true rfl, Nat.le_of_ble_eq_true rfl⟩ rfl rfl (Nat.le_of_ble_eq_true rfl) dX1_isTrap_79 kk
        exact j_calN
set_option maxHeartbeats 4000000 in
set_option maxRecDepth 100000 in
theorem cA_care_25_w {X : CTX} {rr : Int32 × HP}  (hX : okX cV X rr cX1_care RX1 5 165 3887) (hr : (xh X).sig.returnType = some .int) (f1 : Int32) (f3 : Int32) (k : Int32 → HP → Option (Int32 × HP)) (hk : ∀ (v2 : Int32) (h : HP), jG cV X evI rr (k v2 h) 61 [(0, .ref (xz X + 0)), (1, .int f1), (2, .int v2), (3, .int f3)] [] h) : ∀ (n : Nat) (v2 : Int32) (v4 : Int32) (h : HP), jG cV X evI rr (cA_care_25 f1 f3 k n v2 v4 h) 25 [(0, .ref (xz X + 0)), (1, .int f1), (2, .int v2), (3, .int f3), (4, .int v4)] [] h := by
  intro n
  induction n with
  | zero =>
    intro v2 v4 h
    exact j_none
  | succ n ih =>
    intro v2 v4 h
    rw [cA_care_25]
    refine j_iload (pc := 25) hX 4 rfl dX1_care_25 ?_
    refine j_aload_n (pc := 27) hX 0 rfl dX1_care_27 ?_
    refine j_callV (pc := 28) (e1 := eI) (a := 0) (As := fun z => []) (rest := [.int v4]) hX (fun r e => cA_persons_t h r e) ymX1_persons (lw_V q1060 q415 qs0 q140 q416) rfl ckX1 rfl ⟨Nat.le_of_ble_eq_true rfl, Nat.le_of_ble_eq_true rfl⟩ rfl rfl (Nat.le_of_ble_eq_true rfl) dX1_care_28 (fun r8 h9 => ?_)
    refine j_cge (pc := 31) (tgt := 61) hX rfl dX1_care_31 (fun _ => ?_) (fun _ => ?_)
    · refine j_locs [0, 1, 2, 3] rfl ?_
      exact hk v2 h9
    · refine j_iload_n (pc := 34) hX 2 rfl dX1_care_34 ?_
      refine j_aload_n (pc := 35) hX 0 rfl dX1_care_35 ?_
      refine j_iload (pc := 36) hX 4 rfl dX1_care_36 ?_
      refine j_iload_n (pc := 38) hX 1 rfl dX1_care_38 ?_
      refine j_iload_n (pc := 39) hX 3 rfl dX1_care_39 ?_
      refine j_callV (pc := 40) (e1 := eI) (a := 0) (As := fun z => [.int v4, .int f1, .int f3]) (rest := [.int v2]) hX (fun r e => cA_isTrap_t v4 f1 f3 h9 r e) ymX1_isTrap (lw_V q1325 q1327 qs50 q140 q1328) rfl ckX1 rfl ⟨Nat.le_of_ble_eq_true rfl, Nat.le_of_ble_eq_true rfl⟩ rfl rfl (Nat.le_of_ble_eq_true rfl) dX1_care_40 (fun r10 h11 => ?_)
      refine j_jon (fun (j12 : Int32 → Option (Int32 × HP)) => ∀ (s13 : Int32), jG cV X evI rr (j12 s13) 53 [(0, .ref (xz X + 0)), (1, .int f1), (3, .int f3), (4, .int v4)] [.int s13, .int v2] h11) ?_ ?_
      · intro s13
        refine j_ior (pc := 53) hX dX1_care_53 ?_
        refine j_istore_n (pc := 54) hX (fun x14 => [(2, .int x14), (0, .ref (xz X + 0)), (1, .int f1), (3, .int f3), (4, .int v4)]) (fun _ => rfl) (Nat.le_of_ble_eq_true rfl) dX1_care_54 (fun x14 => ?_)
        refine j_iinc (pc := 55) hX 4 rfl (1 : Int32) ic_1 (fun x15 => [(4, .int x15), (2, .int x14), (0, .ref (xz X + 0)), (1, .int f1), (3, .int f3)]) (fun _ => rfl) (Nat.le_of_ble_eq_true rfl) dX1_care_55 (fun x15 => ?_)
        refine j_goto (pc := 58) (tgt := 25) hX rfl dX1_care_58 ?_
        refine j_locs [2, 3, 1, 4, 0] rfl ?_
        exact ih x14 x15 h11
      · intro j12 hj12
        refine j_ifeq (pc := 43) (tgt := 52) hX rfl dX1_care_43 (fun _ => ?_) (fun _ => ?_)
        · refine j_iconst (pc := 52) hX ic_0 dX1_care_52 ?_
          refine j_locs [0, 1, 3, 4] rfl ?_
          exact hj12 (0 : Int32)
        · refine j_iconst (pc := 46) hX ic_1 dX1_care_46 ?_
          refine j_iload_n (pc := 47) hX 3 rfl dX1_care_47 ?_
          refine j_ishl (pc := 48) hX dX1_care_48 ?_
          refine j_goto (pc := 49) (tgt := 53) hX rfl dX1_care_49 ?_
          refine j_locs [0, 1, 3, 4] rfl ?_
          exact hj12 ((1 : Int32) <<< (f3 &&& 31))
set_option maxHeartbeats 4000000 in
set_option maxRecDepth 100000 in
theorem cA_care_14_w {X : CTX} {rr : Int32 × HP}  (hX : okX cV X rr cX1_care RX1 5 165 3887) (hr : (xh X).sig.returnType = some .int) (f1 : Int32) (k : Int32 → HP → Option (Int32 × HP)) (hk : ∀ (v2 : Int32) (h : HP), jG cV X evI rr (k v2 h) 67 [(2, .int v2)] [] h) : ∀ (n : Nat) (v2 : Int32) (v3 : Int32) (h : HP), jG cV X evI rr (cA_care_14 f1 k n v2 v3 h) 14 [(0, .ref (xz X + 0)), (1, .int f1), (2, .int v2), (3, .int v3)] [] h := by
  intro n
  induction n with
  | zero =>
    intro v2 v3 h
    exact j_none
  | succ n ih =>
    intro v2 v3 h
    rw [cA_care_14]
    refine j_iload_n (pc := 14) hX 3 rfl dX1_care_14 ?_
    refine j_aload_n (pc := 15) hX 0 rfl dX1_care_15 ?_
    refine j_callV (pc := 16) (e1 := eI) (a := 0) (As := fun z => []) (rest := [.int v3]) hX (fun r e => cA_questions_t h r e) ymX1_questions (lw_V q1042 q1044 qs35 q140 q1045) rfl ckX1 rfl ⟨Nat.le_of_ble_eq_true rfl, Nat.le_of_ble_eq_true rfl⟩ rfl rfl (Nat.le_of_ble_eq_true rfl) dX1_care_16 (fun r5 h6 => ?_)
    refine j_cge (pc := 19) (tgt := 67) hX rfl dX1_care_19 (fun _ => ?_) (fun _ => ?_)
    · refine j_locs [2] rfl ?_
      exact hk v2 h6
    · refine j_iconst (pc := 22) hX ic_0 dX1_care_22 ?_
      refine j_istore (pc := 23) hX (fun x7 => [(4, .int x7), (0, .ref (xz X + 0)), (1, .int f1), (2, .int v2), (3, .int v3)]) (fun _ => rfl) (Nat.le_of_ble_eq_true rfl) dX1_care_23 (fun x7 => ?_)
      refine j_locs [1, 2, 3, 4, 0] rfl ?_
      refine cA_care_25_w hX hr f1 v3 _ (fun x16 h17 => ?_) FU v2 x7 h6
      refine j_iinc (pc := 61) hX 3 rfl (1 : Int32) ic_1 (fun x18 => [(3, .int x18), (0, .ref (xz X + 0)), (1, .int f1), (2, .int x16)]) (fun _ => rfl) (Nat.le_of_ble_eq_true rfl) dX1_care_61 (fun x18 => ?_)
      refine j_goto (pc := 64) (tgt := 14) hX rfl dX1_care_64 ?_
      refine j_locs [1, 2, 3, 0] rfl ?_
      exact ih x16 x18 h17
set_option maxHeartbeats 4000000 in
set_option maxRecDepth 100000 in
theorem cA_care_t   (a1 : Int32) (h : HP) (rr : Int32 × HP) (e : cA_care a1 h = some rr) : Cn cV yX1_care (ws_ yX1_care cX1_care 5 (some .int)) 165 3887 (fun z => [.ref (z + 0), .int a1]) h (fun z => eI z rr.1) rr.2 := by
  refine cn_of (e1 := eI) (fun z => [(0, .ref (z + 0)), (1, .int a1)]) cV_ok (cA_care_m a1 h _ e) ymX1_care (fun _ => rfl) (fun _ => Nat.le_of_ble_eq_true rfl) (fun X hX hr hnm => ?_) e
  have hX : okX cV X rr cX1_care RX1 5 165 3887 := hX
  rw [cA_care]
  refine j_aload_n (pc := 0) hX 0 rfl dX1_care_0 ?_
  refine j_iload_n (pc := 1) hX 1 rfl dX1_care_1 ?_
  refine j_callV (pc := 2) (e1 := eI) (a := 0) (As := fun z => [.int a1]) (rest := []) hX (fun r e => cA_isPerson_t a1 h r e) ymX1_isPerson (lw_V q1056 q1058 qs37 q140 q1059) rfl ckX1 rfl ⟨Nat.le_of_ble_eq_true rfl, Nat.le_of_ble_eq_true rfl⟩ rfl rfl (Nat.le_of_ble_eq_true rfl) dX1_care_2 (fun r1 h2 => ?_)
  refine j_ifne (pc := 5) (tgt := 10) hX rfl dX1_care_5 (fun _ => ?_) (fun _ => ?_)
  · refine j_iconst (pc := 8) hX ic_m1 dX1_care_8 ?_
    exact j_iret (pc := 9) hX hr dX1_care_9
  · refine j_iconst (pc := 10) hX ic_0 dX1_care_10 ?_
    refine j_istore_n (pc := 11) hX (fun x3 => [(2, .int x3), (0, .ref (xz X + 0)), (1, .int a1)]) (fun _ => rfl) (Nat.le_of_ble_eq_true rfl) dX1_care_11 (fun x3 => ?_)
    refine j_iconst (pc := 12) hX ic_0 dX1_care_12 ?_
    refine j_istore_n (pc := 13) hX (fun x4 => [(3, .int x4), (2, .int x3), (0, .ref (xz X + 0)), (1, .int a1)]) (fun _ => rfl) (Nat.le_of_ble_eq_true rfl) dX1_care_13 (fun x4 => ?_)
    refine j_locs [2, 3, 1, 0] rfl ?_
    refine cA_care_14_w hX hr a1 _ (fun x19 h20 => ?_) FU x3 x4 h2
    refine j_iload_n (pc := 67) hX 0 rfl dX1_care_67 ?_
    exact j_iret (pc := 68) hX hr dX1_care_68
set_option maxHeartbeats 4000000 in
set_option maxRecDepth 100000 in
theorem cA_asks_28_w {X : CTX} {rr : Unit × HP} (f : Nat → Int32 → Int32 → Int32 → HP → Option (Unit × HP)) (F L : Nat) (hf : okAsks f F L) (hX : okX cV X rr cX1_asks RX1 8 (F + 164) (L + 3862)) (hr : (xh X).sig.returnType = none) (f3 : Int32) (k : HP → Option (Unit × HP)) (hk : ∀  (h : HP), jG cV X evV rr (k  h) 54 [] [] h) : ∀ (n : Nat) (v5 : Int32) (h : HP), jG cV X evV rr (cA_asks_28 f f3 k n v5 h) 28 [(0, .ref (xz X + 0)), (3, .int f3), (5, .int v5)] [] h := by
  intro n
  induction n with
  | zero =>
    intro v5 h
    exact j_none
  | succ n ih =>
    intro v5 h
    rw [cA_asks_28]
    refine j_iload (pc := 28) hX 2 rfl dX1_asks_28 ?_
    refine j_iload_n (pc := 30) hX 1 rfl dX1_asks_30 ?_
    refine j_cge (pc := 31) (tgt := 54) hX rfl dX1_asks_31 (fun _ => ?_) (fun _ => ?_)
    · refine j_locs [] rfl ?_
      exact hk h
    · refine j_aload_n (pc := 34) hX 0 rfl dX1_asks_34 ?_
      refine c_getR (pc := 35) hX fgX1_116_X1.1 fgX1_116_X1.2 rfl rfl dX1_asks_35 ?_
      refine j_iload (pc := 38) hX 2 rfl dX1_asks_38 ?_
      refine j_aload_n (pc := 40) hX 0 rfl dX1_asks_40 ?_
      refine c_getR (pc := 41) hX fgX1_112_X1.1 fgX1_112_X1.2 rfl rfl dX1_asks_41 ?_
      refine j_iload (pc := 44) hX 2 rfl dX1_asks_44 ?_
      refine j_iald (pc := 46) (n := 2) hX rfl dX1_asks_46 (fun _ => ?_)
      refine c_iast (pc := 47) (n := 2) hX rfl dX1_asks_47 (fun h11 q12 q13 => ?_)
      refine j_iinc (pc := 48) hX 2 rfl (1 : Int32) ic_1 (fun x14 => [(5, .int x14), (0, .ref (xz X + 0)), (3, .int f3)]) (fun _ => rfl) (Nat.le_of_ble_eq_true rfl) dX1_asks_48 (fun x14 => ?_)
      refine j_goto (pc := 51) (tgt := 28) hX rfl dX1_asks_51 ?_
      refine j_locs [1, 2, 0] rfl ?_
      exact ih x14 h11
set_option maxHeartbeats 4000000 in
set_option maxRecDepth 100000 in
theorem cA_asks_78_w {X : CTX} {rr : Unit × HP} (f : Nat → Int32 → Int32 → Int32 → HP → Option (Unit × HP)) (F L : Nat) (hf : okAsks f F L) (hX : okX cV X rr cX1_asks RX1 8 (F + 164) (L + 3862)) (hr : (xh X).sig.returnType = none) (f1 : Nat) (f2 : Int32) (f3 : Int32) (f4 : Int32) (f5 : Nat) (f6 : Int32) (k : HP → Option (Unit × HP)) (hk : ∀  (h : HP), jG cV X evV rr (k  h) 155 [(0, .ref (xz X + 0)), (1, .ref (xz X + f1)), (2, .int f2), (3, .int f3), (4, .int f4), (5, .ref (xz X + f5)), (6, .int f6)] [] h) : ∀ (n : Nat) (v7 : Int32) (h : HP), jG cV X evV rr (cA_asks_78 f f1 f2 f3 f4 f5 f6 k n v7 h) 78 [(0, .ref (xz X + 0)), (1, .ref (xz X + f1)), (2, .int f2), (3, .int f3), (4, .int f4), (5, .ref (xz X + f5)), (6, .int f6), (7, .int v7)] [] h := by
  intro n
  induction n with
  | zero =>
    intro v7 h
    exact j_none
  | succ n ih =>
    intro v7 h
    rw [cA_asks_78]
    refine j_iload (pc := 78) hX 7 rfl dX1_asks_78 ?_
    refine j_aload_n (pc := 80) hX 0 rfl dX1_asks_80 ?_
    refine j_callV (pc := 81) (e1 := eI) (a := 0) (As := fun z => []) (rest := [.int v7]) hX (fun r e => cA_questions_t h r e) ymX1_questions (lw_V q1042 q1044 qs35 q140 q1045) rfl ckX1 rfl ⟨by omega, by omega⟩ rfl rfl (Nat.le_of_ble_eq_true rfl) dX1_asks_81 (fun r21 h22 => ?_)
    refine j_cge (pc := 84) (tgt := 155) hX rfl dX1_asks_84 (fun _ => ?_) (fun _ => ?_)
    · refine j_locs [0, 1, 2, 3, 4, 5, 6] rfl ?_
      exact hk h22
    · refine j_aload_n (pc := 87) hX 1 rfl dX1_asks_87 ?_
      refine j_iload (pc := 88) hX 4 rfl dX1_asks_88 ?_
      refine j_iload (pc := 90) hX 6 rfl dX1_asks_90 ?_
      refine j_iload (pc := 92) hX 7 rfl dX1_asks_92 ?_
      refine j_iconst (pc := 94) hX ic_1 dX1_asks_94 ?_
      refine j_grd fun g25 => ?_
      refine j_callV (pc := 95) (e1 := eI) (a := f1) (As := fun z => [.int f4, .int f6, .int v7, .int (1 : Int32)]) (rest := []) hX (fun r e => cS_can_t f1 f4 f6 v7 (1 : Int32) h22 r e) ymX9_can (lw_V q1061 q1062 q1063 q151 q1064) rfl ckX9 (k1_of g25.1) ⟨by omega, by omega⟩ rfl rfl (Nat.le_of_ble_eq_true rfl) dX1_asks_95 (fun r23 h24 => ?_)
      refine j_ifne (pc := 98) (tgt := 104) hX rfl dX1_asks_98 (fun _ => ?_) (fun _ => ?_)
      · refine j_goto (pc := 101) (tgt := 149) hX rfl dX1_asks_101 ?_
        refine j_iinc (pc := 149) hX 7 rfl (1 : Int32) ic_1 (fun x26 => [(7, .int x26), (0, .ref (xz X + 0)), (1, .ref (xz X + f1)), (2, .int f2), (3, .int f3), (4, .int f4), (5, .ref (xz X + f5)), (6, .int f6)]) (fun _ => rfl) (Nat.le_of_ble_eq_true rfl) dX1_asks_149 (fun x26 => ?_)
        refine j_goto (pc := 152) (tgt := 78) hX rfl dX1_asks_152 ?_
        refine j_locs [1, 2, 3, 4, 5, 6, 7, 0] rfl ?_
        exact ih x26 h24
      · refine j_aload (pc := 104) hX 5 rfl dX1_asks_104 ?_
        refine j_aload_n (pc := 106) hX 1 rfl dX1_asks_106 ?_
        refine j_grd fun g29 => ?_
        refine j_callV (pc := 107) (e1 := eV) (a := f5) (As := fun z => [.ref (z + f1)]) (rest := []) hX (fun r e => cS_become_t f5 f1 h24 r e) ymX9_become (lw_V q1159 q1160 q1161 q151 q1162) rfl ckX9 (k1_of g29.1) ⟨by omega, by omega⟩ rfl rfl (Nat.le_of_ble_eq_true rfl) dX1_asks_107 (fun r27 h28 => ?_)
        refine j_aload (pc := 110) hX 5 rfl dX1_asks_110 ?_
        refine j_iload (pc := 112) hX 4 rfl dX1_asks_112 ?_
        refine j_iload (pc := 114) hX 6 rfl dX1_asks_114 ?_
        refine j_iload (pc := 116) hX 7 rfl dX1_asks_116 ?_
        refine j_iconst (pc := 118) hX ic_0 dX1_asks_118 ?_
        refine j_grd fun g32 => ?_
        refine j_callV (pc := 119) (e1 := eI) (a := f5) (As := fun z => [.int f4, .int f6, .int v7, .int (0 : Int32)]) (rest := []) hX (fun r e => cS_ask_t f5 f4 f6 v7 (0 : Int32) h28 r e) ymX9_ask (lw_V q1163 q1164 q1165 q151 q1166) rfl ckX9 (k1_of g32.1) ⟨by omega, by omega⟩ rfl rfl (Nat.le_of_ble_eq_true rfl) dX1_asks_119 (fun r30 h31 => ?_)
        refine j_pop (pc := 122) hX rfl dX1_asks_122 ?_
        refine j_aload_n (pc := 123) hX 0 rfl dX1_asks_123 ?_
        refine c_getR (pc := 124) hX fgX1_112_X1.1 fgX1_112_X1.2 rfl rfl dX1_asks_124 ?_
        refine j_iload_n (pc := 127) hX 2 rfl dX1_asks_127 ?_
        refine j_bipush (pc := 128) hX bp_10 dX1_asks_128 ?_
        refine j_iload (pc := 130) hX 6 rfl dX1_asks_130 ?_
        refine j_imul (pc := 132) hX dX1_asks_132 ?_
        refine j_iload (pc := 133) hX 7 rfl dX1_asks_133 ?_
        refine j_iadd (pc := 135) hX dX1_asks_135 ?_
        refine c_iast (pc := 136) (n := 2) hX rfl dX1_asks_136 (fun h33 q34 q35 => ?_)
        refine j_aload_n (pc := 137) hX 0 rfl dX1_asks_137 ?_
        refine j_aload (pc := 138) hX 5 rfl dX1_asks_138 ?_
        refine j_iload_n (pc := 140) hX 2 rfl dX1_asks_140 ?_
        refine j_iconst (pc := 141) hX ic_1 dX1_asks_141 ?_
        refine j_iadd (pc := 142) hX dX1_asks_142 ?_
        refine j_iload_n (pc := 143) hX 3 rfl dX1_asks_143 ?_
        refine j_iload (pc := 144) hX 4 rfl dX1_asks_144 ?_
        refine j_callV (pc := 146) (e1 := eV) (a := 0) (As := fun z => [.ref (z + f5), .int (f2 + (1 : Int32)), .int f3, .int f4]) (rest := []) hX (fun r e => hf.1 f5 (f2 + (1 : Int32)) f3 f4 h33 r e) ymX1_asks (lw_V q1335 q1337 qs51 q140 q1338) rfl ckX1 rfl ⟨by omega, by omega⟩ rfl rfl (Nat.le_of_ble_eq_true rfl) dX1_asks_146 (fun r36 h37 => ?_)
        refine j_iinc (pc := 149) hX 7 rfl (1 : Int32) ic_1 (fun x38 => [(7, .int x38), (0, .ref (xz X + 0)), (1, .ref (xz X + f1)), (2, .int f2), (3, .int f3), (4, .int f4), (5, .ref (xz X + f5)), (6, .int f6)]) (fun _ => rfl) (Nat.le_of_ble_eq_true rfl) dX1_asks_149 (fun x38 => ?_)
        refine j_goto (pc := 152) (tgt := 78) hX rfl dX1_asks_152 ?_
        refine j_locs [1, 2, 3, 4, 5, 6, 7, 0] rfl ?_
        exact ih x38 h37
