/-! the model: walks -/
set_option maxHeartbeats 4000000 in
set_option maxRecDepth 100000 in
theorem m_bestRoom_19_w {X : CTX} {rr : Int32 × HP} (hX : okX mV X rr cX10_bestRoom RX10 4 9 196) (hr : (xh X).sig.returnType = some .int) (f1 : Int32) (k : Int32 → HP → Option (Int32 × HP)) (hk : ∀ (v2 : Int32) (h : HP), jG mV X evI rr (k v2 h) 51 [(2, .int v2)] [] h) : ∀ (n : Nat) (v2 : Int32) (v3 : Int32) (h : HP), jG mV X evI rr (m_bestRoom_19 f1 k n v2 v3 h) 19 [(0, .ref (xz X + 0)), (1, .int f1), (2, .int v2), (3, .int v3)] [] h := by
  intro n
  induction n with
  | zero =>
    intro v2 v3 h
    exact j_none
  | succ n ih =>
    intro v2 v3 h
    rw [m_bestRoom_19]
    refine j_iload_n (pc := 19) hX 3 rfl dX10_bestRoom_19 ?_
    refine j_iconst (pc := 20) hX ic_4 dX10_bestRoom_20 ?_
    refine j_cge (pc := 21) (tgt := 51) hX rfl dX10_bestRoom_21 (fun _ => ?_) (fun _ => ?_)
    · refine j_locs [2] rfl ?_
      exact hk v2 h
    · refine j_aload_n (pc := 24) hX 0 rfl dX10_bestRoom_24 ?_
      refine j_iload_n (pc := 25) hX 1 rfl dX10_bestRoom_25 ?_
      refine j_iload_n (pc := 26) hX 3 rfl dX10_bestRoom_26 ?_
      refine j_callVI (pc := 27) (a := 0) (As := fun z => [.int f1, .int v3]) (rest := []) hX (fun r e => m_t_sumInRoom f1 v3 h r e) ymX10_sumInRoom (lw_V q2166 q2168 qs119 q154 q2169) rfl ckX10 rfl ⟨Nat.le_of_ble_eq_true rfl, Nat.le_of_ble_eq_true rfl⟩ rfl rfl (Nat.le_of_ble_eq_true rfl) dX10_bestRoom_27 (fun r6 h7 => ?_)
      refine j_aload_n (pc := 30) hX 0 rfl dX10_bestRoom_30 ?_
      refine j_iload_n (pc := 31) hX 1 rfl dX10_bestRoom_31 ?_
      refine j_iload_n (pc := 32) hX 2 rfl dX10_bestRoom_32 ?_
      refine j_callVI (pc := 33) (a := 0) (As := fun z => [.int f1, .int v2]) (rest := [.int r6]) hX (fun r e => m_t_sumInRoom f1 v2 h7 r e) ymX10_sumInRoom (lw_V q2166 q2168 qs119 q154 q2169) rfl ckX10 rfl ⟨Nat.le_of_ble_eq_true rfl, Nat.le_of_ble_eq_true rfl⟩ rfl rfl (Nat.le_of_ble_eq_true rfl) dX10_bestRoom_33 (fun r8 h9 => ?_)
      refine j_cle (pc := 36) (tgt := 43) hX rfl dX10_bestRoom_36 (fun _ => ?_) (fun _ => ?_)
      · refine j_iload_n (pc := 43) hX 2 rfl dX10_bestRoom_43 ?_
        refine j_istore_n (pc := 44) hX (fun x10 => [(2, .int x10), (0, .ref (xz X + 0)), (1, .int f1), (3, .int v3)]) (fun _ => rfl) (Nat.le_of_ble_eq_true rfl) dX10_bestRoom_44 (fun x10 => ?_)
        refine j_iinc (pc := 45) hX 3 rfl (1 : Int32) ic_1 (fun x11 => [(3, .int x11), (2, .int x10), (0, .ref (xz X + 0)), (1, .int f1)]) (fun _ => rfl) (Nat.le_of_ble_eq_true rfl) dX10_bestRoom_45 (fun x11 => ?_)
        refine j_goto (pc := 48) (tgt := 19) hX rfl dX10_bestRoom_48 ?_
        refine j_locs [2, 3, 1, 0] rfl ?_
        exact ih x10 x11 h9
      · refine j_iload_n (pc := 39) hX 3 rfl dX10_bestRoom_39 ?_
        refine j_goto (pc := 40) (tgt := 44) hX rfl dX10_bestRoom_40 ?_
        refine j_istore_n (pc := 44) hX (fun x12 => [(2, .int x12), (0, .ref (xz X + 0)), (1, .int f1), (3, .int v3)]) (fun _ => rfl) (Nat.le_of_ble_eq_true rfl) dX10_bestRoom_44 (fun x12 => ?_)
        refine j_iinc (pc := 45) hX 3 rfl (1 : Int32) ic_1 (fun x13 => [(3, .int x13), (2, .int x12), (0, .ref (xz X + 0)), (1, .int f1)]) (fun _ => rfl) (Nat.le_of_ble_eq_true rfl) dX10_bestRoom_45 (fun x13 => ?_)
        refine j_goto (pc := 48) (tgt := 19) hX rfl dX10_bestRoom_48 ?_
        refine j_locs [2, 3, 1, 0] rfl ?_
        exact ih x12 x13 h9
set_option maxHeartbeats 4000000 in
set_option maxRecDepth 100000 in
theorem m_t_bestRoom (a1 : Int32) (h : HP) (rr : Int32 × HP) (e : m_bestRoom a1 h = some rr) : Cn mV yX10_bestRoom (ws_ yX10_bestRoom cX10_bestRoom 4 (some .int)) 9 196 (fun z => [.ref (z + 0), .int a1]) h (fun z => eI z rr.1) rr.2 := by
  refine cn_of (e1 := eI) (fun z => [(0, .ref (z + 0)), (1, .int a1)]) mV_ok ⟨Nat.le_refl _, Nat.le_refl _⟩ ymX10_bestRoom (fun _ => rfl) (fun _ => Nat.le_of_ble_eq_true rfl) (fun X hX hr _ => ?_) e
  have hX : okX mV X rr cX10_bestRoom RX10 4 9 196 := hX
  rw [m_bestRoom]
  refine j_aload_n (pc := 0) hX 0 rfl dX10_bestRoom_0 ?_
  refine j_iconst (pc := 1) hX ic_0 dX10_bestRoom_1 ?_
  refine j_putI (pc := 2) hX fwX10_148.1 fwX10_148.2 rfl dX10_bestRoom_2 (fun h1 => ?_)
  refine j_aload_n (pc := 5) hX 0 rfl dX10_bestRoom_5 ?_
  refine j_iload_n (pc := 6) hX 1 rfl dX10_bestRoom_6 ?_
  refine j_callVI (pc := 7) (a := 0) (As := fun z => [.int a1]) (rest := []) hX (fun r e => m_t_isPerson a1 h1 r e) ymX10_isPerson (lw_V q2004 q2006 qs96 q154 q2007) rfl ckX10 rfl ⟨Nat.le_of_ble_eq_true rfl, Nat.le_of_ble_eq_true rfl⟩ rfl rfl (Nat.le_of_ble_eq_true rfl) dX10_bestRoom_7 (fun r2 h3 => ?_)
  refine j_ifne (pc := 10) (tgt := 15) hX rfl dX10_bestRoom_10 (fun _ => ?_) (fun _ => ?_)
  · refine j_iconst (pc := 13) hX ic_m1 dX10_bestRoom_13 ?_
    exact j_iret (pc := 14) hX hr dX10_bestRoom_14
  · refine j_iconst (pc := 15) hX ic_0 dX10_bestRoom_15 ?_
    refine j_istore_n (pc := 16) hX (fun x4 => [(2, .int x4), (0, .ref (xz X + 0)), (1, .int a1)]) (fun _ => rfl) (Nat.le_of_ble_eq_true rfl) dX10_bestRoom_16 (fun x4 => ?_)
    refine j_iconst (pc := 17) hX ic_1 dX10_bestRoom_17 ?_
    refine j_istore_n (pc := 18) hX (fun x5 => [(3, .int x5), (2, .int x4), (0, .ref (xz X + 0)), (1, .int a1)]) (fun _ => rfl) (Nat.le_of_ble_eq_true rfl) dX10_bestRoom_18 (fun x5 => ?_)
    refine j_locs [2, 3, 1, 0] rfl ?_
    refine m_bestRoom_19_w hX hr a1 _ (fun x14 h15 => ?_) FU x4 x5 h3
    refine j_iload_n (pc := 51) hX 0 rfl dX10_bestRoom_51 ?_
    exact j_iret (pc := 52) hX hr dX10_bestRoom_52
set_option maxHeartbeats 4000000 in
set_option maxRecDepth 100000 in
theorem m_t_isAsked (a1 : Int32) (a2 : Int32) (a3 : Int32) (a4 : Int32) (h : HP) (rr : Int32 × HP) (e : m_isAsked a1 a2 a3 a4 h = some rr) : Cn mV yX10_isAsked (ws_ yX10_isAsked cX10_isAsked 5 (some .boolean)) 2 22 (fun z => [.ref (z + 0), .int a1, .int a2, .int a3, .int a4]) h (fun z => eI z rr.1) rr.2 := by
  refine cn_of (e1 := eI) (fun z => [(0, .ref (z + 0)), (1, .int a1), (2, .int a2), (3, .int a3), (4, .int a4)]) mV_ok ⟨Nat.le_refl _, Nat.le_refl _⟩ ymX10_isAsked (fun _ => rfl) (fun _ => Nat.le_of_ble_eq_true rfl) (fun X hX hr _ => ?_) e
  have hX : okX mV X rr cX10_isAsked RX10 5 2 22 := hX
  rw [m_isAsked]
  refine j_aload_n (pc := 0) hX 0 rfl dX10_isAsked_0 ?_
  refine j_iload_n (pc := 1) hX 1 rfl dX10_isAsked_1 ?_
  refine j_callVI (pc := 2) (a := 0) (As := fun z => [.int a1]) (rest := []) hX (fun r e => m_t_isPerson a1 h r e) ymX10_isPerson (lw_V q2004 q2006 qs96 q154 q2007) rfl ckX10 rfl ⟨Nat.le_of_ble_eq_true rfl, Nat.le_of_ble_eq_true rfl⟩ rfl rfl (Nat.le_of_ble_eq_true rfl) dX10_isAsked_2 (fun r1 h2 => ?_)
  refine j_ifeq (pc := 5) (tgt := 51) hX rfl dX10_isAsked_5 (fun _ => ?_) (fun _ => ?_)
  · refine j_iconst (pc := 51) hX ic_0 dX10_isAsked_51 ?_
    exact j_zret (pc := 52) hX (Or.inl rfl) hr dX10_isAsked_52
  · refine j_aload_n (pc := 8) hX 0 rfl dX10_isAsked_8 ?_
    refine j_iload_n (pc := 9) hX 2 rfl dX10_isAsked_9 ?_
    refine j_callVI (pc := 10) (a := 0) (As := fun z => [.int a2]) (rest := []) hX (fun r e => m_t_isFact a2 h2 r e) ymX10_isFact (lw_V q2110 q2112 qs114 q154 q2113) rfl ckX10 rfl ⟨Nat.le_of_ble_eq_true rfl, Nat.le_of_ble_eq_true rfl⟩ rfl rfl (Nat.le_of_ble_eq_true rfl) dX10_isAsked_10 (fun r3 h4 => ?_)
    refine j_ifeq (pc := 13) (tgt := 51) hX rfl dX10_isAsked_13 (fun _ => ?_) (fun _ => ?_)
    · refine j_iconst (pc := 51) hX ic_0 dX10_isAsked_51 ?_
      exact j_zret (pc := 52) hX (Or.inl rfl) hr dX10_isAsked_52
    · refine j_iload_n (pc := 16) hX 3 rfl dX10_isAsked_16 ?_
      refine j_iflt (pc := 17) (tgt := 51) hX rfl dX10_isAsked_17 (fun _ => ?_) (fun _ => ?_)
      · refine j_iconst (pc := 51) hX ic_0 dX10_isAsked_51 ?_
        exact j_zret (pc := 52) hX (Or.inl rfl) hr dX10_isAsked_52
      · refine j_iload_n (pc := 20) hX 3 rfl dX10_isAsked_20 ?_
        refine j_aload_n (pc := 21) hX 0 rfl dX10_isAsked_21 ?_
        refine j_getI (pc := 22) hX fgX10_231.1 fgX10_231.2 rfl dX10_isAsked_22 ?_
        refine j_ishr (pc := 25) hX dX10_isAsked_25 ?_
        refine j_ifne (pc := 26) (tgt := 51) hX rfl dX10_isAsked_26 (fun _ => ?_) (fun _ => ?_)
        · refine j_iload_n (pc := 29) hX 3 rfl dX10_isAsked_29 ?_
          refine j_iload_n (pc := 30) hX 1 rfl dX10_isAsked_30 ?_
          refine j_callSI (pc := 31) (As := fun z => [.int a3, .int a1]) (rest := []) hX (fun r e => m_t_isOf a3 a1 h4 r e) ymX10_isOf (lw_S q1926 q1927 q154 q1928) ⟨Nat.le_of_ble_eq_true rfl, Nat.le_of_ble_eq_true rfl⟩ rfl rfl (Nat.le_of_ble_eq_true rfl) dX10_isAsked_31 (fun r5 h6 => ?_)
          refine j_ifne (pc := 34) (tgt := 51) hX rfl dX10_isAsked_34 (fun _ => ?_) (fun _ => ?_)
          · refine j_iload (pc := 37) hX 4 rfl dX10_isAsked_37 ?_
            refine j_iconst (pc := 39) hX ic_1 dX10_isAsked_39 ?_
            refine j_iconst (pc := 40) hX ic_2 dX10_isAsked_40 ?_
            refine j_callSI (pc := 41) (As := fun z => [.int a4, .int (1 : Int32), .int (2 : Int32)]) (rest := []) hX (fun r e => m_t_isIn a4 (1 : Int32) (2 : Int32) h6 r e) ymX10_isIn (lw_S q1915 q1916 q154 q1917) ⟨Nat.le_of_ble_eq_true rfl, Nat.le_of_ble_eq_true rfl⟩ rfl rfl (Nat.le_of_ble_eq_true rfl) dX10_isAsked_41 (fun r7 h8 => ?_)
            refine j_ifeq (pc := 44) (tgt := 51) hX rfl dX10_isAsked_44 (fun _ => ?_) (fun _ => ?_)
            · refine j_iconst (pc := 51) hX ic_0 dX10_isAsked_51 ?_
              exact j_zret (pc := 52) hX (Or.inl rfl) hr dX10_isAsked_52
            · refine j_iconst (pc := 47) hX ic_1 dX10_isAsked_47 ?_
              refine j_goto (pc := 48) (tgt := 52) hX rfl dX10_isAsked_48 ?_
              exact j_zret (pc := 52) hX (Or.inr rfl) hr dX10_isAsked_52
          · refine j_iconst (pc := 51) hX ic_0 dX10_isAsked_51 ?_
            exact j_zret (pc := 52) hX (Or.inl rfl) hr dX10_isAsked_52
        · refine j_iconst (pc := 51) hX ic_0 dX10_isAsked_51 ?_
          exact j_zret (pc := 52) hX (Or.inl rfl) hr dX10_isAsked_52
set_option maxHeartbeats 4000000 in
set_option maxRecDepth 100000 in
theorem m_t_steps  (h : HP) (rr : Int32 × HP) (e : m_steps  h = some rr) : Cn mV yX10_steps (ws_ yX10_steps cX10_steps 1 (some .int)) 1 0 (fun z => [.ref (z + 0)]) h (fun z => eI z rr.1) rr.2 := by
  refine cn_of (e1 := eI) (fun z => [(0, .ref (z + 0))]) mV_ok ⟨Nat.le_refl _, Nat.le_refl _⟩ ymX10_steps (fun _ => rfl) (fun _ => Nat.le_of_ble_eq_true rfl) (fun X hX hr _ => ?_) e
  have hX : okX mV X rr cX10_steps RX10 1 1 0 := hX
  rw [m_steps]
  refine j_aload_n (pc := 0) hX 0 rfl dX10_steps_0 ?_
  refine j_getI (pc := 1) hX fgX10_231.1 fgX10_231.2 rfl dX10_steps_1 ?_
  refine j_aload_n (pc := 4) hX 0 rfl dX10_steps_4 ?_
  refine j_getI (pc := 5) hX fgX10_231.1 fgX10_231.2 rfl dX10_steps_5 ?_
  refine j_imul (pc := 8) hX dX10_steps_8 ?_
  refine j_aload_n (pc := 9) hX 0 rfl dX10_steps_9 ?_
  refine j_getI (pc := 10) hX fgX10_234.1 fgX10_234.2 rfl dX10_steps_10 ?_
  refine j_imul (pc := 13) hX dX10_steps_13 ?_
  exact j_iret (pc := 14) hX hr dX10_steps_14
set_option maxHeartbeats 4000000 in
set_option maxRecDepth 100000 in
theorem m_t_whoOf (a1 : Int32) (h : HP) (rr : Int32 × HP) (e : m_whoOf a1 h = some rr) : Cn mV yX10_whoOf (ws_ yX10_whoOf cX10_whoOf 2 (some .int)) 1 0 (fun z => [.ref (z + 0), .int a1]) h (fun z => eI z rr.1) rr.2 := by
  refine cn_of (e1 := eI) (fun z => [(0, .ref (z + 0)), (1, .int a1)]) mV_ok ⟨Nat.le_refl _, Nat.le_refl _⟩ ymX10_whoOf (fun _ => rfl) (fun _ => Nat.le_of_ble_eq_true rfl) (fun X hX hr _ => ?_) e
  have hX : okX mV X rr cX10_whoOf RX10 2 1 0 := hX
  rw [m_whoOf]
  refine j_iload_n (pc := 0) hX 1 rfl dX10_whoOf_0 ?_
  refine j_aload_n (pc := 1) hX 0 rfl dX10_whoOf_1 ?_
  refine j_getI (pc := 2) hX fgX10_234.1 fgX10_234.2 rfl dX10_whoOf_2 ?_
  refine j_idiv (pc := 5) hX dX10_whoOf_5 (fun _ => ?_)
  refine j_aload_n (pc := 6) hX 0 rfl dX10_whoOf_6 ?_
  refine j_getI (pc := 7) hX fgX10_231.1 fgX10_231.2 rfl dX10_whoOf_7 ?_
  refine j_idiv (pc := 10) hX dX10_whoOf_10 (fun _ => ?_)
  exact j_iret (pc := 11) hX hr dX10_whoOf_11
set_option maxHeartbeats 4000000 in
set_option maxRecDepth 100000 in
theorem m_t_whomOf (a1 : Int32) (h : HP) (rr : Int32 × HP) (e : m_whomOf a1 h = some rr) : Cn mV yX10_whomOf (ws_ yX10_whomOf cX10_whomOf 2 (some .int)) 1 0 (fun z => [.ref (z + 0), .int a1]) h (fun z => eI z rr.1) rr.2 := by
  refine cn_of (e1 := eI) (fun z => [(0, .ref (z + 0)), (1, .int a1)]) mV_ok ⟨Nat.le_refl _, Nat.le_refl _⟩ ymX10_whomOf (fun _ => rfl) (fun _ => Nat.le_of_ble_eq_true rfl) (fun X hX hr _ => ?_) e
  have hX : okX mV X rr cX10_whomOf RX10 2 1 0 := hX
  rw [m_whomOf]
  refine j_iload_n (pc := 0) hX 1 rfl dX10_whomOf_0 ?_
  refine j_aload_n (pc := 1) hX 0 rfl dX10_whomOf_1 ?_
  refine j_getI (pc := 2) hX fgX10_234.1 fgX10_234.2 rfl dX10_whomOf_2 ?_
  refine j_idiv (pc := 5) hX dX10_whomOf_5 (fun _ => ?_)
  refine j_aload_n (pc := 6) hX 0 rfl dX10_whomOf_6 ?_
  refine j_getI (pc := 7) hX fgX10_231.1 fgX10_231.2 rfl dX10_whomOf_7 ?_
  refine j_irem (pc := 10) hX dX10_whomOf_10 (fun _ => ?_)
  exact j_iret (pc := 11) hX hr dX10_whomOf_11
set_option maxHeartbeats 4000000 in
set_option maxRecDepth 100000 in
theorem m_t_whatOf (a1 : Int32) (h : HP) (rr : Int32 × HP) (e : m_whatOf a1 h = some rr) : Cn mV yX10_whatOf (ws_ yX10_whatOf cX10_whatOf 2 (some .int)) 1 0 (fun z => [.ref (z + 0), .int a1]) h (fun z => eI z rr.1) rr.2 := by
  refine cn_of (e1 := eI) (fun z => [(0, .ref (z + 0)), (1, .int a1)]) mV_ok ⟨Nat.le_refl _, Nat.le_refl _⟩ ymX10_whatOf (fun _ => rfl) (fun _ => Nat.le_of_ble_eq_true rfl) (fun X hX hr _ => ?_) e
  have hX : okX mV X rr cX10_whatOf RX10 2 1 0 := hX
  rw [m_whatOf]
  refine j_iload_n (pc := 0) hX 1 rfl dX10_whatOf_0 ?_
  refine j_aload_n (pc := 1) hX 0 rfl dX10_whatOf_1 ?_
  refine j_getI (pc := 2) hX fgX10_234.1 fgX10_234.2 rfl dX10_whatOf_2 ?_
  refine j_irem (pc := 5) hX dX10_whatOf_5 (fun _ => ?_)
  exact j_iret (pc := 6) hX hr dX10_whatOf_6
set_option maxHeartbeats 4000000 in
set_option maxRecDepth 100000 in
theorem m_t_does (a1 : Int32) (h : HP) (rr : Int32 × HP) (e : m_does a1 h = some rr) : Cn mV yX10_does (ws_ yX10_does cX10_does 6 (some .boolean)) 7 148 (fun z => [.ref (z + 0), .int a1]) h (fun z => eI z rr.1) rr.2 := by
  refine cn_of (e1 := eI) (fun z => [(0, .ref (z + 0)), (1, .int a1)]) mV_ok ⟨Nat.le_refl _, Nat.le_refl _⟩ ymX10_does (fun _ => rfl) (fun _ => Nat.le_of_ble_eq_true rfl) (fun X hX hr _ => ?_) e
  have hX : okX mV X rr cX10_does RX10 6 7 148 := hX
  rw [m_does]
  refine j_aload_n (pc := 0) hX 0 rfl dX10_does_0 ?_
  refine j_iload_n (pc := 1) hX 1 rfl dX10_does_1 ?_
  refine j_callVI (pc := 2) (a := 0) (As := fun z => [.int a1]) (rest := []) hX (fun r e => m_t_whoOf a1 h r e) ymX10_whoOf (lw_V q2194 q2196 qs124 q154 q2197) rfl ckX10 rfl ⟨Nat.le_of_ble_eq_true rfl, Nat.le_of_ble_eq_true rfl⟩ rfl rfl (Nat.le_of_ble_eq_true rfl) dX10_does_2 (fun r1 h2 => ?_)
  refine j_istore_n (pc := 5) hX (fun x3 => [(2, .int x3), (0, .ref (xz X + 0)), (1, .int a1)]) (fun _ => rfl) (Nat.le_of_ble_eq_true rfl) dX10_does_5 (fun x3 => ?_)
  refine j_aload_n (pc := 6) hX 1 rfl dX10_does_6 ?_
  refine j_iload_n (pc := 7) hX 2 rfl dX10_does_7 ?_
  refine j_callVI (pc := 8) (a := 0) (As := fun z => [.int a1]) (rest := []) hX (fun r e => m_t_whomOf a1 h2 r e) ymX10_whomOf (lw_V q2198 q2200 qs125 q154 q2201) rfl ckX10 rfl ⟨Nat.le_of_ble_eq_true rfl, Nat.le_of_ble_eq_true rfl⟩ rfl rfl (Nat.le_of_ble_eq_true rfl) dX10_does_8 (fun r4 h5 => ?_)
  refine j_istore_n (pc := 11) hX (fun x6 => [(3, .int x6), (2, .int x3), (0, .ref (xz X + 0)), (1, .int a1)]) (fun _ => rfl) (Nat.le_of_ble_eq_true rfl) dX10_does_11 (fun x6 => ?_)
  refine j_aload_n (pc := 12) hX 2 rfl dX10_does_12 ?_
  refine j_iload_n (pc := 13) hX 3 rfl dX10_does_13 ?_
  refine j_callVI (pc := 14) (a := 0) (As := fun z => [.int a1]) (rest := []) hX (fun r e => m_t_whatOf a1 h5 r e) ymX10_whatOf (lw_V q2202 q2204 qs126 q154 q2205) rfl ckX10 rfl ⟨Nat.le_of_ble_eq_true rfl, Nat.le_of_ble_eq_true rfl⟩ rfl rfl (Nat.le_of_ble_eq_true rfl) dX10_does_14 (fun r7 h8 => ?_)
  refine j_istore (pc := 17) hX (fun x9 => [(4, .int x9), (3, .int x6), (2, .int x3), (0, .ref (xz X + 0)), (1, .int a1)]) (fun _ => rfl) (Nat.le_of_ble_eq_true rfl) dX10_does_17 (fun x9 => ?_)
  refine j_aload_n (pc := 19) hX 3 rfl dX10_does_19 ?_
  refine j_iconst (pc := 20) hX ic_1 dX10_does_20 ?_
  refine j_iload_n (pc := 21) hX 2 rfl dX10_does_21 ?_
  refine j_iload_n (pc := 22) hX 1 rfl dX10_does_22 ?_
  refine j_iload (pc := 23) hX 0 rfl dX10_does_23 ?_
  refine j_callVI (pc := 25) (a := 0) (As := fun z => [.int (1 : Int32), .int x3, .int x6, .int x9]) (rest := []) hX (fun r e => m_t_canAsk (1 : Int32) x3 x6 x9 h8 r e) ymX10_canAsk (lw_V q2024 q2026 qs99 q154 q2027) rfl ckX10 rfl ⟨Nat.le_of_ble_eq_true rfl, Nat.le_of_ble_eq_true rfl⟩ rfl rfl (Nat.le_of_ble_eq_true rfl) dX10_does_25 (fun r10 h11 => ?_)
  refine j_ifne (pc := 28) (tgt := 33) hX rfl dX10_does_28 (fun _ => ?_) (fun _ => ?_)
  · refine j_iconst (pc := 31) hX ic_0 dX10_does_31 ?_
    exact j_zret (pc := 32) hX (Or.inl rfl) hr dX10_does_32
  · refine j_aload_n (pc := 33) hX 3 rfl dX10_does_33 ?_
    refine j_iconst (pc := 34) hX ic_1 dX10_does_34 ?_
    refine j_iload_n (pc := 35) hX 2 rfl dX10_does_35 ?_
    refine j_iload_n (pc := 36) hX 1 rfl dX10_does_36 ?_
    refine j_iload (pc := 37) hX 0 rfl dX10_does_37 ?_
    refine j_callVI (pc := 39) (a := 0) (As := fun z => [.int (1 : Int32), .int x3, .int x6, .int x9]) (rest := []) hX (fun r e => m_t_asks (1 : Int32) x3 x6 x9 h11 r e) ymX10_asks (lw_V q2081 q2083 qs109 q154 q2084) rfl ckX10 rfl ⟨Nat.le_of_ble_eq_true rfl, Nat.le_of_ble_eq_true rfl⟩ rfl rfl (Nat.le_of_ble_eq_true rfl) dX10_does_39 (fun r12 h13 => ?_)
    refine j_istore (pc := 42) hX (fun x14 => [(5, .int x14), (4, .int x9), (3, .int x6), (2, .int x3), (0, .ref (xz X + 0)), (1, .int a1)]) (fun _ => rfl) (Nat.le_of_ble_eq_true rfl) dX10_does_42 (fun x14 => ?_)
    refine j_iconst (pc := 44) hX ic_1 dX10_does_44 ?_
    exact j_zret (pc := 45) hX (Or.inr rfl) hr dX10_does_45
set_option maxHeartbeats 4000000 in
set_option maxRecDepth 100000 in
theorem m_isWay_3_w {X : CTX} {rr : Int32 × HP} (hX : okX mV X rr cX10_isWay RX10 5 2 21) (hr : (xh X).sig.returnType = some .boolean) (f1 : Int32) (f2 : Int32) (f3 : Int32) (k : HP → Option (Int32 × HP)) (hk : ∀ (h : HP), jG mV X evI rr (k h) 59 [(0, .ref (xz X + 0)), (1, .int f1), (2, .int f2)] [] h) : ∀ (n : Nat) (v4 : Int32) (h : HP), jG mV X evI rr (m_isWay_3 f1 f2 f3 k n v4 h) 3 [(0, .ref (xz X + 0)), (1, .int f1), (2, .int f2), (3, .int f3), (4, .int v4)] [] h := by
  intro n
  induction n with
  | zero =>
    intro v4 h
    exact j_none
  | succ n ih =>
    intro v4 h
    rw [m_isWay_3]
    refine j_iload (pc := 3) hX 4 rfl dX10_isWay_3 ?_
    refine j_aload_n (pc := 5) hX 0 rfl dX10_isWay_5 ?_
    refine j_getI (pc := 6) hX fgX10_231.1 fgX10_231.2 rfl dX10_isWay_6 ?_
    refine j_cge (pc := 9) (tgt := 59) hX rfl dX10_isWay_9 (fun _ => ?_) (fun _ => ?_)
    · refine j_locs [0, 1, 2] rfl ?_
      exact hk h
    · refine j_iload_n (pc := 12) hX 3 rfl dX10_isWay_12 ?_
      refine j_iload (pc := 13) hX 4 rfl dX10_isWay_13 ?_
      refine j_callSI (pc := 15) (As := fun z => [.int f3, .int v4]) (rest := []) hX (fun r e => m_t_isOf f3 v4 h r e) ymX10_isOf (lw_S q1926 q1927 q154 q1928) ⟨Nat.le_of_ble_eq_true rfl, Nat.le_of_ble_eq_true rfl⟩ rfl rfl (Nat.le_of_ble_eq_true rfl) dX10_isWay_15 (fun r2 h3 => ?_)
      refine j_ifeq (pc := 18) (tgt := 53) hX rfl dX10_isWay_18 (fun _ => ?_) (fun _ => ?_)
      · refine j_iinc (pc := 53) hX 4 rfl (1 : Int32) ic_1 (fun x4 => [(4, .int x4), (0, .ref (xz X + 0)), (1, .int f1), (2, .int f2), (3, .int f3)]) (fun _ => rfl) (Nat.le_of_ble_eq_true rfl) dX10_isWay_53 (fun x4 => ?_)
        refine j_goto (pc := 56) (tgt := 3) hX rfl dX10_isWay_56 ?_
        refine j_locs [1, 2, 3, 4, 0] rfl ?_
        exact ih x4 h3
      · refine j_aload_n (pc := 21) hX 0 rfl dX10_isWay_21 ?_
        refine j_getR (pc := 22) hX fgX10_100.1 fgX10_100.2 rfl rfl dX10_isWay_22 ?_
        refine j_iload (pc := 25) hX 4 rfl dX10_isWay_25 ?_
        refine j_iald (pc := 27) (n := 10) hX rfl dX10_isWay_27 (fun _ => ?_)
        refine j_iload_n (pc := 28) hX 2 rfl dX10_isWay_28 ?_
        refine j_callSI (pc := 29) (As := fun z => [.int (gI h3 29 (v4).toNatClampNeg), .int f2]) (rest := []) hX (fun r e => m_t_isOf (gI h3 29 (v4).toNatClampNeg) f2 h3 r e) ymX10_isOf (lw_S q1926 q1927 q154 q1928) ⟨Nat.le_of_ble_eq_true rfl, Nat.le_of_ble_eq_true rfl⟩ rfl rfl (Nat.le_of_ble_eq_true rfl) dX10_isWay_29 (fun r5 h6 => ?_)
        refine j_ifne (pc := 32) (tgt := 53) hX rfl dX10_isWay_32 (fun _ => ?_) (fun _ => ?_)
        · refine j_aload_n (pc := 35) hX 0 rfl dX10_isWay_35 ?_
          refine j_getR (pc := 36) hX fgX10_100.1 fgX10_100.2 rfl rfl dX10_isWay_36 ?_
          refine j_iconst (pc := 39) hX ic_5 dX10_isWay_39 ?_
          refine j_iload (pc := 40) hX 4 rfl dX10_isWay_40 ?_
          refine j_iadd (pc := 42) hX dX10_isWay_42 ?_
          refine j_iald (pc := 43) (n := 10) hX rfl dX10_isWay_43 (fun _ => ?_)
          refine j_iload_n (pc := 44) hX 2 rfl dX10_isWay_44 ?_
          refine j_callSI (pc := 45) (As := fun z => [.int (gI h6 29 (((5 : Int32) + v4)).toNatClampNeg), .int f2]) (rest := []) hX (fun r e => m_t_isOf (gI h6 29 (((5 : Int32) + v4)).toNatClampNeg) f2 h6 r e) ymX10_isOf (lw_S q1926 q1927 q154 q1928) ⟨Nat.le_of_ble_eq_true rfl, Nat.le_of_ble_eq_true rfl⟩ rfl rfl (Nat.le_of_ble_eq_true rfl) dX10_isWay_45 (fun r7 h8 => ?_)
          refine j_ifeq (pc := 48) (tgt := 53) hX rfl dX10_isWay_48 (fun _ => ?_) (fun _ => ?_)
          · refine j_iinc (pc := 53) hX 4 rfl (1 : Int32) ic_1 (fun x9 => [(4, .int x9), (0, .ref (xz X + 0)), (1, .int f1), (2, .int f2), (3, .int f3)]) (fun _ => rfl) (Nat.le_of_ble_eq_true rfl) dX10_isWay_53 (fun x9 => ?_)
            refine j_goto (pc := 56) (tgt := 3) hX rfl dX10_isWay_56 ?_
            refine j_locs [1, 2, 3, 4, 0] rfl ?_
            exact ih x9 h8
          · refine j_iconst (pc := 51) hX ic_0 dX10_isWay_51 ?_
            exact j_zret (pc := 52) hX (Or.inl rfl) hr dX10_isWay_52
        · refine j_iinc (pc := 53) hX 4 rfl (1 : Int32) ic_1 (fun x10 => [(4, .int x10), (0, .ref (xz X + 0)), (1, .int f1), (2, .int f2), (3, .int f3)]) (fun _ => rfl) (Nat.le_of_ble_eq_true rfl) dX10_isWay_53 (fun x10 => ?_)
          refine j_goto (pc := 56) (tgt := 3) hX rfl dX10_isWay_56 ?_
          refine j_locs [1, 2, 3, 4, 0] rfl ?_
          exact ih x10 h6
set_option maxHeartbeats 4000000 in
set_option maxRecDepth 100000 in
theorem m_t_isWay (a1 : Int32) (a2 : Int32) (a3 : Int32) (h : HP) (rr : Int32 × HP) (e : m_isWay a1 a2 a3 h = some rr) : Cn mV yX10_isWay (ws_ yX10_isWay cX10_isWay 5 (some .boolean)) 2 21 (fun z => [.ref (z + 0), .int a1, .int a2, .int a3]) h (fun z => eI z rr.1) rr.2 := by
  refine cn_of (e1 := eI) (fun z => [(0, .ref (z + 0)), (1, .int a1), (2, .int a2), (3, .int a3)]) mV_ok ⟨Nat.le_refl _, Nat.le_refl _⟩ ymX10_isWay (fun _ => rfl) (fun _ => Nat.le_of_ble_eq_true rfl) (fun X hX hr _ => ?_) e
  have hX : okX mV X rr cX10_isWay RX10 5 2 21 := hX
  rw [m_isWay]
  refine j_iconst (pc := 0) hX ic_0 dX10_isWay_0 ?_
  refine j_istore (pc := 1) hX (fun x1 => [(4, .int x1), (0, .ref (xz X + 0)), (1, .int a1), (2, .int a2), (3, .int a3)]) (fun _ => rfl) (Nat.le_of_ble_eq_true rfl) dX10_isWay_1 (fun x1 => ?_)
  refine j_locs [1, 2, 3, 4, 0] rfl ?_
  refine m_isWay_3_w hX hr a1 a2 a3 _ (fun  h11 => ?_) FU x1 h
  refine j_aload_n (pc := 59) hX 0 rfl dX10_isWay_59 ?_
  refine j_getR (pc := 60) hX fgX10_100.1 fgX10_100.2 rfl rfl dX10_isWay_60 ?_
  refine j_iconst (pc := 63) hX ic_5 dX10_isWay_63 ?_
  refine j_iload_n (pc := 64) hX 1 rfl dX10_isWay_64 ?_
  refine j_iadd (pc := 65) hX dX10_isWay_65 ?_
  refine j_iald (pc := 66) (n := 10) hX rfl dX10_isWay_66 (fun _ => ?_)
  refine j_iload_n (pc := 67) hX 2 rfl dX10_isWay_67 ?_
  refine j_callSI (pc := 68) (As := fun z => [.int (gI h11 29 (((5 : Int32) + a1)).toNatClampNeg), .int a2]) (rest := []) hX (fun r e => m_t_isOf (gI h11 29 (((5 : Int32) + a1)).toNatClampNeg) a2 h11 r e) ymX10_isOf (lw_S q1926 q1927 q154 q1928) ⟨Nat.le_of_ble_eq_true rfl, Nat.le_of_ble_eq_true rfl⟩ rfl rfl (Nat.le_of_ble_eq_true rfl) dX10_isWay_68 (fun r12 h13 => ?_)
  refine j_grd fun g14 => ?_
  exact j_zret (pc := 71) hX g14 hr dX10_isWay_71
set_option maxHeartbeats 4000000 in
set_option maxRecDepth 100000 in
theorem m_wayOf_18_w {X : CTX} {rr : Int32 × HP} (hX : okX mV X rr cX10_wayOf RX10 8 8 173) (hr : (xh X).sig.returnType = some .int) (f1 : Int32) (f2 : Int32) (f3 : Int32) (f4 : Int32) (k : HP → Option (Int32 × HP)) (hk : ∀ (h : HP), jG mV X evI rr (k h) 66 [(0, .ref (xz X + 0)), (1, .int f1), (2, .int f2), (3, .int f3), (4, .int f4)] [] h) : ∀ (n : Nat) (v5 : Int32) (h : HP), jG mV X evI rr (m_wayOf_18 f1 f2 f3 f4 k n v5 h) 18 [(0, .ref (xz X + 0)), (1, .int f1), (2, .int f2), (3, .int f3), (4, .int f4), (5, .int v5)] [] h := by
  intro n
  induction n with
  | zero =>
    intro v5 h
    exact j_none
  | succ n ih =>
    intro v5 h
    rw [m_wayOf_18]
    refine j_iload (pc := 18) hX 5 rfl dX10_wayOf_18 ?_
    refine j_aload_n (pc := 20) hX 0 rfl dX10_wayOf_20 ?_
    refine j_callVI (pc := 21) (a := 0) (As := fun z => []) (rest := [.int v5]) hX (fun r e => m_t_steps h r e) ymX10_steps (lw_V q2186 q2188 qs122 q154 q2189) rfl ckX10 rfl ⟨Nat.le_of_ble_eq_true rfl, Nat.le_of_ble_eq_true rfl⟩ rfl rfl (Nat.le_of_ble_eq_true rfl) dX10_wayOf_21 (fun r4 h5 => ?_)
    refine j_cge (pc := 24) (tgt := 66) hX rfl dX10_wayOf_24 (fun _ => ?_) (fun _ => ?_)
    · refine j_locs [0, 1, 2, 3, 4] rfl ?_
      exact hk h5
    · refine j_aload_n (pc := 27) hX 0 rfl dX10_wayOf_27 ?_
      refine j_callVV (pc := 28) (a := 0) (As := fun z => []) (rest := []) hX (fun r e => m_t_layTried h5 r e) ymX10_layTried (lw_V q2126 q2128 qs115 q154 q2129) rfl ckX10 rfl ⟨Nat.le_of_ble_eq_true rfl, Nat.le_of_ble_eq_true rfl⟩ rfl rfl (Nat.le_of_ble_eq_true rfl) dX10_wayOf_28 (fun r6 h7 => ?_)
      refine j_aload_n (pc := 31) hX 0 rfl dX10_wayOf_31 ?_
      refine j_getR (pc := 32) hX fgX10_115.1 fgX10_115.2 rfl rfl dX10_wayOf_32 ?_
      refine j_iconst (pc := 35) hX ic_0 dX10_wayOf_35 ?_
      refine j_iload (pc := 36) hX 5 rfl dX10_wayOf_36 ?_
      refine j_iast (pc := 38) (n := 2) hX rfl dX10_wayOf_38 (fun _ h8 => ?_)
      refine j_aload_n (pc := 39) hX 0 rfl dX10_wayOf_39 ?_
      refine j_iload (pc := 40) hX 5 rfl dX10_wayOf_40 ?_
      refine j_callVI (pc := 42) (a := 0) (As := fun z => [.int v5]) (rest := []) hX (fun r e => m_t_does v5 h8 r e) ymX10_does (lw_V q2190 q2192 qs123 q154 q2193) rfl ckX10 rfl ⟨Nat.le_of_ble_eq_true rfl, Nat.le_of_ble_eq_true rfl⟩ rfl rfl (Nat.le_of_ble_eq_true rfl) dX10_wayOf_42 (fun r9 h10 => ?_)
      refine j_ifeq (pc := 45) (tgt := 60) hX rfl dX10_wayOf_45 (fun _ => ?_) (fun _ => ?_)
      · refine j_iinc (pc := 60) hX 5 rfl (1 : Int32) ic_1 (fun x11 => [(5, .int x11), (0, .ref (xz X + 0)), (1, .int f1), (2, .int f2), (3, .int f3), (4, .int f4)]) (fun _ => rfl) (Nat.le_of_ble_eq_true rfl) dX10_wayOf_60 (fun x11 => ?_)
        refine j_goto (pc := 63) (tgt := 18) hX rfl dX10_wayOf_63 ?_
        refine j_locs [1, 2, 3, 4, 5, 0] rfl ?_
        exact ih x11 h10
      · refine j_aload_n (pc := 48) hX 0 rfl dX10_wayOf_48 ?_
        refine j_iload_n (pc := 49) hX 1 rfl dX10_wayOf_49 ?_
        refine j_iload_n (pc := 50) hX 2 rfl dX10_wayOf_50 ?_
        refine j_iload_n (pc := 51) hX 3 rfl dX10_wayOf_51 ?_
        refine j_callVI (pc := 52) (a := 0) (As := fun z => [.int f1, .int f2, .int f3]) (rest := []) hX (fun r e => m_t_isWay f1 f2 f3 h10 r e) ymX10_isWay (lw_V q2206 q2208 qs127 q154 q2209) rfl ckX10 rfl ⟨Nat.le_of_ble_eq_true rfl, Nat.le_of_ble_eq_true rfl⟩ rfl rfl (Nat.le_of_ble_eq_true rfl) dX10_wayOf_52 (fun r12 h13 => ?_)
        refine j_ifeq (pc := 55) (tgt := 60) hX rfl dX10_wayOf_55 (fun _ => ?_) (fun _ => ?_)
        · refine j_iinc (pc := 60) hX 5 rfl (1 : Int32) ic_1 (fun x14 => [(5, .int x14), (0, .ref (xz X + 0)), (1, .int f1), (2, .int f2), (3, .int f3), (4, .int f4)]) (fun _ => rfl) (Nat.le_of_ble_eq_true rfl) dX10_wayOf_60 (fun x14 => ?_)
          refine j_goto (pc := 63) (tgt := 18) hX rfl dX10_wayOf_63 ?_
          refine j_locs [1, 2, 3, 4, 5, 0] rfl ?_
          exact ih x14 h13
        · refine j_iconst (pc := 58) hX ic_1 dX10_wayOf_58 ?_
          exact j_iret (pc := 59) hX hr dX10_wayOf_59
set_option maxHeartbeats 4000000 in
set_option maxRecDepth 100000 in
theorem m_wayOf_103_w {X : CTX} {rr : Int32 × HP} (hX : okX mV X rr cX10_wayOf RX10 8 8 173) (hr : (xh X).sig.returnType = some .int) (f1 : Int32) (f2 : Int32) (f3 : Int32) (f4 : Int32) (f5 : Int32) (k : HP → Option (Int32 × HP)) (hk : ∀ (h : HP), jG mV X evI rr (k h) 180 [(0, .ref (xz X + 0)), (1, .int f1), (2, .int f2), (3, .int f3), (4, .int f4), (5, .int f5)] [] h) : ∀ (n : Nat) (v6 : Int32) (h : HP), jG mV X evI rr (m_wayOf_103 f1 f2 f3 f4 f5 k n v6 h) 103 [(0, .ref (xz X + 0)), (1, .int f1), (2, .int f2), (3, .int f3), (4, .int f4), (5, .int f5), (6, .int v6)] [] h := by
  intro n
  induction n with
  | zero =>
    intro v6 h
    exact j_none
  | succ n ih =>
    intro v6 h
    rw [m_wayOf_103]
    refine j_iload (pc := 103) hX 6 rfl dX10_wayOf_103 ?_
    refine j_aload_n (pc := 105) hX 0 rfl dX10_wayOf_105 ?_
    refine j_callVI (pc := 106) (a := 0) (As := fun z => []) (rest := [.int v6]) hX (fun r e => m_t_steps h r e) ymX10_steps (lw_V q2186 q2188 qs122 q154 q2189) rfl ckX10 rfl ⟨Nat.le_of_ble_eq_true rfl, Nat.le_of_ble_eq_true rfl⟩ rfl rfl (Nat.le_of_ble_eq_true rfl) dX10_wayOf_106 (fun r25 h26 => ?_)
    refine j_cge (pc := 109) (tgt := 180) hX rfl dX10_wayOf_109 (fun _ => ?_) (fun _ => ?_)
    · refine j_locs [0, 1, 2, 3, 4, 5] rfl ?_
      exact hk h26
    · refine j_aload_n (pc := 112) hX 0 rfl dX10_wayOf_112 ?_
      refine j_callVV (pc := 113) (a := 0) (As := fun z => []) (rest := []) hX (fun r e => m_t_layTried h26 r e) ymX10_layTried (lw_V q2126 q2128 qs115 q154 q2129) rfl ckX10 rfl ⟨Nat.le_of_ble_eq_true rfl, Nat.le_of_ble_eq_true rfl⟩ rfl rfl (Nat.le_of_ble_eq_true rfl) dX10_wayOf_113 (fun r27 h28 => ?_)
      refine j_aload_n (pc := 116) hX 0 rfl dX10_wayOf_116 ?_
      refine j_iload (pc := 117) hX 5 rfl dX10_wayOf_117 ?_
      refine j_callVI (pc := 119) (a := 0) (As := fun z => [.int f5]) (rest := []) hX (fun r e => m_t_does f5 h28 r e) ymX10_does (lw_V q2190 q2192 qs123 q154 q2193) rfl ckX10 rfl ⟨Nat.le_of_ble_eq_true rfl, Nat.le_of_ble_eq_true rfl⟩ rfl rfl (Nat.le_of_ble_eq_true rfl) dX10_wayOf_119 (fun r29 h30 => ?_)
      refine j_jon (fun (j31 : Int32 → HP → Option (Int32 × HP)) => ∀ (s32 : Int32) (h33 : HP), jG mV X evI rr (j31 s32 h33) 139 [(0, .ref (xz X + 0)), (1, .int f1), (2, .int f2), (3, .int f3), (4, .int f4), (5, .int f5), (6, .int v6)] [.int s32] h33) ?_ ?_
      · intro s32 h33
        refine j_istore (pc := 139) hX (fun x34 => [(7, .int x34), (0, .ref (xz X + 0)), (1, .int f1), (2, .int f2), (3, .int f3), (4, .int f4), (5, .int f5), (6, .int v6)]) (fun _ => rfl) (Nat.le_of_ble_eq_true rfl) dX10_wayOf_139 (fun x34 => ?_)
        refine j_aload_n (pc := 141) hX 1 rfl dX10_wayOf_141 ?_
        refine j_getR (pc := 142) hX fgX10_115.1 fgX10_115.2 rfl rfl dX10_wayOf_142 ?_
        refine j_iconst (pc := 145) hX ic_0 dX10_wayOf_145 ?_
        refine j_iload (pc := 146) hX 6 rfl dX10_wayOf_146 ?_
        refine j_iast (pc := 148) (n := 2) hX rfl dX10_wayOf_148 (fun _ h35 => ?_)
        refine j_aload_n (pc := 149) hX 1 rfl dX10_wayOf_149 ?_
        refine j_getR (pc := 150) hX fgX10_115.1 fgX10_115.2 rfl rfl dX10_wayOf_150 ?_
        refine j_iconst (pc := 153) hX ic_1 dX10_wayOf_153 ?_
        refine j_iload (pc := 154) hX 7 rfl dX10_wayOf_154 ?_
        refine j_iast (pc := 156) (n := 2) hX rfl dX10_wayOf_156 (fun _ h36 => ?_)
        refine j_iload (pc := 157) hX 0 rfl dX10_wayOf_157 ?_
        refine j_ifeq (pc := 159) (tgt := 174) hX rfl dX10_wayOf_159 (fun _ => ?_) (fun _ => ?_)
        · refine j_iinc (pc := 174) hX 7 rfl (1 : Int32) ic_1 (fun x37 => [(6, .int x37), (7, .int x34), (0, .ref (xz X + 0)), (1, .int f1), (2, .int f2), (3, .int f3), (4, .int f4), (5, .int f5)]) (fun _ => rfl) (Nat.le_of_ble_eq_true rfl) dX10_wayOf_174 (fun x37 => ?_)
          refine j_goto (pc := 177) (tgt := 103) hX rfl dX10_wayOf_177 ?_
          refine j_locs [2, 3, 4, 5, 6, 7, 0] rfl ?_
          exact ih x37 h36
        · refine j_aload_n (pc := 162) hX 1 rfl dX10_wayOf_162 ?_
          refine j_iload_n (pc := 163) hX 2 rfl dX10_wayOf_163 ?_
          refine j_iload_n (pc := 164) hX 3 rfl dX10_wayOf_164 ?_
          refine j_iload_n (pc := 165) hX 4 rfl dX10_wayOf_165 ?_
          refine j_callVI (pc := 166) (a := 0) (As := fun z => [.int f1, .int f2, .int f3]) (rest := []) hX (fun r e => m_t_isWay f1 f2 f3 h36 r e) ymX10_isWay (lw_V q2206 q2208 qs127 q154 q2209) rfl ckX10 rfl ⟨Nat.le_of_ble_eq_true rfl, Nat.le_of_ble_eq_true rfl⟩ rfl rfl (Nat.le_of_ble_eq_true rfl) dX10_wayOf_166 (fun r38 h39 => ?_)
          refine j_ifeq (pc := 169) (tgt := 174) hX rfl dX10_wayOf_169 (fun _ => ?_) (fun _ => ?_)
          · refine j_iinc (pc := 174) hX 7 rfl (1 : Int32) ic_1 (fun x40 => [(6, .int x40), (7, .int x34), (0, .ref (xz X + 0)), (1, .int f1), (2, .int f2), (3, .int f3), (4, .int f4), (5, .int f5)]) (fun _ => rfl) (Nat.le_of_ble_eq_true rfl) dX10_wayOf_174 (fun x40 => ?_)
            refine j_goto (pc := 177) (tgt := 103) hX rfl dX10_wayOf_177 ?_
            refine j_locs [2, 3, 4, 5, 6, 7, 0] rfl ?_
            exact ih x40 h39
          · refine j_iconst (pc := 172) hX ic_2 dX10_wayOf_172 ?_
            exact j_iret (pc := 173) hX hr dX10_wayOf_173
      · intro j31 hj31
        refine j_jon (fun (j41 : HP → Option (Int32 × HP)) => ∀ (h42 : HP), jG mV X evI rr (j41 h42) 138 [(0, .ref (xz X + 0)), (1, .int f1), (2, .int f2), (3, .int f3), (4, .int f4), (5, .int f5), (6, .int v6)] [] h42) ?_ ?_
        · intro h42
          refine j_iconst (pc := 138) hX ic_0 dX10_wayOf_138 ?_
          exact hj31 (0 : Int32) h42
        · intro j41 hj41
          refine j_ifeq (pc := 122) (tgt := 138) hX rfl dX10_wayOf_122 (fun _ => ?_) (fun _ => ?_)
          · exact hj41 h30
          · refine j_aload_n (pc := 125) hX 0 rfl dX10_wayOf_125 ?_
            refine j_iload (pc := 126) hX 6 rfl dX10_wayOf_126 ?_
            refine j_callVI (pc := 128) (a := 0) (As := fun z => [.int v6]) (rest := []) hX (fun r e => m_t_does v6 h30 r e) ymX10_does (lw_V q2190 q2192 qs123 q154 q2193) rfl ckX10 rfl ⟨Nat.le_of_ble_eq_true rfl, Nat.le_of_ble_eq_true rfl⟩ rfl rfl (Nat.le_of_ble_eq_true rfl) dX10_wayOf_128 (fun r43 h44 => ?_)
            refine j_ifeq (pc := 131) (tgt := 138) hX rfl dX10_wayOf_131 (fun _ => ?_) (fun _ => ?_)
            · exact hj41 h44
            · refine j_iconst (pc := 134) hX ic_1 dX10_wayOf_134 ?_
              refine j_goto (pc := 135) (tgt := 139) hX rfl dX10_wayOf_135 ?_
              exact hj31 (1 : Int32) h44
set_option maxHeartbeats 4000000 in
set_option maxRecDepth 100000 in
theorem m_wayOf_69_w {X : CTX} {rr : Int32 × HP} (hX : okX mV X rr cX10_wayOf RX10 8 8 173) (hr : (xh X).sig.returnType = some .int) (f1 : Int32) (f2 : Int32) (f3 : Int32) (f4 : Int32) (k : HP → Option (Int32 × HP)) (hk : ∀ (h : HP), jG mV X evI rr (k h) 186 [] [] h) : ∀ (n : Nat) (v5 : Int32) (h : HP), jG mV X evI rr (m_wayOf_69 f1 f2 f3 f4 k n v5 h) 69 [(0, .ref (xz X + 0)), (1, .int f1), (2, .int f2), (3, .int f3), (4, .int f4), (5, .int v5)] [] h := by
  intro n
  induction n with
  | zero =>
    intro v5 h
    exact j_none
  | succ n ih =>
    intro v5 h
    rw [m_wayOf_69]
    refine j_iload (pc := 69) hX 5 rfl dX10_wayOf_69 ?_
    refine j_aload_n (pc := 71) hX 0 rfl dX10_wayOf_71 ?_
    refine j_callVI (pc := 72) (a := 0) (As := fun z => []) (rest := [.int v5]) hX (fun r e => m_t_steps h r e) ymX10_steps (lw_V q2186 q2188 qs122 q154 q2189) rfl ckX10 rfl ⟨Nat.le_of_ble_eq_true rfl, Nat.le_of_ble_eq_true rfl⟩ rfl rfl (Nat.le_of_ble_eq_true rfl) dX10_wayOf_72 (fun r17 h18 => ?_)
    refine j_cge (pc := 75) (tgt := 186) hX rfl dX10_wayOf_75 (fun _ => ?_) (fun _ => ?_)
    · refine j_locs [] rfl ?_
      exact hk h18
    · refine j_iload (pc := 78) hX 4 rfl dX10_wayOf_78 ?_
      refine j_iconst (pc := 80) hX ic_2 dX10_wayOf_80 ?_
      refine j_cne (pc := 81) (tgt := 186) hX rfl dX10_wayOf_81 (fun _ => ?_) (fun _ => ?_)
      · refine j_aload_n (pc := 84) hX 0 rfl dX10_wayOf_84 ?_
        refine j_callVV (pc := 85) (a := 0) (As := fun z => []) (rest := []) hX (fun r e => m_t_layTried h18 r e) ymX10_layTried (lw_V q2126 q2128 qs115 q154 q2129) rfl ckX10 rfl ⟨Nat.le_of_ble_eq_true rfl, Nat.le_of_ble_eq_true rfl⟩ rfl rfl (Nat.le_of_ble_eq_true rfl) dX10_wayOf_85 (fun r19 h20 => ?_)
        refine j_aload_n (pc := 88) hX 0 rfl dX10_wayOf_88 ?_
        refine j_iload (pc := 89) hX 5 rfl dX10_wayOf_89 ?_
        refine j_callVI (pc := 91) (a := 0) (As := fun z => [.int v5]) (rest := []) hX (fun r e => m_t_does v5 h20 r e) ymX10_does (lw_V q2190 q2192 qs123 q154 q2193) rfl ckX10 rfl ⟨Nat.le_of_ble_eq_true rfl, Nat.le_of_ble_eq_true rfl⟩ rfl rfl (Nat.le_of_ble_eq_true rfl) dX10_wayOf_91 (fun r21 h22 => ?_)
        refine j_ifne (pc := 94) (tgt := 100) hX rfl dX10_wayOf_94 (fun _ => ?_) (fun _ => ?_)
        · refine j_goto (pc := 97) (tgt := 180) hX rfl dX10_wayOf_97 ?_
          refine j_iinc (pc := 180) hX 5 rfl (1 : Int32) ic_1 (fun x23 => [(5, .int x23), (0, .ref (xz X + 0)), (1, .int f1), (2, .int f2), (3, .int f3), (4, .int f4)]) (fun _ => rfl) (Nat.le_of_ble_eq_true rfl) dX10_wayOf_180 (fun x23 => ?_)
          refine j_goto (pc := 183) (tgt := 69) hX rfl dX10_wayOf_183 ?_
          refine j_locs [1, 2, 3, 4, 5, 0] rfl ?_
          exact ih x23 h22
        · refine j_iconst (pc := 100) hX ic_0 dX10_wayOf_100 ?_
          refine j_istore (pc := 101) hX (fun x24 => [(6, .int x24), (0, .ref (xz X + 0)), (1, .int f1), (2, .int f2), (3, .int f3), (4, .int f4), (5, .int v5)]) (fun _ => rfl) (Nat.le_of_ble_eq_true rfl) dX10_wayOf_101 (fun x24 => ?_)
          refine j_locs [1, 2, 3, 4, 5, 6, 0] rfl ?_
          refine m_wayOf_103_w hX hr f1 f2 f3 f4 v5 _ (fun  h45 => ?_) FU x24 h22
          refine j_iinc (pc := 180) hX 5 rfl (1 : Int32) ic_1 (fun x46 => [(5, .int x46), (0, .ref (xz X + 0)), (1, .int f1), (2, .int f2), (3, .int f3), (4, .int f4)]) (fun _ => rfl) (Nat.le_of_ble_eq_true rfl) dX10_wayOf_180 (fun x46 => ?_)
          refine j_goto (pc := 183) (tgt := 69) hX rfl dX10_wayOf_183 ?_
          refine j_locs [1, 2, 3, 4, 5, 0] rfl ?_
          exact ih x46 h45
      · refine j_locs [] rfl ?_
        exact hk h18
set_option maxHeartbeats 4000000 in
set_option maxRecDepth 100000 in
theorem m_t_wayOf (a1 : Int32) (a2 : Int32) (a3 : Int32) (a4 : Int32) (h : HP) (rr : Int32 × HP) (e : m_wayOf a1 a2 a3 a4 h = some rr) : Cn mV yX10_wayOf (ws_ yX10_wayOf cX10_wayOf 8 (some .int)) 8 173 (fun z => [.ref (z + 0), .int a1, .int a2, .int a3, .int a4]) h (fun z => eI z rr.1) rr.2 := by
  refine cn_of (e1 := eI) (fun z => [(0, .ref (z + 0)), (1, .int a1), (2, .int a2), (3, .int a3), (4, .int a4)]) mV_ok ⟨Nat.le_refl _, Nat.le_refl _⟩ ymX10_wayOf (fun _ => rfl) (fun _ => Nat.le_of_ble_eq_true rfl) (fun X hX hr _ => ?_) e
  have hX : okX mV X rr cX10_wayOf RX10 8 8 173 := hX
  rw [m_wayOf]
  refine j_aload_n (pc := 0) hX 0 rfl dX10_wayOf_0 ?_
  refine j_getR (pc := 1) hX fgX10_100.1 fgX10_100.2 rfl rfl dX10_wayOf_1 ?_
  refine j_iload_n (pc := 4) hX 1 rfl dX10_wayOf_4 ?_
  refine j_iald (pc := 5) (n := 10) hX rfl dX10_wayOf_5 (fun _ => ?_)
  refine j_iload_n (pc := 6) hX 2 rfl dX10_wayOf_6 ?_
  refine j_callSI (pc := 7) (As := fun z => [.int (gI h 29 (a1).toNatClampNeg), .int a2]) (rest := []) hX (fun r e => m_t_isOf (gI h 29 (a1).toNatClampNeg) a2 h r e) ymX10_isOf (lw_S q1926 q1927 q154 q1928) ⟨Nat.le_of_ble_eq_true rfl, Nat.le_of_ble_eq_true rfl⟩ rfl rfl (Nat.le_of_ble_eq_true rfl) dX10_wayOf_7 (fun r1 h2 => ?_)
  refine j_ifeq (pc := 10) (tgt := 15) hX rfl dX10_wayOf_10 (fun _ => ?_) (fun _ => ?_)
  · refine j_iconst (pc := 15) hX ic_0 dX10_wayOf_15 ?_
    refine j_istore (pc := 16) hX (fun x3 => [(5, .int x3), (0, .ref (xz X + 0)), (1, .int a1), (2, .int a2), (3, .int a3), (4, .int a4)]) (fun _ => rfl) (Nat.le_of_ble_eq_true rfl) dX10_wayOf_16 (fun x3 => ?_)
    refine j_locs [1, 2, 3, 4, 5, 0] rfl ?_
    refine m_wayOf_18_w hX hr a1 a2 a3 a4 _ (fun  h15 => ?_) FU x3 h2
    refine j_iconst (pc := 66) hX ic_0 dX10_wayOf_66 ?_
    refine j_istore (pc := 67) hX (fun x16 => [(5, .int x16), (0, .ref (xz X + 0)), (1, .int a1), (2, .int a2), (3, .int a3), (4, .int a4)]) (fun _ => rfl) (Nat.le_of_ble_eq_true rfl) dX10_wayOf_67 (fun x16 => ?_)
    refine j_locs [1, 2, 3, 4, 5, 0] rfl ?_
    refine m_wayOf_69_w hX hr a1 a2 a3 a4 _ (fun  h47 => ?_) FU x16 h15
    refine j_bipush (pc := 186) hX bp_m2 dX10_wayOf_186 ?_
    exact j_iret (pc := 188) hX hr dX10_wayOf_188
  · refine j_iconst (pc := 13) hX ic_0 dX10_wayOf_13 ?_
    exact j_iret (pc := 14) hX hr dX10_wayOf_14
set_option maxHeartbeats 4000000 in
set_option maxRecDepth 100000 in
theorem m_t_way (a1 : Int32) (a2 : Int32) (a3 : Int32) (a4 : Int32) (h : HP) (rr : Int32 × HP) (e : m_way a1 a2 a3 a4 h = some rr) : Cn mV yX10_way (ws_ yX10_way cX10_way 5 (some .int)) 9 200 (fun z => [.ref (z + 0), .int a1, .int a2, .int a3, .int a4]) h (fun z => eI z rr.1) rr.2 := by
  refine cn_of (e1 := eI) (fun z => [(0, .ref (z + 0)), (1, .int a1), (2, .int a2), (3, .int a3), (4, .int a4)]) mV_ok ⟨Nat.le_refl _, Nat.le_refl _⟩ ymX10_way (fun _ => rfl) (fun _ => Nat.le_of_ble_eq_true rfl) (fun X hX hr _ => ?_) e
  have hX : okX mV X rr cX10_way RX10 5 9 200 := hX
  rw [m_way]
  refine j_aload_n (pc := 0) hX 0 rfl dX10_way_0 ?_
  refine j_iconst (pc := 1) hX ic_0 dX10_way_1 ?_
  refine j_putI (pc := 2) hX fwX10_148.1 fwX10_148.2 rfl dX10_way_2 (fun h1 => ?_)
  refine j_aload_n (pc := 5) hX 0 rfl dX10_way_5 ?_
  refine j_iload_n (pc := 6) hX 1 rfl dX10_way_6 ?_
  refine j_iload_n (pc := 7) hX 2 rfl dX10_way_7 ?_
  refine j_iload_n (pc := 8) hX 3 rfl dX10_way_8 ?_
  refine j_iload (pc := 9) hX 4 rfl dX10_way_9 ?_
  refine j_callVI (pc := 11) (a := 0) (As := fun z => [.int a1, .int a2, .int a3, .int a4]) (rest := []) hX (fun r e => m_t_isAsked a1 a2 a3 a4 h1 r e) ymX10_isAsked (lw_V q2178 q2180 qs120 q154 q2181) rfl ckX10 rfl ⟨Nat.le_of_ble_eq_true rfl, Nat.le_of_ble_eq_true rfl⟩ rfl rfl (Nat.le_of_ble_eq_true rfl) dX10_way_11 (fun r2 h3 => ?_)
  refine j_ifeq (pc := 14) (tgt := 29) hX rfl dX10_way_14 (fun _ => ?_) (fun _ => ?_)
  · refine j_iconst (pc := 29) hX ic_m1 dX10_way_29 ?_
    exact j_iret (pc := 30) hX hr dX10_way_30
  · refine j_aload_n (pc := 17) hX 0 rfl dX10_way_17 ?_
    refine j_iload_n (pc := 18) hX 1 rfl dX10_way_18 ?_
    refine j_iload_n (pc := 19) hX 2 rfl dX10_way_19 ?_
    refine j_iload_n (pc := 20) hX 3 rfl dX10_way_20 ?_
    refine j_iload (pc := 21) hX 4 rfl dX10_way_21 ?_
    refine j_callVI (pc := 23) (a := 0) (As := fun z => [.int a1, .int a2, .int a3, .int a4]) (rest := []) hX (fun r e => m_t_wayOf a1 a2 a3 a4 h3 r e) ymX10_wayOf (lw_V q2182 q2184 qs121 q154 q2185) rfl ckX10 rfl ⟨Nat.le_of_ble_eq_true rfl, Nat.le_of_ble_eq_true rfl⟩ rfl rfl (Nat.le_of_ble_eq_true rfl) dX10_way_23 (fun r4 h5 => ?_)
    refine j_goto (pc := 26) (tgt := 30) hX rfl dX10_way_26 ?_
    exact j_iret (pc := 30) hX hr dX10_way_30
set_option maxHeartbeats 4000000 in
set_option maxRecDepth 100000 in
theorem m_t_step (a1 : Int32) (a2 : Int32) (a3 : Int32) (a4 : Int32) (a5 : Int32) (h : HP) (rr : Int32 × HP) (e : m_step a1 a2 a3 a4 a5 h = some rr) : Cn mV yX10_step (ws_ yX10_step cX10_step 7 (some .int)) 9 200 (fun z => [.ref (z + 0), .int a1, .int a2, .int a3, .int a4, .int a5]) h (fun z => eI z rr.1) rr.2 := by
  refine cn_of (e1 := eI) (fun z => [(0, .ref (z + 0)), (1, .int a1), (2, .int a2), (3, .int a3), (4, .int a4), (5, .int a5)]) mV_ok ⟨Nat.le_refl _, Nat.le_refl _⟩ ymX10_step (fun _ => rfl) (fun _ => Nat.le_of_ble_eq_true rfl) (fun X hX hr _ => ?_) e
  have hX : okX mV X rr cX10_step RX10 7 9 200 := hX
  rw [m_step]
  refine j_aload_n (pc := 0) hX 0 rfl dX10_step_0 ?_
  refine j_iconst (pc := 1) hX ic_0 dX10_step_1 ?_
  refine j_putI (pc := 2) hX fwX10_148.1 fwX10_148.2 rfl dX10_step_2 (fun h1 => ?_)
  refine j_aload_n (pc := 5) hX 0 rfl dX10_step_5 ?_
  refine j_iload_n (pc := 6) hX 1 rfl dX10_step_6 ?_
  refine j_iload_n (pc := 7) hX 2 rfl dX10_step_7 ?_
  refine j_iload_n (pc := 8) hX 3 rfl dX10_step_8 ?_
  refine j_iload (pc := 9) hX 4 rfl dX10_step_9 ?_
  refine j_callVI (pc := 11) (a := 0) (As := fun z => [.int a1, .int a2, .int a3, .int a4]) (rest := []) hX (fun r e => m_t_isAsked a1 a2 a3 a4 h1 r e) ymX10_isAsked (lw_V q2178 q2180 qs120 q154 q2181) rfl ckX10 rfl ⟨Nat.le_of_ble_eq_true rfl, Nat.le_of_ble_eq_true rfl⟩ rfl rfl (Nat.le_of_ble_eq_true rfl) dX10_step_11 (fun r2 h3 => ?_)
  refine j_ifeq (pc := 14) (tgt := 22) hX rfl dX10_step_14 (fun _ => ?_) (fun _ => ?_)
  · refine j_iconst (pc := 22) hX ic_m1 dX10_step_22 ?_
    exact j_iret (pc := 23) hX hr dX10_step_23
  · refine j_iload (pc := 17) hX 5 rfl dX10_step_17 ?_
    refine j_ifge (pc := 19) (tgt := 24) hX rfl dX10_step_19 (fun _ => ?_) (fun _ => ?_)
    · refine j_aload_n (pc := 24) hX 0 rfl dX10_step_24 ?_
      refine j_iload_n (pc := 25) hX 1 rfl dX10_step_25 ?_
      refine j_iload_n (pc := 26) hX 2 rfl dX10_step_26 ?_
      refine j_iload_n (pc := 27) hX 3 rfl dX10_step_27 ?_
      refine j_iload (pc := 28) hX 4 rfl dX10_step_28 ?_
      refine j_callVI (pc := 30) (a := 0) (As := fun z => [.int a1, .int a2, .int a3, .int a4]) (rest := []) hX (fun r e => m_t_wayOf a1 a2 a3 a4 h3 r e) ymX10_wayOf (lw_V q2182 q2184 qs121 q154 q2185) rfl ckX10 rfl ⟨Nat.le_of_ble_eq_true rfl, Nat.le_of_ble_eq_true rfl⟩ rfl rfl (Nat.le_of_ble_eq_true rfl) dX10_step_30 (fun r4 h5 => ?_)
      refine j_istore (pc := 33) hX (fun x6 => [(6, .int x6), (0, .ref (xz X + 0)), (1, .int a1), (2, .int a2), (3, .int a3), (4, .int a4), (5, .int a5)]) (fun _ => rfl) (Nat.le_of_ble_eq_true rfl) dX10_step_33 (fun x6 => ?_)
      refine j_iload (pc := 35) hX 6 rfl dX10_step_35 ?_
      refine j_iload (pc := 37) hX 0 rfl dX10_step_37 ?_
      refine j_clt (pc := 39) (tgt := 47) hX rfl dX10_step_39 (fun _ => ?_) (fun _ => ?_)
      · refine j_bipush (pc := 47) hX bp_100 dX10_step_47 ?_
        refine j_aload_n (pc := 49) hX 1 rfl dX10_step_49 ?_
        refine j_aload_n (pc := 50) hX 1 rfl dX10_step_50 ?_
        refine j_getR (pc := 51) hX fgX10_115.1 fgX10_115.2 rfl rfl dX10_step_51 ?_
        refine j_iload (pc := 54) hX 6 rfl dX10_step_54 ?_
        refine j_iald (pc := 56) (n := 2) hX rfl dX10_step_56 (fun _ => ?_)
        refine j_callVI (pc := 57) (a := 0) (As := fun z => [.int (gI h5 34 (a5).toNatClampNeg)]) (rest := [.int (100 : Int32)]) hX (fun r e => m_t_whoOf (gI h5 34 (a5).toNatClampNeg) h5 r e) ymX10_whoOf (lw_V q2194 q2196 qs124 q154 q2197) rfl ckX10 rfl ⟨Nat.le_of_ble_eq_true rfl, Nat.le_of_ble_eq_true rfl⟩ rfl rfl (Nat.le_of_ble_eq_true rfl) dX10_step_57 (fun r7 h8 => ?_)
        refine j_imul (pc := 60) hX dX10_step_60 ?_
        refine j_bipush (pc := 61) hX bp_10 dX10_step_61 ?_
        refine j_aload_n (pc := 63) hX 1 rfl dX10_step_63 ?_
        refine j_aload_n (pc := 64) hX 1 rfl dX10_step_64 ?_
        refine j_getR (pc := 65) hX fgX10_115.1 fgX10_115.2 rfl rfl dX10_step_65 ?_
        refine j_iload (pc := 68) hX 6 rfl dX10_step_68 ?_
        refine j_iald (pc := 70) (n := 2) hX rfl dX10_step_70 (fun _ => ?_)
        refine j_callVI (pc := 71) (a := 0) (As := fun z => [.int (gI h8 34 (a5).toNatClampNeg)]) (rest := [.int (10 : Int32), .int ((100 : Int32) * r7)]) hX (fun r e => m_t_whomOf (gI h8 34 (a5).toNatClampNeg) h8 r e) ymX10_whomOf (lw_V q2198 q2200 qs125 q154 q2201) rfl ckX10 rfl ⟨Nat.le_of_ble_eq_true rfl, Nat.le_of_ble_eq_true rfl⟩ rfl rfl (Nat.le_of_ble_eq_true rfl) dX10_step_71 (fun r9 h10 => ?_)
        refine j_imul (pc := 74) hX dX10_step_74 ?_
        refine j_iadd (pc := 75) hX dX10_step_75 ?_
        refine j_aload_n (pc := 76) hX 1 rfl dX10_step_76 ?_
        refine j_aload_n (pc := 77) hX 1 rfl dX10_step_77 ?_
        refine j_getR (pc := 78) hX fgX10_115.1 fgX10_115.2 rfl rfl dX10_step_78 ?_
        refine j_iload (pc := 81) hX 6 rfl dX10_step_81 ?_
        refine j_iald (pc := 83) (n := 2) hX rfl dX10_step_83 (fun _ => ?_)
        refine j_callVI (pc := 84) (a := 0) (As := fun z => [.int (gI h10 34 (a5).toNatClampNeg)]) (rest := [.int (((100 : Int32) * r7) + ((10 : Int32) * r9))]) hX (fun r e => m_t_whatOf (gI h10 34 (a5).toNatClampNeg) h10 r e) ymX10_whatOf (lw_V q2202 q2204 qs126 q154 q2205) rfl ckX10 rfl ⟨Nat.le_of_ble_eq_true rfl, Nat.le_of_ble_eq_true rfl⟩ rfl rfl (Nat.le_of_ble_eq_true rfl) dX10_step_84 (fun r11 h12 => ?_)
        refine j_iadd (pc := 87) hX dX10_step_87 ?_
        exact j_iret (pc := 88) hX hr dX10_step_88
      · refine j_bipush (pc := 42) hX bp_m2 dX10_step_42 ?_
        refine j_goto (pc := 44) (tgt := 88) hX rfl dX10_step_44 ?_
        exact j_iret (pc := 88) hX hr dX10_step_88
    · refine j_iconst (pc := 22) hX ic_m1 dX10_step_22 ?_
      exact j_iret (pc := 23) hX hr dX10_step_23
set_option maxHeartbeats 4000000 in
set_option maxRecDepth 100000 in
theorem m_isCare_42_w {X : CTX} {rr : Int32 × HP} (hX : okX mV X rr cX10_isCare RX10 5 7 148) (hr : (xh X).sig.returnType = some .boolean) (f1 : Int32) (f2 : Int32) (f3 : Int32) (k : HP → Option (Int32 × HP)) (hk : ∀ (h : HP), jG mV X evI rr (k h) 100 [(0, .ref (xz X + 0)), (1, .int f1), (2, .int f2), (3, .int f3)] [] h) : ∀ (n : Nat) (v4 : Int32) (h : HP), jG mV X evI rr (m_isCare_42 f1 f2 f3 k n v4 h) 42 [(0, .ref (xz X + 0)), (1, .int f1), (2, .int f2), (3, .int f3), (4, .int v4)] [] h := by
  intro n
  induction n with
  | zero =>
    intro v4 h
    exact j_none
  | succ n ih =>
    intro v4 h
    rw [m_isCare_42]
    refine j_iload (pc := 42) hX 4 rfl dX10_isCare_42 ?_
    refine j_aload_n (pc := 44) hX 0 rfl dX10_isCare_44 ?_
    refine j_getI (pc := 45) hX fgX10_231.1 fgX10_231.2 rfl dX10_isCare_45 ?_
    refine j_cge (pc := 48) (tgt := 100) hX rfl dX10_isCare_48 (fun _ => ?_) (fun _ => ?_)
    · refine j_locs [0, 1, 2, 3] rfl ?_
      exact hk h
    · refine j_iload (pc := 51) hX 4 rfl dX10_isCare_51 ?_
      refine j_iload_n (pc := 53) hX 1 rfl dX10_isCare_53 ?_
      refine j_ceq (pc := 54) (tgt := 94) hX rfl dX10_isCare_54 (fun _ => ?_) (fun _ => ?_)
      · refine j_iinc (pc := 94) hX 4 rfl (1 : Int32) ic_1 (fun x11 => [(4, .int x11), (0, .ref (xz X + 0)), (1, .int f1), (2, .int f2), (3, .int f3)]) (fun _ => rfl) (Nat.le_of_ble_eq_true rfl) dX10_isCare_94 (fun x11 => ?_)
        refine j_goto (pc := 97) (tgt := 42) hX rfl dX10_isCare_97 ?_
        refine j_locs [1, 2, 3, 4, 0] rfl ?_
        exact ih x11 h
      · refine j_aload_n (pc := 57) hX 0 rfl dX10_isCare_57 ?_
        refine j_getR (pc := 58) hX fgX10_106.1 fgX10_106.2 rfl rfl dX10_isCare_58 ?_
        refine j_iload (pc := 61) hX 4 rfl dX10_isCare_61 ?_
        refine j_iald (pc := 63) (n := 10) hX rfl dX10_isCare_63 (fun _ => ?_)
        refine j_aload_n (pc := 64) hX 0 rfl dX10_isCare_64 ?_
        refine j_getR (pc := 65) hX fgX10_106.1 fgX10_106.2 rfl rfl dX10_isCare_65 ?_
        refine j_iload_n (pc := 68) hX 1 rfl dX10_isCare_68 ?_
        refine j_iald (pc := 69) (n := 10) hX rfl dX10_isCare_69 (fun _ => ?_)
        refine j_cne (pc := 70) (tgt := 94) hX rfl dX10_isCare_70 (fun _ => ?_) (fun _ => ?_)
        · refine j_aload_n (pc := 73) hX 0 rfl dX10_isCare_73 ?_
          refine j_getR (pc := 74) hX fgX10_100.1 fgX10_100.2 rfl rfl dX10_isCare_74 ?_
          refine j_iload (pc := 77) hX 4 rfl dX10_isCare_77 ?_
          refine j_iald (pc := 79) (n := 10) hX rfl dX10_isCare_79 (fun _ => ?_)
          refine j_aload_n (pc := 80) hX 0 rfl dX10_isCare_80 ?_
          refine j_getR (pc := 81) hX fgX10_57.1 fgX10_57.2 rfl rfl dX10_isCare_81 ?_
          refine j_iload_n (pc := 84) hX 2 rfl dX10_isCare_84 ?_
          refine j_iald (pc := 85) (n := 16) hX rfl dX10_isCare_85 (fun _ => ?_)
          refine j_callSI (pc := 86) (As := fun z => [.int (gI h 29 (v4).toNatClampNeg), .int (gI h 15 (f2).toNatClampNeg)]) (rest := []) hX (fun r e => m_t_isOf (gI h 29 (v4).toNatClampNeg) (gI h 15 (f2).toNatClampNeg) h r e) ymX10_isOf (lw_S q1926 q1927 q154 q1928) ⟨Nat.le_of_ble_eq_true rfl, Nat.le_of_ble_eq_true rfl⟩ rfl rfl (Nat.le_of_ble_eq_true rfl) dX10_isCare_86 (fun r12 h13 => ?_)
          refine j_ifne (pc := 89) (tgt := 94) hX rfl dX10_isCare_89 (fun _ => ?_) (fun _ => ?_)
          · refine j_iconst (pc := 92) hX ic_1 dX10_isCare_92 ?_
            exact j_zret (pc := 93) hX (Or.inr rfl) hr dX10_isCare_93
          · refine j_iinc (pc := 94) hX 4 rfl (1 : Int32) ic_1 (fun x14 => [(4, .int x14), (0, .ref (xz X + 0)), (1, .int f1), (2, .int f2), (3, .int f3)]) (fun _ => rfl) (Nat.le_of_ble_eq_true rfl) dX10_isCare_94 (fun x14 => ?_)
            refine j_goto (pc := 97) (tgt := 42) hX rfl dX10_isCare_97 ?_
            refine j_locs [1, 2, 3, 4, 0] rfl ?_
            exact ih x14 h13
        · refine j_iinc (pc := 94) hX 4 rfl (1 : Int32) ic_1 (fun x15 => [(4, .int x15), (0, .ref (xz X + 0)), (1, .int f1), (2, .int f2), (3, .int f3)]) (fun _ => rfl) (Nat.le_of_ble_eq_true rfl) dX10_isCare_94 (fun x15 => ?_)
          refine j_goto (pc := 97) (tgt := 42) hX rfl dX10_isCare_97 ?_
          refine j_locs [1, 2, 3, 4, 0] rfl ?_
          exact ih x15 h
set_option maxHeartbeats 4000000 in
set_option maxRecDepth 100000 in
theorem m_isCare_2_w {X : CTX} {rr : Int32 × HP} (hX : okX mV X rr cX10_isCare RX10 5 7 148) (hr : (xh X).sig.returnType = some .boolean) (f1 : Int32) (f2 : Int32) (k : HP → Option (Int32 × HP)) (hk : ∀ (h : HP), jG mV X evI rr (k h) 106 [] [] h) : ∀ (n : Nat) (v3 : Int32) (h : HP), jG mV X evI rr (m_isCare_2 f1 f2 k n v3 h) 2 [(0, .ref (xz X + 0)), (1, .int f1), (2, .int f2), (3, .int v3)] [] h := by
  intro n
  induction n with
  | zero =>
    intro v3 h
    exact j_none
  | succ n ih =>
    intro v3 h
    rw [m_isCare_2]
    refine j_iload_n (pc := 2) hX 3 rfl dX10_isCare_2 ?_
    refine j_aload_n (pc := 3) hX 0 rfl dX10_isCare_3 ?_
    refine j_getI (pc := 4) hX fgX10_231.1 fgX10_231.2 rfl dX10_isCare_4 ?_
    refine j_cge (pc := 7) (tgt := 106) hX rfl dX10_isCare_7 (fun _ => ?_) (fun _ => ?_)
    · refine j_locs [] rfl ?_
      exact hk h
    · refine j_aload_n (pc := 10) hX 0 rfl dX10_isCare_10 ?_
      refine j_callVV (pc := 11) (a := 0) (As := fun z => []) (rest := []) hX (fun r e => m_t_layTried h r e) ymX10_layTried (lw_V q2126 q2128 qs115 q154 q2129) rfl ckX10 rfl ⟨Nat.le_of_ble_eq_true rfl, Nat.le_of_ble_eq_true rfl⟩ rfl rfl (Nat.le_of_ble_eq_true rfl) dX10_isCare_11 (fun r2 h3 => ?_)
      refine j_aload_n (pc := 14) hX 0 rfl dX10_isCare_14 ?_
      refine j_iconst (pc := 15) hX ic_1 dX10_isCare_15 ?_
      refine j_iload_n (pc := 16) hX 3 rfl dX10_isCare_16 ?_
      refine j_iload_n (pc := 17) hX 1 rfl dX10_isCare_17 ?_
      refine j_iload_n (pc := 18) hX 2 rfl dX10_isCare_18 ?_
      refine j_callVI (pc := 19) (a := 0) (As := fun z => [.int (1 : Int32), .int v3, .int f1, .int f2]) (rest := []) hX (fun r e => m_t_canAsk (1 : Int32) v3 f1 f2 h3 r e) ymX10_canAsk (lw_V q2024 q2026 qs99 q154 q2027) rfl ckX10 rfl ⟨Nat.le_of_ble_eq_true rfl, Nat.le_of_ble_eq_true rfl⟩ rfl rfl (Nat.le_of_ble_eq_true rfl) dX10_isCare_19 (fun r4 h5 => ?_)
      refine j_ifeq (pc := 22) (tgt := 100) hX rfl dX10_isCare_22 (fun _ => ?_) (fun _ => ?_)
      · refine j_iinc (pc := 100) hX 3 rfl (1 : Int32) ic_1 (fun x6 => [(3, .int x6), (0, .ref (xz X + 0)), (1, .int f1), (2, .int f2)]) (fun _ => rfl) (Nat.le_of_ble_eq_true rfl) dX10_isCare_100 (fun x6 => ?_)
        refine j_goto (pc := 103) (tgt := 2) hX rfl dX10_isCare_103 ?_
        refine j_locs [1, 2, 3, 0] rfl ?_
        exact ih x6 h5
      · refine j_aload_n (pc := 25) hX 0 rfl dX10_isCare_25 ?_
        refine j_iconst (pc := 26) hX ic_1 dX10_isCare_26 ?_
        refine j_iload_n (pc := 27) hX 3 rfl dX10_isCare_27 ?_
        refine j_iload_n (pc := 28) hX 1 rfl dX10_isCare_28 ?_
        refine j_iload_n (pc := 29) hX 2 rfl dX10_isCare_29 ?_
        refine j_callVI (pc := 30) (a := 0) (As := fun z => [.int (1 : Int32), .int v3, .int f1, .int f2]) (rest := []) hX (fun r e => m_t_asks (1 : Int32) v3 f1 f2 h5 r e) ymX10_asks (lw_V q2081 q2083 qs109 q154 q2084) rfl ckX10 rfl ⟨Nat.le_of_ble_eq_true rfl, Nat.le_of_ble_eq_true rfl⟩ rfl rfl (Nat.le_of_ble_eq_true rfl) dX10_isCare_30 (fun r7 h8 => ?_)
        refine j_ifne (pc := 33) (tgt := 39) hX rfl dX10_isCare_33 (fun _ => ?_) (fun _ => ?_)
        · refine j_goto (pc := 36) (tgt := 100) hX rfl dX10_isCare_36 ?_
          refine j_iinc (pc := 100) hX 3 rfl (1 : Int32) ic_1 (fun x9 => [(3, .int x9), (0, .ref (xz X + 0)), (1, .int f1), (2, .int f2)]) (fun _ => rfl) (Nat.le_of_ble_eq_true rfl) dX10_isCare_100 (fun x9 => ?_)
          refine j_goto (pc := 103) (tgt := 2) hX rfl dX10_isCare_103 ?_
          refine j_locs [1, 2, 3, 0] rfl ?_
          exact ih x9 h8
        · refine j_iconst (pc := 39) hX ic_0 dX10_isCare_39 ?_
          refine j_istore (pc := 40) hX (fun x10 => [(4, .int x10), (0, .ref (xz X + 0)), (1, .int f1), (2, .int f2), (3, .int v3)]) (fun _ => rfl) (Nat.le_of_ble_eq_true rfl) dX10_isCare_40 (fun x10 => ?_)
          refine j_locs [1, 2, 3, 4, 0] rfl ?_
          refine m_isCare_42_w hX hr f1 f2 v3 _ (fun  h16 => ?_) FU x10 h8
          refine j_iinc (pc := 100) hX 3 rfl (1 : Int32) ic_1 (fun x17 => [(3, .int x17), (0, .ref (xz X + 0)), (1, .int f1), (2, .int f2)]) (fun _ => rfl) (Nat.le_of_ble_eq_true rfl) dX10_isCare_100 (fun x17 => ?_)
          refine j_goto (pc := 103) (tgt := 2) hX rfl dX10_isCare_103 ?_
          refine j_locs [1, 2, 3, 0] rfl ?_
          exact ih x17 h16
set_option maxHeartbeats 4000000 in
set_option maxRecDepth 100000 in
theorem m_t_isCare (a1 : Int32) (a2 : Int32) (h : HP) (rr : Int32 × HP) (e : m_isCare a1 a2 h = some rr) : Cn mV yX10_isCare (ws_ yX10_isCare cX10_isCare 5 (some .boolean)) 7 148 (fun z => [.ref (z + 0), .int a1, .int a2]) h (fun z => eI z rr.1) rr.2 := by
  refine cn_of (e1 := eI) (fun z => [(0, .ref (z + 0)), (1, .int a1), (2, .int a2)]) mV_ok ⟨Nat.le_refl _, Nat.le_refl _⟩ ymX10_isCare (fun _ => rfl) (fun _ => Nat.le_of_ble_eq_true rfl) (fun X hX hr _ => ?_) e
  have hX : okX mV X rr cX10_isCare RX10 5 7 148 := hX
  rw [m_isCare]
  refine j_iconst (pc := 0) hX ic_0 dX10_isCare_0 ?_
  refine j_istore_n (pc := 1) hX (fun x1 => [(3, .int x1), (0, .ref (xz X + 0)), (1, .int a1), (2, .int a2)]) (fun _ => rfl) (Nat.le_of_ble_eq_true rfl) dX10_isCare_1 (fun x1 => ?_)
  refine j_locs [1, 2, 3, 0] rfl ?_
  refine m_isCare_2_w hX hr a1 a2 _ (fun  h18 => ?_) FU x1 h
  refine j_iconst (pc := 106) hX ic_0 dX10_isCare_106 ?_
  exact j_zret (pc := 107) hX (Or.inl rfl) hr dX10_isCare_107
set_option maxHeartbeats 4000000 in
set_option maxRecDepth 100000 in
theorem m_care_19_w {X : CTX} {rr : Int32 × HP} (hX : okX mV X rr cX10_care RX10 4 8 172) (hr : (xh X).sig.returnType = some .int) (f1 : Int32) (k : Int32 → HP → Option (Int32 × HP)) (hk : ∀ (v2 : Int32) (h : HP), jG mV X evI rr (k v2 h) 52 [(2, .int v2)] [] h) : ∀ (n : Nat) (v2 : Int32) (v3 : Int32) (h : HP), jG mV X evI rr (m_care_19 f1 k n v2 v3 h) 19 [(0, .ref (xz X + 0)), (1, .int f1), (2, .int v2), (3, .int v3)] [] h := by
  intro n
  induction n with
  | zero =>
    intro v2 v3 h
    exact j_none
  | succ n ih =>
    intro v2 v3 h
    rw [m_care_19]
    refine j_iload_n (pc := 19) hX 3 rfl dX10_care_19 ?_
    refine j_aload_n (pc := 20) hX 0 rfl dX10_care_20 ?_
    refine j_getI (pc := 21) hX fgX10_234.1 fgX10_234.2 rfl dX10_care_21 ?_
    refine j_cge (pc := 24) (tgt := 52) hX rfl dX10_care_24 (fun _ => ?_) (fun _ => ?_)
    · refine j_locs [2] rfl ?_
      exact hk v2 h
    · refine j_iload_n (pc := 27) hX 2 rfl dX10_care_27 ?_
      refine j_aload_n (pc := 28) hX 0 rfl dX10_care_28 ?_
      refine j_iload_n (pc := 29) hX 1 rfl dX10_care_29 ?_
      refine j_iload_n (pc := 30) hX 3 rfl dX10_care_30 ?_
      refine j_callVI (pc := 31) (a := 0) (As := fun z => [.int f1, .int v3]) (rest := [.int v2]) hX (fun r e => m_t_isCare f1 v3 h r e) ymX10_isCare (lw_V q2218 q2220 qs128 q154 q2221) rfl ckX10 rfl ⟨Nat.le_of_ble_eq_true rfl, Nat.le_of_ble_eq_true rfl⟩ rfl rfl (Nat.le_of_ble_eq_true rfl) dX10_care_31 (fun r6 h7 => ?_)
      refine j_jon (fun (j8 : Int32 → Option (Int32 × HP)) => ∀ (s9 : Int32), jG mV X evI rr (j8 s9) 44 [(0, .ref (xz X + 0)), (1, .int f1), (3, .int v3)] [.int s9, .int v2] h7) ?_ ?_
      · intro s9
        refine j_ior (pc := 44) hX dX10_care_44 ?_
        refine j_istore_n (pc := 45) hX (fun x10 => [(2, .int x10), (0, .ref (xz X + 0)), (1, .int f1), (3, .int v3)]) (fun _ => rfl) (Nat.le_of_ble_eq_true rfl) dX10_care_45 (fun x10 => ?_)
        refine j_iinc (pc := 46) hX 3 rfl (1 : Int32) ic_1 (fun x11 => [(3, .int x11), (2, .int x10), (0, .ref (xz X + 0)), (1, .int f1)]) (fun _ => rfl) (Nat.le_of_ble_eq_true rfl) dX10_care_46 (fun x11 => ?_)
        refine j_goto (pc := 49) (tgt := 19) hX rfl dX10_care_49 ?_
        refine j_locs [2, 3, 1, 0] rfl ?_
        exact ih x10 x11 h7
      · intro j8 hj8
        refine j_ifeq (pc := 34) (tgt := 43) hX rfl dX10_care_34 (fun _ => ?_) (fun _ => ?_)
        · refine j_iconst (pc := 43) hX ic_0 dX10_care_43 ?_
          refine j_locs [0, 1, 3] rfl ?_
          exact hj8 (0 : Int32)
        · refine j_iconst (pc := 37) hX ic_1 dX10_care_37 ?_
          refine j_iload_n (pc := 38) hX 3 rfl dX10_care_38 ?_
          refine j_ishl (pc := 39) hX dX10_care_39 ?_
          refine j_goto (pc := 40) (tgt := 44) hX rfl dX10_care_40 ?_
          refine j_locs [0, 1, 3] rfl ?_
          exact hj8 ((1 : Int32) <<< (v3 &&& 31))
set_option maxHeartbeats 4000000 in
set_option maxRecDepth 100000 in
theorem m_t_care (a1 : Int32) (h : HP) (rr : Int32 × HP) (e : m_care a1 h = some rr) : Cn mV yX10_care (ws_ yX10_care cX10_care 4 (some .int)) 8 172 (fun z => [.ref (z + 0), .int a1]) h (fun z => eI z rr.1) rr.2 := by
  refine cn_of (e1 := eI) (fun z => [(0, .ref (z + 0)), (1, .int a1)]) mV_ok ⟨Nat.le_refl _, Nat.le_refl _⟩ ymX10_care (fun _ => rfl) (fun _ => Nat.le_of_ble_eq_true rfl) (fun X hX hr _ => ?_) e
  have hX : okX mV X rr cX10_care RX10 4 8 172 := hX
  rw [m_care]
  refine j_aload_n (pc := 0) hX 0 rfl dX10_care_0 ?_
  refine j_iconst (pc := 1) hX ic_0 dX10_care_1 ?_
  refine j_putI (pc := 2) hX fwX10_148.1 fwX10_148.2 rfl dX10_care_2 (fun h1 => ?_)
  refine j_aload_n (pc := 5) hX 0 rfl dX10_care_5 ?_
  refine j_iload_n (pc := 6) hX 1 rfl dX10_care_6 ?_
  refine j_callVI (pc := 7) (a := 0) (As := fun z => [.int a1]) (rest := []) hX (fun r e => m_t_isPerson a1 h1 r e) ymX10_isPerson (lw_V q2004 q2006 qs96 q154 q2007) rfl ckX10 rfl ⟨Nat.le_of_ble_eq_true rfl, Nat.le_of_ble_eq_true rfl⟩ rfl rfl (Nat.le_of_ble_eq_true rfl) dX10_care_7 (fun r2 h3 => ?_)
  refine j_ifne (pc := 10) (tgt := 15) hX rfl dX10_care_10 (fun _ => ?_) (fun _ => ?_)
  · refine j_iconst (pc := 13) hX ic_m1 dX10_care_13 ?_
    exact j_iret (pc := 14) hX hr dX10_care_14
  · refine j_iconst (pc := 15) hX ic_0 dX10_care_15 ?_
    refine j_istore_n (pc := 16) hX (fun x4 => [(2, .int x4), (0, .ref (xz X + 0)), (1, .int a1)]) (fun _ => rfl) (Nat.le_of_ble_eq_true rfl) dX10_care_16 (fun x4 => ?_)
    refine j_iconst (pc := 17) hX ic_0 dX10_care_17 ?_
    refine j_istore_n (pc := 18) hX (fun x5 => [(3, .int x5), (2, .int x4), (0, .ref (xz X + 0)), (1, .int a1)]) (fun _ => rfl) (Nat.le_of_ble_eq_true rfl) dX10_care_18 (fun x5 => ?_)
    refine j_locs [2, 3, 1, 0] rfl ?_
    refine m_care_19_w hX hr a1 _ (fun x12 h13 => ?_) FU x4 x5 h3
    refine j_iload_n (pc := 52) hX 0 rfl dX10_care_52 ?_
    exact j_iret (pc := 53) hX hr dX10_care_53
set_option maxHeartbeats 4000000 in
set_option maxRecDepth 100000 in
theorem m_best_66_w {X : CTX} {rr : Int32 × HP} (hX : okX mV X rr cX10_best RX10 10 8 173) (hr : (xh X).sig.returnType = some .int) (f1 : Int32) (f2 : Int32) (f3 : Int32) (f7 : Int32) (f8 : Int32) (k : Int32 → Int32 → Int32 → HP → Option (Int32 × HP)) (hk : ∀ (v4 : Int32) (v5 : Int32) (v6 : Int32) (h : HP), jG mV X evI rr (k v4 v5 v6 h) 153 [(0, .ref (xz X + 0)), (1, .int f1), (2, .int f2), (3, .int f3), (4, .int v4), (5, .int v5), (6, .int v6), (7, .int f7), (8, .int f8)] [] h) : ∀ (n : Nat) (v4 : Int32) (v5 : Int32) (v6 : Int32) (v9 : Int32) (h : HP), jG mV X evI rr (m_best_66 f1 f2 f3 f7 f8 k n v4 v5 v6 v9 h) 66 [(0, .ref (xz X + 0)), (1, .int f1), (2, .int f2), (3, .int f3), (4, .int v4), (5, .int v5), (6, .int v6), (7, .int f7), (8, .int f8), (9, .int v9)] [] h := by
  intro n
  induction n with
  | zero =>
    intro v4 v5 v6 v9 h
    exact j_none
  | succ n ih =>
    intro v4 v5 v6 v9 h
    rw [m_best_66]
    refine j_iload (pc := 66) hX 9 rfl dX10_best_66 ?_
    refine j_iload_n (pc := 68) hX 2 rfl dX10_best_68 ?_
    refine j_iconst (pc := 69) hX ic_2 dX10_best_69 ?_
    refine j_jon (fun (j14 : Int32 → Option (Int32 × HP)) => ∀ (s15 : Int32), jG mV X evI rr (j14 s15) 79 [(0, .ref (xz X + 0)), (1, .int f1), (2, .int f2), (3, .int f3), (4, .int v4), (5, .int v5), (6, .int v6), (7, .int f7), (8, .int f8), (9, .int v9)] [.int s15, .int v9] h) ?_ ?_
    · intro s15
      refine j_cge (pc := 79) (tgt := 153) hX rfl dX10_best_79 (fun _ => ?_) (fun _ => ?_)
      · refine j_locs [0, 1, 2, 3, 4, 5, 6, 7, 8] rfl ?_
        exact hk v4 v5 v6 h
      · refine j_aload_n (pc := 82) hX 0 rfl dX10_best_82 ?_
        refine j_callVV (pc := 83) (a := 0) (As := fun z => []) (rest := []) hX (fun r e => m_t_layTried h r e) ymX10_layTried (lw_V q2126 q2128 qs115 q154 q2129) rfl ckX10 rfl ⟨Nat.le_of_ble_eq_true rfl, Nat.le_of_ble_eq_true rfl⟩ rfl rfl (Nat.le_of_ble_eq_true rfl) dX10_best_83 (fun r16 h17 => ?_)
        refine j_aload_n (pc := 86) hX 0 rfl dX10_best_86 ?_
        refine j_iload (pc := 87) hX 7 rfl dX10_best_87 ?_
        refine j_iload_n (pc := 89) hX 1 rfl dX10_best_89 ?_
        refine j_imul (pc := 90) hX dX10_best_90 ?_
        refine j_iload (pc := 91) hX 8 rfl dX10_best_91 ?_
        refine j_iadd (pc := 93) hX dX10_best_93 ?_
        refine j_callVI (pc := 94) (a := 0) (As := fun z => [.int ((f7 * f1) + f8)]) (rest := []) hX (fun r e => m_t_does ((f7 * f1) + f8) h17 r e) ymX10_does (lw_V q2190 q2192 qs123 q154 q2193) rfl ckX10 rfl ⟨Nat.le_of_ble_eq_true rfl, Nat.le_of_ble_eq_true rfl⟩ rfl rfl (Nat.le_of_ble_eq_true rfl) dX10_best_94 (fun r18 h19 => ?_)
        refine j_ifeq (pc := 97) (tgt := 147) hX rfl dX10_best_97 (fun _ => ?_) (fun _ => ?_)
        · refine j_iinc (pc := 147) hX 9 rfl (1 : Int32) ic_1 (fun x20 => [(9, .int x20), (0, .ref (xz X + 0)), (1, .int f1), (2, .int f2), (3, .int f3), (4, .int v4), (5, .int v5), (6, .int v6), (7, .int f7), (8, .int f8)]) (fun _ => rfl) (Nat.le_of_ble_eq_true rfl) dX10_best_147 (fun x20 => ?_)
          refine j_goto (pc := 150) (tgt := 66) hX rfl dX10_best_150 ?_
          refine j_locs [1, 2, 3, 4, 5, 6, 7, 8, 9, 0] rfl ?_
          exact ih v4 v5 v6 x20 h19
        · refine j_iload_n (pc := 100) hX 2 rfl dX10_best_100 ?_
          refine j_iconst (pc := 101) hX ic_2 dX10_best_101 ?_
          refine j_jon (fun (j21 : HP → Option (Int32 × HP)) => ∀ (h22 : HP), jG mV X evI rr (j21 h22) 119 [(0, .ref (xz X + 0)), (1, .int f1), (2, .int f2), (3, .int f3), (4, .int v4), (5, .int v5), (6, .int v6), (7, .int f7), (8, .int f8), (9, .int v9)] [] h22) ?_ ?_
          · intro h22
            refine j_aload_n (pc := 119) hX 0 rfl dX10_best_119 ?_
            refine j_iconst (pc := 120) hX ic_1 dX10_best_120 ?_
            refine j_callVI (pc := 121) (a := 0) (As := fun z => [.int (1 : Int32)]) (rest := []) hX (fun r e => m_t_sumIn (1 : Int32) h22 r e) ymX10_sumIn (lw_V q2134 q2136 qs117 q154 q2137) rfl ckX10 rfl ⟨Nat.le_of_ble_eq_true rfl, Nat.le_of_ble_eq_true rfl⟩ rfl rfl (Nat.le_of_ble_eq_true rfl) dX10_best_121 (fun r23 h24 => ?_)
            refine j_iload (pc := 124) hX 4 rfl dX10_best_124 ?_
            refine j_cgt (pc := 126) (tgt := 132) hX rfl dX10_best_126 (fun _ => ?_) (fun _ => ?_)
            · refine j_aload_n (pc := 132) hX 0 rfl dX10_best_132 ?_
              refine j_iconst (pc := 133) hX ic_1 dX10_best_133 ?_
              refine j_callVI (pc := 134) (a := 0) (As := fun z => [.int (1 : Int32)]) (rest := []) hX (fun r e => m_t_sumIn (1 : Int32) h24 r e) ymX10_sumIn (lw_V q2134 q2136 qs117 q154 q2137) rfl ckX10 rfl ⟨Nat.le_of_ble_eq_true rfl, Nat.le_of_ble_eq_true rfl⟩ rfl rfl (Nat.le_of_ble_eq_true rfl) dX10_best_134 (fun r25 h26 => ?_)
              refine j_istore (pc := 137) hX (fun x27 => [(4, .int x27), (0, .ref (xz X + 0)), (1, .int f1), (2, .int f2), (3, .int f3), (5, .int v5), (6, .int v6), (7, .int f7), (8, .int f8), (9, .int v9)]) (fun _ => rfl) (Nat.le_of_ble_eq_true rfl) dX10_best_137 (fun x27 => ?_)
              refine j_iload (pc := 139) hX 8 rfl dX10_best_139 ?_
              refine j_istore (pc := 141) hX (fun x28 => [(5, .int x28), (4, .int x27), (0, .ref (xz X + 0)), (1, .int f1), (2, .int f2), (3, .int f3), (6, .int v6), (7, .int f7), (8, .int f8), (9, .int v9)]) (fun _ => rfl) (Nat.le_of_ble_eq_true rfl) dX10_best_141 (fun x28 => ?_)
              refine j_iload (pc := 143) hX 9 rfl dX10_best_143 ?_
              refine j_istore (pc := 145) hX (fun x29 => [(6, .int x29), (5, .int x28), (4, .int x27), (0, .ref (xz X + 0)), (1, .int f1), (2, .int f2), (3, .int f3), (7, .int f7), (8, .int f8), (9, .int v9)]) (fun _ => rfl) (Nat.le_of_ble_eq_true rfl) dX10_best_145 (fun x29 => ?_)
              refine j_iinc (pc := 147) hX 9 rfl (1 : Int32) ic_1 (fun x30 => [(9, .int x30), (6, .int x29), (5, .int x28), (4, .int x27), (0, .ref (xz X + 0)), (1, .int f1), (2, .int f2), (3, .int f3), (7, .int f7), (8, .int f8)]) (fun _ => rfl) (Nat.le_of_ble_eq_true rfl) dX10_best_147 (fun x30 => ?_)
              refine j_goto (pc := 150) (tgt := 66) hX rfl dX10_best_150 ?_
              refine j_locs [4, 5, 6, 7, 3, 2, 1, 8, 9, 0] rfl ?_
              exact ih x27 x28 x29 x30 h26
            · refine j_goto (pc := 129) (tgt := 147) hX rfl dX10_best_129 ?_
              refine j_iinc (pc := 147) hX 9 rfl (1 : Int32) ic_1 (fun x31 => [(9, .int x31), (0, .ref (xz X + 0)), (1, .int f1), (2, .int f2), (3, .int f3), (4, .int v4), (5, .int v5), (6, .int v6), (7, .int f7), (8, .int f8)]) (fun _ => rfl) (Nat.le_of_ble_eq_true rfl) dX10_best_147 (fun x31 => ?_)
              refine j_goto (pc := 150) (tgt := 66) hX rfl dX10_best_150 ?_
              refine j_locs [1, 2, 3, 4, 5, 6, 7, 8, 9, 0] rfl ?_
              exact ih v4 v5 v6 x31 h24
          · intro j21 hj21
            refine j_cne (pc := 102) (tgt := 119) hX rfl dX10_best_102 (fun _ => ?_) (fun _ => ?_)
            · refine j_aload_n (pc := 105) hX 0 rfl dX10_best_105 ?_
              refine j_iload (pc := 106) hX 7 rfl dX10_best_106 ?_
              refine j_iload_n (pc := 108) hX 1 rfl dX10_best_108 ?_
              refine j_imul (pc := 109) hX dX10_best_109 ?_
              refine j_iload (pc := 110) hX 9 rfl dX10_best_110 ?_
              refine j_iadd (pc := 112) hX dX10_best_112 ?_
              refine j_callVI (pc := 113) (a := 0) (As := fun z => [.int ((f7 * f1) + v9)]) (rest := []) hX (fun r e => m_t_does ((f7 * f1) + v9) h19 r e) ymX10_does (lw_V q2190 q2192 qs123 q154 q2193) rfl ckX10 rfl ⟨Nat.le_of_ble_eq_true rfl, Nat.le_of_ble_eq_true rfl⟩ rfl rfl (Nat.le_of_ble_eq_true rfl) dX10_best_113 (fun r32 h33 => ?_)
              refine j_ifeq (pc := 116) (tgt := 147) hX rfl dX10_best_116 (fun _ => ?_) (fun _ => ?_)
              · refine j_iinc (pc := 147) hX 9 rfl (1 : Int32) ic_1 (fun x34 => [(9, .int x34), (0, .ref (xz X + 0)), (1, .int f1), (2, .int f2), (3, .int f3), (4, .int v4), (5, .int v5), (6, .int v6), (7, .int f7), (8, .int f8)]) (fun _ => rfl) (Nat.le_of_ble_eq_true rfl) dX10_best_147 (fun x34 => ?_)
                refine j_goto (pc := 150) (tgt := 66) hX rfl dX10_best_150 ?_
                refine j_locs [1, 2, 3, 4, 5, 6, 7, 8, 9, 0] rfl ?_
                exact ih v4 v5 v6 x34 h33
              · exact hj21 h33
            · exact hj21 h19
    · intro j14 hj14
      refine j_cne (pc := 70) (tgt := 78) hX rfl dX10_best_70 (fun _ => ?_) (fun _ => ?_)
      · refine j_iload (pc := 73) hX 7 rfl dX10_best_73 ?_
        refine j_goto (pc := 75) (tgt := 79) hX rfl dX10_best_75 ?_
        exact hj14 f7
      · refine j_iconst (pc := 78) hX ic_1 dX10_best_78 ?_
        exact hj14 (1 : Int32)
set_option maxHeartbeats 4000000 in
set_option maxRecDepth 100000 in
theorem m_best_56_w {X : CTX} {rr : Int32 × HP} (hX : okX mV X rr cX10_best RX10 10 8 173) (hr : (xh X).sig.returnType = some .int) (f1 : Int32) (f2 : Int32) (f3 : Int32) (f7 : Int32) (k : Int32 → Int32 → Int32 → HP → Option (Int32 × HP)) (hk : ∀ (v4 : Int32) (v5 : Int32) (v6 : Int32) (h : HP), jG mV X evI rr (k v4 v5 v6 h) 159 [(0, .ref (xz X + 0)), (2, .int f2), (3, .int f3), (4, .int v4), (5, .int v5), (6, .int v6)] [] h) : ∀ (n : Nat) (v4 : Int32) (v5 : Int32) (v6 : Int32) (v8 : Int32) (h : HP), jG mV X evI rr (m_best_56 f1 f2 f3 f7 k n v4 v5 v6 v8 h) 56 [(0, .ref (xz X + 0)), (1, .int f1), (2, .int f2), (3, .int f3), (4, .int v4), (5, .int v5), (6, .int v6), (7, .int f7), (8, .int v8)] [] h := by
  intro n
  induction n with
  | zero =>
    intro v4 v5 v6 v8 h
    exact j_none
  | succ n ih =>
    intro v4 v5 v6 v8 h
    rw [m_best_56]
    refine j_iload (pc := 56) hX 8 rfl dX10_best_56 ?_
    refine j_iload (pc := 58) hX 7 rfl dX10_best_58 ?_
    refine j_cge (pc := 60) (tgt := 159) hX rfl dX10_best_60 (fun _ => ?_) (fun _ => ?_)
    · refine j_locs [0, 2, 3, 4, 5, 6] rfl ?_
      exact hk v4 v5 v6 h
    · refine j_iconst (pc := 63) hX ic_0 dX10_best_63 ?_
      refine j_istore (pc := 64) hX (fun x13 => [(9, .int x13), (0, .ref (xz X + 0)), (1, .int f1), (2, .int f2), (3, .int f3), (4, .int v4), (5, .int v5), (6, .int v6), (7, .int f7), (8, .int v8)]) (fun _ => rfl) (Nat.le_of_ble_eq_true rfl) dX10_best_64 (fun x13 => ?_)
      refine j_locs [1, 2, 3, 4, 5, 6, 7, 8, 9, 0] rfl ?_
      refine m_best_66_w hX hr f1 f2 f3 f7 v8 _ (fun x35 x36 x37 h38 => ?_) FU v4 v5 v6 x13 h
      refine j_iinc (pc := 153) hX 8 rfl (1 : Int32) ic_1 (fun x39 => [(8, .int x39), (0, .ref (xz X + 0)), (1, .int f1), (2, .int f2), (3, .int f3), (4, .int x35), (5, .int x36), (6, .int x37), (7, .int f7)]) (fun _ => rfl) (Nat.le_of_ble_eq_true rfl) dX10_best_153 (fun x39 => ?_)
      refine j_goto (pc := 156) (tgt := 56) hX rfl dX10_best_156 ?_
      refine j_locs [1, 2, 3, 4, 5, 6, 7, 8, 0] rfl ?_
      exact ih x35 x36 x37 x39 h38
set_option maxHeartbeats 4000000 in
set_option maxRecDepth 100000 in
theorem m_t_best (a1 : Int32) (a2 : Int32) (a3 : Int32) (h : HP) (rr : Int32 × HP) (e : m_best a1 a2 a3 h = some rr) : Cn mV yX10_best (ws_ yX10_best cX10_best 10 (some .int)) 8 173 (fun z => [.ref (z + 0), .int a1, .int a2, .int a3]) h (fun z => eI z rr.1) rr.2 := by
  refine cn_of (e1 := eI) (fun z => [(0, .ref (z + 0)), (1, .int a1), (2, .int a2), (3, .int a3)]) mV_ok ⟨Nat.le_refl _, Nat.le_refl _⟩ ymX10_best (fun _ => rfl) (fun _ => Nat.le_of_ble_eq_true rfl) (fun X hX hr _ => ?_) e
  have hX : okX mV X rr cX10_best RX10 10 8 173 := hX
  rw [m_best]
  refine j_aload_n (pc := 0) hX 0 rfl dX10_best_0 ?_
  refine j_iconst (pc := 1) hX ic_0 dX10_best_1 ?_
  refine j_putI (pc := 2) hX fwX10_148.1 fwX10_148.2 rfl dX10_best_2 (fun h1 => ?_)
  refine j_aload_n (pc := 5) hX 0 rfl dX10_best_5 ?_
  refine j_iload_n (pc := 6) hX 1 rfl dX10_best_6 ?_
  refine j_callVI (pc := 7) (a := 0) (As := fun z => [.int a1]) (rest := []) hX (fun r e => m_t_isPerson a1 h1 r e) ymX10_isPerson (lw_V q2004 q2006 qs96 q154 q2007) rfl ckX10 rfl ⟨Nat.le_of_ble_eq_true rfl, Nat.le_of_ble_eq_true rfl⟩ rfl rfl (Nat.le_of_ble_eq_true rfl) dX10_best_7 (fun r2 h3 => ?_)
  refine j_ifeq (pc := 10) (tgt := 31) hX rfl dX10_best_10 (fun _ => ?_) (fun _ => ?_)
  · refine j_iconst (pc := 31) hX ic_m1 dX10_best_31 ?_
    exact j_iret (pc := 32) hX hr dX10_best_32
  · refine j_iload_n (pc := 13) hX 2 rfl dX10_best_13 ?_
    refine j_iconst (pc := 14) hX ic_1 dX10_best_14 ?_
    refine j_iconst (pc := 15) hX ic_2 dX10_best_15 ?_
    refine j_callSI (pc := 16) (As := fun z => [.int a2, .int (1 : Int32), .int (2 : Int32)]) (rest := []) hX (fun r e => m_t_isIn a2 (1 : Int32) (2 : Int32) h3 r e) ymX10_isIn (lw_S q1915 q1916 q154 q1917) ⟨Nat.le_of_ble_eq_true rfl, Nat.le_of_ble_eq_true rfl⟩ rfl rfl (Nat.le_of_ble_eq_true rfl) dX10_best_16 (fun r4 h5 => ?_)
    refine j_ifeq (pc := 19) (tgt := 31) hX rfl dX10_best_19 (fun _ => ?_) (fun _ => ?_)
    · refine j_iconst (pc := 31) hX ic_m1 dX10_best_31 ?_
      exact j_iret (pc := 32) hX hr dX10_best_32
    · refine j_iload_n (pc := 22) hX 3 rfl dX10_best_22 ?_
      refine j_iconst (pc := 23) hX ic_0 dX10_best_23 ?_
      refine j_iconst (pc := 24) hX ic_2 dX10_best_24 ?_
      refine j_callSI (pc := 25) (As := fun z => [.int a3, .int (0 : Int32), .int (2 : Int32)]) (rest := []) hX (fun r e => m_t_isIn a3 (0 : Int32) (2 : Int32) h5 r e) ymX10_isIn (lw_S q1915 q1916 q154 q1917) ⟨Nat.le_of_ble_eq_true rfl, Nat.le_of_ble_eq_true rfl⟩ rfl rfl (Nat.le_of_ble_eq_true rfl) dX10_best_25 (fun r6 h7 => ?_)
      refine j_ifne (pc := 28) (tgt := 33) hX rfl dX10_best_28 (fun _ => ?_) (fun _ => ?_)
      · refine j_iconst (pc := 31) hX ic_m1 dX10_best_31 ?_
        exact j_iret (pc := 32) hX hr dX10_best_32
      · refine j_iconst (pc := 33) hX ic_m1 dX10_best_33 ?_
        refine j_istore (pc := 34) hX (fun x8 => [(4, .int x8), (0, .ref (xz X + 0)), (1, .int a1), (2, .int a2), (3, .int a3)]) (fun _ => rfl) (Nat.le_of_ble_eq_true rfl) dX10_best_34 (fun x8 => ?_)
        refine j_iconst (pc := 36) hX ic_0 dX10_best_36 ?_
        refine j_istore (pc := 37) hX (fun x9 => [(5, .int x9), (4, .int x8), (0, .ref (xz X + 0)), (1, .int a1), (2, .int a2), (3, .int a3)]) (fun _ => rfl) (Nat.le_of_ble_eq_true rfl) dX10_best_37 (fun x9 => ?_)
        refine j_iconst (pc := 39) hX ic_0 dX10_best_39 ?_
        refine j_istore (pc := 40) hX (fun x10 => [(6, .int x10), (5, .int x9), (4, .int x8), (0, .ref (xz X + 0)), (1, .int a1), (2, .int a2), (3, .int a3)]) (fun _ => rfl) (Nat.le_of_ble_eq_true rfl) dX10_best_40 (fun x10 => ?_)
        refine j_aload_n (pc := 42) hX 3 rfl dX10_best_42 ?_
        refine j_getI (pc := 43) hX fgX10_231.1 fgX10_231.2 rfl dX10_best_43 ?_
        refine j_aload_n (pc := 46) hX 3 rfl dX10_best_46 ?_
        refine j_getI (pc := 47) hX fgX10_234.1 fgX10_234.2 rfl dX10_best_47 ?_
        refine j_imul (pc := 50) hX dX10_best_50 ?_
        refine j_istore (pc := 51) hX (fun x11 => [(7, .int x11), (6, .int x10), (5, .int x9), (4, .int x8), (0, .ref (xz X + 0)), (1, .int a1), (2, .int a2), (3, .int a3)]) (fun _ => rfl) (Nat.le_of_ble_eq_true rfl) dX10_best_51 (fun x11 => ?_)
        refine j_iconst (pc := 53) hX ic_0 dX10_best_53 ?_
        refine j_istore (pc := 54) hX (fun x12 => [(8, .int x12), (7, .int x11), (6, .int x10), (5, .int x9), (4, .int x8), (0, .ref (xz X + 0)), (1, .int a1), (2, .int a2), (3, .int a3)]) (fun _ => rfl) (Nat.le_of_ble_eq_true rfl) dX10_best_54 (fun x12 => ?_)
        refine j_locs [5, 6, 7, 8, 4, 3, 2, 1, 0] rfl ?_
        refine m_best_56_w hX hr a1 a2 a3 x11 _ (fun x40 x41 x42 h43 => ?_) FU x8 x9 x10 x12 h7
        refine j_iload (pc := 159) hX 3 rfl dX10_best_159 ?_
        refine j_ifge (pc := 161) (tgt := 167) hX rfl dX10_best_161 (fun _ => ?_) (fun _ => ?_)
        · refine j_iload_n (pc := 167) hX 2 rfl dX10_best_167 ?_
          refine j_iconst (pc := 168) hX ic_1 dX10_best_168 ?_
          refine j_jon (fun (j44 : Int32 → Option (Int32 × HP)) => ∀ (s45 : Int32), jG mV X evI rr (j44 s45) 179 [(0, .ref (xz X + 0)), (2, .int a2), (3, .int a3), (4, .int x40)] [.int s45] h43) ?_ ?_
          · intro s45
            refine j_istore (pc := 179) hX (fun x46 => [(8, .int x46), (0, .ref (xz X + 0)), (2, .int a2), (3, .int a3), (4, .int x40)]) (fun _ => rfl) (Nat.le_of_ble_eq_true rfl) dX10_best_179 (fun x46 => ?_)
            refine j_iload_n (pc := 181) hX 3 rfl dX10_best_181 ?_
            refine j_ifne (pc := 182) (tgt := 190) hX rfl dX10_best_182 (fun _ => ?_) (fun _ => ?_)
            · refine j_iload (pc := 185) hX 4 rfl dX10_best_185 ?_
              refine j_goto (pc := 187) (tgt := 218) hX rfl dX10_best_187 ?_
              exact j_iret (pc := 218) hX hr dX10_best_218
            · refine j_iload_n (pc := 190) hX 3 rfl dX10_best_190 ?_
              refine j_iload_n (pc := 191) hX 2 rfl dX10_best_191 ?_
              refine j_cle (pc := 192) (tgt := 200) hX rfl dX10_best_192 (fun _ => ?_) (fun _ => ?_)
              · refine j_bipush (pc := 200) hX bp_10 dX10_best_200 ?_
                refine j_iload (pc := 202) hX 0 rfl dX10_best_202 ?_
                refine j_aload_n (pc := 204) hX 1 rfl dX10_best_204 ?_
                refine j_getI (pc := 205) hX fgX10_234.1 fgX10_234.2 rfl dX10_best_205 ?_
                refine j_idiv (pc := 208) hX dX10_best_208 (fun _ => ?_)
                refine j_imul (pc := 209) hX dX10_best_209 ?_
                refine j_iload (pc := 210) hX 0 rfl dX10_best_210 ?_
                refine j_aload_n (pc := 212) hX 1 rfl dX10_best_212 ?_
                refine j_getI (pc := 213) hX fgX10_234.1 fgX10_234.2 rfl dX10_best_213 ?_
                refine j_irem (pc := 216) hX dX10_best_216 (fun _ => ?_)
                refine j_iadd (pc := 217) hX dX10_best_217 ?_
                exact j_iret (pc := 218) hX hr dX10_best_218
              · refine j_bipush (pc := 195) hX bp_m2 dX10_best_195 ?_
                refine j_goto (pc := 197) (tgt := 218) hX rfl dX10_best_197 ?_
                exact j_iret (pc := 218) hX hr dX10_best_218
          · intro j44 hj44
            refine j_cne (pc := 169) (tgt := 177) hX rfl dX10_best_169 (fun _ => ?_) (fun _ => ?_)
            · refine j_iload (pc := 172) hX 4 rfl dX10_best_172 ?_
              refine j_goto (pc := 174) (tgt := 179) hX rfl dX10_best_174 ?_
              refine j_locs [0, 1, 2, 3] rfl ?_
              exact hj44 x41
            · refine j_iload (pc := 177) hX 5 rfl dX10_best_177 ?_
              refine j_locs [0, 1, 2, 3] rfl ?_
              exact hj44 x42
        · refine j_bipush (pc := 164) hX bp_m3 dX10_best_164 ?_
          exact j_iret (pc := 166) hX hr dX10_best_166
set_option maxHeartbeats 4000000 in
set_option maxRecDepth 100000 in
theorem m_t_areTwo (a1 : Int32) (a2 : Int32) (h : HP) (rr : Int32 × HP) (e : m_areTwo a1 a2 h = some rr) : Cn mV yX10_areTwo (ws_ yX10_areTwo cX10_areTwo 3 (some .boolean)) 2 21 (fun z => [.ref (z + 0), .int a1, .int a2]) h (fun z => eI z rr.1) rr.2 := by
  refine cn_of (e1 := eI) (fun z => [(0, .ref (z + 0)), (1, .int a1), (2, .int a2)]) mV_ok ⟨Nat.le_refl _, Nat.le_refl _⟩ ymX10_areTwo (fun _ => rfl) (fun _ => Nat.le_of_ble_eq_true rfl) (fun X hX hr _ => ?_) e
  have hX : okX mV X rr cX10_areTwo RX10 3 2 21 := hX
  rw [m_areTwo]
  refine j_aload_n (pc := 0) hX 0 rfl dX10_areTwo_0 ?_
  refine j_iload_n (pc := 1) hX 1 rfl dX10_areTwo_1 ?_
  refine j_callVI (pc := 2) (a := 0) (As := fun z => [.int a1]) (rest := []) hX (fun r e => m_t_isPerson a1 h r e) ymX10_isPerson (lw_V q2004 q2006 qs96 q154 q2007) rfl ckX10 rfl ⟨Nat.le_of_ble_eq_true rfl, Nat.le_of_ble_eq_true rfl⟩ rfl rfl (Nat.le_of_ble_eq_true rfl) dX10_areTwo_2 (fun r1 h2 => ?_)
  refine j_ifeq (pc := 5) (tgt := 40) hX rfl dX10_areTwo_5 (fun _ => ?_) (fun _ => ?_)
  · refine j_iconst (pc := 40) hX ic_0 dX10_areTwo_40 ?_
    exact j_zret (pc := 41) hX (Or.inl rfl) hr dX10_areTwo_41
  · refine j_aload_n (pc := 8) hX 0 rfl dX10_areTwo_8 ?_
    refine j_iload_n (pc := 9) hX 2 rfl dX10_areTwo_9 ?_
    refine j_callVI (pc := 10) (a := 0) (As := fun z => [.int a2]) (rest := []) hX (fun r e => m_t_isPerson a2 h2 r e) ymX10_isPerson (lw_V q2004 q2006 qs96 q154 q2007) rfl ckX10 rfl ⟨Nat.le_of_ble_eq_true rfl, Nat.le_of_ble_eq_true rfl⟩ rfl rfl (Nat.le_of_ble_eq_true rfl) dX10_areTwo_10 (fun r3 h4 => ?_)
    refine j_ifeq (pc := 13) (tgt := 40) hX rfl dX10_areTwo_13 (fun _ => ?_) (fun _ => ?_)
    · refine j_iconst (pc := 40) hX ic_0 dX10_areTwo_40 ?_
      exact j_zret (pc := 41) hX (Or.inl rfl) hr dX10_areTwo_41
    · refine j_iload_n (pc := 16) hX 1 rfl dX10_areTwo_16 ?_
      refine j_iload_n (pc := 17) hX 2 rfl dX10_areTwo_17 ?_
      refine j_ceq (pc := 18) (tgt := 40) hX rfl dX10_areTwo_18 (fun _ => ?_) (fun _ => ?_)
      · refine j_iconst (pc := 40) hX ic_0 dX10_areTwo_40 ?_
        exact j_zret (pc := 41) hX (Or.inl rfl) hr dX10_areTwo_41
      · refine j_aload_n (pc := 21) hX 0 rfl dX10_areTwo_21 ?_
        refine j_getR (pc := 22) hX fgX10_106.1 fgX10_106.2 rfl rfl dX10_areTwo_22 ?_
        refine j_iload_n (pc := 25) hX 1 rfl dX10_areTwo_25 ?_
        refine j_iald (pc := 26) (n := 10) hX rfl dX10_areTwo_26 (fun _ => ?_)
        refine j_aload_n (pc := 27) hX 0 rfl dX10_areTwo_27 ?_
        refine j_getR (pc := 28) hX fgX10_106.1 fgX10_106.2 rfl rfl dX10_areTwo_28 ?_
        refine j_iload_n (pc := 31) hX 2 rfl dX10_areTwo_31 ?_
        refine j_iald (pc := 32) (n := 10) hX rfl dX10_areTwo_32 (fun _ => ?_)
        refine j_cne (pc := 33) (tgt := 40) hX rfl dX10_areTwo_33 (fun _ => ?_) (fun _ => ?_)
        · refine j_iconst (pc := 36) hX ic_1 dX10_areTwo_36 ?_
          refine j_goto (pc := 37) (tgt := 41) hX rfl dX10_areTwo_37 ?_
          exact j_zret (pc := 41) hX (Or.inr rfl) hr dX10_areTwo_41
        · refine j_iconst (pc := 40) hX ic_0 dX10_areTwo_40 ?_
          exact j_zret (pc := 41) hX (Or.inl rfl) hr dX10_areTwo_41
set_option maxHeartbeats 4000000 in
set_option maxRecDepth 100000 in
theorem m_t_gainOf (a1 : Int32) (h : HP) (rr : Int32 × HP) (e : m_gainOf a1 h = some rr) : Cn mV yX10_gainOf (ws_ yX10_gainOf cX10_gainOf 2 (some .int)) 2 22 (fun z => [.ref (z + 0), .int a1]) h (fun z => eI z rr.1) rr.2 := by
  refine cn_of (e1 := eI) (fun z => [(0, .ref (z + 0)), (1, .int a1)]) mV_ok ⟨Nat.le_refl _, Nat.le_refl _⟩ ymX10_gainOf (fun _ => rfl) (fun _ => Nat.le_of_ble_eq_true rfl) (fun X hX hr _ => ?_) e
  have hX : okX mV X rr cX10_gainOf RX10 2 2 22 := hX
  rw [m_gainOf]
  refine j_aload_n (pc := 0) hX 0 rfl dX10_gainOf_0 ?_
  refine j_getR (pc := 1) hX fgX10_100.1 fgX10_100.2 rfl rfl dX10_gainOf_1 ?_
  refine j_iconst (pc := 4) hX ic_5 dX10_gainOf_4 ?_
  refine j_iload_n (pc := 5) hX 1 rfl dX10_gainOf_5 ?_
  refine j_iadd (pc := 6) hX dX10_gainOf_6 ?_
  refine j_iald (pc := 7) (n := 10) hX rfl dX10_gainOf_7 (fun _ => ?_)
  refine j_callSI (pc := 8) (As := fun z => [.int (gI h 29 (((5 : Int32) + a1)).toNatClampNeg)]) (rest := []) hX (fun r e => m_t_manyOf (gI h 29 (((5 : Int32) + a1)).toNatClampNeg) h r e) ymX10_manyOf (lw_S q2045 q2046 q154 q2047) ⟨Nat.le_of_ble_eq_true rfl, Nat.le_of_ble_eq_true rfl⟩ rfl rfl (Nat.le_of_ble_eq_true rfl) dX10_gainOf_8 (fun r1 h2 => ?_)
  refine j_aload_n (pc := 11) hX 0 rfl dX10_gainOf_11 ?_
  refine j_getR (pc := 12) hX fgX10_100.1 fgX10_100.2 rfl rfl dX10_gainOf_12 ?_
  refine j_iload_n (pc := 15) hX 1 rfl dX10_gainOf_15 ?_
  refine j_iald (pc := 16) (n := 10) hX rfl dX10_gainOf_16 (fun _ => ?_)
  refine j_callSI (pc := 17) (As := fun z => [.int (gI h2 29 (a1).toNatClampNeg)]) (rest := [.int r1]) hX (fun r e => m_t_manyOf (gI h2 29 (a1).toNatClampNeg) h2 r e) ymX10_manyOf (lw_S q2045 q2046 q154 q2047) ⟨Nat.le_of_ble_eq_true rfl, Nat.le_of_ble_eq_true rfl⟩ rfl rfl (Nat.le_of_ble_eq_true rfl) dX10_gainOf_17 (fun r3 h4 => ?_)
  refine j_isub (pc := 20) hX dX10_gainOf_20 ?_
  refine j_iconst (pc := 21) hX ic_2 dX10_gainOf_21 ?_
  refine j_aload_n (pc := 22) hX 0 rfl dX10_gainOf_22 ?_
  refine j_getR (pc := 23) hX fgX10_103.1 fgX10_103.2 rfl rfl dX10_gainOf_23 ?_
  refine j_iconst (pc := 26) hX ic_5 dX10_gainOf_26 ?_
  refine j_iload_n (pc := 27) hX 1 rfl dX10_gainOf_27 ?_
  refine j_iadd (pc := 28) hX dX10_gainOf_28 ?_
  refine j_iald (pc := 29) (n := 10) hX rfl dX10_gainOf_29 (fun _ => ?_)
  refine j_aload_n (pc := 30) hX 0 rfl dX10_gainOf_30 ?_
  refine j_getR (pc := 31) hX fgX10_103.1 fgX10_103.2 rfl rfl dX10_gainOf_31 ?_
  refine j_iload_n (pc := 34) hX 1 rfl dX10_gainOf_34 ?_
  refine j_iald (pc := 35) (n := 10) hX rfl dX10_gainOf_35 (fun _ => ?_)
  refine j_isub (pc := 36) hX dX10_gainOf_36 ?_
  refine j_imul (pc := 37) hX dX10_gainOf_37 ?_
  refine j_isub (pc := 38) hX dX10_gainOf_38 ?_
  exact j_iret (pc := 39) hX hr dX10_gainOf_39
set_option maxHeartbeats 4000000 in
set_option maxRecDepth 100000 in
theorem m_restAt_11_w {X : CTX} {rr : Int32 × HP} (hX : okX mV X rr cX10_restAt RX10 9 7 148) (hr : (xh X).sig.returnType = some .int) (f1 : Int32) (f2 : Int32) (f3 : Int32) (f4 : Int32) (k : HP → Option (Int32 × HP)) (hk : ∀ (h : HP), jG mV X evI rr (k h) 153 [(0, .ref (xz X + 0)), (3, .int f3), (4, .int f4)] [] h) : ∀ (n : Nat) (v5 : Int32) (h : HP), jG mV X evI rr (m_restAt_11 f1 f2 f3 f4 k n v5 h) 11 [(0, .ref (xz X + 0)), (1, .int f1), (2, .int f2), (3, .int f3), (4, .int f4), (5, .int v5)] [] h := by
  intro n
  induction n with
  | zero =>
    intro v5 h
    exact j_none
  | succ n ih =>
    intro v5 h
    rw [m_restAt_11]
    refine j_iload (pc := 11) hX 5 rfl dX10_restAt_11 ?_
    refine j_iload (pc := 13) hX 4 rfl dX10_restAt_13 ?_
    refine j_iload (pc := 15) hX 4 rfl dX10_restAt_15 ?_
    refine j_imul (pc := 17) hX dX10_restAt_17 ?_
    refine j_cge (pc := 18) (tgt := 153) hX rfl dX10_restAt_18 (fun _ => ?_) (fun _ => ?_)
    · refine j_locs [0, 3, 4] rfl ?_
      exact hk h
    · refine j_aload_n (pc := 21) hX 0 rfl dX10_restAt_21 ?_
      refine j_callVV (pc := 22) (a := 0) (As := fun z => []) (rest := []) hX (fun r e => m_t_layTried h r e) ymX10_layTried (lw_V q2126 q2128 qs115 q154 q2129) rfl ckX10 rfl ⟨Nat.le_of_ble_eq_true rfl, Nat.le_of_ble_eq_true rfl⟩ rfl rfl (Nat.le_of_ble_eq_true rfl) dX10_restAt_22 (fun r3 h4 => ?_)
      refine j_iload (pc := 25) hX 5 rfl dX10_restAt_25 ?_
      refine j_iload (pc := 27) hX 4 rfl dX10_restAt_27 ?_
      refine j_idiv (pc := 29) hX dX10_restAt_29 (fun _ => ?_)
      refine j_aload_n (pc := 30) hX 0 rfl dX10_restAt_30 ?_
      refine j_getI (pc := 31) hX fgX10_234.1 fgX10_234.2 rfl dX10_restAt_31 ?_
      refine j_jon (fun (j5 : Int32 → HP → Option (Int32 × HP)) => ∀ (s6 : Int32) (h7 : HP), jG mV X evI rr (j5 s6 h7) 72 [(0, .ref (xz X + 0)), (1, .int f1), (2, .int f2), (3, .int f3), (4, .int f4), (5, .int v5)] [.int s6] h7) ?_ ?_
      · intro s6 h7
        refine j_istore (pc := 72) hX (fun x8 => [(6, .int x8), (0, .ref (xz X + 0)), (1, .int f1), (2, .int f2), (3, .int f3), (4, .int f4), (5, .int v5)]) (fun _ => rfl) (Nat.le_of_ble_eq_true rfl) dX10_restAt_72 (fun x8 => ?_)
        refine j_iload (pc := 74) hX 6 rfl dX10_restAt_74 ?_
        refine j_iload (pc := 76) hX 5 rfl dX10_restAt_76 ?_
        refine j_irem (pc := 78) hX dX10_restAt_78 (fun _ => ?_)
        refine j_aload_n (pc := 79) hX 1 rfl dX10_restAt_79 ?_
        refine j_getI (pc := 80) hX fgX10_234.1 fgX10_234.2 rfl dX10_restAt_80 ?_
        refine j_jon (fun (j9 : Int32 → HP → Option (Int32 × HP)) => ∀ (s10 : Int32) (h11 : HP), jG mV X evI rr (j9 s10 h11) 121 [(0, .ref (xz X + 0)), (1, .int f1), (2, .int f2), (3, .int f3), (4, .int f4), (5, .int v5)] [.int s10] h11) ?_ ?_
        · intro s10 h11
          refine j_istore (pc := 121) hX (fun x12 => [(6, .int x12), (0, .ref (xz X + 0)), (1, .int f1), (2, .int f2), (3, .int f3), (4, .int f4), (5, .int v5)]) (fun _ => rfl) (Nat.le_of_ble_eq_true rfl) dX10_restAt_121 (fun x12 => ?_)
          refine j_aload_n (pc := 123) hX 1 rfl dX10_restAt_123 ?_
          refine j_getR (pc := 124) hX fgX10_118.1 fgX10_118.2 rfl rfl dX10_restAt_124 ?_
          refine j_iload (pc := 127) hX 6 rfl dX10_restAt_127 ?_
          refine j_aload_n (pc := 129) hX 1 rfl dX10_restAt_129 ?_
          refine j_iload_n (pc := 130) hX 2 rfl dX10_restAt_130 ?_
          refine j_callVI (pc := 131) (a := 0) (As := fun z => [.int f1]) (rest := [.int v5, .ref (xz X + 35)]) hX (fun r e => m_t_gainOf f1 h11 r e) ymX10_gainOf (lw_V q2238 q2240 qs131 q154 q2241) rfl ckX10 rfl ⟨Nat.le_of_ble_eq_true rfl, Nat.le_of_ble_eq_true rfl⟩ rfl rfl (Nat.le_of_ble_eq_true rfl) dX10_restAt_131 (fun r13 h14 => ?_)
          refine j_iast (pc := 134) (n := 81) hX rfl dX10_restAt_134 (fun _ h15 => ?_)
          refine j_aload_n (pc := 135) hX 1 rfl dX10_restAt_135 ?_
          refine j_getR (pc := 136) hX fgX10_121.1 fgX10_121.2 rfl rfl dX10_restAt_136 ?_
          refine j_iload (pc := 139) hX 6 rfl dX10_restAt_139 ?_
          refine j_aload_n (pc := 141) hX 1 rfl dX10_restAt_141 ?_
          refine j_iload_n (pc := 142) hX 3 rfl dX10_restAt_142 ?_
          refine j_callVI (pc := 143) (a := 0) (As := fun z => [.int f2]) (rest := [.int v5, .ref (xz X + 36)]) hX (fun r e => m_t_gainOf f2 h15 r e) ymX10_gainOf (lw_V q2238 q2240 qs131 q154 q2241) rfl ckX10 rfl ⟨Nat.le_of_ble_eq_true rfl, Nat.le_of_ble_eq_true rfl⟩ rfl rfl (Nat.le_of_ble_eq_true rfl) dX10_restAt_143 (fun r16 h17 => ?_)
          refine j_iast (pc := 146) (n := 81) hX rfl dX10_restAt_146 (fun _ h18 => ?_)
          refine j_iinc (pc := 147) hX 6 rfl (1 : Int32) ic_1 (fun x19 => [(5, .int x19), (6, .int x12), (0, .ref (xz X + 0)), (1, .int f1), (2, .int f2), (3, .int f3), (4, .int f4)]) (fun _ => rfl) (Nat.le_of_ble_eq_true rfl) dX10_restAt_147 (fun x19 => ?_)
          refine j_goto (pc := 150) (tgt := 11) hX rfl dX10_restAt_150 ?_
          refine j_locs [2, 3, 4, 5, 6, 0] rfl ?_
          exact ih x19 h18
        · intro j9 hj9
          refine j_jon (fun (j20 : HP → Option (Int32 × HP)) => ∀ (h21 : HP), jG mV X evI rr (j20 h21) 120 [(0, .ref (xz X + 0)), (1, .int f1), (2, .int f2), (3, .int f3), (4, .int f4), (5, .int v5)] [] h21) ?_ ?_
          · intro h21
            refine j_iconst (pc := 120) hX ic_0 dX10_restAt_120 ?_
            exact hj9 (0 : Int32) h21
          · intro j20 hj20
            refine j_cge (pc := 83) (tgt := 120) hX rfl dX10_restAt_83 (fun _ => ?_) (fun _ => ?_)
            · refine j_locs [1, 2, 3, 4, 5, 6] rfl ?_
              exact hj20 h7
            · refine j_aload_n (pc := 86) hX 1 rfl dX10_restAt_86 ?_
              refine j_iconst (pc := 87) hX ic_1 dX10_restAt_87 ?_
              refine j_iload_n (pc := 88) hX 3 rfl dX10_restAt_88 ?_
              refine j_iload_n (pc := 89) hX 2 rfl dX10_restAt_89 ?_
              refine j_iload (pc := 90) hX 6 rfl dX10_restAt_90 ?_
              refine j_iload (pc := 92) hX 5 rfl dX10_restAt_92 ?_
              refine j_irem (pc := 94) hX dX10_restAt_94 (fun _ => ?_)
              refine j_callVI (pc := 95) (a := 0) (As := fun z => [.int (1 : Int32), .int f2, .int f1, .int (v5 - v5 / f4 * f4)]) (rest := []) hX (fun r e => m_t_canAsk (1 : Int32) f2 f1 (v5 - v5 / f4 * f4) h7 r e) ymX10_canAsk (lw_V q2024 q2026 qs99 q154 q2027) rfl ckX10 rfl ⟨Nat.le_of_ble_eq_true rfl, Nat.le_of_ble_eq_true rfl⟩ rfl rfl (Nat.le_of_ble_eq_true rfl) dX10_restAt_95 (fun r22 h23 => ?_)
              refine j_ifeq (pc := 98) (tgt := 120) hX rfl dX10_restAt_98 (fun _ => ?_) (fun _ => ?_)
              · refine j_locs [1, 2, 3, 4, 5, 6] rfl ?_
                exact hj20 h23
              · refine j_aload_n (pc := 101) hX 1 rfl dX10_restAt_101 ?_
                refine j_iconst (pc := 102) hX ic_1 dX10_restAt_102 ?_
                refine j_iload_n (pc := 103) hX 3 rfl dX10_restAt_103 ?_
                refine j_iload_n (pc := 104) hX 2 rfl dX10_restAt_104 ?_
                refine j_iload (pc := 105) hX 6 rfl dX10_restAt_105 ?_
                refine j_iload (pc := 107) hX 5 rfl dX10_restAt_107 ?_
                refine j_irem (pc := 109) hX dX10_restAt_109 (fun _ => ?_)
                refine j_callVI (pc := 110) (a := 0) (As := fun z => [.int (1 : Int32), .int f2, .int f1, .int (v5 - v5 / f4 * f4)]) (rest := []) hX (fun r e => m_t_asks (1 : Int32) f2 f1 (v5 - v5 / f4 * f4) h23 r e) ymX10_asks (lw_V q2081 q2083 qs109 q154 q2084) rfl ckX10 rfl ⟨Nat.le_of_ble_eq_true rfl, Nat.le_of_ble_eq_true rfl⟩ rfl rfl (Nat.le_of_ble_eq_true rfl) dX10_restAt_110 (fun r24 h25 => ?_)
                refine j_ifeq (pc := 113) (tgt := 120) hX rfl dX10_restAt_113 (fun _ => ?_) (fun _ => ?_)
                · refine j_locs [1, 2, 3, 4, 5, 6] rfl ?_
                  exact hj20 h25
                · refine j_iconst (pc := 116) hX ic_1 dX10_restAt_116 ?_
                  refine j_goto (pc := 117) (tgt := 121) hX rfl dX10_restAt_117 ?_
                  refine j_locs [1, 2, 3, 4, 5, 6] rfl ?_
                  exact hj9 (1 : Int32) h25
      · intro j5 hj5
        refine j_jon (fun (j26 : HP → Option (Int32 × HP)) => ∀ (h27 : HP), jG mV X evI rr (j26 h27) 71 [(0, .ref (xz X + 0)), (1, .int f1), (2, .int f2), (3, .int f3), (4, .int f4), (5, .int v5)] [] h27) ?_ ?_
        · intro h27
          refine j_iconst (pc := 71) hX ic_0 dX10_restAt_71 ?_
          exact hj5 (0 : Int32) h27
        · intro j26 hj26
          refine j_cge (pc := 34) (tgt := 71) hX rfl dX10_restAt_34 (fun _ => ?_) (fun _ => ?_)
          · exact hj26 h4
          · refine j_aload_n (pc := 37) hX 0 rfl dX10_restAt_37 ?_
            refine j_iconst (pc := 38) hX ic_1 dX10_restAt_38 ?_
            refine j_iload_n (pc := 39) hX 1 rfl dX10_restAt_39 ?_
            refine j_iload_n (pc := 40) hX 2 rfl dX10_restAt_40 ?_
            refine j_iload (pc := 41) hX 5 rfl dX10_restAt_41 ?_
            refine j_iload (pc := 43) hX 4 rfl dX10_restAt_43 ?_
            refine j_idiv (pc := 45) hX dX10_restAt_45 (fun _ => ?_)
            refine j_callVI (pc := 46) (a := 0) (As := fun z => [.int (1 : Int32), .int f1, .int f2, .int (v5 / f4)]) (rest := []) hX (fun r e => m_t_canAsk (1 : Int32) f1 f2 (v5 / f4) h4 r e) ymX10_canAsk (lw_V q2024 q2026 qs99 q154 q2027) rfl ckX10 rfl ⟨Nat.le_of_ble_eq_true rfl, Nat.le_of_ble_eq_true rfl⟩ rfl rfl (Nat.le_of_ble_eq_true rfl) dX10_restAt_46 (fun r28 h29 => ?_)
            refine j_ifeq (pc := 49) (tgt := 71) hX rfl dX10_restAt_49 (fun _ => ?_) (fun _ => ?_)
            · exact hj26 h29
            · refine j_aload_n (pc := 52) hX 0 rfl dX10_restAt_52 ?_
              refine j_iconst (pc := 53) hX ic_1 dX10_restAt_53 ?_
              refine j_iload_n (pc := 54) hX 1 rfl dX10_restAt_54 ?_
              refine j_iload_n (pc := 55) hX 2 rfl dX10_restAt_55 ?_
              refine j_iload (pc := 56) hX 5 rfl dX10_restAt_56 ?_
              refine j_iload (pc := 58) hX 4 rfl dX10_restAt_58 ?_
              refine j_idiv (pc := 60) hX dX10_restAt_60 (fun _ => ?_)
              refine j_callVI (pc := 61) (a := 0) (As := fun z => [.int (1 : Int32), .int f1, .int f2, .int (v5 / f4)]) (rest := []) hX (fun r e => m_t_asks (1 : Int32) f1 f2 (v5 / f4) h29 r e) ymX10_asks (lw_V q2081 q2083 qs109 q154 q2084) rfl ckX10 rfl ⟨Nat.le_of_ble_eq_true rfl, Nat.le_of_ble_eq_true rfl⟩ rfl rfl (Nat.le_of_ble_eq_true rfl) dX10_restAt_61 (fun r30 h31 => ?_)
              refine j_ifeq (pc := 64) (tgt := 71) hX rfl dX10_restAt_64 (fun _ => ?_) (fun _ => ?_)
              · exact hj26 h31
              · refine j_iconst (pc := 67) hX ic_1 dX10_restAt_67 ?_
                refine j_goto (pc := 68) (tgt := 72) hX rfl dX10_restAt_68 ?_
                exact hj5 (1 : Int32) h31
set_option maxHeartbeats 4000000 in
set_option maxRecDepth 100000 in
theorem m_restAt_175_w {X : CTX} {rr : Int32 × HP} (hX : okX mV X rr cX10_restAt RX10 9 7 148) (hr : (xh X).sig.returnType = some .int) (f3 : Int32) (f4 : Int32) (f5 : Int32) (f6 : Int32) (k : Int32 → HP → Option (Int32 × HP)) (hk : ∀ (v7 : Int32) (h : HP), jG mV X evI rr (k v7 h) 252 [(0, .ref (xz X + 0)), (3, .int f3), (4, .int f4), (5, .int f5), (6, .int f6), (7, .int v7)] [] h) : ∀ (n : Nat) (v7 : Int32) (v8 : Int32) (h : HP), jG mV X evI rr (m_restAt_175 f3 f4 f5 f6 k n v7 v8 h) 175 [(0, .ref (xz X + 0)), (3, .int f3), (4, .int f4), (5, .int f5), (6, .int f6), (7, .int v7), (8, .int v8)] [] h := by
  intro n
  induction n with
  | zero =>
    intro v7 v8 h
    exact j_none
  | succ n ih =>
    intro v7 v8 h
    rw [m_restAt_175]
    refine j_iload (pc := 175) hX 6 rfl dX10_restAt_175 ?_
    refine j_iload (pc := 177) hX 2 rfl dX10_restAt_177 ?_
    refine j_cge (pc := 179) (tgt := 252) hX rfl dX10_restAt_179 (fun _ => ?_) (fun _ => ?_)
    · refine j_locs [0, 1, 2, 3, 4, 5] rfl ?_
      exact hk v7 h
    · refine j_iload (pc := 182) hX 5 rfl dX10_restAt_182 ?_
      refine j_jon (fun (j37 : Unit → Option (Int32 × HP)) => ∀ (_u : Unit), jG mV X evI rr (j37 ()) 243 [(0, .ref (xz X + 0)), (3, .int f3), (4, .int f4), (5, .int f5), (6, .int f6), (8, .int v8)] [] h) ?_ ?_
      · intro _
        refine j_iconst (pc := 243) hX ic_0 dX10_restAt_243 ?_
        refine j_istore (pc := 244) hX (fun x38 => [(7, .int x38), (0, .ref (xz X + 0)), (3, .int f3), (4, .int f4), (5, .int f5), (6, .int f6), (8, .int v8)]) (fun _ => rfl) (Nat.le_of_ble_eq_true rfl) dX10_restAt_244 (fun x38 => ?_)
        refine j_iinc (pc := 246) hX 6 rfl (1 : Int32) ic_1 (fun x39 => [(8, .int x39), (7, .int x38), (0, .ref (xz X + 0)), (3, .int f3), (4, .int f4), (5, .int f5), (6, .int f6)]) (fun _ => rfl) (Nat.le_of_ble_eq_true rfl) dX10_restAt_246 (fun x39 => ?_)
        refine j_goto (pc := 249) (tgt := 175) hX rfl dX10_restAt_249 ?_
        refine j_locs [2, 3, 4, 5, 6, 1, 0] rfl ?_
        exact ih x38 x39 h
      · intro j37 hj37
        refine j_ifeq (pc := 184) (tgt := 243) hX rfl dX10_restAt_184 (fun _ => ?_) (fun _ => ?_)
        · refine j_locs [0, 1, 2, 3, 4, 6] rfl ?_
          exact hj37 ()
        · refine j_aload_n (pc := 187) hX 0 rfl dX10_restAt_187 ?_
          refine j_getR (pc := 188) hX fgX10_118.1 fgX10_118.2 rfl rfl dX10_restAt_188 ?_
          refine j_iload (pc := 191) hX 2 rfl dX10_restAt_191 ?_
          refine j_iload (pc := 193) hX 6 rfl dX10_restAt_193 ?_
          refine j_imul (pc := 195) hX dX10_restAt_195 ?_
          refine j_iload (pc := 196) hX 4 rfl dX10_restAt_196 ?_
          refine j_iload (pc := 198) hX 2 rfl dX10_restAt_198 ?_
          refine j_irem (pc := 200) hX dX10_restAt_200 (fun _ => ?_)
          refine j_iadd (pc := 201) hX dX10_restAt_201 ?_
          refine j_iald (pc := 202) (n := 81) hX rfl dX10_restAt_202 (fun _ => ?_)
          refine j_aload_n (pc := 203) hX 0 rfl dX10_restAt_203 ?_
          refine j_getR (pc := 204) hX fgX10_118.1 fgX10_118.2 rfl rfl dX10_restAt_204 ?_
          refine j_iload (pc := 207) hX 4 rfl dX10_restAt_207 ?_
          refine j_iald (pc := 209) (n := 81) hX rfl dX10_restAt_209 (fun _ => ?_)
          refine j_cgt (pc := 210) (tgt := 243) hX rfl dX10_restAt_210 (fun _ => ?_) (fun _ => ?_)
          · refine j_locs [0, 1, 2, 3, 4, 6] rfl ?_
            exact hj37 ()
          · refine j_aload_n (pc := 213) hX 0 rfl dX10_restAt_213 ?_
            refine j_getR (pc := 214) hX fgX10_121.1 fgX10_121.2 rfl rfl dX10_restAt_214 ?_
            refine j_iload (pc := 217) hX 4 rfl dX10_restAt_217 ?_
            refine j_iload (pc := 219) hX 2 rfl dX10_restAt_219 ?_
            refine j_idiv (pc := 221) hX dX10_restAt_221 (fun _ => ?_)
            refine j_iload (pc := 222) hX 2 rfl dX10_restAt_222 ?_
            refine j_imul (pc := 224) hX dX10_restAt_224 ?_
            refine j_iload (pc := 225) hX 6 rfl dX10_restAt_225 ?_
            refine j_iadd (pc := 227) hX dX10_restAt_227 ?_
            refine j_iald (pc := 228) (n := 81) hX rfl dX10_restAt_228 (fun _ => ?_)
            refine j_aload_n (pc := 229) hX 0 rfl dX10_restAt_229 ?_
            refine j_getR (pc := 230) hX fgX10_121.1 fgX10_121.2 rfl rfl dX10_restAt_230 ?_
            refine j_iload (pc := 233) hX 4 rfl dX10_restAt_233 ?_
            refine j_iald (pc := 235) (n := 81) hX rfl dX10_restAt_235 (fun _ => ?_)
            refine j_cgt (pc := 236) (tgt := 243) hX rfl dX10_restAt_236 (fun _ => ?_) (fun _ => ?_)
            · refine j_locs [0, 1, 2, 3, 4, 6] rfl ?_
              exact hj37 ()
            · refine j_iconst (pc := 239) hX ic_1 dX10_restAt_239 ?_
              refine j_goto (pc := 240) (tgt := 244) hX rfl dX10_restAt_240 ?_
              refine j_istore (pc := 244) hX (fun x40 => [(7, .int x40), (0, .ref (xz X + 0)), (3, .int f3), (4, .int f4), (5, .int f5), (6, .int f6), (8, .int v8)]) (fun _ => rfl) (Nat.le_of_ble_eq_true rfl) dX10_restAt_244 (fun x40 => ?_)
              refine j_iinc (pc := 246) hX 6 rfl (1 : Int32) ic_1 (fun x41 => [(8, .int x41), (7, .int x40), (0, .ref (xz X + 0)), (3, .int f3), (4, .int f4), (5, .int f5), (6, .int f6)]) (fun _ => rfl) (Nat.le_of_ble_eq_true rfl) dX10_restAt_246 (fun x41 => ?_)
              refine j_goto (pc := 249) (tgt := 175) hX rfl dX10_restAt_249 ?_
              refine j_locs [2, 3, 4, 5, 6, 1, 0] rfl ?_
              exact ih x40 x41 h
set_option maxHeartbeats 4000000 in
set_option maxRecDepth 100000 in
theorem m_restAt_159_w {X : CTX} {rr : Int32 × HP} (hX : okX mV X rr cX10_restAt RX10 9 7 148) (hr : (xh X).sig.returnType = some .int) (f3 : Int32) (f4 : Int32) (k : Int32 → HP → Option (Int32 × HP)) (hk : ∀ (v5 : Int32) (h : HP), jG mV X evI rr (k v5 h) 290 [(3, .int f3), (5, .int v5)] [] h) : ∀ (n : Nat) (v5 : Int32) (v6 : Int32) (h : HP), jG mV X evI rr (m_restAt_159 f3 f4 k n v5 v6 h) 159 [(0, .ref (xz X + 0)), (3, .int f3), (4, .int f4), (5, .int v5), (6, .int v6)] [] h := by
  intro n
  induction n with
  | zero =>
    intro v5 v6 h
    exact j_none
  | succ n ih =>
    intro v5 v6 h
    rw [m_restAt_159]
    refine j_iload (pc := 159) hX 4 rfl dX10_restAt_159 ?_
    refine j_iload (pc := 161) hX 2 rfl dX10_restAt_161 ?_
    refine j_iload (pc := 163) hX 2 rfl dX10_restAt_163 ?_
    refine j_imul (pc := 165) hX dX10_restAt_165 ?_
    refine j_cge (pc := 166) (tgt := 290) hX rfl dX10_restAt_166 (fun _ => ?_) (fun _ => ?_)
    · refine j_locs [1, 3] rfl ?_
      exact hk v5 h
    · refine j_iconst (pc := 169) hX ic_1 dX10_restAt_169 ?_
      refine j_istore (pc := 170) hX (fun x35 => [(7, .int x35), (0, .ref (xz X + 0)), (3, .int f3), (4, .int f4), (5, .int v5), (6, .int v6)]) (fun _ => rfl) (Nat.le_of_ble_eq_true rfl) dX10_restAt_170 (fun x35 => ?_)
      refine j_iconst (pc := 172) hX ic_0 dX10_restAt_172 ?_
      refine j_istore (pc := 173) hX (fun x36 => [(8, .int x36), (7, .int x35), (0, .ref (xz X + 0)), (3, .int f3), (4, .int f4), (5, .int v5), (6, .int v6)]) (fun _ => rfl) (Nat.le_of_ble_eq_true rfl) dX10_restAt_173 (fun x36 => ?_)
      refine j_locs [2, 3, 4, 5, 6, 1, 0] rfl ?_
      refine m_restAt_175_w hX hr f3 f4 v5 v6 _ (fun x42 h43 => ?_) FU x35 x36 h
      refine j_iload (pc := 252) hX 5 rfl dX10_restAt_252 ?_
      refine j_ifne (pc := 254) (tgt := 260) hX rfl dX10_restAt_254 (fun _ => ?_) (fun _ => ?_)
      · refine j_goto (pc := 257) (tgt := 284) hX rfl dX10_restAt_257 ?_
        refine j_iinc (pc := 284) hX 4 rfl (1 : Int32) ic_1 (fun x44 => [(6, .int x44), (0, .ref (xz X + 0)), (3, .int f3), (4, .int f4), (5, .int v5), (7, .int x42)]) (fun _ => rfl) (Nat.le_of_ble_eq_true rfl) dX10_restAt_284 (fun x44 => ?_)
        refine j_goto (pc := 287) (tgt := 159) hX rfl dX10_restAt_287 ?_
        refine j_locs [1, 2, 3, 4, 0] rfl ?_
        exact ih v5 x44 h43
      · refine j_iload (pc := 260) hX 3 rfl dX10_restAt_260 ?_
        refine j_iload_n (pc := 262) hX 1 rfl dX10_restAt_262 ?_
        refine j_cne (pc := 263) (tgt := 281) hX rfl dX10_restAt_263 (fun _ => ?_) (fun _ => ?_)
        · refine j_bipush (pc := 266) hX bp_100 dX10_restAt_266 ?_
          refine j_iload (pc := 268) hX 4 rfl dX10_restAt_268 ?_
          refine j_iload (pc := 270) hX 2 rfl dX10_restAt_270 ?_
          refine j_idiv (pc := 272) hX dX10_restAt_272 (fun _ => ?_)
          refine j_imul (pc := 273) hX dX10_restAt_273 ?_
          refine j_iload (pc := 274) hX 4 rfl dX10_restAt_274 ?_
          refine j_iload (pc := 276) hX 2 rfl dX10_restAt_276 ?_
          refine j_irem (pc := 278) hX dX10_restAt_278 (fun _ => ?_)
          refine j_iadd (pc := 279) hX dX10_restAt_279 ?_
          exact j_iret (pc := 280) hX hr dX10_restAt_280
        · refine j_iinc (pc := 281) hX 3 rfl (1 : Int32) ic_1 (fun x45 => [(5, .int x45), (0, .ref (xz X + 0)), (3, .int f3), (4, .int f4), (6, .int v6), (7, .int x42)]) (fun _ => rfl) (Nat.le_of_ble_eq_true rfl) dX10_restAt_281 (fun x45 => ?_)
          refine j_iinc (pc := 284) hX 4 rfl (1 : Int32) ic_1 (fun x46 => [(6, .int x46), (5, .int x45), (0, .ref (xz X + 0)), (3, .int f3), (4, .int f4), (7, .int x42)]) (fun _ => rfl) (Nat.le_of_ble_eq_true rfl) dX10_restAt_284 (fun x46 => ?_)
          refine j_goto (pc := 287) (tgt := 159) hX rfl dX10_restAt_287 ?_
          refine j_locs [2, 3, 4, 1, 0] rfl ?_
          exact ih x45 x46 h43
set_option maxHeartbeats 4000000 in
set_option maxRecDepth 100000 in
theorem m_t_restAt (a1 : Int32) (a2 : Int32) (a3 : Int32) (h : HP) (rr : Int32 × HP) (e : m_restAt a1 a2 a3 h = some rr) : Cn mV yX10_restAt (ws_ yX10_restAt cX10_restAt 9 (some .int)) 7 148 (fun z => [.ref (z + 0), .int a1, .int a2, .int a3]) h (fun z => eI z rr.1) rr.2 := by
  refine cn_of (e1 := eI) (fun z => [(0, .ref (z + 0)), (1, .int a1), (2, .int a2), (3, .int a3)]) mV_ok ⟨Nat.le_refl _, Nat.le_refl _⟩ ymX10_restAt (fun _ => rfl) (fun _ => Nat.le_of_ble_eq_true rfl) (fun X hX hr _ => ?_) e
  have hX : okX mV X rr cX10_restAt RX10 9 7 148 := hX
  rw [m_restAt]
  refine j_aload_n (pc := 0) hX 0 rfl dX10_restAt_0 ?_
  refine j_getI (pc := 1) hX fgX10_234.1 fgX10_234.2 rfl dX10_restAt_1 ?_
  refine j_iconst (pc := 4) hX ic_1 dX10_restAt_4 ?_
  refine j_iadd (pc := 5) hX dX10_restAt_5 ?_
  refine j_istore (pc := 6) hX (fun x1 => [(4, .int x1), (0, .ref (xz X + 0)), (1, .int a1), (2, .int a2), (3, .int a3)]) (fun _ => rfl) (Nat.le_of_ble_eq_true rfl) dX10_restAt_6 (fun x1 => ?_)
  refine j_iconst (pc := 8) hX ic_0 dX10_restAt_8 ?_
  refine j_istore (pc := 9) hX (fun x2 => [(5, .int x2), (4, .int x1), (0, .ref (xz X + 0)), (1, .int a1), (2, .int a2), (3, .int a3)]) (fun _ => rfl) (Nat.le_of_ble_eq_true rfl) dX10_restAt_9 (fun x2 => ?_)
  refine j_locs [2, 3, 4, 5, 1, 0] rfl ?_
  refine m_restAt_11_w hX hr a1 a2 a3 x1 _ (fun  h32 => ?_) FU x2 h
  refine j_iconst (pc := 153) hX ic_0 dX10_restAt_153 ?_
  refine j_istore (pc := 154) hX (fun x33 => [(5, .int x33), (0, .ref (xz X + 0)), (3, .int a3), (4, .int x1)]) (fun _ => rfl) (Nat.le_of_ble_eq_true rfl) dX10_restAt_154 (fun x33 => ?_)
  refine j_iconst (pc := 156) hX ic_0 dX10_restAt_156 ?_
  refine j_istore (pc := 157) hX (fun x34 => [(6, .int x34), (5, .int x33), (0, .ref (xz X + 0)), (3, .int a3), (4, .int x1)]) (fun _ => rfl) (Nat.le_of_ble_eq_true rfl) dX10_restAt_157 (fun x34 => ?_)
  refine j_locs [2, 3, 4, 1, 0] rfl ?_
  refine m_restAt_159_w hX hr a3 x1 _ (fun x47 h48 => ?_) FU x33 x34 h32
  refine j_iload_n (pc := 290) hX 0 rfl dX10_restAt_290 ?_
  refine j_ifge (pc := 291) (tgt := 299) hX rfl dX10_restAt_291 (fun _ => ?_) (fun _ => ?_)
  · refine j_bipush (pc := 299) hX bp_m2 dX10_restAt_299 ?_
    exact j_iret (pc := 301) hX hr dX10_restAt_301
  · refine j_iload (pc := 294) hX 1 rfl dX10_restAt_294 ?_
    refine j_goto (pc := 296) (tgt := 301) hX rfl dX10_restAt_296 ?_
    exact j_iret (pc := 301) hX hr dX10_restAt_301
set_option maxHeartbeats 4000000 in
set_option maxRecDepth 100000 in
theorem m_t_rests (a1 : Int32) (a2 : Int32) (h : HP) (rr : Int32 × HP) (e : m_rests a1 a2 h = some rr) : Cn mV yX10_rests (ws_ yX10_rests cX10_rests 3 (some .int)) 8 176 (fun z => [.ref (z + 0), .int a1, .int a2]) h (fun z => eI z rr.1) rr.2 := by
  refine cn_of (e1 := eI) (fun z => [(0, .ref (z + 0)), (1, .int a1), (2, .int a2)]) mV_ok ⟨Nat.le_refl _, Nat.le_refl _⟩ ymX10_rests (fun _ => rfl) (fun _ => Nat.le_of_ble_eq_true rfl) (fun X hX hr _ => ?_) e
  have hX : okX mV X rr cX10_rests RX10 3 8 176 := hX
  rw [m_rests]
  refine j_aload_n (pc := 0) hX 0 rfl dX10_rests_0 ?_
  refine j_iconst (pc := 1) hX ic_0 dX10_rests_1 ?_
  refine j_putI (pc := 2) hX fwX10_148.1 fwX10_148.2 rfl dX10_rests_2 (fun h1 => ?_)
  refine j_aload_n (pc := 5) hX 0 rfl dX10_rests_5 ?_
  refine j_iload_n (pc := 6) hX 1 rfl dX10_rests_6 ?_
  refine j_iload_n (pc := 7) hX 2 rfl dX10_rests_7 ?_
  refine j_callVI (pc := 8) (a := 0) (As := fun z => [.int a1, .int a2]) (rest := []) hX (fun r e => m_t_areTwo a1 a2 h1 r e) ymX10_areTwo (lw_V q2230 q2232 qs129 q154 q2233) rfl ckX10 rfl ⟨Nat.le_of_ble_eq_true rfl, Nat.le_of_ble_eq_true rfl⟩ rfl rfl (Nat.le_of_ble_eq_true rfl) dX10_rests_8 (fun r2 h3 => ?_)
  refine j_ifeq (pc := 11) (tgt := 24) hX rfl dX10_rests_11 (fun _ => ?_) (fun _ => ?_)
  · refine j_iconst (pc := 24) hX ic_m1 dX10_rests_24 ?_
    exact j_iret (pc := 25) hX hr dX10_rests_25
  · refine j_aload_n (pc := 14) hX 0 rfl dX10_rests_14 ?_
    refine j_iload_n (pc := 15) hX 1 rfl dX10_rests_15 ?_
    refine j_iload_n (pc := 16) hX 2 rfl dX10_rests_16 ?_
    refine j_iconst (pc := 17) hX ic_m1 dX10_rests_17 ?_
    refine j_callVI (pc := 18) (a := 0) (As := fun z => [.int a1, .int a2, .int (-1 : Int32)]) (rest := []) hX (fun r e => m_t_restAt a1 a2 (-1 : Int32) h3 r e) ymX10_restAt (lw_V q2234 q2236 qs130 q154 q2237) rfl ckX10 rfl ⟨Nat.le_of_ble_eq_true rfl, Nat.le_of_ble_eq_true rfl⟩ rfl rfl (Nat.le_of_ble_eq_true rfl) dX10_rests_18 (fun r4 h5 => ?_)
    refine j_goto (pc := 21) (tgt := 25) hX rfl dX10_rests_21 ?_
    exact j_iret (pc := 25) hX hr dX10_rests_25
set_option maxHeartbeats 4000000 in
set_option maxRecDepth 100000 in
theorem m_t_rest (a1 : Int32) (a2 : Int32) (a3 : Int32) (h : HP) (rr : Int32 × HP) (e : m_rest a1 a2 a3 h = some rr) : Cn mV yX10_rest (ws_ yX10_rest cX10_rest 4 (some .int)) 8 176 (fun z => [.ref (z + 0), .int a1, .int a2, .int a3]) h (fun z => eI z rr.1) rr.2 := by
  refine cn_of (e1 := eI) (fun z => [(0, .ref (z + 0)), (1, .int a1), (2, .int a2), (3, .int a3)]) mV_ok ⟨Nat.le_refl _, Nat.le_refl _⟩ ymX10_rest (fun _ => rfl) (fun _ => Nat.le_of_ble_eq_true rfl) (fun X hX hr _ => ?_) e
  have hX : okX mV X rr cX10_rest RX10 4 8 176 := hX
  rw [m_rest]
  refine j_aload_n (pc := 0) hX 0 rfl dX10_rest_0 ?_
  refine j_iconst (pc := 1) hX ic_0 dX10_rest_1 ?_
  refine j_putI (pc := 2) hX fwX10_148.1 fwX10_148.2 rfl dX10_rest_2 (fun h1 => ?_)
  refine j_aload_n (pc := 5) hX 0 rfl dX10_rest_5 ?_
  refine j_iload_n (pc := 6) hX 1 rfl dX10_rest_6 ?_
  refine j_iload_n (pc := 7) hX 2 rfl dX10_rest_7 ?_
  refine j_callVI (pc := 8) (a := 0) (As := fun z => [.int a1, .int a2]) (rest := []) hX (fun r e => m_t_areTwo a1 a2 h1 r e) ymX10_areTwo (lw_V q2230 q2232 qs129 q154 q2233) rfl ckX10 rfl ⟨Nat.le_of_ble_eq_true rfl, Nat.le_of_ble_eq_true rfl⟩ rfl rfl (Nat.le_of_ble_eq_true rfl) dX10_rest_8 (fun r2 h3 => ?_)
  refine j_ifeq (pc := 11) (tgt := 28) hX rfl dX10_rest_11 (fun _ => ?_) (fun _ => ?_)
  · refine j_iconst (pc := 28) hX ic_m1 dX10_rest_28 ?_
    exact j_iret (pc := 29) hX hr dX10_rest_29
  · refine j_iload_n (pc := 14) hX 3 rfl dX10_rest_14 ?_
    refine j_iflt (pc := 15) (tgt := 28) hX rfl dX10_rest_15 (fun _ => ?_) (fun _ => ?_)
    · refine j_iconst (pc := 28) hX ic_m1 dX10_rest_28 ?_
      exact j_iret (pc := 29) hX hr dX10_rest_29
    · refine j_aload_n (pc := 18) hX 0 rfl dX10_rest_18 ?_
      refine j_iload_n (pc := 19) hX 1 rfl dX10_rest_19 ?_
      refine j_iload_n (pc := 20) hX 2 rfl dX10_rest_20 ?_
      refine j_iload_n (pc := 21) hX 3 rfl dX10_rest_21 ?_
      refine j_callVI (pc := 22) (a := 0) (As := fun z => [.int a1, .int a2, .int a3]) (rest := []) hX (fun r e => m_t_restAt a1 a2 a3 h3 r e) ymX10_restAt (lw_V q2234 q2236 qs130 q154 q2237) rfl ckX10 rfl ⟨Nat.le_of_ble_eq_true rfl, Nat.le_of_ble_eq_true rfl⟩ rfl rfl (Nat.le_of_ble_eq_true rfl) dX10_rest_22 (fun r4 h5 => ?_)
      refine j_goto (pc := 25) (tgt := 29) hX rfl dX10_rest_25 ?_
      exact j_iret (pc := 29) hX hr dX10_rest_29
