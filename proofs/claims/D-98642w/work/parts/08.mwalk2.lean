/-! the model: walks -/
set_option maxHeartbeats 4000000 in
set_option maxRecDepth 100000 in
theorem m_t_text (a1 : Int32) (h : HP) (rr : Int32 × HP) (e : m_text a1 h = some rr) : Cn mV yX10_text (ws_ yX10_text cX10_text 3 (some .int)) 7 134 (fun z => [.ref (z + 0), .int a1]) h (fun z => eI z rr.1) rr.2 := by
  refine cn_of (e1 := eI) (fun z => [(0, .ref (z + 0)), (1, .int a1)]) mV_ok ⟨Nat.le_refl _, Nat.le_refl _⟩ ymX10_text (fun _ => rfl) (fun _ => Nat.le_of_ble_eq_true rfl) (fun X hX hr _ => ?_) e
  have hX : okX mV X rr cX10_text RX10 3 7 134 := hX
  rw [m_text]
  refine j_aload_n (pc := 0) hX 0 rfl dX10_text_0 ?_
  refine j_iconst (pc := 1) hX ic_0 dX10_text_1 ?_
  refine j_putI (pc := 2) hX fwX10_148.1 fwX10_148.2 rfl dX10_text_2 (fun h1 => ?_)
  refine j_iload_n (pc := 5) hX 1 rfl dX10_text_5 ?_
  refine j_iflt (pc := 6) (tgt := 17) hX rfl dX10_text_6 (fun _ => ?_) (fun _ => ?_)
  · refine j_bipush (pc := 17) hX bp_m2 dX10_text_17 ?_
    exact j_iret (pc := 19) hX hr dX10_text_19
  · refine j_iload_n (pc := 9) hX 1 rfl dX10_text_9 ?_
    refine j_aload_n (pc := 10) hX 0 rfl dX10_text_10 ?_
    refine j_getI (pc := 11) hX fgX10_151.1 fgX10_151.2 rfl dX10_text_11 ?_
    refine j_cle (pc := 14) (tgt := 20) hX rfl dX10_text_14 (fun _ => ?_) (fun _ => ?_)
    · refine j_aload_n (pc := 20) hX 0 rfl dX10_text_20 ?_
      refine j_iload_n (pc := 21) hX 1 rfl dX10_text_21 ?_
      refine j_putI (pc := 22) hX fwX10_160.1 fwX10_160.2 rfl dX10_text_22 (fun h2 => ?_)
      refine j_aload_n (pc := 25) hX 0 rfl dX10_text_25 ?_
      refine j_iconst (pc := 26) hX ic_0 dX10_text_26 ?_
      refine j_putI (pc := 27) hX fwX10_151.1 fwX10_151.2 rfl dX10_text_27 (fun h3 => ?_)
      refine j_aload_n (pc := 30) hX 0 rfl dX10_text_30 ?_
      refine j_iconst (pc := 31) hX ic_0 dX10_text_31 ?_
      refine j_putI (pc := 32) hX fwX10_154.1 fwX10_154.2 rfl dX10_text_32 (fun h4 => ?_)
      refine j_aload_n (pc := 35) hX 0 rfl dX10_text_35 ?_
      refine j_iconst (pc := 36) hX ic_m1 dX10_text_36 ?_
      refine j_putI (pc := 37) hX fwX10_16.1 fwX10_16.2 rfl dX10_text_37 (fun h5 => ?_)
      refine j_aload_n (pc := 40) hX 0 rfl dX10_text_40 ?_
      refine j_iconst (pc := 41) hX ic_0 dX10_text_41 ?_
      refine j_putI (pc := 42) hX fwX10_163.1 fwX10_163.2 rfl dX10_text_42 (fun h6 => ?_)
      refine j_aload_n (pc := 45) hX 0 rfl dX10_text_45 ?_
      refine j_callVV (pc := 46) (a := 0) (As := fun z => []) (rest := []) hX (fun r e => m_t_plain h6 r e) ymX10_plain (lw_V q1584 q1586 qs62 q154 q1587) rfl ckX10 rfl ⟨Nat.le_of_ble_eq_true rfl, Nat.le_of_ble_eq_true rfl⟩ rfl rfl (Nat.le_of_ble_eq_true rfl) dX10_text_46 (fun r7 h8 => ?_)
      refine j_aload_n (pc := 49) hX 0 rfl dX10_text_49 ?_
      refine j_callVV (pc := 50) (a := 0) (As := fun z => []) (rest := []) hX (fun r e => m_t_token h8 r e) ymX10_token (lw_V q1863 q1865 qs67 q154 q1866) rfl ckX10 rfl ⟨Nat.le_of_ble_eq_true rfl, Nat.le_of_ble_eq_true rfl⟩ rfl rfl (Nat.le_of_ble_eq_true rfl) dX10_text_50 (fun r9 h10 => ?_)
      refine j_iconst (pc := 53) hX ic_0 dX10_text_53 ?_
      refine j_istore_n (pc := 54) hX (fun x11 => [(2, .int x11), (0, .ref (xz X + 0)), (1, .int a1)]) (fun _ => rfl) (Nat.le_of_ble_eq_true rfl) dX10_text_54 (fun x11 => ?_)
      refine j_locs [1, 0] rfl ?_
      refine m_text_55_w hX hr  _ (fun x15 h16 => ?_) FU x11 h10
      refine j_aload_n (pc := 77) hX 0 rfl dX10_text_77 ?_
      refine j_callVV (pc := 78) (a := 0) (As := fun z => []) (rest := []) hX (fun r e => m_t_keepText h16 r e) ymX10_keepText (lw_V q1588 q1590 qs63 q154 q1591) rfl ckX10 rfl ⟨Nat.le_of_ble_eq_true rfl, Nat.le_of_ble_eq_true rfl⟩ rfl rfl (Nat.le_of_ble_eq_true rfl) dX10_text_78 (fun r17 h18 => ?_)
      refine j_iload_n (pc := 81) hX 1 rfl dX10_text_81 ?_
      exact j_iret (pc := 82) hX hr dX10_text_82
    · refine j_bipush (pc := 17) hX bp_m2 dX10_text_17 ?_
      exact j_iret (pc := 19) hX hr dX10_text_19
set_option maxHeartbeats 4000000 in
set_option maxRecDepth 100000 in
theorem m_t_fault (a1 : Int32) (h : HP) (rr : Int32 × HP) (e : m_fault a1 h = some rr) : Cn mV yX10_fault (ws_ yX10_fault cX10_fault 2 (some .int)) 1 0 (fun z => [.ref (z + 0), .int a1]) h (fun z => eI z rr.1) rr.2 := by
  refine cn_of (e1 := eI) (fun z => [(0, .ref (z + 0)), (1, .int a1)]) mV_ok ⟨Nat.le_refl _, Nat.le_refl _⟩ ymX10_fault (fun _ => rfl) (fun _ => Nat.le_of_ble_eq_true rfl) (fun X hX hr _ => ?_) e
  have hX : okX mV X rr cX10_fault RX10 2 1 0 := hX
  rw [m_fault]
  refine j_aload_n (pc := 0) hX 0 rfl dX10_fault_0 ?_
  refine j_iconst (pc := 1) hX ic_0 dX10_fault_1 ?_
  refine j_putI (pc := 2) hX fwX10_148.1 fwX10_148.2 rfl dX10_fault_2 (fun h1 => ?_)
  refine j_iload_n (pc := 5) hX 1 rfl dX10_fault_5 ?_
  refine j_ifne (pc := 6) (tgt := 16) hX rfl dX10_fault_6 (fun _ => ?_) (fun _ => ?_)
  · refine j_aload_n (pc := 9) hX 0 rfl dX10_fault_9 ?_
    refine j_getI (pc := 10) hX fgX10_154.1 fgX10_154.2 rfl dX10_fault_10 ?_
    refine j_goto (pc := 13) (tgt := 29) hX rfl dX10_fault_13 ?_
    exact j_iret (pc := 29) hX hr dX10_fault_29
  · refine j_iload_n (pc := 16) hX 1 rfl dX10_fault_16 ?_
    refine j_iconst (pc := 17) hX ic_1 dX10_fault_17 ?_
    refine j_cne (pc := 18) (tgt := 28) hX rfl dX10_fault_18 (fun _ => ?_) (fun _ => ?_)
    · refine j_aload_n (pc := 21) hX 0 rfl dX10_fault_21 ?_
      refine j_getI (pc := 22) hX fgX10_16.1 fgX10_16.2 rfl dX10_fault_22 ?_
      refine j_goto (pc := 25) (tgt := 29) hX rfl dX10_fault_25 ?_
      exact j_iret (pc := 29) hX hr dX10_fault_29
    · refine j_iconst (pc := 28) hX ic_m1 dX10_fault_28 ?_
      exact j_iret (pc := 29) hX hr dX10_fault_29
set_option maxHeartbeats 4000000 in
set_option maxRecDepth 100000 in
theorem m_t_named (a1 : Int32) (a2 : Int32) (h : HP) (rr : Int32 × HP) (e : m_named a1 a2 h = some rr) : Cn mV yX10_named (ws_ yX10_named cX10_named 3 (some .int)) 2 24 (fun z => [.ref (z + 0), .int a1, .int a2]) h (fun z => eI z rr.1) rr.2 := by
  refine cn_of (e1 := eI) (fun z => [(0, .ref (z + 0)), (1, .int a1), (2, .int a2)]) mV_ok ⟨Nat.le_refl _, Nat.le_refl _⟩ ymX10_named (fun _ => rfl) (fun _ => Nat.le_of_ble_eq_true rfl) (fun X hX hr _ => ?_) e
  have hX : okX mV X rr cX10_named RX10 3 2 24 := hX
  rw [m_named]
  refine j_aload_n (pc := 0) hX 0 rfl dX10_named_0 ?_
  refine j_iconst (pc := 1) hX ic_0 dX10_named_1 ?_
  refine j_putI (pc := 2) hX fwX10_148.1 fwX10_148.2 rfl dX10_named_2 (fun h1 => ?_)
  refine j_iload_n (pc := 5) hX 1 rfl dX10_named_5 ?_
  refine j_ite (fun c2 => ?_) (fun c2 => ?_)
  · refine j_tabIn (pc := 6) (tgt := 32) hX (0) (by rw [c2]; rfl) (by decide) (by decide) rfl rfl dX10_named_6 ?_
    refine j_aload_n (pc := 32) hX 0 rfl dX10_named_32 ?_
    refine j_getR (pc := 33) hX fgX10_27.1 fgX10_27.2 rfl rfl dX10_named_33 ?_
    refine j_iconst (pc := 36) hX ic_0 dX10_named_36 ?_
    refine j_aload_n (pc := 37) hX 0 rfl dX10_named_37 ?_
    refine j_getI (pc := 38) hX fgX10_228.1 fgX10_228.2 rfl dX10_named_38 ?_
    refine j_iload_n (pc := 41) hX 2 rfl dX10_named_41 ?_
    refine j_callSI (pc := 42) (As := fun z => [.ref (z + 5), .int (0 : Int32), .int (gI h1 0 12), .int a2]) (rest := []) hX (fun r e => m_t_find 5 (0 : Int32) (gI h1 0 12) a2 h1 r e) ymX10_find (lw_S q1904 q1905 q154 q1906) ⟨Nat.le_of_ble_eq_true rfl, Nat.le_of_ble_eq_true rfl⟩ rfl rfl (Nat.le_of_ble_eq_true rfl) dX10_named_42 (fun r3 h4 => ?_)
    exact j_iret (pc := 45) hX hr dX10_named_45
  · skip
    refine j_ite (fun c5 => ?_) (fun c5 => ?_)
    · refine j_tabIn (pc := 6) (tgt := 46) hX (1) (by rw [c5]; rfl) (by decide) (by decide) rfl rfl dX10_named_6 ?_
      refine j_aload_n (pc := 46) hX 0 rfl dX10_named_46 ?_
      refine j_getR (pc := 47) hX fgX10_30.1 fgX10_30.2 rfl rfl dX10_named_47 ?_
      refine j_iconst (pc := 50) hX ic_0 dX10_named_50 ?_
      refine j_aload_n (pc := 51) hX 0 rfl dX10_named_51 ?_
      refine j_getI (pc := 52) hX fgX10_231.1 fgX10_231.2 rfl dX10_named_52 ?_
      refine j_iload_n (pc := 55) hX 2 rfl dX10_named_55 ?_
      refine j_callSI (pc := 56) (As := fun z => [.ref (z + 6), .int (0 : Int32), .int (gI h1 0 13), .int a2]) (rest := []) hX (fun r e => m_t_find 6 (0 : Int32) (gI h1 0 13) a2 h1 r e) ymX10_find (lw_S q1904 q1905 q154 q1906) ⟨Nat.le_of_ble_eq_true rfl, Nat.le_of_ble_eq_true rfl⟩ rfl rfl (Nat.le_of_ble_eq_true rfl) dX10_named_56 (fun r6 h7 => ?_)
      exact j_iret (pc := 59) hX hr dX10_named_59
    · skip
      refine j_ite (fun c8 => ?_) (fun c8 => ?_)
      · refine j_tabIn (pc := 6) (tgt := 60) hX (2) (by rw [c8]; rfl) (by decide) (by decide) rfl rfl dX10_named_6 ?_
        refine j_aload_n (pc := 60) hX 0 rfl dX10_named_60 ?_
        refine j_getR (pc := 61) hX fgX10_45.1 fgX10_45.2 rfl rfl dX10_named_61 ?_
        refine j_iconst (pc := 64) hX ic_0 dX10_named_64 ?_
        refine j_aload_n (pc := 65) hX 0 rfl dX10_named_65 ?_
        refine j_getI (pc := 66) hX fgX10_234.1 fgX10_234.2 rfl dX10_named_66 ?_
        refine j_iload_n (pc := 69) hX 2 rfl dX10_named_69 ?_
        refine j_callSI (pc := 70) (As := fun z => [.ref (z + 11), .int (0 : Int32), .int (gI h1 0 14), .int a2]) (rest := []) hX (fun r e => m_t_find 11 (0 : Int32) (gI h1 0 14) a2 h1 r e) ymX10_find (lw_S q1904 q1905 q154 q1906) ⟨Nat.le_of_ble_eq_true rfl, Nat.le_of_ble_eq_true rfl⟩ rfl rfl (Nat.le_of_ble_eq_true rfl) dX10_named_70 (fun r9 h10 => ?_)
        exact j_iret (pc := 73) hX hr dX10_named_73
      · skip
        refine j_tabD (pc := 6) (tgt := 74) hX (fun n hn h1 h2 => ?_) rfl dX10_named_6 ?_
        · rcases (show n = 0 ∨ n = 1 ∨ n = 2 by omega) with rfl | rfl | rfl
          · exact absurd hn (lv_neT c2 rfl)
          · exact absurd hn (lv_neT c5 rfl)
          · exact absurd hn (lv_neT c8 rfl)
        · refine j_iconst (pc := 74) hX ic_m1 dX10_named_74 ?_
          exact j_iret (pc := 75) hX hr dX10_named_75
set_option maxHeartbeats 4000000 in
set_option maxRecDepth 100000 in
theorem m_t_isPerson (a1 : Int32) (h : HP) (rr : Int32 × HP) (e : m_isPerson a1 h = some rr) : Cn mV yX10_isPerson (ws_ yX10_isPerson cX10_isPerson 2 (some .boolean)) 1 0 (fun z => [.ref (z + 0), .int a1]) h (fun z => eI z rr.1) rr.2 := by
  refine cn_of (e1 := eI) (fun z => [(0, .ref (z + 0)), (1, .int a1)]) mV_ok ⟨Nat.le_refl _, Nat.le_refl _⟩ ymX10_isPerson (fun _ => rfl) (fun _ => Nat.le_of_ble_eq_true rfl) (fun X hX hr _ => ?_) e
  have hX : okX mV X rr cX10_isPerson RX10 2 1 0 := hX
  rw [m_isPerson]
  refine j_iload_n (pc := 0) hX 1 rfl dX10_isPerson_0 ?_
  refine j_iflt (pc := 1) (tgt := 16) hX rfl dX10_isPerson_1 (fun _ => ?_) (fun _ => ?_)
  · refine j_iconst (pc := 16) hX ic_0 dX10_isPerson_16 ?_
    exact j_zret (pc := 17) hX (Or.inl rfl) hr dX10_isPerson_17
  · refine j_iload_n (pc := 4) hX 1 rfl dX10_isPerson_4 ?_
    refine j_aload_n (pc := 5) hX 0 rfl dX10_isPerson_5 ?_
    refine j_getI (pc := 6) hX fgX10_231.1 fgX10_231.2 rfl dX10_isPerson_6 ?_
    refine j_cge (pc := 9) (tgt := 16) hX rfl dX10_isPerson_9 (fun _ => ?_) (fun _ => ?_)
    · refine j_iconst (pc := 16) hX ic_0 dX10_isPerson_16 ?_
      exact j_zret (pc := 17) hX (Or.inl rfl) hr dX10_isPerson_17
    · refine j_iconst (pc := 12) hX ic_1 dX10_isPerson_12 ?_
      refine j_goto (pc := 13) (tgt := 17) hX rfl dX10_isPerson_13 ?_
      exact j_zret (pc := 17) hX (Or.inr rfl) hr dX10_isPerson_17
set_option maxHeartbeats 4000000 in
set_option maxRecDepth 100000 in
theorem m_t_fails (a1 : Int32) (h : HP) (rr : Int32 × HP) (e : m_fails a1 h = some rr) : Cn mV yX10_fails (ws_ yX10_fails cX10_fails 2 (some .int)) 1 0 (fun z => [.ref (z + 0), .int a1]) h (fun z => eI z rr.1) rr.2 := by
  refine cn_of (e1 := eI) (fun z => [(0, .ref (z + 0)), (1, .int a1)]) mV_ok ⟨Nat.le_refl _, Nat.le_refl _⟩ ymX10_fails (fun _ => rfl) (fun _ => Nat.le_of_ble_eq_true rfl) (fun X hX hr _ => ?_) e
  have hX : okX mV X rr cX10_fails RX10 2 1 0 := hX
  rw [m_fails]
  refine j_aload_n (pc := 0) hX 0 rfl dX10_fails_0 ?_
  refine j_iload_n (pc := 1) hX 1 rfl dX10_fails_1 ?_
  refine j_putI (pc := 2) hX fwX10_148.1 fwX10_148.2 rfl dX10_fails_2 (fun h1 => ?_)
  refine j_iconst (pc := 5) hX ic_0 dX10_fails_5 ?_
  exact j_iret (pc := 6) hX hr dX10_fails_6
set_option maxHeartbeats 4000000 in
set_option maxRecDepth 100000 in
theorem m_t_person (a1 : Int32) (a2 : Int32) (h : HP) (rr : Int32 × HP) (e : m_person a1 a2 h = some rr) : Cn mV yX10_person (ws_ yX10_person cX10_person 3 (some .int)) 2 21 (fun z => [.ref (z + 0), .int a1, .int a2]) h (fun z => eI z rr.1) rr.2 := by
  refine cn_of (e1 := eI) (fun z => [(0, .ref (z + 0)), (1, .int a1), (2, .int a2)]) mV_ok ⟨Nat.le_refl _, Nat.le_refl _⟩ ymX10_person (fun _ => rfl) (fun _ => Nat.le_of_ble_eq_true rfl) (fun X hX hr _ => ?_) e
  have hX : okX mV X rr cX10_person RX10 3 2 21 := hX
  rw [m_person]
  refine j_aload_n (pc := 0) hX 0 rfl dX10_person_0 ?_
  refine j_iconst (pc := 1) hX ic_0 dX10_person_1 ?_
  refine j_putI (pc := 2) hX fwX10_148.1 fwX10_148.2 rfl dX10_person_2 (fun h1 => ?_)
  refine j_aload_n (pc := 5) hX 0 rfl dX10_person_5 ?_
  refine j_iload_n (pc := 6) hX 1 rfl dX10_person_6 ?_
  refine j_callVI (pc := 7) (a := 0) (As := fun z => [.int a1]) (rest := []) hX (fun r e => m_t_isPerson a1 h1 r e) ymX10_isPerson (lw_V q2004 q2006 qs96 q154 q2007) rfl ckX10 rfl ⟨Nat.le_of_ble_eq_true rfl, Nat.le_of_ble_eq_true rfl⟩ rfl rfl (Nat.le_of_ble_eq_true rfl) dX10_person_7 (fun r2 h3 => ?_)
  refine j_ifne (pc := 10) (tgt := 19) hX rfl dX10_person_10 (fun _ => ?_) (fun _ => ?_)
  · refine j_aload_n (pc := 13) hX 0 rfl dX10_person_13 ?_
    refine j_iconst (pc := 14) hX ic_1 dX10_person_14 ?_
    refine j_callVI (pc := 15) (a := 0) (As := fun z => [.int (1 : Int32)]) (rest := []) hX (fun r e => m_t_fails (1 : Int32) h3 r e) ymX10_fails (lw_V q2008 q2010 qs97 q154 q2011) rfl ckX10 rfl ⟨Nat.le_of_ble_eq_true rfl, Nat.le_of_ble_eq_true rfl⟩ rfl rfl (Nat.le_of_ble_eq_true rfl) dX10_person_15 (fun r4 h5 => ?_)
    exact j_iret (pc := 18) hX hr dX10_person_18
  · refine j_iload_n (pc := 19) hX 2 rfl dX10_person_19 ?_
    refine j_ite (fun c6 => ?_) (fun c6 => ?_)
    · refine j_tabIn (pc := 20) (tgt := 60) hX (0) (by rw [c6]; rfl) (by decide) (by decide) rfl rfl dX10_person_20 ?_
      refine j_aload_n (pc := 60) hX 0 rfl dX10_person_60 ?_
      refine j_getR (pc := 61) hX fgX10_33.1 fgX10_33.2 rfl rfl dX10_person_61 ?_
      refine j_iload_n (pc := 64) hX 1 rfl dX10_person_64 ?_
      refine j_iald (pc := 65) (n := 10) hX rfl dX10_person_65 (fun _ => ?_)
      exact j_iret (pc := 66) hX hr dX10_person_66
    · skip
      refine j_ite (fun c7 => ?_) (fun c7 => ?_)
      · refine j_tabIn (pc := 20) (tgt := 67) hX (1) (by rw [c7]; rfl) (by decide) (by decide) rfl rfl dX10_person_20 ?_
        refine j_aload_n (pc := 67) hX 0 rfl dX10_person_67 ?_
        refine j_getR (pc := 68) hX fgX10_36.1 fgX10_36.2 rfl rfl dX10_person_68 ?_
        refine j_iload_n (pc := 71) hX 1 rfl dX10_person_71 ?_
        refine j_iald (pc := 72) (n := 10) hX rfl dX10_person_72 (fun _ => ?_)
        exact j_iret (pc := 73) hX hr dX10_person_73
      · skip
        refine j_ite (fun c8 => ?_) (fun c8 => ?_)
        · refine j_tabIn (pc := 20) (tgt := 74) hX (2) (by rw [c8]; rfl) (by decide) (by decide) rfl rfl dX10_person_20 ?_
          refine j_aload_n (pc := 74) hX 0 rfl dX10_person_74 ?_
          refine j_getR (pc := 75) hX fgX10_106.1 fgX10_106.2 rfl rfl dX10_person_75 ?_
          refine j_iload_n (pc := 78) hX 1 rfl dX10_person_78 ?_
          refine j_iald (pc := 79) (n := 10) hX rfl dX10_person_79 (fun _ => ?_)
          exact j_iret (pc := 80) hX hr dX10_person_80
        · skip
          refine j_ite (fun c9 => ?_) (fun c9 => ?_)
          · refine j_tabIn (pc := 20) (tgt := 81) hX (3) (by rw [c9]; rfl) (by decide) (by decide) rfl rfl dX10_person_20 ?_
            refine j_aload_n (pc := 81) hX 0 rfl dX10_person_81 ?_
            refine j_getR (pc := 82) hX fgX10_100.1 fgX10_100.2 rfl rfl dX10_person_82 ?_
            refine j_iload_n (pc := 85) hX 1 rfl dX10_person_85 ?_
            refine j_iald (pc := 86) (n := 10) hX rfl dX10_person_86 (fun _ => ?_)
            exact j_iret (pc := 87) hX hr dX10_person_87
          · skip
            refine j_ite (fun c10 => ?_) (fun c10 => ?_)
            · refine j_tabIn (pc := 20) (tgt := 88) hX (4) (by rw [c10]; rfl) (by decide) (by decide) rfl rfl dX10_person_20 ?_
              refine j_aload_n (pc := 88) hX 0 rfl dX10_person_88 ?_
              refine j_getR (pc := 89) hX fgX10_103.1 fgX10_103.2 rfl rfl dX10_person_89 ?_
              refine j_iload_n (pc := 92) hX 1 rfl dX10_person_92 ?_
              refine j_iald (pc := 93) (n := 10) hX rfl dX10_person_93 (fun _ => ?_)
              exact j_iret (pc := 94) hX hr dX10_person_94
            · skip
              refine j_ite (fun c11 => ?_) (fun c11 => ?_)
              · refine j_tabIn (pc := 20) (tgt := 95) hX (5) (by rw [c11]; rfl) (by decide) (by decide) rfl rfl dX10_person_20 ?_
                refine j_aload_n (pc := 95) hX 0 rfl dX10_person_95 ?_
                refine j_getR (pc := 96) hX fgX10_109.1 fgX10_109.2 rfl rfl dX10_person_96 ?_
                refine j_iload_n (pc := 99) hX 1 rfl dX10_person_99 ?_
                refine j_iald (pc := 100) (n := 10) hX rfl dX10_person_100 (fun _ => ?_)
                exact j_iret (pc := 101) hX hr dX10_person_101
              · skip
                refine j_tabD (pc := 20) (tgt := 102) hX (fun n hn h1 h2 => ?_) rfl dX10_person_20 ?_
                · rcases (show n = 0 ∨ n = 1 ∨ n = 2 ∨ n = 3 ∨ n = 4 ∨ n = 5 by omega) with rfl | rfl | rfl | rfl | rfl | rfl
                  · exact absurd hn (lv_neT c6 rfl)
                  · exact absurd hn (lv_neT c7 rfl)
                  · exact absurd hn (lv_neT c8 rfl)
                  · exact absurd hn (lv_neT c9 rfl)
                  · exact absurd hn (lv_neT c10 rfl)
                  · exact absurd hn (lv_neT c11 rfl)
                · refine j_aload_n (pc := 102) hX 0 rfl dX10_person_102 ?_
                  refine j_iconst (pc := 103) hX ic_2 dX10_person_103 ?_
                  refine j_callVI (pc := 104) (a := 0) (As := fun z => [.int (2 : Int32)]) (rest := []) hX (fun r e => m_t_fails (2 : Int32) h3 r e) ymX10_fails (lw_V q2008 q2010 qs97 q154 q2011) rfl ckX10 rfl ⟨Nat.le_of_ble_eq_true rfl, Nat.le_of_ble_eq_true rfl⟩ rfl rfl (Nat.le_of_ble_eq_true rfl) dX10_person_104 (fun r12 h13 => ?_)
                  exact j_iret (pc := 107) hX hr dX10_person_107
set_option maxHeartbeats 4000000 in
set_option maxRecDepth 100000 in
theorem m_t_isQuestion (a1 : Int32) (h : HP) (rr : Int32 × HP) (e : m_isQuestion a1 h = some rr) : Cn mV yX10_isQuestion (ws_ yX10_isQuestion cX10_isQuestion 2 (some .boolean)) 1 0 (fun z => [.ref (z + 0), .int a1]) h (fun z => eI z rr.1) rr.2 := by
  refine cn_of (e1 := eI) (fun z => [(0, .ref (z + 0)), (1, .int a1)]) mV_ok ⟨Nat.le_refl _, Nat.le_refl _⟩ ymX10_isQuestion (fun _ => rfl) (fun _ => Nat.le_of_ble_eq_true rfl) (fun X hX hr _ => ?_) e
  have hX : okX mV X rr cX10_isQuestion RX10 2 1 0 := hX
  rw [m_isQuestion]
  refine j_iload_n (pc := 0) hX 1 rfl dX10_isQuestion_0 ?_
  refine j_iflt (pc := 1) (tgt := 16) hX rfl dX10_isQuestion_1 (fun _ => ?_) (fun _ => ?_)
  · refine j_iconst (pc := 16) hX ic_0 dX10_isQuestion_16 ?_
    exact j_zret (pc := 17) hX (Or.inl rfl) hr dX10_isQuestion_17
  · refine j_iload_n (pc := 4) hX 1 rfl dX10_isQuestion_4 ?_
    refine j_aload_n (pc := 5) hX 0 rfl dX10_isQuestion_5 ?_
    refine j_getI (pc := 6) hX fgX10_234.1 fgX10_234.2 rfl dX10_isQuestion_6 ?_
    refine j_cge (pc := 9) (tgt := 16) hX rfl dX10_isQuestion_9 (fun _ => ?_) (fun _ => ?_)
    · refine j_iconst (pc := 16) hX ic_0 dX10_isQuestion_16 ?_
      exact j_zret (pc := 17) hX (Or.inl rfl) hr dX10_isQuestion_17
    · refine j_iconst (pc := 12) hX ic_1 dX10_isQuestion_12 ?_
      refine j_goto (pc := 13) (tgt := 17) hX rfl dX10_isQuestion_13 ?_
      exact j_zret (pc := 17) hX (Or.inr rfl) hr dX10_isQuestion_17
set_option maxHeartbeats 4000000 in
set_option maxRecDepth 100000 in
theorem m_t_question (a1 : Int32) (a2 : Int32) (h : HP) (rr : Int32 × HP) (e : m_question a1 a2 h = some rr) : Cn mV yX10_question (ws_ yX10_question cX10_question 3 (some .int)) 2 21 (fun z => [.ref (z + 0), .int a1, .int a2]) h (fun z => eI z rr.1) rr.2 := by
  refine cn_of (e1 := eI) (fun z => [(0, .ref (z + 0)), (1, .int a1), (2, .int a2)]) mV_ok ⟨Nat.le_refl _, Nat.le_refl _⟩ ymX10_question (fun _ => rfl) (fun _ => Nat.le_of_ble_eq_true rfl) (fun X hX hr _ => ?_) e
  have hX : okX mV X rr cX10_question RX10 3 2 21 := hX
  rw [m_question]
  refine j_aload_n (pc := 0) hX 0 rfl dX10_question_0 ?_
  refine j_iconst (pc := 1) hX ic_0 dX10_question_1 ?_
  refine j_putI (pc := 2) hX fwX10_148.1 fwX10_148.2 rfl dX10_question_2 (fun h1 => ?_)
  refine j_aload_n (pc := 5) hX 0 rfl dX10_question_5 ?_
  refine j_iload_n (pc := 6) hX 1 rfl dX10_question_6 ?_
  refine j_callVI (pc := 7) (a := 0) (As := fun z => [.int a1]) (rest := []) hX (fun r e => m_t_isQuestion a1 h1 r e) ymX10_isQuestion (lw_V q2016 q2018 qs98 q154 q2019) rfl ckX10 rfl ⟨Nat.le_of_ble_eq_true rfl, Nat.le_of_ble_eq_true rfl⟩ rfl rfl (Nat.le_of_ble_eq_true rfl) dX10_question_7 (fun r2 h3 => ?_)
  refine j_ifne (pc := 10) (tgt := 16) hX rfl dX10_question_10 (fun _ => ?_) (fun _ => ?_)
  · refine j_bipush (pc := 13) hX bp_m2 dX10_question_13 ?_
    exact j_iret (pc := 15) hX hr dX10_question_15
  · refine j_iload_n (pc := 16) hX 2 rfl dX10_question_16 ?_
    refine j_ifne (pc := 17) (tgt := 29) hX rfl dX10_question_17 (fun _ => ?_) (fun _ => ?_)
    · refine j_aload_n (pc := 20) hX 0 rfl dX10_question_20 ?_
      refine j_getR (pc := 21) hX fgX10_48.1 fgX10_48.2 rfl rfl dX10_question_21 ?_
      refine j_iload_n (pc := 24) hX 1 rfl dX10_question_24 ?_
      refine j_iald (pc := 25) (n := 16) hX rfl dX10_question_25 (fun _ => ?_)
      refine j_goto (pc := 26) (tgt := 73) hX rfl dX10_question_26 ?_
      exact j_iret (pc := 73) hX hr dX10_question_73
    · refine j_iload_n (pc := 29) hX 2 rfl dX10_question_29 ?_
      refine j_iconst (pc := 30) hX ic_1 dX10_question_30 ?_
      refine j_cne (pc := 31) (tgt := 43) hX rfl dX10_question_31 (fun _ => ?_) (fun _ => ?_)
      · refine j_aload_n (pc := 34) hX 0 rfl dX10_question_34 ?_
        refine j_getR (pc := 35) hX fgX10_51.1 fgX10_51.2 rfl rfl dX10_question_35 ?_
        refine j_iload_n (pc := 38) hX 1 rfl dX10_question_38 ?_
        refine j_iald (pc := 39) (n := 16) hX rfl dX10_question_39 (fun _ => ?_)
        refine j_goto (pc := 40) (tgt := 73) hX rfl dX10_question_40 ?_
        exact j_iret (pc := 73) hX hr dX10_question_73
      · refine j_iload_n (pc := 43) hX 2 rfl dX10_question_43 ?_
        refine j_iconst (pc := 44) hX ic_2 dX10_question_44 ?_
        refine j_cne (pc := 45) (tgt := 57) hX rfl dX10_question_45 (fun _ => ?_) (fun _ => ?_)
        · refine j_aload_n (pc := 48) hX 0 rfl dX10_question_48 ?_
          refine j_getR (pc := 49) hX fgX10_54.1 fgX10_54.2 rfl rfl dX10_question_49 ?_
          refine j_iload_n (pc := 52) hX 1 rfl dX10_question_52 ?_
          refine j_iald (pc := 53) (n := 16) hX rfl dX10_question_53 (fun _ => ?_)
          refine j_goto (pc := 54) (tgt := 73) hX rfl dX10_question_54 ?_
          exact j_iret (pc := 73) hX hr dX10_question_73
        · refine j_iload_n (pc := 57) hX 2 rfl dX10_question_57 ?_
          refine j_iconst (pc := 58) hX ic_3 dX10_question_58 ?_
          refine j_cne (pc := 59) (tgt := 71) hX rfl dX10_question_59 (fun _ => ?_) (fun _ => ?_)
          · refine j_aload_n (pc := 62) hX 0 rfl dX10_question_62 ?_
            refine j_getR (pc := 63) hX fgX10_57.1 fgX10_57.2 rfl rfl dX10_question_63 ?_
            refine j_iload_n (pc := 66) hX 1 rfl dX10_question_66 ?_
            refine j_iald (pc := 67) (n := 16) hX rfl dX10_question_67 (fun _ => ?_)
            refine j_goto (pc := 68) (tgt := 73) hX rfl dX10_question_68 ?_
            exact j_iret (pc := 73) hX hr dX10_question_73
          · refine j_bipush (pc := 71) hX bp_m2 dX10_question_71 ?_
            exact j_iret (pc := 73) hX hr dX10_question_73
set_option maxHeartbeats 4000000 in
set_option maxRecDepth 100000 in
theorem m_t_supposed (a1 : Int32) (h : HP) (rr : Int32 × HP) (e : m_supposed a1 h = some rr) : Cn mV yX10_supposed (ws_ yX10_supposed cX10_supposed 3 (some .int)) 1 0 (fun z => [.ref (z + 0), .int a1]) h (fun z => eI z rr.1) rr.2 := by
  refine cn_of (e1 := eI) (fun z => [(0, .ref (z + 0)), (1, .int a1)]) mV_ok ⟨Nat.le_refl _, Nat.le_refl _⟩ ymX10_supposed (fun _ => rfl) (fun _ => Nat.le_of_ble_eq_true rfl) (fun X hX hr _ => ?_) e
  have hX : okX mV X rr cX10_supposed RX10 3 1 0 := hX
  rw [m_supposed]
  refine j_aload_n (pc := 0) hX 0 rfl dX10_supposed_0 ?_
  refine j_getR (pc := 1) hX fgX10_51.1 fgX10_51.2 rfl rfl dX10_supposed_1 ?_
  refine j_iload_n (pc := 4) hX 1 rfl dX10_supposed_4 ?_
  refine j_iald (pc := 5) (n := 16) hX rfl dX10_supposed_5 (fun _ => ?_)
  refine j_jon (fun (j1 : Int32 → Option (Int32 × HP)) => ∀ (s2 : Int32), jG mV X evI rr (j1 s2) 21 [(0, .ref (xz X + 0)), (1, .int a1)] [.int s2] h) ?_ ?_
  · intro s2
    refine j_istore_n (pc := 21) hX (fun x3 => [(2, .int x3), (0, .ref (xz X + 0)), (1, .int a1)]) (fun _ => rfl) (Nat.le_of_ble_eq_true rfl) dX10_supposed_21 (fun x3 => ?_)
    refine j_aload_n (pc := 22) hX 1 rfl dX10_supposed_22 ?_
    refine j_getR (pc := 23) hX fgX10_48.1 fgX10_48.2 rfl rfl dX10_supposed_23 ?_
    refine j_iload_n (pc := 26) hX 2 rfl dX10_supposed_26 ?_
    refine j_iald (pc := 27) (n := 16) hX rfl dX10_supposed_27 (fun _ => ?_)
    refine j_iconst (pc := 28) hX ic_1 dX10_supposed_28 ?_
    refine j_cne (pc := 29) (tgt := 54) hX rfl dX10_supposed_29 (fun _ => ?_) (fun _ => ?_)
    · refine j_aload_n (pc := 32) hX 1 rfl dX10_supposed_32 ?_
      refine j_getR (pc := 33) hX fgX10_54.1 fgX10_54.2 rfl rfl dX10_supposed_33 ?_
      refine j_iload_n (pc := 36) hX 2 rfl dX10_supposed_36 ?_
      refine j_iald (pc := 37) (n := 16) hX rfl dX10_supposed_37 (fun _ => ?_)
      refine j_iflt (pc := 38) (tgt := 54) hX rfl dX10_supposed_38 (fun _ => ?_) (fun _ => ?_)
      · refine j_iload_n (pc := 54) hX 0 rfl dX10_supposed_54 ?_
        exact j_iret (pc := 55) hX hr dX10_supposed_55
      · refine j_iload_n (pc := 41) hX 0 rfl dX10_supposed_41 ?_
        refine j_iconst (pc := 42) hX ic_1 dX10_supposed_42 ?_
        refine j_aload_n (pc := 43) hX 1 rfl dX10_supposed_43 ?_
        refine j_getR (pc := 44) hX fgX10_54.1 fgX10_54.2 rfl rfl dX10_supposed_44 ?_
        refine j_iload_n (pc := 47) hX 2 rfl dX10_supposed_47 ?_
        refine j_iald (pc := 48) (n := 16) hX rfl dX10_supposed_48 (fun _ => ?_)
        refine j_ishl (pc := 49) hX dX10_supposed_49 ?_
        refine j_ior (pc := 50) hX dX10_supposed_50 ?_
        refine j_goto (pc := 51) (tgt := 55) hX rfl dX10_supposed_51 ?_
        exact j_iret (pc := 55) hX hr dX10_supposed_55
    · refine j_iload_n (pc := 54) hX 0 rfl dX10_supposed_54 ?_
      exact j_iret (pc := 55) hX hr dX10_supposed_55
  · intro j1 hj1
    refine j_ifge (pc := 6) (tgt := 13) hX rfl dX10_supposed_6 (fun _ => ?_) (fun _ => ?_)
    · refine j_iconst (pc := 13) hX ic_1 dX10_supposed_13 ?_
      refine j_aload_n (pc := 14) hX 0 rfl dX10_supposed_14 ?_
      refine j_getR (pc := 15) hX fgX10_51.1 fgX10_51.2 rfl rfl dX10_supposed_15 ?_
      refine j_iload_n (pc := 18) hX 1 rfl dX10_supposed_18 ?_
      refine j_iald (pc := 19) (n := 16) hX rfl dX10_supposed_19 (fun _ => ?_)
      refine j_ishl (pc := 20) hX dX10_supposed_20 ?_
      exact hj1 ((1 : Int32) <<< ((gI h 13 (a1).toNatClampNeg) &&& 31))
    · refine j_iconst (pc := 9) hX ic_0 dX10_supposed_9 ?_
      refine j_goto (pc := 10) (tgt := 21) hX rfl dX10_supposed_10 ?_
      exact hj1 (0 : Int32)
set_option maxHeartbeats 4000000 in
set_option maxRecDepth 100000 in
theorem m_t_canAsk (a1 : Int32) (a2 : Int32) (a3 : Int32) (a4 : Int32) (h : HP) (rr : Int32 × HP) (e : m_canAsk a1 a2 a3 a4 h = some rr) : Cn mV yX10_canAsk (ws_ yX10_canAsk cX10_canAsk 5 (some .boolean)) 2 22 (fun z => [.ref (z + 0), .int a1, .int a2, .int a3, .int a4]) h (fun z => eI z rr.1) rr.2 := by
  refine cn_of (e1 := eI) (fun z => [(0, .ref (z + 0)), (1, .int a1), (2, .int a2), (3, .int a3), (4, .int a4)]) mV_ok ⟨Nat.le_refl _, Nat.le_refl _⟩ ymX10_canAsk (fun _ => rfl) (fun _ => Nat.le_of_ble_eq_true rfl) (fun X hX hr _ => ?_) e
  have hX : okX mV X rr cX10_canAsk RX10 5 2 22 := hX
  rw [m_canAsk]
  refine j_iload_n (pc := 0) hX 2 rfl dX10_canAsk_0 ?_
  refine j_iload_n (pc := 1) hX 3 rfl dX10_canAsk_1 ?_
  refine j_ceq (pc := 2) (tgt := 59) hX rfl dX10_canAsk_2 (fun _ => ?_) (fun _ => ?_)
  · refine j_iconst (pc := 59) hX ic_0 dX10_canAsk_59 ?_
    exact j_zret (pc := 60) hX (Or.inl rfl) hr dX10_canAsk_60
  · refine j_aload_n (pc := 5) hX 0 rfl dX10_canAsk_5 ?_
    refine j_getR (pc := 6) hX fgX10_106.1 fgX10_106.2 rfl rfl dX10_canAsk_6 ?_
    refine j_iconst (pc := 9) hX ic_5 dX10_canAsk_9 ?_
    refine j_iload_n (pc := 10) hX 1 rfl dX10_canAsk_10 ?_
    refine j_imul (pc := 11) hX dX10_canAsk_11 ?_
    refine j_iload_n (pc := 12) hX 2 rfl dX10_canAsk_12 ?_
    refine j_iadd (pc := 13) hX dX10_canAsk_13 ?_
    refine j_iald (pc := 14) (n := 10) hX rfl dX10_canAsk_14 (fun _ => ?_)
    refine j_aload_n (pc := 15) hX 0 rfl dX10_canAsk_15 ?_
    refine j_getR (pc := 16) hX fgX10_106.1 fgX10_106.2 rfl rfl dX10_canAsk_16 ?_
    refine j_iconst (pc := 19) hX ic_5 dX10_canAsk_19 ?_
    refine j_iload_n (pc := 20) hX 1 rfl dX10_canAsk_20 ?_
    refine j_imul (pc := 21) hX dX10_canAsk_21 ?_
    refine j_iload_n (pc := 22) hX 3 rfl dX10_canAsk_22 ?_
    refine j_iadd (pc := 23) hX dX10_canAsk_23 ?_
    refine j_iald (pc := 24) (n := 10) hX rfl dX10_canAsk_24 (fun _ => ?_)
    refine j_cne (pc := 25) (tgt := 59) hX rfl dX10_canAsk_25 (fun _ => ?_) (fun _ => ?_)
    · refine j_aload_n (pc := 28) hX 0 rfl dX10_canAsk_28 ?_
      refine j_getI (pc := 29) hX fgX10_395.1 fgX10_395.2 rfl dX10_canAsk_29 ?_
      refine j_iload_n (pc := 32) hX 2 rfl dX10_canAsk_32 ?_
      refine j_callSI (pc := 33) (As := fun z => [.int (gI h 0 66), .int a2]) (rest := []) hX (fun r e => m_t_isOf (gI h 0 66) a2 h r e) ymX10_isOf (lw_S q1926 q1927 q154 q1928) ⟨Nat.le_of_ble_eq_true rfl, Nat.le_of_ble_eq_true rfl⟩ rfl rfl (Nat.le_of_ble_eq_true rfl) dX10_canAsk_33 (fun r1 h2 => ?_)
      refine j_ifne (pc := 36) (tgt := 59) hX rfl dX10_canAsk_36 (fun _ => ?_) (fun _ => ?_)
      · refine j_aload_n (pc := 39) hX 0 rfl dX10_canAsk_39 ?_
        refine j_getI (pc := 40) hX fgX10_395.1 fgX10_395.2 rfl dX10_canAsk_40 ?_
        refine j_iload_n (pc := 43) hX 3 rfl dX10_canAsk_43 ?_
        refine j_callSI (pc := 44) (As := fun z => [.int (gI h2 0 66), .int a3]) (rest := []) hX (fun r e => m_t_isOf (gI h2 0 66) a3 h2 r e) ymX10_isOf (lw_S q1926 q1927 q154 q1928) ⟨Nat.le_of_ble_eq_true rfl, Nat.le_of_ble_eq_true rfl⟩ rfl rfl (Nat.le_of_ble_eq_true rfl) dX10_canAsk_44 (fun r3 h4 => ?_)
        refine j_ifne (pc := 47) (tgt := 59) hX rfl dX10_canAsk_47 (fun _ => ?_) (fun _ => ?_)
        · refine j_iload (pc := 50) hX 4 rfl dX10_canAsk_50 ?_
          refine j_aload_n (pc := 52) hX 0 rfl dX10_canAsk_52 ?_
          refine j_getI (pc := 53) hX fgX10_398.1 fgX10_398.2 rfl dX10_canAsk_53 ?_
          refine j_cne (pc := 56) (tgt := 61) hX rfl dX10_canAsk_56 (fun _ => ?_) (fun _ => ?_)
          · refine j_iconst (pc := 59) hX ic_0 dX10_canAsk_59 ?_
            exact j_zret (pc := 60) hX (Or.inl rfl) hr dX10_canAsk_60
          · refine j_aload_n (pc := 61) hX 0 rfl dX10_canAsk_61 ?_
            refine j_iload (pc := 62) hX 4 rfl dX10_canAsk_62 ?_
            refine j_callVI (pc := 64) (a := 0) (As := fun z => [.int a4]) (rest := []) hX (fun r e => m_t_supposed a4 h4 r e) ymX10_supposed (lw_V q2028 q2030 qs100 q154 q2031) rfl ckX10 rfl ⟨Nat.le_of_ble_eq_true rfl, Nat.le_of_ble_eq_true rfl⟩ rfl rfl (Nat.le_of_ble_eq_true rfl) dX10_canAsk_64 (fun r5 h6 => ?_)
            refine j_aload_n (pc := 67) hX 0 rfl dX10_canAsk_67 ?_
            refine j_getR (pc := 68) hX fgX10_100.1 fgX10_100.2 rfl rfl dX10_canAsk_68 ?_
            refine j_iconst (pc := 71) hX ic_5 dX10_canAsk_71 ?_
            refine j_iload_n (pc := 72) hX 1 rfl dX10_canAsk_72 ?_
            refine j_imul (pc := 73) hX dX10_canAsk_73 ?_
            refine j_iload_n (pc := 74) hX 2 rfl dX10_canAsk_74 ?_
            refine j_iadd (pc := 75) hX dX10_canAsk_75 ?_
            refine j_iald (pc := 76) (n := 10) hX rfl dX10_canAsk_76 (fun _ => ?_)
            refine j_iconst (pc := 77) hX ic_m1 dX10_canAsk_77 ?_
            refine j_ixor (pc := 78) hX dX10_canAsk_78 ?_
            refine j_iand (pc := 79) hX dX10_canAsk_79 ?_
            refine j_ifne (pc := 80) (tgt := 113) hX rfl dX10_canAsk_80 (fun _ => ?_) (fun _ => ?_)
            · refine j_aload_n (pc := 83) hX 0 rfl dX10_canAsk_83 ?_
              refine j_getI (pc := 84) hX fgX10_386.1 fgX10_386.2 rfl dX10_canAsk_84 ?_
              refine j_ifne (pc := 87) (tgt := 109) hX rfl dX10_canAsk_87 (fun _ => ?_) (fun _ => ?_)
              · refine j_aload_n (pc := 90) hX 0 rfl dX10_canAsk_90 ?_
                refine j_getR (pc := 91) hX fgX10_109.1 fgX10_109.2 rfl rfl dX10_canAsk_91 ?_
                refine j_iconst (pc := 94) hX ic_5 dX10_canAsk_94 ?_
                refine j_iload_n (pc := 95) hX 1 rfl dX10_canAsk_95 ?_
                refine j_imul (pc := 96) hX dX10_canAsk_96 ?_
                refine j_iload_n (pc := 97) hX 2 rfl dX10_canAsk_97 ?_
                refine j_iadd (pc := 98) hX dX10_canAsk_98 ?_
                refine j_iald (pc := 99) (n := 10) hX rfl dX10_canAsk_99 (fun _ => ?_)
                refine j_aload_n (pc := 100) hX 0 rfl dX10_canAsk_100 ?_
                refine j_getR (pc := 101) hX fgX10_24.1 fgX10_24.2 rfl rfl dX10_canAsk_101 ?_
                refine j_iconst (pc := 104) hX ic_0 dX10_canAsk_104 ?_
                refine j_iald (pc := 105) (n := 4) hX rfl dX10_canAsk_105 (fun _ => ?_)
                refine j_cge (pc := 106) (tgt := 113) hX rfl dX10_canAsk_106 (fun _ => ?_) (fun _ => ?_)
                · refine j_iconst (pc := 113) hX ic_0 dX10_canAsk_113 ?_
                  exact j_zret (pc := 114) hX (Or.inl rfl) hr dX10_canAsk_114
                · refine j_iconst (pc := 109) hX ic_1 dX10_canAsk_109 ?_
                  refine j_goto (pc := 110) (tgt := 114) hX rfl dX10_canAsk_110 ?_
                  exact j_zret (pc := 114) hX (Or.inr rfl) hr dX10_canAsk_114
              · refine j_iconst (pc := 109) hX ic_1 dX10_canAsk_109 ?_
                refine j_goto (pc := 110) (tgt := 114) hX rfl dX10_canAsk_110 ?_
                exact j_zret (pc := 114) hX (Or.inr rfl) hr dX10_canAsk_114
            · refine j_iconst (pc := 113) hX ic_0 dX10_canAsk_113 ?_
              exact j_zret (pc := 114) hX (Or.inl rfl) hr dX10_canAsk_114
        · refine j_iconst (pc := 59) hX ic_0 dX10_canAsk_59 ?_
          exact j_zret (pc := 60) hX (Or.inl rfl) hr dX10_canAsk_60
      · refine j_iconst (pc := 59) hX ic_0 dX10_canAsk_59 ?_
        exact j_zret (pc := 60) hX (Or.inl rfl) hr dX10_canAsk_60
    · refine j_iconst (pc := 59) hX ic_0 dX10_canAsk_59 ?_
      exact j_zret (pc := 60) hX (Or.inl rfl) hr dX10_canAsk_60
set_option maxHeartbeats 4000000 in
set_option maxRecDepth 100000 in
theorem m_t_can (a1 : Int32) (a2 : Int32) (a3 : Int32) (h : HP) (rr : Int32 × HP) (e : m_can a1 a2 a3 h = some rr) : Cn mV yX10_can (ws_ yX10_can cX10_can 4 (some .int)) 3 46 (fun z => [.ref (z + 0), .int a1, .int a2, .int a3]) h (fun z => eI z rr.1) rr.2 := by
  refine cn_of (e1 := eI) (fun z => [(0, .ref (z + 0)), (1, .int a1), (2, .int a2), (3, .int a3)]) mV_ok ⟨Nat.le_refl _, Nat.le_refl _⟩ ymX10_can (fun _ => rfl) (fun _ => Nat.le_of_ble_eq_true rfl) (fun X hX hr _ => ?_) e
  have hX : okX mV X rr cX10_can RX10 4 3 46 := hX
  rw [m_can]
  refine j_aload_n (pc := 0) hX 0 rfl dX10_can_0 ?_
  refine j_iconst (pc := 1) hX ic_0 dX10_can_1 ?_
  refine j_putI (pc := 2) hX fwX10_148.1 fwX10_148.2 rfl dX10_can_2 (fun h1 => ?_)
  refine j_aload_n (pc := 5) hX 0 rfl dX10_can_5 ?_
  refine j_iload_n (pc := 6) hX 1 rfl dX10_can_6 ?_
  refine j_callVI (pc := 7) (a := 0) (As := fun z => [.int a1]) (rest := []) hX (fun r e => m_t_isPerson a1 h1 r e) ymX10_isPerson (lw_V q2004 q2006 qs96 q154 q2007) rfl ckX10 rfl ⟨Nat.le_of_ble_eq_true rfl, Nat.le_of_ble_eq_true rfl⟩ rfl rfl (Nat.le_of_ble_eq_true rfl) dX10_can_7 (fun r2 h3 => ?_)
  refine j_ifeq (pc := 10) (tgt := 34) hX rfl dX10_can_10 (fun _ => ?_) (fun _ => ?_)
  · refine j_iconst (pc := 34) hX ic_m1 dX10_can_34 ?_
    exact j_iret (pc := 35) hX hr dX10_can_35
  · refine j_aload_n (pc := 13) hX 0 rfl dX10_can_13 ?_
    refine j_iload_n (pc := 14) hX 2 rfl dX10_can_14 ?_
    refine j_callVI (pc := 15) (a := 0) (As := fun z => [.int a2]) (rest := []) hX (fun r e => m_t_isPerson a2 h3 r e) ymX10_isPerson (lw_V q2004 q2006 qs96 q154 q2007) rfl ckX10 rfl ⟨Nat.le_of_ble_eq_true rfl, Nat.le_of_ble_eq_true rfl⟩ rfl rfl (Nat.le_of_ble_eq_true rfl) dX10_can_15 (fun r4 h5 => ?_)
    refine j_ifeq (pc := 18) (tgt := 34) hX rfl dX10_can_18 (fun _ => ?_) (fun _ => ?_)
    · refine j_iconst (pc := 34) hX ic_m1 dX10_can_34 ?_
      exact j_iret (pc := 35) hX hr dX10_can_35
    · refine j_iload_n (pc := 21) hX 1 rfl dX10_can_21 ?_
      refine j_iload_n (pc := 22) hX 2 rfl dX10_can_22 ?_
      refine j_ceq (pc := 23) (tgt := 34) hX rfl dX10_can_23 (fun _ => ?_) (fun _ => ?_)
      · refine j_iconst (pc := 34) hX ic_m1 dX10_can_34 ?_
        exact j_iret (pc := 35) hX hr dX10_can_35
      · refine j_aload_n (pc := 26) hX 0 rfl dX10_can_26 ?_
        refine j_iload_n (pc := 27) hX 3 rfl dX10_can_27 ?_
        refine j_callVI (pc := 28) (a := 0) (As := fun z => [.int a3]) (rest := []) hX (fun r e => m_t_isQuestion a3 h5 r e) ymX10_isQuestion (lw_V q2016 q2018 qs98 q154 q2019) rfl ckX10 rfl ⟨Nat.le_of_ble_eq_true rfl, Nat.le_of_ble_eq_true rfl⟩ rfl rfl (Nat.le_of_ble_eq_true rfl) dX10_can_28 (fun r6 h7 => ?_)
        refine j_ifne (pc := 31) (tgt := 36) hX rfl dX10_can_31 (fun _ => ?_) (fun _ => ?_)
        · refine j_iconst (pc := 34) hX ic_m1 dX10_can_34 ?_
          exact j_iret (pc := 35) hX hr dX10_can_35
        · refine j_aload_n (pc := 36) hX 0 rfl dX10_can_36 ?_
          refine j_callVV (pc := 37) (a := 0) (As := fun z => []) (rest := []) hX (fun r e => m_t_plainTried h7 r e) ymX10_plainTried (lw_V q1603 q1605 qs66 q154 q1606) rfl ckX10 rfl ⟨Nat.le_of_ble_eq_true rfl, Nat.le_of_ble_eq_true rfl⟩ rfl rfl (Nat.le_of_ble_eq_true rfl) dX10_can_37 (fun r8 h9 => ?_)
          refine j_aload_n (pc := 40) hX 0 rfl dX10_can_40 ?_
          refine j_iconst (pc := 41) hX ic_0 dX10_can_41 ?_
          refine j_iload_n (pc := 42) hX 1 rfl dX10_can_42 ?_
          refine j_iload_n (pc := 43) hX 2 rfl dX10_can_43 ?_
          refine j_iload_n (pc := 44) hX 3 rfl dX10_can_44 ?_
          refine j_callVI (pc := 45) (a := 0) (As := fun z => [.int (0 : Int32), .int a1, .int a2, .int a3]) (rest := []) hX (fun r e => m_t_canAsk (0 : Int32) a1 a2 a3 h9 r e) ymX10_canAsk (lw_V q2024 q2026 qs99 q154 q2027) rfl ckX10 rfl ⟨Nat.le_of_ble_eq_true rfl, Nat.le_of_ble_eq_true rfl⟩ rfl rfl (Nat.le_of_ble_eq_true rfl) dX10_can_45 (fun r10 h11 => ?_)
          refine j_ifeq (pc := 48) (tgt := 55) hX rfl dX10_can_48 (fun _ => ?_) (fun _ => ?_)
          · refine j_iconst (pc := 55) hX ic_0 dX10_can_55 ?_
            exact j_iret (pc := 56) hX hr dX10_can_56
          · refine j_iconst (pc := 51) hX ic_1 dX10_can_51 ?_
            refine j_goto (pc := 52) (tgt := 56) hX rfl dX10_can_52 ?_
            exact j_iret (pc := 56) hX hr dX10_can_56
set_option maxHeartbeats 4000000 in
set_option maxRecDepth 100000 in
theorem m_t_witOf (a1 : Int32) (h : HP) (rr : Int32 × HP) (e : m_witOf a1 h = some rr) : Cn mV yX10_witOf (ws_ yX10_witOf cX10_witOf 2 (some .int)) 1 0 (fun z => [.ref (z + 0), .int a1]) h (fun z => eI z rr.1) rr.2 := by
  refine cn_of (e1 := eI) (fun z => [(0, .ref (z + 0)), (1, .int a1)]) mV_ok ⟨Nat.le_refl _, Nat.le_refl _⟩ ymX10_witOf (fun _ => rfl) (fun _ => Nat.le_of_ble_eq_true rfl) (fun X hX hr _ => ?_) e
  have hX : okX mV X rr cX10_witOf RX10 2 1 0 := hX
  rw [m_witOf]
  refine j_aload_n (pc := 0) hX 0 rfl dX10_witOf_0 ?_
  refine j_getI (pc := 1) hX fgX10_392.1 fgX10_392.2 rfl dX10_witOf_1 ?_
  refine j_ifeq (pc := 4) (tgt := 12) hX rfl dX10_witOf_4 (fun _ => ?_) (fun _ => ?_)
  · refine j_aload_n (pc := 12) hX 0 rfl dX10_witOf_12 ?_
    refine j_getR (pc := 13) hX fgX10_36.1 fgX10_36.2 rfl rfl dX10_witOf_13 ?_
    refine j_iload_n (pc := 16) hX 1 rfl dX10_witOf_16 ?_
    refine j_iald (pc := 17) (n := 10) hX rfl dX10_witOf_17 (fun _ => ?_)
    exact j_iret (pc := 18) hX hr dX10_witOf_18
  · refine j_bipush (pc := 7) hX bp_9 dX10_witOf_7 ?_
    refine j_goto (pc := 9) (tgt := 18) hX rfl dX10_witOf_9 ?_
    exact j_iret (pc := 18) hX hr dX10_witOf_18
set_option maxHeartbeats 4000000 in
set_option maxRecDepth 100000 in
theorem m_manyOf_4_w {X : CTX} {rr : Int32 × HP} (hX : okX mV X rr cX10_manyOf RX10 3 1 0) (hr : (xh X).sig.returnType = some .int) (f0 : Int32) (k : Int32 → HP → Option (Int32 × HP)) (hk : ∀ (v1 : Int32) (h : HP), jG mV X evI rr (k v1 h) 24 [(1, .int v1)] [] h) : ∀ (n : Nat) (v1 : Int32) (v2 : Int32) (h : HP), jG mV X evI rr (m_manyOf_4 f0 k n v1 v2 h) 4 [(0, .int f0), (1, .int v1), (2, .int v2)] [] h := by
  intro n
  induction n with
  | zero =>
    intro v1 v2 h
    exact j_none
  | succ n ih =>
    intro v1 v2 h
    rw [m_manyOf_4]
    refine j_iload_n (pc := 4) hX 2 rfl dX10_manyOf_4 ?_
    refine j_bipush (pc := 5) hX bp_8 dX10_manyOf_5 ?_
    refine j_cge (pc := 7) (tgt := 24) hX rfl dX10_manyOf_7 (fun _ => ?_) (fun _ => ?_)
    · refine j_locs [1] rfl ?_
      exact hk v1 h
    · refine j_iload_n (pc := 10) hX 1 rfl dX10_manyOf_10 ?_
      refine j_iload_n (pc := 11) hX 0 rfl dX10_manyOf_11 ?_
      refine j_iload_n (pc := 12) hX 2 rfl dX10_manyOf_12 ?_
      refine j_ishr (pc := 13) hX dX10_manyOf_13 ?_
      refine j_iconst (pc := 14) hX ic_1 dX10_manyOf_14 ?_
      refine j_iand (pc := 15) hX dX10_manyOf_15 ?_
      refine j_iadd (pc := 16) hX dX10_manyOf_16 ?_
      refine j_istore_n (pc := 17) hX (fun x3 => [(1, .int x3), (0, .int f0), (2, .int v2)]) (fun _ => rfl) (Nat.le_of_ble_eq_true rfl) dX10_manyOf_17 (fun x3 => ?_)
      refine j_iinc (pc := 18) hX 2 rfl (1 : Int32) ic_1 (fun x4 => [(2, .int x4), (1, .int x3), (0, .int f0)]) (fun _ => rfl) (Nat.le_of_ble_eq_true rfl) dX10_manyOf_18 (fun x4 => ?_)
      refine j_goto (pc := 21) (tgt := 4) hX rfl dX10_manyOf_21 ?_
      refine j_locs [2, 1, 0] rfl ?_
      exact ih x3 x4 h
set_option maxHeartbeats 4000000 in
set_option maxRecDepth 100000 in
theorem m_t_manyOf (a1 : Int32) (h : HP) (rr : Int32 × HP) (e : m_manyOf a1 h = some rr) : Cn mV yX10_manyOf (ws_ yX10_manyOf cX10_manyOf 3 (some .int)) 1 0 (fun z => [.int a1]) h (fun z => eI z rr.1) rr.2 := by
  refine cn_of (e1 := eI) (fun z => [(0, .int a1)]) mV_ok ⟨Nat.le_refl _, Nat.le_refl _⟩ ymX10_manyOf (fun _ => rfl) (fun _ => Nat.le_of_ble_eq_true rfl) (fun X hX hr _ => ?_) e
  have hX : okX mV X rr cX10_manyOf RX10 3 1 0 := hX
  rw [m_manyOf]
  refine j_iconst (pc := 0) hX ic_0 dX10_manyOf_0 ?_
  refine j_istore_n (pc := 1) hX (fun x1 => [(1, .int x1), (0, .int a1)]) (fun _ => rfl) (Nat.le_of_ble_eq_true rfl) dX10_manyOf_1 (fun x1 => ?_)
  refine j_iconst (pc := 2) hX ic_0 dX10_manyOf_2 ?_
  refine j_istore_n (pc := 3) hX (fun x2 => [(2, .int x2), (1, .int x1), (0, .int a1)]) (fun _ => rfl) (Nat.le_of_ble_eq_true rfl) dX10_manyOf_3 (fun x2 => ?_)
  refine j_locs [2, 1, 0] rfl ?_
  refine m_manyOf_4_w hX hr a1 _ (fun x5 h6 => ?_) FU x1 x2 h
  refine j_iload_n (pc := 24) hX 0 rfl dX10_manyOf_24 ?_
  exact j_iret (pc := 25) hX hr dX10_manyOf_25
set_option maxHeartbeats 4000000 in
set_option maxRecDepth 100000 in
theorem m_t_layNames (a1 : Int32) (a2 : Int32) (a3 : Int32) (h : HP) (rr : Unit × HP) (e : m_layNames a1 a2 a3 h = some rr) : Cn mV yX10_layNames (ws_ yX10_layNames cX10_layNames 4 (none)) 2 22 (fun z => [.ref (z + 0), .int a1, .int a2, .int a3]) h (fun z => eV z rr.1) rr.2 := by
  refine cn_of (e1 := eV) (fun z => [(0, .ref (z + 0)), (1, .int a1), (2, .int a2), (3, .int a3)]) mV_ok ⟨Nat.le_refl _, Nat.le_refl _⟩ ymX10_layNames (fun _ => rfl) (fun _ => Nat.le_of_ble_eq_true rfl) (fun X hX hr _ => ?_) e
  have hX : okX mV X rr cX10_layNames RX10 4 2 22 := hX
  rw [m_layNames]
  refine j_aload_n (pc := 0) hX 0 rfl dX10_layNames_0 ?_
  refine j_getR (pc := 1) hX fgX10_93.1 fgX10_93.2 rfl rfl dX10_layNames_1 ?_
  refine j_iconst (pc := 4) hX ic_0 dX10_layNames_4 ?_
  refine j_aload_n (pc := 5) hX 0 rfl dX10_layNames_5 ?_
  refine j_getR (pc := 6) hX fgX10_33.1 fgX10_33.2 rfl rfl dX10_layNames_6 ?_
  refine j_iload_n (pc := 9) hX 2 rfl dX10_layNames_9 ?_
  refine j_iald (pc := 10) (n := 10) hX rfl dX10_layNames_10 (fun _ => ?_)
  refine j_i2l (pc := 11) hX dX10_layNames_11 ?_
  refine j_last (pc := 12) (n := 7) hX rfl dX10_layNames_12 (fun _ h1 => ?_)
  refine j_aload_n (pc := 13) hX 0 rfl dX10_layNames_13 ?_
  refine j_getR (pc := 14) hX fgX10_93.1 fgX10_93.2 rfl rfl dX10_layNames_14 ?_
  refine j_iconst (pc := 17) hX ic_1 dX10_layNames_17 ?_
  refine j_aload_n (pc := 18) hX 0 rfl dX10_layNames_18 ?_
  refine j_iload_n (pc := 19) hX 2 rfl dX10_layNames_19 ?_
  refine j_callVI (pc := 20) (a := 0) (As := fun z => [.int a2]) (rest := [.int (1 : Int32), .ref (xz X + 27)]) hX (fun r e => m_t_witOf a2 h1 r e) ymX10_witOf (lw_V q2041 q2043 qs102 q154 q2044) rfl ckX10 rfl ⟨Nat.le_of_ble_eq_true rfl, Nat.le_of_ble_eq_true rfl⟩ rfl rfl (Nat.le_of_ble_eq_true rfl) dX10_layNames_20 (fun r2 h3 => ?_)
  refine j_i2l (pc := 23) hX dX10_layNames_23 ?_
  refine j_last (pc := 24) (n := 7) hX rfl dX10_layNames_24 (fun _ h4 => ?_)
  refine j_aload_n (pc := 25) hX 0 rfl dX10_layNames_25 ?_
  refine j_getR (pc := 26) hX fgX10_93.1 fgX10_93.2 rfl rfl dX10_layNames_26 ?_
  refine j_iconst (pc := 29) hX ic_2 dX10_layNames_29 ?_
  refine j_aload_n (pc := 30) hX 0 rfl dX10_layNames_30 ?_
  refine j_getR (pc := 31) hX fgX10_103.1 fgX10_103.2 rfl rfl dX10_layNames_31 ?_
  refine j_iconst (pc := 34) hX ic_5 dX10_layNames_34 ?_
  refine j_iload_n (pc := 35) hX 1 rfl dX10_layNames_35 ?_
  refine j_imul (pc := 36) hX dX10_layNames_36 ?_
  refine j_iload_n (pc := 37) hX 2 rfl dX10_layNames_37 ?_
  refine j_iadd (pc := 38) hX dX10_layNames_38 ?_
  refine j_iald (pc := 39) (n := 10) hX rfl dX10_layNames_39 (fun _ => ?_)
  refine j_i2l (pc := 40) hX dX10_layNames_40 ?_
  refine j_last (pc := 41) (n := 7) hX rfl dX10_layNames_41 (fun _ h5 => ?_)
  refine j_aload_n (pc := 42) hX 0 rfl dX10_layNames_42 ?_
  refine j_getR (pc := 43) hX fgX10_93.1 fgX10_93.2 rfl rfl dX10_layNames_43 ?_
  refine j_iconst (pc := 46) hX ic_3 dX10_layNames_46 ?_
  refine j_aload_n (pc := 47) hX 0 rfl dX10_layNames_47 ?_
  refine j_getR (pc := 48) hX fgX10_100.1 fgX10_100.2 rfl rfl dX10_layNames_48 ?_
  refine j_iconst (pc := 51) hX ic_5 dX10_layNames_51 ?_
  refine j_iload_n (pc := 52) hX 1 rfl dX10_layNames_52 ?_
  refine j_imul (pc := 53) hX dX10_layNames_53 ?_
  refine j_iload_n (pc := 54) hX 2 rfl dX10_layNames_54 ?_
  refine j_iadd (pc := 55) hX dX10_layNames_55 ?_
  refine j_iald (pc := 56) (n := 10) hX rfl dX10_layNames_56 (fun _ => ?_)
  refine j_callSI (pc := 57) (As := fun z => [.int (gI h5 29 ((((5 : Int32) * a1) + a2)).toNatClampNeg)]) (rest := [.int (3 : Int32), .ref (xz X + 27)]) hX (fun r e => m_t_manyOf (gI h5 29 ((((5 : Int32) * a1) + a2)).toNatClampNeg) h5 r e) ymX10_manyOf (lw_S q2045 q2046 q154 q2047) ⟨Nat.le_of_ble_eq_true rfl, Nat.le_of_ble_eq_true rfl⟩ rfl rfl (Nat.le_of_ble_eq_true rfl) dX10_layNames_57 (fun r6 h7 => ?_)
  refine j_i2l (pc := 60) hX dX10_layNames_60 ?_
  refine j_last (pc := 61) (n := 7) hX rfl dX10_layNames_61 (fun _ h8 => ?_)
  refine j_aload_n (pc := 62) hX 0 rfl dX10_layNames_62 ?_
  refine j_getR (pc := 63) hX fgX10_93.1 fgX10_93.2 rfl rfl dX10_layNames_63 ?_
  refine j_iconst (pc := 66) hX ic_4 dX10_layNames_66 ?_
  refine j_aload_n (pc := 67) hX 0 rfl dX10_layNames_67 ?_
  refine j_getR (pc := 68) hX fgX10_106.1 fgX10_106.2 rfl rfl dX10_layNames_68 ?_
  refine j_iconst (pc := 71) hX ic_5 dX10_layNames_71 ?_
  refine j_iload_n (pc := 72) hX 1 rfl dX10_layNames_72 ?_
  refine j_imul (pc := 73) hX dX10_layNames_73 ?_
  refine j_iload_n (pc := 74) hX 2 rfl dX10_layNames_74 ?_
  refine j_iadd (pc := 75) hX dX10_layNames_75 ?_
  refine j_iald (pc := 76) (n := 10) hX rfl dX10_layNames_76 (fun _ => ?_)
  refine j_i2l (pc := 77) hX dX10_layNames_77 ?_
  refine j_last (pc := 78) (n := 7) hX rfl dX10_layNames_78 (fun _ h9 => ?_)
  refine j_aload_n (pc := 79) hX 0 rfl dX10_layNames_79 ?_
  refine j_getR (pc := 80) hX fgX10_93.1 fgX10_93.2 rfl rfl dX10_layNames_80 ?_
  refine j_iconst (pc := 83) hX ic_5 dX10_layNames_83 ?_
  refine j_aload_n (pc := 84) hX 0 rfl dX10_layNames_84 ?_
  refine j_getR (pc := 85) hX fgX10_48.1 fgX10_48.2 rfl rfl dX10_layNames_85 ?_
  refine j_iload_n (pc := 88) hX 3 rfl dX10_layNames_88 ?_
  refine j_iald (pc := 89) (n := 16) hX rfl dX10_layNames_89 (fun _ => ?_)
  refine j_i2l (pc := 90) hX dX10_layNames_90 ?_
  refine j_last (pc := 91) (n := 7) hX rfl dX10_layNames_91 (fun _ h10 => ?_)
  refine j_aload_n (pc := 92) hX 0 rfl dX10_layNames_92 ?_
  refine j_getR (pc := 93) hX fgX10_93.1 fgX10_93.2 rfl rfl dX10_layNames_93 ?_
  refine j_bipush (pc := 96) hX bp_6 dX10_layNames_96 ?_
  refine j_aload_n (pc := 98) hX 0 rfl dX10_layNames_98 ?_
  refine j_getR (pc := 99) hX fgX10_112.1 fgX10_112.2 rfl rfl dX10_layNames_99 ?_
  refine j_iload_n (pc := 102) hX 1 rfl dX10_layNames_102 ?_
  refine j_iald (pc := 103) (n := 2) hX rfl dX10_layNames_103 (fun _ => ?_)
  refine j_i2l (pc := 104) hX dX10_layNames_104 ?_
  refine j_last (pc := 105) (n := 7) hX rfl dX10_layNames_105 (fun _ h11 => ?_)
  exact j_vret (pc := 106) hX hr dX10_layNames_106
set_option maxHeartbeats 4000000 in
set_option maxRecDepth 100000 in
theorem m_t_bounded (a1 : Int64) (h : HP) (rr : Int64 × HP) (e : m_bounded a1 h = some rr) : Cn mV yX10_bounded (ws_ yX10_bounded cX10_bounded 3 (some .long)) 1 0 (fun z => [.ref (z + 0), .long a1]) h (fun z => eL z rr.1) rr.2 := by
  refine cn_of (e1 := eL) (fun z => [(0, .ref (z + 0)), (1, .long a1)]) mV_ok ⟨Nat.le_refl _, Nat.le_refl _⟩ ymX10_bounded (fun _ => rfl) (fun _ => Nat.le_of_ble_eq_true rfl) (fun X hX hr _ => ?_) e
  have hX : okX mV X rr cX10_bounded RX10 3 1 0 := hX
  rw [m_bounded]
  refine j_aload_n (pc := 0) hX 0 rfl dX10_bounded_0 ?_
  refine j_aload_n (pc := 1) hX 0 rfl dX10_bounded_1 ?_
  refine j_getI (pc := 2) hX fgX10_342.1 fgX10_342.2 rfl dX10_bounded_2 ?_
  refine j_jon (fun (j1 : Int32 → Option (Int64 × HP)) => ∀ (s2 : Int32), jG mV X evL rr (j1 s2) 29 [(0, .ref (xz X + 0)), (1, .long a1)] [.int s2, .ref (xz X + 0)] h) ?_ ?_
  · intro s2
    refine j_grd fun g4 => ?_
    refine j_putZ (pc := 29) hX g4 fwX10_342.1 fwX10_342.2 rfl dX10_bounded_29 (fun h3 => ?_)
    refine j_aload_n (pc := 32) hX 0 rfl dX10_bounded_32 ?_
    refine j_getI (pc := 33) hX fgX10_342.1 fgX10_342.2 rfl dX10_bounded_33 ?_
    refine j_ifeq (pc := 36) (tgt := 43) hX rfl dX10_bounded_36 (fun _ => ?_) (fun _ => ?_)
    · refine j_lload_n (pc := 43) hX 1 rfl dX10_bounded_43 ?_
      exact j_lret (pc := 44) hX hr dX10_bounded_44
    · refine j_lconst (pc := 39) (v := 0) hX rfl dX10_bounded_39 ?_
      refine j_goto (pc := 40) (tgt := 44) hX rfl dX10_bounded_40 ?_
      exact j_lret (pc := 44) hX hr dX10_bounded_44
  · intro j1 hj1
    refine j_jon (fun (j5 : Unit → Option (Int64 × HP)) => ∀ (_u : Unit), jG mV X evL rr (j5 ()) 24 [(0, .ref (xz X + 0)), (1, .long a1)] [.ref (xz X + 0)] h) ?_ ?_
    · intro _
      refine j_iconst (pc := 24) hX ic_1 dX10_bounded_24 ?_
      refine j_goto (pc := 25) (tgt := 29) hX rfl dX10_bounded_25 ?_
      exact hj1 (1 : Int32)
    · intro j5 hj5
      refine j_ifne (pc := 5) (tgt := 24) hX rfl dX10_bounded_5 (fun _ => ?_) (fun _ => ?_)
      · refine j_lload_n (pc := 8) hX 1 rfl dX10_bounded_8 ?_
        refine j_ldc2 (pc := 9) hX q2060 dX10_bounded_9 ?_
        refine j_lcmp (pc := 12) hX dX10_bounded_12 ?_
        refine j_ifgt (pc := 13) (tgt := 24) hX rfl dX10_bounded_13 (fun _ => ?_) (fun _ => ?_)
        · exact hj5 ()
        · refine j_lload_n (pc := 16) hX 1 rfl dX10_bounded_16 ?_
          refine j_ldc2 (pc := 17) hX q2061 dX10_bounded_17 ?_
          refine j_lcmp (pc := 20) hX dX10_bounded_20 ?_
          refine j_ifge (pc := 21) (tgt := 28) hX rfl dX10_bounded_21 (fun _ => ?_) (fun _ => ?_)
          · refine j_iconst (pc := 28) hX ic_0 dX10_bounded_28 ?_
            exact hj1 (0 : Int32)
          · exact hj5 ()
      · exact hj5 ()
set_option maxHeartbeats 4000000 in
set_option maxRecDepth 100000 in
theorem m_t_times (a1 : Int64) (a2 : Int64) (h : HP) (rr : Int64 × HP) (e : m_times a1 a2 h = some rr) : Cn mV yX10_times (ws_ yX10_times cX10_times 6 (some .long)) 1 0 (fun z => [.ref (z + 0), .long a1, .long a2]) h (fun z => eL z rr.1) rr.2 := by
  refine cn_of (e1 := eL) (fun z => [(0, .ref (z + 0)), (1, .long a1), (3, .long a2)]) mV_ok ⟨Nat.le_refl _, Nat.le_refl _⟩ ymX10_times (fun _ => rfl) (fun _ => Nat.le_of_ble_eq_true rfl) (fun X hX hr _ => ?_) e
  have hX : okX mV X rr cX10_times RX10 6 1 0 := hX
  rw [m_times]
  refine j_lload_n (pc := 0) hX 1 rfl dX10_times_0 ?_
  refine j_lconst (pc := 1) (v := 0) hX rfl dX10_times_1 ?_
  refine j_lcmp (pc := 2) hX dX10_times_2 ?_
  refine j_jon (fun (j1 : Int32 → Option (Int64 × HP)) => ∀ (s2 : Int32), jG mV X evL rr (j1 s2) 49 [(0, .ref (xz X + 0)), (1, .long a1), (3, .long a2)] [.int s2] h) ?_ ?_
  · intro s2
    refine j_istore (pc := 49) hX (fun x3 => [(5, .int x3), (0, .ref (xz X + 0)), (1, .long a1), (3, .long a2)]) (fun _ => rfl) (Nat.le_of_ble_eq_true rfl) dX10_times_49 (fun x3 => ?_)
    refine j_aload_n (pc := 51) hX 1 rfl dX10_times_51 ?_
    refine j_aload_n (pc := 52) hX 1 rfl dX10_times_52 ?_
    refine j_getI (pc := 53) hX fgX10_342.1 fgX10_342.2 rfl dX10_times_53 ?_
    refine j_jon (fun (j4 : Int32 → Option (Int64 × HP)) => ∀ (s5 : Int32), jG mV X evL rr (j4 s5) 69 [(0, .ref (xz X + 0)), (1, .long a1), (3, .long a2)] [.int s5, .ref (xz X + 0)] h) ?_ ?_
    · intro s5
      refine j_grd fun g7 => ?_
      refine j_putZ (pc := 69) hX g7 fwX10_342.1 fwX10_342.2 rfl dX10_times_69 (fun h6 => ?_)
      refine j_aload_n (pc := 72) hX 0 rfl dX10_times_72 ?_
      refine j_getI (pc := 73) hX fgX10_342.1 fgX10_342.2 rfl dX10_times_73 ?_
      refine j_ifeq (pc := 76) (tgt := 83) hX rfl dX10_times_76 (fun _ => ?_) (fun _ => ?_)
      · refine j_lload_n (pc := 83) hX 1 rfl dX10_times_83 ?_
        refine j_lload_n (pc := 84) hX 2 rfl dX10_times_84 ?_
        refine j_lmul (pc := 85) hX dX10_times_85 ?_
        exact j_lret (pc := 86) hX hr dX10_times_86
      · refine j_lconst (pc := 79) (v := 0) hX rfl dX10_times_79 ?_
        refine j_goto (pc := 80) (tgt := 86) hX rfl dX10_times_80 ?_
        exact j_lret (pc := 86) hX hr dX10_times_86
    · intro j4 hj4
      refine j_jon (fun (j8 : Unit → Option (Int64 × HP)) => ∀ (_u : Unit), jG mV X evL rr (j8 ()) 64 [(0, .ref (xz X + 0)), (1, .long a1), (3, .long a2)] [.ref (xz X + 0)] h) ?_ ?_
      · intro _
        refine j_iconst (pc := 64) hX ic_1 dX10_times_64 ?_
        refine j_goto (pc := 65) (tgt := 69) hX rfl dX10_times_65 ?_
        exact hj4 (1 : Int32)
      · intro j8 hj8
        refine j_ifne (pc := 56) (tgt := 64) hX rfl dX10_times_56 (fun _ => ?_) (fun _ => ?_)
        · refine j_iload (pc := 59) hX 0 rfl dX10_times_59 ?_
          refine j_ifeq (pc := 61) (tgt := 68) hX rfl dX10_times_61 (fun _ => ?_) (fun _ => ?_)
          · refine j_iconst (pc := 68) hX ic_0 dX10_times_68 ?_
            refine j_locs [1, 2, 3] rfl ?_
            exact hj4 (0 : Int32)
          · refine j_locs [1, 2, 3] rfl ?_
            exact hj8 ()
        · refine j_locs [1, 2, 3] rfl ?_
          exact hj8 ()
  · intro j1 hj1
    refine j_jon (fun (j9 : Unit → Option (Int64 × HP)) => ∀ (_u : Unit), jG mV X evL rr (j9 ()) 48 [(0, .ref (xz X + 0)), (1, .long a1), (3, .long a2)] [] h) ?_ ?_
    · intro _
      refine j_iconst (pc := 48) hX ic_0 dX10_times_48 ?_
      exact hj1 (0 : Int32)
    · intro j9 hj9
      refine j_ifeq (pc := 3) (tgt := 48) hX rfl dX10_times_3 (fun _ => ?_) (fun _ => ?_)
      · exact hj9 ()
      · refine j_lload_n (pc := 6) hX 2 rfl dX10_times_6 ?_
        refine j_lconst (pc := 7) (v := 0) hX rfl dX10_times_7 ?_
        refine j_lcmp (pc := 8) hX dX10_times_8 ?_
        refine j_ifeq (pc := 9) (tgt := 48) hX rfl dX10_times_9 (fun _ => ?_) (fun _ => ?_)
        · exact hj9 ()
        · refine j_lload_n (pc := 12) hX 2 rfl dX10_times_12 ?_
          refine j_lconst (pc := 13) (v := 0) hX rfl dX10_times_13 ?_
          refine j_lcmp (pc := 14) hX dX10_times_14 ?_
          refine j_jon (fun (j10 : Int64 → Option (Int64 × HP)) => ∀ (s11 : Int64), jG mV X evL rr (j10 s11) 24 [(0, .ref (xz X + 0)), (1, .long a1), (3, .long a2)] [.long s11] h) ?_ ?_
          · intro s11
            refine j_ldc2 (pc := 24) hX q2060 dX10_times_24 ?_
            refine j_lload_n (pc := 27) hX 1 rfl dX10_times_27 ?_
            refine j_lconst (pc := 28) (v := 0) hX rfl dX10_times_28 ?_
            refine j_lcmp (pc := 29) hX dX10_times_29 ?_
            refine j_jon (fun (j12 : Int64 → Option (Int64 × HP)) => ∀ (s13 : Int64), jG mV X evL rr (j12 s13) 39 [(0, .ref (xz X + 0)), (1, .long a1), (3, .long a2)] [.long s13, .long (1000000000000 : Int64), .long s11] h) ?_ ?_
            · intro s13
              refine j_ldiv (pc := 39) hX dX10_times_39 (fun _ => ?_)
              refine j_lcmp (pc := 40) hX dX10_times_40 ?_
              refine j_ifle (pc := 41) (tgt := 48) hX rfl dX10_times_41 (fun _ => ?_) (fun _ => ?_)
              · exact hj9 ()
              · refine j_iconst (pc := 44) hX ic_1 dX10_times_44 ?_
                refine j_goto (pc := 45) (tgt := 49) hX rfl dX10_times_45 ?_
                exact hj1 (1 : Int32)
            · intro j12 hj12
              refine j_ifge (pc := 30) (tgt := 38) hX rfl dX10_times_30 (fun _ => ?_) (fun _ => ?_)
              · refine j_lload_n (pc := 38) hX 1 rfl dX10_times_38 ?_
                exact hj12 a1
              · refine j_lload_n (pc := 33) hX 1 rfl dX10_times_33 ?_
                refine j_lneg (pc := 34) hX dX10_times_34 ?_
                refine j_goto (pc := 35) (tgt := 39) hX rfl dX10_times_35 ?_
                exact hj12 (-a1)
          · intro j10 hj10
            refine j_ifge (pc := 15) (tgt := 23) hX rfl dX10_times_15 (fun _ => ?_) (fun _ => ?_)
            · refine j_lload_n (pc := 23) hX 2 rfl dX10_times_23 ?_
              exact hj10 a2
            · refine j_lload_n (pc := 18) hX 2 rfl dX10_times_18 ?_
              refine j_lneg (pc := 19) hX dX10_times_19 ?_
              refine j_goto (pc := 20) (tgt := 24) hX rfl dX10_times_20 ?_
              exact hj10 (-a2)
set_option maxHeartbeats 4000000 in
set_option maxRecDepth 100000 in
theorem m_t_compares (a1 : Int32) (a2 : Int64) (a3 : Int64) (h : HP) (rr : Int32 × HP) (e : m_compares a1 a2 a3 h = some rr) : Cn mV yX10_compares (ws_ yX10_compares cX10_compares 5 (some .boolean)) 1 0 (fun z => [.int a1, .long a2, .long a3]) h (fun z => eI z rr.1) rr.2 := by
  refine cn_of (e1 := eI) (fun z => [(0, .int a1), (1, .long a2), (3, .long a3)]) mV_ok ⟨Nat.le_refl _, Nat.le_refl _⟩ ymX10_compares (fun _ => rfl) (fun _ => Nat.le_of_ble_eq_true rfl) (fun X hX hr _ => ?_) e
  have hX : okX mV X rr cX10_compares RX10 5 1 0 := hX
  rw [m_compares]
  refine j_iload_n (pc := 0) hX 0 rfl dX10_compares_0 ?_
  refine j_ite (fun c1 => ?_) (fun c1 => ?_)
  · refine j_tabIn (pc := 1) (tgt := 36) hX (5) (by rw [c1]; rfl) (by decide) (by decide) rfl rfl dX10_compares_1 ?_
    refine j_lload_n (pc := 36) hX 1 rfl dX10_compares_36 ?_
    refine j_lload_n (pc := 37) hX 2 rfl dX10_compares_37 ?_
    refine j_lcmp (pc := 38) hX dX10_compares_38 ?_
    refine j_ifge (pc := 39) (tgt := 46) hX rfl dX10_compares_39 (fun _ => ?_) (fun _ => ?_)
    · refine j_iconst (pc := 46) hX ic_0 dX10_compares_46 ?_
      exact j_zret (pc := 47) hX (Or.inl rfl) hr dX10_compares_47
    · refine j_iconst (pc := 42) hX ic_1 dX10_compares_42 ?_
      refine j_goto (pc := 43) (tgt := 47) hX rfl dX10_compares_43 ?_
      exact j_zret (pc := 47) hX (Or.inr rfl) hr dX10_compares_47
  · skip
    refine j_ite (fun c2 => ?_) (fun c2 => ?_)
    · refine j_tabIn (pc := 1) (tgt := 48) hX (6) (by rw [c2]; rfl) (by decide) (by decide) rfl rfl dX10_compares_1 ?_
      refine j_lload_n (pc := 48) hX 1 rfl dX10_compares_48 ?_
      refine j_lload_n (pc := 49) hX 2 rfl dX10_compares_49 ?_
      refine j_lcmp (pc := 50) hX dX10_compares_50 ?_
      refine j_ifgt (pc := 51) (tgt := 58) hX rfl dX10_compares_51 (fun _ => ?_) (fun _ => ?_)
      · refine j_iconst (pc := 58) hX ic_0 dX10_compares_58 ?_
        exact j_zret (pc := 59) hX (Or.inl rfl) hr dX10_compares_59
      · refine j_iconst (pc := 54) hX ic_1 dX10_compares_54 ?_
        refine j_goto (pc := 55) (tgt := 59) hX rfl dX10_compares_55 ?_
        exact j_zret (pc := 59) hX (Or.inr rfl) hr dX10_compares_59
    · skip
      refine j_ite (fun c3 => ?_) (fun c3 => ?_)
      · refine j_tabIn (pc := 1) (tgt := 60) hX (7) (by rw [c3]; rfl) (by decide) (by decide) rfl rfl dX10_compares_1 ?_
        refine j_lload_n (pc := 60) hX 1 rfl dX10_compares_60 ?_
        refine j_lload_n (pc := 61) hX 2 rfl dX10_compares_61 ?_
        refine j_lcmp (pc := 62) hX dX10_compares_62 ?_
        refine j_ifne (pc := 63) (tgt := 70) hX rfl dX10_compares_63 (fun _ => ?_) (fun _ => ?_)
        · refine j_iconst (pc := 66) hX ic_1 dX10_compares_66 ?_
          refine j_goto (pc := 67) (tgt := 71) hX rfl dX10_compares_67 ?_
          exact j_zret (pc := 71) hX (Or.inr rfl) hr dX10_compares_71
        · refine j_iconst (pc := 70) hX ic_0 dX10_compares_70 ?_
          exact j_zret (pc := 71) hX (Or.inl rfl) hr dX10_compares_71
      · skip
        refine j_ite (fun c4 => ?_) (fun c4 => ?_)
        · refine j_tabIn (pc := 1) (tgt := 72) hX (8) (by rw [c4]; rfl) (by decide) (by decide) rfl rfl dX10_compares_1 ?_
          refine j_lload_n (pc := 72) hX 1 rfl dX10_compares_72 ?_
          refine j_lload_n (pc := 73) hX 2 rfl dX10_compares_73 ?_
          refine j_lcmp (pc := 74) hX dX10_compares_74 ?_
          refine j_ifeq (pc := 75) (tgt := 82) hX rfl dX10_compares_75 (fun _ => ?_) (fun _ => ?_)
          · refine j_iconst (pc := 82) hX ic_0 dX10_compares_82 ?_
            exact j_zret (pc := 83) hX (Or.inl rfl) hr dX10_compares_83
          · refine j_iconst (pc := 78) hX ic_1 dX10_compares_78 ?_
            refine j_goto (pc := 79) (tgt := 83) hX rfl dX10_compares_79 ?_
            exact j_zret (pc := 83) hX (Or.inr rfl) hr dX10_compares_83
        · skip
          refine j_ite (fun c5 => ?_) (fun c5 => ?_)
          · refine j_tabIn (pc := 1) (tgt := 84) hX (9) (by rw [c5]; rfl) (by decide) (by decide) rfl rfl dX10_compares_1 ?_
            refine j_lload_n (pc := 84) hX 1 rfl dX10_compares_84 ?_
            refine j_lload_n (pc := 85) hX 2 rfl dX10_compares_85 ?_
            refine j_lcmp (pc := 86) hX dX10_compares_86 ?_
            refine j_iflt (pc := 87) (tgt := 94) hX rfl dX10_compares_87 (fun _ => ?_) (fun _ => ?_)
            · refine j_iconst (pc := 94) hX ic_0 dX10_compares_94 ?_
              exact j_zret (pc := 95) hX (Or.inl rfl) hr dX10_compares_95
            · refine j_iconst (pc := 90) hX ic_1 dX10_compares_90 ?_
              refine j_goto (pc := 91) (tgt := 95) hX rfl dX10_compares_91 ?_
              exact j_zret (pc := 95) hX (Or.inr rfl) hr dX10_compares_95
          · skip
            refine j_tabD (pc := 1) (tgt := 96) hX (fun n hn h1 h2 => ?_) rfl dX10_compares_1 ?_
            · rcases (show n = 5 ∨ n = 6 ∨ n = 7 ∨ n = 8 ∨ n = 9 by omega) with rfl | rfl | rfl | rfl | rfl
              · exact absurd hn (lv_neT c1 rfl)
              · exact absurd hn (lv_neT c2 rfl)
              · exact absurd hn (lv_neT c3 rfl)
              · exact absurd hn (lv_neT c4 rfl)
              · exact absurd hn (lv_neT c5 rfl)
            · refine j_lload_n (pc := 96) hX 1 rfl dX10_compares_96 ?_
              refine j_lload_n (pc := 97) hX 2 rfl dX10_compares_97 ?_
              refine j_lcmp (pc := 98) hX dX10_compares_98 ?_
              refine j_ifle (pc := 99) (tgt := 106) hX rfl dX10_compares_99 (fun _ => ?_) (fun _ => ?_)
              · refine j_iconst (pc := 106) hX ic_0 dX10_compares_106 ?_
                exact j_zret (pc := 107) hX (Or.inl rfl) hr dX10_compares_107
              · refine j_iconst (pc := 102) hX ic_1 dX10_compares_102 ?_
                refine j_goto (pc := 103) (tgt := 107) hX rfl dX10_compares_103 ?_
                exact j_zret (pc := 107) hX (Or.inr rfl) hr dX10_compares_107
set_option maxHeartbeats 4000000 in
set_option maxRecDepth 100000 in
theorem m_t_valueOf (a1 : Int32) (h : HP) (rr : Int64 × HP) (e : m_valueOf a1 h = some rr) : Cn mV yX10_valueOf (ws_ yX10_valueOf cX10_valueOf 6 (some .long)) 2 25 (fun z => [.ref (z + 0), .int a1]) h (fun z => eL z rr.1) rr.2 := by
  refine cn_of (e1 := eL) (fun z => [(0, .ref (z + 0)), (1, .int a1)]) mV_ok ⟨Nat.le_refl _, Nat.le_refl _⟩ ymX10_valueOf (fun _ => rfl) (fun _ => Nat.le_of_ble_eq_true rfl) (fun X hX hr _ => ?_) e
  have hX : okX mV X rr cX10_valueOf RX10 6 2 25 := hX
  rw [m_valueOf]
  refine j_aload_n (pc := 0) hX 0 rfl dX10_valueOf_0 ?_
  refine j_getR (pc := 1) hX fgX10_78.1 fgX10_78.2 rfl rfl dX10_valueOf_1 ?_
  refine j_iload_n (pc := 4) hX 1 rfl dX10_valueOf_4 ?_
  refine j_iald (pc := 5) (n := 128) hX rfl dX10_valueOf_5 (fun _ => ?_)
  refine j_ifne (pc := 6) (tgt := 17) hX rfl dX10_valueOf_6 (fun _ => ?_) (fun _ => ?_)
  · refine j_aload_n (pc := 9) hX 0 rfl dX10_valueOf_9 ?_
    refine j_getR (pc := 10) hX fgX10_81.1 fgX10_81.2 rfl rfl dX10_valueOf_10 ?_
    refine j_iload_n (pc := 13) hX 1 rfl dX10_valueOf_13 ?_
    refine j_iald (pc := 14) (n := 128) hX rfl dX10_valueOf_14 (fun _ => ?_)
    refine j_i2l (pc := 15) hX dX10_valueOf_15 ?_
    exact j_lret (pc := 16) hX hr dX10_valueOf_16
  · refine j_aload_n (pc := 17) hX 0 rfl dX10_valueOf_17 ?_
    refine j_getR (pc := 18) hX fgX10_78.1 fgX10_78.2 rfl rfl dX10_valueOf_18 ?_
    refine j_iload_n (pc := 21) hX 1 rfl dX10_valueOf_21 ?_
    refine j_iald (pc := 22) (n := 128) hX rfl dX10_valueOf_22 (fun _ => ?_)
    refine j_iconst (pc := 23) hX ic_1 dX10_valueOf_23 ?_
    refine j_cne (pc := 24) (tgt := 39) hX rfl dX10_valueOf_24 (fun _ => ?_) (fun _ => ?_)
    · refine j_aload_n (pc := 27) hX 0 rfl dX10_valueOf_27 ?_
      refine j_getR (pc := 28) hX fgX10_93.1 fgX10_93.2 rfl rfl dX10_valueOf_28 ?_
      refine j_aload_n (pc := 31) hX 0 rfl dX10_valueOf_31 ?_
      refine j_getR (pc := 32) hX fgX10_81.1 fgX10_81.2 rfl rfl dX10_valueOf_32 ?_
      refine j_iload_n (pc := 35) hX 1 rfl dX10_valueOf_35 ?_
      refine j_iald (pc := 36) (n := 128) hX rfl dX10_valueOf_36 (fun _ => ?_)
      refine j_lald (pc := 37) (n := 7) hX rfl dX10_valueOf_37 (fun _ => ?_)
      exact j_lret (pc := 38) hX hr dX10_valueOf_38
    · refine j_aload_n (pc := 39) hX 0 rfl dX10_valueOf_39 ?_
      refine j_getR (pc := 40) hX fgX10_97.1 fgX10_97.2 rfl rfl dX10_valueOf_40 ?_
      refine j_aload_n (pc := 43) hX 0 rfl dX10_valueOf_43 ?_
      refine j_getR (pc := 44) hX fgX10_81.1 fgX10_81.2 rfl rfl dX10_valueOf_44 ?_
      refine j_iload_n (pc := 47) hX 1 rfl dX10_valueOf_47 ?_
      refine j_iald (pc := 48) (n := 128) hX rfl dX10_valueOf_48 (fun _ => ?_)
      refine j_lald (pc := 49) (n := 64) hX rfl dX10_valueOf_49 (fun _ => ?_)
      refine j_lstore_n (pc := 50) hX (fun x1 => [(2, .long x1), (0, .ref (xz X + 0)), (1, .int a1)]) (fun _ => rfl) (Nat.le_of_ble_eq_true rfl) dX10_valueOf_50 (fun x1 => ?_)
      refine j_aload_n (pc := 51) hX 1 rfl dX10_valueOf_51 ?_
      refine j_getR (pc := 52) hX fgX10_78.1 fgX10_78.2 rfl rfl dX10_valueOf_52 ?_
      refine j_iload_n (pc := 55) hX 2 rfl dX10_valueOf_55 ?_
      refine j_iald (pc := 56) (n := 128) hX rfl dX10_valueOf_56 (fun _ => ?_)
      refine j_iconst (pc := 57) hX ic_2 dX10_valueOf_57 ?_
      refine j_cne (pc := 58) (tgt := 73) hX rfl dX10_valueOf_58 (fun _ => ?_) (fun _ => ?_)
      · refine j_lload_n (pc := 61) hX 0 rfl dX10_valueOf_61 ?_
        refine j_lconst (pc := 62) (v := 0) hX rfl dX10_valueOf_62 ?_
        refine j_lcmp (pc := 63) hX dX10_valueOf_63 ?_
        refine j_ifne (pc := 64) (tgt := 71) hX rfl dX10_valueOf_64 (fun _ => ?_) (fun _ => ?_)
        · refine j_lconst (pc := 67) (v := 1) hX rfl dX10_valueOf_67 ?_
          refine j_goto (pc := 68) (tgt := 72) hX rfl dX10_valueOf_68 ?_
          exact j_lret (pc := 72) hX hr dX10_valueOf_72
        · refine j_lconst (pc := 71) (v := 0) hX rfl dX10_valueOf_71 ?_
          exact j_lret (pc := 72) hX hr dX10_valueOf_72
      · refine j_aload_n (pc := 73) hX 1 rfl dX10_valueOf_73 ?_
        refine j_getR (pc := 74) hX fgX10_97.1 fgX10_97.2 rfl rfl dX10_valueOf_74 ?_
        refine j_aload_n (pc := 77) hX 1 rfl dX10_valueOf_77 ?_
        refine j_getR (pc := 78) hX fgX10_84.1 fgX10_84.2 rfl rfl dX10_valueOf_78 ?_
        refine j_iload_n (pc := 81) hX 2 rfl dX10_valueOf_81 ?_
        refine j_iald (pc := 82) (n := 128) hX rfl dX10_valueOf_82 (fun _ => ?_)
        refine j_lald (pc := 83) (n := 64) hX rfl dX10_valueOf_83 (fun _ => ?_)
        refine j_lstore (pc := 84) hX (fun x2 => [(4, .long x2), (2, .long x1), (0, .ref (xz X + 0)), (1, .int a1)]) (fun _ => rfl) (Nat.le_of_ble_eq_true rfl) dX10_valueOf_84 (fun x2 => ?_)
        refine j_aload_n (pc := 86) hX 2 rfl dX10_valueOf_86 ?_
        refine j_getR (pc := 87) hX fgX10_78.1 fgX10_78.2 rfl rfl dX10_valueOf_87 ?_
        refine j_iload_n (pc := 90) hX 3 rfl dX10_valueOf_90 ?_
        refine j_iald (pc := 91) (n := 128) hX rfl dX10_valueOf_91 (fun _ => ?_)
        refine j_ite (fun c3 => ?_) (fun c3 => ?_)
        · refine j_tabIn (pc := 92) (tgt := 156) hX (3) (by rw [c3]; rfl) (by decide) (by decide) rfl rfl dX10_valueOf_92 ?_
          refine j_lload_n (pc := 156) hX 1 rfl dX10_valueOf_156 ?_
          refine j_lconst (pc := 157) (v := 0) hX rfl dX10_valueOf_157 ?_
          refine j_lcmp (pc := 158) hX dX10_valueOf_158 ?_
          refine j_ifeq (pc := 159) (tgt := 173) hX rfl dX10_valueOf_159 (fun _ => ?_) (fun _ => ?_)
          · refine j_lconst (pc := 173) (v := 0) hX rfl dX10_valueOf_173 ?_
            exact j_lret (pc := 174) hX hr dX10_valueOf_174
          · refine j_lload (pc := 162) hX 0 rfl dX10_valueOf_162 ?_
            refine j_lconst (pc := 164) (v := 0) hX rfl dX10_valueOf_164 ?_
            refine j_lcmp (pc := 165) hX dX10_valueOf_165 ?_
            refine j_ifeq (pc := 166) (tgt := 173) hX rfl dX10_valueOf_166 (fun _ => ?_) (fun _ => ?_)
            · refine j_lconst (pc := 173) (v := 0) hX rfl dX10_valueOf_173 ?_
              exact j_lret (pc := 174) hX hr dX10_valueOf_174
            · refine j_lconst (pc := 169) (v := 1) hX rfl dX10_valueOf_169 ?_
              refine j_goto (pc := 170) (tgt := 174) hX rfl dX10_valueOf_170 ?_
              exact j_lret (pc := 174) hX hr dX10_valueOf_174
        · skip
          refine j_ite (fun c4 => ?_) (fun c4 => ?_)
          · refine j_tabIn (pc := 92) (tgt := 175) hX (4) (by rw [c4]; rfl) (by decide) (by decide) rfl rfl dX10_valueOf_92 ?_
            refine j_lload_n (pc := 175) hX 1 rfl dX10_valueOf_175 ?_
            refine j_lconst (pc := 176) (v := 0) hX rfl dX10_valueOf_176 ?_
            refine j_lcmp (pc := 177) hX dX10_valueOf_177 ?_
            refine j_ifne (pc := 178) (tgt := 188) hX rfl dX10_valueOf_178 (fun _ => ?_) (fun _ => ?_)
            · refine j_lload (pc := 181) hX 0 rfl dX10_valueOf_181 ?_
              refine j_lconst (pc := 183) (v := 0) hX rfl dX10_valueOf_183 ?_
              refine j_lcmp (pc := 184) hX dX10_valueOf_184 ?_
              refine j_ifeq (pc := 185) (tgt := 192) hX rfl dX10_valueOf_185 (fun _ => ?_) (fun _ => ?_)
              · refine j_lconst (pc := 192) (v := 0) hX rfl dX10_valueOf_192 ?_
                exact j_lret (pc := 193) hX hr dX10_valueOf_193
              · refine j_lconst (pc := 188) (v := 1) hX rfl dX10_valueOf_188 ?_
                refine j_goto (pc := 189) (tgt := 193) hX rfl dX10_valueOf_189 ?_
                exact j_lret (pc := 193) hX hr dX10_valueOf_193
            · refine j_lconst (pc := 188) (v := 1) hX rfl dX10_valueOf_188 ?_
              refine j_goto (pc := 189) (tgt := 193) hX rfl dX10_valueOf_189 ?_
              exact j_lret (pc := 193) hX hr dX10_valueOf_193
          · skip
            refine j_ite (fun c5 => ?_) (fun c5 => ?_)
            · refine j_tabIn (pc := 92) (tgt := 194) hX (11) (by rw [c5]; rfl) (by decide) (by decide) rfl rfl dX10_valueOf_92 ?_
              refine j_aload_n (pc := 194) hX 2 rfl dX10_valueOf_194 ?_
              refine j_lload_n (pc := 195) hX 1 rfl dX10_valueOf_195 ?_
              refine j_lload (pc := 196) hX 0 rfl dX10_valueOf_196 ?_
              refine j_ladd (pc := 198) hX dX10_valueOf_198 ?_
              refine j_callVL (pc := 199) (a := 0) (As := fun z => [.long (x1 + x2)]) (rest := []) hX (fun r e => m_t_bounded (x1 + x2) h r e) ymX10_bounded (lw_V q2056 q2058 qs105 q154 q2059) rfl ckX10 rfl ⟨Nat.le_of_ble_eq_true rfl, Nat.le_of_ble_eq_true rfl⟩ rfl rfl (Nat.le_of_ble_eq_true rfl) dX10_valueOf_199 (fun r6 h7 => ?_)
              exact j_lret (pc := 202) hX hr dX10_valueOf_202
            · skip
              refine j_ite (fun c8 => ?_) (fun c8 => ?_)
              · refine j_tabIn (pc := 92) (tgt := 203) hX (12) (by rw [c8]; rfl) (by decide) (by decide) rfl rfl dX10_valueOf_92 ?_
                refine j_aload_n (pc := 203) hX 2 rfl dX10_valueOf_203 ?_
                refine j_lload_n (pc := 204) hX 1 rfl dX10_valueOf_204 ?_
                refine j_lload (pc := 205) hX 0 rfl dX10_valueOf_205 ?_
                refine j_lsub (pc := 207) hX dX10_valueOf_207 ?_
                refine j_callVL (pc := 208) (a := 0) (As := fun z => [.long (x1 - x2)]) (rest := []) hX (fun r e => m_t_bounded (x1 - x2) h r e) ymX10_bounded (lw_V q2056 q2058 qs105 q154 q2059) rfl ckX10 rfl ⟨Nat.le_of_ble_eq_true rfl, Nat.le_of_ble_eq_true rfl⟩ rfl rfl (Nat.le_of_ble_eq_true rfl) dX10_valueOf_208 (fun r9 h10 => ?_)
                exact j_lret (pc := 211) hX hr dX10_valueOf_211
              · skip
                refine j_ite (fun c11 => ?_) (fun c11 => ?_)
                · refine j_tabIn (pc := 92) (tgt := 212) hX (13) (by rw [c11]; rfl) (by decide) (by decide) rfl rfl dX10_valueOf_92 ?_
                  refine j_aload_n (pc := 212) hX 2 rfl dX10_valueOf_212 ?_
                  refine j_lload_n (pc := 213) hX 1 rfl dX10_valueOf_213 ?_
                  refine j_lload (pc := 214) hX 0 rfl dX10_valueOf_214 ?_
                  refine j_callVL (pc := 216) (a := 0) (As := fun z => [.long x1, .long x2]) (rest := []) hX (fun r e => m_t_times x1 x2 h r e) ymX10_times (lw_V q2062 q2064 qs106 q154 q2065) rfl ckX10 rfl ⟨Nat.le_of_ble_eq_true rfl, Nat.le_of_ble_eq_true rfl⟩ rfl rfl (Nat.le_of_ble_eq_true rfl) dX10_valueOf_216 (fun r12 h13 => ?_)
                  exact j_lret (pc := 219) hX hr dX10_valueOf_219
                · skip
                  refine j_ite (fun c14 => ?_) (fun c14 => ?_)
                  · refine j_tabIn (pc := 92) (tgt := 220) hX (14) (by rw [c14]; rfl) (by decide) (by decide) rfl rfl dX10_valueOf_92 ?_
                    refine j_aload_n (pc := 220) hX 2 rfl dX10_valueOf_220 ?_
                    refine j_aload_n (pc := 221) hX 2 rfl dX10_valueOf_221 ?_
                    refine j_getI (pc := 222) hX fgX10_342.1 fgX10_342.2 rfl dX10_valueOf_222 ?_
                    refine j_jon (fun (j15 : Int32 → Option (Int64 × HP)) => ∀ (s16 : Int32), jG mV X evL rr (j15 s16) 240 [(0, .ref (xz X + 0)), (2, .long x1), (4, .long x2)] [.int s16, .ref (xz X + 0)] h) ?_ ?_
                    · intro s16
                      refine j_grd fun g18 => ?_
                      refine j_putZ (pc := 240) hX g18 fwX10_342.1 fwX10_342.2 rfl dX10_valueOf_240 (fun h17 => ?_)
                      refine j_aload_n (pc := 243) hX 0 rfl dX10_valueOf_243 ?_
                      refine j_getI (pc := 244) hX fgX10_342.1 fgX10_342.2 rfl dX10_valueOf_244 ?_
                      refine j_ifeq (pc := 247) (tgt := 254) hX rfl dX10_valueOf_247 (fun _ => ?_) (fun _ => ?_)
                      · refine j_lload_n (pc := 254) hX 1 rfl dX10_valueOf_254 ?_
                        refine j_lload (pc := 255) hX 2 rfl dX10_valueOf_255 ?_
                        refine j_ldiv (pc := 257) hX dX10_valueOf_257 (fun _ => ?_)
                        exact j_lret (pc := 258) hX hr dX10_valueOf_258
                      · refine j_lconst (pc := 250) (v := 0) hX rfl dX10_valueOf_250 ?_
                        refine j_goto (pc := 251) (tgt := 258) hX rfl dX10_valueOf_251 ?_
                        exact j_lret (pc := 258) hX hr dX10_valueOf_258
                    · intro j15 hj15
                      refine j_jon (fun (j19 : Unit → Option (Int64 × HP)) => ∀ (_u : Unit), jG mV X evL rr (j19 ()) 235 [(0, .ref (xz X + 0)), (2, .long x1), (4, .long x2)] [.ref (xz X + 0)] h) ?_ ?_
                      · intro _
                        refine j_iconst (pc := 235) hX ic_1 dX10_valueOf_235 ?_
                        refine j_goto (pc := 236) (tgt := 240) hX rfl dX10_valueOf_236 ?_
                        exact hj15 (1 : Int32)
                      · intro j19 hj19
                        refine j_ifne (pc := 225) (tgt := 235) hX rfl dX10_valueOf_225 (fun _ => ?_) (fun _ => ?_)
                        · refine j_lload (pc := 228) hX 0 rfl dX10_valueOf_228 ?_
                          refine j_lconst (pc := 230) (v := 0) hX rfl dX10_valueOf_230 ?_
                          refine j_lcmp (pc := 231) hX dX10_valueOf_231 ?_
                          refine j_ifne (pc := 232) (tgt := 239) hX rfl dX10_valueOf_232 (fun _ => ?_) (fun _ => ?_)
                          · refine j_locs [2, 1, 0] rfl ?_
                            exact hj19 ()
                          · refine j_iconst (pc := 239) hX ic_0 dX10_valueOf_239 ?_
                            refine j_locs [2, 1, 0] rfl ?_
                            exact hj15 (0 : Int32)
                        · refine j_locs [2, 1, 0] rfl ?_
                          exact hj19 ()
                  · skip
                    refine j_tabD (pc := 92) (tgt := 259) hX (fun n hn h1 h2 => ?_) rfl dX10_valueOf_92 ?_
                    · rcases (show n = 3 ∨ n = 4 ∨ n = 5 ∨ n = 6 ∨ n = 7 ∨ n = 8 ∨ n = 9 ∨ n = 10 ∨ n = 11 ∨ n = 12 ∨ n = 13 ∨ n = 14 by omega) with rfl | rfl | rfl | rfl | rfl | rfl | rfl | rfl | rfl | rfl | rfl | rfl
                      · exact absurd hn (lv_neT c3 rfl)
                      · exact absurd hn (lv_neT c4 rfl)
                      · rfl
                      · rfl
                      · rfl
                      · rfl
                      · rfl
                      · rfl
                      · exact absurd hn (lv_neT c5 rfl)
                      · exact absurd hn (lv_neT c8 rfl)
                      · exact absurd hn (lv_neT c11 rfl)
                      · exact absurd hn (lv_neT c14 rfl)
                    · refine j_aload_n (pc := 259) hX 2 rfl dX10_valueOf_259 ?_
                      refine j_getR (pc := 260) hX fgX10_78.1 fgX10_78.2 rfl rfl dX10_valueOf_260 ?_
                      refine j_iload_n (pc := 263) hX 3 rfl dX10_valueOf_263 ?_
                      refine j_iald (pc := 264) (n := 128) hX rfl dX10_valueOf_264 (fun _ => ?_)
                      refine j_lload_n (pc := 265) hX 1 rfl dX10_valueOf_265 ?_
                      refine j_lload (pc := 266) hX 0 rfl dX10_valueOf_266 ?_
                      refine j_callSI (pc := 268) (As := fun z => [.int (gI h 22 (a1).toNatClampNeg), .long x1, .long x2]) (rest := []) hX (fun r e => m_t_compares (gI h 22 (a1).toNatClampNeg) x1 x2 h r e) ymX10_compares (lw_S q2066 q2067 q154 q2068) ⟨Nat.le_of_ble_eq_true rfl, Nat.le_of_ble_eq_true rfl⟩ rfl rfl (Nat.le_of_ble_eq_true rfl) dX10_valueOf_268 (fun r20 h21 => ?_)
                      refine j_ifeq (pc := 271) (tgt := 278) hX rfl dX10_valueOf_271 (fun _ => ?_) (fun _ => ?_)
                      · refine j_lconst (pc := 278) (v := 0) hX rfl dX10_valueOf_278 ?_
                        exact j_lret (pc := 279) hX hr dX10_valueOf_279
                      · refine j_lconst (pc := 274) (v := 1) hX rfl dX10_valueOf_274 ?_
                        refine j_goto (pc := 275) (tgt := 279) hX rfl dX10_valueOf_275 ?_
                        exact j_lret (pc := 279) hX hr dX10_valueOf_279
set_option maxHeartbeats 4000000 in
set_option maxRecDepth 100000 in
theorem m_lawOf_12_w {X : CTX} {rr : Int64 × HP} (hX : okX mV X rr cX10_lawOf RX10 3 3 50) (hr : (xh X).sig.returnType = some .long) (f1 : Int32) (k : HP → Option (Int64 × HP)) (hk : ∀ (h : HP), jG mV X evL rr (k h) 39 [(0, .ref (xz X + 0)), (1, .int f1)] [] h) : ∀ (n : Nat) (v2 : Int32) (h : HP), jG mV X evL rr (m_lawOf_12 f1 k n v2 h) 12 [(0, .ref (xz X + 0)), (1, .int f1), (2, .int v2)] [] h := by
  intro n
  induction n with
  | zero =>
    intro v2 h
    exact j_none
  | succ n ih =>
    intro v2 h
    rw [m_lawOf_12]
    refine j_iload_n (pc := 12) hX 2 rfl dX10_lawOf_12 ?_
    refine j_aload_n (pc := 13) hX 0 rfl dX10_lawOf_13 ?_
    refine j_getR (pc := 14) hX fgX10_75.1 fgX10_75.2 rfl rfl dX10_lawOf_14 ?_
    refine j_iload_n (pc := 17) hX 1 rfl dX10_lawOf_17 ?_
    refine j_iald (pc := 18) (n := 4) hX rfl dX10_lawOf_18 (fun _ => ?_)
    refine j_cge (pc := 19) (tgt := 39) hX rfl dX10_lawOf_19 (fun _ => ?_) (fun _ => ?_)
    · refine j_locs [0, 1] rfl ?_
      exact hk h
    · refine j_aload_n (pc := 22) hX 0 rfl dX10_lawOf_22 ?_
      refine j_getR (pc := 23) hX fgX10_97.1 fgX10_97.2 rfl rfl dX10_lawOf_23 ?_
      refine j_iload_n (pc := 26) hX 2 rfl dX10_lawOf_26 ?_
      refine j_aload_n (pc := 27) hX 0 rfl dX10_lawOf_27 ?_
      refine j_iload_n (pc := 28) hX 2 rfl dX10_lawOf_28 ?_
      refine j_callVL (pc := 29) (a := 0) (As := fun z => [.int v2]) (rest := [.int v2, .ref (xz X + 28)]) hX (fun r e => m_t_valueOf v2 h r e) ymX10_valueOf (lw_V q2052 q2054 qs104 q154 q2055) rfl ckX10 rfl ⟨Nat.le_of_ble_eq_true rfl, Nat.le_of_ble_eq_true rfl⟩ rfl rfl (Nat.le_of_ble_eq_true rfl) dX10_lawOf_29 (fun r3 h4 => ?_)
      refine j_last (pc := 32) (n := 64) hX rfl dX10_lawOf_32 (fun _ h5 => ?_)
      refine j_iinc (pc := 33) hX 2 rfl (1 : Int32) ic_1 (fun x6 => [(2, .int x6), (0, .ref (xz X + 0)), (1, .int f1)]) (fun _ => rfl) (Nat.le_of_ble_eq_true rfl) dX10_lawOf_33 (fun x6 => ?_)
      refine j_goto (pc := 36) (tgt := 12) hX rfl dX10_lawOf_36 ?_
      refine j_locs [1, 2, 0] rfl ?_
      exact ih x6 h5
set_option maxHeartbeats 4000000 in
set_option maxRecDepth 100000 in
theorem m_t_lawOf (a1 : Int32) (h : HP) (rr : Int64 × HP) (e : m_lawOf a1 h = some rr) : Cn mV yX10_lawOf (ws_ yX10_lawOf cX10_lawOf 3 (some .long)) 3 50 (fun z => [.ref (z + 0), .int a1]) h (fun z => eL z rr.1) rr.2 := by
  refine cn_of (e1 := eL) (fun z => [(0, .ref (z + 0)), (1, .int a1)]) mV_ok ⟨Nat.le_refl _, Nat.le_refl _⟩ ymX10_lawOf (fun _ => rfl) (fun _ => Nat.le_of_ble_eq_true rfl) (fun X hX hr _ => ?_) e
  have hX : okX mV X rr cX10_lawOf RX10 3 3 50 := hX
  rw [m_lawOf]
  refine j_aload_n (pc := 0) hX 0 rfl dX10_lawOf_0 ?_
  refine j_iconst (pc := 1) hX ic_0 dX10_lawOf_1 ?_
  refine j_putZ (pc := 2) hX (Or.inl rfl) fwX10_342.1 fwX10_342.2 rfl dX10_lawOf_2 (fun h1 => ?_)
  refine j_aload_n (pc := 5) hX 0 rfl dX10_lawOf_5 ?_
  refine j_getR (pc := 6) hX fgX10_72.1 fgX10_72.2 rfl rfl dX10_lawOf_6 ?_
  refine j_iload_n (pc := 9) hX 1 rfl dX10_lawOf_9 ?_
  refine j_iald (pc := 10) (n := 4) hX rfl dX10_lawOf_10 (fun _ => ?_)
  refine j_istore_n (pc := 11) hX (fun x2 => [(2, .int x2), (0, .ref (xz X + 0)), (1, .int a1)]) (fun _ => rfl) (Nat.le_of_ble_eq_true rfl) dX10_lawOf_11 (fun x2 => ?_)
  refine j_locs [1, 2, 0] rfl ?_
  refine m_lawOf_12_w hX hr a1 _ (fun  h7 => ?_) FU x2 h1
  refine j_aload_n (pc := 39) hX 0 rfl dX10_lawOf_39 ?_
  refine j_getI (pc := 40) hX fgX10_342.1 fgX10_342.2 rfl dX10_lawOf_40 ?_
  refine j_ifeq (pc := 43) (tgt := 50) hX rfl dX10_lawOf_43 (fun _ => ?_) (fun _ => ?_)
  · refine j_aload_n (pc := 50) hX 0 rfl dX10_lawOf_50 ?_
    refine j_getR (pc := 51) hX fgX10_97.1 fgX10_97.2 rfl rfl dX10_lawOf_51 ?_
    refine j_aload_n (pc := 54) hX 0 rfl dX10_lawOf_54 ?_
    refine j_getR (pc := 55) hX fgX10_75.1 fgX10_75.2 rfl rfl dX10_lawOf_55 ?_
    refine j_iload_n (pc := 58) hX 1 rfl dX10_lawOf_58 ?_
    refine j_iald (pc := 59) (n := 4) hX rfl dX10_lawOf_59 (fun _ => ?_)
    refine j_iconst (pc := 60) hX ic_1 dX10_lawOf_60 ?_
    refine j_isub (pc := 61) hX dX10_lawOf_61 ?_
    refine j_lald (pc := 62) (n := 64) hX rfl dX10_lawOf_62 (fun _ => ?_)
    exact j_lret (pc := 63) hX hr dX10_lawOf_63
  · refine j_lconst (pc := 46) (v := 0) hX rfl dX10_lawOf_46 ?_
    refine j_goto (pc := 47) (tgt := 63) hX rfl dX10_lawOf_47 ?_
    exact j_lret (pc := 63) hX hr dX10_lawOf_63
set_option maxHeartbeats 4000000 in
set_option maxRecDepth 100000 in
theorem m_t_law (a1 : Int32) (a2 : Int32) (a3 : Int32) (h : HP) (rr : Int64 × HP) (e : m_law a1 a2 a3 h = some rr) : Cn mV yX10_law (ws_ yX10_law cX10_law 6 (some .long)) 4 72 (fun z => [.ref (z + 0), .int a1, .int a2, .int a3]) h (fun z => eL z rr.1) rr.2 := by
  refine cn_of (e1 := eL) (fun z => [(0, .ref (z + 0)), (1, .int a1), (2, .int a2), (3, .int a3)]) mV_ok ⟨Nat.le_refl _, Nat.le_refl _⟩ ymX10_law (fun _ => rfl) (fun _ => Nat.le_of_ble_eq_true rfl) (fun X hX hr _ => ?_) e
  have hX : okX mV X rr cX10_law RX10 6 4 72 := hX
  rw [m_law]
  refine j_aload_n (pc := 0) hX 0 rfl dX10_law_0 ?_
  refine j_iconst (pc := 1) hX ic_0 dX10_law_1 ?_
  refine j_putI (pc := 2) hX fwX10_148.1 fwX10_148.2 rfl dX10_law_2 (fun h1 => ?_)
  refine j_iload_n (pc := 5) hX 1 rfl dX10_law_5 ?_
  refine j_iconst (pc := 6) hX ic_0 dX10_law_6 ?_
  refine j_iconst (pc := 7) hX ic_1 dX10_law_7 ?_
  refine j_callSI (pc := 8) (As := fun z => [.int a1, .int (0 : Int32), .int (1 : Int32)]) (rest := []) hX (fun r e => m_t_isIn a1 (0 : Int32) (1 : Int32) h1 r e) ymX10_isIn (lw_S q1915 q1916 q154 q1917) ⟨Nat.le_of_ble_eq_true rfl, Nat.le_of_ble_eq_true rfl⟩ rfl rfl (Nat.le_of_ble_eq_true rfl) dX10_law_8 (fun r2 h3 => ?_)
  refine j_ifeq (pc := 11) (tgt := 39) hX rfl dX10_law_11 (fun _ => ?_) (fun _ => ?_)
  · refine j_ldc2 (pc := 39) hX q2036 dX10_law_39 ?_
    exact j_lret (pc := 42) hX hr dX10_law_42
  · refine j_aload_n (pc := 14) hX 0 rfl dX10_law_14 ?_
    refine j_getR (pc := 15) hX fgX10_69.1 fgX10_69.2 rfl rfl dX10_law_15 ?_
    refine j_iload_n (pc := 18) hX 1 rfl dX10_law_18 ?_
    refine j_zald (pc := 19) (n := 4) hX rfl dX10_law_19 (fun _ => ?_)
    refine j_ifeq (pc := 20) (tgt := 39) hX rfl dX10_law_20 (fun _ => ?_) (fun _ => ?_)
    · refine j_ldc2 (pc := 39) hX q2036 dX10_law_39 ?_
      exact j_lret (pc := 42) hX hr dX10_law_42
    · refine j_aload_n (pc := 23) hX 0 rfl dX10_law_23 ?_
      refine j_iload_n (pc := 24) hX 2 rfl dX10_law_24 ?_
      refine j_callVI (pc := 25) (a := 0) (As := fun z => [.int a2]) (rest := []) hX (fun r e => m_t_isPerson a2 h3 r e) ymX10_isPerson (lw_V q2004 q2006 qs96 q154 q2007) rfl ckX10 rfl ⟨Nat.le_of_ble_eq_true rfl, Nat.le_of_ble_eq_true rfl⟩ rfl rfl (Nat.le_of_ble_eq_true rfl) dX10_law_25 (fun r4 h5 => ?_)
      refine j_ifeq (pc := 28) (tgt := 39) hX rfl dX10_law_28 (fun _ => ?_) (fun _ => ?_)
      · refine j_ldc2 (pc := 39) hX q2036 dX10_law_39 ?_
        exact j_lret (pc := 42) hX hr dX10_law_42
      · refine j_aload_n (pc := 31) hX 0 rfl dX10_law_31 ?_
        refine j_iload_n (pc := 32) hX 3 rfl dX10_law_32 ?_
        refine j_callVI (pc := 33) (a := 0) (As := fun z => [.int a3]) (rest := []) hX (fun r e => m_t_isQuestion a3 h5 r e) ymX10_isQuestion (lw_V q2016 q2018 qs98 q154 q2019) rfl ckX10 rfl ⟨Nat.le_of_ble_eq_true rfl, Nat.le_of_ble_eq_true rfl⟩ rfl rfl (Nat.le_of_ble_eq_true rfl) dX10_law_33 (fun r6 h7 => ?_)
        refine j_ifne (pc := 36) (tgt := 43) hX rfl dX10_law_36 (fun _ => ?_) (fun _ => ?_)
        · refine j_ldc2 (pc := 39) hX q2036 dX10_law_39 ?_
          exact j_lret (pc := 42) hX hr dX10_law_42
        · refine j_aload_n (pc := 43) hX 0 rfl dX10_law_43 ?_
          refine j_callVV (pc := 44) (a := 0) (As := fun z => []) (rest := []) hX (fun r e => m_t_plainTried h7 r e) ymX10_plainTried (lw_V q1603 q1605 qs66 q154 q1606) rfl ckX10 rfl ⟨Nat.le_of_ble_eq_true rfl, Nat.le_of_ble_eq_true rfl⟩ rfl rfl (Nat.le_of_ble_eq_true rfl) dX10_law_44 (fun r8 h9 => ?_)
          refine j_aload_n (pc := 47) hX 0 rfl dX10_law_47 ?_
          refine j_iconst (pc := 48) hX ic_0 dX10_law_48 ?_
          refine j_iload_n (pc := 49) hX 2 rfl dX10_law_49 ?_
          refine j_iload_n (pc := 50) hX 3 rfl dX10_law_50 ?_
          refine j_callVV (pc := 51) (a := 0) (As := fun z => [.int (0 : Int32), .int a2, .int a3]) (rest := []) hX (fun r e => m_t_layNames (0 : Int32) a2 a3 h9 r e) ymX10_layNames (lw_V q2037 q2039 qs101 q154 q2040) rfl ckX10 rfl ⟨Nat.le_of_ble_eq_true rfl, Nat.le_of_ble_eq_true rfl⟩ rfl rfl (Nat.le_of_ble_eq_true rfl) dX10_law_51 (fun r10 h11 => ?_)
          refine j_aload_n (pc := 54) hX 0 rfl dX10_law_54 ?_
          refine j_iload_n (pc := 55) hX 1 rfl dX10_law_55 ?_
          refine j_callVL (pc := 56) (a := 0) (As := fun z => [.int a1]) (rest := []) hX (fun r e => m_t_lawOf a1 h11 r e) ymX10_lawOf (lw_V q2048 q2050 qs103 q154 q2051) rfl ckX10 rfl ⟨Nat.le_of_ble_eq_true rfl, Nat.le_of_ble_eq_true rfl⟩ rfl rfl (Nat.le_of_ble_eq_true rfl) dX10_law_56 (fun r12 h13 => ?_)
          refine j_lstore (pc := 59) hX (fun x14 => [(4, .long x14), (0, .ref (xz X + 0)), (1, .int a1), (2, .int a2), (3, .int a3)]) (fun _ => rfl) (Nat.le_of_ble_eq_true rfl) dX10_law_59 (fun x14 => ?_)
          refine j_aload_n (pc := 61) hX 1 rfl dX10_law_61 ?_
          refine j_getI (pc := 62) hX fgX10_342.1 fgX10_342.2 rfl dX10_law_62 ?_
          refine j_ifeq (pc := 65) (tgt := 74) hX rfl dX10_law_65 (fun _ => ?_) (fun _ => ?_)
          · refine j_lload (pc := 74) hX 0 rfl dX10_law_74 ?_
            exact j_lret (pc := 76) hX hr dX10_law_76
          · refine j_ldc2 (pc := 68) hX q2036 dX10_law_68 ?_
            refine j_goto (pc := 71) (tgt := 76) hX rfl dX10_law_71 ?_
            exact j_lret (pc := 76) hX hr dX10_law_76
set_option maxHeartbeats 4000000 in
set_option maxRecDepth 100000 in
theorem m_put_2_w {X : CTX} {rr : Unit × HP} (hX : okX mV X rr cX10_put RX10 4 1 0) (hr : (xh X).sig.returnType = none) (f1 : Nat) (f2 : Int32) (k : HP → Option (Unit × HP)) (hk : ∀ (h : HP), jG mV X evV rr (k h) 65 [(0, .ref (xz X + 0)), (1, .ref (xz X + f1)), (2, .int f2)] [] h) : ∀ (n : Nat) (v3 : Int32) (h : HP), jG mV X evV rr (m_put_2 f1 f2 k n v3 h) 2 [(0, .ref (xz X + 0)), (1, .ref (xz X + f1)), (2, .int f2), (3, .int v3)] [] h := by
  intro n
  induction n with
  | zero =>
    intro v3 h
    exact j_none
  | succ n ih =>
    intro v3 h
    rw [m_put_2]
    refine j_iload_n (pc := 2) hX 3 rfl dX10_put_2 ?_
    refine j_iconst (pc := 3) hX ic_5 dX10_put_3 ?_
    refine j_cge (pc := 4) (tgt := 65) hX rfl dX10_put_4 (fun _ => ?_) (fun _ => ?_)
    · refine j_locs [0, 1, 2] rfl ?_
      exact hk h
    · refine j_aload_n (pc := 7) hX 1 rfl dX10_put_7 ?_
      refine j_iload_n (pc := 8) hX 2 rfl dX10_put_8 ?_
      refine j_iload_n (pc := 9) hX 3 rfl dX10_put_9 ?_
      refine j_iadd (pc := 10) hX dX10_put_10 ?_
      refine j_aload_n (pc := 11) hX 0 rfl dX10_put_11 ?_
      refine j_getR (pc := 12) hX fgX10_100.1 fgX10_100.2 rfl rfl dX10_put_12 ?_
      refine j_iload_n (pc := 15) hX 3 rfl dX10_put_15 ?_
      refine j_iald (pc := 16) (n := 10) hX rfl dX10_put_16 (fun _ => ?_)
      refine j_grd fun g2 => ?_
      refine j_iast (pc := 17) (n := (mT f1).2) hX (mT_k g2) dX10_put_17 (fun _ h3 => ?_)
      refine j_aload_n (pc := 18) hX 1 rfl dX10_put_18 ?_
      refine j_iload_n (pc := 19) hX 2 rfl dX10_put_19 ?_
      refine j_iconst (pc := 20) hX ic_5 dX10_put_20 ?_
      refine j_iadd (pc := 21) hX dX10_put_21 ?_
      refine j_iload_n (pc := 22) hX 3 rfl dX10_put_22 ?_
      refine j_iadd (pc := 23) hX dX10_put_23 ?_
      refine j_aload_n (pc := 24) hX 0 rfl dX10_put_24 ?_
      refine j_getR (pc := 25) hX fgX10_103.1 fgX10_103.2 rfl rfl dX10_put_25 ?_
      refine j_iload_n (pc := 28) hX 3 rfl dX10_put_28 ?_
      refine j_iald (pc := 29) (n := 10) hX rfl dX10_put_29 (fun _ => ?_)
      refine j_iast (pc := 30) (n := (mT f1).2) hX (mT_k g2) dX10_put_30 (fun _ h4 => ?_)
      refine j_aload_n (pc := 31) hX 1 rfl dX10_put_31 ?_
      refine j_iload_n (pc := 32) hX 2 rfl dX10_put_32 ?_
      refine j_bipush (pc := 33) hX bp_10 dX10_put_33 ?_
      refine j_iadd (pc := 35) hX dX10_put_35 ?_
      refine j_iload_n (pc := 36) hX 3 rfl dX10_put_36 ?_
      refine j_iadd (pc := 37) hX dX10_put_37 ?_
      refine j_aload_n (pc := 38) hX 0 rfl dX10_put_38 ?_
      refine j_getR (pc := 39) hX fgX10_106.1 fgX10_106.2 rfl rfl dX10_put_39 ?_
      refine j_iload_n (pc := 42) hX 3 rfl dX10_put_42 ?_
      refine j_iald (pc := 43) (n := 10) hX rfl dX10_put_43 (fun _ => ?_)
      refine j_iast (pc := 44) (n := (mT f1).2) hX (mT_k g2) dX10_put_44 (fun _ h5 => ?_)
      refine j_aload_n (pc := 45) hX 1 rfl dX10_put_45 ?_
      refine j_iload_n (pc := 46) hX 2 rfl dX10_put_46 ?_
      refine j_bipush (pc := 47) hX bp_15 dX10_put_47 ?_
      refine j_iadd (pc := 49) hX dX10_put_49 ?_
      refine j_iload_n (pc := 50) hX 3 rfl dX10_put_50 ?_
      refine j_iadd (pc := 51) hX dX10_put_51 ?_
      refine j_aload_n (pc := 52) hX 0 rfl dX10_put_52 ?_
      refine j_getR (pc := 53) hX fgX10_109.1 fgX10_109.2 rfl rfl dX10_put_53 ?_
      refine j_iload_n (pc := 56) hX 3 rfl dX10_put_56 ?_
      refine j_iald (pc := 57) (n := 10) hX rfl dX10_put_57 (fun _ => ?_)
      refine j_iast (pc := 58) (n := (mT f1).2) hX (mT_k g2) dX10_put_58 (fun _ h6 => ?_)
      refine j_iinc (pc := 59) hX 3 rfl (1 : Int32) ic_1 (fun x7 => [(3, .int x7), (0, .ref (xz X + 0)), (1, .ref (xz X + f1)), (2, .int f2)]) (fun _ => rfl) (Nat.le_of_ble_eq_true rfl) dX10_put_59 (fun x7 => ?_)
      refine j_goto (pc := 62) (tgt := 2) hX rfl dX10_put_62 ?_
      refine j_locs [1, 2, 3, 0] rfl ?_
      exact ih x7 h6
set_option maxHeartbeats 4000000 in
set_option maxRecDepth 100000 in
theorem m_t_put (a1 : Nat) (a2 : Int32) (h : HP) (rr : Unit × HP) (e : m_put a1 a2 h = some rr) : Cn mV yX10_put (ws_ yX10_put cX10_put 4 (none)) 1 0 (fun z => [.ref (z + 0), .ref (z + a1), .int a2]) h (fun z => eV z rr.1) rr.2 := by
  refine cn_of (e1 := eV) (fun z => [(0, .ref (z + 0)), (1, .ref (z + a1)), (2, .int a2)]) mV_ok ⟨Nat.le_refl _, Nat.le_refl _⟩ ymX10_put (fun _ => rfl) (fun _ => Nat.le_of_ble_eq_true rfl) (fun X hX hr _ => ?_) e
  have hX : okX mV X rr cX10_put RX10 4 1 0 := hX
  rw [m_put]
  refine j_iconst (pc := 0) hX ic_0 dX10_put_0 ?_
  refine j_istore_n (pc := 1) hX (fun x1 => [(3, .int x1), (0, .ref (xz X + 0)), (1, .ref (xz X + a1)), (2, .int a2)]) (fun _ => rfl) (Nat.le_of_ble_eq_true rfl) dX10_put_1 (fun x1 => ?_)
  refine j_locs [1, 2, 3, 0] rfl ?_
  refine m_put_2_w hX hr a1 a2 _ (fun  h8 => ?_) FU x1 h
  refine j_aload_n (pc := 65) hX 1 rfl dX10_put_65 ?_
  refine j_iload_n (pc := 66) hX 2 rfl dX10_put_66 ?_
  refine j_bipush (pc := 67) hX bp_20 dX10_put_67 ?_
  refine j_iadd (pc := 69) hX dX10_put_69 ?_
  refine j_aload_n (pc := 70) hX 0 rfl dX10_put_70 ?_
  refine j_getR (pc := 71) hX fgX10_112.1 fgX10_112.2 rfl rfl dX10_put_71 ?_
  refine j_iconst (pc := 74) hX ic_0 dX10_put_74 ?_
  refine j_iald (pc := 75) (n := 2) hX rfl dX10_put_75 (fun _ => ?_)
  refine j_grd fun g9 => ?_
  refine j_iast (pc := 76) (n := (mT a1).2) hX (mT_k g9) dX10_put_76 (fun _ h10 => ?_)
  refine j_aload_n (pc := 77) hX 1 rfl dX10_put_77 ?_
  refine j_iload_n (pc := 78) hX 2 rfl dX10_put_78 ?_
  refine j_bipush (pc := 79) hX bp_21 dX10_put_79 ?_
  refine j_iadd (pc := 81) hX dX10_put_81 ?_
  refine j_aload_n (pc := 82) hX 0 rfl dX10_put_82 ?_
  refine j_getI (pc := 83) hX fgX10_364.1 fgX10_364.2 rfl dX10_put_83 ?_
  refine j_iast (pc := 86) (n := (mT a1).2) hX (mT_k g9) dX10_put_86 (fun _ h11 => ?_)
  exact j_vret (pc := 87) hX hr dX10_put_87
set_option maxHeartbeats 4000000 in
set_option maxRecDepth 100000 in
theorem m_remember_11_w {X : CTX} {rr : Unit × HP} (hX : okX mV X rr cX10_remember RX10 2 2 23) (hr : (xh X).sig.returnType = none)  (k : HP → Option (Unit × HP)) (hk : ∀ (h : HP), jG mV X evV rr (k h) 39 [(0, .ref (xz X + 0))] [] h) : ∀ (n : Nat) (v1 : Int32) (h : HP), jG mV X evV rr (m_remember_11 k n v1 h) 11 [(0, .ref (xz X + 0)), (1, .int v1)] [] h := by
  intro n
  induction n with
  | zero =>
    intro v1 h
    exact j_none
  | succ n ih =>
    intro v1 h
    rw [m_remember_11]
    refine j_iload_n (pc := 11) hX 1 rfl dX10_remember_11 ?_
    refine j_sipush (pc := 12) hX sp_418 dX10_remember_12 ?_
    refine j_cge (pc := 15) (tgt := 39) hX rfl dX10_remember_15 (fun _ => ?_) (fun _ => ?_)
    · refine j_locs [0] rfl ?_
      exact hk h
    · refine j_aload_n (pc := 18) hX 0 rfl dX10_remember_18 ?_
      refine j_getR (pc := 19) hX fgX10_133.1 fgX10_133.2 rfl rfl dX10_remember_19 ?_
      refine j_iload_n (pc := 22) hX 1 rfl dX10_remember_22 ?_
      refine j_aload_n (pc := 23) hX 0 rfl dX10_remember_23 ?_
      refine j_getR (pc := 24) hX fgX10_133.1 fgX10_133.2 rfl rfl dX10_remember_24 ?_
      refine j_iload_n (pc := 27) hX 1 rfl dX10_remember_27 ?_
      refine j_bipush (pc := 28) hX bp_22 dX10_remember_28 ?_
      refine j_iadd (pc := 30) hX dX10_remember_30 ?_
      refine j_iald (pc := 31) (n := 440) hX rfl dX10_remember_31 (fun _ => ?_)
      refine j_iast (pc := 32) (n := 440) hX rfl dX10_remember_32 (fun _ h8 => ?_)
      refine j_iinc (pc := 33) hX 1 rfl (1 : Int32) ic_1 (fun x9 => [(1, .int x9), (0, .ref (xz X + 0))]) (fun _ => rfl) (Nat.le_of_ble_eq_true rfl) dX10_remember_33 (fun x9 => ?_)
      refine j_goto (pc := 36) (tgt := 11) hX rfl dX10_remember_36 ?_
      refine j_locs [1, 0] rfl ?_
      exact ih x9 h8
set_option maxHeartbeats 4000000 in
set_option maxRecDepth 100000 in
theorem m_remember_41_w {X : CTX} {rr : Unit × HP} (hX : okX mV X rr cX10_remember RX10 2 2 23) (hr : (xh X).sig.returnType = none)  (k : HP → Option (Unit × HP)) (hk : ∀ (h : HP), jG mV X evV rr (k h) 67 [(0, .ref (xz X + 0))] [] h) : ∀ (n : Nat) (v1 : Int32) (h : HP), jG mV X evV rr (m_remember_41 k n v1 h) 41 [(0, .ref (xz X + 0)), (1, .int v1)] [] h := by
  intro n
  induction n with
  | zero =>
    intro v1 h
    exact j_none
  | succ n ih =>
    intro v1 h
    rw [m_remember_41]
    refine j_iload_n (pc := 41) hX 1 rfl dX10_remember_41 ?_
    refine j_bipush (pc := 42) hX bp_19 dX10_remember_42 ?_
    refine j_cge (pc := 44) (tgt := 67) hX rfl dX10_remember_44 (fun _ => ?_) (fun _ => ?_)
    · refine j_locs [0] rfl ?_
      exact hk h
    · refine j_aload_n (pc := 47) hX 0 rfl dX10_remember_47 ?_
      refine j_getR (pc := 48) hX fgX10_136.1 fgX10_136.2 rfl rfl dX10_remember_48 ?_
      refine j_iload_n (pc := 51) hX 1 rfl dX10_remember_51 ?_
      refine j_aload_n (pc := 52) hX 0 rfl dX10_remember_52 ?_
      refine j_getR (pc := 53) hX fgX10_136.1 fgX10_136.2 rfl rfl dX10_remember_53 ?_
      refine j_iload_n (pc := 56) hX 1 rfl dX10_remember_56 ?_
      refine j_iconst (pc := 57) hX ic_1 dX10_remember_57 ?_
      refine j_iadd (pc := 58) hX dX10_remember_58 ?_
      refine j_lald (pc := 59) (n := 20) hX rfl dX10_remember_59 (fun _ => ?_)
      refine j_last (pc := 60) (n := 20) hX rfl dX10_remember_60 (fun _ h12 => ?_)
      refine j_iinc (pc := 61) hX 1 rfl (1 : Int32) ic_1 (fun x13 => [(1, .int x13), (0, .ref (xz X + 0))]) (fun _ => rfl) (Nat.le_of_ble_eq_true rfl) dX10_remember_61 (fun x13 => ?_)
      refine j_goto (pc := 64) (tgt := 41) hX rfl dX10_remember_64 ?_
      refine j_locs [1, 0] rfl ?_
      exact ih x13 h12
set_option maxHeartbeats 4000000 in
set_option maxRecDepth 100000 in
theorem m_t_remember  (h : HP) (rr : Unit × HP) (e : m_remember  h = some rr) : Cn mV yX10_remember (ws_ yX10_remember cX10_remember 2 (none)) 2 23 (fun z => [.ref (z + 0)]) h (fun z => eV z rr.1) rr.2 := by
  refine cn_of (e1 := eV) (fun z => [(0, .ref (z + 0))]) mV_ok ⟨Nat.le_refl _, Nat.le_refl _⟩ ymX10_remember (fun _ => rfl) (fun _ => Nat.le_of_ble_eq_true rfl) (fun X hX hr _ => ?_) e
  have hX : okX mV X rr cX10_remember RX10 2 2 23 := hX
  rw [m_remember]
  refine j_aload_n (pc := 0) hX 0 rfl dX10_remember_0 ?_
  refine j_getI (pc := 1) hX fgX10_377.1 fgX10_377.2 rfl dX10_remember_1 ?_
  refine j_bipush (pc := 4) hX bp_20 dX10_remember_4 ?_
  refine j_jon (fun (j1 : HP → Option (Unit × HP)) => ∀ (h2 : HP), jG mV X evV rr (j1 h2) 77 [(0, .ref (xz X + 0))] [] h2) ?_ ?_
  · intro h2
    refine j_aload_n (pc := 77) hX 0 rfl dX10_remember_77 ?_
    refine j_aload_n (pc := 78) hX 0 rfl dX10_remember_78 ?_
    refine j_getR (pc := 79) hX fgX10_133.1 fgX10_133.2 rfl rfl dX10_remember_79 ?_
    refine j_bipush (pc := 82) hX bp_22 dX10_remember_82 ?_
    refine j_aload_n (pc := 84) hX 0 rfl dX10_remember_84 ?_
    refine j_getI (pc := 85) hX fgX10_377.1 fgX10_377.2 rfl dX10_remember_85 ?_
    refine j_imul (pc := 88) hX dX10_remember_88 ?_
    refine j_callVV (pc := 89) (a := 0) (As := fun z => [.ref (z + 39), .int ((22 : Int32) * (gI h2 0 75))]) (rest := []) hX (fun r e => m_t_put 39 ((22 : Int32) * (gI h2 0 75)) h2 r e) ymX10_put (lw_V q2077 q2079 qs108 q154 q2080) rfl ckX10 rfl ⟨Nat.le_of_ble_eq_true rfl, Nat.le_of_ble_eq_true rfl⟩ rfl rfl (Nat.le_of_ble_eq_true rfl) dX10_remember_89 (fun r3 h4 => ?_)
    refine j_aload_n (pc := 92) hX 0 rfl dX10_remember_92 ?_
    refine j_getR (pc := 93) hX fgX10_136.1 fgX10_136.2 rfl rfl dX10_remember_93 ?_
    refine j_aload_n (pc := 96) hX 0 rfl dX10_remember_96 ?_
    refine j_getI (pc := 97) hX fgX10_377.1 fgX10_377.2 rfl dX10_remember_97 ?_
    refine j_aload_n (pc := 100) hX 0 rfl dX10_remember_100 ?_
    refine j_getL (pc := 101) hX fgX10_367.1 fgX10_367.2 rfl dX10_remember_101 ?_
    refine j_last (pc := 104) (n := 20) hX rfl dX10_remember_104 (fun _ h5 => ?_)
    refine j_aload_n (pc := 105) hX 0 rfl dX10_remember_105 ?_
    refine j_dup (pc := 106) hX rfl dX10_remember_106 ?_
    refine j_getI (pc := 107) hX fgX10_377.1 fgX10_377.2 rfl dX10_remember_107 ?_
    refine j_iconst (pc := 110) hX ic_1 dX10_remember_110 ?_
    refine j_iadd (pc := 111) hX dX10_remember_111 ?_
    refine j_putI (pc := 112) hX fwX10_377.1 fwX10_377.2 rfl dX10_remember_112 (fun h6 => ?_)
    exact j_vret (pc := 115) hX hr dX10_remember_115
  · intro j1 hj1
    refine j_cne (pc := 6) (tgt := 77) hX rfl dX10_remember_6 (fun _ => ?_) (fun _ => ?_)
    · refine j_iconst (pc := 9) hX ic_0 dX10_remember_9 ?_
      refine j_istore_n (pc := 10) hX (fun x7 => [(1, .int x7), (0, .ref (xz X + 0))]) (fun _ => rfl) (Nat.le_of_ble_eq_true rfl) dX10_remember_10 (fun x7 => ?_)
      refine j_locs [1, 0] rfl ?_
      refine m_remember_11_w hX hr  _ (fun  h10 => ?_) FU x7 h
      refine j_iconst (pc := 39) hX ic_0 dX10_remember_39 ?_
      refine j_istore_n (pc := 40) hX (fun x11 => [(1, .int x11), (0, .ref (xz X + 0))]) (fun _ => rfl) (Nat.le_of_ble_eq_true rfl) dX10_remember_40 (fun x11 => ?_)
      refine j_locs [1, 0] rfl ?_
      refine m_remember_41_w hX hr  _ (fun  h14 => ?_) FU x11 h10
      refine j_aload_n (pc := 67) hX 0 rfl dX10_remember_67 ?_
      refine j_dup (pc := 68) hX rfl dX10_remember_68 ?_
      refine j_getI (pc := 69) hX fgX10_377.1 fgX10_377.2 rfl dX10_remember_69 ?_
      refine j_iconst (pc := 72) hX ic_1 dX10_remember_72 ?_
      refine j_isub (pc := 73) hX dX10_remember_73 ?_
      refine j_putI (pc := 74) hX fwX10_377.1 fwX10_377.2 rfl dX10_remember_74 (fun h15 => ?_)
      exact hj1 h15
    · exact hj1 h
set_option maxHeartbeats 4000000 in
set_option maxRecDepth 100000 in
theorem m_t_hears (a1 : Int32) (a2 : Int32) (a3 : Int32) (h : HP) (rr : Int32 × HP) (e : m_hears a1 a2 a3 h = some rr) : Cn mV yX10_hears (ws_ yX10_hears cX10_hears 7 (some .boolean)) 4 72 (fun z => [.ref (z + 0), .int a1, .int a2, .int a3]) h (fun z => eI z rr.1) rr.2 := by
  refine cn_of (e1 := eI) (fun z => [(0, .ref (z + 0)), (1, .int a1), (2, .int a2), (3, .int a3)]) mV_ok ⟨Nat.le_refl _, Nat.le_refl _⟩ ymX10_hears (fun _ => rfl) (fun _ => Nat.le_of_ble_eq_true rfl) (fun X hX hr _ => ?_) e
  have hX : okX mV X rr cX10_hears RX10 7 4 72 := hX
  rw [m_hears]
  refine j_aload_n (pc := 0) hX 0 rfl dX10_hears_0 ?_
  refine j_getR (pc := 1) hX fgX10_48.1 fgX10_48.2 rfl rfl dX10_hears_1 ?_
  refine j_iload_n (pc := 4) hX 3 rfl dX10_hears_4 ?_
  refine j_iald (pc := 5) (n := 16) hX rfl dX10_hears_5 (fun _ => ?_)
  refine j_iconst (pc := 6) hX ic_2 dX10_hears_6 ?_
  refine j_jon (fun (j1 : Int32 → HP → Option (Int32 × HP)) => ∀ (s2 : Int32) (h3 : HP), jG mV X evI rr (j1 s2 h3) 24 [(0, .ref (xz X + 0)), (1, .int a1), (2, .int a2), (3, .int a3)] [.int s2] h3) ?_ ?_
  · intro s2 h3
    refine j_istore (pc := 24) hX (fun x4 => [(4, .int x4), (0, .ref (xz X + 0)), (1, .int a1), (2, .int a2), (3, .int a3)]) (fun _ => rfl) (Nat.le_of_ble_eq_true rfl) dX10_hears_24 (fun x4 => ?_)
    refine j_aload_n (pc := 26) hX 1 rfl dX10_hears_26 ?_
    refine j_getR (pc := 27) hX fgX10_69.1 fgX10_69.2 rfl rfl dX10_hears_27 ?_
    refine j_iconst (pc := 30) hX ic_1 dX10_hears_30 ?_
    refine j_zald (pc := 31) (n := 4) hX rfl dX10_hears_31 (fun _ => ?_)
    refine j_ifne (pc := 32) (tgt := 38) hX rfl dX10_hears_32 (fun _ => ?_) (fun _ => ?_)
    · refine j_iload (pc := 35) hX 0 rfl dX10_hears_35 ?_
      refine j_grd fun g5 => ?_
      exact j_zret (pc := 37) hX g5 hr dX10_hears_37
    · refine j_aload_n (pc := 38) hX 1 rfl dX10_hears_38 ?_
      refine j_iload_n (pc := 39) hX 2 rfl dX10_hears_39 ?_
      refine j_iload_n (pc := 40) hX 3 rfl dX10_hears_40 ?_
      refine j_iload_n (pc := 41) hX 4 rfl dX10_hears_41 ?_
      refine j_callVV (pc := 42) (a := 0) (As := fun z => [.int a1, .int a2, .int a3]) (rest := []) hX (fun r e => m_t_layNames a1 a2 a3 h3 r e) ymX10_layNames (lw_V q2037 q2039 qs101 q154 q2040) rfl ckX10 rfl ⟨Nat.le_of_ble_eq_true rfl, Nat.le_of_ble_eq_true rfl⟩ rfl rfl (Nat.le_of_ble_eq_true rfl) dX10_hears_42 (fun r6 h7 => ?_)
      refine j_aload_n (pc := 45) hX 1 rfl dX10_hears_45 ?_
      refine j_iconst (pc := 46) hX ic_1 dX10_hears_46 ?_
      refine j_callVL (pc := 47) (a := 0) (As := fun z => [.int (1 : Int32)]) (rest := []) hX (fun r e => m_t_lawOf (1 : Int32) h7 r e) ymX10_lawOf (lw_V q2048 q2050 qs103 q154 q2051) rfl ckX10 rfl ⟨Nat.le_of_ble_eq_true rfl, Nat.le_of_ble_eq_true rfl⟩ rfl rfl (Nat.le_of_ble_eq_true rfl) dX10_hears_47 (fun r8 h9 => ?_)
      refine j_lstore (pc := 50) hX (fun x10 => [(5, .long x10), (4, .int x4), (0, .ref (xz X + 0)), (1, .int a1), (2, .int a2), (3, .int a3)]) (fun _ => rfl) (Nat.le_of_ble_eq_true rfl) dX10_hears_50 (fun x10 => ?_)
      refine j_aload_n (pc := 52) hX 2 rfl dX10_hears_52 ?_
      refine j_getI (pc := 53) hX fgX10_342.1 fgX10_342.2 rfl dX10_hears_53 ?_
      refine j_ifeq (pc := 56) (tgt := 64) hX rfl dX10_hears_56 (fun _ => ?_) (fun _ => ?_)
      · refine j_lload (pc := 64) hX 0 rfl dX10_hears_64 ?_
        refine j_lconst (pc := 66) (v := 0) hX rfl dX10_hears_66 ?_
        refine j_lcmp (pc := 67) hX dX10_hears_67 ?_
        refine j_ifeq (pc := 68) (tgt := 75) hX rfl dX10_hears_68 (fun _ => ?_) (fun _ => ?_)
        · refine j_iconst (pc := 75) hX ic_0 dX10_hears_75 ?_
          exact j_zret (pc := 76) hX (Or.inl rfl) hr dX10_hears_76
        · refine j_iconst (pc := 71) hX ic_1 dX10_hears_71 ?_
          refine j_goto (pc := 72) (tgt := 76) hX rfl dX10_hears_72 ?_
          exact j_zret (pc := 76) hX (Or.inr rfl) hr dX10_hears_76
      · refine j_iload (pc := 59) hX 1 rfl dX10_hears_59 ?_
        refine j_goto (pc := 61) (tgt := 76) hX rfl dX10_hears_61 ?_
        refine j_grd fun g11 => ?_
        exact j_zret (pc := 76) hX g11 hr dX10_hears_76
  · intro j1 hj1
    refine j_jon (fun (j12 : HP → Option (Int32 × HP)) => ∀ (h13 : HP), jG mV X evI rr (j12 h13) 19 [(0, .ref (xz X + 0)), (1, .int a1), (2, .int a2), (3, .int a3)] [] h13) ?_ ?_
    · intro h13
      refine j_iconst (pc := 19) hX ic_1 dX10_hears_19 ?_
      refine j_goto (pc := 20) (tgt := 24) hX rfl dX10_hears_20 ?_
      exact hj1 (1 : Int32) h13
    · intro j12 hj12
      refine j_cne (pc := 7) (tgt := 19) hX rfl dX10_hears_7 (fun _ => ?_) (fun _ => ?_)
      · refine j_aload_n (pc := 10) hX 0 rfl dX10_hears_10 ?_
        refine j_iload_n (pc := 11) hX 2 rfl dX10_hears_11 ?_
        refine j_callVI (pc := 12) (a := 0) (As := fun z => [.int a2]) (rest := []) hX (fun r e => m_t_witOf a2 h r e) ymX10_witOf (lw_V q2041 q2043 qs102 q154 q2044) rfl ckX10 rfl ⟨Nat.le_of_ble_eq_true rfl, Nat.le_of_ble_eq_true rfl⟩ rfl rfl (Nat.le_of_ble_eq_true rfl) dX10_hears_12 (fun r14 h15 => ?_)
        refine j_iconst (pc := 15) hX ic_5 dX10_hears_15 ?_
        refine j_clt (pc := 16) (tgt := 23) hX rfl dX10_hears_16 (fun _ => ?_) (fun _ => ?_)
        · refine j_iconst (pc := 23) hX ic_0 dX10_hears_23 ?_
          exact hj1 (0 : Int32) h15
        · exact hj12 h15
      · exact hj12 h
set_option maxHeartbeats 4000000 in
set_option maxRecDepth 100000 in
theorem m_t_slipOf (a1 : Int32) (a2 : Int32) (a3 : Int32) (h : HP) (rr : Int32 × HP) (e : m_slipOf a1 a2 a3 h = some rr) : Cn mV yX10_slipOf (ws_ yX10_slipOf cX10_slipOf 7 (some .int)) 4 72 (fun z => [.ref (z + 0), .int a1, .int a2, .int a3]) h (fun z => eI z rr.1) rr.2 := by
  refine cn_of (e1 := eI) (fun z => [(0, .ref (z + 0)), (1, .int a1), (2, .int a2), (3, .int a3)]) mV_ok ⟨Nat.le_refl _, Nat.le_refl _⟩ ymX10_slipOf (fun _ => rfl) (fun _ => Nat.le_of_ble_eq_true rfl) (fun X hX hr _ => ?_) e
  have hX : okX mV X rr cX10_slipOf RX10 7 4 72 := hX
  rw [m_slipOf]
  refine j_bipush (pc := 0) hX bp_10 dX10_slipOf_0 ?_
  refine j_aload_n (pc := 2) hX 0 rfl dX10_slipOf_2 ?_
  refine j_getR (pc := 3) hX fgX10_33.1 fgX10_33.2 rfl rfl dX10_slipOf_3 ?_
  refine j_iload_n (pc := 6) hX 2 rfl dX10_slipOf_6 ?_
  refine j_iald (pc := 7) (n := 10) hX rfl dX10_slipOf_7 (fun _ => ?_)
  refine j_imul (pc := 8) hX dX10_slipOf_8 ?_
  refine j_istore (pc := 9) hX (fun x1 => [(4, .int x1), (0, .ref (xz X + 0)), (1, .int a1), (2, .int a2), (3, .int a3)]) (fun _ => rfl) (Nat.le_of_ble_eq_true rfl) dX10_slipOf_9 (fun x1 => ?_)
  refine j_aload_n (pc := 11) hX 1 rfl dX10_slipOf_11 ?_
  refine j_getR (pc := 12) hX fgX10_69.1 fgX10_69.2 rfl rfl dX10_slipOf_12 ?_
  refine j_iconst (pc := 15) hX ic_0 dX10_slipOf_15 ?_
  refine j_zald (pc := 16) (n := 4) hX rfl dX10_slipOf_16 (fun _ => ?_)
  refine j_ifne (pc := 17) (tgt := 23) hX rfl dX10_slipOf_17 (fun _ => ?_) (fun _ => ?_)
  · refine j_iload (pc := 20) hX 0 rfl dX10_slipOf_20 ?_
    exact j_iret (pc := 22) hX hr dX10_slipOf_22
  · refine j_aload_n (pc := 23) hX 1 rfl dX10_slipOf_23 ?_
    refine j_iload_n (pc := 24) hX 2 rfl dX10_slipOf_24 ?_
    refine j_iload_n (pc := 25) hX 3 rfl dX10_slipOf_25 ?_
    refine j_iload_n (pc := 26) hX 4 rfl dX10_slipOf_26 ?_
    refine j_callVV (pc := 27) (a := 0) (As := fun z => [.int a1, .int a2, .int a3]) (rest := []) hX (fun r e => m_t_layNames a1 a2 a3 h r e) ymX10_layNames (lw_V q2037 q2039 qs101 q154 q2040) rfl ckX10 rfl ⟨Nat.le_of_ble_eq_true rfl, Nat.le_of_ble_eq_true rfl⟩ rfl rfl (Nat.le_of_ble_eq_true rfl) dX10_slipOf_27 (fun r2 h3 => ?_)
    refine j_aload_n (pc := 30) hX 1 rfl dX10_slipOf_30 ?_
    refine j_iconst (pc := 31) hX ic_0 dX10_slipOf_31 ?_
    refine j_callVL (pc := 32) (a := 0) (As := fun z => [.int (0 : Int32)]) (rest := []) hX (fun r e => m_t_lawOf (0 : Int32) h3 r e) ymX10_lawOf (lw_V q2048 q2050 qs103 q154 q2051) rfl ckX10 rfl ⟨Nat.le_of_ble_eq_true rfl, Nat.le_of_ble_eq_true rfl⟩ rfl rfl (Nat.le_of_ble_eq_true rfl) dX10_slipOf_32 (fun r4 h5 => ?_)
    refine j_lstore (pc := 35) hX (fun x6 => [(5, .long x6), (4, .int x1), (0, .ref (xz X + 0)), (1, .int a1), (2, .int a2), (3, .int a3)]) (fun _ => rfl) (Nat.le_of_ble_eq_true rfl) dX10_slipOf_35 (fun x6 => ?_)
    refine j_aload_n (pc := 37) hX 2 rfl dX10_slipOf_37 ?_
    refine j_getI (pc := 38) hX fgX10_342.1 fgX10_342.2 rfl dX10_slipOf_38 ?_
    refine j_ifeq (pc := 41) (tgt := 49) hX rfl dX10_slipOf_41 (fun _ => ?_) (fun _ => ?_)
    · refine j_lload (pc := 49) hX 0 rfl dX10_slipOf_49 ?_
      refine j_lconst (pc := 51) (v := 0) hX rfl dX10_slipOf_51 ?_
      refine j_lcmp (pc := 52) hX dX10_slipOf_52 ?_
      refine j_ifge (pc := 53) (tgt := 60) hX rfl dX10_slipOf_53 (fun _ => ?_) (fun _ => ?_)
      · refine j_lload (pc := 60) hX 0 rfl dX10_slipOf_60 ?_
        refine j_ldc2 (pc := 62) hX q2097 dX10_slipOf_62 ?_
        refine j_lcmp (pc := 65) hX dX10_slipOf_65 ?_
        refine j_ifle (pc := 66) (tgt := 74) hX rfl dX10_slipOf_66 (fun _ => ?_) (fun _ => ?_)
        · refine j_lload (pc := 74) hX 0 rfl dX10_slipOf_74 ?_
          refine j_l2i (pc := 76) hX dX10_slipOf_76 ?_
          exact j_iret (pc := 77) hX hr dX10_slipOf_77
        · refine j_bipush (pc := 69) hX bp_100 dX10_slipOf_69 ?_
          refine j_goto (pc := 71) (tgt := 77) hX rfl dX10_slipOf_71 ?_
          exact j_iret (pc := 77) hX hr dX10_slipOf_77
      · refine j_iconst (pc := 56) hX ic_0 dX10_slipOf_56 ?_
        refine j_goto (pc := 57) (tgt := 77) hX rfl dX10_slipOf_57 ?_
        exact j_iret (pc := 77) hX hr dX10_slipOf_77
    · refine j_iload (pc := 44) hX 1 rfl dX10_slipOf_44 ?_
      refine j_goto (pc := 46) (tgt := 77) hX rfl dX10_slipOf_46 ?_
      exact j_iret (pc := 77) hX hr dX10_slipOf_77
