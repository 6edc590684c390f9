/-! person, which throws -/
set_option maxRecDepth 100000
def dkwX1_person_5 : List UInt8 := [180, 0, 220, 27, 46, 172, 187, 0, 223, 89, 183, 0, 225, 191]
abbrev dktX1_person_5 : List UInt8 := dkwX1_person_5 ++ []
def dkwX1_person_4 : List UInt8 := [42, 180, 0, 95, 180, 0, 214, 27, 46, 172, 42, 180, 0, 95, 180, 0, 217, 27, 46, 172, 42, 180, 0, 95]
abbrev dktX1_person_4 : List UInt8 := dkwX1_person_4 ++ dktX1_person_5
def dkwX1_person_3 : List UInt8 := [180, 0, 17, 27, 182, 0, 199, 192, 0, 203, 180, 0, 208, 172, 42, 180, 0, 95, 180, 0, 211, 27, 46, 172]
abbrev dktX1_person_3 : List UInt8 := dkwX1_person_3 ++ dktX1_person_4
def dkwX1_person_2 : List UInt8 := [42, 180, 0, 13, 180, 0, 17, 27, 182, 0, 199, 192, 0, 203, 180, 0, 205, 172, 42, 180, 0, 13]
abbrev dktX1_person_2 : List UInt8 := dkwX1_person_2 ++ dktX1_person_3
def dkwX1_person_1 : List UInt8 := [170, 0, 0, 0, 0, 0, 115, 0, 0, 0, 0, 0, 0, 0, 5, 0, 0, 0, 39, 0, 0, 0, 57, 0, 0, 0, 75, 0, 0, 0, 85, 0, 0, 0, 95, 0, 0, 0, 105]
abbrev dktX1_person_1 : List UInt8 := dkwX1_person_1 ++ dktX1_person_2
def dkwX1_person_0 : List UInt8 := [42, 27, 182, 0, 192, 154, 0, 11, 187, 0, 196, 89, 183, 0, 198, 191, 28]
abbrev dktX1_person_0 : List UInt8 := dkwX1_person_0 ++ dktX1_person_1
theorem dksX1_person_0 : cX1_person.data.toList.drop 0 = dktX1_person_0 := by decide +kernel
theorem dksX1_person_1 : cX1_person.data.toList.drop 17 = dktX1_person_1 := dk_seg dksX1_person_0 17 rfl rfl
theorem dksX1_person_2 : cX1_person.data.toList.drop 56 = dktX1_person_2 := dk_seg dksX1_person_1 39 rfl rfl
theorem dksX1_person_3 : cX1_person.data.toList.drop 78 = dktX1_person_3 := dk_seg dksX1_person_2 22 rfl rfl
theorem dksX1_person_4 : cX1_person.data.toList.drop 102 = dktX1_person_4 := dk_seg dksX1_person_3 24 rfl rfl
theorem dksX1_person_5 : cX1_person.data.toList.drop 126 = dktX1_person_5 := dk_seg dksX1_person_4 24 rfl rfl
theorem dX1_person_0 : decode cX1_person 0 = .ok (.aload_n 0, 1) := dk_42 (dk_at dksX1_person_0 0 rfl rfl)
theorem dX1_person_1 : decode cX1_person 1 = .ok (.iload_n 1, 1) := dk_27 (dk_at dksX1_person_0 1 rfl rfl)
theorem dX1_person_2 : decode cX1_person 2 = .ok (.invokevirtual 192, 3) := dk_182 0 192 (dk_at dksX1_person_0 2 rfl rfl)
theorem dX1_person_5 : decode cX1_person 5 = .ok (.ifCond .ne 11, 3) := dk_154 0 11 (dk_at dksX1_person_0 5 rfl rfl)
theorem dX1_person_8 : decode cX1_person 8 = .ok (.new 196, 3) := dk_187 0 196 (dk_at dksX1_person_0 8 rfl rfl)
theorem dX1_person_11 : decode cX1_person 11 = .ok (.dup, 1) := dk_89 (dk_at dksX1_person_0 11 rfl rfl)
theorem dX1_person_12 : decode cX1_person 12 = .ok (.invokespecial 198, 3) := dk_183 0 198 (dk_at dksX1_person_0 12 rfl rfl)
theorem dX1_person_15 : decode cX1_person 15 = .ok (.athrow, 1) := dk_191 (dk_at dksX1_person_0 15 rfl rfl)
theorem dX1_person_16 : decode cX1_person 16 = .ok (.iload_n 2, 1) := dk_28 (dk_at dksX1_person_0 16 rfl rfl)
theorem dX1_person_17 : decode cX1_person 17 = .ok (.tableswitch 115 0 5 #[39, 57, 75, 85, 95, 105], 39) := by decide +kernel
theorem dX1_person_56 : decode cX1_person 56 = .ok (.aload_n 0, 1) := dk_42 (dk_at dksX1_person_2 0 rfl rfl)
theorem dX1_person_57 : decode cX1_person 57 = .ok (.getfield 13, 3) := dk_180 0 13 (dk_at dksX1_person_2 1 rfl rfl)
theorem dX1_person_60 : decode cX1_person 60 = .ok (.getfield 17, 3) := dk_180 0 17 (dk_at dksX1_person_2 4 rfl rfl)
theorem dX1_person_63 : decode cX1_person 63 = .ok (.iload_n 1, 1) := dk_27 (dk_at dksX1_person_2 7 rfl rfl)
theorem dX1_person_64 : decode cX1_person 64 = .ok (.invokevirtual 199, 3) := dk_182 0 199 (dk_at dksX1_person_2 8 rfl rfl)
theorem dX1_person_67 : decode cX1_person 67 = .ok (.checkcast 203, 3) := dk_192 0 203 (dk_at dksX1_person_2 11 rfl rfl)
theorem dX1_person_70 : decode cX1_person 70 = .ok (.getfield 205, 3) := dk_180 0 205 (dk_at dksX1_person_2 14 rfl rfl)
theorem dX1_person_73 : decode cX1_person 73 = .ok (.ireturn, 1) := dk_172 (dk_at dksX1_person_2 17 rfl rfl)
theorem dX1_person_74 : decode cX1_person 74 = .ok (.aload_n 0, 1) := dk_42 (dk_at dksX1_person_2 18 rfl rfl)
theorem dX1_person_75 : decode cX1_person 75 = .ok (.getfield 13, 3) := dk_180 0 13 (dk_at dksX1_person_2 19 rfl rfl)
theorem dX1_person_78 : decode cX1_person 78 = .ok (.getfield 17, 3) := dk_180 0 17 (dk_at dksX1_person_3 0 rfl rfl)
theorem dX1_person_81 : decode cX1_person 81 = .ok (.iload_n 1, 1) := dk_27 (dk_at dksX1_person_3 3 rfl rfl)
theorem dX1_person_82 : decode cX1_person 82 = .ok (.invokevirtual 199, 3) := dk_182 0 199 (dk_at dksX1_person_3 4 rfl rfl)
theorem dX1_person_85 : decode cX1_person 85 = .ok (.checkcast 203, 3) := dk_192 0 203 (dk_at dksX1_person_3 7 rfl rfl)
theorem dX1_person_88 : decode cX1_person 88 = .ok (.getfield 208, 3) := dk_180 0 208 (dk_at dksX1_person_3 10 rfl rfl)
theorem dX1_person_91 : decode cX1_person 91 = .ok (.ireturn, 1) := dk_172 (dk_at dksX1_person_3 13 rfl rfl)
theorem dX1_person_92 : decode cX1_person 92 = .ok (.aload_n 0, 1) := dk_42 (dk_at dksX1_person_3 14 rfl rfl)
theorem dX1_person_93 : decode cX1_person 93 = .ok (.getfield 95, 3) := dk_180 0 95 (dk_at dksX1_person_3 15 rfl rfl)
theorem dX1_person_96 : decode cX1_person 96 = .ok (.getfield 211, 3) := dk_180 0 211 (dk_at dksX1_person_3 18 rfl rfl)
theorem dX1_person_99 : decode cX1_person 99 = .ok (.iload_n 1, 1) := dk_27 (dk_at dksX1_person_3 21 rfl rfl)
theorem dX1_person_100 : decode cX1_person 100 = .ok (.iaload, 1) := dk_46 (dk_at dksX1_person_3 22 rfl rfl)
theorem dX1_person_101 : decode cX1_person 101 = .ok (.ireturn, 1) := dk_172 (dk_at dksX1_person_3 23 rfl rfl)
theorem dX1_person_102 : decode cX1_person 102 = .ok (.aload_n 0, 1) := dk_42 (dk_at dksX1_person_4 0 rfl rfl)
theorem dX1_person_103 : decode cX1_person 103 = .ok (.getfield 95, 3) := dk_180 0 95 (dk_at dksX1_person_4 1 rfl rfl)
theorem dX1_person_106 : decode cX1_person 106 = .ok (.getfield 214, 3) := dk_180 0 214 (dk_at dksX1_person_4 4 rfl rfl)
theorem dX1_person_109 : decode cX1_person 109 = .ok (.iload_n 1, 1) := dk_27 (dk_at dksX1_person_4 7 rfl rfl)
theorem dX1_person_110 : decode cX1_person 110 = .ok (.iaload, 1) := dk_46 (dk_at dksX1_person_4 8 rfl rfl)
theorem dX1_person_111 : decode cX1_person 111 = .ok (.ireturn, 1) := dk_172 (dk_at dksX1_person_4 9 rfl rfl)
theorem dX1_person_112 : decode cX1_person 112 = .ok (.aload_n 0, 1) := dk_42 (dk_at dksX1_person_4 10 rfl rfl)
theorem dX1_person_113 : decode cX1_person 113 = .ok (.getfield 95, 3) := dk_180 0 95 (dk_at dksX1_person_4 11 rfl rfl)
theorem dX1_person_116 : decode cX1_person 116 = .ok (.getfield 217, 3) := dk_180 0 217 (dk_at dksX1_person_4 14 rfl rfl)
theorem dX1_person_119 : decode cX1_person 119 = .ok (.iload_n 1, 1) := dk_27 (dk_at dksX1_person_4 17 rfl rfl)
theorem dX1_person_120 : decode cX1_person 120 = .ok (.iaload, 1) := dk_46 (dk_at dksX1_person_4 18 rfl rfl)
theorem dX1_person_121 : decode cX1_person 121 = .ok (.ireturn, 1) := dk_172 (dk_at dksX1_person_4 19 rfl rfl)
theorem dX1_person_122 : decode cX1_person 122 = .ok (.aload_n 0, 1) := dk_42 (dk_at dksX1_person_4 20 rfl rfl)
theorem dX1_person_123 : decode cX1_person 123 = .ok (.getfield 95, 3) := dk_180 0 95 (dk_at dksX1_person_4 21 rfl rfl)
theorem dX1_person_126 : decode cX1_person 126 = .ok (.getfield 220, 3) := dk_180 0 220 (dk_at dksX1_person_5 0 rfl rfl)
theorem dX1_person_129 : decode cX1_person 129 = .ok (.iload_n 1, 1) := dk_27 (dk_at dksX1_person_5 3 rfl rfl)
theorem dX1_person_130 : decode cX1_person 130 = .ok (.iaload, 1) := dk_46 (dk_at dksX1_person_5 4 rfl rfl)
theorem dX1_person_131 : decode cX1_person 131 = .ok (.ireturn, 1) := dk_172 (dk_at dksX1_person_5 5 rfl rfl)
theorem dX1_person_132 : decode cX1_person 132 = .ok (.new 223, 3) := dk_187 0 223 (dk_at dksX1_person_5 6 rfl rfl)
theorem dX1_person_135 : decode cX1_person 135 = .ok (.dup, 1) := dk_89 (dk_at dksX1_person_5 9 rfl rfl)
theorem dX1_person_136 : decode cX1_person 136 = .ok (.invokespecial 225, 3) := dk_183 0 225 (dk_at dksX1_person_5 10 rfl rfl)
theorem dX1_person_139 : decode cX1_person 139 = .ok (.athrow, 1) := dk_191 (dk_at dksX1_person_5 13 rfl rfl)
theorem ymX1_person : y_ok yX1_person 2 := by unfold y_ok; decide +kernel
theorem fgX1_205_X13 : f_ok RX1 205 7 1 ∧ ft 7 1 = 0 := ⟨Or.inr ⟨_, _, _, "AskedCourt", ckX13, by decide, List.mem_of_getElem? (i := 7) rfl⟩, rfl⟩
theorem fgX1_208_X13 : f_ok RX1 208 7 2 ∧ ft 7 2 = 0 := ⟨Or.inr ⟨_, _, _, "AskedCourt", ckX13, by decide, List.mem_of_getElem? (i := 8) rfl⟩, rfl⟩
def cA_person  (a1 : Int32) (a2 : Int32) (h : HP) : Option ((Int32 ⊕ Nat × Nat) × HP) := cal (cA_isPerson a1 h) (fun r1 h2 => if r1 = 0 then (grd (54 ≤ gN h2) (some (.inr (3, 0), sA h2 (0, 0) 6))) else (if a2 = (0 : Int32) then (onr (gR (cV h2) 0 6) (fun b5 => grd (shC (cV h2) b5) (grd (shL (cV h2) (b5 + 3)) (cal (cL_get (b5 + 3) a1 h2) (fun r8 h9 => grd ((gT (cV h9) r8).1 = 8) (some (.inl (gI h9 r8 1), h9))))))) else if a2 = (1 : Int32) then (onr (gR (cV h2) 0 6) (fun b13 => grd (shC (cV h2) b13) (grd (shL (cV h2) (b13 + 3)) (cal (cL_get (b13 + 3) a1 h2) (fun r16 h17 => grd ((gT (cV h17) r16).1 = 8) (some (.inl (gI h17 r16 2), h17))))))) else if a2 = (2 : Int32) then (grd (inb a1 5) (some (.inl (gI h2 22 (a1).toNatClampNeg), h2))) else if a2 = (3 : Int32) then (grd (inb a1 5) (some (.inl (gI h2 21 (a1).toNatClampNeg), h2))) else if a2 = (4 : Int32) then (grd (inb a1 5) (some (.inl (gI h2 23 (a1).toNatClampNeg), h2))) else if a2 = (5 : Int32) then (grd (inb a1 5) (some (.inl (gI h2 24 (a1).toNatClampNeg), h2))) else (grd (54 ≤ gN h2) (some (.inr (4, 0), sA h2 (0, 0) 6)))))
theorem cA_person_m  (a1 : Int32) (a2 : Int32) (h : HP) : mG (gN h) (gS h) (cA_person a1 a2 h) := by
  have key : ∀ c s : Nat, mN c s h → mG c s (cA_person a1 a2 h) := by
    intro c s hn
    rw [cA_person]
    refine mg_cal hn (cA_isPerson_m a1 h) (fun r1 h2 hn => ?_)
    refine mg_ite ?_ ?_
    · refine mg_grd ?_
      exact (fun r e => by cases e; exact ⟨Nat.le_succ_of_le hn.1, Nat.le_trans hn.2 (Nat.le_add_right _ _)⟩)
    · refine mg_ite ?_ ?_
      · refine mg_onr (fun b5 => ?_)
        refine mg_grd ?_
        refine mg_grd ?_
        refine mg_cal hn (cL_get_m (b5 + 3) a1 h2) (fun r8 h9 hn => ?_)
        refine mg_grd ?_
        exact mg_some hn
      · refine mg_ite ?_ ?_
        · refine mg_onr (fun b13 => ?_)
          refine mg_grd ?_
          refine mg_grd ?_
          refine mg_cal hn (cL_get_m (b13 + 3) a1 h2) (fun r16 h17 hn => ?_)
          refine mg_grd ?_
          exact mg_some hn
        · refine mg_ite ?_ ?_
          · refine mg_grd ?_
            exact mg_some hn
          · refine mg_ite ?_ ?_
            · refine mg_grd ?_
              exact mg_some hn
            · refine mg_ite ?_ ?_
              · refine mg_grd ?_
                exact mg_some hn
              · refine mg_ite ?_ ?_
                · refine mg_grd ?_
                  exact mg_some hn
                · refine mg_grd ?_
                  exact (fun r e => by cases e; exact ⟨Nat.le_succ_of_le hn.1, Nat.le_trans hn.2 (Nat.le_add_right _ _)⟩)
  exact key _ _ ⟨Nat.le_refl _, Nat.le_refl _⟩
set_option maxHeartbeats 4000000 in
set_option maxRecDepth 100000 in
theorem cA_person_t   (a1 : Int32) (a2 : Int32) (h : HP) (rr : (Int32 ⊕ Nat × Nat) × HP) (e : cA_person a1 a2 h = some rr) : CnX eI cV yX1_person (ws_ yX1_person cX1_person 3 (some .int)) 6 100 (fun z => [.ref (z + 0), .int a1, .int a2]) h rr := by
  refine cnx_of (e1 := eI) (fun z => [(0, .ref (z + 0)), (1, .int a1), (2, .int a2)]) cV_ok (cA_person_m a1 a2 h _ e) ymX1_person (fun _ => rfl) (fun _ => Nat.le_of_ble_eq_true rfl) (fun X hX hr hxt => ?_) e
  have hX : okX cV X rr cX1_person RX1 3 6 100 := hX
  rw [cA_person]
  refine j_aload_n (pc := 0) hX 0 rfl dX1_person_0 ?_
  refine j_iload_n (pc := 1) hX 1 rfl dX1_person_1 ?_
  refine j_callV (pc := 2) (e1 := eI) (a := 0) (As := fun z => [.int a1]) (rest := []) hX (fun r e => cA_isPerson_t a1 h r e) ymX1_isPerson (lw_V q1056 q1058 qs37 q140 q1059) rfl ckX1 rfl ⟨Nat.le_of_ble_eq_true rfl, Nat.le_of_ble_eq_true rfl⟩ rfl rfl (Nat.le_of_ble_eq_true rfl) dX1_person_2 (fun r1 h2 => ?_)
  refine j_ifne (pc := 5) (tgt := 16) hX rfl dX1_person_5 (fun _ => ?_) (fun _ => ?_)
  · refine j_grd fun g3 => ?_
    exact x_throwJ (pc := 8) (c0 := 3) (names := ["java/lang/RuntimeException", "java/lang/Exception"]) hX hxt (cV_vA g3) (by decide) (by decide +kernel) (by decide +kernel) q1541 q175 at0_3 ag0_3 ⟨Nat.le_of_ble_eq_true rfl, Nat.le_of_ble_eq_true rfl⟩ (Nat.le_of_ble_eq_true rfl) dX1_person_8 dX1_person_11 dX1_person_12 dX1_person_15
  · refine j_iload_n (pc := 16) hX 2 rfl dX1_person_16 ?_
    refine j_ite (fun c4 => ?_) (fun c4 => ?_)
    · refine j_tabIn (pc := 17) (tgt := 56) hX (0) (by rw [c4]; rfl) (by decide) (by decide) rfl rfl dX1_person_17 ?_
      refine j_aload_n (pc := 56) hX 0 rfl dX1_person_56 ?_
      refine j_onr fun b5 e6 => ?_
      refine c_getR (pc := 57) hX fgX1_13_X1.1 fgX1_13_X1.2 rfl e6 dX1_person_57 ?_
      refine j_grd fun g7 => ?_
      refine c_getR (pc := 60) hX fgX1_17_X3.1 fgX1_17_X3.2 (k1_of g7.1) g7.2.1.2.1 dX1_person_60 ?_
      refine j_iload_n (pc := 63) hX 1 rfl dX1_person_63 ?_
      refine j_grd fun g10 => ?_
      refine j_callV (pc := 64) (e1 := eR) (a := (b5 + 3)) (As := fun z => [.int a1]) (rest := []) hX (fun r e => cL_get_t (b5 + 3) a1 h2 r e) ymJ2_get (lw_V q1046 q422 q423 q145 q424) rfl ckJ2 (k1_of g10.1) ⟨Nat.le_of_ble_eq_true rfl, Nat.le_of_ble_eq_true rfl⟩ rfl rfl (Nat.le_of_ble_eq_true rfl) dX1_person_64 (fun r8 h9 => ?_)
      refine j_grd fun g11 => ?_
      refine j_castS (pc := 67) hX ckX13 g11 q1562 dX1_person_67 ?_
      refine c_getI (pc := 70) hX fgX1_205_X13.1 fgX1_205_X13.2 g11 dX1_person_70 ?_
      exact x_iret (pc := 73) hX hr dX1_person_73
    · skip
      refine j_ite (fun c12 => ?_) (fun c12 => ?_)
      · refine j_tabIn (pc := 17) (tgt := 74) hX (1) (by rw [c12]; rfl) (by decide) (by decide) rfl rfl dX1_person_17 ?_
        refine j_aload_n (pc := 74) hX 0 rfl dX1_person_74 ?_
        refine j_onr fun b13 e14 => ?_
        refine c_getR (pc := 75) hX fgX1_13_X1.1 fgX1_13_X1.2 rfl e14 dX1_person_75 ?_
        refine j_grd fun g15 => ?_
        refine c_getR (pc := 78) hX fgX1_17_X3.1 fgX1_17_X3.2 (k1_of g15.1) g15.2.1.2.1 dX1_person_78 ?_
        refine j_iload_n (pc := 81) hX 1 rfl dX1_person_81 ?_
        refine j_grd fun g18 => ?_
        refine j_callV (pc := 82) (e1 := eR) (a := (b13 + 3)) (As := fun z => [.int a1]) (rest := []) hX (fun r e => cL_get_t (b13 + 3) a1 h2 r e) ymJ2_get (lw_V q1046 q422 q423 q145 q424) rfl ckJ2 (k1_of g18.1) ⟨Nat.le_of_ble_eq_true rfl, Nat.le_of_ble_eq_true rfl⟩ rfl rfl (Nat.le_of_ble_eq_true rfl) dX1_person_82 (fun r16 h17 => ?_)
        refine j_grd fun g19 => ?_
        refine j_castS (pc := 85) hX ckX13 g19 q1562 dX1_person_85 ?_
        refine c_getI (pc := 88) hX fgX1_208_X13.1 fgX1_208_X13.2 g19 dX1_person_88 ?_
        exact x_iret (pc := 91) hX hr dX1_person_91
      · skip
        refine j_ite (fun c20 => ?_) (fun c20 => ?_)
        · refine j_tabIn (pc := 17) (tgt := 92) hX (2) (by rw [c20]; rfl) (by decide) (by decide) rfl rfl dX1_person_17 ?_
          refine j_aload_n (pc := 92) hX 0 rfl dX1_person_92 ?_
          refine c_getR (pc := 93) hX fgX1_95_X1.1 fgX1_95_X1.2 rfl rfl dX1_person_93 ?_
          refine c_getR (pc := 96) hX fgX1_211_X9.1 fgX1_211_X9.2 rfl rfl dX1_person_96 ?_
          refine j_iload_n (pc := 99) hX 1 rfl dX1_person_99 ?_
          refine j_iald (pc := 100) (n := 5) hX rfl dX1_person_100 (fun _ => ?_)
          exact x_iret (pc := 101) hX hr dX1_person_101
        · skip
          refine j_ite (fun c21 => ?_) (fun c21 => ?_)
          · refine j_tabIn (pc := 17) (tgt := 102) hX (3) (by rw [c21]; rfl) (by decide) (by decide) rfl rfl dX1_person_17 ?_
            refine j_aload_n (pc := 102) hX 0 rfl dX1_person_102 ?_
            refine c_getR (pc := 103) hX fgX1_95_X1.1 fgX1_95_X1.2 rfl rfl dX1_person_103 ?_
            refine c_getR (pc := 106) hX fgX1_214_X9.1 fgX1_214_X9.2 rfl rfl dX1_person_106 ?_
            refine j_iload_n (pc := 109) hX 1 rfl dX1_person_109 ?_
            refine j_iald (pc := 110) (n := 5) hX rfl dX1_person_110 (fun _ => ?_)
            exact x_iret (pc := 111) hX hr dX1_person_111
          · skip
            refine j_ite (fun c22 => ?_) (fun c22 => ?_)
            · refine j_tabIn (pc := 17) (tgt := 112) hX (4) (by rw [c22]; rfl) (by decide) (by decide) rfl rfl dX1_person_17 ?_
              refine j_aload_n (pc := 112) hX 0 rfl dX1_person_112 ?_
              refine c_getR (pc := 113) hX fgX1_95_X1.1 fgX1_95_X1.2 rfl rfl dX1_person_113 ?_
              refine c_getR (pc := 116) hX fgX1_217_X9.1 fgX1_217_X9.2 rfl rfl dX1_person_116 ?_
              refine j_iload_n (pc := 119) hX 1 rfl dX1_person_119 ?_
              refine j_iald (pc := 120) (n := 5) hX rfl dX1_person_120 (fun _ => ?_)
              exact x_iret (pc := 121) hX hr dX1_person_121
            · skip
              refine j_ite (fun c23 => ?_) (fun c23 => ?_)
              · refine j_tabIn (pc := 17) (tgt := 122) hX (5) (by rw [c23]; rfl) (by decide) (by decide) rfl rfl dX1_person_17 ?_
                refine j_aload_n (pc := 122) hX 0 rfl dX1_person_122 ?_
                refine c_getR (pc := 123) hX fgX1_95_X1.1 fgX1_95_X1.2 rfl rfl dX1_person_123 ?_
                refine c_getR (pc := 126) hX fgX1_220_X9.1 fgX1_220_X9.2 rfl rfl dX1_person_126 ?_
                refine j_iload_n (pc := 129) hX 1 rfl dX1_person_129 ?_
                refine j_iald (pc := 130) (n := 5) hX rfl dX1_person_130 (fun _ => ?_)
                exact x_iret (pc := 131) hX hr dX1_person_131
              · skip
                refine j_tabD (pc := 17) (tgt := 132) hX (fun n hn h1 h2 => ?_) rfl dX1_person_17 ?_
                · rcases (show n = 0 ∨ n = 1 ∨ n = 2 ∨ n = 3 ∨ n = 4 ∨ n = 5 by omega) with rfl | rfl | rfl | rfl | rfl | rfl
                  · exact absurd hn (lv_neT c4 rfl)
                  · exact absurd hn (lv_neT c12 rfl)
                  · exact absurd hn (lv_neT c20 rfl)
                  · exact absurd hn (lv_neT c21 rfl)
                  · exact absurd hn (lv_neT c22 rfl)
                  · exact absurd hn (lv_neT c23 rfl)
                · refine j_grd fun g24 => ?_
                  exact x_throwJ (pc := 132) (c0 := 4) (names := ["java/lang/RuntimeException", "java/lang/Exception"]) hX hxt (cV_vA g24) (by decide) (by decide +kernel) (by decide +kernel) q1563 q177 at0_4 ag0_4 ⟨Nat.le_of_ble_eq_true rfl, Nat.le_of_ble_eq_true rfl⟩ (Nat.le_of_ble_eq_true rfl) dX1_person_132 dX1_person_135 dX1_person_136 dX1_person_139
