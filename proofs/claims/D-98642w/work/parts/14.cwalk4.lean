/-! the component: walks -/
set_option maxHeartbeats 4000000 in
set_option maxRecDepth 100000 in
theorem cS_ask_222_w {X : CTX} {rr : Int32 × HP}  (hX : okX cV X rr cX9_ask RX9 12 163 3831) (hr : (xh X).sig.returnType = some .boolean) (f0 : Nat) (f2 : Int32) (f8 : Int32) (k : HP → Option (Int32 × HP)) (hk : ∀  (h : HP), jG cV X evI rr (k  h) 264 [(0, .ref (xz X + f0)), (2, .int f2)] [] h) : ∀ (n : Nat) (v11 : Int32) (h : HP), jG cV X evI rr (cS_ask_222 f0 f2 f8 k n v11 h) 222 [(0, .ref (xz X + f0)), (2, .int f2), (8, .int f8), (11, .int v11)] [] h := by
  intro n
  induction n with
  | zero =>
    intro v11 h
    exact j_none
  | succ n ih =>
    intro v11 h
    rw [cS_ask_222]
    refine j_iload (pc := 222) hX 3 rfl dX9_ask_222 ?_
    refine j_aload_n (pc := 224) hX 0 rfl dX9_ask_224 ?_
    refine j_grd fun g54 => ?_
    refine c_getR (pc := 225) hX fgX9_3_X9.1 fgX9_3_X9.2 (k1_of g54.1) g54.2.1.2.2.2.2 dX9_ask_225 ?_
    refine j_callVN (pc := 228) (e1 := eI) (a := 0) (As := fun z => []) (rest := [.int v11]) hX (fun r e => cA_persons_t h r e) ymX1_persons (List.mem_of_getElem? (i := 18) rfl) q415 qs0 q140 q416 ckX1 rfl ⟨Nat.le_of_ble_eq_true rfl, Nat.le_of_ble_eq_true rfl⟩ rfl rfl (Nat.le_of_ble_eq_true rfl) dX9_ask_228 (fun r55 h56 => ?_)
    refine j_cge (pc := 231) (tgt := 264) hX rfl dX9_ask_231 (fun _ => ?_) (fun _ => ?_)
    · refine j_locs [0, 1] rfl ?_
      exact hk h56
    · refine j_aload_n (pc := 234) hX 0 rfl dX9_ask_234 ?_
      refine j_iload_n (pc := 235) hX 1 rfl dX9_ask_235 ?_
      refine j_iload (pc := 236) hX 3 rfl dX9_ask_236 ?_
      refine j_grd fun g59 => ?_
      refine j_callV (pc := 238) (e1 := eI) (a := f0) (As := fun z => [.int f2, .int v11]) (rest := []) hX (fun r e => cS_areTogether_t f0 f2 v11 h56 r e) ymX9_areTogether (lw_V q1066 q1067 q1068 q151 q1069) rfl ckX9 (k1_of g59.1) ⟨Nat.le_of_ble_eq_true rfl, Nat.le_of_ble_eq_true rfl⟩ rfl rfl (Nat.le_of_ble_eq_true rfl) dX9_ask_238 (fun r57 h58 => ?_)
      refine j_ifeq (pc := 241) (tgt := 258) hX rfl dX9_ask_241 (fun _ => ?_) (fun _ => ?_)
      · refine j_iinc (pc := 258) hX 3 rfl (1 : Int32) ic_1 (fun x60 => [(11, .int x60), (0, .ref (xz X + f0)), (2, .int f2), (8, .int f8)]) (fun _ => rfl) (Nat.le_of_ble_eq_true rfl) dX9_ask_258 (fun x60 => ?_)
        refine j_goto (pc := 261) (tgt := 222) hX rfl dX9_ask_261 ?_
        refine j_locs [1, 2, 3, 0] rfl ?_
        exact ih x60 h58
      · refine j_aload_n (pc := 244) hX 0 rfl dX9_ask_244 ?_
        refine j_grd fun g61 => ?_
        refine c_getR (pc := 245) hX fgX9_15_X9.1 fgX9_15_X9.2 (k1_of g61.1) g61.2.1.1 dX9_ask_245 ?_
        refine j_iload (pc := 248) hX 3 rfl dX9_ask_248 ?_
        refine j_dup2 (pc := 250) hX rfl rfl dX9_ask_250 ?_
        refine j_iald (pc := 251) (n := 5) hX g61.2.2.1 dX9_ask_251 (fun _ => ?_)
        refine j_iconst (pc := 252) hX ic_1 dX9_ask_252 ?_
        refine j_iload (pc := 253) hX 2 rfl dX9_ask_253 ?_
        refine j_ishl (pc := 255) hX dX9_ask_255 ?_
        refine j_ior (pc := 256) hX dX9_ask_256 ?_
        refine c_iast (pc := 257) (n := 5) hX g61.2.2.1 dX9_ask_257 (fun h62 q63 q64 => ?_)
        refine j_iinc (pc := 258) hX 3 rfl (1 : Int32) ic_1 (fun x65 => [(11, .int x65), (0, .ref (xz X + f0)), (2, .int f2), (8, .int f8)]) (fun _ => rfl) (Nat.le_of_ble_eq_true rfl) dX9_ask_258 (fun x65 => ?_)
        refine j_goto (pc := 261) (tgt := 222) hX rfl dX9_ask_261 ?_
        refine j_locs [1, 2, 3, 0] rfl ?_
        exact ih x65 h62
set_option maxHeartbeats 4000000 in
set_option maxRecDepth 100000 in
theorem cS_ask_t   (o : Nat) (a1 : Int32) (a2 : Int32) (a3 : Int32) (a4 : Int32) (h : HP) (rr : Int32 × HP) (e : cS_ask o a1 a2 a3 a4 h = some rr) : Cn cV yX9_ask (ws_ yX9_ask cX9_ask 12 (some .boolean)) 163 3831 (fun z => [.ref (z + o), .int a1, .int a2, .int a3, .int a4]) h (fun z => eI z rr.1) rr.2 := by
  refine cn_of (e1 := eI) (fun z => [(0, .ref (z + o)), (1, .int a1), (2, .int a2), (3, .int a3), (4, .int a4)]) cV_ok (cS_ask_m o a1 a2 a3 a4 h _ e) ymX9_ask (fun _ => rfl) (fun _ => Nat.le_of_ble_eq_true rfl) (fun X hX hr hnm => ?_) e
  have hX : okX cV X rr cX9_ask RX9 12 163 3831 := hX
  rw [cS_ask]
  refine j_aload_n (pc := 0) hX 0 rfl dX9_ask_0 ?_
  refine j_grd fun g1 => ?_
  refine c_getR (pc := 1) hX fgX9_3_X9.1 fgX9_3_X9.2 (k1_of g1.1) g1.2.1.2.2.2.2 dX9_ask_1 ?_
  refine j_onr fun b2 e3 => ?_
  refine c_getR (pc := 4) hX fgX9_32_X1.1 fgX9_32_X1.2 rfl e3 dX9_ask_4 ?_
  refine j_grd fun g4 => ?_
  refine c_getR (pc := 7) hX fgX9_134_X3.1 fgX9_134_X3.2 (k1_of g4.1) g4.2.1.2.2.1 dX9_ask_7 ?_
  refine j_iload_n (pc := 10) hX 3 rfl dX9_ask_10 ?_
  refine j_grd fun g7 => ?_
  refine j_callV (pc := 11) (e1 := eR) (a := (b2 + 5)) (As := fun z => [.int a3]) (rest := []) hX (fun r e => cL_get_t (b2 + 5) a3 h r e) ymJ2_get (lw_V q421 q422 q423 q145 q424) rfl ckJ2 (k1_of g7.1) ⟨Nat.le_of_ble_eq_true rfl, Nat.le_of_ble_eq_true rfl⟩ rfl rfl (Nat.le_of_ble_eq_true rfl) dX9_ask_11 (fun r5 h6 => ?_)
  refine j_grd fun g8 => ?_
  refine j_castS (pc := 14) hX ckX14 g8 q1065 dX9_ask_14 ?_
  refine j_astore (pc := 17) (ls' := [(5, .ref (xz X + r5)), (0, .ref (xz X + o)), (1, .int a1), (2, .int a2), (3, .int a3), (4, .int a4)]) hX rfl (Nat.le_of_ble_eq_true rfl) dX9_ask_17 ?_
  refine j_aload_n (pc := 19) hX 1 rfl dX9_ask_19 ?_
  refine j_grd fun g9 => ?_
  refine c_getR (pc := 20) hX fgX9_3_X9.1 fgX9_3_X9.2 (k1_of g9.1) g9.2.1.2.2.2.2 dX9_ask_20 ?_
  refine c_getR (pc := 23) hX fgX9_110_X1.1 fgX9_110_X1.2 rfl rfl dX9_ask_23 ?_
  refine j_aload (pc := 26) hX 0 rfl dX9_ask_26 ?_
  refine c_getI (pc := 28) hX fgX9_95_X14.1 fgX9_95_X14.2 g8 dX9_ask_28 ?_
  refine j_aald (pc := 31) (n := 4) (q := 6) hX (Nat.le_of_ble_eq_true rfl) (fun _ => rfl) rfl dX9_ask_31 (fun b10 => ?_)
  refine j_astore (pc := 32) (ls' := [(6, .ref (xz X + b10)), (5, .ref (xz X + r5)), (0, .ref (xz X + o)), (1, .int a1), (2, .int a2), (3, .int a3), (4, .int a4)]) hX rfl (Nat.le_of_ble_eq_true rfl) dX9_ask_32 ?_
  refine j_aload (pc := 34) hX 0 rfl dX9_ask_34 ?_
  refine j_aload (pc := 36) hX 1 rfl dX9_ask_36 ?_
  refine j_callD (pc := 38) (e1 := eI) (rest := []) (fun r11 h12 => ?_) (fun kk => ?_)
  · refine j_istore (pc := 41) hX (fun x13 => [(7, .int x13), (6, .ref (xz X + b10)), (5, .ref (xz X + r5)), (0, .ref (xz X + o)), (1, .int a1), (2, .int a2), (3, .int a3), (4, .int a4)]) (fun _ => rfl) (Nat.le_of_ble_eq_true rfl) dX9_ask_41 (fun x13 => ?_)
    refine j_aload (pc := 43) hX 1 rfl dX9_ask_43 ?_
    refine j_aload (pc := 45) hX 2 rfl dX9_ask_45 ?_
    refine j_callD (pc := 47) (e1 := eI) (rest := []) (fun r14 h15 => ?_) (fun kk => ?_)
    · refine j_istore (pc := 50) hX (fun x16 => [(8, .int x16), (7, .int x13), (6, .ref (xz X + b10)), (5, .ref (xz X + r5)), (0, .ref (xz X + o)), (1, .int a1), (2, .int a2), (3, .int a3), (4, .int a4)]) (fun _ => rfl) (Nat.le_of_ble_eq_true rfl) dX9_ask_50 (fun x16 => ?_)
      refine j_aload_n (pc := 52) hX 4 rfl dX9_ask_52 ?_
      refine j_grd fun g17 => ?_
      refine c_getR (pc := 53) hX fgX9_25_X9.1 fgX9_25_X9.2 (k1_of g17.1) g17.2.1.2.2.2.1 dX9_ask_53 ?_
      refine j_iload_n (pc := 56) hX 5 rfl dX9_ask_56 ?_
      refine j_dup2 (pc := 57) hX rfl rfl dX9_ask_57 ?_
      refine j_iald (pc := 58) (n := 5) hX g17.2.2.2.2.2 dX9_ask_58 (fun _ => ?_)
      refine j_iconst (pc := 59) hX ic_1 dX9_ask_59 ?_
      refine j_iadd (pc := 60) hX dX9_ask_60 ?_
      refine c_iast (pc := 61) (n := 5) hX g17.2.2.2.2.2 dX9_ask_61 (fun h18 q19 q20 => ?_)
      refine j_aload_n (pc := 62) hX 4 rfl dX9_ask_62 ?_
      refine j_dup (pc := 63) hX rfl dX9_ask_63 ?_
      refine c_getI (pc := 64) hX fgX9_57_X9.1 fgX9_57_X9.2 (k1_of (shS_t q19 q20 g17).1) dX9_ask_64 ?_
      refine j_iconst (pc := 67) hX ic_1 dX9_ask_67 ?_
      refine j_iadd (pc := 68) hX dX9_ask_68 ?_
      refine c_putI (pc := 69) hX fwX9_57_X9.1 fwX9_57_X9.2 (k1_of (shS_t q19 q20 g17).1) dX9_ask_69 (fun h21 q22 q23 => ?_)
      refine j_iconst (pc := 72) hX ic_0 dX9_ask_72 ?_
      refine j_istore (pc := 73) hX (fun x24 => [(9, .int x24), (8, .int x16), (7, .int x13), (6, .ref (xz X + b10)), (5, .ref (xz X + r5)), (0, .ref (xz X + o)), (1, .int a1), (2, .int a2), (3, .int a3), (4, .int a4)]) (fun _ => rfl) (Nat.le_of_ble_eq_true rfl) dX9_ask_73 (fun x24 => ?_)
      refine j_locs [5, 6, 7, 9, 4, 2, 1, 0] rfl ?_
      refine cS_ask_75_w hX hr o a1 a2 a4 r5 x13 x16 _ (fun  h42 => ?_) FU x24 h21
      refine j_iload (pc := 132) hX 4 rfl dX9_ask_132 ?_
      refine j_iconst (pc := 134) hX ic_m1 dX9_ask_134 ?_
      refine j_ceq (pc := 135) (tgt := 152) hX rfl dX9_ask_135 (fun _ => ?_) (fun _ => ?_)
      · refine j_iconst (pc := 152) hX ic_0 dX9_ask_152 ?_
        exact j_zret (pc := 153) hX (Or.inl rfl) hr dX9_ask_153
      · refine j_aload_n (pc := 138) hX 0 rfl dX9_ask_138 ?_
        refine j_grd fun g43 => ?_
        refine c_getR (pc := 139) hX fgX9_15_X9.1 fgX9_15_X9.2 (k1_of g43.1) g43.2.1.1 dX9_ask_139 ?_
        refine j_iload_n (pc := 142) hX 1 rfl dX9_ask_142 ?_
        refine j_iald (pc := 143) (n := 5) hX g43.2.2.1 dX9_ask_143 (fun _ => ?_)
        refine j_iload (pc := 144) hX 4 rfl dX9_ask_144 ?_
        refine j_ishr (pc := 146) hX dX9_ask_146 ?_
        refine j_iconst (pc := 147) hX ic_1 dX9_ask_147 ?_
        refine j_iand (pc := 148) hX dX9_ask_148 ?_
        refine j_ifne (pc := 149) (tgt := 154) hX rfl dX9_ask_149 (fun _ => ?_) (fun _ => ?_)
        · refine j_iconst (pc := 152) hX ic_0 dX9_ask_152 ?_
          exact j_zret (pc := 153) hX (Or.inl rfl) hr dX9_ask_153
        · refine j_aload_n (pc := 154) hX 0 rfl dX9_ask_154 ?_
          refine j_iload_n (pc := 155) hX 1 rfl dX9_ask_155 ?_
          refine j_aload (pc := 156) hX 3 rfl dX9_ask_156 ?_
          refine j_callV (pc := 158) (e1 := eI) (a := o) (As := fun z => [.int a2, .ref (z + r5)]) (rest := []) hX (fun r e => cS_odds_t o a2 r5 h42 r e) ymX9_odds (lw_V q1197 q1198 q1199 q151 q1200) rfl ckX9 (k1_of g43.1) ⟨Nat.le_of_ble_eq_true rfl, Nat.le_of_ble_eq_true rfl⟩ rfl rfl (Nat.le_of_ble_eq_true rfl) dX9_ask_158 (fun r44 h45 => ?_)
          refine j_istore (pc := 161) hX (fun x46 => [(9, .int x46), (0, .ref (xz X + o)), (2, .int a2), (4, .int a4), (5, .ref (xz X + r5)), (8, .int x16)]) (fun _ => rfl) (Nat.le_of_ble_eq_true rfl) dX9_ask_161 (fun x46 => ?_)
          refine j_iload (pc := 163) hX 0 rfl dX9_ask_163 ?_
          refine j_bipush (pc := 165) hX bp_50 dX9_ask_165 ?_
          refine j_jon (fun (j47 : Int32 → Option (Int32 × HP)) => ∀ (s48 : Int32), jG cV X evI rr (j47 s48) 175 [(0, .ref (xz X + o)), (2, .int a2), (4, .int a4), (8, .int x16), (9, .int x46)] [.int s48] h45) ?_ ?_
          · intro s48
            refine j_istore (pc := 175) hX (fun x49 => [(10, .int x49), (0, .ref (xz X + o)), (2, .int a2), (4, .int a4), (8, .int x16), (9, .int x46)]) (fun _ => rfl) (Nat.le_of_ble_eq_true rfl) dX9_ask_175 (fun x49 => ?_)
            refine j_iload (pc := 177) hX 3 rfl dX9_ask_177 ?_
            refine j_jon (fun (j50 : Int32 → HP → Option (Int32 × HP)) => ∀ (x51 : Int32) (h52 : HP), jG cV X evI rr (j50 x51 h52) 212 [(0, .ref (xz X + o)), (2, .int a2), (8, .int x16), (10, .int x51)] [] h52) ?_ ?_
            · intro x51 h52
              refine j_iload (pc := 212) hX 3 rfl dX9_ask_212 ?_
              refine j_ifne (pc := 214) (tgt := 219) hX rfl dX9_ask_214 (fun _ => ?_) (fun _ => ?_)
              · refine j_iconst (pc := 217) hX ic_0 dX9_ask_217 ?_
                exact j_zret (pc := 218) hX (Or.inl rfl) hr dX9_ask_218
              · refine j_iconst (pc := 219) hX ic_0 dX9_ask_219 ?_
                refine j_istore (pc := 220) hX (fun x53 => [(11, .int x53), (0, .ref (xz X + o)), (2, .int a2), (8, .int x16), (10, .int x51)]) (fun _ => rfl) (Nat.le_of_ble_eq_true rfl) dX9_ask_220 (fun x53 => ?_)
                refine j_locs [1, 2, 3, 0] rfl ?_
                refine cS_ask_222_w hX hr o a2 x16 _ (fun  h66 => ?_) FU x53 h52
                refine j_aload_n (pc := 264) hX 0 rfl dX9_ask_264 ?_
                refine j_grd fun g67 => ?_
                refine c_getR (pc := 265) hX fgX9_22_X9.1 fgX9_22_X9.2 (k1_of g67.1) g67.2.1.2.2.1 dX9_ask_265 ?_
                refine j_iload_n (pc := 268) hX 1 rfl dX9_ask_268 ?_
                refine j_dup2 (pc := 269) hX rfl rfl dX9_ask_269 ?_
                refine j_iald (pc := 270) (n := 5) hX g67.2.2.2.2.1 dX9_ask_270 (fun _ => ?_)
                refine j_iconst (pc := 271) hX ic_1 dX9_ask_271 ?_
                refine j_iadd (pc := 272) hX dX9_ask_272 ?_
                refine c_iast (pc := 273) (n := 5) hX g67.2.2.2.2.1 dX9_ask_273 (fun h68 q69 q70 => ?_)
                refine j_iconst (pc := 274) hX ic_1 dX9_ask_274 ?_
                exact j_zret (pc := 275) hX (Or.inr rfl) hr dX9_ask_275
            · intro j50 hj50
              refine j_ifeq (pc := 179) (tgt := 212) hX rfl dX9_ask_179 (fun _ => ?_) (fun _ => ?_)
              · refine j_locs [1, 2, 4, 0] rfl ?_
                exact hj50 x49 h45
              · refine j_iload (pc := 182) hX 5 rfl dX9_ask_182 ?_
                refine j_bipush (pc := 184) hX bp_100 dX9_ask_184 ?_
                refine j_jon (fun (j71 : Int32 → HP → Option (Int32 × HP)) => ∀ (s72 : Int32) (h73 : HP), jG cV X evI rr (j71 s72 h73) 210 [(0, .ref (xz X + o)), (2, .int a2), (8, .int x16)] [.int s72] h73) ?_ ?_
                · intro s72 h73
                  refine j_istore (pc := 210) hX (fun x74 => [(10, .int x74), (0, .ref (xz X + o)), (2, .int a2), (8, .int x16)]) (fun _ => rfl) (Nat.le_of_ble_eq_true rfl) dX9_ask_210 (fun x74 => ?_)
                  refine j_locs [1, 2, 3, 0] rfl ?_
                  exact hj50 x74 h73
                · intro j71 hj71
                  refine j_jon (fun (j75 : HP → Option (Int32 × HP)) => ∀ (h76 : HP), jG cV X evI rr (j75 h76) 205 [(0, .ref (xz X + o)), (2, .int a2), (8, .int x16)] [] h76) ?_ ?_
                  · intro h76
                    refine j_iconst (pc := 205) hX ic_1 dX9_ask_205 ?_
                    refine j_goto (pc := 206) (tgt := 210) hX rfl dX9_ask_206 ?_
                    exact hj71 (1 : Int32) h76
                  · intro j75 hj75
                    refine j_ceq (pc := 186) (tgt := 205) hX rfl dX9_ask_186 (fun _ => ?_) (fun _ => ?_)
                    · refine j_locs [1, 2, 4] rfl ?_
                      exact hj75 h45
                    · refine j_iload (pc := 189) hX 5 rfl dX9_ask_189 ?_
                      refine j_jon (fun (j77 : HP → Option (Int32 × HP)) => ∀ (h78 : HP), jG cV X evI rr (j77 h78) 209 [(0, .ref (xz X + o)), (2, .int a2), (8, .int x16)] [] h78) ?_ ?_
                      · intro h78
                        refine j_iconst (pc := 209) hX ic_0 dX9_ask_209 ?_
                        exact hj71 (0 : Int32) h78
                      · intro j77 hj77
                        refine j_ifle (pc := 191) (tgt := 209) hX rfl dX9_ask_191 (fun _ => ?_) (fun _ => ?_)
                        · refine j_locs [1, 2, 4] rfl ?_
                          exact hj77 h45
                        · refine j_aload_n (pc := 194) hX 1 rfl dX9_ask_194 ?_
                          refine j_bipush (pc := 195) hX bp_100 dX9_ask_195 ?_
                          refine j_grd fun g81 => ?_
                          refine j_callV (pc := 197) (e1 := eI) (a := o) (As := fun z => [.int (100 : Int32)]) (rest := []) hX (fun r e => cS_draw_t o (100 : Int32) h45 r e) ymX9_draw (lw_V q1208 q1209 q1210 q151 q1211) rfl ckX9 (k1_of g81.1) ⟨Nat.le_of_ble_eq_true rfl, Nat.le_of_ble_eq_true rfl⟩ rfl rfl (Nat.le_of_ble_eq_true rfl) dX9_ask_197 (fun r79 h80 => ?_)
                          refine j_iload (pc := 200) hX 5 rfl dX9_ask_200 ?_
                          refine j_cge (pc := 202) (tgt := 209) hX rfl dX9_ask_202 (fun _ => ?_) (fun _ => ?_)
                          · refine j_locs [1, 2, 4] rfl ?_
                            exact hj77 h80
                          · refine j_locs [1, 2, 4] rfl ?_
                            exact hj75 h80
          · intro j47 hj47
            refine j_clt (pc := 167) (tgt := 174) hX rfl dX9_ask_167 (fun _ => ?_) (fun _ => ?_)
            · refine j_iconst (pc := 174) hX ic_0 dX9_ask_174 ?_
              refine j_locs [1, 2, 3, 5, 0] rfl ?_
              exact hj47 (0 : Int32)
            · refine j_iconst (pc := 170) hX ic_1 dX9_ask_170 ?_
              refine j_goto (pc := 171) (tgt := 175) hX rfl dX9_ask_171 ?_
              refine j_locs [1, 2, 3, 5, 0] rfl ?_
              exact hj47 (1 : Int32)
    · rw [cK_asks]
      refine j_calIf (fun g82 => ?_) (fun _ => ?_)
      · exact j_callU (pc := 47) (e1 := eI) (owner := "AskedCourt$Kind") (As := fun z => [.ref (z + r5)]) (rest := []) hX (fun r e => kX4_asks_t b10 r5 h12 r e) yo_cK_asks q1167 q1169 q1174 q1168 q146 q1176 (fun a s hts _ => va_Decl.of (hts _ q1168) (hts _ q1176)) ckX5 g82 ⟨Nat.le_of_ble_eq_true rfl, Nat.le_of_ble_eq_true rfl⟩ rfl rfl (Nat.le_of_ble_eq_true rfl) dX9_ask_47 kk
      refine j_calIf (fun g83 => ?_) (fun _ => ?_)
      · exact j_callU (pc := 47) (e1 := eI) (owner := "AskedCourt$Kind") (As := fun z => [.ref (z + r5)]) (rest := []) hX (fun r e => kX4_asks_t b10 r5 h12 r e) yo_cK_asks q1167 q1169 q1175 q1168 q146 q1176 (fun a s hts _ => va_Decl.of (hts _ q1168) (hts _ q1176)) ckX6 g83 ⟨Nat.le_of_ble_eq_true rfl, Nat.le_of_ble_eq_true rfl⟩ rfl rfl (Nat.le_of_ble_eq_true rfl) dX9_ask_47 kk
      refine j_calIf (fun g84 => ?_) (fun _ => ?_)
      · exact j_callU (pc := 47) (e1 := eI) (owner := "AskedCourt$Kind") (As := fun z => [.ref (z + r5)]) (rest := []) hX (fun r e => kX4_asks_t b10 r5 h12 r e) yo_cK_asks q1167 q1169 q1170 q1168 q146 q1176 (fun a s hts _ => va_Decl.of (hts _ q1168) (hts _ q1176)) ckX7 g84 ⟨Nat.le_of_ble_eq_true rfl, Nat.le_of_ble_eq_true rfl⟩ rfl rfl (Nat.le_of_ble_eq_true rfl) dX9_ask_47 kk
      refine j_calIf (fun g85 => ?_) (fun _ => ?_)
      · exact j_callU (pc := 47) (e1 := eI) (owner := "AskedCourt$Kind") (As := fun z => [.ref (z + r5)]) (rest := []) hX (fun r e => kX8_asks_t b10 r5 h12 r e) yo_cK_asks q1167 q1169 q1171 q1172 q150 q1173 (fun a s hts _ => va_Decl.of (hts _ q1168) (hts _ q1176)) ckX8 g85 ⟨Nat.le_of_ble_eq_true rfl, Nat.le_of_ble_eq_true rfl⟩ rfl rfl (Nat.le_of_ble_eq_true rfl) dX9_ask_47 kk
      exact j_calN
  · rw [cK_supposes]
    refine j_calIf (fun g86 => ?_) (fun _ => ?_)
    · exact j_callU (pc := 38) (e1 := eI) (owner := "AskedCourt$Kind") (As := fun z => [.ref (z + r5)]) (rest := []) hX (fun r e => kX5_supposes_t b10 r5 h6 r e) yo_cK_supposes q1074 q1076 q1085 q1078 q147 q1079 (fun a s _ hN => va_Decl.abs (hN.2.2.2.2 _ (List.mem_of_getElem? (i := 1) rfl))) ckX5 g86 ⟨Nat.le_of_ble_eq_true rfl, Nat.le_of_ble_eq_true rfl⟩ rfl rfl (Nat.le_of_ble_eq_true rfl) dX9_ask_38 kk
    refine j_calIf (fun g87 => ?_) (fun _ => ?_)
    · exact j_callU (pc := 38) (e1 := eI) (owner := "AskedCourt$Kind") (As := fun z => [.ref (z + r5)]) (rest := []) hX (fun r e => kX6_supposes_t b10 r5 h6 r e) yo_cK_supposes q1074 q1076 q1086 q1087 q148 q1088 (fun a s _ hN => va_Decl.abs (hN.2.2.2.2 _ (List.mem_of_getElem? (i := 1) rfl))) ckX6 g87 ⟨Nat.le_of_ble_eq_true rfl, Nat.le_of_ble_eq_true rfl⟩ rfl rfl (Nat.le_of_ble_eq_true rfl) dX9_ask_38 kk
    refine j_calIf (fun g88 => ?_) (fun _ => ?_)
    · exact j_callU (pc := 38) (e1 := eI) (owner := "AskedCourt$Kind") (As := fun z => [.ref (z + r5)]) (rest := []) hX (fun r e => kX5_supposes_t b10 r5 h6 r e) yo_cK_supposes q1074 q1076 q1077 q1078 q147 q1079 (fun a s _ hN => va_Decl.abs (hN.2.2.2.2 _ (List.mem_of_getElem? (i := 1) rfl))) ckX7 g88 ⟨Nat.le_of_ble_eq_true rfl, Nat.le_of_ble_eq_true rfl⟩ rfl rfl (Nat.le_of_ble_eq_true rfl) dX9_ask_38 kk
    refine j_calIf (fun g89 => ?_) (fun _ => ?_)
    · exact j_callU (pc := 38) (e1 := eI) (owner := "AskedCourt$Kind") (As := fun z => [.ref (z + r5)]) (rest := []) hX (fun r e => kX5_supposes_t b10 r5 h6 r e) yo_cK_supposes q1074 q1076 q1084 q1078 q147 q1079 (fun a s _ hN => va_Decl.abs (hN.2.2.2.2 _ (List.mem_of_getElem? (i := 1) rfl))) ckX8 g89 ⟨Nat.le_of_ble_eq_true rfl, Nat.le_of_ble_eq_true rfl⟩ rfl rfl (Nat.le_of_ble_eq_true rfl) dX9_ask_38 kk
    exact j_calN
set_option maxHeartbeats 4000000 in
set_option maxRecDepth 100000 in
theorem cA_ask_t   (a1 : Int32) (a2 : Int32) (a3 : Int32) (h : HP) (rr : Int32 × HP) (e : cA_ask a1 a2 a3 h = some rr) : Cn cV yX1_ask (ws_ yX1_ask cX1_ask 4 (some .int)) 164 3862 (fun z => [.ref (z + 0), .int a1, .int a2, .int a3]) h (fun z => eI z rr.1) rr.2 := by
  refine cn_of (e1 := eI) (fun z => [(0, .ref (z + 0)), (1, .int a1), (2, .int a2), (3, .int a3)]) cV_ok (cA_ask_m a1 a2 a3 h _ e) ymX1_ask (fun _ => rfl) (fun _ => Nat.le_of_ble_eq_true rfl) (fun X hX hr hnm => ?_) e
  have hX : okX cV X rr cX1_ask RX1 4 164 3862 := hX
  rw [cA_ask]
  refine j_aload_n (pc := 0) hX 0 rfl dX1_ask_0 ?_
  refine j_iload_n (pc := 1) hX 1 rfl dX1_ask_1 ?_
  refine j_iload_n (pc := 2) hX 2 rfl dX1_ask_2 ?_
  refine j_callV (pc := 3) (e1 := eI) (a := 0) (As := fun z => [.int a1, .int a2]) (rest := []) hX (fun r e => cA_areTwo_t a1 a2 h r e) ymX1_areTwo (lw_V q1052 q1054 qs36 q140 q1055) rfl ckX1 rfl ⟨Nat.le_of_ble_eq_true rfl, Nat.le_of_ble_eq_true rfl⟩ rfl rfl (Nat.le_of_ble_eq_true rfl) dX1_ask_3 (fun r1 h2 => ?_)
  refine j_ifeq (pc := 6) (tgt := 17) hX rfl dX1_ask_6 (fun _ => ?_) (fun _ => ?_)
  · refine j_iconst (pc := 17) hX ic_m1 dX1_ask_17 ?_
    exact j_iret (pc := 18) hX hr dX1_ask_18
  · refine j_aload_n (pc := 9) hX 0 rfl dX1_ask_9 ?_
    refine j_iload_n (pc := 10) hX 3 rfl dX1_ask_10 ?_
    refine j_callV (pc := 11) (e1 := eI) (a := 0) (As := fun z => [.int a3]) (rest := []) hX (fun r e => cA_isQuestion_t a3 h2 r e) ymX1_isQuestion (lw_V q1038 q1040 qs34 q140 q1041) rfl ckX1 rfl ⟨Nat.le_of_ble_eq_true rfl, Nat.le_of_ble_eq_true rfl⟩ rfl rfl (Nat.le_of_ble_eq_true rfl) dX1_ask_11 (fun r3 h4 => ?_)
    refine j_ifne (pc := 14) (tgt := 19) hX rfl dX1_ask_14 (fun _ => ?_) (fun _ => ?_)
    · refine j_iconst (pc := 17) hX ic_m1 dX1_ask_17 ?_
      exact j_iret (pc := 18) hX hr dX1_ask_18
    · refine j_aload_n (pc := 19) hX 0 rfl dX1_ask_19 ?_
      refine c_getR (pc := 20) hX fgX1_95_X1.1 fgX1_95_X1.2 rfl rfl dX1_ask_20 ?_
      refine j_iload_n (pc := 23) hX 1 rfl dX1_ask_23 ?_
      refine j_iload_n (pc := 24) hX 2 rfl dX1_ask_24 ?_
      refine j_iload_n (pc := 25) hX 3 rfl dX1_ask_25 ?_
      refine j_iconst (pc := 26) hX ic_1 dX1_ask_26 ?_
      refine j_callV (pc := 27) (e1 := eI) (a := 20) (As := fun z => [.int a1, .int a2, .int a3, .int (1 : Int32)]) (rest := []) hX (fun r e => cS_can_t 20 a1 a2 a3 (1 : Int32) h4 r e) ymX9_can (lw_V q1061 q1062 q1063 q151 q1064) rfl ckX9 rfl ⟨Nat.le_of_ble_eq_true rfl, Nat.le_of_ble_eq_true rfl⟩ rfl rfl (Nat.le_of_ble_eq_true rfl) dX1_ask_27 (fun r5 h6 => ?_)
      refine j_ifne (pc := 30) (tgt := 36) hX rfl dX1_ask_30 (fun _ => ?_) (fun _ => ?_)
      · refine j_bipush (pc := 33) hX bp_m2 dX1_ask_33 ?_
        exact j_iret (pc := 35) hX hr dX1_ask_35
      · refine j_aload_n (pc := 36) hX 0 rfl dX1_ask_36 ?_
        refine j_callV (pc := 37) (e1 := eV) (a := 0) (As := fun z => []) (rest := []) hX (fun r e => cA_keepNow_t h6 r e) ymX1_keepNow (lw_V q1155 q1157 qs39 q140 q1158) rfl ckX1 rfl ⟨Nat.le_of_ble_eq_true rfl, Nat.le_of_ble_eq_true rfl⟩ rfl rfl (Nat.le_of_ble_eq_true rfl) dX1_ask_37 (fun r7 h8 => ?_)
        refine j_aload_n (pc := 40) hX 0 rfl dX1_ask_40 ?_
        refine c_getR (pc := 41) hX fgX1_95_X1.1 fgX1_95_X1.2 rfl rfl dX1_ask_41 ?_
        refine j_iload_n (pc := 44) hX 1 rfl dX1_ask_44 ?_
        refine j_iload_n (pc := 45) hX 2 rfl dX1_ask_45 ?_
        refine j_iload_n (pc := 46) hX 3 rfl dX1_ask_46 ?_
        refine j_iconst (pc := 47) hX ic_1 dX1_ask_47 ?_
        refine j_callV (pc := 48) (e1 := eI) (a := 20) (As := fun z => [.int a1, .int a2, .int a3, .int (1 : Int32)]) (rest := []) hX (fun r e => cS_ask_t 20 a1 a2 a3 (1 : Int32) h8 r e) ymX9_ask (lw_V q1163 q1164 q1165 q151 q1166) rfl ckX9 rfl ⟨Nat.le_of_ble_eq_true rfl, Nat.le_of_ble_eq_true rfl⟩ rfl rfl (Nat.le_of_ble_eq_true rfl) dX1_ask_48 (fun r9 h10 => ?_)
        refine j_ifeq (pc := 51) (tgt := 58) hX rfl dX1_ask_51 (fun _ => ?_) (fun _ => ?_)
        · refine j_iconst (pc := 58) hX ic_0 dX1_ask_58 ?_
          exact j_iret (pc := 59) hX hr dX1_ask_59
        · refine j_iconst (pc := 54) hX ic_1 dX1_ask_54 ?_
          refine j_goto (pc := 55) (tgt := 59) hX rfl dX1_ask_55 ?_
          exact j_iret (pc := 59) hX hr dX1_ask_59
set_option maxHeartbeats 4000000 in
set_option maxRecDepth 100000 in
theorem cA_isFact_t   (a1 : Int32) (h : HP) (rr : Int32 × HP) (e : cA_isFact a1 h = some rr) : Cn cV yX1_isFact (ws_ yX1_isFact cX1_isFact 2 (some .boolean)) 2 25 (fun z => [.ref (z + 0), .int a1]) h (fun z => eI z rr.1) rr.2 := by
  refine cn_of (e1 := eI) (fun z => [(0, .ref (z + 0)), (1, .int a1)]) cV_ok (cA_isFact_m a1 h _ e) ymX1_isFact (fun _ => rfl) (fun _ => Nat.le_of_ble_eq_true rfl) (fun X hX hr hnm => ?_) e
  have hX : okX cV X rr cX1_isFact RX1 2 2 25 := hX
  rw [cA_isFact]
  refine j_iload_n (pc := 0) hX 1 rfl dX1_isFact_0 ?_
  refine j_i2l (pc := 1) hX dX1_isFact_1 ?_
  refine j_lconst (pc := 2) (v := 0) hX rfl dX1_isFact_2 ?_
  refine j_aload_n (pc := 3) hX 0 rfl dX1_isFact_3 ?_
  refine j_onr fun b1 e2 => ?_
  refine c_getR (pc := 4) hX fgX1_13_X1.1 fgX1_13_X1.2 rfl e2 dX1_isFact_4 ?_
  refine j_grd fun g3 => ?_
  refine c_getR (pc := 7) hX fgX1_179_X3.1 fgX1_179_X3.2 (k1_of g3.1) g3.2.1.1 dX1_isFact_7 ?_
  refine j_grd fun g6 => ?_
  refine j_callV (pc := 10) (e1 := eI) (a := (b1 + 1)) (As := fun z => []) (rest := [.long (0 : Int64), .long (a1).toInt64]) hX (fun r e => cL_size_t (b1 + 1) h r e) ymJ2_size (lw_V q417 q418 q419 q145 q420) rfl ckJ2 (k1_of g6.1) ⟨Nat.le_of_ble_eq_true rfl, Nat.le_of_ble_eq_true rfl⟩ rfl rfl (Nat.le_of_ble_eq_true rfl) dX1_isFact_10 (fun r4 h5 => ?_)
  refine j_iconst (pc := 13) hX ic_1 dX1_isFact_13 ?_
  refine j_isub (pc := 14) hX dX1_isFact_14 ?_
  refine j_i2l (pc := 15) hX dX1_isFact_15 ?_
  refine j_callS (pc := 16) (e1 := eI) (As := fun z => [.long (a1).toInt64, .long (0 : Int64), .long ((r4 - (1 : Int32))).toInt64]) (rest := []) hX (fun r e => cA_in_t (a1).toInt64 (0 : Int64) ((r4 - (1 : Int32))).toInt64 h5 r e) ymX1_in (lw_S q527 q528 q140 q529) ⟨Nat.le_of_ble_eq_true rfl, Nat.le_of_ble_eq_true rfl⟩ rfl rfl (Nat.le_of_ble_eq_true rfl) dX1_isFact_16 (fun r7 h8 => ?_)
  refine j_grd fun g9 => ?_
  exact j_zret (pc := 19) hX g9 hr dX1_isFact_19
set_option maxHeartbeats 4000000 in
set_option maxRecDepth 100000 in
theorem cA_tell_t   (a1 : Int32) (a2 : Int32) (h : HP) (rr : Int32 × HP) (e : cA_tell a1 a2 h = some rr) : Cn cV yX1_tell (ws_ yX1_tell cX1_tell 3 (some .boolean)) 4 61 (fun z => [.ref (z + 0), .int a1, .int a2]) h (fun z => eI z rr.1) rr.2 := by
  refine cn_of (e1 := eI) (fun z => [(0, .ref (z + 0)), (1, .int a1), (2, .int a2)]) cV_ok (cA_tell_m a1 a2 h _ e) ymX1_tell (fun _ => rfl) (fun _ => Nat.le_of_ble_eq_true rfl) (fun X hX hr hnm => ?_) e
  have hX : okX cV X rr cX1_tell RX1 3 4 61 := hX
  rw [cA_tell]
  refine j_aload_n (pc := 0) hX 0 rfl dX1_tell_0 ?_
  refine j_iload_n (pc := 1) hX 1 rfl dX1_tell_1 ?_
  refine j_callV (pc := 2) (e1 := eI) (a := 0) (As := fun z => [.int a1]) (rest := []) hX (fun r e => cA_isPerson_t a1 h r e) ymX1_isPerson (lw_V q1056 q1058 qs37 q140 q1059) rfl ckX1 rfl ⟨Nat.le_of_ble_eq_true rfl, Nat.le_of_ble_eq_true rfl⟩ rfl rfl (Nat.le_of_ble_eq_true rfl) dX1_tell_2 (fun r1 h2 => ?_)
  refine j_ifeq (pc := 5) (tgt := 33) hX rfl dX1_tell_5 (fun _ => ?_) (fun _ => ?_)
  · refine j_iconst (pc := 33) hX ic_0 dX1_tell_33 ?_
    exact j_zret (pc := 34) hX (Or.inl rfl) hr dX1_tell_34
  · refine j_aload_n (pc := 8) hX 0 rfl dX1_tell_8 ?_
    refine j_iload_n (pc := 9) hX 2 rfl dX1_tell_9 ?_
    refine j_callV (pc := 10) (e1 := eI) (a := 0) (As := fun z => [.int a2]) (rest := []) hX (fun r e => cA_isFact_t a2 h2 r e) ymX1_isFact (lw_V q1218 q1220 qs40 q140 q1221) rfl ckX1 rfl ⟨Nat.le_of_ble_eq_true rfl, Nat.le_of_ble_eq_true rfl⟩ rfl rfl (Nat.le_of_ble_eq_true rfl) dX1_tell_10 (fun r3 h4 => ?_)
    refine j_ifeq (pc := 13) (tgt := 33) hX rfl dX1_tell_13 (fun _ => ?_) (fun _ => ?_)
    · refine j_iconst (pc := 33) hX ic_0 dX1_tell_33 ?_
      exact j_zret (pc := 34) hX (Or.inl rfl) hr dX1_tell_34
    · refine j_aload_n (pc := 16) hX 0 rfl dX1_tell_16 ?_
      refine c_getR (pc := 17) hX fgX1_95_X1.1 fgX1_95_X1.2 rfl rfl dX1_tell_17 ?_
      refine c_getR (pc := 20) hX fgX1_214_X9.1 fgX1_214_X9.2 rfl rfl dX1_tell_20 ?_
      refine j_iload_n (pc := 23) hX 1 rfl dX1_tell_23 ?_
      refine j_iald (pc := 24) (n := 5) hX rfl dX1_tell_24 (fun _ => ?_)
      refine j_iload_n (pc := 25) hX 2 rfl dX1_tell_25 ?_
      refine j_ishr (pc := 26) hX dX1_tell_26 ?_
      refine j_iconst (pc := 27) hX ic_1 dX1_tell_27 ?_
      refine j_iand (pc := 28) hX dX1_tell_28 ?_
      refine j_iconst (pc := 29) hX ic_1 dX1_tell_29 ?_
      refine j_cne (pc := 30) (tgt := 35) hX rfl dX1_tell_30 (fun _ => ?_) (fun _ => ?_)
      · refine j_iconst (pc := 33) hX ic_0 dX1_tell_33 ?_
        exact j_zret (pc := 34) hX (Or.inl rfl) hr dX1_tell_34
      · refine j_aload_n (pc := 35) hX 0 rfl dX1_tell_35 ?_
        refine j_callV (pc := 36) (e1 := eV) (a := 0) (As := fun z => []) (rest := []) hX (fun r e => cA_keepNow_t h4 r e) ymX1_keepNow (lw_V q1155 q1157 qs39 q140 q1158) rfl ckX1 rfl ⟨Nat.le_of_ble_eq_true rfl, Nat.le_of_ble_eq_true rfl⟩ rfl rfl (Nat.le_of_ble_eq_true rfl) dX1_tell_36 (fun r5 h6 => ?_)
        refine j_aload_n (pc := 39) hX 0 rfl dX1_tell_39 ?_
        refine c_getR (pc := 40) hX fgX1_95_X1.1 fgX1_95_X1.2 rfl rfl dX1_tell_40 ?_
        refine c_getR (pc := 43) hX fgX1_214_X9.1 fgX1_214_X9.2 rfl rfl dX1_tell_43 ?_
        refine j_iload_n (pc := 46) hX 1 rfl dX1_tell_46 ?_
        refine j_dup2 (pc := 47) hX rfl rfl dX1_tell_47 ?_
        refine j_iald (pc := 48) (n := 5) hX rfl dX1_tell_48 (fun _ => ?_)
        refine j_iconst (pc := 49) hX ic_1 dX1_tell_49 ?_
        refine j_iload_n (pc := 50) hX 2 rfl dX1_tell_50 ?_
        refine j_ishl (pc := 51) hX dX1_tell_51 ?_
        refine j_ior (pc := 52) hX dX1_tell_52 ?_
        refine c_iast (pc := 53) (n := 5) hX rfl dX1_tell_53 (fun h7 q8 q9 => ?_)
        refine j_iconst (pc := 54) hX ic_1 dX1_tell_54 ?_
        exact j_zret (pc := 55) hX (Or.inr rfl) hr dX1_tell_55
set_option maxHeartbeats 4000000 in
set_option maxRecDepth 100000 in
theorem cA_send_t   (a1 : Int32) (a2 : Int32) (h : HP) (rr : Int32 × HP) (e : cA_send a1 a2 h = some rr) : Cn cV yX1_send (ws_ yX1_send cX1_send 3 (some .boolean)) 4 61 (fun z => [.ref (z + 0), .int a1, .int a2]) h (fun z => eI z rr.1) rr.2 := by
  refine cn_of (e1 := eI) (fun z => [(0, .ref (z + 0)), (1, .int a1), (2, .int a2)]) cV_ok (cA_send_m a1 a2 h _ e) ymX1_send (fun _ => rfl) (fun _ => Nat.le_of_ble_eq_true rfl) (fun X hX hr hnm => ?_) e
  have hX : okX cV X rr cX1_send RX1 3 4 61 := hX
  rw [cA_send]
  refine j_aload_n (pc := 0) hX 0 rfl dX1_send_0 ?_
  refine j_iload_n (pc := 1) hX 1 rfl dX1_send_1 ?_
  refine j_callV (pc := 2) (e1 := eI) (a := 0) (As := fun z => [.int a1]) (rest := []) hX (fun r e => cA_isPerson_t a1 h r e) ymX1_isPerson (lw_V q1056 q1058 qs37 q140 q1059) rfl ckX1 rfl ⟨Nat.le_of_ble_eq_true rfl, Nat.le_of_ble_eq_true rfl⟩ rfl rfl (Nat.le_of_ble_eq_true rfl) dX1_send_2 (fun r1 h2 => ?_)
  refine j_ifeq (pc := 5) (tgt := 33) hX rfl dX1_send_5 (fun _ => ?_) (fun _ => ?_)
  · refine j_iconst (pc := 33) hX ic_0 dX1_send_33 ?_
    exact j_zret (pc := 34) hX (Or.inl rfl) hr dX1_send_34
  · refine j_iload_n (pc := 8) hX 2 rfl dX1_send_8 ?_
    refine j_i2l (pc := 9) hX dX1_send_9 ?_
    refine j_lconst (pc := 10) (v := 0) hX rfl dX1_send_10 ?_
    refine j_ldc2 (pc := 11) hX q1226 dX1_send_11 ?_
    refine j_callS (pc := 14) (e1 := eI) (As := fun z => [.long (a2).toInt64, .long (0 : Int64), .long (3 : Int64)]) (rest := []) hX (fun r e => cA_in_t (a2).toInt64 (0 : Int64) (3 : Int64) h2 r e) ymX1_in (lw_S q527 q528 q140 q529) ⟨Nat.le_of_ble_eq_true rfl, Nat.le_of_ble_eq_true rfl⟩ rfl rfl (Nat.le_of_ble_eq_true rfl) dX1_send_14 (fun r3 h4 => ?_)
    refine j_ifeq (pc := 17) (tgt := 33) hX rfl dX1_send_17 (fun _ => ?_) (fun _ => ?_)
    · refine j_iconst (pc := 33) hX ic_0 dX1_send_33 ?_
      exact j_zret (pc := 34) hX (Or.inl rfl) hr dX1_send_34
    · refine j_aload_n (pc := 20) hX 0 rfl dX1_send_20 ?_
      refine c_getR (pc := 21) hX fgX1_95_X1.1 fgX1_95_X1.2 rfl rfl dX1_send_21 ?_
      refine c_getR (pc := 24) hX fgX1_211_X9.1 fgX1_211_X9.2 rfl rfl dX1_send_24 ?_
      refine j_iload_n (pc := 27) hX 1 rfl dX1_send_27 ?_
      refine j_iald (pc := 28) (n := 5) hX rfl dX1_send_28 (fun _ => ?_)
      refine j_iload_n (pc := 29) hX 2 rfl dX1_send_29 ?_
      refine j_cne (pc := 30) (tgt := 35) hX rfl dX1_send_30 (fun _ => ?_) (fun _ => ?_)
      · refine j_iconst (pc := 33) hX ic_0 dX1_send_33 ?_
        exact j_zret (pc := 34) hX (Or.inl rfl) hr dX1_send_34
      · refine j_aload_n (pc := 35) hX 0 rfl dX1_send_35 ?_
        refine j_callV (pc := 36) (e1 := eV) (a := 0) (As := fun z => []) (rest := []) hX (fun r e => cA_keepNow_t h4 r e) ymX1_keepNow (lw_V q1155 q1157 qs39 q140 q1158) rfl ckX1 rfl ⟨Nat.le_of_ble_eq_true rfl, Nat.le_of_ble_eq_true rfl⟩ rfl rfl (Nat.le_of_ble_eq_true rfl) dX1_send_36 (fun r5 h6 => ?_)
        refine j_aload_n (pc := 39) hX 0 rfl dX1_send_39 ?_
        refine c_getR (pc := 40) hX fgX1_95_X1.1 fgX1_95_X1.2 rfl rfl dX1_send_40 ?_
        refine c_getR (pc := 43) hX fgX1_211_X9.1 fgX1_211_X9.2 rfl rfl dX1_send_43 ?_
        refine j_iload_n (pc := 46) hX 1 rfl dX1_send_46 ?_
        refine j_iload_n (pc := 47) hX 2 rfl dX1_send_47 ?_
        refine c_iast (pc := 48) (n := 5) hX rfl dX1_send_48 (fun h7 q8 q9 => ?_)
        refine j_iconst (pc := 49) hX ic_1 dX1_send_49 ?_
        exact j_zret (pc := 50) hX (Or.inr rfl) hr dX1_send_50
set_option maxHeartbeats 4000000 in
set_option maxRecDepth 100000 in
theorem cA_end_34_w {X : CTX} {rr : Int32 × HP}  (hX : okX cV X rr cX1_end RX1 2 3 55) (hr : (xh X).sig.returnType = some .int)  (k : HP → Option (Int32 × HP)) (hk : ∀  (h : HP), jG cV X evI rr (k  h) 55 [(0, .ref (xz X + 0))] [] h) : ∀ (n : Nat) (v1 : Int32) (h : HP), jG cV X evI rr (cA_end_34 k n v1 h) 34 [(0, .ref (xz X + 0)), (1, .int v1)] [] h := by
  intro n
  induction n with
  | zero =>
    intro v1 h
    exact j_none
  | succ n ih =>
    intro v1 h
    rw [cA_end_34]
    refine j_iload_n (pc := 34) hX 1 rfl dX1_end_34 ?_
    refine j_iconst (pc := 35) hX ic_5 dX1_end_35 ?_
    refine j_cge (pc := 36) (tgt := 55) hX rfl dX1_end_36 (fun _ => ?_) (fun _ => ?_)
    · refine j_locs [0] rfl ?_
      exact hk h
    · refine j_aload_n (pc := 39) hX 0 rfl dX1_end_39 ?_
      refine c_getR (pc := 40) hX fgX1_95_X1.1 fgX1_95_X1.2 rfl rfl dX1_end_40 ?_
      refine c_getR (pc := 43) hX fgX1_220_X9.1 fgX1_220_X9.2 rfl rfl dX1_end_43 ?_
      refine j_iload_n (pc := 46) hX 1 rfl dX1_end_46 ?_
      refine j_iconst (pc := 47) hX ic_0 dX1_end_47 ?_
      refine c_iast (pc := 48) (n := 5) hX rfl dX1_end_48 (fun h7 q8 q9 => ?_)
      refine j_iinc (pc := 49) hX 1 rfl (1 : Int32) ic_1 (fun x10 => [(1, .int x10), (0, .ref (xz X + 0))]) (fun _ => rfl) (Nat.le_of_ble_eq_true rfl) dX1_end_49 (fun x10 => ?_)
      refine j_goto (pc := 52) (tgt := 34) hX rfl dX1_end_52 ?_
      refine j_locs [1, 0] rfl ?_
      exact ih x10 h7
set_option maxHeartbeats 4000000 in
set_option maxRecDepth 100000 in
theorem cA_end_t    (h : HP) (rr : Int32 × HP) (e : cA_end  h = some rr) : Cn cV yX1_end (ws_ yX1_end cX1_end 2 (some .int)) 3 55 (fun z => [.ref (z + 0)]) h (fun z => eI z rr.1) rr.2 := by
  refine cn_of (e1 := eI) (fun z => [(0, .ref (z + 0))]) cV_ok (cA_end_m  h _ e) ymX1_end (fun _ => rfl) (fun _ => Nat.le_of_ble_eq_true rfl) (fun X hX hr hnm => ?_) e
  have hX : okX cV X rr cX1_end RX1 2 3 55 := hX
  rw [cA_end]
  refine j_aload_n (pc := 0) hX 0 rfl dX1_end_0 ?_
  refine c_getR (pc := 1) hX fgX1_95_X1.1 fgX1_95_X1.2 rfl rfl dX1_end_1 ?_
  refine c_getI (pc := 4) hX fgX1_272_X9.1 fgX1_272_X9.2 rfl dX1_end_4 ?_
  refine j_sipush (pc := 7) hX sp_999 dX1_end_7 ?_
  refine j_cne (pc := 10) (tgt := 15) hX rfl dX1_end_10 (fun _ => ?_) (fun _ => ?_)
  · refine j_iconst (pc := 13) hX ic_m1 dX1_end_13 ?_
    exact j_iret (pc := 14) hX hr dX1_end_14
  · refine j_aload_n (pc := 15) hX 0 rfl dX1_end_15 ?_
    refine j_callV (pc := 16) (e1 := eV) (a := 0) (As := fun z => []) (rest := []) hX (fun r e => cA_keepNow_t h r e) ymX1_keepNow (lw_V q1155 q1157 qs39 q140 q1158) rfl ckX1 rfl ⟨Nat.le_of_ble_eq_true rfl, Nat.le_of_ble_eq_true rfl⟩ rfl rfl (Nat.le_of_ble_eq_true rfl) dX1_end_16 (fun r1 h2 => ?_)
    refine j_aload_n (pc := 19) hX 0 rfl dX1_end_19 ?_
    refine c_getR (pc := 20) hX fgX1_95_X1.1 fgX1_95_X1.2 rfl rfl dX1_end_20 ?_
    refine j_dup (pc := 23) hX rfl dX1_end_23 ?_
    refine c_getI (pc := 24) hX fgX1_272_X9.1 fgX1_272_X9.2 rfl dX1_end_24 ?_
    refine j_iconst (pc := 27) hX ic_1 dX1_end_27 ?_
    refine j_iadd (pc := 28) hX dX1_end_28 ?_
    refine c_putI (pc := 29) hX fwX1_272_X9.1 fwX1_272_X9.2 rfl dX1_end_29 (fun h3 q4 q5 => ?_)
    refine j_iconst (pc := 32) hX ic_0 dX1_end_32 ?_
    refine j_istore_n (pc := 33) hX (fun x6 => [(1, .int x6), (0, .ref (xz X + 0))]) (fun _ => rfl) (Nat.le_of_ble_eq_true rfl) dX1_end_33 (fun x6 => ?_)
    refine j_locs [1, 0] rfl ?_
    refine cA_end_34_w hX hr  _ (fun  h11 => ?_) FU x6 h3
    refine j_aload_n (pc := 55) hX 0 rfl dX1_end_55 ?_
    refine c_getR (pc := 56) hX fgX1_95_X1.1 fgX1_95_X1.2 rfl rfl dX1_end_56 ?_
    refine c_getI (pc := 59) hX fgX1_272_X9.1 fgX1_272_X9.2 rfl dX1_end_59 ?_
    exact j_iret (pc := 62) hX hr dX1_end_62
set_option maxHeartbeats 4000000 in
set_option maxRecDepth 100000 in
theorem cS_sum_4_w {X : CTX} {rr : Int32 × HP}  (hX : okX cV X rr cX9_sum RX9 3 3 40) (hr : (xh X).sig.returnType = some .int) (f0 : Nat) (k : Int32 → HP → Option (Int32 × HP)) (hk : ∀ (v1 : Int32) (h : HP), jG cV X evI rr (k v1 h) 49 [(1, .int v1)] [] h) : ∀ (n : Nat) (v1 : Int32) (v2 : Int32) (h : HP), jG cV X evI rr (cS_sum_4 f0 k n v1 v2 h) 4 [(0, .ref (xz X + f0)), (1, .int v1), (2, .int v2)] [] h := by
  intro n
  induction n with
  | zero =>
    intro v1 v2 h
    exact j_none
  | succ n ih =>
    intro v1 v2 h
    rw [cS_sum_4]
    refine j_iload_n (pc := 4) hX 2 rfl dX9_sum_4 ?_
    refine j_aload_n (pc := 5) hX 0 rfl dX9_sum_5 ?_
    refine j_grd fun g3 => ?_
    refine c_getR (pc := 6) hX fgX9_3_X9.1 fgX9_3_X9.2 (k1_of g3.1) g3.2.1.2.2.2.2 dX9_sum_6 ?_
    refine j_callVN (pc := 9) (e1 := eI) (a := 0) (As := fun z => []) (rest := [.int v2]) hX (fun r e => cA_persons_t h r e) ymX1_persons (List.mem_of_getElem? (i := 18) rfl) q415 qs0 q140 q416 ckX1 rfl ⟨Nat.le_of_ble_eq_true rfl, Nat.le_of_ble_eq_true rfl⟩ rfl rfl (Nat.le_of_ble_eq_true rfl) dX9_sum_9 (fun r4 h5 => ?_)
    refine j_cge (pc := 12) (tgt := 49) hX rfl dX9_sum_12 (fun _ => ?_) (fun _ => ?_)
    · refine j_locs [1] rfl ?_
      exact hk v1 h5
    · refine j_iload_n (pc := 15) hX 1 rfl dX9_sum_15 ?_
      refine j_aload_n (pc := 16) hX 0 rfl dX9_sum_16 ?_
      refine j_grd fun g6 => ?_
      refine c_getI (pc := 17) hX fgX9_69_X9.1 fgX9_69_X9.2 (k1_of g6.1) dX9_sum_17 ?_
      refine j_iload_n (pc := 20) hX 2 rfl dX9_sum_20 ?_
      refine j_ishr (pc := 21) hX dX9_sum_21 ?_
      refine j_iconst (pc := 22) hX ic_1 dX9_sum_22 ?_
      refine j_iand (pc := 23) hX dX9_sum_23 ?_
      refine j_iconst (pc := 24) hX ic_1 dX9_sum_24 ?_
      refine j_jon (fun (j7 : Int32 → HP → Option (Int32 × HP)) => ∀ (s8 : Int32) (h9 : HP), jG cV X evI rr (j7 s8 h9) 41 [(0, .ref (xz X + f0)), (2, .int v2)] [.int s8, .int v1] h9) ?_ ?_
      · intro s8 h9
        refine j_iadd (pc := 41) hX dX9_sum_41 ?_
        refine j_istore_n (pc := 42) hX (fun x10 => [(1, .int x10), (0, .ref (xz X + f0)), (2, .int v2)]) (fun _ => rfl) (Nat.le_of_ble_eq_true rfl) dX9_sum_42 (fun x10 => ?_)
        refine j_iinc (pc := 43) hX 2 rfl (1 : Int32) ic_1 (fun x11 => [(2, .int x11), (1, .int x10), (0, .ref (xz X + f0))]) (fun _ => rfl) (Nat.le_of_ble_eq_true rfl) dX9_sum_43 (fun x11 => ?_)
        refine j_goto (pc := 46) (tgt := 4) hX rfl dX9_sum_46 ?_
        refine j_locs [2, 1, 0] rfl ?_
        exact ih x10 x11 h9
      · intro j7 hj7
        refine j_cne (pc := 25) (tgt := 32) hX rfl dX9_sum_25 (fun _ => ?_) (fun _ => ?_)
        · refine j_iconst (pc := 28) hX ic_0 dX9_sum_28 ?_
          refine j_goto (pc := 29) (tgt := 41) hX rfl dX9_sum_29 ?_
          refine j_locs [0, 2] rfl ?_
          exact hj7 (0 : Int32) h5
        · refine j_aload_n (pc := 32) hX 0 rfl dX9_sum_32 ?_
          refine c_getR (pc := 33) hX fgX9_15_X9.1 fgX9_15_X9.2 (k1_of g6.1) g6.2.1.1 dX9_sum_33 ?_
          refine j_iload_n (pc := 36) hX 2 rfl dX9_sum_36 ?_
          refine j_iald (pc := 37) (n := 5) hX g6.2.2.1 dX9_sum_37 (fun _ => ?_)
          refine j_callS (pc := 38) (e1 := eI) (As := fun z => [.int (gI h5 (f0 + 1) (v2).toNatClampNeg)]) (rest := [.int v1]) hX (fun r e => kJ18_bitCount_t (gI h5 (f0 + 1) (v2).toNatClampNeg) h5 r e) ymJ18_bitCount (lw_S q1105 q1106 q178 q1107) ⟨Nat.le_of_ble_eq_true rfl, Nat.le_of_ble_eq_true rfl⟩ rfl rfl (Nat.le_of_ble_eq_true rfl) dX9_sum_38 (fun r12 h13 => ?_)
          refine j_locs [0, 2] rfl ?_
          exact hj7 r12 h13
set_option maxHeartbeats 4000000 in
set_option maxRecDepth 100000 in
theorem cS_sum_t   (o : Nat) (h : HP) (rr : Int32 × HP) (e : cS_sum o h = some rr) : Cn cV yX9_sum (ws_ yX9_sum cX9_sum 3 (some .int)) 3 40 (fun z => [.ref (z + o)]) h (fun z => eI z rr.1) rr.2 := by
  refine cn_of (e1 := eI) (fun z => [(0, .ref (z + o))]) cV_ok (cS_sum_m o h _ e) ymX9_sum (fun _ => rfl) (fun _ => Nat.le_of_ble_eq_true rfl) (fun X hX hr hnm => ?_) e
  have hX : okX cV X rr cX9_sum RX9 3 3 40 := hX
  rw [cS_sum]
  refine j_iconst (pc := 0) hX ic_0 dX9_sum_0 ?_
  refine j_istore_n (pc := 1) hX (fun x1 => [(1, .int x1), (0, .ref (xz X + o))]) (fun _ => rfl) (Nat.le_of_ble_eq_true rfl) dX9_sum_1 (fun x1 => ?_)
  refine j_iconst (pc := 2) hX ic_0 dX9_sum_2 ?_
  refine j_istore_n (pc := 3) hX (fun x2 => [(2, .int x2), (1, .int x1), (0, .ref (xz X + o))]) (fun _ => rfl) (Nat.le_of_ble_eq_true rfl) dX9_sum_3 (fun x2 => ?_)
  refine j_locs [2, 1, 0] rfl ?_
  refine cS_sum_4_w hX hr o _ (fun x14 h15 => ?_) FU x1 x2 h
  refine j_iload_n (pc := 49) hX 0 rfl dX9_sum_49 ?_
  exact j_iret (pc := 50) hX hr dX9_sum_50
set_option maxHeartbeats 4000000 in
set_option maxRecDepth 100000 in
theorem cS_askAll_42_w {X : CTX} {rr : Unit × HP}  (hX : okX cV X rr cX9_askAll RX9 6 164 3862) (hr : (xh X).sig.returnType = none) (f0 : Nat) (f2 : Int32) (f3 : Int32) (f4 : Int32) (k : HP → Option (Unit × HP)) (hk : ∀  (h : HP), jG cV X evV rr (k  h) 84 [(0, .ref (xz X + f0)), (2, .int f2), (3, .int f3), (4, .int f4)] [] h) : ∀ (n : Nat) (v5 : Int32) (h : HP), jG cV X evV rr (cS_askAll_42 f0 f2 f3 f4 k n v5 h) 42 [(0, .ref (xz X + f0)), (2, .int f2), (3, .int f3), (4, .int f4), (5, .int v5)] [] h := by
  intro n
  induction n with
  | zero =>
    intro v5 h
    exact j_none
  | succ n ih =>
    intro v5 h
    rw [cS_askAll_42]
    refine j_iload (pc := 42) hX 4 rfl dX9_askAll_42 ?_
    refine j_aload_n (pc := 44) hX 0 rfl dX9_askAll_44 ?_
    refine j_grd fun g15 => ?_
    refine c_getR (pc := 45) hX fgX9_3_X9.1 fgX9_3_X9.2 (k1_of g15.1) g15.2.1.2.2.2.2 dX9_askAll_45 ?_
    refine j_callVN (pc := 48) (e1 := eI) (a := 0) (As := fun z => []) (rest := [.int v5]) hX (fun r e => cA_questions_t h r e) ymX1_questions (List.mem_of_getElem? (i := 17) rfl) q1044 qs35 q140 q1045 ckX1 rfl ⟨Nat.le_of_ble_eq_true rfl, Nat.le_of_ble_eq_true rfl⟩ rfl rfl (Nat.le_of_ble_eq_true rfl) dX9_askAll_48 (fun r16 h17 => ?_)
    refine j_cge (pc := 51) (tgt := 84) hX rfl dX9_askAll_51 (fun _ => ?_) (fun _ => ?_)
    · refine j_locs [0, 1, 2, 3] rfl ?_
      exact hk h17
    · refine j_aload_n (pc := 54) hX 0 rfl dX9_askAll_54 ?_
      refine j_iload_n (pc := 55) hX 2 rfl dX9_askAll_55 ?_
      refine j_iload (pc := 56) hX 3 rfl dX9_askAll_56 ?_
      refine j_iload (pc := 58) hX 4 rfl dX9_askAll_58 ?_
      refine j_iconst (pc := 60) hX ic_0 dX9_askAll_60 ?_
      refine j_grd fun g20 => ?_
      refine j_callV (pc := 61) (e1 := eI) (a := f0) (As := fun z => [.int f3, .int f4, .int v5, .int (0 : Int32)]) (rest := []) hX (fun r e => cS_can_t f0 f3 f4 v5 (0 : Int32) h17 r e) ymX9_can (lw_V q1248 q1062 q1063 q151 q1064) rfl ckX9 (k1_of g20.1) ⟨Nat.le_of_ble_eq_true rfl, Nat.le_of_ble_eq_true rfl⟩ rfl rfl (Nat.le_of_ble_eq_true rfl) dX9_askAll_61 (fun r18 h19 => ?_)
      refine j_ifeq (pc := 64) (tgt := 78) hX rfl dX9_askAll_64 (fun _ => ?_) (fun _ => ?_)
      · refine j_iinc (pc := 78) hX 4 rfl (1 : Int32) ic_1 (fun x21 => [(5, .int x21), (0, .ref (xz X + f0)), (2, .int f2), (3, .int f3), (4, .int f4)]) (fun _ => rfl) (Nat.le_of_ble_eq_true rfl) dX9_askAll_78 (fun x21 => ?_)
        refine j_goto (pc := 81) (tgt := 42) hX rfl dX9_askAll_81 ?_
        refine j_locs [1, 2, 3, 4, 0] rfl ?_
        exact ih x21 h19
      · refine j_aload_n (pc := 67) hX 0 rfl dX9_askAll_67 ?_
        refine j_iload_n (pc := 68) hX 2 rfl dX9_askAll_68 ?_
        refine j_iload (pc := 69) hX 3 rfl dX9_askAll_69 ?_
        refine j_iload (pc := 71) hX 4 rfl dX9_askAll_71 ?_
        refine j_iconst (pc := 73) hX ic_0 dX9_askAll_73 ?_
        refine j_grd fun g24 => ?_
        refine j_callV (pc := 74) (e1 := eI) (a := f0) (As := fun z => [.int f3, .int f4, .int v5, .int (0 : Int32)]) (rest := []) hX (fun r e => cS_ask_t f0 f3 f4 v5 (0 : Int32) h19 r e) ymX9_ask (lw_V q1249 q1164 q1165 q151 q1166) rfl ckX9 (k1_of g24.1) ⟨Nat.le_of_ble_eq_true rfl, Nat.le_of_ble_eq_true rfl⟩ rfl rfl (Nat.le_of_ble_eq_true rfl) dX9_askAll_74 (fun r22 h23 => ?_)
        refine j_pop (pc := 77) hX rfl dX9_askAll_77 ?_
        refine j_iinc (pc := 78) hX 4 rfl (1 : Int32) ic_1 (fun x25 => [(5, .int x25), (0, .ref (xz X + f0)), (2, .int f2), (3, .int f3), (4, .int f4)]) (fun _ => rfl) (Nat.le_of_ble_eq_true rfl) dX9_askAll_78 (fun x25 => ?_)
        refine j_goto (pc := 81) (tgt := 42) hX rfl dX9_askAll_81 ?_
        refine j_locs [1, 2, 3, 4, 0] rfl ?_
        exact ih x25 h23
set_option maxHeartbeats 4000000 in
set_option maxRecDepth 100000 in
theorem cS_askAll_27_w {X : CTX} {rr : Unit × HP}  (hX : okX cV X rr cX9_askAll RX9 6 164 3862) (hr : (xh X).sig.returnType = none) (f0 : Nat) (f2 : Int32) (f3 : Int32) (k : HP → Option (Unit × HP)) (hk : ∀  (h : HP), jG cV X evV rr (k  h) 90 [(0, .ref (xz X + f0)), (2, .int f2), (3, .int f3)] [] h) : ∀ (n : Nat) (v4 : Int32) (h : HP), jG cV X evV rr (cS_askAll_27 f0 f2 f3 k n v4 h) 27 [(0, .ref (xz X + f0)), (2, .int f2), (3, .int f3), (4, .int v4)] [] h := by
  intro n
  induction n with
  | zero =>
    intro v4 h
    exact j_none
  | succ n ih =>
    intro v4 h
    rw [cS_askAll_27]
    refine j_iload (pc := 27) hX 3 rfl dX9_askAll_27 ?_
    refine j_aload_n (pc := 29) hX 0 rfl dX9_askAll_29 ?_
    refine j_grd fun g11 => ?_
    refine c_getR (pc := 30) hX fgX9_3_X9.1 fgX9_3_X9.2 (k1_of g11.1) g11.2.1.2.2.2.2 dX9_askAll_30 ?_
    refine j_callVN (pc := 33) (e1 := eI) (a := 0) (As := fun z => []) (rest := [.int v4]) hX (fun r e => cA_persons_t h r e) ymX1_persons (List.mem_of_getElem? (i := 18) rfl) q415 qs0 q140 q416 ckX1 rfl ⟨Nat.le_of_ble_eq_true rfl, Nat.le_of_ble_eq_true rfl⟩ rfl rfl (Nat.le_of_ble_eq_true rfl) dX9_askAll_33 (fun r12 h13 => ?_)
    refine j_cge (pc := 36) (tgt := 90) hX rfl dX9_askAll_36 (fun _ => ?_) (fun _ => ?_)
    · refine j_locs [0, 1, 2] rfl ?_
      exact hk h13
    · refine j_iconst (pc := 39) hX ic_0 dX9_askAll_39 ?_
      refine j_istore (pc := 40) hX (fun x14 => [(5, .int x14), (0, .ref (xz X + f0)), (2, .int f2), (3, .int f3), (4, .int v4)]) (fun _ => rfl) (Nat.le_of_ble_eq_true rfl) dX9_askAll_40 (fun x14 => ?_)
      refine j_locs [1, 2, 3, 4, 0] rfl ?_
      refine cS_askAll_42_w hX hr f0 f2 f3 v4 _ (fun  h26 => ?_) FU x14 h13
      refine j_iinc (pc := 84) hX 3 rfl (1 : Int32) ic_1 (fun x27 => [(4, .int x27), (0, .ref (xz X + f0)), (2, .int f2), (3, .int f3)]) (fun _ => rfl) (Nat.le_of_ble_eq_true rfl) dX9_askAll_84 (fun x27 => ?_)
      refine j_goto (pc := 87) (tgt := 27) hX rfl dX9_askAll_87 ?_
      refine j_locs [1, 2, 3, 0] rfl ?_
      exact ih x27 h26
set_option maxHeartbeats 4000000 in
set_option maxRecDepth 100000 in
theorem cS_askAll_13_w {X : CTX} {rr : Unit × HP}  (hX : okX cV X rr cX9_askAll RX9 6 164 3862) (hr : (xh X).sig.returnType = none) (f0 : Nat) (f2 : Int32) (k : HP → Option (Unit × HP)) (hk : ∀  (h : HP), jG cV X evV rr (k  h) 96 [(0, .ref (xz X + f0)), (2, .int f2)] [] h) : ∀ (n : Nat) (v3 : Int32) (h : HP), jG cV X evV rr (cS_askAll_13 f0 f2 k n v3 h) 13 [(0, .ref (xz X + f0)), (2, .int f2), (3, .int v3)] [] h := by
  intro n
  induction n with
  | zero =>
    intro v3 h
    exact j_none
  | succ n ih =>
    intro v3 h
    rw [cS_askAll_13]
    refine j_iload_n (pc := 13) hX 2 rfl dX9_askAll_13 ?_
    refine j_aload_n (pc := 14) hX 0 rfl dX9_askAll_14 ?_
    refine j_grd fun g7 => ?_
    refine c_getR (pc := 15) hX fgX9_3_X9.1 fgX9_3_X9.2 (k1_of g7.1) g7.2.1.2.2.2.2 dX9_askAll_15 ?_
    refine j_callVN (pc := 18) (e1 := eI) (a := 0) (As := fun z => []) (rest := [.int v3]) hX (fun r e => cA_persons_t h r e) ymX1_persons (List.mem_of_getElem? (i := 18) rfl) q415 qs0 q140 q416 ckX1 rfl ⟨Nat.le_of_ble_eq_true rfl, Nat.le_of_ble_eq_true rfl⟩ rfl rfl (Nat.le_of_ble_eq_true rfl) dX9_askAll_18 (fun r8 h9 => ?_)
    refine j_cge (pc := 21) (tgt := 96) hX rfl dX9_askAll_21 (fun _ => ?_) (fun _ => ?_)
    · refine j_locs [0, 1] rfl ?_
      exact hk h9
    · refine j_iconst (pc := 24) hX ic_0 dX9_askAll_24 ?_
      refine j_istore (pc := 25) hX (fun x10 => [(4, .int x10), (0, .ref (xz X + f0)), (2, .int f2), (3, .int v3)]) (fun _ => rfl) (Nat.le_of_ble_eq_true rfl) dX9_askAll_25 (fun x10 => ?_)
      refine j_locs [1, 2, 3, 0] rfl ?_
      refine cS_askAll_27_w hX hr f0 f2 v3 _ (fun  h28 => ?_) FU x10 h9
      refine j_iinc (pc := 90) hX 2 rfl (1 : Int32) ic_1 (fun x29 => [(3, .int x29), (0, .ref (xz X + f0)), (2, .int f2)]) (fun _ => rfl) (Nat.le_of_ble_eq_true rfl) dX9_askAll_90 (fun x29 => ?_)
      refine j_goto (pc := 93) (tgt := 13) hX rfl dX9_askAll_93 ?_
      refine j_locs [1, 2, 0] rfl ?_
      exact ih x29 h28
set_option maxHeartbeats 4000000 in
set_option maxRecDepth 100000 in
theorem cS_askAll_2_w {X : CTX} {rr : Unit × HP}  (hX : okX cV X rr cX9_askAll RX9 6 164 3862) (hr : (xh X).sig.returnType = none) (f0 : Nat) (k : HP → Option (Unit × HP)) (hk : ∀  (h : HP), jG cV X evV rr (k  h) 113 [] [] h) : ∀ (n : Nat) (v1 : Int32) (h : HP), jG cV X evV rr (cS_askAll_2 f0 k n v1 h) 2 [(0, .ref (xz X + f0)), (1, .int v1)] [] h := by
  intro n
  induction n with
  | zero =>
    intro v1 h
    exact j_none
  | succ n ih =>
    intro v1 h
    rw [cS_askAll_2]
    refine j_iload_n (pc := 2) hX 1 rfl dX9_askAll_2 ?_
    refine j_ifeq (pc := 3) (tgt := 113) hX rfl dX9_askAll_3 (fun _ => ?_) (fun _ => ?_)
    · refine j_locs [] rfl ?_
      exact hk h
    · refine j_aload_n (pc := 6) hX 0 rfl dX9_askAll_6 ?_
      refine j_grd fun g4 => ?_
      refine j_callV (pc := 7) (e1 := eI) (a := f0) (As := fun z => []) (rest := []) hX (fun r e => cS_sum_t f0 h r e) ymX9_sum (lw_V q1243 q1244 q1245 q151 q1246) rfl ckX9 (k1_of g4.1) ⟨Nat.le_of_ble_eq_true rfl, Nat.le_of_ble_eq_true rfl⟩ rfl rfl (Nat.le_of_ble_eq_true rfl) dX9_askAll_7 (fun r2 h3 => ?_)
      refine j_istore_n (pc := 10) hX (fun x5 => [(2, .int x5), (0, .ref (xz X + f0)), (1, .int v1)]) (fun _ => rfl) (Nat.le_of_ble_eq_true rfl) dX9_askAll_10 (fun x5 => ?_)
      refine j_iconst (pc := 11) hX ic_0 dX9_askAll_11 ?_
      refine j_istore_n (pc := 12) hX (fun x6 => [(3, .int x6), (2, .int x5), (0, .ref (xz X + f0)), (1, .int v1)]) (fun _ => rfl) (Nat.le_of_ble_eq_true rfl) dX9_askAll_12 (fun x6 => ?_)
      refine j_locs [2, 1, 0] rfl ?_
      refine cS_askAll_13_w hX hr f0 x5 _ (fun  h30 => ?_) FU x6 h3
      refine j_aload_n (pc := 96) hX 0 rfl dX9_askAll_96 ?_
      refine j_grd fun g33 => ?_
      refine j_callV (pc := 97) (e1 := eI) (a := f0) (As := fun z => []) (rest := []) hX (fun r e => cS_sum_t f0 h30 r e) ymX9_sum (lw_V q1243 q1244 q1245 q151 q1246) rfl ckX9 (k1_of g33.1) ⟨Nat.le_of_ble_eq_true rfl, Nat.le_of_ble_eq_true rfl⟩ rfl rfl (Nat.le_of_ble_eq_true rfl) dX9_askAll_97 (fun r31 h32 => ?_)
      refine j_iload_n (pc := 100) hX 1 rfl dX9_askAll_100 ?_
      refine j_cle (pc := 101) (tgt := 108) hX rfl dX9_askAll_101 (fun _ => ?_) (fun _ => ?_)
      · refine j_iconst (pc := 108) hX ic_0 dX9_askAll_108 ?_
        refine j_istore_n (pc := 109) hX (fun x34 => [(1, .int x34), (0, .ref (xz X + f0)), (2, .int x5)]) (fun _ => rfl) (Nat.le_of_ble_eq_true rfl) dX9_askAll_109 (fun x34 => ?_)
        refine j_goto (pc := 110) (tgt := 2) hX rfl dX9_askAll_110 ?_
        refine j_locs [1, 0] rfl ?_
        exact ih x34 h32
      · refine j_iconst (pc := 104) hX ic_1 dX9_askAll_104 ?_
        refine j_goto (pc := 105) (tgt := 109) hX rfl dX9_askAll_105 ?_
        refine j_istore_n (pc := 109) hX (fun x35 => [(1, .int x35), (0, .ref (xz X + f0)), (2, .int x5)]) (fun _ => rfl) (Nat.le_of_ble_eq_true rfl) dX9_askAll_109 (fun x35 => ?_)
        refine j_goto (pc := 110) (tgt := 2) hX rfl dX9_askAll_110 ?_
        refine j_locs [1, 0] rfl ?_
        exact ih x35 h32
set_option maxHeartbeats 4000000 in
set_option maxRecDepth 100000 in
theorem cS_askAll_t   (o : Nat) (h : HP) (rr : Unit × HP) (e : cS_askAll o h = some rr) : Cn cV yX9_askAll (ws_ yX9_askAll cX9_askAll 6 (none)) 164 3862 (fun z => [.ref (z + o)]) h (fun z => eV z rr.1) rr.2 := by
  refine cn_of (e1 := eV) (fun z => [(0, .ref (z + o))]) cV_ok (cS_askAll_m o h _ e) ymX9_askAll (fun _ => rfl) (fun _ => Nat.le_of_ble_eq_true rfl) (fun X hX hr hnm => ?_) e
  have hX : okX cV X rr cX9_askAll RX9 6 164 3862 := hX
  rw [cS_askAll]
  refine j_iconst (pc := 0) hX ic_1 dX9_askAll_0 ?_
  refine j_istore_n (pc := 1) hX (fun x1 => [(1, .int x1), (0, .ref (xz X + o))]) (fun _ => rfl) (Nat.le_of_ble_eq_true rfl) dX9_askAll_1 (fun x1 => ?_)
  refine j_locs [1, 0] rfl ?_
  refine cS_askAll_2_w hX hr o _ (fun  h36 => ?_) FU x1 h
  exact j_vret (pc := 113) hX hr dX9_askAll_113
set_option maxHeartbeats 4000000 in
set_option maxRecDepth 100000 in
theorem cA_askAllWithout_t   (a1 : Int32) (h : HP) (rr : Unit × HP) (e : cA_askAllWithout a1 h = some rr) : Cn cV yX1_askAllWithout (ws_ yX1_askAllWithout cX1_askAllWithout 2 (none)) 165 3887 (fun z => [.ref (z + 0), .int a1]) h (fun z => eV z rr.1) rr.2 := by
  refine cn_of (e1 := eV) (fun z => [(0, .ref (z + 0)), (1, .int a1)]) cV_ok (cA_askAllWithout_m a1 h _ e) ymX1_askAllWithout (fun _ => rfl) (fun _ => Nat.le_of_ble_eq_true rfl) (fun X hX hr hnm => ?_) e
  have hX : okX cV X rr cX1_askAllWithout RX1 2 165 3887 := hX
  rw [cA_askAllWithout]
  refine j_aload_n (pc := 0) hX 0 rfl dX1_askAllWithout_0 ?_
  refine c_getR (pc := 1) hX fgX1_99_X1.1 fgX1_99_X1.2 rfl rfl dX1_askAllWithout_1 ?_
  refine j_aload_n (pc := 4) hX 0 rfl dX1_askAllWithout_4 ?_
  refine c_getR (pc := 5) hX fgX1_95_X1.1 fgX1_95_X1.2 rfl rfl dX1_askAllWithout_5 ?_
  refine j_callV (pc := 8) (e1 := eV) (a := 25) (As := fun z => [.ref (z + 20)]) (rest := []) hX (fun r e => cS_become_t 25 20 h r e) ymX9_become (lw_V q1159 q1160 q1161 q151 q1162) rfl ckX9 rfl ⟨Nat.le_of_ble_eq_true rfl, Nat.le_of_ble_eq_true rfl⟩ rfl rfl (Nat.le_of_ble_eq_true rfl) dX1_askAllWithout_8 (fun r1 h2 => ?_)
  refine j_aload_n (pc := 11) hX 0 rfl dX1_askAllWithout_11 ?_
  refine c_getR (pc := 12) hX fgX1_99_X1.1 fgX1_99_X1.2 rfl rfl dX1_askAllWithout_12 ?_
  refine j_iload_n (pc := 15) hX 1 rfl dX1_askAllWithout_15 ?_
  refine c_putI (pc := 16) hX fwX1_275_X9.1 fwX1_275_X9.2 rfl dX1_askAllWithout_16 (fun h3 q4 q5 => ?_)
  refine j_aload_n (pc := 19) hX 0 rfl dX1_askAllWithout_19 ?_
  refine c_getR (pc := 20) hX fgX1_99_X1.1 fgX1_99_X1.2 rfl rfl dX1_askAllWithout_20 ?_
  refine j_callV (pc := 23) (e1 := eV) (a := 25) (As := fun z => []) (rest := []) hX (fun r e => cS_askAll_t 25 h3 r e) ymX9_askAll (lw_V q1239 q1240 q1241 q151 q1242) rfl ckX9 rfl ⟨Nat.le_of_ble_eq_true rfl, Nat.le_of_ble_eq_true rfl⟩ rfl rfl (Nat.le_of_ble_eq_true rfl) dX1_askAllWithout_23 (fun r6 h7 => ?_)
  exact j_vret (pc := 26) hX hr dX1_askAllWithout_26
set_option maxHeartbeats 4000000 in
set_option maxRecDepth 100000 in
theorem cA_all_t   (a1 : Int32) (h : HP) (rr : Int32 × HP) (e : cA_all a1 h = some rr) : Cn cV yX1_all (ws_ yX1_all cX1_all 2 (some .int)) 166 3908 (fun z => [.ref (z + 0), .int a1]) h (fun z => eI z rr.1) rr.2 := by
  refine cn_of (e1 := eI) (fun z => [(0, .ref (z + 0)), (1, .int a1)]) cV_ok (cA_all_m a1 h _ e) ymX1_all (fun _ => rfl) (fun _ => Nat.le_of_ble_eq_true rfl) (fun X hX hr hnm => ?_) e
  have hX : okX cV X rr cX1_all RX1 2 166 3908 := hX
  rw [cA_all]
  refine j_aload_n (pc := 0) hX 0 rfl dX1_all_0 ?_
  refine j_iload_n (pc := 1) hX 1 rfl dX1_all_1 ?_
  refine j_callV (pc := 2) (e1 := eI) (a := 0) (As := fun z => [.int a1]) (rest := []) hX (fun r e => cA_isPerson_t a1 h r e) ymX1_isPerson (lw_V q1056 q1058 qs37 q140 q1059) rfl ckX1 rfl ⟨Nat.le_of_ble_eq_true rfl, Nat.le_of_ble_eq_true rfl⟩ rfl rfl (Nat.le_of_ble_eq_true rfl) dX1_all_2 (fun r1 h2 => ?_)
  refine j_ifne (pc := 5) (tgt := 10) hX rfl dX1_all_5 (fun _ => ?_) (fun _ => ?_)
  · refine j_iconst (pc := 8) hX ic_m1 dX1_all_8 ?_
    exact j_iret (pc := 9) hX hr dX1_all_9
  · refine j_aload_n (pc := 10) hX 0 rfl dX1_all_10 ?_
    refine j_iconst (pc := 11) hX ic_0 dX1_all_11 ?_
    refine j_callV (pc := 12) (e1 := eV) (a := 0) (As := fun z => [.int (0 : Int32)]) (rest := []) hX (fun r e => cA_askAllWithout_t (0 : Int32) h2 r e) ymX1_askAllWithout (lw_V q1235 q1237 qs41 q140 q1238) rfl ckX1 rfl ⟨Nat.le_of_ble_eq_true rfl, Nat.le_of_ble_eq_true rfl⟩ rfl rfl (Nat.le_of_ble_eq_true rfl) dX1_all_12 (fun r3 h4 => ?_)
    refine j_aload_n (pc := 15) hX 0 rfl dX1_all_15 ?_
    refine c_getR (pc := 16) hX fgX1_99_X1.1 fgX1_99_X1.2 rfl rfl dX1_all_16 ?_
    refine c_getR (pc := 19) hX fgX1_214_X9.1 fgX1_214_X9.2 rfl rfl dX1_all_19 ?_
    refine j_iload_n (pc := 22) hX 1 rfl dX1_all_22 ?_
    refine j_iald (pc := 23) (n := 5) hX rfl dX1_all_23 (fun _ => ?_)
    exact j_iret (pc := 24) hX hr dX1_all_24
set_option maxHeartbeats 4000000 in
set_option maxRecDepth 100000 in
theorem cA_learns_t   (a1 : Int32) (a2 : Int32) (a3 : Int32) (h : HP) (rr : Int32 × HP) (e : cA_learns a1 a2 a3 h = some rr) : Cn cV yX1_learns (ws_ yX1_learns cX1_learns 4 (some .boolean)) 166 3908 (fun z => [.ref (z + 0), .int a1, .int a2, .int a3]) h (fun z => eI z rr.1) rr.2 := by
  refine cn_of (e1 := eI) (fun z => [(0, .ref (z + 0)), (1, .int a1), (2, .int a2), (3, .int a3)]) cV_ok (cA_learns_m a1 a2 a3 h _ e) ymX1_learns (fun _ => rfl) (fun _ => Nat.le_of_ble_eq_true rfl) (fun X hX hr hnm => ?_) e
  have hX : okX cV X rr cX1_learns RX1 4 166 3908 := hX
  rw [cA_learns]
  refine j_aload_n (pc := 0) hX 0 rfl dX1_learns_0 ?_
  refine j_iload_n (pc := 1) hX 3 rfl dX1_learns_1 ?_
  refine j_callV (pc := 2) (e1 := eV) (a := 0) (As := fun z => [.int a3]) (rest := []) hX (fun r e => cA_askAllWithout_t a3 h r e) ymX1_askAllWithout (lw_V q1235 q1237 qs41 q140 q1238) rfl ckX1 rfl ⟨Nat.le_of_ble_eq_true rfl, Nat.le_of_ble_eq_true rfl⟩ rfl rfl (Nat.le_of_ble_eq_true rfl) dX1_learns_2 (fun r1 h2 => ?_)
  refine j_aload_n (pc := 5) hX 0 rfl dX1_learns_5 ?_
  refine c_getR (pc := 6) hX fgX1_99_X1.1 fgX1_99_X1.2 rfl rfl dX1_learns_6 ?_
  refine c_getR (pc := 9) hX fgX1_214_X9.1 fgX1_214_X9.2 rfl rfl dX1_learns_9 ?_
  refine j_iload_n (pc := 12) hX 1 rfl dX1_learns_12 ?_
  refine j_iald (pc := 13) (n := 5) hX rfl dX1_learns_13 (fun _ => ?_)
  refine j_iload_n (pc := 14) hX 2 rfl dX1_learns_14 ?_
  refine j_ishr (pc := 15) hX dX1_learns_15 ?_
  refine j_iconst (pc := 16) hX ic_1 dX1_learns_16 ?_
  refine j_iand (pc := 17) hX dX1_learns_17 ?_
  refine j_iconst (pc := 18) hX ic_1 dX1_learns_18 ?_
  refine j_cne (pc := 19) (tgt := 26) hX rfl dX1_learns_19 (fun _ => ?_) (fun _ => ?_)
  · refine j_iconst (pc := 22) hX ic_1 dX1_learns_22 ?_
    refine j_goto (pc := 23) (tgt := 27) hX rfl dX1_learns_23 ?_
    exact j_zret (pc := 27) hX (Or.inr rfl) hr dX1_learns_27
  · refine j_iconst (pc := 26) hX ic_0 dX1_learns_26 ?_
    exact j_zret (pc := 27) hX (Or.inl rfl) hr dX1_learns_27
set_option maxHeartbeats 4000000 in
set_option maxRecDepth 100000 in
theorem cA_never_t   (a1 : Int32) (a2 : Int32) (h : HP) (rr : Int32 × HP) (e : cA_never a1 a2 h = some rr) : Cn cV yX1_never (ws_ yX1_never cX1_never 3 (some .int)) 167 3931 (fun z => [.ref (z + 0), .int a1, .int a2]) h (fun z => eI z rr.1) rr.2 := by
  refine cn_of (e1 := eI) (fun z => [(0, .ref (z + 0)), (1, .int a1), (2, .int a2)]) cV_ok (cA_never_m a1 a2 h _ e) ymX1_never (fun _ => rfl) (fun _ => Nat.le_of_ble_eq_true rfl) (fun X hX hr hnm => ?_) e
  have hX : okX cV X rr cX1_never RX1 3 167 3931 := hX
  rw [cA_never]
  refine j_aload_n (pc := 0) hX 0 rfl dX1_never_0 ?_
  refine j_iload_n (pc := 1) hX 1 rfl dX1_never_1 ?_
  refine j_callV (pc := 2) (e1 := eI) (a := 0) (As := fun z => [.int a1]) (rest := []) hX (fun r e => cA_isPerson_t a1 h r e) ymX1_isPerson (lw_V q1056 q1058 qs37 q140 q1059) rfl ckX1 rfl ⟨Nat.le_of_ble_eq_true rfl, Nat.le_of_ble_eq_true rfl⟩ rfl rfl (Nat.le_of_ble_eq_true rfl) dX1_never_2 (fun r1 h2 => ?_)
  refine j_ifeq (pc := 5) (tgt := 34) hX rfl dX1_never_5 (fun _ => ?_) (fun _ => ?_)
  · refine j_iconst (pc := 34) hX ic_m1 dX1_never_34 ?_
    exact j_iret (pc := 35) hX hr dX1_never_35
  · refine j_aload_n (pc := 8) hX 0 rfl dX1_never_8 ?_
    refine j_iload_n (pc := 9) hX 2 rfl dX1_never_9 ?_
    refine j_callV (pc := 10) (e1 := eI) (a := 0) (As := fun z => [.int a2]) (rest := []) hX (fun r e => cA_isFact_t a2 h2 r e) ymX1_isFact (lw_V q1218 q1220 qs40 q140 q1221) rfl ckX1 rfl ⟨Nat.le_of_ble_eq_true rfl, Nat.le_of_ble_eq_true rfl⟩ rfl rfl (Nat.le_of_ble_eq_true rfl) dX1_never_10 (fun r3 h4 => ?_)
    refine j_ifeq (pc := 13) (tgt := 34) hX rfl dX1_never_13 (fun _ => ?_) (fun _ => ?_)
    · refine j_iconst (pc := 34) hX ic_m1 dX1_never_34 ?_
      exact j_iret (pc := 35) hX hr dX1_never_35
    · refine j_aload_n (pc := 16) hX 0 rfl dX1_never_16 ?_
      refine j_iload_n (pc := 17) hX 1 rfl dX1_never_17 ?_
      refine j_iload_n (pc := 18) hX 2 rfl dX1_never_18 ?_
      refine j_iconst (pc := 19) hX ic_0 dX1_never_19 ?_
      refine j_callV (pc := 20) (e1 := eI) (a := 0) (As := fun z => [.int a1, .int a2, .int (0 : Int32)]) (rest := []) hX (fun r e => cA_learns_t a1 a2 (0 : Int32) h4 r e) ymX1_learns (lw_V q1254 q1256 qs42 q140 q1257) rfl ckX1 rfl ⟨Nat.le_of_ble_eq_true rfl, Nat.le_of_ble_eq_true rfl⟩ rfl rfl (Nat.le_of_ble_eq_true rfl) dX1_never_20 (fun r5 h6 => ?_)
      refine j_ifeq (pc := 23) (tgt := 30) hX rfl dX1_never_23 (fun _ => ?_) (fun _ => ?_)
      · refine j_iconst (pc := 30) hX ic_1 dX1_never_30 ?_
        refine j_goto (pc := 31) (tgt := 35) hX rfl dX1_never_31 ?_
        exact j_iret (pc := 35) hX hr dX1_never_35
      · refine j_iconst (pc := 26) hX ic_0 dX1_never_26 ?_
        refine j_goto (pc := 27) (tgt := 35) hX rfl dX1_never_27 ?_
        exact j_iret (pc := 35) hX hr dX1_never_35
set_option maxHeartbeats 4000000 in
set_option maxRecDepth 100000 in
theorem cA_away_24_w {X : CTX} {rr : Int32 × HP}  (hX : okX cV X rr cX1_away RX1 5 167 3931) (hr : (xh X).sig.returnType = some .int) (f1 : Int32) (f2 : Int32) (k : Int32 → HP → Option (Int32 × HP)) (hk : ∀ (v3 : Int32) (h : HP), jG cV X evI rr (k v3 h) 86 [(3, .int v3)] [] h) : ∀ (n : Nat) (v3 : Int32) (v4 : Int32) (h : HP), jG cV X evI rr (cA_away_24 f1 f2 k n v3 v4 h) 24 [(0, .ref (xz X + 0)), (1, .int f1), (2, .int f2), (3, .int v3), (4, .int v4)] [] h := by
  intro n
  induction n with
  | zero =>
    intro v3 v4 h
    exact j_none
  | succ n ih =>
    intro v3 v4 h
    rw [cA_away_24]
    refine j_iload (pc := 24) hX 4 rfl dX1_away_24 ?_
    refine j_iconst (pc := 26) hX ic_1 dX1_away_26 ?_
    refine j_aload_n (pc := 27) hX 0 rfl dX1_away_27 ?_
    refine j_callV (pc := 28) (e1 := eI) (a := 0) (As := fun z => []) (rest := [.int (1 : Int32), .int v4]) hX (fun r e => cA_persons_t h r e) ymX1_persons (lw_V q1060 q415 qs0 q140 q416) rfl ckX1 rfl ⟨Nat.le_of_ble_eq_true rfl, Nat.le_of_ble_eq_true rfl⟩ rfl rfl (Nat.le_of_ble_eq_true rfl) dX1_away_28 (fun r7 h8 => ?_)
    refine j_ishl (pc := 31) hX dX1_away_31 ?_
    refine j_cge (pc := 32) (tgt := 86) hX rfl dX1_away_32 (fun _ => ?_) (fun _ => ?_)
    · refine j_locs [3] rfl ?_
      exact hk v3 h8
    · refine j_iload (pc := 35) hX 4 rfl dX1_away_35 ?_
      refine j_iload_n (pc := 37) hX 1 rfl dX1_away_37 ?_
      refine j_ishr (pc := 38) hX dX1_away_38 ?_
      refine j_iconst (pc := 39) hX ic_1 dX1_away_39 ?_
      refine j_iand (pc := 40) hX dX1_away_40 ?_
      refine j_iconst (pc := 41) hX ic_1 dX1_away_41 ?_
      refine j_ceq (pc := 42) (tgt := 80) hX rfl dX1_away_42 (fun _ => ?_) (fun _ => ?_)
      · refine j_iinc (pc := 80) hX 4 rfl (1 : Int32) ic_1 (fun x9 => [(4, .int x9), (0, .ref (xz X + 0)), (1, .int f1), (2, .int f2), (3, .int v3)]) (fun _ => rfl) (Nat.le_of_ble_eq_true rfl) dX1_away_80 (fun x9 => ?_)
        refine j_goto (pc := 83) (tgt := 24) hX rfl dX1_away_83 ?_
        refine j_locs [1, 2, 3, 4, 0] rfl ?_
        exact ih v3 x9 h8
      · refine j_iload_n (pc := 45) hX 3 rfl dX1_away_45 ?_
        refine j_bipush (pc := 46) hX bp_m2 dX1_away_46 ?_
        refine j_jon (fun (j10 : HP → Option (Int32 × HP)) => ∀ (h11 : HP), jG cV X evI rr (j10 h11) 66 [(0, .ref (xz X + 0)), (1, .int f1), (2, .int f2), (3, .int v3), (4, .int v4)] [] h11) ?_ ?_
        · intro h11
          refine j_aload_n (pc := 66) hX 0 rfl dX1_away_66 ?_
          refine j_iload_n (pc := 67) hX 1 rfl dX1_away_67 ?_
          refine j_iload_n (pc := 68) hX 2 rfl dX1_away_68 ?_
          refine j_iload (pc := 69) hX 4 rfl dX1_away_69 ?_
          refine j_callV (pc := 71) (e1 := eI) (a := 0) (As := fun z => [.int f1, .int f2, .int v4]) (rest := []) hX (fun r e => cA_learns_t f1 f2 v4 h11 r e) ymX1_learns (lw_V q1254 q1256 qs42 q140 q1257) rfl ckX1 rfl ⟨Nat.le_of_ble_eq_true rfl, Nat.le_of_ble_eq_true rfl⟩ rfl rfl (Nat.le_of_ble_eq_true rfl) dX1_away_71 (fun r12 h13 => ?_)
          refine j_ifne (pc := 74) (tgt := 80) hX rfl dX1_away_74 (fun _ => ?_) (fun _ => ?_)
          · refine j_iload (pc := 77) hX 4 rfl dX1_away_77 ?_
            refine j_istore_n (pc := 79) hX (fun x14 => [(3, .int x14), (0, .ref (xz X + 0)), (1, .int f1), (2, .int f2), (4, .int v4)]) (fun _ => rfl) (Nat.le_of_ble_eq_true rfl) dX1_away_79 (fun x14 => ?_)
            refine j_iinc (pc := 80) hX 4 rfl (1 : Int32) ic_1 (fun x15 => [(4, .int x15), (3, .int x14), (0, .ref (xz X + 0)), (1, .int f1), (2, .int f2)]) (fun _ => rfl) (Nat.le_of_ble_eq_true rfl) dX1_away_80 (fun x15 => ?_)
            refine j_goto (pc := 83) (tgt := 24) hX rfl dX1_away_83 ?_
            refine j_locs [2, 3, 4, 1, 0] rfl ?_
            exact ih x14 x15 h13
          · refine j_iinc (pc := 80) hX 4 rfl (1 : Int32) ic_1 (fun x16 => [(4, .int x16), (0, .ref (xz X + 0)), (1, .int f1), (2, .int f2), (3, .int v3)]) (fun _ => rfl) (Nat.le_of_ble_eq_true rfl) dX1_away_80 (fun x16 => ?_)
            refine j_goto (pc := 83) (tgt := 24) hX rfl dX1_away_83 ?_
            refine j_locs [1, 2, 3, 4, 0] rfl ?_
            exact ih v3 x16 h13
        · intro j10 hj10
          refine j_ceq (pc := 48) (tgt := 66) hX rfl dX1_away_48 (fun _ => ?_) (fun _ => ?_)
          · exact hj10 h8
          · refine j_iload (pc := 51) hX 4 rfl dX1_away_51 ?_
            refine j_callS (pc := 53) (e1 := eI) (As := fun z => [.int v4]) (rest := []) hX (fun r e => kJ18_bitCount_t v4 h8 r e) ymJ18_bitCount (lw_S q1262 q1106 q178 q1107) ⟨Nat.le_of_ble_eq_true rfl, Nat.le_of_ble_eq_true rfl⟩ rfl rfl (Nat.le_of_ble_eq_true rfl) dX1_away_53 (fun r17 h18 => ?_)
            refine j_iload_n (pc := 56) hX 3 rfl dX1_away_56 ?_
            refine j_callS (pc := 57) (e1 := eI) (As := fun z => [.int v3]) (rest := [.int r17]) hX (fun r e => kJ18_bitCount_t v3 h18 r e) ymJ18_bitCount (lw_S q1262 q1106 q178 q1107) ⟨Nat.le_of_ble_eq_true rfl, Nat.le_of_ble_eq_true rfl⟩ rfl rfl (Nat.le_of_ble_eq_true rfl) dX1_away_57 (fun r19 h20 => ?_)
            refine j_clt (pc := 60) (tgt := 66) hX rfl dX1_away_60 (fun _ => ?_) (fun _ => ?_)
            · exact hj10 h20
            · refine j_goto (pc := 63) (tgt := 80) hX rfl dX1_away_63 ?_
              refine j_iinc (pc := 80) hX 4 rfl (1 : Int32) ic_1 (fun x21 => [(4, .int x21), (0, .ref (xz X + 0)), (1, .int f1), (2, .int f2), (3, .int v3)]) (fun _ => rfl) (Nat.le_of_ble_eq_true rfl) dX1_away_80 (fun x21 => ?_)
              refine j_goto (pc := 83) (tgt := 24) hX rfl dX1_away_83 ?_
              refine j_locs [1, 2, 3, 4, 0] rfl ?_
              exact ih v3 x21 h20
set_option maxHeartbeats 4000000 in
set_option maxRecDepth 100000 in
theorem cA_away_t   (a1 : Int32) (a2 : Int32) (h : HP) (rr : Int32 × HP) (e : cA_away a1 a2 h = some rr) : Cn cV yX1_away (ws_ yX1_away cX1_away 5 (some .int)) 167 3931 (fun z => [.ref (z + 0), .int a1, .int a2]) h (fun z => eI z rr.1) rr.2 := by
  refine cn_of (e1 := eI) (fun z => [(0, .ref (z + 0)), (1, .int a1), (2, .int a2)]) cV_ok (cA_away_m a1 a2 h _ e) ymX1_away (fun _ => rfl) (fun _ => Nat.le_of_ble_eq_true rfl) (fun X hX hr hnm => ?_) e
  have hX : okX cV X rr cX1_away RX1 5 167 3931 := hX
  rw [cA_away]
  refine j_aload_n (pc := 0) hX 0 rfl dX1_away_0 ?_
  refine j_iload_n (pc := 1) hX 1 rfl dX1_away_1 ?_
  refine j_callV (pc := 2) (e1 := eI) (a := 0) (As := fun z => [.int a1]) (rest := []) hX (fun r e => cA_isPerson_t a1 h r e) ymX1_isPerson (lw_V q1056 q1058 qs37 q140 q1059) rfl ckX1 rfl ⟨Nat.le_of_ble_eq_true rfl, Nat.le_of_ble_eq_true rfl⟩ rfl rfl (Nat.le_of_ble_eq_true rfl) dX1_away_2 (fun r1 h2 => ?_)
  refine j_ifeq (pc := 5) (tgt := 16) hX rfl dX1_away_5 (fun _ => ?_) (fun _ => ?_)
  · refine j_iconst (pc := 16) hX ic_m1 dX1_away_16 ?_
    exact j_iret (pc := 17) hX hr dX1_away_17
  · refine j_aload_n (pc := 8) hX 0 rfl dX1_away_8 ?_
    refine j_iload_n (pc := 9) hX 2 rfl dX1_away_9 ?_
    refine j_callV (pc := 10) (e1 := eI) (a := 0) (As := fun z => [.int a2]) (rest := []) hX (fun r e => cA_isFact_t a2 h2 r e) ymX1_isFact (lw_V q1218 q1220 qs40 q140 q1221) rfl ckX1 rfl ⟨Nat.le_of_ble_eq_true rfl, Nat.le_of_ble_eq_true rfl⟩ rfl rfl (Nat.le_of_ble_eq_true rfl) dX1_away_10 (fun r3 h4 => ?_)
    refine j_ifne (pc := 13) (tgt := 18) hX rfl dX1_away_13 (fun _ => ?_) (fun _ => ?_)
    · refine j_iconst (pc := 16) hX ic_m1 dX1_away_16 ?_
      exact j_iret (pc := 17) hX hr dX1_away_17
    · refine j_bipush (pc := 18) hX bp_m2 dX1_away_18 ?_
      refine j_istore_n (pc := 20) hX (fun x5 => [(3, .int x5), (0, .ref (xz X + 0)), (1, .int a1), (2, .int a2)]) (fun _ => rfl) (Nat.le_of_ble_eq_true rfl) dX1_away_20 (fun x5 => ?_)
      refine j_iconst (pc := 21) hX ic_0 dX1_away_21 ?_
      refine j_istore (pc := 22) hX (fun x6 => [(4, .int x6), (3, .int x5), (0, .ref (xz X + 0)), (1, .int a1), (2, .int a2)]) (fun _ => rfl) (Nat.le_of_ble_eq_true rfl) dX1_away_22 (fun x6 => ?_)
      refine j_locs [2, 3, 4, 1, 0] rfl ?_
      refine cA_away_24_w hX hr a1 a2 _ (fun x22 h23 => ?_) FU x5 x6 h4
      refine j_iload_n (pc := 86) hX 0 rfl dX1_away_86 ?_
      exact j_iret (pc := 87) hX hr dX1_away_87
set_option maxHeartbeats 4000000 in
set_option maxRecDepth 100000 in
theorem cA_spread_19_w {X : CTX} {rr : Int32 × HP}  (hX : okX cV X rr cX1_spread RX1 4 166 3908) (hr : (xh X).sig.returnType = some .int) (f1 : Int32) (k : Int32 → HP → Option (Int32 × HP)) (hk : ∀ (v2 : Int32) (h : HP), jG cV X evI rr (k v2 h) 51 [(2, .int v2)] [] h) : ∀ (n : Nat) (v2 : Int32) (v3 : Int32) (h : HP), jG cV X evI rr (cA_spread_19 f1 k n v2 v3 h) 19 [(0, .ref (xz X + 0)), (1, .int f1), (2, .int v2), (3, .int v3)] [] h := by
  intro n
  induction n with
  | zero =>
    intro v2 v3 h
    exact j_none
  | succ n ih =>
    intro v2 v3 h
    rw [cA_spread_19]
    refine j_iload_n (pc := 19) hX 3 rfl dX1_spread_19 ?_
    refine j_aload_n (pc := 20) hX 0 rfl dX1_spread_20 ?_
    refine j_callV (pc := 21) (e1 := eI) (a := 0) (As := fun z => []) (rest := [.int v3]) hX (fun r e => cA_persons_t h r e) ymX1_persons (lw_V q1060 q415 qs0 q140 q416) rfl ckX1 rfl ⟨Nat.le_of_ble_eq_true rfl, Nat.le_of_ble_eq_true rfl⟩ rfl rfl (Nat.le_of_ble_eq_true rfl) dX1_spread_21 (fun r7 h8 => ?_)
    refine j_cge (pc := 24) (tgt := 51) hX rfl dX1_spread_24 (fun _ => ?_) (fun _ => ?_)
    · refine j_locs [2] rfl ?_
      exact hk v2 h8
    · refine j_iload_n (pc := 27) hX 2 rfl dX1_spread_27 ?_
      refine j_aload_n (pc := 28) hX 0 rfl dX1_spread_28 ?_
      refine c_getR (pc := 29) hX fgX1_99_X1.1 fgX1_99_X1.2 rfl rfl dX1_spread_29 ?_
      refine c_getR (pc := 32) hX fgX1_214_X9.1 fgX1_214_X9.2 rfl rfl dX1_spread_32 ?_
      refine j_iload_n (pc := 35) hX 3 rfl dX1_spread_35 ?_
      refine j_iald (pc := 36) (n := 5) hX rfl dX1_spread_36 (fun _ => ?_)
      refine j_iload_n (pc := 37) hX 1 rfl dX1_spread_37 ?_
      refine j_ishr (pc := 38) hX dX1_spread_38 ?_
      refine j_iconst (pc := 39) hX ic_1 dX1_spread_39 ?_
      refine j_iand (pc := 40) hX dX1_spread_40 ?_
      refine j_iload_n (pc := 41) hX 3 rfl dX1_spread_41 ?_
      refine j_ishl (pc := 42) hX dX1_spread_42 ?_
      refine j_ior (pc := 43) hX dX1_spread_43 ?_
      refine j_istore_n (pc := 44) hX (fun x9 => [(2, .int x9), (0, .ref (xz X + 0)), (1, .int f1), (3, .int v3)]) (fun _ => rfl) (Nat.le_of_ble_eq_true rfl) dX1_spread_44 (fun x9 => ?_)
      refine j_iinc (pc := 45) hX 3 rfl (1 : Int32) ic_1 (fun x10 => [(3, .int x10), (2, .int x9), (0, .ref (xz X + 0)), (1, .int f1)]) (fun _ => rfl) (Nat.le_of_ble_eq_true rfl) dX1_spread_45 (fun x10 => ?_)
      refine j_goto (pc := 48) (tgt := 19) hX rfl dX1_spread_48 ?_
      refine j_locs [2, 3, 1, 0] rfl ?_
      exact ih x9 x10 h8
set_option maxHeartbeats 4000000 in
set_option maxRecDepth 100000 in
theorem cA_spread_t   (a1 : Int32) (h : HP) (rr : Int32 × HP) (e : cA_spread a1 h = some rr) : Cn cV yX1_spread (ws_ yX1_spread cX1_spread 4 (some .int)) 166 3908 (fun z => [.ref (z + 0), .int a1]) h (fun z => eI z rr.1) rr.2 := by
  refine cn_of (e1 := eI) (fun z => [(0, .ref (z + 0)), (1, .int a1)]) cV_ok (cA_spread_m a1 h _ e) ymX1_spread (fun _ => rfl) (fun _ => Nat.le_of_ble_eq_true rfl) (fun X hX hr hnm => ?_) e
  have hX : okX cV X rr cX1_spread RX1 4 166 3908 := hX
  rw [cA_spread]
  refine j_aload_n (pc := 0) hX 0 rfl dX1_spread_0 ?_
  refine j_iload_n (pc := 1) hX 1 rfl dX1_spread_1 ?_
  refine j_callV (pc := 2) (e1 := eI) (a := 0) (As := fun z => [.int a1]) (rest := []) hX (fun r e => cA_isFact_t a1 h r e) ymX1_isFact (lw_V q1218 q1220 qs40 q140 q1221) rfl ckX1 rfl ⟨Nat.le_of_ble_eq_true rfl, Nat.le_of_ble_eq_true rfl⟩ rfl rfl (Nat.le_of_ble_eq_true rfl) dX1_spread_2 (fun r1 h2 => ?_)
  refine j_ifne (pc := 5) (tgt := 10) hX rfl dX1_spread_5 (fun _ => ?_) (fun _ => ?_)
  · refine j_iconst (pc := 8) hX ic_m1 dX1_spread_8 ?_
    exact j_iret (pc := 9) hX hr dX1_spread_9
  · refine j_aload_n (pc := 10) hX 0 rfl dX1_spread_10 ?_
    refine j_iconst (pc := 11) hX ic_0 dX1_spread_11 ?_
    refine j_callV (pc := 12) (e1 := eV) (a := 0) (As := fun z => [.int (0 : Int32)]) (rest := []) hX (fun r e => cA_askAllWithout_t (0 : Int32) h2 r e) ymX1_askAllWithout (lw_V q1235 q1237 qs41 q140 q1238) rfl ckX1 rfl ⟨Nat.le_of_ble_eq_true rfl, Nat.le_of_ble_eq_true rfl⟩ rfl rfl (Nat.le_of_ble_eq_true rfl) dX1_spread_12 (fun r3 h4 => ?_)
    refine j_iconst (pc := 15) hX ic_0 dX1_spread_15 ?_
    refine j_istore_n (pc := 16) hX (fun x5 => [(2, .int x5), (0, .ref (xz X + 0)), (1, .int a1)]) (fun _ => rfl) (Nat.le_of_ble_eq_true rfl) dX1_spread_16 (fun x5 => ?_)
    refine j_iconst (pc := 17) hX ic_0 dX1_spread_17 ?_
    refine j_istore_n (pc := 18) hX (fun x6 => [(3, .int x6), (2, .int x5), (0, .ref (xz X + 0)), (1, .int a1)]) (fun _ => rfl) (Nat.le_of_ble_eq_true rfl) dX1_spread_18 (fun x6 => ?_)
    refine j_locs [2, 3, 1, 0] rfl ?_
    refine cA_spread_19_w hX hr a1 _ (fun x11 h12 => ?_) FU x5 x6 h4
    refine j_iload_n (pc := 51) hX 0 rfl dX1_spread_51 ?_
    exact j_iret (pc := 52) hX hr dX1_spread_52
set_option maxHeartbeats 4000000 in
set_option maxRecDepth 100000 in
theorem cA_learnsIf_t   (a1 : Int32) (a2 : Int32) (a3 : Int32) (a4 : Int32) (h : HP) (rr : Int32 × HP) (e : cA_learnsIf a1 a2 a3 a4 h = some rr) : Cn cV yX1_learnsIf (ws_ yX1_learnsIf cX1_learnsIf 5 (some .boolean)) 165 3887 (fun z => [.ref (z + 0), .int a1, .int a2, .int a3, .int a4]) h (fun z => eI z rr.1) rr.2 := by
  refine cn_of (e1 := eI) (fun z => [(0, .ref (z + 0)), (1, .int a1), (2, .int a2), (3, .int a3), (4, .int a4)]) cV_ok (cA_learnsIf_m a1 a2 a3 a4 h _ e) ymX1_learnsIf (fun _ => rfl) (fun _ => Nat.le_of_ble_eq_true rfl) (fun X hX hr hnm => ?_) e
  have hX : okX cV X rr cX1_learnsIf RX1 5 165 3887 := hX
  rw [cA_learnsIf]
  refine j_aload_n (pc := 0) hX 0 rfl dX1_learnsIf_0 ?_
  refine c_getR (pc := 1) hX fgX1_99_X1.1 fgX1_99_X1.2 rfl rfl dX1_learnsIf_1 ?_
  refine j_aload_n (pc := 4) hX 0 rfl dX1_learnsIf_4 ?_
  refine c_getR (pc := 5) hX fgX1_95_X1.1 fgX1_95_X1.2 rfl rfl dX1_learnsIf_5 ?_
  refine j_callV (pc := 8) (e1 := eV) (a := 25) (As := fun z => [.ref (z + 20)]) (rest := []) hX (fun r e => cS_become_t 25 20 h r e) ymX9_become (lw_V q1159 q1160 q1161 q151 q1162) rfl ckX9 rfl ⟨Nat.le_of_ble_eq_true rfl, Nat.le_of_ble_eq_true rfl⟩ rfl rfl (Nat.le_of_ble_eq_true rfl) dX1_learnsIf_8 (fun r1 h2 => ?_)
  refine j_aload_n (pc := 11) hX 0 rfl dX1_learnsIf_11 ?_
  refine c_getR (pc := 12) hX fgX1_99_X1.1 fgX1_99_X1.2 rfl rfl dX1_learnsIf_12 ?_
  refine c_getR (pc := 15) hX fgX1_214_X9.1 fgX1_214_X9.2 rfl rfl dX1_learnsIf_15 ?_
  refine j_iload_n (pc := 18) hX 3 rfl dX1_learnsIf_18 ?_
  refine j_dup2 (pc := 19) hX rfl rfl dX1_learnsIf_19 ?_
  refine j_iald (pc := 20) (n := 5) hX rfl dX1_learnsIf_20 (fun _ => ?_)
  refine j_iconst (pc := 21) hX ic_1 dX1_learnsIf_21 ?_
  refine j_iload (pc := 22) hX 4 rfl dX1_learnsIf_22 ?_
  refine j_ishl (pc := 24) hX dX1_learnsIf_24 ?_
  refine j_ior (pc := 25) hX dX1_learnsIf_25 ?_
  refine c_iast (pc := 26) (n := 5) hX rfl dX1_learnsIf_26 (fun h3 q4 q5 => ?_)
  refine j_aload_n (pc := 27) hX 0 rfl dX1_learnsIf_27 ?_
  refine c_getR (pc := 28) hX fgX1_99_X1.1 fgX1_99_X1.2 rfl rfl dX1_learnsIf_28 ?_
  refine j_callV (pc := 31) (e1 := eV) (a := 25) (As := fun z => []) (rest := []) hX (fun r e => cS_askAll_t 25 h3 r e) ymX9_askAll (lw_V q1239 q1240 q1241 q151 q1242) rfl ckX9 rfl ⟨Nat.le_of_ble_eq_true rfl, Nat.le_of_ble_eq_true rfl⟩ rfl rfl (Nat.le_of_ble_eq_true rfl) dX1_learnsIf_31 (fun r6 h7 => ?_)
  refine j_aload_n (pc := 34) hX 0 rfl dX1_learnsIf_34 ?_
  refine c_getR (pc := 35) hX fgX1_99_X1.1 fgX1_99_X1.2 rfl rfl dX1_learnsIf_35 ?_
  refine c_getR (pc := 38) hX fgX1_214_X9.1 fgX1_214_X9.2 rfl rfl dX1_learnsIf_38 ?_
  refine j_iload_n (pc := 41) hX 1 rfl dX1_learnsIf_41 ?_
  refine j_iald (pc := 42) (n := 5) hX rfl dX1_learnsIf_42 (fun _ => ?_)
  refine j_iload_n (pc := 43) hX 2 rfl dX1_learnsIf_43 ?_
  refine j_ishr (pc := 44) hX dX1_learnsIf_44 ?_
  refine j_iconst (pc := 45) hX ic_1 dX1_learnsIf_45 ?_
  refine j_iand (pc := 46) hX dX1_learnsIf_46 ?_
  refine j_iconst (pc := 47) hX ic_1 dX1_learnsIf_47 ?_
  refine j_cne (pc := 48) (tgt := 55) hX rfl dX1_learnsIf_48 (fun _ => ?_) (fun _ => ?_)
  · refine j_iconst (pc := 51) hX ic_1 dX1_learnsIf_51 ?_
    refine j_goto (pc := 52) (tgt := 56) hX rfl dX1_learnsIf_52 ?_
    exact j_zret (pc := 56) hX (Or.inr rfl) hr dX1_learnsIf_56
  · refine j_iconst (pc := 55) hX ic_0 dX1_learnsIf_55 ?_
    exact j_zret (pc := 56) hX (Or.inl rfl) hr dX1_learnsIf_56
set_option maxHeartbeats 4000000 in
set_option maxRecDepth 100000 in
theorem cA_hint_56_w {X : CTX} {rr : Int32 × HP}  (hX : okX cV X rr cX1_hint RX1 7 167 3931) (hr : (xh X).sig.returnType = some .int) (f1 : Int32) (f2 : Int32) (f3 : Int32) (f4 : Int32) (k : HP → Option (Int32 × HP)) (hk : ∀  (h : HP), jG cV X evI rr (k  h) 138 [(0, .ref (xz X + 0)), (1, .int f1), (2, .int f2), (3, .int f3), (4, .int f4)] [] h) : ∀ (n : Nat) (v5 : Int32) (h : HP), jG cV X evI rr (cA_hint_56 f1 f2 f3 f4 k n v5 h) 56 [(0, .ref (xz X + 0)), (1, .int f1), (2, .int f2), (3, .int f3), (4, .int f4), (5, .int v5)] [] h := by
  intro n
  induction n with
  | zero =>
    intro v5 h
    exact j_none
  | succ n ih =>
    intro v5 h
    rw [cA_hint_56]
    refine j_iload (pc := 56) hX 5 rfl dX1_hint_56 ?_
    refine j_aload_n (pc := 58) hX 0 rfl dX1_hint_58 ?_
    refine j_onr fun b13 e14 => ?_
    refine c_getR (pc := 59) hX fgX1_13_X1.1 fgX1_13_X1.2 rfl e14 dX1_hint_59 ?_
    refine j_grd fun g15 => ?_
    refine c_getR (pc := 62) hX fgX1_179_X3.1 fgX1_179_X3.2 (k1_of g15.1) g15.2.1.1 dX1_hint_62 ?_
    refine j_grd fun g18 => ?_
    refine j_callV (pc := 65) (e1 := eI) (a := (b13 + 1)) (As := fun z => []) (rest := [.int v5]) hX (fun r e => cL_size_t (b13 + 1) h r e) ymJ2_size (lw_V q417 q418 q419 q145 q420) rfl ckJ2 (k1_of g18.1) ⟨Nat.le_of_ble_eq_true rfl, Nat.le_of_ble_eq_true rfl⟩ rfl rfl (Nat.le_of_ble_eq_true rfl) dX1_hint_65 (fun r16 h17 => ?_)
    refine j_cge (pc := 68) (tgt := 138) hX rfl dX1_hint_68 (fun _ => ?_) (fun _ => ?_)
    · refine j_locs [0, 1, 2, 3, 4] rfl ?_
      exact hk h17
    · refine j_iload (pc := 71) hX 5 rfl dX1_hint_71 ?_
      refine j_iload_n (pc := 73) hX 2 rfl dX1_hint_73 ?_
      refine j_jon (fun (j19 : Int32 → Option (Int32 × HP)) => ∀ (s20 : Int32), jG cV X evI rr (j19 s20) 100 [(0, .ref (xz X + 0)), (1, .int f1), (2, .int f2), (3, .int f3), (4, .int f4), (5, .int v5)] [.int s20] h17) ?_ ?_
      · intro s20
        refine j_istore (pc := 100) hX (fun x21 => [(6, .int x21), (0, .ref (xz X + 0)), (1, .int f1), (2, .int f2), (3, .int f3), (4, .int f4), (5, .int v5)]) (fun _ => rfl) (Nat.le_of_ble_eq_true rfl) dX1_hint_100 (fun x21 => ?_)
        refine j_iload (pc := 102) hX 0 rfl dX1_hint_102 ?_
        refine j_ifeq (pc := 104) (tgt := 132) hX rfl dX1_hint_104 (fun _ => ?_) (fun _ => ?_)
        · refine j_iinc (pc := 132) hX 6 rfl (1 : Int32) ic_1 (fun x22 => [(5, .int x22), (6, .int x21), (0, .ref (xz X + 0)), (1, .int f1), (2, .int f2), (3, .int f3), (4, .int f4)]) (fun _ => rfl) (Nat.le_of_ble_eq_true rfl) dX1_hint_132 (fun x22 => ?_)
          refine j_goto (pc := 135) (tgt := 56) hX rfl dX1_hint_135 ?_
          refine j_locs [2, 3, 4, 5, 6, 0] rfl ?_
          exact ih x22 h17
        · refine j_aload_n (pc := 107) hX 1 rfl dX1_hint_107 ?_
          refine j_iload_n (pc := 108) hX 2 rfl dX1_hint_108 ?_
          refine j_iload_n (pc := 109) hX 3 rfl dX1_hint_109 ?_
          refine j_iload (pc := 110) hX 5 rfl dX1_hint_110 ?_
          refine j_iload (pc := 112) hX 6 rfl dX1_hint_112 ?_
          refine j_callV (pc := 114) (e1 := eI) (a := 0) (As := fun z => [.int f1, .int f2, .int f4, .int v5]) (rest := []) hX (fun r e => cA_learnsIf_t f1 f2 f4 v5 h17 r e) ymX1_learnsIf (lw_V q1271 q1273 qs43 q140 q1274) rfl ckX1 rfl ⟨Nat.le_of_ble_eq_true rfl, Nat.le_of_ble_eq_true rfl⟩ rfl rfl (Nat.le_of_ble_eq_true rfl) dX1_hint_114 (fun r23 h24 => ?_)
          refine j_ifeq (pc := 117) (tgt := 132) hX rfl dX1_hint_117 (fun _ => ?_) (fun _ => ?_)
          · refine j_iinc (pc := 132) hX 6 rfl (1 : Int32) ic_1 (fun x25 => [(5, .int x25), (6, .int x21), (0, .ref (xz X + 0)), (1, .int f1), (2, .int f2), (3, .int f3), (4, .int f4)]) (fun _ => rfl) (Nat.le_of_ble_eq_true rfl) dX1_hint_132 (fun x25 => ?_)
            refine j_goto (pc := 135) (tgt := 56) hX rfl dX1_hint_135 ?_
            refine j_locs [2, 3, 4, 5, 6, 0] rfl ?_
            exact ih x25 h24
          · refine j_iload_n (pc := 120) hX 4 rfl dX1_hint_120 ?_
            refine j_ifne (pc := 121) (tgt := 129) hX rfl dX1_hint_121 (fun _ => ?_) (fun _ => ?_)
            · refine j_iload (pc := 124) hX 5 rfl dX1_hint_124 ?_
              refine j_goto (pc := 126) (tgt := 131) hX rfl dX1_hint_126 ?_
              exact j_iret (pc := 131) hX hr dX1_hint_131
            · refine j_iload (pc := 129) hX 6 rfl dX1_hint_129 ?_
              exact j_iret (pc := 131) hX hr dX1_hint_131
      · intro j19 hj19
        refine j_jon (fun (j26 : Unit → Option (Int32 × HP)) => ∀ (_u : Unit), jG cV X evI rr (j26 ()) 99 [(0, .ref (xz X + 0)), (1, .int f1), (2, .int f2), (3, .int f3), (4, .int f4), (5, .int v5)] [] h17) ?_ ?_
        · intro _
          refine j_iconst (pc := 99) hX ic_0 dX1_hint_99 ?_
          exact hj19 (0 : Int32)
        · intro j26 hj26
          refine j_ceq (pc := 74) (tgt := 99) hX rfl dX1_hint_74 (fun _ => ?_) (fun _ => ?_)
          · exact hj26 ()
          · refine j_aload_n (pc := 77) hX 0 rfl dX1_hint_77 ?_
            refine c_getR (pc := 78) hX fgX1_95_X1.1 fgX1_95_X1.2 rfl rfl dX1_hint_78 ?_
            refine c_getR (pc := 81) hX fgX1_214_X9.1 fgX1_214_X9.2 rfl rfl dX1_hint_81 ?_
            refine j_iload (pc := 84) hX 4 rfl dX1_hint_84 ?_
            refine j_iald (pc := 86) (n := 5) hX rfl dX1_hint_86 (fun _ => ?_)
            refine j_iload (pc := 87) hX 5 rfl dX1_hint_87 ?_
            refine j_ishr (pc := 89) hX dX1_hint_89 ?_
            refine j_iconst (pc := 90) hX ic_1 dX1_hint_90 ?_
            refine j_iand (pc := 91) hX dX1_hint_91 ?_
            refine j_ifne (pc := 92) (tgt := 99) hX rfl dX1_hint_92 (fun _ => ?_) (fun _ => ?_)
            · refine j_iconst (pc := 95) hX ic_1 dX1_hint_95 ?_
              refine j_goto (pc := 96) (tgt := 100) hX rfl dX1_hint_96 ?_
              exact hj19 (1 : Int32)
            · exact hj26 ()
set_option maxHeartbeats 4000000 in
set_option maxRecDepth 100000 in
theorem cA_hint_44_w {X : CTX} {rr : Int32 × HP}  (hX : okX cV X rr cX1_hint RX1 7 167 3931) (hr : (xh X).sig.returnType = some .int) (f1 : Int32) (f2 : Int32) (f3 : Int32) (k : HP → Option (Int32 × HP)) (hk : ∀  (h : HP), jG cV X evI rr (k  h) 144 [] [] h) : ∀ (n : Nat) (v4 : Int32) (h : HP), jG cV X evI rr (cA_hint_44 f1 f2 f3 k n v4 h) 44 [(0, .ref (xz X + 0)), (1, .int f1), (2, .int f2), (3, .int f3), (4, .int v4)] [] h := by
  intro n
  induction n with
  | zero =>
    intro v4 h
    exact j_none
  | succ n ih =>
    intro v4 h
    rw [cA_hint_44]
    refine j_iload (pc := 44) hX 4 rfl dX1_hint_44 ?_
    refine j_aload_n (pc := 46) hX 0 rfl dX1_hint_46 ?_
    refine j_callV (pc := 47) (e1 := eI) (a := 0) (As := fun z => []) (rest := [.int v4]) hX (fun r e => cA_persons_t h r e) ymX1_persons (lw_V q1060 q415 qs0 q140 q416) rfl ckX1 rfl ⟨Nat.le_of_ble_eq_true rfl, Nat.le_of_ble_eq_true rfl⟩ rfl rfl (Nat.le_of_ble_eq_true rfl) dX1_hint_47 (fun r10 h11 => ?_)
    refine j_cge (pc := 50) (tgt := 144) hX rfl dX1_hint_50 (fun _ => ?_) (fun _ => ?_)
    · refine j_locs [] rfl ?_
      exact hk h11
    · refine j_iconst (pc := 53) hX ic_0 dX1_hint_53 ?_
      refine j_istore (pc := 54) hX (fun x12 => [(5, .int x12), (0, .ref (xz X + 0)), (1, .int f1), (2, .int f2), (3, .int f3), (4, .int v4)]) (fun _ => rfl) (Nat.le_of_ble_eq_true rfl) dX1_hint_54 (fun x12 => ?_)
      refine j_locs [1, 2, 3, 4, 5, 0] rfl ?_
      refine cA_hint_56_w hX hr f1 f2 f3 v4 _ (fun  h27 => ?_) FU x12 h11
      refine j_iinc (pc := 138) hX 4 rfl (1 : Int32) ic_1 (fun x28 => [(4, .int x28), (0, .ref (xz X + 0)), (1, .int f1), (2, .int f2), (3, .int f3)]) (fun _ => rfl) (Nat.le_of_ble_eq_true rfl) dX1_hint_138 (fun x28 => ?_)
      refine j_goto (pc := 141) (tgt := 44) hX rfl dX1_hint_141 ?_
      refine j_locs [1, 2, 3, 4, 0] rfl ?_
      exact ih x28 h27
