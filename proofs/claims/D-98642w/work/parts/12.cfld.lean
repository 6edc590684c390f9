/-! the component: words -/
set_option maxRecDepth 100000
theorem bp_63 : (Int8.ofInt (63)).toInt32 = (63 : Int32) := by decide
theorem ic_m8 : Int32.ofInt (-8) = (-8 : Int32) := by decide
theorem sp_256 : (Int16.ofInt (256)).toInt32 = (256 : Int32) := by decide
theorem sp_257 : (Int16.ofInt (257)).toInt32 = (257 : Int32) := by decide
theorem sp_258 : (Int16.ofInt (258)).toInt32 = (258 : Int32) := by decide
theorem sp_12345 : (Int16.ofInt (12345)).toInt32 = (12345 : Int32) := by decide
theorem f3J10_7 : fl_w RJ10 7 19 0 ∧ ft 19 0 = 3 := ⟨⟨_, _, _, ckX11, by decide, ⟨_, q738, Or.inl rfl⟩, rfl⟩, rfl⟩
theorem f3J10_17 : fl_w RJ10 17 19 1 ∧ ft 19 1 = 3 := ⟨⟨_, _, _, ckX11, by decide, ⟨_, q739, Or.inl rfl⟩, rfl⟩, rfl⟩
theorem f3J10_24 : fl_w RJ10 24 19 2 ∧ ft 19 2 = 3 := ⟨⟨_, _, _, ckX11, by decide, ⟨_, q740, Or.inl rfl⟩, rfl⟩, rfl⟩
theorem f3J10_31 : fl_w RJ10 31 19 3 ∧ ft 19 3 = 3 := ⟨⟨_, _, _, ckX11, by decide, ⟨_, q737, Or.inl rfl⟩, rfl⟩, rfl⟩
theorem ffX11_7_X11 : fl_f RX11 7 19 6 ∧ (ft 19 6 = 0 ∧ jty 19 6 = .int) := ⟨⟨_, _, _, ckX11, by decide, q732, rfl, rfl⟩, rfl, rfl⟩
theorem ffX11_13_X11 : fl_f RX11 13 19 7 ∧ (ft 19 7 = 0 ∧ jty 19 7 = .int) := ⟨⟨_, _, _, ckX11, by decide, q734, rfl, rfl⟩, rfl, rfl⟩
theorem ffX12_9_X12 : fl_f RX12 9 6 0 ∧ (ft 6 0 = 0 ∧ jty 6 0 = .int) := ⟨⟨_, _, _, ckX12, by decide, q774, rfl, rfl⟩, rfl, rfl⟩
theorem ffX12_9_X13 : fl_f RX12 9 7 0 ∧ (ft 7 0 = 0 ∧ jty 7 0 = .int) := ⟨⟨_, _, _, ckX13, by decide, q774, rfl, rfl⟩, rfl, rfl⟩
theorem ffX12_9_X14 : fl_f RX12 9 8 0 ∧ (ft 8 0 = 0 ∧ jty 8 0 = .int) := ⟨⟨_, _, _, ckX14, by decide, q774, rfl, rfl⟩, rfl, rfl⟩
theorem ffX16_7_X16 : fl_f RX16 7 9 0 ∧ (ft 9 0 = 0 ∧ jty 9 0 = .int) := ⟨⟨_, _, _, ckX16, by decide, q981, rfl, rfl⟩, rfl, rfl⟩
theorem ffX17_7_X17 : fl_f RX17 7 10 0 ∧ (ft 10 0 = 0 ∧ jty 10 0 = .int) := ⟨⟨_, _, _, ckX17, by decide, q991, rfl, rfl⟩, rfl, rfl⟩
theorem ffX18_7_X18 : fl_f RX18 7 11 0 ∧ ft 11 0 = 2 := ⟨⟨_, _, _, ckX18, by decide, q1006, rfl, rfl⟩, rfl⟩
theorem ffX18_7_X19 : fl_f RX18 7 12 0 ∧ ft 12 0 = 2 := ⟨⟨_, _, _, ckX19, by decide, q1006, rfl, rfl⟩, rfl⟩
theorem ffX19_9_X19 : fl_f RX19 9 12 1 ∧ (ft 12 1 = 0 ∧ jty 12 1 = .int) := ⟨⟨_, _, _, ckX19, by decide, q1004, rfl, rfl⟩, rfl, rfl⟩
theorem ffX19_15_X19 : fl_f RX19 15 12 2 ∧ ft 12 2 = 2 := ⟨⟨_, _, _, ckX19, by decide, q1005, rfl, rfl⟩, rfl⟩
theorem ffX21_7_X21 : fl_f RX21 7 13 0 ∧ (ft 13 0 = 0 ∧ jty 13 0 = .int) := ⟨⟨_, _, _, ckX21, by decide, q1396, rfl, rfl⟩, rfl, rfl⟩
theorem ffX21_13_X21 : fl_f RX21 13 13 1 ∧ (ft 13 1 = 0 ∧ jty 13 1 = .int) := ⟨⟨_, _, _, ckX21, by decide, q1397, rfl, rfl⟩, rfl, rfl⟩
theorem ffX21_16_X21 : fl_f RX21 16 13 2 ∧ (ft 13 2 = 0 ∧ jty 13 2 = .int) := ⟨⟨_, _, _, ckX21, by decide, q1398, rfl, rfl⟩, rfl, rfl⟩
theorem ffX21_19_X21 : fl_f RX21 19 13 3 ∧ (ft 13 3 = 0 ∧ jty 13 3 = .boolean) := ⟨⟨_, _, _, ckX21, by decide, q1399, rfl, rfl⟩, rfl, rfl⟩
theorem ffX22_7_X22 : fl_f RX22 7 14 0 ∧ (ft 14 0 = 0 ∧ jty 14 0 = .int) := ⟨⟨_, _, _, ckX22, by decide, q1424, rfl, rfl⟩, rfl, rfl⟩
theorem ffX3_14_X3 : fl_f RX3 14 3 0 ∧ ft 3 0 = 2 := ⟨⟨_, _, _, ckX3, by decide, q261, rfl, rfl⟩, rfl⟩
theorem ffX3_20_X3 : fl_f RX3 20 3 1 ∧ ft 3 1 = 2 := ⟨⟨_, _, _, ckX3, by decide, q264, rfl, rfl⟩, rfl⟩
theorem ffX3_23_X3 : fl_f RX3 23 3 2 ∧ ft 3 2 = 2 := ⟨⟨_, _, _, ckX3, by decide, q268, rfl, rfl⟩, rfl⟩
theorem ffX3_26_X3 : fl_f RX3 26 3 3 ∧ ft 3 3 = 2 := ⟨⟨_, _, _, ckX3, by decide, q272, rfl, rfl⟩, rfl⟩
theorem ffX3_30_X3 : fl_f RX3 30 3 4 ∧ ft 3 4 = 2 := ⟨⟨_, _, _, ckX3, by decide, q275, rfl, rfl⟩, rfl⟩
theorem ffX3_33_X3 : fl_f RX3 33 3 5 ∧ ft 3 5 = 2 := ⟨⟨_, _, _, ckX3, by decide, q278, rfl, rfl⟩, rfl⟩
theorem ffX3_38_X3 : fl_f RX3 38 3 6 ∧ ft 3 6 = 2 := ⟨⟨_, _, _, ckX3, by decide, q281, rfl, rfl⟩, rfl⟩
theorem ffX9_3_X9 : fl_f RX9 3 5 10 ∧ ft 5 10 = 2 := ⟨⟨_, _, _, ckX9, by decide, q382, rfl, rfl⟩, rfl⟩
theorem ffX9_15_X9 : fl_f RX9 15 5 0 ∧ ft 5 0 = 2 := ⟨⟨_, _, _, ckX9, by decide, q361, rfl, rfl⟩, rfl⟩
theorem ffX9_19_X9 : fl_f RX9 19 5 1 ∧ ft 5 1 = 2 := ⟨⟨_, _, _, ckX9, by decide, q364, rfl, rfl⟩, rfl⟩
theorem ffX9_22_X9 : fl_f RX9 22 5 2 ∧ ft 5 2 = 2 := ⟨⟨_, _, _, ckX9, by decide, q366, rfl, rfl⟩, rfl⟩
theorem ffX9_25_X9 : fl_f RX9 25 5 3 ∧ ft 5 3 = 2 := ⟨⟨_, _, _, ckX9, by decide, q368, rfl, rfl⟩, rfl⟩
theorem fgJ2_9_J2 : f_ok RJ2 9 4 1 ∧ ft 4 1 = 2 := ⟨Or.inl ⟨_, _, _, ckJ2, by decide, _, q247, Or.inl rfl⟩, rfl⟩
theorem fgJ2_48_J2 : f_ok RJ2 48 4 2 ∧ ft 4 2 = 0 := ⟨Or.inl ⟨_, _, _, ckJ2, by decide, _, q248, Or.inl rfl⟩, rfl⟩
theorem fgJ2_63_J2 : f_ok RJ2 63 4 0 ∧ ft 4 0 = 0 := ⟨Or.inl ⟨_, _, _, ckJ2, by decide, _, q250, Or.inr q251⟩, rfl⟩
theorem fgX1_13_X1 : f_ok RX1 13 1 6 ∧ ft 1 6 = 2 := ⟨Or.inl ⟨_, _, _, ckX1, by decide, _, q444, Or.inl rfl⟩, rfl⟩
theorem fgX1_17_X3 : f_ok RX1 17 3 1 ∧ ft 3 1 = 2 := ⟨Or.inr ⟨_, _, _, "AskedCourt", ckX3, by decide, List.mem_of_getElem? (i := 0) rfl⟩, rfl⟩
theorem fgX1_29_X3 : f_ok RX1 29 3 2 ∧ ft 3 2 = 2 := ⟨Or.inr ⟨_, _, _, "AskedCourt", ckX3, by decide, List.mem_of_getElem? (i := 1) rfl⟩, rfl⟩
theorem fgX1_32_X3 : f_ok RX1 32 3 6 ∧ ft 3 6 = 2 := ⟨Or.inr ⟨_, _, _, "AskedCourt", ckX3, by decide, List.mem_of_getElem? (i := 2) rfl⟩, rfl⟩
theorem fgX1_38_X1 : f_ok RX1 38 1 7 ∧ ft 1 7 = 2 := ⟨Or.inl ⟨_, _, _, ckX1, by decide, _, q445, Or.inl rfl⟩, rfl⟩
theorem fgX1_56_X1 : f_ok RX1 56 1 0 ∧ ft 1 0 = 2 := ⟨Or.inl ⟨_, _, _, ckX1, by decide, _, q437, Or.inl rfl⟩, rfl⟩
theorem fgX1_60_X1 : f_ok RX1 60 1 3 ∧ ft 1 3 = 0 := ⟨Or.inl ⟨_, _, _, ckX1, by decide, _, q440, Or.inl rfl⟩, rfl⟩
theorem fgX1_69_X1 : f_ok RX1 69 1 5 ∧ ft 1 5 = 2 := ⟨Or.inl ⟨_, _, _, ckX1, by decide, _, q442, Or.inl rfl⟩, rfl⟩
theorem fgX1_88_X1 : f_ok RX1 88 1 8 ∧ ft 1 8 = 2 := ⟨Or.inl ⟨_, _, _, ckX1, by decide, _, q447, Or.inl rfl⟩, rfl⟩
theorem fgX1_95_X1 : f_ok RX1 95 1 9 ∧ ft 1 9 = 2 := ⟨Or.inl ⟨_, _, _, ckX1, by decide, _, q449, Or.inl rfl⟩, rfl⟩
theorem fgX1_99_X1 : f_ok RX1 99 1 10 ∧ ft 1 10 = 2 := ⟨Or.inl ⟨_, _, _, ckX1, by decide, _, q450, Or.inl rfl⟩, rfl⟩
theorem fgX1_102_X1 : f_ok RX1 102 1 11 ∧ ft 1 11 = 2 := ⟨Or.inl ⟨_, _, _, ckX1, by decide, _, q451, Or.inl rfl⟩, rfl⟩
theorem fgX1_105_X1 : f_ok RX1 105 1 12 ∧ ft 1 12 = 2 := ⟨Or.inl ⟨_, _, _, ckX1, by decide, _, q452, Or.inl rfl⟩, rfl⟩
theorem fgX1_109_X1 : f_ok RX1 109 1 13 ∧ ft 1 13 = 2 := ⟨Or.inl ⟨_, _, _, ckX1, by decide, _, q453, Or.inl rfl⟩, rfl⟩
theorem fgX1_112_X1 : f_ok RX1 112 1 15 ∧ ft 1 15 = 2 := ⟨Or.inl ⟨_, _, _, ckX1, by decide, _, q455, Or.inl rfl⟩, rfl⟩
theorem fgX1_116_X1 : f_ok RX1 116 1 16 ∧ ft 1 16 = 2 := ⟨Or.inl ⟨_, _, _, ckX1, by decide, _, q456, Or.inl rfl⟩, rfl⟩
theorem fgX1_119_X1 : f_ok RX1 119 1 19 ∧ ft 1 19 = 2 := ⟨Or.inl ⟨_, _, _, ckX1, by decide, _, q459, Or.inl rfl⟩, rfl⟩
theorem fgX1_122_X1 : f_ok RX1 122 1 20 ∧ ft 1 20 = 2 := ⟨Or.inl ⟨_, _, _, ckX1, by decide, _, q460, Or.inl rfl⟩, rfl⟩
theorem fgX1_128_X1 : f_ok RX1 128 1 21 ∧ ft 1 21 = 2 := ⟨Or.inl ⟨_, _, _, ckX1, by decide, _, q461, Or.inl rfl⟩, rfl⟩
theorem fgX1_131_X1 : f_ok RX1 131 1 22 ∧ ft 1 22 = 2 := ⟨Or.inl ⟨_, _, _, ckX1, by decide, _, q462, Or.inl rfl⟩, rfl⟩
theorem fgX1_135_X1 : f_ok RX1 135 1 23 ∧ ft 1 23 = 0 := ⟨Or.inl ⟨_, _, _, ckX1, by decide, _, q463, Or.inl rfl⟩, rfl⟩
theorem fgX1_141_X1 : f_ok RX1 141 1 1 ∧ ft 1 1 = 0 := ⟨Or.inl ⟨_, _, _, ckX1, by decide, _, q438, Or.inl rfl⟩, rfl⟩
theorem fgX1_151_X1 : f_ok RX1 151 1 2 ∧ ft 1 2 = 0 := ⟨Or.inl ⟨_, _, _, ckX1, by decide, _, q439, Or.inl rfl⟩, rfl⟩
theorem fgX1_160_X11 : f_ok RX1 160 19 6 ∧ ft 19 6 = 0 := ⟨Or.inr ⟨_, _, _, "AskedCourt", ckX11, by decide, List.mem_of_getElem? (i := 3) rfl⟩, rfl⟩
theorem fgX1_163_X11 : f_ok RX1 163 19 7 ∧ ft 19 7 = 0 := ⟨Or.inr ⟨_, _, _, "AskedCourt", ckX11, by decide, List.mem_of_getElem? (i := 4) rfl⟩, rfl⟩
theorem fgX1_166_X1 : f_ok RX1 166 1 4 ∧ ft 1 4 = 0 := ⟨Or.inl ⟨_, _, _, ckX1, by decide, _, q441, Or.inl rfl⟩, rfl⟩
theorem fgX1_169_X1 : f_ok RX1 169 1 14 ∧ ft 1 14 = 0 := ⟨Or.inl ⟨_, _, _, ckX1, by decide, _, q454, Or.inl rfl⟩, rfl⟩
theorem fgX1_176_X3 : f_ok RX1 176 3 11 ∧ ft 3 11 = 0 := ⟨Or.inr ⟨_, _, _, "AskedCourt", ckX3, by decide, List.mem_of_getElem? (i := 5) rfl⟩, rfl⟩
theorem fgX1_179_X3 : f_ok RX1 179 3 0 ∧ ft 3 0 = 2 := ⟨Or.inr ⟨_, _, _, "AskedCourt", ckX3, by decide, List.mem_of_getElem? (i := 6) rfl⟩, rfl⟩
theorem fgX1_211_X9 : f_ok RX1 211 5 1 ∧ ft 5 1 = 2 := ⟨Or.inr ⟨_, _, _, "AskedCourt", ckX9, by decide, List.mem_of_getElem? (i := 9) rfl⟩, rfl⟩
theorem fgX1_214_X9 : f_ok RX1 214 5 0 ∧ ft 5 0 = 2 := ⟨Or.inr ⟨_, _, _, "AskedCourt", ckX9, by decide, List.mem_of_getElem? (i := 10) rfl⟩, rfl⟩
theorem fgX1_217_X9 : f_ok RX1 217 5 2 ∧ ft 5 2 = 2 := ⟨Or.inr ⟨_, _, _, "AskedCourt", ckX9, by decide, List.mem_of_getElem? (i := 11) rfl⟩, rfl⟩
theorem fgX1_220_X9 : f_ok RX1 220 5 3 ∧ ft 5 3 = 2 := ⟨Or.inr ⟨_, _, _, "AskedCourt", ckX9, by decide, List.mem_of_getElem? (i := 12) rfl⟩, rfl⟩
theorem fgX1_231_X14 : f_ok RX1 231 8 1 ∧ ft 8 1 = 0 := ⟨Or.inr ⟨_, _, _, "AskedCourt", ckX14, by decide, List.mem_of_getElem? (i := 13) rfl⟩, rfl⟩
theorem fgX1_232_X14 : f_ok RX1 232 8 2 ∧ ft 8 2 = 0 := ⟨Or.inr ⟨_, _, _, "AskedCourt", ckX14, by decide, List.mem_of_getElem? (i := 14) rfl⟩, rfl⟩
theorem fgX1_235_X14 : f_ok RX1 235 8 3 ∧ ft 8 3 = 0 := ⟨Or.inr ⟨_, _, _, "AskedCourt", ckX14, by decide, List.mem_of_getElem? (i := 15) rfl⟩, rfl⟩
theorem fgX1_238_X14 : f_ok RX1 238 8 4 ∧ ft 8 4 = 0 := ⟨Or.inr ⟨_, _, _, "AskedCourt", ckX14, by decide, List.mem_of_getElem? (i := 16) rfl⟩, rfl⟩
theorem fgX1_272_X9 : f_ok RX1 272 5 4 ∧ ft 5 4 = 0 := ⟨Or.inr ⟨_, _, _, "AskedCourt", ckX9, by decide, List.mem_of_getElem? (i := 17) rfl⟩, rfl⟩
theorem fgX1_318_X1 : f_ok RX1 318 1 17 ∧ ft 1 17 = 0 := ⟨Or.inl ⟨_, _, _, ckX1, by decide, _, q457, Or.inl rfl⟩, rfl⟩
theorem fgX1_337_X1 : f_ok RX1 337 1 18 ∧ ft 1 18 = 0 := ⟨Or.inl ⟨_, _, _, ckX1, by decide, _, q458, Or.inl rfl⟩, rfl⟩
theorem fgX1_362_X3 : f_ok RX1 362 3 7 ∧ ft 3 7 = 0 := ⟨Or.inr ⟨_, _, _, "AskedCourt", ckX3, by decide, List.mem_of_getElem? (i := 19) rfl⟩, rfl⟩
theorem fgX1_405_X9 : f_ok RX1 405 5 6 ∧ ft 5 6 = 0 := ⟨Or.inr ⟨_, _, _, "AskedCourt", ckX9, by decide, List.mem_of_getElem? (i := 20) rfl⟩, rfl⟩
theorem fgX1_416_X3 : f_ok RX1 416 3 10 ∧ ft 3 10 = 0 := ⟨Or.inr ⟨_, _, _, "AskedCourt", ckX3, by decide, List.mem_of_getElem? (i := 23) rfl⟩, rfl⟩
theorem fgX1_419_X9 : f_ok RX1 419 5 5 ∧ ft 5 5 = 0 := ⟨Or.inr ⟨_, _, _, "AskedCourt", ckX9, by decide, List.mem_of_getElem? (i := 24) rfl⟩, rfl⟩
theorem fgX12_9_X12 : f_ok RX12 9 6 0 ∧ ft 6 0 = 0 := ⟨Or.inl ⟨_, _, _, ckX12, by decide, _, q774, Or.inl rfl⟩, rfl⟩
theorem fgX12_9_X13 : f_ok RX12 9 7 0 ∧ ft 7 0 = 0 := ⟨Or.inl ⟨_, _, _, ckX13, by decide, _, q774, Or.inl rfl⟩, rfl⟩
theorem fgX12_9_X14 : f_ok RX12 9 8 0 ∧ ft 8 0 = 0 := ⟨Or.inl ⟨_, _, _, ckX14, by decide, _, q774, Or.inl rfl⟩, rfl⟩
theorem fgX16_7_X16 : f_ok RX16 7 9 0 ∧ ft 9 0 = 0 := ⟨Or.inl ⟨_, _, _, ckX16, by decide, _, q981, Or.inl rfl⟩, rfl⟩
theorem fgX17_7_X17 : f_ok RX17 7 10 0 ∧ ft 10 0 = 0 := ⟨Or.inl ⟨_, _, _, ckX17, by decide, _, q991, Or.inl rfl⟩, rfl⟩
theorem fgX18_7_X18 : f_ok RX18 7 11 0 ∧ ft 11 0 = 2 := ⟨Or.inl ⟨_, _, _, ckX18, by decide, _, q1006, Or.inl rfl⟩, rfl⟩
theorem fgX19_9_X19 : f_ok RX19 9 12 1 ∧ ft 12 1 = 0 := ⟨Or.inl ⟨_, _, _, ckX19, by decide, _, q1004, Or.inl rfl⟩, rfl⟩
theorem fgX19_15_X19 : f_ok RX19 15 12 2 ∧ ft 12 2 = 2 := ⟨Or.inl ⟨_, _, _, ckX19, by decide, _, q1005, Or.inl rfl⟩, rfl⟩
theorem fgX19_19_X19 : f_ok RX19 19 12 0 ∧ ft 12 0 = 2 := ⟨Or.inl ⟨_, _, _, ckX19, by decide, _, q1007, Or.inr q1008⟩, rfl⟩
theorem fgX2_3_X2 : f_ok RX2 3 2 8 ∧ ft 2 8 = 2 := ⟨Or.inl ⟨_, _, _, ckX2, by decide, _, q204, Or.inl rfl⟩, rfl⟩
theorem fgX2_15_X2 : f_ok RX2 15 2 0 ∧ ft 2 0 = 0 := ⟨Or.inl ⟨_, _, _, ckX2, by decide, _, q196, Or.inl rfl⟩, rfl⟩
theorem fgX2_19_X2 : f_ok RX2 19 2 1 ∧ ft 2 1 = 0 := ⟨Or.inl ⟨_, _, _, ckX2, by decide, _, q197, Or.inl rfl⟩, rfl⟩
theorem fgX2_22_X1 : f_ok RX2 22 1 0 ∧ ft 1 0 = 2 := ⟨Or.inr ⟨_, _, _, "AskedCourt", ckX1, by decide, List.mem_of_getElem? (i := 28) rfl⟩, rfl⟩
theorem fgX2_30_X2 : f_ok RX2 30 2 2 ∧ ft 2 2 = 0 := ⟨Or.inl ⟨_, _, _, ckX2, by decide, _, q198, Or.inl rfl⟩, rfl⟩
theorem fgX2_33_X2 : f_ok RX2 33 2 3 ∧ ft 2 3 = 0 := ⟨Or.inl ⟨_, _, _, ckX2, by decide, _, q199, Or.inl rfl⟩, rfl⟩
theorem fgX2_47_X2 : f_ok RX2 47 2 4 ∧ ft 2 4 = 0 := ⟨Or.inl ⟨_, _, _, ckX2, by decide, _, q200, Or.inl rfl⟩, rfl⟩
theorem fgX2_102_X2 : f_ok RX2 102 2 5 ∧ ft 2 5 = 0 := ⟨Or.inl ⟨_, _, _, ckX2, by decide, _, q201, Or.inl rfl⟩, rfl⟩
theorem fgX2_105_X2 : f_ok RX2 105 2 6 ∧ ft 2 6 = 0 := ⟨Or.inl ⟨_, _, _, ckX2, by decide, _, q202, Or.inl rfl⟩, rfl⟩
theorem fgX2_111_X2 : f_ok RX2 111 2 7 ∧ ft 2 7 = 2 := ⟨Or.inl ⟨_, _, _, ckX2, by decide, _, q203, Or.inl rfl⟩, rfl⟩
theorem fgX2_118_X3 : f_ok RX2 118 3 0 ∧ ft 3 0 = 2 := ⟨Or.inr ⟨_, _, _, "AskedCourt", ckX3, by decide, List.mem_of_getElem? (i := 30) rfl⟩, rfl⟩
theorem fgX2_126_X3 : f_ok RX2 126 3 1 ∧ ft 3 1 = 2 := ⟨Or.inr ⟨_, _, _, "AskedCourt", ckX3, by decide, List.mem_of_getElem? (i := 31) rfl⟩, rfl⟩
theorem fgX2_129_X3 : f_ok RX2 129 3 2 ∧ ft 3 2 = 2 := ⟨Or.inr ⟨_, _, _, "AskedCourt", ckX3, by decide, List.mem_of_getElem? (i := 32) rfl⟩, rfl⟩
theorem fgX2_132_X3 : f_ok RX2 132 3 7 ∧ ft 3 7 = 0 := ⟨Or.inr ⟨_, _, _, "AskedCourt", ckX3, by decide, List.mem_of_getElem? (i := 33) rfl⟩, rfl⟩
theorem fgX2_174_X3 : f_ok RX2 174 3 6 ∧ ft 3 6 = 2 := ⟨Or.inr ⟨_, _, _, "AskedCourt", ckX3, by decide, List.mem_of_getElem? (i := 36) rfl⟩, rfl⟩
theorem fgX2_185_X3 : f_ok RX2 185 3 11 ∧ ft 3 11 = 0 := ⟨Or.inr ⟨_, _, _, "AskedCourt", ckX3, by decide, List.mem_of_getElem? (i := 37) rfl⟩, rfl⟩
theorem fgX2_210_X13 : f_ok RX2 210 7 4 ∧ ft 7 4 = 0 := ⟨Or.inr ⟨_, _, _, "AskedCourt", ckX13, by decide, List.mem_of_getElem? (i := 41) rfl⟩, rfl⟩
theorem fgX2_230_X3 : f_ok RX2 230 3 3 ∧ ft 3 3 = 2 := ⟨Or.inr ⟨_, _, _, "AskedCourt", ckX3, by decide, List.mem_of_getElem? (i := 46) rfl⟩, rfl⟩
theorem fgX2_234_X3 : f_ok RX2 234 3 4 ∧ ft 3 4 = 2 := ⟨Or.inr ⟨_, _, _, "AskedCourt", ckX3, by decide, List.mem_of_getElem? (i := 47) rfl⟩, rfl⟩
theorem fgX2_237_X3 : f_ok RX2 237 3 5 ∧ ft 3 5 = 2 := ⟨Or.inr ⟨_, _, _, "AskedCourt", ckX3, by decide, List.mem_of_getElem? (i := 48) rfl⟩, rfl⟩
theorem fgX2_240_X3 : f_ok RX2 240 3 10 ∧ ft 3 10 = 0 := ⟨Or.inr ⟨_, _, _, "AskedCourt", ckX3, by decide, List.mem_of_getElem? (i := 49) rfl⟩, rfl⟩
theorem fgX21_7_X21 : f_ok RX21 7 13 0 ∧ ft 13 0 = 0 := ⟨Or.inl ⟨_, _, _, ckX21, by decide, _, q1396, Or.inl rfl⟩, rfl⟩
theorem fgX21_13_X21 : f_ok RX21 13 13 1 ∧ ft 13 1 = 0 := ⟨Or.inl ⟨_, _, _, ckX21, by decide, _, q1397, Or.inl rfl⟩, rfl⟩
theorem fgX21_16_X21 : f_ok RX21 16 13 2 ∧ ft 13 2 = 0 := ⟨Or.inl ⟨_, _, _, ckX21, by decide, _, q1398, Or.inl rfl⟩, rfl⟩
theorem fgX21_19_X21 : f_ok RX21 19 13 3 ∧ ft 13 3 = 0 := ⟨Or.inl ⟨_, _, _, ckX21, by decide, _, q1399, Or.inl rfl⟩, rfl⟩
theorem fgX21_23_X9 : f_ok RX21 23 5 0 ∧ ft 5 0 = 2 := ⟨Or.inr ⟨_, _, _, "AskedCourt", ckX9, by decide, List.mem_of_getElem? (i := 26) rfl⟩, rfl⟩
theorem fgX22_7_X22 : f_ok RX22 7 14 0 ∧ ft 14 0 = 0 := ⟨Or.inl ⟨_, _, _, ckX22, by decide, _, q1424, Or.inl rfl⟩, rfl⟩
theorem fgX4_9_X14 : f_ok RX4 9 8 4 ∧ ft 8 4 = 0 := ⟨Or.inr ⟨_, _, _, "AskedCourt", ckX14, by decide, List.mem_of_getElem? (i := 25) rfl⟩, rfl⟩
theorem fgX5_7_X14 : f_ok RX5 7 8 2 ∧ ft 8 2 = 0 := ⟨Or.inr ⟨_, _, _, "AskedCourt", ckX14, by decide, List.mem_of_getElem? (i := 27) rfl⟩, rfl⟩
theorem fgX6_11_X14 : f_ok RX6 11 8 3 ∧ ft 8 3 = 0 := ⟨Or.inr ⟨_, _, _, "AskedCourt", ckX14, by decide, List.mem_of_getElem? (i := 66) rfl⟩, rfl⟩
theorem fgX9_3_X9 : f_ok RX9 3 5 10 ∧ ft 5 10 = 2 := ⟨Or.inl ⟨_, _, _, ckX9, by decide, _, q382, Or.inl rfl⟩, rfl⟩
theorem fgX9_15_X9 : f_ok RX9 15 5 0 ∧ ft 5 0 = 2 := ⟨Or.inl ⟨_, _, _, ckX9, by decide, _, q361, Or.inl rfl⟩, rfl⟩
theorem fgX9_19_X9 : f_ok RX9 19 5 1 ∧ ft 5 1 = 2 := ⟨Or.inl ⟨_, _, _, ckX9, by decide, _, q364, Or.inl rfl⟩, rfl⟩
theorem fgX9_22_X9 : f_ok RX9 22 5 2 ∧ ft 5 2 = 2 := ⟨Or.inl ⟨_, _, _, ckX9, by decide, _, q366, Or.inl rfl⟩, rfl⟩
theorem fgX9_25_X9 : f_ok RX9 25 5 3 ∧ ft 5 3 = 2 := ⟨Or.inl ⟨_, _, _, ckX9, by decide, _, q368, Or.inl rfl⟩, rfl⟩
theorem fgX9_32_X1 : f_ok RX9 32 1 6 ∧ ft 1 6 = 2 := ⟨Or.inr ⟨_, _, _, "AskedCourt", ckX1, by decide, List.mem_of_getElem? (i := 50) rfl⟩, rfl⟩
theorem fgX9_36_X3 : f_ok RX9 36 3 1 ∧ ft 3 1 = 2 := ⟨Or.inr ⟨_, _, _, "AskedCourt", ckX3, by decide, List.mem_of_getElem? (i := 51) rfl⟩, rfl⟩
theorem fgX9_49_X13 : f_ok RX9 49 7 4 ∧ ft 7 4 = 0 := ⟨Or.inr ⟨_, _, _, "AskedCourt", ckX13, by decide, List.mem_of_getElem? (i := 52) rfl⟩, rfl⟩
theorem fgX9_52_X13 : f_ok RX9 52 7 3 ∧ ft 7 3 = 0 := ⟨Or.inr ⟨_, _, _, "AskedCourt", ckX13, by decide, List.mem_of_getElem? (i := 53) rfl⟩, rfl⟩
theorem fgX9_54_X9 : f_ok RX9 54 5 4 ∧ ft 5 4 = 0 := ⟨Or.inl ⟨_, _, _, ckX9, by decide, _, q370, Or.inl rfl⟩, rfl⟩
theorem fgX9_57_X9 : f_ok RX9 57 5 5 ∧ ft 5 5 = 0 := ⟨Or.inl ⟨_, _, _, ckX9, by decide, _, q372, Or.inl rfl⟩, rfl⟩
theorem fgX9_60_X3 : f_ok RX9 60 3 9 ∧ ft 3 9 = 0 := ⟨Or.inr ⟨_, _, _, "AskedCourt", ckX3, by decide, List.mem_of_getElem? (i := 54) rfl⟩, rfl⟩
theorem fgX9_63_X9 : f_ok RX9 63 5 6 ∧ ft 5 6 = 0 := ⟨Or.inl ⟨_, _, _, ckX9, by decide, _, q374, Or.inl rfl⟩, rfl⟩
theorem fgX9_66_X9 : f_ok RX9 66 5 7 ∧ ft 5 7 = 0 := ⟨Or.inl ⟨_, _, _, ckX9, by decide, _, q376, Or.inl rfl⟩, rfl⟩
theorem fgX9_69_X9 : f_ok RX9 69 5 9 ∧ ft 5 9 = 0 := ⟨Or.inl ⟨_, _, _, ckX9, by decide, _, q380, Or.inl rfl⟩, rfl⟩
theorem fgX9_72_X9 : f_ok RX9 72 5 8 ∧ ft 5 8 = 0 := ⟨Or.inl ⟨_, _, _, ckX9, by decide, _, q378, Or.inl rfl⟩, rfl⟩
theorem fgX9_83_X13 : f_ok RX9 83 7 2 ∧ ft 7 2 = 0 := ⟨Or.inr ⟨_, _, _, "AskedCourt", ckX13, by decide, List.mem_of_getElem? (i := 55) rfl⟩, rfl⟩
theorem fgX9_86_X1 : f_ok RX9 86 1 7 ∧ ft 1 7 = 2 := ⟨Or.inr ⟨_, _, _, "AskedCourt", ckX1, by decide, List.mem_of_getElem? (i := 56) rfl⟩, rfl⟩
theorem fgX9_90_X13 : f_ok RX9 90 7 1 ∧ ft 7 1 = 0 := ⟨Or.inr ⟨_, _, _, "AskedCourt", ckX13, by decide, List.mem_of_getElem? (i := 57) rfl⟩, rfl⟩
theorem fgX9_95_X14 : f_ok RX9 95 8 1 ∧ ft 8 1 = 0 := ⟨Or.inr ⟨_, _, _, "AskedCourt", ckX14, by decide, List.mem_of_getElem? (i := 58) rfl⟩, rfl⟩
theorem fgX9_110_X1 : f_ok RX9 110 1 8 ∧ ft 1 8 = 2 := ⟨Or.inr ⟨_, _, _, "AskedCourt", ckX1, by decide, List.mem_of_getElem? (i := 59) rfl⟩, rfl⟩
theorem fgX9_134_X3 : f_ok RX9 134 3 2 ∧ ft 3 2 = 2 := ⟨Or.inr ⟨_, _, _, "AskedCourt", ckX3, by decide, List.mem_of_getElem? (i := 60) rfl⟩, rfl⟩
theorem fgX9_141_X3 : f_ok RX9 141 3 8 ∧ ft 3 8 = 0 := ⟨Or.inr ⟨_, _, _, "AskedCourt", ckX3, by decide, List.mem_of_getElem? (i := 61) rfl⟩, rfl⟩
theorem fgX9_174_X3 : f_ok RX9 174 3 3 ∧ ft 3 3 = 2 := ⟨Or.inr ⟨_, _, _, "AskedCourt", ckX3, by decide, List.mem_of_getElem? (i := 62) rfl⟩, rfl⟩
theorem fgX9_177_X3 : f_ok RX9 177 3 4 ∧ ft 3 4 = 2 := ⟨Or.inr ⟨_, _, _, "AskedCourt", ckX3, by decide, List.mem_of_getElem? (i := 63) rfl⟩, rfl⟩
theorem fgX9_180_X3 : f_ok RX9 180 3 5 ∧ ft 3 5 = 2 := ⟨Or.inr ⟨_, _, _, "AskedCourt", ckX3, by decide, List.mem_of_getElem? (i := 64) rfl⟩, rfl⟩
theorem fwJ1_7_J2 : f_w RJ1 7 4 0 ∧ (4 ≠ 19 ∧ jty 4 0 = .int) := ⟨Or.inl ⟨_, _, _, ckJ2, by decide, ⟨_, q249, Or.inl rfl⟩, rfl⟩, by decide, rfl⟩
theorem fwJ2_9_J2 : f_w RJ2 9 4 1 ∧ ft 4 1 = 2 := ⟨Or.inl ⟨_, _, _, ckJ2, by decide, ⟨_, q247, Or.inl rfl⟩, rfl⟩, rfl⟩
theorem fwJ2_48_J2 : f_w RJ2 48 4 2 ∧ (4 ≠ 19 ∧ jty 4 2 = .int) := ⟨Or.inl ⟨_, _, _, ckJ2, by decide, ⟨_, q248, Or.inl rfl⟩, rfl⟩, by decide, rfl⟩
theorem fwJ2_63_J2 : f_w RJ2 63 4 0 ∧ (4 ≠ 19 ∧ jty 4 0 = .int) := ⟨Or.inl ⟨_, _, _, ckJ2, by decide, ⟨_, q250, Or.inr q251⟩, rfl⟩, by decide, rfl⟩
theorem fwX1_13_X1 : f_w RX1 13 1 6 ∧ ft 1 6 = 2 := ⟨Or.inl ⟨_, _, _, ckX1, by decide, ⟨_, q444, Or.inl rfl⟩, rfl⟩, rfl⟩
theorem fwX1_60_X1 : f_w RX1 60 1 3 ∧ (1 ≠ 19 ∧ jty 1 3 = .int) := ⟨Or.inl ⟨_, _, _, ckX1, by decide, ⟨_, q440, Or.inl rfl⟩, rfl⟩, by decide, rfl⟩
theorem fwX1_135_X1 : f_w RX1 135 1 23 ∧ (1 ≠ 19 ∧ jty 1 23 = .int) := ⟨Or.inl ⟨_, _, _, ckX1, by decide, ⟨_, q463, Or.inl rfl⟩, rfl⟩, by decide, rfl⟩
theorem fwX1_141_X1 : f_w RX1 141 1 1 ∧ (1 ≠ 19 ∧ jty 1 1 = .int) := ⟨Or.inl ⟨_, _, _, ckX1, by decide, ⟨_, q438, Or.inl rfl⟩, rfl⟩, by decide, rfl⟩
theorem fwX1_151_X1 : f_w RX1 151 1 2 ∧ (1 ≠ 19 ∧ jty 1 2 = .int) := ⟨Or.inl ⟨_, _, _, ckX1, by decide, ⟨_, q439, Or.inl rfl⟩, rfl⟩, by decide, rfl⟩
theorem fwX1_166_X1 : f_w RX1 166 1 4 ∧ (1 ≠ 19 ∧ jty 1 4 = .int) := ⟨Or.inl ⟨_, _, _, ckX1, by decide, ⟨_, q441, Or.inl rfl⟩, rfl⟩, by decide, rfl⟩
theorem fwX1_169_X1 : f_w RX1 169 1 14 ∧ (1 ≠ 19 ∧ jty 1 14 = .boolean) := ⟨Or.inl ⟨_, _, _, ckX1, by decide, ⟨_, q454, Or.inl rfl⟩, rfl⟩, by decide, rfl⟩
theorem fwX1_272_X9 : f_w RX1 272 5 4 ∧ (5 ≠ 19 ∧ jty 5 4 = .int) := ⟨Or.inr ⟨_, _, _, "AskedCourt", ckX9, by decide, List.mem_of_getElem? (i := 17) rfl, rfl⟩, by decide, rfl⟩
theorem fwX1_275_X9 : f_w RX1 275 5 9 ∧ (5 ≠ 19 ∧ jty 5 9 = .int) := ⟨Or.inr ⟨_, _, _, "AskedCourt", ckX9, by decide, List.mem_of_getElem? (i := 18) rfl, rfl⟩, by decide, rfl⟩
theorem fwX1_318_X1 : f_w RX1 318 1 17 ∧ (1 ≠ 19 ∧ jty 1 17 = .int) := ⟨Or.inl ⟨_, _, _, ckX1, by decide, ⟨_, q457, Or.inl rfl⟩, rfl⟩, by decide, rfl⟩
theorem fwX1_337_X1 : f_w RX1 337 1 18 ∧ (1 ≠ 19 ∧ jty 1 18 = .int) := ⟨Or.inl ⟨_, _, _, ckX1, by decide, ⟨_, q458, Or.inl rfl⟩, rfl⟩, by decide, rfl⟩
theorem fwX1_405_X9 : f_w RX1 405 5 6 ∧ (5 ≠ 19 ∧ jty 5 6 = .int) := ⟨Or.inr ⟨_, _, _, "AskedCourt", ckX9, by decide, List.mem_of_getElem? (i := 20) rfl, rfl⟩, by decide, rfl⟩
theorem fwX1_410_X9 : f_w RX1 410 5 7 ∧ (5 ≠ 19 ∧ jty 5 7 = .int) := ⟨Or.inr ⟨_, _, _, "AskedCourt", ckX9, by decide, List.mem_of_getElem? (i := 21) rfl, rfl⟩, by decide, rfl⟩
theorem fwX1_413_X9 : f_w RX1 413 5 8 ∧ (5 ≠ 19 ∧ jty 5 8 = .int) := ⟨Or.inr ⟨_, _, _, "AskedCourt", ckX9, by decide, List.mem_of_getElem? (i := 22) rfl, rfl⟩, by decide, rfl⟩
theorem fwX2_15_X2 : f_w RX2 15 2 0 ∧ (2 ≠ 19 ∧ jty 2 0 = .int) := ⟨Or.inl ⟨_, _, _, ckX2, by decide, ⟨_, q196, Or.inl rfl⟩, rfl⟩, by decide, rfl⟩
theorem fwX2_19_X2 : f_w RX2 19 2 1 ∧ (2 ≠ 19 ∧ jty 2 1 = .int) := ⟨Or.inl ⟨_, _, _, ckX2, by decide, ⟨_, q197, Or.inl rfl⟩, rfl⟩, by decide, rfl⟩
theorem fwX2_30_X2 : f_w RX2 30 2 2 ∧ (2 ≠ 19 ∧ jty 2 2 = .int) := ⟨Or.inl ⟨_, _, _, ckX2, by decide, ⟨_, q198, Or.inl rfl⟩, rfl⟩, by decide, rfl⟩
theorem fwX2_33_X2 : f_w RX2 33 2 3 ∧ (2 ≠ 19 ∧ jty 2 3 = .int) := ⟨Or.inl ⟨_, _, _, ckX2, by decide, ⟨_, q199, Or.inl rfl⟩, rfl⟩, by decide, rfl⟩
theorem fwX2_47_X2 : f_w RX2 47 2 4 ∧ (2 ≠ 19 ∧ jty 2 4 = .int) := ⟨Or.inl ⟨_, _, _, ckX2, by decide, ⟨_, q200, Or.inl rfl⟩, rfl⟩, by decide, rfl⟩
theorem fwX2_102_X2 : f_w RX2 102 2 5 ∧ (2 ≠ 19 ∧ jty 2 5 = .int) := ⟨Or.inl ⟨_, _, _, ckX2, by decide, ⟨_, q201, Or.inl rfl⟩, rfl⟩, by decide, rfl⟩
theorem fwX2_105_X2 : f_w RX2 105 2 6 ∧ (2 ≠ 19 ∧ jty 2 6 = .int) := ⟨Or.inl ⟨_, _, _, ckX2, by decide, ⟨_, q202, Or.inl rfl⟩, rfl⟩, by decide, rfl⟩
theorem fwX2_111_X2 : f_w RX2 111 2 7 ∧ ft 2 7 = 2 := ⟨Or.inl ⟨_, _, _, ckX2, by decide, ⟨_, q203, Or.inl rfl⟩, rfl⟩, rfl⟩
theorem fwX2_132_X3 : f_w RX2 132 3 7 ∧ (3 ≠ 19 ∧ jty 3 7 = .int) := ⟨Or.inr ⟨_, _, _, "AskedCourt", ckX3, by decide, List.mem_of_getElem? (i := 33) rfl, rfl⟩, by decide, rfl⟩
theorem fwX2_168_X3 : f_w RX2 168 3 8 ∧ (3 ≠ 19 ∧ jty 3 8 = .int) := ⟨Or.inr ⟨_, _, _, "AskedCourt", ckX3, by decide, List.mem_of_getElem? (i := 34) rfl, rfl⟩, by decide, rfl⟩
theorem fwX2_171_X3 : f_w RX2 171 3 9 ∧ (3 ≠ 19 ∧ jty 3 9 = .int) := ⟨Or.inr ⟨_, _, _, "AskedCourt", ckX3, by decide, List.mem_of_getElem? (i := 35) rfl, rfl⟩, by decide, rfl⟩
theorem fwX2_185_X3 : f_w RX2 185 3 11 ∧ (3 ≠ 19 ∧ jty 3 11 = .int) := ⟨Or.inr ⟨_, _, _, "AskedCourt", ckX3, by decide, List.mem_of_getElem? (i := 37) rfl, rfl⟩, by decide, rfl⟩
theorem fwX2_194_X13 : f_w RX2 194 7 1 ∧ (7 ≠ 19 ∧ jty 7 1 = .int) := ⟨Or.inr ⟨_, _, _, "AskedCourt", ckX13, by decide, List.mem_of_getElem? (i := 38) rfl, rfl⟩, by decide, rfl⟩
theorem fwX2_197_X13 : f_w RX2 197 7 2 ∧ (7 ≠ 19 ∧ jty 7 2 = .int) := ⟨Or.inr ⟨_, _, _, "AskedCourt", ckX13, by decide, List.mem_of_getElem? (i := 39) rfl, rfl⟩, by decide, rfl⟩
theorem fwX2_200_X13 : f_w RX2 200 7 3 ∧ (7 ≠ 19 ∧ jty 7 3 = .int) := ⟨Or.inr ⟨_, _, _, "AskedCourt", ckX13, by decide, List.mem_of_getElem? (i := 40) rfl, rfl⟩, by decide, rfl⟩
theorem fwX2_210_X13 : f_w RX2 210 7 4 ∧ (7 ≠ 19 ∧ jty 7 4 = .int) := ⟨Or.inr ⟨_, _, _, "AskedCourt", ckX13, by decide, List.mem_of_getElem? (i := 41) rfl, rfl⟩, by decide, rfl⟩
theorem fwX2_215_X14 : f_w RX2 215 8 1 ∧ (8 ≠ 19 ∧ jty 8 1 = .int) := ⟨Or.inr ⟨_, _, _, "AskedCourt", ckX14, by decide, List.mem_of_getElem? (i := 42) rfl, rfl⟩, by decide, rfl⟩
theorem fwX2_221_X14 : f_w RX2 221 8 2 ∧ (8 ≠ 19 ∧ jty 8 2 = .int) := ⟨Or.inr ⟨_, _, _, "AskedCourt", ckX14, by decide, List.mem_of_getElem? (i := 43) rfl, rfl⟩, by decide, rfl⟩
theorem fwX2_224_X14 : f_w RX2 224 8 3 ∧ (8 ≠ 19 ∧ jty 8 3 = .int) := ⟨Or.inr ⟨_, _, _, "AskedCourt", ckX14, by decide, List.mem_of_getElem? (i := 44) rfl, rfl⟩, by decide, rfl⟩
theorem fwX2_227_X14 : f_w RX2 227 8 4 ∧ (8 ≠ 19 ∧ jty 8 4 = .int) := ⟨Or.inr ⟨_, _, _, "AskedCourt", ckX14, by decide, List.mem_of_getElem? (i := 45) rfl, rfl⟩, by decide, rfl⟩
theorem fwX2_240_X3 : f_w RX2 240 3 10 ∧ (3 ≠ 19 ∧ jty 3 10 = .int) := ⟨Or.inr ⟨_, _, _, "AskedCourt", ckX3, by decide, List.mem_of_getElem? (i := 49) rfl, rfl⟩, by decide, rfl⟩
theorem fwX3_42_X3 : f_w RX3 42 3 8 ∧ (3 ≠ 19 ∧ jty 3 8 = .int) := ⟨Or.inl ⟨_, _, _, ckX3, by decide, ⟨_, q286, Or.inl rfl⟩, rfl⟩, by decide, rfl⟩
theorem fwX9_54_X9 : f_w RX9 54 5 4 ∧ (5 ≠ 19 ∧ jty 5 4 = .int) := ⟨Or.inl ⟨_, _, _, ckX9, by decide, ⟨_, q370, Or.inl rfl⟩, rfl⟩, by decide, rfl⟩
theorem fwX9_57_X9 : f_w RX9 57 5 5 ∧ (5 ≠ 19 ∧ jty 5 5 = .int) := ⟨Or.inl ⟨_, _, _, ckX9, by decide, ⟨_, q372, Or.inl rfl⟩, rfl⟩, by decide, rfl⟩
theorem fwX9_63_X9 : f_w RX9 63 5 6 ∧ (5 ≠ 19 ∧ jty 5 6 = .int) := ⟨Or.inl ⟨_, _, _, ckX9, by decide, ⟨_, q374, Or.inl rfl⟩, rfl⟩, by decide, rfl⟩
theorem fwX9_66_X9 : f_w RX9 66 5 7 ∧ (5 ≠ 19 ∧ jty 5 7 = .int) := ⟨Or.inl ⟨_, _, _, ckX9, by decide, ⟨_, q376, Or.inl rfl⟩, rfl⟩, by decide, rfl⟩
theorem fwX9_69_X9 : f_w RX9 69 5 9 ∧ (5 ≠ 19 ∧ jty 5 9 = .int) := ⟨Or.inl ⟨_, _, _, ckX9, by decide, ⟨_, q380, Or.inl rfl⟩, rfl⟩, by decide, rfl⟩
theorem fwX9_72_X9 : f_w RX9 72 5 8 ∧ (5 ≠ 19 ∧ jty 5 8 = .int) := ⟨Or.inl ⟨_, _, _, ckX9, by decide, ⟨_, q378, Or.inl rfl⟩, rfl⟩, by decide, rfl⟩
theorem ymJ0_init : y_ok yJ0_init 0 := by unfold y_ok; decide +kernel
theorem ymJ1_init : y_ok yJ1_init 0 := by unfold y_ok; decide +kernel
theorem ymJ10_init_2 : y_ok yJ10_init_2 4 := by unfold y_ok; decide +kernel
theorem ymJ11_init : y_ok yJ11_init 4 := by unfold y_ok; decide +kernel
theorem ymJ18_bitCount : y_ok yJ18_bitCount 1 := by unfold y_ok; decide +kernel
theorem ymJ2_init : y_ok yJ2_init 1 := by unfold y_ok; decide +kernel
theorem ymJ2_size : y_ok yJ2_size 0 := by unfold y_ok; decide +kernel
theorem ymJ4_checkIndex : y_ok yJ4_checkIndex 3 := by unfold y_ok; decide +kernel
theorem ymJ3_checkIndex : y_ok yJ3_checkIndex 2 := by unfold y_ok; decide +kernel
theorem ymJ2_elementData : y_ok yJ2_elementData 1 := by unfold y_ok; decide +kernel
theorem ymJ2_get : y_ok yJ2_get 1 := by unfold y_ok; decide +kernel
theorem ymJ2_add_2 : y_ok yJ2_add_2 3 := by unfold y_ok; decide +kernel
theorem ymJ2_add : y_ok yJ2_add 1 := by unfold y_ok; decide +kernel
theorem ymJ2_clear : y_ok yJ2_clear 0 := by unfold y_ok; decide +kernel
theorem ymJ5_coder : y_ok yJ5_coder 0 := by unfold y_ok; decide +kernel
theorem ymJ5_length : y_ok yJ5_length 0 := by unfold y_ok; decide +kernel
theorem ymJ5_isLatin1 : y_ok yJ5_isLatin1 0 := by unfold y_ok; decide +kernel
theorem ymJ5_checkIndex : y_ok yJ5_checkIndex 2 := by unfold y_ok; decide +kernel
theorem ymJ6_charAt : y_ok yJ6_charAt 2 := by unfold y_ok; decide +kernel
theorem ymJ5_charAt : y_ok yJ5_charAt 1 := by unfold y_ok; decide +kernel
theorem ymJ6_canEncode : y_ok yJ6_canEncode 1 := by unfold y_ok; decide +kernel
theorem ymJ6_indexOfChar : y_ok yJ6_indexOfChar 4 := by unfold y_ok; decide +kernel
theorem ymJ6_indexOf : y_ok yJ6_indexOf 4 := by unfold y_ok; decide +kernel
theorem ymJ5_indexOf_2 : y_ok yJ5_indexOf_2 2 := by unfold y_ok; decide +kernel
theorem ymJ5_indexOf : y_ok yJ5_indexOf 1 := by unfold y_ok; decide +kernel
theorem ymX1_persons : y_ok yX1_persons 0 := by unfold y_ok; decide +kernel
theorem ymX1_put : y_ok yX1_put 1 := by unfold y_ok; decide +kernel
theorem ymX1_feed : y_ok yX1_feed 5 := by unfold y_ok; decide +kernel
theorem ymX1_in : y_ok yX1_in 3 := by unfold y_ok; decide +kernel
theorem ymX3_init : y_ok yX3_init 0 := by unfold y_ok; decide +kernel
theorem ymX2_here : y_ok yX2_here 0 := by unfold y_ok; decide +kernel
theorem ymX2_sign : y_ok yX2_sign 0 := by unfold y_ok; decide +kernel
theorem ymX2_word : y_ok yX2_word 0 := by unfold y_ok; decide +kernel
theorem ymX2_name : y_ok yX2_name 0 := by unfold y_ok; decide +kernel
theorem ymX2_next : y_ok yX2_next 0 := by unfold y_ok; decide +kernel
theorem ymX2_isWord : y_ok yX2_isWord 2 := by unfold y_ok; decide +kernel
theorem ymX11_init : y_ok yX11_init 2 := by unfold y_ok; decide +kernel
theorem ymX2_wrong : y_ok yX2_wrong 1 := by unfold y_ok; decide +kernel
theorem ymX2_isFull : y_ok yX2_isFull 1 := by unfold y_ok; decide +kernel
theorem ymX2_isSign : y_ok yX2_isSign 1 := by unfold y_ok; decide +kernel
theorem ymX12_find : y_ok yX12_find 2 := by unfold y_ok; decide +kernel
theorem ymX2_fresh : y_ok yX2_fresh 1 := by unfold y_ok; decide +kernel
theorem ymX12_init : y_ok yX12_init 1 := by unfold y_ok; decide +kernel
theorem ymX13_init : y_ok yX13_init 1 := by unfold y_ok; decide +kernel
theorem ymX2_numberAtHand : y_ok yX2_numberAtHand 2 := by unfold y_ok; decide +kernel
theorem ymX2_number : y_ok yX2_number 2 := by unfold y_ok; decide +kernel
theorem ymX2_person : y_ok yX2_person 0 := by unfold y_ok; decide +kernel
theorem ymX2_atHand : y_ok yX2_atHand 1 := by unfold y_ok; decide +kernel
theorem ymX2_ahead : y_ok yX2_ahead 1 := by unfold y_ok; decide +kernel
theorem ymX2_knows : y_ok yX2_knows 0 := by unfold y_ok; decide +kernel
theorem ymX14_init : y_ok yX14_init 1 := by unfold y_ok; decide +kernel
theorem ymX2_some : y_ok yX2_some 0 := by unfold y_ok; decide +kernel
theorem ymX2_question : y_ok yX2_question 0 := by unfold y_ok; decide +kernel
theorem ymX2_talk : y_ok yX2_talk 0 := by unfold y_ok; decide +kernel
theorem ymX2_knot : y_ok yX2_knot 0 := by unfold y_ok; decide +kernel
theorem ymX15_init : y_ok yX15_init 0 := by unfold y_ok; decide +kernel
theorem ymX18_init : y_ok yX18_init 1 := by unfold y_ok; decide +kernel
theorem ymX19_init : y_ok yX19_init 3 := by unfold y_ok; decide +kernel
theorem ymX2_and : y_ok yX2_and 0 := by unfold y_ok; decide +kernel
theorem ymX2_or : y_ok yX2_or 0 := by unfold y_ok; decide +kernel
theorem ymX16_init : y_ok yX16_init 1 := by unfold y_ok; decide +kernel
theorem ymX17_init : y_ok yX17_init 1 := by unfold y_ok; decide +kernel
theorem ymX2_one : y_ok yX2_one 0 := by unfold y_ok; decide +kernel
theorem ymX2_product : y_ok yX2_product 0 := by unfold y_ok; decide +kernel
theorem ymX2_sum : y_ok yX2_sum 0 := by unfold y_ok; decide +kernel
theorem ymX2_compare : y_ok yX2_compare 0 := by unfold y_ok; decide +kernel
theorem ymX2_not : y_ok yX2_not 0 := by unfold y_ok; decide +kernel
theorem ymX2_line : y_ok yX2_line 0 := by unfold y_ok; decide +kernel
theorem ymX2_read : y_ok yX2_read 1 := by unfold y_ok; decide +kernel
theorem ymX9_begin : y_ok yX9_begin 0 := by unfold y_ok; decide +kernel
theorem ymX1_text : y_ok yX1_text 1 := by unfold y_ok; decide +kernel
theorem ymX1_fault : y_ok yX1_fault 1 := by unfold y_ok; decide +kernel
theorem ymX1_named : y_ok yX1_named 2 := by unfold y_ok; decide +kernel
theorem ymX1_questions : y_ok yX1_questions 0 := by unfold y_ok; decide +kernel
theorem ymX1_isQuestion : y_ok yX1_isQuestion 1 := by unfold y_ok; decide +kernel
theorem ymX1_question : y_ok yX1_question 2 := by unfold y_ok; decide +kernel
theorem ymX1_isPerson : y_ok yX1_isPerson 1 := by unfold y_ok; decide +kernel
theorem ymX1_areTwo : y_ok yX1_areTwo 2 := by unfold y_ok; decide +kernel
theorem ymX9_isThere : y_ok yX9_isThere 1 := by unfold y_ok; decide +kernel
theorem ymX9_areTogether : y_ok yX9_areTogether 2 := by unfold y_ok; decide +kernel
theorem ymX4_bit : y_ok yX4_bit 1 := by unfold y_ok; decide +kernel
theorem ymX5_supposes : y_ok yX5_supposes 1 := by unfold y_ok; decide +kernel
theorem ymX6_supposes : y_ok yX6_supposes 1 := by unfold y_ok; decide +kernel
theorem ymX9_can : y_ok yX9_can 4 := by unfold y_ok; decide +kernel
theorem ymX1_can : y_ok yX1_can 3 := by unfold y_ok; decide +kernel
theorem ymX9_wit : y_ok yX9_wit 1 := by unfold y_ok; decide +kernel
theorem ymX9_name : y_ok yX9_name 2 := by unfold y_ok; decide +kernel
theorem ymX16_of : y_ok yX16_of 1 := by unfold y_ok; decide +kernel
theorem ymX17_of : y_ok yX17_of 1 := by unfold y_ok; decide +kernel
theorem ymX19_is : y_ok yX19_is 1 := by unfold y_ok; decide +kernel
theorem ymX19_times : y_ok yX19_times 2 := by unfold y_ok; decide +kernel
theorem ymX1_sure : y_ok yX1_sure 1 := by unfold y_ok; decide +kernel
theorem ymX19_of : y_ok yX19_of 1 := by unfold y_ok; decide +kernel
theorem ymX18_of : y_ok yX18_of 1 := by unfold y_ok; decide +kernel
theorem ymX1_work : y_ok yX1_work 1 := by unfold y_ok; decide +kernel
theorem ymX1_law : y_ok yX1_law 3 := by unfold y_ok; decide +kernel
theorem ymX9_init : y_ok yX9_init 1 := by unfold y_ok; decide +kernel
theorem ymX9_become : y_ok yX9_become 1 := by unfold y_ok; decide +kernel
theorem ymX1_keepNow : y_ok yX1_keepNow 0 := by unfold y_ok; decide +kernel
theorem ymX4_isHeard : y_ok yX4_isHeard 1 := by unfold y_ok; decide +kernel
theorem ymX7_isHeard : y_ok yX7_isHeard 1 := by unfold y_ok; decide +kernel
theorem ymX9_hears : y_ok yX9_hears 2 := by unfold y_ok; decide +kernel
theorem ymX9_odds : y_ok yX9_odds 2 := by unfold y_ok; decide +kernel
theorem ymX9_draw : y_ok yX9_draw 1 := by unfold y_ok; decide +kernel
theorem ymX4_asks : y_ok yX4_asks 1 := by unfold y_ok; decide +kernel
theorem ymX8_asks : y_ok yX8_asks 1 := by unfold y_ok; decide +kernel
theorem ymX9_ask : y_ok yX9_ask 4 := by unfold y_ok; decide +kernel
theorem ymX1_ask : y_ok yX1_ask 3 := by unfold y_ok; decide +kernel
theorem ymX1_isFact : y_ok yX1_isFact 1 := by unfold y_ok; decide +kernel
theorem ymX1_tell : y_ok yX1_tell 2 := by unfold y_ok; decide +kernel
theorem ymX1_send : y_ok yX1_send 2 := by unfold y_ok; decide +kernel
theorem ymX1_end : y_ok yX1_end 0 := by unfold y_ok; decide +kernel
theorem ymX9_sum : y_ok yX9_sum 0 := by unfold y_ok; decide +kernel
theorem ymX9_askAll : y_ok yX9_askAll 0 := by unfold y_ok; decide +kernel
theorem ymX1_askAllWithout : y_ok yX1_askAllWithout 1 := by unfold y_ok; decide +kernel
theorem ymX1_all : y_ok yX1_all 1 := by unfold y_ok; decide +kernel
theorem ymX1_learns : y_ok yX1_learns 3 := by unfold y_ok; decide +kernel
theorem ymX1_never : y_ok yX1_never 2 := by unfold y_ok; decide +kernel
theorem ymX1_away : y_ok yX1_away 2 := by unfold y_ok; decide +kernel
theorem ymX1_spread : y_ok yX1_spread 1 := by unfold y_ok; decide +kernel
theorem ymX1_learnsIf : y_ok yX1_learnsIf 4 := by unfold y_ok; decide +kernel
theorem ymX1_hint : y_ok yX1_hint 3 := by unfold y_ok; decide +kernel
theorem ymX1_isAskable : y_ok yX1_isAskable 2 := by unfold y_ok; decide +kernel
theorem ymX1_unasked : y_ok yX1_unasked 1 := by unfold y_ok; decide +kernel
theorem ymX1_sumIn : y_ok yX1_sumIn 2 := by unfold y_ok; decide +kernel
theorem ymX1_inRoom : y_ok yX1_inRoom 2 := by unfold y_ok; decide +kernel
theorem ymX1_bestRoom : y_ok yX1_bestRoom 1 := by unfold y_ok; decide +kernel
theorem ymX1_isAsked : y_ok yX1_isAsked 4 := by unfold y_ok; decide +kernel
theorem ymX1_isWay : y_ok yX1_isWay 4 := by unfold y_ok; decide +kernel
theorem ymX1_ways : y_ok yX1_ways 6 := by unfold y_ok; decide +kernel
theorem ymX1_layWay : y_ok yX1_layWay 4 := by unfold y_ok; decide +kernel
theorem ymX1_way : y_ok yX1_way 4 := by unfold y_ok; decide +kernel
theorem ymX1_step : y_ok yX1_step 5 := by unfold y_ok; decide +kernel
theorem ymX1_isTrap : y_ok yX1_isTrap 3 := by unfold y_ok; decide +kernel
theorem ymX1_care : y_ok yX1_care 1 := by unfold y_ok; decide +kernel
theorem ymX1_asks : y_ok yX1_asks 4 := by unfold y_ok; decide +kernel
theorem ymX1_best : y_ok yX1_best 3 := by unfold y_ok; decide +kernel
theorem ymX1_isDuel : y_ok yX1_isDuel 2 := by unfold y_ok; decide +kernel
theorem ymX1_ends : y_ok yX1_ends 1 := by unfold y_ok; decide +kernel
theorem ymX1_layDuel : y_ok yX1_layDuel 2 := by unfold y_ok; decide +kernel
theorem ymX1_isRest : y_ok yX1_isRest 2 := by unfold y_ok; decide +kernel
theorem ymX1_restOf : y_ok yX1_restOf 1 := by unfold y_ok; decide +kernel
theorem ymX1_rests : y_ok yX1_rests 2 := by unfold y_ok; decide +kernel
theorem ymX1_rest : y_ok yX1_rest 3 := by unfold y_ok; decide +kernel
theorem ymX9_talk : y_ok yX9_talk 2 := by unfold y_ok; decide +kernel
theorem ymX1_layTalk : y_ok yX1_layTalk 1 := by unfold y_ok; decide +kernel
theorem ymX1_slipped : y_ok yX1_slipped 1 := by unfold y_ok; decide +kernel
theorem ymX1_behind : y_ok yX1_behind 2 := by unfold y_ok; decide +kernel
theorem ymX20_init : y_ok yX20_init 0 := by unfold y_ok; decide +kernel
theorem ymX21_init : y_ok yX21_init 4 := by unfold y_ok; decide +kernel
theorem ymX1_add : y_ok yX1_add 1 := by unfold y_ok; decide +kernel
theorem ymX1_note : y_ok yX1_note 4 := by unfold y_ok; decide +kernel
theorem ymX22_init : y_ok yX22_init 1 := by unfold y_ok; decide +kernel
theorem ymX1_strike : y_ok yX1_strike 1 := by unfold y_ok; decide +kernel
theorem ymX1_known : y_ok yX1_known 1 := by unfold y_ok; decide +kernel
theorem ymX1_knownMany : y_ok yX1_knownMany 0 := by unfold y_ok; decide +kernel
theorem ymX20_struck : y_ok yX20_struck 0 := by unfold y_ok; decide +kernel
theorem ymX22_struck : y_ok yX22_struck 0 := by unfold y_ok; decide +kernel
theorem ymX21_isSo : y_ok yX21_isSo 1 := by unfold y_ok; decide +kernel
theorem ymX20_isSo : y_ok yX20_isSo 1 := by unfold y_ok; decide +kernel
theorem ymX21_behind : y_ok yX21_behind 0 := by unfold y_ok; decide +kernel
theorem ymX20_behind : y_ok yX20_behind 0 := by unfold y_ok; decide +kernel
theorem ymX1_areSo : y_ok yX1_areSo 1 := by unfold y_ok; decide +kernel
theorem ymX1_isKnew : y_ok yX1_isKnew 2 := by unfold y_ok; decide +kernel
theorem ymX1_knew : y_ok yX1_knew 1 := by unfold y_ok; decide +kernel
theorem ymX1_chance : y_ok yX1_chance 3 := by unfold y_ok; decide +kernel
theorem ymX1_tried : y_ok yX1_tried 2 := by unfold y_ok; decide +kernel
theorem ymX1_undo : y_ok yX1_undo 0 := by unfold y_ok; decide +kernel
theorem ymX1_keep : y_ok yX1_keep 0 := by unfold y_ok; decide +kernel
theorem ymX1_back : y_ok yX1_back 0 := by unfold y_ok; decide +kernel
theorem ymX1_count : y_ok yX1_count 1 := by unfold y_ok; decide +kernel
theorem ymX4_init : y_ok yX4_init 0 := by unfold y_ok; decide +kernel
theorem ymX5_init : y_ok yX5_init 0 := by unfold y_ok; decide +kernel
theorem ymX6_init : y_ok yX6_init 0 := by unfold y_ok; decide +kernel
theorem ymX7_init : y_ok yX7_init 0 := by unfold y_ok; decide +kernel
theorem ymX8_init : y_ok yX8_init 0 := by unfold y_ok; decide +kernel
theorem yo_cK_supposes : y_ok ⟨"AskedCourt$Kind", "supposes", "(LAskedCourt$Question;)I"⟩ 1 := by unfold y_ok; decide +kernel
theorem yo_cK_asks : y_ok ⟨"AskedCourt$Kind", "asks", "(LAskedCourt$Question;)I"⟩ 1 := by unfold y_ok; decide +kernel
theorem yo_cK_isHeard : y_ok ⟨"AskedCourt$Kind", "isHeard", "(I)Z"⟩ 1 := by unfold y_ok; decide +kernel
theorem yo_cF_struck : y_ok ⟨"AskedCourt$Leaf", "struck", "()I"⟩ 0 := by unfold y_ok; decide +kernel
theorem yo_cF_behind : y_ok ⟨"AskedCourt$Leaf", "behind", "()I"⟩ 0 := by unfold y_ok; decide +kernel
theorem yo_cF_isSo : y_ok ⟨"AskedCourt$Leaf", "isSo", "(LAskedCourt$State;)Z"⟩ 1 := by unfold y_ok; decide +kernel
theorem yo_of : y_ok ⟨"AskedCourt$Part", "of", "([J)J"⟩ 1 := by unfold y_ok; decide +kernel
def okPof (f : Nat → Nat → HP → Option ((Int64 ⊕ Nat × Nat) × HP)) (F L : Nat) : Prop := (∀ (o a : Nat) (h : HP) (rr : (Int64 ⊕ Nat × Nat) × HP), f o a h = some rr → ((gT (cV h) o).1 = 10 ∧ CnX eL cV yX16_of (ws_ yX16_of cX16_of 2 (some .long)) F L (fun z => [.ref (z + o), .ref (z + a)]) h rr) ∨ ((gT (cV h) o).1 = 11 ∧ CnX eL cV yX17_of (ws_ yX17_of cX17_of 2 (some .long)) F L (fun z => [.ref (z + o), .ref (z + a)]) h rr) ∨ ((gT (cV h) o).1 = 12 ∧ CnX eL cV yX18_of (ws_ yX18_of cX18_of 2 (some .long)) F L (fun z => [.ref (z + o), .ref (z + a)]) h rr) ∨ ((gT (cV h) o).1 = 13 ∧ CnX eL cV yX19_of (ws_ yX19_of cX19_of 6 (some .long)) F L (fun z => [.ref (z + o), .ref (z + a)]) h rr)) ∧ ∀ (o a : Nat) (h : HP), mG (gN h) (gS h) (f o a h)
theorem x_callP {ρ : Type} {X : CTX} {cc : ByteArray} {own : String} {nL fr lo pc : Nat} {ls : List (Nat × Value)} {rest : List Value} {h : HP} {f : Nat → Nat → HP → Option ((Int64 ⊕ Nat × Nat) × HP)} {o a F L index : Nat} {e1 : Nat → ρ → Option Value} {rr : (ρ ⊕ Nat × Nat) × HP} {T : Int64 → HP → Option ((ρ ⊕ Nat × Nat) × HP)} (hX : okX cV X rr cc own nL fr lo) (hxt : ∀ x ∈ (xc X).exceptionTable.toList, False) (hf : okPof f F L) (q1 : Cond.methodLink own index ⟨"AskedCourt$Part", "of", "([J)J"⟩ ∈ lw_all) (hr : F + 1 ≤ fr ∧ 8 + (6 + 11) + L ≤ lo) (hw : (rest.map fun v => v.category).sum ≤ 8) (d : decode cc pc = .ok (.invokevirtual index, 3)) (kk : ∀ r h1, jG cV X (evX e1) rr (T r h1) (pc + 3) ls ((eL (xz X) r).toList ++ rest) h1) : jG cV X (evX e1) rr (calx (f o a h) T) pc ls (.ref (xz X + a) :: .ref (xz X + o) :: rest) h := by
  by_cases c0 : (gT (cV h) o).1 = 10
  · exact x_callU (e2 := eL) (owner := "AskedCourt$Part") (As := fun z => [.ref (z + a)]) (rest := rest) hX hxt (fun r e => by rcases hf.1 o a h r e with ⟨q, k⟩ | ⟨q, k⟩ | ⟨q, k⟩ | ⟨q, k⟩ <;> first | exact k | exact absurd (q.symm.trans c0) (by decide)) yo_of q1 q1118 q1149 q1126 q170 q1127 (fun a s _ hN => va_Decl.abs (hN.2.2.2.2 _ (List.mem_of_getElem? (i := 2) rfl))) ckX16 c0 ⟨hr.1, by have := hr.2; omega⟩ rfl rfl hw d kk
  by_cases c1 : (gT (cV h) o).1 = 11
  · exact x_callU (e2 := eL) (owner := "AskedCourt$Part") (As := fun z => [.ref (z + a)]) (rest := rest) hX hxt (fun r e => by rcases hf.1 o a h r e with ⟨q, k⟩ | ⟨q, k⟩ | ⟨q, k⟩ | ⟨q, k⟩ <;> first | exact k | exact absurd (q.symm.trans c1) (by decide)) yo_of q1 q1118 q1119 q1120 q171 q1121 (fun a s _ hN => va_Decl.abs (hN.2.2.2.2 _ (List.mem_of_getElem? (i := 2) rfl))) ckX17 c1 ⟨hr.1, by have := hr.2; omega⟩ rfl rfl hw d kk
  by_cases c2 : (gT (cV h) o).1 = 12
  · exact x_callU (e2 := eL) (owner := "AskedCourt$Part") (As := fun z => [.ref (z + a)]) (rest := rest) hX hxt (fun r e => by rcases hf.1 o a h r e with ⟨q, k⟩ | ⟨q, k⟩ | ⟨q, k⟩ | ⟨q, k⟩ <;> first | exact k | exact absurd (q.symm.trans c2) (by decide)) yo_of q1 q1118 q1122 q1123 q172 q1124 (fun a s _ hN => va_Decl.abs (hN.2.2.2.2 _ (List.mem_of_getElem? (i := 2) rfl))) ckX18 c2 ⟨hr.1, by have := hr.2; omega⟩ rfl rfl hw d kk
  by_cases c3 : (gT (cV h) o).1 = 13
  · exact x_callU (e2 := eL) (owner := "AskedCourt$Part") (As := fun z => [.ref (z + a)]) (rest := rest) hX hxt (fun r e => by rcases hf.1 o a h r e with ⟨q, k⟩ | ⟨q, k⟩ | ⟨q, k⟩ | ⟨q, k⟩ <;> first | exact k | exact absurd (q.symm.trans c3) (by decide)) yo_of q1 q1118 q1150 q1128 q173 q1129 (fun a s _ hN => va_Decl.abs (hN.2.2.2.2 _ (List.mem_of_getElem? (i := 2) rfl))) ckX19 c3 ⟨hr.1, by have := hr.2; omega⟩ rfl rfl hw d kk
  intro e
  cases hf0 : f o a h with
  | none => rw [hf0] at e; cases e
  | some r =>
    rcases hf.1 o a h r hf0 with ⟨q, k⟩ | ⟨q, k⟩ | ⟨q, k⟩ | ⟨q, k⟩
    · exact absurd q c0
    · exact absurd q c1
    · exact absurd q c2
    · exact absurd q c3
theorem h_catP {ρ : Type} {X : CTX} {cc : ByteArray} {own : String} {nL fr lo pc : Nat} {ls : List (Nat × Value)} {rest : List Value} {h : HP} {f : Nat → Nat → HP → Option ((Int64 ⊕ Nat × Nat) × HP)} {o a F L index : Nat} {ev : (HP → HP) → CTX → ρ × HP → State → Prop} {rr : ρ × HP} {T : Int64 → HP → Option (ρ × HP)} {K : Nat → HP → Option (ρ × HP)} {s0 e0 hpc ct : Nat} (hX : okX cV X rr cc own nL fr lo) (htab : (xc X).exceptionTable.toList = tableOf [(s0, e0, hpc, ct)]) (hcov : covers ⟨s0, e0, hpc, ct⟩ pc = true) (h0 : ct ≠ 0) (hlk0 : Cond.classLink own ct "AskedCourt$Trouble" ∈ lw_all) (hf : okPof f F L) (q1 : Cond.methodLink own index ⟨"AskedCourt$Part", "of", "([J)J"⟩ ∈ lw_all) (hr : F + 1 ≤ fr ∧ 8 + (6 + 11) + L ≤ lo) (hw : (rest.map fun v => v.category).sum ≤ 8) (d : decode cc pc = .ok (.invokevirtual index, 3)) (kk : ∀ r h1, jG cV X ev rr (T r h1) (pc + 3) ls ((eL (xz X) r).toList ++ rest) h1) (kx : ∀ (a : Nat) (h1 : HP) (q : Nat), (2 = 1 → q = xz X + a) → jG cV X ev rr (K a h1) hpc ls [.ref q] h1) : jG cV X ev rr (calk1 2 (f o a h) T K) pc ls (.ref (xz X + a) :: .ref (xz X + o) :: rest) h := by
  by_cases c0 : (gT (cV h) o).1 = 10
  · exact h_catG (c0 := 2) (e2 := eL) hX htab hcov h0 hlk0 (by decide +kernel) (fun r e => by rcases hf.1 o a h r e with ⟨q, k⟩ | ⟨q, k⟩ | ⟨q, k⟩ | ⟨q, k⟩ <;> first | exact k | exact absurd (q.symm.trans c0) (by decide)) (xr_U (owner := "AskedCourt$Part") (As := fun z => [.ref (z + a)]) (rest := rest) hX yo_of q1 q1118 q1149 q1126 q170 q1127 (fun a s _ hN => va_Decl.abs (hN.2.2.2.2 _ (List.mem_of_getElem? (i := 2) rfl))) ckX16 c0 ⟨hr.1, by have := hr.2; omega⟩ rfl rfl hw d) kk kx
  by_cases c1 : (gT (cV h) o).1 = 11
  · exact h_catG (c0 := 2) (e2 := eL) hX htab hcov h0 hlk0 (by decide +kernel) (fun r e => by rcases hf.1 o a h r e with ⟨q, k⟩ | ⟨q, k⟩ | ⟨q, k⟩ | ⟨q, k⟩ <;> first | exact k | exact absurd (q.symm.trans c1) (by decide)) (xr_U (owner := "AskedCourt$Part") (As := fun z => [.ref (z + a)]) (rest := rest) hX yo_of q1 q1118 q1119 q1120 q171 q1121 (fun a s _ hN => va_Decl.abs (hN.2.2.2.2 _ (List.mem_of_getElem? (i := 2) rfl))) ckX17 c1 ⟨hr.1, by have := hr.2; omega⟩ rfl rfl hw d) kk kx
  by_cases c2 : (gT (cV h) o).1 = 12
  · exact h_catG (c0 := 2) (e2 := eL) hX htab hcov h0 hlk0 (by decide +kernel) (fun r e => by rcases hf.1 o a h r e with ⟨q, k⟩ | ⟨q, k⟩ | ⟨q, k⟩ | ⟨q, k⟩ <;> first | exact k | exact absurd (q.symm.trans c2) (by decide)) (xr_U (owner := "AskedCourt$Part") (As := fun z => [.ref (z + a)]) (rest := rest) hX yo_of q1 q1118 q1122 q1123 q172 q1124 (fun a s _ hN => va_Decl.abs (hN.2.2.2.2 _ (List.mem_of_getElem? (i := 2) rfl))) ckX18 c2 ⟨hr.1, by have := hr.2; omega⟩ rfl rfl hw d) kk kx
  by_cases c3 : (gT (cV h) o).1 = 13
  · exact h_catG (c0 := 2) (e2 := eL) hX htab hcov h0 hlk0 (by decide +kernel) (fun r e => by rcases hf.1 o a h r e with ⟨q, k⟩ | ⟨q, k⟩ | ⟨q, k⟩ | ⟨q, k⟩ <;> first | exact k | exact absurd (q.symm.trans c3) (by decide)) (xr_U (owner := "AskedCourt$Part") (As := fun z => [.ref (z + a)]) (rest := rest) hX yo_of q1 q1118 q1150 q1128 q173 q1129 (fun a s _ hN => va_Decl.abs (hN.2.2.2.2 _ (List.mem_of_getElem? (i := 2) rfl))) ckX19 c3 ⟨hr.1, by have := hr.2; omega⟩ rfl rfl hw d) kk kx
  intro e
  cases hf0 : f o a h with
  | none => rw [hf0] at e; cases e
  | some r =>
    rcases hf.1 o a h r hf0 with ⟨q, k⟩ | ⟨q, k⟩ | ⟨q, k⟩ | ⟨q, k⟩
    · exact absurd q c0
    · exact absurd q c1
    · exact absurd q c2
    · exact absurd q c3
def okNot (f : HP → Option ((Nat ⊕ Nat × Nat) × HP)) (F L : Nat) : Prop := (∀  (h : HP) (rr : (Nat ⊕ Nat × Nat) × HP), f  h = some rr → CnX eR cV yX2_not (ws_ yX2_not cX2_not 1 (some (.object "AskedCourt$Part"))) F L (fun z => [.ref (z + 2)]) h rr) ∧ ∀  (h : HP), mG (gN h) (gS h) (f  h)
def okWays (f : Nat → Int32 → Int32 → Int32 → Int32 → Int32 → HP → Option (Int32 × HP)) (F L : Nat) : Prop := (∀ (x0 : Nat) (x1 : Int32) (x2 : Int32) (x3 : Int32) (x4 : Int32) (x5 : Int32) (h : HP) (rr : Int32 × HP), f x0 x1 x2 x3 x4 x5 h = some rr → Cn cV yX1_ways (ws_ yX1_ways cX1_ways 11 (some .boolean)) F L (fun z => [.ref (z + 0), .ref (z + x0), .int x1, .int x2, .int x3, .int x4, .int x5]) h (fun z => eI z rr.1) rr.2) ∧ ∀ (x0 : Nat) (x1 : Int32) (x2 : Int32) (x3 : Int32) (x4 : Int32) (x5 : Int32) (h : HP), mG (gN h) (gS h) (f x0 x1 x2 x3 x4 x5 h)
def okAsks (f : Nat → Int32 → Int32 → Int32 → HP → Option (Unit × HP)) (F L : Nat) : Prop := (∀ (x0 : Nat) (x1 : Int32) (x2 : Int32) (x3 : Int32) (h : HP) (rr : Unit × HP), f x0 x1 x2 x3 h = some rr → Cn cV yX1_asks (ws_ yX1_asks cX1_asks 8 (none)) F L (fun z => [.ref (z + 0), .ref (z + x0), .int x1, .int x2, .int x3]) h (fun z => eV z rr.1) rr.2) ∧ ∀ (x0 : Nat) (x1 : Int32) (x2 : Int32) (x3 : Int32) (h : HP), mG (gN h) (gS h) (f x0 x1 x2 x3 h)
