/-! the model: its cells, its words -/
set_option maxRecDepth 100000
def mT (a : Nat) : Nat × Nat := match a with
  | 0 => (1, 81)
  | 1 => (100, 700)
  | 2 => (100, 124)
  | 3 => (103, 2)
  | 4 => (100, 4)
  | 5 => (100, 16)
  | 6 => (100, 10)
  | 7 => (100, 10)
  | 8 => (100, 10)
  | 9 => (100, 10)
  | 10 => (100, 10)
  | 11 => (100, 16)
  | 12 => (100, 16)
  | 13 => (100, 16)
  | 14 => (100, 16)
  | 15 => (100, 16)
  | 16 => (100, 20)
  | 17 => (100, 20)
  | 18 => (100, 20)
  | 19 => (103, 4)
  | 20 => (100, 4)
  | 21 => (100, 4)
  | 22 => (100, 128)
  | 23 => (100, 128)
  | 24 => (100, 128)
  | 25 => (100, 96)
  | 26 => (100, 96)
  | 27 => (101, 7)
  | 28 => (101, 64)
  | 29 => (100, 10)
  | 30 => (100, 10)
  | 31 => (100, 10)
  | 32 => (100, 10)
  | 33 => (100, 2)
  | 34 => (100, 2)
  | 35 => (100, 81)
  | 36 => (100, 81)
  | 37 => (100, 96)
  | 38 => (103, 24)
  | 39 => (100, 440)
  | 40 => (101, 20)
  | 41 => (100, 22)
  | _ => (0, 0)
def mR0 (k : Nat) : Option Nat := match k with
  | 0 => some 1
  | 3 => some 2
  | 22 => some 3
  | 23 => some 4
  | 24 => some 5
  | 25 => some 6
  | 26 => some 7
  | 27 => some 8
  | 28 => some 9
  | 29 => some 10
  | 30 => some 11
  | 31 => some 12
  | 32 => some 13
  | 33 => some 14
  | 34 => some 15
  | 35 => some 16
  | 36 => some 17
  | 37 => some 18
  | 38 => some 19
  | 39 => some 20
  | 40 => some 21
  | 41 => some 22
  | 42 => some 23
  | 43 => some 24
  | 44 => some 25
  | 45 => some 26
  | 52 => some 27
  | 53 => some 28
  | 55 => some 29
  | 56 => some 30
  | 57 => some 31
  | 58 => some 32
  | 59 => some 33
  | 68 => some 34
  | 69 => some 35
  | 70 => some 36
  | 73 => some 37
  | 74 => some 38
  | 76 => some 39
  | 77 => some 40
  | 79 => some 41
  | _ => none
def mR (a k : Nat) : Option Nat := if a = 0 then mR0 k else none
def mV (h : HP) : HP := ((0, 0), mT, gI h, gL h, mR)
theorem mV_ok : pV mV := ⟨fun _ => ⟨rfl, rfl⟩, fun _ _ _ _ => rfl, fun _ _ _ _ => rfl⟩
theorem mT_k {a k : Nat} {h : HP} (q : (mT a).1 = k) : gT (mV h) a = (k, (mT a).2) := by rw [← q]; rfl
theorem bp_m3 : (Int8.ofInt (-3)).toInt32 = (-3 : Int32) := by decide
theorem bp_m2 : (Int8.ofInt (-2)).toInt32 = (-2 : Int32) := by decide
theorem bp_6 : (Int8.ofInt (6)).toInt32 = (6 : Int32) := by decide
theorem bp_7 : (Int8.ofInt (7)).toInt32 = (7 : Int32) := by decide
theorem bp_8 : (Int8.ofInt (8)).toInt32 = (8 : Int32) := by decide
theorem bp_9 : (Int8.ofInt (9)).toInt32 = (9 : Int32) := by decide
theorem bp_10 : (Int8.ofInt (10)).toInt32 = (10 : Int32) := by decide
theorem bp_11 : (Int8.ofInt (11)).toInt32 = (11 : Int32) := by decide
theorem bp_12 : (Int8.ofInt (12)).toInt32 = (12 : Int32) := by decide
theorem bp_13 : (Int8.ofInt (13)).toInt32 = (13 : Int32) := by decide
theorem bp_14 : (Int8.ofInt (14)).toInt32 = (14 : Int32) := by decide
theorem bp_15 : (Int8.ofInt (15)).toInt32 = (15 : Int32) := by decide
theorem bp_16 : (Int8.ofInt (16)).toInt32 = (16 : Int32) := by decide
theorem bp_17 : (Int8.ofInt (17)).toInt32 = (17 : Int32) := by decide
theorem bp_18 : (Int8.ofInt (18)).toInt32 = (18 : Int32) := by decide
theorem bp_19 : (Int8.ofInt (19)).toInt32 = (19 : Int32) := by decide
theorem bp_20 : (Int8.ofInt (20)).toInt32 = (20 : Int32) := by decide
theorem bp_21 : (Int8.ofInt (21)).toInt32 = (21 : Int32) := by decide
theorem bp_22 : (Int8.ofInt (22)).toInt32 = (22 : Int32) := by decide
theorem bp_24 : (Int8.ofInt (24)).toInt32 = (24 : Int32) := by decide
theorem bp_32 : (Int8.ofInt (32)).toInt32 = (32 : Int32) := by decide
theorem bp_37 : (Int8.ofInt (37)).toInt32 = (37 : Int32) := by decide
theorem bp_40 : (Int8.ofInt (40)).toInt32 = (40 : Int32) := by decide
theorem bp_41 : (Int8.ofInt (41)).toInt32 = (41 : Int32) := by decide
theorem bp_42 : (Int8.ofInt (42)).toInt32 = (42 : Int32) := by decide
theorem bp_43 : (Int8.ofInt (43)).toInt32 = (43 : Int32) := by decide
theorem bp_45 : (Int8.ofInt (45)).toInt32 = (45 : Int32) := by decide
theorem bp_47 : (Int8.ofInt (47)).toInt32 = (47 : Int32) := by decide
theorem bp_48 : (Int8.ofInt (48)).toInt32 = (48 : Int32) := by decide
theorem bp_50 : (Int8.ofInt (50)).toInt32 = (50 : Int32) := by decide
theorem bp_57 : (Int8.ofInt (57)).toInt32 = (57 : Int32) := by decide
theorem bp_59 : (Int8.ofInt (59)).toInt32 = (59 : Int32) := by decide
theorem bp_60 : (Int8.ofInt (60)).toInt32 = (60 : Int32) := by decide
theorem bp_61 : (Int8.ofInt (61)).toInt32 = (61 : Int32) := by decide
theorem bp_62 : (Int8.ofInt (62)).toInt32 = (62 : Int32) := by decide
theorem bp_64 : (Int8.ofInt (64)).toInt32 = (64 : Int32) := by decide
theorem bp_96 : (Int8.ofInt (96)).toInt32 = (96 : Int32) := by decide
theorem bp_97 : (Int8.ofInt (97)).toInt32 = (97 : Int32) := by decide
theorem bp_99 : (Int8.ofInt (99)).toInt32 = (99 : Int32) := by decide
theorem bp_100 : (Int8.ofInt (100)).toInt32 = (100 : Int32) := by decide
theorem bp_122 : (Int8.ofInt (122)).toInt32 = (122 : Int32) := by decide
theorem ic_m1 : Int32.ofInt (-1) = (-1 : Int32) := by decide
theorem ic_0 : Int32.ofInt (0) = (0 : Int32) := by decide
theorem ic_1 : Int32.ofInt (1) = (1 : Int32) := by decide
theorem ic_2 : Int32.ofInt (2) = (2 : Int32) := by decide
theorem ic_3 : Int32.ofInt (3) = (3 : Int32) := by decide
theorem ic_4 : Int32.ofInt (4) = (4 : Int32) := by decide
theorem ic_5 : Int32.ofInt (5) = (5 : Int32) := by decide
theorem sp_255 : (Int16.ofInt (255)).toInt32 = (255 : Int32) := by decide
theorem sp_418 : (Int16.ofInt (418)).toInt32 = (418 : Int32) := by decide
theorem sp_700 : (Int16.ofInt (700)).toInt32 = (700 : Int32) := by decide
theorem sp_999 : (Int16.ofInt (999)).toInt32 = (999 : Int32) := by decide
theorem sp_9999 : (Int16.ofInt (9999)).toInt32 = (9999 : Int32) := by decide
theorem fgX10_7 : fl_ok RX10 7 0 0 ∧ ft 0 0 = 2 := ⟨⟨_, _, _, ckX10, by decide, _, q1607, Or.inl rfl⟩, rfl⟩
theorem fgX10_13 : fl_ok RX10 13 0 3 ∧ ft 0 3 = 2 := ⟨⟨_, _, _, ckX10, by decide, _, q1610, Or.inl rfl⟩, rfl⟩
theorem fgX10_16 : fl_ok RX10 16 0 5 ∧ ft 0 5 = 0 := ⟨⟨_, _, _, ckX10, by decide, _, q1612, Or.inl rfl⟩, rfl⟩
theorem fgX10_20 : fl_ok RX10 20 0 22 ∧ ft 0 22 = 2 := ⟨⟨_, _, _, ckX10, by decide, _, q1629, Or.inl rfl⟩, rfl⟩
theorem fgX10_24 : fl_ok RX10 24 0 23 ∧ ft 0 23 = 2 := ⟨⟨_, _, _, ckX10, by decide, _, q1630, Or.inl rfl⟩, rfl⟩
theorem fgX10_27 : fl_ok RX10 27 0 24 ∧ ft 0 24 = 2 := ⟨⟨_, _, _, ckX10, by decide, _, q1631, Or.inl rfl⟩, rfl⟩
theorem fgX10_30 : fl_ok RX10 30 0 25 ∧ ft 0 25 = 2 := ⟨⟨_, _, _, ckX10, by decide, _, q1632, Or.inl rfl⟩, rfl⟩
theorem fgX10_33 : fl_ok RX10 33 0 26 ∧ ft 0 26 = 2 := ⟨⟨_, _, _, ckX10, by decide, _, q1633, Or.inl rfl⟩, rfl⟩
theorem fgX10_36 : fl_ok RX10 36 0 27 ∧ ft 0 27 = 2 := ⟨⟨_, _, _, ckX10, by decide, _, q1634, Or.inl rfl⟩, rfl⟩
theorem fgX10_39 : fl_ok RX10 39 0 28 ∧ ft 0 28 = 2 := ⟨⟨_, _, _, ckX10, by decide, _, q1635, Or.inl rfl⟩, rfl⟩
theorem fgX10_42 : fl_ok RX10 42 0 29 ∧ ft 0 29 = 2 := ⟨⟨_, _, _, ckX10, by decide, _, q1636, Or.inl rfl⟩, rfl⟩
theorem fgX10_45 : fl_ok RX10 45 0 30 ∧ ft 0 30 = 2 := ⟨⟨_, _, _, ckX10, by decide, _, q1637, Or.inl rfl⟩, rfl⟩
theorem fgX10_48 : fl_ok RX10 48 0 31 ∧ ft 0 31 = 2 := ⟨⟨_, _, _, ckX10, by decide, _, q1638, Or.inl rfl⟩, rfl⟩
theorem fgX10_51 : fl_ok RX10 51 0 32 ∧ ft 0 32 = 2 := ⟨⟨_, _, _, ckX10, by decide, _, q1639, Or.inl rfl⟩, rfl⟩
theorem fgX10_54 : fl_ok RX10 54 0 33 ∧ ft 0 33 = 2 := ⟨⟨_, _, _, ckX10, by decide, _, q1640, Or.inl rfl⟩, rfl⟩
theorem fgX10_57 : fl_ok RX10 57 0 34 ∧ ft 0 34 = 2 := ⟨⟨_, _, _, ckX10, by decide, _, q1641, Or.inl rfl⟩, rfl⟩
theorem fgX10_60 : fl_ok RX10 60 0 35 ∧ ft 0 35 = 2 := ⟨⟨_, _, _, ckX10, by decide, _, q1642, Or.inl rfl⟩, rfl⟩
theorem fgX10_63 : fl_ok RX10 63 0 36 ∧ ft 0 36 = 2 := ⟨⟨_, _, _, ckX10, by decide, _, q1643, Or.inl rfl⟩, rfl⟩
theorem fgX10_66 : fl_ok RX10 66 0 37 ∧ ft 0 37 = 2 := ⟨⟨_, _, _, ckX10, by decide, _, q1644, Or.inl rfl⟩, rfl⟩
theorem fgX10_69 : fl_ok RX10 69 0 38 ∧ ft 0 38 = 2 := ⟨⟨_, _, _, ckX10, by decide, _, q1645, Or.inl rfl⟩, rfl⟩
theorem fgX10_72 : fl_ok RX10 72 0 39 ∧ ft 0 39 = 2 := ⟨⟨_, _, _, ckX10, by decide, _, q1646, Or.inl rfl⟩, rfl⟩
theorem fgX10_75 : fl_ok RX10 75 0 40 ∧ ft 0 40 = 2 := ⟨⟨_, _, _, ckX10, by decide, _, q1647, Or.inl rfl⟩, rfl⟩
theorem fgX10_78 : fl_ok RX10 78 0 41 ∧ ft 0 41 = 2 := ⟨⟨_, _, _, ckX10, by decide, _, q1648, Or.inl rfl⟩, rfl⟩
theorem fgX10_81 : fl_ok RX10 81 0 42 ∧ ft 0 42 = 2 := ⟨⟨_, _, _, ckX10, by decide, _, q1649, Or.inl rfl⟩, rfl⟩
theorem fgX10_84 : fl_ok RX10 84 0 43 ∧ ft 0 43 = 2 := ⟨⟨_, _, _, ckX10, by decide, _, q1650, Or.inl rfl⟩, rfl⟩
theorem fgX10_87 : fl_ok RX10 87 0 44 ∧ ft 0 44 = 2 := ⟨⟨_, _, _, ckX10, by decide, _, q1651, Or.inl rfl⟩, rfl⟩
theorem fgX10_90 : fl_ok RX10 90 0 45 ∧ ft 0 45 = 2 := ⟨⟨_, _, _, ckX10, by decide, _, q1652, Or.inl rfl⟩, rfl⟩
theorem fgX10_93 : fl_ok RX10 93 0 52 ∧ ft 0 52 = 2 := ⟨⟨_, _, _, ckX10, by decide, _, q1659, Or.inl rfl⟩, rfl⟩
theorem fgX10_97 : fl_ok RX10 97 0 53 ∧ ft 0 53 = 2 := ⟨⟨_, _, _, ckX10, by decide, _, q1660, Or.inl rfl⟩, rfl⟩
theorem fgX10_100 : fl_ok RX10 100 0 55 ∧ ft 0 55 = 2 := ⟨⟨_, _, _, ckX10, by decide, _, q1662, Or.inl rfl⟩, rfl⟩
theorem fgX10_103 : fl_ok RX10 103 0 56 ∧ ft 0 56 = 2 := ⟨⟨_, _, _, ckX10, by decide, _, q1663, Or.inl rfl⟩, rfl⟩
theorem fgX10_106 : fl_ok RX10 106 0 57 ∧ ft 0 57 = 2 := ⟨⟨_, _, _, ckX10, by decide, _, q1664, Or.inl rfl⟩, rfl⟩
theorem fgX10_109 : fl_ok RX10 109 0 58 ∧ ft 0 58 = 2 := ⟨⟨_, _, _, ckX10, by decide, _, q1665, Or.inl rfl⟩, rfl⟩
theorem fgX10_112 : fl_ok RX10 112 0 59 ∧ ft 0 59 = 2 := ⟨⟨_, _, _, ckX10, by decide, _, q1666, Or.inl rfl⟩, rfl⟩
theorem fgX10_115 : fl_ok RX10 115 0 68 ∧ ft 0 68 = 2 := ⟨⟨_, _, _, ckX10, by decide, _, q1675, Or.inl rfl⟩, rfl⟩
theorem fgX10_118 : fl_ok RX10 118 0 69 ∧ ft 0 69 = 2 := ⟨⟨_, _, _, ckX10, by decide, _, q1676, Or.inl rfl⟩, rfl⟩
theorem fgX10_121 : fl_ok RX10 121 0 70 ∧ ft 0 70 = 2 := ⟨⟨_, _, _, ckX10, by decide, _, q1677, Or.inl rfl⟩, rfl⟩
theorem fgX10_124 : fl_ok RX10 124 0 72 ∧ ft 0 72 = 0 := ⟨⟨_, _, _, ckX10, by decide, _, q1679, Or.inl rfl⟩, rfl⟩
theorem fgX10_127 : fl_ok RX10 127 0 73 ∧ ft 0 73 = 2 := ⟨⟨_, _, _, ckX10, by decide, _, q1680, Or.inl rfl⟩, rfl⟩
theorem fgX10_130 : fl_ok RX10 130 0 74 ∧ ft 0 74 = 2 := ⟨⟨_, _, _, ckX10, by decide, _, q1681, Or.inl rfl⟩, rfl⟩
theorem fgX10_133 : fl_ok RX10 133 0 76 ∧ ft 0 76 = 2 := ⟨⟨_, _, _, ckX10, by decide, _, q1683, Or.inl rfl⟩, rfl⟩
theorem fgX10_136 : fl_ok RX10 136 0 77 ∧ ft 0 77 = 2 := ⟨⟨_, _, _, ckX10, by decide, _, q1684, Or.inl rfl⟩, rfl⟩
theorem fgX10_139 : fl_ok RX10 139 0 79 ∧ ft 0 79 = 2 := ⟨⟨_, _, _, ckX10, by decide, _, q1686, Or.inl rfl⟩, rfl⟩
theorem fgX10_148 : fl_ok RX10 148 0 2 ∧ ft 0 2 = 0 := ⟨⟨_, _, _, ckX10, by decide, _, q1609, Or.inl rfl⟩, rfl⟩
theorem fgX10_151 : fl_ok RX10 151 0 1 ∧ ft 0 1 = 0 := ⟨⟨_, _, _, ckX10, by decide, _, q1608, Or.inl rfl⟩, rfl⟩
theorem fgX10_154 : fl_ok RX10 154 0 4 ∧ ft 0 4 = 0 := ⟨⟨_, _, _, ckX10, by decide, _, q1611, Or.inl rfl⟩, rfl⟩
theorem fgX10_157 : fl_ok RX10 157 0 10 ∧ ft 0 10 = 0 := ⟨⟨_, _, _, ckX10, by decide, _, q1617, Or.inl rfl⟩, rfl⟩
theorem fgX10_160 : fl_ok RX10 160 0 6 ∧ ft 0 6 = 0 := ⟨⟨_, _, _, ckX10, by decide, _, q1613, Or.inl rfl⟩, rfl⟩
theorem fgX10_163 : fl_ok RX10 163 0 7 ∧ ft 0 7 = 0 := ⟨⟨_, _, _, ckX10, by decide, _, q1614, Or.inl rfl⟩, rfl⟩
theorem fgX10_166 : fl_ok RX10 166 0 8 ∧ ft 0 8 = 0 := ⟨⟨_, _, _, ckX10, by decide, _, q1615, Or.inl rfl⟩, rfl⟩
theorem fgX10_177 : fl_ok RX10 177 0 9 ∧ ft 0 9 = 0 := ⟨⟨_, _, _, ckX10, by decide, _, q1616, Or.inl rfl⟩, rfl⟩
theorem fgX10_197 : fl_ok RX10 197 0 11 ∧ ft 0 11 = 0 := ⟨⟨_, _, _, ckX10, by decide, _, q1618, Or.inl rfl⟩, rfl⟩
theorem fgX10_210 : fl_ok RX10 210 0 17 ∧ ft 0 17 = 0 := ⟨⟨_, _, _, ckX10, by decide, _, q1624, Or.inl rfl⟩, rfl⟩
theorem fgX10_213 : fl_ok RX10 213 0 18 ∧ ft 0 18 = 0 := ⟨⟨_, _, _, ckX10, by decide, _, q1625, Or.inl rfl⟩, rfl⟩
theorem fgX10_216 : fl_ok RX10 216 0 19 ∧ ft 0 19 = 0 := ⟨⟨_, _, _, ckX10, by decide, _, q1626, Or.inl rfl⟩, rfl⟩
theorem fgX10_219 : fl_ok RX10 219 0 20 ∧ ft 0 20 = 0 := ⟨⟨_, _, _, ckX10, by decide, _, q1627, Or.inl rfl⟩, rfl⟩
theorem fgX10_222 : fl_ok RX10 222 0 21 ∧ ft 0 21 = 0 := ⟨⟨_, _, _, ckX10, by decide, _, q1628, Or.inl rfl⟩, rfl⟩
theorem fgX10_225 : fl_ok RX10 225 0 49 ∧ ft 0 49 = 0 := ⟨⟨_, _, _, ckX10, by decide, _, q1656, Or.inl rfl⟩, rfl⟩
theorem fgX10_228 : fl_ok RX10 228 0 12 ∧ ft 0 12 = 0 := ⟨⟨_, _, _, ckX10, by decide, _, q1619, Or.inl rfl⟩, rfl⟩
theorem fgX10_231 : fl_ok RX10 231 0 13 ∧ ft 0 13 = 0 := ⟨⟨_, _, _, ckX10, by decide, _, q1620, Or.inl rfl⟩, rfl⟩
theorem fgX10_234 : fl_ok RX10 234 0 14 ∧ ft 0 14 = 0 := ⟨⟨_, _, _, ckX10, by decide, _, q1621, Or.inl rfl⟩, rfl⟩
theorem fgX10_237 : fl_ok RX10 237 0 15 ∧ ft 0 15 = 0 := ⟨⟨_, _, _, ckX10, by decide, _, q1622, Or.inl rfl⟩, rfl⟩
theorem fgX10_240 : fl_ok RX10 240 0 16 ∧ ft 0 16 = 0 := ⟨⟨_, _, _, ckX10, by decide, _, q1623, Or.inl rfl⟩, rfl⟩
theorem fgX10_295 : fl_ok RX10 295 0 47 ∧ ft 0 47 = 0 := ⟨⟨_, _, _, ckX10, by decide, _, q1654, Or.inl rfl⟩, rfl⟩
theorem fgX10_298 : fl_ok RX10 298 0 46 ∧ ft 0 46 = 0 := ⟨⟨_, _, _, ckX10, by decide, _, q1653, Or.inl rfl⟩, rfl⟩
theorem fgX10_313 : fl_ok RX10 313 0 48 ∧ ft 0 48 = 0 := ⟨⟨_, _, _, ckX10, by decide, _, q1655, Or.inl rfl⟩, rfl⟩
theorem fgX10_320 : fl_ok RX10 320 0 51 ∧ ft 0 51 = 0 := ⟨⟨_, _, _, ckX10, by decide, _, q1658, Or.inl rfl⟩, rfl⟩
theorem fgX10_330 : fl_ok RX10 330 0 50 ∧ ft 0 50 = 0 := ⟨⟨_, _, _, ckX10, by decide, _, q1657, Or.inl rfl⟩, rfl⟩
theorem fgX10_342 : fl_ok RX10 342 0 54 ∧ ft 0 54 = 0 := ⟨⟨_, _, _, ckX10, by decide, _, q1661, Or.inl rfl⟩, rfl⟩
theorem fgX10_364 : fl_ok RX10 364 0 60 ∧ ft 0 60 = 0 := ⟨⟨_, _, _, ckX10, by decide, _, q1667, Or.inl rfl⟩, rfl⟩
theorem fgX10_367 : fl_ok RX10 367 0 61 ∧ ft 0 61 = 1 := ⟨⟨_, _, _, ckX10, by decide, _, q1668, Or.inl rfl⟩, rfl⟩
theorem fgX10_374 : fl_ok RX10 374 0 71 ∧ ft 0 71 = 0 := ⟨⟨_, _, _, ckX10, by decide, _, q1678, Or.inl rfl⟩, rfl⟩
theorem fgX10_377 : fl_ok RX10 377 0 75 ∧ ft 0 75 = 0 := ⟨⟨_, _, _, ckX10, by decide, _, q1682, Or.inl rfl⟩, rfl⟩
theorem fgX10_380 : fl_ok RX10 380 0 78 ∧ ft 0 78 = 0 := ⟨⟨_, _, _, ckX10, by decide, _, q1685, Or.inl rfl⟩, rfl⟩
theorem fgX10_383 : fl_ok RX10 383 0 62 ∧ ft 0 62 = 0 := ⟨⟨_, _, _, ckX10, by decide, _, q1669, Or.inl rfl⟩, rfl⟩
theorem fgX10_386 : fl_ok RX10 386 0 63 ∧ ft 0 63 = 0 := ⟨⟨_, _, _, ckX10, by decide, _, q1670, Or.inl rfl⟩, rfl⟩
theorem fgX10_389 : fl_ok RX10 389 0 64 ∧ ft 0 64 = 0 := ⟨⟨_, _, _, ckX10, by decide, _, q1671, Or.inl rfl⟩, rfl⟩
theorem fgX10_392 : fl_ok RX10 392 0 65 ∧ ft 0 65 = 0 := ⟨⟨_, _, _, ckX10, by decide, _, q1672, Or.inl rfl⟩, rfl⟩
theorem fgX10_395 : fl_ok RX10 395 0 66 ∧ ft 0 66 = 0 := ⟨⟨_, _, _, ckX10, by decide, _, q1673, Or.inl rfl⟩, rfl⟩
theorem fgX10_398 : fl_ok RX10 398 0 67 ∧ ft 0 67 = 0 := ⟨⟨_, _, _, ckX10, by decide, _, q1674, Or.inl rfl⟩, rfl⟩
theorem fgX10_543 : fl_ok RX10 543 0 80 ∧ ft 0 80 = 1 := ⟨⟨_, _, _, ckX10, by decide, _, q1687, Or.inl rfl⟩, rfl⟩
theorem fwX10_16 : fl_w RX10 16 0 5 ∧ (0 ≠ 19 ∧ jty 0 5 = .int) := ⟨⟨_, _, _, ckX10, by decide, ⟨_, q1612, Or.inl rfl⟩, rfl⟩, by decide, rfl⟩
theorem fwX10_124 : fl_w RX10 124 0 72 ∧ (0 ≠ 19 ∧ jty 0 72 = .int) := ⟨⟨_, _, _, ckX10, by decide, ⟨_, q1679, Or.inl rfl⟩, rfl⟩, by decide, rfl⟩
theorem fwX10_148 : fl_w RX10 148 0 2 ∧ (0 ≠ 19 ∧ jty 0 2 = .int) := ⟨⟨_, _, _, ckX10, by decide, ⟨_, q1609, Or.inl rfl⟩, rfl⟩, by decide, rfl⟩
theorem fwX10_151 : fl_w RX10 151 0 1 ∧ (0 ≠ 19 ∧ jty 0 1 = .int) := ⟨⟨_, _, _, ckX10, by decide, ⟨_, q1608, Or.inl rfl⟩, rfl⟩, by decide, rfl⟩
theorem fwX10_154 : fl_w RX10 154 0 4 ∧ (0 ≠ 19 ∧ jty 0 4 = .int) := ⟨⟨_, _, _, ckX10, by decide, ⟨_, q1611, Or.inl rfl⟩, rfl⟩, by decide, rfl⟩
theorem fwX10_157 : fl_w RX10 157 0 10 ∧ (0 ≠ 19 ∧ jty 0 10 = .int) := ⟨⟨_, _, _, ckX10, by decide, ⟨_, q1617, Or.inl rfl⟩, rfl⟩, by decide, rfl⟩
theorem fwX10_160 : fl_w RX10 160 0 6 ∧ (0 ≠ 19 ∧ jty 0 6 = .int) := ⟨⟨_, _, _, ckX10, by decide, ⟨_, q1613, Or.inl rfl⟩, rfl⟩, by decide, rfl⟩
theorem fwX10_163 : fl_w RX10 163 0 7 ∧ (0 ≠ 19 ∧ jty 0 7 = .int) := ⟨⟨_, _, _, ckX10, by decide, ⟨_, q1614, Or.inl rfl⟩, rfl⟩, by decide, rfl⟩
theorem fwX10_166 : fl_w RX10 166 0 8 ∧ (0 ≠ 19 ∧ jty 0 8 = .int) := ⟨⟨_, _, _, ckX10, by decide, ⟨_, q1615, Or.inl rfl⟩, rfl⟩, by decide, rfl⟩
theorem fwX10_177 : fl_w RX10 177 0 9 ∧ (0 ≠ 19 ∧ jty 0 9 = .int) := ⟨⟨_, _, _, ckX10, by decide, ⟨_, q1616, Or.inl rfl⟩, rfl⟩, by decide, rfl⟩
theorem fwX10_197 : fl_w RX10 197 0 11 ∧ (0 ≠ 19 ∧ jty 0 11 = .int) := ⟨⟨_, _, _, ckX10, by decide, ⟨_, q1618, Or.inl rfl⟩, rfl⟩, by decide, rfl⟩
theorem fwX10_210 : fl_w RX10 210 0 17 ∧ (0 ≠ 19 ∧ jty 0 17 = .int) := ⟨⟨_, _, _, ckX10, by decide, ⟨_, q1624, Or.inl rfl⟩, rfl⟩, by decide, rfl⟩
theorem fwX10_213 : fl_w RX10 213 0 18 ∧ (0 ≠ 19 ∧ jty 0 18 = .int) := ⟨⟨_, _, _, ckX10, by decide, ⟨_, q1625, Or.inl rfl⟩, rfl⟩, by decide, rfl⟩
theorem fwX10_216 : fl_w RX10 216 0 19 ∧ (0 ≠ 19 ∧ jty 0 19 = .int) := ⟨⟨_, _, _, ckX10, by decide, ⟨_, q1626, Or.inl rfl⟩, rfl⟩, by decide, rfl⟩
theorem fwX10_219 : fl_w RX10 219 0 20 ∧ (0 ≠ 19 ∧ jty 0 20 = .int) := ⟨⟨_, _, _, ckX10, by decide, ⟨_, q1627, Or.inl rfl⟩, rfl⟩, by decide, rfl⟩
theorem fwX10_222 : fl_w RX10 222 0 21 ∧ (0 ≠ 19 ∧ jty 0 21 = .int) := ⟨⟨_, _, _, ckX10, by decide, ⟨_, q1628, Or.inl rfl⟩, rfl⟩, by decide, rfl⟩
theorem fwX10_225 : fl_w RX10 225 0 49 ∧ (0 ≠ 19 ∧ jty 0 49 = .int) := ⟨⟨_, _, _, ckX10, by decide, ⟨_, q1656, Or.inl rfl⟩, rfl⟩, by decide, rfl⟩
theorem fwX10_228 : fl_w RX10 228 0 12 ∧ (0 ≠ 19 ∧ jty 0 12 = .int) := ⟨⟨_, _, _, ckX10, by decide, ⟨_, q1619, Or.inl rfl⟩, rfl⟩, by decide, rfl⟩
theorem fwX10_231 : fl_w RX10 231 0 13 ∧ (0 ≠ 19 ∧ jty 0 13 = .int) := ⟨⟨_, _, _, ckX10, by decide, ⟨_, q1620, Or.inl rfl⟩, rfl⟩, by decide, rfl⟩
theorem fwX10_234 : fl_w RX10 234 0 14 ∧ (0 ≠ 19 ∧ jty 0 14 = .int) := ⟨⟨_, _, _, ckX10, by decide, ⟨_, q1621, Or.inl rfl⟩, rfl⟩, by decide, rfl⟩
theorem fwX10_237 : fl_w RX10 237 0 15 ∧ (0 ≠ 19 ∧ jty 0 15 = .int) := ⟨⟨_, _, _, ckX10, by decide, ⟨_, q1622, Or.inl rfl⟩, rfl⟩, by decide, rfl⟩
theorem fwX10_240 : fl_w RX10 240 0 16 ∧ (0 ≠ 19 ∧ jty 0 16 = .int) := ⟨⟨_, _, _, ckX10, by decide, ⟨_, q1623, Or.inl rfl⟩, rfl⟩, by decide, rfl⟩
theorem fwX10_295 : fl_w RX10 295 0 47 ∧ (0 ≠ 19 ∧ jty 0 47 = .int) := ⟨⟨_, _, _, ckX10, by decide, ⟨_, q1654, Or.inl rfl⟩, rfl⟩, by decide, rfl⟩
theorem fwX10_298 : fl_w RX10 298 0 46 ∧ (0 ≠ 19 ∧ jty 0 46 = .int) := ⟨⟨_, _, _, ckX10, by decide, ⟨_, q1653, Or.inl rfl⟩, rfl⟩, by decide, rfl⟩
theorem fwX10_313 : fl_w RX10 313 0 48 ∧ (0 ≠ 19 ∧ jty 0 48 = .int) := ⟨⟨_, _, _, ckX10, by decide, ⟨_, q1655, Or.inl rfl⟩, rfl⟩, by decide, rfl⟩
theorem fwX10_320 : fl_w RX10 320 0 51 ∧ (0 ≠ 19 ∧ jty 0 51 = .boolean) := ⟨⟨_, _, _, ckX10, by decide, ⟨_, q1658, Or.inl rfl⟩, rfl⟩, by decide, rfl⟩
theorem fwX10_330 : fl_w RX10 330 0 50 ∧ (0 ≠ 19 ∧ jty 0 50 = .boolean) := ⟨⟨_, _, _, ckX10, by decide, ⟨_, q1657, Or.inl rfl⟩, rfl⟩, by decide, rfl⟩
theorem fwX10_342 : fl_w RX10 342 0 54 ∧ (0 ≠ 19 ∧ jty 0 54 = .boolean) := ⟨⟨_, _, _, ckX10, by decide, ⟨_, q1661, Or.inl rfl⟩, rfl⟩, by decide, rfl⟩
theorem fwX10_364 : fl_w RX10 364 0 60 ∧ (0 ≠ 19 ∧ jty 0 60 = .int) := ⟨⟨_, _, _, ckX10, by decide, ⟨_, q1667, Or.inl rfl⟩, rfl⟩, by decide, rfl⟩
theorem fwX10_367 : fl_w RX10 367 0 61 ∧ (0 ≠ 19 ∧ jty 0 61 = .long) := ⟨⟨_, _, _, ckX10, by decide, ⟨_, q1668, Or.inl rfl⟩, rfl⟩, by decide, rfl⟩
theorem fwX10_374 : fl_w RX10 374 0 71 ∧ (0 ≠ 19 ∧ jty 0 71 = .int) := ⟨⟨_, _, _, ckX10, by decide, ⟨_, q1678, Or.inl rfl⟩, rfl⟩, by decide, rfl⟩
theorem fwX10_377 : fl_w RX10 377 0 75 ∧ (0 ≠ 19 ∧ jty 0 75 = .int) := ⟨⟨_, _, _, ckX10, by decide, ⟨_, q1682, Or.inl rfl⟩, rfl⟩, by decide, rfl⟩
theorem fwX10_380 : fl_w RX10 380 0 78 ∧ (0 ≠ 19 ∧ jty 0 78 = .boolean) := ⟨⟨_, _, _, ckX10, by decide, ⟨_, q1685, Or.inl rfl⟩, rfl⟩, by decide, rfl⟩
theorem fwX10_383 : fl_w RX10 383 0 62 ∧ (0 ≠ 19 ∧ jty 0 62 = .boolean) := ⟨⟨_, _, _, ckX10, by decide, ⟨_, q1669, Or.inl rfl⟩, rfl⟩, by decide, rfl⟩
theorem fwX10_386 : fl_w RX10 386 0 63 ∧ (0 ≠ 19 ∧ jty 0 63 = .boolean) := ⟨⟨_, _, _, ckX10, by decide, ⟨_, q1670, Or.inl rfl⟩, rfl⟩, by decide, rfl⟩
theorem fwX10_389 : fl_w RX10 389 0 64 ∧ (0 ≠ 19 ∧ jty 0 64 = .boolean) := ⟨⟨_, _, _, ckX10, by decide, ⟨_, q1671, Or.inl rfl⟩, rfl⟩, by decide, rfl⟩
theorem fwX10_392 : fl_w RX10 392 0 65 ∧ (0 ≠ 19 ∧ jty 0 65 = .boolean) := ⟨⟨_, _, _, ckX10, by decide, ⟨_, q1672, Or.inl rfl⟩, rfl⟩, by decide, rfl⟩
theorem fwX10_395 : fl_w RX10 395 0 66 ∧ (0 ≠ 19 ∧ jty 0 66 = .int) := ⟨⟨_, _, _, ckX10, by decide, ⟨_, q1673, Or.inl rfl⟩, rfl⟩, by decide, rfl⟩
theorem fwX10_398 : fl_w RX10 398 0 67 ∧ (0 ≠ 19 ∧ jty 0 67 = .int) := ⟨⟨_, _, _, ckX10, by decide, ⟨_, q1674, Or.inl rfl⟩, rfl⟩, by decide, rfl⟩
theorem fwX10_543 : fl_w RX10 543 0 80 ∧ (0 ≠ 19 ∧ jty 0 80 = .long) := ⟨⟨_, _, _, ckX10, by decide, ⟨_, q1687, Or.inl rfl⟩, rfl⟩, by decide, rfl⟩
theorem ymX10_plain : y_ok yX10_plain 0 := by unfold y_ok; decide +kernel
theorem ymX10_copies : y_ok yX10_copies 2 := by unfold y_ok; decide +kernel
theorem ymX10_atFirst : y_ok yX10_atFirst 1 := by unfold y_ok; decide +kernel
theorem ymX10_plainTried : y_ok yX10_plainTried 0 := by unfold y_ok; decide +kernel
theorem ymX10_begin : y_ok yX10_begin 0 := by unfold y_ok; decide +kernel
theorem ymX10_keepText : y_ok yX10_keepText 0 := by unfold y_ok; decide +kernel
theorem ymX10_thrown : y_ok yX10_thrown 0 := by unfold y_ok; decide +kernel
theorem ymX10_feed : y_ok yX10_feed 5 := by unfold y_ok; decide +kernel
theorem ymX10_isSmall : y_ok yX10_isSmall 1 := by unfold y_ok; decide +kernel
theorem ymX10_isDigit : y_ok yX10_isDigit 1 := by unfold y_ok; decide +kernel
theorem ymX10_signToken : y_ok yX10_signToken 0 := by unfold y_ok; decide +kernel
theorem ymX10_wordAt : y_ok yX10_wordAt 2 := by unfold y_ok; decide +kernel
theorem ymX10_packed : y_ok yX10_packed 2 := by unfold y_ok; decide +kernel
theorem ymX10_token : y_ok yX10_token 0 := by unfold y_ok; decide +kernel
theorem ymX10_wrong : y_ok yX10_wrong 1 := by unfold y_ok; decide +kernel
theorem ymX10_isSign : y_ok yX10_isSign 1 := by unfold y_ok; decide +kernel
theorem ymX10_find : y_ok yX10_find 4 := by unfold y_ok; decide +kernel
theorem ymX10_newName : y_ok yX10_newName 3 := by unfold y_ok; decide +kernel
theorem ymX10_factLine : y_ok yX10_factLine 0 := by unfold y_ok; decide +kernel
theorem ymX10_isIn : y_ok yX10_isIn 3 := by unfold y_ok; decide +kernel
theorem ymX10_number : y_ok yX10_number 2 := by unfold y_ok; decide +kernel
theorem ymX10_personLine : y_ok yX10_personLine 0 := by unfold y_ok; decide +kernel
theorem ymX10_there : y_ok yX10_there 3 := by unfold y_ok; decide +kernel
theorem ymX10_isOf : y_ok yX10_isOf 2 := by unfold y_ok; decide +kernel
theorem ymX10_knowsLine : y_ok yX10_knowsLine 0 := by unfold y_ok; decide +kernel
theorem ymX10_isKey : y_ok yX10_isKey 1 := by unfold y_ok; decide +kernel
theorem ymX10_some : y_ok yX10_some 0 := by unfold y_ok; decide +kernel
theorem ymX10_askLine : y_ok yX10_askLine 0 := by unfold y_ok; decide +kernel
theorem ymX10_talkLine : y_ok yX10_talkLine 0 := by unfold y_ok; decide +kernel
theorem ymX10_onceLine : y_ok yX10_onceLine 2 := by unfold y_ok; decide +kernel
theorem ymX10_rank : y_ok yX10_rank 1 := by unfold y_ok; decide +kernel
theorem ymX10_dropHeld : y_ok yX10_dropHeld 0 := by unfold y_ok; decide +kernel
theorem ymX10_grown : y_ok yX10_grown 3 := by unfold y_ok; decide +kernel
theorem ymX10_bind : y_ok yX10_bind 1 := by unfold y_ok; decide +kernel
theorem ymX10_isCounted : y_ok yX10_isCounted 0 := by unfold y_ok; decide +kernel
theorem ymX10_waitsFor : y_ok yX10_waitsFor 1 := by unfold y_ok; decide +kernel
theorem ymX10_signs : y_ok yX10_signs 0 := by unfold y_ok; decide +kernel
theorem ymX10_nameMet : y_ok yX10_nameMet 0 := by unfold y_ok; decide +kernel
theorem ymX10_leafRead : y_ok yX10_leafRead 0 := by unfold y_ok; decide +kernel
theorem ymX10_sumRead : y_ok yX10_sumRead 0 := by unfold y_ok; decide +kernel
theorem ymX10_lineRead : y_ok yX10_lineRead 0 := by unfold y_ok; decide +kernel
theorem ymX10_text : y_ok yX10_text 1 := by unfold y_ok; decide +kernel
theorem ymX10_fault : y_ok yX10_fault 1 := by unfold y_ok; decide +kernel
theorem ymX10_named : y_ok yX10_named 2 := by unfold y_ok; decide +kernel
theorem ymX10_isPerson : y_ok yX10_isPerson 1 := by unfold y_ok; decide +kernel
theorem ymX10_fails : y_ok yX10_fails 1 := by unfold y_ok; decide +kernel
theorem ymX10_person : y_ok yX10_person 2 := by unfold y_ok; decide +kernel
theorem ymX10_isQuestion : y_ok yX10_isQuestion 1 := by unfold y_ok; decide +kernel
theorem ymX10_question : y_ok yX10_question 2 := by unfold y_ok; decide +kernel
theorem ymX10_supposed : y_ok yX10_supposed 1 := by unfold y_ok; decide +kernel
theorem ymX10_canAsk : y_ok yX10_canAsk 4 := by unfold y_ok; decide +kernel
theorem ymX10_can : y_ok yX10_can 3 := by unfold y_ok; decide +kernel
theorem ymX10_witOf : y_ok yX10_witOf 1 := by unfold y_ok; decide +kernel
theorem ymX10_manyOf : y_ok yX10_manyOf 1 := by unfold y_ok; decide +kernel
theorem ymX10_layNames : y_ok yX10_layNames 3 := by unfold y_ok; decide +kernel
theorem ymX10_bounded : y_ok yX10_bounded 1 := by unfold y_ok; decide +kernel
theorem ymX10_times : y_ok yX10_times 2 := by unfold y_ok; decide +kernel
theorem ymX10_compares : y_ok yX10_compares 3 := by unfold y_ok; decide +kernel
theorem ymX10_valueOf : y_ok yX10_valueOf 1 := by unfold y_ok; decide +kernel
theorem ymX10_lawOf : y_ok yX10_lawOf 1 := by unfold y_ok; decide +kernel
theorem ymX10_law : y_ok yX10_law 3 := by unfold y_ok; decide +kernel
theorem ymX10_put : y_ok yX10_put 2 := by unfold y_ok; decide +kernel
theorem ymX10_remember : y_ok yX10_remember 0 := by unfold y_ok; decide +kernel
theorem ymX10_hears : y_ok yX10_hears 3 := by unfold y_ok; decide +kernel
theorem ymX10_slipOf : y_ok yX10_slipOf 3 := by unfold y_ok; decide +kernel
theorem ymX10_number1 : y_ok yX10_number1 1 := by unfold y_ok; decide +kernel
theorem ymX10_isSlip : y_ok yX10_isSlip 3 := by unfold y_ok; decide +kernel
theorem ymX10_asks : y_ok yX10_asks 4 := by unfold y_ok; decide +kernel
theorem ymX10_ask : y_ok yX10_ask 3 := by unfold y_ok; decide +kernel
theorem ymX10_isFact : y_ok yX10_isFact 1 := by unfold y_ok; decide +kernel
theorem ymX10_tell : y_ok yX10_tell 2 := by unfold y_ok; decide +kernel
theorem ymX10_send : y_ok yX10_send 2 := by unfold y_ok; decide +kernel
theorem ymX10_end : y_ok yX10_end 0 := by unfold y_ok; decide +kernel
theorem ymX10_layTried : y_ok yX10_layTried 0 := by unfold y_ok; decide +kernel
theorem ymX10_sumIn : y_ok yX10_sumIn 1 := by unfold y_ok; decide +kernel
theorem ymX10_askAll : y_ok yX10_askAll 0 := by unfold y_ok; decide +kernel
theorem ymX10_all : y_ok yX10_all 1 := by unfold y_ok; decide +kernel
theorem ymX10_learns : y_ok yX10_learns 3 := by unfold y_ok; decide +kernel
theorem ymX10_never : y_ok yX10_never 2 := by unfold y_ok; decide +kernel
theorem ymX10_away : y_ok yX10_away 2 := by unfold y_ok; decide +kernel
theorem ymX10_spread : y_ok yX10_spread 1 := by unfold y_ok; decide +kernel
theorem ymX10_hint : y_ok yX10_hint 3 := by unfold y_ok; decide +kernel
theorem ymX10_unasked : y_ok yX10_unasked 1 := by unfold y_ok; decide +kernel
theorem ymX10_sumInRoom : y_ok yX10_sumInRoom 2 := by unfold y_ok; decide +kernel
theorem ymX10_inRoom : y_ok yX10_inRoom 2 := by unfold y_ok; decide +kernel
theorem ymX10_bestRoom : y_ok yX10_bestRoom 1 := by unfold y_ok; decide +kernel
theorem ymX10_isAsked : y_ok yX10_isAsked 4 := by unfold y_ok; decide +kernel
theorem ymX10_steps : y_ok yX10_steps 0 := by unfold y_ok; decide +kernel
theorem ymX10_whoOf : y_ok yX10_whoOf 1 := by unfold y_ok; decide +kernel
theorem ymX10_whomOf : y_ok yX10_whomOf 1 := by unfold y_ok; decide +kernel
theorem ymX10_whatOf : y_ok yX10_whatOf 1 := by unfold y_ok; decide +kernel
theorem ymX10_does : y_ok yX10_does 1 := by unfold y_ok; decide +kernel
theorem ymX10_isWay : y_ok yX10_isWay 3 := by unfold y_ok; decide +kernel
theorem ymX10_wayOf : y_ok yX10_wayOf 4 := by unfold y_ok; decide +kernel
theorem ymX10_way : y_ok yX10_way 4 := by unfold y_ok; decide +kernel
theorem ymX10_step : y_ok yX10_step 5 := by unfold y_ok; decide +kernel
theorem ymX10_isCare : y_ok yX10_isCare 2 := by unfold y_ok; decide +kernel
theorem ymX10_care : y_ok yX10_care 1 := by unfold y_ok; decide +kernel
theorem ymX10_best : y_ok yX10_best 3 := by unfold y_ok; decide +kernel
theorem ymX10_areTwo : y_ok yX10_areTwo 2 := by unfold y_ok; decide +kernel
theorem ymX10_gainOf : y_ok yX10_gainOf 1 := by unfold y_ok; decide +kernel
theorem ymX10_restAt : y_ok yX10_restAt 3 := by unfold y_ok; decide +kernel
theorem ymX10_rests : y_ok yX10_rests 2 := by unfold y_ok; decide +kernel
theorem ymX10_rest : y_ok yX10_rest 3 := by unfold y_ok; decide +kernel
theorem ymX10_layTextTried : y_ok yX10_layTextTried 0 := by unfold y_ok; decide +kernel
theorem ymX10_talkOf : y_ok yX10_talkOf 1 := by unfold y_ok; decide +kernel
theorem ymX10_slipped : y_ok yX10_slipped 1 := by unfold y_ok; decide +kernel
theorem ymX10_behind : y_ok yX10_behind 2 := by unfold y_ok; decide +kernel
theorem ymX10_noted : y_ok yX10_noted 4 := by unfold y_ok; decide +kernel
theorem ymX10_note : y_ok yX10_note 4 := by unfold y_ok; decide +kernel
theorem ymX10_strike : y_ok yX10_strike 1 := by unfold y_ok; decide +kernel
theorem ymX10_known : y_ok yX10_known 1 := by unfold y_ok; decide +kernel
theorem ymX10_knownBy : y_ok yX10_knownBy 0 := by unfold y_ok; decide +kernel
theorem ymX10_isSo : y_ok yX10_isSo 1 := by unfold y_ok; decide +kernel
theorem ymX10_fits : y_ok yX10_fits 2 := by unfold y_ok; decide +kernel
theorem ymX10_knew : y_ok yX10_knew 1 := by unfold y_ok; decide +kernel
theorem ymX10_chance : y_ok yX10_chance 3 := by unfold y_ok; decide +kernel
theorem ymX10_tried : y_ok yX10_tried 2 := by unfold y_ok; decide +kernel
theorem ymX10_take : y_ok yX10_take 2 := by unfold y_ok; decide +kernel
theorem ymX10_undo : y_ok yX10_undo 0 := by unfold y_ok; decide +kernel
theorem ymX10_keep : y_ok yX10_keep 0 := by unfold y_ok; decide +kernel
theorem ymX10_back : y_ok yX10_back 0 := by unfold y_ok; decide +kernel
theorem ymX10_count : y_ok yX10_count 1 := by unfold y_ok; decide +kernel
