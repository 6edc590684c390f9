/-! the component: what its methods mean -/
def kJ0_init  (o : Nat) (h : HP) : Option (Unit × HP) := some ((), h)
def kJ1_init  (o : Nat) (h : HP) : Option (Unit × HP) := cal (kJ0_init o h) (fun r1 h2 => grd ((gT (cV h2) o).1 = 5) (bnd (sI h2 o 0 (0 : Int32)) (fun h4 => some ((), h4))))
def kJ10_init_2  (o : Nat) (a3 : Int32) (a4 : Int32) (h : HP) : Option (Unit × HP) := grd ((gT (cV h) o).1 = 20) (jon (fun (h7 : HP) => grd ((gT (cV h7) o).1 = 20) (if a3 = 0 then (some ((), h7)) else (some ((), h7)))) (fun j6 => if a4 = 0 then (j6 h) else none))
def kJ11_init  (o : Nat) (a3 : Int32) (a4 : Int32) (h : HP) : Option (Unit × HP) := cal (kJ10_init_2 o a3 a4 h) (fun r1 h2 => some ((), h2))
def kJ18_bitCount  (a1 : Int32) (h : HP) : Option (Int32 × HP) := bnd (a1 - (((a1).toUInt32 >>> (((1 : Int32)).toUInt32 &&& Int32.toUInt32 31)).toInt32 &&& (1431655765 : Int32))) (fun x1 => bnd ((x1 &&& (858993459 : Int32)) + (((x1).toUInt32 >>> (((2 : Int32)).toUInt32 &&& Int32.toUInt32 31)).toInt32 &&& (858993459 : Int32))) (fun x2 => bnd ((x2 + ((x2).toUInt32 >>> (((4 : Int32)).toUInt32 &&& Int32.toUInt32 31)).toInt32) &&& (252645135 : Int32)) (fun x3 => bnd (x3 + ((x3).toUInt32 >>> (((8 : Int32)).toUInt32 &&& Int32.toUInt32 31)).toInt32) (fun x4 => bnd (x4 + ((x4).toUInt32 >>> (((16 : Int32)).toUInt32 &&& Int32.toUInt32 31)).toInt32) (fun x5 => some ((x5 &&& (63 : Int32)), h))))))
def cL_init  (o : Nat) (a1 : Int32) (h : HP) : Option (Unit × HP) := cal (kJ1_init o h) (fun r1 h2 => if a1 ≤ 0 then (if a1 = 0 then none else none) else (grd (¬ a1 < 0) (grd ((a1).toNatClampNeg * 4 ≤ 536870912) (grd (54 ≤ gN h2) (bnd (gN h2) (fun b4 => bnd (sA h2 (104, (a1).toNatClampNeg) (a1).toNatClampNeg) (fun h5 => grd ((gT (cV h5) o).1 = 5) (grd (54 ≤ o) (bnd (sR h5 o 1 (some b4)) (fun h9 => some ((), h9)))))))))))
def cL_size  (o : Nat) (h : HP) : Option (Int32 × HP) := grd (shL (cV h) o) (some ((gI h o 2), h))
def kJ4_checkIndex  (a1 : Int32) (a2 : Int32) (h : HP) : Option (Int32 × HP) := jon (fun (_u : Unit) => none) (fun j1 => if a1 < 0 then (j1 ()) else (if a1 < a2 then (some (a1, h)) else (j1 ())))
def kJ3_checkIndex  (a1 : Int32) (a2 : Int32) (h : HP) : Option (Int32 × HP) := cal (kJ4_checkIndex a1 a2 h) (fun r1 h2 => some (r1, h2))
def cL_elementData  (o : Nat) (a1 : Int32) (h : HP) : Option (Nat × HP) := grd (shL (cV h) o) (grd (inb a1 (gT (cV h) (o + 1)).2) (onr (gR (cV h) (o + 1) (a1).toNatClampNeg) (fun b2 => some (b2, h))))
def cL_get  (o : Nat) (a1 : Int32) (h : HP) : Option (Nat × HP) := grd (shL (cV h) o) (cal (kJ3_checkIndex a1 (gI h o 2) h) (fun r2 h3 => grd (shL (cV h3) o) (cal (cL_elementData o a1 h3) (fun r4 h5 => some (r4, h5)))))
def cL_add_2  (o : Nat) (a1 : Nat) (a2 : Nat) (a3 : Int32) (h : HP) : Option (Unit × HP) := grd ((gT (cV h) a2).1 = 104) (jon (fun (x3 : Nat) (h4 : HP) => grd ((gT (cV h4) x3).1 = 104) (grd (cRs x3 (a3).toNatClampNeg = none) (grd ((gT (cV h4) a1).1 = 7 ∨ (gT (cV h4) a1).1 = 8 ∨ (gT (cV h4) a1).1 = 9 ∨ (gT (cV h4) a1).1 = 14 ∨ (gT (cV h4) a1).1 = 15) (grd (inb a3 (gT (cV h4) x3).2) (bnd (sR h4 x3 (a3).toNatClampNeg (some a1)) (fun h7 => grd (shL (cV h7) o) (bnd (sI h7 o 2 (a3 + (1 : Int32))) (fun h10 => some ((), h10))))))))) (fun j2 => if a3 = (Int32.ofNat (gT (cV h) a2).2) then none else (j2 a2 h)))
def cL_add  (o : Nat) (a1 : Nat) (h : HP) : Option (Int32 × HP) := grd (shL (cV h) o) (bnd (sI h o 0 ((gI h o 0) + (1 : Int32))) (fun h2 => grd (shL (cV h2) o) (cal (cL_add_2 o a1 (o + 1) (gI h2 o 2) h2) (fun r6 h7 => some ((1 : Int32), h7)))))
def cL_clear_27  (f1 : Nat) (f2 : Int32) (k : HP → Option (Unit × HP)) : Nat → Int32 → HP → Option (Unit × HP)
  | 0, _, _ => none
  | n + 1, v3, h => if f2 ≤ v3 then (k h) else (grd ((gT (cV h) f1).1 = 104) (grd (cRs f1 (v3).toNatClampNeg = none) (grd (inb v3 (gT (cV h) f1).2) (bnd (sR h f1 (v3).toNatClampNeg none) (fun h13 => bnd (v3 + (1 : Int32)) (fun x14 => cL_clear_27 f1 f2 k n x14 h13))))))
def cL_clear  (o : Nat) (h : HP) : Option (Unit × HP) := grd (shL (cV h) o) (bnd (sI h o 0 ((gI h o 0) + (1 : Int32))) (fun h2 => grd (shL (cV h2) o) (bnd (gI h2 o 2) (fun x6 => bnd (sI h2 o 2 (0 : Int32)) (fun h7 => bnd (0 : Int32) (fun x10 => cL_clear_27 (o + 1) x6 (fun (h15 : HP) => some ((), h15)) FU x10 h7))))))
def kJ5_coder  (o : Nat) (h : HP) : Option (Int32 × HP) := if (1 : Int32) = 0 then (grd (((1 : Int32)).toInt8.toInt32 = (1 : Int32)) (some ((1 : Int32), h))) else (grd (o < 26) (grd (((0 : Int32)).toInt8.toInt32 = (0 : Int32)) (some ((0 : Int32), h))))
def kJ5_length  (o : Nat) (h : HP) : Option (Int32 × HP) := grd (o < 26) (cal (kJ5_coder o h) (fun r2 h3 => some (((Int32.ofNat (sLen.getD o 0)) >>> (r2 &&& 31)), h3)))
def kJ5_isLatin1  (o : Nat) (h : HP) : Option (Int32 × HP) := if (1 : Int32) = 0 then (some ((0 : Int32), h)) else (grd (o < 26) (if (0 : Int32) = 0 then (some ((1 : Int32), h)) else (some ((0 : Int32), h))))
def kJ5_checkIndex  (a1 : Int32) (a2 : Int32) (h : HP) : Option (Unit × HP) := cal (kJ4_checkIndex a1 a2 h) (fun r2 h3 => some ((), h3))
def kJ6_charAt  (a1 : Nat) (a2 : Int32) (h : HP) : Option (Int32 × HP) := grd (a1 < 26) (cal (kJ5_checkIndex a2 (Int32.ofNat (sLen.getD a1 0)) h) (fun r2 h3 => grd (a1 < 26) (grd (inb a2 (sLen.getD a1 0)) (grd (((((((sByt.getD a1 []).getD (a2).toNatClampNeg 0) &&& (255 : Int32))).toUInt32 % 65536).toInt32).toUInt32.toUInt16.toUInt32.toInt32 = (((((sByt.getD a1 []).getD (a2).toNatClampNeg 0) &&& (255 : Int32))).toUInt32 % 65536).toInt32) (some ((((((sByt.getD a1 []).getD (a2).toNatClampNeg 0) &&& (255 : Int32))).toUInt32 % 65536).toInt32, h3))))))
def kJ5_charAt  (o : Nat) (a1 : Int32) (h : HP) : Option (Int32 × HP) := grd (o < 26) (cal (kJ5_isLatin1 o h) (fun r1 h2 => if r1 = 0 then none else (cal (kJ6_charAt o a1 h2) (fun r6 h7 => grd ((r6).toUInt32.toUInt16.toUInt32.toInt32 = r6) (some (r6, h7))))))
def kJ6_canEncode  (a1 : Int32) (h : HP) : Option (Int32 × HP) := if a1 < 0 then (some ((0 : Int32), h)) else (if (255 : Int32) < a1 then (some ((0 : Int32), h)) else (some ((1 : Int32), h)))
def kJ6_indexOfChar_7  (f0 : Nat) (f3 : Int32) (f4 : Int32) (k : HP → Option (Int32 × HP)) : Nat → Int32 → HP → Option (Int32 × HP)
  | 0, _, _ => none
  | n + 1, v5, h => if f3 ≤ v5 then (k h) else (grd (f0 < 26) (grd (inb v5 (sLen.getD f0 0)) (if ((sByt.getD f0 []).getD (v5).toNatClampNeg 0) = f4 then (some (v5, h)) else (bnd (v5 + (1 : Int32)) (fun x4 => kJ6_indexOfChar_7 f0 f3 f4 k n x4 h)))))
def kJ6_indexOfChar  (a1 : Nat) (a2 : Int32) (a3 : Int32) (a4 : Int32) (h : HP) : Option (Int32 × HP) := bnd (a2).toInt8.toInt32 (fun x1 => bnd a3 (fun x2 => kJ6_indexOfChar_7 a1 a4 x1 (fun (h5 : HP) => some ((-1 : Int32), h5)) FU x2 h))
def kJ6_indexOf  (a1 : Nat) (a2 : Int32) (a3 : Int32) (a4 : Int32) (h : HP) : Option (Int32 × HP) := cal (kJ6_canEncode a2 h) (fun r1 h2 => if r1 = 0 then (some ((-1 : Int32), h2)) else (bnd (if a3 < (0 : Int32) then (0 : Int32) else a3) (fun x5 => grd (a1 < 26) (bnd (if (Int32.ofNat (sLen.getD a1 0)) < a4 then (Int32.ofNat (sLen.getD a1 0)) else a4) (fun x9 => if x5 < x9 then (cal (kJ6_indexOfChar a1 a2 x5 x9 h2) (fun r10 h11 => some (r10, h11))) else (some ((-1 : Int32), h2)))))))
def kJ5_indexOf_2  (o : Nat) (a1 : Int32) (a2 : Int32) (h : HP) : Option (Int32 × HP) := grd (o < 26) (cal (kJ5_isLatin1 o h) (fun r1 h2 => if r1 = 0 then (cal (kJ5_length o h2) (fun r4 h5 => none)) else (cal (kJ5_length o h2) (fun r8 h9 => cal (kJ6_indexOf o a1 a2 r8 h9) (fun r10 h11 => some (r10, h11))))))
def kJ5_indexOf  (o : Nat) (a1 : Int32) (h : HP) : Option (Int32 × HP) := grd (o < 26) (cal (kJ5_indexOf_2 o a1 (0 : Int32) h) (fun r1 h2 => some (r1, h2)))
def cA_persons   (h : HP) : Option (Int32 × HP) := onr (gR (cV h) 0 6) (fun b1 => grd (shC (cV h) b1) (grd (shL (cV h) (b1 + 3)) (cal (cL_size (b1 + 3) h) (fun r4 h5 => some (r4, h5)))))
def cA_put_3  (f1 : Int32) (k : HP → Option (Unit × HP)) : Nat → Int32 → HP → Option (Unit × HP)
  | 0, _, _ => none
  | n + 1, v2, h => if v2 < 0 then (k h) else (bnd (sI h 0 1 ((gI h 0 1) + (1 : Int32))) (fun h2 => grd (inb (gI h 0 1) 700) (bnd (sI h2 1 ((gI h 0 1)).toNatClampNeg (((f1 >>> (v2 &&& 31))).toInt8.toInt32).toInt8.toInt32) (fun h5 => bnd (v2 + (-8 : Int32)) (fun x8 => cA_put_3 f1 k n x8 h5)))))
def cA_put  (a1 : Int32) (h : HP) : Option (Unit × HP) := bnd (24 : Int32) (fun x1 => cA_put_3 a1 (fun (h9 : HP) => some ((), h9)) FU x1 h)
def cA_feed  (a1 : Int32) (a2 : Int32) (a3 : Int32) (a4 : Int32) (a5 : Int32) (h : HP) : Option (Int32 × HP) := if ((gI h 0 1) + (20 : Int32)) ≤ (700 : Int32) then (cal (cA_put a1 h) (fun r1 h2 => cal (cA_put a2 h2) (fun r3 h4 => cal (cA_put a3 h4) (fun r5 h6 => cal (cA_put a4 h6) (fun r7 h8 => cal (cA_put a5 h8) (fun r9 h10 => some ((gI h10 0 1), h10))))))) else (some ((-1 : Int32), h))
def cA_in  (a1 : Int64) (a2 : Int64) (a3 : Int64) (h : HP) : Option (Int32 × HP) := if (lg_cmp a1 a2) < 0 then (some ((0 : Int32), h)) else (if 0 < (lg_cmp a1 a3) then (some ((0 : Int32), h)) else (some ((1 : Int32), h)))
def cC_init  (o : Nat) (h : HP) : Option (Unit × HP) := grd (54 ≤ gN h) (bnd (gN h) (fun b2 => bnd (sA h (5, 0) 3) (fun h3 => cal (cL_init b2 (8 : Int32) h3) (fun r4 h5 => grd ((gT (cV h5) o).1 = 4) (grd (54 ≤ o) (bnd (sR h5 o 0 (some b2)) (fun h7 => grd (54 ≤ gN h7) (bnd (gN h7) (fun b12 => bnd (sA h7 (5, 0) 3) (fun h13 => cal (cL_init b12 (5 : Int32) h13) (fun r14 h15 => grd ((gT (cV h15) o).1 = 4) (grd (54 ≤ o) (bnd (sR h15 o 1 (some b12)) (fun h17 => grd (54 ≤ gN h17) (bnd (gN h17) (fun b22 => bnd (sA h17 (5, 0) 3) (fun h23 => cal (cL_init b22 (8 : Int32) h23) (fun r24 h25 => grd ((gT (cV h25) o).1 = 4) (grd (54 ≤ o) (bnd (sR h25 o 2 (some b22)) (fun h27 => grd (54 ≤ gN h27) (bnd (gN h27) (fun b32 => bnd (sA h27 (100, 10) 10) (fun h33 => grd ((gT (cV h33) o).1 = 4) (grd (54 ≤ o) (bnd (sR h33 o 3 (some b32)) (fun h35 => grd (54 ≤ gN h35) (bnd (gN h35) (fun b40 => bnd (sA h35 (100, 10) 10) (fun h41 => grd ((gT (cV h41) o).1 = 4) (grd (54 ≤ o) (bnd (sR h41 o 4 (some b40)) (fun h43 => grd (54 ≤ gN h43) (bnd (gN h43) (fun b48 => bnd (sA h43 (100, 10) 10) (fun h49 => grd ((gT (cV h49) o).1 = 4) (grd (54 ≤ o) (bnd (sR h49 o 5 (some b48)) (fun h51 => grd (54 ≤ gN h51) (bnd (gN h51) (fun b56 => bnd (sA h51 (105, 2) 2) (fun h57 => grd ((gT (cV h57) o).1 = 4) (grd (54 ≤ o) (bnd (sR h57 o 6 (some b56)) (fun h59 => bnd (sI h59 o 8 (9 : Int32)) (fun h63 => some ((), h63)))))))))))))))))))))))))))))))))))))))))))))))
def cR_here   (h : HP) : Option (Int32 × HP) := if (gI h 2 1) ≤ (gI h 2 0) then (some ((-1 : Int32), h)) else (grd (inb (gI h 2 0) 700) (some (((gI h 1 ((gI h 2 0)).toNatClampNeg) &&& (255 : Int32)), h)))
def cR_sign   (h : HP) : Option (Unit × HP) := cal (cR_here h) (fun r1 h2 => bnd r1 (fun x3 => bnd (sI h2 2 0 ((gI h2 2 0) + (1 : Int32))) (fun h4 => cal (kJ5_indexOf 25 x3 h4) (fun r7 h8 => jon (fun (s10 : Int32) => bnd (sI h8 2 3 s10) (fun h11 => bnd (sI h11 2 4 x3) (fun h14 => jon (fun (h18 : HP) => if (gI h18 2 4) < (256 : Int32) then (some ((), h18)) else (bnd (sI h18 2 0 ((gI h18 2 0) + (1 : Int32))) (fun h19 => some ((), h19)))) (fun j17 => jon (fun (h23 : HP) => jon (fun (h25 : HP) => if x3 = (62 : Int32) then (cal (cR_here h25) (fun r26 h27 => if r26 = (61 : Int32) then (bnd (sI h27 2 4 (257 : Int32)) (fun h28 => j17 h28)) else (j17 h27))) else (j17 h25)) (fun j24 => if x3 = (60 : Int32) then (cal (cR_here h23) (fun r31 h32 => if r31 = (62 : Int32) then (bnd (sI h32 2 4 (258 : Int32)) (fun h33 => j17 h33)) else (j24 h32))) else (j24 h23))) (fun j22 => if x3 = (60 : Int32) then (cal (cR_here h14) (fun r36 h37 => if r36 = (61 : Int32) then (bnd (sI h37 2 4 (256 : Int32)) (fun h38 => j17 h38)) else (j22 h37))) else (j22 h14)))))) (fun j9 => if r7 < 0 then (j9 (5 : Int32)) else (j9 (3 : Int32)))))))
def cR_word_35  (f1 : Int32) (k : Int32 → HP → Option (Int32 × HP)) : Nat → Int32 → HP → Option (Int32 × HP)
  | 0, _, _ => none
  | n + 1, v2, h => if (gI h 2 0) ≤ ((gI h 2 2) + v2) then (k v2 h) else (grd (inb f1 25) (cal (kJ5_charAt (f1).toNatClampNeg v2 h) (fun r7 h8 => grd (inb ((gI h8 2 2) + v2) 700) (if r7 = (gI h8 1 (((gI h8 2 2) + v2)).toNatClampNeg) then (bnd (v2 + (1 : Int32)) (fun x9 => cR_word_35 f1 k n x9 h8)) else (k v2 h8)))))
def cR_word_2   (k : HP → Option (Int32 × HP)) : Nat → Int32 → HP → Option (Int32 × HP)
  | 0, _, _ => none
  | n + 1, v1, h => if (25 : Int32) ≤ v1 then (k h) else (grd (inb v1 25) (cal (kJ5_length (v1).toNatClampNeg h) (fun r3 h4 => if r3 = ((gI h4 2 0) - (gI h4 2 2)) then (bnd (0 : Int32) (fun x5 => cR_word_35 v1 (fun (x10 : Int32) (h11 : HP) => if ((gI h11 2 2) + x10) = (gI h11 2 0) then (some (v1, h11)) else (bnd (v1 + (1 : Int32)) (fun x12 => cR_word_2 k n x12 h11))) FU x5 h4)) else (bnd (v1 + (1 : Int32)) (fun x13 => cR_word_2 k n x13 h4)))))
def cR_word   (h : HP) : Option (Int32 × HP) := bnd (0 : Int32) (fun x1 => cR_word_2 (fun (h14 : HP) => some ((-1 : Int32), h14)) FU x1 h)
def cR_name_7   (k : HP → Option (Unit × HP)) : Nat → Int32 → HP → Option (Unit × HP)
  | 0, _, _ => none
  | n + 1, v1, h => if (6 : Int32) ≤ v1 then (k h) else (jon (fun (s6 : Int32) => bnd (sI h 2 4 (((gI h 2 4) <<< ((5 : Int32) &&& 31)) ||| s6)) (fun h7 => bnd (v1 + (1 : Int32)) (fun x10 => cR_name_7 k n x10 h7))) (fun j5 => if (gI h 2 0) ≤ ((gI h 2 2) + v1) then (j5 (0 : Int32)) else (grd (inb ((gI h 2 2) + v1) 700) (j5 (((gI h 1 (((gI h 2 2) + v1)).toNatClampNeg) - (97 : Int32)) + (1 : Int32))))))
def cR_name   (h : HP) : Option (Unit × HP) := bnd (sI h 2 4 (0 : Int32)) (fun h1 => bnd (0 : Int32) (fun x4 => cR_name_7 (fun (h11 : HP) => some ((), h11)) FU x4 h1))
def cR_next_0   (k : HP → Option (Unit × HP)) : Nat → HP → Option (Unit × HP)
  | 0, _ => none
  | n + 1, h => cal (cR_here h) (fun r1 h2 => jon (fun (h4 : HP) => bnd (sI h4 2 0 ((gI h4 2 0) + (1 : Int32))) (fun h5 => cR_next_0 k n h5)) (fun j3 => if r1 = (10 : Int32) then (j3 h2) else (cal (cR_here h2) (fun r8 h9 => if r8 = (32 : Int32) then (j3 h9) else (k h9)))))
def cR_next_190   (k : HP → Option (Unit × HP)) : Nat → HP → Option (Unit × HP)
  | 0, _ => none
  | n + 1, h => cal (cR_here h) (fun r33 h34 => cal (cA_in (r33).toInt64 (48 : Int64) (57 : Int64) h34) (fun r35 h36 => if r35 = 0 then (k h36) else (jon (fun (s38 : Int32) (h39 : HP) => bnd (sI h39 2 4 s38) (fun h40 => bnd (sI h40 2 0 ((gI h40 2 0) + (1 : Int32))) (fun h43 => cR_next_190 k n h43))) (fun j37 => if (gI h36 2 4) ≤ (99999 : Int32) then (cal (cR_here h36) (fun r46 h47 => j37 ((((10 : Int32) * (gI h36 2 4)) + r46) - (48 : Int32)) h47)) else (j37 (gI h36 2 4) h36)))))
def cR_next_75   (k : HP → Option (Unit × HP)) : Nat → HP → Option (Unit × HP)
  | 0, _ => none
  | n + 1, h => cal (cR_here h) (fun r49 h50 => cal (cA_in (r49).toInt64 (97 : Int64) (122 : Int64) h50) (fun r51 h52 => if r51 = 0 then (k h52) else (bnd (sI h52 2 0 ((gI h52 2 0) + (1 : Int32))) (fun h53 => cR_next_75 k n h53))))
def cR_next   (h : HP) : Option (Unit × HP) := cR_next_0 (fun (h10 : HP) => bnd (sI h10 2 2 (gI h10 2 0)) (fun h11 => if (gI h11 2 0) = (gI h11 2 1) then (bnd (sI h11 2 3 (4 : Int32)) (fun h14 => some ((), h14))) else (cal (cR_here h11) (fun r17 h18 => cal (cA_in (r17).toInt64 (97 : Int64) (122 : Int64) h18) (fun r19 h20 => if r19 = 0 then (cal (cR_here h20) (fun r21 h22 => cal (cA_in (r21).toInt64 (48 : Int64) (57 : Int64) h22) (fun r23 h24 => if r23 = 0 then (cal (cR_sign h24) (fun r25 h26 => some ((), h26))) else (bnd (sI h24 2 3 (2 : Int32)) (fun h27 => bnd (sI h27 2 4 (0 : Int32)) (fun h30 => cR_next_190 (fun (h48 : HP) => some ((), h48)) FU h30)))))) else (cR_next_75 (fun (h56 : HP) => cal (cR_word h56) (fun r57 h58 => bnd (sI h58 2 4 r57) (fun h59 => jon (fun (s63 : Int32) => bnd (sI h59 2 3 s63) (fun h64 => if (gI h64 2 3) = (1 : Int32) then (cal (cR_name h64) (fun r67 h68 => some ((), h68))) else (some ((), h64)))) (fun j62 => if (gI h59 2 4) = (-1 : Int32) then (if ((gI h59 2 0) - (gI h59 2 2)) ≤ (6 : Int32) then (j62 (1 : Int32)) else (j62 (5 : Int32))) else (j62 (0 : Int32)))))) FU h20)))))) FU h
def cR_isWord  (a1 : Int32) (a2 : Int32) (h : HP) : Option (Int32 × HP) := if (gI h 2 3) = 0 then (cal (cA_in ((gI h 2 4)).toInt64 (a1).toInt64 (a2).toInt64 h) (fun r1 h2 => if r1 = 0 then (some ((0 : Int32), h2)) else (some ((1 : Int32), h2)))) else (some ((0 : Int32), h))
def kX11_init  (o : Nat) (a1 : Int32) (a2 : Int32) (h : HP) : Option (Unit × HP) := cal (kJ11_init o (0 : Int32) (0 : Int32) h) (fun r1 h2 => grd ((gT (cV h2) o).1 = 20) (bnd (sI h2 o 6 a1) (fun h4 => bnd (sI h4 o 7 a2) (fun h7 => some ((), h7)))))
def cR_wrong  (a1 : Int32) (h : HP) : Option (Nat × HP) := grd (54 ≤ gN h) (bnd (gN h) (fun b2 => bnd (sA h (20, 0) 8) (fun h3 => cal (kX11_init b2 a1 (gI h3 2 2) h3) (fun r4 h5 => some (b2, h5)))))
def cR_isFull  (a1 : Int32) (h : HP) : Option (Int32 × HP) := jon (fun (h2 : HP) => jon (fun (h4 : HP) => jon (fun (h6 : HP) => if a1 = (4 : Int32) then (onr (gR (cV h6) 2 7) (fun b7 => grd (shC (cV h6) b7) (if (gI h6 b7 7) = (10 : Int32) then (some ((1 : Int32), h6)) else (some ((0 : Int32), h6))))) else (some ((0 : Int32), h6))) (fun j5 => if a1 = (3 : Int32) then (onr (gR (cV h4) 2 7) (fun b10 => grd (shC (cV h4) b10) (grd (shL (cV h4) (b10 + 5)) (cal (cL_size (b10 + 5) h4) (fun r13 h14 => if r13 = (8 : Int32) then (some ((1 : Int32), h14)) else (j5 h14)))))) else (j5 h4))) (fun j3 => if a1 = (1 : Int32) then (onr (gR (cV h2) 2 7) (fun b16 => grd (shC (cV h2) b16) (grd (shL (cV h2) (b16 + 3)) (cal (cL_size (b16 + 3) h2) (fun r19 h20 => if r19 = (5 : Int32) then (some ((1 : Int32), h20)) else (j3 h20)))))) else (j3 h2))) (fun j1 => if a1 = 0 then (onr (gR (cV h) 2 7) (fun b22 => grd (shC (cV h) b22) (grd (shL (cV h) (b22 + 1)) (cal (cL_size (b22 + 1) h) (fun r25 h26 => if r25 = (8 : Int32) then (some ((1 : Int32), h26)) else (j1 h26)))))) else (j1 h))
def cR_isSign  (a1 : Int32) (h : HP) : Option (Int32 × HP) := if (gI h 2 3) = (3 : Int32) then (if (gI h 2 4) = a1 then (some ((1 : Int32), h)) else (some ((0 : Int32), h))) else (some ((0 : Int32), h))
def kX12_find_2  (f0 : Nat) (f1 : Int32) (k : HP → Option (Int32 × HP)) : Nat → Int32 → HP → Option (Int32 × HP)
  | 0, _, _ => none
  | n + 1, v2, h => grd (shL (cV h) f0) (cal (cL_size f0 h) (fun r2 h3 => if r2 ≤ v2 then (k h3) else (grd (shL (cV h3) f0) (cal (cL_get f0 v2 h3) (fun r5 h6 => grd ((gT (cV h6) r5).1 = 7 ∨ (gT (cV h6) r5).1 = 8 ∨ (gT (cV h6) r5).1 = 9) (grd ((gT (cV h6) r5).1 = 7 ∨ (gT (cV h6) r5).1 = 8 ∨ (gT (cV h6) r5).1 = 9) (if (gI h6 r5 0) = f1 then (some (v2, h6)) else (bnd (v2 + (1 : Int32)) (fun x10 => kX12_find_2 f0 f1 k n x10 h6)))))))))
def kX12_find  (a1 : Nat) (a2 : Int32) (h : HP) : Option (Int32 × HP) := bnd (0 : Int32) (fun x1 => kX12_find_2 a1 a2 (fun (h11 : HP) => some ((-1 : Int32), h11)) FU x1 h)
def cR_fresh  (a1 : Nat) (h : HP) : Option ((Int32 ⊕ Nat × Nat) × HP) := if (gI h 2 3) = (1 : Int32) then (cal (kX12_find a1 (gI h 2 4) h) (fun r1 h2 => if r1 = (-1 : Int32) then (bnd (gI h2 2 4) (fun x3 => cal (cR_next h2) (fun r4 h5 => some (.inl x3, h5)))) else (cal (cR_wrong (3 : Int32) h2) (fun r6 h7 => grd ((gT (cV h7) r6).1 = 20) (some (.inr (1, r6), h7)))))) else (cal (cR_wrong (1 : Int32) h) (fun r9 h10 => grd ((gT (cV h10) r9).1 = 20) (some (.inr (1, r9), h10))))
def kX12_init  (o : Nat) (a1 : Int32) (h : HP) : Option (Unit × HP) := grd ((gT (cV h) o).1 = 7 ∨ (gT (cV h) o).1 = 8 ∨ (gT (cV h) o).1 = 9) (bnd (sI h o 0 a1) (fun h2 => some ((), h2)))
def kX13_init  (o : Nat) (a1 : Int32) (h : HP) : Option (Unit × HP) := cal (kX12_init o a1 h) (fun r1 h2 => some ((), h2))
def cR_numberAtHand  (a1 : Int32) (a2 : Int32) (h : HP) : Option ((Int32 ⊕ Nat × Nat) × HP) := if (gI h 2 3) = (2 : Int32) then (cal (cA_in ((gI h 2 4)).toInt64 (a1).toInt64 (a2).toInt64 h) (fun r1 h2 => if r1 = 0 then (cal (cR_wrong (2 : Int32) h2) (fun r3 h4 => grd ((gT (cV h4) r3).1 = 20) (some (.inr (1, r3), h4)))) else (some (.inl (gI h2 2 4), h2)))) else (cal (cR_wrong (1 : Int32) h) (fun r6 h7 => grd ((gT (cV h7) r6).1 = 20) (some (.inr (1, r6), h7))))
def cR_number  (a1 : Int32) (a2 : Int32) (h : HP) : Option ((Int32 ⊕ Nat × Nat) × HP) := calx (cR_numberAtHand a1 a2 h) (fun r1 h2 => bnd r1 (fun x3 => cal (cR_next h2) (fun r4 h5 => some (.inl x3, h5))))
def cR_person   (h : HP) : Option ((Unit ⊕ Nat × Nat) × HP) := grd (54 ≤ gN h) (bnd (gN h) (fun b2 => bnd (sA h (8, 0) 5) (fun h3 => onr (gR (cV h3) 2 7) (fun b4 => grd (shC (cV h3) b4) (calx (cR_fresh (b4 + 3) h3) (fun r7 h8 => cal (kX13_init b2 r7 h8) (fun r9 h10 => calx (cR_number (0 : Int32) (9 : Int32) h10) (fun r11 h12 => grd ((gT (cV h12) b2).1 = 8) (bnd (sI h12 b2 1 r11) (fun h14 => calx (cR_number (0 : Int32) (9 : Int32) h14) (fun r17 h18 => grd ((gT (cV h18) b2).1 = 8) (bnd (sI h18 b2 2 r17) (fun h20 => calx (cR_number (0 : Int32) (3 : Int32) h20) (fun r23 h24 => grd ((gT (cV h24) b2).1 = 8) (bnd (sI h24 b2 3 r23) (fun h26 => onr (gR (cV h26) 2 7) (fun b29 => grd (shC (cV h26) b29) (grd (shL (cV h26) (b29 + 3)) (cal (cL_add (b29 + 3) b2 h26) (fun r32 h33 => some (.inl (), h33)))))))))))))))))))))
def cR_atHand  (a1 : Nat) (h : HP) : Option ((Int32 ⊕ Nat × Nat) × HP) := if (gI h 2 3) = (1 : Int32) then (cal (kX12_find a1 (gI h 2 4) h) (fun r1 h2 => bnd r1 (fun x3 => if x3 = (-1 : Int32) then (cal (cR_wrong (4 : Int32) h2) (fun r4 h5 => grd ((gT (cV h5) r4).1 = 20) (some (.inr (1, r4), h5)))) else (some (.inl x3, h2))))) else (cal (cR_wrong (1 : Int32) h) (fun r7 h8 => grd ((gT (cV h8) r7).1 = 20) (some (.inr (1, r7), h8))))
def cR_ahead  (a1 : Nat) (h : HP) : Option ((Int32 ⊕ Nat × Nat) × HP) := calx (cR_atHand a1 h) (fun r1 h2 => bnd r1 (fun x3 => cal (cR_next h2) (fun r4 h5 => some (.inl x3, h5))))
def cR_knows   (h : HP) : Option ((Unit ⊕ Nat × Nat) × HP) := onr (gR (cV h) 2 7) (fun b1 => grd (shC (cV h) b1) (onr (gR (cV h) 2 7) (fun b4 => grd (shC (cV h) b4) (calx (cR_ahead (b4 + 3) h) (fun r7 h8 => grd (shL (cV h8) (b1 + 3)) (cal (cL_get (b1 + 3) r7 h8) (fun r9 h10 => grd ((gT (cV h10) r9).1 = 8) (onr (gR (cV h10) 2 7) (fun b13 => grd (shC (cV h10) b13) (calx (cR_atHand (b13 + 1) h10) (fun r16 h17 => bnd r16 (fun x18 => grd ((gT (cV h17) r9).1 = 8) (if (((gI h17 r9 4) >>> (x18 &&& 31)) &&& (1 : Int32)) = (1 : Int32) then (cal (cR_wrong (3 : Int32) h17) (fun r20 h21 => grd ((gT (cV h21) r20).1 = 20) (some (.inr (1, r20), h21)))) else (cal (cR_next h17) (fun r23 h24 => grd ((gT (cV h24) r9).1 = 8) (bnd (sI h24 r9 4 ((gI h24 r9 4) ||| ((1 : Int32) <<< (x18 &&& 31)))) (fun h26 => some (.inl (), h26))))))))))))))))))
def kX14_init  (o : Nat) (a1 : Int32) (h : HP) : Option (Unit × HP) := cal (kX12_init o a1 h) (fun r1 h2 => some ((), h2))
def cR_some   (h : HP) : Option ((Int32 ⊕ Nat × Nat) × HP) := cal (cR_isWord (12 : Int32) (12 : Int32) h) (fun r1 h2 => if r1 = 0 then (onr (gR (cV h2) 2 7) (fun b3 => grd (shC (cV h2) b3) (calx (cR_ahead (b3 + 1) h2) (fun r6 h7 => some (.inl r6, h7))))) else (cal (cR_next h2) (fun r8 h9 => some (.inl (-1 : Int32), h9))))
def cR_question   (h : HP) : Option ((Unit ⊕ Nat × Nat) × HP) := grd (54 ≤ gN h) (bnd (gN h) (fun b2 => bnd (sA h (9, 0) 5) (fun h3 => onr (gR (cV h3) 2 7) (fun b4 => grd (shC (cV h3) b4) (calx (cR_fresh (b4 + 5) h3) (fun r7 h8 => cal (kX14_init b2 r7 h8) (fun r9 h10 => cal (cR_isWord (8 : Int32) (11 : Int32) h10) (fun r11 h12 => if r11 = 0 then (cal (cR_wrong (1 : Int32) h12) (fun r13 h14 => grd ((gT (cV h14) r13).1 = 20) (some (.inr (1, r13), h14)))) else (grd ((gT (cV h12) b2).1 = 9) (bnd (sI h12 b2 1 ((gI h12 2 4) - (8 : Int32))) (fun h17 => cal (cR_next h17) (fun r20 h21 => calx (cR_some h21) (fun r22 h23 => grd ((gT (cV h23) b2).1 = 9) (bnd (sI h23 b2 2 r22) (fun h25 => calx (cR_some h25) (fun r28 h29 => grd ((gT (cV h29) b2).1 = 9) (bnd (sI h29 b2 3 r28) (fun h31 => calx (cR_some h31) (fun r34 h35 => grd ((gT (cV h35) b2).1 = 9) (bnd (sI h35 b2 4 r34) (fun h37 => onr (gR (cV h37) 2 7) (fun b40 => grd (shC (cV h37) b40) (grd (shL (cV h37) (b40 + 5)) (cal (cL_add (b40 + 5) b2 h37) (fun r43 h44 => some (.inl (), h44))))))))))))))))))))))))))
def cR_talk   (h : HP) : Option ((Unit ⊕ Nat × Nat) × HP) := onr (gR (cV h) 2 7) (fun b1 => grd (shC (cV h) b1) (bnd (gI h b1 7) (fun x4 => onr (gR (cV h) 2 7) (fun b5 => grd (shC (cV h) b5) (calx (cR_ahead (b5 + 3) h) (fun r8 h9 => bnd r8 (fun x10 => onr (gR (cV h9) 2 7) (fun b11 => grd (shC (cV h9) b11) (calx (cR_atHand (b11 + 3) h9) (fun r14 h15 => bnd r14 (fun x16 => if x10 = x16 then (cal (cR_wrong (5 : Int32) h15) (fun r17 h18 => grd ((gT (cV h18) r17).1 = 20) (some (.inr (1, r17), h18)))) else (cal (cR_next h15) (fun r20 h21 => onr (gR (cV h21) 2 7) (fun b22 => grd (shC (cV h21) b22) (grd (inb x4 10) (bnd (sI h21 (b22 + 7) (x4).toNatClampNeg x10) (fun h25 => onr (gR (cV h25) 2 7) (fun b28 => grd (shC (cV h25) b28) (grd (inb x4 10) (bnd (sI h25 (b28 + 8) (x4).toNatClampNeg x16) (fun h31 => onr (gR (cV h31) 2 7) (fun b34 => grd (shC (cV h31) b34) (onr (gR (cV h31) 2 7) (fun b37 => grd (shC (cV h31) b37) (calx (cR_ahead (b37 + 5) h31) (fun r40 h41 => grd ((gT (cV h41) (b34 + 9)).1 = 100) (grd (inb x4 (gT (cV h41) (b34 + 9)).2) (bnd (sI h41 (b34 + 9) (x4).toNatClampNeg r40) (fun h43 => onr (gR (cV h43) 2 7) (fun b46 => grd (shC (cV h43) b46) (bnd (sI h43 b46 7 ((gI h43 b46 7) + (1 : Int32))) (fun h49 => some (.inl (), h49)))))))))))))))))))))))))))))))))
def cR_knot   (h : HP) : Option ((Int32 ⊕ Nat × Nat) × HP) := onr (gR (cV h) 2 7) (fun b1 => grd (shC (cV h) b1) (if (gI h b1 10) = (64 : Int32) then (cal (cR_wrong (2 : Int32) h) (fun r4 h5 => grd ((gT (cV h5) r4).1 = 20) (some (.inr (1, r4), h5)))) else (onr (gR (cV h) 2 7) (fun b7 => grd (shC (cV h) b7) (bnd (sI h b7 10 ((gI h b7 10) + (1 : Int32))) (fun h10 => bnd (gI h10 2 4) (fun x13 => cal (cR_next h10) (fun r14 h15 => some (.inl x13, h15)))))))))
def kX15_init  (o : Nat) (h : HP) : Option (Unit × HP) := some ((), h)
def kX18_init  (o : Nat) (a1 : Nat) (h : HP) : Option (Unit × HP) := cal (kX15_init o h) (fun r1 h2 => grd ((gT (cV h2) o).1 = 12 ∨ (gT (cV h2) o).1 = 13) (grd (54 ≤ o) (bnd (sR h2 o 0 (some a1)) (fun h4 => some ((), h4)))))
def kX19_init  (o : Nat) (a1 : Int32) (a2 : Nat) (a3 : Nat) (h : HP) : Option (Unit × HP) := cal (kX18_init o a2 h) (fun r1 h2 => grd ((gT (cV h2) o).1 = 13) (bnd (sI h2 o 1 a1) (fun h4 => grd (54 ≤ o) (bnd (sR h4 o 2 (some a3)) (fun h7 => some ((), h7))))))
def cR_and_5 (f : HP → Option ((Nat ⊕ Nat × Nat) × HP))  (k : Nat → HP → Option ((Nat ⊕ Nat × Nat) × HP)) : Nat → Nat → HP → Option ((Nat ⊕ Nat × Nat) × HP)
  | 0, _, _ => none
  | n + 1, v1, h => cal (cR_isWord (16 : Int32) (16 : Int32) h) (fun r3 h4 => if r3 = 0 then (k v1 h4) else (calx (cR_knot h4) (fun r5 h6 => bnd r5 (fun x7 => grd (54 ≤ gN h6) (bnd (gN h6) (fun b9 => bnd (sA h6 (13, 0) 3) (fun h10 => calx (f h10) (fun r11 h12 => cal (kX19_init b9 x7 v1 r11 h12) (fun r13 h14 => cR_and_5 f k n b9 h14)))))))))
def cR_and (f : HP → Option ((Nat ⊕ Nat × Nat) × HP))  (h : HP) : Option ((Nat ⊕ Nat × Nat) × HP) := calx (f h) (fun r1 h2 => cR_and_5 f (fun (x15 : Nat) (h16 : HP) => some (.inl x15, h16)) FU r1 h2)
def cR_or_5 (f : HP → Option ((Nat ⊕ Nat × Nat) × HP))  (k : Nat → HP → Option ((Nat ⊕ Nat × Nat) × HP)) : Nat → Nat → HP → Option ((Nat ⊕ Nat × Nat) × HP)
  | 0, _, _ => none
  | n + 1, v1, h => cal (cR_isWord (15 : Int32) (15 : Int32) h) (fun r3 h4 => if r3 = 0 then (k v1 h4) else (calx (cR_knot h4) (fun r5 h6 => bnd r5 (fun x7 => grd (54 ≤ gN h6) (bnd (gN h6) (fun b9 => bnd (sA h6 (13, 0) 3) (fun h10 => calx (cR_and f h10) (fun r11 h12 => cal (kX19_init b9 x7 v1 r11 h12) (fun r13 h14 => cR_or_5 f k n b9 h14)))))))))
def cR_or (f : HP → Option ((Nat ⊕ Nat × Nat) × HP))  (h : HP) : Option ((Nat ⊕ Nat × Nat) × HP) := calx (cR_and f h) (fun r1 h2 => cR_or_5 f (fun (x15 : Nat) (h16 : HP) => some (.inl x15, h16)) FU r1 h2)
def kX16_init  (o : Nat) (a1 : Int32) (h : HP) : Option (Unit × HP) := cal (kX15_init o h) (fun r1 h2 => grd ((gT (cV h2) o).1 = 10) (bnd (sI h2 o 0 a1) (fun h4 => some ((), h4))))
def kX17_init  (o : Nat) (a1 : Int32) (h : HP) : Option (Unit × HP) := cal (kX15_init o h) (fun r1 h2 => grd ((gT (cV h2) o).1 = 11) (bnd (sI h2 o 0 a1) (fun h4 => some ((), h4))))
def cR_one (f : HP → Option ((Nat ⊕ Nat × Nat) × HP))  (h : HP) : Option ((Nat ⊕ Nat × Nat) × HP) := cal (cR_isSign (40 : Int32) h) (fun r1 h2 => if r1 = 0 then (if (gI h2 2 3) = (2 : Int32) then (if (gI h2 2 4) ≤ (9999 : Int32) then (grd (54 ≤ gN h2) (bnd (gN h2) (fun b4 => bnd (sA h2 (10, 0) 1) (fun h5 => calx (cR_knot h5) (fun r6 h7 => cal (kX16_init b4 r6 h7) (fun r8 h9 => some (.inl b4, h9))))))) else (cal (cR_wrong (2 : Int32) h2) (fun r10 h11 => grd ((gT (cV h11) r10).1 = 20) (some (.inr (1, r10), h11))))) else (jon (fun (_u : Unit) => cal (cR_wrong (1 : Int32) h2) (fun r14 h15 => grd ((gT (cV h15) r14).1 = 20) (some (.inr (1, r14), h15)))) (fun j13 => if (gI h2 2 3) = 0 then (if (18 : Int32) ≤ (gI h2 2 4) then (grd (54 ≤ gN h2) (bnd (gN h2) (fun b18 => bnd (sA h2 (11, 0) 1) (fun h19 => calx (cR_knot h19) (fun r20 h21 => cal (kX17_init b18 (r20 - (18 : Int32)) h21) (fun r22 h23 => some (.inl b18, h23))))))) else (j13 ())) else (j13 ())))) else (if (gI h2 2 5) = (8 : Int32) then (cal (cR_wrong (2 : Int32) h2) (fun r24 h25 => grd ((gT (cV h25) r24).1 = 20) (some (.inr (1, r24), h25)))) else (bnd (sI h2 2 5 ((gI h2 2 5) + (1 : Int32))) (fun h27 => cal (cR_next h27) (fun r30 h31 => calx (cR_or f h31) (fun r32 h33 => cal (cR_isSign (41 : Int32) h33) (fun r34 h35 => if r34 = 0 then (cal (cR_wrong (1 : Int32) h35) (fun r36 h37 => grd ((gT (cV h37) r36).1 = 20) (some (.inr (1, r36), h37)))) else (bnd (sI h35 2 5 ((gI h35 2 5) - (1 : Int32))) (fun h39 => cal (cR_next h39) (fun r42 h43 => some (.inl r32, h43)))))))))))
def cR_product_5 (f : HP → Option ((Nat ⊕ Nat × Nat) × HP))  (k : Nat → HP → Option ((Nat ⊕ Nat × Nat) × HP)) : Nat → Nat → HP → Option ((Nat ⊕ Nat × Nat) × HP)
  | 0, _, _ => none
  | n + 1, v1, h => cal (cR_isSign (42 : Int32) h) (fun r3 h4 => jon (fun (h6 : HP) => calx (cR_knot h6) (fun r7 h8 => bnd r7 (fun x9 => grd (54 ≤ gN h8) (bnd (gN h8) (fun b11 => bnd (sA h8 (13, 0) 3) (fun h12 => calx (cR_one f h12) (fun r13 h14 => cal (kX19_init b11 x9 v1 r13 h14) (fun r15 h16 => cR_product_5 f k n b11 h16)))))))) (fun j5 => if r3 = 0 then (cal (cR_isSign (47 : Int32) h4) (fun r17 h18 => if r17 = 0 then (k v1 h18) else (j5 h18))) else (j5 h4)))
def cR_product (f : HP → Option ((Nat ⊕ Nat × Nat) × HP))  (h : HP) : Option ((Nat ⊕ Nat × Nat) × HP) := calx (cR_one f h) (fun r1 h2 => cR_product_5 f (fun (x19 : Nat) (h20 : HP) => some (.inl x19, h20)) FU r1 h2)
def cR_sum_5 (f : HP → Option ((Nat ⊕ Nat × Nat) × HP))  (k : Nat → HP → Option ((Nat ⊕ Nat × Nat) × HP)) : Nat → Nat → HP → Option ((Nat ⊕ Nat × Nat) × HP)
  | 0, _, _ => none
  | n + 1, v1, h => cal (cR_isSign (43 : Int32) h) (fun r3 h4 => jon (fun (h6 : HP) => calx (cR_knot h6) (fun r7 h8 => bnd r7 (fun x9 => grd (54 ≤ gN h8) (bnd (gN h8) (fun b11 => bnd (sA h8 (13, 0) 3) (fun h12 => calx (cR_product f h12) (fun r13 h14 => cal (kX19_init b11 x9 v1 r13 h14) (fun r15 h16 => cR_sum_5 f k n b11 h16)))))))) (fun j5 => if r3 = 0 then (cal (cR_isSign (45 : Int32) h4) (fun r17 h18 => if r17 = 0 then (k v1 h18) else (j5 h18))) else (j5 h4)))
def cR_sum (f : HP → Option ((Nat ⊕ Nat × Nat) × HP))  (h : HP) : Option ((Nat ⊕ Nat × Nat) × HP) := calx (cR_product f h) (fun r1 h2 => cR_sum_5 f (fun (x19 : Nat) (h20 : HP) => some (.inl x19, h20)) FU r1 h2)
def cR_compare (f : HP → Option ((Nat ⊕ Nat × Nat) × HP))  (h : HP) : Option ((Nat ⊕ Nat × Nat) × HP) := calx (cR_sum f h) (fun r1 h2 => cal (cR_isSign (60 : Int32) h2) (fun r3 h4 => jon (fun (h6 : HP) => calx (cR_knot h6) (fun r7 h8 => bnd r7 (fun x9 => grd (54 ≤ gN h8) (bnd (gN h8) (fun b11 => bnd (sA h8 (13, 0) 3) (fun h12 => calx (cR_sum f h12) (fun r13 h14 => cal (kX19_init b11 x9 r1 r13 h14) (fun r15 h16 => some (.inl b11, h16))))))))) (fun j5 => if r3 = 0 then (cal (cR_isSign (62 : Int32) h4) (fun r17 h18 => if r17 = 0 then (cal (cR_isSign (61 : Int32) h18) (fun r19 h20 => if r19 = 0 then (if (gI h20 2 3) = (3 : Int32) then (if (256 : Int32) ≤ (gI h20 2 4) then (j5 h20) else (some (.inl r1, h20))) else (some (.inl r1, h20))) else (j5 h20))) else (j5 h18))) else (j5 h4))))
def cR_not (f : HP → Option ((Nat ⊕ Nat × Nat) × HP))  (h : HP) : Option ((Nat ⊕ Nat × Nat) × HP) := cal (cR_isWord (17 : Int32) (17 : Int32) h) (fun r1 h2 => if r1 = 0 then (calx (cR_compare f h2) (fun r3 h4 => some (.inl r3, h4))) else (calx (cR_knot h2) (fun r5 h6 => grd (54 ≤ gN h6) (bnd (gN h6) (fun b8 => bnd (sA h6 (12, 0) 1) (fun h9 => calx (f h9) (fun r10 h11 => cal (kX18_init b8 r10 h11) (fun r12 h13 => some (.inl b8, h13)))))))))
def cR_notN : Nat → HP → Option ((Nat ⊕ Nat × Nat) × HP)
  | 0, _ => none
  | n + 1, h => cR_not (cR_notN n)  h
def cR_line   (h : HP) : Option ((Unit ⊕ Nat × Nat) × HP) := cal (cR_isWord (0 : Int32) (7 : Int32) h) (fun r1 h2 => if r1 = 0 then (cal (cR_wrong (1 : Int32) h2) (fun r3 h4 => grd ((gT (cV h4) r3).1 = 20) (some (.inr (1, r3), h4)))) else (bnd (gI h2 2 4) (fun x6 => cal (cR_isFull x6 h2) (fun r7 h8 => if r7 = 0 then (jon (fun (_u : Unit) => bnd (sI h8 2 6 ((gI h8 2 6) ||| ((1 : Int32) <<< (x6 &&& 31)))) (fun h10 => cal (cR_next h10) (fun r13 h14 => jon (fun (h16 : HP) => cal (cR_isSign (59 : Int32) h16) (fun r17 h18 => if r17 = 0 then (cal (cR_wrong (1 : Int32) h18) (fun r19 h20 => grd ((gT (cV h20) r19).1 = 20) (some (.inr (1, r19), h20)))) else (cal (cR_next h18) (fun r22 h23 => onr (gR (cV h23) 2 7) (fun b24 => grd (shC (cV h23) b24) (bnd (sI h23 b24 11 ((gI h23 b24 11) + (1 : Int32))) (fun h27 => some (.inl (), h27)))))))) (fun j15 => if x6 = (0 : Int32) then (onr (gR (cV h14) 2 7) (fun b31 => grd (shC (cV h14) b31) (grd (54 ≤ gN h14) (bnd (gN h14) (fun b35 => bnd (sA h14 (7, 0) 1) (fun h36 => onr (gR (cV h36) 2 7) (fun b37 => grd (shC (cV h36) b37) (calx (cR_fresh (b37 + 1) h36) (fun r40 h41 => cal (kX12_init b35 r40 h41) (fun r42 h43 => grd (shL (cV h43) (b31 + 1)) (cal (cL_add (b31 + 1) b35 h43) (fun r44 h45 => j15 h45)))))))))))) else if x6 = (1 : Int32) then (calx (cR_person h14) (fun r48 h49 => j15 h49)) else if x6 = (2 : Int32) then (calx (cR_knows h14) (fun r51 h52 => j15 h52)) else if x6 = (3 : Int32) then (calx (cR_question h14) (fun r54 h55 => j15 h55)) else if x6 = (4 : Int32) then (calx (cR_talk h14) (fun r57 h58 => j15 h58)) else if x6 = (5 : Int32) then (onr (gR (cV h14) 2 7) (fun b60 => calx (cR_number (0 : Int32) (99 : Int32) h14) (fun r62 h63 => grd (shC (cV h63) b60) (bnd (sI h63 b60 8 r62) (fun h65 => j15 h65))))) else if x6 = (6 : Int32) then (onr (gR (cV h14) 2 7) (fun b69 => calx (cR_number (0 : Int32) (99999 : Int32) h14) (fun r71 h72 => grd (shC (cV h72) b69) (bnd (sI h72 b69 9 r71) (fun h74 => j15 h74))))) else (cal (cR_isWord (13 : Int32) (14 : Int32) h14) (fun r77 h78 => if r77 = 0 then (cal (cR_wrong (1 : Int32) h78) (fun r79 h80 => grd ((gT (cV h80) r79).1 = 20) (some (.inr (1, r79), h80)))) else (bnd ((gI h78 2 4) - (13 : Int32)) (fun x82 => onr (gR (cV h78) 2 7) (fun b83 => grd (shC (cV h78) b83) (grd (inb x82 2) (if gR (cV h78) (b83 + 10) (x82).toNatClampNeg = none then (cal (cR_next h78) (fun r86 h87 => onr (gR (cV h87) 2 7) (fun b88 => grd (shC (cV h87) b88) (calx (cR_or (cR_notN 100) h87) (fun r91 h92 => grd ((gT (cV h92) (b88 + 10)).1 = 105) (grd (cRs (b88 + 10) (x82).toNatClampNeg = none) (grd ((gT (cV h92) r91).1 = 10 ∨ (gT (cV h92) r91).1 = 11 ∨ (gT (cV h92) r91).1 = 12 ∨ (gT (cV h92) r91).1 = 13) (grd (inb x82 (gT (cV h92) (b88 + 10)).2) (bnd (sR h92 (b88 + 10) (x82).toNatClampNeg (some r91)) (fun h95 => j15 h95)))))))))) else (cal (cR_wrong (3 : Int32) h78) (fun r97 h98 => grd ((gT (cV h98) r97).1 = 20) (some (.inr (1, r97), h98))))))))))))))) (fun j9 => jon (fun (_u : Unit) => if (((gI h8 2 6) >>> (x6 &&& 31)) &&& (1 : Int32)) = (1 : Int32) then (cal (cR_wrong (3 : Int32) h8) (fun r101 h102 => grd ((gT (cV h102) r101).1 = 20) (some (.inr (1, r101), h102)))) else (j9 ())) (fun j100 => if x6 = (5 : Int32) then (j100 ()) else (if x6 = (6 : Int32) then (j100 ()) else (j9 ()))))) else (cal (cR_wrong (2 : Int32) h8) (fun r104 h105 => grd ((gT (cV h105) r104).1 = 20) (some (.inr (1, r104), h105))))))))
def cR_read_35   (k : HP → Option ((Nat ⊕ Nat × Nat) × HP)) : Nat → HP → Option ((Nat ⊕ Nat × Nat) × HP)
  | 0, _ => none
  | n + 1, h => if (gI h 2 3) = (4 : Int32) then (k h) else (calx (cR_line h) (fun r23 h24 => cR_read_35 k n h24))
def cR_read  (a1 : Int32) (h : HP) : Option ((Nat ⊕ Nat × Nat) × HP) := bnd (sI h 2 0 (0 : Int32)) (fun h1 => bnd (sI h1 2 1 a1) (fun h4 => bnd (sI h4 2 5 (0 : Int32)) (fun h7 => bnd (sI h7 2 6 (0 : Int32)) (fun h10 => grd (54 ≤ gN h10) (bnd (gN h10) (fun b14 => bnd (sA h10 (4, 0) 12) (fun h15 => cal (cC_init b14 h15) (fun r16 h17 => bnd (sR h17 2 7 (some b14)) (fun h18 => cal (cR_next h18) (fun r21 h22 => cR_read_35 (fun (h25 : HP) => onr (gR (cV h25) 2 7) (fun b26 => some (.inl b26, h25))) FU h22))))))))))
def cS_begin_2  (f0 : Nat) (k : HP → Option (Unit × HP)) : Nat → Int32 → HP → Option (Unit × HP)
  | 0, _, _ => none
  | n + 1, v1, h => grd (shS (cV h) f0) (cal (cA_persons h) (fun r3 h4 => if r3 ≤ v1 then (k h4) else (grd (shS (cV h4) f0) (onr (gR (cV h4) 0 6) (fun b6 => grd (shC (cV h4) b6) (grd (shL (cV h4) (b6 + 3)) (cal (cL_get (b6 + 3) v1 h4) (fun r9 h10 => grd ((gT (cV h10) r9).1 = 8) (grd ((gT (cV h10) (f0 + 1)).1 = 100) (grd (inb v1 (gT (cV h10) (f0 + 1)).2) (bnd (sI h10 (f0 + 1) (v1).toNatClampNeg (gI h10 r9 4)) (fun h14 => grd (shS (cV h14) f0) (onr (gR (cV h14) 0 6) (fun b18 => grd (shC (cV h14) b18) (grd (shL (cV h14) (b18 + 3)) (cal (cL_get (b18 + 3) v1 h14) (fun r21 h22 => grd ((gT (cV h22) r21).1 = 8) (grd ((gT (cV h22) (f0 + 2)).1 = 100) (grd (inb v1 (gT (cV h22) (f0 + 2)).2) (bnd (sI h22 (f0 + 2) (v1).toNatClampNeg (gI h22 r21 3)) (fun h26 => grd (shS (cV h26) f0) (grd (inb v1 5) (bnd (sI h26 (f0 + 3) (v1).toNatClampNeg (0 : Int32)) (fun h30 => grd (inb v1 5) (bnd (sI h30 (f0 + 4) (v1).toNatClampNeg (0 : Int32)) (fun h33 => bnd (v1 + (1 : Int32)) (fun x36 => cS_begin_2 f0 k n x36 h33)))))))))))))))))))))))))))
def cS_begin  (o : Nat) (h : HP) : Option (Unit × HP) := bnd (0 : Int32) (fun x1 => cS_begin_2 o (fun (h37 : HP) => grd (shS (cV h37) o) (bnd (sI h37 o 4 (0 : Int32)) (fun h39 => bnd (sI h39 o 5 (0 : Int32)) (fun h42 => onr (gR (cV h42) 0 6) (fun b45 => grd (shC (cV h42) b45) (bnd (sI h42 o 6 (gI h42 b45 9)) (fun h48 => bnd (sI h48 o 7 (-1 : Int32)) (fun h51 => bnd (sI h51 o 9 (0 : Int32)) (fun h54 => some ((), h54)))))))))) FU x1 h)
def cA_textX  (a1 : Int32) (h : HP) : Option ((Int32 ⊕ Nat × Nat) × HP) := cal (cA_in (a1).toInt64 (0 : Int64) ((gI h 0 1)).toInt64 h) (fun r1 h2 => if r1 = 0 then (some (.inl (-2 : Int32), h2)) else (bnd (sI h2 0 1 (0 : Int32)) (fun h3 => bnd (sI h3 0 2 (0 : Int32)) (fun h6 => bnd (sI h6 0 3 (-1 : Int32)) (fun h9 => calk1 1 (cR_read a1 h9) (fun r12 h13 => bnd (sR h13 0 6 (some r12)) (fun h18 => cal (cS_begin 20 h18) (fun r21 h22 => bnd (sI h22 0 4 (0 : Int32)) (fun h23 => bnd (sI h23 0 14 (0 : Int32)) (fun h26 => cal (cL_clear 41 h26) (fun r29 h30 => bnd (sI h30 0 23 (-1 : Int32)) (fun h31 => onr (gR (cV h31) 0 6) (fun b34 => grd (shC (cV h31) b34) (some (.inl (gI h31 b34 11), h31)))))))))) (fun a14 h15 => grd ((gT (cV h15) a14).1 = 20) (bnd (sI h15 0 2 (gI h15 a14 6)) (fun h38 => bnd (sI h38 0 3 (gI h38 a14 7)) (fun h41 => some (.inl (-1 : Int32), h41))))))))))
def cA_text (a1 : Int32) (h : HP) := unx (cA_textX a1 h)
def cA_fault  (a1 : Int32) (h : HP) : Option (Int32 × HP) := if a1 = 0 then (some ((gI h 0 2), h)) else (if a1 = (1 : Int32) then (some ((gI h 0 3), h)) else (some ((-1 : Int32), h)))
def cA_named  (a1 : Int32) (a2 : Int32) (h : HP) : Option (Int32 × HP) := if a1 = (0 : Int32) then (onr (gR (cV h) 0 6) (fun b2 => grd (shC (cV h) b2) (cal (kX12_find (b2 + 1) a2 h) (fun r5 h6 => some (r5, h6))))) else if a1 = (1 : Int32) then (onr (gR (cV h) 0 6) (fun b8 => grd (shC (cV h) b8) (cal (kX12_find (b8 + 3) a2 h) (fun r11 h12 => some (r11, h12))))) else if a1 = (2 : Int32) then (onr (gR (cV h) 0 6) (fun b14 => grd (shC (cV h) b14) (cal (kX12_find (b14 + 5) a2 h) (fun r17 h18 => some (r17, h18))))) else (some ((-1 : Int32), h))
def cA_questions   (h : HP) : Option (Int32 × HP) := onr (gR (cV h) 0 6) (fun b1 => grd (shC (cV h) b1) (grd (shL (cV h) (b1 + 5)) (cal (cL_size (b1 + 5) h) (fun r4 h5 => some (r4, h5)))))
def cA_isQuestion  (a1 : Int32) (h : HP) : Option (Int32 × HP) := cal (cA_questions h) (fun r1 h2 => cal (cA_in (a1).toInt64 (0 : Int64) ((r1 - (1 : Int32))).toInt64 h2) (fun r3 h4 => grd (isB r3) (some (r3, h4))))
def cA_question  (a1 : Int32) (a2 : Int32) (h : HP) : Option (Int32 × HP) := cal (cA_isQuestion a1 h) (fun r1 h2 => if r1 = 0 then (some ((-2 : Int32), h2)) else (onr (gR (cV h2) 0 6) (fun b3 => grd (shC (cV h2) b3) (grd (shL (cV h2) (b3 + 5)) (cal (cL_get (b3 + 5) a1 h2) (fun r6 h7 => grd ((gT (cV h7) r6).1 = 9) (if a2 = (0 : Int32) then (some ((gI h7 r6 1), h7)) else if a2 = (1 : Int32) then (some ((gI h7 r6 2), h7)) else if a2 = (2 : Int32) then (some ((gI h7 r6 3), h7)) else if a2 = (3 : Int32) then (some ((gI h7 r6 4), h7)) else (some ((-2 : Int32), h7)))))))))
def cA_isPerson  (a1 : Int32) (h : HP) : Option (Int32 × HP) := cal (cA_persons h) (fun r1 h2 => cal (cA_in (a1).toInt64 (0 : Int64) ((r1 - (1 : Int32))).toInt64 h2) (fun r3 h4 => grd (isB r3) (some (r3, h4))))
def cA_areTwo  (a1 : Int32) (a2 : Int32) (h : HP) : Option (Int32 × HP) := cal (cA_isPerson a1 h) (fun r1 h2 => if r1 = 0 then (some ((0 : Int32), h2)) else (cal (cA_isPerson a2 h2) (fun r3 h4 => if r3 = 0 then (some ((0 : Int32), h4)) else (if a1 = a2 then (some ((0 : Int32), h4)) else (some ((1 : Int32), h4))))))
def cS_isThere  (o : Nat) (a1 : Int32) (h : HP) : Option (Int32 × HP) := grd (shS (cV h) o) (if (((gI h o 9) >>> (a1 &&& 31)) &&& (1 : Int32)) = 0 then (some ((1 : Int32), h)) else (some ((0 : Int32), h)))
def cS_areTogether  (o : Nat) (a1 : Int32) (a2 : Int32) (h : HP) : Option (Int32 × HP) := grd (shS (cV h) o) (cal (cS_isThere o a1 h) (fun r1 h2 => if r1 = 0 then (some ((0 : Int32), h2)) else (grd (shS (cV h2) o) (cal (cS_isThere o a2 h2) (fun r4 h5 => if r4 = 0 then (some ((0 : Int32), h5)) else (grd (shS (cV h5) o) (if (gI h5 o 7) = (1 : Int32) then (some ((1 : Int32), h5)) else (grd (inb a1 5) (grd (inb a2 5) (if (gI h5 (o + 2) (a1).toNatClampNeg) = (gI h5 (o + 2) (a2).toNatClampNeg) then (some ((1 : Int32), h5)) else (some ((0 : Int32), h5))))))))))))
def kX4_bit  (a1 : Int32) (h : HP) : Option (Int32 × HP) := if a1 = (-1 : Int32) then (some ((0 : Int32), h)) else (some (((1 : Int32) <<< (a1 &&& 31)), h))
def kX5_supposes  (o : Nat) (a1 : Nat) (h : HP) : Option (Int32 × HP) := grd ((gT (cV h) a1).1 = 9) (cal (kX4_bit (gI h a1 2) h) (fun r2 h3 => some (r2, h3)))
def kX6_supposes  (o : Nat) (a1 : Nat) (h : HP) : Option (Int32 × HP) := grd ((gT (cV h) o).1 = 17) (cal (kX5_supposes o a1 h) (fun r1 h2 => grd ((gT (cV h2) a1).1 = 9) (cal (kX4_bit (gI h2 a1 3) h2) (fun r5 h6 => some ((r1 ||| r5), h6)))))
def cK_supposes (o : Nat) (a1 : Nat) (h : HP) : Option (Int32 × HP) := if (gT (cV h) o).1 = 16 then kX5_supposes o a1 h else if (gT (cV h) o).1 = 17 then kX6_supposes o a1 h else if (gT (cV h) o).1 = 18 then kX5_supposes o a1 h else if (gT (cV h) o).1 = 19 then kX5_supposes o a1 h else none
def cS_can  (o : Nat) (a1 : Int32) (a2 : Int32) (a3 : Int32) (a4 : Int32) (h : HP) : Option (Int32 × HP) := grd (shS (cV h) o) (onr (gR (cV h) 0 6) (fun b2 => grd (shC (cV h) b2) (grd (shL (cV h) (b2 + 5)) (cal (cL_get (b2 + 5) a3 h) (fun r5 h6 => grd ((gT (cV h6) r5).1 = 9) (if a1 = a2 then (some ((0 : Int32), h6)) else (grd (shS (cV h6) o) (cal (cS_areTogether o a1 a2 h6) (fun r9 h10 => if r9 = 0 then (some ((0 : Int32), h10)) else (grd (shS (cV h10) o) (jon (fun (_u : Unit) => jon (fun (_u : Unit) => grd ((gT (cV h10) r5).1 = 9) (grd (inb (gI h10 r5 1) 4) (onr (gR (cV h10) 15 ((gI h10 r5 1)).toNatClampNeg) (fun b16 => cal (cK_supposes b16 r5 h10) (fun r17 h18 => grd (shS (cV h18) o) (grd (inb a1 5) (if (r17 &&& ((gI h18 (o + 1) (a1).toNatClampNeg) ^^^ (-1 : Int32))) = 0 then (some ((1 : Int32), h18)) else (some ((0 : Int32), h18))))))))) (fun j14 => if a4 = 0 then (j14 ()) else (grd (inb a1 5) (onr (gR (cV h10) 0 6) (fun b24 => grd (shC (cV h10) b24) (if (gI h10 (o + 4) (a1).toNatClampNeg) < (gI h10 b24 8) then (j14 ()) else (some ((0 : Int32), h10)))))))) (fun j13 => if (gI h10 o 7) = (3 : Int32) then (if (gI h10 o 8) = a3 then (some ((0 : Int32), h10)) else (j13 ())) else (j13 ())))))))))))))
def cA_can  (a1 : Int32) (a2 : Int32) (a3 : Int32) (h : HP) : Option (Int32 × HP) := cal (cA_areTwo a1 a2 h) (fun r1 h2 => if r1 = 0 then (some ((-1 : Int32), h2)) else (cal (cA_isQuestion a3 h2) (fun r3 h4 => if r3 = 0 then (some ((-1 : Int32), h4)) else (cal (cS_can 20 a1 a2 a3 (1 : Int32) h4) (fun r5 h6 => if r5 = 0 then (some ((0 : Int32), h6)) else (some ((1 : Int32), h6)))))))
def cS_wit  (o : Nat) (a1 : Int32) (h : HP) : Option (Int32 × HP) := grd (shS (cV h) o) (if (gI h o 7) = (4 : Int32) then (some ((9 : Int32), h)) else (onr (gR (cV h) 0 6) (fun b2 => grd (shC (cV h) b2) (grd (shL (cV h) (b2 + 3)) (cal (cL_get (b2 + 3) a1 h) (fun r5 h6 => grd ((gT (cV h6) r5).1 = 8) (some ((gI h6 r5 2), h6))))))))
def cS_name  (o : Nat) (a1 : Int32) (a2 : Int32) (h : HP) : Option (Unit × HP) := grd (shS (cV h) o) (onr (gR (cV h) 0 6) (fun b2 => grd (shC (cV h) b2) (grd (shL (cV h) (b2 + 3)) (cal (cL_get (b2 + 3) a1 h) (fun r5 h6 => grd ((gT (cV h6) r5).1 = 8) (grd (inb (0 : Int32) 7) (bnd (sL h6 14 ((0 : Int32)).toNatClampNeg ((gI h6 r5 1)).toInt64) (fun h9 => grd (shS (cV h9) o) (cal (cS_wit o a1 h9) (fun r13 h14 => grd (inb (1 : Int32) 7) (bnd (sL h14 14 ((1 : Int32)).toNatClampNeg (r13).toInt64) (fun h15 => grd (shS (cV h15) o) (grd (inb a1 5) (grd (inb (2 : Int32) 7) (bnd (sL h15 14 ((2 : Int32)).toNatClampNeg ((gI h15 (o + 3) (a1).toNatClampNeg)).toInt64) (fun h19 => grd (inb a1 5) (cal (kJ18_bitCount (gI h19 (o + 1) (a1).toNatClampNeg) h19) (fun r22 h23 => grd (inb (3 : Int32) 7) (bnd (sL h23 14 ((3 : Int32)).toNatClampNeg (r22).toInt64) (fun h24 => grd (shS (cV h24) o) (jon (fun (s29 : Int64) => grd (inb (4 : Int32) 7) (bnd (sL h24 14 ((4 : Int32)).toNatClampNeg s29) (fun h30 => grd (inb (5 : Int32) 7) (bnd (sL h30 14 ((5 : Int32)).toNatClampNeg (a2).toInt64) (fun h33 => grd (inb (6 : Int32) 7) (bnd (sL h33 14 ((6 : Int32)).toNatClampNeg ((gI h33 o 4)).toInt64) (fun h36 => some ((), h36)))))))) (fun j28 => if (gI h24 o 7) = (1 : Int32) then (j28 (0 : Int64)) else (grd (inb a1 5) (j28 ((gI h24 (o + 2) (a1).toNatClampNeg)).toInt64))))))))))))))))))))))))
def kX16_of (f : Nat → Nat → HP → Option ((Int64 ⊕ Nat × Nat) × HP)) (o : Nat) (a1 : Nat) (h : HP) : Option ((Int64 ⊕ Nat × Nat) × HP) := grd ((gT (cV h) o).1 = 10) (some (.inl ((gI h o 0)).toInt64, h))
def kX17_of (f : Nat → Nat → HP → Option ((Int64 ⊕ Nat × Nat) × HP)) (o : Nat) (a1 : Nat) (h : HP) : Option ((Int64 ⊕ Nat × Nat) × HP) := grd ((gT (cV h) o).1 = 11) (grd ((gT (cV h) a1).1 = 101) (grd (inb (gI h o 0) (gT (cV h) a1).2) (some (.inl (gL h a1 ((gI h o 0)).toNatClampNeg), h))))
def kX19_is  (a1 : Int32) (h : HP) : Option (Int64 × HP) := if a1 = 0 then (some ((0 : Int64), h)) else (some ((1 : Int64), h))
def kX19_times  (a1 : Int64) (a2 : Int64) (h : HP) : Option ((Int64 ⊕ Nat × Nat) × HP) := if (lg_cmp a1 (0 : Int64)) = 0 then (some (.inl (a1 * a2), h)) else (grd (¬ (if 0 < a1 then a1 else -a1) = 0) (if (lg_cmp (if 0 < a2 then a2 else -a2) ((1000000000000 : Int64) / (if 0 < a1 then a1 else -a1))) ≤ 0 then (some (.inl (a1 * a2), h)) else (some (.inr (2, 0), h))))
def cA_sure  (a1 : Int64) (h : HP) : Option ((Int64 ⊕ Nat × Nat) × HP) := jon (fun (_u : Unit) => some (.inr (2, 0), h)) (fun j1 => if 0 < (lg_cmp a1 (1000000000000 : Int64)) then (j1 ()) else (if 0 ≤ (lg_cmp a1 (-1000000000000 : Int64)) then (some (.inl a1, h)) else (j1 ())))
def kX19_of (f : Nat → Nat → HP → Option ((Int64 ⊕ Nat × Nat) × HP)) (o : Nat) (a1 : Nat) (h : HP) : Option ((Int64 ⊕ Nat × Nat) × HP) := grd ((gT (cV h) o).1 = 13) (onr (gR (cV h) o 0) (fun b2 => calx (f b2 a1 h) (fun r4 h5 => bnd r4 (fun x6 => grd ((gT (cV h5) o).1 = 13) (onr (gR (cV h5) o 2) (fun b8 => calx (f b8 a1 h5) (fun r10 h11 => bnd r10 (fun x12 => grd ((gT (cV h11) o).1 = 13) (if (gI h11 o 1) = (16 : Int32) then (if (lg_cmp x6 (0 : Int64)) = 0 then (cal (kX19_is (0 : Int32) h11) (fun r15 h16 => some (.inl r15, h16))) else (if (lg_cmp x12 (0 : Int64)) = 0 then (cal (kX19_is (0 : Int32) h11) (fun r17 h18 => some (.inl r17, h18))) else (cal (kX19_is (1 : Int32) h11) (fun r19 h20 => some (.inl r19, h20))))) else if (gI h11 o 1) = (42 : Int32) then (calx (kX19_times x6 x12 h11) (fun r22 h23 => some (.inl r22, h23))) else if (gI h11 o 1) = (43 : Int32) then (calx (cA_sure (x6 + x12) h11) (fun r25 h26 => some (.inl r25, h26))) else if (gI h11 o 1) = (45 : Int32) then (calx (cA_sure (x6 - x12) h11) (fun r28 h29 => some (.inl r28, h29))) else if (gI h11 o 1) = (47 : Int32) then (if (lg_cmp x12 (0 : Int64)) = 0 then (some (.inr (2, 0), h11)) else (grd (¬ x12 = 0) (some (.inl (x6 / x12), h11)))) else if (gI h11 o 1) = (60 : Int32) then (if 0 ≤ (lg_cmp x6 x12) then (cal (kX19_is (0 : Int32) h11) (fun r32 h33 => some (.inl r32, h33))) else (cal (kX19_is (1 : Int32) h11) (fun r34 h35 => some (.inl r34, h35)))) else if (gI h11 o 1) = (61 : Int32) then (if (lg_cmp x6 x12) = 0 then (cal (kX19_is (1 : Int32) h11) (fun r37 h38 => some (.inl r37, h38))) else (cal (kX19_is (0 : Int32) h11) (fun r39 h40 => some (.inl r39, h40)))) else if (gI h11 o 1) = (62 : Int32) then (if (lg_cmp x6 x12) ≤ 0 then (cal (kX19_is (0 : Int32) h11) (fun r42 h43 => some (.inl r42, h43))) else (cal (kX19_is (1 : Int32) h11) (fun r44 h45 => some (.inl r44, h45)))) else if (gI h11 o 1) = (256 : Int32) then (if 0 < (lg_cmp x6 x12) then (cal (kX19_is (0 : Int32) h11) (fun r47 h48 => some (.inl r47, h48))) else (cal (kX19_is (1 : Int32) h11) (fun r49 h50 => some (.inl r49, h50)))) else if (gI h11 o 1) = (257 : Int32) then (if (lg_cmp x6 x12) < 0 then (cal (kX19_is (0 : Int32) h11) (fun r52 h53 => some (.inl r52, h53))) else (cal (kX19_is (1 : Int32) h11) (fun r54 h55 => some (.inl r54, h55)))) else if (gI h11 o 1) = (258 : Int32) then (if (lg_cmp x6 x12) = 0 then (cal (kX19_is (0 : Int32) h11) (fun r57 h58 => some (.inl r57, h58))) else (cal (kX19_is (1 : Int32) h11) (fun r59 h60 => some (.inl r59, h60)))) else (if (lg_cmp x6 (0 : Int64)) = 0 then (if (lg_cmp x12 (0 : Int64)) = 0 then (cal (kX19_is (0 : Int32) h11) (fun r61 h62 => some (.inl r61, h62))) else (cal (kX19_is (1 : Int32) h11) (fun r63 h64 => some (.inl r63, h64)))) else (cal (kX19_is (1 : Int32) h11) (fun r65 h66 => some (.inl r65, h66)))))))))))))
def kX18_of (f : Nat → Nat → HP → Option ((Int64 ⊕ Nat × Nat) × HP)) (o : Nat) (a1 : Nat) (h : HP) : Option ((Int64 ⊕ Nat × Nat) × HP) := grd ((gT (cV h) o).1 = 12) (onr (gR (cV h) o 0) (fun b2 => calx (f b2 a1 h) (fun r4 h5 => if (lg_cmp r4 (0 : Int64)) = 0 then (some (.inl (1 : Int64), h5)) else (some (.inl (0 : Int64), h5)))))
def cP_of : Nat → Nat → Nat → HP → Option ((Int64 ⊕ Nat × Nat) × HP)
  | 0, _, _, _ => none
  | n + 1, o, a, h => if (gT (cV h) o).1 = 10 then kX16_of (cP_of n) o a h else if (gT (cV h) o).1 = 11 then kX17_of (cP_of n) o a h else if (gT (cV h) o).1 = 12 then kX18_of (cP_of n) o a h else if (gT (cV h) o).1 = 13 then kX19_of (cP_of n) o a h else none
def cA_workX  (a1 : Int32) (h : HP) : Option ((Int64 ⊕ Nat × Nat) × HP) := onr (gR (cV h) 0 6) (fun b1 => grd (shC (cV h) b1) (grd (inb a1 2) (if gR (cV h) (b1 + 10) (a1).toNatClampNeg = none then (some (.inl (-9223372036854775808 : Int64), h)) else (onr (gR (cV h) 0 6) (fun b4 => grd (shC (cV h) b4) (grd (inb a1 2) (onr (gR (cV h) (b4 + 10) (a1).toNatClampNeg) (fun b7 => calk1 2 (cP_of 80 b7 14 h) (fun r8 h9 => some (.inl r8, h9)) (fun a10 h11 => some (.inl (-9223372036854775808 : Int64), h11))))))))))
def cA_work (a1 : Int32) (h : HP) := unx (cA_workX a1 h)
def cA_law  (a1 : Int32) (a2 : Int32) (a3 : Int32) (h : HP) : Option (Int64 × HP) := cal (cA_in (a1).toInt64 (0 : Int64) (1 : Int64) h) (fun r1 h2 => if r1 = 0 then (some ((-9223372036854775808 : Int64), h2)) else (cal (cA_isPerson a2 h2) (fun r3 h4 => if r3 = 0 then (some ((-9223372036854775808 : Int64), h4)) else (cal (cA_isQuestion a3 h4) (fun r5 h6 => if r5 = 0 then (some ((-9223372036854775808 : Int64), h6)) else (onr (gR (cV h6) 0 6) (fun b7 => grd (shC (cV h6) b7) (grd (shL (cV h6) (b7 + 5)) (cal (cL_get (b7 + 5) a3 h6) (fun r10 h11 => grd ((gT (cV h11) r10).1 = 9) (cal (cS_name 20 a2 (gI h11 r10 1) h11) (fun r14 h15 => jon (fun (s17 : Int32) => cal (cA_work s17 h15) (fun r18 h19 => some (r18, h19))) (fun j16 => if a1 = 0 then (j16 (0 : Int32)) else (j16 (1 : Int32)))))))))))))))
def cS_init  (o : Nat) (a1 : Nat) (h : HP) : Option (Unit × HP) := grd ((gT (cV h) o).1 = 6) (grd (54 ≤ o) (bnd (sR h o 10 (some a1)) (fun h2 => grd (54 ≤ gN h2) (bnd (gN h2) (fun b7 => bnd (sA h2 (100, 5) 5) (fun h8 => grd ((gT (cV h8) o).1 = 6) (grd (54 ≤ o) (bnd (sR h8 o 0 (some b7)) (fun h10 => grd (54 ≤ gN h10) (bnd (gN h10) (fun b15 => bnd (sA h10 (100, 5) 5) (fun h16 => grd ((gT (cV h16) o).1 = 6) (grd (54 ≤ o) (bnd (sR h16 o 1 (some b15)) (fun h18 => grd (54 ≤ gN h18) (bnd (gN h18) (fun b23 => bnd (sA h18 (100, 5) 5) (fun h24 => grd ((gT (cV h24) o).1 = 6) (grd (54 ≤ o) (bnd (sR h24 o 2 (some b23)) (fun h26 => grd (54 ≤ gN h26) (bnd (gN h26) (fun b31 => bnd (sA h26 (100, 5) 5) (fun h32 => grd ((gT (cV h32) o).1 = 6) (grd (54 ≤ o) (bnd (sR h32 o 3 (some b31)) (fun h34 => some ((), h34))))))))))))))))))))))))))))
def cS_become_2  (f0 : Nat) (f1 : Nat) (k : HP → Option (Unit × HP)) : Nat → Int32 → HP → Option (Unit × HP)
  | 0, _, _ => none
  | n + 1, v2, h => if (5 : Int32) ≤ v2 then (k h) else (grd (shS (cV h) f0) (grd (shS (cV h) f1) (grd (inb v2 5) (grd (inb v2 5) (bnd (sI h (f0 + 1) (v2).toNatClampNeg (gI h (f1 + 1) (v2).toNatClampNeg)) (fun h4 => grd (inb v2 5) (grd (inb v2 5) (bnd (sI h4 (f0 + 2) (v2).toNatClampNeg (gI h4 (f1 + 2) (v2).toNatClampNeg)) (fun h7 => grd (inb v2 5) (grd (inb v2 5) (bnd (sI h7 (f0 + 3) (v2).toNatClampNeg (gI h7 (f1 + 3) (v2).toNatClampNeg)) (fun h10 => grd (inb v2 5) (grd (inb v2 5) (bnd (sI h10 (f0 + 4) (v2).toNatClampNeg (gI h10 (f1 + 4) (v2).toNatClampNeg)) (fun h13 => bnd (v2 + (1 : Int32)) (fun x16 => cS_become_2 f0 f1 k n x16 h13))))))))))))))))
def cS_become  (o : Nat) (a1 : Nat) (h : HP) : Option (Unit × HP) := bnd (0 : Int32) (fun x1 => cS_become_2 o a1 (fun (h17 : HP) => grd (shS (cV h17) a1) (grd (shS (cV h17) o) (bnd (sI h17 o 4 (gI h17 a1 4)) (fun h20 => bnd (sI h20 o 5 (gI h20 a1 5)) (fun h23 => bnd (sI h23 o 6 (gI h23 a1 6)) (fun h26 => bnd (sI h26 o 7 (gI h26 a1 7)) (fun h29 => bnd (sI h29 o 8 (gI h29 a1 8)) (fun h32 => bnd (sI h32 o 9 (gI h32 a1 9)) (fun h35 => some ((), h35)))))))))) FU x1 h)
def cA_keepNow_18  (f1 : Nat) (k : HP → Option (Unit × HP)) : Nat → Int32 → HP → Option (Unit × HP)
  | 0, _, _ => none
  | n + 1, v2, h => if (20 : Int32) ≤ v2 then (k h) else (grd (inb v2 20) (onr (gR (cV h) 35 (v2).toNatClampNeg) (fun b26 => grd ((gT (cV h) b26).1 = 6) (grd (inb (v2 - (1 : Int32)) 20) (bnd (sR h 35 ((v2 - (1 : Int32))).toNatClampNeg (some b26)) (fun h27 => bnd (v2 + (1 : Int32)) (fun x29 => cA_keepNow_18 f1 k n x29 h27)))))))
def cA_keepNow   (h : HP) : Option (Unit × HP) := jon (fun (h2 : HP) => grd (inb (gI h2 0 4) 20) (if gR (cV h2) 35 ((gI h2 0 4)).toNatClampNeg = none then (grd (54 ≤ gN h2) (bnd (gN h2) (fun b4 => bnd (sA h2 (6, 0) 11) (fun h5 => cal (cS_init b4 0 h5) (fun r6 h7 => grd ((gT (cV h7) b4).1 = 6) (grd (inb (gI h2 0 4) 20) (bnd (sR h7 35 ((gI h2 0 4)).toNatClampNeg (some b4)) (fun h8 => grd (inb (gI h8 0 4) 20) (onr (gR (cV h8) 35 ((gI h8 0 4)).toNatClampNeg) (fun b10 => grd (shS (cV h8) b10) (cal (cS_become b10 20 h8) (fun r11 h12 => bnd (sI h12 0 4 ((gI h12 0 4) + (1 : Int32))) (fun h14 => some ((), h14)))))))))))))) else (grd (inb (gI h2 0 4) 20) (onr (gR (cV h2) 35 ((gI h2 0 4)).toNatClampNeg) (fun b17 => grd (shS (cV h2) b17) (cal (cS_become b17 20 h2) (fun r18 h19 => bnd (sI h19 0 4 ((gI h19 0 4) + (1 : Int32))) (fun h21 => some ((), h21))))))))) (fun j1 => if (gI h 0 4) = (20 : Int32) then (grd (inb (0 : Int32) 20) (onr (gR (cV h) 35 ((0 : Int32)).toNatClampNeg) (fun b24 => bnd (1 : Int32) (fun x25 => cA_keepNow_18 b24 (fun (h30 : HP) => grd ((gT (cV h30) b24).1 = 6) (grd (inb (19 : Int32) 20) (bnd (sR h30 35 ((19 : Int32)).toNatClampNeg (some b24)) (fun h31 => bnd (sI h31 0 4 ((gI h31 0 4) - (1 : Int32))) (fun h33 => j1 h33))))) FU x25 h)))) else (j1 h))
def kX4_isHeard  (o : Nat) (a1 : Int32) (h : HP) : Option (Int32 × HP) := some ((1 : Int32), h)
def kX7_isHeard  (o : Nat) (a1 : Int32) (h : HP) : Option (Int32 × HP) := grd ((gT (cV h) o).1 = 18) (cal (kX4_isHeard o a1 h) (fun r1 h2 => if r1 = 0 then (some ((0 : Int32), h2)) else (if a1 < (5 : Int32) then (some ((0 : Int32), h2)) else (some ((1 : Int32), h2)))))
def cK_isHeard (o : Nat) (a1 : Int32) (h : HP) : Option (Int32 × HP) := if (gT (cV h) o).1 = 16 then kX4_isHeard o a1 h else if (gT (cV h) o).1 = 17 then kX4_isHeard o a1 h else if (gT (cV h) o).1 = 18 then kX7_isHeard o a1 h else if (gT (cV h) o).1 = 19 then kX4_isHeard o a1 h else none
def cS_hears  (o : Nat) (a1 : Int32) (a2 : Nat) (h : HP) : Option (Int32 × HP) := grd ((gT (cV h) a2).1 = 9) (grd (shS (cV h) o) (cal (cS_name o a1 (gI h a2 1) h) (fun r2 h3 => grd (shS (cV h3) o) (cal (cA_work (1 : Int32) h3) (fun r6 h7 => bnd r6 (fun x8 => if (lg_cmp x8 (-9223372036854775808 : Int64)) = 0 then (grd (shS (cV h7) o) (grd ((gT (cV h7) a2).1 = 9) (grd (inb (gI h7 a2 1) 4) (onr (gR (cV h7) 15 ((gI h7 a2 1)).toNatClampNeg) (fun b11 => cal (cS_wit o a1 h7) (fun r12 h13 => cal (cK_isHeard b11 r12 h13) (fun r14 h15 => grd (isB r14) (some (r14, h15))))))))) else (if (lg_cmp x8 (0 : Int64)) = 0 then (some ((0 : Int32), h7)) else (some ((1 : Int32), h7)))))))))
def cS_odds  (o : Nat) (a1 : Int32) (a2 : Nat) (h : HP) : Option (Int32 × HP) := grd (shS (cV h) o) (if (gI h o 7) = 0 then (some ((0 : Int32), h)) else (grd ((gT (cV h) a2).1 = 9) (cal (cS_name o a1 (gI h a2 1) h) (fun r3 h4 => grd (shS (cV h4) o) (cal (cA_work (0 : Int32) h4) (fun r6 h7 => bnd r6 (fun x8 => if (lg_cmp x8 (-9223372036854775808 : Int64)) = 0 then (grd (shS (cV h7) o) (onr (gR (cV h7) 0 6) (fun b10 => grd (shC (cV h7) b10) (grd (shL (cV h7) (b10 + 3)) (cal (cL_get (b10 + 3) a1 h7) (fun r13 h14 => grd ((gT (cV h14) r13).1 = 8) (some (((10 : Int32) * (gI h14 r13 1)), h14)))))))) else (some (((if (if x8 < (100 : Int64) then x8 else (100 : Int64)) < (0 : Int64) then (0 : Int64) else (if x8 < (100 : Int64) then x8 else (100 : Int64)))).toInt32, h7)))))))))
def cS_draw  (o : Nat) (a1 : Int32) (h : HP) : Option (Int32 × HP) := grd (shS (cV h) o) (bnd (sI h o 6 ((((gI h o 6) * (1103515245 : Int32)) + (12345 : Int32)) &&& (2147483647 : Int32))) (fun h2 => grd (¬ a1 = 0) (some ((((gI h2 o 6) >>> ((16 : Int32) &&& 31)) - ((gI h2 o 6) >>> ((16 : Int32) &&& 31)) / a1 * a1), h2))))
def kX4_asks  (o : Nat) (a1 : Nat) (h : HP) : Option (Int32 × HP) := grd ((gT (cV h) a1).1 = 9) (some ((gI h a1 4), h))
def kX8_asks  (o : Nat) (a1 : Nat) (h : HP) : Option (Int32 × HP) := some ((-1 : Int32), h)
def cK_asks (o : Nat) (a1 : Nat) (h : HP) : Option (Int32 × HP) := if (gT (cV h) o).1 = 16 then kX4_asks o a1 h else if (gT (cV h) o).1 = 17 then kX4_asks o a1 h else if (gT (cV h) o).1 = 18 then kX4_asks o a1 h else if (gT (cV h) o).1 = 19 then kX8_asks o a1 h else none
def cS_ask_75  (f0 : Nat) (f1 : Int32) (f2 : Int32) (f4 : Int32) (f5 : Nat) (f7 : Int32) (f8 : Int32) (k : HP → Option (Int32 × HP)) : Nat → Int32 → HP → Option (Int32 × HP)
  | 0, _, _ => none
  | n + 1, v9, h => grd (shS (cV h) f0) (cal (cA_persons h) (fun r26 h27 => if r26 ≤ v9 then (k h27) else (if v9 = f1 then (bnd (v9 + (1 : Int32)) (fun x28 => cS_ask_75 f0 f1 f2 f4 f5 f7 f8 k n x28 h27)) else (grd (shS (cV h27) f0) (cal (cS_areTogether f0 f1 v9 h27) (fun r29 h30 => if r29 = 0 then (bnd (v9 + (1 : Int32)) (fun x32 => cS_ask_75 f0 f1 f2 f4 f5 f7 f8 k n x32 h30)) else (grd (shS (cV h30) f0) (cal (cS_hears f0 v9 f5 h30) (fun r33 h34 => if r33 = 0 then (bnd (v9 + (1 : Int32)) (fun x36 => cS_ask_75 f0 f1 f2 f4 f5 f7 f8 k n x36 h34)) else (grd (shS (cV h34) f0) (grd (inb v9 5) (grd (inb v9 5) (bnd (sI h34 (f0 + 1) (v9).toNatClampNeg ((gI h34 (f0 + 1) (v9).toNatClampNeg) ||| f7)) (fun h38 => bnd (v9 + (1 : Int32)) (fun x41 => cS_ask_75 f0 f1 f2 f4 f5 f7 f8 k n x41 h38)))))))))))))))
def cS_ask_222  (f0 : Nat) (f2 : Int32) (f8 : Int32) (k : HP → Option (Int32 × HP)) : Nat → Int32 → HP → Option (Int32 × HP)
  | 0, _, _ => none
  | n + 1, v11, h => grd (shS (cV h) f0) (cal (cA_persons h) (fun r55 h56 => if r55 ≤ v11 then (k h56) else (grd (shS (cV h56) f0) (cal (cS_areTogether f0 f2 v11 h56) (fun r57 h58 => if r57 = 0 then (bnd (v11 + (1 : Int32)) (fun x60 => cS_ask_222 f0 f2 f8 k n x60 h58)) else (grd (shS (cV h58) f0) (grd (inb v11 5) (grd (inb v11 5) (bnd (sI h58 (f0 + 1) (v11).toNatClampNeg ((gI h58 (f0 + 1) (v11).toNatClampNeg) ||| ((1 : Int32) <<< (f8 &&& 31)))) (fun h62 => bnd (v11 + (1 : Int32)) (fun x65 => cS_ask_222 f0 f2 f8 k n x65 h62)))))))))))
def cS_ask  (o : Nat) (a1 : Int32) (a2 : Int32) (a3 : Int32) (a4 : Int32) (h : HP) : Option (Int32 × HP) := grd (shS (cV h) o) (onr (gR (cV h) 0 6) (fun b2 => grd (shC (cV h) b2) (grd (shL (cV h) (b2 + 5)) (cal (cL_get (b2 + 5) a3 h) (fun r5 h6 => grd ((gT (cV h6) r5).1 = 9) (grd (shS (cV h6) o) (grd (inb (gI h6 r5 1) 4) (onr (gR (cV h6) 15 ((gI h6 r5 1)).toNatClampNeg) (fun b10 => cal (cK_supposes b10 r5 h6) (fun r11 h12 => bnd r11 (fun x13 => cal (cK_asks b10 r5 h12) (fun r14 h15 => bnd r14 (fun x16 => grd (shS (cV h15) o) (grd (inb a1 5) (grd (inb a1 5) (bnd (sI h15 (o + 4) (a1).toNatClampNeg ((gI h15 (o + 4) (a1).toNatClampNeg) + (1 : Int32))) (fun h18 => bnd (sI h18 o 5 ((gI h18 o 5) + (1 : Int32))) (fun h21 => bnd (0 : Int32) (fun x24 => cS_ask_75 o a1 a2 a4 r5 x13 x16 (fun (h42 : HP) => if x16 = (-1 : Int32) then (some ((0 : Int32), h42)) else (grd (shS (cV h42) o) (grd (inb a2 5) (if (((gI h42 (o + 1) (a2).toNatClampNeg) >>> (x16 &&& 31)) &&& (1 : Int32)) = 0 then (some ((0 : Int32), h42)) else (cal (cS_odds o a2 r5 h42) (fun r44 h45 => bnd r44 (fun x46 => jon (fun (s48 : Int32) => bnd s48 (fun x49 => jon (fun (x51 : Int32) (h52 : HP) => if x51 = 0 then (some ((0 : Int32), h52)) else (bnd (0 : Int32) (fun x53 => cS_ask_222 o a2 x16 (fun (h66 : HP) => grd (shS (cV h66) o) (grd (inb a2 5) (grd (inb a2 5) (bnd (sI h66 (o + 3) (a2).toNatClampNeg ((gI h66 (o + 3) (a2).toNatClampNeg) + (1 : Int32))) (fun h68 => some ((1 : Int32), h68)))))) FU x53 h52))) (fun j50 => if a4 = 0 then (j50 x49 h45) else (jon (fun (s72 : Int32) (h73 : HP) => bnd s72 (fun x74 => j50 x74 h73)) (fun j71 => jon (fun (h76 : HP) => j71 (1 : Int32) h76) (fun j75 => if x46 = (100 : Int32) then (j75 h45) else (jon (fun (h78 : HP) => j71 (0 : Int32) h78) (fun j77 => if x46 ≤ 0 then (j77 h45) else (grd (shS (cV h45) o) (cal (cS_draw o (100 : Int32) h45) (fun r79 h80 => if x46 ≤ r79 then (j77 h80) else (j75 h80)))))))))))) (fun j47 => if x46 < (50 : Int32) then (j47 (0 : Int32)) else (j47 (1 : Int32)))))))))) FU x24 h21)))))))))))))))))))
def cA_ask  (a1 : Int32) (a2 : Int32) (a3 : Int32) (h : HP) : Option (Int32 × HP) := cal (cA_areTwo a1 a2 h) (fun r1 h2 => if r1 = 0 then (some ((-1 : Int32), h2)) else (cal (cA_isQuestion a3 h2) (fun r3 h4 => if r3 = 0 then (some ((-1 : Int32), h4)) else (cal (cS_can 20 a1 a2 a3 (1 : Int32) h4) (fun r5 h6 => if r5 = 0 then (some ((-2 : Int32), h6)) else (cal (cA_keepNow h6) (fun r7 h8 => cal (cS_ask 20 a1 a2 a3 (1 : Int32) h8) (fun r9 h10 => if r9 = 0 then (some ((0 : Int32), h10)) else (some ((1 : Int32), h10))))))))))
def cA_isFact  (a1 : Int32) (h : HP) : Option (Int32 × HP) := onr (gR (cV h) 0 6) (fun b1 => grd (shC (cV h) b1) (grd (shL (cV h) (b1 + 1)) (cal (cL_size (b1 + 1) h) (fun r4 h5 => cal (cA_in (a1).toInt64 (0 : Int64) ((r4 - (1 : Int32))).toInt64 h5) (fun r7 h8 => grd (isB r7) (some (r7, h8)))))))
def cA_tell  (a1 : Int32) (a2 : Int32) (h : HP) : Option (Int32 × HP) := cal (cA_isPerson a1 h) (fun r1 h2 => if r1 = 0 then (some ((0 : Int32), h2)) else (cal (cA_isFact a2 h2) (fun r3 h4 => if r3 = 0 then (some ((0 : Int32), h4)) else (grd (inb a1 5) (if (((gI h4 21 (a1).toNatClampNeg) >>> (a2 &&& 31)) &&& (1 : Int32)) = (1 : Int32) then (some ((0 : Int32), h4)) else (cal (cA_keepNow h4) (fun r5 h6 => grd (inb a1 5) (grd (inb a1 5) (bnd (sI h6 21 (a1).toNatClampNeg ((gI h6 21 (a1).toNatClampNeg) ||| ((1 : Int32) <<< (a2 &&& 31)))) (fun h7 => some ((1 : Int32), h7)))))))))))
def cA_send  (a1 : Int32) (a2 : Int32) (h : HP) : Option (Int32 × HP) := cal (cA_isPerson a1 h) (fun r1 h2 => if r1 = 0 then (some ((0 : Int32), h2)) else (cal (cA_in (a2).toInt64 (0 : Int64) (3 : Int64) h2) (fun r3 h4 => if r3 = 0 then (some ((0 : Int32), h4)) else (grd (inb a1 5) (if (gI h4 22 (a1).toNatClampNeg) = a2 then (some ((0 : Int32), h4)) else (cal (cA_keepNow h4) (fun r5 h6 => grd (inb a1 5) (bnd (sI h6 22 (a1).toNatClampNeg a2) (fun h7 => some ((1 : Int32), h7))))))))))
def cA_end_34   (k : HP → Option (Int32 × HP)) : Nat → Int32 → HP → Option (Int32 × HP)
  | 0, _, _ => none
  | n + 1, v1, h => if (5 : Int32) ≤ v1 then (k h) else (grd (inb v1 5) (bnd (sI h 24 (v1).toNatClampNeg (0 : Int32)) (fun h7 => bnd (v1 + (1 : Int32)) (fun x10 => cA_end_34 k n x10 h7))))
def cA_end   (h : HP) : Option (Int32 × HP) := if (gI h 20 4) = (999 : Int32) then (some ((-1 : Int32), h)) else (cal (cA_keepNow h) (fun r1 h2 => bnd (sI h2 20 4 ((gI h2 20 4) + (1 : Int32))) (fun h3 => bnd (0 : Int32) (fun x6 => cA_end_34 (fun (h11 : HP) => some ((gI h11 20 4), h11)) FU x6 h3))))
def cS_sum_4  (f0 : Nat) (k : Int32 → HP → Option (Int32 × HP)) : Nat → Int32 → Int32 → HP → Option (Int32 × HP)
  | 0, _, _, _ => none
  | n + 1, v1, v2, h => grd (shS (cV h) f0) (cal (cA_persons h) (fun r4 h5 => if r4 ≤ v2 then (k v1 h5) else (grd (shS (cV h5) f0) (jon (fun (s8 : Int32) (h9 : HP) => bnd (v1 + s8) (fun x10 => bnd (v2 + (1 : Int32)) (fun x11 => cS_sum_4 f0 k n x10 x11 h9))) (fun j7 => if (((gI h5 f0 9) >>> (v2 &&& 31)) &&& (1 : Int32)) = (1 : Int32) then (j7 (0 : Int32) h5) else (grd (inb v2 5) (cal (kJ18_bitCount (gI h5 (f0 + 1) (v2).toNatClampNeg) h5) (fun r12 h13 => j7 r12 h13))))))))
def cS_sum  (o : Nat) (h : HP) : Option (Int32 × HP) := bnd (0 : Int32) (fun x1 => bnd (0 : Int32) (fun x2 => cS_sum_4 o (fun (x14 : Int32) (h15 : HP) => some (x14, h15)) FU x1 x2 h))
def cS_askAll_42  (f0 : Nat) (f2 : Int32) (f3 : Int32) (f4 : Int32) (k : HP → Option (Unit × HP)) : Nat → Int32 → HP → Option (Unit × HP)
  | 0, _, _ => none
  | n + 1, v5, h => grd (shS (cV h) f0) (cal (cA_questions h) (fun r16 h17 => if r16 ≤ v5 then (k h17) else (grd (shS (cV h17) f0) (cal (cS_can f0 f3 f4 v5 (0 : Int32) h17) (fun r18 h19 => if r18 = 0 then (bnd (v5 + (1 : Int32)) (fun x21 => cS_askAll_42 f0 f2 f3 f4 k n x21 h19)) else (grd (shS (cV h19) f0) (cal (cS_ask f0 f3 f4 v5 (0 : Int32) h19) (fun r22 h23 => bnd (v5 + (1 : Int32)) (fun x25 => cS_askAll_42 f0 f2 f3 f4 k n x25 h23)))))))))
def cS_askAll_27  (f0 : Nat) (f2 : Int32) (f3 : Int32) (k : HP → Option (Unit × HP)) : Nat → Int32 → HP → Option (Unit × HP)
  | 0, _, _ => none
  | n + 1, v4, h => grd (shS (cV h) f0) (cal (cA_persons h) (fun r12 h13 => if r12 ≤ v4 then (k h13) else (bnd (0 : Int32) (fun x14 => cS_askAll_42 f0 f2 f3 v4 (fun (h26 : HP) => bnd (v4 + (1 : Int32)) (fun x27 => cS_askAll_27 f0 f2 f3 k n x27 h26)) FU x14 h13))))
def cS_askAll_13  (f0 : Nat) (f2 : Int32) (k : HP → Option (Unit × HP)) : Nat → Int32 → HP → Option (Unit × HP)
  | 0, _, _ => none
  | n + 1, v3, h => grd (shS (cV h) f0) (cal (cA_persons h) (fun r8 h9 => if r8 ≤ v3 then (k h9) else (bnd (0 : Int32) (fun x10 => cS_askAll_27 f0 f2 v3 (fun (h28 : HP) => bnd (v3 + (1 : Int32)) (fun x29 => cS_askAll_13 f0 f2 k n x29 h28)) FU x10 h9))))
def cS_askAll_2  (f0 : Nat) (k : HP → Option (Unit × HP)) : Nat → Int32 → HP → Option (Unit × HP)
  | 0, _, _ => none
  | n + 1, v1, h => if v1 = 0 then (k h) else (grd (shS (cV h) f0) (cal (cS_sum f0 h) (fun r2 h3 => bnd r2 (fun x5 => bnd (0 : Int32) (fun x6 => cS_askAll_13 f0 x5 (fun (h30 : HP) => grd (shS (cV h30) f0) (cal (cS_sum f0 h30) (fun r31 h32 => if r31 ≤ x5 then (bnd (0 : Int32) (fun x34 => cS_askAll_2 f0 k n x34 h32)) else (bnd (1 : Int32) (fun x35 => cS_askAll_2 f0 k n x35 h32))))) FU x6 h3)))))
def cS_askAll  (o : Nat) (h : HP) : Option (Unit × HP) := bnd (1 : Int32) (fun x1 => cS_askAll_2 o (fun (h36 : HP) => some ((), h36)) FU x1 h)
def cA_askAllWithout  (a1 : Int32) (h : HP) : Option (Unit × HP) := cal (cS_become 25 20 h) (fun r1 h2 => bnd (sI h2 25 9 a1) (fun h3 => cal (cS_askAll 25 h3) (fun r6 h7 => some ((), h7))))
def cA_all  (a1 : Int32) (h : HP) : Option (Int32 × HP) := cal (cA_isPerson a1 h) (fun r1 h2 => if r1 = 0 then (some ((-1 : Int32), h2)) else (cal (cA_askAllWithout (0 : Int32) h2) (fun r3 h4 => grd (inb a1 5) (some ((gI h4 26 (a1).toNatClampNeg), h4)))))
def cA_learns  (a1 : Int32) (a2 : Int32) (a3 : Int32) (h : HP) : Option (Int32 × HP) := cal (cA_askAllWithout a3 h) (fun r1 h2 => grd (inb a1 5) (if (((gI h2 26 (a1).toNatClampNeg) >>> (a2 &&& 31)) &&& (1 : Int32)) = (1 : Int32) then (some ((1 : Int32), h2)) else (some ((0 : Int32), h2))))
def cA_never  (a1 : Int32) (a2 : Int32) (h : HP) : Option (Int32 × HP) := cal (cA_isPerson a1 h) (fun r1 h2 => if r1 = 0 then (some ((-1 : Int32), h2)) else (cal (cA_isFact a2 h2) (fun r3 h4 => if r3 = 0 then (some ((-1 : Int32), h4)) else (cal (cA_learns a1 a2 (0 : Int32) h4) (fun r5 h6 => if r5 = 0 then (some ((1 : Int32), h6)) else (some ((0 : Int32), h6)))))))
def cA_away_24  (f1 : Int32) (f2 : Int32) (k : Int32 → HP → Option (Int32 × HP)) : Nat → Int32 → Int32 → HP → Option (Int32 × HP)
  | 0, _, _, _ => none
  | n + 1, v3, v4, h => cal (cA_persons h) (fun r7 h8 => if ((1 : Int32) <<< (r7 &&& 31)) ≤ v4 then (k v3 h8) else (if ((v4 >>> (f1 &&& 31)) &&& (1 : Int32)) = (1 : Int32) then (bnd (v4 + (1 : Int32)) (fun x9 => cA_away_24 f1 f2 k n v3 x9 h8)) else (jon (fun (h11 : HP) => cal (cA_learns f1 f2 v4 h11) (fun r12 h13 => if r12 = 0 then (bnd v4 (fun x14 => bnd (v4 + (1 : Int32)) (fun x15 => cA_away_24 f1 f2 k n x14 x15 h13))) else (bnd (v4 + (1 : Int32)) (fun x16 => cA_away_24 f1 f2 k n v3 x16 h13)))) (fun j10 => if v3 = (-2 : Int32) then (j10 h8) else (cal (kJ18_bitCount v4 h8) (fun r17 h18 => cal (kJ18_bitCount v3 h18) (fun r19 h20 => if r17 < r19 then (j10 h20) else (bnd (v4 + (1 : Int32)) (fun x21 => cA_away_24 f1 f2 k n v3 x21 h20)))))))))
def cA_away  (a1 : Int32) (a2 : Int32) (h : HP) : Option (Int32 × HP) := cal (cA_isPerson a1 h) (fun r1 h2 => if r1 = 0 then (some ((-1 : Int32), h2)) else (cal (cA_isFact a2 h2) (fun r3 h4 => if r3 = 0 then (some ((-1 : Int32), h4)) else (bnd (-2 : Int32) (fun x5 => bnd (0 : Int32) (fun x6 => cA_away_24 a1 a2 (fun (x22 : Int32) (h23 : HP) => some (x22, h23)) FU x5 x6 h4))))))
def cA_spread_19  (f1 : Int32) (k : Int32 → HP → Option (Int32 × HP)) : Nat → Int32 → Int32 → HP → Option (Int32 × HP)
  | 0, _, _, _ => none
  | n + 1, v2, v3, h => cal (cA_persons h) (fun r7 h8 => if r7 ≤ v3 then (k v2 h8) else (grd (inb v3 5) (bnd (v2 ||| ((((gI h8 26 (v3).toNatClampNeg) >>> (f1 &&& 31)) &&& (1 : Int32)) <<< (v3 &&& 31))) (fun x9 => bnd (v3 + (1 : Int32)) (fun x10 => cA_spread_19 f1 k n x9 x10 h8)))))
def cA_spread  (a1 : Int32) (h : HP) : Option (Int32 × HP) := cal (cA_isFact a1 h) (fun r1 h2 => if r1 = 0 then (some ((-1 : Int32), h2)) else (cal (cA_askAllWithout (0 : Int32) h2) (fun r3 h4 => bnd (0 : Int32) (fun x5 => bnd (0 : Int32) (fun x6 => cA_spread_19 a1 (fun (x11 : Int32) (h12 : HP) => some (x11, h12)) FU x5 x6 h4)))))
def cA_learnsIf  (a1 : Int32) (a2 : Int32) (a3 : Int32) (a4 : Int32) (h : HP) : Option (Int32 × HP) := cal (cS_become 25 20 h) (fun r1 h2 => grd (inb a3 5) (grd (inb a3 5) (bnd (sI h2 26 (a3).toNatClampNeg ((gI h2 26 (a3).toNatClampNeg) ||| ((1 : Int32) <<< (a4 &&& 31)))) (fun h3 => cal (cS_askAll 25 h3) (fun r6 h7 => grd (inb a1 5) (if (((gI h7 26 (a1).toNatClampNeg) >>> (a2 &&& 31)) &&& (1 : Int32)) = (1 : Int32) then (some ((1 : Int32), h7)) else (some ((0 : Int32), h7))))))))
def cA_hint_56  (f1 : Int32) (f2 : Int32) (f3 : Int32) (f4 : Int32) (k : HP → Option (Int32 × HP)) : Nat → Int32 → HP → Option (Int32 × HP)
  | 0, _, _ => none
  | n + 1, v5, h => onr (gR (cV h) 0 6) (fun b13 => grd (shC (cV h) b13) (grd (shL (cV h) (b13 + 1)) (cal (cL_size (b13 + 1) h) (fun r16 h17 => if r16 ≤ v5 then (k h17) else (jon (fun (s20 : Int32) => bnd s20 (fun x21 => if x21 = 0 then (bnd (v5 + (1 : Int32)) (fun x22 => cA_hint_56 f1 f2 f3 f4 k n x22 h17)) else (cal (cA_learnsIf f1 f2 f4 v5 h17) (fun r23 h24 => if r23 = 0 then (bnd (v5 + (1 : Int32)) (fun x25 => cA_hint_56 f1 f2 f3 f4 k n x25 h24)) else (if f3 = 0 then (some (f4, h24)) else (some (v5, h24))))))) (fun j19 => jon (fun (_u : Unit) => j19 (0 : Int32)) (fun j26 => if v5 = f2 then (j26 ()) else (grd (inb f4 5) (if (((gI h17 21 (f4).toNatClampNeg) >>> (v5 &&& 31)) &&& (1 : Int32)) = 0 then (j19 (1 : Int32)) else (j26 ()))))))))))
def cA_hint_44  (f1 : Int32) (f2 : Int32) (f3 : Int32) (k : HP → Option (Int32 × HP)) : Nat → Int32 → HP → Option (Int32 × HP)
  | 0, _, _ => none
  | n + 1, v4, h => cal (cA_persons h) (fun r10 h11 => if r10 ≤ v4 then (k h11) else (bnd (0 : Int32) (fun x12 => cA_hint_56 f1 f2 f3 v4 (fun (h27 : HP) => bnd (v4 + (1 : Int32)) (fun x28 => cA_hint_44 f1 f2 f3 k n x28 h27)) FU x12 h11)))
def cA_hint  (a1 : Int32) (a2 : Int32) (a3 : Int32) (h : HP) : Option (Int32 × HP) := cal (cA_isPerson a1 h) (fun r1 h2 => if r1 = 0 then (some ((-1 : Int32), h2)) else (cal (cA_isFact a2 h2) (fun r3 h4 => if r3 = 0 then (some ((-1 : Int32), h4)) else (cal (cA_in (a3).toInt64 (0 : Int64) (1 : Int64) h4) (fun r5 h6 => if r5 = 0 then (some ((-1 : Int32), h6)) else (cal (cA_learns a1 a2 (0 : Int32) h6) (fun r7 h8 => if r7 = 0 then (bnd (0 : Int32) (fun x9 => cA_hint_44 a1 a2 a3 (fun (h29 : HP) => some ((-2 : Int32), h29)) FU x9 h8)) else (some ((-2 : Int32), h8)))))))))
def cA_isAskable_2  (f1 : Int32) (f2 : Int32) (k : HP → Option (Int32 × HP)) : Nat → Int32 → HP → Option (Int32 × HP)
  | 0, _, _ => none
  | n + 1, v3, h => cal (cA_persons h) (fun r2 h3 => if r2 ≤ v3 then (k h3) else (cal (cS_can 20 f1 v3 f2 (1 : Int32) h3) (fun r4 h5 => if r4 = 0 then (bnd (v3 + (1 : Int32)) (fun x6 => cA_isAskable_2 f1 f2 k n x6 h5)) else (some ((1 : Int32), h5)))))
def cA_isAskable  (a1 : Int32) (a2 : Int32) (h : HP) : Option (Int32 × HP) := bnd (0 : Int32) (fun x1 => cA_isAskable_2 a1 a2 (fun (h7 : HP) => some ((0 : Int32), h7)) FU x1 h)
def cA_unasked_14  (f1 : Int32) (k : Int32 → HP → Option (Int32 × HP)) : Nat → Int32 → Int32 → HP → Option (Int32 × HP)
  | 0, _, _, _ => none
  | n + 1, v2, v3, h => cal (cA_questions h) (fun r5 h6 => if r5 ≤ v3 then (k v2 h6) else (cal (cA_isAskable f1 v3 h6) (fun r7 h8 => jon (fun (s10 : Int32) => bnd (v2 ||| s10) (fun x11 => bnd (v3 + (1 : Int32)) (fun x12 => cA_unasked_14 f1 k n x11 x12 h8))) (fun j9 => if r7 = 0 then (j9 ((1 : Int32) <<< (v3 &&& 31))) else (j9 (0 : Int32))))))
def cA_unasked  (a1 : Int32) (h : HP) : Option (Int32 × HP) := cal (cA_isPerson a1 h) (fun r1 h2 => if r1 = 0 then (some ((-1 : Int32), h2)) else (bnd (0 : Int32) (fun x3 => bnd (0 : Int32) (fun x4 => cA_unasked_14 a1 (fun (x13 : Int32) (h14 : HP) => some (x13, h14)) FU x3 x4 h2))))
def cA_sumIn  (a1 : Int32) (a2 : Int32) (h : HP) : Option (Int32 × HP) := cal (cS_become 25 20 h) (fun r1 h2 => grd (inb a1 5) (bnd (sI h2 27 (a1).toNatClampNeg a2) (fun h3 => cal (cS_askAll 25 h3) (fun r6 h7 => cal (cS_sum 25 h7) (fun r8 h9 => some (r8, h9))))))
def cA_inRoom  (a1 : Int32) (a2 : Int32) (h : HP) : Option (Int32 × HP) := cal (cA_isPerson a1 h) (fun r1 h2 => if r1 = 0 then (some ((-1 : Int32), h2)) else (cal (cA_in (a2).toInt64 (0 : Int64) (3 : Int64) h2) (fun r3 h4 => if r3 = 0 then (some ((-1 : Int32), h4)) else (cal (cA_sumIn a1 a2 h4) (fun r5 h6 => some (r5, h6))))))
def cA_bestRoom_14  (f1 : Int32) (k : Int32 → HP → Option (Int32 × HP)) : Nat → Int32 → Int32 → HP → Option (Int32 × HP)
  | 0, _, _, _ => none
  | n + 1, v2, v3, h => if (4 : Int32) ≤ v3 then (k v2 h) else (cal (cA_sumIn f1 v3 h) (fun r5 h6 => cal (cA_sumIn f1 v2 h6) (fun r7 h8 => if r5 ≤ r7 then (bnd (v3 + (1 : Int32)) (fun x9 => cA_bestRoom_14 f1 k n v2 x9 h8)) else (bnd v3 (fun x10 => bnd (v3 + (1 : Int32)) (fun x11 => cA_bestRoom_14 f1 k n x10 x11 h8))))))
def cA_bestRoom  (a1 : Int32) (h : HP) : Option (Int32 × HP) := cal (cA_isPerson a1 h) (fun r1 h2 => if r1 = 0 then (some ((-1 : Int32), h2)) else (bnd (0 : Int32) (fun x3 => bnd (1 : Int32) (fun x4 => cA_bestRoom_14 a1 (fun (x12 : Int32) (h13 : HP) => some (x12, h13)) FU x3 x4 h2))))
def cA_isAsked  (a1 : Int32) (a2 : Int32) (a3 : Int32) (a4 : Int32) (h : HP) : Option (Int32 × HP) := cal (cA_isPerson a1 h) (fun r1 h2 => if r1 = 0 then (some ((0 : Int32), h2)) else (cal (cA_isFact a2 h2) (fun r3 h4 => if r3 = 0 then (some ((0 : Int32), h4)) else (if a3 < 0 then (some ((0 : Int32), h4)) else (cal (cA_persons h4) (fun r5 h6 => if (a3 >>> (r5 &&& 31)) = 0 then (if ((a3 >>> (a1 &&& 31)) &&& (1 : Int32)) = 0 then (cal (cA_in (a4).toInt64 (1 : Int64) (2 : Int64) h6) (fun r7 h8 => if r7 = 0 then (some ((0 : Int32), h8)) else (some ((1 : Int32), h8)))) else (some ((0 : Int32), h6))) else (some ((0 : Int32), h6))))))))
def cA_isWay_3  (f1 : Nat) (f2 : Int32) (f3 : Int32) (f4 : Int32) (k : HP → Option (Int32 × HP)) : Nat → Int32 → HP → Option (Int32 × HP)
  | 0, _, _ => none
  | n + 1, v5, h => cal (cA_persons h) (fun r2 h3 => if r2 ≤ v5 then (k h3) else (if ((f4 >>> (v5 &&& 31)) &&& (1 : Int32)) = (1 : Int32) then (grd (shS (cV h3) f1) (grd (inb v5 5) (if (((gI h3 (f1 + 1) (v5).toNatClampNeg) >>> (f3 &&& 31)) &&& (1 : Int32)) = (1 : Int32) then (grd (inb v5 5) (if (((gI h3 21 (v5).toNatClampNeg) >>> (f3 &&& 31)) &&& (1 : Int32)) = 0 then (some ((0 : Int32), h3)) else (bnd (v5 + (1 : Int32)) (fun x5 => cA_isWay_3 f1 f2 f3 f4 k n x5 h3)))) else (bnd (v5 + (1 : Int32)) (fun x6 => cA_isWay_3 f1 f2 f3 f4 k n x6 h3))))) else (bnd (v5 + (1 : Int32)) (fun x7 => cA_isWay_3 f1 f2 f3 f4 k n x7 h3))))
def cA_isWay  (a1 : Nat) (a2 : Int32) (a3 : Int32) (a4 : Int32) (h : HP) : Option (Int32 × HP) := bnd (0 : Int32) (fun x1 => cA_isWay_3 a1 a2 a3 a4 (fun (h8 : HP) => grd (shS (cV h8) a1) (grd (inb a2 5) (if (((gI h8 (a1 + 1) (a2).toNatClampNeg) >>> (a3 &&& 31)) &&& (1 : Int32)) = (1 : Int32) then (some ((1 : Int32), h8)) else (some ((0 : Int32), h8))))) FU x1 h)
def cA_ways_52 (f : Nat → Int32 → Int32 → Int32 → Int32 → Int32 → HP → Option (Int32 × HP)) (f1 : Nat) (f2 : Int32) (f3 : Int32) (f4 : Int32) (f5 : Int32) (f6 : Int32) (f7 : Nat) (f8 : Int32) (f9 : Int32) (k : HP → Option (Int32 × HP)) : Nat → Int32 → HP → Option (Int32 × HP)
  | 0, _, _ => none
  | n + 1, v10, h => cal (cA_questions h) (fun r12 h13 => if r12 ≤ v10 then (k h13) else (grd (shS (cV h13) f1) (cal (cS_can f1 f8 f9 v10 (1 : Int32) h13) (fun r14 h15 => if r14 = 0 then (bnd (v10 + (1 : Int32)) (fun x17 => cA_ways_52 f f1 f2 f3 f4 f5 f6 f7 f8 f9 k n x17 h15)) else (grd (shS (cV h15) f7) (cal (cS_become f7 f1 h15) (fun r18 h19 => grd (shS (cV h19) f7) (cal (cS_ask f7 f8 f9 v10 (0 : Int32) h19) (fun r21 h22 => grd (inb f2 2) (bnd (sI h22 37 (f2).toNatClampNeg ((((100 : Int32) * f8) + ((10 : Int32) * f9)) + v10)) (fun h24 => cal (f f7 (f2 + (1 : Int32)) f3 f4 f5 f6 h24) (fun r27 h28 => if r27 = 0 then (bnd (v10 + (1 : Int32)) (fun x29 => cA_ways_52 f f1 f2 f3 f4 f5 f6 f7 f8 f9 k n x29 h28)) else (some ((1 : Int32), h28))))))))))))))
def cA_ways_40 (f : Nat → Int32 → Int32 → Int32 → Int32 → Int32 → HP → Option (Int32 × HP)) (f1 : Nat) (f2 : Int32) (f3 : Int32) (f4 : Int32) (f5 : Int32) (f6 : Int32) (f7 : Nat) (f8 : Int32) (k : HP → Option (Int32 × HP)) : Nat → Int32 → HP → Option (Int32 × HP)
  | 0, _, _ => none
  | n + 1, v9, h => cal (cA_persons h) (fun r9 h10 => if r9 ≤ v9 then (k h10) else (bnd (0 : Int32) (fun x11 => cA_ways_52 f f1 f2 f3 f4 f5 f6 f7 f8 v9 (fun (h30 : HP) => bnd (v9 + (1 : Int32)) (fun x31 => cA_ways_40 f f1 f2 f3 f4 f5 f6 f7 f8 k n x31 h30)) FU x11 h10)))
def cA_ways_28 (f : Nat → Int32 → Int32 → Int32 → Int32 → Int32 → HP → Option (Int32 × HP)) (f1 : Nat) (f2 : Int32) (f3 : Int32) (f4 : Int32) (f5 : Int32) (f6 : Int32) (f7 : Nat) (k : HP → Option (Int32 × HP)) : Nat → Int32 → HP → Option (Int32 × HP)
  | 0, _, _ => none
  | n + 1, v8, h => cal (cA_persons h) (fun r6 h7 => if r6 ≤ v8 then (k h7) else (bnd (0 : Int32) (fun x8 => cA_ways_40 f f1 f2 f3 f4 f5 f6 f7 v8 (fun (h32 : HP) => bnd (v8 + (1 : Int32)) (fun x33 => cA_ways_28 f f1 f2 f3 f4 f5 f6 f7 k n x33 h32)) FU x8 h7)))
def cA_ways (f : Nat → Int32 → Int32 → Int32 → Int32 → Int32 → HP → Option (Int32 × HP)) (a1 : Nat) (a2 : Int32) (a3 : Int32) (a4 : Int32) (a5 : Int32) (a6 : Int32) (h : HP) : Option (Int32 × HP) := if a2 = a3 then (cal (cA_isWay a1 a4 a5 a6 h) (fun r1 h2 => grd (isB r1) (some (r1, h2)))) else (grd (inb a2 2) (onr (gR (cV h) 36 (a2).toNatClampNeg) (fun b4 => bnd (0 : Int32) (fun x5 => cA_ways_28 f a1 a2 a3 a4 a5 a6 b4 (fun (h34 : HP) => some ((0 : Int32), h34)) FU x5 h))))
def cA_waysN : Nat → Nat → Int32 → Int32 → Int32 → Int32 → Int32 → HP → Option (Int32 × HP)
  | 0, _, _, _, _, _, _, _ => none
  | n + 1, x0, x1, x2, x3, x4, x5, h => cA_ways (cA_waysN n) x0 x1 x2 x3 x4 x5 h
def cA_layWay_8  (f1 : Int32) (f2 : Int32) (f3 : Int32) (f4 : Int32) (k : HP → Option (Unit × HP)) : Nat → Int32 → HP → Option (Unit × HP)
  | 0, _, _ => none
  | n + 1, v5, h => if f4 < v5 then (k h) else (if (gI h 0 17) = (-1 : Int32) then (cal (cA_waysN 4 20 (0 : Int32) v5 f1 f2 f3 h) (fun r5 h6 => if r5 = 0 then (bnd (v5 + (1 : Int32)) (fun x7 => cA_layWay_8 f1 f2 f3 f4 k n x7 h6)) else (bnd (sI h6 0 17 v5) (fun h8 => bnd (v5 + (1 : Int32)) (fun x11 => cA_layWay_8 f1 f2 f3 f4 k n x11 h8))))) else (k h))
def cA_layWay_55   (k : HP → Option (Unit × HP)) : Nat → Int32 → HP → Option (Unit × HP)
  | 0, _, _ => none
  | n + 1, v5, h => if (gI h 0 17) ≤ v5 then (k h) else (grd (inb v5 2) (grd (inb v5 2) (bnd (sI h 38 (v5).toNatClampNeg (gI h 37 (v5).toNatClampNeg)) (fun h14 => bnd (v5 + (1 : Int32)) (fun x17 => cA_layWay_55 k n x17 h14)))))
def cA_layWay  (a1 : Int32) (a2 : Int32) (a3 : Int32) (a4 : Int32) (h : HP) : Option (Unit × HP) := bnd (sI h 0 17 (-1 : Int32)) (fun h1 => bnd (0 : Int32) (fun x4 => cA_layWay_8 a1 a2 a3 a4 (fun (h12 : HP) => bnd (0 : Int32) (fun x13 => cA_layWay_55 (fun (h18 : HP) => some ((), h18)) FU x13 h12)) FU x4 h1))
def cA_way  (a1 : Int32) (a2 : Int32) (a3 : Int32) (a4 : Int32) (h : HP) : Option (Int32 × HP) := cal (cA_isAsked a1 a2 a3 a4 h) (fun r1 h2 => if r1 = 0 then (some ((-1 : Int32), h2)) else (cal (cA_layWay a1 a2 a3 a4 h2) (fun r3 h4 => if (gI h4 0 17) = (-1 : Int32) then (some ((-2 : Int32), h4)) else (some ((gI h4 0 17), h4)))))
def cA_step  (a1 : Int32) (a2 : Int32) (a3 : Int32) (a4 : Int32) (a5 : Int32) (h : HP) : Option (Int32 × HP) := cal (cA_isAsked a1 a2 a3 a4 h) (fun r1 h2 => if r1 = 0 then (some ((-1 : Int32), h2)) else (if 0 ≤ a5 then (cal (cA_layWay a1 a2 a3 a4 h2) (fun r3 h4 => if (gI h4 0 17) ≤ a5 then (some ((-2 : Int32), h4)) else (grd (inb a5 2) (some ((gI h4 38 (a5).toNatClampNeg), h4))))) else (some ((-1 : Int32), h2))))
def cA_isTrap_87  (f2 : Int32) (f4 : Int32) (k : HP → Option (Int32 × HP)) : Nat → Int32 → HP → Option (Int32 × HP)
  | 0, _, _ => none
  | n + 1, v5, h => cal (cA_persons h) (fun r26 h27 => if r26 ≤ v5 then (k h27) else (if v5 = f2 then (bnd (v5 + (1 : Int32)) (fun x28 => cA_isTrap_87 f2 f4 k n x28 h27)) else (cal (cS_areTogether 20 v5 f2 h27) (fun r29 h30 => if r29 = 0 then (bnd (v5 + (1 : Int32)) (fun x31 => cA_isTrap_87 f2 f4 k n x31 h30)) else (grd (inb v5 5) (if (((gI h30 21 (v5).toNatClampNeg) >>> (f4 &&& 31)) &&& (1 : Int32)) = 0 then (some ((1 : Int32), h30)) else (bnd (v5 + (1 : Int32)) (fun x32 => cA_isTrap_87 f2 f4 k n x32 h30))))))))
def cA_isTrap  (a1 : Int32) (a2 : Int32) (a3 : Int32) (h : HP) : Option (Int32 × HP) := cal (cS_can 20 a1 a2 a3 (1 : Int32) h) (fun r1 h2 => if r1 = 0 then (some ((0 : Int32), h2)) else (cal (cS_become 25 20 h2) (fun r3 h4 => cal (cS_ask 25 a1 a2 a3 (0 : Int32) h4) (fun r5 h6 => if r5 = 0 then (some ((0 : Int32), h6)) else (onr (gR (cV h6) 0 6) (fun b7 => grd (shC (cV h6) b7) (grd (shL (cV h6) (b7 + 5)) (cal (cL_get (b7 + 5) a3 h6) (fun r10 h11 => grd ((gT (cV h11) r10).1 = 9) (grd (inb (gI h11 r10 1) 4) (onr (gR (cV h11) 15 ((gI h11 r10 1)).toNatClampNeg) (fun b14 => onr (gR (cV h11) 0 6) (fun b15 => grd (shC (cV h11) b15) (grd (shL (cV h11) (b15 + 5)) (cal (cL_get (b15 + 5) a3 h11) (fun r18 h19 => grd ((gT (cV h19) r18).1 = 9) (cal (cK_asks b14 r18 h19) (fun r22 h23 => bnd r22 (fun x24 => bnd (0 : Int32) (fun x25 => cA_isTrap_87 a2 x24 (fun (h33 : HP) => some ((0 : Int32), h33)) FU x25 h23))))))))))))))))))))
def cA_care_25  (f1 : Int32) (f3 : Int32) (k : Int32 → HP → Option (Int32 × HP)) : Nat → Int32 → Int32 → HP → Option (Int32 × HP)
  | 0, _, _, _ => none
  | n + 1, v2, v4, h => cal (cA_persons h) (fun r8 h9 => if r8 ≤ v4 then (k v2 h9) else (cal (cA_isTrap v4 f1 f3 h9) (fun r10 h11 => jon (fun (s13 : Int32) => bnd (v2 ||| s13) (fun x14 => bnd (v4 + (1 : Int32)) (fun x15 => cA_care_25 f1 f3 k n x14 x15 h11))) (fun j12 => if r10 = 0 then (j12 (0 : Int32)) else (j12 ((1 : Int32) <<< (f3 &&& 31)))))))
def cA_care_14  (f1 : Int32) (k : Int32 → HP → Option (Int32 × HP)) : Nat → Int32 → Int32 → HP → Option (Int32 × HP)
  | 0, _, _, _ => none
  | n + 1, v2, v3, h => cal (cA_questions h) (fun r5 h6 => if r5 ≤ v3 then (k v2 h6) else (bnd (0 : Int32) (fun x7 => cA_care_25 f1 v3 (fun (x16 : Int32) (h17 : HP) => bnd (v3 + (1 : Int32)) (fun x18 => cA_care_14 f1 k n x16 x18 h17)) FU v2 x7 h6)))
def cA_care  (a1 : Int32) (h : HP) : Option (Int32 × HP) := cal (cA_isPerson a1 h) (fun r1 h2 => if r1 = 0 then (some ((-1 : Int32), h2)) else (bnd (0 : Int32) (fun x3 => bnd (0 : Int32) (fun x4 => cA_care_14 a1 (fun (x19 : Int32) (h20 : HP) => some (x19, h20)) FU x3 x4 h2))))
def cA_asks_28 (f : Nat → Int32 → Int32 → Int32 → HP → Option (Unit × HP)) (f3 : Int32) (k : HP → Option (Unit × HP)) : Nat → Int32 → HP → Option (Unit × HP)
  | 0, _, _ => none
  | n + 1, v5, h => if f3 ≤ v5 then (k h) else (grd (inb v5 2) (grd (inb v5 2) (bnd (sI h 38 (v5).toNatClampNeg (gI h 37 (v5).toNatClampNeg)) (fun h11 => bnd (v5 + (1 : Int32)) (fun x14 => cA_asks_28 f f3 k n x14 h11)))))
def cA_asks_78 (f : Nat → Int32 → Int32 → Int32 → HP → Option (Unit × HP)) (f1 : Nat) (f2 : Int32) (f3 : Int32) (f4 : Int32) (f5 : Nat) (f6 : Int32) (k : HP → Option (Unit × HP)) : Nat → Int32 → HP → Option (Unit × HP)
  | 0, _, _ => none
  | n + 1, v7, h => cal (cA_questions h) (fun r21 h22 => if r21 ≤ v7 then (k h22) else (grd (shS (cV h22) f1) (cal (cS_can f1 f4 f6 v7 (1 : Int32) h22) (fun r23 h24 => if r23 = 0 then (bnd (v7 + (1 : Int32)) (fun x26 => cA_asks_78 f f1 f2 f3 f4 f5 f6 k n x26 h24)) else (grd (shS (cV h24) f5) (cal (cS_become f5 f1 h24) (fun r27 h28 => grd (shS (cV h28) f5) (cal (cS_ask f5 f4 f6 v7 (0 : Int32) h28) (fun r30 h31 => grd (inb f2 2) (bnd (sI h31 37 (f2).toNatClampNeg (((10 : Int32) * f6) + v7)) (fun h33 => cal (f f5 (f2 + (1 : Int32)) f3 f4 h33) (fun r36 h37 => bnd (v7 + (1 : Int32)) (fun x38 => cA_asks_78 f f1 f2 f3 f4 f5 f6 k n x38 h37)))))))))))))
def cA_asks_66 (f : Nat → Int32 → Int32 → Int32 → HP → Option (Unit × HP)) (f1 : Nat) (f2 : Int32) (f3 : Int32) (f4 : Int32) (f5 : Nat) (k : HP → Option (Unit × HP)) : Nat → Int32 → HP → Option (Unit × HP)
  | 0, _, _ => none
  | n + 1, v6, h => cal (cA_persons h) (fun r18 h19 => if r18 ≤ v6 then (k h19) else (bnd (0 : Int32) (fun x20 => cA_asks_78 f f1 f2 f3 f4 f5 v6 (fun (h39 : HP) => bnd (v6 + (1 : Int32)) (fun x40 => cA_asks_66 f f1 f2 f3 f4 f5 k n x40 h39)) FU x20 h19)))
def cA_asks (f : Nat → Int32 → Int32 → Int32 → HP → Option (Unit × HP)) (a1 : Nat) (a2 : Int32) (a3 : Int32) (a4 : Int32) (h : HP) : Option (Unit × HP) := if a2 = a3 then (grd (shS (cV h) a1) (cal (cS_sum a1 h) (fun r1 h2 => if (gI h2 0 18) < r1 then (grd (shS (cV h2) a1) (cal (cS_sum a1 h2) (fun r4 h5 => bnd (sI h5 0 18 r4) (fun h7 => bnd (0 : Int32) (fun x10 => cA_asks_28 f a3 (fun (h15 : HP) => some ((), h15)) FU x10 h7))))) else (some ((), h2))))) else (grd (inb a2 2) (onr (gR (cV h) 36 (a2).toNatClampNeg) (fun b16 => bnd (0 : Int32) (fun x17 => cA_asks_66 f a1 a2 a3 a4 b16 (fun (h41 : HP) => some ((), h41)) FU x17 h))))
def cA_asksN : Nat → Nat → Int32 → Int32 → Int32 → HP → Option (Unit × HP)
  | 0, _, _, _, _, _ => none
  | n + 1, x0, x1, x2, x3, h => cA_asks (cA_asksN n) x0 x1 x2 x3 h
def cA_best  (a1 : Int32) (a2 : Int32) (a3 : Int32) (h : HP) : Option (Int32 × HP) := cal (cA_isPerson a1 h) (fun r1 h2 => if r1 = 0 then (some ((-1 : Int32), h2)) else (cal (cA_in (a2).toInt64 (1 : Int64) (2 : Int64) h2) (fun r3 h4 => if r3 = 0 then (some ((-1 : Int32), h4)) else (cal (cA_in (a3).toInt64 (0 : Int64) (2 : Int64) h4) (fun r5 h6 => if r5 = 0 then (some ((-1 : Int32), h6)) else (bnd (sI h6 0 18 (-1 : Int32)) (fun h7 => cal (cA_asksN 4 20 (0 : Int32) a2 a1 h7) (fun r10 h11 => if (gI h11 0 18) = (-1 : Int32) then (some ((-3 : Int32), h11)) else (if a3 = 0 then (some ((gI h11 0 18), h11)) else (if a2 < a3 then (some ((-2 : Int32), h11)) else (grd (inb (a3 - (1 : Int32)) 2) (some ((gI h11 38 ((a3 - (1 : Int32))).toNatClampNeg), h11)))))))))))))
def cA_isDuel  (a1 : Int32) (a2 : Int32) (h : HP) : Option (Int32 × HP) := cal (cA_areTwo a1 a2 h) (fun r1 h2 => if r1 = 0 then (some ((0 : Int32), h2)) else (grd (inb a1 5) (grd (inb a2 5) (if (gI h2 22 (a1).toNatClampNeg) = (gI h2 22 (a2).toNatClampNeg) then (some ((1 : Int32), h2)) else (some ((0 : Int32), h2))))))
def cA_ends  (a1 : Int32) (h : HP) : Option (Int32 × HP) := grd (inb a1 5) (cal (kJ18_bitCount (gI h 26 (a1).toNatClampNeg) h) (fun r1 h2 => grd (inb a1 5) (cal (kJ18_bitCount (gI h2 21 (a1).toNatClampNeg) h2) (fun r3 h4 => grd (inb a1 5) (grd (inb a1 5) (some (((r1 - r3) - ((2 : Int32) * ((gI h4 28 (a1).toNatClampNeg) - (gI h4 23 (a1).toNatClampNeg)))), h4)))))))
def cA_layDuel_17  (f1 : Int32) (f2 : Int32) (f3 : Int32) (f4 : Int32) (k : HP → Option (Unit × HP)) : Nat → Int32 → HP → Option (Unit × HP)
  | 0, _, _ => none
  | n + 1, v5, h => if f3 < v5 then (k h) else (cal (cS_become 25 20 h) (fun r6 h7 => jon (fun (h9 : HP) => jon (fun (h11 : HP) => cal (cA_ends f1 h11) (fun r12 h13 => grd (inb (((9 : Int32) * f4) + v5) 81) (bnd (sI h13 39 ((((9 : Int32) * f4) + v5)).toNatClampNeg r12) (fun h14 => cal (cA_ends f2 h14) (fun r17 h18 => grd (inb (((9 : Int32) * f4) + v5) 81) (bnd (sI h18 40 ((((9 : Int32) * f4) + v5)).toNatClampNeg r17) (fun h19 => bnd (v5 + (1 : Int32)) (fun x22 => cA_layDuel_17 f1 f2 f3 f4 k n x22 h19)))))))) (fun j10 => if f3 ≤ v5 then (j10 h9) else (cal (cS_can 25 f2 f1 v5 (1 : Int32) h9) (fun r23 h24 => if r23 = 0 then (j10 h24) else (cal (cS_ask 25 f2 f1 v5 (0 : Int32) h24) (fun r25 h26 => j10 h26)))))) (fun j8 => if f3 ≤ f4 then (j8 h7) else (cal (cS_can 25 f1 f2 f4 (1 : Int32) h7) (fun r27 h28 => if r27 = 0 then (j8 h28) else (cal (cS_ask 25 f1 f2 f4 (0 : Int32) h28) (fun r29 h30 => j8 h30)))))))
def cA_layDuel_8  (f1 : Int32) (f2 : Int32) (f3 : Int32) (k : HP → Option (Unit × HP)) : Nat → Int32 → HP → Option (Unit × HP)
  | 0, _, _ => none
  | n + 1, v4, h => if f3 < v4 then (k h) else (bnd (0 : Int32) (fun x5 => cA_layDuel_17 f1 f2 f3 v4 (fun (h31 : HP) => bnd (v4 + (1 : Int32)) (fun x32 => cA_layDuel_8 f1 f2 f3 k n x32 h31)) FU x5 h))
def cA_layDuel  (a1 : Int32) (a2 : Int32) (h : HP) : Option (Unit × HP) := cal (cA_questions h) (fun r1 h2 => bnd r1 (fun x3 => bnd (0 : Int32) (fun x4 => cA_layDuel_8 a1 a2 x3 (fun (h33 : HP) => some ((), h33)) FU x4 h2)))
def cA_isRest_6  (f1 : Int32) (f2 : Int32) (f3 : Int32) (k : HP → Option (Int32 × HP)) : Nat → Int32 → HP → Option (Int32 × HP)
  | 0, _, _ => none
  | n + 1, v4, h => cal (cA_questions h) (fun r3 h4 => if r3 < v4 then (k h4) else (grd (inb ((f3 * v4) + f2) 81) (grd (inb ((f3 * f1) + f2) 81) (if (gI h4 39 (((f3 * f1) + f2)).toNatClampNeg) < (gI h4 39 (((f3 * v4) + f2)).toNatClampNeg) then (some ((0 : Int32), h4)) else (grd (inb ((f3 * f1) + v4) 81) (grd (inb ((f3 * f1) + f2) 81) (if (gI h4 40 (((f3 * f1) + v4)).toNatClampNeg) ≤ (gI h4 40 (((f3 * f1) + f2)).toNatClampNeg) then (bnd (v4 + (1 : Int32)) (fun x5 => cA_isRest_6 f1 f2 f3 k n x5 h4)) else (some ((0 : Int32), h4)))))))))
def cA_isRest  (a1 : Int32) (a2 : Int32) (h : HP) : Option (Int32 × HP) := bnd (9 : Int32) (fun x1 => bnd (0 : Int32) (fun x2 => cA_isRest_6 a1 a2 x1 (fun (h6 : HP) => some ((1 : Int32), h6)) FU x2 h))
def cA_restOf_15  (f1 : Int32) (f3 : Int32) (k : Int32 → HP → Option (Int32 × HP)) : Nat → Int32 → Int32 → HP → Option (Int32 × HP)
  | 0, _, _, _ => none
  | n + 1, v2, v4, h => cal (cA_questions h) (fun r6 h7 => if r6 < v4 then (k v2 h7) else (cal (cA_isRest f3 v4 h7) (fun r8 h9 => if r8 = 0 then (bnd (v4 + (1 : Int32)) (fun x10 => cA_restOf_15 f1 f3 k n v2 x10 h9)) else (if v2 = f1 then (some ((((100 : Int32) * f3) + v4), h9)) else (bnd (v2 + (1 : Int32)) (fun x11 => bnd (v4 + (1 : Int32)) (fun x12 => cA_restOf_15 f1 f3 k n x11 x12 h9)))))))
def cA_restOf_4  (f1 : Int32) (k : Int32 → HP → Option (Int32 × HP)) : Nat → Int32 → Int32 → HP → Option (Int32 × HP)
  | 0, _, _, _ => none
  | n + 1, v2, v3, h => cal (cA_questions h) (fun r3 h4 => if r3 < v3 then (k v2 h4) else (bnd (0 : Int32) (fun x5 => cA_restOf_15 f1 v3 (fun (x13 : Int32) (h14 : HP) => bnd (v3 + (1 : Int32)) (fun x15 => cA_restOf_4 f1 k n x13 x15 h14)) FU v2 x5 h4)))
def cA_restOf  (a1 : Int32) (h : HP) : Option (Int32 × HP) := bnd (0 : Int32) (fun x1 => bnd (0 : Int32) (fun x2 => cA_restOf_4 a1 (fun (x16 : Int32) (h17 : HP) => if a1 = (-1 : Int32) then (some (x16, h17)) else (some ((-2 : Int32), h17))) FU x1 x2 h))
def cA_rests  (a1 : Int32) (a2 : Int32) (h : HP) : Option (Int32 × HP) := cal (cA_isDuel a1 a2 h) (fun r1 h2 => if r1 = 0 then (some ((-1 : Int32), h2)) else (cal (cA_layDuel a1 a2 h2) (fun r3 h4 => cal (cA_restOf (-1 : Int32) h4) (fun r5 h6 => some (r5, h6)))))
def cA_rest  (a1 : Int32) (a2 : Int32) (a3 : Int32) (h : HP) : Option (Int32 × HP) := cal (cA_isDuel a1 a2 h) (fun r1 h2 => if r1 = 0 then (some ((-1 : Int32), h2)) else (if 0 ≤ a3 then (cal (cA_layDuel a1 a2 h2) (fun r3 h4 => cal (cA_restOf a3 h4) (fun r5 h6 => some (r5, h6)))) else (some ((-1 : Int32), h2))))
def cS_talk  (o : Nat) (a1 : Int32) (a2 : Int32) (h : HP) : Option (Unit × HP) := grd (shS (cV h) o) (onr (gR (cV h) 0 6) (fun b2 => grd (shC (cV h) b2) (grd (inb a1 10) (onr (gR (cV h) 0 6) (fun b5 => grd (shC (cV h) b5) (grd (inb a1 10) (onr (gR (cV h) 0 6) (fun b8 => grd (shC (cV h) b8) (grd (inb a1 10) (cal (cS_can o (gI h (b2 + 7) (a1).toNatClampNeg) (gI h (b5 + 8) (a1).toNatClampNeg) (gI h (b8 + 9) (a1).toNatClampNeg) (0 : Int32) h) (fun r11 h12 => if r11 = 0 then (some ((), h12)) else (grd (shS (cV h12) o) (onr (gR (cV h12) 0 6) (fun b14 => grd (shC (cV h12) b14) (grd (inb a1 10) (onr (gR (cV h12) 0 6) (fun b17 => grd (shC (cV h12) b17) (grd (inb a1 10) (onr (gR (cV h12) 0 6) (fun b20 => grd (shC (cV h12) b20) (grd (inb a1 10) (cal (cS_ask o (gI h12 (b14 + 7) (a1).toNatClampNeg) (gI h12 (b17 + 8) (a1).toNatClampNeg) (gI h12 (b20 + 9) (a1).toNatClampNeg) a2 h12) (fun r23 h24 => some ((), h24))))))))))))))))))))))))
def cA_layTalk_9  (f1 : Int32) (k : HP → Option (Unit × HP)) : Nat → Int32 → HP → Option (Unit × HP)
  | 0, _, _ => none
  | n + 1, v2, h => if f1 ≤ v2 then (k h) else (cal (cS_talk 25 v2 (0 : Int32) h) (fun r4 h5 => bnd (v2 + (1 : Int32)) (fun x6 => cA_layTalk_9 f1 k n x6 h5)))
def cA_layTalk  (a1 : Int32) (h : HP) : Option (Unit × HP) := cal (cS_begin 25 h) (fun r1 h2 => bnd (0 : Int32) (fun x3 => cA_layTalk_9 a1 (fun (h7 : HP) => some ((), h7)) FU x3 h2))
def cA_slipped  (a1 : Int32) (h : HP) : Option (Int32 × HP) := cal (cA_isPerson a1 h) (fun r1 h2 => if r1 = 0 then (some ((-1 : Int32), h2)) else (onr (gR (cV h2) 0 6) (fun b3 => grd (shC (cV h2) b3) (cal (cA_layTalk (gI h2 b3 7) h2) (fun r6 h7 => grd (inb a1 5) (some ((gI h7 28 (a1).toNatClampNeg), h7)))))))
def cA_behind  (a1 : Int32) (a2 : Int32) (h : HP) : Option (Int32 × HP) := cal (cA_isPerson a2 h) (fun r1 h2 => if r1 = 0 then (some ((-1 : Int32), h2)) else (onr (gR (cV h2) 0 6) (fun b3 => grd (shC (cV h2) b3) (cal (cA_in (a1).toInt64 (0 : Int64) ((gI h2 b3 7)).toInt64 h2) (fun r6 h7 => if r6 = 0 then (some ((-1 : Int32), h7)) else (cal (cA_layTalk a1 h7) (fun r8 h9 => grd (inb a2 5) (some ((gI h9 26 (a2).toNatClampNeg), h9)))))))))
def kX20_init  (o : Nat) (h : HP) : Option (Unit × HP) := some ((), h)
def kX21_init  (o : Nat) (a1 : Int32) (a2 : Int32) (a3 : Int32) (a4 : Int32) (h : HP) : Option (Unit × HP) := cal (kX20_init o h) (fun r1 h2 => grd ((gT (cV h2) o).1 = 14) (bnd (sI h2 o 0 a1) (fun h4 => bnd (sI h4 o 1 a2) (fun h7 => bnd (sI h7 o 2 a3) (fun h10 => grd (isB a4) (bnd (sI h10 o 3 a4) (fun h14 => some ((), h14))))))))
def cA_add  (a1 : Nat) (h : HP) : Option (Int32 × HP) := cal (cL_add 41 a1 h) (fun r1 h2 => cal (cL_size 41 h2) (fun r3 h4 => some ((r3 - (1 : Int32)), h4)))
def cA_note  (a1 : Int32) (a2 : Int32) (a3 : Int32) (a4 : Int32) (h : HP) : Option (Int32 × HP) := onr (gR (cV h) 0 6) (fun b1 => grd (shC (cV h) b1) (cal (cA_in (a1).toInt64 (0 : Int64) ((gI h b1 7)).toInt64 h) (fun r4 h5 => if r4 = 0 then (some ((-1 : Int32), h5)) else (cal (cA_isPerson a2 h5) (fun r6 h7 => if r6 = 0 then (some ((-1 : Int32), h7)) else (cal (cA_isFact a3 h7) (fun r8 h9 => if r8 = 0 then (some ((-1 : Int32), h9)) else (cal (cL_size 41 h9) (fun r10 h11 => if (24 : Int32) ≤ r10 then (some ((-1 : Int32), h11)) else (grd (54 ≤ gN h11) (bnd (gN h11) (fun b13 => bnd (sA h11 (14, 0) 4) (fun h14 => cal (kX21_init b13 a1 a2 a3 a4 h14) (fun r15 h16 => cal (cA_add b13 h16) (fun r17 h18 => some (r17, h18))))))))))))))))
def kX22_init  (o : Nat) (a1 : Int32) (h : HP) : Option (Unit × HP) := cal (kX20_init o h) (fun r1 h2 => grd ((gT (cV h2) o).1 = 15) (bnd (sI h2 o 0 a1) (fun h4 => some ((), h4))))
def cA_strike  (a1 : Int32) (h : HP) : Option (Int32 × HP) := cal (cL_size 41 h) (fun r1 h2 => cal (cA_in (a1).toInt64 (0 : Int64) ((r1 - (1 : Int32))).toInt64 h2) (fun r3 h4 => if r3 = 0 then (some ((-1 : Int32), h4)) else (cal (cL_size 41 h4) (fun r5 h6 => if (24 : Int32) ≤ r5 then (some ((-1 : Int32), h6)) else (grd (54 ≤ gN h6) (bnd (gN h6) (fun b8 => bnd (sA h6 (15, 0) 1) (fun h9 => cal (kX22_init b8 a1 h9) (fun r10 h11 => cal (cA_add b8 h11) (fun r12 h13 => some (r12, h13)))))))))))
def cA_known  (a1 : Int32) (h : HP) : Option (Int32 × HP) := cal (cL_size 41 h) (fun r1 h2 => cal (cA_in (a1).toInt64 (-1 : Int64) (r1).toInt64 h2) (fun r3 h4 => if r3 = 0 then (some ((0 : Int32), h4)) else (bnd (sI h4 0 23 a1) (fun h5 => some ((1 : Int32), h5)))))
def cA_knownMany   (h : HP) : Option (Int32 × HP) := if (gI h 0 23) = (-1 : Int32) then (cal (cL_size 41 h) (fun r1 h2 => some (r1, h2))) else (some ((gI h 0 23), h))
def kX20_struck  (o : Nat) (h : HP) : Option (Int32 × HP) := some ((-1 : Int32), h)
def kX22_struck  (o : Nat) (h : HP) : Option (Int32 × HP) := grd ((gT (cV h) o).1 = 15) (some ((gI h o 0), h))
def cF_struck (o : Nat)  (h : HP) : Option (Int32 × HP) := if (gT (cV h) o).1 = 14 then kX20_struck o  h else if (gT (cV h) o).1 = 15 then kX22_struck o  h else none
def kX21_isSo  (o : Nat) (a1 : Nat) (h : HP) : Option (Int32 × HP) := grd (shS (cV h) a1) (grd ((gT (cV h) o).1 = 14) (grd (inb (gI h o 1) 5) (jon (fun (s4 : Int32) => if s4 = (gI h o 3) then (some ((1 : Int32), h)) else (some ((0 : Int32), h))) (fun j3 => if (((gI h (a1 + 1) ((gI h o 1)).toNatClampNeg) >>> ((gI h o 2) &&& 31)) &&& (1 : Int32)) = (1 : Int32) then (j3 (1 : Int32)) else (j3 (0 : Int32))))))
def kX20_isSo  (o : Nat) (a1 : Nat) (h : HP) : Option (Int32 × HP) := some ((1 : Int32), h)
def cF_isSo (o : Nat) (a1 : Nat) (h : HP) : Option (Int32 × HP) := if (gT (cV h) o).1 = 14 then kX21_isSo o a1 h else if (gT (cV h) o).1 = 15 then kX20_isSo o a1 h else none
def kX21_behind  (o : Nat) (h : HP) : Option (Int32 × HP) := grd ((gT (cV h) o).1 = 14) (some ((gI h o 0), h))
def kX20_behind  (o : Nat) (h : HP) : Option (Int32 × HP) := some ((-1 : Int32), h)
def cF_behind (o : Nat)  (h : HP) : Option (Int32 × HP) := if (gT (cV h) o).1 = 14 then kX21_behind o  h else if (gT (cV h) o).1 = 15 then kX20_behind o  h else none
def cA_areSo_2  (f1 : Int32) (k : HP → Option (Int32 × HP)) : Nat → Int32 → HP → Option (Int32 × HP)
  | 0, _, _ => none
  | n + 1, v2, h => cal (cA_knownMany h) (fun r2 h3 => if r2 ≤ v2 then (k h3) else (grd (inb v2 24) (if (gI h3 43 (v2).toNatClampNeg) = 0 then (cal (cL_get 41 v2 h3) (fun r4 h5 => grd ((gT (cV h5) r4).1 = 14 ∨ (gT (cV h5) r4).1 = 15) (cal (cF_behind r4 h5) (fun r7 h8 => if r7 = f1 then (cal (cL_get 41 v2 h8) (fun r9 h10 => grd ((gT (cV h10) r9).1 = 14 ∨ (gT (cV h10) r9).1 = 15) (cal (cF_isSo r9 25 h10) (fun r12 h13 => if r12 = 0 then (some ((0 : Int32), h13)) else (bnd (v2 + (1 : Int32)) (fun x14 => cA_areSo_2 f1 k n x14 h13)))))) else (bnd (v2 + (1 : Int32)) (fun x17 => cA_areSo_2 f1 k n x17 h8)))))) else (bnd (v2 + (1 : Int32)) (fun x20 => cA_areSo_2 f1 k n x20 h3)))))
def cA_areSo  (a1 : Int32) (h : HP) : Option (Int32 × HP) := bnd (0 : Int32) (fun x1 => cA_areSo_2 a1 (fun (h21 : HP) => some ((1 : Int32), h21)) FU x1 h)
def cA_isKnew_22   (k : HP → Option (Int32 × HP)) : Nat → Int32 → HP → Option (Int32 × HP)
  | 0, _, _ => none
  | n + 1, v3, h => onr (gR (cV h) 0 6) (fun b7 => grd (shC (cV h) b7) (if (gI h b7 7) ≤ v3 then (k h) else (cal (cA_areSo v3 h) (fun r10 h11 => if r10 = 0 then (some ((0 : Int32), h11)) else (cal (cS_talk 25 v3 (0 : Int32) h11) (fun r12 h13 => bnd (v3 + (1 : Int32)) (fun x14 => cA_isKnew_22 k n x14 h13)))))))
def cA_isKnew  (a1 : Int32) (a2 : Int32) (h : HP) : Option (Int32 × HP) := cal (cS_begin 25 h) (fun r1 h2 => grd (inb a1 5) (grd (inb a1 5) (bnd (sI h2 26 (a1).toNatClampNeg ((gI h2 26 (a1).toNatClampNeg) ||| a2)) (fun h3 => bnd (0 : Int32) (fun x6 => cA_isKnew_22 (fun (h15 : HP) => onr (gR (cV h15) 0 6) (fun b16 => grd (shC (cV h15) b16) (cal (cA_areSo (gI h15 b16 7) h15) (fun r19 h20 => grd (isB r19) (some (r19, h20)))))) FU x6 h3)))))
def cA_knew_12  (f1 : Int32) (k : HP → Option (Int32 × HP)) : Nat → Int32 → HP → Option (Int32 × HP)
  | 0, _, _ => none
  | n + 1, v2, h => cal (cA_knownMany h) (fun r4 h5 => if r4 ≤ v2 then (k h5) else (grd (inb v2 24) (bnd (sI h5 43 (v2).toNatClampNeg (0 : Int32)) (fun h6 => bnd (v2 + (1 : Int32)) (fun x9 => cA_knew_12 f1 k n x9 h6)))))
def cA_knew_40  (f1 : Int32) (k : HP → Option (Int32 × HP)) : Nat → Int32 → HP → Option (Int32 × HP)
  | 0, _, _ => none
  | n + 1, v2, h => if v2 < 0 then (k h) else (grd (inb v2 24) (if (gI h 43 (v2).toNatClampNeg) = 0 then (cal (cL_get 41 v2 h) (fun r14 h15 => grd ((gT (cV h15) r14).1 = 14 ∨ (gT (cV h15) r14).1 = 15) (cal (cF_struck r14 h15) (fun r17 h18 => if r17 = (-1 : Int32) then (bnd (v2 + (-1 : Int32)) (fun x19 => cA_knew_40 f1 k n x19 h18)) else (cal (cL_get 41 v2 h18) (fun r20 h21 => grd ((gT (cV h21) r20).1 = 14 ∨ (gT (cV h21) r20).1 = 15) (cal (cF_struck r20 h21) (fun r23 h24 => grd (inb r23 24) (bnd (sI h24 43 (r23).toNatClampNeg (1 : Int32)) (fun h25 => bnd (v2 + (-1 : Int32)) (fun x28 => cA_knew_40 f1 k n x28 h25))))))))))) else (bnd (v2 + (-1 : Int32)) (fun x33 => cA_knew_40 f1 k n x33 h))))
def cA_knew_113  (f1 : Int32) (f2 : Int32) (k : Int32 → HP → Option (Int32 × HP)) : Nat → Int32 → Int32 → HP → Option (Int32 × HP)
  | 0, _, _, _ => none
  | n + 1, v3, v4, h => if f2 < v4 then (k v3 h) else (jon (fun (s45 : Int32) => cal (cA_isKnew f1 s45 h) (fun r46 h47 => jon (fun (s49 : Int32) => bnd (v3 ||| s49) (fun x50 => bnd (v4 + (1 : Int32)) (fun x51 => cA_knew_113 f1 f2 k n x50 x51 h47))) (fun j48 => if r46 = 0 then (j48 (0 : Int32)) else (j48 ((1 : Int32) <<< (v4 &&& 31)))))) (fun j44 => if f2 ≤ v4 then (j44 (0 : Int32)) else (j44 ((1 : Int32) <<< (v4 &&& 31)))))
def cA_knew  (a1 : Int32) (h : HP) : Option (Int32 × HP) := cal (cA_isPerson a1 h) (fun r1 h2 => if r1 = 0 then (some ((-1 : Int32), h2)) else (bnd (0 : Int32) (fun x3 => cA_knew_12 a1 (fun (h10 : HP) => cal (cA_knownMany h10) (fun r11 h12 => bnd (r11 - (1 : Int32)) (fun x13 => cA_knew_40 a1 (fun (h34 : HP) => onr (gR (cV h34) 0 6) (fun b35 => grd (shC (cV h34) b35) (grd (shL (cV h34) (b35 + 1)) (cal (cL_size (b35 + 1) h34) (fun r38 h39 => bnd r38 (fun x41 => bnd (0 : Int32) (fun x42 => bnd (0 : Int32) (fun x43 => cA_knew_113 a1 x41 (fun (x52 : Int32) (h53 : HP) => some (x52, h53)) FU x42 x43 h39)))))))) FU x13 h12))) FU x3 h2)))
def cA_chance_61  (f2 : Int32) (f3 : Int32) (f4 : Int32) (f6 : Int32) (k : HP → Option (Int32 × HP)) : Nat → Int32 → HP → Option (Int32 × HP)
  | 0, _, _ => none
  | n + 1, v7, h => onr (gR (cV h) 0 6) (fun b14 => grd (shC (cV h) b14) (if (gI h b14 7) ≤ v7 then (k h) else (cal (cS_talk 25 v7 (1 : Int32) h) (fun r17 h18 => bnd (v7 + (1 : Int32)) (fun x19 => cA_chance_61 f2 f3 f4 f6 k n x19 h18)))))
def cA_chance_31  (f2 : Int32) (f3 : Int32) (k : Int32 → HP → Option (Int32 × HP)) : Nat → Int32 → Int32 → Int32 → HP → Option (Int32 × HP)
  | 0, _, _, _, _ => none
  | n + 1, v4, v5, v6, h => if (10 : Int32) ≤ v6 then (k v4 h) else (cal (cS_become 25 20 h) (fun r8 h9 => bnd (sI h9 25 6 v5) (fun h10 => bnd (0 : Int32) (fun x13 => cA_chance_61 f2 f3 v4 v6 (fun (h20 : HP) => bnd (gI h20 25 6) (fun x21 => grd (inb f2 5) (bnd (v4 + (((gI h20 26 (f2).toNatClampNeg) >>> (f3 &&& 31)) &&& (1 : Int32))) (fun x22 => bnd (v6 + (1 : Int32)) (fun x23 => cA_chance_31 f2 f3 k n x22 x21 x23 h20))))) FU x13 h10))))
def cA_chance  (a1 : Int32) (a2 : Int32) (a3 : Int32) (h : HP) : Option (Int32 × HP) := if a1 < 0 then (some ((-1 : Int32), h)) else (cal (cA_isPerson a2 h) (fun r1 h2 => if r1 = 0 then (some ((-1 : Int32), h2)) else (cal (cA_isFact a3 h2) (fun r3 h4 => if r3 = 0 then (some ((-1 : Int32), h4)) else (bnd (0 : Int32) (fun x5 => bnd a1 (fun x6 => bnd (0 : Int32) (fun x7 => cA_chance_31 a2 a3 (fun (x24 : Int32) (h25 : HP) => some (x24, h25)) FU x5 x6 x7 h4))))))))
def cA_tried  (a1 : Int32) (a2 : Int32) (h : HP) : Option (Int32 × HP) := jon (fun (s2 : Int32) (h3 : HP) => bnd s2 (fun x4 => if x4 = 0 then (some ((-1 : Int32), h3)) else (cal (cS_become 25 20 h3) (fun r5 h6 => bnd (sI h6 25 7 a1) (fun h7 => bnd (sI h7 25 8 a2) (fun h10 => jon (fun (h14 : HP) => cal (cS_askAll 25 h14) (fun r15 h16 => cal (cS_sum 25 h16) (fun r17 h18 => some (r17, h18)))) (fun j13 => if a1 = (2 : Int32) then (bnd (sI h10 25 9 ((1 : Int32) <<< (a2 &&& 31))) (fun h19 => j13 h19)) else (j13 h10)))))))) (fun j1 => if a1 = (2 : Int32) then (cal (cA_isPerson a2 h) (fun r22 h23 => j1 r22 h23)) else (if a1 = (3 : Int32) then (cal (cA_isQuestion a2 h) (fun r24 h25 => j1 r24 h25)) else (cal (cA_in (a1).toInt64 (0 : Int64) (4 : Int64) h) (fun r26 h27 => jon (fun (_u : Unit) => j1 (0 : Int32) h27) (fun j28 => if r26 = 0 then (j28 ()) else (if a2 = 0 then (j1 (1 : Int32) h27) else (j28 ())))))))
def cA_undo   (h : HP) : Option (Int32 × HP) := if (gI h 0 4) = 0 then (some ((-1 : Int32), h)) else (bnd (sI h 0 4 ((gI h 0 4) - (1 : Int32))) (fun h1 => grd (inb (gI h1 0 4) 20) (onr (gR (cV h1) 35 ((gI h1 0 4)).toNatClampNeg) (fun b4 => cal (cS_become 20 b4 h1) (fun r5 h6 => some ((gI h6 0 4), h6))))))
def cA_keep   (h : HP) : Option (Int32 × HP) := cal (cS_become 30 20 h) (fun r1 h2 => bnd (sI h2 0 14 (1 : Int32)) (fun h3 => some ((gI h3 20 4), h3)))
def cA_back   (h : HP) : Option (Int32 × HP) := if (gI h 0 14) = 0 then (some ((-1 : Int32), h)) else (cal (cS_become 20 30 h) (fun r1 h2 => bnd (sI h2 0 4 (0 : Int32)) (fun h3 => some ((gI h3 20 4), h3))))
def cA_count_119   (k : Int32 → HP → Option (Int32 × HP)) : Nat → Int32 → Int32 → HP → Option (Int32 × HP)
  | 0, _, _, _ => none
  | n + 1, v2, v3, h => cal (cA_persons h) (fun r29 h30 => if r29 ≤ v3 then (k v2 h30) else (grd (inb v3 5) (bnd (v2 + (gI h30 23 (v3).toNatClampNeg)) (fun x31 => bnd (v3 + (1 : Int32)) (fun x32 => cA_count_119 k n x31 x32 h30)))))
def cA_count  (a1 : Int32) (h : HP) : Option (Int32 × HP) := bnd (0 : Int32) (fun x1 => if a1 = (0 : Int32) then (onr (gR (cV h) 0 6) (fun b3 => grd (shC (cV h) b3) (grd (shL (cV h) (b3 + 1)) (cal (cL_size (b3 + 1) h) (fun r6 h7 => some (r6, h7)))))) else if a1 = (1 : Int32) then (cal (cA_persons h) (fun r10 h11 => some (r10, h11))) else if a1 = (2 : Int32) then (cal (cA_questions h) (fun r13 h14 => some (r13, h14))) else if a1 = (3 : Int32) then (onr (gR (cV h) 0 6) (fun b16 => grd (shC (cV h) b16) (some ((gI h b16 7), h)))) else if a1 = (4 : Int32) then (onr (gR (cV h) 0 6) (fun b20 => grd (shC (cV h) b20) (some ((gI h b20 10), h)))) else if a1 = (5 : Int32) then (some ((gI h 20 4), h)) else if a1 = (6 : Int32) then (cal (cS_sum 20 h) (fun r25 h26 => some (r25, h26))) else if a1 = (7 : Int32) then (bnd (0 : Int32) (fun x28 => cA_count_119 (fun (x33 : Int32) (h34 : HP) => some (x33, h34)) FU x1 x28 h)) else if a1 = (8 : Int32) then (some ((gI h 20 5), h)) else if a1 = (9 : Int32) then (cal (cL_size 41 h) (fun r37 h38 => some (r37, h38))) else if a1 = (10 : Int32) then (cal (cA_knownMany h) (fun r40 h41 => some (r40, h41))) else if a1 = (11 : Int32) then (some ((gI h 0 4), h)) else (some ((-1 : Int32), h)))
def kX4_init  (o : Nat) (h : HP) : Option (Unit × HP) := some ((), h)
def kX5_init  (o : Nat) (h : HP) : Option (Unit × HP) := cal (kX4_init o h) (fun r1 h2 => some ((), h2))
def kX6_init  (o : Nat) (h : HP) : Option (Unit × HP) := cal (kX5_init o h) (fun r1 h2 => some ((), h2))
def kX7_init  (o : Nat) (h : HP) : Option (Unit × HP) := cal (kX5_init o h) (fun r1 h2 => some ((), h2))
def kX8_init  (o : Nat) (h : HP) : Option (Unit × HP) := cal (kX5_init o h) (fun r1 h2 => some ((), h2))
/-! counters never fall -/
theorem kJ0_init_m  (o : Nat) (h : HP) : mG (gN h) (gS h) (kJ0_init o h) := by
  have key : ∀ c s : Nat, mN c s h → mG c s (kJ0_init o h) := by
    intro c s hn
    rw [kJ0_init]
    exact mg_some hn
  exact key _ _ ⟨Nat.le_refl _, Nat.le_refl _⟩
theorem kJ1_init_m  (o : Nat) (h : HP) : mG (gN h) (gS h) (kJ1_init o h) := by
  have key : ∀ c s : Nat, mN c s h → mG c s (kJ1_init o h) := by
    intro c s hn
    rw [kJ1_init]
    refine mg_cal hn (kJ0_init_m o h) (fun r1 h2 hn => ?_)
    refine mg_grd ?_
    refine mg_bI hn (fun h4 hn => ?_)
    exact mg_some hn
  exact key _ _ ⟨Nat.le_refl _, Nat.le_refl _⟩
theorem kJ10_init_2_m  (o : Nat) (a3 : Int32) (a4 : Int32) (h : HP) : mG (gN h) (gS h) (kJ10_init_2 o a3 a4 h) := by
  have key : ∀ c s : Nat, mN c s h → mG c s (kJ10_init_2 o a3 a4 h) := by
    intro c s hn
    rw [kJ10_init_2]
    refine mg_grd ?_
    refine mg_jon (fun (j6 : HP → Option (Unit × HP)) => ∀ (h7 : HP), mN c s h7 → mG c s (j6 h7)) ?_ ?_
    · intro h7 hn
      refine mg_grd ?_
      refine mg_ite ?_ ?_
      · exact mg_some hn
      · exact mg_some hn
    · intro j6 hj6
      refine mg_ite ?_ ?_
      · exact hj6 h hn
      · exact mg_none
  exact key _ _ ⟨Nat.le_refl _, Nat.le_refl _⟩
theorem kJ11_init_m  (o : Nat) (a3 : Int32) (a4 : Int32) (h : HP) : mG (gN h) (gS h) (kJ11_init o a3 a4 h) := by
  have key : ∀ c s : Nat, mN c s h → mG c s (kJ11_init o a3 a4 h) := by
    intro c s hn
    rw [kJ11_init]
    refine mg_cal hn (kJ10_init_2_m o a3 a4 h) (fun r1 h2 hn => ?_)
    exact mg_some hn
  exact key _ _ ⟨Nat.le_refl _, Nat.le_refl _⟩
theorem kJ18_bitCount_m  (a1 : Int32) (h : HP) : mG (gN h) (gS h) (kJ18_bitCount a1 h) := by
  have key : ∀ c s : Nat, mN c s h → mG c s (kJ18_bitCount a1 h) := by
    intro c s hn
    rw [kJ18_bitCount]
    refine mg_bnd (fun x1 => ?_)
    refine mg_bnd (fun x2 => ?_)
    refine mg_bnd (fun x3 => ?_)
    refine mg_bnd (fun x4 => ?_)
    refine mg_bnd (fun x5 => ?_)
    exact mg_some hn
  exact key _ _ ⟨Nat.le_refl _, Nat.le_refl _⟩
theorem cL_init_m  (o : Nat) (a1 : Int32) (h : HP) : mG (gN h) (gS h) (cL_init o a1 h) := by
  have key : ∀ c s : Nat, mN c s h → mG c s (cL_init o a1 h) := by
    intro c s hn
    rw [cL_init]
    refine mg_cal hn (kJ1_init_m o h) (fun r1 h2 hn => ?_)
    refine mg_ite ?_ ?_
    · refine mg_ite ?_ ?_
      · exact mg_none
      · exact mg_none
    · refine mg_grd ?_
      refine mg_grd ?_
      refine mg_grd ?_
      refine mg_bnd (fun b4 => ?_)
      refine mg_bA hn (fun h5 hn => ?_)
      refine mg_grd ?_
      refine mg_grd ?_
      refine mg_bR hn (fun h9 hn => ?_)
      exact mg_some hn
  exact key _ _ ⟨Nat.le_refl _, Nat.le_refl _⟩
theorem cL_size_m  (o : Nat) (h : HP) : mG (gN h) (gS h) (cL_size o h) := by
  have key : ∀ c s : Nat, mN c s h → mG c s (cL_size o h) := by
    intro c s hn
    rw [cL_size]
    refine mg_grd ?_
    exact mg_some hn
  exact key _ _ ⟨Nat.le_refl _, Nat.le_refl _⟩
theorem kJ4_checkIndex_m  (a1 : Int32) (a2 : Int32) (h : HP) : mG (gN h) (gS h) (kJ4_checkIndex a1 a2 h) := by
  have key : ∀ c s : Nat, mN c s h → mG c s (kJ4_checkIndex a1 a2 h) := by
    intro c s hn
    rw [kJ4_checkIndex]
    refine mg_jon (fun (j1 : Unit → Option (Int32 × HP)) => ∀ (_u : Unit), mG c s (j1 ())) ?_ ?_
    · intro _
      exact mg_none
    · intro j1 hj1
      refine mg_ite ?_ ?_
      · exact hj1 ()
      · refine mg_ite ?_ ?_
        · exact mg_some hn
        · exact hj1 ()
  exact key _ _ ⟨Nat.le_refl _, Nat.le_refl _⟩
theorem kJ3_checkIndex_m  (a1 : Int32) (a2 : Int32) (h : HP) : mG (gN h) (gS h) (kJ3_checkIndex a1 a2 h) := by
  have key : ∀ c s : Nat, mN c s h → mG c s (kJ3_checkIndex a1 a2 h) := by
    intro c s hn
    rw [kJ3_checkIndex]
    refine mg_cal hn (kJ4_checkIndex_m a1 a2 h) (fun r1 h2 hn => ?_)
    exact mg_some hn
  exact key _ _ ⟨Nat.le_refl _, Nat.le_refl _⟩
theorem cL_elementData_m  (o : Nat) (a1 : Int32) (h : HP) : mG (gN h) (gS h) (cL_elementData o a1 h) := by
  have key : ∀ c s : Nat, mN c s h → mG c s (cL_elementData o a1 h) := by
    intro c s hn
    rw [cL_elementData]
    refine mg_grd ?_
    refine mg_grd ?_
    refine mg_onr (fun b2 => ?_)
    exact mg_some hn
  exact key _ _ ⟨Nat.le_refl _, Nat.le_refl _⟩
theorem cL_get_m  (o : Nat) (a1 : Int32) (h : HP) : mG (gN h) (gS h) (cL_get o a1 h) := by
  have key : ∀ c s : Nat, mN c s h → mG c s (cL_get o a1 h) := by
    intro c s hn
    rw [cL_get]
    refine mg_grd ?_
    refine mg_cal hn (kJ3_checkIndex_m a1 (gI h o 2) h) (fun r2 h3 hn => ?_)
    refine mg_grd ?_
    refine mg_cal hn (cL_elementData_m o a1 h3) (fun r4 h5 hn => ?_)
    exact mg_some hn
  exact key _ _ ⟨Nat.le_refl _, Nat.le_refl _⟩
theorem cL_add_2_m  (o : Nat) (a1 : Nat) (a2 : Nat) (a3 : Int32) (h : HP) : mG (gN h) (gS h) (cL_add_2 o a1 a2 a3 h) := by
  have key : ∀ c s : Nat, mN c s h → mG c s (cL_add_2 o a1 a2 a3 h) := by
    intro c s hn
    rw [cL_add_2]
    refine mg_grd ?_
    refine mg_jon (fun (j2 : Nat → HP → Option (Unit × HP)) => ∀ (x3 : Nat) (h4 : HP), mN c s h4 → mG c s (j2 x3 h4)) ?_ ?_
    · intro x3 h4 hn
      refine mg_grd ?_
      refine mg_grd ?_
      refine mg_grd ?_
      refine mg_grd ?_
      refine mg_bR hn (fun h7 hn => ?_)
      refine mg_grd ?_
      refine mg_bI hn (fun h10 hn => ?_)
      exact mg_some hn
    · intro j2 hj2
      refine mg_ite ?_ ?_
      · exact mg_none
      · exact hj2 a2 h hn
  exact key _ _ ⟨Nat.le_refl _, Nat.le_refl _⟩
theorem cL_add_m  (o : Nat) (a1 : Nat) (h : HP) : mG (gN h) (gS h) (cL_add o a1 h) := by
  have key : ∀ c s : Nat, mN c s h → mG c s (cL_add o a1 h) := by
    intro c s hn
    rw [cL_add]
    refine mg_grd ?_
    refine mg_bI hn (fun h2 hn => ?_)
    refine mg_grd ?_
    refine mg_cal hn (cL_add_2_m o a1 (o + 1) (gI h2 o 2) h2) (fun r6 h7 hn => ?_)
    exact mg_some hn
  exact key _ _ ⟨Nat.le_refl _, Nat.le_refl _⟩
theorem cL_clear_27_m {c s : Nat}  (f1 : Nat) (f2 : Int32) (k : HP → Option (Unit × HP)) (hk : ∀  (h : HP), mN c s h → mG c s (k  h)) : ∀ (n : Nat) (v3 : Int32) (h : HP), mN c s h → mG c s (cL_clear_27 f1 f2 k n v3 h) := by
  intro n
  induction n with
  | zero =>
    intro v3 h hn
    exact mg_none
  | succ n ih =>
    intro v3 h hn
    rw [cL_clear_27]
    refine mg_ite ?_ ?_
    · exact hk h hn
    · refine mg_grd ?_
      refine mg_grd ?_
      refine mg_grd ?_
      refine mg_bR hn (fun h13 hn => ?_)
      refine mg_bnd (fun x14 => ?_)
      exact ih x14 h13 hn
theorem cL_clear_m  (o : Nat) (h : HP) : mG (gN h) (gS h) (cL_clear o h) := by
  have key : ∀ c s : Nat, mN c s h → mG c s (cL_clear o h) := by
    intro c s hn
    rw [cL_clear]
    refine mg_grd ?_
    refine mg_bI hn (fun h2 hn => ?_)
    refine mg_grd ?_
    refine mg_bnd (fun x6 => ?_)
    refine mg_bI hn (fun h7 hn => ?_)
    refine mg_bnd (fun x10 => ?_)
    refine cL_clear_27_m (o + 1) x6 _ (fun  h15 hn => ?_) FU x10 h7 hn
    exact mg_some hn
  exact key _ _ ⟨Nat.le_refl _, Nat.le_refl _⟩
theorem kJ5_coder_m  (o : Nat) (h : HP) : mG (gN h) (gS h) (kJ5_coder o h) := by
  have key : ∀ c s : Nat, mN c s h → mG c s (kJ5_coder o h) := by
    intro c s hn
    rw [kJ5_coder]
    refine mg_ite ?_ ?_
    · refine mg_grd ?_
      exact mg_some hn
    · refine mg_grd ?_
      refine mg_grd ?_
      exact mg_some hn
  exact key _ _ ⟨Nat.le_refl _, Nat.le_refl _⟩
theorem kJ5_length_m  (o : Nat) (h : HP) : mG (gN h) (gS h) (kJ5_length o h) := by
  have key : ∀ c s : Nat, mN c s h → mG c s (kJ5_length o h) := by
    intro c s hn
    rw [kJ5_length]
    refine mg_grd ?_
    refine mg_cal hn (kJ5_coder_m o h) (fun r2 h3 hn => ?_)
    exact mg_some hn
  exact key _ _ ⟨Nat.le_refl _, Nat.le_refl _⟩
theorem kJ5_isLatin1_m  (o : Nat) (h : HP) : mG (gN h) (gS h) (kJ5_isLatin1 o h) := by
  have key : ∀ c s : Nat, mN c s h → mG c s (kJ5_isLatin1 o h) := by
    intro c s hn
    rw [kJ5_isLatin1]
    refine mg_ite ?_ ?_
    · exact mg_some hn
    · refine mg_grd ?_
      refine mg_ite ?_ ?_
      · exact mg_some hn
      · exact mg_some hn
  exact key _ _ ⟨Nat.le_refl _, Nat.le_refl _⟩
theorem kJ5_checkIndex_m  (a1 : Int32) (a2 : Int32) (h : HP) : mG (gN h) (gS h) (kJ5_checkIndex a1 a2 h) := by
  have key : ∀ c s : Nat, mN c s h → mG c s (kJ5_checkIndex a1 a2 h) := by
    intro c s hn
    rw [kJ5_checkIndex]
    refine mg_cal hn (kJ4_checkIndex_m a1 a2 h) (fun r2 h3 hn => ?_)
    exact mg_some hn
  exact key _ _ ⟨Nat.le_refl _, Nat.le_refl _⟩
theorem kJ6_charAt_m  (a1 : Nat) (a2 : Int32) (h : HP) : mG (gN h) (gS h) (kJ6_charAt a1 a2 h) := by
  have key : ∀ c s : Nat, mN c s h → mG c s (kJ6_charAt a1 a2 h) := by
    intro c s hn
    rw [kJ6_charAt]
    refine mg_grd ?_
    refine mg_cal hn (kJ5_checkIndex_m a2 (Int32.ofNat (sLen.getD a1 0)) h) (fun r2 h3 hn => ?_)
    refine mg_grd ?_
    refine mg_grd ?_
    refine mg_grd ?_
    exact mg_some hn
  exact key _ _ ⟨Nat.le_refl _, Nat.le_refl _⟩
theorem kJ5_charAt_m  (o : Nat) (a1 : Int32) (h : HP) : mG (gN h) (gS h) (kJ5_charAt o a1 h) := by
  have key : ∀ c s : Nat, mN c s h → mG c s (kJ5_charAt o a1 h) := by
    intro c s hn
    rw [kJ5_charAt]
    refine mg_grd ?_
    refine mg_cal hn (kJ5_isLatin1_m o h) (fun r1 h2 hn => ?_)
    refine mg_ite ?_ ?_
    · exact mg_none
    · refine mg_cal hn (kJ6_charAt_m o a1 h2) (fun r6 h7 hn => ?_)
      refine mg_grd ?_
      exact mg_some hn
  exact key _ _ ⟨Nat.le_refl _, Nat.le_refl _⟩
theorem kJ6_canEncode_m  (a1 : Int32) (h : HP) : mG (gN h) (gS h) (kJ6_canEncode a1 h) := by
  have key : ∀ c s : Nat, mN c s h → mG c s (kJ6_canEncode a1 h) := by
    intro c s hn
    rw [kJ6_canEncode]
    refine mg_ite ?_ ?_
    · exact mg_some hn
    · refine mg_ite ?_ ?_
      · exact mg_some hn
      · exact mg_some hn
  exact key _ _ ⟨Nat.le_refl _, Nat.le_refl _⟩
theorem kJ6_indexOfChar_7_m {c s : Nat}  (f0 : Nat) (f3 : Int32) (f4 : Int32) (k : HP → Option (Int32 × HP)) (hk : ∀  (h : HP), mN c s h → mG c s (k  h)) : ∀ (n : Nat) (v5 : Int32) (h : HP), mN c s h → mG c s (kJ6_indexOfChar_7 f0 f3 f4 k n v5 h) := by
  intro n
  induction n with
  | zero =>
    intro v5 h hn
    exact mg_none
  | succ n ih =>
    intro v5 h hn
    rw [kJ6_indexOfChar_7]
    refine mg_ite ?_ ?_
    · exact hk h hn
    · refine mg_grd ?_
      refine mg_grd ?_
      refine mg_ite ?_ ?_
      · exact mg_some hn
      · refine mg_bnd (fun x4 => ?_)
        exact ih x4 h hn
theorem kJ6_indexOfChar_m  (a1 : Nat) (a2 : Int32) (a3 : Int32) (a4 : Int32) (h : HP) : mG (gN h) (gS h) (kJ6_indexOfChar a1 a2 a3 a4 h) := by
  have key : ∀ c s : Nat, mN c s h → mG c s (kJ6_indexOfChar a1 a2 a3 a4 h) := by
    intro c s hn
    rw [kJ6_indexOfChar]
    refine mg_bnd (fun x1 => ?_)
    refine mg_bnd (fun x2 => ?_)
    refine kJ6_indexOfChar_7_m a1 a4 x1 _ (fun  h5 hn => ?_) FU x2 h hn
    exact mg_some hn
  exact key _ _ ⟨Nat.le_refl _, Nat.le_refl _⟩
theorem kJ6_indexOf_m  (a1 : Nat) (a2 : Int32) (a3 : Int32) (a4 : Int32) (h : HP) : mG (gN h) (gS h) (kJ6_indexOf a1 a2 a3 a4 h) := by
  have key : ∀ c s : Nat, mN c s h → mG c s (kJ6_indexOf a1 a2 a3 a4 h) := by
    intro c s hn
    rw [kJ6_indexOf]
    refine mg_cal hn (kJ6_canEncode_m a2 h) (fun r1 h2 hn => ?_)
    refine mg_ite ?_ ?_
    · exact mg_some hn
    · refine mg_bnd (fun x5 => ?_)
      refine mg_grd ?_
      refine mg_bnd (fun x9 => ?_)
      refine mg_ite ?_ ?_
      · refine mg_cal hn (kJ6_indexOfChar_m a1 a2 x5 x9 h2) (fun r10 h11 hn => ?_)
        exact mg_some hn
      · exact mg_some hn
  exact key _ _ ⟨Nat.le_refl _, Nat.le_refl _⟩
theorem kJ5_indexOf_2_m  (o : Nat) (a1 : Int32) (a2 : Int32) (h : HP) : mG (gN h) (gS h) (kJ5_indexOf_2 o a1 a2 h) := by
  have key : ∀ c s : Nat, mN c s h → mG c s (kJ5_indexOf_2 o a1 a2 h) := by
    intro c s hn
    rw [kJ5_indexOf_2]
    refine mg_grd ?_
    refine mg_cal hn (kJ5_isLatin1_m o h) (fun r1 h2 hn => ?_)
    refine mg_ite ?_ ?_
    · refine mg_cal hn (kJ5_length_m o h2) (fun r4 h5 hn => ?_)
      exact mg_none
    · refine mg_cal hn (kJ5_length_m o h2) (fun r8 h9 hn => ?_)
      refine mg_cal hn (kJ6_indexOf_m o a1 a2 r8 h9) (fun r10 h11 hn => ?_)
      exact mg_some hn
  exact key _ _ ⟨Nat.le_refl _, Nat.le_refl _⟩
theorem kJ5_indexOf_m  (o : Nat) (a1 : Int32) (h : HP) : mG (gN h) (gS h) (kJ5_indexOf o a1 h) := by
  have key : ∀ c s : Nat, mN c s h → mG c s (kJ5_indexOf o a1 h) := by
    intro c s hn
    rw [kJ5_indexOf]
    refine mg_grd ?_
    refine mg_cal hn (kJ5_indexOf_2_m o a1 (0 : Int32) h) (fun r1 h2 hn => ?_)
    exact mg_some hn
  exact key _ _ ⟨Nat.le_refl _, Nat.le_refl _⟩
theorem cA_persons_m   (h : HP) : mG (gN h) (gS h) (cA_persons  h) := by
  have key : ∀ c s : Nat, mN c s h → mG c s (cA_persons  h) := by
    intro c s hn
    rw [cA_persons]
    refine mg_onr (fun b1 => ?_)
    refine mg_grd ?_
    refine mg_grd ?_
    refine mg_cal hn (cL_size_m (b1 + 3) h) (fun r4 h5 hn => ?_)
    exact mg_some hn
  exact key _ _ ⟨Nat.le_refl _, Nat.le_refl _⟩
theorem cA_put_3_m {c s : Nat}  (f1 : Int32) (k : HP → Option (Unit × HP)) (hk : ∀  (h : HP), mN c s h → mG c s (k  h)) : ∀ (n : Nat) (v2 : Int32) (h : HP), mN c s h → mG c s (cA_put_3 f1 k n v2 h) := by
  intro n
  induction n with
  | zero =>
    intro v2 h hn
    exact mg_none
  | succ n ih =>
    intro v2 h hn
    rw [cA_put_3]
    refine mg_ite ?_ ?_
    · exact hk h hn
    · refine mg_bI hn (fun h2 hn => ?_)
      refine mg_grd ?_
      refine mg_bI hn (fun h5 hn => ?_)
      refine mg_bnd (fun x8 => ?_)
      exact ih x8 h5 hn
theorem cA_put_m  (a1 : Int32) (h : HP) : mG (gN h) (gS h) (cA_put a1 h) := by
  have key : ∀ c s : Nat, mN c s h → mG c s (cA_put a1 h) := by
    intro c s hn
    rw [cA_put]
    refine mg_bnd (fun x1 => ?_)
    refine cA_put_3_m a1 _ (fun  h9 hn => ?_) FU x1 h hn
    exact mg_some hn
  exact key _ _ ⟨Nat.le_refl _, Nat.le_refl _⟩
theorem cA_feed_m  (a1 : Int32) (a2 : Int32) (a3 : Int32) (a4 : Int32) (a5 : Int32) (h : HP) : mG (gN h) (gS h) (cA_feed a1 a2 a3 a4 a5 h) := by
  have key : ∀ c s : Nat, mN c s h → mG c s (cA_feed a1 a2 a3 a4 a5 h) := by
    intro c s hn
    rw [cA_feed]
    refine mg_ite ?_ ?_
    · refine mg_cal hn (cA_put_m a1 h) (fun r1 h2 hn => ?_)
      refine mg_cal hn (cA_put_m a2 h2) (fun r3 h4 hn => ?_)
      refine mg_cal hn (cA_put_m a3 h4) (fun r5 h6 hn => ?_)
      refine mg_cal hn (cA_put_m a4 h6) (fun r7 h8 hn => ?_)
      refine mg_cal hn (cA_put_m a5 h8) (fun r9 h10 hn => ?_)
      exact mg_some hn
    · exact mg_some hn
  exact key _ _ ⟨Nat.le_refl _, Nat.le_refl _⟩
theorem cA_in_m  (a1 : Int64) (a2 : Int64) (a3 : Int64) (h : HP) : mG (gN h) (gS h) (cA_in a1 a2 a3 h) := by
  have key : ∀ c s : Nat, mN c s h → mG c s (cA_in a1 a2 a3 h) := by
    intro c s hn
    rw [cA_in]
    refine mg_ite ?_ ?_
    · exact mg_some hn
    · refine mg_ite ?_ ?_
      · exact mg_some hn
      · exact mg_some hn
  exact key _ _ ⟨Nat.le_refl _, Nat.le_refl _⟩
theorem cC_init_m  (o : Nat) (h : HP) : mG (gN h) (gS h) (cC_init o h) := by
  have key : ∀ c s : Nat, mN c s h → mG c s (cC_init o h) := by
    intro c s hn
    rw [cC_init]
    refine mg_grd ?_
    refine mg_bnd (fun b2 => ?_)
    refine mg_bA hn (fun h3 hn => ?_)
    refine mg_cal hn (cL_init_m b2 (8 : Int32) h3) (fun r4 h5 hn => ?_)
    refine mg_grd ?_
    refine mg_grd ?_
    refine mg_bR hn (fun h7 hn => ?_)
    refine mg_grd ?_
    refine mg_bnd (fun b12 => ?_)
    refine mg_bA hn (fun h13 hn => ?_)
    refine mg_cal hn (cL_init_m b12 (5 : Int32) h13) (fun r14 h15 hn => ?_)
    refine mg_grd ?_
    refine mg_grd ?_
    refine mg_bR hn (fun h17 hn => ?_)
    refine mg_grd ?_
    refine mg_bnd (fun b22 => ?_)
    refine mg_bA hn (fun h23 hn => ?_)
    refine mg_cal hn (cL_init_m b22 (8 : Int32) h23) (fun r24 h25 hn => ?_)
    refine mg_grd ?_
    refine mg_grd ?_
    refine mg_bR hn (fun h27 hn => ?_)
    refine mg_grd ?_
    refine mg_bnd (fun b32 => ?_)
    refine mg_bA hn (fun h33 hn => ?_)
    refine mg_grd ?_
    refine mg_grd ?_
    refine mg_bR hn (fun h35 hn => ?_)
    refine mg_grd ?_
    refine mg_bnd (fun b40 => ?_)
    refine mg_bA hn (fun h41 hn => ?_)
    refine mg_grd ?_
    refine mg_grd ?_
    refine mg_bR hn (fun h43 hn => ?_)
    refine mg_grd ?_
    refine mg_bnd (fun b48 => ?_)
    refine mg_bA hn (fun h49 hn => ?_)
    refine mg_grd ?_
    refine mg_grd ?_
    refine mg_bR hn (fun h51 hn => ?_)
    refine mg_grd ?_
    refine mg_bnd (fun b56 => ?_)
    refine mg_bA hn (fun h57 hn => ?_)
    refine mg_grd ?_
    refine mg_grd ?_
    refine mg_bR hn (fun h59 hn => ?_)
    refine mg_bI hn (fun h63 hn => ?_)
    exact mg_some hn
  exact key _ _ ⟨Nat.le_refl _, Nat.le_refl _⟩
theorem cR_here_m   (h : HP) : mG (gN h) (gS h) (cR_here  h) := by
  have key : ∀ c s : Nat, mN c s h → mG c s (cR_here  h) := by
    intro c s hn
    rw [cR_here]
    refine mg_ite ?_ ?_
    · exact mg_some hn
    · refine mg_grd ?_
      exact mg_some hn
  exact key _ _ ⟨Nat.le_refl _, Nat.le_refl _⟩
theorem cR_sign_m   (h : HP) : mG (gN h) (gS h) (cR_sign  h) := by
  have key : ∀ c s : Nat, mN c s h → mG c s (cR_sign  h) := by
    intro c s hn
    rw [cR_sign]
    refine mg_cal hn (cR_here_m h) (fun r1 h2 hn => ?_)
    refine mg_bnd (fun x3 => ?_)
    refine mg_bI hn (fun h4 hn => ?_)
    refine mg_cal hn (kJ5_indexOf_m 25 x3 h4) (fun r7 h8 hn => ?_)
    refine mg_jon (fun (j9 : Int32 → Option (Unit × HP)) => ∀ (s10 : Int32), mG c s (j9 s10)) ?_ ?_
    · intro s10
      refine mg_bI hn (fun h11 hn => ?_)
      refine mg_bI hn (fun h14 hn => ?_)
      refine mg_jon (fun (j17 : HP → Option (Unit × HP)) => ∀ (h18 : HP), mN c s h18 → mG c s (j17 h18)) ?_ ?_
      · intro h18 hn
        refine mg_ite ?_ ?_
        · exact mg_some hn
        · refine mg_bI hn (fun h19 hn => ?_)
          exact mg_some hn
      · intro j17 hj17
        refine mg_jon (fun (j22 : HP → Option (Unit × HP)) => ∀ (h23 : HP), mN c s h23 → mG c s (j22 h23)) ?_ ?_
        · intro h23 hn
          refine mg_jon (fun (j24 : HP → Option (Unit × HP)) => ∀ (h25 : HP), mN c s h25 → mG c s (j24 h25)) ?_ ?_
          · intro h25 hn
            refine mg_ite ?_ ?_
            · refine mg_cal hn (cR_here_m h25) (fun r26 h27 hn => ?_)
              refine mg_ite ?_ ?_
              · refine mg_bI hn (fun h28 hn => ?_)
                exact hj17 h28 hn
              · exact hj17 h27 hn
            · exact hj17 h25 hn
          · intro j24 hj24
            refine mg_ite ?_ ?_
            · refine mg_cal hn (cR_here_m h23) (fun r31 h32 hn => ?_)
              refine mg_ite ?_ ?_
              · refine mg_bI hn (fun h33 hn => ?_)
                exact hj17 h33 hn
              · exact hj24 h32 hn
            · exact hj24 h23 hn
        · intro j22 hj22
          refine mg_ite ?_ ?_
          · refine mg_cal hn (cR_here_m h14) (fun r36 h37 hn => ?_)
            refine mg_ite ?_ ?_
            · refine mg_bI hn (fun h38 hn => ?_)
              exact hj17 h38 hn
            · exact hj22 h37 hn
          · exact hj22 h14 hn
    · intro j9 hj9
      refine mg_ite ?_ ?_
      · exact hj9 (5 : Int32)
      · exact hj9 (3 : Int32)
  exact key _ _ ⟨Nat.le_refl _, Nat.le_refl _⟩
theorem cR_word_35_m {c s : Nat}  (f1 : Int32) (k : Int32 → HP → Option (Int32 × HP)) (hk : ∀ (v2 : Int32) (h : HP), mN c s h → mG c s (k v2 h)) : ∀ (n : Nat) (v2 : Int32) (h : HP), mN c s h → mG c s (cR_word_35 f1 k n v2 h) := by
  intro n
  induction n with
  | zero =>
    intro v2 h hn
    exact mg_none
  | succ n ih =>
    intro v2 h hn
    rw [cR_word_35]
    refine mg_ite ?_ ?_
    · exact hk v2 h hn
    · refine mg_grd ?_
      refine mg_cal hn (kJ5_charAt_m (f1).toNatClampNeg v2 h) (fun r7 h8 hn => ?_)
      refine mg_grd ?_
      refine mg_ite ?_ ?_
      · refine mg_bnd (fun x9 => ?_)
        exact ih x9 h8 hn
      · exact hk v2 h8 hn
theorem cR_word_2_m {c s : Nat}   (k : HP → Option (Int32 × HP)) (hk : ∀  (h : HP), mN c s h → mG c s (k  h)) : ∀ (n : Nat) (v1 : Int32) (h : HP), mN c s h → mG c s (cR_word_2 k n v1 h) := by
  intro n
  induction n with
  | zero =>
    intro v1 h hn
    exact mg_none
  | succ n ih =>
    intro v1 h hn
    rw [cR_word_2]
    refine mg_ite ?_ ?_
    · exact hk h hn
    · refine mg_grd ?_
      refine mg_cal hn (kJ5_length_m (v1).toNatClampNeg h) (fun r3 h4 hn => ?_)
      refine mg_ite ?_ ?_
      · refine mg_bnd (fun x5 => ?_)
        refine cR_word_35_m v1 _ (fun x10 h11 hn => ?_) FU x5 h4 hn
        refine mg_ite ?_ ?_
        · exact mg_some hn
        · refine mg_bnd (fun x12 => ?_)
          exact ih x12 h11 hn
      · refine mg_bnd (fun x13 => ?_)
        exact ih x13 h4 hn
theorem cR_word_m   (h : HP) : mG (gN h) (gS h) (cR_word  h) := by
  have key : ∀ c s : Nat, mN c s h → mG c s (cR_word  h) := by
    intro c s hn
    rw [cR_word]
    refine mg_bnd (fun x1 => ?_)
    refine cR_word_2_m  _ (fun  h14 hn => ?_) FU x1 h hn
    exact mg_some hn
  exact key _ _ ⟨Nat.le_refl _, Nat.le_refl _⟩
theorem cR_name_7_m {c s : Nat}   (k : HP → Option (Unit × HP)) (hk : ∀  (h : HP), mN c s h → mG c s (k  h)) : ∀ (n : Nat) (v1 : Int32) (h : HP), mN c s h → mG c s (cR_name_7 k n v1 h) := by
  intro n
  induction n with
  | zero =>
    intro v1 h hn
    exact mg_none
  | succ n ih =>
    intro v1 h hn
    rw [cR_name_7]
    refine mg_ite ?_ ?_
    · exact hk h hn
    · refine mg_jon (fun (j5 : Int32 → Option (Unit × HP)) => ∀ (s6 : Int32), mG c s (j5 s6)) ?_ ?_
      · intro s6
        refine mg_bI hn (fun h7 hn => ?_)
        refine mg_bnd (fun x10 => ?_)
        exact ih x10 h7 hn
      · intro j5 hj5
        refine mg_ite ?_ ?_
        · exact hj5 (0 : Int32)
        · refine mg_grd ?_
          exact hj5 (((gI h 1 (((gI h 2 2) + v1)).toNatClampNeg) - (97 : Int32)) + (1 : Int32))
theorem cR_name_m   (h : HP) : mG (gN h) (gS h) (cR_name  h) := by
  have key : ∀ c s : Nat, mN c s h → mG c s (cR_name  h) := by
    intro c s hn
    rw [cR_name]
    refine mg_bI hn (fun h1 hn => ?_)
    refine mg_bnd (fun x4 => ?_)
    refine cR_name_7_m  _ (fun  h11 hn => ?_) FU x4 h1 hn
    exact mg_some hn
  exact key _ _ ⟨Nat.le_refl _, Nat.le_refl _⟩
theorem cR_next_0_m {c s : Nat}   (k : HP → Option (Unit × HP)) (hk : ∀  (h : HP), mN c s h → mG c s (k  h)) : ∀ (n : Nat)  (h : HP), mN c s h → mG c s (cR_next_0 k n  h) := by
  intro n
  induction n with
  | zero =>
    intro  h hn
    exact mg_none
  | succ n ih =>
    intro  h hn
    rw [cR_next_0]
    refine mg_cal hn (cR_here_m h) (fun r1 h2 hn => ?_)
    refine mg_jon (fun (j3 : HP → Option (Unit × HP)) => ∀ (h4 : HP), mN c s h4 → mG c s (j3 h4)) ?_ ?_
    · intro h4 hn
      refine mg_bI hn (fun h5 hn => ?_)
      exact ih h5 hn
    · intro j3 hj3
      refine mg_ite ?_ ?_
      · exact hj3 h2 hn
      · refine mg_cal hn (cR_here_m h2) (fun r8 h9 hn => ?_)
        refine mg_ite ?_ ?_
        · exact hj3 h9 hn
        · exact hk h9 hn
theorem cR_next_190_m {c s : Nat}   (k : HP → Option (Unit × HP)) (hk : ∀  (h : HP), mN c s h → mG c s (k  h)) : ∀ (n : Nat)  (h : HP), mN c s h → mG c s (cR_next_190 k n  h) := by
  intro n
  induction n with
  | zero =>
    intro  h hn
    exact mg_none
  | succ n ih =>
    intro  h hn
    rw [cR_next_190]
    refine mg_cal hn (cR_here_m h) (fun r33 h34 hn => ?_)
    refine mg_cal hn (cA_in_m (r33).toInt64 (48 : Int64) (57 : Int64) h34) (fun r35 h36 hn => ?_)
    refine mg_ite ?_ ?_
    · exact hk h36 hn
    · refine mg_jon (fun (j37 : Int32 → HP → Option (Unit × HP)) => ∀ (s38 : Int32) (h39 : HP), mN c s h39 → mG c s (j37 s38 h39)) ?_ ?_
      · intro s38 h39 hn
        refine mg_bI hn (fun h40 hn => ?_)
        refine mg_bI hn (fun h43 hn => ?_)
        exact ih h43 hn
      · intro j37 hj37
        refine mg_ite ?_ ?_
        · refine mg_cal hn (cR_here_m h36) (fun r46 h47 hn => ?_)
          exact hj37 ((((10 : Int32) * (gI h36 2 4)) + r46) - (48 : Int32)) h47 hn
        · exact hj37 (gI h36 2 4) h36 hn
theorem cR_next_75_m {c s : Nat}   (k : HP → Option (Unit × HP)) (hk : ∀  (h : HP), mN c s h → mG c s (k  h)) : ∀ (n : Nat)  (h : HP), mN c s h → mG c s (cR_next_75 k n  h) := by
  intro n
  induction n with
  | zero =>
    intro  h hn
    exact mg_none
  | succ n ih =>
    intro  h hn
    rw [cR_next_75]
    refine mg_cal hn (cR_here_m h) (fun r49 h50 hn => ?_)
    refine mg_cal hn (cA_in_m (r49).toInt64 (97 : Int64) (122 : Int64) h50) (fun r51 h52 hn => ?_)
    refine mg_ite ?_ ?_
    · exact hk h52 hn
    · refine mg_bI hn (fun h53 hn => ?_)
      exact ih h53 hn
theorem cR_next_m   (h : HP) : mG (gN h) (gS h) (cR_next  h) := by
  have key : ∀ c s : Nat, mN c s h → mG c s (cR_next  h) := by
    intro c s hn
    rw [cR_next]
    refine cR_next_0_m  _ (fun  h10 hn => ?_) FU h hn
    refine mg_bI hn (fun h11 hn => ?_)
    refine mg_ite ?_ ?_
    · refine mg_bI hn (fun h14 hn => ?_)
      exact mg_some hn
    · refine mg_cal hn (cR_here_m h11) (fun r17 h18 hn => ?_)
      refine mg_cal hn (cA_in_m (r17).toInt64 (97 : Int64) (122 : Int64) h18) (fun r19 h20 hn => ?_)
      refine mg_ite ?_ ?_
      · refine mg_cal hn (cR_here_m h20) (fun r21 h22 hn => ?_)
        refine mg_cal hn (cA_in_m (r21).toInt64 (48 : Int64) (57 : Int64) h22) (fun r23 h24 hn => ?_)
        refine mg_ite ?_ ?_
        · refine mg_cal hn (cR_sign_m h24) (fun r25 h26 hn => ?_)
          exact mg_some hn
        · refine mg_bI hn (fun h27 hn => ?_)
          refine mg_bI hn (fun h30 hn => ?_)
          refine cR_next_190_m  _ (fun  h48 hn => ?_) FU h30 hn
          exact mg_some hn
      · refine cR_next_75_m  _ (fun  h56 hn => ?_) FU h20 hn
        refine mg_cal hn (cR_word_m h56) (fun r57 h58 hn => ?_)
        refine mg_bI hn (fun h59 hn => ?_)
        refine mg_jon (fun (j62 : Int32 → Option (Unit × HP)) => ∀ (s63 : Int32), mG c s (j62 s63)) ?_ ?_
        · intro s63
          refine mg_bI hn (fun h64 hn => ?_)
          refine mg_ite ?_ ?_
          · refine mg_cal hn (cR_name_m h64) (fun r67 h68 hn => ?_)
            exact mg_some hn
          · exact mg_some hn
        · intro j62 hj62
          refine mg_ite ?_ ?_
          · refine mg_ite ?_ ?_
            · exact hj62 (1 : Int32)
            · exact hj62 (5 : Int32)
          · exact hj62 (0 : Int32)
  exact key _ _ ⟨Nat.le_refl _, Nat.le_refl _⟩
theorem cR_isWord_m  (a1 : Int32) (a2 : Int32) (h : HP) : mG (gN h) (gS h) (cR_isWord a1 a2 h) := by
  have key : ∀ c s : Nat, mN c s h → mG c s (cR_isWord a1 a2 h) := by
    intro c s hn
    rw [cR_isWord]
    refine mg_ite ?_ ?_
    · refine mg_cal hn (cA_in_m ((gI h 2 4)).toInt64 (a1).toInt64 (a2).toInt64 h) (fun r1 h2 hn => ?_)
      refine mg_ite ?_ ?_
      · exact mg_some hn
      · exact mg_some hn
    · exact mg_some hn
  exact key _ _ ⟨Nat.le_refl _, Nat.le_refl _⟩
theorem kX11_init_m  (o : Nat) (a1 : Int32) (a2 : Int32) (h : HP) : mG (gN h) (gS h) (kX11_init o a1 a2 h) := by
  have key : ∀ c s : Nat, mN c s h → mG c s (kX11_init o a1 a2 h) := by
    intro c s hn
    rw [kX11_init]
    refine mg_cal hn (kJ11_init_m o (0 : Int32) (0 : Int32) h) (fun r1 h2 hn => ?_)
    refine mg_grd ?_
    refine mg_bI hn (fun h4 hn => ?_)
    refine mg_bI hn (fun h7 hn => ?_)
    exact mg_some hn
  exact key _ _ ⟨Nat.le_refl _, Nat.le_refl _⟩
theorem cR_wrong_m  (a1 : Int32) (h : HP) : mG (gN h) (gS h) (cR_wrong a1 h) := by
  have key : ∀ c s : Nat, mN c s h → mG c s (cR_wrong a1 h) := by
    intro c s hn
    rw [cR_wrong]
    refine mg_grd ?_
    refine mg_bnd (fun b2 => ?_)
    refine mg_bA hn (fun h3 hn => ?_)
    refine mg_cal hn (kX11_init_m b2 a1 (gI h3 2 2) h3) (fun r4 h5 hn => ?_)
    exact mg_some hn
  exact key _ _ ⟨Nat.le_refl _, Nat.le_refl _⟩
theorem cR_isFull_m  (a1 : Int32) (h : HP) : mG (gN h) (gS h) (cR_isFull a1 h) := by
  have key : ∀ c s : Nat, mN c s h → mG c s (cR_isFull a1 h) := by
    intro c s hn
    rw [cR_isFull]
    refine mg_jon (fun (j1 : HP → Option (Int32 × HP)) => ∀ (h2 : HP), mN c s h2 → mG c s (j1 h2)) ?_ ?_
    · intro h2 hn
      refine mg_jon (fun (j3 : HP → Option (Int32 × HP)) => ∀ (h4 : HP), mN c s h4 → mG c s (j3 h4)) ?_ ?_
      · intro h4 hn
        refine mg_jon (fun (j5 : HP → Option (Int32 × HP)) => ∀ (h6 : HP), mN c s h6 → mG c s (j5 h6)) ?_ ?_
        · intro h6 hn
          refine mg_ite ?_ ?_
          · refine mg_onr (fun b7 => ?_)
            refine mg_grd ?_
            refine mg_ite ?_ ?_
            · exact mg_some hn
            · exact mg_some hn
          · exact mg_some hn
        · intro j5 hj5
          refine mg_ite ?_ ?_
          · refine mg_onr (fun b10 => ?_)
            refine mg_grd ?_
            refine mg_grd ?_
            refine mg_cal hn (cL_size_m (b10 + 5) h4) (fun r13 h14 hn => ?_)
            refine mg_ite ?_ ?_
            · exact mg_some hn
            · exact hj5 h14 hn
          · exact hj5 h4 hn
      · intro j3 hj3
        refine mg_ite ?_ ?_
        · refine mg_onr (fun b16 => ?_)
          refine mg_grd ?_
          refine mg_grd ?_
          refine mg_cal hn (cL_size_m (b16 + 3) h2) (fun r19 h20 hn => ?_)
          refine mg_ite ?_ ?_
          · exact mg_some hn
          · exact hj3 h20 hn
        · exact hj3 h2 hn
    · intro j1 hj1
      refine mg_ite ?_ ?_
      · refine mg_onr (fun b22 => ?_)
        refine mg_grd ?_
        refine mg_grd ?_
        refine mg_cal hn (cL_size_m (b22 + 1) h) (fun r25 h26 hn => ?_)
        refine mg_ite ?_ ?_
        · exact mg_some hn
        · exact hj1 h26 hn
      · exact hj1 h hn
  exact key _ _ ⟨Nat.le_refl _, Nat.le_refl _⟩
theorem cR_isSign_m  (a1 : Int32) (h : HP) : mG (gN h) (gS h) (cR_isSign a1 h) := by
  have key : ∀ c s : Nat, mN c s h → mG c s (cR_isSign a1 h) := by
    intro c s hn
    rw [cR_isSign]
    refine mg_ite ?_ ?_
    · refine mg_ite ?_ ?_
      · exact mg_some hn
      · exact mg_some hn
    · exact mg_some hn
  exact key _ _ ⟨Nat.le_refl _, Nat.le_refl _⟩
theorem kX12_find_2_m {c s : Nat}  (f0 : Nat) (f1 : Int32) (k : HP → Option (Int32 × HP)) (hk : ∀  (h : HP), mN c s h → mG c s (k  h)) : ∀ (n : Nat) (v2 : Int32) (h : HP), mN c s h → mG c s (kX12_find_2 f0 f1 k n v2 h) := by
  intro n
  induction n with
  | zero =>
    intro v2 h hn
    exact mg_none
  | succ n ih =>
    intro v2 h hn
    rw [kX12_find_2]
    refine mg_grd ?_
    refine mg_cal hn (cL_size_m f0 h) (fun r2 h3 hn => ?_)
    refine mg_ite ?_ ?_
    · exact hk h3 hn
    · refine mg_grd ?_
      refine mg_cal hn (cL_get_m f0 v2 h3) (fun r5 h6 hn => ?_)
      refine mg_grd ?_
      refine mg_grd ?_
      refine mg_ite ?_ ?_
      · exact mg_some hn
      · refine mg_bnd (fun x10 => ?_)
        exact ih x10 h6 hn
theorem kX12_find_m  (a1 : Nat) (a2 : Int32) (h : HP) : mG (gN h) (gS h) (kX12_find a1 a2 h) := by
  have key : ∀ c s : Nat, mN c s h → mG c s (kX12_find a1 a2 h) := by
    intro c s hn
    rw [kX12_find]
    refine mg_bnd (fun x1 => ?_)
    refine kX12_find_2_m a1 a2 _ (fun  h11 hn => ?_) FU x1 h hn
    exact mg_some hn
  exact key _ _ ⟨Nat.le_refl _, Nat.le_refl _⟩
theorem cR_fresh_m  (a1 : Nat) (h : HP) : mG (gN h) (gS h) (cR_fresh a1 h) := by
  have key : ∀ c s : Nat, mN c s h → mG c s (cR_fresh a1 h) := by
    intro c s hn
    rw [cR_fresh]
    refine mg_ite ?_ ?_
    · refine mg_cal hn (kX12_find_m a1 (gI h 2 4) h) (fun r1 h2 hn => ?_)
      refine mg_ite ?_ ?_
      · refine mg_bnd (fun x3 => ?_)
        refine mg_cal hn (cR_next_m h2) (fun r4 h5 hn => ?_)
        exact mg_some hn
      · refine mg_cal hn (cR_wrong_m (3 : Int32) h2) (fun r6 h7 hn => ?_)
        refine mg_grd ?_
        exact mg_some hn
    · refine mg_cal hn (cR_wrong_m (1 : Int32) h) (fun r9 h10 hn => ?_)
      refine mg_grd ?_
      exact mg_some hn
  exact key _ _ ⟨Nat.le_refl _, Nat.le_refl _⟩
theorem kX12_init_m  (o : Nat) (a1 : Int32) (h : HP) : mG (gN h) (gS h) (kX12_init o a1 h) := by
  have key : ∀ c s : Nat, mN c s h → mG c s (kX12_init o a1 h) := by
    intro c s hn
    rw [kX12_init]
    refine mg_grd ?_
    refine mg_bI hn (fun h2 hn => ?_)
    exact mg_some hn
  exact key _ _ ⟨Nat.le_refl _, Nat.le_refl _⟩
theorem kX13_init_m  (o : Nat) (a1 : Int32) (h : HP) : mG (gN h) (gS h) (kX13_init o a1 h) := by
  have key : ∀ c s : Nat, mN c s h → mG c s (kX13_init o a1 h) := by
    intro c s hn
    rw [kX13_init]
    refine mg_cal hn (kX12_init_m o a1 h) (fun r1 h2 hn => ?_)
    exact mg_some hn
  exact key _ _ ⟨Nat.le_refl _, Nat.le_refl _⟩
theorem cR_numberAtHand_m  (a1 : Int32) (a2 : Int32) (h : HP) : mG (gN h) (gS h) (cR_numberAtHand a1 a2 h) := by
  have key : ∀ c s : Nat, mN c s h → mG c s (cR_numberAtHand a1 a2 h) := by
    intro c s hn
    rw [cR_numberAtHand]
    refine mg_ite ?_ ?_
    · refine mg_cal hn (cA_in_m ((gI h 2 4)).toInt64 (a1).toInt64 (a2).toInt64 h) (fun r1 h2 hn => ?_)
      refine mg_ite ?_ ?_
      · refine mg_cal hn (cR_wrong_m (2 : Int32) h2) (fun r3 h4 hn => ?_)
        refine mg_grd ?_
        exact mg_some hn
      · exact mg_some hn
    · refine mg_cal hn (cR_wrong_m (1 : Int32) h) (fun r6 h7 hn => ?_)
      refine mg_grd ?_
      exact mg_some hn
  exact key _ _ ⟨Nat.le_refl _, Nat.le_refl _⟩
theorem cR_number_m  (a1 : Int32) (a2 : Int32) (h : HP) : mG (gN h) (gS h) (cR_number a1 a2 h) := by
  have key : ∀ c s : Nat, mN c s h → mG c s (cR_number a1 a2 h) := by
    intro c s hn
    rw [cR_number]
    refine mg_calx hn (cR_numberAtHand_m a1 a2 h) (fun r1 h2 hn => ?_)
    refine mg_bnd (fun x3 => ?_)
    refine mg_cal hn (cR_next_m h2) (fun r4 h5 hn => ?_)
    exact mg_some hn
  exact key _ _ ⟨Nat.le_refl _, Nat.le_refl _⟩
theorem cR_person_m   (h : HP) : mG (gN h) (gS h) (cR_person  h) := by
  have key : ∀ c s : Nat, mN c s h → mG c s (cR_person  h) := by
    intro c s hn
    rw [cR_person]
    refine mg_grd ?_
    refine mg_bnd (fun b2 => ?_)
    refine mg_bA hn (fun h3 hn => ?_)
    refine mg_onr (fun b4 => ?_)
    refine mg_grd ?_
    refine mg_calx hn (cR_fresh_m (b4 + 3) h3) (fun r7 h8 hn => ?_)
    refine mg_cal hn (kX13_init_m b2 r7 h8) (fun r9 h10 hn => ?_)
    refine mg_calx hn (cR_number_m (0 : Int32) (9 : Int32) h10) (fun r11 h12 hn => ?_)
    refine mg_grd ?_
    refine mg_bI hn (fun h14 hn => ?_)
    refine mg_calx hn (cR_number_m (0 : Int32) (9 : Int32) h14) (fun r17 h18 hn => ?_)
    refine mg_grd ?_
    refine mg_bI hn (fun h20 hn => ?_)
    refine mg_calx hn (cR_number_m (0 : Int32) (3 : Int32) h20) (fun r23 h24 hn => ?_)
    refine mg_grd ?_
    refine mg_bI hn (fun h26 hn => ?_)
    refine mg_onr (fun b29 => ?_)
    refine mg_grd ?_
    refine mg_grd ?_
    refine mg_cal hn (cL_add_m (b29 + 3) b2 h26) (fun r32 h33 hn => ?_)
    exact mg_some hn
  exact key _ _ ⟨Nat.le_refl _, Nat.le_refl _⟩
theorem cR_atHand_m  (a1 : Nat) (h : HP) : mG (gN h) (gS h) (cR_atHand a1 h) := by
  have key : ∀ c s : Nat, mN c s h → mG c s (cR_atHand a1 h) := by
    intro c s hn
    rw [cR_atHand]
    refine mg_ite ?_ ?_
    · refine mg_cal hn (kX12_find_m a1 (gI h 2 4) h) (fun r1 h2 hn => ?_)
      refine mg_bnd (fun x3 => ?_)
      refine mg_ite ?_ ?_
      · refine mg_cal hn (cR_wrong_m (4 : Int32) h2) (fun r4 h5 hn => ?_)
        refine mg_grd ?_
        exact mg_some hn
      · exact mg_some hn
    · refine mg_cal hn (cR_wrong_m (1 : Int32) h) (fun r7 h8 hn => ?_)
      refine mg_grd ?_
      exact mg_some hn
  exact key _ _ ⟨Nat.le_refl _, Nat.le_refl _⟩
theorem cR_ahead_m  (a1 : Nat) (h : HP) : mG (gN h) (gS h) (cR_ahead a1 h) := by
  have key : ∀ c s : Nat, mN c s h → mG c s (cR_ahead a1 h) := by
    intro c s hn
    rw [cR_ahead]
    refine mg_calx hn (cR_atHand_m a1 h) (fun r1 h2 hn => ?_)
    refine mg_bnd (fun x3 => ?_)
    refine mg_cal hn (cR_next_m h2) (fun r4 h5 hn => ?_)
    exact mg_some hn
  exact key _ _ ⟨Nat.le_refl _, Nat.le_refl _⟩
theorem cR_knows_m   (h : HP) : mG (gN h) (gS h) (cR_knows  h) := by
  have key : ∀ c s : Nat, mN c s h → mG c s (cR_knows  h) := by
    intro c s hn
    rw [cR_knows]
    refine mg_onr (fun b1 => ?_)
    refine mg_grd ?_
    refine mg_onr (fun b4 => ?_)
    refine mg_grd ?_
    refine mg_calx hn (cR_ahead_m (b4 + 3) h) (fun r7 h8 hn => ?_)
    refine mg_grd ?_
    refine mg_cal hn (cL_get_m (b1 + 3) r7 h8) (fun r9 h10 hn => ?_)
    refine mg_grd ?_
    refine mg_onr (fun b13 => ?_)
    refine mg_grd ?_
    refine mg_calx hn (cR_atHand_m (b13 + 1) h10) (fun r16 h17 hn => ?_)
    refine mg_bnd (fun x18 => ?_)
    refine mg_grd ?_
    refine mg_ite ?_ ?_
    · refine mg_cal hn (cR_wrong_m (3 : Int32) h17) (fun r20 h21 hn => ?_)
      refine mg_grd ?_
      exact mg_some hn
    · refine mg_cal hn (cR_next_m h17) (fun r23 h24 hn => ?_)
      refine mg_grd ?_
      refine mg_bI hn (fun h26 hn => ?_)
      exact mg_some hn
  exact key _ _ ⟨Nat.le_refl _, Nat.le_refl _⟩
theorem kX14_init_m  (o : Nat) (a1 : Int32) (h : HP) : mG (gN h) (gS h) (kX14_init o a1 h) := by
  have key : ∀ c s : Nat, mN c s h → mG c s (kX14_init o a1 h) := by
    intro c s hn
    rw [kX14_init]
    refine mg_cal hn (kX12_init_m o a1 h) (fun r1 h2 hn => ?_)
    exact mg_some hn
  exact key _ _ ⟨Nat.le_refl _, Nat.le_refl _⟩
theorem cR_some_m   (h : HP) : mG (gN h) (gS h) (cR_some  h) := by
  have key : ∀ c s : Nat, mN c s h → mG c s (cR_some  h) := by
    intro c s hn
    rw [cR_some]
    refine mg_cal hn (cR_isWord_m (12 : Int32) (12 : Int32) h) (fun r1 h2 hn => ?_)
    refine mg_ite ?_ ?_
    · refine mg_onr (fun b3 => ?_)
      refine mg_grd ?_
      refine mg_calx hn (cR_ahead_m (b3 + 1) h2) (fun r6 h7 hn => ?_)
      exact mg_some hn
    · refine mg_cal hn (cR_next_m h2) (fun r8 h9 hn => ?_)
      exact mg_some hn
  exact key _ _ ⟨Nat.le_refl _, Nat.le_refl _⟩
theorem cR_question_m   (h : HP) : mG (gN h) (gS h) (cR_question  h) := by
  have key : ∀ c s : Nat, mN c s h → mG c s (cR_question  h) := by
    intro c s hn
    rw [cR_question]
    refine mg_grd ?_
    refine mg_bnd (fun b2 => ?_)
    refine mg_bA hn (fun h3 hn => ?_)
    refine mg_onr (fun b4 => ?_)
    refine mg_grd ?_
    refine mg_calx hn (cR_fresh_m (b4 + 5) h3) (fun r7 h8 hn => ?_)
    refine mg_cal hn (kX14_init_m b2 r7 h8) (fun r9 h10 hn => ?_)
    refine mg_cal hn (cR_isWord_m (8 : Int32) (11 : Int32) h10) (fun r11 h12 hn => ?_)
    refine mg_ite ?_ ?_
    · refine mg_cal hn (cR_wrong_m (1 : Int32) h12) (fun r13 h14 hn => ?_)
      refine mg_grd ?_
      exact mg_some hn
    · refine mg_grd ?_
      refine mg_bI hn (fun h17 hn => ?_)
      refine mg_cal hn (cR_next_m h17) (fun r20 h21 hn => ?_)
      refine mg_calx hn (cR_some_m h21) (fun r22 h23 hn => ?_)
      refine mg_grd ?_
      refine mg_bI hn (fun h25 hn => ?_)
      refine mg_calx hn (cR_some_m h25) (fun r28 h29 hn => ?_)
      refine mg_grd ?_
      refine mg_bI hn (fun h31 hn => ?_)
      refine mg_calx hn (cR_some_m h31) (fun r34 h35 hn => ?_)
      refine mg_grd ?_
      refine mg_bI hn (fun h37 hn => ?_)
      refine mg_onr (fun b40 => ?_)
      refine mg_grd ?_
      refine mg_grd ?_
      refine mg_cal hn (cL_add_m (b40 + 5) b2 h37) (fun r43 h44 hn => ?_)
      exact mg_some hn
  exact key _ _ ⟨Nat.le_refl _, Nat.le_refl _⟩
theorem cR_talk_m   (h : HP) : mG (gN h) (gS h) (cR_talk  h) := by
  have key : ∀ c s : Nat, mN c s h → mG c s (cR_talk  h) := by
    intro c s hn
    rw [cR_talk]
    refine mg_onr (fun b1 => ?_)
    refine mg_grd ?_
    refine mg_bnd (fun x4 => ?_)
    refine mg_onr (fun b5 => ?_)
    refine mg_grd ?_
    refine mg_calx hn (cR_ahead_m (b5 + 3) h) (fun r8 h9 hn => ?_)
    refine mg_bnd (fun x10 => ?_)
    refine mg_onr (fun b11 => ?_)
    refine mg_grd ?_
    refine mg_calx hn (cR_atHand_m (b11 + 3) h9) (fun r14 h15 hn => ?_)
    refine mg_bnd (fun x16 => ?_)
    refine mg_ite ?_ ?_
    · refine mg_cal hn (cR_wrong_m (5 : Int32) h15) (fun r17 h18 hn => ?_)
      refine mg_grd ?_
      exact mg_some hn
    · refine mg_cal hn (cR_next_m h15) (fun r20 h21 hn => ?_)
      refine mg_onr (fun b22 => ?_)
      refine mg_grd ?_
      refine mg_grd ?_
      refine mg_bI hn (fun h25 hn => ?_)
      refine mg_onr (fun b28 => ?_)
      refine mg_grd ?_
      refine mg_grd ?_
      refine mg_bI hn (fun h31 hn => ?_)
      refine mg_onr (fun b34 => ?_)
      refine mg_grd ?_
      refine mg_onr (fun b37 => ?_)
      refine mg_grd ?_
      refine mg_calx hn (cR_ahead_m (b37 + 5) h31) (fun r40 h41 hn => ?_)
      refine mg_grd ?_
      refine mg_grd ?_
      refine mg_bI hn (fun h43 hn => ?_)
      refine mg_onr (fun b46 => ?_)
      refine mg_grd ?_
      refine mg_bI hn (fun h49 hn => ?_)
      exact mg_some hn
  exact key _ _ ⟨Nat.le_refl _, Nat.le_refl _⟩
theorem cR_knot_m   (h : HP) : mG (gN h) (gS h) (cR_knot  h) := by
  have key : ∀ c s : Nat, mN c s h → mG c s (cR_knot  h) := by
    intro c s hn
    rw [cR_knot]
    refine mg_onr (fun b1 => ?_)
    refine mg_grd ?_
    refine mg_ite ?_ ?_
    · refine mg_cal hn (cR_wrong_m (2 : Int32) h) (fun r4 h5 hn => ?_)
      refine mg_grd ?_
      exact mg_some hn
    · refine mg_onr (fun b7 => ?_)
      refine mg_grd ?_
      refine mg_bI hn (fun h10 hn => ?_)
      refine mg_bnd (fun x13 => ?_)
      refine mg_cal hn (cR_next_m h10) (fun r14 h15 hn => ?_)
      exact mg_some hn
  exact key _ _ ⟨Nat.le_refl _, Nat.le_refl _⟩
theorem kX15_init_m  (o : Nat) (h : HP) : mG (gN h) (gS h) (kX15_init o h) := by
  have key : ∀ c s : Nat, mN c s h → mG c s (kX15_init o h) := by
    intro c s hn
    rw [kX15_init]
    exact mg_some hn
  exact key _ _ ⟨Nat.le_refl _, Nat.le_refl _⟩
theorem kX18_init_m  (o : Nat) (a1 : Nat) (h : HP) : mG (gN h) (gS h) (kX18_init o a1 h) := by
  have key : ∀ c s : Nat, mN c s h → mG c s (kX18_init o a1 h) := by
    intro c s hn
    rw [kX18_init]
    refine mg_cal hn (kX15_init_m o h) (fun r1 h2 hn => ?_)
    refine mg_grd ?_
    refine mg_grd ?_
    refine mg_bR hn (fun h4 hn => ?_)
    exact mg_some hn
  exact key _ _ ⟨Nat.le_refl _, Nat.le_refl _⟩
theorem kX19_init_m  (o : Nat) (a1 : Int32) (a2 : Nat) (a3 : Nat) (h : HP) : mG (gN h) (gS h) (kX19_init o a1 a2 a3 h) := by
  have key : ∀ c s : Nat, mN c s h → mG c s (kX19_init o a1 a2 a3 h) := by
    intro c s hn
    rw [kX19_init]
    refine mg_cal hn (kX18_init_m o a2 h) (fun r1 h2 hn => ?_)
    refine mg_grd ?_
    refine mg_bI hn (fun h4 hn => ?_)
    refine mg_grd ?_
    refine mg_bR hn (fun h7 hn => ?_)
    exact mg_some hn
  exact key _ _ ⟨Nat.le_refl _, Nat.le_refl _⟩
theorem cR_and_5_m {c s : Nat} (f : HP → Option ((Nat ⊕ Nat × Nat) × HP)) (hfm : ∀  (h : HP), mG (gN h) (gS h) (f  h))  (k : Nat → HP → Option ((Nat ⊕ Nat × Nat) × HP)) (hk : ∀ (v1 : Nat) (h : HP), mN c s h → mG c s (k v1 h)) : ∀ (n : Nat) (v1 : Nat) (h : HP), mN c s h → mG c s (cR_and_5 f k n v1 h) := by
  intro n
  induction n with
  | zero =>
    intro v1 h hn
    exact mg_none
  | succ n ih =>
    intro v1 h hn
    rw [cR_and_5]
    refine mg_cal hn (cR_isWord_m (16 : Int32) (16 : Int32) h) (fun r3 h4 hn => ?_)
    refine mg_ite ?_ ?_
    · exact hk v1 h4 hn
    · refine mg_calx hn (cR_knot_m h4) (fun r5 h6 hn => ?_)
      refine mg_bnd (fun x7 => ?_)
      refine mg_grd ?_
      refine mg_bnd (fun b9 => ?_)
      refine mg_bA hn (fun h10 hn => ?_)
      refine mg_calx hn (hfm h10) (fun r11 h12 hn => ?_)
      refine mg_cal hn (kX19_init_m b9 x7 v1 r11 h12) (fun r13 h14 hn => ?_)
      exact ih b9 h14 hn
theorem cR_and_m (f : HP → Option ((Nat ⊕ Nat × Nat) × HP)) (hfm : ∀  (h : HP), mG (gN h) (gS h) (f  h))  (h : HP) : mG (gN h) (gS h) (cR_and f  h) := by
  have key : ∀ c s : Nat, mN c s h → mG c s (cR_and f  h) := by
    intro c s hn
    rw [cR_and]
    refine mg_calx hn (hfm h) (fun r1 h2 hn => ?_)
    refine cR_and_5_m f hfm  _ (fun x15 h16 hn => ?_) FU r1 h2 hn
    exact mg_some hn
  exact key _ _ ⟨Nat.le_refl _, Nat.le_refl _⟩
theorem cR_or_5_m {c s : Nat} (f : HP → Option ((Nat ⊕ Nat × Nat) × HP)) (hfm : ∀  (h : HP), mG (gN h) (gS h) (f  h))  (k : Nat → HP → Option ((Nat ⊕ Nat × Nat) × HP)) (hk : ∀ (v1 : Nat) (h : HP), mN c s h → mG c s (k v1 h)) : ∀ (n : Nat) (v1 : Nat) (h : HP), mN c s h → mG c s (cR_or_5 f k n v1 h) := by
  intro n
  induction n with
  | zero =>
    intro v1 h hn
    exact mg_none
  | succ n ih =>
    intro v1 h hn
    rw [cR_or_5]
    refine mg_cal hn (cR_isWord_m (15 : Int32) (15 : Int32) h) (fun r3 h4 hn => ?_)
    refine mg_ite ?_ ?_
    · exact hk v1 h4 hn
    · refine mg_calx hn (cR_knot_m h4) (fun r5 h6 hn => ?_)
      refine mg_bnd (fun x7 => ?_)
      refine mg_grd ?_
      refine mg_bnd (fun b9 => ?_)
      refine mg_bA hn (fun h10 hn => ?_)
      refine mg_calx hn (cR_and_m f hfm h10) (fun r11 h12 hn => ?_)
      refine mg_cal hn (kX19_init_m b9 x7 v1 r11 h12) (fun r13 h14 hn => ?_)
      exact ih b9 h14 hn
theorem cR_or_m (f : HP → Option ((Nat ⊕ Nat × Nat) × HP)) (hfm : ∀  (h : HP), mG (gN h) (gS h) (f  h))  (h : HP) : mG (gN h) (gS h) (cR_or f  h) := by
  have key : ∀ c s : Nat, mN c s h → mG c s (cR_or f  h) := by
    intro c s hn
    rw [cR_or]
    refine mg_calx hn (cR_and_m f hfm h) (fun r1 h2 hn => ?_)
    refine cR_or_5_m f hfm  _ (fun x15 h16 hn => ?_) FU r1 h2 hn
    exact mg_some hn
  exact key _ _ ⟨Nat.le_refl _, Nat.le_refl _⟩
theorem kX16_init_m  (o : Nat) (a1 : Int32) (h : HP) : mG (gN h) (gS h) (kX16_init o a1 h) := by
  have key : ∀ c s : Nat, mN c s h → mG c s (kX16_init o a1 h) := by
    intro c s hn
    rw [kX16_init]
    refine mg_cal hn (kX15_init_m o h) (fun r1 h2 hn => ?_)
    refine mg_grd ?_
    refine mg_bI hn (fun h4 hn => ?_)
    exact mg_some hn
  exact key _ _ ⟨Nat.le_refl _, Nat.le_refl _⟩
theorem kX17_init_m  (o : Nat) (a1 : Int32) (h : HP) : mG (gN h) (gS h) (kX17_init o a1 h) := by
  have key : ∀ c s : Nat, mN c s h → mG c s (kX17_init o a1 h) := by
    intro c s hn
    rw [kX17_init]
    refine mg_cal hn (kX15_init_m o h) (fun r1 h2 hn => ?_)
    refine mg_grd ?_
    refine mg_bI hn (fun h4 hn => ?_)
    exact mg_some hn
  exact key _ _ ⟨Nat.le_refl _, Nat.le_refl _⟩
theorem cR_one_m (f : HP → Option ((Nat ⊕ Nat × Nat) × HP)) (hfm : ∀  (h : HP), mG (gN h) (gS h) (f  h))  (h : HP) : mG (gN h) (gS h) (cR_one f  h) := by
  have key : ∀ c s : Nat, mN c s h → mG c s (cR_one f  h) := by
    intro c s hn
    rw [cR_one]
    refine mg_cal hn (cR_isSign_m (40 : Int32) h) (fun r1 h2 hn => ?_)
    refine mg_ite ?_ ?_
    · refine mg_ite ?_ ?_
      · refine mg_ite ?_ ?_
        · refine mg_grd ?_
          refine mg_bnd (fun b4 => ?_)
          refine mg_bA hn (fun h5 hn => ?_)
          refine mg_calx hn (cR_knot_m h5) (fun r6 h7 hn => ?_)
          refine mg_cal hn (kX16_init_m b4 r6 h7) (fun r8 h9 hn => ?_)
          exact mg_some hn
        · refine mg_cal hn (cR_wrong_m (2 : Int32) h2) (fun r10 h11 hn => ?_)
          refine mg_grd ?_
          exact mg_some hn
      · refine mg_jon (fun (j13 : Unit → Option ((Nat ⊕ Nat × Nat) × HP)) => ∀ (_u : Unit), mG c s (j13 ())) ?_ ?_
        · intro _
          refine mg_cal hn (cR_wrong_m (1 : Int32) h2) (fun r14 h15 hn => ?_)
          refine mg_grd ?_
          exact mg_some hn
        · intro j13 hj13
          refine mg_ite ?_ ?_
          · refine mg_ite ?_ ?_
            · refine mg_grd ?_
              refine mg_bnd (fun b18 => ?_)
              refine mg_bA hn (fun h19 hn => ?_)
              refine mg_calx hn (cR_knot_m h19) (fun r20 h21 hn => ?_)
              refine mg_cal hn (kX17_init_m b18 (r20 - (18 : Int32)) h21) (fun r22 h23 hn => ?_)
              exact mg_some hn
            · exact hj13 ()
          · exact hj13 ()
    · refine mg_ite ?_ ?_
      · refine mg_cal hn (cR_wrong_m (2 : Int32) h2) (fun r24 h25 hn => ?_)
        refine mg_grd ?_
        exact mg_some hn
      · refine mg_bI hn (fun h27 hn => ?_)
        refine mg_cal hn (cR_next_m h27) (fun r30 h31 hn => ?_)
        refine mg_calx hn (cR_or_m f hfm h31) (fun r32 h33 hn => ?_)
        refine mg_cal hn (cR_isSign_m (41 : Int32) h33) (fun r34 h35 hn => ?_)
        refine mg_ite ?_ ?_
        · refine mg_cal hn (cR_wrong_m (1 : Int32) h35) (fun r36 h37 hn => ?_)
          refine mg_grd ?_
          exact mg_some hn
        · refine mg_bI hn (fun h39 hn => ?_)
          refine mg_cal hn (cR_next_m h39) (fun r42 h43 hn => ?_)
          exact mg_some hn
  exact key _ _ ⟨Nat.le_refl _, Nat.le_refl _⟩
theorem cR_product_5_m {c s : Nat} (f : HP → Option ((Nat ⊕ Nat × Nat) × HP)) (hfm : ∀  (h : HP), mG (gN h) (gS h) (f  h))  (k : Nat → HP → Option ((Nat ⊕ Nat × Nat) × HP)) (hk : ∀ (v1 : Nat) (h : HP), mN c s h → mG c s (k v1 h)) : ∀ (n : Nat) (v1 : Nat) (h : HP), mN c s h → mG c s (cR_product_5 f k n v1 h) := by
  intro n
  induction n with
  | zero =>
    intro v1 h hn
    exact mg_none
  | succ n ih =>
    intro v1 h hn
    rw [cR_product_5]
    refine mg_cal hn (cR_isSign_m (42 : Int32) h) (fun r3 h4 hn => ?_)
    refine mg_jon (fun (j5 : HP → Option ((Nat ⊕ Nat × Nat) × HP)) => ∀ (h6 : HP), mN c s h6 → mG c s (j5 h6)) ?_ ?_
    · intro h6 hn
      refine mg_calx hn (cR_knot_m h6) (fun r7 h8 hn => ?_)
      refine mg_bnd (fun x9 => ?_)
      refine mg_grd ?_
      refine mg_bnd (fun b11 => ?_)
      refine mg_bA hn (fun h12 hn => ?_)
      refine mg_calx hn (cR_one_m f hfm h12) (fun r13 h14 hn => ?_)
      refine mg_cal hn (kX19_init_m b11 x9 v1 r13 h14) (fun r15 h16 hn => ?_)
      exact ih b11 h16 hn
    · intro j5 hj5
      refine mg_ite ?_ ?_
      · refine mg_cal hn (cR_isSign_m (47 : Int32) h4) (fun r17 h18 hn => ?_)
        refine mg_ite ?_ ?_
        · exact hk v1 h18 hn
        · exact hj5 h18 hn
      · exact hj5 h4 hn
theorem cR_product_m (f : HP → Option ((Nat ⊕ Nat × Nat) × HP)) (hfm : ∀  (h : HP), mG (gN h) (gS h) (f  h))  (h : HP) : mG (gN h) (gS h) (cR_product f  h) := by
  have key : ∀ c s : Nat, mN c s h → mG c s (cR_product f  h) := by
    intro c s hn
    rw [cR_product]
    refine mg_calx hn (cR_one_m f hfm h) (fun r1 h2 hn => ?_)
    refine cR_product_5_m f hfm  _ (fun x19 h20 hn => ?_) FU r1 h2 hn
    exact mg_some hn
  exact key _ _ ⟨Nat.le_refl _, Nat.le_refl _⟩
theorem cR_sum_5_m {c s : Nat} (f : HP → Option ((Nat ⊕ Nat × Nat) × HP)) (hfm : ∀  (h : HP), mG (gN h) (gS h) (f  h))  (k : Nat → HP → Option ((Nat ⊕ Nat × Nat) × HP)) (hk : ∀ (v1 : Nat) (h : HP), mN c s h → mG c s (k v1 h)) : ∀ (n : Nat) (v1 : Nat) (h : HP), mN c s h → mG c s (cR_sum_5 f k n v1 h) := by
  intro n
  induction n with
  | zero =>
    intro v1 h hn
    exact mg_none
  | succ n ih =>
    intro v1 h hn
    rw [cR_sum_5]
    refine mg_cal hn (cR_isSign_m (43 : Int32) h) (fun r3 h4 hn => ?_)
    refine mg_jon (fun (j5 : HP → Option ((Nat ⊕ Nat × Nat) × HP)) => ∀ (h6 : HP), mN c s h6 → mG c s (j5 h6)) ?_ ?_
    · intro h6 hn
      refine mg_calx hn (cR_knot_m h6) (fun r7 h8 hn => ?_)
      refine mg_bnd (fun x9 => ?_)
      refine mg_grd ?_
      refine mg_bnd (fun b11 => ?_)
      refine mg_bA hn (fun h12 hn => ?_)
      refine mg_calx hn (cR_product_m f hfm h12) (fun r13 h14 hn => ?_)
      refine mg_cal hn (kX19_init_m b11 x9 v1 r13 h14) (fun r15 h16 hn => ?_)
      exact ih b11 h16 hn
    · intro j5 hj5
      refine mg_ite ?_ ?_
      · refine mg_cal hn (cR_isSign_m (45 : Int32) h4) (fun r17 h18 hn => ?_)
        refine mg_ite ?_ ?_
        · exact hk v1 h18 hn
        · exact hj5 h18 hn
      · exact hj5 h4 hn
theorem cR_sum_m (f : HP → Option ((Nat ⊕ Nat × Nat) × HP)) (hfm : ∀  (h : HP), mG (gN h) (gS h) (f  h))  (h : HP) : mG (gN h) (gS h) (cR_sum f  h) := by
  have key : ∀ c s : Nat, mN c s h → mG c s (cR_sum f  h) := by
    intro c s hn
    rw [cR_sum]
    refine mg_calx hn (cR_product_m f hfm h) (fun r1 h2 hn => ?_)
    refine cR_sum_5_m f hfm  _ (fun x19 h20 hn => ?_) FU r1 h2 hn
    exact mg_some hn
  exact key _ _ ⟨Nat.le_refl _, Nat.le_refl _⟩
theorem cR_compare_m (f : HP → Option ((Nat ⊕ Nat × Nat) × HP)) (hfm : ∀  (h : HP), mG (gN h) (gS h) (f  h))  (h : HP) : mG (gN h) (gS h) (cR_compare f  h) := by
  have key : ∀ c s : Nat, mN c s h → mG c s (cR_compare f  h) := by
    intro c s hn
    rw [cR_compare]
    refine mg_calx hn (cR_sum_m f hfm h) (fun r1 h2 hn => ?_)
    refine mg_cal hn (cR_isSign_m (60 : Int32) h2) (fun r3 h4 hn => ?_)
    refine mg_jon (fun (j5 : HP → Option ((Nat ⊕ Nat × Nat) × HP)) => ∀ (h6 : HP), mN c s h6 → mG c s (j5 h6)) ?_ ?_
    · intro h6 hn
      refine mg_calx hn (cR_knot_m h6) (fun r7 h8 hn => ?_)
      refine mg_bnd (fun x9 => ?_)
      refine mg_grd ?_
      refine mg_bnd (fun b11 => ?_)
      refine mg_bA hn (fun h12 hn => ?_)
      refine mg_calx hn (cR_sum_m f hfm h12) (fun r13 h14 hn => ?_)
      refine mg_cal hn (kX19_init_m b11 x9 r1 r13 h14) (fun r15 h16 hn => ?_)
      exact mg_some hn
    · intro j5 hj5
      refine mg_ite ?_ ?_
      · refine mg_cal hn (cR_isSign_m (62 : Int32) h4) (fun r17 h18 hn => ?_)
        refine mg_ite ?_ ?_
        · refine mg_cal hn (cR_isSign_m (61 : Int32) h18) (fun r19 h20 hn => ?_)
          refine mg_ite ?_ ?_
          · refine mg_ite ?_ ?_
            · refine mg_ite ?_ ?_
              · exact hj5 h20 hn
              · exact mg_some hn
            · exact mg_some hn
          · exact hj5 h20 hn
        · exact hj5 h18 hn
      · exact hj5 h4 hn
  exact key _ _ ⟨Nat.le_refl _, Nat.le_refl _⟩
theorem cR_not_m (f : HP → Option ((Nat ⊕ Nat × Nat) × HP)) (hfm : ∀  (h : HP), mG (gN h) (gS h) (f  h))  (h : HP) : mG (gN h) (gS h) (cR_not f  h) := by
  have key : ∀ c s : Nat, mN c s h → mG c s (cR_not f  h) := by
    intro c s hn
    rw [cR_not]
    refine mg_cal hn (cR_isWord_m (17 : Int32) (17 : Int32) h) (fun r1 h2 hn => ?_)
    refine mg_ite ?_ ?_
    · refine mg_calx hn (cR_compare_m f hfm h2) (fun r3 h4 hn => ?_)
      exact mg_some hn
    · refine mg_calx hn (cR_knot_m h2) (fun r5 h6 hn => ?_)
      refine mg_grd ?_
      refine mg_bnd (fun b8 => ?_)
      refine mg_bA hn (fun h9 hn => ?_)
      refine mg_calx hn (hfm h9) (fun r10 h11 hn => ?_)
      refine mg_cal hn (kX18_init_m b8 r10 h11) (fun r12 h13 hn => ?_)
      exact mg_some hn
  exact key _ _ ⟨Nat.le_refl _, Nat.le_refl _⟩
theorem cR_notN_m : ∀ (n : Nat)  (h : HP), mG (gN h) (gS h) (cR_notN n  h) := by
  intro n
  induction n with
  | zero => intro  h; exact mg_none
  | succ n ih =>
    intro  h
    exact cR_not_m (cR_notN n) ih  h
theorem cR_line_m   (h : HP) : mG (gN h) (gS h) (cR_line  h) := by
  have key : ∀ c s : Nat, mN c s h → mG c s (cR_line  h) := by
    intro c s hn
    rw [cR_line]
    refine mg_cal hn (cR_isWord_m (0 : Int32) (7 : Int32) h) (fun r1 h2 hn => ?_)
    refine mg_ite ?_ ?_
    · refine mg_cal hn (cR_wrong_m (1 : Int32) h2) (fun r3 h4 hn => ?_)
      refine mg_grd ?_
      exact mg_some hn
    · refine mg_bnd (fun x6 => ?_)
      refine mg_cal hn (cR_isFull_m x6 h2) (fun r7 h8 hn => ?_)
      refine mg_ite ?_ ?_
      · refine mg_jon (fun (j9 : Unit → Option ((Unit ⊕ Nat × Nat) × HP)) => ∀ (_u : Unit), mG c s (j9 ())) ?_ ?_
        · intro _
          refine mg_bI hn (fun h10 hn => ?_)
          refine mg_cal hn (cR_next_m h10) (fun r13 h14 hn => ?_)
          refine mg_jon (fun (j15 : HP → Option ((Unit ⊕ Nat × Nat) × HP)) => ∀ (h16 : HP), mN c s h16 → mG c s (j15 h16)) ?_ ?_
          · intro h16 hn
            refine mg_cal hn (cR_isSign_m (59 : Int32) h16) (fun r17 h18 hn => ?_)
            refine mg_ite ?_ ?_
            · refine mg_cal hn (cR_wrong_m (1 : Int32) h18) (fun r19 h20 hn => ?_)
              refine mg_grd ?_
              exact mg_some hn
            · refine mg_cal hn (cR_next_m h18) (fun r22 h23 hn => ?_)
              refine mg_onr (fun b24 => ?_)
              refine mg_grd ?_
              refine mg_bI hn (fun h27 hn => ?_)
              exact mg_some hn
          · intro j15 hj15
            refine mg_ite ?_ ?_
            · refine mg_onr (fun b31 => ?_)
              refine mg_grd ?_
              refine mg_grd ?_
              refine mg_bnd (fun b35 => ?_)
              refine mg_bA hn (fun h36 hn => ?_)
              refine mg_onr (fun b37 => ?_)
              refine mg_grd ?_
              refine mg_calx hn (cR_fresh_m (b37 + 1) h36) (fun r40 h41 hn => ?_)
              refine mg_cal hn (kX12_init_m b35 r40 h41) (fun r42 h43 hn => ?_)
              refine mg_grd ?_
              refine mg_cal hn (cL_add_m (b31 + 1) b35 h43) (fun r44 h45 hn => ?_)
              exact hj15 h45 hn
            · refine mg_ite ?_ ?_
              · refine mg_calx hn (cR_person_m h14) (fun r48 h49 hn => ?_)
                exact hj15 h49 hn
              · refine mg_ite ?_ ?_
                · refine mg_calx hn (cR_knows_m h14) (fun r51 h52 hn => ?_)
                  exact hj15 h52 hn
                · refine mg_ite ?_ ?_
                  · refine mg_calx hn (cR_question_m h14) (fun r54 h55 hn => ?_)
                    exact hj15 h55 hn
                  · refine mg_ite ?_ ?_
                    · refine mg_calx hn (cR_talk_m h14) (fun r57 h58 hn => ?_)
                      exact hj15 h58 hn
                    · refine mg_ite ?_ ?_
                      · refine mg_onr (fun b60 => ?_)
                        refine mg_calx hn (cR_number_m (0 : Int32) (99 : Int32) h14) (fun r62 h63 hn => ?_)
                        refine mg_grd ?_
                        refine mg_bI hn (fun h65 hn => ?_)
                        exact hj15 h65 hn
                      · refine mg_ite ?_ ?_
                        · refine mg_onr (fun b69 => ?_)
                          refine mg_calx hn (cR_number_m (0 : Int32) (99999 : Int32) h14) (fun r71 h72 hn => ?_)
                          refine mg_grd ?_
                          refine mg_bI hn (fun h74 hn => ?_)
                          exact hj15 h74 hn
                        · refine mg_cal hn (cR_isWord_m (13 : Int32) (14 : Int32) h14) (fun r77 h78 hn => ?_)
                          refine mg_ite ?_ ?_
                          · refine mg_cal hn (cR_wrong_m (1 : Int32) h78) (fun r79 h80 hn => ?_)
                            refine mg_grd ?_
                            exact mg_some hn
                          · refine mg_bnd (fun x82 => ?_)
                            refine mg_onr (fun b83 => ?_)
                            refine mg_grd ?_
                            refine mg_grd ?_
                            refine mg_ite ?_ ?_
                            · refine mg_cal hn (cR_next_m h78) (fun r86 h87 hn => ?_)
                              refine mg_onr (fun b88 => ?_)
                              refine mg_grd ?_
                              refine mg_calx hn (cR_or_m (cR_notN 100) (cR_notN_m 100) h87) (fun r91 h92 hn => ?_)
                              refine mg_grd ?_
                              refine mg_grd ?_
                              refine mg_grd ?_
                              refine mg_grd ?_
                              refine mg_bR hn (fun h95 hn => ?_)
                              exact hj15 h95 hn
                            · refine mg_cal hn (cR_wrong_m (3 : Int32) h78) (fun r97 h98 hn => ?_)
                              refine mg_grd ?_
                              exact mg_some hn
        · intro j9 hj9
          refine mg_jon (fun (j100 : Unit → Option ((Unit ⊕ Nat × Nat) × HP)) => ∀ (_u : Unit), mG c s (j100 ())) ?_ ?_
          · intro _
            refine mg_ite ?_ ?_
            · refine mg_cal hn (cR_wrong_m (3 : Int32) h8) (fun r101 h102 hn => ?_)
              refine mg_grd ?_
              exact mg_some hn
            · exact hj9 ()
          · intro j100 hj100
            refine mg_ite ?_ ?_
            · exact hj100 ()
            · refine mg_ite ?_ ?_
              · exact hj100 ()
              · exact hj9 ()
      · refine mg_cal hn (cR_wrong_m (2 : Int32) h8) (fun r104 h105 hn => ?_)
        refine mg_grd ?_
        exact mg_some hn
  exact key _ _ ⟨Nat.le_refl _, Nat.le_refl _⟩
theorem cR_read_35_m {c s : Nat}   (k : HP → Option ((Nat ⊕ Nat × Nat) × HP)) (hk : ∀  (h : HP), mN c s h → mG c s (k  h)) : ∀ (n : Nat)  (h : HP), mN c s h → mG c s (cR_read_35 k n  h) := by
  intro n
  induction n with
  | zero =>
    intro  h hn
    exact mg_none
  | succ n ih =>
    intro  h hn
    rw [cR_read_35]
    refine mg_ite ?_ ?_
    · exact hk h hn
    · refine mg_calx hn (cR_line_m h) (fun r23 h24 hn => ?_)
      exact ih h24 hn
theorem cR_read_m  (a1 : Int32) (h : HP) : mG (gN h) (gS h) (cR_read a1 h) := by
  have key : ∀ c s : Nat, mN c s h → mG c s (cR_read a1 h) := by
    intro c s hn
    rw [cR_read]
    refine mg_bI hn (fun h1 hn => ?_)
    refine mg_bI hn (fun h4 hn => ?_)
    refine mg_bI hn (fun h7 hn => ?_)
    refine mg_bI hn (fun h10 hn => ?_)
    refine mg_grd ?_
    refine mg_bnd (fun b14 => ?_)
    refine mg_bA hn (fun h15 hn => ?_)
    refine mg_cal hn (cC_init_m b14 h15) (fun r16 h17 hn => ?_)
    refine mg_bR hn (fun h18 hn => ?_)
    refine mg_cal hn (cR_next_m h18) (fun r21 h22 hn => ?_)
    refine cR_read_35_m  _ (fun  h25 hn => ?_) FU h22 hn
    refine mg_onr (fun b26 => ?_)
    exact mg_some hn
  exact key _ _ ⟨Nat.le_refl _, Nat.le_refl _⟩
theorem cS_begin_2_m {c s : Nat}  (f0 : Nat) (k : HP → Option (Unit × HP)) (hk : ∀  (h : HP), mN c s h → mG c s (k  h)) : ∀ (n : Nat) (v1 : Int32) (h : HP), mN c s h → mG c s (cS_begin_2 f0 k n v1 h) := by
  intro n
  induction n with
  | zero =>
    intro v1 h hn
    exact mg_none
  | succ n ih =>
    intro v1 h hn
    rw [cS_begin_2]
    refine mg_grd ?_
    refine mg_cal hn (cA_persons_m h) (fun r3 h4 hn => ?_)
    refine mg_ite ?_ ?_
    · exact hk h4 hn
    · refine mg_grd ?_
      refine mg_onr (fun b6 => ?_)
      refine mg_grd ?_
      refine mg_grd ?_
      refine mg_cal hn (cL_get_m (b6 + 3) v1 h4) (fun r9 h10 hn => ?_)
      refine mg_grd ?_
      refine mg_grd ?_
      refine mg_grd ?_
      refine mg_bI hn (fun h14 hn => ?_)
      refine mg_grd ?_
      refine mg_onr (fun b18 => ?_)
      refine mg_grd ?_
      refine mg_grd ?_
      refine mg_cal hn (cL_get_m (b18 + 3) v1 h14) (fun r21 h22 hn => ?_)
      refine mg_grd ?_
      refine mg_grd ?_
      refine mg_grd ?_
      refine mg_bI hn (fun h26 hn => ?_)
      refine mg_grd ?_
      refine mg_grd ?_
      refine mg_bI hn (fun h30 hn => ?_)
      refine mg_grd ?_
      refine mg_bI hn (fun h33 hn => ?_)
      refine mg_bnd (fun x36 => ?_)
      exact ih x36 h33 hn
theorem cS_begin_m  (o : Nat) (h : HP) : mG (gN h) (gS h) (cS_begin o h) := by
  have key : ∀ c s : Nat, mN c s h → mG c s (cS_begin o h) := by
    intro c s hn
    rw [cS_begin]
    refine mg_bnd (fun x1 => ?_)
    refine cS_begin_2_m o _ (fun  h37 hn => ?_) FU x1 h hn
    refine mg_grd ?_
    refine mg_bI hn (fun h39 hn => ?_)
    refine mg_bI hn (fun h42 hn => ?_)
    refine mg_onr (fun b45 => ?_)
    refine mg_grd ?_
    refine mg_bI hn (fun h48 hn => ?_)
    refine mg_bI hn (fun h51 hn => ?_)
    refine mg_bI hn (fun h54 hn => ?_)
    exact mg_some hn
  exact key _ _ ⟨Nat.le_refl _, Nat.le_refl _⟩
theorem cA_textX_m  (a1 : Int32) (h : HP) : mG (gN h) (gS h) (cA_textX a1 h) := by
  have key : ∀ c s : Nat, mN c s h → mG c s (cA_textX a1 h) := by
    intro c s hn
    rw [cA_textX]
    refine mg_cal hn (cA_in_m (a1).toInt64 (0 : Int64) ((gI h 0 1)).toInt64 h) (fun r1 h2 hn => ?_)
    refine mg_ite ?_ ?_
    · exact mg_some hn
    · refine mg_bI hn (fun h3 hn => ?_)
      refine mg_bI hn (fun h6 hn => ?_)
      refine mg_bI hn (fun h9 hn => ?_)
      refine mg_calk1 hn (cR_read_m a1 h9) ?_ ?_
      · intro r12 h13 hn
        refine mg_bR hn (fun h18 hn => ?_)
        refine mg_cal hn (cS_begin_m 20 h18) (fun r21 h22 hn => ?_)
        refine mg_bI hn (fun h23 hn => ?_)
        refine mg_bI hn (fun h26 hn => ?_)
        refine mg_cal hn (cL_clear_m 41 h26) (fun r29 h30 hn => ?_)
        refine mg_bI hn (fun h31 hn => ?_)
        refine mg_onr (fun b34 => ?_)
        refine mg_grd ?_
        exact mg_some hn
      · intro a14 h15 hn
        refine mg_grd ?_
        refine mg_bI hn (fun h38 hn => ?_)
        refine mg_bI hn (fun h41 hn => ?_)
        exact mg_some hn
  exact key _ _ ⟨Nat.le_refl _, Nat.le_refl _⟩
theorem cA_text_m (a1 : Int32) (h : HP) : mG (gN h) (gS h) (cA_text a1 h) := mg_unx (cA_textX_m a1 h)
theorem cA_fault_m  (a1 : Int32) (h : HP) : mG (gN h) (gS h) (cA_fault a1 h) := by
  have key : ∀ c s : Nat, mN c s h → mG c s (cA_fault a1 h) := by
    intro c s hn
    rw [cA_fault]
    refine mg_ite ?_ ?_
    · exact mg_some hn
    · refine mg_ite ?_ ?_
      · exact mg_some hn
      · exact mg_some hn
  exact key _ _ ⟨Nat.le_refl _, Nat.le_refl _⟩
theorem cA_named_m  (a1 : Int32) (a2 : Int32) (h : HP) : mG (gN h) (gS h) (cA_named a1 a2 h) := by
  have key : ∀ c s : Nat, mN c s h → mG c s (cA_named a1 a2 h) := by
    intro c s hn
    rw [cA_named]
    refine mg_ite ?_ ?_
    · refine mg_onr (fun b2 => ?_)
      refine mg_grd ?_
      refine mg_cal hn (kX12_find_m (b2 + 1) a2 h) (fun r5 h6 hn => ?_)
      exact mg_some hn
    · refine mg_ite ?_ ?_
      · refine mg_onr (fun b8 => ?_)
        refine mg_grd ?_
        refine mg_cal hn (kX12_find_m (b8 + 3) a2 h) (fun r11 h12 hn => ?_)
        exact mg_some hn
      · refine mg_ite ?_ ?_
        · refine mg_onr (fun b14 => ?_)
          refine mg_grd ?_
          refine mg_cal hn (kX12_find_m (b14 + 5) a2 h) (fun r17 h18 hn => ?_)
          exact mg_some hn
        · exact mg_some hn
  exact key _ _ ⟨Nat.le_refl _, Nat.le_refl _⟩
theorem cA_questions_m   (h : HP) : mG (gN h) (gS h) (cA_questions  h) := by
  have key : ∀ c s : Nat, mN c s h → mG c s (cA_questions  h) := by
    intro c s hn
    rw [cA_questions]
    refine mg_onr (fun b1 => ?_)
    refine mg_grd ?_
    refine mg_grd ?_
    refine mg_cal hn (cL_size_m (b1 + 5) h) (fun r4 h5 hn => ?_)
    exact mg_some hn
  exact key _ _ ⟨Nat.le_refl _, Nat.le_refl _⟩
theorem cA_isQuestion_m  (a1 : Int32) (h : HP) : mG (gN h) (gS h) (cA_isQuestion a1 h) := by
  have key : ∀ c s : Nat, mN c s h → mG c s (cA_isQuestion a1 h) := by
    intro c s hn
    rw [cA_isQuestion]
    refine mg_cal hn (cA_questions_m h) (fun r1 h2 hn => ?_)
    refine mg_cal hn (cA_in_m (a1).toInt64 (0 : Int64) ((r1 - (1 : Int32))).toInt64 h2) (fun r3 h4 hn => ?_)
    refine mg_grd ?_
    exact mg_some hn
  exact key _ _ ⟨Nat.le_refl _, Nat.le_refl _⟩
theorem cA_question_m  (a1 : Int32) (a2 : Int32) (h : HP) : mG (gN h) (gS h) (cA_question a1 a2 h) := by
  have key : ∀ c s : Nat, mN c s h → mG c s (cA_question a1 a2 h) := by
    intro c s hn
    rw [cA_question]
    refine mg_cal hn (cA_isQuestion_m a1 h) (fun r1 h2 hn => ?_)
    refine mg_ite ?_ ?_
    · exact mg_some hn
    · refine mg_onr (fun b3 => ?_)
      refine mg_grd ?_
      refine mg_grd ?_
      refine mg_cal hn (cL_get_m (b3 + 5) a1 h2) (fun r6 h7 hn => ?_)
      refine mg_grd ?_
      refine mg_ite ?_ ?_
      · exact mg_some hn
      · refine mg_ite ?_ ?_
        · exact mg_some hn
        · refine mg_ite ?_ ?_
          · exact mg_some hn
          · refine mg_ite ?_ ?_
            · exact mg_some hn
            · exact mg_some hn
  exact key _ _ ⟨Nat.le_refl _, Nat.le_refl _⟩
theorem cA_isPerson_m  (a1 : Int32) (h : HP) : mG (gN h) (gS h) (cA_isPerson a1 h) := by
  have key : ∀ c s : Nat, mN c s h → mG c s (cA_isPerson a1 h) := by
    intro c s hn
    rw [cA_isPerson]
    refine mg_cal hn (cA_persons_m h) (fun r1 h2 hn => ?_)
    refine mg_cal hn (cA_in_m (a1).toInt64 (0 : Int64) ((r1 - (1 : Int32))).toInt64 h2) (fun r3 h4 hn => ?_)
    refine mg_grd ?_
    exact mg_some hn
  exact key _ _ ⟨Nat.le_refl _, Nat.le_refl _⟩
theorem cA_areTwo_m  (a1 : Int32) (a2 : Int32) (h : HP) : mG (gN h) (gS h) (cA_areTwo a1 a2 h) := by
  have key : ∀ c s : Nat, mN c s h → mG c s (cA_areTwo a1 a2 h) := by
    intro c s hn
    rw [cA_areTwo]
    refine mg_cal hn (cA_isPerson_m a1 h) (fun r1 h2 hn => ?_)
    refine mg_ite ?_ ?_
    · exact mg_some hn
    · refine mg_cal hn (cA_isPerson_m a2 h2) (fun r3 h4 hn => ?_)
      refine mg_ite ?_ ?_
      · exact mg_some hn
      · refine mg_ite ?_ ?_
        · exact mg_some hn
        · exact mg_some hn
  exact key _ _ ⟨Nat.le_refl _, Nat.le_refl _⟩
theorem cS_isThere_m  (o : Nat) (a1 : Int32) (h : HP) : mG (gN h) (gS h) (cS_isThere o a1 h) := by
  have key : ∀ c s : Nat, mN c s h → mG c s (cS_isThere o a1 h) := by
    intro c s hn
    rw [cS_isThere]
    refine mg_grd ?_
    refine mg_ite ?_ ?_
    · exact mg_some hn
    · exact mg_some hn
  exact key _ _ ⟨Nat.le_refl _, Nat.le_refl _⟩
theorem cS_areTogether_m  (o : Nat) (a1 : Int32) (a2 : Int32) (h : HP) : mG (gN h) (gS h) (cS_areTogether o a1 a2 h) := by
  have key : ∀ c s : Nat, mN c s h → mG c s (cS_areTogether o a1 a2 h) := by
    intro c s hn
    rw [cS_areTogether]
    refine mg_grd ?_
    refine mg_cal hn (cS_isThere_m o a1 h) (fun r1 h2 hn => ?_)
    refine mg_ite ?_ ?_
    · exact mg_some hn
    · refine mg_grd ?_
      refine mg_cal hn (cS_isThere_m o a2 h2) (fun r4 h5 hn => ?_)
      refine mg_ite ?_ ?_
      · exact mg_some hn
      · refine mg_grd ?_
        refine mg_ite ?_ ?_
        · exact mg_some hn
        · refine mg_grd ?_
          refine mg_grd ?_
          refine mg_ite ?_ ?_
          · exact mg_some hn
          · exact mg_some hn
  exact key _ _ ⟨Nat.le_refl _, Nat.le_refl _⟩
theorem kX4_bit_m  (a1 : Int32) (h : HP) : mG (gN h) (gS h) (kX4_bit a1 h) := by
  have key : ∀ c s : Nat, mN c s h → mG c s (kX4_bit a1 h) := by
    intro c s hn
    rw [kX4_bit]
    refine mg_ite ?_ ?_
    · exact mg_some hn
    · exact mg_some hn
  exact key _ _ ⟨Nat.le_refl _, Nat.le_refl _⟩
theorem kX5_supposes_m  (o : Nat) (a1 : Nat) (h : HP) : mG (gN h) (gS h) (kX5_supposes o a1 h) := by
  have key : ∀ c s : Nat, mN c s h → mG c s (kX5_supposes o a1 h) := by
    intro c s hn
    rw [kX5_supposes]
    refine mg_grd ?_
    refine mg_cal hn (kX4_bit_m (gI h a1 2) h) (fun r2 h3 hn => ?_)
    exact mg_some hn
  exact key _ _ ⟨Nat.le_refl _, Nat.le_refl _⟩
theorem kX6_supposes_m  (o : Nat) (a1 : Nat) (h : HP) : mG (gN h) (gS h) (kX6_supposes o a1 h) := by
  have key : ∀ c s : Nat, mN c s h → mG c s (kX6_supposes o a1 h) := by
    intro c s hn
    rw [kX6_supposes]
    refine mg_grd ?_
    refine mg_cal hn (kX5_supposes_m o a1 h) (fun r1 h2 hn => ?_)
    refine mg_grd ?_
    refine mg_cal hn (kX4_bit_m (gI h2 a1 3) h2) (fun r5 h6 hn => ?_)
    exact mg_some hn
  exact key _ _ ⟨Nat.le_refl _, Nat.le_refl _⟩
theorem cK_supposes_m (o : Nat) (a1 : Nat) (h : HP) : mG (gN h) (gS h) (cK_supposes o a1 h) := by
  rw [cK_supposes]
  refine mg_ite (kX5_supposes_m o a1 h) ?_
  refine mg_ite (kX6_supposes_m o a1 h) ?_
  refine mg_ite (kX5_supposes_m o a1 h) ?_
  refine mg_ite (kX5_supposes_m o a1 h) ?_
  exact mg_none
theorem cS_can_m  (o : Nat) (a1 : Int32) (a2 : Int32) (a3 : Int32) (a4 : Int32) (h : HP) : mG (gN h) (gS h) (cS_can o a1 a2 a3 a4 h) := by
  have key : ∀ c s : Nat, mN c s h → mG c s (cS_can o a1 a2 a3 a4 h) := by
    intro c s hn
    rw [cS_can]
    refine mg_grd ?_
    refine mg_onr (fun b2 => ?_)
    refine mg_grd ?_
    refine mg_grd ?_
    refine mg_cal hn (cL_get_m (b2 + 5) a3 h) (fun r5 h6 hn => ?_)
    refine mg_grd ?_
    refine mg_ite ?_ ?_
    · exact mg_some hn
    · refine mg_grd ?_
      refine mg_cal hn (cS_areTogether_m o a1 a2 h6) (fun r9 h10 hn => ?_)
      refine mg_ite ?_ ?_
      · exact mg_some hn
      · refine mg_grd ?_
        refine mg_jon (fun (j13 : Unit → Option (Int32 × HP)) => ∀ (_u : Unit), mG c s (j13 ())) ?_ ?_
        · intro _
          refine mg_jon (fun (j14 : Unit → Option (Int32 × HP)) => ∀ (_u : Unit), mG c s (j14 ())) ?_ ?_
          · intro _
            refine mg_grd ?_
            refine mg_grd ?_
            refine mg_onr (fun b16 => ?_)
            refine mg_cal hn (cK_supposes_m b16 r5 h10) (fun r17 h18 hn => ?_)
            refine mg_grd ?_
            refine mg_grd ?_
            refine mg_ite ?_ ?_
            · exact mg_some hn
            · exact mg_some hn
          · intro j14 hj14
            refine mg_ite ?_ ?_
            · exact hj14 ()
            · refine mg_grd ?_
              refine mg_onr (fun b24 => ?_)
              refine mg_grd ?_
              refine mg_ite ?_ ?_
              · exact hj14 ()
              · exact mg_some hn
        · intro j13 hj13
          refine mg_ite ?_ ?_
          · refine mg_ite ?_ ?_
            · exact mg_some hn
            · exact hj13 ()
          · exact hj13 ()
  exact key _ _ ⟨Nat.le_refl _, Nat.le_refl _⟩
theorem cA_can_m  (a1 : Int32) (a2 : Int32) (a3 : Int32) (h : HP) : mG (gN h) (gS h) (cA_can a1 a2 a3 h) := by
  have key : ∀ c s : Nat, mN c s h → mG c s (cA_can a1 a2 a3 h) := by
    intro c s hn
    rw [cA_can]
    refine mg_cal hn (cA_areTwo_m a1 a2 h) (fun r1 h2 hn => ?_)
    refine mg_ite ?_ ?_
    · exact mg_some hn
    · refine mg_cal hn (cA_isQuestion_m a3 h2) (fun r3 h4 hn => ?_)
      refine mg_ite ?_ ?_
      · exact mg_some hn
      · refine mg_cal hn (cS_can_m 20 a1 a2 a3 (1 : Int32) h4) (fun r5 h6 hn => ?_)
        refine mg_ite ?_ ?_
        · exact mg_some hn
        · exact mg_some hn
  exact key _ _ ⟨Nat.le_refl _, Nat.le_refl _⟩
theorem cS_wit_m  (o : Nat) (a1 : Int32) (h : HP) : mG (gN h) (gS h) (cS_wit o a1 h) := by
  have key : ∀ c s : Nat, mN c s h → mG c s (cS_wit o a1 h) := by
    intro c s hn
    rw [cS_wit]
    refine mg_grd ?_
    refine mg_ite ?_ ?_
    · exact mg_some hn
    · refine mg_onr (fun b2 => ?_)
      refine mg_grd ?_
      refine mg_grd ?_
      refine mg_cal hn (cL_get_m (b2 + 3) a1 h) (fun r5 h6 hn => ?_)
      refine mg_grd ?_
      exact mg_some hn
  exact key _ _ ⟨Nat.le_refl _, Nat.le_refl _⟩
theorem cS_name_m  (o : Nat) (a1 : Int32) (a2 : Int32) (h : HP) : mG (gN h) (gS h) (cS_name o a1 a2 h) := by
  have key : ∀ c s : Nat, mN c s h → mG c s (cS_name o a1 a2 h) := by
    intro c s hn
    rw [cS_name]
    refine mg_grd ?_
    refine mg_onr (fun b2 => ?_)
    refine mg_grd ?_
    refine mg_grd ?_
    refine mg_cal hn (cL_get_m (b2 + 3) a1 h) (fun r5 h6 hn => ?_)
    refine mg_grd ?_
    refine mg_grd ?_
    refine mg_bL hn (fun h9 hn => ?_)
    refine mg_grd ?_
    refine mg_cal hn (cS_wit_m o a1 h9) (fun r13 h14 hn => ?_)
    refine mg_grd ?_
    refine mg_bL hn (fun h15 hn => ?_)
    refine mg_grd ?_
    refine mg_grd ?_
    refine mg_grd ?_
    refine mg_bL hn (fun h19 hn => ?_)
    refine mg_grd ?_
    refine mg_cal hn (kJ18_bitCount_m (gI h19 (o + 1) (a1).toNatClampNeg) h19) (fun r22 h23 hn => ?_)
    refine mg_grd ?_
    refine mg_bL hn (fun h24 hn => ?_)
    refine mg_grd ?_
    refine mg_jon (fun (j28 : Int64 → Option (Unit × HP)) => ∀ (s29 : Int64), mG c s (j28 s29)) ?_ ?_
    · intro s29
      refine mg_grd ?_
      refine mg_bL hn (fun h30 hn => ?_)
      refine mg_grd ?_
      refine mg_bL hn (fun h33 hn => ?_)
      refine mg_grd ?_
      refine mg_bL hn (fun h36 hn => ?_)
      exact mg_some hn
    · intro j28 hj28
      refine mg_ite ?_ ?_
      · exact hj28 (0 : Int64)
      · refine mg_grd ?_
        exact hj28 ((gI h24 (o + 2) (a1).toNatClampNeg)).toInt64
  exact key _ _ ⟨Nat.le_refl _, Nat.le_refl _⟩
theorem kX16_of_m (f : Nat → Nat → HP → Option ((Int64 ⊕ Nat × Nat) × HP)) (hfm : ∀ (x0 : Nat) (x1 : Nat) (h : HP), mG (gN h) (gS h) (f x0 x1 h)) (o : Nat) (a1 : Nat) (h : HP) : mG (gN h) (gS h) (kX16_of f o a1 h) := by
  have key : ∀ c s : Nat, mN c s h → mG c s (kX16_of f o a1 h) := by
    intro c s hn
    rw [kX16_of]
    refine mg_grd ?_
    exact mg_some hn
  exact key _ _ ⟨Nat.le_refl _, Nat.le_refl _⟩
theorem kX17_of_m (f : Nat → Nat → HP → Option ((Int64 ⊕ Nat × Nat) × HP)) (hfm : ∀ (x0 : Nat) (x1 : Nat) (h : HP), mG (gN h) (gS h) (f x0 x1 h)) (o : Nat) (a1 : Nat) (h : HP) : mG (gN h) (gS h) (kX17_of f o a1 h) := by
  have key : ∀ c s : Nat, mN c s h → mG c s (kX17_of f o a1 h) := by
    intro c s hn
    rw [kX17_of]
    refine mg_grd ?_
    refine mg_grd ?_
    refine mg_grd ?_
    exact mg_some hn
  exact key _ _ ⟨Nat.le_refl _, Nat.le_refl _⟩
theorem kX19_is_m  (a1 : Int32) (h : HP) : mG (gN h) (gS h) (kX19_is a1 h) := by
  have key : ∀ c s : Nat, mN c s h → mG c s (kX19_is a1 h) := by
    intro c s hn
    rw [kX19_is]
    refine mg_ite ?_ ?_
    · exact mg_some hn
    · exact mg_some hn
  exact key _ _ ⟨Nat.le_refl _, Nat.le_refl _⟩
theorem kX19_times_m  (a1 : Int64) (a2 : Int64) (h : HP) : mG (gN h) (gS h) (kX19_times a1 a2 h) := by
  have key : ∀ c s : Nat, mN c s h → mG c s (kX19_times a1 a2 h) := by
    intro c s hn
    rw [kX19_times]
    refine mg_ite ?_ ?_
    · exact mg_some hn
    · refine mg_grd ?_
      refine mg_ite ?_ ?_
      · exact mg_some hn
      · exact mg_some hn
  exact key _ _ ⟨Nat.le_refl _, Nat.le_refl _⟩
theorem cA_sure_m  (a1 : Int64) (h : HP) : mG (gN h) (gS h) (cA_sure a1 h) := by
  have key : ∀ c s : Nat, mN c s h → mG c s (cA_sure a1 h) := by
    intro c s hn
    rw [cA_sure]
    refine mg_jon (fun (j1 : Unit → Option ((Int64 ⊕ Nat × Nat) × HP)) => ∀ (_u : Unit), mG c s (j1 ())) ?_ ?_
    · intro _
      exact mg_some hn
    · intro j1 hj1
      refine mg_ite ?_ ?_
      · exact hj1 ()
      · refine mg_ite ?_ ?_
        · exact mg_some hn
        · exact hj1 ()
  exact key _ _ ⟨Nat.le_refl _, Nat.le_refl _⟩
theorem kX19_of_m (f : Nat → Nat → HP → Option ((Int64 ⊕ Nat × Nat) × HP)) (hfm : ∀ (x0 : Nat) (x1 : Nat) (h : HP), mG (gN h) (gS h) (f x0 x1 h)) (o : Nat) (a1 : Nat) (h : HP) : mG (gN h) (gS h) (kX19_of f o a1 h) := by
  have key : ∀ c s : Nat, mN c s h → mG c s (kX19_of f o a1 h) := by
    intro c s hn
    rw [kX19_of]
    refine mg_grd ?_
    refine mg_onr (fun b2 => ?_)
    refine mg_calx hn (hfm b2 a1 h) (fun r4 h5 hn => ?_)
    refine mg_bnd (fun x6 => ?_)
    refine mg_grd ?_
    refine mg_onr (fun b8 => ?_)
    refine mg_calx hn (hfm b8 a1 h5) (fun r10 h11 hn => ?_)
    refine mg_bnd (fun x12 => ?_)
    refine mg_grd ?_
    refine mg_ite ?_ ?_
    · refine mg_ite ?_ ?_
      · refine mg_cal hn (kX19_is_m (0 : Int32) h11) (fun r15 h16 hn => ?_)
        exact mg_some hn
      · refine mg_ite ?_ ?_
        · refine mg_cal hn (kX19_is_m (0 : Int32) h11) (fun r17 h18 hn => ?_)
          exact mg_some hn
        · refine mg_cal hn (kX19_is_m (1 : Int32) h11) (fun r19 h20 hn => ?_)
          exact mg_some hn
    · refine mg_ite ?_ ?_
      · refine mg_calx hn (kX19_times_m x6 x12 h11) (fun r22 h23 hn => ?_)
        exact mg_some hn
      · refine mg_ite ?_ ?_
        · refine mg_calx hn (cA_sure_m (x6 + x12) h11) (fun r25 h26 hn => ?_)
          exact mg_some hn
        · refine mg_ite ?_ ?_
          · refine mg_calx hn (cA_sure_m (x6 - x12) h11) (fun r28 h29 hn => ?_)
            exact mg_some hn
          · refine mg_ite ?_ ?_
            · refine mg_ite ?_ ?_
              · exact mg_some hn
              · refine mg_grd ?_
                exact mg_some hn
            · refine mg_ite ?_ ?_
              · refine mg_ite ?_ ?_
                · refine mg_cal hn (kX19_is_m (0 : Int32) h11) (fun r32 h33 hn => ?_)
                  exact mg_some hn
                · refine mg_cal hn (kX19_is_m (1 : Int32) h11) (fun r34 h35 hn => ?_)
                  exact mg_some hn
              · refine mg_ite ?_ ?_
                · refine mg_ite ?_ ?_
                  · refine mg_cal hn (kX19_is_m (1 : Int32) h11) (fun r37 h38 hn => ?_)
                    exact mg_some hn
                  · refine mg_cal hn (kX19_is_m (0 : Int32) h11) (fun r39 h40 hn => ?_)
                    exact mg_some hn
                · refine mg_ite ?_ ?_
                  · refine mg_ite ?_ ?_
                    · refine mg_cal hn (kX19_is_m (0 : Int32) h11) (fun r42 h43 hn => ?_)
                      exact mg_some hn
                    · refine mg_cal hn (kX19_is_m (1 : Int32) h11) (fun r44 h45 hn => ?_)
                      exact mg_some hn
                  · refine mg_ite ?_ ?_
                    · refine mg_ite ?_ ?_
                      · refine mg_cal hn (kX19_is_m (0 : Int32) h11) (fun r47 h48 hn => ?_)
                        exact mg_some hn
                      · refine mg_cal hn (kX19_is_m (1 : Int32) h11) (fun r49 h50 hn => ?_)
                        exact mg_some hn
                    · refine mg_ite ?_ ?_
                      · refine mg_ite ?_ ?_
                        · refine mg_cal hn (kX19_is_m (0 : Int32) h11) (fun r52 h53 hn => ?_)
                          exact mg_some hn
                        · refine mg_cal hn (kX19_is_m (1 : Int32) h11) (fun r54 h55 hn => ?_)
                          exact mg_some hn
                      · refine mg_ite ?_ ?_
                        · refine mg_ite ?_ ?_
                          · refine mg_cal hn (kX19_is_m (0 : Int32) h11) (fun r57 h58 hn => ?_)
                            exact mg_some hn
                          · refine mg_cal hn (kX19_is_m (1 : Int32) h11) (fun r59 h60 hn => ?_)
                            exact mg_some hn
                        · refine mg_ite ?_ ?_
                          · refine mg_ite ?_ ?_
                            · refine mg_cal hn (kX19_is_m (0 : Int32) h11) (fun r61 h62 hn => ?_)
                              exact mg_some hn
                            · refine mg_cal hn (kX19_is_m (1 : Int32) h11) (fun r63 h64 hn => ?_)
                              exact mg_some hn
                          · refine mg_cal hn (kX19_is_m (1 : Int32) h11) (fun r65 h66 hn => ?_)
                            exact mg_some hn
  exact key _ _ ⟨Nat.le_refl _, Nat.le_refl _⟩
theorem kX18_of_m (f : Nat → Nat → HP → Option ((Int64 ⊕ Nat × Nat) × HP)) (hfm : ∀ (x0 : Nat) (x1 : Nat) (h : HP), mG (gN h) (gS h) (f x0 x1 h)) (o : Nat) (a1 : Nat) (h : HP) : mG (gN h) (gS h) (kX18_of f o a1 h) := by
  have key : ∀ c s : Nat, mN c s h → mG c s (kX18_of f o a1 h) := by
    intro c s hn
    rw [kX18_of]
    refine mg_grd ?_
    refine mg_onr (fun b2 => ?_)
    refine mg_calx hn (hfm b2 a1 h) (fun r4 h5 hn => ?_)
    refine mg_ite ?_ ?_
    · exact mg_some hn
    · exact mg_some hn
  exact key _ _ ⟨Nat.le_refl _, Nat.le_refl _⟩
theorem cP_of_m : ∀ (n o a : Nat) (h : HP), mG (gN h) (gS h) (cP_of n o a h) := by
  intro n
  induction n with
  | zero => intro o a h; exact mg_none
  | succ n ih =>
    intro o a h
    rw [cP_of]
    refine mg_ite (kX16_of_m (cP_of n) ih o a h) ?_
    refine mg_ite (kX17_of_m (cP_of n) ih o a h) ?_
    refine mg_ite (kX18_of_m (cP_of n) ih o a h) ?_
    refine mg_ite (kX19_of_m (cP_of n) ih o a h) ?_
    exact mg_none
theorem cA_workX_m  (a1 : Int32) (h : HP) : mG (gN h) (gS h) (cA_workX a1 h) := by
  have key : ∀ c s : Nat, mN c s h → mG c s (cA_workX a1 h) := by
    intro c s hn
    rw [cA_workX]
    refine mg_onr (fun b1 => ?_)
    refine mg_grd ?_
    refine mg_grd ?_
    refine mg_ite ?_ ?_
    · exact mg_some hn
    · refine mg_onr (fun b4 => ?_)
      refine mg_grd ?_
      refine mg_grd ?_
      refine mg_onr (fun b7 => ?_)
      refine mg_calk1 hn (cP_of_m 80 b7 14 h) ?_ ?_
      · intro r8 h9 hn
        exact mg_some hn
      · intro a10 h11 hn
        exact mg_some hn
  exact key _ _ ⟨Nat.le_refl _, Nat.le_refl _⟩
theorem cA_work_m (a1 : Int32) (h : HP) : mG (gN h) (gS h) (cA_work a1 h) := mg_unx (cA_workX_m a1 h)
theorem cA_law_m  (a1 : Int32) (a2 : Int32) (a3 : Int32) (h : HP) : mG (gN h) (gS h) (cA_law a1 a2 a3 h) := by
  have key : ∀ c s : Nat, mN c s h → mG c s (cA_law a1 a2 a3 h) := by
    intro c s hn
    rw [cA_law]
    refine mg_cal hn (cA_in_m (a1).toInt64 (0 : Int64) (1 : Int64) h) (fun r1 h2 hn => ?_)
    refine mg_ite ?_ ?_
    · exact mg_some hn
    · refine mg_cal hn (cA_isPerson_m a2 h2) (fun r3 h4 hn => ?_)
      refine mg_ite ?_ ?_
      · exact mg_some hn
      · refine mg_cal hn (cA_isQuestion_m a3 h4) (fun r5 h6 hn => ?_)
        refine mg_ite ?_ ?_
        · exact mg_some hn
        · refine mg_onr (fun b7 => ?_)
          refine mg_grd ?_
          refine mg_grd ?_
          refine mg_cal hn (cL_get_m (b7 + 5) a3 h6) (fun r10 h11 hn => ?_)
          refine mg_grd ?_
          refine mg_cal hn (cS_name_m 20 a2 (gI h11 r10 1) h11) (fun r14 h15 hn => ?_)
          refine mg_jon (fun (j16 : Int32 → Option (Int64 × HP)) => ∀ (s17 : Int32), mG c s (j16 s17)) ?_ ?_
          · intro s17
            refine mg_cal hn (cA_work_m s17 h15) (fun r18 h19 hn => ?_)
            exact mg_some hn
          · intro j16 hj16
            refine mg_ite ?_ ?_
            · exact hj16 (0 : Int32)
            · exact hj16 (1 : Int32)
  exact key _ _ ⟨Nat.le_refl _, Nat.le_refl _⟩
theorem cS_init_m  (o : Nat) (a1 : Nat) (h : HP) : mG (gN h) (gS h) (cS_init o a1 h) := by
  have key : ∀ c s : Nat, mN c s h → mG c s (cS_init o a1 h) := by
    intro c s hn
    rw [cS_init]
    refine mg_grd ?_
    refine mg_grd ?_
    refine mg_bR hn (fun h2 hn => ?_)
    refine mg_grd ?_
    refine mg_bnd (fun b7 => ?_)
    refine mg_bA hn (fun h8 hn => ?_)
    refine mg_grd ?_
    refine mg_grd ?_
    refine mg_bR hn (fun h10 hn => ?_)
    refine mg_grd ?_
    refine mg_bnd (fun b15 => ?_)
    refine mg_bA hn (fun h16 hn => ?_)
    refine mg_grd ?_
    refine mg_grd ?_
    refine mg_bR hn (fun h18 hn => ?_)
    refine mg_grd ?_
    refine mg_bnd (fun b23 => ?_)
    refine mg_bA hn (fun h24 hn => ?_)
    refine mg_grd ?_
    refine mg_grd ?_
    refine mg_bR hn (fun h26 hn => ?_)
    refine mg_grd ?_
    refine mg_bnd (fun b31 => ?_)
    refine mg_bA hn (fun h32 hn => ?_)
    refine mg_grd ?_
    refine mg_grd ?_
    refine mg_bR hn (fun h34 hn => ?_)
    exact mg_some hn
  exact key _ _ ⟨Nat.le_refl _, Nat.le_refl _⟩
theorem cS_become_2_m {c s : Nat}  (f0 : Nat) (f1 : Nat) (k : HP → Option (Unit × HP)) (hk : ∀  (h : HP), mN c s h → mG c s (k  h)) : ∀ (n : Nat) (v2 : Int32) (h : HP), mN c s h → mG c s (cS_become_2 f0 f1 k n v2 h) := by
  intro n
  induction n with
  | zero =>
    intro v2 h hn
    exact mg_none
  | succ n ih =>
    intro v2 h hn
    rw [cS_become_2]
    refine mg_ite ?_ ?_
    · exact hk h hn
    · refine mg_grd ?_
      refine mg_grd ?_
      refine mg_grd ?_
      refine mg_grd ?_
      refine mg_bI hn (fun h4 hn => ?_)
      refine mg_grd ?_
      refine mg_grd ?_
      refine mg_bI hn (fun h7 hn => ?_)
      refine mg_grd ?_
      refine mg_grd ?_
      refine mg_bI hn (fun h10 hn => ?_)
      refine mg_grd ?_
      refine mg_grd ?_
      refine mg_bI hn (fun h13 hn => ?_)
      refine mg_bnd (fun x16 => ?_)
      exact ih x16 h13 hn
theorem cS_become_m  (o : Nat) (a1 : Nat) (h : HP) : mG (gN h) (gS h) (cS_become o a1 h) := by
  have key : ∀ c s : Nat, mN c s h → mG c s (cS_become o a1 h) := by
    intro c s hn
    rw [cS_become]
    refine mg_bnd (fun x1 => ?_)
    refine cS_become_2_m o a1 _ (fun  h17 hn => ?_) FU x1 h hn
    refine mg_grd ?_
    refine mg_grd ?_
    refine mg_bI hn (fun h20 hn => ?_)
    refine mg_bI hn (fun h23 hn => ?_)
    refine mg_bI hn (fun h26 hn => ?_)
    refine mg_bI hn (fun h29 hn => ?_)
    refine mg_bI hn (fun h32 hn => ?_)
    refine mg_bI hn (fun h35 hn => ?_)
    exact mg_some hn
  exact key _ _ ⟨Nat.le_refl _, Nat.le_refl _⟩
theorem cA_keepNow_18_m {c s : Nat}  (f1 : Nat) (k : HP → Option (Unit × HP)) (hk : ∀  (h : HP), mN c s h → mG c s (k  h)) : ∀ (n : Nat) (v2 : Int32) (h : HP), mN c s h → mG c s (cA_keepNow_18 f1 k n v2 h) := by
  intro n
  induction n with
  | zero =>
    intro v2 h hn
    exact mg_none
  | succ n ih =>
    intro v2 h hn
    rw [cA_keepNow_18]
    refine mg_ite ?_ ?_
    · exact hk h hn
    · refine mg_grd ?_
      refine mg_onr (fun b26 => ?_)
      refine mg_grd ?_
      refine mg_grd ?_
      refine mg_bR hn (fun h27 hn => ?_)
      refine mg_bnd (fun x29 => ?_)
      exact ih x29 h27 hn
theorem cA_keepNow_m   (h : HP) : mG (gN h) (gS h) (cA_keepNow  h) := by
  have key : ∀ c s : Nat, mN c s h → mG c s (cA_keepNow  h) := by
    intro c s hn
    rw [cA_keepNow]
    refine mg_jon (fun (j1 : HP → Option (Unit × HP)) => ∀ (h2 : HP), mN c s h2 → mG c s (j1 h2)) ?_ ?_
    · intro h2 hn
      refine mg_grd ?_
      refine mg_ite ?_ ?_
      · refine mg_grd ?_
        refine mg_bnd (fun b4 => ?_)
        refine mg_bA hn (fun h5 hn => ?_)
        refine mg_cal hn (cS_init_m b4 0 h5) (fun r6 h7 hn => ?_)
        refine mg_grd ?_
        refine mg_grd ?_
        refine mg_bR hn (fun h8 hn => ?_)
        refine mg_grd ?_
        refine mg_onr (fun b10 => ?_)
        refine mg_grd ?_
        refine mg_cal hn (cS_become_m b10 20 h8) (fun r11 h12 hn => ?_)
        refine mg_bI hn (fun h14 hn => ?_)
        exact mg_some hn
      · refine mg_grd ?_
        refine mg_onr (fun b17 => ?_)
        refine mg_grd ?_
        refine mg_cal hn (cS_become_m b17 20 h2) (fun r18 h19 hn => ?_)
        refine mg_bI hn (fun h21 hn => ?_)
        exact mg_some hn
    · intro j1 hj1
      refine mg_ite ?_ ?_
      · refine mg_grd ?_
        refine mg_onr (fun b24 => ?_)
        refine mg_bnd (fun x25 => ?_)
        refine cA_keepNow_18_m b24 _ (fun  h30 hn => ?_) FU x25 h hn
        refine mg_grd ?_
        refine mg_grd ?_
        refine mg_bR hn (fun h31 hn => ?_)
        refine mg_bI hn (fun h33 hn => ?_)
        exact hj1 h33 hn
      · exact hj1 h hn
  exact key _ _ ⟨Nat.le_refl _, Nat.le_refl _⟩
theorem kX4_isHeard_m  (o : Nat) (a1 : Int32) (h : HP) : mG (gN h) (gS h) (kX4_isHeard o a1 h) := by
  have key : ∀ c s : Nat, mN c s h → mG c s (kX4_isHeard o a1 h) := by
    intro c s hn
    rw [kX4_isHeard]
    exact mg_some hn
  exact key _ _ ⟨Nat.le_refl _, Nat.le_refl _⟩
theorem kX7_isHeard_m  (o : Nat) (a1 : Int32) (h : HP) : mG (gN h) (gS h) (kX7_isHeard o a1 h) := by
  have key : ∀ c s : Nat, mN c s h → mG c s (kX7_isHeard o a1 h) := by
    intro c s hn
    rw [kX7_isHeard]
    refine mg_grd ?_
    refine mg_cal hn (kX4_isHeard_m o a1 h) (fun r1 h2 hn => ?_)
    refine mg_ite ?_ ?_
    · exact mg_some hn
    · refine mg_ite ?_ ?_
      · exact mg_some hn
      · exact mg_some hn
  exact key _ _ ⟨Nat.le_refl _, Nat.le_refl _⟩
theorem cK_isHeard_m (o : Nat) (a1 : Int32) (h : HP) : mG (gN h) (gS h) (cK_isHeard o a1 h) := by
  rw [cK_isHeard]
  refine mg_ite (kX4_isHeard_m o a1 h) ?_
  refine mg_ite (kX4_isHeard_m o a1 h) ?_
  refine mg_ite (kX7_isHeard_m o a1 h) ?_
  refine mg_ite (kX4_isHeard_m o a1 h) ?_
  exact mg_none
theorem cS_hears_m  (o : Nat) (a1 : Int32) (a2 : Nat) (h : HP) : mG (gN h) (gS h) (cS_hears o a1 a2 h) := by
  have key : ∀ c s : Nat, mN c s h → mG c s (cS_hears o a1 a2 h) := by
    intro c s hn
    rw [cS_hears]
    refine mg_grd ?_
    refine mg_grd ?_
    refine mg_cal hn (cS_name_m o a1 (gI h a2 1) h) (fun r2 h3 hn => ?_)
    refine mg_grd ?_
    refine mg_cal hn (cA_work_m (1 : Int32) h3) (fun r6 h7 hn => ?_)
    refine mg_bnd (fun x8 => ?_)
    refine mg_ite ?_ ?_
    · refine mg_grd ?_
      refine mg_grd ?_
      refine mg_grd ?_
      refine mg_onr (fun b11 => ?_)
      refine mg_cal hn (cS_wit_m o a1 h7) (fun r12 h13 hn => ?_)
      refine mg_cal hn (cK_isHeard_m b11 r12 h13) (fun r14 h15 hn => ?_)
      refine mg_grd ?_
      exact mg_some hn
    · refine mg_ite ?_ ?_
      · exact mg_some hn
      · exact mg_some hn
  exact key _ _ ⟨Nat.le_refl _, Nat.le_refl _⟩
theorem cS_odds_m  (o : Nat) (a1 : Int32) (a2 : Nat) (h : HP) : mG (gN h) (gS h) (cS_odds o a1 a2 h) := by
  have key : ∀ c s : Nat, mN c s h → mG c s (cS_odds o a1 a2 h) := by
    intro c s hn
    rw [cS_odds]
    refine mg_grd ?_
    refine mg_ite ?_ ?_
    · exact mg_some hn
    · refine mg_grd ?_
      refine mg_cal hn (cS_name_m o a1 (gI h a2 1) h) (fun r3 h4 hn => ?_)
      refine mg_grd ?_
      refine mg_cal hn (cA_work_m (0 : Int32) h4) (fun r6 h7 hn => ?_)
      refine mg_bnd (fun x8 => ?_)
      refine mg_ite ?_ ?_
      · refine mg_grd ?_
        refine mg_onr (fun b10 => ?_)
        refine mg_grd ?_
        refine mg_grd ?_
        refine mg_cal hn (cL_get_m (b10 + 3) a1 h7) (fun r13 h14 hn => ?_)
        refine mg_grd ?_
        exact mg_some hn
      · exact mg_some hn
  exact key _ _ ⟨Nat.le_refl _, Nat.le_refl _⟩
theorem cS_draw_m  (o : Nat) (a1 : Int32) (h : HP) : mG (gN h) (gS h) (cS_draw o a1 h) := by
  have key : ∀ c s : Nat, mN c s h → mG c s (cS_draw o a1 h) := by
    intro c s hn
    rw [cS_draw]
    refine mg_grd ?_
    refine mg_bI hn (fun h2 hn => ?_)
    refine mg_grd ?_
    exact mg_some hn
  exact key _ _ ⟨Nat.le_refl _, Nat.le_refl _⟩
theorem kX4_asks_m  (o : Nat) (a1 : Nat) (h : HP) : mG (gN h) (gS h) (kX4_asks o a1 h) := by
  have key : ∀ c s : Nat, mN c s h → mG c s (kX4_asks o a1 h) := by
    intro c s hn
    rw [kX4_asks]
    refine mg_grd ?_
    exact mg_some hn
  exact key _ _ ⟨Nat.le_refl _, Nat.le_refl _⟩
theorem kX8_asks_m  (o : Nat) (a1 : Nat) (h : HP) : mG (gN h) (gS h) (kX8_asks o a1 h) := by
  have key : ∀ c s : Nat, mN c s h → mG c s (kX8_asks o a1 h) := by
    intro c s hn
    rw [kX8_asks]
    exact mg_some hn
  exact key _ _ ⟨Nat.le_refl _, Nat.le_refl _⟩
theorem cK_asks_m (o : Nat) (a1 : Nat) (h : HP) : mG (gN h) (gS h) (cK_asks o a1 h) := by
  rw [cK_asks]
  refine mg_ite (kX4_asks_m o a1 h) ?_
  refine mg_ite (kX4_asks_m o a1 h) ?_
  refine mg_ite (kX4_asks_m o a1 h) ?_
  refine mg_ite (kX8_asks_m o a1 h) ?_
  exact mg_none
theorem cS_ask_75_m {c s : Nat}  (f0 : Nat) (f1 : Int32) (f2 : Int32) (f4 : Int32) (f5 : Nat) (f7 : Int32) (f8 : Int32) (k : HP → Option (Int32 × HP)) (hk : ∀  (h : HP), mN c s h → mG c s (k  h)) : ∀ (n : Nat) (v9 : Int32) (h : HP), mN c s h → mG c s (cS_ask_75 f0 f1 f2 f4 f5 f7 f8 k n v9 h) := by
  intro n
  induction n with
  | zero =>
    intro v9 h hn
    exact mg_none
  | succ n ih =>
    intro v9 h hn
    rw [cS_ask_75]
    refine mg_grd ?_
    refine mg_cal hn (cA_persons_m h) (fun r26 h27 hn => ?_)
    refine mg_ite ?_ ?_
    · exact hk h27 hn
    · refine mg_ite ?_ ?_
      · refine mg_bnd (fun x28 => ?_)
        exact ih x28 h27 hn
      · refine mg_grd ?_
        refine mg_cal hn (cS_areTogether_m f0 f1 v9 h27) (fun r29 h30 hn => ?_)
        refine mg_ite ?_ ?_
        · refine mg_bnd (fun x32 => ?_)
          exact ih x32 h30 hn
        · refine mg_grd ?_
          refine mg_cal hn (cS_hears_m f0 v9 f5 h30) (fun r33 h34 hn => ?_)
          refine mg_ite ?_ ?_
          · refine mg_bnd (fun x36 => ?_)
            exact ih x36 h34 hn
          · refine mg_grd ?_
            refine mg_grd ?_
            refine mg_grd ?_
            refine mg_bI hn (fun h38 hn => ?_)
            refine mg_bnd (fun x41 => ?_)
            exact ih x41 h38 hn
theorem cS_ask_222_m {c s : Nat}  (f0 : Nat) (f2 : Int32) (f8 : Int32) (k : HP → Option (Int32 × HP)) (hk : ∀  (h : HP), mN c s h → mG c s (k  h)) : ∀ (n : Nat) (v11 : Int32) (h : HP), mN c s h → mG c s (cS_ask_222 f0 f2 f8 k n v11 h) := by
  intro n
  induction n with
  | zero =>
    intro v11 h hn
    exact mg_none
  | succ n ih =>
    intro v11 h hn
    rw [cS_ask_222]
    refine mg_grd ?_
    refine mg_cal hn (cA_persons_m h) (fun r55 h56 hn => ?_)
    refine mg_ite ?_ ?_
    · exact hk h56 hn
    · refine mg_grd ?_
      refine mg_cal hn (cS_areTogether_m f0 f2 v11 h56) (fun r57 h58 hn => ?_)
      refine mg_ite ?_ ?_
      · refine mg_bnd (fun x60 => ?_)
        exact ih x60 h58 hn
      · refine mg_grd ?_
        refine mg_grd ?_
        refine mg_grd ?_
        refine mg_bI hn (fun h62 hn => ?_)
        refine mg_bnd (fun x65 => ?_)
        exact ih x65 h62 hn
theorem cS_ask_m  (o : Nat) (a1 : Int32) (a2 : Int32) (a3 : Int32) (a4 : Int32) (h : HP) : mG (gN h) (gS h) (cS_ask o a1 a2 a3 a4 h) := by
  have key : ∀ c s : Nat, mN c s h → mG c s (cS_ask o a1 a2 a3 a4 h) := by
    intro c s hn
    rw [cS_ask]
    refine mg_grd ?_
    refine mg_onr (fun b2 => ?_)
    refine mg_grd ?_
    refine mg_grd ?_
    refine mg_cal hn (cL_get_m (b2 + 5) a3 h) (fun r5 h6 hn => ?_)
    refine mg_grd ?_
    refine mg_grd ?_
    refine mg_grd ?_
    refine mg_onr (fun b10 => ?_)
    refine mg_cal hn (cK_supposes_m b10 r5 h6) (fun r11 h12 hn => ?_)
    refine mg_bnd (fun x13 => ?_)
    refine mg_cal hn (cK_asks_m b10 r5 h12) (fun r14 h15 hn => ?_)
    refine mg_bnd (fun x16 => ?_)
    refine mg_grd ?_
    refine mg_grd ?_
    refine mg_grd ?_
    refine mg_bI hn (fun h18 hn => ?_)
    refine mg_bI hn (fun h21 hn => ?_)
    refine mg_bnd (fun x24 => ?_)
    refine cS_ask_75_m o a1 a2 a4 r5 x13 x16 _ (fun  h42 hn => ?_) FU x24 h21 hn
    refine mg_ite ?_ ?_
    · exact mg_some hn
    · refine mg_grd ?_
      refine mg_grd ?_
      refine mg_ite ?_ ?_
      · exact mg_some hn
      · refine mg_cal hn (cS_odds_m o a2 r5 h42) (fun r44 h45 hn => ?_)
        refine mg_bnd (fun x46 => ?_)
        refine mg_jon (fun (j47 : Int32 → Option (Int32 × HP)) => ∀ (s48 : Int32), mG c s (j47 s48)) ?_ ?_
        · intro s48
          refine mg_bnd (fun x49 => ?_)
          refine mg_jon (fun (j50 : Int32 → HP → Option (Int32 × HP)) => ∀ (x51 : Int32) (h52 : HP), mN c s h52 → mG c s (j50 x51 h52)) ?_ ?_
          · intro x51 h52 hn
            refine mg_ite ?_ ?_
            · exact mg_some hn
            · refine mg_bnd (fun x53 => ?_)
              refine cS_ask_222_m o a2 x16 _ (fun  h66 hn => ?_) FU x53 h52 hn
              refine mg_grd ?_
              refine mg_grd ?_
              refine mg_grd ?_
              refine mg_bI hn (fun h68 hn => ?_)
              exact mg_some hn
          · intro j50 hj50
            refine mg_ite ?_ ?_
            · exact hj50 x49 h45 hn
            · refine mg_jon (fun (j71 : Int32 → HP → Option (Int32 × HP)) => ∀ (s72 : Int32) (h73 : HP), mN c s h73 → mG c s (j71 s72 h73)) ?_ ?_
              · intro s72 h73 hn
                refine mg_bnd (fun x74 => ?_)
                exact hj50 x74 h73 hn
              · intro j71 hj71
                refine mg_jon (fun (j75 : HP → Option (Int32 × HP)) => ∀ (h76 : HP), mN c s h76 → mG c s (j75 h76)) ?_ ?_
                · intro h76 hn
                  exact hj71 (1 : Int32) h76 hn
                · intro j75 hj75
                  refine mg_ite ?_ ?_
                  · exact hj75 h45 hn
                  · refine mg_jon (fun (j77 : HP → Option (Int32 × HP)) => ∀ (h78 : HP), mN c s h78 → mG c s (j77 h78)) ?_ ?_
                    · intro h78 hn
                      exact hj71 (0 : Int32) h78 hn
                    · intro j77 hj77
                      refine mg_ite ?_ ?_
                      · exact hj77 h45 hn
                      · refine mg_grd ?_
                        refine mg_cal hn (cS_draw_m o (100 : Int32) h45) (fun r79 h80 hn => ?_)
                        refine mg_ite ?_ ?_
                        · exact hj77 h80 hn
                        · exact hj75 h80 hn
        · intro j47 hj47
          refine mg_ite ?_ ?_
          · exact hj47 (0 : Int32)
          · exact hj47 (1 : Int32)
  exact key _ _ ⟨Nat.le_refl _, Nat.le_refl _⟩
theorem cA_ask_m  (a1 : Int32) (a2 : Int32) (a3 : Int32) (h : HP) : mG (gN h) (gS h) (cA_ask a1 a2 a3 h) := by
  have key : ∀ c s : Nat, mN c s h → mG c s (cA_ask a1 a2 a3 h) := by
    intro c s hn
    rw [cA_ask]
    refine mg_cal hn (cA_areTwo_m a1 a2 h) (fun r1 h2 hn => ?_)
    refine mg_ite ?_ ?_
    · exact mg_some hn
    · refine mg_cal hn (cA_isQuestion_m a3 h2) (fun r3 h4 hn => ?_)
      refine mg_ite ?_ ?_
      · exact mg_some hn
      · refine mg_cal hn (cS_can_m 20 a1 a2 a3 (1 : Int32) h4) (fun r5 h6 hn => ?_)
        refine mg_ite ?_ ?_
        · exact mg_some hn
        · refine mg_cal hn (cA_keepNow_m h6) (fun r7 h8 hn => ?_)
          refine mg_cal hn (cS_ask_m 20 a1 a2 a3 (1 : Int32) h8) (fun r9 h10 hn => ?_)
          refine mg_ite ?_ ?_
          · exact mg_some hn
          · exact mg_some hn
  exact key _ _ ⟨Nat.le_refl _, Nat.le_refl _⟩
theorem cA_isFact_m  (a1 : Int32) (h : HP) : mG (gN h) (gS h) (cA_isFact a1 h) := by
  have key : ∀ c s : Nat, mN c s h → mG c s (cA_isFact a1 h) := by
    intro c s hn
    rw [cA_isFact]
    refine mg_onr (fun b1 => ?_)
    refine mg_grd ?_
    refine mg_grd ?_
    refine mg_cal hn (cL_size_m (b1 + 1) h) (fun r4 h5 hn => ?_)
    refine mg_cal hn (cA_in_m (a1).toInt64 (0 : Int64) ((r4 - (1 : Int32))).toInt64 h5) (fun r7 h8 hn => ?_)
    refine mg_grd ?_
    exact mg_some hn
  exact key _ _ ⟨Nat.le_refl _, Nat.le_refl _⟩
theorem cA_tell_m  (a1 : Int32) (a2 : Int32) (h : HP) : mG (gN h) (gS h) (cA_tell a1 a2 h) := by
  have key : ∀ c s : Nat, mN c s h → mG c s (cA_tell a1 a2 h) := by
    intro c s hn
    rw [cA_tell]
    refine mg_cal hn (cA_isPerson_m a1 h) (fun r1 h2 hn => ?_)
    refine mg_ite ?_ ?_
    · exact mg_some hn
    · refine mg_cal hn (cA_isFact_m a2 h2) (fun r3 h4 hn => ?_)
      refine mg_ite ?_ ?_
      · exact mg_some hn
      · refine mg_grd ?_
        refine mg_ite ?_ ?_
        · exact mg_some hn
        · refine mg_cal hn (cA_keepNow_m h4) (fun r5 h6 hn => ?_)
          refine mg_grd ?_
          refine mg_grd ?_
          refine mg_bI hn (fun h7 hn => ?_)
          exact mg_some hn
  exact key _ _ ⟨Nat.le_refl _, Nat.le_refl _⟩
theorem cA_send_m  (a1 : Int32) (a2 : Int32) (h : HP) : mG (gN h) (gS h) (cA_send a1 a2 h) := by
  have key : ∀ c s : Nat, mN c s h → mG c s (cA_send a1 a2 h) := by
    intro c s hn
    rw [cA_send]
    refine mg_cal hn (cA_isPerson_m a1 h) (fun r1 h2 hn => ?_)
    refine mg_ite ?_ ?_
    · exact mg_some hn
    · refine mg_cal hn (cA_in_m (a2).toInt64 (0 : Int64) (3 : Int64) h2) (fun r3 h4 hn => ?_)
      refine mg_ite ?_ ?_
      · exact mg_some hn
      · refine mg_grd ?_
        refine mg_ite ?_ ?_
        · exact mg_some hn
        · refine mg_cal hn (cA_keepNow_m h4) (fun r5 h6 hn => ?_)
          refine mg_grd ?_
          refine mg_bI hn (fun h7 hn => ?_)
          exact mg_some hn
  exact key _ _ ⟨Nat.le_refl _, Nat.le_refl _⟩
theorem cA_end_34_m {c s : Nat}   (k : HP → Option (Int32 × HP)) (hk : ∀  (h : HP), mN c s h → mG c s (k  h)) : ∀ (n : Nat) (v1 : Int32) (h : HP), mN c s h → mG c s (cA_end_34 k n v1 h) := by
  intro n
  induction n with
  | zero =>
    intro v1 h hn
    exact mg_none
  | succ n ih =>
    intro v1 h hn
    rw [cA_end_34]
    refine mg_ite ?_ ?_
    · exact hk h hn
    · refine mg_grd ?_
      refine mg_bI hn (fun h7 hn => ?_)
      refine mg_bnd (fun x10 => ?_)
      exact ih x10 h7 hn
theorem cA_end_m   (h : HP) : mG (gN h) (gS h) (cA_end  h) := by
  have key : ∀ c s : Nat, mN c s h → mG c s (cA_end  h) := by
    intro c s hn
    rw [cA_end]
    refine mg_ite ?_ ?_
    · exact mg_some hn
    · refine mg_cal hn (cA_keepNow_m h) (fun r1 h2 hn => ?_)
      refine mg_bI hn (fun h3 hn => ?_)
      refine mg_bnd (fun x6 => ?_)
      refine cA_end_34_m  _ (fun  h11 hn => ?_) FU x6 h3 hn
      exact mg_some hn
  exact key _ _ ⟨Nat.le_refl _, Nat.le_refl _⟩
theorem cS_sum_4_m {c s : Nat}  (f0 : Nat) (k : Int32 → HP → Option (Int32 × HP)) (hk : ∀ (v1 : Int32) (h : HP), mN c s h → mG c s (k v1 h)) : ∀ (n : Nat) (v1 : Int32) (v2 : Int32) (h : HP), mN c s h → mG c s (cS_sum_4 f0 k n v1 v2 h) := by
  intro n
  induction n with
  | zero =>
    intro v1 v2 h hn
    exact mg_none
  | succ n ih =>
    intro v1 v2 h hn
    rw [cS_sum_4]
    refine mg_grd ?_
    refine mg_cal hn (cA_persons_m h) (fun r4 h5 hn => ?_)
    refine mg_ite ?_ ?_
    · exact hk v1 h5 hn
    · refine mg_grd ?_
      refine mg_jon (fun (j7 : Int32 → HP → Option (Int32 × HP)) => ∀ (s8 : Int32) (h9 : HP), mN c s h9 → mG c s (j7 s8 h9)) ?_ ?_
      · intro s8 h9 hn
        refine mg_bnd (fun x10 => ?_)
        refine mg_bnd (fun x11 => ?_)
        exact ih x10 x11 h9 hn
      · intro j7 hj7
        refine mg_ite ?_ ?_
        · exact hj7 (0 : Int32) h5 hn
        · refine mg_grd ?_
          refine mg_cal hn (kJ18_bitCount_m (gI h5 (f0 + 1) (v2).toNatClampNeg) h5) (fun r12 h13 hn => ?_)
          exact hj7 r12 h13 hn
theorem cS_sum_m  (o : Nat) (h : HP) : mG (gN h) (gS h) (cS_sum o h) := by
  have key : ∀ c s : Nat, mN c s h → mG c s (cS_sum o h) := by
    intro c s hn
    rw [cS_sum]
    refine mg_bnd (fun x1 => ?_)
    refine mg_bnd (fun x2 => ?_)
    refine cS_sum_4_m o _ (fun x14 h15 hn => ?_) FU x1 x2 h hn
    exact mg_some hn
  exact key _ _ ⟨Nat.le_refl _, Nat.le_refl _⟩
theorem cS_askAll_42_m {c s : Nat}  (f0 : Nat) (f2 : Int32) (f3 : Int32) (f4 : Int32) (k : HP → Option (Unit × HP)) (hk : ∀  (h : HP), mN c s h → mG c s (k  h)) : ∀ (n : Nat) (v5 : Int32) (h : HP), mN c s h → mG c s (cS_askAll_42 f0 f2 f3 f4 k n v5 h) := by
  intro n
  induction n with
  | zero =>
    intro v5 h hn
    exact mg_none
  | succ n ih =>
    intro v5 h hn
    rw [cS_askAll_42]
    refine mg_grd ?_
    refine mg_cal hn (cA_questions_m h) (fun r16 h17 hn => ?_)
    refine mg_ite ?_ ?_
    · exact hk h17 hn
    · refine mg_grd ?_
      refine mg_cal hn (cS_can_m f0 f3 f4 v5 (0 : Int32) h17) (fun r18 h19 hn => ?_)
      refine mg_ite ?_ ?_
      · refine mg_bnd (fun x21 => ?_)
        exact ih x21 h19 hn
      · refine mg_grd ?_
        refine mg_cal hn (cS_ask_m f0 f3 f4 v5 (0 : Int32) h19) (fun r22 h23 hn => ?_)
        refine mg_bnd (fun x25 => ?_)
        exact ih x25 h23 hn
theorem cS_askAll_27_m {c s : Nat}  (f0 : Nat) (f2 : Int32) (f3 : Int32) (k : HP → Option (Unit × HP)) (hk : ∀  (h : HP), mN c s h → mG c s (k  h)) : ∀ (n : Nat) (v4 : Int32) (h : HP), mN c s h → mG c s (cS_askAll_27 f0 f2 f3 k n v4 h) := by
  intro n
  induction n with
  | zero =>
    intro v4 h hn
    exact mg_none
  | succ n ih =>
    intro v4 h hn
    rw [cS_askAll_27]
    refine mg_grd ?_
    refine mg_cal hn (cA_persons_m h) (fun r12 h13 hn => ?_)
    refine mg_ite ?_ ?_
    · exact hk h13 hn
    · refine mg_bnd (fun x14 => ?_)
      refine cS_askAll_42_m f0 f2 f3 v4 _ (fun  h26 hn => ?_) FU x14 h13 hn
      refine mg_bnd (fun x27 => ?_)
      exact ih x27 h26 hn
theorem cS_askAll_13_m {c s : Nat}  (f0 : Nat) (f2 : Int32) (k : HP → Option (Unit × HP)) (hk : ∀  (h : HP), mN c s h → mG c s (k  h)) : ∀ (n : Nat) (v3 : Int32) (h : HP), mN c s h → mG c s (cS_askAll_13 f0 f2 k n v3 h) := by
  intro n
  induction n with
  | zero =>
    intro v3 h hn
    exact mg_none
  | succ n ih =>
    intro v3 h hn
    rw [cS_askAll_13]
    refine mg_grd ?_
    refine mg_cal hn (cA_persons_m h) (fun r8 h9 hn => ?_)
    refine mg_ite ?_ ?_
    · exact hk h9 hn
    · refine mg_bnd (fun x10 => ?_)
      refine cS_askAll_27_m f0 f2 v3 _ (fun  h28 hn => ?_) FU x10 h9 hn
      refine mg_bnd (fun x29 => ?_)
      exact ih x29 h28 hn
theorem cS_askAll_2_m {c s : Nat}  (f0 : Nat) (k : HP → Option (Unit × HP)) (hk : ∀  (h : HP), mN c s h → mG c s (k  h)) : ∀ (n : Nat) (v1 : Int32) (h : HP), mN c s h → mG c s (cS_askAll_2 f0 k n v1 h) := by
  intro n
  induction n with
  | zero =>
    intro v1 h hn
    exact mg_none
  | succ n ih =>
    intro v1 h hn
    rw [cS_askAll_2]
    refine mg_ite ?_ ?_
    · exact hk h hn
    · refine mg_grd ?_
      refine mg_cal hn (cS_sum_m f0 h) (fun r2 h3 hn => ?_)
      refine mg_bnd (fun x5 => ?_)
      refine mg_bnd (fun x6 => ?_)
      refine cS_askAll_13_m f0 x5 _ (fun  h30 hn => ?_) FU x6 h3 hn
      refine mg_grd ?_
      refine mg_cal hn (cS_sum_m f0 h30) (fun r31 h32 hn => ?_)
      refine mg_ite ?_ ?_
      · refine mg_bnd (fun x34 => ?_)
        exact ih x34 h32 hn
      · refine mg_bnd (fun x35 => ?_)
        exact ih x35 h32 hn
theorem cS_askAll_m  (o : Nat) (h : HP) : mG (gN h) (gS h) (cS_askAll o h) := by
  have key : ∀ c s : Nat, mN c s h → mG c s (cS_askAll o h) := by
    intro c s hn
    rw [cS_askAll]
    refine mg_bnd (fun x1 => ?_)
    refine cS_askAll_2_m o _ (fun  h36 hn => ?_) FU x1 h hn
    exact mg_some hn
  exact key _ _ ⟨Nat.le_refl _, Nat.le_refl _⟩
theorem cA_askAllWithout_m  (a1 : Int32) (h : HP) : mG (gN h) (gS h) (cA_askAllWithout a1 h) := by
  have key : ∀ c s : Nat, mN c s h → mG c s (cA_askAllWithout a1 h) := by
    intro c s hn
    rw [cA_askAllWithout]
    refine mg_cal hn (cS_become_m 25 20 h) (fun r1 h2 hn => ?_)
    refine mg_bI hn (fun h3 hn => ?_)
    refine mg_cal hn (cS_askAll_m 25 h3) (fun r6 h7 hn => ?_)
    exact mg_some hn
  exact key _ _ ⟨Nat.le_refl _, Nat.le_refl _⟩
theorem cA_all_m  (a1 : Int32) (h : HP) : mG (gN h) (gS h) (cA_all a1 h) := by
  have key : ∀ c s : Nat, mN c s h → mG c s (cA_all a1 h) := by
    intro c s hn
    rw [cA_all]
    refine mg_cal hn (cA_isPerson_m a1 h) (fun r1 h2 hn => ?_)
    refine mg_ite ?_ ?_
    · exact mg_some hn
    · refine mg_cal hn (cA_askAllWithout_m (0 : Int32) h2) (fun r3 h4 hn => ?_)
      refine mg_grd ?_
      exact mg_some hn
  exact key _ _ ⟨Nat.le_refl _, Nat.le_refl _⟩
theorem cA_learns_m  (a1 : Int32) (a2 : Int32) (a3 : Int32) (h : HP) : mG (gN h) (gS h) (cA_learns a1 a2 a3 h) := by
  have key : ∀ c s : Nat, mN c s h → mG c s (cA_learns a1 a2 a3 h) := by
    intro c s hn
    rw [cA_learns]
    refine mg_cal hn (cA_askAllWithout_m a3 h) (fun r1 h2 hn => ?_)
    refine mg_grd ?_
    refine mg_ite ?_ ?_
    · exact mg_some hn
    · exact mg_some hn
  exact key _ _ ⟨Nat.le_refl _, Nat.le_refl _⟩
theorem cA_never_m  (a1 : Int32) (a2 : Int32) (h : HP) : mG (gN h) (gS h) (cA_never a1 a2 h) := by
  have key : ∀ c s : Nat, mN c s h → mG c s (cA_never a1 a2 h) := by
    intro c s hn
    rw [cA_never]
    refine mg_cal hn (cA_isPerson_m a1 h) (fun r1 h2 hn => ?_)
    refine mg_ite ?_ ?_
    · exact mg_some hn
    · refine mg_cal hn (cA_isFact_m a2 h2) (fun r3 h4 hn => ?_)
      refine mg_ite ?_ ?_
      · exact mg_some hn
      · refine mg_cal hn (cA_learns_m a1 a2 (0 : Int32) h4) (fun r5 h6 hn => ?_)
        refine mg_ite ?_ ?_
        · exact mg_some hn
        · exact mg_some hn
  exact key _ _ ⟨Nat.le_refl _, Nat.le_refl _⟩
theorem cA_away_24_m {c s : Nat}  (f1 : Int32) (f2 : Int32) (k : Int32 → HP → Option (Int32 × HP)) (hk : ∀ (v3 : Int32) (h : HP), mN c s h → mG c s (k v3 h)) : ∀ (n : Nat) (v3 : Int32) (v4 : Int32) (h : HP), mN c s h → mG c s (cA_away_24 f1 f2 k n v3 v4 h) := by
  intro n
  induction n with
  | zero =>
    intro v3 v4 h hn
    exact mg_none
  | succ n ih =>
    intro v3 v4 h hn
    rw [cA_away_24]
    refine mg_cal hn (cA_persons_m h) (fun r7 h8 hn => ?_)
    refine mg_ite ?_ ?_
    · exact hk v3 h8 hn
    · refine mg_ite ?_ ?_
      · refine mg_bnd (fun x9 => ?_)
        exact ih v3 x9 h8 hn
      · refine mg_jon (fun (j10 : HP → Option (Int32 × HP)) => ∀ (h11 : HP), mN c s h11 → mG c s (j10 h11)) ?_ ?_
        · intro h11 hn
          refine mg_cal hn (cA_learns_m f1 f2 v4 h11) (fun r12 h13 hn => ?_)
          refine mg_ite ?_ ?_
          · refine mg_bnd (fun x14 => ?_)
            refine mg_bnd (fun x15 => ?_)
            exact ih x14 x15 h13 hn
          · refine mg_bnd (fun x16 => ?_)
            exact ih v3 x16 h13 hn
        · intro j10 hj10
          refine mg_ite ?_ ?_
          · exact hj10 h8 hn
          · refine mg_cal hn (kJ18_bitCount_m v4 h8) (fun r17 h18 hn => ?_)
            refine mg_cal hn (kJ18_bitCount_m v3 h18) (fun r19 h20 hn => ?_)
            refine mg_ite ?_ ?_
            · exact hj10 h20 hn
            · refine mg_bnd (fun x21 => ?_)
              exact ih v3 x21 h20 hn
theorem cA_away_m  (a1 : Int32) (a2 : Int32) (h : HP) : mG (gN h) (gS h) (cA_away a1 a2 h) := by
  have key : ∀ c s : Nat, mN c s h → mG c s (cA_away a1 a2 h) := by
    intro c s hn
    rw [cA_away]
    refine mg_cal hn (cA_isPerson_m a1 h) (fun r1 h2 hn => ?_)
    refine mg_ite ?_ ?_
    · exact mg_some hn
    · refine mg_cal hn (cA_isFact_m a2 h2) (fun r3 h4 hn => ?_)
      refine mg_ite ?_ ?_
      · exact mg_some hn
      · refine mg_bnd (fun x5 => ?_)
        refine mg_bnd (fun x6 => ?_)
        refine cA_away_24_m a1 a2 _ (fun x22 h23 hn => ?_) FU x5 x6 h4 hn
        exact mg_some hn
  exact key _ _ ⟨Nat.le_refl _, Nat.le_refl _⟩
theorem cA_spread_19_m {c s : Nat}  (f1 : Int32) (k : Int32 → HP → Option (Int32 × HP)) (hk : ∀ (v2 : Int32) (h : HP), mN c s h → mG c s (k v2 h)) : ∀ (n : Nat) (v2 : Int32) (v3 : Int32) (h : HP), mN c s h → mG c s (cA_spread_19 f1 k n v2 v3 h) := by
  intro n
  induction n with
  | zero =>
    intro v2 v3 h hn
    exact mg_none
  | succ n ih =>
    intro v2 v3 h hn
    rw [cA_spread_19]
    refine mg_cal hn (cA_persons_m h) (fun r7 h8 hn => ?_)
    refine mg_ite ?_ ?_
    · exact hk v2 h8 hn
    · refine mg_grd ?_
      refine mg_bnd (fun x9 => ?_)
      refine mg_bnd (fun x10 => ?_)
      exact ih x9 x10 h8 hn
theorem cA_spread_m  (a1 : Int32) (h : HP) : mG (gN h) (gS h) (cA_spread a1 h) := by
  have key : ∀ c s : Nat, mN c s h → mG c s (cA_spread a1 h) := by
    intro c s hn
    rw [cA_spread]
    refine mg_cal hn (cA_isFact_m a1 h) (fun r1 h2 hn => ?_)
    refine mg_ite ?_ ?_
    · exact mg_some hn
    · refine mg_cal hn (cA_askAllWithout_m (0 : Int32) h2) (fun r3 h4 hn => ?_)
      refine mg_bnd (fun x5 => ?_)
      refine mg_bnd (fun x6 => ?_)
      refine cA_spread_19_m a1 _ (fun x11 h12 hn => ?_) FU x5 x6 h4 hn
      exact mg_some hn
  exact key _ _ ⟨Nat.le_refl _, Nat.le_refl _⟩
theorem cA_learnsIf_m  (a1 : Int32) (a2 : Int32) (a3 : Int32) (a4 : Int32) (h : HP) : mG (gN h) (gS h) (cA_learnsIf a1 a2 a3 a4 h) := by
  have key : ∀ c s : Nat, mN c s h → mG c s (cA_learnsIf a1 a2 a3 a4 h) := by
    intro c s hn
    rw [cA_learnsIf]
    refine mg_cal hn (cS_become_m 25 20 h) (fun r1 h2 hn => ?_)
    refine mg_grd ?_
    refine mg_grd ?_
    refine mg_bI hn (fun h3 hn => ?_)
    refine mg_cal hn (cS_askAll_m 25 h3) (fun r6 h7 hn => ?_)
    refine mg_grd ?_
    refine mg_ite ?_ ?_
    · exact mg_some hn
    · exact mg_some hn
  exact key _ _ ⟨Nat.le_refl _, Nat.le_refl _⟩
theorem cA_hint_56_m {c s : Nat}  (f1 : Int32) (f2 : Int32) (f3 : Int32) (f4 : Int32) (k : HP → Option (Int32 × HP)) (hk : ∀  (h : HP), mN c s h → mG c s (k  h)) : ∀ (n : Nat) (v5 : Int32) (h : HP), mN c s h → mG c s (cA_hint_56 f1 f2 f3 f4 k n v5 h) := by
  intro n
  induction n with
  | zero =>
    intro v5 h hn
    exact mg_none
  | succ n ih =>
    intro v5 h hn
    rw [cA_hint_56]
    refine mg_onr (fun b13 => ?_)
    refine mg_grd ?_
    refine mg_grd ?_
    refine mg_cal hn (cL_size_m (b13 + 1) h) (fun r16 h17 hn => ?_)
    refine mg_ite ?_ ?_
    · exact hk h17 hn
    · refine mg_jon (fun (j19 : Int32 → Option (Int32 × HP)) => ∀ (s20 : Int32), mG c s (j19 s20)) ?_ ?_
      · intro s20
        refine mg_bnd (fun x21 => ?_)
        refine mg_ite ?_ ?_
        · refine mg_bnd (fun x22 => ?_)
          exact ih x22 h17 hn
        · refine mg_cal hn (cA_learnsIf_m f1 f2 f4 v5 h17) (fun r23 h24 hn => ?_)
          refine mg_ite ?_ ?_
          · refine mg_bnd (fun x25 => ?_)
            exact ih x25 h24 hn
          · refine mg_ite ?_ ?_
            · exact mg_some hn
            · exact mg_some hn
      · intro j19 hj19
        refine mg_jon (fun (j26 : Unit → Option (Int32 × HP)) => ∀ (_u : Unit), mG c s (j26 ())) ?_ ?_
        · intro _
          exact hj19 (0 : Int32)
        · intro j26 hj26
          refine mg_ite ?_ ?_
          · exact hj26 ()
          · refine mg_grd ?_
            refine mg_ite ?_ ?_
            · exact hj19 (1 : Int32)
            · exact hj26 ()
theorem cA_hint_44_m {c s : Nat}  (f1 : Int32) (f2 : Int32) (f3 : Int32) (k : HP → Option (Int32 × HP)) (hk : ∀  (h : HP), mN c s h → mG c s (k  h)) : ∀ (n : Nat) (v4 : Int32) (h : HP), mN c s h → mG c s (cA_hint_44 f1 f2 f3 k n v4 h) := by
  intro n
  induction n with
  | zero =>
    intro v4 h hn
    exact mg_none
  | succ n ih =>
    intro v4 h hn
    rw [cA_hint_44]
    refine mg_cal hn (cA_persons_m h) (fun r10 h11 hn => ?_)
    refine mg_ite ?_ ?_
    · exact hk h11 hn
    · refine mg_bnd (fun x12 => ?_)
      refine cA_hint_56_m f1 f2 f3 v4 _ (fun  h27 hn => ?_) FU x12 h11 hn
      refine mg_bnd (fun x28 => ?_)
      exact ih x28 h27 hn
theorem cA_hint_m  (a1 : Int32) (a2 : Int32) (a3 : Int32) (h : HP) : mG (gN h) (gS h) (cA_hint a1 a2 a3 h) := by
  have key : ∀ c s : Nat, mN c s h → mG c s (cA_hint a1 a2 a3 h) := by
    intro c s hn
    rw [cA_hint]
    refine mg_cal hn (cA_isPerson_m a1 h) (fun r1 h2 hn => ?_)
    refine mg_ite ?_ ?_
    · exact mg_some hn
    · refine mg_cal hn (cA_isFact_m a2 h2) (fun r3 h4 hn => ?_)
      refine mg_ite ?_ ?_
      · exact mg_some hn
      · refine mg_cal hn (cA_in_m (a3).toInt64 (0 : Int64) (1 : Int64) h4) (fun r5 h6 hn => ?_)
        refine mg_ite ?_ ?_
        · exact mg_some hn
        · refine mg_cal hn (cA_learns_m a1 a2 (0 : Int32) h6) (fun r7 h8 hn => ?_)
          refine mg_ite ?_ ?_
          · refine mg_bnd (fun x9 => ?_)
            refine cA_hint_44_m a1 a2 a3 _ (fun  h29 hn => ?_) FU x9 h8 hn
            exact mg_some hn
          · exact mg_some hn
  exact key _ _ ⟨Nat.le_refl _, Nat.le_refl _⟩
theorem cA_isAskable_2_m {c s : Nat}  (f1 : Int32) (f2 : Int32) (k : HP → Option (Int32 × HP)) (hk : ∀  (h : HP), mN c s h → mG c s (k  h)) : ∀ (n : Nat) (v3 : Int32) (h : HP), mN c s h → mG c s (cA_isAskable_2 f1 f2 k n v3 h) := by
  intro n
  induction n with
  | zero =>
    intro v3 h hn
    exact mg_none
  | succ n ih =>
    intro v3 h hn
    rw [cA_isAskable_2]
    refine mg_cal hn (cA_persons_m h) (fun r2 h3 hn => ?_)
    refine mg_ite ?_ ?_
    · exact hk h3 hn
    · refine mg_cal hn (cS_can_m 20 f1 v3 f2 (1 : Int32) h3) (fun r4 h5 hn => ?_)
      refine mg_ite ?_ ?_
      · refine mg_bnd (fun x6 => ?_)
        exact ih x6 h5 hn
      · exact mg_some hn
theorem cA_isAskable_m  (a1 : Int32) (a2 : Int32) (h : HP) : mG (gN h) (gS h) (cA_isAskable a1 a2 h) := by
  have key : ∀ c s : Nat, mN c s h → mG c s (cA_isAskable a1 a2 h) := by
    intro c s hn
    rw [cA_isAskable]
    refine mg_bnd (fun x1 => ?_)
    refine cA_isAskable_2_m a1 a2 _ (fun  h7 hn => ?_) FU x1 h hn
    exact mg_some hn
  exact key _ _ ⟨Nat.le_refl _, Nat.le_refl _⟩
theorem cA_unasked_14_m {c s : Nat}  (f1 : Int32) (k : Int32 → HP → Option (Int32 × HP)) (hk : ∀ (v2 : Int32) (h : HP), mN c s h → mG c s (k v2 h)) : ∀ (n : Nat) (v2 : Int32) (v3 : Int32) (h : HP), mN c s h → mG c s (cA_unasked_14 f1 k n v2 v3 h) := by
  intro n
  induction n with
  | zero =>
    intro v2 v3 h hn
    exact mg_none
  | succ n ih =>
    intro v2 v3 h hn
    rw [cA_unasked_14]
    refine mg_cal hn (cA_questions_m h) (fun r5 h6 hn => ?_)
    refine mg_ite ?_ ?_
    · exact hk v2 h6 hn
    · refine mg_cal hn (cA_isAskable_m f1 v3 h6) (fun r7 h8 hn => ?_)
      refine mg_jon (fun (j9 : Int32 → Option (Int32 × HP)) => ∀ (s10 : Int32), mG c s (j9 s10)) ?_ ?_
      · intro s10
        refine mg_bnd (fun x11 => ?_)
        refine mg_bnd (fun x12 => ?_)
        exact ih x11 x12 h8 hn
      · intro j9 hj9
        refine mg_ite ?_ ?_
        · exact hj9 ((1 : Int32) <<< (v3 &&& 31))
        · exact hj9 (0 : Int32)
theorem cA_unasked_m  (a1 : Int32) (h : HP) : mG (gN h) (gS h) (cA_unasked a1 h) := by
  have key : ∀ c s : Nat, mN c s h → mG c s (cA_unasked a1 h) := by
    intro c s hn
    rw [cA_unasked]
    refine mg_cal hn (cA_isPerson_m a1 h) (fun r1 h2 hn => ?_)
    refine mg_ite ?_ ?_
    · exact mg_some hn
    · refine mg_bnd (fun x3 => ?_)
      refine mg_bnd (fun x4 => ?_)
      refine cA_unasked_14_m a1 _ (fun x13 h14 hn => ?_) FU x3 x4 h2 hn
      exact mg_some hn
  exact key _ _ ⟨Nat.le_refl _, Nat.le_refl _⟩
theorem cA_sumIn_m  (a1 : Int32) (a2 : Int32) (h : HP) : mG (gN h) (gS h) (cA_sumIn a1 a2 h) := by
  have key : ∀ c s : Nat, mN c s h → mG c s (cA_sumIn a1 a2 h) := by
    intro c s hn
    rw [cA_sumIn]
    refine mg_cal hn (cS_become_m 25 20 h) (fun r1 h2 hn => ?_)
    refine mg_grd ?_
    refine mg_bI hn (fun h3 hn => ?_)
    refine mg_cal hn (cS_askAll_m 25 h3) (fun r6 h7 hn => ?_)
    refine mg_cal hn (cS_sum_m 25 h7) (fun r8 h9 hn => ?_)
    exact mg_some hn
  exact key _ _ ⟨Nat.le_refl _, Nat.le_refl _⟩
theorem cA_inRoom_m  (a1 : Int32) (a2 : Int32) (h : HP) : mG (gN h) (gS h) (cA_inRoom a1 a2 h) := by
  have key : ∀ c s : Nat, mN c s h → mG c s (cA_inRoom a1 a2 h) := by
    intro c s hn
    rw [cA_inRoom]
    refine mg_cal hn (cA_isPerson_m a1 h) (fun r1 h2 hn => ?_)
    refine mg_ite ?_ ?_
    · exact mg_some hn
    · refine mg_cal hn (cA_in_m (a2).toInt64 (0 : Int64) (3 : Int64) h2) (fun r3 h4 hn => ?_)
      refine mg_ite ?_ ?_
      · exact mg_some hn
      · refine mg_cal hn (cA_sumIn_m a1 a2 h4) (fun r5 h6 hn => ?_)
        exact mg_some hn
  exact key _ _ ⟨Nat.le_refl _, Nat.le_refl _⟩
theorem cA_bestRoom_14_m {c s : Nat}  (f1 : Int32) (k : Int32 → HP → Option (Int32 × HP)) (hk : ∀ (v2 : Int32) (h : HP), mN c s h → mG c s (k v2 h)) : ∀ (n : Nat) (v2 : Int32) (v3 : Int32) (h : HP), mN c s h → mG c s (cA_bestRoom_14 f1 k n v2 v3 h) := by
  intro n
  induction n with
  | zero =>
    intro v2 v3 h hn
    exact mg_none
  | succ n ih =>
    intro v2 v3 h hn
    rw [cA_bestRoom_14]
    refine mg_ite ?_ ?_
    · exact hk v2 h hn
    · refine mg_cal hn (cA_sumIn_m f1 v3 h) (fun r5 h6 hn => ?_)
      refine mg_cal hn (cA_sumIn_m f1 v2 h6) (fun r7 h8 hn => ?_)
      refine mg_ite ?_ ?_
      · refine mg_bnd (fun x9 => ?_)
        exact ih v2 x9 h8 hn
      · refine mg_bnd (fun x10 => ?_)
        refine mg_bnd (fun x11 => ?_)
        exact ih x10 x11 h8 hn
theorem cA_bestRoom_m  (a1 : Int32) (h : HP) : mG (gN h) (gS h) (cA_bestRoom a1 h) := by
  have key : ∀ c s : Nat, mN c s h → mG c s (cA_bestRoom a1 h) := by
    intro c s hn
    rw [cA_bestRoom]
    refine mg_cal hn (cA_isPerson_m a1 h) (fun r1 h2 hn => ?_)
    refine mg_ite ?_ ?_
    · exact mg_some hn
    · refine mg_bnd (fun x3 => ?_)
      refine mg_bnd (fun x4 => ?_)
      refine cA_bestRoom_14_m a1 _ (fun x12 h13 hn => ?_) FU x3 x4 h2 hn
      exact mg_some hn
  exact key _ _ ⟨Nat.le_refl _, Nat.le_refl _⟩
theorem cA_isAsked_m  (a1 : Int32) (a2 : Int32) (a3 : Int32) (a4 : Int32) (h : HP) : mG (gN h) (gS h) (cA_isAsked a1 a2 a3 a4 h) := by
  have key : ∀ c s : Nat, mN c s h → mG c s (cA_isAsked a1 a2 a3 a4 h) := by
    intro c s hn
    rw [cA_isAsked]
    refine mg_cal hn (cA_isPerson_m a1 h) (fun r1 h2 hn => ?_)
    refine mg_ite ?_ ?_
    · exact mg_some hn
    · refine mg_cal hn (cA_isFact_m a2 h2) (fun r3 h4 hn => ?_)
      refine mg_ite ?_ ?_
      · exact mg_some hn
      · refine mg_ite ?_ ?_
        · exact mg_some hn
        · refine mg_cal hn (cA_persons_m h4) (fun r5 h6 hn => ?_)
          refine mg_ite ?_ ?_
          · refine mg_ite ?_ ?_
            · refine mg_cal hn (cA_in_m (a4).toInt64 (1 : Int64) (2 : Int64) h6) (fun r7 h8 hn => ?_)
              refine mg_ite ?_ ?_
              · exact mg_some hn
              · exact mg_some hn
            · exact mg_some hn
          · exact mg_some hn
  exact key _ _ ⟨Nat.le_refl _, Nat.le_refl _⟩
theorem cA_isWay_3_m {c s : Nat}  (f1 : Nat) (f2 : Int32) (f3 : Int32) (f4 : Int32) (k : HP → Option (Int32 × HP)) (hk : ∀  (h : HP), mN c s h → mG c s (k  h)) : ∀ (n : Nat) (v5 : Int32) (h : HP), mN c s h → mG c s (cA_isWay_3 f1 f2 f3 f4 k n v5 h) := by
  intro n
  induction n with
  | zero =>
    intro v5 h hn
    exact mg_none
  | succ n ih =>
    intro v5 h hn
    rw [cA_isWay_3]
    refine mg_cal hn (cA_persons_m h) (fun r2 h3 hn => ?_)
    refine mg_ite ?_ ?_
    · exact hk h3 hn
    · refine mg_ite ?_ ?_
      · refine mg_grd ?_
        refine mg_grd ?_
        refine mg_ite ?_ ?_
        · refine mg_grd ?_
          refine mg_ite ?_ ?_
          · exact mg_some hn
          · refine mg_bnd (fun x5 => ?_)
            exact ih x5 h3 hn
        · refine mg_bnd (fun x6 => ?_)
          exact ih x6 h3 hn
      · refine mg_bnd (fun x7 => ?_)
        exact ih x7 h3 hn
theorem cA_isWay_m  (a1 : Nat) (a2 : Int32) (a3 : Int32) (a4 : Int32) (h : HP) : mG (gN h) (gS h) (cA_isWay a1 a2 a3 a4 h) := by
  have key : ∀ c s : Nat, mN c s h → mG c s (cA_isWay a1 a2 a3 a4 h) := by
    intro c s hn
    rw [cA_isWay]
    refine mg_bnd (fun x1 => ?_)
    refine cA_isWay_3_m a1 a2 a3 a4 _ (fun  h8 hn => ?_) FU x1 h hn
    refine mg_grd ?_
    refine mg_grd ?_
    refine mg_ite ?_ ?_
    · exact mg_some hn
    · exact mg_some hn
  exact key _ _ ⟨Nat.le_refl _, Nat.le_refl _⟩
theorem cA_ways_52_m {c s : Nat} (f : Nat → Int32 → Int32 → Int32 → Int32 → Int32 → HP → Option (Int32 × HP)) (hfm : ∀ (x0 : Nat) (x1 : Int32) (x2 : Int32) (x3 : Int32) (x4 : Int32) (x5 : Int32) (h : HP), mG (gN h) (gS h) (f x0 x1 x2 x3 x4 x5 h)) (f1 : Nat) (f2 : Int32) (f3 : Int32) (f4 : Int32) (f5 : Int32) (f6 : Int32) (f7 : Nat) (f8 : Int32) (f9 : Int32) (k : HP → Option (Int32 × HP)) (hk : ∀  (h : HP), mN c s h → mG c s (k  h)) : ∀ (n : Nat) (v10 : Int32) (h : HP), mN c s h → mG c s (cA_ways_52 f f1 f2 f3 f4 f5 f6 f7 f8 f9 k n v10 h) := by
  intro n
  induction n with
  | zero =>
    intro v10 h hn
    exact mg_none
  | succ n ih =>
    intro v10 h hn
    rw [cA_ways_52]
    refine mg_cal hn (cA_questions_m h) (fun r12 h13 hn => ?_)
    refine mg_ite ?_ ?_
    · exact hk h13 hn
    · refine mg_grd ?_
      refine mg_cal hn (cS_can_m f1 f8 f9 v10 (1 : Int32) h13) (fun r14 h15 hn => ?_)
      refine mg_ite ?_ ?_
      · refine mg_bnd (fun x17 => ?_)
        exact ih x17 h15 hn
      · refine mg_grd ?_
        refine mg_cal hn (cS_become_m f7 f1 h15) (fun r18 h19 hn => ?_)
        refine mg_grd ?_
        refine mg_cal hn (cS_ask_m f7 f8 f9 v10 (0 : Int32) h19) (fun r21 h22 hn => ?_)
        refine mg_grd ?_
        refine mg_bI hn (fun h24 hn => ?_)
        refine mg_cal hn (hfm f7 (f2 + (1 : Int32)) f3 f4 f5 f6 h24) (fun r27 h28 hn => ?_)
        refine mg_ite ?_ ?_
        · refine mg_bnd (fun x29 => ?_)
          exact ih x29 h28 hn
        · exact mg_some hn
theorem cA_ways_40_m {c s : Nat} (f : Nat → Int32 → Int32 → Int32 → Int32 → Int32 → HP → Option (Int32 × HP)) (hfm : ∀ (x0 : Nat) (x1 : Int32) (x2 : Int32) (x3 : Int32) (x4 : Int32) (x5 : Int32) (h : HP), mG (gN h) (gS h) (f x0 x1 x2 x3 x4 x5 h)) (f1 : Nat) (f2 : Int32) (f3 : Int32) (f4 : Int32) (f5 : Int32) (f6 : Int32) (f7 : Nat) (f8 : Int32) (k : HP → Option (Int32 × HP)) (hk : ∀  (h : HP), mN c s h → mG c s (k  h)) : ∀ (n : Nat) (v9 : Int32) (h : HP), mN c s h → mG c s (cA_ways_40 f f1 f2 f3 f4 f5 f6 f7 f8 k n v9 h) := by
  intro n
  induction n with
  | zero =>
    intro v9 h hn
    exact mg_none
  | succ n ih =>
    intro v9 h hn
    rw [cA_ways_40]
    refine mg_cal hn (cA_persons_m h) (fun r9 h10 hn => ?_)
    refine mg_ite ?_ ?_
    · exact hk h10 hn
    · refine mg_bnd (fun x11 => ?_)
      refine cA_ways_52_m f hfm f1 f2 f3 f4 f5 f6 f7 f8 v9 _ (fun  h30 hn => ?_) FU x11 h10 hn
      refine mg_bnd (fun x31 => ?_)
      exact ih x31 h30 hn
theorem cA_ways_28_m {c s : Nat} (f : Nat → Int32 → Int32 → Int32 → Int32 → Int32 → HP → Option (Int32 × HP)) (hfm : ∀ (x0 : Nat) (x1 : Int32) (x2 : Int32) (x3 : Int32) (x4 : Int32) (x5 : Int32) (h : HP), mG (gN h) (gS h) (f x0 x1 x2 x3 x4 x5 h)) (f1 : Nat) (f2 : Int32) (f3 : Int32) (f4 : Int32) (f5 : Int32) (f6 : Int32) (f7 : Nat) (k : HP → Option (Int32 × HP)) (hk : ∀  (h : HP), mN c s h → mG c s (k  h)) : ∀ (n : Nat) (v8 : Int32) (h : HP), mN c s h → mG c s (cA_ways_28 f f1 f2 f3 f4 f5 f6 f7 k n v8 h) := by
  intro n
  induction n with
  | zero =>
    intro v8 h hn
    exact mg_none
  | succ n ih =>
    intro v8 h hn
    rw [cA_ways_28]
    refine mg_cal hn (cA_persons_m h) (fun r6 h7 hn => ?_)
    refine mg_ite ?_ ?_
    · exact hk h7 hn
    · refine mg_bnd (fun x8 => ?_)
      refine cA_ways_40_m f hfm f1 f2 f3 f4 f5 f6 f7 v8 _ (fun  h32 hn => ?_) FU x8 h7 hn
      refine mg_bnd (fun x33 => ?_)
      exact ih x33 h32 hn
theorem cA_ways_m (f : Nat → Int32 → Int32 → Int32 → Int32 → Int32 → HP → Option (Int32 × HP)) (hfm : ∀ (x0 : Nat) (x1 : Int32) (x2 : Int32) (x3 : Int32) (x4 : Int32) (x5 : Int32) (h : HP), mG (gN h) (gS h) (f x0 x1 x2 x3 x4 x5 h)) (a1 : Nat) (a2 : Int32) (a3 : Int32) (a4 : Int32) (a5 : Int32) (a6 : Int32) (h : HP) : mG (gN h) (gS h) (cA_ways f a1 a2 a3 a4 a5 a6 h) := by
  have key : ∀ c s : Nat, mN c s h → mG c s (cA_ways f a1 a2 a3 a4 a5 a6 h) := by
    intro c s hn
    rw [cA_ways]
    refine mg_ite ?_ ?_
    · refine mg_cal hn (cA_isWay_m a1 a4 a5 a6 h) (fun r1 h2 hn => ?_)
      refine mg_grd ?_
      exact mg_some hn
    · refine mg_grd ?_
      refine mg_onr (fun b4 => ?_)
      refine mg_bnd (fun x5 => ?_)
      refine cA_ways_28_m f hfm a1 a2 a3 a4 a5 a6 b4 _ (fun  h34 hn => ?_) FU x5 h hn
      exact mg_some hn
  exact key _ _ ⟨Nat.le_refl _, Nat.le_refl _⟩
theorem cA_waysN_m : ∀ (n : Nat) (x0 : Nat) (x1 : Int32) (x2 : Int32) (x3 : Int32) (x4 : Int32) (x5 : Int32) (h : HP), mG (gN h) (gS h) (cA_waysN n x0 x1 x2 x3 x4 x5 h) := by
  intro n
  induction n with
  | zero => intro x0 x1 x2 x3 x4 x5 h; exact mg_none
  | succ n ih =>
    intro x0 x1 x2 x3 x4 x5 h
    exact cA_ways_m (cA_waysN n) ih x0 x1 x2 x3 x4 x5 h
theorem cA_layWay_8_m {c s : Nat}  (f1 : Int32) (f2 : Int32) (f3 : Int32) (f4 : Int32) (k : HP → Option (Unit × HP)) (hk : ∀  (h : HP), mN c s h → mG c s (k  h)) : ∀ (n : Nat) (v5 : Int32) (h : HP), mN c s h → mG c s (cA_layWay_8 f1 f2 f3 f4 k n v5 h) := by
  intro n
  induction n with
  | zero =>
    intro v5 h hn
    exact mg_none
  | succ n ih =>
    intro v5 h hn
    rw [cA_layWay_8]
    refine mg_ite ?_ ?_
    · exact hk h hn
    · refine mg_ite ?_ ?_
      · refine mg_cal hn (cA_waysN_m 4 20 (0 : Int32) v5 f1 f2 f3 h) (fun r5 h6 hn => ?_)
        refine mg_ite ?_ ?_
        · refine mg_bnd (fun x7 => ?_)
          exact ih x7 h6 hn
        · refine mg_bI hn (fun h8 hn => ?_)
          refine mg_bnd (fun x11 => ?_)
          exact ih x11 h8 hn
      · exact hk h hn
theorem cA_layWay_55_m {c s : Nat}   (k : HP → Option (Unit × HP)) (hk : ∀  (h : HP), mN c s h → mG c s (k  h)) : ∀ (n : Nat) (v5 : Int32) (h : HP), mN c s h → mG c s (cA_layWay_55 k n v5 h) := by
  intro n
  induction n with
  | zero =>
    intro v5 h hn
    exact mg_none
  | succ n ih =>
    intro v5 h hn
    rw [cA_layWay_55]
    refine mg_ite ?_ ?_
    · exact hk h hn
    · refine mg_grd ?_
      refine mg_grd ?_
      refine mg_bI hn (fun h14 hn => ?_)
      refine mg_bnd (fun x17 => ?_)
      exact ih x17 h14 hn
theorem cA_layWay_m  (a1 : Int32) (a2 : Int32) (a3 : Int32) (a4 : Int32) (h : HP) : mG (gN h) (gS h) (cA_layWay a1 a2 a3 a4 h) := by
  have key : ∀ c s : Nat, mN c s h → mG c s (cA_layWay a1 a2 a3 a4 h) := by
    intro c s hn
    rw [cA_layWay]
    refine mg_bI hn (fun h1 hn => ?_)
    refine mg_bnd (fun x4 => ?_)
    refine cA_layWay_8_m a1 a2 a3 a4 _ (fun  h12 hn => ?_) FU x4 h1 hn
    refine mg_bnd (fun x13 => ?_)
    refine cA_layWay_55_m  _ (fun  h18 hn => ?_) FU x13 h12 hn
    exact mg_some hn
  exact key _ _ ⟨Nat.le_refl _, Nat.le_refl _⟩
theorem cA_way_m  (a1 : Int32) (a2 : Int32) (a3 : Int32) (a4 : Int32) (h : HP) : mG (gN h) (gS h) (cA_way a1 a2 a3 a4 h) := by
  have key : ∀ c s : Nat, mN c s h → mG c s (cA_way a1 a2 a3 a4 h) := by
    intro c s hn
    rw [cA_way]
    refine mg_cal hn (cA_isAsked_m a1 a2 a3 a4 h) (fun r1 h2 hn => ?_)
    refine mg_ite ?_ ?_
    · exact mg_some hn
    · refine mg_cal hn (cA_layWay_m a1 a2 a3 a4 h2) (fun r3 h4 hn => ?_)
      refine mg_ite ?_ ?_
      · exact mg_some hn
      · exact mg_some hn
  exact key _ _ ⟨Nat.le_refl _, Nat.le_refl _⟩
theorem cA_step_m  (a1 : Int32) (a2 : Int32) (a3 : Int32) (a4 : Int32) (a5 : Int32) (h : HP) : mG (gN h) (gS h) (cA_step a1 a2 a3 a4 a5 h) := by
  have key : ∀ c s : Nat, mN c s h → mG c s (cA_step a1 a2 a3 a4 a5 h) := by
    intro c s hn
    rw [cA_step]
    refine mg_cal hn (cA_isAsked_m a1 a2 a3 a4 h) (fun r1 h2 hn => ?_)
    refine mg_ite ?_ ?_
    · exact mg_some hn
    · refine mg_ite ?_ ?_
      · refine mg_cal hn (cA_layWay_m a1 a2 a3 a4 h2) (fun r3 h4 hn => ?_)
        refine mg_ite ?_ ?_
        · exact mg_some hn
        · refine mg_grd ?_
          exact mg_some hn
      · exact mg_some hn
  exact key _ _ ⟨Nat.le_refl _, Nat.le_refl _⟩
theorem cA_isTrap_87_m {c s : Nat}  (f2 : Int32) (f4 : Int32) (k : HP → Option (Int32 × HP)) (hk : ∀  (h : HP), mN c s h → mG c s (k  h)) : ∀ (n : Nat) (v5 : Int32) (h : HP), mN c s h → mG c s (cA_isTrap_87 f2 f4 k n v5 h) := by
  intro n
  induction n with
  | zero =>
    intro v5 h hn
    exact mg_none
  | succ n ih =>
    intro v5 h hn
    rw [cA_isTrap_87]
    refine mg_cal hn (cA_persons_m h) (fun r26 h27 hn => ?_)
    refine mg_ite ?_ ?_
    · exact hk h27 hn
    · refine mg_ite ?_ ?_
      · refine mg_bnd (fun x28 => ?_)
        exact ih x28 h27 hn
      · refine mg_cal hn (cS_areTogether_m 20 v5 f2 h27) (fun r29 h30 hn => ?_)
        refine mg_ite ?_ ?_
        · refine mg_bnd (fun x31 => ?_)
          exact ih x31 h30 hn
        · refine mg_grd ?_
          refine mg_ite ?_ ?_
          · exact mg_some hn
          · refine mg_bnd (fun x32 => ?_)
            exact ih x32 h30 hn
theorem cA_isTrap_m  (a1 : Int32) (a2 : Int32) (a3 : Int32) (h : HP) : mG (gN h) (gS h) (cA_isTrap a1 a2 a3 h) := by
  have key : ∀ c s : Nat, mN c s h → mG c s (cA_isTrap a1 a2 a3 h) := by
    intro c s hn
    rw [cA_isTrap]
    refine mg_cal hn (cS_can_m 20 a1 a2 a3 (1 : Int32) h) (fun r1 h2 hn => ?_)
    refine mg_ite ?_ ?_
    · exact mg_some hn
    · refine mg_cal hn (cS_become_m 25 20 h2) (fun r3 h4 hn => ?_)
      refine mg_cal hn (cS_ask_m 25 a1 a2 a3 (0 : Int32) h4) (fun r5 h6 hn => ?_)
      refine mg_ite ?_ ?_
      · exact mg_some hn
      · refine mg_onr (fun b7 => ?_)
        refine mg_grd ?_
        refine mg_grd ?_
        refine mg_cal hn (cL_get_m (b7 + 5) a3 h6) (fun r10 h11 hn => ?_)
        refine mg_grd ?_
        refine mg_grd ?_
        refine mg_onr (fun b14 => ?_)
        refine mg_onr (fun b15 => ?_)
        refine mg_grd ?_
        refine mg_grd ?_
        refine mg_cal hn (cL_get_m (b15 + 5) a3 h11) (fun r18 h19 hn => ?_)
        refine mg_grd ?_
        refine mg_cal hn (cK_asks_m b14 r18 h19) (fun r22 h23 hn => ?_)
        refine mg_bnd (fun x24 => ?_)
        refine mg_bnd (fun x25 => ?_)
        refine cA_isTrap_87_m a2 x24 _ (fun  h33 hn => ?_) FU x25 h23 hn
        exact mg_some hn
  exact key _ _ ⟨Nat.le_refl _, Nat.le_refl _⟩
theorem cA_care_25_m {c s : Nat}  (f1 : Int32) (f3 : Int32) (k : Int32 → HP → Option (Int32 × HP)) (hk : ∀ (v2 : Int32) (h : HP), mN c s h → mG c s (k v2 h)) : ∀ (n : Nat) (v2 : Int32) (v4 : Int32) (h : HP), mN c s h → mG c s (cA_care_25 f1 f3 k n v2 v4 h) := by
  intro n
  induction n with
  | zero =>
    intro v2 v4 h hn
    exact mg_none
  | succ n ih =>
    intro v2 v4 h hn
    rw [cA_care_25]
    refine mg_cal hn (cA_persons_m h) (fun r8 h9 hn => ?_)
    refine mg_ite ?_ ?_
    · exact hk v2 h9 hn
    · refine mg_cal hn (cA_isTrap_m v4 f1 f3 h9) (fun r10 h11 hn => ?_)
      refine mg_jon (fun (j12 : Int32 → Option (Int32 × HP)) => ∀ (s13 : Int32), mG c s (j12 s13)) ?_ ?_
      · intro s13
        refine mg_bnd (fun x14 => ?_)
        refine mg_bnd (fun x15 => ?_)
        exact ih x14 x15 h11 hn
      · intro j12 hj12
        refine mg_ite ?_ ?_
        · exact hj12 (0 : Int32)
        · exact hj12 ((1 : Int32) <<< (f3 &&& 31))
theorem cA_care_14_m {c s : Nat}  (f1 : Int32) (k : Int32 → HP → Option (Int32 × HP)) (hk : ∀ (v2 : Int32) (h : HP), mN c s h → mG c s (k v2 h)) : ∀ (n : Nat) (v2 : Int32) (v3 : Int32) (h : HP), mN c s h → mG c s (cA_care_14 f1 k n v2 v3 h) := by
  intro n
  induction n with
  | zero =>
    intro v2 v3 h hn
    exact mg_none
  | succ n ih =>
    intro v2 v3 h hn
    rw [cA_care_14]
    refine mg_cal hn (cA_questions_m h) (fun r5 h6 hn => ?_)
    refine mg_ite ?_ ?_
    · exact hk v2 h6 hn
    · refine mg_bnd (fun x7 => ?_)
      refine cA_care_25_m f1 v3 _ (fun x16 h17 hn => ?_) FU v2 x7 h6 hn
      refine mg_bnd (fun x18 => ?_)
      exact ih x16 x18 h17 hn
theorem cA_care_m  (a1 : Int32) (h : HP) : mG (gN h) (gS h) (cA_care a1 h) := by
  have key : ∀ c s : Nat, mN c s h → mG c s (cA_care a1 h) := by
    intro c s hn
    rw [cA_care]
    refine mg_cal hn (cA_isPerson_m a1 h) (fun r1 h2 hn => ?_)
    refine mg_ite ?_ ?_
    · exact mg_some hn
    · refine mg_bnd (fun x3 => ?_)
      refine mg_bnd (fun x4 => ?_)
      refine cA_care_14_m a1 _ (fun x19 h20 hn => ?_) FU x3 x4 h2 hn
      exact mg_some hn
  exact key _ _ ⟨Nat.le_refl _, Nat.le_refl _⟩
theorem cA_asks_28_m {c s : Nat} (f : Nat → Int32 → Int32 → Int32 → HP → Option (Unit × HP)) (hfm : ∀ (x0 : Nat) (x1 : Int32) (x2 : Int32) (x3 : Int32) (h : HP), mG (gN h) (gS h) (f x0 x1 x2 x3 h)) (f3 : Int32) (k : HP → Option (Unit × HP)) (hk : ∀  (h : HP), mN c s h → mG c s (k  h)) : ∀ (n : Nat) (v5 : Int32) (h : HP), mN c s h → mG c s (cA_asks_28 f f3 k n v5 h) := by
  intro n
  induction n with
  | zero =>
    intro v5 h hn
    exact mg_none
  | succ n ih =>
    intro v5 h hn
    rw [cA_asks_28]
    refine mg_ite ?_ ?_
    · exact hk h hn
    · refine mg_grd ?_
      refine mg_grd ?_
      refine mg_bI hn (fun h11 hn => ?_)
      refine mg_bnd (fun x14 => ?_)
      exact ih x14 h11 hn
theorem cA_asks_78_m {c s : Nat} (f : Nat → Int32 → Int32 → Int32 → HP → Option (Unit × HP)) (hfm : ∀ (x0 : Nat) (x1 : Int32) (x2 : Int32) (x3 : Int32) (h : HP), mG (gN h) (gS h) (f x0 x1 x2 x3 h)) (f1 : Nat) (f2 : Int32) (f3 : Int32) (f4 : Int32) (f5 : Nat) (f6 : Int32) (k : HP → Option (Unit × HP)) (hk : ∀  (h : HP), mN c s h → mG c s (k  h)) : ∀ (n : Nat) (v7 : Int32) (h : HP), mN c s h → mG c s (cA_asks_78 f f1 f2 f3 f4 f5 f6 k n v7 h) := by
  intro n
  induction n with
  | zero =>
    intro v7 h hn
    exact mg_none
  | succ n ih =>
    intro v7 h hn
    rw [cA_asks_78]
    refine mg_cal hn (cA_questions_m h) (fun r21 h22 hn => ?_)
    refine mg_ite ?_ ?_
    · exact hk h22 hn
    · refine mg_grd ?_
      refine mg_cal hn (cS_can_m f1 f4 f6 v7 (1 : Int32) h22) (fun r23 h24 hn => ?_)
      refine mg_ite ?_ ?_
      · refine mg_bnd (fun x26 => ?_)
        exact ih x26 h24 hn
      · refine mg_grd ?_
        refine mg_cal hn (cS_become_m f5 f1 h24) (fun r27 h28 hn => ?_)
        refine mg_grd ?_
        refine mg_cal hn (cS_ask_m f5 f4 f6 v7 (0 : Int32) h28) (fun r30 h31 hn => ?_)
        refine mg_grd ?_
        refine mg_bI hn (fun h33 hn => ?_)
        refine mg_cal hn (hfm f5 (f2 + (1 : Int32)) f3 f4 h33) (fun r36 h37 hn => ?_)
        refine mg_bnd (fun x38 => ?_)
        exact ih x38 h37 hn
theorem cA_asks_66_m {c s : Nat} (f : Nat → Int32 → Int32 → Int32 → HP → Option (Unit × HP)) (hfm : ∀ (x0 : Nat) (x1 : Int32) (x2 : Int32) (x3 : Int32) (h : HP), mG (gN h) (gS h) (f x0 x1 x2 x3 h)) (f1 : Nat) (f2 : Int32) (f3 : Int32) (f4 : Int32) (f5 : Nat) (k : HP → Option (Unit × HP)) (hk : ∀  (h : HP), mN c s h → mG c s (k  h)) : ∀ (n : Nat) (v6 : Int32) (h : HP), mN c s h → mG c s (cA_asks_66 f f1 f2 f3 f4 f5 k n v6 h) := by
  intro n
  induction n with
  | zero =>
    intro v6 h hn
    exact mg_none
  | succ n ih =>
    intro v6 h hn
    rw [cA_asks_66]
    refine mg_cal hn (cA_persons_m h) (fun r18 h19 hn => ?_)
    refine mg_ite ?_ ?_
    · exact hk h19 hn
    · refine mg_bnd (fun x20 => ?_)
      refine cA_asks_78_m f hfm f1 f2 f3 f4 f5 v6 _ (fun  h39 hn => ?_) FU x20 h19 hn
      refine mg_bnd (fun x40 => ?_)
      exact ih x40 h39 hn
theorem cA_asks_m (f : Nat → Int32 → Int32 → Int32 → HP → Option (Unit × HP)) (hfm : ∀ (x0 : Nat) (x1 : Int32) (x2 : Int32) (x3 : Int32) (h : HP), mG (gN h) (gS h) (f x0 x1 x2 x3 h)) (a1 : Nat) (a2 : Int32) (a3 : Int32) (a4 : Int32) (h : HP) : mG (gN h) (gS h) (cA_asks f a1 a2 a3 a4 h) := by
  have key : ∀ c s : Nat, mN c s h → mG c s (cA_asks f a1 a2 a3 a4 h) := by
    intro c s hn
    rw [cA_asks]
    refine mg_ite ?_ ?_
    · refine mg_grd ?_
      refine mg_cal hn (cS_sum_m a1 h) (fun r1 h2 hn => ?_)
      refine mg_ite ?_ ?_
      · refine mg_grd ?_
        refine mg_cal hn (cS_sum_m a1 h2) (fun r4 h5 hn => ?_)
        refine mg_bI hn (fun h7 hn => ?_)
        refine mg_bnd (fun x10 => ?_)
        refine cA_asks_28_m f hfm a3 _ (fun  h15 hn => ?_) FU x10 h7 hn
        exact mg_some hn
      · exact mg_some hn
    · refine mg_grd ?_
      refine mg_onr (fun b16 => ?_)
      refine mg_bnd (fun x17 => ?_)
      refine cA_asks_66_m f hfm a1 a2 a3 a4 b16 _ (fun  h41 hn => ?_) FU x17 h hn
      exact mg_some hn
  exact key _ _ ⟨Nat.le_refl _, Nat.le_refl _⟩
theorem cA_asksN_m : ∀ (n : Nat) (x0 : Nat) (x1 : Int32) (x2 : Int32) (x3 : Int32) (h : HP), mG (gN h) (gS h) (cA_asksN n x0 x1 x2 x3 h) := by
  intro n
  induction n with
  | zero => intro x0 x1 x2 x3 h; exact mg_none
  | succ n ih =>
    intro x0 x1 x2 x3 h
    exact cA_asks_m (cA_asksN n) ih x0 x1 x2 x3 h
theorem cA_best_m  (a1 : Int32) (a2 : Int32) (a3 : Int32) (h : HP) : mG (gN h) (gS h) (cA_best a1 a2 a3 h) := by
  have key : ∀ c s : Nat, mN c s h → mG c s (cA_best a1 a2 a3 h) := by
    intro c s hn
    rw [cA_best]
    refine mg_cal hn (cA_isPerson_m a1 h) (fun r1 h2 hn => ?_)
    refine mg_ite ?_ ?_
    · exact mg_some hn
    · refine mg_cal hn (cA_in_m (a2).toInt64 (1 : Int64) (2 : Int64) h2) (fun r3 h4 hn => ?_)
      refine mg_ite ?_ ?_
      · exact mg_some hn
      · refine mg_cal hn (cA_in_m (a3).toInt64 (0 : Int64) (2 : Int64) h4) (fun r5 h6 hn => ?_)
        refine mg_ite ?_ ?_
        · exact mg_some hn
        · refine mg_bI hn (fun h7 hn => ?_)
          refine mg_cal hn (cA_asksN_m 4 20 (0 : Int32) a2 a1 h7) (fun r10 h11 hn => ?_)
          refine mg_ite ?_ ?_
          · exact mg_some hn
          · refine mg_ite ?_ ?_
            · exact mg_some hn
            · refine mg_ite ?_ ?_
              · exact mg_some hn
              · refine mg_grd ?_
                exact mg_some hn
  exact key _ _ ⟨Nat.le_refl _, Nat.le_refl _⟩
theorem cA_isDuel_m  (a1 : Int32) (a2 : Int32) (h : HP) : mG (gN h) (gS h) (cA_isDuel a1 a2 h) := by
  have key : ∀ c s : Nat, mN c s h → mG c s (cA_isDuel a1 a2 h) := by
    intro c s hn
    rw [cA_isDuel]
    refine mg_cal hn (cA_areTwo_m a1 a2 h) (fun r1 h2 hn => ?_)
    refine mg_ite ?_ ?_
    · exact mg_some hn
    · refine mg_grd ?_
      refine mg_grd ?_
      refine mg_ite ?_ ?_
      · exact mg_some hn
      · exact mg_some hn
  exact key _ _ ⟨Nat.le_refl _, Nat.le_refl _⟩
theorem cA_ends_m  (a1 : Int32) (h : HP) : mG (gN h) (gS h) (cA_ends a1 h) := by
  have key : ∀ c s : Nat, mN c s h → mG c s (cA_ends a1 h) := by
    intro c s hn
    rw [cA_ends]
    refine mg_grd ?_
    refine mg_cal hn (kJ18_bitCount_m (gI h 26 (a1).toNatClampNeg) h) (fun r1 h2 hn => ?_)
    refine mg_grd ?_
    refine mg_cal hn (kJ18_bitCount_m (gI h2 21 (a1).toNatClampNeg) h2) (fun r3 h4 hn => ?_)
    refine mg_grd ?_
    refine mg_grd ?_
    exact mg_some hn
  exact key _ _ ⟨Nat.le_refl _, Nat.le_refl _⟩
theorem cA_layDuel_17_m {c s : Nat}  (f1 : Int32) (f2 : Int32) (f3 : Int32) (f4 : Int32) (k : HP → Option (Unit × HP)) (hk : ∀  (h : HP), mN c s h → mG c s (k  h)) : ∀ (n : Nat) (v5 : Int32) (h : HP), mN c s h → mG c s (cA_layDuel_17 f1 f2 f3 f4 k n v5 h) := by
  intro n
  induction n with
  | zero =>
    intro v5 h hn
    exact mg_none
  | succ n ih =>
    intro v5 h hn
    rw [cA_layDuel_17]
    refine mg_ite ?_ ?_
    · exact hk h hn
    · refine mg_cal hn (cS_become_m 25 20 h) (fun r6 h7 hn => ?_)
      refine mg_jon (fun (j8 : HP → Option (Unit × HP)) => ∀ (h9 : HP), mN c s h9 → mG c s (j8 h9)) ?_ ?_
      · intro h9 hn
        refine mg_jon (fun (j10 : HP → Option (Unit × HP)) => ∀ (h11 : HP), mN c s h11 → mG c s (j10 h11)) ?_ ?_
        · intro h11 hn
          refine mg_cal hn (cA_ends_m f1 h11) (fun r12 h13 hn => ?_)
          refine mg_grd ?_
          refine mg_bI hn (fun h14 hn => ?_)
          refine mg_cal hn (cA_ends_m f2 h14) (fun r17 h18 hn => ?_)
          refine mg_grd ?_
          refine mg_bI hn (fun h19 hn => ?_)
          refine mg_bnd (fun x22 => ?_)
          exact ih x22 h19 hn
        · intro j10 hj10
          refine mg_ite ?_ ?_
          · exact hj10 h9 hn
          · refine mg_cal hn (cS_can_m 25 f2 f1 v5 (1 : Int32) h9) (fun r23 h24 hn => ?_)
            refine mg_ite ?_ ?_
            · exact hj10 h24 hn
            · refine mg_cal hn (cS_ask_m 25 f2 f1 v5 (0 : Int32) h24) (fun r25 h26 hn => ?_)
              exact hj10 h26 hn
      · intro j8 hj8
        refine mg_ite ?_ ?_
        · exact hj8 h7 hn
        · refine mg_cal hn (cS_can_m 25 f1 f2 f4 (1 : Int32) h7) (fun r27 h28 hn => ?_)
          refine mg_ite ?_ ?_
          · exact hj8 h28 hn
          · refine mg_cal hn (cS_ask_m 25 f1 f2 f4 (0 : Int32) h28) (fun r29 h30 hn => ?_)
            exact hj8 h30 hn
theorem cA_layDuel_8_m {c s : Nat}  (f1 : Int32) (f2 : Int32) (f3 : Int32) (k : HP → Option (Unit × HP)) (hk : ∀  (h : HP), mN c s h → mG c s (k  h)) : ∀ (n : Nat) (v4 : Int32) (h : HP), mN c s h → mG c s (cA_layDuel_8 f1 f2 f3 k n v4 h) := by
  intro n
  induction n with
  | zero =>
    intro v4 h hn
    exact mg_none
  | succ n ih =>
    intro v4 h hn
    rw [cA_layDuel_8]
    refine mg_ite ?_ ?_
    · exact hk h hn
    · refine mg_bnd (fun x5 => ?_)
      refine cA_layDuel_17_m f1 f2 f3 v4 _ (fun  h31 hn => ?_) FU x5 h hn
      refine mg_bnd (fun x32 => ?_)
      exact ih x32 h31 hn
theorem cA_layDuel_m  (a1 : Int32) (a2 : Int32) (h : HP) : mG (gN h) (gS h) (cA_layDuel a1 a2 h) := by
  have key : ∀ c s : Nat, mN c s h → mG c s (cA_layDuel a1 a2 h) := by
    intro c s hn
    rw [cA_layDuel]
    refine mg_cal hn (cA_questions_m h) (fun r1 h2 hn => ?_)
    refine mg_bnd (fun x3 => ?_)
    refine mg_bnd (fun x4 => ?_)
    refine cA_layDuel_8_m a1 a2 x3 _ (fun  h33 hn => ?_) FU x4 h2 hn
    exact mg_some hn
  exact key _ _ ⟨Nat.le_refl _, Nat.le_refl _⟩
theorem cA_isRest_6_m {c s : Nat}  (f1 : Int32) (f2 : Int32) (f3 : Int32) (k : HP → Option (Int32 × HP)) (hk : ∀  (h : HP), mN c s h → mG c s (k  h)) : ∀ (n : Nat) (v4 : Int32) (h : HP), mN c s h → mG c s (cA_isRest_6 f1 f2 f3 k n v4 h) := by
  intro n
  induction n with
  | zero =>
    intro v4 h hn
    exact mg_none
  | succ n ih =>
    intro v4 h hn
    rw [cA_isRest_6]
    refine mg_cal hn (cA_questions_m h) (fun r3 h4 hn => ?_)
    refine mg_ite ?_ ?_
    · exact hk h4 hn
    · refine mg_grd ?_
      refine mg_grd ?_
      refine mg_ite ?_ ?_
      · exact mg_some hn
      · refine mg_grd ?_
        refine mg_grd ?_
        refine mg_ite ?_ ?_
        · refine mg_bnd (fun x5 => ?_)
          exact ih x5 h4 hn
        · exact mg_some hn
theorem cA_isRest_m  (a1 : Int32) (a2 : Int32) (h : HP) : mG (gN h) (gS h) (cA_isRest a1 a2 h) := by
  have key : ∀ c s : Nat, mN c s h → mG c s (cA_isRest a1 a2 h) := by
    intro c s hn
    rw [cA_isRest]
    refine mg_bnd (fun x1 => ?_)
    refine mg_bnd (fun x2 => ?_)
    refine cA_isRest_6_m a1 a2 x1 _ (fun  h6 hn => ?_) FU x2 h hn
    exact mg_some hn
  exact key _ _ ⟨Nat.le_refl _, Nat.le_refl _⟩
theorem cA_restOf_15_m {c s : Nat}  (f1 : Int32) (f3 : Int32) (k : Int32 → HP → Option (Int32 × HP)) (hk : ∀ (v2 : Int32) (h : HP), mN c s h → mG c s (k v2 h)) : ∀ (n : Nat) (v2 : Int32) (v4 : Int32) (h : HP), mN c s h → mG c s (cA_restOf_15 f1 f3 k n v2 v4 h) := by
  intro n
  induction n with
  | zero =>
    intro v2 v4 h hn
    exact mg_none
  | succ n ih =>
    intro v2 v4 h hn
    rw [cA_restOf_15]
    refine mg_cal hn (cA_questions_m h) (fun r6 h7 hn => ?_)
    refine mg_ite ?_ ?_
    · exact hk v2 h7 hn
    · refine mg_cal hn (cA_isRest_m f3 v4 h7) (fun r8 h9 hn => ?_)
      refine mg_ite ?_ ?_
      · refine mg_bnd (fun x10 => ?_)
        exact ih v2 x10 h9 hn
      · refine mg_ite ?_ ?_
        · exact mg_some hn
        · refine mg_bnd (fun x11 => ?_)
          refine mg_bnd (fun x12 => ?_)
          exact ih x11 x12 h9 hn
theorem cA_restOf_4_m {c s : Nat}  (f1 : Int32) (k : Int32 → HP → Option (Int32 × HP)) (hk : ∀ (v2 : Int32) (h : HP), mN c s h → mG c s (k v2 h)) : ∀ (n : Nat) (v2 : Int32) (v3 : Int32) (h : HP), mN c s h → mG c s (cA_restOf_4 f1 k n v2 v3 h) := by
  intro n
  induction n with
  | zero =>
    intro v2 v3 h hn
    exact mg_none
  | succ n ih =>
    intro v2 v3 h hn
    rw [cA_restOf_4]
    refine mg_cal hn (cA_questions_m h) (fun r3 h4 hn => ?_)
    refine mg_ite ?_ ?_
    · exact hk v2 h4 hn
    · refine mg_bnd (fun x5 => ?_)
      refine cA_restOf_15_m f1 v3 _ (fun x13 h14 hn => ?_) FU v2 x5 h4 hn
      refine mg_bnd (fun x15 => ?_)
      exact ih x13 x15 h14 hn
theorem cA_restOf_m  (a1 : Int32) (h : HP) : mG (gN h) (gS h) (cA_restOf a1 h) := by
  have key : ∀ c s : Nat, mN c s h → mG c s (cA_restOf a1 h) := by
    intro c s hn
    rw [cA_restOf]
    refine mg_bnd (fun x1 => ?_)
    refine mg_bnd (fun x2 => ?_)
    refine cA_restOf_4_m a1 _ (fun x16 h17 hn => ?_) FU x1 x2 h hn
    refine mg_ite ?_ ?_
    · exact mg_some hn
    · exact mg_some hn
  exact key _ _ ⟨Nat.le_refl _, Nat.le_refl _⟩
theorem cA_rests_m  (a1 : Int32) (a2 : Int32) (h : HP) : mG (gN h) (gS h) (cA_rests a1 a2 h) := by
  have key : ∀ c s : Nat, mN c s h → mG c s (cA_rests a1 a2 h) := by
    intro c s hn
    rw [cA_rests]
    refine mg_cal hn (cA_isDuel_m a1 a2 h) (fun r1 h2 hn => ?_)
    refine mg_ite ?_ ?_
    · exact mg_some hn
    · refine mg_cal hn (cA_layDuel_m a1 a2 h2) (fun r3 h4 hn => ?_)
      refine mg_cal hn (cA_restOf_m (-1 : Int32) h4) (fun r5 h6 hn => ?_)
      exact mg_some hn
  exact key _ _ ⟨Nat.le_refl _, Nat.le_refl _⟩
theorem cA_rest_m  (a1 : Int32) (a2 : Int32) (a3 : Int32) (h : HP) : mG (gN h) (gS h) (cA_rest a1 a2 a3 h) := by
  have key : ∀ c s : Nat, mN c s h → mG c s (cA_rest a1 a2 a3 h) := by
    intro c s hn
    rw [cA_rest]
    refine mg_cal hn (cA_isDuel_m a1 a2 h) (fun r1 h2 hn => ?_)
    refine mg_ite ?_ ?_
    · exact mg_some hn
    · refine mg_ite ?_ ?_
      · refine mg_cal hn (cA_layDuel_m a1 a2 h2) (fun r3 h4 hn => ?_)
        refine mg_cal hn (cA_restOf_m a3 h4) (fun r5 h6 hn => ?_)
        exact mg_some hn
      · exact mg_some hn
  exact key _ _ ⟨Nat.le_refl _, Nat.le_refl _⟩
theorem cS_talk_m  (o : Nat) (a1 : Int32) (a2 : Int32) (h : HP) : mG (gN h) (gS h) (cS_talk o a1 a2 h) := by
  have key : ∀ c s : Nat, mN c s h → mG c s (cS_talk o a1 a2 h) := by
    intro c s hn
    rw [cS_talk]
    refine mg_grd ?_
    refine mg_onr (fun b2 => ?_)
    refine mg_grd ?_
    refine mg_grd ?_
    refine mg_onr (fun b5 => ?_)
    refine mg_grd ?_
    refine mg_grd ?_
    refine mg_onr (fun b8 => ?_)
    refine mg_grd ?_
    refine mg_grd ?_
    refine mg_cal hn (cS_can_m o (gI h (b2 + 7) (a1).toNatClampNeg) (gI h (b5 + 8) (a1).toNatClampNeg) (gI h (b8 + 9) (a1).toNatClampNeg) (0 : Int32) h) (fun r11 h12 hn => ?_)
    refine mg_ite ?_ ?_
    · exact mg_some hn
    · refine mg_grd ?_
      refine mg_onr (fun b14 => ?_)
      refine mg_grd ?_
      refine mg_grd ?_
      refine mg_onr (fun b17 => ?_)
      refine mg_grd ?_
      refine mg_grd ?_
      refine mg_onr (fun b20 => ?_)
      refine mg_grd ?_
      refine mg_grd ?_
      refine mg_cal hn (cS_ask_m o (gI h12 (b14 + 7) (a1).toNatClampNeg) (gI h12 (b17 + 8) (a1).toNatClampNeg) (gI h12 (b20 + 9) (a1).toNatClampNeg) a2 h12) (fun r23 h24 hn => ?_)
      exact mg_some hn
  exact key _ _ ⟨Nat.le_refl _, Nat.le_refl _⟩
theorem cA_layTalk_9_m {c s : Nat}  (f1 : Int32) (k : HP → Option (Unit × HP)) (hk : ∀  (h : HP), mN c s h → mG c s (k  h)) : ∀ (n : Nat) (v2 : Int32) (h : HP), mN c s h → mG c s (cA_layTalk_9 f1 k n v2 h) := by
  intro n
  induction n with
  | zero =>
    intro v2 h hn
    exact mg_none
  | succ n ih =>
    intro v2 h hn
    rw [cA_layTalk_9]
    refine mg_ite ?_ ?_
    · exact hk h hn
    · refine mg_cal hn (cS_talk_m 25 v2 (0 : Int32) h) (fun r4 h5 hn => ?_)
      refine mg_bnd (fun x6 => ?_)
      exact ih x6 h5 hn
theorem cA_layTalk_m  (a1 : Int32) (h : HP) : mG (gN h) (gS h) (cA_layTalk a1 h) := by
  have key : ∀ c s : Nat, mN c s h → mG c s (cA_layTalk a1 h) := by
    intro c s hn
    rw [cA_layTalk]
    refine mg_cal hn (cS_begin_m 25 h) (fun r1 h2 hn => ?_)
    refine mg_bnd (fun x3 => ?_)
    refine cA_layTalk_9_m a1 _ (fun  h7 hn => ?_) FU x3 h2 hn
    exact mg_some hn
  exact key _ _ ⟨Nat.le_refl _, Nat.le_refl _⟩
theorem cA_slipped_m  (a1 : Int32) (h : HP) : mG (gN h) (gS h) (cA_slipped a1 h) := by
  have key : ∀ c s : Nat, mN c s h → mG c s (cA_slipped a1 h) := by
    intro c s hn
    rw [cA_slipped]
    refine mg_cal hn (cA_isPerson_m a1 h) (fun r1 h2 hn => ?_)
    refine mg_ite ?_ ?_
    · exact mg_some hn
    · refine mg_onr (fun b3 => ?_)
      refine mg_grd ?_
      refine mg_cal hn (cA_layTalk_m (gI h2 b3 7) h2) (fun r6 h7 hn => ?_)
      refine mg_grd ?_
      exact mg_some hn
  exact key _ _ ⟨Nat.le_refl _, Nat.le_refl _⟩
theorem cA_behind_m  (a1 : Int32) (a2 : Int32) (h : HP) : mG (gN h) (gS h) (cA_behind a1 a2 h) := by
  have key : ∀ c s : Nat, mN c s h → mG c s (cA_behind a1 a2 h) := by
    intro c s hn
    rw [cA_behind]
    refine mg_cal hn (cA_isPerson_m a2 h) (fun r1 h2 hn => ?_)
    refine mg_ite ?_ ?_
    · exact mg_some hn
    · refine mg_onr (fun b3 => ?_)
      refine mg_grd ?_
      refine mg_cal hn (cA_in_m (a1).toInt64 (0 : Int64) ((gI h2 b3 7)).toInt64 h2) (fun r6 h7 hn => ?_)
      refine mg_ite ?_ ?_
      · exact mg_some hn
      · refine mg_cal hn (cA_layTalk_m a1 h7) (fun r8 h9 hn => ?_)
        refine mg_grd ?_
        exact mg_some hn
  exact key _ _ ⟨Nat.le_refl _, Nat.le_refl _⟩
theorem kX20_init_m  (o : Nat) (h : HP) : mG (gN h) (gS h) (kX20_init o h) := by
  have key : ∀ c s : Nat, mN c s h → mG c s (kX20_init o h) := by
    intro c s hn
    rw [kX20_init]
    exact mg_some hn
  exact key _ _ ⟨Nat.le_refl _, Nat.le_refl _⟩
theorem kX21_init_m  (o : Nat) (a1 : Int32) (a2 : Int32) (a3 : Int32) (a4 : Int32) (h : HP) : mG (gN h) (gS h) (kX21_init o a1 a2 a3 a4 h) := by
  have key : ∀ c s : Nat, mN c s h → mG c s (kX21_init o a1 a2 a3 a4 h) := by
    intro c s hn
    rw [kX21_init]
    refine mg_cal hn (kX20_init_m o h) (fun r1 h2 hn => ?_)
    refine mg_grd ?_
    refine mg_bI hn (fun h4 hn => ?_)
    refine mg_bI hn (fun h7 hn => ?_)
    refine mg_bI hn (fun h10 hn => ?_)
    refine mg_grd ?_
    refine mg_bI hn (fun h14 hn => ?_)
    exact mg_some hn
  exact key _ _ ⟨Nat.le_refl _, Nat.le_refl _⟩
theorem cA_add_m  (a1 : Nat) (h : HP) : mG (gN h) (gS h) (cA_add a1 h) := by
  have key : ∀ c s : Nat, mN c s h → mG c s (cA_add a1 h) := by
    intro c s hn
    rw [cA_add]
    refine mg_cal hn (cL_add_m 41 a1 h) (fun r1 h2 hn => ?_)
    refine mg_cal hn (cL_size_m 41 h2) (fun r3 h4 hn => ?_)
    exact mg_some hn
  exact key _ _ ⟨Nat.le_refl _, Nat.le_refl _⟩
theorem cA_note_m  (a1 : Int32) (a2 : Int32) (a3 : Int32) (a4 : Int32) (h : HP) : mG (gN h) (gS h) (cA_note a1 a2 a3 a4 h) := by
  have key : ∀ c s : Nat, mN c s h → mG c s (cA_note a1 a2 a3 a4 h) := by
    intro c s hn
    rw [cA_note]
    refine mg_onr (fun b1 => ?_)
    refine mg_grd ?_
    refine mg_cal hn (cA_in_m (a1).toInt64 (0 : Int64) ((gI h b1 7)).toInt64 h) (fun r4 h5 hn => ?_)
    refine mg_ite ?_ ?_
    · exact mg_some hn
    · refine mg_cal hn (cA_isPerson_m a2 h5) (fun r6 h7 hn => ?_)
      refine mg_ite ?_ ?_
      · exact mg_some hn
      · refine mg_cal hn (cA_isFact_m a3 h7) (fun r8 h9 hn => ?_)
        refine mg_ite ?_ ?_
        · exact mg_some hn
        · refine mg_cal hn (cL_size_m 41 h9) (fun r10 h11 hn => ?_)
          refine mg_ite ?_ ?_
          · exact mg_some hn
          · refine mg_grd ?_
            refine mg_bnd (fun b13 => ?_)
            refine mg_bA hn (fun h14 hn => ?_)
            refine mg_cal hn (kX21_init_m b13 a1 a2 a3 a4 h14) (fun r15 h16 hn => ?_)
            refine mg_cal hn (cA_add_m b13 h16) (fun r17 h18 hn => ?_)
            exact mg_some hn
  exact key _ _ ⟨Nat.le_refl _, Nat.le_refl _⟩
theorem kX22_init_m  (o : Nat) (a1 : Int32) (h : HP) : mG (gN h) (gS h) (kX22_init o a1 h) := by
  have key : ∀ c s : Nat, mN c s h → mG c s (kX22_init o a1 h) := by
    intro c s hn
    rw [kX22_init]
    refine mg_cal hn (kX20_init_m o h) (fun r1 h2 hn => ?_)
    refine mg_grd ?_
    refine mg_bI hn (fun h4 hn => ?_)
    exact mg_some hn
  exact key _ _ ⟨Nat.le_refl _, Nat.le_refl _⟩
theorem cA_strike_m  (a1 : Int32) (h : HP) : mG (gN h) (gS h) (cA_strike a1 h) := by
  have key : ∀ c s : Nat, mN c s h → mG c s (cA_strike a1 h) := by
    intro c s hn
    rw [cA_strike]
    refine mg_cal hn (cL_size_m 41 h) (fun r1 h2 hn => ?_)
    refine mg_cal hn (cA_in_m (a1).toInt64 (0 : Int64) ((r1 - (1 : Int32))).toInt64 h2) (fun r3 h4 hn => ?_)
    refine mg_ite ?_ ?_
    · exact mg_some hn
    · refine mg_cal hn (cL_size_m 41 h4) (fun r5 h6 hn => ?_)
      refine mg_ite ?_ ?_
      · exact mg_some hn
      · refine mg_grd ?_
        refine mg_bnd (fun b8 => ?_)
        refine mg_bA hn (fun h9 hn => ?_)
        refine mg_cal hn (kX22_init_m b8 a1 h9) (fun r10 h11 hn => ?_)
        refine mg_cal hn (cA_add_m b8 h11) (fun r12 h13 hn => ?_)
        exact mg_some hn
  exact key _ _ ⟨Nat.le_refl _, Nat.le_refl _⟩
theorem cA_known_m  (a1 : Int32) (h : HP) : mG (gN h) (gS h) (cA_known a1 h) := by
  have key : ∀ c s : Nat, mN c s h → mG c s (cA_known a1 h) := by
    intro c s hn
    rw [cA_known]
    refine mg_cal hn (cL_size_m 41 h) (fun r1 h2 hn => ?_)
    refine mg_cal hn (cA_in_m (a1).toInt64 (-1 : Int64) (r1).toInt64 h2) (fun r3 h4 hn => ?_)
    refine mg_ite ?_ ?_
    · exact mg_some hn
    · refine mg_bI hn (fun h5 hn => ?_)
      exact mg_some hn
  exact key _ _ ⟨Nat.le_refl _, Nat.le_refl _⟩
theorem cA_knownMany_m   (h : HP) : mG (gN h) (gS h) (cA_knownMany  h) := by
  have key : ∀ c s : Nat, mN c s h → mG c s (cA_knownMany  h) := by
    intro c s hn
    rw [cA_knownMany]
    refine mg_ite ?_ ?_
    · refine mg_cal hn (cL_size_m 41 h) (fun r1 h2 hn => ?_)
      exact mg_some hn
    · exact mg_some hn
  exact key _ _ ⟨Nat.le_refl _, Nat.le_refl _⟩
theorem kX20_struck_m  (o : Nat) (h : HP) : mG (gN h) (gS h) (kX20_struck o h) := by
  have key : ∀ c s : Nat, mN c s h → mG c s (kX20_struck o h) := by
    intro c s hn
    rw [kX20_struck]
    exact mg_some hn
  exact key _ _ ⟨Nat.le_refl _, Nat.le_refl _⟩
theorem kX22_struck_m  (o : Nat) (h : HP) : mG (gN h) (gS h) (kX22_struck o h) := by
  have key : ∀ c s : Nat, mN c s h → mG c s (kX22_struck o h) := by
    intro c s hn
    rw [kX22_struck]
    refine mg_grd ?_
    exact mg_some hn
  exact key _ _ ⟨Nat.le_refl _, Nat.le_refl _⟩
theorem cF_struck_m (o : Nat)  (h : HP) : mG (gN h) (gS h) (cF_struck o  h) := by
  rw [cF_struck]
  refine mg_ite (kX20_struck_m o  h) ?_
  refine mg_ite (kX22_struck_m o  h) ?_
  exact mg_none
theorem kX21_isSo_m  (o : Nat) (a1 : Nat) (h : HP) : mG (gN h) (gS h) (kX21_isSo o a1 h) := by
  have key : ∀ c s : Nat, mN c s h → mG c s (kX21_isSo o a1 h) := by
    intro c s hn
    rw [kX21_isSo]
    refine mg_grd ?_
    refine mg_grd ?_
    refine mg_grd ?_
    refine mg_jon (fun (j3 : Int32 → Option (Int32 × HP)) => ∀ (s4 : Int32), mG c s (j3 s4)) ?_ ?_
    · intro s4
      refine mg_ite ?_ ?_
      · exact mg_some hn
      · exact mg_some hn
    · intro j3 hj3
      refine mg_ite ?_ ?_
      · exact hj3 (1 : Int32)
      · exact hj3 (0 : Int32)
  exact key _ _ ⟨Nat.le_refl _, Nat.le_refl _⟩
theorem kX20_isSo_m  (o : Nat) (a1 : Nat) (h : HP) : mG (gN h) (gS h) (kX20_isSo o a1 h) := by
  have key : ∀ c s : Nat, mN c s h → mG c s (kX20_isSo o a1 h) := by
    intro c s hn
    rw [kX20_isSo]
    exact mg_some hn
  exact key _ _ ⟨Nat.le_refl _, Nat.le_refl _⟩
theorem cF_isSo_m (o : Nat) (a1 : Nat) (h : HP) : mG (gN h) (gS h) (cF_isSo o a1 h) := by
  rw [cF_isSo]
  refine mg_ite (kX21_isSo_m o a1 h) ?_
  refine mg_ite (kX20_isSo_m o a1 h) ?_
  exact mg_none
theorem kX21_behind_m  (o : Nat) (h : HP) : mG (gN h) (gS h) (kX21_behind o h) := by
  have key : ∀ c s : Nat, mN c s h → mG c s (kX21_behind o h) := by
    intro c s hn
    rw [kX21_behind]
    refine mg_grd ?_
    exact mg_some hn
  exact key _ _ ⟨Nat.le_refl _, Nat.le_refl _⟩
theorem kX20_behind_m  (o : Nat) (h : HP) : mG (gN h) (gS h) (kX20_behind o h) := by
  have key : ∀ c s : Nat, mN c s h → mG c s (kX20_behind o h) := by
    intro c s hn
    rw [kX20_behind]
    exact mg_some hn
  exact key _ _ ⟨Nat.le_refl _, Nat.le_refl _⟩
theorem cF_behind_m (o : Nat)  (h : HP) : mG (gN h) (gS h) (cF_behind o  h) := by
  rw [cF_behind]
  refine mg_ite (kX21_behind_m o  h) ?_
  refine mg_ite (kX20_behind_m o  h) ?_
  exact mg_none
theorem cA_areSo_2_m {c s : Nat}  (f1 : Int32) (k : HP → Option (Int32 × HP)) (hk : ∀  (h : HP), mN c s h → mG c s (k  h)) : ∀ (n : Nat) (v2 : Int32) (h : HP), mN c s h → mG c s (cA_areSo_2 f1 k n v2 h) := by
  intro n
  induction n with
  | zero =>
    intro v2 h hn
    exact mg_none
  | succ n ih =>
    intro v2 h hn
    rw [cA_areSo_2]
    refine mg_cal hn (cA_knownMany_m h) (fun r2 h3 hn => ?_)
    refine mg_ite ?_ ?_
    · exact hk h3 hn
    · refine mg_grd ?_
      refine mg_ite ?_ ?_
      · refine mg_cal hn (cL_get_m 41 v2 h3) (fun r4 h5 hn => ?_)
        refine mg_grd ?_
        refine mg_cal hn (cF_behind_m r4 h5) (fun r7 h8 hn => ?_)
        refine mg_ite ?_ ?_
        · refine mg_cal hn (cL_get_m 41 v2 h8) (fun r9 h10 hn => ?_)
          refine mg_grd ?_
          refine mg_cal hn (cF_isSo_m r9 25 h10) (fun r12 h13 hn => ?_)
          refine mg_ite ?_ ?_
          · exact mg_some hn
          · refine mg_bnd (fun x14 => ?_)
            exact ih x14 h13 hn
        · refine mg_bnd (fun x17 => ?_)
          exact ih x17 h8 hn
      · refine mg_bnd (fun x20 => ?_)
        exact ih x20 h3 hn
theorem cA_areSo_m  (a1 : Int32) (h : HP) : mG (gN h) (gS h) (cA_areSo a1 h) := by
  have key : ∀ c s : Nat, mN c s h → mG c s (cA_areSo a1 h) := by
    intro c s hn
    rw [cA_areSo]
    refine mg_bnd (fun x1 => ?_)
    refine cA_areSo_2_m a1 _ (fun  h21 hn => ?_) FU x1 h hn
    exact mg_some hn
  exact key _ _ ⟨Nat.le_refl _, Nat.le_refl _⟩
theorem cA_isKnew_22_m {c s : Nat}   (k : HP → Option (Int32 × HP)) (hk : ∀  (h : HP), mN c s h → mG c s (k  h)) : ∀ (n : Nat) (v3 : Int32) (h : HP), mN c s h → mG c s (cA_isKnew_22 k n v3 h) := by
  intro n
  induction n with
  | zero =>
    intro v3 h hn
    exact mg_none
  | succ n ih =>
    intro v3 h hn
    rw [cA_isKnew_22]
    refine mg_onr (fun b7 => ?_)
    refine mg_grd ?_
    refine mg_ite ?_ ?_
    · exact hk h hn
    · refine mg_cal hn (cA_areSo_m v3 h) (fun r10 h11 hn => ?_)
      refine mg_ite ?_ ?_
      · exact mg_some hn
      · refine mg_cal hn (cS_talk_m 25 v3 (0 : Int32) h11) (fun r12 h13 hn => ?_)
        refine mg_bnd (fun x14 => ?_)
        exact ih x14 h13 hn
theorem cA_isKnew_m  (a1 : Int32) (a2 : Int32) (h : HP) : mG (gN h) (gS h) (cA_isKnew a1 a2 h) := by
  have key : ∀ c s : Nat, mN c s h → mG c s (cA_isKnew a1 a2 h) := by
    intro c s hn
    rw [cA_isKnew]
    refine mg_cal hn (cS_begin_m 25 h) (fun r1 h2 hn => ?_)
    refine mg_grd ?_
    refine mg_grd ?_
    refine mg_bI hn (fun h3 hn => ?_)
    refine mg_bnd (fun x6 => ?_)
    refine cA_isKnew_22_m  _ (fun  h15 hn => ?_) FU x6 h3 hn
    refine mg_onr (fun b16 => ?_)
    refine mg_grd ?_
    refine mg_cal hn (cA_areSo_m (gI h15 b16 7) h15) (fun r19 h20 hn => ?_)
    refine mg_grd ?_
    exact mg_some hn
  exact key _ _ ⟨Nat.le_refl _, Nat.le_refl _⟩
theorem cA_knew_12_m {c s : Nat}  (f1 : Int32) (k : HP → Option (Int32 × HP)) (hk : ∀  (h : HP), mN c s h → mG c s (k  h)) : ∀ (n : Nat) (v2 : Int32) (h : HP), mN c s h → mG c s (cA_knew_12 f1 k n v2 h) := by
  intro n
  induction n with
  | zero =>
    intro v2 h hn
    exact mg_none
  | succ n ih =>
    intro v2 h hn
    rw [cA_knew_12]
    refine mg_cal hn (cA_knownMany_m h) (fun r4 h5 hn => ?_)
    refine mg_ite ?_ ?_
    · exact hk h5 hn
    · refine mg_grd ?_
      refine mg_bI hn (fun h6 hn => ?_)
      refine mg_bnd (fun x9 => ?_)
      exact ih x9 h6 hn
theorem cA_knew_40_m {c s : Nat}  (f1 : Int32) (k : HP → Option (Int32 × HP)) (hk : ∀  (h : HP), mN c s h → mG c s (k  h)) : ∀ (n : Nat) (v2 : Int32) (h : HP), mN c s h → mG c s (cA_knew_40 f1 k n v2 h) := by
  intro n
  induction n with
  | zero =>
    intro v2 h hn
    exact mg_none
  | succ n ih =>
    intro v2 h hn
    rw [cA_knew_40]
    refine mg_ite ?_ ?_
    · exact hk h hn
    · refine mg_grd ?_
      refine mg_ite ?_ ?_
      · refine mg_cal hn (cL_get_m 41 v2 h) (fun r14 h15 hn => ?_)
        refine mg_grd ?_
        refine mg_cal hn (cF_struck_m r14 h15) (fun r17 h18 hn => ?_)
        refine mg_ite ?_ ?_
        · refine mg_bnd (fun x19 => ?_)
          exact ih x19 h18 hn
        · refine mg_cal hn (cL_get_m 41 v2 h18) (fun r20 h21 hn => ?_)
          refine mg_grd ?_
          refine mg_cal hn (cF_struck_m r20 h21) (fun r23 h24 hn => ?_)
          refine mg_grd ?_
          refine mg_bI hn (fun h25 hn => ?_)
          refine mg_bnd (fun x28 => ?_)
          exact ih x28 h25 hn
      · refine mg_bnd (fun x33 => ?_)
        exact ih x33 h hn
theorem cA_knew_113_m {c s : Nat}  (f1 : Int32) (f2 : Int32) (k : Int32 → HP → Option (Int32 × HP)) (hk : ∀ (v3 : Int32) (h : HP), mN c s h → mG c s (k v3 h)) : ∀ (n : Nat) (v3 : Int32) (v4 : Int32) (h : HP), mN c s h → mG c s (cA_knew_113 f1 f2 k n v3 v4 h) := by
  intro n
  induction n with
  | zero =>
    intro v3 v4 h hn
    exact mg_none
  | succ n ih =>
    intro v3 v4 h hn
    rw [cA_knew_113]
    refine mg_ite ?_ ?_
    · exact hk v3 h hn
    · refine mg_jon (fun (j44 : Int32 → Option (Int32 × HP)) => ∀ (s45 : Int32), mG c s (j44 s45)) ?_ ?_
      · intro s45
        refine mg_cal hn (cA_isKnew_m f1 s45 h) (fun r46 h47 hn => ?_)
        refine mg_jon (fun (j48 : Int32 → Option (Int32 × HP)) => ∀ (s49 : Int32), mG c s (j48 s49)) ?_ ?_
        · intro s49
          refine mg_bnd (fun x50 => ?_)
          refine mg_bnd (fun x51 => ?_)
          exact ih x50 x51 h47 hn
        · intro j48 hj48
          refine mg_ite ?_ ?_
          · exact hj48 (0 : Int32)
          · exact hj48 ((1 : Int32) <<< (v4 &&& 31))
      · intro j44 hj44
        refine mg_ite ?_ ?_
        · exact hj44 (0 : Int32)
        · exact hj44 ((1 : Int32) <<< (v4 &&& 31))
theorem cA_knew_m  (a1 : Int32) (h : HP) : mG (gN h) (gS h) (cA_knew a1 h) := by
  have key : ∀ c s : Nat, mN c s h → mG c s (cA_knew a1 h) := by
    intro c s hn
    rw [cA_knew]
    refine mg_cal hn (cA_isPerson_m a1 h) (fun r1 h2 hn => ?_)
    refine mg_ite ?_ ?_
    · exact mg_some hn
    · refine mg_bnd (fun x3 => ?_)
      refine cA_knew_12_m a1 _ (fun  h10 hn => ?_) FU x3 h2 hn
      refine mg_cal hn (cA_knownMany_m h10) (fun r11 h12 hn => ?_)
      refine mg_bnd (fun x13 => ?_)
      refine cA_knew_40_m a1 _ (fun  h34 hn => ?_) FU x13 h12 hn
      refine mg_onr (fun b35 => ?_)
      refine mg_grd ?_
      refine mg_grd ?_
      refine mg_cal hn (cL_size_m (b35 + 1) h34) (fun r38 h39 hn => ?_)
      refine mg_bnd (fun x41 => ?_)
      refine mg_bnd (fun x42 => ?_)
      refine mg_bnd (fun x43 => ?_)
      refine cA_knew_113_m a1 x41 _ (fun x52 h53 hn => ?_) FU x42 x43 h39 hn
      exact mg_some hn
  exact key _ _ ⟨Nat.le_refl _, Nat.le_refl _⟩
theorem cA_chance_61_m {c s : Nat}  (f2 : Int32) (f3 : Int32) (f4 : Int32) (f6 : Int32) (k : HP → Option (Int32 × HP)) (hk : ∀  (h : HP), mN c s h → mG c s (k  h)) : ∀ (n : Nat) (v7 : Int32) (h : HP), mN c s h → mG c s (cA_chance_61 f2 f3 f4 f6 k n v7 h) := by
  intro n
  induction n with
  | zero =>
    intro v7 h hn
    exact mg_none
  | succ n ih =>
    intro v7 h hn
    rw [cA_chance_61]
    refine mg_onr (fun b14 => ?_)
    refine mg_grd ?_
    refine mg_ite ?_ ?_
    · exact hk h hn
    · refine mg_cal hn (cS_talk_m 25 v7 (1 : Int32) h) (fun r17 h18 hn => ?_)
      refine mg_bnd (fun x19 => ?_)
      exact ih x19 h18 hn
theorem cA_chance_31_m {c s : Nat}  (f2 : Int32) (f3 : Int32) (k : Int32 → HP → Option (Int32 × HP)) (hk : ∀ (v4 : Int32) (h : HP), mN c s h → mG c s (k v4 h)) : ∀ (n : Nat) (v4 : Int32) (v5 : Int32) (v6 : Int32) (h : HP), mN c s h → mG c s (cA_chance_31 f2 f3 k n v4 v5 v6 h) := by
  intro n
  induction n with
  | zero =>
    intro v4 v5 v6 h hn
    exact mg_none
  | succ n ih =>
    intro v4 v5 v6 h hn
    rw [cA_chance_31]
    refine mg_ite ?_ ?_
    · exact hk v4 h hn
    · refine mg_cal hn (cS_become_m 25 20 h) (fun r8 h9 hn => ?_)
      refine mg_bI hn (fun h10 hn => ?_)
      refine mg_bnd (fun x13 => ?_)
      refine cA_chance_61_m f2 f3 v4 v6 _ (fun  h20 hn => ?_) FU x13 h10 hn
      refine mg_bnd (fun x21 => ?_)
      refine mg_grd ?_
      refine mg_bnd (fun x22 => ?_)
      refine mg_bnd (fun x23 => ?_)
      exact ih x22 x21 x23 h20 hn
theorem cA_chance_m  (a1 : Int32) (a2 : Int32) (a3 : Int32) (h : HP) : mG (gN h) (gS h) (cA_chance a1 a2 a3 h) := by
  have key : ∀ c s : Nat, mN c s h → mG c s (cA_chance a1 a2 a3 h) := by
    intro c s hn
    rw [cA_chance]
    refine mg_ite ?_ ?_
    · exact mg_some hn
    · refine mg_cal hn (cA_isPerson_m a2 h) (fun r1 h2 hn => ?_)
      refine mg_ite ?_ ?_
      · exact mg_some hn
      · refine mg_cal hn (cA_isFact_m a3 h2) (fun r3 h4 hn => ?_)
        refine mg_ite ?_ ?_
        · exact mg_some hn
        · refine mg_bnd (fun x5 => ?_)
          refine mg_bnd (fun x6 => ?_)
          refine mg_bnd (fun x7 => ?_)
          refine cA_chance_31_m a2 a3 _ (fun x24 h25 hn => ?_) FU x5 x6 x7 h4 hn
          exact mg_some hn
  exact key _ _ ⟨Nat.le_refl _, Nat.le_refl _⟩
theorem cA_tried_m  (a1 : Int32) (a2 : Int32) (h : HP) : mG (gN h) (gS h) (cA_tried a1 a2 h) := by
  have key : ∀ c s : Nat, mN c s h → mG c s (cA_tried a1 a2 h) := by
    intro c s hn
    rw [cA_tried]
    refine mg_jon (fun (j1 : Int32 → HP → Option (Int32 × HP)) => ∀ (s2 : Int32) (h3 : HP), mN c s h3 → mG c s (j1 s2 h3)) ?_ ?_
    · intro s2 h3 hn
      refine mg_bnd (fun x4 => ?_)
      refine mg_ite ?_ ?_
      · exact mg_some hn
      · refine mg_cal hn (cS_become_m 25 20 h3) (fun r5 h6 hn => ?_)
        refine mg_bI hn (fun h7 hn => ?_)
        refine mg_bI hn (fun h10 hn => ?_)
        refine mg_jon (fun (j13 : HP → Option (Int32 × HP)) => ∀ (h14 : HP), mN c s h14 → mG c s (j13 h14)) ?_ ?_
        · intro h14 hn
          refine mg_cal hn (cS_askAll_m 25 h14) (fun r15 h16 hn => ?_)
          refine mg_cal hn (cS_sum_m 25 h16) (fun r17 h18 hn => ?_)
          exact mg_some hn
        · intro j13 hj13
          refine mg_ite ?_ ?_
          · refine mg_bI hn (fun h19 hn => ?_)
            exact hj13 h19 hn
          · exact hj13 h10 hn
    · intro j1 hj1
      refine mg_ite ?_ ?_
      · refine mg_cal hn (cA_isPerson_m a2 h) (fun r22 h23 hn => ?_)
        exact hj1 r22 h23 hn
      · refine mg_ite ?_ ?_
        · refine mg_cal hn (cA_isQuestion_m a2 h) (fun r24 h25 hn => ?_)
          exact hj1 r24 h25 hn
        · refine mg_cal hn (cA_in_m (a1).toInt64 (0 : Int64) (4 : Int64) h) (fun r26 h27 hn => ?_)
          refine mg_jon (fun (j28 : Unit → Option (Int32 × HP)) => ∀ (_u : Unit), mG c s (j28 ())) ?_ ?_
          · intro _
            exact hj1 (0 : Int32) h27 hn
          · intro j28 hj28
            refine mg_ite ?_ ?_
            · exact hj28 ()
            · refine mg_ite ?_ ?_
              · exact hj1 (1 : Int32) h27 hn
              · exact hj28 ()
  exact key _ _ ⟨Nat.le_refl _, Nat.le_refl _⟩
theorem cA_undo_m   (h : HP) : mG (gN h) (gS h) (cA_undo  h) := by
  have key : ∀ c s : Nat, mN c s h → mG c s (cA_undo  h) := by
    intro c s hn
    rw [cA_undo]
    refine mg_ite ?_ ?_
    · exact mg_some hn
    · refine mg_bI hn (fun h1 hn => ?_)
      refine mg_grd ?_
      refine mg_onr (fun b4 => ?_)
      refine mg_cal hn (cS_become_m 20 b4 h1) (fun r5 h6 hn => ?_)
      exact mg_some hn
  exact key _ _ ⟨Nat.le_refl _, Nat.le_refl _⟩
theorem cA_keep_m   (h : HP) : mG (gN h) (gS h) (cA_keep  h) := by
  have key : ∀ c s : Nat, mN c s h → mG c s (cA_keep  h) := by
    intro c s hn
    rw [cA_keep]
    refine mg_cal hn (cS_become_m 30 20 h) (fun r1 h2 hn => ?_)
    refine mg_bI hn (fun h3 hn => ?_)
    exact mg_some hn
  exact key _ _ ⟨Nat.le_refl _, Nat.le_refl _⟩
theorem cA_back_m   (h : HP) : mG (gN h) (gS h) (cA_back  h) := by
  have key : ∀ c s : Nat, mN c s h → mG c s (cA_back  h) := by
    intro c s hn
    rw [cA_back]
    refine mg_ite ?_ ?_
    · exact mg_some hn
    · refine mg_cal hn (cS_become_m 20 30 h) (fun r1 h2 hn => ?_)
      refine mg_bI hn (fun h3 hn => ?_)
      exact mg_some hn
  exact key _ _ ⟨Nat.le_refl _, Nat.le_refl _⟩
theorem cA_count_119_m {c s : Nat}   (k : Int32 → HP → Option (Int32 × HP)) (hk : ∀ (v2 : Int32) (h : HP), mN c s h → mG c s (k v2 h)) : ∀ (n : Nat) (v2 : Int32) (v3 : Int32) (h : HP), mN c s h → mG c s (cA_count_119 k n v2 v3 h) := by
  intro n
  induction n with
  | zero =>
    intro v2 v3 h hn
    exact mg_none
  | succ n ih =>
    intro v2 v3 h hn
    rw [cA_count_119]
    refine mg_cal hn (cA_persons_m h) (fun r29 h30 hn => ?_)
    refine mg_ite ?_ ?_
    · exact hk v2 h30 hn
    · refine mg_grd ?_
      refine mg_bnd (fun x31 => ?_)
      refine mg_bnd (fun x32 => ?_)
      exact ih x31 x32 h30 hn
theorem cA_count_m  (a1 : Int32) (h : HP) : mG (gN h) (gS h) (cA_count a1 h) := by
  have key : ∀ c s : Nat, mN c s h → mG c s (cA_count a1 h) := by
    intro c s hn
    rw [cA_count]
    refine mg_bnd (fun x1 => ?_)
    refine mg_ite ?_ ?_
    · refine mg_onr (fun b3 => ?_)
      refine mg_grd ?_
      refine mg_grd ?_
      refine mg_cal hn (cL_size_m (b3 + 1) h) (fun r6 h7 hn => ?_)
      exact mg_some hn
    · refine mg_ite ?_ ?_
      · refine mg_cal hn (cA_persons_m h) (fun r10 h11 hn => ?_)
        exact mg_some hn
      · refine mg_ite ?_ ?_
        · refine mg_cal hn (cA_questions_m h) (fun r13 h14 hn => ?_)
          exact mg_some hn
        · refine mg_ite ?_ ?_
          · refine mg_onr (fun b16 => ?_)
            refine mg_grd ?_
            exact mg_some hn
          · refine mg_ite ?_ ?_
            · refine mg_onr (fun b20 => ?_)
              refine mg_grd ?_
              exact mg_some hn
            · refine mg_ite ?_ ?_
              · exact mg_some hn
              · refine mg_ite ?_ ?_
                · refine mg_cal hn (cS_sum_m 20 h) (fun r25 h26 hn => ?_)
                  exact mg_some hn
                · refine mg_ite ?_ ?_
                  · refine mg_bnd (fun x28 => ?_)
                    refine cA_count_119_m  _ (fun x33 h34 hn => ?_) FU x1 x28 h hn
                    exact mg_some hn
                  · refine mg_ite ?_ ?_
                    · exact mg_some hn
                    · refine mg_ite ?_ ?_
                      · refine mg_cal hn (cL_size_m 41 h) (fun r37 h38 hn => ?_)
                        exact mg_some hn
                      · refine mg_ite ?_ ?_
                        · refine mg_cal hn (cA_knownMany_m h) (fun r40 h41 hn => ?_)
                          exact mg_some hn
                        · refine mg_ite ?_ ?_
                          · exact mg_some hn
                          · exact mg_some hn
  exact key _ _ ⟨Nat.le_refl _, Nat.le_refl _⟩
theorem kX4_init_m  (o : Nat) (h : HP) : mG (gN h) (gS h) (kX4_init o h) := by
  have key : ∀ c s : Nat, mN c s h → mG c s (kX4_init o h) := by
    intro c s hn
    rw [kX4_init]
    exact mg_some hn
  exact key _ _ ⟨Nat.le_refl _, Nat.le_refl _⟩
theorem kX5_init_m  (o : Nat) (h : HP) : mG (gN h) (gS h) (kX5_init o h) := by
  have key : ∀ c s : Nat, mN c s h → mG c s (kX5_init o h) := by
    intro c s hn
    rw [kX5_init]
    refine mg_cal hn (kX4_init_m o h) (fun r1 h2 hn => ?_)
    exact mg_some hn
  exact key _ _ ⟨Nat.le_refl _, Nat.le_refl _⟩
theorem kX6_init_m  (o : Nat) (h : HP) : mG (gN h) (gS h) (kX6_init o h) := by
  have key : ∀ c s : Nat, mN c s h → mG c s (kX6_init o h) := by
    intro c s hn
    rw [kX6_init]
    refine mg_cal hn (kX5_init_m o h) (fun r1 h2 hn => ?_)
    exact mg_some hn
  exact key _ _ ⟨Nat.le_refl _, Nat.le_refl _⟩
theorem kX7_init_m  (o : Nat) (h : HP) : mG (gN h) (gS h) (kX7_init o h) := by
  have key : ∀ c s : Nat, mN c s h → mG c s (kX7_init o h) := by
    intro c s hn
    rw [kX7_init]
    refine mg_cal hn (kX5_init_m o h) (fun r1 h2 hn => ?_)
    exact mg_some hn
  exact key _ _ ⟨Nat.le_refl _, Nat.le_refl _⟩
theorem kX8_init_m  (o : Nat) (h : HP) : mG (gN h) (gS h) (kX8_init o h) := by
  have key : ∀ c s : Nat, mN c s h → mG c s (kX8_init o h) := by
    intro c s hn
    rw [kX8_init]
    refine mg_cal hn (kX5_init_m o h) (fun r1 h2 hn => ?_)
    exact mg_some hn
  exact key _ _ ⟨Nat.le_refl _, Nat.le_refl _⟩
