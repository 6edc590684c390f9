/-! the constructors: what they mean -/
set_option maxRecDepth 100000
def icR_init  (o : Nat) (a1 : Nat) (h : HP) : Option (Unit × HP) := grd ((gT (iV h) o).1 = 3) (bnd (sR h o 8 (some a1)) (fun h2 => some ((), h2)))
def ikJ0_init  (o : Nat) (h : HP) : Option (Unit × HP) := some ((), h)
def ikJ1_init  (o : Nat) (h : HP) : Option (Unit × HP) := cal (ikJ0_init o h) (fun r1 h2 => grd ((gT (iV h2) o).1 = 5) (bnd (sI h2 o 0 (0 : Int32)) (fun h4 => some ((), h4))))
def icL_init  (o : Nat) (a1 : Int32) (h : HP) : Option (Unit × HP) := cal (ikJ1_init o h) (fun r1 h2 => if a1 ≤ 0 then (if a1 = 0 then none else none) else (grd (¬ a1 < 0) (grd ((a1).toNatClampNeg * 4 ≤ 536870912) (grd (1 ≤ gN h2) (bnd (gN h2) (fun b4 => bnd (sA h2 (104, (a1).toNatClampNeg) (a1).toNatClampNeg) (fun h5 => grd ((gT (iV h5) o).1 = 5) (bnd (sR h5 o 1 (some b4)) (fun h9 => some ((), h9))))))))))
def icC_init  (o : Nat) (h : HP) : Option (Unit × HP) := grd (1 ≤ gN h) (bnd (gN h) (fun b2 => bnd (sA h (5, 0) 3) (fun h3 => cal (icL_init b2 (8 : Int32) h3) (fun r4 h5 => grd ((gT (iV h5) o).1 = 4) (bnd (sR h5 o 0 (some b2)) (fun h7 => grd (1 ≤ gN h7) (bnd (gN h7) (fun b11 => bnd (sA h7 (5, 0) 3) (fun h12 => cal (icL_init b11 (5 : Int32) h12) (fun r13 h14 => grd ((gT (iV h14) o).1 = 4) (bnd (sR h14 o 1 (some b11)) (fun h16 => grd (1 ≤ gN h16) (bnd (gN h16) (fun b20 => bnd (sA h16 (5, 0) 3) (fun h21 => cal (icL_init b20 (8 : Int32) h21) (fun r22 h23 => grd ((gT (iV h23) o).1 = 4) (bnd (sR h23 o 2 (some b20)) (fun h25 => grd (1 ≤ gN h25) (bnd (gN h25) (fun b29 => bnd (sA h25 (100, 10) 10) (fun h30 => grd ((gT (iV h30) o).1 = 4) (bnd (sR h30 o 3 (some b29)) (fun h32 => grd (1 ≤ gN h32) (bnd (gN h32) (fun b36 => bnd (sA h32 (100, 10) 10) (fun h37 => grd ((gT (iV h37) o).1 = 4) (bnd (sR h37 o 4 (some b36)) (fun h39 => grd (1 ≤ gN h39) (bnd (gN h39) (fun b43 => bnd (sA h39 (100, 10) 10) (fun h44 => grd ((gT (iV h44) o).1 = 4) (bnd (sR h44 o 5 (some b43)) (fun h46 => grd (1 ≤ gN h46) (bnd (gN h46) (fun b50 => bnd (sA h46 (105, 2) 2) (fun h51 => grd ((gT (iV h51) o).1 = 4) (bnd (sR h51 o 6 (some b50)) (fun h53 => grd ((gT (iV h53) o).1 = 4) (bnd (sI h53 o 8 (9 : Int32)) (fun h57 => some ((), h57)))))))))))))))))))))))))))))))))))))))))
def ikX4_init  (o : Nat) (h : HP) : Option (Unit × HP) := some ((), h)
def ikX5_init  (o : Nat) (h : HP) : Option (Unit × HP) := cal (ikX4_init o h) (fun r1 h2 => some ((), h2))
def ikX6_init  (o : Nat) (h : HP) : Option (Unit × HP) := cal (ikX5_init o h) (fun r1 h2 => some ((), h2))
def ikX7_init  (o : Nat) (h : HP) : Option (Unit × HP) := cal (ikX5_init o h) (fun r1 h2 => some ((), h2))
def ikX8_init  (o : Nat) (h : HP) : Option (Unit × HP) := cal (ikX5_init o h) (fun r1 h2 => some ((), h2))
def icS_init  (o : Nat) (a1 : Nat) (h : HP) : Option (Unit × HP) := grd ((gT (iV h) o).1 = 6) (bnd (sR h o 10 (some a1)) (fun h2 => grd (1 ≤ gN h2) (bnd (gN h2) (fun b6 => bnd (sA h2 (100, 5) 5) (fun h7 => grd ((gT (iV h7) o).1 = 6) (bnd (sR h7 o 0 (some b6)) (fun h9 => grd (1 ≤ gN h9) (bnd (gN h9) (fun b13 => bnd (sA h9 (100, 5) 5) (fun h14 => grd ((gT (iV h14) o).1 = 6) (bnd (sR h14 o 1 (some b13)) (fun h16 => grd (1 ≤ gN h16) (bnd (gN h16) (fun b20 => bnd (sA h16 (100, 5) 5) (fun h21 => grd ((gT (iV h21) o).1 = 6) (bnd (sR h21 o 2 (some b20)) (fun h23 => grd (1 ≤ gN h23) (bnd (gN h23) (fun b27 => bnd (sA h23 (100, 5) 5) (fun h28 => grd ((gT (iV h28) o).1 = 6) (bnd (sR h28 o 3 (some b27)) (fun h30 => some ((), h30)))))))))))))))))))))))
def icL_size  (o : Nat) (h : HP) : Option (Int32 × HP) := grd (shL (iV h) o) (some ((gI h o 2), h))
def icA_persons   (h : HP) : Option (Int32 × HP) := grd ((gT (iV h) 0).1 = 2) (onr (gR (iV h) 0 6) (fun b2 => grd (shC (iV h) b2) (grd (shL (iV h) (b2 + 3)) (cal (icL_size (b2 + 3) h) (fun r5 h6 => some (r5, h6))))))
def ikJ4_checkIndex  (a1 : Int32) (a2 : Int32) (h : HP) : Option (Int32 × HP) := jon (fun (_u : Unit) => none) (fun j1 => if a1 < 0 then (j1 ()) else (if a1 < a2 then (some (a1, h)) else (j1 ())))
def ikJ3_checkIndex  (a1 : Int32) (a2 : Int32) (h : HP) : Option (Int32 × HP) := cal (ikJ4_checkIndex a1 a2 h) (fun r1 h2 => some (r1, h2))
def icL_elementData  (o : Nat) (a1 : Int32) (h : HP) : Option (Nat × HP) := grd (shL (iV h) o) (grd (inb a1 (gT (iV h) (o + 1)).2) (onr (gR (iV h) (o + 1) (a1).toNatClampNeg) (fun b2 => some (b2, h))))
def icL_get  (o : Nat) (a1 : Int32) (h : HP) : Option (Nat × HP) := grd (shL (iV h) o) (cal (ikJ3_checkIndex a1 (gI h o 2) h) (fun r2 h3 => grd (shL (iV h3) o) (cal (icL_elementData o a1 h3) (fun r4 h5 => some (r4, h5)))))
def icS_begin_2  (f0 : Nat) (k : HP → Option (Unit × HP)) : Nat → Int32 → HP → Option (Unit × HP)
  | 0, _, _ => none
  | n + 1, v1, h => grd (shS (iV h) f0) (grd ((gT (iV h) 0).1 = 2) (cal (icA_persons h) (fun r3 h4 => if r3 ≤ v1 then (k h4) else (grd (shS (iV h4) f0) (grd ((gT (iV h4) 0).1 = 2) (onr (gR (iV h4) 0 6) (fun b8 => grd (shC (iV h4) b8) (grd (shL (iV h4) (b8 + 3)) (cal (icL_get (b8 + 3) v1 h4) (fun r11 h12 => grd ((gT (iV h12) r11).1 = 8) (grd ((gT (iV h12) (f0 + 1)).1 = 100) (grd (inb v1 (gT (iV h12) (f0 + 1)).2) (bnd (sI h12 (f0 + 1) (v1).toNatClampNeg (gI h12 r11 4)) (fun h16 => grd (shS (iV h16) f0) (grd ((gT (iV h16) 0).1 = 2) (onr (gR (iV h16) 0 6) (fun b21 => grd (shC (iV h16) b21) (grd (shL (iV h16) (b21 + 3)) (cal (icL_get (b21 + 3) v1 h16) (fun r24 h25 => grd ((gT (iV h25) r24).1 = 8) (grd ((gT (iV h25) (f0 + 2)).1 = 100) (grd (inb v1 (gT (iV h25) (f0 + 2)).2) (bnd (sI h25 (f0 + 2) (v1).toNatClampNeg (gI h25 r24 3)) (fun h29 => grd (shS (iV h29) f0) (grd (inb v1 5) (bnd (sI h29 (f0 + 3) (v1).toNatClampNeg (0 : Int32)) (fun h33 => grd (shS (iV h33) f0) (grd (inb v1 5) (bnd (sI h33 (f0 + 4) (v1).toNatClampNeg (0 : Int32)) (fun h37 => bnd (v1 + (1 : Int32)) (fun x40 => icS_begin_2 f0 k n x40 h37)))))))))))))))))))))))))))))))
def icS_begin  (o : Nat) (h : HP) : Option (Unit × HP) := bnd (0 : Int32) (fun x1 => icS_begin_2 o (fun (h41 : HP) => grd (shS (iV h41) o) (bnd (sI h41 o 4 (0 : Int32)) (fun h43 => grd (shS (iV h43) o) (bnd (sI h43 o 5 (0 : Int32)) (fun h47 => grd (shS (iV h47) o) (grd ((gT (iV h47) 0).1 = 2) (onr (gR (iV h47) 0 6) (fun b52 => grd (shC (iV h47) b52) (bnd (sI h47 o 6 (gI h47 b52 9)) (fun h55 => grd (shS (iV h55) o) (bnd (sI h55 o 7 (-1 : Int32)) (fun h59 => grd (shS (iV h59) o) (bnd (sI h59 o 9 (0 : Int32)) (fun h63 => some ((), h63))))))))))))))) FU x1 h)
def icA_init_208   (k : HP → Option (Unit × HP)) : Nat → Int32 → HP → Option (Unit × HP)
  | 0, _, _ => none
  | n + 1, v1, h => if (2 : Int32) ≤ v1 then (k h) else (grd ((gT (iV h) 0).1 = 2) (onr (gR (iV h) 0 13) (fun b167 => grd (1 ≤ gN h) (bnd (gN h) (fun b170 => bnd (sA h (6, 0) 11) (fun h171 => cal (icS_init b170 0 h171) (fun r172 h173 => grd ((gT (iV h173) b167).1 = 107) (grd ((gT (iV h173) b170).1 = 6) (grd (inb v1 (gT (iV h173) b167).2) (bnd (sR h173 b167 (v1).toNatClampNeg (some b170)) (fun h175 => bnd (v1 + (1 : Int32)) (fun x177 => icA_init_208 k n x177 h175))))))))))))
def icA_init   (h : HP) : Option (Unit × HP) := grd (1 ≤ gN h) (bnd (gN h) (fun b2 => bnd (sA h (102, 700) 700) (fun h3 => grd ((gT (iV h3) 0).1 = 2) (bnd (sR h3 0 0 (some b2)) (fun h5 => grd ((gT (iV h5) 0).1 = 2) (bnd (sI h5 0 3 (-1 : Int32)) (fun h9 => grd (1 ≤ gN h9) (bnd (gN h9) (fun b13 => bnd (sA h9 (3, 0) 9) (fun h14 => cal (icR_init b13 0 h14) (fun r15 h16 => grd ((gT (iV h16) 0).1 = 2) (bnd (sR h16 0 5 (some b13)) (fun h18 => grd (1 ≤ gN h18) (bnd (gN h18) (fun b22 => bnd (sA h18 (4, 0) 12) (fun h23 => cal (icC_init b22 h23) (fun r24 h25 => grd ((gT (iV h25) 0).1 = 2) (bnd (sR h25 0 6 (some b22)) (fun h27 => grd (1 ≤ gN h27) (bnd (gN h27) (fun b31 => bnd (sA h27 (101, 7) 7) (fun h32 => grd ((gT (iV h32) 0).1 = 2) (bnd (sR h32 0 7 (some b31)) (fun h34 => grd (1 ≤ gN h34) (bnd (gN h34) (fun b38 => bnd (sA h34 (106, 4) 4) (fun h39 => grd (1 ≤ gN h39) (bnd (gN h39) (fun b41 => bnd (sA h39 (16, 0) 0) (fun h42 => cal (ikX5_init b41 h42) (fun r43 h44 => grd ((gT (iV h44) b38).1 = 106) (grd ((gT (iV h44) b41).1 = 16 ∨ (gT (iV h44) b41).1 = 17 ∨ (gT (iV h44) b41).1 = 18 ∨ (gT (iV h44) b41).1 = 19) (grd (inb (0 : Int32) (gT (iV h44) b38).2) (bnd (sR h44 b38 ((0 : Int32)).toNatClampNeg (some b41)) (fun h46 => grd (1 ≤ gN h46) (bnd (gN h46) (fun b49 => bnd (sA h46 (17, 0) 0) (fun h50 => cal (ikX6_init b49 h50) (fun r51 h52 => grd ((gT (iV h52) b38).1 = 106) (grd ((gT (iV h52) b49).1 = 16 ∨ (gT (iV h52) b49).1 = 17 ∨ (gT (iV h52) b49).1 = 18 ∨ (gT (iV h52) b49).1 = 19) (grd (inb (1 : Int32) (gT (iV h52) b38).2) (bnd (sR h52 b38 ((1 : Int32)).toNatClampNeg (some b49)) (fun h54 => grd (1 ≤ gN h54) (bnd (gN h54) (fun b57 => bnd (sA h54 (18, 0) 0) (fun h58 => cal (ikX7_init b57 h58) (fun r59 h60 => grd ((gT (iV h60) b38).1 = 106) (grd ((gT (iV h60) b57).1 = 16 ∨ (gT (iV h60) b57).1 = 17 ∨ (gT (iV h60) b57).1 = 18 ∨ (gT (iV h60) b57).1 = 19) (grd (inb (2 : Int32) (gT (iV h60) b38).2) (bnd (sR h60 b38 ((2 : Int32)).toNatClampNeg (some b57)) (fun h62 => grd (1 ≤ gN h62) (bnd (gN h62) (fun b65 => bnd (sA h62 (19, 0) 0) (fun h66 => cal (ikX8_init b65 h66) (fun r67 h68 => grd ((gT (iV h68) b38).1 = 106) (grd ((gT (iV h68) b65).1 = 16 ∨ (gT (iV h68) b65).1 = 17 ∨ (gT (iV h68) b65).1 = 18 ∨ (gT (iV h68) b65).1 = 19) (grd (inb (3 : Int32) (gT (iV h68) b38).2) (bnd (sR h68 b38 ((3 : Int32)).toNatClampNeg (some b65)) (fun h70 => grd ((gT (iV h70) 0).1 = 2) (bnd (sR h70 0 8 (some b38)) (fun h73 => grd (1 ≤ gN h73) (bnd (gN h73) (fun b77 => bnd (sA h73 (6, 0) 11) (fun h78 => cal (icS_init b77 0 h78) (fun r79 h80 => grd ((gT (iV h80) 0).1 = 2) (bnd (sR h80 0 9 (some b77)) (fun h82 => grd (1 ≤ gN h82) (bnd (gN h82) (fun b86 => bnd (sA h82 (6, 0) 11) (fun h87 => cal (icS_init b86 0 h87) (fun r88 h89 => grd ((gT (iV h89) 0).1 = 2) (bnd (sR h89 0 10 (some b86)) (fun h91 => grd (1 ≤ gN h91) (bnd (gN h91) (fun b95 => bnd (sA h91 (6, 0) 11) (fun h96 => cal (icS_init b95 0 h96) (fun r97 h98 => grd ((gT (iV h98) 0).1 = 2) (bnd (sR h98 0 11 (some b95)) (fun h100 => grd (1 ≤ gN h100) (bnd (gN h100) (fun b104 => bnd (sA h100 (107, 20) 20) (fun h105 => grd ((gT (iV h105) 0).1 = 2) (bnd (sR h105 0 12 (some b104)) (fun h107 => grd (1 ≤ gN h107) (bnd (gN h107) (fun b111 => bnd (sA h107 (107, 2) 2) (fun h112 => grd ((gT (iV h112) 0).1 = 2) (bnd (sR h112 0 13 (some b111)) (fun h114 => grd (1 ≤ gN h114) (bnd (gN h114) (fun b118 => bnd (sA h114 (100, 2) 2) (fun h119 => grd ((gT (iV h119) 0).1 = 2) (bnd (sR h119 0 15 (some b118)) (fun h121 => grd (1 ≤ gN h121) (bnd (gN h121) (fun b125 => bnd (sA h121 (100, 2) 2) (fun h126 => grd ((gT (iV h126) 0).1 = 2) (bnd (sR h126 0 16 (some b125)) (fun h128 => grd (1 ≤ gN h128) (bnd (gN h128) (fun b132 => bnd (sA h128 (100, 81) 81) (fun h133 => grd ((gT (iV h133) 0).1 = 2) (bnd (sR h133 0 19 (some b132)) (fun h135 => grd (1 ≤ gN h135) (bnd (gN h135) (fun b139 => bnd (sA h135 (100, 81) 81) (fun h140 => grd ((gT (iV h140) 0).1 = 2) (bnd (sR h140 0 20 (some b139)) (fun h142 => grd (1 ≤ gN h142) (bnd (gN h142) (fun b146 => bnd (sA h142 (5, 0) 3) (fun h147 => cal (icL_init b146 (24 : Int32) h147) (fun r148 h149 => grd ((gT (iV h149) 0).1 = 2) (bnd (sR h149 0 21 (some b146)) (fun h151 => grd (1 ≤ gN h151) (bnd (gN h151) (fun b155 => bnd (sA h151 (103, 24) 24) (fun h156 => grd ((gT (iV h156) 0).1 = 2) (bnd (sR h156 0 22 (some b155)) (fun h158 => grd ((gT (iV h158) 0).1 = 2) (bnd (sI h158 0 23 (-1 : Int32)) (fun h162 => bnd (0 : Int32) (fun x165 => icA_init_208 (fun (h178 : HP) => grd ((gT (iV h178) 0).1 = 2) (onr (gR (iV h178) 0 9) (fun b180 => grd (shS (iV h178) b180) (cal (icS_begin b180 h178) (fun r182 h183 => some ((), h183)))))) FU x165 h162)))))))))))))))))))))))))))))))))))))))))))))))))))))))))))))))))))))))))))))))))))))))))))))))))))))))))))))))))))))))))))
def ikX10_plain_32   (k : HP → Option (Unit × HP)) : Nat → Int32 → HP → Option (Unit × HP)
  | 0, _, _ => none
  | n + 1, v1, h => if (2 : Int32) ≤ v1 then (k h) else (grd ((gT (iV h) 0).1 = 1) (onr (gR (iV h) 0 22) (fun b27 => grd ((gT (iV h) b27).1 = 103) (grd (inb v1 (gT (iV h) b27).2) (bnd (sI h b27 (v1).toNatClampNeg (0 : Int32)) (fun h30 => grd ((gT (iV h30) 0).1 = 1) (onr (gR (iV h30) 0 23) (fun b34 => jon (fun (s37 : Int32) => grd ((gT (iV h30) b34).1 = 100) (grd (inb ((2 : Int32) + v1) (gT (iV h30) b34).2) (bnd (sI h30 b34 (((2 : Int32) + v1)).toNatClampNeg s37) (fun h39 => grd ((gT (iV h39) 0).1 = 1) (onr (gR (iV h39) 0 38) (fun b43 => grd ((gT (iV h39) b43).1 = 103) (grd (inb ((2 : Int32) + v1) (gT (iV h39) b43).2) (bnd (sI h39 b43 (((2 : Int32) + v1)).toNatClampNeg (0 : Int32)) (fun h46 => bnd (v1 + (1 : Int32)) (fun x49 => ikX10_plain_32 k n x49 h46)))))))))) (fun j36 => if v1 = 0 then (j36 (9 : Int32)) else (j36 (0 : Int32)))))))))))
def ikX10_plain   (h : HP) : Option (Unit × HP) := grd ((gT (iV h) 0).1 = 1) (bnd (sI h 0 17 (0 : Int32)) (fun h2 => grd ((gT (iV h2) 0).1 = 1) (bnd (sI h2 0 18 (0 : Int32)) (fun h6 => grd ((gT (iV h6) 0).1 = 1) (bnd (sI h6 0 19 (0 : Int32)) (fun h10 => grd ((gT (iV h10) 0).1 = 1) (bnd (sI h10 0 20 (0 : Int32)) (fun h14 => grd ((gT (iV h14) 0).1 = 1) (bnd (sI h14 0 21 (0 : Int32)) (fun h18 => grd ((gT (iV h18) 0).1 = 1) (bnd (sI h18 0 49 (0 : Int32)) (fun h22 => bnd (0 : Int32) (fun x25 => ikX10_plain_32 (fun (h50 : HP) => some ((), h50)) FU x25 h22)))))))))))))
def ikX10_copies_2  (f0 : Nat) (f1 : Int32) (k : HP → Option (Unit × HP)) : Nat → Int32 → HP → Option (Unit × HP)
  | 0, _, _ => none
  | n + 1, v2, h => if f1 ≤ v2 then (k h) else (grd ((gT (iV h) f0).1 = 100) (grd (inb (f1 + v2) (gT (iV h) f0).2) (grd (inb v2 (gT (iV h) f0).2) (bnd (sI h f0 (v2).toNatClampNeg (gI h f0 ((f1 + v2)).toNatClampNeg)) (fun h3 => bnd (v2 + (1 : Int32)) (fun x6 => ikX10_copies_2 f0 f1 k n x6 h3))))))
def ikX10_copies  (a1 : Nat) (a2 : Int32) (h : HP) : Option (Unit × HP) := bnd (0 : Int32) (fun x1 => ikX10_copies_2 a1 a2 (fun (h7 : HP) => some ((), h7)) FU x1 h)
def ikX10_atFirst_2  (f1 : Int32) (k : HP → Option (Unit × HP)) : Nat → Int32 → HP → Option (Unit × HP)
  | 0, _, _ => none
  | n + 1, v2, h => if (5 : Int32) ≤ v2 then (k h) else (grd ((gT (iV h) 0).1 = 1) (onr (gR (iV h) 0 55) (fun b3 => jon (fun (s6 : Int32) => grd ((gT (iV h) b3).1 = 100) (grd (inb (((5 : Int32) * f1) + v2) (gT (iV h) b3).2) (bnd (sI h b3 ((((5 : Int32) * f1) + v2)).toNatClampNeg s6) (fun h8 => grd ((gT (iV h8) 0).1 = 1) (onr (gR (iV h8) 0 56) (fun b12 => grd ((gT (iV h8) b12).1 = 100) (grd (inb (((5 : Int32) * f1) + v2) (gT (iV h8) b12).2) (bnd (sI h8 b12 ((((5 : Int32) * f1) + v2)).toNatClampNeg (0 : Int32)) (fun h15 => grd ((gT (iV h15) 0).1 = 1) (onr (gR (iV h15) 0 57) (fun b19 => onr (gR (iV h15) 0 28) (fun b21 => grd ((gT (iV h15) b21).1 = 100) (grd (inb v2 (gT (iV h15) b21).2) (grd ((gT (iV h15) b19).1 = 100) (grd (inb (((5 : Int32) * f1) + v2) (gT (iV h15) b19).2) (bnd (sI h15 b19 ((((5 : Int32) * f1) + v2)).toNatClampNeg (gI h15 b21 (v2).toNatClampNeg)) (fun h25 => grd ((gT (iV h25) 0).1 = 1) (onr (gR (iV h25) 0 58) (fun b29 => grd ((gT (iV h25) b29).1 = 100) (grd (inb (((5 : Int32) * f1) + v2) (gT (iV h25) b29).2) (bnd (sI h25 b29 ((((5 : Int32) * f1) + v2)).toNatClampNeg (0 : Int32)) (fun h32 => bnd (v2 + (1 : Int32)) (fun x35 => ikX10_atFirst_2 f1 k n x35 h32))))))))))))))))))))))) (fun j5 => if (gI h 0 13) ≤ v2 then (j5 (0 : Int32)) else (onr (gR (iV h) 0 29) (fun b36 => grd ((gT (iV h) b36).1 = 100) (grd (inb v2 (gT (iV h) b36).2) (j5 (gI h b36 (v2).toNatClampNeg)))))))))
def ikX10_atFirst  (a1 : Int32) (h : HP) : Option (Unit × HP) := bnd (0 : Int32) (fun x1 => ikX10_atFirst_2 a1 (fun (h39 : HP) => grd ((gT (iV h39) 0).1 = 1) (onr (gR (iV h39) 0 59) (fun b41 => grd ((gT (iV h39) b41).1 = 100) (grd (inb a1 (gT (iV h39) b41).2) (bnd (sI h39 b41 (a1).toNatClampNeg (0 : Int32)) (fun h44 => some ((), h44))))))) FU x1 h)
def ikX10_plainTried   (h : HP) : Option (Unit × HP) := grd ((gT (iV h) 0).1 = 1) (bnd (sI h 0 62 (0 : Int32)) (fun h2 => grd ((gT (iV h2) 0).1 = 1) (bnd (sI h2 0 63 (0 : Int32)) (fun h6 => grd ((gT (iV h6) 0).1 = 1) (bnd (sI h6 0 64 (0 : Int32)) (fun h10 => grd ((gT (iV h10) 0).1 = 1) (bnd (sI h10 0 65 (0 : Int32)) (fun h14 => grd ((gT (iV h14) 0).1 = 1) (bnd (sI h14 0 66 (0 : Int32)) (fun h18 => grd ((gT (iV h18) 0).1 = 1) (bnd (sI h18 0 67 (-1 : Int32)) (fun h22 => some ((), h22)))))))))))))
def ikX10_begin   (h : HP) : Option (Unit × HP) := grd ((gT (iV h) 0).1 = 1) (cal (ikX10_atFirst (0 : Int32) h) (fun r1 h2 => grd ((gT (iV h2) 0).1 = 1) (bnd (sI h2 0 60 (0 : Int32)) (fun h5 => grd ((gT (iV h5) 0).1 = 1) (onr (gR (iV h5) 0 23) (fun b9 => grd ((gT (iV h5) b9).1 = 100) (grd (inb (1 : Int32) (gT (iV h5) b9).2) (bnd (sL h5 0 61 ((gI h5 b9 ((1 : Int32)).toNatClampNeg)).toInt64) (fun h12 => grd ((gT (iV h12) 0).1 = 1) (cal (ikX10_plainTried h12) (fun r15 h16 => grd ((gT (iV h16) 0).1 = 1) (bnd (sI h16 0 71 (0 : Int32)) (fun h19 => grd ((gT (iV h19) 0).1 = 1) (bnd (sI h19 0 72 (-1 : Int32)) (fun h23 => grd ((gT (iV h23) 0).1 = 1) (bnd (sI h23 0 75 (0 : Int32)) (fun h27 => grd ((gT (iV h27) 0).1 = 1) (bnd (sI h27 0 78 (0 : Int32)) (fun h31 => some ((), h31))))))))))))))))))))
def ikX10_keepText_171   (k : HP → Option (Unit × HP)) : Nat → Int32 → HP → Option (Unit × HP)
  | 0, _, _ => none
  | n + 1, v1, h => if (2 : Int32) ≤ v1 then (k h) else (grd ((gT (iV h) 0).1 = 1) (onr (gR (iV h) 0 38) (fun b98 => onr (gR (iV h) 0 38) (fun b100 => grd ((gT (iV h) b100).1 = 103) (grd (inb ((2 : Int32) + v1) (gT (iV h) b100).2) (grd ((gT (iV h) b98).1 = 103) (grd (isB (gI h b100 (((2 : Int32) + v1)).toNatClampNeg)) (grd (inb v1 (gT (iV h) b98).2) (bnd (sI h b98 (v1).toNatClampNeg (gI h b100 (((2 : Int32) + v1)).toNatClampNeg)) (fun h105 => bnd (v1 + (1 : Int32)) (fun x108 => ikX10_keepText_171 k n x108 h105)))))))))))
def ikX10_keepText   (h : HP) : Option (Unit × HP) := grd ((gT (iV h) 0).1 = 1) (bnd (sI h 0 12 (gI h 0 17)) (fun h2 => grd ((gT (iV h2) 0).1 = 1) (bnd (sI h2 0 13 (gI h2 0 18)) (fun h6 => grd ((gT (iV h6) 0).1 = 1) (bnd (sI h6 0 14 (gI h6 0 19)) (fun h10 => grd ((gT (iV h10) 0).1 = 1) (bnd (sI h10 0 15 (gI h10 0 20)) (fun h14 => grd ((gT (iV h14) 0).1 = 1) (bnd (sI h14 0 16 (gI h14 0 21)) (fun h18 => grd ((gT (iV h18) 0).1 = 1) (onr (gR (iV h18) 0 23) (fun b22 => cal (ikX10_copies b22 (2 : Int32) h18) (fun r24 h25 => grd ((gT (iV h25) 0).1 = 1) (onr (gR (iV h25) 0 24) (fun b27 => cal (ikX10_copies b27 (8 : Int32) h25) (fun r29 h30 => grd ((gT (iV h30) 0).1 = 1) (onr (gR (iV h30) 0 25) (fun b32 => cal (ikX10_copies b32 (5 : Int32) h30) (fun r34 h35 => grd ((gT (iV h35) 0).1 = 1) (onr (gR (iV h35) 0 26) (fun b37 => cal (ikX10_copies b37 (5 : Int32) h35) (fun r39 h40 => grd ((gT (iV h40) 0).1 = 1) (onr (gR (iV h40) 0 27) (fun b42 => cal (ikX10_copies b42 (5 : Int32) h40) (fun r44 h45 => grd ((gT (iV h45) 0).1 = 1) (onr (gR (iV h45) 0 28) (fun b47 => cal (ikX10_copies b47 (5 : Int32) h45) (fun r49 h50 => grd ((gT (iV h50) 0).1 = 1) (onr (gR (iV h50) 0 29) (fun b52 => cal (ikX10_copies b52 (5 : Int32) h50) (fun r54 h55 => grd ((gT (iV h55) 0).1 = 1) (onr (gR (iV h55) 0 30) (fun b57 => cal (ikX10_copies b57 (8 : Int32) h55) (fun r59 h60 => grd ((gT (iV h60) 0).1 = 1) (onr (gR (iV h60) 0 31) (fun b62 => cal (ikX10_copies b62 (8 : Int32) h60) (fun r64 h65 => grd ((gT (iV h65) 0).1 = 1) (onr (gR (iV h65) 0 32) (fun b67 => cal (ikX10_copies b67 (8 : Int32) h65) (fun r69 h70 => grd ((gT (iV h70) 0).1 = 1) (onr (gR (iV h70) 0 33) (fun b72 => cal (ikX10_copies b72 (8 : Int32) h70) (fun r74 h75 => grd ((gT (iV h75) 0).1 = 1) (onr (gR (iV h75) 0 34) (fun b77 => cal (ikX10_copies b77 (8 : Int32) h75) (fun r79 h80 => grd ((gT (iV h80) 0).1 = 1) (onr (gR (iV h80) 0 35) (fun b82 => cal (ikX10_copies b82 (10 : Int32) h80) (fun r84 h85 => grd ((gT (iV h85) 0).1 = 1) (onr (gR (iV h85) 0 36) (fun b87 => cal (ikX10_copies b87 (10 : Int32) h85) (fun r89 h90 => grd ((gT (iV h90) 0).1 = 1) (onr (gR (iV h90) 0 37) (fun b92 => cal (ikX10_copies b92 (10 : Int32) h90) (fun r94 h95 => bnd (0 : Int32) (fun x96 => ikX10_keepText_171 (fun (h109 : HP) => grd ((gT (iV h109) 0).1 = 1) (onr (gR (iV h109) 0 39) (fun b111 => cal (ikX10_copies b111 (2 : Int32) h109) (fun r113 h114 => grd ((gT (iV h114) 0).1 = 1) (onr (gR (iV h114) 0 40) (fun b116 => cal (ikX10_copies b116 (2 : Int32) h114) (fun r118 h119 => grd ((gT (iV h119) 0).1 = 1) (onr (gR (iV h119) 0 41) (fun b121 => cal (ikX10_copies b121 (64 : Int32) h119) (fun r123 h124 => grd ((gT (iV h124) 0).1 = 1) (onr (gR (iV h124) 0 42) (fun b126 => cal (ikX10_copies b126 (64 : Int32) h124) (fun r128 h129 => grd ((gT (iV h129) 0).1 = 1) (onr (gR (iV h129) 0 43) (fun b131 => cal (ikX10_copies b131 (64 : Int32) h129) (fun r133 h134 => grd ((gT (iV h134) 0).1 = 1) (cal (ikX10_begin h134) (fun r135 h136 => some ((), h136))))))))))))))))))) FU x96 h95))))))))))))))))))))))))))))))))))))))))))))))))))))))))
def ikX10_init   (h : HP) : Option (Unit × HP) := grd (1 ≤ gN h) (bnd (gN h) (fun b2 => bnd (sA h (100, 700) 700) (fun h3 => grd ((gT (iV h3) 0).1 = 1) (bnd (sR h3 0 0 (some b2)) (fun h5 => grd (1 ≤ gN h5) (bnd (gN h5) (fun b9 => bnd (sA h5 (100, 124) 124) (fun h10 => grd ((gT (iV h10) b9).1 = 100) (grd (inb (0 : Int32) (gT (iV h10) b9).2) (bnd (sI h10 b9 ((0 : Int32)).toNatClampNeg (102 : Int32)) (fun h12 => grd ((gT (iV h12) b9).1 = 100) (grd (inb (1 : Int32) (gT (iV h12) b9).2) (bnd (sI h12 b9 ((1 : Int32)).toNatClampNeg (97 : Int32)) (fun h16 => grd ((gT (iV h16) b9).1 = 100) (grd (inb (2 : Int32) (gT (iV h16) b9).2) (bnd (sI h16 b9 ((2 : Int32)).toNatClampNeg (99 : Int32)) (fun h20 => grd ((gT (iV h20) b9).1 = 100) (grd (inb (3 : Int32) (gT (iV h20) b9).2) (bnd (sI h20 b9 ((3 : Int32)).toNatClampNeg (116 : Int32)) (fun h24 => grd ((gT (iV h24) b9).1 = 100) (grd (inb (4 : Int32) (gT (iV h24) b9).2) (bnd (sI h24 b9 ((4 : Int32)).toNatClampNeg (32 : Int32)) (fun h28 => grd ((gT (iV h28) b9).1 = 100) (grd (inb (5 : Int32) (gT (iV h28) b9).2) (bnd (sI h28 b9 ((5 : Int32)).toNatClampNeg (112 : Int32)) (fun h32 => grd ((gT (iV h32) b9).1 = 100) (grd (inb (6 : Int32) (gT (iV h32) b9).2) (bnd (sI h32 b9 ((6 : Int32)).toNatClampNeg (101 : Int32)) (fun h36 => grd ((gT (iV h36) b9).1 = 100) (grd (inb (7 : Int32) (gT (iV h36) b9).2) (bnd (sI h36 b9 ((7 : Int32)).toNatClampNeg (114 : Int32)) (fun h40 => grd ((gT (iV h40) b9).1 = 100) (grd (inb (8 : Int32) (gT (iV h40) b9).2) (bnd (sI h40 b9 ((8 : Int32)).toNatClampNeg (115 : Int32)) (fun h44 => grd ((gT (iV h44) b9).1 = 100) (grd (inb (9 : Int32) (gT (iV h44) b9).2) (bnd (sI h44 b9 ((9 : Int32)).toNatClampNeg (111 : Int32)) (fun h48 => grd ((gT (iV h48) b9).1 = 100) (grd (inb (10 : Int32) (gT (iV h48) b9).2) (bnd (sI h48 b9 ((10 : Int32)).toNatClampNeg (110 : Int32)) (fun h52 => grd ((gT (iV h52) b9).1 = 100) (grd (inb (11 : Int32) (gT (iV h52) b9).2) (bnd (sI h52 b9 ((11 : Int32)).toNatClampNeg (32 : Int32)) (fun h56 => grd ((gT (iV h56) b9).1 = 100) (grd (inb (12 : Int32) (gT (iV h56) b9).2) (bnd (sI h56 b9 ((12 : Int32)).toNatClampNeg (107 : Int32)) (fun h60 => grd ((gT (iV h60) b9).1 = 100) (grd (inb (13 : Int32) (gT (iV h60) b9).2) (bnd (sI h60 b9 ((13 : Int32)).toNatClampNeg (110 : Int32)) (fun h64 => grd ((gT (iV h64) b9).1 = 100) (grd (inb (14 : Int32) (gT (iV h64) b9).2) (bnd (sI h64 b9 ((14 : Int32)).toNatClampNeg (111 : Int32)) (fun h68 => grd ((gT (iV h68) b9).1 = 100) (grd (inb (15 : Int32) (gT (iV h68) b9).2) (bnd (sI h68 b9 ((15 : Int32)).toNatClampNeg (119 : Int32)) (fun h72 => grd ((gT (iV h72) b9).1 = 100) (grd (inb (16 : Int32) (gT (iV h72) b9).2) (bnd (sI h72 b9 ((16 : Int32)).toNatClampNeg (115 : Int32)) (fun h76 => grd ((gT (iV h76) b9).1 = 100) (grd (inb (17 : Int32) (gT (iV h76) b9).2) (bnd (sI h76 b9 ((17 : Int32)).toNatClampNeg (32 : Int32)) (fun h80 => grd ((gT (iV h80) b9).1 = 100) (grd (inb (18 : Int32) (gT (iV h80) b9).2) (bnd (sI h80 b9 ((18 : Int32)).toNatClampNeg (97 : Int32)) (fun h84 => grd ((gT (iV h84) b9).1 = 100) (grd (inb (19 : Int32) (gT (iV h84) b9).2) (bnd (sI h84 b9 ((19 : Int32)).toNatClampNeg (115 : Int32)) (fun h88 => grd ((gT (iV h88) b9).1 = 100) (grd (inb (20 : Int32) (gT (iV h88) b9).2) (bnd (sI h88 b9 ((20 : Int32)).toNatClampNeg (107 : Int32)) (fun h92 => grd ((gT (iV h92) b9).1 = 100) (grd (inb (21 : Int32) (gT (iV h92) b9).2) (bnd (sI h92 b9 ((21 : Int32)).toNatClampNeg (32 : Int32)) (fun h96 => grd ((gT (iV h96) b9).1 = 100) (grd (inb (22 : Int32) (gT (iV h96) b9).2) (bnd (sI h96 b9 ((22 : Int32)).toNatClampNeg (116 : Int32)) (fun h100 => grd ((gT (iV h100) b9).1 = 100) (grd (inb (23 : Int32) (gT (iV h100) b9).2) (bnd (sI h100 b9 ((23 : Int32)).toNatClampNeg (97 : Int32)) (fun h104 => grd ((gT (iV h104) b9).1 = 100) (grd (inb (24 : Int32) (gT (iV h104) b9).2) (bnd (sI h104 b9 ((24 : Int32)).toNatClampNeg (108 : Int32)) (fun h108 => grd ((gT (iV h108) b9).1 = 100) (grd (inb (25 : Int32) (gT (iV h108) b9).2) (bnd (sI h108 b9 ((25 : Int32)).toNatClampNeg (107 : Int32)) (fun h112 => grd ((gT (iV h112) b9).1 = 100) (grd (inb (26 : Int32) (gT (iV h112) b9).2) (bnd (sI h112 b9 ((26 : Int32)).toNatClampNeg (32 : Int32)) (fun h116 => grd ((gT (iV h116) b9).1 = 100) (grd (inb (27 : Int32) (gT (iV h116) b9).2) (bnd (sI h116 b9 ((27 : Int32)).toNatClampNeg (110 : Int32)) (fun h120 => grd ((gT (iV h120) b9).1 = 100) (grd (inb (28 : Int32) (gT (iV h120) b9).2) (bnd (sI h120 b9 ((28 : Int32)).toNatClampNeg (105 : Int32)) (fun h124 => grd ((gT (iV h124) b9).1 = 100) (grd (inb (29 : Int32) (gT (iV h124) b9).2) (bnd (sI h124 b9 ((29 : Int32)).toNatClampNeg (110 : Int32)) (fun h128 => grd ((gT (iV h128) b9).1 = 100) (grd (inb (30 : Int32) (gT (iV h128) b9).2) (bnd (sI h128 b9 ((30 : Int32)).toNatClampNeg (101 : Int32)) (fun h132 => grd ((gT (iV h132) b9).1 = 100) (grd (inb (31 : Int32) (gT (iV h132) b9).2) (bnd (sI h132 b9 ((31 : Int32)).toNatClampNeg (32 : Int32)) (fun h136 => grd ((gT (iV h136) b9).1 = 100) (grd (inb (32 : Int32) (gT (iV h136) b9).2) (bnd (sI h136 b9 ((32 : Int32)).toNatClampNeg (115 : Int32)) (fun h140 => grd ((gT (iV h140) b9).1 = 100) (grd (inb (33 : Int32) (gT (iV h140) b9).2) (bnd (sI h140 b9 ((33 : Int32)).toNatClampNeg (101 : Int32)) (fun h144 => grd ((gT (iV h144) b9).1 = 100) (grd (inb (34 : Int32) (gT (iV h144) b9).2) (bnd (sI h144 b9 ((34 : Int32)).toNatClampNeg (101 : Int32)) (fun h148 => grd ((gT (iV h148) b9).1 = 100) (grd (inb (35 : Int32) (gT (iV h148) b9).2) (bnd (sI h148 b9 ((35 : Int32)).toNatClampNeg (100 : Int32)) (fun h152 => grd ((gT (iV h152) b9).1 = 100) (grd (inb (36 : Int32) (gT (iV h152) b9).2) (bnd (sI h152 b9 ((36 : Int32)).toNatClampNeg (32 : Int32)) (fun h156 => grd ((gT (iV h156) b9).1 = 100) (grd (inb (37 : Int32) (gT (iV h156) b9).2) (bnd (sI h156 b9 ((37 : Int32)).toNatClampNeg (108 : Int32)) (fun h160 => grd ((gT (iV h160) b9).1 = 100) (grd (inb (38 : Int32) (gT (iV h160) b9).2) (bnd (sI h160 b9 ((38 : Int32)).toNatClampNeg (97 : Int32)) (fun h164 => grd ((gT (iV h164) b9).1 = 100) (grd (inb (39 : Int32) (gT (iV h164) b9).2) (bnd (sI h164 b9 ((39 : Int32)).toNatClampNeg (119 : Int32)) (fun h168 => grd ((gT (iV h168) b9).1 = 100) (grd (inb (40 : Int32) (gT (iV h168) b9).2) (bnd (sI h168 b9 ((40 : Int32)).toNatClampNeg (32 : Int32)) (fun h172 => grd ((gT (iV h172) b9).1 = 100) (grd (inb (41 : Int32) (gT (iV h172) b9).2) (bnd (sI h172 b9 ((41 : Int32)).toNatClampNeg (112 : Int32)) (fun h176 => grd ((gT (iV h176) b9).1 = 100) (grd (inb (42 : Int32) (gT (iV h176) b9).2) (bnd (sI h176 b9 ((42 : Int32)).toNatClampNeg (108 : Int32)) (fun h180 => grd ((gT (iV h180) b9).1 = 100) (grd (inb (43 : Int32) (gT (iV h180) b9).2) (bnd (sI h180 b9 ((43 : Int32)).toNatClampNeg (97 : Int32)) (fun h184 => grd ((gT (iV h184) b9).1 = 100) (grd (inb (44 : Int32) (gT (iV h184) b9).2) (bnd (sI h184 b9 ((44 : Int32)).toNatClampNeg (105 : Int32)) (fun h188 => grd ((gT (iV h188) b9).1 = 100) (grd (inb (45 : Int32) (gT (iV h188) b9).2) (bnd (sI h188 b9 ((45 : Int32)).toNatClampNeg (110 : Int32)) (fun h192 => grd ((gT (iV h192) b9).1 = 100) (grd (inb (46 : Int32) (gT (iV h192) b9).2) (bnd (sI h192 b9 ((46 : Int32)).toNatClampNeg (32 : Int32)) (fun h196 => grd ((gT (iV h196) b9).1 = 100) (grd (inb (47 : Int32) (gT (iV h196) b9).2) (bnd (sI h196 b9 ((47 : Int32)).toNatClampNeg (100 : Int32)) (fun h200 => grd ((gT (iV h200) b9).1 = 100) (grd (inb (48 : Int32) (gT (iV h200) b9).2) (bnd (sI h200 b9 ((48 : Int32)).toNatClampNeg (111 : Int32)) (fun h204 => grd ((gT (iV h204) b9).1 = 100) (grd (inb (49 : Int32) (gT (iV h204) b9).2) (bnd (sI h204 b9 ((49 : Int32)).toNatClampNeg (117 : Int32)) (fun h208 => grd ((gT (iV h208) b9).1 = 100) (grd (inb (50 : Int32) (gT (iV h208) b9).2) (bnd (sI h208 b9 ((50 : Int32)).toNatClampNeg (98 : Int32)) (fun h212 => grd ((gT (iV h212) b9).1 = 100) (grd (inb (51 : Int32) (gT (iV h212) b9).2) (bnd (sI h212 b9 ((51 : Int32)).toNatClampNeg (108 : Int32)) (fun h216 => grd ((gT (iV h216) b9).1 = 100) (grd (inb (52 : Int32) (gT (iV h216) b9).2) (bnd (sI h216 b9 ((52 : Int32)).toNatClampNeg (101 : Int32)) (fun h220 => grd ((gT (iV h220) b9).1 = 100) (grd (inb (53 : Int32) (gT (iV h220) b9).2) (bnd (sI h220 b9 ((53 : Int32)).toNatClampNeg (32 : Int32)) (fun h224 => grd ((gT (iV h224) b9).1 = 100) (grd (inb (54 : Int32) (gT (iV h224) b9).2) (bnd (sI h224 b9 ((54 : Int32)).toNatClampNeg (98 : Int32)) (fun h228 => grd ((gT (iV h228) b9).1 = 100) (grd (inb (55 : Int32) (gT (iV h228) b9).2) (bnd (sI h228 b9 ((55 : Int32)).toNatClampNeg (97 : Int32)) (fun h232 => grd ((gT (iV h232) b9).1 = 100) (grd (inb (56 : Int32) (gT (iV h232) b9).2) (bnd (sI h232 b9 ((56 : Int32)).toNatClampNeg (99 : Int32)) (fun h236 => grd ((gT (iV h236) b9).1 = 100) (grd (inb (57 : Int32) (gT (iV h236) b9).2) (bnd (sI h236 b9 ((57 : Int32)).toNatClampNeg (107 : Int32)) (fun h240 => grd ((gT (iV h240) b9).1 = 100) (grd (inb (58 : Int32) (gT (iV h240) b9).2) (bnd (sI h240 b9 ((58 : Int32)).toNatClampNeg (32 : Int32)) (fun h244 => grd ((gT (iV h244) b9).1 = 100) (grd (inb (59 : Int32) (gT (iV h244) b9).2) (bnd (sI h244 b9 ((59 : Int32)).toNatClampNeg (105 : Int32)) (fun h248 => grd ((gT (iV h248) b9).1 = 100) (grd (inb (60 : Int32) (gT (iV h248) b9).2) (bnd (sI h248 b9 ((60 : Int32)).toNatClampNeg (100 : Int32)) (fun h252 => grd ((gT (iV h252) b9).1 = 100) (grd (inb (61 : Int32) (gT (iV h252) b9).2) (bnd (sI h252 b9 ((61 : Int32)).toNatClampNeg (108 : Int32)) (fun h256 => grd ((gT (iV h256) b9).1 = 100) (grd (inb (62 : Int32) (gT (iV h256) b9).2) (bnd (sI h256 b9 ((62 : Int32)).toNatClampNeg (101 : Int32)) (fun h260 => grd ((gT (iV h260) b9).1 = 100) (grd (inb (63 : Int32) (gT (iV h260) b9).2) (bnd (sI h260 b9 ((63 : Int32)).toNatClampNeg (32 : Int32)) (fun h264 => grd ((gT (iV h264) b9).1 = 100) (grd (inb (64 : Int32) (gT (iV h264) b9).2) (bnd (sI h264 b9 ((64 : Int32)).toNatClampNeg (110 : Int32)) (fun h268 => grd ((gT (iV h268) b9).1 = 100) (grd (inb (65 : Int32) (gT (iV h268) b9).2) (bnd (sI h268 b9 ((65 : Int32)).toNatClampNeg (111 : Int32)) (fun h272 => grd ((gT (iV h272) b9).1 = 100) (grd (inb (66 : Int32) (gT (iV h272) b9).2) (bnd (sI h272 b9 ((66 : Int32)).toNatClampNeg (110 : Int32)) (fun h276 => grd ((gT (iV h276) b9).1 = 100) (grd (inb (67 : Int32) (gT (iV h276) b9).2) (bnd (sI h276 b9 ((67 : Int32)).toNatClampNeg (101 : Int32)) (fun h280 => grd ((gT (iV h280) b9).1 = 100) (grd (inb (68 : Int32) (gT (iV h280) b9).2) (bnd (sI h280 b9 ((68 : Int32)).toNatClampNeg (32 : Int32)) (fun h284 => grd ((gT (iV h284) b9).1 = 100) (grd (inb (69 : Int32) (gT (iV h284) b9).2) (bnd (sI h284 b9 ((69 : Int32)).toNatClampNeg (115 : Int32)) (fun h288 => grd ((gT (iV h288) b9).1 = 100) (grd (inb (70 : Int32) (gT (iV h288) b9).2) (bnd (sI h288 b9 ((70 : Int32)).toNatClampNeg (108 : Int32)) (fun h292 => grd ((gT (iV h292) b9).1 = 100) (grd (inb (71 : Int32) (gT (iV h292) b9).2) (bnd (sI h292 b9 ((71 : Int32)).toNatClampNeg (105 : Int32)) (fun h296 => grd ((gT (iV h296) b9).1 = 100) (grd (inb (72 : Int32) (gT (iV h296) b9).2) (bnd (sI h296 b9 ((72 : Int32)).toNatClampNeg (112 : Int32)) (fun h300 => grd ((gT (iV h300) b9).1 = 100) (grd (inb (73 : Int32) (gT (iV h300) b9).2) (bnd (sI h300 b9 ((73 : Int32)).toNatClampNeg (32 : Int32)) (fun h304 => grd ((gT (iV h304) b9).1 = 100) (grd (inb (74 : Int32) (gT (iV h304) b9).2) (bnd (sI h304 b9 ((74 : Int32)).toNatClampNeg (104 : Int32)) (fun h308 => grd ((gT (iV h308) b9).1 = 100) (grd (inb (75 : Int32) (gT (iV h308) b9).2) (bnd (sI h308 b9 ((75 : Int32)).toNatClampNeg (101 : Int32)) (fun h312 => grd ((gT (iV h312) b9).1 = 100) (grd (inb (76 : Int32) (gT (iV h312) b9).2) (bnd (sI h312 b9 ((76 : Int32)).toNatClampNeg (97 : Int32)) (fun h316 => grd ((gT (iV h316) b9).1 = 100) (grd (inb (77 : Int32) (gT (iV h316) b9).2) (bnd (sI h316 b9 ((77 : Int32)).toNatClampNeg (114 : Int32)) (fun h320 => grd ((gT (iV h320) b9).1 = 100) (grd (inb (78 : Int32) (gT (iV h320) b9).2) (bnd (sI h320 b9 ((78 : Int32)).toNatClampNeg (32 : Int32)) (fun h324 => grd ((gT (iV h324) b9).1 = 100) (grd (inb (79 : Int32) (gT (iV h324) b9).2) (bnd (sI h324 b9 ((79 : Int32)).toNatClampNeg (97 : Int32)) (fun h328 => grd ((gT (iV h328) b9).1 = 100) (grd (inb (80 : Int32) (gT (iV h328) b9).2) (bnd (sI h328 b9 ((80 : Int32)).toNatClampNeg (110 : Int32)) (fun h332 => grd ((gT (iV h332) b9).1 = 100) (grd (inb (81 : Int32) (gT (iV h332) b9).2) (bnd (sI h332 b9 ((81 : Int32)).toNatClampNeg (100 : Int32)) (fun h336 => grd ((gT (iV h336) b9).1 = 100) (grd (inb (82 : Int32) (gT (iV h336) b9).2) (bnd (sI h336 b9 ((82 : Int32)).toNatClampNeg (32 : Int32)) (fun h340 => grd ((gT (iV h340) b9).1 = 100) (grd (inb (83 : Int32) (gT (iV h340) b9).2) (bnd (sI h340 b9 ((83 : Int32)).toNatClampNeg (111 : Int32)) (fun h344 => grd ((gT (iV h344) b9).1 = 100) (grd (inb (84 : Int32) (gT (iV h344) b9).2) (bnd (sI h344 b9 ((84 : Int32)).toNatClampNeg (114 : Int32)) (fun h348 => grd ((gT (iV h348) b9).1 = 100) (grd (inb (85 : Int32) (gT (iV h348) b9).2) (bnd (sI h348 b9 ((85 : Int32)).toNatClampNeg (32 : Int32)) (fun h352 => grd ((gT (iV h352) b9).1 = 100) (grd (inb (86 : Int32) (gT (iV h352) b9).2) (bnd (sI h352 b9 ((86 : Int32)).toNatClampNeg (110 : Int32)) (fun h356 => grd ((gT (iV h356) b9).1 = 100) (grd (inb (87 : Int32) (gT (iV h356) b9).2) (bnd (sI h356 b9 ((87 : Int32)).toNatClampNeg (111 : Int32)) (fun h360 => grd ((gT (iV h360) b9).1 = 100) (grd (inb (88 : Int32) (gT (iV h360) b9).2) (bnd (sI h360 b9 ((88 : Int32)).toNatClampNeg (116 : Int32)) (fun h364 => grd ((gT (iV h364) b9).1 = 100) (grd (inb (89 : Int32) (gT (iV h364) b9).2) (bnd (sI h364 b9 ((89 : Int32)).toNatClampNeg (32 : Int32)) (fun h368 => grd ((gT (iV h368) b9).1 = 100) (grd (inb (90 : Int32) (gT (iV h368) b9).2) (bnd (sI h368 b9 ((90 : Int32)).toNatClampNeg (108 : Int32)) (fun h372 => grd ((gT (iV h372) b9).1 = 100) (grd (inb (91 : Int32) (gT (iV h372) b9).2) (bnd (sI h372 b9 ((91 : Int32)).toNatClampNeg (105 : Int32)) (fun h376 => grd ((gT (iV h376) b9).1 = 100) (grd (inb (92 : Int32) (gT (iV h376) b9).2) (bnd (sI h376 b9 ((92 : Int32)).toNatClampNeg (112 : Int32)) (fun h380 => grd ((gT (iV h380) b9).1 = 100) (grd (inb (93 : Int32) (gT (iV h380) b9).2) (bnd (sI h380 b9 ((93 : Int32)).toNatClampNeg (115 : Int32)) (fun h384 => grd ((gT (iV h384) b9).1 = 100) (grd (inb (94 : Int32) (gT (iV h384) b9).2) (bnd (sI h384 b9 ((94 : Int32)).toNatClampNeg (32 : Int32)) (fun h388 => grd ((gT (iV h388) b9).1 = 100) (grd (inb (95 : Int32) (gT (iV h388) b9).2) (bnd (sI h388 b9 ((95 : Int32)).toNatClampNeg (119 : Int32)) (fun h392 => grd ((gT (iV h392) b9).1 = 100) (grd (inb (96 : Int32) (gT (iV h392) b9).2) (bnd (sI h392 b9 ((96 : Int32)).toNatClampNeg (105 : Int32)) (fun h396 => grd ((gT (iV h396) b9).1 = 100) (grd (inb (97 : Int32) (gT (iV h396) b9).2) (bnd (sI h396 b9 ((97 : Int32)).toNatClampNeg (116 : Int32)) (fun h400 => grd ((gT (iV h400) b9).1 = 100) (grd (inb (98 : Int32) (gT (iV h400) b9).2) (bnd (sI h400 b9 ((98 : Int32)).toNatClampNeg (32 : Int32)) (fun h404 => grd ((gT (iV h404) b9).1 = 100) (grd (inb (99 : Int32) (gT (iV h404) b9).2) (bnd (sI h404 b9 ((99 : Int32)).toNatClampNeg (108 : Int32)) (fun h408 => grd ((gT (iV h408) b9).1 = 100) (grd (inb (100 : Int32) (gT (iV h408) b9).2) (bnd (sI h408 b9 ((100 : Int32)).toNatClampNeg (111 : Int32)) (fun h412 => grd ((gT (iV h412) b9).1 = 100) (grd (inb (101 : Int32) (gT (iV h412) b9).2) (bnd (sI h412 b9 ((101 : Int32)).toNatClampNeg (115 : Int32)) (fun h416 => grd ((gT (iV h416) b9).1 = 100) (grd (inb (102 : Int32) (gT (iV h416) b9).2) (bnd (sI h416 b9 ((102 : Int32)).toNatClampNeg (116 : Int32)) (fun h420 => grd ((gT (iV h420) b9).1 = 100) (grd (inb (103 : Int32) (gT (iV h420) b9).2) (bnd (sI h420 b9 ((103 : Int32)).toNatClampNeg (32 : Int32)) (fun h424 => grd ((gT (iV h424) b9).1 = 100) (grd (inb (104 : Int32) (gT (iV h424) b9).2) (bnd (sI h424 b9 ((104 : Int32)).toNatClampNeg (104 : Int32)) (fun h428 => grd ((gT (iV h428) b9).1 = 100) (grd (inb (105 : Int32) (gT (iV h428) b9).2) (bnd (sI h428 b9 ((105 : Int32)).toNatClampNeg (101 : Int32)) (fun h432 => grd ((gT (iV h432) b9).1 = 100) (grd (inb (106 : Int32) (gT (iV h432) b9).2) (bnd (sI h432 b9 ((106 : Int32)).toNatClampNeg (97 : Int32)) (fun h436 => grd ((gT (iV h436) b9).1 = 100) (grd (inb (107 : Int32) (gT (iV h436) b9).2) (bnd (sI h436 b9 ((107 : Int32)).toNatClampNeg (114 : Int32)) (fun h440 => grd ((gT (iV h440) b9).1 = 100) (grd (inb (108 : Int32) (gT (iV h440) b9).2) (bnd (sI h440 b9 ((108 : Int32)).toNatClampNeg (100 : Int32)) (fun h444 => grd ((gT (iV h444) b9).1 = 100) (grd (inb (109 : Int32) (gT (iV h444) b9).2) (bnd (sI h444 b9 ((109 : Int32)).toNatClampNeg (32 : Int32)) (fun h448 => grd ((gT (iV h448) b9).1 = 100) (grd (inb (110 : Int32) (gT (iV h448) b9).2) (bnd (sI h448 b9 ((110 : Int32)).toNatClampNeg (114 : Int32)) (fun h452 => grd ((gT (iV h452) b9).1 = 100) (grd (inb (111 : Int32) (gT (iV h452) b9).2) (bnd (sI h452 b9 ((111 : Int32)).toNatClampNeg (111 : Int32)) (fun h456 => grd ((gT (iV h456) b9).1 = 100) (grd (inb (112 : Int32) (gT (iV h456) b9).2) (bnd (sI h456 b9 ((112 : Int32)).toNatClampNeg (111 : Int32)) (fun h460 => grd ((gT (iV h460) b9).1 = 100) (grd (inb (113 : Int32) (gT (iV h460) b9).2) (bnd (sI h460 b9 ((113 : Int32)).toNatClampNeg (109 : Int32)) (fun h464 => grd ((gT (iV h464) b9).1 = 100) (grd (inb (114 : Int32) (gT (iV h464) b9).2) (bnd (sI h464 b9 ((114 : Int32)).toNatClampNeg (32 : Int32)) (fun h468 => grd ((gT (iV h468) b9).1 = 100) (grd (inb (115 : Int32) (gT (iV h468) b9).2) (bnd (sI h468 b9 ((115 : Int32)).toNatClampNeg (107 : Int32)) (fun h472 => grd ((gT (iV h472) b9).1 = 100) (grd (inb (116 : Int32) (gT (iV h472) b9).2) (bnd (sI h472 b9 ((116 : Int32)).toNatClampNeg (105 : Int32)) (fun h476 => grd ((gT (iV h476) b9).1 = 100) (grd (inb (117 : Int32) (gT (iV h476) b9).2) (bnd (sI h476 b9 ((117 : Int32)).toNatClampNeg (110 : Int32)) (fun h480 => grd ((gT (iV h480) b9).1 = 100) (grd (inb (118 : Int32) (gT (iV h480) b9).2) (bnd (sI h480 b9 ((118 : Int32)).toNatClampNeg (100 : Int32)) (fun h484 => grd ((gT (iV h484) b9).1 = 100) (grd (inb (119 : Int32) (gT (iV h484) b9).2) (bnd (sI h484 b9 ((119 : Int32)).toNatClampNeg (32 : Int32)) (fun h488 => grd ((gT (iV h488) b9).1 = 100) (grd (inb (120 : Int32) (gT (iV h488) b9).2) (bnd (sI h488 b9 ((120 : Int32)).toNatClampNeg (100 : Int32)) (fun h492 => grd ((gT (iV h492) b9).1 = 100) (grd (inb (121 : Int32) (gT (iV h492) b9).2) (bnd (sI h492 b9 ((121 : Int32)).toNatClampNeg (97 : Int32)) (fun h496 => grd ((gT (iV h496) b9).1 = 100) (grd (inb (122 : Int32) (gT (iV h496) b9).2) (bnd (sI h496 b9 ((122 : Int32)).toNatClampNeg (121 : Int32)) (fun h500 => grd ((gT (iV h500) b9).1 = 100) (grd (inb (123 : Int32) (gT (iV h500) b9).2) (bnd (sI h500 b9 ((123 : Int32)).toNatClampNeg (32 : Int32)) (fun h504 => grd ((gT (iV h504) 0).1 = 1) (bnd (sR h504 0 3 (some b9)) (fun h508 => grd ((gT (iV h508) 0).1 = 1) (bnd (sI h508 0 5 (-1 : Int32)) (fun h512 => grd (1 ≤ gN h512) (bnd (gN h512) (fun b516 => bnd (sA h512 (103, 2) 2) (fun h517 => grd ((gT (iV h517) 0).1 = 1) (bnd (sR h517 0 22 (some b516)) (fun h519 => grd (1 ≤ gN h519) (bnd (gN h519) (fun b523 => bnd (sA h519 (100, 4) 4) (fun h524 => grd ((gT (iV h524) 0).1 = 1) (bnd (sR h524 0 23 (some b523)) (fun h526 => grd (1 ≤ gN h526) (bnd (gN h526) (fun b530 => bnd (sA h526 (100, 16) 16) (fun h531 => grd ((gT (iV h531) 0).1 = 1) (bnd (sR h531 0 24 (some b530)) (fun h533 => grd (1 ≤ gN h533) (bnd (gN h533) (fun b537 => bnd (sA h533 (100, 10) 10) (fun h538 => grd ((gT (iV h538) 0).1 = 1) (bnd (sR h538 0 25 (some b537)) (fun h540 => grd (1 ≤ gN h540) (bnd (gN h540) (fun b544 => bnd (sA h540 (100, 10) 10) (fun h545 => grd ((gT (iV h545) 0).1 = 1) (bnd (sR h545 0 26 (some b544)) (fun h547 => grd (1 ≤ gN h547) (bnd (gN h547) (fun b551 => bnd (sA h547 (100, 10) 10) (fun h552 => grd ((gT (iV h552) 0).1 = 1) (bnd (sR h552 0 27 (some b551)) (fun h554 => grd (1 ≤ gN h554) (bnd (gN h554) (fun b558 => bnd (sA h554 (100, 10) 10) (fun h559 => grd ((gT (iV h559) 0).1 = 1) (bnd (sR h559 0 28 (some b558)) (fun h561 => grd (1 ≤ gN h561) (bnd (gN h561) (fun b565 => bnd (sA h561 (100, 10) 10) (fun h566 => grd ((gT (iV h566) 0).1 = 1) (bnd (sR h566 0 29 (some b565)) (fun h568 => grd (1 ≤ gN h568) (bnd (gN h568) (fun b572 => bnd (sA h568 (100, 16) 16) (fun h573 => grd ((gT (iV h573) 0).1 = 1) (bnd (sR h573 0 30 (some b572)) (fun h575 => grd (1 ≤ gN h575) (bnd (gN h575) (fun b579 => bnd (sA h575 (100, 16) 16) (fun h580 => grd ((gT (iV h580) 0).1 = 1) (bnd (sR h580 0 31 (some b579)) (fun h582 => grd (1 ≤ gN h582) (bnd (gN h582) (fun b586 => bnd (sA h582 (100, 16) 16) (fun h587 => grd ((gT (iV h587) 0).1 = 1) (bnd (sR h587 0 32 (some b586)) (fun h589 => grd (1 ≤ gN h589) (bnd (gN h589) (fun b593 => bnd (sA h589 (100, 16) 16) (fun h594 => grd ((gT (iV h594) 0).1 = 1) (bnd (sR h594 0 33 (some b593)) (fun h596 => grd (1 ≤ gN h596) (bnd (gN h596) (fun b600 => bnd (sA h596 (100, 16) 16) (fun h601 => grd ((gT (iV h601) 0).1 = 1) (bnd (sR h601 0 34 (some b600)) (fun h603 => grd (1 ≤ gN h603) (bnd (gN h603) (fun b607 => bnd (sA h603 (100, 20) 20) (fun h608 => grd ((gT (iV h608) 0).1 = 1) (bnd (sR h608 0 35 (some b607)) (fun h610 => grd (1 ≤ gN h610) (bnd (gN h610) (fun b614 => bnd (sA h610 (100, 20) 20) (fun h615 => grd ((gT (iV h615) 0).1 = 1) (bnd (sR h615 0 36 (some b614)) (fun h617 => grd (1 ≤ gN h617) (bnd (gN h617) (fun b621 => bnd (sA h617 (100, 20) 20) (fun h622 => grd ((gT (iV h622) 0).1 = 1) (bnd (sR h622 0 37 (some b621)) (fun h624 => grd (1 ≤ gN h624) (bnd (gN h624) (fun b628 => bnd (sA h624 (103, 4) 4) (fun h629 => grd ((gT (iV h629) 0).1 = 1) (bnd (sR h629 0 38 (some b628)) (fun h631 => grd (1 ≤ gN h631) (bnd (gN h631) (fun b635 => bnd (sA h631 (100, 4) 4) (fun h636 => grd ((gT (iV h636) 0).1 = 1) (bnd (sR h636 0 39 (some b635)) (fun h638 => grd (1 ≤ gN h638) (bnd (gN h638) (fun b642 => bnd (sA h638 (100, 4) 4) (fun h643 => grd ((gT (iV h643) 0).1 = 1) (bnd (sR h643 0 40 (some b642)) (fun h645 => grd (1 ≤ gN h645) (bnd (gN h645) (fun b649 => bnd (sA h645 (100, 128) 128) (fun h650 => grd ((gT (iV h650) 0).1 = 1) (bnd (sR h650 0 41 (some b649)) (fun h652 => grd (1 ≤ gN h652) (bnd (gN h652) (fun b656 => bnd (sA h652 (100, 128) 128) (fun h657 => grd ((gT (iV h657) 0).1 = 1) (bnd (sR h657 0 42 (some b656)) (fun h659 => grd (1 ≤ gN h659) (bnd (gN h659) (fun b663 => bnd (sA h659 (100, 128) 128) (fun h664 => grd ((gT (iV h664) 0).1 = 1) (bnd (sR h664 0 43 (some b663)) (fun h666 => grd (1 ≤ gN h666) (bnd (gN h666) (fun b670 => bnd (sA h666 (100, 96) 96) (fun h671 => grd ((gT (iV h671) 0).1 = 1) (bnd (sR h671 0 44 (some b670)) (fun h673 => grd (1 ≤ gN h673) (bnd (gN h673) (fun b677 => bnd (sA h673 (100, 96) 96) (fun h678 => grd ((gT (iV h678) 0).1 = 1) (bnd (sR h678 0 45 (some b677)) (fun h680 => grd (1 ≤ gN h680) (bnd (gN h680) (fun b684 => bnd (sA h680 (101, 7) 7) (fun h685 => grd ((gT (iV h685) 0).1 = 1) (bnd (sR h685 0 52 (some b684)) (fun h687 => grd (1 ≤ gN h687) (bnd (gN h687) (fun b691 => bnd (sA h687 (101, 64) 64) (fun h692 => grd ((gT (iV h692) 0).1 = 1) (bnd (sR h692 0 53 (some b691)) (fun h694 => grd (1 ≤ gN h694) (bnd (gN h694) (fun b698 => bnd (sA h694 (100, 10) 10) (fun h699 => grd ((gT (iV h699) 0).1 = 1) (bnd (sR h699 0 55 (some b698)) (fun h701 => grd (1 ≤ gN h701) (bnd (gN h701) (fun b705 => bnd (sA h701 (100, 10) 10) (fun h706 => grd ((gT (iV h706) 0).1 = 1) (bnd (sR h706 0 56 (some b705)) (fun h708 => grd (1 ≤ gN h708) (bnd (gN h708) (fun b712 => bnd (sA h708 (100, 10) 10) (fun h713 => grd ((gT (iV h713) 0).1 = 1) (bnd (sR h713 0 57 (some b712)) (fun h715 => grd (1 ≤ gN h715) (bnd (gN h715) (fun b719 => bnd (sA h715 (100, 10) 10) (fun h720 => grd ((gT (iV h720) 0).1 = 1) (bnd (sR h720 0 58 (some b719)) (fun h722 => grd (1 ≤ gN h722) (bnd (gN h722) (fun b726 => bnd (sA h722 (100, 2) 2) (fun h727 => grd ((gT (iV h727) 0).1 = 1) (bnd (sR h727 0 59 (some b726)) (fun h729 => grd (1 ≤ gN h729) (bnd (gN h729) (fun b733 => bnd (sA h729 (100, 2) 2) (fun h734 => grd ((gT (iV h734) 0).1 = 1) (bnd (sR h734 0 68 (some b733)) (fun h736 => grd (1 ≤ gN h736) (bnd (gN h736) (fun b740 => bnd (sA h736 (100, 81) 81) (fun h741 => grd ((gT (iV h741) 0).1 = 1) (bnd (sR h741 0 69 (some b740)) (fun h743 => grd (1 ≤ gN h743) (bnd (gN h743) (fun b747 => bnd (sA h743 (100, 81) 81) (fun h748 => grd ((gT (iV h748) 0).1 = 1) (bnd (sR h748 0 70 (some b747)) (fun h750 => grd ((gT (iV h750) 0).1 = 1) (bnd (sI h750 0 72 (-1 : Int32)) (fun h754 => grd (1 ≤ gN h754) (bnd (gN h754) (fun b758 => bnd (sA h754 (100, 96) 96) (fun h759 => grd ((gT (iV h759) 0).1 = 1) (bnd (sR h759 0 73 (some b758)) (fun h761 => grd (1 ≤ gN h761) (bnd (gN h761) (fun b765 => bnd (sA h761 (103, 24) 24) (fun h766 => grd ((gT (iV h766) 0).1 = 1) (bnd (sR h766 0 74 (some b765)) (fun h768 => grd (1 ≤ gN h768) (bnd (gN h768) (fun b772 => bnd (sA h768 (100, 440) 440) (fun h773 => grd ((gT (iV h773) 0).1 = 1) (bnd (sR h773 0 76 (some b772)) (fun h775 => grd (1 ≤ gN h775) (bnd (gN h775) (fun b779 => bnd (sA h775 (101, 20) 20) (fun h780 => grd ((gT (iV h780) 0).1 = 1) (bnd (sR h780 0 77 (some b779)) (fun h782 => grd (1 ≤ gN h782) (bnd (gN h782) (fun b786 => bnd (sA h782 (100, 22) 22) (fun h787 => grd ((gT (iV h787) 0).1 = 1) (bnd (sR h787 0 79 (some b786)) (fun h789 => grd ((gT (iV h789) 0).1 = 1) (cal (ikX10_plain h789) (fun r792 h793 => grd ((gT (iV h793) 0).1 = 1) (cal (ikX10_keepText h793) (fun r795 h796 => some ((), h796))))))))))))))))))))))))))))))))))))))))))))))))))))))))))))))))))))))))))))))))))))))))))))))))))))))))))))))))))))))))))))))))))))))))))))))))))))))))))))))))))))))))))))))))))))))))))))))))))))))))))))))))))))))))))))))))))))))))))))))))))))))))))))))))))))))))))))))))))))))))))))))))))))))))))))))))))))))))))))))))))))))))))))))))))))))))))))))))))))))))))))))))))))))))))))))))))))))))))))))))))))))))))))))))))))))))))))))))))))))))))))))))))))))))))))))))))))))))))))))))))))))))))))))))))))))))))))))))))))))))))))))))))))))))))))))))))))))))))))))))))))))))))))))))))))))))))
theorem icR_init_m  (o : Nat) (a1 : Nat) (h : HP) : mG (gN h) (gS h) (icR_init o a1 h) := by
  have key : ∀ c s : Nat, mN c s h → mG c s (icR_init o a1 h) := by
    intro c s hn
    rw [icR_init]
    refine mg_grd ?_
    refine mg_bR hn (fun h2 hn => ?_)
    exact mg_some hn
  exact key _ _ ⟨Nat.le_refl _, Nat.le_refl _⟩
theorem ikJ0_init_m  (o : Nat) (h : HP) : mG (gN h) (gS h) (ikJ0_init o h) := by
  have key : ∀ c s : Nat, mN c s h → mG c s (ikJ0_init o h) := by
    intro c s hn
    rw [ikJ0_init]
    exact mg_some hn
  exact key _ _ ⟨Nat.le_refl _, Nat.le_refl _⟩
theorem ikJ1_init_m  (o : Nat) (h : HP) : mG (gN h) (gS h) (ikJ1_init o h) := by
  have key : ∀ c s : Nat, mN c s h → mG c s (ikJ1_init o h) := by
    intro c s hn
    rw [ikJ1_init]
    refine mg_cal hn (ikJ0_init_m o h) (fun r1 h2 hn => ?_)
    refine mg_grd ?_
    refine mg_bI hn (fun h4 hn => ?_)
    exact mg_some hn
  exact key _ _ ⟨Nat.le_refl _, Nat.le_refl _⟩
theorem icL_init_m  (o : Nat) (a1 : Int32) (h : HP) : mG (gN h) (gS h) (icL_init o a1 h) := by
  have key : ∀ c s : Nat, mN c s h → mG c s (icL_init o a1 h) := by
    intro c s hn
    rw [icL_init]
    refine mg_cal hn (ikJ1_init_m o h) (fun r1 h2 hn => ?_)
    refine mg_ite ?_ ?_
    · refine mg_ite ?_ ?_
      · exact mg_none
      · exact mg_none
    · refine mg_grd ?_
      refine mg_grd ?_
      refine mg_grd ?_
      refine mg_bnd (fun b4 => ?_)
      refine mg_bA hn (fun h5 hn => ?_)
      refine mg_grd ?_
      refine mg_bR hn (fun h9 hn => ?_)
      exact mg_some hn
  exact key _ _ ⟨Nat.le_refl _, Nat.le_refl _⟩
theorem icC_init_m  (o : Nat) (h : HP) : mG (gN h) (gS h) (icC_init o h) := by
  have key : ∀ c s : Nat, mN c s h → mG c s (icC_init o h) := by
    intro c s hn
    rw [icC_init]
    refine mg_grd ?_
    refine mg_bnd (fun b2 => ?_)
    refine mg_bA hn (fun h3 hn => ?_)
    refine mg_cal hn (icL_init_m b2 (8 : Int32) h3) (fun r4 h5 hn => ?_)
    refine mg_grd ?_
    refine mg_bR hn (fun h7 hn => ?_)
    refine mg_grd ?_
    refine mg_bnd (fun b11 => ?_)
    refine mg_bA hn (fun h12 hn => ?_)
    refine mg_cal hn (icL_init_m b11 (5 : Int32) h12) (fun r13 h14 hn => ?_)
    refine mg_grd ?_
    refine mg_bR hn (fun h16 hn => ?_)
    refine mg_grd ?_
    refine mg_bnd (fun b20 => ?_)
    refine mg_bA hn (fun h21 hn => ?_)
    refine mg_cal hn (icL_init_m b20 (8 : Int32) h21) (fun r22 h23 hn => ?_)
    refine mg_grd ?_
    refine mg_bR hn (fun h25 hn => ?_)
    refine mg_grd ?_
    refine mg_bnd (fun b29 => ?_)
    refine mg_bA hn (fun h30 hn => ?_)
    refine mg_grd ?_
    refine mg_bR hn (fun h32 hn => ?_)
    refine mg_grd ?_
    refine mg_bnd (fun b36 => ?_)
    refine mg_bA hn (fun h37 hn => ?_)
    refine mg_grd ?_
    refine mg_bR hn (fun h39 hn => ?_)
    refine mg_grd ?_
    refine mg_bnd (fun b43 => ?_)
    refine mg_bA hn (fun h44 hn => ?_)
    refine mg_grd ?_
    refine mg_bR hn (fun h46 hn => ?_)
    refine mg_grd ?_
    refine mg_bnd (fun b50 => ?_)
    refine mg_bA hn (fun h51 hn => ?_)
    refine mg_grd ?_
    refine mg_bR hn (fun h53 hn => ?_)
    refine mg_grd ?_
    refine mg_bI hn (fun h57 hn => ?_)
    exact mg_some hn
  exact key _ _ ⟨Nat.le_refl _, Nat.le_refl _⟩
theorem ikX4_init_m  (o : Nat) (h : HP) : mG (gN h) (gS h) (ikX4_init o h) := by
  have key : ∀ c s : Nat, mN c s h → mG c s (ikX4_init o h) := by
    intro c s hn
    rw [ikX4_init]
    exact mg_some hn
  exact key _ _ ⟨Nat.le_refl _, Nat.le_refl _⟩
theorem ikX5_init_m  (o : Nat) (h : HP) : mG (gN h) (gS h) (ikX5_init o h) := by
  have key : ∀ c s : Nat, mN c s h → mG c s (ikX5_init o h) := by
    intro c s hn
    rw [ikX5_init]
    refine mg_cal hn (ikX4_init_m o h) (fun r1 h2 hn => ?_)
    exact mg_some hn
  exact key _ _ ⟨Nat.le_refl _, Nat.le_refl _⟩
theorem ikX6_init_m  (o : Nat) (h : HP) : mG (gN h) (gS h) (ikX6_init o h) := by
  have key : ∀ c s : Nat, mN c s h → mG c s (ikX6_init o h) := by
    intro c s hn
    rw [ikX6_init]
    refine mg_cal hn (ikX5_init_m o h) (fun r1 h2 hn => ?_)
    exact mg_some hn
  exact key _ _ ⟨Nat.le_refl _, Nat.le_refl _⟩
theorem ikX7_init_m  (o : Nat) (h : HP) : mG (gN h) (gS h) (ikX7_init o h) := by
  have key : ∀ c s : Nat, mN c s h → mG c s (ikX7_init o h) := by
    intro c s hn
    rw [ikX7_init]
    refine mg_cal hn (ikX5_init_m o h) (fun r1 h2 hn => ?_)
    exact mg_some hn
  exact key _ _ ⟨Nat.le_refl _, Nat.le_refl _⟩
theorem ikX8_init_m  (o : Nat) (h : HP) : mG (gN h) (gS h) (ikX8_init o h) := by
  have key : ∀ c s : Nat, mN c s h → mG c s (ikX8_init o h) := by
    intro c s hn
    rw [ikX8_init]
    refine mg_cal hn (ikX5_init_m o h) (fun r1 h2 hn => ?_)
    exact mg_some hn
  exact key _ _ ⟨Nat.le_refl _, Nat.le_refl _⟩
theorem icS_init_m  (o : Nat) (a1 : Nat) (h : HP) : mG (gN h) (gS h) (icS_init o a1 h) := by
  have key : ∀ c s : Nat, mN c s h → mG c s (icS_init o a1 h) := by
    intro c s hn
    rw [icS_init]
    refine mg_grd ?_
    refine mg_bR hn (fun h2 hn => ?_)
    refine mg_grd ?_
    refine mg_bnd (fun b6 => ?_)
    refine mg_bA hn (fun h7 hn => ?_)
    refine mg_grd ?_
    refine mg_bR hn (fun h9 hn => ?_)
    refine mg_grd ?_
    refine mg_bnd (fun b13 => ?_)
    refine mg_bA hn (fun h14 hn => ?_)
    refine mg_grd ?_
    refine mg_bR hn (fun h16 hn => ?_)
    refine mg_grd ?_
    refine mg_bnd (fun b20 => ?_)
    refine mg_bA hn (fun h21 hn => ?_)
    refine mg_grd ?_
    refine mg_bR hn (fun h23 hn => ?_)
    refine mg_grd ?_
    refine mg_bnd (fun b27 => ?_)
    refine mg_bA hn (fun h28 hn => ?_)
    refine mg_grd ?_
    refine mg_bR hn (fun h30 hn => ?_)
    exact mg_some hn
  exact key _ _ ⟨Nat.le_refl _, Nat.le_refl _⟩
theorem icL_size_m  (o : Nat) (h : HP) : mG (gN h) (gS h) (icL_size o h) := by
  have key : ∀ c s : Nat, mN c s h → mG c s (icL_size o h) := by
    intro c s hn
    rw [icL_size]
    refine mg_grd ?_
    exact mg_some hn
  exact key _ _ ⟨Nat.le_refl _, Nat.le_refl _⟩
theorem icA_persons_m   (h : HP) : mG (gN h) (gS h) (icA_persons  h) := by
  have key : ∀ c s : Nat, mN c s h → mG c s (icA_persons  h) := by
    intro c s hn
    rw [icA_persons]
    refine mg_grd ?_
    refine mg_onr (fun b2 => ?_)
    refine mg_grd ?_
    refine mg_grd ?_
    refine mg_cal hn (icL_size_m (b2 + 3) h) (fun r5 h6 hn => ?_)
    exact mg_some hn
  exact key _ _ ⟨Nat.le_refl _, Nat.le_refl _⟩
theorem ikJ4_checkIndex_m  (a1 : Int32) (a2 : Int32) (h : HP) : mG (gN h) (gS h) (ikJ4_checkIndex a1 a2 h) := by
  have key : ∀ c s : Nat, mN c s h → mG c s (ikJ4_checkIndex a1 a2 h) := by
    intro c s hn
    rw [ikJ4_checkIndex]
    refine mg_jon (fun (j1 : Unit → Option (Int32 × HP)) => ∀ (_u : Unit), mG c s (j1 ())) ?_ ?_
    · intro _
      exact mg_none
    · intro j1 hj1
      refine mg_ite ?_ ?_
      · exact hj1 ()
      · refine mg_ite ?_ ?_
        · exact mg_some hn
        · exact hj1 ()
  exact key _ _ ⟨Nat.le_refl _, Nat.le_refl _⟩
theorem ikJ3_checkIndex_m  (a1 : Int32) (a2 : Int32) (h : HP) : mG (gN h) (gS h) (ikJ3_checkIndex a1 a2 h) := by
  have key : ∀ c s : Nat, mN c s h → mG c s (ikJ3_checkIndex a1 a2 h) := by
    intro c s hn
    rw [ikJ3_checkIndex]
    refine mg_cal hn (ikJ4_checkIndex_m a1 a2 h) (fun r1 h2 hn => ?_)
    exact mg_some hn
  exact key _ _ ⟨Nat.le_refl _, Nat.le_refl _⟩
theorem icL_elementData_m  (o : Nat) (a1 : Int32) (h : HP) : mG (gN h) (gS h) (icL_elementData o a1 h) := by
  have key : ∀ c s : Nat, mN c s h → mG c s (icL_elementData o a1 h) := by
    intro c s hn
    rw [icL_elementData]
    refine mg_grd ?_
    refine mg_grd ?_
    refine mg_onr (fun b2 => ?_)
    exact mg_some hn
  exact key _ _ ⟨Nat.le_refl _, Nat.le_refl _⟩
theorem icL_get_m  (o : Nat) (a1 : Int32) (h : HP) : mG (gN h) (gS h) (icL_get o a1 h) := by
  have key : ∀ c s : Nat, mN c s h → mG c s (icL_get o a1 h) := by
    intro c s hn
    rw [icL_get]
    refine mg_grd ?_
    refine mg_cal hn (ikJ3_checkIndex_m a1 (gI h o 2) h) (fun r2 h3 hn => ?_)
    refine mg_grd ?_
    refine mg_cal hn (icL_elementData_m o a1 h3) (fun r4 h5 hn => ?_)
    exact mg_some hn
  exact key _ _ ⟨Nat.le_refl _, Nat.le_refl _⟩
theorem icS_begin_2_m {c s : Nat}  (f0 : Nat) (k : HP → Option (Unit × HP)) (hk : ∀  (h : HP), mN c s h → mG c s (k  h)) : ∀ (n : Nat) (v1 : Int32) (h : HP), mN c s h → mG c s (icS_begin_2 f0 k n v1 h) := by
  intro n
  induction n with
  | zero =>
    intro v1 h hn
    exact mg_none
  | succ n ih =>
    intro v1 h hn
    rw [icS_begin_2]
    refine mg_grd ?_
    refine mg_grd ?_
    refine mg_cal hn (icA_persons_m h) (fun r3 h4 hn => ?_)
    refine mg_ite ?_ ?_
    · exact hk h4 hn
    · refine mg_grd ?_
      refine mg_grd ?_
      refine mg_onr (fun b8 => ?_)
      refine mg_grd ?_
      refine mg_grd ?_
      refine mg_cal hn (icL_get_m (b8 + 3) v1 h4) (fun r11 h12 hn => ?_)
      refine mg_grd ?_
      refine mg_grd ?_
      refine mg_grd ?_
      refine mg_bI hn (fun h16 hn => ?_)
      refine mg_grd ?_
      refine mg_grd ?_
      refine mg_onr (fun b21 => ?_)
      refine mg_grd ?_
      refine mg_grd ?_
      refine mg_cal hn (icL_get_m (b21 + 3) v1 h16) (fun r24 h25 hn => ?_)
      refine mg_grd ?_
      refine mg_grd ?_
      refine mg_grd ?_
      refine mg_bI hn (fun h29 hn => ?_)
      refine mg_grd ?_
      refine mg_grd ?_
      refine mg_bI hn (fun h33 hn => ?_)
      refine mg_grd ?_
      refine mg_grd ?_
      refine mg_bI hn (fun h37 hn => ?_)
      refine mg_bnd (fun x40 => ?_)
      exact ih x40 h37 hn
theorem icS_begin_m  (o : Nat) (h : HP) : mG (gN h) (gS h) (icS_begin o h) := by
  have key : ∀ c s : Nat, mN c s h → mG c s (icS_begin o h) := by
    intro c s hn
    rw [icS_begin]
    refine mg_bnd (fun x1 => ?_)
    refine icS_begin_2_m o _ (fun  h41 hn => ?_) FU x1 h hn
    refine mg_grd ?_
    refine mg_bI hn (fun h43 hn => ?_)
    refine mg_grd ?_
    refine mg_bI hn (fun h47 hn => ?_)
    refine mg_grd ?_
    refine mg_grd ?_
    refine mg_onr (fun b52 => ?_)
    refine mg_grd ?_
    refine mg_bI hn (fun h55 hn => ?_)
    refine mg_grd ?_
    refine mg_bI hn (fun h59 hn => ?_)
    refine mg_grd ?_
    refine mg_bI hn (fun h63 hn => ?_)
    exact mg_some hn
  exact key _ _ ⟨Nat.le_refl _, Nat.le_refl _⟩
theorem icA_init_208_m {c s : Nat}   (k : HP → Option (Unit × HP)) (hk : ∀  (h : HP), mN c s h → mG c s (k  h)) : ∀ (n : Nat) (v1 : Int32) (h : HP), mN c s h → mG c s (icA_init_208 k n v1 h) := by
  intro n
  induction n with
  | zero =>
    intro v1 h hn
    exact mg_none
  | succ n ih =>
    intro v1 h hn
    rw [icA_init_208]
    refine mg_ite ?_ ?_
    · exact hk h hn
    · refine mg_grd ?_
      refine mg_onr (fun b167 => ?_)
      refine mg_grd ?_
      refine mg_bnd (fun b170 => ?_)
      refine mg_bA hn (fun h171 hn => ?_)
      refine mg_cal hn (icS_init_m b170 0 h171) (fun r172 h173 hn => ?_)
      refine mg_grd ?_
      refine mg_grd ?_
      refine mg_grd ?_
      refine mg_bR hn (fun h175 hn => ?_)
      refine mg_bnd (fun x177 => ?_)
      exact ih x177 h175 hn
theorem icA_init_m   (h : HP) : mG (gN h) (gS h) (icA_init  h) := by
  have key : ∀ c s : Nat, mN c s h → mG c s (icA_init  h) := by
    intro c s hn
    rw [icA_init]
    refine mg_grd ?_
    refine mg_bnd (fun b2 => ?_)
    refine mg_bA hn (fun h3 hn => ?_)
    refine mg_grd ?_
    refine mg_bR hn (fun h5 hn => ?_)
    refine mg_grd ?_
    refine mg_bI hn (fun h9 hn => ?_)
    refine mg_grd ?_
    refine mg_bnd (fun b13 => ?_)
    refine mg_bA hn (fun h14 hn => ?_)
    refine mg_cal hn (icR_init_m b13 0 h14) (fun r15 h16 hn => ?_)
    refine mg_grd ?_
    refine mg_bR hn (fun h18 hn => ?_)
    refine mg_grd ?_
    refine mg_bnd (fun b22 => ?_)
    refine mg_bA hn (fun h23 hn => ?_)
    refine mg_cal hn (icC_init_m b22 h23) (fun r24 h25 hn => ?_)
    refine mg_grd ?_
    refine mg_bR hn (fun h27 hn => ?_)
    refine mg_grd ?_
    refine mg_bnd (fun b31 => ?_)
    refine mg_bA hn (fun h32 hn => ?_)
    refine mg_grd ?_
    refine mg_bR hn (fun h34 hn => ?_)
    refine mg_grd ?_
    refine mg_bnd (fun b38 => ?_)
    refine mg_bA hn (fun h39 hn => ?_)
    refine mg_grd ?_
    refine mg_bnd (fun b41 => ?_)
    refine mg_bA hn (fun h42 hn => ?_)
    refine mg_cal hn (ikX5_init_m b41 h42) (fun r43 h44 hn => ?_)
    refine mg_grd ?_
    refine mg_grd ?_
    refine mg_grd ?_
    refine mg_bR hn (fun h46 hn => ?_)
    refine mg_grd ?_
    refine mg_bnd (fun b49 => ?_)
    refine mg_bA hn (fun h50 hn => ?_)
    refine mg_cal hn (ikX6_init_m b49 h50) (fun r51 h52 hn => ?_)
    refine mg_grd ?_
    refine mg_grd ?_
    refine mg_grd ?_
    refine mg_bR hn (fun h54 hn => ?_)
    refine mg_grd ?_
    refine mg_bnd (fun b57 => ?_)
    refine mg_bA hn (fun h58 hn => ?_)
    refine mg_cal hn (ikX7_init_m b57 h58) (fun r59 h60 hn => ?_)
    refine mg_grd ?_
    refine mg_grd ?_
    refine mg_grd ?_
    refine mg_bR hn (fun h62 hn => ?_)
    refine mg_grd ?_
    refine mg_bnd (fun b65 => ?_)
    refine mg_bA hn (fun h66 hn => ?_)
    refine mg_cal hn (ikX8_init_m b65 h66) (fun r67 h68 hn => ?_)
    refine mg_grd ?_
    refine mg_grd ?_
    refine mg_grd ?_
    refine mg_bR hn (fun h70 hn => ?_)
    refine mg_grd ?_
    refine mg_bR hn (fun h73 hn => ?_)
    refine mg_grd ?_
    refine mg_bnd (fun b77 => ?_)
    refine mg_bA hn (fun h78 hn => ?_)
    refine mg_cal hn (icS_init_m b77 0 h78) (fun r79 h80 hn => ?_)
    refine mg_grd ?_
    refine mg_bR hn (fun h82 hn => ?_)
    refine mg_grd ?_
    refine mg_bnd (fun b86 => ?_)
    refine mg_bA hn (fun h87 hn => ?_)
    refine mg_cal hn (icS_init_m b86 0 h87) (fun r88 h89 hn => ?_)
    refine mg_grd ?_
    refine mg_bR hn (fun h91 hn => ?_)
    refine mg_grd ?_
    refine mg_bnd (fun b95 => ?_)
    refine mg_bA hn (fun h96 hn => ?_)
    refine mg_cal hn (icS_init_m b95 0 h96) (fun r97 h98 hn => ?_)
    refine mg_grd ?_
    refine mg_bR hn (fun h100 hn => ?_)
    refine mg_grd ?_
    refine mg_bnd (fun b104 => ?_)
    refine mg_bA hn (fun h105 hn => ?_)
    refine mg_grd ?_
    refine mg_bR hn (fun h107 hn => ?_)
    refine mg_grd ?_
    refine mg_bnd (fun b111 => ?_)
    refine mg_bA hn (fun h112 hn => ?_)
    refine mg_grd ?_
    refine mg_bR hn (fun h114 hn => ?_)
    refine mg_grd ?_
    refine mg_bnd (fun b118 => ?_)
    refine mg_bA hn (fun h119 hn => ?_)
    refine mg_grd ?_
    refine mg_bR hn (fun h121 hn => ?_)
    refine mg_grd ?_
    refine mg_bnd (fun b125 => ?_)
    refine mg_bA hn (fun h126 hn => ?_)
    refine mg_grd ?_
    refine mg_bR hn (fun h128 hn => ?_)
    refine mg_grd ?_
    refine mg_bnd (fun b132 => ?_)
    refine mg_bA hn (fun h133 hn => ?_)
    refine mg_grd ?_
    refine mg_bR hn (fun h135 hn => ?_)
    refine mg_grd ?_
    refine mg_bnd (fun b139 => ?_)
    refine mg_bA hn (fun h140 hn => ?_)
    refine mg_grd ?_
    refine mg_bR hn (fun h142 hn => ?_)
    refine mg_grd ?_
    refine mg_bnd (fun b146 => ?_)
    refine mg_bA hn (fun h147 hn => ?_)
    refine mg_cal hn (icL_init_m b146 (24 : Int32) h147) (fun r148 h149 hn => ?_)
    refine mg_grd ?_
    refine mg_bR hn (fun h151 hn => ?_)
    refine mg_grd ?_
    refine mg_bnd (fun b155 => ?_)
    refine mg_bA hn (fun h156 hn => ?_)
    refine mg_grd ?_
    refine mg_bR hn (fun h158 hn => ?_)
    refine mg_grd ?_
    refine mg_bI hn (fun h162 hn => ?_)
    refine mg_bnd (fun x165 => ?_)
    refine icA_init_208_m  _ (fun  h178 hn => ?_) FU x165 h162 hn
    refine mg_grd ?_
    refine mg_onr (fun b180 => ?_)
    refine mg_grd ?_
    refine mg_cal hn (icS_begin_m b180 h178) (fun r182 h183 hn => ?_)
    exact mg_some hn
  exact key _ _ ⟨Nat.le_refl _, Nat.le_refl _⟩
theorem ikX10_plain_32_m {c s : Nat}   (k : HP → Option (Unit × HP)) (hk : ∀  (h : HP), mN c s h → mG c s (k  h)) : ∀ (n : Nat) (v1 : Int32) (h : HP), mN c s h → mG c s (ikX10_plain_32 k n v1 h) := by
  intro n
  induction n with
  | zero =>
    intro v1 h hn
    exact mg_none
  | succ n ih =>
    intro v1 h hn
    rw [ikX10_plain_32]
    refine mg_ite ?_ ?_
    · exact hk h hn
    · refine mg_grd ?_
      refine mg_onr (fun b27 => ?_)
      refine mg_grd ?_
      refine mg_grd ?_
      refine mg_bI hn (fun h30 hn => ?_)
      refine mg_grd ?_
      refine mg_onr (fun b34 => ?_)
      refine mg_jon (fun (j36 : Int32 → Option (Unit × HP)) => ∀ (s37 : Int32), mG c s (j36 s37)) ?_ ?_
      · intro s37
        refine mg_grd ?_
        refine mg_grd ?_
        refine mg_bI hn (fun h39 hn => ?_)
        refine mg_grd ?_
        refine mg_onr (fun b43 => ?_)
        refine mg_grd ?_
        refine mg_grd ?_
        refine mg_bI hn (fun h46 hn => ?_)
        refine mg_bnd (fun x49 => ?_)
        exact ih x49 h46 hn
      · intro j36 hj36
        refine mg_ite ?_ ?_
        · exact hj36 (9 : Int32)
        · exact hj36 (0 : Int32)
theorem ikX10_plain_m   (h : HP) : mG (gN h) (gS h) (ikX10_plain  h) := by
  have key : ∀ c s : Nat, mN c s h → mG c s (ikX10_plain  h) := by
    intro c s hn
    rw [ikX10_plain]
    refine mg_grd ?_
    refine mg_bI hn (fun h2 hn => ?_)
    refine mg_grd ?_
    refine mg_bI hn (fun h6 hn => ?_)
    refine mg_grd ?_
    refine mg_bI hn (fun h10 hn => ?_)
    refine mg_grd ?_
    refine mg_bI hn (fun h14 hn => ?_)
    refine mg_grd ?_
    refine mg_bI hn (fun h18 hn => ?_)
    refine mg_grd ?_
    refine mg_bI hn (fun h22 hn => ?_)
    refine mg_bnd (fun x25 => ?_)
    refine ikX10_plain_32_m  _ (fun  h50 hn => ?_) FU x25 h22 hn
    exact mg_some hn
  exact key _ _ ⟨Nat.le_refl _, Nat.le_refl _⟩
theorem ikX10_copies_2_m {c s : Nat}  (f0 : Nat) (f1 : Int32) (k : HP → Option (Unit × HP)) (hk : ∀  (h : HP), mN c s h → mG c s (k  h)) : ∀ (n : Nat) (v2 : Int32) (h : HP), mN c s h → mG c s (ikX10_copies_2 f0 f1 k n v2 h) := by
  intro n
  induction n with
  | zero =>
    intro v2 h hn
    exact mg_none
  | succ n ih =>
    intro v2 h hn
    rw [ikX10_copies_2]
    refine mg_ite ?_ ?_
    · exact hk h hn
    · refine mg_grd ?_
      refine mg_grd ?_
      refine mg_grd ?_
      refine mg_bI hn (fun h3 hn => ?_)
      refine mg_bnd (fun x6 => ?_)
      exact ih x6 h3 hn
theorem ikX10_copies_m  (a1 : Nat) (a2 : Int32) (h : HP) : mG (gN h) (gS h) (ikX10_copies a1 a2 h) := by
  have key : ∀ c s : Nat, mN c s h → mG c s (ikX10_copies a1 a2 h) := by
    intro c s hn
    rw [ikX10_copies]
    refine mg_bnd (fun x1 => ?_)
    refine ikX10_copies_2_m a1 a2 _ (fun  h7 hn => ?_) FU x1 h hn
    exact mg_some hn
  exact key _ _ ⟨Nat.le_refl _, Nat.le_refl _⟩
theorem ikX10_atFirst_2_m {c s : Nat}  (f1 : Int32) (k : HP → Option (Unit × HP)) (hk : ∀  (h : HP), mN c s h → mG c s (k  h)) : ∀ (n : Nat) (v2 : Int32) (h : HP), mN c s h → mG c s (ikX10_atFirst_2 f1 k n v2 h) := by
  intro n
  induction n with
  | zero =>
    intro v2 h hn
    exact mg_none
  | succ n ih =>
    intro v2 h hn
    rw [ikX10_atFirst_2]
    refine mg_ite ?_ ?_
    · exact hk h hn
    · refine mg_grd ?_
      refine mg_onr (fun b3 => ?_)
      refine mg_jon (fun (j5 : Int32 → Option (Unit × HP)) => ∀ (s6 : Int32), mG c s (j5 s6)) ?_ ?_
      · intro s6
        refine mg_grd ?_
        refine mg_grd ?_
        refine mg_bI hn (fun h8 hn => ?_)
        refine mg_grd ?_
        refine mg_onr (fun b12 => ?_)
        refine mg_grd ?_
        refine mg_grd ?_
        refine mg_bI hn (fun h15 hn => ?_)
        refine mg_grd ?_
        refine mg_onr (fun b19 => ?_)
        refine mg_onr (fun b21 => ?_)
        refine mg_grd ?_
        refine mg_grd ?_
        refine mg_grd ?_
        refine mg_grd ?_
        refine mg_bI hn (fun h25 hn => ?_)
        refine mg_grd ?_
        refine mg_onr (fun b29 => ?_)
        refine mg_grd ?_
        refine mg_grd ?_
        refine mg_bI hn (fun h32 hn => ?_)
        refine mg_bnd (fun x35 => ?_)
        exact ih x35 h32 hn
      · intro j5 hj5
        refine mg_ite ?_ ?_
        · exact hj5 (0 : Int32)
        · refine mg_onr (fun b36 => ?_)
          refine mg_grd ?_
          refine mg_grd ?_
          exact hj5 (gI h b36 (v2).toNatClampNeg)
theorem ikX10_atFirst_m  (a1 : Int32) (h : HP) : mG (gN h) (gS h) (ikX10_atFirst a1 h) := by
  have key : ∀ c s : Nat, mN c s h → mG c s (ikX10_atFirst a1 h) := by
    intro c s hn
    rw [ikX10_atFirst]
    refine mg_bnd (fun x1 => ?_)
    refine ikX10_atFirst_2_m a1 _ (fun  h39 hn => ?_) FU x1 h hn
    refine mg_grd ?_
    refine mg_onr (fun b41 => ?_)
    refine mg_grd ?_
    refine mg_grd ?_
    refine mg_bI hn (fun h44 hn => ?_)
    exact mg_some hn
  exact key _ _ ⟨Nat.le_refl _, Nat.le_refl _⟩
theorem ikX10_plainTried_m   (h : HP) : mG (gN h) (gS h) (ikX10_plainTried  h) := by
  have key : ∀ c s : Nat, mN c s h → mG c s (ikX10_plainTried  h) := by
    intro c s hn
    rw [ikX10_plainTried]
    refine mg_grd ?_
    refine mg_bI hn (fun h2 hn => ?_)
    refine mg_grd ?_
    refine mg_bI hn (fun h6 hn => ?_)
    refine mg_grd ?_
    refine mg_bI hn (fun h10 hn => ?_)
    refine mg_grd ?_
    refine mg_bI hn (fun h14 hn => ?_)
    refine mg_grd ?_
    refine mg_bI hn (fun h18 hn => ?_)
    refine mg_grd ?_
    refine mg_bI hn (fun h22 hn => ?_)
    exact mg_some hn
  exact key _ _ ⟨Nat.le_refl _, Nat.le_refl _⟩
theorem ikX10_begin_m   (h : HP) : mG (gN h) (gS h) (ikX10_begin  h) := by
  have key : ∀ c s : Nat, mN c s h → mG c s (ikX10_begin  h) := by
    intro c s hn
    rw [ikX10_begin]
    refine mg_grd ?_
    refine mg_cal hn (ikX10_atFirst_m (0 : Int32) h) (fun r1 h2 hn => ?_)
    refine mg_grd ?_
    refine mg_bI hn (fun h5 hn => ?_)
    refine mg_grd ?_
    refine mg_onr (fun b9 => ?_)
    refine mg_grd ?_
    refine mg_grd ?_
    refine mg_bL hn (fun h12 hn => ?_)
    refine mg_grd ?_
    refine mg_cal hn (ikX10_plainTried_m h12) (fun r15 h16 hn => ?_)
    refine mg_grd ?_
    refine mg_bI hn (fun h19 hn => ?_)
    refine mg_grd ?_
    refine mg_bI hn (fun h23 hn => ?_)
    refine mg_grd ?_
    refine mg_bI hn (fun h27 hn => ?_)
    refine mg_grd ?_
    refine mg_bI hn (fun h31 hn => ?_)
    exact mg_some hn
  exact key _ _ ⟨Nat.le_refl _, Nat.le_refl _⟩
theorem ikX10_keepText_171_m {c s : Nat}   (k : HP → Option (Unit × HP)) (hk : ∀  (h : HP), mN c s h → mG c s (k  h)) : ∀ (n : Nat) (v1 : Int32) (h : HP), mN c s h → mG c s (ikX10_keepText_171 k n v1 h) := by
  intro n
  induction n with
  | zero =>
    intro v1 h hn
    exact mg_none
  | succ n ih =>
    intro v1 h hn
    rw [ikX10_keepText_171]
    refine mg_ite ?_ ?_
    · exact hk h hn
    · refine mg_grd ?_
      refine mg_onr (fun b98 => ?_)
      refine mg_onr (fun b100 => ?_)
      refine mg_grd ?_
      refine mg_grd ?_
      refine mg_grd ?_
      refine mg_grd ?_
      refine mg_grd ?_
      refine mg_bI hn (fun h105 hn => ?_)
      refine mg_bnd (fun x108 => ?_)
      exact ih x108 h105 hn
theorem ikX10_keepText_m   (h : HP) : mG (gN h) (gS h) (ikX10_keepText  h) := by
  have key : ∀ c s : Nat, mN c s h → mG c s (ikX10_keepText  h) := by
    intro c s hn
    rw [ikX10_keepText]
    refine mg_grd ?_
    refine mg_bI hn (fun h2 hn => ?_)
    refine mg_grd ?_
    refine mg_bI hn (fun h6 hn => ?_)
    refine mg_grd ?_
    refine mg_bI hn (fun h10 hn => ?_)
    refine mg_grd ?_
    refine mg_bI hn (fun h14 hn => ?_)
    refine mg_grd ?_
    refine mg_bI hn (fun h18 hn => ?_)
    refine mg_grd ?_
    refine mg_onr (fun b22 => ?_)
    refine mg_cal hn (ikX10_copies_m b22 (2 : Int32) h18) (fun r24 h25 hn => ?_)
    refine mg_grd ?_
    refine mg_onr (fun b27 => ?_)
    refine mg_cal hn (ikX10_copies_m b27 (8 : Int32) h25) (fun r29 h30 hn => ?_)
    refine mg_grd ?_
    refine mg_onr (fun b32 => ?_)
    refine mg_cal hn (ikX10_copies_m b32 (5 : Int32) h30) (fun r34 h35 hn => ?_)
    refine mg_grd ?_
    refine mg_onr (fun b37 => ?_)
    refine mg_cal hn (ikX10_copies_m b37 (5 : Int32) h35) (fun r39 h40 hn => ?_)
    refine mg_grd ?_
    refine mg_onr (fun b42 => ?_)
    refine mg_cal hn (ikX10_copies_m b42 (5 : Int32) h40) (fun r44 h45 hn => ?_)
    refine mg_grd ?_
    refine mg_onr (fun b47 => ?_)
    refine mg_cal hn (ikX10_copies_m b47 (5 : Int32) h45) (fun r49 h50 hn => ?_)
    refine mg_grd ?_
    refine mg_onr (fun b52 => ?_)
    refine mg_cal hn (ikX10_copies_m b52 (5 : Int32) h50) (fun r54 h55 hn => ?_)
    refine mg_grd ?_
    refine mg_onr (fun b57 => ?_)
    refine mg_cal hn (ikX10_copies_m b57 (8 : Int32) h55) (fun r59 h60 hn => ?_)
    refine mg_grd ?_
    refine mg_onr (fun b62 => ?_)
    refine mg_cal hn (ikX10_copies_m b62 (8 : Int32) h60) (fun r64 h65 hn => ?_)
    refine mg_grd ?_
    refine mg_onr (fun b67 => ?_)
    refine mg_cal hn (ikX10_copies_m b67 (8 : Int32) h65) (fun r69 h70 hn => ?_)
    refine mg_grd ?_
    refine mg_onr (fun b72 => ?_)
    refine mg_cal hn (ikX10_copies_m b72 (8 : Int32) h70) (fun r74 h75 hn => ?_)
    refine mg_grd ?_
    refine mg_onr (fun b77 => ?_)
    refine mg_cal hn (ikX10_copies_m b77 (8 : Int32) h75) (fun r79 h80 hn => ?_)
    refine mg_grd ?_
    refine mg_onr (fun b82 => ?_)
    refine mg_cal hn (ikX10_copies_m b82 (10 : Int32) h80) (fun r84 h85 hn => ?_)
    refine mg_grd ?_
    refine mg_onr (fun b87 => ?_)
    refine mg_cal hn (ikX10_copies_m b87 (10 : Int32) h85) (fun r89 h90 hn => ?_)
    refine mg_grd ?_
    refine mg_onr (fun b92 => ?_)
    refine mg_cal hn (ikX10_copies_m b92 (10 : Int32) h90) (fun r94 h95 hn => ?_)
    refine mg_bnd (fun x96 => ?_)
    refine ikX10_keepText_171_m  _ (fun  h109 hn => ?_) FU x96 h95 hn
    refine mg_grd ?_
    refine mg_onr (fun b111 => ?_)
    refine mg_cal hn (ikX10_copies_m b111 (2 : Int32) h109) (fun r113 h114 hn => ?_)
    refine mg_grd ?_
    refine mg_onr (fun b116 => ?_)
    refine mg_cal hn (ikX10_copies_m b116 (2 : Int32) h114) (fun r118 h119 hn => ?_)
    refine mg_grd ?_
    refine mg_onr (fun b121 => ?_)
    refine mg_cal hn (ikX10_copies_m b121 (64 : Int32) h119) (fun r123 h124 hn => ?_)
    refine mg_grd ?_
    refine mg_onr (fun b126 => ?_)
    refine mg_cal hn (ikX10_copies_m b126 (64 : Int32) h124) (fun r128 h129 hn => ?_)
    refine mg_grd ?_
    refine mg_onr (fun b131 => ?_)
    refine mg_cal hn (ikX10_copies_m b131 (64 : Int32) h129) (fun r133 h134 hn => ?_)
    refine mg_grd ?_
    refine mg_cal hn (ikX10_begin_m h134) (fun r135 h136 hn => ?_)
    exact mg_some hn
  exact key _ _ ⟨Nat.le_refl _, Nat.le_refl _⟩
theorem ikX10_init_m   (h : HP) : mG (gN h) (gS h) (ikX10_init  h) := by
  have key : ∀ c s : Nat, mN c s h → mG c s (ikX10_init  h) := by
    intro c s hn
    rw [ikX10_init]
    refine mg_grd ?_
    refine mg_bnd (fun b2 => ?_)
    refine mg_bA hn (fun h3 hn => ?_)
    refine mg_grd ?_
    refine mg_bR hn (fun h5 hn => ?_)
    refine mg_grd ?_
    refine mg_bnd (fun b9 => ?_)
    refine mg_bA hn (fun h10 hn => ?_)
    refine mg_grd ?_
    refine mg_grd ?_
    refine mg_bI hn (fun h12 hn => ?_)
    refine mg_grd ?_
    refine mg_grd ?_
    refine mg_bI hn (fun h16 hn => ?_)
    refine mg_grd ?_
    refine mg_grd ?_
    refine mg_bI hn (fun h20 hn => ?_)
    refine mg_grd ?_
    refine mg_grd ?_
    refine mg_bI hn (fun h24 hn => ?_)
    refine mg_grd ?_
    refine mg_grd ?_
    refine mg_bI hn (fun h28 hn => ?_)
    refine mg_grd ?_
    refine mg_grd ?_
    refine mg_bI hn (fun h32 hn => ?_)
    refine mg_grd ?_
    refine mg_grd ?_
    refine mg_bI hn (fun h36 hn => ?_)
    refine mg_grd ?_
    refine mg_grd ?_
    refine mg_bI hn (fun h40 hn => ?_)
    refine mg_grd ?_
    refine mg_grd ?_
    refine mg_bI hn (fun h44 hn => ?_)
    refine mg_grd ?_
    refine mg_grd ?_
    refine mg_bI hn (fun h48 hn => ?_)
    refine mg_grd ?_
    refine mg_grd ?_
    refine mg_bI hn (fun h52 hn => ?_)
    refine mg_grd ?_
    refine mg_grd ?_
    refine mg_bI hn (fun h56 hn => ?_)
    refine mg_grd ?_
    refine mg_grd ?_
    refine mg_bI hn (fun h60 hn => ?_)
    refine mg_grd ?_
    refine mg_grd ?_
    refine mg_bI hn (fun h64 hn => ?_)
    refine mg_grd ?_
    refine mg_grd ?_
    refine mg_bI hn (fun h68 hn => ?_)
    refine mg_grd ?_
    refine mg_grd ?_
    refine mg_bI hn (fun h72 hn => ?_)
    refine mg_grd ?_
    refine mg_grd ?_
    refine mg_bI hn (fun h76 hn => ?_)
    refine mg_grd ?_
    refine mg_grd ?_
    refine mg_bI hn (fun h80 hn => ?_)
    refine mg_grd ?_
    refine mg_grd ?_
    refine mg_bI hn (fun h84 hn => ?_)
    refine mg_grd ?_
    refine mg_grd ?_
    refine mg_bI hn (fun h88 hn => ?_)
    refine mg_grd ?_
    refine mg_grd ?_
    refine mg_bI hn (fun h92 hn => ?_)
    refine mg_grd ?_
    refine mg_grd ?_
    refine mg_bI hn (fun h96 hn => ?_)
    refine mg_grd ?_
    refine mg_grd ?_
    refine mg_bI hn (fun h100 hn => ?_)
    refine mg_grd ?_
    refine mg_grd ?_
    refine mg_bI hn (fun h104 hn => ?_)
    refine mg_grd ?_
    refine mg_grd ?_
    refine mg_bI hn (fun h108 hn => ?_)
    refine mg_grd ?_
    refine mg_grd ?_
    refine mg_bI hn (fun h112 hn => ?_)
    refine mg_grd ?_
    refine mg_grd ?_
    refine mg_bI hn (fun h116 hn => ?_)
    refine mg_grd ?_
    refine mg_grd ?_
    refine mg_bI hn (fun h120 hn => ?_)
    refine mg_grd ?_
    refine mg_grd ?_
    refine mg_bI hn (fun h124 hn => ?_)
    refine mg_grd ?_
    refine mg_grd ?_
    refine mg_bI hn (fun h128 hn => ?_)
    refine mg_grd ?_
    refine mg_grd ?_
    refine mg_bI hn (fun h132 hn => ?_)
    refine mg_grd ?_
    refine mg_grd ?_
    refine mg_bI hn (fun h136 hn => ?_)
    refine mg_grd ?_
    refine mg_grd ?_
    refine mg_bI hn (fun h140 hn => ?_)
    refine mg_grd ?_
    refine mg_grd ?_
    refine mg_bI hn (fun h144 hn => ?_)
    refine mg_grd ?_
    refine mg_grd ?_
    refine mg_bI hn (fun h148 hn => ?_)
    refine mg_grd ?_
    refine mg_grd ?_
    refine mg_bI hn (fun h152 hn => ?_)
    refine mg_grd ?_
    refine mg_grd ?_
    refine mg_bI hn (fun h156 hn => ?_)
    refine mg_grd ?_
    refine mg_grd ?_
    refine mg_bI hn (fun h160 hn => ?_)
    refine mg_grd ?_
    refine mg_grd ?_
    refine mg_bI hn (fun h164 hn => ?_)
    refine mg_grd ?_
    refine mg_grd ?_
    refine mg_bI hn (fun h168 hn => ?_)
    refine mg_grd ?_
    refine mg_grd ?_
    refine mg_bI hn (fun h172 hn => ?_)
    refine mg_grd ?_
    refine mg_grd ?_
    refine mg_bI hn (fun h176 hn => ?_)
    refine mg_grd ?_
    refine mg_grd ?_
    refine mg_bI hn (fun h180 hn => ?_)
    refine mg_grd ?_
    refine mg_grd ?_
    refine mg_bI hn (fun h184 hn => ?_)
    refine mg_grd ?_
    refine mg_grd ?_
    refine mg_bI hn (fun h188 hn => ?_)
    refine mg_grd ?_
    refine mg_grd ?_
    refine mg_bI hn (fun h192 hn => ?_)
    refine mg_grd ?_
    refine mg_grd ?_
    refine mg_bI hn (fun h196 hn => ?_)
    refine mg_grd ?_
    refine mg_grd ?_
    refine mg_bI hn (fun h200 hn => ?_)
    refine mg_grd ?_
    refine mg_grd ?_
    refine mg_bI hn (fun h204 hn => ?_)
    refine mg_grd ?_
    refine mg_grd ?_
    refine mg_bI hn (fun h208 hn => ?_)
    refine mg_grd ?_
    refine mg_grd ?_
    refine mg_bI hn (fun h212 hn => ?_)
    refine mg_grd ?_
    refine mg_grd ?_
    refine mg_bI hn (fun h216 hn => ?_)
    refine mg_grd ?_
    refine mg_grd ?_
    refine mg_bI hn (fun h220 hn => ?_)
    refine mg_grd ?_
    refine mg_grd ?_
    refine mg_bI hn (fun h224 hn => ?_)
    refine mg_grd ?_
    refine mg_grd ?_
    refine mg_bI hn (fun h228 hn => ?_)
    refine mg_grd ?_
    refine mg_grd ?_
    refine mg_bI hn (fun h232 hn => ?_)
    refine mg_grd ?_
    refine mg_grd ?_
    refine mg_bI hn (fun h236 hn => ?_)
    refine mg_grd ?_
    refine mg_grd ?_
    refine mg_bI hn (fun h240 hn => ?_)
    refine mg_grd ?_
    refine mg_grd ?_
    refine mg_bI hn (fun h244 hn => ?_)
    refine mg_grd ?_
    refine mg_grd ?_
    refine mg_bI hn (fun h248 hn => ?_)
    refine mg_grd ?_
    refine mg_grd ?_
    refine mg_bI hn (fun h252 hn => ?_)
    refine mg_grd ?_
    refine mg_grd ?_
    refine mg_bI hn (fun h256 hn => ?_)
    refine mg_grd ?_
    refine mg_grd ?_
    refine mg_bI hn (fun h260 hn => ?_)
    refine mg_grd ?_
    refine mg_grd ?_
    refine mg_bI hn (fun h264 hn => ?_)
    refine mg_grd ?_
    refine mg_grd ?_
    refine mg_bI hn (fun h268 hn => ?_)
    refine mg_grd ?_
    refine mg_grd ?_
    refine mg_bI hn (fun h272 hn => ?_)
    refine mg_grd ?_
    refine mg_grd ?_
    refine mg_bI hn (fun h276 hn => ?_)
    refine mg_grd ?_
    refine mg_grd ?_
    refine mg_bI hn (fun h280 hn => ?_)
    refine mg_grd ?_
    refine mg_grd ?_
    refine mg_bI hn (fun h284 hn => ?_)
    refine mg_grd ?_
    refine mg_grd ?_
    refine mg_bI hn (fun h288 hn => ?_)
    refine mg_grd ?_
    refine mg_grd ?_
    refine mg_bI hn (fun h292 hn => ?_)
    refine mg_grd ?_
    refine mg_grd ?_
    refine mg_bI hn (fun h296 hn => ?_)
    refine mg_grd ?_
    refine mg_grd ?_
    refine mg_bI hn (fun h300 hn => ?_)
    refine mg_grd ?_
    refine mg_grd ?_
    refine mg_bI hn (fun h304 hn => ?_)
    refine mg_grd ?_
    refine mg_grd ?_
    refine mg_bI hn (fun h308 hn => ?_)
    refine mg_grd ?_
    refine mg_grd ?_
    refine mg_bI hn (fun h312 hn => ?_)
    refine mg_grd ?_
    refine mg_grd ?_
    refine mg_bI hn (fun h316 hn => ?_)
    refine mg_grd ?_
    refine mg_grd ?_
    refine mg_bI hn (fun h320 hn => ?_)
    refine mg_grd ?_
    refine mg_grd ?_
    refine mg_bI hn (fun h324 hn => ?_)
    refine mg_grd ?_
    refine mg_grd ?_
    refine mg_bI hn (fun h328 hn => ?_)
    refine mg_grd ?_
    refine mg_grd ?_
    refine mg_bI hn (fun h332 hn => ?_)
    refine mg_grd ?_
    refine mg_grd ?_
    refine mg_bI hn (fun h336 hn => ?_)
    refine mg_grd ?_
    refine mg_grd ?_
    refine mg_bI hn (fun h340 hn => ?_)
    refine mg_grd ?_
    refine mg_grd ?_
    refine mg_bI hn (fun h344 hn => ?_)
    refine mg_grd ?_
    refine mg_grd ?_
    refine mg_bI hn (fun h348 hn => ?_)
    refine mg_grd ?_
    refine mg_grd ?_
    refine mg_bI hn (fun h352 hn => ?_)
    refine mg_grd ?_
    refine mg_grd ?_
    refine mg_bI hn (fun h356 hn => ?_)
    refine mg_grd ?_
    refine mg_grd ?_
    refine mg_bI hn (fun h360 hn => ?_)
    refine mg_grd ?_
    refine mg_grd ?_
    refine mg_bI hn (fun h364 hn => ?_)
    refine mg_grd ?_
    refine mg_grd ?_
    refine mg_bI hn (fun h368 hn => ?_)
    refine mg_grd ?_
    refine mg_grd ?_
    refine mg_bI hn (fun h372 hn => ?_)
    refine mg_grd ?_
    refine mg_grd ?_
    refine mg_bI hn (fun h376 hn => ?_)
    refine mg_grd ?_
    refine mg_grd ?_
    refine mg_bI hn (fun h380 hn => ?_)
    refine mg_grd ?_
    refine mg_grd ?_
    refine mg_bI hn (fun h384 hn => ?_)
    refine mg_grd ?_
    refine mg_grd ?_
    refine mg_bI hn (fun h388 hn => ?_)
    refine mg_grd ?_
    refine mg_grd ?_
    refine mg_bI hn (fun h392 hn => ?_)
    refine mg_grd ?_
    refine mg_grd ?_
    refine mg_bI hn (fun h396 hn => ?_)
    refine mg_grd ?_
    refine mg_grd ?_
    refine mg_bI hn (fun h400 hn => ?_)
    refine mg_grd ?_
    refine mg_grd ?_
    refine mg_bI hn (fun h404 hn => ?_)
    refine mg_grd ?_
    refine mg_grd ?_
    refine mg_bI hn (fun h408 hn => ?_)
    refine mg_grd ?_
    refine mg_grd ?_
    refine mg_bI hn (fun h412 hn => ?_)
    refine mg_grd ?_
    refine mg_grd ?_
    refine mg_bI hn (fun h416 hn => ?_)
    refine mg_grd ?_
    refine mg_grd ?_
    refine mg_bI hn (fun h420 hn => ?_)
    refine mg_grd ?_
    refine mg_grd ?_
    refine mg_bI hn (fun h424 hn => ?_)
    refine mg_grd ?_
    refine mg_grd ?_
    refine mg_bI hn (fun h428 hn => ?_)
    refine mg_grd ?_
    refine mg_grd ?_
    refine mg_bI hn (fun h432 hn => ?_)
    refine mg_grd ?_
    refine mg_grd ?_
    refine mg_bI hn (fun h436 hn => ?_)
    refine mg_grd ?_
    refine mg_grd ?_
    refine mg_bI hn (fun h440 hn => ?_)
    refine mg_grd ?_
    refine mg_grd ?_
    refine mg_bI hn (fun h444 hn => ?_)
    refine mg_grd ?_
    refine mg_grd ?_
    refine mg_bI hn (fun h448 hn => ?_)
    refine mg_grd ?_
    refine mg_grd ?_
    refine mg_bI hn (fun h452 hn => ?_)
    refine mg_grd ?_
    refine mg_grd ?_
    refine mg_bI hn (fun h456 hn => ?_)
    refine mg_grd ?_
    refine mg_grd ?_
    refine mg_bI hn (fun h460 hn => ?_)
    refine mg_grd ?_
    refine mg_grd ?_
    refine mg_bI hn (fun h464 hn => ?_)
    refine mg_grd ?_
    refine mg_grd ?_
    refine mg_bI hn (fun h468 hn => ?_)
    refine mg_grd ?_
    refine mg_grd ?_
    refine mg_bI hn (fun h472 hn => ?_)
    refine mg_grd ?_
    refine mg_grd ?_
    refine mg_bI hn (fun h476 hn => ?_)
    refine mg_grd ?_
    refine mg_grd ?_
    refine mg_bI hn (fun h480 hn => ?_)
    refine mg_grd ?_
    refine mg_grd ?_
    refine mg_bI hn (fun h484 hn => ?_)
    refine mg_grd ?_
    refine mg_grd ?_
    refine mg_bI hn (fun h488 hn => ?_)
    refine mg_grd ?_
    refine mg_grd ?_
    refine mg_bI hn (fun h492 hn => ?_)
    refine mg_grd ?_
    refine mg_grd ?_
    refine mg_bI hn (fun h496 hn => ?_)
    refine mg_grd ?_
    refine mg_grd ?_
    refine mg_bI hn (fun h500 hn => ?_)
    refine mg_grd ?_
    refine mg_grd ?_
    refine mg_bI hn (fun h504 hn => ?_)
    refine mg_grd ?_
    refine mg_bR hn (fun h508 hn => ?_)
    refine mg_grd ?_
    refine mg_bI hn (fun h512 hn => ?_)
    refine mg_grd ?_
    refine mg_bnd (fun b516 => ?_)
    refine mg_bA hn (fun h517 hn => ?_)
    refine mg_grd ?_
    refine mg_bR hn (fun h519 hn => ?_)
    refine mg_grd ?_
    refine mg_bnd (fun b523 => ?_)
    refine mg_bA hn (fun h524 hn => ?_)
    refine mg_grd ?_
    refine mg_bR hn (fun h526 hn => ?_)
    refine mg_grd ?_
    refine mg_bnd (fun b530 => ?_)
    refine mg_bA hn (fun h531 hn => ?_)
    refine mg_grd ?_
    refine mg_bR hn (fun h533 hn => ?_)
    refine mg_grd ?_
    refine mg_bnd (fun b537 => ?_)
    refine mg_bA hn (fun h538 hn => ?_)
    refine mg_grd ?_
    refine mg_bR hn (fun h540 hn => ?_)
    refine mg_grd ?_
    refine mg_bnd (fun b544 => ?_)
    refine mg_bA hn (fun h545 hn => ?_)
    refine mg_grd ?_
    refine mg_bR hn (fun h547 hn => ?_)
    refine mg_grd ?_
    refine mg_bnd (fun b551 => ?_)
    refine mg_bA hn (fun h552 hn => ?_)
    refine mg_grd ?_
    refine mg_bR hn (fun h554 hn => ?_)
    refine mg_grd ?_
    refine mg_bnd (fun b558 => ?_)
    refine mg_bA hn (fun h559 hn => ?_)
    refine mg_grd ?_
    refine mg_bR hn (fun h561 hn => ?_)
    refine mg_grd ?_
    refine mg_bnd (fun b565 => ?_)
    refine mg_bA hn (fun h566 hn => ?_)
    refine mg_grd ?_
    refine mg_bR hn (fun h568 hn => ?_)
    refine mg_grd ?_
    refine mg_bnd (fun b572 => ?_)
    refine mg_bA hn (fun h573 hn => ?_)
    refine mg_grd ?_
    refine mg_bR hn (fun h575 hn => ?_)
    refine mg_grd ?_
    refine mg_bnd (fun b579 => ?_)
    refine mg_bA hn (fun h580 hn => ?_)
    refine mg_grd ?_
    refine mg_bR hn (fun h582 hn => ?_)
    refine mg_grd ?_
    refine mg_bnd (fun b586 => ?_)
    refine mg_bA hn (fun h587 hn => ?_)
    refine mg_grd ?_
    refine mg_bR hn (fun h589 hn => ?_)
    refine mg_grd ?_
    refine mg_bnd (fun b593 => ?_)
    refine mg_bA hn (fun h594 hn => ?_)
    refine mg_grd ?_
    refine mg_bR hn (fun h596 hn => ?_)
    refine mg_grd ?_
    refine mg_bnd (fun b600 => ?_)
    refine mg_bA hn (fun h601 hn => ?_)
    refine mg_grd ?_
    refine mg_bR hn (fun h603 hn => ?_)
    refine mg_grd ?_
    refine mg_bnd (fun b607 => ?_)
    refine mg_bA hn (fun h608 hn => ?_)
    refine mg_grd ?_
    refine mg_bR hn (fun h610 hn => ?_)
    refine mg_grd ?_
    refine mg_bnd (fun b614 => ?_)
    refine mg_bA hn (fun h615 hn => ?_)
    refine mg_grd ?_
    refine mg_bR hn (fun h617 hn => ?_)
    refine mg_grd ?_
    refine mg_bnd (fun b621 => ?_)
    refine mg_bA hn (fun h622 hn => ?_)
    refine mg_grd ?_
    refine mg_bR hn (fun h624 hn => ?_)
    refine mg_grd ?_
    refine mg_bnd (fun b628 => ?_)
    refine mg_bA hn (fun h629 hn => ?_)
    refine mg_grd ?_
    refine mg_bR hn (fun h631 hn => ?_)
    refine mg_grd ?_
    refine mg_bnd (fun b635 => ?_)
    refine mg_bA hn (fun h636 hn => ?_)
    refine mg_grd ?_
    refine mg_bR hn (fun h638 hn => ?_)
    refine mg_grd ?_
    refine mg_bnd (fun b642 => ?_)
    refine mg_bA hn (fun h643 hn => ?_)
    refine mg_grd ?_
    refine mg_bR hn (fun h645 hn => ?_)
    refine mg_grd ?_
    refine mg_bnd (fun b649 => ?_)
    refine mg_bA hn (fun h650 hn => ?_)
    refine mg_grd ?_
    refine mg_bR hn (fun h652 hn => ?_)
    refine mg_grd ?_
    refine mg_bnd (fun b656 => ?_)
    refine mg_bA hn (fun h657 hn => ?_)
    refine mg_grd ?_
    refine mg_bR hn (fun h659 hn => ?_)
    refine mg_grd ?_
    refine mg_bnd (fun b663 => ?_)
    refine mg_bA hn (fun h664 hn => ?_)
    refine mg_grd ?_
    refine mg_bR hn (fun h666 hn => ?_)
    refine mg_grd ?_
    refine mg_bnd (fun b670 => ?_)
    refine mg_bA hn (fun h671 hn => ?_)
    refine mg_grd ?_
    refine mg_bR hn (fun h673 hn => ?_)
    refine mg_grd ?_
    refine mg_bnd (fun b677 => ?_)
    refine mg_bA hn (fun h678 hn => ?_)
    refine mg_grd ?_
    refine mg_bR hn (fun h680 hn => ?_)
    refine mg_grd ?_
    refine mg_bnd (fun b684 => ?_)
    refine mg_bA hn (fun h685 hn => ?_)
    refine mg_grd ?_
    refine mg_bR hn (fun h687 hn => ?_)
    refine mg_grd ?_
    refine mg_bnd (fun b691 => ?_)
    refine mg_bA hn (fun h692 hn => ?_)
    refine mg_grd ?_
    refine mg_bR hn (fun h694 hn => ?_)
    refine mg_grd ?_
    refine mg_bnd (fun b698 => ?_)
    refine mg_bA hn (fun h699 hn => ?_)
    refine mg_grd ?_
    refine mg_bR hn (fun h701 hn => ?_)
    refine mg_grd ?_
    refine mg_bnd (fun b705 => ?_)
    refine mg_bA hn (fun h706 hn => ?_)
    refine mg_grd ?_
    refine mg_bR hn (fun h708 hn => ?_)
    refine mg_grd ?_
    refine mg_bnd (fun b712 => ?_)
    refine mg_bA hn (fun h713 hn => ?_)
    refine mg_grd ?_
    refine mg_bR hn (fun h715 hn => ?_)
    refine mg_grd ?_
    refine mg_bnd (fun b719 => ?_)
    refine mg_bA hn (fun h720 hn => ?_)
    refine mg_grd ?_
    refine mg_bR hn (fun h722 hn => ?_)
    refine mg_grd ?_
    refine mg_bnd (fun b726 => ?_)
    refine mg_bA hn (fun h727 hn => ?_)
    refine mg_grd ?_
    refine mg_bR hn (fun h729 hn => ?_)
    refine mg_grd ?_
    refine mg_bnd (fun b733 => ?_)
    refine mg_bA hn (fun h734 hn => ?_)
    refine mg_grd ?_
    refine mg_bR hn (fun h736 hn => ?_)
    refine mg_grd ?_
    refine mg_bnd (fun b740 => ?_)
    refine mg_bA hn (fun h741 hn => ?_)
    refine mg_grd ?_
    refine mg_bR hn (fun h743 hn => ?_)
    refine mg_grd ?_
    refine mg_bnd (fun b747 => ?_)
    refine mg_bA hn (fun h748 hn => ?_)
    refine mg_grd ?_
    refine mg_bR hn (fun h750 hn => ?_)
    refine mg_grd ?_
    refine mg_bI hn (fun h754 hn => ?_)
    refine mg_grd ?_
    refine mg_bnd (fun b758 => ?_)
    refine mg_bA hn (fun h759 hn => ?_)
    refine mg_grd ?_
    refine mg_bR hn (fun h761 hn => ?_)
    refine mg_grd ?_
    refine mg_bnd (fun b765 => ?_)
    refine mg_bA hn (fun h766 hn => ?_)
    refine mg_grd ?_
    refine mg_bR hn (fun h768 hn => ?_)
    refine mg_grd ?_
    refine mg_bnd (fun b772 => ?_)
    refine mg_bA hn (fun h773 hn => ?_)
    refine mg_grd ?_
    refine mg_bR hn (fun h775 hn => ?_)
    refine mg_grd ?_
    refine mg_bnd (fun b779 => ?_)
    refine mg_bA hn (fun h780 hn => ?_)
    refine mg_grd ?_
    refine mg_bR hn (fun h782 hn => ?_)
    refine mg_grd ?_
    refine mg_bnd (fun b786 => ?_)
    refine mg_bA hn (fun h787 hn => ?_)
    refine mg_grd ?_
    refine mg_bR hn (fun h789 hn => ?_)
    refine mg_grd ?_
    refine mg_cal hn (ikX10_plain_m h789) (fun r792 h793 hn => ?_)
    refine mg_grd ?_
    refine mg_cal hn (ikX10_keepText_m h793) (fun r795 h796 hn => ?_)
    exact mg_some hn
  exact key _ _ ⟨Nat.le_refl _, Nat.le_refl _⟩
