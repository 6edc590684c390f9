set_option maxRecDepth 100000
theorem at0_3 : ∀ w ∈ vx_at0 "AskedCourt" 198 (exN 3) ["java/lang/RuntimeException", "java/lang/Exception"], w ∈ lw_all ∨ w ∈ nC.map (fun q => Cond.castable q.1 q.2) ∨ w ∈ nD.map Cond.declares := by decide +kernel
theorem at0_4 : ∀ w ∈ vx_at0 "AskedCourt" 225 (exN 4) ["java/lang/RuntimeException", "java/lang/Exception"], w ∈ lw_all ∨ w ∈ nC.map (fun q => Cond.castable q.1 q.2) ∨ w ∈ nD.map Cond.declares := by decide +kernel
theorem ag0_3 : ∀ w ∈ Cond.classLink "AskedCourt" 196 (exN 3) :: Cond.initialized (exN 3) :: vx_at0 "AskedCourt" 198 (exN 3) ["java/lang/RuntimeException", "java/lang/Exception"], vx_ot w = true := by decide +kernel
theorem ag0_4 : ∀ w ∈ Cond.classLink "AskedCourt" 223 (exN 4) :: Cond.initialized (exN 4) :: vx_at0 "AskedCourt" 225 (exN 4) ["java/lang/RuntimeException", "java/lang/Exception"], vx_ot w = true := by decide +kernel
theorem cfX2 : cls_dv 2 9 := dv_of (by unfold cls_nf; decide +kernel) (by decide)
theorem cfX5 : cls_dv 15 0 := dv_of (by unfold cls_nf; decide +kernel) (by decide)
theorem cfX6 : cls_dv 16 0 := dv_of (by unfold cls_nf; decide +kernel) (by decide)
theorem cfX7 : cls_dv 17 0 := dv_of (by unfold cls_nf; decide +kernel) (by decide)
theorem cfX8 : cls_dv 18 0 := dv_of (by unfold cls_nf; decide +kernel) (by decide)
