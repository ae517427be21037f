-- TableTongueModel.isTrue(IJ)Z
set_option maxRecDepth 100000 in
theorem rm_151 (x0 : Int32) (x1 : Int64) (σ : lj_S) : lj_R lm_P 151 [.int x0, .long x1] σ = lj_D lm_P lm_M151 0 [.int x0, .long x1, .retAddr 0] [] σ := lj_R_eq (nL := 3) (M := lm_M151) _ _ _ _ rfl rfl
set_option maxRecDepth 100000 in
set_option maxHeartbeats 4000000 in
theorem km_151_0 (x0 : Int32) (x1 : Int64) (σ : lj_S) : lj_D lm_P lm_M151 0 [.int x0, .long x1, .retAddr 0] [] σ = (if x0 = 0 then lj_D lm_P lm_M151 19 [.int x0, .long x1, .retAddr 0] [] σ else (if x0 = 1 then (if (lg_cmp x1 0) = 0 then lj_D lm_P lm_M151 19 [.int x0, .long x1, .retAddr 0] [] σ else lj_D lm_P lm_M151 15 [.int x0, .long x1, .retAddr 0] [] σ) else lj_D lm_P lm_M151 15 [.int x0, .long x1, .retAddr 0] [] σ)) := by rw [lj_D_eq]; rfl
set_option maxRecDepth 100000 in
set_option maxHeartbeats 4000000 in
theorem km_151_15 (x0 : Int32) (x1 : Int64) (σ : lj_S) : lj_D lm_P lm_M151 15 [.int x0, .long x1, .retAddr 0] [] σ = lj_D lm_P lm_M151 20 [.int x0, .long x1, .retAddr 0] [.int 1] σ := by rw [lj_D_eq]; rfl
set_option maxRecDepth 100000 in
set_option maxHeartbeats 4000000 in
theorem km_151_19 (x0 : Int32) (x1 : Int64) (σ : lj_S) : lj_D lm_P lm_M151 19 [.int x0, .long x1, .retAddr 0] [] σ = lj_D lm_P lm_M151 20 [.int x0, .long x1, .retAddr 0] [.int 0] σ := by rw [lj_D_eq]; rfl
set_option maxRecDepth 100000 in
set_option maxHeartbeats 4000000 in
theorem km_151_20 (x0 : Int32) (x1 : Int64) (x50 : Int32) (σ : lj_S) : lj_D lm_P lm_M151 20 [.int x0, .long x1, .retAddr 0] [.int x50] σ = some (.inl (some (.int (vp_nar .boolean x50))), σ) := by rw [lj_D_eq]; rfl
-- TableTongueModel.closure(II)V
set_option maxRecDepth 100000 in
theorem rm_152 (x1 : Int32) (x2 : Int32) (σ : lj_S) : lj_R lm_P 152 [.ref 0, .int x1, .int x2] σ = lj_D lm_P lm_M152 0 [.ref 0, .int x1, .int x2, .retAddr 0, .retAddr 0, .retAddr 0] [] σ := lj_R_eq (nL := 6) (M := lm_M152) _ _ _ _ rfl rfl
set_option maxRecDepth 100000 in
set_option maxHeartbeats 4000000 in
theorem km_152_0 (x1 : Int32) (x2 : Int32) (σ : lj_S) : lj_D lm_P lm_M152 0 [.ref 0, .int x1, .int x2, .retAddr 0, .retAddr 0, .retAddr 0] [] σ = lj_bi (lj_R lm_P 111 [.ref 0, .int 5] σ) (fun y2 σ1 => (if y2 = 0 then some (.inl none, σ1) else (if lj_in y2 2002 then lj_D lm_P lm_M152 21 [.ref 0, .int x1, .int x2, .int y2, .int 0, .retAddr 0] [] (lj_put σ1 43 y2.toNatClampNeg x1) else none))) lj_up := by rw [lj_D_eq]; rfl
set_option maxRecDepth 100000 in
set_option maxHeartbeats 4000000 in
theorem km_152_21 (x1 : Int32) (x2 : Int32) (x3 : Int32) (x4 : Int32) (x5 : Value) (σ : lj_S) : lj_D lm_P lm_M152 21 [.ref 0, .int x1, .int x2, .int x3, .int x4, x5] [] σ = (if lj_in x1 51 then (if (σ.1 15 x1.toNatClampNeg) ≤ x4 then lj_bv (lj_R lm_P 116 [.ref 0, .int 5, .long ((x3 : Int32).toInt64)] σ) (fun σ1 => some (.inl none, σ1)) lj_up else (if lj_in ((30 * x1) + x4) 1530 then (if lj_in ((30 * x1) + x4) 1530 then (if ((σ.1 18 (((30 * x1) + x4).toNatClampNeg))) = 0 then (if lj_in x2 1248 then (if lj_in ((30 * (σ.1 76 x2.toNatClampNeg)) + ((σ.1 19 (((30 * x1) + x4).toNatClampNeg)))) 60060 then lj_D lm_P lm_M152 104 [.ref 0, .int x1, .int x2, .int x3, .int x4, .int ((σ.1 19 (((30 * x1) + x4).toNatClampNeg)))] [.int ((σ.1 44 (((30 * (σ.1 76 x2.toNatClampNeg)) + ((σ.1 19 (((30 * x1) + x4).toNatClampNeg)))).toNatClampNeg))), .int ((30 * x3) + x4), .ref 44] σ else none) else none) else (if lj_in ((50 * x2) + ((σ.1 19 (((30 * x1) + x4).toNatClampNeg)))) 62400 then lj_D lm_P lm_M152 104 [.ref 0, .int x1, .int x2, .int x3, .int x4, .int ((σ.1 19 (((30 * x1) + x4).toNatClampNeg)))] [.int ((σ.1 87 (((50 * x2) + ((σ.1 19 (((30 * x1) + x4).toNatClampNeg)))).toNatClampNeg))), .int ((30 * x3) + x4), .ref 44] σ else none)) else none) else none)) else none) := by rw [lj_D_eq]; rfl
set_option maxRecDepth 100000 in
set_option maxHeartbeats 4000000 in
theorem km_152_104 (x1 : Int32) (x2 : Int32) (x3 : Int32) (x4 : Int32) (x5 : Int32) (x50 : Int32) (x51 : Int32) (σ : lj_S) : lj_D lm_P lm_M152 104 [.ref 0, .int x1, .int x2, .int x3, .int x4, .int x5] [.int x50, .int x51, .ref 44] σ = (if lj_in x51 60060 then lj_D lm_P lm_M152 21 [.ref 0, .int x1, .int x2, .int x3, .int (x4 + 1), .int x5] [] (lj_put σ 44 x51.toNatClampNeg x50) else none) := by rw [lj_D_eq]; rfl
-- TableTongueModel.wordLast(IIIIJ)V
set_option maxRecDepth 100000 in
theorem rm_153 (x1 : Int32) (x2 : Int32) (x3 : Int32) (x4 : Int32) (x5 : Int64) (σ : lj_S) : lj_R lm_P 153 [.ref 0, .int x1, .int x2, .int x3, .int x4, .long x5] σ = lj_D lm_P lm_M153 0 [.ref 0, .int x1, .int x2, .int x3, .int x4, .long x5, .retAddr 0, .retAddr 0, .retAddr 0, .retAddr 0, .retAddr 0, .retAddr 0] [] σ := lj_R_eq (nL := 12) (M := lm_M153) _ _ _ _ rfl rfl
set_option maxRecDepth 100000 in
set_option maxHeartbeats 4000000 in
theorem km_153_0 (x1 : Int32) (x2 : Int32) (x3 : Int32) (x4 : Int32) (x5 : Int64) (σ : lj_S) : lj_D lm_P lm_M153 0 [.ref 0, .int x1, .int x2, .int x3, .int x4, .long x5, .retAddr 0, .retAddr 0, .retAddr 0, .retAddr 0, .retAddr 0, .retAddr 0] [] σ = (if lj_in x2 14000 then (if lj_in x2 14000 then (if (σ.1 20 x2.toNatClampNeg) = 27 then lj_bv (lj_R lm_P 154 [.ref 0, .int x4, .long x5, .int (σ.1 23 x2.toNatClampNeg)] σ) (fun σ1 => lj_D lm_P lm_M153 483 [.ref 0, .int x1, .int x2, .int x3, .int x4, .long x5, .retAddr 0, .int (σ.1 23 x2.toNatClampNeg), .retAddr 0, .retAddr 0, .retAddr 0, .retAddr 0] [] σ1) lj_up else (if (σ.1 20 x2.toNatClampNeg) = 28 then (if lj_in (σ.1 0 111) 26 then (if lj_in (σ.1 0 111) 26 then lj_bl (lj_R lm_P 125 [.ref 0, .int 1] (lj_put σ 64 ((σ.1 0 111).toNatClampNeg) (((σ.1 64 ((σ.1 0 111).toNatClampNeg))) - 1))) (fun y3 σ2 => lj_bi (lj_R lm_P 108 [.ref 0, .int ((y3 : Int64).toInt32), .int 2, .long ((x3 : Int32).toInt64), .int x4, .long x5] σ2) (fun y5 σ4 => lj_bv (lj_R lm_P 126 [.ref 0, .int 1] σ4) (fun σ6 => lj_D lm_P lm_M153 483 [.ref 0, .int x1, .int x2, .int x3, .int x4, .long x5, .retAddr 0, .int (σ.1 23 x2.toNatClampNeg), .int y5, .retAddr 0, .retAddr 0, .retAddr 0] [] σ6) lj_up) lj_up) lj_up else none) else none) else (if (σ.1 20 x2.toNatClampNeg) = 29 then lj_bv (lj_R lm_P 155 [.ref 0, .int x3] σ) (fun σ7 => lj_D lm_P lm_M153 483 [.ref 0, .int x1, .int x2, .int x3, .int x4, .long x5, .retAddr 0, .int (σ.1 23 x2.toNatClampNeg), .retAddr 0, .retAddr 0, .retAddr 0, .retAddr 0] [] σ7) lj_up else (if (σ.1 20 x2.toNatClampNeg) = 30 then lj_bv (lj_R lm_P 156 [.ref 0, .int x1, .int x3] σ) (fun σ8 => lj_D lm_P lm_M153 483 [.ref 0, .int x1, .int x2, .int x3, .int x4, .long x5, .retAddr 0, .int (σ.1 23 x2.toNatClampNeg), .retAddr 0, .retAddr 0, .retAddr 0, .retAddr 0] [] σ8) lj_up else (if (σ.1 20 x2.toNatClampNeg) = 31 then lj_bi (lj_R lm_P 124 [.ref 0, .int 1] σ) (fun y10 σ9 => lj_bl (lj_R lm_P 125 [.ref 0, .int 1] σ9) (fun y12 σ11 => lj_bv (lj_R lm_P 126 [.ref 0, .int 2] σ11) (fun σ13 => lj_bv (lj_R lm_P 157 [.ref 0, .int x3, .int y10, .long y12, .int x4, .long x5, .int (σ.1 23 x2.toNatClampNeg)] σ13) (fun σ14 => lj_D lm_P lm_M153 483 [.ref 0, .int x1, .int x2, .int x3, .int x4, .long x5, .retAddr 0, .int (σ.1 23 x2.toNatClampNeg), .retAddr 0, .int y10, .long y12, .retAddr 0] [] σ14) lj_up) lj_up) lj_up) lj_up else (if (σ.1 20 x2.toNatClampNeg) = 32 then lj_bv (lj_R lm_P 126 [.ref 0, .int 1] σ) (fun σ15 => lj_bv (lj_R lm_P 157 [.ref 0, .int x3, .int x4, .long x5, .int x4, .long x5, .int (σ.1 23 x2.toNatClampNeg)] σ15) (fun σ16 => lj_D lm_P lm_M153 483 [.ref 0, .int x1, .int x2, .int x3, .int x4, .long x5, .retAddr 0, .int (σ.1 23 x2.toNatClampNeg), .retAddr 0, .retAddr 0, .retAddr 0, .retAddr 0] [] σ16) lj_up) lj_up else (if (σ.1 20 x2.toNatClampNeg) = 33 then lj_bv (lj_R lm_P 162 [.ref 0, .int (σ.1 23 x2.toNatClampNeg)] σ) (fun σ17 => lj_D lm_P lm_M153 483 [.ref 0, .int x1, .int x2, .int x3, .int x4, .long x5, .retAddr 0, .int (σ.1 23 x2.toNatClampNeg), .retAddr 0, .retAddr 0, .retAddr 0, .retAddr 0] [] σ17) lj_up else (if (σ.1 20 x2.toNatClampNeg) = 34 then lj_bv (lj_R lm_P 165 [.ref 0, .int (σ.1 23 x2.toNatClampNeg)] σ) (fun σ18 => lj_D lm_P lm_M153 483 [.ref 0, .int x1, .int x2, .int x3, .int x4, .long x5, .retAddr 0, .int (σ.1 23 x2.toNatClampNeg), .retAddr 0, .retAddr 0, .retAddr 0, .retAddr 0] [] σ18) lj_up else (if (σ.1 20 x2.toNatClampNeg) = 35 then lj_bv (lj_R lm_P 126 [.ref 0, .int 1] σ) (fun σ19 => lj_bi (lj_R lm_P 151 [.int x4, .long x5] σ19) (fun y21 σ20 => (if y21 = 0 then lj_D lm_P lm_M153 278 [.ref 0, .int x1, .int x2, .int x3, .int x4, .long x5, .retAddr 0, .int (σ.1 23 x2.toNatClampNeg), .retAddr 0, .retAddr 0, .retAddr 0, .retAddr 0] [.long 1, .int 1, .ref 0] σ20 else lj_D lm_P lm_M153 278 [.ref 0, .int x1, .int x2, .int x3, .int x4, .long x5, .retAddr 0, .int (σ.1 23 x2.toNatClampNeg), .retAddr 0, .retAddr 0, .retAddr 0, .retAddr 0] [.long 0, .int 1, .ref 0] σ20)) lj_up) lj_up else (if (σ.1 20 x2.toNatClampNeg) = 36 then (if x3 = 1 then lj_D lm_P lm_M153 295 [.ref 0, .int x1, .int x2, .int x3, .int x4, .long x5, .retAddr 0, .int (σ.1 23 x2.toNatClampNeg), .retAddr 0, .retAddr 0, .retAddr 0, .retAddr 0] [.int 1, .ref 0] σ else lj_D lm_P lm_M153 295 [.ref 0, .int x1, .int x2, .int x3, .int x4, .long x5, .retAddr 0, .int (σ.1 23 x2.toNatClampNeg), .retAddr 0, .retAddr 0, .retAddr 0, .retAddr 0] [.int 0, .ref 0] σ) else (if (σ.1 20 x2.toNatClampNeg) = 37 then (if x3 = 1 then lj_D lm_P lm_M153 314 [.ref 0, .int x1, .int x2, .int x3, .int x4, .long x5, .retAddr 0, .int (σ.1 23 x2.toNatClampNeg), .retAddr 0, .retAddr 0, .retAddr 0, .retAddr 0] [.int 1, .ref 0] σ else lj_D lm_P lm_M153 314 [.ref 0, .int x1, .int x2, .int x3, .int x4, .long x5, .retAddr 0, .int (σ.1 23 x2.toNatClampNeg), .retAddr 0, .retAddr 0, .retAddr 0, .retAddr 0] [.int 0, .ref 0] σ) else (if (σ.1 20 x2.toNatClampNeg) = 38 then lj_bv (lj_R lm_P 170 [.ref 0, .int x1] σ) (fun σ22 => lj_D lm_P lm_M153 483 [.ref 0, .int x1, .int x2, .int x3, .int x4, .long x5, .retAddr 0, .int (σ.1 23 x2.toNatClampNeg), .retAddr 0, .retAddr 0, .retAddr 0, .retAddr 0] [] σ22) lj_up else (if (σ.1 20 x2.toNatClampNeg) = 39 then lj_bv (lj_R lm_P 172 [.ref 0, .int (σ.1 23 x2.toNatClampNeg)] σ) (fun σ23 => lj_D lm_P lm_M153 483 [.ref 0, .int x1, .int x2, .int x3, .int x4, .long x5, .retAddr 0, .int (σ.1 23 x2.toNatClampNeg), .retAddr 0, .retAddr 0, .retAddr 0, .retAddr 0] [] σ23) lj_up else (if (σ.1 20 x2.toNatClampNeg) = 40 then lj_bi (lj_R lm_P 173 [.ref 0] σ) (fun y25 σ24 => (if y25 = 0 then (if lj_in x2 14000 then lj_bl (lj_R lm_P 125 [.ref 0, .int 2] σ24) (fun y27 σ26 => lj_bv (lj_R lm_P 150 [.ref 0, .int x1, .int (σ24.1 22 x2.toNatClampNeg), .int 2, .long y27] σ26) (fun σ28 => lj_D lm_P lm_M153 483 [.ref 0, .int x1, .int x2, .int x3, .int x4, .long x5, .retAddr 0, .int (σ.1 23 x2.toNatClampNeg), .retAddr 0, .retAddr 0, .retAddr 0, .retAddr 0] [] σ28) lj_up) lj_up else none) else (if lj_in x1 1248 then lj_D lm_P lm_M153 483 [.ref 0, .int x1, .int x2, .int x3, .int x4, .long x5, .retAddr 0, .int (σ.1 23 x2.toNatClampNeg), .retAddr 0, .retAddr 0, .retAddr 0, .retAddr 0] [] (lj_put σ24 77 x1.toNatClampNeg x3) else none))) lj_up else (if (σ.1 20 x2.toNatClampNeg) = 41 then (if lj_in x2 14000 then lj_bv (lj_R lm_P 174 [.ref 0, .int x1, .int x3, .int (σ.1 22 x2.toNatClampNeg)] σ) (fun σ29 => lj_D lm_P lm_M153 483 [.ref 0, .int x1, .int x2, .int x3, .int x4, .long x5, .retAddr 0, .int (σ.1 23 x2.toNatClampNeg), .retAddr 0, .retAddr 0, .retAddr 0, .retAddr 0] [] σ29) lj_up else none) else (if (σ.1 20 x2.toNatClampNeg) = 42 then lj_bv (lj_R lm_P 175 [.ref 0, .int x3, .int (σ.1 23 x2.toNatClampNeg)] σ) (fun σ30 => lj_D lm_P lm_M153 483 [.ref 0, .int x1, .int x2, .int x3, .int x4, .long x5, .retAddr 0, .int (σ.1 23 x2.toNatClampNeg), .retAddr 0, .retAddr 0, .retAddr 0, .retAddr 0] [] σ30) lj_up else (if (σ.1 20 x2.toNatClampNeg) = 43 then (if lj_in x2 14000 then lj_bv (lj_R lm_P 176 [.ref 0, .int x1, .int x3, .int (σ.1 22 x2.toNatClampNeg)] σ) (fun σ31 => lj_D lm_P lm_M153 483 [.ref 0, .int x1, .int x2, .int x3, .int x4, .long x5, .retAddr 0, .int (σ.1 23 x2.toNatClampNeg), .retAddr 0, .retAddr 0, .retAddr 0, .retAddr 0] [] σ31) lj_up else none) else (if (σ.1 20 x2.toNatClampNeg) = 44 then lj_bv (lj_R lm_P 126 [.ref 0, .int x3] σ) (fun σ32 => lj_D lm_P lm_M153 483 [.ref 0, .int x1, .int x2, .int x3, .int x4, .long x5, .retAddr 0, .int (σ.1 23 x2.toNatClampNeg), .retAddr 0, .retAddr 0, .retAddr 0, .retAddr 0] [] σ32) lj_up else (if (σ.1 20 x2.toNatClampNeg) = 45 then lj_bv (lj_R lm_P 116 [.ref 0, .int x4, .long x5] σ) (fun σ33 => lj_D lm_P lm_M153 483 [.ref 0, .int x1, .int x2, .int x3, .int x4, .long x5, .retAddr 0, .int (σ.1 23 x2.toNatClampNeg), .retAddr 0, .retAddr 0, .retAddr 0, .retAddr 0] [] σ33) lj_up else (if (σ.1 20 x2.toNatClampNeg) = 46 then lj_bv (lj_R lm_P 177 [.ref 0] σ) (fun σ34 => lj_D lm_P lm_M153 483 [.ref 0, .int x1, .int x2, .int x3, .int x4, .long x5, .retAddr 0, .int (σ.1 23 x2.toNatClampNeg), .retAddr 0, .retAddr 0, .retAddr 0, .retAddr 0] [] σ34) lj_up else lj_bi (lj_R lm_P 144 [.ref 0] σ) (fun y36 σ35 => (if lj_in (σ.1 0 111) 26 then (if lj_in (σ35.1 0 111) 26 then (if lj_in (σ35.1 0 111) 26 then lj_D lm_P lm_M153 483 [.ref 0, .int x1, .int x2, .int x3, .int x4, .long x5, .retAddr 0, .int (σ.1 23 x2.toNatClampNeg), .retAddr 0, .retAddr 0, .retAddr 0, .retAddr 0] [] (lj_put (lj_put σ35 63 ((σ.1 0 111).toNatClampNeg) y36) 64 ((σ35.1 0 111).toNatClampNeg) (((σ35.1 64 ((σ35.1 0 111).toNatClampNeg))) - 1)) else none) else none) else none)) lj_up)))))))))))))))))))) else none) else none) := by rw [lj_D_eq]; rfl
set_option maxRecDepth 100000 in
set_option maxHeartbeats 4000000 in
theorem km_153_278 (x1 : Int32) (x2 : Int32) (x3 : Int32) (x4 : Int32) (x5 : Int64) (x7 : Int32) (x50 : Int64) (x51 : Int32) (σ : lj_S) : lj_D lm_P lm_M153 278 [.ref 0, .int x1, .int x2, .int x3, .int x4, .long x5, .retAddr 0, .int x7, .retAddr 0, .retAddr 0, .retAddr 0, .retAddr 0] [.long x50, .int x51, .ref 0] σ = lj_bv (lj_R lm_P 116 [.ref 0, .int x51, .long x50] σ) (fun σ1 => lj_D lm_P lm_M153 483 [.ref 0, .int x1, .int x2, .int x3, .int x4, .long x5, .retAddr 0, .int x7, .retAddr 0, .retAddr 0, .retAddr 0, .retAddr 0] [] σ1) lj_up := by rw [lj_D_eq]; rfl
set_option maxRecDepth 100000 in
set_option maxHeartbeats 4000000 in
theorem km_153_295 (x1 : Int32) (x2 : Int32) (x3 : Int32) (x4 : Int32) (x5 : Int64) (x7 : Int32) (x50 : Int32) (σ : lj_S) : lj_D lm_P lm_M153 295 [.ref 0, .int x1, .int x2, .int x3, .int x4, .long x5, .retAddr 0, .int x7, .retAddr 0, .retAddr 0, .retAddr 0, .retAddr 0] [.int x50, .ref 0] σ = lj_bv (lj_R lm_P 167 [.ref 0, .int x50, .int x7] σ) (fun σ1 => lj_D lm_P lm_M153 483 [.ref 0, .int x1, .int x2, .int x3, .int x4, .long x5, .retAddr 0, .int x7, .retAddr 0, .retAddr 0, .retAddr 0, .retAddr 0] [] σ1) lj_up := by rw [lj_D_eq]; rfl
set_option maxRecDepth 100000 in
set_option maxHeartbeats 4000000 in
theorem km_153_314 (x1 : Int32) (x2 : Int32) (x3 : Int32) (x4 : Int32) (x5 : Int64) (x7 : Int32) (x50 : Int32) (σ : lj_S) : lj_D lm_P lm_M153 314 [.ref 0, .int x1, .int x2, .int x3, .int x4, .long x5, .retAddr 0, .int x7, .retAddr 0, .retAddr 0, .retAddr 0, .retAddr 0] [.int x50, .ref 0] σ = (if lj_in x2 14000 then (if (σ.1 22 x2.toNatClampNeg) = 1 then lj_D lm_P lm_M153 329 [.ref 0, .int x1, .int x2, .int x3, .int x4, .long x5, .retAddr 0, .int x7, .retAddr 0, .retAddr 0, .retAddr 0, .retAddr 0] [.int 1, .int x50, .ref 0] σ else lj_D lm_P lm_M153 329 [.ref 0, .int x1, .int x2, .int x3, .int x4, .long x5, .retAddr 0, .int x7, .retAddr 0, .retAddr 0, .retAddr 0, .retAddr 0] [.int 0, .int x50, .ref 0] σ) else none) := by rw [lj_D_eq]; rfl
set_option maxRecDepth 100000 in
set_option maxHeartbeats 4000000 in
theorem km_153_329 (x1 : Int32) (x2 : Int32) (x3 : Int32) (x4 : Int32) (x5 : Int64) (x7 : Int32) (x50 : Int32) (x51 : Int32) (σ : lj_S) : lj_D lm_P lm_M153 329 [.ref 0, .int x1, .int x2, .int x3, .int x4, .long x5, .retAddr 0, .int x7, .retAddr 0, .retAddr 0, .retAddr 0, .retAddr 0] [.int x50, .int x51, .ref 0] σ = lj_bv (lj_R lm_P 168 [.ref 0, .int x51, .int x50, .int x7] σ) (fun σ1 => lj_D lm_P lm_M153 483 [.ref 0, .int x1, .int x2, .int x3, .int x4, .long x5, .retAddr 0, .int x7, .retAddr 0, .retAddr 0, .retAddr 0, .retAddr 0] [] σ1) lj_up := by rw [lj_D_eq]; rfl
set_option maxRecDepth 100000 in
set_option maxHeartbeats 4000000 in
theorem km_153_483 (x1 : Int32) (x2 : Int32) (x3 : Int32) (x4 : Int32) (x5 : Int64) (x7 : Int32) (x8 : Value) (x9 : Value) (x10 : Value) (σ : lj_S) : lj_D lm_P lm_M153 483 [.ref 0, .int x1, .int x2, .int x3, .int x4, .long x5, .retAddr 0, .int x7, x8, x9, x10, .retAddr 0] [] σ = some (.inl none, σ) := by rw [lj_D_eq]; rfl
-- TableTongueModel.fieldKeyed(IJI)V
set_option maxRecDepth 100000 in
theorem rm_154 (x1 : Int32) (x2 : Int64) (x3 : Int32) (σ : lj_S) : lj_R lm_P 154 [.ref 0, .int x1, .long x2, .int x3] σ = lj_D lm_P lm_M154 0 [.ref 0, .int x1, .long x2, .retAddr 0, .int x3, .retAddr 0, .retAddr 0, .retAddr 0, .retAddr 0, .retAddr 0] [] σ := lj_R_eq (nL := 10) (M := lm_M154) _ _ _ _ rfl rfl
set_option maxRecDepth 100000 in
set_option maxHeartbeats 4000000 in
theorem km_154_0 (x1 : Int32) (x2 : Int64) (x4 : Int32) (σ : lj_S) : lj_D lm_P lm_M154 0 [.ref 0, .int x1, .long x2, .retAddr 0, .int x4, .retAddr 0, .retAddr 0, .retAddr 0, .retAddr 0, .retAddr 0] [] σ = lj_bi (lj_R lm_P 124 [.ref 0, .int 1] σ) (fun y2 σ1 => lj_bl (lj_R lm_P 125 [.ref 0, .int 1] σ1) (fun y4 σ3 => lj_bl (lj_R lm_P 125 [.ref 0, .int 2] σ3) (fun y6 σ5 => lj_bv (lj_R lm_P 126 [.ref 0, .int 2] σ5) (fun σ7 => (if y2 = 0 then lj_bv (lj_R lm_P 142 [.ref 0, .int 2, .int x4] σ7) (fun σ10 => lj_D lm_P lm_M154 56 [.ref 0, .int x1, .long x2, .retAddr 0, .int x4, .int y2, .long y4, .retAddr 0, .int ((y6 : Int64).toInt32), .retAddr 0] [] σ10) lj_up else lj_bi (lj_R lm_P 108 [.ref 0, .int ((y6 : Int64).toInt32), .int y2, .long y4, .int x1, .long x2] σ7) (fun y9 σ8 => lj_D lm_P lm_M154 56 [.ref 0, .int x1, .long x2, .retAddr 0, .int x4, .int y2, .long y4, .retAddr 0, .int ((y6 : Int64).toInt32), .int y9] [] σ8) lj_up)) lj_up) lj_up) lj_up) lj_up := by rw [lj_D_eq]; rfl
set_option maxRecDepth 100000 in
set_option maxHeartbeats 4000000 in
theorem km_154_56 (x1 : Int32) (x2 : Int64) (x4 : Int32) (x5 : Int32) (x6 : Int64) (x8 : Int32) (x9 : Value) (σ : lj_S) : lj_D lm_P lm_M154 56 [.ref 0, .int x1, .long x2, .retAddr 0, .int x4, .int x5, .long x6, .retAddr 0, .int x8, x9] [] σ = some (.inl none, σ) := by rw [lj_D_eq]; rfl
-- TableTongueModel.fieldAll(I)V
set_option maxRecDepth 100000 in
theorem rm_155 (x1 : Int32) (σ : lj_S) : lj_R lm_P 155 [.ref 0, .int x1] σ = lj_D lm_P lm_M155 0 [.ref 0, .int x1, .retAddr 0, .retAddr 0, .retAddr 0, .retAddr 0, .retAddr 0] [] σ := lj_R_eq (nL := 7) (M := lm_M155) _ _ _ _ rfl rfl
set_option maxRecDepth 100000 in
set_option maxHeartbeats 4000000 in
theorem km_155_0 (x1 : Int32) (σ : lj_S) : lj_D lm_P lm_M155 0 [.ref 0, .int x1, .retAddr 0, .retAddr 0, .retAddr 0, .retAddr 0, .retAddr 0] [] σ = lj_bi (lj_R lm_P 144 [.ref 0] σ) (fun y2 σ1 => (if lj_in (σ1.1 0 111) 26 then (if lj_in (σ1.1 0 111) 26 then (if lj_in (((10000 * (σ1.1 0 111)) + y2) - 1) 260000 then (if lj_in (σ1.1 0 111) 26 then lj_D lm_P lm_M155 56 [.ref 0, .int x1, .int y2, .int ((((σ1.2 72 ((((10000 * (σ1.1 0 111)) + y2) - 1).toNatClampNeg))) : Int64).toInt32), .int (((σ1.1 63 ((σ1.1 0 111).toNatClampNeg))) - y2), .int 1, .int 0] [] (lj_put σ1 64 ((σ1.1 0 111).toNatClampNeg) (((σ1.1 64 ((σ1.1 0 111).toNatClampNeg))) - 1)) else none) else none) else none) else none)) lj_up := by rw [lj_D_eq]; rfl
set_option maxRecDepth 100000 in
set_option maxHeartbeats 4000000 in
theorem km_155_56 (x1 : Int32) (x2 : Int32) (x3 : Int32) (x4 : Int32) (x5 : Int32) (x6 : Int32) (σ : lj_S) : lj_D lm_P lm_M155 56 [.ref 0, .int x1, .int x2, .int x3, .int x4, .int x5, .int x6] [] σ = (if x4 ≤ x6 then lj_D lm_P lm_M155 123 [.ref 0, .int x1, .int x2, .int x3, .int x4, .int x5, .int x6] [] σ else (if x5 = 0 then lj_D lm_P lm_M155 123 [.ref 0, .int x1, .int x2, .int x3, .int x4, .int x5, .int x6] [] σ else (if lj_in (((10000 * (σ.1 0 111)) + x2) + x6) 260000 then (if lj_in (((10000 * (σ.1 0 111)) + x2) + x6) 260000 then lj_bi (lj_R lm_P 108 [.ref 0, .int x3, .int 2, .long (((x1 + x6) : Int32).toInt64), .int ((σ.1 71 ((((10000 * (σ.1 0 111)) + x2) + x6).toNatClampNeg))), .long ((σ.2 72 ((((10000 * (σ.1 0 111)) + x2) + x6).toNatClampNeg)))] σ) (fun y2 σ1 => lj_D lm_P lm_M155 56 [.ref 0, .int x1, .int x2, .int x3, .int x4, .int y2, .int (x6 + 1)] [] σ1) lj_up else none) else none))) := by rw [lj_D_eq]; rfl
set_option maxRecDepth 100000 in
set_option maxHeartbeats 4000000 in
theorem km_155_123 (x1 : Int32) (x2 : Int32) (x3 : Int32) (x4 : Int32) (x5 : Int32) (x6 : Int32) (σ : lj_S) : lj_D lm_P lm_M155 123 [.ref 0, .int x1, .int x2, .int x3, .int x4, .int x5, .int x6] [] σ = (if lj_in (σ.1 0 111) 26 then some (.inl none, (lj_put σ 63 ((σ.1 0 111).toNatClampNeg) x2)) else none) := by rw [lj_D_eq]; rfl
-- TableTongueModel.varargs(II)V
set_option maxRecDepth 100000 in
theorem rm_156 (x1 : Int32) (x2 : Int32) (σ : lj_S) : lj_R lm_P 156 [.ref 0, .int x1, .int x2] σ = lj_D lm_P lm_M156 0 [.ref 0, .int x1, .int x2, .retAddr 0, .retAddr 0, .retAddr 0] [] σ := lj_R_eq (nL := 6) (M := lm_M156) _ _ _ _ rfl rfl
set_option maxRecDepth 100000 in
set_option maxHeartbeats 4000000 in
theorem km_156_0 (x1 : Int32) (x2 : Int32) (σ : lj_S) : lj_D lm_P lm_M156 0 [.ref 0, .int x1, .int x2, .retAddr 0, .retAddr 0, .retAddr 0] [] σ = (if 0 ≤ x2 then lj_D lm_P lm_M156 14 [.ref 0, .int x1, .int x2, .retAddr 0, .retAddr 0, .retAddr 0] [.int x2] σ else (if lj_in x1 1248 then lj_D lm_P lm_M156 14 [.ref 0, .int x1, .int x2, .retAddr 0, .retAddr 0, .retAddr 0] [.int (σ.1 82 x1.toNatClampNeg)] σ else none)) := by rw [lj_D_eq]; rfl
set_option maxRecDepth 100000 in
set_option maxHeartbeats 4000000 in
theorem km_156_14 (x1 : Int32) (x2 : Int32) (x50 : Int32) (σ : lj_S) : lj_D lm_P lm_M156 14 [.ref 0, .int x1, .int x2, .retAddr 0, .retAddr 0, .retAddr 0] [.int x50] σ = lj_D lm_P lm_M156 18 [.ref 0, .int x1, .int x2, .int x50, .int 0, .retAddr 0] [] σ := by rw [lj_D_eq]; rfl
set_option maxRecDepth 100000 in
set_option maxHeartbeats 4000000 in
theorem km_156_18 (x1 : Int32) (x2 : Int32) (x3 : Int32) (x4 : Int32) (x5 : Value) (σ : lj_S) : lj_D lm_P lm_M156 18 [.ref 0, .int x1, .int x2, .int x3, .int x4, x5] [] σ = (if x3 ≤ x4 then some (.inl none, σ) else (if lj_in x1 1248 then (if (σ.1 82 x1.toNatClampNeg) ≤ x4 then lj_D lm_P lm_M156 40 [.ref 0, .int x1, .int x2, .int x3, .int x4, x5] [.int 0] σ else lj_D lm_P lm_M156 40 [.ref 0, .int x1, .int x2, .int x3, .int x4, x5] [.int 1] σ) else none)) := by rw [lj_D_eq]; rfl
set_option maxRecDepth 100000 in
set_option maxHeartbeats 4000000 in
theorem km_156_40 (x1 : Int32) (x2 : Int32) (x3 : Int32) (x4 : Int32) (x5 : Value) (x50 : Int32) (σ : lj_S) : lj_D lm_P lm_M156 40 [.ref 0, .int x1, .int x2, .int x3, .int x4, x5] [.int x50] σ = (if x50 = 0 then lj_D lm_P lm_M156 75 [.ref 0, .int x1, .int x2, .int x3, .int x4, .int x50] [.int 0, .ref 0] σ else (if lj_in x1 1248 then (if lj_in (((10000 * (σ.1 0 111)) + (σ.1 80 x1.toNatClampNeg)) + x4) 260000 then lj_D lm_P lm_M156 75 [.ref 0, .int x1, .int x2, .int x3, .int x4, .int x50] [.int ((σ.1 71 ((((10000 * (σ.1 0 111)) + (σ.1 80 x1.toNatClampNeg)) + x4).toNatClampNeg))), .ref 0] σ else none) else none)) := by rw [lj_D_eq]; rfl
set_option maxRecDepth 100000 in
set_option maxHeartbeats 4000000 in
theorem km_156_75 (x1 : Int32) (x2 : Int32) (x3 : Int32) (x4 : Int32) (x5 : Int32) (x50 : Int32) (σ : lj_S) : lj_D lm_P lm_M156 75 [.ref 0, .int x1, .int x2, .int x3, .int x4, .int x5] [.int x50, .ref 0] σ = (if x5 = 0 then lj_D lm_P lm_M156 107 [.ref 0, .int x1, .int x2, .int x3, .int x4, .int x5] [.long 0, .int x50, .ref 0] σ else (if lj_in x1 1248 then (if lj_in (((10000 * (σ.1 0 111)) + (σ.1 80 x1.toNatClampNeg)) + x4) 260000 then lj_D lm_P lm_M156 107 [.ref 0, .int x1, .int x2, .int x3, .int x4, .int x5] [.long ((σ.2 72 ((((10000 * (σ.1 0 111)) + (σ.1 80 x1.toNatClampNeg)) + x4).toNatClampNeg))), .int x50, .ref 0] σ else none) else none)) := by rw [lj_D_eq]; rfl
set_option maxRecDepth 100000 in
set_option maxHeartbeats 4000000 in
theorem km_156_107 (x1 : Int32) (x2 : Int32) (x3 : Int32) (x4 : Int32) (x5 : Int32) (x50 : Int64) (x51 : Int32) (σ : lj_S) : lj_D lm_P lm_M156 107 [.ref 0, .int x1, .int x2, .int x3, .int x4, .int x5] [.long x50, .int x51, .ref 0] σ = lj_bv (lj_R lm_P 116 [.ref 0, .int x51, .long x50] σ) (fun σ1 => lj_D lm_P lm_M156 18 [.ref 0, .int x1, .int x2, .int x3, .int (x4 + 1), .int x5] [] σ1) lj_up := by rw [lj_D_eq]; rfl
-- TableTongueModel.arithmetic(IIJIJI)V
set_option maxRecDepth 100000 in
theorem rm_157 (x1 : Int32) (x2 : Int32) (x3 : Int64) (x4 : Int32) (x5 : Int64) (x6 : Int32) (σ : lj_S) : lj_R lm_P 157 [.ref 0, .int x1, .int x2, .long x3, .int x4, .long x5, .int x6] σ = lj_D lm_P lm_M157 0 [.ref 0, .int x1, .int x2, .long x3, .retAddr 0, .int x4, .long x5, .retAddr 0, .int x6] [] σ := lj_R_eq (nL := 9) (M := lm_M157) _ _ _ _ rfl rfl
set_option maxRecDepth 100000 in
set_option maxHeartbeats 4000000 in
theorem km_157_0 (x1 : Int32) (x2 : Int32) (x3 : Int64) (x5 : Int32) (x6 : Int64) (x8 : Int32) (σ : lj_S) : lj_D lm_P lm_M157 0 [.ref 0, .int x1, .int x2, .long x3, .retAddr 0, .int x5, .long x6, .retAddr 0, .int x8] [] σ = (if x2 = 2 then (if x5 = 2 then (if x1 = 6 then lj_D lm_P lm_M157 23 [.ref 0, .int x1, .int x2, .long x3, .retAddr 0, .int x5, .long x6, .retAddr 0, .int x8] [] σ else (if x1 = 7 then lj_D lm_P lm_M157 23 [.ref 0, .int x1, .int x2, .long x3, .retAddr 0, .int x5, .long x6, .retAddr 0, .int x8] [] σ else lj_D lm_P lm_M157 40 [.ref 0, .int x1, .int x2, .long x3, .retAddr 0, .int x5, .long x6, .retAddr 0, .int x8] [] σ)) else lj_D lm_P lm_M157 54 [.ref 0, .int x1, .int x2, .long x3, .retAddr 0, .int x5, .long x6, .retAddr 0, .int x8] [] σ) else lj_D lm_P lm_M157 54 [.ref 0, .int x1, .int x2, .long x3, .retAddr 0, .int x5, .long x6, .retAddr 0, .int x8] [] σ) := by rw [lj_D_eq]; rfl
set_option maxRecDepth 100000 in
set_option maxHeartbeats 4000000 in
theorem km_157_23 (x1 : Int32) (x2 : Int32) (x3 : Int64) (x5 : Int32) (x6 : Int64) (x8 : Int32) (σ : lj_S) : lj_D lm_P lm_M157 23 [.ref 0, .int x1, .int x2, .long x3, .retAddr 0, .int x5, .long x6, .retAddr 0, .int x8] [] σ = (if (lg_cmp x6 0) = 0 then lj_bv (lj_R lm_P 142 [.ref 0, .int 5, .int x8] σ) (fun σ1 => lj_D lm_P lm_M157 53 [.ref 0, .int x1, .int x2, .long x3, .retAddr 0, .int x5, .long x6, .retAddr 0, .int x8] [] σ1) lj_up else lj_D lm_P lm_M157 40 [.ref 0, .int x1, .int x2, .long x3, .retAddr 0, .int x5, .long x6, .retAddr 0, .int x8] [] σ) := by rw [lj_D_eq]; rfl
set_option maxRecDepth 100000 in
set_option maxHeartbeats 4000000 in
theorem km_157_40 (x1 : Int32) (x2 : Int32) (x3 : Int64) (x5 : Int32) (x6 : Int64) (x8 : Int32) (σ : lj_S) : lj_D lm_P lm_M157 40 [.ref 0, .int x1, .int x2, .long x3, .retAddr 0, .int x5, .long x6, .retAddr 0, .int x8] [] σ = lj_bl (lj_R lm_P 158 [.ref 0, .int x1, .long x3, .long x6] σ) (fun y2 σ1 => lj_bv (lj_R lm_P 116 [.ref 0, .int 2, .long y2] σ1) (fun σ3 => lj_D lm_P lm_M157 53 [.ref 0, .int x1, .int x2, .long x3, .retAddr 0, .int x5, .long x6, .retAddr 0, .int x8] [] σ3) lj_up) lj_up := by rw [lj_D_eq]; rfl
set_option maxRecDepth 100000 in
set_option maxHeartbeats 4000000 in
theorem km_157_53 (x1 : Int32) (x2 : Int32) (x3 : Int64) (x5 : Int32) (x6 : Int64) (x8 : Int32) (σ : lj_S) : lj_D lm_P lm_M157 53 [.ref 0, .int x1, .int x2, .long x3, .retAddr 0, .int x5, .long x6, .retAddr 0, .int x8] [] σ = some (.inl none, σ) := by rw [lj_D_eq]; rfl
set_option maxRecDepth 100000 in
set_option maxHeartbeats 4000000 in
theorem km_157_54 (x1 : Int32) (x2 : Int32) (x3 : Int64) (x5 : Int32) (x6 : Int64) (x8 : Int32) (σ : lj_S) : lj_D lm_P lm_M157 54 [.ref 0, .int x1, .int x2, .long x3, .retAddr 0, .int x5, .long x6, .retAddr 0, .int x8] [] σ = lj_bv (lj_R lm_P 161 [.ref 0, .int x2, .long x3, .int x5, .long x6, .int x1] σ) (fun σ1 => (if (σ1.1 0 90) = 0 then (if x2 = 2 then lj_D lm_P lm_M157 88 [.ref 0, .int x1, .int x2, .long x3, .retAddr 0, .int x5, .long x6, .retAddr 0, .int x8] [.int x5, .int x8, .int 6, .ref 0] σ1 else lj_D lm_P lm_M157 88 [.ref 0, .int x1, .int x2, .long x3, .retAddr 0, .int x5, .long x6, .retAddr 0, .int x8] [.int x2, .int x8, .int 6, .ref 0] σ1) else lj_bv (lj_R lm_P 112 [.ref 0, .int 0, .int 1, .int x8] σ1) (fun σ2 => lj_bv (lj_R lm_P 141 [.ref 0, .int (σ2.1 0 90), .long (σ2.2 0 91), .int x2, .long x3, .int x5, .long x6] σ2) (fun σ3 => some (.inl none, σ3)) lj_up) lj_up)) lj_up := by rw [lj_D_eq]; rfl
set_option maxRecDepth 100000 in
set_option maxHeartbeats 4000000 in
theorem km_157_88 (x1 : Int32) (x2 : Int32) (x3 : Int64) (x5 : Int32) (x6 : Int64) (x8 : Int32) (x50 : Int32) (x51 : Int32) (x52 : Int32) (σ : lj_S) : lj_D lm_P lm_M157 88 [.ref 0, .int x1, .int x2, .long x3, .retAddr 0, .int x5, .long x6, .retAddr 0, .int x8] [.int x50, .int x51, .int x52, .ref 0] σ = lj_bv (lj_R lm_P 131 [.ref 0, .int x52, .int x51, .int x50] σ) (fun σ1 => some (.inl none, σ1)) lj_up := by rw [lj_D_eq]; rfl
-- TableTongueModel.reckon(IJJ)J
set_option maxRecDepth 100000 in
theorem rm_158 (x1 : Int32) (x2 : Int64) (x3 : Int64) (σ : lj_S) : lj_R lm_P 158 [.ref 0, .int x1, .long x2, .long x3] σ = lj_D lm_P lm_M158 0 [.ref 0, .int x1, .long x2, .retAddr 0, .long x3, .retAddr 0] [] σ := lj_R_eq (nL := 6) (M := lm_M158) _ _ _ _ rfl rfl
set_option maxRecDepth 100000 in
set_option maxHeartbeats 4000000 in
theorem km_158_0 (x1 : Int32) (x2 : Int64) (x4 : Int64) (σ : lj_S) : lj_D lm_P lm_M158 0 [.ref 0, .int x1, .long x2, .retAddr 0, .long x4, .retAddr 0] [] σ = (if x1 = 3 then some (.inl (some (.long (x2 + x4))), σ) else (if x1 = 4 then some (.inl (some (.long (x2 - x4))), σ) else (if x1 = 5 then some (.inl (some (.long (x2 * x4))), σ) else (if x1 = 6 then lj_bl (lj_R lm_P 159 [.long x2, .long x4] σ) (fun y2 σ1 => some (.inl (some (.long y2)), σ1)) lj_up else (if x1 = 7 then lj_bl (lj_R lm_P 159 [.long x2, .long x4] σ) (fun y4 σ3 => some (.inl (some (.long (x2 - (y4 * x4)))), σ3)) lj_up else (if x1 = 8 then some (.inl (some (.long (x2 &&& x4))), σ) else (if x1 = 9 then some (.inl (some (.long (x2 ||| x4))), σ) else (if x1 = 10 then some (.inl (some (.long (x2 ^^^ x4))), σ) else (if x1 = 11 then lj_bl (lj_R lm_P 160 [.ref 0, .long x2, .long x4, .int 1] σ) (fun y6 σ5 => some (.inl (some (.long y6)), σ5)) lj_up else (if x1 = 12 then lj_bl (lj_R lm_P 160 [.ref 0, .long x2, .long x4, .int 0] σ) (fun y8 σ7 => some (.inl (some (.long y8)), σ7)) lj_up else (if x1 = 13 then some (.inl (some (.long (-x2))), σ) else some (.inl (some (.long (x2 ^^^ (-1)))), σ)))))))))))) := by rw [lj_D_eq]; rfl
-- TableTongueModel.floorOf(JJ)J
set_option maxRecDepth 100000 in
theorem rm_159 (x0 : Int64) (x1 : Int64) (σ : lj_S) : lj_R lm_P 159 [.long x0, .long x1] σ = lj_D lm_P lm_M159 0 [.long x0, .retAddr 0, .long x1, .retAddr 0, .retAddr 0, .retAddr 0] [] σ := lj_R_eq (nL := 6) (M := lm_M159) _ _ _ _ rfl rfl
set_option maxRecDepth 100000 in
set_option maxHeartbeats 4000000 in
theorem km_159_0 (x0 : Int64) (x2 : Int64) (σ : lj_S) : lj_D lm_P lm_M159 0 [.long x0, .retAddr 0, .long x2, .retAddr 0, .retAddr 0, .retAddr 0] [] σ = (if x2 = 0 then none else (if x2 = 0 then none else (if (lg_cmp (x0 - x0 / x2 * x2) 0) = 0 then lj_D lm_P lm_M159 45 [.long x0, .retAddr 0, .long x2, .retAddr 0, .long (x0 / x2), .retAddr 0] [] σ else (if 0 ≤ (lg_cmp x0 0) then lj_D lm_P lm_M159 24 [.long x0, .retAddr 0, .long x2, .retAddr 0, .long (x0 / x2), .retAddr 0] [.int 0] σ else lj_D lm_P lm_M159 24 [.long x0, .retAddr 0, .long x2, .retAddr 0, .long (x0 / x2), .retAddr 0] [.int 1] σ)))) := by rw [lj_D_eq]; rfl
set_option maxRecDepth 100000 in
set_option maxHeartbeats 4000000 in
theorem km_159_24 (x0 : Int64) (x2 : Int64) (x4 : Int64) (x50 : Int32) (σ : lj_S) : lj_D lm_P lm_M159 24 [.long x0, .retAddr 0, .long x2, .retAddr 0, .long x4, .retAddr 0] [.int x50] σ = (if 0 ≤ (lg_cmp x2 0) then lj_D lm_P lm_M159 35 [.long x0, .retAddr 0, .long x2, .retAddr 0, .long x4, .retAddr 0] [.int 0, .int x50] σ else lj_D lm_P lm_M159 35 [.long x0, .retAddr 0, .long x2, .retAddr 0, .long x4, .retAddr 0] [.int 1, .int x50] σ) := by rw [lj_D_eq]; rfl
set_option maxRecDepth 100000 in
set_option maxHeartbeats 4000000 in
theorem km_159_35 (x0 : Int64) (x2 : Int64) (x4 : Int64) (x50 : Int32) (x51 : Int32) (σ : lj_S) : lj_D lm_P lm_M159 35 [.long x0, .retAddr 0, .long x2, .retAddr 0, .long x4, .retAddr 0] [.int x50, .int x51] σ = (if x51 = x50 then lj_D lm_P lm_M159 45 [.long x0, .retAddr 0, .long x2, .retAddr 0, .long x4, .retAddr 0] [] σ else lj_D lm_P lm_M159 47 [.long x0, .retAddr 0, .long x2, .retAddr 0, .long x4, .retAddr 0] [.long (x4 - 1)] σ) := by rw [lj_D_eq]; rfl
set_option maxRecDepth 100000 in
set_option maxHeartbeats 4000000 in
theorem km_159_45 (x0 : Int64) (x2 : Int64) (x4 : Int64) (σ : lj_S) : lj_D lm_P lm_M159 45 [.long x0, .retAddr 0, .long x2, .retAddr 0, .long x4, .retAddr 0] [] σ = lj_D lm_P lm_M159 47 [.long x0, .retAddr 0, .long x2, .retAddr 0, .long x4, .retAddr 0] [.long x4] σ := by rw [lj_D_eq]; rfl
set_option maxRecDepth 100000 in
set_option maxHeartbeats 4000000 in
theorem km_159_47 (x0 : Int64) (x2 : Int64) (x4 : Int64) (x50 : Int64) (σ : lj_S) : lj_D lm_P lm_M159 47 [.long x0, .retAddr 0, .long x2, .retAddr 0, .long x4, .retAddr 0] [.long x50] σ = some (.inl (some (.long x50)), σ) := by rw [lj_D_eq]; rfl
-- TableTongueModel.shift(JJZ)J
set_option maxRecDepth 100000 in
theorem rm_160 (x1 : Int64) (x2 : Int64) (x3 : Int32) (σ : lj_S) : lj_R lm_P 160 [.ref 0, .long x1, .long x2, .int x3] σ = lj_D lm_P lm_M160 0 [.ref 0, .long x1, .retAddr 0, .long x2, .retAddr 0, .int x3, .retAddr 0, .retAddr 0] [] σ := lj_R_eq (nL := 8) (M := lm_M160) _ _ _ _ rfl rfl
set_option maxRecDepth 100000 in
set_option maxHeartbeats 4000000 in
theorem km_160_0 (x1 : Int64) (x3 : Int64) (x5 : Int32) (σ : lj_S) : lj_D lm_P lm_M160 0 [.ref 0, .long x1, .retAddr 0, .long x3, .retAddr 0, .int x5, .retAddr 0, .retAddr 0] [] σ = (if (lg_cmp x3 (-64)) ≤ 0 then lj_D lm_P lm_M160 16 [.ref 0, .long x1, .retAddr 0, .long x3, .retAddr 0, .int x5, .retAddr 0, .retAddr 0] [] σ else (if (lg_cmp x3 64) < 0 then (if (lg_cmp x3 0) < 0 then lj_D lm_P lm_M160 29 [.ref 0, .long x1, .retAddr 0, .long x3, .retAddr 0, .int x5, .retAddr 0, .retAddr 0] [.int 0] σ else lj_D lm_P lm_M160 29 [.ref 0, .long x1, .retAddr 0, .long x3, .retAddr 0, .int x5, .retAddr 0, .retAddr 0] [.int 1] σ) else lj_D lm_P lm_M160 16 [.ref 0, .long x1, .retAddr 0, .long x3, .retAddr 0, .int x5, .retAddr 0, .retAddr 0] [] σ)) := by rw [lj_D_eq]; rfl
set_option maxRecDepth 100000 in
set_option maxHeartbeats 4000000 in
theorem km_160_16 (x1 : Int64) (x3 : Int64) (x5 : Int32) (σ : lj_S) : lj_D lm_P lm_M160 16 [.ref 0, .long x1, .retAddr 0, .long x3, .retAddr 0, .int x5, .retAddr 0, .retAddr 0] [] σ = some (.inl (some (.long 0)), σ) := by rw [lj_D_eq]; rfl
set_option maxRecDepth 100000 in
set_option maxHeartbeats 4000000 in
theorem km_160_29 (x1 : Int64) (x3 : Int64) (x5 : Int32) (x50 : Int32) (σ : lj_S) : lj_D lm_P lm_M160 29 [.ref 0, .long x1, .retAddr 0, .long x3, .retAddr 0, .int x5, .retAddr 0, .retAddr 0] [.int x50] σ = (if x50 = x5 then lj_D lm_P lm_M160 39 [.ref 0, .long x1, .retAddr 0, .long x3, .retAddr 0, .int x5, .retAddr 0, .retAddr 0] [.int 1] σ else lj_D lm_P lm_M160 39 [.ref 0, .long x1, .retAddr 0, .long x3, .retAddr 0, .int x5, .retAddr 0, .retAddr 0] [.int 0] σ) := by rw [lj_D_eq]; rfl
set_option maxRecDepth 100000 in
set_option maxHeartbeats 4000000 in
theorem km_160_39 (x1 : Int64) (x3 : Int64) (x5 : Int32) (x50 : Int32) (σ : lj_S) : lj_D lm_P lm_M160 39 [.ref 0, .long x1, .retAddr 0, .long x3, .retAddr 0, .int x5, .retAddr 0, .retAddr 0] [.int x50] σ = (if 0 ≤ (lg_cmp x3 0) then lj_D lm_P lm_M160 53 [.ref 0, .long x1, .retAddr 0, .long x3, .retAddr 0, .int x5, .int x50, .retAddr 0] [.long x3] σ else lj_D lm_P lm_M160 53 [.ref 0, .long x1, .retAddr 0, .long x3, .retAddr 0, .int x5, .int x50, .retAddr 0] [.long (-x3)] σ) := by rw [lj_D_eq]; rfl
set_option maxRecDepth 100000 in
set_option maxHeartbeats 4000000 in
theorem km_160_53 (x1 : Int64) (x3 : Int64) (x5 : Int32) (x6 : Int32) (x50 : Int64) (σ : lj_S) : lj_D lm_P lm_M160 53 [.ref 0, .long x1, .retAddr 0, .long x3, .retAddr 0, .int x5, .int x6, .retAddr 0] [.long x50] σ = (if x6 = 0 then lj_D lm_P lm_M160 72 [.ref 0, .long x1, .retAddr 0, .long x3, .retAddr 0, .int x5, .int x6, .int ((x50 : Int64).toInt32)] [.long (((x1 : Int64).toUInt64 >>> ((((x50 : Int64).toInt32) : Int32).toInt64.toUInt64 &&& Int64.toUInt64 63)).toInt64)] σ else lj_D lm_P lm_M160 72 [.ref 0, .long x1, .retAddr 0, .long x3, .retAddr 0, .int x5, .int x6, .int ((x50 : Int64).toInt32)] [.long (x1 <<< ((((x50 : Int64).toInt32) : Int32).toInt64 &&& 63))] σ) := by rw [lj_D_eq]; rfl
set_option maxRecDepth 100000 in
set_option maxHeartbeats 4000000 in
theorem km_160_72 (x1 : Int64) (x3 : Int64) (x5 : Int32) (x6 : Int32) (x7 : Int32) (x50 : Int64) (σ : lj_S) : lj_D lm_P lm_M160 72 [.ref 0, .long x1, .retAddr 0, .long x3, .retAddr 0, .int x5, .int x6, .int x7] [.long x50] σ = some (.inl (some (.long x50)), σ) := by rw [lj_D_eq]; rfl
-- TableTongueModel.eventOfTwo(IJIJI)V
set_option maxRecDepth 100000 in
theorem rm_161 (x1 : Int32) (x2 : Int64) (x3 : Int32) (x4 : Int64) (x5 : Int32) (σ : lj_S) : lj_R lm_P 161 [.ref 0, .int x1, .long x2, .int x3, .long x4, .int x5] σ = lj_D lm_P lm_M161 0 [.ref 0, .int x1, .long x2, .retAddr 0, .int x3, .long x4, .retAddr 0, .int x5] [] σ := lj_R_eq (nL := 8) (M := lm_M161) _ _ _ _ rfl rfl
set_option maxRecDepth 100000 in
set_option maxHeartbeats 4000000 in
theorem km_161_0 (x1 : Int32) (x2 : Int64) (x4 : Int32) (x5 : Int64) (x7 : Int32) (σ : lj_S) : lj_D lm_P lm_M161 0 [.ref 0, .int x1, .long x2, .retAddr 0, .int x4, .long x5, .retAddr 0, .int x7] [] σ = lj_bv (lj_R lm_P 130 [.ref 0, .int x1, .long x2, .int x7] σ) (fun σ1 => (if (σ1.1 0 90) = 0 then lj_bv (lj_R lm_P 130 [.ref 0, .int x4, .long x5, .int x7] σ1) (fun σ2 => lj_D lm_P lm_M161 25 [.ref 0, .int x1, .long x2, .retAddr 0, .int x4, .long x5, .retAddr 0, .int x7] [] σ2) lj_up else lj_D lm_P lm_M161 25 [.ref 0, .int x1, .long x2, .retAddr 0, .int x4, .long x5, .retAddr 0, .int x7] [] σ1)) lj_up := by rw [lj_D_eq]; rfl
set_option maxRecDepth 100000 in
set_option maxHeartbeats 4000000 in
theorem km_161_25 (x1 : Int32) (x2 : Int64) (x4 : Int32) (x5 : Int64) (x7 : Int32) (σ : lj_S) : lj_D lm_P lm_M161 25 [.ref 0, .int x1, .long x2, .retAddr 0, .int x4, .long x5, .retAddr 0, .int x7] [] σ = some (.inl none, σ) := by rw [lj_D_eq]; rfl
-- TableTongueModel.join(I)V
set_option maxRecDepth 100000 in
theorem rm_162 (x1 : Int32) (σ : lj_S) : lj_R lm_P 162 [.ref 0, .int x1] σ = lj_D lm_P lm_M162 0 [.ref 0, .int x1, .retAddr 0, .retAddr 0, .retAddr 0, .retAddr 0, .retAddr 0, .retAddr 0, .retAddr 0, .retAddr 0] [] σ := lj_R_eq (nL := 10) (M := lm_M162) _ _ _ _ rfl rfl
set_option maxRecDepth 100000 in
set_option maxHeartbeats 4000000 in
theorem km_162_0 (x1 : Int32) (σ : lj_S) : lj_D lm_P lm_M162 0 [.ref 0, .int x1, .retAddr 0, .retAddr 0, .retAddr 0, .retAddr 0, .retAddr 0, .retAddr 0, .retAddr 0, .retAddr 0] [] σ = lj_bi (lj_R lm_P 124 [.ref 0, .int 0] σ) (fun y2 σ1 => lj_bl (lj_R lm_P 125 [.ref 0, .int 0] σ1) (fun y4 σ3 => lj_bi (lj_R lm_P 124 [.ref 0, .int 1] σ3) (fun y6 σ5 => lj_bl (lj_R lm_P 125 [.ref 0, .int 1] σ5) (fun y8 σ7 => lj_bv (lj_R lm_P 126 [.ref 0, .int 2] σ7) (fun σ9 => (if y6 = 3 then lj_D lm_P lm_M162 43 [.ref 0, .int x1, .int y2, .long y4, .retAddr 0, .int y6, .long y8, .retAddr 0, .retAddr 0, .retAddr 0] [] σ9 else (if y6 = 2 then lj_D lm_P lm_M162 43 [.ref 0, .int x1, .int y2, .long y4, .retAddr 0, .int y6, .long y8, .retAddr 0, .retAddr 0, .retAddr 0] [] σ9 else lj_D lm_P lm_M162 48 [.ref 0, .int x1, .int y2, .long y4, .retAddr 0, .int y6, .long y8, .retAddr 0, .retAddr 0, .retAddr 0] [.int 0] σ9))) lj_up) lj_up) lj_up) lj_up) lj_up := by rw [lj_D_eq]; rfl
set_option maxRecDepth 100000 in
set_option maxHeartbeats 4000000 in
theorem km_162_43 (x1 : Int32) (x2 : Int32) (x3 : Int64) (x5 : Int32) (x6 : Int64) (σ : lj_S) : lj_D lm_P lm_M162 43 [.ref 0, .int x1, .int x2, .long x3, .retAddr 0, .int x5, .long x6, .retAddr 0, .retAddr 0, .retAddr 0] [] σ = lj_D lm_P lm_M162 48 [.ref 0, .int x1, .int x2, .long x3, .retAddr 0, .int x5, .long x6, .retAddr 0, .retAddr 0, .retAddr 0] [.int 1] σ := by rw [lj_D_eq]; rfl
set_option maxRecDepth 100000 in
set_option maxHeartbeats 4000000 in
theorem km_162_48 (x1 : Int32) (x2 : Int32) (x3 : Int64) (x5 : Int32) (x6 : Int64) (x50 : Int32) (σ : lj_S) : lj_D lm_P lm_M162 48 [.ref 0, .int x1, .int x2, .long x3, .retAddr 0, .int x5, .long x6, .retAddr 0, .retAddr 0, .retAddr 0] [.int x50] σ = (if x50 = 0 then lj_D lm_P lm_M162 117 [.ref 0, .int x1, .int x2, .long x3, .retAddr 0, .int x5, .long x6, .retAddr 0, .int x50, .retAddr 0] [] σ else (if x2 = 3 then lj_D lm_P lm_M162 65 [.ref 0, .int x1, .int x2, .long x3, .retAddr 0, .int x5, .long x6, .retAddr 0, .int x50, .retAddr 0] [] σ else (if x2 = 2 then lj_D lm_P lm_M162 65 [.ref 0, .int x1, .int x2, .long x3, .retAddr 0, .int x5, .long x6, .retAddr 0, .int x50, .retAddr 0] [] σ else lj_D lm_P lm_M162 117 [.ref 0, .int x1, .int x2, .long x3, .retAddr 0, .int x5, .long x6, .retAddr 0, .int x50, .retAddr 0] [] σ))) := by rw [lj_D_eq]; rfl
set_option maxRecDepth 100000 in
set_option maxHeartbeats 4000000 in
theorem km_162_65 (x1 : Int32) (x2 : Int32) (x3 : Int64) (x5 : Int32) (x6 : Int64) (x8 : Int32) (σ : lj_S) : lj_D lm_P lm_M162 65 [.ref 0, .int x1, .int x2, .long x3, .retAddr 0, .int x5, .long x6, .retAddr 0, .int x8, .retAddr 0] [] σ = lj_bv (lj_R lm_P 163 [.ref 0, .int x5, .long x6] (lj_put σ 0 20 0)) (fun σ1 => lj_bv (lj_R lm_P 163 [.ref 0, .int x2, .long x3] σ1) (fun σ2 => (if (σ2.1 0 20) ≤ 1000 then lj_bi (lj_R lm_P 139 [.ref 0] σ2) (fun y4 σ3 => lj_bv (lj_R lm_P 116 [.ref 0, .int 3, .long ((y4 : Int32).toInt64)] σ3) (fun σ5 => some (.inl none, σ5)) lj_up) lj_up else lj_bv (lj_R lm_P 142 [.ref 0, .int 7, .int x1] σ2) (fun σ6 => some (.inl none, σ6)) lj_up)) lj_up) lj_up := by rw [lj_D_eq]; rfl
set_option maxRecDepth 100000 in
set_option maxHeartbeats 4000000 in
theorem km_162_117 (x1 : Int32) (x2 : Int32) (x3 : Int64) (x5 : Int32) (x6 : Int64) (x8 : Int32) (σ : lj_S) : lj_D lm_P lm_M162 117 [.ref 0, .int x1, .int x2, .long x3, .retAddr 0, .int x5, .long x6, .retAddr 0, .int x8, .retAddr 0] [] σ = lj_bv (lj_R lm_P 161 [.ref 0, .int x5, .long x6, .int x2, .long x3, .int 15] σ) (fun σ1 => (if (σ1.1 0 90) = 0 then (if x8 = 0 then lj_D lm_P lm_M162 151 [.ref 0, .int x1, .int x2, .long x3, .retAddr 0, .int x5, .long x6, .retAddr 0, .int x8, .retAddr 0] [.int x5, .int x1, .int 8, .ref 0] σ1 else lj_D lm_P lm_M162 151 [.ref 0, .int x1, .int x2, .long x3, .retAddr 0, .int x5, .long x6, .retAddr 0, .int x8, .retAddr 0] [.int x2, .int x1, .int 8, .ref 0] σ1) else lj_bv (lj_R lm_P 112 [.ref 0, .int 0, .int 1, .int x1] σ1) (fun σ2 => lj_bv (lj_R lm_P 141 [.ref 0, .int (σ2.1 0 90), .long (σ2.2 0 91), .int x5, .long x6, .int x2, .long x3] σ2) (fun σ3 => some (.inl none, σ3)) lj_up) lj_up)) lj_up := by rw [lj_D_eq]; rfl
set_option maxRecDepth 100000 in
set_option maxHeartbeats 4000000 in
theorem km_162_151 (x1 : Int32) (x2 : Int32) (x3 : Int64) (x5 : Int32) (x6 : Int64) (x8 : Int32) (x50 : Int32) (x51 : Int32) (x52 : Int32) (σ : lj_S) : lj_D lm_P lm_M162 151 [.ref 0, .int x1, .int x2, .long x3, .retAddr 0, .int x5, .long x6, .retAddr 0, .int x8, .retAddr 0] [.int x50, .int x51, .int x52, .ref 0] σ = lj_bv (lj_R lm_P 131 [.ref 0, .int x52, .int x51, .int x50] σ) (fun σ1 => some (.inl none, σ1)) lj_up := by rw [lj_D_eq]; rfl
-- TableTongueModel.textOf(IJ)V
set_option maxRecDepth 100000 in
theorem rm_163 (x1 : Int32) (x2 : Int64) (σ : lj_S) : lj_R lm_P 163 [.ref 0, .int x1, .long x2] σ = lj_D lm_P lm_M163 0 [.ref 0, .int x1, .long x2, .retAddr 0] [] σ := lj_R_eq (nL := 4) (M := lm_M163) _ _ _ _ rfl rfl
set_option maxRecDepth 100000 in
set_option maxHeartbeats 4000000 in
theorem km_163_0 (x1 : Int32) (x2 : Int64) (σ : lj_S) : lj_D lm_P lm_M163 0 [.ref 0, .int x1, .long x2, .retAddr 0] [] σ = (if x1 = 0 then lj_bv (lj_R lm_P 137 [.ref 0, .int 22] σ) (fun σ1 => lj_D lm_P lm_M163 124 [.ref 0, .int x1, .long x2, .retAddr 0] [] σ1) lj_up else (if x1 = 1 then (if (lg_cmp x2 1) = 0 then lj_bv (lj_R lm_P 2 [.ref 0, .long 1953658213] σ) (fun σ3 => lj_D lm_P lm_M163 124 [.ref 0, .int x1, .long x2, .retAddr 0] [] σ3) lj_up else lj_bv (lj_R lm_P 2 [.ref 0, .long 439721161573] σ) (fun σ2 => lj_D lm_P lm_M163 124 [.ref 0, .int x1, .long x2, .retAddr 0] [] σ2) lj_up) else (if x1 = 2 then lj_bv (lj_R lm_P 133 [.ref 0, .long x2] σ) (fun σ4 => lj_D lm_P lm_M163 124 [.ref 0, .int x1, .long x2, .retAddr 0] [] σ4) lj_up else (if x1 = 3 then lj_bv (lj_R lm_P 137 [.ref 0, .int ((x2 : Int64).toInt32)] σ) (fun σ5 => lj_D lm_P lm_M163 124 [.ref 0, .int x1, .long x2, .retAddr 0] [] σ5) lj_up else lj_bi (lj_R lm_P 136 [.int x1] σ) (fun y7 σ6 => lj_bv (lj_R lm_P 137 [.ref 0, .int y7] σ6) (fun σ8 => lj_bv (lj_R lm_P 134 [.ref 0, .int 58] σ8) (fun σ9 => lj_bv (lj_R lm_P 134 [.ref 0, .int 32] σ9) (fun σ10 => (if x1 = 7 then lj_bv (lj_R lm_P 164 [.ref 0, .int ((x2 : Int64).toInt32)] σ10) (fun σ12 => lj_D lm_P lm_M163 124 [.ref 0, .int x1, .long x2, .retAddr 0] [] σ12) lj_up else lj_bv (lj_R lm_P 133 [.ref 0, .long x2] σ10) (fun σ11 => lj_D lm_P lm_M163 124 [.ref 0, .int x1, .long x2, .retAddr 0] [] σ11) lj_up)) lj_up) lj_up) lj_up) lj_up)))) := by rw [lj_D_eq]; rfl
set_option maxRecDepth 100000 in
set_option maxHeartbeats 4000000 in
theorem km_163_124 (x1 : Int32) (x2 : Int64) (σ : lj_S) : lj_D lm_P lm_M163 124 [.ref 0, .int x1, .long x2, .retAddr 0] [] σ = some (.inl none, σ) := by rw [lj_D_eq]; rfl
-- TableTongueModel.builtName(I)V
set_option maxRecDepth 100000 in
theorem rm_164 (x1 : Int32) (σ : lj_S) : lj_R lm_P 164 [.ref 0, .int x1] σ = lj_D lm_P lm_M164 0 [.ref 0, .int x1] [] σ := lj_R_eq (nL := 2) (M := lm_M164) _ _ _ _ rfl rfl
set_option maxRecDepth 100000 in
set_option maxHeartbeats 4000000 in
theorem km_164_0 (x1 : Int32) (σ : lj_S) : lj_D lm_P lm_M164 0 [.ref 0, .int x1] [] σ = (if 17 ≤ x1 then (if 22 ≤ x1 then (if 26 ≤ x1 then (if 31 ≤ x1 then lj_bv (lj_R lm_P 137 [.ref 0, .int 43] σ) (fun σ1 => lj_D lm_P lm_M164 141 [.ref 0, .int x1] [] σ1) lj_up else lj_bv (lj_R lm_P 137 [.ref 0, .int 56] σ) (fun σ2 => lj_bv (lj_R lm_P 134 [.ref 0, .int 46] σ2) (fun σ3 => (if x1 = 26 then lj_D lm_P lm_M164 129 [.ref 0, .int x1] [.int 29, .ref 0] σ3 else (if x1 = 30 then lj_D lm_P lm_M164 129 [.ref 0, .int x1] [.int 31, .ref 0] σ3 else lj_D lm_P lm_M164 129 [.ref 0, .int x1] [.int ((66 + x1) - 27), .ref 0] σ3))) lj_up) lj_up) else lj_bv (lj_R lm_P 137 [.ref 0, .int 55] σ) (fun σ4 => lj_bv (lj_R lm_P 134 [.ref 0, .int 46] σ4) (fun σ5 => lj_bv (lj_R lm_P 137 [.ref 0, .int ((62 + x1) - 22)] σ5) (fun σ6 => lj_D lm_P lm_M164 141 [.ref 0, .int x1] [] σ6) lj_up) lj_up) lj_up) else lj_bv (lj_R lm_P 137 [.ref 0, .int 54] σ) (fun σ7 => lj_bv (lj_R lm_P 134 [.ref 0, .int 46] σ7) (fun σ8 => lj_bv (lj_R lm_P 137 [.ref 0, .int ((57 + x1) - 17)] σ8) (fun σ9 => lj_D lm_P lm_M164 141 [.ref 0, .int x1] [] σ9) lj_up) lj_up) lj_up) else lj_bv (lj_R lm_P 137 [.ref 0, .int (37 + x1)] σ) (fun σ10 => lj_D lm_P lm_M164 141 [.ref 0, .int x1] [] σ10) lj_up) := by rw [lj_D_eq]; rfl
set_option maxRecDepth 100000 in
set_option maxHeartbeats 4000000 in
theorem km_164_129 (x1 : Int32) (x50 : Int32) (σ : lj_S) : lj_D lm_P lm_M164 129 [.ref 0, .int x1] [.int x50, .ref 0] σ = lj_bv (lj_R lm_P 137 [.ref 0, .int x50] σ) (fun σ1 => lj_D lm_P lm_M164 141 [.ref 0, .int x1] [] σ1) lj_up := by rw [lj_D_eq]; rfl
set_option maxRecDepth 100000 in
set_option maxHeartbeats 4000000 in
theorem km_164_141 (x1 : Int32) (σ : lj_S) : lj_D lm_P lm_M164 141 [.ref 0, .int x1] [] σ = some (.inl none, σ) := by rw [lj_D_eq]; rfl
-- TableTongueModel.length(I)V
set_option maxRecDepth 100000 in
theorem rm_165 (x1 : Int32) (σ : lj_S) : lj_R lm_P 165 [.ref 0, .int x1] σ = lj_D lm_P lm_M165 0 [.ref 0, .int x1, .retAddr 0, .retAddr 0, .retAddr 0] [] σ := lj_R_eq (nL := 5) (M := lm_M165) _ _ _ _ rfl rfl
set_option maxRecDepth 100000 in
set_option maxHeartbeats 4000000 in
theorem km_165_0 (x1 : Int32) (σ : lj_S) : lj_D lm_P lm_M165 0 [.ref 0, .int x1, .retAddr 0, .retAddr 0, .retAddr 0] [] σ = lj_bi (lj_R lm_P 124 [.ref 0, .int 0] σ) (fun y2 σ1 => lj_bl (lj_R lm_P 125 [.ref 0, .int 0] σ1) (fun y4 σ3 => lj_bv (lj_R lm_P 126 [.ref 0, .int 1] σ3) (fun σ5 => (if y2 = 3 then (if lj_in ((y4 : Int64).toInt32) 3000 then lj_bv (lj_R lm_P 116 [.ref 0, .int 2, .long ((((σ5.1 4 (((y4 : Int64).toInt32).toNatClampNeg))) : Int32).toInt64)] σ5) (fun σ13 => some (.inl none, σ13)) lj_up else none) else lj_bv (lj_R lm_P 130 [.ref 0, .int y2, .long y4, .int 16] σ5) (fun σ6 => (if (σ6.1 0 90) = 0 then (if y2 = 4 then lj_bl (lj_R lm_P 166 [.ref 0, .int ((y4 : Int64).toInt32)] σ6) (fun y9 σ8 => lj_bv (lj_R lm_P 116 [.ref 0, .int 2, .long y9] σ8) (fun σ10 => lj_D lm_P lm_M165 109 [.ref 0, .int x1, .int y2, .long y4, .retAddr 0] [] σ10) lj_up) lj_up else lj_bv (lj_R lm_P 131 [.ref 0, .int 9, .int x1, .int y2] σ6) (fun σ7 => lj_D lm_P lm_M165 109 [.ref 0, .int x1, .int y2, .long y4, .retAddr 0] [] σ7) lj_up) else lj_bv (lj_R lm_P 112 [.ref 0, .int 0, .int 1, .int x1] σ6) (fun σ11 => lj_bv (lj_R lm_P 141 [.ref 0, .int (σ11.1 0 90), .long (σ11.2 0 91), .int y2, .long y4, .int 0, .long 0] σ11) (fun σ12 => lj_D lm_P lm_M165 109 [.ref 0, .int x1, .int y2, .long y4, .retAddr 0] [] (lj_put σ12 0 137 1)) lj_up) lj_up)) lj_up)) lj_up) lj_up) lj_up := by rw [lj_D_eq]; rfl
set_option maxRecDepth 100000 in
set_option maxHeartbeats 4000000 in
theorem km_165_109 (x1 : Int32) (x2 : Int32) (x3 : Int64) (σ : lj_S) : lj_D lm_P lm_M165 109 [.ref 0, .int x1, .int x2, .long x3, .retAddr 0] [] σ = some (.inl none, σ) := by rw [lj_D_eq]; rfl
-- TableTongueModel.lengthOf(I)J
set_option maxRecDepth 100000 in
theorem rm_166 (x1 : Int32) (σ : lj_S) : lj_R lm_P 166 [.ref 0, .int x1] σ = lj_D lm_P lm_M166 0 [.ref 0, .int x1, .retAddr 0, .retAddr 0] [] σ := lj_R_eq (nL := 4) (M := lm_M166) _ _ _ _ rfl rfl
set_option maxRecDepth 100000 in
set_option maxHeartbeats 4000000 in
theorem km_166_0 (x1 : Int32) (σ : lj_S) : lj_D lm_P lm_M166 0 [.ref 0, .int x1, .retAddr 0, .retAddr 0] [] σ = lj_bv (lj_R lm_P 123 [.ref 0, .int x1, .int 2, .long 1] σ) (fun σ1 => lj_D lm_P lm_M166 9 [.ref 0, .int x1, .long 0, .retAddr 0] [] σ1) lj_up := by rw [lj_D_eq]; rfl
set_option maxRecDepth 100000 in
set_option maxHeartbeats 4000000 in
theorem km_166_9 (x1 : Int32) (x2 : Int64) (σ : lj_S) : lj_D lm_P lm_M166 9 [.ref 0, .int x1, .long x2, .retAddr 0] [] σ = (if (σ.1 0 90) = 0 then some (.inl (some (.long x2)), σ) else lj_bv (lj_R lm_P 123 [.ref 0, .int x1, .int 2, .long ((x2 + 1) + 1)] σ) (fun σ1 => lj_D lm_P lm_M166 9 [.ref 0, .int x1, .long (x2 + 1), .retAddr 0] [] σ1) lj_up) := by rw [lj_D_eq]; rfl
-- TableTongueModel.equal(ZI)V
set_option maxRecDepth 100000 in
theorem rm_167 (x1 : Int32) (x2 : Int32) (σ : lj_S) : lj_R lm_P 167 [.ref 0, .int x1, .int x2] σ = lj_D lm_P lm_M167 0 [.ref 0, .int x1, .int x2, .retAddr 0, .retAddr 0, .retAddr 0, .retAddr 0, .retAddr 0, .retAddr 0, .retAddr 0] [] σ := lj_R_eq (nL := 10) (M := lm_M167) _ _ _ _ rfl rfl
set_option maxRecDepth 100000 in
set_option maxHeartbeats 4000000 in
theorem km_167_0 (x1 : Int32) (x2 : Int32) (σ : lj_S) : lj_D lm_P lm_M167 0 [.ref 0, .int x1, .int x2, .retAddr 0, .retAddr 0, .retAddr 0, .retAddr 0, .retAddr 0, .retAddr 0, .retAddr 0] [] σ = lj_bi (lj_R lm_P 124 [.ref 0, .int 0] σ) (fun y2 σ1 => lj_bl (lj_R lm_P 125 [.ref 0, .int 0] σ1) (fun y4 σ3 => lj_bi (lj_R lm_P 124 [.ref 0, .int 1] σ3) (fun y6 σ5 => lj_bl (lj_R lm_P 125 [.ref 0, .int 1] σ5) (fun y8 σ7 => lj_bv (lj_R lm_P 126 [.ref 0, .int 2] σ7) (fun σ9 => (if y6 = y2 then (if (lg_cmp y8 y4) = 0 then lj_D lm_P lm_M167 51 [.ref 0, .int x1, .int x2, .int y2, .long y4, .retAddr 0, .int y6, .long y8, .retAddr 0, .retAddr 0] [.int 1] σ9 else lj_D lm_P lm_M167 50 [.ref 0, .int x1, .int x2, .int y2, .long y4, .retAddr 0, .int y6, .long y8, .retAddr 0, .retAddr 0] [] σ9) else lj_D lm_P lm_M167 50 [.ref 0, .int x1, .int x2, .int y2, .long y4, .retAddr 0, .int y6, .long y8, .retAddr 0, .retAddr 0] [] σ9)) lj_up) lj_up) lj_up) lj_up) lj_up := by rw [lj_D_eq]; rfl
set_option maxRecDepth 100000 in
set_option maxHeartbeats 4000000 in
theorem km_167_50 (x1 : Int32) (x2 : Int32) (x3 : Int32) (x4 : Int64) (x6 : Int32) (x7 : Int64) (σ : lj_S) : lj_D lm_P lm_M167 50 [.ref 0, .int x1, .int x2, .int x3, .long x4, .retAddr 0, .int x6, .long x7, .retAddr 0, .retAddr 0] [] σ = lj_D lm_P lm_M167 51 [.ref 0, .int x1, .int x2, .int x3, .long x4, .retAddr 0, .int x6, .long x7, .retAddr 0, .retAddr 0] [.int 0] σ := by rw [lj_D_eq]; rfl
set_option maxRecDepth 100000 in
set_option maxHeartbeats 4000000 in
theorem km_167_51 (x1 : Int32) (x2 : Int32) (x3 : Int32) (x4 : Int64) (x6 : Int32) (x7 : Int64) (x50 : Int32) (σ : lj_S) : lj_D lm_P lm_M167 51 [.ref 0, .int x1, .int x2, .int x3, .long x4, .retAddr 0, .int x6, .long x7, .retAddr 0, .retAddr 0] [.int x50] σ = (if x50 = 0 then (if x6 = 4 then (if x3 = 4 then lj_bv (lj_R lm_P 161 [.ref 0, .int x6, .long x7, .int x3, .long x4, .int 17] σ) (fun σ1 => (if (σ1.1 0 90) = 0 then lj_D lm_P lm_M167 124 [.ref 0, .int x1, .int x2, .int x3, .long x4, .retAddr 0, .int x6, .long x7, .retAddr 0, .int x50] [] σ1 else (if x1 = 0 then lj_D lm_P lm_M167 99 [.ref 0, .int x1, .int x2, .int x3, .long x4, .retAddr 0, .int x6, .long x7, .retAddr 0, .int x50] [.int 1, .ref 0] σ1 else lj_D lm_P lm_M167 99 [.ref 0, .int x1, .int x2, .int x3, .long x4, .retAddr 0, .int x6, .long x7, .retAddr 0, .int x50] [.int 2, .ref 0] σ1))) lj_up else lj_D lm_P lm_M167 124 [.ref 0, .int x1, .int x2, .int x3, .long x4, .retAddr 0, .int x6, .long x7, .retAddr 0, .int x50] [] σ) else lj_D lm_P lm_M167 124 [.ref 0, .int x1, .int x2, .int x3, .long x4, .retAddr 0, .int x6, .long x7, .retAddr 0, .int x50] [] σ) else lj_D lm_P lm_M167 124 [.ref 0, .int x1, .int x2, .int x3, .long x4, .retAddr 0, .int x6, .long x7, .retAddr 0, .int x50] [] σ) := by rw [lj_D_eq]; rfl
set_option maxRecDepth 100000 in
set_option maxHeartbeats 4000000 in
theorem km_167_99 (x1 : Int32) (x2 : Int32) (x3 : Int32) (x4 : Int64) (x6 : Int32) (x7 : Int64) (x9 : Int32) (x50 : Int32) (σ : lj_S) : lj_D lm_P lm_M167 99 [.ref 0, .int x1, .int x2, .int x3, .long x4, .retAddr 0, .int x6, .long x7, .retAddr 0, .int x9] [.int x50, .ref 0] σ = lj_bv (lj_R lm_P 112 [.ref 0, .int x50, .int 1, .int x2] σ) (fun σ1 => lj_bv (lj_R lm_P 141 [.ref 0, .int (σ1.1 0 90), .long (σ1.2 0 91), .int x6, .long x7, .int x3, .long x4] σ1) (fun σ2 => some (.inl none, σ2)) lj_up) lj_up := by rw [lj_D_eq]; rfl
set_option maxRecDepth 100000 in
set_option maxHeartbeats 4000000 in
theorem km_167_124 (x1 : Int32) (x2 : Int32) (x3 : Int32) (x4 : Int64) (x6 : Int32) (x7 : Int64) (x9 : Int32) (σ : lj_S) : lj_D lm_P lm_M167 124 [.ref 0, .int x1, .int x2, .int x3, .long x4, .retAddr 0, .int x6, .long x7, .retAddr 0, .int x9] [] σ = (if x9 = x1 then lj_D lm_P lm_M167 137 [.ref 0, .int x1, .int x2, .int x3, .long x4, .retAddr 0, .int x6, .long x7, .retAddr 0, .int x9] [.long 0, .int 1, .ref 0] σ else lj_D lm_P lm_M167 137 [.ref 0, .int x1, .int x2, .int x3, .long x4, .retAddr 0, .int x6, .long x7, .retAddr 0, .int x9] [.long 1, .int 1, .ref 0] σ) := by rw [lj_D_eq]; rfl
set_option maxRecDepth 100000 in
set_option maxHeartbeats 4000000 in
theorem km_167_137 (x1 : Int32) (x2 : Int32) (x3 : Int32) (x4 : Int64) (x6 : Int32) (x7 : Int64) (x9 : Int32) (x50 : Int64) (x51 : Int32) (σ : lj_S) : lj_D lm_P lm_M167 137 [.ref 0, .int x1, .int x2, .int x3, .long x4, .retAddr 0, .int x6, .long x7, .retAddr 0, .int x9] [.long x50, .int x51, .ref 0] σ = lj_bv (lj_R lm_P 116 [.ref 0, .int x51, .long x50] σ) (fun σ1 => some (.inl none, σ1)) lj_up := by rw [lj_D_eq]; rfl
-- TableTongueModel.less(ZZI)V
set_option maxRecDepth 100000 in
theorem rm_168 (x1 : Int32) (x2 : Int32) (x3 : Int32) (σ : lj_S) : lj_R lm_P 168 [.ref 0, .int x1, .int x2, .int x3] σ = lj_D lm_P lm_M168 0 [.ref 0, .int x1, .int x2, .int x3, .retAddr 0, .retAddr 0, .retAddr 0, .retAddr 0, .retAddr 0, .retAddr 0, .retAddr 0] [] σ := lj_R_eq (nL := 11) (M := lm_M168) _ _ _ _ rfl rfl
set_option maxRecDepth 100000 in
set_option maxHeartbeats 4000000 in
theorem km_168_0 (x1 : Int32) (x2 : Int32) (x3 : Int32) (σ : lj_S) : lj_D lm_P lm_M168 0 [.ref 0, .int x1, .int x2, .int x3, .retAddr 0, .retAddr 0, .retAddr 0, .retAddr 0, .retAddr 0, .retAddr 0, .retAddr 0] [] σ = (if x2 = 0 then lj_D lm_P lm_M168 10 [.ref 0, .int x1, .int x2, .int x3, .retAddr 0, .retAddr 0, .retAddr 0, .retAddr 0, .retAddr 0, .retAddr 0, .retAddr 0] [.int 1, .ref 0] σ else lj_D lm_P lm_M168 10 [.ref 0, .int x1, .int x2, .int x3, .retAddr 0, .retAddr 0, .retAddr 0, .retAddr 0, .retAddr 0, .retAddr 0, .retAddr 0] [.int 0, .ref 0] σ) := by rw [lj_D_eq]; rfl
set_option maxRecDepth 100000 in
set_option maxHeartbeats 4000000 in
theorem km_168_10 (x1 : Int32) (x2 : Int32) (x3 : Int32) (x50 : Int32) (σ : lj_S) : lj_D lm_P lm_M168 10 [.ref 0, .int x1, .int x2, .int x3, .retAddr 0, .retAddr 0, .retAddr 0, .retAddr 0, .retAddr 0, .retAddr 0, .retAddr 0] [.int x50, .ref 0] σ = lj_bi (lj_R lm_P 124 [.ref 0, .int x50] σ) (fun y2 σ1 => (if x2 = 0 then lj_D lm_P lm_M168 25 [.ref 0, .int x1, .int x2, .int x3, .int y2, .retAddr 0, .retAddr 0, .retAddr 0, .retAddr 0, .retAddr 0, .retAddr 0] [.int 1, .ref 0] σ1 else lj_D lm_P lm_M168 25 [.ref 0, .int x1, .int x2, .int x3, .int y2, .retAddr 0, .retAddr 0, .retAddr 0, .retAddr 0, .retAddr 0, .retAddr 0] [.int 0, .ref 0] σ1)) lj_up := by rw [lj_D_eq]; rfl
set_option maxRecDepth 100000 in
set_option maxHeartbeats 4000000 in
theorem km_168_25 (x1 : Int32) (x2 : Int32) (x3 : Int32) (x4 : Int32) (x50 : Int32) (σ : lj_S) : lj_D lm_P lm_M168 25 [.ref 0, .int x1, .int x2, .int x3, .int x4, .retAddr 0, .retAddr 0, .retAddr 0, .retAddr 0, .retAddr 0, .retAddr 0] [.int x50, .ref 0] σ = lj_bl (lj_R lm_P 125 [.ref 0, .int x50] σ) (fun y2 σ1 => (if x2 = 0 then lj_D lm_P lm_M168 40 [.ref 0, .int x1, .int x2, .int x3, .int x4, .long y2, .retAddr 0, .retAddr 0, .retAddr 0, .retAddr 0, .retAddr 0] [.int 0, .ref 0] σ1 else lj_D lm_P lm_M168 40 [.ref 0, .int x1, .int x2, .int x3, .int x4, .long y2, .retAddr 0, .retAddr 0, .retAddr 0, .retAddr 0, .retAddr 0] [.int 1, .ref 0] σ1)) lj_up := by rw [lj_D_eq]; rfl
set_option maxRecDepth 100000 in
set_option maxHeartbeats 4000000 in
theorem km_168_40 (x1 : Int32) (x2 : Int32) (x3 : Int32) (x4 : Int32) (x5 : Int64) (x50 : Int32) (σ : lj_S) : lj_D lm_P lm_M168 40 [.ref 0, .int x1, .int x2, .int x3, .int x4, .long x5, .retAddr 0, .retAddr 0, .retAddr 0, .retAddr 0, .retAddr 0] [.int x50, .ref 0] σ = lj_bi (lj_R lm_P 124 [.ref 0, .int x50] σ) (fun y2 σ1 => (if x2 = 0 then lj_D lm_P lm_M168 55 [.ref 0, .int x1, .int x2, .int x3, .int x4, .long x5, .retAddr 0, .int y2, .retAddr 0, .retAddr 0, .retAddr 0] [.int 0, .ref 0] σ1 else lj_D lm_P lm_M168 55 [.ref 0, .int x1, .int x2, .int x3, .int x4, .long x5, .retAddr 0, .int y2, .retAddr 0, .retAddr 0, .retAddr 0] [.int 1, .ref 0] σ1)) lj_up := by rw [lj_D_eq]; rfl
set_option maxRecDepth 100000 in
set_option maxHeartbeats 4000000 in
theorem km_168_55 (x1 : Int32) (x2 : Int32) (x3 : Int32) (x4 : Int32) (x5 : Int64) (x7 : Int32) (x50 : Int32) (σ : lj_S) : lj_D lm_P lm_M168 55 [.ref 0, .int x1, .int x2, .int x3, .int x4, .long x5, .retAddr 0, .int x7, .retAddr 0, .retAddr 0, .retAddr 0] [.int x50, .ref 0] σ = lj_bl (lj_R lm_P 125 [.ref 0, .int x50] σ) (fun y2 σ1 => lj_bv (lj_R lm_P 126 [.ref 0, .int 2] σ1) (fun σ3 => (if x4 = 2 then (if x7 = 2 then (if (lg_cmp x5 y2) < 0 then lj_D lm_P lm_M168 99 [.ref 0, .int x1, .int x2, .int x3, .int x4, .long x5, .retAddr 0, .int x7, .long y2, .retAddr 0, .retAddr 0] [.int 1, .ref 0] σ3 else (if x1 = 0 then lj_D lm_P lm_M168 103 [.ref 0, .int x1, .int x2, .int x3, .int x4, .long x5, .retAddr 0, .int x7, .long y2, .retAddr 0, .retAddr 0] [.int 1, .ref 0] σ3 else (if (lg_cmp x5 y2) = 0 then lj_D lm_P lm_M168 99 [.ref 0, .int x1, .int x2, .int x3, .int x4, .long x5, .retAddr 0, .int x7, .long y2, .retAddr 0, .retAddr 0] [.int 1, .ref 0] σ3 else lj_D lm_P lm_M168 103 [.ref 0, .int x1, .int x2, .int x3, .int x4, .long x5, .retAddr 0, .int x7, .long y2, .retAddr 0, .retAddr 0] [.int 1, .ref 0] σ3))) else lj_D lm_P lm_M168 108 [.ref 0, .int x1, .int x2, .int x3, .int x4, .long x5, .retAddr 0, .int x7, .long y2, .retAddr 0, .retAddr 0] [] σ3) else lj_D lm_P lm_M168 108 [.ref 0, .int x1, .int x2, .int x3, .int x4, .long x5, .retAddr 0, .int x7, .long y2, .retAddr 0, .retAddr 0] [] σ3)) lj_up) lj_up := by rw [lj_D_eq]; rfl
set_option maxRecDepth 100000 in
set_option maxHeartbeats 4000000 in
theorem km_168_99 (x1 : Int32) (x2 : Int32) (x3 : Int32) (x4 : Int32) (x5 : Int64) (x7 : Int32) (x8 : Int64) (x50 : Int32) (σ : lj_S) : lj_D lm_P lm_M168 99 [.ref 0, .int x1, .int x2, .int x3, .int x4, .long x5, .retAddr 0, .int x7, .long x8, .retAddr 0, .retAddr 0] [.int x50, .ref 0] σ = lj_D lm_P lm_M168 104 [.ref 0, .int x1, .int x2, .int x3, .int x4, .long x5, .retAddr 0, .int x7, .long x8, .retAddr 0, .retAddr 0] [.long 1, .int x50, .ref 0] σ := by rw [lj_D_eq]; rfl
set_option maxRecDepth 100000 in
set_option maxHeartbeats 4000000 in
theorem km_168_103 (x1 : Int32) (x2 : Int32) (x3 : Int32) (x4 : Int32) (x5 : Int64) (x7 : Int32) (x8 : Int64) (x50 : Int32) (σ : lj_S) : lj_D lm_P lm_M168 103 [.ref 0, .int x1, .int x2, .int x3, .int x4, .long x5, .retAddr 0, .int x7, .long x8, .retAddr 0, .retAddr 0] [.int x50, .ref 0] σ = lj_D lm_P lm_M168 104 [.ref 0, .int x1, .int x2, .int x3, .int x4, .long x5, .retAddr 0, .int x7, .long x8, .retAddr 0, .retAddr 0] [.long 0, .int x50, .ref 0] σ := by rw [lj_D_eq]; rfl
set_option maxRecDepth 100000 in
set_option maxHeartbeats 4000000 in
theorem km_168_104 (x1 : Int32) (x2 : Int32) (x3 : Int32) (x4 : Int32) (x5 : Int64) (x7 : Int32) (x8 : Int64) (x50 : Int64) (x51 : Int32) (σ : lj_S) : lj_D lm_P lm_M168 104 [.ref 0, .int x1, .int x2, .int x3, .int x4, .long x5, .retAddr 0, .int x7, .long x8, .retAddr 0, .retAddr 0] [.long x50, .int x51, .ref 0] σ = lj_bv (lj_R lm_P 116 [.ref 0, .int x51, .long x50] σ) (fun σ1 => some (.inl none, σ1)) lj_up := by rw [lj_D_eq]; rfl
set_option maxRecDepth 100000 in
set_option maxHeartbeats 4000000 in
theorem km_168_108 (x1 : Int32) (x2 : Int32) (x3 : Int32) (x4 : Int32) (x5 : Int64) (x7 : Int32) (x8 : Int64) (σ : lj_S) : lj_D lm_P lm_M168 108 [.ref 0, .int x1, .int x2, .int x3, .int x4, .long x5, .retAddr 0, .int x7, .long x8, .retAddr 0, .retAddr 0] [] σ = (if x4 = 3 then (if x7 = 3 then lj_bi (lj_R lm_P 169 [.ref 0, .int ((x5 : Int64).toInt32), .int ((x8 : Int64).toInt32)] σ) (fun y2 σ1 => (if y2 < 0 then lj_D lm_P lm_M168 148 [.ref 0, .int x1, .int x2, .int x3, .int x4, .long x5, .retAddr 0, .int x7, .long x8, .retAddr 0, .int y2] [.int 1, .ref 0] σ1 else (if x1 = 0 then lj_D lm_P lm_M168 152 [.ref 0, .int x1, .int x2, .int x3, .int x4, .long x5, .retAddr 0, .int x7, .long x8, .retAddr 0, .int y2] [.int 1, .ref 0] σ1 else (if y2 = 0 then lj_D lm_P lm_M168 148 [.ref 0, .int x1, .int x2, .int x3, .int x4, .long x5, .retAddr 0, .int x7, .long x8, .retAddr 0, .int y2] [.int 1, .ref 0] σ1 else lj_D lm_P lm_M168 152 [.ref 0, .int x1, .int x2, .int x3, .int x4, .long x5, .retAddr 0, .int x7, .long x8, .retAddr 0, .int y2] [.int 1, .ref 0] σ1)))) lj_up else lj_D lm_P lm_M168 157 [.ref 0, .int x1, .int x2, .int x3, .int x4, .long x5, .retAddr 0, .int x7, .long x8, .retAddr 0, .retAddr 0] [] σ) else lj_D lm_P lm_M168 157 [.ref 0, .int x1, .int x2, .int x3, .int x4, .long x5, .retAddr 0, .int x7, .long x8, .retAddr 0, .retAddr 0] [] σ) := by rw [lj_D_eq]; rfl
set_option maxRecDepth 100000 in
set_option maxHeartbeats 4000000 in
theorem km_168_148 (x1 : Int32) (x2 : Int32) (x3 : Int32) (x4 : Int32) (x5 : Int64) (x7 : Int32) (x8 : Int64) (x10 : Int32) (x50 : Int32) (σ : lj_S) : lj_D lm_P lm_M168 148 [.ref 0, .int x1, .int x2, .int x3, .int x4, .long x5, .retAddr 0, .int x7, .long x8, .retAddr 0, .int x10] [.int x50, .ref 0] σ = lj_D lm_P lm_M168 153 [.ref 0, .int x1, .int x2, .int x3, .int x4, .long x5, .retAddr 0, .int x7, .long x8, .retAddr 0, .int x10] [.long 1, .int x50, .ref 0] σ := by rw [lj_D_eq]; rfl
set_option maxRecDepth 100000 in
set_option maxHeartbeats 4000000 in
theorem km_168_152 (x1 : Int32) (x2 : Int32) (x3 : Int32) (x4 : Int32) (x5 : Int64) (x7 : Int32) (x8 : Int64) (x10 : Int32) (x50 : Int32) (σ : lj_S) : lj_D lm_P lm_M168 152 [.ref 0, .int x1, .int x2, .int x3, .int x4, .long x5, .retAddr 0, .int x7, .long x8, .retAddr 0, .int x10] [.int x50, .ref 0] σ = lj_D lm_P lm_M168 153 [.ref 0, .int x1, .int x2, .int x3, .int x4, .long x5, .retAddr 0, .int x7, .long x8, .retAddr 0, .int x10] [.long 0, .int x50, .ref 0] σ := by rw [lj_D_eq]; rfl
set_option maxRecDepth 100000 in
set_option maxHeartbeats 4000000 in
theorem km_168_153 (x1 : Int32) (x2 : Int32) (x3 : Int32) (x4 : Int32) (x5 : Int64) (x7 : Int32) (x8 : Int64) (x10 : Int32) (x50 : Int64) (x51 : Int32) (σ : lj_S) : lj_D lm_P lm_M168 153 [.ref 0, .int x1, .int x2, .int x3, .int x4, .long x5, .retAddr 0, .int x7, .long x8, .retAddr 0, .int x10] [.long x50, .int x51, .ref 0] σ = lj_bv (lj_R lm_P 116 [.ref 0, .int x51, .long x50] σ) (fun σ1 => some (.inl none, σ1)) lj_up := by rw [lj_D_eq]; rfl
set_option maxRecDepth 100000 in
set_option maxHeartbeats 4000000 in
theorem km_168_157 (x1 : Int32) (x2 : Int32) (x3 : Int32) (x4 : Int32) (x5 : Int64) (x7 : Int32) (x8 : Int64) (σ : lj_S) : lj_D lm_P lm_M168 157 [.ref 0, .int x1, .int x2, .int x3, .int x4, .long x5, .retAddr 0, .int x7, .long x8, .retAddr 0, .retAddr 0] [] σ = (if x1 = 0 then lj_D lm_P lm_M168 177 [.ref 0, .int x1, .int x2, .int x3, .int x4, .long x5, .retAddr 0, .int x7, .long x8, .retAddr 0, .retAddr 0] [.int 18, .long x8, .int x7, .long x5, .int x4, .ref 0] σ else lj_D lm_P lm_M168 177 [.ref 0, .int x1, .int x2, .int x3, .int x4, .long x5, .retAddr 0, .int x7, .long x8, .retAddr 0, .retAddr 0] [.int 19, .long x8, .int x7, .long x5, .int x4, .ref 0] σ) := by rw [lj_D_eq]; rfl
set_option maxRecDepth 100000 in
set_option maxHeartbeats 4000000 in
theorem km_168_177 (x1 : Int32) (x2 : Int32) (x3 : Int32) (x4 : Int32) (x5 : Int64) (x7 : Int32) (x8 : Int64) (x50 : Int32) (x51 : Int64) (x52 : Int32) (x53 : Int64) (x54 : Int32) (σ : lj_S) : lj_D lm_P lm_M168 177 [.ref 0, .int x1, .int x2, .int x3, .int x4, .long x5, .retAddr 0, .int x7, .long x8, .retAddr 0, .retAddr 0] [.int x50, .long x51, .int x52, .long x53, .int x54, .ref 0] σ = lj_bv (lj_R lm_P 161 [.ref 0, .int x54, .long x53, .int x52, .long x51, .int x50] σ) (fun σ1 => (if (σ1.1 0 90) = 0 then lj_bv (lj_R lm_P 132 [.ref 0, .int x3, .int 10] σ1) (fun σ4 => lj_bi (lj_R lm_P 136 [.int x4] σ4) (fun y6 σ5 => lj_bv (lj_R lm_P 137 [.ref 0, .int y6] σ5) (fun σ7 => lj_bv (lj_R lm_P 2 [.ref 0, .long 35697242433568] σ7) (fun σ8 => lj_bi (lj_R lm_P 136 [.int x7] σ8) (fun y10 σ9 => lj_bv (lj_R lm_P 137 [.ref 0, .int y10] σ9) (fun σ11 => lj_bv (lj_R lm_P 138 [.ref 0] σ11) (fun σ12 => some (.inl none, σ12)) lj_up) lj_up) lj_up) lj_up) lj_up) lj_up) lj_up else lj_bv (lj_R lm_P 112 [.ref 0, .int 1, .int 1, .int x3] σ1) (fun σ2 => lj_bv (lj_R lm_P 141 [.ref 0, .int (σ2.1 0 90), .long (σ2.2 0 91), .int x4, .long x5, .int x7, .long x8] σ2) (fun σ3 => some (.inl none, σ3)) lj_up) lj_up)) lj_up := by rw [lj_D_eq]; rfl
-- TableTongueModel.compareStrings(II)I
set_option maxRecDepth 100000 in
theorem rm_169 (x1 : Int32) (x2 : Int32) (σ : lj_S) : lj_R lm_P 169 [.ref 0, .int x1, .int x2] σ = lj_D lm_P lm_M169 0 [.ref 0, .int x1, .int x2, .retAddr 0, .retAddr 0, .retAddr 0, .retAddr 0] [] σ := lj_R_eq (nL := 7) (M := lm_M169) _ _ _ _ rfl rfl
set_option maxRecDepth 100000 in
set_option maxHeartbeats 4000000 in
theorem km_169_0 (x1 : Int32) (x2 : Int32) (σ : lj_S) : lj_D lm_P lm_M169 0 [.ref 0, .int x1, .int x2, .retAddr 0, .retAddr 0, .retAddr 0, .retAddr 0] [] σ = (if lj_in x1 3000 then (if lj_in x2 3000 then (if (σ.1 4 x2.toNatClampNeg) ≤ (σ.1 4 x1.toNatClampNeg) then (if lj_in x2 3000 then lj_D lm_P lm_M169 30 [.ref 0, .int x1, .int x2, .retAddr 0, .retAddr 0, .retAddr 0, .retAddr 0] [.int (σ.1 4 x2.toNatClampNeg)] σ else none) else (if lj_in x1 3000 then lj_D lm_P lm_M169 30 [.ref 0, .int x1, .int x2, .retAddr 0, .retAddr 0, .retAddr 0, .retAddr 0] [.int (σ.1 4 x1.toNatClampNeg)] σ else none)) else none) else none) := by rw [lj_D_eq]; rfl
set_option maxRecDepth 100000 in
set_option maxHeartbeats 4000000 in
theorem km_169_30 (x1 : Int32) (x2 : Int32) (x50 : Int32) (σ : lj_S) : lj_D lm_P lm_M169 30 [.ref 0, .int x1, .int x2, .retAddr 0, .retAddr 0, .retAddr 0, .retAddr 0] [.int x50] σ = lj_D lm_P lm_M169 34 [.ref 0, .int x1, .int x2, .int x50, .int 0, .retAddr 0, .retAddr 0] [] σ := by rw [lj_D_eq]; rfl
set_option maxRecDepth 100000 in
set_option maxHeartbeats 4000000 in
theorem km_169_34 (x1 : Int32) (x2 : Int32) (x3 : Int32) (x4 : Int32) (x5 : Value) (x6 : Value) (σ : lj_S) : lj_D lm_P lm_M169 34 [.ref 0, .int x1, .int x2, .int x3, .int x4, x5, x6] [] σ = (if x3 ≤ x4 then (if lj_in x1 3000 then (if lj_in x2 3000 then (if (σ.1 4 x1.toNatClampNeg) = (σ.1 4 x2.toNatClampNeg) then lj_D lm_P lm_M169 145 [.ref 0, .int x1, .int x2, .int x3, .int x4, x5, x6] [.int 0] σ else (if lj_in x1 3000 then (if lj_in x2 3000 then (if (σ.1 4 x2.toNatClampNeg) ≤ (σ.1 4 x1.toNatClampNeg) then lj_D lm_P lm_M169 145 [.ref 0, .int x1, .int x2, .int x3, .int x4, x5, x6] [.int 1] σ else lj_D lm_P lm_M169 145 [.ref 0, .int x1, .int x2, .int x3, .int x4, x5, x6] [.int (-1)] σ) else none) else none)) else none) else none) else (if lj_in x1 3000 then (if lj_in ((σ.1 3 x1.toNatClampNeg) + x4) 40000 then (if lj_in x2 3000 then (if lj_in ((σ.1 3 x2.toNatClampNeg) + x4) 40000 then (if (((σ.1 2 (((σ.1 3 x1.toNatClampNeg) + x4).toNatClampNeg))) &&& 255) = (((σ.1 2 (((σ.1 3 x2.toNatClampNeg) + x4).toNatClampNeg))) &&& 255) then lj_D lm_P lm_M169 34 [.ref 0, .int x1, .int x2, .int x3, .int (x4 + 1), .int (((σ.1 2 (((σ.1 3 x1.toNatClampNeg) + x4).toNatClampNeg))) &&& 255), .int (((σ.1 2 (((σ.1 3 x2.toNatClampNeg) + x4).toNatClampNeg))) &&& 255)] [] σ else (if (((σ.1 2 (((σ.1 3 x2.toNatClampNeg) + x4).toNatClampNeg))) &&& 255) ≤ (((σ.1 2 (((σ.1 3 x1.toNatClampNeg) + x4).toNatClampNeg))) &&& 255) then lj_D lm_P lm_M169 99 [.ref 0, .int x1, .int x2, .int x3, .int x4, .int (((σ.1 2 (((σ.1 3 x1.toNatClampNeg) + x4).toNatClampNeg))) &&& 255), .int (((σ.1 2 (((σ.1 3 x2.toNatClampNeg) + x4).toNatClampNeg))) &&& 255)] [.int 1] σ else lj_D lm_P lm_M169 99 [.ref 0, .int x1, .int x2, .int x3, .int x4, .int (((σ.1 2 (((σ.1 3 x1.toNatClampNeg) + x4).toNatClampNeg))) &&& 255), .int (((σ.1 2 (((σ.1 3 x2.toNatClampNeg) + x4).toNatClampNeg))) &&& 255)] [.int (-1)] σ)) else none) else none) else none) else none)) := by rw [lj_D_eq]; rfl
set_option maxRecDepth 100000 in
set_option maxHeartbeats 4000000 in
theorem km_169_99 (x1 : Int32) (x2 : Int32) (x3 : Int32) (x4 : Int32) (x5 : Int32) (x6 : Int32) (x50 : Int32) (σ : lj_S) : lj_D lm_P lm_M169 99 [.ref 0, .int x1, .int x2, .int x3, .int x4, .int x5, .int x6] [.int x50] σ = some (.inl (some (.int x50)), σ) := by rw [lj_D_eq]; rfl
set_option maxRecDepth 100000 in
set_option maxHeartbeats 4000000 in
theorem km_169_145 (x1 : Int32) (x2 : Int32) (x3 : Int32) (x4 : Int32) (x5 : Value) (x6 : Value) (x50 : Int32) (σ : lj_S) : lj_D lm_P lm_M169 145 [.ref 0, .int x1, .int x2, .int x3, .int x4, x5, x6] [.int x50] σ = some (.inl (some (.int x50)), σ) := by rw [lj_D_eq]; rfl
-- TableTongueModel.returnWord(I)V
set_option maxRecDepth 100000 in
theorem rm_170 (x1 : Int32) (σ : lj_S) : lj_R lm_P 170 [.ref 0, .int x1] σ = lj_D lm_P lm_M170 0 [.ref 0, .int x1, .retAddr 0, .retAddr 0] [] σ := lj_R_eq (nL := 4) (M := lm_M170) _ _ _ _ rfl rfl
set_option maxRecDepth 100000 in
set_option maxHeartbeats 4000000 in
theorem km_170_0 (x1 : Int32) (σ : lj_S) : lj_D lm_P lm_M170 0 [.ref 0, .int x1, .retAddr 0, .retAddr 0] [] σ = lj_bi (lj_R lm_P 144 [.ref 0] σ) (fun y2 σ1 => (if lj_in (σ1.1 0 111) 26 then lj_D lm_P lm_M170 22 [.ref 0, .int x1, .int y2, .int 0] [] (lj_put σ1 0 140 (((σ1.1 63 ((σ1.1 0 111).toNatClampNeg))) - y2)) else none)) lj_up := by rw [lj_D_eq]; rfl
set_option maxRecDepth 100000 in
set_option maxHeartbeats 4000000 in
theorem km_170_22 (x1 : Int32) (x2 : Int32) (x3 : Int32) (σ : lj_S) : lj_D lm_P lm_M170 22 [.ref 0, .int x1, .int x2, .int x3] [] σ = (if (σ.1 0 140) ≤ x3 then (if lj_in x1 1248 then (if lj_in x1 1248 then lj_bv (lj_R lm_P 171 [.ref 0] (lj_put (lj_put σ 0 130 (σ.1 78 x1.toNatClampNeg)) 0 131 (σ.1 79 x1.toNatClampNeg))) (fun σ1 => some (.inl none, (lj_put σ1 0 129 1))) lj_up else none) else none) else (if lj_in (((10000 * (σ.1 0 111)) + x2) + x3) 260000 then (if lj_in x3 128 then (if lj_in (((10000 * (σ.1 0 111)) + x2) + x3) 260000 then (if lj_in x3 128 then lj_D lm_P lm_M170 22 [.ref 0, .int x1, .int x2, .int (x3 + 1)] [] (lj_putL (lj_put σ 90 x3.toNatClampNeg ((σ.1 71 ((((10000 * (σ.1 0 111)) + x2) + x3).toNatClampNeg)))) 91 x3.toNatClampNeg ((σ.2 72 ((((10000 * (σ.1 0 111)) + x2) + x3).toNatClampNeg)))) else none) else none) else none) else none)) := by rw [lj_D_eq]; rfl
-- TableTongueModel.closeFrame()V
set_option maxRecDepth 100000 in
theorem rm_171  (σ : lj_S) : lj_R lm_P 171 [.ref 0] σ = lj_D lm_P lm_M171 0 [.ref 0, .retAddr 0] [] σ := lj_R_eq (nL := 2) (M := lm_M171) _ _ _ _ rfl rfl
set_option maxRecDepth 100000 in
set_option maxHeartbeats 4000000 in
theorem km_171_0  (σ : lj_S) : lj_D lm_P lm_M171 0 [.ref 0, .retAddr 0] [] σ = lj_bi (lj_R lm_P 122 [.ref 0] σ) (fun y2 σ1 => (if lj_in y2 1248 then (if lj_in (σ1.1 0 111) 26 then (if lj_in y2 1248 then (if lj_in (σ1.1 0 111) 26 then (if lj_in (σ1.1 0 111) 26 then (if lj_in (σ1.1 0 111) 26 then (if lj_in (σ1.1 0 111) 26 then (if lj_in (σ1.1 0 111) 26 then some (.inl none, (lj_put (lj_put (lj_put (lj_put σ1 63 ((σ1.1 0 111).toNatClampNeg) (σ1.1 80 y2.toNatClampNeg)) 64 ((σ1.1 0 111).toNatClampNeg) (σ1.1 81 y2.toNatClampNeg)) 65 ((σ1.1 0 111).toNatClampNeg) (((σ1.1 65 ((σ1.1 0 111).toNatClampNeg))) - 1)) 62 ((σ1.1 0 111).toNatClampNeg) (((σ1.1 62 ((σ1.1 0 111).toNatClampNeg))) - 1))) else none) else none) else none) else none) else none) else none) else none) else none)) lj_up := by rw [lj_D_eq]; rfl
-- TableTongueModel.forPrep(I)V
set_option maxRecDepth 100000 in
theorem rm_172 (x1 : Int32) (σ : lj_S) : lj_R lm_P 172 [.ref 0, .int x1] σ = lj_D lm_P lm_M172 0 [.ref 0, .int x1] [] σ := lj_R_eq (nL := 2) (M := lm_M172) _ _ _ _ rfl rfl
set_option maxRecDepth 100000 in
set_option maxHeartbeats 4000000 in
theorem km_172_0 (x1 : Int32) (σ : lj_S) : lj_D lm_P lm_M172 0 [.ref 0, .int x1] [] σ = lj_bi (lj_R lm_P 124 [.ref 0, .int 0] σ) (fun y2 σ1 => (if y2 = 2 then lj_bi (lj_R lm_P 124 [.ref 0, .int 1] σ1) (fun y4 σ3 => (if y4 = 2 then lj_bi (lj_R lm_P 124 [.ref 0, .int 2] σ3) (fun y6 σ5 => (if y6 = 2 then lj_bl (lj_R lm_P 125 [.ref 0, .int 0] σ5) (fun y8 σ7 => (if (lg_cmp y8 0) = 0 then lj_bv (lj_R lm_P 142 [.ref 0, .int 12, .int x1] σ7) (fun σ9 => lj_D lm_P lm_M172 54 [.ref 0, .int x1] [] σ9) lj_up else lj_D lm_P lm_M172 54 [.ref 0, .int x1] [] σ7)) lj_up else lj_D lm_P lm_M172 27 [.ref 0, .int x1] [] σ5)) lj_up else lj_D lm_P lm_M172 27 [.ref 0, .int x1] [] σ3)) lj_up else lj_D lm_P lm_M172 27 [.ref 0, .int x1] [] σ1)) lj_up := by rw [lj_D_eq]; rfl
set_option maxRecDepth 100000 in
set_option maxHeartbeats 4000000 in
theorem km_172_27 (x1 : Int32) (σ : lj_S) : lj_D lm_P lm_M172 27 [.ref 0, .int x1] [] σ = lj_bv (lj_R lm_P 142 [.ref 0, .int 11, .int x1] σ) (fun σ1 => lj_D lm_P lm_M172 54 [.ref 0, .int x1] [] σ1) lj_up := by rw [lj_D_eq]; rfl
set_option maxRecDepth 100000 in
set_option maxHeartbeats 4000000 in
theorem km_172_54 (x1 : Int32) (σ : lj_S) : lj_D lm_P lm_M172 54 [.ref 0, .int x1] [] σ = some (.inl none, σ) := by rw [lj_D_eq]; rfl
-- TableTongueModel.beyond()Z
set_option maxRecDepth 100000 in
theorem rm_173  (σ : lj_S) : lj_R lm_P 173 [.ref 0] σ = lj_D lm_P lm_M173 0 [.ref 0, .retAddr 0, .retAddr 0] [] σ := lj_R_eq (nL := 3) (M := lm_M173) _ _ _ _ rfl rfl
set_option maxRecDepth 100000 in
set_option maxHeartbeats 4000000 in
theorem km_173_0  (σ : lj_S) : lj_D lm_P lm_M173 0 [.ref 0, .retAddr 0, .retAddr 0] [] σ = lj_bl (lj_R lm_P 125 [.ref 0, .int 0] σ) (fun y2 σ1 => (if (lg_cmp y2 0) ≤ 0 then lj_bl (lj_R lm_P 125 [.ref 0, .int 2] σ1) (fun y4 σ3 => lj_bl (lj_R lm_P 125 [.ref 0, .int 1] σ3) (fun y6 σ5 => (if 0 ≤ (lg_cmp y4 y6) then lj_D lm_P lm_M173 53 [.ref 0, .long y2, .retAddr 0] [.int 0] σ5 else lj_D lm_P lm_M173 53 [.ref 0, .long y2, .retAddr 0] [.int 1] σ5)) lj_up) lj_up else lj_bl (lj_R lm_P 125 [.ref 0, .int 2] σ1) (fun y8 σ7 => lj_bl (lj_R lm_P 125 [.ref 0, .int 1] σ7) (fun y10 σ9 => (if (lg_cmp y8 y10) ≤ 0 then lj_D lm_P lm_M173 53 [.ref 0, .long y2, .retAddr 0] [.int 0] σ9 else lj_D lm_P lm_M173 53 [.ref 0, .long y2, .retAddr 0] [.int 1] σ9)) lj_up) lj_up)) lj_up := by rw [lj_D_eq]; rfl
set_option maxRecDepth 100000 in
set_option maxHeartbeats 4000000 in
theorem km_173_53 (x1 : Int64) (x50 : Int32) (σ : lj_S) : lj_D lm_P lm_M173 53 [.ref 0, .long x1, .retAddr 0] [.int x50] σ = some (.inl (some (.int (vp_nar .boolean x50))), σ) := by rw [lj_D_eq]; rfl
-- TableTongueModel.forNext(III)V
set_option maxRecDepth 100000 in
theorem rm_174 (x1 : Int32) (x2 : Int32) (x3 : Int32) (σ : lj_S) : lj_R lm_P 174 [.ref 0, .int x1, .int x2, .int x3] σ = lj_D lm_P lm_M174 0 [.ref 0, .int x1, .int x2, .int x3, .retAddr 0, .retAddr 0, .retAddr 0, .retAddr 0, .retAddr 0, .retAddr 0, .retAddr 0] [] σ := lj_R_eq (nL := 11) (M := lm_M174) _ _ _ _ rfl rfl
set_option maxRecDepth 100000 in
set_option maxHeartbeats 4000000 in
theorem km_174_0 (x1 : Int32) (x2 : Int32) (x3 : Int32) (σ : lj_S) : lj_D lm_P lm_M174 0 [.ref 0, .int x1, .int x2, .int x3, .retAddr 0, .retAddr 0, .retAddr 0, .retAddr 0, .retAddr 0, .retAddr 0, .retAddr 0] [] σ = lj_bl (lj_R lm_P 125 [.ref 0, .int 2] σ) (fun y2 σ1 => lj_bl (lj_R lm_P 125 [.ref 0, .int 0] σ1) (fun y4 σ3 => (if (lg_cmp y4 0) ≤ 0 then (if (lg_cmp (y2 + y4) y2) ≤ 0 then lj_D lm_P lm_M174 57 [.ref 0, .int x1, .int x2, .int x3, .long y2, .retAddr 0, .long y4, .retAddr 0, .long (y2 + y4), .retAddr 0, .retAddr 0] [.int 0] σ3 else lj_D lm_P lm_M174 57 [.ref 0, .int x1, .int x2, .int x3, .long y2, .retAddr 0, .long y4, .retAddr 0, .long (y2 + y4), .retAddr 0, .retAddr 0] [.int 1] σ3) else (if 0 ≤ (lg_cmp (y2 + y4) y2) then lj_D lm_P lm_M174 57 [.ref 0, .int x1, .int x2, .int x3, .long y2, .retAddr 0, .long y4, .retAddr 0, .long (y2 + y4), .retAddr 0, .retAddr 0] [.int 0] σ3 else lj_D lm_P lm_M174 57 [.ref 0, .int x1, .int x2, .int x3, .long y2, .retAddr 0, .long y4, .retAddr 0, .long (y2 + y4), .retAddr 0, .retAddr 0] [.int 1] σ3))) lj_up) lj_up := by rw [lj_D_eq]; rfl
set_option maxRecDepth 100000 in
set_option maxHeartbeats 4000000 in
theorem km_174_57 (x1 : Int32) (x2 : Int32) (x3 : Int32) (x4 : Int64) (x6 : Int64) (x8 : Int64) (x50 : Int32) (σ : lj_S) : lj_D lm_P lm_M174 57 [.ref 0, .int x1, .int x2, .int x3, .long x4, .retAddr 0, .long x6, .retAddr 0, .long x8, .retAddr 0, .retAddr 0] [.int x50] σ = (if lj_in (σ.1 0 111) 26 then (if lj_in (((10000 * (σ.1 0 111)) + ((σ.1 63 ((σ.1 0 111).toNatClampNeg)))) - 3) 260000 then (if x50 = 0 then lj_D lm_P lm_M174 101 [.ref 0, .int x1, .int x2, .int x3, .long x4, .retAddr 0, .long x6, .retAddr 0, .long x8, .retAddr 0, .int x50] [.int x3, .int x1, .ref 77] (lj_putL σ 72 ((((10000 * (σ.1 0 111)) + ((σ.1 63 ((σ.1 0 111).toNatClampNeg)))) - 3).toNatClampNeg) x8) else lj_D lm_P lm_M174 101 [.ref 0, .int x1, .int x2, .int x3, .long x4, .retAddr 0, .long x6, .retAddr 0, .long x8, .retAddr 0, .int x50] [.int x2, .int x1, .ref 77] (lj_putL σ 72 ((((10000 * (σ.1 0 111)) + ((σ.1 63 ((σ.1 0 111).toNatClampNeg)))) - 3).toNatClampNeg) x8)) else none) else none) := by rw [lj_D_eq]; rfl
set_option maxRecDepth 100000 in
set_option maxHeartbeats 4000000 in
theorem km_174_101 (x1 : Int32) (x2 : Int32) (x3 : Int32) (x4 : Int64) (x6 : Int64) (x8 : Int64) (x10 : Int32) (x50 : Int32) (x51 : Int32) (σ : lj_S) : lj_D lm_P lm_M174 101 [.ref 0, .int x1, .int x2, .int x3, .long x4, .retAddr 0, .long x6, .retAddr 0, .long x8, .retAddr 0, .int x10] [.int x50, .int x51, .ref 77] σ = (if lj_in x51 1248 then some (.inl none, (lj_put σ 77 x51.toNatClampNeg x50)) else none) := by rw [lj_D_eq]; rfl
-- TableTongueModel.forIn(II)V
set_option maxRecDepth 100000 in
theorem rm_175 (x1 : Int32) (x2 : Int32) (σ : lj_S) : lj_R lm_P 175 [.ref 0, .int x1, .int x2] σ = lj_D lm_P lm_M175 0 [.ref 0, .int x1, .int x2] [] σ := lj_R_eq (nL := 3) (M := lm_M175) _ _ _ _ rfl rfl
set_option maxRecDepth 100000 in
set_option maxHeartbeats 4000000 in
theorem km_175_0 (x1 : Int32) (x2 : Int32) (σ : lj_S) : lj_D lm_P lm_M175 0 [.ref 0, .int x1, .int x2] [] σ = lj_bv (lj_R lm_P 112 [.ref 0, .int 0, .int x1, .int x2] σ) (fun σ1 => lj_bi (lj_R lm_P 124 [.ref 0, .int 2] σ1) (fun y3 σ2 => lj_bl (lj_R lm_P 125 [.ref 0, .int 2] σ2) (fun y5 σ4 => lj_bi (lj_R lm_P 124 [.ref 0, .int 1] σ4) (fun y7 σ6 => lj_bl (lj_R lm_P 125 [.ref 0, .int 1] σ6) (fun y9 σ8 => lj_bi (lj_R lm_P 124 [.ref 0, .int 0] σ8) (fun y11 σ10 => lj_bl (lj_R lm_P 125 [.ref 0, .int 0] σ10) (fun y13 σ12 => lj_bv (lj_R lm_P 141 [.ref 0, .int y3, .long y5, .int y7, .long y9, .int y11, .long y13] σ12) (fun σ14 => some (.inl none, σ14)) lj_up) lj_up) lj_up) lj_up) lj_up) lj_up) lj_up) lj_up := by rw [lj_D_eq]; rfl
-- TableTongueModel.forInTest(III)V
set_option maxRecDepth 100000 in
theorem rm_176 (x1 : Int32) (x2 : Int32) (x3 : Int32) (σ : lj_S) : lj_R lm_P 176 [.ref 0, .int x1, .int x2, .int x3] σ = lj_D lm_P lm_M176 0 [.ref 0, .int x1, .int x2, .int x3, .retAddr 0, .retAddr 0, .retAddr 0, .retAddr 0] [] σ := lj_R_eq (nL := 8) (M := lm_M176) _ _ _ _ rfl rfl
set_option maxRecDepth 100000 in
set_option maxHeartbeats 4000000 in
theorem km_176_0 (x1 : Int32) (x2 : Int32) (x3 : Int32) (σ : lj_S) : lj_D lm_P lm_M176 0 [.ref 0, .int x1, .int x2, .int x3, .retAddr 0, .retAddr 0, .retAddr 0, .retAddr 0] [] σ = (if (100 : Int32) = 0 then none else (if (100 : Int32) = 0 then none else (if lj_in (σ.1 0 111) 26 then (if lj_in (((10000 * (σ.1 0 111)) + ((σ.1 63 ((σ.1 0 111).toNatClampNeg)))) - (x3 / 100)) 260000 then (if ((σ.1 71 ((((10000 * (σ.1 0 111)) + ((σ.1 63 ((σ.1 0 111).toNatClampNeg)))) - (x3 / 100)).toNatClampNeg))) = 0 then lj_bv (lj_R lm_P 126 [.ref 0, .int (x3 / 100)] σ) (fun σ1 => (if lj_in x1 1248 then some (.inl none, (lj_put σ1 77 x1.toNatClampNeg x2)) else none)) lj_up else (if lj_in (((10000 * (σ.1 0 111)) + ((σ.1 63 ((σ.1 0 111).toNatClampNeg)))) - (x3 / 100)) 260000 then (if lj_in ((((10000 * (σ.1 0 111)) + ((σ.1 63 ((σ.1 0 111).toNatClampNeg)))) - (x3 / 100)) - 1) 260000 then (if lj_in (((10000 * (σ.1 0 111)) + ((σ.1 63 ((σ.1 0 111).toNatClampNeg)))) - (x3 / 100)) 260000 then (if lj_in ((((10000 * (σ.1 0 111)) + ((σ.1 63 ((σ.1 0 111).toNatClampNeg)))) - (x3 / 100)) - 1) 260000 then lj_D lm_P lm_M176 94 [.ref 0, .int x1, .int x2, .int x3, .int (x3 / 100), .int (x3 - x3 / 100 * 100), .int (((10000 * (σ.1 0 111)) + ((σ.1 63 ((σ.1 0 111).toNatClampNeg)))) - (x3 / 100)), .int 0] [] (lj_putL (lj_put σ 71 (((((10000 * (σ.1 0 111)) + ((σ.1 63 ((σ.1 0 111).toNatClampNeg)))) - (x3 / 100)) - 1).toNatClampNeg) ((σ.1 71 ((((10000 * (σ.1 0 111)) + ((σ.1 63 ((σ.1 0 111).toNatClampNeg)))) - (x3 / 100)).toNatClampNeg)))) 72 (((((10000 * (σ.1 0 111)) + ((σ.1 63 ((σ.1 0 111).toNatClampNeg)))) - (x3 / 100)) - 1).toNatClampNeg) ((σ.2 72 ((((10000 * (σ.1 0 111)) + ((σ.1 63 ((σ.1 0 111).toNatClampNeg)))) - (x3 / 100)).toNatClampNeg)))) else none) else none) else none) else none)) else none) else none))) := by rw [lj_D_eq]; rfl
set_option maxRecDepth 100000 in
set_option maxHeartbeats 4000000 in
theorem km_176_94 (x1 : Int32) (x2 : Int32) (x3 : Int32) (x4 : Int32) (x5 : Int32) (x6 : Int32) (x7 : Int32) (σ : lj_S) : lj_D lm_P lm_M176 94 [.ref 0, .int x1, .int x2, .int x3, .int x4, .int x5, .int x6, .int x7] [] σ = (if x4 ≤ x7 then lj_bv (lj_R lm_P 126 [.ref 0, .int x4] σ) (fun σ1 => some (.inl none, σ1)) lj_up else (if lj_in (x6 + x7) 260000 then (if lj_in (x6 + x7) 260000 then lj_bv (lj_R lm_P 150 [.ref 0, .int x1, .int (x5 + x7), .int ((σ.1 71 ((x6 + x7).toNatClampNeg))), .long ((σ.2 72 ((x6 + x7).toNatClampNeg)))] σ) (fun σ2 => lj_D lm_P lm_M176 94 [.ref 0, .int x1, .int x2, .int x3, .int x4, .int x5, .int x6, .int (x7 + 1)] [] σ2) lj_up else none) else none)) := by rw [lj_D_eq]; rfl
-- TableTongueModel.swap()V
set_option maxRecDepth 100000 in
theorem rm_177  (σ : lj_S) : lj_R lm_P 177 [.ref 0] σ = lj_D lm_P lm_M177 0 [.ref 0, .retAddr 0, .retAddr 0, .retAddr 0, .retAddr 0] [] σ := lj_R_eq (nL := 5) (M := lm_M177) _ _ _ _ rfl rfl
set_option maxRecDepth 100000 in
set_option maxHeartbeats 4000000 in
theorem km_177_0  (σ : lj_S) : lj_D lm_P lm_M177 0 [.ref 0, .retAddr 0, .retAddr 0, .retAddr 0, .retAddr 0] [] σ = (if lj_in (σ.1 0 111) 26 then (if lj_in (((10000 * (σ.1 0 111)) + ((σ.1 63 ((σ.1 0 111).toNatClampNeg)))) - 1) 260000 then (if lj_in (((10000 * (σ.1 0 111)) + ((σ.1 63 ((σ.1 0 111).toNatClampNeg)))) - 1) 260000 then (if lj_in ((((10000 * (σ.1 0 111)) + ((σ.1 63 ((σ.1 0 111).toNatClampNeg)))) - 1) - 1) 260000 then (if lj_in (((10000 * (σ.1 0 111)) + ((σ.1 63 ((σ.1 0 111).toNatClampNeg)))) - 1) 260000 then (if lj_in ((((10000 * (σ.1 0 111)) + ((σ.1 63 ((σ.1 0 111).toNatClampNeg)))) - 1) - 1) 260000 then (if lj_in (((10000 * (σ.1 0 111)) + ((σ.1 63 ((σ.1 0 111).toNatClampNeg)))) - 1) 260000 then (if lj_in ((((10000 * (σ.1 0 111)) + ((σ.1 63 ((σ.1 0 111).toNatClampNeg)))) - 1) - 1) 260000 then (if lj_in ((((10000 * (σ.1 0 111)) + ((σ.1 63 ((σ.1 0 111).toNatClampNeg)))) - 1) - 1) 260000 then some (.inl none, (lj_putL (lj_put (lj_putL (lj_put σ 71 ((((10000 * (σ.1 0 111)) + ((σ.1 63 ((σ.1 0 111).toNatClampNeg)))) - 1).toNatClampNeg) ((σ.1 71 (((((10000 * (σ.1 0 111)) + ((σ.1 63 ((σ.1 0 111).toNatClampNeg)))) - 1) - 1).toNatClampNeg)))) 72 ((((10000 * (σ.1 0 111)) + ((σ.1 63 ((σ.1 0 111).toNatClampNeg)))) - 1).toNatClampNeg) ((σ.2 72 (((((10000 * (σ.1 0 111)) + ((σ.1 63 ((σ.1 0 111).toNatClampNeg)))) - 1) - 1).toNatClampNeg)))) 71 (((((10000 * (σ.1 0 111)) + ((σ.1 63 ((σ.1 0 111).toNatClampNeg)))) - 1) - 1).toNatClampNeg) ((σ.1 71 ((((10000 * (σ.1 0 111)) + ((σ.1 63 ((σ.1 0 111).toNatClampNeg)))) - 1).toNatClampNeg)))) 72 (((((10000 * (σ.1 0 111)) + ((σ.1 63 ((σ.1 0 111).toNatClampNeg)))) - 1) - 1).toNatClampNeg) ((σ.2 72 ((((10000 * (σ.1 0 111)) + ((σ.1 63 ((σ.1 0 111).toNatClampNeg)))) - 1).toNatClampNeg))))) else none) else none) else none) else none) else none) else none) else none) else none) else none) := by rw [lj_D_eq]; rfl
-- TableTongueModel.deliver()V
set_option maxRecDepth 100000 in
theorem rm_178  (σ : lj_S) : lj_R lm_P 178 [.ref 0] σ = lj_D lm_P lm_M178 0 [.ref 0, .retAddr 0, .retAddr 0, .retAddr 0] [] σ := lj_R_eq (nL := 4) (M := lm_M178) _ _ _ _ rfl rfl
set_option maxRecDepth 100000 in
set_option maxHeartbeats 4000000 in
theorem km_178_0  (σ : lj_S) : lj_D lm_P lm_M178 0 [.ref 0, .retAddr 0, .retAddr 0, .retAddr 0] [] σ = (if lj_in (σ.1 0 111) 26 then (if ((σ.1 62 ((σ.1 0 111).toNatClampNeg))) = 0 then (if (σ.1 0 111) ≤ 0 then lj_bv (lj_R lm_P 182 [.ref 0, .int 1] σ) (fun σ7 => some (.inl none, σ7)) lj_up else lj_bv (lj_R lm_P 179 [.ref 0, .int 1] σ) (fun σ8 => some (.inl none, σ8)) lj_up) else lj_bi (lj_R lm_P 122 [.ref 0] σ) (fun y2 σ1 => (if lj_in y2 1248 then (if (σ1.1 74 y2.toNatClampNeg) = 1 then lj_bv (lj_R lm_P 181 [.ref 0, .int 1] σ1) (fun σ5 => (if lj_in y2 1248 then (if lj_in y2 1248 then lj_bv (lj_R lm_P 171 [.ref 0] (lj_put (lj_put σ5 0 130 (σ5.1 78 y2.toNatClampNeg)) 0 131 (σ5.1 79 y2.toNatClampNeg))) (fun σ6 => some (.inl none, σ6)) lj_up else none) else none)) lj_up else (if lj_in y2 1248 then (if (σ1.1 74 y2.toNatClampNeg) = 2 then some (.inl none, (lj_put σ1 0 129 4)) else (if (σ1.1 0 130) = 0 then (if 0 ≤ (σ1.1 0 131) then lj_D lm_P lm_M178 181 [.ref 0, .int y2, .retAddr 0, .retAddr 0] [.int (σ1.1 0 131)] (lj_put σ1 0 129 0) else lj_D lm_P lm_M178 181 [.ref 0, .int y2, .retAddr 0, .retAddr 0] [.int (σ1.1 0 140)] (lj_put σ1 0 129 0)) else (if (σ1.1 0 140) ≤ 0 then lj_D lm_P lm_M178 133 [.ref 0, .int y2, .retAddr 0, .retAddr 0] [] (lj_put σ1 0 129 0) else (if lj_in 0 128 then (if lj_in 0 128 then lj_bi (lj_R lm_P 151 [.int ((σ1.1 90 ((0 : Int32).toNatClampNeg))), .long ((σ1.2 91 ((0 : Int32).toNatClampNeg)))] (lj_put σ1 0 129 0)) (fun y4 σ3 => (if y4 = 0 then lj_D lm_P lm_M178 133 [.ref 0, .int y2, .retAddr 0, .retAddr 0] [] σ3 else lj_D lm_P lm_M178 134 [.ref 0, .int y2, .retAddr 0, .retAddr 0] [.int 1] σ3)) lj_up else none) else none)))) else none)) else none)) lj_up) else none) := by rw [lj_D_eq]; rfl
set_option maxRecDepth 100000 in
set_option maxHeartbeats 4000000 in
theorem km_178_133 (x1 : Int32) (σ : lj_S) : lj_D lm_P lm_M178 133 [.ref 0, .int x1, .retAddr 0, .retAddr 0] [] σ = lj_D lm_P lm_M178 134 [.ref 0, .int x1, .retAddr 0, .retAddr 0] [.int 0] σ := by rw [lj_D_eq]; rfl
set_option maxRecDepth 100000 in
set_option maxHeartbeats 4000000 in
theorem km_178_134 (x1 : Int32) (x50 : Int32) (σ : lj_S) : lj_D lm_P lm_M178 134 [.ref 0, .int x1, .retAddr 0, .retAddr 0] [.int x50] σ = (if (σ.1 0 130) = 1 then lj_D lm_P lm_M178 151 [.ref 0, .int x1, .int x50, .retAddr 0] [.int 1, .int x50, .int 1, .ref 0] σ else lj_D lm_P lm_M178 151 [.ref 0, .int x1, .int x50, .retAddr 0] [.int 0, .int x50, .int 1, .ref 0] σ) := by rw [lj_D_eq]; rfl
set_option maxRecDepth 100000 in
set_option maxHeartbeats 4000000 in
theorem km_178_151 (x1 : Int32) (x2 : Int32) (x50 : Int32) (x51 : Int32) (x52 : Int32) (σ : lj_S) : lj_D lm_P lm_M178 151 [.ref 0, .int x1, .int x2, .retAddr 0] [.int x50, .int x51, .int x52, .ref 0] σ = (if x51 = x50 then lj_D lm_P lm_M178 159 [.ref 0, .int x1, .int x2, .retAddr 0] [.long 1, .int x52, .ref 0] σ else lj_D lm_P lm_M178 159 [.ref 0, .int x1, .int x2, .retAddr 0] [.long 0, .int x52, .ref 0] σ) := by rw [lj_D_eq]; rfl
set_option maxRecDepth 100000 in
set_option maxHeartbeats 4000000 in
theorem km_178_159 (x1 : Int32) (x2 : Int32) (x50 : Int64) (x51 : Int32) (σ : lj_S) : lj_D lm_P lm_M178 159 [.ref 0, .int x1, .int x2, .retAddr 0] [.long x50, .int x51, .ref 0] σ = lj_bv (lj_R lm_P 116 [.ref 0, .int x51, .long x50] σ) (fun σ1 => some (.inl none, σ1)) lj_up := by rw [lj_D_eq]; rfl
set_option maxRecDepth 100000 in
set_option maxHeartbeats 4000000 in
theorem km_178_181 (x1 : Int32) (x50 : Int32) (σ : lj_S) : lj_D lm_P lm_M178 181 [.ref 0, .int x1, .retAddr 0, .retAddr 0] [.int x50] σ = lj_D lm_P lm_M178 184 [.ref 0, .int x1, .int x50, .int 0] [] σ := by rw [lj_D_eq]; rfl
set_option maxRecDepth 100000 in
set_option maxHeartbeats 4000000 in
theorem km_178_184 (x1 : Int32) (x2 : Int32) (x3 : Int32) (σ : lj_S) : lj_D lm_P lm_M178 184 [.ref 0, .int x1, .int x2, .int x3] [] σ = (if x2 ≤ x3 then some (.inl none, σ) else (if (σ.1 0 140) ≤ x3 then lj_D lm_P lm_M178 208 [.ref 0, .int x1, .int x2, .int x3] [.int 0, .ref 0] σ else (if lj_in x3 128 then lj_D lm_P lm_M178 208 [.ref 0, .int x1, .int x2, .int x3] [.int (σ.1 90 x3.toNatClampNeg), .ref 0] σ else none))) := by rw [lj_D_eq]; rfl
set_option maxRecDepth 100000 in
set_option maxHeartbeats 4000000 in
theorem km_178_208 (x1 : Int32) (x2 : Int32) (x3 : Int32) (x50 : Int32) (σ : lj_S) : lj_D lm_P lm_M178 208 [.ref 0, .int x1, .int x2, .int x3] [.int x50, .ref 0] σ = (if (σ.1 0 140) ≤ x3 then lj_D lm_P lm_M178 226 [.ref 0, .int x1, .int x2, .int x3] [.long 0, .int x50, .ref 0] σ else (if lj_in x3 128 then lj_D lm_P lm_M178 226 [.ref 0, .int x1, .int x2, .int x3] [.long (σ.2 91 x3.toNatClampNeg), .int x50, .ref 0] σ else none)) := by rw [lj_D_eq]; rfl
set_option maxRecDepth 100000 in
set_option maxHeartbeats 4000000 in
theorem km_178_226 (x1 : Int32) (x2 : Int32) (x3 : Int32) (x50 : Int64) (x51 : Int32) (σ : lj_S) : lj_D lm_P lm_M178 226 [.ref 0, .int x1, .int x2, .int x3] [.long x50, .int x51, .ref 0] σ = lj_bv (lj_R lm_P 116 [.ref 0, .int x51, .long x50] σ) (fun σ1 => lj_D lm_P lm_M178 184 [.ref 0, .int x1, .int x2, .int (x3 + 1)] [] σ1) lj_up := by rw [lj_D_eq]; rfl
-- TableTongueModel.partOver(Z)V
set_option maxRecDepth 100000 in
theorem rm_179 (x1 : Int32) (σ : lj_S) : lj_R lm_P 179 [.ref 0, .int x1] σ = lj_D lm_P lm_M179 0 [.ref 0, .int x1] [] σ := lj_R_eq (nL := 2) (M := lm_M179) _ _ _ _ rfl rfl
set_option maxRecDepth 100000 in
set_option maxHeartbeats 4000000 in
theorem km_179_0 (x1 : Int32) (σ : lj_S) : lj_D lm_P lm_M179 0 [.ref 0, .int x1] [] σ = (if lj_in (σ.1 0 111) 26 then (if lj_in (σ.1 0 111) 26 then (if lj_in (σ.1 0 111) 26 then (if lj_in (σ.1 0 111) 26 then lj_bv (lj_R lm_P 180 [.ref 0, .int x1] (lj_put (lj_put (lj_put (lj_put σ 58 ((σ.1 0 111).toNatClampNeg) 4) 63 ((σ.1 0 111).toNatClampNeg) 0) 64 ((σ.1 0 111).toNatClampNeg) 0) 65 ((σ.1 0 111).toNatClampNeg) 0)) (fun σ1 => some (.inl none, σ1)) lj_up else none) else none) else none) else none) := by rw [lj_D_eq]; rfl
-- TableTongueModel.backToResumer(Z)V
set_option maxRecDepth 100000 in
theorem rm_180 (x1 : Int32) (σ : lj_S) : lj_R lm_P 180 [.ref 0, .int x1] σ = lj_D lm_P lm_M180 0 [.ref 0, .int x1, .retAddr 0] [] σ := lj_R_eq (nL := 3) (M := lm_M180) _ _ _ _ rfl rfl
set_option maxRecDepth 100000 in
set_option maxHeartbeats 4000000 in
theorem km_180_0 (x1 : Int32) (σ : lj_S) : lj_D lm_P lm_M180 0 [.ref 0, .int x1, .retAddr 0] [] σ = lj_bv (lj_R lm_P 181 [.ref 0, .int x1] σ) (fun σ1 => (if lj_in (σ.1 0 111) 26 then (if lj_in ((σ1.1 66 ((σ.1 0 111).toNatClampNeg))) 26 then (if lj_in (σ.1 0 111) 26 then (if lj_in (σ.1 0 111) 26 then some (.inl none, (lj_put (lj_put (lj_put (lj_put (lj_put σ1 0 111 ((σ1.1 66 ((σ.1 0 111).toNatClampNeg)))) 58 (((σ1.1 66 ((σ.1 0 111).toNatClampNeg))).toNatClampNeg) 2) 0 130 ((σ1.1 67 ((σ.1 0 111).toNatClampNeg)))) 0 131 ((σ1.1 68 ((σ.1 0 111).toNatClampNeg)))) 0 129 1)) else none) else none) else none) else none)) lj_up := by rw [lj_D_eq]; rfl
-- TableTongueModel.prefix(Z)V
set_option maxRecDepth 100000 in
theorem rm_181 (x1 : Int32) (σ : lj_S) : lj_R lm_P 181 [.ref 0, .int x1] σ = lj_D lm_P lm_M181 0 [.ref 0, .int x1, .retAddr 0] [] σ := lj_R_eq (nL := 3) (M := lm_M181) _ _ _ _ rfl rfl
set_option maxRecDepth 100000 in
set_option maxHeartbeats 4000000 in
theorem km_181_0 (x1 : Int32) (σ : lj_S) : lj_D lm_P lm_M181 0 [.ref 0, .int x1, .retAddr 0] [] σ = lj_D lm_P lm_M181 5 [.ref 0, .int x1, .int (σ.1 0 140)] [] σ := by rw [lj_D_eq]; rfl
set_option maxRecDepth 100000 in
set_option maxHeartbeats 4000000 in
theorem km_181_5 (x1 : Int32) (x2 : Int32) (σ : lj_S) : lj_D lm_P lm_M181 5 [.ref 0, .int x1, .int x2] [] σ = (if x2 ≤ 0 then (if lj_in 0 128 then (if x1 = 0 then lj_D lm_P lm_M181 64 [.ref 0, .int x1, .int x2] [.long 0, .int 0, .ref 91] (lj_put σ 90 ((0 : Int32).toNatClampNeg) 1) else lj_D lm_P lm_M181 64 [.ref 0, .int x1, .int x2] [.long 1, .int 0, .ref 91] (lj_put σ 90 ((0 : Int32).toNatClampNeg) 1)) else none) else (if lj_in (x2 - 1) 128 then (if lj_in x2 128 then (if lj_in (x2 - 1) 128 then (if lj_in x2 128 then lj_D lm_P lm_M181 5 [.ref 0, .int x1, .int (x2 + (-1))] [] (lj_putL (lj_put σ 90 x2.toNatClampNeg ((σ.1 90 ((x2 - 1).toNatClampNeg)))) 91 x2.toNatClampNeg ((σ.2 91 ((x2 - 1).toNatClampNeg)))) else none) else none) else none) else none)) := by rw [lj_D_eq]; rfl
set_option maxRecDepth 100000 in
set_option maxHeartbeats 4000000 in
theorem km_181_64 (x1 : Int32) (x2 : Int32) (x50 : Int64) (x51 : Int32) (σ : lj_S) : lj_D lm_P lm_M181 64 [.ref 0, .int x1, .int x2] [.long x50, .int x51, .ref 91] σ = (if lj_in x51 128 then some (.inl none, (lj_put (lj_putL σ 91 x51.toNatClampNeg x50) 0 140 ((σ.1 0 140) + 1))) else none) := by rw [lj_D_eq]; rfl
-- TableTongueModel.finish(I)V
set_option maxRecDepth 100000 in
theorem rm_182 (x1 : Int32) (σ : lj_S) : lj_R lm_P 182 [.ref 0, .int x1] σ = lj_D lm_P lm_M182 0 [.ref 0, .int x1, .retAddr 0] [] σ := lj_R_eq (nL := 3) (M := lm_M182) _ _ _ _ rfl rfl
set_option maxRecDepth 100000 in
set_option maxHeartbeats 4000000 in
theorem km_182_0 (x1 : Int32) (σ : lj_S) : lj_D lm_P lm_M182 0 [.ref 0, .int x1, .retAddr 0] [] σ = lj_D lm_P lm_M182 15 [.ref 0, .int x1, .int 0] [] (lj_put (lj_put σ 0 143 x1) 0 148 (σ.1 0 140)) := by rw [lj_D_eq]; rfl
set_option maxRecDepth 100000 in
set_option maxHeartbeats 4000000 in
theorem km_182_15 (x1 : Int32) (x2 : Int32) (σ : lj_S) : lj_D lm_P lm_M182 15 [.ref 0, .int x1, .int x2] [] σ = (if (σ.1 0 140) ≤ x2 then some (.inl none, σ) else (if lj_in x2 128 then (if lj_in x2 128 then (if lj_in x2 128 then (if lj_in x2 128 then lj_D lm_P lm_M182 15 [.ref 0, .int x1, .int (x2 + 1)] [] (lj_putL (lj_put σ 92 x2.toNatClampNeg (σ.1 90 x2.toNatClampNeg)) 93 x2.toNatClampNeg (σ.2 91 x2.toNatClampNeg)) else none) else none) else none) else none)) := by rw [lj_D_eq]; rfl
-- TableTongueModel.unwind()V
set_option maxRecDepth 100000 in
theorem rm_183  (σ : lj_S) : lj_R lm_P 183 [.ref 0] σ = lj_D lm_P lm_M183 0 [.ref 0, .retAddr 0] [] σ := lj_R_eq (nL := 2) (M := lm_M183) _ _ _ _ rfl rfl
set_option maxRecDepth 100000 in
set_option maxHeartbeats 4000000 in
theorem km_183_0  (σ : lj_S) : lj_D lm_P lm_M183 0 [.ref 0, .retAddr 0] [] σ = lj_bv (lj_R lm_P 184 [.ref 0, .int (σ.1 0 141), .long (σ.2 0 142)] (lj_put σ 0 140 0)) (fun σ1 => (if lj_in (σ1.1 0 111) 26 then (if ((σ1.1 62 ((σ1.1 0 111).toNatClampNeg))) = 0 then (if (σ1.1 0 111) ≤ 0 then lj_bv (lj_R lm_P 182 [.ref 0, .int 2] σ1) (fun σ6 => lj_D lm_P lm_M183 49 [.ref 0, .retAddr 0] [] σ6) lj_up else lj_bv (lj_R lm_P 179 [.ref 0, .int 0] σ1) (fun σ7 => lj_D lm_P lm_M183 49 [.ref 0, .retAddr 0] [] σ7) lj_up) else lj_bi (lj_R lm_P 122 [.ref 0] σ1) (fun y3 σ2 => (if lj_in y3 1248 then (if (σ2.1 74 y3.toNatClampNeg) = 2 then some (.inl none, (lj_put σ2 0 129 4)) else (if lj_in y3 1248 then (if lj_in y3 1248 then lj_bv (lj_R lm_P 171 [.ref 0] (lj_put (lj_put σ2 0 130 (σ2.1 78 y3.toNatClampNeg)) 0 131 (σ2.1 79 y3.toNatClampNeg))) (fun σ4 => (if lj_in y3 1248 then (if (σ4.1 74 y3.toNatClampNeg) = 1 then lj_bv (lj_R lm_P 181 [.ref 0, .int 0] σ4) (fun σ5 => lj_D lm_P lm_M183 115 [.ref 0, .int y3] [] (lj_put σ5 0 129 1)) lj_up else lj_D lm_P lm_M183 115 [.ref 0, .int y3] [] σ4) else none)) lj_up else none) else none)) else none)) lj_up) else none)) lj_up := by rw [lj_D_eq]; rfl
set_option maxRecDepth 100000 in
set_option maxHeartbeats 4000000 in
theorem km_183_49  (σ : lj_S) : lj_D lm_P lm_M183 49 [.ref 0, .retAddr 0] [] σ = some (.inl none, σ) := by rw [lj_D_eq]; rfl
set_option maxRecDepth 100000 in
set_option maxHeartbeats 4000000 in
theorem km_183_115 (x1 : Int32) (σ : lj_S) : lj_D lm_P lm_M183 115 [.ref 0, .int x1] [] σ = some (.inl none, σ) := by rw [lj_D_eq]; rfl
-- TableTongueModel.also(IJ)V
set_option maxRecDepth 100000 in
theorem rm_184 (x1 : Int32) (x2 : Int64) (σ : lj_S) : lj_R lm_P 184 [.ref 0, .int x1, .long x2] σ = lj_D lm_P lm_M184 0 [.ref 0, .int x1, .long x2, .retAddr 0] [] σ := lj_R_eq (nL := 4) (M := lm_M184) _ _ _ _ rfl rfl
set_option maxRecDepth 100000 in
set_option maxHeartbeats 4000000 in
theorem km_184_0 (x1 : Int32) (x2 : Int64) (σ : lj_S) : lj_D lm_P lm_M184 0 [.ref 0, .int x1, .long x2, .retAddr 0] [] σ = (if lj_in (σ.1 0 140) 128 then (if lj_in (σ.1 0 140) 128 then some (.inl none, (lj_put (lj_putL (lj_put σ 90 ((σ.1 0 140).toNatClampNeg) x1) 91 ((σ.1 0 140).toNatClampNeg) x2) 0 140 ((σ.1 0 140) + 1))) else none) else none) := by rw [lj_D_eq]; rfl
-- TableTongueModel.callNow()V
set_option maxRecDepth 100000 in
theorem rm_185  (σ : lj_S) : lj_R lm_P 185 [.ref 0] σ = lj_D lm_P lm_M185 0 [.ref 0, .retAddr 0, .retAddr 0] [] σ := lj_R_eq (nL := 3) (M := lm_M185) _ _ _ _ rfl rfl
set_option maxRecDepth 100000 in
set_option maxHeartbeats 4000000 in
theorem km_185_0  (σ : lj_S) : lj_D lm_P lm_M185 0 [.ref 0, .retAddr 0, .retAddr 0] [] σ = lj_D lm_P lm_M185 2 [.ref 0, .int 1, .retAddr 0] [] σ := by rw [lj_D_eq]; rfl
set_option maxRecDepth 100000 in
set_option maxHeartbeats 4000000 in
theorem km_185_2 (x1 : Int32) (x2 : Value) (σ : lj_S) : lj_D lm_P lm_M185 2 [.ref 0, .int x1, x2] [] σ = lj_bi (lj_R lm_P 140 [.int (σ.1 0 133)] σ) (fun y2 σ1 => (if y2 = 0 then lj_bv (lj_R lm_P 130 [.ref 0, .int (σ1.1 0 133), .long (σ1.2 0 134), .int 2] σ1) (fun σ5 => (if (σ5.1 0 90) = 0 then lj_bv (lj_R lm_P 131 [.ref 0, .int 3, .int (σ5.1 0 132), .int (σ5.1 0 133)] σ5) (fun σ7 => some (.inl none, σ7)) lj_up else (if (x1 + 1) ≤ 20 then lj_D lm_P lm_M185 70 [.ref 0, .int (x1 + 1), .int (σ5.1 0 137)] [] σ5 else lj_bv (lj_R lm_P 142 [.ref 0, .int 1, .int (σ5.1 0 132)] σ5) (fun σ6 => some (.inl none, σ6)) lj_up))) lj_up else (if (σ1.1 0 133) = 5 then lj_bv (lj_R lm_P 186 [.ref 0, .int (((σ1.2 0 134) : Int64).toInt32)] σ1) (fun σ4 => lj_D lm_P lm_M185 191 [.ref 0, .int x1, x2] [] σ4) lj_up else lj_bv (lj_R lm_P 187 [.ref 0, .int (((σ1.2 0 134) : Int64).toInt32)] (lj_put σ1 0 129 1)) (fun σ3 => lj_D lm_P lm_M185 191 [.ref 0, .int x1, x2] [] σ3) lj_up))) lj_up := by rw [lj_D_eq]; rfl
set_option maxRecDepth 100000 in
set_option maxHeartbeats 4000000 in
theorem km_185_70 (x1 : Int32) (x2 : Int32) (σ : lj_S) : lj_D lm_P lm_M185 70 [.ref 0, .int x1, .int x2] [] σ = (if x2 ≤ 0 then (if lj_in 0 128 then (if lj_in 0 128 then lj_D lm_P lm_M185 2 [.ref 0, .int x1, .int x2] [] (lj_putL (lj_put (lj_put (lj_putL (lj_put σ 88 ((0 : Int32).toNatClampNeg) (σ.1 0 133)) 89 ((0 : Int32).toNatClampNeg) (σ.2 0 134)) 0 137 ((σ.1 0 137) + 1)) 0 133 (σ.1 0 90)) 0 134 (σ.2 0 91)) else none) else none) else (if lj_in (x2 - 1) 128 then (if lj_in x2 128 then (if lj_in (x2 - 1) 128 then (if lj_in x2 128 then lj_D lm_P lm_M185 70 [.ref 0, .int x1, .int (x2 + (-1))] [] (lj_putL (lj_put σ 88 x2.toNatClampNeg ((σ.1 88 ((x2 - 1).toNatClampNeg)))) 89 x2.toNatClampNeg ((σ.2 89 ((x2 - 1).toNatClampNeg)))) else none) else none) else none) else none)) := by rw [lj_D_eq]; rfl
set_option maxRecDepth 100000 in
set_option maxHeartbeats 4000000 in
theorem km_185_191 (x1 : Int32) (x2 : Value) (σ : lj_S) : lj_D lm_P lm_M185 191 [.ref 0, .int x1, x2] [] σ = some (.inl none, σ) := by rw [lj_D_eq]; rfl
-- TableTongueModel.enterFunction(I)V
set_option maxRecDepth 100000 in
theorem rm_186 (x1 : Int32) (σ : lj_S) : lj_R lm_P 186 [.ref 0, .int x1] σ = lj_D lm_P lm_M186 0 [.ref 0, .int x1] [] σ := lj_R_eq (nL := 2) (M := lm_M186) _ _ _ _ rfl rfl
set_option maxRecDepth 100000 in
set_option maxHeartbeats 4000000 in
theorem km_186_0 (x1 : Int32) (σ : lj_S) : lj_D lm_P lm_M186 0 [.ref 0, .int x1] [] σ = (if lj_in (σ.1 0 111) 26 then (if ((σ.1 65 ((σ.1 0 111).toNatClampNeg))) = 20 then lj_bv (lj_R lm_P 142 [.ref 0, .int 13, .int (σ.1 0 132)] σ) (fun σ2 => some (.inl none, σ2)) lj_up else (if lj_in x1 2002 then lj_bv (lj_R lm_P 113 [.ref 0, .int (σ.1 43 x1.toNatClampNeg), .int x1] σ) (fun σ1 => some (.inl none, (lj_put σ1 0 129 0))) lj_up else none)) else none) := by rw [lj_D_eq]; rfl
-- TableTongueModel.builtIn(I)V
set_option maxRecDepth 100000 in
theorem rm_187 (x1 : Int32) (σ : lj_S) : lj_R lm_P 187 [.ref 0, .int x1] σ = lj_D lm_P lm_M187 0 [.ref 0, .int x1, .retAddr 0] [] σ := lj_R_eq (nL := 3) (M := lm_M187) _ _ _ _ rfl rfl
set_option maxRecDepth 100000 in
set_option maxHeartbeats 4000000 in
theorem km_187_0 (x1 : Int32) (σ : lj_S) : lj_D lm_P lm_M187 0 [.ref 0, .int x1, .retAddr 0] [] σ = (if x1 = 0 then lj_bv (lj_R lm_P 188 [.ref 0] σ) (fun σ1 => lj_D lm_P lm_M187 308 [.ref 0, .int x1, .retAddr 0] [] σ1) lj_up else (if x1 = 1 then lj_bi (lj_R lm_P 190 [.ref 0, .int 1] σ) (fun y3 σ2 => lj_bi (lj_R lm_P 136 [.int y3] σ2) (fun y5 σ4 => lj_bv (lj_R lm_P 193 [.ref 0, .int y5] σ4) (fun σ6 => lj_D lm_P lm_M187 308 [.ref 0, .int x1, .retAddr 0] [] σ6) lj_up) lj_up) lj_up else (if x1 = 2 then lj_bi (lj_R lm_P 190 [.ref 0, .int 1] σ) (fun y8 σ7 => (if y8 = 3 then lj_bl (lj_R lm_P 191 [.ref 0, .int 1] σ7) (fun y16 σ15 => lj_bv (lj_R lm_P 195 [.ref 0, .int 3, .long y16] σ15) (fun σ17 => lj_D lm_P lm_M187 308 [.ref 0, .int x1, .retAddr 0] [] σ17) lj_up) lj_up else lj_bi (lj_R lm_P 190 [.ref 0, .int 1] (lj_put σ7 0 20 0)) (fun y10 σ9 => lj_bl (lj_R lm_P 191 [.ref 0, .int 1] σ9) (fun y12 σ11 => lj_bv (lj_R lm_P 163 [.ref 0, .int y10, .long y12] σ11) (fun σ13 => lj_bv (lj_R lm_P 194 [.ref 0] σ13) (fun σ14 => lj_D lm_P lm_M187 308 [.ref 0, .int x1, .retAddr 0] [] σ14) lj_up) lj_up) lj_up) lj_up)) lj_up else (if x1 = 3 then lj_bv (lj_R lm_P 196 [.ref 0] σ) (fun σ18 => lj_D lm_P lm_M187 308 [.ref 0, .int x1, .retAddr 0] [] σ18) lj_up else (if x1 = 4 then lj_bv (lj_R lm_P 197 [.ref 0] σ) (fun σ19 => lj_D lm_P lm_M187 308 [.ref 0, .int x1, .retAddr 0] [] σ19) lj_up else (if x1 = 5 then lj_D lm_P lm_M187 168 [.ref 0, .int x1, .retAddr 0] [] σ else (if x1 = 6 then lj_D lm_P lm_M187 168 [.ref 0, .int x1, .retAddr 0] [] σ else (if x1 = 7 then lj_D lm_P lm_M187 176 [.ref 0, .int x1, .retAddr 0] [] σ else (if x1 = 8 then lj_D lm_P lm_M187 176 [.ref 0, .int x1, .retAddr 0] [] σ else (if x1 = 9 then lj_D lm_P lm_M187 176 [.ref 0, .int x1, .retAddr 0] [] σ else (if x1 = 10 then lj_D lm_P lm_M187 176 [.ref 0, .int x1, .retAddr 0] [] σ else (if x1 = 11 then lj_bi (lj_R lm_P 190 [.ref 0, .int 1] σ) (fun y21 σ20 => (if y21 = 4 then lj_bl (lj_R lm_P 191 [.ref 0, .int 1] σ20) (fun y23 σ22 => (if lj_in ((y23 : Int64).toInt32) 2002 then (if ((σ22.1 39 (((y23 : Int64).toInt32).toNatClampNeg))) ≤ 0 then lj_D lm_P lm_M187 211 [.ref 0, .int x1, .retAddr 0] [] σ22 else lj_D lm_P lm_M187 212 [.ref 0, .int x1, .retAddr 0] [.int 1] σ22) else none)) lj_up else lj_D lm_P lm_M187 211 [.ref 0, .int x1, .retAddr 0] [] σ20)) lj_up else (if x1 = 12 then lj_bv (lj_R lm_P 202 [.ref 0] σ) (fun σ24 => lj_D lm_P lm_M187 308 [.ref 0, .int x1, .retAddr 0] [] σ24) lj_up else (if x1 = 13 then lj_bi (lj_R lm_P 190 [.ref 0, .int 1] σ) (fun y26 σ25 => lj_bl (lj_R lm_P 191 [.ref 0, .int 1] (lj_put σ25 0 141 y26)) (fun y28 σ27 => lj_D lm_P lm_M187 308 [.ref 0, .int x1, .retAddr 0] [] (lj_put (lj_putL σ27 0 142 y28) 0 129 2)) lj_up) lj_up else (if x1 = 14 then lj_bv (lj_R lm_P 203 [.ref 0] σ) (fun σ29 => lj_D lm_P lm_M187 308 [.ref 0, .int x1, .retAddr 0] [] σ29) lj_up else (if x1 = 15 then lj_bv (lj_R lm_P 205 [.ref 0] σ) (fun σ30 => lj_D lm_P lm_M187 308 [.ref 0, .int x1, .retAddr 0] [] σ30) lj_up else (if x1 = 16 then lj_bv (lj_R lm_P 206 [.ref 0] σ) (fun σ31 => lj_D lm_P lm_M187 308 [.ref 0, .int x1, .retAddr 0] [] σ31) lj_up else lj_bv (lj_R lm_P 221 [.ref 0, .int x1] σ) (fun σ32 => lj_D lm_P lm_M187 308 [.ref 0, .int x1, .retAddr 0] [] σ32) lj_up))))))))))))))))) := by rw [lj_D_eq]; rfl
set_option maxRecDepth 100000 in
set_option maxHeartbeats 4000000 in
theorem km_187_168 (x1 : Int32) (σ : lj_S) : lj_D lm_P lm_M187 168 [.ref 0, .int x1, .retAddr 0] [] σ = lj_bv (lj_R lm_P 200 [.ref 0, .int x1] σ) (fun σ1 => lj_D lm_P lm_M187 308 [.ref 0, .int x1, .retAddr 0] [] σ1) lj_up := by rw [lj_D_eq]; rfl
set_option maxRecDepth 100000 in
set_option maxHeartbeats 4000000 in
theorem km_187_176 (x1 : Int32) (σ : lj_S) : lj_D lm_P lm_M187 176 [.ref 0, .int x1, .retAddr 0] [] σ = lj_bv (lj_R lm_P 201 [.ref 0, .int x1] σ) (fun σ1 => lj_D lm_P lm_M187 308 [.ref 0, .int x1, .retAddr 0] [] σ1) lj_up := by rw [lj_D_eq]; rfl
set_option maxRecDepth 100000 in
set_option maxHeartbeats 4000000 in
theorem km_187_211 (x1 : Int32) (σ : lj_S) : lj_D lm_P lm_M187 211 [.ref 0, .int x1, .retAddr 0] [] σ = lj_D lm_P lm_M187 212 [.ref 0, .int x1, .retAddr 0] [.int 0] σ := by rw [lj_D_eq]; rfl
set_option maxRecDepth 100000 in
set_option maxHeartbeats 4000000 in
theorem km_187_212 (x1 : Int32) (x50 : Int32) (σ : lj_S) : lj_D lm_P lm_M187 212 [.ref 0, .int x1, .retAddr 0] [.int x50] σ = (if x50 = 0 then lj_D lm_P lm_M187 223 [.ref 0, .int x1, .int x50] [.int 0, .ref 0] σ else lj_D lm_P lm_M187 223 [.ref 0, .int x1, .int x50] [.int 4, .ref 0] σ) := by rw [lj_D_eq]; rfl
set_option maxRecDepth 100000 in
set_option maxHeartbeats 4000000 in
theorem km_187_223 (x1 : Int32) (x2 : Int32) (x50 : Int32) (σ : lj_S) : lj_D lm_P lm_M187 223 [.ref 0, .int x1, .int x2] [.int x50, .ref 0] σ = (if x2 = 0 then lj_D lm_P lm_M187 243 [.ref 0, .int x1, .int x2] [.long 0, .int x50, .ref 0] σ else lj_bl (lj_R lm_P 191 [.ref 0, .int 1] σ) (fun y2 σ1 => (if lj_in ((y2 : Int64).toInt32) 2002 then lj_D lm_P lm_M187 243 [.ref 0, .int x1, .int x2] [.long ((((σ1.1 39 (((y2 : Int64).toInt32).toNatClampNeg))) : Int32).toInt64), .int x50, .ref 0] σ1 else none)) lj_up) := by rw [lj_D_eq]; rfl
set_option maxRecDepth 100000 in
set_option maxHeartbeats 4000000 in
theorem km_187_243 (x1 : Int32) (x2 : Int32) (x50 : Int64) (x51 : Int32) (σ : lj_S) : lj_D lm_P lm_M187 243 [.ref 0, .int x1, .int x2] [.long x50, .int x51, .ref 0] σ = lj_bv (lj_R lm_P 195 [.ref 0, .int x51, .long x50] σ) (fun σ1 => lj_D lm_P lm_M187 308 [.ref 0, .int x1, .int x2] [] σ1) lj_up := by rw [lj_D_eq]; rfl
set_option maxRecDepth 100000 in
set_option maxHeartbeats 4000000 in
theorem km_187_308 (x1 : Int32) (x2 : Value) (σ : lj_S) : lj_D lm_P lm_M187 308 [.ref 0, .int x1, x2] [] σ = some (.inl none, σ) := by rw [lj_D_eq]; rfl
-- TableTongueModel.print()V
set_option maxRecDepth 100000 in
theorem rm_188  (σ : lj_S) : lj_R lm_P 188 [.ref 0] σ = lj_D lm_P lm_M188 0 [.ref 0, .retAddr 0, .retAddr 0] [] σ := lj_R_eq (nL := 3) (M := lm_M188) _ _ _ _ rfl rfl
set_option maxRecDepth 100000 in
set_option maxHeartbeats 4000000 in
theorem km_188_0  (σ : lj_S) : lj_D lm_P lm_M188 0 [.ref 0, .retAddr 0, .retAddr 0] [] σ = lj_D lm_P lm_M188 2 [.ref 0, .int 1, .retAddr 0] [] σ := by rw [lj_D_eq]; rfl
set_option maxRecDepth 100000 in
set_option maxHeartbeats 4000000 in
theorem km_188_2 (x1 : Int32) (x2 : Value) (σ : lj_S) : lj_D lm_P lm_M188 2 [.ref 0, .int x1, x2] [] σ = (if (σ.1 0 137) < x1 then lj_bv (lj_R lm_P 189 [.ref 0, .int 10] σ) (fun σ1 => lj_bv (lj_R lm_P 192 [.ref 0] σ1) (fun σ2 => some (.inl none, σ2)) lj_up) lj_up else (if x1 ≤ 1 then lj_D lm_P lm_M188 21 [.ref 0, .int x1, x2] [] σ else lj_bv (lj_R lm_P 189 [.ref 0, .int 32] σ) (fun σ3 => lj_D lm_P lm_M188 21 [.ref 0, .int x1, x2] [] σ3) lj_up)) := by rw [lj_D_eq]; rfl
set_option maxRecDepth 100000 in
set_option maxHeartbeats 4000000 in
theorem km_188_21 (x1 : Int32) (x2 : Value) (σ : lj_S) : lj_D lm_P lm_M188 21 [.ref 0, .int x1, x2] [] σ = lj_bi (lj_R lm_P 190 [.ref 0, .int x1] (lj_put σ 0 20 0)) (fun y2 σ1 => lj_bl (lj_R lm_P 191 [.ref 0, .int x1] σ1) (fun y4 σ3 => lj_bv (lj_R lm_P 163 [.ref 0, .int y2, .long y4] σ3) (fun σ5 => lj_D lm_P lm_M188 42 [.ref 0, .int x1, .int 0] [] σ5) lj_up) lj_up) lj_up := by rw [lj_D_eq]; rfl
set_option maxRecDepth 100000 in
set_option maxHeartbeats 4000000 in
theorem km_188_42 (x1 : Int32) (x2 : Int32) (σ : lj_S) : lj_D lm_P lm_M188 42 [.ref 0, .int x1, .int x2] [] σ = (if (σ.1 0 20) ≤ x2 then lj_D lm_P lm_M188 2 [.ref 0, .int (x1 + 1), .int x2] [] σ else (if lj_in x2 4200 then lj_bv (lj_R lm_P 189 [.ref 0, .int (σ.1 8 x2.toNatClampNeg)] σ) (fun σ1 => lj_D lm_P lm_M188 42 [.ref 0, .int x1, .int (x2 + 1)] [] σ1) lj_up else none)) := by rw [lj_D_eq]; rfl
-- TableTongueModel.out(I)V
set_option maxRecDepth 100000 in
theorem rm_189 (x1 : Int32) (σ : lj_S) : lj_R lm_P 189 [.ref 0, .int x1] σ = lj_D lm_P lm_M189 0 [.ref 0, .int x1] [] σ := lj_R_eq (nL := 2) (M := lm_M189) _ _ _ _ rfl rfl
set_option maxRecDepth 100000 in
set_option maxHeartbeats 4000000 in
theorem km_189_0 (x1 : Int32) (σ : lj_S) : lj_D lm_P lm_M189 0 [.ref 0, .int x1] [] σ = (if 3000 ≤ (σ.1 0 150) then lj_D lm_P lm_M189 21 [.ref 0, .int x1] [] σ else (if lj_in (σ.1 0 150) 3000 then lj_D lm_P lm_M189 21 [.ref 0, .int x1] [] (lj_put σ 94 ((σ.1 0 150).toNatClampNeg) (vp_nar .byte ((x1 : Int32).toInt8.toInt32))) else none)) := by rw [lj_D_eq]; rfl
set_option maxRecDepth 100000 in
set_option maxHeartbeats 4000000 in
theorem km_189_21 (x1 : Int32) (σ : lj_S) : lj_D lm_P lm_M189 21 [.ref 0, .int x1] [] σ = (if (σ.1 0 150) = 2147483647 then lj_D lm_P lm_M189 45 [.ref 0, .int x1] [.int (σ.1 0 150), .ref 0] σ else lj_D lm_P lm_M189 45 [.ref 0, .int x1] [.int ((σ.1 0 150) + 1), .ref 0] σ) := by rw [lj_D_eq]; rfl
set_option maxRecDepth 100000 in
set_option maxHeartbeats 4000000 in
theorem km_189_45 (x1 : Int32) (x50 : Int32) (σ : lj_S) : lj_D lm_P lm_M189 45 [.ref 0, .int x1] [.int x50, .ref 0] σ = some (.inl none, (lj_put σ 0 150 x50)) := by rw [lj_D_eq]; rfl
-- TableTongueModel.ak(I)I
set_option maxRecDepth 100000 in
theorem rm_190 (x1 : Int32) (σ : lj_S) : lj_R lm_P 190 [.ref 0, .int x1] σ = lj_D lm_P lm_M190 0 [.ref 0, .int x1] [] σ := lj_R_eq (nL := 2) (M := lm_M190) _ _ _ _ rfl rfl
set_option maxRecDepth 100000 in
set_option maxHeartbeats 4000000 in
theorem km_190_0 (x1 : Int32) (σ : lj_S) : lj_D lm_P lm_M190 0 [.ref 0, .int x1] [] σ = (if (σ.1 0 137) < x1 then lj_D lm_P lm_M190 20 [.ref 0, .int x1] [.int 0] σ else (if lj_in (x1 - 1) 128 then lj_D lm_P lm_M190 20 [.ref 0, .int x1] [.int ((σ.1 88 ((x1 - 1).toNatClampNeg)))] σ else none)) := by rw [lj_D_eq]; rfl
set_option maxRecDepth 100000 in
set_option maxHeartbeats 4000000 in
theorem km_190_20 (x1 : Int32) (x50 : Int32) (σ : lj_S) : lj_D lm_P lm_M190 20 [.ref 0, .int x1] [.int x50] σ = some (.inl (some (.int x50)), σ) := by rw [lj_D_eq]; rfl
-- TableTongueModel.an(I)J
set_option maxRecDepth 100000 in
theorem rm_191 (x1 : Int32) (σ : lj_S) : lj_R lm_P 191 [.ref 0, .int x1] σ = lj_D lm_P lm_M191 0 [.ref 0, .int x1] [] σ := lj_R_eq (nL := 2) (M := lm_M191) _ _ _ _ rfl rfl
set_option maxRecDepth 100000 in
set_option maxHeartbeats 4000000 in
theorem km_191_0 (x1 : Int32) (σ : lj_S) : lj_D lm_P lm_M191 0 [.ref 0, .int x1] [] σ = (if (σ.1 0 137) < x1 then lj_D lm_P lm_M191 20 [.ref 0, .int x1] [.long 0] σ else (if lj_in (x1 - 1) 128 then lj_D lm_P lm_M191 20 [.ref 0, .int x1] [.long ((σ.2 89 ((x1 - 1).toNatClampNeg)))] σ else none)) := by rw [lj_D_eq]; rfl
set_option maxRecDepth 100000 in
set_option maxHeartbeats 4000000 in
theorem km_191_20 (x1 : Int32) (x50 : Int64) (σ : lj_S) : lj_D lm_P lm_M191 20 [.ref 0, .int x1] [.long x50] σ = some (.inl (some (.long x50)), σ) := by rw [lj_D_eq]; rfl
-- TableTongueModel.giveNone()V
set_option maxRecDepth 100000 in
theorem rm_192  (σ : lj_S) : lj_R lm_P 192 [.ref 0] σ = lj_D lm_P lm_M192 0 [.ref 0] [] σ := lj_R_eq (nL := 1) (M := lm_M192) _ _ _ _ rfl rfl
set_option maxRecDepth 100000 in
set_option maxHeartbeats 4000000 in
theorem km_192_0  (σ : lj_S) : lj_D lm_P lm_M192 0 [.ref 0] [] σ = some (.inl none, (lj_put (lj_put σ 0 140 0) 0 129 1)) := by rw [lj_D_eq]; rfl
-- TableTongueModel.giveName(I)V
set_option maxRecDepth 100000 in
theorem rm_193 (x1 : Int32) (σ : lj_S) : lj_R lm_P 193 [.ref 0, .int x1] σ = lj_D lm_P lm_M193 0 [.ref 0, .int x1] [] σ := lj_R_eq (nL := 2) (M := lm_M193) _ _ _ _ rfl rfl
set_option maxRecDepth 100000 in
set_option maxHeartbeats 4000000 in
theorem km_193_0 (x1 : Int32) (σ : lj_S) : lj_D lm_P lm_M193 0 [.ref 0, .int x1] [] σ = lj_bv (lj_R lm_P 137 [.ref 0, .int x1] (lj_put σ 0 20 0)) (fun σ1 => lj_bv (lj_R lm_P 194 [.ref 0] σ1) (fun σ2 => some (.inl none, σ2)) lj_up) lj_up := by rw [lj_D_eq]; rfl
-- TableTongueModel.giveBuffer()V
set_option maxRecDepth 100000 in
theorem rm_194  (σ : lj_S) : lj_R lm_P 194 [.ref 0] σ = lj_D lm_P lm_M194 0 [.ref 0, .retAddr 0] [] σ := lj_R_eq (nL := 2) (M := lm_M194) _ _ _ _ rfl rfl
set_option maxRecDepth 100000 in
set_option maxHeartbeats 4000000 in
theorem km_194_0  (σ : lj_S) : lj_D lm_P lm_M194 0 [.ref 0, .retAddr 0] [] σ = lj_bi (lj_R lm_P 139 [.ref 0] σ) (fun y2 σ1 => lj_bv (lj_R lm_P 195 [.ref 0, .int 3, .long ((y2 : Int32).toInt64)] σ1) (fun σ3 => some (.inl none, σ3)) lj_up) lj_up := by rw [lj_D_eq]; rfl
-- TableTongueModel.giveOne(IJ)V
set_option maxRecDepth 100000 in
theorem rm_195 (x1 : Int32) (x2 : Int64) (σ : lj_S) : lj_R lm_P 195 [.ref 0, .int x1, .long x2] σ = lj_D lm_P lm_M195 0 [.ref 0, .int x1, .long x2, .retAddr 0] [] σ := lj_R_eq (nL := 4) (M := lm_M195) _ _ _ _ rfl rfl
set_option maxRecDepth 100000 in
set_option maxHeartbeats 4000000 in
theorem km_195_0 (x1 : Int32) (x2 : Int64) (σ : lj_S) : lj_D lm_P lm_M195 0 [.ref 0, .int x1, .long x2, .retAddr 0] [] σ = (if lj_in 0 128 then (if lj_in 0 128 then some (.inl none, (lj_put (lj_put (lj_putL (lj_put σ 90 ((0 : Int32).toNatClampNeg) x1) 91 ((0 : Int32).toNatClampNeg) x2) 0 140 1) 0 129 1)) else none) else none) := by rw [lj_D_eq]; rfl
-- TableTongueModel.toNumber()V
set_option maxRecDepth 100000 in
theorem rm_196  (σ : lj_S) : lj_R lm_P 196 [.ref 0] σ = lj_D lm_P lm_M196 0 [.ref 0, .retAddr 0, .retAddr 0, .retAddr 0, .retAddr 0, .retAddr 0, .retAddr 0, .retAddr 0, .retAddr 0] [] σ := lj_R_eq (nL := 9) (M := lm_M196) _ _ _ _ rfl rfl
set_option maxRecDepth 100000 in
set_option maxHeartbeats 4000000 in
theorem km_196_0  (σ : lj_S) : lj_D lm_P lm_M196 0 [.ref 0, .retAddr 0, .retAddr 0, .retAddr 0, .retAddr 0, .retAddr 0, .retAddr 0, .retAddr 0, .retAddr 0] [] σ = lj_bi (lj_R lm_P 190 [.ref 0, .int 1] σ) (fun y2 σ1 => (if y2 = 2 then lj_bl (lj_R lm_P 191 [.ref 0, .int 1] σ1) (fun y9 σ8 => lj_bv (lj_R lm_P 195 [.ref 0, .int 2, .long y9] σ8) (fun σ10 => some (.inl none, σ10)) lj_up) lj_up else lj_bv (lj_R lm_P 195 [.ref 0, .int 0, .long 0] σ1) (fun σ3 => lj_bi (lj_R lm_P 190 [.ref 0, .int 1] σ3) (fun y5 σ4 => (if y5 = 3 then lj_bl (lj_R lm_P 191 [.ref 0, .int 1] σ4) (fun y7 σ6 => (if lj_in ((y7 : Int64).toInt32) 3000 then (if ((σ6.1 4 (((y7 : Int64).toInt32).toNatClampNeg))) ≤ 0 then lj_D lm_P lm_M196 71 [.ref 0, .int ((y7 : Int64).toInt32), .retAddr 0, .retAddr 0, .retAddr 0, .retAddr 0, .retAddr 0, .retAddr 0, .retAddr 0] [] σ6 else (if lj_in ((y7 : Int64).toInt32) 3000 then (if lj_in ((σ6.1 3 (((y7 : Int64).toInt32).toNatClampNeg))) 40000 then (if ((σ6.1 2 (((σ6.1 3 (((y7 : Int64).toInt32).toNatClampNeg))).toNatClampNeg))) = 45 then lj_D lm_P lm_M196 72 [.ref 0, .int ((y7 : Int64).toInt32), .retAddr 0, .retAddr 0, .retAddr 0, .retAddr 0, .retAddr 0, .retAddr 0, .retAddr 0] [.int 1] σ6 else lj_D lm_P lm_M196 71 [.ref 0, .int ((y7 : Int64).toInt32), .retAddr 0, .retAddr 0, .retAddr 0, .retAddr 0, .retAddr 0, .retAddr 0, .retAddr 0] [] σ6) else none) else none)) else none)) lj_up else lj_D lm_P lm_M196 186 [.ref 0, .retAddr 0, .retAddr 0, .retAddr 0, .retAddr 0, .retAddr 0, .retAddr 0, .retAddr 0, .retAddr 0] [] σ4)) lj_up) lj_up)) lj_up := by rw [lj_D_eq]; rfl
set_option maxRecDepth 100000 in
set_option maxHeartbeats 4000000 in
theorem km_196_71 (x1 : Int32) (σ : lj_S) : lj_D lm_P lm_M196 71 [.ref 0, .int x1, .retAddr 0, .retAddr 0, .retAddr 0, .retAddr 0, .retAddr 0, .retAddr 0, .retAddr 0] [] σ = lj_D lm_P lm_M196 72 [.ref 0, .int x1, .retAddr 0, .retAddr 0, .retAddr 0, .retAddr 0, .retAddr 0, .retAddr 0, .retAddr 0] [.int 0] σ := by rw [lj_D_eq]; rfl
set_option maxRecDepth 100000 in
set_option maxHeartbeats 4000000 in
theorem km_196_72 (x1 : Int32) (x50 : Int32) (σ : lj_S) : lj_D lm_P lm_M196 72 [.ref 0, .int x1, .retAddr 0, .retAddr 0, .retAddr 0, .retAddr 0, .retAddr 0, .retAddr 0, .retAddr 0] [.int x50] σ = (if lj_in x1 3000 then (if ((σ.1 4 x1.toNatClampNeg) - x50) < 1 then lj_D lm_P lm_M196 97 [.ref 0, .int x1, .int x50, .int ((σ.1 4 x1.toNatClampNeg) - x50), .retAddr 0, .retAddr 0, .retAddr 0, .retAddr 0, .retAddr 0] [] σ else (if 18 < ((σ.1 4 x1.toNatClampNeg) - x50) then lj_D lm_P lm_M196 97 [.ref 0, .int x1, .int x50, .int ((σ.1 4 x1.toNatClampNeg) - x50), .retAddr 0, .retAddr 0, .retAddr 0, .retAddr 0, .retAddr 0] [] σ else lj_D lm_P lm_M196 98 [.ref 0, .int x1, .int x50, .int ((σ.1 4 x1.toNatClampNeg) - x50), .retAddr 0, .retAddr 0, .retAddr 0, .retAddr 0, .retAddr 0] [.int 1] σ)) else none) := by rw [lj_D_eq]; rfl
set_option maxRecDepth 100000 in
set_option maxHeartbeats 4000000 in
theorem km_196_97 (x1 : Int32) (x2 : Int32) (x3 : Int32) (σ : lj_S) : lj_D lm_P lm_M196 97 [.ref 0, .int x1, .int x2, .int x3, .retAddr 0, .retAddr 0, .retAddr 0, .retAddr 0, .retAddr 0] [] σ = lj_D lm_P lm_M196 98 [.ref 0, .int x1, .int x2, .int x3, .retAddr 0, .retAddr 0, .retAddr 0, .retAddr 0, .retAddr 0] [.int 0] σ := by rw [lj_D_eq]; rfl
set_option maxRecDepth 100000 in
set_option maxHeartbeats 4000000 in
theorem km_196_98 (x1 : Int32) (x2 : Int32) (x3 : Int32) (x50 : Int32) (σ : lj_S) : lj_D lm_P lm_M196 98 [.ref 0, .int x1, .int x2, .int x3, .retAddr 0, .retAddr 0, .retAddr 0, .retAddr 0, .retAddr 0] [.int x50] σ = lj_D lm_P lm_M196 106 [.ref 0, .int x1, .int x2, .int x3, .int x50, .long 0, .retAddr 0, .int 0, .retAddr 0] [] σ := by rw [lj_D_eq]; rfl
set_option maxRecDepth 100000 in
set_option maxHeartbeats 4000000 in
theorem km_196_106 (x1 : Int32) (x2 : Int32) (x3 : Int32) (x4 : Int32) (x5 : Int64) (x7 : Int32) (x8 : Value) (σ : lj_S) : lj_D lm_P lm_M196 106 [.ref 0, .int x1, .int x2, .int x3, .int x4, .long x5, .retAddr 0, .int x7, x8] [] σ = (if x3 ≤ x7 then lj_D lm_P lm_M196 164 [.ref 0, .int x1, .int x2, .int x3, .int x4, .long x5, .retAddr 0, .int x7, x8] [] σ else (if x4 = 0 then lj_D lm_P lm_M196 164 [.ref 0, .int x1, .int x2, .int x3, .int x4, .long x5, .retAddr 0, .int x7, x8] [] σ else (if lj_in x1 3000 then (if lj_in (((σ.1 3 x1.toNatClampNeg) + x2) + x7) 40000 then lj_bi (lj_R lm_P 17 [.int ((σ.1 2 ((((σ.1 3 x1.toNatClampNeg) + x2) + x7).toNatClampNeg)))] σ) (fun y2 σ1 => lj_D lm_P lm_M196 106 [.ref 0, .int x1, .int x2, .int x3, .int y2, .long (((10 * x5) + ((((σ.1 2 ((((σ.1 3 x1.toNatClampNeg) + x2) + x7).toNatClampNeg))) : Int32).toInt64)) - 48), .retAddr 0, .int (x7 + 1), .int ((σ.1 2 ((((σ.1 3 x1.toNatClampNeg) + x2) + x7).toNatClampNeg)))] [] σ1) lj_up else none) else none))) := by rw [lj_D_eq]; rfl
set_option maxRecDepth 100000 in
set_option maxHeartbeats 4000000 in
theorem km_196_164 (x1 : Int32) (x2 : Int32) (x3 : Int32) (x4 : Int32) (x5 : Int64) (x7 : Int32) (x8 : Value) (σ : lj_S) : lj_D lm_P lm_M196 164 [.ref 0, .int x1, .int x2, .int x3, .int x4, .long x5, .retAddr 0, .int x7, x8] [] σ = (if x4 = 0 then lj_D lm_P lm_M196 186 [.ref 0, .int x1, .int x2, .int x3, .int x4, .long x5, .retAddr 0, .int x7, x8] [] σ else (if x2 ≤ 0 then lj_D lm_P lm_M196 183 [.ref 0, .int x1, .int x2, .int x3, .int x4, .long x5, .retAddr 0, .int x7, x8] [.long x5, .int 2, .ref 0] σ else lj_D lm_P lm_M196 183 [.ref 0, .int x1, .int x2, .int x3, .int x4, .long x5, .retAddr 0, .int x7, x8] [.long (-x5), .int 2, .ref 0] σ)) := by rw [lj_D_eq]; rfl
set_option maxRecDepth 100000 in
set_option maxHeartbeats 4000000 in
theorem km_196_183 (x1 : Int32) (x2 : Int32) (x3 : Int32) (x4 : Int32) (x5 : Int64) (x7 : Int32) (x8 : Value) (x50 : Int64) (x51 : Int32) (σ : lj_S) : lj_D lm_P lm_M196 183 [.ref 0, .int x1, .int x2, .int x3, .int x4, .long x5, .retAddr 0, .int x7, x8] [.long x50, .int x51, .ref 0] σ = lj_bv (lj_R lm_P 195 [.ref 0, .int x51, .long x50] σ) (fun σ1 => lj_D lm_P lm_M196 186 [.ref 0, .int x1, .int x2, .int x3, .int x4, .long x5, .retAddr 0, .int x7, x8] [] σ1) lj_up := by rw [lj_D_eq]; rfl
set_option maxRecDepth 100000 in
set_option maxHeartbeats 4000000 in
theorem km_196_186 (x1 : Value) (x2 : Value) (x3 : Value) (x4 : Value) (x5 : Value) (x7 : Value) (x8 : Value) (σ : lj_S) : lj_D lm_P lm_M196 186 [.ref 0, x1, x2, x3, x4, x5, .retAddr 0, x7, x8] [] σ = some (.inl none, σ) := by rw [lj_D_eq]; rfl
-- TableTongueModel.next()V
set_option maxRecDepth 100000 in
theorem rm_197  (σ : lj_S) : lj_R lm_P 197 [.ref 0] σ = lj_D lm_P lm_M197 0 [.ref 0, .retAddr 0, .retAddr 0] [] σ := lj_R_eq (nL := 3) (M := lm_M197) _ _ _ _ rfl rfl
set_option maxRecDepth 100000 in
set_option maxHeartbeats 4000000 in
theorem km_197_0  (σ : lj_S) : lj_D lm_P lm_M197 0 [.ref 0, .retAddr 0, .retAddr 0] [] σ = lj_bi (lj_R lm_P 198 [.ref 0, .int 1, .int 4, .int 4] σ) (fun y2 σ1 => (if y2 = 0 then some (.inl none, σ1) else lj_bl (lj_R lm_P 191 [.ref 0, .int 1] σ1) (fun y4 σ3 => (if lj_in ((y4 : Int64).toInt32) 2002 then lj_bi (lj_R lm_P 190 [.ref 0, .int 2] σ3) (fun y6 σ5 => (if y6 = 0 then lj_D lm_P lm_M197 67 [.ref 0, .int ((y4 : Int64).toInt32), .int ((σ3.1 40 (((y4 : Int64).toInt32).toNatClampNeg)))] [] σ5 else lj_bi (lj_R lm_P 190 [.ref 0, .int 2] σ5) (fun y8 σ7 => lj_bl (lj_R lm_P 191 [.ref 0, .int 2] σ7) (fun y10 σ9 => lj_bi (lj_R lm_P 109 [.ref 0, .int ((y4 : Int64).toInt32), .int y8, .long y10] σ9) (fun y12 σ11 => (if 0 ≤ y12 then (if lj_in y12 3001 then lj_D lm_P lm_M197 67 [.ref 0, .int ((y4 : Int64).toInt32), .int (σ11.1 50 y12.toNatClampNeg)] [] σ11 else none) else lj_bv (lj_R lm_P 199 [.ref 0, .int 2, .int 4] σ11) (fun σ13 => some (.inl none, σ13)) lj_up)) lj_up) lj_up) lj_up)) lj_up else none)) lj_up)) lj_up := by rw [lj_D_eq]; rfl
set_option maxRecDepth 100000 in
set_option maxHeartbeats 4000000 in
theorem km_197_67 (x1 : Int32) (x2 : Int32) (σ : lj_S) : lj_D lm_P lm_M197 67 [.ref 0, .int x1, .int x2] [] σ = (if x2 < 0 then lj_D lm_P lm_M197 90 [.ref 0, .int x1, .int x2] [] σ else (if lj_in x2 3001 then (if (σ.1 47 x2.toNatClampNeg) = 0 then (if lj_in x2 3001 then lj_D lm_P lm_M197 67 [.ref 0, .int x1, .int (σ.1 50 x2.toNatClampNeg)] [] σ else none) else lj_D lm_P lm_M197 90 [.ref 0, .int x1, .int x2] [] σ) else none)) := by rw [lj_D_eq]; rfl
set_option maxRecDepth 100000 in
set_option maxHeartbeats 4000000 in
theorem km_197_90 (x1 : Int32) (x2 : Int32) (σ : lj_S) : lj_D lm_P lm_M197 90 [.ref 0, .int x1, .int x2] [] σ = (if 0 ≤ x2 then (if lj_in x2 3001 then (if lj_in x2 3001 then lj_bv (lj_R lm_P 195 [.ref 0, .int (σ.1 45 x2.toNatClampNeg), .long (σ.2 46 x2.toNatClampNeg)] σ) (fun σ1 => (if lj_in x2 3001 then (if lj_in x2 3001 then lj_bv (lj_R lm_P 184 [.ref 0, .int (σ1.1 47 x2.toNatClampNeg), .long (σ1.2 48 x2.toNatClampNeg)] σ1) (fun σ2 => lj_D lm_P lm_M197 135 [.ref 0, .int x1, .int x2] [] σ2) lj_up else none) else none)) lj_up else none) else none) else lj_bv (lj_R lm_P 195 [.ref 0, .int 0, .long 0] σ) (fun σ3 => lj_D lm_P lm_M197 135 [.ref 0, .int x1, .int x2] [] σ3) lj_up) := by rw [lj_D_eq]; rfl
set_option maxRecDepth 100000 in
set_option maxHeartbeats 4000000 in
theorem km_197_135 (x1 : Int32) (x2 : Int32) (σ : lj_S) : lj_D lm_P lm_M197 135 [.ref 0, .int x1, .int x2] [] σ = some (.inl none, σ) := by rw [lj_D_eq]; rfl
-- TableTongueModel.wants(III)Z
set_option maxRecDepth 100000 in
theorem rm_198 (x1 : Int32) (x2 : Int32) (x3 : Int32) (σ : lj_S) : lj_R lm_P 198 [.ref 0, .int x1, .int x2, .int x3] σ = lj_D lm_P lm_M198 0 [.ref 0, .int x1, .int x2, .int x3] [] σ := lj_R_eq (nL := 4) (M := lm_M198) _ _ _ _ rfl rfl
set_option maxRecDepth 100000 in
set_option maxHeartbeats 4000000 in
theorem km_198_0 (x1 : Int32) (x2 : Int32) (x3 : Int32) (σ : lj_S) : lj_D lm_P lm_M198 0 [.ref 0, .int x1, .int x2, .int x3] [] σ = lj_bi (lj_R lm_P 190 [.ref 0, .int x1] σ) (fun y2 σ1 => (if y2 = x2 then some (.inl (some (.int 1)), σ1) else lj_bv (lj_R lm_P 199 [.ref 0, .int x1, .int x3] σ1) (fun σ3 => some (.inl (some (.int 0)), σ3)) lj_up)) lj_up := by rw [lj_D_eq]; rfl
-- TableTongueModel.badArgument(II)V
set_option maxRecDepth 100000 in
theorem rm_199 (x1 : Int32) (x2 : Int32) (σ : lj_S) : lj_R lm_P 199 [.ref 0, .int x1, .int x2] σ = lj_D lm_P lm_M199 0 [.ref 0, .int x1, .int x2] [] σ := lj_R_eq (nL := 3) (M := lm_M199) _ _ _ _ rfl rfl
set_option maxRecDepth 100000 in
set_option maxHeartbeats 4000000 in
theorem km_199_0 (x1 : Int32) (x2 : Int32) (σ : lj_S) : lj_D lm_P lm_M199 0 [.ref 0, .int x1, .int x2] [] σ = lj_bv (lj_R lm_P 132 [.ref 0, .int (σ.1 0 132), .int 14] σ) (fun σ1 => lj_bv (lj_R lm_P 133 [.ref 0, .long ((x1 : Int32).toInt64)] σ1) (fun σ2 => lj_bv (lj_R lm_P 134 [.ref 0, .int 32] σ2) (fun σ3 => lj_bv (lj_R lm_P 134 [.ref 0, .int 111] σ3) (fun σ4 => lj_bv (lj_R lm_P 134 [.ref 0, .int 102] σ4) (fun σ5 => lj_bv (lj_R lm_P 134 [.ref 0, .int 32] σ5) (fun σ6 => lj_bv (lj_R lm_P 164 [.ref 0, .int x2] σ6) (fun σ7 => lj_bv (lj_R lm_P 138 [.ref 0] σ7) (fun σ8 => some (.inl none, σ8)) lj_up) lj_up) lj_up) lj_up) lj_up) lj_up) lj_up) lj_up := by rw [lj_D_eq]; rfl
-- TableTongueModel.pairs(I)V
set_option maxRecDepth 100000 in
theorem rm_200 (x1 : Int32) (σ : lj_S) : lj_R lm_P 200 [.ref 0, .int x1] σ = lj_D lm_P lm_M200 0 [.ref 0, .int x1] [] σ := lj_R_eq (nL := 2) (M := lm_M200) _ _ _ _ rfl rfl
set_option maxRecDepth 100000 in
set_option maxHeartbeats 4000000 in
theorem km_200_0 (x1 : Int32) (σ : lj_S) : lj_D lm_P lm_M200 0 [.ref 0, .int x1] [] σ = lj_bi (lj_R lm_P 198 [.ref 0, .int 1, .int 4, .int x1] σ) (fun y2 σ1 => (if y2 = 0 then some (.inl none, σ1) else (if x1 = 5 then lj_D lm_P lm_M200 28 [.ref 0, .int x1] [.long 4, .int 7, .ref 0] σ1 else lj_D lm_P lm_M200 28 [.ref 0, .int x1] [.long 31, .int 7, .ref 0] σ1))) lj_up := by rw [lj_D_eq]; rfl
set_option maxRecDepth 100000 in
set_option maxHeartbeats 4000000 in
theorem km_200_28 (x1 : Int32) (x50 : Int64) (x51 : Int32) (σ : lj_S) : lj_D lm_P lm_M200 28 [.ref 0, .int x1] [.long x50, .int x51, .ref 0] σ = lj_bv (lj_R lm_P 195 [.ref 0, .int x51, .long x50] σ) (fun σ1 => lj_bl (lj_R lm_P 191 [.ref 0, .int 1] σ1) (fun y3 σ2 => lj_bv (lj_R lm_P 184 [.ref 0, .int 4, .long y3] σ2) (fun σ4 => (if x1 = 5 then lj_D lm_P lm_M200 52 [.ref 0, .int x1] [.int 0, .ref 0] σ4 else lj_D lm_P lm_M200 52 [.ref 0, .int x1] [.int 2, .ref 0] σ4)) lj_up) lj_up) lj_up := by rw [lj_D_eq]; rfl
set_option maxRecDepth 100000 in
set_option maxHeartbeats 4000000 in
theorem km_200_52 (x1 : Int32) (x50 : Int32) (σ : lj_S) : lj_D lm_P lm_M200 52 [.ref 0, .int x1] [.int x50, .ref 0] σ = lj_bv (lj_R lm_P 184 [.ref 0, .int x50, .long 0] σ) (fun σ1 => some (.inl none, σ1)) lj_up := by rw [lj_D_eq]; rfl
