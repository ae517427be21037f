-- TableTongueModel.raw(I)V
set_option maxRecDepth 100000 in
theorem rm_201 (x1 : Int32) (σ : lj_S) : lj_R lm_P 201 [.ref 0, .int x1] σ = lj_D lm_P lm_M201 0 [.ref 0, .int x1, .retAddr 0, .retAddr 0] [] σ := lj_R_eq (nL := 4) (M := lm_M201) _ _ _ _ rfl rfl
set_option maxRecDepth 100000 in
set_option maxHeartbeats 4000000 in
theorem km_201_0 (x1 : Int32) (σ : lj_S) : lj_D lm_P lm_M201 0 [.ref 0, .int x1, .retAddr 0, .retAddr 0] [] σ = (if x1 = 9 then lj_bi (lj_R lm_P 190 [.ref 0, .int 1] σ) (fun y7 σ6 => lj_bi (lj_R lm_P 190 [.ref 0, .int 2] σ6) (fun y9 σ8 => (if y7 = y9 then lj_bl (lj_R lm_P 191 [.ref 0, .int 1] σ8) (fun y11 σ10 => lj_bl (lj_R lm_P 191 [.ref 0, .int 2] σ10) (fun y13 σ12 => (if (lg_cmp y11 y13) = 0 then lj_D lm_P lm_M201 40 [.ref 0, .int x1, .retAddr 0, .retAddr 0] [.long 1, .int 1, .ref 0] σ12 else lj_D lm_P lm_M201 39 [.ref 0, .int x1, .retAddr 0, .retAddr 0] [.int 1, .ref 0] σ12)) lj_up) lj_up else lj_D lm_P lm_M201 39 [.ref 0, .int x1, .retAddr 0, .retAddr 0] [.int 1, .ref 0] σ8)) lj_up) lj_up else (if x1 = 10 then lj_bi (lj_R lm_P 190 [.ref 0, .int 1] σ) (fun y2 σ1 => (if y2 = 3 then lj_bl (lj_R lm_P 191 [.ref 0, .int 1] σ1) (fun y4 σ3 => (if lj_in ((y4 : Int64).toInt32) 3000 then lj_bv (lj_R lm_P 195 [.ref 0, .int 2, .long ((((σ3.1 4 (((y4 : Int64).toInt32).toNatClampNeg))) : Int32).toInt64)] σ3) (fun σ5 => some (.inl none, σ5)) lj_up else none)) lj_up else lj_D lm_P lm_M201 77 [.ref 0, .int x1, .retAddr 0, .retAddr 0] [] σ1)) lj_up else lj_D lm_P lm_M201 77 [.ref 0, .int x1, .retAddr 0, .retAddr 0] [] σ)) := by rw [lj_D_eq]; rfl
set_option maxRecDepth 100000 in
set_option maxHeartbeats 4000000 in
theorem km_201_39 (x1 : Int32) (x50 : Int32) (σ : lj_S) : lj_D lm_P lm_M201 39 [.ref 0, .int x1, .retAddr 0, .retAddr 0] [.int x50, .ref 0] σ = lj_D lm_P lm_M201 40 [.ref 0, .int x1, .retAddr 0, .retAddr 0] [.long 0, .int x50, .ref 0] σ := by rw [lj_D_eq]; rfl
set_option maxRecDepth 100000 in
set_option maxHeartbeats 4000000 in
theorem km_201_40 (x1 : Int32) (x50 : Int64) (x51 : Int32) (σ : lj_S) : lj_D lm_P lm_M201 40 [.ref 0, .int x1, .retAddr 0, .retAddr 0] [.long x50, .int x51, .ref 0] σ = lj_bv (lj_R lm_P 195 [.ref 0, .int x51, .long x50] σ) (fun σ1 => some (.inl none, σ1)) lj_up := by rw [lj_D_eq]; rfl
set_option maxRecDepth 100000 in
set_option maxHeartbeats 4000000 in
theorem km_201_77 (x1 : Int32) (σ : lj_S) : lj_D lm_P lm_M201 77 [.ref 0, .int x1, .retAddr 0, .retAddr 0] [] σ = lj_bi (lj_R lm_P 198 [.ref 0, .int 1, .int 4, .int x1] σ) (fun y2 σ1 => (if y2 = 0 then some (.inl none, σ1) else lj_bl (lj_R lm_P 191 [.ref 0, .int 1] σ1) (fun y4 σ3 => (if x1 = 10 then lj_bl (lj_R lm_P 166 [.ref 0, .int ((y4 : Int64).toInt32)] σ3) (fun y26 σ25 => lj_bv (lj_R lm_P 195 [.ref 0, .int 2, .long y26] σ25) (fun σ27 => lj_D lm_P lm_M201 200 [.ref 0, .int x1, .int ((y4 : Int64).toInt32), .retAddr 0] [] σ27) lj_up) lj_up else (if x1 = 7 then lj_bi (lj_R lm_P 190 [.ref 0, .int 2] σ3) (fun y20 σ19 => lj_bl (lj_R lm_P 191 [.ref 0, .int 2] σ19) (fun y22 σ21 => lj_bv (lj_R lm_P 123 [.ref 0, .int ((y4 : Int64).toInt32), .int y20, .long y22] σ21) (fun σ23 => lj_bv (lj_R lm_P 195 [.ref 0, .int (σ23.1 0 90), .long (σ23.2 0 91)] σ23) (fun σ24 => lj_D lm_P lm_M201 200 [.ref 0, .int x1, .int ((y4 : Int64).toInt32), .retAddr 0] [] σ24) lj_up) lj_up) lj_up) lj_up else lj_bi (lj_R lm_P 190 [.ref 0, .int 2] σ3) (fun y6 σ5 => (if y6 = 0 then lj_bv (lj_R lm_P 199 [.ref 0, .int 2, .int x1] σ5) (fun σ18 => lj_D lm_P lm_M201 200 [.ref 0, .int x1, .int ((y4 : Int64).toInt32), .retAddr 0] [] σ18) lj_up else lj_bi (lj_R lm_P 190 [.ref 0, .int 2] σ5) (fun y8 σ7 => lj_bl (lj_R lm_P 191 [.ref 0, .int 2] σ7) (fun y10 σ9 => lj_bi (lj_R lm_P 190 [.ref 0, .int 3] σ9) (fun y12 σ11 => lj_bl (lj_R lm_P 191 [.ref 0, .int 3] σ11) (fun y14 σ13 => lj_bi (lj_R lm_P 108 [.ref 0, .int ((y4 : Int64).toInt32), .int y8, .long y10, .int y12, .long y14] σ13) (fun y16 σ15 => lj_bv (lj_R lm_P 195 [.ref 0, .int 4, .long ((((y4 : Int64).toInt32) : Int32).toInt64)] σ15) (fun σ17 => lj_D lm_P lm_M201 200 [.ref 0, .int x1, .int ((y4 : Int64).toInt32), .int y16] [] σ17) lj_up) lj_up) lj_up) lj_up) lj_up) lj_up)) lj_up))) lj_up)) lj_up := by rw [lj_D_eq]; rfl
set_option maxRecDepth 100000 in
set_option maxHeartbeats 4000000 in
theorem km_201_200 (x1 : Int32) (x2 : Int32) (x3 : Value) (σ : lj_S) : lj_D lm_P lm_M201 200 [.ref 0, .int x1, .int x2, x3] [] σ = some (.inl none, σ) := by rw [lj_D_eq]; rfl
-- TableTongueModel.setMeta()V
set_option maxRecDepth 100000 in
theorem rm_202  (σ : lj_S) : lj_R lm_P 202 [.ref 0] σ = lj_D lm_P lm_M202 0 [.ref 0, .retAddr 0] [] σ := lj_R_eq (nL := 2) (M := lm_M202) _ _ _ _ rfl rfl
set_option maxRecDepth 100000 in
set_option maxHeartbeats 4000000 in
theorem km_202_0  (σ : lj_S) : lj_D lm_P lm_M202 0 [.ref 0, .retAddr 0] [] σ = lj_bi (lj_R lm_P 198 [.ref 0, .int 1, .int 4, .int 12] σ) (fun y2 σ1 => (if y2 = 0 then some (.inl none, σ1) else lj_bi (lj_R lm_P 190 [.ref 0, .int 2] σ1) (fun y4 σ3 => (if y4 = 0 then lj_D lm_P lm_M202 37 [.ref 0, .retAddr 0] [] σ3 else lj_bi (lj_R lm_P 190 [.ref 0, .int 2] σ3) (fun y6 σ5 => (if y6 = 4 then lj_D lm_P lm_M202 37 [.ref 0, .retAddr 0] [] σ5 else lj_bv (lj_R lm_P 199 [.ref 0, .int 2, .int 12] σ5) (fun σ7 => some (.inl none, σ7)) lj_up)) lj_up)) lj_up)) lj_up := by rw [lj_D_eq]; rfl
set_option maxRecDepth 100000 in
set_option maxHeartbeats 4000000 in
theorem km_202_37  (σ : lj_S) : lj_D lm_P lm_M202 37 [.ref 0, .retAddr 0] [] σ = lj_bl (lj_R lm_P 191 [.ref 0, .int 1] σ) (fun y2 σ1 => lj_bi (lj_R lm_P 190 [.ref 0, .int 2] σ1) (fun y4 σ3 => (if y4 = 0 then lj_D lm_P lm_M202 67 [.ref 0, .int ((y2 : Int64).toInt32)] [.int 0, .int ((y2 : Int64).toInt32), .ref 39] σ3 else lj_bl (lj_R lm_P 191 [.ref 0, .int 2] σ3) (fun y6 σ5 => lj_D lm_P lm_M202 67 [.ref 0, .int ((y2 : Int64).toInt32)] [.int ((y6 : Int64).toInt32), .int ((y2 : Int64).toInt32), .ref 39] σ5) lj_up)) lj_up) lj_up := by rw [lj_D_eq]; rfl
set_option maxRecDepth 100000 in
set_option maxHeartbeats 4000000 in
theorem km_202_67 (x1 : Int32) (x50 : Int32) (x51 : Int32) (σ : lj_S) : lj_D lm_P lm_M202 67 [.ref 0, .int x1] [.int x50, .int x51, .ref 39] σ = (if lj_in x51 2002 then lj_bv (lj_R lm_P 130 [.ref 0, .int 4, .long ((x1 : Int32).toInt64), .int 20] (lj_put σ 39 x51.toNatClampNeg x50)) (fun σ1 => (if (σ1.1 0 90) = 0 then lj_D lm_P lm_M202 115 [.ref 0, .int x1] [] σ1 else (if lj_in x1 2002 then (if (lg_cmp (σ1.2 42 x1.toNatClampNeg) 0) = 0 then (if lj_in x1 2002 then lj_D lm_P lm_M202 115 [.ref 0, .int x1] [] (lj_putL (lj_putL σ1 0 78 ((σ1.2 0 78) + 1)) 42 x1.toNatClampNeg ((σ1.2 0 78) + 1)) else none) else lj_D lm_P lm_M202 115 [.ref 0, .int x1] [] σ1) else none))) lj_up else none) := by rw [lj_D_eq]; rfl
set_option maxRecDepth 100000 in
set_option maxHeartbeats 4000000 in
theorem km_202_115 (x1 : Int32) (σ : lj_S) : lj_D lm_P lm_M202 115 [.ref 0, .int x1] [] σ = lj_bv (lj_R lm_P 195 [.ref 0, .int 4, .long ((x1 : Int32).toInt64)] σ) (fun σ1 => some (.inl none, σ1)) lj_up := by rw [lj_D_eq]; rfl
-- TableTongueModel.protectedCall()V
set_option maxRecDepth 100000 in
theorem rm_203  (σ : lj_S) : lj_R lm_P 203 [.ref 0] σ = lj_D lm_P lm_M203 0 [.ref 0, .retAddr 0] [] σ := lj_R_eq (nL := 2) (M := lm_M203) _ _ _ _ rfl rfl
set_option maxRecDepth 100000 in
set_option maxHeartbeats 4000000 in
theorem km_203_0  (σ : lj_S) : lj_D lm_P lm_M203 0 [.ref 0, .retAddr 0] [] σ = (if lj_in (σ.1 0 111) 26 then (if ((σ.1 65 ((σ.1 0 111).toNatClampNeg))) = 20 then lj_bv (lj_R lm_P 142 [.ref 0, .int 13, .int (σ.1 0 132)] σ) (fun σ2 => some (.inl none, σ2)) lj_up else (if lj_in (σ.1 0 111) 26 then (if lj_in (σ.1 0 111) 26 then (if lj_in (σ.1 0 111) 26 then (if lj_in (σ.1 0 111) 26 then (if lj_in (σ.1 0 111) 26 then (if lj_in ((48 * (σ.1 0 111)) + ((σ.1 62 ((σ.1 0 111).toNatClampNeg)))) 1248 then (if lj_in ((48 * (σ.1 0 111)) + ((σ.1 62 ((σ.1 0 111).toNatClampNeg)))) 1248 then (if lj_in ((48 * (σ.1 0 111)) + ((σ.1 62 ((σ.1 0 111).toNatClampNeg)))) 1248 then (if lj_in (σ.1 0 111) 26 then (if lj_in ((48 * (σ.1 0 111)) + ((σ.1 62 ((σ.1 0 111).toNatClampNeg)))) 1248 then (if lj_in (σ.1 0 111) 26 then (if lj_in ((48 * (σ.1 0 111)) + ((σ.1 62 ((σ.1 0 111).toNatClampNeg)))) 1248 then lj_bv (lj_R lm_P 204 [.ref 0] (lj_put (lj_put (lj_put (lj_put (lj_put (lj_put (lj_put σ 62 ((σ.1 0 111).toNatClampNeg) (((σ.1 62 ((σ.1 0 111).toNatClampNeg))) + 1)) 65 ((σ.1 0 111).toNatClampNeg) (((σ.1 65 ((σ.1 0 111).toNatClampNeg))) + 1)) 74 (((48 * (σ.1 0 111)) + ((σ.1 62 ((σ.1 0 111).toNatClampNeg)))).toNatClampNeg) 1) 78 (((48 * (σ.1 0 111)) + ((σ.1 62 ((σ.1 0 111).toNatClampNeg)))).toNatClampNeg) (σ.1 0 130)) 79 (((48 * (σ.1 0 111)) + ((σ.1 62 ((σ.1 0 111).toNatClampNeg)))).toNatClampNeg) (σ.1 0 131)) 80 (((48 * (σ.1 0 111)) + ((σ.1 62 ((σ.1 0 111).toNatClampNeg)))).toNatClampNeg) ((σ.1 63 ((σ.1 0 111).toNatClampNeg)))) 81 (((48 * (σ.1 0 111)) + ((σ.1 62 ((σ.1 0 111).toNatClampNeg)))).toNatClampNeg) ((σ.1 64 ((σ.1 0 111).toNatClampNeg))))) (fun σ1 => some (.inl none, (lj_put (lj_put σ1 0 130 0) 0 131 (-1)))) lj_up else none) else none) else none) else none) else none) else none) else none) else none) else none) else none) else none) else none)) else none) := by rw [lj_D_eq]; rfl
-- TableTongueModel.shiftArgs()V
set_option maxRecDepth 100000 in
theorem rm_204  (σ : lj_S) : lj_R lm_P 204 [.ref 0] σ = lj_D lm_P lm_M204 0 [.ref 0, .retAddr 0] [] σ := lj_R_eq (nL := 2) (M := lm_M204) _ _ _ _ rfl rfl
set_option maxRecDepth 100000 in
set_option maxHeartbeats 4000000 in
theorem km_204_0  (σ : lj_S) : lj_D lm_P lm_M204 0 [.ref 0, .retAddr 0] [] σ = lj_bi (lj_R lm_P 190 [.ref 0, .int 1] σ) (fun y2 σ1 => lj_bl (lj_R lm_P 191 [.ref 0, .int 1] (lj_put σ1 0 133 y2)) (fun y4 σ3 => lj_D lm_P lm_M204 20 [.ref 0, .int 1] [] (lj_putL σ3 0 134 y4)) lj_up) lj_up := by rw [lj_D_eq]; rfl
set_option maxRecDepth 100000 in
set_option maxHeartbeats 4000000 in
theorem km_204_20 (x1 : Int32) (σ : lj_S) : lj_D lm_P lm_M204 20 [.ref 0, .int x1] [] σ = (if (σ.1 0 137) ≤ x1 then (if (σ.1 0 137) ≤ 0 then lj_D lm_P lm_M204 80 [.ref 0, .int x1] [.int 0, .ref 0] σ else lj_D lm_P lm_M204 80 [.ref 0, .int x1] [.int ((σ.1 0 137) - 1), .ref 0] σ) else (if lj_in x1 128 then (if lj_in (x1 - 1) 128 then (if lj_in x1 128 then (if lj_in (x1 - 1) 128 then lj_D lm_P lm_M204 20 [.ref 0, .int (x1 + 1)] [] (lj_putL (lj_put σ 88 ((x1 - 1).toNatClampNeg) (σ.1 88 x1.toNatClampNeg)) 89 ((x1 - 1).toNatClampNeg) (σ.2 89 x1.toNatClampNeg)) else none) else none) else none) else none)) := by rw [lj_D_eq]; rfl
set_option maxRecDepth 100000 in
set_option maxHeartbeats 4000000 in
theorem km_204_80 (x1 : Int32) (x50 : Int32) (σ : lj_S) : lj_D lm_P lm_M204 80 [.ref 0, .int x1] [.int x50, .ref 0] σ = some (.inl none, (lj_put (lj_put σ 0 137 x50) 0 129 3)) := by rw [lj_D_eq]; rfl
-- TableTongueModel.select()V
set_option maxRecDepth 100000 in
theorem rm_205  (σ : lj_S) : lj_R lm_P 205 [.ref 0] σ = lj_D lm_P lm_M205 0 [.ref 0, .retAddr 0, .retAddr 0, .retAddr 0, .retAddr 0, .retAddr 0, .retAddr 0, .retAddr 0] [] σ := lj_R_eq (nL := 8) (M := lm_M205) _ _ _ _ rfl rfl
set_option maxRecDepth 100000 in
set_option maxHeartbeats 4000000 in
theorem km_205_0  (σ : lj_S) : lj_D lm_P lm_M205 0 [.ref 0, .retAddr 0, .retAddr 0, .retAddr 0, .retAddr 0, .retAddr 0, .retAddr 0, .retAddr 0] [] σ = (if (σ.1 0 137) ≤ 0 then lj_D lm_P lm_M205 17 [.ref 0, .retAddr 0, .retAddr 0, .retAddr 0, .retAddr 0, .retAddr 0, .retAddr 0, .retAddr 0] [.int 0] σ else lj_D lm_P lm_M205 17 [.ref 0, .retAddr 0, .retAddr 0, .retAddr 0, .retAddr 0, .retAddr 0, .retAddr 0, .retAddr 0] [.int ((σ.1 0 137) - 1)] σ) := by rw [lj_D_eq]; rfl
set_option maxRecDepth 100000 in
set_option maxHeartbeats 4000000 in
theorem km_205_17 (x50 : Int32) (σ : lj_S) : lj_D lm_P lm_M205 17 [.ref 0, .retAddr 0, .retAddr 0, .retAddr 0, .retAddr 0, .retAddr 0, .retAddr 0, .retAddr 0] [.int x50] σ = lj_bi (lj_R lm_P 190 [.ref 0, .int 1] σ) (fun y2 σ1 => (if y2 = 3 then lj_bl (lj_R lm_P 191 [.ref 0, .int 1] σ1) (fun y4 σ3 => (if lj_in ((y4 : Int64).toInt32) 3000 then (if ((σ3.1 4 (((y4 : Int64).toInt32).toNatClampNeg))) = 1 then lj_bl (lj_R lm_P 191 [.ref 0, .int 1] σ3) (fun y6 σ5 => (if lj_in ((y6 : Int64).toInt32) 3000 then (if lj_in ((σ5.1 3 (((y6 : Int64).toInt32).toNatClampNeg))) 40000 then (if ((σ5.1 2 (((σ5.1 3 (((y6 : Int64).toInt32).toNatClampNeg))).toNatClampNeg))) = 35 then lj_bv (lj_R lm_P 195 [.ref 0, .int 2, .long ((x50 : Int32).toInt64)] σ5) (fun σ7 => some (.inl none, σ7)) lj_up else lj_D lm_P lm_M205 71 [.ref 0, .int x50, .retAddr 0, .retAddr 0, .retAddr 0, .retAddr 0, .retAddr 0, .retAddr 0] [] σ5) else none) else none)) lj_up else lj_D lm_P lm_M205 71 [.ref 0, .int x50, .retAddr 0, .retAddr 0, .retAddr 0, .retAddr 0, .retAddr 0, .retAddr 0] [] σ3) else none)) lj_up else lj_D lm_P lm_M205 71 [.ref 0, .int x50, .retAddr 0, .retAddr 0, .retAddr 0, .retAddr 0, .retAddr 0, .retAddr 0] [] σ1)) lj_up := by rw [lj_D_eq]; rfl
set_option maxRecDepth 100000 in
set_option maxHeartbeats 4000000 in
theorem km_205_71 (x1 : Int32) (σ : lj_S) : lj_D lm_P lm_M205 71 [.ref 0, .int x1, .retAddr 0, .retAddr 0, .retAddr 0, .retAddr 0, .retAddr 0, .retAddr 0] [] σ = lj_bl (lj_R lm_P 191 [.ref 0, .int 1] σ) (fun y2 σ1 => lj_bi (lj_R lm_P 190 [.ref 0, .int 1] σ1) (fun y4 σ3 => (if y4 = 2 then (if (lg_cmp y2 0) = 0 then lj_D lm_P lm_M205 106 [.ref 0, .int x1, .long y2, .retAddr 0, .retAddr 0, .retAddr 0, .retAddr 0, .retAddr 0] [] σ3 else (if 0 ≤ (lg_cmp y2 0) then lj_D lm_P lm_M205 114 [.ref 0, .int x1, .long y2, .retAddr 0, .retAddr 0, .retAddr 0, .retAddr 0, .retAddr 0] [] σ3 else (if 0 ≤ (lg_cmp y2 (((-x1) : Int32).toInt64)) then lj_D lm_P lm_M205 114 [.ref 0, .int x1, .long y2, .retAddr 0, .retAddr 0, .retAddr 0, .retAddr 0, .retAddr 0] [] σ3 else lj_D lm_P lm_M205 106 [.ref 0, .int x1, .long y2, .retAddr 0, .retAddr 0, .retAddr 0, .retAddr 0, .retAddr 0] [] σ3))) else lj_D lm_P lm_M205 106 [.ref 0, .int x1, .long y2, .retAddr 0, .retAddr 0, .retAddr 0, .retAddr 0, .retAddr 0] [] σ3)) lj_up) lj_up := by rw [lj_D_eq]; rfl
set_option maxRecDepth 100000 in
set_option maxHeartbeats 4000000 in
theorem km_205_106 (x1 : Int32) (x2 : Int64) (σ : lj_S) : lj_D lm_P lm_M205 106 [.ref 0, .int x1, .long x2, .retAddr 0, .retAddr 0, .retAddr 0, .retAddr 0, .retAddr 0] [] σ = lj_bv (lj_R lm_P 199 [.ref 0, .int 1, .int 15] σ) (fun σ1 => some (.inl none, σ1)) lj_up := by rw [lj_D_eq]; rfl
set_option maxRecDepth 100000 in
set_option maxHeartbeats 4000000 in
theorem km_205_114 (x1 : Int32) (x2 : Int64) (σ : lj_S) : lj_D lm_P lm_M205 114 [.ref 0, .int x1, .long x2, .retAddr 0, .retAddr 0, .retAddr 0, .retAddr 0, .retAddr 0] [] σ = lj_bv (lj_R lm_P 192 [.ref 0] σ) (fun σ1 => (if (lg_cmp x2 0) ≤ 0 then lj_D lm_P lm_M205 134 [.ref 0, .int x1, .long x2, .retAddr 0, .retAddr 0, .retAddr 0, .retAddr 0, .retAddr 0] [.long ((((x1 : Int32).toInt64) + x2) + 1)] σ1 else lj_D lm_P lm_M205 134 [.ref 0, .int x1, .long x2, .retAddr 0, .retAddr 0, .retAddr 0, .retAddr 0, .retAddr 0] [.long x2] σ1)) lj_up := by rw [lj_D_eq]; rfl
set_option maxRecDepth 100000 in
set_option maxHeartbeats 4000000 in
theorem km_205_134 (x1 : Int32) (x2 : Int64) (x50 : Int64) (σ : lj_S) : lj_D lm_P lm_M205 134 [.ref 0, .int x1, .long x2, .retAddr 0, .retAddr 0, .retAddr 0, .retAddr 0, .retAddr 0] [.long x50] σ = lj_D lm_P lm_M205 140 [.ref 0, .int x1, .long x2, .retAddr 0, .long x50, .retAddr 0, .long x50, .retAddr 0] [] σ := by rw [lj_D_eq]; rfl
set_option maxRecDepth 100000 in
set_option maxHeartbeats 4000000 in
theorem km_205_140 (x1 : Int32) (x2 : Int64) (x4 : Int64) (x6 : Int64) (σ : lj_S) : lj_D lm_P lm_M205 140 [.ref 0, .int x1, .long x2, .retAddr 0, .long x4, .retAddr 0, .long x6, .retAddr 0] [] σ = (if 0 < (lg_cmp x6 ((x1 : Int32).toInt64)) then lj_D lm_P lm_M205 184 [.ref 0, .int x1, .long x2, .retAddr 0, .long x4, .retAddr 0, .long x6, .retAddr 0] [] σ else (if (lg_cmp x6 0) ≤ 0 then lj_D lm_P lm_M205 184 [.ref 0, .int x1, .long x2, .retAddr 0, .long x4, .retAddr 0, .long x6, .retAddr 0] [] σ else (if lj_in ((x6 : Int64).toInt32) 128 then (if lj_in ((x6 : Int64).toInt32) 128 then lj_bv (lj_R lm_P 184 [.ref 0, .int ((σ.1 88 (((x6 : Int64).toInt32).toNatClampNeg))), .long ((σ.2 89 (((x6 : Int64).toInt32).toNatClampNeg)))] σ) (fun σ1 => lj_D lm_P lm_M205 140 [.ref 0, .int x1, .long x2, .retAddr 0, .long x4, .retAddr 0, .long (x6 + 1), .retAddr 0] [] σ1) lj_up else none) else none))) := by rw [lj_D_eq]; rfl
set_option maxRecDepth 100000 in
set_option maxHeartbeats 4000000 in
theorem km_205_184 (x1 : Int32) (x2 : Int64) (x4 : Int64) (x6 : Int64) (σ : lj_S) : lj_D lm_P lm_M205 184 [.ref 0, .int x1, .long x2, .retAddr 0, .long x4, .retAddr 0, .long x6, .retAddr 0] [] σ = some (.inl none, σ) := by rw [lj_D_eq]; rfl
-- TableTongueModel.gather()V
set_option maxRecDepth 100000 in
theorem rm_206  (σ : lj_S) : lj_R lm_P 206 [.ref 0] σ = lj_D lm_P lm_M206 0 [.ref 0, .retAddr 0, .retAddr 0, .retAddr 0] [] σ := lj_R_eq (nL := 4) (M := lm_M206) _ _ _ _ rfl rfl
set_option maxRecDepth 100000 in
set_option maxHeartbeats 4000000 in
theorem km_206_0  (σ : lj_S) : lj_D lm_P lm_M206 0 [.ref 0, .retAddr 0, .retAddr 0, .retAddr 0] [] σ = (if lj_in (σ.1 0 111) 26 then (if ((σ.1 65 ((σ.1 0 111).toNatClampNeg))) = 20 then lj_bv (lj_R lm_P 142 [.ref 0, .int 13, .int (σ.1 0 132)] σ) (fun σ7 => some (.inl none, σ7)) lj_up else lj_bv (lj_R lm_P 207 [.ref 0] σ) (fun σ1 => lj_bv (lj_R lm_P 217 [.ref 0, .int 0] σ1) (fun σ2 => lj_bv (lj_R lm_P 218 [.ref 0] σ2) (fun σ3 => lj_bv (lj_R lm_P 217 [.ref 0, .int 1] σ3) (fun σ4 => lj_bi (lj_R lm_P 219 [.ref 0] σ4) (fun y6 σ5 => (if lj_in (σ5.1 0 111) 26 then (if lj_in (σ5.1 0 111) 26 then (if lj_in (σ5.1 0 111) 26 then (if lj_in (σ5.1 0 111) 26 then (if lj_in (σ5.1 0 111) 26 then (if lj_in ((48 * (σ5.1 0 111)) + ((σ5.1 62 ((σ5.1 0 111).toNatClampNeg)))) 1248 then (if lj_in ((48 * (σ5.1 0 111)) + ((σ5.1 62 ((σ5.1 0 111).toNatClampNeg)))) 1248 then (if lj_in ((48 * (σ5.1 0 111)) + ((σ5.1 62 ((σ5.1 0 111).toNatClampNeg)))) 1248 then (if lj_in (σ5.1 0 111) 26 then (if lj_in ((48 * (σ5.1 0 111)) + ((σ5.1 62 ((σ5.1 0 111).toNatClampNeg)))) 1248 then (if lj_in (σ5.1 0 111) 26 then (if lj_in ((48 * (σ5.1 0 111)) + ((σ5.1 62 ((σ5.1 0 111).toNatClampNeg)))) 1248 then (if lj_in ((48 * (σ5.1 0 111)) + ((σ5.1 62 ((σ5.1 0 111).toNatClampNeg)))) 1248 then (if lj_in ((48 * (σ5.1 0 111)) + ((σ5.1 62 ((σ5.1 0 111).toNatClampNeg)))) 1248 then (if lj_in ((48 * (σ5.1 0 111)) + ((σ5.1 62 ((σ5.1 0 111).toNatClampNeg)))) 1248 then (if lj_in ((48 * (σ5.1 0 111)) + ((σ5.1 62 ((σ5.1 0 111).toNatClampNeg)))) 1248 then some (.inl none, (lj_put (lj_put (lj_put (lj_put (lj_put (lj_put (lj_put (lj_put (lj_put (lj_put (lj_put (lj_put σ5 62 ((σ5.1 0 111).toNatClampNeg) (((σ5.1 62 ((σ5.1 0 111).toNatClampNeg))) + 1)) 65 ((σ5.1 0 111).toNatClampNeg) (((σ5.1 65 ((σ5.1 0 111).toNatClampNeg))) + 1)) 74 (((48 * (σ5.1 0 111)) + ((σ5.1 62 ((σ5.1 0 111).toNatClampNeg)))).toNatClampNeg) 2) 78 (((48 * (σ5.1 0 111)) + ((σ5.1 62 ((σ5.1 0 111).toNatClampNeg)))).toNatClampNeg) (σ5.1 0 130)) 79 (((48 * (σ5.1 0 111)) + ((σ5.1 62 ((σ5.1 0 111).toNatClampNeg)))).toNatClampNeg) (σ5.1 0 131)) 80 (((48 * (σ5.1 0 111)) + ((σ5.1 62 ((σ5.1 0 111).toNatClampNeg)))).toNatClampNeg) ((σ5.1 63 ((σ5.1 0 111).toNatClampNeg)))) 81 (((48 * (σ5.1 0 111)) + ((σ5.1 62 ((σ5.1 0 111).toNatClampNeg)))).toNatClampNeg) ((σ5.1 64 ((σ5.1 0 111).toNatClampNeg)))) 83 (((48 * (σ5.1 0 111)) + ((σ5.1 62 ((σ5.1 0 111).toNatClampNeg)))).toNatClampNeg) (σ5.1 0 132)) 84 (((48 * (σ5.1 0 111)) + ((σ5.1 62 ((σ5.1 0 111).toNatClampNeg)))).toNatClampNeg) (σ.1 0 152)) 85 (((48 * (σ5.1 0 111)) + ((σ5.1 62 ((σ5.1 0 111).toNatClampNeg)))).toNatClampNeg) (σ5.1 0 152)) 86 (((48 * (σ5.1 0 111)) + ((σ5.1 62 ((σ5.1 0 111).toNatClampNeg)))).toNatClampNeg) y6) 0 129 4)) else none) else none) else none) else none) else none) else none) else none) else none) else none) else none) else none) else none) else none) else none) else none) else none)) lj_up) lj_up) lj_up) lj_up) lj_up) else none) := by rw [lj_D_eq]; rfl
-- TableTongueModel.find()V
set_option maxRecDepth 100000 in
theorem rm_207  (σ : lj_S) : lj_R lm_P 207 [.ref 0] σ = lj_D lm_P lm_M207 0 [.ref 0, .retAddr 0] [] σ := lj_R_eq (nL := 2) (M := lm_M207) _ _ _ _ rfl rfl
set_option maxRecDepth 100000 in
set_option maxHeartbeats 4000000 in
theorem km_207_0  (σ : lj_S) : lj_D lm_P lm_M207 0 [.ref 0, .retAddr 0] [] σ = lj_D lm_P lm_M207 2 [.ref 0, .int 0] [] σ := by rw [lj_D_eq]; rfl
set_option maxRecDepth 100000 in
set_option maxHeartbeats 4000000 in
theorem km_207_2 (x1 : Int32) (σ : lj_S) : lj_D lm_P lm_M207 2 [.ref 0, .int x1] [] σ = (if 2002 ≤ x1 then lj_bv (lj_R lm_P 208 [.ref 0] (lj_put σ 0 157 0)) (fun σ1 => lj_bv (lj_R lm_P 210 [.ref 0, .int 4, .long 1] σ1) (fun σ2 => lj_bv (lj_R lm_P 210 [.ref 0, .int 4, .long 2] σ2) (fun σ3 => lj_bv (lj_R lm_P 210 [.ref 0, .int 4, .long 3] σ3) (fun σ4 => (if lj_in 2001 2002 then lj_D lm_P lm_M207 62 [.ref 0, .int ((σ4.1 40 ((2001 : Int32).toNatClampNeg)))] [] σ4 else none)) lj_up) lj_up) lj_up) lj_up else (if lj_in x1 2002 then lj_D lm_P lm_M207 2 [.ref 0, .int (x1 + 1)] [] (lj_put σ 96 x1.toNatClampNeg (vp_nar .boolean 0)) else none)) := by rw [lj_D_eq]; rfl
set_option maxRecDepth 100000 in
set_option maxHeartbeats 4000000 in
theorem km_207_62 (x1 : Int32) (σ : lj_S) : lj_D lm_P lm_M207 62 [.ref 0, .int x1] [] σ = (if x1 < 0 then lj_D lm_P lm_M207 94 [.ref 0, .int 0] [] σ else (if lj_in x1 3001 then (if lj_in x1 3001 then lj_bv (lj_R lm_P 210 [.ref 0, .int (σ.1 47 x1.toNatClampNeg), .long (σ.2 48 x1.toNatClampNeg)] σ) (fun σ1 => (if lj_in x1 3001 then lj_D lm_P lm_M207 62 [.ref 0, .int (σ1.1 50 x1.toNatClampNeg)] [] σ1 else none)) lj_up else none) else none)) := by rw [lj_D_eq]; rfl
set_option maxRecDepth 100000 in
set_option maxHeartbeats 4000000 in
theorem km_207_94 (x1 : Int32) (σ : lj_S) : lj_D lm_P lm_M207 94 [.ref 0, .int x1] [] σ = (if (σ.1 0 110) < x1 then lj_D lm_P lm_M207 117 [.ref 0, .int 0] [] σ else (if lj_in x1 26 then lj_D lm_P lm_M207 94 [.ref 0, .int (x1 + 1)] [] (lj_put σ 97 x1.toNatClampNeg (vp_nar .boolean 0)) else none)) := by rw [lj_D_eq]; rfl
set_option maxRecDepth 100000 in
set_option maxHeartbeats 4000000 in
theorem km_207_117 (x1 : Int32) (σ : lj_S) : lj_D lm_P lm_M207 117 [.ref 0, .int x1] [] σ = (if (σ.1 0 110) < x1 then lj_bv (lj_R lm_P 212 [.ref 0] σ) (fun σ1 => some (.inl none, σ1)) lj_up else (if lj_in x1 26 then (if (σ.1 58 x1.toNatClampNeg) = 2 then lj_D lm_P lm_M207 145 [.ref 0, .int x1] [] σ else (if lj_in x1 26 then (if (σ.1 58 x1.toNatClampNeg) = 3 then lj_D lm_P lm_M207 145 [.ref 0, .int x1] [] σ else lj_D lm_P lm_M207 176 [.ref 0, .int x1] [] σ) else none)) else none)) := by rw [lj_D_eq]; rfl
set_option maxRecDepth 100000 in
set_option maxHeartbeats 4000000 in
theorem km_207_145 (x1 : Int32) (σ : lj_S) : lj_D lm_P lm_M207 145 [.ref 0, .int x1] [] σ = (if lj_in x1 26 then (if (σ.1 59 x1.toNatClampNeg) ≤ 0 then lj_D lm_P lm_M207 161 [.ref 0, .int x1] [.int 0, .ref 0] σ else lj_D lm_P lm_M207 161 [.ref 0, .int x1] [.int 6, .ref 0] σ) else none) := by rw [lj_D_eq]; rfl
set_option maxRecDepth 100000 in
set_option maxHeartbeats 4000000 in
theorem km_207_161 (x1 : Int32) (x50 : Int32) (σ : lj_S) : lj_D lm_P lm_M207 161 [.ref 0, .int x1] [.int x50, .ref 0] σ = (if lj_in x1 26 then lj_bv (lj_R lm_P 210 [.ref 0, .int x50, .long (((σ.1 59 x1.toNatClampNeg) : Int32).toInt64)] σ) (fun σ1 => lj_bv (lj_R lm_P 211 [.ref 0, .int x1] σ1) (fun σ2 => lj_D lm_P lm_M207 176 [.ref 0, .int x1] [] σ2) lj_up) lj_up else none) := by rw [lj_D_eq]; rfl
set_option maxRecDepth 100000 in
set_option maxHeartbeats 4000000 in
theorem km_207_176 (x1 : Int32) (σ : lj_S) : lj_D lm_P lm_M207 176 [.ref 0, .int x1] [] σ = lj_D lm_P lm_M207 117 [.ref 0, .int (x1 + 1)] [] σ := by rw [lj_D_eq]; rfl
-- TableTongueModel.listKeys()V
set_option maxRecDepth 100000 in
theorem rm_208  (σ : lj_S) : lj_R lm_P 208 [.ref 0] σ = lj_D lm_P lm_M208 0 [.ref 0, .retAddr 0, .retAddr 0, .retAddr 0] [] σ := lj_R_eq (nL := 4) (M := lm_M208) _ _ _ _ rfl rfl
set_option maxRecDepth 100000 in
set_option maxHeartbeats 4000000 in
theorem km_208_0  (σ : lj_S) : lj_D lm_P lm_M208 0 [.ref 0, .retAddr 0, .retAddr 0, .retAddr 0] [] σ = lj_D lm_P lm_M208 2 [.ref 0, .int 0, .retAddr 0, .retAddr 0] [] σ := by rw [lj_D_eq]; rfl
set_option maxRecDepth 100000 in
set_option maxHeartbeats 4000000 in
theorem km_208_2 (x1 : Int32) (σ : lj_S) : lj_D lm_P lm_M208 2 [.ref 0, .int x1, .retAddr 0, .retAddr 0] [] σ = (if 2002 ≤ x1 then lj_D lm_P lm_M208 24 [.ref 0, .int 1, .retAddr 0, .retAddr 0] [] σ else (if lj_in x1 2002 then lj_D lm_P lm_M208 2 [.ref 0, .int (x1 + 1), .retAddr 0, .retAddr 0] [] (lj_put σ 99 x1.toNatClampNeg (-1)) else none)) := by rw [lj_D_eq]; rfl
set_option maxRecDepth 100000 in
set_option maxHeartbeats 4000000 in
theorem km_208_24 (x1 : Int32) (x2 : Value) (x3 : Value) (σ : lj_S) : lj_D lm_P lm_M208 24 [.ref 0, .int x1, x2, x3] [] σ = (if (σ.1 0 77) < x1 then some (.inl none, σ) else (if lj_in x1 2002 then (if (σ.1 38 x1.toNatClampNeg) = 4 then lj_bi (lj_R lm_P 209 [.ref 0, .int x1] σ) (fun y2 σ1 => (if y2 = 1 then (if lj_in x1 2002 then lj_D lm_P lm_M208 61 [.ref 0, .int x1, x2, x3] [.int (σ1.1 40 x1.toNatClampNeg)] σ1 else none) else lj_D lm_P lm_M208 60 [.ref 0, .int x1, x2, x3] [] σ1)) lj_up else lj_D lm_P lm_M208 60 [.ref 0, .int x1, x2, x3] [] σ) else none)) := by rw [lj_D_eq]; rfl
set_option maxRecDepth 100000 in
set_option maxHeartbeats 4000000 in
theorem km_208_60 (x1 : Int32) (x2 : Value) (x3 : Value) (σ : lj_S) : lj_D lm_P lm_M208 60 [.ref 0, .int x1, x2, x3] [] σ = lj_D lm_P lm_M208 61 [.ref 0, .int x1, x2, x3] [.int (-1)] σ := by rw [lj_D_eq]; rfl
set_option maxRecDepth 100000 in
set_option maxHeartbeats 4000000 in
theorem km_208_61 (x1 : Int32) (x2 : Value) (x3 : Value) (x50 : Int32) (σ : lj_S) : lj_D lm_P lm_M208 61 [.ref 0, .int x1, x2, x3] [.int x50] σ = lj_D lm_P lm_M208 62 [.ref 0, .int x1, .int x50, x3] [] σ := by rw [lj_D_eq]; rfl
set_option maxRecDepth 100000 in
set_option maxHeartbeats 4000000 in
theorem km_208_62 (x1 : Int32) (x2 : Int32) (x3 : Value) (σ : lj_S) : lj_D lm_P lm_M208 62 [.ref 0, .int x1, .int x2, x3] [] σ = (if x2 < 0 then lj_D lm_P lm_M208 24 [.ref 0, .int (x1 + 1), .int x2, x3] [] σ else (if lj_in x2 3001 then (if (σ.1 47 x2.toNatClampNeg) = 0 then lj_D lm_P lm_M208 134 [.ref 0, .int x1, .int x2, x3] [] σ else (if lj_in x2 3001 then (if (σ.1 45 x2.toNatClampNeg) < 4 then lj_D lm_P lm_M208 134 [.ref 0, .int x1, .int x2, x3] [] σ else (if lj_in x2 3001 then (if 6 < (σ.1 45 x2.toNatClampNeg) then lj_D lm_P lm_M208 134 [.ref 0, .int x1, .int x2, x3] [] σ else (if lj_in x2 3001 then (if (lg_cmp (σ.2 46 x2.toNatClampNeg) 0) ≤ 0 then lj_D lm_P lm_M208 134 [.ref 0, .int x1, .int x2, x3] [] σ else (if lj_in x2 3001 then (if lj_in (((σ.2 46 x2.toNatClampNeg) : Int64).toInt32) 2002 then (if lj_in x2 3001 then (if lj_in (((σ.2 46 x2.toNatClampNeg) : Int64).toInt32) 2002 then lj_D lm_P lm_M208 134 [.ref 0, .int x1, .int x2, .int (((σ.2 46 x2.toNatClampNeg) : Int64).toInt32)] [] (lj_put (lj_put σ 100 x2.toNatClampNeg ((σ.1 99 ((((σ.2 46 x2.toNatClampNeg) : Int64).toInt32).toNatClampNeg)))) 99 ((((σ.2 46 x2.toNatClampNeg) : Int64).toInt32).toNatClampNeg) x2) else none) else none) else none) else none)) else none)) else none)) else none)) else none)) := by rw [lj_D_eq]; rfl
set_option maxRecDepth 100000 in
set_option maxHeartbeats 4000000 in
theorem km_208_134 (x1 : Int32) (x2 : Int32) (x3 : Value) (σ : lj_S) : lj_D lm_P lm_M208 134 [.ref 0, .int x1, .int x2, x3] [] σ = (if lj_in x2 3001 then lj_D lm_P lm_M208 62 [.ref 0, .int x1, .int (σ.1 50 x2.toNatClampNeg), x3] [] σ else none) := by rw [lj_D_eq]; rfl
-- TableTongueModel.weakness(I)I
set_option maxRecDepth 100000 in
theorem rm_209 (x1 : Int32) (σ : lj_S) : lj_R lm_P 209 [.ref 0, .int x1] σ = lj_D lm_P lm_M209 0 [.ref 0, .int x1, .retAddr 0, .retAddr 0, .retAddr 0, .retAddr 0] [] σ := lj_R_eq (nL := 6) (M := lm_M209) _ _ _ _ rfl rfl
set_option maxRecDepth 100000 in
set_option maxHeartbeats 4000000 in
theorem km_209_0 (x1 : Int32) (σ : lj_S) : lj_D lm_P lm_M209 0 [.ref 0, .int x1, .retAddr 0, .retAddr 0, .retAddr 0, .retAddr 0] [] σ = lj_bv (lj_R lm_P 130 [.ref 0, .int 4, .long ((x1 : Int32).toInt64), .int 21] σ) (fun σ1 => (if (σ1.1 0 90) = 3 then lj_D lm_P lm_M209 30 [.ref 0, .int x1, .int 0, .int (((σ1.2 0 91) : Int64).toInt32), .int 0, .retAddr 0] [] σ1 else some (.inl (some (.int 0)), σ1))) lj_up := by rw [lj_D_eq]; rfl
set_option maxRecDepth 100000 in
set_option maxHeartbeats 4000000 in
theorem km_209_30 (x1 : Int32) (x2 : Int32) (x3 : Int32) (x4 : Int32) (x5 : Value) (σ : lj_S) : lj_D lm_P lm_M209 30 [.ref 0, .int x1, .int x2, .int x3, .int x4, x5] [] σ = (if lj_in x3 3000 then (if (σ.1 4 x3.toNatClampNeg) ≤ x4 then some (.inl (some (.int x2)), σ) else (if lj_in x3 3000 then (if lj_in ((σ.1 3 x3.toNatClampNeg) + x4) 40000 then (if ((σ.1 2 (((σ.1 3 x3.toNatClampNeg) + x4).toNatClampNeg))) = 107 then lj_D lm_P lm_M209 84 [.ref 0, .int x1, .int x2, .int x3, .int x4, .int ((σ.1 2 (((σ.1 3 x3.toNatClampNeg) + x4).toNatClampNeg)))] [.int (x2 ||| 1)] σ else (if ((σ.1 2 (((σ.1 3 x3.toNatClampNeg) + x4).toNatClampNeg))) = 118 then lj_D lm_P lm_M209 84 [.ref 0, .int x1, .int x2, .int x3, .int x4, .int ((σ.1 2 (((σ.1 3 x3.toNatClampNeg) + x4).toNatClampNeg)))] [.int (x2 ||| 2)] σ else lj_D lm_P lm_M209 84 [.ref 0, .int x1, .int x2, .int x3, .int x4, .int ((σ.1 2 (((σ.1 3 x3.toNatClampNeg) + x4).toNatClampNeg)))] [.int x2] σ)) else none) else none)) else none) := by rw [lj_D_eq]; rfl
set_option maxRecDepth 100000 in
set_option maxHeartbeats 4000000 in
theorem km_209_84 (x1 : Int32) (x2 : Int32) (x3 : Int32) (x4 : Int32) (x5 : Int32) (x50 : Int32) (σ : lj_S) : lj_D lm_P lm_M209 84 [.ref 0, .int x1, .int x2, .int x3, .int x4, .int x5] [.int x50] σ = lj_D lm_P lm_M209 30 [.ref 0, .int x1, .int x50, .int x3, .int (x4 + 1), .int x5] [] σ := by rw [lj_D_eq]; rfl
-- TableTongueModel.reach(IJ)V
set_option maxRecDepth 100000 in
theorem rm_210 (x1 : Int32) (x2 : Int64) (σ : lj_S) : lj_R lm_P 210 [.ref 0, .int x1, .long x2] σ = lj_D lm_P lm_M210 0 [.ref 0, .int x1, .long x2, .retAddr 0, .retAddr 0] [] σ := lj_R_eq (nL := 5) (M := lm_M210) _ _ _ _ rfl rfl
set_option maxRecDepth 100000 in
set_option maxHeartbeats 4000000 in
theorem km_210_0 (x1 : Int32) (x2 : Int64) (σ : lj_S) : lj_D lm_P lm_M210 0 [.ref 0, .int x1, .long x2, .retAddr 0, .retAddr 0] [] σ = (if x1 < 4 then lj_D lm_P lm_M210 11 [.ref 0, .int x1, .long x2, .retAddr 0, .retAddr 0] [] σ else (if x1 ≤ 6 then (if ((x2 : Int64).toInt32) = 0 then some (.inl none, σ) else (if lj_in ((x2 : Int64).toInt32) 2002 then (if ((σ.1 96 (((x2 : Int64).toInt32).toNatClampNeg))) = 0 then (if lj_in ((x2 : Int64).toInt32) 2002 then (if lj_in (σ.1 0 157) 2004 then lj_D lm_P lm_M210 61 [.ref 0, .int x1, .long x2, .retAddr 0, .int ((x2 : Int64).toInt32)] [] (lj_put (lj_put (lj_put σ 96 (((x2 : Int64).toInt32).toNatClampNeg) (vp_nar .boolean 1)) 98 ((σ.1 0 157).toNatClampNeg) ((x2 : Int64).toInt32)) 0 157 ((σ.1 0 157) + 1)) else none) else none) else lj_D lm_P lm_M210 61 [.ref 0, .int x1, .long x2, .retAddr 0, .int ((x2 : Int64).toInt32)] [] σ) else none)) else lj_D lm_P lm_M210 11 [.ref 0, .int x1, .long x2, .retAddr 0, .retAddr 0] [] σ)) := by rw [lj_D_eq]; rfl
set_option maxRecDepth 100000 in
set_option maxHeartbeats 4000000 in
theorem km_210_11 (x1 : Int32) (x2 : Int64) (σ : lj_S) : lj_D lm_P lm_M210 11 [.ref 0, .int x1, .long x2, .retAddr 0, .retAddr 0] [] σ = some (.inl none, σ) := by rw [lj_D_eq]; rfl
set_option maxRecDepth 100000 in
set_option maxHeartbeats 4000000 in
theorem km_210_61 (x1 : Int32) (x2 : Int64) (x4 : Int32) (σ : lj_S) : lj_D lm_P lm_M210 61 [.ref 0, .int x1, .long x2, .retAddr 0, .int x4] [] σ = some (.inl none, σ) := by rw [lj_D_eq]; rfl
-- TableTongueModel.reachPart(I)V
set_option maxRecDepth 100000 in
theorem rm_211 (x1 : Int32) (σ : lj_S) : lj_R lm_P 211 [.ref 0, .int x1] σ = lj_D lm_P lm_M211 0 [.ref 0, .int x1, .retAddr 0, .retAddr 0, .retAddr 0, .retAddr 0] [] σ := lj_R_eq (nL := 6) (M := lm_M211) _ _ _ _ rfl rfl
set_option maxRecDepth 100000 in
set_option maxHeartbeats 4000000 in
theorem km_211_0 (x1 : Int32) (σ : lj_S) : lj_D lm_P lm_M211 0 [.ref 0, .int x1, .retAddr 0, .retAddr 0, .retAddr 0, .retAddr 0] [] σ = (if lj_in x1 26 then (if (σ.1 97 x1.toNatClampNeg) = 0 then (if lj_in x1 26 then (if lj_in x1 26 then (if (σ.1 58 x1.toNatClampNeg) = 0 then (if lj_in x1 26 then (if lj_in x1 26 then lj_bv (lj_R lm_P 210 [.ref 0, .int (σ.1 60 x1.toNatClampNeg), .long (σ.2 61 x1.toNatClampNeg)] (lj_put σ 97 x1.toNatClampNeg (vp_nar .boolean 1))) (fun σ1 => lj_D lm_P lm_M211 42 [.ref 0, .int x1, .retAddr 0, .retAddr 0, .retAddr 0, .retAddr 0] [] σ1) lj_up else none) else none) else lj_D lm_P lm_M211 42 [.ref 0, .int x1, .retAddr 0, .retAddr 0, .retAddr 0, .retAddr 0] [] (lj_put σ 97 x1.toNatClampNeg (vp_nar .boolean 1))) else none) else none) else some (.inl none, σ)) else none) := by rw [lj_D_eq]; rfl
set_option maxRecDepth 100000 in
set_option maxHeartbeats 4000000 in
theorem km_211_42 (x1 : Int32) (σ : lj_S) : lj_D lm_P lm_M211 42 [.ref 0, .int x1, .retAddr 0, .retAddr 0, .retAddr 0, .retAddr 0] [] σ = lj_D lm_P lm_M211 44 [.ref 0, .int x1, .int 0, .retAddr 0, .retAddr 0, .retAddr 0] [] σ := by rw [lj_D_eq]; rfl
set_option maxRecDepth 100000 in
set_option maxHeartbeats 4000000 in
theorem km_211_44 (x1 : Int32) (x2 : Int32) (σ : lj_S) : lj_D lm_P lm_M211 44 [.ref 0, .int x1, .int x2, .retAddr 0, .retAddr 0, .retAddr 0] [] σ = (if lj_in x1 26 then (if (σ.1 63 x1.toNatClampNeg) ≤ x2 then lj_D lm_P lm_M211 90 [.ref 0, .int x1, .int 0, .retAddr 0, .retAddr 0, .retAddr 0] [] σ else (if lj_in ((10000 * x1) + x2) 260000 then (if lj_in ((10000 * x1) + x2) 260000 then lj_bv (lj_R lm_P 210 [.ref 0, .int ((σ.1 71 (((10000 * x1) + x2).toNatClampNeg))), .long ((σ.2 72 (((10000 * x1) + x2).toNatClampNeg)))] σ) (fun σ1 => lj_D lm_P lm_M211 44 [.ref 0, .int x1, .int (x2 + 1), .retAddr 0, .retAddr 0, .retAddr 0] [] σ1) lj_up else none) else none)) else none) := by rw [lj_D_eq]; rfl
set_option maxRecDepth 100000 in
set_option maxHeartbeats 4000000 in
theorem km_211_90 (x1 : Int32) (x2 : Int32) (x3 : Value) (x4 : Value) (x5 : Value) (σ : lj_S) : lj_D lm_P lm_M211 90 [.ref 0, .int x1, .int x2, x3, x4, x5] [] σ = (if lj_in x1 26 then (if (σ.1 62 x1.toNatClampNeg) ≤ x2 then some (.inl none, σ) else (if lj_in ((48 * x1) + x2) 1248 then (if ((σ.1 74 (((48 * x1) + x2).toNatClampNeg))) = 0 then (if lj_in ((48 * x1) + x2) 1248 then (if ((σ.1 76 (((48 * x1) + x2).toNatClampNeg))) ≤ 0 then lj_D lm_P lm_M211 131 [.ref 0, .int x1, .int x2, .int ((48 * x1) + x2), x4, x5] [.int 0, .ref 0] σ else lj_D lm_P lm_M211 131 [.ref 0, .int x1, .int x2, .int ((48 * x1) + x2), x4, x5] [.int 5, .ref 0] σ) else none) else lj_D lm_P lm_M211 194 [.ref 0, .int x1, .int x2, .int ((48 * x1) + x2), x4, x5] [] σ) else none)) else none) := by rw [lj_D_eq]; rfl
set_option maxRecDepth 100000 in
set_option maxHeartbeats 4000000 in
theorem km_211_131 (x1 : Int32) (x2 : Int32) (x3 : Int32) (x4 : Value) (x5 : Value) (x50 : Int32) (σ : lj_S) : lj_D lm_P lm_M211 131 [.ref 0, .int x1, .int x2, .int x3, x4, x5] [.int x50, .ref 0] σ = (if lj_in x3 1248 then lj_bv (lj_R lm_P 210 [.ref 0, .int x50, .long (((σ.1 76 x3.toNatClampNeg) : Int32).toInt64)] σ) (fun σ1 => lj_D lm_P lm_M211 144 [.ref 0, .int x1, .int x2, .int x3, .int 0, x5] [] σ1) lj_up else none) := by rw [lj_D_eq]; rfl
set_option maxRecDepth 100000 in
set_option maxHeartbeats 4000000 in
theorem km_211_144 (x1 : Int32) (x2 : Int32) (x3 : Int32) (x4 : Int32) (x5 : Value) (σ : lj_S) : lj_D lm_P lm_M211 144 [.ref 0, .int x1, .int x2, .int x3, .int x4, x5] [] σ = (if 50 ≤ x4 then lj_D lm_P lm_M211 194 [.ref 0, .int x1, .int x2, .int x3, .int x4, x5] [] σ else (if lj_in ((50 * x3) + x4) 62400 then (if ((σ.1 87 (((50 * x3) + x4).toNatClampNeg))) < 0 then lj_D lm_P lm_M211 188 [.ref 0, .int x1, .int x2, .int x3, .int x4, .int ((σ.1 87 (((50 * x3) + x4).toNatClampNeg)))] [] σ else (if lj_in ((σ.1 87 (((50 * x3) + x4).toNatClampNeg))) 95000 then (if lj_in ((σ.1 87 (((50 * x3) + x4).toNatClampNeg))) 95000 then lj_bv (lj_R lm_P 210 [.ref 0, .int ((σ.1 54 (((σ.1 87 (((50 * x3) + x4).toNatClampNeg))).toNatClampNeg))), .long ((σ.2 55 (((σ.1 87 (((50 * x3) + x4).toNatClampNeg))).toNatClampNeg)))] σ) (fun σ1 => lj_D lm_P lm_M211 188 [.ref 0, .int x1, .int x2, .int x3, .int x4, .int ((σ.1 87 (((50 * x3) + x4).toNatClampNeg)))] [] σ1) lj_up else none) else none)) else none)) := by rw [lj_D_eq]; rfl
set_option maxRecDepth 100000 in
set_option maxHeartbeats 4000000 in
theorem km_211_188 (x1 : Int32) (x2 : Int32) (x3 : Int32) (x4 : Int32) (x5 : Int32) (σ : lj_S) : lj_D lm_P lm_M211 188 [.ref 0, .int x1, .int x2, .int x3, .int x4, .int x5] [] σ = lj_D lm_P lm_M211 144 [.ref 0, .int x1, .int x2, .int x3, .int (x4 + 1), .int x5] [] σ := by rw [lj_D_eq]; rfl
set_option maxRecDepth 100000 in
set_option maxHeartbeats 4000000 in
theorem km_211_194 (x1 : Int32) (x2 : Int32) (x3 : Int32) (x4 : Value) (x5 : Value) (σ : lj_S) : lj_D lm_P lm_M211 194 [.ref 0, .int x1, .int x2, .int x3, x4, x5] [] σ = (if lj_in x3 1248 then lj_D lm_P lm_M211 202 [.ref 0, .int x1, .int x2, .int x3, .int (σ.1 84 x3.toNatClampNeg), x5] [] σ else none) := by rw [lj_D_eq]; rfl
set_option maxRecDepth 100000 in
set_option maxHeartbeats 4000000 in
theorem km_211_202 (x1 : Int32) (x2 : Int32) (x3 : Int32) (x4 : Int32) (x5 : Value) (σ : lj_S) : lj_D lm_P lm_M211 202 [.ref 0, .int x1, .int x2, .int x3, .int x4, x5] [] σ = (if lj_in x3 1248 then (if (σ.1 74 x3.toNatClampNeg) = 2 then (if lj_in x3 1248 then (if (σ.1 85 x3.toNatClampNeg) ≤ x4 then lj_D lm_P lm_M211 242 [.ref 0, .int x1, .int x2, .int x3, .int x4, x5] [] σ else (if lj_in x4 4004 then lj_bv (lj_R lm_P 210 [.ref 0, .int 4, .long (((σ.1 95 x4.toNatClampNeg) : Int32).toInt64)] σ) (fun σ1 => lj_D lm_P lm_M211 202 [.ref 0, .int x1, .int x2, .int x3, .int (x4 + 1), x5] [] σ1) lj_up else none)) else none) else lj_D lm_P lm_M211 242 [.ref 0, .int x1, .int x2, .int x3, .int x4, x5] [] σ) else none) := by rw [lj_D_eq]; rfl
set_option maxRecDepth 100000 in
set_option maxHeartbeats 4000000 in
theorem km_211_242 (x1 : Int32) (x2 : Int32) (x3 : Int32) (x4 : Int32) (x5 : Value) (σ : lj_S) : lj_D lm_P lm_M211 242 [.ref 0, .int x1, .int x2, .int x3, .int x4, x5] [] σ = lj_D lm_P lm_M211 90 [.ref 0, .int x1, .int (x2 + 1), .int x3, .int x4, x5] [] σ := by rw [lj_D_eq]; rfl
-- TableTongueModel.goQueue()V
set_option maxRecDepth 100000 in
theorem rm_212  (σ : lj_S) : lj_R lm_P 212 [.ref 0] σ = lj_D lm_P lm_M212 0 [.ref 0, .retAddr 0] [] σ := lj_R_eq (nL := 2) (M := lm_M212) _ _ _ _ rfl rfl
set_option maxRecDepth 100000 in
set_option maxHeartbeats 4000000 in
theorem km_212_0 (x1 : Value) (σ : lj_S) : lj_D lm_P lm_M212 0 [.ref 0, x1] [] σ = (if (σ.1 0 157) ≤ 0 then some (.inl none, σ) else (if lj_in ((σ.1 0 157) - 1) 2004 then lj_bv (lj_R lm_P 213 [.ref 0, .int ((σ.1 98 (((σ.1 0 157) - 1).toNatClampNeg)))] (lj_put σ 0 157 ((σ.1 0 157) - 1))) (fun σ1 => lj_bv (lj_R lm_P 214 [.ref 0, .int ((σ.1 98 (((σ.1 0 157) - 1).toNatClampNeg)))] σ1) (fun σ2 => lj_D lm_P lm_M212 0 [.ref 0, .int ((σ.1 98 (((σ.1 0 157) - 1).toNatClampNeg)))] [] σ2) lj_up) lj_up else none)) := by rw [lj_D_eq]; rfl
-- TableTongueModel.reachByKey(I)V
set_option maxRecDepth 100000 in
theorem rm_213 (x1 : Int32) (σ : lj_S) : lj_R lm_P 213 [.ref 0, .int x1] σ = lj_D lm_P lm_M213 0 [.ref 0, .int x1, .retAddr 0] [] σ := lj_R_eq (nL := 3) (M := lm_M213) _ _ _ _ rfl rfl
set_option maxRecDepth 100000 in
set_option maxHeartbeats 4000000 in
theorem km_213_0 (x1 : Int32) (σ : lj_S) : lj_D lm_P lm_M213 0 [.ref 0, .int x1, .retAddr 0] [] σ = (if lj_in x1 2002 then lj_D lm_P lm_M213 7 [.ref 0, .int x1, .int (σ.1 99 x1.toNatClampNeg)] [] σ else none) := by rw [lj_D_eq]; rfl
set_option maxRecDepth 100000 in
set_option maxHeartbeats 4000000 in
theorem km_213_7 (x1 : Int32) (x2 : Int32) (σ : lj_S) : lj_D lm_P lm_M213 7 [.ref 0, .int x1, .int x2] [] σ = (if x2 < 0 then some (.inl none, σ) else (if lj_in x2 3001 then (if lj_in (σ.1 49 x2.toNatClampNeg) 2002 then (if ((σ.1 96 ((σ.1 49 x2.toNatClampNeg).toNatClampNeg))) = 0 then lj_D lm_P lm_M213 50 [.ref 0, .int x1, .int x2] [] σ else (if lj_in x2 3001 then (if (σ.1 47 x2.toNatClampNeg) = 0 then lj_D lm_P lm_M213 50 [.ref 0, .int x1, .int x2] [] σ else (if lj_in x2 3001 then (if lj_in x2 3001 then lj_bv (lj_R lm_P 210 [.ref 0, .int (σ.1 47 x2.toNatClampNeg), .long (σ.2 48 x2.toNatClampNeg)] σ) (fun σ1 => lj_D lm_P lm_M213 50 [.ref 0, .int x1, .int x2] [] σ1) lj_up else none) else none)) else none)) else none) else none)) := by rw [lj_D_eq]; rfl
set_option maxRecDepth 100000 in
set_option maxHeartbeats 4000000 in
theorem km_213_50 (x1 : Int32) (x2 : Int32) (σ : lj_S) : lj_D lm_P lm_M213 50 [.ref 0, .int x1, .int x2] [] σ = (if lj_in x2 3001 then lj_D lm_P lm_M213 7 [.ref 0, .int x1, .int (σ.1 100 x2.toNatClampNeg)] [] σ else none) := by rw [lj_D_eq]; rfl
-- TableTongueModel.reachFrom(I)V
set_option maxRecDepth 100000 in
theorem rm_214 (x1 : Int32) (σ : lj_S) : lj_R lm_P 214 [.ref 0, .int x1] σ = lj_D lm_P lm_M214 0 [.ref 0, .int x1, .retAddr 0, .retAddr 0] [] σ := lj_R_eq (nL := 4) (M := lm_M214) _ _ _ _ rfl rfl
set_option maxRecDepth 100000 in
set_option maxHeartbeats 4000000 in
theorem km_214_0 (x1 : Int32) (σ : lj_S) : lj_D lm_P lm_M214 0 [.ref 0, .int x1, .retAddr 0, .retAddr 0] [] σ = (if lj_in x1 2002 then (if (σ.1 38 x1.toNatClampNeg) = 4 then lj_bv (lj_R lm_P 215 [.ref 0, .int x1] σ) (fun σ2 => lj_D lm_P lm_M214 107 [.ref 0, .int x1, .retAddr 0, .retAddr 0] [] σ2) lj_up else (if lj_in x1 2002 then (if (σ.1 38 x1.toNatClampNeg) = 5 then lj_D lm_P lm_M214 30 [.ref 0, .int x1, .int 0, .retAddr 0] [] σ else (if lj_in x1 2002 then (if lj_in (σ.1 43 x1.toNatClampNeg) 26 then (if ((σ.1 58 ((σ.1 43 x1.toNatClampNeg).toNatClampNeg))) = 4 then lj_D lm_P lm_M214 107 [.ref 0, .int x1, .retAddr 0, .retAddr 0] [] σ else (if lj_in x1 2002 then lj_bv (lj_R lm_P 211 [.ref 0, .int (σ.1 43 x1.toNatClampNeg)] σ) (fun σ1 => lj_D lm_P lm_M214 107 [.ref 0, .int x1, .retAddr 0, .retAddr 0] [] σ1) lj_up else none)) else none) else none)) else none)) else none) := by rw [lj_D_eq]; rfl
set_option maxRecDepth 100000 in
set_option maxHeartbeats 4000000 in
theorem km_214_30 (x1 : Int32) (x2 : Int32) (x3 : Value) (σ : lj_S) : lj_D lm_P lm_M214 30 [.ref 0, .int x1, .int x2, x3] [] σ = (if lj_in x1 2002 then (if lj_in (σ.1 43 x1.toNatClampNeg) 51 then (if ((σ.1 15 ((σ.1 43 x1.toNatClampNeg).toNatClampNeg))) ≤ x2 then lj_D lm_P lm_M214 107 [.ref 0, .int x1, .int x2, x3] [] σ else (if lj_in ((30 * x1) + x2) 60060 then (if lj_in ((σ.1 44 (((30 * x1) + x2).toNatClampNeg))) 95000 then (if lj_in ((σ.1 44 (((30 * x1) + x2).toNatClampNeg))) 95000 then lj_bv (lj_R lm_P 210 [.ref 0, .int ((σ.1 54 (((σ.1 44 (((30 * x1) + x2).toNatClampNeg))).toNatClampNeg))), .long ((σ.2 55 (((σ.1 44 (((30 * x1) + x2).toNatClampNeg))).toNatClampNeg)))] σ) (fun σ1 => lj_D lm_P lm_M214 30 [.ref 0, .int x1, .int (x2 + 1), .int ((σ.1 44 (((30 * x1) + x2).toNatClampNeg)))] [] σ1) lj_up else none) else none) else none)) else none) else none) := by rw [lj_D_eq]; rfl
set_option maxRecDepth 100000 in
set_option maxHeartbeats 4000000 in
theorem km_214_107 (x1 : Int32) (x2 : Value) (x3 : Value) (σ : lj_S) : lj_D lm_P lm_M214 107 [.ref 0, .int x1, x2, x3] [] σ = some (.inl none, σ) := by rw [lj_D_eq]; rfl
-- TableTongueModel.reachTable(I)V
set_option maxRecDepth 100000 in
theorem rm_215 (x1 : Int32) (σ : lj_S) : lj_R lm_P 215 [.ref 0, .int x1] σ = lj_D lm_P lm_M215 0 [.ref 0, .int x1, .retAddr 0, .retAddr 0] [] σ := lj_R_eq (nL := 4) (M := lm_M215) _ _ _ _ rfl rfl
set_option maxRecDepth 100000 in
set_option maxHeartbeats 4000000 in
theorem km_215_0 (x1 : Int32) (σ : lj_S) : lj_D lm_P lm_M215 0 [.ref 0, .int x1, .retAddr 0, .retAddr 0] [] σ = lj_bi (lj_R lm_P 209 [.ref 0, .int x1] σ) (fun y2 σ1 => (if lj_in x1 2002 then (if (σ1.1 39 x1.toNatClampNeg) ≤ 0 then lj_D lm_P lm_M215 27 [.ref 0, .int x1, .int y2, .retAddr 0] [] σ1 else (if lj_in x1 2002 then lj_bv (lj_R lm_P 210 [.ref 0, .int 4, .long (((σ1.1 39 x1.toNatClampNeg) : Int32).toInt64)] σ1) (fun σ3 => lj_D lm_P lm_M215 27 [.ref 0, .int x1, .int y2, .retAddr 0] [] σ3) lj_up else none)) else none)) lj_up := by rw [lj_D_eq]; rfl
set_option maxRecDepth 100000 in
set_option maxHeartbeats 4000000 in
theorem km_215_27 (x1 : Int32) (x2 : Int32) (σ : lj_S) : lj_D lm_P lm_M215 27 [.ref 0, .int x1, .int x2, .retAddr 0] [] σ = (if lj_in x1 2002 then lj_D lm_P lm_M215 34 [.ref 0, .int x1, .int x2, .int (σ.1 40 x1.toNatClampNeg)] [] σ else none) := by rw [lj_D_eq]; rfl
set_option maxRecDepth 100000 in
set_option maxHeartbeats 4000000 in
theorem km_215_34 (x1 : Int32) (x2 : Int32) (x3 : Int32) (σ : lj_S) : lj_D lm_P lm_M215 34 [.ref 0, .int x1, .int x2, .int x3] [] σ = (if x3 < 0 then some (.inl none, σ) else (if lj_in x3 3001 then (if (σ.1 47 x3.toNatClampNeg) = 0 then lj_D lm_P lm_M215 113 [.ref 0, .int x1, .int x2, .int x3] [] σ else (if (x2 &&& 1) = 0 then (if lj_in x3 3001 then (if lj_in x3 3001 then lj_bv (lj_R lm_P 210 [.ref 0, .int (σ.1 45 x3.toNatClampNeg), .long (σ.2 46 x3.toNatClampNeg)] σ) (fun σ1 => lj_D lm_P lm_M215 69 [.ref 0, .int x1, .int x2, .int x3] [] σ1) lj_up else none) else none) else lj_D lm_P lm_M215 69 [.ref 0, .int x1, .int x2, .int x3] [] σ)) else none)) := by rw [lj_D_eq]; rfl
set_option maxRecDepth 100000 in
set_option maxHeartbeats 4000000 in
theorem km_215_69 (x1 : Int32) (x2 : Int32) (x3 : Int32) (σ : lj_S) : lj_D lm_P lm_M215 69 [.ref 0, .int x1, .int x2, .int x3] [] σ = (if x2 = 0 then lj_D lm_P lm_M215 97 [.ref 0, .int x1, .int x2, .int x3] [] σ else (if x2 = 1 then (if lj_in x3 3001 then (if lj_in x3 3001 then lj_bi (lj_R lm_P 216 [.ref 0, .int (σ.1 45 x3.toNatClampNeg), .long (σ.2 46 x3.toNatClampNeg)] σ) (fun y2 σ1 => (if y2 = 0 then lj_D lm_P lm_M215 97 [.ref 0, .int x1, .int x2, .int x3] [] σ1 else lj_D lm_P lm_M215 113 [.ref 0, .int x1, .int x2, .int x3] [] σ1)) lj_up else none) else none) else lj_D lm_P lm_M215 113 [.ref 0, .int x1, .int x2, .int x3] [] σ)) := by rw [lj_D_eq]; rfl
set_option maxRecDepth 100000 in
set_option maxHeartbeats 4000000 in
theorem km_215_97 (x1 : Int32) (x2 : Int32) (x3 : Int32) (σ : lj_S) : lj_D lm_P lm_M215 97 [.ref 0, .int x1, .int x2, .int x3] [] σ = (if lj_in x3 3001 then (if lj_in x3 3001 then lj_bv (lj_R lm_P 210 [.ref 0, .int (σ.1 47 x3.toNatClampNeg), .long (σ.2 48 x3.toNatClampNeg)] σ) (fun σ1 => lj_D lm_P lm_M215 113 [.ref 0, .int x1, .int x2, .int x3] [] σ1) lj_up else none) else none) := by rw [lj_D_eq]; rfl
set_option maxRecDepth 100000 in
set_option maxHeartbeats 4000000 in
theorem km_215_113 (x1 : Int32) (x2 : Int32) (x3 : Int32) (σ : lj_S) : lj_D lm_P lm_M215 113 [.ref 0, .int x1, .int x2, .int x3] [] σ = (if lj_in x3 3001 then lj_D lm_P lm_M215 34 [.ref 0, .int x1, .int x2, .int (σ.1 50 x3.toNatClampNeg)] [] σ else none) := by rw [lj_D_eq]; rfl
-- TableTongueModel.isLost(IJ)Z
set_option maxRecDepth 100000 in
theorem rm_216 (x1 : Int32) (x2 : Int64) (σ : lj_S) : lj_R lm_P 216 [.ref 0, .int x1, .long x2] σ = lj_D lm_P lm_M216 0 [.ref 0, .int x1, .long x2, .retAddr 0] [] σ := lj_R_eq (nL := 4) (M := lm_M216) _ _ _ _ rfl rfl
set_option maxRecDepth 100000 in
set_option maxHeartbeats 4000000 in
theorem km_216_0 (x1 : Int32) (x2 : Int64) (σ : lj_S) : lj_D lm_P lm_M216 0 [.ref 0, .int x1, .long x2, .retAddr 0] [] σ = (if x1 < 4 then lj_D lm_P lm_M216 31 [.ref 0, .int x1, .long x2, .retAddr 0] [] σ else (if 6 < x1 then lj_D lm_P lm_M216 31 [.ref 0, .int x1, .long x2, .retAddr 0] [] σ else (if (lg_cmp x2 0) ≤ 0 then lj_D lm_P lm_M216 31 [.ref 0, .int x1, .long x2, .retAddr 0] [] σ else (if lj_in ((x2 : Int64).toInt32) 2002 then (if ((σ.1 96 (((x2 : Int64).toInt32).toNatClampNeg))) = 0 then lj_D lm_P lm_M216 32 [.ref 0, .int x1, .long x2, .retAddr 0] [.int 1] σ else lj_D lm_P lm_M216 31 [.ref 0, .int x1, .long x2, .retAddr 0] [] σ) else none)))) := by rw [lj_D_eq]; rfl
set_option maxRecDepth 100000 in
set_option maxHeartbeats 4000000 in
theorem km_216_31 (x1 : Int32) (x2 : Int64) (σ : lj_S) : lj_D lm_P lm_M216 31 [.ref 0, .int x1, .long x2, .retAddr 0] [] σ = lj_D lm_P lm_M216 32 [.ref 0, .int x1, .long x2, .retAddr 0] [.int 0] σ := by rw [lj_D_eq]; rfl
set_option maxRecDepth 100000 in
set_option maxHeartbeats 4000000 in
theorem km_216_32 (x1 : Int32) (x2 : Int64) (x50 : Int32) (σ : lj_S) : lj_D lm_P lm_M216 32 [.ref 0, .int x1, .long x2, .retAddr 0] [.int x50] σ = some (.inl (some (.int (vp_nar .boolean x50))), σ) := by rw [lj_D_eq]; rfl
-- TableTongueModel.dropPairs(Z)V
set_option maxRecDepth 100000 in
theorem rm_217 (x1 : Int32) (σ : lj_S) : lj_R lm_P 217 [.ref 0, .int x1] σ = lj_D lm_P lm_M217 0 [.ref 0, .int x1, .retAddr 0, .retAddr 0, .retAddr 0, .retAddr 0] [] σ := lj_R_eq (nL := 6) (M := lm_M217) _ _ _ _ rfl rfl
set_option maxRecDepth 100000 in
set_option maxHeartbeats 4000000 in
theorem km_217_0 (x1 : Int32) (σ : lj_S) : lj_D lm_P lm_M217 0 [.ref 0, .int x1, .retAddr 0, .retAddr 0, .retAddr 0, .retAddr 0] [] σ = lj_D lm_P lm_M217 2 [.ref 0, .int x1, .int 1, .retAddr 0, .retAddr 0, .retAddr 0] [] σ := by rw [lj_D_eq]; rfl
set_option maxRecDepth 100000 in
set_option maxHeartbeats 4000000 in
theorem km_217_2 (x1 : Int32) (x2 : Int32) (x3 : Value) (x4 : Value) (x5 : Value) (σ : lj_S) : lj_D lm_P lm_M217 2 [.ref 0, .int x1, .int x2, x3, x4, x5] [] σ = (if (σ.1 0 77) < x2 then some (.inl none, σ) else (if lj_in x2 2002 then (if (σ.1 38 x2.toNatClampNeg) = 4 then lj_bi (lj_R lm_P 209 [.ref 0, .int x2] σ) (fun y2 σ1 => lj_D lm_P lm_M217 29 [.ref 0, .int x1, .int x2, x3, x4, x5] [.int y2] σ1) lj_up else lj_D lm_P lm_M217 29 [.ref 0, .int x1, .int x2, x3, x4, x5] [.int 0] σ) else none)) := by rw [lj_D_eq]; rfl
set_option maxRecDepth 100000 in
set_option maxHeartbeats 4000000 in
theorem km_217_29 (x1 : Int32) (x2 : Int32) (x3 : Value) (x4 : Value) (x5 : Value) (x50 : Int32) (σ : lj_S) : lj_D lm_P lm_M217 29 [.ref 0, .int x1, .int x2, x3, x4, x5] [.int x50] σ = (if x50 ≤ 0 then lj_D lm_P lm_M217 44 [.ref 0, .int x1, .int x2, .int x50, x4, x5] [.int (-1)] σ else (if lj_in x2 2002 then lj_D lm_P lm_M217 44 [.ref 0, .int x1, .int x2, .int x50, x4, x5] [.int (σ.1 40 x2.toNatClampNeg)] σ else none)) := by rw [lj_D_eq]; rfl
set_option maxRecDepth 100000 in
set_option maxHeartbeats 4000000 in
theorem km_217_44 (x1 : Int32) (x2 : Int32) (x3 : Int32) (x4 : Value) (x5 : Value) (x50 : Int32) (σ : lj_S) : lj_D lm_P lm_M217 44 [.ref 0, .int x1, .int x2, .int x3, x4, x5] [.int x50] σ = lj_D lm_P lm_M217 46 [.ref 0, .int x1, .int x2, .int x3, .int x50, x5] [] σ := by rw [lj_D_eq]; rfl
set_option maxRecDepth 100000 in
set_option maxHeartbeats 4000000 in
theorem km_217_46 (x1 : Int32) (x2 : Int32) (x3 : Int32) (x4 : Int32) (x5 : Value) (σ : lj_S) : lj_D lm_P lm_M217 46 [.ref 0, .int x1, .int x2, .int x3, .int x4, x5] [] σ = (if x4 < 0 then lj_D lm_P lm_M217 2 [.ref 0, .int x1, .int (x2 + 1), .int x3, .int x4, x5] [] σ else (if (x3 &&& 2) ≤ 0 then lj_D lm_P lm_M217 78 [.ref 0, .int x1, .int x2, .int x3, .int x4, x5] [] σ else (if lj_in x4 3001 then (if lj_in x4 3001 then lj_bi (lj_R lm_P 216 [.ref 0, .int (σ.1 47 x4.toNatClampNeg), .long (σ.2 48 x4.toNatClampNeg)] σ) (fun y2 σ1 => (if y2 = 0 then lj_D lm_P lm_M217 78 [.ref 0, .int x1, .int x2, .int x3, .int x4, x5] [] σ1 else lj_D lm_P lm_M217 109 [.ref 0, .int x1, .int x2, .int x3, .int x4, x5] [] σ1)) lj_up else none) else none))) := by rw [lj_D_eq]; rfl
set_option maxRecDepth 100000 in
set_option maxHeartbeats 4000000 in
theorem km_217_78 (x1 : Int32) (x2 : Int32) (x3 : Int32) (x4 : Int32) (x5 : Value) (σ : lj_S) : lj_D lm_P lm_M217 78 [.ref 0, .int x1, .int x2, .int x3, .int x4, x5] [] σ = (if x1 = 0 then lj_D lm_P lm_M217 113 [.ref 0, .int x1, .int x2, .int x3, .int x4, x5] [] σ else (if (x3 &&& 1) ≤ 0 then lj_D lm_P lm_M217 113 [.ref 0, .int x1, .int x2, .int x3, .int x4, x5] [] σ else (if lj_in x4 3001 then (if lj_in x4 3001 then lj_bi (lj_R lm_P 216 [.ref 0, .int (σ.1 45 x4.toNatClampNeg), .long (σ.2 46 x4.toNatClampNeg)] σ) (fun y2 σ1 => (if y2 = 0 then lj_D lm_P lm_M217 113 [.ref 0, .int x1, .int x2, .int x3, .int x4, x5] [] σ1 else lj_D lm_P lm_M217 109 [.ref 0, .int x1, .int x2, .int x3, .int x4, x5] [] σ1)) lj_up else none) else none))) := by rw [lj_D_eq]; rfl
set_option maxRecDepth 100000 in
set_option maxHeartbeats 4000000 in
theorem km_217_109 (x1 : Int32) (x2 : Int32) (x3 : Int32) (x4 : Int32) (x5 : Value) (σ : lj_S) : lj_D lm_P lm_M217 109 [.ref 0, .int x1, .int x2, .int x3, .int x4, x5] [] σ = lj_D lm_P lm_M217 114 [.ref 0, .int x1, .int x2, .int x3, .int x4, x5] [.int 1] σ := by rw [lj_D_eq]; rfl
set_option maxRecDepth 100000 in
set_option maxHeartbeats 4000000 in
theorem km_217_113 (x1 : Int32) (x2 : Int32) (x3 : Int32) (x4 : Int32) (x5 : Value) (σ : lj_S) : lj_D lm_P lm_M217 113 [.ref 0, .int x1, .int x2, .int x3, .int x4, x5] [] σ = lj_D lm_P lm_M217 114 [.ref 0, .int x1, .int x2, .int x3, .int x4, x5] [.int 0] σ := by rw [lj_D_eq]; rfl
set_option maxRecDepth 100000 in
set_option maxHeartbeats 4000000 in
theorem km_217_114 (x1 : Int32) (x2 : Int32) (x3 : Int32) (x4 : Int32) (x5 : Value) (x50 : Int32) (σ : lj_S) : lj_D lm_P lm_M217 114 [.ref 0, .int x1, .int x2, .int x3, .int x4, x5] [.int x50] σ = (if lj_in x4 3001 then (if (σ.1 47 x4.toNatClampNeg) = 0 then lj_D lm_P lm_M217 139 [.ref 0, .int x1, .int x2, .int x3, .int x4, .int x50] [] σ else (if x50 = 0 then lj_D lm_P lm_M217 139 [.ref 0, .int x1, .int x2, .int x3, .int x4, .int x50] [] σ else (if lj_in x4 3001 then lj_D lm_P lm_M217 139 [.ref 0, .int x1, .int x2, .int x3, .int x4, .int x50] [] (lj_put σ 47 x4.toNatClampNeg 0) else none))) else none) := by rw [lj_D_eq]; rfl
set_option maxRecDepth 100000 in
set_option maxHeartbeats 4000000 in
theorem km_217_139 (x1 : Int32) (x2 : Int32) (x3 : Int32) (x4 : Int32) (x5 : Int32) (σ : lj_S) : lj_D lm_P lm_M217 139 [.ref 0, .int x1, .int x2, .int x3, .int x4, .int x5] [] σ = (if lj_in x4 3001 then lj_D lm_P lm_M217 46 [.ref 0, .int x1, .int x2, .int x3, .int (σ.1 50 x4.toNatClampNeg), .int x5] [] σ else none) := by rw [lj_D_eq]; rfl
-- TableTongueModel.noteActs()V
set_option maxRecDepth 100000 in
theorem rm_218  (σ : lj_S) : lj_R lm_P 218 [.ref 0] σ = lj_D lm_P lm_M218 0 [.ref 0, .retAddr 0, .retAddr 0, .retAddr 0, .retAddr 0, .retAddr 0] [] σ := lj_R_eq (nL := 6) (M := lm_M218) _ _ _ _ rfl rfl
set_option maxRecDepth 100000 in
set_option maxHeartbeats 4000000 in
theorem km_218_0  (σ : lj_S) : lj_D lm_P lm_M218 0 [.ref 0, .retAddr 0, .retAddr 0, .retAddr 0, .retAddr 0, .retAddr 0] [] σ = lj_D lm_P lm_M218 7 [.ref 0, .int (σ.1 0 152), .int 1, .retAddr 0, .retAddr 0, .retAddr 0] [] σ := by rw [lj_D_eq]; rfl
set_option maxRecDepth 100000 in
set_option maxHeartbeats 4000000 in
theorem km_218_7 (x1 : Int32) (x2 : Int32) (x3 : Value) (x4 : Value) (σ : lj_S) : lj_D lm_P lm_M218 7 [.ref 0, .int x1, .int x2, x3, x4, .retAddr 0] [] σ = (if x2 = 0 then lj_D lm_P lm_M218 142 [.ref 0, .int x1, .int x2, .int x1, .int ((σ.1 0 152) - 1), .retAddr 0] [] σ else lj_D lm_P lm_M218 16 [.ref 0, .int x1, .int x2, .int 0, .int 1, .retAddr 0] [] σ) := by rw [lj_D_eq]; rfl
set_option maxRecDepth 100000 in
set_option maxHeartbeats 4000000 in
theorem km_218_16 (x1 : Int32) (x2 : Int32) (x3 : Int32) (x4 : Int32) (σ : lj_S) : lj_D lm_P lm_M218 16 [.ref 0, .int x1, .int x2, .int x3, .int x4, .retAddr 0] [] σ = (if (σ.1 0 77) < x4 then (if x3 ≤ 0 then lj_D lm_P lm_M218 97 [.ref 0, .int x1, .int x2, .int x3, .int x4, .retAddr 0] [.int 0] σ else lj_D lm_P lm_M218 97 [.ref 0, .int x1, .int x2, .int x3, .int x4, .retAddr 0] [.int 1] σ) else (if lj_in x4 2002 then (if (σ.1 38 x4.toNatClampNeg) = 4 then (if lj_in x4 2002 then (if (lg_cmp (σ.2 42 x4.toNatClampNeg) 0) ≤ 0 then lj_D lm_P lm_M218 82 [.ref 0, .int x1, .int x2, .int x3, .int x4, .retAddr 0] [] σ else (if lj_in x4 2002 then (if (σ.1 96 x4.toNatClampNeg) = 0 then (if x3 = 0 then lj_D lm_P lm_M218 79 [.ref 0, .int x1, .int x2, .int x3, .int x4, .retAddr 0] [] σ else (if lj_in x4 2002 then (if lj_in x3 2002 then (if (lg_cmp (σ.2 42 x4.toNatClampNeg) (σ.2 42 x3.toNatClampNeg)) ≤ 0 then lj_D lm_P lm_M218 82 [.ref 0, .int x1, .int x2, .int x3, .int x4, .retAddr 0] [] σ else lj_D lm_P lm_M218 79 [.ref 0, .int x1, .int x2, .int x3, .int x4, .retAddr 0] [] σ) else none) else none)) else lj_D lm_P lm_M218 82 [.ref 0, .int x1, .int x2, .int x3, .int x4, .retAddr 0] [] σ) else none)) else none) else lj_D lm_P lm_M218 82 [.ref 0, .int x1, .int x2, .int x3, .int x4, .retAddr 0] [] σ) else none)) := by rw [lj_D_eq]; rfl
set_option maxRecDepth 100000 in
set_option maxHeartbeats 4000000 in
theorem km_218_79 (x1 : Int32) (x2 : Int32) (x3 : Int32) (x4 : Int32) (σ : lj_S) : lj_D lm_P lm_M218 79 [.ref 0, .int x1, .int x2, .int x3, .int x4, .retAddr 0] [] σ = lj_D lm_P lm_M218 82 [.ref 0, .int x1, .int x2, .int x4, .int x4, .retAddr 0] [] σ := by rw [lj_D_eq]; rfl
set_option maxRecDepth 100000 in
set_option maxHeartbeats 4000000 in
theorem km_218_82 (x1 : Int32) (x2 : Int32) (x3 : Int32) (x4 : Int32) (σ : lj_S) : lj_D lm_P lm_M218 82 [.ref 0, .int x1, .int x2, .int x3, .int x4, .retAddr 0] [] σ = lj_D lm_P lm_M218 16 [.ref 0, .int x1, .int x2, .int x3, .int (x4 + 1), .retAddr 0] [] σ := by rw [lj_D_eq]; rfl
set_option maxRecDepth 100000 in
set_option maxHeartbeats 4000000 in
theorem km_218_97 (x1 : Int32) (x2 : Int32) (x3 : Int32) (x4 : Int32) (x50 : Int32) (σ : lj_S) : lj_D lm_P lm_M218 97 [.ref 0, .int x1, .int x2, .int x3, .int x4, .retAddr 0] [.int x50] σ = (if x50 = 0 then lj_D lm_P lm_M218 129 [.ref 0, .int x1, .int x50, .int x3, .int x4, .retAddr 0] [] σ else (if lj_in x3 2002 then (if lj_in (σ.1 0 152) 4004 then lj_D lm_P lm_M218 129 [.ref 0, .int x1, .int x50, .int x3, .int x4, .retAddr 0] [] (lj_put (lj_put (lj_putL σ 42 x3.toNatClampNeg 0) 95 ((σ.1 0 152).toNatClampNeg) x3) 0 152 ((σ.1 0 152) + 1)) else none) else none)) := by rw [lj_D_eq]; rfl
set_option maxRecDepth 100000 in
set_option maxHeartbeats 4000000 in
theorem km_218_129 (x1 : Int32) (x2 : Int32) (x3 : Int32) (x4 : Int32) (σ : lj_S) : lj_D lm_P lm_M218 129 [.ref 0, .int x1, .int x2, .int x3, .int x4, .retAddr 0] [] σ = lj_D lm_P lm_M218 7 [.ref 0, .int x1, .int x2, .int x3, .int x4, .retAddr 0] [] σ := by rw [lj_D_eq]; rfl
set_option maxRecDepth 100000 in
set_option maxHeartbeats 4000000 in
theorem km_218_142 (x1 : Int32) (x2 : Int32) (x3 : Int32) (x4 : Int32) (x5 : Value) (σ : lj_S) : lj_D lm_P lm_M218 142 [.ref 0, .int x1, .int x2, .int x3, .int x4, x5] [] σ = (if x4 ≤ x3 then lj_D lm_P lm_M218 189 [.ref 0, .int x1, .int x2, .int x1, .int x4, x5] [] σ else (if lj_in x3 4004 then (if lj_in x4 4004 then (if lj_in x3 4004 then (if lj_in x4 4004 then lj_D lm_P lm_M218 142 [.ref 0, .int x1, .int x2, .int (x3 + 1), .int (x4 + (-1)), .int (σ.1 95 x3.toNatClampNeg)] [] (lj_put (lj_put σ 95 x3.toNatClampNeg (σ.1 95 x4.toNatClampNeg)) 95 x4.toNatClampNeg (σ.1 95 x3.toNatClampNeg)) else none) else none) else none) else none)) := by rw [lj_D_eq]; rfl
set_option maxRecDepth 100000 in
set_option maxHeartbeats 4000000 in
theorem km_218_189 (x1 : Int32) (x2 : Int32) (x3 : Int32) (x4 : Int32) (x5 : Value) (σ : lj_S) : lj_D lm_P lm_M218 189 [.ref 0, .int x1, .int x2, .int x3, .int x4, x5] [] σ = (if (σ.1 0 152) ≤ x3 then lj_bv (lj_R lm_P 212 [.ref 0] σ) (fun σ1 => some (.inl none, σ1)) lj_up else (if lj_in x3 4004 then lj_bv (lj_R lm_P 210 [.ref 0, .int 4, .long (((σ.1 95 x3.toNatClampNeg) : Int32).toInt64)] σ) (fun σ2 => lj_D lm_P lm_M218 189 [.ref 0, .int x1, .int x2, .int (x3 + 1), .int x4, x5] [] σ2) lj_up else none)) := by rw [lj_D_eq]; rfl
-- TableTongueModel.takeAway()I
set_option maxRecDepth 100000 in
theorem rm_219  (σ : lj_S) : lj_R lm_P 219 [.ref 0] σ = lj_D lm_P lm_M219 0 [.ref 0, .retAddr 0, .retAddr 0, .retAddr 0] [] σ := lj_R_eq (nL := 4) (M := lm_M219) _ _ _ _ rfl rfl
set_option maxRecDepth 100000 in
set_option maxHeartbeats 4000000 in
theorem km_219_0  (σ : lj_S) : lj_D lm_P lm_M219 0 [.ref 0, .retAddr 0, .retAddr 0, .retAddr 0] [] σ = lj_D lm_P lm_M219 4 [.ref 0, .int 0, .int 1, .retAddr 0] [] σ := by rw [lj_D_eq]; rfl
set_option maxRecDepth 100000 in
set_option maxHeartbeats 4000000 in
theorem km_219_4 (x1 : Int32) (x2 : Int32) (x3 : Value) (σ : lj_S) : lj_D lm_P lm_M219 4 [.ref 0, .int x1, .int x2, x3] [] σ = (if (σ.1 0 77) < x2 then lj_bv (lj_R lm_P 220 [.ref 0] σ) (fun σ1 => lj_D lm_P lm_M219 133 [.ref 0, .int x1, .int 1, x3] [] σ1) lj_up else (if lj_in x2 2002 then (if (σ.1 38 x2.toNatClampNeg) ≤ 0 then lj_D lm_P lm_M219 121 [.ref 0, .int x1, .int x2, x3] [] σ else (if lj_in x2 2002 then (if (σ.1 96 x2.toNatClampNeg) = 0 then (if lj_in x2 2002 then (if (σ.1 38 x2.toNatClampNeg) = 4 then (if lj_in x2 2002 then lj_D lm_P lm_M219 50 [.ref 0, .int (x1 + 1), .int x2, .int (σ.1 40 x2.toNatClampNeg)] [] σ else none) else (if lj_in x2 2002 then (if (σ.1 38 x2.toNatClampNeg) = 6 then (if lj_in x2 2002 then (if lj_in (σ.1 43 x2.toNatClampNeg) 26 then (if lj_in x2 2002 then (if lj_in (σ.1 43 x2.toNatClampNeg) 26 then (if lj_in x2 2002 then (if lj_in (σ.1 43 x2.toNatClampNeg) 26 then lj_D lm_P lm_M219 121 [.ref 0, .int (x1 + 1), .int x2, x3] [] (lj_put (lj_put (lj_put σ 58 ((σ.1 43 x2.toNatClampNeg).toNatClampNeg) 4) 62 ((σ.1 43 x2.toNatClampNeg).toNatClampNeg) 0) 63 ((σ.1 43 x2.toNatClampNeg).toNatClampNeg) 0) else none) else none) else none) else none) else none) else none) else lj_D lm_P lm_M219 121 [.ref 0, .int (x1 + 1), .int x2, x3] [] σ) else none)) else none) else lj_D lm_P lm_M219 121 [.ref 0, .int x1, .int x2, x3] [] σ) else none)) else none)) := by rw [lj_D_eq]; rfl
set_option maxRecDepth 100000 in
set_option maxHeartbeats 4000000 in
theorem km_219_50 (x1 : Int32) (x2 : Int32) (x3 : Int32) (σ : lj_S) : lj_D lm_P lm_M219 50 [.ref 0, .int x1, .int x2, .int x3] [] σ = (if x3 < 0 then lj_D lm_P lm_M219 121 [.ref 0, .int x1, .int x2, .int x3] [] σ else (if lj_in x3 3001 then (if lj_in x3 3001 then lj_D lm_P lm_M219 50 [.ref 0, .int x1, .int x2, .int (σ.1 50 x3.toNatClampNeg)] [] (lj_put σ 47 x3.toNatClampNeg 0) else none) else none)) := by rw [lj_D_eq]; rfl
set_option maxRecDepth 100000 in
set_option maxHeartbeats 4000000 in
theorem km_219_121 (x1 : Int32) (x2 : Int32) (x3 : Value) (σ : lj_S) : lj_D lm_P lm_M219 121 [.ref 0, .int x1, .int x2, x3] [] σ = lj_D lm_P lm_M219 4 [.ref 0, .int x1, .int (x2 + 1), x3] [] σ := by rw [lj_D_eq]; rfl
set_option maxRecDepth 100000 in
set_option maxHeartbeats 4000000 in
theorem km_219_133 (x1 : Int32) (x2 : Int32) (x3 : Value) (σ : lj_S) : lj_D lm_P lm_M219 133 [.ref 0, .int x1, .int x2, x3] [] σ = (if (σ.1 0 77) < x2 then some (.inl (some (.int x1)), σ) else (if lj_in x2 2002 then (if (σ.1 38 x2.toNatClampNeg) ≤ 0 then lj_D lm_P lm_M219 173 [.ref 0, .int x1, .int x2, x3] [] σ else (if lj_in x2 2002 then (if (σ.1 96 x2.toNatClampNeg) = 0 then (if lj_in x2 2002 then (if lj_in x2 2002 then lj_D lm_P lm_M219 173 [.ref 0, .int x1, .int x2, x3] [] (lj_putL (lj_put σ 38 x2.toNatClampNeg 0) 42 x2.toNatClampNeg 0) else none) else none) else lj_D lm_P lm_M219 173 [.ref 0, .int x1, .int x2, x3] [] σ) else none)) else none)) := by rw [lj_D_eq]; rfl
set_option maxRecDepth 100000 in
set_option maxHeartbeats 4000000 in
theorem km_219_173 (x1 : Int32) (x2 : Int32) (x3 : Value) (σ : lj_S) : lj_D lm_P lm_M219 173 [.ref 0, .int x1, .int x2, x3] [] σ = lj_D lm_P lm_M219 133 [.ref 0, .int x1, .int (x2 + 1), x3] [] σ := by rw [lj_D_eq]; rfl
-- TableTongueModel.rebuild()V
set_option maxRecDepth 100000 in
theorem rm_220  (σ : lj_S) : lj_R lm_P 220 [.ref 0] σ = lj_D lm_P lm_M220 0 [.ref 0, .retAddr 0, .retAddr 0, .retAddr 0, .retAddr 0, .retAddr 0, .retAddr 0] [] σ := lj_R_eq (nL := 7) (M := lm_M220) _ _ _ _ rfl rfl
set_option maxRecDepth 100000 in
set_option maxHeartbeats 4000000 in
theorem km_220_0  (σ : lj_S) : lj_D lm_P lm_M220 0 [.ref 0, .retAddr 0, .retAddr 0, .retAddr 0, .retAddr 0, .retAddr 0, .retAddr 0] [] σ = lj_D lm_P lm_M220 2 [.ref 0, .int 0, .retAddr 0, .retAddr 0, .retAddr 0, .retAddr 0, .retAddr 0] [] σ := by rw [lj_D_eq]; rfl
set_option maxRecDepth 100000 in
set_option maxHeartbeats 4000000 in
theorem km_220_2 (x1 : Int32) (σ : lj_S) : lj_D lm_P lm_M220 2 [.ref 0, .int x1, .retAddr 0, .retAddr 0, .retAddr 0, .retAddr 0, .retAddr 0] [] σ = (if 4096 ≤ x1 then lj_D lm_P lm_M220 24 [.ref 0, .int 1, .retAddr 0, .retAddr 0, .retAddr 0, .retAddr 0, .retAddr 0] [] σ else (if lj_in x1 4096 then lj_D lm_P lm_M220 2 [.ref 0, .int (x1 + 1), .retAddr 0, .retAddr 0, .retAddr 0, .retAddr 0, .retAddr 0] [] (lj_put σ 52 x1.toNatClampNeg (-1)) else none)) := by rw [lj_D_eq]; rfl
set_option maxRecDepth 100000 in
set_option maxHeartbeats 4000000 in
theorem km_220_24 (x1 : Int32) (x2 : Value) (x3 : Value) (x4 : Value) (x5 : Value) (x6 : Value) (σ : lj_S) : lj_D lm_P lm_M220 24 [.ref 0, .int x1, x2, x3, x4, x5, x6] [] σ = (if 2001 < x1 then some (.inl none, σ) else (if x1 = 2001 then lj_D lm_P lm_M220 56 [.ref 0, .int x1, x2, x3, x4, x5, x6] [] σ else (if (σ.1 0 77) < x1 then lj_D lm_P lm_M220 60 [.ref 0, .int x1, x2, x3, x4, x5, x6] [] σ else (if lj_in x1 2002 then (if (σ.1 38 x1.toNatClampNeg) = 4 then lj_D lm_P lm_M220 56 [.ref 0, .int x1, x2, x3, x4, x5, x6] [] σ else lj_D lm_P lm_M220 60 [.ref 0, .int x1, x2, x3, x4, x5, x6] [] σ) else none)))) := by rw [lj_D_eq]; rfl
set_option maxRecDepth 100000 in
set_option maxHeartbeats 4000000 in
theorem km_220_56 (x1 : Int32) (x2 : Value) (x3 : Value) (x4 : Value) (x5 : Value) (x6 : Value) (σ : lj_S) : lj_D lm_P lm_M220 56 [.ref 0, .int x1, x2, x3, x4, x5, x6] [] σ = lj_D lm_P lm_M220 61 [.ref 0, .int x1, x2, x3, x4, x5, x6] [.int 1] σ := by rw [lj_D_eq]; rfl
set_option maxRecDepth 100000 in
set_option maxHeartbeats 4000000 in
theorem km_220_60 (x1 : Int32) (x2 : Value) (x3 : Value) (x4 : Value) (x5 : Value) (x6 : Value) (σ : lj_S) : lj_D lm_P lm_M220 60 [.ref 0, .int x1, x2, x3, x4, x5, x6] [] σ = lj_D lm_P lm_M220 61 [.ref 0, .int x1, x2, x3, x4, x5, x6] [.int 0] σ := by rw [lj_D_eq]; rfl
set_option maxRecDepth 100000 in
set_option maxHeartbeats 4000000 in
theorem km_220_61 (x1 : Int32) (x2 : Value) (x3 : Value) (x4 : Value) (x5 : Value) (x6 : Value) (x50 : Int32) (σ : lj_S) : lj_D lm_P lm_M220 61 [.ref 0, .int x1, x2, x3, x4, x5, x6] [.int x50] σ = (if x50 = 0 then lj_D lm_P lm_M220 76 [.ref 0, .int x1, .int x50, x3, x4, x5, x6] [.int (-1)] σ else (if lj_in x1 2002 then lj_D lm_P lm_M220 76 [.ref 0, .int x1, .int x50, x3, x4, x5, x6] [.int (σ.1 40 x1.toNatClampNeg)] σ else none)) := by rw [lj_D_eq]; rfl
set_option maxRecDepth 100000 in
set_option maxHeartbeats 4000000 in
theorem km_220_76 (x1 : Int32) (x2 : Int32) (x3 : Value) (x4 : Value) (x5 : Value) (x6 : Value) (x50 : Int32) (σ : lj_S) : lj_D lm_P lm_M220 76 [.ref 0, .int x1, .int x2, x3, x4, x5, x6] [.int x50] σ = (if x2 = 0 then lj_D lm_P lm_M220 91 [.ref 0, .int x1, .int x2, .int x50, .int (-1), x5, x6] [] σ else (if lj_in x1 2002 then lj_D lm_P lm_M220 91 [.ref 0, .int x1, .int x2, .int x50, .int (-1), x5, x6] [] (lj_put σ 40 x1.toNatClampNeg (-1)) else none)) := by rw [lj_D_eq]; rfl
set_option maxRecDepth 100000 in
set_option maxHeartbeats 4000000 in
theorem km_220_91 (x1 : Int32) (x2 : Int32) (x3 : Int32) (x4 : Int32) (x5 : Value) (x6 : Value) (σ : lj_S) : lj_D lm_P lm_M220 91 [.ref 0, .int x1, .int x2, .int x3, .int x4, x5, x6] [] σ = (if x3 < 0 then (if x2 = 0 then lj_D lm_P lm_M220 235 [.ref 0, .int x1, .int x2, .int x3, .int x4, x5, x6] [] σ else (if lj_in x1 2002 then lj_D lm_P lm_M220 235 [.ref 0, .int x1, .int x2, .int x3, .int x4, x5, x6] [] (lj_put σ 41 x1.toNatClampNeg x4) else none)) else (if lj_in x3 3001 then (if lj_in x3 3001 then (if (σ.1 47 x3.toNatClampNeg) = 0 then (if lj_in (σ.1 0 88) 3001 then lj_D lm_P lm_M220 217 [.ref 0, .int x1, .int x2, .int x3, .int x4, .int (σ.1 50 x3.toNatClampNeg), x6] [] (lj_put (lj_put (lj_put σ 53 ((σ.1 0 88).toNatClampNeg) x3) 0 88 ((σ.1 0 88) + 1)) 0 89 ((σ.1 0 89) - 1)) else none) else (if 0 ≤ x4 then (if lj_in x4 3001 then lj_D lm_P lm_M220 168 [.ref 0, .int x1, .int x2, .int x3, .int x4, .int (σ.1 50 x3.toNatClampNeg), x6] [] (lj_put σ 50 x4.toNatClampNeg x3) else none) else (if lj_in x1 2002 then lj_D lm_P lm_M220 168 [.ref 0, .int x1, .int x2, .int x3, .int x4, .int (σ.1 50 x3.toNatClampNeg), x6] [] (lj_put σ 40 x1.toNatClampNeg x3) else none))) else none) else none)) := by rw [lj_D_eq]; rfl
set_option maxRecDepth 100000 in
set_option maxHeartbeats 4000000 in
theorem km_220_168 (x1 : Int32) (x2 : Int32) (x3 : Int32) (x4 : Int32) (x5 : Int32) (x6 : Value) (σ : lj_S) : lj_D lm_P lm_M220 168 [.ref 0, .int x1, .int x2, .int x3, .int x4, .int x5, x6] [] σ = (if lj_in x3 3001 then (if lj_in x3 3001 then (if lj_in x3 3001 then lj_bi (lj_R lm_P 110 [.int x1, .int (σ.1 45 x3.toNatClampNeg), .long (σ.2 46 x3.toNatClampNeg)] (lj_put σ 50 x3.toNatClampNeg (-1))) (fun y2 σ1 => (if lj_in y2 4096 then (if lj_in x3 3001 then (if lj_in y2 4096 then lj_D lm_P lm_M220 217 [.ref 0, .int x1, .int x2, .int x3, .int x3, .int x5, .int y2] [] (lj_put (lj_put σ1 51 x3.toNatClampNeg (σ1.1 52 y2.toNatClampNeg)) 52 y2.toNatClampNeg x3) else none) else none) else none)) lj_up else none) else none) else none) := by rw [lj_D_eq]; rfl
set_option maxRecDepth 100000 in
set_option maxHeartbeats 4000000 in
theorem km_220_217 (x1 : Int32) (x2 : Int32) (x3 : Int32) (x4 : Int32) (x5 : Int32) (x6 : Value) (σ : lj_S) : lj_D lm_P lm_M220 217 [.ref 0, .int x1, .int x2, .int x3, .int x4, .int x5, x6] [] σ = lj_D lm_P lm_M220 91 [.ref 0, .int x1, .int x2, .int x5, .int x4, .int x5, x6] [] σ := by rw [lj_D_eq]; rfl
set_option maxRecDepth 100000 in
set_option maxHeartbeats 4000000 in
theorem km_220_235 (x1 : Int32) (x2 : Int32) (x3 : Int32) (x4 : Int32) (x5 : Value) (x6 : Value) (σ : lj_S) : lj_D lm_P lm_M220 235 [.ref 0, .int x1, .int x2, .int x3, .int x4, x5, x6] [] σ = lj_D lm_P lm_M220 24 [.ref 0, .int (x1 + 1), .int x2, .int x3, .int x4, x5, x6] [] σ := by rw [lj_D_eq]; rfl
-- TableTongueModel.builtMore(I)V
set_option maxRecDepth 100000 in
theorem rm_221 (x1 : Int32) (σ : lj_S) : lj_R lm_P 221 [.ref 0, .int x1] σ = lj_D lm_P lm_M221 0 [.ref 0, .int x1] [] σ := lj_R_eq (nL := 2) (M := lm_M221) _ _ _ _ rfl rfl
set_option maxRecDepth 100000 in
set_option maxHeartbeats 4000000 in
theorem km_221_0 (x1 : Int32) (σ : lj_S) : lj_D lm_P lm_M221 0 [.ref 0, .int x1] [] σ = (if x1 = 17 then lj_bv (lj_R lm_P 222 [.ref 0] σ) (fun σ1 => lj_D lm_P lm_M221 215 [.ref 0, .int x1] [] σ1) lj_up else (if x1 = 18 then lj_bv (lj_R lm_P 223 [.ref 0] σ) (fun σ2 => lj_D lm_P lm_M221 215 [.ref 0, .int x1] [] σ2) lj_up else (if x1 = 19 then lj_bv (lj_R lm_P 224 [.ref 0] σ) (fun σ3 => lj_D lm_P lm_M221 215 [.ref 0, .int x1] [] σ3) lj_up else (if x1 = 20 then lj_bv (lj_R lm_P 225 [.ref 0] σ) (fun σ4 => lj_D lm_P lm_M221 215 [.ref 0, .int x1] [] σ4) lj_up else (if x1 = 21 then lj_bv (lj_R lm_P 226 [.ref 0] σ) (fun σ5 => lj_D lm_P lm_M221 215 [.ref 0, .int x1] [] σ5) lj_up else (if x1 = 22 then lj_bv (lj_R lm_P 227 [.ref 0] σ) (fun σ6 => lj_D lm_P lm_M221 215 [.ref 0, .int x1] [] σ6) lj_up else (if x1 = 23 then lj_bv (lj_R lm_P 228 [.ref 0] σ) (fun σ7 => lj_D lm_P lm_M221 215 [.ref 0, .int x1] [] σ7) lj_up else (if x1 = 24 then lj_bv (lj_R lm_P 229 [.ref 0] σ) (fun σ8 => lj_D lm_P lm_M221 215 [.ref 0, .int x1] [] σ8) lj_up else (if x1 = 25 then lj_bv (lj_R lm_P 230 [.ref 0] σ) (fun σ9 => lj_D lm_P lm_M221 215 [.ref 0, .int x1] [] σ9) lj_up else (if x1 = 26 then lj_bv (lj_R lm_P 231 [.ref 0] σ) (fun σ10 => lj_D lm_P lm_M221 215 [.ref 0, .int x1] [] σ10) lj_up else (if x1 = 27 then lj_bv (lj_R lm_P 232 [.ref 0] σ) (fun σ11 => lj_D lm_P lm_M221 215 [.ref 0, .int x1] [] σ11) lj_up else (if x1 = 28 then lj_bv (lj_R lm_P 235 [.ref 0] σ) (fun σ12 => lj_D lm_P lm_M221 215 [.ref 0, .int x1] [] σ12) lj_up else (if x1 = 29 then lj_bi (lj_R lm_P 198 [.ref 0, .int 1, .int 6, .int 29] σ) (fun y14 σ13 => (if y14 = 0 then lj_D lm_P lm_M221 215 [.ref 0, .int x1] [] σ13 else lj_bl (lj_R lm_P 191 [.ref 0, .int 1] σ13) (fun y16 σ15 => lj_bi (lj_R lm_P 233 [.ref 0, .long y16] σ15) (fun y18 σ17 => (if lj_in y18 26 then lj_bv (lj_R lm_P 193 [.ref 0, .int (29 + (σ17.1 58 y18.toNatClampNeg))] σ17) (fun σ19 => lj_D lm_P lm_M221 215 [.ref 0, .int x1] [] σ19) lj_up else none)) lj_up) lj_up)) lj_up else (if x1 = 30 then (if lj_in (σ.1 0 111) 26 then lj_bv (lj_R lm_P 195 [.ref 0, .int 6, .long ((((σ.1 59 ((σ.1 0 111).toNatClampNeg))) : Int32).toInt64)] σ) (fun σ20 => lj_D lm_P lm_M221 215 [.ref 0, .int x1] [] σ20) lj_up else none) else lj_bv (lj_R lm_P 236 [.ref 0] σ) (fun σ21 => lj_D lm_P lm_M221 215 [.ref 0, .int x1] [] σ21) lj_up)))))))))))))) := by rw [lj_D_eq]; rfl
set_option maxRecDepth 100000 in
set_option maxHeartbeats 4000000 in
theorem km_221_215 (x1 : Int32) (σ : lj_S) : lj_D lm_P lm_M221 215 [.ref 0, .int x1] [] σ = some (.inl none, σ) := by rw [lj_D_eq]; rfl
-- TableTongueModel.insert()V
set_option maxRecDepth 100000 in
theorem rm_222  (σ : lj_S) : lj_R lm_P 222 [.ref 0] σ = lj_D lm_P lm_M222 0 [.ref 0, .retAddr 0, .retAddr 0, .retAddr 0, .retAddr 0, .retAddr 0, .retAddr 0] [] σ := lj_R_eq (nL := 7) (M := lm_M222) _ _ _ _ rfl rfl
set_option maxRecDepth 100000 in
set_option maxHeartbeats 4000000 in
theorem km_222_0  (σ : lj_S) : lj_D lm_P lm_M222 0 [.ref 0, .retAddr 0, .retAddr 0, .retAddr 0, .retAddr 0, .retAddr 0, .retAddr 0] [] σ = lj_bi (lj_R lm_P 198 [.ref 0, .int 1, .int 4, .int 17] σ) (fun y2 σ1 => (if y2 = 0 then some (.inl none, σ1) else lj_bl (lj_R lm_P 191 [.ref 0, .int 1] σ1) (fun y4 σ3 => lj_bl (lj_R lm_P 166 [.ref 0, .int ((y4 : Int64).toInt32)] σ3) (fun y6 σ5 => (if (σ5.1 0 137) = 2 then lj_bi (lj_R lm_P 190 [.ref 0, .int 2] σ5) (fun y14 σ13 => lj_bl (lj_R lm_P 191 [.ref 0, .int 2] σ13) (fun y16 σ15 => lj_bi (lj_R lm_P 108 [.ref 0, .int ((y4 : Int64).toInt32), .int 2, .long (y6 + 1), .int y14, .long y16] σ15) (fun y18 σ17 => lj_bv (lj_R lm_P 192 [.ref 0] σ17) (fun σ19 => some (.inl none, σ19)) lj_up) lj_up) lj_up) lj_up else (if (σ5.1 0 137) = 3 then lj_bi (lj_R lm_P 190 [.ref 0, .int 2] σ5) (fun y8 σ7 => (if y8 = 2 then lj_bl (lj_R lm_P 191 [.ref 0, .int 2] σ7) (fun y10 σ9 => (if (lg_cmp y10 1) < 0 then lj_D lm_P lm_M222 98 [.ref 0, .int ((y4 : Int64).toInt32), .long y6, .retAddr 0, .retAddr 0, .retAddr 0, .retAddr 0] [] σ9 else lj_bl (lj_R lm_P 191 [.ref 0, .int 2] σ9) (fun y12 σ11 => (if (lg_cmp y12 (y6 + 1)) ≤ 0 then lj_D lm_P lm_M222 112 [.ref 0, .int ((y4 : Int64).toInt32), .long y6, .retAddr 0, .int 1, .long y6, .retAddr 0] [] σ11 else lj_D lm_P lm_M222 98 [.ref 0, .int ((y4 : Int64).toInt32), .long y6, .retAddr 0, .retAddr 0, .retAddr 0, .retAddr 0] [] σ11)) lj_up)) lj_up else lj_D lm_P lm_M222 98 [.ref 0, .int ((y4 : Int64).toInt32), .long y6, .retAddr 0, .retAddr 0, .retAddr 0, .retAddr 0] [] σ7)) lj_up else lj_D lm_P lm_M222 98 [.ref 0, .int ((y4 : Int64).toInt32), .long y6, .retAddr 0, .retAddr 0, .retAddr 0, .retAddr 0] [] σ5))) lj_up) lj_up)) lj_up := by rw [lj_D_eq]; rfl
set_option maxRecDepth 100000 in
set_option maxHeartbeats 4000000 in
theorem km_222_98 (x1 : Int32) (x2 : Int64) (σ : lj_S) : lj_D lm_P lm_M222 98 [.ref 0, .int x1, .long x2, .retAddr 0, .retAddr 0, .retAddr 0, .retAddr 0] [] σ = lj_bv (lj_R lm_P 199 [.ref 0, .int 2, .int 17] σ) (fun σ1 => some (.inl none, σ1)) lj_up := by rw [lj_D_eq]; rfl
set_option maxRecDepth 100000 in
set_option maxHeartbeats 4000000 in
theorem km_222_112 (x1 : Int32) (x2 : Int64) (x4 : Int32) (x5 : Int64) (σ : lj_S) : lj_D lm_P lm_M222 112 [.ref 0, .int x1, .long x2, .retAddr 0, .int x4, .long x5, .retAddr 0] [] σ = lj_bl (lj_R lm_P 191 [.ref 0, .int 2] σ) (fun y2 σ1 => (if (lg_cmp x5 y2) < 0 then lj_D lm_P lm_M222 165 [.ref 0, .int x1, .long x2, .retAddr 0, .int x4, .long x5, .retAddr 0] [] σ1 else (if x4 = 0 then lj_D lm_P lm_M222 165 [.ref 0, .int x1, .long x2, .retAddr 0, .int x4, .long x5, .retAddr 0] [] σ1 else lj_bv (lj_R lm_P 123 [.ref 0, .int x1, .int 2, .long x5] σ1) (fun σ3 => lj_bi (lj_R lm_P 108 [.ref 0, .int x1, .int 2, .long (x5 + 1), .int (σ3.1 0 90), .long (σ3.2 0 91)] σ3) (fun y5 σ4 => lj_D lm_P lm_M222 112 [.ref 0, .int x1, .long x2, .retAddr 0, .int y5, .long (x5 - 1), .retAddr 0] [] σ4) lj_up) lj_up))) lj_up := by rw [lj_D_eq]; rfl
set_option maxRecDepth 100000 in
set_option maxHeartbeats 4000000 in
theorem km_222_165 (x1 : Int32) (x2 : Int64) (x4 : Int32) (x5 : Int64) (σ : lj_S) : lj_D lm_P lm_M222 165 [.ref 0, .int x1, .long x2, .retAddr 0, .int x4, .long x5, .retAddr 0] [] σ = (if x4 = 0 then lj_D lm_P lm_M222 198 [.ref 0, .int x1, .long x2, .retAddr 0, .int x4, .long x5, .retAddr 0] [] σ else lj_bl (lj_R lm_P 191 [.ref 0, .int 2] σ) (fun y2 σ1 => lj_bi (lj_R lm_P 190 [.ref 0, .int 3] σ1) (fun y4 σ3 => lj_bl (lj_R lm_P 191 [.ref 0, .int 3] σ3) (fun y6 σ5 => lj_bi (lj_R lm_P 108 [.ref 0, .int x1, .int 2, .long y2, .int y4, .long y6] σ5) (fun y8 σ7 => (if y8 = 0 then lj_D lm_P lm_M222 198 [.ref 0, .int x1, .long x2, .retAddr 0, .int x4, .long x5, .retAddr 0] [] σ7 else lj_D lm_P lm_M222 199 [.ref 0, .int x1, .long x2, .retAddr 0, .int x4, .long x5, .retAddr 0] [.int 1] σ7)) lj_up) lj_up) lj_up) lj_up) := by rw [lj_D_eq]; rfl
set_option maxRecDepth 100000 in
set_option maxHeartbeats 4000000 in
theorem km_222_198 (x1 : Int32) (x2 : Int64) (x4 : Int32) (x5 : Int64) (σ : lj_S) : lj_D lm_P lm_M222 198 [.ref 0, .int x1, .long x2, .retAddr 0, .int x4, .long x5, .retAddr 0] [] σ = lj_D lm_P lm_M222 199 [.ref 0, .int x1, .long x2, .retAddr 0, .int x4, .long x5, .retAddr 0] [.int 0] σ := by rw [lj_D_eq]; rfl
set_option maxRecDepth 100000 in
set_option maxHeartbeats 4000000 in
theorem km_222_199 (x1 : Int32) (x2 : Int64) (x4 : Int32) (x5 : Int64) (x50 : Int32) (σ : lj_S) : lj_D lm_P lm_M222 199 [.ref 0, .int x1, .long x2, .retAddr 0, .int x4, .long x5, .retAddr 0] [.int x50] σ = lj_bv (lj_R lm_P 192 [.ref 0] σ) (fun σ1 => some (.inl none, σ1)) lj_up := by rw [lj_D_eq]; rfl
-- TableTongueModel.remove()V
set_option maxRecDepth 100000 in
theorem rm_223  (σ : lj_S) : lj_R lm_P 223 [.ref 0] σ = lj_D lm_P lm_M223 0 [.ref 0, .retAddr 0, .retAddr 0, .retAddr 0, .retAddr 0, .retAddr 0, .retAddr 0, .retAddr 0, .retAddr 0] [] σ := lj_R_eq (nL := 9) (M := lm_M223) _ _ _ _ rfl rfl
set_option maxRecDepth 100000 in
set_option maxHeartbeats 4000000 in
theorem km_223_0  (σ : lj_S) : lj_D lm_P lm_M223 0 [.ref 0, .retAddr 0, .retAddr 0, .retAddr 0, .retAddr 0, .retAddr 0, .retAddr 0, .retAddr 0, .retAddr 0] [] σ = lj_bi (lj_R lm_P 198 [.ref 0, .int 1, .int 4, .int 18] σ) (fun y2 σ1 => (if y2 = 0 then some (.inl none, σ1) else lj_bl (lj_R lm_P 191 [.ref 0, .int 1] σ1) (fun y4 σ3 => lj_bl (lj_R lm_P 166 [.ref 0, .int ((y4 : Int64).toInt32)] σ3) (fun y6 σ5 => lj_bl (lj_R lm_P 191 [.ref 0, .int 2] σ5) (fun y8 σ7 => lj_bi (lj_R lm_P 190 [.ref 0, .int 2] σ7) (fun y10 σ9 => (if y10 = 0 then lj_D lm_P lm_M223 77 [.ref 0, .int ((y4 : Int64).toInt32), .long y6, .retAddr 0, .long y6, .retAddr 0, .retAddr 0, .retAddr 0, .retAddr 0] [] σ9 else lj_bi (lj_R lm_P 190 [.ref 0, .int 2] σ9) (fun y12 σ11 => (if y12 = 2 then (if (lg_cmp y8 1) < 0 then lj_D lm_P lm_M223 69 [.ref 0, .int ((y4 : Int64).toInt32), .long y6, .retAddr 0, .long y8, .retAddr 0, .retAddr 0, .retAddr 0, .retAddr 0] [] σ11 else (if (lg_cmp y8 y6) ≤ 0 then lj_D lm_P lm_M223 77 [.ref 0, .int ((y4 : Int64).toInt32), .long y6, .retAddr 0, .long y8, .retAddr 0, .retAddr 0, .retAddr 0, .retAddr 0] [] σ11 else lj_D lm_P lm_M223 69 [.ref 0, .int ((y4 : Int64).toInt32), .long y6, .retAddr 0, .long y8, .retAddr 0, .retAddr 0, .retAddr 0, .retAddr 0] [] σ11)) else lj_D lm_P lm_M223 69 [.ref 0, .int ((y4 : Int64).toInt32), .long y6, .retAddr 0, .long y8, .retAddr 0, .retAddr 0, .retAddr 0, .retAddr 0] [] σ11)) lj_up)) lj_up) lj_up) lj_up) lj_up)) lj_up := by rw [lj_D_eq]; rfl
set_option maxRecDepth 100000 in
set_option maxHeartbeats 4000000 in
theorem km_223_69 (x1 : Int32) (x2 : Int64) (x4 : Int64) (σ : lj_S) : lj_D lm_P lm_M223 69 [.ref 0, .int x1, .long x2, .retAddr 0, .long x4, .retAddr 0, .retAddr 0, .retAddr 0, .retAddr 0] [] σ = lj_bv (lj_R lm_P 199 [.ref 0, .int 2, .int 18] σ) (fun σ1 => some (.inl none, σ1)) lj_up := by rw [lj_D_eq]; rfl
set_option maxRecDepth 100000 in
set_option maxHeartbeats 4000000 in
theorem km_223_77 (x1 : Int32) (x2 : Int64) (x4 : Int64) (σ : lj_S) : lj_D lm_P lm_M223 77 [.ref 0, .int x1, .long x2, .retAddr 0, .long x4, .retAddr 0, .retAddr 0, .retAddr 0, .retAddr 0] [] σ = (if (lg_cmp x2 0) = 0 then lj_bv (lj_R lm_P 195 [.ref 0, .int 0, .long 0] σ) (fun σ3 => some (.inl none, σ3)) lj_up else lj_bv (lj_R lm_P 123 [.ref 0, .int x1, .int 2, .long x4] σ) (fun σ1 => lj_bv (lj_R lm_P 195 [.ref 0, .int (σ1.1 0 90), .long (σ1.2 0 91)] σ1) (fun σ2 => lj_D lm_P lm_M223 117 [.ref 0, .int x1, .long x2, .retAddr 0, .long x4, .retAddr 0, .int 1, .long x4, .retAddr 0] [] σ2) lj_up) lj_up) := by rw [lj_D_eq]; rfl
set_option maxRecDepth 100000 in
set_option maxHeartbeats 4000000 in
theorem km_223_117 (x1 : Int32) (x2 : Int64) (x4 : Int64) (x6 : Int32) (x7 : Int64) (σ : lj_S) : lj_D lm_P lm_M223 117 [.ref 0, .int x1, .long x2, .retAddr 0, .long x4, .retAddr 0, .int x6, .long x7, .retAddr 0] [] σ = (if 0 ≤ (lg_cmp x7 x2) then lj_bi (lj_R lm_P 108 [.ref 0, .int x1, .int 2, .long x2, .int 0, .long 0] σ) (fun y2 σ1 => some (.inl none, σ1)) lj_up else lj_bv (lj_R lm_P 123 [.ref 0, .int x1, .int 2, .long (x7 + 1)] σ) (fun σ3 => lj_bi (lj_R lm_P 108 [.ref 0, .int x1, .int 2, .long x7, .int (σ3.1 0 90), .long (σ3.2 0 91)] σ3) (fun y5 σ4 => lj_D lm_P lm_M223 117 [.ref 0, .int x1, .long x2, .retAddr 0, .long x4, .retAddr 0, .int y5, .long (x7 + 1), .retAddr 0] [] σ4) lj_up) lj_up) := by rw [lj_D_eq]; rfl
-- TableTongueModel.concat()V
set_option maxRecDepth 100000 in
theorem rm_224  (σ : lj_S) : lj_R lm_P 224 [.ref 0] σ = lj_D lm_P lm_M224 0 [.ref 0, .retAddr 0, .retAddr 0, .retAddr 0, .retAddr 0, .retAddr 0] [] σ := lj_R_eq (nL := 6) (M := lm_M224) _ _ _ _ rfl rfl
set_option maxRecDepth 100000 in
set_option maxHeartbeats 4000000 in
theorem km_224_0  (σ : lj_S) : lj_D lm_P lm_M224 0 [.ref 0, .retAddr 0, .retAddr 0, .retAddr 0, .retAddr 0, .retAddr 0] [] σ = lj_bi (lj_R lm_P 198 [.ref 0, .int 1, .int 4, .int 19] σ) (fun y2 σ1 => (if y2 = 0 then some (.inl none, σ1) else lj_bl (lj_R lm_P 191 [.ref 0, .int 1] σ1) (fun y4 σ3 => lj_bl (lj_R lm_P 166 [.ref 0, .int ((y4 : Int64).toInt32)] σ3) (fun y6 σ5 => lj_D lm_P lm_M224 28 [.ref 0, .int ((y4 : Int64).toInt32), .long y6, .retAddr 0, .long 1, .retAddr 0] [] σ5) lj_up) lj_up)) lj_up := by rw [lj_D_eq]; rfl
set_option maxRecDepth 100000 in
set_option maxHeartbeats 4000000 in
theorem km_224_28 (x1 : Int32) (x2 : Int64) (x4 : Int64) (σ : lj_S) : lj_D lm_P lm_M224 28 [.ref 0, .int x1, .long x2, .retAddr 0, .long x4, .retAddr 0] [] σ = (if 0 < (lg_cmp x4 x2) then lj_bi (lj_R lm_P 190 [.ref 0, .int 2] σ) (fun y2 σ1 => (if y2 = 0 then lj_D lm_P lm_M224 101 [.ref 0, .int x1, .long x2, .retAddr 0, .long x4, .retAddr 0] [] σ1 else lj_bi (lj_R lm_P 190 [.ref 0, .int 2] σ1) (fun y4 σ3 => (if y4 = 3 then lj_D lm_P lm_M224 101 [.ref 0, .int x1, .long x2, .retAddr 0, .long x4, .retAddr 0] [] σ3 else lj_bv (lj_R lm_P 199 [.ref 0, .int 2, .int 19] σ3) (fun σ5 => some (.inl none, σ5)) lj_up)) lj_up)) lj_up else lj_bv (lj_R lm_P 123 [.ref 0, .int x1, .int 2, .long x4] σ) (fun σ6 => (if (σ6.1 0 90) = 3 then lj_D lm_P lm_M224 67 [.ref 0, .int x1, .long x2, .retAddr 0, .long x4, .retAddr 0] [] σ6 else (if (σ6.1 0 90) = 2 then lj_D lm_P lm_M224 67 [.ref 0, .int x1, .long x2, .retAddr 0, .long x4, .retAddr 0] [] σ6 else lj_bv (lj_R lm_P 199 [.ref 0, .int 1, .int 19] σ6) (fun σ7 => some (.inl none, σ7)) lj_up))) lj_up) := by rw [lj_D_eq]; rfl
set_option maxRecDepth 100000 in
set_option maxHeartbeats 4000000 in
theorem km_224_67 (x1 : Int32) (x2 : Int64) (x4 : Int64) (σ : lj_S) : lj_D lm_P lm_M224 67 [.ref 0, .int x1, .long x2, .retAddr 0, .long x4, .retAddr 0] [] σ = lj_D lm_P lm_M224 28 [.ref 0, .int x1, .long x2, .retAddr 0, .long (x4 + 1), .retAddr 0] [] σ := by rw [lj_D_eq]; rfl
set_option maxRecDepth 100000 in
set_option maxHeartbeats 4000000 in
theorem km_224_101 (x1 : Int32) (x2 : Int64) (x4 : Int64) (σ : lj_S) : lj_D lm_P lm_M224 101 [.ref 0, .int x1, .long x2, .retAddr 0, .long x4, .retAddr 0] [] σ = lj_D lm_P lm_M224 109 [.ref 0, .int x1, .long x2, .retAddr 0, .long 1, .retAddr 0] [] (lj_put σ 0 20 0) := by rw [lj_D_eq]; rfl
set_option maxRecDepth 100000 in
set_option maxHeartbeats 4000000 in
theorem km_224_109 (x1 : Int32) (x2 : Int64) (x4 : Int64) (σ : lj_S) : lj_D lm_P lm_M224 109 [.ref 0, .int x1, .long x2, .retAddr 0, .long x4, .retAddr 0] [] σ = (if 0 < (lg_cmp x4 x2) then lj_D lm_P lm_M224 181 [.ref 0, .int x1, .long x2, .retAddr 0, .long x4, .retAddr 0] [] σ else (if 1000 < (σ.1 0 20) then lj_D lm_P lm_M224 181 [.ref 0, .int x1, .long x2, .retAddr 0, .long x4, .retAddr 0] [] σ else (if (lg_cmp x4 1) ≤ 0 then lj_D lm_P lm_M224 152 [.ref 0, .int x1, .long x2, .retAddr 0, .long x4, .retAddr 0] [] σ else lj_bi (lj_R lm_P 190 [.ref 0, .int 2] σ) (fun y2 σ1 => (if y2 = 3 then lj_bl (lj_R lm_P 191 [.ref 0, .int 2] σ1) (fun y4 σ3 => lj_bv (lj_R lm_P 137 [.ref 0, .int ((y4 : Int64).toInt32)] σ3) (fun σ5 => lj_D lm_P lm_M224 152 [.ref 0, .int x1, .long x2, .retAddr 0, .long x4, .retAddr 0] [] σ5) lj_up) lj_up else lj_D lm_P lm_M224 152 [.ref 0, .int x1, .long x2, .retAddr 0, .long x4, .retAddr 0] [] σ1)) lj_up))) := by rw [lj_D_eq]; rfl
set_option maxRecDepth 100000 in
set_option maxHeartbeats 4000000 in
theorem km_224_152 (x1 : Int32) (x2 : Int64) (x4 : Int64) (σ : lj_S) : lj_D lm_P lm_M224 152 [.ref 0, .int x1, .long x2, .retAddr 0, .long x4, .retAddr 0] [] σ = lj_bv (lj_R lm_P 123 [.ref 0, .int x1, .int 2, .long x4] σ) (fun σ1 => lj_bv (lj_R lm_P 163 [.ref 0, .int (σ1.1 0 90), .long (σ1.2 0 91)] σ1) (fun σ2 => lj_D lm_P lm_M224 109 [.ref 0, .int x1, .long x2, .retAddr 0, .long (x4 + 1), .retAddr 0] [] σ2) lj_up) lj_up := by rw [lj_D_eq]; rfl
set_option maxRecDepth 100000 in
set_option maxHeartbeats 4000000 in
theorem km_224_181 (x1 : Int32) (x2 : Int64) (x4 : Int64) (σ : lj_S) : lj_D lm_P lm_M224 181 [.ref 0, .int x1, .long x2, .retAddr 0, .long x4, .retAddr 0] [] σ = (if (σ.1 0 20) ≤ 1000 then lj_bv (lj_R lm_P 194 [.ref 0] σ) (fun σ1 => lj_D lm_P lm_M224 208 [.ref 0, .int x1, .long x2, .retAddr 0, .long x4, .retAddr 0] [] σ1) lj_up else lj_bv (lj_R lm_P 142 [.ref 0, .int 7, .int (σ.1 0 132)] σ) (fun σ2 => lj_D lm_P lm_M224 208 [.ref 0, .int x1, .long x2, .retAddr 0, .long x4, .retAddr 0] [] σ2) lj_up) := by rw [lj_D_eq]; rfl
set_option maxRecDepth 100000 in
set_option maxHeartbeats 4000000 in
theorem km_224_208 (x1 : Int32) (x2 : Int64) (x4 : Int64) (σ : lj_S) : lj_D lm_P lm_M224 208 [.ref 0, .int x1, .long x2, .retAddr 0, .long x4, .retAddr 0] [] σ = some (.inl none, σ) := by rw [lj_D_eq]; rfl
-- TableTongueModel.pack()V
set_option maxRecDepth 100000 in
theorem rm_225  (σ : lj_S) : lj_R lm_P 225 [.ref 0] σ = lj_D lm_P lm_M225 0 [.ref 0, .retAddr 0, .retAddr 0, .retAddr 0] [] σ := lj_R_eq (nL := 4) (M := lm_M225) _ _ _ _ rfl rfl
set_option maxRecDepth 100000 in
set_option maxHeartbeats 4000000 in
theorem km_225_0  (σ : lj_S) : lj_D lm_P lm_M225 0 [.ref 0, .retAddr 0, .retAddr 0, .retAddr 0] [] σ = lj_bi (lj_R lm_P 111 [.ref 0, .int 4] σ) (fun y2 σ1 => (if y2 = 0 then some (.inl none, σ1) else lj_D lm_P lm_M225 15 [.ref 0, .int y2, .int 1, .int 1] [] σ1)) lj_up := by rw [lj_D_eq]; rfl
set_option maxRecDepth 100000 in
set_option maxHeartbeats 4000000 in
theorem km_225_15 (x1 : Int32) (x2 : Int32) (x3 : Int32) (σ : lj_S) : lj_D lm_P lm_M225 15 [.ref 0, .int x1, .int x2, .int x3] [] σ = (if (σ.1 0 137) < x3 then lj_D lm_P lm_M225 52 [.ref 0, .int x1, .int x2, .int x3] [] σ else (if x2 = 0 then lj_D lm_P lm_M225 52 [.ref 0, .int x1, .int x2, .int x3] [] σ else lj_bi (lj_R lm_P 190 [.ref 0, .int x3] σ) (fun y2 σ1 => lj_bl (lj_R lm_P 191 [.ref 0, .int x3] σ1) (fun y4 σ3 => lj_bi (lj_R lm_P 108 [.ref 0, .int x1, .int 2, .long ((x3 : Int32).toInt64), .int y2, .long y4] σ3) (fun y6 σ5 => lj_D lm_P lm_M225 15 [.ref 0, .int x1, .int y6, .int (x3 + 1)] [] σ5) lj_up) lj_up) lj_up)) := by rw [lj_D_eq]; rfl
set_option maxRecDepth 100000 in
set_option maxHeartbeats 4000000 in
theorem km_225_52 (x1 : Int32) (x2 : Int32) (x3 : Int32) (σ : lj_S) : lj_D lm_P lm_M225 52 [.ref 0, .int x1, .int x2, .int x3] [] σ = (if x2 = 0 then lj_D lm_P lm_M225 78 [.ref 0, .int x1, .int x2, .int x3] [] σ else lj_bi (lj_R lm_P 108 [.ref 0, .int x1, .int 3, .long 36, .int 2, .long (((σ.1 0 137) : Int32).toInt64)] σ) (fun y2 σ1 => (if y2 = 0 then lj_D lm_P lm_M225 78 [.ref 0, .int x1, .int x2, .int x3] [] σ1 else lj_D lm_P lm_M225 79 [.ref 0, .int x1, .int x2, .int x3] [.int 1] σ1)) lj_up) := by rw [lj_D_eq]; rfl
set_option maxRecDepth 100000 in
set_option maxHeartbeats 4000000 in
theorem km_225_78 (x1 : Int32) (x2 : Int32) (x3 : Int32) (σ : lj_S) : lj_D lm_P lm_M225 78 [.ref 0, .int x1, .int x2, .int x3] [] σ = lj_D lm_P lm_M225 79 [.ref 0, .int x1, .int x2, .int x3] [.int 0] σ := by rw [lj_D_eq]; rfl
set_option maxRecDepth 100000 in
set_option maxHeartbeats 4000000 in
theorem km_225_79 (x1 : Int32) (x2 : Int32) (x3 : Int32) (x50 : Int32) (σ : lj_S) : lj_D lm_P lm_M225 79 [.ref 0, .int x1, .int x2, .int x3] [.int x50] σ = lj_bv (lj_R lm_P 195 [.ref 0, .int 4, .long ((x1 : Int32).toInt64)] σ) (fun σ1 => some (.inl none, σ1)) lj_up := by rw [lj_D_eq]; rfl
-- TableTongueModel.unpack()V
set_option maxRecDepth 100000 in
theorem rm_226  (σ : lj_S) : lj_R lm_P 226 [.ref 0] σ = lj_D lm_P lm_M226 0 [.ref 0, .retAddr 0, .retAddr 0, .retAddr 0, .retAddr 0] [] σ := lj_R_eq (nL := 5) (M := lm_M226) _ _ _ _ rfl rfl
set_option maxRecDepth 100000 in
set_option maxHeartbeats 4000000 in
theorem km_226_0  (σ : lj_S) : lj_D lm_P lm_M226 0 [.ref 0, .retAddr 0, .retAddr 0, .retAddr 0, .retAddr 0] [] σ = lj_bi (lj_R lm_P 198 [.ref 0, .int 1, .int 4, .int 21] σ) (fun y2 σ1 => (if y2 = 0 then some (.inl none, σ1) else lj_bl (lj_R lm_P 191 [.ref 0, .int 1] σ1) (fun y4 σ3 => lj_bl (lj_R lm_P 166 [.ref 0, .int ((y4 : Int64).toInt32)] σ3) (fun y6 σ5 => (if (lg_cmp y6 30) ≤ 0 then lj_bv (lj_R lm_P 192 [.ref 0] σ5) (fun σ7 => lj_D lm_P lm_M226 47 [.ref 0, .long y6, .retAddr 0, .long 1, .retAddr 0] [] σ7) lj_up else lj_bv (lj_R lm_P 142 [.ref 0, .int 4, .int (σ5.1 0 132)] σ5) (fun σ8 => some (.inl none, σ8)) lj_up)) lj_up) lj_up)) lj_up := by rw [lj_D_eq]; rfl
set_option maxRecDepth 100000 in
set_option maxHeartbeats 4000000 in
theorem km_226_47 (x1 : Int64) (x3 : Int64) (σ : lj_S) : lj_D lm_P lm_M226 47 [.ref 0, .long x1, .retAddr 0, .long x3, .retAddr 0] [] σ = (if 0 < (lg_cmp x3 x1) then some (.inl none, σ) else lj_bl (lj_R lm_P 191 [.ref 0, .int 1] σ) (fun y2 σ1 => lj_bv (lj_R lm_P 123 [.ref 0, .int ((y2 : Int64).toInt32), .int 2, .long x3] σ1) (fun σ3 => lj_bv (lj_R lm_P 184 [.ref 0, .int (σ3.1 0 90), .long (σ3.2 0 91)] σ3) (fun σ4 => lj_D lm_P lm_M226 47 [.ref 0, .long x1, .retAddr 0, .long (x3 + 1), .retAddr 0] [] σ4) lj_up) lj_up) lj_up) := by rw [lj_D_eq]; rfl
-- TableTongueModel.sub()V
set_option maxRecDepth 100000 in
theorem rm_227  (σ : lj_S) : lj_R lm_P 227 [.ref 0] σ = lj_D lm_P lm_M227 0 [.ref 0, .retAddr 0, .retAddr 0, .retAddr 0, .retAddr 0, .retAddr 0, .retAddr 0, .retAddr 0, .retAddr 0, .retAddr 0] [] σ := lj_R_eq (nL := 10) (M := lm_M227) _ _ _ _ rfl rfl
set_option maxRecDepth 100000 in
set_option maxHeartbeats 4000000 in
theorem km_227_0  (σ : lj_S) : lj_D lm_P lm_M227 0 [.ref 0, .retAddr 0, .retAddr 0, .retAddr 0, .retAddr 0, .retAddr 0, .retAddr 0, .retAddr 0, .retAddr 0, .retAddr 0] [] σ = lj_bi (lj_R lm_P 198 [.ref 0, .int 1, .int 3, .int 22] σ) (fun y2 σ1 => (if y2 = 0 then lj_D lm_P lm_M227 22 [.ref 0, .retAddr 0, .retAddr 0, .retAddr 0, .retAddr 0, .retAddr 0, .retAddr 0, .retAddr 0, .retAddr 0, .retAddr 0] [] σ1 else lj_bi (lj_R lm_P 198 [.ref 0, .int 2, .int 2, .int 22] σ1) (fun y4 σ3 => (if y4 = 0 then lj_D lm_P lm_M227 22 [.ref 0, .retAddr 0, .retAddr 0, .retAddr 0, .retAddr 0, .retAddr 0, .retAddr 0, .retAddr 0, .retAddr 0, .retAddr 0] [] σ3 else lj_bi (lj_R lm_P 190 [.ref 0, .int 3] σ3) (fun y6 σ5 => (if y6 = 0 then lj_D lm_P lm_M227 48 [.ref 0, .retAddr 0, .retAddr 0, .retAddr 0, .retAddr 0, .retAddr 0, .retAddr 0, .retAddr 0, .retAddr 0, .retAddr 0] [] σ5 else lj_bi (lj_R lm_P 190 [.ref 0, .int 3] σ5) (fun y8 σ7 => (if y8 = 2 then lj_D lm_P lm_M227 48 [.ref 0, .retAddr 0, .retAddr 0, .retAddr 0, .retAddr 0, .retAddr 0, .retAddr 0, .retAddr 0, .retAddr 0, .retAddr 0] [] σ7 else lj_bv (lj_R lm_P 199 [.ref 0, .int 3, .int 22] σ7) (fun σ9 => some (.inl none, σ9)) lj_up)) lj_up)) lj_up)) lj_up)) lj_up := by rw [lj_D_eq]; rfl
set_option maxRecDepth 100000 in
set_option maxHeartbeats 4000000 in
theorem km_227_22  (σ : lj_S) : lj_D lm_P lm_M227 22 [.ref 0, .retAddr 0, .retAddr 0, .retAddr 0, .retAddr 0, .retAddr 0, .retAddr 0, .retAddr 0, .retAddr 0, .retAddr 0] [] σ = some (.inl none, σ) := by rw [lj_D_eq]; rfl
set_option maxRecDepth 100000 in
set_option maxHeartbeats 4000000 in
theorem km_227_48  (σ : lj_S) : lj_D lm_P lm_M227 48 [.ref 0, .retAddr 0, .retAddr 0, .retAddr 0, .retAddr 0, .retAddr 0, .retAddr 0, .retAddr 0, .retAddr 0, .retAddr 0] [] σ = lj_bl (lj_R lm_P 191 [.ref 0, .int 1] σ) (fun y2 σ1 => (if lj_in ((y2 : Int64).toInt32) 3000 then lj_bl (lj_R lm_P 191 [.ref 0, .int 2] σ1) (fun y4 σ3 => (if 0 ≤ (lg_cmp y4 0) then lj_bl (lj_R lm_P 191 [.ref 0, .int 2] σ3) (fun y6 σ5 => lj_D lm_P lm_M227 90 [.ref 0, .int ((y2 : Int64).toInt32), .long ((((σ1.1 4 (((y2 : Int64).toInt32).toNatClampNeg))) : Int32).toInt64), .retAddr 0, .retAddr 0, .retAddr 0, .retAddr 0, .retAddr 0, .retAddr 0, .retAddr 0] [.long y6] σ5) lj_up else lj_bl (lj_R lm_P 191 [.ref 0, .int 2] σ3) (fun y8 σ7 => lj_D lm_P lm_M227 90 [.ref 0, .int ((y2 : Int64).toInt32), .long ((((σ1.1 4 (((y2 : Int64).toInt32).toNatClampNeg))) : Int32).toInt64), .retAddr 0, .retAddr 0, .retAddr 0, .retAddr 0, .retAddr 0, .retAddr 0, .retAddr 0] [.long ((((((σ1.1 4 (((y2 : Int64).toInt32).toNatClampNeg))) : Int32).toInt64) + y8) + 1)] σ7) lj_up)) lj_up else none)) lj_up := by rw [lj_D_eq]; rfl
set_option maxRecDepth 100000 in
set_option maxHeartbeats 4000000 in
theorem km_227_90 (x1 : Int32) (x2 : Int64) (x50 : Int64) (σ : lj_S) : lj_D lm_P lm_M227 90 [.ref 0, .int x1, .long x2, .retAddr 0, .retAddr 0, .retAddr 0, .retAddr 0, .retAddr 0, .retAddr 0, .retAddr 0] [.long x50] σ = lj_bi (lj_R lm_P 190 [.ref 0, .int 3] σ) (fun y2 σ1 => (if y2 = 0 then lj_D lm_P lm_M227 131 [.ref 0, .int x1, .long x2, .retAddr 0, .long x50, .retAddr 0, .retAddr 0, .retAddr 0, .retAddr 0, .retAddr 0] [.long x2] σ1 else lj_bl (lj_R lm_P 191 [.ref 0, .int 3] σ1) (fun y4 σ3 => (if 0 ≤ (lg_cmp y4 0) then lj_bl (lj_R lm_P 191 [.ref 0, .int 3] σ3) (fun y6 σ5 => lj_D lm_P lm_M227 131 [.ref 0, .int x1, .long x2, .retAddr 0, .long x50, .retAddr 0, .retAddr 0, .retAddr 0, .retAddr 0, .retAddr 0] [.long y6] σ5) lj_up else lj_bl (lj_R lm_P 191 [.ref 0, .int 3] σ3) (fun y8 σ7 => lj_D lm_P lm_M227 131 [.ref 0, .int x1, .long x2, .retAddr 0, .long x50, .retAddr 0, .retAddr 0, .retAddr 0, .retAddr 0, .retAddr 0] [.long ((x2 + y8) + 1)] σ7) lj_up)) lj_up)) lj_up := by rw [lj_D_eq]; rfl
set_option maxRecDepth 100000 in
set_option maxHeartbeats 4000000 in
theorem km_227_131 (x1 : Int32) (x2 : Int64) (x4 : Int64) (x50 : Int64) (σ : lj_S) : lj_D lm_P lm_M227 131 [.ref 0, .int x1, .long x2, .retAddr 0, .long x4, .retAddr 0, .retAddr 0, .retAddr 0, .retAddr 0, .retAddr 0] [.long x50] σ = (if 0 ≤ (lg_cmp x4 1) then lj_D lm_P lm_M227 146 [.ref 0, .int x1, .long x2, .retAddr 0, .long x4, .retAddr 0, .long x50, .retAddr 0, .retAddr 0, .retAddr 0] [.long x4] σ else lj_D lm_P lm_M227 146 [.ref 0, .int x1, .long x2, .retAddr 0, .long x4, .retAddr 0, .long x50, .retAddr 0, .retAddr 0, .retAddr 0] [.long 1] σ) := by rw [lj_D_eq]; rfl
set_option maxRecDepth 100000 in
set_option maxHeartbeats 4000000 in
theorem km_227_146 (x1 : Int32) (x2 : Int64) (x4 : Int64) (x6 : Int64) (x50 : Int64) (σ : lj_S) : lj_D lm_P lm_M227 146 [.ref 0, .int x1, .long x2, .retAddr 0, .long x4, .retAddr 0, .long x6, .retAddr 0, .retAddr 0, .retAddr 0] [.long x50] σ = (if (lg_cmp x6 x2) ≤ 0 then lj_D lm_P lm_M227 161 [.ref 0, .int x1, .long x2, .retAddr 0, .long x50, .retAddr 0, .long x6, .retAddr 0, .retAddr 0, .retAddr 0] [.long x6] σ else lj_D lm_P lm_M227 161 [.ref 0, .int x1, .long x2, .retAddr 0, .long x50, .retAddr 0, .long x6, .retAddr 0, .retAddr 0, .retAddr 0] [.long x2] σ) := by rw [lj_D_eq]; rfl
set_option maxRecDepth 100000 in
set_option maxHeartbeats 4000000 in
theorem km_227_161 (x1 : Int32) (x2 : Int64) (x4 : Int64) (x6 : Int64) (x50 : Int64) (σ : lj_S) : lj_D lm_P lm_M227 161 [.ref 0, .int x1, .long x2, .retAddr 0, .long x4, .retAddr 0, .long x6, .retAddr 0, .retAddr 0, .retAddr 0] [.long x50] σ = lj_D lm_P lm_M227 172 [.ref 0, .int x1, .long x2, .retAddr 0, .long x4, .retAddr 0, .long x50, .retAddr 0, .long x4, .retAddr 0] [] (lj_put σ 0 20 0) := by rw [lj_D_eq]; rfl
set_option maxRecDepth 100000 in
set_option maxHeartbeats 4000000 in
theorem km_227_172 (x1 : Int32) (x2 : Int64) (x4 : Int64) (x6 : Int64) (x8 : Int64) (σ : lj_S) : lj_D lm_P lm_M227 172 [.ref 0, .int x1, .long x2, .retAddr 0, .long x4, .retAddr 0, .long x6, .retAddr 0, .long x8, .retAddr 0] [] σ = (if 0 < (lg_cmp x8 x6) then lj_D lm_P lm_M227 217 [.ref 0, .int x1, .long x2, .retAddr 0, .long x4, .retAddr 0, .long x6, .retAddr 0, .long x8, .retAddr 0] [] σ else (if (lg_cmp x8 0) ≤ 0 then lj_D lm_P lm_M227 217 [.ref 0, .int x1, .long x2, .retAddr 0, .long x4, .retAddr 0, .long x6, .retAddr 0, .long x8, .retAddr 0] [] σ else (if lj_in x1 3000 then (if lj_in (((σ.1 3 x1.toNatClampNeg) + ((x8 : Int64).toInt32)) - 1) 40000 then lj_bv (lj_R lm_P 134 [.ref 0, .int ((σ.1 2 ((((σ.1 3 x1.toNatClampNeg) + ((x8 : Int64).toInt32)) - 1).toNatClampNeg)))] σ) (fun σ1 => lj_D lm_P lm_M227 172 [.ref 0, .int x1, .long x2, .retAddr 0, .long x4, .retAddr 0, .long x6, .retAddr 0, .long (x8 + 1), .retAddr 0] [] σ1) lj_up else none) else none))) := by rw [lj_D_eq]; rfl
set_option maxRecDepth 100000 in
set_option maxHeartbeats 4000000 in
theorem km_227_217 (x1 : Int32) (x2 : Int64) (x4 : Int64) (x6 : Int64) (x8 : Int64) (σ : lj_S) : lj_D lm_P lm_M227 217 [.ref 0, .int x1, .long x2, .retAddr 0, .long x4, .retAddr 0, .long x6, .retAddr 0, .long x8, .retAddr 0] [] σ = lj_bv (lj_R lm_P 194 [.ref 0] σ) (fun σ1 => some (.inl none, σ1)) lj_up := by rw [lj_D_eq]; rfl
-- TableTongueModel.byteOf()V
set_option maxRecDepth 100000 in
theorem rm_228  (σ : lj_S) : lj_R lm_P 228 [.ref 0] σ = lj_D lm_P lm_M228 0 [.ref 0, .retAddr 0, .retAddr 0, .retAddr 0, .retAddr 0, .retAddr 0] [] σ := lj_R_eq (nL := 6) (M := lm_M228) _ _ _ _ rfl rfl
set_option maxRecDepth 100000 in
set_option maxHeartbeats 4000000 in
theorem km_228_0  (σ : lj_S) : lj_D lm_P lm_M228 0 [.ref 0, .retAddr 0, .retAddr 0, .retAddr 0, .retAddr 0, .retAddr 0] [] σ = lj_bi (lj_R lm_P 198 [.ref 0, .int 1, .int 3, .int 23] σ) (fun y2 σ1 => (if y2 = 0 then some (.inl none, σ1) else lj_bi (lj_R lm_P 190 [.ref 0, .int 2] σ1) (fun y4 σ3 => (if y4 = 0 then lj_D lm_P lm_M228 37 [.ref 0, .retAddr 0, .retAddr 0, .retAddr 0, .retAddr 0, .retAddr 0] [] σ3 else lj_bi (lj_R lm_P 190 [.ref 0, .int 2] σ3) (fun y6 σ5 => (if y6 = 2 then lj_D lm_P lm_M228 37 [.ref 0, .retAddr 0, .retAddr 0, .retAddr 0, .retAddr 0, .retAddr 0] [] σ5 else lj_bv (lj_R lm_P 199 [.ref 0, .int 2, .int 23] σ5) (fun σ7 => some (.inl none, σ7)) lj_up)) lj_up)) lj_up)) lj_up := by rw [lj_D_eq]; rfl
set_option maxRecDepth 100000 in
set_option maxHeartbeats 4000000 in
theorem km_228_37  (σ : lj_S) : lj_D lm_P lm_M228 37 [.ref 0, .retAddr 0, .retAddr 0, .retAddr 0, .retAddr 0, .retAddr 0] [] σ = lj_bl (lj_R lm_P 191 [.ref 0, .int 1] σ) (fun y2 σ1 => (if lj_in ((y2 : Int64).toInt32) 3000 then lj_bi (lj_R lm_P 190 [.ref 0, .int 2] σ1) (fun y4 σ3 => (if y4 = 0 then lj_D lm_P lm_M228 91 [.ref 0, .int ((y2 : Int64).toInt32), .long ((((σ1.1 4 (((y2 : Int64).toInt32).toNatClampNeg))) : Int32).toInt64), .retAddr 0, .retAddr 0, .retAddr 0] [.long 1] σ3 else lj_bl (lj_R lm_P 191 [.ref 0, .int 2] σ3) (fun y6 σ5 => (if 0 ≤ (lg_cmp y6 0) then lj_bl (lj_R lm_P 191 [.ref 0, .int 2] σ5) (fun y8 σ7 => lj_D lm_P lm_M228 91 [.ref 0, .int ((y2 : Int64).toInt32), .long ((((σ1.1 4 (((y2 : Int64).toInt32).toNatClampNeg))) : Int32).toInt64), .retAddr 0, .retAddr 0, .retAddr 0] [.long y8] σ7) lj_up else lj_bl (lj_R lm_P 191 [.ref 0, .int 2] σ5) (fun y10 σ9 => lj_D lm_P lm_M228 91 [.ref 0, .int ((y2 : Int64).toInt32), .long ((((σ1.1 4 (((y2 : Int64).toInt32).toNatClampNeg))) : Int32).toInt64), .retAddr 0, .retAddr 0, .retAddr 0] [.long ((((((σ1.1 4 (((y2 : Int64).toInt32).toNatClampNeg))) : Int32).toInt64) + y10) + 1)] σ9) lj_up)) lj_up)) lj_up else none)) lj_up := by rw [lj_D_eq]; rfl
set_option maxRecDepth 100000 in
set_option maxHeartbeats 4000000 in
theorem km_228_91 (x1 : Int32) (x2 : Int64) (x50 : Int64) (σ : lj_S) : lj_D lm_P lm_M228 91 [.ref 0, .int x1, .long x2, .retAddr 0, .retAddr 0, .retAddr 0] [.long x50] σ = lj_bv (lj_R lm_P 192 [.ref 0] σ) (fun σ1 => (if (lg_cmp x50 1) < 0 then lj_D lm_P lm_M228 138 [.ref 0, .int x1, .long x2, .retAddr 0, .long x50, .retAddr 0] [] σ1 else (if 0 < (lg_cmp x50 x2) then lj_D lm_P lm_M228 138 [.ref 0, .int x1, .long x2, .retAddr 0, .long x50, .retAddr 0] [] σ1 else (if lj_in x1 3000 then (if lj_in (((σ1.1 3 x1.toNatClampNeg) + ((x50 : Int64).toInt32)) - 1) 40000 then lj_bv (lj_R lm_P 184 [.ref 0, .int 2, .long (((((σ1.1 2 ((((σ1.1 3 x1.toNatClampNeg) + ((x50 : Int64).toInt32)) - 1).toNatClampNeg))) &&& 255) : Int32).toInt64)] σ1) (fun σ2 => lj_D lm_P lm_M228 138 [.ref 0, .int x1, .long x2, .retAddr 0, .long x50, .retAddr 0] [] σ2) lj_up else none) else none)))) lj_up := by rw [lj_D_eq]; rfl
set_option maxRecDepth 100000 in
set_option maxHeartbeats 4000000 in
theorem km_228_138 (x1 : Int32) (x2 : Int64) (x4 : Int64) (σ : lj_S) : lj_D lm_P lm_M228 138 [.ref 0, .int x1, .long x2, .retAddr 0, .long x4, .retAddr 0] [] σ = some (.inl none, σ) := by rw [lj_D_eq]; rfl
-- TableTongueModel.chars()V
set_option maxRecDepth 100000 in
theorem rm_229  (σ : lj_S) : lj_R lm_P 229 [.ref 0] σ = lj_D lm_P lm_M229 0 [.ref 0, .retAddr 0] [] σ := lj_R_eq (nL := 2) (M := lm_M229) _ _ _ _ rfl rfl
set_option maxRecDepth 100000 in
set_option maxHeartbeats 4000000 in
theorem km_229_0  (σ : lj_S) : lj_D lm_P lm_M229 0 [.ref 0, .retAddr 0] [] σ = lj_D lm_P lm_M229 2 [.ref 0, .int 1] [] σ := by rw [lj_D_eq]; rfl
set_option maxRecDepth 100000 in
set_option maxHeartbeats 4000000 in
theorem km_229_2 (x1 : Int32) (σ : lj_S) : lj_D lm_P lm_M229 2 [.ref 0, .int x1] [] σ = (if (σ.1 0 137) < x1 then lj_D lm_P lm_M229 62 [.ref 0, .int 1] [] (lj_put σ 0 20 0) else lj_bi (lj_R lm_P 190 [.ref 0, .int x1] σ) (fun y2 σ1 => (if y2 = 2 then lj_bl (lj_R lm_P 191 [.ref 0, .int x1] σ1) (fun y4 σ3 => (if (lg_cmp y4 0) < 0 then lj_D lm_P lm_M229 41 [.ref 0, .int x1] [] σ3 else lj_bl (lj_R lm_P 191 [.ref 0, .int x1] σ3) (fun y6 σ5 => (if (lg_cmp y6 255) ≤ 0 then lj_D lm_P lm_M229 2 [.ref 0, .int (x1 + 1)] [] σ5 else lj_D lm_P lm_M229 41 [.ref 0, .int x1] [] σ5)) lj_up)) lj_up else lj_D lm_P lm_M229 41 [.ref 0, .int x1] [] σ1)) lj_up) := by rw [lj_D_eq]; rfl
set_option maxRecDepth 100000 in
set_option maxHeartbeats 4000000 in
theorem km_229_41 (x1 : Int32) (σ : lj_S) : lj_D lm_P lm_M229 41 [.ref 0, .int x1] [] σ = lj_bv (lj_R lm_P 199 [.ref 0, .int x1, .int 24] σ) (fun σ1 => some (.inl none, σ1)) lj_up := by rw [lj_D_eq]; rfl
set_option maxRecDepth 100000 in
set_option maxHeartbeats 4000000 in
theorem km_229_62 (x1 : Int32) (σ : lj_S) : lj_D lm_P lm_M229 62 [.ref 0, .int x1] [] σ = (if (σ.1 0 137) < x1 then lj_bv (lj_R lm_P 194 [.ref 0] σ) (fun σ1 => some (.inl none, σ1)) lj_up else lj_bl (lj_R lm_P 191 [.ref 0, .int x1] σ) (fun y3 σ2 => lj_bv (lj_R lm_P 134 [.ref 0, .int ((y3 : Int64).toInt32)] σ2) (fun σ4 => lj_D lm_P lm_M229 62 [.ref 0, .int (x1 + 1)] [] σ4) lj_up) lj_up) := by rw [lj_D_eq]; rfl
-- TableTongueModel.repeat()V
set_option maxRecDepth 100000 in
theorem rm_230  (σ : lj_S) : lj_R lm_P 230 [.ref 0] σ = lj_D lm_P lm_M230 0 [.ref 0, .retAddr 0, .retAddr 0, .retAddr 0, .retAddr 0, .retAddr 0] [] σ := lj_R_eq (nL := 6) (M := lm_M230) _ _ _ _ rfl rfl
set_option maxRecDepth 100000 in
set_option maxHeartbeats 4000000 in
theorem km_230_0  (σ : lj_S) : lj_D lm_P lm_M230 0 [.ref 0, .retAddr 0, .retAddr 0, .retAddr 0, .retAddr 0, .retAddr 0] [] σ = lj_bi (lj_R lm_P 198 [.ref 0, .int 1, .int 3, .int 25] σ) (fun y2 σ1 => (if y2 = 0 then lj_D lm_P lm_M230 22 [.ref 0, .retAddr 0, .retAddr 0, .retAddr 0, .retAddr 0, .retAddr 0] [] σ1 else lj_bi (lj_R lm_P 198 [.ref 0, .int 2, .int 2, .int 25] σ1) (fun y4 σ3 => (if y4 = 0 then lj_D lm_P lm_M230 22 [.ref 0, .retAddr 0, .retAddr 0, .retAddr 0, .retAddr 0, .retAddr 0] [] σ3 else lj_bl (lj_R lm_P 191 [.ref 0, .int 1] σ3) (fun y6 σ5 => lj_bl (lj_R lm_P 191 [.ref 0, .int 2] σ5) (fun y8 σ7 => (if (lg_cmp y8 1) < 0 then lj_D lm_P lm_M230 49 [.ref 0, .int ((y6 : Int64).toInt32), .retAddr 0, .retAddr 0, .retAddr 0, .retAddr 0] [] σ7 else (if lj_in ((y6 : Int64).toInt32) 3000 then (if ((σ7.1 4 (((y6 : Int64).toInt32).toNatClampNeg))) = 0 then lj_D lm_P lm_M230 49 [.ref 0, .int ((y6 : Int64).toInt32), .retAddr 0, .retAddr 0, .retAddr 0, .retAddr 0] [] σ7 else lj_bl (lj_R lm_P 191 [.ref 0, .int 2] σ7) (fun y10 σ9 => lj_D lm_P lm_M230 58 [.ref 0, .int ((y6 : Int64).toInt32), .retAddr 0, .retAddr 0, .retAddr 0, .retAddr 0] [.long y10] σ9) lj_up) else none))) lj_up) lj_up)) lj_up)) lj_up := by rw [lj_D_eq]; rfl
set_option maxRecDepth 100000 in
set_option maxHeartbeats 4000000 in
theorem km_230_22  (σ : lj_S) : lj_D lm_P lm_M230 22 [.ref 0, .retAddr 0, .retAddr 0, .retAddr 0, .retAddr 0, .retAddr 0] [] σ = some (.inl none, σ) := by rw [lj_D_eq]; rfl
set_option maxRecDepth 100000 in
set_option maxHeartbeats 4000000 in
theorem km_230_49 (x1 : Int32) (σ : lj_S) : lj_D lm_P lm_M230 49 [.ref 0, .int x1, .retAddr 0, .retAddr 0, .retAddr 0, .retAddr 0] [] σ = lj_D lm_P lm_M230 58 [.ref 0, .int x1, .retAddr 0, .retAddr 0, .retAddr 0, .retAddr 0] [.long 0] σ := by rw [lj_D_eq]; rfl
set_option maxRecDepth 100000 in
set_option maxHeartbeats 4000000 in
theorem km_230_58 (x1 : Int32) (x50 : Int64) (σ : lj_S) : lj_D lm_P lm_M230 58 [.ref 0, .int x1, .retAddr 0, .retAddr 0, .retAddr 0, .retAddr 0] [.long x50] σ = (if 0 < (lg_cmp x50 1000) then lj_D lm_P lm_M230 83 [.ref 0, .int x1, .long x50, .retAddr 0, .retAddr 0, .retAddr 0] [] σ else (if lj_in x1 3000 then (if (lg_cmp (x50 * (((σ.1 4 x1.toNatClampNeg) : Int32).toInt64)) 1000) ≤ 0 then lj_D lm_P lm_M230 102 [.ref 0, .int x1, .long x50, .retAddr 0, .long 0, .retAddr 0] [] (lj_put σ 0 20 0) else lj_D lm_P lm_M230 83 [.ref 0, .int x1, .long x50, .retAddr 0, .retAddr 0, .retAddr 0] [] σ) else none)) := by rw [lj_D_eq]; rfl
set_option maxRecDepth 100000 in
set_option maxHeartbeats 4000000 in
theorem km_230_83 (x1 : Int32) (x2 : Int64) (σ : lj_S) : lj_D lm_P lm_M230 83 [.ref 0, .int x1, .long x2, .retAddr 0, .retAddr 0, .retAddr 0] [] σ = lj_bv (lj_R lm_P 142 [.ref 0, .int 7, .int (σ.1 0 132)] σ) (fun σ1 => some (.inl none, σ1)) lj_up := by rw [lj_D_eq]; rfl
set_option maxRecDepth 100000 in
set_option maxHeartbeats 4000000 in
theorem km_230_102 (x1 : Int32) (x2 : Int64) (x4 : Int64) (σ : lj_S) : lj_D lm_P lm_M230 102 [.ref 0, .int x1, .long x2, .retAddr 0, .long x4, .retAddr 0] [] σ = (if 0 ≤ (lg_cmp x4 x2) then lj_bv (lj_R lm_P 194 [.ref 0] σ) (fun σ1 => some (.inl none, σ1)) lj_up else lj_bv (lj_R lm_P 137 [.ref 0, .int x1] σ) (fun σ2 => lj_D lm_P lm_M230 102 [.ref 0, .int x1, .long x2, .retAddr 0, .long (x4 + 1), .retAddr 0] [] σ2) lj_up) := by rw [lj_D_eq]; rfl
-- TableTongueModel.newPart()V
set_option maxRecDepth 100000 in
theorem rm_231  (σ : lj_S) : lj_R lm_P 231 [.ref 0] σ = lj_D lm_P lm_M231 0 [.ref 0, .retAddr 0] [] σ := lj_R_eq (nL := 2) (M := lm_M231) _ _ _ _ rfl rfl
set_option maxRecDepth 100000 in
set_option maxHeartbeats 4000000 in
theorem km_231_0  (σ : lj_S) : lj_D lm_P lm_M231 0 [.ref 0, .retAddr 0] [] σ = lj_bi (lj_R lm_P 190 [.ref 0, .int 1] σ) (fun y2 σ1 => lj_bi (lj_R lm_P 140 [.int y2] σ1) (fun y4 σ3 => (if y4 = 0 then lj_bv (lj_R lm_P 199 [.ref 0, .int 1, .int 26] σ3) (fun σ12 => some (.inl none, σ12)) lj_up else (if (σ3.1 0 110) = 25 then some (.inl none, (lj_put σ3 0 143 4)) else lj_bi (lj_R lm_P 111 [.ref 0, .int 6] σ3) (fun y6 σ5 => (if y6 = 0 then some (.inl none, σ5) else (if lj_in y6 2002 then (if lj_in ((σ5.1 0 110) + 1) 26 then (if lj_in ((σ5.1 0 110) + 1) 26 then lj_bi (lj_R lm_P 190 [.ref 0, .int 1] (lj_put (lj_put (lj_put (lj_put σ5 0 110 ((σ5.1 0 110) + 1)) 43 y6.toNatClampNeg ((σ5.1 0 110) + 1)) 59 (((σ5.1 0 110) + 1).toNatClampNeg) y6) 58 (((σ5.1 0 110) + 1).toNatClampNeg) 0)) (fun y8 σ7 => (if lj_in ((σ5.1 0 110) + 1) 26 then lj_bl (lj_R lm_P 191 [.ref 0, .int 1] (lj_put σ7 60 (((σ5.1 0 110) + 1).toNatClampNeg) y8)) (fun y10 σ9 => (if lj_in (σ7.1 0 110) 26 then (if lj_in (σ9.1 0 110) 26 then (if lj_in (σ9.1 0 110) 26 then (if lj_in (σ9.1 0 110) 26 then (if lj_in (σ9.1 0 110) 26 then lj_bv (lj_R lm_P 195 [.ref 0, .int 6, .long ((y6 : Int32).toInt64)] (lj_put (lj_put (lj_put (lj_put (lj_putL σ9 61 ((σ7.1 0 110).toNatClampNeg) y10) 62 ((σ9.1 0 110).toNatClampNeg) 0) 63 ((σ9.1 0 110).toNatClampNeg) 0) 64 ((σ9.1 0 110).toNatClampNeg) 0) 65 ((σ9.1 0 110).toNatClampNeg) 0)) (fun σ11 => some (.inl none, σ11)) lj_up else none) else none) else none) else none) else none)) lj_up else none)) lj_up else none) else none) else none))) lj_up))) lj_up) lj_up := by rw [lj_D_eq]; rfl
-- TableTongueModel.go()V
set_option maxRecDepth 100000 in
theorem rm_232  (σ : lj_S) : lj_R lm_P 232 [.ref 0] σ = lj_D lm_P lm_M232 0 [.ref 0, .retAddr 0, .retAddr 0, .retAddr 0] [] σ := lj_R_eq (nL := 4) (M := lm_M232) _ _ _ _ rfl rfl
set_option maxRecDepth 100000 in
set_option maxHeartbeats 4000000 in
theorem km_232_0  (σ : lj_S) : lj_D lm_P lm_M232 0 [.ref 0, .retAddr 0, .retAddr 0, .retAddr 0] [] σ = lj_bi (lj_R lm_P 198 [.ref 0, .int 1, .int 6, .int 27] σ) (fun y2 σ1 => (if y2 = 0 then some (.inl none, σ1) else lj_bl (lj_R lm_P 191 [.ref 0, .int 1] σ1) (fun y4 σ3 => lj_bi (lj_R lm_P 233 [.ref 0, .long y4] σ3) (fun y6 σ5 => (if lj_in y6 26 then (if (σ5.1 58 y6.toNatClampNeg) ≤ 1 then lj_bi (lj_R lm_P 234 [.ref 0] σ5) (fun y8 σ7 => (if y8 = 10 then lj_bv (lj_R lm_P 142 [.ref 0, .int 13, .int (σ7.1 0 132)] σ7) (fun σ9 => some (.inl none, σ9)) lj_up else (if lj_in y6 26 then (if (σ7.1 58 y6.toNatClampNeg) = 0 then lj_D lm_P lm_M232 112 [.ref 0, .int y6, .retAddr 0, .retAddr 0] [.int 1] σ7 else lj_D lm_P lm_M232 112 [.ref 0, .int y6, .retAddr 0, .retAddr 0] [.int 0] σ7) else none))) lj_up else (if lj_in y6 26 then (if (σ5.1 58 y6.toNatClampNeg) = 4 then lj_D lm_P lm_M232 56 [.ref 0, .int y6, .retAddr 0, .retAddr 0] [.int 35, .ref 0] (lj_put σ5 0 20 0) else lj_D lm_P lm_M232 56 [.ref 0, .int y6, .retAddr 0, .retAddr 0] [.int 34, .ref 0] (lj_put σ5 0 20 0)) else none)) else none)) lj_up) lj_up)) lj_up := by rw [lj_D_eq]; rfl
set_option maxRecDepth 100000 in
set_option maxHeartbeats 4000000 in
theorem km_232_56 (x1 : Int32) (x50 : Int32) (σ : lj_S) : lj_D lm_P lm_M232 56 [.ref 0, .int x1, .retAddr 0, .retAddr 0] [.int x50, .ref 0] σ = lj_bv (lj_R lm_P 137 [.ref 0, .int x50] σ) (fun σ1 => lj_bi (lj_R lm_P 139 [.ref 0] σ1) (fun y3 σ2 => lj_bv (lj_R lm_P 195 [.ref 0, .int 1, .long 0] σ2) (fun σ4 => lj_bv (lj_R lm_P 184 [.ref 0, .int 3, .long ((y3 : Int32).toInt64)] σ4) (fun σ5 => some (.inl none, σ5)) lj_up) lj_up) lj_up) lj_up := by rw [lj_D_eq]; rfl
set_option maxRecDepth 100000 in
set_option maxHeartbeats 4000000 in
theorem km_232_112 (x1 : Int32) (x50 : Int32) (σ : lj_S) : lj_D lm_P lm_M232 112 [.ref 0, .int x1, .retAddr 0, .retAddr 0] [.int x50] σ = (if lj_in x1 26 then (if lj_in x1 26 then (if lj_in x1 26 then (if lj_in (σ.1 0 111) 26 then (if lj_in x1 26 then lj_bv (lj_R lm_P 204 [.ref 0] (lj_put (lj_put (lj_put (lj_put (lj_put (lj_put σ 66 x1.toNatClampNeg (σ.1 0 111)) 67 x1.toNatClampNeg (σ.1 0 130)) 68 x1.toNatClampNeg (σ.1 0 131)) 58 ((σ.1 0 111).toNatClampNeg) 3) 58 x1.toNatClampNeg 2) 0 111 x1)) (fun σ1 => (if x50 = 0 then lj_D lm_P lm_M232 214 [.ref 0, .int x1, .int x50, .int 0] [] (lj_put σ1 0 140 (σ1.1 0 137)) else (if lj_in x1 26 then (if lj_in x1 26 then some (.inl none, (lj_put (lj_put (lj_putL (lj_put σ1 0 133 (σ1.1 60 x1.toNatClampNeg)) 0 134 (σ1.2 61 x1.toNatClampNeg)) 0 130 0) 0 131 (-1))) else none) else none))) lj_up else none) else none) else none) else none) else none) := by rw [lj_D_eq]; rfl
set_option maxRecDepth 100000 in
set_option maxHeartbeats 4000000 in
theorem km_232_214 (x1 : Int32) (x2 : Int32) (x3 : Int32) (σ : lj_S) : lj_D lm_P lm_M232 214 [.ref 0, .int x1, .int x2, .int x3] [] σ = (if (σ.1 0 137) ≤ x3 then (if lj_in x1 26 then (if lj_in x1 26 then some (.inl none, (lj_put (lj_put (lj_put σ 0 130 (σ.1 69 x1.toNatClampNeg)) 0 131 (σ.1 70 x1.toNatClampNeg)) 0 129 1)) else none) else none) else (if lj_in x3 128 then (if lj_in x3 128 then (if lj_in x3 128 then (if lj_in x3 128 then lj_D lm_P lm_M232 214 [.ref 0, .int x1, .int x2, .int (x3 + 1)] [] (lj_putL (lj_put σ 90 x3.toNatClampNeg (σ.1 88 x3.toNatClampNeg)) 91 x3.toNatClampNeg (σ.2 89 x3.toNatClampNeg)) else none) else none) else none) else none)) := by rw [lj_D_eq]; rfl
-- TableTongueModel.partAt(J)I
set_option maxRecDepth 100000 in
theorem rm_233 (x1 : Int64) (σ : lj_S) : lj_R lm_P 233 [.ref 0, .long x1] σ = lj_D lm_P lm_M233 0 [.ref 0, .long x1, .retAddr 0] [] σ := lj_R_eq (nL := 3) (M := lm_M233) _ _ _ _ rfl rfl
set_option maxRecDepth 100000 in
set_option maxHeartbeats 4000000 in
theorem km_233_0 (x1 : Int64) (σ : lj_S) : lj_D lm_P lm_M233 0 [.ref 0, .long x1, .retAddr 0] [] σ = (if (lg_cmp x1 0) = 0 then lj_D lm_P lm_M233 17 [.ref 0, .long x1, .retAddr 0] [.int 0] σ else (if lj_in ((x1 : Int64).toInt32) 2002 then lj_D lm_P lm_M233 17 [.ref 0, .long x1, .retAddr 0] [.int ((σ.1 43 (((x1 : Int64).toInt32).toNatClampNeg)))] σ else none)) := by rw [lj_D_eq]; rfl
set_option maxRecDepth 100000 in
set_option maxHeartbeats 4000000 in
theorem km_233_17 (x1 : Int64) (x50 : Int32) (σ : lj_S) : lj_D lm_P lm_M233 17 [.ref 0, .long x1, .retAddr 0] [.int x50] σ = some (.inl (some (.int x50)), σ) := by rw [lj_D_eq]; rfl
-- TableTongueModel.openParts()I
set_option maxRecDepth 100000 in
theorem rm_234  (σ : lj_S) : lj_R lm_P 234 [.ref 0] σ = lj_D lm_P lm_M234 0 [.ref 0, .retAddr 0, .retAddr 0] [] σ := lj_R_eq (nL := 3) (M := lm_M234) _ _ _ _ rfl rfl
set_option maxRecDepth 100000 in
set_option maxHeartbeats 4000000 in
theorem km_234_0  (σ : lj_S) : lj_D lm_P lm_M234 0 [.ref 0, .retAddr 0, .retAddr 0] [] σ = lj_D lm_P lm_M234 7 [.ref 0, .int 0, .int (σ.1 0 111)] [] σ := by rw [lj_D_eq]; rfl
set_option maxRecDepth 100000 in
set_option maxHeartbeats 4000000 in
theorem km_234_7 (x1 : Int32) (x2 : Int32) (σ : lj_S) : lj_D lm_P lm_M234 7 [.ref 0, .int x1, .int x2] [] σ = (if x2 ≤ 0 then some (.inl (some (.int x1)), σ) else (if lj_in x2 26 then lj_D lm_P lm_M234 7 [.ref 0, .int (x1 + 1), .int (σ.1 66 x2.toNatClampNeg)] [] σ else none)) := by rw [lj_D_eq]; rfl
-- TableTongueModel.stop()V
set_option maxRecDepth 100000 in
theorem rm_235  (σ : lj_S) : lj_R lm_P 235 [.ref 0] σ = lj_D lm_P lm_M235 0 [.ref 0, .retAddr 0, .retAddr 0] [] σ := lj_R_eq (nL := 3) (M := lm_M235) _ _ _ _ rfl rfl
set_option maxRecDepth 100000 in
set_option maxHeartbeats 4000000 in
theorem km_235_0  (σ : lj_S) : lj_D lm_P lm_M235 0 [.ref 0, .retAddr 0, .retAddr 0] [] σ = (if (σ.1 0 111) ≤ 0 then lj_D lm_P lm_M235 12 [.ref 0, .retAddr 0, .retAddr 0] [.int 0] σ else lj_D lm_P lm_M235 12 [.ref 0, .retAddr 0, .retAddr 0] [.int 1] σ) := by rw [lj_D_eq]; rfl
set_option maxRecDepth 100000 in
set_option maxHeartbeats 4000000 in
theorem km_235_12 (x50 : Int32) (σ : lj_S) : lj_D lm_P lm_M235 12 [.ref 0, .retAddr 0, .retAddr 0] [.int x50] σ = lj_D lm_P lm_M235 15 [.ref 0, .int x50, .int 0] [] σ := by rw [lj_D_eq]; rfl
set_option maxRecDepth 100000 in
set_option maxHeartbeats 4000000 in
theorem km_235_15 (x1 : Int32) (x2 : Int32) (σ : lj_S) : lj_D lm_P lm_M235 15 [.ref 0, .int x1, .int x2] [] σ = (if lj_in (σ.1 0 111) 26 then (if ((σ.1 62 ((σ.1 0 111).toNatClampNeg))) ≤ x2 then (if x1 = 0 then lj_bv (lj_R lm_P 142 [.ref 0, .int 15, .int (σ.1 0 132)] σ) (fun σ1 => some (.inl none, σ1)) lj_up else (if lj_in (σ.1 0 111) 26 then (if lj_in (σ.1 0 111) 26 then (if lj_in (σ.1 0 111) 26 then lj_D lm_P lm_M235 123 [.ref 0, .int x1, .int 0] [] (lj_put (lj_put (lj_put (lj_put σ 58 ((σ.1 0 111).toNatClampNeg) 1) 69 ((σ.1 0 111).toNatClampNeg) (σ.1 0 130)) 70 ((σ.1 0 111).toNatClampNeg) (σ.1 0 131)) 0 140 (σ.1 0 137)) else none) else none) else none)) else (if x1 = 0 then lj_D lm_P lm_M235 54 [.ref 0, .int x1, .int x2] [] σ else (if lj_in ((48 * (σ.1 0 111)) + x2) 1248 then (if ((σ.1 74 (((48 * (σ.1 0 111)) + x2).toNatClampNeg))) = 2 then lj_D lm_P lm_M235 54 [.ref 0, .int x1, .int x2] [] σ else lj_D lm_P lm_M235 55 [.ref 0, .int x1, .int x2] [.int 1] σ) else none))) else none) := by rw [lj_D_eq]; rfl
set_option maxRecDepth 100000 in
set_option maxHeartbeats 4000000 in
theorem km_235_54 (x1 : Int32) (x2 : Int32) (σ : lj_S) : lj_D lm_P lm_M235 54 [.ref 0, .int x1, .int x2] [] σ = lj_D lm_P lm_M235 55 [.ref 0, .int x1, .int x2] [.int 0] σ := by rw [lj_D_eq]; rfl
set_option maxRecDepth 100000 in
set_option maxHeartbeats 4000000 in
theorem km_235_55 (x1 : Int32) (x2 : Int32) (x50 : Int32) (σ : lj_S) : lj_D lm_P lm_M235 55 [.ref 0, .int x1, .int x2] [.int x50] σ = lj_D lm_P lm_M235 15 [.ref 0, .int x50, .int (x2 + 1)] [] σ := by rw [lj_D_eq]; rfl
set_option maxRecDepth 100000 in
set_option maxHeartbeats 4000000 in
theorem km_235_123 (x1 : Int32) (x2 : Int32) (σ : lj_S) : lj_D lm_P lm_M235 123 [.ref 0, .int x1, .int x2] [] σ = (if (σ.1 0 137) ≤ x2 then lj_bv (lj_R lm_P 180 [.ref 0, .int 1] σ) (fun σ1 => some (.inl none, σ1)) lj_up else (if lj_in x2 128 then (if lj_in x2 128 then (if lj_in x2 128 then (if lj_in x2 128 then lj_D lm_P lm_M235 123 [.ref 0, .int x1, .int (x2 + 1)] [] (lj_putL (lj_put σ 90 x2.toNatClampNeg (σ.1 88 x2.toNatClampNeg)) 91 x2.toNatClampNeg (σ.2 89 x2.toNatClampNeg)) else none) else none) else none) else none)) := by rw [lj_D_eq]; rfl
-- TableTongueModel.turn()V
set_option maxRecDepth 100000 in
theorem rm_236  (σ : lj_S) : lj_R lm_P 236 [.ref 0] σ = lj_D lm_P lm_M236 0 [.ref 0, .retAddr 0, .retAddr 0] [] σ := lj_R_eq (nL := 3) (M := lm_M236) _ _ _ _ rfl rfl
set_option maxRecDepth 100000 in
set_option maxHeartbeats 4000000 in
theorem km_236_0  (σ : lj_S) : lj_D lm_P lm_M236 0 [.ref 0, .retAddr 0, .retAddr 0] [] σ = lj_bi (lj_R lm_P 198 [.ref 0, .int 1, .int 4, .int 31] σ) (fun y2 σ1 => (if y2 = 0 then lj_D lm_P lm_M236 22 [.ref 0, .retAddr 0, .retAddr 0] [] σ1 else lj_bi (lj_R lm_P 198 [.ref 0, .int 2, .int 2, .int 31] σ1) (fun y4 σ3 => (if y4 = 0 then lj_D lm_P lm_M236 22 [.ref 0, .retAddr 0, .retAddr 0] [] σ3 else lj_bl (lj_R lm_P 191 [.ref 0, .int 2] σ3) (fun y6 σ5 => lj_bl (lj_R lm_P 191 [.ref 0, .int 1] σ5) (fun y8 σ7 => lj_bv (lj_R lm_P 123 [.ref 0, .int ((y8 : Int64).toInt32), .int 2, .long (y6 + 1)] σ7) (fun σ9 => (if (σ9.1 0 90) = 0 then lj_bv (lj_R lm_P 195 [.ref 0, .int 0, .long 0] σ9) (fun σ12 => lj_D lm_P lm_M236 77 [.ref 0, .long (y6 + 1), .retAddr 0] [] σ12) lj_up else lj_bv (lj_R lm_P 195 [.ref 0, .int 2, .long (y6 + 1)] σ9) (fun σ10 => lj_bv (lj_R lm_P 184 [.ref 0, .int (σ10.1 0 90), .long (σ10.2 0 91)] σ10) (fun σ11 => lj_D lm_P lm_M236 77 [.ref 0, .long (y6 + 1), .retAddr 0] [] σ11) lj_up) lj_up)) lj_up) lj_up) lj_up)) lj_up)) lj_up := by rw [lj_D_eq]; rfl
set_option maxRecDepth 100000 in
set_option maxHeartbeats 4000000 in
theorem km_236_22  (σ : lj_S) : lj_D lm_P lm_M236 22 [.ref 0, .retAddr 0, .retAddr 0] [] σ = some (.inl none, σ) := by rw [lj_D_eq]; rfl
set_option maxRecDepth 100000 in
set_option maxHeartbeats 4000000 in
theorem km_236_77 (x1 : Int64) (σ : lj_S) : lj_D lm_P lm_M236 77 [.ref 0, .long x1, .retAddr 0] [] σ = some (.inl none, σ) := by rw [lj_D_eq]; rfl
-- TableTongueModel.goActs()V
set_option maxRecDepth 100000 in
theorem rm_237  (σ : lj_S) : lj_R lm_P 237 [.ref 0] σ = lj_D lm_P lm_M237 0 [.ref 0, .retAddr 0, .retAddr 0] [] σ := lj_R_eq (nL := 3) (M := lm_M237) _ _ _ _ rfl rfl
set_option maxRecDepth 100000 in
set_option maxHeartbeats 4000000 in
theorem km_237_0  (σ : lj_S) : lj_D lm_P lm_M237 0 [.ref 0, .retAddr 0, .retAddr 0] [] σ = lj_bi (lj_R lm_P 122 [.ref 0] σ) (fun y2 σ1 => (if lj_in y2 1248 then (if lj_in (σ1.1 0 111) 26 then (if lj_in y2 1248 then (if lj_in (σ1.1 0 111) 26 then lj_D lm_P lm_M237 35 [.ref 0, .int y2, .retAddr 0] [] (lj_put (lj_put σ1 63 ((σ1.1 0 111).toNatClampNeg) (σ1.1 80 y2.toNatClampNeg)) 64 ((σ1.1 0 111).toNatClampNeg) (σ1.1 81 y2.toNatClampNeg)) else none) else none) else none) else none)) lj_up := by rw [lj_D_eq]; rfl
set_option maxRecDepth 100000 in
set_option maxHeartbeats 4000000 in
theorem km_237_35 (x1 : Int32) (x2 : Value) (σ : lj_S) : lj_D lm_P lm_M237 35 [.ref 0, .int x1, x2] [] σ = (if lj_in x1 1248 then (if lj_in x1 1248 then (if (σ.1 85 x1.toNatClampNeg) ≤ (σ.1 84 x1.toNatClampNeg) then (if lj_in x1 1248 then (if lj_in x1 1248 then (if lj_in x1 1248 then lj_bv (lj_R lm_P 171 [.ref 0] (lj_put (lj_put σ 0 130 (σ.1 78 x1.toNatClampNeg)) 0 131 (σ.1 79 x1.toNatClampNeg))) (fun σ1 => lj_bv (lj_R lm_P 195 [.ref 0, .int 2, .long (((σ.1 86 x1.toNatClampNeg) : Int32).toInt64)] σ1) (fun σ2 => some (.inl none, σ2)) lj_up) lj_up else none) else none) else none) else (if lj_in x1 1248 then (if lj_in x1 1248 then (if lj_in x1 1248 then (if lj_in (((lj_put σ 85 x1.toNatClampNeg ((σ.1 85 x1.toNatClampNeg) - 1)).1 85 x1.toNatClampNeg)) 4004 then lj_bv (lj_R lm_P 130 [.ref 0, .int 4, .long ((((σ.1 95 ((((lj_put σ 85 x1.toNatClampNeg ((σ.1 85 x1.toNatClampNeg) - 1)).1 85 x1.toNatClampNeg)).toNatClampNeg))) : Int32).toInt64), .int 20] (lj_put (lj_put σ 85 x1.toNatClampNeg ((σ.1 85 x1.toNatClampNeg) - 1)) 0 152 (((lj_put σ 85 x1.toNatClampNeg ((σ.1 85 x1.toNatClampNeg) - 1)).1 85 x1.toNatClampNeg)))) (fun σ3 => lj_bi (lj_R lm_P 140 [.int (σ3.1 0 90)] σ3) (fun y5 σ4 => (if y5 = 0 then lj_D lm_P lm_M237 35 [.ref 0, .int x1, .int ((σ.1 95 ((((lj_put σ 85 x1.toNatClampNeg ((σ.1 85 x1.toNatClampNeg) - 1)).1 85 x1.toNatClampNeg)).toNatClampNeg)))] [] σ4 else (if (σ4.1 0 153) = 2147483647 then lj_D lm_P lm_M237 123 [.ref 0, .int x1, .int ((σ.1 95 ((((lj_put σ 85 x1.toNatClampNeg ((σ.1 85 x1.toNatClampNeg) - 1)).1 85 x1.toNatClampNeg)).toNatClampNeg)))] [.int (σ4.1 0 153), .ref 0] σ4 else lj_D lm_P lm_M237 123 [.ref 0, .int x1, .int ((σ.1 95 ((((lj_put σ 85 x1.toNatClampNeg ((σ.1 85 x1.toNatClampNeg) - 1)).1 85 x1.toNatClampNeg)).toNatClampNeg)))] [.int ((σ4.1 0 153) + 1), .ref 0] σ4))) lj_up) lj_up else none) else none) else none) else none)) else none) else none) := by rw [lj_D_eq]; rfl
set_option maxRecDepth 100000 in
set_option maxHeartbeats 4000000 in
theorem km_237_123 (x1 : Int32) (x2 : Int32) (x50 : Int32) (σ : lj_S) : lj_D lm_P lm_M237 123 [.ref 0, .int x1, .int x2] [.int x50, .ref 0] σ = (if lj_in x1 1248 then lj_bv (lj_R lm_P 112 [.ref 0, .int 0, .int 0, .int (σ.1 83 x1.toNatClampNeg)] (lj_put σ 0 153 x50)) (fun σ1 => lj_bv (lj_R lm_P 141 [.ref 0, .int (σ1.1 0 90), .long (σ1.2 0 91), .int 4, .long ((x2 : Int32).toInt64), .int 0, .long 0] σ1) (fun σ2 => some (.inl none, (lj_put σ2 0 137 1))) lj_up) lj_up else none) := by rw [lj_D_eq]; rfl
-- TableTongueModel.told()I
set_option maxRecDepth 100000 in
theorem rm_238  (σ : lj_S) : lj_R lm_P 238 [.ref 0] σ = lj_D lm_P lm_M238 0 [.ref 0] [] σ := lj_R_eq (nL := 1) (M := lm_M238) _ _ _ _ rfl rfl
set_option maxRecDepth 100000 in
set_option maxHeartbeats 4000000 in
theorem km_238_0  (σ : lj_S) : lj_D lm_P lm_M238 0 [.ref 0] [] σ = (if (σ.1 0 143) = 1 then lj_D lm_P lm_M238 25 [.ref 0] [.int 0] σ else (if (σ.1 0 143) = 2 then lj_D lm_P lm_M238 25 [.ref 0] [.int 1] σ else lj_D lm_P lm_M238 25 [.ref 0] [.int 3] σ)) := by rw [lj_D_eq]; rfl
set_option maxRecDepth 100000 in
set_option maxHeartbeats 4000000 in
theorem km_238_25 (x50 : Int32) (σ : lj_S) : lj_D lm_P lm_M238 25 [.ref 0] [.int x50] σ = some (.inl (some (.int x50)), σ) := by rw [lj_D_eq]; rfl
-- TableTongueModel.steps()J
set_option maxRecDepth 100000 in
theorem rm_239  (σ : lj_S) : lj_R lm_P 239 [.ref 0] σ = lj_D lm_P lm_M239 0 [.ref 0] [] σ := lj_R_eq (nL := 1) (M := lm_M239) _ _ _ _ rfl rfl
set_option maxRecDepth 100000 in
set_option maxHeartbeats 4000000 in
theorem km_239_0  (σ : lj_S) : lj_D lm_P lm_M239 0 [.ref 0] [] σ = (if (σ.1 0 3) = 0 then lj_D lm_P lm_M239 20 [.ref 0] [.long 0] (lj_put σ 0 0 0) else lj_D lm_P lm_M239 20 [.ref 0] [.long (σ.2 0 145)] (lj_put σ 0 0 0)) := by rw [lj_D_eq]; rfl
set_option maxRecDepth 100000 in
set_option maxHeartbeats 4000000 in
theorem km_239_20 (x50 : Int64) (σ : lj_S) : lj_D lm_P lm_M239 20 [.ref 0] [.long x50] σ = some (.inl (some (.long x50)), σ) := by rw [lj_D_eq]; rfl
-- TableTongueModel.results()I
set_option maxRecDepth 100000 in
theorem rm_240  (σ : lj_S) : lj_R lm_P 240 [.ref 0] σ = lj_D lm_P lm_M240 0 [.ref 0] [] σ := lj_R_eq (nL := 1) (M := lm_M240) _ _ _ _ rfl rfl
set_option maxRecDepth 100000 in
set_option maxHeartbeats 4000000 in
theorem km_240_0  (σ : lj_S) : lj_D lm_P lm_M240 0 [.ref 0] [] σ = lj_bi (lj_R lm_P 241 [.ref 0] (lj_put σ 0 0 0)) (fun y2 σ1 => some (.inl (some (.int y2)), σ1)) lj_up := by rw [lj_D_eq]; rfl
-- TableTongueModel.results0()I
set_option maxRecDepth 100000 in
theorem rm_241  (σ : lj_S) : lj_R lm_P 241 [.ref 0] σ = lj_D lm_P lm_M241 0 [.ref 0] [] σ := lj_R_eq (nL := 1) (M := lm_M241) _ _ _ _ rfl rfl
set_option maxRecDepth 100000 in
set_option maxHeartbeats 4000000 in
theorem km_241_0  (σ : lj_S) : lj_D lm_P lm_M241 0 [.ref 0] [] σ = (if (σ.1 0 3) = 0 then lj_D lm_P lm_M241 30 [.ref 0] [] σ else (if (σ.1 0 143) = 1 then lj_D lm_P lm_M241 23 [.ref 0] [] σ else (if (σ.1 0 143) = 2 then lj_D lm_P lm_M241 23 [.ref 0] [] σ else lj_D lm_P lm_M241 30 [.ref 0] [] σ))) := by rw [lj_D_eq]; rfl
set_option maxRecDepth 100000 in
set_option maxHeartbeats 4000000 in
theorem km_241_23  (σ : lj_S) : lj_D lm_P lm_M241 23 [.ref 0] [] σ = lj_D lm_P lm_M241 31 [.ref 0] [.int (σ.1 0 148)] σ := by rw [lj_D_eq]; rfl
set_option maxRecDepth 100000 in
set_option maxHeartbeats 4000000 in
theorem km_241_30  (σ : lj_S) : lj_D lm_P lm_M241 30 [.ref 0] [] σ = lj_D lm_P lm_M241 31 [.ref 0] [.int 0] σ := by rw [lj_D_eq]; rfl
set_option maxRecDepth 100000 in
set_option maxHeartbeats 4000000 in
theorem km_241_31 (x50 : Int32) (σ : lj_S) : lj_D lm_P lm_M241 31 [.ref 0] [.int x50] σ = some (.inl (some (.int x50)), σ) := by rw [lj_D_eq]; rfl
-- TableTongueModel.result(II)J
set_option maxRecDepth 100000 in
theorem rm_242 (x1 : Int32) (x2 : Int32) (σ : lj_S) : lj_R lm_P 242 [.ref 0, .int x1, .int x2] σ = lj_D lm_P lm_M242 0 [.ref 0, .int x1, .int x2] [] σ := lj_R_eq (nL := 3) (M := lm_M242) _ _ _ _ rfl rfl
set_option maxRecDepth 100000 in
set_option maxHeartbeats 4000000 in
theorem km_242_0 (x1 : Int32) (x2 : Int32) (σ : lj_S) : lj_D lm_P lm_M242 0 [.ref 0, .int x1, .int x2] [] σ = (if x1 < 0 then lj_D lm_P lm_M242 22 [.ref 0, .int x1, .int x2] [.ref 0] σ else lj_bi (lj_R lm_P 241 [.ref 0] σ) (fun y2 σ1 => (if y2 ≤ x1 then lj_D lm_P lm_M242 22 [.ref 0, .int x1, .int x2] [.ref 0] σ1 else (if x2 < 0 then lj_D lm_P lm_M242 22 [.ref 0, .int x1, .int x2] [.ref 0] σ1 else (if x2 ≤ 1 then lj_D lm_P lm_M242 27 [.ref 0, .int x1, .int x2] [.int 0, .ref 0] σ1 else lj_D lm_P lm_M242 22 [.ref 0, .int x1, .int x2] [.ref 0] σ1)))) lj_up) := by rw [lj_D_eq]; rfl
set_option maxRecDepth 100000 in
set_option maxHeartbeats 4000000 in
theorem km_242_22 (x1 : Int32) (x2 : Int32) (σ : lj_S) : lj_D lm_P lm_M242 22 [.ref 0, .int x1, .int x2] [.ref 0] σ = lj_D lm_P lm_M242 27 [.ref 0, .int x1, .int x2] [.int 1, .ref 0] σ := by rw [lj_D_eq]; rfl
set_option maxRecDepth 100000 in
set_option maxHeartbeats 4000000 in
theorem km_242_27 (x1 : Int32) (x2 : Int32) (x50 : Int32) (σ : lj_S) : lj_D lm_P lm_M242 27 [.ref 0, .int x1, .int x2] [.int x50, .ref 0] σ = (if x50 ≤ 0 then (if x2 = 0 then (if lj_in x1 128 then lj_bi (lj_R lm_P 243 [.int (σ.1 92 x1.toNatClampNeg)] (lj_put σ 0 0 x50)) (fun y4 σ3 => lj_D lm_P lm_M242 72 [.ref 0, .int x1, .int x2] [.long ((y4 : Int32).toInt64)] σ3) lj_up else none) else (if lj_in x1 128 then (if lj_in x1 128 then lj_bl (lj_R lm_P 244 [.ref 0, .int (σ.1 92 x1.toNatClampNeg), .long (σ.2 93 x1.toNatClampNeg)] (lj_put σ 0 0 x50)) (fun y2 σ1 => lj_D lm_P lm_M242 72 [.ref 0, .int x1, .int x2] [.long y2] σ1) lj_up else none) else none)) else some (.inl (some (.long 0)), (lj_put σ 0 0 x50))) := by rw [lj_D_eq]; rfl
set_option maxRecDepth 100000 in
set_option maxHeartbeats 4000000 in
theorem km_242_72 (x1 : Int32) (x2 : Int32) (x50 : Int64) (σ : lj_S) : lj_D lm_P lm_M242 72 [.ref 0, .int x1, .int x2] [.long x50] σ = some (.inl (some (.long x50)), σ) := by rw [lj_D_eq]; rfl
-- TableTongueModel.kindTold(I)I
set_option maxRecDepth 100000 in
theorem rm_243 (x0 : Int32) (σ : lj_S) : lj_R lm_P 243 [.int x0] σ = lj_D lm_P lm_M243 0 [.int x0] [] σ := lj_R_eq (nL := 1) (M := lm_M243) _ _ _ _ rfl rfl
set_option maxRecDepth 100000 in
set_option maxHeartbeats 4000000 in
theorem km_243_0 (x0 : Int32) (σ : lj_S) : lj_D lm_P lm_M243 0 [.int x0] [] σ = (if x0 = 7 then lj_D lm_P lm_M243 11 [.int x0] [.int 5] σ else lj_D lm_P lm_M243 11 [.int x0] [.int x0] σ) := by rw [lj_D_eq]; rfl
set_option maxRecDepth 100000 in
set_option maxHeartbeats 4000000 in
theorem km_243_11 (x0 : Int32) (x50 : Int32) (σ : lj_S) : lj_D lm_P lm_M243 11 [.int x0] [.int x50] σ = some (.inl (some (.int x50)), σ) := by rw [lj_D_eq]; rfl
-- TableTongueModel.worth(IJ)J
set_option maxRecDepth 100000 in
theorem rm_244 (x1 : Int32) (x2 : Int64) (σ : lj_S) : lj_R lm_P 244 [.ref 0, .int x1, .long x2] σ = lj_D lm_P lm_M244 0 [.ref 0, .int x1, .long x2, .retAddr 0] [] σ := lj_R_eq (nL := 4) (M := lm_M244) _ _ _ _ rfl rfl
set_option maxRecDepth 100000 in
set_option maxHeartbeats 4000000 in
theorem km_244_0 (x1 : Int32) (x2 : Int64) (σ : lj_S) : lj_D lm_P lm_M244 0 [.ref 0, .int x1, .long x2, .retAddr 0] [] σ = (if x1 = 0 then lj_D lm_P lm_M244 37 [.ref 0, .int x1, .long x2, .retAddr 0] [.long 0] σ else (if x1 = 3 then (if lj_in ((x2 : Int64).toInt32) 3000 then lj_D lm_P lm_M244 37 [.ref 0, .int x1, .long x2, .retAddr 0] [.long ((((σ.1 4 (((x2 : Int64).toInt32).toNatClampNeg))) : Int32).toInt64)] σ else none) else (if x1 = 7 then lj_D lm_P lm_M244 37 [.ref 0, .int x1, .long x2, .retAddr 0] [.long (-1)] σ else lj_D lm_P lm_M244 37 [.ref 0, .int x1, .long x2, .retAddr 0] [.long x2] σ))) := by rw [lj_D_eq]; rfl
set_option maxRecDepth 100000 in
set_option maxHeartbeats 4000000 in
theorem km_244_37 (x1 : Int32) (x2 : Int64) (x50 : Int64) (σ : lj_S) : lj_D lm_P lm_M244 37 [.ref 0, .int x1, .long x2, .retAddr 0] [.long x50] σ = some (.inl (some (.long x50)), σ) := by rw [lj_D_eq]; rfl
-- TableTongueModel.resultByte(II)I
set_option maxRecDepth 100000 in
theorem rm_245 (x1 : Int32) (x2 : Int32) (σ : lj_S) : lj_R lm_P 245 [.ref 0, .int x1, .int x2] σ = lj_D lm_P lm_M245 0 [.ref 0, .int x1, .int x2] [] σ := lj_R_eq (nL := 3) (M := lm_M245) _ _ _ _ rfl rfl
set_option maxRecDepth 100000 in
set_option maxHeartbeats 4000000 in
theorem km_245_0 (x1 : Int32) (x2 : Int32) (σ : lj_S) : lj_D lm_P lm_M245 0 [.ref 0, .int x1, .int x2] [] σ = (if x1 < 0 then lj_D lm_P lm_M245 43 [.ref 0, .int x1, .int x2] [.ref 0] σ else lj_bi (lj_R lm_P 241 [.ref 0] σ) (fun y2 σ1 => (if y2 ≤ x1 then lj_D lm_P lm_M245 43 [.ref 0, .int x1, .int x2] [.ref 0] σ1 else (if lj_in x1 128 then (if (σ1.1 92 x1.toNatClampNeg) = 3 then (if x2 < 0 then lj_D lm_P lm_M245 43 [.ref 0, .int x1, .int x2] [.ref 0] σ1 else (if lj_in x1 128 then (if lj_in (((σ1.2 93 x1.toNatClampNeg) : Int64).toInt32) 3000 then (if x2 < ((σ1.1 4 ((((σ1.2 93 x1.toNatClampNeg) : Int64).toInt32).toNatClampNeg))) then lj_D lm_P lm_M245 48 [.ref 0, .int x1, .int x2] [.int 0, .ref 0] σ1 else lj_D lm_P lm_M245 43 [.ref 0, .int x1, .int x2] [.ref 0] σ1) else none) else none)) else lj_D lm_P lm_M245 43 [.ref 0, .int x1, .int x2] [.ref 0] σ1) else none))) lj_up) := by rw [lj_D_eq]; rfl
set_option maxRecDepth 100000 in
set_option maxHeartbeats 4000000 in
theorem km_245_43 (x1 : Int32) (x2 : Int32) (σ : lj_S) : lj_D lm_P lm_M245 43 [.ref 0, .int x1, .int x2] [.ref 0] σ = lj_D lm_P lm_M245 48 [.ref 0, .int x1, .int x2] [.int 1, .ref 0] σ := by rw [lj_D_eq]; rfl
set_option maxRecDepth 100000 in
set_option maxHeartbeats 4000000 in
theorem km_245_48 (x1 : Int32) (x2 : Int32) (x50 : Int32) (σ : lj_S) : lj_D lm_P lm_M245 48 [.ref 0, .int x1, .int x2] [.int x50, .ref 0] σ = (if x50 ≤ 0 then (if lj_in x1 128 then (if lj_in (((σ.2 93 x1.toNatClampNeg) : Int64).toInt32) 3000 then (if lj_in (((σ.1 3 ((((σ.2 93 x1.toNatClampNeg) : Int64).toInt32).toNatClampNeg))) + x2) 40000 then lj_D lm_P lm_M245 85 [.ref 0, .int x1, .int x2] [.int (((σ.1 2 ((((σ.1 3 ((((σ.2 93 x1.toNatClampNeg) : Int64).toInt32).toNatClampNeg))) + x2).toNatClampNeg))) &&& 255)] (lj_put σ 0 0 x50) else none) else none) else none) else lj_D lm_P lm_M245 85 [.ref 0, .int x1, .int x2] [.int 0] (lj_put σ 0 0 x50)) := by rw [lj_D_eq]; rfl
set_option maxRecDepth 100000 in
set_option maxHeartbeats 4000000 in
theorem km_245_85 (x1 : Int32) (x2 : Int32) (x50 : Int32) (σ : lj_S) : lj_D lm_P lm_M245 85 [.ref 0, .int x1, .int x2] [.int x50] σ = some (.inl (some (.int x50)), σ) := by rw [lj_D_eq]; rfl
-- TableTongueModel.outputs()I
set_option maxRecDepth 100000 in
theorem rm_246  (σ : lj_S) : lj_R lm_P 246 [.ref 0] σ = lj_D lm_P lm_M246 0 [.ref 0] [] σ := lj_R_eq (nL := 1) (M := lm_M246) _ _ _ _ rfl rfl
set_option maxRecDepth 100000 in
set_option maxHeartbeats 4000000 in
theorem km_246_0  (σ : lj_S) : lj_D lm_P lm_M246 0 [.ref 0] [] σ = (if (σ.1 0 3) = 0 then lj_D lm_P lm_M246 20 [.ref 0] [.int 0] (lj_put σ 0 0 0) else lj_D lm_P lm_M246 20 [.ref 0] [.int (σ.1 0 150)] (lj_put σ 0 0 0)) := by rw [lj_D_eq]; rfl
set_option maxRecDepth 100000 in
set_option maxHeartbeats 4000000 in
theorem km_246_20 (x50 : Int32) (σ : lj_S) : lj_D lm_P lm_M246 20 [.ref 0] [.int x50] σ = some (.inl (some (.int x50)), σ) := by rw [lj_D_eq]; rfl
-- TableTongueModel.output(I)I
set_option maxRecDepth 100000 in
theorem rm_247 (x1 : Int32) (σ : lj_S) : lj_R lm_P 247 [.ref 0, .int x1] σ = lj_D lm_P lm_M247 0 [.ref 0, .int x1] [] σ := lj_R_eq (nL := 2) (M := lm_M247) _ _ _ _ rfl rfl
set_option maxRecDepth 100000 in
set_option maxHeartbeats 4000000 in
theorem km_247_0 (x1 : Int32) (σ : lj_S) : lj_D lm_P lm_M247 0 [.ref 0, .int x1] [] σ = (if (σ.1 0 3) = 0 then lj_D lm_P lm_M247 27 [.ref 0, .int x1] [.ref 0] σ else (if x1 < 0 then lj_D lm_P lm_M247 27 [.ref 0, .int x1] [.ref 0] σ else (if (σ.1 0 150) ≤ x1 then lj_D lm_P lm_M247 27 [.ref 0, .int x1] [.ref 0] σ else (if x1 < 3000 then lj_D lm_P lm_M247 32 [.ref 0, .int x1] [.int 0, .ref 0] σ else lj_D lm_P lm_M247 27 [.ref 0, .int x1] [.ref 0] σ)))) := by rw [lj_D_eq]; rfl
set_option maxRecDepth 100000 in
set_option maxHeartbeats 4000000 in
theorem km_247_27 (x1 : Int32) (σ : lj_S) : lj_D lm_P lm_M247 27 [.ref 0, .int x1] [.ref 0] σ = lj_D lm_P lm_M247 32 [.ref 0, .int x1] [.int 1, .ref 0] σ := by rw [lj_D_eq]; rfl
set_option maxRecDepth 100000 in
set_option maxHeartbeats 4000000 in
theorem km_247_32 (x1 : Int32) (x50 : Int32) (σ : lj_S) : lj_D lm_P lm_M247 32 [.ref 0, .int x1] [.int x50, .ref 0] σ = (if x50 ≤ 0 then (if lj_in x1 3000 then lj_D lm_P lm_M247 56 [.ref 0, .int x1] [.int ((σ.1 94 x1.toNatClampNeg) &&& 255)] (lj_put σ 0 0 x50) else none) else lj_D lm_P lm_M247 56 [.ref 0, .int x1] [.int 0] (lj_put σ 0 0 x50)) := by rw [lj_D_eq]; rfl
set_option maxRecDepth 100000 in
set_option maxHeartbeats 4000000 in
theorem km_247_56 (x1 : Int32) (x50 : Int32) (σ : lj_S) : lj_D lm_P lm_M247 56 [.ref 0, .int x1] [.int x50] σ = some (.inl (some (.int x50)), σ) := by rw [lj_D_eq]; rfl
-- TableTongueModel.count(I)I
set_option maxRecDepth 100000 in
theorem rm_248 (x1 : Int32) (σ : lj_S) : lj_R lm_P 248 [.ref 0, .int x1] σ = lj_D lm_P lm_M248 0 [.ref 0, .int x1] [] σ := lj_R_eq (nL := 2) (M := lm_M248) _ _ _ _ rfl rfl
set_option maxRecDepth 100000 in
set_option maxHeartbeats 4000000 in
theorem km_248_0 (x1 : Int32) (σ : lj_S) : lj_D lm_P lm_M248 0 [.ref 0, .int x1] [] σ = (if x1 < 0 then lj_D lm_P lm_M248 10 [.ref 0, .int x1] [.ref 0] σ else (if x1 ≤ 5 then lj_D lm_P lm_M248 15 [.ref 0, .int x1] [.int 0, .ref 0] σ else lj_D lm_P lm_M248 10 [.ref 0, .int x1] [.ref 0] σ)) := by rw [lj_D_eq]; rfl
set_option maxRecDepth 100000 in
set_option maxHeartbeats 4000000 in
theorem km_248_10 (x1 : Int32) (σ : lj_S) : lj_D lm_P lm_M248 10 [.ref 0, .int x1] [.ref 0] σ = lj_D lm_P lm_M248 15 [.ref 0, .int x1] [.int 1, .ref 0] σ := by rw [lj_D_eq]; rfl
set_option maxRecDepth 100000 in
set_option maxHeartbeats 4000000 in
theorem km_248_15 (x1 : Int32) (x50 : Int32) (σ : lj_S) : lj_D lm_P lm_M248 15 [.ref 0, .int x1] [.int x50, .ref 0] σ = (if 0 < x50 then lj_D lm_P lm_M248 32 [.ref 0, .int x1] [] (lj_put σ 0 0 x50) else (if (σ.1 0 3) = 0 then lj_D lm_P lm_M248 32 [.ref 0, .int x1] [] (lj_put σ 0 0 x50) else (if x1 = 0 then some (.inl (some (.int (σ.1 0 77))), (lj_put σ 0 0 x50)) else (if x1 = 1 then lj_bi (lj_R lm_P 249 [.ref 0, .int 0] (lj_put σ 0 0 x50)) (fun y2 σ1 => some (.inl (some (.int y2)), σ1)) lj_up else (if x1 = 2 then some (.inl (some (.int (σ.1 0 89))), (lj_put σ 0 0 x50)) else (if x1 = 3 then some (.inl (some (.int (σ.1 0 17))), (lj_put σ 0 0 x50)) else (if x1 = 4 then some (.inl (some (.int (σ.1 0 153))), (lj_put σ 0 0 x50)) else lj_bi (lj_R lm_P 249 [.ref 0, .int 1] (lj_put σ 0 0 x50)) (fun y4 σ3 => some (.inl (some (.int y4)), σ3)) lj_up))))))) := by rw [lj_D_eq]; rfl
set_option maxRecDepth 100000 in
set_option maxHeartbeats 4000000 in
theorem km_248_32 (x1 : Int32) (σ : lj_S) : lj_D lm_P lm_M248 32 [.ref 0, .int x1] [] σ = some (.inl (some (.int 0)), σ) := by rw [lj_D_eq]; rfl
-- TableTongueModel.there(Z)I
set_option maxRecDepth 100000 in
theorem rm_249 (x1 : Int32) (σ : lj_S) : lj_R lm_P 249 [.ref 0, .int x1] σ = lj_D lm_P lm_M249 0 [.ref 0, .int x1, .retAddr 0, .retAddr 0] [] σ := lj_R_eq (nL := 4) (M := lm_M249) _ _ _ _ rfl rfl
set_option maxRecDepth 100000 in
set_option maxHeartbeats 4000000 in
theorem km_249_0 (x1 : Int32) (σ : lj_S) : lj_D lm_P lm_M249 0 [.ref 0, .int x1, .retAddr 0, .retAddr 0] [] σ = lj_D lm_P lm_M249 4 [.ref 0, .int x1, .int 0, .int 1] [] σ := by rw [lj_D_eq]; rfl
set_option maxRecDepth 100000 in
set_option maxHeartbeats 4000000 in
theorem km_249_4 (x1 : Int32) (x2 : Int32) (x3 : Int32) (σ : lj_S) : lj_D lm_P lm_M249 4 [.ref 0, .int x1, .int x2, .int x3] [] σ = (if (σ.1 0 77) < x3 then some (.inl (some (.int x2)), σ) else (if lj_in x3 2002 then (if (σ.1 38 x3.toNatClampNeg) ≤ 0 then lj_D lm_P lm_M249 42 [.ref 0, .int x1, .int x2, .int x3] [] σ else (if x1 = 0 then lj_D lm_P lm_M249 36 [.ref 0, .int x1, .int x2, .int x3] [] σ else (if lj_in x3 2002 then (if (lg_cmp (σ.2 42 x3.toNatClampNeg) 0) ≤ 0 then lj_D lm_P lm_M249 42 [.ref 0, .int x1, .int x2, .int x3] [] σ else lj_D lm_P lm_M249 36 [.ref 0, .int x1, .int x2, .int x3] [] σ) else none))) else none)) := by rw [lj_D_eq]; rfl
set_option maxRecDepth 100000 in
set_option maxHeartbeats 4000000 in
theorem km_249_36 (x1 : Int32) (x2 : Int32) (x3 : Int32) (σ : lj_S) : lj_D lm_P lm_M249 36 [.ref 0, .int x1, .int x2, .int x3] [] σ = lj_D lm_P lm_M249 43 [.ref 0, .int x1, .int x2, .int x3] [.int (x2 + 1)] σ := by rw [lj_D_eq]; rfl
set_option maxRecDepth 100000 in
set_option maxHeartbeats 4000000 in
theorem km_249_42 (x1 : Int32) (x2 : Int32) (x3 : Int32) (σ : lj_S) : lj_D lm_P lm_M249 42 [.ref 0, .int x1, .int x2, .int x3] [] σ = lj_D lm_P lm_M249 43 [.ref 0, .int x1, .int x2, .int x3] [.int x2] σ := by rw [lj_D_eq]; rfl
set_option maxRecDepth 100000 in
set_option maxHeartbeats 4000000 in
theorem km_249_43 (x1 : Int32) (x2 : Int32) (x3 : Int32) (x50 : Int32) (σ : lj_S) : lj_D lm_P lm_M249 43 [.ref 0, .int x1, .int x2, .int x3] [.int x50] σ = lj_D lm_P lm_M249 4 [.ref 0, .int x1, .int x50, .int (x3 + 1)] [] σ := by rw [lj_D_eq]; rfl
-- TableTongueModel.object(II)I
set_option maxRecDepth 100000 in
theorem rm_250 (x1 : Int32) (x2 : Int32) (σ : lj_S) : lj_R lm_P 250 [.ref 0, .int x1, .int x2] σ = lj_D lm_P lm_M250 0 [.ref 0, .int x1, .int x2] [] σ := lj_R_eq (nL := 3) (M := lm_M250) _ _ _ _ rfl rfl
set_option maxRecDepth 100000 in
set_option maxHeartbeats 4000000 in
theorem km_250_0 (x1 : Int32) (x2 : Int32) (σ : lj_S) : lj_D lm_P lm_M250 0 [.ref 0, .int x1, .int x2] [] σ = (if (σ.1 0 3) = 0 then lj_D lm_P lm_M250 30 [.ref 0, .int x1, .int x2] [.ref 0] σ else (if x1 < 1 then lj_D lm_P lm_M250 30 [.ref 0, .int x1, .int x2] [.ref 0] σ else (if (σ.1 0 77) < x1 then lj_D lm_P lm_M250 30 [.ref 0, .int x1, .int x2] [.ref 0] σ else (if x2 < 0 then lj_D lm_P lm_M250 30 [.ref 0, .int x1, .int x2] [.ref 0] σ else (if x2 ≤ 1 then lj_D lm_P lm_M250 35 [.ref 0, .int x1, .int x2] [.int 0, .ref 0] σ else lj_D lm_P lm_M250 30 [.ref 0, .int x1, .int x2] [.ref 0] σ))))) := by rw [lj_D_eq]; rfl
set_option maxRecDepth 100000 in
set_option maxHeartbeats 4000000 in
theorem km_250_30 (x1 : Int32) (x2 : Int32) (σ : lj_S) : lj_D lm_P lm_M250 30 [.ref 0, .int x1, .int x2] [.ref 0] σ = lj_D lm_P lm_M250 35 [.ref 0, .int x1, .int x2] [.int 1, .ref 0] σ := by rw [lj_D_eq]; rfl
set_option maxRecDepth 100000 in
set_option maxHeartbeats 4000000 in
theorem km_250_35 (x1 : Int32) (x2 : Int32) (x50 : Int32) (σ : lj_S) : lj_D lm_P lm_M250 35 [.ref 0, .int x1, .int x2] [.int x50, .ref 0] σ = (if 0 < x50 then lj_D lm_P lm_M250 54 [.ref 0, .int x1, .int x2] [] (lj_put σ 0 0 x50) else (if lj_in x1 2002 then (if (σ.1 38 x1.toNatClampNeg) = 0 then lj_D lm_P lm_M250 54 [.ref 0, .int x1, .int x2] [] (lj_put σ 0 0 x50) else (if x2 = 0 then (if lj_in x1 2002 then some (.inl (some (.int (σ.1 38 x1.toNatClampNeg))), (lj_put σ 0 0 x50)) else none) else (if lj_in x1 2002 then (if (σ.1 38 x1.toNatClampNeg) = 4 then lj_bl (lj_R lm_P 166 [.ref 0, .int x1] (lj_put σ 0 0 x50)) (fun y2 σ1 => lj_D lm_P lm_M250 116 [.ref 0, .int x1, .int x2] [.int ((y2 : Int64).toInt32)] σ1) lj_up else (if lj_in x1 2002 then (if (σ.1 38 x1.toNatClampNeg) = 5 then (if lj_in x1 2002 then lj_D lm_P lm_M250 116 [.ref 0, .int x1, .int x2] [.int (σ.1 43 x1.toNatClampNeg)] (lj_put σ 0 0 x50) else none) else (if lj_in x1 2002 then (if lj_in (σ.1 43 x1.toNatClampNeg) 26 then lj_D lm_P lm_M250 116 [.ref 0, .int x1, .int x2] [.int ((σ.1 58 ((σ.1 43 x1.toNatClampNeg).toNatClampNeg)))] (lj_put σ 0 0 x50) else none) else none)) else none)) else none))) else none)) := by rw [lj_D_eq]; rfl
set_option maxRecDepth 100000 in
set_option maxHeartbeats 4000000 in
theorem km_250_54 (x1 : Int32) (x2 : Int32) (σ : lj_S) : lj_D lm_P lm_M250 54 [.ref 0, .int x1, .int x2] [] σ = some (.inl (some (.int 0)), σ) := by rw [lj_D_eq]; rfl
set_option maxRecDepth 100000 in
set_option maxHeartbeats 4000000 in
theorem km_250_116 (x1 : Int32) (x2 : Int32) (x50 : Int32) (σ : lj_S) : lj_D lm_P lm_M250 116 [.ref 0, .int x1, .int x2] [.int x50] σ = some (.inl (some (.int x50)), σ) := by rw [lj_D_eq]; rfl
-- TableTongueModel.place(III)J
set_option maxRecDepth 100000 in
theorem rm_251 (x1 : Int32) (x2 : Int32) (x3 : Int32) (σ : lj_S) : lj_R lm_P 251 [.ref 0, .int x1, .int x2, .int x3] σ = lj_D lm_P lm_M251 0 [.ref 0, .int x1, .int x2, .int x3, .retAddr 0, .retAddr 0, .retAddr 0, .retAddr 0, .retAddr 0] [] σ := lj_R_eq (nL := 9) (M := lm_M251) _ _ _ _ rfl rfl
set_option maxRecDepth 100000 in
set_option maxHeartbeats 4000000 in
theorem km_251_0 (x1 : Int32) (x2 : Int32) (x3 : Int32) (σ : lj_S) : lj_D lm_P lm_M251 0 [.ref 0, .int x1, .int x2, .int x3, .retAddr 0, .retAddr 0, .retAddr 0, .retAddr 0, .retAddr 0] [] σ = (if (σ.1 0 3) = 0 then lj_D lm_P lm_M251 47 [.ref 0, .int x1, .int x2, .int x3, .retAddr 0, .retAddr 0, .retAddr 0, .retAddr 0, .retAddr 0] [] σ else (if x1 < 1 then lj_D lm_P lm_M251 47 [.ref 0, .int x1, .int x2, .int x3, .retAddr 0, .retAddr 0, .retAddr 0, .retAddr 0, .retAddr 0] [] σ else (if (σ.1 0 77) < x1 then lj_D lm_P lm_M251 47 [.ref 0, .int x1, .int x2, .int x3, .retAddr 0, .retAddr 0, .retAddr 0, .retAddr 0, .retAddr 0] [] σ else (if lj_in x1 2002 then (if (σ.1 38 x1.toNatClampNeg) = 4 then (if x2 < 0 then lj_D lm_P lm_M251 47 [.ref 0, .int x1, .int x2, .int x3, .retAddr 0, .retAddr 0, .retAddr 0, .retAddr 0, .retAddr 0] [] σ else (if x3 < 0 then lj_D lm_P lm_M251 47 [.ref 0, .int x1, .int x2, .int x3, .retAddr 0, .retAddr 0, .retAddr 0, .retAddr 0, .retAddr 0] [] σ else (if 3 < x3 then lj_D lm_P lm_M251 47 [.ref 0, .int x1, .int x2, .int x3, .retAddr 0, .retAddr 0, .retAddr 0, .retAddr 0, .retAddr 0] [] σ else lj_D lm_P lm_M251 48 [.ref 0, .int x1, .int x2, .int x3, .retAddr 0, .retAddr 0, .retAddr 0, .retAddr 0, .retAddr 0] [.int 1] σ))) else lj_D lm_P lm_M251 47 [.ref 0, .int x1, .int x2, .int x3, .retAddr 0, .retAddr 0, .retAddr 0, .retAddr 0, .retAddr 0] [] σ) else none)))) := by rw [lj_D_eq]; rfl
set_option maxRecDepth 100000 in
set_option maxHeartbeats 4000000 in
theorem km_251_47 (x1 : Int32) (x2 : Int32) (x3 : Int32) (σ : lj_S) : lj_D lm_P lm_M251 47 [.ref 0, .int x1, .int x2, .int x3, .retAddr 0, .retAddr 0, .retAddr 0, .retAddr 0, .retAddr 0] [] σ = lj_D lm_P lm_M251 48 [.ref 0, .int x1, .int x2, .int x3, .retAddr 0, .retAddr 0, .retAddr 0, .retAddr 0, .retAddr 0] [.int 0] σ := by rw [lj_D_eq]; rfl
set_option maxRecDepth 100000 in
set_option maxHeartbeats 4000000 in
theorem km_251_48 (x1 : Int32) (x2 : Int32) (x3 : Int32) (x50 : Int32) (σ : lj_S) : lj_D lm_P lm_M251 48 [.ref 0, .int x1, .int x2, .int x3, .retAddr 0, .retAddr 0, .retAddr 0, .retAddr 0, .retAddr 0] [.int x50] σ = (if x50 = 0 then lj_D lm_P lm_M251 65 [.ref 0, .int x1, .int x2, .int x3, .int x50, .retAddr 0, .retAddr 0, .retAddr 0, .retAddr 0] [.int (-1)] σ else (if lj_in x1 2002 then lj_D lm_P lm_M251 65 [.ref 0, .int x1, .int x2, .int x3, .int x50, .retAddr 0, .retAddr 0, .retAddr 0, .retAddr 0] [.int (σ.1 40 x1.toNatClampNeg)] σ else none)) := by rw [lj_D_eq]; rfl
set_option maxRecDepth 100000 in
set_option maxHeartbeats 4000000 in
theorem km_251_65 (x1 : Int32) (x2 : Int32) (x3 : Int32) (x4 : Int32) (x50 : Int32) (σ : lj_S) : lj_D lm_P lm_M251 65 [.ref 0, .int x1, .int x2, .int x3, .int x4, .retAddr 0, .retAddr 0, .retAddr 0, .retAddr 0] [.int x50] σ = lj_D lm_P lm_M251 70 [.ref 0, .int x1, .int x2, .int x3, .int x4, .int x50, .int 0, .retAddr 0, .retAddr 0] [] σ := by rw [lj_D_eq]; rfl
set_option maxRecDepth 100000 in
set_option maxHeartbeats 4000000 in
theorem km_251_70 (x1 : Int32) (x2 : Int32) (x3 : Int32) (x4 : Int32) (x5 : Int32) (x6 : Int32) (σ : lj_S) : lj_D lm_P lm_M251 70 [.ref 0, .int x1, .int x2, .int x3, .int x4, .int x5, .int x6, .retAddr 0, .retAddr 0] [] σ = (if x2 ≤ x6 then lj_D lm_P lm_M251 96 [.ref 0, .int x1, .int x2, .int x3, .int x4, .int x5, .int x6, .retAddr 0, .retAddr 0] [] σ else (if x5 < 0 then lj_D lm_P lm_M251 96 [.ref 0, .int x1, .int x2, .int x3, .int x4, .int x5, .int x6, .retAddr 0, .retAddr 0] [] σ else (if lj_in x5 3001 then lj_D lm_P lm_M251 70 [.ref 0, .int x1, .int x2, .int x3, .int x4, .int (σ.1 50 x5.toNatClampNeg), .int (x6 + 1), .retAddr 0, .retAddr 0] [] σ else none))) := by rw [lj_D_eq]; rfl
set_option maxRecDepth 100000 in
set_option maxHeartbeats 4000000 in
theorem km_251_96 (x1 : Int32) (x2 : Int32) (x3 : Int32) (x4 : Int32) (x5 : Int32) (x6 : Int32) (σ : lj_S) : lj_D lm_P lm_M251 96 [.ref 0, .int x1, .int x2, .int x3, .int x4, .int x5, .int x6, .retAddr 0, .retAddr 0] [] σ = (if 0 ≤ x5 then lj_D lm_P lm_M251 107 [.ref 0, .int x1, .int x2, .int x3, .int x4, .int x5, .int x6, .retAddr 0, .retAddr 0] [.int 0, .ref 0] σ else lj_D lm_P lm_M251 107 [.ref 0, .int x1, .int x2, .int x3, .int x4, .int x5, .int x6, .retAddr 0, .retAddr 0] [.int 1, .ref 0] σ) := by rw [lj_D_eq]; rfl
set_option maxRecDepth 100000 in
set_option maxHeartbeats 4000000 in
theorem km_251_107 (x1 : Int32) (x2 : Int32) (x3 : Int32) (x4 : Int32) (x5 : Int32) (x6 : Int32) (x50 : Int32) (σ : lj_S) : lj_D lm_P lm_M251 107 [.ref 0, .int x1, .int x2, .int x3, .int x4, .int x5, .int x6, .retAddr 0, .retAddr 0] [.int x50, .ref 0] σ = (if x50 ≤ 0 then (if lj_in x5 3001 then (if (σ.1 47 x5.toNatClampNeg) = 0 then some (.inl (some (.long 0)), (lj_put σ 0 0 x50)) else (if (2 : Int32) = 0 then none else (if (x3 - x3 / 2 * 2) = 0 then (if lj_in x5 3001 then lj_D lm_P lm_M251 154 [.ref 0, .int x1, .int x2, .int x3, .int x4, .int x5, .int x6, .retAddr 0, .retAddr 0] [.int (σ.1 45 x5.toNatClampNeg)] (lj_put σ 0 0 x50) else none) else (if lj_in x5 3001 then lj_D lm_P lm_M251 154 [.ref 0, .int x1, .int x2, .int x3, .int x4, .int x5, .int x6, .retAddr 0, .retAddr 0] [.int (σ.1 47 x5.toNatClampNeg)] (lj_put σ 0 0 x50) else none)))) else none) else some (.inl (some (.long 0)), (lj_put σ 0 0 x50))) := by rw [lj_D_eq]; rfl
set_option maxRecDepth 100000 in
set_option maxHeartbeats 4000000 in
theorem km_251_154 (x1 : Int32) (x2 : Int32) (x3 : Int32) (x4 : Int32) (x5 : Int32) (x6 : Int32) (x50 : Int32) (σ : lj_S) : lj_D lm_P lm_M251 154 [.ref 0, .int x1, .int x2, .int x3, .int x4, .int x5, .int x6, .retAddr 0, .retAddr 0] [.int x50] σ = (if (2 : Int32) = 0 then none else (if (x3 - x3 / 2 * 2) = 0 then (if lj_in x5 3001 then lj_D lm_P lm_M251 179 [.ref 0, .int x1, .int x2, .int x3, .int x4, .int x5, .int x50, .retAddr 0, .retAddr 0] [.long (σ.2 46 x5.toNatClampNeg)] σ else none) else (if lj_in x5 3001 then lj_D lm_P lm_M251 179 [.ref 0, .int x1, .int x2, .int x3, .int x4, .int x5, .int x50, .retAddr 0, .retAddr 0] [.long (σ.2 48 x5.toNatClampNeg)] σ else none))) := by rw [lj_D_eq]; rfl
set_option maxRecDepth 100000 in
set_option maxHeartbeats 4000000 in
theorem km_251_179 (x1 : Int32) (x2 : Int32) (x3 : Int32) (x4 : Int32) (x5 : Int32) (x6 : Int32) (x50 : Int64) (σ : lj_S) : lj_D lm_P lm_M251 179 [.ref 0, .int x1, .int x2, .int x3, .int x4, .int x5, .int x6, .retAddr 0, .retAddr 0] [.long x50] σ = (if 2 ≤ x3 then lj_bl (lj_R lm_P 244 [.ref 0, .int x6, .long x50] σ) (fun y2 σ1 => lj_D lm_P lm_M251 203 [.ref 0, .int x1, .int x2, .int x3, .int x4, .int x5, .int x6, .long x50, .retAddr 0] [.long y2] σ1) lj_up else lj_bi (lj_R lm_P 243 [.int x6] σ) (fun y4 σ3 => lj_D lm_P lm_M251 203 [.ref 0, .int x1, .int x2, .int x3, .int x4, .int x5, .int x6, .long x50, .retAddr 0] [.long ((y4 : Int32).toInt64)] σ3) lj_up) := by rw [lj_D_eq]; rfl
set_option maxRecDepth 100000 in
set_option maxHeartbeats 4000000 in
theorem km_251_203 (x1 : Int32) (x2 : Int32) (x3 : Int32) (x4 : Int32) (x5 : Int32) (x6 : Int32) (x7 : Int64) (x50 : Int64) (σ : lj_S) : lj_D lm_P lm_M251 203 [.ref 0, .int x1, .int x2, .int x3, .int x4, .int x5, .int x6, .long x7, .retAddr 0] [.long x50] σ = some (.inl (some (.long x50)), σ) := by rw [lj_D_eq]; rfl

