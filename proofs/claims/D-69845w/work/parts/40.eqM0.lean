-- TableTongueModel.internBuilt()V
set_option maxRecDepth 100000 in
theorem rm_0  (σ : lj_S) : lj_R lm_P 0 [.ref 0] σ = lj_D lm_P lm_M0 0 [.ref 0, .retAddr 0] [] σ := lj_R_eq (nL := 2) (M := lm_M0) _ _ _ _ rfl rfl
set_option maxRecDepth 100000 in
set_option maxHeartbeats 4000000 in
theorem km_0_0  (σ : lj_S) : lj_D lm_P lm_M0 0 [.ref 0, .retAddr 0] [] σ = lj_bi (lj_R lm_P 1 [.ref 0, .long 26845029215790456, .long 0, .int 0] σ) (fun y2 σ1 => lj_bi (lj_R lm_P 1 [.ref 0, .long 6872332938464816740, .long 25976, .int 0] σ1) (fun y4 σ3 => lj_bi (lj_R lm_P 1 [.ref 0, .long 104863293860972, .long 0, .int 0] σ3) (fun y6 σ5 => lj_bi (lj_R lm_P 1 [.ref 0, .long 409622111332, .long 0, .int 0] σ5) (fun y8 σ7 => lj_D lm_P lm_M0 42 [.ref 0, .int y8] [] σ7) lj_up) lj_up) lj_up) lj_up := by rw [lj_D_eq]; rfl
set_option maxRecDepth 100000 in
set_option maxHeartbeats 4000000 in
theorem km_0_42 (x1 : Int32) (σ : lj_S) : lj_D lm_P lm_M0 42 [.ref 0, .int x1] [] σ = lj_bi (lj_R lm_P 1 [.ref 0, .long 409623295330, .long 0, .int 0] σ) (fun y2 σ1 => lj_bi (lj_R lm_P 1 [.ref 0, .long 409622902124, .long 0, .int 0] σ1) (fun y4 σ3 => lj_bi (lj_R lm_P 1 [.ref 0, .long 104863394720118, .long 0, .int 0] σ3) (fun y6 σ5 => lj_bi (lj_R lm_P 1 [.ref 0, .long 409622900580, .long 0, .int 0] σ5) (fun y8 σ7 => lj_D lm_P lm_M0 82 [.ref 0, .int y8] [] σ7) lj_up) lj_up) lj_up) lj_up := by rw [lj_D_eq]; rfl
set_option maxRecDepth 100000 in
set_option maxHeartbeats 4000000 in
theorem km_0_82 (x1 : Int32) (σ : lj_S) : lj_D lm_P lm_M0 82 [.ref 0, .int x1] [] σ = lj_bi (lj_R lm_P 1 [.ref 0, .long 104863277084260, .long 0, .int 0] σ) (fun y2 σ1 => lj_bi (lj_R lm_P 1 [.ref 0, .long 409622179698, .long 0, .int 0] σ1) (fun y4 σ3 => lj_bi (lj_R lm_P 1 [.ref 0, .long 104863278591858, .long 0, .int 0] σ3) (fun y6 σ5 => lj_bi (lj_R lm_P 1 [.ref 0, .long 409623292012, .long 0, .int 0] σ5) (fun y8 σ7 => lj_D lm_P lm_M0 122 [.ref 0, .int y8] [] σ7) lj_up) lj_up) lj_up) lj_up := by rw [lj_D_eq]; rfl
set_option maxRecDepth 100000 in
set_option maxHeartbeats 4000000 in
theorem km_0_122 (x1 : Int32) (σ : lj_S) : lj_D lm_P lm_M0 122 [.ref 0, .int x1] [] σ = lj_bi (lj_R lm_P 1 [.ref 0, .long 409623292018, .long 0, .int 0] σ) (fun y2 σ1 => lj_bi (lj_R lm_P 1 [.ref 0, .long 409623424621, .long 0, .int 0] σ1) (fun y4 σ3 => lj_bi (lj_R lm_P 1 [.ref 0, .long 104863277936500, .long 0, .int 0] σ3) (fun y6 σ5 => lj_bi (lj_R lm_P 1 [.ref 0, .long 6872320886635192692, .long 0, .int 0] σ5) (fun y8 σ7 => lj_D lm_P lm_M0 162 [.ref 0, .int y8] [] σ7) lj_up) lj_up) lj_up) lj_up := by rw [lj_D_eq]; rfl
set_option maxRecDepth 100000 in
set_option maxHeartbeats 4000000 in
theorem km_0_162 (x1 : Int32) (σ : lj_S) : lj_D lm_P lm_M0 162 [.ref 0, .int x1] [] σ = lj_bi (lj_R lm_P 1 [.ref 0, .long 409622832494, .long 0, .int 0] σ) (fun y2 σ1 => lj_bi (lj_R lm_P 1 [.ref 0, .long 1600087409, .long 0, .int 0] σ1) (fun y4 σ3 => lj_bi (lj_R lm_P 1 [.ref 0, .long 1600089204, .long 0, .int 0] σ3) (fun y6 σ5 => lj_bi (lj_R lm_P 1 [.ref 0, .long 1600089189, .long 0, .int 0] σ5) (fun y8 σ7 => lj_D lm_P lm_M0 202 [.ref 0, .int y8] [] σ7) lj_up) lj_up) lj_up) lj_up := by rw [lj_D_eq]; rfl
set_option maxRecDepth 100000 in
set_option maxHeartbeats 4000000 in
theorem km_0_202 (x1 : Int32) (σ : lj_S) : lj_D lm_P lm_M0 202 [.ref 0, .int x1] [] σ = lj_bi (lj_R lm_P 1 [.ref 0, .long 1600087907, .long 0, .int 0] σ) (fun y2 σ1 => lj_bi (lj_R lm_P 1 [.ref 0, .long 104863462548581, .long 0, .int 0] σ1) (fun y4 σ3 => lj_bv (lj_R lm_P 5 [.ref 0] σ3) (fun σ5 => lj_bv (lj_R lm_P 6 [.ref 0] σ5) (fun σ6 => some (.inl none, σ6)) lj_up) lj_up) lj_up) lj_up := by rw [lj_D_eq]; rfl
-- TableTongueModel.hidden(JJI)I
set_option maxRecDepth 100000 in
theorem rm_1 (x1 : Int64) (x2 : Int64) (x3 : Int32) (σ : lj_S) : lj_R lm_P 1 [.ref 0, .long x1, .long x2, .int x3] σ = lj_D lm_P lm_M1 0 [.ref 0, .long x1, .retAddr 0, .long x2, .retAddr 0, .int x3] [] σ := lj_R_eq (nL := 6) (M := lm_M1) _ _ _ _ rfl rfl
set_option maxRecDepth 100000 in
set_option maxHeartbeats 4000000 in
theorem km_1_0 (x1 : Int64) (x3 : Int64) (x5 : Int32) (σ : lj_S) : lj_D lm_P lm_M1 0 [.ref 0, .long x1, .retAddr 0, .long x3, .retAddr 0, .int x5] [] σ = lj_bv (lj_R lm_P 2 [.ref 0, .long x1] (lj_put σ 0 20 0)) (fun σ1 => lj_bv (lj_R lm_P 2 [.ref 0, .long x3] σ1) (fun σ2 => lj_bi (lj_R lm_P 3 [.ref 0, .int x5] σ2) (fun y4 σ3 => some (.inl (some (.int y4)), σ3)) lj_up) lj_up) lj_up := by rw [lj_D_eq]; rfl
-- TableTongueModel.word(J)V
set_option maxRecDepth 100000 in
theorem rm_2 (x1 : Int64) (σ : lj_S) : lj_R lm_P 2 [.ref 0, .long x1] σ = lj_D lm_P lm_M2 0 [.ref 0, .long x1, .retAddr 0, .retAddr 0, .retAddr 0] [] σ := lj_R_eq (nL := 5) (M := lm_M2) _ _ _ _ rfl rfl
set_option maxRecDepth 100000 in
set_option maxHeartbeats 4000000 in
theorem km_2_0 (x1 : Int64) (σ : lj_S) : lj_D lm_P lm_M2 0 [.ref 0, .long x1, .retAddr 0, .retAddr 0, .retAddr 0] [] σ = lj_D lm_P lm_M2 3 [.ref 0, .long x1, .retAddr 0, .int 56, .retAddr 0] [] σ := by rw [lj_D_eq]; rfl
set_option maxRecDepth 100000 in
set_option maxHeartbeats 4000000 in
theorem km_2_3 (x1 : Int64) (x3 : Int32) (x4 : Value) (σ : lj_S) : lj_D lm_P lm_M2 3 [.ref 0, .long x1, .retAddr 0, .int x3, x4] [] σ = (if x3 < 0 then some (.inl none, σ) else (if ((((((x1 : Int64).toUInt64 >>> ((x3 : Int32).toInt64.toUInt64 &&& Int64.toUInt64 63)).toInt64) : Int64).toInt32) &&& 255) ≤ 0 then lj_D lm_P lm_M2 44 [.ref 0, .long x1, .retAddr 0, .int x3, .int ((((((x1 : Int64).toUInt64 >>> ((x3 : Int32).toInt64.toUInt64 &&& Int64.toUInt64 63)).toInt64) : Int64).toInt32) &&& 255)] [] σ else (if lj_in (σ.1 0 20) 4200 then lj_D lm_P lm_M2 44 [.ref 0, .long x1, .retAddr 0, .int x3, .int ((((((x1 : Int64).toUInt64 >>> ((x3 : Int32).toInt64.toUInt64 &&& Int64.toUInt64 63)).toInt64) : Int64).toInt32) &&& 255)] [] (lj_put (lj_put σ 8 ((σ.1 0 20).toNatClampNeg) (vp_nar .byte ((((((((x1 : Int64).toUInt64 >>> ((x3 : Int32).toInt64.toUInt64 &&& Int64.toUInt64 63)).toInt64) : Int64).toInt32) &&& 255) : Int32).toInt8.toInt32))) 0 20 ((σ.1 0 20) + 1)) else none))) := by rw [lj_D_eq]; rfl
set_option maxRecDepth 100000 in
set_option maxHeartbeats 4000000 in
theorem km_2_44 (x1 : Int64) (x3 : Int32) (x4 : Int32) (σ : lj_S) : lj_D lm_P lm_M2 44 [.ref 0, .long x1, .retAddr 0, .int x3, .int x4] [] σ = lj_D lm_P lm_M2 3 [.ref 0, .long x1, .retAddr 0, .int (x3 + (-8)), .int x4] [] σ := by rw [lj_D_eq]; rfl
-- TableTongueModel.intern(I)I
set_option maxRecDepth 100000 in
theorem rm_3 (x1 : Int32) (σ : lj_S) : lj_R lm_P 3 [.ref 0, .int x1] σ = lj_D lm_P lm_M3 0 [.ref 0, .int x1, .retAddr 0, .retAddr 0, .retAddr 0, .retAddr 0] [] σ := lj_R_eq (nL := 6) (M := lm_M3) _ _ _ _ rfl rfl
set_option maxRecDepth 100000 in
set_option maxHeartbeats 4000000 in
theorem km_3_0 (x1 : Int32) (σ : lj_S) : lj_D lm_P lm_M3 0 [.ref 0, .int x1, .retAddr 0, .retAddr 0, .retAddr 0, .retAddr 0] [] σ = lj_bi (lj_R lm_P 4 [.ref 0, .int (σ.1 0 20)] σ) (fun y2 σ1 => (if lj_in y2 1024 then lj_D lm_P lm_M3 16 [.ref 0, .int x1, .int y2, .int (σ1.1 7 y2.toNatClampNeg), .retAddr 0, .retAddr 0] [] σ1 else none)) lj_up := by rw [lj_D_eq]; rfl
set_option maxRecDepth 100000 in
set_option maxHeartbeats 4000000 in
theorem km_3_16 (x1 : Int32) (x2 : Int32) (x3 : Int32) (x4 : Value) (x5 : Value) (σ : lj_S) : lj_D lm_P lm_M3 16 [.ref 0, .int x1, .int x2, .int x3, x4, x5] [] σ = (if x3 < 0 then (if lj_in (σ.1 0 14) 3000 then (if lj_in (σ.1 0 14) 3000 then (if lj_in (σ.1 0 14) 3000 then (if lj_in x2 1024 then (if lj_in (σ.1 0 14) 3000 then (if lj_in x2 1024 then lj_D lm_P lm_M3 196 [.ref 0, .int x1, .int x2, .int (σ.1 0 14), .int 0, x5] [] (lj_put (lj_put (lj_put (lj_put (lj_put (lj_put σ 0 14 ((σ.1 0 14) + 1)) 3 ((σ.1 0 14).toNatClampNeg) (σ.1 0 8)) 4 ((σ.1 0 14).toNatClampNeg) (σ.1 0 20)) 5 ((σ.1 0 14).toNatClampNeg) x1) 6 ((σ.1 0 14).toNatClampNeg) (σ.1 7 x2.toNatClampNeg)) 7 x2.toNatClampNeg (σ.1 0 14)) else none) else none) else none) else none) else none) else none) else (if lj_in x3 3000 then (if (σ.1 4 x3.toNatClampNeg) = (σ.1 0 20) then lj_D lm_P lm_M3 38 [.ref 0, .int x1, .int x2, .int x3, x4, x5] [.int 1] σ else lj_D lm_P lm_M3 38 [.ref 0, .int x1, .int x2, .int x3, x4, x5] [.int 0] σ) else none)) := by rw [lj_D_eq]; rfl
set_option maxRecDepth 100000 in
set_option maxHeartbeats 4000000 in
theorem km_3_38 (x1 : Int32) (x2 : Int32) (x3 : Int32) (x4 : Value) (x5 : Value) (x50 : Int32) (σ : lj_S) : lj_D lm_P lm_M3 38 [.ref 0, .int x1, .int x2, .int x3, x4, x5] [.int x50] σ = lj_D lm_P lm_M3 43 [.ref 0, .int x1, .int x2, .int x3, .int x50, .int 0] [] σ := by rw [lj_D_eq]; rfl
set_option maxRecDepth 100000 in
set_option maxHeartbeats 4000000 in
theorem km_3_43 (x1 : Int32) (x2 : Int32) (x3 : Int32) (x4 : Int32) (x5 : Int32) (σ : lj_S) : lj_D lm_P lm_M3 43 [.ref 0, .int x1, .int x2, .int x3, .int x4, .int x5] [] σ = (if (σ.1 0 20) ≤ x5 then lj_D lm_P lm_M3 94 [.ref 0, .int x1, .int x2, .int x3, .int x4, .int x5] [] σ else (if x4 = 0 then lj_D lm_P lm_M3 94 [.ref 0, .int x1, .int x2, .int x3, .int x4, .int x5] [] σ else (if lj_in x3 3000 then (if lj_in ((σ.1 3 x3.toNatClampNeg) + x5) 40000 then (if lj_in x5 4200 then (if ((σ.1 2 (((σ.1 3 x3.toNatClampNeg) + x5).toNatClampNeg))) = (σ.1 8 x5.toNatClampNeg) then lj_D lm_P lm_M3 86 [.ref 0, .int x1, .int x2, .int x3, .int x4, .int x5] [.int 1] σ else lj_D lm_P lm_M3 86 [.ref 0, .int x1, .int x2, .int x3, .int x4, .int x5] [.int 0] σ) else none) else none) else none))) := by rw [lj_D_eq]; rfl
set_option maxRecDepth 100000 in
set_option maxHeartbeats 4000000 in
theorem km_3_86 (x1 : Int32) (x2 : Int32) (x3 : Int32) (x4 : Int32) (x5 : Int32) (x50 : Int32) (σ : lj_S) : lj_D lm_P lm_M3 86 [.ref 0, .int x1, .int x2, .int x3, .int x4, .int x5] [.int x50] σ = lj_D lm_P lm_M3 43 [.ref 0, .int x1, .int x2, .int x3, .int x50, .int (x5 + 1)] [] σ := by rw [lj_D_eq]; rfl
set_option maxRecDepth 100000 in
set_option maxHeartbeats 4000000 in
theorem km_3_94 (x1 : Int32) (x2 : Int32) (x3 : Int32) (x4 : Int32) (x5 : Int32) (σ : lj_S) : lj_D lm_P lm_M3 94 [.ref 0, .int x1, .int x2, .int x3, .int x4, .int x5] [] σ = (if x4 = 0 then (if lj_in x3 3000 then lj_D lm_P lm_M3 16 [.ref 0, .int x1, .int x2, .int (σ.1 6 x3.toNatClampNeg), .int x4, .int x5] [] σ else none) else (if x1 = 1 then lj_D lm_P lm_M3 119 [.ref 0, .int x1, .int x2, .int x3, .int x4, .int x5] [.int 1, .int x3, .ref 5] σ else (if lj_in x3 3000 then lj_D lm_P lm_M3 119 [.ref 0, .int x1, .int x2, .int x3, .int x4, .int x5] [.int (σ.1 5 x3.toNatClampNeg), .int x3, .ref 5] σ else none))) := by rw [lj_D_eq]; rfl
set_option maxRecDepth 100000 in
set_option maxHeartbeats 4000000 in
theorem km_3_119 (x1 : Int32) (x2 : Int32) (x3 : Int32) (x4 : Int32) (x5 : Int32) (x50 : Int32) (x51 : Int32) (σ : lj_S) : lj_D lm_P lm_M3 119 [.ref 0, .int x1, .int x2, .int x3, .int x4, .int x5] [.int x50, .int x51, .ref 5] σ = (if lj_in x51 3000 then some (.inl (some (.int x3)), (lj_put σ 5 x51.toNatClampNeg x50)) else none) := by rw [lj_D_eq]; rfl
set_option maxRecDepth 100000 in
set_option maxHeartbeats 4000000 in
theorem km_3_196 (x1 : Int32) (x2 : Int32) (x3 : Int32) (x4 : Int32) (x5 : Value) (σ : lj_S) : lj_D lm_P lm_M3 196 [.ref 0, .int x1, .int x2, .int x3, .int x4, x5] [] σ = (if (σ.1 0 20) ≤ x4 then some (.inl (some (.int x3)), (lj_put σ 0 8 ((σ.1 0 8) + (σ.1 0 20)))) else (if lj_in x4 4200 then (if lj_in ((σ.1 0 8) + x4) 40000 then lj_D lm_P lm_M3 196 [.ref 0, .int x1, .int x2, .int x3, .int (x4 + 1), x5] [] (lj_put σ 2 (((σ.1 0 8) + x4).toNatClampNeg) (vp_nar .byte (σ.1 8 x4.toNatClampNeg))) else none) else none)) := by rw [lj_D_eq]; rfl
-- TableTongueModel.hashOf(I)I
set_option maxRecDepth 100000 in
theorem rm_4 (x1 : Int32) (σ : lj_S) : lj_R lm_P 4 [.ref 0, .int x1] σ = lj_D lm_P lm_M4 0 [.ref 0, .int x1, .retAddr 0, .retAddr 0] [] σ := lj_R_eq (nL := 4) (M := lm_M4) _ _ _ _ rfl rfl
set_option maxRecDepth 100000 in
set_option maxHeartbeats 4000000 in
theorem km_4_0 (x1 : Int32) (σ : lj_S) : lj_D lm_P lm_M4 0 [.ref 0, .int x1, .retAddr 0, .retAddr 0] [] σ = lj_D lm_P lm_M4 4 [.ref 0, .int x1, .int x1, .int 0] [] σ := by rw [lj_D_eq]; rfl
set_option maxRecDepth 100000 in
set_option maxHeartbeats 4000000 in
theorem km_4_4 (x1 : Int32) (x2 : Int32) (x3 : Int32) (σ : lj_S) : lj_D lm_P lm_M4 4 [.ref 0, .int x1, .int x2, .int x3] [] σ = (if x1 ≤ x3 then some (.inl (some (.int ((x2 ^^^ (((x2 : Int32).toUInt32 >>> ((10 : Int32).toUInt32 &&& Int32.toUInt32 31)).toInt32)) &&& 1023))), σ) else (if lj_in x3 4200 then lj_D lm_P lm_M4 4 [.ref 0, .int x1, .int ((31 * x2) + (σ.1 8 x3.toNatClampNeg)), .int (x3 + 1)] [] σ else none)) := by rw [lj_D_eq]; rfl
-- TableTongueModel.internTypes()V
set_option maxRecDepth 100000 in
theorem rm_5  (σ : lj_S) : lj_R lm_P 5 [.ref 0] σ = lj_D lm_P lm_M5 0 [.ref 0, .retAddr 0] [] σ := lj_R_eq (nL := 2) (M := lm_M5) _ _ _ _ rfl rfl
set_option maxRecDepth 100000 in
set_option maxHeartbeats 4000000 in
theorem km_5_0  (σ : lj_S) : lj_D lm_P lm_M5 0 [.ref 0, .retAddr 0] [] σ = lj_bi (lj_R lm_P 1 [.ref 0, .long 7235948, .long 0, .int 0] σ) (fun y2 σ1 => lj_bi (lj_R lm_P 1 [.ref 0, .long 27707072068280686, .long 0, .int 0] σ1) (fun y4 σ3 => lj_bi (lj_R lm_P 1 [.ref 0, .long 121450625394034, .long 0, .int 0] σ3) (fun y6 σ5 => lj_bi (lj_R lm_P 1 [.ref 0, .long 126943972912743, .long 0, .int 0] σ5) (fun y8 σ7 => lj_D lm_P lm_M5 40 [.ref 0, .int y8] [] σ7) lj_up) lj_up) lj_up) lj_up := by rw [lj_D_eq]; rfl
set_option maxRecDepth 100000 in
set_option maxHeartbeats 4000000 in
theorem km_5_40 (x1 : Int32) (σ : lj_S) : lj_D lm_P lm_M5 40 [.ref 0, .int x1] [] σ = lj_bi (lj_R lm_P 1 [.ref 0, .long 499850046565, .long 0, .int 0] σ) (fun y2 σ1 => lj_bi (lj_R lm_P 1 [.ref 0, .long 7382928537577680750, .long 0, .int 0] σ1) (fun y4 σ3 => lj_bi (lj_R lm_P 1 [.ref 0, .long 127991944667492, .long 0, .int 0] σ3) (fun y6 σ5 => lj_bi (lj_R lm_P 1 [.ref 0, .long 7234935, .long 0, .int 1] σ5) (fun y8 σ7 => lj_D lm_P lm_M5 80 [.ref 0, .int y8] [] σ7) lj_up) lj_up) lj_up) lj_up := by rw [lj_D_eq]; rfl
set_option maxRecDepth 100000 in
set_option maxHeartbeats 4000000 in
theorem km_5_80 (x1 : Int32) (σ : lj_S) : lj_D lm_P lm_M5 80 [.ref 0, .int x1] [] σ = lj_bi (lj_R lm_P 1 [.ref 0, .long 32497644298331492, .long 0, .int 0] σ) (fun y2 σ1 => lj_bi (lj_R lm_P 1 [.ref 0, .long 32217264504270439, .long 0, .int 1] σ1) (fun y4 σ3 => lj_bi (lj_R lm_P 1 [.ref 0, .long 121424940196204, .long 0, .int 0] σ3) (fun y6 σ5 => lj_bi (lj_R lm_P 1 [.ref 0, .long 1684365668, .long 0, .int 0] σ5) (fun y8 σ7 => lj_D lm_P lm_M5 120 [.ref 0, .int y8] [] σ7) lj_up) lj_up) lj_up) lj_up := by rw [lj_D_eq]; rfl
set_option maxRecDepth 100000 in
set_option maxHeartbeats 4000000 in
theorem km_5_120 (x1 : Int32) (σ : lj_S) : lj_D lm_P lm_M5 120 [.ref 0, .int x1] [] σ = lj_bi (lj_R lm_P 1 [.ref 0, .long 7094703752064557426, .long 116, .int 0] σ) (fun y2 σ1 => lj_bi (lj_R lm_P 1 [.ref 0, .long 7234295459109429618, .long 116, .int 0] σ1) (fun y4 σ3 => lj_bi (lj_R lm_P 1 [.ref 0, .long 110, .long 0, .int 1] σ3) (fun y6 σ5 => some (.inl none, σ5)) lj_up) lj_up) lj_up := by rw [lj_D_eq]; rfl
-- TableTongueModel.internNames()V
set_option maxRecDepth 100000 in
theorem rm_6  (σ : lj_S) : lj_R lm_P 6 [.ref 0] σ = lj_D lm_P lm_M6 0 [.ref 0, .retAddr 0] [] σ := lj_R_eq (nL := 2) (M := lm_M6) _ _ _ _ rfl rfl
set_option maxRecDepth 100000 in
set_option maxHeartbeats 4000000 in
theorem km_6_0  (σ : lj_S) : lj_D lm_P lm_M6 0 [.ref 0, .retAddr 0] [] σ = lj_bi (lj_R lm_P 1 [.ref 0, .long 482955849332, .long 0, .int 1] σ) (fun y2 σ1 => lj_bi (lj_R lm_P 1 [.ref 0, .long 1954115685, .long 0, .int 1] σ1) (fun y4 σ3 => lj_bi (lj_R lm_P 1 [.ref 0, .long 8390051574787436135, .long 0, .int 1] σ3) (fun y6 σ5 => lj_bi (lj_R lm_P 1 [.ref 0, .long 8390046081439917426, .long 0, .int 1] σ5) (fun y8 σ7 => lj_D lm_P lm_M6 40 [.ref 0, .int y8] [] σ7) lj_up) lj_up) lj_up) lj_up := by rw [lj_D_eq]; rfl
set_option maxRecDepth 100000 in
set_option maxHeartbeats 4000000 in
theorem km_6_40 (x1 : Int32) (σ : lj_S) : lj_D lm_P lm_M6 40 [.ref 0, .int x1] [] σ = lj_bi (lj_R lm_P 1 [.ref 0, .long 1852143732, .long 0, .int 1] σ) (fun y2 σ1 => lj_bi (lj_R lm_P 1 [.ref 0, .long 482670637683, .long 0, .int 1] σ1) (fun y4 σ3 => lj_bi (lj_R lm_P 1 [.ref 0, .long 115931391554163, .long 0, .int 1] σ3) (fun y6 σ5 => lj_bi (lj_R lm_P 1 [.ref 0, .long 125762940659060, .long 0, .int 1] σ5) (fun y8 σ7 => lj_D lm_P lm_M6 80 [.ref 0, .int y8] [] σ7) lj_up) lj_up) lj_up) lj_up := by rw [lj_D_eq]; rfl
set_option maxRecDepth 100000 in
set_option maxHeartbeats 4000000 in
theorem km_6_80 (x1 : Int32) (σ : lj_S) : lj_D lm_P lm_M6 80 [.ref 0, .int x1] [] σ = lj_bi (lj_R lm_P 1 [.ref 0, .long 125762941445492, .long 0, .int 1] σ) (fun y2 σ1 => lj_bi (lj_R lm_P 1 [.ref 0, .long 8242000070643638636, .long 0, .int 1] σ1) (fun y4 σ3 => lj_bi (lj_R lm_P 1 [.ref 0, .long 125762940986734, .long 0, .int 1] σ3) (fun y6 σ5 => lj_bi (lj_R lm_P 1 [.ref 0, .long 7450489171756736884, .long 1633840229, .int 1] σ5) (fun y8 σ7 => lj_D lm_P lm_M6 122 [.ref 0, .int y8] [] σ7) lj_up) lj_up) lj_up) lj_up := by rw [lj_D_eq]; rfl
set_option maxRecDepth 100000 in
set_option maxHeartbeats 4000000 in
theorem km_6_122 (x1 : Int32) (σ : lj_S) : lj_D lm_P lm_M6 122 [.ref 0, .int x1] [] σ = lj_bi (lj_R lm_P 1 [.ref 0, .long 8315180300211872116, .long 1633840229, .int 1] σ) (fun y2 σ1 => lj_bi (lj_R lm_P 1 [.ref 0, .long 435711799154, .long 0, .int 1] σ1) (fun y4 σ3 => lj_bi (lj_R lm_P 1 [.ref 0, .long 482703666284, .long 0, .int 1] σ3) (fun y6 σ5 => lj_bi (lj_R lm_P 1 [.ref 0, .long 126879447475060, .long 0, .int 1] σ5) (fun y8 σ7 => lj_D lm_P lm_M6 164 [.ref 0, .int y8] [] σ7) lj_up) lj_up) lj_up) lj_up := by rw [lj_D_eq]; rfl
set_option maxRecDepth 100000 in
set_option maxHeartbeats 4000000 in
theorem km_6_164 (x1 : Int32) (σ : lj_S) : lj_D lm_P lm_M6 164 [.ref 0, .int x1] [] σ = lj_bi (lj_R lm_P 1 [.ref 0, .long 27988534160089972, .long 0, .int 1] σ) (fun y2 σ1 => lj_bi (lj_R lm_P 1 [.ref 0, .long 1818850164, .long 0, .int 1] σ1) (fun y4 σ3 => lj_bi (lj_R lm_P 1 [.ref 0, .long 1952807028, .long 0, .int 1] σ3) (fun y6 σ5 => lj_bi (lj_R lm_P 1 [.ref 0, .long 1885434484, .long 0, .int 1] σ5) (fun y8 σ7 => lj_D lm_P lm_M6 204 [.ref 0, .int y8] [] σ7) lj_up) lj_up) lj_up) lj_up := by rw [lj_D_eq]; rfl
set_option maxRecDepth 100000 in
set_option maxHeartbeats 4000000 in
theorem km_6_204 (x1 : Int32) (σ : lj_S) : lj_D lm_P lm_M6 204 [.ref 0, .int x1] [] σ = lj_bi (lj_R lm_P 1 [.ref 0, .long 115923103347316, .long 0, .int 1] σ) (fun y2 σ1 => lj_bi (lj_R lm_P 1 [.ref 0, .long 125779953284709, .long 0, .int 1] σ1) (fun y4 σ3 => lj_bi (lj_R lm_P 1 [.ref 0, .long 109330244526452, .long 0, .int 1] σ3) (fun y6 σ5 => lj_bi (lj_R lm_P 1 [.ref 0, .long 1885430635, .long 0, .int 1] σ5) (fun y8 σ7 => lj_D lm_P lm_M6 244 [.ref 0, .int y8] [] σ7) lj_up) lj_up) lj_up) lj_up := by rw [lj_D_eq]; rfl
set_option maxRecDepth 100000 in
set_option maxHeartbeats 4000000 in
theorem km_6_244 (x1 : Int32) (σ : lj_S) : lj_D lm_P lm_M6 244 [.ref 0, .int x1] [] σ = lj_bi (lj_R lm_P 1 [.ref 0, .long 129117192282987, .long 0, .int 1] σ) (fun y2 σ1 => lj_bi (lj_R lm_P 1 [.ref 0, .long 7566690, .long 0, .int 1] σ1) (fun y4 σ3 => lj_bi (lj_R lm_P 1 [.ref 0, .long 1652126821, .long 0, .int 1] σ3) (fun y6 σ5 => lj_bi (lj_R lm_P 1 [.ref 0, .long 1667785074, .long 0, .int 1] σ5) (fun y8 σ7 => lj_D lm_P lm_M6 284 [.ref 0, .int y8] [] σ7) lj_up) lj_up) lj_up) lj_up := by rw [lj_D_eq]; rfl
set_option maxRecDepth 100000 in
set_option maxHeartbeats 4000000 in
theorem km_6_284 (x1 : Int32) (σ : lj_S) : lj_D lm_P lm_M6 284 [.ref 0, .int x1] [] σ = lj_bi (lj_R lm_P 1 [.ref 0, .long 7497072, .long 0, .int 1] σ) (fun y2 σ1 => lj_bi (lj_R lm_P 1 [.ref 0, .long 26479, .long 0, .int 1] σ1) (fun y4 σ3 => lj_bi (lj_R lm_P 1 [.ref 0, .long 1937010544, .long 0, .int 1] σ3) (fun y6 σ5 => lj_bi (lj_R lm_P 1 [.ref 0, .long 495873782885, .long 0, .int 1] σ5) (fun y8 σ7 => lj_D lm_P lm_M6 324 [.ref 0, .int y8] [] σ7) lj_up) lj_up) lj_up) lj_up := by rw [lj_D_eq]; rfl
set_option maxRecDepth 100000 in
set_option maxHeartbeats 4000000 in
theorem km_6_324 (x1 : Int32) (σ : lj_S) : lj_D lm_P lm_M6 324 [.ref 0, .int x1] [] σ = some (.inl none, σ) := by rw [lj_D_eq]; rfl
-- TableTongueModel.thrown()I
set_option maxRecDepth 100000 in
theorem rm_7  (σ : lj_S) : lj_R lm_P 7 [.ref 0] σ = lj_D lm_P lm_M7 0 [.ref 0] [] σ := lj_R_eq (nL := 1) (M := lm_M7) _ _ _ _ rfl rfl
set_option maxRecDepth 100000 in
set_option maxHeartbeats 4000000 in
theorem km_7_0  (σ : lj_S) : lj_D lm_P lm_M7 0 [.ref 0] [] σ = some (.inl (some (.int (σ.1 0 0))), σ) := by rw [lj_D_eq]; rfl
-- TableTongueModel.feed(IJ)I
set_option maxRecDepth 100000 in
theorem rm_8 (x1 : Int32) (x2 : Int64) (σ : lj_S) : lj_R lm_P 8 [.ref 0, .int x1, .long x2] σ = lj_D lm_P lm_M8 0 [.ref 0, .int x1, .long x2, .retAddr 0, .retAddr 0] [] σ := lj_R_eq (nL := 5) (M := lm_M8) _ _ _ _ rfl rfl
set_option maxRecDepth 100000 in
set_option maxHeartbeats 4000000 in
theorem km_8_0 (x1 : Int32) (x2 : Int64) (σ : lj_S) : lj_D lm_P lm_M8 0 [.ref 0, .int x1, .long x2, .retAddr 0, .retAddr 0] [] σ = (if x1 < 1 then lj_D lm_P lm_M8 24 [.ref 0, .int x1, .long x2, .retAddr 0, .retAddr 0] [.ref 0] σ else (if 8 < x1 then lj_D lm_P lm_M8 24 [.ref 0, .int x1, .long x2, .retAddr 0, .retAddr 0] [.ref 0] σ else (if ((σ.1 0 2) + x1) ≤ 6000 then lj_D lm_P lm_M8 29 [.ref 0, .int x1, .long x2, .retAddr 0, .retAddr 0] [.int 0, .ref 0] σ else lj_D lm_P lm_M8 24 [.ref 0, .int x1, .long x2, .retAddr 0, .retAddr 0] [.ref 0] σ))) := by rw [lj_D_eq]; rfl
set_option maxRecDepth 100000 in
set_option maxHeartbeats 4000000 in
theorem km_8_24 (x1 : Int32) (x2 : Int64) (σ : lj_S) : lj_D lm_P lm_M8 24 [.ref 0, .int x1, .long x2, .retAddr 0, .retAddr 0] [.ref 0] σ = lj_D lm_P lm_M8 29 [.ref 0, .int x1, .long x2, .retAddr 0, .retAddr 0] [.int 1, .ref 0] σ := by rw [lj_D_eq]; rfl
set_option maxRecDepth 100000 in
set_option maxHeartbeats 4000000 in
theorem km_8_29 (x1 : Int32) (x2 : Int64) (x50 : Int32) (σ : lj_S) : lj_D lm_P lm_M8 29 [.ref 0, .int x1, .long x2, .retAddr 0, .retAddr 0] [.int x50, .ref 0] σ = (if x50 ≤ 0 then lj_D lm_P lm_M8 44 [.ref 0, .int x1, .long x2, .retAddr 0, .int 0] [] (lj_put σ 0 0 x50) else some (.inl (some (.int 0)), (lj_put σ 0 0 x50))) := by rw [lj_D_eq]; rfl
set_option maxRecDepth 100000 in
set_option maxHeartbeats 4000000 in
theorem km_8_44 (x1 : Int32) (x2 : Int64) (x4 : Int32) (σ : lj_S) : lj_D lm_P lm_M8 44 [.ref 0, .int x1, .long x2, .retAddr 0, .int x4] [] σ = (if x1 ≤ x4 then some (.inl (some (.int (σ.1 0 2))), (lj_put σ 0 3 0)) else (if lj_in (σ.1 0 2) 6000 then lj_D lm_P lm_M8 44 [.ref 0, .int x1, .long x2, .retAddr 0, .int (x4 + 1)] [] (lj_put (lj_put σ 1 ((σ.1 0 2).toNatClampNeg) ((((((x2 : Int64).toUInt64 >>> (((8 * x4) : Int32).toInt64.toUInt64 &&& Int64.toUInt64 63)).toInt64) : Int64).toInt32) &&& 255)) 0 2 ((σ.1 0 2) + 1)) else none)) := by rw [lj_D_eq]; rfl
-- TableTongueModel.wipe()I
set_option maxRecDepth 100000 in
theorem rm_9  (σ : lj_S) : lj_R lm_P 9 [.ref 0] σ = lj_D lm_P lm_M9 0 [.ref 0, .retAddr 0] [] σ := lj_R_eq (nL := 2) (M := lm_M9) _ _ _ _ rfl rfl
set_option maxRecDepth 100000 in
set_option maxHeartbeats 4000000 in
theorem km_9_0  (σ : lj_S) : lj_D lm_P lm_M9 0 [.ref 0, .retAddr 0] [] σ = some (.inl (some (.int (σ.1 0 2))), (lj_put (lj_put (lj_put σ 0 0 0) 0 2 0) 0 3 0)) := by rw [lj_D_eq]; rfl
-- TableTongueModel.compile()I
set_option maxRecDepth 100000 in
theorem rm_10  (σ : lj_S) : lj_R lm_P 10 [.ref 0] σ = lj_D lm_P lm_M10 0 [.ref 0, .retAddr 0] [] σ := lj_R_eq (nL := 2) (M := lm_M10) _ _ _ _ rfl rfl
set_option maxRecDepth 100000 in
set_option maxHeartbeats 4000000 in
theorem km_10_0  (σ : lj_S) : lj_D lm_P lm_M10 0 [.ref 0, .retAddr 0] [] σ = lj_bv (lj_R lm_P 11 [.ref 0, .int (σ.1 0 65), .int (σ.1 0 66)] (lj_put (lj_put σ 0 0 0) 0 3 0)) (fun σ1 => lj_D lm_P lm_M10 24 [.ref 0, .int 0] [] σ1) lj_up := by rw [lj_D_eq]; rfl
set_option maxRecDepth 100000 in
set_option maxHeartbeats 4000000 in
theorem km_10_24 (x1 : Int32) (σ : lj_S) : lj_D lm_P lm_M10 24 [.ref 0, .int x1] [] σ = (if (σ.1 0 65) ≤ x1 then lj_bv (lj_R lm_P 12 [.ref 0] (lj_put σ 0 4 0)) (fun σ1 => lj_bi (lj_R lm_P 27 [.ref 0] σ1) (fun y3 σ2 => (if y3 = 0 then lj_bi (lj_R lm_P 35 [.ref 0, .int (σ2.1 0 5)] σ2) (fun y6 σ5 => some (.inl (some (.int (-(σ5.1 0 4)))), (lj_put σ5 0 6 y6))) lj_up else lj_bv (lj_R lm_P 105 [.ref 0] (lj_put (lj_put (lj_put σ2 0 15 (σ2.1 0 14)) 0 16 (σ2.1 0 8)) 0 3 1)) (fun σ4 => some (.inl (some (.int (σ4.1 0 34))), σ4)) lj_up)) lj_up) lj_up else (if x1 = 29 then lj_D lm_P lm_M10 61 [.ref 0, .int x1] [.int x1, .ref 5] σ else (if x1 = 31 then lj_D lm_P lm_M10 61 [.ref 0, .int x1] [.int x1, .ref 5] σ else (if x1 = 36 then lj_D lm_P lm_M10 61 [.ref 0, .int x1] [.int x1, .ref 5] σ else (if x1 < 37 then lj_D lm_P lm_M10 66 [.ref 0, .int x1] [.int 0, .int x1, .ref 5] σ else lj_D lm_P lm_M10 61 [.ref 0, .int x1] [.int x1, .ref 5] σ))))) := by rw [lj_D_eq]; rfl
set_option maxRecDepth 100000 in
set_option maxHeartbeats 4000000 in
theorem km_10_61 (x1 : Int32) (x50 : Int32) (σ : lj_S) : lj_D lm_P lm_M10 61 [.ref 0, .int x1] [.int x50, .ref 5] σ = lj_D lm_P lm_M10 66 [.ref 0, .int x1] [.int 1, .int x50, .ref 5] σ := by rw [lj_D_eq]; rfl
set_option maxRecDepth 100000 in
set_option maxHeartbeats 4000000 in
theorem km_10_66 (x1 : Int32) (x50 : Int32) (x51 : Int32) (σ : lj_S) : lj_D lm_P lm_M10 66 [.ref 0, .int x1] [.int x50, .int x51, .ref 5] σ = (if lj_in x51 3000 then lj_D lm_P lm_M10 24 [.ref 0, .int (x1 + 1)] [] (lj_put σ 5 x51.toNatClampNeg x50) else none) := by rw [lj_D_eq]; rfl
-- TableTongueModel.forgetFrom(II)V
set_option maxRecDepth 100000 in
theorem rm_11 (x1 : Int32) (x2 : Int32) (σ : lj_S) : lj_R lm_P 11 [.ref 0, .int x1, .int x2] σ = lj_D lm_P lm_M11 0 [.ref 0, .int x1, .int x2, .retAddr 0] [] σ := lj_R_eq (nL := 4) (M := lm_M11) _ _ _ _ rfl rfl
set_option maxRecDepth 100000 in
set_option maxHeartbeats 4000000 in
theorem km_11_0 (x1 : Int32) (x2 : Int32) (x3 : Value) (σ : lj_S) : lj_D lm_P lm_M11 0 [.ref 0, .int x1, .int x2, x3] [] σ = (if (σ.1 0 14) ≤ x1 then some (.inl none, (lj_put σ 0 8 x2)) else lj_D lm_P lm_M11 20 [.ref 0, .int x1, .int x2, .int 0] [] (lj_put σ 0 14 ((σ.1 0 14) - 1))) := by rw [lj_D_eq]; rfl
set_option maxRecDepth 100000 in
set_option maxHeartbeats 4000000 in
theorem km_11_20 (x1 : Int32) (x2 : Int32) (x3 : Int32) (σ : lj_S) : lj_D lm_P lm_M11 20 [.ref 0, .int x1, .int x2, .int x3] [] σ = (if 1024 ≤ x3 then lj_D lm_P lm_M11 46 [.ref 0, .int x1, .int x2, .int x3] [] σ else (if lj_in x3 1024 then (if (σ.1 7 x3.toNatClampNeg) = (σ.1 0 14) then lj_D lm_P lm_M11 46 [.ref 0, .int x1, .int x2, .int x3] [] σ else lj_D lm_P lm_M11 20 [.ref 0, .int x1, .int x2, .int (x3 + 1)] [] σ) else none)) := by rw [lj_D_eq]; rfl
set_option maxRecDepth 100000 in
set_option maxHeartbeats 4000000 in
theorem km_11_46 (x1 : Int32) (x2 : Int32) (x3 : Int32) (σ : lj_S) : lj_D lm_P lm_M11 46 [.ref 0, .int x1, .int x2, .int x3] [] σ = (if 1024 ≤ x3 then lj_D lm_P lm_M11 68 [.ref 0, .int x1, .int x2, .int x3] [] σ else (if lj_in (σ.1 0 14) 3000 then (if lj_in x3 1024 then lj_D lm_P lm_M11 68 [.ref 0, .int x1, .int x2, .int x3] [] (lj_put σ 7 x3.toNatClampNeg ((σ.1 6 ((σ.1 0 14).toNatClampNeg)))) else none) else none)) := by rw [lj_D_eq]; rfl
set_option maxRecDepth 100000 in
set_option maxHeartbeats 4000000 in
theorem km_11_68 (x1 : Int32) (x2 : Int32) (x3 : Int32) (σ : lj_S) : lj_D lm_P lm_M11 68 [.ref 0, .int x1, .int x2, .int x3] [] σ = lj_D lm_P lm_M11 0 [.ref 0, .int x1, .int x2, .int x3] [] σ := by rw [lj_D_eq]; rfl
-- TableTongueModel.readTokens()V
set_option maxRecDepth 100000 in
theorem rm_12  (σ : lj_S) : lj_R lm_P 12 [.ref 0] σ = lj_D lm_P lm_M12 0 [.ref 0, .retAddr 0, .retAddr 0, .retAddr 0] [] σ := lj_R_eq (nL := 4) (M := lm_M12) _ _ _ _ rfl rfl
set_option maxRecDepth 100000 in
set_option maxHeartbeats 4000000 in
theorem km_12_0  (σ : lj_S) : lj_D lm_P lm_M12 0 [.ref 0, .retAddr 0, .retAddr 0, .retAddr 0] [] σ = lj_bi (lj_R lm_P 13 [.ref 0, .int 0] (lj_put σ 0 24 0)) (fun y2 σ1 => lj_D lm_P lm_M12 13 [.ref 0, .int y2, .int 1, .retAddr 0] [] σ1) lj_up := by rw [lj_D_eq]; rfl
set_option maxRecDepth 100000 in
set_option maxHeartbeats 4000000 in
theorem km_12_13 (x1 : Int32) (x2 : Int32) (x3 : Value) (σ : lj_S) : lj_D lm_P lm_M12 13 [.ref 0, .int x1, .int x2, x3] [] σ = (if x2 = 0 then some (.inl none, σ) else lj_bi (lj_R lm_P 14 [.ref 0, .int x1] σ) (fun y2 σ1 => (if 0 ≤ y2 then lj_bi (lj_R lm_P 15 [.int y2] σ1) (fun y4 σ3 => (if y4 = 0 then lj_bi (lj_R lm_P 17 [.int y2] σ3) (fun y6 σ5 => (if y6 = 0 then (if y2 = 34 then lj_D lm_P lm_M12 78 [.ref 0, .int x1, .int x2, .int y2] [] σ5 else (if y2 = 39 then lj_D lm_P lm_M12 78 [.ref 0, .int x1, .int x2, .int y2] [] σ5 else lj_bv (lj_R lm_P 24 [.ref 0, .int x1] σ5) (fun σ7 => lj_D lm_P lm_M12 91 [.ref 0, .int x1, .int x2, .int y2] [] σ7) lj_up)) else lj_bv (lj_R lm_P 20 [.ref 0, .int x1] σ5) (fun σ8 => lj_D lm_P lm_M12 91 [.ref 0, .int x1, .int x2, .int y2] [] σ8) lj_up)) lj_up else lj_bv (lj_R lm_P 16 [.ref 0, .int x1] σ3) (fun σ9 => lj_D lm_P lm_M12 91 [.ref 0, .int x1, .int x2, .int y2] [] σ9) lj_up)) lj_up else lj_D lm_P lm_M12 91 [.ref 0, .int x1, .int x2, .int y2] [] (lj_put σ1 0 67 6))) lj_up) := by rw [lj_D_eq]; rfl
set_option maxRecDepth 100000 in
set_option maxHeartbeats 4000000 in
theorem km_12_78 (x1 : Int32) (x2 : Int32) (x3 : Int32) (σ : lj_S) : lj_D lm_P lm_M12 78 [.ref 0, .int x1, .int x2, .int x3] [] σ = lj_bv (lj_R lm_P 22 [.ref 0, .int x1] σ) (fun σ1 => lj_D lm_P lm_M12 91 [.ref 0, .int x1, .int x2, .int x3] [] σ1) lj_up := by rw [lj_D_eq]; rfl
set_option maxRecDepth 100000 in
set_option maxHeartbeats 4000000 in
theorem km_12_91 (x1 : Int32) (x2 : Int32) (x3 : Int32) (σ : lj_S) : lj_D lm_P lm_M12 91 [.ref 0, .int x1, .int x2, .int x3] [] σ = (if lj_in (σ.1 0 24) 1502 then (if lj_in (σ.1 0 24) 1502 then (if lj_in (σ.1 0 24) 1502 then (if (σ.1 0 67) = 6 then lj_D lm_P lm_M12 169 [.ref 0, .int x1, .int x2, .int x3] [] (lj_put (lj_putL (lj_put (lj_put σ 9 ((σ.1 0 24).toNatClampNeg) (σ.1 0 67)) 10 ((σ.1 0 24).toNatClampNeg) x1) 11 ((σ.1 0 24).toNatClampNeg) (σ.2 0 68)) 0 24 ((σ.1 0 24) + 1)) else (if (σ.1 0 67) = 7 then lj_D lm_P lm_M12 169 [.ref 0, .int x1, .int x2, .int x3] [] (lj_put (lj_putL (lj_put (lj_put σ 9 ((σ.1 0 24).toNatClampNeg) (σ.1 0 67)) 10 ((σ.1 0 24).toNatClampNeg) x1) 11 ((σ.1 0 24).toNatClampNeg) (σ.2 0 68)) 0 24 ((σ.1 0 24) + 1)) else (if 1500 < ((σ.1 0 24) + 1) then lj_D lm_P lm_M12 169 [.ref 0, .int x1, .int x2, .int x3] [] (lj_put (lj_putL (lj_put (lj_put σ 9 ((σ.1 0 24).toNatClampNeg) (σ.1 0 67)) 10 ((σ.1 0 24).toNatClampNeg) x1) 11 ((σ.1 0 24).toNatClampNeg) (σ.2 0 68)) 0 24 ((σ.1 0 24) + 1)) else lj_D lm_P lm_M12 170 [.ref 0, .int x1, .int x2, .int x3] [.int 1] (lj_put (lj_putL (lj_put (lj_put σ 9 ((σ.1 0 24).toNatClampNeg) (σ.1 0 67)) 10 ((σ.1 0 24).toNatClampNeg) x1) 11 ((σ.1 0 24).toNatClampNeg) (σ.2 0 68)) 0 24 ((σ.1 0 24) + 1))))) else none) else none) else none) := by rw [lj_D_eq]; rfl
set_option maxRecDepth 100000 in
set_option maxHeartbeats 4000000 in
theorem km_12_169 (x1 : Int32) (x2 : Int32) (x3 : Int32) (σ : lj_S) : lj_D lm_P lm_M12 169 [.ref 0, .int x1, .int x2, .int x3] [] σ = lj_D lm_P lm_M12 170 [.ref 0, .int x1, .int x2, .int x3] [.int 0] σ := by rw [lj_D_eq]; rfl
set_option maxRecDepth 100000 in
set_option maxHeartbeats 4000000 in
theorem km_12_170 (x1 : Int32) (x2 : Int32) (x3 : Int32) (x50 : Int32) (σ : lj_S) : lj_D lm_P lm_M12 170 [.ref 0, .int x1, .int x2, .int x3] [.int x50] σ = (if x50 = 0 then lj_D lm_P lm_M12 187 [.ref 0, .int x1, .int x50, .int x3] [.int x1] σ else lj_bi (lj_R lm_P 13 [.ref 0, .int (σ.1 0 69)] σ) (fun y2 σ1 => lj_D lm_P lm_M12 187 [.ref 0, .int x1, .int x50, .int x3] [.int y2] σ1) lj_up) := by rw [lj_D_eq]; rfl
set_option maxRecDepth 100000 in
set_option maxHeartbeats 4000000 in
theorem km_12_187 (x1 : Int32) (x2 : Int32) (x3 : Int32) (x50 : Int32) (σ : lj_S) : lj_D lm_P lm_M12 187 [.ref 0, .int x1, .int x2, .int x3] [.int x50] σ = lj_D lm_P lm_M12 13 [.ref 0, .int x50, .int x2, .int x3] [] σ := by rw [lj_D_eq]; rfl
-- TableTongueModel.skip(I)I
set_option maxRecDepth 100000 in
theorem rm_13 (x1 : Int32) (σ : lj_S) : lj_R lm_P 13 [.ref 0, .int x1] σ = lj_D lm_P lm_M13 0 [.ref 0, .int x1, .retAddr 0, .retAddr 0, .retAddr 0] [] σ := lj_R_eq (nL := 5) (M := lm_M13) _ _ _ _ rfl rfl
set_option maxRecDepth 100000 in
set_option maxHeartbeats 4000000 in
theorem km_13_0 (x1 : Int32) (σ : lj_S) : lj_D lm_P lm_M13 0 [.ref 0, .int x1, .retAddr 0, .retAddr 0, .retAddr 0] [] σ = lj_D lm_P lm_M13 4 [.ref 0, .int x1, .int x1, .int 1, .retAddr 0] [] σ := by rw [lj_D_eq]; rfl
set_option maxRecDepth 100000 in
set_option maxHeartbeats 4000000 in
theorem km_13_4 (x1 : Int32) (x2 : Int32) (x3 : Int32) (x4 : Value) (σ : lj_S) : lj_D lm_P lm_M13 4 [.ref 0, .int x1, .int x2, .int x3, x4] [] σ = (if x3 = 0 then some (.inl (some (.int x2)), σ) else lj_bi (lj_R lm_P 14 [.ref 0, .int x2] σ) (fun y2 σ1 => (if y2 = 32 then lj_D lm_P lm_M13 43 [.ref 0, .int x1, .int x2, .int x3, .int y2] [] σ1 else (if y2 = 9 then lj_D lm_P lm_M13 43 [.ref 0, .int x1, .int x2, .int x3, .int y2] [] σ1 else (if y2 = 13 then lj_D lm_P lm_M13 43 [.ref 0, .int x1, .int x2, .int x3, .int y2] [] σ1 else (if y2 = 10 then lj_D lm_P lm_M13 43 [.ref 0, .int x1, .int x2, .int x3, .int y2] [] σ1 else lj_D lm_P lm_M13 48 [.ref 0, .int x1, .int x2, .int x3, .int y2] [.int 0] σ1))))) lj_up) := by rw [lj_D_eq]; rfl
set_option maxRecDepth 100000 in
set_option maxHeartbeats 4000000 in
theorem km_13_43 (x1 : Int32) (x2 : Int32) (x3 : Int32) (x4 : Int32) (σ : lj_S) : lj_D lm_P lm_M13 43 [.ref 0, .int x1, .int x2, .int x3, .int x4] [] σ = lj_D lm_P lm_M13 48 [.ref 0, .int x1, .int x2, .int x3, .int x4] [.int 1] σ := by rw [lj_D_eq]; rfl
set_option maxRecDepth 100000 in
set_option maxHeartbeats 4000000 in
theorem km_13_48 (x1 : Int32) (x2 : Int32) (x3 : Int32) (x4 : Int32) (x50 : Int32) (σ : lj_S) : lj_D lm_P lm_M13 48 [.ref 0, .int x1, .int x2, .int x3, .int x4] [.int x50] σ = (if x4 = 45 then lj_bi (lj_R lm_P 14 [.ref 0, .int (x2 + 1)] σ) (fun y2 σ1 => (if y2 = 45 then lj_D lm_P lm_M13 70 [.ref 0, .int x1, .int x2, .int 1, .int x4] [] σ1 else lj_D lm_P lm_M13 95 [.ref 0, .int x1, .int x2, .int x50, .int x4] [] σ1)) lj_up else lj_D lm_P lm_M13 95 [.ref 0, .int x1, .int x2, .int x50, .int x4] [] σ) := by rw [lj_D_eq]; rfl
set_option maxRecDepth 100000 in
set_option maxHeartbeats 4000000 in
theorem km_13_70 (x1 : Int32) (x2 : Int32) (x3 : Int32) (x4 : Int32) (σ : lj_S) : lj_D lm_P lm_M13 70 [.ref 0, .int x1, .int x2, .int x3, .int x4] [] σ = (if (σ.1 0 2) ≤ x2 then lj_D lm_P lm_M13 102 [.ref 0, .int x1, .int x2, .int x3, .int x4] [] σ else (if lj_in x2 6000 then (if (σ.1 1 x2.toNatClampNeg) = 10 then lj_D lm_P lm_M13 102 [.ref 0, .int x1, .int x2, .int x3, .int x4] [] σ else lj_D lm_P lm_M13 70 [.ref 0, .int x1, .int (x2 + 1), .int x3, .int x4] [] σ) else none)) := by rw [lj_D_eq]; rfl
set_option maxRecDepth 100000 in
set_option maxHeartbeats 4000000 in
theorem km_13_95 (x1 : Int32) (x2 : Int32) (x3 : Int32) (x4 : Int32) (σ : lj_S) : lj_D lm_P lm_M13 95 [.ref 0, .int x1, .int x2, .int x3, .int x4] [] σ = (if x3 = 0 then lj_D lm_P lm_M13 102 [.ref 0, .int x1, .int x2, .int x3, .int x4] [] σ else lj_D lm_P lm_M13 102 [.ref 0, .int x1, .int (x2 + 1), .int x3, .int x4] [] σ) := by rw [lj_D_eq]; rfl
set_option maxRecDepth 100000 in
set_option maxHeartbeats 4000000 in
theorem km_13_102 (x1 : Int32) (x2 : Int32) (x3 : Int32) (x4 : Int32) (σ : lj_S) : lj_D lm_P lm_M13 102 [.ref 0, .int x1, .int x2, .int x3, .int x4] [] σ = lj_D lm_P lm_M13 4 [.ref 0, .int x1, .int x2, .int x3, .int x4] [] σ := by rw [lj_D_eq]; rfl
-- TableTongueModel.at(I)I
set_option maxRecDepth 100000 in
theorem rm_14 (x1 : Int32) (σ : lj_S) : lj_R lm_P 14 [.ref 0, .int x1] σ = lj_D lm_P lm_M14 0 [.ref 0, .int x1] [] σ := lj_R_eq (nL := 2) (M := lm_M14) _ _ _ _ rfl rfl
set_option maxRecDepth 100000 in
set_option maxHeartbeats 4000000 in
theorem km_14_0 (x1 : Int32) (σ : lj_S) : lj_D lm_P lm_M14 0 [.ref 0, .int x1] [] σ = (if (σ.1 0 2) ≤ x1 then lj_D lm_P lm_M14 18 [.ref 0, .int x1] [.int (-1)] σ else (if lj_in x1 6000 then lj_D lm_P lm_M14 18 [.ref 0, .int x1] [.int (σ.1 1 x1.toNatClampNeg)] σ else none)) := by rw [lj_D_eq]; rfl
set_option maxRecDepth 100000 in
set_option maxHeartbeats 4000000 in
theorem km_14_18 (x1 : Int32) (x50 : Int32) (σ : lj_S) : lj_D lm_P lm_M14 18 [.ref 0, .int x1] [.int x50] σ = some (.inl (some (.int x50)), σ) := by rw [lj_D_eq]; rfl
-- TableTongueModel.isLetter(I)Z
set_option maxRecDepth 100000 in
theorem rm_15 (x0 : Int32) (σ : lj_S) : lj_R lm_P 15 [.int x0] σ = lj_D lm_P lm_M15 0 [.int x0] [] σ := lj_R_eq (nL := 1) (M := lm_M15) _ _ _ _ rfl rfl
set_option maxRecDepth 100000 in
set_option maxHeartbeats 4000000 in
theorem km_15_0 (x0 : Int32) (σ : lj_S) : lj_D lm_P lm_M15 0 [.int x0] [] σ = (if x0 < 97 then lj_D lm_P lm_M15 12 [.int x0] [] σ else (if x0 ≤ 122 then lj_D lm_P lm_M15 30 [.int x0] [] σ else lj_D lm_P lm_M15 12 [.int x0] [] σ)) := by rw [lj_D_eq]; rfl
set_option maxRecDepth 100000 in
set_option maxHeartbeats 4000000 in
theorem km_15_12 (x0 : Int32) (σ : lj_S) : lj_D lm_P lm_M15 12 [.int x0] [] σ = (if x0 < 65 then lj_D lm_P lm_M15 24 [.int x0] [] σ else (if x0 ≤ 90 then lj_D lm_P lm_M15 30 [.int x0] [] σ else lj_D lm_P lm_M15 24 [.int x0] [] σ)) := by rw [lj_D_eq]; rfl
set_option maxRecDepth 100000 in
set_option maxHeartbeats 4000000 in
theorem km_15_24 (x0 : Int32) (σ : lj_S) : lj_D lm_P lm_M15 24 [.int x0] [] σ = (if x0 = 95 then lj_D lm_P lm_M15 30 [.int x0] [] σ else lj_D lm_P lm_M15 35 [.int x0] [.int 0] σ) := by rw [lj_D_eq]; rfl
set_option maxRecDepth 100000 in
set_option maxHeartbeats 4000000 in
theorem km_15_30 (x0 : Int32) (σ : lj_S) : lj_D lm_P lm_M15 30 [.int x0] [] σ = lj_D lm_P lm_M15 35 [.int x0] [.int 1] σ := by rw [lj_D_eq]; rfl
set_option maxRecDepth 100000 in
set_option maxHeartbeats 4000000 in
theorem km_15_35 (x0 : Int32) (x50 : Int32) (σ : lj_S) : lj_D lm_P lm_M15 35 [.int x0] [.int x50] σ = some (.inl (some (.int (vp_nar .boolean x50))), σ) := by rw [lj_D_eq]; rfl
-- TableTongueModel.readName(I)V
set_option maxRecDepth 100000 in
theorem rm_16 (x1 : Int32) (σ : lj_S) : lj_R lm_P 16 [.ref 0, .int x1] σ = lj_D lm_P lm_M16 0 [.ref 0, .int x1, .retAddr 0, .retAddr 0, .retAddr 0] [] σ := lj_R_eq (nL := 5) (M := lm_M16) _ _ _ _ rfl rfl
set_option maxRecDepth 100000 in
set_option maxHeartbeats 4000000 in
theorem km_16_0 (x1 : Int32) (σ : lj_S) : lj_D lm_P lm_M16 0 [.ref 0, .int x1, .retAddr 0, .retAddr 0, .retAddr 0] [] σ = lj_D lm_P lm_M16 2 [.ref 0, .int x1, .int x1, .retAddr 0, .retAddr 0] [] σ := by rw [lj_D_eq]; rfl
set_option maxRecDepth 100000 in
set_option maxHeartbeats 4000000 in
theorem km_16_2 (x1 : Int32) (x2 : Int32) (σ : lj_S) : lj_D lm_P lm_M16 2 [.ref 0, .int x1, .int x2, .retAddr 0, .retAddr 0] [] σ = lj_bi (lj_R lm_P 14 [.ref 0, .int x2] σ) (fun y2 σ1 => lj_bi (lj_R lm_P 15 [.int y2] σ1) (fun y4 σ3 => (if y4 = 0 then lj_bi (lj_R lm_P 14 [.ref 0, .int x2] σ3) (fun y6 σ5 => lj_bi (lj_R lm_P 17 [.int y6] σ5) (fun y8 σ7 => (if y8 = 0 then lj_bi (lj_R lm_P 18 [.ref 0, .int x1, .int (x2 - x1)] (lj_put σ7 0 69 x2)) (fun y10 σ9 => (if y10 ≤ 0 then (if (x2 - x1) ≤ 30 then lj_D lm_P lm_M16 75 [.ref 0, .int x1, .int x2, .int y10, .retAddr 0] [.int 1, .ref 0] σ9 else lj_D lm_P lm_M16 75 [.ref 0, .int x1, .int x2, .int y10, .retAddr 0] [.int 7, .ref 0] σ9) else some (.inl none, (lj_putL (lj_put σ9 0 67 4) 0 68 ((y10 : Int32).toInt64))))) lj_up else lj_D lm_P lm_M16 24 [.ref 0, .int x1, .int x2, .retAddr 0, .retAddr 0] [] σ7)) lj_up) lj_up else lj_D lm_P lm_M16 24 [.ref 0, .int x1, .int x2, .retAddr 0, .retAddr 0] [] σ3)) lj_up) lj_up := by rw [lj_D_eq]; rfl
set_option maxRecDepth 100000 in
set_option maxHeartbeats 4000000 in
theorem km_16_24 (x1 : Int32) (x2 : Int32) (σ : lj_S) : lj_D lm_P lm_M16 24 [.ref 0, .int x1, .int x2, .retAddr 0, .retAddr 0] [] σ = lj_D lm_P lm_M16 2 [.ref 0, .int x1, .int (x2 + 1), .retAddr 0, .retAddr 0] [] σ := by rw [lj_D_eq]; rfl
set_option maxRecDepth 100000 in
set_option maxHeartbeats 4000000 in
theorem km_16_75 (x1 : Int32) (x2 : Int32) (x3 : Int32) (x50 : Int32) (σ : lj_S) : lj_D lm_P lm_M16 75 [.ref 0, .int x1, .int x2, .int x3, .retAddr 0] [.int x50, .ref 0] σ = (if x50 = 1 then lj_D lm_P lm_M16 94 [.ref 0, .int x1, .int x2, .int x3, .int x1] [] (lj_put (lj_put σ 0 67 x50) 0 20 0) else lj_D lm_P lm_M16 143 [.ref 0, .int x1, .int x2, .int x3, .retAddr 0] [] (lj_put σ 0 67 x50)) := by rw [lj_D_eq]; rfl
set_option maxRecDepth 100000 in
set_option maxHeartbeats 4000000 in
theorem km_16_94 (x1 : Int32) (x2 : Int32) (x3 : Int32) (x4 : Int32) (σ : lj_S) : lj_D lm_P lm_M16 94 [.ref 0, .int x1, .int x2, .int x3, .int x4] [] σ = (if x2 ≤ x4 then lj_bi (lj_R lm_P 3 [.ref 0, .int 1] σ) (fun y2 σ1 => lj_D lm_P lm_M16 143 [.ref 0, .int x1, .int x2, .int x3, .int x4] [] (lj_putL σ1 0 68 ((y2 : Int32).toInt64))) lj_up else (if lj_in x4 6000 then (if lj_in (σ.1 0 20) 4200 then lj_D lm_P lm_M16 94 [.ref 0, .int x1, .int x2, .int x3, .int (x4 + 1)] [] (lj_put (lj_put σ 8 ((σ.1 0 20).toNatClampNeg) (vp_nar .byte (((σ.1 1 x4.toNatClampNeg) : Int32).toInt8.toInt32))) 0 20 ((σ.1 0 20) + 1)) else none) else none)) := by rw [lj_D_eq]; rfl
set_option maxRecDepth 100000 in
set_option maxHeartbeats 4000000 in
theorem km_16_143 (x1 : Int32) (x2 : Int32) (x3 : Int32) (x4 : Value) (σ : lj_S) : lj_D lm_P lm_M16 143 [.ref 0, .int x1, .int x2, .int x3, x4] [] σ = some (.inl none, σ) := by rw [lj_D_eq]; rfl
-- TableTongueModel.isDigit(I)Z
set_option maxRecDepth 100000 in
theorem rm_17 (x0 : Int32) (σ : lj_S) : lj_R lm_P 17 [.int x0] σ = lj_D lm_P lm_M17 0 [.int x0] [] σ := lj_R_eq (nL := 1) (M := lm_M17) _ _ _ _ rfl rfl
set_option maxRecDepth 100000 in
set_option maxHeartbeats 4000000 in
theorem km_17_0 (x0 : Int32) (σ : lj_S) : lj_D lm_P lm_M17 0 [.int x0] [] σ = (if x0 < 48 then lj_D lm_P lm_M17 16 [.int x0] [] σ else (if 57 < x0 then lj_D lm_P lm_M17 16 [.int x0] [] σ else lj_D lm_P lm_M17 17 [.int x0] [.int 1] σ)) := by rw [lj_D_eq]; rfl
set_option maxRecDepth 100000 in
set_option maxHeartbeats 4000000 in
theorem km_17_16 (x0 : Int32) (σ : lj_S) : lj_D lm_P lm_M17 16 [.int x0] [] σ = lj_D lm_P lm_M17 17 [.int x0] [.int 0] σ := by rw [lj_D_eq]; rfl
set_option maxRecDepth 100000 in
set_option maxHeartbeats 4000000 in
theorem km_17_17 (x0 : Int32) (x50 : Int32) (σ : lj_S) : lj_D lm_P lm_M17 17 [.int x0] [.int x50] σ = some (.inl (some (.int (vp_nar .boolean x50))), σ) := by rw [lj_D_eq]; rfl
-- TableTongueModel.wordAt(II)I
set_option maxRecDepth 100000 in
theorem rm_18 (x1 : Int32) (x2 : Int32) (σ : lj_S) : lj_R lm_P 18 [.ref 0, .int x1, .int x2] σ = lj_D lm_P lm_M18 0 [.ref 0, .int x1, .int x2, .retAddr 0, .retAddr 0, .retAddr 0] [] σ := lj_R_eq (nL := 6) (M := lm_M18) _ _ _ _ rfl rfl
set_option maxRecDepth 100000 in
set_option maxHeartbeats 4000000 in
theorem km_18_0 (x1 : Int32) (x2 : Int32) (σ : lj_S) : lj_D lm_P lm_M18 0 [.ref 0, .int x1, .int x2, .retAddr 0, .retAddr 0, .retAddr 0] [] σ = lj_D lm_P lm_M18 5 [.ref 0, .int x1, .int x2, .long 0, .retAddr 0, .int 0] [] σ := by rw [lj_D_eq]; rfl
set_option maxRecDepth 100000 in
set_option maxHeartbeats 4000000 in
theorem km_18_5 (x1 : Int32) (x2 : Int32) (x3 : Int64) (x5 : Int32) (σ : lj_S) : lj_D lm_P lm_M18 5 [.ref 0, .int x1, .int x2, .long x3, .retAddr 0, .int x5] [] σ = (if x2 ≤ x5 then lj_D lm_P lm_M18 39 [.ref 0, .int x1, .int x2, .long x3, .retAddr 0, .int x5] [] σ else (if 8 < x2 then lj_D lm_P lm_M18 39 [.ref 0, .int x1, .int x2, .long x3, .retAddr 0, .int x5] [] σ else (if lj_in (x1 + x5) 6000 then lj_D lm_P lm_M18 5 [.ref 0, .int x1, .int x2, .long ((x3 <<< ((8 : Int32).toInt64 &&& 63)) ||| ((((σ.1 1 ((x1 + x5).toNatClampNeg))) : Int32).toInt64)), .retAddr 0, .int (x5 + 1)] [] σ else none))) := by rw [lj_D_eq]; rfl
set_option maxRecDepth 100000 in
set_option maxHeartbeats 4000000 in
theorem km_18_39 (x1 : Int32) (x2 : Int32) (x3 : Int64) (x5 : Int32) (σ : lj_S) : lj_D lm_P lm_M18 39 [.ref 0, .int x1, .int x2, .long x3, .retAddr 0, .int x5] [] σ = (if (lg_cmp x3 6385252) = 0 then some (.inl (some (.int 1)), σ) else (if (lg_cmp x3 422826041707) = 0 then some (.inl (some (.int 2)), σ) else (if (lg_cmp x3 25711) = 0 then some (.inl (some (.int 3)), σ) else (if (lg_cmp x3 1701606245) = 0 then some (.inl (some (.int 4)), σ) else (if (lg_cmp x3 111516466899302) = 0 then some (.inl (some (.int 5)), σ) else (if (lg_cmp x3 6647396) = 0 then some (.inl (some (.int 6)), σ) else (if (lg_cmp x3 439721161573) = 0 then some (.inl (some (.int 7)), σ) else (if (lg_cmp x3 6713202) = 0 then some (.inl (some (.int 8)), σ) else (if (lg_cmp x3 7382928537577680750) = 0 then some (.inl (some (.int 9)), σ) else (if (lg_cmp x3 26982) = 0 then some (.inl (some (.int 10)), σ) else (if (lg_cmp x3 26990) = 0 then some (.inl (some (.int 11)), σ) else lj_bi (lj_R lm_P 19 [.long x3] σ) (fun y2 σ1 => some (.inl (some (.int y2)), σ1)) lj_up))))))))))) := by rw [lj_D_eq]; rfl
-- TableTongueModel.wordBehind(J)I
set_option maxRecDepth 100000 in
theorem rm_19 (x0 : Int64) (σ : lj_S) : lj_R lm_P 19 [.long x0] σ = lj_D lm_P lm_M19 0 [.long x0, .retAddr 0] [] σ := lj_R_eq (nL := 2) (M := lm_M19) _ _ _ _ rfl rfl
set_option maxRecDepth 100000 in
set_option maxHeartbeats 4000000 in
theorem km_19_0 (x0 : Int64) (σ : lj_S) : lj_D lm_P lm_M19 0 [.long x0, .retAddr 0] [] σ = (if (lg_cmp x0 465725251948) = 0 then some (.inl (some (.int 12)), σ) else (if (lg_cmp x0 7235948) = 0 then some (.inl (some (.int 13)), σ) else (if (lg_cmp x0 7237492) = 0 then some (.inl (some (.int 14)), σ) else (if (lg_cmp x0 28530) = 0 then some (.inl (some (.int 15)), σ) else (if (lg_cmp x0 125780002955636) = 0 then some (.inl (some (.int 16)), σ) else (if (lg_cmp x0 125780071117422) = 0 then some (.inl (some (.int 17)), σ) else (if (lg_cmp x0 1952998766) = 0 then some (.inl (some (.int 18)), σ) else (if (lg_cmp x0 1953658213) = 0 then some (.inl (some (.int 19)), σ) else (if (lg_cmp x0 504364296556) = 0 then some (.inl (some (.int 20)), σ) else (if (lg_cmp x0 512852847717) = 0 then lj_D lm_P lm_M19 113 [.long x0, .retAddr 0] [.int 21] σ else lj_D lm_P lm_M19 113 [.long x0, .retAddr 0] [.int 0] σ)))))))))) := by rw [lj_D_eq]; rfl
set_option maxRecDepth 100000 in
set_option maxHeartbeats 4000000 in
theorem km_19_113 (x0 : Int64) (x50 : Int32) (σ : lj_S) : lj_D lm_P lm_M19 113 [.long x0, .retAddr 0] [.int x50] σ = some (.inl (some (.int x50)), σ) := by rw [lj_D_eq]; rfl
-- TableTongueModel.readWhole(I)V
set_option maxRecDepth 100000 in
theorem rm_20 (x1 : Int32) (σ : lj_S) : lj_R lm_P 20 [.ref 0, .int x1] σ = lj_D lm_P lm_M20 0 [.ref 0, .int x1, .retAddr 0, .retAddr 0, .retAddr 0, .retAddr 0, .retAddr 0] [] σ := lj_R_eq (nL := 7) (M := lm_M20) _ _ _ _ rfl rfl
set_option maxRecDepth 100000 in
set_option maxHeartbeats 4000000 in
theorem km_20_0 (x1 : Int32) (σ : lj_S) : lj_D lm_P lm_M20 0 [.ref 0, .int x1, .retAddr 0, .retAddr 0, .retAddr 0, .retAddr 0, .retAddr 0] [] σ = lj_bi (lj_R lm_P 14 [.ref 0, .int x1] σ) (fun y2 σ1 => (if y2 = 48 then lj_bi (lj_R lm_P 14 [.ref 0, .int (x1 + 1)] σ1) (fun y4 σ3 => (if y4 = 120 then lj_D lm_P lm_M20 36 [.ref 0, .int x1, .int (x1 + 2), .long 0, .retAddr 0, .int 1, .int (x1 + 2)] [] σ3 else lj_D lm_P lm_M20 92 [.ref 0, .int x1, .int x1, .long 0, .retAddr 0, .int 1, .retAddr 0] [] σ3)) lj_up else lj_D lm_P lm_M20 92 [.ref 0, .int x1, .int x1, .long 0, .retAddr 0, .int 1, .retAddr 0] [] σ1)) lj_up := by rw [lj_D_eq]; rfl
set_option maxRecDepth 100000 in
set_option maxHeartbeats 4000000 in
theorem km_20_36 (x1 : Int32) (x2 : Int32) (x3 : Int64) (x5 : Int32) (x6 : Int32) (σ : lj_S) : lj_D lm_P lm_M20 36 [.ref 0, .int x1, .int x2, .long x3, .retAddr 0, .int x5, .int x6] [] σ = lj_bi (lj_R lm_P 14 [.ref 0, .int x2] σ) (fun y2 σ1 => lj_bi (lj_R lm_P 21 [.int y2] σ1) (fun y4 σ3 => (if y4 < 0 then (if x2 ≤ x6 then lj_D lm_P lm_M20 86 [.ref 0, .int x1, .int x2, .long x3, .retAddr 0, .int x5, .int x6] [] σ3 else (if 16 < (x2 - x6) then lj_D lm_P lm_M20 86 [.ref 0, .int x1, .int x2, .long x3, .retAddr 0, .int x5, .int x6] [] σ3 else lj_D lm_P lm_M20 87 [.ref 0, .int x1, .int x2, .long x3, .retAddr 0, .int x5, .int x6] [.int 1] σ3)) else lj_bi (lj_R lm_P 14 [.ref 0, .int x2] σ3) (fun y6 σ5 => lj_bi (lj_R lm_P 21 [.int y6] σ5) (fun y8 σ7 => lj_D lm_P lm_M20 36 [.ref 0, .int x1, .int (x2 + 1), .long ((x3 <<< ((4 : Int32).toInt64 &&& 63)) ||| ((y8 : Int32).toInt64)), .retAddr 0, .int x5, .int x6] [] σ7) lj_up) lj_up)) lj_up) lj_up := by rw [lj_D_eq]; rfl
set_option maxRecDepth 100000 in
set_option maxHeartbeats 4000000 in
theorem km_20_86 (x1 : Int32) (x2 : Int32) (x3 : Int64) (x5 : Int32) (x6 : Int32) (σ : lj_S) : lj_D lm_P lm_M20 86 [.ref 0, .int x1, .int x2, .long x3, .retAddr 0, .int x5, .int x6] [] σ = lj_D lm_P lm_M20 87 [.ref 0, .int x1, .int x2, .long x3, .retAddr 0, .int x5, .int x6] [.int 0] σ := by rw [lj_D_eq]; rfl
set_option maxRecDepth 100000 in
set_option maxHeartbeats 4000000 in
theorem km_20_87 (x1 : Int32) (x2 : Int32) (x3 : Int64) (x5 : Int32) (x6 : Int32) (x50 : Int32) (σ : lj_S) : lj_D lm_P lm_M20 87 [.ref 0, .int x1, .int x2, .long x3, .retAddr 0, .int x5, .int x6] [.int x50] σ = lj_D lm_P lm_M20 184 [.ref 0, .int x1, .int x2, .long x3, .retAddr 0, .int x50, .int x6] [] σ := by rw [lj_D_eq]; rfl
set_option maxRecDepth 100000 in
set_option maxHeartbeats 4000000 in
theorem km_20_92 (x1 : Int32) (x2 : Int32) (x3 : Int64) (x5 : Int32) (σ : lj_S) : lj_D lm_P lm_M20 92 [.ref 0, .int x1, .int x2, .long x3, .retAddr 0, .int x5, .retAddr 0] [] σ = lj_bi (lj_R lm_P 14 [.ref 0, .int x2] σ) (fun y2 σ1 => lj_bi (lj_R lm_P 17 [.int y2] σ1) (fun y4 σ3 => (if y4 = 0 then (if x5 = 0 then lj_D lm_P lm_M20 181 [.ref 0, .int x1, .int x2, .long x3, .retAddr 0, .int x5, .retAddr 0] [] σ3 else (if 19 < (x2 - x1) then lj_D lm_P lm_M20 181 [.ref 0, .int x1, .int x2, .long x3, .retAddr 0, .int x5, .retAddr 0] [] σ3 else lj_D lm_P lm_M20 182 [.ref 0, .int x1, .int x2, .long x3, .retAddr 0, .int x5, .retAddr 0] [.int 1] σ3)) else (if x5 = 0 then lj_D lm_P lm_M20 138 [.ref 0, .int x1, .int x2, .long x3, .retAddr 0, .int x5, .retAddr 0] [] σ3 else (if (lg_cmp x3 922337203685477580) < 0 then lj_D lm_P lm_M20 134 [.ref 0, .int x1, .int x2, .long x3, .retAddr 0, .int x5, .retAddr 0] [] σ3 else (if (lg_cmp x3 922337203685477580) = 0 then lj_bi (lj_R lm_P 14 [.ref 0, .int x2] σ3) (fun y6 σ5 => (if 55 < y6 then lj_D lm_P lm_M20 138 [.ref 0, .int x1, .int x2, .long x3, .retAddr 0, .int x5, .retAddr 0] [] σ5 else lj_D lm_P lm_M20 134 [.ref 0, .int x1, .int x2, .long x3, .retAddr 0, .int x5, .retAddr 0] [] σ5)) lj_up else lj_D lm_P lm_M20 138 [.ref 0, .int x1, .int x2, .long x3, .retAddr 0, .int x5, .retAddr 0] [] σ3))))) lj_up) lj_up := by rw [lj_D_eq]; rfl
set_option maxRecDepth 100000 in
set_option maxHeartbeats 4000000 in
theorem km_20_134 (x1 : Int32) (x2 : Int32) (x3 : Int64) (x5 : Int32) (σ : lj_S) : lj_D lm_P lm_M20 134 [.ref 0, .int x1, .int x2, .long x3, .retAddr 0, .int x5, .retAddr 0] [] σ = lj_D lm_P lm_M20 139 [.ref 0, .int x1, .int x2, .long x3, .retAddr 0, .int x5, .retAddr 0] [.int 1] σ := by rw [lj_D_eq]; rfl
set_option maxRecDepth 100000 in
set_option maxHeartbeats 4000000 in
theorem km_20_138 (x1 : Int32) (x2 : Int32) (x3 : Int64) (x5 : Int32) (σ : lj_S) : lj_D lm_P lm_M20 138 [.ref 0, .int x1, .int x2, .long x3, .retAddr 0, .int x5, .retAddr 0] [] σ = lj_D lm_P lm_M20 139 [.ref 0, .int x1, .int x2, .long x3, .retAddr 0, .int x5, .retAddr 0] [.int 0] σ := by rw [lj_D_eq]; rfl
set_option maxRecDepth 100000 in
set_option maxHeartbeats 4000000 in
theorem km_20_139 (x1 : Int32) (x2 : Int32) (x3 : Int64) (x5 : Int32) (x50 : Int32) (σ : lj_S) : lj_D lm_P lm_M20 139 [.ref 0, .int x1, .int x2, .long x3, .retAddr 0, .int x5, .retAddr 0] [.int x50] σ = lj_bi (lj_R lm_P 14 [.ref 0, .int x2] σ) (fun y2 σ1 => lj_D lm_P lm_M20 92 [.ref 0, .int x1, .int (x2 + 1), .long (((10 * x3) + ((y2 : Int32).toInt64)) - 48), .retAddr 0, .int x50, .retAddr 0] [] σ1) lj_up := by rw [lj_D_eq]; rfl
set_option maxRecDepth 100000 in
set_option maxHeartbeats 4000000 in
theorem km_20_181 (x1 : Int32) (x2 : Int32) (x3 : Int64) (x5 : Int32) (σ : lj_S) : lj_D lm_P lm_M20 181 [.ref 0, .int x1, .int x2, .long x3, .retAddr 0, .int x5, .retAddr 0] [] σ = lj_D lm_P lm_M20 182 [.ref 0, .int x1, .int x2, .long x3, .retAddr 0, .int x5, .retAddr 0] [.int 0] σ := by rw [lj_D_eq]; rfl
set_option maxRecDepth 100000 in
set_option maxHeartbeats 4000000 in
theorem km_20_182 (x1 : Int32) (x2 : Int32) (x3 : Int64) (x5 : Int32) (x50 : Int32) (σ : lj_S) : lj_D lm_P lm_M20 182 [.ref 0, .int x1, .int x2, .long x3, .retAddr 0, .int x5, .retAddr 0] [.int x50] σ = lj_D lm_P lm_M20 184 [.ref 0, .int x1, .int x2, .long x3, .retAddr 0, .int x50, .retAddr 0] [] σ := by rw [lj_D_eq]; rfl
set_option maxRecDepth 100000 in
set_option maxHeartbeats 4000000 in
theorem km_20_184 (x1 : Int32) (x2 : Int32) (x3 : Int64) (x5 : Int32) (x6 : Value) (σ : lj_S) : lj_D lm_P lm_M20 184 [.ref 0, .int x1, .int x2, .long x3, .retAddr 0, .int x5, x6] [] σ = (if x5 = 0 then lj_D lm_P lm_M20 216 [.ref 0, .int x1, .int x2, .long x3, .retAddr 0, .int x5, x6] [.ref 0] σ else lj_bi (lj_R lm_P 14 [.ref 0, .int x2] σ) (fun y2 σ1 => lj_bi (lj_R lm_P 15 [.int y2] σ1) (fun y4 σ3 => (if y4 = 0 then lj_bi (lj_R lm_P 14 [.ref 0, .int x2] σ3) (fun y6 σ5 => lj_bi (lj_R lm_P 17 [.int y6] σ5) (fun y8 σ7 => (if y8 = 0 then lj_D lm_P lm_M20 218 [.ref 0, .int x1, .int x2, .long x3, .retAddr 0, .int x5, x6] [.int 2, .ref 0] σ7 else lj_D lm_P lm_M20 216 [.ref 0, .int x1, .int x2, .long x3, .retAddr 0, .int x5, x6] [.ref 0] σ7)) lj_up) lj_up else lj_D lm_P lm_M20 216 [.ref 0, .int x1, .int x2, .long x3, .retAddr 0, .int x5, x6] [.ref 0] σ3)) lj_up) lj_up) := by rw [lj_D_eq]; rfl
set_option maxRecDepth 100000 in
set_option maxHeartbeats 4000000 in
theorem km_20_216 (x1 : Int32) (x2 : Int32) (x3 : Int64) (x5 : Int32) (x6 : Value) (σ : lj_S) : lj_D lm_P lm_M20 216 [.ref 0, .int x1, .int x2, .long x3, .retAddr 0, .int x5, x6] [.ref 0] σ = lj_D lm_P lm_M20 218 [.ref 0, .int x1, .int x2, .long x3, .retAddr 0, .int x5, x6] [.int 7, .ref 0] σ := by rw [lj_D_eq]; rfl
set_option maxRecDepth 100000 in
set_option maxHeartbeats 4000000 in
theorem km_20_218 (x1 : Int32) (x2 : Int32) (x3 : Int64) (x5 : Int32) (x6 : Value) (x50 : Int32) (σ : lj_S) : lj_D lm_P lm_M20 218 [.ref 0, .int x1, .int x2, .long x3, .retAddr 0, .int x5, x6] [.int x50, .ref 0] σ = some (.inl none, (lj_put (lj_putL (lj_put σ 0 67 x50) 0 68 x3) 0 69 x2)) := by rw [lj_D_eq]; rfl
-- TableTongueModel.hex(I)I
set_option maxRecDepth 100000 in
theorem rm_21 (x0 : Int32) (σ : lj_S) : lj_R lm_P 21 [.int x0] σ = lj_D lm_P lm_M21 0 [.int x0] [] σ := lj_R_eq (nL := 1) (M := lm_M21) _ _ _ _ rfl rfl
set_option maxRecDepth 100000 in
set_option maxHeartbeats 4000000 in
theorem km_21_0 (x0 : Int32) (σ : lj_S) : lj_D lm_P lm_M21 0 [.int x0] [] σ = lj_bi (lj_R lm_P 17 [.int x0] σ) (fun y2 σ1 => (if y2 = 0 then (if x0 < 97 then lj_D lm_P lm_M21 36 [.int x0] [] σ1 else (if 102 < x0 then lj_D lm_P lm_M21 36 [.int x0] [] σ1 else lj_D lm_P lm_M21 59 [.int x0] [.int ((x0 - 97) + 10)] σ1)) else lj_D lm_P lm_M21 59 [.int x0] [.int (x0 - 48)] σ1)) lj_up := by rw [lj_D_eq]; rfl
set_option maxRecDepth 100000 in
set_option maxHeartbeats 4000000 in
theorem km_21_36 (x0 : Int32) (σ : lj_S) : lj_D lm_P lm_M21 36 [.int x0] [] σ = (if x0 < 65 then lj_D lm_P lm_M21 58 [.int x0] [] σ else (if 70 < x0 then lj_D lm_P lm_M21 58 [.int x0] [] σ else lj_D lm_P lm_M21 59 [.int x0] [.int ((x0 - 65) + 10)] σ)) := by rw [lj_D_eq]; rfl
set_option maxRecDepth 100000 in
set_option maxHeartbeats 4000000 in
theorem km_21_58 (x0 : Int32) (σ : lj_S) : lj_D lm_P lm_M21 58 [.int x0] [] σ = lj_D lm_P lm_M21 59 [.int x0] [.int (-1)] σ := by rw [lj_D_eq]; rfl
set_option maxRecDepth 100000 in
set_option maxHeartbeats 4000000 in
theorem km_21_59 (x0 : Int32) (x50 : Int32) (σ : lj_S) : lj_D lm_P lm_M21 59 [.int x0] [.int x50] σ = some (.inl (some (.int x50)), σ) := by rw [lj_D_eq]; rfl
-- TableTongueModel.readString(I)V
set_option maxRecDepth 100000 in
theorem rm_22 (x1 : Int32) (σ : lj_S) : lj_R lm_P 22 [.ref 0, .int x1] σ = lj_D lm_P lm_M22 0 [.ref 0, .int x1, .retAddr 0, .retAddr 0] [] σ := lj_R_eq (nL := 4) (M := lm_M22) _ _ _ _ rfl rfl
set_option maxRecDepth 100000 in
set_option maxHeartbeats 4000000 in
theorem km_22_0 (x1 : Int32) (σ : lj_S) : lj_D lm_P lm_M22 0 [.ref 0, .int x1, .retAddr 0, .retAddr 0] [] σ = lj_bi (lj_R lm_P 14 [.ref 0, .int x1] σ) (fun y2 σ1 => lj_D lm_P lm_M22 21 [.ref 0, .int x1, .int y2, .int (x1 + 1)] [] (lj_put (lj_put σ1 0 20 0) 0 67 7)) lj_up := by rw [lj_D_eq]; rfl
set_option maxRecDepth 100000 in
set_option maxHeartbeats 4000000 in
theorem km_22_21 (x1 : Int32) (x2 : Int32) (x3 : Int32) (σ : lj_S) : lj_D lm_P lm_M22 21 [.ref 0, .int x1, .int x2, .int x3] [] σ = (if x3 < 0 then lj_D lm_P lm_M22 118 [.ref 0, .int x1, .int x2, .int x3] [] σ else (if (σ.1 0 2) ≤ x3 then lj_D lm_P lm_M22 118 [.ref 0, .int x1, .int x2, .int x3] [] σ else (if lj_in x3 6000 then (if (σ.1 1 x3.toNatClampNeg) = x2 then lj_D lm_P lm_M22 118 [.ref 0, .int x1, .int x2, .int x3] [] σ else (if lj_in x3 6000 then (if (σ.1 1 x3.toNatClampNeg) = 10 then lj_D lm_P lm_M22 118 [.ref 0, .int x1, .int x2, .int x3] [] σ else (if 200 < (σ.1 0 20) then lj_D lm_P lm_M22 118 [.ref 0, .int x1, .int x2, .int x3] [] σ else (if lj_in x3 6000 then (if (σ.1 1 x3.toNatClampNeg) = 92 then lj_bi (lj_R lm_P 23 [.ref 0, .int (x3 + 1)] σ) (fun y2 σ1 => lj_D lm_P lm_M22 21 [.ref 0, .int x1, .int x2, .int y2] [] σ1) lj_up else (if lj_in x3 6000 then (if lj_in (σ.1 0 20) 4200 then lj_D lm_P lm_M22 21 [.ref 0, .int x1, .int x2, .int (x3 + 1)] [] (lj_put (lj_put σ 8 ((σ.1 0 20).toNatClampNeg) (vp_nar .byte (((σ.1 1 x3.toNatClampNeg) : Int32).toInt8.toInt32))) 0 20 ((σ.1 0 20) + 1)) else none) else none)) else none))) else none)) else none))) := by rw [lj_D_eq]; rfl
set_option maxRecDepth 100000 in
set_option maxHeartbeats 4000000 in
theorem km_22_118 (x1 : Int32) (x2 : Int32) (x3 : Int32) (σ : lj_S) : lj_D lm_P lm_M22 118 [.ref 0, .int x1, .int x2, .int x3] [] σ = (if x3 < 0 then lj_D lm_P lm_M22 163 [.ref 0, .int x1, .int x2, .int x3] [] σ else lj_bi (lj_R lm_P 14 [.ref 0, .int x3] σ) (fun y2 σ1 => (if y2 = x2 then (if 200 < (σ1.1 0 20) then lj_D lm_P lm_M22 163 [.ref 0, .int x1, .int x2, .int x3] [] σ1 else lj_bi (lj_R lm_P 3 [.ref 0, .int 1] (lj_put σ1 0 67 3)) (fun y4 σ3 => lj_D lm_P lm_M22 163 [.ref 0, .int x1, .int x2, .int x3] [] (lj_put (lj_putL σ3 0 68 ((y4 : Int32).toInt64)) 0 69 (x3 + 1))) lj_up) else lj_D lm_P lm_M22 163 [.ref 0, .int x1, .int x2, .int x3] [] σ1)) lj_up) := by rw [lj_D_eq]; rfl
set_option maxRecDepth 100000 in
set_option maxHeartbeats 4000000 in
theorem km_22_163 (x1 : Int32) (x2 : Int32) (x3 : Int32) (σ : lj_S) : lj_D lm_P lm_M22 163 [.ref 0, .int x1, .int x2, .int x3] [] σ = some (.inl none, σ) := by rw [lj_D_eq]; rfl
-- TableTongueModel.escape(I)I
set_option maxRecDepth 100000 in
theorem rm_23 (x1 : Int32) (σ : lj_S) : lj_R lm_P 23 [.ref 0, .int x1] σ = lj_D lm_P lm_M23 0 [.ref 0, .int x1, .retAddr 0, .retAddr 0, .retAddr 0] [] σ := lj_R_eq (nL := 5) (M := lm_M23) _ _ _ _ rfl rfl
set_option maxRecDepth 100000 in
set_option maxHeartbeats 4000000 in
theorem km_23_0 (x1 : Int32) (σ : lj_S) : lj_D lm_P lm_M23 0 [.ref 0, .int x1, .retAddr 0, .retAddr 0, .retAddr 0] [] σ = lj_bi (lj_R lm_P 14 [.ref 0, .int x1] σ) (fun y2 σ1 => (if y2 = 110 then lj_D lm_P lm_M23 51 [.ref 0, .int x1, .int y2, .retAddr 0, .retAddr 0] [.int 10] σ1 else (if y2 = 116 then lj_D lm_P lm_M23 51 [.ref 0, .int x1, .int y2, .retAddr 0, .retAddr 0] [.int 9] σ1 else (if y2 = 92 then lj_D lm_P lm_M23 46 [.ref 0, .int x1, .int y2, .retAddr 0, .retAddr 0] [] σ1 else (if y2 = 34 then lj_D lm_P lm_M23 46 [.ref 0, .int x1, .int y2, .retAddr 0, .retAddr 0] [] σ1 else (if y2 = 39 then lj_D lm_P lm_M23 46 [.ref 0, .int x1, .int y2, .retAddr 0, .retAddr 0] [] σ1 else lj_D lm_P lm_M23 51 [.ref 0, .int x1, .int y2, .retAddr 0, .retAddr 0] [.int (-1)] σ1)))))) lj_up := by rw [lj_D_eq]; rfl
set_option maxRecDepth 100000 in
set_option maxHeartbeats 4000000 in
theorem km_23_46 (x1 : Int32) (x2 : Int32) (σ : lj_S) : lj_D lm_P lm_M23 46 [.ref 0, .int x1, .int x2, .retAddr 0, .retAddr 0] [] σ = lj_D lm_P lm_M23 51 [.ref 0, .int x1, .int x2, .retAddr 0, .retAddr 0] [.int x2] σ := by rw [lj_D_eq]; rfl
set_option maxRecDepth 100000 in
set_option maxHeartbeats 4000000 in
theorem km_23_51 (x1 : Int32) (x2 : Int32) (x50 : Int32) (σ : lj_S) : lj_D lm_P lm_M23 51 [.ref 0, .int x1, .int x2, .retAddr 0, .retAddr 0] [.int x50] σ = lj_bi (lj_R lm_P 17 [.int x2] σ) (fun y2 σ1 => (if y2 = 0 then lj_D lm_P lm_M23 110 [.ref 0, .int x1, .int x2, .int x50, .int (x1 + 1)] [] σ1 else lj_D lm_P lm_M23 69 [.ref 0, .int x1, .int x2, .int 0, .int x1] [] σ1)) lj_up := by rw [lj_D_eq]; rfl
set_option maxRecDepth 100000 in
set_option maxHeartbeats 4000000 in
theorem km_23_69 (x1 : Int32) (x2 : Int32) (x3 : Int32) (x4 : Int32) (σ : lj_S) : lj_D lm_P lm_M23 69 [.ref 0, .int x1, .int x2, .int x3, .int x4] [] σ = (if (x1 + 3) ≤ x4 then lj_D lm_P lm_M23 110 [.ref 0, .int x1, .int x2, .int x3, .int x4] [] σ else lj_bi (lj_R lm_P 14 [.ref 0, .int x4] σ) (fun y2 σ1 => lj_bi (lj_R lm_P 17 [.int y2] σ1) (fun y4 σ3 => (if y4 = 0 then lj_D lm_P lm_M23 110 [.ref 0, .int x1, .int x2, .int x3, .int x4] [] σ3 else lj_bi (lj_R lm_P 14 [.ref 0, .int x4] σ3) (fun y6 σ5 => lj_D lm_P lm_M23 69 [.ref 0, .int x1, .int x2, .int (((10 * x3) + y6) - 48), .int (x4 + 1)] [] σ5) lj_up)) lj_up) lj_up) := by rw [lj_D_eq]; rfl
set_option maxRecDepth 100000 in
set_option maxHeartbeats 4000000 in
theorem km_23_110 (x1 : Int32) (x2 : Int32) (x3 : Int32) (x4 : Int32) (σ : lj_S) : lj_D lm_P lm_M23 110 [.ref 0, .int x1, .int x2, .int x3, .int x4] [] σ = (if x3 < 0 then lj_D lm_P lm_M23 121 [.ref 0, .int x1, .int x2, .int x3, .int x4] [] σ else (if x3 ≤ 255 then (if lj_in (σ.1 0 20) 4200 then some (.inl (some (.int x4)), (lj_put (lj_put σ 8 ((σ.1 0 20).toNatClampNeg) (vp_nar .byte ((x3 : Int32).toInt8.toInt32))) 0 20 ((σ.1 0 20) + 1))) else none) else lj_D lm_P lm_M23 121 [.ref 0, .int x1, .int x2, .int x3, .int x4] [] σ)) := by rw [lj_D_eq]; rfl
set_option maxRecDepth 100000 in
set_option maxHeartbeats 4000000 in
theorem km_23_121 (x1 : Int32) (x2 : Int32) (x3 : Int32) (x4 : Int32) (σ : lj_S) : lj_D lm_P lm_M23 121 [.ref 0, .int x1, .int x2, .int x3, .int x4] [] σ = some (.inl (some (.int (-1))), σ) := by rw [lj_D_eq]; rfl
-- TableTongueModel.readSign(I)V
set_option maxRecDepth 100000 in
theorem rm_24 (x1 : Int32) (σ : lj_S) : lj_R lm_P 24 [.ref 0, .int x1] σ = lj_D lm_P lm_M24 0 [.ref 0, .int x1, .retAddr 0, .retAddr 0] [] σ := lj_R_eq (nL := 4) (M := lm_M24) _ _ _ _ rfl rfl
set_option maxRecDepth 100000 in
set_option maxHeartbeats 4000000 in
theorem km_24_0 (x1 : Int32) (σ : lj_S) : lj_D lm_P lm_M24 0 [.ref 0, .int x1, .retAddr 0, .retAddr 0] [] σ = lj_bi (lj_R lm_P 14 [.ref 0, .int x1] σ) (fun y2 σ1 => lj_bi (lj_R lm_P 14 [.ref 0, .int (x1 + 1)] σ1) (fun y4 σ3 => lj_bi (lj_R lm_P 25 [.int y2, .int y4] σ3) (fun y6 σ5 => (if y6 = 300 then lj_bi (lj_R lm_P 14 [.ref 0, .int (x1 + 2)] (lj_put σ5 0 67 5)) (fun y8 σ7 => (if y8 = 46 then lj_D lm_P lm_M24 109 [.ref 0, .int x1, .int y2, .int y6] [] (lj_put (lj_putL σ7 0 68 301) 0 69 (x1 + 3)) else lj_D lm_P lm_M24 59 [.ref 0, .int x1, .int y2, .int y6] [] σ7)) lj_up else lj_D lm_P lm_M24 59 [.ref 0, .int x1, .int y2, .int y6] [] (lj_put σ5 0 67 5))) lj_up) lj_up) lj_up := by rw [lj_D_eq]; rfl
set_option maxRecDepth 100000 in
set_option maxHeartbeats 4000000 in
theorem km_24_59 (x1 : Int32) (x2 : Int32) (x3 : Int32) (σ : lj_S) : lj_D lm_P lm_M24 59 [.ref 0, .int x1, .int x2, .int x3] [] σ = (if x3 ≤ 0 then lj_bi (lj_R lm_P 26 [.int x2] σ) (fun y2 σ1 => (if y2 = 0 then lj_D lm_P lm_M24 93 [.ref 0, .int x1, .int x2, .int x3] [.int 7, .ref 0] σ1 else lj_D lm_P lm_M24 93 [.ref 0, .int x1, .int x2, .int x3] [.int 5, .ref 0] σ1)) lj_up else lj_D lm_P lm_M24 109 [.ref 0, .int x1, .int x2, .int x3] [] (lj_put (lj_putL σ 0 68 ((x3 : Int32).toInt64)) 0 69 (x1 + 2))) := by rw [lj_D_eq]; rfl
set_option maxRecDepth 100000 in
set_option maxHeartbeats 4000000 in
theorem km_24_93 (x1 : Int32) (x2 : Int32) (x3 : Int32) (x50 : Int32) (σ : lj_S) : lj_D lm_P lm_M24 93 [.ref 0, .int x1, .int x2, .int x3] [.int x50, .ref 0] σ = lj_D lm_P lm_M24 109 [.ref 0, .int x1, .int x2, .int x3] [] (lj_put (lj_putL (lj_put σ 0 67 x50) 0 68 ((x2 : Int32).toInt64)) 0 69 (x1 + 1)) := by rw [lj_D_eq]; rfl
set_option maxRecDepth 100000 in
set_option maxHeartbeats 4000000 in
theorem km_24_109 (x1 : Int32) (x2 : Int32) (x3 : Int32) (σ : lj_S) : lj_D lm_P lm_M24 109 [.ref 0, .int x1, .int x2, .int x3] [] σ = some (.inl none, σ) := by rw [lj_D_eq]; rfl
-- TableTongueModel.pair(II)I
set_option maxRecDepth 100000 in
theorem rm_25 (x0 : Int32) (x1 : Int32) (σ : lj_S) : lj_R lm_P 25 [.int x0, .int x1] σ = lj_D lm_P lm_M25 0 [.int x0, .int x1] [] σ := lj_R_eq (nL := 2) (M := lm_M25) _ _ _ _ rfl rfl
set_option maxRecDepth 100000 in
set_option maxHeartbeats 4000000 in
theorem km_25_0 (x0 : Int32) (x1 : Int32) (σ : lj_S) : lj_D lm_P lm_M25 0 [.int x0, .int x1] [] σ = (if x0 = 61 then (if x1 = 61 then some (.inl (some (.int 302)), σ) else lj_D lm_P lm_M25 16 [.int x0, .int x1] [] σ) else lj_D lm_P lm_M25 16 [.int x0, .int x1] [] σ) := by rw [lj_D_eq]; rfl
set_option maxRecDepth 100000 in
set_option maxHeartbeats 4000000 in
theorem km_25_16 (x0 : Int32) (x1 : Int32) (σ : lj_S) : lj_D lm_P lm_M25 16 [.int x0, .int x1] [] σ = (if x0 = 126 then (if x1 = 61 then some (.inl (some (.int 303)), σ) else lj_D lm_P lm_M25 32 [.int x0, .int x1] [] σ) else lj_D lm_P lm_M25 32 [.int x0, .int x1] [] σ) := by rw [lj_D_eq]; rfl
set_option maxRecDepth 100000 in
set_option maxHeartbeats 4000000 in
theorem km_25_32 (x0 : Int32) (x1 : Int32) (σ : lj_S) : lj_D lm_P lm_M25 32 [.int x0, .int x1] [] σ = (if x0 = 60 then (if x1 = 61 then some (.inl (some (.int 304)), σ) else lj_D lm_P lm_M25 48 [.int x0, .int x1] [] σ) else lj_D lm_P lm_M25 48 [.int x0, .int x1] [] σ) := by rw [lj_D_eq]; rfl
set_option maxRecDepth 100000 in
set_option maxHeartbeats 4000000 in
theorem km_25_48 (x0 : Int32) (x1 : Int32) (σ : lj_S) : lj_D lm_P lm_M25 48 [.int x0, .int x1] [] σ = (if x0 = 62 then (if x1 = 61 then some (.inl (some (.int 305)), σ) else lj_D lm_P lm_M25 64 [.int x0, .int x1] [] σ) else lj_D lm_P lm_M25 64 [.int x0, .int x1] [] σ) := by rw [lj_D_eq]; rfl
set_option maxRecDepth 100000 in
set_option maxHeartbeats 4000000 in
theorem km_25_64 (x0 : Int32) (x1 : Int32) (σ : lj_S) : lj_D lm_P lm_M25 64 [.int x0, .int x1] [] σ = (if x0 = 60 then (if x1 = 60 then some (.inl (some (.int 306)), σ) else lj_D lm_P lm_M25 80 [.int x0, .int x1] [] σ) else lj_D lm_P lm_M25 80 [.int x0, .int x1] [] σ) := by rw [lj_D_eq]; rfl
set_option maxRecDepth 100000 in
set_option maxHeartbeats 4000000 in
theorem km_25_80 (x0 : Int32) (x1 : Int32) (σ : lj_S) : lj_D lm_P lm_M25 80 [.int x0, .int x1] [] σ = (if x0 = 62 then (if x1 = 62 then some (.inl (some (.int 307)), σ) else lj_D lm_P lm_M25 96 [.int x0, .int x1] [] σ) else lj_D lm_P lm_M25 96 [.int x0, .int x1] [] σ) := by rw [lj_D_eq]; rfl
set_option maxRecDepth 100000 in
set_option maxHeartbeats 4000000 in
theorem km_25_96 (x0 : Int32) (x1 : Int32) (σ : lj_S) : lj_D lm_P lm_M25 96 [.int x0, .int x1] [] σ = (if x0 = 47 then (if x1 = 47 then some (.inl (some (.int 308)), σ) else lj_D lm_P lm_M25 112 [.int x0, .int x1] [] σ) else lj_D lm_P lm_M25 112 [.int x0, .int x1] [] σ) := by rw [lj_D_eq]; rfl
set_option maxRecDepth 100000 in
set_option maxHeartbeats 4000000 in
theorem km_25_112 (x0 : Int32) (x1 : Int32) (σ : lj_S) : lj_D lm_P lm_M25 112 [.int x0, .int x1] [] σ = (if x0 = 46 then (if x1 = 46 then lj_D lm_P lm_M25 131 [.int x0, .int x1] [.int 300] σ else lj_D lm_P lm_M25 130 [.int x0, .int x1] [] σ) else lj_D lm_P lm_M25 130 [.int x0, .int x1] [] σ) := by rw [lj_D_eq]; rfl
set_option maxRecDepth 100000 in
set_option maxHeartbeats 4000000 in
theorem km_25_130 (x0 : Int32) (x1 : Int32) (σ : lj_S) : lj_D lm_P lm_M25 130 [.int x0, .int x1] [] σ = lj_D lm_P lm_M25 131 [.int x0, .int x1] [.int 0] σ := by rw [lj_D_eq]; rfl
set_option maxRecDepth 100000 in
set_option maxHeartbeats 4000000 in
theorem km_25_131 (x0 : Int32) (x1 : Int32) (x50 : Int32) (σ : lj_S) : lj_D lm_P lm_M25 131 [.int x0, .int x1] [.int x50] σ = some (.inl (some (.int x50)), σ) := by rw [lj_D_eq]; rfl
-- TableTongueModel.isAlone(I)Z
set_option maxRecDepth 100000 in
theorem rm_26 (x0 : Int32) (σ : lj_S) : lj_R lm_P 26 [.int x0] σ = lj_D lm_P lm_M26 0 [.int x0] [] σ := lj_R_eq (nL := 1) (M := lm_M26) _ _ _ _ rfl rfl
set_option maxRecDepth 100000 in
set_option maxHeartbeats 4000000 in
theorem km_26_0 (x0 : Int32) (σ : lj_S) : lj_D lm_P lm_M26 0 [.int x0] [] σ = (if x0 = 35 then lj_D lm_P lm_M26 384 [.int x0] [] σ else (if x0 = 36 then lj_D lm_P lm_M26 386 [.int x0] [] σ else (if x0 = 37 then lj_D lm_P lm_M26 384 [.int x0] [] σ else (if x0 = 38 then lj_D lm_P lm_M26 384 [.int x0] [] σ else (if x0 = 39 then lj_D lm_P lm_M26 386 [.int x0] [] σ else (if x0 = 40 then lj_D lm_P lm_M26 384 [.int x0] [] σ else (if x0 = 41 then lj_D lm_P lm_M26 384 [.int x0] [] σ else (if x0 = 42 then lj_D lm_P lm_M26 384 [.int x0] [] σ else (if x0 = 43 then lj_D lm_P lm_M26 384 [.int x0] [] σ else (if x0 = 44 then lj_D lm_P lm_M26 384 [.int x0] [] σ else (if x0 = 45 then lj_D lm_P lm_M26 384 [.int x0] [] σ else (if x0 = 46 then lj_D lm_P lm_M26 384 [.int x0] [] σ else (if x0 = 47 then lj_D lm_P lm_M26 386 [.int x0] [] σ else (if x0 = 48 then lj_D lm_P lm_M26 386 [.int x0] [] σ else (if x0 = 49 then lj_D lm_P lm_M26 386 [.int x0] [] σ else (if x0 = 50 then lj_D lm_P lm_M26 386 [.int x0] [] σ else (if x0 = 51 then lj_D lm_P lm_M26 386 [.int x0] [] σ else (if x0 = 52 then lj_D lm_P lm_M26 386 [.int x0] [] σ else (if x0 = 53 then lj_D lm_P lm_M26 386 [.int x0] [] σ else (if x0 = 54 then lj_D lm_P lm_M26 386 [.int x0] [] σ else (if x0 = 55 then lj_D lm_P lm_M26 386 [.int x0] [] σ else (if x0 = 56 then lj_D lm_P lm_M26 386 [.int x0] [] σ else (if x0 = 57 then lj_D lm_P lm_M26 386 [.int x0] [] σ else (if x0 = 58 then lj_D lm_P lm_M26 384 [.int x0] [] σ else (if x0 = 59 then lj_D lm_P lm_M26 384 [.int x0] [] σ else (if x0 = 60 then lj_D lm_P lm_M26 384 [.int x0] [] σ else (if x0 = 61 then lj_D lm_P lm_M26 384 [.int x0] [] σ else (if x0 = 62 then lj_D lm_P lm_M26 384 [.int x0] [] σ else (if x0 = 63 then lj_D lm_P lm_M26 386 [.int x0] [] σ else (if x0 = 64 then lj_D lm_P lm_M26 386 [.int x0] [] σ else (if x0 = 65 then lj_D lm_P lm_M26 386 [.int x0] [] σ else (if x0 = 66 then lj_D lm_P lm_M26 386 [.int x0] [] σ else (if x0 = 67 then lj_D lm_P lm_M26 386 [.int x0] [] σ else (if x0 = 68 then lj_D lm_P lm_M26 386 [.int x0] [] σ else (if x0 = 69 then lj_D lm_P lm_M26 386 [.int x0] [] σ else (if x0 = 70 then lj_D lm_P lm_M26 386 [.int x0] [] σ else (if x0 = 71 then lj_D lm_P lm_M26 386 [.int x0] [] σ else (if x0 = 72 then lj_D lm_P lm_M26 386 [.int x0] [] σ else (if x0 = 73 then lj_D lm_P lm_M26 386 [.int x0] [] σ else (if x0 = 74 then lj_D lm_P lm_M26 386 [.int x0] [] σ else (if x0 = 75 then lj_D lm_P lm_M26 386 [.int x0] [] σ else (if x0 = 76 then lj_D lm_P lm_M26 386 [.int x0] [] σ else (if x0 = 77 then lj_D lm_P lm_M26 386 [.int x0] [] σ else (if x0 = 78 then lj_D lm_P lm_M26 386 [.int x0] [] σ else (if x0 = 79 then lj_D lm_P lm_M26 386 [.int x0] [] σ else (if x0 = 80 then lj_D lm_P lm_M26 386 [.int x0] [] σ else (if x0 = 81 then lj_D lm_P lm_M26 386 [.int x0] [] σ else (if x0 = 82 then lj_D lm_P lm_M26 386 [.int x0] [] σ else (if x0 = 83 then lj_D lm_P lm_M26 386 [.int x0] [] σ else (if x0 = 84 then lj_D lm_P lm_M26 386 [.int x0] [] σ else (if x0 = 85 then lj_D lm_P lm_M26 386 [.int x0] [] σ else (if x0 = 86 then lj_D lm_P lm_M26 386 [.int x0] [] σ else (if x0 = 87 then lj_D lm_P lm_M26 386 [.int x0] [] σ else (if x0 = 88 then lj_D lm_P lm_M26 386 [.int x0] [] σ else (if x0 = 89 then lj_D lm_P lm_M26 386 [.int x0] [] σ else (if x0 = 90 then lj_D lm_P lm_M26 386 [.int x0] [] σ else (if x0 = 91 then lj_D lm_P lm_M26 384 [.int x0] [] σ else (if x0 = 92 then lj_D lm_P lm_M26 386 [.int x0] [] σ else (if x0 = 93 then lj_D lm_P lm_M26 384 [.int x0] [] σ else (if x0 = 94 then lj_D lm_P lm_M26 386 [.int x0] [] σ else (if x0 = 95 then lj_D lm_P lm_M26 386 [.int x0] [] σ else (if x0 = 96 then lj_D lm_P lm_M26 386 [.int x0] [] σ else (if x0 = 97 then lj_D lm_P lm_M26 386 [.int x0] [] σ else (if x0 = 98 then lj_D lm_P lm_M26 386 [.int x0] [] σ else (if x0 = 99 then lj_D lm_P lm_M26 386 [.int x0] [] σ else (if x0 = 100 then lj_D lm_P lm_M26 386 [.int x0] [] σ else (if x0 = 101 then lj_D lm_P lm_M26 386 [.int x0] [] σ else (if x0 = 102 then lj_D lm_P lm_M26 386 [.int x0] [] σ else (if x0 = 103 then lj_D lm_P lm_M26 386 [.int x0] [] σ else (if x0 = 104 then lj_D lm_P lm_M26 386 [.int x0] [] σ else (if x0 = 105 then lj_D lm_P lm_M26 386 [.int x0] [] σ else (if x0 = 106 then lj_D lm_P lm_M26 386 [.int x0] [] σ else (if x0 = 107 then lj_D lm_P lm_M26 386 [.int x0] [] σ else (if x0 = 108 then lj_D lm_P lm_M26 386 [.int x0] [] σ else (if x0 = 109 then lj_D lm_P lm_M26 386 [.int x0] [] σ else (if x0 = 110 then lj_D lm_P lm_M26 386 [.int x0] [] σ else (if x0 = 111 then lj_D lm_P lm_M26 386 [.int x0] [] σ else (if x0 = 112 then lj_D lm_P lm_M26 386 [.int x0] [] σ else (if x0 = 113 then lj_D lm_P lm_M26 386 [.int x0] [] σ else (if x0 = 114 then lj_D lm_P lm_M26 386 [.int x0] [] σ else (if x0 = 115 then lj_D lm_P lm_M26 386 [.int x0] [] σ else (if x0 = 116 then lj_D lm_P lm_M26 386 [.int x0] [] σ else (if x0 = 117 then lj_D lm_P lm_M26 386 [.int x0] [] σ else (if x0 = 118 then lj_D lm_P lm_M26 386 [.int x0] [] σ else (if x0 = 119 then lj_D lm_P lm_M26 386 [.int x0] [] σ else (if x0 = 120 then lj_D lm_P lm_M26 386 [.int x0] [] σ else (if x0 = 121 then lj_D lm_P lm_M26 386 [.int x0] [] σ else (if x0 = 122 then lj_D lm_P lm_M26 386 [.int x0] [] σ else (if x0 = 123 then lj_D lm_P lm_M26 384 [.int x0] [] σ else (if x0 = 124 then lj_D lm_P lm_M26 384 [.int x0] [] σ else (if x0 = 125 then lj_D lm_P lm_M26 384 [.int x0] [] σ else (if x0 = 126 then lj_D lm_P lm_M26 384 [.int x0] [] σ else lj_D lm_P lm_M26 386 [.int x0] [] σ)))))))))))))))))))))))))))))))))))))))))))))))))))))))))))))))))))))))))))))))))))))))))))) := by rw [lj_D_eq]; rfl
set_option maxRecDepth 100000 in
set_option maxHeartbeats 4000000 in
theorem km_26_384 (x0 : Int32) (σ : lj_S) : lj_D lm_P lm_M26 384 [.int x0] [] σ = some (.inl (some (.int 1)), σ) := by rw [lj_D_eq]; rfl
set_option maxRecDepth 100000 in
set_option maxHeartbeats 4000000 in
theorem km_26_386 (x0 : Int32) (σ : lj_S) : lj_D lm_P lm_M26 386 [.int x0] [] σ = some (.inl (some (.int 0)), σ) := by rw [lj_D_eq]; rfl
-- TableTongueModel.readText()Z
set_option maxRecDepth 100000 in
theorem rm_27  (σ : lj_S) : lj_R lm_P 27 [.ref 0] σ = lj_D lm_P lm_M27 0 [.ref 0, .retAddr 0, .retAddr 0] [] σ := lj_R_eq (nL := 3) (M := lm_M27) _ _ _ _ rfl rfl
set_option maxRecDepth 100000 in
set_option maxHeartbeats 4000000 in
theorem km_27_0  (σ : lj_S) : lj_D lm_P lm_M27 0 [.ref 0, .retAddr 0, .retAddr 0] [] σ = (if lj_in 0 52 then (if lj_in 0 52 then (if lj_in 0 51 then (if lj_in 0 51 then (if lj_in 0 51 then (if lj_in 0 51 then (if lj_in 0 51 then (if lj_in 0 51 then lj_bi (lj_R lm_P 28 [.ref 0, .int 0, .int 0, .int 0, .int 0] (lj_put (lj_put (lj_put (lj_put (lj_put (lj_put (lj_put (lj_put (lj_put (lj_put (lj_put (lj_put (lj_put (lj_put (lj_put (lj_put (lj_put (lj_put σ 0 25 0) 0 46 0) 0 47 0) 0 50 0) 0 53 0) 31 ((0 : Int32).toNatClampNeg) 0) 32 ((0 : Int32).toNatClampNeg) 0) 0 56 0) 0 60 0) 0 41 0) 0 40 0) 0 34 1) 14 ((0 : Int32).toNatClampNeg) 0) 15 ((0 : Int32).toNatClampNeg) 0) 13 ((0 : Int32).toNatClampNeg) 0) 16 ((0 : Int32).toNatClampNeg) (vp_nar .boolean 1)) 17 ((0 : Int32).toNatClampNeg) 0) 12 ((0 : Int32).toNatClampNeg) 0)) (fun y2 σ1 => lj_bv (lj_R lm_P 29 [.ref 0, .int 42, .int 0, .int 0, .int 0] σ1) (fun σ3 => lj_bv (lj_R lm_P 29 [.ref 0, .int 0, .int 0, .int 0, .int 0] σ3) (fun σ4 => lj_D lm_P lm_M27 134 [.ref 0, .int y2, .int 1] [] σ4) lj_up) lj_up) lj_up else none) else none) else none) else none) else none) else none) else none) else none) := by rw [lj_D_eq]; rfl
set_option maxRecDepth 100000 in
set_option maxHeartbeats 4000000 in
theorem km_27_134 (x1 : Int32) (x2 : Int32) (σ : lj_S) : lj_D lm_P lm_M27 134 [.ref 0, .int x1, .int x2] [] σ = (if (σ.1 0 46) ≤ 0 then lj_D lm_P lm_M27 214 [.ref 0, .int x1, .int x2] [] σ else (if x2 = 0 then lj_D lm_P lm_M27 214 [.ref 0, .int x1, .int x2] [] σ else (if lj_in ((σ.1 0 46) - 1) 4000 then (if lj_in ((σ.1 0 46) - 1) 4000 then (if lj_in ((σ.1 0 46) - 1) 4000 then (if lj_in ((σ.1 0 46) - 1) 4000 then lj_bi (lj_R lm_P 30 [.ref 0, .int ((σ.1 25 (((σ.1 0 46) - 1).toNatClampNeg))), .int ((σ.1 26 (((σ.1 0 46) - 1).toNatClampNeg))), .int ((σ.1 27 (((σ.1 0 46) - 1).toNatClampNeg))), .int ((σ.1 28 (((σ.1 0 46) - 1).toNatClampNeg)))] (lj_put σ 0 46 ((σ.1 0 46) - 1))) (fun y2 σ1 => (if y2 = 0 then lj_D lm_P lm_M27 209 [.ref 0, .int x1, .int x2] [] σ1 else (if (σ1.1 0 4) = 0 then lj_D lm_P lm_M27 210 [.ref 0, .int x1, .int x2] [.int 1] σ1 else lj_D lm_P lm_M27 209 [.ref 0, .int x1, .int x2] [] σ1))) lj_up else none) else none) else none) else none))) := by rw [lj_D_eq]; rfl
set_option maxRecDepth 100000 in
set_option maxHeartbeats 4000000 in
theorem km_27_209 (x1 : Int32) (x2 : Int32) (σ : lj_S) : lj_D lm_P lm_M27 209 [.ref 0, .int x1, .int x2] [] σ = lj_D lm_P lm_M27 210 [.ref 0, .int x1, .int x2] [.int 0] σ := by rw [lj_D_eq]; rfl
set_option maxRecDepth 100000 in
set_option maxHeartbeats 4000000 in
theorem km_27_210 (x1 : Int32) (x2 : Int32) (x50 : Int32) (σ : lj_S) : lj_D lm_P lm_M27 210 [.ref 0, .int x1, .int x2] [.int x50] σ = lj_D lm_P lm_M27 134 [.ref 0, .int x1, .int x50] [] σ := by rw [lj_D_eq]; rfl
set_option maxRecDepth 100000 in
set_option maxHeartbeats 4000000 in
theorem km_27_214 (x1 : Int32) (x2 : Int32) (σ : lj_S) : lj_D lm_P lm_M27 214 [.ref 0, .int x1, .int x2] [] σ = lj_bi (lj_R lm_P 28 [.ref 0, .int 14, .int 0, .int 0, .int 0] σ) (fun y2 σ1 => lj_bi (lj_R lm_P 28 [.ref 0, .int 38, .int 0, .int 0, .int 0] σ1) (fun y4 σ3 => some (.inl (some (.int (vp_nar .boolean x2))), σ3)) lj_up) lj_up := by rw [lj_D_eq]; rfl
-- TableTongueModel.emit(IIII)I
set_option maxRecDepth 100000 in
theorem rm_28 (x1 : Int32) (x2 : Int32) (x3 : Int32) (x4 : Int32) (σ : lj_S) : lj_R lm_P 28 [.ref 0, .int x1, .int x2, .int x3, .int x4] σ = lj_D lm_P lm_M28 0 [.ref 0, .int x1, .int x2, .int x3, .int x4] [] σ := lj_R_eq (nL := 5) (M := lm_M28) _ _ _ _ rfl rfl
set_option maxRecDepth 100000 in
set_option maxHeartbeats 4000000 in
theorem km_28_0 (x1 : Int32) (x2 : Int32) (x3 : Int32) (x4 : Int32) (σ : lj_S) : lj_D lm_P lm_M28 0 [.ref 0, .int x1, .int x2, .int x3, .int x4] [] σ = (if lj_in (σ.1 0 41) 14000 then (if lj_in (σ.1 0 41) 14000 then (if lj_in (σ.1 0 41) 14000 then (if lj_in (σ.1 0 41) 14000 then some (.inl (some (.int (((σ.1 0 41) + 1) - 1))), (lj_put (lj_put (lj_put (lj_put (lj_put σ 20 ((σ.1 0 41).toNatClampNeg) x1) 21 ((σ.1 0 41).toNatClampNeg) x2) 22 ((σ.1 0 41).toNatClampNeg) x3) 23 ((σ.1 0 41).toNatClampNeg) x4) 0 41 ((σ.1 0 41) + 1))) else none) else none) else none) else none) := by rw [lj_D_eq]; rfl
-- TableTongueModel.later(IIII)V
set_option maxRecDepth 100000 in
theorem rm_29 (x1 : Int32) (x2 : Int32) (x3 : Int32) (x4 : Int32) (σ : lj_S) : lj_R lm_P 29 [.ref 0, .int x1, .int x2, .int x3, .int x4] σ = lj_D lm_P lm_M29 0 [.ref 0, .int x1, .int x2, .int x3, .int x4] [] σ := lj_R_eq (nL := 5) (M := lm_M29) _ _ _ _ rfl rfl
set_option maxRecDepth 100000 in
set_option maxHeartbeats 4000000 in
theorem km_29_0 (x1 : Int32) (x2 : Int32) (x3 : Int32) (x4 : Int32) (σ : lj_S) : lj_D lm_P lm_M29 0 [.ref 0, .int x1, .int x2, .int x3, .int x4] [] σ = (if lj_in (σ.1 0 46) 4000 then (if lj_in (σ.1 0 46) 4000 then (if lj_in (σ.1 0 46) 4000 then (if lj_in (σ.1 0 46) 4000 then some (.inl none, (lj_put (lj_put (lj_put (lj_put (lj_put σ 25 ((σ.1 0 46).toNatClampNeg) x1) 26 ((σ.1 0 46).toNatClampNeg) x2) 27 ((σ.1 0 46).toNatClampNeg) x3) 28 ((σ.1 0 46).toNatClampNeg) x4) 0 46 ((σ.1 0 46) + 1))) else none) else none) else none) else none) := by rw [lj_D_eq]; rfl
-- TableTongueModel.goOn(IIII)Z
set_option maxRecDepth 100000 in
theorem rm_30 (x1 : Int32) (x2 : Int32) (x3 : Int32) (x4 : Int32) (σ : lj_S) : lj_R lm_P 30 [.ref 0, .int x1, .int x2, .int x3, .int x4] σ = lj_D lm_P lm_M30 0 [.ref 0, .int x1, .int x2, .int x3, .int x4] [] σ := lj_R_eq (nL := 5) (M := lm_M30) _ _ _ _ rfl rfl
set_option maxRecDepth 100000 in
set_option maxHeartbeats 4000000 in
theorem km_30_0 (x1 : Int32) (x2 : Int32) (x3 : Int32) (x4 : Int32) (σ : lj_S) : lj_D lm_P lm_M30 0 [.ref 0, .int x1, .int x2, .int x3, .int x4] [] σ = (if x1 = 0 then lj_bi (lj_R lm_P 31 [.ref 0] σ) (fun y2 σ1 => some (.inl (some (.int (vp_nar .boolean y2))), σ1)) lj_up else (if x1 = 1 then some (.inl (some (.int 1)), (lj_put σ 0 47 ((σ.1 0 47) - 1))) else (if x1 = 2 then lj_bv (lj_R lm_P 58 [.ref 0, .int x2] σ) (fun σ3 => some (.inl (some (.int 1)), σ3)) lj_up else (if x1 = 3 then lj_bi (lj_R lm_P 59 [.ref 0, .int x2] σ) (fun y5 σ4 => some (.inl (some (.int (vp_nar .boolean y5))), σ4)) lj_up else (if x1 = 4 then lj_bi (lj_R lm_P 63 [.ref 0, .int x2] σ) (fun y7 σ6 => some (.inl (some (.int (vp_nar .boolean y7))), σ6)) lj_up else (if x1 = 5 then lj_bi (lj_R lm_P 66 [.ref 0, .int x2, .int x3] σ) (fun y9 σ8 => some (.inl (some (.int (vp_nar .boolean y9))), σ8)) lj_up else (if x1 = 6 then lj_bi (lj_R lm_P 67 [.ref 0, .int x2, .int x3, .int x4] σ) (fun y11 σ10 => some (.inl (some (.int (vp_nar .boolean y11))), σ10)) lj_up else (if x1 = 7 then lj_bi (lj_R lm_P 69 [.ref 0] σ) (fun y13 σ12 => some (.inl (some (.int (vp_nar .boolean y13))), σ12)) lj_up else (if x1 = 8 then lj_bi (lj_R lm_P 70 [.ref 0] σ) (fun y15 σ14 => some (.inl (some (.int (vp_nar .boolean y15))), σ14)) lj_up else (if x1 = 9 then lj_bi (lj_R lm_P 73 [.ref 0] σ) (fun y17 σ16 => some (.inl (some (.int (vp_nar .boolean y17))), σ16)) lj_up else (if x1 = 10 then lj_bi (lj_R lm_P 75 [.ref 0, .int x2] σ) (fun y19 σ18 => some (.inl (some (.int (vp_nar .boolean y19))), σ18)) lj_up else (if x1 = 11 then lj_bi (lj_R lm_P 76 [.ref 0] σ) (fun y21 σ20 => some (.inl (some (.int (vp_nar .boolean y21))), σ20)) lj_up else (if x1 = 12 then lj_bi (lj_R lm_P 74 [.ref 0, .int 41] σ) (fun y23 σ22 => some (.inl (some (.int (vp_nar .boolean y23))), σ22)) lj_up else (if x1 = 13 then lj_bi (lj_R lm_P 77 [.ref 0, .int x2] σ) (fun y25 σ24 => some (.inl (some (.int (vp_nar .boolean y25))), σ24)) lj_up else (if x1 = 14 then lj_bi (lj_R lm_P 78 [.ref 0, .int x2] σ) (fun y27 σ26 => some (.inl (some (.int (vp_nar .boolean y27))), σ26)) lj_up else (if x1 = 15 then lj_bi (lj_R lm_P 79 [.ref 0, .int x2, .int x3] σ) (fun y29 σ28 => some (.inl (some (.int (vp_nar .boolean y29))), σ28)) lj_up else (if x1 = 16 then lj_bv (lj_R lm_P 29 [.ref 0, .int 17, .int x2, .int x3, .int x4] σ) (fun σ30 => lj_bv (lj_R lm_P 29 [.ref 0, .int 3, .int 0, .int 0, .int 0] σ30) (fun σ31 => lj_bi (lj_R lm_P 74 [.ref 0, .int 93] σ31) (fun y33 σ32 => (if y33 = 0 then lj_D lm_P lm_M30 244 [.ref 0, .int x1, .int x2, .int x3, .int x4] [] σ32 else lj_bi (lj_R lm_P 74 [.ref 0, .int 61] σ32) (fun y35 σ34 => (if y35 = 0 then lj_D lm_P lm_M30 244 [.ref 0, .int x1, .int x2, .int x3, .int x4] [] σ34 else lj_D lm_P lm_M30 245 [.ref 0, .int x1, .int x2, .int x3, .int x4] [.int 1] σ34)) lj_up)) lj_up) lj_up) lj_up else (if x1 = 17 then lj_bi (lj_R lm_P 80 [.ref 0, .int x2, .int x3, .int x4] σ) (fun y37 σ36 => some (.inl (some (.int (vp_nar .boolean y37))), σ36)) lj_up else (if x1 = 18 then lj_bi (lj_R lm_P 82 [.ref 0, .int x2, .int x3] σ) (fun y39 σ38 => some (.inl (some (.int (vp_nar .boolean y39))), σ38)) lj_up else (if x1 = 19 then lj_bi (lj_R lm_P 83 [.ref 0, .int x2] σ) (fun y41 σ40 => some (.inl (some (.int (vp_nar .boolean y41))), σ40)) lj_up else (if x1 = 20 then lj_bi (lj_R lm_P 85 [.ref 0, .int x2, .int x3] σ) (fun y43 σ42 => some (.inl (some (.int (vp_nar .boolean y43))), σ42)) lj_up else lj_bi (lj_R lm_P 86 [.ref 0, .int x1, .int x2, .int x3, .int x4] σ) (fun y45 σ44 => some (.inl (some (.int (vp_nar .boolean y45))), σ44)) lj_up))))))))))))))))))))) := by rw [lj_D_eq]; rfl
set_option maxRecDepth 100000 in
set_option maxHeartbeats 4000000 in
theorem km_30_244 (x1 : Int32) (x2 : Int32) (x3 : Int32) (x4 : Int32) (σ : lj_S) : lj_D lm_P lm_M30 244 [.ref 0, .int x1, .int x2, .int x3, .int x4] [] σ = lj_D lm_P lm_M30 245 [.ref 0, .int x1, .int x2, .int x3, .int x4] [.int 0] σ := by rw [lj_D_eq]; rfl
set_option maxRecDepth 100000 in
set_option maxHeartbeats 4000000 in
theorem km_30_245 (x1 : Int32) (x2 : Int32) (x3 : Int32) (x4 : Int32) (x50 : Int32) (σ : lj_S) : lj_D lm_P lm_M30 245 [.ref 0, .int x1, .int x2, .int x3, .int x4] [.int x50] σ = some (.inl (some (.int (vp_nar .boolean x50))), σ) := by rw [lj_D_eq]; rfl
-- TableTongueModel.readBlock()Z
set_option maxRecDepth 100000 in
theorem rm_31  (σ : lj_S) : lj_R lm_P 31 [.ref 0] σ = lj_D lm_P lm_M31 0 [.ref 0, .retAddr 0, .retAddr 0] [] σ := lj_R_eq (nL := 3) (M := lm_M31) _ _ _ _ rfl rfl
set_option maxRecDepth 100000 in
set_option maxHeartbeats 4000000 in
theorem km_31_0  (σ : lj_S) : lj_D lm_P lm_M31 0 [.ref 0, .retAddr 0, .retAddr 0] [] σ = lj_bi (lj_R lm_P 32 [.ref 0, .int 17] σ) (fun y2 σ1 => (if y2 = 0 then lj_bi (lj_R lm_P 40 [.ref 0] σ1) (fun y4 σ3 => (if y4 = 0 then some (.inl (some (.int 1)), σ3) else lj_bv (lj_R lm_P 29 [.ref 0, .int 0, .int 0, .int 0, .int 0] σ3) (fun σ5 => lj_bi (lj_R lm_P 41 [.ref 0] σ5) (fun y7 σ6 => (if y7 = 0 then some (.inl (some (.int 0)), σ6) else lj_bv (lj_R lm_P 29 [.ref 0, .int 1, .int 0, .int 0, .int 0] σ6) (fun σ8 => lj_bi (lj_R lm_P 42 [.ref 0] σ8) (fun y10 σ9 => some (.inl (some (.int (vp_nar .boolean y10))), σ9)) lj_up) lj_up)) lj_up) lj_up)) lj_up else lj_bi (lj_R lm_P 33 [.ref 0] σ1) (fun y12 σ11 => lj_bi (lj_R lm_P 28 [.ref 0, .int 0, .int 0, .int 0, .int 0] σ11) (fun y14 σ13 => lj_bi (lj_R lm_P 28 [.ref 0, .int 14, .int 0, .int 0, .int 0] σ13) (fun y16 σ15 => lj_bi (lj_R lm_P 36 [.ref 0] σ15) (fun y18 σ17 => (if y18 = 0 then some (.inl (some (.int 0)), σ17) else lj_bv (lj_R lm_P 29 [.ref 0, .int 37, .int y12, .int 0, .int 0] σ17) (fun σ19 => lj_bi (lj_R lm_P 38 [.ref 0] σ19) (fun y21 σ20 => (if y21 = 0 then lj_D lm_P lm_M31 75 [.ref 0, .int y12, .int y16] [] σ20 else lj_bv (lj_R lm_P 29 [.ref 0, .int 14, .int 0, .int 0, .int 0] σ20) (fun σ22 => lj_bv (lj_R lm_P 29 [.ref 0, .int 3, .int 0, .int 0, .int 0] σ22) (fun σ23 => lj_D lm_P lm_M31 75 [.ref 0, .int y12, .int y16] [] σ23) lj_up) lj_up)) lj_up) lj_up)) lj_up) lj_up) lj_up) lj_up)) lj_up := by rw [lj_D_eq]; rfl
set_option maxRecDepth 100000 in
set_option maxHeartbeats 4000000 in
theorem km_31_75 (x1 : Int32) (x2 : Int32) (σ : lj_S) : lj_D lm_P lm_M31 75 [.ref 0, .int x1, .int x2] [] σ = some (.inl (some (.int 1)), σ) := by rw [lj_D_eq]; rfl
-- TableTongueModel.isWord(I)Z
set_option maxRecDepth 100000 in
theorem rm_32 (x1 : Int32) (σ : lj_S) : lj_R lm_P 32 [.ref 0, .int x1] σ = lj_D lm_P lm_M32 0 [.ref 0, .int x1] [] σ := lj_R_eq (nL := 2) (M := lm_M32) _ _ _ _ rfl rfl
set_option maxRecDepth 100000 in
set_option maxHeartbeats 4000000 in
theorem km_32_0 (x1 : Int32) (σ : lj_S) : lj_D lm_P lm_M32 0 [.ref 0, .int x1] [] σ = (if lj_in (σ.1 0 25) 1502 then (if ((σ.1 9 ((σ.1 0 25).toNatClampNeg))) = 4 then (if lj_in (σ.1 0 25) 1502 then (if (lg_cmp ((σ.2 11 ((σ.1 0 25).toNatClampNeg))) ((x1 : Int32).toInt64)) = 0 then lj_D lm_P lm_M32 33 [.ref 0, .int x1] [.int 1] σ else lj_D lm_P lm_M32 32 [.ref 0, .int x1] [] σ) else none) else lj_D lm_P lm_M32 32 [.ref 0, .int x1] [] σ) else none) := by rw [lj_D_eq]; rfl
set_option maxRecDepth 100000 in
set_option maxHeartbeats 4000000 in
theorem km_32_32 (x1 : Int32) (σ : lj_S) : lj_D lm_P lm_M32 32 [.ref 0, .int x1] [] σ = lj_D lm_P lm_M32 33 [.ref 0, .int x1] [.int 0] σ := by rw [lj_D_eq]; rfl
set_option maxRecDepth 100000 in
set_option maxHeartbeats 4000000 in
theorem km_32_33 (x1 : Int32) (x50 : Int32) (σ : lj_S) : lj_D lm_P lm_M32 33 [.ref 0, .int x1] [.int x50] σ = some (.inl (some (.int (vp_nar .boolean x50))), σ) := by rw [lj_D_eq]; rfl
-- TableTongueModel.lineHere()I
set_option maxRecDepth 100000 in
theorem rm_33  (σ : lj_S) : lj_R lm_P 33 [.ref 0] σ = lj_D lm_P lm_M33 0 [.ref 0] [] σ := lj_R_eq (nL := 1) (M := lm_M33) _ _ _ _ rfl rfl
set_option maxRecDepth 100000 in
set_option maxHeartbeats 4000000 in
theorem km_33_0  (σ : lj_S) : lj_D lm_P lm_M33 0 [.ref 0] [] σ = lj_bi (lj_R lm_P 34 [.ref 0] σ) (fun y2 σ1 => lj_bi (lj_R lm_P 35 [.ref 0, .int y2] σ1) (fun y4 σ3 => some (.inl (some (.int y4)), σ3)) lj_up) lj_up := by rw [lj_D_eq]; rfl
-- TableTongueModel.here()I
set_option maxRecDepth 100000 in
theorem rm_34  (σ : lj_S) : lj_R lm_P 34 [.ref 0] σ = lj_D lm_P lm_M34 0 [.ref 0] [] σ := lj_R_eq (nL := 1) (M := lm_M34) _ _ _ _ rfl rfl
set_option maxRecDepth 100000 in
set_option maxHeartbeats 4000000 in
theorem km_34_0  (σ : lj_S) : lj_D lm_P lm_M34 0 [.ref 0] [] σ = (if lj_in (σ.1 0 25) 1502 then some (.inl (some (.int ((σ.1 10 ((σ.1 0 25).toNatClampNeg))))), σ) else none) := by rw [lj_D_eq]; rfl
-- TableTongueModel.lineOf(I)I
set_option maxRecDepth 100000 in
theorem rm_35 (x1 : Int32) (σ : lj_S) : lj_R lm_P 35 [.ref 0, .int x1] σ = lj_D lm_P lm_M35 0 [.ref 0, .int x1, .retAddr 0, .retAddr 0] [] σ := lj_R_eq (nL := 4) (M := lm_M35) _ _ _ _ rfl rfl
set_option maxRecDepth 100000 in
set_option maxHeartbeats 4000000 in
theorem km_35_0 (x1 : Int32) (σ : lj_S) : lj_D lm_P lm_M35 0 [.ref 0, .int x1, .retAddr 0, .retAddr 0] [] σ = lj_D lm_P lm_M35 4 [.ref 0, .int x1, .int 1, .int 0] [] σ := by rw [lj_D_eq]; rfl
set_option maxRecDepth 100000 in
set_option maxHeartbeats 4000000 in
theorem km_35_4 (x1 : Int32) (x2 : Int32) (x3 : Int32) (σ : lj_S) : lj_D lm_P lm_M35 4 [.ref 0, .int x1, .int x2, .int x3] [] σ = (if x1 ≤ x3 then lj_D lm_P lm_M35 42 [.ref 0, .int x1, .int x2, .int x3] [] σ else (if (σ.1 0 2) ≤ x3 then lj_D lm_P lm_M35 42 [.ref 0, .int x1, .int x2, .int x3] [] σ else (if lj_in x3 6000 then (if (σ.1 1 x3.toNatClampNeg) = 10 then lj_D lm_P lm_M35 35 [.ref 0, .int x1, .int x2, .int x3] [.int (x2 + 1)] σ else lj_D lm_P lm_M35 35 [.ref 0, .int x1, .int x2, .int x3] [.int x2] σ) else none))) := by rw [lj_D_eq]; rfl
set_option maxRecDepth 100000 in
set_option maxHeartbeats 4000000 in
theorem km_35_35 (x1 : Int32) (x2 : Int32) (x3 : Int32) (x50 : Int32) (σ : lj_S) : lj_D lm_P lm_M35 35 [.ref 0, .int x1, .int x2, .int x3] [.int x50] σ = lj_D lm_P lm_M35 4 [.ref 0, .int x1, .int x50, .int (x3 + 1)] [] σ := by rw [lj_D_eq]; rfl
set_option maxRecDepth 100000 in
set_option maxHeartbeats 4000000 in
theorem km_35_42 (x1 : Int32) (x2 : Int32) (x3 : Int32) (σ : lj_S) : lj_D lm_P lm_M35 42 [.ref 0, .int x1, .int x2, .int x3] [] σ = some (.inl (some (.int x2)), σ) := by rw [lj_D_eq]; rfl
-- TableTongueModel.take()Z
set_option maxRecDepth 100000 in
theorem rm_36  (σ : lj_S) : lj_R lm_P 36 [.ref 0] σ = lj_D lm_P lm_M36 0 [.ref 0] [] σ := lj_R_eq (nL := 1) (M := lm_M36) _ _ _ _ rfl rfl
set_option maxRecDepth 100000 in
set_option maxHeartbeats 4000000 in
theorem km_36_0  (σ : lj_S) : lj_D lm_P lm_M36 0 [.ref 0] [] σ = (if lj_in (σ.1 0 25) 1502 then (if ((σ.1 9 ((σ.1 0 25).toNatClampNeg))) = 7 then lj_bi (lj_R lm_P 34 [.ref 0] σ) (fun y6 σ5 => lj_bi (lj_R lm_P 37 [.ref 0, .int 1, .int y6] σ5) (fun y8 σ7 => some (.inl (some (.int (vp_nar .boolean y8))), σ7)) lj_up) lj_up else (if (σ.1 0 25) = 1500 then lj_bi (lj_R lm_P 34 [.ref 0] σ) (fun y2 σ1 => lj_bi (lj_R lm_P 37 [.ref 0, .int 3, .int y2] σ1) (fun y4 σ3 => some (.inl (some (.int (vp_nar .boolean y4))), σ3)) lj_up) lj_up else some (.inl (some (.int 1)), (lj_put σ 0 25 ((σ.1 0 25) + 1))))) else none) := by rw [lj_D_eq]; rfl
-- TableTongueModel.fail(II)Z
set_option maxRecDepth 100000 in
theorem rm_37 (x1 : Int32) (x2 : Int32) (σ : lj_S) : lj_R lm_P 37 [.ref 0, .int x1, .int x2] σ = lj_D lm_P lm_M37 0 [.ref 0, .int x1, .int x2] [] σ := lj_R_eq (nL := 3) (M := lm_M37) _ _ _ _ rfl rfl
set_option maxRecDepth 100000 in
set_option maxHeartbeats 4000000 in
theorem km_37_0 (x1 : Int32) (x2 : Int32) (σ : lj_S) : lj_D lm_P lm_M37 0 [.ref 0, .int x1, .int x2] [] σ = (if (σ.1 0 4) = 0 then lj_D lm_P lm_M37 17 [.ref 0, .int x1, .int x2] [] (lj_put (lj_put σ 0 4 x1) 0 5 x2) else lj_D lm_P lm_M37 17 [.ref 0, .int x1, .int x2] [] σ) := by rw [lj_D_eq]; rfl
set_option maxRecDepth 100000 in
set_option maxHeartbeats 4000000 in
theorem km_37_17 (x1 : Int32) (x2 : Int32) (σ : lj_S) : lj_D lm_P lm_M37 17 [.ref 0, .int x1, .int x2] [] σ = some (.inl (some (.int 0)), σ) := by rw [lj_D_eq]; rfl
-- TableTongueModel.beginsE()Z
set_option maxRecDepth 100000 in
theorem rm_38  (σ : lj_S) : lj_R lm_P 38 [.ref 0] σ = lj_D lm_P lm_M38 0 [.ref 0, .retAddr 0] [] σ := lj_R_eq (nL := 2) (M := lm_M38) _ _ _ _ rfl rfl
set_option maxRecDepth 100000 in
set_option maxHeartbeats 4000000 in
theorem km_38_0  (σ : lj_S) : lj_D lm_P lm_M38 0 [.ref 0, .retAddr 0] [] σ = (if lj_in (σ.1 0 25) 1502 then (if ((σ.1 9 ((σ.1 0 25).toNatClampNeg))) = 1 then lj_D lm_P lm_M38 39 [.ref 0, .retAddr 0] [] σ else (if lj_in (σ.1 0 25) 1502 then (if ((σ.1 9 ((σ.1 0 25).toNatClampNeg))) = 2 then lj_D lm_P lm_M38 39 [.ref 0, .retAddr 0] [] σ else (if lj_in (σ.1 0 25) 1502 then (if ((σ.1 9 ((σ.1 0 25).toNatClampNeg))) = 3 then lj_D lm_P lm_M38 39 [.ref 0, .retAddr 0] [] σ else (if lj_in (σ.1 0 25) 1502 then (if ((σ.1 9 ((σ.1 0 25).toNatClampNeg))) = 4 then (if lj_in (σ.1 0 25) 1502 then (if ((((σ.2 11 ((σ.1 0 25).toNatClampNeg))) : Int64).toInt32) = 13 then lj_D lm_P lm_M38 95 [.ref 0, .int ((((σ.2 11 ((σ.1 0 25).toNatClampNeg))) : Int64).toInt32)] [] σ else (if ((((σ.2 11 ((σ.1 0 25).toNatClampNeg))) : Int64).toInt32) = 7 then lj_D lm_P lm_M38 95 [.ref 0, .int ((((σ.2 11 ((σ.1 0 25).toNatClampNeg))) : Int64).toInt32)] [] σ else (if ((((σ.2 11 ((σ.1 0 25).toNatClampNeg))) : Int64).toInt32) = 19 then lj_D lm_P lm_M38 95 [.ref 0, .int ((((σ.2 11 ((σ.1 0 25).toNatClampNeg))) : Int64).toInt32)] [] σ else (if ((((σ.2 11 ((σ.1 0 25).toNatClampNeg))) : Int64).toInt32) = 14 then lj_D lm_P lm_M38 95 [.ref 0, .int ((((σ.2 11 ((σ.1 0 25).toNatClampNeg))) : Int64).toInt32)] [] σ else (if ((((σ.2 11 ((σ.1 0 25).toNatClampNeg))) : Int64).toInt32) = 9 then lj_D lm_P lm_M38 95 [.ref 0, .int ((((σ.2 11 ((σ.1 0 25).toNatClampNeg))) : Int64).toInt32)] [] σ else lj_D lm_P lm_M38 100 [.ref 0, .int ((((σ.2 11 ((σ.1 0 25).toNatClampNeg))) : Int64).toInt32)] [.int 0] σ))))) else none) else lj_bi (lj_R lm_P 39 [.ref 0, .int 301] σ) (fun y2 σ1 => (if y2 = 0 then lj_bi (lj_R lm_P 39 [.ref 0, .int 123] σ1) (fun y4 σ3 => (if y4 = 0 then lj_bi (lj_R lm_P 39 [.ref 0, .int 40] σ3) (fun y6 σ5 => (if y6 = 0 then lj_bi (lj_R lm_P 39 [.ref 0, .int 35] σ5) (fun y8 σ7 => (if y8 = 0 then lj_bi (lj_R lm_P 39 [.ref 0, .int 45] σ7) (fun y10 σ9 => (if y10 = 0 then lj_bi (lj_R lm_P 39 [.ref 0, .int 126] σ9) (fun y12 σ11 => (if y12 = 0 then lj_D lm_P lm_M38 161 [.ref 0, .retAddr 0] [.int 0] σ11 else lj_D lm_P lm_M38 156 [.ref 0, .retAddr 0] [] σ11)) lj_up else lj_D lm_P lm_M38 156 [.ref 0, .retAddr 0] [] σ9)) lj_up else lj_D lm_P lm_M38 156 [.ref 0, .retAddr 0] [] σ7)) lj_up else lj_D lm_P lm_M38 156 [.ref 0, .retAddr 0] [] σ5)) lj_up else lj_D lm_P lm_M38 156 [.ref 0, .retAddr 0] [] σ3)) lj_up else lj_D lm_P lm_M38 156 [.ref 0, .retAddr 0] [] σ1)) lj_up) else none)) else none)) else none)) else none) := by rw [lj_D_eq]; rfl
set_option maxRecDepth 100000 in
set_option maxHeartbeats 4000000 in
theorem km_38_39  (σ : lj_S) : lj_D lm_P lm_M38 39 [.ref 0, .retAddr 0] [] σ = some (.inl (some (.int 1)), σ) := by rw [lj_D_eq]; rfl
set_option maxRecDepth 100000 in
set_option maxHeartbeats 4000000 in
theorem km_38_95 (x1 : Int32) (σ : lj_S) : lj_D lm_P lm_M38 95 [.ref 0, .int x1] [] σ = lj_D lm_P lm_M38 100 [.ref 0, .int x1] [.int 1] σ := by rw [lj_D_eq]; rfl
set_option maxRecDepth 100000 in
set_option maxHeartbeats 4000000 in
theorem km_38_100 (x1 : Int32) (x50 : Int32) (σ : lj_S) : lj_D lm_P lm_M38 100 [.ref 0, .int x1] [.int x50] σ = some (.inl (some (.int (vp_nar .boolean x50))), σ) := by rw [lj_D_eq]; rfl
set_option maxRecDepth 100000 in
set_option maxHeartbeats 4000000 in
theorem km_38_156  (σ : lj_S) : lj_D lm_P lm_M38 156 [.ref 0, .retAddr 0] [] σ = lj_D lm_P lm_M38 161 [.ref 0, .retAddr 0] [.int 1] σ := by rw [lj_D_eq]; rfl
set_option maxRecDepth 100000 in
set_option maxHeartbeats 4000000 in
theorem km_38_161 (x50 : Int32) (σ : lj_S) : lj_D lm_P lm_M38 161 [.ref 0, .retAddr 0] [.int x50] σ = some (.inl (some (.int (vp_nar .boolean x50))), σ) := by rw [lj_D_eq]; rfl
-- TableTongueModel.isSign(I)Z
set_option maxRecDepth 100000 in
theorem rm_39 (x1 : Int32) (σ : lj_S) : lj_R lm_P 39 [.ref 0, .int x1] σ = lj_D lm_P lm_M39 0 [.ref 0, .int x1] [] σ := lj_R_eq (nL := 2) (M := lm_M39) _ _ _ _ rfl rfl
set_option maxRecDepth 100000 in
set_option maxHeartbeats 4000000 in
theorem km_39_0 (x1 : Int32) (σ : lj_S) : lj_D lm_P lm_M39 0 [.ref 0, .int x1] [] σ = (if lj_in (σ.1 0 25) 1502 then (if ((σ.1 9 ((σ.1 0 25).toNatClampNeg))) = 5 then (if lj_in (σ.1 0 25) 1502 then (if (lg_cmp ((σ.2 11 ((σ.1 0 25).toNatClampNeg))) ((x1 : Int32).toInt64)) = 0 then lj_D lm_P lm_M39 33 [.ref 0, .int x1] [.int 1] σ else lj_D lm_P lm_M39 32 [.ref 0, .int x1] [] σ) else none) else lj_D lm_P lm_M39 32 [.ref 0, .int x1] [] σ) else none) := by rw [lj_D_eq]; rfl
set_option maxRecDepth 100000 in
set_option maxHeartbeats 4000000 in
theorem km_39_32 (x1 : Int32) (σ : lj_S) : lj_D lm_P lm_M39 32 [.ref 0, .int x1] [] σ = lj_D lm_P lm_M39 33 [.ref 0, .int x1] [.int 0] σ := by rw [lj_D_eq]; rfl
set_option maxRecDepth 100000 in
set_option maxHeartbeats 4000000 in
theorem km_39_33 (x1 : Int32) (x50 : Int32) (σ : lj_S) : lj_D lm_P lm_M39 33 [.ref 0, .int x1] [.int x50] σ = some (.inl (some (.int (vp_nar .boolean x50))), σ) := by rw [lj_D_eq]; rfl
-- TableTongueModel.beginsStatement()Z
set_option maxRecDepth 100000 in
theorem rm_40  (σ : lj_S) : lj_R lm_P 40 [.ref 0] σ = lj_D lm_P lm_M40 0 [.ref 0, .retAddr 0] [] σ := lj_R_eq (nL := 2) (M := lm_M40) _ _ _ _ rfl rfl
set_option maxRecDepth 100000 in
set_option maxHeartbeats 4000000 in
theorem km_40_0  (σ : lj_S) : lj_D lm_P lm_M40 0 [.ref 0, .retAddr 0] [] σ = (if lj_in (σ.1 0 25) 1502 then (if ((σ.1 9 ((σ.1 0 25).toNatClampNeg))) = 1 then lj_D lm_P lm_M40 31 [.ref 0, .retAddr 0] [] σ else lj_bi (lj_R lm_P 39 [.ref 0, .int 59] σ) (fun y2 σ1 => (if y2 = 0 then lj_bi (lj_R lm_P 39 [.ref 0, .int 40] σ1) (fun y4 σ3 => (if y4 = 0 then (if lj_in (σ3.1 0 25) 1502 then (if ((σ3.1 9 ((σ3.1 0 25).toNatClampNeg))) = 4 then (if lj_in (σ3.1 0 25) 1502 then lj_D lm_P lm_M40 60 [.ref 0, .retAddr 0] [.int ((((σ3.2 11 ((σ3.1 0 25).toNatClampNeg))) : Int64).toInt32)] σ3 else none) else lj_D lm_P lm_M40 60 [.ref 0, .retAddr 0] [.int 0] σ3) else none) else lj_D lm_P lm_M40 31 [.ref 0, .retAddr 0] [] σ3)) lj_up else lj_D lm_P lm_M40 31 [.ref 0, .retAddr 0] [] σ1)) lj_up) else none) := by rw [lj_D_eq]; rfl
set_option maxRecDepth 100000 in
set_option maxHeartbeats 4000000 in
theorem km_40_31  (σ : lj_S) : lj_D lm_P lm_M40 31 [.ref 0, .retAddr 0] [] σ = some (.inl (some (.int 1)), σ) := by rw [lj_D_eq]; rfl
set_option maxRecDepth 100000 in
set_option maxHeartbeats 4000000 in
theorem km_40_60 (x50 : Int32) (σ : lj_S) : lj_D lm_P lm_M40 60 [.ref 0, .retAddr 0] [.int x50] σ = (if x50 = 3 then lj_D lm_P lm_M40 107 [.ref 0, .int x50] [] σ else (if x50 = 21 then lj_D lm_P lm_M40 107 [.ref 0, .int x50] [] σ else (if x50 = 16 then lj_D lm_P lm_M40 107 [.ref 0, .int x50] [] σ else (if x50 = 10 then lj_D lm_P lm_M40 107 [.ref 0, .int x50] [] σ else (if x50 = 8 then lj_D lm_P lm_M40 107 [.ref 0, .int x50] [] σ else (if x50 = 9 then lj_D lm_P lm_M40 107 [.ref 0, .int x50] [] σ else (if x50 = 12 then lj_D lm_P lm_M40 107 [.ref 0, .int x50] [] σ else (if x50 = 2 then lj_D lm_P lm_M40 107 [.ref 0, .int x50] [] σ else lj_D lm_P lm_M40 112 [.ref 0, .int x50] [.int 0] σ)))))))) := by rw [lj_D_eq]; rfl
set_option maxRecDepth 100000 in
set_option maxHeartbeats 4000000 in
theorem km_40_107 (x1 : Int32) (σ : lj_S) : lj_D lm_P lm_M40 107 [.ref 0, .int x1] [] σ = lj_D lm_P lm_M40 112 [.ref 0, .int x1] [.int 1] σ := by rw [lj_D_eq]; rfl
set_option maxRecDepth 100000 in
set_option maxHeartbeats 4000000 in
theorem km_40_112 (x1 : Int32) (x50 : Int32) (σ : lj_S) : lj_D lm_P lm_M40 112 [.ref 0, .int x1] [.int x50] σ = some (.inl (some (.int (vp_nar .boolean x50))), σ) := by rw [lj_D_eq]; rfl
-- TableTongueModel.enter()Z
set_option maxRecDepth 100000 in
theorem rm_41  (σ : lj_S) : lj_R lm_P 41 [.ref 0] σ = lj_D lm_P lm_M41 0 [.ref 0] [] σ := lj_R_eq (nL := 1) (M := lm_M41) _ _ _ _ rfl rfl
set_option maxRecDepth 100000 in
set_option maxHeartbeats 4000000 in
theorem km_41_0  (σ : lj_S) : lj_D lm_P lm_M41 0 [.ref 0] [] σ = (if (σ.1 0 47) = 20 then lj_bi (lj_R lm_P 34 [.ref 0] σ) (fun y2 σ1 => lj_bi (lj_R lm_P 37 [.ref 0, .int 3, .int y2] σ1) (fun y4 σ3 => some (.inl (some (.int (vp_nar .boolean y4))), σ3)) lj_up) lj_up else some (.inl (some (.int 1)), (lj_put σ 0 47 ((σ.1 0 47) + 1)))) := by rw [lj_D_eq]; rfl
-- TableTongueModel.statement()Z
set_option maxRecDepth 100000 in
theorem rm_42  (σ : lj_S) : lj_R lm_P 42 [.ref 0] σ = lj_D lm_P lm_M42 0 [.ref 0, .retAddr 0, .retAddr 0, .retAddr 0, .retAddr 0, .retAddr 0] [] σ := lj_R_eq (nL := 6) (M := lm_M42) _ _ _ _ rfl rfl
set_option maxRecDepth 100000 in
set_option maxHeartbeats 4000000 in
theorem km_42_0  (σ : lj_S) : lj_D lm_P lm_M42 0 [.ref 0, .retAddr 0, .retAddr 0, .retAddr 0, .retAddr 0, .retAddr 0] [] σ = lj_bi (lj_R lm_P 39 [.ref 0, .int 59] σ) (fun y2 σ1 => (if y2 = 0 then lj_bi (lj_R lm_P 33 [.ref 0] σ1) (fun y4 σ3 => lj_bi (lj_R lm_P 28 [.ref 0, .int 0, .int 0, .int 0, .int 0] σ3) (fun y6 σ5 => (if lj_in (σ5.1 0 25) 1502 then (if ((σ5.1 9 ((σ5.1 0 25).toNatClampNeg))) = 4 then (if lj_in (σ5.1 0 25) 1502 then lj_bi (lj_R lm_P 34 [.ref 0] σ5) (fun y8 σ7 => lj_bi (lj_R lm_P 36 [.ref 0] σ7) (fun y10 σ9 => (if y10 = 0 then some (.inl (some (.int 0)), σ9) else (if ((((σ5.2 11 ((σ5.1 0 25).toNatClampNeg))) : Int64).toInt32) = 3 then lj_bv (lj_R lm_P 29 [.ref 0, .int 30, .int 0, .int 0, .int 0] σ9) (fun σ11 => lj_bv (lj_R lm_P 43 [.ref 0] σ11) (fun σ12 => some (.inl (some (.int 1)), σ12)) lj_up) lj_up else (if ((((σ5.2 11 ((σ5.1 0 25).toNatClampNeg))) : Int64).toInt32) = 4 then lj_D lm_P lm_M42 309 [.ref 0, .int y4, .int y6, .int ((((σ5.2 11 ((σ5.1 0 25).toNatClampNeg))) : Int64).toInt32), .int y8, .retAddr 0] [] σ9 else (if ((((σ5.2 11 ((σ5.1 0 25).toNatClampNeg))) : Int64).toInt32) = 5 then lj_D lm_P lm_M42 309 [.ref 0, .int y4, .int y6, .int ((((σ5.2 11 ((σ5.1 0 25).toNatClampNeg))) : Int64).toInt32), .int y8, .retAddr 0] [] σ9 else (if ((((σ5.2 11 ((σ5.1 0 25).toNatClampNeg))) : Int64).toInt32) = 6 then lj_D lm_P lm_M42 309 [.ref 0, .int y4, .int y6, .int ((((σ5.2 11 ((σ5.1 0 25).toNatClampNeg))) : Int64).toInt32), .int y8, .retAddr 0] [] σ9 else (if ((((σ5.2 11 ((σ5.1 0 25).toNatClampNeg))) : Int64).toInt32) = 7 then lj_D lm_P lm_M42 309 [.ref 0, .int y4, .int y6, .int ((((σ5.2 11 ((σ5.1 0 25).toNatClampNeg))) : Int64).toInt32), .int y8, .retAddr 0] [] σ9 else (if ((((σ5.2 11 ((σ5.1 0 25).toNatClampNeg))) : Int64).toInt32) = 8 then lj_bi (lj_R lm_P 46 [.ref 0, .int y4] σ9) (fun y14 σ13 => some (.inl (some (.int (vp_nar .boolean y14))), σ13)) lj_up else (if ((((σ5.2 11 ((σ5.1 0 25).toNatClampNeg))) : Int64).toInt32) = 9 then lj_bi (lj_R lm_P 50 [.ref 0] σ9) (fun y16 σ15 => some (.inl (some (.int (vp_nar .boolean y16))), σ15)) lj_up else (if ((((σ5.2 11 ((σ5.1 0 25).toNatClampNeg))) : Int64).toInt32) = 10 then lj_bv (lj_R lm_P 29 [.ref 0, .int 23, .int (-1), .int 0, .int 0] σ9) (fun σ17 => lj_bv (lj_R lm_P 29 [.ref 0, .int 3, .int 0, .int 0, .int 0] σ17) (fun σ18 => some (.inl (some (.int 1)), σ18)) lj_up) lj_up else (if ((((σ5.2 11 ((σ5.1 0 25).toNatClampNeg))) : Int64).toInt32) = 11 then lj_D lm_P lm_M42 309 [.ref 0, .int y4, .int y6, .int ((((σ5.2 11 ((σ5.1 0 25).toNatClampNeg))) : Int64).toInt32), .int y8, .retAddr 0] [] σ9 else (if ((((σ5.2 11 ((σ5.1 0 25).toNatClampNeg))) : Int64).toInt32) = 12 then lj_bi (lj_R lm_P 54 [.ref 0] σ9) (fun y20 σ19 => some (.inl (some (.int (vp_nar .boolean y20))), σ19)) lj_up else (if ((((σ5.2 11 ((σ5.1 0 25).toNatClampNeg))) : Int64).toInt32) = 13 then lj_D lm_P lm_M42 309 [.ref 0, .int y4, .int y6, .int ((((σ5.2 11 ((σ5.1 0 25).toNatClampNeg))) : Int64).toInt32), .int y8, .retAddr 0] [] σ9 else (if ((((σ5.2 11 ((σ5.1 0 25).toNatClampNeg))) : Int64).toInt32) = 14 then lj_D lm_P lm_M42 309 [.ref 0, .int y4, .int y6, .int ((((σ5.2 11 ((σ5.1 0 25).toNatClampNeg))) : Int64).toInt32), .int y8, .retAddr 0] [] σ9 else (if ((((σ5.2 11 ((σ5.1 0 25).toNatClampNeg))) : Int64).toInt32) = 15 then lj_D lm_P lm_M42 309 [.ref 0, .int y4, .int y6, .int ((((σ5.2 11 ((σ5.1 0 25).toNatClampNeg))) : Int64).toInt32), .int y8, .retAddr 0] [] σ9 else (if ((((σ5.2 11 ((σ5.1 0 25).toNatClampNeg))) : Int64).toInt32) = 16 then lj_bv (lj_R lm_P 44 [.ref 0] σ9) (fun σ21 => lj_bi (lj_R lm_P 45 [.ref 0] σ21) (fun y23 σ22 => (if lj_in y23 51 then lj_bv (lj_R lm_P 29 [.ref 0, .int 28, .int (σ21.1 0 41), .int (σ21.1 0 50), .int (σ22.1 14 y23.toNatClampNeg)] σ22) (fun σ24 => lj_bv (lj_R lm_P 29 [.ref 0, .int 0, .int 0, .int 0, .int 0] σ24) (fun σ25 => some (.inl (some (.int 1)), σ25)) lj_up) lj_up else none)) lj_up) lj_up else (if ((((σ5.2 11 ((σ5.1 0 25).toNatClampNeg))) : Int64).toInt32) = 17 then lj_D lm_P lm_M42 309 [.ref 0, .int y4, .int y6, .int ((((σ5.2 11 ((σ5.1 0 25).toNatClampNeg))) : Int64).toInt32), .int y8, .retAddr 0] [] σ9 else (if ((((σ5.2 11 ((σ5.1 0 25).toNatClampNeg))) : Int64).toInt32) = 18 then lj_D lm_P lm_M42 309 [.ref 0, .int y4, .int y6, .int ((((σ5.2 11 ((σ5.1 0 25).toNatClampNeg))) : Int64).toInt32), .int y8, .retAddr 0] [] σ9 else (if ((((σ5.2 11 ((σ5.1 0 25).toNatClampNeg))) : Int64).toInt32) = 19 then lj_D lm_P lm_M42 309 [.ref 0, .int y4, .int y6, .int ((((σ5.2 11 ((σ5.1 0 25).toNatClampNeg))) : Int64).toInt32), .int y8, .retAddr 0] [] σ9 else (if ((((σ5.2 11 ((σ5.1 0 25).toNatClampNeg))) : Int64).toInt32) = 20 then lj_D lm_P lm_M42 309 [.ref 0, .int y4, .int y6, .int ((((σ5.2 11 ((σ5.1 0 25).toNatClampNeg))) : Int64).toInt32), .int y8, .retAddr 0] [] σ9 else (if ((((σ5.2 11 ((σ5.1 0 25).toNatClampNeg))) : Int64).toInt32) = 21 then lj_bi (lj_R lm_P 28 [.ref 0, .int 0, .int 0, .int 0, .int 0] σ9) (fun y27 σ26 => lj_bv (lj_R lm_P 29 [.ref 0, .int 26, .int y27, .int 0, .int 0] σ26) (fun σ28 => lj_bv (lj_R lm_P 29 [.ref 0, .int 3, .int 0, .int 0, .int 0] σ28) (fun σ29 => some (.inl (some (.int 1)), σ29)) lj_up) lj_up) lj_up else lj_D lm_P lm_M42 309 [.ref 0, .int y4, .int y6, .int ((((σ5.2 11 ((σ5.1 0 25).toNatClampNeg))) : Int64).toInt32), .int y8, .retAddr 0] [] σ9))))))))))))))))))))) lj_up) lj_up else none) else lj_bi (lj_R lm_P 28 [.ref 0, .int 14, .int 0, .int 0, .int 0] σ5) (fun y31 σ30 => lj_bv (lj_R lm_P 29 [.ref 0, .int 21, .int (σ30.1 0 60), .int 0, .int 0] σ30) (fun σ32 => lj_bv (lj_R lm_P 29 [.ref 0, .int 7, .int 0, .int 0, .int 0] σ32) (fun σ33 => some (.inl (some (.int 1)), σ33)) lj_up) lj_up) lj_up) else none)) lj_up) lj_up else lj_bi (lj_R lm_P 36 [.ref 0] σ1) (fun y35 σ34 => some (.inl (some (.int (vp_nar .boolean y35))), σ34)) lj_up)) lj_up := by rw [lj_D_eq]; rfl
set_option maxRecDepth 100000 in
set_option maxHeartbeats 4000000 in
theorem km_42_309 (x1 : Int32) (x2 : Int32) (x3 : Int32) (x4 : Int32) (σ : lj_S) : lj_D lm_P lm_M42 309 [.ref 0, .int x1, .int x2, .int x3, .int x4, .retAddr 0] [] σ = lj_bi (lj_R lm_P 57 [.ref 0, .int x4] σ) (fun y2 σ1 => some (.inl (some (.int (vp_nar .boolean y2))), σ1)) lj_up := by rw [lj_D_eq]; rfl
-- TableTongueModel.block()V
set_option maxRecDepth 100000 in
theorem rm_43  (σ : lj_S) : lj_R lm_P 43 [.ref 0] σ = lj_D lm_P lm_M43 0 [.ref 0] [] σ := lj_R_eq (nL := 1) (M := lm_M43) _ _ _ _ rfl rfl
set_option maxRecDepth 100000 in
set_option maxHeartbeats 4000000 in
theorem km_43_0  (σ : lj_S) : lj_D lm_P lm_M43 0 [.ref 0] [] σ = lj_bv (lj_R lm_P 29 [.ref 0, .int 2, .int (σ.1 0 50), .int 0, .int 0] σ) (fun σ1 => lj_bv (lj_R lm_P 29 [.ref 0, .int 0, .int 0, .int 0, .int 0] σ1) (fun σ2 => some (.inl none, σ2)) lj_up) lj_up := by rw [lj_D_eq]; rfl
-- TableTongueModel.openLoop()V
set_option maxRecDepth 100000 in
theorem rm_44  (σ : lj_S) : lj_R lm_P 44 [.ref 0] σ = lj_D lm_P lm_M44 0 [.ref 0] [] σ := lj_R_eq (nL := 1) (M := lm_M44) _ _ _ _ rfl rfl
set_option maxRecDepth 100000 in
set_option maxHeartbeats 4000000 in
theorem km_44_0  (σ : lj_S) : lj_D lm_P lm_M44 0 [.ref 0] [] σ = (if lj_in (σ.1 0 56) 64 then (if lj_in (σ.1 0 56) 64 then some (.inl none, (lj_put (lj_put (lj_put σ 33 ((σ.1 0 56).toNatClampNeg) (-1)) 34 ((σ.1 0 56).toNatClampNeg) (σ.1 0 53)) 0 56 ((σ.1 0 56) + 1))) else none) else none) := by rw [lj_D_eq]; rfl
-- TableTongueModel.proto()I
set_option maxRecDepth 100000 in
theorem rm_45  (σ : lj_S) : lj_R lm_P 45 [.ref 0] σ = lj_D lm_P lm_M45 0 [.ref 0] [] σ := lj_R_eq (nL := 1) (M := lm_M45) _ _ _ _ rfl rfl
set_option maxRecDepth 100000 in
set_option maxHeartbeats 4000000 in
theorem km_45_0  (σ : lj_S) : lj_D lm_P lm_M45 0 [.ref 0] [] σ = (if lj_in (σ.1 0 53) 52 then some (.inl (some (.int ((σ.1 32 ((σ.1 0 53).toNatClampNeg))))), σ) else none) := by rw [lj_D_eq]; rfl
-- TableTongueModel.readFor(I)Z
set_option maxRecDepth 100000 in
theorem rm_46 (x1 : Int32) (σ : lj_S) : lj_R lm_P 46 [.ref 0, .int x1] σ = lj_D lm_P lm_M46 0 [.ref 0, .int x1, .retAddr 0, .retAddr 0, .retAddr 0, .retAddr 0, .retAddr 0] [] σ := lj_R_eq (nL := 7) (M := lm_M46) _ _ _ _ rfl rfl
set_option maxRecDepth 100000 in
set_option maxHeartbeats 4000000 in
theorem km_46_0 (x1 : Int32) (σ : lj_S) : lj_D lm_P lm_M46 0 [.ref 0, .int x1, .retAddr 0, .retAddr 0, .retAddr 0, .retAddr 0, .retAddr 0] [] σ = (if lj_in (σ.1 0 25) 1502 then (if ((σ.1 9 ((σ.1 0 25).toNatClampNeg))) = 1 then lj_bi (lj_R lm_P 34 [.ref 0] σ) (fun y2 σ1 => lj_bi (lj_R lm_P 48 [.ref 0, .int y2] σ1) (fun y4 σ3 => (if y4 < 0 then lj_D lm_P lm_M46 43 [.ref 0, .int x1, .int (σ.1 0 25), .int y4, .retAddr 0, .retAddr 0, .retAddr 0] [] σ3 else lj_bi (lj_R lm_P 36 [.ref 0] σ3) (fun y6 σ5 => (if y6 = 0 then lj_D lm_P lm_M46 43 [.ref 0, .int x1, .int (σ.1 0 25), .int y4, .retAddr 0, .retAddr 0, .retAddr 0] [] σ5 else lj_bi (lj_R lm_P 39 [.ref 0, .int 61] σ5) (fun y8 σ7 => (if y8 = 0 then lj_D lm_P lm_M46 85 [.ref 0, .int x1, .int (σ.1 0 25), .int y4, .int 1, .retAddr 0, .retAddr 0] [] σ7 else lj_bi (lj_R lm_P 36 [.ref 0] σ7) (fun y10 σ9 => (if y10 = 0 then some (.inl (some (.int 0)), σ9) else lj_bv (lj_R lm_P 29 [.ref 0, .int 31, .int x1, .int (σ.1 0 25), .int y4] σ9) (fun σ11 => lj_bv (lj_R lm_P 29 [.ref 0, .int 3, .int 0, .int 0, .int 0] σ11) (fun σ12 => some (.inl (some (.int 1)), σ12)) lj_up) lj_up)) lj_up)) lj_up)) lj_up)) lj_up) lj_up else lj_bi (lj_R lm_P 47 [.ref 0] σ) (fun y14 σ13 => some (.inl (some (.int (vp_nar .boolean y14))), σ13)) lj_up) else none) := by rw [lj_D_eq]; rfl
set_option maxRecDepth 100000 in
set_option maxHeartbeats 4000000 in
theorem km_46_43 (x1 : Int32) (x2 : Int32) (x3 : Int32) (σ : lj_S) : lj_D lm_P lm_M46 43 [.ref 0, .int x1, .int x2, .int x3, .retAddr 0, .retAddr 0, .retAddr 0] [] σ = some (.inl (some (.int 0)), σ) := by rw [lj_D_eq]; rfl
set_option maxRecDepth 100000 in
set_option maxHeartbeats 4000000 in
theorem km_46_85 (x1 : Int32) (x2 : Int32) (x3 : Int32) (x4 : Int32) (σ : lj_S) : lj_D lm_P lm_M46 85 [.ref 0, .int x1, .int x2, .int x3, .int x4, .retAddr 0, .retAddr 0] [] σ = lj_bi (lj_R lm_P 39 [.ref 0, .int 44] σ) (fun y2 σ1 => (if y2 = 0 then lj_bi (lj_R lm_P 33 [.ref 0] σ1) (fun y4 σ3 => lj_bi (lj_R lm_P 49 [.ref 0, .int 11] σ3) (fun y6 σ5 => (if y6 = 0 then some (.inl (some (.int 0)), σ5) else lj_bi (lj_R lm_P 38 [.ref 0] σ5) (fun y8 σ7 => (if y8 = 0 then lj_bi (lj_R lm_P 47 [.ref 0] σ7) (fun y15 σ14 => some (.inl (some (.int (vp_nar .boolean y15))), σ14)) lj_up else lj_bi (lj_R lm_P 28 [.ref 0, .int 14, .int 0, .int 0, .int 0] σ7) (fun y10 σ9 => lj_bv (lj_R lm_P 29 [.ref 0, .int 35, .int y4, .int x2, .int ((x4 * 100) + x3)] σ9) (fun σ11 => lj_bv (lj_R lm_P 29 [.ref 0, .int 14, .int 0, .int 0, .int 0] σ11) (fun σ12 => lj_bv (lj_R lm_P 29 [.ref 0, .int 3, .int 0, .int 0, .int 0] σ12) (fun σ13 => some (.inl (some (.int 1)), σ13)) lj_up) lj_up) lj_up) lj_up)) lj_up)) lj_up) lj_up else lj_bi (lj_R lm_P 36 [.ref 0] σ1) (fun y17 σ16 => (if y17 = 0 then some (.inl (some (.int 0)), σ16) else (if lj_in (σ16.1 0 25) 1502 then (if ((σ16.1 9 ((σ16.1 0 25).toNatClampNeg))) = 1 then lj_bi (lj_R lm_P 34 [.ref 0] σ16) (fun y19 σ18 => lj_bi (lj_R lm_P 48 [.ref 0, .int y19] σ18) (fun y21 σ20 => (if y21 < 0 then lj_D lm_P lm_M46 139 [.ref 0, .int x1, .int x2, .int x3, .int x4, .retAddr 0, .retAddr 0] [] σ20 else lj_bi (lj_R lm_P 36 [.ref 0] σ20) (fun y23 σ22 => (if y23 = 0 then lj_D lm_P lm_M46 139 [.ref 0, .int x1, .int x2, .int x3, .int x4, .retAddr 0, .retAddr 0] [] σ22 else lj_D lm_P lm_M46 85 [.ref 0, .int x1, .int x2, .int x3, .int (x4 + 1), .retAddr 0, .retAddr 0] [] σ22)) lj_up)) lj_up) lj_up else lj_bi (lj_R lm_P 47 [.ref 0] σ16) (fun y25 σ24 => some (.inl (some (.int (vp_nar .boolean y25))), σ24)) lj_up) else none))) lj_up)) lj_up := by rw [lj_D_eq]; rfl
set_option maxRecDepth 100000 in
set_option maxHeartbeats 4000000 in
theorem km_46_139 (x1 : Int32) (x2 : Int32) (x3 : Int32) (x4 : Int32) (σ : lj_S) : lj_D lm_P lm_M46 139 [.ref 0, .int x1, .int x2, .int x3, .int x4, .retAddr 0, .retAddr 0] [] σ = some (.inl (some (.int 0)), σ) := by rw [lj_D_eq]; rfl
-- TableTongueModel.wrong()Z
set_option maxRecDepth 100000 in
theorem rm_47  (σ : lj_S) : lj_R lm_P 47 [.ref 0] σ = lj_D lm_P lm_M47 0 [.ref 0] [] σ := lj_R_eq (nL := 1) (M := lm_M47) _ _ _ _ rfl rfl
set_option maxRecDepth 100000 in
set_option maxHeartbeats 4000000 in
theorem km_47_0  (σ : lj_S) : lj_D lm_P lm_M47 0 [.ref 0] [] σ = (if lj_in (σ.1 0 25) 1502 then (if ((σ.1 9 ((σ.1 0 25).toNatClampNeg))) = 7 then lj_D lm_P lm_M47 20 [.ref 0] [.int 1, .ref 0] σ else lj_D lm_P lm_M47 20 [.ref 0] [.int 2, .ref 0] σ) else none) := by rw [lj_D_eq]; rfl
set_option maxRecDepth 100000 in
set_option maxHeartbeats 4000000 in
theorem km_47_20 (x50 : Int32) (σ : lj_S) : lj_D lm_P lm_M47 20 [.ref 0] [.int x50, .ref 0] σ = lj_bi (lj_R lm_P 34 [.ref 0] σ) (fun y2 σ1 => lj_bi (lj_R lm_P 37 [.ref 0, .int x50, .int y2] σ1) (fun y4 σ3 => some (.inl (some (.int (vp_nar .boolean y4))), σ3)) lj_up) lj_up := by rw [lj_D_eq]; rfl
-- TableTongueModel.countLocal(I)I
set_option maxRecDepth 100000 in
theorem rm_48 (x1 : Int32) (σ : lj_S) : lj_R lm_P 48 [.ref 0, .int x1] σ = lj_D lm_P lm_M48 0 [.ref 0, .int x1, .retAddr 0] [] σ := lj_R_eq (nL := 3) (M := lm_M48) _ _ _ _ rfl rfl
set_option maxRecDepth 100000 in
set_option maxHeartbeats 4000000 in
theorem km_48_0 (x1 : Int32) (σ : lj_S) : lj_D lm_P lm_M48 0 [.ref 0, .int x1, .retAddr 0] [] σ = lj_bi (lj_R lm_P 45 [.ref 0] σ) (fun y2 σ1 => (if lj_in y2 51 then (if (σ1.1 14 y2.toNatClampNeg) = 50 then lj_bi (lj_R lm_P 37 [.ref 0, .int 3, .int x1] σ1) (fun y4 σ3 => some (.inl (some (.int (-1))), σ3)) lj_up else (if lj_in y2 51 then (if lj_in y2 51 then (if lj_in y2 51 then some (.inl (some (.int ((((lj_put σ1 14 y2.toNatClampNeg ((σ1.1 14 y2.toNatClampNeg) + 1)).1 14 y2.toNatClampNeg)) - 1))), (lj_put σ1 14 y2.toNatClampNeg ((σ1.1 14 y2.toNatClampNeg) + 1))) else none) else none) else none)) else none)) lj_up := by rw [lj_D_eq]; rfl
-- TableTongueModel.needWord(I)Z
set_option maxRecDepth 100000 in
theorem rm_49 (x1 : Int32) (σ : lj_S) : lj_R lm_P 49 [.ref 0, .int x1] σ = lj_D lm_P lm_M49 0 [.ref 0, .int x1] [] σ := lj_R_eq (nL := 2) (M := lm_M49) _ _ _ _ rfl rfl
set_option maxRecDepth 100000 in
set_option maxHeartbeats 4000000 in
theorem km_49_0 (x1 : Int32) (σ : lj_S) : lj_D lm_P lm_M49 0 [.ref 0, .int x1] [] σ = lj_bi (lj_R lm_P 32 [.ref 0, .int x1] σ) (fun y2 σ1 => (if y2 = 0 then lj_bi (lj_R lm_P 47 [.ref 0] σ1) (fun y4 σ3 => lj_D lm_P lm_M49 19 [.ref 0, .int x1] [.int y4] σ3) lj_up else lj_bi (lj_R lm_P 36 [.ref 0] σ1) (fun y6 σ5 => lj_D lm_P lm_M49 19 [.ref 0, .int x1] [.int y6] σ5) lj_up)) lj_up := by rw [lj_D_eq]; rfl
set_option maxRecDepth 100000 in
set_option maxHeartbeats 4000000 in
theorem km_49_19 (x1 : Int32) (x50 : Int32) (σ : lj_S) : lj_D lm_P lm_M49 19 [.ref 0, .int x1] [.int x50] σ = some (.inl (some (.int (vp_nar .boolean x50))), σ) := by rw [lj_D_eq]; rfl
