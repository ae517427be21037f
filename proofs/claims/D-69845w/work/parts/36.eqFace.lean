-- TableTongue.wipe()I
set_option maxRecDepth 100000 in
theorem rc_0  (σ : lj_S) : lj_R lc_P 0 [.ref 0] σ = lj_D lc_P lc_M0 0 [.ref 0, .retAddr 0] [] σ := lj_R_eq (nL := 2) (M := lc_M0) _ _ _ _ rfl rfl
set_option maxRecDepth 100000 in
set_option maxHeartbeats 4000000 in
theorem kc_0_0  (σ : lj_S) : lj_D lc_P lc_M0 0 [.ref 0, .retAddr 0] [] σ = lj_bv (lj_R lc_P 1 [.ref 0] (lj_put σ 4 1 0)) (fun σ1 => some (.inl (some (.int (σ.1 4 1))), σ1)) lj_up := by rw [lj_D_eq]; rfl
-- TableTongue.change()V
set_option maxRecDepth 100000 in
theorem rc_1  (σ : lj_S) : lj_R lc_P 1 [.ref 0] σ = lj_D lc_P lc_M1 0 [.ref 0] [] σ := lj_R_eq (nL := 1) (M := lc_M1) _ _ _ _ rfl rfl
set_option maxRecDepth 100000 in
set_option maxHeartbeats 4000000 in
theorem kc_1_0  (σ : lj_S) : lj_D lc_P lc_M1 0 [.ref 0] [] σ = lj_bv (lj_R lc_P 53 [.ref 5] (lj_put σ 0 9 0)) (fun σ1 => some (.inl none, σ1)) lj_up := by rw [lj_D_eq]; rfl
-- TableTongue.compile()I
set_option maxRecDepth 100000 in
theorem rc_2  (σ : lj_S) : lj_R lc_P 2 [.ref 0] σ = lj_D lc_P lc_M2 0 [.ref 0, .retAddr 0] [] σ := lj_R_eq (nL := 2) (M := lc_M2) _ _ _ _ rfl rfl
set_option maxRecDepth 100000 in
set_option maxHeartbeats 4000000 in
theorem kc_2_0  (σ : lj_S) : lj_D lc_P lc_M2 0 [.ref 0, .retAddr 0] [] σ = lj_bv (lj_R lc_P 1 [.ref 0] σ) (fun σ1 => lj_bv (lj_R lc_P 21 [.ref 3] (lj_put (lj_put σ1 0 10 (-1)) 0 11 (-1))) (fun σ2 => lj_bv (lj_R lc_P 39 [.ref 4] σ2) (fun σ3 => lj_bi (lj_R lc_P 28 [.ref 3, .ref 1004] σ3) (fun y5 σ4 => lj_bv (lj_R lc_P 58 [.ref 6] (lj_put σ4 0 8 y5)) (fun σ6 => lj_bv (lj_R lc_P 123 [.ref 8] σ6) (fun σ7 => lj_bv (lj_R lc_P 31 [.ref 3] σ7) (fun σ8 => lj_bv (lj_R lc_P 126 [.ref 8] (lj_put σ8 0 9 1)) (fun σ9 => some (.inl (some (.int (σ9.1 5 8))), σ9)) (fun e10 σ11 => some (.inr e10, σ11))) (fun e12 σ13 => some (.inr e12, σ13))) (fun e14 σ15 => some (.inr e14, σ15))) (fun e16 σ17 => (bif lc_ca 7 e16 then lj_D lc_P lc_M2 51 [.ref 0, .retAddr 0] [.ref e16] σ17 else none))) (fun e18 σ19 => some (.inr e18, σ19))) (fun e20 σ21 => some (.inr e20, σ21))) (fun e22 σ23 => some (.inr e22, σ23))) (fun e24 σ25 => some (.inr e24, σ25)) := by rw [lj_D_eq]; rfl
set_option maxRecDepth 100000 in
set_option maxHeartbeats 4000000 in
theorem kc_2_51  (σ : lj_S) : lj_D lc_P lc_M2 51 [.ref 0, .retAddr 0] [.ref 1] σ = lj_bv (lj_R lc_P 53 [.ref 5] σ) (fun σ1 => lj_bi (lj_R lc_P 52 [.ref 4, .int (σ1.1 1 7)] (lj_put σ1 0 10 (σ1.1 1 7))) (fun y3 σ2 => some (.inl (some (.int (-(σ2.1 1 6)))), (lj_put σ2 0 11 y3))) (fun e4 σ5 => some (.inr e4, σ5))) (fun e6 σ7 => some (.inr e6, σ7)) := by rw [lj_D_eq]; rfl
-- TableTongue.isIn(JJJ)Z
set_option maxRecDepth 100000 in
theorem rc_3 (x0 : Int64) (x1 : Int64) (x2 : Int64) (σ : lj_S) : lj_R lc_P 3 [.long x0, .long x1, .long x2] σ = lj_D lc_P lc_M3 0 [.long x0, .retAddr 0, .long x1, .retAddr 0, .long x2, .retAddr 0] [] σ := lj_R_eq (nL := 6) (M := lc_M3) _ _ _ _ rfl rfl
set_option maxRecDepth 100000 in
set_option maxHeartbeats 4000000 in
theorem kc_3_0 (x0 : Int64) (x2 : Int64) (x4 : Int64) (σ : lj_S) : lj_D lc_P lc_M3 0 [.long x0, .retAddr 0, .long x2, .retAddr 0, .long x4, .retAddr 0] [] σ = (if (lg_cmp x0 x2) < 0 then lj_D lc_P lc_M3 17 [.long x0, .retAddr 0, .long x2, .retAddr 0, .long x4, .retAddr 0] [] σ else (if 0 < (lg_cmp x0 x4) then lj_D lc_P lc_M3 17 [.long x0, .retAddr 0, .long x2, .retAddr 0, .long x4, .retAddr 0] [] σ else lj_D lc_P lc_M3 18 [.long x0, .retAddr 0, .long x2, .retAddr 0, .long x4, .retAddr 0] [.int 1] σ)) := by rw [lj_D_eq]; rfl
set_option maxRecDepth 100000 in
set_option maxHeartbeats 4000000 in
theorem kc_3_17 (x0 : Int64) (x2 : Int64) (x4 : Int64) (σ : lj_S) : lj_D lc_P lc_M3 17 [.long x0, .retAddr 0, .long x2, .retAddr 0, .long x4, .retAddr 0] [] σ = lj_D lc_P lc_M3 18 [.long x0, .retAddr 0, .long x2, .retAddr 0, .long x4, .retAddr 0] [.int 0] σ := by rw [lj_D_eq]; rfl
set_option maxRecDepth 100000 in
set_option maxHeartbeats 4000000 in
theorem kc_3_18 (x0 : Int64) (x2 : Int64) (x4 : Int64) (x50 : Int32) (σ : lj_S) : lj_D lc_P lc_M3 18 [.long x0, .retAddr 0, .long x2, .retAddr 0, .long x4, .retAddr 0] [.int x50] σ = some (.inl (some (.int (vp_nar .boolean x50))), σ) := by rw [lj_D_eq]; rfl
-- TableTongue.steps()J
set_option maxRecDepth 100000 in
theorem rc_4  (σ : lj_S) : lj_R lc_P 4 [.ref 0] σ = lj_D lc_P lc_M4 0 [.ref 0] [] σ := lj_R_eq (nL := 1) (M := lc_M4) _ _ _ _ rfl rfl
set_option maxRecDepth 100000 in
set_option maxHeartbeats 4000000 in
theorem kc_4_0  (σ : lj_S) : lj_D lc_P lc_M4 0 [.ref 0] [] σ = (if (σ.1 0 9) = 0 then lj_D lc_P lc_M4 18 [.ref 0] [.long 0] σ else lj_D lc_P lc_M4 18 [.ref 0] [.long (σ.2 8 44)] σ) := by rw [lj_D_eq]; rfl
set_option maxRecDepth 100000 in
set_option maxHeartbeats 4000000 in
theorem kc_4_18 (x50 : Int64) (σ : lj_S) : lj_D lc_P lc_M4 18 [.ref 0] [.long x50] σ = some (.inl (some (.long x50)), σ) := by rw [lj_D_eq]; rfl
-- TableTongue.results()I
set_option maxRecDepth 100000 in
theorem rc_5  (σ : lj_S) : lj_R lc_P 5 [.ref 0] σ = lj_D lc_P lc_M5 0 [.ref 0] [] σ := lj_R_eq (nL := 1) (M := lc_M5) _ _ _ _ rfl rfl
set_option maxRecDepth 100000 in
set_option maxHeartbeats 4000000 in
theorem kc_5_0  (σ : lj_S) : lj_D lc_P lc_M5 0 [.ref 0] [] σ = (if (σ.1 0 9) = 0 then lj_D lc_P lc_M5 38 [.ref 0] [] σ else (if (σ.1 8 46) = 0 then lj_D lc_P lc_M5 38 [.ref 0] [] σ else (if (σ.1 8 47) = 3 then lj_D lc_P lc_M5 38 [.ref 0] [] σ else lj_D lc_P lc_M5 39 [.ref 0] [.int (σ.1 8 41)] σ))) := by rw [lj_D_eq]; rfl
set_option maxRecDepth 100000 in
set_option maxHeartbeats 4000000 in
theorem kc_5_38  (σ : lj_S) : lj_D lc_P lc_M5 38 [.ref 0] [] σ = lj_D lc_P lc_M5 39 [.ref 0] [.int 0] σ := by rw [lj_D_eq]; rfl
set_option maxRecDepth 100000 in
set_option maxHeartbeats 4000000 in
theorem kc_5_39 (x50 : Int32) (σ : lj_S) : lj_D lc_P lc_M5 39 [.ref 0] [.int x50] σ = some (.inl (some (.int x50)), σ) := by rw [lj_D_eq]; rfl
-- TableTongue.outputs()I
set_option maxRecDepth 100000 in
theorem rc_6  (σ : lj_S) : lj_R lc_P 6 [.ref 0] σ = lj_D lc_P lc_M6 0 [.ref 0] [] σ := lj_R_eq (nL := 1) (M := lc_M6) _ _ _ _ rfl rfl
set_option maxRecDepth 100000 in
set_option maxHeartbeats 4000000 in
theorem kc_6_0  (σ : lj_S) : lj_D lc_P lc_M6 0 [.ref 0] [] σ = (if (σ.1 0 9) = 0 then lj_D lc_P lc_M6 18 [.ref 0] [.int 0] σ else lj_D lc_P lc_M6 18 [.ref 0] [.int (σ.1 8 50)] σ) := by rw [lj_D_eq]; rfl
set_option maxRecDepth 100000 in
set_option maxHeartbeats 4000000 in
theorem kc_6_18 (x50 : Int32) (σ : lj_S) : lj_D lc_P lc_M6 18 [.ref 0] [.int x50] σ = some (.inl (some (.int x50)), σ) := by rw [lj_D_eq]; rfl
-- TableTongue.feed(IJ)I
set_option maxRecDepth 100000 in
theorem rc_7 (x1 : Int32) (x2 : Int64) (σ : lj_S) : lj_R lc_P 7 [.ref 0, .int x1, .long x2] σ = lj_D lc_P lc_M7 0 [.ref 0, .int x1, .long x2, .retAddr 0, .retAddr 0] [] σ := lj_R_eq (nL := 5) (M := lc_M7) _ _ _ _ rfl rfl
set_option maxRecDepth 100000 in
set_option maxHeartbeats 4000000 in
theorem kc_7_0 (x1 : Int32) (x2 : Int64) (σ : lj_S) : lj_D lc_P lc_M7 0 [.ref 0, .int x1, .long x2, .retAddr 0, .retAddr 0] [] σ = lj_bi (lj_R lc_P 3 [.long ((x1 : Int32).toInt64), .long 1, .long 8] σ) (fun y2 σ1 => (if y2 = 0 then lj_D lc_P lc_M7 31 [.ref 0, .int x1, .long x2, .retAddr 0, .retAddr 0] [] σ1 else (if 6000 < ((σ1.1 4 1) + x1) then lj_D lc_P lc_M7 31 [.ref 0, .int x1, .long x2, .retAddr 0, .retAddr 0] [] σ1 else lj_D lc_P lc_M7 32 [.ref 0, .int x1, .long x2, .retAddr 0, .retAddr 0] [.int 1] σ1))) lj_up := by rw [lj_D_eq]; rfl
set_option maxRecDepth 100000 in
set_option maxHeartbeats 4000000 in
theorem kc_7_31 (x1 : Int32) (x2 : Int64) (σ : lj_S) : lj_D lc_P lc_M7 31 [.ref 0, .int x1, .long x2, .retAddr 0, .retAddr 0] [] σ = lj_D lc_P lc_M7 32 [.ref 0, .int x1, .long x2, .retAddr 0, .retAddr 0] [.int 0] σ := by rw [lj_D_eq]; rfl
set_option maxRecDepth 100000 in
set_option maxHeartbeats 4000000 in
theorem kc_7_32 (x1 : Int32) (x2 : Int64) (x50 : Int32) (σ : lj_S) : lj_D lc_P lc_M7 32 [.ref 0, .int x1, .long x2, .retAddr 0, .retAddr 0] [.int x50] σ = lj_bv (lj_R lc_P 910 [.int x50] σ) (fun σ1 => lj_D lc_P lc_M7 38 [.ref 0, .int x1, .long x2, .retAddr 0, .int 0] [] σ1) lj_up := by rw [lj_D_eq]; rfl
set_option maxRecDepth 100000 in
set_option maxHeartbeats 4000000 in
theorem kc_7_38 (x1 : Int32) (x2 : Int64) (x4 : Int32) (σ : lj_S) : lj_D lc_P lc_M7 38 [.ref 0, .int x1, .long x2, .retAddr 0, .int x4] [] σ = (if x1 ≤ x4 then lj_bv (lj_R lc_P 1 [.ref 0] σ) (fun σ1 => some (.inl (some (.int (σ1.1 4 1))), σ1)) lj_up else (if lj_in (σ.1 4 1) 6000 then lj_D lc_P lc_M7 38 [.ref 0, .int x1, .long x2, .retAddr 0, .int (x4 + 1)] [] (lj_put (lj_put σ 4 1 ((σ.1 4 1) + 1)) 17 ((σ.1 4 1).toNatClampNeg) (vp_nar .byte (((((((x2 : Int64).toUInt64 >>> (((8 * x4) : Int32).toInt64.toUInt64 &&& Int64.toUInt64 63)).toInt64) : Int64).toInt32) : Int32).toInt8.toInt32))) else none)) := by rw [lj_D_eq]; rfl
-- TableTongue.fault(I)I
set_option maxRecDepth 100000 in
theorem rc_8 (x1 : Int32) (σ : lj_S) : lj_R lc_P 8 [.ref 0, .int x1] σ = lj_D lc_P lc_M8 0 [.ref 0, .int x1] [] σ := lj_R_eq (nL := 2) (M := lc_M8) _ _ _ _ rfl rfl
set_option maxRecDepth 100000 in
set_option maxHeartbeats 4000000 in
theorem kc_8_0 (x1 : Int32) (σ : lj_S) : lj_D lc_P lc_M8 0 [.ref 0, .int x1] [] σ = lj_bi (lj_R lc_P 3 [.long ((x1 : Int32).toInt64), .long 0, .long 1] σ) (fun y2 σ1 => lj_bv (lj_R lc_P 909 [.int y2] σ1) (fun σ3 => (if x1 = 0 then lj_D lc_P lc_M8 25 [.ref 0, .int x1] [.int (σ3.1 0 10)] σ3 else lj_D lc_P lc_M8 25 [.ref 0, .int x1] [.int (σ3.1 0 11)] σ3)) lj_up) lj_up := by rw [lj_D_eq]; rfl
set_option maxRecDepth 100000 in
set_option maxHeartbeats 4000000 in
theorem kc_8_25 (x1 : Int32) (x50 : Int32) (σ : lj_S) : lj_D lc_P lc_M8 25 [.ref 0, .int x1] [.int x50] σ = some (.inl (some (.int x50)), σ) := by rw [lj_D_eq]; rfl
-- TableTongue.function(II)I
set_option maxRecDepth 100000 in
theorem rc_9 (x1 : Int32) (x2 : Int32) (σ : lj_S) : lj_R lc_P 9 [.ref 0, .int x1, .int x2] σ = lj_D lc_P lc_M9 0 [.ref 0, .int x1, .int x2] [] σ := lj_R_eq (nL := 3) (M := lc_M9) _ _ _ _ rfl rfl
set_option maxRecDepth 100000 in
set_option maxHeartbeats 4000000 in
theorem kc_9_0 (x1 : Int32) (x2 : Int32) (σ : lj_S) : lj_D lc_P lc_M9 0 [.ref 0, .int x1, .int x2] [] σ = lj_bi (lj_R lc_P 3 [.long ((x1 : Int32).toInt64), .long 0, .long ((((σ.1 5 8) - 1) : Int32).toInt64)] σ) (fun y2 σ1 => (if y2 = 0 then lj_D lc_P lc_M9 35 [.ref 0, .int x1, .int x2] [] σ1 else lj_bi (lj_R lc_P 3 [.long ((x2 : Int32).toInt64), .long 0, .long 3] σ1) (fun y4 σ3 => (if y4 = 0 then lj_D lc_P lc_M9 35 [.ref 0, .int x1, .int x2] [] σ3 else lj_D lc_P lc_M9 36 [.ref 0, .int x1, .int x2] [.int 1] σ3)) lj_up)) lj_up := by rw [lj_D_eq]; rfl
set_option maxRecDepth 100000 in
set_option maxHeartbeats 4000000 in
theorem kc_9_35 (x1 : Int32) (x2 : Int32) (σ : lj_S) : lj_D lc_P lc_M9 35 [.ref 0, .int x1, .int x2] [] σ = lj_D lc_P lc_M9 36 [.ref 0, .int x1, .int x2] [.int 0] σ := by rw [lj_D_eq]; rfl
set_option maxRecDepth 100000 in
set_option maxHeartbeats 4000000 in
theorem kc_9_36 (x1 : Int32) (x2 : Int32) (x50 : Int32) (σ : lj_S) : lj_D lc_P lc_M9 36 [.ref 0, .int x1, .int x2] [.int x50] σ = lj_bv (lj_R lc_P 909 [.int x50] σ) (fun σ1 => (if x2 = 0 then (if lj_in x1 51 then lj_D lc_P lc_M9 121 [.ref 0, .int x1, .int x2] [.int (σ1.1 31 x1.toNatClampNeg)] σ1 else none) else (if x2 = 1 then (if lj_in x1 51 then lj_D lc_P lc_M9 121 [.ref 0, .int x1, .int x2] [.int (σ1.1 33 x1.toNatClampNeg)] σ1 else none) else (if x2 = 2 then (if lj_in x1 51 then (if (σ1.1 30 x1.toNatClampNeg) = 0 then lj_D lc_P lc_M9 121 [.ref 0, .int x1, .int x2] [.int 0] σ1 else lj_D lc_P lc_M9 121 [.ref 0, .int x1, .int x2] [.int 1] σ1) else none) else (if lj_in x1 51 then lj_D lc_P lc_M9 121 [.ref 0, .int x1, .int x2] [.int (σ1.1 36 x1.toNatClampNeg)] σ1 else none))))) lj_up := by rw [lj_D_eq]; rfl
set_option maxRecDepth 100000 in
set_option maxHeartbeats 4000000 in
theorem kc_9_121 (x1 : Int32) (x2 : Int32) (x50 : Int32) (σ : lj_S) : lj_D lc_P lc_M9 121 [.ref 0, .int x1, .int x2] [.int x50] σ = some (.inl (some (.int x50)), σ) := by rw [lj_D_eq]; rfl
-- TableTongue.load()V
set_option maxRecDepth 100000 in
theorem rc_10  (σ : lj_S) : lj_R lc_P 10 [.ref 0] σ = lj_D lc_P lc_M10 0 [.ref 0] [] σ := lj_R_eq (nL := 1) (M := lc_M10) _ _ _ _ rfl rfl
set_option maxRecDepth 100000 in
set_option maxHeartbeats 4000000 in
theorem kc_10_0  (σ : lj_S) : lj_D lc_P lc_M10 0 [.ref 0] [] σ = lj_bv (lj_R lc_P 911 [.ref 0] σ) (fun σ1 => lj_bv (lj_R lc_P 126 [.ref 8] σ1) (fun σ2 => some (.inl none, σ2)) lj_up) lj_up := by rw [lj_D_eq]; rfl
-- TableTongue.run(I)I
set_option maxRecDepth 100000 in
theorem rc_11 (x1 : Int32) (σ : lj_S) : lj_R lc_P 11 [.ref 0, .int x1] σ = lj_D lc_P lc_M11 0 [.ref 0, .int x1] [] σ := lj_R_eq (nL := 2) (M := lc_M11) _ _ _ _ rfl rfl
set_option maxRecDepth 100000 in
set_option maxHeartbeats 4000000 in
theorem kc_11_0 (x1 : Int32) (σ : lj_S) : lj_D lc_P lc_M11 0 [.ref 0, .int x1] [] σ = lj_bv (lj_R lc_P 911 [.ref 0] σ) (fun σ1 => lj_bi (lj_R lc_P 3 [.long ((x1 : Int32).toInt64), .long 1, .long 3000] σ1) (fun y3 σ2 => lj_bv (lj_R lc_P 910 [.int y3] σ2) (fun σ4 => lj_bi (lj_R lc_P 128 [.ref 8, .int x1] σ4) (fun y6 σ5 => some (.inl (some (.int y6)), σ5)) lj_up) lj_up) lj_up) lj_up := by rw [lj_D_eq]; rfl
-- TableTongue.result(II)J
set_option maxRecDepth 100000 in
theorem rc_12 (x1 : Int32) (x2 : Int32) (σ : lj_S) : lj_R lc_P 12 [.ref 0, .int x1, .int x2] σ = lj_D lc_P lc_M12 0 [.ref 0, .int x1, .int x2] [] σ := lj_R_eq (nL := 3) (M := lc_M12) _ _ _ _ rfl rfl
set_option maxRecDepth 100000 in
set_option maxHeartbeats 4000000 in
theorem kc_12_0 (x1 : Int32) (x2 : Int32) (σ : lj_S) : lj_D lc_P lc_M12 0 [.ref 0, .int x1, .int x2] [] σ = lj_bi (lj_R lc_P 5 [.ref 0] σ) (fun y2 σ1 => lj_bi (lj_R lc_P 3 [.long ((x1 : Int32).toInt64), .long 0, .long (((y2 - 1) : Int32).toInt64)] σ1) (fun y4 σ3 => (if y4 = 0 then lj_D lc_P lc_M12 30 [.ref 0, .int x1, .int x2] [] σ3 else lj_bi (lj_R lc_P 3 [.long ((x2 : Int32).toInt64), .long 0, .long 1] σ3) (fun y6 σ5 => (if y6 = 0 then lj_D lc_P lc_M12 30 [.ref 0, .int x1, .int x2] [] σ5 else lj_D lc_P lc_M12 31 [.ref 0, .int x1, .int x2] [.int 1] σ5)) lj_up)) lj_up) lj_up := by rw [lj_D_eq]; rfl
set_option maxRecDepth 100000 in
set_option maxHeartbeats 4000000 in
theorem kc_12_30 (x1 : Int32) (x2 : Int32) (σ : lj_S) : lj_D lc_P lc_M12 30 [.ref 0, .int x1, .int x2] [] σ = lj_D lc_P lc_M12 31 [.ref 0, .int x1, .int x2] [.int 0] σ := by rw [lj_D_eq]; rfl
set_option maxRecDepth 100000 in
set_option maxHeartbeats 4000000 in
theorem kc_12_31 (x1 : Int32) (x2 : Int32) (x50 : Int32) (σ : lj_S) : lj_D lc_P lc_M12 31 [.ref 0, .int x1, .int x2] [.int x50] σ = lj_bv (lj_R lc_P 909 [.int x50] σ) (fun σ1 => (if x2 = 0 then (if lj_in x1 128 then lj_D lc_P lc_M12 73 [.ref 0, .int x1, .int x2] [.long (((σ1.1 107 x1.toNatClampNeg) : Int32).toInt64)] σ1 else none) else (if lj_in x1 128 then (if lj_in x1 128 then lj_bl (lj_R lc_P 13 [.ref 0, .int (σ1.1 107 x1.toNatClampNeg), .long (σ1.2 108 x1.toNatClampNeg)] σ1) (fun y3 σ2 => lj_D lc_P lc_M12 73 [.ref 0, .int x1, .int x2] [.long y3] σ2) lj_up else none) else none))) lj_up := by rw [lj_D_eq]; rfl
set_option maxRecDepth 100000 in
set_option maxHeartbeats 4000000 in
theorem kc_12_73 (x1 : Int32) (x2 : Int32) (x50 : Int64) (σ : lj_S) : lj_D lc_P lc_M12 73 [.ref 0, .int x1, .int x2] [.long x50] σ = some (.inl (some (.long x50)), σ) := by rw [lj_D_eq]; rfl
-- TableTongue.told(IJ)J
set_option maxRecDepth 100000 in
theorem rc_13 (x1 : Int32) (x2 : Int64) (σ : lj_S) : lj_R lc_P 13 [.ref 0, .int x1, .long x2] σ = lj_D lc_P lc_M13 0 [.ref 0, .int x1, .long x2, .retAddr 0] [] σ := lj_R_eq (nL := 4) (M := lc_M13) _ _ _ _ rfl rfl
set_option maxRecDepth 100000 in
set_option maxHeartbeats 4000000 in
theorem kc_13_0 (x1 : Int32) (x2 : Int64) (σ : lj_S) : lj_D lc_P lc_M13 0 [.ref 0, .int x1, .long x2, .retAddr 0] [] σ = (if x1 = 0 then lj_D lc_P lc_M13 45 [.ref 0, .int x1, .long x2, .retAddr 0] [.long 0] σ else (if x1 = 3 then (if lj_in ((x2 : Int64).toInt32) 2600 then lj_D lc_P lc_M13 45 [.ref 0, .int x1, .long x2, .retAddr 0] [.long ((((σ.1 11 (((x2 : Int64).toInt32).toNatClampNeg))) : Int32).toInt64)] σ else none) else (if x1 = 5 then (if 0 ≤ (lg_cmp x2 0) then lj_D lc_P lc_M13 44 [.ref 0, .int x1, .long x2, .retAddr 0] [] σ else lj_D lc_P lc_M13 45 [.ref 0, .int x1, .long x2, .retAddr 0] [.long (-1)] σ) else lj_D lc_P lc_M13 44 [.ref 0, .int x1, .long x2, .retAddr 0] [] σ))) := by rw [lj_D_eq]; rfl
set_option maxRecDepth 100000 in
set_option maxHeartbeats 4000000 in
theorem kc_13_44 (x1 : Int32) (x2 : Int64) (σ : lj_S) : lj_D lc_P lc_M13 44 [.ref 0, .int x1, .long x2, .retAddr 0] [] σ = lj_D lc_P lc_M13 45 [.ref 0, .int x1, .long x2, .retAddr 0] [.long x2] σ := by rw [lj_D_eq]; rfl
set_option maxRecDepth 100000 in
set_option maxHeartbeats 4000000 in
theorem kc_13_45 (x1 : Int32) (x2 : Int64) (x50 : Int64) (σ : lj_S) : lj_D lc_P lc_M13 45 [.ref 0, .int x1, .long x2, .retAddr 0] [.long x50] σ = some (.inl (some (.long x50)), σ) := by rw [lj_D_eq]; rfl
-- TableTongue.resultByte(II)I
set_option maxRecDepth 100000 in
theorem rc_14 (x1 : Int32) (x2 : Int32) (σ : lj_S) : lj_R lc_P 14 [.ref 0, .int x1, .int x2] σ = lj_D lc_P lc_M14 0 [.ref 0, .int x1, .int x2] [] σ := lj_R_eq (nL := 3) (M := lc_M14) _ _ _ _ rfl rfl
set_option maxRecDepth 100000 in
set_option maxHeartbeats 4000000 in
theorem kc_14_0 (x1 : Int32) (x2 : Int32) (σ : lj_S) : lj_D lc_P lc_M14 0 [.ref 0, .int x1, .int x2] [] σ = lj_bi (lj_R lc_P 5 [.ref 0] σ) (fun y2 σ1 => lj_bi (lj_R lc_P 3 [.long ((x1 : Int32).toInt64), .long 0, .long (((y2 - 1) : Int32).toInt64)] σ1) (fun y4 σ3 => (if y4 = 0 then lj_D lc_P lc_M14 63 [.ref 0, .int x1, .int x2] [] σ3 else (if lj_in x1 128 then (if (σ3.1 107 x1.toNatClampNeg) = 3 then (if lj_in x1 128 then (if lj_in (((σ3.2 108 x1.toNatClampNeg) : Int64).toInt32) 2600 then lj_bi (lj_R lc_P 3 [.long ((x2 : Int32).toInt64), .long 0, .long (((((σ3.1 11 ((((σ3.2 108 x1.toNatClampNeg) : Int64).toInt32).toNatClampNeg))) - 1) : Int32).toInt64)] σ3) (fun y6 σ5 => (if y6 = 0 then lj_D lc_P lc_M14 63 [.ref 0, .int x1, .int x2] [] σ5 else lj_D lc_P lc_M14 64 [.ref 0, .int x1, .int x2] [.int 1] σ5)) lj_up else none) else none) else lj_D lc_P lc_M14 63 [.ref 0, .int x1, .int x2] [] σ3) else none))) lj_up) lj_up := by rw [lj_D_eq]; rfl
set_option maxRecDepth 100000 in
set_option maxHeartbeats 4000000 in
theorem kc_14_63 (x1 : Int32) (x2 : Int32) (σ : lj_S) : lj_D lc_P lc_M14 63 [.ref 0, .int x1, .int x2] [] σ = lj_D lc_P lc_M14 64 [.ref 0, .int x1, .int x2] [.int 0] σ := by rw [lj_D_eq]; rfl
set_option maxRecDepth 100000 in
set_option maxHeartbeats 4000000 in
theorem kc_14_64 (x1 : Int32) (x2 : Int32) (x50 : Int32) (σ : lj_S) : lj_D lc_P lc_M14 64 [.ref 0, .int x1, .int x2] [.int x50] σ = lj_bv (lj_R lc_P 909 [.int x50] σ) (fun σ1 => (if lj_in x1 128 then lj_bi (lj_R lc_P 37 [.ref 3, .int (((σ1.2 108 x1.toNatClampNeg) : Int64).toInt32), .int x2] σ1) (fun y3 σ2 => some (.inl (some (.int y3)), σ2)) lj_up else none)) lj_up := by rw [lj_D_eq]; rfl
-- TableTongue.output(I)I
set_option maxRecDepth 100000 in
theorem rc_15 (x1 : Int32) (σ : lj_S) : lj_R lc_P 15 [.ref 0, .int x1] σ = lj_D lc_P lc_M15 0 [.ref 0, .int x1] [] σ := lj_R_eq (nL := 2) (M := lc_M15) _ _ _ _ rfl rfl
set_option maxRecDepth 100000 in
set_option maxHeartbeats 4000000 in
theorem kc_15_0 (x1 : Int32) (σ : lj_S) : lj_D lc_P lc_M15 0 [.ref 0, .int x1] [] σ = lj_bi (lj_R lc_P 6 [.ref 0] σ) (fun y2 σ1 => lj_bi (lj_R lc_P 222 [.int y2, .int 3000] σ1) (fun y4 σ3 => lj_bi (lj_R lc_P 3 [.long ((x1 : Int32).toInt64), .long 0, .long (((y4 - 1) : Int32).toInt64)] σ3) (fun y6 σ5 => lj_bv (lj_R lc_P 909 [.int y6] σ5) (fun σ7 => (if lj_in x1 3000 then some (.inl (some (.int ((σ7.1 109 x1.toNatClampNeg) &&& 255))), σ7) else none)) lj_up) lj_up) lj_up) lj_up := by rw [lj_D_eq]; rfl
-- TableTongue.count(I)I
set_option maxRecDepth 100000 in
theorem rc_16 (x1 : Int32) (σ : lj_S) : lj_R lc_P 16 [.ref 0, .int x1] σ = lj_D lc_P lc_M16 0 [.ref 0, .int x1, .retAddr 0, .retAddr 0] [] σ := lj_R_eq (nL := 4) (M := lc_M16) _ _ _ _ rfl rfl
set_option maxRecDepth 100000 in
set_option maxHeartbeats 4000000 in
theorem kc_16_0 (x1 : Int32) (σ : lj_S) : lj_D lc_P lc_M16 0 [.ref 0, .int x1, .retAddr 0, .retAddr 0] [] σ = lj_bi (lj_R lc_P 3 [.long ((x1 : Int32).toInt64), .long 0, .long 5] σ) (fun y2 σ1 => lj_bv (lj_R lc_P 909 [.int y2] σ1) (fun σ3 => (if (σ3.1 0 9) = 0 then some (.inl (some (.int 0)), σ3) else lj_D lc_P lc_M16 25 [.ref 0, .int x1, .int 0, .int 1] [] σ3)) lj_up) lj_up := by rw [lj_D_eq]; rfl
set_option maxRecDepth 100000 in
set_option maxHeartbeats 4000000 in
theorem kc_16_25 (x1 : Int32) (x2 : Int32) (x3 : Int32) (σ : lj_S) : lj_D lc_P lc_M16 25 [.ref 0, .int x1, .int x2, .int x3] [] σ = (if (σ.1 7 0) < x3 then (if x1 = 0 then lj_D lc_P lc_M16 147 [.ref 0, .int x1, .int x2, .int x3] [.int (σ.1 7 0)] σ else (if x1 = 1 then lj_D lc_P lc_M16 147 [.ref 0, .int x1, .int x2, .int x3] [.int x2] σ else (if x1 = 2 then lj_D lc_P lc_M16 147 [.ref 0, .int x1, .int x2, .int x3] [.int (σ.1 7 11)] σ else (if x1 = 3 then lj_D lc_P lc_M16 147 [.ref 0, .int x1, .int x2, .int x3] [.int (σ.1 3 13)] σ else (if x1 = 4 then lj_D lc_P lc_M16 147 [.ref 0, .int x1, .int x2, .int x3] [.int (σ.1 8 51)] σ else lj_D lc_P lc_M16 147 [.ref 0, .int x1, .int x2, .int x3] [.int (σ.1 8 53)] σ))))) else (if lj_in x3 2001 then (if (σ.1 57 x3.toNatClampNeg) = 0 then lj_D lc_P lc_M16 54 [.ref 0, .int x1, .int x2, .int x3] [.int 0, .int x2] σ else lj_D lc_P lc_M16 54 [.ref 0, .int x1, .int x2, .int x3] [.int 1, .int x2] σ) else none)) := by rw [lj_D_eq]; rfl
set_option maxRecDepth 100000 in
set_option maxHeartbeats 4000000 in
theorem kc_16_54 (x1 : Int32) (x2 : Int32) (x3 : Int32) (x50 : Int32) (x51 : Int32) (σ : lj_S) : lj_D lc_P lc_M16 54 [.ref 0, .int x1, .int x2, .int x3] [.int x50, .int x51] σ = lj_D lc_P lc_M16 25 [.ref 0, .int x1, .int (x51 + x50), .int (x3 + 1)] [] σ := by rw [lj_D_eq]; rfl
set_option maxRecDepth 100000 in
set_option maxHeartbeats 4000000 in
theorem kc_16_147 (x1 : Int32) (x2 : Int32) (x3 : Int32) (x50 : Int32) (σ : lj_S) : lj_D lc_P lc_M16 147 [.ref 0, .int x1, .int x2, .int x3] [.int x50] σ = some (.inl (some (.int x50)), σ) := by rw [lj_D_eq]; rfl
-- TableTongue.object(II)I
set_option maxRecDepth 100000 in
theorem rc_17 (x1 : Int32) (x2 : Int32) (σ : lj_S) : lj_R lc_P 17 [.ref 0, .int x1, .int x2] σ = lj_D lc_P lc_M17 0 [.ref 0, .int x1, .int x2, .retAddr 0] [] σ := lj_R_eq (nL := 4) (M := lc_M17) _ _ _ _ rfl rfl
set_option maxRecDepth 100000 in
set_option maxHeartbeats 4000000 in
theorem kc_17_0 (x1 : Int32) (x2 : Int32) (σ : lj_S) : lj_D lc_P lc_M17 0 [.ref 0, .int x1, .int x2, .retAddr 0] [] σ = (if (σ.1 0 9) = 0 then lj_D lc_P lc_M17 38 [.ref 0, .int x1, .int x2, .retAddr 0] [] σ else lj_bi (lj_R lc_P 3 [.long ((x1 : Int32).toInt64), .long 1, .long (((σ.1 7 0) : Int32).toInt64)] σ) (fun y2 σ1 => (if y2 = 0 then lj_D lc_P lc_M17 38 [.ref 0, .int x1, .int x2, .retAddr 0] [] σ1 else lj_bi (lj_R lc_P 3 [.long ((x2 : Int32).toInt64), .long 0, .long 1] σ1) (fun y4 σ3 => (if y4 = 0 then lj_D lc_P lc_M17 38 [.ref 0, .int x1, .int x2, .retAddr 0] [] σ3 else lj_D lc_P lc_M17 39 [.ref 0, .int x1, .int x2, .retAddr 0] [.int 1] σ3)) lj_up)) lj_up) := by rw [lj_D_eq]; rfl
set_option maxRecDepth 100000 in
set_option maxHeartbeats 4000000 in
theorem kc_17_38 (x1 : Int32) (x2 : Int32) (σ : lj_S) : lj_D lc_P lc_M17 38 [.ref 0, .int x1, .int x2, .retAddr 0] [] σ = lj_D lc_P lc_M17 39 [.ref 0, .int x1, .int x2, .retAddr 0] [.int 0] σ := by rw [lj_D_eq]; rfl
set_option maxRecDepth 100000 in
set_option maxHeartbeats 4000000 in
theorem kc_17_39 (x1 : Int32) (x2 : Int32) (x50 : Int32) (σ : lj_S) : lj_D lc_P lc_M17 39 [.ref 0, .int x1, .int x2, .retAddr 0] [.int x50] σ = lj_bv (lj_R lc_P 909 [.int x50] σ) (fun σ1 => (if lj_in x1 2001 then (if x2 = 0 then lj_D lc_P lc_M17 60 [.ref 0, .int x1, .int x2, .int (σ1.1 57 x1.toNatClampNeg)] [] σ1 else (if (σ1.1 57 x1.toNatClampNeg) = 0 then lj_D lc_P lc_M17 60 [.ref 0, .int x1, .int x2, .int (σ1.1 57 x1.toNatClampNeg)] [] σ1 else (if (σ1.1 57 x1.toNatClampNeg) = 4 then lj_bl (lj_R lc_P 119 [.ref 7, .int x1] σ1) (fun y3 σ2 => lj_D lc_P lc_M17 129 [.ref 0, .int x1, .int x2, .int (σ1.1 57 x1.toNatClampNeg)] [.int ((y3 : Int64).toInt32)] σ2) lj_up else (if (σ1.1 57 x1.toNatClampNeg) = 5 then (if lj_in x1 2001 then lj_D lc_P lc_M17 129 [.ref 0, .int x1, .int x2, .int (σ1.1 57 x1.toNatClampNeg)] [.int (σ1.1 62 x1.toNatClampNeg)] σ1 else none) else (if lj_in x1 2001 then (if lj_in (σ1.1 64 x1.toNatClampNeg) 26 then lj_D lc_P lc_M17 129 [.ref 0, .int x1, .int x2, .int (σ1.1 57 x1.toNatClampNeg)] [.int ((σ1.1 83 ((σ1.1 64 x1.toNatClampNeg).toNatClampNeg)))] σ1 else none) else none))))) else none)) lj_up := by rw [lj_D_eq]; rfl
set_option maxRecDepth 100000 in
set_option maxHeartbeats 4000000 in
theorem kc_17_60 (x1 : Int32) (x2 : Int32) (x3 : Int32) (σ : lj_S) : lj_D lc_P lc_M17 60 [.ref 0, .int x1, .int x2, .int x3] [] σ = some (.inl (some (.int x3)), σ) := by rw [lj_D_eq]; rfl
set_option maxRecDepth 100000 in
set_option maxHeartbeats 4000000 in
theorem kc_17_129 (x1 : Int32) (x2 : Int32) (x3 : Int32) (x50 : Int32) (σ : lj_S) : lj_D lc_P lc_M17 129 [.ref 0, .int x1, .int x2, .int x3] [.int x50] σ = some (.inl (some (.int x50)), σ) := by rw [lj_D_eq]; rfl
-- TableTongue.place(III)J
set_option maxRecDepth 100000 in
theorem rc_18 (x1 : Int32) (x2 : Int32) (x3 : Int32) (σ : lj_S) : lj_R lc_P 18 [.ref 0, .int x1, .int x2, .int x3] σ = lj_D lc_P lc_M18 0 [.ref 0, .int x1, .int x2, .int x3, .retAddr 0, .retAddr 0] [] σ := lj_R_eq (nL := 6) (M := lc_M18) _ _ _ _ rfl rfl
set_option maxRecDepth 100000 in
set_option maxHeartbeats 4000000 in
theorem kc_18_0 (x1 : Int32) (x2 : Int32) (x3 : Int32) (σ : lj_S) : lj_D lc_P lc_M18 0 [.ref 0, .int x1, .int x2, .int x3, .retAddr 0, .retAddr 0] [] σ = (if (σ.1 0 9) = 0 then lj_D lc_P lc_M18 74 [.ref 0, .int x1, .int x2, .int x3, .retAddr 0, .retAddr 0] [] σ else lj_bi (lj_R lc_P 3 [.long ((x1 : Int32).toInt64), .long 1, .long (((σ.1 7 0) : Int32).toInt64)] σ) (fun y2 σ1 => (if y2 = 0 then lj_D lc_P lc_M18 74 [.ref 0, .int x1, .int x2, .int x3, .retAddr 0, .retAddr 0] [] σ1 else (if lj_in x1 2001 then (if (σ1.1 57 x1.toNatClampNeg) = 4 then (if lj_in x1 2001 then lj_bi (lj_R lc_P 3 [.long ((x2 : Int32).toInt64), .long 0, .long ((((σ1.1 61 x1.toNatClampNeg) - 1) : Int32).toInt64)] σ1) (fun y4 σ3 => (if y4 = 0 then lj_D lc_P lc_M18 74 [.ref 0, .int x1, .int x2, .int x3, .retAddr 0, .retAddr 0] [] σ3 else lj_bi (lj_R lc_P 3 [.long ((x3 : Int32).toInt64), .long 0, .long 3] σ3) (fun y6 σ5 => (if y6 = 0 then lj_D lc_P lc_M18 74 [.ref 0, .int x1, .int x2, .int x3, .retAddr 0, .retAddr 0] [] σ5 else lj_D lc_P lc_M18 75 [.ref 0, .int x1, .int x2, .int x3, .retAddr 0, .retAddr 0] [.int 1] σ5)) lj_up)) lj_up else none) else lj_D lc_P lc_M18 74 [.ref 0, .int x1, .int x2, .int x3, .retAddr 0, .retAddr 0] [] σ1) else none))) lj_up) := by rw [lj_D_eq]; rfl
set_option maxRecDepth 100000 in
set_option maxHeartbeats 4000000 in
theorem kc_18_74 (x1 : Int32) (x2 : Int32) (x3 : Int32) (σ : lj_S) : lj_D lc_P lc_M18 74 [.ref 0, .int x1, .int x2, .int x3, .retAddr 0, .retAddr 0] [] σ = lj_D lc_P lc_M18 75 [.ref 0, .int x1, .int x2, .int x3, .retAddr 0, .retAddr 0] [.int 0] σ := by rw [lj_D_eq]; rfl
set_option maxRecDepth 100000 in
set_option maxHeartbeats 4000000 in
theorem kc_18_75 (x1 : Int32) (x2 : Int32) (x3 : Int32) (x50 : Int32) (σ : lj_S) : lj_D lc_P lc_M18 75 [.ref 0, .int x1, .int x2, .int x3, .retAddr 0, .retAddr 0] [.int x50] σ = lj_bv (lj_R lc_P 909 [.int x50] σ) (fun σ1 => (if lj_in x1 2001 then lj_D lc_P lc_M18 92 [.ref 0, .int x1, .int x2, .int x3, .int (σ1.1 59 x1.toNatClampNeg), .int 0] [] σ1 else none)) lj_up := by rw [lj_D_eq]; rfl
set_option maxRecDepth 100000 in
set_option maxHeartbeats 4000000 in
theorem kc_18_92 (x1 : Int32) (x2 : Int32) (x3 : Int32) (x4 : Int32) (x5 : Int32) (σ : lj_S) : lj_D lc_P lc_M18 92 [.ref 0, .int x1, .int x2, .int x3, .int x4, .int x5] [] σ = (if x2 ≤ x5 then (if x3 = 0 then (if lj_in x4 3000 then (if (σ.1 68 x4.toNatClampNeg) = 0 then lj_D lc_P lc_M18 257 [.ref 0, .int x1, .int x2, .int x3, .int x4, .int x5] [.long 0] σ else (if lj_in x4 3000 then lj_D lc_P lc_M18 257 [.ref 0, .int x1, .int x2, .int x3, .int x4, .int x5] [.long (((σ.1 66 x4.toNatClampNeg) : Int32).toInt64)] σ else none)) else none) else (if x3 = 1 then (if lj_in x4 3000 then lj_D lc_P lc_M18 257 [.ref 0, .int x1, .int x2, .int x3, .int x4, .int x5] [.long (((σ.1 68 x4.toNatClampNeg) : Int32).toInt64)] σ else none) else (if x3 = 2 then (if lj_in x4 3000 then (if (σ.1 68 x4.toNatClampNeg) = 0 then lj_D lc_P lc_M18 257 [.ref 0, .int x1, .int x2, .int x3, .int x4, .int x5] [.long 0] σ else (if lj_in x4 3000 then (if lj_in x4 3000 then lj_bl (lj_R lc_P 13 [.ref 0, .int (σ.1 66 x4.toNatClampNeg), .long (σ.2 67 x4.toNatClampNeg)] σ) (fun y2 σ1 => lj_D lc_P lc_M18 257 [.ref 0, .int x1, .int x2, .int x3, .int x4, .int x5] [.long y2] σ1) lj_up else none) else none)) else none) else (if lj_in x4 3000 then (if lj_in x4 3000 then lj_bl (lj_R lc_P 13 [.ref 0, .int (σ.1 68 x4.toNatClampNeg), .long (σ.2 69 x4.toNatClampNeg)] σ) (fun y4 σ3 => lj_D lc_P lc_M18 257 [.ref 0, .int x1, .int x2, .int x3, .int x4, .int x5] [.long y4] σ3) lj_up else none) else none)))) else (if lj_in x4 3000 then lj_D lc_P lc_M18 92 [.ref 0, .int x1, .int x2, .int x3, .int (σ.1 70 x4.toNatClampNeg), .int (x5 + 1)] [] σ else none)) := by rw [lj_D_eq]; rfl
set_option maxRecDepth 100000 in
set_option maxHeartbeats 4000000 in
theorem kc_18_257 (x1 : Int32) (x2 : Int32) (x3 : Int32) (x4 : Int32) (x5 : Int32) (x50 : Int64) (σ : lj_S) : lj_D lc_P lc_M18 257 [.ref 0, .int x1, .int x2, .int x3, .int x4, .int x5] [.long x50] σ = some (.inl (some (.long x50)), σ) := by rw [lj_D_eq]; rfl
