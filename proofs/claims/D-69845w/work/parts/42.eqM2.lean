-- TableTongueModel.forEnd(III)Z
set_option maxRecDepth 100000 in
theorem rm_100 (x1 : Int32) (x2 : Int32) (x3 : Int32) (σ : lj_S) : lj_R lm_P 100 [.ref 0, .int x1, .int x2, .int x3] σ = lj_D lm_P lm_M100 0 [.ref 0, .int x1, .int x2, .int x3, .retAddr 0] [] σ := lj_R_eq (nL := 5) (M := lm_M100) _ _ _ _ rfl rfl
set_option maxRecDepth 100000 in
set_option maxHeartbeats 4000000 in
theorem km_100_0 (x1 : Int32) (x2 : Int32) (x3 : Int32) (σ : lj_S) : lj_D lm_P lm_M100 0 [.ref 0, .int x1, .int x2, .int x3, .retAddr 0] [] σ = lj_bi (lj_R lm_P 49 [.ref 0, .int 6] σ) (fun y2 σ1 => (if y2 = 0 then some (.inl (some (.int 0)), σ1) else lj_bv (lj_R lm_P 58 [.ref 0, .int x3] σ1) (fun σ3 => (if lj_in ((σ3.1 0 56) - 1) 64 then lj_bi (lj_R lm_P 28 [.ref 0, .int 41, .int ((σ3.1 33 (((σ3.1 0 56) - 1).toNatClampNeg))), .int x1, .int 0] σ3) (fun y5 σ4 => (if lj_in ((σ3.1 0 56) - 1) 64 then lj_bv (lj_R lm_P 94 [.ref 0, .int x2] (lj_put σ4 33 (((σ3.1 0 56) - 1).toNatClampNeg) y5)) (fun σ6 => lj_bi (lj_R lm_P 28 [.ref 0, .int 44, .int 3, .int 0, .int 0] σ6) (fun y8 σ7 => some (.inl (some (.int 1)), σ7)) lj_up) lj_up else none)) lj_up else none)) lj_up)) lj_up := by rw [lj_D_eq]; rfl
-- TableTongueModel.inDo(III)Z
set_option maxRecDepth 100000 in
theorem rm_101 (x1 : Int32) (x2 : Int32) (x3 : Int32) (σ : lj_S) : lj_R lm_P 101 [.ref 0, .int x1, .int x2, .int x3] σ = lj_D lm_P lm_M101 0 [.ref 0, .int x1, .int x2, .int x3, .retAddr 0, .retAddr 0, .retAddr 0, .retAddr 0, .retAddr 0] [] σ := lj_R_eq (nL := 9) (M := lm_M101) _ _ _ _ rfl rfl
set_option maxRecDepth 100000 in
set_option maxHeartbeats 4000000 in
theorem km_101_0 (x1 : Int32) (x2 : Int32) (x3 : Int32) (σ : lj_S) : lj_D lm_P lm_M101 0 [.ref 0, .int x1, .int x2, .int x3, .retAddr 0, .retAddr 0, .retAddr 0, .retAddr 0, .retAddr 0] [] σ = lj_bi (lj_R lm_P 49 [.ref 0, .int 3] σ) (fun y2 σ1 => (if y2 = 0 then some (.inl (some (.int 0)), σ1) else (if (100 : Int32) = 0 then none else (if (100 : Int32) = 0 then none else lj_bi (lj_R lm_P 28 [.ref 0, .int 17, .int 0, .int 0, .int x1] σ1) (fun y4 σ3 => lj_bi (lj_R lm_P 28 [.ref 0, .int 18, .int 3, .int 0, .int 0] σ3) (fun y6 σ5 => lj_bi (lj_R lm_P 28 [.ref 0, .int 0, .int 0, .int 0, .int 0] σ5) (fun y8 σ7 => lj_bi (lj_R lm_P 28 [.ref 0, .int 42, .int (x3 / 100), .int 0, .int x1] σ7) (fun y10 σ9 => lj_bv (lj_R lm_P 44 [.ref 0] σ9) (fun σ11 => lj_bi (lj_R lm_P 28 [.ref 0, .int 43, .int (-1), .int (((x3 / 100) * 100) + (x3 - x3 / 100 * 100)), .int 0] σ11) (fun y13 σ12 => (if lj_in ((σ11.1 0 56) - 1) 64 then lj_bv (lj_R lm_P 29 [.ref 0, .int 36, .int y8, .int (x3 - x3 / 100 * 100), .int (σ12.1 0 50)] (lj_put σ12 33 (((σ11.1 0 56) - 1).toNatClampNeg) y13)) (fun σ14 => lj_D lm_P lm_M101 114 [.ref 0, .int x1, .int x2, .int x3, .int (x3 / 100), .int (x3 - x3 / 100 * 100), .int y10, .int y8, .int 0] [] σ14) lj_up else none)) lj_up) lj_up) lj_up) lj_up) lj_up) lj_up)))) lj_up := by rw [lj_D_eq]; rfl
set_option maxRecDepth 100000 in
set_option maxHeartbeats 4000000 in
theorem km_101_114 (x1 : Int32) (x2 : Int32) (x3 : Int32) (x4 : Int32) (x5 : Int32) (x6 : Int32) (x7 : Int32) (x8 : Int32) (σ : lj_S) : lj_D lm_P lm_M101 114 [.ref 0, .int x1, .int x2, .int x3, .int x4, .int x5, .int x6, .int x7, .int x8] [] σ = (if x4 ≤ x8 then lj_bv (lj_R lm_P 29 [.ref 0, .int 0, .int 0, .int 0, .int 0] σ) (fun σ1 => some (.inl (some (.int 1)), σ1)) lj_up else (if lj_in (x2 + (2 * x8)) 1502 then lj_bv (lj_R lm_P 55 [.ref 0, .int ((((σ.2 11 ((x2 + (2 * x8)).toNatClampNeg))) : Int64).toInt32), .int (x5 + x8)] σ) (fun σ2 => lj_D lm_P lm_M101 114 [.ref 0, .int x1, .int x2, .int x3, .int x4, .int x5, .int x6, .int x7, .int (x8 + 1)] [] σ2) lj_up else none)) := by rw [lj_D_eq]; rfl
-- TableTongueModel.inEnd(III)Z
set_option maxRecDepth 100000 in
theorem rm_102 (x1 : Int32) (x2 : Int32) (x3 : Int32) (σ : lj_S) : lj_R lm_P 102 [.ref 0, .int x1, .int x2, .int x3] σ = lj_D lm_P lm_M102 0 [.ref 0, .int x1, .int x2, .int x3, .retAddr 0] [] σ := lj_R_eq (nL := 5) (M := lm_M102) _ _ _ _ rfl rfl
set_option maxRecDepth 100000 in
set_option maxHeartbeats 4000000 in
theorem km_102_0 (x1 : Int32) (x2 : Int32) (x3 : Int32) (σ : lj_S) : lj_D lm_P lm_M102 0 [.ref 0, .int x1, .int x2, .int x3, .retAddr 0] [] σ = lj_bi (lj_R lm_P 49 [.ref 0, .int 6] σ) (fun y2 σ1 => (if y2 = 0 then some (.inl (some (.int 0)), σ1) else lj_bv (lj_R lm_P 58 [.ref 0, .int x3] σ1) (fun σ3 => lj_bi (lj_R lm_P 28 [.ref 0, .int 21, .int x1, .int 0, .int 0] σ3) (fun y5 σ4 => lj_bv (lj_R lm_P 94 [.ref 0, .int x2] σ4) (fun σ6 => lj_bi (lj_R lm_P 28 [.ref 0, .int 44, .int 3, .int 0, .int 0] σ6) (fun y8 σ7 => some (.inl (some (.int 1)), σ7)) lj_up) lj_up) lj_up) lj_up)) lj_up := by rw [lj_D_eq]; rfl
-- TableTongueModel.returned(I)Z
set_option maxRecDepth 100000 in
theorem rm_103 (x1 : Int32) (σ : lj_S) : lj_R lm_P 103 [.ref 0, .int x1] σ = lj_D lm_P lm_M103 0 [.ref 0, .int x1, .retAddr 0] [] σ := lj_R_eq (nL := 3) (M := lm_M103) _ _ _ _ rfl rfl
set_option maxRecDepth 100000 in
set_option maxHeartbeats 4000000 in
theorem km_103_0 (x1 : Int32) (σ : lj_S) : lj_D lm_P lm_M103 0 [.ref 0, .int x1, .retAddr 0] [] σ = lj_bi (lj_R lm_P 28 [.ref 0, .int 17, .int 0, .int 0, .int x1] σ) (fun y2 σ1 => lj_bi (lj_R lm_P 28 [.ref 0, .int 38, .int 0, .int 0, .int 0] σ1) (fun y4 σ3 => lj_bi (lj_R lm_P 39 [.ref 0, .int 59] σ3) (fun y6 σ5 => (if y6 = 0 then lj_D lm_P lm_M103 36 [.ref 0, .int x1, .int y4] [] σ5 else lj_bi (lj_R lm_P 36 [.ref 0] σ5) (fun y8 σ7 => (if y8 = 0 then lj_D lm_P lm_M103 41 [.ref 0, .int x1, .int y4] [.int 0] σ7 else lj_D lm_P lm_M103 36 [.ref 0, .int x1, .int y4] [] σ7)) lj_up)) lj_up) lj_up) lj_up := by rw [lj_D_eq]; rfl
set_option maxRecDepth 100000 in
set_option maxHeartbeats 4000000 in
theorem km_103_36 (x1 : Int32) (x2 : Int32) (σ : lj_S) : lj_D lm_P lm_M103 36 [.ref 0, .int x1, .int x2] [] σ = lj_D lm_P lm_M103 41 [.ref 0, .int x1, .int x2] [.int 1] σ := by rw [lj_D_eq]; rfl
set_option maxRecDepth 100000 in
set_option maxHeartbeats 4000000 in
theorem km_103_41 (x1 : Int32) (x2 : Int32) (x50 : Int32) (σ : lj_S) : lj_D lm_P lm_M103 41 [.ref 0, .int x1, .int x2] [.int x50] σ = some (.inl (some (.int (vp_nar .boolean x50))), σ) := by rw [lj_D_eq]; rfl
-- TableTongueModel.functionDone(III)Z
set_option maxRecDepth 100000 in
theorem rm_104 (x1 : Int32) (x2 : Int32) (x3 : Int32) (σ : lj_S) : lj_R lm_P 104 [.ref 0, .int x1, .int x2, .int x3] σ = lj_D lm_P lm_M104 0 [.ref 0, .int x1, .int x2, .int x3, .retAddr 0] [] σ := lj_R_eq (nL := 5) (M := lm_M104) _ _ _ _ rfl rfl
set_option maxRecDepth 100000 in
set_option maxHeartbeats 4000000 in
theorem km_104_0 (x1 : Int32) (x2 : Int32) (x3 : Int32) (σ : lj_S) : lj_D lm_P lm_M104 0 [.ref 0, .int x1, .int x2, .int x3, .retAddr 0] [] σ = (if x1 = 3 then lj_bi (lj_R lm_P 28 [.ref 0, .int 13, .int 0, .int 0, .int x3] σ) (fun y4 σ3 => lj_D lm_P lm_M104 35 [.ref 0, .int x1, .int x2, .int x3, .int y4] [] σ3) lj_up else lj_bi (lj_R lm_P 28 [.ref 0, .int (9 + x1), .int x2, .int 0, .int 0] σ) (fun y2 σ1 => lj_D lm_P lm_M104 35 [.ref 0, .int x1, .int x2, .int x3, .int y2] [] σ1) lj_up) := by rw [lj_D_eq]; rfl
set_option maxRecDepth 100000 in
set_option maxHeartbeats 4000000 in
theorem km_104_35 (x1 : Int32) (x2 : Int32) (x3 : Int32) (x4 : Int32) (σ : lj_S) : lj_D lm_P lm_M104 35 [.ref 0, .int x1, .int x2, .int x3, .int x4] [] σ = lj_bi (lj_R lm_P 28 [.ref 0, .int 47, .int 0, .int 0, .int 0] σ) (fun y2 σ1 => some (.inl (some (.int 1)), σ1)) lj_up := by rw [lj_D_eq]; rfl
-- TableTongueModel.reload()V
set_option maxRecDepth 100000 in
theorem rm_105  (σ : lj_S) : lj_R lm_P 105 [.ref 0] σ = lj_D lm_P lm_M105 0 [.ref 0, .retAddr 0, .retAddr 0] [] σ := lj_R_eq (nL := 3) (M := lm_M105) _ _ _ _ rfl rfl
set_option maxRecDepth 100000 in
set_option maxHeartbeats 4000000 in
theorem km_105_0  (σ : lj_S) : lj_D lm_P lm_M105 0 [.ref 0, .retAddr 0, .retAddr 0] [] σ = lj_bv (lj_R lm_P 106 [.ref 0] σ) (fun σ1 => (if lj_in 2001 2002 then (if lj_in 2001 2002 then (if lj_in 2001 2002 then lj_D lm_P lm_M105 33 [.ref 0, .int 0, .retAddr 0] [] (lj_put (lj_put (lj_put σ1 40 ((2001 : Int32).toNatClampNeg) (-1)) 41 ((2001 : Int32).toNatClampNeg) (-1)) 39 ((2001 : Int32).toNatClampNeg) 0) else none) else none) else none)) lj_up := by rw [lj_D_eq]; rfl
set_option maxRecDepth 100000 in
set_option maxHeartbeats 4000000 in
theorem km_105_33 (x1 : Int32) (σ : lj_S) : lj_D lm_P lm_M105 33 [.ref 0, .int x1, .retAddr 0] [] σ = (if 17 ≤ x1 then lj_D lm_P lm_M105 62 [.ref 0, .int 0, .retAddr 0] [] σ else lj_bv (lj_R lm_P 107 [.ref 0, .int 2001, .int (37 + x1), .int 7, .long ((x1 : Int32).toInt64)] σ) (fun σ1 => lj_D lm_P lm_M105 33 [.ref 0, .int (x1 + 1), .retAddr 0] [] σ1) lj_up) := by rw [lj_D_eq]; rfl
set_option maxRecDepth 100000 in
set_option maxHeartbeats 4000000 in
theorem km_105_62 (x1 : Int32) (x2 : Value) (σ : lj_S) : lj_D lm_P lm_M105 62 [.ref 0, .int x1, x2] [] σ = (if 3 ≤ x1 then lj_D lm_P lm_M105 96 [.ref 0, .int 17, x2] [] σ else lj_bi (lj_R lm_P 111 [.ref 0, .int 4] σ) (fun y2 σ1 => lj_bv (lj_R lm_P 107 [.ref 0, .int 2001, .int (54 + x1), .int 4, .long ((y2 : Int32).toInt64)] σ1) (fun σ3 => lj_D lm_P lm_M105 62 [.ref 0, .int (x1 + 1), .int y2] [] σ3) lj_up) lj_up) := by rw [lj_D_eq]; rfl
set_option maxRecDepth 100000 in
set_option maxHeartbeats 4000000 in
theorem km_105_96 (x1 : Int32) (x2 : Value) (σ : lj_S) : lj_D lm_P lm_M105 96 [.ref 0, .int x1, x2] [] σ = (if 22 ≤ x1 then lj_D lm_P lm_M105 127 [.ref 0, .int 22, x2] [] σ else lj_bv (lj_R lm_P 107 [.ref 0, .int 1, .int ((57 + x1) - 17), .int 7, .long ((x1 : Int32).toInt64)] σ) (fun σ1 => lj_D lm_P lm_M105 96 [.ref 0, .int (x1 + 1), x2] [] σ1) lj_up) := by rw [lj_D_eq]; rfl
set_option maxRecDepth 100000 in
set_option maxHeartbeats 4000000 in
theorem km_105_127 (x1 : Int32) (x2 : Value) (σ : lj_S) : lj_D lm_P lm_M105 127 [.ref 0, .int x1, x2] [] σ = (if 26 ≤ x1 then lj_D lm_P lm_M105 158 [.ref 0, .int 26, x2] [] σ else lj_bv (lj_R lm_P 107 [.ref 0, .int 2, .int ((62 + x1) - 22), .int 7, .long ((x1 : Int32).toInt64)] σ) (fun σ1 => lj_D lm_P lm_M105 127 [.ref 0, .int (x1 + 1), x2] [] σ1) lj_up) := by rw [lj_D_eq]; rfl
set_option maxRecDepth 100000 in
set_option maxHeartbeats 4000000 in
theorem km_105_158 (x1 : Int32) (x2 : Value) (σ : lj_S) : lj_D lm_P lm_M105 158 [.ref 0, .int x1, x2] [] σ = (if 31 ≤ x1 then (if lj_in 0 26 then (if lj_in 0 26 then (if lj_in 0 26 then (if lj_in 0 26 then (if lj_in 0 26 then (if lj_in 0 26 then lj_bv (lj_R lm_P 112 [.ref 0, .int 0, .int (-1), .int 0] (lj_put (lj_put (lj_put (lj_put (lj_put (lj_put (lj_put (lj_put σ 0 111 0) 58 ((0 : Int32).toNatClampNeg) 2) 59 ((0 : Int32).toNatClampNeg) 0) 62 ((0 : Int32).toNatClampNeg) 0) 63 ((0 : Int32).toNatClampNeg) 0) 64 ((0 : Int32).toNatClampNeg) 0) 65 ((0 : Int32).toNatClampNeg) 0) 0 137 0)) (fun σ1 => lj_bv (lj_R lm_P 113 [.ref 0, .int 0, .int 0] σ1) (fun σ2 => some (.inl none, (lj_put σ2 0 129 0))) lj_up) lj_up else none) else none) else none) else none) else none) else none) else (if x1 = 26 then lj_D lm_P lm_M105 195 [.ref 0, .int x1, x2] [.int 29, .int 3, .ref 0] σ else (if x1 = 30 then lj_D lm_P lm_M105 195 [.ref 0, .int x1, x2] [.int 31, .int 3, .ref 0] σ else lj_D lm_P lm_M105 195 [.ref 0, .int x1, x2] [.int ((66 + x1) - 27), .int 3, .ref 0] σ))) := by rw [lj_D_eq]; rfl
set_option maxRecDepth 100000 in
set_option maxHeartbeats 4000000 in
theorem km_105_195 (x1 : Int32) (x2 : Value) (x50 : Int32) (x51 : Int32) (σ : lj_S) : lj_D lm_P lm_M105 195 [.ref 0, .int x1, x2] [.int x50, .int x51, .ref 0] σ = lj_bv (lj_R lm_P 107 [.ref 0, .int x51, .int x50, .int 7, .long ((x1 : Int32).toInt64)] σ) (fun σ1 => lj_D lm_P lm_M105 158 [.ref 0, .int (x1 + 1), x2] [] σ1) lj_up := by rw [lj_D_eq]; rfl
-- TableTongueModel.forget()V
set_option maxRecDepth 100000 in
theorem rm_106  (σ : lj_S) : lj_R lm_P 106 [.ref 0] σ = lj_D lm_P lm_M106 0 [.ref 0, .retAddr 0] [] σ := lj_R_eq (nL := 2) (M := lm_M106) _ _ _ _ rfl rfl
set_option maxRecDepth 100000 in
set_option maxHeartbeats 4000000 in
theorem km_106_0  (σ : lj_S) : lj_D lm_P lm_M106 0 [.ref 0, .retAddr 0] [] σ = lj_bv (lj_R lm_P 11 [.ref 0, .int (σ.1 0 15), .int (σ.1 0 16)] σ) (fun σ1 => lj_D lm_P lm_M106 14 [.ref 0, .int 0] [] σ1) lj_up := by rw [lj_D_eq]; rfl
set_option maxRecDepth 100000 in
set_option maxHeartbeats 4000000 in
theorem km_106_14 (x1 : Int32) (σ : lj_S) : lj_D lm_P lm_M106 14 [.ref 0, .int x1] [] σ = (if (σ.1 0 15) ≤ x1 then lj_D lm_P lm_M106 66 [.ref 0, .int 0] [] (lj_put (lj_put σ 0 17 0) 0 18 0) else (if lj_in x1 3000 then (if (σ.1 5 x1.toNatClampNeg) = 2 then lj_D lm_P lm_M106 47 [.ref 0, .int x1] [.int 0, .int x1, .ref 5] σ else (if lj_in x1 3000 then lj_D lm_P lm_M106 47 [.ref 0, .int x1] [.int (σ.1 5 x1.toNatClampNeg), .int x1, .ref 5] σ else none)) else none)) := by rw [lj_D_eq]; rfl
set_option maxRecDepth 100000 in
set_option maxHeartbeats 4000000 in
theorem km_106_47 (x1 : Int32) (x50 : Int32) (x51 : Int32) (σ : lj_S) : lj_D lm_P lm_M106 47 [.ref 0, .int x1] [.int x50, .int x51, .ref 5] σ = (if lj_in x51 3000 then lj_D lm_P lm_M106 14 [.ref 0, .int (x1 + 1)] [] (lj_put σ 5 x51.toNatClampNeg x50) else none) := by rw [lj_D_eq]; rfl
set_option maxRecDepth 100000 in
set_option maxHeartbeats 4000000 in
theorem km_106_66 (x1 : Int32) (σ : lj_S) : lj_D lm_P lm_M106 66 [.ref 0, .int x1] [] σ = (if 4096 ≤ x1 then lj_D lm_P lm_M106 95 [.ref 0, .int 2999] [] (lj_put σ 0 88 0) else (if lj_in x1 4096 then lj_D lm_P lm_M106 66 [.ref 0, .int (x1 + 1)] [] (lj_put σ 52 x1.toNatClampNeg (-1)) else none)) := by rw [lj_D_eq]; rfl
set_option maxRecDepth 100000 in
set_option maxHeartbeats 4000000 in
theorem km_106_95 (x1 : Int32) (σ : lj_S) : lj_D lm_P lm_M106 95 [.ref 0, .int x1] [] σ = (if x1 < 0 then lj_D lm_P lm_M106 139 [.ref 0, .int 94999] [] (lj_put (lj_put σ 0 89 0) 0 96 0) else (if lj_in (σ.1 0 88) 3001 then lj_D lm_P lm_M106 95 [.ref 0, .int (x1 + (-1))] [] (lj_put (lj_put σ 53 ((σ.1 0 88).toNatClampNeg) x1) 0 88 ((σ.1 0 88) + 1)) else none)) := by rw [lj_D_eq]; rfl
set_option maxRecDepth 100000 in
set_option maxHeartbeats 4000000 in
theorem km_106_139 (x1 : Int32) (σ : lj_S) : lj_D lm_P lm_M106 139 [.ref 0, .int x1] [] σ = (if x1 < 0 then some (.inl none, (lj_put (lj_put (lj_putL (lj_put (lj_put (lj_put (lj_put (lj_putL (lj_put σ 0 77 0) 0 78 0) 0 110 0) 0 152 0) 0 153 0) 0 150 0) 0 145 0) 0 143 0) 0 148 0)) else (if lj_in (σ.1 0 96) 95000 then lj_D lm_P lm_M106 139 [.ref 0, .int (x1 + (-1))] [] (lj_put (lj_put σ 57 ((σ.1 0 96).toNatClampNeg) x1) 0 96 ((σ.1 0 96) + 1)) else none)) := by rw [lj_D_eq]; rfl
-- TableTongueModel.fill(IIIJ)V
set_option maxRecDepth 100000 in
theorem rm_107 (x1 : Int32) (x2 : Int32) (x3 : Int32) (x4 : Int64) (σ : lj_S) : lj_R lm_P 107 [.ref 0, .int x1, .int x2, .int x3, .long x4] σ = lj_D lm_P lm_M107 0 [.ref 0, .int x1, .int x2, .int x3, .long x4, .retAddr 0, .retAddr 0] [] σ := lj_R_eq (nL := 7) (M := lm_M107) _ _ _ _ rfl rfl
set_option maxRecDepth 100000 in
set_option maxHeartbeats 4000000 in
theorem km_107_0 (x1 : Int32) (x2 : Int32) (x3 : Int32) (x4 : Int64) (σ : lj_S) : lj_D lm_P lm_M107 0 [.ref 0, .int x1, .int x2, .int x3, .long x4, .retAddr 0, .retAddr 0] [] σ = lj_bi (lj_R lm_P 108 [.ref 0, .int x1, .int 3, .long ((x2 : Int32).toInt64), .int x3, .long x4] σ) (fun y2 σ1 => some (.inl none, σ1)) lj_up := by rw [lj_D_eq]; rfl
-- TableTongueModel.set(IIJIJ)Z
set_option maxRecDepth 100000 in
theorem rm_108 (x1 : Int32) (x2 : Int32) (x3 : Int64) (x4 : Int32) (x5 : Int64) (σ : lj_S) : lj_R lm_P 108 [.ref 0, .int x1, .int x2, .long x3, .int x4, .long x5] σ = lj_D lm_P lm_M108 0 [.ref 0, .int x1, .int x2, .long x3, .retAddr 0, .int x4, .long x5, .retAddr 0, .retAddr 0, .retAddr 0] [] σ := lj_R_eq (nL := 10) (M := lm_M108) _ _ _ _ rfl rfl
set_option maxRecDepth 100000 in
set_option maxHeartbeats 4000000 in
theorem km_108_0 (x1 : Int32) (x2 : Int32) (x3 : Int64) (x5 : Int32) (x6 : Int64) (σ : lj_S) : lj_D lm_P lm_M108 0 [.ref 0, .int x1, .int x2, .long x3, .retAddr 0, .int x5, .long x6, .retAddr 0, .retAddr 0, .retAddr 0] [] σ = lj_bi (lj_R lm_P 109 [.ref 0, .int x1, .int x2, .long x3] σ) (fun y2 σ1 => (if 0 ≤ y2 then lj_D lm_P lm_M108 21 [.ref 0, .int x1, .int x2, .long x3, .retAddr 0, .int x5, .long x6, .retAddr 0, .int y2, .retAddr 0] [] σ1 else (if x5 = 0 then some (.inl (some (.int 1)), σ1) else lj_D lm_P lm_M108 21 [.ref 0, .int x1, .int x2, .long x3, .retAddr 0, .int x5, .long x6, .retAddr 0, .int y2, .retAddr 0] [] σ1))) lj_up := by rw [lj_D_eq]; rfl
set_option maxRecDepth 100000 in
set_option maxHeartbeats 4000000 in
theorem km_108_21 (x1 : Int32) (x2 : Int32) (x3 : Int64) (x5 : Int32) (x6 : Int64) (x8 : Int32) (σ : lj_S) : lj_D lm_P lm_M108 21 [.ref 0, .int x1, .int x2, .long x3, .retAddr 0, .int x5, .long x6, .retAddr 0, .int x8, .retAddr 0] [] σ = (if 0 ≤ x8 then lj_D lm_P lm_M108 178 [.ref 0, .int x1, .int x2, .long x3, .retAddr 0, .int x5, .long x6, .retAddr 0, .int x8, .retAddr 0] [] σ else (if (σ.1 0 89) = 3000 then some (.inl (some (.int 0)), (lj_put σ 0 143 4)) else (if lj_in ((σ.1 0 88) - 1) 3001 then lj_bi (lj_R lm_P 110 [.int x1, .int x2, .long x3] (lj_put (lj_put σ 0 88 ((σ.1 0 88) - 1)) 0 89 ((σ.1 0 89) + 1))) (fun y2 σ1 => (if lj_in ((σ.1 53 (((σ.1 0 88) - 1).toNatClampNeg))) 3001 then (if lj_in ((σ.1 53 (((σ.1 0 88) - 1).toNatClampNeg))) 3001 then (if lj_in ((σ.1 53 (((σ.1 0 88) - 1).toNatClampNeg))) 3001 then (if lj_in y2 4096 then (if lj_in ((σ.1 53 (((σ.1 0 88) - 1).toNatClampNeg))) 3001 then (if lj_in y2 4096 then (if lj_in ((σ.1 53 (((σ.1 0 88) - 1).toNatClampNeg))) 3001 then (if lj_in x1 2002 then (if 0 ≤ (σ1.1 40 x1.toNatClampNeg) then (if lj_in x1 2002 then (if lj_in (σ1.1 41 x1.toNatClampNeg) 3001 then lj_D lm_P lm_M108 170 [.ref 0, .int x1, .int x2, .long x3, .retAddr 0, .int x5, .long x6, .retAddr 0, .int ((σ.1 53 (((σ.1 0 88) - 1).toNatClampNeg))), .int y2] [] (lj_put (lj_put (lj_put (lj_put (lj_putL (lj_put (lj_put σ1 49 (((σ.1 53 (((σ.1 0 88) - 1).toNatClampNeg))).toNatClampNeg) x1) 45 (((σ.1 53 (((σ.1 0 88) - 1).toNatClampNeg))).toNatClampNeg) x2) 46 (((σ.1 53 (((σ.1 0 88) - 1).toNatClampNeg))).toNatClampNeg) x3) 51 (((σ.1 53 (((σ.1 0 88) - 1).toNatClampNeg))).toNatClampNeg) (σ1.1 52 y2.toNatClampNeg)) 52 y2.toNatClampNeg ((σ.1 53 (((σ.1 0 88) - 1).toNatClampNeg)))) 50 (((σ.1 53 (((σ.1 0 88) - 1).toNatClampNeg))).toNatClampNeg) (-1)) 50 ((σ1.1 41 x1.toNatClampNeg).toNatClampNeg) ((σ.1 53 (((σ.1 0 88) - 1).toNatClampNeg)))) else none) else none) else (if lj_in x1 2002 then lj_D lm_P lm_M108 170 [.ref 0, .int x1, .int x2, .long x3, .retAddr 0, .int x5, .long x6, .retAddr 0, .int ((σ.1 53 (((σ.1 0 88) - 1).toNatClampNeg))), .int y2] [] (lj_put (lj_put (lj_put (lj_put (lj_putL (lj_put (lj_put σ1 49 (((σ.1 53 (((σ.1 0 88) - 1).toNatClampNeg))).toNatClampNeg) x1) 45 (((σ.1 53 (((σ.1 0 88) - 1).toNatClampNeg))).toNatClampNeg) x2) 46 (((σ.1 53 (((σ.1 0 88) - 1).toNatClampNeg))).toNatClampNeg) x3) 51 (((σ.1 53 (((σ.1 0 88) - 1).toNatClampNeg))).toNatClampNeg) (σ1.1 52 y2.toNatClampNeg)) 52 y2.toNatClampNeg ((σ.1 53 (((σ.1 0 88) - 1).toNatClampNeg)))) 50 (((σ.1 53 (((σ.1 0 88) - 1).toNatClampNeg))).toNatClampNeg) (-1)) 40 x1.toNatClampNeg ((σ.1 53 (((σ.1 0 88) - 1).toNatClampNeg)))) else none)) else none) else none) else none) else none) else none) else none) else none) else none)) lj_up else none))) := by rw [lj_D_eq]; rfl
set_option maxRecDepth 100000 in
set_option maxHeartbeats 4000000 in
theorem km_108_170 (x1 : Int32) (x2 : Int32) (x3 : Int64) (x5 : Int32) (x6 : Int64) (x8 : Int32) (x9 : Int32) (σ : lj_S) : lj_D lm_P lm_M108 170 [.ref 0, .int x1, .int x2, .long x3, .retAddr 0, .int x5, .long x6, .retAddr 0, .int x8, .int x9] [] σ = (if lj_in x1 2002 then lj_D lm_P lm_M108 178 [.ref 0, .int x1, .int x2, .long x3, .retAddr 0, .int x5, .long x6, .retAddr 0, .int x8, .int x9] [] (lj_put σ 41 x1.toNatClampNeg x8) else none) := by rw [lj_D_eq]; rfl
set_option maxRecDepth 100000 in
set_option maxHeartbeats 4000000 in
theorem km_108_178 (x1 : Int32) (x2 : Int32) (x3 : Int64) (x5 : Int32) (x6 : Int64) (x8 : Int32) (x9 : Value) (σ : lj_S) : lj_D lm_P lm_M108 178 [.ref 0, .int x1, .int x2, .long x3, .retAddr 0, .int x5, .long x6, .retAddr 0, .int x8, x9] [] σ = (if lj_in x8 3001 then (if lj_in x8 3001 then some (.inl (some (.int 1)), (lj_putL (lj_put σ 47 x8.toNatClampNeg x5) 48 x8.toNatClampNeg x6)) else none) else none) := by rw [lj_D_eq]; rfl
-- TableTongueModel.placeOf(IIJ)I
set_option maxRecDepth 100000 in
theorem rm_109 (x1 : Int32) (x2 : Int32) (x3 : Int64) (σ : lj_S) : lj_R lm_P 109 [.ref 0, .int x1, .int x2, .long x3] σ = lj_D lm_P lm_M109 0 [.ref 0, .int x1, .int x2, .long x3, .retAddr 0, .retAddr 0] [] σ := lj_R_eq (nL := 6) (M := lm_M109) _ _ _ _ rfl rfl
set_option maxRecDepth 100000 in
set_option maxHeartbeats 4000000 in
theorem km_109_0 (x1 : Int32) (x2 : Int32) (x3 : Int64) (σ : lj_S) : lj_D lm_P lm_M109 0 [.ref 0, .int x1, .int x2, .long x3, .retAddr 0, .retAddr 0] [] σ = lj_bi (lj_R lm_P 110 [.int x1, .int x2, .long x3] σ) (fun y2 σ1 => (if lj_in y2 4096 then lj_D lm_P lm_M109 13 [.ref 0, .int x1, .int x2, .long x3, .retAddr 0, .int (σ1.1 52 y2.toNatClampNeg)] [] σ1 else none)) lj_up := by rw [lj_D_eq]; rfl
set_option maxRecDepth 100000 in
set_option maxHeartbeats 4000000 in
theorem km_109_13 (x1 : Int32) (x2 : Int32) (x3 : Int64) (x5 : Int32) (σ : lj_S) : lj_D lm_P lm_M109 13 [.ref 0, .int x1, .int x2, .long x3, .retAddr 0, .int x5] [] σ = (if x5 < 0 then some (.inl (some (.int (-1))), σ) else (if lj_in x5 3001 then (if (σ.1 49 x5.toNatClampNeg) = x1 then (if lj_in x5 3001 then (if (σ.1 45 x5.toNatClampNeg) = x2 then (if lj_in x5 3001 then (if (lg_cmp (σ.2 46 x5.toNatClampNeg) x3) = 0 then some (.inl (some (.int x5)), σ) else lj_D lm_P lm_M109 55 [.ref 0, .int x1, .int x2, .long x3, .retAddr 0, .int x5] [] σ) else none) else lj_D lm_P lm_M109 55 [.ref 0, .int x1, .int x2, .long x3, .retAddr 0, .int x5] [] σ) else none) else lj_D lm_P lm_M109 55 [.ref 0, .int x1, .int x2, .long x3, .retAddr 0, .int x5] [] σ) else none)) := by rw [lj_D_eq]; rfl
set_option maxRecDepth 100000 in
set_option maxHeartbeats 4000000 in
theorem km_109_55 (x1 : Int32) (x2 : Int32) (x3 : Int64) (x5 : Int32) (σ : lj_S) : lj_D lm_P lm_M109 55 [.ref 0, .int x1, .int x2, .long x3, .retAddr 0, .int x5] [] σ = (if lj_in x5 3001 then lj_D lm_P lm_M109 13 [.ref 0, .int x1, .int x2, .long x3, .retAddr 0, .int (σ.1 51 x5.toNatClampNeg)] [] σ else none) := by rw [lj_D_eq]; rfl
-- TableTongueModel.keyHash(IIJ)I
set_option maxRecDepth 100000 in
theorem rm_110 (x0 : Int32) (x1 : Int32) (x2 : Int64) (σ : lj_S) : lj_R lm_P 110 [.int x0, .int x1, .long x2] σ = lj_D lm_P lm_M110 0 [.int x0, .int x1, .long x2, .retAddr 0, .retAddr 0, .retAddr 0] [] σ := lj_R_eq (nL := 6) (M := lm_M110) _ _ _ _ rfl rfl
set_option maxRecDepth 100000 in
set_option maxHeartbeats 4000000 in
theorem km_110_0 (x0 : Int32) (x1 : Int32) (x2 : Int64) (σ : lj_S) : lj_D lm_P lm_M110 0 [.int x0, .int x1, .long x2, .retAddr 0, .retAddr 0, .retAddr 0] [] σ = some (.inl (some (.int ((((((((x2 * 31) + (((x1 : Int32).toInt64) * 7)) + (((x0 : Int32).toInt64) * 131)) ^^^ ((((((x2 * 31) + (((x1 : Int32).toInt64) * 7)) + (((x0 : Int32).toInt64) * 131)) : Int64).toUInt64 >>> ((17 : Int32).toInt64.toUInt64 &&& Int64.toUInt64 63)).toInt64)) ^^^ ((((((x2 * 31) + (((x1 : Int32).toInt64) * 7)) + (((x0 : Int32).toInt64) * 131)) : Int64).toUInt64 >>> ((34 : Int32).toInt64.toUInt64 &&& Int64.toUInt64 63)).toInt64)) : Int64).toInt32) &&& 4095))), σ) := by rw [lj_D_eq]; rfl
-- TableTongueModel.object(I)I
set_option maxRecDepth 100000 in
theorem rm_111 (x1 : Int32) (σ : lj_S) : lj_R lm_P 111 [.ref 0, .int x1] σ = lj_D lm_P lm_M111 0 [.ref 0, .int x1] [] σ := lj_R_eq (nL := 2) (M := lm_M111) _ _ _ _ rfl rfl
set_option maxRecDepth 100000 in
set_option maxHeartbeats 4000000 in
theorem km_111_0 (x1 : Int32) (σ : lj_S) : lj_D lm_P lm_M111 0 [.ref 0, .int x1] [] σ = (if (σ.1 0 77) = 2000 then some (.inl (some (.int 0)), (lj_put σ 0 143 4)) else (if lj_in ((σ.1 0 77) + 1) 2002 then (if lj_in ((σ.1 0 77) + 1) 2002 then (if lj_in ((σ.1 0 77) + 1) 2002 then (if lj_in ((σ.1 0 77) + 1) 2002 then (if lj_in ((σ.1 0 77) + 1) 2002 then some (.inl (some (.int ((σ.1 0 77) + 1))), (lj_putL (lj_put (lj_put (lj_put (lj_put (lj_put σ 0 77 ((σ.1 0 77) + 1)) 38 (((σ.1 0 77) + 1).toNatClampNeg) x1) 39 (((σ.1 0 77) + 1).toNatClampNeg) 0) 40 (((σ.1 0 77) + 1).toNatClampNeg) (-1)) 41 (((σ.1 0 77) + 1).toNatClampNeg) (-1)) 42 (((σ.1 0 77) + 1).toNatClampNeg) 0)) else none) else none) else none) else none) else none)) := by rw [lj_D_eq]; rfl
-- TableTongueModel.how(III)V
set_option maxRecDepth 100000 in
theorem rm_112 (x1 : Int32) (x2 : Int32) (x3 : Int32) (σ : lj_S) : lj_R lm_P 112 [.ref 0, .int x1, .int x2, .int x3] σ = lj_D lm_P lm_M112 0 [.ref 0, .int x1, .int x2, .int x3] [] σ := lj_R_eq (nL := 4) (M := lm_M112) _ _ _ _ rfl rfl
set_option maxRecDepth 100000 in
set_option maxHeartbeats 4000000 in
theorem km_112_0 (x1 : Int32) (x2 : Int32) (x3 : Int32) (σ : lj_S) : lj_D lm_P lm_M112 0 [.ref 0, .int x1, .int x2, .int x3] [] σ = some (.inl none, (lj_put (lj_put (lj_put σ 0 130 x1) 0 131 x2) 0 132 x3)) := by rw [lj_D_eq]; rfl
-- TableTongueModel.openFrame(II)V
set_option maxRecDepth 100000 in
theorem rm_113 (x1 : Int32) (x2 : Int32) (σ : lj_S) : lj_R lm_P 113 [.ref 0, .int x1, .int x2] σ = lj_D lm_P lm_M113 0 [.ref 0, .int x1, .int x2, .retAddr 0, .retAddr 0] [] σ := lj_R_eq (nL := 5) (M := lm_M113) _ _ _ _ rfl rfl
set_option maxRecDepth 100000 in
set_option maxHeartbeats 4000000 in
theorem km_113_0 (x1 : Int32) (x2 : Int32) (σ : lj_S) : lj_D lm_P lm_M113 0 [.ref 0, .int x1, .int x2, .retAddr 0, .retAddr 0] [] σ = (if lj_in (σ.1 0 111) 26 then (if lj_in (σ.1 0 111) 26 then (if lj_in (σ.1 0 111) 26 then (if lj_in (σ.1 0 111) 26 then (if lj_in (σ.1 0 111) 26 then (if lj_in ((48 * (σ.1 0 111)) + ((σ.1 62 ((σ.1 0 111).toNatClampNeg)))) 1248 then (if lj_in ((48 * (σ.1 0 111)) + ((σ.1 62 ((σ.1 0 111).toNatClampNeg)))) 1248 then (if lj_in ((48 * (σ.1 0 111)) + ((σ.1 62 ((σ.1 0 111).toNatClampNeg)))) 1248 then (if lj_in x1 51 then (if lj_in ((48 * (σ.1 0 111)) + ((σ.1 62 ((σ.1 0 111).toNatClampNeg)))) 1248 then (if lj_in ((48 * (σ.1 0 111)) + ((σ.1 62 ((σ.1 0 111).toNatClampNeg)))) 1248 then (if lj_in ((48 * (σ.1 0 111)) + ((σ.1 62 ((σ.1 0 111).toNatClampNeg)))) 1248 then (if lj_in (σ.1 0 111) 26 then (if lj_in ((48 * (σ.1 0 111)) + ((σ.1 62 ((σ.1 0 111).toNatClampNeg)))) 1248 then (if lj_in (σ.1 0 111) 26 then (if lj_in ((48 * (σ.1 0 111)) + ((σ.1 62 ((σ.1 0 111).toNatClampNeg)))) 1248 then (if lj_in ((48 * (σ.1 0 111)) + ((σ.1 62 ((σ.1 0 111).toNatClampNeg)))) 1248 then lj_D lm_P lm_M113 137 [.ref 0, .int x1, .int x2, .int ((48 * (σ.1 0 111)) + ((σ.1 62 ((σ.1 0 111).toNatClampNeg)))), .int 0] [] (lj_put (lj_put (lj_put (lj_put (lj_put (lj_put (lj_put (lj_put (lj_put (lj_put (lj_put σ 62 ((σ.1 0 111).toNatClampNeg) (((σ.1 62 ((σ.1 0 111).toNatClampNeg))) + 1)) 65 ((σ.1 0 111).toNatClampNeg) (((σ.1 65 ((σ.1 0 111).toNatClampNeg))) + 1)) 74 (((48 * (σ.1 0 111)) + ((σ.1 62 ((σ.1 0 111).toNatClampNeg)))).toNatClampNeg) 0) 75 (((48 * (σ.1 0 111)) + ((σ.1 62 ((σ.1 0 111).toNatClampNeg)))).toNatClampNeg) x1) 76 (((48 * (σ.1 0 111)) + ((σ.1 62 ((σ.1 0 111).toNatClampNeg)))).toNatClampNeg) x2) 77 (((48 * (σ.1 0 111)) + ((σ.1 62 ((σ.1 0 111).toNatClampNeg)))).toNatClampNeg) (σ.1 12 x1.toNatClampNeg)) 78 (((48 * (σ.1 0 111)) + ((σ.1 62 ((σ.1 0 111).toNatClampNeg)))).toNatClampNeg) (σ.1 0 130)) 79 (((48 * (σ.1 0 111)) + ((σ.1 62 ((σ.1 0 111).toNatClampNeg)))).toNatClampNeg) (σ.1 0 131)) 80 (((48 * (σ.1 0 111)) + ((σ.1 62 ((σ.1 0 111).toNatClampNeg)))).toNatClampNeg) ((σ.1 63 ((σ.1 0 111).toNatClampNeg)))) 81 (((48 * (σ.1 0 111)) + ((σ.1 62 ((σ.1 0 111).toNatClampNeg)))).toNatClampNeg) ((σ.1 64 ((σ.1 0 111).toNatClampNeg)))) 82 (((48 * (σ.1 0 111)) + ((σ.1 62 ((σ.1 0 111).toNatClampNeg)))).toNatClampNeg) 0) else none) else none) else none) else none) else none) else none) else none) else none) else none) else none) else none) else none) else none) else none) else none) else none) else none) := by rw [lj_D_eq]; rfl
set_option maxRecDepth 100000 in
set_option maxHeartbeats 4000000 in
theorem km_113_137 (x1 : Int32) (x2 : Int32) (x3 : Int32) (x4 : Int32) (σ : lj_S) : lj_D lm_P lm_M113 137 [.ref 0, .int x1, .int x2, .int x3, .int x4] [] σ = (if 50 ≤ x4 then lj_D lm_P lm_M113 166 [.ref 0, .int x1, .int x2, .int x3, .int 0] [] σ else (if lj_in ((50 * x3) + x4) 62400 then lj_D lm_P lm_M113 137 [.ref 0, .int x1, .int x2, .int x3, .int (x4 + 1)] [] (lj_put σ 87 (((50 * x3) + x4).toNatClampNeg) (-1)) else none)) := by rw [lj_D_eq]; rfl
set_option maxRecDepth 100000 in
set_option maxHeartbeats 4000000 in
theorem km_113_166 (x1 : Int32) (x2 : Int32) (x3 : Int32) (x4 : Int32) (σ : lj_S) : lj_D lm_P lm_M113 166 [.ref 0, .int x1, .int x2, .int x3, .int x4] [] σ = (if lj_in x1 51 then (if (σ.1 13 x1.toNatClampNeg) ≤ x4 then (if lj_in x1 51 then lj_D lm_P lm_M113 239 [.ref 0, .int x1, .int x2, .int x3, .int (σ.1 13 x1.toNatClampNeg)] [] σ else none) else (if (σ.1 0 137) ≤ x4 then lj_bi (lj_R lm_P 114 [.ref 0, .int 0, .long 0] σ) (fun y2 σ1 => lj_D lm_P lm_M113 224 [.ref 0, .int x1, .int x2, .int x3, .int x4] [.int y2, .int ((50 * x3) + x4), .ref 87] σ1) lj_up else (if lj_in x4 128 then (if lj_in x4 128 then lj_bi (lj_R lm_P 114 [.ref 0, .int (σ.1 88 x4.toNatClampNeg), .long (σ.2 89 x4.toNatClampNeg)] σ) (fun y4 σ3 => lj_D lm_P lm_M113 224 [.ref 0, .int x1, .int x2, .int x3, .int x4] [.int y4, .int ((50 * x3) + x4), .ref 87] σ3) lj_up else none) else none))) else none) := by rw [lj_D_eq]; rfl
set_option maxRecDepth 100000 in
set_option maxHeartbeats 4000000 in
theorem km_113_224 (x1 : Int32) (x2 : Int32) (x3 : Int32) (x4 : Int32) (x50 : Int32) (x51 : Int32) (σ : lj_S) : lj_D lm_P lm_M113 224 [.ref 0, .int x1, .int x2, .int x3, .int x4] [.int x50, .int x51, .ref 87] σ = (if lj_in x51 62400 then lj_D lm_P lm_M113 166 [.ref 0, .int x1, .int x2, .int x3, .int (x4 + 1)] [] (lj_put σ 87 x51.toNatClampNeg x50) else none) := by rw [lj_D_eq]; rfl
set_option maxRecDepth 100000 in
set_option maxHeartbeats 4000000 in
theorem km_113_239 (x1 : Int32) (x2 : Int32) (x3 : Int32) (x4 : Int32) (σ : lj_S) : lj_D lm_P lm_M113 239 [.ref 0, .int x1, .int x2, .int x3, .int x4] [] σ = (if (σ.1 0 137) ≤ x4 then lj_D lm_P lm_M113 291 [.ref 0, .int x1, .int x2, .int x3, .int x4] [] σ else (if lj_in x1 51 then (if (σ.1 16 x1.toNatClampNeg) = 0 then lj_D lm_P lm_M113 291 [.ref 0, .int x1, .int x2, .int x3, .int x4] [] σ else (if lj_in x4 128 then (if lj_in x4 128 then lj_bv (lj_R lm_P 116 [.ref 0, .int (σ.1 88 x4.toNatClampNeg), .long (σ.2 89 x4.toNatClampNeg)] σ) (fun σ1 => (if lj_in x3 1248 then (if lj_in x3 1248 then lj_D lm_P lm_M113 239 [.ref 0, .int x1, .int x2, .int x3, .int (x4 + 1)] [] (lj_put σ1 82 x3.toNatClampNeg ((σ1.1 82 x3.toNatClampNeg) + 1)) else none) else none)) lj_up else none) else none)) else none)) := by rw [lj_D_eq]; rfl
set_option maxRecDepth 100000 in
set_option maxHeartbeats 4000000 in
theorem km_113_291 (x1 : Int32) (x2 : Int32) (x3 : Int32) (x4 : Int32) (σ : lj_S) : lj_D lm_P lm_M113 291 [.ref 0, .int x1, .int x2, .int x3, .int x4] [] σ = some (.inl none, σ) := by rw [lj_D_eq]; rfl
-- TableTongueModel.cell(IJ)I
set_option maxRecDepth 100000 in
theorem rm_114 (x1 : Int32) (x2 : Int64) (σ : lj_S) : lj_R lm_P 114 [.ref 0, .int x1, .long x2] σ = lj_D lm_P lm_M114 0 [.ref 0, .int x1, .long x2, .retAddr 0, .retAddr 0] [] σ := lj_R_eq (nL := 5) (M := lm_M114) _ _ _ _ rfl rfl
set_option maxRecDepth 100000 in
set_option maxHeartbeats 4000000 in
theorem km_114_0 (x1 : Int32) (x2 : Int64) (σ : lj_S) : lj_D lm_P lm_M114 0 [.ref 0, .int x1, .long x2, .retAddr 0, .retAddr 0] [] σ = (if (σ.1 0 96) = 0 then lj_bv (lj_R lm_P 115 [.ref 0] σ) (fun σ1 => lj_D lm_P lm_M114 16 [.ref 0, .int x1, .long x2, .retAddr 0, .int 94999] [] σ1) lj_up else lj_D lm_P lm_M114 58 [.ref 0, .int x1, .long x2, .retAddr 0, .retAddr 0] [] σ) := by rw [lj_D_eq]; rfl
set_option maxRecDepth 100000 in
set_option maxHeartbeats 4000000 in
theorem km_114_16 (x1 : Int32) (x2 : Int64) (x4 : Int32) (σ : lj_S) : lj_D lm_P lm_M114 16 [.ref 0, .int x1, .long x2, .retAddr 0, .int x4] [] σ = (if x4 < 0 then lj_D lm_P lm_M114 58 [.ref 0, .int x1, .long x2, .retAddr 0, .int x4] [] σ else (if lj_in x4 95000 then (if (σ.1 56 x4.toNatClampNeg) = 0 then (if lj_in (σ.1 0 96) 95000 then lj_D lm_P lm_M114 52 [.ref 0, .int x1, .long x2, .retAddr 0, .int x4] [] (lj_put (lj_put σ 57 ((σ.1 0 96).toNatClampNeg) x4) 0 96 ((σ.1 0 96) + 1)) else none) else lj_D lm_P lm_M114 52 [.ref 0, .int x1, .long x2, .retAddr 0, .int x4] [] σ) else none)) := by rw [lj_D_eq]; rfl
set_option maxRecDepth 100000 in
set_option maxHeartbeats 4000000 in
theorem km_114_52 (x1 : Int32) (x2 : Int64) (x4 : Int32) (σ : lj_S) : lj_D lm_P lm_M114 52 [.ref 0, .int x1, .long x2, .retAddr 0, .int x4] [] σ = lj_D lm_P lm_M114 16 [.ref 0, .int x1, .long x2, .retAddr 0, .int (x4 + (-1))] [] σ := by rw [lj_D_eq]; rfl
set_option maxRecDepth 100000 in
set_option maxHeartbeats 4000000 in
theorem km_114_58 (x1 : Int32) (x2 : Int64) (x4 : Value) (σ : lj_S) : lj_D lm_P lm_M114 58 [.ref 0, .int x1, .long x2, .retAddr 0, x4] [] σ = (if lj_in ((σ.1 0 96) - 1) 95000 then (if lj_in ((σ.1 57 (((σ.1 0 96) - 1).toNatClampNeg))) 95000 then (if lj_in ((σ.1 57 (((σ.1 0 96) - 1).toNatClampNeg))) 95000 then some (.inl (some (.int ((σ.1 57 (((σ.1 0 96) - 1).toNatClampNeg))))), (lj_putL (lj_put (lj_put σ 0 96 ((σ.1 0 96) - 1)) 54 (((σ.1 57 (((σ.1 0 96) - 1).toNatClampNeg))).toNatClampNeg) x1) 55 (((σ.1 57 (((σ.1 0 96) - 1).toNatClampNeg))).toNatClampNeg) x2)) else none) else none) else none) := by rw [lj_D_eq]; rfl
-- TableTongueModel.markCells()V
set_option maxRecDepth 100000 in
theorem rm_115  (σ : lj_S) : lj_R lm_P 115 [.ref 0] σ = lj_D lm_P lm_M115 0 [.ref 0, .retAddr 0, .retAddr 0, .retAddr 0, .retAddr 0] [] σ := lj_R_eq (nL := 5) (M := lm_M115) _ _ _ _ rfl rfl
set_option maxRecDepth 100000 in
set_option maxHeartbeats 4000000 in
theorem km_115_0  (σ : lj_S) : lj_D lm_P lm_M115 0 [.ref 0, .retAddr 0, .retAddr 0, .retAddr 0, .retAddr 0] [] σ = lj_D lm_P lm_M115 2 [.ref 0, .int 0, .retAddr 0, .retAddr 0, .retAddr 0] [] σ := by rw [lj_D_eq]; rfl
set_option maxRecDepth 100000 in
set_option maxHeartbeats 4000000 in
theorem km_115_2 (x1 : Int32) (σ : lj_S) : lj_D lm_P lm_M115 2 [.ref 0, .int x1, .retAddr 0, .retAddr 0, .retAddr 0] [] σ = (if 95000 ≤ x1 then lj_D lm_P lm_M115 23 [.ref 0, .int 0, .retAddr 0, .retAddr 0, .retAddr 0] [] σ else (if lj_in x1 95000 then lj_D lm_P lm_M115 2 [.ref 0, .int (x1 + 1), .retAddr 0, .retAddr 0, .retAddr 0] [] (lj_put σ 56 x1.toNatClampNeg (vp_nar .boolean 0)) else none)) := by rw [lj_D_eq]; rfl
set_option maxRecDepth 100000 in
set_option maxHeartbeats 4000000 in
theorem km_115_23 (x1 : Int32) (x2 : Value) (x3 : Value) (x4 : Value) (σ : lj_S) : lj_D lm_P lm_M115 23 [.ref 0, .int x1, x2, x3, x4] [] σ = (if (σ.1 0 110) < x1 then lj_D lm_P lm_M115 122 [.ref 0, .int 1, x2, x3, x4] [] σ else lj_D lm_P lm_M115 33 [.ref 0, .int x1, .int 0, x3, x4] [] σ) := by rw [lj_D_eq]; rfl
set_option maxRecDepth 100000 in
set_option maxHeartbeats 4000000 in
theorem km_115_33 (x1 : Int32) (x2 : Int32) (x3 : Value) (x4 : Value) (σ : lj_S) : lj_D lm_P lm_M115 33 [.ref 0, .int x1, .int x2, x3, x4] [] σ = (if lj_in x1 26 then (if (σ.1 62 x1.toNatClampNeg) ≤ x2 then lj_D lm_P lm_M115 23 [.ref 0, .int (x1 + 1), .int x2, x3, x4] [] σ else lj_D lm_P lm_M115 53 [.ref 0, .int x1, .int x2, .int ((48 * x1) + x2), .int 0] [] σ) else none) := by rw [lj_D_eq]; rfl
set_option maxRecDepth 100000 in
set_option maxHeartbeats 4000000 in
theorem km_115_53 (x1 : Int32) (x2 : Int32) (x3 : Int32) (x4 : Int32) (σ : lj_S) : lj_D lm_P lm_M115 53 [.ref 0, .int x1, .int x2, .int x3, .int x4] [] σ = (if 50 ≤ x4 then lj_D lm_P lm_M115 108 [.ref 0, .int x1, .int x2, .int x3, .int x4] [] σ else (if lj_in x3 1248 then (if (σ.1 74 x3.toNatClampNeg) = 0 then (if lj_in ((50 * x3) + x4) 62400 then (if ((σ.1 87 (((50 * x3) + x4).toNatClampNeg))) < 0 then lj_D lm_P lm_M115 102 [.ref 0, .int x1, .int x2, .int x3, .int x4] [] σ else (if lj_in ((50 * x3) + x4) 62400 then (if lj_in ((σ.1 87 (((50 * x3) + x4).toNatClampNeg))) 95000 then lj_D lm_P lm_M115 102 [.ref 0, .int x1, .int x2, .int x3, .int x4] [] (lj_put σ 56 (((σ.1 87 (((50 * x3) + x4).toNatClampNeg))).toNatClampNeg) (vp_nar .boolean 1)) else none) else none)) else none) else lj_D lm_P lm_M115 108 [.ref 0, .int x1, .int x2, .int x3, .int x4] [] σ) else none)) := by rw [lj_D_eq]; rfl
set_option maxRecDepth 100000 in
set_option maxHeartbeats 4000000 in
theorem km_115_102 (x1 : Int32) (x2 : Int32) (x3 : Int32) (x4 : Int32) (σ : lj_S) : lj_D lm_P lm_M115 102 [.ref 0, .int x1, .int x2, .int x3, .int x4] [] σ = lj_D lm_P lm_M115 53 [.ref 0, .int x1, .int x2, .int x3, .int (x4 + 1)] [] σ := by rw [lj_D_eq]; rfl
set_option maxRecDepth 100000 in
set_option maxHeartbeats 4000000 in
theorem km_115_108 (x1 : Int32) (x2 : Int32) (x3 : Int32) (x4 : Int32) (σ : lj_S) : lj_D lm_P lm_M115 108 [.ref 0, .int x1, .int x2, .int x3, .int x4] [] σ = lj_D lm_P lm_M115 33 [.ref 0, .int x1, .int (x2 + 1), .int x3, .int x4] [] σ := by rw [lj_D_eq]; rfl
set_option maxRecDepth 100000 in
set_option maxHeartbeats 4000000 in
theorem km_115_122 (x1 : Int32) (x2 : Value) (x3 : Value) (x4 : Value) (σ : lj_S) : lj_D lm_P lm_M115 122 [.ref 0, .int x1, x2, x3, x4] [] σ = (if (σ.1 0 77) < x1 then some (.inl none, σ) else lj_D lm_P lm_M115 132 [.ref 0, .int x1, .int 0, x3, x4] [] σ) := by rw [lj_D_eq]; rfl
set_option maxRecDepth 100000 in
set_option maxHeartbeats 4000000 in
theorem km_115_132 (x1 : Int32) (x2 : Int32) (x3 : Value) (x4 : Value) (σ : lj_S) : lj_D lm_P lm_M115 132 [.ref 0, .int x1, .int x2, x3, x4] [] σ = (if lj_in x1 2002 then (if (σ.1 38 x1.toNatClampNeg) = 5 then (if lj_in x1 2002 then (if lj_in (σ.1 43 x1.toNatClampNeg) 51 then (if ((σ.1 15 ((σ.1 43 x1.toNatClampNeg).toNatClampNeg))) ≤ x2 then lj_D lm_P lm_M115 180 [.ref 0, .int x1, .int x2, x3, x4] [] σ else (if lj_in ((30 * x1) + x2) 60060 then (if lj_in ((σ.1 44 (((30 * x1) + x2).toNatClampNeg))) 95000 then lj_D lm_P lm_M115 132 [.ref 0, .int x1, .int (x2 + 1), x3, x4] [] (lj_put σ 56 (((σ.1 44 (((30 * x1) + x2).toNatClampNeg))).toNatClampNeg) (vp_nar .boolean 1)) else none) else none)) else none) else none) else lj_D lm_P lm_M115 180 [.ref 0, .int x1, .int x2, x3, x4] [] σ) else none) := by rw [lj_D_eq]; rfl
set_option maxRecDepth 100000 in
set_option maxHeartbeats 4000000 in
theorem km_115_180 (x1 : Int32) (x2 : Int32) (x3 : Value) (x4 : Value) (σ : lj_S) : lj_D lm_P lm_M115 180 [.ref 0, .int x1, .int x2, x3, x4] [] σ = lj_D lm_P lm_M115 122 [.ref 0, .int (x1 + 1), .int x2, x3, x4] [] σ := by rw [lj_D_eq]; rfl
-- TableTongueModel.push(IJ)V
set_option maxRecDepth 100000 in
theorem rm_116 (x1 : Int32) (x2 : Int64) (σ : lj_S) : lj_R lm_P 116 [.ref 0, .int x1, .long x2] σ = lj_D lm_P lm_M116 0 [.ref 0, .int x1, .long x2, .retAddr 0, .retAddr 0] [] σ := lj_R_eq (nL := 5) (M := lm_M116) _ _ _ _ rfl rfl
set_option maxRecDepth 100000 in
set_option maxHeartbeats 4000000 in
theorem km_116_0 (x1 : Int32) (x2 : Int64) (σ : lj_S) : lj_D lm_P lm_M116 0 [.ref 0, .int x1, .long x2, .retAddr 0, .retAddr 0] [] σ = (if lj_in (σ.1 0 111) 26 then (if lj_in ((10000 * (σ.1 0 111)) + ((σ.1 63 ((σ.1 0 111).toNatClampNeg)))) 260000 then (if lj_in ((10000 * (σ.1 0 111)) + ((σ.1 63 ((σ.1 0 111).toNatClampNeg)))) 260000 then (if lj_in (σ.1 0 111) 26 then (if lj_in (σ.1 0 111) 26 then some (.inl none, (lj_put (lj_putL (lj_put σ 71 (((10000 * (σ.1 0 111)) + ((σ.1 63 ((σ.1 0 111).toNatClampNeg)))).toNatClampNeg) x1) 72 (((10000 * (σ.1 0 111)) + ((σ.1 63 ((σ.1 0 111).toNatClampNeg)))).toNatClampNeg) x2) 63 ((σ.1 0 111).toNatClampNeg) (((σ.1 63 ((σ.1 0 111).toNatClampNeg))) + 1))) else none) else none) else none) else none) else none) := by rw [lj_D_eq]; rfl
-- TableTongueModel.fault(I)I
set_option maxRecDepth 100000 in
theorem rm_117 (x1 : Int32) (σ : lj_S) : lj_R lm_P 117 [.ref 0, .int x1] σ = lj_D lm_P lm_M117 0 [.ref 0, .int x1] [] σ := lj_R_eq (nL := 2) (M := lm_M117) _ _ _ _ rfl rfl
set_option maxRecDepth 100000 in
set_option maxHeartbeats 4000000 in
theorem km_117_0 (x1 : Int32) (σ : lj_S) : lj_D lm_P lm_M117 0 [.ref 0, .int x1] [] σ = (if x1 = 0 then lj_D lm_P lm_M117 10 [.ref 0, .int x1] [.ref 0] σ else (if x1 = 1 then lj_D lm_P lm_M117 10 [.ref 0, .int x1] [.ref 0] σ else lj_D lm_P lm_M117 15 [.ref 0, .int x1] [.int 1, .ref 0] σ)) := by rw [lj_D_eq]; rfl
set_option maxRecDepth 100000 in
set_option maxHeartbeats 4000000 in
theorem km_117_10 (x1 : Int32) (σ : lj_S) : lj_D lm_P lm_M117 10 [.ref 0, .int x1] [.ref 0] σ = lj_D lm_P lm_M117 15 [.ref 0, .int x1] [.int 0, .ref 0] σ := by rw [lj_D_eq]; rfl
set_option maxRecDepth 100000 in
set_option maxHeartbeats 4000000 in
theorem km_117_15 (x1 : Int32) (x50 : Int32) (σ : lj_S) : lj_D lm_P lm_M117 15 [.ref 0, .int x1] [.int x50, .ref 0] σ = (if (σ.1 0 4) = 0 then lj_D lm_P lm_M117 32 [.ref 0, .int x1] [] (lj_put σ 0 0 x50) else (if x50 ≤ 0 then (if x1 = 0 then lj_D lm_P lm_M117 51 [.ref 0, .int x1] [.int (σ.1 0 5)] (lj_put σ 0 0 x50) else lj_D lm_P lm_M117 51 [.ref 0, .int x1] [.int (σ.1 0 6)] (lj_put σ 0 0 x50)) else lj_D lm_P lm_M117 32 [.ref 0, .int x1] [] (lj_put σ 0 0 x50))) := by rw [lj_D_eq]; rfl
set_option maxRecDepth 100000 in
set_option maxHeartbeats 4000000 in
theorem km_117_32 (x1 : Int32) (σ : lj_S) : lj_D lm_P lm_M117 32 [.ref 0, .int x1] [] σ = lj_D lm_P lm_M117 51 [.ref 0, .int x1] [.int (-1)] σ := by rw [lj_D_eq]; rfl
set_option maxRecDepth 100000 in
set_option maxHeartbeats 4000000 in
theorem km_117_51 (x1 : Int32) (x50 : Int32) (σ : lj_S) : lj_D lm_P lm_M117 51 [.ref 0, .int x1] [.int x50] σ = some (.inl (some (.int x50)), σ) := by rw [lj_D_eq]; rfl
-- TableTongueModel.function(II)I
set_option maxRecDepth 100000 in
theorem rm_118 (x1 : Int32) (x2 : Int32) (σ : lj_S) : lj_R lm_P 118 [.ref 0, .int x1, .int x2] σ = lj_D lm_P lm_M118 0 [.ref 0, .int x1, .int x2] [] σ := lj_R_eq (nL := 3) (M := lm_M118) _ _ _ _ rfl rfl
set_option maxRecDepth 100000 in
set_option maxHeartbeats 4000000 in
theorem km_118_0 (x1 : Int32) (x2 : Int32) (σ : lj_S) : lj_D lm_P lm_M118 0 [.ref 0, .int x1, .int x2] [] σ = (if (σ.1 0 3) = 0 then lj_D lm_P lm_M118 29 [.ref 0, .int x1, .int x2] [.ref 0] σ else (if x1 < 0 then lj_D lm_P lm_M118 29 [.ref 0, .int x1, .int x2] [.ref 0] σ else (if (σ.1 0 34) ≤ x1 then lj_D lm_P lm_M118 29 [.ref 0, .int x1, .int x2] [.ref 0] σ else (if x2 < 0 then lj_D lm_P lm_M118 29 [.ref 0, .int x1, .int x2] [.ref 0] σ else (if x2 ≤ 3 then lj_D lm_P lm_M118 34 [.ref 0, .int x1, .int x2] [.int 0, .ref 0] σ else lj_D lm_P lm_M118 29 [.ref 0, .int x1, .int x2] [.ref 0] σ))))) := by rw [lj_D_eq]; rfl
set_option maxRecDepth 100000 in
set_option maxHeartbeats 4000000 in
theorem km_118_29 (x1 : Int32) (x2 : Int32) (σ : lj_S) : lj_D lm_P lm_M118 29 [.ref 0, .int x1, .int x2] [.ref 0] σ = lj_D lm_P lm_M118 34 [.ref 0, .int x1, .int x2] [.int 1, .ref 0] σ := by rw [lj_D_eq]; rfl
set_option maxRecDepth 100000 in
set_option maxHeartbeats 4000000 in
theorem km_118_34 (x1 : Int32) (x2 : Int32) (x50 : Int32) (σ : lj_S) : lj_D lm_P lm_M118 34 [.ref 0, .int x1, .int x2] [.int x50, .ref 0] σ = (if x50 ≤ 0 then (if x2 = 0 then (if lj_in x1 51 then lj_D lm_P lm_M118 101 [.ref 0, .int x1, .int x2] [.int (σ.1 14 x1.toNatClampNeg)] (lj_put σ 0 0 x50) else none) else (if x2 = 1 then (if lj_in x1 51 then lj_D lm_P lm_M118 101 [.ref 0, .int x1, .int x2] [.int (σ.1 15 x1.toNatClampNeg)] (lj_put σ 0 0 x50) else none) else (if x2 = 2 then (if lj_in x1 51 then (if (σ.1 16 x1.toNatClampNeg) = 0 then lj_D lm_P lm_M118 101 [.ref 0, .int x1, .int x2] [.int 0] (lj_put σ 0 0 x50) else lj_D lm_P lm_M118 101 [.ref 0, .int x1, .int x2] [.int 1] (lj_put σ 0 0 x50)) else none) else (if lj_in x1 51 then lj_D lm_P lm_M118 101 [.ref 0, .int x1, .int x2] [.int (σ.1 17 x1.toNatClampNeg)] (lj_put σ 0 0 x50) else none)))) else some (.inl (some (.int 0)), (lj_put σ 0 0 x50))) := by rw [lj_D_eq]; rfl
set_option maxRecDepth 100000 in
set_option maxHeartbeats 4000000 in
theorem km_118_101 (x1 : Int32) (x2 : Int32) (x50 : Int32) (σ : lj_S) : lj_D lm_P lm_M118 101 [.ref 0, .int x1, .int x2] [.int x50] σ = some (.inl (some (.int x50)), σ) := by rw [lj_D_eq]; rfl
-- TableTongueModel.load()V
set_option maxRecDepth 100000 in
theorem rm_119  (σ : lj_S) : lj_R lm_P 119 [.ref 0] σ = lj_D lm_P lm_M119 0 [.ref 0] [] σ := lj_R_eq (nL := 1) (M := lm_M119) _ _ _ _ rfl rfl
set_option maxRecDepth 100000 in
set_option maxHeartbeats 4000000 in
theorem km_119_0  (σ : lj_S) : lj_D lm_P lm_M119 0 [.ref 0] [] σ = (if (σ.1 0 3) = 0 then lj_D lm_P lm_M119 13 [.ref 0] [.int 1, .ref 0] σ else lj_D lm_P lm_M119 13 [.ref 0] [.int 0, .ref 0] σ) := by rw [lj_D_eq]; rfl
set_option maxRecDepth 100000 in
set_option maxHeartbeats 4000000 in
theorem km_119_13 (x50 : Int32) (σ : lj_S) : lj_D lm_P lm_M119 13 [.ref 0] [.int x50, .ref 0] σ = (if x50 = 0 then lj_bv (lj_R lm_P 105 [.ref 0] (lj_put σ 0 0 x50)) (fun σ1 => lj_D lm_P lm_M119 27 [.ref 0] [] σ1) lj_up else lj_D lm_P lm_M119 27 [.ref 0] [] (lj_put σ 0 0 x50)) := by rw [lj_D_eq]; rfl
set_option maxRecDepth 100000 in
set_option maxHeartbeats 4000000 in
theorem km_119_27  (σ : lj_S) : lj_D lm_P lm_M119 27 [.ref 0] [] σ = some (.inl none, σ) := by rw [lj_D_eq]; rfl
-- TableTongueModel.run(I)I
set_option maxRecDepth 100000 in
theorem rm_120 (x1 : Int32) (σ : lj_S) : lj_R lm_P 120 [.ref 0, .int x1] σ = lj_D lm_P lm_M120 0 [.ref 0, .int x1] [] σ := lj_R_eq (nL := 2) (M := lm_M120) _ _ _ _ rfl rfl
set_option maxRecDepth 100000 in
set_option maxHeartbeats 4000000 in
theorem km_120_0 (x1 : Int32) (σ : lj_S) : lj_D lm_P lm_M120 0 [.ref 0, .int x1] [] σ = (if (σ.1 0 3) = 0 then lj_D lm_P lm_M120 29 [.ref 0, .int x1] [.int 1, .ref 0] σ else (if x1 < 1 then lj_D lm_P lm_M120 24 [.ref 0, .int x1] [.ref 0] σ else (if x1 ≤ 3000 then lj_D lm_P lm_M120 29 [.ref 0, .int x1] [.int 0, .ref 0] σ else lj_D lm_P lm_M120 24 [.ref 0, .int x1] [.ref 0] σ))) := by rw [lj_D_eq]; rfl
set_option maxRecDepth 100000 in
set_option maxHeartbeats 4000000 in
theorem km_120_24 (x1 : Int32) (σ : lj_S) : lj_D lm_P lm_M120 24 [.ref 0, .int x1] [.ref 0] σ = lj_D lm_P lm_M120 29 [.ref 0, .int x1] [.int 2, .ref 0] σ := by rw [lj_D_eq]; rfl
set_option maxRecDepth 100000 in
set_option maxHeartbeats 4000000 in
theorem km_120_29 (x1 : Int32) (x50 : Int32) (σ : lj_S) : lj_D lm_P lm_M120 29 [.ref 0, .int x1] [.int x50, .ref 0] σ = (if x50 ≤ 0 then lj_D lm_P lm_M120 46 [.ref 0, .int x1] [] (lj_put (lj_put σ 0 0 x50) 0 144 x1) else some (.inl (some (.int 0)), (lj_put σ 0 0 x50))) := by rw [lj_D_eq]; rfl
set_option maxRecDepth 100000 in
set_option maxHeartbeats 4000000 in
theorem km_120_46 (x1 : Int32) (σ : lj_S) : lj_D lm_P lm_M120 46 [.ref 0, .int x1] [] σ = (if (σ.1 0 143) = 0 then (if (σ.1 0 129) = 0 then lj_bi (lj_R lm_P 121 [.ref 0] σ) (fun y4 σ3 => (if y4 = 0 then some (.inl (some (.int 2)), σ3) else lj_D lm_P lm_M120 46 [.ref 0, .int x1] [] σ3)) lj_up else (if (σ.1 0 129) = 1 then lj_bv (lj_R lm_P 178 [.ref 0] σ) (fun σ5 => lj_D lm_P lm_M120 46 [.ref 0, .int x1] [] σ5) lj_up else (if (σ.1 0 129) = 2 then lj_bv (lj_R lm_P 183 [.ref 0] σ) (fun σ6 => lj_D lm_P lm_M120 46 [.ref 0, .int x1] [] σ6) lj_up else (if (σ.1 0 129) = 3 then lj_bv (lj_R lm_P 185 [.ref 0] σ) (fun σ7 => lj_D lm_P lm_M120 46 [.ref 0, .int x1] [] σ7) lj_up else lj_bv (lj_R lm_P 237 [.ref 0] σ) (fun σ8 => lj_D lm_P lm_M120 46 [.ref 0, .int x1] [] σ8) lj_up)))) else lj_bi (lj_R lm_P 238 [.ref 0] σ) (fun y2 σ1 => some (.inl (some (.int y2)), σ1)) lj_up) := by rw [lj_D_eq]; rfl
-- TableTongueModel.oneWord()Z
set_option maxRecDepth 100000 in
theorem rm_121  (σ : lj_S) : lj_R lm_P 121 [.ref 0] σ = lj_D lm_P lm_M121 0 [.ref 0, .retAddr 0, .retAddr 0, .retAddr 0, .retAddr 0, .retAddr 0, .retAddr 0] [] σ := lj_R_eq (nL := 7) (M := lm_M121) _ _ _ _ rfl rfl
set_option maxRecDepth 100000 in
set_option maxHeartbeats 4000000 in
theorem km_121_0  (σ : lj_S) : lj_D lm_P lm_M121 0 [.ref 0, .retAddr 0, .retAddr 0, .retAddr 0, .retAddr 0, .retAddr 0, .retAddr 0] [] σ = lj_bi (lj_R lm_P 122 [.ref 0] σ) (fun y2 σ1 => (if lj_in y2 1248 then (if lj_in (σ1.1 77 y2.toNatClampNeg) 14000 then (if lj_in (σ1.1 77 y2.toNatClampNeg) 14000 then (if ((σ1.1 20 ((σ1.1 77 y2.toNatClampNeg).toNatClampNeg))) = 0 then (if (σ1.1 0 144) = 0 then some (.inl (some (.int 0)), σ1) else (if lj_in y2 1248 then some (.inl (some (.int 1)), (lj_put (lj_putL (lj_put σ1 0 144 ((σ1.1 0 144) - 1)) 0 145 ((σ1.2 0 145) + 1)) 77 y2.toNatClampNeg ((σ1.1 77 y2.toNatClampNeg) + 1))) else none)) else (if lj_in y2 1248 then (if lj_in (σ1.1 77 y2.toNatClampNeg) 14000 then (if ((σ1.1 20 ((σ1.1 77 y2.toNatClampNeg).toNatClampNeg))) = 1 then lj_bv (lj_R lm_P 116 [.ref 0, .int 0, .long 0] (lj_put σ1 77 y2.toNatClampNeg ((σ1.1 77 y2.toNatClampNeg) + 1))) (fun σ3 => lj_D lm_P lm_M121 398 [.ref 0, .int y2, .int (σ1.1 77 y2.toNatClampNeg), .int ((σ1.1 21 ((σ1.1 77 y2.toNatClampNeg).toNatClampNeg))), .retAddr 0, .retAddr 0, .retAddr 0] [] σ3) lj_up else (if ((σ1.1 20 ((σ1.1 77 y2.toNatClampNeg).toNatClampNeg))) = 2 then lj_bv (lj_R lm_P 116 [.ref 0, .int 1, .long ((((σ1.1 21 ((σ1.1 77 y2.toNatClampNeg).toNatClampNeg))) : Int32).toInt64)] (lj_put σ1 77 y2.toNatClampNeg ((σ1.1 77 y2.toNatClampNeg) + 1))) (fun σ4 => lj_D lm_P lm_M121 398 [.ref 0, .int y2, .int (σ1.1 77 y2.toNatClampNeg), .int ((σ1.1 21 ((σ1.1 77 y2.toNatClampNeg).toNatClampNeg))), .retAddr 0, .retAddr 0, .retAddr 0] [] σ4) lj_up else (if ((σ1.1 20 ((σ1.1 77 y2.toNatClampNeg).toNatClampNeg))) = 3 then lj_D lm_P lm_M121 391 [.ref 0, .int y2, .int (σ1.1 77 y2.toNatClampNeg), .int ((σ1.1 21 ((σ1.1 77 y2.toNatClampNeg).toNatClampNeg))), .retAddr 0, .retAddr 0, .retAddr 0] [] (lj_put σ1 77 y2.toNatClampNeg ((σ1.1 77 y2.toNatClampNeg) + 1)) else (if ((σ1.1 20 ((σ1.1 77 y2.toNatClampNeg).toNatClampNeg))) = 4 then (if lj_in ((σ1.1 21 ((σ1.1 77 y2.toNatClampNeg).toNatClampNeg))) 1501 then lj_bv (lj_R lm_P 116 [.ref 0, .int 2, .long ((σ1.2 24 (((σ1.1 21 ((σ1.1 77 y2.toNatClampNeg).toNatClampNeg))).toNatClampNeg)))] (lj_put σ1 77 y2.toNatClampNeg ((σ1.1 77 y2.toNatClampNeg) + 1))) (fun σ5 => lj_D lm_P lm_M121 398 [.ref 0, .int y2, .int (σ1.1 77 y2.toNatClampNeg), .int ((σ1.1 21 ((σ1.1 77 y2.toNatClampNeg).toNatClampNeg))), .retAddr 0, .retAddr 0, .retAddr 0] [] σ5) lj_up else none) else (if ((σ1.1 20 ((σ1.1 77 y2.toNatClampNeg).toNatClampNeg))) = 5 then lj_bv (lj_R lm_P 116 [.ref 0, .int 3, .long ((((σ1.1 21 ((σ1.1 77 y2.toNatClampNeg).toNatClampNeg))) : Int32).toInt64)] (lj_put σ1 77 y2.toNatClampNeg ((σ1.1 77 y2.toNatClampNeg) + 1))) (fun σ6 => lj_D lm_P lm_M121 398 [.ref 0, .int y2, .int (σ1.1 77 y2.toNatClampNeg), .int ((σ1.1 21 ((σ1.1 77 y2.toNatClampNeg).toNatClampNeg))), .retAddr 0, .retAddr 0, .retAddr 0] [] σ6) lj_up else (if ((σ1.1 20 ((σ1.1 77 y2.toNatClampNeg).toNatClampNeg))) = 6 then (if lj_in ((50 * y2) + ((σ1.1 21 ((σ1.1 77 y2.toNatClampNeg).toNatClampNeg)))) 62400 then (if lj_in ((σ1.1 87 (((50 * y2) + ((σ1.1 21 ((σ1.1 77 y2.toNatClampNeg).toNatClampNeg)))).toNatClampNeg))) 95000 then (if lj_in ((50 * y2) + ((σ1.1 21 ((σ1.1 77 y2.toNatClampNeg).toNatClampNeg)))) 62400 then (if lj_in ((σ1.1 87 (((50 * y2) + ((σ1.1 21 ((σ1.1 77 y2.toNatClampNeg).toNatClampNeg)))).toNatClampNeg))) 95000 then lj_bv (lj_R lm_P 116 [.ref 0, .int ((σ1.1 54 (((σ1.1 87 (((50 * y2) + ((σ1.1 21 ((σ1.1 77 y2.toNatClampNeg).toNatClampNeg)))).toNatClampNeg))).toNatClampNeg))), .long ((σ1.2 55 (((σ1.1 87 (((50 * y2) + ((σ1.1 21 ((σ1.1 77 y2.toNatClampNeg).toNatClampNeg)))).toNatClampNeg))).toNatClampNeg)))] (lj_put σ1 77 y2.toNatClampNeg ((σ1.1 77 y2.toNatClampNeg) + 1))) (fun σ7 => lj_D lm_P lm_M121 398 [.ref 0, .int y2, .int (σ1.1 77 y2.toNatClampNeg), .int ((σ1.1 21 ((σ1.1 77 y2.toNatClampNeg).toNatClampNeg))), .retAddr 0, .retAddr 0, .retAddr 0] [] σ7) lj_up else none) else none) else none) else none) else (if ((σ1.1 20 ((σ1.1 77 y2.toNatClampNeg).toNatClampNeg))) = 7 then (if lj_in y2 1248 then (if lj_in ((30 * (σ1.1 76 y2.toNatClampNeg)) + ((σ1.1 21 ((σ1.1 77 y2.toNatClampNeg).toNatClampNeg)))) 60060 then (if lj_in ((σ1.1 44 (((30 * (σ1.1 76 y2.toNatClampNeg)) + ((σ1.1 21 ((σ1.1 77 y2.toNatClampNeg).toNatClampNeg)))).toNatClampNeg))) 95000 then (if lj_in ((σ1.1 44 (((30 * (σ1.1 76 y2.toNatClampNeg)) + ((σ1.1 21 ((σ1.1 77 y2.toNatClampNeg).toNatClampNeg)))).toNatClampNeg))) 95000 then lj_bv (lj_R lm_P 116 [.ref 0, .int ((σ1.1 54 (((σ1.1 44 (((30 * (σ1.1 76 y2.toNatClampNeg)) + ((σ1.1 21 ((σ1.1 77 y2.toNatClampNeg).toNatClampNeg)))).toNatClampNeg))).toNatClampNeg))), .long ((σ1.2 55 (((σ1.1 44 (((30 * (σ1.1 76 y2.toNatClampNeg)) + ((σ1.1 21 ((σ1.1 77 y2.toNatClampNeg).toNatClampNeg)))).toNatClampNeg))).toNatClampNeg)))] (lj_put σ1 77 y2.toNatClampNeg ((σ1.1 77 y2.toNatClampNeg) + 1))) (fun σ8 => lj_D lm_P lm_M121 398 [.ref 0, .int y2, .int (σ1.1 77 y2.toNatClampNeg), .int ((σ1.1 21 ((σ1.1 77 y2.toNatClampNeg).toNatClampNeg))), .int ((σ1.1 44 (((30 * (σ1.1 76 y2.toNatClampNeg)) + ((σ1.1 21 ((σ1.1 77 y2.toNatClampNeg).toNatClampNeg)))).toNatClampNeg))), .retAddr 0, .retAddr 0] [] σ8) lj_up else none) else none) else none) else none) else (if ((σ1.1 20 ((σ1.1 77 y2.toNatClampNeg).toNatClampNeg))) = 8 then lj_bv (lj_R lm_P 123 [.ref 0, .int 2001, .int 3, .long ((((σ1.1 21 ((σ1.1 77 y2.toNatClampNeg).toNatClampNeg))) : Int32).toInt64)] (lj_put σ1 77 y2.toNatClampNeg ((σ1.1 77 y2.toNatClampNeg) + 1))) (fun σ9 => lj_bv (lj_R lm_P 116 [.ref 0, .int (σ9.1 0 90), .long (σ9.2 0 91)] σ9) (fun σ10 => lj_D lm_P lm_M121 398 [.ref 0, .int y2, .int (σ1.1 77 y2.toNatClampNeg), .int ((σ1.1 21 ((σ1.1 77 y2.toNatClampNeg).toNatClampNeg))), .retAddr 0, .retAddr 0, .retAddr 0] [] σ10) lj_up) lj_up else (if ((σ1.1 20 ((σ1.1 77 y2.toNatClampNeg).toNatClampNeg))) = 9 then lj_D lm_P lm_M121 286 [.ref 0, .int y2, .int (σ1.1 77 y2.toNatClampNeg), .int ((σ1.1 21 ((σ1.1 77 y2.toNatClampNeg).toNatClampNeg))), .retAddr 0, .retAddr 0, .retAddr 0] [] (lj_put σ1 77 y2.toNatClampNeg ((σ1.1 77 y2.toNatClampNeg) + 1)) else (if ((σ1.1 20 ((σ1.1 77 y2.toNatClampNeg).toNatClampNeg))) = 10 then lj_D lm_P lm_M121 286 [.ref 0, .int y2, .int (σ1.1 77 y2.toNatClampNeg), .int ((σ1.1 21 ((σ1.1 77 y2.toNatClampNeg).toNatClampNeg))), .retAddr 0, .retAddr 0, .retAddr 0] [] (lj_put σ1 77 y2.toNatClampNeg ((σ1.1 77 y2.toNatClampNeg) + 1)) else (if ((σ1.1 20 ((σ1.1 77 y2.toNatClampNeg).toNatClampNeg))) = 11 then lj_bi (lj_R lm_P 124 [.ref 0, .int 0] (lj_put σ1 77 y2.toNatClampNeg ((σ1.1 77 y2.toNatClampNeg) + 1))) (fun y12 σ11 => lj_bl (lj_R lm_P 125 [.ref 0, .int 0] σ11) (fun y14 σ13 => lj_bi (lj_R lm_P 108 [.ref 0, .int 2001, .int 3, .long ((((σ1.1 21 ((σ1.1 77 y2.toNatClampNeg).toNatClampNeg))) : Int32).toInt64), .int y12, .long y14] σ13) (fun y16 σ15 => lj_bv (lj_R lm_P 126 [.ref 0, .int 1] σ15) (fun σ17 => lj_D lm_P lm_M121 398 [.ref 0, .int y2, .int (σ1.1 77 y2.toNatClampNeg), .int ((σ1.1 21 ((σ1.1 77 y2.toNatClampNeg).toNatClampNeg))), .retAddr 0, .retAddr 0, .int y16] [] σ17) lj_up) lj_up) lj_up) lj_up else lj_D lm_P lm_M121 391 [.ref 0, .int y2, .int (σ1.1 77 y2.toNatClampNeg), .int ((σ1.1 21 ((σ1.1 77 y2.toNatClampNeg).toNatClampNeg))), .retAddr 0, .retAddr 0, .retAddr 0] [] (lj_put σ1 77 y2.toNatClampNeg ((σ1.1 77 y2.toNatClampNeg) + 1))))))))))))) else none) else none)) else none) else none) else none)) lj_up := by rw [lj_D_eq]; rfl
set_option maxRecDepth 100000 in
set_option maxHeartbeats 4000000 in
theorem km_121_286 (x1 : Int32) (x2 : Int32) (x3 : Int32) (σ : lj_S) : lj_D lm_P lm_M121 286 [.ref 0, .int x1, .int x2, .int x3, .retAddr 0, .retAddr 0, .retAddr 0] [] σ = (if lj_in x2 14000 then (if (σ.1 20 x2.toNatClampNeg) = 9 then (if lj_in ((50 * x1) + x3) 62400 then lj_D lm_P lm_M121 327 [.ref 0, .int x1, .int x2, .int x3, .retAddr 0, .retAddr 0, .retAddr 0] [.int ((σ.1 87 (((50 * x1) + x3).toNatClampNeg)))] σ else none) else (if lj_in x1 1248 then (if lj_in ((30 * (σ.1 76 x1.toNatClampNeg)) + x3) 60060 then lj_D lm_P lm_M121 327 [.ref 0, .int x1, .int x2, .int x3, .retAddr 0, .retAddr 0, .retAddr 0] [.int ((σ.1 44 (((30 * (σ.1 76 x1.toNatClampNeg)) + x3).toNatClampNeg)))] σ else none) else none)) else none) := by rw [lj_D_eq]; rfl
set_option maxRecDepth 100000 in
set_option maxHeartbeats 4000000 in
theorem km_121_327 (x1 : Int32) (x2 : Int32) (x3 : Int32) (x50 : Int32) (σ : lj_S) : lj_D lm_P lm_M121 327 [.ref 0, .int x1, .int x2, .int x3, .retAddr 0, .retAddr 0, .retAddr 0] [.int x50] σ = lj_bi (lj_R lm_P 124 [.ref 0, .int 0] σ) (fun y2 σ1 => (if lj_in x50 95000 then lj_bl (lj_R lm_P 125 [.ref 0, .int 0] (lj_put σ1 54 x50.toNatClampNeg y2)) (fun y4 σ3 => (if lj_in x50 95000 then lj_bv (lj_R lm_P 126 [.ref 0, .int 1] (lj_putL σ3 55 x50.toNatClampNeg y4)) (fun σ5 => lj_D lm_P lm_M121 398 [.ref 0, .int x1, .int x2, .int x3, .retAddr 0, .int x50, .retAddr 0] [] σ5) lj_up else none)) lj_up else none)) lj_up := by rw [lj_D_eq]; rfl
set_option maxRecDepth 100000 in
set_option maxHeartbeats 4000000 in
theorem km_121_391 (x1 : Int32) (x2 : Int32) (x3 : Int32) (σ : lj_S) : lj_D lm_P lm_M121 391 [.ref 0, .int x1, .int x2, .int x3, .retAddr 0, .retAddr 0, .retAddr 0] [] σ = lj_bv (lj_R lm_P 127 [.ref 0, .int x1, .int x2, .int x3] σ) (fun σ1 => lj_D lm_P lm_M121 398 [.ref 0, .int x1, .int x2, .int x3, .retAddr 0, .retAddr 0, .retAddr 0] [] σ1) lj_up := by rw [lj_D_eq]; rfl
set_option maxRecDepth 100000 in
set_option maxHeartbeats 4000000 in
theorem km_121_398 (x1 : Int32) (x2 : Int32) (x3 : Int32) (x4 : Value) (x5 : Value) (x6 : Value) (σ : lj_S) : lj_D lm_P lm_M121 398 [.ref 0, .int x1, .int x2, .int x3, x4, x5, x6] [] σ = some (.inl (some (.int 1)), σ) := by rw [lj_D_eq]; rfl
-- TableTongueModel.frame()I
set_option maxRecDepth 100000 in
theorem rm_122  (σ : lj_S) : lj_R lm_P 122 [.ref 0] σ = lj_D lm_P lm_M122 0 [.ref 0] [] σ := lj_R_eq (nL := 1) (M := lm_M122) _ _ _ _ rfl rfl
set_option maxRecDepth 100000 in
set_option maxHeartbeats 4000000 in
theorem km_122_0  (σ : lj_S) : lj_D lm_P lm_M122 0 [.ref 0] [] σ = (if lj_in (σ.1 0 111) 26 then some (.inl (some (.int (((48 * (σ.1 0 111)) + ((σ.1 62 ((σ.1 0 111).toNatClampNeg)))) - 1))), σ) else none) := by rw [lj_D_eq]; rfl
-- TableTongueModel.get(IIJ)V
set_option maxRecDepth 100000 in
theorem rm_123 (x1 : Int32) (x2 : Int32) (x3 : Int64) (σ : lj_S) : lj_R lm_P 123 [.ref 0, .int x1, .int x2, .long x3] σ = lj_D lm_P lm_M123 0 [.ref 0, .int x1, .int x2, .long x3, .retAddr 0, .retAddr 0] [] σ := lj_R_eq (nL := 6) (M := lm_M123) _ _ _ _ rfl rfl
set_option maxRecDepth 100000 in
set_option maxHeartbeats 4000000 in
theorem km_123_0 (x1 : Int32) (x2 : Int32) (x3 : Int64) (σ : lj_S) : lj_D lm_P lm_M123 0 [.ref 0, .int x1, .int x2, .long x3, .retAddr 0, .retAddr 0] [] σ = lj_bi (lj_R lm_P 109 [.ref 0, .int x1, .int x2, .long x3] σ) (fun y2 σ1 => (if 0 ≤ y2 then (if lj_in y2 3001 then lj_D lm_P lm_M123 26 [.ref 0, .int x1, .int x2, .long x3, .retAddr 0, .int y2] [.int (σ1.1 47 y2.toNatClampNeg), .ref 0] σ1 else none) else lj_D lm_P lm_M123 26 [.ref 0, .int x1, .int x2, .long x3, .retAddr 0, .int y2] [.int 0, .ref 0] σ1)) lj_up := by rw [lj_D_eq]; rfl
set_option maxRecDepth 100000 in
set_option maxHeartbeats 4000000 in
theorem km_123_26 (x1 : Int32) (x2 : Int32) (x3 : Int64) (x5 : Int32) (x50 : Int32) (σ : lj_S) : lj_D lm_P lm_M123 26 [.ref 0, .int x1, .int x2, .long x3, .retAddr 0, .int x5] [.int x50, .ref 0] σ = (if x5 < 0 then lj_D lm_P lm_M123 45 [.ref 0, .int x1, .int x2, .long x3, .retAddr 0, .int x5] [.ref 0] (lj_put σ 0 90 x50) else (if lj_in x5 3001 then (if (σ.1 47 x5.toNatClampNeg) = 0 then lj_D lm_P lm_M123 45 [.ref 0, .int x1, .int x2, .long x3, .retAddr 0, .int x5] [.ref 0] (lj_put σ 0 90 x50) else (if lj_in x5 3001 then lj_D lm_P lm_M123 56 [.ref 0, .int x1, .int x2, .long x3, .retAddr 0, .int x5] [.long (σ.2 48 x5.toNatClampNeg), .ref 0] (lj_put σ 0 90 x50) else none)) else none)) := by rw [lj_D_eq]; rfl
set_option maxRecDepth 100000 in
set_option maxHeartbeats 4000000 in
theorem km_123_45 (x1 : Int32) (x2 : Int32) (x3 : Int64) (x5 : Int32) (σ : lj_S) : lj_D lm_P lm_M123 45 [.ref 0, .int x1, .int x2, .long x3, .retAddr 0, .int x5] [.ref 0] σ = lj_D lm_P lm_M123 56 [.ref 0, .int x1, .int x2, .long x3, .retAddr 0, .int x5] [.long 0, .ref 0] σ := by rw [lj_D_eq]; rfl
set_option maxRecDepth 100000 in
set_option maxHeartbeats 4000000 in
theorem km_123_56 (x1 : Int32) (x2 : Int32) (x3 : Int64) (x5 : Int32) (x50 : Int64) (σ : lj_S) : lj_D lm_P lm_M123 56 [.ref 0, .int x1, .int x2, .long x3, .retAddr 0, .int x5] [.long x50, .ref 0] σ = some (.inl none, (lj_putL σ 0 91 x50)) := by rw [lj_D_eq]; rfl
-- TableTongueModel.topKind(I)I
set_option maxRecDepth 100000 in
theorem rm_124 (x1 : Int32) (σ : lj_S) : lj_R lm_P 124 [.ref 0, .int x1] σ = lj_D lm_P lm_M124 0 [.ref 0, .int x1] [] σ := lj_R_eq (nL := 2) (M := lm_M124) _ _ _ _ rfl rfl
set_option maxRecDepth 100000 in
set_option maxHeartbeats 4000000 in
theorem km_124_0 (x1 : Int32) (σ : lj_S) : lj_D lm_P lm_M124 0 [.ref 0, .int x1] [] σ = (if lj_in (σ.1 0 111) 26 then (if lj_in ((((10000 * (σ.1 0 111)) + ((σ.1 63 ((σ.1 0 111).toNatClampNeg)))) - 1) - x1) 260000 then some (.inl (some (.int ((σ.1 71 (((((10000 * (σ.1 0 111)) + ((σ.1 63 ((σ.1 0 111).toNatClampNeg)))) - 1) - x1).toNatClampNeg))))), σ) else none) else none) := by rw [lj_D_eq]; rfl
-- TableTongueModel.topNumber(I)J
set_option maxRecDepth 100000 in
theorem rm_125 (x1 : Int32) (σ : lj_S) : lj_R lm_P 125 [.ref 0, .int x1] σ = lj_D lm_P lm_M125 0 [.ref 0, .int x1] [] σ := lj_R_eq (nL := 2) (M := lm_M125) _ _ _ _ rfl rfl
set_option maxRecDepth 100000 in
set_option maxHeartbeats 4000000 in
theorem km_125_0 (x1 : Int32) (σ : lj_S) : lj_D lm_P lm_M125 0 [.ref 0, .int x1] [] σ = (if lj_in (σ.1 0 111) 26 then (if lj_in ((((10000 * (σ.1 0 111)) + ((σ.1 63 ((σ.1 0 111).toNatClampNeg)))) - 1) - x1) 260000 then some (.inl (some (.long ((σ.2 72 (((((10000 * (σ.1 0 111)) + ((σ.1 63 ((σ.1 0 111).toNatClampNeg)))) - 1) - x1).toNatClampNeg))))), σ) else none) else none) := by rw [lj_D_eq]; rfl
-- TableTongueModel.drop(I)V
set_option maxRecDepth 100000 in
theorem rm_126 (x1 : Int32) (σ : lj_S) : lj_R lm_P 126 [.ref 0, .int x1] σ = lj_D lm_P lm_M126 0 [.ref 0, .int x1] [] σ := lj_R_eq (nL := 2) (M := lm_M126) _ _ _ _ rfl rfl
set_option maxRecDepth 100000 in
set_option maxHeartbeats 4000000 in
theorem km_126_0 (x1 : Int32) (σ : lj_S) : lj_D lm_P lm_M126 0 [.ref 0, .int x1] [] σ = (if lj_in (σ.1 0 111) 26 then (if lj_in (σ.1 0 111) 26 then some (.inl none, (lj_put σ 63 ((σ.1 0 111).toNatClampNeg) (((σ.1 63 ((σ.1 0 111).toNatClampNeg))) - x1))) else none) else none) := by rw [lj_D_eq]; rfl
-- TableTongueModel.wordMore(III)V
set_option maxRecDepth 100000 in
theorem rm_127 (x1 : Int32) (x2 : Int32) (x3 : Int32) (σ : lj_S) : lj_R lm_P 127 [.ref 0, .int x1, .int x2, .int x3] σ = lj_D lm_P lm_M127 0 [.ref 0, .int x1, .int x2, .int x3, .retAddr 0, .retAddr 0, .retAddr 0, .retAddr 0, .retAddr 0, .retAddr 0, .retAddr 0] [] σ := lj_R_eq (nL := 11) (M := lm_M127) _ _ _ _ rfl rfl
set_option maxRecDepth 100000 in
set_option maxHeartbeats 4000000 in
theorem km_127_0 (x1 : Int32) (x2 : Int32) (x3 : Int32) (σ : lj_S) : lj_D lm_P lm_M127 0 [.ref 0, .int x1, .int x2, .int x3, .retAddr 0, .retAddr 0, .retAddr 0, .retAddr 0, .retAddr 0, .retAddr 0, .retAddr 0] [] σ = lj_bi (lj_R lm_P 128 [.ref 0, .int 0] σ) (fun y2 σ1 => (if 0 ≤ y2 then lj_bl (lj_R lm_P 125 [.ref 0, .int 0] σ1) (fun y4 σ3 => lj_D lm_P lm_M127 21 [.ref 0, .int x1, .int x2, .int x3, .int y2, .retAddr 0, .retAddr 0, .retAddr 0, .retAddr 0, .retAddr 0, .retAddr 0] [.long y4] σ3) lj_up else lj_D lm_P lm_M127 21 [.ref 0, .int x1, .int x2, .int x3, .int y2, .retAddr 0, .retAddr 0, .retAddr 0, .retAddr 0, .retAddr 0, .retAddr 0] [.long 0] σ1)) lj_up := by rw [lj_D_eq]; rfl
set_option maxRecDepth 100000 in
set_option maxHeartbeats 4000000 in
theorem km_127_21 (x1 : Int32) (x2 : Int32) (x3 : Int32) (x4 : Int32) (x50 : Int64) (σ : lj_S) : lj_D lm_P lm_M127 21 [.ref 0, .int x1, .int x2, .int x3, .int x4, .retAddr 0, .retAddr 0, .retAddr 0, .retAddr 0, .retAddr 0, .retAddr 0] [.long x50] σ = (if lj_in x2 14000 then (if (σ.1 20 x2.toNatClampNeg) = 12 then lj_bi (lj_R lm_P 124 [.ref 0, .int 1] σ) (fun y2 σ1 => lj_bl (lj_R lm_P 125 [.ref 0, .int 1] σ1) (fun y4 σ3 => lj_bv (lj_R lm_P 126 [.ref 0, .int 2] σ3) (fun σ5 => (if lj_in x2 14000 then lj_bv (lj_R lm_P 129 [.ref 0, .int y2, .long y4, .int x4, .long x50, .int (σ5.1 23 x2.toNatClampNeg)] σ5) (fun σ6 => lj_D lm_P lm_M127 420 [.ref 0, .int x1, .int x2, .int x3, .int x4, .long x50, .retAddr 0, .int y2, .long y4, .retAddr 0, .retAddr 0] [] σ6) lj_up else none)) lj_up) lj_up) lj_up else (if (σ.1 20 x2.toNatClampNeg) = 13 then (if lj_in x2 14000 then lj_bv (lj_R lm_P 143 [.ref 0, .int x3, .int (σ.1 23 x2.toNatClampNeg)] σ) (fun σ7 => lj_D lm_P lm_M127 420 [.ref 0, .int x1, .int x2, .int x3, .int x4, .long x50, .retAddr 0, .retAddr 0, .retAddr 0, .retAddr 0, .retAddr 0] [] σ7) lj_up else none) else (if (σ.1 20 x2.toNatClampNeg) = 14 then (if lj_in (σ.1 0 111) 26 then lj_bv (lj_R lm_P 147 [.ref 0, .int ((σ.1 63 ((σ.1 0 111).toNatClampNeg)))] σ) (fun σ8 => lj_D lm_P lm_M127 420 [.ref 0, .int x1, .int x2, .int x3, .int x4, .long x50, .retAddr 0, .retAddr 0, .retAddr 0, .retAddr 0, .retAddr 0] [] σ8) lj_up else none) else (if (σ.1 20 x2.toNatClampNeg) = 15 then (if lj_in (σ.1 0 111) 26 then lj_bv (lj_R lm_P 147 [.ref 0, .int (((σ.1 63 ((σ.1 0 111).toNatClampNeg))) - 1)] σ) (fun σ9 => lj_D lm_P lm_M127 420 [.ref 0, .int x1, .int x2, .int x3, .int x4, .long x50, .retAddr 0, .retAddr 0, .retAddr 0, .retAddr 0, .retAddr 0] [] σ9) lj_up else none) else (if (σ.1 20 x2.toNatClampNeg) = 16 then (if lj_in x2 14000 then lj_bv (lj_R lm_P 148 [.ref 0, .int x3, .int (σ.1 23 x2.toNatClampNeg)] σ) (fun σ10 => lj_D lm_P lm_M127 420 [.ref 0, .int x1, .int x2, .int x3, .int x4, .long x50, .retAddr 0, .retAddr 0, .retAddr 0, .retAddr 0, .retAddr 0] [] σ10) lj_up else none) else (if (σ.1 20 x2.toNatClampNeg) = 17 then (if lj_in (σ.1 0 111) 26 then lj_bi (lj_R lm_P 144 [.ref 0] σ) (fun y12 σ11 => (if (((σ.1 63 ((σ.1 0 111).toNatClampNeg))) - y12) ≤ 30 then lj_D lm_P lm_M127 420 [.ref 0, .int x1, .int x2, .int x3, .int x4, .long x50, .retAddr 0, .retAddr 0, .retAddr 0, .retAddr 0, .retAddr 0] [] σ11 else (if lj_in x2 14000 then lj_bv (lj_R lm_P 142 [.ref 0, .int 4, .int (σ11.1 23 x2.toNatClampNeg)] σ11) (fun σ13 => lj_D lm_P lm_M127 420 [.ref 0, .int x1, .int x2, .int x3, .int x4, .long x50, .retAddr 0, .retAddr 0, .retAddr 0, .retAddr 0, .retAddr 0] [] σ13) lj_up else none))) lj_up else none) else (if (σ.1 20 x2.toNatClampNeg) = 18 then lj_bv (lj_R lm_P 149 [.ref 0, .int x3] σ) (fun σ14 => lj_D lm_P lm_M127 420 [.ref 0, .int x1, .int x2, .int x3, .int x4, .long x50, .retAddr 0, .retAddr 0, .retAddr 0, .retAddr 0, .retAddr 0] [] σ14) lj_up else (if (σ.1 20 x2.toNatClampNeg) = 19 then lj_bv (lj_R lm_P 150 [.ref 0, .int x1, .int x3, .int x4, .long x50] σ) (fun σ15 => lj_bv (lj_R lm_P 126 [.ref 0, .int 1] σ15) (fun σ16 => lj_D lm_P lm_M127 420 [.ref 0, .int x1, .int x2, .int x3, .int x4, .long x50, .retAddr 0, .retAddr 0, .retAddr 0, .retAddr 0, .retAddr 0] [] σ16) lj_up) lj_up else (if (σ.1 20 x2.toNatClampNeg) = 20 then lj_D lm_P lm_M127 268 [.ref 0, .int x1, .int x2, .int x3, .int x4, .long x50, .retAddr 0, .retAddr 0, .retAddr 0, .retAddr 0, .int x3] [] σ else (if (σ.1 20 x2.toNatClampNeg) = 21 then (if lj_in x1 1248 then lj_D lm_P lm_M127 420 [.ref 0, .int x1, .int x2, .int x3, .int x4, .long x50, .retAddr 0, .retAddr 0, .retAddr 0, .retAddr 0, .retAddr 0] [] (lj_put σ 77 x1.toNatClampNeg x3) else none) else (if (σ.1 20 x2.toNatClampNeg) = 22 then lj_bv (lj_R lm_P 126 [.ref 0, .int 1] σ) (fun σ17 => lj_bi (lj_R lm_P 151 [.int x4, .long x50] σ17) (fun y19 σ18 => (if y19 = 0 then lj_D lm_P lm_M127 334 [.ref 0, .int x1, .int x2, .int x3, .int x4, .long x50, .retAddr 0, .retAddr 0, .retAddr 0, .retAddr 0, .retAddr 0] [.int x3, .int x1, .ref 77] σ18 else lj_D lm_P lm_M127 334 [.ref 0, .int x1, .int x2, .int x3, .int x4, .long x50, .retAddr 0, .retAddr 0, .retAddr 0, .retAddr 0, .retAddr 0] [.int (x2 + 1), .int x1, .ref 77] σ18)) lj_up) lj_up else (if (σ.1 20 x2.toNatClampNeg) = 23 then lj_D lm_P lm_M127 338 [.ref 0, .int x1, .int x2, .int x3, .int x4, .long x50, .retAddr 0, .retAddr 0, .retAddr 0, .retAddr 0, .retAddr 0] [] σ else (if (σ.1 20 x2.toNatClampNeg) = 24 then lj_D lm_P lm_M127 338 [.ref 0, .int x1, .int x2, .int x3, .int x4, .long x50, .retAddr 0, .retAddr 0, .retAddr 0, .retAddr 0, .retAddr 0] [] σ else (if (σ.1 20 x2.toNatClampNeg) = 25 then lj_bv (lj_R lm_P 152 [.ref 0, .int x3, .int x1] σ) (fun σ20 => lj_D lm_P lm_M127 420 [.ref 0, .int x1, .int x2, .int x3, .int x4, .long x50, .retAddr 0, .retAddr 0, .retAddr 0, .retAddr 0, .retAddr 0] [] σ20) lj_up else (if (σ.1 20 x2.toNatClampNeg) = 26 then lj_bi (lj_R lm_P 111 [.ref 0, .int 4] σ) (fun y22 σ21 => lj_bv (lj_R lm_P 116 [.ref 0, .int 4, .long ((y22 : Int32).toInt64)] σ21) (fun σ23 => lj_D lm_P lm_M127 420 [.ref 0, .int x1, .int x2, .int x3, .int x4, .long x50, .retAddr 0, .retAddr 0, .retAddr 0, .retAddr 0, .int y22] [] σ23) lj_up) lj_up else lj_bv (lj_R lm_P 153 [.ref 0, .int x1, .int x2, .int x3, .int x4, .long x50] σ) (fun σ24 => lj_D lm_P lm_M127 420 [.ref 0, .int x1, .int x2, .int x3, .int x4, .long x50, .retAddr 0, .retAddr 0, .retAddr 0, .retAddr 0, .retAddr 0] [] σ24) lj_up))))))))))))))) else none) := by rw [lj_D_eq]; rfl
set_option maxRecDepth 100000 in
set_option maxHeartbeats 4000000 in
theorem km_127_268 (x1 : Int32) (x2 : Int32) (x3 : Int32) (x4 : Int32) (x5 : Int64) (x10 : Int32) (σ : lj_S) : lj_D lm_P lm_M127 268 [.ref 0, .int x1, .int x2, .int x3, .int x4, .long x5, .retAddr 0, .retAddr 0, .retAddr 0, .retAddr 0, .int x10] [] σ = (if 50 ≤ x10 then lj_D lm_P lm_M127 420 [.ref 0, .int x1, .int x2, .int x3, .int x4, .long x5, .retAddr 0, .retAddr 0, .retAddr 0, .retAddr 0, .int x10] [] σ else (if lj_in ((50 * x1) + x10) 62400 then lj_D lm_P lm_M127 268 [.ref 0, .int x1, .int x2, .int x3, .int x4, .long x5, .retAddr 0, .retAddr 0, .retAddr 0, .retAddr 0, .int (x10 + 1)] [] (lj_put σ 87 (((50 * x1) + x10).toNatClampNeg) (-1)) else none)) := by rw [lj_D_eq]; rfl
set_option maxRecDepth 100000 in
set_option maxHeartbeats 4000000 in
theorem km_127_334 (x1 : Int32) (x2 : Int32) (x3 : Int32) (x4 : Int32) (x5 : Int64) (x50 : Int32) (x51 : Int32) (σ : lj_S) : lj_D lm_P lm_M127 334 [.ref 0, .int x1, .int x2, .int x3, .int x4, .long x5, .retAddr 0, .retAddr 0, .retAddr 0, .retAddr 0, .retAddr 0] [.int x50, .int x51, .ref 77] σ = (if lj_in x51 1248 then lj_D lm_P lm_M127 420 [.ref 0, .int x1, .int x2, .int x3, .int x4, .long x5, .retAddr 0, .retAddr 0, .retAddr 0, .retAddr 0, .retAddr 0] [] (lj_put σ 77 x51.toNatClampNeg x50) else none) := by rw [lj_D_eq]; rfl
set_option maxRecDepth 100000 in
set_option maxHeartbeats 4000000 in
theorem km_127_338 (x1 : Int32) (x2 : Int32) (x3 : Int32) (x4 : Int32) (x5 : Int64) (σ : lj_S) : lj_D lm_P lm_M127 338 [.ref 0, .int x1, .int x2, .int x3, .int x4, .long x5, .retAddr 0, .retAddr 0, .retAddr 0, .retAddr 0, .retAddr 0] [] σ = lj_bi (lj_R lm_P 151 [.int x4, .long x5] σ) (fun y2 σ1 => (if lj_in x2 14000 then (if (σ1.1 20 x2.toNatClampNeg) = 23 then lj_D lm_P lm_M127 361 [.ref 0, .int x1, .int x2, .int x3, .int x4, .long x5, .retAddr 0, .retAddr 0, .retAddr 0, .retAddr 0, .retAddr 0] [.int 1, .int y2] σ1 else lj_D lm_P lm_M127 361 [.ref 0, .int x1, .int x2, .int x3, .int x4, .long x5, .retAddr 0, .retAddr 0, .retAddr 0, .retAddr 0, .retAddr 0] [.int 0, .int y2] σ1) else none)) lj_up := by rw [lj_D_eq]; rfl
set_option maxRecDepth 100000 in
set_option maxHeartbeats 4000000 in
theorem km_127_361 (x1 : Int32) (x2 : Int32) (x3 : Int32) (x4 : Int32) (x5 : Int64) (x50 : Int32) (x51 : Int32) (σ : lj_S) : lj_D lm_P lm_M127 361 [.ref 0, .int x1, .int x2, .int x3, .int x4, .long x5, .retAddr 0, .retAddr 0, .retAddr 0, .retAddr 0, .retAddr 0] [.int x50, .int x51] σ = (if x51 = x50 then lj_bv (lj_R lm_P 126 [.ref 0, .int 1] σ) (fun σ1 => lj_D lm_P lm_M127 420 [.ref 0, .int x1, .int x2, .int x3, .int x4, .long x5, .retAddr 0, .retAddr 0, .retAddr 0, .retAddr 0, .retAddr 0] [] σ1) lj_up else (if lj_in x1 1248 then lj_D lm_P lm_M127 420 [.ref 0, .int x1, .int x2, .int x3, .int x4, .long x5, .retAddr 0, .retAddr 0, .retAddr 0, .retAddr 0, .retAddr 0] [] (lj_put σ 77 x1.toNatClampNeg x3) else none)) := by rw [lj_D_eq]; rfl
set_option maxRecDepth 100000 in
set_option maxHeartbeats 4000000 in
theorem km_127_420 (x1 : Int32) (x2 : Int32) (x3 : Int32) (x4 : Int32) (x5 : Int64) (x7 : Value) (x8 : Value) (x10 : Value) (σ : lj_S) : lj_D lm_P lm_M127 420 [.ref 0, .int x1, .int x2, .int x3, .int x4, .long x5, .retAddr 0, x7, x8, .retAddr 0, x10] [] σ = some (.inl none, σ) := by rw [lj_D_eq]; rfl
-- TableTongueModel.topKindOr(I)I
set_option maxRecDepth 100000 in
theorem rm_128 (x1 : Int32) (σ : lj_S) : lj_R lm_P 128 [.ref 0, .int x1] σ = lj_D lm_P lm_M128 0 [.ref 0, .int x1] [] σ := lj_R_eq (nL := 2) (M := lm_M128) _ _ _ _ rfl rfl
set_option maxRecDepth 100000 in
set_option maxHeartbeats 4000000 in
theorem km_128_0 (x1 : Int32) (σ : lj_S) : lj_D lm_P lm_M128 0 [.ref 0, .int x1] [] σ = (if lj_in (σ.1 0 111) 26 then (if ((σ.1 63 ((σ.1 0 111).toNatClampNeg))) ≤ x1 then lj_D lm_P lm_M128 22 [.ref 0, .int x1] [.int (-1)] σ else lj_bi (lj_R lm_P 124 [.ref 0, .int x1] σ) (fun y2 σ1 => lj_D lm_P lm_M128 22 [.ref 0, .int x1] [.int y2] σ1) lj_up) else none) := by rw [lj_D_eq]; rfl
set_option maxRecDepth 100000 in
set_option maxHeartbeats 4000000 in
theorem km_128_22 (x1 : Int32) (x50 : Int32) (σ : lj_S) : lj_D lm_P lm_M128 22 [.ref 0, .int x1] [.int x50] σ = some (.inl (some (.int x50)), σ) := by rw [lj_D_eq]; rfl
-- TableTongueModel.read(IJIJI)V
set_option maxRecDepth 100000 in
theorem rm_129 (x1 : Int32) (x2 : Int64) (x3 : Int32) (x4 : Int64) (x5 : Int32) (σ : lj_S) : lj_R lm_P 129 [.ref 0, .int x1, .long x2, .int x3, .long x4, .int x5] σ = lj_D lm_P lm_M129 0 [.ref 0, .int x1, .long x2, .retAddr 0, .int x3, .long x4, .retAddr 0, .int x5, .retAddr 0, .retAddr 0, .retAddr 0, .retAddr 0] [] σ := lj_R_eq (nL := 12) (M := lm_M129) _ _ _ _ rfl rfl
set_option maxRecDepth 100000 in
set_option maxHeartbeats 4000000 in
theorem km_129_0 (x1 : Int32) (x2 : Int64) (x4 : Int32) (x5 : Int64) (x7 : Int32) (σ : lj_S) : lj_D lm_P lm_M129 0 [.ref 0, .int x1, .long x2, .retAddr 0, .int x4, .long x5, .retAddr 0, .int x7, .retAddr 0, .retAddr 0, .retAddr 0, .retAddr 0] [] σ = lj_D lm_P lm_M129 9 [.ref 0, .int x1, .long x2, .retAddr 0, .int x4, .long x5, .retAddr 0, .int x7, .int x1, .long x2, .retAddr 0, .int 1] [] σ := by rw [lj_D_eq]; rfl
set_option maxRecDepth 100000 in
set_option maxHeartbeats 4000000 in
theorem km_129_9 (x1 : Int32) (x2 : Int64) (x4 : Int32) (x5 : Int64) (x7 : Int32) (x8 : Int32) (x9 : Int64) (x11 : Int32) (σ : lj_S) : lj_D lm_P lm_M129 9 [.ref 0, .int x1, .long x2, .retAddr 0, .int x4, .long x5, .retAddr 0, .int x7, .int x8, .long x9, .retAddr 0, .int x11] [] σ = (if 20 < x11 then lj_bv (lj_R lm_P 142 [.ref 0, .int 1, .int x7] σ) (fun σ1 => some (.inl none, σ1)) lj_up else (if x8 = 4 then lj_bv (lj_R lm_P 123 [.ref 0, .int ((x9 : Int64).toInt32), .int x4, .long x5] σ) (fun σ2 => (if (σ2.1 0 90) = 0 then lj_D lm_P lm_M129 53 [.ref 0, .int x1, .long x2, .retAddr 0, .int x4, .long x5, .retAddr 0, .int x7, .int x8, .long x9, .retAddr 0, .int x11] [] σ2 else lj_bv (lj_R lm_P 116 [.ref 0, .int (σ2.1 0 90), .long (σ2.2 0 91)] σ2) (fun σ3 => some (.inl none, σ3)) lj_up)) lj_up else lj_D lm_P lm_M129 53 [.ref 0, .int x1, .long x2, .retAddr 0, .int x4, .long x5, .retAddr 0, .int x7, .int x8, .long x9, .retAddr 0, .int x11] [] σ)) := by rw [lj_D_eq]; rfl
set_option maxRecDepth 100000 in
set_option maxHeartbeats 4000000 in
theorem km_129_53 (x1 : Int32) (x2 : Int64) (x4 : Int32) (x5 : Int64) (x7 : Int32) (x8 : Int32) (x9 : Int64) (x11 : Int32) (σ : lj_S) : lj_D lm_P lm_M129 53 [.ref 0, .int x1, .long x2, .retAddr 0, .int x4, .long x5, .retAddr 0, .int x7, .int x8, .long x9, .retAddr 0, .int x11] [] σ = lj_bv (lj_R lm_P 130 [.ref 0, .int x8, .long x9, .int 0] σ) (fun σ1 => (if (σ1.1 0 90) = 0 then (if x8 = 4 then lj_bv (lj_R lm_P 116 [.ref 0, .int 0, .long 0] σ1) (fun σ7 => lj_D lm_P lm_M129 93 [.ref 0, .int x1, .long x2, .retAddr 0, .int x4, .long x5, .retAddr 0, .int x7, .int x8, .long x9, .retAddr 0, .int x11] [] σ7) lj_up else lj_bv (lj_R lm_P 131 [.ref 0, .int 0, .int x7, .int x8] σ1) (fun σ6 => lj_D lm_P lm_M129 93 [.ref 0, .int x1, .long x2, .retAddr 0, .int x4, .long x5, .retAddr 0, .int x7, .int x8, .long x9, .retAddr 0, .int x11] [] σ6) lj_up) else lj_bi (lj_R lm_P 140 [.int (σ1.1 0 90)] σ1) (fun y3 σ2 => (if y3 = 0 then lj_D lm_P lm_M129 9 [.ref 0, .int x1, .long x2, .retAddr 0, .int x4, .long x5, .retAddr 0, .int x7, .int (σ2.1 0 90), .long (σ2.2 0 91), .retAddr 0, .int (x11 + 1)] [] σ2 else lj_bv (lj_R lm_P 112 [.ref 0, .int 0, .int 1, .int x7] σ2) (fun σ4 => lj_bv (lj_R lm_P 141 [.ref 0, .int (σ4.1 0 90), .long (σ4.2 0 91), .int x8, .long x9, .int x4, .long x5] σ4) (fun σ5 => some (.inl none, σ5)) lj_up) lj_up)) lj_up)) lj_up := by rw [lj_D_eq]; rfl
set_option maxRecDepth 100000 in
set_option maxHeartbeats 4000000 in
theorem km_129_93 (x1 : Int32) (x2 : Int64) (x4 : Int32) (x5 : Int64) (x7 : Int32) (x8 : Int32) (x9 : Int64) (x11 : Int32) (σ : lj_S) : lj_D lm_P lm_M129 93 [.ref 0, .int x1, .long x2, .retAddr 0, .int x4, .long x5, .retAddr 0, .int x7, .int x8, .long x9, .retAddr 0, .int x11] [] σ = some (.inl none, σ) := by rw [lj_D_eq]; rfl
-- TableTongueModel.event(IJI)V
set_option maxRecDepth 100000 in
theorem rm_130 (x1 : Int32) (x2 : Int64) (x3 : Int32) (σ : lj_S) : lj_R lm_P 130 [.ref 0, .int x1, .long x2, .int x3] σ = lj_D lm_P lm_M130 0 [.ref 0, .int x1, .long x2, .retAddr 0, .int x3] [] σ := lj_R_eq (nL := 5) (M := lm_M130) _ _ _ _ rfl rfl
set_option maxRecDepth 100000 in
set_option maxHeartbeats 4000000 in
theorem km_130_0 (x1 : Int32) (x2 : Int64) (x4 : Int32) (σ : lj_S) : lj_D lm_P lm_M130 0 [.ref 0, .int x1, .long x2, .retAddr 0, .int x4] [] σ = (if x1 = 4 then (if lj_in ((x2 : Int64).toInt32) 2002 then (if ((σ.1 39 (((x2 : Int64).toInt32).toNatClampNeg))) ≤ 0 then lj_D lm_P lm_M130 33 [.ref 0, .int x1, .long x2, .retAddr 0, .int x4] [] σ else (if lj_in ((x2 : Int64).toInt32) 2002 then lj_bv (lj_R lm_P 123 [.ref 0, .int ((σ.1 39 (((x2 : Int64).toInt32).toNatClampNeg))), .int 3, .long ((x4 : Int32).toInt64)] σ) (fun σ1 => lj_D lm_P lm_M130 43 [.ref 0, .int x1, .long x2, .retAddr 0, .int x4] [] σ1) lj_up else none)) else none) else lj_D lm_P lm_M130 33 [.ref 0, .int x1, .long x2, .retAddr 0, .int x4] [] σ) := by rw [lj_D_eq]; rfl
set_option maxRecDepth 100000 in
set_option maxHeartbeats 4000000 in
theorem km_130_33 (x1 : Int32) (x2 : Int64) (x4 : Int32) (σ : lj_S) : lj_D lm_P lm_M130 33 [.ref 0, .int x1, .long x2, .retAddr 0, .int x4] [] σ = lj_D lm_P lm_M130 43 [.ref 0, .int x1, .long x2, .retAddr 0, .int x4] [] (lj_putL (lj_put σ 0 90 0) 0 91 0) := by rw [lj_D_eq]; rfl
set_option maxRecDepth 100000 in
set_option maxHeartbeats 4000000 in
theorem km_130_43 (x1 : Int32) (x2 : Int64) (x4 : Int32) (σ : lj_S) : lj_D lm_P lm_M130 43 [.ref 0, .int x1, .long x2, .retAddr 0, .int x4] [] σ = some (.inl none, σ) := by rw [lj_D_eq]; rfl
-- TableTongueModel.errorOf(III)V
set_option maxRecDepth 100000 in
theorem rm_131 (x1 : Int32) (x2 : Int32) (x3 : Int32) (σ : lj_S) : lj_R lm_P 131 [.ref 0, .int x1, .int x2, .int x3] σ = lj_D lm_P lm_M131 0 [.ref 0, .int x1, .int x2, .int x3] [] σ := lj_R_eq (nL := 4) (M := lm_M131) _ _ _ _ rfl rfl
set_option maxRecDepth 100000 in
set_option maxHeartbeats 4000000 in
theorem km_131_0 (x1 : Int32) (x2 : Int32) (x3 : Int32) (σ : lj_S) : lj_D lm_P lm_M131 0 [.ref 0, .int x1, .int x2, .int x3] [] σ = lj_bv (lj_R lm_P 132 [.ref 0, .int x2, .int x1] σ) (fun σ1 => lj_bi (lj_R lm_P 136 [.int x3] σ1) (fun y3 σ2 => lj_bv (lj_R lm_P 137 [.ref 0, .int y3] σ2) (fun σ4 => lj_bv (lj_R lm_P 138 [.ref 0] σ4) (fun σ5 => some (.inl none, σ5)) lj_up) lj_up) lj_up) lj_up := by rw [lj_D_eq]; rfl
-- TableTongueModel.begin(II)V
set_option maxRecDepth 100000 in
theorem rm_132 (x1 : Int32) (x2 : Int32) (σ : lj_S) : lj_R lm_P 132 [.ref 0, .int x1, .int x2] σ = lj_D lm_P lm_M132 0 [.ref 0, .int x1, .int x2] [] σ := lj_R_eq (nL := 3) (M := lm_M132) _ _ _ _ rfl rfl
set_option maxRecDepth 100000 in
set_option maxHeartbeats 4000000 in
theorem km_132_0 (x1 : Int32) (x2 : Int32) (σ : lj_S) : lj_D lm_P lm_M132 0 [.ref 0, .int x1, .int x2] [] σ = lj_bv (lj_R lm_P 133 [.ref 0, .long ((x1 : Int32).toInt64)] (lj_put σ 0 20 0)) (fun σ1 => lj_bv (lj_R lm_P 134 [.ref 0, .int 58] σ1) (fun σ2 => lj_bv (lj_R lm_P 134 [.ref 0, .int 32] σ2) (fun σ3 => lj_bv (lj_R lm_P 135 [.ref 0, .int x2] σ3) (fun σ4 => some (.inl none, σ4)) lj_up) lj_up) lj_up) lj_up := by rw [lj_D_eq]; rfl
-- TableTongueModel.digits(J)V
set_option maxRecDepth 100000 in
theorem rm_133 (x1 : Int64) (σ : lj_S) : lj_R lm_P 133 [.ref 0, .long x1] σ = lj_D lm_P lm_M133 0 [.ref 0, .long x1, .retAddr 0, .retAddr 0, .retAddr 0, .retAddr 0, .retAddr 0] [] σ := lj_R_eq (nL := 7) (M := lm_M133) _ _ _ _ rfl rfl
set_option maxRecDepth 100000 in
set_option maxHeartbeats 4000000 in
theorem km_133_0 (x1 : Int64) (σ : lj_S) : lj_D lm_P lm_M133 0 [.ref 0, .long x1, .retAddr 0, .retAddr 0, .retAddr 0, .retAddr 0, .retAddr 0] [] σ = (if 0 ≤ (lg_cmp x1 0) then lj_D lm_P lm_M133 12 [.ref 0, .long x1, .retAddr 0, .retAddr 0, .retAddr 0, .retAddr 0, .retAddr 0] [] σ else lj_bv (lj_R lm_P 134 [.ref 0, .int 45] σ) (fun σ1 => lj_D lm_P lm_M133 12 [.ref 0, .long x1, .retAddr 0, .retAddr 0, .retAddr 0, .retAddr 0, .retAddr 0] [] σ1) lj_up) := by rw [lj_D_eq]; rfl
set_option maxRecDepth 100000 in
set_option maxHeartbeats 4000000 in
theorem km_133_12 (x1 : Int64) (σ : lj_S) : lj_D lm_P lm_M133 12 [.ref 0, .long x1, .retAddr 0, .retAddr 0, .retAddr 0, .retAddr 0, .retAddr 0] [] σ = lj_D lm_P lm_M133 14 [.ref 0, .long x1, .retAddr 0, .long 1, .retAddr 0, .retAddr 0, .retAddr 0] [] σ := by rw [lj_D_eq]; rfl
set_option maxRecDepth 100000 in
set_option maxHeartbeats 4000000 in
theorem km_133_14 (x1 : Int64) (x3 : Int64) (σ : lj_S) : lj_D lm_P lm_M133 14 [.ref 0, .long x1, .retAddr 0, .long x3, .retAddr 0, .retAddr 0, .retAddr 0] [] σ = (if x3 = 0 then none else (if 0 < (lg_cmp (x1 / x3) 9) then lj_D lm_P lm_M133 34 [.ref 0, .long x1, .retAddr 0, .long x3, .retAddr 0, .retAddr 0, .retAddr 0] [] σ else (if x3 = 0 then none else (if 0 ≤ (lg_cmp (x1 / x3) (-9)) then lj_D lm_P lm_M133 43 [.ref 0, .long x1, .retAddr 0, .long x3, .retAddr 0, .retAddr 0, .retAddr 0] [] σ else lj_D lm_P lm_M133 34 [.ref 0, .long x1, .retAddr 0, .long x3, .retAddr 0, .retAddr 0, .retAddr 0] [] σ)))) := by rw [lj_D_eq]; rfl
set_option maxRecDepth 100000 in
set_option maxHeartbeats 4000000 in
theorem km_133_34 (x1 : Int64) (x3 : Int64) (σ : lj_S) : lj_D lm_P lm_M133 34 [.ref 0, .long x1, .retAddr 0, .long x3, .retAddr 0, .retAddr 0, .retAddr 0] [] σ = lj_D lm_P lm_M133 14 [.ref 0, .long x1, .retAddr 0, .long (10 * x3), .retAddr 0, .retAddr 0, .retAddr 0] [] σ := by rw [lj_D_eq]; rfl
set_option maxRecDepth 100000 in
set_option maxHeartbeats 4000000 in
theorem km_133_43 (x1 : Int64) (x3 : Int64) (x5 : Value) (σ : lj_S) : lj_D lm_P lm_M133 43 [.ref 0, .long x1, .retAddr 0, .long x3, .retAddr 0, x5, .retAddr 0] [] σ = (if (lg_cmp x3 0) ≤ 0 then some (.inl none, σ) else (if x3 = 0 then none else (if (10 : Int64) = 0 then none else (if 0 ≤ (lg_cmp ((x1 / x3) - (x1 / x3) / 10 * 10) 0) then lj_D lm_P lm_M133 76 [.ref 0, .long x1, .retAddr 0, .long x3, .retAddr 0, .long ((x1 / x3) - (x1 / x3) / 10 * 10), .retAddr 0] [.long ((x1 / x3) - (x1 / x3) / 10 * 10), .int 48, .ref 0] σ else lj_D lm_P lm_M133 76 [.ref 0, .long x1, .retAddr 0, .long x3, .retAddr 0, .long ((x1 / x3) - (x1 / x3) / 10 * 10), .retAddr 0] [.long (-((x1 / x3) - (x1 / x3) / 10 * 10)), .int 48, .ref 0] σ)))) := by rw [lj_D_eq]; rfl
set_option maxRecDepth 100000 in
set_option maxHeartbeats 4000000 in
theorem km_133_76 (x1 : Int64) (x3 : Int64) (x5 : Int64) (x50 : Int64) (x51 : Int32) (σ : lj_S) : lj_D lm_P lm_M133 76 [.ref 0, .long x1, .retAddr 0, .long x3, .retAddr 0, .long x5, .retAddr 0] [.long x50, .int x51, .ref 0] σ = lj_bv (lj_R lm_P 134 [.ref 0, .int (x51 + ((x50 : Int64).toInt32))] σ) (fun σ1 => (if (10 : Int64) = 0 then none else lj_D lm_P lm_M133 43 [.ref 0, .long x1, .retAddr 0, .long (x3 / 10), .retAddr 0, .long x5, .retAddr 0] [] σ1)) lj_up := by rw [lj_D_eq]; rfl
-- TableTongueModel.digit(I)V
set_option maxRecDepth 100000 in
theorem rm_134 (x1 : Int32) (σ : lj_S) : lj_R lm_P 134 [.ref 0, .int x1] σ = lj_D lm_P lm_M134 0 [.ref 0, .int x1] [] σ := lj_R_eq (nL := 2) (M := lm_M134) _ _ _ _ rfl rfl
set_option maxRecDepth 100000 in
set_option maxHeartbeats 4000000 in
theorem km_134_0 (x1 : Int32) (σ : lj_S) : lj_D lm_P lm_M134 0 [.ref 0, .int x1] [] σ = (if lj_in (σ.1 0 20) 4200 then some (.inl none, (lj_put (lj_put σ 8 ((σ.1 0 20).toNatClampNeg) (vp_nar .byte ((x1 : Int32).toInt8.toInt32))) 0 20 ((σ.1 0 20) + 1))) else none) := by rw [lj_D_eq]; rfl
-- TableTongueModel.words(I)V
set_option maxRecDepth 100000 in
theorem rm_135 (x1 : Int32) (σ : lj_S) : lj_R lm_P 135 [.ref 0, .int x1] σ = lj_D lm_P lm_M135 0 [.ref 0, .int x1] [] σ := lj_R_eq (nL := 2) (M := lm_M135) _ _ _ _ rfl rfl
set_option maxRecDepth 100000 in
set_option maxHeartbeats 4000000 in
theorem km_135_0 (x1 : Int32) (σ : lj_S) : lj_D lm_P lm_M135 0 [.ref 0, .int x1] [] σ = (if x1 = 0 then lj_bv (lj_R lm_P 2 [.ref 0, .long 7597120008390471526] σ) (fun σ1 => lj_bv (lj_R lm_P 2 [.ref 0, .long 32] σ1) (fun σ2 => lj_D lm_P lm_M135 338 [.ref 0, .int x1] [] σ2) lj_up) lj_up else (if x1 = 1 then lj_bv (lj_R lm_P 2 [.ref 0, .long 1819242352] σ) (fun σ3 => lj_D lm_P lm_M135 338 [.ref 0, .int x1] [] σ3) lj_up else (if x1 = 2 then lj_bv (lj_R lm_P 2 [.ref 0, .long 7597120008390470003] σ) (fun σ4 => lj_bv (lj_R lm_P 2 [.ref 0, .long 544106860] σ4) (fun σ5 => lj_D lm_P lm_M135 338 [.ref 0, .int x1] [] σ5) lj_up) lj_up else (if x1 = 3 then lj_bv (lj_R lm_P 2 [.ref 0, .long 7161124094152238624] σ) (fun σ6 => lj_D lm_P lm_M135 338 [.ref 0, .int x1] [] σ6) lj_up else (if x1 = 4 then lj_bv (lj_R lm_P 2 [.ref 0, .long 8390046815879261817] σ) (fun σ7 => lj_bv (lj_R lm_P 2 [.ref 0, .long 9137360058279283] σ7) (fun σ8 => lj_D lm_P lm_M135 338 [.ref 0, .int x1] [] σ8) lj_up) lj_up else (if x1 = 5 then lj_bv (lj_R lm_P 2 [.ref 0, .long 7235444471627345774] σ) (fun σ9 => lj_bv (lj_R lm_P 2 [.ref 0, .long 2333560737330721391] σ9) (fun σ10 => lj_D lm_P lm_M135 338 [.ref 0, .int x1] [] σ10) lj_up) lj_up else (if x1 = 6 then lj_bv (lj_R lm_P 2 [.ref 0, .long 7021790717713147252] σ) (fun σ11 => lj_bv (lj_R lm_P 2 [.ref 0, .long 115874466852384] σ11) (fun σ12 => lj_D lm_P lm_M135 338 [.ref 0, .int x1] [] σ12) lj_up) lj_up else (if x1 = 7 then lj_bv (lj_R lm_P 2 [.ref 0, .long 8390046815863402087] σ) (fun σ13 => lj_D lm_P lm_M135 338 [.ref 0, .int x1] [] σ13) lj_up else (if x1 = 8 then lj_bv (lj_R lm_P 2 [.ref 0, .long 7165066905285584238] σ) (fun σ14 => lj_bv (lj_R lm_P 2 [.ref 0, .long 7022353646287351654] σ14) (fun σ15 => lj_bv (lj_R lm_P 2 [.ref 0, .long 32] σ15) (fun σ16 => lj_D lm_P lm_M135 338 [.ref 0, .int x1] [] σ16) lj_up) lj_up) lj_up else (if x1 = 9 then lj_bv (lj_R lm_P 2 [.ref 0, .long 7810770519357661295] σ) (fun σ17 => lj_bv (lj_R lm_P 2 [.ref 0, .long 26144] σ17) (fun σ18 => lj_D lm_P lm_M135 338 [.ref 0, .int x1] [] σ18) lj_up) lj_up else (if x1 = 10 then lj_bv (lj_R lm_P 2 [.ref 0, .long 7165065861608401267] σ) (fun σ19 => lj_bv (lj_R lm_P 2 [.ref 0, .long 122518781257248] σ19) (fun σ20 => lj_D lm_P lm_M135 338 [.ref 0, .int x1] [] σ20) lj_up) lj_up else (if x1 = 11 then lj_bv (lj_R lm_P 2 [.ref 0, .long 6713202] σ) (fun σ21 => lj_D lm_P lm_M135 338 [.ref 0, .int x1] [] σ21) lj_up else (if x1 = 12 then lj_bv (lj_R lm_P 2 [.ref 0, .long 7381243797817204858] σ) (fun σ22 => lj_bv (lj_R lm_P 2 [.ref 0, .long 6648431] σ22) (fun σ23 => lj_D lm_P lm_M135 338 [.ref 0, .int x1] [] σ23) lj_up) lj_up else (if x1 = 13 then lj_bv (lj_R lm_P 2 [.ref 0, .long 8319381491287093110] σ) (fun σ24 => lj_bv (lj_R lm_P 2 [.ref 0, .long 111542019059575] σ24) (fun σ25 => lj_D lm_P lm_M135 338 [.ref 0, .int x1] [] σ25) lj_up) lj_up else (if x1 = 14 then lj_bv (lj_R lm_P 2 [.ref 0, .long 7021788523068223092] σ) (fun σ26 => lj_bv (lj_R lm_P 2 [.ref 0, .long 32] σ26) (fun σ27 => lj_D lm_P lm_M135 338 [.ref 0, .int x1] [] σ27) lj_up) lj_up else (if x1 = 15 then lj_bv (lj_R lm_P 2 [.ref 0, .long 8319396939031344500] σ) (fun σ28 => lj_bv (lj_R lm_P 2 [.ref 0, .long 8316288572414042224] σ28) (fun σ29 => lj_bv (lj_R lm_P 2 [.ref 0, .long 6386292] σ29) (fun σ30 => lj_D lm_P lm_M135 338 [.ref 0, .int x1] [] σ30) lj_up) lj_up) lj_up else lj_D lm_P lm_M135 338 [.ref 0, .int x1] [] σ)))))))))))))))) := by rw [lj_D_eq]; rfl
set_option maxRecDepth 100000 in
set_option maxHeartbeats 4000000 in
theorem km_135_338 (x1 : Int32) (σ : lj_S) : lj_D lm_P lm_M135 338 [.ref 0, .int x1] [] σ = some (.inl none, σ) := by rw [lj_D_eq]; rfl
-- TableTongueModel.typeOf(I)I
set_option maxRecDepth 100000 in
theorem rm_136 (x0 : Int32) (σ : lj_S) : lj_R lm_P 136 [.int x0] σ = lj_D lm_P lm_M136 0 [.int x0] [] σ := lj_R_eq (nL := 1) (M := lm_M136) _ _ _ _ rfl rfl
set_option maxRecDepth 100000 in
set_option maxHeartbeats 4000000 in
theorem km_136_0 (x0 : Int32) (σ : lj_S) : lj_D lm_P lm_M136 0 [.int x0] [] σ = (if x0 = 7 then lj_D lm_P lm_M136 13 [.int x0] [.int 5, .int 22] σ else lj_D lm_P lm_M136 13 [.int x0] [.int x0, .int 22] σ) := by rw [lj_D_eq]; rfl
set_option maxRecDepth 100000 in
set_option maxHeartbeats 4000000 in
theorem km_136_13 (x0 : Int32) (x50 : Int32) (x51 : Int32) (σ : lj_S) : lj_D lm_P lm_M136 13 [.int x0] [.int x50, .int x51] σ = some (.inl (some (.int (x51 + x50))), σ) := by rw [lj_D_eq]; rfl
-- TableTongueModel.copyString(I)V
set_option maxRecDepth 100000 in
theorem rm_137 (x1 : Int32) (σ : lj_S) : lj_R lm_P 137 [.ref 0, .int x1] σ = lj_D lm_P lm_M137 0 [.ref 0, .int x1, .retAddr 0] [] σ := lj_R_eq (nL := 3) (M := lm_M137) _ _ _ _ rfl rfl
set_option maxRecDepth 100000 in
set_option maxHeartbeats 4000000 in
theorem km_137_0 (x1 : Int32) (σ : lj_S) : lj_D lm_P lm_M137 0 [.ref 0, .int x1, .retAddr 0] [] σ = lj_D lm_P lm_M137 2 [.ref 0, .int x1, .int 0] [] σ := by rw [lj_D_eq]; rfl
set_option maxRecDepth 100000 in
set_option maxHeartbeats 4000000 in
theorem km_137_2 (x1 : Int32) (x2 : Int32) (σ : lj_S) : lj_D lm_P lm_M137 2 [.ref 0, .int x1, .int x2] [] σ = (if lj_in x1 3000 then (if (σ.1 4 x1.toNatClampNeg) ≤ x2 then some (.inl none, σ) else (if lj_in x1 3000 then (if lj_in ((σ.1 3 x1.toNatClampNeg) + x2) 40000 then (if lj_in (σ.1 0 20) 4200 then lj_D lm_P lm_M137 2 [.ref 0, .int x1, .int (x2 + 1)] [] (lj_put (lj_put σ 8 ((σ.1 0 20).toNatClampNeg) (vp_nar .byte ((σ.1 2 (((σ.1 3 x1.toNatClampNeg) + x2).toNatClampNeg))))) 0 20 ((σ.1 0 20) + 1)) else none) else none) else none)) else none) := by rw [lj_D_eq]; rfl
-- TableTongueModel.raise()V
set_option maxRecDepth 100000 in
theorem rm_138  (σ : lj_S) : lj_R lm_P 138 [.ref 0] σ = lj_D lm_P lm_M138 0 [.ref 0, .retAddr 0] [] σ := lj_R_eq (nL := 2) (M := lm_M138) _ _ _ _ rfl rfl
set_option maxRecDepth 100000 in
set_option maxHeartbeats 4000000 in
theorem km_138_0  (σ : lj_S) : lj_D lm_P lm_M138 0 [.ref 0, .retAddr 0] [] σ = lj_bi (lj_R lm_P 139 [.ref 0] σ) (fun y2 σ1 => some (.inl none, (lj_put (lj_putL (lj_put σ1 0 141 3) 0 142 ((y2 : Int32).toInt64)) 0 129 2))) lj_up := by rw [lj_D_eq]; rfl
-- TableTongueModel.make()I
set_option maxRecDepth 100000 in
theorem rm_139  (σ : lj_S) : lj_R lm_P 139 [.ref 0] σ = lj_D lm_P lm_M139 0 [.ref 0, .retAddr 0, .retAddr 0, .retAddr 0, .retAddr 0, .retAddr 0] [] σ := lj_R_eq (nL := 6) (M := lm_M139) _ _ _ _ rfl rfl
set_option maxRecDepth 100000 in
set_option maxHeartbeats 4000000 in
theorem km_139_0  (σ : lj_S) : lj_D lm_P lm_M139 0 [.ref 0, .retAddr 0, .retAddr 0, .retAddr 0, .retAddr 0, .retAddr 0] [] σ = lj_bi (lj_R lm_P 4 [.ref 0, .int (σ.1 0 20)] σ) (fun y2 σ1 => (if lj_in y2 1024 then lj_D lm_P lm_M139 18 [.ref 0, .int y2, .int (-1), .int (σ1.1 7 y2.toNatClampNeg), .retAddr 0, .retAddr 0] [] σ1 else none)) lj_up := by rw [lj_D_eq]; rfl
set_option maxRecDepth 100000 in
set_option maxHeartbeats 4000000 in
theorem km_139_18 (x1 : Int32) (x2 : Int32) (x3 : Int32) (x4 : Value) (x5 : Value) (σ : lj_S) : lj_D lm_P lm_M139 18 [.ref 0, .int x1, .int x2, .int x3, x4, x5] [] σ = (if x3 < 0 then lj_D lm_P lm_M139 121 [.ref 0, .int x1, .int x2, .int x3, x4, x5] [] σ else (if 0 ≤ x2 then lj_D lm_P lm_M139 121 [.ref 0, .int x1, .int x2, .int x3, x4, x5] [] σ else (if lj_in x3 3000 then (if (σ.1 4 x3.toNatClampNeg) = (σ.1 0 20) then lj_D lm_P lm_M139 44 [.ref 0, .int x1, .int x2, .int x3, x4, x5] [.int 1] σ else lj_D lm_P lm_M139 44 [.ref 0, .int x1, .int x2, .int x3, x4, x5] [.int 0] σ) else none))) := by rw [lj_D_eq]; rfl
set_option maxRecDepth 100000 in
set_option maxHeartbeats 4000000 in
theorem km_139_44 (x1 : Int32) (x2 : Int32) (x3 : Int32) (x4 : Value) (x5 : Value) (x50 : Int32) (σ : lj_S) : lj_D lm_P lm_M139 44 [.ref 0, .int x1, .int x2, .int x3, x4, x5] [.int x50] σ = lj_D lm_P lm_M139 49 [.ref 0, .int x1, .int x2, .int x3, .int x50, .int 0] [] σ := by rw [lj_D_eq]; rfl
set_option maxRecDepth 100000 in
set_option maxHeartbeats 4000000 in
theorem km_139_49 (x1 : Int32) (x2 : Int32) (x3 : Int32) (x4 : Int32) (x5 : Int32) (σ : lj_S) : lj_D lm_P lm_M139 49 [.ref 0, .int x1, .int x2, .int x3, .int x4, .int x5] [] σ = (if (σ.1 0 20) ≤ x5 then lj_D lm_P lm_M139 100 [.ref 0, .int x1, .int x2, .int x3, .int x4, .int x5] [] σ else (if x4 = 0 then lj_D lm_P lm_M139 100 [.ref 0, .int x1, .int x2, .int x3, .int x4, .int x5] [] σ else (if lj_in x3 3000 then (if lj_in ((σ.1 3 x3.toNatClampNeg) + x5) 40000 then (if lj_in x5 4200 then (if ((σ.1 2 (((σ.1 3 x3.toNatClampNeg) + x5).toNatClampNeg))) = (σ.1 8 x5.toNatClampNeg) then lj_D lm_P lm_M139 92 [.ref 0, .int x1, .int x2, .int x3, .int x4, .int x5] [.int 1] σ else lj_D lm_P lm_M139 92 [.ref 0, .int x1, .int x2, .int x3, .int x4, .int x5] [.int 0] σ) else none) else none) else none))) := by rw [lj_D_eq]; rfl
set_option maxRecDepth 100000 in
set_option maxHeartbeats 4000000 in
theorem km_139_92 (x1 : Int32) (x2 : Int32) (x3 : Int32) (x4 : Int32) (x5 : Int32) (x50 : Int32) (σ : lj_S) : lj_D lm_P lm_M139 92 [.ref 0, .int x1, .int x2, .int x3, .int x4, .int x5] [.int x50] σ = lj_D lm_P lm_M139 49 [.ref 0, .int x1, .int x2, .int x3, .int x50, .int (x5 + 1)] [] σ := by rw [lj_D_eq]; rfl
set_option maxRecDepth 100000 in
set_option maxHeartbeats 4000000 in
theorem km_139_100 (x1 : Int32) (x2 : Int32) (x3 : Int32) (x4 : Int32) (x5 : Int32) (σ : lj_S) : lj_D lm_P lm_M139 100 [.ref 0, .int x1, .int x2, .int x3, .int x4, .int x5] [] σ = (if x4 = 0 then lj_D lm_P lm_M139 110 [.ref 0, .int x1, .int x2, .int x3, .int x4, .int x5] [.int (-1)] σ else lj_D lm_P lm_M139 110 [.ref 0, .int x1, .int x2, .int x3, .int x4, .int x5] [.int x3] σ) := by rw [lj_D_eq]; rfl
set_option maxRecDepth 100000 in
set_option maxHeartbeats 4000000 in
theorem km_139_110 (x1 : Int32) (x2 : Int32) (x3 : Int32) (x4 : Int32) (x5 : Int32) (x50 : Int32) (σ : lj_S) : lj_D lm_P lm_M139 110 [.ref 0, .int x1, .int x2, .int x3, .int x4, .int x5] [.int x50] σ = (if lj_in x3 3000 then lj_D lm_P lm_M139 18 [.ref 0, .int x1, .int x50, .int (σ.1 6 x3.toNatClampNeg), .int x4, .int x5] [] σ else none) := by rw [lj_D_eq]; rfl
set_option maxRecDepth 100000 in
set_option maxHeartbeats 4000000 in
theorem km_139_121 (x1 : Int32) (x2 : Int32) (x3 : Int32) (x4 : Value) (x5 : Value) (σ : lj_S) : lj_D lm_P lm_M139 121 [.ref 0, .int x1, .int x2, .int x3, x4, x5] [] σ = (if x2 < 0 then lj_D lm_P lm_M139 136 [.ref 0, .int x1, .int x2, .int x3, x4, x5] [] σ else (if lj_in x2 3000 then (if (σ.1 5 x2.toNatClampNeg) ≤ 0 then lj_D lm_P lm_M139 136 [.ref 0, .int x1, .int x2, .int x3, x4, x5] [] σ else some (.inl (some (.int x2)), σ)) else none)) := by rw [lj_D_eq]; rfl
set_option maxRecDepth 100000 in
set_option maxHeartbeats 4000000 in
theorem km_139_136 (x1 : Int32) (x2 : Int32) (x3 : Int32) (x4 : Value) (x5 : Value) (σ : lj_S) : lj_D lm_P lm_M139 136 [.ref 0, .int x1, .int x2, .int x3, x4, x5] [] σ = (if (σ.1 0 17) = 800 then lj_D lm_P lm_M139 161 [.ref 0, .int x1, .int x2, .int x3, x4, x5] [] σ else (if ((σ.1 0 18) + (σ.1 0 20)) ≤ 24000 then (if x2 < 0 then lj_bi (lj_R lm_P 3 [.ref 0, .int 2] (lj_put (lj_put σ 0 17 ((σ.1 0 17) + 1)) 0 18 ((σ.1 0 18) + (σ.1 0 20)))) (fun y2 σ1 => some (.inl (some (.int y2)), σ1)) lj_up else (if lj_in x2 3000 then some (.inl (some (.int x2)), (lj_put (lj_put (lj_put σ 0 17 ((σ.1 0 17) + 1)) 0 18 ((σ.1 0 18) + (σ.1 0 20))) 5 x2.toNatClampNeg 2)) else none)) else lj_D lm_P lm_M139 161 [.ref 0, .int x1, .int x2, .int x3, x4, x5] [] σ)) := by rw [lj_D_eq]; rfl
set_option maxRecDepth 100000 in
set_option maxHeartbeats 4000000 in
theorem km_139_161 (x1 : Int32) (x2 : Int32) (x3 : Int32) (x4 : Value) (x5 : Value) (σ : lj_S) : lj_D lm_P lm_M139 161 [.ref 0, .int x1, .int x2, .int x3, x4, x5] [] σ = some (.inl (some (.int (-1))), (lj_put σ 0 143 4)) := by rw [lj_D_eq]; rfl
-- TableTongueModel.isFunction(I)Z
set_option maxRecDepth 100000 in
theorem rm_140 (x0 : Int32) (σ : lj_S) : lj_R lm_P 140 [.int x0] σ = lj_D lm_P lm_M140 0 [.int x0] [] σ := lj_R_eq (nL := 1) (M := lm_M140) _ _ _ _ rfl rfl
set_option maxRecDepth 100000 in
set_option maxHeartbeats 4000000 in
theorem km_140_0 (x0 : Int32) (σ : lj_S) : lj_D lm_P lm_M140 0 [.int x0] [] σ = (if x0 = 5 then lj_D lm_P lm_M140 11 [.int x0] [] σ else (if x0 = 7 then lj_D lm_P lm_M140 11 [.int x0] [] σ else lj_D lm_P lm_M140 16 [.int x0] [.int 0] σ)) := by rw [lj_D_eq]; rfl
set_option maxRecDepth 100000 in
set_option maxHeartbeats 4000000 in
theorem km_140_11 (x0 : Int32) (σ : lj_S) : lj_D lm_P lm_M140 11 [.int x0] [] σ = lj_D lm_P lm_M140 16 [.int x0] [.int 1] σ := by rw [lj_D_eq]; rfl
set_option maxRecDepth 100000 in
set_option maxHeartbeats 4000000 in
theorem km_140_16 (x0 : Int32) (x50 : Int32) (σ : lj_S) : lj_D lm_P lm_M140 16 [.int x0] [.int x50] σ = some (.inl (some (.int (vp_nar .boolean x50))), σ) := by rw [lj_D_eq]; rfl
-- TableTongueModel.callWith(IJIJIJ)V
set_option maxRecDepth 100000 in
theorem rm_141 (x1 : Int32) (x2 : Int64) (x3 : Int32) (x4 : Int64) (x5 : Int32) (x6 : Int64) (σ : lj_S) : lj_R lm_P 141 [.ref 0, .int x1, .long x2, .int x3, .long x4, .int x5, .long x6] σ = lj_D lm_P lm_M141 0 [.ref 0, .int x1, .long x2, .retAddr 0, .int x3, .long x4, .retAddr 0, .int x5, .long x6, .retAddr 0] [] σ := lj_R_eq (nL := 10) (M := lm_M141) _ _ _ _ rfl rfl
set_option maxRecDepth 100000 in
set_option maxHeartbeats 4000000 in
theorem km_141_0 (x1 : Int32) (x2 : Int64) (x4 : Int32) (x5 : Int64) (x7 : Int32) (x8 : Int64) (σ : lj_S) : lj_D lm_P lm_M141 0 [.ref 0, .int x1, .long x2, .retAddr 0, .int x4, .long x5, .retAddr 0, .int x7, .long x8, .retAddr 0] [] σ = (if lj_in 0 128 then (if lj_in 0 128 then (if lj_in 1 128 then (if lj_in 1 128 then some (.inl none, (lj_put (lj_put (lj_putL (lj_put (lj_putL (lj_put (lj_putL (lj_put σ 0 133 x1) 0 134 x2) 88 ((0 : Int32).toNatClampNeg) x4) 89 ((0 : Int32).toNatClampNeg) x5) 88 ((1 : Int32).toNatClampNeg) x7) 89 ((1 : Int32).toNatClampNeg) x8) 0 137 2) 0 129 3)) else none) else none) else none) else none) := by rw [lj_D_eq]; rfl
-- TableTongueModel.error(II)V
set_option maxRecDepth 100000 in
theorem rm_142 (x1 : Int32) (x2 : Int32) (σ : lj_S) : lj_R lm_P 142 [.ref 0, .int x1, .int x2] σ = lj_D lm_P lm_M142 0 [.ref 0, .int x1, .int x2] [] σ := lj_R_eq (nL := 3) (M := lm_M142) _ _ _ _ rfl rfl
set_option maxRecDepth 100000 in
set_option maxHeartbeats 4000000 in
theorem km_142_0 (x1 : Int32) (x2 : Int32) (σ : lj_S) : lj_D lm_P lm_M142 0 [.ref 0, .int x1, .int x2] [] σ = lj_bv (lj_R lm_P 132 [.ref 0, .int x2, .int x1] σ) (fun σ1 => lj_bv (lj_R lm_P 138 [.ref 0] σ1) (fun σ2 => some (.inl none, σ2)) lj_up) lj_up := by rw [lj_D_eq]; rfl
-- TableTongueModel.writeAt(II)V
set_option maxRecDepth 100000 in
theorem rm_143 (x1 : Int32) (x2 : Int32) (σ : lj_S) : lj_R lm_P 143 [.ref 0, .int x1, .int x2] σ = lj_D lm_P lm_M143 0 [.ref 0, .int x1, .int x2, .retAddr 0, .retAddr 0, .retAddr 0, .retAddr 0, .retAddr 0, .retAddr 0, .retAddr 0, .retAddr 0, .retAddr 0, .retAddr 0] [] σ := lj_R_eq (nL := 13) (M := lm_M143) _ _ _ _ rfl rfl
set_option maxRecDepth 100000 in
set_option maxHeartbeats 4000000 in
theorem km_143_0 (x1 : Int32) (x2 : Int32) (σ : lj_S) : lj_D lm_P lm_M143 0 [.ref 0, .int x1, .int x2, .retAddr 0, .retAddr 0, .retAddr 0, .retAddr 0, .retAddr 0, .retAddr 0, .retAddr 0, .retAddr 0, .retAddr 0, .retAddr 0] [] σ = lj_bi (lj_R lm_P 144 [.ref 0] σ) (fun y2 σ1 => lj_D lm_P lm_M143 16 [.ref 0, .int x1, .int x2, .int (((10000 * (σ.1 0 111)) + y2) + x1), .retAddr 0, .retAddr 0, .retAddr 0, .retAddr 0, .retAddr 0, .retAddr 0, .retAddr 0, .retAddr 0, .retAddr 0] [] σ1) lj_up := by rw [lj_D_eq]; rfl
set_option maxRecDepth 100000 in
set_option maxHeartbeats 4000000 in
theorem km_143_16 (x1 : Int32) (x2 : Int32) (x3 : Int32) (σ : lj_S) : lj_D lm_P lm_M143 16 [.ref 0, .int x1, .int x2, .int x3, .retAddr 0, .retAddr 0, .retAddr 0, .retAddr 0, .retAddr 0, .retAddr 0, .retAddr 0, .retAddr 0, .retAddr 0] [] σ = lj_bi (lj_R lm_P 124 [.ref 0, .int 0] σ) (fun y2 σ1 => lj_bl (lj_R lm_P 125 [.ref 0, .int 0] σ1) (fun y4 σ3 => lj_bv (lj_R lm_P 126 [.ref 0, .int 1] σ3) (fun σ5 => lj_D lm_P lm_M143 35 [.ref 0, .int x1, .int x2, .int x3, .int y2, .long y4, .retAddr 0, .retAddr 0, .retAddr 0, .retAddr 0, .retAddr 0, .retAddr 0, .retAddr 0] [] σ5) lj_up) lj_up) lj_up := by rw [lj_D_eq]; rfl
set_option maxRecDepth 100000 in
set_option maxHeartbeats 4000000 in
theorem km_143_35 (x1 : Int32) (x2 : Int32) (x3 : Int32) (x4 : Int32) (x5 : Int64) (σ : lj_S) : lj_D lm_P lm_M143 35 [.ref 0, .int x1, .int x2, .int x3, .int x4, .long x5, .retAddr 0, .retAddr 0, .retAddr 0, .retAddr 0, .retAddr 0, .retAddr 0, .retAddr 0] [] σ = (if lj_in x3 260000 then (if lj_in x3 260000 then (if lj_in (x3 + 1) 260000 then (if lj_in (x3 + 1) 260000 then (if lj_in x3 260000 then (if lj_in (x3 + 1) 260000 then lj_bv (lj_R lm_P 145 [.ref 0, .int (σ.1 71 x3.toNatClampNeg), .long (σ.2 72 x3.toNatClampNeg), .int ((σ.1 71 ((x3 + 1).toNatClampNeg))), .long ((σ.2 72 ((x3 + 1).toNatClampNeg))), .int x4, .long x5, .int x2] (lj_put (lj_put σ 71 x3.toNatClampNeg 0) 71 ((x3 + 1).toNatClampNeg) 0)) (fun σ1 => some (.inl none, σ1)) lj_up else none) else none) else none) else none) else none) else none) := by rw [lj_D_eq]; rfl
-- TableTongueModel.mark()I
set_option maxRecDepth 100000 in
theorem rm_144  (σ : lj_S) : lj_R lm_P 144 [.ref 0] σ = lj_D lm_P lm_M144 0 [.ref 0] [] σ := lj_R_eq (nL := 1) (M := lm_M144) _ _ _ _ rfl rfl
set_option maxRecDepth 100000 in
set_option maxHeartbeats 4000000 in
theorem km_144_0  (σ : lj_S) : lj_D lm_P lm_M144 0 [.ref 0] [] σ = (if lj_in (σ.1 0 111) 26 then (if lj_in (((2000 * (σ.1 0 111)) + ((σ.1 64 ((σ.1 0 111).toNatClampNeg)))) - 1) 52000 then some (.inl (some (.int ((σ.1 73 ((((2000 * (σ.1 0 111)) + ((σ.1 64 ((σ.1 0 111).toNatClampNeg)))) - 1).toNatClampNeg))))), σ) else none) else none) := by rw [lj_D_eq]; rfl
-- TableTongueModel.write(IJIJIJI)V
set_option maxRecDepth 100000 in
theorem rm_145 (x1 : Int32) (x2 : Int64) (x3 : Int32) (x4 : Int64) (x5 : Int32) (x6 : Int64) (x7 : Int32) (σ : lj_S) : lj_R lm_P 145 [.ref 0, .int x1, .long x2, .int x3, .long x4, .int x5, .long x6, .int x7] σ = lj_D lm_P lm_M145 0 [.ref 0, .int x1, .long x2, .retAddr 0, .int x3, .long x4, .retAddr 0, .int x5, .long x6, .retAddr 0, .int x7, .retAddr 0, .retAddr 0, .retAddr 0, .retAddr 0, .retAddr 0, .retAddr 0] [] σ := lj_R_eq (nL := 17) (M := lm_M145) _ _ _ _ rfl rfl
set_option maxRecDepth 100000 in
set_option maxHeartbeats 4000000 in
theorem km_145_0 (x1 : Int32) (x2 : Int64) (x4 : Int32) (x5 : Int64) (x7 : Int32) (x8 : Int64) (x10 : Int32) (σ : lj_S) : lj_D lm_P lm_M145 0 [.ref 0, .int x1, .long x2, .retAddr 0, .int x4, .long x5, .retAddr 0, .int x7, .long x8, .retAddr 0, .int x10, .retAddr 0, .retAddr 0, .retAddr 0, .retAddr 0, .retAddr 0, .retAddr 0] [] σ = lj_D lm_P lm_M145 9 [.ref 0, .int x1, .long x2, .retAddr 0, .int x4, .long x5, .retAddr 0, .int x7, .long x8, .retAddr 0, .int x10, .int x1, .long x2, .retAddr 0, .int 1, .retAddr 0, .retAddr 0] [] σ := by rw [lj_D_eq]; rfl
set_option maxRecDepth 100000 in
set_option maxHeartbeats 4000000 in
theorem km_145_9 (x1 : Int32) (x2 : Int64) (x4 : Int32) (x5 : Int64) (x7 : Int32) (x8 : Int64) (x10 : Int32) (x11 : Int32) (x12 : Int64) (x14 : Int32) (x15 : Value) (σ : lj_S) : lj_D lm_P lm_M145 9 [.ref 0, .int x1, .long x2, .retAddr 0, .int x4, .long x5, .retAddr 0, .int x7, .long x8, .retAddr 0, .int x10, .int x11, .long x12, .retAddr 0, .int x14, x15, .retAddr 0] [] σ = (if 20 < x14 then lj_bv (lj_R lm_P 142 [.ref 0, .int 1, .int x10] σ) (fun σ1 => some (.inl none, σ1)) lj_up else (if x11 = 4 then lj_bv (lj_R lm_P 123 [.ref 0, .int ((x12 : Int64).toInt32), .int x4, .long x5] σ) (fun σ3 => (if (σ3.1 0 90) = 0 then lj_D lm_P lm_M145 45 [.ref 0, .int x1, .long x2, .retAddr 0, .int x4, .long x5, .retAddr 0, .int x7, .long x8, .retAddr 0, .int x10, .int x11, .long x12, .retAddr 0, .int x14, x15, .retAddr 0] [.int 0] σ3 else lj_D lm_P lm_M145 45 [.ref 0, .int x1, .long x2, .retAddr 0, .int x4, .long x5, .retAddr 0, .int x7, .long x8, .retAddr 0, .int x10, .int x11, .long x12, .retAddr 0, .int x14, x15, .retAddr 0] [.int 1] σ3)) lj_up else lj_bv (lj_R lm_P 131 [.ref 0, .int 0, .int x10, .int x11] σ) (fun σ2 => some (.inl none, σ2)) lj_up)) := by rw [lj_D_eq]; rfl
set_option maxRecDepth 100000 in
set_option maxHeartbeats 4000000 in
theorem km_145_45 (x1 : Int32) (x2 : Int64) (x4 : Int32) (x5 : Int64) (x7 : Int32) (x8 : Int64) (x10 : Int32) (x11 : Int32) (x12 : Int64) (x14 : Int32) (x15 : Value) (x50 : Int32) (σ : lj_S) : lj_D lm_P lm_M145 45 [.ref 0, .int x1, .long x2, .retAddr 0, .int x4, .long x5, .retAddr 0, .int x7, .long x8, .retAddr 0, .int x10, .int x11, .long x12, .retAddr 0, .int x14, x15, .retAddr 0] [.int x50] σ = lj_bv (lj_R lm_P 130 [.ref 0, .int x11, .long x12, .int 1] σ) (fun σ1 => (if x50 = 0 then (if (σ1.1 0 90) = 0 then lj_D lm_P lm_M145 68 [.ref 0, .int x1, .long x2, .retAddr 0, .int x4, .long x5, .retAddr 0, .int x7, .long x8, .retAddr 0, .int x10, .int x11, .long x12, .retAddr 0, .int x14, .int x50, .retAddr 0] [] σ1 else lj_bi (lj_R lm_P 140 [.int (σ1.1 0 90)] σ1) (fun y3 σ2 => (if y3 = 0 then lj_D lm_P lm_M145 9 [.ref 0, .int x1, .long x2, .retAddr 0, .int x4, .long x5, .retAddr 0, .int x7, .long x8, .retAddr 0, .int x10, .int (σ2.1 0 90), .long (σ2.2 0 91), .retAddr 0, .int (x14 + 1), .int x50, .retAddr 0] [] σ2 else lj_bv (lj_R lm_P 112 [.ref 0, .int 0, .int 0, .int x10] σ2) (fun σ4 => lj_bv (lj_R lm_P 141 [.ref 0, .int (σ4.1 0 90), .long (σ4.2 0 91), .int x11, .long x12, .int x4, .long x5] σ4) (fun σ5 => lj_bv (lj_R lm_P 146 [.ref 0, .int x7, .long x8] σ5) (fun σ6 => some (.inl none, σ6)) lj_up) lj_up) lj_up)) lj_up) else lj_D lm_P lm_M145 68 [.ref 0, .int x1, .long x2, .retAddr 0, .int x4, .long x5, .retAddr 0, .int x7, .long x8, .retAddr 0, .int x10, .int x11, .long x12, .retAddr 0, .int x14, .int x50, .retAddr 0] [] σ1)) lj_up := by rw [lj_D_eq]; rfl
set_option maxRecDepth 100000 in
set_option maxHeartbeats 4000000 in
theorem km_145_68 (x1 : Int32) (x2 : Int64) (x4 : Int32) (x5 : Int64) (x7 : Int32) (x8 : Int64) (x10 : Int32) (x11 : Int32) (x12 : Int64) (x14 : Int32) (x15 : Int32) (σ : lj_S) : lj_D lm_P lm_M145 68 [.ref 0, .int x1, .long x2, .retAddr 0, .int x4, .long x5, .retAddr 0, .int x7, .long x8, .retAddr 0, .int x10, .int x11, .long x12, .retAddr 0, .int x14, .int x15, .retAddr 0] [] σ = (if x4 = 0 then lj_bv (lj_R lm_P 142 [.ref 0, .int 2, .int x10] σ) (fun σ3 => lj_D lm_P lm_M145 100 [.ref 0, .int x1, .long x2, .retAddr 0, .int x4, .long x5, .retAddr 0, .int x7, .long x8, .retAddr 0, .int x10, .int x11, .long x12, .retAddr 0, .int x14, .int x15, .retAddr 0] [] σ3) lj_up else lj_bi (lj_R lm_P 108 [.ref 0, .int ((x12 : Int64).toInt32), .int x4, .long x5, .int x7, .long x8] σ) (fun y2 σ1 => lj_D lm_P lm_M145 100 [.ref 0, .int x1, .long x2, .retAddr 0, .int x4, .long x5, .retAddr 0, .int x7, .long x8, .retAddr 0, .int x10, .int x11, .long x12, .retAddr 0, .int x14, .int x15, .int y2] [] σ1) lj_up) := by rw [lj_D_eq]; rfl
set_option maxRecDepth 100000 in
set_option maxHeartbeats 4000000 in
theorem km_145_100 (x1 : Int32) (x2 : Int64) (x4 : Int32) (x5 : Int64) (x7 : Int32) (x8 : Int64) (x10 : Int32) (x11 : Int32) (x12 : Int64) (x14 : Int32) (x15 : Int32) (x16 : Value) (σ : lj_S) : lj_D lm_P lm_M145 100 [.ref 0, .int x1, .long x2, .retAddr 0, .int x4, .long x5, .retAddr 0, .int x7, .long x8, .retAddr 0, .int x10, .int x11, .long x12, .retAddr 0, .int x14, .int x15, x16] [] σ = some (.inl none, σ) := by rw [lj_D_eq]; rfl
-- TableTongueModel.third(IJ)V
set_option maxRecDepth 100000 in
theorem rm_146 (x1 : Int32) (x2 : Int64) (σ : lj_S) : lj_R lm_P 146 [.ref 0, .int x1, .long x2] σ = lj_D lm_P lm_M146 0 [.ref 0, .int x1, .long x2, .retAddr 0] [] σ := lj_R_eq (nL := 4) (M := lm_M146) _ _ _ _ rfl rfl
set_option maxRecDepth 100000 in
set_option maxHeartbeats 4000000 in
theorem km_146_0 (x1 : Int32) (x2 : Int64) (σ : lj_S) : lj_D lm_P lm_M146 0 [.ref 0, .int x1, .long x2, .retAddr 0] [] σ = (if lj_in 2 128 then (if lj_in 2 128 then some (.inl none, (lj_put (lj_putL (lj_put σ 88 ((2 : Int32).toNatClampNeg) x1) 89 ((2 : Int32).toNatClampNeg) x2) 0 137 3)) else none) else none) := by rw [lj_D_eq]; rfl
-- TableTongueModel.pushMark(I)V
set_option maxRecDepth 100000 in
theorem rm_147 (x1 : Int32) (σ : lj_S) : lj_R lm_P 147 [.ref 0, .int x1] σ = lj_D lm_P lm_M147 0 [.ref 0, .int x1] [] σ := lj_R_eq (nL := 2) (M := lm_M147) _ _ _ _ rfl rfl
set_option maxRecDepth 100000 in
set_option maxHeartbeats 4000000 in
theorem km_147_0 (x1 : Int32) (σ : lj_S) : lj_D lm_P lm_M147 0 [.ref 0, .int x1] [] σ = (if lj_in (σ.1 0 111) 26 then (if lj_in ((2000 * (σ.1 0 111)) + ((σ.1 64 ((σ.1 0 111).toNatClampNeg)))) 52000 then (if lj_in (σ.1 0 111) 26 then (if lj_in (σ.1 0 111) 26 then some (.inl none, (lj_put (lj_put σ 73 (((2000 * (σ.1 0 111)) + ((σ.1 64 ((σ.1 0 111).toNatClampNeg)))).toNatClampNeg) x1) 64 ((σ.1 0 111).toNatClampNeg) (((σ.1 64 ((σ.1 0 111).toNatClampNeg))) + 1))) else none) else none) else none) else none) := by rw [lj_D_eq]; rfl
-- TableTongueModel.callWord(II)V
set_option maxRecDepth 100000 in
theorem rm_148 (x1 : Int32) (x2 : Int32) (σ : lj_S) : lj_R lm_P 148 [.ref 0, .int x1, .int x2] σ = lj_D lm_P lm_M148 0 [.ref 0, .int x1, .int x2, .retAddr 0, .retAddr 0, .retAddr 0] [] σ := lj_R_eq (nL := 6) (M := lm_M148) _ _ _ _ rfl rfl
set_option maxRecDepth 100000 in
set_option maxHeartbeats 4000000 in
theorem km_148_0 (x1 : Int32) (x2 : Int32) (σ : lj_S) : lj_D lm_P lm_M148 0 [.ref 0, .int x1, .int x2, .retAddr 0, .retAddr 0, .retAddr 0] [] σ = lj_bi (lj_R lm_P 144 [.ref 0] σ) (fun y2 σ1 => (if lj_in (σ1.1 0 111) 26 then (if (((σ1.1 63 ((σ1.1 0 111).toNatClampNeg))) - y2) ≤ 30 then lj_D lm_P lm_M148 41 [.ref 0, .int x1, .int x2, .int y2, .int (((σ1.1 63 ((σ1.1 0 111).toNatClampNeg))) - y2), .int 0] [] (lj_put σ1 0 137 (((σ1.1 63 ((σ1.1 0 111).toNatClampNeg))) - y2)) else lj_bv (lj_R lm_P 142 [.ref 0, .int 4, .int x2] σ1) (fun σ3 => some (.inl none, σ3)) lj_up) else none)) lj_up := by rw [lj_D_eq]; rfl
set_option maxRecDepth 100000 in
set_option maxHeartbeats 4000000 in
theorem km_148_41 (x1 : Int32) (x2 : Int32) (x3 : Int32) (x4 : Int32) (x5 : Int32) (σ : lj_S) : lj_D lm_P lm_M148 41 [.ref 0, .int x1, .int x2, .int x3, .int x4, .int x5] [] σ = (if x4 ≤ x5 then (if lj_in (((10000 * (σ.1 0 111)) + x3) - 1) 260000 then (if lj_in (((10000 * (σ.1 0 111)) + x3) - 1) 260000 then (if lj_in (σ.1 0 111) 26 then (if lj_in (σ.1 0 111) 26 then (if lj_in (σ.1 0 111) 26 then lj_bv (lj_R lm_P 112 [.ref 0, .int 0, .int x1, .int x2] (lj_put (lj_put (lj_putL (lj_put σ 0 133 ((σ.1 71 ((((10000 * (σ.1 0 111)) + x3) - 1).toNatClampNeg)))) 0 134 ((σ.2 72 ((((10000 * (σ.1 0 111)) + x3) - 1).toNatClampNeg)))) 63 ((σ.1 0 111).toNatClampNeg) (x3 - 1)) 64 ((σ.1 0 111).toNatClampNeg) (((σ.1 64 ((σ.1 0 111).toNatClampNeg))) - 1))) (fun σ1 => some (.inl none, (lj_put σ1 0 129 3))) lj_up else none) else none) else none) else none) else none) else (if lj_in (((10000 * (σ.1 0 111)) + x3) + x5) 260000 then (if lj_in x5 128 then (if lj_in (((10000 * (σ.1 0 111)) + x3) + x5) 260000 then (if lj_in x5 128 then lj_D lm_P lm_M148 41 [.ref 0, .int x1, .int x2, .int x3, .int x4, .int (x5 + 1)] [] (lj_putL (lj_put σ 88 x5.toNatClampNeg ((σ.1 71 ((((10000 * (σ.1 0 111)) + x3) + x5).toNatClampNeg)))) 89 x5.toNatClampNeg ((σ.2 72 ((((10000 * (σ.1 0 111)) + x3) + x5).toNatClampNeg)))) else none) else none) else none) else none)) := by rw [lj_D_eq]; rfl
-- TableTongueModel.adjust(I)V
set_option maxRecDepth 100000 in
theorem rm_149 (x1 : Int32) (σ : lj_S) : lj_R lm_P 149 [.ref 0, .int x1] σ = lj_D lm_P lm_M149 0 [.ref 0, .int x1, .retAddr 0] [] σ := lj_R_eq (nL := 3) (M := lm_M149) _ _ _ _ rfl rfl
set_option maxRecDepth 100000 in
set_option maxHeartbeats 4000000 in
theorem km_149_0 (x1 : Int32) (σ : lj_S) : lj_D lm_P lm_M149 0 [.ref 0, .int x1, .retAddr 0] [] σ = lj_bi (lj_R lm_P 144 [.ref 0] σ) (fun y2 σ1 => (if lj_in (σ1.1 0 111) 26 then (if lj_in (σ1.1 0 111) 26 then lj_D lm_P lm_M149 18 [.ref 0, .int x1, .int y2] [] (lj_put σ1 64 ((σ1.1 0 111).toNatClampNeg) (((σ1.1 64 ((σ1.1 0 111).toNatClampNeg))) - 1)) else none) else none)) lj_up := by rw [lj_D_eq]; rfl
set_option maxRecDepth 100000 in
set_option maxHeartbeats 4000000 in
theorem km_149_18 (x1 : Int32) (x2 : Int32) (σ : lj_S) : lj_D lm_P lm_M149 18 [.ref 0, .int x1, .int x2] [] σ = (if lj_in (σ.1 0 111) 26 then (if x1 ≤ (((σ.1 63 ((σ.1 0 111).toNatClampNeg))) - x2) then (if lj_in (σ.1 0 111) 26 then some (.inl none, (lj_put σ 63 ((σ.1 0 111).toNatClampNeg) (x2 + x1))) else none) else lj_bv (lj_R lm_P 116 [.ref 0, .int 0, .long 0] σ) (fun σ1 => lj_D lm_P lm_M149 18 [.ref 0, .int x1, .int x2] [] σ1) lj_up) else none) := by rw [lj_D_eq]; rfl
-- TableTongueModel.beginLocal(IIIJ)V
set_option maxRecDepth 100000 in
theorem rm_150 (x1 : Int32) (x2 : Int32) (x3 : Int32) (x4 : Int64) (σ : lj_S) : lj_R lm_P 150 [.ref 0, .int x1, .int x2, .int x3, .long x4] σ = lj_D lm_P lm_M150 0 [.ref 0, .int x1, .int x2, .int x3, .long x4, .retAddr 0] [] σ := lj_R_eq (nL := 6) (M := lm_M150) _ _ _ _ rfl rfl
set_option maxRecDepth 100000 in
set_option maxHeartbeats 4000000 in
theorem km_150_0 (x1 : Int32) (x2 : Int32) (x3 : Int32) (x4 : Int64) (σ : lj_S) : lj_D lm_P lm_M150 0 [.ref 0, .int x1, .int x2, .int x3, .long x4, .retAddr 0] [] σ = lj_bi (lj_R lm_P 114 [.ref 0, .int x3, .long x4] σ) (fun y2 σ1 => (if lj_in ((50 * x1) + x2) 62400 then some (.inl none, (lj_put σ1 87 (((50 * x1) + x2).toNatClampNeg) y2)) else none)) lj_up := by rw [lj_D_eq]; rfl
