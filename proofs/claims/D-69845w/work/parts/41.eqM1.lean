-- TableTongueModel.readFunction()Z
set_option maxRecDepth 100000 in
theorem rm_50  (σ : lj_S) : lj_R lm_P 50 [.ref 0] σ = lj_D lm_P lm_M50 0 [.ref 0, .retAddr 0, .retAddr 0, .retAddr 0] [] σ := lj_R_eq (nL := 4) (M := lm_M50) _ _ _ _ rfl rfl
set_option maxRecDepth 100000 in
set_option maxHeartbeats 4000000 in
theorem km_50_0  (σ : lj_S) : lj_D lm_P lm_M50 0 [.ref 0, .retAddr 0, .retAddr 0, .retAddr 0] [] σ = (if lj_in (σ.1 0 25) 1502 then (if ((σ.1 9 ((σ.1 0 25).toNatClampNeg))) = 1 then lj_bi (lj_R lm_P 28 [.ref 0, .int 14, .int 0, .int 0, .int 0] σ) (fun y2 σ1 => (if lj_in (σ1.1 0 25) 1502 then lj_bi (lj_R lm_P 34 [.ref 0] σ1) (fun y4 σ3 => lj_bv (lj_R lm_P 51 [.ref 0, .int ((((σ1.2 11 ((σ1.1 0 25).toNatClampNeg))) : Int64).toInt32), .int y4] σ3) (fun σ5 => (if 0 < (σ5.1 0 4) then lj_D lm_P lm_M50 60 [.ref 0, .int y2, .retAddr 0, .retAddr 0] [] σ5 else lj_bi (lj_R lm_P 36 [.ref 0] σ5) (fun y7 σ6 => (if y7 = 0 then lj_D lm_P lm_M50 60 [.ref 0, .int y2, .retAddr 0, .retAddr 0] [] σ6 else lj_D lm_P lm_M50 64 [.ref 0, .int y2, .int 0, .retAddr 0] [] σ6)) lj_up)) lj_up) lj_up else none)) lj_up else lj_bi (lj_R lm_P 47 [.ref 0] σ) (fun y9 σ8 => some (.inl (some (.int (vp_nar .boolean y9))), σ8)) lj_up) else none) := by rw [lj_D_eq]; rfl
set_option maxRecDepth 100000 in
set_option maxHeartbeats 4000000 in
theorem km_50_60 (x1 : Int32) (σ : lj_S) : lj_D lm_P lm_M50 60 [.ref 0, .int x1, .retAddr 0, .retAddr 0] [] σ = some (.inl (some (.int 0)), σ) := by rw [lj_D_eq]; rfl
set_option maxRecDepth 100000 in
set_option maxHeartbeats 4000000 in
theorem km_50_64 (x1 : Int32) (x2 : Int32) (x3 : Value) (σ : lj_S) : lj_D lm_P lm_M50 64 [.ref 0, .int x1, .int x2, x3] [] σ = lj_bi (lj_R lm_P 39 [.ref 0, .int 46] σ) (fun y2 σ1 => (if y2 = 0 then lj_bi (lj_R lm_P 39 [.ref 0, .int 58] σ1) (fun y4 σ3 => (if y4 = 0 then lj_D lm_P lm_M50 177 [.ref 0, .int x1, .int x2, x3] [] σ3 else lj_D lm_P lm_M50 82 [.ref 0, .int x1, .int x2, x3] [] σ3)) lj_up else lj_D lm_P lm_M50 82 [.ref 0, .int x1, .int x2, x3] [] σ1)) lj_up := by rw [lj_D_eq]; rfl
set_option maxRecDepth 100000 in
set_option maxHeartbeats 4000000 in
theorem km_50_82 (x1 : Int32) (x2 : Int32) (x3 : Value) (σ : lj_S) : lj_D lm_P lm_M50 82 [.ref 0, .int x1, .int x2, x3] [] σ = (if x2 = 0 then lj_bi (lj_R lm_P 39 [.ref 0, .int 58] σ) (fun y2 σ1 => (if y2 = 0 then lj_D lm_P lm_M50 100 [.ref 0, .int x1, .int x2, x3] [.int 0] σ1 else lj_D lm_P lm_M50 100 [.ref 0, .int x1, .int x2, x3] [.int 1] σ1)) lj_up else lj_D lm_P lm_M50 177 [.ref 0, .int x1, .int x2, x3] [] σ) := by rw [lj_D_eq]; rfl
set_option maxRecDepth 100000 in
set_option maxHeartbeats 4000000 in
theorem km_50_100 (x1 : Int32) (x2 : Int32) (x3 : Value) (x50 : Int32) (σ : lj_S) : lj_D lm_P lm_M50 100 [.ref 0, .int x1, .int x2, x3] [.int x50] σ = lj_bi (lj_R lm_P 33 [.ref 0] σ) (fun y2 σ1 => lj_bv (lj_R lm_P 53 [.ref 0] σ1) (fun σ3 => lj_bi (lj_R lm_P 36 [.ref 0] σ3) (fun y5 σ4 => (if y5 = 0 then some (.inl (some (.int 0)), σ4) else (if lj_in (σ4.1 0 25) 1502 then (if ((σ4.1 9 ((σ4.1 0 25).toNatClampNeg))) = 1 then (if lj_in (σ4.1 0 25) 1502 then lj_bi (lj_R lm_P 28 [.ref 0, .int 5, .int ((((σ4.2 11 ((σ4.1 0 25).toNatClampNeg))) : Int64).toInt32), .int 0, .int 0] σ4) (fun y7 σ6 => lj_bi (lj_R lm_P 36 [.ref 0] (lj_put (lj_put σ6 0 61 3) 0 63 y2)) (fun y9 σ8 => (if y9 = 0 then some (.inl (some (.int 0)), σ8) else lj_D lm_P lm_M50 64 [.ref 0, .int y7, .int x50, .int y2] [] σ8)) lj_up) lj_up else none) else lj_bi (lj_R lm_P 47 [.ref 0] σ4) (fun y11 σ10 => some (.inl (some (.int (vp_nar .boolean y11))), σ10)) lj_up) else none))) lj_up) lj_up) lj_up := by rw [lj_D_eq]; rfl
set_option maxRecDepth 100000 in
set_option maxHeartbeats 4000000 in
theorem km_50_177 (x1 : Int32) (x2 : Int32) (x3 : Value) (σ : lj_S) : lj_D lm_P lm_M50 177 [.ref 0, .int x1, .int x2, x3] [] σ = lj_bv (lj_R lm_P 29 [.ref 0, .int 41, .int (σ.1 0 61), .int (σ.1 0 62), .int (σ.1 0 63)] σ) (fun σ1 => lj_bv (lj_R lm_P 29 [.ref 0, .int 19, .int x2, .int 0, .int 0] σ1) (fun σ2 => some (.inl (some (.int 1)), σ2)) lj_up) lj_up := by rw [lj_D_eq]; rfl
-- TableTongueModel.resolve(II)V
set_option maxRecDepth 100000 in
theorem rm_51 (x1 : Int32) (x2 : Int32) (σ : lj_S) : lj_R lm_P 51 [.ref 0, .int x1, .int x2] σ = lj_D lm_P lm_M51 0 [.ref 0, .int x1, .int x2, .retAddr 0, .retAddr 0, .retAddr 0, .retAddr 0, .retAddr 0, .retAddr 0] [] σ := lj_R_eq (nL := 9) (M := lm_M51) _ _ _ _ rfl rfl
set_option maxRecDepth 100000 in
set_option maxHeartbeats 4000000 in
theorem km_51_0 (x1 : Int32) (x2 : Int32) (σ : lj_S) : lj_D lm_P lm_M51 0 [.ref 0, .int x1, .int x2, .retAddr 0, .retAddr 0, .retAddr 0, .retAddr 0, .retAddr 0, .retAddr 0] [] σ = lj_bi (lj_R lm_P 35 [.ref 0, .int x2] σ) (fun y2 σ1 => lj_D lm_P lm_M51 14 [.ref 0, .int x1, .int x2, .int (σ1.1 0 53), .retAddr 0, .retAddr 0, .retAddr 0, .retAddr 0, .retAddr 0] [] (lj_put σ1 0 63 y2)) lj_up := by rw [lj_D_eq]; rfl
set_option maxRecDepth 100000 in
set_option maxHeartbeats 4000000 in
theorem km_51_14 (x1 : Int32) (x2 : Int32) (x3 : Int32) (x4 : Value) (x5 : Value) (σ : lj_S) : lj_D lm_P lm_M51 14 [.ref 0, .int x1, .int x2, .int x3, x4, x5, .retAddr 0, .retAddr 0, .retAddr 0] [] σ = (if x3 < 0 then some (.inl none, (lj_put (lj_put σ 0 61 2) 0 62 x1)) else (if x3 = (σ.1 0 53) then lj_D lm_P lm_M51 41 [.ref 0, .int x1, .int x2, .int x3, x4, x5, .retAddr 0, .retAddr 0, .retAddr 0] [.int (σ.1 0 50)] σ else (if lj_in (x3 + 1) 52 then lj_D lm_P lm_M51 41 [.ref 0, .int x1, .int x2, .int x3, x4, x5, .retAddr 0, .retAddr 0, .retAddr 0] [.int ((σ.1 31 ((x3 + 1).toNatClampNeg)))] σ else none))) := by rw [lj_D_eq]; rfl
set_option maxRecDepth 100000 in
set_option maxHeartbeats 4000000 in
theorem km_51_41 (x1 : Int32) (x2 : Int32) (x3 : Int32) (x4 : Value) (x5 : Value) (x50 : Int32) (σ : lj_S) : lj_D lm_P lm_M51 41 [.ref 0, .int x1, .int x2, .int x3, x4, x5, .retAddr 0, .retAddr 0, .retAddr 0] [.int x50] σ = lj_D lm_P lm_M51 49 [.ref 0, .int x1, .int x2, .int x3, .int x50, .int (x50 - 1), .retAddr 0, .retAddr 0, .retAddr 0] [] σ := by rw [lj_D_eq]; rfl
set_option maxRecDepth 100000 in
set_option maxHeartbeats 4000000 in
theorem km_51_49 (x1 : Int32) (x2 : Int32) (x3 : Int32) (x4 : Int32) (x5 : Int32) (σ : lj_S) : lj_D lm_P lm_M51 49 [.ref 0, .int x1, .int x2, .int x3, .int x4, .int x5, .retAddr 0, .retAddr 0, .retAddr 0] [] σ = (if lj_in x3 52 then (if x5 < (σ.1 31 x3.toNatClampNeg) then lj_D lm_P lm_M51 14 [.ref 0, .int x1, .int x2, .int (x3 + (-1)), .int x4, .int x5, .retAddr 0, .retAddr 0, .retAddr 0] [] σ else (if lj_in x5 1600 then (if (σ.1 29 x5.toNatClampNeg) = x1 then (if lj_in x5 1600 then lj_D lm_P lm_M51 88 [.ref 0, .int x1, .int x2, .int x3, .int x4, .int x5, .int (σ.1 30 x5.toNatClampNeg), .int 1, .int (x3 + 1)] [] σ else none) else lj_D lm_P lm_M51 49 [.ref 0, .int x1, .int x2, .int x3, .int x4, .int (x5 + (-1)), .retAddr 0, .retAddr 0, .retAddr 0] [] σ) else none)) else none) := by rw [lj_D_eq]; rfl
set_option maxRecDepth 100000 in
set_option maxHeartbeats 4000000 in
theorem km_51_88 (x1 : Int32) (x2 : Int32) (x3 : Int32) (x4 : Int32) (x5 : Int32) (x6 : Int32) (x7 : Int32) (x8 : Int32) (σ : lj_S) : lj_D lm_P lm_M51 88 [.ref 0, .int x1, .int x2, .int x3, .int x4, .int x5, .int x6, .int x7, .int x8] [] σ = (if (σ.1 0 53) < x8 then (if x3 = (σ.1 0 53) then lj_D lm_P lm_M51 133 [.ref 0, .int x1, .int x2, .int x3, .int x4, .int x5, .int x6, .int x7, .int x8] [.int 0, .ref 0] σ else lj_D lm_P lm_M51 133 [.ref 0, .int x1, .int x2, .int x3, .int x4, .int x5, .int x6, .int x7, .int x8] [.int 1, .ref 0] σ) else lj_bi (lj_R lm_P 52 [.ref 0, .int x8, .int x7, .int x6, .int x2] σ) (fun y2 σ1 => lj_D lm_P lm_M51 88 [.ref 0, .int x1, .int x2, .int x3, .int x4, .int x5, .int y2, .int 0, .int (x8 + 1)] [] σ1) lj_up) := by rw [lj_D_eq]; rfl
set_option maxRecDepth 100000 in
set_option maxHeartbeats 4000000 in
theorem km_51_133 (x1 : Int32) (x2 : Int32) (x3 : Int32) (x4 : Int32) (x5 : Int32) (x6 : Int32) (x7 : Int32) (x8 : Int32) (x50 : Int32) (σ : lj_S) : lj_D lm_P lm_M51 133 [.ref 0, .int x1, .int x2, .int x3, .int x4, .int x5, .int x6, .int x7, .int x8] [.int x50, .ref 0] σ = some (.inl none, (lj_put (lj_put σ 0 61 x50) 0 62 x6)) := by rw [lj_D_eq]; rfl
-- TableTongueModel.captured(IZII)I
set_option maxRecDepth 100000 in
theorem rm_52 (x1 : Int32) (x2 : Int32) (x3 : Int32) (x4 : Int32) (σ : lj_S) : lj_R lm_P 52 [.ref 0, .int x1, .int x2, .int x3, .int x4] σ = lj_D lm_P lm_M52 0 [.ref 0, .int x1, .int x2, .int x3, .int x4, .retAddr 0, .retAddr 0] [] σ := lj_R_eq (nL := 7) (M := lm_M52) _ _ _ _ rfl rfl
set_option maxRecDepth 100000 in
set_option maxHeartbeats 4000000 in
theorem km_52_0 (x1 : Int32) (x2 : Int32) (x3 : Int32) (x4 : Int32) (σ : lj_S) : lj_D lm_P lm_M52 0 [.ref 0, .int x1, .int x2, .int x3, .int x4, .retAddr 0, .retAddr 0] [] σ = (if lj_in x1 52 then lj_D lm_P lm_M52 11 [.ref 0, .int x1, .int x2, .int x3, .int x4, .int (σ.1 32 x1.toNatClampNeg), .int 0] [] σ else none) := by rw [lj_D_eq]; rfl
set_option maxRecDepth 100000 in
set_option maxHeartbeats 4000000 in
theorem km_52_11 (x1 : Int32) (x2 : Int32) (x3 : Int32) (x4 : Int32) (x5 : Int32) (x6 : Int32) (σ : lj_S) : lj_D lm_P lm_M52 11 [.ref 0, .int x1, .int x2, .int x3, .int x4, .int x5, .int x6] [] σ = (if lj_in x5 51 then (if (σ.1 15 x5.toNatClampNeg) ≤ x6 then (if lj_in x5 51 then (if (σ.1 15 x5.toNatClampNeg) = 30 then lj_bi (lj_R lm_P 37 [.ref 0, .int 3, .int x4] σ) (fun y2 σ1 => some (.inl (some (.int 0)), σ1)) lj_up else (if lj_in x5 51 then (if lj_in ((30 * x5) + (σ.1 15 x5.toNatClampNeg)) 1530 then (if lj_in x5 51 then (if lj_in ((30 * x5) + (σ.1 15 x5.toNatClampNeg)) 1530 then (if lj_in x5 51 then (if lj_in x5 51 then (if lj_in x5 51 then some (.inl (some (.int ((((lj_put σ 15 x5.toNatClampNeg ((σ.1 15 x5.toNatClampNeg) + 1)).1 15 x5.toNatClampNeg)) - 1))), (lj_put (lj_put (lj_put σ 18 (((30 * x5) + (σ.1 15 x5.toNatClampNeg)).toNatClampNeg) (vp_nar .boolean x2)) 19 (((30 * x5) + (σ.1 15 x5.toNatClampNeg)).toNatClampNeg) x3) 15 x5.toNatClampNeg ((σ.1 15 x5.toNatClampNeg) + 1))) else none) else none) else none) else none) else none) else none) else none)) else none) else (if lj_in ((30 * x5) + x6) 1530 then (if ((σ.1 18 (((30 * x5) + x6).toNatClampNeg))) = x2 then (if lj_in ((30 * x5) + x6) 1530 then (if ((σ.1 19 (((30 * x5) + x6).toNatClampNeg))) = x3 then some (.inl (some (.int x6)), σ) else lj_D lm_P lm_M52 60 [.ref 0, .int x1, .int x2, .int x3, .int x4, .int x5, .int x6] [] σ) else none) else lj_D lm_P lm_M52 60 [.ref 0, .int x1, .int x2, .int x3, .int x4, .int x5, .int x6] [] σ) else none)) else none) := by rw [lj_D_eq]; rfl
set_option maxRecDepth 100000 in
set_option maxHeartbeats 4000000 in
theorem km_52_60 (x1 : Int32) (x2 : Int32) (x3 : Int32) (x4 : Int32) (x5 : Int32) (x6 : Int32) (σ : lj_S) : lj_D lm_P lm_M52 60 [.ref 0, .int x1, .int x2, .int x3, .int x4, .int x5, .int x6] [] σ = lj_D lm_P lm_M52 11 [.ref 0, .int x1, .int x2, .int x3, .int x4, .int x5, .int (x6 + 1)] [] σ := by rw [lj_D_eq]; rfl
-- TableTongueModel.discharge()V
set_option maxRecDepth 100000 in
theorem rm_53  (σ : lj_S) : lj_R lm_P 53 [.ref 0] σ = lj_D lm_P lm_M53 0 [.ref 0, .retAddr 0] [] σ := lj_R_eq (nL := 2) (M := lm_M53) _ _ _ _ rfl rfl
set_option maxRecDepth 100000 in
set_option maxHeartbeats 4000000 in
theorem km_53_0  (σ : lj_S) : lj_D lm_P lm_M53 0 [.ref 0, .retAddr 0] [] σ = (if 2 < (σ.1 0 61) then (if (σ.1 0 61) = 3 then lj_bi (lj_R lm_P 28 [.ref 0, .int 12, .int 0, .int 0, .int (σ.1 0 63)] σ) (fun y2 σ1 => lj_D lm_P lm_M53 55 [.ref 0, .int y2] [] σ1) lj_up else lj_D lm_P lm_M53 55 [.ref 0, .int 0] [] σ) else lj_bi (lj_R lm_P 28 [.ref 0, .int (6 + (σ.1 0 61)), .int (σ.1 0 62), .int 0, .int (σ.1 0 63)] σ) (fun y4 σ3 => lj_D lm_P lm_M53 55 [.ref 0, .int y4] [] σ3) lj_up) := by rw [lj_D_eq]; rfl
set_option maxRecDepth 100000 in
set_option maxHeartbeats 4000000 in
theorem km_53_55 (x1 : Int32) (σ : lj_S) : lj_D lm_P lm_M53 55 [.ref 0, .int x1] [] σ = some (.inl none, σ) := by rw [lj_D_eq]; rfl
-- TableTongueModel.readLocal()Z
set_option maxRecDepth 100000 in
theorem rm_54  (σ : lj_S) : lj_R lm_P 54 [.ref 0] σ = lj_D lm_P lm_M54 0 [.ref 0, .retAddr 0, .retAddr 0, .retAddr 0, .retAddr 0, .retAddr 0, .retAddr 0] [] σ := lj_R_eq (nL := 7) (M := lm_M54) _ _ _ _ rfl rfl
set_option maxRecDepth 100000 in
set_option maxHeartbeats 4000000 in
theorem km_54_0  (σ : lj_S) : lj_D lm_P lm_M54 0 [.ref 0, .retAddr 0, .retAddr 0, .retAddr 0, .retAddr 0, .retAddr 0, .retAddr 0] [] σ = lj_bi (lj_R lm_P 32 [.ref 0, .int 9] σ) (fun y2 σ1 => (if y2 = 0 then lj_bi (lj_R lm_P 45 [.ref 0] σ1) (fun y4 σ3 => (if lj_in y4 51 then lj_D lm_P lm_M54 136 [.ref 0, .int (σ1.1 0 25), .int 0, .int (σ3.1 14 y4.toNatClampNeg), .int 1, .retAddr 0, .retAddr 0] [] σ3 else none)) lj_up else lj_bi (lj_R lm_P 36 [.ref 0] σ1) (fun y6 σ5 => (if y6 = 0 then lj_D lm_P lm_M54 36 [.ref 0, .retAddr 0, .retAddr 0, .retAddr 0, .retAddr 0, .retAddr 0, .retAddr 0] [] σ5 else (if lj_in (σ5.1 0 25) 1502 then (if ((σ5.1 9 ((σ5.1 0 25).toNatClampNeg))) = 1 then lj_D lm_P lm_M54 38 [.ref 0, .retAddr 0, .retAddr 0, .retAddr 0, .retAddr 0, .retAddr 0, .retAddr 0] [] σ5 else lj_bi (lj_R lm_P 47 [.ref 0] σ5) (fun y8 σ7 => (if y8 = 0 then lj_D lm_P lm_M54 36 [.ref 0, .retAddr 0, .retAddr 0, .retAddr 0, .retAddr 0, .retAddr 0, .retAddr 0] [] σ7 else lj_D lm_P lm_M54 38 [.ref 0, .retAddr 0, .retAddr 0, .retAddr 0, .retAddr 0, .retAddr 0, .retAddr 0] [] σ7)) lj_up) else none))) lj_up)) lj_up := by rw [lj_D_eq]; rfl
set_option maxRecDepth 100000 in
set_option maxHeartbeats 4000000 in
theorem km_54_36  (σ : lj_S) : lj_D lm_P lm_M54 36 [.ref 0, .retAddr 0, .retAddr 0, .retAddr 0, .retAddr 0, .retAddr 0, .retAddr 0] [] σ = some (.inl (some (.int 0)), σ) := by rw [lj_D_eq]; rfl
set_option maxRecDepth 100000 in
set_option maxHeartbeats 4000000 in
theorem km_54_38  (σ : lj_S) : lj_D lm_P lm_M54 38 [.ref 0, .retAddr 0, .retAddr 0, .retAddr 0, .retAddr 0, .retAddr 0, .retAddr 0] [] σ = lj_bi (lj_R lm_P 34 [.ref 0] σ) (fun y2 σ1 => lj_bi (lj_R lm_P 48 [.ref 0, .int y2] σ1) (fun y4 σ3 => (if 0 ≤ y4 then (if lj_in (σ3.1 0 25) 1502 then lj_bv (lj_R lm_P 55 [.ref 0, .int ((((σ3.2 11 ((σ3.1 0 25).toNatClampNeg))) : Int64).toInt32), .int y4] σ3) (fun σ5 => lj_bi (lj_R lm_P 28 [.ref 0, .int 1, .int 0, .int 0, .int 0] σ5) (fun y7 σ6 => lj_bi (lj_R lm_P 28 [.ref 0, .int 19, .int y4, .int 0, .int 0] σ6) (fun y9 σ8 => lj_bi (lj_R lm_P 36 [.ref 0] σ8) (fun y11 σ10 => (if y11 = 0 then some (.inl (some (.int 0)), σ10) else lj_bv (lj_R lm_P 29 [.ref 0, .int 40, .int y4, .int 0, .int 0] σ10) (fun σ12 => lj_bv (lj_R lm_P 29 [.ref 0, .int 19, .int 0, .int 0, .int 0] σ12) (fun σ13 => some (.inl (some (.int 1)), σ13)) lj_up) lj_up)) lj_up) lj_up) lj_up) lj_up else none) else some (.inl (some (.int 0)), σ3))) lj_up) lj_up := by rw [lj_D_eq]; rfl
set_option maxRecDepth 100000 in
set_option maxHeartbeats 4000000 in
theorem km_54_136 (x1 : Int32) (x2 : Int32) (x3 : Int32) (x4 : Int32) (σ : lj_S) : lj_D lm_P lm_M54 136 [.ref 0, .int x1, .int x2, .int x3, .int x4, .retAddr 0, .retAddr 0] [] σ = (if x4 = 0 then lj_bi (lj_R lm_P 28 [.ref 0, .int 14, .int 0, .int 0, .int 0] σ) (fun y2 σ1 => lj_bi (lj_R lm_P 39 [.ref 0, .int 61] σ1) (fun y4 σ3 => (if y4 = 0 then lj_bi (lj_R lm_P 56 [.ref 0, .int 0, .int x1, .int x2, .int x3] σ3) (fun y17 σ16 => some (.inl (some (.int (vp_nar .boolean y17))), σ16)) lj_up else lj_bi (lj_R lm_P 33 [.ref 0] σ3) (fun y6 σ5 => lj_bi (lj_R lm_P 36 [.ref 0] σ5) (fun y8 σ7 => (if y8 = 0 then some (.inl (some (.int 0)), σ7) else lj_bi (lj_R lm_P 38 [.ref 0] σ7) (fun y10 σ9 => (if y10 = 0 then lj_bi (lj_R lm_P 47 [.ref 0] σ9) (fun y15 σ14 => some (.inl (some (.int (vp_nar .boolean y15))), σ14)) lj_up else lj_bv (lj_R lm_P 29 [.ref 0, .int 39, .int y6, .int x1, .int ((x2 * 100) + x3)] σ9) (fun σ11 => lj_bv (lj_R lm_P 29 [.ref 0, .int 14, .int 0, .int 0, .int 0] σ11) (fun σ12 => lj_bv (lj_R lm_P 29 [.ref 0, .int 3, .int 0, .int 0, .int 0] σ12) (fun σ13 => some (.inl (some (.int 1)), σ13)) lj_up) lj_up) lj_up)) lj_up)) lj_up) lj_up)) lj_up) lj_up else (if lj_in (σ.1 0 25) 1502 then (if ((σ.1 9 ((σ.1 0 25).toNatClampNeg))) = 1 then lj_bi (lj_R lm_P 34 [.ref 0] σ) (fun y19 σ18 => lj_bi (lj_R lm_P 48 [.ref 0, .int y19] σ18) (fun y21 σ20 => (if y21 < 0 then lj_D lm_P lm_M54 177 [.ref 0, .int x1, .int x2, .int x3, .int x4, .retAddr 0, .retAddr 0] [] σ20 else lj_bi (lj_R lm_P 36 [.ref 0] σ20) (fun y23 σ22 => (if y23 = 0 then lj_D lm_P lm_M54 177 [.ref 0, .int x1, .int x2, .int x3, .int x4, .retAddr 0, .retAddr 0] [] σ22 else lj_bi (lj_R lm_P 39 [.ref 0, .int 44] σ22) (fun y25 σ24 => (if y25 = 0 then lj_D lm_P lm_M54 136 [.ref 0, .int x1, .int (x2 + 1), .int x3, .int y25, .retAddr 0, .retAddr 0] [] σ24 else lj_bi (lj_R lm_P 36 [.ref 0] σ24) (fun y27 σ26 => (if y27 = 0 then some (.inl (some (.int 0)), σ26) else lj_D lm_P lm_M54 136 [.ref 0, .int x1, .int (x2 + 1), .int x3, .int y25, .retAddr 0, .retAddr 0] [] σ26)) lj_up)) lj_up)) lj_up)) lj_up) lj_up else lj_bi (lj_R lm_P 47 [.ref 0] σ) (fun y29 σ28 => some (.inl (some (.int (vp_nar .boolean y29))), σ28)) lj_up) else none)) := by rw [lj_D_eq]; rfl
set_option maxRecDepth 100000 in
set_option maxHeartbeats 4000000 in
theorem km_54_177 (x1 : Int32) (x2 : Int32) (x3 : Int32) (x4 : Int32) (σ : lj_S) : lj_D lm_P lm_M54 177 [.ref 0, .int x1, .int x2, .int x3, .int x4, .retAddr 0, .retAddr 0] [] σ = some (.inl (some (.int 0)), σ) := by rw [lj_D_eq]; rfl
-- TableTongueModel.know(II)V
set_option maxRecDepth 100000 in
theorem rm_55 (x1 : Int32) (x2 : Int32) (σ : lj_S) : lj_R lm_P 55 [.ref 0, .int x1, .int x2] σ = lj_D lm_P lm_M55 0 [.ref 0, .int x1, .int x2] [] σ := lj_R_eq (nL := 3) (M := lm_M55) _ _ _ _ rfl rfl
set_option maxRecDepth 100000 in
set_option maxHeartbeats 4000000 in
theorem km_55_0 (x1 : Int32) (x2 : Int32) (σ : lj_S) : lj_D lm_P lm_M55 0 [.ref 0, .int x1, .int x2] [] σ = (if lj_in (σ.1 0 50) 1600 then (if lj_in (σ.1 0 50) 1600 then some (.inl none, (lj_put (lj_put (lj_put σ 29 ((σ.1 0 50).toNatClampNeg) x1) 30 ((σ.1 0 50).toNatClampNeg) x2) 0 50 ((σ.1 0 50) + 1))) else none) else none) := by rw [lj_D_eq]; rfl
-- TableTongueModel.localRow(IIII)Z
set_option maxRecDepth 100000 in
theorem rm_56 (x1 : Int32) (x2 : Int32) (x3 : Int32) (x4 : Int32) (σ : lj_S) : lj_R lm_P 56 [.ref 0, .int x1, .int x2, .int x3, .int x4] σ = lj_D lm_P lm_M56 0 [.ref 0, .int x1, .int x2, .int x3, .int x4, .retAddr 0, .retAddr 0] [] σ := lj_R_eq (nL := 7) (M := lm_M56) _ _ _ _ rfl rfl
set_option maxRecDepth 100000 in
set_option maxHeartbeats 4000000 in
theorem km_56_0 (x1 : Int32) (x2 : Int32) (x3 : Int32) (x4 : Int32) (σ : lj_S) : lj_D lm_P lm_M56 0 [.ref 0, .int x1, .int x2, .int x3, .int x4, .retAddr 0, .retAddr 0] [] σ = (if x1 ≤ 0 then lj_D lm_P lm_M56 18 [.ref 0, .int x1, .int x2, .int x3, .int x4, .int 0, .retAddr 0] [] σ else lj_bi (lj_R lm_P 28 [.ref 0, .int 17, .int 0, .int 0, .int x1] σ) (fun y2 σ1 => lj_D lm_P lm_M56 18 [.ref 0, .int x1, .int x2, .int x3, .int x4, .int y2, .retAddr 0] [] σ1) lj_up) := by rw [lj_D_eq]; rfl
set_option maxRecDepth 100000 in
set_option maxHeartbeats 4000000 in
theorem km_56_18 (x1 : Int32) (x2 : Int32) (x3 : Int32) (x4 : Int32) (x5 : Int32) (σ : lj_S) : lj_D lm_P lm_M56 18 [.ref 0, .int x1, .int x2, .int x3, .int x4, .int x5, .retAddr 0] [] σ = lj_bi (lj_R lm_P 28 [.ref 0, .int 18, .int x3, .int 0, .int 0] σ) (fun y2 σ1 => lj_D lm_P lm_M56 34 [.ref 0, .int x1, .int x2, .int x3, .int x4, .int y2, .int (x3 - 1)] [] σ1) lj_up := by rw [lj_D_eq]; rfl
set_option maxRecDepth 100000 in
set_option maxHeartbeats 4000000 in
theorem km_56_34 (x1 : Int32) (x2 : Int32) (x3 : Int32) (x4 : Int32) (x5 : Int32) (x6 : Int32) (σ : lj_S) : lj_D lm_P lm_M56 34 [.ref 0, .int x1, .int x2, .int x3, .int x4, .int x5, .int x6] [] σ = (if x6 < 0 then lj_D lm_P lm_M56 63 [.ref 0, .int x1, .int x2, .int x3, .int x4, .int x5, .int 0] [] σ else lj_bi (lj_R lm_P 28 [.ref 0, .int 19, .int (x4 + x6), .int 0, .int 0] σ) (fun y2 σ1 => lj_D lm_P lm_M56 34 [.ref 0, .int x1, .int x2, .int x3, .int x4, .int y2, .int (x6 + (-1))] [] σ1) lj_up) := by rw [lj_D_eq]; rfl
set_option maxRecDepth 100000 in
set_option maxHeartbeats 4000000 in
theorem km_56_63 (x1 : Int32) (x2 : Int32) (x3 : Int32) (x4 : Int32) (x5 : Int32) (x6 : Int32) (σ : lj_S) : lj_D lm_P lm_M56 63 [.ref 0, .int x1, .int x2, .int x3, .int x4, .int x5, .int x6] [] σ = (if x3 ≤ x6 then some (.inl (some (.int 1)), σ) else (if lj_in (x2 + (2 * x6)) 1502 then lj_bv (lj_R lm_P 55 [.ref 0, .int ((((σ.2 11 ((x2 + (2 * x6)).toNatClampNeg))) : Int64).toInt32), .int (x4 + x6)] σ) (fun σ1 => lj_D lm_P lm_M56 63 [.ref 0, .int x1, .int x2, .int x3, .int x4, .int x5, .int (x6 + 1)] [] σ1) lj_up else none)) := by rw [lj_D_eq]; rfl
-- TableTongueModel.readBreak(I)Z
set_option maxRecDepth 100000 in
theorem rm_57 (x1 : Int32) (σ : lj_S) : lj_R lm_P 57 [.ref 0, .int x1] σ = lj_D lm_P lm_M57 0 [.ref 0, .int x1] [] σ := lj_R_eq (nL := 2) (M := lm_M57) _ _ _ _ rfl rfl
set_option maxRecDepth 100000 in
set_option maxHeartbeats 4000000 in
theorem km_57_0 (x1 : Int32) (σ : lj_S) : lj_D lm_P lm_M57 0 [.ref 0, .int x1] [] σ = (if (σ.1 0 56) = 0 then lj_D lm_P lm_M57 25 [.ref 0, .int x1] [] σ else (if lj_in ((σ.1 0 56) - 1) 64 then (if ((σ.1 34 (((σ.1 0 56) - 1).toNatClampNeg))) = (σ.1 0 53) then (if lj_in ((σ.1 0 56) - 1) 64 then lj_bi (lj_R lm_P 28 [.ref 0, .int 21, .int ((σ.1 33 (((σ.1 0 56) - 1).toNatClampNeg))), .int 0, .int 0] σ) (fun y2 σ1 => (if lj_in ((σ.1 0 56) - 1) 64 then some (.inl (some (.int 1)), (lj_put σ1 33 (((σ.1 0 56) - 1).toNatClampNeg) y2)) else none)) lj_up else none) else lj_D lm_P lm_M57 25 [.ref 0, .int x1] [] σ) else none)) := by rw [lj_D_eq]; rfl
set_option maxRecDepth 100000 in
set_option maxHeartbeats 4000000 in
theorem km_57_25 (x1 : Int32) (σ : lj_S) : lj_D lm_P lm_M57 25 [.ref 0, .int x1] [] σ = lj_bi (lj_R lm_P 37 [.ref 0, .int 4, .int x1] σ) (fun y2 σ1 => some (.inl (some (.int (vp_nar .boolean y2))), σ1)) lj_up := by rw [lj_D_eq]; rfl
-- TableTongueModel.endScope(I)V
set_option maxRecDepth 100000 in
theorem rm_58 (x1 : Int32) (σ : lj_S) : lj_R lm_P 58 [.ref 0, .int x1] σ = lj_D lm_P lm_M58 0 [.ref 0, .int x1, .retAddr 0] [] σ := lj_R_eq (nL := 3) (M := lm_M58) _ _ _ _ rfl rfl
set_option maxRecDepth 100000 in
set_option maxHeartbeats 4000000 in
theorem km_58_0 (x1 : Int32) (σ : lj_S) : lj_D lm_P lm_M58 0 [.ref 0, .int x1, .retAddr 0] [] σ = (if (σ.1 0 50) ≤ x1 then lj_D lm_P lm_M58 28 [.ref 0, .int x1, .retAddr 0] [] σ else (if lj_in x1 1600 then lj_bi (lj_R lm_P 28 [.ref 0, .int 20, .int (σ.1 30 x1.toNatClampNeg), .int 0, .int 0] σ) (fun y2 σ1 => lj_D lm_P lm_M58 28 [.ref 0, .int x1, .int y2] [] (lj_put σ1 0 50 x1)) lj_up else none)) := by rw [lj_D_eq]; rfl
set_option maxRecDepth 100000 in
set_option maxHeartbeats 4000000 in
theorem km_58_28 (x1 : Int32) (x2 : Value) (σ : lj_S) : lj_D lm_P lm_M58 28 [.ref 0, .int x1, x2] [] σ = some (.inl none, σ) := by rw [lj_D_eq]; rfl
-- TableTongueModel.readE(I)Z
set_option maxRecDepth 100000 in
theorem rm_59 (x1 : Int32) (σ : lj_S) : lj_R lm_P 59 [.ref 0, .int x1] σ = lj_D lm_P lm_M59 0 [.ref 0, .int x1, .retAddr 0, .retAddr 0] [] σ := lj_R_eq (nL := 4) (M := lm_M59) _ _ _ _ rfl rfl
set_option maxRecDepth 100000 in
set_option maxHeartbeats 4000000 in
theorem km_59_0 (x1 : Int32) (σ : lj_S) : lj_D lm_P lm_M59 0 [.ref 0, .int x1, .retAddr 0, .retAddr 0] [] σ = lj_bi (lj_R lm_P 38 [.ref 0] σ) (fun y2 σ1 => (if y2 = 0 then lj_bi (lj_R lm_P 47 [.ref 0] σ1) (fun y18 σ17 => some (.inl (some (.int (vp_nar .boolean y18))), σ17)) lj_up else lj_bi (lj_R lm_P 41 [.ref 0] σ1) (fun y4 σ3 => (if y4 = 0 then some (.inl (some (.int 0)), σ3) else lj_bv (lj_R lm_P 29 [.ref 0, .int 1, .int 0, .int 0, .int 0] σ3) (fun σ5 => lj_bv (lj_R lm_P 29 [.ref 0, .int 4, .int x1, .int 0, .int 0] σ5) (fun σ6 => lj_bi (lj_R lm_P 32 [.ref 0, .int 14] σ6) (fun y8 σ7 => (if y8 = 0 then lj_bi (lj_R lm_P 39 [.ref 0, .int 35] σ7) (fun y10 σ9 => (if y10 = 0 then lj_bi (lj_R lm_P 39 [.ref 0, .int 45] σ9) (fun y12 σ11 => (if y12 = 0 then lj_bi (lj_R lm_P 39 [.ref 0, .int 126] σ11) (fun y14 σ13 => (if y14 = 0 then lj_bi (lj_R lm_P 60 [.ref 0] σ13) (fun y16 σ15 => some (.inl (some (.int (vp_nar .boolean y16))), σ15)) lj_up else lj_D lm_P lm_M59 73 [.ref 0, .int x1, .retAddr 0, .retAddr 0] [] σ13)) lj_up else lj_D lm_P lm_M59 73 [.ref 0, .int x1, .retAddr 0, .retAddr 0] [] σ11)) lj_up else lj_D lm_P lm_M59 73 [.ref 0, .int x1, .retAddr 0, .retAddr 0] [] σ9)) lj_up else lj_D lm_P lm_M59 73 [.ref 0, .int x1, .retAddr 0, .retAddr 0] [] σ7)) lj_up) lj_up) lj_up)) lj_up)) lj_up := by rw [lj_D_eq]; rfl
set_option maxRecDepth 100000 in
set_option maxHeartbeats 4000000 in
theorem km_59_73 (x1 : Int32) (σ : lj_S) : lj_D lm_P lm_M59 73 [.ref 0, .int x1, .retAddr 0, .retAddr 0] [] σ = lj_bi (lj_R lm_P 33 [.ref 0] σ) (fun y2 σ1 => lj_bi (lj_R lm_P 32 [.ref 0, .int 14] σ1) (fun y4 σ3 => (if y4 = 0 then (if lj_in (σ3.1 0 25) 1502 then lj_D lm_P lm_M59 101 [.ref 0, .int x1, .int y2, .retAddr 0] [.int ((((σ3.2 11 ((σ3.1 0 25).toNatClampNeg))) : Int64).toInt32)] σ3 else none) else lj_D lm_P lm_M59 101 [.ref 0, .int x1, .int y2, .retAddr 0] [.int 0] σ3)) lj_up) lj_up := by rw [lj_D_eq]; rfl
set_option maxRecDepth 100000 in
set_option maxHeartbeats 4000000 in
theorem km_59_101 (x1 : Int32) (x2 : Int32) (x50 : Int32) (σ : lj_S) : lj_D lm_P lm_M59 101 [.ref 0, .int x1, .int x2, .retAddr 0] [.int x50] σ = lj_bv (lj_R lm_P 29 [.ref 0, .int 5, .int x50, .int x2, .int 0] σ) (fun σ1 => lj_bv (lj_R lm_P 29 [.ref 0, .int 3, .int 12, .int 0, .int 0] σ1) (fun σ2 => lj_bi (lj_R lm_P 36 [.ref 0] σ2) (fun y4 σ3 => some (.inl (some (.int (vp_nar .boolean y4))), σ3)) lj_up) lj_up) lj_up := by rw [lj_D_eq]; rfl
-- TableTongueModel.operand()Z
set_option maxRecDepth 100000 in
theorem rm_60  (σ : lj_S) : lj_R lm_P 60 [.ref 0] σ = lj_D lm_P lm_M60 0 [.ref 0, .retAddr 0] [] σ := lj_R_eq (nL := 2) (M := lm_M60) _ _ _ _ rfl rfl
set_option maxRecDepth 100000 in
set_option maxHeartbeats 4000000 in
theorem km_60_0  (σ : lj_S) : lj_D lm_P lm_M60 0 [.ref 0, .retAddr 0] [] σ = (if lj_in (σ.1 0 25) 1502 then (if ((σ.1 9 ((σ.1 0 25).toNatClampNeg))) = 2 then (if lj_in (σ.1 0 25) 1502 then (if lj_in (σ.1 0 40) 1501 then lj_bi (lj_R lm_P 61 [.ref 0, .int 4, .int (((σ.1 0 40) + 1) - 1)] (lj_put (lj_putL (lj_put σ 0 64 (-1)) 24 ((σ.1 0 40).toNatClampNeg) ((σ.2 11 ((σ.1 0 25).toNatClampNeg)))) 0 40 ((σ.1 0 40) + 1))) (fun y35 σ34 => some (.inl (some (.int (vp_nar .boolean y35))), σ34)) lj_up else none) else none) else (if lj_in (σ.1 0 25) 1502 then (if ((σ.1 9 ((σ.1 0 25).toNatClampNeg))) = 3 then (if lj_in (σ.1 0 25) 1502 then lj_bi (lj_R lm_P 61 [.ref 0, .int 5, .int ((((σ.2 11 ((σ.1 0 25).toNatClampNeg))) : Int64).toInt32)] (lj_put σ 0 64 (-1))) (fun y33 σ32 => some (.inl (some (.int (vp_nar .boolean y33))), σ32)) lj_up else none) else lj_bi (lj_R lm_P 32 [.ref 0, .int 13] (lj_put σ 0 64 (-1))) (fun y2 σ1 => (if y2 = 0 then lj_bi (lj_R lm_P 32 [.ref 0, .int 19] σ1) (fun y4 σ3 => (if y4 = 0 then lj_bi (lj_R lm_P 32 [.ref 0, .int 7] σ3) (fun y6 σ5 => (if y6 = 0 then lj_bi (lj_R lm_P 39 [.ref 0, .int 301] σ5) (fun y8 σ7 => (if y8 = 0 then lj_bi (lj_R lm_P 32 [.ref 0, .int 9] σ7) (fun y10 σ9 => (if y10 = 0 then lj_bi (lj_R lm_P 39 [.ref 0, .int 123] σ9) (fun y12 σ11 => (if y12 = 0 then lj_bv (lj_R lm_P 29 [.ref 0, .int 11, .int 0, .int 0, .int 0] σ11) (fun σ13 => lj_bv (lj_R lm_P 29 [.ref 0, .int 7, .int 0, .int 0, .int 0] σ13) (fun σ14 => some (.inl (some (.int 1)), σ14)) lj_up) lj_up else lj_bi (lj_R lm_P 62 [.ref 0] σ11) (fun y16 σ15 => some (.inl (some (.int (vp_nar .boolean y16))), σ15)) lj_up)) lj_up else lj_bv (lj_R lm_P 29 [.ref 0, .int 19, .int 0, .int 0, .int 0] σ9) (fun σ17 => lj_bi (lj_R lm_P 36 [.ref 0] σ17) (fun y19 σ18 => some (.inl (some (.int (vp_nar .boolean y19))), σ18)) lj_up) lj_up)) lj_up else lj_bi (lj_R lm_P 34 [.ref 0] σ7) (fun y21 σ20 => lj_bi (lj_R lm_P 36 [.ref 0] σ20) (fun y23 σ22 => (if y23 = 0 then some (.inl (some (.int 0)), σ22) else lj_bi (lj_R lm_P 45 [.ref 0] σ22) (fun y25 σ24 => (if lj_in y25 51 then (if (σ24.1 16 y25.toNatClampNeg) = 0 then lj_bi (lj_R lm_P 37 [.ref 0, .int 4, .int y21] σ24) (fun y29 σ28 => some (.inl (some (.int (vp_nar .boolean y29))), σ28)) lj_up else lj_bi (lj_R lm_P 28 [.ref 0, .int 30, .int 1, .int 0, .int 0] σ24) (fun y27 σ26 => some (.inl (some (.int 1)), (lj_put σ26 0 64 y27))) lj_up) else none)) lj_up)) lj_up) lj_up)) lj_up else lj_D lm_P lm_M60 121 [.ref 0, .retAddr 0] [] σ5)) lj_up else lj_D lm_P lm_M60 121 [.ref 0, .retAddr 0] [] σ3)) lj_up else lj_bi (lj_R lm_P 61 [.ref 0, .int 1, .int 0] σ1) (fun y31 σ30 => some (.inl (some (.int (vp_nar .boolean y31))), σ30)) lj_up)) lj_up) else none)) else none) := by rw [lj_D_eq]; rfl
set_option maxRecDepth 100000 in
set_option maxHeartbeats 4000000 in
theorem km_60_121  (σ : lj_S) : lj_D lm_P lm_M60 121 [.ref 0, .retAddr 0] [] σ = lj_bi (lj_R lm_P 32 [.ref 0, .int 19] σ) (fun y2 σ1 => (if y2 = 0 then lj_D lm_P lm_M60 137 [.ref 0, .retAddr 0] [.int 0, .int 2, .ref 0] σ1 else lj_D lm_P lm_M60 137 [.ref 0, .retAddr 0] [.int 1, .int 2, .ref 0] σ1)) lj_up := by rw [lj_D_eq]; rfl
set_option maxRecDepth 100000 in
set_option maxHeartbeats 4000000 in
theorem km_60_137 (x50 : Int32) (x51 : Int32) (σ : lj_S) : lj_D lm_P lm_M60 137 [.ref 0, .retAddr 0] [.int x50, .int x51, .ref 0] σ = lj_bi (lj_R lm_P 61 [.ref 0, .int x51, .int x50] σ) (fun y2 σ1 => some (.inl (some (.int (vp_nar .boolean y2))), σ1)) lj_up := by rw [lj_D_eq]; rfl
-- TableTongueModel.constant(II)Z
set_option maxRecDepth 100000 in
theorem rm_61 (x1 : Int32) (x2 : Int32) (σ : lj_S) : lj_R lm_P 61 [.ref 0, .int x1, .int x2] σ = lj_D lm_P lm_M61 0 [.ref 0, .int x1, .int x2, .retAddr 0] [] σ := lj_R_eq (nL := 4) (M := lm_M61) _ _ _ _ rfl rfl
set_option maxRecDepth 100000 in
set_option maxHeartbeats 4000000 in
theorem km_61_0 (x1 : Int32) (x2 : Int32) (σ : lj_S) : lj_D lm_P lm_M61 0 [.ref 0, .int x1, .int x2, .retAddr 0] [] σ = lj_bi (lj_R lm_P 28 [.ref 0, .int x1, .int x2, .int 0, .int 0] σ) (fun y2 σ1 => lj_bi (lj_R lm_P 36 [.ref 0] (lj_put σ1 0 64 (-1))) (fun y4 σ3 => some (.inl (some (.int (vp_nar .boolean y4))), σ3)) lj_up) lj_up := by rw [lj_D_eq]; rfl
-- TableTongueModel.table()Z
set_option maxRecDepth 100000 in
theorem rm_62  (σ : lj_S) : lj_R lm_P 62 [.ref 0] σ = lj_D lm_P lm_M62 0 [.ref 0, .retAddr 0] [] σ := lj_R_eq (nL := 2) (M := lm_M62) _ _ _ _ rfl rfl
set_option maxRecDepth 100000 in
set_option maxHeartbeats 4000000 in
theorem km_62_0  (σ : lj_S) : lj_D lm_P lm_M62 0 [.ref 0, .retAddr 0] [] σ = lj_bi (lj_R lm_P 28 [.ref 0, .int 26, .int 0, .int 0, .int 0] σ) (fun y2 σ1 => lj_bv (lj_R lm_P 29 [.ref 0, .int 15, .int 1, .int 0, .int 0] σ1) (fun σ3 => lj_bi (lj_R lm_P 36 [.ref 0] σ3) (fun y5 σ4 => some (.inl (some (.int (vp_nar .boolean y5))), σ4)) lj_up) lj_up) lj_up := by rw [lj_D_eq]; rfl
-- TableTongueModel.readOps(I)Z
set_option maxRecDepth 100000 in
theorem rm_63 (x1 : Int32) (σ : lj_S) : lj_R lm_P 63 [.ref 0, .int x1] σ = lj_D lm_P lm_M63 0 [.ref 0, .int x1, .retAddr 0, .retAddr 0, .retAddr 0, .retAddr 0] [] σ := lj_R_eq (nL := 6) (M := lm_M63) _ _ _ _ rfl rfl
set_option maxRecDepth 100000 in
set_option maxHeartbeats 4000000 in
theorem km_63_0 (x1 : Int32) (σ : lj_S) : lj_D lm_P lm_M63 0 [.ref 0, .int x1, .retAddr 0, .retAddr 0, .retAddr 0, .retAddr 0] [] σ = lj_bi (lj_R lm_P 64 [.ref 0] σ) (fun y2 σ1 => (if x1 < y2 then lj_bi (lj_R lm_P 33 [.ref 0] σ1) (fun y4 σ3 => (if y2 = 1 then lj_D lm_P lm_M63 45 [.ref 0, .int x1, .int y2, .int y4, .retAddr 0, .retAddr 0] [.int 1] σ3 else (if y2 = 2 then lj_D lm_P lm_M63 45 [.ref 0, .int x1, .int y2, .int y4, .retAddr 0, .retAddr 0] [.int 2] σ3 else (if lj_in (σ3.1 0 25) 1502 then lj_D lm_P lm_M63 45 [.ref 0, .int x1, .int y2, .int y4, .retAddr 0, .retAddr 0] [.int ((((σ3.2 11 ((σ3.1 0 25).toNatClampNeg))) : Int64).toInt32)] σ3 else none)))) lj_up else some (.inl (some (.int 1)), σ1))) lj_up := by rw [lj_D_eq]; rfl
set_option maxRecDepth 100000 in
set_option maxHeartbeats 4000000 in
theorem km_63_45 (x1 : Int32) (x2 : Int32) (x3 : Int32) (x50 : Int32) (σ : lj_S) : lj_D lm_P lm_M63 45 [.ref 0, .int x1, .int x2, .int x3, .retAddr 0, .retAddr 0] [.int x50] σ = (if 3 ≤ x2 then lj_D lm_P lm_M63 76 [.ref 0, .int x1, .int x2, .int x3, .int x50, .int 0] [] σ else (if x2 = 1 then lj_D lm_P lm_M63 68 [.ref 0, .int x1, .int x2, .int x3, .int x50, .int 0] [.int 24, .ref 0] σ else lj_D lm_P lm_M63 68 [.ref 0, .int x1, .int x2, .int x3, .int x50, .int 0] [.int 23, .ref 0] σ)) := by rw [lj_D_eq]; rfl
set_option maxRecDepth 100000 in
set_option maxHeartbeats 4000000 in
theorem km_63_68 (x1 : Int32) (x2 : Int32) (x3 : Int32) (x4 : Int32) (x5 : Int32) (x50 : Int32) (σ : lj_S) : lj_D lm_P lm_M63 68 [.ref 0, .int x1, .int x2, .int x3, .int x4, .int x5] [.int x50, .ref 0] σ = lj_bi (lj_R lm_P 28 [.ref 0, .int x50, .int 0, .int 0, .int 0] σ) (fun y2 σ1 => lj_D lm_P lm_M63 76 [.ref 0, .int x1, .int x2, .int x3, .int x4, .int y2] [] σ1) lj_up := by rw [lj_D_eq]; rfl
set_option maxRecDepth 100000 in
set_option maxHeartbeats 4000000 in
theorem km_63_76 (x1 : Int32) (x2 : Int32) (x3 : Int32) (x4 : Int32) (x5 : Int32) (σ : lj_S) : lj_D lm_P lm_M63 76 [.ref 0, .int x1, .int x2, .int x3, .int x4, .int x5] [] σ = lj_bv (lj_R lm_P 29 [.ref 0, .int 4, .int x1, .int 0, .int 0] σ) (fun σ1 => lj_bv (lj_R lm_P 29 [.ref 0, .int 6, .int x4, .int x3, .int x5] σ1) (fun σ2 => (if x2 = 9 then lj_D lm_P lm_M63 109 [.ref 0, .int x1, .int x2, .int x3, .int x4, .int x5] [.int 8, .int 3, .ref 0] σ2 else lj_D lm_P lm_M63 109 [.ref 0, .int x1, .int x2, .int x3, .int x4, .int x5] [.int x2, .int 3, .ref 0] σ2)) lj_up) lj_up := by rw [lj_D_eq]; rfl
set_option maxRecDepth 100000 in
set_option maxHeartbeats 4000000 in
theorem km_63_109 (x1 : Int32) (x2 : Int32) (x3 : Int32) (x4 : Int32) (x5 : Int32) (x50 : Int32) (x51 : Int32) (σ : lj_S) : lj_D lm_P lm_M63 109 [.ref 0, .int x1, .int x2, .int x3, .int x4, .int x5] [.int x50, .int x51, .ref 0] σ = lj_bv (lj_R lm_P 29 [.ref 0, .int x51, .int x50, .int 0, .int 0] σ) (fun σ1 => lj_bi (lj_R lm_P 36 [.ref 0] σ1) (fun y3 σ2 => some (.inl (some (.int (vp_nar .boolean y3))), σ2)) lj_up) lj_up := by rw [lj_D_eq]; rfl
-- TableTongueModel.strength()I
set_option maxRecDepth 100000 in
theorem rm_64  (σ : lj_S) : lj_R lm_P 64 [.ref 0] σ = lj_D lm_P lm_M64 0 [.ref 0] [] σ := lj_R_eq (nL := 1) (M := lm_M64) _ _ _ _ rfl rfl
set_option maxRecDepth 100000 in
set_option maxHeartbeats 4000000 in
theorem km_64_0  (σ : lj_S) : lj_D lm_P lm_M64 0 [.ref 0] [] σ = lj_bi (lj_R lm_P 32 [.ref 0, .int 15] σ) (fun y2 σ1 => (if y2 = 0 then lj_bi (lj_R lm_P 32 [.ref 0, .int 1] σ1) (fun y4 σ3 => (if y4 = 0 then (if lj_in (σ3.1 0 25) 1502 then (if ((σ3.1 9 ((σ3.1 0 25).toNatClampNeg))) = 5 then (if lj_in (σ3.1 0 25) 1502 then lj_bi (lj_R lm_P 65 [.int ((((σ3.2 11 ((σ3.1 0 25).toNatClampNeg))) : Int64).toInt32)] σ3) (fun y6 σ5 => lj_D lm_P lm_M64 51 [.ref 0] [.int y6] σ5) lj_up else none) else lj_D lm_P lm_M64 51 [.ref 0] [.int 0] σ3) else none) else some (.inl (some (.int 2)), σ3))) lj_up else some (.inl (some (.int 1)), σ1))) lj_up := by rw [lj_D_eq]; rfl
set_option maxRecDepth 100000 in
set_option maxHeartbeats 4000000 in
theorem km_64_51 (x50 : Int32) (σ : lj_S) : lj_D lm_P lm_M64 51 [.ref 0] [.int x50] σ = some (.inl (some (.int x50)), σ) := by rw [lj_D_eq]; rfl
-- TableTongueModel.leftOf(I)I
set_option maxRecDepth 100000 in
theorem rm_65 (x0 : Int32) (σ : lj_S) : lj_R lm_P 65 [.int x0] σ = lj_D lm_P lm_M65 0 [.int x0] [] σ := lj_R_eq (nL := 1) (M := lm_M65) _ _ _ _ rfl rfl
set_option maxRecDepth 100000 in
set_option maxHeartbeats 4000000 in
theorem km_65_0 (x0 : Int32) (σ : lj_S) : lj_D lm_P lm_M65 0 [.int x0] [] σ = (if x0 = 37 then lj_D lm_P lm_M65 166 [.int x0] [] σ else (if x0 = 38 then some (.inl (some (.int 6)), σ) else (if x0 = 42 then lj_D lm_P lm_M65 166 [.int x0] [] σ else (if x0 = 43 then lj_D lm_P lm_M65 163 [.int x0] [] σ else (if x0 = 45 then lj_D lm_P lm_M65 163 [.int x0] [] σ else (if x0 = 60 then lj_D lm_P lm_M65 148 [.int x0] [] σ else (if x0 = 62 then lj_D lm_P lm_M65 148 [.int x0] [] σ else (if x0 = 124 then some (.inl (some (.int 4)), σ) else (if x0 = 126 then some (.inl (some (.int 5)), σ) else (if x0 = 300 then some (.inl (some (.int 9)), σ) else (if x0 = 302 then lj_D lm_P lm_M65 148 [.int x0] [] σ else (if x0 = 303 then lj_D lm_P lm_M65 148 [.int x0] [] σ else (if x0 = 304 then lj_D lm_P lm_M65 148 [.int x0] [] σ else (if x0 = 305 then lj_D lm_P lm_M65 148 [.int x0] [] σ else (if x0 = 306 then lj_D lm_P lm_M65 157 [.int x0] [] σ else (if x0 = 307 then lj_D lm_P lm_M65 157 [.int x0] [] σ else (if x0 = 308 then lj_D lm_P lm_M65 166 [.int x0] [] σ else some (.inl (some (.int 0)), σ)))))))))))))))))) := by rw [lj_D_eq]; rfl
set_option maxRecDepth 100000 in
set_option maxHeartbeats 4000000 in
theorem km_65_148 (x0 : Int32) (σ : lj_S) : lj_D lm_P lm_M65 148 [.int x0] [] σ = some (.inl (some (.int 3)), σ) := by rw [lj_D_eq]; rfl
set_option maxRecDepth 100000 in
set_option maxHeartbeats 4000000 in
theorem km_65_157 (x0 : Int32) (σ : lj_S) : lj_D lm_P lm_M65 157 [.int x0] [] σ = some (.inl (some (.int 7)), σ) := by rw [lj_D_eq]; rfl
set_option maxRecDepth 100000 in
set_option maxHeartbeats 4000000 in
theorem km_65_163 (x0 : Int32) (σ : lj_S) : lj_D lm_P lm_M65 163 [.int x0] [] σ = some (.inl (some (.int 10)), σ) := by rw [lj_D_eq]; rfl
set_option maxRecDepth 100000 in
set_option maxHeartbeats 4000000 in
theorem km_65_166 (x0 : Int32) (σ : lj_S) : lj_D lm_P lm_M65 166 [.int x0] [] σ = some (.inl (some (.int 11)), σ) := by rw [lj_D_eq]; rfl
-- TableTongueModel.unary(II)Z
set_option maxRecDepth 100000 in
theorem rm_66 (x1 : Int32) (x2 : Int32) (σ : lj_S) : lj_R lm_P 66 [.ref 0, .int x1, .int x2] σ = lj_D lm_P lm_M66 0 [.ref 0, .int x1, .int x2, .retAddr 0] [] σ := lj_R_eq (nL := 4) (M := lm_M66) _ _ _ _ rfl rfl
set_option maxRecDepth 100000 in
set_option maxHeartbeats 4000000 in
theorem km_66_0 (x1 : Int32) (x2 : Int32) (σ : lj_S) : lj_D lm_P lm_M66 0 [.ref 0, .int x1, .int x2, .retAddr 0] [] σ = (if x1 = 0 then lj_bi (lj_R lm_P 28 [.ref 0, .int 35, .int 0, .int 0, .int 0] (lj_put σ 0 64 (-1))) (fun y4 σ3 => lj_D lm_P lm_M66 65 [.ref 0, .int x1, .int x2, .int y4] [] σ3) lj_up else (if x1 = 35 then lj_bi (lj_R lm_P 28 [.ref 0, .int 34, .int 0, .int 0, .int x2] (lj_put σ 0 64 (-1))) (fun y2 σ1 => lj_D lm_P lm_M66 65 [.ref 0, .int x1, .int x2, .int y2] [] σ1) lj_up else (if x1 = 45 then lj_D lm_P lm_M66 59 [.ref 0, .int x1, .int x2, .int 0] [.int 13, .int 32, .ref 0] (lj_put σ 0 64 (-1)) else lj_D lm_P lm_M66 59 [.ref 0, .int x1, .int x2, .int 0] [.int 14, .int 32, .ref 0] (lj_put σ 0 64 (-1))))) := by rw [lj_D_eq]; rfl
set_option maxRecDepth 100000 in
set_option maxHeartbeats 4000000 in
theorem km_66_59 (x1 : Int32) (x2 : Int32) (x3 : Int32) (x50 : Int32) (x51 : Int32) (σ : lj_S) : lj_D lm_P lm_M66 59 [.ref 0, .int x1, .int x2, .int x3] [.int x50, .int x51, .ref 0] σ = lj_bi (lj_R lm_P 28 [.ref 0, .int x51, .int x50, .int 0, .int x2] σ) (fun y2 σ1 => lj_D lm_P lm_M66 65 [.ref 0, .int x1, .int x2, .int y2] [] σ1) lj_up := by rw [lj_D_eq]; rfl
set_option maxRecDepth 100000 in
set_option maxHeartbeats 4000000 in
theorem km_66_65 (x1 : Int32) (x2 : Int32) (x3 : Int32) (σ : lj_S) : lj_D lm_P lm_M66 65 [.ref 0, .int x1, .int x2, .int x3] [] σ = some (.inl (some (.int 1)), σ) := by rw [lj_D_eq]; rfl
-- TableTongueModel.binary(III)Z
set_option maxRecDepth 100000 in
theorem rm_67 (x1 : Int32) (x2 : Int32) (x3 : Int32) (σ : lj_S) : lj_R lm_P 67 [.ref 0, .int x1, .int x2, .int x3] σ = lj_D lm_P lm_M67 0 [.ref 0, .int x1, .int x2, .int x3, .retAddr 0] [] σ := lj_R_eq (nL := 5) (M := lm_M67) _ _ _ _ rfl rfl
set_option maxRecDepth 100000 in
set_option maxHeartbeats 4000000 in
theorem km_67_0 (x1 : Int32) (x2 : Int32) (x3 : Int32) (σ : lj_S) : lj_D lm_P lm_M67 0 [.ref 0, .int x1, .int x2, .int x3, .retAddr 0] [] σ = (if 3 ≤ x1 then (if x1 = 300 then lj_bi (lj_R lm_P 28 [.ref 0, .int 33, .int 0, .int 0, .int x2] (lj_put σ 0 64 (-1))) (fun y8 σ7 => lj_D lm_P lm_M67 157 [.ref 0, .int x1, .int x2, .int x3, .int y8] [] σ7) lj_up else (if x1 = 302 then lj_D lm_P lm_M67 61 [.ref 0, .int x1, .int x2, .int x3, .int 0] [] (lj_put σ 0 64 (-1)) else (if x1 = 303 then lj_D lm_P lm_M67 61 [.ref 0, .int x1, .int x2, .int x3, .int 0] [] (lj_put σ 0 64 (-1)) else lj_bi (lj_R lm_P 65 [.int x1] (lj_put σ 0 64 (-1))) (fun y2 σ1 => (if y2 = 3 then (if x1 = 304 then lj_D lm_P lm_M67 111 [.ref 0, .int x1, .int x2, .int x3, .int 0] [.int 37, .ref 0] σ1 else (if x1 = 305 then lj_D lm_P lm_M67 111 [.ref 0, .int x1, .int x2, .int x3, .int 0] [.int 37, .ref 0] σ1 else lj_D lm_P lm_M67 116 [.ref 0, .int x1, .int x2, .int x3, .int 0] [.int 0, .int 37, .ref 0] σ1)) else lj_bi (lj_R lm_P 68 [.int x1] σ1) (fun y4 σ3 => lj_bi (lj_R lm_P 28 [.ref 0, .int 31, .int y4, .int 0, .int x2] σ3) (fun y6 σ5 => lj_D lm_P lm_M67 157 [.ref 0, .int x1, .int x2, .int x3, .int y6] [] σ5) lj_up) lj_up)) lj_up))) else (if lj_in x3 14000 then lj_D lm_P lm_M67 157 [.ref 0, .int x1, .int x2, .int x3, .int 0] [] (lj_put (lj_put σ 0 64 (-1)) 21 x3.toNatClampNeg (σ.1 0 41)) else none)) := by rw [lj_D_eq]; rfl
set_option maxRecDepth 100000 in
set_option maxHeartbeats 4000000 in
theorem km_67_61 (x1 : Int32) (x2 : Int32) (x3 : Int32) (x4 : Int32) (σ : lj_S) : lj_D lm_P lm_M67 61 [.ref 0, .int x1, .int x2, .int x3, .int x4] [] σ = (if x1 = 303 then lj_D lm_P lm_M67 76 [.ref 0, .int x1, .int x2, .int x3, .int x4] [.int 1, .int 36, .ref 0] σ else lj_D lm_P lm_M67 76 [.ref 0, .int x1, .int x2, .int x3, .int x4] [.int 0, .int 36, .ref 0] σ) := by rw [lj_D_eq]; rfl
set_option maxRecDepth 100000 in
set_option maxHeartbeats 4000000 in
theorem km_67_76 (x1 : Int32) (x2 : Int32) (x3 : Int32) (x4 : Int32) (x50 : Int32) (x51 : Int32) (σ : lj_S) : lj_D lm_P lm_M67 76 [.ref 0, .int x1, .int x2, .int x3, .int x4] [.int x50, .int x51, .ref 0] σ = lj_bi (lj_R lm_P 28 [.ref 0, .int x51, .int x50, .int 0, .int x2] σ) (fun y2 σ1 => lj_D lm_P lm_M67 157 [.ref 0, .int x1, .int x2, .int x3, .int y2] [] σ1) lj_up := by rw [lj_D_eq]; rfl
set_option maxRecDepth 100000 in
set_option maxHeartbeats 4000000 in
theorem km_67_111 (x1 : Int32) (x2 : Int32) (x3 : Int32) (x4 : Int32) (x50 : Int32) (σ : lj_S) : lj_D lm_P lm_M67 111 [.ref 0, .int x1, .int x2, .int x3, .int x4] [.int x50, .ref 0] σ = lj_D lm_P lm_M67 116 [.ref 0, .int x1, .int x2, .int x3, .int x4] [.int 1, .int x50, .ref 0] σ := by rw [lj_D_eq]; rfl
set_option maxRecDepth 100000 in
set_option maxHeartbeats 4000000 in
theorem km_67_116 (x1 : Int32) (x2 : Int32) (x3 : Int32) (x4 : Int32) (x50 : Int32) (x51 : Int32) (σ : lj_S) : lj_D lm_P lm_M67 116 [.ref 0, .int x1, .int x2, .int x3, .int x4] [.int x50, .int x51, .ref 0] σ = (if x1 = 62 then lj_D lm_P lm_M67 129 [.ref 0, .int x1, .int x2, .int x3, .int x4] [.int x50, .int x51, .ref 0] σ else (if x1 = 305 then lj_D lm_P lm_M67 129 [.ref 0, .int x1, .int x2, .int x3, .int x4] [.int x50, .int x51, .ref 0] σ else lj_D lm_P lm_M67 134 [.ref 0, .int x1, .int x2, .int x3, .int x4] [.int 0, .int x50, .int x51, .ref 0] σ)) := by rw [lj_D_eq]; rfl
set_option maxRecDepth 100000 in
set_option maxHeartbeats 4000000 in
theorem km_67_129 (x1 : Int32) (x2 : Int32) (x3 : Int32) (x4 : Int32) (x50 : Int32) (x51 : Int32) (σ : lj_S) : lj_D lm_P lm_M67 129 [.ref 0, .int x1, .int x2, .int x3, .int x4] [.int x50, .int x51, .ref 0] σ = lj_D lm_P lm_M67 134 [.ref 0, .int x1, .int x2, .int x3, .int x4] [.int 1, .int x50, .int x51, .ref 0] σ := by rw [lj_D_eq]; rfl
set_option maxRecDepth 100000 in
set_option maxHeartbeats 4000000 in
theorem km_67_134 (x1 : Int32) (x2 : Int32) (x3 : Int32) (x4 : Int32) (x50 : Int32) (x51 : Int32) (x52 : Int32) (σ : lj_S) : lj_D lm_P lm_M67 134 [.ref 0, .int x1, .int x2, .int x3, .int x4] [.int x50, .int x51, .int x52, .ref 0] σ = lj_bi (lj_R lm_P 28 [.ref 0, .int x52, .int x51, .int x50, .int x2] σ) (fun y2 σ1 => lj_D lm_P lm_M67 157 [.ref 0, .int x1, .int x2, .int x3, .int y2] [] σ1) lj_up := by rw [lj_D_eq]; rfl
set_option maxRecDepth 100000 in
set_option maxHeartbeats 4000000 in
theorem km_67_157 (x1 : Int32) (x2 : Int32) (x3 : Int32) (x4 : Int32) (σ : lj_S) : lj_D lm_P lm_M67 157 [.ref 0, .int x1, .int x2, .int x3, .int x4] [] σ = some (.inl (some (.int 1)), σ) := by rw [lj_D_eq]; rfl
-- TableTongueModel.eventOf(I)I
set_option maxRecDepth 100000 in
theorem rm_68 (x0 : Int32) (σ : lj_S) : lj_R lm_P 68 [.int x0] σ = lj_D lm_P lm_M68 0 [.int x0] [] σ := lj_R_eq (nL := 1) (M := lm_M68) _ _ _ _ rfl rfl
set_option maxRecDepth 100000 in
set_option maxHeartbeats 4000000 in
theorem km_68_0 (x0 : Int32) (σ : lj_S) : lj_D lm_P lm_M68 0 [.int x0] [] σ = (if x0 = 37 then some (.inl (some (.int 7)), σ) else (if x0 = 38 then some (.inl (some (.int 8)), σ) else (if x0 = 42 then some (.inl (some (.int 5)), σ) else (if x0 = 43 then some (.inl (some (.int 3)), σ) else (if x0 = 45 then some (.inl (some (.int 4)), σ) else (if x0 = 124 then some (.inl (some (.int 9)), σ) else (if x0 = 126 then some (.inl (some (.int 10)), σ) else (if x0 = 306 then some (.inl (some (.int 11)), σ) else (if x0 = 308 then some (.inl (some (.int 6)), σ) else some (.inl (some (.int 12)), σ)))))))))) := by rw [lj_D_eq]; rfl
-- TableTongueModel.chain()Z
set_option maxRecDepth 100000 in
theorem rm_69  (σ : lj_S) : lj_R lm_P 69 [.ref 0] σ = lj_D lm_P lm_M69 0 [.ref 0] [] σ := lj_R_eq (nL := 1) (M := lm_M69) _ _ _ _ rfl rfl
set_option maxRecDepth 100000 in
set_option maxHeartbeats 4000000 in
theorem km_69_0  (σ : lj_S) : lj_D lm_P lm_M69 0 [.ref 0] [] σ = (if lj_in (σ.1 0 25) 1502 then (if ((σ.1 9 ((σ.1 0 25).toNatClampNeg))) = 1 then (if lj_in (σ.1 0 25) 1502 then lj_bi (lj_R lm_P 34 [.ref 0] σ) (fun y10 σ9 => lj_bv (lj_R lm_P 51 [.ref 0, .int ((((σ.2 11 ((σ.1 0 25).toNatClampNeg))) : Int64).toInt32), .int y10] σ9) (fun σ11 => lj_bv (lj_R lm_P 29 [.ref 0, .int 8, .int 0, .int 0, .int 0] σ11) (fun σ12 => (if (σ12.1 0 4) = 0 then lj_bi (lj_R lm_P 36 [.ref 0] σ12) (fun y14 σ13 => (if y14 = 0 then lj_D lm_P lm_M69 58 [.ref 0] [] σ13 else lj_D lm_P lm_M69 59 [.ref 0] [.int 1] σ13)) lj_up else lj_D lm_P lm_M69 58 [.ref 0] [] σ12)) lj_up) lj_up) lj_up else none) else lj_bi (lj_R lm_P 39 [.ref 0, .int 40] σ) (fun y2 σ1 => (if y2 = 0 then lj_bi (lj_R lm_P 47 [.ref 0] σ1) (fun y8 σ7 => some (.inl (some (.int (vp_nar .boolean y8))), σ7)) lj_up else lj_bv (lj_R lm_P 29 [.ref 0, .int 9, .int 0, .int 0, .int 0] σ1) (fun σ3 => lj_bv (lj_R lm_P 29 [.ref 0, .int 3, .int 0, .int 0, .int 0] σ3) (fun σ4 => lj_bi (lj_R lm_P 36 [.ref 0] σ4) (fun y6 σ5 => some (.inl (some (.int (vp_nar .boolean y6))), σ5)) lj_up) lj_up) lj_up)) lj_up) else none) := by rw [lj_D_eq]; rfl
set_option maxRecDepth 100000 in
set_option maxHeartbeats 4000000 in
theorem km_69_58  (σ : lj_S) : lj_D lm_P lm_M69 58 [.ref 0] [] σ = lj_D lm_P lm_M69 59 [.ref 0] [.int 0] σ := by rw [lj_D_eq]; rfl
set_option maxRecDepth 100000 in
set_option maxHeartbeats 4000000 in
theorem km_69_59 (x50 : Int32) (σ : lj_S) : lj_D lm_P lm_M69 59 [.ref 0] [.int x50] σ = some (.inl (some (.int (vp_nar .boolean x50))), σ) := by rw [lj_D_eq]; rfl
-- TableTongueModel.suffix()Z
set_option maxRecDepth 100000 in
theorem rm_70  (σ : lj_S) : lj_R lm_P 70 [.ref 0] σ = lj_D lm_P lm_M70 0 [.ref 0, .retAddr 0, .retAddr 0] [] σ := lj_R_eq (nL := 3) (M := lm_M70) _ _ _ _ rfl rfl
set_option maxRecDepth 100000 in
set_option maxHeartbeats 4000000 in
theorem km_70_0  (σ : lj_S) : lj_D lm_P lm_M70 0 [.ref 0, .retAddr 0, .retAddr 0] [] σ = lj_bi (lj_R lm_P 33 [.ref 0] σ) (fun y2 σ1 => lj_bi (lj_R lm_P 39 [.ref 0, .int 46] σ1) (fun y4 σ3 => (if y4 = 0 then lj_bi (lj_R lm_P 39 [.ref 0, .int 91] σ3) (fun y6 σ5 => (if y6 = 0 then lj_bi (lj_R lm_P 39 [.ref 0, .int 58] σ5) (fun y8 σ7 => (if y8 = 0 then lj_bi (lj_R lm_P 71 [.ref 0] σ7) (fun y10 σ9 => (if y10 = 0 then some (.inl (some (.int 1)), σ9) else lj_bv (lj_R lm_P 53 [.ref 0] σ9) (fun σ11 => lj_bi (lj_R lm_P 28 [.ref 0, .int 14, .int 0, .int 0, .int 0] σ11) (fun y13 σ12 => lj_bi (lj_R lm_P 72 [.ref 0] σ12) (fun y15 σ14 => some (.inl (some (.int (vp_nar .boolean y15))), σ14)) lj_up) lj_up) lj_up)) lj_up else lj_bv (lj_R lm_P 53 [.ref 0] σ7) (fun σ16 => lj_bi (lj_R lm_P 36 [.ref 0] σ16) (fun y18 σ17 => (if y18 = 0 then some (.inl (some (.int 0)), σ17) else (if lj_in (σ17.1 0 25) 1502 then (if ((σ17.1 9 ((σ17.1 0 25).toNatClampNeg))) = 1 then lj_bi (lj_R lm_P 28 [.ref 0, .int 45, .int 0, .int 0, .int 0] σ17) (fun y20 σ19 => (if lj_in (σ19.1 0 25) 1502 then lj_bi (lj_R lm_P 28 [.ref 0, .int 5, .int ((((σ19.2 11 ((σ19.1 0 25).toNatClampNeg))) : Int64).toInt32), .int 0, .int 0] σ19) (fun y22 σ21 => lj_bi (lj_R lm_P 28 [.ref 0, .int 12, .int 0, .int 0, .int y2] σ21) (fun y24 σ23 => lj_bi (lj_R lm_P 28 [.ref 0, .int 46, .int 0, .int 0, .int 0] σ23) (fun y26 σ25 => lj_bi (lj_R lm_P 28 [.ref 0, .int 15, .int 0, .int 0, .int 0] σ25) (fun y28 σ27 => lj_bi (lj_R lm_P 36 [.ref 0] σ27) (fun y30 σ29 => (if y30 = 0 then some (.inl (some (.int 0)), σ29) else lj_bi (lj_R lm_P 71 [.ref 0] σ29) (fun y32 σ31 => (if y32 = 0 then lj_bi (lj_R lm_P 47 [.ref 0] σ31) (fun y34 σ33 => lj_D lm_P lm_M70 247 [.ref 0, .int y2, .int y28] [.int y34] σ33) lj_up else lj_bi (lj_R lm_P 72 [.ref 0] σ31) (fun y36 σ35 => lj_D lm_P lm_M70 247 [.ref 0, .int y2, .int y28] [.int y36] σ35) lj_up)) lj_up)) lj_up) lj_up) lj_up) lj_up) lj_up else none)) lj_up else lj_bi (lj_R lm_P 47 [.ref 0] σ17) (fun y38 σ37 => some (.inl (some (.int (vp_nar .boolean y38))), σ37)) lj_up) else none))) lj_up) lj_up)) lj_up else lj_bv (lj_R lm_P 53 [.ref 0] σ5) (fun σ39 => lj_bv (lj_R lm_P 29 [.ref 0, .int 10, .int y2, .int 0, .int 0] σ39) (fun σ40 => lj_bv (lj_R lm_P 29 [.ref 0, .int 3, .int 0, .int 0, .int 0] σ40) (fun σ41 => lj_bi (lj_R lm_P 36 [.ref 0] σ41) (fun y43 σ42 => some (.inl (some (.int (vp_nar .boolean y43))), σ42)) lj_up) lj_up) lj_up) lj_up)) lj_up else lj_bv (lj_R lm_P 53 [.ref 0] σ3) (fun σ44 => lj_bi (lj_R lm_P 36 [.ref 0] σ44) (fun y46 σ45 => (if y46 = 0 then some (.inl (some (.int 0)), σ45) else (if lj_in (σ45.1 0 25) 1502 then (if ((σ45.1 9 ((σ45.1 0 25).toNatClampNeg))) = 1 then (if lj_in (σ45.1 0 25) 1502 then lj_bi (lj_R lm_P 28 [.ref 0, .int 5, .int ((((σ45.2 11 ((σ45.1 0 25).toNatClampNeg))) : Int64).toInt32), .int 0, .int 0] σ45) (fun y48 σ47 => lj_bv (lj_R lm_P 29 [.ref 0, .int 8, .int 0, .int 0, .int 0] (lj_put (lj_put σ47 0 61 3) 0 63 y2)) (fun σ49 => lj_bi (lj_R lm_P 36 [.ref 0] σ49) (fun y51 σ50 => some (.inl (some (.int (vp_nar .boolean y51))), σ50)) lj_up) lj_up) lj_up else none) else lj_bi (lj_R lm_P 47 [.ref 0] σ45) (fun y53 σ52 => some (.inl (some (.int (vp_nar .boolean y53))), σ52)) lj_up) else none))) lj_up) lj_up)) lj_up) lj_up := by rw [lj_D_eq]; rfl
set_option maxRecDepth 100000 in
set_option maxHeartbeats 4000000 in
theorem km_70_247 (x1 : Int32) (x2 : Int32) (x50 : Int32) (σ : lj_S) : lj_D lm_P lm_M70 247 [.ref 0, .int x1, .int x2] [.int x50] σ = some (.inl (some (.int (vp_nar .boolean x50))), σ) := by rw [lj_D_eq]; rfl
-- TableTongueModel.beginsGiven()Z
set_option maxRecDepth 100000 in
theorem rm_71  (σ : lj_S) : lj_R lm_P 71 [.ref 0] σ = lj_D lm_P lm_M71 0 [.ref 0] [] σ := lj_R_eq (nL := 1) (M := lm_M71) _ _ _ _ rfl rfl
set_option maxRecDepth 100000 in
set_option maxHeartbeats 4000000 in
theorem km_71_0  (σ : lj_S) : lj_D lm_P lm_M71 0 [.ref 0] [] σ = lj_bi (lj_R lm_P 39 [.ref 0, .int 40] σ) (fun y2 σ1 => (if y2 = 0 then lj_bi (lj_R lm_P 39 [.ref 0, .int 123] σ1) (fun y4 σ3 => (if y4 = 0 then (if lj_in (σ3.1 0 25) 1502 then (if ((σ3.1 9 ((σ3.1 0 25).toNatClampNeg))) = 3 then lj_D lm_P lm_M71 31 [.ref 0] [] σ3 else lj_D lm_P lm_M71 36 [.ref 0] [.int 0] σ3) else none) else lj_D lm_P lm_M71 31 [.ref 0] [] σ3)) lj_up else lj_D lm_P lm_M71 31 [.ref 0] [] σ1)) lj_up := by rw [lj_D_eq]; rfl
set_option maxRecDepth 100000 in
set_option maxHeartbeats 4000000 in
theorem km_71_31  (σ : lj_S) : lj_D lm_P lm_M71 31 [.ref 0] [] σ = lj_D lm_P lm_M71 36 [.ref 0] [.int 1] σ := by rw [lj_D_eq]; rfl
set_option maxRecDepth 100000 in
set_option maxHeartbeats 4000000 in
theorem km_71_36 (x50 : Int32) (σ : lj_S) : lj_D lm_P lm_M71 36 [.ref 0] [.int x50] σ = some (.inl (some (.int (vp_nar .boolean x50))), σ) := by rw [lj_D_eq]; rfl
-- TableTongueModel.given()Z
set_option maxRecDepth 100000 in
theorem rm_72  (σ : lj_S) : lj_R lm_P 72 [.ref 0] σ = lj_D lm_P lm_M72 0 [.ref 0, .retAddr 0] [] σ := lj_R_eq (nL := 2) (M := lm_M72) _ _ _ _ rfl rfl
set_option maxRecDepth 100000 in
set_option maxHeartbeats 4000000 in
theorem km_72_0  (σ : lj_S) : lj_D lm_P lm_M72 0 [.ref 0, .retAddr 0] [] σ = lj_bi (lj_R lm_P 33 [.ref 0] σ) (fun y2 σ1 => lj_bv (lj_R lm_P 29 [.ref 0, .int 8, .int 0, .int 0, .int 0] σ1) (fun σ3 => lj_bv (lj_R lm_P 29 [.ref 0, .int 13, .int y2, .int 0, .int 0] σ3) (fun σ4 => lj_bi (lj_R lm_P 39 [.ref 0, .int 123] σ4) (fun y6 σ5 => (if y6 = 0 then (if lj_in (σ5.1 0 25) 1502 then (if ((σ5.1 9 ((σ5.1 0 25).toNatClampNeg))) = 3 then (if lj_in (σ5.1 0 25) 1502 then lj_bi (lj_R lm_P 61 [.ref 0, .int 5, .int ((((σ5.2 11 ((σ5.1 0 25).toNatClampNeg))) : Int64).toInt32)] σ5) (fun y19 σ18 => some (.inl (some (.int (vp_nar .boolean y19))), σ18)) lj_up else none) else lj_bv (lj_R lm_P 29 [.ref 0, .int 12, .int 0, .int 0, .int 0] σ5) (fun σ7 => lj_bi (lj_R lm_P 36 [.ref 0] σ7) (fun y9 σ8 => (if y9 = 0 then some (.inl (some (.int 0)), σ8) else lj_bi (lj_R lm_P 39 [.ref 0, .int 41] σ8) (fun y11 σ10 => (if y11 = 0 then lj_bi (lj_R lm_P 38 [.ref 0] σ10) (fun y13 σ12 => (if y13 = 0 then lj_bi (lj_R lm_P 47 [.ref 0] σ12) (fun y17 σ16 => some (.inl (some (.int (vp_nar .boolean y17))), σ16)) lj_up else lj_bv (lj_R lm_P 29 [.ref 0, .int 14, .int 0, .int 0, .int 0] σ12) (fun σ14 => lj_bv (lj_R lm_P 29 [.ref 0, .int 3, .int 0, .int 0, .int 0] σ14) (fun σ15 => some (.inl (some (.int 1)), σ15)) lj_up) lj_up)) lj_up else some (.inl (some (.int 1)), σ10))) lj_up)) lj_up) lj_up) else none) else lj_bi (lj_R lm_P 62 [.ref 0] σ5) (fun y21 σ20 => some (.inl (some (.int (vp_nar .boolean y21))), σ20)) lj_up)) lj_up) lj_up) lj_up) lj_up := by rw [lj_D_eq]; rfl
-- TableTongueModel.closeParen()Z
set_option maxRecDepth 100000 in
theorem rm_73  (σ : lj_S) : lj_R lm_P 73 [.ref 0] σ = lj_D lm_P lm_M73 0 [.ref 0] [] σ := lj_R_eq (nL := 1) (M := lm_M73) _ _ _ _ rfl rfl
set_option maxRecDepth 100000 in
set_option maxHeartbeats 4000000 in
theorem km_73_0  (σ : lj_S) : lj_D lm_P lm_M73 0 [.ref 0] [] σ = lj_bv (lj_R lm_P 29 [.ref 0, .int 8, .int 0, .int 0, .int 0] (lj_put σ 0 61 5)) (fun σ1 => lj_bi (lj_R lm_P 74 [.ref 0, .int 41] σ1) (fun y3 σ2 => some (.inl (some (.int (vp_nar .boolean y3))), σ2)) lj_up) lj_up := by rw [lj_D_eq]; rfl
-- TableTongueModel.needSign(I)Z
set_option maxRecDepth 100000 in
theorem rm_74 (x1 : Int32) (σ : lj_S) : lj_R lm_P 74 [.ref 0, .int x1] σ = lj_D lm_P lm_M74 0 [.ref 0, .int x1] [] σ := lj_R_eq (nL := 2) (M := lm_M74) _ _ _ _ rfl rfl
set_option maxRecDepth 100000 in
set_option maxHeartbeats 4000000 in
theorem km_74_0 (x1 : Int32) (σ : lj_S) : lj_D lm_P lm_M74 0 [.ref 0, .int x1] [] σ = lj_bi (lj_R lm_P 39 [.ref 0, .int x1] σ) (fun y2 σ1 => (if y2 = 0 then lj_bi (lj_R lm_P 47 [.ref 0] σ1) (fun y4 σ3 => lj_D lm_P lm_M74 19 [.ref 0, .int x1] [.int y4] σ3) lj_up else lj_bi (lj_R lm_P 36 [.ref 0] σ1) (fun y6 σ5 => lj_D lm_P lm_M74 19 [.ref 0, .int x1] [.int y6] σ5) lj_up)) lj_up := by rw [lj_D_eq]; rfl
set_option maxRecDepth 100000 in
set_option maxHeartbeats 4000000 in
theorem km_74_19 (x1 : Int32) (x50 : Int32) (σ : lj_S) : lj_D lm_P lm_M74 19 [.ref 0, .int x1] [.int x50] σ = some (.inl (some (.int (vp_nar .boolean x50))), σ) := by rw [lj_D_eq]; rfl
-- TableTongueModel.closeBracket(I)Z
set_option maxRecDepth 100000 in
theorem rm_75 (x1 : Int32) (σ : lj_S) : lj_R lm_P 75 [.ref 0, .int x1] σ = lj_D lm_P lm_M75 0 [.ref 0, .int x1] [] σ := lj_R_eq (nL := 2) (M := lm_M75) _ _ _ _ rfl rfl
set_option maxRecDepth 100000 in
set_option maxHeartbeats 4000000 in
theorem km_75_0 (x1 : Int32) (σ : lj_S) : lj_D lm_P lm_M75 0 [.ref 0, .int x1] [] σ = lj_bv (lj_R lm_P 29 [.ref 0, .int 8, .int 0, .int 0, .int 0] (lj_put (lj_put σ 0 61 3) 0 63 x1)) (fun σ1 => lj_bi (lj_R lm_P 74 [.ref 0, .int 93] σ1) (fun y3 σ2 => some (.inl (some (.int (vp_nar .boolean y3))), σ2)) lj_up) lj_up := by rw [lj_D_eq]; rfl
-- TableTongueModel.chainValue()Z
set_option maxRecDepth 100000 in
theorem rm_76  (σ : lj_S) : lj_R lm_P 76 [.ref 0] σ = lj_D lm_P lm_M76 0 [.ref 0] [] σ := lj_R_eq (nL := 1) (M := lm_M76) _ _ _ _ rfl rfl
set_option maxRecDepth 100000 in
set_option maxHeartbeats 4000000 in
theorem km_76_0  (σ : lj_S) : lj_D lm_P lm_M76 0 [.ref 0] [] σ = (if (σ.1 0 61) = 4 then lj_D lm_P lm_M76 28 [.ref 0] [] (lj_put (lj_put σ 0 64 (-1)) 0 64 (σ.1 0 62)) else lj_bv (lj_R lm_P 53 [.ref 0] (lj_put σ 0 64 (-1))) (fun σ1 => lj_D lm_P lm_M76 28 [.ref 0] [] σ1) lj_up) := by rw [lj_D_eq]; rfl
set_option maxRecDepth 100000 in
set_option maxHeartbeats 4000000 in
theorem km_76_28  (σ : lj_S) : lj_D lm_P lm_M76 28 [.ref 0] [] σ = some (.inl (some (.int 1)), σ) := by rw [lj_D_eq]; rfl
-- TableTongueModel.called(I)Z
set_option maxRecDepth 100000 in
theorem rm_77 (x1 : Int32) (σ : lj_S) : lj_R lm_P 77 [.ref 0, .int x1] σ = lj_D lm_P lm_M77 0 [.ref 0, .int x1] [] σ := lj_R_eq (nL := 2) (M := lm_M77) _ _ _ _ rfl rfl
set_option maxRecDepth 100000 in
set_option maxHeartbeats 4000000 in
theorem km_77_0 (x1 : Int32) (σ : lj_S) : lj_D lm_P lm_M77 0 [.ref 0, .int x1] [] σ = lj_bi (lj_R lm_P 28 [.ref 0, .int 16, .int 1, .int 0, .int x1] σ) (fun y2 σ1 => some (.inl (some (.int 1)), (lj_put (lj_put σ1 0 62 y2) 0 61 4))) lj_up := by rw [lj_D_eq]; rfl
-- TableTongueModel.row(I)Z
set_option maxRecDepth 100000 in
theorem rm_78 (x1 : Int32) (σ : lj_S) : lj_R lm_P 78 [.ref 0, .int x1] σ = lj_D lm_P lm_M78 0 [.ref 0, .int x1] [] σ := lj_R_eq (nL := 2) (M := lm_M78) _ _ _ _ rfl rfl
set_option maxRecDepth 100000 in
set_option maxHeartbeats 4000000 in
theorem km_78_0 (x1 : Int32) (σ : lj_S) : lj_D lm_P lm_M78 0 [.ref 0, .int x1] [] σ = lj_bi (lj_R lm_P 39 [.ref 0, .int 44] σ) (fun y2 σ1 => (if y2 = 0 then (if (σ1.1 0 64) < 0 then lj_D lm_P lm_M78 26 [.ref 0, .int x1] [] σ1 else (if lj_in (σ1.1 0 64) 14000 then lj_D lm_P lm_M78 26 [.ref 0, .int x1] [] (lj_put σ1 21 ((σ1.1 0 64).toNatClampNeg) (-1)) else none)) else lj_bi (lj_R lm_P 36 [.ref 0] σ1) (fun y4 σ3 => (if y4 = 0 then some (.inl (some (.int 0)), σ3) else lj_bi (lj_R lm_P 38 [.ref 0] σ3) (fun y6 σ5 => (if y6 = 0 then lj_bi (lj_R lm_P 47 [.ref 0] σ5) (fun y14 σ13 => some (.inl (some (.int (vp_nar .boolean y14))), σ13)) lj_up else (if (x1 + 1) = 15 then lj_bi (lj_R lm_P 34 [.ref 0] σ5) (fun y10 σ9 => lj_bi (lj_R lm_P 37 [.ref 0, .int 3, .int y10] σ9) (fun y12 σ11 => some (.inl (some (.int (vp_nar .boolean y12))), σ11)) lj_up) lj_up else lj_bv (lj_R lm_P 29 [.ref 0, .int 14, .int (x1 + 1), .int 0, .int 0] σ5) (fun σ7 => lj_bv (lj_R lm_P 29 [.ref 0, .int 3, .int 0, .int 0, .int 0] σ7) (fun σ8 => some (.inl (some (.int 1)), σ8)) lj_up) lj_up))) lj_up)) lj_up)) lj_up := by rw [lj_D_eq]; rfl
set_option maxRecDepth 100000 in
set_option maxHeartbeats 4000000 in
theorem km_78_26 (x1 : Int32) (σ : lj_S) : lj_D lm_P lm_M78 26 [.ref 0, .int x1] [] σ = some (.inl (some (.int 1)), σ) := by rw [lj_D_eq]; rfl
-- TableTongueModel.fields(II)Z
set_option maxRecDepth 100000 in
theorem rm_79 (x1 : Int32) (x2 : Int32) (σ : lj_S) : lj_R lm_P 79 [.ref 0, .int x1, .int x2] σ = lj_D lm_P lm_M79 0 [.ref 0, .int x1, .int x2, .retAddr 0, .retAddr 0, .retAddr 0, .retAddr 0] [] σ := lj_R_eq (nL := 7) (M := lm_M79) _ _ _ _ rfl rfl
set_option maxRecDepth 100000 in
set_option maxHeartbeats 4000000 in
theorem km_79_0 (x1 : Int32) (x2 : Int32) (σ : lj_S) : lj_D lm_P lm_M79 0 [.ref 0, .int x1, .int x2, .retAddr 0, .retAddr 0, .retAddr 0, .retAddr 0] [] σ = lj_bi (lj_R lm_P 39 [.ref 0, .int 125] σ) (fun y2 σ1 => (if y2 = 0 then lj_bi (lj_R lm_P 39 [.ref 0, .int 91] σ1) (fun y4 σ3 => (if y4 = 0 then lj_bi (lj_R lm_P 38 [.ref 0] σ3) (fun y6 σ5 => (if y6 = 0 then lj_bi (lj_R lm_P 47 [.ref 0] σ5) (fun y8 σ7 => some (.inl (some (.int (vp_nar .boolean y8))), σ7)) lj_up else lj_D lm_P lm_M79 42 [.ref 0, .int x1, .int x2, .int y4, .retAddr 0, .retAddr 0, .retAddr 0] [] σ5)) lj_up else lj_D lm_P lm_M79 42 [.ref 0, .int x1, .int x2, .int y4, .retAddr 0, .retAddr 0, .retAddr 0] [] σ3)) lj_up else lj_bi (lj_R lm_P 36 [.ref 0] (lj_put σ1 0 64 (-1))) (fun y10 σ9 => some (.inl (some (.int (vp_nar .boolean y10))), σ9)) lj_up)) lj_up := by rw [lj_D_eq]; rfl
set_option maxRecDepth 100000 in
set_option maxHeartbeats 4000000 in
theorem km_79_42 (x1 : Int32) (x2 : Int32) (x3 : Int32) (σ : lj_S) : lj_D lm_P lm_M79 42 [.ref 0, .int x1, .int x2, .int x3, .retAddr 0, .retAddr 0, .retAddr 0] [] σ = (if x2 = 30 then lj_bi (lj_R lm_P 34 [.ref 0] σ) (fun y10 σ9 => lj_bi (lj_R lm_P 37 [.ref 0, .int 3, .int y10] σ9) (fun y12 σ11 => some (.inl (some (.int (vp_nar .boolean y12))), σ11)) lj_up) lj_up else lj_bi (lj_R lm_P 41 [.ref 0] σ) (fun y2 σ1 => (if y2 = 0 then some (.inl (some (.int 0)), σ1) else lj_bi (lj_R lm_P 33 [.ref 0] σ1) (fun y4 σ3 => (if x3 = 0 then (if lj_in (σ3.1 0 25) 1502 then (if ((σ3.1 9 ((σ3.1 0 25).toNatClampNeg))) = 1 then (if 1500 ≤ (σ3.1 0 25) then lj_D lm_P lm_M79 160 [.ref 0, .int x1, .int x2, .int x3, .int y4, .retAddr 0, .retAddr 0] [] σ3 else (if lj_in ((σ3.1 0 25) + 1) 1502 then (if ((σ3.1 9 (((σ3.1 0 25) + 1).toNatClampNeg))) = 5 then (if lj_in ((σ3.1 0 25) + 1) 1502 then (if (lg_cmp ((σ3.2 11 (((σ3.1 0 25) + 1).toNatClampNeg))) 61) = 0 then lj_D lm_P lm_M79 161 [.ref 0, .int x1, .int x2, .int x3, .int y4, .retAddr 0, .retAddr 0] [.int 1] σ3 else lj_D lm_P lm_M79 160 [.ref 0, .int x1, .int x2, .int x3, .int y4, .retAddr 0, .retAddr 0] [] σ3) else none) else lj_D lm_P lm_M79 160 [.ref 0, .int x1, .int x2, .int x3, .int y4, .retAddr 0, .retAddr 0] [] σ3) else none)) else lj_D lm_P lm_M79 160 [.ref 0, .int x1, .int x2, .int x3, .int y4, .retAddr 0, .retAddr 0] [] σ3) else none) else lj_bv (lj_R lm_P 29 [.ref 0, .int 16, .int y4, .int x1, .int x2] σ3) (fun σ5 => lj_bv (lj_R lm_P 29 [.ref 0, .int 3, .int 0, .int 0, .int 0] σ5) (fun σ6 => lj_bi (lj_R lm_P 36 [.ref 0] σ6) (fun y8 σ7 => some (.inl (some (.int (vp_nar .boolean y8))), σ7)) lj_up) lj_up) lj_up)) lj_up)) lj_up) := by rw [lj_D_eq]; rfl
set_option maxRecDepth 100000 in
set_option maxHeartbeats 4000000 in
theorem km_79_160 (x1 : Int32) (x2 : Int32) (x3 : Int32) (x4 : Int32) (σ : lj_S) : lj_D lm_P lm_M79 160 [.ref 0, .int x1, .int x2, .int x3, .int x4, .retAddr 0, .retAddr 0] [] σ = lj_D lm_P lm_M79 161 [.ref 0, .int x1, .int x2, .int x3, .int x4, .retAddr 0, .retAddr 0] [.int 0] σ := by rw [lj_D_eq]; rfl
set_option maxRecDepth 100000 in
set_option maxHeartbeats 4000000 in
theorem km_79_161 (x1 : Int32) (x2 : Int32) (x3 : Int32) (x4 : Int32) (x50 : Int32) (σ : lj_S) : lj_D lm_P lm_M79 161 [.ref 0, .int x1, .int x2, .int x3, .int x4, .retAddr 0, .retAddr 0] [.int x50] σ = (if x50 = 0 then lj_bi (lj_R lm_P 28 [.ref 0, .int 14, .int 0, .int 0, .int 0] σ) (fun y2 σ1 => lj_bv (lj_R lm_P 29 [.ref 0, .int 18, .int x1, .int x2, .int 0] σ1) (fun σ3 => lj_bv (lj_R lm_P 29 [.ref 0, .int 3, .int 0, .int 0, .int 0] σ3) (fun σ4 => some (.inl (some (.int 1)), σ4)) lj_up) lj_up) lj_up else (if lj_in (σ.1 0 25) 1502 then lj_bi (lj_R lm_P 28 [.ref 0, .int 5, .int ((((σ.2 11 ((σ.1 0 25).toNatClampNeg))) : Int64).toInt32), .int 0, .int 0] σ) (fun y6 σ5 => lj_bv (lj_R lm_P 29 [.ref 0, .int 17, .int 0, .int x1, .int x2] σ5) (fun σ7 => lj_bv (lj_R lm_P 29 [.ref 0, .int 3, .int 0, .int 0, .int 0] σ7) (fun σ8 => lj_bi (lj_R lm_P 36 [.ref 0] σ8) (fun y10 σ9 => (if y10 = 0 then lj_D lm_P lm_M79 222 [.ref 0, .int x1, .int x2, .int x3, .int x4, .int x50, .int y6] [] σ9 else lj_bi (lj_R lm_P 36 [.ref 0] σ9) (fun y12 σ11 => (if y12 = 0 then lj_D lm_P lm_M79 222 [.ref 0, .int x1, .int x2, .int x3, .int x4, .int x50, .int y6] [] σ11 else lj_D lm_P lm_M79 223 [.ref 0, .int x1, .int x2, .int x3, .int x4, .int x50, .int y6] [.int 1] σ11)) lj_up)) lj_up) lj_up) lj_up) lj_up else none)) := by rw [lj_D_eq]; rfl
set_option maxRecDepth 100000 in
set_option maxHeartbeats 4000000 in
theorem km_79_222 (x1 : Int32) (x2 : Int32) (x3 : Int32) (x4 : Int32) (x5 : Int32) (x6 : Int32) (σ : lj_S) : lj_D lm_P lm_M79 222 [.ref 0, .int x1, .int x2, .int x3, .int x4, .int x5, .int x6] [] σ = lj_D lm_P lm_M79 223 [.ref 0, .int x1, .int x2, .int x3, .int x4, .int x5, .int x6] [.int 0] σ := by rw [lj_D_eq]; rfl
set_option maxRecDepth 100000 in
set_option maxHeartbeats 4000000 in
theorem km_79_223 (x1 : Int32) (x2 : Int32) (x3 : Int32) (x4 : Int32) (x5 : Int32) (x6 : Int32) (x50 : Int32) (σ : lj_S) : lj_D lm_P lm_M79 223 [.ref 0, .int x1, .int x2, .int x3, .int x4, .int x5, .int x6] [.int x50] σ = some (.inl (some (.int (vp_nar .boolean x50))), σ) := by rw [lj_D_eq]; rfl
-- TableTongueModel.keyed(III)Z
set_option maxRecDepth 100000 in
theorem rm_80 (x1 : Int32) (x2 : Int32) (x3 : Int32) (σ : lj_S) : lj_R lm_P 80 [.ref 0, .int x1, .int x2, .int x3] σ = lj_D lm_P lm_M80 0 [.ref 0, .int x1, .int x2, .int x3, .retAddr 0] [] σ := lj_R_eq (nL := 5) (M := lm_M80) _ _ _ _ rfl rfl
set_option maxRecDepth 100000 in
set_option maxHeartbeats 4000000 in
theorem km_80_0 (x1 : Int32) (x2 : Int32) (x3 : Int32) (σ : lj_S) : lj_D lm_P lm_M80 0 [.ref 0, .int x1, .int x2, .int x3, .retAddr 0] [] σ = lj_bi (lj_R lm_P 28 [.ref 0, .int 27, .int 0, .int 0, .int x1] (lj_put σ 0 47 ((σ.1 0 47) - 1))) (fun y2 σ1 => lj_bv (lj_R lm_P 29 [.ref 0, .int 15, .int x2, .int (x3 + 1), .int 0] σ1) (fun σ3 => lj_bi (lj_R lm_P 81 [.ref 0] σ3) (fun y5 σ4 => (if y5 = 0 then lj_bi (lj_R lm_P 39 [.ref 0, .int 125] σ4) (fun y7 σ6 => (if y7 = 0 then lj_bi (lj_R lm_P 47 [.ref 0] σ6) (fun y9 σ8 => (if y9 = 0 then lj_D lm_P lm_M80 67 [.ref 0, .int x1, .int x2, .int x3, .int y2] [.int 0] σ8 else lj_D lm_P lm_M80 62 [.ref 0, .int x1, .int x2, .int x3, .int y2] [] σ8)) lj_up else lj_D lm_P lm_M80 62 [.ref 0, .int x1, .int x2, .int x3, .int y2] [] σ6)) lj_up else lj_bi (lj_R lm_P 36 [.ref 0] σ4) (fun y11 σ10 => lj_D lm_P lm_M80 67 [.ref 0, .int x1, .int x2, .int x3, .int y2] [.int y11] σ10) lj_up)) lj_up) lj_up) lj_up := by rw [lj_D_eq]; rfl
set_option maxRecDepth 100000 in
set_option maxHeartbeats 4000000 in
theorem km_80_62 (x1 : Int32) (x2 : Int32) (x3 : Int32) (x4 : Int32) (σ : lj_S) : lj_D lm_P lm_M80 62 [.ref 0, .int x1, .int x2, .int x3, .int x4] [] σ = lj_D lm_P lm_M80 67 [.ref 0, .int x1, .int x2, .int x3, .int x4] [.int 1] σ := by rw [lj_D_eq]; rfl
set_option maxRecDepth 100000 in
set_option maxHeartbeats 4000000 in
theorem km_80_67 (x1 : Int32) (x2 : Int32) (x3 : Int32) (x4 : Int32) (x50 : Int32) (σ : lj_S) : lj_D lm_P lm_M80 67 [.ref 0, .int x1, .int x2, .int x3, .int x4] [.int x50] σ = some (.inl (some (.int (vp_nar .boolean x50))), σ) := by rw [lj_D_eq]; rfl
-- TableTongueModel.isParting()Z
set_option maxRecDepth 100000 in
theorem rm_81  (σ : lj_S) : lj_R lm_P 81 [.ref 0] σ = lj_D lm_P lm_M81 0 [.ref 0] [] σ := lj_R_eq (nL := 1) (M := lm_M81) _ _ _ _ rfl rfl
set_option maxRecDepth 100000 in
set_option maxHeartbeats 4000000 in
theorem km_81_0  (σ : lj_S) : lj_D lm_P lm_M81 0 [.ref 0] [] σ = lj_bi (lj_R lm_P 39 [.ref 0, .int 44] σ) (fun y2 σ1 => (if y2 = 0 then lj_bi (lj_R lm_P 39 [.ref 0, .int 59] σ1) (fun y4 σ3 => (if y4 = 0 then lj_D lm_P lm_M81 23 [.ref 0] [.int 0] σ3 else lj_D lm_P lm_M81 18 [.ref 0] [] σ3)) lj_up else lj_D lm_P lm_M81 18 [.ref 0] [] σ1)) lj_up := by rw [lj_D_eq]; rfl
set_option maxRecDepth 100000 in
set_option maxHeartbeats 4000000 in
theorem km_81_18  (σ : lj_S) : lj_D lm_P lm_M81 18 [.ref 0] [] σ = lj_D lm_P lm_M81 23 [.ref 0] [.int 1] σ := by rw [lj_D_eq]; rfl
set_option maxRecDepth 100000 in
set_option maxHeartbeats 4000000 in
theorem km_81_23 (x50 : Int32) (σ : lj_S) : lj_D lm_P lm_M81 23 [.ref 0] [.int x50] σ = some (.inl (some (.int (vp_nar .boolean x50))), σ) := by rw [lj_D_eq]; rfl
-- TableTongueModel.positional(II)Z
set_option maxRecDepth 100000 in
theorem rm_82 (x1 : Int32) (x2 : Int32) (σ : lj_S) : lj_R lm_P 82 [.ref 0, .int x1, .int x2] σ = lj_D lm_P lm_M82 0 [.ref 0, .int x1, .int x2, .retAddr 0, .retAddr 0, .retAddr 0] [] σ := lj_R_eq (nL := 6) (M := lm_M82) _ _ _ _ rfl rfl
set_option maxRecDepth 100000 in
set_option maxHeartbeats 4000000 in
theorem km_82_0 (x1 : Int32) (x2 : Int32) (σ : lj_S) : lj_D lm_P lm_M82 0 [.ref 0, .int x1, .int x2, .retAddr 0, .retAddr 0, .retAddr 0] [] σ = lj_bi (lj_R lm_P 81 [.ref 0] (lj_put σ 0 47 ((σ.1 0 47) - 1))) (fun y2 σ1 => (if y2 = 0 then lj_D lm_P lm_M82 35 [.ref 0, .int x1, .int x2, .int (σ.1 0 64), .int y2, .retAddr 0] [] σ1 else lj_bi (lj_R lm_P 36 [.ref 0] σ1) (fun y4 σ3 => (if y4 = 0 then some (.inl (some (.int 0)), σ3) else lj_D lm_P lm_M82 35 [.ref 0, .int x1, .int x2, .int (σ.1 0 64), .int y2, .retAddr 0] [] σ3)) lj_up)) lj_up := by rw [lj_D_eq]; rfl
set_option maxRecDepth 100000 in
set_option maxHeartbeats 4000000 in
theorem km_82_35 (x1 : Int32) (x2 : Int32) (x3 : Int32) (x4 : Int32) (σ : lj_S) : lj_D lm_P lm_M82 35 [.ref 0, .int x1, .int x2, .int x3, .int x4, .retAddr 0] [] σ = (if x4 = 0 then lj_bi (lj_R lm_P 39 [.ref 0, .int 125] σ) (fun y2 σ1 => (if y2 = 0 then lj_bi (lj_R lm_P 47 [.ref 0] σ1) (fun y4 σ3 => some (.inl (some (.int (vp_nar .boolean y4))), σ3)) lj_up else lj_D lm_P lm_M82 54 [.ref 0, .int x1, .int x2, .int x3, .int x4, .retAddr 0] [] σ1)) lj_up else lj_D lm_P lm_M82 54 [.ref 0, .int x1, .int x2, .int x3, .int x4, .retAddr 0] [] σ) := by rw [lj_D_eq]; rfl
set_option maxRecDepth 100000 in
set_option maxHeartbeats 4000000 in
theorem km_82_54 (x1 : Int32) (x2 : Int32) (x3 : Int32) (x4 : Int32) (σ : lj_S) : lj_D lm_P lm_M82 54 [.ref 0, .int x1, .int x2, .int x3, .int x4, .retAddr 0] [] σ = lj_bi (lj_R lm_P 39 [.ref 0, .int 125] σ) (fun y2 σ1 => (if y2 = 0 then lj_D lm_P lm_M82 91 [.ref 0, .int x1, .int x2, .int x3, .int x4, .int 0] [] σ1 else (if x3 < 0 then lj_D lm_P lm_M82 91 [.ref 0, .int x1, .int x2, .int x3, .int x4, .int 0] [] σ1 else (if lj_in x3 14000 then lj_bi (lj_R lm_P 28 [.ref 0, .int 29, .int x1, .int 0, .int 0] (lj_put σ1 21 x3.toNatClampNeg (-1))) (fun y4 σ3 => lj_D lm_P lm_M82 102 [.ref 0, .int x1, .int x2, .int x3, .int x4, .int y4] [] σ3) lj_up else none)))) lj_up := by rw [lj_D_eq]; rfl
set_option maxRecDepth 100000 in
set_option maxHeartbeats 4000000 in
theorem km_82_91 (x1 : Int32) (x2 : Int32) (x3 : Int32) (x4 : Int32) (x5 : Int32) (σ : lj_S) : lj_D lm_P lm_M82 91 [.ref 0, .int x1, .int x2, .int x3, .int x4, .int x5] [] σ = lj_bi (lj_R lm_P 28 [.ref 0, .int 28, .int x1, .int 0, .int 0] σ) (fun y2 σ1 => lj_D lm_P lm_M82 102 [.ref 0, .int x1, .int x2, .int x3, .int x4, .int y2] [] σ1) lj_up := by rw [lj_D_eq]; rfl
set_option maxRecDepth 100000 in
set_option maxHeartbeats 4000000 in
theorem km_82_102 (x1 : Int32) (x2 : Int32) (x3 : Int32) (x4 : Int32) (x5 : Int32) (σ : lj_S) : lj_D lm_P lm_M82 102 [.ref 0, .int x1, .int x2, .int x3, .int x4, .int x5] [] σ = lj_bv (lj_R lm_P 29 [.ref 0, .int 15, .int (x1 + 1), .int (x2 + 1), .int 0] σ) (fun σ1 => some (.inl (some (.int 1)), σ1)) lj_up := by rw [lj_D_eq]; rfl
-- TableTongueModel.body(I)Z
set_option maxRecDepth 100000 in
theorem rm_83 (x1 : Int32) (σ : lj_S) : lj_R lm_P 83 [.ref 0, .int x1] σ = lj_D lm_P lm_M83 0 [.ref 0, .int x1, .retAddr 0, .retAddr 0, .retAddr 0] [] σ := lj_R_eq (nL := 5) (M := lm_M83) _ _ _ _ rfl rfl
set_option maxRecDepth 100000 in
set_option maxHeartbeats 4000000 in
theorem km_83_0 (x1 : Int32) (σ : lj_S) : lj_D lm_P lm_M83 0 [.ref 0, .int x1, .retAddr 0, .retAddr 0, .retAddr 0] [] σ = lj_bi (lj_R lm_P 39 [.ref 0, .int 40] σ) (fun y2 σ1 => (if y2 = 0 then lj_bi (lj_R lm_P 47 [.ref 0] σ1) (fun y22 σ21 => some (.inl (some (.int (vp_nar .boolean y22))), σ21)) lj_up else (if (σ1.1 0 34) = 50 then lj_bi (lj_R lm_P 34 [.ref 0] σ1) (fun y18 σ17 => lj_bi (lj_R lm_P 37 [.ref 0, .int 3, .int y18] σ17) (fun y20 σ19 => some (.inl (some (.int (vp_nar .boolean y20))), σ19)) lj_up) lj_up else lj_bi (lj_R lm_P 28 [.ref 0, .int 21, .int 0, .int 0, .int 0] σ1) (fun y4 σ3 => (if lj_in ((σ3.1 0 53) + 1) 52 then (if lj_in ((σ3.1 0 53) + 1) 52 then (if lj_in (σ3.1 0 34) 51 then (if lj_in (σ3.1 0 34) 51 then (if lj_in (σ3.1 0 34) 51 then lj_bi (lj_R lm_P 33 [.ref 0] (lj_put (lj_put (lj_put (lj_put (lj_put (lj_put (lj_put σ3 0 34 ((σ3.1 0 34) + 1)) 0 53 ((σ3.1 0 53) + 1)) 31 (((σ3.1 0 53) + 1).toNatClampNeg) (σ3.1 0 50)) 32 (((σ3.1 0 53) + 1).toNatClampNeg) (σ3.1 0 34)) 14 ((σ3.1 0 34).toNatClampNeg) 0) 15 ((σ3.1 0 34).toNatClampNeg) 0) 16 ((σ3.1 0 34).toNatClampNeg) (vp_nar .boolean 0))) (fun y6 σ5 => (if lj_in (σ3.1 0 34) 51 then (if lj_in (σ3.1 0 34) 51 then lj_bi (lj_R lm_P 28 [.ref 0, .int 0, .int 0, .int 0, .int 0] (lj_put (lj_put σ5 17 ((σ3.1 0 34).toNatClampNeg) y6) 12 ((σ3.1 0 34).toNatClampNeg) (σ5.1 0 41))) (fun y8 σ7 => (if x1 ≤ 0 then lj_D lm_P lm_M83 175 [.ref 0, .int x1, .int y4, .int (σ3.1 0 34), .int y8] [] σ7 else lj_bv (lj_R lm_P 2 [.ref 0, .long 1936026726] (lj_put σ7 0 20 0)) (fun σ9 => lj_bi (lj_R lm_P 3 [.ref 0, .int 0] σ9) (fun y11 σ10 => lj_bi (lj_R lm_P 34 [.ref 0] σ10) (fun y13 σ12 => lj_bi (lj_R lm_P 48 [.ref 0, .int y13] σ12) (fun y15 σ14 => lj_bv (lj_R lm_P 55 [.ref 0, .int y11, .int y15] σ14) (fun σ16 => lj_D lm_P lm_M83 175 [.ref 0, .int x1, .int y4, .int (σ3.1 0 34), .int y8] [] σ16) lj_up) lj_up) lj_up) lj_up) lj_up)) lj_up else none) else none)) lj_up else none) else none) else none) else none) else none)) lj_up))) lj_up := by rw [lj_D_eq]; rfl
set_option maxRecDepth 100000 in
set_option maxHeartbeats 4000000 in
theorem km_83_175 (x1 : Int32) (x2 : Int32) (x3 : Int32) (x4 : Int32) (σ : lj_S) : lj_D lm_P lm_M83 175 [.ref 0, .int x1, .int x2, .int x3, .int x4] [] σ = lj_bi (lj_R lm_P 36 [.ref 0] σ) (fun y2 σ1 => (if y2 = 0 then lj_D lm_P lm_M83 190 [.ref 0, .int x1, .int x2, .int x3, .int x4] [] σ1 else lj_bi (lj_R lm_P 84 [.ref 0, .int x3] σ1) (fun y4 σ3 => (if y4 = 0 then lj_D lm_P lm_M83 190 [.ref 0, .int x1, .int x2, .int x3, .int x4] [] σ3 else (if lj_in x3 51 then (if lj_in x3 51 then lj_bv (lj_R lm_P 29 [.ref 0, .int 20, .int x2, .int x3, .int 0] (lj_put σ3 13 x3.toNatClampNeg (σ3.1 14 x3.toNatClampNeg))) (fun σ5 => lj_bv (lj_R lm_P 29 [.ref 0, .int 0, .int 0, .int 0, .int 0] σ5) (fun σ6 => some (.inl (some (.int 1)), σ6)) lj_up) lj_up else none) else none))) lj_up)) lj_up := by rw [lj_D_eq]; rfl
set_option maxRecDepth 100000 in
set_option maxHeartbeats 4000000 in
theorem km_83_190 (x1 : Int32) (x2 : Int32) (x3 : Int32) (x4 : Int32) (σ : lj_S) : lj_D lm_P lm_M83 190 [.ref 0, .int x1, .int x2, .int x3, .int x4] [] σ = some (.inl (some (.int 0)), σ) := by rw [lj_D_eq]; rfl
-- TableTongueModel.parameters(I)Z
set_option maxRecDepth 100000 in
theorem rm_84 (x1 : Int32) (σ : lj_S) : lj_R lm_P 84 [.ref 0, .int x1] σ = lj_D lm_P lm_M84 0 [.ref 0, .int x1, .retAddr 0, .retAddr 0] [] σ := lj_R_eq (nL := 4) (M := lm_M84) _ _ _ _ rfl rfl
set_option maxRecDepth 100000 in
set_option maxHeartbeats 4000000 in
theorem km_84_0 (x1 : Int32) (σ : lj_S) : lj_D lm_P lm_M84 0 [.ref 0, .int x1, .retAddr 0, .retAddr 0] [] σ = lj_bi (lj_R lm_P 39 [.ref 0, .int 41] σ) (fun y2 σ1 => (if y2 = 0 then lj_D lm_P lm_M84 16 [.ref 0, .int x1, .int 1, .retAddr 0] [] σ1 else lj_bi (lj_R lm_P 36 [.ref 0] σ1) (fun y4 σ3 => some (.inl (some (.int (vp_nar .boolean y4))), σ3)) lj_up)) lj_up := by rw [lj_D_eq]; rfl
set_option maxRecDepth 100000 in
set_option maxHeartbeats 4000000 in
theorem km_84_16 (x1 : Int32) (x2 : Int32) (x3 : Value) (σ : lj_S) : lj_D lm_P lm_M84 16 [.ref 0, .int x1, .int x2, x3] [] σ = (if x2 = 0 then lj_bi (lj_R lm_P 74 [.ref 0, .int 41] σ) (fun y2 σ1 => some (.inl (some (.int (vp_nar .boolean y2))), σ1)) lj_up else lj_bi (lj_R lm_P 39 [.ref 0, .int 301] σ) (fun y4 σ3 => (if y4 = 0 then (if lj_in (σ3.1 0 25) 1502 then (if ((σ3.1 9 ((σ3.1 0 25).toNatClampNeg))) = 1 then lj_bi (lj_R lm_P 34 [.ref 0] σ3) (fun y6 σ5 => lj_bi (lj_R lm_P 48 [.ref 0, .int y6] σ5) (fun y8 σ7 => (if 0 ≤ y8 then (if lj_in (σ7.1 0 25) 1502 then lj_bv (lj_R lm_P 55 [.ref 0, .int ((((σ7.2 11 ((σ7.1 0 25).toNatClampNeg))) : Int64).toInt32), .int y8] σ7) (fun σ9 => lj_bi (lj_R lm_P 36 [.ref 0] σ9) (fun y11 σ10 => (if y11 = 0 then some (.inl (some (.int 0)), σ10) else lj_bi (lj_R lm_P 39 [.ref 0, .int 44] σ10) (fun y13 σ12 => (if y13 = 0 then lj_D lm_P lm_M84 136 [.ref 0, .int x1, .int y13, .int y8] [] σ12 else lj_bi (lj_R lm_P 36 [.ref 0] σ12) (fun y15 σ14 => (if y15 = 0 then some (.inl (some (.int 0)), σ14) else lj_D lm_P lm_M84 136 [.ref 0, .int x1, .int y13, .int y8] [] σ14)) lj_up)) lj_up)) lj_up) lj_up else none) else some (.inl (some (.int 0)), σ7))) lj_up) lj_up else lj_bi (lj_R lm_P 47 [.ref 0] σ3) (fun y17 σ16 => some (.inl (some (.int (vp_nar .boolean y17))), σ16)) lj_up) else none) else (if lj_in x1 51 then lj_bi (lj_R lm_P 36 [.ref 0] (lj_put σ3 16 x1.toNatClampNeg (vp_nar .boolean 1))) (fun y19 σ18 => (if y19 = 0 then lj_D lm_P lm_M84 57 [.ref 0, .int x1, .int x2, x3] [] σ18 else lj_bi (lj_R lm_P 74 [.ref 0, .int 41] σ18) (fun y21 σ20 => (if y21 = 0 then lj_D lm_P lm_M84 57 [.ref 0, .int x1, .int x2, x3] [] σ20 else lj_D lm_P lm_M84 58 [.ref 0, .int x1, .int x2, x3] [.int 1] σ20)) lj_up)) lj_up else none))) lj_up) := by rw [lj_D_eq]; rfl
set_option maxRecDepth 100000 in
set_option maxHeartbeats 4000000 in
theorem km_84_57 (x1 : Int32) (x2 : Int32) (x3 : Value) (σ : lj_S) : lj_D lm_P lm_M84 57 [.ref 0, .int x1, .int x2, x3] [] σ = lj_D lm_P lm_M84 58 [.ref 0, .int x1, .int x2, x3] [.int 0] σ := by rw [lj_D_eq]; rfl
set_option maxRecDepth 100000 in
set_option maxHeartbeats 4000000 in
theorem km_84_58 (x1 : Int32) (x2 : Int32) (x3 : Value) (x50 : Int32) (σ : lj_S) : lj_D lm_P lm_M84 58 [.ref 0, .int x1, .int x2, x3] [.int x50] σ = some (.inl (some (.int (vp_nar .boolean x50))), σ) := by rw [lj_D_eq]; rfl
set_option maxRecDepth 100000 in
set_option maxHeartbeats 4000000 in
theorem km_84_136 (x1 : Int32) (x2 : Int32) (x3 : Int32) (σ : lj_S) : lj_D lm_P lm_M84 136 [.ref 0, .int x1, .int x2, .int x3] [] σ = lj_D lm_P lm_M84 16 [.ref 0, .int x1, .int x2, .int x3] [] σ := by rw [lj_D_eq]; rfl
-- TableTongueModel.bodyEnd(II)Z
set_option maxRecDepth 100000 in
theorem rm_85 (x1 : Int32) (x2 : Int32) (σ : lj_S) : lj_R lm_P 85 [.ref 0, .int x1, .int x2] σ = lj_D lm_P lm_M85 0 [.ref 0, .int x1, .int x2, .retAddr 0] [] σ := lj_R_eq (nL := 4) (M := lm_M85) _ _ _ _ rfl rfl
set_option maxRecDepth 100000 in
set_option maxHeartbeats 4000000 in
theorem km_85_0 (x1 : Int32) (x2 : Int32) (σ : lj_S) : lj_D lm_P lm_M85 0 [.ref 0, .int x1, .int x2, .retAddr 0] [] σ = lj_bi (lj_R lm_P 49 [.ref 0, .int 6] σ) (fun y2 σ1 => (if y2 = 0 then some (.inl (some (.int 0)), σ1) else lj_bi (lj_R lm_P 28 [.ref 0, .int 14, .int 0, .int 0, .int 0] σ1) (fun y4 σ3 => lj_bi (lj_R lm_P 28 [.ref 0, .int 38, .int 0, .int 0, .int 0] σ3) (fun y6 σ5 => (if lj_in (σ5.1 0 53) 52 then (if lj_in x1 14000 then lj_bi (lj_R lm_P 28 [.ref 0, .int 25, .int x2, .int 0, .int 0] (lj_put (lj_put (lj_put σ5 0 50 ((σ5.1 31 ((σ5.1 0 53).toNatClampNeg)))) 0 53 ((σ5.1 0 53) - 1)) 21 x1.toNatClampNeg (σ5.1 0 41))) (fun y8 σ7 => some (.inl (some (.int 1)), (lj_put σ7 0 64 (-1)))) lj_up else none) else none)) lj_up) lj_up)) lj_up := by rw [lj_D_eq]; rfl
-- TableTongueModel.goOnStatement(IIII)Z
set_option maxRecDepth 100000 in
theorem rm_86 (x1 : Int32) (x2 : Int32) (x3 : Int32) (x4 : Int32) (σ : lj_S) : lj_R lm_P 86 [.ref 0, .int x1, .int x2, .int x3, .int x4] σ = lj_D lm_P lm_M86 0 [.ref 0, .int x1, .int x2, .int x3, .int x4, .retAddr 0] [] σ := lj_R_eq (nL := 6) (M := lm_M86) _ _ _ _ rfl rfl
set_option maxRecDepth 100000 in
set_option maxHeartbeats 4000000 in
theorem km_86_0 (x1 : Int32) (x2 : Int32) (x3 : Int32) (x4 : Int32) (σ : lj_S) : lj_D lm_P lm_M86 0 [.ref 0, .int x1, .int x2, .int x3, .int x4, .retAddr 0] [] σ = (if x1 = 21 then lj_bi (lj_R lm_P 87 [.ref 0, .int x2] σ) (fun y2 σ1 => some (.inl (some (.int (vp_nar .boolean y2))), σ1)) lj_up else (if x1 = 22 then lj_bi (lj_R lm_P 88 [.ref 0, .int x2, .int x3] σ) (fun y4 σ3 => some (.inl (some (.int (vp_nar .boolean y4))), σ3)) lj_up else (if x1 = 23 then lj_bi (lj_R lm_P 89 [.ref 0, .int x2] σ) (fun y6 σ5 => some (.inl (some (.int (vp_nar .boolean y6))), σ5)) lj_up else (if x1 = 24 then lj_bi (lj_R lm_P 90 [.ref 0, .int x2, .int x3] σ) (fun y8 σ7 => some (.inl (some (.int (vp_nar .boolean y8))), σ7)) lj_up else (if x1 = 25 then lj_bi (lj_R lm_P 91 [.ref 0, .int x2] σ) (fun y10 σ9 => some (.inl (some (.int (vp_nar .boolean y10))), σ9)) lj_up else (if x1 = 26 then lj_bi (lj_R lm_P 92 [.ref 0, .int x2] σ) (fun y12 σ11 => some (.inl (some (.int (vp_nar .boolean y12))), σ11)) lj_up else (if x1 = 27 then lj_bi (lj_R lm_P 93 [.ref 0, .int x2, .int x3] σ) (fun y14 σ13 => some (.inl (some (.int (vp_nar .boolean y14))), σ13)) lj_up else (if x1 = 28 then lj_bi (lj_R lm_P 95 [.ref 0, .int x2, .int x3, .int x4] σ) (fun y16 σ15 => some (.inl (some (.int (vp_nar .boolean y16))), σ15)) lj_up else (if x1 = 29 then lj_bi (lj_R lm_P 96 [.ref 0, .int x2, .int x3, .int x4] σ) (fun y18 σ17 => some (.inl (some (.int (vp_nar .boolean y18))), σ17)) lj_up else (if x1 = 30 then lj_bi (lj_R lm_P 49 [.ref 0, .int 6] σ) (fun y20 σ19 => some (.inl (some (.int (vp_nar .boolean y20))), σ19)) lj_up else (if x1 = 31 then lj_bi (lj_R lm_P 97 [.ref 0, .int x2, .int x3, .int x4] σ) (fun y22 σ21 => some (.inl (some (.int (vp_nar .boolean y22))), σ21)) lj_up else (if x1 = 32 then lj_bi (lj_R lm_P 98 [.ref 0, .int x2, .int x3, .int x4] σ) (fun y24 σ23 => some (.inl (some (.int (vp_nar .boolean y24))), σ23)) lj_up else (if x1 = 33 then lj_bi (lj_R lm_P 99 [.ref 0, .int x2, .int x3, .int x4] σ) (fun y26 σ25 => some (.inl (some (.int (vp_nar .boolean y26))), σ25)) lj_up else (if x1 = 34 then lj_bi (lj_R lm_P 100 [.ref 0, .int x2, .int x3, .int x4] σ) (fun y28 σ27 => some (.inl (some (.int (vp_nar .boolean y28))), σ27)) lj_up else (if x1 = 35 then lj_bi (lj_R lm_P 101 [.ref 0, .int x2, .int x3, .int x4] σ) (fun y30 σ29 => some (.inl (some (.int (vp_nar .boolean y30))), σ29)) lj_up else (if x1 = 36 then lj_bi (lj_R lm_P 102 [.ref 0, .int x2, .int x3, .int x4] σ) (fun y32 σ31 => some (.inl (some (.int (vp_nar .boolean y32))), σ31)) lj_up else (if x1 = 37 then lj_bi (lj_R lm_P 103 [.ref 0, .int x2] σ) (fun y34 σ33 => some (.inl (some (.int (vp_nar .boolean y34))), σ33)) lj_up else (if x1 = 38 then lj_D lm_P lm_M86 269 [.ref 0, .int x1, .int x2, .int x3, .int x4, .retAddr 0] [] σ else (if x1 = 39 then (if (100 : Int32) = 0 then none else (if (100 : Int32) = 0 then none else lj_bi (lj_R lm_P 56 [.ref 0, .int x2, .int x3, .int (x4 / 100), .int (x4 - x4 / 100 * 100)] σ) (fun y36 σ35 => some (.inl (some (.int (vp_nar .boolean y36))), σ35)) lj_up)) else (if x1 = 40 then lj_bi (lj_R lm_P 28 [.ref 0, .int 9, .int x2, .int 0, .int 0] σ) (fun y38 σ37 => some (.inl (some (.int 1)), σ37)) lj_up else (if x1 = 41 then lj_bi (lj_R lm_P 104 [.ref 0, .int x2, .int x3, .int x4] σ) (fun y40 σ39 => some (.inl (some (.int (vp_nar .boolean y40))), σ39)) lj_up else lj_D lm_P lm_M86 269 [.ref 0, .int x1, .int x2, .int x3, .int x4, .retAddr 0] [] σ))))))))))))))))))))) := by rw [lj_D_eq]; rfl
set_option maxRecDepth 100000 in
set_option maxHeartbeats 4000000 in
theorem km_86_269 (x1 : Int32) (x2 : Int32) (x3 : Int32) (x4 : Int32) (σ : lj_S) : lj_D lm_P lm_M86 269 [.ref 0, .int x1, .int x2, .int x3, .int x4, .retAddr 0] [] σ = (if lj_in (σ.1 0 25) 1502 then (if ((σ.1 9 ((σ.1 0 25).toNatClampNeg))) = 6 then lj_D lm_P lm_M86 290 [.ref 0, .int x1, .int x2, .int x3, .int x4, .retAddr 0] [] σ else lj_bi (lj_R lm_P 47 [.ref 0] σ) (fun y2 σ1 => (if y2 = 0 then lj_D lm_P lm_M86 295 [.ref 0, .int x1, .int x2, .int x3, .int x4, .retAddr 0] [.int 0] σ1 else lj_D lm_P lm_M86 290 [.ref 0, .int x1, .int x2, .int x3, .int x4, .retAddr 0] [] σ1)) lj_up) else none) := by rw [lj_D_eq]; rfl
set_option maxRecDepth 100000 in
set_option maxHeartbeats 4000000 in
theorem km_86_290 (x1 : Int32) (x2 : Int32) (x3 : Int32) (x4 : Int32) (σ : lj_S) : lj_D lm_P lm_M86 290 [.ref 0, .int x1, .int x2, .int x3, .int x4, .retAddr 0] [] σ = lj_D lm_P lm_M86 295 [.ref 0, .int x1, .int x2, .int x3, .int x4, .retAddr 0] [.int 1] σ := by rw [lj_D_eq]; rfl
set_option maxRecDepth 100000 in
set_option maxHeartbeats 4000000 in
theorem km_86_295 (x1 : Int32) (x2 : Int32) (x3 : Int32) (x4 : Int32) (x50 : Int32) (σ : lj_S) : lj_D lm_P lm_M86 295 [.ref 0, .int x1, .int x2, .int x3, .int x4, .retAddr 0] [.int x50] σ = some (.inl (some (.int (vp_nar .boolean x50))), σ) := by rw [lj_D_eq]; rfl
-- TableTongueModel.afterChain(I)Z
set_option maxRecDepth 100000 in
theorem rm_87 (x1 : Int32) (σ : lj_S) : lj_R lm_P 87 [.ref 0, .int x1] σ = lj_D lm_P lm_M87 0 [.ref 0, .int x1, .retAddr 0, .retAddr 0, .retAddr 0] [] σ := lj_R_eq (nL := 5) (M := lm_M87) _ _ _ _ rfl rfl
set_option maxRecDepth 100000 in
set_option maxHeartbeats 4000000 in
theorem km_87_0 (x1 : Int32) (σ : lj_S) : lj_D lm_P lm_M87 0 [.ref 0, .int x1, .retAddr 0, .retAddr 0, .retAddr 0] [] σ = (if 3 < (σ.1 0 61) then lj_D lm_P lm_M87 13 [.ref 0, .int x1, .retAddr 0, .retAddr 0, .retAddr 0] [.int 0] σ else lj_D lm_P lm_M87 13 [.ref 0, .int x1, .retAddr 0, .retAddr 0, .retAddr 0] [.int 1] σ) := by rw [lj_D_eq]; rfl
set_option maxRecDepth 100000 in
set_option maxHeartbeats 4000000 in
theorem km_87_13 (x1 : Int32) (x50 : Int32) (σ : lj_S) : lj_D lm_P lm_M87 13 [.ref 0, .int x1, .retAddr 0, .retAddr 0, .retAddr 0] [.int x50] σ = lj_bi (lj_R lm_P 39 [.ref 0, .int 61] σ) (fun y2 σ1 => (if y2 = 0 then lj_bi (lj_R lm_P 39 [.ref 0, .int 44] σ1) (fun y4 σ3 => (if y4 = 0 then (if (σ3.1 0 61) = 4 then (if (σ3.1 0 60) ≤ x1 then (if lj_in (σ3.1 0 62) 14000 then lj_bi (lj_R lm_P 28 [.ref 0, .int 47, .int 0, .int 0, .int 0] (lj_put σ3 21 ((σ3.1 0 62).toNatClampNeg) 0)) (fun y6 σ5 => some (.inl (some (.int 1)), σ5)) lj_up else none) else lj_D lm_P lm_M87 257 [.ref 0, .int x1, .int x50, .retAddr 0, .retAddr 0] [] σ3) else lj_D lm_P lm_M87 257 [.ref 0, .int x1, .int x50, .retAddr 0, .retAddr 0] [] σ3) else lj_D lm_P lm_M87 32 [.ref 0, .int x1, .int x50, .retAddr 0, .retAddr 0] [] σ3)) lj_up else lj_D lm_P lm_M87 32 [.ref 0, .int x1, .int x50, .retAddr 0, .retAddr 0] [] σ1)) lj_up := by rw [lj_D_eq]; rfl
set_option maxRecDepth 100000 in
set_option maxHeartbeats 4000000 in
theorem km_87_32 (x1 : Int32) (x2 : Int32) (σ : lj_S) : lj_D lm_P lm_M87 32 [.ref 0, .int x1, .int x2, .retAddr 0, .retAddr 0] [] σ = (if x2 = 0 then lj_bi (lj_R lm_P 47 [.ref 0] σ) (fun y23 σ22 => some (.inl (some (.int (vp_nar .boolean y23))), σ22)) lj_up else (if lj_in (σ.1 0 60) 600 then (if lj_in (σ.1 0 60) 600 then (if lj_in (σ.1 0 60) 600 then lj_bi (lj_R lm_P 39 [.ref 0, .int 61] (lj_put (lj_put (lj_put (lj_put σ 35 ((σ.1 0 60).toNatClampNeg) (σ.1 0 61)) 36 ((σ.1 0 60).toNatClampNeg) (σ.1 0 62)) 37 ((σ.1 0 60).toNatClampNeg) (σ.1 0 63)) 0 60 ((σ.1 0 60) + 1))) (fun y2 σ1 => (if y2 = 0 then lj_bi (lj_R lm_P 36 [.ref 0] σ1) (fun y4 σ3 => (if y4 = 0 then some (.inl (some (.int 0)), σ3) else (if lj_in (σ3.1 0 25) 1502 then (if ((σ3.1 9 ((σ3.1 0 25).toNatClampNeg))) = 1 then lj_D lm_P lm_M87 200 [.ref 0, .int x1, .int x2, .retAddr 0, .retAddr 0] [] σ3 else lj_bi (lj_R lm_P 39 [.ref 0, .int 40] σ3) (fun y6 σ5 => (if y6 = 0 then lj_bi (lj_R lm_P 47 [.ref 0] σ5) (fun y8 σ7 => some (.inl (some (.int (vp_nar .boolean y8))), σ7)) lj_up else lj_D lm_P lm_M87 200 [.ref 0, .int x1, .int x2, .retAddr 0, .retAddr 0] [] σ5)) lj_up) else none))) lj_up else lj_bi (lj_R lm_P 33 [.ref 0] σ1) (fun y10 σ9 => lj_bi (lj_R lm_P 36 [.ref 0] σ9) (fun y12 σ11 => (if y12 = 0 then some (.inl (some (.int 0)), σ11) else lj_bi (lj_R lm_P 38 [.ref 0] σ11) (fun y14 σ13 => (if y14 = 0 then lj_bi (lj_R lm_P 47 [.ref 0] σ13) (fun y21 σ20 => some (.inl (some (.int (vp_nar .boolean y21))), σ20)) lj_up else lj_bi (lj_R lm_P 28 [.ref 0, .int 14, .int 0, .int 0, .int 0] σ13) (fun y16 σ15 => lj_bv (lj_R lm_P 29 [.ref 0, .int 22, .int x1, .int y10, .int 0] σ15) (fun σ17 => lj_bv (lj_R lm_P 29 [.ref 0, .int 14, .int 0, .int 0, .int 0] σ17) (fun σ18 => lj_bv (lj_R lm_P 29 [.ref 0, .int 3, .int 0, .int 0, .int 0] σ18) (fun σ19 => some (.inl (some (.int 1)), σ19)) lj_up) lj_up) lj_up) lj_up)) lj_up)) lj_up) lj_up)) lj_up else none) else none) else none)) := by rw [lj_D_eq]; rfl
set_option maxRecDepth 100000 in
set_option maxHeartbeats 4000000 in
theorem km_87_200 (x1 : Int32) (x2 : Int32) (σ : lj_S) : lj_D lm_P lm_M87 200 [.ref 0, .int x1, .int x2, .retAddr 0, .retAddr 0] [] σ = (if ((σ.1 0 60) - x1) = 20 then lj_bi (lj_R lm_P 34 [.ref 0] σ) (fun y4 σ3 => lj_bi (lj_R lm_P 37 [.ref 0, .int 3, .int y4] σ3) (fun y6 σ5 => some (.inl (some (.int (vp_nar .boolean y6))), σ5)) lj_up) lj_up else lj_bv (lj_R lm_P 29 [.ref 0, .int 21, .int x1, .int 0, .int 0] σ) (fun σ1 => lj_bv (lj_R lm_P 29 [.ref 0, .int 7, .int 0, .int 0, .int 0] σ1) (fun σ2 => some (.inl (some (.int 1)), σ2)) lj_up) lj_up) := by rw [lj_D_eq]; rfl
set_option maxRecDepth 100000 in
set_option maxHeartbeats 4000000 in
theorem km_87_257 (x1 : Int32) (x2 : Int32) (σ : lj_S) : lj_D lm_P lm_M87 257 [.ref 0, .int x1, .int x2, .retAddr 0, .retAddr 0] [] σ = lj_bi (lj_R lm_P 47 [.ref 0] σ) (fun y2 σ1 => some (.inl (some (.int (vp_nar .boolean y2))), σ1)) lj_up := by rw [lj_D_eq]; rfl
-- TableTongueModel.assign(II)Z
set_option maxRecDepth 100000 in
theorem rm_88 (x1 : Int32) (x2 : Int32) (σ : lj_S) : lj_R lm_P 88 [.ref 0, .int x1, .int x2] σ = lj_D lm_P lm_M88 0 [.ref 0, .int x1, .int x2, .retAddr 0, .retAddr 0, .retAddr 0, .retAddr 0] [] σ := lj_R_eq (nL := 7) (M := lm_M88) _ _ _ _ rfl rfl
set_option maxRecDepth 100000 in
set_option maxHeartbeats 4000000 in
theorem km_88_0 (x1 : Int32) (x2 : Int32) (σ : lj_S) : lj_D lm_P lm_M88 0 [.ref 0, .int x1, .int x2, .retAddr 0, .retAddr 0, .retAddr 0, .retAddr 0] [] σ = lj_bi (lj_R lm_P 28 [.ref 0, .int 17, .int 0, .int 0, .int x2] σ) (fun y2 σ1 => lj_bi (lj_R lm_P 28 [.ref 0, .int 18, .int ((σ.1 0 60) - x1), .int 0, .int 0] σ1) (fun y4 σ3 => lj_D lm_P lm_M88 35 [.ref 0, .int x1, .int x2, .int ((σ.1 0 60) - x1), .int y4, .int 0, .int x1] [] σ3) lj_up) lj_up := by rw [lj_D_eq]; rfl
set_option maxRecDepth 100000 in
set_option maxHeartbeats 4000000 in
theorem km_88_35 (x1 : Int32) (x2 : Int32) (x3 : Int32) (x4 : Int32) (x5 : Int32) (x6 : Int32) (σ : lj_S) : lj_D lm_P lm_M88 35 [.ref 0, .int x1, .int x2, .int x3, .int x4, .int x5, .int x6] [] σ = (if (σ.1 0 60) ≤ x6 then lj_D lm_P lm_M88 80 [.ref 0, .int x1, .int x2, .int x3, .int x4, .int x5, .int ((σ.1 0 60) - 1)] [] σ else (if lj_in x6 600 then (if (σ.1 35 x6.toNatClampNeg) = 3 then lj_D lm_P lm_M88 64 [.ref 0, .int x1, .int x2, .int x3, .int x4, .int x5, .int x6] [.int (x5 + 2)] σ else lj_D lm_P lm_M88 64 [.ref 0, .int x1, .int x2, .int x3, .int x4, .int x5, .int x6] [.int x5] σ) else none)) := by rw [lj_D_eq]; rfl
set_option maxRecDepth 100000 in
set_option maxHeartbeats 4000000 in
theorem km_88_64 (x1 : Int32) (x2 : Int32) (x3 : Int32) (x4 : Int32) (x5 : Int32) (x6 : Int32) (x50 : Int32) (σ : lj_S) : lj_D lm_P lm_M88 64 [.ref 0, .int x1, .int x2, .int x3, .int x4, .int x5, .int x6] [.int x50] σ = lj_D lm_P lm_M88 35 [.ref 0, .int x1, .int x2, .int x3, .int x4, .int x50, .int (x6 + 1)] [] σ := by rw [lj_D_eq]; rfl
set_option maxRecDepth 100000 in
set_option maxHeartbeats 4000000 in
theorem km_88_80 (x1 : Int32) (x2 : Int32) (x3 : Int32) (x4 : Int32) (x5 : Int32) (x6 : Int32) (σ : lj_S) : lj_D lm_P lm_M88 80 [.ref 0, .int x1, .int x2, .int x3, .int x4, .int x5, .int x6] [] σ = (if x6 < x1 then lj_bi (lj_R lm_P 28 [.ref 0, .int 47, .int 0, .int 0, .int 0] (lj_put σ 0 60 x1)) (fun y2 σ1 => some (.inl (some (.int 1)), σ1)) lj_up else (if lj_in x6 600 then (if (σ.1 35 x6.toNatClampNeg) = 3 then (if lj_in x6 600 then lj_bi (lj_R lm_P 28 [.ref 0, .int 13, .int (x5 - 2), .int 0, .int (σ.1 37 x6.toNatClampNeg)] σ) (fun y6 σ5 => lj_D lm_P lm_M88 149 [.ref 0, .int x1, .int x2, .int x3, .int y6, .int (x5 - 2), .int x6] [] σ5) lj_up else none) else (if lj_in x6 600 then (if lj_in x6 600 then lj_bi (lj_R lm_P 28 [.ref 0, .int (9 + (σ.1 35 x6.toNatClampNeg)), .int (σ.1 36 x6.toNatClampNeg), .int 0, .int 0] σ) (fun y4 σ3 => lj_D lm_P lm_M88 149 [.ref 0, .int x1, .int x2, .int x3, .int y4, .int x5, .int x6] [] σ3) lj_up else none) else none)) else none)) := by rw [lj_D_eq]; rfl
set_option maxRecDepth 100000 in
set_option maxHeartbeats 4000000 in
theorem km_88_149 (x1 : Int32) (x2 : Int32) (x3 : Int32) (x4 : Int32) (x5 : Int32) (x6 : Int32) (σ : lj_S) : lj_D lm_P lm_M88 149 [.ref 0, .int x1, .int x2, .int x3, .int x4, .int x5, .int x6] [] σ = lj_D lm_P lm_M88 80 [.ref 0, .int x1, .int x2, .int x3, .int x4, .int x5, .int (x6 + (-1))] [] σ := by rw [lj_D_eq]; rfl
-- TableTongueModel.then(I)Z
set_option maxRecDepth 100000 in
theorem rm_89 (x1 : Int32) (σ : lj_S) : lj_R lm_P 89 [.ref 0, .int x1] σ = lj_D lm_P lm_M89 0 [.ref 0, .int x1, .retAddr 0] [] σ := lj_R_eq (nL := 3) (M := lm_M89) _ _ _ _ rfl rfl
set_option maxRecDepth 100000 in
set_option maxHeartbeats 4000000 in
theorem km_89_0 (x1 : Int32) (σ : lj_S) : lj_D lm_P lm_M89 0 [.ref 0, .int x1, .retAddr 0] [] σ = lj_bi (lj_R lm_P 49 [.ref 0, .int 18] σ) (fun y2 σ1 => (if y2 = 0 then some (.inl (some (.int 0)), σ1) else lj_bi (lj_R lm_P 28 [.ref 0, .int 22, .int 0, .int 0, .int 0] σ1) (fun y4 σ3 => lj_bv (lj_R lm_P 29 [.ref 0, .int 24, .int y4, .int x1, .int 0] σ3) (fun σ5 => lj_bv (lj_R lm_P 43 [.ref 0] σ5) (fun σ6 => some (.inl (some (.int 1)), σ6)) lj_up) lj_up) lj_up)) lj_up := by rw [lj_D_eq]; rfl
-- TableTongueModel.afterIf(II)Z
set_option maxRecDepth 100000 in
theorem rm_90 (x1 : Int32) (x2 : Int32) (σ : lj_S) : lj_R lm_P 90 [.ref 0, .int x1, .int x2] σ = lj_D lm_P lm_M90 0 [.ref 0, .int x1, .int x2, .retAddr 0, .retAddr 0] [] σ := lj_R_eq (nL := 5) (M := lm_M90) _ _ _ _ rfl rfl
set_option maxRecDepth 100000 in
set_option maxHeartbeats 4000000 in
theorem km_90_0 (x1 : Int32) (x2 : Int32) (σ : lj_S) : lj_D lm_P lm_M90 0 [.ref 0, .int x1, .int x2, .retAddr 0, .retAddr 0] [] σ = lj_bi (lj_R lm_P 32 [.ref 0, .int 5] σ) (fun y2 σ1 => (if y2 = 0 then lj_bi (lj_R lm_P 32 [.ref 0, .int 4] σ1) (fun y4 σ3 => (if y4 = 0 then (if lj_in x1 14000 then lj_bi (lj_R lm_P 91 [.ref 0, .int x2] (lj_put σ3 21 x1.toNatClampNeg (σ3.1 0 41))) (fun y6 σ5 => some (.inl (some (.int (vp_nar .boolean y6))), σ5)) lj_up else none) else lj_D lm_P lm_M90 18 [.ref 0, .int x1, .int x2, .int x2, .retAddr 0] [] σ3)) lj_up else lj_D lm_P lm_M90 18 [.ref 0, .int x1, .int x2, .int x2, .retAddr 0] [] σ1)) lj_up := by rw [lj_D_eq]; rfl
set_option maxRecDepth 100000 in
set_option maxHeartbeats 4000000 in
theorem km_90_18 (x1 : Int32) (x2 : Int32) (x3 : Int32) (σ : lj_S) : lj_D lm_P lm_M90 18 [.ref 0, .int x1, .int x2, .int x3, .retAddr 0] [] σ = lj_bi (lj_R lm_P 32 [.ref 0, .int 5] σ) (fun y2 σ1 => lj_bi (lj_R lm_P 28 [.ref 0, .int 21, .int x2, .int 0, .int 0] σ1) (fun y4 σ3 => (if lj_in x1 14000 then lj_bi (lj_R lm_P 36 [.ref 0] (lj_put σ3 21 x1.toNatClampNeg (σ3.1 0 41))) (fun y6 σ5 => (if y6 = 0 then some (.inl (some (.int 0)), σ5) else (if y2 = 0 then lj_bv (lj_R lm_P 29 [.ref 0, .int 25, .int y4, .int 0, .int 0] σ5) (fun σ7 => lj_bv (lj_R lm_P 43 [.ref 0] σ7) (fun σ8 => lj_D lm_P lm_M90 92 [.ref 0, .int x1, .int x2, .int y4, .int y2] [] σ8) lj_up) lj_up else lj_bv (lj_R lm_P 29 [.ref 0, .int 23, .int y4, .int 0, .int 0] σ5) (fun σ9 => lj_bv (lj_R lm_P 29 [.ref 0, .int 3, .int 0, .int 0, .int 0] σ9) (fun σ10 => lj_D lm_P lm_M90 92 [.ref 0, .int x1, .int x2, .int y4, .int y2] [] σ10) lj_up) lj_up))) lj_up else none)) lj_up) lj_up := by rw [lj_D_eq]; rfl
set_option maxRecDepth 100000 in
set_option maxHeartbeats 4000000 in
theorem km_90_92 (x1 : Int32) (x2 : Int32) (x3 : Int32) (x4 : Int32) (σ : lj_S) : lj_D lm_P lm_M90 92 [.ref 0, .int x1, .int x2, .int x3, .int x4] [] σ = some (.inl (some (.int 1)), σ) := by rw [lj_D_eq]; rfl
-- TableTongueModel.endIf(I)Z
set_option maxRecDepth 100000 in
theorem rm_91 (x1 : Int32) (σ : lj_S) : lj_R lm_P 91 [.ref 0, .int x1] σ = lj_D lm_P lm_M91 0 [.ref 0, .int x1, .retAddr 0, .retAddr 0] [] σ := lj_R_eq (nL := 4) (M := lm_M91) _ _ _ _ rfl rfl
set_option maxRecDepth 100000 in
set_option maxHeartbeats 4000000 in
theorem km_91_0 (x1 : Int32) (σ : lj_S) : lj_D lm_P lm_M91 0 [.ref 0, .int x1, .retAddr 0, .retAddr 0] [] σ = lj_D lm_P lm_M91 2 [.ref 0, .int x1, .int x1, .retAddr 0] [] σ := by rw [lj_D_eq]; rfl
set_option maxRecDepth 100000 in
set_option maxHeartbeats 4000000 in
theorem km_91_2 (x1 : Int32) (x2 : Int32) (x3 : Value) (σ : lj_S) : lj_D lm_P lm_M91 2 [.ref 0, .int x1, .int x2, x3] [] σ = (if x2 < 0 then lj_bi (lj_R lm_P 49 [.ref 0, .int 6] σ) (fun y2 σ1 => some (.inl (some (.int (vp_nar .boolean y2))), σ1)) lj_up else (if lj_in x2 14000 then (if lj_in x2 14000 then lj_D lm_P lm_M91 2 [.ref 0, .int x1, .int (σ.1 21 x2.toNatClampNeg), .int (σ.1 21 x2.toNatClampNeg)] [] (lj_put σ 21 x2.toNatClampNeg (σ.1 0 41)) else none) else none)) := by rw [lj_D_eq]; rfl
-- TableTongueModel.whileDo(I)Z
set_option maxRecDepth 100000 in
theorem rm_92 (x1 : Int32) (σ : lj_S) : lj_R lm_P 92 [.ref 0, .int x1] σ = lj_D lm_P lm_M92 0 [.ref 0, .int x1] [] σ := lj_R_eq (nL := 2) (M := lm_M92) _ _ _ _ rfl rfl
set_option maxRecDepth 100000 in
set_option maxHeartbeats 4000000 in
theorem km_92_0 (x1 : Int32) (σ : lj_S) : lj_D lm_P lm_M92 0 [.ref 0, .int x1] [] σ = lj_bi (lj_R lm_P 49 [.ref 0, .int 3] σ) (fun y2 σ1 => (if y2 = 0 then some (.inl (some (.int 0)), σ1) else lj_bv (lj_R lm_P 44 [.ref 0] σ1) (fun σ3 => lj_bi (lj_R lm_P 28 [.ref 0, .int 22, .int (-1), .int 0, .int 0] σ3) (fun y5 σ4 => (if lj_in ((σ3.1 0 56) - 1) 64 then lj_bi (lj_R lm_P 45 [.ref 0] (lj_put σ4 33 (((σ3.1 0 56) - 1).toNatClampNeg) y5)) (fun y7 σ6 => (if lj_in y7 51 then lj_bv (lj_R lm_P 29 [.ref 0, .int 27, .int x1, .int (σ6.1 14 y7.toNatClampNeg), .int 0] σ6) (fun σ8 => lj_bv (lj_R lm_P 43 [.ref 0] σ8) (fun σ9 => some (.inl (some (.int 1)), σ9)) lj_up) lj_up else none)) lj_up else none)) lj_up) lj_up)) lj_up := by rw [lj_D_eq]; rfl
-- TableTongueModel.whileEnd(II)Z
set_option maxRecDepth 100000 in
theorem rm_93 (x1 : Int32) (x2 : Int32) (σ : lj_S) : lj_R lm_P 93 [.ref 0, .int x1, .int x2] σ = lj_D lm_P lm_M93 0 [.ref 0, .int x1, .int x2, .retAddr 0] [] σ := lj_R_eq (nL := 4) (M := lm_M93) _ _ _ _ rfl rfl
set_option maxRecDepth 100000 in
set_option maxHeartbeats 4000000 in
theorem km_93_0 (x1 : Int32) (x2 : Int32) (σ : lj_S) : lj_D lm_P lm_M93 0 [.ref 0, .int x1, .int x2, .retAddr 0] [] σ = lj_bi (lj_R lm_P 49 [.ref 0, .int 6] σ) (fun y2 σ1 => (if y2 = 0 then some (.inl (some (.int 0)), σ1) else lj_bi (lj_R lm_P 28 [.ref 0, .int 21, .int x1, .int 0, .int 0] σ1) (fun y4 σ3 => lj_bv (lj_R lm_P 94 [.ref 0, .int x2] σ3) (fun σ5 => some (.inl (some (.int 1)), σ5)) lj_up) lj_up)) lj_up := by rw [lj_D_eq]; rfl
-- TableTongueModel.closeLoop(I)V
set_option maxRecDepth 100000 in
theorem rm_94 (x1 : Int32) (σ : lj_S) : lj_R lm_P 94 [.ref 0, .int x1] σ = lj_D lm_P lm_M94 0 [.ref 0, .int x1, .retAddr 0, .retAddr 0] [] σ := lj_R_eq (nL := 4) (M := lm_M94) _ _ _ _ rfl rfl
set_option maxRecDepth 100000 in
set_option maxHeartbeats 4000000 in
theorem km_94_0 (x1 : Int32) (σ : lj_S) : lj_D lm_P lm_M94 0 [.ref 0, .int x1, .retAddr 0, .retAddr 0] [] σ = (if lj_in ((σ.1 0 56) - 1) 64 then lj_D lm_P lm_M94 20 [.ref 0, .int x1, .int ((σ.1 33 (((σ.1 0 56) - 1).toNatClampNeg))), .retAddr 0] [] (lj_put σ 0 56 ((σ.1 0 56) - 1)) else none) := by rw [lj_D_eq]; rfl
set_option maxRecDepth 100000 in
set_option maxHeartbeats 4000000 in
theorem km_94_20 (x1 : Int32) (x2 : Int32) (x3 : Value) (σ : lj_S) : lj_D lm_P lm_M94 20 [.ref 0, .int x1, .int x2, x3] [] σ = (if x2 < 0 then lj_bi (lj_R lm_P 28 [.ref 0, .int 20, .int x1, .int 0, .int 0] σ) (fun y2 σ1 => some (.inl none, σ1)) lj_up else (if lj_in x2 14000 then (if lj_in x2 14000 then lj_D lm_P lm_M94 20 [.ref 0, .int x1, .int (σ.1 21 x2.toNatClampNeg), .int (σ.1 21 x2.toNatClampNeg)] [] (lj_put σ 21 x2.toNatClampNeg (σ.1 0 41)) else none) else none)) := by rw [lj_D_eq]; rfl
-- TableTongueModel.until(III)Z
set_option maxRecDepth 100000 in
theorem rm_95 (x1 : Int32) (x2 : Int32) (x3 : Int32) (σ : lj_S) : lj_R lm_P 95 [.ref 0, .int x1, .int x2, .int x3] σ = lj_D lm_P lm_M95 0 [.ref 0, .int x1, .int x2, .int x3, .retAddr 0] [] σ := lj_R_eq (nL := 5) (M := lm_M95) _ _ _ _ rfl rfl
set_option maxRecDepth 100000 in
set_option maxHeartbeats 4000000 in
theorem km_95_0 (x1 : Int32) (x2 : Int32) (x3 : Int32) (σ : lj_S) : lj_D lm_P lm_M95 0 [.ref 0, .int x1, .int x2, .int x3, .retAddr 0] [] σ = lj_bi (lj_R lm_P 49 [.ref 0, .int 20] σ) (fun y2 σ1 => (if y2 = 0 then some (.inl (some (.int 0)), σ1) else lj_bi (lj_R lm_P 28 [.ref 0, .int 0, .int 0, .int 0, .int 0] σ1) (fun y4 σ3 => lj_bv (lj_R lm_P 29 [.ref 0, .int 29, .int x1, .int x2, .int x3] σ3) (fun σ5 => lj_bv (lj_R lm_P 29 [.ref 0, .int 3, .int 0, .int 0, .int 0] σ5) (fun σ6 => some (.inl (some (.int 1)), σ6)) lj_up) lj_up) lj_up)) lj_up := by rw [lj_D_eq]; rfl
-- TableTongueModel.untilEnd(III)Z
set_option maxRecDepth 100000 in
theorem rm_96 (x1 : Int32) (x2 : Int32) (x3 : Int32) (σ : lj_S) : lj_R lm_P 96 [.ref 0, .int x1, .int x2, .int x3] σ = lj_D lm_P lm_M96 0 [.ref 0, .int x1, .int x2, .int x3, .retAddr 0] [] σ := lj_R_eq (nL := 5) (M := lm_M96) _ _ _ _ rfl rfl
set_option maxRecDepth 100000 in
set_option maxHeartbeats 4000000 in
theorem km_96_0 (x1 : Int32) (x2 : Int32) (x3 : Int32) (σ : lj_S) : lj_D lm_P lm_M96 0 [.ref 0, .int x1, .int x2, .int x3, .retAddr 0] [] σ = lj_bv (lj_R lm_P 58 [.ref 0, .int x2] σ) (fun σ1 => lj_bi (lj_R lm_P 28 [.ref 0, .int 22, .int x1, .int 0, .int 0] σ1) (fun y3 σ2 => lj_bv (lj_R lm_P 94 [.ref 0, .int x3] σ2) (fun σ4 => some (.inl (some (.int 1)), σ4)) lj_up) lj_up) lj_up := by rw [lj_D_eq]; rfl
-- TableTongueModel.forTwo(III)Z
set_option maxRecDepth 100000 in
theorem rm_97 (x1 : Int32) (x2 : Int32) (x3 : Int32) (σ : lj_S) : lj_R lm_P 97 [.ref 0, .int x1, .int x2, .int x3] σ = lj_D lm_P lm_M97 0 [.ref 0, .int x1, .int x2, .int x3] [] σ := lj_R_eq (nL := 4) (M := lm_M97) _ _ _ _ rfl rfl
set_option maxRecDepth 100000 in
set_option maxHeartbeats 4000000 in
theorem km_97_0 (x1 : Int32) (x2 : Int32) (x3 : Int32) (σ : lj_S) : lj_D lm_P lm_M97 0 [.ref 0, .int x1, .int x2, .int x3] [] σ = lj_bi (lj_R lm_P 74 [.ref 0, .int 44] σ) (fun y2 σ1 => (if y2 = 0 then some (.inl (some (.int 0)), σ1) else lj_bv (lj_R lm_P 29 [.ref 0, .int 32, .int x1, .int x2, .int x3] σ1) (fun σ3 => lj_bv (lj_R lm_P 29 [.ref 0, .int 3, .int 0, .int 0, .int 0] σ3) (fun σ4 => some (.inl (some (.int 1)), σ4)) lj_up) lj_up)) lj_up := by rw [lj_D_eq]; rfl
-- TableTongueModel.forThree(III)Z
set_option maxRecDepth 100000 in
theorem rm_98 (x1 : Int32) (x2 : Int32) (x3 : Int32) (σ : lj_S) : lj_R lm_P 98 [.ref 0, .int x1, .int x2, .int x3] σ = lj_D lm_P lm_M98 0 [.ref 0, .int x1, .int x2, .int x3, .retAddr 0] [] σ := lj_R_eq (nL := 5) (M := lm_M98) _ _ _ _ rfl rfl
set_option maxRecDepth 100000 in
set_option maxHeartbeats 4000000 in
theorem km_98_0 (x1 : Int32) (x2 : Int32) (x3 : Int32) (σ : lj_S) : lj_D lm_P lm_M98 0 [.ref 0, .int x1, .int x2, .int x3, .retAddr 0] [] σ = lj_bi (lj_R lm_P 39 [.ref 0, .int 44] σ) (fun y2 σ1 => (if y2 = 0 then (if lj_in (σ1.1 0 40) 1501 then lj_bi (lj_R lm_P 28 [.ref 0, .int 4, .int (σ1.1 0 40), .int 0, .int 0] (lj_putL σ1 24 ((σ1.1 0 40).toNatClampNeg) 1)) (fun y4 σ3 => lj_bi (lj_R lm_P 99 [.ref 0, .int x1, .int x2, .int x3] (lj_put σ3 0 40 ((σ3.1 0 40) + 1))) (fun y6 σ5 => some (.inl (some (.int (vp_nar .boolean y6))), σ5)) lj_up) lj_up else none) else lj_bv (lj_R lm_P 29 [.ref 0, .int 33, .int x1, .int x2, .int x3] σ1) (fun σ7 => lj_bv (lj_R lm_P 29 [.ref 0, .int 3, .int 0, .int 0, .int 0] σ7) (fun σ8 => lj_bi (lj_R lm_P 36 [.ref 0] σ8) (fun y10 σ9 => some (.inl (some (.int (vp_nar .boolean y10))), σ9)) lj_up) lj_up) lj_up)) lj_up := by rw [lj_D_eq]; rfl
-- TableTongueModel.forDo(III)Z
set_option maxRecDepth 100000 in
theorem rm_99 (x1 : Int32) (x2 : Int32) (x3 : Int32) (σ : lj_S) : lj_R lm_P 99 [.ref 0, .int x1, .int x2, .int x3] σ = lj_D lm_P lm_M99 0 [.ref 0, .int x1, .int x2, .int x3, .retAddr 0, .retAddr 0] [] σ := lj_R_eq (nL := 6) (M := lm_M99) _ _ _ _ rfl rfl
set_option maxRecDepth 100000 in
set_option maxHeartbeats 4000000 in
theorem km_99_0 (x1 : Int32) (x2 : Int32) (x3 : Int32) (σ : lj_S) : lj_D lm_P lm_M99 0 [.ref 0, .int x1, .int x2, .int x3, .retAddr 0, .retAddr 0] [] σ = lj_bi (lj_R lm_P 49 [.ref 0, .int 3] σ) (fun y2 σ1 => (if y2 = 0 then some (.inl (some (.int 0)), σ1) else lj_bi (lj_R lm_P 28 [.ref 0, .int 39, .int 0, .int 0, .int x1] σ1) (fun y4 σ3 => lj_bi (lj_R lm_P 28 [.ref 0, .int 0, .int 0, .int 0, .int 0] σ3) (fun y6 σ5 => lj_bv (lj_R lm_P 44 [.ref 0] σ5) (fun σ7 => lj_bi (lj_R lm_P 28 [.ref 0, .int 40, .int (-1), .int x3, .int 0] σ7) (fun y9 σ8 => (if lj_in ((σ7.1 0 56) - 1) 64 then lj_bv (lj_R lm_P 29 [.ref 0, .int 34, .int y6, .int x3, .int (σ8.1 0 50)] (lj_put σ8 33 (((σ7.1 0 56) - 1).toNatClampNeg) y9)) (fun σ10 => (if lj_in x2 1502 then lj_bv (lj_R lm_P 55 [.ref 0, .int (((σ10.2 11 x2.toNatClampNeg) : Int64).toInt32), .int x3] σ10) (fun σ11 => lj_bv (lj_R lm_P 29 [.ref 0, .int 0, .int 0, .int 0, .int 0] σ11) (fun σ12 => some (.inl (some (.int 1)), σ12)) lj_up) lj_up else none)) lj_up else none)) lj_up) lj_up) lj_up) lj_up)) lj_up := by rw [lj_D_eq]; rfl
