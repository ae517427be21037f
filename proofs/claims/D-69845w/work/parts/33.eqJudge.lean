-- TableTongue$Judge.judge()V
set_option maxRecDepth 100000 in
theorem rc_58  (σ : lj_S) : lj_R lc_P 58 [.ref 6] σ = lj_D lc_P lc_M58 0 [.ref 6] [] σ := lj_R_eq (nL := 1) (M := lc_M58) _ _ _ _ rfl rfl
set_option maxRecDepth 100000 in
set_option maxHeartbeats 4000000 in
theorem kc_58_0  (σ : lj_S) : lj_D lc_P lc_M58 0 [.ref 6] [] σ = lj_bv (lj_R lc_P 53 [.ref 5] σ) (fun σ1 => lj_bv (lj_R lc_P 59 [.ref 6, .int 0, .int 1] (lj_put (lj_put (lj_put (lj_put (lj_put (lj_put σ1 6 0 0) 6 1 0) 6 10 0) 6 13 0) 6 18 0) 6 2 (-1))) (fun σ2 => (if lj_in 0 51 then lj_bv (lj_R lc_P 60 [.ref 6] (lj_put σ2 28 ((0 : Int32).toNatClampNeg) 0)) (fun σ3 => lj_bi (lj_R lc_P 63 [.ref 6] σ3) (fun y5 σ4 => (if y5 = 0 then some (.inl none, σ4) else lj_br (lj_R lc_P 65 [.ref 6, .int 2] σ4) (fun y7 σ6 => (bif Nat.blt y7 2000 then lj_up y7 σ6 else none)) lj_up)) lj_up) lj_up else none)) lj_up) lj_up := by rw [lj_D_eq]; rfl
-- TableTongue$Judge.open(IZ)V
set_option maxRecDepth 100000 in
theorem rc_59 (x1 : Int32) (x2 : Int32) (σ : lj_S) : lj_R lc_P 59 [.ref 6, .int x1, .int x2] σ = lj_D lc_P lc_M59 0 [.ref 6, .int x1, .int x2, .retAddr 0] [] σ := lj_R_eq (nL := 4) (M := lc_M59) _ _ _ _ rfl rfl
set_option maxRecDepth 100000 in
set_option maxHeartbeats 4000000 in
theorem kc_59_0 (x1 : Int32) (x2 : Int32) (σ : lj_S) : lj_D lc_P lc_M59 0 [.ref 6, .int x1, .int x2, .retAddr 0] [] σ = (if (σ.1 5 8) = 0 then lj_D lc_P lc_M59 35 [.ref 6, .int x1, .int x2, .int (σ.1 5 8)] [.int (-1), .int (σ.1 5 8), .ref 43] (lj_put σ 5 8 ((σ.1 5 8) + 1)) else lj_D lc_P lc_M59 35 [.ref 6, .int x1, .int x2, .int (σ.1 5 8)] [.int (σ.1 6 2), .int (σ.1 5 8), .ref 43] (lj_put σ 5 8 ((σ.1 5 8) + 1))) := by rw [lj_D_eq]; rfl
set_option maxRecDepth 100000 in
set_option maxHeartbeats 4000000 in
theorem kc_59_35 (x1 : Int32) (x2 : Int32) (x3 : Int32) (x50 : Int32) (x51 : Int32) (σ : lj_S) : lj_D lc_P lc_M59 35 [.ref 6, .int x1, .int x2, .int x3] [.int x50, .int x51, .ref 43] σ = (if lj_in x51 51 then (if lj_in x3 51 then (if lj_in x3 51 then (if lj_in x3 51 then (if lj_in x3 51 then (if lj_in x3 51 then (if lj_in x3 51 then (if lj_in x3 51 then (if lj_in x3 51 then (if lj_in x3 51 then some (.inl none, (lj_put (lj_put (lj_put (lj_put (lj_put (lj_put (lj_put (lj_put (lj_put (lj_put (lj_put σ 43 x51.toNatClampNeg x50) 6 2 x3) 44 x3.toNatClampNeg 0) 49 x3.toNatClampNeg 0) 29 x3.toNatClampNeg 0) 30 x3.toNatClampNeg (vp_nar .boolean x2)) 31 x3.toNatClampNeg 0) 32 x3.toNatClampNeg 0) 33 x3.toNatClampNeg 0) 42 x3.toNatClampNeg (-1)) 36 x3.toNatClampNeg x1)) else none) else none) else none) else none) else none) else none) else none) else none) else none) else none) := by rw [lj_D_eq]; rfl
-- TableTongue$Judge.finish()V
set_option maxRecDepth 100000 in
theorem rc_60  (σ : lj_S) : lj_R lc_P 60 [.ref 6] σ = lj_D lc_P lc_M60 0 [.ref 6] [] σ := lj_R_eq (nL := 1) (M := lc_M60) _ _ _ _ rfl rfl
set_option maxRecDepth 100000 in
set_option maxHeartbeats 4000000 in
theorem kc_60_0  (σ : lj_S) : lj_D lc_P lc_M60 0 [.ref 6] [] σ = lj_bi (lj_R lc_P 54 [.ref 5, .int 0, .int 0, .int 0] σ) (fun y2 σ1 => lj_bv (lj_R lc_P 61 [.ref 6] σ1) (fun σ3 => lj_bi (lj_R lc_P 54 [.ref 5, .int 15, .int 0, .int 0] σ3) (fun y5 σ4 => lj_bi (lj_R lc_P 54 [.ref 5, .int 40, .int 0, .int 0] σ4) (fun y7 σ6 => lj_D lc_P lc_M60 48 [.ref 6] [] σ6) lj_up) lj_up) lj_up) lj_up := by rw [lj_D_eq]; rfl
set_option maxRecDepth 100000 in
set_option maxHeartbeats 4000000 in
theorem kc_60_48  (σ : lj_S) : lj_D lc_P lc_M60 48 [.ref 6] [] σ = (if lj_in (σ.1 6 2) 51 then (if ((σ.1 44 ((σ.1 6 2).toNatClampNeg))) ≤ 0 then some (.inl none, σ) else (if lj_in (σ.1 6 2) 51 then (if lj_in (σ.1 6 2) 51 then (if lj_in (σ.1 6 2) 51 then (if lj_in (((σ.1 6 2) * 50) + (((lj_put σ 44 ((σ.1 6 2).toNatClampNeg) (((σ.1 44 ((σ.1 6 2).toNatClampNeg))) - 1)).1 44 ((σ.1 6 2).toNatClampNeg)))) 2550 then (if lj_in ((σ.1 47 ((((σ.1 6 2) * 50) + (((lj_put σ 44 ((σ.1 6 2).toNatClampNeg) (((σ.1 44 ((σ.1 6 2).toNatClampNeg))) - 1)).1 44 ((σ.1 6 2).toNatClampNeg)))).toNatClampNeg))) 4000 then lj_D lc_P lc_M60 48 [.ref 6] [] (lj_put (lj_put σ 44 ((σ.1 6 2).toNatClampNeg) (((σ.1 44 ((σ.1 6 2).toNatClampNeg))) - 1)) 40 (((σ.1 47 ((((σ.1 6 2) * 50) + (((lj_put σ 44 ((σ.1 6 2).toNatClampNeg) (((σ.1 44 ((σ.1 6 2).toNatClampNeg))) - 1)).1 44 ((σ.1 6 2).toNatClampNeg)))).toNatClampNeg))).toNatClampNeg) (σ.1 5 0)) else none) else none) else none) else none) else none)) else none) := by rw [lj_D_eq]; rfl
-- TableTongue$Judge.block()V
set_option maxRecDepth 100000 in
theorem rc_61  (σ : lj_S) : lj_R lc_P 61 [.ref 6] σ = lj_D lc_P lc_M61 0 [.ref 6, .retAddr 0, .retAddr 0] [] σ := lj_R_eq (nL := 3) (M := lc_M61) _ _ _ _ rfl rfl
set_option maxRecDepth 100000 in
set_option maxHeartbeats 4000000 in
theorem kc_61_0  (σ : lj_S) : lj_D lc_P lc_M61 0 [.ref 6, .retAddr 0, .retAddr 0] [] σ = lj_bi (lj_R lc_P 62 [.ref 6] σ) (fun y2 σ1 => (if y2 = 0 then lj_bv (lj_R lc_P 64 [.ref 6] σ1) (fun σ18 => lj_D lc_P lc_M61 0 [.ref 6, .retAddr 0, .retAddr 0] [] σ18) lj_up else lj_bi (lj_R lc_P 63 [.ref 6] σ1) (fun y4 σ3 => (if y4 = 26 then lj_bi (lj_R lc_P 54 [.ref 5, .int 0, .int 0, .int 0] σ3) (fun y6 σ5 => lj_bi (lj_R lc_P 77 [.ref 6] σ5) (fun y8 σ7 => lj_bv (lj_R lc_P 67 [.ref 6] σ7) (fun σ9 => lj_bi (lj_R lc_P 54 [.ref 5, .int 15, .int 0, .int 0] σ9) (fun y11 σ10 => lj_bi (lj_R lc_P 63 [.ref 6] σ10) (fun y13 σ12 => (if y13 = 66 then lj_D lc_P lc_M61 91 [.ref 6, .int y8, .retAddr 0] [] σ12 else lj_bi (lj_R lc_P 62 [.ref 6] σ12) (fun y15 σ14 => (if y15 = 0 then lj_D lc_P lc_M61 86 [.ref 6, .int y8, .retAddr 0] [] σ14 else lj_bi (lj_R lc_P 63 [.ref 6] σ14) (fun y17 σ16 => (if y17 = 26 then lj_D lc_P lc_M61 86 [.ref 6, .int y8, .retAddr 0] [] σ16 else lj_D lc_P lc_M61 91 [.ref 6, .int y8, .retAddr 0] [] σ16)) lj_up)) lj_up)) lj_up) lj_up) lj_up) lj_up) lj_up else lj_D lc_P lc_M61 135 [.ref 6, .retAddr 0, .retAddr 0] [] σ3)) lj_up)) lj_up := by rw [lj_D_eq]; rfl
set_option maxRecDepth 100000 in
set_option maxHeartbeats 4000000 in
theorem kc_61_86 (x1 : Int32) (σ : lj_S) : lj_D lc_P lc_M61 86 [.ref 6, .int x1, .retAddr 0] [] σ = lj_bv (lj_R lc_P 95 [.ref 6, .int x1] σ) (fun σ1 => lj_D lc_P lc_M61 91 [.ref 6, .int x1, .retAddr 0] [] σ1) lj_up := by rw [lj_D_eq]; rfl
set_option maxRecDepth 100000 in
set_option maxHeartbeats 4000000 in
theorem kc_61_91 (x1 : Int32) (σ : lj_S) : lj_D lc_P lc_M61 91 [.ref 6, .int x1, .retAddr 0] [] σ = lj_bi (lj_R lc_P 54 [.ref 5, .int 40, .int 0, .int x1] σ) (fun y2 σ1 => lj_bi (lj_R lc_P 84 [.ref 6, .int 66] σ1) (fun y4 σ3 => lj_bi (lj_R lc_P 62 [.ref 6] σ3) (fun y6 σ5 => (if y6 = 0 then lj_D lc_P lc_M61 129 [.ref 6, .int x1, .int y4] [] σ5 else lj_bi (lj_R lc_P 63 [.ref 6] σ5) (fun y8 σ7 => (if y8 = 26 then lj_D lc_P lc_M61 129 [.ref 6, .int x1, .int y4] [] σ7 else lj_D lc_P lc_M61 135 [.ref 6, .int x1, .int y4] [] σ7)) lj_up)) lj_up) lj_up) lj_up := by rw [lj_D_eq]; rfl
set_option maxRecDepth 100000 in
set_option maxHeartbeats 4000000 in
theorem kc_61_129 (x1 : Int32) (x2 : Int32) (σ : lj_S) : lj_D lc_P lc_M61 129 [.ref 6, .int x1, .int x2] [] σ = lj_br (lj_R lc_P 65 [.ref 6, .int 2] σ) (fun y2 σ1 => (bif Nat.blt y2 2000 then lj_up y2 σ1 else none)) lj_up := by rw [lj_D_eq]; rfl
set_option maxRecDepth 100000 in
set_option maxHeartbeats 4000000 in
theorem kc_61_135 (x1 : Value) (x2 : Value) (σ : lj_S) : lj_D lc_P lc_M61 135 [.ref 6, x1, x2] [] σ = some (.inl none, σ) := by rw [lj_D_eq]; rfl
-- TableTongue$Judge.endsBlock()Z
set_option maxRecDepth 100000 in
theorem rc_62  (σ : lj_S) : lj_R lc_P 62 [.ref 6] σ = lj_D lc_P lc_M62 0 [.ref 6, .retAddr 0] [] σ := lj_R_eq (nL := 2) (M := lc_M62) _ _ _ _ rfl rfl
set_option maxRecDepth 100000 in
set_option maxHeartbeats 4000000 in
theorem kc_62_0  (σ : lj_S) : lj_D lc_P lc_M62 0 [.ref 6, .retAddr 0] [] σ = lj_bi (lj_R lc_P 63 [.ref 6] σ) (fun y2 σ1 => (if y2 = 0 then lj_D lc_P lc_M62 39 [.ref 6, .int y2] [] σ1 else (if y2 = 13 then lj_D lc_P lc_M62 39 [.ref 6, .int y2] [] σ1 else (if y2 = 14 then lj_D lc_P lc_M62 39 [.ref 6, .int y2] [] σ1 else (if y2 = 15 then lj_D lc_P lc_M62 39 [.ref 6, .int y2] [] σ1 else (if y2 = 29 then lj_D lc_P lc_M62 39 [.ref 6, .int y2] [] σ1 else (if y2 = 26 then lj_D lc_P lc_M62 39 [.ref 6, .int y2] [] σ1 else lj_D lc_P lc_M62 44 [.ref 6, .int y2] [.int 0] σ1))))))) lj_up := by rw [lj_D_eq]; rfl
set_option maxRecDepth 100000 in
set_option maxHeartbeats 4000000 in
theorem kc_62_39 (x1 : Int32) (σ : lj_S) : lj_D lc_P lc_M62 39 [.ref 6, .int x1] [] σ = lj_D lc_P lc_M62 44 [.ref 6, .int x1] [.int 1] σ := by rw [lj_D_eq]; rfl
set_option maxRecDepth 100000 in
set_option maxHeartbeats 4000000 in
theorem kc_62_44 (x1 : Int32) (x50 : Int32) (σ : lj_S) : lj_D lc_P lc_M62 44 [.ref 6, .int x1] [.int x50] σ = some (.inl (some (.int (vp_nar .boolean x50))), σ) := by rw [lj_D_eq]; rfl
-- TableTongue$Judge.kind()I
set_option maxRecDepth 100000 in
theorem rc_63  (σ : lj_S) : lj_R lc_P 63 [.ref 6] σ = lj_D lc_P lc_M63 0 [.ref 6] [] σ := lj_R_eq (nL := 1) (M := lc_M63) _ _ _ _ rfl rfl
set_option maxRecDepth 100000 in
set_option maxHeartbeats 4000000 in
theorem kc_63_0  (σ : lj_S) : lj_D lc_P lc_M63 0 [.ref 6] [] σ = (if lj_in (σ.1 6 0) 1502 then some (.inl (some (.int ((σ.1 18 ((σ.1 6 0).toNatClampNeg))))), σ) else none) := by rw [lj_D_eq]; rfl
-- TableTongue$Judge.statement()V
set_option maxRecDepth 100000 in
theorem rc_64  (σ : lj_S) : lj_R lc_P 64 [.ref 6] σ = lj_D lc_P lc_M64 0 [.ref 6, .retAddr 0, .retAddr 0] [] σ := lj_R_eq (nL := 3) (M := lc_M64) _ _ _ _ rfl rfl
set_option maxRecDepth 100000 in
set_option maxHeartbeats 4000000 in
theorem kc_64_0  (σ : lj_S) : lj_D lc_P lc_M64 0 [.ref 6, .retAddr 0, .retAddr 0] [] σ = lj_bi (lj_R lc_P 63 [.ref 6] σ) (fun y2 σ1 => (if y2 = 66 then lj_D lc_P lc_M64 70 [.ref 6, .int y2, .retAddr 0] [] σ1 else (if y2 = 1 then lj_D lc_P lc_M64 70 [.ref 6, .int y2, .retAddr 0] [] σ1 else (if y2 = 60 then lj_D lc_P lc_M64 70 [.ref 6, .int y2, .retAddr 0] [] σ1 else (if y2 = 12 then lj_D lc_P lc_M64 70 [.ref 6, .int y2, .retAddr 0] [] σ1 else (if y2 = 30 then lj_D lc_P lc_M64 70 [.ref 6, .int y2, .retAddr 0] [] σ1 else (if y2 = 25 then lj_D lc_P lc_M64 70 [.ref 6, .int y2, .retAddr 0] [] σ1 else (if y2 = 19 then lj_D lc_P lc_M64 70 [.ref 6, .int y2, .retAddr 0] [] σ1 else (if y2 = 17 then lj_D lc_P lc_M64 70 [.ref 6, .int y2, .retAddr 0] [] σ1 else (if y2 = 18 then lj_D lc_P lc_M64 70 [.ref 6, .int y2, .retAddr 0] [] σ1 else (if y2 = 21 then lj_D lc_P lc_M64 70 [.ref 6, .int y2, .retAddr 0] [] σ1 else (if y2 = 11 then lj_D lc_P lc_M64 70 [.ref 6, .int y2, .retAddr 0] [] σ1 else lj_D lc_P lc_M64 75 [.ref 6, .int y2, .retAddr 0] [.int 0] σ1)))))))))))) lj_up := by rw [lj_D_eq]; rfl
set_option maxRecDepth 100000 in
set_option maxHeartbeats 4000000 in
theorem kc_64_70 (x1 : Int32) (σ : lj_S) : lj_D lc_P lc_M64 70 [.ref 6, .int x1, .retAddr 0] [] σ = lj_D lc_P lc_M64 75 [.ref 6, .int x1, .retAddr 0] [.int 1] σ := by rw [lj_D_eq]; rfl
set_option maxRecDepth 100000 in
set_option maxHeartbeats 4000000 in
theorem kc_64_75 (x1 : Int32) (x50 : Int32) (σ : lj_S) : lj_D lc_P lc_M64 75 [.ref 6, .int x1, .retAddr 0] [.int x50] σ = (if x50 = 0 then lj_br (lj_R lc_P 65 [.ref 6, .int 2] σ) (fun y5 σ4 => (bif Nat.blt y5 2000 then lj_up y5 σ4 else none)) lj_up else lj_bv (lj_R lc_P 66 [.ref 6] σ) (fun σ1 => (if x1 = 66 then lj_D lc_P lc_M64 110 [.ref 6, .int x1, .int x50] [] σ1 else lj_bi (lj_R lc_P 54 [.ref 5, .int 0, .int 0, .int 0] σ1) (fun y3 σ2 => lj_D lc_P lc_M64 110 [.ref 6, .int x1, .int x50] [] σ2) lj_up)) lj_up) := by rw [lj_D_eq]; rfl
set_option maxRecDepth 100000 in
set_option maxHeartbeats 4000000 in
theorem kc_64_110 (x1 : Int32) (x2 : Int32) (σ : lj_S) : lj_D lc_P lc_M64 110 [.ref 6, .int x1, .int x2] [] σ = (if x1 = 11 then lj_bv (lj_R lc_P 109 [.ref 6] σ) (fun σ1 => lj_D lc_P lc_M64 269 [.ref 6, .int x1, .int x2] [] σ1) lj_up else (if x1 = 12 then lj_bv (lj_R lc_P 67 [.ref 6] σ) (fun σ2 => lj_bv (lj_R lc_P 68 [.ref 6] σ2) (fun σ3 => lj_bv (lj_R lc_P 71 [.ref 6, .int 15] σ3) (fun σ4 => lj_D lc_P lc_M64 269 [.ref 6, .int x1, .int x2] [] σ4) lj_up) lj_up) lj_up else (if x1 = 17 then lj_bv (lj_R lc_P 102 [.ref 6] σ) (fun σ5 => lj_D lc_P lc_M64 269 [.ref 6, .int x1, .int x2] [] σ5) lj_up else (if x1 = 18 then lj_bv (lj_R lc_P 106 [.ref 6] σ) (fun σ6 => lj_D lc_P lc_M64 269 [.ref 6, .int x1, .int x2] [] σ6) lj_up else (if x1 = 19 then lj_bv (lj_R lc_P 101 [.ref 6] σ) (fun σ7 => lj_D lc_P lc_M64 269 [.ref 6, .int x1, .int x2] [] σ7) lj_up else (if x1 = 21 then lj_bv (lj_R lc_P 108 [.ref 6] σ) (fun σ8 => lj_D lc_P lc_M64 269 [.ref 6, .int x1, .int x2] [] σ8) lj_up else (if x1 = 25 then lj_bv (lj_R lc_P 100 [.ref 6] σ) (fun σ9 => lj_D lc_P lc_M64 269 [.ref 6, .int x1, .int x2] [] σ9) lj_up else (if x1 = 30 then lj_bv (lj_R lc_P 72 [.ref 6] σ) (fun σ10 => lj_D lc_P lc_M64 269 [.ref 6, .int x1, .int x2] [] σ10) lj_up else (if x1 = 66 then lj_bv (lj_R lc_P 67 [.ref 6] σ) (fun σ11 => lj_D lc_P lc_M64 269 [.ref 6, .int x1, .int x2] [] σ11) lj_up else lj_bv (lj_R lc_P 110 [.ref 6] σ) (fun σ12 => lj_D lc_P lc_M64 269 [.ref 6, .int x1, .int x2] [] σ12) lj_up))))))))) := by rw [lj_D_eq]; rfl
set_option maxRecDepth 100000 in
set_option maxHeartbeats 4000000 in
theorem kc_64_269 (x1 : Int32) (x2 : Int32) (σ : lj_S) : lj_D lc_P lc_M64 269 [.ref 6, .int x1, .int x2] [] σ = some (.inl none, (lj_put σ 6 1 ((σ.1 6 1) - 1))) := by rw [lj_D_eq]; rfl
-- TableTongue$Judge.wrong(I)LTableTongue$Fault;
set_option maxRecDepth 100000 in
theorem rc_65 (x1 : Int32) (σ : lj_S) : lj_R lc_P 65 [.ref 6, .int x1] σ = lj_D lc_P lc_M65 0 [.ref 6, .int x1] [] σ := lj_R_eq (nL := 2) (M := lc_M65) _ _ _ _ rfl rfl
set_option maxRecDepth 100000 in
set_option maxHeartbeats 4000000 in
theorem kc_65_0 (x1 : Int32) (σ : lj_S) : lj_D lc_P lc_M65 0 [.ref 6, .int x1] [] σ = lj_bi (lj_R lc_P 63 [.ref 6] σ) (fun y2 σ1 => (if y2 = 4 then lj_D lc_P lc_M65 20 [.ref 6, .int x1] [.int 1, .ref 1] σ1 else lj_D lc_P lc_M65 20 [.ref 6, .int x1] [.int x1, .ref 1] σ1)) lj_up := by rw [lj_D_eq]; rfl
set_option maxRecDepth 100000 in
set_option maxHeartbeats 4000000 in
theorem kc_65_20 (x1 : Int32) (x50 : Int32) (σ : lj_S) : lj_D lc_P lc_M65 20 [.ref 6, .int x1] [.int x50, .ref 1] σ = (if lj_in (σ.1 6 0) 1502 then lj_br (lj_R lc_P 19 [.ref 1, .int x50, .int ((σ.1 19 ((σ.1 6 0).toNatClampNeg)))] σ) (fun y2 σ1 => some (.inl (some (.ref y2)), σ1)) lj_up else none) := by rw [lj_D_eq]; rfl
-- TableTongue$Judge.deeper()V
set_option maxRecDepth 100000 in
theorem rc_66  (σ : lj_S) : lj_R lc_P 66 [.ref 6] σ = lj_D lc_P lc_M66 0 [.ref 6] [] σ := lj_R_eq (nL := 1) (M := lc_M66) _ _ _ _ rfl rfl
set_option maxRecDepth 100000 in
set_option maxHeartbeats 4000000 in
theorem kc_66_0  (σ : lj_S) : lj_D lc_P lc_M66 0 [.ref 6] [] σ = (if (σ.1 6 1) = 20 then lj_br (lj_R lc_P 65 [.ref 6, .int 3] σ) (fun y2 σ1 => (bif Nat.blt y2 2000 then lj_up y2 σ1 else none)) lj_up else some (.inl none, (lj_put σ 6 1 ((σ.1 6 1) + 1)))) := by rw [lj_D_eq]; rfl
-- TableTongue$Judge.step()V
set_option maxRecDepth 100000 in
theorem rc_67  (σ : lj_S) : lj_R lc_P 67 [.ref 6] σ = lj_D lc_P lc_M67 0 [.ref 6] [] σ := lj_R_eq (nL := 1) (M := lc_M67) _ _ _ _ rfl rfl
set_option maxRecDepth 100000 in
set_option maxHeartbeats 4000000 in
theorem kc_67_0  (σ : lj_S) : lj_D lc_P lc_M67 0 [.ref 6] [] σ = (if (σ.1 6 0) = 1500 then lj_br (lj_R lc_P 65 [.ref 6, .int 3] σ) (fun y2 σ1 => (bif Nat.blt y2 2000 then lj_up y2 σ1 else none)) lj_up else some (.inl none, (lj_put σ 6 0 ((σ.1 6 0) + 1)))) := by rw [lj_D_eq]; rfl
-- TableTongue$Judge.scoped()V
set_option maxRecDepth 100000 in
theorem rc_68  (σ : lj_S) : lj_R lc_P 68 [.ref 6] σ = lj_D lc_P lc_M68 0 [.ref 6, .retAddr 0] [] σ := lj_R_eq (nL := 2) (M := lc_M68) _ _ _ _ rfl rfl
set_option maxRecDepth 100000 in
set_option maxHeartbeats 4000000 in
theorem kc_68_0  (σ : lj_S) : lj_D lc_P lc_M68 0 [.ref 6, .retAddr 0] [] σ = (if lj_in (σ.1 6 2) 51 then lj_bv (lj_R lc_P 61 [.ref 6] σ) (fun σ1 => lj_bv (lj_R lc_P 69 [.ref 6, .int ((σ.1 44 ((σ.1 6 2).toNatClampNeg)))] σ1) (fun σ2 => some (.inl none, σ2)) lj_up) lj_up else none) := by rw [lj_D_eq]; rfl
-- TableTongue$Judge.forget(I)V
set_option maxRecDepth 100000 in
theorem rc_69 (x1 : Int32) (σ : lj_S) : lj_R lc_P 69 [.ref 6, .int x1] σ = lj_D lc_P lc_M69 0 [.ref 6, .int x1] [] σ := lj_R_eq (nL := 2) (M := lc_M69) _ _ _ _ rfl rfl
set_option maxRecDepth 100000 in
set_option maxHeartbeats 4000000 in
theorem kc_69_0 (x1 : Int32) (σ : lj_S) : lj_D lc_P lc_M69 0 [.ref 6, .int x1] [] σ = lj_bv (lj_R lc_P 70 [.ref 6, .int x1] σ) (fun σ1 => lj_D lc_P lc_M69 5 [.ref 6, .int x1] [] σ1) lj_up := by rw [lj_D_eq]; rfl
set_option maxRecDepth 100000 in
set_option maxHeartbeats 4000000 in
theorem kc_69_5 (x1 : Int32) (σ : lj_S) : lj_D lc_P lc_M69 5 [.ref 6, .int x1] [] σ = (if lj_in (σ.1 6 2) 51 then (if ((σ.1 44 ((σ.1 6 2).toNatClampNeg))) ≤ x1 then some (.inl none, σ) else (if lj_in (σ.1 6 2) 51 then (if lj_in (σ.1 6 2) 51 then (if lj_in (σ.1 6 2) 51 then (if lj_in (((σ.1 6 2) * 50) + (((lj_put σ 44 ((σ.1 6 2).toNatClampNeg) (((σ.1 44 ((σ.1 6 2).toNatClampNeg))) - 1)).1 44 ((σ.1 6 2).toNatClampNeg)))) 2550 then (if lj_in ((σ.1 47 ((((σ.1 6 2) * 50) + (((lj_put σ 44 ((σ.1 6 2).toNatClampNeg) (((σ.1 44 ((σ.1 6 2).toNatClampNeg))) - 1)).1 44 ((σ.1 6 2).toNatClampNeg)))).toNatClampNeg))) 4000 then lj_D lc_P lc_M69 5 [.ref 6, .int x1] [] (lj_put (lj_put σ 44 ((σ.1 6 2).toNatClampNeg) (((σ.1 44 ((σ.1 6 2).toNatClampNeg))) - 1)) 40 (((σ.1 47 ((((σ.1 6 2) * 50) + (((lj_put σ 44 ((σ.1 6 2).toNatClampNeg) (((σ.1 44 ((σ.1 6 2).toNatClampNeg))) - 1)).1 44 ((σ.1 6 2).toNatClampNeg)))).toNatClampNeg))).toNatClampNeg) (σ.1 5 0)) else none) else none) else none) else none) else none)) else none) := by rw [lj_D_eq]; rfl
-- TableTongue$Judge.closeFrom(I)V
set_option maxRecDepth 100000 in
theorem rc_70 (x1 : Int32) (σ : lj_S) : lj_R lc_P 70 [.ref 6, .int x1] σ = lj_D lc_P lc_M70 0 [.ref 6, .int x1] [] σ := lj_R_eq (nL := 2) (M := lc_M70) _ _ _ _ rfl rfl
set_option maxRecDepth 100000 in
set_option maxHeartbeats 4000000 in
theorem kc_70_0 (x1 : Int32) (σ : lj_S) : lj_D lc_P lc_M70 0 [.ref 6, .int x1] [] σ = (if lj_in (σ.1 6 2) 51 then (if ((σ.1 44 ((σ.1 6 2).toNatClampNeg))) ≤ x1 then lj_D lc_P lc_M70 57 [.ref 6, .int x1] [] σ else (if lj_in (((σ.1 6 2) * 50) + x1) 2550 then (if lj_in (σ.1 6 2) 51 then lj_bi (lj_R lc_P 55 [.ref 5, .int 34, .int ((σ.1 46 ((((σ.1 6 2) * 50) + x1).toNatClampNeg))), .int ((σ.1 31 ((σ.1 6 2).toNatClampNeg))), .int 0, .int 0] σ) (fun y2 σ1 => lj_D lc_P lc_M70 57 [.ref 6, .int x1] [] σ1) lj_up else none) else none)) else none) := by rw [lj_D_eq]; rfl
set_option maxRecDepth 100000 in
set_option maxHeartbeats 4000000 in
theorem kc_70_57 (x1 : Int32) (σ : lj_S) : lj_D lc_P lc_M70 57 [.ref 6, .int x1] [] σ = some (.inl none, σ) := by rw [lj_D_eq]; rfl
-- TableTongue$Judge.pass(I)V
set_option maxRecDepth 100000 in
theorem rc_71 (x1 : Int32) (σ : lj_S) : lj_R lc_P 71 [.ref 6, .int x1] σ = lj_D lc_P lc_M71 0 [.ref 6, .int x1] [] σ := lj_R_eq (nL := 2) (M := lc_M71) _ _ _ _ rfl rfl
set_option maxRecDepth 100000 in
set_option maxHeartbeats 4000000 in
theorem kc_71_0 (x1 : Int32) (σ : lj_S) : lj_D lc_P lc_M71 0 [.ref 6, .int x1] [] σ = lj_bi (lj_R lc_P 63 [.ref 6] σ) (fun y2 σ1 => (if y2 = x1 then lj_bv (lj_R lc_P 67 [.ref 6] σ1) (fun σ3 => some (.inl none, σ3)) lj_up else lj_br (lj_R lc_P 65 [.ref 6, .int 2] σ1) (fun y5 σ4 => (bif Nat.blt y5 2000 then lj_up y5 σ4 else none)) lj_up)) lj_up := by rw [lj_D_eq]; rfl
-- TableTongue$Judge.whileLoop()V
set_option maxRecDepth 100000 in
theorem rc_72  (σ : lj_S) : lj_R lc_P 72 [.ref 6] σ = lj_D lc_P lc_M72 0 [.ref 6, .retAddr 0, .retAddr 0] [] σ := lj_R_eq (nL := 3) (M := lc_M72) _ _ _ _ rfl rfl
set_option maxRecDepth 100000 in
set_option maxHeartbeats 4000000 in
theorem kc_72_0  (σ : lj_S) : lj_D lc_P lc_M72 0 [.ref 6, .retAddr 0, .retAddr 0] [] σ = lj_bv (lj_R lc_P 67 [.ref 6] σ) (fun σ1 => lj_bi (lj_R lc_P 54 [.ref 5, .int 0, .int 0, .int 0] σ1) (fun y3 σ2 => lj_bv (lj_R lc_P 73 [.ref 6] σ2) (fun σ4 => lj_bi (lj_R lc_P 54 [.ref 5, .int 31, .int 0, .int 0] σ4) (fun y6 σ5 => lj_bv (lj_R lc_P 71 [.ref 6, .int 12] σ5) (fun σ7 => lj_bv (lj_R lc_P 98 [.ref 6] σ7) (fun σ8 => lj_bv (lj_R lc_P 68 [.ref 6] σ8) (fun σ9 => lj_bi (lj_R lc_P 54 [.ref 5, .int 30, .int y3, .int 0] σ9) (fun y11 σ10 => lj_bv (lj_R lc_P 57 [.ref 5, .int y6] σ10) (fun σ12 => lj_bv (lj_R lc_P 99 [.ref 6] σ12) (fun σ13 => lj_bv (lj_R lc_P 71 [.ref 6, .int 15] σ13) (fun σ14 => some (.inl none, σ14)) lj_up) lj_up) lj_up) lj_up) lj_up) lj_up) lj_up) lj_up) lj_up) lj_up) lj_up := by rw [lj_D_eq]; rfl
-- TableTongue$Judge.value()V
set_option maxRecDepth 100000 in
theorem rc_73  (σ : lj_S) : lj_R lc_P 73 [.ref 6] σ = lj_D lc_P lc_M73 0 [.ref 6] [] σ := lj_R_eq (nL := 1) (M := lc_M73) _ _ _ _ rfl rfl
set_option maxRecDepth 100000 in
set_option maxHeartbeats 4000000 in
theorem kc_73_0  (σ : lj_S) : lj_D lc_P lc_M73 0 [.ref 6] [] σ = lj_bi (lj_R lc_P 74 [.ref 6] σ) (fun y2 σ1 => lj_bv (lj_R lc_P 78 [.ref 6, .int y2] σ1) (fun σ3 => some (.inl none, σ3)) lj_up) lj_up := by rw [lj_D_eq]; rfl
-- TableTongue$Judge.expression()I
set_option maxRecDepth 100000 in
theorem rc_74  (σ : lj_S) : lj_R lc_P 74 [.ref 6] σ = lj_D lc_P lc_M74 0 [.ref 6] [] σ := lj_R_eq (nL := 1) (M := lc_M74) _ _ _ _ rfl rfl
set_option maxRecDepth 100000 in
set_option maxHeartbeats 4000000 in
theorem kc_74_0  (σ : lj_S) : lj_D lc_P lc_M74 0 [.ref 6] [] σ = lj_bi (lj_R lc_P 75 [.ref 6, .int 0] σ) (fun y2 σ1 => some (.inl (some (.int y2)), σ1)) lj_up := by rw [lj_D_eq]; rfl
-- TableTongue$Judge.operators(I)I
set_option maxRecDepth 100000 in
theorem rc_75 (x1 : Int32) (σ : lj_S) : lj_R lc_P 75 [.ref 6, .int x1] σ = lj_D lc_P lc_M75 0 [.ref 6, .int x1, .retAddr 0, .retAddr 0, .retAddr 0] [] σ := lj_R_eq (nL := 5) (M := lc_M75) _ _ _ _ rfl rfl
set_option maxRecDepth 100000 in
set_option maxHeartbeats 4000000 in
theorem kc_75_0 (x1 : Int32) (σ : lj_S) : lj_D lc_P lc_M75 0 [.ref 6, .int x1, .retAddr 0, .retAddr 0, .retAddr 0] [] σ = lj_bi (lj_R lc_P 76 [.ref 6] σ) (fun y2 σ1 => (if y2 = 0 then lj_br (lj_R lc_P 65 [.ref 6, .int 2] σ1) (fun y9 σ8 => (bif Nat.blt y9 2000 then lj_up y9 σ8 else none)) lj_up else lj_bv (lj_R lc_P 66 [.ref 6] σ1) (fun σ3 => lj_bi (lj_R lc_P 63 [.ref 6] σ3) (fun y5 σ4 => (if y5 = 23 then lj_D lc_P lc_M75 46 [.ref 6, .int x1, .retAddr 0, .int y5, .retAddr 0] [] σ4 else (if y5 = 59 then lj_D lc_P lc_M75 46 [.ref 6, .int x1, .retAddr 0, .int y5, .retAddr 0] [] σ4 else (if y5 = 41 then lj_D lc_P lc_M75 46 [.ref 6, .int x1, .retAddr 0, .int y5, .retAddr 0] [] σ4 else (if y5 = 47 then lj_D lc_P lc_M75 46 [.ref 6, .int x1, .retAddr 0, .int y5, .retAddr 0] [] σ4 else lj_bi (lj_R lc_P 79 [.ref 6] σ4) (fun y7 σ6 => lj_D lc_P lc_M75 92 [.ref 6, .int x1, .int y7, .int y5, .retAddr 0] [] σ6) lj_up))))) lj_up) lj_up)) lj_up := by rw [lj_D_eq]; rfl
set_option maxRecDepth 100000 in
set_option maxHeartbeats 4000000 in
theorem kc_75_46 (x1 : Int32) (x3 : Int32) (σ : lj_S) : lj_D lc_P lc_M75 46 [.ref 6, .int x1, .retAddr 0, .int x3, .retAddr 0] [] σ = lj_bi (lj_R lc_P 77 [.ref 6] σ) (fun y2 σ1 => lj_bv (lj_R lc_P 67 [.ref 6] σ1) (fun σ3 => lj_bi (lj_R lc_P 75 [.ref 6, .int 10] σ3) (fun y5 σ4 => lj_bv (lj_R lc_P 78 [.ref 6, .int y5] σ4) (fun σ6 => lj_bi (lj_R lc_P 54 [.ref 5, .int 29, .int x3, .int y2] σ6) (fun y8 σ7 => lj_D lc_P lc_M75 92 [.ref 6, .int x1, .int 0, .int x3, .int y2] [] σ7) lj_up) lj_up) lj_up) lj_up) lj_up := by rw [lj_D_eq]; rfl
set_option maxRecDepth 100000 in
set_option maxHeartbeats 4000000 in
theorem kc_75_92 (x1 : Int32) (x2 : Int32) (x3 : Int32) (x4 : Value) (σ : lj_S) : lj_D lc_P lc_M75 92 [.ref 6, .int x1, .int x2, .int x3, x4] [] σ = lj_bi (lj_R lc_P 63 [.ref 6] σ) (fun y2 σ1 => lj_bi (lj_R lc_P 96 [.ref 6, .int y2] σ1) (fun y4 σ3 => (if y4 ≤ x1 then some (.inl (some (.int x2)), (lj_put σ3 6 1 ((σ3.1 6 1) - 1))) else lj_bv (lj_R lc_P 78 [.ref 6, .int x2] σ3) (fun σ5 => lj_bv (lj_R lc_P 97 [.ref 6] σ5) (fun σ6 => lj_D lc_P lc_M75 92 [.ref 6, .int x1, .int 0, .int x3, x4] [] σ6) lj_up) lj_up)) lj_up) lj_up := by rw [lj_D_eq]; rfl
-- TableTongue$Judge.beginsE()Z
set_option maxRecDepth 100000 in
theorem rc_76  (σ : lj_S) : lj_R lc_P 76 [.ref 6] σ = lj_D lc_P lc_M76 0 [.ref 6, .retAddr 0] [] σ := lj_R_eq (nL := 2) (M := lc_M76) _ _ _ _ rfl rfl
set_option maxRecDepth 100000 in
set_option maxHeartbeats 4000000 in
theorem kc_76_0  (σ : lj_S) : lj_D lc_P lc_M76 0 [.ref 6, .retAddr 0] [] σ = lj_bi (lj_R lc_P 63 [.ref 6] σ) (fun y2 σ1 => (if y2 = 22 then lj_D lc_P lc_M76 86 [.ref 6, .int y2] [] σ1 else (if y2 = 16 then lj_D lc_P lc_M76 86 [.ref 6, .int y2] [] σ1 else (if y2 = 28 then lj_D lc_P lc_M76 86 [.ref 6, .int y2] [] σ1 else (if y2 = 2 then lj_D lc_P lc_M76 86 [.ref 6, .int y2] [] σ1 else (if y2 = 3 then lj_D lc_P lc_M76 86 [.ref 6, .int y2] [] σ1 else (if y2 = 51 then lj_D lc_P lc_M76 86 [.ref 6, .int y2] [] σ1 else (if y2 = 18 then lj_D lc_P lc_M76 86 [.ref 6, .int y2] [] σ1 else (if y2 = 62 then lj_D lc_P lc_M76 86 [.ref 6, .int y2] [] σ1 else (if y2 = 1 then lj_D lc_P lc_M76 86 [.ref 6, .int y2] [] σ1 else (if y2 = 60 then lj_D lc_P lc_M76 86 [.ref 6, .int y2] [] σ1 else (if y2 = 23 then lj_D lc_P lc_M76 86 [.ref 6, .int y2] [] σ1 else (if y2 = 59 then lj_D lc_P lc_M76 86 [.ref 6, .int y2] [] σ1 else (if y2 = 41 then lj_D lc_P lc_M76 86 [.ref 6, .int y2] [] σ1 else (if y2 = 47 then lj_D lc_P lc_M76 86 [.ref 6, .int y2] [] σ1 else lj_D lc_P lc_M76 91 [.ref 6, .int y2] [.int 0] σ1))))))))))))))) lj_up := by rw [lj_D_eq]; rfl
set_option maxRecDepth 100000 in
set_option maxHeartbeats 4000000 in
theorem kc_76_86 (x1 : Int32) (σ : lj_S) : lj_D lc_P lc_M76 86 [.ref 6, .int x1] [] σ = lj_D lc_P lc_M76 91 [.ref 6, .int x1] [.int 1] σ := by rw [lj_D_eq]; rfl
set_option maxRecDepth 100000 in
set_option maxHeartbeats 4000000 in
theorem kc_76_91 (x1 : Int32) (x50 : Int32) (σ : lj_S) : lj_D lc_P lc_M76 91 [.ref 6, .int x1] [.int x50] σ = some (.inl (some (.int (vp_nar .boolean x50))), σ) := by rw [lj_D_eq]; rfl
-- TableTongue$Judge.line()I
set_option maxRecDepth 100000 in
theorem rc_77  (σ : lj_S) : lj_R lc_P 77 [.ref 6] σ = lj_D lc_P lc_M77 0 [.ref 6] [] σ := lj_R_eq (nL := 1) (M := lc_M77) _ _ _ _ rfl rfl
set_option maxRecDepth 100000 in
set_option maxHeartbeats 4000000 in
theorem kc_77_0  (σ : lj_S) : lj_D lc_P lc_M77 0 [.ref 6] [] σ = (if lj_in (σ.1 6 0) 1502 then some (.inl (some (.int ((σ.1 20 ((σ.1 6 0).toNatClampNeg))))), σ) else none) := by rw [lj_D_eq]; rfl
-- TableTongue$Judge.get(I)V
set_option maxRecDepth 100000 in
theorem rc_78 (x1 : Int32) (σ : lj_S) : lj_R lc_P 78 [.ref 6, .int x1] σ = lj_D lc_P lc_M78 0 [.ref 6, .int x1] [] σ := lj_R_eq (nL := 2) (M := lc_M78) _ _ _ _ rfl rfl
set_option maxRecDepth 100000 in
set_option maxHeartbeats 4000000 in
theorem kc_78_0 (x1 : Int32) (σ : lj_S) : lj_D lc_P lc_M78 0 [.ref 6, .int x1] [] σ = (if x1 = 1 then lj_D lc_P lc_M78 127 [.ref 6, .int x1] [] σ else (if x1 = 2 then lj_D lc_P lc_M78 127 [.ref 6, .int x1] [] σ else (if x1 = 3 then lj_bi (lj_R lc_P 54 [.ref 5, .int 6, .int (σ.1 6 16), .int 0] σ) (fun y2 σ1 => lj_D lc_P lc_M78 145 [.ref 6, .int x1] [] σ1) lj_up else (if x1 = 4 then lj_bi (lj_R lc_P 54 [.ref 5, .int 7, .int (σ.1 6 16), .int 0] σ) (fun y4 σ3 => lj_D lc_P lc_M78 145 [.ref 6, .int x1] [] σ3) lj_up else (if x1 = 5 then lj_bi (lj_R lc_P 54 [.ref 5, .int 8, .int (σ.1 6 16), .int (σ.1 6 17)] σ) (fun y6 σ5 => lj_D lc_P lc_M78 145 [.ref 6, .int x1] [] σ5) lj_up else (if x1 = 6 then lj_bi (lj_R lc_P 54 [.ref 5, .int 12, .int 0, .int (σ.1 6 17)] σ) (fun y8 σ7 => lj_D lc_P lc_M78 145 [.ref 6, .int x1] [] σ7) lj_up else lj_D lc_P lc_M78 145 [.ref 6, .int x1] [] σ)))))) := by rw [lj_D_eq]; rfl
set_option maxRecDepth 100000 in
set_option maxHeartbeats 4000000 in
theorem kc_78_127 (x1 : Int32) (σ : lj_S) : lj_D lc_P lc_M78 127 [.ref 6, .int x1] [] σ = lj_bi (lj_R lc_P 54 [.ref 5, .int 17, .int 0, .int 0] σ) (fun y2 σ1 => lj_D lc_P lc_M78 145 [.ref 6, .int x1] [] σ1) lj_up := by rw [lj_D_eq]; rfl
set_option maxRecDepth 100000 in
set_option maxHeartbeats 4000000 in
theorem kc_78_145 (x1 : Int32) (σ : lj_S) : lj_D lc_P lc_M78 145 [.ref 6, .int x1] [] σ = some (.inl none, σ) := by rw [lj_D_eq]; rfl
-- TableTongue$Judge.operand()I
set_option maxRecDepth 100000 in
theorem rc_79  (σ : lj_S) : lj_R lc_P 79 [.ref 6] σ = lj_D lc_P lc_M79 0 [.ref 6, .retAddr 0, .retAddr 0] [] σ := lj_R_eq (nL := 3) (M := lc_M79) _ _ _ _ rfl rfl
set_option maxRecDepth 100000 in
set_option maxHeartbeats 4000000 in
theorem kc_79_0  (σ : lj_S) : lj_D lc_P lc_M79 0 [.ref 6, .retAddr 0, .retAddr 0] [] σ = lj_bi (lj_R lc_P 63 [.ref 6] σ) (fun y2 σ1 => (if y2 = 2 then (if lj_in (σ1.1 6 0) 1502 then (if lj_in (σ1.1 5 6) 1502 then lj_bi (lj_R lc_P 54 [.ref 5, .int 4, .int (σ1.1 5 6), .int 0] (lj_put (lj_putL σ1 27 ((σ1.1 5 6).toNatClampNeg) ((σ1.2 21 ((σ1.1 6 0).toNatClampNeg)))) 5 6 ((σ1.1 5 6) + 1))) (fun y4 σ3 => lj_bv (lj_R lc_P 67 [.ref 6] σ3) (fun σ5 => some (.inl (some (.int 0)), σ5)) lj_up) lj_up else none) else none) else (if y2 = 3 then lj_bi (lj_R lc_P 80 [.ref 6] σ1) (fun y7 σ6 => lj_bi (lj_R lc_P 54 [.ref 5, .int 5, .int y7, .int 0] σ6) (fun y9 σ8 => lj_bv (lj_R lc_P 67 [.ref 6] σ8) (fun σ10 => some (.inl (some (.int 0)), σ10)) lj_up) lj_up) lj_up else (if y2 = 16 then lj_bi (lj_R lc_P 54 [.ref 5, .int 3, .int 0, .int 0] σ1) (fun y12 σ11 => lj_bv (lj_R lc_P 67 [.ref 6] σ11) (fun σ13 => some (.inl (some (.int 0)), σ13)) lj_up) lj_up else (if y2 = 18 then lj_bv (lj_R lc_P 67 [.ref 6] σ1) (fun σ14 => lj_bv (lj_R lc_P 81 [.ref 6, .int 0] σ14) (fun σ15 => some (.inl (some (.int 0)), σ15)) lj_up) lj_up else (if y2 = 22 then lj_bi (lj_R lc_P 54 [.ref 5, .int 1, .int 0, .int 0] σ1) (fun y17 σ16 => lj_bv (lj_R lc_P 67 [.ref 6] σ16) (fun σ18 => some (.inl (some (.int 0)), σ18)) lj_up) lj_up else (if y2 = 28 then lj_bi (lj_R lc_P 54 [.ref 5, .int 2, .int 0, .int 0] σ1) (fun y20 σ19 => lj_bv (lj_R lc_P 67 [.ref 6] σ19) (fun σ21 => some (.inl (some (.int 0)), σ21)) lj_up) lj_up else (if y2 = 51 then (if lj_in (σ1.1 6 2) 51 then (if ((σ1.1 30 ((σ1.1 6 2).toNatClampNeg))) = 0 then (if (σ1.1 6 0) = 1500 then lj_D lc_P lc_M79 269 [.ref 6, .int y2, .retAddr 0] [.int 3, .ref 6] σ1 else lj_D lc_P lc_M79 269 [.ref 6, .int y2, .retAddr 0] [.int 4, .ref 6] σ1) else lj_bi (lj_R lc_P 54 [.ref 5, .int 21, .int 0, .int 0] σ1) (fun y23 σ22 => lj_bv (lj_R lc_P 67 [.ref 6] σ22) (fun σ24 => some (.inl (some (.int 2)), σ24)) lj_up) lj_up) else none) else (if y2 = 62 then lj_bv (lj_R lc_P 85 [.ref 6] σ1) (fun σ25 => some (.inl (some (.int 0)), σ25)) lj_up else lj_bi (lj_R lc_P 87 [.ref 6] σ1) (fun y27 σ26 => (if y27 < 3 then some (.inl (some (.int y27)), σ26) else lj_bv (lj_R lc_P 78 [.ref 6, .int y27] σ26) (fun σ28 => some (.inl (some (.int 0)), σ28)) lj_up)) lj_up))))))))) lj_up := by rw [lj_D_eq]; rfl
set_option maxRecDepth 100000 in
set_option maxHeartbeats 4000000 in
theorem kc_79_269 (x1 : Int32) (x50 : Int32) (σ : lj_S) : lj_D lc_P lc_M79 269 [.ref 6, .int x1, .retAddr 0] [.int x50, .ref 6] σ = lj_br (lj_R lc_P 65 [.ref 6, .int x50] σ) (fun y2 σ1 => (bif Nat.blt y2 2000 then lj_up y2 σ1 else none)) lj_up := by rw [lj_D_eq]; rfl
-- TableTongue$Judge.name()I
set_option maxRecDepth 100000 in
theorem rc_80  (σ : lj_S) : lj_R lc_P 80 [.ref 6] σ = lj_D lc_P lc_M80 0 [.ref 6] [] σ := lj_R_eq (nL := 1) (M := lc_M80) _ _ _ _ rfl rfl
set_option maxRecDepth 100000 in
set_option maxHeartbeats 4000000 in
theorem kc_80_0  (σ : lj_S) : lj_D lc_P lc_M80 0 [.ref 6] [] σ = (if lj_in (σ.1 6 0) 1502 then some (.inl (some (.int ((((σ.2 21 ((σ.1 6 0).toNatClampNeg))) : Int64).toInt32))), σ) else none) := by rw [lj_D_eq]; rfl
-- TableTongue$Judge.body(Z)V
set_option maxRecDepth 100000 in
theorem rc_81 (x1 : Int32) (σ : lj_S) : lj_R lc_P 81 [.ref 6, .int x1] σ = lj_D lc_P lc_M81 0 [.ref 6, .int x1, .retAddr 0, .retAddr 0, .retAddr 0, .retAddr 0, .retAddr 0, .retAddr 0] [] σ := lj_R_eq (nL := 8) (M := lc_M81) _ _ _ _ rfl rfl
set_option maxRecDepth 100000 in
set_option maxHeartbeats 4000000 in
theorem kc_81_0 (x1 : Int32) (σ : lj_S) : lj_D lc_P lc_M81 0 [.ref 6, .int x1, .retAddr 0, .retAddr 0, .retAddr 0, .retAddr 0, .retAddr 0, .retAddr 0] [] σ = lj_bi (lj_R lc_P 63 [.ref 6] σ) (fun y2 σ1 => (if y2 = 60 then (if (σ1.1 5 8) = 50 then lj_br (lj_R lc_P 65 [.ref 6, .int 3] σ1) (fun y13 σ12 => (bif Nat.blt y13 2000 then lj_up y13 σ12 else none)) lj_up else lj_bi (lj_R lc_P 54 [.ref 5, .int 30, .int 0, .int 0] σ1) (fun y4 σ3 => lj_bi (lj_R lc_P 77 [.ref 6] σ3) (fun y6 σ5 => lj_bv (lj_R lc_P 59 [.ref 6, .int y6, .int 0] σ5) (fun σ7 => lj_bv (lj_R lc_P 67 [.ref 6] σ7) (fun σ8 => (if lj_in (σ7.1 6 2) 51 then (if x1 = 0 then lj_D lc_P lc_M81 129 [.ref 6, .int x1, .int (σ1.1 6 2), .int y4, .int (σ7.1 6 2), .int (σ7.1 6 0), .retAddr 0, .retAddr 0] [] (lj_put σ8 28 ((σ7.1 6 2).toNatClampNeg) (σ8.1 5 0)) else lj_bi (lj_R lc_P 82 [.ref 6, .int (σ7.1 6 0)] (lj_put σ8 28 ((σ7.1 6 2).toNatClampNeg) (σ8.1 5 0))) (fun y10 σ9 => lj_bv (lj_R lc_P 83 [.ref 6, .int (σ9.1 0 8), .int y10] σ9) (fun σ11 => lj_D lc_P lc_M81 129 [.ref 6, .int x1, .int (σ1.1 6 2), .int y4, .int (σ7.1 6 2), .int (σ7.1 6 0), .int y10, .retAddr 0] [] σ11) lj_up) lj_up) else none)) lj_up) lj_up) lj_up) lj_up) else lj_br (lj_R lc_P 65 [.ref 6, .int 2] σ1) (fun y15 σ14 => (bif Nat.blt y15 2000 then lj_up y15 σ14 else none)) lj_up)) lj_up := by rw [lj_D_eq]; rfl
set_option maxRecDepth 100000 in
set_option maxHeartbeats 4000000 in
theorem kc_81_129 (x1 : Int32) (x2 : Int32) (x3 : Int32) (x4 : Int32) (x5 : Int32) (x6 : Value) (σ : lj_S) : lj_D lc_P lc_M81 129 [.ref 6, .int x1, .int x2, .int x3, .int x4, .int x5, x6, .retAddr 0] [] σ = lj_bi (lj_R lc_P 63 [.ref 6] σ) (fun y2 σ1 => (if y2 = 61 then lj_D lc_P lc_M81 143 [.ref 6, .int x1, .int x2, .int x3, .int x4, .int x5, x6, .retAddr 0] [.int 0] σ1 else lj_D lc_P lc_M81 143 [.ref 6, .int x1, .int x2, .int x3, .int x4, .int x5, x6, .retAddr 0] [.int 1] σ1)) lj_up := by rw [lj_D_eq]; rfl
set_option maxRecDepth 100000 in
set_option maxHeartbeats 4000000 in
theorem kc_81_143 (x1 : Int32) (x2 : Int32) (x3 : Int32) (x4 : Int32) (x5 : Int32) (x6 : Value) (x50 : Int32) (σ : lj_S) : lj_D lc_P lc_M81 143 [.ref 6, .int x1, .int x2, .int x3, .int x4, .int x5, x6, .retAddr 0] [.int x50] σ = lj_D lc_P lc_M81 145 [.ref 6, .int x1, .int x2, .int x3, .int x4, .int x5, .int x50, .retAddr 0] [] σ := by rw [lj_D_eq]; rfl
set_option maxRecDepth 100000 in
set_option maxHeartbeats 4000000 in
theorem kc_81_145 (x1 : Int32) (x2 : Int32) (x3 : Int32) (x4 : Int32) (x5 : Int32) (x6 : Int32) (x7 : Value) (σ : lj_S) : lj_D lc_P lc_M81 145 [.ref 6, .int x1, .int x2, .int x3, .int x4, .int x5, .int x6, x7] [] σ = (if x6 = 0 then (if lj_in x4 51 then (if lj_in x4 51 then lj_bv (lj_R lc_P 71 [.ref 6, .int 61] (lj_put σ 29 x4.toNatClampNeg (σ.1 31 x4.toNatClampNeg))) (fun σ1 => lj_bv (lj_R lc_P 60 [.ref 6] σ1) (fun σ2 => lj_bv (lj_R lc_P 71 [.ref 6, .int 15] σ2) (fun σ3 => lj_bv (lj_R lc_P 57 [.ref 5, .int x3] (lj_put σ3 6 2 x2)) (fun σ4 => lj_bi (lj_R lc_P 54 [.ref 5, .int 22, .int x4, .int 0] σ4) (fun y6 σ5 => some (.inl none, σ5)) lj_up) lj_up) lj_up) lj_up) lj_up else none) else none) else lj_bi (lj_R lc_P 84 [.ref 6, .int 51] σ) (fun y8 σ7 => (if y8 = 0 then lj_bi (lj_R lc_P 63 [.ref 6] σ7) (fun y10 σ9 => (if y10 = 1 then lj_bi (lj_R lc_P 82 [.ref 6, .int (σ9.1 6 0)] σ9) (fun y12 σ11 => lj_bi (lj_R lc_P 80 [.ref 6] σ11) (fun y14 σ13 => lj_bv (lj_R lc_P 83 [.ref 6, .int y14, .int y12] σ13) (fun σ15 => lj_bv (lj_R lc_P 67 [.ref 6] σ15) (fun σ16 => lj_bi (lj_R lc_P 84 [.ref 6, .int 68] σ16) (fun y18 σ17 => lj_D lc_P lc_M81 145 [.ref 6, .int x1, .int x2, .int x3, .int x4, .int x5, .int y18, .int y12] [] σ17) lj_up) lj_up) lj_up) lj_up) lj_up else lj_br (lj_R lc_P 65 [.ref 6, .int 2] σ9) (fun y20 σ19 => (bif Nat.blt y20 2000 then lj_up y20 σ19 else none)) lj_up)) lj_up else (if lj_in x4 51 then lj_D lc_P lc_M81 145 [.ref 6, .int x1, .int x2, .int x3, .int x4, .int x5, .int 0, x7] [] (lj_put σ7 30 x4.toNatClampNeg (vp_nar .boolean 1)) else none))) lj_up) := by rw [lj_D_eq]; rfl
-- TableTongue$Judge.declare(I)I
set_option maxRecDepth 100000 in
theorem rc_82 (x1 : Int32) (σ : lj_S) : lj_R lc_P 82 [.ref 6, .int x1] σ = lj_D lc_P lc_M82 0 [.ref 6, .int x1] [] σ := lj_R_eq (nL := 2) (M := lc_M82) _ _ _ _ rfl rfl
set_option maxRecDepth 100000 in
set_option maxHeartbeats 4000000 in
theorem kc_82_0 (x1 : Int32) (σ : lj_S) : lj_D lc_P lc_M82 0 [.ref 6, .int x1] [] σ = (if lj_in (σ.1 6 2) 51 then (if ((σ.1 31 ((σ.1 6 2).toNatClampNeg))) = 50 then (if lj_in x1 1502 then lj_br (lj_R lc_P 19 [.ref 1, .int 3, .int (σ.1 19 x1.toNatClampNeg)] σ) (fun y2 σ1 => (bif Nat.blt y2 2000 then lj_up y2 σ1 else none)) lj_up else none) else (if lj_in (σ.1 6 2) 51 then (if lj_in (σ.1 6 2) 51 then some (.inl (some (.int ((σ.1 31 ((σ.1 6 2).toNatClampNeg))))), (lj_put σ 31 ((σ.1 6 2).toNatClampNeg) (((σ.1 31 ((σ.1 6 2).toNatClampNeg))) + 1))) else none) else none)) else none) := by rw [lj_D_eq]; rfl
-- TableTongue$Judge.know(II)V
set_option maxRecDepth 100000 in
theorem rc_83 (x1 : Int32) (x2 : Int32) (σ : lj_S) : lj_R lc_P 83 [.ref 6, .int x1, .int x2] σ = lj_D lc_P lc_M83 0 [.ref 6, .int x1, .int x2, .retAddr 0] [] σ := lj_R_eq (nL := 4) (M := lc_M83) _ _ _ _ rfl rfl
set_option maxRecDepth 100000 in
set_option maxHeartbeats 4000000 in
theorem kc_83_0 (x1 : Int32) (x2 : Int32) (σ : lj_S) : lj_D lc_P lc_M83 0 [.ref 6, .int x1, .int x2, .retAddr 0] [] σ = (if lj_in (σ.1 6 2) 51 then (if lj_in (((σ.1 6 2) * 50) + ((σ.1 44 ((σ.1 6 2).toNatClampNeg)))) 2550 then (if lj_in (((σ.1 6 2) * 50) + ((σ.1 44 ((σ.1 6 2).toNatClampNeg)))) 2550 then lj_bi (lj_R lc_P 56 [.ref 5, .int (σ.1 6 2), .int x2] (lj_put (lj_put σ 45 ((((σ.1 6 2) * 50) + ((σ.1 44 ((σ.1 6 2).toNatClampNeg)))).toNatClampNeg) x1) 46 ((((σ.1 6 2) * 50) + ((σ.1 44 ((σ.1 6 2).toNatClampNeg)))).toNatClampNeg) x2)) (fun y2 σ1 => (if lj_in (((σ.1 6 2) * 50) + ((σ.1 44 ((σ.1 6 2).toNatClampNeg)))) 2550 then (if lj_in (σ1.1 6 2) 51 then (if lj_in (σ1.1 6 2) 51 then some (.inl none, (lj_put (lj_put σ1 47 ((((σ.1 6 2) * 50) + ((σ.1 44 ((σ.1 6 2).toNatClampNeg)))).toNatClampNeg) y2) 44 ((σ1.1 6 2).toNatClampNeg) (((σ1.1 44 ((σ1.1 6 2).toNatClampNeg))) + 1))) else none) else none) else none)) lj_up else none) else none) else none) := by rw [lj_D_eq]; rfl
-- TableTongue$Judge.take(I)Z
set_option maxRecDepth 100000 in
theorem rc_84 (x1 : Int32) (σ : lj_S) : lj_R lc_P 84 [.ref 6, .int x1] σ = lj_D lc_P lc_M84 0 [.ref 6, .int x1] [] σ := lj_R_eq (nL := 2) (M := lc_M84) _ _ _ _ rfl rfl
set_option maxRecDepth 100000 in
set_option maxHeartbeats 4000000 in
theorem kc_84_0 (x1 : Int32) (σ : lj_S) : lj_D lc_P lc_M84 0 [.ref 6, .int x1] [] σ = lj_bi (lj_R lc_P 63 [.ref 6] σ) (fun y2 σ1 => (if y2 = x1 then lj_bv (lj_R lc_P 67 [.ref 6] σ1) (fun σ3 => some (.inl (some (.int 1)), σ3)) lj_up else some (.inl (some (.int 0)), σ1))) lj_up := by rw [lj_D_eq]; rfl
-- TableTongue$Judge.table()V
set_option maxRecDepth 100000 in
theorem rc_85  (σ : lj_S) : lj_R lc_P 85 [.ref 6] σ = lj_D lc_P lc_M85 0 [.ref 6, .retAddr 0, .retAddr 0, .retAddr 0] [] σ := lj_R_eq (nL := 4) (M := lc_M85) _ _ _ _ rfl rfl
set_option maxRecDepth 100000 in
set_option maxHeartbeats 4000000 in
theorem kc_85_0  (σ : lj_S) : lj_D lc_P lc_M85 0 [.ref 6, .retAddr 0, .retAddr 0, .retAddr 0] [] σ = lj_bv (lj_R lc_P 71 [.ref 6, .int 62] σ) (fun σ1 => lj_bi (lj_R lc_P 54 [.ref 5, .int 23, .int 0, .int 0] σ1) (fun y3 σ2 => lj_D lc_P lc_M85 25 [.ref 6, .int 0, .int 0, .retAddr 0] [] σ2) lj_up) lj_up := by rw [lj_D_eq]; rfl
set_option maxRecDepth 100000 in
set_option maxHeartbeats 4000000 in
theorem kc_85_25 (x1 : Int32) (x2 : Int32) (x3 : Value) (σ : lj_S) : lj_D lc_P lc_M85 25 [.ref 6, .int x1, .int x2, x3] [] σ = lj_bi (lj_R lc_P 63 [.ref 6] σ) (fun y2 σ1 => (if y2 = 63 then lj_bv (lj_R lc_P 67 [.ref 6] σ1) (fun σ3 => some (.inl none, σ3)) lj_up else lj_bi (lj_R lc_P 63 [.ref 6] σ1) (fun y5 σ4 => (if y5 = 64 then lj_D lc_P lc_M85 50 [.ref 6, .int x1, .int x2, x3] [] σ4 else lj_bi (lj_R lc_P 76 [.ref 6] σ4) (fun y7 σ6 => (if y7 = 0 then lj_D lc_P lc_M85 55 [.ref 6, .int x1, .int x2, x3] [.int 0] σ6 else lj_D lc_P lc_M85 50 [.ref 6, .int x1, .int x2, x3] [] σ6)) lj_up)) lj_up)) lj_up := by rw [lj_D_eq]; rfl
set_option maxRecDepth 100000 in
set_option maxHeartbeats 4000000 in
theorem kc_85_50 (x1 : Int32) (x2 : Int32) (x3 : Value) (σ : lj_S) : lj_D lc_P lc_M85 50 [.ref 6, .int x1, .int x2, x3] [] σ = lj_D lc_P lc_M85 55 [.ref 6, .int x1, .int x2, x3] [.int 1] σ := by rw [lj_D_eq]; rfl
set_option maxRecDepth 100000 in
set_option maxHeartbeats 4000000 in
theorem kc_85_55 (x1 : Int32) (x2 : Int32) (x3 : Value) (x50 : Int32) (σ : lj_S) : lj_D lc_P lc_M85 55 [.ref 6, .int x1, .int x2, x3] [.int x50] σ = (if x50 = 0 then lj_br (lj_R lc_P 65 [.ref 6, .int 2] σ) (fun y15 σ14 => (bif Nat.blt y15 2000 then lj_up y15 σ14 else none)) lj_up else (if x1 = 30 then lj_br (lj_R lc_P 65 [.ref 6, .int 3] σ) (fun y13 σ12 => (bif Nat.blt y13 2000 then lj_up y13 σ12 else none)) lj_up else lj_bv (lj_R lc_P 66 [.ref 6] σ) (fun σ1 => lj_bi (lj_R lc_P 86 [.ref 6, .int x2] σ1) (fun y3 σ2 => lj_bi (lj_R lc_P 63 [.ref 6] (lj_put σ2 6 1 ((σ2.1 6 1) - 1))) (fun y5 σ4 => (if y5 = 63 then lj_D lc_P lc_M85 136 [.ref 6, .int (x1 + 1), .int (x2 + y3), .int x50] [] σ4 else lj_bi (lj_R lc_P 63 [.ref 6] σ4) (fun y7 σ6 => (if y7 = 68 then lj_D lc_P lc_M85 136 [.ref 6, .int (x1 + 1), .int (x2 + y3), .int x50] [] σ6 else lj_bi (lj_R lc_P 63 [.ref 6] σ6) (fun y9 σ8 => (if y9 = 66 then lj_D lc_P lc_M85 136 [.ref 6, .int (x1 + 1), .int (x2 + y3), .int x50] [] σ8 else lj_br (lj_R lc_P 65 [.ref 6, .int 2] σ8) (fun y11 σ10 => (bif Nat.blt y11 2000 then lj_up y11 σ10 else none)) lj_up)) lj_up)) lj_up)) lj_up) lj_up) lj_up)) := by rw [lj_D_eq]; rfl
set_option maxRecDepth 100000 in
set_option maxHeartbeats 4000000 in
theorem kc_85_136 (x1 : Int32) (x2 : Int32) (x3 : Int32) (σ : lj_S) : lj_D lc_P lc_M85 136 [.ref 6, .int x1, .int x2, .int x3] [] σ = lj_bi (lj_R lc_P 63 [.ref 6] σ) (fun y2 σ1 => (if y2 = 63 then lj_D lc_P lc_M85 149 [.ref 6, .int x1, .int x2, .int x3] [] σ1 else lj_bv (lj_R lc_P 67 [.ref 6] σ1) (fun σ3 => lj_D lc_P lc_M85 149 [.ref 6, .int x1, .int x2, .int x3] [] σ3) lj_up)) lj_up := by rw [lj_D_eq]; rfl
set_option maxRecDepth 100000 in
set_option maxHeartbeats 4000000 in
theorem kc_85_149 (x1 : Int32) (x2 : Int32) (x3 : Int32) (σ : lj_S) : lj_D lc_P lc_M85 149 [.ref 6, .int x1, .int x2, .int x3] [] σ = lj_D lc_P lc_M85 25 [.ref 6, .int x1, .int x2, .int x3] [] σ := by rw [lj_D_eq]; rfl
-- TableTongue$Judge.field(I)I
set_option maxRecDepth 100000 in
theorem rc_86 (x1 : Int32) (σ : lj_S) : lj_R lc_P 86 [.ref 6, .int x1] σ = lj_D lc_P lc_M86 0 [.ref 6, .int x1, .retAddr 0, .retAddr 0, .retAddr 0] [] σ := lj_R_eq (nL := 5) (M := lc_M86) _ _ _ _ rfl rfl
set_option maxRecDepth 100000 in
set_option maxHeartbeats 4000000 in
theorem kc_86_0 (x1 : Int32) (σ : lj_S) : lj_D lc_P lc_M86 0 [.ref 6, .int x1, .retAddr 0, .retAddr 0, .retAddr 0] [] σ = lj_bi (lj_R lc_P 77 [.ref 6] σ) (fun y2 σ1 => lj_bi (lj_R lc_P 84 [.ref 6, .int 64] σ1) (fun y4 σ3 => (if y4 = 0 then lj_bi (lj_R lc_P 63 [.ref 6] σ3) (fun y6 σ5 => (if y6 = 1 then (if 1500 ≤ (σ5.1 6 0) then lj_D lc_P lc_M86 137 [.ref 6, .int x1, .int y2, .retAddr 0, .retAddr 0] [] σ5 else (if lj_in ((σ5.1 6 0) + 1) 1502 then (if ((σ5.1 18 (((σ5.1 6 0) + 1).toNatClampNeg))) = 58 then lj_bi (lj_R lc_P 80 [.ref 6] σ5) (fun y8 σ7 => lj_bi (lj_R lc_P 54 [.ref 5, .int 5, .int y8, .int 0] σ7) (fun y10 σ9 => lj_bv (lj_R lc_P 67 [.ref 6] σ9) (fun σ11 => lj_bv (lj_R lc_P 67 [.ref 6] σ11) (fun σ12 => lj_bv (lj_R lc_P 73 [.ref 6] σ12) (fun σ13 => lj_bi (lj_R lc_P 54 [.ref 5, .int 26, .int 0, .int y2] σ13) (fun y15 σ14 => some (.inl (some (.int 0)), σ14)) lj_up) lj_up) lj_up) lj_up) lj_up) lj_up else lj_D lc_P lc_M86 137 [.ref 6, .int x1, .int y2, .retAddr 0, .retAddr 0] [] σ5) else none)) else lj_D lc_P lc_M86 137 [.ref 6, .int x1, .int y2, .retAddr 0, .retAddr 0] [] σ5)) lj_up else lj_bv (lj_R lc_P 73 [.ref 6] σ3) (fun σ16 => lj_bv (lj_R lc_P 71 [.ref 6, .int 65] σ16) (fun σ17 => lj_bv (lj_R lc_P 71 [.ref 6, .int 58] σ17) (fun σ18 => lj_bv (lj_R lc_P 73 [.ref 6] σ18) (fun σ19 => lj_bi (lj_R lc_P 54 [.ref 5, .int 26, .int 0, .int y2] σ19) (fun y21 σ20 => some (.inl (some (.int 0)), σ20)) lj_up) lj_up) lj_up) lj_up) lj_up)) lj_up) lj_up := by rw [lj_D_eq]; rfl
set_option maxRecDepth 100000 in
set_option maxHeartbeats 4000000 in
theorem kc_86_137 (x1 : Int32) (x2 : Int32) (σ : lj_S) : lj_D lc_P lc_M86 137 [.ref 6, .int x1, .int x2, .retAddr 0, .retAddr 0] [] σ = lj_bi (lj_R lc_P 74 [.ref 6] σ) (fun y2 σ1 => lj_bi (lj_R lc_P 63 [.ref 6] σ1) (fun y4 σ3 => (if y4 = 63 then lj_D lc_P lc_M86 201 [.ref 6, .int x1, .int x2, .int y2, .retAddr 0] [] σ3 else lj_bi (lj_R lc_P 63 [.ref 6] σ3) (fun y6 σ5 => (if y6 = 68 then lj_D lc_P lc_M86 169 [.ref 6, .int x1, .int x2, .int y2, .retAddr 0] [] σ5 else lj_bi (lj_R lc_P 63 [.ref 6] σ5) (fun y8 σ7 => (if y8 = 66 then lj_D lc_P lc_M86 169 [.ref 6, .int x1, .int x2, .int y2, .retAddr 0] [] σ7 else lj_D lc_P lc_M86 205 [.ref 6, .int x1, .int x2, .int y2, .retAddr 0] [] σ7)) lj_up)) lj_up)) lj_up) lj_up := by rw [lj_D_eq]; rfl
set_option maxRecDepth 100000 in
set_option maxHeartbeats 4000000 in
theorem kc_86_169 (x1 : Int32) (x2 : Int32) (x3 : Int32) (σ : lj_S) : lj_D lc_P lc_M86 169 [.ref 6, .int x1, .int x2, .int x3, .retAddr 0] [] σ = (if 1500 ≤ (σ.1 6 0) then lj_D lc_P lc_M86 205 [.ref 6, .int x1, .int x2, .int x3, .retAddr 0] [] σ else (if lj_in ((σ.1 6 0) + 1) 1502 then (if ((σ.1 18 (((σ.1 6 0) + 1).toNatClampNeg))) = 63 then lj_D lc_P lc_M86 201 [.ref 6, .int x1, .int x2, .int x3, .retAddr 0] [] σ else lj_D lc_P lc_M86 205 [.ref 6, .int x1, .int x2, .int x3, .retAddr 0] [] σ) else none)) := by rw [lj_D_eq]; rfl
set_option maxRecDepth 100000 in
set_option maxHeartbeats 4000000 in
theorem kc_86_201 (x1 : Int32) (x2 : Int32) (x3 : Int32) (σ : lj_S) : lj_D lc_P lc_M86 201 [.ref 6, .int x1, .int x2, .int x3, .retAddr 0] [] σ = lj_D lc_P lc_M86 206 [.ref 6, .int x1, .int x2, .int x3, .retAddr 0] [.int 1] σ := by rw [lj_D_eq]; rfl
set_option maxRecDepth 100000 in
set_option maxHeartbeats 4000000 in
theorem kc_86_205 (x1 : Int32) (x2 : Int32) (x3 : Int32) (σ : lj_S) : lj_D lc_P lc_M86 205 [.ref 6, .int x1, .int x2, .int x3, .retAddr 0] [] σ = lj_D lc_P lc_M86 206 [.ref 6, .int x1, .int x2, .int x3, .retAddr 0] [.int 0] σ := by rw [lj_D_eq]; rfl
set_option maxRecDepth 100000 in
set_option maxHeartbeats 4000000 in
theorem kc_86_206 (x1 : Int32) (x2 : Int32) (x3 : Int32) (x50 : Int32) (σ : lj_S) : lj_D lc_P lc_M86 206 [.ref 6, .int x1, .int x2, .int x3, .retAddr 0] [.int x50] σ = (if x50 = 0 then lj_D lc_P lc_M86 243 [.ref 6, .int x1, .int x2, .int x3, .int x50] [] σ else (if x3 = 1 then lj_D lc_P lc_M86 223 [.ref 6, .int x1, .int x2, .int x3, .int x50] [] σ else (if x3 = 2 then lj_D lc_P lc_M86 223 [.ref 6, .int x1, .int x2, .int x3, .int x50] [] σ else lj_D lc_P lc_M86 243 [.ref 6, .int x1, .int x2, .int x3, .int x50] [] σ))) := by rw [lj_D_eq]; rfl
set_option maxRecDepth 100000 in
set_option maxHeartbeats 4000000 in
theorem kc_86_223 (x1 : Int32) (x2 : Int32) (x3 : Int32) (x4 : Int32) (σ : lj_S) : lj_D lc_P lc_M86 223 [.ref 6, .int x1, .int x2, .int x3, .int x4] [] σ = lj_bi (lj_R lc_P 54 [.ref 5, .int 25, .int (x1 + 1), .int 0] σ) (fun y2 σ1 => lj_D lc_P lc_M86 265 [.ref 6, .int x1, .int x2, .int x3, .int x4] [] σ1) lj_up := by rw [lj_D_eq]; rfl
set_option maxRecDepth 100000 in
set_option maxHeartbeats 4000000 in
theorem kc_86_243 (x1 : Int32) (x2 : Int32) (x3 : Int32) (x4 : Int32) (σ : lj_S) : lj_D lc_P lc_M86 243 [.ref 6, .int x1, .int x2, .int x3, .int x4] [] σ = lj_bv (lj_R lc_P 78 [.ref 6, .int x3] σ) (fun σ1 => lj_bi (lj_R lc_P 54 [.ref 5, .int 24, .int (x1 + 1), .int 0] σ1) (fun y3 σ2 => lj_D lc_P lc_M86 265 [.ref 6, .int x1, .int x2, .int x3, .int x4] [] σ2) lj_up) lj_up := by rw [lj_D_eq]; rfl
set_option maxRecDepth 100000 in
set_option maxHeartbeats 4000000 in
theorem kc_86_265 (x1 : Int32) (x2 : Int32) (x3 : Int32) (x4 : Int32) (σ : lj_S) : lj_D lc_P lc_M86 265 [.ref 6, .int x1, .int x2, .int x3, .int x4] [] σ = some (.inl (some (.int 1)), σ) := by rw [lj_D_eq]; rfl
-- TableTongue$Judge.chain()I
set_option maxRecDepth 100000 in
theorem rc_87  (σ : lj_S) : lj_R lc_P 87 [.ref 6] σ = lj_D lc_P lc_M87 0 [.ref 6, .retAddr 0, .retAddr 0, .retAddr 0] [] σ := lj_R_eq (nL := 4) (M := lc_M87) _ _ _ _ rfl rfl
set_option maxRecDepth 100000 in
set_option maxHeartbeats 4000000 in
theorem kc_87_0  (σ : lj_S) : lj_D lc_P lc_M87 0 [.ref 6, .retAddr 0, .retAddr 0, .retAddr 0] [] σ = lj_bi (lj_R lc_P 63 [.ref 6] σ) (fun y2 σ1 => (if y2 = 1 then lj_bi (lj_R lc_P 88 [.ref 6] σ1) (fun y7 σ6 => lj_D lc_P lc_M87 34 [.ref 6, .int y7, .retAddr 0, .retAddr 0] [] σ6) lj_up else lj_bv (lj_R lc_P 71 [.ref 6, .int 60] σ1) (fun σ3 => lj_bv (lj_R lc_P 73 [.ref 6] σ3) (fun σ4 => lj_bv (lj_R lc_P 71 [.ref 6, .int 61] σ4) (fun σ5 => lj_D lc_P lc_M87 34 [.ref 6, .int 0, .retAddr 0, .retAddr 0] [] σ5) lj_up) lj_up) lj_up)) lj_up := by rw [lj_D_eq]; rfl
set_option maxRecDepth 100000 in
set_option maxHeartbeats 4000000 in
theorem kc_87_34 (x1 : Int32) (σ : lj_S) : lj_D lc_P lc_M87 34 [.ref 6, .int x1, .retAddr 0, .retAddr 0] [] σ = lj_D lc_P lc_M87 36 [.ref 6, .int x1, .int 1, .retAddr 0] [] σ := by rw [lj_D_eq]; rfl
set_option maxRecDepth 100000 in
set_option maxHeartbeats 4000000 in
theorem kc_87_36 (x1 : Int32) (x2 : Int32) (x3 : Value) (σ : lj_S) : lj_D lc_P lc_M87 36 [.ref 6, .int x1, .int x2, x3] [] σ = (if x2 = 0 then some (.inl (some (.int x1)), σ) else lj_bi (lj_R lc_P 77 [.ref 6] σ) (fun y2 σ1 => lj_bi (lj_R lc_P 63 [.ref 6] σ1) (fun y4 σ3 => (if y4 = 69 then lj_bv (lj_R lc_P 78 [.ref 6, .int x1] σ3) (fun σ35 => lj_bv (lj_R lc_P 67 [.ref 6] σ35) (fun σ36 => lj_bi (lj_R lc_P 63 [.ref 6] σ36) (fun y38 σ37 => (if y38 = 1 then lj_bi (lj_R lc_P 80 [.ref 6] σ37) (fun y40 σ39 => lj_bi (lj_R lc_P 54 [.ref 5, .int 5, .int y40, .int 0] σ39) (fun y42 σ41 => lj_bv (lj_R lc_P 67 [.ref 6] σ41) (fun σ43 => lj_D lc_P lc_M87 252 [.ref 6, .int 6, .int x2, .int y2] [] σ43) lj_up) lj_up) lj_up else lj_br (lj_R lc_P 65 [.ref 6, .int 2] σ37) (fun y45 σ44 => (bif Nat.blt y45 2000 then lj_up y45 σ44 else none)) lj_up)) lj_up) lj_up) lj_up else lj_bi (lj_R lc_P 63 [.ref 6] σ3) (fun y6 σ5 => (if y6 = 64 then lj_bv (lj_R lc_P 78 [.ref 6, .int x1] σ5) (fun σ31 => lj_bv (lj_R lc_P 67 [.ref 6] σ31) (fun σ32 => lj_bv (lj_R lc_P 73 [.ref 6] σ32) (fun σ33 => lj_bv (lj_R lc_P 71 [.ref 6, .int 65] σ33) (fun σ34 => lj_D lc_P lc_M87 252 [.ref 6, .int 6, .int x2, .int y2] [] σ34) lj_up) lj_up) lj_up) lj_up else lj_bi (lj_R lc_P 63 [.ref 6] σ5) (fun y8 σ7 => (if y8 = 67 then lj_bv (lj_R lc_P 78 [.ref 6, .int x1] σ7) (fun σ15 => lj_bv (lj_R lc_P 67 [.ref 6] σ15) (fun σ16 => lj_bi (lj_R lc_P 63 [.ref 6] σ16) (fun y18 σ17 => (if y18 = 1 then lj_bi (lj_R lc_P 80 [.ref 6] σ17) (fun y20 σ19 => lj_bi (lj_R lc_P 54 [.ref 5, .int 27, .int y20, .int y2] σ19) (fun y22 σ21 => lj_bv (lj_R lc_P 67 [.ref 6] σ21) (fun σ23 => lj_bi (lj_R lc_P 93 [.ref 6] σ23) (fun y25 σ24 => (if y25 = 0 then lj_br (lj_R lc_P 65 [.ref 6, .int 2] σ24) (fun y28 σ27 => (bif Nat.blt y28 2000 then lj_up y28 σ27 else none)) lj_up else lj_bv (lj_R lc_P 94 [.ref 6] σ24) (fun σ26 => lj_D lc_P lc_M87 252 [.ref 6, .int 1, .int x2, .int y2] [] σ26) lj_up)) lj_up) lj_up) lj_up) lj_up else lj_br (lj_R lc_P 65 [.ref 6, .int 2] σ17) (fun y30 σ29 => (bif Nat.blt y30 2000 then lj_up y30 σ29 else none)) lj_up)) lj_up) lj_up) lj_up else lj_bi (lj_R lc_P 93 [.ref 6] σ7) (fun y10 σ9 => (if y10 = 0 then lj_D lc_P lc_M87 252 [.ref 6, .int x1, .int 0, .int y2] [] σ9 else lj_bv (lj_R lc_P 78 [.ref 6, .int x1] σ9) (fun σ11 => lj_bi (lj_R lc_P 54 [.ref 5, .int 15, .int 0, .int 0] σ11) (fun y13 σ12 => lj_bv (lj_R lc_P 94 [.ref 6] σ12) (fun σ14 => lj_D lc_P lc_M87 252 [.ref 6, .int 1, .int x2, .int y2] [] σ14) lj_up) lj_up) lj_up)) lj_up)) lj_up)) lj_up)) lj_up) lj_up) := by rw [lj_D_eq]; rfl
set_option maxRecDepth 100000 in
set_option maxHeartbeats 4000000 in
theorem kc_87_252 (x1 : Int32) (x2 : Int32) (x3 : Int32) (σ : lj_S) : lj_D lc_P lc_M87 252 [.ref 6, .int x1, .int x2, .int x3] [] σ = (if x1 = 6 then (if x2 = 0 then lj_D lc_P lc_M87 267 [.ref 6, .int x1, .int x2, .int x3] [] σ else lj_D lc_P lc_M87 267 [.ref 6, .int x1, .int x2, .int x3] [] (lj_put σ 6 17 x3)) else lj_D lc_P lc_M87 267 [.ref 6, .int x1, .int x2, .int x3] [] σ) := by rw [lj_D_eq]; rfl
set_option maxRecDepth 100000 in
set_option maxHeartbeats 4000000 in
theorem kc_87_267 (x1 : Int32) (x2 : Int32) (x3 : Int32) (σ : lj_S) : lj_D lc_P lc_M87 267 [.ref 6, .int x1, .int x2, .int x3] [] σ = lj_D lc_P lc_M87 36 [.ref 6, .int x1, .int x2, .int x3] [] σ := by rw [lj_D_eq]; rfl
-- TableTongue$Judge.nameChain()I
set_option maxRecDepth 100000 in
theorem rc_88  (σ : lj_S) : lj_R lc_P 88 [.ref 6] σ = lj_D lc_P lc_M88 0 [.ref 6, .retAddr 0, .retAddr 0, .retAddr 0] [] σ := lj_R_eq (nL := 4) (M := lc_M88) _ _ _ _ rfl rfl
set_option maxRecDepth 100000 in
set_option maxHeartbeats 4000000 in
theorem kc_88_0  (σ : lj_S) : lj_D lc_P lc_M88 0 [.ref 6, .retAddr 0, .retAddr 0, .retAddr 0] [] σ = lj_bi (lj_R lc_P 80 [.ref 6] σ) (fun y2 σ1 => lj_bi (lj_R lc_P 77 [.ref 6] σ1) (fun y4 σ3 => lj_bi (lj_R lc_P 89 [.ref 6, .int (σ3.1 6 2), .int y2] (lj_put σ3 6 17 y4)) (fun y6 σ5 => (if y6 < 0 then lj_bi (lj_R lc_P 90 [.ref 6, .int (σ5.1 6 2), .int y2] σ5) (fun y8 σ7 => lj_D lc_P lc_M88 41 [.ref 6, .int y2, .int y6, .retAddr 0] [.int y8, .ref 6] σ7) lj_up else lj_D lc_P lc_M88 41 [.ref 6, .int y2, .int y6, .retAddr 0] [.int y6, .ref 6] σ5)) lj_up) lj_up) lj_up := by rw [lj_D_eq]; rfl
set_option maxRecDepth 100000 in
set_option maxHeartbeats 4000000 in
theorem kc_88_41 (x1 : Int32) (x2 : Int32) (x50 : Int32) (σ : lj_S) : lj_D lc_P lc_M88 41 [.ref 6, .int x1, .int x2, .retAddr 0] [.int x50, .ref 6] σ = (if x2 < 0 then (if x50 < 0 then lj_D lc_P lc_M88 64 [.ref 6, .int x1, .int x2, .retAddr 0] [.int 5] (lj_put σ 6 16 x50) else lj_D lc_P lc_M88 64 [.ref 6, .int x1, .int x2, .retAddr 0] [.int 4] (lj_put σ 6 16 x50)) else lj_D lc_P lc_M88 64 [.ref 6, .int x1, .int x2, .retAddr 0] [.int 3] (lj_put σ 6 16 x50)) := by rw [lj_D_eq]; rfl
set_option maxRecDepth 100000 in
set_option maxHeartbeats 4000000 in
theorem kc_88_64 (x1 : Int32) (x2 : Int32) (x50 : Int32) (σ : lj_S) : lj_D lc_P lc_M88 64 [.ref 6, .int x1, .int x2, .retAddr 0] [.int x50] σ = (if x50 = 5 then lj_D lc_P lc_M88 79 [.ref 6, .int x1, .int x2, .int x50] [.int x1, .ref 6] σ else lj_D lc_P lc_M88 79 [.ref 6, .int x1, .int x2, .int x50] [.int (σ.1 6 16), .ref 6] σ) := by rw [lj_D_eq]; rfl
set_option maxRecDepth 100000 in
set_option maxHeartbeats 4000000 in
theorem kc_88_79 (x1 : Int32) (x2 : Int32) (x3 : Int32) (x50 : Int32) (σ : lj_S) : lj_D lc_P lc_M88 79 [.ref 6, .int x1, .int x2, .int x3] [.int x50, .ref 6] σ = lj_bv (lj_R lc_P 67 [.ref 6] (lj_put σ 6 16 x50)) (fun σ1 => some (.inl (some (.int x3)), σ1)) lj_up := by rw [lj_D_eq]; rfl
-- TableTongue$Judge.localOf(II)I
set_option maxRecDepth 100000 in
theorem rc_89 (x1 : Int32) (x2 : Int32) (σ : lj_S) : lj_R lc_P 89 [.ref 6, .int x1, .int x2] σ = lj_D lc_P lc_M89 0 [.ref 6, .int x1, .int x2, .retAddr 0] [] σ := lj_R_eq (nL := 4) (M := lc_M89) _ _ _ _ rfl rfl
set_option maxRecDepth 100000 in
set_option maxHeartbeats 4000000 in
theorem kc_89_0 (x1 : Int32) (x2 : Int32) (σ : lj_S) : lj_D lc_P lc_M89 0 [.ref 6, .int x1, .int x2, .retAddr 0] [] σ = (if lj_in x1 51 then lj_D lc_P lc_M89 9 [.ref 6, .int x1, .int x2, .int ((σ.1 44 x1.toNatClampNeg) - 1)] [] σ else none) := by rw [lj_D_eq]; rfl
set_option maxRecDepth 100000 in
set_option maxHeartbeats 4000000 in
theorem kc_89_9 (x1 : Int32) (x2 : Int32) (x3 : Int32) (σ : lj_S) : lj_D lc_P lc_M89 9 [.ref 6, .int x1, .int x2, .int x3] [] σ = (if x3 < 0 then some (.inl (some (.int (-1))), σ) else (if lj_in ((x1 * 50) + x3) 2550 then (if ((σ.1 45 (((x1 * 50) + x3).toNatClampNeg))) = x2 then (if lj_in ((x1 * 50) + x3) 2550 then some (.inl (some (.int ((σ.1 46 (((x1 * 50) + x3).toNatClampNeg))))), σ) else none) else lj_D lc_P lc_M89 9 [.ref 6, .int x1, .int x2, .int (x3 + (-1))] [] σ) else none)) := by rw [lj_D_eq]; rfl
-- TableTongue$Judge.capturedOf(II)I
set_option maxRecDepth 100000 in
theorem rc_90 (x1 : Int32) (x2 : Int32) (σ : lj_S) : lj_R lc_P 90 [.ref 6, .int x1, .int x2] σ = lj_D lc_P lc_M90 0 [.ref 6, .int x1, .int x2, .retAddr 0, .retAddr 0, .retAddr 0, .retAddr 0, .retAddr 0] [] σ := lj_R_eq (nL := 8) (M := lc_M90) _ _ _ _ rfl rfl
set_option maxRecDepth 100000 in
set_option maxHeartbeats 4000000 in
theorem kc_90_0 (x1 : Int32) (x2 : Int32) (σ : lj_S) : lj_D lc_P lc_M90 0 [.ref 6, .int x1, .int x2, .retAddr 0, .retAddr 0, .retAddr 0, .retAddr 0, .retAddr 0] [] σ = lj_D lc_P lc_M90 11 [.ref 6, .int x1, .int x2, .int x1, .int (-1), .int (-1), .int 0, .retAddr 0] [] σ := by rw [lj_D_eq]; rfl
set_option maxRecDepth 100000 in
set_option maxHeartbeats 4000000 in
theorem kc_90_11 (x1 : Int32) (x2 : Int32) (x3 : Int32) (x4 : Int32) (x5 : Int32) (x6 : Int32) (x7 : Value) (σ : lj_S) : lj_D lc_P lc_M90 11 [.ref 6, .int x1, .int x2, .int x3, .int x4, .int x5, .int x6, x7] [] σ = (if x3 = (-1) then lj_D lc_P lc_M90 86 [.ref 6, .int x1, .int x2, .int x3, .int x4, .int x5, .int x6, x7] [] σ else (if x5 = (-1) then lj_bi (lj_R lc_P 91 [.ref 6, .int x3, .int x2] σ) (fun y2 σ1 => (if x3 = x1 then lj_D lc_P lc_M90 61 [.ref 6, .int x1, .int x2, .int x3, .int x4, .int x5, .int x6, .int y2] [] σ1 else lj_bi (lj_R lc_P 89 [.ref 6, .int x3, .int x2] σ1) (fun y4 σ3 => (if y4 < 0 then lj_D lc_P lc_M90 61 [.ref 6, .int x1, .int x2, .int x3, .int x4, .int x5, .int x6, .int y2] [] σ3 else lj_bi (lj_R lc_P 89 [.ref 6, .int x3, .int x2] σ3) (fun y6 σ5 => lj_D lc_P lc_M90 83 [.ref 6, .int x1, .int x2, .int x3, .int y6, .int x3, .int 1, .int y2] [] σ5) lj_up)) lj_up)) lj_up else lj_D lc_P lc_M90 86 [.ref 6, .int x1, .int x2, .int x3, .int x4, .int x5, .int x6, x7] [] σ)) := by rw [lj_D_eq]; rfl
set_option maxRecDepth 100000 in
set_option maxHeartbeats 4000000 in
theorem kc_90_61 (x1 : Int32) (x2 : Int32) (x3 : Int32) (x4 : Int32) (x5 : Int32) (x6 : Int32) (x7 : Int32) (σ : lj_S) : lj_D lc_P lc_M90 61 [.ref 6, .int x1, .int x2, .int x3, .int x4, .int x5, .int x6, .int x7] [] σ = (if x7 < 0 then (if lj_in x3 51 then lj_D lc_P lc_M90 83 [.ref 6, .int x1, .int x2, .int (σ.1 43 x3.toNatClampNeg), .int x4, .int x5, .int x6, .int x7] [] σ else none) else lj_D lc_P lc_M90 83 [.ref 6, .int x1, .int x2, .int x3, .int x7, .int x3, .int x6, .int x7] [] σ) := by rw [lj_D_eq]; rfl
set_option maxRecDepth 100000 in
set_option maxHeartbeats 4000000 in
theorem kc_90_83 (x1 : Int32) (x2 : Int32) (x3 : Int32) (x4 : Int32) (x5 : Int32) (x6 : Int32) (x7 : Int32) (σ : lj_S) : lj_D lc_P lc_M90 83 [.ref 6, .int x1, .int x2, .int x3, .int x4, .int x5, .int x6, .int x7] [] σ = lj_D lc_P lc_M90 11 [.ref 6, .int x1, .int x2, .int x3, .int x4, .int x5, .int x6, .int x7] [] σ := by rw [lj_D_eq]; rfl
set_option maxRecDepth 100000 in
set_option maxHeartbeats 4000000 in
theorem kc_90_86 (x1 : Int32) (x2 : Int32) (x3 : Int32) (x4 : Int32) (x5 : Int32) (x6 : Int32) (x7 : Value) (σ : lj_S) : lj_D lc_P lc_M90 86 [.ref 6, .int x1, .int x2, .int x3, .int x4, .int x5, .int x6, x7] [] σ = (if x5 = (-1) then lj_D lc_P lc_M90 98 [.ref 6, .int x1, .int x2, .int x3, .int x4, .int x5, .int x6, x7] [] σ else (if x5 = x1 then lj_D lc_P lc_M90 98 [.ref 6, .int x1, .int x2, .int x3, .int x4, .int x5, .int x6, x7] [] σ else lj_D lc_P lc_M90 101 [.ref 6, .int x1, .int x2, .int x3, .int x4, .int x5, .int x6, x7] [] σ)) := by rw [lj_D_eq]; rfl
set_option maxRecDepth 100000 in
set_option maxHeartbeats 4000000 in
theorem kc_90_98 (x1 : Int32) (x2 : Int32) (x3 : Int32) (x4 : Int32) (x5 : Int32) (x6 : Int32) (x7 : Value) (σ : lj_S) : lj_D lc_P lc_M90 98 [.ref 6, .int x1, .int x2, .int x3, .int x4, .int x5, .int x6, x7] [] σ = some (.inl (some (.int x4)), σ) := by rw [lj_D_eq]; rfl
set_option maxRecDepth 100000 in
set_option maxHeartbeats 4000000 in
theorem kc_90_101 (x1 : Int32) (x2 : Int32) (x3 : Int32) (x4 : Int32) (x5 : Int32) (x6 : Int32) (x7 : Value) (σ : lj_S) : lj_D lc_P lc_M90 101 [.ref 6, .int x1, .int x2, .int x3, .int x4, .int x5, .int x6, x7] [] σ = (if x5 = x1 then some (.inl (some (.int x4)), σ) else lj_D lc_P lc_M90 110 [.ref 6, .int x1, .int x2, .int x3, .int x4, .int x5, .int x6, .int x1] [] σ) := by rw [lj_D_eq]; rfl
set_option maxRecDepth 100000 in
set_option maxHeartbeats 4000000 in
theorem kc_90_110 (x1 : Int32) (x2 : Int32) (x3 : Int32) (x4 : Int32) (x5 : Int32) (x6 : Int32) (x7 : Int32) (σ : lj_S) : lj_D lc_P lc_M90 110 [.ref 6, .int x1, .int x2, .int x3, .int x4, .int x5, .int x6, .int x7] [] σ = (if lj_in x7 51 then (if (σ.1 43 x7.toNatClampNeg) = x5 then lj_bi (lj_R lc_P 92 [.ref 6, .int x7, .int x2, .int x6, .int x4] σ) (fun y2 σ1 => lj_D lc_P lc_M90 101 [.ref 6, .int x1, .int x2, .int x3, .int y2, .int x7, .int 0, .int x7] [] σ1) lj_up else (if lj_in x7 51 then lj_D lc_P lc_M90 110 [.ref 6, .int x1, .int x2, .int x3, .int x4, .int x5, .int x6, .int (σ.1 43 x7.toNatClampNeg)] [] σ else none)) else none) := by rw [lj_D_eq]; rfl
-- TableTongue$Judge.seekCaptured(II)I
set_option maxRecDepth 100000 in
theorem rc_91 (x1 : Int32) (x2 : Int32) (σ : lj_S) : lj_R lc_P 91 [.ref 6, .int x1, .int x2] σ = lj_D lc_P lc_M91 0 [.ref 6, .int x1, .int x2, .retAddr 0] [] σ := lj_R_eq (nL := 4) (M := lc_M91) _ _ _ _ rfl rfl
set_option maxRecDepth 100000 in
set_option maxHeartbeats 4000000 in
theorem kc_91_0 (x1 : Int32) (x2 : Int32) (σ : lj_S) : lj_D lc_P lc_M91 0 [.ref 6, .int x1, .int x2, .retAddr 0] [] σ = lj_D lc_P lc_M91 2 [.ref 6, .int x1, .int x2, .int 0] [] σ := by rw [lj_D_eq]; rfl
set_option maxRecDepth 100000 in
set_option maxHeartbeats 4000000 in
theorem kc_91_2 (x1 : Int32) (x2 : Int32) (x3 : Int32) (σ : lj_S) : lj_D lc_P lc_M91 2 [.ref 6, .int x1, .int x2, .int x3] [] σ = (if lj_in x1 51 then (if (σ.1 33 x1.toNatClampNeg) ≤ x3 then some (.inl (some (.int (-1))), σ) else (if lj_in ((x1 * 30) + x3) 1530 then (if ((σ.1 48 (((x1 * 30) + x3).toNatClampNeg))) = x2 then some (.inl (some (.int x3)), σ) else lj_D lc_P lc_M91 2 [.ref 6, .int x1, .int x2, .int (x3 + 1)] [] σ) else none)) else none) := by rw [lj_D_eq]; rfl
-- TableTongue$Judge.addCaptured(IIZI)I
set_option maxRecDepth 100000 in
theorem rc_92 (x1 : Int32) (x2 : Int32) (x3 : Int32) (x4 : Int32) (σ : lj_S) : lj_R lc_P 92 [.ref 6, .int x1, .int x2, .int x3, .int x4] σ = lj_D lc_P lc_M92 0 [.ref 6, .int x1, .int x2, .int x3, .int x4, .retAddr 0] [] σ := lj_R_eq (nL := 6) (M := lc_M92) _ _ _ _ rfl rfl
set_option maxRecDepth 100000 in
set_option maxHeartbeats 4000000 in
theorem kc_92_0 (x1 : Int32) (x2 : Int32) (x3 : Int32) (x4 : Int32) (σ : lj_S) : lj_D lc_P lc_M92 0 [.ref 6, .int x1, .int x2, .int x3, .int x4, .retAddr 0] [] σ = (if lj_in x1 51 then (if (σ.1 33 x1.toNatClampNeg) = 30 then lj_br (lj_R lc_P 65 [.ref 6, .int 3] σ) (fun y2 σ1 => (bif Nat.blt y2 2000 then lj_up y2 σ1 else none)) lj_up else (if lj_in x1 51 then (if lj_in ((x1 * 30) + (σ.1 33 x1.toNatClampNeg)) 1530 then (if lj_in ((x1 * 30) + (σ.1 33 x1.toNatClampNeg)) 1530 then (if lj_in ((x1 * 30) + (σ.1 33 x1.toNatClampNeg)) 1530 then (if lj_in x1 51 then (if lj_in x1 51 then some (.inl (some (.int (σ.1 33 x1.toNatClampNeg))), (lj_put (lj_put (lj_put (lj_put σ 48 (((x1 * 30) + (σ.1 33 x1.toNatClampNeg)).toNatClampNeg) x2) 34 (((x1 * 30) + (σ.1 33 x1.toNatClampNeg)).toNatClampNeg) (vp_nar .boolean x3)) 35 (((x1 * 30) + (σ.1 33 x1.toNatClampNeg)).toNatClampNeg) x4) 33 x1.toNatClampNeg ((σ.1 33 x1.toNatClampNeg) + 1))) else none) else none) else none) else none) else none) else none)) else none) := by rw [lj_D_eq]; rfl
-- TableTongue$Judge.beginsGiven()Z
set_option maxRecDepth 100000 in
theorem rc_93  (σ : lj_S) : lj_R lc_P 93 [.ref 6] σ = lj_D lc_P lc_M93 0 [.ref 6] [] σ := lj_R_eq (nL := 1) (M := lc_M93) _ _ _ _ rfl rfl
set_option maxRecDepth 100000 in
set_option maxHeartbeats 4000000 in
theorem kc_93_0  (σ : lj_S) : lj_D lc_P lc_M93 0 [.ref 6] [] σ = lj_bi (lj_R lc_P 63 [.ref 6] σ) (fun y2 σ1 => (if y2 = 60 then lj_D lc_P lc_M93 26 [.ref 6] [] σ1 else lj_bi (lj_R lc_P 63 [.ref 6] σ1) (fun y4 σ3 => (if y4 = 62 then lj_D lc_P lc_M93 26 [.ref 6] [] σ3 else lj_bi (lj_R lc_P 63 [.ref 6] σ3) (fun y6 σ5 => (if y6 = 3 then lj_D lc_P lc_M93 26 [.ref 6] [] σ5 else lj_D lc_P lc_M93 31 [.ref 6] [.int 0] σ5)) lj_up)) lj_up)) lj_up := by rw [lj_D_eq]; rfl
set_option maxRecDepth 100000 in
set_option maxHeartbeats 4000000 in
theorem kc_93_26  (σ : lj_S) : lj_D lc_P lc_M93 26 [.ref 6] [] σ = lj_D lc_P lc_M93 31 [.ref 6] [.int 1] σ := by rw [lj_D_eq]; rfl
set_option maxRecDepth 100000 in
set_option maxHeartbeats 4000000 in
theorem kc_93_31 (x50 : Int32) (σ : lj_S) : lj_D lc_P lc_M93 31 [.ref 6] [.int x50] σ = some (.inl (some (.int (vp_nar .boolean x50))), σ) := by rw [lj_D_eq]; rfl
-- TableTongue$Judge.given()V
set_option maxRecDepth 100000 in
theorem rc_94  (σ : lj_S) : lj_R lc_P 94 [.ref 6] σ = lj_D lc_P lc_M94 0 [.ref 6, .retAddr 0] [] σ := lj_R_eq (nL := 2) (M := lc_M94) _ _ _ _ rfl rfl
set_option maxRecDepth 100000 in
set_option maxHeartbeats 4000000 in
theorem kc_94_0  (σ : lj_S) : lj_D lc_P lc_M94 0 [.ref 6, .retAddr 0] [] σ = lj_bi (lj_R lc_P 77 [.ref 6] σ) (fun y2 σ1 => lj_bi (lj_R lc_P 63 [.ref 6] σ1) (fun y4 σ3 => (if y4 = 3 then lj_bi (lj_R lc_P 80 [.ref 6] σ3) (fun y13 σ12 => lj_bi (lj_R lc_P 54 [.ref 5, .int 5, .int y13, .int 0] σ12) (fun y15 σ14 => lj_bv (lj_R lc_P 67 [.ref 6] σ14) (fun σ16 => lj_D lc_P lc_M94 77 [.ref 6, .int y2] [] σ16) lj_up) lj_up) lj_up else lj_bi (lj_R lc_P 63 [.ref 6] σ3) (fun y6 σ5 => (if y6 = 62 then lj_bv (lj_R lc_P 85 [.ref 6] σ5) (fun σ11 => lj_D lc_P lc_M94 77 [.ref 6, .int y2] [] σ11) lj_up else lj_bv (lj_R lc_P 67 [.ref 6] σ5) (fun σ7 => lj_bi (lj_R lc_P 63 [.ref 6] σ7) (fun y9 σ8 => (if y9 = 61 then lj_D lc_P lc_M94 71 [.ref 6, .int y2] [] σ8 else lj_bv (lj_R lc_P 95 [.ref 6, .int y2] σ8) (fun σ10 => lj_D lc_P lc_M94 71 [.ref 6, .int y2] [] σ10) lj_up)) lj_up) lj_up)) lj_up)) lj_up) lj_up := by rw [lj_D_eq]; rfl
set_option maxRecDepth 100000 in
set_option maxHeartbeats 4000000 in
theorem kc_94_71 (x1 : Int32) (σ : lj_S) : lj_D lc_P lc_M94 71 [.ref 6, .int x1] [] σ = lj_bv (lj_R lc_P 71 [.ref 6, .int 61] σ) (fun σ1 => lj_D lc_P lc_M94 77 [.ref 6, .int x1] [] σ1) lj_up := by rw [lj_D_eq]; rfl
set_option maxRecDepth 100000 in
set_option maxHeartbeats 4000000 in
theorem kc_94_77 (x1 : Int32) (σ : lj_S) : lj_D lc_P lc_M94 77 [.ref 6, .int x1] [] σ = lj_bi (lj_R lc_P 54 [.ref 5, .int 16, .int 0, .int x1] σ) (fun y2 σ1 => some (.inl none, σ1)) lj_up := by rw [lj_D_eq]; rfl
-- TableTongue$Judge.row(I)V
set_option maxRecDepth 100000 in
theorem rc_95 (x1 : Int32) (σ : lj_S) : lj_R lc_P 95 [.ref 6, .int x1] σ = lj_D lc_P lc_M95 0 [.ref 6, .int x1, .retAddr 0, .retAddr 0, .retAddr 0] [] σ := lj_R_eq (nL := 5) (M := lc_M95) _ _ _ _ rfl rfl
set_option maxRecDepth 100000 in
set_option maxHeartbeats 4000000 in
theorem kc_95_0 (x1 : Int32) (σ : lj_S) : lj_D lc_P lc_M95 0 [.ref 6, .int x1, .retAddr 0, .retAddr 0, .retAddr 0] [] σ = lj_D lc_P lc_M95 4 [.ref 6, .int x1, .int 0, .int 1, .retAddr 0] [] σ := by rw [lj_D_eq]; rfl
set_option maxRecDepth 100000 in
set_option maxHeartbeats 4000000 in
theorem kc_95_4 (x1 : Int32) (x2 : Int32) (x3 : Int32) (x4 : Value) (σ : lj_S) : lj_D lc_P lc_M95 4 [.ref 6, .int x1, .int x2, .int x3, x4] [] σ = (if x3 = 0 then some (.inl none, σ) else lj_bi (lj_R lc_P 76 [.ref 6] σ) (fun y2 σ1 => (if y2 = 0 then lj_br (lj_R lc_P 65 [.ref 6, .int 2] σ1) (fun y10 σ9 => (bif Nat.blt y10 2000 then lj_up y10 σ9 else none)) lj_up else (if x2 = 15 then lj_br (lj_R lc_P 65 [.ref 6, .int 3] σ1) (fun y8 σ7 => (bif Nat.blt y8 2000 then lj_up y8 σ7 else none)) lj_up else lj_bi (lj_R lc_P 74 [.ref 6] σ1) (fun y4 σ3 => lj_bi (lj_R lc_P 63 [.ref 6] σ3) (fun y6 σ5 => (if y6 = 68 then lj_D lc_P lc_M95 56 [.ref 6, .int x1, .int (x2 + 1), .int x3, .int y4] [.int 1] σ5 else lj_D lc_P lc_M95 56 [.ref 6, .int x1, .int (x2 + 1), .int x3, .int y4] [.int 0] σ5)) lj_up) lj_up))) lj_up) := by rw [lj_D_eq]; rfl
set_option maxRecDepth 100000 in
set_option maxHeartbeats 4000000 in
theorem kc_95_56 (x1 : Int32) (x2 : Int32) (x3 : Int32) (x4 : Int32) (x50 : Int32) (σ : lj_S) : lj_D lc_P lc_M95 56 [.ref 6, .int x1, .int x2, .int x3, .int x4] [.int x50] σ = (if x50 = 0 then (if x4 = 1 then lj_D lc_P lc_M95 73 [.ref 6, .int x1, .int x2, .int x50, .int x4] [] σ else (if x4 = 2 then lj_D lc_P lc_M95 73 [.ref 6, .int x1, .int x2, .int x50, .int x4] [] σ else lj_D lc_P lc_M95 91 [.ref 6, .int x1, .int x2, .int x50, .int x4] [] σ)) else lj_D lc_P lc_M95 91 [.ref 6, .int x1, .int x2, .int x50, .int x4] [] σ) := by rw [lj_D_eq]; rfl
set_option maxRecDepth 100000 in
set_option maxHeartbeats 4000000 in
theorem kc_95_73 (x1 : Int32) (x2 : Int32) (x3 : Int32) (x4 : Int32) (σ : lj_S) : lj_D lc_P lc_M95 73 [.ref 6, .int x1, .int x2, .int x3, .int x4] [] σ = lj_bi (lj_R lc_P 54 [.ref 5, .int 18, .int 0, .int 0] σ) (fun y2 σ1 => lj_D lc_P lc_M95 97 [.ref 6, .int x1, .int x2, .int x3, .int x4] [] σ1) lj_up := by rw [lj_D_eq]; rfl
set_option maxRecDepth 100000 in
set_option maxHeartbeats 4000000 in
theorem kc_95_91 (x1 : Int32) (x2 : Int32) (x3 : Int32) (x4 : Int32) (σ : lj_S) : lj_D lc_P lc_M95 91 [.ref 6, .int x1, .int x2, .int x3, .int x4] [] σ = lj_bv (lj_R lc_P 78 [.ref 6, .int x4] σ) (fun σ1 => lj_D lc_P lc_M95 97 [.ref 6, .int x1, .int x2, .int x3, .int x4] [] σ1) lj_up := by rw [lj_D_eq]; rfl
set_option maxRecDepth 100000 in
set_option maxHeartbeats 4000000 in
theorem kc_95_97 (x1 : Int32) (x2 : Int32) (x3 : Int32) (x4 : Int32) (σ : lj_S) : lj_D lc_P lc_M95 97 [.ref 6, .int x1, .int x2, .int x3, .int x4] [] σ = (if x3 = 0 then lj_D lc_P lc_M95 105 [.ref 6, .int x1, .int x2, .int x3, .int x4] [] σ else lj_bv (lj_R lc_P 67 [.ref 6] σ) (fun σ1 => lj_D lc_P lc_M95 105 [.ref 6, .int x1, .int x2, .int x3, .int x4] [] σ1) lj_up) := by rw [lj_D_eq]; rfl
set_option maxRecDepth 100000 in
set_option maxHeartbeats 4000000 in
theorem kc_95_105 (x1 : Int32) (x2 : Int32) (x3 : Int32) (x4 : Int32) (σ : lj_S) : lj_D lc_P lc_M95 105 [.ref 6, .int x1, .int x2, .int x3, .int x4] [] σ = lj_D lc_P lc_M95 4 [.ref 6, .int x1, .int x2, .int x3, .int x4] [] σ := by rw [lj_D_eq]; rfl
-- TableTongue$Judge.strength(I)I
set_option maxRecDepth 100000 in
theorem rc_96 (x1 : Int32) (σ : lj_S) : lj_R lc_P 96 [.ref 6, .int x1] σ = lj_D lc_P lc_M96 0 [.ref 6, .int x1] [] σ := lj_R_eq (nL := 2) (M := lc_M96) _ _ _ _ rfl rfl
set_option maxRecDepth 100000 in
set_option maxHeartbeats 4000000 in
theorem kc_96_0 (x1 : Int32) (σ : lj_S) : lj_D lc_P lc_M96 0 [.ref 6, .int x1] [] σ = (if x1 = 10 then lj_D lc_P lc_M96 254 [.ref 6, .int x1] [.int 2] σ else (if x1 = 11 then lj_D lc_P lc_M96 253 [.ref 6, .int x1] [] σ else (if x1 = 12 then lj_D lc_P lc_M96 253 [.ref 6, .int x1] [] σ else (if x1 = 13 then lj_D lc_P lc_M96 253 [.ref 6, .int x1] [] σ else (if x1 = 14 then lj_D lc_P lc_M96 253 [.ref 6, .int x1] [] σ else (if x1 = 15 then lj_D lc_P lc_M96 253 [.ref 6, .int x1] [] σ else (if x1 = 16 then lj_D lc_P lc_M96 253 [.ref 6, .int x1] [] σ else (if x1 = 17 then lj_D lc_P lc_M96 253 [.ref 6, .int x1] [] σ else (if x1 = 18 then lj_D lc_P lc_M96 253 [.ref 6, .int x1] [] σ else (if x1 = 19 then lj_D lc_P lc_M96 253 [.ref 6, .int x1] [] σ else (if x1 = 20 then lj_D lc_P lc_M96 253 [.ref 6, .int x1] [] σ else (if x1 = 21 then lj_D lc_P lc_M96 253 [.ref 6, .int x1] [] σ else (if x1 = 22 then lj_D lc_P lc_M96 253 [.ref 6, .int x1] [] σ else (if x1 = 23 then lj_D lc_P lc_M96 253 [.ref 6, .int x1] [] σ else (if x1 = 24 then lj_D lc_P lc_M96 254 [.ref 6, .int x1] [.int 1] σ else (if x1 = 25 then lj_D lc_P lc_M96 253 [.ref 6, .int x1] [] σ else (if x1 = 26 then lj_D lc_P lc_M96 253 [.ref 6, .int x1] [] σ else (if x1 = 27 then lj_D lc_P lc_M96 253 [.ref 6, .int x1] [] σ else (if x1 = 28 then lj_D lc_P lc_M96 253 [.ref 6, .int x1] [] σ else (if x1 = 29 then lj_D lc_P lc_M96 253 [.ref 6, .int x1] [] σ else (if x1 = 30 then lj_D lc_P lc_M96 253 [.ref 6, .int x1] [] σ else (if x1 = 31 then lj_D lc_P lc_M96 253 [.ref 6, .int x1] [] σ else (if x1 = 32 then lj_D lc_P lc_M96 253 [.ref 6, .int x1] [] σ else (if x1 = 33 then lj_D lc_P lc_M96 253 [.ref 6, .int x1] [] σ else (if x1 = 34 then lj_D lc_P lc_M96 253 [.ref 6, .int x1] [] σ else (if x1 = 35 then lj_D lc_P lc_M96 253 [.ref 6, .int x1] [] σ else (if x1 = 36 then lj_D lc_P lc_M96 253 [.ref 6, .int x1] [] σ else (if x1 = 37 then lj_D lc_P lc_M96 253 [.ref 6, .int x1] [] σ else (if x1 = 38 then lj_D lc_P lc_M96 253 [.ref 6, .int x1] [] σ else (if x1 = 39 then lj_D lc_P lc_M96 253 [.ref 6, .int x1] [] σ else (if x1 = 40 then lj_D lc_P lc_M96 243 [.ref 6, .int x1] [] σ else (if x1 = 41 then lj_D lc_P lc_M96 243 [.ref 6, .int x1] [] σ else (if x1 = 42 then lj_D lc_P lc_M96 248 [.ref 6, .int x1] [] σ else (if x1 = 43 then lj_D lc_P lc_M96 248 [.ref 6, .int x1] [] σ else (if x1 = 44 then lj_D lc_P lc_M96 248 [.ref 6, .int x1] [] σ else (if x1 = 45 then lj_D lc_P lc_M96 254 [.ref 6, .int x1] [.int 6] σ else (if x1 = 46 then lj_D lc_P lc_M96 254 [.ref 6, .int x1] [.int 4] σ else (if x1 = 47 then lj_D lc_P lc_M96 254 [.ref 6, .int x1] [.int 5] σ else (if x1 = 48 then lj_D lc_P lc_M96 233 [.ref 6, .int x1] [] σ else (if x1 = 49 then lj_D lc_P lc_M96 233 [.ref 6, .int x1] [] σ else (if x1 = 50 then lj_D lc_P lc_M96 254 [.ref 6, .int x1] [.int 8] σ else (if x1 = 51 then lj_D lc_P lc_M96 253 [.ref 6, .int x1] [] σ else (if x1 = 52 then lj_D lc_P lc_M96 216 [.ref 6, .int x1] [] σ else (if x1 = 53 then lj_D lc_P lc_M96 216 [.ref 6, .int x1] [] σ else (if x1 = 54 then lj_D lc_P lc_M96 216 [.ref 6, .int x1] [] σ else (if x1 = 55 then lj_D lc_P lc_M96 216 [.ref 6, .int x1] [] σ else (if x1 = 56 then lj_D lc_P lc_M96 216 [.ref 6, .int x1] [] σ else (if x1 = 57 then lj_D lc_P lc_M96 216 [.ref 6, .int x1] [] σ else lj_D lc_P lc_M96 253 [.ref 6, .int x1] [] σ)))))))))))))))))))))))))))))))))))))))))))))))) := by rw [lj_D_eq]; rfl
set_option maxRecDepth 100000 in
set_option maxHeartbeats 4000000 in
theorem kc_96_216 (x1 : Int32) (σ : lj_S) : lj_D lc_P lc_M96 216 [.ref 6, .int x1] [] σ = lj_D lc_P lc_M96 254 [.ref 6, .int x1] [.int 3] σ := by rw [lj_D_eq]; rfl
set_option maxRecDepth 100000 in
set_option maxHeartbeats 4000000 in
theorem kc_96_233 (x1 : Int32) (σ : lj_S) : lj_D lc_P lc_M96 233 [.ref 6, .int x1] [] σ = lj_D lc_P lc_M96 254 [.ref 6, .int x1] [.int 7] σ := by rw [lj_D_eq]; rfl
set_option maxRecDepth 100000 in
set_option maxHeartbeats 4000000 in
theorem kc_96_243 (x1 : Int32) (σ : lj_S) : lj_D lc_P lc_M96 243 [.ref 6, .int x1] [] σ = lj_D lc_P lc_M96 254 [.ref 6, .int x1] [.int 9] σ := by rw [lj_D_eq]; rfl
set_option maxRecDepth 100000 in
set_option maxHeartbeats 4000000 in
theorem kc_96_248 (x1 : Int32) (σ : lj_S) : lj_D lc_P lc_M96 248 [.ref 6, .int x1] [] σ = lj_D lc_P lc_M96 254 [.ref 6, .int x1] [.int 10] σ := by rw [lj_D_eq]; rfl
set_option maxRecDepth 100000 in
set_option maxHeartbeats 4000000 in
theorem kc_96_253 (x1 : Int32) (σ : lj_S) : lj_D lc_P lc_M96 253 [.ref 6, .int x1] [] σ = lj_D lc_P lc_M96 254 [.ref 6, .int x1] [.int 0] σ := by rw [lj_D_eq]; rfl
set_option maxRecDepth 100000 in
set_option maxHeartbeats 4000000 in
theorem kc_96_254 (x1 : Int32) (x50 : Int32) (σ : lj_S) : lj_D lc_P lc_M96 254 [.ref 6, .int x1] [.int x50] σ = some (.inl (some (.int x50)), σ) := by rw [lj_D_eq]; rfl
-- TableTongue$Judge.operator()V
set_option maxRecDepth 100000 in
theorem rc_97  (σ : lj_S) : lj_R lc_P 97 [.ref 6] σ = lj_D lc_P lc_M97 0 [.ref 6, .retAddr 0, .retAddr 0, .retAddr 0, .retAddr 0] [] σ := lj_R_eq (nL := 5) (M := lc_M97) _ _ _ _ rfl rfl
set_option maxRecDepth 100000 in
set_option maxHeartbeats 4000000 in
theorem kc_97_0  (σ : lj_S) : lj_D lc_P lc_M97 0 [.ref 6, .retAddr 0, .retAddr 0, .retAddr 0, .retAddr 0] [] σ = lj_bi (lj_R lc_P 63 [.ref 6] σ) (fun y2 σ1 => lj_bi (lj_R lc_P 77 [.ref 6] σ1) (fun y4 σ3 => lj_bi (lj_R lc_P 96 [.ref 6, .int y2] σ3) (fun y6 σ5 => lj_bv (lj_R lc_P 67 [.ref 6] σ5) (fun σ7 => (if y2 = 10 then lj_D lc_P lc_M97 32 [.ref 6, .int y2, .int y4, .int y6, .retAddr 0] [] σ7 else (if y2 = 24 then lj_D lc_P lc_M97 32 [.ref 6, .int y2, .int y4, .int y6, .retAddr 0] [] σ7 else (if y2 = 50 then lj_D lc_P lc_M97 96 [.ref 6, .int y2, .int y4, .int y6, .retAddr 0] [.int (y6 - 1), .ref 6, .ref 6] σ7 else lj_D lc_P lc_M97 96 [.ref 6, .int y2, .int y4, .int y6, .retAddr 0] [.int y6, .ref 6, .ref 6] σ7)))) lj_up) lj_up) lj_up) lj_up := by rw [lj_D_eq]; rfl
set_option maxRecDepth 100000 in
set_option maxHeartbeats 4000000 in
theorem kc_97_32 (x1 : Int32) (x2 : Int32) (x3 : Int32) (σ : lj_S) : lj_D lc_P lc_M97 32 [.ref 6, .int x1, .int x2, .int x3, .retAddr 0] [] σ = (if x1 = 10 then lj_D lc_P lc_M97 52 [.ref 6, .int x1, .int x2, .int x3, .retAddr 0] [.int 32, .ref 5] σ else lj_D lc_P lc_M97 52 [.ref 6, .int x1, .int x2, .int x3, .retAddr 0] [.int 33, .ref 5] σ) := by rw [lj_D_eq]; rfl
set_option maxRecDepth 100000 in
set_option maxHeartbeats 4000000 in
theorem kc_97_52 (x1 : Int32) (x2 : Int32) (x3 : Int32) (x50 : Int32) (σ : lj_S) : lj_D lc_P lc_M97 52 [.ref 6, .int x1, .int x2, .int x3, .retAddr 0] [.int x50, .ref 5] σ = lj_bi (lj_R lc_P 54 [.ref 5, .int x50, .int 0, .int 0] σ) (fun y2 σ1 => lj_bi (lj_R lc_P 75 [.ref 6, .int x3] σ1) (fun y4 σ3 => lj_bv (lj_R lc_P 78 [.ref 6, .int y4] σ3) (fun σ5 => lj_bv (lj_R lc_P 57 [.ref 5, .int y2] σ5) (fun σ6 => some (.inl none, σ6)) lj_up) lj_up) lj_up) lj_up := by rw [lj_D_eq]; rfl
set_option maxRecDepth 100000 in
set_option maxHeartbeats 4000000 in
theorem kc_97_96 (x1 : Int32) (x2 : Int32) (x3 : Int32) (x50 : Int32) (σ : lj_S) : lj_D lc_P lc_M97 96 [.ref 6, .int x1, .int x2, .int x3, .retAddr 0] [.int x50, .ref 6, .ref 6] σ = lj_bi (lj_R lc_P 75 [.ref 6, .int x50] σ) (fun y2 σ1 => lj_bv (lj_R lc_P 78 [.ref 6, .int y2] σ1) (fun σ3 => lj_bi (lj_R lc_P 54 [.ref 5, .int 28, .int x1, .int x2] σ3) (fun y5 σ4 => some (.inl none, σ4)) lj_up) lj_up) lj_up := by rw [lj_D_eq]; rfl
-- TableTongue$Judge.enterLoop()V
set_option maxRecDepth 100000 in
theorem rc_98  (σ : lj_S) : lj_R lc_P 98 [.ref 6] σ = lj_D lc_P lc_M98 0 [.ref 6] [] σ := lj_R_eq (nL := 1) (M := lc_M98) _ _ _ _ rfl rfl
set_option maxRecDepth 100000 in
set_option maxHeartbeats 4000000 in
theorem kc_98_0  (σ : lj_S) : lj_D lc_P lc_M98 0 [.ref 6] [] σ = (if lj_in (σ.1 6 10) 22 then (if lj_in (σ.1 6 2) 51 then (if lj_in (σ.1 6 10) 22 then some (.inl none, (lj_put (lj_put (lj_put σ 50 ((σ.1 6 10).toNatClampNeg) (σ.1 6 2)) 51 ((σ.1 6 10).toNatClampNeg) ((σ.1 44 ((σ.1 6 2).toNatClampNeg)))) 6 10 ((σ.1 6 10) + 1))) else none) else none) else none) := by rw [lj_D_eq]; rfl
-- TableTongue$Judge.leaveLoop()V
set_option maxRecDepth 100000 in
theorem rc_99  (σ : lj_S) : lj_R lc_P 99 [.ref 6] σ = lj_D lc_P lc_M99 0 [.ref 6] [] σ := lj_R_eq (nL := 1) (M := lc_M99) _ _ _ _ rfl rfl
set_option maxRecDepth 100000 in
set_option maxHeartbeats 4000000 in
theorem kc_99_0  (σ : lj_S) : lj_D lc_P lc_M99 0 [.ref 6] [] σ = (if (σ.1 6 13) ≤ 0 then lj_D lc_P lc_M99 57 [.ref 6] [] σ else (if lj_in ((σ.1 6 13) - 1) 1502 then (if ((σ.1 53 (((σ.1 6 13) - 1).toNatClampNeg))) = (σ.1 6 10) then (if lj_in ((σ.1 6 13) - 1) 1502 then lj_bv (lj_R lc_P 57 [.ref 5, .int ((σ.1 52 (((σ.1 6 13) - 1).toNatClampNeg)))] (lj_put σ 6 13 ((σ.1 6 13) - 1))) (fun σ1 => lj_D lc_P lc_M99 0 [.ref 6] [] σ1) lj_up else none) else lj_D lc_P lc_M99 57 [.ref 6] [] σ) else none)) := by rw [lj_D_eq]; rfl
set_option maxRecDepth 100000 in
set_option maxHeartbeats 4000000 in
theorem kc_99_57  (σ : lj_S) : lj_D lc_P lc_M99 57 [.ref 6] [] σ = some (.inl none, (lj_put σ 6 10 ((σ.1 6 10) - 1))) := by rw [lj_D_eq]; rfl
-- TableTongue$Judge.repeatLoop()V
set_option maxRecDepth 100000 in
theorem rc_100  (σ : lj_S) : lj_R lc_P 100 [.ref 6] σ = lj_D lc_P lc_M100 0 [.ref 6, .retAddr 0, .retAddr 0, .retAddr 0, .retAddr 0] [] σ := lj_R_eq (nL := 5) (M := lc_M100) _ _ _ _ rfl rfl
set_option maxRecDepth 100000 in
set_option maxHeartbeats 4000000 in
theorem kc_100_0  (σ : lj_S) : lj_D lc_P lc_M100 0 [.ref 6, .retAddr 0, .retAddr 0, .retAddr 0, .retAddr 0] [] σ = lj_bv (lj_R lc_P 67 [.ref 6] σ) (fun σ1 => (if lj_in (σ1.1 6 2) 51 then lj_bv (lj_R lc_P 98 [.ref 6] σ1) (fun σ2 => lj_bv (lj_R lc_P 61 [.ref 6] σ2) (fun σ3 => lj_bv (lj_R lc_P 71 [.ref 6, .int 29] σ3) (fun σ4 => lj_bi (lj_R lc_P 54 [.ref 5, .int 0, .int 0, .int 0] σ4) (fun y6 σ5 => lj_bv (lj_R lc_P 73 [.ref 6] σ5) (fun σ7 => lj_bi (lj_R lc_P 54 [.ref 5, .int 31, .int 0, .int 0] σ7) (fun y9 σ8 => lj_bv (lj_R lc_P 70 [.ref 6, .int ((σ1.1 44 ((σ1.1 6 2).toNatClampNeg)))] σ8) (fun σ10 => lj_bi (lj_R lc_P 54 [.ref 5, .int 30, .int 0, .int 0] σ10) (fun y12 σ11 => lj_bv (lj_R lc_P 57 [.ref 5, .int y9] σ11) (fun σ13 => lj_bv (lj_R lc_P 70 [.ref 6, .int ((σ1.1 44 ((σ1.1 6 2).toNatClampNeg)))] σ13) (fun σ14 => lj_bi (lj_R lc_P 54 [.ref 5, .int 30, .int (σ1.1 5 0), .int 0] σ14) (fun y16 σ15 => lj_bv (lj_R lc_P 57 [.ref 5, .int y12] σ15) (fun σ17 => lj_D lc_P lc_M100 136 [.ref 6, .int (σ1.1 5 0), .int ((σ1.1 44 ((σ1.1 6 2).toNatClampNeg))), .int y9, .int y12] [] σ17) lj_up) lj_up) lj_up) lj_up) lj_up) lj_up) lj_up) lj_up) lj_up) lj_up) lj_up) lj_up else none)) lj_up := by rw [lj_D_eq]; rfl
set_option maxRecDepth 100000 in
set_option maxHeartbeats 4000000 in
theorem kc_100_136 (x1 : Int32) (x2 : Int32) (x3 : Int32) (x4 : Int32) (σ : lj_S) : lj_D lc_P lc_M100 136 [.ref 6, .int x1, .int x2, .int x3, .int x4] [] σ = (if lj_in (σ.1 6 2) 51 then (if ((σ.1 44 ((σ.1 6 2).toNatClampNeg))) ≤ x2 then lj_bv (lj_R lc_P 99 [.ref 6] σ) (fun σ1 => some (.inl none, σ1)) lj_up else (if lj_in (σ.1 6 2) 51 then (if lj_in (σ.1 6 2) 51 then (if lj_in (σ.1 6 2) 51 then (if lj_in (((σ.1 6 2) * 50) + (((lj_put σ 44 ((σ.1 6 2).toNatClampNeg) (((σ.1 44 ((σ.1 6 2).toNatClampNeg))) - 1)).1 44 ((σ.1 6 2).toNatClampNeg)))) 2550 then (if lj_in ((σ.1 47 ((((σ.1 6 2) * 50) + (((lj_put σ 44 ((σ.1 6 2).toNatClampNeg) (((σ.1 44 ((σ.1 6 2).toNatClampNeg))) - 1)).1 44 ((σ.1 6 2).toNatClampNeg)))).toNatClampNeg))) 4000 then lj_D lc_P lc_M100 136 [.ref 6, .int x1, .int x2, .int x3, .int x4] [] (lj_put (lj_put σ 44 ((σ.1 6 2).toNatClampNeg) (((σ.1 44 ((σ.1 6 2).toNatClampNeg))) - 1)) 40 (((σ.1 47 ((((σ.1 6 2) * 50) + (((lj_put σ 44 ((σ.1 6 2).toNatClampNeg) (((σ.1 44 ((σ.1 6 2).toNatClampNeg))) - 1)).1 44 ((σ.1 6 2).toNatClampNeg)))).toNatClampNeg))).toNatClampNeg) (σ.1 5 0)) else none) else none) else none) else none) else none)) else none) := by rw [lj_D_eq]; rfl
-- TableTongue$Judge.choice()V
set_option maxRecDepth 100000 in
theorem rc_101  (σ : lj_S) : lj_R lc_P 101 [.ref 6] σ = lj_D lc_P lc_M101 0 [.ref 6, .retAddr 0, .retAddr 0, .retAddr 0] [] σ := lj_R_eq (nL := 4) (M := lc_M101) _ _ _ _ rfl rfl
set_option maxRecDepth 100000 in
set_option maxHeartbeats 4000000 in
theorem kc_101_0  (σ : lj_S) : lj_D lc_P lc_M101 0 [.ref 6, .retAddr 0, .retAddr 0, .retAddr 0] [] σ = lj_D lc_P lc_M101 4 [.ref 6, .int (-1), .int 1, .retAddr 0] [] σ := by rw [lj_D_eq]; rfl
set_option maxRecDepth 100000 in
set_option maxHeartbeats 4000000 in
theorem kc_101_4 (x1 : Int32) (x2 : Int32) (x3 : Value) (σ : lj_S) : lj_D lc_P lc_M101 4 [.ref 6, .int x1, .int x2, x3] [] σ = (if x2 = 0 then lj_bi (lj_R lc_P 84 [.ref 6, .int 13] σ) (fun y2 σ1 => (if y2 = 0 then lj_D lc_P lc_M101 100 [.ref 6, .int x1, .int x2, x3] [] σ1 else lj_bv (lj_R lc_P 68 [.ref 6] σ1) (fun σ3 => lj_D lc_P lc_M101 100 [.ref 6, .int x1, .int x2, x3] [] σ3) lj_up)) lj_up else lj_bv (lj_R lc_P 67 [.ref 6] σ) (fun σ4 => lj_bv (lj_R lc_P 73 [.ref 6] σ4) (fun σ5 => lj_bi (lj_R lc_P 54 [.ref 5, .int 31, .int 0, .int 0] σ5) (fun y7 σ6 => lj_bv (lj_R lc_P 71 [.ref 6, .int 27] σ6) (fun σ8 => lj_bv (lj_R lc_P 68 [.ref 6] σ8) (fun σ9 => lj_bi (lj_R lc_P 55 [.ref 5, .int 30, .int 0, .int x1, .int 0, .int 0] σ9) (fun y11 σ10 => lj_bv (lj_R lc_P 57 [.ref 5, .int y7] σ10) (fun σ12 => lj_bi (lj_R lc_P 63 [.ref 6] σ12) (fun y14 σ13 => (if y14 = 14 then lj_D lc_P lc_M101 83 [.ref 6, .int y11, .int x2, .int y7] [.int 1] σ13 else lj_D lc_P lc_M101 83 [.ref 6, .int y11, .int x2, .int y7] [.int 0] σ13)) lj_up) lj_up) lj_up) lj_up) lj_up) lj_up) lj_up) lj_up) := by rw [lj_D_eq]; rfl
set_option maxRecDepth 100000 in
set_option maxHeartbeats 4000000 in
theorem kc_101_83 (x1 : Int32) (x2 : Int32) (x3 : Int32) (x50 : Int32) (σ : lj_S) : lj_D lc_P lc_M101 83 [.ref 6, .int x1, .int x2, .int x3] [.int x50] σ = lj_D lc_P lc_M101 4 [.ref 6, .int x1, .int x50, .int x3] [] σ := by rw [lj_D_eq]; rfl
set_option maxRecDepth 100000 in
set_option maxHeartbeats 4000000 in
theorem kc_101_100 (x1 : Int32) (x2 : Int32) (x3 : Value) (σ : lj_S) : lj_D lc_P lc_M101 100 [.ref 6, .int x1, .int x2, x3] [] σ = lj_bv (lj_R lc_P 71 [.ref 6, .int 15] σ) (fun σ1 => lj_D lc_P lc_M101 106 [.ref 6, .int x1, .int x2, x3] [] σ1) lj_up := by rw [lj_D_eq]; rfl
set_option maxRecDepth 100000 in
set_option maxHeartbeats 4000000 in
theorem kc_101_106 (x1 : Int32) (x2 : Int32) (x3 : Value) (σ : lj_S) : lj_D lc_P lc_M101 106 [.ref 6, .int x1, .int x2, x3] [] σ = (if x1 = (-1) then some (.inl none, σ) else (if lj_in x1 14000 then lj_bv (lj_R lc_P 57 [.ref 5, .int x1] σ) (fun σ1 => lj_D lc_P lc_M101 106 [.ref 6, .int (σ.1 24 x1.toNatClampNeg), .int x2, .int (σ.1 24 x1.toNatClampNeg)] [] σ1) lj_up else none)) := by rw [lj_D_eq]; rfl
-- TableTongue$Judge.forLoop()V
set_option maxRecDepth 100000 in
theorem rc_102  (σ : lj_S) : lj_R lc_P 102 [.ref 6] σ = lj_D lc_P lc_M102 0 [.ref 6, .retAddr 0, .retAddr 0, .retAddr 0] [] σ := lj_R_eq (nL := 4) (M := lc_M102) _ _ _ _ rfl rfl
set_option maxRecDepth 100000 in
set_option maxHeartbeats 4000000 in
theorem kc_102_0  (σ : lj_S) : lj_D lc_P lc_M102 0 [.ref 6, .retAddr 0, .retAddr 0, .retAddr 0] [] σ = lj_bi (lj_R lc_P 77 [.ref 6] σ) (fun y2 σ1 => lj_bv (lj_R lc_P 67 [.ref 6] σ1) (fun σ3 => lj_bi (lj_R lc_P 63 [.ref 6] σ3) (fun y5 σ4 => (if y5 = 1 then lj_bi (lj_R lc_P 82 [.ref 6, .int (σ4.1 6 0)] σ4) (fun y7 σ6 => lj_bv (lj_R lc_P 67 [.ref 6] σ6) (fun σ8 => lj_bi (lj_R lc_P 63 [.ref 6] σ8) (fun y10 σ9 => (if y10 = 58 then lj_bv (lj_R lc_P 103 [.ref 6, .int (σ4.1 6 0), .int y7, .int y2] σ9) (fun σ12 => lj_D lc_P lc_M102 63 [.ref 6, .int y2, .int (σ4.1 6 0), .int y7] [] σ12) lj_up else lj_bv (lj_R lc_P 105 [.ref 6, .int (σ4.1 6 0), .int y7] σ9) (fun σ11 => lj_D lc_P lc_M102 63 [.ref 6, .int y2, .int (σ4.1 6 0), .int y7] [] σ11) lj_up)) lj_up) lj_up) lj_up else lj_br (lj_R lc_P 65 [.ref 6, .int 2] σ4) (fun y14 σ13 => (bif Nat.blt y14 2000 then lj_up y14 σ13 else none)) lj_up)) lj_up) lj_up) lj_up := by rw [lj_D_eq]; rfl
set_option maxRecDepth 100000 in
set_option maxHeartbeats 4000000 in
theorem kc_102_63 (x1 : Int32) (x2 : Int32) (x3 : Int32) (σ : lj_S) : lj_D lc_P lc_M102 63 [.ref 6, .int x1, .int x2, .int x3] [] σ = some (.inl none, σ) := by rw [lj_D_eq]; rfl
-- TableTongue$Judge.countedLoop(III)V
set_option maxRecDepth 100000 in
theorem rc_103 (x1 : Int32) (x2 : Int32) (x3 : Int32) (σ : lj_S) : lj_R lc_P 103 [.ref 6, .int x1, .int x2, .int x3] σ = lj_D lc_P lc_M103 0 [.ref 6, .int x1, .int x2, .int x3, .retAddr 0, .retAddr 0, .retAddr 0, .retAddr 0, .retAddr 0] [] σ := lj_R_eq (nL := 9) (M := lc_M103) _ _ _ _ rfl rfl
set_option maxRecDepth 100000 in
set_option maxHeartbeats 4000000 in
theorem kc_103_0 (x1 : Int32) (x2 : Int32) (x3 : Int32) (σ : lj_S) : lj_D lc_P lc_M103 0 [.ref 6, .int x1, .int x2, .int x3, .retAddr 0, .retAddr 0, .retAddr 0, .retAddr 0, .retAddr 0] [] σ = lj_bv (lj_R lc_P 67 [.ref 6] σ) (fun σ1 => lj_bv (lj_R lc_P 73 [.ref 6] σ1) (fun σ2 => lj_bv (lj_R lc_P 71 [.ref 6, .int 68] σ2) (fun σ3 => lj_bv (lj_R lc_P 73 [.ref 6] σ3) (fun σ4 => lj_bi (lj_R lc_P 84 [.ref 6, .int 68] σ4) (fun y6 σ5 => (if y6 = 0 then (if lj_in (σ5.1 5 6) 1502 then lj_bi (lj_R lc_P 54 [.ref 5, .int 4, .int (σ5.1 5 6), .int 0] (lj_put (lj_putL σ5 27 ((σ5.1 5 6).toNatClampNeg) 1) 5 6 ((σ5.1 5 6) + 1))) (fun y8 σ7 => lj_D lc_P lc_M103 86 [.ref 6, .int x1, .int x2, .int x3, .retAddr 0, .retAddr 0, .retAddr 0, .retAddr 0, .retAddr 0] [] σ7) lj_up else none) else lj_bv (lj_R lc_P 73 [.ref 6] σ5) (fun σ9 => lj_D lc_P lc_M103 86 [.ref 6, .int x1, .int x2, .int x3, .retAddr 0, .retAddr 0, .retAddr 0, .retAddr 0, .retAddr 0] [] σ9) lj_up)) lj_up) lj_up) lj_up) lj_up) lj_up := by rw [lj_D_eq]; rfl
set_option maxRecDepth 100000 in
set_option maxHeartbeats 4000000 in
theorem kc_103_86 (x1 : Int32) (x2 : Int32) (x3 : Int32) (σ : lj_S) : lj_D lc_P lc_M103 86 [.ref 6, .int x1, .int x2, .int x3, .retAddr 0, .retAddr 0, .retAddr 0, .retAddr 0, .retAddr 0] [] σ = lj_bv (lj_R lc_P 71 [.ref 6, .int 12] σ) (fun σ1 => lj_bi (lj_R lc_P 104 [.ref 6] σ1) (fun y3 σ2 => (if lj_in (σ2.1 6 2) 51 then lj_bi (lj_R lc_P 54 [.ref 5, .int 35, .int y3, .int x3] σ2) (fun y5 σ4 => lj_bi (lj_R lc_P 54 [.ref 5, .int 0, .int 0, .int 0] σ4) (fun y7 σ6 => lj_bi (lj_R lc_P 55 [.ref 5, .int 36, .int y3, .int x2, .int 0, .int 0] σ6) (fun y9 σ8 => lj_bv (lj_R lc_P 98 [.ref 6] σ8) (fun σ10 => (if lj_in x1 1502 then lj_bv (lj_R lc_P 83 [.ref 6, .int (((σ10.2 21 x1.toNatClampNeg) : Int64).toInt32), .int x2] σ10) (fun σ11 => lj_bv (lj_R lc_P 61 [.ref 6] σ11) (fun σ12 => lj_bv (lj_R lc_P 69 [.ref 6, .int ((σ2.1 44 ((σ2.1 6 2).toNatClampNeg)))] σ12) (fun σ13 => lj_bi (lj_R lc_P 55 [.ref 5, .int 37, .int y3, .int y7, .int 0, .int 0] σ13) (fun y15 σ14 => lj_bv (lj_R lc_P 57 [.ref 5, .int y9] σ14) (fun σ16 => lj_bv (lj_R lc_P 99 [.ref 6] σ16) (fun σ17 => (if lj_in (σ17.1 6 2) 51 then (if lj_in (σ17.1 6 2) 51 then lj_bv (lj_R lc_P 71 [.ref 6, .int 15] (lj_put σ17 49 ((σ17.1 6 2).toNatClampNeg) (((σ17.1 49 ((σ17.1 6 2).toNatClampNeg))) - 1))) (fun σ18 => some (.inl none, σ18)) lj_up else none) else none)) lj_up) lj_up) lj_up) lj_up) lj_up) lj_up else none)) lj_up) lj_up) lj_up) lj_up else none)) lj_up) lj_up := by rw [lj_D_eq]; rfl
-- TableTongue$Judge.hide()I
set_option maxRecDepth 100000 in
theorem rc_104  (σ : lj_S) : lj_R lc_P 104 [.ref 6] σ = lj_D lc_P lc_M104 0 [.ref 6, .retAddr 0] [] σ := lj_R_eq (nL := 2) (M := lc_M104) _ _ _ _ rfl rfl
set_option maxRecDepth 100000 in
set_option maxHeartbeats 4000000 in
theorem kc_104_0  (σ : lj_S) : lj_D lc_P lc_M104 0 [.ref 6, .retAddr 0] [] σ = (if lj_in (σ.1 6 2) 51 then (if lj_in (σ.1 6 2) 51 then (if lj_in (σ.1 6 2) 51 then (if lj_in (σ.1 6 2) 51 then lj_bi (lj_R lc_P 223 [.int ((σ.1 32 ((σ.1 6 2).toNatClampNeg))), .int (((lj_put σ 49 ((σ.1 6 2).toNatClampNeg) (((σ.1 49 ((σ.1 6 2).toNatClampNeg))) + 1)).1 49 ((σ.1 6 2).toNatClampNeg)))] (lj_put σ 49 ((σ.1 6 2).toNatClampNeg) (((σ.1 49 ((σ.1 6 2).toNatClampNeg))) + 1))) (fun y2 σ1 => (if lj_in (σ.1 6 2) 51 then some (.inl (some (.int ((σ.1 49 ((σ.1 6 2).toNatClampNeg))))), (lj_put σ1 32 ((σ.1 6 2).toNatClampNeg) y2)) else none)) lj_up else none) else none) else none) else none) := by rw [lj_D_eq]; rfl
-- TableTongue$Judge.calledLoop(II)V
set_option maxRecDepth 100000 in
theorem rc_105 (x1 : Int32) (x2 : Int32) (σ : lj_S) : lj_R lc_P 105 [.ref 6, .int x1, .int x2] σ = lj_D lc_P lc_M105 0 [.ref 6, .int x1, .int x2, .retAddr 0, .retAddr 0, .retAddr 0, .retAddr 0, .retAddr 0, .retAddr 0, .retAddr 0, .retAddr 0, .retAddr 0, .retAddr 0] [] σ := lj_R_eq (nL := 13) (M := lc_M105) _ _ _ _ rfl rfl
set_option maxRecDepth 100000 in
set_option maxHeartbeats 4000000 in
theorem kc_105_0 (x1 : Int32) (x2 : Int32) (σ : lj_S) : lj_D lc_P lc_M105 0 [.ref 6, .int x1, .int x2, .retAddr 0, .retAddr 0, .retAddr 0, .retAddr 0, .retAddr 0, .retAddr 0, .retAddr 0, .retAddr 0, .retAddr 0, .retAddr 0] [] σ = (if lj_in (σ.1 6 2) 51 then lj_D lc_P lc_M105 13 [.ref 6, .int x1, .int x2, .int ((σ.1 44 ((σ.1 6 2).toNatClampNeg))), .int 1, .retAddr 0, .retAddr 0, .retAddr 0, .retAddr 0, .retAddr 0, .retAddr 0, .retAddr 0, .retAddr 0] [] σ else none) := by rw [lj_D_eq]; rfl
set_option maxRecDepth 100000 in
set_option maxHeartbeats 4000000 in
theorem kc_105_13 (x1 : Int32) (x2 : Int32) (x3 : Int32) (x4 : Int32) (x5 : Value) (σ : lj_S) : lj_D lc_P lc_M105 13 [.ref 6, .int x1, .int x2, .int x3, .int x4, x5, .retAddr 0, .retAddr 0, .retAddr 0, .retAddr 0, .retAddr 0, .retAddr 0, .retAddr 0] [] σ = lj_bi (lj_R lc_P 84 [.ref 6, .int 68] σ) (fun y2 σ1 => (if y2 = 0 then lj_bi (lj_R lc_P 77 [.ref 6] σ1) (fun y4 σ3 => lj_bv (lj_R lc_P 71 [.ref 6, .int 20] σ3) (fun σ5 => lj_bi (lj_R lc_P 54 [.ref 5, .int 15, .int 0, .int 0] σ5) (fun y7 σ6 => lj_bv (lj_R lc_P 95 [.ref 6, .int y4] σ6) (fun σ8 => lj_bi (lj_R lc_P 54 [.ref 5, .int 20, .int 3, .int y4] σ8) (fun y10 σ9 => lj_bv (lj_R lc_P 71 [.ref 6, .int 12] σ9) (fun σ11 => lj_bi (lj_R lc_P 104 [.ref 6] σ11) (fun y13 σ12 => lj_bi (lj_R lc_P 56 [.ref 5, .int (σ12.1 6 2), .int (1000 + (3 * y13))] σ12) (fun y15 σ14 => lj_bi (lj_R lc_P 56 [.ref 5, .int (σ14.1 6 2), .int (1001 + (3 * y13))] σ14) (fun y17 σ16 => lj_bi (lj_R lc_P 56 [.ref 5, .int (σ16.1 6 2), .int (1002 + (3 * y13))] σ16) (fun y19 σ18 => lj_bi (lj_R lc_P 55 [.ref 5, .int 35, .int y13, .int 1, .int 0, .int y4] σ18) (fun y21 σ20 => lj_bi (lj_R lc_P 54 [.ref 5, .int 0, .int 0, .int 0] σ20) (fun y23 σ22 => lj_bi (lj_R lc_P 54 [.ref 5, .int 38, .int y13, .int y4] σ22) (fun y25 σ24 => lj_bi (lj_R lc_P 54 [.ref 5, .int 16, .int 0, .int y4] σ24) (fun y27 σ26 => lj_bi (lj_R lc_P 55 [.ref 5, .int 20, .int x4, .int 1, .int 0, .int y4] σ26) (fun y29 σ28 => lj_bi (lj_R lc_P 55 [.ref 5, .int 39, .int x2, .int (x4 ||| (y13 <<< (8 &&& 31))), .int 0, .int 0] σ28) (fun y31 σ30 => lj_bv (lj_R lc_P 98 [.ref 6] σ30) (fun σ32 => lj_D lc_P lc_M105 307 [.ref 6, .int x1, .int x2, .int x3, .int x4, .int y4, .int y13, .int y15, .int y17, .int y19, .int y23, .int y31, .int 0] [] σ32) lj_up) lj_up) lj_up) lj_up) lj_up) lj_up) lj_up) lj_up) lj_up) lj_up) lj_up) lj_up) lj_up) lj_up) lj_up) lj_up) lj_up else lj_bi (lj_R lc_P 63 [.ref 6] σ1) (fun y34 σ33 => (if y34 = 1 then lj_bi (lj_R lc_P 82 [.ref 6, .int (σ33.1 6 0)] σ33) (fun y36 σ35 => lj_bv (lj_R lc_P 67 [.ref 6] σ35) (fun σ37 => lj_D lc_P lc_M105 13 [.ref 6, .int x1, .int x2, .int x3, .int (x4 + 1), .int y36, .retAddr 0, .retAddr 0, .retAddr 0, .retAddr 0, .retAddr 0, .retAddr 0, .retAddr 0] [] σ37) lj_up) lj_up else lj_br (lj_R lc_P 65 [.ref 6, .int 2] σ33) (fun y39 σ38 => (bif Nat.blt y39 2000 then lj_up y39 σ38 else none)) lj_up)) lj_up)) lj_up := by rw [lj_D_eq]; rfl
set_option maxRecDepth 100000 in
set_option maxHeartbeats 4000000 in
theorem kc_105_307 (x1 : Int32) (x2 : Int32) (x3 : Int32) (x4 : Int32) (x5 : Int32) (x6 : Int32) (x7 : Int32) (x8 : Int32) (x9 : Int32) (x10 : Int32) (x11 : Int32) (x12 : Int32) (σ : lj_S) : lj_D lc_P lc_M105 307 [.ref 6, .int x1, .int x2, .int x3, .int x4, .int x5, .int x6, .int x7, .int x8, .int x9, .int x10, .int x11, .int x12] [] σ = (if x4 ≤ x12 then lj_bv (lj_R lc_P 61 [.ref 6] σ) (fun σ1 => lj_bv (lj_R lc_P 69 [.ref 6, .int x3] σ1) (fun σ2 => lj_bi (lj_R lc_P 54 [.ref 5, .int 30, .int x10, .int 0] σ2) (fun y4 σ3 => lj_bv (lj_R lc_P 57 [.ref 5, .int x11] σ3) (fun σ5 => lj_bv (lj_R lc_P 99 [.ref 6] σ5) (fun σ6 => (if lj_in x7 4000 then (if lj_in x8 4000 then (if lj_in x9 4000 then (if lj_in (σ6.1 6 2) 51 then (if lj_in (σ6.1 6 2) 51 then lj_bv (lj_R lc_P 71 [.ref 6, .int 15] (lj_put (lj_put (lj_put (lj_put σ6 40 x7.toNatClampNeg (σ6.1 5 0)) 40 x8.toNatClampNeg (σ6.1 5 0)) 40 x9.toNatClampNeg (σ6.1 5 0)) 49 ((σ6.1 6 2).toNatClampNeg) (((σ6.1 49 ((σ6.1 6 2).toNatClampNeg))) - 1))) (fun σ7 => some (.inl none, σ7)) lj_up else none) else none) else none) else none) else none)) lj_up) lj_up) lj_up) lj_up) lj_up else (if lj_in (x1 + (2 * x12)) 1502 then lj_bv (lj_R lc_P 83 [.ref 6, .int ((((σ.2 21 ((x1 + (2 * x12)).toNatClampNeg))) : Int64).toInt32), .int (x2 + x12)] σ) (fun σ8 => lj_D lc_P lc_M105 307 [.ref 6, .int x1, .int x2, .int x3, .int x4, .int x5, .int x6, .int x7, .int x8, .int x9, .int x10, .int x11, .int (x12 + 1)] [] σ8) lj_up else none)) := by rw [lj_D_eq]; rfl
-- TableTongue$Judge.namedFunction()V
set_option maxRecDepth 100000 in
theorem rc_106  (σ : lj_S) : lj_R lc_P 106 [.ref 6] σ = lj_D lc_P lc_M106 0 [.ref 6, .retAddr 0, .retAddr 0, .retAddr 0, .retAddr 0] [] σ := lj_R_eq (nL := 5) (M := lc_M106) _ _ _ _ rfl rfl
set_option maxRecDepth 100000 in
set_option maxHeartbeats 4000000 in
theorem kc_106_0  (σ : lj_S) : lj_D lc_P lc_M106 0 [.ref 6, .retAddr 0, .retAddr 0, .retAddr 0, .retAddr 0] [] σ = lj_bv (lj_R lc_P 67 [.ref 6] σ) (fun σ1 => lj_bi (lj_R lc_P 63 [.ref 6] σ1) (fun y3 σ2 => (if y3 = 1 then lj_bi (lj_R lc_P 88 [.ref 6] σ2) (fun y5 σ4 => lj_D lc_P lc_M106 25 [.ref 6, .int y5, .int 0, .retAddr 0, .retAddr 0] [] σ4) lj_up else lj_br (lj_R lc_P 65 [.ref 6, .int 2] σ2) (fun y7 σ6 => (bif Nat.blt y7 2000 then lj_up y7 σ6 else none)) lj_up)) lj_up) lj_up := by rw [lj_D_eq]; rfl
set_option maxRecDepth 100000 in
set_option maxHeartbeats 4000000 in
theorem kc_106_25 (x1 : Int32) (x2 : Int32) (x3 : Value) (σ : lj_S) : lj_D lc_P lc_M106 25 [.ref 6, .int x1, .int x2, x3, .retAddr 0] [] σ = (if x2 = 0 then lj_bi (lj_R lc_P 63 [.ref 6] σ) (fun y2 σ1 => (if y2 = 69 then lj_D lc_P lc_M106 47 [.ref 6, .int x1, .int x2, x3, .retAddr 0] [] σ1 else lj_bi (lj_R lc_P 63 [.ref 6] σ1) (fun y4 σ3 => (if y4 = 67 then lj_D lc_P lc_M106 47 [.ref 6, .int x1, .int x2, x3, .retAddr 0] [] σ3 else lj_D lc_P lc_M106 122 [.ref 6, .int x1, .int x2, x3, .retAddr 0] [] σ3)) lj_up)) lj_up else lj_D lc_P lc_M106 122 [.ref 6, .int x1, .int x2, x3, .retAddr 0] [] σ) := by rw [lj_D_eq]; rfl
set_option maxRecDepth 100000 in
set_option maxHeartbeats 4000000 in
theorem kc_106_47 (x1 : Int32) (x2 : Int32) (x3 : Value) (σ : lj_S) : lj_D lc_P lc_M106 47 [.ref 6, .int x1, .int x2, x3, .retAddr 0] [] σ = lj_bv (lj_R lc_P 78 [.ref 6, .int x1] σ) (fun σ1 => lj_bi (lj_R lc_P 63 [.ref 6] σ1) (fun y3 σ2 => (if y3 = 67 then lj_D lc_P lc_M106 66 [.ref 6, .int x1, .int x2, x3, .retAddr 0] [.int 1] σ2 else lj_D lc_P lc_M106 66 [.ref 6, .int x1, .int x2, x3, .retAddr 0] [.int 0] σ2)) lj_up) lj_up := by rw [lj_D_eq]; rfl
set_option maxRecDepth 100000 in
set_option maxHeartbeats 4000000 in
theorem kc_106_66 (x1 : Int32) (x2 : Int32) (x3 : Value) (x50 : Int32) (σ : lj_S) : lj_D lc_P lc_M106 66 [.ref 6, .int x1, .int x2, x3, .retAddr 0] [.int x50] σ = lj_bi (lj_R lc_P 77 [.ref 6] σ) (fun y2 σ1 => lj_bv (lj_R lc_P 67 [.ref 6] σ1) (fun σ3 => lj_bi (lj_R lc_P 63 [.ref 6] σ3) (fun y5 σ4 => (if y5 = 1 then lj_bi (lj_R lc_P 80 [.ref 6] σ4) (fun y7 σ6 => lj_bi (lj_R lc_P 54 [.ref 5, .int 5, .int y7, .int 0] σ6) (fun y9 σ8 => lj_bv (lj_R lc_P 67 [.ref 6] σ8) (fun σ10 => lj_D lc_P lc_M106 25 [.ref 6, .int 6, .int x50, .int y2, .retAddr 0] [] (lj_put σ10 6 17 y2)) lj_up) lj_up) lj_up else lj_br (lj_R lc_P 65 [.ref 6, .int 2] σ4) (fun y12 σ11 => (bif Nat.blt y12 2000 then lj_up y12 σ11 else none)) lj_up)) lj_up) lj_up) lj_up := by rw [lj_D_eq]; rfl
set_option maxRecDepth 100000 in
set_option maxHeartbeats 4000000 in
theorem kc_106_122 (x1 : Int32) (x2 : Int32) (x3 : Value) (σ : lj_S) : lj_D lc_P lc_M106 122 [.ref 6, .int x1, .int x2, x3, .retAddr 0] [] σ = lj_bv (lj_R lc_P 81 [.ref 6, .int x2] σ) (fun σ1 => lj_bv (lj_R lc_P 107 [.ref 6, .int x1, .int 0] (lj_put (lj_put σ1 6 16 (σ.1 6 16)) 6 17 (σ.1 6 17))) (fun σ2 => (if x1 = 6 then lj_bi (lj_R lc_P 54 [.ref 5, .int 14, .int 2, .int 0] σ2) (fun y4 σ3 => lj_D lc_P lc_M106 176 [.ref 6, .int x1, .int x2, .int (σ.1 6 16), .int (σ.1 6 17)] [] σ3) lj_up else lj_D lc_P lc_M106 176 [.ref 6, .int x1, .int x2, .int (σ.1 6 16), .int (σ.1 6 17)] [] σ2)) lj_up) lj_up := by rw [lj_D_eq]; rfl
set_option maxRecDepth 100000 in
set_option maxHeartbeats 4000000 in
theorem kc_106_176 (x1 : Int32) (x2 : Int32) (x3 : Int32) (x4 : Int32) (σ : lj_S) : lj_D lc_P lc_M106 176 [.ref 6, .int x1, .int x2, .int x3, .int x4] [] σ = some (.inl none, σ) := by rw [lj_D_eq]; rfl
-- TableTongue$Judge.store(II)V
set_option maxRecDepth 100000 in
theorem rc_107 (x1 : Int32) (x2 : Int32) (σ : lj_S) : lj_R lc_P 107 [.ref 6, .int x1, .int x2] σ = lj_D lc_P lc_M107 0 [.ref 6, .int x1, .int x2] [] σ := lj_R_eq (nL := 3) (M := lc_M107) _ _ _ _ rfl rfl
set_option maxRecDepth 100000 in
set_option maxHeartbeats 4000000 in
theorem kc_107_0 (x1 : Int32) (x2 : Int32) (σ : lj_S) : lj_D lc_P lc_M107 0 [.ref 6, .int x1, .int x2] [] σ = (if x1 = 3 then lj_bi (lj_R lc_P 54 [.ref 5, .int 9, .int (σ.1 6 16), .int 0] σ) (fun y2 σ1 => lj_D lc_P lc_M107 112 [.ref 6, .int x1, .int x2] [] σ1) lj_up else (if x1 = 4 then lj_bi (lj_R lc_P 54 [.ref 5, .int 10, .int (σ.1 6 16), .int 0] σ) (fun y4 σ3 => lj_D lc_P lc_M107 112 [.ref 6, .int x1, .int x2] [] σ3) lj_up else (if x1 = 5 then lj_bi (lj_R lc_P 54 [.ref 5, .int 11, .int (σ.1 6 16), .int (σ.1 6 17)] σ) (fun y6 σ5 => lj_D lc_P lc_M107 112 [.ref 6, .int x1, .int x2] [] σ5) lj_up else lj_bi (lj_R lc_P 54 [.ref 5, .int 13, .int x2, .int (σ.1 6 17)] σ) (fun y8 σ7 => lj_D lc_P lc_M107 112 [.ref 6, .int x1, .int x2] [] σ7) lj_up))) := by rw [lj_D_eq]; rfl
set_option maxRecDepth 100000 in
set_option maxHeartbeats 4000000 in
theorem kc_107_112 (x1 : Int32) (x2 : Int32) (σ : lj_S) : lj_D lc_P lc_M107 112 [.ref 6, .int x1, .int x2] [] σ = some (.inl none, σ) := by rw [lj_D_eq]; rfl
-- TableTongue$Judge.locals()V
set_option maxRecDepth 100000 in
theorem rc_108  (σ : lj_S) : lj_R lc_P 108 [.ref 6] σ = lj_D lc_P lc_M108 0 [.ref 6, .retAddr 0, .retAddr 0, .retAddr 0, .retAddr 0, .retAddr 0, .retAddr 0] [] σ := lj_R_eq (nL := 7) (M := lc_M108) _ _ _ _ rfl rfl
set_option maxRecDepth 100000 in
set_option maxHeartbeats 4000000 in
theorem kc_108_0  (σ : lj_S) : lj_D lc_P lc_M108 0 [.ref 6, .retAddr 0, .retAddr 0, .retAddr 0, .retAddr 0, .retAddr 0, .retAddr 0] [] σ = lj_bv (lj_R lc_P 67 [.ref 6] σ) (fun σ1 => lj_bi (lj_R lc_P 84 [.ref 6, .int 18] σ1) (fun y3 σ2 => (if y3 = 0 then lj_D lc_P lc_M108 110 [.ref 6, .int (σ2.1 6 0), .int 0, .int 1, .retAddr 0, .retAddr 0, .retAddr 0] [] σ2 else lj_bi (lj_R lc_P 63 [.ref 6] σ2) (fun y5 σ4 => (if y5 = 1 then lj_bi (lj_R lc_P 80 [.ref 6] σ4) (fun y7 σ6 => lj_bi (lj_R lc_P 82 [.ref 6, .int (σ6.1 6 0)] σ6) (fun y9 σ8 => lj_bv (lj_R lc_P 67 [.ref 6] σ8) (fun σ10 => lj_bi (lj_R lc_P 54 [.ref 5, .int 1, .int 0, .int 0] σ10) (fun y12 σ11 => lj_bi (lj_R lc_P 54 [.ref 5, .int 9, .int y9, .int 0] σ11) (fun y14 σ13 => lj_bv (lj_R lc_P 83 [.ref 6, .int y7, .int y9] σ13) (fun σ15 => lj_bv (lj_R lc_P 81 [.ref 6, .int 0] σ15) (fun σ16 => lj_bi (lj_R lc_P 54 [.ref 5, .int 9, .int y9, .int 0] σ16) (fun y18 σ17 => some (.inl none, σ17)) lj_up) lj_up) lj_up) lj_up) lj_up) lj_up) lj_up) lj_up else lj_br (lj_R lc_P 65 [.ref 6, .int 2] σ4) (fun y20 σ19 => (bif Nat.blt y20 2000 then lj_up y20 σ19 else none)) lj_up)) lj_up)) lj_up) lj_up := by rw [lj_D_eq]; rfl
set_option maxRecDepth 100000 in
set_option maxHeartbeats 4000000 in
theorem kc_108_110 (x1 : Int32) (x2 : Int32) (x3 : Int32) (x4 : Value) (σ : lj_S) : lj_D lc_P lc_M108 110 [.ref 6, .int x1, .int x2, .int x3, x4, .retAddr 0, .retAddr 0] [] σ = (if x3 = 0 then lj_bi (lj_R lc_P 77 [.ref 6] σ) (fun y2 σ1 => lj_bi (lj_R lc_P 54 [.ref 5, .int 15, .int 0, .int 0] σ1) (fun y4 σ3 => lj_bi (lj_R lc_P 84 [.ref 6, .int 58] σ3) (fun y6 σ5 => (if y6 = 0 then lj_D lc_P lc_M108 191 [.ref 6, .int x1, .int x2, .int x3, .int y2, .retAddr 0, .retAddr 0] [] σ5 else lj_bv (lj_R lc_P 95 [.ref 6, .int y2] σ5) (fun σ7 => lj_D lc_P lc_M108 191 [.ref 6, .int x1, .int x2, .int x3, .int y2, .retAddr 0, .retAddr 0] [] σ7) lj_up)) lj_up) lj_up) lj_up else lj_bi (lj_R lc_P 63 [.ref 6] σ) (fun y9 σ8 => (if y9 = 1 then lj_bi (lj_R lc_P 82 [.ref 6, .int (σ8.1 6 0)] σ8) (fun y11 σ10 => lj_bv (lj_R lc_P 67 [.ref 6] σ10) (fun σ12 => lj_bi (lj_R lc_P 84 [.ref 6, .int 68] σ12) (fun y14 σ13 => lj_D lc_P lc_M108 110 [.ref 6, .int x1, .int (x2 + 1), .int y14, .int y11, .retAddr 0, .retAddr 0] [] σ13) lj_up) lj_up) lj_up else lj_br (lj_R lc_P 65 [.ref 6, .int 2] σ8) (fun y16 σ15 => (bif Nat.blt y16 2000 then lj_up y16 σ15 else none)) lj_up)) lj_up) := by rw [lj_D_eq]; rfl
set_option maxRecDepth 100000 in
set_option maxHeartbeats 4000000 in
theorem kc_108_191 (x1 : Int32) (x2 : Int32) (x3 : Int32) (x4 : Int32) (σ : lj_S) : lj_D lc_P lc_M108 191 [.ref 6, .int x1, .int x2, .int x3, .int x4, .retAddr 0, .retAddr 0] [] σ = lj_bi (lj_R lc_P 54 [.ref 5, .int 20, .int x2, .int x4] σ) (fun y2 σ1 => (if lj_in (σ1.1 6 2) 51 then lj_D lc_P lc_M108 231 [.ref 6, .int x1, .int x2, .int x3, .int x4, .int (((σ1.1 31 ((σ1.1 6 2).toNatClampNeg))) - x2), .int (x2 - 1)] [] σ1 else none)) lj_up := by rw [lj_D_eq]; rfl
set_option maxRecDepth 100000 in
set_option maxHeartbeats 4000000 in
theorem kc_108_231 (x1 : Int32) (x2 : Int32) (x3 : Int32) (x4 : Int32) (x5 : Int32) (x6 : Int32) (σ : lj_S) : lj_D lc_P lc_M108 231 [.ref 6, .int x1, .int x2, .int x3, .int x4, .int x5, .int x6] [] σ = (if x6 < 0 then lj_D lc_P lc_M108 264 [.ref 6, .int x1, .int x2, .int x3, .int x4, .int x5, .int 0] [] σ else lj_bi (lj_R lc_P 54 [.ref 5, .int 9, .int (x5 + x6), .int 0] σ) (fun y2 σ1 => lj_D lc_P lc_M108 231 [.ref 6, .int x1, .int x2, .int x3, .int x4, .int x5, .int (x6 + (-1))] [] σ1) lj_up) := by rw [lj_D_eq]; rfl
set_option maxRecDepth 100000 in
set_option maxHeartbeats 4000000 in
theorem kc_108_264 (x1 : Int32) (x2 : Int32) (x3 : Int32) (x4 : Int32) (x5 : Int32) (x6 : Int32) (σ : lj_S) : lj_D lc_P lc_M108 264 [.ref 6, .int x1, .int x2, .int x3, .int x4, .int x5, .int x6] [] σ = (if x2 ≤ x6 then some (.inl none, σ) else (if lj_in (x1 + (2 * x6)) 1502 then lj_bv (lj_R lc_P 83 [.ref 6, .int ((((σ.2 21 ((x1 + (2 * x6)).toNatClampNeg))) : Int64).toInt32), .int (x5 + x6)] σ) (fun σ1 => lj_D lc_P lc_M108 264 [.ref 6, .int x1, .int x2, .int x3, .int x4, .int x5, .int (x6 + 1)] [] σ1) lj_up else none)) := by rw [lj_D_eq]; rfl
-- TableTongue$Judge.leave()V
set_option maxRecDepth 100000 in
theorem rc_109  (σ : lj_S) : lj_R lc_P 109 [.ref 6] σ = lj_D lc_P lc_M109 0 [.ref 6] [] σ := lj_R_eq (nL := 1) (M := lc_M109) _ _ _ _ rfl rfl
set_option maxRecDepth 100000 in
set_option maxHeartbeats 4000000 in
theorem kc_109_0  (σ : lj_S) : lj_D lc_P lc_M109 0 [.ref 6] [] σ = (if (σ.1 6 10) = 0 then lj_D lc_P lc_M109 25 [.ref 6] [] σ else (if lj_in ((σ.1 6 10) - 1) 22 then (if ((σ.1 50 (((σ.1 6 10) - 1).toNatClampNeg))) = (σ.1 6 2) then (if lj_in ((σ.1 6 10) - 1) 22 then lj_bv (lj_R lc_P 70 [.ref 6, .int ((σ.1 51 (((σ.1 6 10) - 1).toNatClampNeg)))] σ) (fun σ1 => (if lj_in (σ1.1 6 13) 1502 then lj_bi (lj_R lc_P 54 [.ref 5, .int 30, .int 0, .int 0] (lj_put σ1 53 ((σ1.1 6 13).toNatClampNeg) (σ1.1 6 10))) (fun y3 σ2 => (if lj_in (σ1.1 6 13) 1502 then lj_bv (lj_R lc_P 67 [.ref 6] (lj_put (lj_put σ2 52 ((σ1.1 6 13).toNatClampNeg) y3) 6 13 ((σ2.1 6 13) + 1))) (fun σ4 => some (.inl none, σ4)) lj_up else none)) lj_up else none)) lj_up else none) else lj_D lc_P lc_M109 25 [.ref 6] [] σ) else none)) := by rw [lj_D_eq]; rfl
set_option maxRecDepth 100000 in
set_option maxHeartbeats 4000000 in
theorem kc_109_25  (σ : lj_S) : lj_D lc_P lc_M109 25 [.ref 6] [] σ = (if (σ.1 6 0) = 1500 then lj_D lc_P lc_M109 41 [.ref 6] [.int 3, .ref 6] σ else lj_D lc_P lc_M109 41 [.ref 6] [.int 4, .ref 6] σ) := by rw [lj_D_eq]; rfl
set_option maxRecDepth 100000 in
set_option maxHeartbeats 4000000 in
theorem kc_109_41 (x50 : Int32) (σ : lj_S) : lj_D lc_P lc_M109 41 [.ref 6] [.int x50, .ref 6] σ = lj_br (lj_R lc_P 65 [.ref 6, .int x50] σ) (fun y2 σ1 => (bif Nat.blt y2 2000 then lj_up y2 σ1 else none)) lj_up := by rw [lj_D_eq]; rfl
-- TableTongue$Judge.assignOrCall()V
set_option maxRecDepth 100000 in
theorem rc_110  (σ : lj_S) : lj_R lc_P 110 [.ref 6] σ = lj_D lc_P lc_M110 0 [.ref 6, .retAddr 0, .retAddr 0, .retAddr 0, .retAddr 0, .retAddr 0, .retAddr 0, .retAddr 0, .retAddr 0] [] σ := lj_R_eq (nL := 9) (M := lc_M110) _ _ _ _ rfl rfl
set_option maxRecDepth 100000 in
set_option maxHeartbeats 4000000 in
theorem kc_110_0  (σ : lj_S) : lj_D lc_P lc_M110 0 [.ref 6, .retAddr 0, .retAddr 0, .retAddr 0, .retAddr 0, .retAddr 0, .retAddr 0, .retAddr 0, .retAddr 0] [] σ = lj_bi (lj_R lc_P 87 [.ref 6] σ) (fun y2 σ1 => (if y2 = 1 then lj_bi (lj_R lc_P 63 [.ref 6] σ1) (fun y4 σ3 => (if y4 = 58 then lj_D lc_P lc_M110 44 [.ref 6, .int y2, .retAddr 0, .retAddr 0, .retAddr 0, .retAddr 0, .retAddr 0, .retAddr 0, .retAddr 0] [] σ3 else lj_bi (lj_R lc_P 63 [.ref 6] σ3) (fun y6 σ5 => (if y6 = 68 then lj_D lc_P lc_M110 44 [.ref 6, .int y2, .retAddr 0, .retAddr 0, .retAddr 0, .retAddr 0, .retAddr 0, .retAddr 0, .retAddr 0] [] σ5 else lj_bi (lj_R lc_P 54 [.ref 5, .int 19, .int 0, .int 0] σ5) (fun y8 σ7 => some (.inl none, σ7)) lj_up)) lj_up)) lj_up else lj_D lc_P lc_M110 44 [.ref 6, .int y2, .retAddr 0, .retAddr 0, .retAddr 0, .retAddr 0, .retAddr 0, .retAddr 0, .retAddr 0] [] σ1)) lj_up := by rw [lj_D_eq]; rfl
set_option maxRecDepth 100000 in
set_option maxHeartbeats 4000000 in
theorem kc_110_44 (x1 : Int32) (σ : lj_S) : lj_D lc_P lc_M110 44 [.ref 6, .int x1, .retAddr 0, .retAddr 0, .retAddr 0, .retAddr 0, .retAddr 0, .retAddr 0, .retAddr 0] [] σ = lj_bi (lj_R lc_P 63 [.ref 6] σ) (fun y2 σ1 => (if y2 = 58 then lj_D lc_P lc_M110 62 [.ref 6, .int x1, .retAddr 0, .retAddr 0, .retAddr 0, .retAddr 0, .retAddr 0, .retAddr 0, .retAddr 0] [] σ1 else lj_bi (lj_R lc_P 63 [.ref 6] σ1) (fun y4 σ3 => (if y4 = 68 then lj_D lc_P lc_M110 62 [.ref 6, .int x1, .retAddr 0, .retAddr 0, .retAddr 0, .retAddr 0, .retAddr 0, .retAddr 0, .retAddr 0] [] σ3 else lj_D lc_P lc_M110 67 [.ref 6, .int x1, .retAddr 0, .retAddr 0, .retAddr 0, .retAddr 0, .retAddr 0, .retAddr 0, .retAddr 0] [] σ3)) lj_up)) lj_up := by rw [lj_D_eq]; rfl
set_option maxRecDepth 100000 in
set_option maxHeartbeats 4000000 in
theorem kc_110_62 (x1 : Int32) (σ : lj_S) : lj_D lc_P lc_M110 62 [.ref 6, .int x1, .retAddr 0, .retAddr 0, .retAddr 0, .retAddr 0, .retAddr 0, .retAddr 0, .retAddr 0] [] σ = (if 3 ≤ x1 then lj_D lc_P lc_M110 83 [.ref 6, .int x1, .int (σ.1 6 18), .int 0, .int 1, .retAddr 0, .retAddr 0, .retAddr 0, .retAddr 0] [] σ else lj_D lc_P lc_M110 67 [.ref 6, .int x1, .retAddr 0, .retAddr 0, .retAddr 0, .retAddr 0, .retAddr 0, .retAddr 0, .retAddr 0] [] σ) := by rw [lj_D_eq]; rfl
set_option maxRecDepth 100000 in
set_option maxHeartbeats 4000000 in
theorem kc_110_67 (x1 : Int32) (σ : lj_S) : lj_D lc_P lc_M110 67 [.ref 6, .int x1, .retAddr 0, .retAddr 0, .retAddr 0, .retAddr 0, .retAddr 0, .retAddr 0, .retAddr 0] [] σ = lj_br (lj_R lc_P 65 [.ref 6, .int 2] σ) (fun y2 σ1 => (bif Nat.blt y2 2000 then lj_up y2 σ1 else none)) lj_up := by rw [lj_D_eq]; rfl
set_option maxRecDepth 100000 in
set_option maxHeartbeats 4000000 in
theorem kc_110_83 (x1 : Int32) (x2 : Int32) (x3 : Int32) (x4 : Int32) (σ : lj_S) : lj_D lc_P lc_M110 83 [.ref 6, .int x1, .int x2, .int x3, .int x4, .retAddr 0, .retAddr 0, .retAddr 0, .retAddr 0] [] σ = (if x4 = 0 then lj_bi (lj_R lc_P 77 [.ref 6] σ) (fun y2 σ1 => lj_bv (lj_R lc_P 71 [.ref 6, .int 58] σ1) (fun σ3 => lj_bi (lj_R lc_P 54 [.ref 5, .int 15, .int 0, .int 0] σ3) (fun y5 σ4 => lj_bv (lj_R lc_P 95 [.ref 6, .int y2] σ4) (fun σ6 => lj_bi (lj_R lc_P 54 [.ref 5, .int 20, .int x3, .int y2] σ6) (fun y8 σ7 => lj_D lc_P lc_M110 250 [.ref 6, .int x1, .int x2, .int x3, .int x4, .int y2, .int 0, .int 0, .retAddr 0] [] σ7) lj_up) lj_up) lj_up) lj_up) lj_up else (if lj_in (x2 + x3) 401 then (if lj_in (x2 + x3) 401 then (if lj_in (x2 + x3) 401 then lj_bi (lj_R lc_P 84 [.ref 6, .int 68] (lj_put (lj_put (lj_put (lj_put σ 54 ((x2 + x3).toNatClampNeg) x1) 55 ((x2 + x3).toNatClampNeg) (σ.1 6 16)) 56 ((x2 + x3).toNatClampNeg) (σ.1 6 17)) 6 18 (x2 + (x3 + 1)))) (fun y10 σ9 => (if y10 = 0 then lj_D lc_P lc_M110 83 [.ref 6, .int x1, .int x2, .int (x3 + 1), .int y10, .retAddr 0, .retAddr 0, .retAddr 0, .retAddr 0] [] σ9 else lj_bi (lj_R lc_P 63 [.ref 6] σ9) (fun y12 σ11 => (if y12 = 1 then lj_D lc_P lc_M110 167 [.ref 6, .int x1, .int x2, .int (x3 + 1), .int y10, .retAddr 0, .retAddr 0, .retAddr 0, .retAddr 0] [] σ11 else lj_bi (lj_R lc_P 63 [.ref 6] σ11) (fun y14 σ13 => (if y14 = 60 then lj_D lc_P lc_M110 167 [.ref 6, .int x1, .int x2, .int (x3 + 1), .int y10, .retAddr 0, .retAddr 0, .retAddr 0, .retAddr 0] [] σ13 else lj_br (lj_R lc_P 65 [.ref 6, .int 2] σ13) (fun y16 σ15 => (bif Nat.blt y16 2000 then lj_up y16 σ15 else none)) lj_up)) lj_up)) lj_up)) lj_up else none) else none) else none)) := by rw [lj_D_eq]; rfl
set_option maxRecDepth 100000 in
set_option maxHeartbeats 4000000 in
theorem kc_110_167 (x1 : Int32) (x2 : Int32) (x3 : Int32) (x4 : Int32) (σ : lj_S) : lj_D lc_P lc_M110 167 [.ref 6, .int x1, .int x2, .int x3, .int x4, .retAddr 0, .retAddr 0, .retAddr 0, .retAddr 0] [] σ = (if x3 = 20 then lj_br (lj_R lc_P 65 [.ref 6, .int 3] σ) (fun y6 σ5 => (bif Nat.blt y6 2000 then lj_up y6 σ5 else none)) lj_up else lj_bi (lj_R lc_P 87 [.ref 6] σ) (fun y2 σ1 => (if 3 ≤ y2 then lj_D lc_P lc_M110 83 [.ref 6, .int y2, .int x2, .int x3, .int x4, .retAddr 0, .retAddr 0, .retAddr 0, .retAddr 0] [] σ1 else lj_br (lj_R lc_P 65 [.ref 6, .int 2] σ1) (fun y4 σ3 => (bif Nat.blt y4 2000 then lj_up y4 σ3 else none)) lj_up)) lj_up) := by rw [lj_D_eq]; rfl
set_option maxRecDepth 100000 in
set_option maxHeartbeats 4000000 in
theorem kc_110_250 (x1 : Int32) (x2 : Int32) (x3 : Int32) (x4 : Int32) (x5 : Int32) (x6 : Int32) (x7 : Int32) (σ : lj_S) : lj_D lc_P lc_M110 250 [.ref 6, .int x1, .int x2, .int x3, .int x4, .int x5, .int x6, .int x7, .retAddr 0] [] σ = (if x3 ≤ x7 then lj_D lc_P lc_M110 294 [.ref 6, .int x1, .int x2, .int x3, .int x4, .int x5, .int x6, .int 0, .int (x3 - 1)] [] σ else (if lj_in (x2 + x7) 401 then (if ((σ.1 54 ((x2 + x7).toNatClampNeg))) = 6 then lj_D lc_P lc_M110 277 [.ref 6, .int x1, .int x2, .int x3, .int x4, .int x5, .int x6, .int x7, .retAddr 0] [.int 1, .int x6] σ else lj_D lc_P lc_M110 277 [.ref 6, .int x1, .int x2, .int x3, .int x4, .int x5, .int x6, .int x7, .retAddr 0] [.int 0, .int x6] σ) else none)) := by rw [lj_D_eq]; rfl
set_option maxRecDepth 100000 in
set_option maxHeartbeats 4000000 in
theorem kc_110_277 (x1 : Int32) (x2 : Int32) (x3 : Int32) (x4 : Int32) (x5 : Int32) (x6 : Int32) (x7 : Int32) (x50 : Int32) (x51 : Int32) (σ : lj_S) : lj_D lc_P lc_M110 277 [.ref 6, .int x1, .int x2, .int x3, .int x4, .int x5, .int x6, .int x7, .retAddr 0] [.int x50, .int x51] σ = lj_D lc_P lc_M110 250 [.ref 6, .int x1, .int x2, .int x3, .int x4, .int x5, .int (x51 + x50), .int (x7 + 1), .retAddr 0] [] σ := by rw [lj_D_eq]; rfl
set_option maxRecDepth 100000 in
set_option maxHeartbeats 4000000 in
theorem kc_110_294 (x1 : Int32) (x2 : Int32) (x3 : Int32) (x4 : Int32) (x5 : Int32) (x6 : Int32) (x7 : Int32) (x8 : Int32) (σ : lj_S) : lj_D lc_P lc_M110 294 [.ref 6, .int x1, .int x2, .int x3, .int x4, .int x5, .int x6, .int x7, .int x8] [] σ = (if x8 < 0 then (if x6 ≤ 0 then lj_D lc_P lc_M110 400 [.ref 6, .int x1, .int x2, .int x3, .int x4, .int x5, .int x6, .int x7, .int x8] [] σ else lj_bi (lj_R lc_P 54 [.ref 5, .int 14, .int (2 * x6), .int 0] σ) (fun y2 σ1 => lj_D lc_P lc_M110 400 [.ref 6, .int x1, .int x2, .int x3, .int x4, .int x5, .int x6, .int x7, .int x8] [] σ1) lj_up) else (if lj_in (x2 + x8) 401 then (if ((σ.1 54 ((x2 + x8).toNatClampNeg))) = 6 then lj_D lc_P lc_M110 320 [.ref 6, .int x1, .int x2, .int x3, .int x4, .int x5, .int x6, .int x7, .int x8] [.int 1, .int x7] σ else lj_D lc_P lc_M110 320 [.ref 6, .int x1, .int x2, .int x3, .int x4, .int x5, .int x6, .int x7, .int x8] [.int 0, .int x7] σ) else none)) := by rw [lj_D_eq]; rfl
set_option maxRecDepth 100000 in
set_option maxHeartbeats 4000000 in
theorem kc_110_320 (x1 : Int32) (x2 : Int32) (x3 : Int32) (x4 : Int32) (x5 : Int32) (x6 : Int32) (x7 : Int32) (x8 : Int32) (x50 : Int32) (x51 : Int32) (σ : lj_S) : lj_D lc_P lc_M110 320 [.ref 6, .int x1, .int x2, .int x3, .int x4, .int x5, .int x6, .int x7, .int x8] [.int x50, .int x51] σ = (if lj_in (x2 + x8) 401 then (if lj_in (x2 + x8) 401 then (if lj_in (x2 + x8) 401 then lj_bv (lj_R lc_P 107 [.ref 6, .int ((σ.1 54 ((x2 + x8).toNatClampNeg))), .int ((2 * ((x51 + x50) - 1)) + x8)] (lj_put (lj_put σ 6 16 ((σ.1 55 ((x2 + x8).toNatClampNeg)))) 6 17 ((σ.1 56 ((x2 + x8).toNatClampNeg))))) (fun σ1 => lj_D lc_P lc_M110 294 [.ref 6, .int x1, .int x2, .int x3, .int x4, .int x5, .int x6, .int (x51 + x50), .int (x8 + (-1))] [] σ1) lj_up else none) else none) else none) := by rw [lj_D_eq]; rfl
set_option maxRecDepth 100000 in
set_option maxHeartbeats 4000000 in
theorem kc_110_400 (x1 : Int32) (x2 : Int32) (x3 : Int32) (x4 : Int32) (x5 : Int32) (x6 : Int32) (x7 : Int32) (x8 : Int32) (σ : lj_S) : lj_D lc_P lc_M110 400 [.ref 6, .int x1, .int x2, .int x3, .int x4, .int x5, .int x6, .int x7, .int x8] [] σ = some (.inl none, (lj_put σ 6 18 x2)) := by rw [lj_D_eq]; rfl
