-- TableTongue$Heap.clear()V
set_option maxRecDepth 100000 in
theorem rc_111  (σ : lj_S) : lj_R lc_P 111 [.ref 7] σ = lj_D lc_P lc_M111 0 [.ref 7, .retAddr 0] [] σ := lj_R_eq (nL := 2) (M := lc_M111) _ _ _ _ rfl rfl
set_option maxRecDepth 100000 in
set_option maxHeartbeats 4000000 in
theorem kc_111_0  (σ : lj_S) : lj_D lc_P lc_M111 0 [.ref 7, .retAddr 0] [] σ = lj_D lc_P lc_M111 32 [.ref 7, .int 0] [] (lj_put (lj_put (lj_put (lj_put (lj_put (lj_put σ 7 0 0) 7 1 0) 7 21 0) 7 25 0) 7 11 0) 7 12 0) := by rw [lj_D_eq]; rfl
set_option maxRecDepth 100000 in
set_option maxHeartbeats 4000000 in
theorem kc_111_32 (x1 : Int32) (σ : lj_S) : lj_D lc_P lc_M111 32 [.ref 7, .int x1] [] σ = (if 3000 ≤ x1 then lj_D lc_P lc_M111 69 [.ref 7, .int 0] [] σ else (if 3000 ≤ (x1 + 1) then lj_D lc_P lc_M111 60 [.ref 7, .int x1] [.int (-1), .int x1, .ref 70] σ else lj_D lc_P lc_M111 60 [.ref 7, .int x1] [.int (x1 + 1), .int x1, .ref 70] σ)) := by rw [lj_D_eq]; rfl
set_option maxRecDepth 100000 in
set_option maxHeartbeats 4000000 in
theorem kc_111_60 (x1 : Int32) (x50 : Int32) (x51 : Int32) (σ : lj_S) : lj_D lc_P lc_M111 60 [.ref 7, .int x1] [.int x50, .int x51, .ref 70] σ = (if lj_in x51 3000 then lj_D lc_P lc_M111 32 [.ref 7, .int (x1 + 1)] [] (lj_put σ 70 x51.toNatClampNeg x50) else none) := by rw [lj_D_eq]; rfl
set_option maxRecDepth 100000 in
set_option maxHeartbeats 4000000 in
theorem kc_111_69 (x1 : Int32) (σ : lj_S) : lj_D lc_P lc_M111 69 [.ref 7, .int x1] [] σ = (if 4096 ≤ x1 then lj_bv (lj_R lc_P 112 [.ref 7, .int 0] σ) (fun σ1 => some (.inl none, σ1)) lj_up else (if lj_in x1 4096 then lj_D lc_P lc_M111 69 [.ref 7, .int (x1 + 1)] [] (lj_put σ 73 x1.toNatClampNeg (-1)) else none)) := by rw [lj_D_eq]; rfl
-- TableTongue$Heap.beTable(I)V
set_option maxRecDepth 100000 in
theorem rc_112 (x1 : Int32) (σ : lj_S) : lj_R lc_P 112 [.ref 7, .int x1] σ = lj_D lc_P lc_M112 0 [.ref 7, .int x1] [] σ := lj_R_eq (nL := 2) (M := lc_M112) _ _ _ _ rfl rfl
set_option maxRecDepth 100000 in
set_option maxHeartbeats 4000000 in
theorem kc_112_0 (x1 : Int32) (σ : lj_S) : lj_D lc_P lc_M112 0 [.ref 7, .int x1] [] σ = (if lj_in x1 2001 then (if lj_in x1 2001 then (if lj_in x1 2001 then (if lj_in x1 2001 then (if lj_in x1 2001 then (if lj_in x1 2001 then some (.inl none, (lj_put (lj_put (lj_put (lj_put (lj_put (lj_put σ 57 x1.toNatClampNeg 4) 58 x1.toNatClampNeg (-1)) 59 x1.toNatClampNeg (-1)) 60 x1.toNatClampNeg (-1)) 61 x1.toNatClampNeg 0) 65 x1.toNatClampNeg (vp_nar .boolean 0))) else none) else none) else none) else none) else none) else none) := by rw [lj_D_eq]; rfl
-- TableTongue$Heap.set(IIJIJ)V
set_option maxRecDepth 100000 in
theorem rc_113 (x1 : Int32) (x2 : Int32) (x3 : Int64) (x4 : Int32) (x5 : Int64) (σ : lj_S) : lj_R lc_P 113 [.ref 7, .int x1, .int x2, .long x3, .int x4, .long x5] σ = lj_D lc_P lc_M113 0 [.ref 7, .int x1, .int x2, .long x3, .retAddr 0, .int x4, .long x5, .retAddr 0, .retAddr 0, .retAddr 0] [] σ := lj_R_eq (nL := 10) (M := lc_M113) _ _ _ _ rfl rfl
set_option maxRecDepth 100000 in
set_option maxHeartbeats 4000000 in
theorem kc_113_0 (x1 : Int32) (x2 : Int32) (x3 : Int64) (x5 : Int32) (x6 : Int64) (σ : lj_S) : lj_D lc_P lc_M113 0 [.ref 7, .int x1, .int x2, .long x3, .retAddr 0, .int x5, .long x6, .retAddr 0, .retAddr 0, .retAddr 0] [] σ = lj_bi (lj_R lc_P 114 [.ref 7, .int x1, .int x2, .long x3] σ) (fun y2 σ1 => (if 0 ≤ y2 then lj_D lc_P lc_M113 181 [.ref 7, .int x1, .int x2, .long x3, .retAddr 0, .int x5, .long x6, .retAddr 0, .int y2, .retAddr 0] [] σ1 else (if x5 = 0 then some (.inl none, σ1) else (if 0 ≤ (σ1.1 7 12) then (if lj_in (σ1.1 7 12) 3000 then lj_bi (lj_R lc_P 115 [.ref 7, .int x1, .int x2, .long x3] (lj_put (lj_put σ1 7 12 ((σ1.1 70 ((σ1.1 7 12).toNatClampNeg)))) 7 11 ((σ1.1 7 11) + 1))) (fun y4 σ3 => (if lj_in (σ1.1 7 12) 3000 then (if lj_in (σ1.1 7 12) 3000 then (if lj_in (σ1.1 7 12) 3000 then (if lj_in y4 4096 then (if lj_in (σ1.1 7 12) 3000 then (if lj_in y4 4096 then (if lj_in (σ1.1 7 12) 3000 then (if lj_in x1 2001 then (if 0 ≤ (σ3.1 60 x1.toNatClampNeg) then (if lj_in x1 2001 then (if lj_in (σ3.1 60 x1.toNatClampNeg) 3000 then lj_D lc_P lc_M113 163 [.ref 7, .int x1, .int x2, .long x3, .retAddr 0, .int x5, .long x6, .retAddr 0, .int (σ1.1 7 12), .int y4] [] (lj_put (lj_put (lj_put (lj_put (lj_putL (lj_put (lj_put σ3 71 ((σ1.1 7 12).toNatClampNeg) x1) 66 ((σ1.1 7 12).toNatClampNeg) x2) 67 ((σ1.1 7 12).toNatClampNeg) x3) 72 ((σ1.1 7 12).toNatClampNeg) (σ3.1 73 y4.toNatClampNeg)) 73 y4.toNatClampNeg (σ1.1 7 12)) 70 ((σ1.1 7 12).toNatClampNeg) (-1)) 70 ((σ3.1 60 x1.toNatClampNeg).toNatClampNeg) (σ1.1 7 12)) else none) else none) else (if lj_in x1 2001 then lj_D lc_P lc_M113 163 [.ref 7, .int x1, .int x2, .long x3, .retAddr 0, .int x5, .long x6, .retAddr 0, .int (σ1.1 7 12), .int y4] [] (lj_put (lj_put (lj_put (lj_put (lj_putL (lj_put (lj_put σ3 71 ((σ1.1 7 12).toNatClampNeg) x1) 66 ((σ1.1 7 12).toNatClampNeg) x2) 67 ((σ1.1 7 12).toNatClampNeg) x3) 72 ((σ1.1 7 12).toNatClampNeg) (σ3.1 73 y4.toNatClampNeg)) 73 y4.toNatClampNeg (σ1.1 7 12)) 70 ((σ1.1 7 12).toNatClampNeg) (-1)) 59 x1.toNatClampNeg (σ1.1 7 12)) else none)) else none) else none) else none) else none) else none) else none) else none) else none)) lj_up else none) else lj_br (lj_R lc_P 20 [.ref 2, .int 1] σ1) (fun y6 σ5 => (bif Nat.blt y6 2000 then lj_up y6 σ5 else none)) lj_up)))) lj_up := by rw [lj_D_eq]; rfl
set_option maxRecDepth 100000 in
set_option maxHeartbeats 4000000 in
theorem kc_113_163 (x1 : Int32) (x2 : Int32) (x3 : Int64) (x5 : Int32) (x6 : Int64) (x8 : Int32) (x9 : Int32) (σ : lj_S) : lj_D lc_P lc_M113 163 [.ref 7, .int x1, .int x2, .long x3, .retAddr 0, .int x5, .long x6, .retAddr 0, .int x8, .int x9] [] σ = (if lj_in x1 2001 then (if lj_in x1 2001 then (if lj_in x1 2001 then lj_D lc_P lc_M113 181 [.ref 7, .int x1, .int x2, .long x3, .retAddr 0, .int x5, .long x6, .retAddr 0, .int x8, .int x9] [] (lj_put (lj_put σ 60 x1.toNatClampNeg x8) 61 x1.toNatClampNeg ((σ.1 61 x1.toNatClampNeg) + 1)) else none) else none) else none) := by rw [lj_D_eq]; rfl
set_option maxRecDepth 100000 in
set_option maxHeartbeats 4000000 in
theorem kc_113_181 (x1 : Int32) (x2 : Int32) (x3 : Int64) (x5 : Int32) (x6 : Int64) (x8 : Int32) (x9 : Value) (σ : lj_S) : lj_D lc_P lc_M113 181 [.ref 7, .int x1, .int x2, .long x3, .retAddr 0, .int x5, .long x6, .retAddr 0, .int x8, x9] [] σ = (if lj_in x8 3000 then (if x5 = 0 then lj_D lc_P lc_M113 207 [.ref 7, .int x1, .int x2, .long x3, .retAddr 0, .int x5, .long x6, .retAddr 0, .int x8, x9] [.long 0, .int x8, .ref 69] (lj_put σ 68 x8.toNatClampNeg x5) else lj_D lc_P lc_M113 207 [.ref 7, .int x1, .int x2, .long x3, .retAddr 0, .int x5, .long x6, .retAddr 0, .int x8, x9] [.long x6, .int x8, .ref 69] (lj_put σ 68 x8.toNatClampNeg x5)) else none) := by rw [lj_D_eq]; rfl
set_option maxRecDepth 100000 in
set_option maxHeartbeats 4000000 in
theorem kc_113_207 (x1 : Int32) (x2 : Int32) (x3 : Int64) (x5 : Int32) (x6 : Int64) (x8 : Int32) (x9 : Value) (x50 : Int64) (x51 : Int32) (σ : lj_S) : lj_D lc_P lc_M113 207 [.ref 7, .int x1, .int x2, .long x3, .retAddr 0, .int x5, .long x6, .retAddr 0, .int x8, x9] [.long x50, .int x51, .ref 69] σ = (if lj_in x51 3000 then some (.inl none, (lj_putL σ 69 x51.toNatClampNeg x50)) else none) := by rw [lj_D_eq]; rfl
-- TableTongue$Heap.seek(IIJ)I
set_option maxRecDepth 100000 in
theorem rc_114 (x1 : Int32) (x2 : Int32) (x3 : Int64) (σ : lj_S) : lj_R lc_P 114 [.ref 7, .int x1, .int x2, .long x3] σ = lj_D lc_P lc_M114 0 [.ref 7, .int x1, .int x2, .long x3, .retAddr 0, .retAddr 0] [] σ := lj_R_eq (nL := 6) (M := lc_M114) _ _ _ _ rfl rfl
set_option maxRecDepth 100000 in
set_option maxHeartbeats 4000000 in
theorem kc_114_0 (x1 : Int32) (x2 : Int32) (x3 : Int64) (σ : lj_S) : lj_D lc_P lc_M114 0 [.ref 7, .int x1, .int x2, .long x3, .retAddr 0, .retAddr 0] [] σ = lj_bi (lj_R lc_P 115 [.ref 7, .int x1, .int x2, .long x3] σ) (fun y2 σ1 => (if lj_in y2 4096 then lj_D lc_P lc_M114 14 [.ref 7, .int x1, .int x2, .long x3, .retAddr 0, .int (σ1.1 73 y2.toNatClampNeg)] [] σ1 else none)) lj_up := by rw [lj_D_eq]; rfl
set_option maxRecDepth 100000 in
set_option maxHeartbeats 4000000 in
theorem kc_114_14 (x1 : Int32) (x2 : Int32) (x3 : Int64) (x5 : Int32) (σ : lj_S) : lj_D lc_P lc_M114 14 [.ref 7, .int x1, .int x2, .long x3, .retAddr 0, .int x5] [] σ = (if x5 < 0 then lj_D lc_P lc_M114 65 [.ref 7, .int x1, .int x2, .long x3, .retAddr 0, .int x5] [] σ else (if lj_in x5 3000 then (if (σ.1 71 x5.toNatClampNeg) = x1 then (if lj_in x5 3000 then (if (σ.1 66 x5.toNatClampNeg) = x2 then (if lj_in x5 3000 then (if (lg_cmp (σ.2 67 x5.toNatClampNeg) x3) = 0 then lj_D lc_P lc_M114 65 [.ref 7, .int x1, .int x2, .long x3, .retAddr 0, .int x5] [] σ else lj_D lc_P lc_M114 53 [.ref 7, .int x1, .int x2, .long x3, .retAddr 0, .int x5] [] σ) else none) else lj_D lc_P lc_M114 53 [.ref 7, .int x1, .int x2, .long x3, .retAddr 0, .int x5] [] σ) else none) else lj_D lc_P lc_M114 53 [.ref 7, .int x1, .int x2, .long x3, .retAddr 0, .int x5] [] σ) else none)) := by rw [lj_D_eq]; rfl
set_option maxRecDepth 100000 in
set_option maxHeartbeats 4000000 in
theorem kc_114_53 (x1 : Int32) (x2 : Int32) (x3 : Int64) (x5 : Int32) (σ : lj_S) : lj_D lc_P lc_M114 53 [.ref 7, .int x1, .int x2, .long x3, .retAddr 0, .int x5] [] σ = (if lj_in x5 3000 then lj_D lc_P lc_M114 14 [.ref 7, .int x1, .int x2, .long x3, .retAddr 0, .int (σ.1 72 x5.toNatClampNeg)] [] σ else none) := by rw [lj_D_eq]; rfl
set_option maxRecDepth 100000 in
set_option maxHeartbeats 4000000 in
theorem kc_114_65 (x1 : Int32) (x2 : Int32) (x3 : Int64) (x5 : Int32) (σ : lj_S) : lj_D lc_P lc_M114 65 [.ref 7, .int x1, .int x2, .long x3, .retAddr 0, .int x5] [] σ = some (.inl (some (.int x5)), σ) := by rw [lj_D_eq]; rfl
-- TableTongue$Heap.bucket(IIJ)I
set_option maxRecDepth 100000 in
theorem rc_115 (x1 : Int32) (x2 : Int32) (x3 : Int64) (σ : lj_S) : lj_R lc_P 115 [.ref 7, .int x1, .int x2, .long x3] σ = lj_D lc_P lc_M115 0 [.ref 7, .int x1, .int x2, .long x3, .retAddr 0, .retAddr 0, .retAddr 0] [] σ := lj_R_eq (nL := 7) (M := lc_M115) _ _ _ _ rfl rfl
set_option maxRecDepth 100000 in
set_option maxHeartbeats 4000000 in
theorem kc_115_0 (x1 : Int32) (x2 : Int32) (x3 : Int64) (σ : lj_S) : lj_D lc_P lc_M115 0 [.ref 7, .int x1, .int x2, .long x3, .retAddr 0, .retAddr 0, .retAddr 0] [] σ = some (.inl (some (.int ((((((((((x3 * (-7046029254386353131)) + (((x1 : Int32).toInt64) * 1663821227)) + (((x2 : Int32).toInt64) * 2232777461)) : Int64).toUInt64 >>> ((40 : Int32).toInt64.toUInt64 &&& Int64.toUInt64 63)).toInt64) ^^^ ((((((x3 * (-7046029254386353131)) + (((x1 : Int32).toInt64) * 1663821227)) + (((x2 : Int32).toInt64) * 2232777461)) : Int64).toUInt64 >>> ((20 : Int32).toInt64.toUInt64 &&& Int64.toUInt64 63)).toInt64)) : Int64).toInt32) &&& 4095))), σ) := by rw [lj_D_eq]; rfl
-- TableTongue$Heap.object(I)I
set_option maxRecDepth 100000 in
theorem rc_116 (x1 : Int32) (σ : lj_S) : lj_R lc_P 116 [.ref 7, .int x1] σ = lj_D lc_P lc_M116 0 [.ref 7, .int x1] [] σ := lj_R_eq (nL := 2) (M := lc_M116) _ _ _ _ rfl rfl
set_option maxRecDepth 100000 in
set_option maxHeartbeats 4000000 in
theorem kc_116_0 (x1 : Int32) (σ : lj_S) : lj_D lc_P lc_M116 0 [.ref 7, .int x1] [] σ = (if (σ.1 7 0) = 2000 then lj_br (lj_R lc_P 20 [.ref 2, .int 1] σ) (fun y3 σ2 => (bif Nat.blt y3 2000 then lj_up y3 σ2 else none)) lj_up else lj_bv (lj_R lc_P 112 [.ref 7, .int ((σ.1 7 0) + 1)] (lj_put σ 7 0 ((σ.1 7 0) + 1))) (fun σ1 => (if lj_in (σ1.1 7 0) 2001 then some (.inl (some (.int (σ1.1 7 0))), (lj_put σ1 57 ((σ1.1 7 0).toNatClampNeg) x1)) else none)) lj_up) := by rw [lj_D_eq]; rfl
-- TableTongue$Heap.get(IIJ)Z
set_option maxRecDepth 100000 in
theorem rc_117 (x1 : Int32) (x2 : Int32) (x3 : Int64) (σ : lj_S) : lj_R lc_P 117 [.ref 7, .int x1, .int x2, .long x3] σ = lj_D lc_P lc_M117 0 [.ref 7, .int x1, .int x2, .long x3, .retAddr 0, .retAddr 0] [] σ := lj_R_eq (nL := 6) (M := lc_M117) _ _ _ _ rfl rfl
set_option maxRecDepth 100000 in
set_option maxHeartbeats 4000000 in
theorem kc_117_0 (x1 : Int32) (x2 : Int32) (x3 : Int64) (σ : lj_S) : lj_D lc_P lc_M117 0 [.ref 7, .int x1, .int x2, .long x3, .retAddr 0, .retAddr 0] [] σ = lj_bi (lj_R lc_P 114 [.ref 7, .int x1, .int x2, .long x3] σ) (fun y2 σ1 => (if 0 ≤ y2 then (if lj_in y2 3000 then lj_D lc_P lc_M117 26 [.ref 7, .int x1, .int x2, .long x3, .retAddr 0, .int y2] [.int (σ1.1 68 y2.toNatClampNeg), .ref 7] σ1 else none) else lj_D lc_P lc_M117 26 [.ref 7, .int x1, .int x2, .long x3, .retAddr 0, .int y2] [.int 0, .ref 7] σ1)) lj_up := by rw [lj_D_eq]; rfl
set_option maxRecDepth 100000 in
set_option maxHeartbeats 4000000 in
theorem kc_117_26 (x1 : Int32) (x2 : Int32) (x3 : Int64) (x5 : Int32) (x50 : Int32) (σ : lj_S) : lj_D lc_P lc_M117 26 [.ref 7, .int x1, .int x2, .long x3, .retAddr 0, .int x5] [.int x50, .ref 7] σ = (if 0 ≤ x5 then (if lj_in x5 3000 then lj_D lc_P lc_M117 46 [.ref 7, .int x1, .int x2, .long x3, .retAddr 0, .int x5] [.long (σ.2 69 x5.toNatClampNeg), .ref 7] (lj_put σ 7 27 x50) else none) else lj_D lc_P lc_M117 46 [.ref 7, .int x1, .int x2, .long x3, .retAddr 0, .int x5] [.long 0, .ref 7] (lj_put σ 7 27 x50)) := by rw [lj_D_eq]; rfl
set_option maxRecDepth 100000 in
set_option maxHeartbeats 4000000 in
theorem kc_117_46 (x1 : Int32) (x2 : Int32) (x3 : Int64) (x5 : Int32) (x50 : Int64) (σ : lj_S) : lj_D lc_P lc_M117 46 [.ref 7, .int x1, .int x2, .long x3, .retAddr 0, .int x5] [.long x50, .ref 7] σ = (if (σ.1 7 27) = 0 then lj_D lc_P lc_M117 61 [.ref 7, .int x1, .int x2, .long x3, .retAddr 0, .int x5] [.int 0] (lj_putL σ 7 28 x50) else lj_D lc_P lc_M117 61 [.ref 7, .int x1, .int x2, .long x3, .retAddr 0, .int x5] [.int 1] (lj_putL σ 7 28 x50)) := by rw [lj_D_eq]; rfl
set_option maxRecDepth 100000 in
set_option maxHeartbeats 4000000 in
theorem kc_117_61 (x1 : Int32) (x2 : Int32) (x3 : Int64) (x5 : Int32) (x50 : Int32) (σ : lj_S) : lj_D lc_P lc_M117 61 [.ref 7, .int x1, .int x2, .long x3, .retAddr 0, .int x5] [.int x50] σ = some (.inl (some (.int (vp_nar .boolean x50))), σ) := by rw [lj_D_eq]; rfl
-- TableTongue$Heap.event(IJI)Z
set_option maxRecDepth 100000 in
theorem rc_118 (x1 : Int32) (x2 : Int64) (x3 : Int32) (σ : lj_S) : lj_R lc_P 118 [.ref 7, .int x1, .long x2, .int x3] σ = lj_D lc_P lc_M118 0 [.ref 7, .int x1, .long x2, .retAddr 0, .int x3] [] σ := lj_R_eq (nL := 5) (M := lc_M118) _ _ _ _ rfl rfl
set_option maxRecDepth 100000 in
set_option maxHeartbeats 4000000 in
theorem kc_118_0 (x1 : Int32) (x2 : Int64) (x4 : Int32) (σ : lj_S) : lj_D lc_P lc_M118 0 [.ref 7, .int x1, .long x2, .retAddr 0, .int x4] [] σ = (if x1 = 4 then (if lj_in ((x2 : Int64).toInt32) 2001 then (if 0 ≤ ((σ.1 58 (((x2 : Int64).toInt32).toNatClampNeg))) then (if lj_in ((x2 : Int64).toInt32) 2001 then lj_bi (lj_R lc_P 117 [.ref 7, .int ((σ.1 58 (((x2 : Int64).toInt32).toNatClampNeg))), .int 3, .long ((x4 : Int32).toInt64)] σ) (fun y2 σ1 => some (.inl (some (.int (vp_nar .boolean y2))), σ1)) lj_up else none) else lj_D lc_P lc_M118 15 [.ref 7, .int x1, .long x2, .retAddr 0, .int x4] [] σ) else none) else lj_D lc_P lc_M118 15 [.ref 7, .int x1, .long x2, .retAddr 0, .int x4] [] σ) := by rw [lj_D_eq]; rfl
set_option maxRecDepth 100000 in
set_option maxHeartbeats 4000000 in
theorem kc_118_15 (x1 : Int32) (x2 : Int64) (x4 : Int32) (σ : lj_S) : lj_D lc_P lc_M118 15 [.ref 7, .int x1, .long x2, .retAddr 0, .int x4] [] σ = some (.inl (some (.int 0)), (lj_putL (lj_put σ 7 27 0) 7 28 0)) := by rw [lj_D_eq]; rfl
-- TableTongue$Heap.length(I)J
set_option maxRecDepth 100000 in
theorem rc_119 (x1 : Int32) (σ : lj_S) : lj_R lc_P 119 [.ref 7, .int x1] σ = lj_D lc_P lc_M119 0 [.ref 7, .int x1, .retAddr 0, .retAddr 0] [] σ := lj_R_eq (nL := 4) (M := lc_M119) _ _ _ _ rfl rfl
set_option maxRecDepth 100000 in
set_option maxHeartbeats 4000000 in
theorem kc_119_0 (x1 : Int32) (σ : lj_S) : lj_D lc_P lc_M119 0 [.ref 7, .int x1, .retAddr 0, .retAddr 0] [] σ = lj_D lc_P lc_M119 2 [.ref 7, .int x1, .long 0, .retAddr 0] [] σ := by rw [lj_D_eq]; rfl
set_option maxRecDepth 100000 in
set_option maxHeartbeats 4000000 in
theorem kc_119_2 (x1 : Int32) (x2 : Int64) (σ : lj_S) : lj_D lc_P lc_M119 2 [.ref 7, .int x1, .long x2, .retAddr 0] [] σ = lj_bi (lj_R lc_P 117 [.ref 7, .int x1, .int 2, .long (x2 + 1)] σ) (fun y2 σ1 => (if y2 = 0 then some (.inl (some (.long x2)), σ1) else lj_D lc_P lc_M119 2 [.ref 7, .int x1, .long (x2 + 1), .retAddr 0] [] σ1)) lj_up := by rw [lj_D_eq]; rfl
-- TableTongue$Heap.sweep(IZ)V
set_option maxRecDepth 100000 in
theorem rc_120 (x1 : Int32) (x2 : Int32) (σ : lj_S) : lj_R lc_P 120 [.ref 7, .int x1, .int x2] σ = lj_D lc_P lc_M120 0 [.ref 7, .int x1, .int x2, .retAddr 0, .retAddr 0, .retAddr 0] [] σ := lj_R_eq (nL := 6) (M := lc_M120) _ _ _ _ rfl rfl
set_option maxRecDepth 100000 in
set_option maxHeartbeats 4000000 in
theorem kc_120_0 (x1 : Int32) (x2 : Int32) (σ : lj_S) : lj_D lc_P lc_M120 0 [.ref 7, .int x1, .int x2, .retAddr 0, .retAddr 0, .retAddr 0] [] σ = (if lj_in x1 2001 then lj_D lc_P lc_M120 10 [.ref 7, .int x1, .int x2, .int (-1), .int (σ.1 59 x1.toNatClampNeg), .retAddr 0] [] σ else none) := by rw [lj_D_eq]; rfl
set_option maxRecDepth 100000 in
set_option maxHeartbeats 4000000 in
theorem kc_120_10 (x1 : Int32) (x2 : Int32) (x3 : Int32) (x4 : Int32) (x5 : Value) (σ : lj_S) : lj_D lc_P lc_M120 10 [.ref 7, .int x1, .int x2, .int x3, .int x4, x5] [] σ = (if x4 < 0 then (if lj_in x1 2001 then some (.inl none, (lj_put σ 60 x1.toNatClampNeg x3)) else none) else (if lj_in x4 3000 then (if x2 = 0 then (if lj_in x4 3000 then (if (σ.1 68 x4.toNatClampNeg) = 0 then lj_D lc_P lc_M120 38 [.ref 7, .int x1, .int x2, .int x3, .int x4, .int (σ.1 70 x4.toNatClampNeg)] [] σ else lj_D lc_P lc_M120 110 [.ref 7, .int x1, .int x2, .int x4, .int x4, .int (σ.1 70 x4.toNatClampNeg)] [] σ) else none) else lj_D lc_P lc_M120 38 [.ref 7, .int x1, .int x2, .int x3, .int x4, .int (σ.1 70 x4.toNatClampNeg)] [] σ) else none)) := by rw [lj_D_eq]; rfl
set_option maxRecDepth 100000 in
set_option maxHeartbeats 4000000 in
theorem kc_120_38 (x1 : Int32) (x2 : Int32) (x3 : Int32) (x4 : Int32) (x5 : Int32) (σ : lj_S) : lj_D lc_P lc_M120 38 [.ref 7, .int x1, .int x2, .int x3, .int x4, .int x5] [] σ = lj_bv (lj_R lc_P 121 [.ref 7, .int x4] σ) (fun σ1 => (if 0 ≤ x3 then (if lj_in x3 3000 then lj_D lc_P lc_M120 67 [.ref 7, .int x1, .int x2, .int x3, .int x4, .int x5] [] (lj_put σ1 70 x3.toNatClampNeg x5) else none) else (if lj_in x1 2001 then lj_D lc_P lc_M120 67 [.ref 7, .int x1, .int x2, .int x3, .int x4, .int x5] [] (lj_put σ1 59 x1.toNatClampNeg x5) else none))) lj_up := by rw [lj_D_eq]; rfl
set_option maxRecDepth 100000 in
set_option maxHeartbeats 4000000 in
theorem kc_120_67 (x1 : Int32) (x2 : Int32) (x3 : Int32) (x4 : Int32) (x5 : Int32) (σ : lj_S) : lj_D lc_P lc_M120 67 [.ref 7, .int x1, .int x2, .int x3, .int x4, .int x5] [] σ = (if lj_in x4 3000 then (if lj_in x1 2001 then (if lj_in x1 2001 then lj_D lc_P lc_M120 110 [.ref 7, .int x1, .int x2, .int x3, .int x4, .int x5] [] (lj_put (lj_put (lj_put (lj_put σ 70 x4.toNatClampNeg (σ.1 7 12)) 7 12 x4) 7 11 ((σ.1 7 11) - 1)) 61 x1.toNatClampNeg ((σ.1 61 x1.toNatClampNeg) - 1)) else none) else none) else none) := by rw [lj_D_eq]; rfl
set_option maxRecDepth 100000 in
set_option maxHeartbeats 4000000 in
theorem kc_120_110 (x1 : Int32) (x2 : Int32) (x3 : Int32) (x4 : Int32) (x5 : Int32) (σ : lj_S) : lj_D lc_P lc_M120 110 [.ref 7, .int x1, .int x2, .int x3, .int x4, .int x5] [] σ = lj_D lc_P lc_M120 10 [.ref 7, .int x1, .int x2, .int x3, .int x5, .int x5] [] σ := by rw [lj_D_eq]; rfl
-- TableTongue$Heap.unchain(I)V
set_option maxRecDepth 100000 in
theorem rc_121 (x1 : Int32) (σ : lj_S) : lj_R lc_P 121 [.ref 7, .int x1] σ = lj_D lc_P lc_M121 0 [.ref 7, .int x1, .retAddr 0, .retAddr 0] [] σ := lj_R_eq (nL := 4) (M := lc_M121) _ _ _ _ rfl rfl
set_option maxRecDepth 100000 in
set_option maxHeartbeats 4000000 in
theorem kc_121_0 (x1 : Int32) (σ : lj_S) : lj_D lc_P lc_M121 0 [.ref 7, .int x1, .retAddr 0, .retAddr 0] [] σ = (if lj_in x1 3000 then (if lj_in x1 3000 then (if lj_in x1 3000 then lj_bi (lj_R lc_P 115 [.ref 7, .int (σ.1 71 x1.toNatClampNeg), .int (σ.1 66 x1.toNatClampNeg), .long (σ.2 67 x1.toNatClampNeg)] σ) (fun y2 σ1 => (if lj_in y2 4096 then (if (σ1.1 73 y2.toNatClampNeg) = x1 then (if lj_in x1 3000 then (if lj_in y2 4096 then some (.inl none, (lj_put σ1 73 y2.toNatClampNeg (σ1.1 72 x1.toNatClampNeg))) else none) else none) else (if lj_in y2 4096 then lj_D lc_P lc_M121 53 [.ref 7, .int x1, .int y2, .int (σ1.1 73 y2.toNatClampNeg)] [] σ1 else none)) else none)) lj_up else none) else none) else none) := by rw [lj_D_eq]; rfl
set_option maxRecDepth 100000 in
set_option maxHeartbeats 4000000 in
theorem kc_121_53 (x1 : Int32) (x2 : Int32) (x3 : Int32) (σ : lj_S) : lj_D lc_P lc_M121 53 [.ref 7, .int x1, .int x2, .int x3] [] σ = (if lj_in x3 3000 then (if (σ.1 72 x3.toNatClampNeg) = x1 then (if lj_in x1 3000 then (if lj_in x3 3000 then some (.inl none, (lj_put σ 72 x3.toNatClampNeg (σ.1 72 x1.toNatClampNeg))) else none) else none) else (if lj_in x3 3000 then lj_D lc_P lc_M121 53 [.ref 7, .int x1, .int x2, .int (σ.1 72 x3.toNatClampNeg)] [] σ else none)) else none) := by rw [lj_D_eq]; rfl
-- TableTongue$Heap.addCell(I)I
set_option maxRecDepth 100000 in
theorem rc_122 (x1 : Int32) (σ : lj_S) : lj_R lc_P 122 [.ref 7, .int x1] σ = lj_D lc_P lc_M122 0 [.ref 7, .int x1] [] σ := lj_R_eq (nL := 2) (M := lc_M122) _ _ _ _ rfl rfl
set_option maxRecDepth 100000 in
set_option maxHeartbeats 4000000 in
theorem kc_122_0 (x1 : Int32) (σ : lj_S) : lj_D lc_P lc_M122 0 [.ref 7, .int x1] [] σ = (if lj_in (σ.1 7 21) 60000 then some (.inl (some (.int (σ.1 7 21))), (lj_put (lj_put σ 74 ((σ.1 7 21).toNatClampNeg) x1) 7 21 ((σ.1 7 21) + 1))) else none) := by rw [lj_D_eq]; rfl
