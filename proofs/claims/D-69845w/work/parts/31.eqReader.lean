-- TableTongue$Reader.read()V
set_option maxRecDepth 100000 in
theorem rc_39  (σ : lj_S) : lj_R lc_P 39 [.ref 4] σ = lj_D lc_P lc_M39 0 [.ref 4, .retAddr 0, .retAddr 0, .retAddr 0] [] σ := lj_R_eq (nL := 4) (M := lc_M39) _ _ _ _ rfl rfl
set_option maxRecDepth 100000 in
set_option maxHeartbeats 4000000 in
theorem kc_39_0  (σ : lj_S) : lj_D lc_P lc_M39 0 [.ref 4, .retAddr 0, .retAddr 0, .retAddr 0] [] σ = lj_D lc_P lc_M39 17 [.ref 4, .int 1, .retAddr 0, .retAddr 0] [] (lj_put (lj_put (lj_put σ 4 2 0) 4 3 1) 4 4 0) := by rw [lj_D_eq]; rfl
set_option maxRecDepth 100000 in
set_option maxHeartbeats 4000000 in
theorem kc_39_17 (x1 : Int32) (x2 : Value) (x3 : Value) (σ : lj_S) : lj_D lc_P lc_M39 17 [.ref 4, .int x1, x2, x3] [] σ = (if x1 = 0 then some (.inl none, σ) else lj_bv (lj_R lc_P 40 [.ref 4] σ) (fun σ1 => lj_bi (lj_R lc_P 41 [.ref 4, .int (σ1.1 4 2)] σ1) (fun y3 σ2 => (if y3 = (-1) then lj_bv (lj_R lc_P 42 [.ref 4, .int 0, .long 0, .int (σ2.1 4 2)] σ2) (fun σ14 => some (.inl none, σ14)) lj_up else lj_bi (lj_R lc_P 43 [.ref 4, .int y3] σ2) (fun y5 σ4 => (if y5 = 0 then lj_bi (lj_R lc_P 45 [.ref 4, .int y3] σ4) (fun y7 σ6 => (if y7 = 0 then (if y3 = 34 then lj_D lc_P lc_M39 92 [.ref 4, .int x1, .int y3, x3] [] σ6 else (if y3 = 39 then lj_D lc_P lc_M39 92 [.ref 4, .int x1, .int y3, x3] [] σ6 else lj_bi (lj_R lc_P 51 [.ref 4] σ6) (fun y9 σ8 => lj_D lc_P lc_M39 103 [.ref 4, .int x1, .int y3, x3] [.int y9] σ8) lj_up)) else lj_bi (lj_R lc_P 47 [.ref 4] σ6) (fun y11 σ10 => lj_D lc_P lc_M39 103 [.ref 4, .int x1, .int y3, x3] [.int y11] σ10) lj_up)) lj_up else lj_bi (lj_R lc_P 44 [.ref 4] σ4) (fun y13 σ12 => lj_D lc_P lc_M39 103 [.ref 4, .int x1, .int y3, x3] [.int y13] σ12) lj_up)) lj_up)) lj_up) lj_up) := by rw [lj_D_eq]; rfl
set_option maxRecDepth 100000 in
set_option maxHeartbeats 4000000 in
theorem kc_39_92 (x1 : Int32) (x2 : Int32) (x3 : Value) (σ : lj_S) : lj_D lc_P lc_M39 92 [.ref 4, .int x1, .int x2, x3] [] σ = lj_bi (lj_R lc_P 49 [.ref 4] σ) (fun y2 σ1 => lj_D lc_P lc_M39 103 [.ref 4, .int x1, .int x2, x3] [.int y2] σ1) lj_up := by rw [lj_D_eq]; rfl
set_option maxRecDepth 100000 in
set_option maxHeartbeats 4000000 in
theorem kc_39_103 (x1 : Int32) (x2 : Int32) (x3 : Value) (x50 : Int32) (σ : lj_S) : lj_D lc_P lc_M39 103 [.ref 4, .int x1, .int x2, x3] [.int x50] σ = (if x50 = 0 then lj_bv (lj_R lc_P 42 [.ref 4, .int 4, .long 0, .int (σ.1 4 2)] σ) (fun σ1 => lj_D lc_P lc_M39 118 [.ref 4, .int x1, .int x2, .int x50] [] σ1) lj_up else lj_D lc_P lc_M39 118 [.ref 4, .int x1, .int x2, .int x50] [] σ) := by rw [lj_D_eq]; rfl
set_option maxRecDepth 100000 in
set_option maxHeartbeats 4000000 in
theorem kc_39_118 (x1 : Int32) (x2 : Int32) (x3 : Int32) (σ : lj_S) : lj_D lc_P lc_M39 118 [.ref 4, .int x1, .int x2, .int x3] [] σ = (if x3 = 0 then lj_D lc_P lc_M39 136 [.ref 4, .int x1, .int x2, .int x3] [] σ else (if 1500 < (σ.1 4 4) then lj_D lc_P lc_M39 136 [.ref 4, .int x1, .int x2, .int x3] [] σ else lj_D lc_P lc_M39 137 [.ref 4, .int x1, .int x2, .int x3] [.int 1] σ)) := by rw [lj_D_eq]; rfl
set_option maxRecDepth 100000 in
set_option maxHeartbeats 4000000 in
theorem kc_39_136 (x1 : Int32) (x2 : Int32) (x3 : Int32) (σ : lj_S) : lj_D lc_P lc_M39 136 [.ref 4, .int x1, .int x2, .int x3] [] σ = lj_D lc_P lc_M39 137 [.ref 4, .int x1, .int x2, .int x3] [.int 0] σ := by rw [lj_D_eq]; rfl
set_option maxRecDepth 100000 in
set_option maxHeartbeats 4000000 in
theorem kc_39_137 (x1 : Int32) (x2 : Int32) (x3 : Int32) (x50 : Int32) (σ : lj_S) : lj_D lc_P lc_M39 137 [.ref 4, .int x1, .int x2, .int x3] [.int x50] σ = lj_D lc_P lc_M39 17 [.ref 4, .int x50, .int x2, .int x3] [] σ := by rw [lj_D_eq]; rfl
-- TableTongue$Reader.skip()V
set_option maxRecDepth 100000 in
theorem rc_40  (σ : lj_S) : lj_R lc_P 40 [.ref 4] σ = lj_D lc_P lc_M40 0 [.ref 4, .retAddr 0, .retAddr 0] [] σ := lj_R_eq (nL := 3) (M := lc_M40) _ _ _ _ rfl rfl
set_option maxRecDepth 100000 in
set_option maxHeartbeats 4000000 in
theorem kc_40_0  (σ : lj_S) : lj_D lc_P lc_M40 0 [.ref 4, .retAddr 0, .retAddr 0] [] σ = lj_D lc_P lc_M40 2 [.ref 4, .int 1, .retAddr 0] [] σ := by rw [lj_D_eq]; rfl
set_option maxRecDepth 100000 in
set_option maxHeartbeats 4000000 in
theorem kc_40_2 (x1 : Int32) (x2 : Value) (σ : lj_S) : lj_D lc_P lc_M40 2 [.ref 4, .int x1, x2] [] σ = (if x1 = 0 then some (.inl none, σ) else lj_bi (lj_R lc_P 41 [.ref 4, .int (σ.1 4 2)] σ) (fun y2 σ1 => (if y2 = 32 then lj_D lc_P lc_M40 39 [.ref 4, .int x1, .int y2] [] σ1 else (if y2 = 9 then lj_D lc_P lc_M40 39 [.ref 4, .int x1, .int y2] [] σ1 else (if y2 = 13 then lj_D lc_P lc_M40 39 [.ref 4, .int x1, .int y2] [] σ1 else (if y2 = 10 then lj_D lc_P lc_M40 39 [.ref 4, .int x1, .int y2] [] σ1 else lj_D lc_P lc_M40 44 [.ref 4, .int x1, .int y2] [.int 0] σ1))))) lj_up) := by rw [lj_D_eq]; rfl
set_option maxRecDepth 100000 in
set_option maxHeartbeats 4000000 in
theorem kc_40_39 (x1 : Int32) (x2 : Int32) (σ : lj_S) : lj_D lc_P lc_M40 39 [.ref 4, .int x1, .int x2] [] σ = lj_D lc_P lc_M40 44 [.ref 4, .int x1, .int x2] [.int 1] σ := by rw [lj_D_eq]; rfl
set_option maxRecDepth 100000 in
set_option maxHeartbeats 4000000 in
theorem kc_40_44 (x1 : Int32) (x2 : Int32) (x50 : Int32) (σ : lj_S) : lj_D lc_P lc_M40 44 [.ref 4, .int x1, .int x2] [.int x50] σ = (if x50 = 0 then (if x2 = 45 then lj_bi (lj_R lc_P 41 [.ref 4, .int ((σ.1 4 2) + 1)] σ) (fun y2 σ1 => (if y2 = 45 then lj_D lc_P lc_M40 105 [.ref 4, .int 1, .int x2] [] σ1 else lj_D lc_P lc_M40 142 [.ref 4, .int x50, .int x2] [] σ1)) lj_up else lj_D lc_P lc_M40 142 [.ref 4, .int x50, .int x2] [] σ) else (if x2 = 10 then lj_D lc_P lc_M40 65 [.ref 4, .int x50, .int x2] [.int 1, .int (σ.1 4 3), .ref 4] σ else lj_D lc_P lc_M40 65 [.ref 4, .int x50, .int x2] [.int 0, .int (σ.1 4 3), .ref 4] σ)) := by rw [lj_D_eq]; rfl
set_option maxRecDepth 100000 in
set_option maxHeartbeats 4000000 in
theorem kc_40_65 (x1 : Int32) (x2 : Int32) (x50 : Int32) (x51 : Int32) (σ : lj_S) : lj_D lc_P lc_M40 65 [.ref 4, .int x1, .int x2] [.int x50, .int x51, .ref 4] σ = lj_D lc_P lc_M40 142 [.ref 4, .int x1, .int x2] [] (lj_put (lj_put σ 4 3 (x51 + x50)) 4 2 ((σ.1 4 2) + 1)) := by rw [lj_D_eq]; rfl
set_option maxRecDepth 100000 in
set_option maxHeartbeats 4000000 in
theorem kc_40_105 (x1 : Int32) (x2 : Int32) (σ : lj_S) : lj_D lc_P lc_M40 105 [.ref 4, .int x1, .int x2] [] σ = (if (σ.1 4 1) ≤ (σ.1 4 2) then lj_D lc_P lc_M40 142 [.ref 4, .int x1, .int x2] [] σ else lj_bi (lj_R lc_P 41 [.ref 4, .int (σ.1 4 2)] σ) (fun y2 σ1 => (if y2 = 10 then lj_D lc_P lc_M40 142 [.ref 4, .int x1, .int x2] [] σ1 else lj_D lc_P lc_M40 105 [.ref 4, .int x1, .int x2] [] (lj_put σ1 4 2 ((σ1.1 4 2) + 1)))) lj_up) := by rw [lj_D_eq]; rfl
set_option maxRecDepth 100000 in
set_option maxHeartbeats 4000000 in
theorem kc_40_142 (x1 : Int32) (x2 : Int32) (σ : lj_S) : lj_D lc_P lc_M40 142 [.ref 4, .int x1, .int x2] [] σ = lj_D lc_P lc_M40 2 [.ref 4, .int x1, .int x2] [] σ := by rw [lj_D_eq]; rfl
-- TableTongue$Reader.byteAt(I)I
set_option maxRecDepth 100000 in
theorem rc_41 (x1 : Int32) (σ : lj_S) : lj_R lc_P 41 [.ref 4, .int x1] σ = lj_D lc_P lc_M41 0 [.ref 4, .int x1] [] σ := lj_R_eq (nL := 2) (M := lc_M41) _ _ _ _ rfl rfl
set_option maxRecDepth 100000 in
set_option maxHeartbeats 4000000 in
theorem kc_41_0 (x1 : Int32) (σ : lj_S) : lj_D lc_P lc_M41 0 [.ref 4, .int x1] [] σ = (if (σ.1 4 1) ≤ x1 then lj_D lc_P lc_M41 22 [.ref 4, .int x1] [.int (-1)] σ else (if lj_in x1 6000 then lj_D lc_P lc_M41 22 [.ref 4, .int x1] [.int ((σ.1 17 x1.toNatClampNeg) &&& 255)] σ else none)) := by rw [lj_D_eq]; rfl
set_option maxRecDepth 100000 in
set_option maxHeartbeats 4000000 in
theorem kc_41_22 (x1 : Int32) (x50 : Int32) (σ : lj_S) : lj_D lc_P lc_M41 22 [.ref 4, .int x1] [.int x50] σ = some (.inl (some (.int x50)), σ) := by rw [lj_D_eq]; rfl
-- TableTongue$Reader.put(IJI)V
set_option maxRecDepth 100000 in
theorem rc_42 (x1 : Int32) (x2 : Int64) (x3 : Int32) (σ : lj_S) : lj_R lc_P 42 [.ref 4, .int x1, .long x2, .int x3] σ = lj_D lc_P lc_M42 0 [.ref 4, .int x1, .long x2, .retAddr 0, .int x3] [] σ := lj_R_eq (nL := 5) (M := lc_M42) _ _ _ _ rfl rfl
set_option maxRecDepth 100000 in
set_option maxHeartbeats 4000000 in
theorem kc_42_0 (x1 : Int32) (x2 : Int64) (x4 : Int32) (σ : lj_S) : lj_D lc_P lc_M42 0 [.ref 4, .int x1, .long x2, .retAddr 0, .int x4] [] σ = (if lj_in (σ.1 4 4) 1502 then (if lj_in (σ.1 4 4) 1502 then (if lj_in (σ.1 4 4) 1502 then (if lj_in (σ.1 4 4) 1502 then some (.inl none, (lj_put (lj_put (lj_put (lj_putL (lj_put σ 18 ((σ.1 4 4).toNatClampNeg) x1) 21 ((σ.1 4 4).toNatClampNeg) x2) 19 ((σ.1 4 4).toNatClampNeg) x4) 20 ((σ.1 4 4).toNatClampNeg) (σ.1 4 3)) 4 4 ((σ.1 4 4) + 1))) else none) else none) else none) else none) := by rw [lj_D_eq]; rfl
-- TableTongue$Reader.isLetter(I)Z
set_option maxRecDepth 100000 in
theorem rc_43 (x1 : Int32) (σ : lj_S) : lj_R lc_P 43 [.ref 4, .int x1] σ = lj_D lc_P lc_M43 0 [.ref 4, .int x1] [] σ := lj_R_eq (nL := 2) (M := lc_M43) _ _ _ _ rfl rfl
set_option maxRecDepth 100000 in
set_option maxHeartbeats 4000000 in
theorem kc_43_0 (x1 : Int32) (σ : lj_S) : lj_D lc_P lc_M43 0 [.ref 4, .int x1] [] σ = lj_bi (lj_R lc_P 3 [.long ((x1 : Int32).toInt64), .long 97, .long 122] σ) (fun y2 σ1 => (if y2 = 0 then lj_bi (lj_R lc_P 3 [.long ((x1 : Int32).toInt64), .long 65, .long 90] σ1) (fun y4 σ3 => (if y4 = 0 then (if x1 = 95 then lj_D lc_P lc_M43 34 [.ref 4, .int x1] [] σ3 else lj_D lc_P lc_M43 39 [.ref 4, .int x1] [.int 0] σ3) else lj_D lc_P lc_M43 34 [.ref 4, .int x1] [] σ3)) lj_up else lj_D lc_P lc_M43 34 [.ref 4, .int x1] [] σ1)) lj_up := by rw [lj_D_eq]; rfl
set_option maxRecDepth 100000 in
set_option maxHeartbeats 4000000 in
theorem kc_43_34 (x1 : Int32) (σ : lj_S) : lj_D lc_P lc_M43 34 [.ref 4, .int x1] [] σ = lj_D lc_P lc_M43 39 [.ref 4, .int x1] [.int 1] σ := by rw [lj_D_eq]; rfl
set_option maxRecDepth 100000 in
set_option maxHeartbeats 4000000 in
theorem kc_43_39 (x1 : Int32) (x50 : Int32) (σ : lj_S) : lj_D lc_P lc_M43 39 [.ref 4, .int x1] [.int x50] σ = some (.inl (some (.int (vp_nar .boolean x50))), σ) := by rw [lj_D_eq]; rfl
-- TableTongue$Reader.readName()Z
set_option maxRecDepth 100000 in
theorem rc_44  (σ : lj_S) : lj_R lc_P 44 [.ref 4] σ = lj_D lc_P lc_M44 0 [.ref 4, .retAddr 0, .retAddr 0, .retAddr 0] [] σ := lj_R_eq (nL := 4) (M := lc_M44) _ _ _ _ rfl rfl
set_option maxRecDepth 100000 in
set_option maxHeartbeats 4000000 in
theorem kc_44_0  (σ : lj_S) : lj_D lc_P lc_M44 0 [.ref 4, .retAddr 0, .retAddr 0, .retAddr 0] [] σ = lj_D lc_P lc_M44 5 [.ref 4, .int (σ.1 4 2), .retAddr 0, .retAddr 0] [] σ := by rw [lj_D_eq]; rfl
set_option maxRecDepth 100000 in
set_option maxHeartbeats 4000000 in
theorem kc_44_5 (x1 : Int32) (σ : lj_S) : lj_D lc_P lc_M44 5 [.ref 4, .int x1, .retAddr 0, .retAddr 0] [] σ = lj_bi (lj_R lc_P 41 [.ref 4, .int (σ.1 4 2)] σ) (fun y2 σ1 => lj_bi (lj_R lc_P 43 [.ref 4, .int y2] σ1) (fun y4 σ3 => (if y4 = 0 then lj_bi (lj_R lc_P 41 [.ref 4, .int (σ3.1 4 2)] σ3) (fun y6 σ5 => lj_bi (lj_R lc_P 45 [.ref 4, .int y6] σ5) (fun y8 σ7 => (if y8 = 0 then lj_bi (lj_R lc_P 46 [.ref 4, .ref 1000, .int x1, .int ((σ7.1 4 2) - x1)] σ7) (fun y10 σ9 => (if y10 < 0 then (if ((σ9.1 4 2) - x1) ≤ 30 then lj_bv (lj_R lc_P 22 [.ref 3] σ9) (fun σ11 => lj_D lc_P lc_M44 108 [.ref 4, .int x1, .int y10, .int x1] [] σ11) lj_up else some (.inl (some (.int 0)), (lj_put σ9 4 2 x1))) else lj_bv (lj_R lc_P 42 [.ref 4, .int (10 + y10), .long 0, .int x1] σ9) (fun σ12 => some (.inl (some (.int 1)), σ12)) lj_up)) lj_up else lj_D lc_P lc_M44 35 [.ref 4, .int x1, .retAddr 0, .retAddr 0] [] σ7)) lj_up) lj_up else lj_D lc_P lc_M44 35 [.ref 4, .int x1, .retAddr 0, .retAddr 0] [] σ3)) lj_up) lj_up := by rw [lj_D_eq]; rfl
set_option maxRecDepth 100000 in
set_option maxHeartbeats 4000000 in
theorem kc_44_35 (x1 : Int32) (σ : lj_S) : lj_D lc_P lc_M44 35 [.ref 4, .int x1, .retAddr 0, .retAddr 0] [] σ = lj_D lc_P lc_M44 5 [.ref 4, .int x1, .retAddr 0, .retAddr 0] [] (lj_put σ 4 2 ((σ.1 4 2) + 1)) := by rw [lj_D_eq]; rfl
set_option maxRecDepth 100000 in
set_option maxHeartbeats 4000000 in
theorem kc_44_108 (x1 : Int32) (x2 : Int32) (x3 : Int32) (σ : lj_S) : lj_D lc_P lc_M44 108 [.ref 4, .int x1, .int x2, .int x3] [] σ = (if (σ.1 4 2) ≤ x3 then lj_bi (lj_R lc_P 24 [.ref 3] σ) (fun y2 σ1 => lj_bv (lj_R lc_P 42 [.ref 4, .int 1, .long ((y2 : Int32).toInt64), .int x1] σ1) (fun σ3 => some (.inl (some (.int 1)), σ3)) lj_up) lj_up else lj_bi (lj_R lc_P 41 [.ref 4, .int x3] σ) (fun y5 σ4 => lj_bv (lj_R lc_P 23 [.ref 3, .int y5] σ4) (fun σ6 => lj_D lc_P lc_M44 108 [.ref 4, .int x1, .int x2, .int (x3 + 1)] [] σ6) lj_up) lj_up) := by rw [lj_D_eq]; rfl
-- TableTongue$Reader.isDigit(I)Z
set_option maxRecDepth 100000 in
theorem rc_45 (x1 : Int32) (σ : lj_S) : lj_R lc_P 45 [.ref 4, .int x1] σ = lj_D lc_P lc_M45 0 [.ref 4, .int x1] [] σ := lj_R_eq (nL := 2) (M := lc_M45) _ _ _ _ rfl rfl
set_option maxRecDepth 100000 in
set_option maxHeartbeats 4000000 in
theorem kc_45_0 (x1 : Int32) (σ : lj_S) : lj_D lc_P lc_M45 0 [.ref 4, .int x1] [] σ = lj_bi (lj_R lc_P 3 [.long ((x1 : Int32).toInt64), .long 48, .long 57] σ) (fun y2 σ1 => some (.inl (some (.int (vp_nar .boolean y2))), σ1)) lj_up := by rw [lj_D_eq]; rfl
-- TableTongue$Reader.seek(Ljava/lang/String;II)I
set_option maxRecDepth 100000 in
theorem rc_46 (x1 : Nat) (x2 : Int32) (x3 : Int32) (σ : lj_S) : lj_R lc_P 46 [.ref 4, .ref x1, .int x2, .int x3] σ = lj_D lc_P lc_M46 0 [.ref 4, .ref x1, .int x2, .int x3, .retAddr 0, .retAddr 0, .retAddr 0] [] σ := lj_R_eq (nL := 7) (M := lc_M46) _ _ _ _ rfl rfl
set_option maxRecDepth 100000 in
set_option maxHeartbeats 4000000 in
theorem kc_46_0 (x1 : Nat) (x2 : Int32) (x3 : Int32) (σ : lj_S) : lj_D lc_P lc_M46 0 [.ref 4, .ref x1, .int x2, .int x3, .retAddr 0, .retAddr 0, .retAddr 0] [] σ = lj_D lc_P lc_M46 6 [.ref 4, .ref x1, .int x2, .int x3, .int 0, .int 0, .retAddr 0] [] σ := by rw [lj_D_eq]; rfl
set_option maxRecDepth 100000 in
set_option maxHeartbeats 4000000 in
theorem kc_46_6 (x1 : Nat) (x2 : Int32) (x3 : Int32) (x4 : Int32) (x5 : Int32) (x6 : Value) (σ : lj_S) : lj_D lc_P lc_M46 6 [.ref 4, .ref x1, .int x2, .int x3, .int x4, .int x5, x6] [] σ = (bif Nat.ble 1000 x1 && true then lj_bi (lj_R lc_P 900 [.ref x1] σ) (fun y2 σ1 => (if (y2 - 1) ≤ x5 then some (.inl (some (.int (-1))), σ1) else (bif Nat.ble 1000 x1 && true then lj_bi (lj_R lc_P 901 [.ref x1, .int x5] σ1) (fun y4 σ3 => (if y4 = 32 then lj_D lc_P lc_M46 34 [.ref 4, .ref x1, .int x2, .int x3, .int x4, .int x5, .int 0] [] σ3 else lj_D lc_P lc_M46 122 [.ref 4, .ref x1, .int x2, .int x3, .int x4, .int x5, x6] [] σ3)) lj_up else none))) lj_up else none) := by rw [lj_D_eq]; rfl
set_option maxRecDepth 100000 in
set_option maxHeartbeats 4000000 in
theorem kc_46_34 (x1 : Nat) (x2 : Int32) (x3 : Int32) (x4 : Int32) (x5 : Int32) (x6 : Int32) (σ : lj_S) : lj_D lc_P lc_M46 34 [.ref 4, .ref x1, .int x2, .int x3, .int x4, .int x5, .int x6] [] σ = (if x3 ≤ x6 then lj_D lc_P lc_M46 95 [.ref 4, .ref x1, .int x2, .int x3, .int x4, .int x5, .int x6] [] σ else lj_bi (lj_R lc_P 41 [.ref 4, .int (x2 + x6)] σ) (fun y2 σ1 => (if y2 = 32 then lj_D lc_P lc_M46 95 [.ref 4, .ref x1, .int x2, .int x3, .int x4, .int x5, .int x6] [] σ1 else (bif Nat.ble 1000 x1 && true then lj_bi (lj_R lc_P 900 [.ref x1] σ1) (fun y4 σ3 => (if y4 ≤ ((x5 + 1) + x6) then lj_D lc_P lc_M46 95 [.ref 4, .ref x1, .int x2, .int x3, .int x4, .int x5, .int x6] [] σ3 else (bif Nat.ble 1000 x1 && true then lj_bi (lj_R lc_P 901 [.ref x1, .int ((x5 + 1) + x6)] σ3) (fun y6 σ5 => lj_bi (lj_R lc_P 41 [.ref 4, .int (x2 + x6)] σ5) (fun y8 σ7 => (if y6 = y8 then lj_D lc_P lc_M46 34 [.ref 4, .ref x1, .int x2, .int x3, .int x4, .int x5, .int (x6 + 1)] [] σ7 else lj_D lc_P lc_M46 95 [.ref 4, .ref x1, .int x2, .int x3, .int x4, .int x5, .int x6] [] σ7)) lj_up) lj_up else none))) lj_up else none))) lj_up) := by rw [lj_D_eq]; rfl
set_option maxRecDepth 100000 in
set_option maxHeartbeats 4000000 in
theorem kc_46_95 (x1 : Nat) (x2 : Int32) (x3 : Int32) (x4 : Int32) (x5 : Int32) (x6 : Int32) (σ : lj_S) : lj_D lc_P lc_M46 95 [.ref 4, .ref x1, .int x2, .int x3, .int x4, .int x5, .int x6] [] σ = (if x6 = x3 then (bif Nat.ble 1000 x1 && true then lj_bi (lj_R lc_P 901 [.ref x1, .int ((x5 + 1) + x3)] σ) (fun y2 σ1 => (if y2 = 32 then some (.inl (some (.int x4)), σ1) else lj_D lc_P lc_M46 119 [.ref 4, .ref x1, .int x2, .int x3, .int x4, .int x5, .int x6] [] σ1)) lj_up else none) else lj_D lc_P lc_M46 119 [.ref 4, .ref x1, .int x2, .int x3, .int x4, .int x5, .int x6] [] σ) := by rw [lj_D_eq]; rfl
set_option maxRecDepth 100000 in
set_option maxHeartbeats 4000000 in
theorem kc_46_119 (x1 : Nat) (x2 : Int32) (x3 : Int32) (x4 : Int32) (x5 : Int32) (x6 : Int32) (σ : lj_S) : lj_D lc_P lc_M46 119 [.ref 4, .ref x1, .int x2, .int x3, .int x4, .int x5, .int x6] [] σ = lj_D lc_P lc_M46 122 [.ref 4, .ref x1, .int x2, .int x3, .int (x4 + 1), .int x5, .int x6] [] σ := by rw [lj_D_eq]; rfl
set_option maxRecDepth 100000 in
set_option maxHeartbeats 4000000 in
theorem kc_46_122 (x1 : Nat) (x2 : Int32) (x3 : Int32) (x4 : Int32) (x5 : Int32) (x6 : Value) (σ : lj_S) : lj_D lc_P lc_M46 122 [.ref 4, .ref x1, .int x2, .int x3, .int x4, .int x5, x6] [] σ = lj_D lc_P lc_M46 6 [.ref 4, .ref x1, .int x2, .int x3, .int x4, .int (x5 + 1), x6] [] σ := by rw [lj_D_eq]; rfl
-- TableTongue$Reader.readWhole()Z
set_option maxRecDepth 100000 in
theorem rc_47  (σ : lj_S) : lj_R lc_P 47 [.ref 4] σ = lj_D lc_P lc_M47 0 [.ref 4, .retAddr 0, .retAddr 0, .retAddr 0, .retAddr 0, .retAddr 0, .retAddr 0, .retAddr 0] [] σ := lj_R_eq (nL := 8) (M := lc_M47) _ _ _ _ rfl rfl
set_option maxRecDepth 100000 in
set_option maxHeartbeats 4000000 in
theorem kc_47_0  (σ : lj_S) : lj_D lc_P lc_M47 0 [.ref 4, .retAddr 0, .retAddr 0, .retAddr 0, .retAddr 0, .retAddr 0, .retAddr 0, .retAddr 0] [] σ = lj_bi (lj_R lc_P 41 [.ref 4, .int (σ.1 4 2)] σ) (fun y2 σ1 => (if y2 = 48 then lj_bi (lj_R lc_P 41 [.ref 4, .int ((σ1.1 4 2) + 1)] σ1) (fun y4 σ3 => (if y4 = 120 then lj_D lc_P lc_M47 46 [.ref 4, .int (σ.1 4 2), .long 0, .retAddr 0, .int 0, .int 1, .retAddr 0, .retAddr 0] [.int 1] σ3 else lj_D lc_P lc_M47 45 [.ref 4, .int (σ.1 4 2), .long 0, .retAddr 0, .int 0, .int 1, .retAddr 0, .retAddr 0] [] σ3)) lj_up else lj_D lc_P lc_M47 45 [.ref 4, .int (σ.1 4 2), .long 0, .retAddr 0, .int 0, .int 1, .retAddr 0, .retAddr 0] [] σ1)) lj_up := by rw [lj_D_eq]; rfl
set_option maxRecDepth 100000 in
set_option maxHeartbeats 4000000 in
theorem kc_47_45 (x1 : Int32) (x2 : Int64) (x4 : Int32) (x5 : Int32) (σ : lj_S) : lj_D lc_P lc_M47 45 [.ref 4, .int x1, .long x2, .retAddr 0, .int x4, .int x5, .retAddr 0, .retAddr 0] [] σ = lj_D lc_P lc_M47 46 [.ref 4, .int x1, .long x2, .retAddr 0, .int x4, .int x5, .retAddr 0, .retAddr 0] [.int 0] σ := by rw [lj_D_eq]; rfl
set_option maxRecDepth 100000 in
set_option maxHeartbeats 4000000 in
theorem kc_47_46 (x1 : Int32) (x2 : Int64) (x4 : Int32) (x5 : Int32) (x50 : Int32) (σ : lj_S) : lj_D lc_P lc_M47 46 [.ref 4, .int x1, .long x2, .retAddr 0, .int x4, .int x5, .retAddr 0, .retAddr 0] [.int x50] σ = (if x50 = 0 then lj_D lc_P lc_M47 63 [.ref 4, .int x1, .long x2, .retAddr 0, .int x4, .int x5, .int x50, .retAddr 0] [.int 0, .int (σ.1 4 2), .ref 4] σ else lj_D lc_P lc_M47 63 [.ref 4, .int x1, .long x2, .retAddr 0, .int x4, .int x5, .int x50, .retAddr 0] [.int 2, .int (σ.1 4 2), .ref 4] σ) := by rw [lj_D_eq]; rfl
set_option maxRecDepth 100000 in
set_option maxHeartbeats 4000000 in
theorem kc_47_63 (x1 : Int32) (x2 : Int64) (x4 : Int32) (x5 : Int32) (x6 : Int32) (x50 : Int32) (x51 : Int32) (σ : lj_S) : lj_D lc_P lc_M47 63 [.ref 4, .int x1, .long x2, .retAddr 0, .int x4, .int x5, .int x6, .retAddr 0] [.int x50, .int x51, .ref 4] σ = lj_D lc_P lc_M47 67 [.ref 4, .int x1, .long x2, .retAddr 0, .int x4, .int x5, .int x6, .retAddr 0] [] (lj_put σ 4 2 (x51 + x50)) := by rw [lj_D_eq]; rfl
set_option maxRecDepth 100000 in
set_option maxHeartbeats 4000000 in
theorem kc_47_67 (x1 : Int32) (x2 : Int64) (x4 : Int32) (x5 : Int32) (x6 : Int32) (x7 : Value) (σ : lj_S) : lj_D lc_P lc_M47 67 [.ref 4, .int x1, .long x2, .retAddr 0, .int x4, .int x5, .int x6, x7] [] σ = (if x6 = 0 then lj_bi (lj_R lc_P 41 [.ref 4, .int (σ.1 4 2)] σ) (fun y2 σ1 => lj_bi (lj_R lc_P 45 [.ref 4, .int y2] σ1) (fun y4 σ3 => (if y4 = 0 then lj_D lc_P lc_M47 200 [.ref 4, .int x1, .long x2, .retAddr 0, .int x4, .int x5, .int x6, x7] [] σ3 else lj_D lc_P lc_M47 105 [.ref 4, .int x1, .long x2, .retAddr 0, .int x4, .int x5, .int x6, x7] [] σ3)) lj_up) lj_up else lj_bi (lj_R lc_P 41 [.ref 4, .int (σ.1 4 2)] σ) (fun y6 σ5 => lj_bi (lj_R lc_P 48 [.ref 4, .int y6] σ5) (fun y8 σ7 => (if y8 < 0 then lj_D lc_P lc_M47 200 [.ref 4, .int x1, .long x2, .retAddr 0, .int x4, .int x5, .int x6, x7] [] σ7 else lj_D lc_P lc_M47 105 [.ref 4, .int x1, .long x2, .retAddr 0, .int x4, .int x5, .int x6, x7] [] σ7)) lj_up) lj_up) := by rw [lj_D_eq]; rfl
set_option maxRecDepth 100000 in
set_option maxHeartbeats 4000000 in
theorem kc_47_105 (x1 : Int32) (x2 : Int64) (x4 : Int32) (x5 : Int32) (x6 : Int32) (x7 : Value) (σ : lj_S) : lj_D lc_P lc_M47 105 [.ref 4, .int x1, .long x2, .retAddr 0, .int x4, .int x5, .int x6, x7] [] σ = lj_bi (lj_R lc_P 41 [.ref 4, .int (σ.1 4 2)] σ) (fun y2 σ1 => lj_bi (lj_R lc_P 48 [.ref 4, .int y2] σ1) (fun y4 σ3 => (if x5 = 0 then lj_D lc_P lc_M47 156 [.ref 4, .int x1, .long x2, .retAddr 0, .int x4, .int x5, .int x6, .int y4] [] σ3 else (if x6 = 0 then (if (lg_cmp x2 922337203685477580) < 0 then lj_D lc_P lc_M47 152 [.ref 4, .int x1, .long x2, .retAddr 0, .int x4, .int x5, .int x6, .int y4] [] σ3 else (if (lg_cmp x2 922337203685477580) = 0 then (if 8 ≤ y4 then lj_D lc_P lc_M47 156 [.ref 4, .int x1, .long x2, .retAddr 0, .int x4, .int x5, .int x6, .int y4] [] σ3 else lj_D lc_P lc_M47 152 [.ref 4, .int x1, .long x2, .retAddr 0, .int x4, .int x5, .int x6, .int y4] [] σ3) else lj_D lc_P lc_M47 156 [.ref 4, .int x1, .long x2, .retAddr 0, .int x4, .int x5, .int x6, .int y4] [] σ3)) else lj_D lc_P lc_M47 152 [.ref 4, .int x1, .long x2, .retAddr 0, .int x4, .int x5, .int x6, .int y4] [] σ3))) lj_up) lj_up := by rw [lj_D_eq]; rfl
set_option maxRecDepth 100000 in
set_option maxHeartbeats 4000000 in
theorem kc_47_152 (x1 : Int32) (x2 : Int64) (x4 : Int32) (x5 : Int32) (x6 : Int32) (x7 : Int32) (σ : lj_S) : lj_D lc_P lc_M47 152 [.ref 4, .int x1, .long x2, .retAddr 0, .int x4, .int x5, .int x6, .int x7] [] σ = lj_D lc_P lc_M47 157 [.ref 4, .int x1, .long x2, .retAddr 0, .int x4, .int x5, .int x6, .int x7] [.int 1] σ := by rw [lj_D_eq]; rfl
set_option maxRecDepth 100000 in
set_option maxHeartbeats 4000000 in
theorem kc_47_156 (x1 : Int32) (x2 : Int64) (x4 : Int32) (x5 : Int32) (x6 : Int32) (x7 : Int32) (σ : lj_S) : lj_D lc_P lc_M47 156 [.ref 4, .int x1, .long x2, .retAddr 0, .int x4, .int x5, .int x6, .int x7] [] σ = lj_D lc_P lc_M47 157 [.ref 4, .int x1, .long x2, .retAddr 0, .int x4, .int x5, .int x6, .int x7] [.int 0] σ := by rw [lj_D_eq]; rfl
set_option maxRecDepth 100000 in
set_option maxHeartbeats 4000000 in
theorem kc_47_157 (x1 : Int32) (x2 : Int64) (x4 : Int32) (x5 : Int32) (x6 : Int32) (x7 : Int32) (x50 : Int32) (σ : lj_S) : lj_D lc_P lc_M47 157 [.ref 4, .int x1, .long x2, .retAddr 0, .int x4, .int x5, .int x6, .int x7] [.int x50] σ = (if x6 = 0 then lj_D lc_P lc_M47 183 [.ref 4, .int x1, .long x2, .retAddr 0, .int x4, .int x50, .int x6, .int x7] [.long ((10 * x2) + ((x7 : Int32).toInt64))] σ else lj_D lc_P lc_M47 183 [.ref 4, .int x1, .long x2, .retAddr 0, .int x4, .int x50, .int x6, .int x7] [.long ((x2 <<< ((4 : Int32).toInt64 &&& 63)) ||| ((x7 : Int32).toInt64))] σ) := by rw [lj_D_eq]; rfl
set_option maxRecDepth 100000 in
set_option maxHeartbeats 4000000 in
theorem kc_47_183 (x1 : Int32) (x2 : Int64) (x4 : Int32) (x5 : Int32) (x6 : Int32) (x7 : Int32) (x50 : Int64) (σ : lj_S) : lj_D lc_P lc_M47 183 [.ref 4, .int x1, .long x2, .retAddr 0, .int x4, .int x5, .int x6, .int x7] [.long x50] σ = lj_D lc_P lc_M47 67 [.ref 4, .int x1, .long x50, .retAddr 0, .int (x4 + 1), .int x5, .int x6, .int x7] [] (lj_put σ 4 2 ((σ.1 4 2) + 1)) := by rw [lj_D_eq]; rfl
set_option maxRecDepth 100000 in
set_option maxHeartbeats 4000000 in
theorem kc_47_200 (x1 : Int32) (x2 : Int64) (x4 : Int32) (x5 : Int32) (x6 : Int32) (x7 : Value) (σ : lj_S) : lj_D lc_P lc_M47 200 [.ref 4, .int x1, .long x2, .retAddr 0, .int x4, .int x5, .int x6, x7] [] σ = (if x5 = 0 then lj_D lc_P lc_M47 261 [.ref 4, .int x1, .long x2, .retAddr 0, .int x4, .int x5, .int x6, x7] [] σ else (if x4 ≤ 0 then lj_D lc_P lc_M47 261 [.ref 4, .int x1, .long x2, .retAddr 0, .int x4, .int x5, .int x6, x7] [] σ else (if x6 = 0 then lj_D lc_P lc_M47 224 [.ref 4, .int x1, .long x2, .retAddr 0, .int x4, .int x5, .int x6, x7] [.int 19, .int x4] σ else lj_D lc_P lc_M47 224 [.ref 4, .int x1, .long x2, .retAddr 0, .int x4, .int x5, .int x6, x7] [.int 16, .int x4] σ))) := by rw [lj_D_eq]; rfl
set_option maxRecDepth 100000 in
set_option maxHeartbeats 4000000 in
theorem kc_47_224 (x1 : Int32) (x2 : Int64) (x4 : Int32) (x5 : Int32) (x6 : Int32) (x7 : Value) (x50 : Int32) (x51 : Int32) (σ : lj_S) : lj_D lc_P lc_M47 224 [.ref 4, .int x1, .long x2, .retAddr 0, .int x4, .int x5, .int x6, x7] [.int x50, .int x51] σ = (if x50 < x51 then lj_D lc_P lc_M47 261 [.ref 4, .int x1, .long x2, .retAddr 0, .int x4, .int x5, .int x6, x7] [] σ else lj_bi (lj_R lc_P 41 [.ref 4, .int (σ.1 4 2)] σ) (fun y2 σ1 => lj_bi (lj_R lc_P 43 [.ref 4, .int y2] σ1) (fun y4 σ3 => (if y4 = 0 then lj_bi (lj_R lc_P 41 [.ref 4, .int (σ3.1 4 2)] σ3) (fun y6 σ5 => lj_bi (lj_R lc_P 45 [.ref 4, .int y6] σ5) (fun y8 σ7 => (if y8 = 0 then lj_D lc_P lc_M47 262 [.ref 4, .int x1, .long x2, .retAddr 0, .int x4, .int x5, .int x6, x7] [.int 1] σ7 else lj_D lc_P lc_M47 261 [.ref 4, .int x1, .long x2, .retAddr 0, .int x4, .int x5, .int x6, x7] [] σ7)) lj_up) lj_up else lj_D lc_P lc_M47 261 [.ref 4, .int x1, .long x2, .retAddr 0, .int x4, .int x5, .int x6, x7] [] σ3)) lj_up) lj_up) := by rw [lj_D_eq]; rfl
set_option maxRecDepth 100000 in
set_option maxHeartbeats 4000000 in
theorem kc_47_261 (x1 : Int32) (x2 : Int64) (x4 : Int32) (x5 : Int32) (x6 : Int32) (x7 : Value) (σ : lj_S) : lj_D lc_P lc_M47 261 [.ref 4, .int x1, .long x2, .retAddr 0, .int x4, .int x5, .int x6, x7] [] σ = lj_D lc_P lc_M47 262 [.ref 4, .int x1, .long x2, .retAddr 0, .int x4, .int x5, .int x6, x7] [.int 0] σ := by rw [lj_D_eq]; rfl
set_option maxRecDepth 100000 in
set_option maxHeartbeats 4000000 in
theorem kc_47_262 (x1 : Int32) (x2 : Int64) (x4 : Int32) (x5 : Int32) (x6 : Int32) (x7 : Value) (x50 : Int32) (σ : lj_S) : lj_D lc_P lc_M47 262 [.ref 4, .int x1, .long x2, .retAddr 0, .int x4, .int x5, .int x6, x7] [.int x50] σ = (if x50 = 0 then some (.inl (some (.int 0)), (lj_put σ 4 2 x1)) else lj_bv (lj_R lc_P 42 [.ref 4, .int 2, .long x2, .int x1] σ) (fun σ1 => some (.inl (some (.int 1)), σ1)) lj_up) := by rw [lj_D_eq]; rfl
-- TableTongue$Reader.hexOf(I)I
set_option maxRecDepth 100000 in
theorem rc_48 (x1 : Int32) (σ : lj_S) : lj_R lc_P 48 [.ref 4, .int x1] σ = lj_D lc_P lc_M48 0 [.ref 4, .int x1] [] σ := lj_R_eq (nL := 2) (M := lc_M48) _ _ _ _ rfl rfl
set_option maxRecDepth 100000 in
set_option maxHeartbeats 4000000 in
theorem kc_48_0 (x1 : Int32) (σ : lj_S) : lj_D lc_P lc_M48 0 [.ref 4, .int x1] [] σ = lj_bi (lj_R lc_P 45 [.ref 4, .int x1] σ) (fun y2 σ1 => (if y2 = 0 then lj_bi (lj_R lc_P 3 [.long ((x1 : Int32).toInt64), .long 97, .long 102] σ1) (fun y4 σ3 => (if y4 = 0 then lj_bi (lj_R lc_P 3 [.long ((x1 : Int32).toInt64), .long 65, .long 70] σ3) (fun y6 σ5 => (if y6 = 0 then lj_D lc_P lc_M48 64 [.ref 4, .int x1] [.int (-1)] σ5 else lj_D lc_P lc_M48 64 [.ref 4, .int x1] [.int ((x1 - 65) + 10)] σ5)) lj_up else lj_D lc_P lc_M48 64 [.ref 4, .int x1] [.int ((x1 - 97) + 10)] σ3)) lj_up else lj_D lc_P lc_M48 64 [.ref 4, .int x1] [.int (x1 - 48)] σ1)) lj_up := by rw [lj_D_eq]; rfl
set_option maxRecDepth 100000 in
set_option maxHeartbeats 4000000 in
theorem kc_48_64 (x1 : Int32) (x50 : Int32) (σ : lj_S) : lj_D lc_P lc_M48 64 [.ref 4, .int x1] [.int x50] σ = some (.inl (some (.int x50)), σ) := by rw [lj_D_eq]; rfl
-- TableTongue$Reader.readQuote()Z
set_option maxRecDepth 100000 in
theorem rc_49  (σ : lj_S) : lj_R lc_P 49 [.ref 4] σ = lj_D lc_P lc_M49 0 [.ref 4, .retAddr 0, .retAddr 0, .retAddr 0, .retAddr 0] [] σ := lj_R_eq (nL := 5) (M := lc_M49) _ _ _ _ rfl rfl
set_option maxRecDepth 100000 in
set_option maxHeartbeats 4000000 in
theorem kc_49_0  (σ : lj_S) : lj_D lc_P lc_M49 0 [.ref 4, .retAddr 0, .retAddr 0, .retAddr 0, .retAddr 0] [] σ = lj_bi (lj_R lc_P 41 [.ref 4, .int (σ.1 4 2)] σ) (fun y2 σ1 => lj_bv (lj_R lc_P 22 [.ref 3] (lj_put σ1 4 2 ((σ1.1 4 2) + 1))) (fun σ3 => lj_D lc_P lc_M49 36 [.ref 4, .int (σ.1 4 2), .int y2, .int 1, .retAddr 0] [] σ3) lj_up) lj_up := by rw [lj_D_eq]; rfl
set_option maxRecDepth 100000 in
set_option maxHeartbeats 4000000 in
theorem kc_49_36 (x1 : Int32) (x2 : Int32) (x3 : Int32) (x4 : Value) (σ : lj_S) : lj_D lc_P lc_M49 36 [.ref 4, .int x1, .int x2, .int x3, x4] [] σ = (if x3 = 0 then lj_D lc_P lc_M49 134 [.ref 4, .int x1, .int x2, .int x3, x4] [] σ else lj_bi (lj_R lc_P 41 [.ref 4, .int (σ.1 4 2)] σ) (fun y2 σ1 => (if y2 = x2 then lj_D lc_P lc_M49 134 [.ref 4, .int x1, .int x2, .int x3, x4] [] σ1 else lj_bi (lj_R lc_P 41 [.ref 4, .int (σ1.1 4 2)] σ1) (fun y4 σ3 => (if y4 = (-1) then lj_D lc_P lc_M49 75 [.ref 4, .int x1, .int x2, .int x3, .int y4] [] σ3 else (if y4 = 10 then lj_D lc_P lc_M49 75 [.ref 4, .int x1, .int x2, .int x3, .int y4] [] σ3 else (if y4 = 92 then lj_bi (lj_R lc_P 50 [.ref 4] (lj_put σ3 4 2 ((σ3.1 4 2) + 1))) (fun y6 σ5 => lj_D lc_P lc_M49 106 [.ref 4, .int x1, .int x2, .int x3, .int y4] [.int y6] σ5) lj_up else lj_D lc_P lc_M49 106 [.ref 4, .int x1, .int x2, .int x3, .int y4] [.int y4] (lj_put σ3 4 2 ((σ3.1 4 2) + 1)))))) lj_up)) lj_up) := by rw [lj_D_eq]; rfl
set_option maxRecDepth 100000 in
set_option maxHeartbeats 4000000 in
theorem kc_49_75 (x1 : Int32) (x2 : Int32) (x3 : Int32) (x4 : Int32) (σ : lj_S) : lj_D lc_P lc_M49 75 [.ref 4, .int x1, .int x2, .int x3, .int x4] [] σ = lj_D lc_P lc_M49 131 [.ref 4, .int x1, .int x2, .int 0, .int x4] [] σ := by rw [lj_D_eq]; rfl
set_option maxRecDepth 100000 in
set_option maxHeartbeats 4000000 in
theorem kc_49_106 (x1 : Int32) (x2 : Int32) (x3 : Int32) (x4 : Int32) (x50 : Int32) (σ : lj_S) : lj_D lc_P lc_M49 106 [.ref 4, .int x1, .int x2, .int x3, .int x4] [.int x50] σ = (if x50 < 0 then lj_D lc_P lc_M49 118 [.ref 4, .int x1, .int x2, .int x3, .int x50] [.int 0] σ else lj_D lc_P lc_M49 118 [.ref 4, .int x1, .int x2, .int x3, .int x50] [.int 1] σ) := by rw [lj_D_eq]; rfl
set_option maxRecDepth 100000 in
set_option maxHeartbeats 4000000 in
theorem kc_49_118 (x1 : Int32) (x2 : Int32) (x3 : Int32) (x4 : Int32) (x50 : Int32) (σ : lj_S) : lj_D lc_P lc_M49 118 [.ref 4, .int x1, .int x2, .int x3, .int x4] [.int x50] σ = lj_bv (lj_R lc_P 23 [.ref 3, .int x4] σ) (fun σ1 => lj_D lc_P lc_M49 131 [.ref 4, .int x1, .int x2, .int x50, .int x4] [] σ1) lj_up := by rw [lj_D_eq]; rfl
set_option maxRecDepth 100000 in
set_option maxHeartbeats 4000000 in
theorem kc_49_131 (x1 : Int32) (x2 : Int32) (x3 : Int32) (x4 : Int32) (σ : lj_S) : lj_D lc_P lc_M49 131 [.ref 4, .int x1, .int x2, .int x3, .int x4] [] σ = lj_D lc_P lc_M49 36 [.ref 4, .int x1, .int x2, .int x3, .int x4] [] σ := by rw [lj_D_eq]; rfl
set_option maxRecDepth 100000 in
set_option maxHeartbeats 4000000 in
theorem kc_49_134 (x1 : Int32) (x2 : Int32) (x3 : Int32) (x4 : Value) (σ : lj_S) : lj_D lc_P lc_M49 134 [.ref 4, .int x1, .int x2, .int x3, x4] [] σ = (if x3 = 0 then lj_D lc_P lc_M49 154 [.ref 4, .int x1, .int x2, .int x3, x4] [] σ else (if (σ.1 3 6) ≤ 200 then lj_bi (lj_R lc_P 24 [.ref 3] (lj_put σ 4 2 ((σ.1 4 2) + 1))) (fun y2 σ1 => lj_bv (lj_R lc_P 42 [.ref 4, .int 3, .long ((y2 : Int32).toInt64), .int x1] σ1) (fun σ3 => some (.inl (some (.int 1)), σ3)) lj_up) lj_up else lj_D lc_P lc_M49 154 [.ref 4, .int x1, .int x2, .int x3, x4] [] σ)) := by rw [lj_D_eq]; rfl
set_option maxRecDepth 100000 in
set_option maxHeartbeats 4000000 in
theorem kc_49_154 (x1 : Int32) (x2 : Int32) (x3 : Int32) (x4 : Value) (σ : lj_S) : lj_D lc_P lc_M49 154 [.ref 4, .int x1, .int x2, .int x3, x4] [] σ = some (.inl (some (.int 0)), (lj_put σ 4 2 x1)) := by rw [lj_D_eq]; rfl
-- TableTongue$Reader.escaped()I
set_option maxRecDepth 100000 in
theorem rc_50  (σ : lj_S) : lj_R lc_P 50 [.ref 4] σ = lj_D lc_P lc_M50 0 [.ref 4, .retAddr 0, .retAddr 0, .retAddr 0] [] σ := lj_R_eq (nL := 4) (M := lc_M50) _ _ _ _ rfl rfl
set_option maxRecDepth 100000 in
set_option maxHeartbeats 4000000 in
theorem kc_50_0  (σ : lj_S) : lj_D lc_P lc_M50 0 [.ref 4, .retAddr 0, .retAddr 0, .retAddr 0] [] σ = lj_bi (lj_R lc_P 41 [.ref 4, .int (σ.1 4 2)] σ) (fun y2 σ1 => lj_bi (lj_R lc_P 45 [.ref 4, .int y2] σ1) (fun y4 σ3 => (if y4 = 0 then (if y2 = 110 then lj_D lc_P lc_M50 142 [.ref 4, .int y2, .retAddr 0, .retAddr 0] [.int 10] (lj_put σ3 4 2 ((σ3.1 4 2) + 1)) else (if y2 = 116 then lj_D lc_P lc_M50 142 [.ref 4, .int y2, .retAddr 0, .retAddr 0] [.int 9] (lj_put σ3 4 2 ((σ3.1 4 2) + 1)) else (if y2 = 92 then lj_D lc_P lc_M50 137 [.ref 4, .int y2, .retAddr 0, .retAddr 0] [] (lj_put σ3 4 2 ((σ3.1 4 2) + 1)) else (if y2 = 34 then lj_D lc_P lc_M50 137 [.ref 4, .int y2, .retAddr 0, .retAddr 0] [] (lj_put σ3 4 2 ((σ3.1 4 2) + 1)) else (if y2 = 39 then lj_D lc_P lc_M50 137 [.ref 4, .int y2, .retAddr 0, .retAddr 0] [] (lj_put σ3 4 2 ((σ3.1 4 2) + 1)) else lj_D lc_P lc_M50 142 [.ref 4, .int y2, .retAddr 0, .retAddr 0] [.int (-1)] (lj_put σ3 4 2 ((σ3.1 4 2) + 1))))))) else lj_D lc_P lc_M50 21 [.ref 4, .int y2, .int 0, .int 0] [] σ3)) lj_up) lj_up := by rw [lj_D_eq]; rfl
set_option maxRecDepth 100000 in
set_option maxHeartbeats 4000000 in
theorem kc_50_21 (x1 : Int32) (x2 : Int32) (x3 : Int32) (σ : lj_S) : lj_D lc_P lc_M50 21 [.ref 4, .int x1, .int x2, .int x3] [] σ = (if 3 ≤ x3 then lj_D lc_P lc_M50 74 [.ref 4, .int x1, .int x2, .int x3] [] σ else lj_bi (lj_R lc_P 41 [.ref 4, .int (σ.1 4 2)] σ) (fun y2 σ1 => lj_bi (lj_R lc_P 45 [.ref 4, .int y2] σ1) (fun y4 σ3 => (if y4 = 0 then lj_D lc_P lc_M50 74 [.ref 4, .int x1, .int x2, .int x3] [] σ3 else lj_bi (lj_R lc_P 41 [.ref 4, .int (σ3.1 4 2)] σ3) (fun y6 σ5 => lj_D lc_P lc_M50 21 [.ref 4, .int x1, .int (((10 * x2) + y6) - 48), .int (x3 + 1)] [] (lj_put σ5 4 2 ((σ5.1 4 2) + 1))) lj_up)) lj_up) lj_up) := by rw [lj_D_eq]; rfl
set_option maxRecDepth 100000 in
set_option maxHeartbeats 4000000 in
theorem kc_50_74 (x1 : Int32) (x2 : Int32) (x3 : Int32) (σ : lj_S) : lj_D lc_P lc_M50 74 [.ref 4, .int x1, .int x2, .int x3] [] σ = (if x2 ≤ 255 then lj_D lc_P lc_M50 86 [.ref 4, .int x1, .int x2, .int x3] [.int x2] σ else lj_D lc_P lc_M50 86 [.ref 4, .int x1, .int x2, .int x3] [.int (-1)] σ) := by rw [lj_D_eq]; rfl
set_option maxRecDepth 100000 in
set_option maxHeartbeats 4000000 in
theorem kc_50_86 (x1 : Int32) (x2 : Int32) (x3 : Int32) (x50 : Int32) (σ : lj_S) : lj_D lc_P lc_M50 86 [.ref 4, .int x1, .int x2, .int x3] [.int x50] σ = some (.inl (some (.int x50)), σ) := by rw [lj_D_eq]; rfl
set_option maxRecDepth 100000 in
set_option maxHeartbeats 4000000 in
theorem kc_50_137 (x1 : Int32) (σ : lj_S) : lj_D lc_P lc_M50 137 [.ref 4, .int x1, .retAddr 0, .retAddr 0] [] σ = lj_D lc_P lc_M50 142 [.ref 4, .int x1, .retAddr 0, .retAddr 0] [.int x1] σ := by rw [lj_D_eq]; rfl
set_option maxRecDepth 100000 in
set_option maxHeartbeats 4000000 in
theorem kc_50_142 (x1 : Int32) (x50 : Int32) (σ : lj_S) : lj_D lc_P lc_M50 142 [.ref 4, .int x1, .retAddr 0, .retAddr 0] [.int x50] σ = some (.inl (some (.int x50)), σ) := by rw [lj_D_eq]; rfl
-- TableTongue$Reader.readSign()Z
set_option maxRecDepth 100000 in
theorem rc_51  (σ : lj_S) : lj_R lc_P 51 [.ref 4] σ = lj_D lc_P lc_M51 0 [.ref 4, .retAddr 0, .retAddr 0] [] σ := lj_R_eq (nL := 3) (M := lc_M51) _ _ _ _ rfl rfl
set_option maxRecDepth 100000 in
set_option maxHeartbeats 4000000 in
theorem kc_51_0  (σ : lj_S) : lj_D lc_P lc_M51 0 [.ref 4, .retAddr 0, .retAddr 0] [] σ = lj_bi (lj_R lc_P 222 [.int 3, .int ((σ.1 4 1) - (σ.1 4 2))] σ) (fun y2 σ1 => lj_D lc_P lc_M51 14 [.ref 4, .int y2, .retAddr 0] [] σ1) lj_up := by rw [lj_D_eq]; rfl
set_option maxRecDepth 100000 in
set_option maxHeartbeats 4000000 in
theorem kc_51_14 (x1 : Int32) (x2 : Value) (σ : lj_S) : lj_D lc_P lc_M51 14 [.ref 4, .int x1, x2] [] σ = (if x1 ≤ 0 then some (.inl (some (.int 0)), σ) else lj_bi (lj_R lc_P 46 [.ref 4, .ref 1001, .int (σ.1 4 2), .int x1] σ) (fun y2 σ1 => (if y2 < 0 then lj_D lc_P lc_M51 14 [.ref 4, .int (x1 + (-1)), .int y2] [] σ1 else lj_bv (lj_R lc_P 42 [.ref 4, .int (40 + y2), .long 0, .int (σ1.1 4 2)] σ1) (fun σ3 => some (.inl (some (.int 1)), (lj_put σ3 4 2 ((σ3.1 4 2) + x1)))) lj_up)) lj_up) := by rw [lj_D_eq]; rfl
-- TableTongue$Reader.lineAt(I)I
set_option maxRecDepth 100000 in
theorem rc_52 (x1 : Int32) (σ : lj_S) : lj_R lc_P 52 [.ref 4, .int x1] σ = lj_D lc_P lc_M52 0 [.ref 4, .int x1, .retAddr 0, .retAddr 0] [] σ := lj_R_eq (nL := 4) (M := lc_M52) _ _ _ _ rfl rfl
set_option maxRecDepth 100000 in
set_option maxHeartbeats 4000000 in
theorem kc_52_0 (x1 : Int32) (σ : lj_S) : lj_D lc_P lc_M52 0 [.ref 4, .int x1, .retAddr 0, .retAddr 0] [] σ = lj_D lc_P lc_M52 4 [.ref 4, .int x1, .int 1, .int 0] [] σ := by rw [lj_D_eq]; rfl
set_option maxRecDepth 100000 in
set_option maxHeartbeats 4000000 in
theorem kc_52_4 (x1 : Int32) (x2 : Int32) (x3 : Int32) (σ : lj_S) : lj_D lc_P lc_M52 4 [.ref 4, .int x1, .int x2, .int x3] [] σ = (if x1 ≤ x3 then some (.inl (some (.int x2)), σ) else (if lj_in x3 6000 then (if (σ.1 17 x3.toNatClampNeg) = 10 then lj_D lc_P lc_M52 26 [.ref 4, .int x1, .int x2, .int x3] [.int 1, .int x2] σ else lj_D lc_P lc_M52 26 [.ref 4, .int x1, .int x2, .int x3] [.int 0, .int x2] σ) else none)) := by rw [lj_D_eq]; rfl
set_option maxRecDepth 100000 in
set_option maxHeartbeats 4000000 in
theorem kc_52_26 (x1 : Int32) (x2 : Int32) (x3 : Int32) (x50 : Int32) (x51 : Int32) (σ : lj_S) : lj_D lc_P lc_M52 26 [.ref 4, .int x1, .int x2, .int x3] [.int x50, .int x51] σ = lj_D lc_P lc_M52 4 [.ref 4, .int x1, .int (x51 + x50), .int (x3 + 1)] [] σ := by rw [lj_D_eq]; rfl
