-- TableTongue$Strings.clear()V
set_option maxRecDepth 100000 in
theorem rc_21  (σ : lj_S) : lj_R lc_P 21 [.ref 3] σ = lj_D lc_P lc_M21 0 [.ref 3, .retAddr 0] [] σ := lj_R_eq (nL := 2) (M := lc_M21) _ _ _ _ rfl rfl
set_option maxRecDepth 100000 in
set_option maxHeartbeats 4000000 in
theorem kc_21_0  (σ : lj_S) : lj_D lc_P lc_M21 0 [.ref 3, .retAddr 0] [] σ = lj_D lc_P lc_M21 22 [.ref 3, .int 0] [] (lj_put (lj_put (lj_put (lj_put σ 3 7 0) 3 8 0) 3 9 0) 3 10 0) := by rw [lj_D_eq]; rfl
set_option maxRecDepth 100000 in
set_option maxHeartbeats 4000000 in
theorem kc_21_22 (x1 : Int32) (σ : lj_S) : lj_D lc_P lc_M21 22 [.ref 3, .int x1] [] σ = (if 1024 ≤ x1 then some (.inl none, σ) else (if lj_in x1 1024 then lj_D lc_P lc_M21 22 [.ref 3, .int (x1 + 1)] [] (lj_put σ 13 x1.toNatClampNeg (-1)) else none)) := by rw [lj_D_eq]; rfl
-- TableTongue$Strings.begin()V
set_option maxRecDepth 100000 in
theorem rc_22  (σ : lj_S) : lj_R lc_P 22 [.ref 3] σ = lj_D lc_P lc_M22 0 [.ref 3] [] σ := lj_R_eq (nL := 1) (M := lc_M22) _ _ _ _ rfl rfl
set_option maxRecDepth 100000 in
set_option maxHeartbeats 4000000 in
theorem kc_22_0  (σ : lj_S) : lj_D lc_P lc_M22 0 [.ref 3] [] σ = some (.inl none, (lj_put σ 3 6 0)) := by rw [lj_D_eq]; rfl
-- TableTongue$Strings.add(I)V
set_option maxRecDepth 100000 in
theorem rc_23 (x1 : Int32) (σ : lj_S) : lj_R lc_P 23 [.ref 3, .int x1] σ = lj_D lc_P lc_M23 0 [.ref 3, .int x1] [] σ := lj_R_eq (nL := 2) (M := lc_M23) _ _ _ _ rfl rfl
set_option maxRecDepth 100000 in
set_option maxHeartbeats 4000000 in
theorem kc_23_0 (x1 : Int32) (σ : lj_S) : lj_D lc_P lc_M23 0 [.ref 3, .int x1] [] σ = (if 2400 ≤ (σ.1 3 6) then lj_D lc_P lc_M23 23 [.ref 3, .int x1] [] σ else (if lj_in (σ.1 3 6) 2400 then lj_D lc_P lc_M23 23 [.ref 3, .int x1] [] (lj_put σ 14 ((σ.1 3 6).toNatClampNeg) (vp_nar .byte ((x1 : Int32).toInt8.toInt32))) else none)) := by rw [lj_D_eq]; rfl
set_option maxRecDepth 100000 in
set_option maxHeartbeats 4000000 in
theorem kc_23_23 (x1 : Int32) (σ : lj_S) : lj_D lc_P lc_M23 23 [.ref 3, .int x1] [] σ = some (.inl none, (lj_put σ 3 6 ((σ.1 3 6) + 1))) := by rw [lj_D_eq]; rfl
-- TableTongue$Strings.settle()I
set_option maxRecDepth 100000 in
theorem rc_24  (σ : lj_S) : lj_R lc_P 24 [.ref 3] σ = lj_D lc_P lc_M24 0 [.ref 3, .retAddr 0] [] σ := lj_R_eq (nL := 2) (M := lc_M24) _ _ _ _ rfl rfl
set_option maxRecDepth 100000 in
set_option maxHeartbeats 4000000 in
theorem kc_24_0  (σ : lj_S) : lj_D lc_P lc_M24 0 [.ref 3, .retAddr 0] [] σ = lj_bi (lj_R lc_P 25 [.ref 3] σ) (fun y2 σ1 => (if lj_in y2 2600 then some (.inl (some (.int y2)), (lj_put σ1 15 y2.toNatClampNeg (vp_nar .boolean 1))) else none)) lj_up := by rw [lj_D_eq]; rfl
-- TableTongue$Strings.make()I
set_option maxRecDepth 100000 in
theorem rc_25  (σ : lj_S) : lj_R lc_P 25 [.ref 3] σ = lj_D lc_P lc_M25 0 [.ref 3, .retAddr 0, .retAddr 0, .retAddr 0] [] σ := lj_R_eq (nL := 4) (M := lc_M25) _ _ _ _ rfl rfl
set_option maxRecDepth 100000 in
set_option maxHeartbeats 4000000 in
theorem kc_25_0  (σ : lj_S) : lj_D lc_P lc_M25 0 [.ref 3, .retAddr 0, .retAddr 0, .retAddr 0] [] σ = lj_bi (lj_R lc_P 26 [.ref 3] σ) (fun y2 σ1 => (if lj_in y2 1024 then lj_D lc_P lc_M25 12 [.ref 3, .int y2, .int (σ1.1 13 y2.toNatClampNeg), .retAddr 0] [] σ1 else none)) lj_up := by rw [lj_D_eq]; rfl
set_option maxRecDepth 100000 in
set_option maxHeartbeats 4000000 in
theorem kc_25_12 (x1 : Int32) (x2 : Int32) (σ : lj_S) : lj_D lc_P lc_M25 12 [.ref 3, .int x1, .int x2, .retAddr 0] [] σ = (if x2 < 0 then (if lj_in (σ.1 3 7) 2600 then (if lj_in (σ.1 3 7) 2600 then lj_D lc_P lc_M25 70 [.ref 3, .int x1, .int (σ.1 3 7), .int 0] [] (lj_put (lj_put (lj_put σ 3 7 ((σ.1 3 7) + 1)) 10 ((σ.1 3 7).toNatClampNeg) (σ.1 3 8)) 11 ((σ.1 3 7).toNatClampNeg) (σ.1 3 6)) else none) else none) else lj_bi (lj_R lc_P 27 [.ref 3, .int x2] σ) (fun y2 σ1 => (if y2 = 0 then (if lj_in x2 2600 then lj_D lc_P lc_M25 12 [.ref 3, .int x1, .int (σ1.1 12 x2.toNatClampNeg), .retAddr 0] [] σ1 else none) else some (.inl (some (.int x2)), σ1))) lj_up) := by rw [lj_D_eq]; rfl
set_option maxRecDepth 100000 in
set_option maxHeartbeats 4000000 in
theorem kc_25_70 (x1 : Int32) (x2 : Int32) (x3 : Int32) (σ : lj_S) : lj_D lc_P lc_M25 70 [.ref 3, .int x1, .int x2, .int x3] [] σ = (if (σ.1 3 6) ≤ x3 then (if lj_in x1 1024 then (if lj_in x2 2600 then (if lj_in x1 1024 then (if lj_in x2 2600 then some (.inl (some (.int x2)), (lj_put (lj_put (lj_put σ 12 x2.toNatClampNeg (σ.1 13 x1.toNatClampNeg)) 13 x1.toNatClampNeg x2) 15 x2.toNatClampNeg (vp_nar .boolean 0))) else none) else none) else none) else none) else (if lj_in x3 2400 then (if lj_in (σ.1 3 8) 40000 then lj_D lc_P lc_M25 70 [.ref 3, .int x1, .int x2, .int (x3 + 1)] [] (lj_put (lj_put σ 3 8 ((σ.1 3 8) + 1)) 9 ((σ.1 3 8).toNatClampNeg) (vp_nar .byte (σ.1 14 x3.toNatClampNeg))) else none) else none)) := by rw [lj_D_eq]; rfl
-- TableTongue$Strings.bucket()I
set_option maxRecDepth 100000 in
theorem rc_26  (σ : lj_S) : lj_R lc_P 26 [.ref 3] σ = lj_D lc_P lc_M26 0 [.ref 3, .retAddr 0, .retAddr 0] [] σ := lj_R_eq (nL := 3) (M := lc_M26) _ _ _ _ rfl rfl
set_option maxRecDepth 100000 in
set_option maxHeartbeats 4000000 in
theorem kc_26_0  (σ : lj_S) : lj_D lc_P lc_M26 0 [.ref 3, .retAddr 0, .retAddr 0] [] σ = lj_D lc_P lc_M26 7 [.ref 3, .int (σ.1 3 6), .int 0] [] σ := by rw [lj_D_eq]; rfl
set_option maxRecDepth 100000 in
set_option maxHeartbeats 4000000 in
theorem kc_26_7 (x1 : Int32) (x2 : Int32) (σ : lj_S) : lj_D lc_P lc_M26 7 [.ref 3, .int x1, .int x2] [] σ = (if (σ.1 3 6) ≤ x2 then some (.inl (some (.int (((x1 ^^^ (((x1 : Int32).toUInt32 >>> ((10 : Int32).toUInt32 &&& Int32.toUInt32 31)).toInt32)) ^^^ (((x1 : Int32).toUInt32 >>> ((20 : Int32).toUInt32 &&& Int32.toUInt32 31)).toInt32)) &&& (1024 - 1)))), σ) else (if lj_in x2 2400 then lj_D lc_P lc_M26 7 [.ref 3, .int ((31 * x1) + (σ.1 14 x2.toNatClampNeg)), .int (x2 + 1)] [] σ else none)) := by rw [lj_D_eq]; rfl
-- TableTongue$Strings.isDraft(I)Z
set_option maxRecDepth 100000 in
theorem rc_27 (x1 : Int32) (σ : lj_S) : lj_R lc_P 27 [.ref 3, .int x1] σ = lj_D lc_P lc_M27 0 [.ref 3, .int x1, .retAddr 0, .retAddr 0] [] σ := lj_R_eq (nL := 4) (M := lc_M27) _ _ _ _ rfl rfl
set_option maxRecDepth 100000 in
set_option maxHeartbeats 4000000 in
theorem kc_27_0 (x1 : Int32) (σ : lj_S) : lj_D lc_P lc_M27 0 [.ref 3, .int x1, .retAddr 0, .retAddr 0] [] σ = (if lj_in x1 2600 then (if (σ.1 11 x1.toNatClampNeg) = (σ.1 3 6) then lj_D lc_P lc_M27 18 [.ref 3, .int x1, .retAddr 0, .retAddr 0] [.int 1] σ else lj_D lc_P lc_M27 18 [.ref 3, .int x1, .retAddr 0, .retAddr 0] [.int 0] σ) else none) := by rw [lj_D_eq]; rfl
set_option maxRecDepth 100000 in
set_option maxHeartbeats 4000000 in
theorem kc_27_18 (x1 : Int32) (x50 : Int32) (σ : lj_S) : lj_D lc_P lc_M27 18 [.ref 3, .int x1, .retAddr 0, .retAddr 0] [.int x50] σ = lj_D lc_P lc_M27 21 [.ref 3, .int x1, .int x50, .int 0] [] σ := by rw [lj_D_eq]; rfl
set_option maxRecDepth 100000 in
set_option maxHeartbeats 4000000 in
theorem kc_27_21 (x1 : Int32) (x2 : Int32) (x3 : Int32) (σ : lj_S) : lj_D lc_P lc_M27 21 [.ref 3, .int x1, .int x2, .int x3] [] σ = (if (σ.1 3 6) ≤ x3 then lj_D lc_P lc_M27 67 [.ref 3, .int x1, .int x2, .int x3] [] σ else (if x2 = 0 then lj_D lc_P lc_M27 67 [.ref 3, .int x1, .int x2, .int x3] [] σ else (if lj_in x1 2600 then (if lj_in ((σ.1 10 x1.toNatClampNeg) + x3) 40000 then (if lj_in x3 2400 then (if ((σ.1 9 (((σ.1 10 x1.toNatClampNeg) + x3).toNatClampNeg))) = (σ.1 14 x3.toNatClampNeg) then lj_D lc_P lc_M27 60 [.ref 3, .int x1, .int x2, .int x3] [.int 1] σ else lj_D lc_P lc_M27 60 [.ref 3, .int x1, .int x2, .int x3] [.int 0] σ) else none) else none) else none))) := by rw [lj_D_eq]; rfl
set_option maxRecDepth 100000 in
set_option maxHeartbeats 4000000 in
theorem kc_27_60 (x1 : Int32) (x2 : Int32) (x3 : Int32) (x50 : Int32) (σ : lj_S) : lj_D lc_P lc_M27 60 [.ref 3, .int x1, .int x2, .int x3] [.int x50] σ = lj_D lc_P lc_M27 21 [.ref 3, .int x1, .int x50, .int (x3 + 1)] [] σ := by rw [lj_D_eq]; rfl
set_option maxRecDepth 100000 in
set_option maxHeartbeats 4000000 in
theorem kc_27_67 (x1 : Int32) (x2 : Int32) (x3 : Int32) (σ : lj_S) : lj_D lc_P lc_M27 67 [.ref 3, .int x1, .int x2, .int x3] [] σ = some (.inl (some (.int (vp_nar .boolean x2))), σ) := by rw [lj_D_eq]; rfl
-- TableTongue$Strings.seek(Ljava/lang/String;)I
set_option maxRecDepth 100000 in
theorem rc_28 (x1 : Nat) (σ : lj_S) : lj_R lc_P 28 [.ref 3, .ref x1] σ = lj_D lc_P lc_M28 0 [.ref 3, .ref x1, .retAddr 0] [] σ := lj_R_eq (nL := 3) (M := lc_M28) _ _ _ _ rfl rfl
set_option maxRecDepth 100000 in
set_option maxHeartbeats 4000000 in
theorem kc_28_0 (x1 : Nat) (σ : lj_S) : lj_D lc_P lc_M28 0 [.ref 3, .ref x1, .retAddr 0] [] σ = lj_bv (lj_R lc_P 22 [.ref 3] σ) (fun σ1 => lj_bv (lj_R lc_P 29 [.ref 3, .ref x1] σ1) (fun σ2 => lj_bi (lj_R lc_P 26 [.ref 3] σ2) (fun y4 σ3 => (if lj_in y4 1024 then lj_D lc_P lc_M28 19 [.ref 3, .ref x1, .int (σ3.1 13 y4.toNatClampNeg)] [] σ3 else none)) lj_up) lj_up) lj_up := by rw [lj_D_eq]; rfl
set_option maxRecDepth 100000 in
set_option maxHeartbeats 4000000 in
theorem kc_28_19 (x1 : Nat) (x2 : Int32) (σ : lj_S) : lj_D lc_P lc_M28 19 [.ref 3, .ref x1, .int x2] [] σ = (if x2 < 0 then some (.inl (some (.int (-2))), σ) else lj_bi (lj_R lc_P 27 [.ref 3, .int x2] σ) (fun y2 σ1 => (if y2 = 0 then (if lj_in x2 2600 then lj_D lc_P lc_M28 19 [.ref 3, .ref x1, .int (σ1.1 12 x2.toNatClampNeg)] [] σ1 else none) else some (.inl (some (.int x2)), σ1))) lj_up) := by rw [lj_D_eq]; rfl
-- TableTongue$Strings.addWord(Ljava/lang/String;)V
set_option maxRecDepth 100000 in
theorem rc_29 (x1 : Nat) (σ : lj_S) : lj_R lc_P 29 [.ref 3, .ref x1] σ = lj_D lc_P lc_M29 0 [.ref 3, .ref x1, .retAddr 0] [] σ := lj_R_eq (nL := 3) (M := lc_M29) _ _ _ _ rfl rfl
set_option maxRecDepth 100000 in
set_option maxHeartbeats 4000000 in
theorem kc_29_0 (x1 : Nat) (σ : lj_S) : lj_D lc_P lc_M29 0 [.ref 3, .ref x1, .retAddr 0] [] σ = lj_D lc_P lc_M29 2 [.ref 3, .ref x1, .int 0] [] σ := by rw [lj_D_eq]; rfl
set_option maxRecDepth 100000 in
set_option maxHeartbeats 4000000 in
theorem kc_29_2 (x1 : Nat) (x2 : Int32) (σ : lj_S) : lj_D lc_P lc_M29 2 [.ref 3, .ref x1, .int x2] [] σ = (bif Nat.ble 1000 x1 && true then lj_bi (lj_R lc_P 900 [.ref x1] σ) (fun y2 σ1 => (if y2 ≤ x2 then some (.inl none, σ1) else (bif Nat.ble 1000 x1 && true then lj_bi (lj_R lc_P 901 [.ref x1, .int x2] σ1) (fun y4 σ3 => lj_bv (lj_R lc_P 23 [.ref 3, .int y4] σ3) (fun σ5 => lj_D lc_P lc_M29 2 [.ref 3, .ref x1, .int (x2 + 1)] [] σ5) lj_up) lj_up else none))) lj_up else none) := by rw [lj_D_eq]; rfl
-- TableTongue$Strings.word(Ljava/lang/String;)I
set_option maxRecDepth 100000 in
theorem rc_30 (x1 : Nat) (σ : lj_S) : lj_R lc_P 30 [.ref 3, .ref x1] σ = lj_D lc_P lc_M30 0 [.ref 3, .ref x1] [] σ := lj_R_eq (nL := 2) (M := lc_M30) _ _ _ _ rfl rfl
set_option maxRecDepth 100000 in
set_option maxHeartbeats 4000000 in
theorem kc_30_0 (x1 : Nat) (σ : lj_S) : lj_D lc_P lc_M30 0 [.ref 3, .ref x1] [] σ = lj_bv (lj_R lc_P 22 [.ref 3] σ) (fun σ1 => lj_bv (lj_R lc_P 29 [.ref 3, .ref x1] σ1) (fun σ2 => lj_bi (lj_R lc_P 25 [.ref 3] σ2) (fun y4 σ3 => some (.inl (some (.int y4)), σ3)) lj_up) lj_up) lj_up := by rw [lj_D_eq]; rfl
-- TableTongue$Strings.fix()V
set_option maxRecDepth 100000 in
theorem rc_31  (σ : lj_S) : lj_R lc_P 31 [.ref 3] σ = lj_D lc_P lc_M31 0 [.ref 3, .retAddr 0] [] σ := lj_R_eq (nL := 2) (M := lc_M31) _ _ _ _ rfl rfl
set_option maxRecDepth 100000 in
set_option maxHeartbeats 4000000 in
theorem kc_31_0  (σ : lj_S) : lj_D lc_P lc_M31 0 [.ref 3, .retAddr 0] [] σ = lj_D lc_P lc_M31 18 [.ref 3, .int 0] [] (lj_put (lj_put σ 3 9 (σ.1 3 7)) 3 10 (σ.1 3 8)) := by rw [lj_D_eq]; rfl
set_option maxRecDepth 100000 in
set_option maxHeartbeats 4000000 in
theorem kc_31_18 (x1 : Int32) (σ : lj_S) : lj_D lc_P lc_M31 18 [.ref 3, .int x1] [] σ = (if (σ.1 3 7) ≤ x1 then some (.inl none, σ) else (if lj_in x1 2600 then (if lj_in x1 2600 then lj_D lc_P lc_M31 18 [.ref 3, .int (x1 + 1)] [] (lj_put σ 16 x1.toNatClampNeg (vp_nar .boolean (σ.1 15 x1.toNatClampNeg))) else none) else none)) := by rw [lj_D_eq]; rfl
-- TableTongue$Strings.back()V
set_option maxRecDepth 100000 in
theorem rc_32  (σ : lj_S) : lj_R lc_P 32 [.ref 3] σ = lj_D lc_P lc_M32 0 [.ref 3, .retAddr 0] [] σ := lj_R_eq (nL := 2) (M := lc_M32) _ _ _ _ rfl rfl
set_option maxRecDepth 100000 in
set_option maxHeartbeats 4000000 in
theorem kc_32_0  (σ : lj_S) : lj_D lc_P lc_M32 0 [.ref 3, .retAddr 0] [] σ = lj_D lc_P lc_M32 2 [.ref 3, .int 0] [] σ := by rw [lj_D_eq]; rfl
set_option maxRecDepth 100000 in
set_option maxHeartbeats 4000000 in
theorem kc_32_2 (x1 : Int32) (σ : lj_S) : lj_D lc_P lc_M32 2 [.ref 3, .int x1] [] σ = (if 1024 ≤ x1 then lj_D lc_P lc_M32 68 [.ref 3, .int 0] [] (lj_put (lj_put σ 3 7 (σ.1 3 9)) 3 8 (σ.1 3 10)) else lj_D lc_P lc_M32 11 [.ref 3, .int x1] [] σ) := by rw [lj_D_eq]; rfl
set_option maxRecDepth 100000 in
set_option maxHeartbeats 4000000 in
theorem kc_32_11 (x1 : Int32) (σ : lj_S) : lj_D lc_P lc_M32 11 [.ref 3, .int x1] [] σ = (if lj_in x1 1024 then (if (σ.1 13 x1.toNatClampNeg) < (σ.1 3 9) then lj_D lc_P lc_M32 2 [.ref 3, .int (x1 + 1)] [] σ else (if lj_in x1 1024 then (if lj_in (σ.1 13 x1.toNatClampNeg) 2600 then (if lj_in x1 1024 then lj_D lc_P lc_M32 11 [.ref 3, .int x1] [] (lj_put σ 13 x1.toNatClampNeg ((σ.1 12 ((σ.1 13 x1.toNatClampNeg).toNatClampNeg)))) else none) else none) else none)) else none) := by rw [lj_D_eq]; rfl
set_option maxRecDepth 100000 in
set_option maxHeartbeats 4000000 in
theorem kc_32_68 (x1 : Int32) (σ : lj_S) : lj_D lc_P lc_M32 68 [.ref 3, .int x1] [] σ = (if (σ.1 3 7) ≤ x1 then some (.inl none, (lj_put (lj_put σ 3 13 0) 3 14 0)) else (if lj_in x1 2600 then (if lj_in x1 2600 then lj_D lc_P lc_M32 68 [.ref 3, .int (x1 + 1)] [] (lj_put σ 15 x1.toNatClampNeg (vp_nar .boolean (σ.1 16 x1.toNatClampNeg))) else none) else none)) := by rw [lj_D_eq]; rfl
-- TableTongue$Strings.addNumber(J)V
set_option maxRecDepth 100000 in
theorem rc_33 (x1 : Int64) (σ : lj_S) : lj_R lc_P 33 [.ref 3, .long x1] σ = lj_D lc_P lc_M33 0 [.ref 3, .long x1, .retAddr 0, .retAddr 0, .retAddr 0, .retAddr 0, .retAddr 0] [] σ := lj_R_eq (nL := 7) (M := lc_M33) _ _ _ _ rfl rfl
set_option maxRecDepth 100000 in
set_option maxHeartbeats 4000000 in
theorem kc_33_0 (x1 : Int64) (σ : lj_S) : lj_D lc_P lc_M33 0 [.ref 3, .long x1, .retAddr 0, .retAddr 0, .retAddr 0, .retAddr 0, .retAddr 0] [] σ = (if 0 ≤ (lg_cmp x1 0) then lj_D lc_P lc_M33 12 [.ref 3, .long x1, .retAddr 0, .retAddr 0, .retAddr 0, .retAddr 0, .retAddr 0] [] σ else lj_bv (lj_R lc_P 23 [.ref 3, .int 45] σ) (fun σ1 => lj_D lc_P lc_M33 12 [.ref 3, .long x1, .retAddr 0, .retAddr 0, .retAddr 0, .retAddr 0, .retAddr 0] [] σ1) lj_up) := by rw [lj_D_eq]; rfl
set_option maxRecDepth 100000 in
set_option maxHeartbeats 4000000 in
theorem kc_33_12 (x1 : Int64) (σ : lj_S) : lj_D lc_P lc_M33 12 [.ref 3, .long x1, .retAddr 0, .retAddr 0, .retAddr 0, .retAddr 0, .retAddr 0] [] σ = lj_D lc_P lc_M33 14 [.ref 3, .long x1, .retAddr 0, .long 1, .retAddr 0, .retAddr 0, .retAddr 0] [] σ := by rw [lj_D_eq]; rfl
set_option maxRecDepth 100000 in
set_option maxHeartbeats 4000000 in
theorem kc_33_14 (x1 : Int64) (x3 : Int64) (σ : lj_S) : lj_D lc_P lc_M33 14 [.ref 3, .long x1, .retAddr 0, .long x3, .retAddr 0, .retAddr 0, .retAddr 0] [] σ = (if x3 = 0 then none else (if 0 < (lg_cmp (x1 / x3) 9) then lj_D lc_P lc_M33 34 [.ref 3, .long x1, .retAddr 0, .long x3, .retAddr 0, .retAddr 0, .retAddr 0] [] σ else (if x3 = 0 then none else (if 0 ≤ (lg_cmp (x1 / x3) (-9)) then lj_D lc_P lc_M33 43 [.ref 3, .long x1, .retAddr 0, .long x3, .retAddr 0, .retAddr 0, .retAddr 0] [] σ else lj_D lc_P lc_M33 34 [.ref 3, .long x1, .retAddr 0, .long x3, .retAddr 0, .retAddr 0, .retAddr 0] [] σ)))) := by rw [lj_D_eq]; rfl
set_option maxRecDepth 100000 in
set_option maxHeartbeats 4000000 in
theorem kc_33_34 (x1 : Int64) (x3 : Int64) (σ : lj_S) : lj_D lc_P lc_M33 34 [.ref 3, .long x1, .retAddr 0, .long x3, .retAddr 0, .retAddr 0, .retAddr 0] [] σ = lj_D lc_P lc_M33 14 [.ref 3, .long x1, .retAddr 0, .long (x3 * 10), .retAddr 0, .retAddr 0, .retAddr 0] [] σ := by rw [lj_D_eq]; rfl
set_option maxRecDepth 100000 in
set_option maxHeartbeats 4000000 in
theorem kc_33_43 (x1 : Int64) (x3 : Int64) (x5 : Value) (σ : lj_S) : lj_D lc_P lc_M33 43 [.ref 3, .long x1, .retAddr 0, .long x3, .retAddr 0, x5, .retAddr 0] [] σ = (if (lg_cmp x3 0) ≤ 0 then some (.inl none, σ) else (if x3 = 0 then none else (if (10 : Int64) = 0 then none else (if 0 ≤ (lg_cmp ((x1 / x3) - (x1 / x3) / 10 * 10) 0) then lj_D lc_P lc_M33 77 [.ref 3, .long x1, .retAddr 0, .long x3, .retAddr 0, .long ((x1 / x3) - (x1 / x3) / 10 * 10), .retAddr 0] [.long ((x1 / x3) - (x1 / x3) / 10 * 10), .long 48, .ref 3] σ else lj_D lc_P lc_M33 77 [.ref 3, .long x1, .retAddr 0, .long x3, .retAddr 0, .long ((x1 / x3) - (x1 / x3) / 10 * 10), .retAddr 0] [.long (-((x1 / x3) - (x1 / x3) / 10 * 10)), .long 48, .ref 3] σ)))) := by rw [lj_D_eq]; rfl
set_option maxRecDepth 100000 in
set_option maxHeartbeats 4000000 in
theorem kc_33_77 (x1 : Int64) (x3 : Int64) (x5 : Int64) (x50 : Int64) (x51 : Int64) (σ : lj_S) : lj_D lc_P lc_M33 77 [.ref 3, .long x1, .retAddr 0, .long x3, .retAddr 0, .long x5, .retAddr 0] [.long x50, .long x51, .ref 3] σ = lj_bv (lj_R lc_P 23 [.ref 3, .int (((x51 + x50) : Int64).toInt32)] σ) (fun σ1 => (if (10 : Int64) = 0 then none else lj_D lc_P lc_M33 43 [.ref 3, .long x1, .retAddr 0, .long (x3 / 10), .retAddr 0, .long x5, .retAddr 0] [] σ1)) lj_up := by rw [lj_D_eq]; rfl
-- TableTongue$Strings.hasRoom()Z
set_option maxRecDepth 100000 in
theorem rc_34  (σ : lj_S) : lj_R lc_P 34 [.ref 3] σ = lj_D lc_P lc_M34 0 [.ref 3, .retAddr 0] [] σ := lj_R_eq (nL := 2) (M := lc_M34) _ _ _ _ rfl rfl
set_option maxRecDepth 100000 in
set_option maxHeartbeats 4000000 in
theorem kc_34_0  (σ : lj_S) : lj_D lc_P lc_M34 0 [.ref 3, .retAddr 0] [] σ = lj_bi (lj_R lc_P 26 [.ref 3] σ) (fun y2 σ1 => (if lj_in y2 1024 then lj_D lc_P lc_M34 10 [.ref 3, .int (σ1.1 13 y2.toNatClampNeg)] [] σ1 else none)) lj_up := by rw [lj_D_eq]; rfl
set_option maxRecDepth 100000 in
set_option maxHeartbeats 4000000 in
theorem kc_34_10 (x1 : Int32) (σ : lj_S) : lj_D lc_P lc_M34 10 [.ref 3, .int x1] [] σ = (if x1 < 0 then (if 800 ≤ (σ.1 3 13) then lj_D lc_P lc_M34 72 [.ref 3, .int x1] [] σ else (if 24000 < ((σ.1 3 14) + (σ.1 3 6)) then lj_D lc_P lc_M34 72 [.ref 3, .int x1] [] σ else lj_D lc_P lc_M34 73 [.ref 3, .int x1] [.int 1] σ)) else lj_bi (lj_R lc_P 27 [.ref 3, .int x1] σ) (fun y2 σ1 => (if y2 = 0 then lj_D lc_P lc_M34 33 [.ref 3, .int x1] [] σ1 else (if lj_in x1 2600 then (if (σ1.1 15 x1.toNatClampNeg) = 0 then lj_D lc_P lc_M34 33 [.ref 3, .int x1] [] σ1 else some (.inl (some (.int 1)), σ1)) else none))) lj_up) := by rw [lj_D_eq]; rfl
set_option maxRecDepth 100000 in
set_option maxHeartbeats 4000000 in
theorem kc_34_33 (x1 : Int32) (σ : lj_S) : lj_D lc_P lc_M34 33 [.ref 3, .int x1] [] σ = (if lj_in x1 2600 then lj_D lc_P lc_M34 10 [.ref 3, .int (σ.1 12 x1.toNatClampNeg)] [] σ else none) := by rw [lj_D_eq]; rfl
set_option maxRecDepth 100000 in
set_option maxHeartbeats 4000000 in
theorem kc_34_72 (x1 : Int32) (σ : lj_S) : lj_D lc_P lc_M34 72 [.ref 3, .int x1] [] σ = lj_D lc_P lc_M34 73 [.ref 3, .int x1] [.int 0] σ := by rw [lj_D_eq]; rfl
set_option maxRecDepth 100000 in
set_option maxHeartbeats 4000000 in
theorem kc_34_73 (x1 : Int32) (x50 : Int32) (σ : lj_S) : lj_D lc_P lc_M34 73 [.ref 3, .int x1] [.int x50] σ = some (.inl (some (.int (vp_nar .boolean x50))), σ) := by rw [lj_D_eq]; rfl
-- TableTongue$Strings.count()I
set_option maxRecDepth 100000 in
theorem rc_35  (σ : lj_S) : lj_R lc_P 35 [.ref 3] σ = lj_D lc_P lc_M35 0 [.ref 3, .retAddr 0] [] σ := lj_R_eq (nL := 2) (M := lc_M35) _ _ _ _ rfl rfl
set_option maxRecDepth 100000 in
set_option maxHeartbeats 4000000 in
theorem kc_35_0  (σ : lj_S) : lj_D lc_P lc_M35 0 [.ref 3, .retAddr 0] [] σ = lj_bi (lj_R lc_P 25 [.ref 3] σ) (fun y2 σ1 => (if lj_in y2 2600 then (if (σ1.1 15 y2.toNatClampNeg) = 0 then (if lj_in y2 2600 then (if lj_in y2 2600 then lj_D lc_P lc_M35 46 [.ref 3, .int y2] [] (lj_put (lj_put (lj_put σ1 15 y2.toNatClampNeg (vp_nar .boolean 1)) 3 13 ((σ1.1 3 13) + 1)) 3 14 ((σ1.1 3 14) + (σ1.1 11 y2.toNatClampNeg))) else none) else none) else lj_D lc_P lc_M35 46 [.ref 3, .int y2] [] σ1) else none)) lj_up := by rw [lj_D_eq]; rfl
set_option maxRecDepth 100000 in
set_option maxHeartbeats 4000000 in
theorem kc_35_46 (x1 : Int32) (σ : lj_S) : lj_D lc_P lc_M35 46 [.ref 3, .int x1] [] σ = some (.inl (some (.int x1)), σ) := by rw [lj_D_eq]; rfl
-- TableTongue$Strings.addString(I)V
set_option maxRecDepth 100000 in
theorem rc_36 (x1 : Int32) (σ : lj_S) : lj_R lc_P 36 [.ref 3, .int x1] σ = lj_D lc_P lc_M36 0 [.ref 3, .int x1, .retAddr 0] [] σ := lj_R_eq (nL := 3) (M := lc_M36) _ _ _ _ rfl rfl
set_option maxRecDepth 100000 in
set_option maxHeartbeats 4000000 in
theorem kc_36_0 (x1 : Int32) (σ : lj_S) : lj_D lc_P lc_M36 0 [.ref 3, .int x1, .retAddr 0] [] σ = lj_D lc_P lc_M36 2 [.ref 3, .int x1, .int 0] [] σ := by rw [lj_D_eq]; rfl
set_option maxRecDepth 100000 in
set_option maxHeartbeats 4000000 in
theorem kc_36_2 (x1 : Int32) (x2 : Int32) (σ : lj_S) : lj_D lc_P lc_M36 2 [.ref 3, .int x1, .int x2] [] σ = (if lj_in x1 2600 then (if (σ.1 11 x1.toNatClampNeg) ≤ x2 then some (.inl none, σ) else (if lj_in x1 2600 then (if lj_in ((σ.1 10 x1.toNatClampNeg) + x2) 40000 then lj_bv (lj_R lc_P 23 [.ref 3, .int ((σ.1 9 (((σ.1 10 x1.toNatClampNeg) + x2).toNatClampNeg)))] σ) (fun σ1 => lj_D lc_P lc_M36 2 [.ref 3, .int x1, .int (x2 + 1)] [] σ1) lj_up else none) else none)) else none) := by rw [lj_D_eq]; rfl
-- TableTongue$Strings.byteAt(II)I
set_option maxRecDepth 100000 in
theorem rc_37 (x1 : Int32) (x2 : Int32) (σ : lj_S) : lj_R lc_P 37 [.ref 3, .int x1, .int x2] σ = lj_D lc_P lc_M37 0 [.ref 3, .int x1, .int x2] [] σ := lj_R_eq (nL := 3) (M := lc_M37) _ _ _ _ rfl rfl
set_option maxRecDepth 100000 in
set_option maxHeartbeats 4000000 in
theorem kc_37_0 (x1 : Int32) (x2 : Int32) (σ : lj_S) : lj_D lc_P lc_M37 0 [.ref 3, .int x1, .int x2] [] σ = (if lj_in x1 2600 then (if lj_in ((σ.1 10 x1.toNatClampNeg) + x2) 40000 then some (.inl (some (.int (((σ.1 9 (((σ.1 10 x1.toNatClampNeg) + x2).toNatClampNeg))) &&& 255))), σ) else none) else none) := by rw [lj_D_eq]; rfl
-- TableTongue$Strings.compare(II)I
set_option maxRecDepth 100000 in
theorem rc_38 (x1 : Int32) (x2 : Int32) (σ : lj_S) : lj_R lc_P 38 [.ref 3, .int x1, .int x2] σ = lj_D lc_P lc_M38 0 [.ref 3, .int x1, .int x2, .retAddr 0, .retAddr 0] [] σ := lj_R_eq (nL := 5) (M := lc_M38) _ _ _ _ rfl rfl
set_option maxRecDepth 100000 in
set_option maxHeartbeats 4000000 in
theorem kc_38_0 (x1 : Int32) (x2 : Int32) (σ : lj_S) : lj_D lc_P lc_M38 0 [.ref 3, .int x1, .int x2, .retAddr 0, .retAddr 0] [] σ = (if lj_in x1 2600 then (if lj_in x2 2600 then lj_bi (lj_R lc_P 222 [.int (σ.1 11 x1.toNatClampNeg), .int (σ.1 11 x2.toNatClampNeg)] σ) (fun y2 σ1 => lj_D lc_P lc_M38 19 [.ref 3, .int x1, .int x2, .int y2, .int 0] [] σ1) lj_up else none) else none) := by rw [lj_D_eq]; rfl
set_option maxRecDepth 100000 in
set_option maxHeartbeats 4000000 in
theorem kc_38_19 (x1 : Int32) (x2 : Int32) (x3 : Int32) (x4 : Int32) (σ : lj_S) : lj_D lc_P lc_M38 19 [.ref 3, .int x1, .int x2, .int x3, .int x4] [] σ = (if x3 ≤ x4 then (if lj_in x1 2600 then (if lj_in x2 2600 then lj_bi (lj_R lc_P 228 [.int (σ.1 11 x1.toNatClampNeg), .int (σ.1 11 x2.toNatClampNeg)] σ) (fun y2 σ1 => some (.inl (some (.int y2)), σ1)) lj_up else none) else none) else lj_bi (lj_R lc_P 37 [.ref 3, .int x1, .int x4] σ) (fun y4 σ3 => lj_bi (lj_R lc_P 37 [.ref 3, .int x2, .int x4] σ3) (fun y6 σ5 => (if y4 = y6 then lj_D lc_P lc_M38 19 [.ref 3, .int x1, .int x2, .int x3, .int (x4 + 1)] [] σ5 else lj_bi (lj_R lc_P 37 [.ref 3, .int x1, .int x4] σ5) (fun y8 σ7 => lj_bi (lj_R lc_P 37 [.ref 3, .int x2, .int x4] σ7) (fun y10 σ9 => (if y10 ≤ y8 then lj_D lc_P lc_M38 64 [.ref 3, .int x1, .int x2, .int x3, .int x4] [.int 1] σ9 else lj_D lc_P lc_M38 64 [.ref 3, .int x1, .int x2, .int x3, .int x4] [.int (-1)] σ9)) lj_up) lj_up)) lj_up) lj_up) := by rw [lj_D_eq]; rfl
set_option maxRecDepth 100000 in
set_option maxHeartbeats 4000000 in
theorem kc_38_64 (x1 : Int32) (x2 : Int32) (x3 : Int32) (x4 : Int32) (x50 : Int32) (σ : lj_S) : lj_D lc_P lc_M38 64 [.ref 3, .int x1, .int x2, .int x3, .int x4] [.int x50] σ = some (.inl (some (.int x50)), σ) := by rw [lj_D_eq]; rfl
