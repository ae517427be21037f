-- TableTongue$Code.clear()V
set_option maxRecDepth 100000 in
theorem rc_53  (σ : lj_S) : lj_R lc_P 53 [.ref 5] σ = lj_D lc_P lc_M53 0 [.ref 5] [] σ := lj_R_eq (nL := 1) (M := lc_M53) _ _ _ _ rfl rfl
set_option maxRecDepth 100000 in
set_option maxHeartbeats 4000000 in
theorem kc_53_0  (σ : lj_S) : lj_D lc_P lc_M53 0 [.ref 5] [] σ = some (.inl none, (lj_put (lj_put (lj_put (lj_put σ 5 0 0) 5 6 0) 5 8 0) 5 18 0)) := by rw [lj_D_eq]; rfl
-- TableTongue$Code.put(III)I
set_option maxRecDepth 100000 in
theorem rc_54 (x1 : Int32) (x2 : Int32) (x3 : Int32) (σ : lj_S) : lj_R lc_P 54 [.ref 5, .int x1, .int x2, .int x3] σ = lj_D lc_P lc_M54 0 [.ref 5, .int x1, .int x2, .int x3] [] σ := lj_R_eq (nL := 4) (M := lc_M54) _ _ _ _ rfl rfl
set_option maxRecDepth 100000 in
set_option maxHeartbeats 4000000 in
theorem kc_54_0 (x1 : Int32) (x2 : Int32) (x3 : Int32) (σ : lj_S) : lj_D lc_P lc_M54 0 [.ref 5, .int x1, .int x2, .int x3] [] σ = lj_bi (lj_R lc_P 55 [.ref 5, .int x1, .int x2, .int 0, .int 0, .int x3] σ) (fun y2 σ1 => some (.inl (some (.int y2)), σ1)) lj_up := by rw [lj_D_eq]; rfl
-- TableTongue$Code.put(IIIII)I
set_option maxRecDepth 100000 in
theorem rc_55 (x1 : Int32) (x2 : Int32) (x3 : Int32) (x4 : Int32) (x5 : Int32) (σ : lj_S) : lj_R lc_P 55 [.ref 5, .int x1, .int x2, .int x3, .int x4, .int x5] σ = lj_D lc_P lc_M55 0 [.ref 5, .int x1, .int x2, .int x3, .int x4, .int x5] [] σ := lj_R_eq (nL := 6) (M := lc_M55) _ _ _ _ rfl rfl
set_option maxRecDepth 100000 in
set_option maxHeartbeats 4000000 in
theorem kc_55_0 (x1 : Int32) (x2 : Int32) (x3 : Int32) (x4 : Int32) (x5 : Int32) (σ : lj_S) : lj_D lc_P lc_M55 0 [.ref 5, .int x1, .int x2, .int x3, .int x4, .int x5] [] σ = (if lj_in (σ.1 5 0) 14000 then (if lj_in (σ.1 5 0) 14000 then (if lj_in (σ.1 5 0) 14000 then (if lj_in (σ.1 5 0) 14000 then (if lj_in (σ.1 5 0) 14000 then some (.inl (some (.int (σ.1 5 0))), (lj_put (lj_put (lj_put (lj_put (lj_put (lj_put σ 22 ((σ.1 5 0).toNatClampNeg) x1) 23 ((σ.1 5 0).toNatClampNeg) x2) 24 ((σ.1 5 0).toNatClampNeg) x3) 25 ((σ.1 5 0).toNatClampNeg) x4) 26 ((σ.1 5 0).toNatClampNeg) x5) 5 0 ((σ.1 5 0) + 1))) else none) else none) else none) else none) else none) := by rw [lj_D_eq]; rfl
-- TableTongue$Code.scope(II)I
set_option maxRecDepth 100000 in
theorem rc_56 (x1 : Int32) (x2 : Int32) (σ : lj_S) : lj_R lc_P 56 [.ref 5, .int x1, .int x2] σ = lj_D lc_P lc_M56 0 [.ref 5, .int x1, .int x2] [] σ := lj_R_eq (nL := 3) (M := lc_M56) _ _ _ _ rfl rfl
set_option maxRecDepth 100000 in
set_option maxHeartbeats 4000000 in
theorem kc_56_0 (x1 : Int32) (x2 : Int32) (σ : lj_S) : lj_D lc_P lc_M56 0 [.ref 5, .int x1, .int x2] [] σ = (if lj_in (σ.1 5 18) 4000 then (if lj_in (σ.1 5 18) 4000 then (if lj_in (σ.1 5 18) 4000 then (if lj_in (σ.1 5 18) 4000 then (if lj_in x1 51 then (if lj_in (σ.1 5 18) 4000 then (if lj_in x1 51 then some (.inl (some (.int (σ.1 5 18))), (lj_put (lj_put (lj_put (lj_put (lj_put (lj_put (lj_put σ 37 ((σ.1 5 18).toNatClampNeg) x1) 38 ((σ.1 5 18).toNatClampNeg) x2) 39 ((σ.1 5 18).toNatClampNeg) (σ.1 5 0)) 40 ((σ.1 5 18).toNatClampNeg) 14000) 41 ((σ.1 5 18).toNatClampNeg) (σ.1 42 x1.toNatClampNeg)) 42 x1.toNatClampNeg (σ.1 5 18)) 5 18 ((σ.1 5 18) + 1))) else none) else none) else none) else none) else none) else none) else none) := by rw [lj_D_eq]; rfl
-- TableTongue$Code.land(I)V
set_option maxRecDepth 100000 in
theorem rc_57 (x1 : Int32) (σ : lj_S) : lj_R lc_P 57 [.ref 5, .int x1] σ = lj_D lc_P lc_M57 0 [.ref 5, .int x1] [] σ := lj_R_eq (nL := 2) (M := lc_M57) _ _ _ _ rfl rfl
set_option maxRecDepth 100000 in
set_option maxHeartbeats 4000000 in
theorem kc_57_0 (x1 : Int32) (σ : lj_S) : lj_D lc_P lc_M57 0 [.ref 5, .int x1] [] σ = (if lj_in x1 14000 then (if (σ.1 22 x1.toNatClampNeg) = 36 then lj_D lc_P lc_M57 22 [.ref 5, .int x1] [] σ else (if lj_in x1 14000 then (if (σ.1 22 x1.toNatClampNeg) = 39 then lj_D lc_P lc_M57 22 [.ref 5, .int x1] [] σ else (if lj_in x1 14000 then lj_D lc_P lc_M57 45 [.ref 5, .int x1] [] (lj_put σ 23 x1.toNatClampNeg (σ.1 5 0)) else none)) else none)) else none) := by rw [lj_D_eq]; rfl
set_option maxRecDepth 100000 in
set_option maxHeartbeats 4000000 in
theorem kc_57_22 (x1 : Int32) (σ : lj_S) : lj_D lc_P lc_M57 22 [.ref 5, .int x1] [] σ = (if lj_in x1 14000 then lj_D lc_P lc_M57 45 [.ref 5, .int x1] [] (lj_put σ 25 x1.toNatClampNeg (σ.1 5 0)) else none) := by rw [lj_D_eq]; rfl
set_option maxRecDepth 100000 in
set_option maxHeartbeats 4000000 in
theorem kc_57_45 (x1 : Int32) (σ : lj_S) : lj_D lc_P lc_M57 45 [.ref 5, .int x1] [] σ = some (.inl none, σ) := by rw [lj_D_eq]; rfl
