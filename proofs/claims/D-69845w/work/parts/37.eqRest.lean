-- TableTongue$Fault.of(II)LTableTongue$Fault;
set_option maxRecDepth 100000 in
theorem rc_19 (x1 : Int32) (x2 : Int32) (σ : lj_S) : lj_R lc_P 19 [.ref 1, .int x1, .int x2] σ = lj_D lc_P lc_M19 0 [.ref 1, .int x1, .int x2] [] σ := lj_R_eq (nL := 3) (M := lc_M19) _ _ _ _ rfl rfl
set_option maxRecDepth 100000 in
set_option maxHeartbeats 4000000 in
theorem kc_19_0 (x1 : Int32) (x2 : Int32) (σ : lj_S) : lj_D lc_P lc_M19 0 [.ref 1, .int x1, .int x2] [] σ = some (.inl (some (.ref 1)), (lj_put (lj_put σ 1 6 x1) 1 7 x2)) := by rw [lj_D_eq]; rfl
-- TableTongue$Trouble.of(Z)LTableTongue$Trouble;
set_option maxRecDepth 100000 in
theorem rc_20 (x1 : Int32) (σ : lj_S) : lj_R lc_P 20 [.ref 2, .int x1] σ = lj_D lc_P lc_M20 0 [.ref 2, .int x1] [] σ := lj_R_eq (nL := 2) (M := lc_M20) _ _ _ _ rfl rfl
set_option maxRecDepth 100000 in
set_option maxHeartbeats 4000000 in
theorem kc_20_0 (x1 : Int32) (σ : lj_S) : lj_D lc_P lc_M20 0 [.ref 2, .int x1] [] σ = (if x1 = 0 ∨ x1 = 1 then some (.inl (some (.ref 2)), (lj_put σ 2 6 x1)) else none) := by rw [lj_D_eq]; rfl
-- java/lang/Math.min(II)I
set_option maxRecDepth 100000 in
theorem rc_222 (x0 : Int32) (x1 : Int32) (σ : lj_S) : lj_R lc_P 222 [.int x0, .int x1] σ = lj_D lc_P lc_M222 0 [.int x0, .int x1] [] σ := lj_R_eq (nL := 2) (M := lc_M222) _ _ _ _ rfl rfl
set_option maxRecDepth 100000 in
set_option maxHeartbeats 4000000 in
theorem kc_222_0 (x0 : Int32) (x1 : Int32) (σ : lj_S) : lj_D lc_P lc_M222 0 [.int x0, .int x1] [] σ = (if x1 < x0 then lj_D lc_P lc_M222 10 [.int x0, .int x1] [.int x1] σ else lj_D lc_P lc_M222 10 [.int x0, .int x1] [.int x0] σ) := by rw [lj_D_eq]; rfl
set_option maxRecDepth 100000 in
set_option maxHeartbeats 4000000 in
theorem kc_222_10 (x0 : Int32) (x1 : Int32) (x50 : Int32) (σ : lj_S) : lj_D lc_P lc_M222 10 [.int x0, .int x1] [.int x50] σ = some (.inl (some (.int x50)), σ) := by rw [lj_D_eq]; rfl
-- java/lang/Math.max(II)I
set_option maxRecDepth 100000 in
theorem rc_223 (x0 : Int32) (x1 : Int32) (σ : lj_S) : lj_R lc_P 223 [.int x0, .int x1] σ = lj_D lc_P lc_M223 0 [.int x0, .int x1] [] σ := lj_R_eq (nL := 2) (M := lc_M223) _ _ _ _ rfl rfl
set_option maxRecDepth 100000 in
set_option maxHeartbeats 4000000 in
theorem kc_223_0 (x0 : Int32) (x1 : Int32) (σ : lj_S) : lj_D lc_P lc_M223 0 [.int x0, .int x1] [] σ = (if x0 < x1 then lj_D lc_P lc_M223 10 [.int x0, .int x1] [.int x1] σ else lj_D lc_P lc_M223 10 [.int x0, .int x1] [.int x0] σ) := by rw [lj_D_eq]; rfl
set_option maxRecDepth 100000 in
set_option maxHeartbeats 4000000 in
theorem kc_223_10 (x0 : Int32) (x1 : Int32) (x50 : Int32) (σ : lj_S) : lj_D lc_P lc_M223 10 [.int x0, .int x1] [.int x50] σ = some (.inl (some (.int x50)), σ) := by rw [lj_D_eq]; rfl
-- java/lang/Math.max(JJ)J
set_option maxRecDepth 100000 in
theorem rc_224 (x0 : Int64) (x1 : Int64) (σ : lj_S) : lj_R lc_P 224 [.long x0, .long x1] σ = lj_D lc_P lc_M224 0 [.long x0, .retAddr 0, .long x1, .retAddr 0] [] σ := lj_R_eq (nL := 4) (M := lc_M224) _ _ _ _ rfl rfl
set_option maxRecDepth 100000 in
set_option maxHeartbeats 4000000 in
theorem kc_224_0 (x0 : Int64) (x2 : Int64) (σ : lj_S) : lj_D lc_P lc_M224 0 [.long x0, .retAddr 0, .long x2, .retAddr 0] [] σ = (if (lg_cmp x0 x2) < 0 then lj_D lc_P lc_M224 11 [.long x0, .retAddr 0, .long x2, .retAddr 0] [.long x2] σ else lj_D lc_P lc_M224 11 [.long x0, .retAddr 0, .long x2, .retAddr 0] [.long x0] σ) := by rw [lj_D_eq]; rfl
set_option maxRecDepth 100000 in
set_option maxHeartbeats 4000000 in
theorem kc_224_11 (x0 : Int64) (x2 : Int64) (x50 : Int64) (σ : lj_S) : lj_D lc_P lc_M224 11 [.long x0, .retAddr 0, .long x2, .retAddr 0] [.long x50] σ = some (.inl (some (.long x50)), σ) := by rw [lj_D_eq]; rfl
-- java/lang/Math.min(JJ)J
set_option maxRecDepth 100000 in
theorem rc_225 (x0 : Int64) (x1 : Int64) (σ : lj_S) : lj_R lc_P 225 [.long x0, .long x1] σ = lj_D lc_P lc_M225 0 [.long x0, .retAddr 0, .long x1, .retAddr 0] [] σ := lj_R_eq (nL := 4) (M := lc_M225) _ _ _ _ rfl rfl
set_option maxRecDepth 100000 in
set_option maxHeartbeats 4000000 in
theorem kc_225_0 (x0 : Int64) (x2 : Int64) (σ : lj_S) : lj_D lc_P lc_M225 0 [.long x0, .retAddr 0, .long x2, .retAddr 0] [] σ = (if 0 < (lg_cmp x0 x2) then lj_D lc_P lc_M225 11 [.long x0, .retAddr 0, .long x2, .retAddr 0] [.long x2] σ else lj_D lc_P lc_M225 11 [.long x0, .retAddr 0, .long x2, .retAddr 0] [.long x0] σ) := by rw [lj_D_eq]; rfl
set_option maxRecDepth 100000 in
set_option maxHeartbeats 4000000 in
theorem kc_225_11 (x0 : Int64) (x2 : Int64) (x50 : Int64) (σ : lj_S) : lj_D lc_P lc_M225 11 [.long x0, .retAddr 0, .long x2, .retAddr 0] [.long x50] σ = some (.inl (some (.long x50)), σ) := by rw [lj_D_eq]; rfl
-- java/lang/Math.floorDiv(JJ)J
set_option maxRecDepth 100000 in
theorem rc_226 (x0 : Int64) (x1 : Int64) (σ : lj_S) : lj_R lc_P 226 [.long x0, .long x1] σ = lj_D lc_P lc_M226 0 [.long x0, .retAddr 0, .long x1, .retAddr 0, .retAddr 0, .retAddr 0] [] σ := lj_R_eq (nL := 6) (M := lc_M226) _ _ _ _ rfl rfl
set_option maxRecDepth 100000 in
set_option maxHeartbeats 4000000 in
theorem kc_226_0 (x0 : Int64) (x2 : Int64) (σ : lj_S) : lj_D lc_P lc_M226 0 [.long x0, .retAddr 0, .long x2, .retAddr 0, .retAddr 0, .retAddr 0] [] σ = (if x2 = 0 then none else (if 0 ≤ (lg_cmp (x0 ^^^ x2) 0) then lj_D lc_P lc_M226 27 [.long x0, .retAddr 0, .long x2, .retAddr 0, .long (x0 / x2), .retAddr 0] [] σ else (if (lg_cmp ((x0 / x2) * x2) x0) = 0 then lj_D lc_P lc_M226 27 [.long x0, .retAddr 0, .long x2, .retAddr 0, .long (x0 / x2), .retAddr 0] [] σ else some (.inl (some (.long ((x0 / x2) - 1))), σ)))) := by rw [lj_D_eq]; rfl
set_option maxRecDepth 100000 in
set_option maxHeartbeats 4000000 in
theorem kc_226_27 (x0 : Int64) (x2 : Int64) (x4 : Int64) (σ : lj_S) : lj_D lc_P lc_M226 27 [.long x0, .retAddr 0, .long x2, .retAddr 0, .long x4, .retAddr 0] [] σ = some (.inl (some (.long x4)), σ) := by rw [lj_D_eq]; rfl
-- java/lang/Math.floorMod(JJ)J
set_option maxRecDepth 100000 in
theorem rc_227 (x0 : Int64) (x1 : Int64) (σ : lj_S) : lj_R lc_P 227 [.long x0, .long x1] σ = lj_D lc_P lc_M227 0 [.long x0, .retAddr 0, .long x1, .retAddr 0, .retAddr 0, .retAddr 0] [] σ := lj_R_eq (nL := 6) (M := lc_M227) _ _ _ _ rfl rfl
set_option maxRecDepth 100000 in
set_option maxHeartbeats 4000000 in
theorem kc_227_0 (x0 : Int64) (x2 : Int64) (σ : lj_S) : lj_D lc_P lc_M227 0 [.long x0, .retAddr 0, .long x2, .retAddr 0, .retAddr 0, .retAddr 0] [] σ = (if x2 = 0 then none else (if 0 ≤ (lg_cmp (x0 ^^^ x2) 0) then lj_D lc_P lc_M227 25 [.long x0, .retAddr 0, .long x2, .retAddr 0, .long (x0 - x0 / x2 * x2), .retAddr 0] [] σ else (if (lg_cmp (x0 - x0 / x2 * x2) 0) = 0 then lj_D lc_P lc_M227 25 [.long x0, .retAddr 0, .long x2, .retAddr 0, .long (x0 - x0 / x2 * x2), .retAddr 0] [] σ else some (.inl (some (.long ((x0 - x0 / x2 * x2) + x2))), σ)))) := by rw [lj_D_eq]; rfl
set_option maxRecDepth 100000 in
set_option maxHeartbeats 4000000 in
theorem kc_227_25 (x0 : Int64) (x2 : Int64) (x4 : Int64) (σ : lj_S) : lj_D lc_P lc_M227 25 [.long x0, .retAddr 0, .long x2, .retAddr 0, .long x4, .retAddr 0] [] σ = some (.inl (some (.long x4)), σ) := by rw [lj_D_eq]; rfl
-- java/lang/Integer.compare(II)I
set_option maxRecDepth 100000 in
theorem rc_228 (x0 : Int32) (x1 : Int32) (σ : lj_S) : lj_R lc_P 228 [.int x0, .int x1] σ = lj_D lc_P lc_M228 0 [.int x0, .int x1] [] σ := lj_R_eq (nL := 2) (M := lc_M228) _ _ _ _ rfl rfl
set_option maxRecDepth 100000 in
set_option maxHeartbeats 4000000 in
theorem kc_228_0 (x0 : Int32) (x1 : Int32) (σ : lj_S) : lj_D lc_P lc_M228 0 [.int x0, .int x1] [] σ = (if x1 ≤ x0 then (if x0 = x1 then lj_D lc_P lc_M228 19 [.int x0, .int x1] [.int 0] σ else lj_D lc_P lc_M228 19 [.int x0, .int x1] [.int 1] σ) else lj_D lc_P lc_M228 19 [.int x0, .int x1] [.int (-1)] σ) := by rw [lj_D_eq]; rfl
set_option maxRecDepth 100000 in
set_option maxHeartbeats 4000000 in
theorem kc_228_19 (x0 : Int32) (x1 : Int32) (x50 : Int32) (σ : lj_S) : lj_D lc_P lc_M228 19 [.int x0, .int x1] [.int x50] σ = some (.inl (some (.int x50)), σ) := by rw [lj_D_eq]; rfl
