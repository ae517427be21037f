/-! BLOCK EQUATIONS with calls and jumps left open -/
set_option maxRecDepth 100000 in
set_option maxHeartbeats 4000000 in
theorem kg_129_0  (call : lj_Y) (jump : lj_K) (σ : lj_S) : lj_ex lc_ds lc_ca call lc_M129 jump 4000 0 [.ref 8] [] σ = (if lj_in (σ.1 8 7) 26 then (if ((σ.1 90 ((σ.1 8 7).toNatClampNeg))) = 0 then jump 36 [.ref 8] [.int (-1), .ref 8] σ else (if lj_in (σ.1 8 7) 26 then lj_bi (call 130 [.ref 8, .int (σ.1 8 7), .int (((σ.1 90 ((σ.1 8 7).toNatClampNeg))) - 1)] σ) (fun y2 σ1 => jump 36 [.ref 8] [.int y2, .ref 8] σ1) lj_up else none)) else none) := rfl
set_option maxRecDepth 100000 in
set_option maxHeartbeats 4000000 in
theorem kg_129_36 (x50 : Int32) (call : lj_Y) (jump : lj_K) (σ : lj_S) : lj_ex lc_ds lc_ca call lc_M129 jump 4000 36 [.ref 8] [.int x50, .ref 8] σ = (if 0 ≤ x50 then (if lj_in x50 520 then jump 60 [.ref 8] [.int (σ.1 96 x50.toNatClampNeg), .ref 8] (lj_put σ 8 34 x50) else none) else jump 60 [.ref 8] [.int 0, .ref 8] (lj_put σ 8 34 x50)) := rfl
set_option maxRecDepth 100000 in
set_option maxHeartbeats 4000000 in
theorem kg_129_60 (x50 : Int32) (call : lj_Y) (jump : lj_K) (σ : lj_S) : lj_ex lc_ds lc_ca call lc_M129 jump 4000 60 [.ref 8] [.int x50, .ref 8] σ = some (.inl none, (lj_put σ 8 35 x50)) := rfl
set_option maxRecDepth 100000 in
set_option maxHeartbeats 4000000 in
theorem kg_130_0 (x1 : Int32) (x2 : Int32) (call : lj_Y) (jump : lj_K) (σ : lj_S) : lj_ex lc_ds lc_ca call lc_M130 jump 4000 0 [.ref 8, .int x1, .int x2] [] σ = some (.inl (some (.int ((x1 * 20) + x2))), σ) := rfl
set_option maxRecDepth 100000 in
set_option maxHeartbeats 4000000 in
theorem kg_132_0 (x1 : Int32) (x2 : Int32) (x3 : Int32) (call : lj_Y) (jump : lj_K) (σ : lj_S) : lj_ex lc_ds lc_ca call lc_M132 jump 4000 0 [.ref 8, .int x1, .int x2, .int x3] [] σ = (if lj_in (σ.1 8 7) 26 then (if ((σ.1 90 ((σ.1 8 7).toNatClampNeg))) = 20 then lj_br (call 133 [.ref 8, .int x3, .ref 1011] σ) (fun y4 σ3 => (bif Nat.blt y4 2000 then lj_up y4 σ3 else none)) lj_up else (if lj_in (σ.1 8 7) 26 then lj_bi (call 130 [.ref 8, .int (σ.1 8 7), .int ((σ.1 90 ((σ.1 8 7).toNatClampNeg)))] σ) (fun y2 σ1 => (if lj_in (σ1.1 8 7) 26 then (if lj_in (σ1.1 8 7) 26 then (if lj_in y2 520 then (if lj_in y2 520 then (if lj_in y2 520 then (if lj_in y2 520 then some (.inl none, (lj_put (lj_put (lj_put (lj_put (lj_put (lj_put σ1 8 34 y2) 90 ((σ1.1 8 7).toNatClampNeg) (((σ1.1 90 ((σ1.1 8 7).toNatClampNeg))) + 1)) 91 y2.toNatClampNeg x1) 98 y2.toNatClampNeg x2) 99 y2.toNatClampNeg x3) 95 y2.toNatClampNeg (σ1.1 8 8))) else none) else none) else none) else none) else none) else none)) lj_up else none)) else none) := rfl
set_option maxRecDepth 100000 in
set_option maxHeartbeats 4000000 in
theorem kg_144_0 (x1 : Int32) (call : lj_Y) (jump : lj_K) (σ : lj_S) : lj_ex lc_ds lc_ca call lc_M144 jump 4000 0 [.ref 8, .int x1, .retAddr 0, .retAddr 0, .retAddr 0] [] σ = (if x1 = 0 then lj_bv (call 145 [.ref 8] σ) (fun σ1 => jump 58 [.ref 8, .int x1, .int 0, .retAddr 0, .retAddr 0] [] σ1) lj_up else (if x1 = 1 then (if (σ.1 8 41) ≤ 0 then jump 109 [.ref 8, .int x1, .retAddr 0, .retAddr 0, .retAddr 0] [.int 0, .ref 8] σ else (if lj_in 0 128 then jump 109 [.ref 8, .int x1, .retAddr 0, .retAddr 0, .retAddr 0] [.int ((σ.1 107 ((0 : Int32).toNatClampNeg))), .ref 8] σ else none)) else (if x1 = 2 then (if (σ.1 8 41) ≤ 0 then jump 163 [.ref 8, .int x1, .retAddr 0, .retAddr 0, .retAddr 0] [.ref 8] σ else (if lj_in 0 128 then (if lj_in 0 128 then lj_bi (call 146 [.ref 8, .int ((σ.1 107 ((0 : Int32).toNatClampNeg))), .long ((σ.2 108 ((0 : Int32).toNatClampNeg)))] σ) (fun y3 σ2 => (if y3 = 0 then jump 163 [.ref 8, .int x1, .retAddr 0, .retAddr 0, .retAddr 0] [.ref 8] σ2 else jump 164 [.ref 8, .int x1, .retAddr 0, .retAddr 0, .retAddr 0] [.int 1, .ref 8] σ2)) lj_up else none) else none)) else (if x1 = 3 then (if (σ.1 8 41) ≤ 0 then jump 197 [.ref 8, .int x1, .retAddr 0, .retAddr 0, .retAddr 0] [.ref 8] σ else (if lj_in 0 128 then (if lj_in 0 128 then lj_bi (call 146 [.ref 8, .int ((σ.1 107 ((0 : Int32).toNatClampNeg))), .long ((σ.2 108 ((0 : Int32).toNatClampNeg)))] σ) (fun y5 σ4 => (if y5 = 0 then jump 197 [.ref 8, .int x1, .retAddr 0, .retAddr 0, .retAddr 0] [.ref 8] σ4 else jump 202 [.ref 8, .int x1, .retAddr 0, .retAddr 0, .retAddr 0] [.int 0, .ref 8] σ4)) lj_up else none) else none)) else (if x1 = 4 then jump 316 [.ref 8, .int x1, .retAddr 0, .retAddr 0, .retAddr 0] [] σ else (if x1 = 5 then (if lj_in ((σ.1 8 8) - 1) 325000 then (if lj_in ((σ.1 8 8) - 1) 325000 then (if (σ.1 8 41) ≤ 0 then jump 260 [.ref 8, .int x1, .int ((σ.1 79 (((σ.1 8 8) - 1).toNatClampNeg))), .long ((σ.2 80 (((σ.1 8 8) - 1).toNatClampNeg))), .retAddr 0] [.int 0, .ref 8] (lj_put σ 8 8 ((σ.1 8 8) - 1)) else (if lj_in 0 128 then jump 260 [.ref 8, .int x1, .int ((σ.1 79 (((σ.1 8 8) - 1).toNatClampNeg))), .long ((σ.2 80 (((σ.1 8 8) - 1).toNatClampNeg))), .retAddr 0] [.int ((σ.1 107 ((0 : Int32).toNatClampNeg))), .ref 8] (lj_put σ 8 8 ((σ.1 8 8) - 1)) else none)) else none) else none) else (if x1 = 6 then lj_bv (call 148 [.ref 8, .int 1] σ) (fun σ6 => jump 316 [.ref 8, .int x1, .retAddr 0, .retAddr 0, .retAddr 0] [] σ6) lj_up else (if x1 = 7 then lj_bv (call 153 [.ref 8] σ) (fun σ7 => jump 316 [.ref 8, .int x1, .retAddr 0, .retAddr 0, .retAddr 0] [] σ7) lj_up else (if x1 = 8 then lj_bv (call 199 [.ref 8, .int 1] σ) (fun σ8 => jump 316 [.ref 8, .int x1, .retAddr 0, .retAddr 0, .retAddr 0] [] σ8) lj_up else jump 316 [.ref 8, .int x1, .retAddr 0, .retAddr 0, .retAddr 0] [] σ))))))))) := rfl
set_option maxRecDepth 100000 in
set_option maxHeartbeats 4000000 in
theorem kg_144_58 (x1 : Int32) (x2 : Int32) (call : lj_Y) (jump : lj_K) (σ : lj_S) : lj_ex lc_ds lc_ca call lc_M144 jump 4000 58 [.ref 8, .int x1, .int x2, .retAddr 0, .retAddr 0] [] σ = (if (σ.1 8 41) ≤ x2 then jump 316 [.ref 8, .int x1, .int x2, .retAddr 0, .retAddr 0] [] σ else (if lj_in x2 128 then (if lj_in x2 128 then lj_bv (call 137 [.ref 8, .int (σ.1 107 x2.toNatClampNeg), .long (σ.2 108 x2.toNatClampNeg)] σ) (fun σ1 => jump 58 [.ref 8, .int x1, .int (x2 + 1), .retAddr 0, .retAddr 0] [] σ1) lj_up else none) else none)) := rfl
set_option maxRecDepth 100000 in
set_option maxHeartbeats 4000000 in
theorem kg_144_109 (x1 : Int32) (x50 : Int32) (call : lj_Y) (jump : lj_K) (σ : lj_S) : lj_ex lc_ds lc_ca call lc_M144 jump 4000 109 [.ref 8, .int x1, .retAddr 0, .retAddr 0, .retAddr 0] [.int x50, .ref 8] σ = (if (σ.1 8 41) ≤ 0 then jump 126 [.ref 8, .int x1, .retAddr 0, .retAddr 0, .retAddr 0] [.long 0, .int x50, .ref 8] σ else (if lj_in 0 128 then jump 126 [.ref 8, .int x1, .retAddr 0, .retAddr 0, .retAddr 0] [.long ((σ.2 108 ((0 : Int32).toNatClampNeg))), .int x50, .ref 8] σ else none)) := rfl
set_option maxRecDepth 100000 in
set_option maxHeartbeats 4000000 in
theorem kg_144_126 (x1 : Int32) (x50 : Int64) (x51 : Int32) (call : lj_Y) (jump : lj_K) (σ : lj_S) : lj_ex lc_ds lc_ca call lc_M144 jump 4000 126 [.ref 8, .int x1, .retAddr 0, .retAddr 0, .retAddr 0] [.long x50, .int x51, .ref 8] σ = lj_bv (call 137 [.ref 8, .int x51, .long x50] σ) (fun σ1 => jump 316 [.ref 8, .int x1, .retAddr 0, .retAddr 0, .retAddr 0] [] σ1) lj_up := rfl
set_option maxRecDepth 100000 in
set_option maxHeartbeats 4000000 in
theorem kg_144_163 (x1 : Int32) (call : lj_Y) (jump : lj_K) (σ : lj_S) : lj_ex lc_ds lc_ca call lc_M144 jump 4000 163 [.ref 8, .int x1, .retAddr 0, .retAddr 0, .retAddr 0] [.ref 8] σ = jump 164 [.ref 8, .int x1, .retAddr 0, .retAddr 0, .retAddr 0] [.int 0, .ref 8] σ := rfl
set_option maxRecDepth 100000 in
set_option maxHeartbeats 4000000 in
theorem kg_144_164 (x1 : Int32) (x50 : Int32) (call : lj_Y) (jump : lj_K) (σ : lj_S) : lj_ex lc_ds lc_ca call lc_M144 jump 4000 164 [.ref 8, .int x1, .retAddr 0, .retAddr 0, .retAddr 0] [.int x50, .ref 8] σ = lj_bv (call 147 [.ref 8, .int x50] σ) (fun σ1 => jump 316 [.ref 8, .int x1, .retAddr 0, .retAddr 0, .retAddr 0] [] σ1) lj_up := rfl
set_option maxRecDepth 100000 in
set_option maxHeartbeats 4000000 in
theorem kg_144_197 (x1 : Int32) (call : lj_Y) (jump : lj_K) (σ : lj_S) : lj_ex lc_ds lc_ca call lc_M144 jump 4000 197 [.ref 8, .int x1, .retAddr 0, .retAddr 0, .retAddr 0] [.ref 8] σ = jump 202 [.ref 8, .int x1, .retAddr 0, .retAddr 0, .retAddr 0] [.int 1, .ref 8] σ := rfl
set_option maxRecDepth 100000 in
set_option maxHeartbeats 4000000 in
theorem kg_144_202 (x1 : Int32) (x50 : Int32) (call : lj_Y) (jump : lj_K) (σ : lj_S) : lj_ex lc_ds lc_ca call lc_M144 jump 4000 202 [.ref 8, .int x1, .retAddr 0, .retAddr 0, .retAddr 0] [.int x50, .ref 8] σ = lj_bv (call 147 [.ref 8, .int x50] σ) (fun σ1 => jump 316 [.ref 8, .int x1, .retAddr 0, .retAddr 0, .retAddr 0] [] σ1) lj_up := rfl
set_option maxRecDepth 100000 in
set_option maxHeartbeats 4000000 in
theorem kg_144_260 (x1 : Int32) (x2 : Int32) (x3 : Int64) (x50 : Int32) (call : lj_Y) (jump : lj_K) (σ : lj_S) : lj_ex lc_ds lc_ca call lc_M144 jump 4000 260 [.ref 8, .int x1, .int x2, .long x3, .retAddr 0] [.int x50, .ref 8] σ = (if (σ.1 8 41) ≤ 0 then jump 277 [.ref 8, .int x1, .int x2, .long x3, .retAddr 0] [.long 0, .int x50, .ref 8] σ else (if lj_in 0 128 then jump 277 [.ref 8, .int x1, .int x2, .long x3, .retAddr 0] [.long ((σ.2 108 ((0 : Int32).toNatClampNeg))), .int x50, .ref 8] σ else none)) := rfl
set_option maxRecDepth 100000 in
set_option maxHeartbeats 4000000 in
theorem kg_144_277 (x1 : Int32) (x2 : Int32) (x3 : Int64) (x50 : Int64) (x51 : Int32) (call : lj_Y) (jump : lj_K) (σ : lj_S) : lj_ex lc_ds lc_ca call lc_M144 jump 4000 277 [.ref 8, .int x1, .int x2, .long x3, .retAddr 0] [.long x50, .int x51, .ref 8] σ = lj_bv (call 137 [.ref 8, .int x51, .long x50] σ) (fun σ1 => lj_bv (call 145 [.ref 8] σ1) (fun σ2 => lj_bv (call 137 [.ref 8, .int x2, .long x3] σ2) (fun σ3 => jump 316 [.ref 8, .int x1, .int x2, .long x3, .retAddr 0] [] σ3) lj_up) lj_up) lj_up := rfl
set_option maxRecDepth 100000 in
set_option maxHeartbeats 4000000 in
theorem kg_144_316 (x1 : Int32) (x2 : Value) (x3 : Value) (call : lj_Y) (jump : lj_K) (σ : lj_S) : lj_ex lc_ds lc_ca call lc_M144 jump 4000 316 [.ref 8, .int x1, x2, x3, .retAddr 0] [] σ = some (.inl none, σ) := rfl
set_option maxRecDepth 100000 in
set_option maxHeartbeats 4000000 in
theorem kg_148_0 (x1 : Int32) (call : lj_Y) (jump : lj_K) (σ : lj_S) : lj_ex lc_ds lc_ca call lc_M148 jump 4000 0 [.ref 8, .int x1, .retAddr 0] [] σ = (if lj_in (σ.1 8 34) 520 then lj_bv (call 149 [.ref 8] σ) (fun σ1 => lj_bv (call 152 [.ref 8, .int x1] σ1) (fun σ2 => lj_bv (call 144 [.ref 8, .int ((σ.1 98 ((σ.1 8 34).toNatClampNeg)))] σ2) (fun σ3 => some (.inl none, σ3)) lj_up) lj_up) lj_up else none) := rfl
set_option maxRecDepth 100000 in
set_option maxHeartbeats 4000000 in
theorem kg_149_0  (call : lj_Y) (jump : lj_K) (σ : lj_S) : lj_ex lc_ds lc_ca call lc_M149 jump 4000 0 [.ref 8] [] σ = (if lj_in (σ.1 8 34) 520 then (if ((σ.1 91 ((σ.1 8 34).toNatClampNeg))) = 0 then (if lj_in (σ.1 8 34) 520 then lj_bv (call 150 [.ref 8, .int ((σ.1 95 ((σ.1 8 34).toNatClampNeg)))] σ) (fun σ1 => jump 25 [.ref 8] [] σ1) lj_up else none) else jump 25 [.ref 8] [] σ) else none) := rfl
set_option maxRecDepth 100000 in
set_option maxHeartbeats 4000000 in
theorem kg_149_25  (call : lj_Y) (jump : lj_K) (σ : lj_S) : lj_ex lc_ds lc_ca call lc_M149 jump 4000 25 [.ref 8] [] σ = (if lj_in (σ.1 8 34) 520 then (if lj_in (σ.1 8 7) 26 then (if lj_in (σ.1 8 7) 26 then lj_bv (call 129 [.ref 8] (lj_put (lj_put σ 8 8 ((σ.1 95 ((σ.1 8 34).toNatClampNeg)))) 90 ((σ.1 8 7).toNatClampNeg) (((σ.1 90 ((σ.1 8 7).toNatClampNeg))) - 1))) (fun σ1 => some (.inl none, σ1)) lj_up else none) else none) else none) := rfl
set_option maxRecDepth 100000 in
set_option maxHeartbeats 4000000 in
theorem kg_153_0  (call : lj_Y) (jump : lj_K) (σ : lj_S) : lj_ex lc_ds lc_ca call lc_M153 jump 4000 0 [.ref 8, .retAddr 0, .retAddr 0, .retAddr 0, .retAddr 0, .retAddr 0, .retAddr 0, .retAddr 0] [] σ = (if lj_in (σ.1 8 34) 520 then (if ((σ.1 102 ((σ.1 8 34).toNatClampNeg))) = 0 then jump 24 [.ref 8, .int (σ.1 8 34), .int 1, .retAddr 0, .retAddr 0, .retAddr 0, .retAddr 0, .retAddr 0] [] σ else (if lj_in (σ.1 8 34) 520 then some (.inl none, (lj_put σ 103 ((σ.1 8 34).toNatClampNeg) (vp_nar .boolean 1))) else none)) else none) := rfl
set_option maxRecDepth 100000 in
set_option maxHeartbeats 4000000 in
theorem kg_153_24 (x1 : Int32) (x2 : Int32) (x3 : Value) (x4 : Value) (x5 : Value) (call : lj_Y) (jump : lj_K) (σ : lj_S) : lj_ex lc_ds lc_ca call lc_M153 jump 4000 24 [.ref 8, .int x1, .int x2, x3, x4, x5, .retAddr 0, .retAddr 0] [] σ = (if x2 = 0 then some (.inl none, σ) else (if lj_in x1 520 then (if (σ.1 8 33) = (σ.1 100 x1.toNatClampNeg) then (if lj_in x1 520 then (if lj_in x1 520 then lj_bv (call 149 [.ref 8] (lj_put σ 8 41 0)) (fun σ5 => lj_bv (call 143 [.ref 8, .int 2, .long (((σ.1 101 x1.toNatClampNeg) : Int32).toInt64)] σ5) (fun σ6 => lj_bv (call 144 [.ref 8, .int (σ.1 98 x1.toNatClampNeg)] σ6) (fun σ7 => some (.inl none, σ7)) (fun e8 σ9 => some (.inr e8, σ9))) (fun e10 σ11 => some (.inr e10, σ11))) (fun e12 σ13 => some (.inr e12, σ13)) else none) else none) else (if lj_in ((σ.1 8 33) - 1) 2001 then (if lj_in 20 24 then lj_bi (call 118 [.ref 7, .int 4, .long ((((σ.1 104 (((σ.1 8 33) - 1).toNatClampNeg))) : Int32).toInt64), .int ((σ.1 78 ((20 : Int32).toNatClampNeg)))] (lj_put σ 8 33 ((σ.1 8 33) - 1))) (fun y2 σ1 => (if y2 = 0 then jump 255 [.ref 8, .int x1, .int x2, .int ((σ.1 104 (((σ.1 8 33) - 1).toNatClampNeg))), x4, x5, .retAddr 0, .retAddr 0] [] σ1 else (if (σ1.1 7 27) = 5 then (if 2147483647 ≤ (σ1.1 8 51) then jump 156 [.ref 8, .int x1, .int x2, .int ((σ.1 104 (((σ.1 8 33) - 1).toNatClampNeg))), x4, x5, .retAddr 0, .retAddr 0] [.int 0, .int (σ1.1 8 51), .ref 8] σ1 else jump 156 [.ref 8, .int x1, .int x2, .int ((σ.1 104 (((σ.1 8 33) - 1).toNatClampNeg))), x4, x5, .retAddr 0, .retAddr 0] [.int 1, .int (σ1.1 8 51), .ref 8] σ1) else jump 255 [.ref 8, .int x1, .int x2, .int ((σ.1 104 (((σ.1 8 33) - 1).toNatClampNeg))), x4, x5, .retAddr 0, .retAddr 0] [] σ1))) (fun e3 σ4 => some (.inr e3, σ4)) else none) else none)) else none)) := rfl
set_option maxRecDepth 100000 in
set_option maxHeartbeats 4000000 in
theorem kg_153_156 (x1 : Int32) (x2 : Int32) (x3 : Int32) (x4 : Value) (x5 : Value) (x50 : Int32) (x51 : Int32) (call : lj_Y) (jump : lj_K) (σ : lj_S) : lj_ex lc_ds lc_ca call lc_M153 jump 4000 156 [.ref 8, .int x1, .int x2, .int x3, x4, x5, .retAddr 0, .retAddr 0] [.int x50, .int x51, .ref 8] σ = lj_bv (call 154 [.ref 8, .int 4, .long ((x3 : Int32).toInt64)] (lj_put (lj_put σ 8 51 (x51 + x50)) 8 38 0)) (fun σ1 => (if lj_in x1 520 then (if lj_in x1 520 then (if lj_in x1 520 then lj_bv (call 155 [.ref 8, .int (σ.1 7 27), .long (σ.2 7 28), .int 7, .int (σ1.1 99 x1.toNatClampNeg)] (lj_put (lj_put σ1 102 x1.toNatClampNeg (vp_nar .boolean 1)) 103 x1.toNatClampNeg (vp_nar .boolean 0))) (fun σ2 => (if lj_in x1 520 then (if lj_in x1 520 then jump 255 [.ref 8, .int x1, .int (σ2.1 103 x1.toNatClampNeg), .int x3, .int (σ.1 7 27), .long (σ.2 7 28), .retAddr 0, .retAddr 0] [] (lj_put σ2 102 x1.toNatClampNeg (vp_nar .boolean 0)) else none) else none)) (fun e3 σ4 => (bif lc_ca 0 e3 then jump 236 [.ref 8, .int x1, .int x2, .int x3, .int (σ.1 7 27), .long (σ.2 7 28), .retAddr 0, .retAddr 0] [.ref e3] σ4 else none)) else none) else none) else none)) (fun e5 σ6 => some (.inr e5, σ6)) := rfl
set_option maxRecDepth 100000 in
set_option maxHeartbeats 4000000 in
theorem kg_153_236 (x1 : Int32) (x2 : Int32) (x3 : Int32) (x4 : Int32) (x5 : Int64) (x50 : Nat) (call : lj_Y) (jump : lj_K) (σ : lj_S) : lj_ex lc_ds lc_ca call lc_M153 jump 4000 236 [.ref 8, .int x1, .int x2, .int x3, .int x4, .long x5, .retAddr 0, .retAddr 0] [.ref x50] σ = (if lj_in x1 520 then (bif Nat.blt x50 2000 then some (.inr x50, (lj_put σ 102 x1.toNatClampNeg (vp_nar .boolean 0))) else none) else none) := rfl
set_option maxRecDepth 100000 in
set_option maxHeartbeats 4000000 in
theorem kg_153_255 (x1 : Int32) (x2 : Int32) (x3 : Int32) (x4 : Value) (x5 : Value) (call : lj_Y) (jump : lj_K) (σ : lj_S) : lj_ex lc_ds lc_ca call lc_M153 jump 4000 255 [.ref 8, .int x1, .int x2, .int x3, x4, x5, .retAddr 0, .retAddr 0] [] σ = jump 24 [.ref 8, .int x1, .int x2, .int x3, x4, x5, .retAddr 0, .retAddr 0] [] σ := rfl
set_option maxRecDepth 100000 in
set_option maxHeartbeats 4000000 in
theorem kg_154_0 (x1 : Int32) (x2 : Int64) (call : lj_Y) (jump : lj_K) (σ : lj_S) : lj_ex lc_ds lc_ca call lc_M154 jump 4000 0 [.ref 8, .int x1, .long x2, .retAddr 0] [] σ = (if lj_in (σ.1 8 38) 128 then (if lj_in (σ.1 8 38) 128 then some (.inl none, (lj_put (lj_putL (lj_put σ 105 ((σ.1 8 38).toNatClampNeg) x1) 106 ((σ.1 8 38).toNatClampNeg) x2) 8 38 ((σ.1 8 38) + 1))) else none) else none) := rfl
set_option maxRecDepth 100000 in
set_option maxHeartbeats 4000000 in
theorem kg_155_0 (x1 : Int32) (x2 : Int64) (x4 : Int32) (x5 : Int32) (call : lj_Y) (jump : lj_K) (σ : lj_S) : lj_ex lc_ds lc_ca call lc_M155 jump 4000 0 [.ref 8, .int x1, .long x2, .retAddr 0, .int x4, .int x5, .retAddr 0, .retAddr 0, .retAddr 0, .retAddr 0, .retAddr 0, .retAddr 0, .retAddr 0] [] σ = jump 9 [.ref 8, .int x1, .long x2, .retAddr 0, .int x4, .int x5, .int x1, .long x2, .retAddr 0, .int 1, .retAddr 0, .retAddr 0, .retAddr 0] [] σ := rfl
set_option maxRecDepth 100000 in
set_option maxHeartbeats 4000000 in
theorem kg_155_9 (x1 : Int32) (x2 : Int64) (x4 : Int32) (x5 : Int32) (x6 : Int32) (x7 : Int64) (x9 : Int32) (x10 : Value) (x11 : Value) (call : lj_Y) (jump : lj_K) (σ : lj_S) : lj_ex lc_ds lc_ca call lc_M155 jump 4000 9 [.ref 8, .int x1, .long x2, .retAddr 0, .int x4, .int x5, .int x6, .long x7, .retAddr 0, .int x9, x10, x11, .retAddr 0] [] σ = (if x6 = 5 then (if 0 ≤ (lg_cmp x7 0) then (if lj_in ((x7 : Int64).toInt32) 2001 then lj_bv (call 131 [.ref 8, .int ((σ.1 62 (((x7 : Int64).toInt32).toNatClampNeg))), .int ((x7 : Int64).toInt32), .int x4, .int x5] σ) (fun σ1 => jump 164 [.ref 8, .int x1, .long x2, .retAddr 0, .int x4, .int x5, .int x6, .long x7, .retAddr 0, .int x9, x10, x11, .retAddr 0] [] σ1) lj_up else none) else lj_bv (call 159 [.ref 8, .int ((((-1) - x7) : Int64).toInt32), .int x4, .int x5] σ) (fun σ2 => jump 164 [.ref 8, .int x1, .long x2, .retAddr 0, .int x4, .int x5, .int x6, .long x7, .retAddr 0, .int x9, x10, x11, .retAddr 0] [] σ2) lj_up) else (if lj_in 19 24 then lj_bi (call 118 [.ref 7, .int x6, .long x7, .int ((σ.1 78 ((19 : Int32).toNatClampNeg)))] σ) (fun y4 σ3 => (if y4 = 0 then lj_br (call 156 [.ref 8, .int x5, .ref 1013, .int x6] σ3) (fun y9 σ8 => (bif Nat.blt y9 2000 then lj_up y9 σ8 else none)) lj_up else (if x9 = 20 then lj_br (call 133 [.ref 8, .int x5, .ref 1021] σ3) (fun y7 σ6 => (bif Nat.blt y7 2000 then lj_up y7 σ6 else none)) lj_up else lj_bv (call 158 [.ref 8, .int x6, .long x7] σ3) (fun σ5 => jump 9 [.ref 8, .int x1, .long x2, .retAddr 0, .int x4, .int x5, .int (σ3.1 7 27), .long (σ3.2 7 28), .retAddr 0, .int (x9 + 1), .int (σ3.1 7 27), .long (σ3.2 7 28), .retAddr 0] [] σ5) lj_up))) lj_up else none)) := rfl
set_option maxRecDepth 100000 in
set_option maxHeartbeats 4000000 in
theorem kg_155_164 (x1 : Int32) (x2 : Int64) (x4 : Int32) (x5 : Int32) (x6 : Int32) (x7 : Int64) (x9 : Int32) (x10 : Value) (x11 : Value) (call : lj_Y) (jump : lj_K) (σ : lj_S) : lj_ex lc_ds lc_ca call lc_M155 jump 4000 164 [.ref 8, .int x1, .long x2, .retAddr 0, .int x4, .int x5, .int x6, .long x7, .retAddr 0, .int x9, x10, x11, .retAddr 0] [] σ = some (.inl none, σ) := rfl
set_option maxRecDepth 100000 in
set_option maxHeartbeats 4000000 in
theorem kg_158_0 (x1 : Int32) (x2 : Int64) (call : lj_Y) (jump : lj_K) (σ : lj_S) : lj_ex lc_ds lc_ca call lc_M158 jump 4000 0 [.ref 8, .int x1, .long x2, .retAddr 0, .retAddr 0] [] σ = jump 6 [.ref 8, .int x1, .long x2, .retAddr 0, .int (σ.1 8 38)] [] σ := rfl
set_option maxRecDepth 100000 in
set_option maxHeartbeats 4000000 in
theorem kg_158_6 (x1 : Int32) (x2 : Int64) (x4 : Int32) (call : lj_Y) (jump : lj_K) (σ : lj_S) : lj_ex lc_ds lc_ca call lc_M158 jump 4000 6 [.ref 8, .int x1, .long x2, .retAddr 0, .int x4] [] σ = (if x4 ≤ 0 then (if lj_in 0 128 then (if lj_in 0 128 then some (.inl none, (lj_put (lj_putL (lj_put σ 105 ((0 : Int32).toNatClampNeg) x1) 106 ((0 : Int32).toNatClampNeg) x2) 8 38 ((σ.1 8 38) + 1))) else none) else none) else (if lj_in (x4 - 1) 128 then (if lj_in x4 128 then (if lj_in (x4 - 1) 128 then (if lj_in x4 128 then jump 6 [.ref 8, .int x1, .long x2, .retAddr 0, .int (x4 + (-1))] [] (lj_putL (lj_put σ 105 x4.toNatClampNeg ((σ.1 105 ((x4 - 1).toNatClampNeg)))) 106 x4.toNatClampNeg ((σ.2 106 ((x4 - 1).toNatClampNeg)))) else none) else none) else none) else none)) := rfl
set_option maxRecDepth 100000 in
set_option maxHeartbeats 4000000 in
theorem kg_163_0 (x1 : Int32) (call : lj_Y) (jump : lj_K) (σ : lj_S) : lj_ex lc_ds lc_ca call lc_M163 jump 4000 0 [.ref 8, .int x1] [] σ = (if (σ.1 8 38) ≤ x1 then jump 18 [.ref 8, .int x1] [.int 0] σ else (if lj_in x1 128 then jump 18 [.ref 8, .int x1] [.int (σ.1 105 x1.toNatClampNeg)] σ else none)) := rfl
set_option maxRecDepth 100000 in
set_option maxHeartbeats 4000000 in
theorem kg_163_18 (x1 : Int32) (x50 : Int32) (call : lj_Y) (jump : lj_K) (σ : lj_S) : lj_ex lc_ds lc_ca call lc_M163 jump 4000 18 [.ref 8, .int x1] [.int x50] σ = some (.inl (some (.int x50)), σ) := rfl
set_option maxRecDepth 100000 in
set_option maxHeartbeats 4000000 in
theorem kg_168_0 (x1 : Int32) (x2 : Int32) (x3 : Int32) (x4 : Int32) (call : lj_Y) (jump : lj_K) (σ : lj_S) : lj_ex lc_ds lc_ca call lc_M168 jump 4000 0 [.ref 8, .int x1, .int x2, .int x3, .int x4] [] σ = (if x1 = 0 then lj_br (call 169 [.ref 8, .int x4, .int x2, .int x3] σ) (fun y2 σ1 => (bif Nat.blt y2 2000 then lj_up y2 σ1 else none)) lj_up else some (.inl none, σ)) := rfl
set_option maxRecDepth 100000 in
set_option maxHeartbeats 4000000 in
theorem kg_118_0 (x1 : Int32) (x2 : Int64) (x4 : Int32) (call : lj_Y) (jump : lj_K) (σ : lj_S) : lj_ex lc_ds lc_ca call lc_M118 jump 4000 0 [.ref 7, .int x1, .long x2, .retAddr 0, .int x4] [] σ = (if x1 = 4 then (if lj_in ((x2 : Int64).toInt32) 2001 then (if 0 ≤ ((σ.1 58 (((x2 : Int64).toInt32).toNatClampNeg))) then (if lj_in ((x2 : Int64).toInt32) 2001 then lj_bi (call 117 [.ref 7, .int ((σ.1 58 (((x2 : Int64).toInt32).toNatClampNeg))), .int 3, .long ((x4 : Int32).toInt64)] σ) (fun y2 σ1 => some (.inl (some (.int (vp_nar .boolean y2))), σ1)) lj_up else none) else jump 15 [.ref 7, .int x1, .long x2, .retAddr 0, .int x4] [] σ) else none) else jump 15 [.ref 7, .int x1, .long x2, .retAddr 0, .int x4] [] σ) := rfl
set_option maxRecDepth 100000 in
set_option maxHeartbeats 4000000 in
theorem kg_118_15 (x1 : Int32) (x2 : Int64) (x4 : Int32) (call : lj_Y) (jump : lj_K) (σ : lj_S) : lj_ex lc_ds lc_ca call lc_M118 jump 4000 15 [.ref 7, .int x1, .long x2, .retAddr 0, .int x4] [] σ = some (.inl (some (.int 0)), (lj_putL (lj_put σ 7 27 0) 7 28 0)) := rfl
set_option maxRecDepth 100000 in
set_option maxHeartbeats 4000000 in
theorem kg_196_0 (x1 : Int32) (x2 : Int32) (call : lj_Y) (jump : lj_K) (σ : lj_S) : lj_ex lc_ds lc_ca call lc_M196 jump 4000 0 [.ref 8, .int x1, .int x2, .retAddr 0, .retAddr 0, .retAddr 0] [] σ = lj_bi (call 163 [.ref 8, .int 0] σ) (fun y2 σ1 => (if y2 = 6 then jump 16 [.ref 8, .int x1, .int x2, .retAddr 0, .retAddr 0, .retAddr 0] [.int 1, .ref 8] σ1 else jump 16 [.ref 8, .int x1, .int x2, .retAddr 0, .retAddr 0, .retAddr 0] [.int 0, .ref 8] σ1)) lj_up := rfl
set_option maxRecDepth 100000 in
set_option maxHeartbeats 4000000 in
theorem kg_196_16 (x1 : Int32) (x2 : Int32) (x50 : Int32) (call : lj_Y) (jump : lj_K) (σ : lj_S) : lj_ex lc_ds lc_ca call lc_M196 jump 4000 16 [.ref 8, .int x1, .int x2, .retAddr 0, .retAddr 0, .retAddr 0] [.int x50, .ref 8] σ = lj_bv (call 168 [.ref 8, .int x50, .int 1, .int 27, .int x1] σ) (fun σ1 => lj_bl (call 165 [.ref 8, .int 0] σ1) (fun y3 σ2 => (if (lg_cmp y3 0) = 0 then jump 54 [.ref 8, .int x1, .int x2, .retAddr 0, .retAddr 0, .retAddr 0] [.int 0] σ2 else lj_bl (call 165 [.ref 8, .int 0] σ2) (fun y5 σ4 => (if lj_in ((y5 : Int64).toInt32) 2001 then jump 54 [.ref 8, .int x1, .int x2, .retAddr 0, .retAddr 0, .retAddr 0] [.int ((σ4.1 64 (((y5 : Int64).toInt32).toNatClampNeg)))] σ4 else none)) lj_up)) lj_up) lj_up := rfl
set_option maxRecDepth 100000 in
set_option maxHeartbeats 4000000 in
theorem kg_196_54 (x1 : Int32) (x2 : Int32) (x50 : Int32) (call : lj_Y) (jump : lj_K) (σ : lj_S) : lj_ex lc_ds lc_ca call lc_M196 jump 4000 54 [.ref 8, .int x1, .int x2, .retAddr 0, .retAddr 0, .retAddr 0] [.int x50] σ = (if lj_in x50 26 then (if (σ.1 83 x50.toNatClampNeg) = 0 then jump 140 [.ref 8, .int x1, .int x2, .int x50, .retAddr 0, .retAddr 0] [] σ else (if lj_in x50 26 then (if (σ.1 83 x50.toNatClampNeg) = 1 then jump 140 [.ref 8, .int x1, .int x2, .int x50, .retAddr 0, .retAddr 0] [] σ else lj_bv (call 143 [.ref 8, .int 1, .long 0] (lj_put σ 8 41 0)) (fun σ1 => lj_bv (call 22 [.ref 3] σ1) (fun σ2 => (if lj_in x50 26 then (if (σ2.1 83 x50.toNatClampNeg) = 4 then jump 121 [.ref 8, .int x1, .int x2, .int x50, .retAddr 0, .retAddr 0] [.ref 1028, .ref 3] σ2 else jump 121 [.ref 8, .int x1, .int x2, .int x50, .retAddr 0, .retAddr 0] [.ref 1029, .ref 3] σ2) else none)) lj_up) lj_up) else none)) else none) := rfl
set_option maxRecDepth 100000 in
set_option maxHeartbeats 4000000 in
theorem kg_196_121 (x1 : Int32) (x2 : Int32) (x3 : Int32) (x50 : Nat) (call : lj_Y) (jump : lj_K) (σ : lj_S) : lj_ex lc_ds lc_ca call lc_M196 jump 4000 121 [.ref 8, .int x1, .int x2, .int x3, .retAddr 0, .retAddr 0] [.ref x50, .ref 3] σ = lj_bv (call 29 [.ref 3, .ref x50] σ) (fun σ1 => lj_bi (call 136 [.ref 8] σ1) (fun y3 σ2 => lj_bv (call 143 [.ref 8, .int 3, .long ((y3 : Int32).toInt64)] σ2) (fun σ4 => lj_bv (call 144 [.ref 8, .int x2] σ4) (fun σ5 => some (.inl none, σ5)) lj_up) lj_up) lj_up) lj_up := rfl
set_option maxRecDepth 100000 in
set_option maxHeartbeats 4000000 in
theorem kg_196_140 (x1 : Int32) (x2 : Int32) (x3 : Int32) (call : lj_Y) (jump : lj_K) (σ : lj_S) : lj_ex lc_ds lc_ca call lc_M196 jump 4000 140 [.ref 8, .int x1, .int x2, .int x3, .retAddr 0, .retAddr 0] [] σ = (if (σ.1 8 18) = 10 then lj_br (call 133 [.ref 8, .int x1, .ref 1011] σ) (fun y3 σ2 => (bif Nat.blt y3 2000 then lj_up y3 σ2 else none)) lj_up else lj_bv (call 173 [.ref 8] (lj_put σ 8 18 ((σ.1 8 18) + 1))) (fun σ1 => (if lj_in x3 26 then (if lj_in x3 26 then (if lj_in (σ1.1 8 7) 26 then (if lj_in (σ1.1 8 7) 26 then (if lj_in x3 26 then (if (((lj_put σ1 83 ((σ1.1 8 7).toNatClampNeg) 3).1 83 x3.toNatClampNeg)) = 0 then jump 226 [.ref 8, .int x1, .int x2, .int x3, .retAddr 0, .retAddr 0] [.int 1] (lj_put (lj_put (lj_put (lj_put σ1 86 x3.toNatClampNeg x2) 84 x3.toNatClampNeg (σ1.1 8 7)) 82 ((σ1.1 8 7).toNatClampNeg) (σ1.1 8 8)) 83 ((σ1.1 8 7).toNatClampNeg) 3) else jump 226 [.ref 8, .int x1, .int x2, .int x3, .retAddr 0, .retAddr 0] [.int 0] (lj_put (lj_put (lj_put (lj_put σ1 86 x3.toNatClampNeg x2) 84 x3.toNatClampNeg (σ1.1 8 7)) 82 ((σ1.1 8 7).toNatClampNeg) (σ1.1 8 8)) 83 ((σ1.1 8 7).toNatClampNeg) 3)) else none) else none) else none) else none) else none)) lj_up) := rfl
set_option maxRecDepth 100000 in
set_option maxHeartbeats 4000000 in
theorem kg_196_226 (x1 : Int32) (x2 : Int32) (x3 : Int32) (x50 : Int32) (call : lj_Y) (jump : lj_K) (σ : lj_S) : lj_ex lc_ds lc_ca call lc_M196 jump 4000 226 [.ref 8, .int x1, .int x2, .int x3, .retAddr 0, .retAddr 0] [.int x50] σ = (if lj_in x3 26 then (if lj_in x3 26 then lj_bv (call 129 [.ref 8] (lj_put (lj_put (lj_put σ 8 7 x3) 83 x3.toNatClampNeg 2) 8 8 (σ.1 82 x3.toNatClampNeg))) (fun σ1 => (if x50 = 0 then jump 287 [.ref 8, .int x1, .int x2, .int x3, .int x50, .int 0] [] (lj_put σ1 8 41 0) else (if lj_in x3 26 then (if lj_in x3 26 then lj_bv (call 155 [.ref 8, .int (σ1.1 88 x3.toNatClampNeg), .long (σ1.2 89 x3.toNatClampNeg), .int 8, .int x1] σ1) (fun σ2 => some (.inl none, σ2)) lj_up else none) else none))) lj_up else none) else none) := rfl
set_option maxRecDepth 100000 in
set_option maxHeartbeats 4000000 in
theorem kg_196_287 (x1 : Int32) (x2 : Int32) (x3 : Int32) (x4 : Int32) (x5 : Int32) (call : lj_Y) (jump : lj_K) (σ : lj_S) : lj_ex lc_ds lc_ca call lc_M196 jump 4000 287 [.ref 8, .int x1, .int x2, .int x3, .int x4, .int x5] [] σ = (if (σ.1 8 38) ≤ x5 then (if lj_in x3 26 then lj_bv (call 144 [.ref 8, .int (σ.1 87 x3.toNatClampNeg)] σ) (fun σ1 => some (.inl none, σ1)) lj_up else none) else (if lj_in x5 128 then (if lj_in x5 128 then lj_bv (call 143 [.ref 8, .int (σ.1 105 x5.toNatClampNeg), .long (σ.2 106 x5.toNatClampNeg)] σ) (fun σ2 => jump 287 [.ref 8, .int x1, .int x2, .int x3, .int x4, .int (x5 + 1)] [] σ2) lj_up else none) else none)) := rfl
set_option maxRecDepth 100000 in
set_option maxHeartbeats 4000000 in
theorem kg_197_0 (x1 : Int32) (x2 : Int32) (call : lj_Y) (jump : lj_K) (σ : lj_S) : lj_ex lc_ds lc_ca call lc_M197 jump 4000 0 [.ref 8, .int x1, .int x2, .retAddr 0, .retAddr 0, .retAddr 0] [] σ = (if (σ.1 8 7) = 0 then jump 12 [.ref 8, .int x1, .int x2, .retAddr 0, .retAddr 0, .retAddr 0] [.int 0] σ else jump 12 [.ref 8, .int x1, .int x2, .retAddr 0, .retAddr 0, .retAddr 0] [.int 1] σ) := rfl
set_option maxRecDepth 100000 in
set_option maxHeartbeats 4000000 in
theorem kg_197_12 (x1 : Int32) (x2 : Int32) (x50 : Int32) (call : lj_Y) (jump : lj_K) (σ : lj_S) : lj_ex lc_ds lc_ca call lc_M197 jump 4000 12 [.ref 8, .int x1, .int x2, .retAddr 0, .retAddr 0, .retAddr 0] [.int x50] σ = jump 16 [.ref 8, .int x1, .int x2, .int x50, .int 0, .retAddr 0] [] σ := rfl
set_option maxRecDepth 100000 in
set_option maxHeartbeats 4000000 in
theorem kg_197_16 (x1 : Int32) (x2 : Int32) (x3 : Int32) (x4 : Int32) (call : lj_Y) (jump : lj_K) (σ : lj_S) : lj_ex lc_ds lc_ca call lc_M197 jump 4000 16 [.ref 8, .int x1, .int x2, .int x3, .int x4, .retAddr 0] [] σ = (if lj_in (σ.1 8 7) 26 then (if ((σ.1 90 ((σ.1 8 7).toNatClampNeg))) ≤ x4 then (if x3 = 0 then lj_br (call 133 [.ref 8, .int x1, .ref 1030] σ) (fun y2 σ1 => (bif Nat.blt y2 2000 then lj_up y2 σ1 else none)) lj_up else (if lj_in (σ.1 8 7) 26 then jump 100 [.ref 8, .int x1, .int x2, .int x3, .int (σ.1 8 7), .int 0] [] (lj_put (lj_put σ 87 ((σ.1 8 7).toNatClampNeg) x2) 8 41 0) else none)) else (if x3 = 0 then jump 57 [.ref 8, .int x1, .int x2, .int x3, .int x4, .retAddr 0] [] σ else lj_bi (call 130 [.ref 8, .int (σ.1 8 7), .int x4] σ) (fun y4 σ3 => (if lj_in y4 520 then (if (σ3.1 91 y4.toNatClampNeg) = 2 then jump 57 [.ref 8, .int x1, .int x2, .int x3, .int x4, .retAddr 0] [] σ3 else jump 58 [.ref 8, .int x1, .int x2, .int x3, .int x4, .retAddr 0] [.int 1] σ3) else none)) lj_up)) else none) := rfl
set_option maxRecDepth 100000 in
set_option maxHeartbeats 4000000 in
theorem kg_197_57 (x1 : Int32) (x2 : Int32) (x3 : Int32) (x4 : Int32) (call : lj_Y) (jump : lj_K) (σ : lj_S) : lj_ex lc_ds lc_ca call lc_M197 jump 4000 57 [.ref 8, .int x1, .int x2, .int x3, .int x4, .retAddr 0] [] σ = jump 58 [.ref 8, .int x1, .int x2, .int x3, .int x4, .retAddr 0] [.int 0] σ := rfl
set_option maxRecDepth 100000 in
set_option maxHeartbeats 4000000 in
theorem kg_197_58 (x1 : Int32) (x2 : Int32) (x3 : Int32) (x4 : Int32) (x50 : Int32) (call : lj_Y) (jump : lj_K) (σ : lj_S) : lj_ex lc_ds lc_ca call lc_M197 jump 4000 58 [.ref 8, .int x1, .int x2, .int x3, .int x4, .retAddr 0] [.int x50] σ = jump 16 [.ref 8, .int x1, .int x2, .int x50, .int (x4 + 1), .retAddr 0] [] σ := rfl
set_option maxRecDepth 100000 in
set_option maxHeartbeats 4000000 in
theorem kg_197_100 (x1 : Int32) (x2 : Int32) (x3 : Int32) (x4 : Int32) (x5 : Int32) (call : lj_Y) (jump : lj_K) (σ : lj_S) : lj_ex lc_ds lc_ca call lc_M197 jump 4000 100 [.ref 8, .int x1, .int x2, .int x3, .int x4, .int x5] [] σ = (if (σ.1 8 38) ≤ x5 then (if lj_in x4 26 then lj_bv (call 198 [.ref 8] (lj_put σ 83 x4.toNatClampNeg 1)) (fun σ1 => lj_bv (call 152 [.ref 8, .int 1] σ1) (fun σ2 => (if lj_in x4 26 then lj_bv (call 144 [.ref 8, .int (σ2.1 86 x4.toNatClampNeg)] σ2) (fun σ3 => some (.inl none, σ3)) lj_up else none)) lj_up) lj_up else none) else (if lj_in x5 128 then (if lj_in x5 128 then lj_bv (call 143 [.ref 8, .int (σ.1 105 x5.toNatClampNeg), .long (σ.2 106 x5.toNatClampNeg)] σ) (fun σ4 => jump 100 [.ref 8, .int x1, .int x2, .int x3, .int x4, .int (x5 + 1)] [] σ4) lj_up else none) else none)) := rfl
set_option maxRecDepth 100000 in
set_option maxHeartbeats 4000000 in
theorem kg_198_0  (call : lj_Y) (jump : lj_K) (σ : lj_S) : lj_ex lc_ds lc_ca call lc_M198 jump 4000 0 [.ref 8, .retAddr 0] [] σ = (if lj_in (σ.1 8 7) 26 then (if lj_in (σ.1 8 7) 26 then (if lj_in ((σ.1 84 ((σ.1 8 7).toNatClampNeg))) 26 then (if lj_in ((σ.1 84 ((σ.1 8 7).toNatClampNeg))) 26 then lj_bv (call 129 [.ref 8] (lj_put (lj_put (lj_put (lj_put (lj_put σ 82 ((σ.1 8 7).toNatClampNeg) (σ.1 8 8)) 8 18 ((σ.1 8 18) - 1)) 8 7 ((σ.1 84 ((σ.1 8 7).toNatClampNeg)))) 83 (((σ.1 84 ((σ.1 8 7).toNatClampNeg))).toNatClampNeg) 2) 8 8 (((lj_put σ 82 ((σ.1 8 7).toNatClampNeg) (σ.1 8 8)).1 82 (((σ.1 84 ((σ.1 8 7).toNatClampNeg))).toNatClampNeg))))) (fun σ1 => some (.inl none, σ1)) lj_up else none) else none) else none) else none) := rfl
set_option maxRecDepth 100000 in
set_option maxHeartbeats 4000000 in
theorem kg_199_0 (x1 : Int32) (call : lj_Y) (jump : lj_K) (σ : lj_S) : lj_ex lc_ds lc_ca call lc_M199 jump 4000 0 [.ref 8, .int x1, .retAddr 0] [] σ = (if (σ.1 8 7) = 0 then (if x1 = 0 then jump 22 [.ref 8, .int x1, .retAddr 0] [.int 1, .ref 8] (lj_put σ 8 46 1) else jump 22 [.ref 8, .int x1, .retAddr 0] [.int 0, .ref 8] (lj_put σ 8 46 1)) else (if lj_in (σ.1 8 7) 26 then lj_bv (call 198 [.ref 8] (lj_put σ 83 ((σ.1 8 7).toNatClampNeg) 4)) (fun σ1 => lj_bv (call 152 [.ref 8, .int x1] σ1) (fun σ2 => (if lj_in (σ.1 8 7) 26 then lj_bv (call 144 [.ref 8, .int ((σ2.1 86 ((σ.1 8 7).toNatClampNeg)))] σ2) (fun σ3 => some (.inl none, σ3)) lj_up else none)) lj_up) lj_up else none)) := rfl
set_option maxRecDepth 100000 in
set_option maxHeartbeats 4000000 in
theorem kg_199_22 (x1 : Int32) (x50 : Int32) (call : lj_Y) (jump : lj_K) (σ : lj_S) : lj_ex lc_ds lc_ca call lc_M199 jump 4000 22 [.ref 8, .int x1, .retAddr 0] [.int x50, .ref 8] σ = some (.inl none, (lj_put σ 8 47 x50)) := rfl
set_option maxRecDepth 100000 in
set_option maxHeartbeats 4000000 in
theorem kg_159_14x (x2 : Int32) (x3 : Int32) (call : lj_Y) (jump : lj_K) (σ : lj_S) : lj_ex lc_ds lc_ca call lc_M159 jump 4000 0 [.ref 8, .int 14, .int x2, .int x3, .retAddr 0, .retAddr 0, .retAddr 0] [] σ = lj_bi (call 163 [.ref 8, .int 0] σ) (fun y67 σ66 => lj_bl (call 165 [.ref 8, .int 0] σ66) (fun y69 σ68 => lj_bv (call 173 [.ref 8] σ68) (fun σ70 => lj_bv (call 132 [.ref 8, .int 1, .int x2, .int x3] σ70) (fun σ71 => lj_bv (call 155 [.ref 8, .int y67, .long y69, .int 6, .int x3] σ71) (fun σ72 => jump 901 [.ref 8, .int 14, .int x2, .int x3, .int y67, .long y69, .retAddr 0] [] σ72) lj_up) lj_up) lj_up) lj_up) lj_up := rfl
set_option maxRecDepth 100000 in
set_option maxHeartbeats 4000000 in
theorem kg_187_26x (x2 : Int32) (x3 : Int32) (call : lj_Y) (jump : lj_K) (σ : lj_S) : lj_ex lc_ds lc_ca call lc_M187 jump 4000 0 [.ref 8, .int 26, .int x2, .int x3, .retAddr 0, .retAddr 0, .retAddr 0, .retAddr 0, .retAddr 0, .retAddr 0] [] σ = lj_bi (call 163 [.ref 8, .int 0] σ) (fun y22 σ21 => (if y22 = 5 then jump 560 [.ref 8, .int 26, .int x2, .int x3, .retAddr 0, .retAddr 0, .retAddr 0, .retAddr 0, .retAddr 0, .retAddr 0] [.int 1, .ref 8] σ21 else jump 560 [.ref 8, .int 26, .int x2, .int x3, .retAddr 0, .retAddr 0, .retAddr 0, .retAddr 0, .retAddr 0, .retAddr 0] [.int 0, .ref 8] σ21)) lj_up := rfl
set_option maxRecDepth 100000 in
set_option maxHeartbeats 4000000 in
theorem kg_187_560 (x1 : Int32) (x2 : Int32) (x3 : Int32) (x50 : Int32) (call : lj_Y) (jump : lj_K) (σ : lj_S) : lj_ex lc_ds lc_ca call lc_M187 jump 4000 560 [.ref 8, .int x1, .int x2, .int x3, .retAddr 0, .retAddr 0, .retAddr 0, .retAddr 0, .retAddr 0, .retAddr 0] [.int x50, .ref 8] σ = lj_bv (call 168 [.ref 8, .int x50, .int 1, .int x1, .int x3] σ) (fun σ1 => (if (σ1.1 7 1) = 25 then lj_br (call 20 [.ref 2, .int 1] σ1) (fun y8 σ7 => (bif Nat.blt y8 2000 then lj_up y8 σ7 else none)) lj_up else lj_bi (call 116 [.ref 7, .int 6] σ1) (fun y3 σ2 => (if lj_in y3 2001 then (if lj_in ((σ2.1 7 1) + 1) 26 then (if lj_in ((σ2.1 7 1) + 1) 26 then (if lj_in ((σ2.1 7 1) + 1) 26 then lj_bl (call 165 [.ref 8, .int 0] (lj_put (lj_put (lj_put (lj_put (lj_put σ2 7 1 ((σ2.1 7 1) + 1)) 64 y3.toNatClampNeg ((σ2.1 7 1) + 1)) 85 (((σ2.1 7 1) + 1).toNatClampNeg) y3) 83 (((σ2.1 7 1) + 1).toNatClampNeg) 0) 88 (((σ2.1 7 1) + 1).toNatClampNeg) 5)) (fun y5 σ4 => (if lj_in ((σ2.1 7 1) + 1) 26 then (if lj_in ((σ2.1 7 1) + 1) 26 then (if lj_in ((σ2.1 7 1) + 1) 26 then lj_bv (call 164 [.ref 8, .int x1, .int 6, .long ((y3 : Int32).toInt64), .int x2] (lj_put (lj_put (lj_putL σ4 89 (((σ2.1 7 1) + 1).toNatClampNeg) y5) 82 (((σ2.1 7 1) + 1).toNatClampNeg) (((σ2.1 7 1) + 1) * 12500)) 90 (((σ2.1 7 1) + 1).toNatClampNeg) 0)) (fun σ6 => jump 919 [.ref 8, .int x1, .int x2, .int x3, .int y3, .int ((σ2.1 7 1) + 1), .retAddr 0, .retAddr 0, .retAddr 0, .retAddr 0] [] σ6) lj_up else none) else none) else none)) lj_up else none) else none) else none) else none)) lj_up)) lj_up := rfl
set_option maxRecDepth 100000 in
set_option maxHeartbeats 4000000 in
theorem kg_159_901 (x1 : Int32) (x2 : Int32) (x3 : Int32) (x4 : Value) (x5 : Value) (call : lj_Y) (jump : lj_K) (σ : lj_S) : lj_ex lc_ds lc_ca call lc_M159 jump 4000 901 [.ref 8, .int x1, .int x2, .int x3, x4, x5, .retAddr 0] [] σ = some (.inl none, σ) := rfl
set_option maxRecDepth 100000 in
set_option maxHeartbeats 4000000 in
theorem kg_187_919 (x1 : Int32) (x2 : Int32) (x3 : Int32) (x4 : Value) (x5 : Value) (x7 : Value) (x9 : Value) (call : lj_Y) (jump : lj_K) (σ : lj_S) : lj_ex lc_ds lc_ca call lc_M187 jump 4000 919 [.ref 8, .int x1, .int x2, .int x3, x4, x5, .retAddr 0, x7, .retAddr 0, x9] [] σ = some (.inl none, σ) := rfl
theorem xq (call : lj_Y) (M : lj_M) (n pc : Nat) (L st : List Value) (σ : lj_S) : lj_exec lc_P.1 lc_P.2.1 call M (n + 1) pc L st σ = lj_ex lc_ds lc_ca call M (lj_exec lc_P.1 lc_P.2.1 call M n) 4000 pc L st σ := rfl
/-- a call on the way: the same answer, or it ends there -/
theorem bvs {x x' : Option lj_O} {k k' : lj_S → Option lj_O} {o : lj_O} {Q : lj_O → Prop} (h : lj_bv x k lj_up = some o) (hx : ∀ q, x = some q → x' = some q) (hi : ∀ e σ, Q (.inr e, σ)) (hk : ∀ σ1, x = some (.inl none, σ1) → k σ1 = some o → k' σ1 = some o ∧ Q o) : lj_bv x' k' lj_up = some o ∧ Q o := by
  cases x with
  | none => cases h
  | some q =>
    rw [hx q rfl]
    obtain ⟨q1, q2⟩ := q
    cases q1 with
    | inr e => cases h; exact ⟨rfl, hi _ _⟩
    | inl v =>
      cases v with
      | none => exact hk q2 rfl h
      | some v => cases h
theorem bis {x x' : Option lj_O} {k k' : Int32 → lj_S → Option lj_O} {o : lj_O} {Q : lj_O → Prop} (h : lj_bi x k lj_up = some o) (hx : ∀ q, x = some q → x' = some q) (hi : ∀ e σ, Q (.inr e, σ)) (hk : ∀ v σ1, x = some (.inl (some (.int v)), σ1) → k v σ1 = some o → k' v σ1 = some o ∧ Q o) : lj_bi x' k' lj_up = some o ∧ Q o := by
  cases x with
  | none => cases h
  | some q =>
    rw [hx q rfl]
    obtain ⟨q1, q2⟩ := q
    cases q1 with
    | inr e => cases h; exact ⟨rfl, hi _ _⟩
    | inl v =>
      cases v with
      | none => cases h
      | some v => cases v <;> first | exact hk _ q2 rfl h | cases h
theorem bls {x x' : Option lj_O} {k k' : Int64 → lj_S → Option lj_O} {o : lj_O} {Q : lj_O → Prop} (h : lj_bl x k lj_up = some o) (hx : ∀ q, x = some q → x' = some q) (hi : ∀ e σ, Q (.inr e, σ)) (hk : ∀ v σ1, x = some (.inl (some (.long v)), σ1) → k v σ1 = some o → k' v σ1 = some o ∧ Q o) : lj_bl x' k' lj_up = some o ∧ Q o := by
  cases x with
  | none => cases h
  | some q =>
    rw [hx q rfl]
    obtain ⟨q1, q2⟩ := q
    cases q1 with
    | inr e => cases h; exact ⟨rfl, hi _ _⟩
    | inl v =>
      cases v with
      | none => cases h
      | some v => cases v <;> first | exact hk _ q2 rfl h | cases h
/-- what is thrown is thrown -/
theorem brs {x x' : Option lj_O} {o : lj_O} {Q : lj_O → Prop} (h : lj_br x (fun y s => (bif Nat.blt y 2000 then lj_up y s else none)) lj_up = some o) (hx : ∀ q, x = some q → x' = some q) (hi : ∀ e σ, Q (.inr e, σ)) : lj_br x' (fun y s => (bif Nat.blt y 2000 then lj_up y s else none)) lj_up = some o ∧ Q o := by
  cases x with
  | none => cases h
  | some q =>
    rw [hx q rfl]
    obtain ⟨q1, q2⟩ := q
    cases q1 with
    | inr e => cases h; exact ⟨rfl, hi _ _⟩
    | inl v =>
      cases v with
      | none => cases h
      | some v =>
        cases v with
        | ref y =>
          have h2 : (bif Nat.blt y 2000 then lj_up y q2 else none) = some o := h
          refine ⟨h2, ?_⟩
          cases hb : Nat.blt y 2000 with
          | false => rw [hb] at h2; cases h2
          | true => rw [hb] at h2; cases h2; exact hi _ _
        | _ => cases h
theorem ifs {c : Prop} [Decidable c] {a b a' b' : Option lj_O} {o : lj_O} {Q : lj_O → Prop} (h : (if c then a else b) = some o) (h1 : c → a = some o → a' = some o ∧ Q o) (h2 : ¬ c → b = some o → b' = some o ∧ Q o) : (if c then a' else b') = some o ∧ Q o := by
  by_cases hc : c
  · rw [if_pos hc] at h ⊢; exact h1 hc h
  · rw [if_neg hc] at h ⊢; exact h2 hc h
theorem ifn {c : Prop} [Decidable c] {a a' : Option lj_O} {o : lj_O} {Q : lj_O → Prop} (h : (if c then a else none) = some o) (h1 : c → a = some o → a' = some o ∧ Q o) : (if c then a' else none) = some o ∧ Q o := ifs h h1 (fun _ q => by cases q)
