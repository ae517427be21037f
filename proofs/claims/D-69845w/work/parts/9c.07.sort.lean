/-! over a run of the model: strings keep their sorts, but that one of no sort may be counted (2) -/
set_option maxRecDepth 100000 in
set_option maxHeartbeats 4000000 in
theorem kh_3_0 (x1 : Int32) (call : lj_Y) (jump : lj_K) (σ : lj_S) : lj_ex lm_ds lm_ca call lm_M3 jump 4000 0 [.ref 0, .int x1, .retAddr 0, .retAddr 0, .retAddr 0, .retAddr 0] [] σ = lj_bi (call 4 [.ref 0, .int (σ.1 0 20)] σ) (fun y2 σ1 => (if lj_in y2 1024 then jump 16 [.ref 0, .int x1, .int y2, .int (σ1.1 7 y2.toNatClampNeg), .retAddr 0, .retAddr 0] [] σ1 else none)) lj_up := rfl
set_option maxRecDepth 100000 in
set_option maxHeartbeats 4000000 in
theorem kh_3_16 (x1 : Int32) (x2 : Int32) (x3 : Int32) (x4 : Value) (x5 : Value) (call : lj_Y) (jump : lj_K) (σ : lj_S) : lj_ex lm_ds lm_ca call lm_M3 jump 4000 16 [.ref 0, .int x1, .int x2, .int x3, x4, x5] [] σ = (if x3 < 0 then (if lj_in (σ.1 0 14) 3000 then (if lj_in (σ.1 0 14) 3000 then (if lj_in (σ.1 0 14) 3000 then (if lj_in x2 1024 then (if lj_in (σ.1 0 14) 3000 then (if lj_in x2 1024 then jump 196 [.ref 0, .int x1, .int x2, .int (σ.1 0 14), .int 0, x5] [] (lj_put (lj_put (lj_put (lj_put (lj_put (lj_put σ 0 14 ((σ.1 0 14) + 1)) 3 ((σ.1 0 14).toNatClampNeg) (σ.1 0 8)) 4 ((σ.1 0 14).toNatClampNeg) (σ.1 0 20)) 5 ((σ.1 0 14).toNatClampNeg) x1) 6 ((σ.1 0 14).toNatClampNeg) (σ.1 7 x2.toNatClampNeg)) 7 x2.toNatClampNeg (σ.1 0 14)) else none) else none) else none) else none) else none) else none) else (if lj_in x3 3000 then (if (σ.1 4 x3.toNatClampNeg) = (σ.1 0 20) then jump 38 [.ref 0, .int x1, .int x2, .int x3, x4, x5] [.int 1] σ else jump 38 [.ref 0, .int x1, .int x2, .int x3, x4, x5] [.int 0] σ) else none)) := rfl
set_option maxRecDepth 100000 in
set_option maxHeartbeats 4000000 in
theorem kh_3_38 (x1 : Int32) (x2 : Int32) (x3 : Int32) (x4 : Value) (x5 : Value) (x50 : Int32) (call : lj_Y) (jump : lj_K) (σ : lj_S) : lj_ex lm_ds lm_ca call lm_M3 jump 4000 38 [.ref 0, .int x1, .int x2, .int x3, x4, x5] [.int x50] σ = jump 43 [.ref 0, .int x1, .int x2, .int x3, .int x50, .int 0] [] σ := rfl
set_option maxRecDepth 100000 in
set_option maxHeartbeats 4000000 in
theorem kh_3_43 (x1 : Int32) (x2 : Int32) (x3 : Int32) (x4 : Int32) (x5 : Int32) (call : lj_Y) (jump : lj_K) (σ : lj_S) : lj_ex lm_ds lm_ca call lm_M3 jump 4000 43 [.ref 0, .int x1, .int x2, .int x3, .int x4, .int x5] [] σ = (if (σ.1 0 20) ≤ x5 then jump 94 [.ref 0, .int x1, .int x2, .int x3, .int x4, .int x5] [] σ else (if x4 = 0 then jump 94 [.ref 0, .int x1, .int x2, .int x3, .int x4, .int x5] [] σ else (if lj_in x3 3000 then (if lj_in ((σ.1 3 x3.toNatClampNeg) + x5) 40000 then (if lj_in x5 4200 then (if ((σ.1 2 (((σ.1 3 x3.toNatClampNeg) + x5).toNatClampNeg))) = (σ.1 8 x5.toNatClampNeg) then jump 86 [.ref 0, .int x1, .int x2, .int x3, .int x4, .int x5] [.int 1] σ else jump 86 [.ref 0, .int x1, .int x2, .int x3, .int x4, .int x5] [.int 0] σ) else none) else none) else none))) := rfl
set_option maxRecDepth 100000 in
set_option maxHeartbeats 4000000 in
theorem kh_3_86 (x1 : Int32) (x2 : Int32) (x3 : Int32) (x4 : Int32) (x5 : Int32) (x50 : Int32) (call : lj_Y) (jump : lj_K) (σ : lj_S) : lj_ex lm_ds lm_ca call lm_M3 jump 4000 86 [.ref 0, .int x1, .int x2, .int x3, .int x4, .int x5] [.int x50] σ = jump 43 [.ref 0, .int x1, .int x2, .int x3, .int x50, .int (x5 + 1)] [] σ := rfl
set_option maxRecDepth 100000 in
set_option maxHeartbeats 4000000 in
theorem kh_3_94 (x1 : Int32) (x2 : Int32) (x3 : Int32) (x4 : Int32) (x5 : Int32) (call : lj_Y) (jump : lj_K) (σ : lj_S) : lj_ex lm_ds lm_ca call lm_M3 jump 4000 94 [.ref 0, .int x1, .int x2, .int x3, .int x4, .int x5] [] σ = (if x4 = 0 then (if lj_in x3 3000 then jump 16 [.ref 0, .int x1, .int x2, .int (σ.1 6 x3.toNatClampNeg), .int x4, .int x5] [] σ else none) else (if x1 = 1 then jump 119 [.ref 0, .int x1, .int x2, .int x3, .int x4, .int x5] [.int 1, .int x3, .ref 5] σ else (if lj_in x3 3000 then jump 119 [.ref 0, .int x1, .int x2, .int x3, .int x4, .int x5] [.int (σ.1 5 x3.toNatClampNeg), .int x3, .ref 5] σ else none))) := rfl
set_option maxRecDepth 100000 in
set_option maxHeartbeats 4000000 in
theorem kh_3_119 (x1 : Int32) (x2 : Int32) (x3 : Int32) (x4 : Int32) (x5 : Int32) (x50 : Int32) (x51 : Int32) (call : lj_Y) (jump : lj_K) (σ : lj_S) : lj_ex lm_ds lm_ca call lm_M3 jump 4000 119 [.ref 0, .int x1, .int x2, .int x3, .int x4, .int x5] [.int x50, .int x51, .ref 5] σ = (if lj_in x51 3000 then some (.inl (some (.int x3)), (lj_put σ 5 x51.toNatClampNeg x50)) else none) := rfl
set_option maxRecDepth 100000 in
set_option maxHeartbeats 4000000 in
theorem kh_3_196 (x1 : Int32) (x2 : Int32) (x3 : Int32) (x4 : Int32) (x5 : Value) (call : lj_Y) (jump : lj_K) (σ : lj_S) : lj_ex lm_ds lm_ca call lm_M3 jump 4000 196 [.ref 0, .int x1, .int x2, .int x3, .int x4, x5] [] σ = (if (σ.1 0 20) ≤ x4 then some (.inl (some (.int x3)), (lj_put σ 0 8 ((σ.1 0 8) + (σ.1 0 20)))) else (if lj_in x4 4200 then (if lj_in ((σ.1 0 8) + x4) 40000 then jump 196 [.ref 0, .int x1, .int x2, .int x3, .int (x4 + 1), x5] [] (lj_put σ 2 (((σ.1 0 8) + x4).toNatClampNeg) (vp_nar .byte (σ.1 8 x4.toNatClampNeg))) else none) else none)) := rfl
set_option maxRecDepth 100000 in
set_option maxHeartbeats 4000000 in
theorem kh_139_0  (call : lj_Y) (jump : lj_K) (σ : lj_S) : lj_ex lm_ds lm_ca call lm_M139 jump 4000 0 [.ref 0, .retAddr 0, .retAddr 0, .retAddr 0, .retAddr 0, .retAddr 0] [] σ = lj_bi (call 4 [.ref 0, .int (σ.1 0 20)] σ) (fun y2 σ1 => (if lj_in y2 1024 then jump 18 [.ref 0, .int y2, .int (-1), .int (σ1.1 7 y2.toNatClampNeg), .retAddr 0, .retAddr 0] [] σ1 else none)) lj_up := rfl
set_option maxRecDepth 100000 in
set_option maxHeartbeats 4000000 in
theorem kh_139_18 (x1 : Int32) (x2 : Int32) (x3 : Int32) (x4 : Value) (x5 : Value) (call : lj_Y) (jump : lj_K) (σ : lj_S) : lj_ex lm_ds lm_ca call lm_M139 jump 4000 18 [.ref 0, .int x1, .int x2, .int x3, x4, x5] [] σ = (if x3 < 0 then jump 121 [.ref 0, .int x1, .int x2, .int x3, x4, x5] [] σ else (if 0 ≤ x2 then jump 121 [.ref 0, .int x1, .int x2, .int x3, x4, x5] [] σ else (if lj_in x3 3000 then (if (σ.1 4 x3.toNatClampNeg) = (σ.1 0 20) then jump 44 [.ref 0, .int x1, .int x2, .int x3, x4, x5] [.int 1] σ else jump 44 [.ref 0, .int x1, .int x2, .int x3, x4, x5] [.int 0] σ) else none))) := rfl
set_option maxRecDepth 100000 in
set_option maxHeartbeats 4000000 in
theorem kh_139_44 (x1 : Int32) (x2 : Int32) (x3 : Int32) (x4 : Value) (x5 : Value) (x50 : Int32) (call : lj_Y) (jump : lj_K) (σ : lj_S) : lj_ex lm_ds lm_ca call lm_M139 jump 4000 44 [.ref 0, .int x1, .int x2, .int x3, x4, x5] [.int x50] σ = jump 49 [.ref 0, .int x1, .int x2, .int x3, .int x50, .int 0] [] σ := rfl
set_option maxRecDepth 100000 in
set_option maxHeartbeats 4000000 in
theorem kh_139_49 (x1 : Int32) (x2 : Int32) (x3 : Int32) (x4 : Int32) (x5 : Int32) (call : lj_Y) (jump : lj_K) (σ : lj_S) : lj_ex lm_ds lm_ca call lm_M139 jump 4000 49 [.ref 0, .int x1, .int x2, .int x3, .int x4, .int x5] [] σ = (if (σ.1 0 20) ≤ x5 then jump 100 [.ref 0, .int x1, .int x2, .int x3, .int x4, .int x5] [] σ else (if x4 = 0 then jump 100 [.ref 0, .int x1, .int x2, .int x3, .int x4, .int x5] [] σ else (if lj_in x3 3000 then (if lj_in ((σ.1 3 x3.toNatClampNeg) + x5) 40000 then (if lj_in x5 4200 then (if ((σ.1 2 (((σ.1 3 x3.toNatClampNeg) + x5).toNatClampNeg))) = (σ.1 8 x5.toNatClampNeg) then jump 92 [.ref 0, .int x1, .int x2, .int x3, .int x4, .int x5] [.int 1] σ else jump 92 [.ref 0, .int x1, .int x2, .int x3, .int x4, .int x5] [.int 0] σ) else none) else none) else none))) := rfl
set_option maxRecDepth 100000 in
set_option maxHeartbeats 4000000 in
theorem kh_139_92 (x1 : Int32) (x2 : Int32) (x3 : Int32) (x4 : Int32) (x5 : Int32) (x50 : Int32) (call : lj_Y) (jump : lj_K) (σ : lj_S) : lj_ex lm_ds lm_ca call lm_M139 jump 4000 92 [.ref 0, .int x1, .int x2, .int x3, .int x4, .int x5] [.int x50] σ = jump 49 [.ref 0, .int x1, .int x2, .int x3, .int x50, .int (x5 + 1)] [] σ := rfl
set_option maxRecDepth 100000 in
set_option maxHeartbeats 4000000 in
theorem kh_139_100 (x1 : Int32) (x2 : Int32) (x3 : Int32) (x4 : Int32) (x5 : Int32) (call : lj_Y) (jump : lj_K) (σ : lj_S) : lj_ex lm_ds lm_ca call lm_M139 jump 4000 100 [.ref 0, .int x1, .int x2, .int x3, .int x4, .int x5] [] σ = (if x4 = 0 then jump 110 [.ref 0, .int x1, .int x2, .int x3, .int x4, .int x5] [.int (-1)] σ else jump 110 [.ref 0, .int x1, .int x2, .int x3, .int x4, .int x5] [.int x3] σ) := rfl
set_option maxRecDepth 100000 in
set_option maxHeartbeats 4000000 in
theorem kh_139_110 (x1 : Int32) (x2 : Int32) (x3 : Int32) (x4 : Int32) (x5 : Int32) (x50 : Int32) (call : lj_Y) (jump : lj_K) (σ : lj_S) : lj_ex lm_ds lm_ca call lm_M139 jump 4000 110 [.ref 0, .int x1, .int x2, .int x3, .int x4, .int x5] [.int x50] σ = (if lj_in x3 3000 then jump 18 [.ref 0, .int x1, .int x50, .int (σ.1 6 x3.toNatClampNeg), .int x4, .int x5] [] σ else none) := rfl
set_option maxRecDepth 100000 in
set_option maxHeartbeats 4000000 in
theorem kh_139_121 (x1 : Int32) (x2 : Int32) (x3 : Int32) (x4 : Value) (x5 : Value) (call : lj_Y) (jump : lj_K) (σ : lj_S) : lj_ex lm_ds lm_ca call lm_M139 jump 4000 121 [.ref 0, .int x1, .int x2, .int x3, x4, x5] [] σ = (if x2 < 0 then jump 136 [.ref 0, .int x1, .int x2, .int x3, x4, x5] [] σ else (if lj_in x2 3000 then (if (σ.1 5 x2.toNatClampNeg) ≤ 0 then jump 136 [.ref 0, .int x1, .int x2, .int x3, x4, x5] [] σ else some (.inl (some (.int x2)), σ)) else none)) := rfl
set_option maxRecDepth 100000 in
set_option maxHeartbeats 4000000 in
theorem kh_139_136 (x1 : Int32) (x2 : Int32) (x3 : Int32) (x4 : Value) (x5 : Value) (call : lj_Y) (jump : lj_K) (σ : lj_S) : lj_ex lm_ds lm_ca call lm_M139 jump 4000 136 [.ref 0, .int x1, .int x2, .int x3, x4, x5] [] σ = (if (σ.1 0 17) = 800 then jump 161 [.ref 0, .int x1, .int x2, .int x3, x4, x5] [] σ else (if ((σ.1 0 18) + (σ.1 0 20)) ≤ 24000 then (if x2 < 0 then lj_bi (call 3 [.ref 0, .int 2] (lj_put (lj_put σ 0 17 ((σ.1 0 17) + 1)) 0 18 ((σ.1 0 18) + (σ.1 0 20)))) (fun y2 σ1 => some (.inl (some (.int y2)), σ1)) lj_up else (if lj_in x2 3000 then some (.inl (some (.int x2)), (lj_put (lj_put (lj_put σ 0 17 ((σ.1 0 17) + 1)) 0 18 ((σ.1 0 18) + (σ.1 0 20))) 5 x2.toNatClampNeg 2)) else none)) else jump 161 [.ref 0, .int x1, .int x2, .int x3, x4, x5] [] σ)) := rfl
set_option maxRecDepth 100000 in
set_option maxHeartbeats 4000000 in
theorem kh_139_161 (x1 : Int32) (x2 : Int32) (x3 : Int32) (x4 : Value) (x5 : Value) (call : lj_Y) (jump : lj_K) (σ : lj_S) : lj_ex lm_ds lm_ca call lm_M139 jump 4000 161 [.ref 0, .int x1, .int x2, .int x3, x4, x5] [] σ = some (.inl (some (.int (-1))), (lj_put σ 0 143 4)) := rfl
theorem xqm (call : lj_Y) (M : lj_M) (n pc : Nat) (L st : List Value) (σ : lj_S) : lj_exec lm_P.1 lm_P.2.1 call M (n + 1) pc L st σ = lj_ex lm_ds lm_ca call M (lj_exec lm_P.1 lm_P.2.1 call M n) 4000 pc L st σ := rfl
def za_2 (k : Nat) : Bool := Nat.beq k 5
def zp_2 (k i : Nat) : Bool := Nat.beq k 5 || (Nat.beq k 0 && Nat.beq i 14)
/-- sorts of the first b strings, as they were but for 0 that became 2 -/
def soJ (b : Nat) (τ0 τ : lj_S) : Prop := (b : Int) ≤ lv τ 0 14 ∧ lv τ 0 14 ≤ 3000 ∧ ∀ s, s < b → (τ.1 5 s = 1 ↔ τ0.1 5 s = 1) ∧ (τ.1 5 s = 0 ∨ τ.1 5 s = 1 ∨ τ.1 5 s = 2)
theorem soJ_cg {b : Nat} {τ0 τ τ' : lj_S} (h : soJ b τ0 τ) (h5 : ∀ s, τ'.1 5 s = τ.1 5 s) (h14 : τ'.1 0 14 = τ.1 0 14) : soJ b τ0 τ' := by
  unfold soJ lv at *
  rw [h14]
  refine ⟨h.1, h.2.1, fun s hs => ?_⟩
  rw [h5]
  exact h.2.2 s hs
theorem soJ_put {b : Nat} {τ0 τ : lj_S} (h : soJ b τ0 τ) (k i : Nat) (v : Int32) (hk : k ≠ 5) (hi : ¬ (k = 0 ∧ i = 14)) : soJ b τ0 (lj_put τ k i v) :=
  soJ_cg h (fun s => (put_oth τ v (fun w => hk w.1.symm)).1) (put_oth τ v (fun w => hi ⟨w.1.symm, w.2.symm⟩)).1
theorem soJ_J (b : Nat) (τ0 : lj_S) : ftJ2 lm_ds zp_2 za_2 (soJ b τ0) := by
  refine ⟨fun σ k j ci fs f h1 h2 h3 hJ => ⟨fun v => soJ_put hJ k j v ?_ ?_, fun v => soJ_cg hJ (fun _ => rfl) rfl⟩, fun σ k i t n h1 h2 h3 hJ => ⟨fun v _ _ => soJ_put hJ k i v ?_ ?_, fun v => soJ_cg hJ (fun _ => rfl) rfl⟩⟩
  · intro e; rw [e] at h3; cases h3
  · rintro ⟨e1, e2⟩; rw [e1, e2] at h3; cases h3
  · intro e; rw [e] at h2; cases h2
  · rintro ⟨e1, e2⟩; rw [e1] at h1; cases h1
def ids_4 : List Nat := [4]
set_option maxRecDepth 100000 in
theorem ft_4 : ftA lm_P zp_2 za_2 ids_4 = true := by decide +kernel
theorem zh_4 (k i t n : Nat) (h : lj_nth lm_ds k = some (.inr (t, n))) (hz : zp_2 k i = true) : za_2 k = true := by
  match k, h with
  | 0, h => cases h
  | k + 1, h =>
    unfold zp_2 at hz
    rw [Bool.or_eq_true] at hz
    rcases hz with hz | hz
    · exact hz
    · simp at hz
/-- the hash keeps sorts -/
theorem s4 {b : Nat} {τ0 τ : lj_S} (D n : Nat) (x : Int32) {o : lj_O} (hJ : soJ b τ0 τ) (h : lj_run lm_P D n 4 [.ref 0, .int x] τ = some o) : soJ b τ0 o.2 ∧ ∀ y, o.1 = .inr y → za_2 y = false := by
  have q := ft_run (zp := zp_2) (S := lj_mem ids_4) (P := lm_P) (zKp_J zh_4 τ) (ft_ids ft_4) lm_ftP D n 4 [.ref 0, .int x] τ o rfl rfl (fun _ _ _ => ⟨rfl, rfl⟩) h
  exact ⟨soJ_cg hJ (fun s => (q.1 5 s rfl).1) (q.1 0 14 rfl).1, q.2.2⟩
/-- what comes out of intern(2), make -/
def so2 (b : Nat) (τ0 : lj_S) (o : lj_O) : Prop := ftO za_2 (soJ b τ0) o
theorem s3_196 {b : Nat} {τ0 : lj_S} (call : lj_Y) (x1 x2 x3 : Int32) (x5 : Value) : ∀ (m : Nat) (x4 : Int32) (τ : lj_S) (o : lj_O), soJ b τ0 τ → lj_exec lm_P.1 lm_P.2.1 call lm_M3 m 196 [.ref 0, .int x1, .int x2, .int x3, .int x4, x5] [] τ = some o → so2 b τ0 o
  | 0, _, _, _, _, h => by cases h
  | m + 1, x4, τ, o, hJ, h => by
    rw [xqm, kh_3_196] at h
    rcases ite_so h with ⟨_, h⟩ | ⟨_, h⟩
    · cases h
      exact ftO_i _ (soJ_put hJ _ _ _ (by decide) (by decide))
    · obtain ⟨_, h⟩ := itn h
      obtain ⟨_, h⟩ := itn h
      exact s3_196 call x1 x2 x3 x5 m _ _ o (soJ_put hJ _ _ _ (by decide) (fun w => absurd w.1 (by decide))) h
theorem s3_loop {b : Nat} {τ0 : lj_S} (call : lj_Y) : ∀ m : Nat,
    (∀ (x2 x3 : Int32) (x4 x5 : Value) (τ : lj_S) (o : lj_O), soJ b τ0 τ → lj_exec lm_P.1 lm_P.2.1 call lm_M3 m 16 [.ref 0, .int 2, .int x2, .int x3, x4, x5] [] τ = some o → so2 b τ0 o) ∧
    (∀ (x2 x3 x4 x5 : Int32) (τ : lj_S) (o : lj_O), soJ b τ0 τ → lj_exec lm_P.1 lm_P.2.1 call lm_M3 m 43 [.ref 0, .int 2, .int x2, .int x3, .int x4, .int x5] [] τ = some o → so2 b τ0 o) ∧
    (∀ (x2 x3 x4 x5 : Int32) (τ : lj_S) (o : lj_O), soJ b τ0 τ → lj_exec lm_P.1 lm_P.2.1 call lm_M3 m 94 [.ref 0, .int 2, .int x2, .int x3, .int x4, .int x5] [] τ = some o → so2 b τ0 o) := by
  intro m
  induction m using Nat.strongRecOn with
  | ind m ih =>
    cases m with
    | zero => exact ⟨fun _ _ _ _ _ _ _ h => (by cases h), fun _ _ _ _ _ _ _ h => (by cases h), fun _ _ _ _ _ _ _ h => (by cases h)⟩
    | succ m =>
      refine ⟨fun x2 x3 x4 x5 τ o hJ h => ?_, fun x2 x3 x4 x5 τ o hJ h => ?_, fun x2 x3 x4 x5 τ o hJ h => ?_⟩
      · rw [xqm, kh_3_16] at h
        have j38 : ∀ x50, lj_exec lm_P.1 lm_P.2.1 call lm_M3 m 38 [.ref 0, .int 2, .int x2, .int x3, x4, x5] [.int x50] τ = some o → so2 b τ0 o := fun x50 e => by
          cases m with
          | zero => cases e
          | succ m =>
            rw [xqm, kh_3_38] at e
            exact (ih m (by omega)).2.1 _ _ _ _ _ _ hJ e
        rcases ite_so h with ⟨_, h⟩ | ⟨_, h⟩
        · obtain ⟨i14, h⟩ := itn h
          obtain ⟨_, h⟩ := itn h
          obtain ⟨_, h⟩ := itn h
          obtain ⟨_, h⟩ := itn h
          obtain ⟨_, h⟩ := itn h
          obtain ⟨_, h⟩ := itn h
          refine s3_196 call 2 x2 _ x5 m 0 _ o ?_ h
          obtain ⟨j1, j2, j3⟩ := hJ
          rw [lz_in] at i14
          have e14 : (τ.1 0 14 + 1).toInt = lv τ 0 14 + 1 := by
            rw [lz_add (by show _ ≤ (τ.1 0 14).toInt + 1 ∧ (τ.1 0 14).toInt + 1 < _; omega)]
            rfl
          have n14 : (τ.1 0 14).toNatClampNeg = (lv τ 0 14).toNat := rfl
          have i14 : 0 ≤ lv τ 0 14 ∧ lv τ 0 14 < 3000 := i14
          refine ⟨?_, ?_, fun s hs => ?_⟩
          · unfold lv
            rw [lj_put_1, if_neg (by omega), lj_put_1, if_neg (by omega), lj_put_1, if_neg (by omega), lj_put_1, if_neg (by omega), lj_put_1, if_neg (by omega), lj_put_1, if_pos ⟨rfl, rfl⟩, e14]
            omega
          · unfold lv
            rw [lj_put_1, if_neg (by omega), lj_put_1, if_neg (by omega), lj_put_1, if_neg (by omega), lj_put_1, if_neg (by omega), lj_put_1, if_neg (by omega), lj_put_1, if_pos ⟨rfl, rfl⟩, e14]
            omega
          · rw [lj_put_1, if_neg (by omega), lj_put_1, if_neg (by omega), lj_put_1, if_neg (by rw [n14]; omega), lj_put_1, if_neg (by omega), lj_put_1, if_neg (by omega), lj_put_1, if_neg (by omega)]
            exact j3 s hs
        · obtain ⟨_, h⟩ := itn h
          rcases ite_so h with ⟨_, h⟩ | ⟨_, h⟩
          · exact j38 _ h
          · exact j38 _ h
      · rw [xqm, kh_3_43] at h
        have j86 : ∀ x50, lj_exec lm_P.1 lm_P.2.1 call lm_M3 m 86 [.ref 0, .int 2, .int x2, .int x3, .int x4, .int x5] [.int x50] τ = some o → so2 b τ0 o := fun x50 e => by
          cases m with
          | zero => cases e
          | succ m =>
            rw [xqm, kh_3_86] at e
            exact (ih m (by omega)).2.1 _ _ _ _ _ _ hJ e
        rcases ite_so h with ⟨_, h⟩ | ⟨_, h⟩
        · exact (ih m (by omega)).2.2 _ _ _ _ _ _ hJ h
        rcases ite_so h with ⟨_, h⟩ | ⟨_, h⟩
        · exact (ih m (by omega)).2.2 _ _ _ _ _ _ hJ h
        obtain ⟨_, h⟩ := itn h
        obtain ⟨_, h⟩ := itn h
        obtain ⟨_, h⟩ := itn h
        rcases ite_so h with ⟨_, h⟩ | ⟨_, h⟩
        · exact j86 _ h
        · exact j86 _ h
      · rw [xqm, kh_3_94] at h
        rcases ite_so h with ⟨_, h⟩ | ⟨_, h⟩
        · obtain ⟨_, h⟩ := itn h
          exact (ih m (by omega)).1 _ _ _ _ _ _ hJ h
        rw [if_neg (by decide)] at h
        obtain ⟨_, h⟩ := itn h
        cases m with
        | zero => cases h
        | succ m =>
          rw [xqm, kh_3_119] at h
          obtain ⟨_, h⟩ := itn h
          cases h
          refine ftO_i _ ?_
          rw [lj_put_self _ _ _ _ rfl]
          exact hJ
theorem s3 {b : Nat} {τ0 τ : lj_S} (D n : Nat) {o : lj_O} (hJ : soJ b τ0 τ) (h : lj_run lm_P D n 3 [.ref 0, .int 2] τ = some o) : so2 b τ0 o := by
  cases D with
  | zero => cases h
  | succ D =>
    have hP : lm_P.2.2.2 3 = some (6, lm_M3) := rfl
    unfold lj_run at h
    rw [hP] at h
    dsimp only at h
    cases hw : lj_may lm_P 3 [.ref 0, .int 2] 6 τ with
    | false => rw [hw] at h; cases h
    | true =>
      rw [hw] at h
      have h : lj_exec lm_P.1 lm_P.2.1 (lj_run lm_P D n) lm_M3 n 0 [.ref 0, .int 2, .retAddr 0, .retAddr 0, .retAddr 0, .retAddr 0] [] τ = some o := h
      cases n with
      | zero => cases h
      | succ n =>
        rw [xqm, kh_3_0] at h
        rcases bi_so h with ⟨v, s1, e1, h⟩ | ⟨x, s1, e1, h⟩
        · obtain ⟨_, h⟩ := itn h
          exact (s3_loop _ n).1 _ _ _ _ _ _ (s4 D (n + 1) _ hJ e1).1 h
        · have q := s4 D (n + 1) _ hJ e1
          cases h
          exact ⟨q.1, fun v e => (by cases e), fun y e => by cases e; exact q.2 _ rfl⟩
theorem s139_136 {b : Nat} {τ0 : lj_S} (D n : Nat) (m : Nat) (x1 x2 x3 : Int32) (x4 x5 : Value) (τ : lj_S) (o : lj_O) (hJ : soJ b τ0 τ) (h5 : ¬ x2 < 0 → τ.1 5 x2.toNatClampNeg ≤ 0) (h : lj_exec lm_P.1 lm_P.2.1 (lj_run lm_P D n) lm_M139 m 136 [.ref 0, .int x1, .int x2, .int x3, x4, x5] [] τ = some o) : so2 b τ0 o := by
  cases m with
  | zero => cases h
  | succ m =>
    have j161 : lj_exec lm_P.1 lm_P.2.1 (lj_run lm_P D n) lm_M139 m 161 [.ref 0, .int x1, .int x2, .int x3, x4, x5] [] τ = some o → so2 b τ0 o := fun e => by
      cases m with
      | zero => cases e
      | succ m =>
        rw [xqm, kh_139_161] at e
        cases e
        exact ftO_i _ (soJ_put hJ _ _ _ (by decide) (by decide))
    rw [xqm, kh_139_136] at h
    rcases ite_so h with ⟨_, h⟩ | ⟨_, h⟩
    · exact j161 h
    rcases ite_so h with ⟨_, h⟩ | ⟨_, h⟩
    · have w := soJ_put (soJ_put hJ 0 17 (τ.1 0 17 + 1) (by decide) (by decide)) 0 18 (τ.1 0 18 + τ.1 0 20) (by decide) (by decide)
      rcases ite_so h with ⟨_, h⟩ | ⟨z, h⟩
      · rcases bi_so h with ⟨v, s1, e1, h⟩ | ⟨x, s1, e1, h⟩
        · have q := s3 D n w e1
          cases h
          exact ftO_i _ q.1
        · have q := s3 D n w e1
          cases h
          exact q
      · obtain ⟨_, h⟩ := itn h
        cases h
        refine ftO_i _ ⟨?_, ?_, fun s hs => ?_⟩
        · have := w.1; unfold lv at this ⊢; rw [lj_put_1, if_neg (by omega)]; exact this
        · have := w.2.1; unfold lv at this ⊢; rw [lj_put_1, if_neg (by omega)]; exact this
        · have q := w.2.2 s hs
          by_cases y : s = x2.toNatClampNeg
          · rw [y, lj_put_1, if_pos ⟨rfl, rfl⟩]
            refine ⟨⟨fun e => absurd e (by decide), fun e => ?_⟩, Or.inr (Or.inr rfl)⟩
            rw [y] at q
            have e1 := q.1.2 e
            rw [lj_put_1, if_neg (by omega), lj_put_1, if_neg (by omega)] at e1
            have := h5 z
            rw [e1] at this
            exact absurd this (by decide)
          · rw [lj_put_1, if_neg (fun w => y w.2)]
            exact q
    · exact j161 h
theorem s139_121 {b : Nat} {τ0 : lj_S} (D n : Nat) (m : Nat) (x1 x2 x3 : Int32) (x4 x5 : Value) (τ : lj_S) (o : lj_O) (hJ : soJ b τ0 τ) (h : lj_exec lm_P.1 lm_P.2.1 (lj_run lm_P D n) lm_M139 m 121 [.ref 0, .int x1, .int x2, .int x3, x4, x5] [] τ = some o) : so2 b τ0 o := by
  cases m with
  | zero => cases h
  | succ m =>
    rw [xqm, kh_139_121] at h
    rcases ite_so h with ⟨z, h⟩ | ⟨z, h⟩
    · exact s139_136 D n m x1 x2 x3 x4 x5 τ o hJ (fun w => absurd z w) h
    obtain ⟨_, h⟩ := itn h
    rcases ite_so h with ⟨y, h⟩ | ⟨_, h⟩
    · exact s139_136 D n m x1 x2 x3 x4 x5 τ o hJ (fun _ => y) h
    · cases h
      exact ftO_i _ hJ
theorem s139_loop {b : Nat} {τ0 : lj_S} (D n : Nat) : ∀ m : Nat,
    (∀ (x1 x2 x3 : Int32) (x4 x5 : Value) (τ : lj_S) (o : lj_O), soJ b τ0 τ → lj_exec lm_P.1 lm_P.2.1 (lj_run lm_P D n) lm_M139 m 18 [.ref 0, .int x1, .int x2, .int x3, x4, x5] [] τ = some o → so2 b τ0 o) ∧
    (∀ (x1 x2 x3 x4 x5 : Int32) (τ : lj_S) (o : lj_O), soJ b τ0 τ → lj_exec lm_P.1 lm_P.2.1 (lj_run lm_P D n) lm_M139 m 49 [.ref 0, .int x1, .int x2, .int x3, .int x4, .int x5] [] τ = some o → so2 b τ0 o) ∧
    (∀ (x1 x2 x3 x4 x5 : Int32) (τ : lj_S) (o : lj_O), soJ b τ0 τ → lj_exec lm_P.1 lm_P.2.1 (lj_run lm_P D n) lm_M139 m 100 [.ref 0, .int x1, .int x2, .int x3, .int x4, .int x5] [] τ = some o → so2 b τ0 o) := by
  intro m
  induction m using Nat.strongRecOn with
  | ind m ih =>
    cases m with
    | zero => exact ⟨fun _ _ _ _ _ _ _ _ h => (by cases h), fun _ _ _ _ _ _ _ _ h => (by cases h), fun _ _ _ _ _ _ _ _ h => (by cases h)⟩
    | succ m =>
      refine ⟨fun x1 x2 x3 x4 x5 τ o hJ h => ?_, fun x1 x2 x3 x4 x5 τ o hJ h => ?_, fun x1 x2 x3 x4 x5 τ o hJ h => ?_⟩
      · rw [xqm, kh_139_18] at h
        have j44 : ∀ x50, lj_exec lm_P.1 lm_P.2.1 (lj_run lm_P D n) lm_M139 m 44 [.ref 0, .int x1, .int x2, .int x3, x4, x5] [.int x50] τ = some o → so2 b τ0 o := fun x50 e => by
          cases m with
          | zero => cases e
          | succ m =>
            rw [xqm, kh_139_44] at e
            exact (ih m (by omega)).2.1 _ _ _ _ _ _ _ hJ e
        rcases ite_so h with ⟨_, h⟩ | ⟨_, h⟩
        · exact s139_121 D n m _ _ _ _ _ _ _ hJ h
        rcases ite_so h with ⟨_, h⟩ | ⟨_, h⟩
        · exact s139_121 D n m _ _ _ _ _ _ _ hJ h
        obtain ⟨_, h⟩ := itn h
        rcases ite_so h with ⟨_, h⟩ | ⟨_, h⟩
        · exact j44 _ h
        · exact j44 _ h
      · rw [xqm, kh_139_49] at h
        have j92 : ∀ x50, lj_exec lm_P.1 lm_P.2.1 (lj_run lm_P D n) lm_M139 m 92 [.ref 0, .int x1, .int x2, .int x3, .int x4, .int x5] [.int x50] τ = some o → so2 b τ0 o := fun x50 e => by
          cases m with
          | zero => cases e
          | succ m =>
            rw [xqm, kh_139_92] at e
            exact (ih m (by omega)).2.1 _ _ _ _ _ _ _ hJ e
        rcases ite_so h with ⟨_, h⟩ | ⟨_, h⟩
        · exact (ih m (by omega)).2.2 _ _ _ _ _ _ _ hJ h
        rcases ite_so h with ⟨_, h⟩ | ⟨_, h⟩
        · exact (ih m (by omega)).2.2 _ _ _ _ _ _ _ hJ h
        obtain ⟨_, h⟩ := itn h
        obtain ⟨_, h⟩ := itn h
        obtain ⟨_, h⟩ := itn h
        rcases ite_so h with ⟨_, h⟩ | ⟨_, h⟩
        · exact j92 _ h
        · exact j92 _ h
      · rw [xqm, kh_139_100] at h
        have j110 : ∀ x50, lj_exec lm_P.1 lm_P.2.1 (lj_run lm_P D n) lm_M139 m 110 [.ref 0, .int x1, .int x2, .int x3, .int x4, .int x5] [.int x50] τ = some o → so2 b τ0 o := fun x50 e => by
          cases m with
          | zero => cases e
          | succ m =>
            rw [xqm, kh_139_110] at e
            obtain ⟨_, e⟩ := itn e
            exact (ih m (by omega)).1 _ _ _ _ _ _ _ hJ e
        rcases ite_so h with ⟨_, h⟩ | ⟨_, h⟩
        · exact j110 _ h
        · exact j110 _ h
def Z_2 (id : Nat) : Bool := Nat.beq id 139
def A_2 (id : Nat) (as : List Value) : Prop := id = 139 → as = [.ref 0]
def ax_2 (M : lj_M) : Bool := M.2.2.2.1.all fun q => !(Nat.beq q.2.1 139) || (Nat.beq q.2.2.1 1 && Nat.beq q.2.2.2.2 1)
def ids_2 : List Nat := [2, 4, 17, 108, 109, 110, 111, 112, 113, 114, 115, 116, 120, 121, 122, 123, 124, 125, 126, 127, 128, 129, 130, 131, 132, 133, 134, 135, 136, 137, 138, 139, 140, 141, 142, 143, 144, 145, 146, 147, 148, 149, 150, 151, 152, 153, 154, 155, 156, 157, 158, 159, 160, 161, 162, 163, 164, 165, 166, 167, 168, 169, 170, 171, 172, 173, 174, 175, 176, 177, 178, 179, 180, 181, 182, 183, 184, 185, 186, 187, 188, 189, 190, 191, 192, 193, 194, 195, 196, 197, 198, 199, 200, 201, 202, 203, 204, 205, 206, 207, 208, 209, 210, 211, 212, 213, 214, 215, 216, 217, 218, 219, 220, 221, 222, 223, 224, 225, 226, 227, 228, 229, 230, 231, 232, 233, 234, 235, 236, 237, 238]
def ft_2 : Bool := ids_2.all fun id => Nat.beq id 139 || (match lm_P.2.2.2 id with
  | some (_, M) => ftM lm_P.1 zp_2 za_2 (lj_mem ids_2) M && ax_2 M
  | none => true)
set_option maxRecDepth 100000 in
theorem ft_2_ok : ft_2 = true := by decide +kernel
theorem lm_cell0 {k ci : Nat} {fs : List (Nat × Nat)} (h : lj_nth lm_ds k = some (.inl (ci, fs))) : k = 0 := by
  match k, h with
  | 0, _ => rfl
  | k + 1, h =>
    exfalso
    have key : ∀ (l : List lj_C) (i : Nat), (l.all fun d => match d with
      | .inl _ => false
      | .inr _ => true) = true → lj_nth l i ≠ some (.inl (ci, fs)) := fun l i hl e => by
      have := List.all_eq_true.1 hl _ (lj_nth_mem e)
      exact absurd this (by simp)
    exact key (lm_ds.drop 1) k (by decide +kernel) h
theorem ax_2_ok {M : lj_M} (h : ax_2 M = true) : ftX lm_ds (lj_mem ids_2) A_2 M := by
  intro i id n t rc as hf hl hr hs e
  obtain ⟨a, ha⟩ := lj_find_all h hf
  dsimp only at ha
  rw [e] at ha
  have ha : (false || (Nat.beq n 1 && Nat.beq rc 1)) = true := ha
  rw [Bool.false_or, Bool.and_eq_true] at ha
  have h1 := Nat.eq_of_beq_eq_true ha.1
  have h2 := Nat.eq_of_beq_eq_true ha.2
  rw [h1] at hl
  rw [h2] at hr
  match as, hl with
  | [v], _ =>
    cases v with
    | ref k =>
      have hr : (match lj_nth lm_ds k with
        | some (.inl (ci, _)) => Nat.beq ci 0
        | _ => false) = true := hr
      cases hd : lj_nth lm_ds k with
      | none => rw [hd] at hr; cases hr
      | some d =>
        cases d with
        | inr z => rw [hd] at hr; cases hr
        | inl z =>
          obtain ⟨ci, fs⟩ := z
          rw [lm_cell0 hd]
    | _ => cases hr
set_option maxRecDepth 100000 in
theorem so_C (b : Nat) (τ0 : lj_S) : ∀ (D n : Nat), ftC2 za_2 (lj_mem ids_2) A_2 (soJ b τ0) (lj_run lm_P D n) :=
  ft_run2 (Z := Z_2) (P := lm_P) (soJ_J b τ0) (fun id nL M h1 hz hm => by
    have hq := List.all_eq_true.1 ft_2_ok id (lj_mem_in h1)
    dsimp only at hq
    have hz : Nat.beq id 139 = false := hz
    rw [hz, Bool.false_or, hm] at hq
    dsimp only at hq
    rw [Bool.and_eq_true] at hq
    exact ⟨hq.1, ax_2_ok hq.2⟩) lm_ftP (fun D n _ id as τ o h1 hz ha hv hJ h => by
    have e : id = 139 := Nat.eq_of_beq_eq_true hz
    have ea := ha e
    subst e
    subst ea
    have hP : lm_P.2.2.2 139 = some (6, lm_M139) := rfl
    unfold lj_run at h
    rw [hP] at h
    dsimp only at h
    cases hw : lj_may lm_P 139 [.ref 0] 6 τ with
    | false => rw [hw] at h; cases h
    | true =>
      rw [hw] at h
      have h : lj_exec lm_P.1 lm_P.2.1 (lj_run lm_P D n) lm_M139 n 0 [.ref 0, .retAddr 0, .retAddr 0, .retAddr 0, .retAddr 0, .retAddr 0] [] τ = some o := h
      cases n with
      | zero => cases h
      | succ n =>
        rw [xqm, kh_139_0] at h
        rcases bi_so h with ⟨v, s1, e1, h⟩ | ⟨x, s1, e1, h⟩
        · obtain ⟨_, h⟩ := itn h
          exact (s139_loop D (n + 1) n).1 _ _ _ _ _ _ _ (s4 D (n + 1) _ hJ e1).1 h
        · have q := s4 D (n + 1) _ hJ e1
          cases h
          exact ⟨q.1, fun v e => (by cases e), fun y e => by cases e; exact q.2 _ rfl⟩)
/-- over a run: sorts -/
theorem so_run {b : Nat} {τ0 τ : lj_S} {x : Int32} {o : lj_O} (hJ : soJ b τ0 τ) (h : lj_R lm_P 120 [.ref 0, .int x] τ = some o) : soJ b τ0 o.2 := by
  obtain ⟨n, hn⟩ := lj_R_spec.1 h
  exact (so_C b τ0 n n 120 _ τ o rfl (fun e => absurd e (by decide)) rfl hJ hn).1
