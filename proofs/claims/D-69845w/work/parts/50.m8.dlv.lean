/-! DEPTH OF CALLS: delivery, wherever it begins -/
/-- part, depth and how many parts are nested -/
def sane (σ : lj_S) (p d m : Nat) : Prop := p < 26 ∧ d ≤ 20 ∧ m ≤ 10 ∧ σ.1 8 7 = Int32.ofNat p ∧ σ.1 90 p = Int32.ofNat d ∧ σ.1 8 18 = Int32.ofNat m ∧ (p = 0 ∨ 1 ≤ m) ∧ σ.1 8 34 = nf p d
theorem sane.un {σ : lj_S} {p d m p' d' m' : Nat} (h : sane σ p d m) (g : sane σ p' d' m') : p = p' ∧ d = d' ∧ m = m' := by
  obtain ⟨h1, h2, h3, h4, h5, h6, -⟩ := h
  obtain ⟨g1, g2, g3, g4, g5, g6, -⟩ := g
  have e1 : p = p' := (nq_eq (by omega) (by omega)).1 (h4.symm.trans g4)
  subst e1
  exact ⟨rfl, (nq_eq (by omega) (by omega)).1 (h5.symm.trans g5), (nq_eq (by omega) (by omega)).1 (h6.symm.trans g6)⟩
theorem g0_of {σ : lj_S} (h : lj_g0 σ = true) : ∃ p d m, sane σ p d m := by
  obtain ⟨a1, a2, a3, a4, a5, a6, a7, a8⟩ := of_decide_eq_true h
  refine ⟨(σ.1 8 7).toInt.toNat, (σ.1 90 (σ.1 8 7).toInt.toNat).toInt.toNat, (σ.1 8 18).toInt.toNat, by omega, by omega, by omega, (lz_back _ a1).symm, (lz_back _ a3).symm, (lz_back _ a5).symm, by omega, ?_⟩
  apply lz_ext
  rw [a8]
  unfold nf
  by_cases z : (σ.1 90 (σ.1 8 7).toInt.toNat).toInt = 0
  · rw [if_pos z, if_pos (by omega)]; rfl
  · rw [if_neg z, if_neg (by omega), lz_lit (by omega)]
    omega
theorem of_g0 {σ : lj_S} {p d m : Nat} (h : sane σ p d m) : lj_g0 σ = true := by
  obtain ⟨h1, h2, h3, h4, h5, h6, h7, h8⟩ := h
  have e7 : (σ.1 8 7).toInt = p := by rw [h4]; exact lz_lit (by omega)
  have e9 : (σ.1 90 (σ.1 8 7).toInt.toNat).toInt = d := by rw [e7, Int.toNat_natCast, h5]; exact lz_lit (by omega)
  have e1 : (σ.1 8 18).toInt = m := by rw [h6]; exact lz_lit (by omega)
  have e3 : (σ.1 8 34).toInt = if (d : Int) = 0 then -1 else 20 * (p : Int) + d - 1 := by
    rw [h8]; unfold nf
    by_cases z : d = 0
    · rw [if_pos z, if_pos (by omega)]; rfl
    · rw [if_neg z, if_neg (by omega), lz_lit (by omega)]; omega
  unfold lj_g0
  rw [e9, e7, e1, e3]
  exact decide_eq_true ⟨by omega, by omega, by omega, by omega, by omega, by omega, by omega, rfl⟩
theorem may_g {id nL : Nat} {as : List Value} {σ : lj_S} (h : lj_may lc_P id as nL σ = true) : lj_gc id σ = true := by
  unfold lj_may at h
  rw [Bool.and_eq_true] at h
  have e : Nat.beq lc_P.1.length 114 = true := by decide +kernel
  rw [e] at h
  exact h.2
theorem sane.cg {σ σ' : lj_S} {p d m : Nat} (h : sane σ p d m) (z : zS σ σ') : sane σ' p d m := by
  obtain ⟨h1, h2, h3, h4, h5, h6, h7, h8⟩ := h
  exact ⟨h1, h2, h3, (z 8 7 rfl).trans h4, (z 90 p rfl).trans h5, (z 8 18 rfl).trans h6, h7, (z 8 34 rfl).trans h8⟩
theorem p129' {D n : Nat} {σ : lj_S} {o : lj_O} (h : lj_run lc_P D n 129 [.ref 8] σ = some o) : ∀ k i, ¬ (k = 8 ∧ (i = 34 ∨ i = 35)) → o.2.1 k i = σ.1 k i := by
  have h := run_R h
  have fin : ∀ x y : Int32, o = (.inl none, lj_put (lj_put σ 8 34 x) 8 35 y) → ∀ k i, ¬ (k = 8 ∧ (i = 34 ∨ i = 35)) → o.2.1 k i = σ.1 k i := by
    intro x y ho k i q
    rw [ho]
    show (lj_put (lj_put σ 8 34 x) 8 35 y).1 k i = _
    rw [lj_put_1, if_neg (by omega), lj_put_1, if_neg (by omega)]
  have k36 : ∀ x, lj_D lc_P lc_M129 36 [.ref 8] [.int x, .ref 8] σ = some o → ∀ k i, ¬ (k = 8 ∧ (i = 34 ∨ i = 35)) → o.2.1 k i = σ.1 k i := by
    intro x h
    rw [kc_129_36] at h
    split at h
    · split at h
      · rw [kc_129_60] at h; exact fin _ _ (Option.some.inj h).symm
      · cases h
    · rw [kc_129_60] at h; exact fin _ _ (Option.some.inj h).symm
  rw [rc_129, kc_129_0] at h
  by_cases i : lj_in (σ.1 8 7) 26
  · rw [if_pos i] at h
    split at h
    · exact k36 _ h
    · rw [rc_130, kc_130_0] at h
      exact k36 _ h
  · rw [if_neg i] at h; cases h
set_option maxRecDepth 100000 in
theorem p198 {D n : Nat} {σ : lj_S} {o : lj_O} (h : lj_run lc_P D n 198 [.ref 8] σ = some o) {v : Option Value} (hv : o.1 = .inl v) : o.2.1 8 18 = σ.1 8 18 - 1 := by
  cases D with
  | zero => cases h
  | succ D =>
    have hP : lc_P.2.2.2 198 = some (2, lc_M198) := rfl
    rw [lc_run_eq hP] at h
    have h : lj_exec lc_P.1 lc_P.2.1 (lj_run lc_P D n) lc_M198 n 0 [.ref 8, .retAddr 0] [] σ = some o := h
    cases n with
    | zero => cases h
    | succ n =>
      rw [xq, kg_198_0] at h
      by_cases i : lj_in (σ.1 8 7) 26
      · rw [if_pos i, if_pos i] at h
        by_cases j : lj_in (σ.1 84 (σ.1 8 7).toNatClampNeg) 26
        · rw [if_pos j, if_pos j] at h
          unfold lj_bv at h
          split at h
          · rename_i τ e
            cases h
            have := p129' e 8 18 (by omega)
            show τ.1 8 18 = _
            rw [show τ.1 8 18 = ((.inl none, τ) : lj_O).2.1 8 18 from rfl, this, lj_put_1, if_neg (by omega), lj_put_1, if_neg (by omega), lj_put_1, if_neg (by omega), lj_put_1, if_pos ⟨rfl, rfl⟩]
          · cases h; cases hv
          · cases h
        · rw [if_neg j] at h; cases h
      · rw [if_neg i] at h; cases h
/-- how deep delivery may go -/
def dB (σ : lj_S) (c B : Nat) : Prop := ∀ p d m, sane σ p d m → 2 * (22 * m + d) + c ≤ B
def t144 (D : Nat) : Prop := ∀ (n : Nat) (a : Int32) (σ : lj_S) (o : lj_O) (B : Nat), 20 ≤ B → dB σ 200 B → lj_run lc_P D n 144 [.ref 8, .int a] σ = some o → lj_run lc_P B n 144 [.ref 8, .int a] σ = some o
def t148 (D : Nat) : Prop := ∀ (n : Nat) (a : Int32) (σ : lj_S) (o : lj_O) (B : Nat), 19 ≤ B → dB σ 199 B → lj_run lc_P D n 148 [.ref 8, .int a] σ = some o → lj_run lc_P B n 148 [.ref 8, .int a] σ = some o
def t199 (D : Nat) : Prop := ∀ (n : Nat) (a : Int32) (σ : lj_S) (o : lj_O) (B : Nat), 19 ≤ B → dB σ 199 B → lj_run lc_P D n 199 [.ref 8, .int a] σ = some o → lj_run lc_P B n 199 [.ref 8, .int a] σ = some o
def t153 (D : Nat) : Prop := ∀ (n : Nat) (σ : lj_S) (o : lj_O) (B : Nat), 19 ≤ B → dB σ 199 B → lj_run lc_P D n 153 [.ref 8] σ = some o → lj_run lc_P B n 153 [.ref 8] σ = some o
def tt (_ : lj_O) : Prop := True
theorem ttQ (x : Nat) (τ : lj_S) : tt (.inr x, τ) := trivial
set_option maxRecDepth 100000 in
theorem t144_step {D : Nat} (h8 : t148 D) (h9 : t199 D) (h3 : t153 D) : t144 (D + 1) := by
  intro n a σ o B hB hd h
  obtain ⟨B', rfl⟩ : ∃ B', B = B' + 1 := ⟨B - 1, by omega⟩
  have hd' : dB σ 199 B' := fun p d m s => by have := hd p d m s; omega
  have hP : lc_P.2.2.2 144 = some (5, lc_M144) := rfl
  rw [lc_run_eq hP] at h ⊢
  have h : lj_exec lc_P.1 lc_P.2.1 (lj_run lc_P D n) lc_M144 n 0 [.ref 8, .int a, .retAddr 0, .retAddr 0, .retAddr 0] [] σ = some o := h
  show lj_exec lc_P.1 lc_P.2.1 (lj_run lc_P B' n) lc_M144 n 0 [.ref 8, .int a, .retAddr 0, .retAddr 0, .retAddr 0] [] σ = some o
  have b316 : ∀ (m : Nat) (x2 x3 : Value) (τ : lj_S), lj_exec lc_P.1 lc_P.2.1 (lj_run lc_P D n) lc_M144 m 316 [.ref 8, .int a, x2, x3, .retAddr 0] [] τ = some o → lj_exec lc_P.1 lc_P.2.1 (lj_run lc_P B' n) lc_M144 m 316 [.ref 8, .int a, x2, x3, .retAddr 0] [] τ = some o ∧ tt o := by
    intro m x2 x3 τ h
    cases m with
    | zero => cases h
    | succ m => rw [xq, kg_144_316] at h ⊢; exact ⟨h, trivial⟩
  have b58 : ∀ (m : Nat) (x2 : Int32) (τ : lj_S), lj_exec lc_P.1 lc_P.2.1 (lj_run lc_P D n) lc_M144 m 58 [.ref 8, .int a, .int x2, .retAddr 0, .retAddr 0] [] τ = some o → lj_exec lc_P.1 lc_P.2.1 (lj_run lc_P B' n) lc_M144 m 58 [.ref 8, .int a, .int x2, .retAddr 0, .retAddr 0] [] τ = some o ∧ tt o := by
    intro m
    induction m with
    | zero => intro x2 τ h; cases h
    | succ m ih =>
      intro x2 τ h
      rw [xq, kg_144_58] at h ⊢
      refine ifs h (fun _ h => b316 _ _ _ _ h) fun _ h => ?_
      refine ifn h fun _ h => ?_
      refine ifn h fun _ h => ?_
      exact bvs h (fun q hq => wf_deep wM_rk (id := 137) rfl (by omega) hq) ttQ fun σ1 _ h => ih _ _ h
  have b126 : ∀ (m : Nat) (x50 : Int64) (x51 : Int32) (τ : lj_S), lj_exec lc_P.1 lc_P.2.1 (lj_run lc_P D n) lc_M144 m 126 [.ref 8, .int a, .retAddr 0, .retAddr 0, .retAddr 0] [.long x50, .int x51, .ref 8] τ = some o → lj_exec lc_P.1 lc_P.2.1 (lj_run lc_P B' n) lc_M144 m 126 [.ref 8, .int a, .retAddr 0, .retAddr 0, .retAddr 0] [.long x50, .int x51, .ref 8] τ = some o ∧ tt o := by
    intro m x50 x51 τ h
    cases m with
    | zero => cases h
    | succ m =>
      rw [xq, kg_144_126] at h ⊢
      exact bvs h (fun q hq => wf_deep wM_rk (id := 137) rfl (by omega) hq) ttQ fun σ1 _ h => b316 _ _ _ _ h
  have b109 : ∀ (m : Nat) (x50 : Int32) (τ : lj_S), lj_exec lc_P.1 lc_P.2.1 (lj_run lc_P D n) lc_M144 m 109 [.ref 8, .int a, .retAddr 0, .retAddr 0, .retAddr 0] [.int x50, .ref 8] τ = some o → lj_exec lc_P.1 lc_P.2.1 (lj_run lc_P B' n) lc_M144 m 109 [.ref 8, .int a, .retAddr 0, .retAddr 0, .retAddr 0] [.int x50, .ref 8] τ = some o ∧ tt o := by
    intro m x50 τ h
    cases m with
    | zero => cases h
    | succ m =>
      rw [xq, kg_144_109] at h ⊢
      exact ifs h (fun _ h => b126 _ _ _ _ h) fun _ h => ifn h fun _ h => b126 _ _ _ _ h
  have b164 : ∀ (m : Nat) (x50 : Int32) (τ : lj_S), lj_exec lc_P.1 lc_P.2.1 (lj_run lc_P D n) lc_M144 m 164 [.ref 8, .int a, .retAddr 0, .retAddr 0, .retAddr 0] [.int x50, .ref 8] τ = some o → lj_exec lc_P.1 lc_P.2.1 (lj_run lc_P B' n) lc_M144 m 164 [.ref 8, .int a, .retAddr 0, .retAddr 0, .retAddr 0] [.int x50, .ref 8] τ = some o ∧ tt o := by
    intro m x50 τ h
    cases m with
    | zero => cases h
    | succ m =>
      rw [xq, kg_144_164] at h ⊢
      exact bvs h (fun q hq => wf_deep wM_rk (id := 147) rfl (by omega) hq) ttQ fun σ1 _ h => b316 _ _ _ _ h
  have b163 : ∀ (m : Nat) (τ : lj_S), lj_exec lc_P.1 lc_P.2.1 (lj_run lc_P D n) lc_M144 m 163 [.ref 8, .int a, .retAddr 0, .retAddr 0, .retAddr 0] [.ref 8] τ = some o → lj_exec lc_P.1 lc_P.2.1 (lj_run lc_P B' n) lc_M144 m 163 [.ref 8, .int a, .retAddr 0, .retAddr 0, .retAddr 0] [.ref 8] τ = some o ∧ tt o := by
    intro m τ h
    cases m with
    | zero => cases h
    | succ m => rw [xq, kg_144_163] at h ⊢; exact b164 _ _ _ h
  have b202 : ∀ (m : Nat) (x50 : Int32) (τ : lj_S), lj_exec lc_P.1 lc_P.2.1 (lj_run lc_P D n) lc_M144 m 202 [.ref 8, .int a, .retAddr 0, .retAddr 0, .retAddr 0] [.int x50, .ref 8] τ = some o → lj_exec lc_P.1 lc_P.2.1 (lj_run lc_P B' n) lc_M144 m 202 [.ref 8, .int a, .retAddr 0, .retAddr 0, .retAddr 0] [.int x50, .ref 8] τ = some o ∧ tt o := by
    intro m x50 τ h
    cases m with
    | zero => cases h
    | succ m =>
      rw [xq, kg_144_202] at h ⊢
      exact bvs h (fun q hq => wf_deep wM_rk (id := 147) rfl (by omega) hq) ttQ fun σ1 _ h => b316 _ _ _ _ h
  have b197 : ∀ (m : Nat) (τ : lj_S), lj_exec lc_P.1 lc_P.2.1 (lj_run lc_P D n) lc_M144 m 197 [.ref 8, .int a, .retAddr 0, .retAddr 0, .retAddr 0] [.ref 8] τ = some o → lj_exec lc_P.1 lc_P.2.1 (lj_run lc_P B' n) lc_M144 m 197 [.ref 8, .int a, .retAddr 0, .retAddr 0, .retAddr 0] [.ref 8] τ = some o ∧ tt o := by
    intro m τ h
    cases m with
    | zero => cases h
    | succ m => rw [xq, kg_144_197] at h ⊢; exact b202 _ _ _ h
  have b277 : ∀ (m : Nat) (x2 : Int32) (x3 x50 : Int64) (x51 : Int32) (τ : lj_S), lj_exec lc_P.1 lc_P.2.1 (lj_run lc_P D n) lc_M144 m 277 [.ref 8, .int a, .int x2, .long x3, .retAddr 0] [.long x50, .int x51, .ref 8] τ = some o → lj_exec lc_P.1 lc_P.2.1 (lj_run lc_P B' n) lc_M144 m 277 [.ref 8, .int a, .int x2, .long x3, .retAddr 0] [.long x50, .int x51, .ref 8] τ = some o ∧ tt o := by
    intro m x2 x3 x50 x51 τ h
    cases m with
    | zero => cases h
    | succ m =>
      rw [xq, kg_144_277] at h ⊢
      exact bvs h (fun q hq => wf_deep wM_rk (id := 137) rfl (by omega) hq) ttQ fun σ1 _ h => bvs h (fun q hq => wf_deep wM_rk (id := 145) rfl (by omega) hq) ttQ fun σ2 _ h => bvs h (fun q hq => wf_deep wM_rk (id := 137) rfl (by omega) hq) ttQ fun σ3 _ h => b316 _ _ _ _ h
  have b260 : ∀ (m : Nat) (x2 : Int32) (x3 : Int64) (x50 : Int32) (τ : lj_S), lj_exec lc_P.1 lc_P.2.1 (lj_run lc_P D n) lc_M144 m 260 [.ref 8, .int a, .int x2, .long x3, .retAddr 0] [.int x50, .ref 8] τ = some o → lj_exec lc_P.1 lc_P.2.1 (lj_run lc_P B' n) lc_M144 m 260 [.ref 8, .int a, .int x2, .long x3, .retAddr 0] [.int x50, .ref 8] τ = some o ∧ tt o := by
    intro m x2 x3 x50 τ h
    cases m with
    | zero => cases h
    | succ m =>
      rw [xq, kg_144_260] at h ⊢
      exact ifs h (fun _ h => b277 _ _ _ _ _ _ h) fun _ h => ifn h fun _ h => b277 _ _ _ _ _ _ h
  cases n with
  | zero => cases h
  | succ n =>
    rw [xq, kg_144_0] at h ⊢
    refine (ifs (Q := tt) h (fun _ h => ?_) fun _ h => ?_).1
    · exact bvs h (fun q hq => wf_deep wM_rk (id := 145) rfl (by omega) hq) ttQ fun σ1 _ h => b58 _ _ _ h
    refine ifs h (fun _ h => ?_) fun _ h => ?_
    · exact ifs h (fun _ h => b109 _ _ _ h) fun _ h => ifn h fun _ h => b109 _ _ _ h
    refine ifs h (fun _ h => ?_) fun _ h => ?_
    · exact ifs h (fun _ h => b163 _ _ h) fun _ h => ifn h fun _ h => ifn h fun _ h => bis h (fun q hq => wf_deep wM_rk (id := 146) rfl (by omega) hq) ttQ fun y σ1 _ h => ifs h (fun _ h => b163 _ _ h) fun _ h => b164 _ _ _ h
    refine ifs h (fun _ h => ?_) fun _ h => ?_
    · exact ifs h (fun _ h => b197 _ _ h) fun _ h => ifn h fun _ h => ifn h fun _ h => bis h (fun q hq => wf_deep wM_rk (id := 146) rfl (by omega) hq) ttQ fun y σ1 _ h => ifs h (fun _ h => b197 _ _ h) fun _ h => b202 _ _ _ h
    refine ifs h (fun _ h => b316 _ _ _ _ h) fun _ h => ?_
    refine ifs h (fun _ h => ?_) fun _ h => ?_
    · exact ifn h fun _ h => ifn h fun _ h => ifs h (fun _ h => b260 _ _ _ _ _ h) fun _ h => ifn h fun _ h => b260 _ _ _ _ _ h
    refine ifs h (fun _ h => ?_) fun _ h => ?_
    · exact bvs h (fun q hq => h8 _ _ _ q B' (by omega) hd' hq) ttQ fun σ1 _ h => b316 _ _ _ _ h
    refine ifs h (fun _ h => ?_) fun _ h => ?_
    · exact bvs h (fun q hq => h3 _ _ q B' (by omega) hd' hq) ttQ fun σ1 _ h => b316 _ _ _ _ h
    refine ifs h (fun _ h => ?_) fun _ h => b316 _ _ _ _ h
    exact bvs h (fun q hq => h9 _ _ _ q B' (by omega) hd' hq) ttQ fun σ1 _ h => b316 _ _ _ _ h
set_option maxRecDepth 100000 in
theorem t148_step {D : Nat} (h4 : t144 D) : t148 (D + 1) := by
  intro n x σ o B hB hd h
  obtain ⟨B', rfl⟩ : ∃ B', B = B' + 1 := ⟨B - 1, by omega⟩
  have hP : lc_P.2.2.2 148 = some (3, lc_M148) := rfl
  rw [lc_run_eq hP] at h ⊢
  cases hw : lj_may lc_P 148 [.ref 8, .int x] 3 σ with
  | false => rw [hw] at h; cases h
  | true =>
    rw [hw] at h
    have h : lj_exec lc_P.1 lc_P.2.1 (lj_run lc_P D n) lc_M148 n 0 [.ref 8, .int x, .retAddr 0] [] σ = some o := h
    show lj_exec lc_P.1 lc_P.2.1 (lj_run lc_P B' n) lc_M148 n 0 [.ref 8, .int x, .retAddr 0] [] σ = some o
    obtain ⟨p, d, m, hs⟩ := g0_of (may_g hw)
    have hb := hd p d m hs
    cases n with
    | zero => cases h
    | succ n =>
      obtain ⟨s1, s2, s3, s4, s5, s6, s7, s8⟩ := hs
      rw [xq, kg_148_0] at h ⊢
      refine (ifn (Q := tt) h fun i h => ?_).1
      have d1 : d ≠ 0 := fun z => by
        rw [s8] at i
        unfold nf at i
        rw [if_pos z] at i
        exact absurd i (by decide)
      obtain ⟨d', rfl⟩ : ∃ d', d = d' + 1 := ⟨d - 1, by omega⟩
      refine bvs h (fun q hq => rk8_run (r := 3) rfl (by decide) (by omega) q hq) ttQ fun σ1 e1 h => ?_
      obtain ⟨g1, g2, g3⟩ := p149 (d := d') e1 rfl s4 s1 s5 (by omega)
      have hs1 : sane σ1 p d' m := ⟨s1, by omega, s3, (g3 8 7 rfl (by omega) (by omega)).trans s4, g1, (g3 8 18 rfl (by omega) (by omega)).trans s6, s7, g2⟩
      refine bvs h (fun q hq => wf_deep wM_rk (id := 152) rfl (by omega) hq) ttQ fun σ2 e2 h => ?_
      have hs2 := hs1.cg (wz (id := 152) (r := 9) rfl ⟨_, rfl⟩ e2 rfl).1
      exact bvs h (fun q hq => h4 _ _ _ q B' (by omega) (fun p' d'' m' s => by
        obtain ⟨-, y2, y3⟩ := hs2.un s
        omega) hq) ttQ fun σ3 _ h => ⟨h, trivial⟩
set_option maxRecDepth 100000 in
theorem t199_step {D : Nat} (h4 : t144 D) : t199 (D + 1) := by
  intro n x σ o B hB hd h
  obtain ⟨B', rfl⟩ : ∃ B', B = B' + 1 := ⟨B - 1, by omega⟩
  have hP : lc_P.2.2.2 199 = some (3, lc_M199) := rfl
  rw [lc_run_eq hP] at h ⊢
  cases hw : lj_may lc_P 199 [.ref 8, .int x] 3 σ with
  | false => rw [hw] at h; cases h
  | true =>
    rw [hw] at h
    have h : lj_exec lc_P.1 lc_P.2.1 (lj_run lc_P D n) lc_M199 n 0 [.ref 8, .int x, .retAddr 0] [] σ = some o := h
    show lj_exec lc_P.1 lc_P.2.1 (lj_run lc_P B' n) lc_M199 n 0 [.ref 8, .int x, .retAddr 0] [] σ = some o
    obtain ⟨p, d, m, hs⟩ := g0_of (may_g hw)
    have hb := hd p d m hs
    have b22 : ∀ (k : Nat) (x50 : Int32) (τ : lj_S), lj_exec lc_P.1 lc_P.2.1 (lj_run lc_P D n) lc_M199 k 22 [.ref 8, .int x, .retAddr 0] [.int x50, .ref 8] τ = some o → lj_exec lc_P.1 lc_P.2.1 (lj_run lc_P B' n) lc_M199 k 22 [.ref 8, .int x, .retAddr 0] [.int x50, .ref 8] τ = some o ∧ tt o := by
      intro k x50 τ h
      cases k with
      | zero => cases h
      | succ k => rw [xq, kg_199_22] at h ⊢; exact ⟨h, trivial⟩
    cases n with
    | zero => cases h
    | succ n =>
      obtain ⟨s1, s2, s3, s4, s5, s6, s7, s8⟩ := hs
      rw [xq, kg_199_0] at h ⊢
      refine (ifs (Q := tt) h (fun _ h => ifs h (fun _ h => b22 _ _ _ h) fun _ h => b22 _ _ _ h) fun n7 h => ?_).1
      have m1 : 1 ≤ m := by
        rcases s7 with z | z
        · exact absurd (by rw [s4, z]; rfl) n7
        · exact z
      obtain ⟨m', rfl⟩ : ∃ m', m = m' + 1 := ⟨m - 1, by omega⟩
      refine ifn h fun _ h => ?_
      refine bvs h (fun q hq => rk8_run (r := 3) rfl (by decide) (by omega) q hq) ttQ fun σ1 e1 h => ?_
      have g1 : σ1.1 8 18 = Int32.ofNat m' := by
        have := p198 e1 (v := none) rfl
        rw [lj_put_1, if_neg (by omega), s6, nq_pred] at this
        exact this
      refine bvs h (fun q hq => wf_deep wM_rk (id := 152) rfl (by omega) hq) ttQ fun σ2 e2 h => ?_
      have g2 : σ2.1 8 18 = Int32.ofNat m' := ((wz (id := 152) (r := 9) rfl ⟨_, rfl⟩ e2 rfl).1 8 18 rfl).trans g1
      refine ifn h fun _ h => ?_
      exact bvs h (fun q hq => h4 _ _ _ q B' (by omega) (fun p' d'' m'' s => by
        obtain ⟨y1, y2, y3, y4, y5, y6, -⟩ := s
        have : m' = m'' := (nq_eq (by omega) (by omega)).1 (g2.symm.trans y6)
        omega) hq) ttQ fun σ3 _ h => ⟨h, trivial⟩
set_option maxRecDepth 100000 in
theorem t153_step {D : Nat} (h4 : t144 D) : t153 (D + 1) := by
  intro n σ o B hB hd h
  obtain ⟨B', rfl⟩ : ∃ B', B = B' + 1 := ⟨B - 1, by omega⟩
  have hP : lc_P.2.2.2 153 = some (8, lc_M153) := rfl
  rw [lc_run_eq hP] at h ⊢
  cases hw : lj_may lc_P 153 [.ref 8] 8 σ with
  | false => rw [hw] at h; cases h
  | true =>
    rw [hw] at h
    have h : lj_exec lc_P.1 lc_P.2.1 (lj_run lc_P D n) lc_M153 n 0 [.ref 8, .retAddr 0, .retAddr 0, .retAddr 0, .retAddr 0, .retAddr 0, .retAddr 0, .retAddr 0] [] σ = some o := h
    show lj_exec lc_P.1 lc_P.2.1 (lj_run lc_P B' n) lc_M153 n 0 [.ref 8, .retAddr 0, .retAddr 0, .retAddr 0, .retAddr 0, .retAddr 0, .retAddr 0, .retAddr 0] [] σ = some o
    have hg : (lj_g0 σ && decide (σ.1 91 (σ.1 8 34).toInt.toNat = 2)) = true := may_g hw
    rw [Bool.and_eq_true] at hg
    obtain ⟨p, d, m, hs⟩ := g0_of hg.1
    have hg2 := of_decide_eq_true hg.2
    have hb := hd p d m hs
    cases n with
    | zero => cases h
    | succ n =>
      obtain ⟨s1, s2, s3, s4, s5, s6, s7, s8⟩ := hs
      rw [xq, kg_153_0] at h ⊢
      refine (ifn (Q := tt) h fun i h => ?_).1
      have d1 : d ≠ 0 := fun z => by
        rw [s8] at i
        unfold nf at i
        rw [if_pos z] at i
        exact absurd i (by decide)
      obtain ⟨d', rfl⟩ : ∃ d', d = d' + 1 := ⟨d - 1, by omega⟩
      have e34 : σ.1 8 34 = Int32.ofNat (20 * p + d') := by rw [s8]; unfold nf; rw [if_neg d1]; rfl
      have n34 : (σ.1 8 34).toNatClampNeg = 20 * p + d' := by rw [e34]; exact lz_onat (by omega)
      have h91 : σ.1 91 (20 * p + d') = 2 := by rw [← n34]; exact hg2
      refine ifs h (fun _ h => ?_) fun _ h => ifn h fun _ h => ⟨h, trivial⟩
      refine nla_loop (p := p) (d := d') (Q := tt) (J := fun x2 τ => x2 ≠ 0 → τ.1 8 7 = Int32.ofNat p ∧ τ.1 90 p = Int32.ofNat (d' + 1) ∧ τ.1 8 34 = σ.1 8 34 ∧ τ.1 91 (20 * p + d') = 2 ∧ τ.1 8 18 = Int32.ofNat m) e34 s1 (by omega) (by omega) ttQ ?_ ?_ ?_ ?_ ?_ ?_ n 1 _ _ _ σ (fun _ => ⟨s4, s5, rfl, h91, s6⟩) h
      · intro k v l τ q hI h105 hq
        exact (sAll D).1 (n + 1) 155 _ 1 20 _ τ q p d' (d' + 1) B' rfl rfl (dL.c (fun q e => by cases e; rfl) (dL.c (fun q e => by cases e; exact ⟨_, rfl⟩) (dL.c (fun q e => by cases e; exact ⟨_, rfl⟩) (dL.c (fun q e => by cases e; show Value.int 7 = .int (wa τ (20 * p + (d' + 1 - 1))); unfold wa; rw [show d' + 1 - 1 = d' by omega, hI.1.2.2.2.2.1]; rfl) (dL.c (fun q e => by cases e; exact ⟨_, rfl⟩) dL_nil))))) hI ⟨fun q => by omega, fun _ _ _ _ => h105⟩ (by show 4 * (20 - (d' + 1)) + 2 * (d' + 1 - 1 - d') + 40 + 20 ≤ B'; omega) hq
      · intro x2 τ τ' hJ z nz
        obtain ⟨b1, b2, b3, b4, b5⟩ := hJ nz
        exact ⟨(z 8 7 rfl).trans b1, (z 90 p rfl).trans b2, (z 8 34 rfl).trans b3, (z 91 _ rfl).trans b4, (z 8 18 rfl).trans b5⟩
      · intro x2 τ hJ nz
        obtain ⟨b1, b2, b3, b4, b5⟩ := hJ nz
        exact ⟨b1, b2, b3, b4⟩
      · intro x2 τ τb τ2 hJ nz hb hb0 hp2 nz'
        obtain ⟨b1, b2, b3, b4, b5⟩ := hJ nz
        have low : ∀ k i, zpC k i = true → ¬ aW p d' k i → ¬ ((k = 102 ∨ k = 103) ∧ i = 20 * p + d') → (lj_put τ2 102 (20 * p + d') 0).1 k i = τ.1 k i := by
          intro k i q b nq
          rw [lj_put_1, if_neg (by omega), hp2.1 k i q b, hb k i q nq]
        rcases hp2.2 nz' with z | ⟨z1, z2⟩
        · exact absurd hb0 z
        · refine ⟨(low 8 7 rfl (by unfold aW; omega) (by omega)).trans b1, ?_, ?_, (low 91 _ rfl (by unfold aW; omega) (by omega)).trans b4, (low 8 18 rfl (by unfold aW; omega) (by omega)).trans b5⟩
          · rw [lj_put_1, if_neg (by omega)]; exact z1
          · rw [lj_put_1, if_neg (by omega), e34]; exact z2
      · intro τ _
        trivial
      · intro x2 τ hJ nz r h
        obtain ⟨b1, b2, b3, b4, b5⟩ := hJ nz
        refine bvs h (fun q hq => rk8_run (r := 3) rfl (by decide) (by omega) q hq) ttQ fun σ5 e5 h => ?_
        obtain ⟨g1, g2, g3⟩ := p149 (p := p) (d := d') e5 rfl (by rw [lj_put_1, if_neg (by omega)]; exact b1) s1 (by rw [lj_put_1, if_neg (by omega)]; exact b2) (by omega)
        have hs5 : sane σ5 p d' m := by
          refine ⟨s1, by omega, s3, ?_, g1, ?_, s7, g2⟩
          · rw [g3 8 7 rfl (by omega) (by omega), lj_put_1, if_neg (by omega)]; exact b1
          · rw [g3 8 18 rfl (by omega) (by omega), lj_put_1, if_neg (by omega)]; exact b5
        refine bvs h (fun q hq => wf_deep wM_rk (id := 143) rfl (by omega) hq) ttQ fun σ6 e6 h => ?_
        have hs6 := hs5.cg (wz (id := 143) (r := 9) rfl ⟨_, rfl⟩ e6 rfl).1
        exact bvs h (fun q hq => h4 _ _ _ q B' (by omega) (fun p' d'' m'' s => by
          obtain ⟨-, y2, y3⟩ := hs6.un s
          omega) hq) ttQ fun σ7 _ h => ⟨h, trivial⟩
theorem tAll : ∀ D, t144 D ∧ t148 D ∧ t199 D ∧ t153 D
  | 0 => by
    refine ⟨?_, ?_, ?_, ?_⟩
    · intro n a σ o B hB hd h; cases h
    · intro n a σ o B hB hd h; cases h
    · intro n a σ o B hB hd h; cases h
    · intro n σ o B hB hd h; cases h
  | D + 1 => by
    obtain ⟨a, b, c, d⟩ := tAll D
    exact ⟨t144_step b c d, t148_step a, t199_step a, t153_step a⟩
theorem dB_all (σ : lj_S) {c B : Nat} (h : 480 + c ≤ B) : dB σ c B := fun p d m s => by
  obtain ⟨-, h2, h3, -⟩ := s
  omega
