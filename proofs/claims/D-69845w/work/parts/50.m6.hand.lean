/-! DEPTH OF CALLS: deliver, call, pcall and the rest while a gathering is at work -/
set_option maxRecDepth 100000 in
theorem w144 {D : Nat} (hE : sEp D) (h1 : s1 D) {n : Nat} {a : Int32} {σ : lj_S} {o : lj_O} {p e d B : Nat} (hI : wI σ p e d) (ha : a = wa σ (20 * p + (d - 1))) (hB : wBd 0 0 d e ≤ B) (h : lj_run lc_P (D + 1) n 144 [.ref 8, .int a] σ = some o) : lj_run lc_P B n 144 [.ref 8, .int a] σ = some o ∧ qW p e σ o := by
  have hB : 2 * (d - 1 - e) + 10 + 0 ≤ B := hB
  obtain ⟨B', rfl⟩ : ∃ B', B = B' + 1 := ⟨B - 1, by omega⟩
  have hP : lc_P.2.2.2 144 = some (5, lc_M144) := rfl
  rw [lc_run_eq hP] at h ⊢
  have h : lj_exec lc_P.1 lc_P.2.1 (lj_run lc_P D n) lc_M144 n 0 [.ref 8, .int a, .retAddr 0, .retAddr 0, .retAddr 0] [] σ = some o := h
  show lj_exec lc_P.1 lc_P.2.1 (lj_run lc_P B' n) lc_M144 n 0 [.ref 8, .int a, .retAddr 0, .retAddr 0, .retAddr 0] [] σ = some o ∧ qW p e σ o
  have ret : ∀ (m : Nat) (τ : lj_S), lj_exec lc_P.1 lc_P.2.1 (lj_run lc_P D n) lc_M144 m 316 [.ref 8, .int a, .retAddr 0, .retAddr 0, .retAddr 0] [] τ = some o → lj_exec lc_P.1 lc_P.2.1 (lj_run lc_P B' n) lc_M144 m 316 [.ref 8, .int a, .retAddr 0, .retAddr 0, .retAddr 0] [] τ = some o ∧ o = (.inl none, τ) := by
    intro m τ h
    cases m with
    | zero => cases h
    | succ m =>
      rw [xq, kg_144_316] at h ⊢
      exact ⟨h, (Option.some.inj h).symm⟩
  cases n with
  | zero => cases h
  | succ n =>
    by_cases t : σ.1 91 (20 * p + (d - 1)) = 1
    · have ha : a = 6 := by rw [ha]; unfold wa; rw [if_pos t]
      subst ha
      rw [xq, kg_144_0, if_neg (by decide), if_neg (by decide), if_neg (by decide), if_neg (by decide), if_neg (by decide), if_neg (by decide), if_pos rfl] at h ⊢
      refine bvs h (fun q hq => (hE _ _ σ q p e d B' hI t (by omega) hq).1) inrQ fun σ6 e6 h => ?_
      obtain ⟨r1, r2⟩ := ret _ _ h
      refine ⟨r1, fun v hv => ?_⟩
      rw [r2]
      exact (hE _ _ σ _ p e d B' hI t (by omega) e6).2 none rfl
    · have ha : a = 7 := by rw [ha]; unfold wa; rw [if_neg t]
      subst ha
      rw [xq, kg_144_0, if_neg (by decide), if_neg (by decide), if_neg (by decide), if_neg (by decide), if_neg (by decide), if_neg (by decide), if_neg (by decide), if_pos rfl] at h ⊢
      refine bvs h (fun q hq => (h1 _ σ q p e d B' hI t (by omega) hq).1) inrQ fun σ6 e6 h => ?_
      obtain ⟨r1, r2⟩ := ret _ _ h
      refine ⟨r1, fun v hv => ?_⟩
      rw [r2]
      exact (h1 _ σ _ p e d B' hI t (by omega) e6).2 none rfl
set_option maxRecDepth 100000 in
theorem w155 {D : Nat} (hW : sW D) {n : Nat} {k : Int32} {v : Int64} {a l : Int32} {σ : lj_S} {o : lj_O} {p e d B : Nat} (hI : wI σ p e d) (ha : a = wa σ (20 * p + (d - 1))) (hk : k = 5 → σ.1 105 0 = 4) (hB : wBd 1 20 d e ≤ B) (h : lj_run lc_P (D + 1) n 155 [.ref 8, .int k, .long v, .int a, .int l] σ = some o) : lj_run lc_P B n 155 [.ref 8, .int k, .long v, .int a, .int l] σ = some o ∧ qW p e σ o := by
  have hB : 4 * (20 - d) + 2 * (d - 1 - e) + 40 + 20 ≤ B := hB
  obtain ⟨B', rfl⟩ : ∃ B', B = B' + 1 := ⟨B - 1, by omega⟩
  have hP : lc_P.2.2.2 155 = some (13, lc_M155) := rfl
  rw [lc_run_eq hP] at h ⊢
  cases hw : lj_may lc_P 155 [.ref 8, .int k, .long v, .int a, .int l] 13 σ with
  | false => rw [hw] at h; cases h
  | true =>
    rw [hw] at h
    have h : lj_exec lc_P.1 lc_P.2.1 (lj_run lc_P D n) lc_M155 n 0 [.ref 8, .int k, .long v, .retAddr 0, .int a, .int l, .retAddr 0, .retAddr 0, .retAddr 0, .retAddr 0, .retAddr 0, .retAddr 0, .retAddr 0] [] σ = some o := h
    show lj_exec lc_P.1 lc_P.2.1 (lj_run lc_P B' n) lc_M155 n 0 [.ref 8, .int k, .long v, .retAddr 0, .int a, .int l, .retAddr 0, .retAddr 0, .retAddr 0, .retAddr 0, .retAddr 0, .retAddr 0, .retAddr 0] [] σ = some o ∧ qW p e σ o
    have ret : ∀ (m : Nat) (x6 : Int32) (x7 : Int64) (x9 : Int32) (x10 x11 : Value) (τ : lj_S), lj_exec lc_P.1 lc_P.2.1 (lj_run lc_P D n) lc_M155 m 164 [.ref 8, .int k, .long v, .retAddr 0, .int a, .int l, .int x6, .long x7, .retAddr 0, .int x9, x10, x11, .retAddr 0] [] τ = some o → lj_exec lc_P.1 lc_P.2.1 (lj_run lc_P B' n) lc_M155 m 164 [.ref 8, .int k, .long v, .retAddr 0, .int a, .int l, .int x6, .long x7, .retAddr 0, .int x9, x10, x11, .retAddr 0] [] τ = some o ∧ o = (.inl none, τ) := by
      intro m x6 x7 x9 x10 x11 τ h
      cases m with
      | zero => cases h
      | succ m =>
        rw [xq, kg_155_164] at h ⊢
        exact ⟨h, (Option.some.inj h).symm⟩
    have key : ∀ (m : Nat) (x6 : Int32) (x7 : Int64) (x9 : Int32) (x10 x11 : Value) (τ : lj_S), zS σ τ → (x6 = 5 → τ.1 105 0 = 4) → lj_exec lc_P.1 lc_P.2.1 (lj_run lc_P D n) lc_M155 m 9 [.ref 8, .int k, .long v, .retAddr 0, .int a, .int l, .int x6, .long x7, .retAddr 0, .int x9, x10, x11, .retAddr 0] [] τ = some o →
        lj_exec lc_P.1 lc_P.2.1 (lj_run lc_P B' n) lc_M155 m 9 [.ref 8, .int k, .long v, .retAddr 0, .int a, .int l, .int x6, .long x7, .retAddr 0, .int x9, x10, x11, .retAddr 0] [] τ = some o ∧ qW p e σ o := by
      intro m
      induction m with
      | zero => intro x6 x7 x9 x10 x11 τ hz h5 h; cases h
      | succ m ih =>
        intro x6 x7 x9 x10 x11 τ hz h5 h
        have hIt := hI.cg hz
        have hat : a = wa τ (20 * p + (d - 1)) := by rw [ha, wa_cg (hz 91 _ rfl)]
        rw [xq, kg_155_9] at h ⊢
        refine ifs h (fun e5 h => ?_) fun n5 h => ?_
        · refine ifs h (fun _ h => ?_) fun _ h => ?_
          · refine ifn h fun _ h => ?_
            refine bvs h (fun q hq => rk8_run (r := 8) rfl (by decide) (by omega) q hq) inrQ fun σ1 e1 h => ?_
            obtain ⟨r1, r2⟩ := ret _ _ _ _ _ _ _ h
            refine ⟨r1, fun v hv => ?_⟩
            rw [r2]
            exact (p131 hIt e1 (v := none) rfl).pz hz
          · have run := fun q (hq : lj_run lc_P D n 159 [.ref 8, .int (((-1) - x7) : Int64).toInt32, .int a, .int l] τ = some q) => hW n 159 _ 1 19 _ τ q p e d B' rfl rfl (dL.c (fun q e => by cases e; rfl) (dL.c (fun q e => by cases e; exact ⟨_, rfl⟩) (dL.c (fun q e => by cases e; rw [hat]; rfl) (dL.c (fun q e => by cases e; exact ⟨_, rfl⟩) dL_nil)))) hIt ⟨fun _ => h5 e5, fun q => by omega⟩ (by show 4 * (20 - d) + 2 * (d - 1 - e) + 40 + 19 ≤ B'; omega) hq
            refine bvs h (fun q hq => (run q hq).1) inrQ fun σ1 e1 h => ?_
            obtain ⟨r1, r2⟩ := ret _ _ _ _ _ _ _ h
            refine ⟨r1, fun v hv => ?_⟩
            rw [r2]
            exact ((run _ e1).2 none rfl).pz hz
        · refine ifn h fun _ h => ?_
          refine bis h (fun q hq => wf_deep wM_rk (id := 118) rfl (by omega) hq) inrQ fun y4 σ3 e3 h => ?_
          have z3 := (wz (id := 118) (r := 8) rfl ⟨_, rfl⟩ e3 rfl).1
          refine ifs h (fun _ h => ?_) fun ny h => ?_
          · exact brs h (fun q hq => wf_deep wM_rk (id := 156) rfl (by omega) hq) inrQ
          · refine ifs h (fun _ h => ?_) fun _ h => ?_
            · exact brs h (fun q hq => wf_deep wM_rk (id := 133) rfl (by omega) hq) inrQ
            · refine bvs h (fun q hq => rk8_run (r := 1) rfl (by decide) (by omega) q hq) inrQ fun σ5 e5 h => ?_
              obtain ⟨z5, k5⟩ := p158 e5 rfl
              exact ih _ _ _ _ _ _ ((hz.tr z3).tr z5) (fun _ => by rw [k5]; exact p118 e3 ny) h
    cases n with
    | zero => cases h
    | succ n =>
      rw [xq, kg_155_0] at h ⊢
      exact key _ _ _ _ _ _ _ zS.rf hk h
set_option maxRecDepth 100000 in
theorem w159 {D : Nat} (hW : sW D) {n : Nat} {a l : Int32} {σ : lj_S} {o : lj_O} {p e d B : Nat} (hI : wI σ p e d) (ha : a = wa σ (20 * p + (d - 1))) (h4 : σ.1 105 0 = 4) (hB : wBd 1 19 d e ≤ B) (h : lj_run lc_P (D + 1) n 159 [.ref 8, .int 14, .int a, .int l] σ = some o) : lj_run lc_P B n 159 [.ref 8, .int 14, .int a, .int l] σ = some o ∧ qW p e σ o := by
  have hB : 4 * (20 - d) + 2 * (d - 1 - e) + 40 + 19 ≤ B := hB
  obtain ⟨B', rfl⟩ : ∃ B', B = B' + 1 := ⟨B - 1, by omega⟩
  have hP : lc_P.2.2.2 159 = some (7, lc_M159) := rfl
  rw [lc_run_eq hP] at h ⊢
  have h : lj_exec lc_P.1 lc_P.2.1 (lj_run lc_P D n) lc_M159 n 0 [.ref 8, .int 14, .int a, .int l, .retAddr 0, .retAddr 0, .retAddr 0] [] σ = some o := h
  show lj_exec lc_P.1 lc_P.2.1 (lj_run lc_P B' n) lc_M159 n 0 [.ref 8, .int 14, .int a, .int l, .retAddr 0, .retAddr 0, .retAddr 0] [] σ = some o ∧ qW p e σ o
  cases n with
  | zero => cases h
  | succ n =>
    have hI0 := hI
    obtain ⟨⟨a1, a2, a3, a4, a5, a6, a7⟩, a8, a9⟩ := hI
    rw [xq, kg_159_14x] at h ⊢
    refine bis h (fun q hq => wf_deep wM_rk (id := 163) rfl (by omega) hq) inrQ fun y σ1 e1 hh => ?_
    obtain ⟨y1, rfl⟩ := p163 e1
    refine bls hh (fun q hq => wf_deep wM_rk (id := 165) rfl (by omega) hq) inrQ fun u σ2 e2 h => ?_
    have z2 := (wz (id := 165) (r := 9) rfl ⟨_, rfl⟩ e2 rfl).1
    refine bvs h (fun q hq => rk8_run (r := 1) rfl (by decide) (by omega) q hq) inrQ fun σ3 e3 h => ?_
    have z3 := z2.tr (wzC (id := 173) (r := 9) rfl ⟨_, rfl⟩ e3 rfl)
    refine bvs h (fun q hq => rk8_run (r := 7) rfl (by decide) (by omega) q hq) inrQ fun σ4 e4 h => ?_
    obtain ⟨q1, q2, q3, q4, q5, q6, -⟩ := p132 e4 rfl ((z3 8 7 rfl).trans a1) a2 ((z3 90 p rfl).trans a8) (by omega)
    have q6' : ∀ k i, zpC k i = true → ¬ (k = 8 ∧ i = 34) → ¬ (k = 90 ∧ i = p) → ¬ ((k = 91 ∨ k = 98) ∧ i = 20 * p + d) → σ4.1 k i = σ1.1 k i := fun k i q n1 n2 n3 => (q6 k i q n1 n2 n3).trans (z3 k i q)
    have hI4 : wI σ4 p e (d + 1) := by
      refine ⟨⟨(q6' 8 7 rfl (by omega) (by omega) (by omega)).trans a1, a2, by omega, by omega, (q6' 91 _ rfl (by omega) (by omega) (by omega)).trans a5, ?_, fun i hi hd => ?_⟩, q2, q3⟩
      · rw [q6' 102 _ rfl (by omega) (by omega) (by omega)]; exact a6
      · by_cases z : i = d
        · subst z
          refine ⟨Or.inl q4, ?_⟩
          rw [q5, ha, wa_cg (q6' 91 _ rfl (by omega) (by omega) (by omega))]
        · have := a7 i hi (by omega)
          rw [q6' 91 _ rfl (by omega) (by omega) (by omega), q6' 102 _ rfl (by omega) (by omega) (by omega), q6' 98 _ rfl (by omega) (by omega) (by omega), wa_cg (q6' 91 _ rfl (by omega) (by omega) (by omega))]
          exact this
    have w6 : wa σ4 (20 * p + (d + 1 - 1)) = 6 := by
      unfold wa
      rw [show d + 1 - 1 = d by omega, if_pos q4]
    have run := fun q (hq : lj_run lc_P D (n + 1) 155 [.ref 8, .int y, .long u, .int 6, .int l] σ4 = some q) => hW (n + 1) 155 _ 1 20 _ σ4 q p e (d + 1) B' rfl rfl (dL.c (fun q e => by cases e; rfl) (dL.c (fun q e => by cases e; exact ⟨_, rfl⟩) (dL.c (fun q e => by cases e; exact ⟨_, rfl⟩) (dL.c (fun q e => by cases e; show Value.int 6 = .int (wa σ4 (20 * p + (d + 1 - 1))); rw [w6]) (dL.c (fun q e => by cases e; exact ⟨_, rfl⟩) dL_nil))))) hI4 ⟨fun q => by omega, fun _ k hk k5 => by
        exfalso
        have hk : some (Value.int y) = some (.int k) := hk
        cases hk
        rcases y1 with z | z
        · rw [z] at k5; cases k5
        · rw [z, h4] at k5; cases k5⟩ (by show 4 * (20 - (d + 1)) + 2 * (d + 1 - 1 - e) + 40 + 20 ≤ B'; omega) hq
    refine bvs h (fun q hq => (run q hq).1) inrQ fun σ5 e5 h => ?_
    cases n with
    | zero => cases h
    | succ n =>
      rw [xq, kg_159_901] at h ⊢
      refine ⟨h, fun v hv => ?_⟩
      cases h
      refine ((run _ e5).2 none rfl).pre (fun k i q b => q6' k i q (fun z => b (Or.inl z)) (fun z => b (Or.inr (Or.inl z))) (fun z => b (by unfold aW; omega))) (q6' 103 _ rfl (by omega) (by omega) (by omega))
/-- what asks for a function or a part finds a table -/
theorem w_no {x x' : Option lj_O} {k k' : lj_S → Option lj_O} {o : lj_O} {Q : lj_O → Prop} (h : lj_bv x k lj_up = some o) (hx : ∀ q, x = some q → x' = some q) (hi : ∀ e σ, Q (.inr e, σ)) (hn : ∀ σ1, x ≠ some (.inl none, σ1)) : lj_bv x' k' lj_up = some o ∧ Q o := by
  cases x with
  | none => cases h
  | some q =>
    rw [hx q rfl]
    obtain ⟨q1, q2⟩ := q
    cases q1 with
    | inr e => cases h; exact ⟨rfl, hi _ _⟩
    | inl v =>
      cases v with
      | none => exact absurd rfl (hn q2)
      | some v => cases h
set_option maxRecDepth 100000 in
theorem w187 {D n : Nat} {a l : Int32} {σ : lj_S} {o : lj_O} {p e B : Nat} (h4 : σ.1 105 0 = 4) (hB : 9 ≤ B) (h : lj_run lc_P (D + 1) n 187 [.ref 8, .int 26, .int a, .int l] σ = some o) : lj_run lc_P B n 187 [.ref 8, .int 26, .int a, .int l] σ = some o ∧ qW p e σ o := by
  obtain ⟨B', rfl⟩ : ∃ B', B = B' + 1 := ⟨B - 1, by omega⟩
  have hP : lc_P.2.2.2 187 = some (10, lc_M187) := rfl
  rw [lc_run_eq hP] at h ⊢
  have h : lj_exec lc_P.1 lc_P.2.1 (lj_run lc_P D n) lc_M187 n 0 [.ref 8, .int 26, .int a, .int l, .retAddr 0, .retAddr 0, .retAddr 0, .retAddr 0, .retAddr 0, .retAddr 0] [] σ = some o := h
  show lj_exec lc_P.1 lc_P.2.1 (lj_run lc_P B' n) lc_M187 n 0 [.ref 8, .int 26, .int a, .int l, .retAddr 0, .retAddr 0, .retAddr 0, .retAddr 0, .retAddr 0, .retAddr 0] [] σ = some o ∧ qW p e σ o
  cases n with
  | zero => cases h
  | succ n =>
    rw [xq, kg_187_26x] at h ⊢
    refine bis h (fun q hq => wf_deep wM_rk (id := 163) rfl (by omega) hq) inrQ fun y σ1 e1 hh => ?_
    obtain ⟨y1, rfl⟩ := p163 e1
    have ny : y ≠ 5 := by
      rcases y1 with z | z
      · rw [z]; decide
      · rw [z, h4]; decide
    refine ifs hh (fun z => absurd z ny) fun _ h => ?_
    cases n with
    | zero => cases h
    | succ n =>
      rw [xq, kg_187_560] at h ⊢
      exact w_no h (fun q hq => wf_deep wM_rk (id := 168) rfl (by omega) hq) inrQ (fun σ1 e1 => absurd rfl (p168 e1 rfl))
set_option maxRecDepth 100000 in
theorem w196 {D n : Nat} {a l : Int32} {σ : lj_S} {o : lj_O} {p e B : Nat} (h4 : σ.1 105 0 = 4) (hB : 9 ≤ B) (h : lj_run lc_P (D + 1) n 196 [.ref 8, .int l, .int a] σ = some o) : lj_run lc_P B n 196 [.ref 8, .int l, .int a] σ = some o ∧ qW p e σ o := by
  obtain ⟨B', rfl⟩ : ∃ B', B = B' + 1 := ⟨B - 1, by omega⟩
  have hP : lc_P.2.2.2 196 = some (6, lc_M196) := rfl
  rw [lc_run_eq hP] at h ⊢
  have h : lj_exec lc_P.1 lc_P.2.1 (lj_run lc_P D n) lc_M196 n 0 [.ref 8, .int l, .int a, .retAddr 0, .retAddr 0, .retAddr 0] [] σ = some o := h
  show lj_exec lc_P.1 lc_P.2.1 (lj_run lc_P B' n) lc_M196 n 0 [.ref 8, .int l, .int a, .retAddr 0, .retAddr 0, .retAddr 0] [] σ = some o ∧ qW p e σ o
  cases n with
  | zero => cases h
  | succ n =>
    rw [xq, kg_196_0] at h ⊢
    refine bis h (fun q hq => wf_deep wM_rk (id := 163) rfl (by omega) hq) inrQ fun y σ1 e1 hh => ?_
    obtain ⟨y1, rfl⟩ := p163 e1
    have ny : y ≠ 6 := by
      rcases y1 with z | z
      · rw [z]; decide
      · rw [z, h4]; decide
    refine ifs hh (fun z => absurd z ny) fun _ h => ?_
    cases n with
    | zero => cases h
    | succ n =>
      rw [xq, kg_196_16] at h ⊢
      exact w_no h (fun q hq => wf_deep wM_rk (id := 168) rfl (by omega) hq) inrQ (fun σ1 e1 => absurd rfl (p168 e1 rfl))
set_option maxRecDepth 100000 in
theorem w197 {D n : Nat} {a l : Int32} {σ : lj_S} {o : lj_O} {p e d B : Nat} (hI : wI σ p e d) (hB : 9 ≤ B) (h : lj_run lc_P (D + 1) n 197 [.ref 8, .int l, .int a] σ = some o) : lj_run lc_P B n 197 [.ref 8, .int l, .int a] σ = some o ∧ qW p e σ o := by
  obtain ⟨B', rfl⟩ : ∃ B', B = B' + 1 := ⟨B - 1, by omega⟩
  have hP : lc_P.2.2.2 197 = some (6, lc_M197) := rfl
  rw [lc_run_eq hP] at h ⊢
  have h : lj_exec lc_P.1 lc_P.2.1 (lj_run lc_P D n) lc_M197 n 0 [.ref 8, .int l, .int a, .retAddr 0, .retAddr 0, .retAddr 0] [] σ = some o := h
  show lj_exec lc_P.1 lc_P.2.1 (lj_run lc_P B' n) lc_M197 n 0 [.ref 8, .int l, .int a, .retAddr 0, .retAddr 0, .retAddr 0] [] σ = some o ∧ qW p e σ o
  obtain ⟨⟨a1, a2, a3, a4, a5, a6, a7⟩, a8, a9⟩ := hI
  have key : ∀ (m : Nat) (x3 : Int32) (j : Nat) (τ : lj_S), zS σ τ → j ≤ d → (e < j → x3 = 0) → lj_exec lc_P.1 lc_P.2.1 (lj_run lc_P D n) lc_M197 m 16 [.ref 8, .int l, .int a, .int x3, .int (Int32.ofNat j), .retAddr 0] [] τ = some o →
      lj_exec lc_P.1 lc_P.2.1 (lj_run lc_P B' n) lc_M197 m 16 [.ref 8, .int l, .int a, .int x3, .int (Int32.ofNat j), .retAddr 0] [] τ = some o ∧ qW p e σ o := by
    intro m
    induction m using Nat.strongRecOn with
    | ind m ih =>
      intro x3 j τ hz hj hx h
      cases m with
      | zero => cases h
      | succ m =>
        have g7 : τ.1 8 7 = Int32.ofNat p := (hz 8 7 rfl).trans a1
        have i7 : lj_in (τ.1 8 7) 26 := by rw [g7]; exact nq_in a2 (by decide)
        have n7 : (τ.1 8 7).toNatClampNeg = p := by rw [g7]; exact lz_onat (by omega)
        have g90 : τ.1 90 p = Int32.ofNat d := (hz 90 p rfl).trans a8
        have e90 : τ.1 90 (τ.1 8 7).toNatClampNeg = Int32.ofNat d := by rw [n7]; exact g90
        rw [xq, kg_197_16, if_pos i7] at h ⊢
        by_cases c : d ≤ j
        · have hle : τ.1 90 (τ.1 8 7).toNatClampNeg ≤ Int32.ofNat j := by rw [e90, lz_le, lz_lit (by omega), lz_lit (by omega)]; omega
          rw [if_pos hle, if_pos (hx (by omega))] at h ⊢
          exact brs h (fun q hq => wf_deep wM_rk (id := 133) rfl (by omega) hq) inrQ
        · have hle : ¬ τ.1 90 (τ.1 8 7).toNatClampNeg ≤ Int32.ofNat j := by rw [e90, lz_le, lz_lit (by omega), lz_lit (by omega)]; omega
          rw [if_neg hle] at h ⊢
          have no : ∀ (τ : lj_S), zS σ τ → lj_exec lc_P.1 lc_P.2.1 (lj_run lc_P D n) lc_M197 m 57 [.ref 8, .int l, .int a, .int x3, .int (Int32.ofNat j), .retAddr 0] [] τ = some o → lj_exec lc_P.1 lc_P.2.1 (lj_run lc_P B' n) lc_M197 m 57 [.ref 8, .int l, .int a, .int x3, .int (Int32.ofNat j), .retAddr 0] [] τ = some o ∧ qW p e σ o := by
            intro τ hz h
            cases m with
            | zero => cases h
            | succ m =>
              rw [xq, kg_197_57] at h ⊢
              cases m with
              | zero => cases h
              | succ m =>
                rw [xq, kg_197_58, lz_osucc] at h ⊢
                exact ih m (by omega) 0 (j + 1) τ hz (by omega) (fun _ => rfl) h
          refine ifs h (fun _ h => no τ hz h) fun n3 h => ?_
          refine bis h (fun q hq => wf_deep wM_rk (id := 130) rfl (by omega) hq) inrQ fun y4 σ3 e3 h => ?_
          have e3' := run_R e3
          rw [g7, rc_130, kc_130_0, nq_at] at e3'
          cases e3'
          have nj : (Int32.ofNat (20 * p + j)).toNatClampNeg = 20 * p + j := lz_onat (by omega)
          refine ifn h fun _ h => ?_
          simp only [nj] at h ⊢
          refine ifs h (fun _ h => no τ hz h) fun n2 h => ?_
          have ne : j ≠ e := fun z => n2 (by rw [z, hz 91 _ rfl]; exact a5)
          have nlt : ¬ e < j := fun z => n3 (hx z)
          cases m with
          | zero => cases h
          | succ m =>
            rw [xq, kg_197_58, lz_osucc] at h ⊢
            exact ih m (by omega) 1 (j + 1) τ hz (by omega) (fun q => by omega) h
  have k12 : ∀ (m : Nat) (x : Int32), lj_exec lc_P.1 lc_P.2.1 (lj_run lc_P D n) lc_M197 m 12 [.ref 8, .int l, .int a, .retAddr 0, .retAddr 0, .retAddr 0] [.int x] σ = some o → lj_exec lc_P.1 lc_P.2.1 (lj_run lc_P B' n) lc_M197 m 12 [.ref 8, .int l, .int a, .retAddr 0, .retAddr 0, .retAddr 0] [.int x] σ = some o ∧ qW p e σ o := by
    intro m x h
    cases m with
    | zero => cases h
    | succ m =>
      rw [xq, kg_197_12] at h ⊢
      exact key m x 0 σ zS.rf (by omega) (fun q => by omega) h
  cases n with
  | zero => cases h
  | succ n =>
    rw [xq, kg_197_0] at h ⊢
    exact ifs h (fun _ h => k12 _ _ h) fun _ h => k12 _ _ h
