/-! DEPTH OF CALLS: what the helpers of the machine leave in the chain of frames -/
def zcL : List Nat := [83, 84, 86, 87, 90, 91, 98, 102, 103]
def zpC (k i : Nat) : Bool := (Nat.beq k 8 && (Nat.beq i 7 || (Nat.beq i 18 || Nat.beq i 34))) || lj_mem zcL k
def zaC (k : Nat) : Bool := Nat.beq k 8 || lj_mem zcL k
def wC : List (Nat × Nat × List (Nat × Nat × List dv × List dv)) := [(154, 9, []),
  (158, 9, [(6, 0, [some (0, 8)], [])]),
  (173, 9, [(2, 0, [some (0, 8)], []), (64, 0, [some (0, 8)], [some (4, 0), some (0, 8)])])]
set_option maxRecDepth 100000 in
theorem wC_ok : wfOK lc_P zpC zaC wC = true := by decide +kernel
theorem zaC_ok (k i : Nat) (h : zpC k i = true) : zaC k = true := by
  unfold zpC at h; unfold zaC
  rw [Bool.or_eq_true, Bool.and_eq_true] at h
  rw [Bool.or_eq_true]
  rcases h with h | h
  · exact Or.inl h.1
  · exact Or.inr h
theorem lj_mem_iff : ∀ (l : List Nat) (k : Nat), lj_mem l k = true ↔ k ∈ l
  | [], _ => ⟨fun h => (by cases h), fun h => (by cases h)⟩
  | a :: r, k => by
    unfold lj_mem
    cases hb : Nat.beq a k with
    | true => exact ⟨fun _ => by rw [Nat.eq_of_beq_eq_true hb]; exact List.mem_cons_self, fun _ => rfl⟩
    | false =>
      show lj_mem r k = true ↔ _
      rw [lj_mem_iff r k]
      have : k ≠ a := fun e => by rw [e] at hb; rw [Nat.beq_refl] at hb; cases hb
      exact ⟨fun h => List.mem_cons_of_mem _ h, fun h => by rcases List.mem_cons.mp h with e | e; exact absurd e this; exact e⟩
theorem zpC_iff (k i : Nat) : zpC k i = true ↔ (k = 8 ∧ (i = 7 ∨ i = 18 ∨ i = 34)) ∨ k = 83 ∨ k = 84 ∨ k = 86 ∨ k = 87 ∨ k = 90 ∨ k = 91 ∨ k = 98 ∨ k = 102 ∨ k = 103 := by
  unfold zpC
  rw [Bool.or_eq_true, Bool.and_eq_true, Bool.or_eq_true, Bool.or_eq_true, lj_mem_iff, Nat.beq_eq, Nat.beq_eq, Nat.beq_eq, Nat.beq_eq]
  unfold zcL
  simp only [List.mem_cons, List.not_mem_nil, or_false]
theorem zpCM (k i : Nat) (h : zpC k i = true) : zpM k i = true := by
  rw [zpC_iff] at h
  unfold zpM
  rw [Bool.or_eq_true, Bool.and_eq_true, Bool.or_eq_true, Bool.or_eq_true, Bool.or_eq_true, Bool.or_eq_true, lj_mem_iff, Nat.beq_eq, Nat.beq_eq, Nat.beq_eq, Nat.beq_eq, Nat.beq_eq]
  unfold zaL
  simp only [List.mem_cons, List.not_mem_nil, or_false]
  omega
/-- the chain is the same -/
def zS (σ σ' : lj_S) : Prop := ∀ k i, zpC k i = true → σ'.1 k i = σ.1 k i
theorem zS.rf {σ : lj_S} : zS σ σ := fun _ _ _ => rfl
theorem zS.tr {σ σ1 σ2 : lj_S} (h : zS σ σ1) (g : zS σ1 σ2) : zS σ σ2 := fun k i q => (g k i q).trans (h k i q)
theorem zS.put {σ σ' : lj_S} (h : zS σ σ') {k i : Nat} {v : Int32} (q : zpC k i = false) : zS σ (lj_put σ' k i v) := fun k' i' q' => by
  rw [lj_put_1, if_neg (fun e => by rw [e.1, e.2, q] at q'; cases q')]; exact h k' i' q'
theorem zS.putL {σ σ' : lj_S} (h : zS σ σ') {k i : Nat} {v : Int64} : zS σ (lj_putL σ' k i v) := h
theorem wz {D n id r : Nat} {tb : List (Nat × Nat × List dv × List dv)} {as : List Value} {σ : lj_S} {o : lj_O} (h : lj_find wM id = some (r, tb)) (ha : rco r as) (hr : lj_run lc_P D n id as σ = some o) {v : Option Value} (hv : o.1 = .inl v) : zS σ o.2 ∧ o.2.1 105 0 = σ.1 105 0 := by
  have := wf_run wM_ok zaM_ok lc_prim_st D n id r tb as σ o h ha hr v hv
  exact ⟨fun k i q => (this k i (zpCM k i q)).1, (this 105 0 rfl).1⟩
theorem wzC {D n id r : Nat} {tb : List (Nat × Nat × List dv × List dv)} {as : List Value} {σ : lj_S} {o : lj_O} (h : lj_find wC id = some (r, tb)) (ha : rco r as) (hr : lj_run lc_P D n id as σ = some o) {v : Option Value} (hv : o.1 = .inl v) : zS σ o.2 := by
  have := wf_run wC_ok zaC_ok lc_prim_st D n id r tb as σ o h ha hr v hv
  exact fun k i q => (this k i q).1
theorem run_R {P : lj_P} {D n id : Nat} {as : List Value} {σ : lj_S} {o : lj_O} (h : lj_run P D n id as σ = some o) : lj_R P id as σ = some o :=
  lj_R_spec.mpr ⟨max D n, lj_run_deep D (max D n) n (max D n) (Nat.le_max_left _ _) (Nat.le_max_right _ _) id as σ o h⟩
theorem nq_in {n m : Nat} (h : n < m) (hm : m < 2147483648) : lj_in (Int32.ofNat n) m := by
  rw [lz_in, lz_lit (by omega)]; omega
theorem nq_eq {a b : Nat} (ha : a < 2147483648) (hb : b < 2147483648) : Int32.ofNat a = Int32.ofNat b ↔ a = b := by
  constructor
  · intro h
    have := congrArg Int32.toInt h
    rw [lz_lit ha, lz_lit hb] at this
    omega
  · intro h; rw [h]
theorem nq_pred {l : Nat} : Int32.ofNat (l + 1) - 1 = Int32.ofNat l := by
  rw [← lz_osucc]
  rw [Int32.add_sub_cancel]
theorem nq_at (p d : Nat) : Int32.ofNat p * 20 + Int32.ofNat d = Int32.ofNat (20 * p + d) := by
  rw [show (20 : Int32) = Int32.ofNat 20 from rfl, ← Int32.ofNat_mul, ← Int32.ofNat_add, Nat.mul_comm]
/-- the frame that belongs to a depth -/
def nf (p d : Nat) : Int32 := if d = 0 then -1 else Int32.ofNat (20 * p + (d - 1))
theorem p129 {D n p d : Nat} {σ : lj_S} {o : lj_O} (h : lj_run lc_P D n 129 [.ref 8] σ = some o) (h7 : σ.1 8 7 = Int32.ofNat p) (hp : p < 26) (h90 : σ.1 90 p = Int32.ofNat d) (hd : d ≤ 20) : o.2.1 8 34 = nf p d ∧ ∀ k i, zpC k i = true → ¬ (k = 8 ∧ i = 34) → o.2.1 k i = σ.1 k i := by
  have h := run_R h
  have i : lj_in (σ.1 8 7) 26 := by rw [h7]; exact nq_in hp (by decide)
  have e : (σ.1 8 7).toNatClampNeg = p := by rw [h7]; exact lz_onat (by omega)
  have e90 : σ.1 90 (σ.1 8 7).toNatClampNeg = Int32.ofNat d := by rw [e]; exact h90
  rw [rc_129, kc_129_0, if_pos i] at h
  unfold nf
  have fin : ∀ x y : Int32, o = (.inl none, lj_put (lj_put σ 8 34 x) 8 35 y) → o.2.1 8 34 = x ∧ ∀ k i, zpC k i = true → ¬ (k = 8 ∧ i = 34) → o.2.1 k i = σ.1 k i := by
    intro x y ho
    rw [ho]
    refine ⟨?_, fun k i q ne => ?_⟩
    · show (lj_put (lj_put σ 8 34 x) 8 35 y).1 8 34 = x
      rw [lj_put_1, if_neg (by omega), lj_put_1, if_pos ⟨rfl, rfl⟩]
    · show (lj_put (lj_put σ 8 34 x) 8 35 y).1 k i = _
      rw [lj_put_1, if_neg (fun z => by rw [z.1, z.2] at q; cases q), lj_put_1, if_neg ne]
  by_cases z : d = 0
  · rw [if_pos (by rw [e90, z]; rfl), kc_129_36, if_neg (by decide), kc_129_60] at h
    rw [if_pos z]
    exact fin _ _ (Option.some.inj h).symm
  · have ne : Int32.ofNat d ≠ 0 := fun y => z ((nq_eq (b := 0) (by omega) (by omega)).1 y)
    obtain ⟨l, rfl⟩ : ∃ l, d = l + 1 := ⟨d - 1, by omega⟩
    have ge : (0 : Int32) ≤ Int32.ofNat (20 * p + l) := by rw [lz_le, lz_lit (by omega)]; show (0 : Int) ≤ _; omega
    rw [if_neg (by rw [e90]; exact ne), if_pos i, e90, h7, nq_pred, rc_130, kc_130_0] at h
    have h : lj_D lc_P lc_M129 36 [.ref 8] [.int (Int32.ofNat p * 20 + Int32.ofNat l), .ref 8] σ = some o := h
    rw [nq_at, kc_129_36, if_pos ge, if_pos (nq_in (by omega) (by decide)), kc_129_60] at h
    rw [if_neg z]
    exact fin _ _ (Option.some.inj h).symm
theorem p149 {D n p d : Nat} {σ : lj_S} {o : lj_O} (h : lj_run lc_P D n 149 [.ref 8] σ = some o) {v : Option Value} (hv : o.1 = .inl v) (h7 : σ.1 8 7 = Int32.ofNat p) (hp : p < 26) (h90 : σ.1 90 p = Int32.ofNat (d + 1)) (hd : d < 20) : o.2.1 90 p = Int32.ofNat d ∧ o.2.1 8 34 = nf p d ∧ ∀ k i, zpC k i = true → ¬ (k = 8 ∧ i = 34) → ¬ (k = 90 ∧ i = p) → o.2.1 k i = σ.1 k i := by
  have tail : ∀ (D n : Nat) (σ1 : lj_S), zS σ σ1 → lj_exec lc_P.1 lc_P.2.1 (lj_run lc_P D n) lc_M149 n 25 [.ref 8] [] σ1 = some o → o.2.1 90 p = Int32.ofNat d ∧ o.2.1 8 34 = nf p d ∧ ∀ k i, zpC k i = true → ¬ (k = 8 ∧ i = 34) → ¬ (k = 90 ∧ i = p) → o.2.1 k i = σ.1 k i := by
    intro D n σ1 hs h
    cases n with
    | zero => cases h
    | succ n =>
      have g7 : σ1.1 8 7 = Int32.ofNat p := (hs 8 7 rfl).trans h7
      have g90 : σ1.1 90 p = Int32.ofNat (d + 1) := (hs 90 p rfl).trans h90
      have i : lj_in (σ1.1 8 7) 26 := by rw [g7]; exact nq_in hp (by decide)
      have e : (σ1.1 8 7).toNatClampNeg = p := by rw [g7]; exact lz_onat (by omega)
      rw [xq, kg_149_25] at h
      split at h
      · rw [e, g90, nq_pred] at h
        cases hx : lj_run lc_P D (n + 1) 129 [.ref 8] (lj_put (lj_put σ1 8 8 (σ1.1 95 (σ1.1 8 34).toNatClampNeg)) 90 p (Int32.ofNat d)) with
        | none => rw [hx] at h; cases h
        | some q =>
          have q1 := p129 (p := p) (d := d) hx (by rw [lj_put_1, if_neg (by omega), lj_put_1, if_neg (by omega)]; exact g7) hp (by rw [lj_put_1, if_pos ⟨rfl, rfl⟩]) (by omega)
          rw [hx] at h
          obtain ⟨qa, qb⟩ := q
          have ho : o.2 = qb := by
            cases qa with
            | inr x => cases h; rfl
            | inl v =>
              cases v with
              | none => cases h; rfl
              | some v => cases h
          rw [ho]
          refine ⟨?_, q1.1, fun k i' z n1 n2 => ?_⟩
          · rw [q1.2 90 p rfl (by omega), lj_put_1, if_pos ⟨rfl, rfl⟩]
          · rw [q1.2 k i' z n1, lj_put_1, if_neg n2, lj_put_1, if_neg (fun y => by rw [y.1, y.2] at z; cases z)]
            exact hs k i' z
      · cases h
  cases D with
  | zero => cases h
  | succ D =>
    have hP : lc_P.2.2.2 149 = some (1, lc_M149) := rfl
    rw [lc_run_eq hP] at h
    have h : lj_exec lc_P.1 lc_P.2.1 (lj_run lc_P D n) lc_M149 n 0 [.ref 8] [] σ = some o := h
    cases n with
    | zero => cases h
    | succ n =>
      rw [xq, kg_149_0] at h
      split at h
      · split at h
        · cases hx : lj_run lc_P D (n + 1) 150 [.ref 8, .int (σ.1 95 (σ.1 8 34).toNatClampNeg)] σ with
          | none => rw [hx] at h; cases h
          | some q =>
            rw [hx] at h
            obtain ⟨qa, qb⟩ := q
            cases qa with
            | inr x => cases h; cases hv
            | inl v =>
              cases v with
              | none =>
                have := (wz (id := 150) (r := 9) rfl ⟨_, rfl⟩ hx rfl).1
                exact tail (D) (n + 1) qb this (by
                  have h : lj_exec lc_P.1 lc_P.2.1 (lj_run lc_P D (n + 1)) lc_M149 n 25 [.ref 8] [] qb = some o := h
                  exact lj_exec_mono (fun _ _ _ => lj_le.rf) n (n + 1) (by omega) _ _ _ _ o h)
              | some v => cases h
        · exact tail D (n + 1) σ zS.rf (lj_exec_mono (fun _ _ _ => lj_le.rf) n (n + 1) (by omega) _ _ _ _ o h)
      · cases h
theorem p132 {D n p d : Nat} {s a l : Int32} {σ : lj_S} {o : lj_O} (h : lj_run lc_P D n 132 [.ref 8, .int s, .int a, .int l] σ = some o) {v : Option Value} (hv : o.1 = .inl v) (h7 : σ.1 8 7 = Int32.ofNat p) (hp : p < 26) (h90 : σ.1 90 p = Int32.ofNat d) (hd : d ≤ 20) :
    d < 20 ∧ o.2.1 90 p = Int32.ofNat (d + 1) ∧ o.2.1 8 34 = Int32.ofNat (20 * p + d) ∧ o.2.1 91 (20 * p + d) = s ∧ o.2.1 98 (20 * p + d) = a ∧ (∀ k i, zpC k i = true → ¬ (k = 8 ∧ i = 34) → ¬ (k = 90 ∧ i = p) → ¬ ((k = 91 ∨ k = 98) ∧ i = 20 * p + d) → o.2.1 k i = σ.1 k i) ∧ o.2.1 105 0 = σ.1 105 0 := by
  have h := run_R h
  have i : lj_in (σ.1 8 7) 26 := by rw [h7]; exact nq_in hp (by decide)
  have e : (σ.1 8 7).toNatClampNeg = p := by rw [h7]; exact lz_onat (by omega)
  rw [rc_132, kc_132_0, if_pos i] at h
  simp only [e, h90] at h
  by_cases z : d = 20
  · exfalso
    rw [if_pos (by rw [z]; rfl)] at h
    unfold lj_br at h
    split at h
    · rename_i y σ1 e1
      dsimp only at h
      cases hb : Nat.blt y 2000 with
      | false => rw [hb] at h; cases h
      | true => rw [hb] at h; cases h; cases hv
    · cases h; cases hv
    · cases h
  · have n20 : ¬ Int32.ofNat d = 20 := fun y => z ((nq_eq (b := 20) (by omega) (by omega)).1 y)
    rw [if_neg n20, if_pos i, rc_130, kc_130_0] at h
    simp only [h7] at h
    unfold lj_bi at h
    dsimp only at h
    have i2 : lj_in (Int32.ofNat (20 * p + d)) 520 := nq_in (by omega) (by decide)
    have i7 : lj_in (Int32.ofNat p) 26 := nq_in hp (by decide)
    simp only [nq_at, h7, if_pos i7, if_pos i2, lz_onat (show p < 2147483648 by omega), h90, lz_osucc, lz_onat (show 20 * p + d < 2147483648 by omega)] at h
    cases h
    refine ⟨by omega, ?_, ?_, ?_, ?_, fun k i q n1 n2 n3 => ?_, ?_⟩
    · show (lj_put _ 95 _ _).1 90 p = _
      rw [lj_put_1, if_neg (by omega), lj_put_1, if_neg (by omega), lj_put_1, if_neg (by omega), lj_put_1, if_neg (by omega), lj_put_1, if_pos ⟨rfl, rfl⟩]
    · show (lj_put _ 95 _ _).1 8 34 = _
      rw [lj_put_1, if_neg (by omega), lj_put_1, if_neg (by omega), lj_put_1, if_neg (by omega), lj_put_1, if_neg (by omega), lj_put_1, if_neg (by omega), lj_put_1, if_pos ⟨rfl, rfl⟩]
    · show (lj_put _ 95 _ _).1 91 _ = _
      rw [lj_put_1, if_neg (by omega), lj_put_1, if_neg (by omega), lj_put_1, if_neg (by omega), lj_put_1, if_pos ⟨rfl, rfl⟩]
    · show (lj_put _ 95 _ _).1 98 _ = _
      rw [lj_put_1, if_neg (by omega), lj_put_1, if_neg (by omega), lj_put_1, if_pos ⟨rfl, rfl⟩]
    · show (lj_put _ 95 _ _).1 k i = _
      have hq := (zpC_iff k i).1 q
      rw [lj_put_1, if_neg (by omega), lj_put_1, if_neg (by omega), lj_put_1, if_neg (by omega), lj_put_1, if_neg (by omega), lj_put_1, if_neg n2, lj_put_1, if_neg n1]
    · show (lj_put _ 95 _ _).1 105 0 = _
      rw [lj_put_1, if_neg (by omega), lj_put_1, if_neg (by omega), lj_put_1, if_neg (by omega), lj_put_1, if_neg (by omega), lj_put_1, if_neg (by omega), lj_put_1, if_neg (by omega)]
theorem p158 {D n : Nat} {k : Int32} {x : Int64} {σ : lj_S} {o : lj_O} (h : lj_run lc_P D n 158 [.ref 8, .int k, .long x] σ = some o) {v : Option Value} (hv : o.1 = .inl v) : zS σ o.2 ∧ o.2.1 105 0 = k := by
  refine ⟨wzC (id := 158) (r := 9) rfl ⟨_, rfl⟩ h hv, ?_⟩
  have key : ∀ (m : Nat) (y : Int32) (σ : lj_S) (call : lj_Y), lj_exec lc_P.1 lc_P.2.1 call lc_M158 m 6 [.ref 8, .int k, .long x, .retAddr 0, .int y] [] σ = some o → o.2.1 105 0 = k := by
    intro m
    induction m with
    | zero => intro y σ call h; cases h
    | succ m ih =>
      intro y σ call h
      rw [xq, kg_158_6] at h
      split at h
      · rw [if_pos (by decide), if_pos (by decide)] at h
        cases h
        show (lj_put (lj_putL (lj_put σ 105 _ k) 106 _ x) 8 38 _).1 105 0 = k
        rw [lj_put_1, if_neg (by omega), lj_putL_1, lj_put_1, if_pos ⟨rfl, rfl⟩]
      · by_cases c1 : lj_in (y - 1) 128
        · by_cases c2 : lj_in y 128
          · rw [if_pos c1, if_pos c2, if_pos c1, if_pos c2] at h
            exact ih _ _ _ h
          · rw [if_pos c1, if_neg c2] at h; cases h
        · rw [if_neg c1] at h; cases h
  cases D with
  | zero => cases h
  | succ D =>
    rw [lc_run_eq (show lc_P.2.2.2 158 = some (5, lc_M158) from rfl)] at h
    have h : lj_exec lc_P.1 lc_P.2.1 (lj_run lc_P D n) lc_M158 n 0 [.ref 8, .int k, .long x, .retAddr 0, .retAddr 0] [] σ = some o := h
    cases n with
    | zero => cases h
    | succ n =>
      rw [xq, kg_158_0] at h
      exact key _ _ _ _ h
theorem p154 {D n : Nat} {k : Int32} {x : Int64} {σ : lj_S} {o : lj_O} (h : lj_run lc_P D n 154 [.ref 8, .int k, .long x] σ = some o) {v : Option Value} (hv : o.1 = .inl v) (h38 : σ.1 8 38 = 0) : zS σ o.2 ∧ o.2.1 105 0 = k := by
  refine ⟨wzC (id := 154) (r := 9) rfl ⟨_, rfl⟩ h hv, ?_⟩
  have h := run_R h
  rw [rc_154, kc_154_0, h38, if_pos (by decide), if_pos (by decide)] at h
  cases h
  show (lj_put (lj_putL (lj_put σ 105 _ k) 106 _ x) 8 38 _).1 105 0 = k
  rw [lj_put_1, if_neg (by omega), lj_putL_1, lj_put_1, if_pos ⟨rfl, by decide⟩]
theorem p163 {D n : Nat} {σ σ1 : lj_S} {y : Int32} (h : lj_run lc_P D n 163 [.ref 8, .int 0] σ = some (.inl (some (.int y)), σ1)) : (y = 0 ∨ y = σ.1 105 0) ∧ σ1 = σ := by
  have h := run_R h
  rw [rc_163, kc_163_0] at h
  split at h
  · rw [kc_163_18] at h; cases h; exact ⟨Or.inl rfl, rfl⟩
  · rw [if_pos (by decide), kc_163_18] at h; cases h; exact ⟨Or.inr rfl, rfl⟩
theorem p168 {D n : Nat} {g a b c : Int32} {σ : lj_S} {o : lj_O} (h : lj_run lc_P D n 168 [.ref 8, .int g, .int a, .int b, .int c] σ = some o) {v : Option Value} (hv : o.1 = .inl v) : g ≠ 0 := by
  have h := run_R h
  intro g0
  rw [rc_168, kc_168_0, if_pos g0] at h
  unfold lj_br at h
  split at h
  · rename_i y σ1 e1
    dsimp only at h
    cases hb : Nat.blt y 2000 with
    | false => rw [hb] at h; cases h
    | true => rw [hb] at h; cases h; cases hv
  · cases h; cases hv
  · cases h
theorem p118 {D n : Nat} {k m : Int32} {x : Int64} {σ σ1 : lj_S} {y : Int32} (h : lj_run lc_P D n 118 [.ref 7, .int k, .long x, .int m] σ = some (.inl (some (.int y)), σ1)) (hy : y ≠ 0) : k = 4 := by
  have h := run_R h
  rw [rc_118, kc_118_0] at h
  by_cases hk : k = 4
  · exact hk
  · rw [if_neg hk, kc_118_15] at h
    cases h
    exact absurd rfl hy
