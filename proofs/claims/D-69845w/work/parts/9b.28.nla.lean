/-! last acts: all that is owed of them -/
theorem nla_all {σ0 τ0 : lj_S} {M : Nat} (D : DLV σ0 τ0 M) (C : ∀ M', M' + 5002 ≤ M → CAL σ0 τ0 M' 101) {A : List Nat} : ∀ (T : Nat) (n np p : Nat) (r : List Nat) (FP : Nat → List kF) (ρ : Nat → Nat) (MO LA : List Nat) (σ τ : lj_S) (F : kF) (L : List kF), thM FP (p :: r) MO LA < T → MB σ0 τ0 n np p r FP ρ A MO LA σ τ → FP p = F :: L → kS F = 2 → wkR FP (p :: r) A σ → ryR σ τ → σ.1 102 (20 * p + L.length) = 0 → thM FP (p :: r) MO LA ≤ M → thM FP (p :: r) MO LA ≤ TH → LGo σ0 τ0 p r FP A MO LA σ τ L
  | 0, n, np, p, r, FP, ρ, MO, LA, σ, τ, F, L, hk, _, _, _, _, _, _, _, _ => absurd hk (Nat.not_lt_zero _)
  | T + 1, n, np, p, r, FP, ρ, MO, LA, σ, τ, F, L, hk, h, hF, hS, hwk, ry, w0, hM, hT => by
    have hpr : p ∉ r := (List.nodup_cons.1 h.2.2.2.2.2.2.1.2.2.2.2.1).1
    have td := thM_d hpr hF MO LA
    refine nla_step h hF hS hwk ry w0 hT (fun σ2 τ2 G G' as m d a w l => (D n np p r (fpT FP p L) ρ A MO LA σ2 τ2 G G' as m d (by rw [fpT_o]; exact a) w l (by omega) (by omega)).pre (fun _ => rfl) (fun _ _ => rfl) (fun t y => by show t ≤ _; omega)) (fun n' np' p' r' FP' ρ' MO' LA' σ' τ' F' L' m f s w y z lt => nla_all D C T n' np' p' r' FP' ρ' MO' LA' σ' τ' F' L' (by omega) m f s w y z (by omega) (by omega)) (fun ne => ?_)
    have x := thM_la FP (p :: r) MO LA
    exact ⟨M - 5002, C (M - 5002) (by omega), by omega⟩
theorem gL_lt {p : Nat} : ∀ {L : List kF} {k : Nat}, (20 * p + k) ∈ gL p L → L.length ≤ k → False
  | [], _, h, _ => by cases h
  | F :: L, k, h, hl => by
    rw [List.length_cons] at hl
    unfold gL at h
    split at h
    · rcases List.mem_cons.1 h with z | z
      · omega
      · exact gL_lt z (by omega)
    · exact gL_lt h (by omega)
theorem gL_rg {p x : Nat} : ∀ {L : List kF}, x ∈ gL p L → 20 * p ≤ x ∧ x < 20 * p + L.length
  | [], h => by cases h
  | F :: L, h => by
    rw [List.length_cons]
    unfold gL at h
    split at h
    · rcases List.mem_cons.1 h with z | z
      · omega
      · have := gL_rg z
        omega
    · have := gL_rg h
      omega
theorem gL_nd {p : Nat} : ∀ L : List kF, (gL p L).Nodup
  | [] => List.nodup_nil
  | F :: L => by
    unfold gL
    split
    · exact List.nodup_cons.2 ⟨fun z => by
        have := gL_rg z
        omega, gL_nd L⟩
    · exact gL_nd L
theorem gX_rg {FP : Nat → List kF} {x : Nat} : ∀ {r : List Nat}, x ∈ gX FP r → ∃ q ∈ r, 20 * q ≤ x ∧ x < 20 * q + (FP q).length
  | [], h => by cases h
  | q :: r, h => by
    rcases List.mem_append.1 (show x ∈ gL q (FP q) ++ gX FP r from h) with z | z
    · exact ⟨q, List.mem_cons_self, gL_rg z⟩
    · obtain ⟨q', a, b⟩ := gX_rg z
      exact ⟨q', List.mem_cons_of_mem _ a, b⟩
theorem gX_nd' {FP : Nat → List kF} : ∀ {r : List Nat}, r.Nodup → (∀ q ∈ r, (FP q).length ≤ 20) → (gX FP r).Nodup
  | [], _, _ => List.nodup_nil
  | q :: r, h, w => by
    have nd := List.nodup_cons.1 h
    show (gL q (FP q) ++ gX FP r).Nodup
    refine List.nodup_append.2 ⟨gL_nd _, gX_nd' nd.2 (fun q hq => w q (List.mem_cons_of_mem _ hq)), fun a ha b hb e => ?_⟩
    obtain ⟨q', h1, h2⟩ := gX_rg hb
    have h3 := gL_rg ha
    have h4 := w q List.mem_cons_self
    have h5 := w q' (List.mem_cons_of_mem _ h1)
    have : q' = q := by omega
    exact nd.1 (by rw [← this]; exact h1)
theorem gX_nd {σ0 τ0 σ τ : lj_S} {n np p : Nat} {r : List Nat} {FP : Nat → List kF} {ρ : Nat → Nat} {A MO LA : List Nat} (h : MB σ0 τ0 n np p r FP ρ A MO LA σ τ) : (gX FP (p :: r)).Nodup := by
  have h7 := h.2.2.2.2.2.2.1
  refine gX_nd' h7.2.2.2.2.1 (fun q hq => ?_)
  have qn := h7.2.2.2.2.2.1 q hq
  have k : τ.1 58 q ≠ 4 := by
    rcases List.mem_cons.1 hq with z | z
    · rw [z, h7.2.2.1.2]; decide
    · rw [(chn_3 h7.2.2.2.1 z).2]; decide
  obtain ⟨_, _, _, pa⟩ := h.2.2.2.2.2.2.2.1 q qn k
  exact pa.2.1.1
theorem nla_of {σ0 τ0 : lj_S} (hs : stF σ0 τ0) {M : Nat} (IH : ∀ M', M' < M → DLV σ0 τ0 M') (C : ∀ M', M' + 5002 ≤ M → CAL σ0 τ0 M' 101) : ∀ k, NLA σ0 τ0 M k
  | 0 => fun n np p r FP ρ A MO LA σ τ F L _ _ _ _ _ _ hk _ _ => by
    unfold frT at hk
    omega
  | k + 1 => fun n np p r FP ρ A MO LA σ τ F L h hF hS hwk ry ht hk hM hT => by
    have h7 := h.2.2.2.2.2.2.1
    have hp : p ≤ np := h7.2.2.2.2.2.1 p List.mem_cons_self
    have np25 := h7.1.2.2
    have hpr : p ∉ r := (List.nodup_cons.1 h7.2.2.2.2.1).1
    have fh := h.2.2.2.2.2.2.2.2.1
    rw [hF] at fh
    obtain ⟨ce, me, mq, pa⟩ := h.2.2.2.2.2.2.2.1 p hp (by rw [h7.2.2.1.2]; decide)
    have p2 := pa.2.1.1
    rw [hF, List.length_cons] at p2
    have i34 : lj_in (σ.1 8 34) 520 := by rw [fh.1]; exact ofN_in (by omega) (by omega)
    have n34 : (σ.1 8 34).toNatClampNeg = (20 * p + L.length) := by rw [fh.1]; exact lz_onat (by omega)
    have gx : gX FP (p :: r) = (20 * p + L.length) :: (gL p L ++ gX FP r) := by
      show gL p (FP p) ++ _ = _
      rw [hF]
      show (if kS F = 2 then (20 * p + L.length) :: gL p L else gL p L) ++ _ = _
      rw [if_pos hS]
      rfl
    by_cases w0 : σ.1 102 (20 * p + L.length) = 0
    · have td := thM_d hpr hF MO LA
      have e4 : frT FP (p :: r) = 1 + frT (fpT FP p L) (p :: r) := by
        show (FP p).length + 1 + frT FP r = 1 + ((fpT FP p L p).length + 1 + frT (fpT FP p L) r)
        rw [hF, fpT_o, frT_o (fpT_ne FP hpr L), List.length_cons]
        omega
      have N := nla_of hs IH C k
      obtain ⟨τx, r1, r2⟩ := nla_step h hF hS hwk ry w0 hT (fun σ2 τ2 G G' as m d a w l => (dlv hs k N n np p r (fpT FP p L) ρ A MO LA σ2 τ2 G G' as (by omega) m d (by rw [fpT_o]; exact a) w l (by omega) (by omega)).pre (fun _ => rfl) (fun _ _ => rfl) (fun t y => by show t ≤ _; omega)) (fun n' np' p' r' FP' ρ' MO' LA' σ' τ' F' L' m f s w y z lt => nla_all (M := M - 1) (IH (M - 1) (by omega)) (fun M' hM' => C M' (by omega)) _ n' np' p' r' FP' ρ' MO' LA' σ' τ' F' L' (Nat.lt_succ_self _) m f s w y z (by omega) (by omega)) (fun ne => by
        have x := thM_la FP (p :: r) MO LA
        exact ⟨M - 5002, C (M - 5002) (by omega), by omega⟩) (.retAddr 0) (.retAddr 0) (.retAddr 0) (.retAddr 0)
      have stp : ∀ x, mRun x τ = mRun x τx := fun x => by
        have e37 := m_237 h hF hS
        unfold mRun
        rw [km_120_46, if_pos ry.2.1, if_neg (by rw [ht]; decide), if_neg (by rw [ht]; decide), if_neg (by rw [ht]; decide), if_neg (by rw [ht]; decide), e37, r1, bv_ok]
      rw [rc_153 _ (h.g3 hF hS), kc_153_0, if_pos i34, if_pos (by rw [n34]; exact w0), fh.1]
      exact r2.pre stp (fun _ _ => rfl) (fun _ y => y)
    · have fA : (20 * p + L.length) ∈ A := Classical.byContradiction (fun y => w0 (h.2.2.2.2.2.2.2.2.2.2.1.2.2.2.2.1 _ y))
      obtain ⟨A', hA'⟩ : ∃ A', A = (20 * p + L.length) :: A' := by
        have s1 := hwk.2.1
        rw [gx] at s1
        cases s1 with
        | cons _ y =>
          exfalso
          have nd := gX_nd h
          rw [gx] at nd
          exact (List.nodup_cons.1 nd).1 (y.subset fA)
        | cons_cons _ y => exact ⟨_, rfl⟩
      have v1 : vp_nar .boolean 1 = 1 := by decide
      have mb : MB σ0 τ0 n np p r FP ρ A MO LA (lj_put σ 103 (20 * p + L.length) 1) τ := h.gz (lf_put (lf_rf _ _) _ _ _ rfl) (lf_rf _ _) (h.2.2.2.2.2.2.2.2.2.2.1.w (fun k j z => by rw [lj_put_1, if_neg (by omega)]) (fun _ _ _ => rfl) (fun _ _ => rfl) (fun i hi => by rw [lj_put_1, if_neg (by omega)]; exact h.2.2.2.2.2.2.2.2.2.2.1.2.2.2.2.1 i hi) (by rw [lj_put_1, if_neg (by omega)]; exact h.2.2.2.2.2.2.2.2.2.2.1.2.2.2.2.2))
      have nA : ∀ i ∈ A', i ≠ (20 * p + L.length) := fun i hi z => by
        have s1 := hwk.2.1
        rw [gx, hA'] at s1
        have nd := gX_nd h
        rw [gx] at nd
        exact (List.nodup_cons.1 nd).1 (by
          have := (List.cons_sublist_cons.1 s1).subset hi
          rw [z] at this
          exact this)
      refine Or.inr (Or.inr (Or.inr ⟨lj_put σ 103 (20 * p + L.length) 1, τ, n, np, p, r, FP, ρ, MO, LA, F, L, A', ?_, fun _ => rfl, mb, hF, hS, hA', (by simp [lj_put_1, lj_putL_1]), fun i hi => by rw [lj_put_1, if_neg (fun z => nA i hi z.2)], ⟨by rw [lj_put_1, if_neg (by omega)]; exact ry.1, ry.2.1, ht, by rw [lj_put_1, if_neg (by omega)]; exact ry.2.2.1, ry.2.2.2⟩, Nat.le_refl _, ⟨fun i hi => by rw [lj_put_1, if_neg (by omega)]; exact hwk.1 i hi, hwk.2⟩⟩))
      rw [rc_153 _ (h.g3 hF hS), kc_153_0, if_pos i34, if_neg (by rw [n34]; exact w0), if_pos i34, v1, n34]
