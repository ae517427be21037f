/-! the gathering: dropping in both -/
def gPC (k j : Nat) : Bool := k == 111 || k == 112 || k == 113 || k == 65 || k == 104 || k == 110 || (k == 8 && (j == 58 || j == 60 || j == 33 || j == 53)) || (k == 7 && (j == 27 || j == 28))
def gPM (k j : Nat) : Bool := k == 96 || k == 97 || k == 98 || k == 99 || k == 100 || k == 42 || k == 95 || (k == 0 && (j == 157 || j == 90 || j == 91 || j == 152))
def gQC (k j : Nat) : Bool := k == 68 || k == 69 || (k == 7 && (j == 27 || j == 28))
def gQM (k j : Nat) : Bool := k == 47 || (k == 0 && (j == 90 || j == 91))
theorem gDC_P {k j : Nat} (h : gDC k j = false) : gPC k j = false := by unfold gDC at h; unfold gPC; simp at h ⊢; omega
theorem gDM_P {k j : Nat} (h : gDM k j = false) : gPM k j = false := by unfold gDM at h; unfold gPM; simp at h ⊢; omega
theorem gDC_Q {k j : Nat} (h : gDC k j = false) : gQC k j = false := by unfold gDC at h; unfold gQC; simp at h ⊢; omega
theorem gDM_Q {k j : Nat} (h : gDM k j = false) : gQM k j = false := by unfold gDM at h; unfold gQM; simp at h ⊢; omega
theorem tw.cp {σ τ σ' τ' : lj_S} {n : Nat} {P B : Nat → List Nat} {Fr : List Nat} {P' B' : Nat → List Nat} {Fr' : List Nat} (h : tw σ τ n P B Fr P' B' Fr') (f : lf gPC σ σ') (g : lf gPM τ τ') : tw σ' τ' n P B Fr P' B' Fr' := by
  have vC : ∀ k j, vqC k j = true → σ'.1 k j = σ.1 k j := fun k j q => (f k j (by unfold vqC at q; unfold gPC; simp at q ⊢; omega)).1
  have vM : ∀ k j, vqM k j = true → τ'.1 k j = τ.1 k j := fun k j q => (g k j (by unfold vqM at q; unfold gPM; simp at q ⊢; omega)).1
  refine ⟨h.1.cg (fun k j q => (f k j (by unfold sqC at q; unfold gPC; simp at q ⊢; omega)).1) (fun k j q => (g k j (by unfold sqM at q; unfold gPM; simp at q ⊢; omega)).1), ?_, h.2.2.1.cg (fun k j q => f k j (by unfold hqC vqC at q; unfold gPC; simp at q ⊢; omega)) (fun k j q => g k j (by unfold hqM vqM at q; unfold gPM; simp at q ⊢; omega)), h.2.2.2.cg (fun k j q => (f k j (by unfold gPC; simp; omega)).1) (fun k j q => (g k j (by unfold gPM; simp; omega)).1)⟩
  rw [(f 8 1 rfl).1]
  exact h.2.1.up (sG_eq vC vM)
theorem md_gP {σ σ' : lj_S} (f : lf gPC σ σ') (P : Nat → List Nat) (t : Nat) : mdX σ' P t = mdX σ P t := mdX_cg (fun k j z => f k j (by unfold gPC; simp; omega)) t
theorem cm_drp {σ0 τ0 σ τ : lj_S} {n np p : Nat} {r : List Nat} {FP : Nat → List kF} {ρ : Nat → Nat} {P B : Nat → List Nat} {Fr : List Nat} {P' B' : Nat → List Nat} {Fr' : List Nat} (h : gw σ0 τ0 n np p r FP ρ P B Fr P' B' Fr' σ τ) (b : Bool) (hST : ∀ x, x ≠ 0 → flg n 96 τ x = flg n 111 σ x) : ∃ σ' τ', lj_R lc_P 186 [.ref 8, .int (bI b)] σ = some (.inl none, σ') ∧ lj_R lm_P 217 [.ref 0, .int (bI b)] τ = some (.inl none, τ') ∧ gw σ0 τ0 n np p r FP ρ P B Fr P' B' Fr' σ' τ' ∧ lf gQC σ σ' ∧ lf gQM τ τ' ∧ (∀ q, σ'.1 68 q ≠ 0 → (σ'.1 68 q = σ.1 68 q ∧ σ'.2 69 q = σ.2 69 q) ∧ dcB σ P (n + 1) b (flg n 111 σ) q = false) ∧ (∀ q, τ'.1 47 q ≠ 0 → τ.1 47 q ≠ 0) ∧ ∀ t, mdX σ' P t = mdX σ P t := by
  obtain ⟨σ', a1, a2⟩ := c_drop1 h.2.1 b
  obtain ⟨τ', b1, b2⟩ := m_drop1 h.2.1 b
  rw [dmB_S hST] at b2
  have ht : tw σ' τ' n P B Fr P' B' Fr' := (tw_dp h.2.1 (Nat.le_refl _) b (flg n 111 σ)).cg (a2.mo (fun k j z => by unfold gKC at z; unfold fdK; simp at z ⊢; omega)) (b2.mo (fun k j z => by unfold gKM at z; unfold fdN; simp at z ⊢; omega))
  have lC : lf gQC σ σ' := fun k j z => by
    unfold gQC at z
    simp at z
    have w := a2 k j (by unfold fdK; simp; omega)
    have w2 := dpC_o σ (dcB σ P (n + 1) b (flg n 111 σ)) (k := k) (j := j) (by omega)
    exact ⟨w.1.trans w2.1, w.2.trans w2.2⟩
  have lM : lf gQM τ τ' := fun k j z => by
    unfold gQM at z
    simp at z
    have w := b2 k j (by unfold fdN; simp; omega)
    have w2 := dpM_o τ (dmB σ τ P P' (n + 1) b (flg n 111 σ)) (k := k) (j := j) (by omega)
    exact ⟨w.1.trans w2.1, w.2.trans w2.2⟩
  refine ⟨σ', τ', a1, b1, h.up (lC.mo (fun _ _ q => gDC_Q q)) (lM.mo (fun _ _ q => gDM_Q q)) ht, lC, lM, fun q z => ?_, fun q z => ?_, fun t => ?_⟩
  · rw [(a2 68 q rfl).1, dpC_1] at z
    have d : dcB σ P (n + 1) b (flg n 111 σ) q = false := by
      cases e : dcB σ P (n + 1) b (flg n 111 σ) q with
      | false => rfl
      | true => rw [e, if_pos ⟨rfl, rfl⟩] at z; exact absurd rfl z
    refine ⟨⟨?_, ?_⟩, d⟩
    · rw [(a2 68 q rfl).1, dpC_1, d, if_neg (fun y => by cases y.2)]
    · rw [(a2 69 q rfl).2, dpC_2, d, if_neg (fun y => by cases y.2)]
  · rw [(b2 47 q rfl).1, dpM_1] at z
    intro y
    rw [y] at z
    exact z (by split <;> rfl)
  · rw [mdX_cg (σ := dpC σ (dcB σ P (n + 1) b (flg n 111 σ))) (σ' := σ') (fun k j z => a2 k j (by unfold fdK; simp; omega)) t]
    exact md_dp (fun q hq k3 => dc_k h.2.1.2.2.1 q hq k3) t
/-- what is left of reached tables leads to what is reached -/
theorem kpt_ok {σ0 τ0 σ τ σ' : lj_S} {n np p : Nat} {r : List Nat} {FP : Nat → List kF} {ρ : Nat → Nat} {P B : Nat → List Nat} {Fr : List Nat} {P' B' : Nat → List Nat} {Fr' : List Nat} (h : gw σ0 τ0 n np p r FP ρ P B Fr P' B' Fr' σ τ) (f : lf gQC σ σ') (h68 : ∀ q, σ'.1 68 q ≠ 0 → (σ'.1 68 q = σ.1 68 q ∧ σ'.2 69 q = σ.2 69 q) ∧ dcB σ P (n + 1) true (flg n 111 σ) q = false) (cl1 : ∀ o x, flg n 111 σ o = true → edX σ0 σ τ p FP P o x → flg n 111 σ x = true) (cl2 : ∀ t k v, flg n 111 σ t = true → flg n 111 σ k = true → epX σ P t k v → flg n 111 σ v = true) {t : Nat} (ht : flg n 111 σ t = true) (k4 : σ.1 57 t = 4) {q : Nat} (hq : q ∈ P t) (z : σ'.1 68 q ≠ 0) : (ov (kyC σ' q) ≠ 0 → flg n 111 σ (ov (kyC σ' q)) = true) ∧ (ov (vlC σ' q) ≠ 0 → flg n 111 σ (ov (vlC σ' q)) = true) := by
  obtain ⟨⟨e1, e2⟩, d⟩ := h68 q z
  have z1 : σ.1 68 q ≠ 0 := by rw [← e1]; exact z
  have ek : kyC σ' q = kyC σ q := by
    show ((σ'.1 66 q, σ'.2 67 q) : vT) = (σ.1 66 q, σ.2 67 q)
    rw [(f 66 q rfl).1, (f 67 q rfl).2]
  have ev : vlC σ' q = vlC σ q := by
    show ((σ'.1 68 q, σ'.2 69 q) : vT) = (σ.1 68 q, σ.2 69 q)
    rw [e1, e2]
  rw [ek, ev]
  have tn : t ≤ n := by
    unfold flg at ht
    simp only [Bool.and_eq_true, decide_eq_true_iff] at ht
    exact ht.2
  have md4 := mdX_le σ P t
  have ed : ∀ x, prE (mdX σ P t) (fun _ => false) (ov (kyC σ q)) (ov (vlC σ q)) x → flg n 111 σ x = true := fun x hx => cl1 t x ht (Or.inl ⟨k4, Or.inr ⟨q, hq, z1, hx⟩⟩)
  have nd : t = 0 ∨ lsB true (mdX σ P t) (flg n 111 σ) (ov (kyC σ q)) (ov (vlC σ q)) = false := by
    by_cases t0 : t = 0
    · exact Or.inl t0
    · right
      cases e : lsB true (mdX σ P t) (flg n 111 σ) (ov (kyC σ q)) (ov (vlC σ q)) with
      | false => rfl
      | true =>
        rw [(dc_in h.2.1.2.2.1 tn hq).2 ⟨by omega, by omega, k4, z1, e⟩] at d
        cases d
  have nv : 2 ≤ mdX σ P t → ov (vlC σ q) ≠ 0 → flg n 111 σ (ov (vlC σ q)) = true := fun m2 v0 => by
    rcases nd with w | w
    · rw [w, mdX_0 h.2.1.2.2.2] at m2
      omega
    · unfold lsB at w
      simp only [Bool.or_eq_false_iff, Bool.and_eq_false_imp, decide_eq_true_iff] at w
      have := w.1 m2 v0
      simpa using this
  have nk : mdX σ P t % 2 = 1 → ov (kyC σ q) ≠ 0 → flg n 111 σ (ov (kyC σ q)) = true := fun m2 v0 => by
    rcases nd with w | w
    · rw [w, mdX_0 h.2.1.2.2.2] at m2
      omega
    · unfold lsB at w
      simp only [Bool.or_eq_false_iff, Bool.and_eq_false_imp, decide_eq_true_iff] at w
      have := w.2 trivial m2 v0
      simpa using this
  have kk : ov (kyC σ q) ≠ 0 → flg n 111 σ (ov (kyC σ q)) = true := fun k0 => by
    by_cases m : mdX σ P t % 2 = 0
    · exact ed _ ⟨k0, Or.inl ⟨m, rfl⟩⟩
    · exact nk (by omega) k0
  refine ⟨kk, fun v0 => ?_⟩
  by_cases m : 2 ≤ mdX σ P t
  · exact nv m v0
  · by_cases m0 : mdX σ P t = 0
    · exact ed _ ⟨v0, Or.inr ⟨Or.inl m0, rfl⟩⟩
    · have m1 : mdX σ P t = 1 := by omega
      by_cases k0 : ov (kyC σ q) = 0
      · exact ed _ ⟨v0, Or.inr ⟨Or.inr ⟨m1, Or.inl k0⟩, rfl⟩⟩
      · exact cl2 t _ _ ht (kk k0) ⟨k4, m1, k0, v0, q, hq, z1, rfl, rfl⟩
