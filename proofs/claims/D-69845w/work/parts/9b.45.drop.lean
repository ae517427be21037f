/-! the gathering: pairs that are lost are dropped -/
def dpC (σ : lj_S) (D : Nat → Bool) : lj_S := (fun k j => if k = 68 ∧ D j = true then 0 else σ.1 k j, fun k j => if k = 69 ∧ D j = true then 0 else σ.2 k j)
def dpM (τ : lj_S) (D : Nat → Bool) : lj_S := (fun k j => if k = 47 ∧ D j = true then 0 else τ.1 k j, τ.2)
theorem dpC_1 (σ : lj_S) (D : Nat → Bool) (k j : Nat) : (dpC σ D).1 k j = if k = 68 ∧ D j = true then 0 else σ.1 k j := rfl
theorem dpC_2 (σ : lj_S) (D : Nat → Bool) (k j : Nat) : (dpC σ D).2 k j = if k = 69 ∧ D j = true then 0 else σ.2 k j := rfl
theorem dpM_1 (τ : lj_S) (D : Nat → Bool) (k j : Nat) : (dpM τ D).1 k j = if k = 47 ∧ D j = true then 0 else τ.1 k j := rfl
theorem dpC_o (σ : lj_S) (D : Nat → Bool) {k j : Nat} (h : k ≠ 68 ∧ k ≠ 69) : (dpC σ D).1 k j = σ.1 k j ∧ (dpC σ D).2 k j = σ.2 k j := ⟨by rw [dpC_1, if_neg (fun y => h.1 y.1)], by rw [dpC_2, if_neg (fun y => h.2 y.1)]⟩
theorem dpM_o (τ : lj_S) (D : Nat → Bool) {k j : Nat} (h : k ≠ 47) : (dpM τ D).1 k j = τ.1 k j ∧ (dpM τ D).2 k j = τ.2 k j := ⟨by rw [dpM_1, if_neg (fun y => h y.1)], rfl⟩
/-- lost: by its value, or by its key -/
def lsB (b : Bool) (md : Nat) (S : Nat → Bool) (k v : Nat) : Bool := (decide (2 ≤ md) && (decide (v ≠ 0) && !S v)) || (b && (decide (md % 2 = 1) && (decide (k ≠ 0) && !S k)))
/-- places of tables below u that are dropped -/
def dcB (σ : lj_S) (P : Nat → List Nat) (u : Nat) (b : Bool) (S : Nat → Bool) (q : Nat) : Bool := decide (1 ≤ (lv σ 71 q).toNat ∧ (lv σ 71 q).toNat < u ∧ σ.1 57 (lv σ 71 q).toNat = 4 ∧ q ∈ P (lv σ 71 q).toNat ∧ σ.1 68 q ≠ 0) && lsB b (mdX σ P (lv σ 71 q).toNat) S (ov (kyC σ q)) (ov (vlC σ q))
def dmB (σ τ : lj_S) (P P' : Nat → List Nat) (u : Nat) (b : Bool) (S : Nat → Bool) (q : Nat) : Bool := decide (1 ≤ (lv τ 49 q).toNat ∧ (lv τ 49 q).toNat < u ∧ σ.1 57 (lv τ 49 q).toNat = 4 ∧ q ∈ P' (lv τ 49 q).toNat ∧ τ.1 47 q ≠ 0) && lsB b (mdX σ P (lv τ 49 q).toNat) S (ov (kyM τ q)) (ov (vlM τ q))
theorem dc_in {σ τ : lj_S} {n : Nat} {P B : Nat → List Nat} {Fr : List Nat} {P' B' : Nat → List Nat} {Fr' : List Nat} (h : hpX σ τ n P B Fr P' B' Fr') {t q : Nat} (ht : t ≤ n) (hq : q ∈ P t) {u : Nat} {b : Bool} {S : Nat → Bool} : dcB σ P u b S q = true ↔ 1 ≤ t ∧ t < u ∧ σ.1 57 t = 4 ∧ σ.1 68 q ≠ 0 ∧ lsB b (mdX σ P t) S (ov (kyC σ q)) (ov (vlC σ q)) = true := by
  have n2 := h.1.1
  have e : (lv σ 71 q).toNat = t := by
    unfold lv
    rw [(h.2.1.1.2.2 t ht q hq).2.1, lz_lit (by omega)]
    omega
  unfold dcB
  rw [e, Bool.and_eq_true, decide_eq_true_iff]
  constructor
  · rintro ⟨⟨w1, w2, w3, w4, w5⟩, w6⟩; exact ⟨w1, w2, w3, w5, w6⟩
  · rintro ⟨w1, w2, w3, w5, w6⟩; exact ⟨⟨w1, w2, w3, hq, w5⟩, w6⟩
theorem dm_in {σ τ : lj_S} {n : Nat} {P B : Nat → List Nat} {Fr : List Nat} {P' B' : Nat → List Nat} {Fr' : List Nat} (h : hpX σ τ n P B Fr P' B' Fr') {t q : Nat} (t1 : 1 ≤ t) (ht : t ≤ n) (hq : q ∈ P' t) {u : Nat} {b : Bool} {S : Nat → Bool} : dmB σ τ P P' u b S q = true ↔ t < u ∧ σ.1 57 t = 4 ∧ τ.1 47 q ≠ 0 ∧ lsB b (mdX σ P t) S (ov (kyM τ q)) (ov (vlM τ q)) = true := by
  have n2 := h.1.1
  have e : (lv τ 49 q).toNat = t := by
    unfold lv
    rw [(h.2.2.1.1.2.2 t (by rw [← tm_1 t1]; exact tm_V ht) q hq).2.1, lz_lit (by omega)]
    omega
  unfold dmB
  rw [e, Bool.and_eq_true, decide_eq_true_iff]
  constructor
  · rintro ⟨⟨w1, w2, w3, w4, w5⟩, w6⟩; exact ⟨w2, w3, w5, w6⟩
  · rintro ⟨w2, w3, w5, w6⟩; exact ⟨⟨t1, w2, w3, hq, w5⟩, w6⟩
theorem lsB_o {b : Bool} {md : Nat} {S : Nat → Bool} {k v : Nat} (h : lsB b md S k v = true) : k ≠ 0 ∨ v ≠ 0 := by
  unfold lsB at h
  simp only [Bool.or_eq_true, Bool.and_eq_true, decide_eq_true_iff] at h
  rcases h with ⟨_, w, _⟩ | ⟨_, _, w, _⟩
  · exact Or.inr w
  · exact Or.inl w
/-- modes stay: what is dropped is no mode -/
theorem md_dp {σ : lj_S} {P : Nat → List Nat} {D : Nat → Bool} (hD : ∀ q, D q = true → σ.1 66 q = 3 → σ.1 68 q ≠ 3) (t : Nat) : mdX (dpC σ D) P t = mdX σ P t := by
  have e58 : lv (dpC σ D) 58 t = lv σ 58 t := by unfold lv; rw [(dpC_o σ D (by omega)).1]
  have eS : cS (dpC σ D) = cS σ := by
    funext s
    exact cS_cong (fun j => (dpC_o σ D (by omega)).1) (fun j => (dpC_o σ D (by omega)).1) (fun j => (dpC_o σ D (by omega)).1) s
  have ek : ∀ q, (enC (dpC σ D) q).1 = (enC σ q).1 := fun q => by unfold enC; rw [(dpC_o σ D (k := 66) (j := q) (by omega)).1, (dpC_o σ D (k := 67) (j := q) (by omega)).2]
  have eV : ∀ v, mdV (dpC σ D) v = mdV σ v := fun v => by unfold mdV; rw [eS]
  unfold mdX
  rw [e58, (dpC_o σ D (k := 8) (j := 1) (by omega)).1]
  by_cases z : lv σ 58 t < 0
  · rw [if_pos z, if_pos z]
  · rw [if_neg z, if_neg z, eV]
    unfold fnd
    simp only [ek]
    cases f : (P (lv σ 58 t).toNat).find? (fun p => decide ((enC σ p).1 = (3, (σ.1 8 1).toInt64))) with
    | none => rfl
    | some q =>
      have q2 : (enC σ q).1 = (3, (σ.1 8 1).toInt64) := by simpa using List.find?_some f
      have k3 : σ.1 66 q = 3 := congrArg Prod.fst q2
      show mdV σ (enC (dpC σ D) q).2 = mdV σ (enC σ q).2
      by_cases d : D q = true
      · have e1 : (enC (dpC σ D) q).2 = (0, 0) := by
          show ((dpC σ D).1 68 q, (dpC σ D).2 69 q) = (0, 0)
          rw [dpC_1, if_pos ⟨rfl, d⟩, dpC_2, if_pos ⟨rfl, d⟩]
        have e2 : ¬ ((enC σ q).2.1 = 3) := hD q d k3
        rw [e1]
        unfold mdV
        rw [if_neg e2]
        rfl
      · have e1 : (enC (dpC σ D) q).2 = (enC σ q).2 := by
          show ((dpC σ D).1 68 q, (dpC σ D).2 69 q) = (σ.1 68 q, σ.2 69 q)
          rw [dpC_1, if_neg (fun y => d y.2), dpC_2, if_neg (fun y => d y.2)]
        rw [e1]
/-- a dropped place: its key or its value was an object -/
theorem dc_k {σ τ : lj_S} {n : Nat} {P B : Nat → List Nat} {Fr : List Nat} {P' B' : Nat → List Nat} {Fr' : List Nat} (_h : hpX σ τ n P B Fr P' B' Fr') {u : Nat} {b : Bool} {S : Nat → Bool} (q : Nat) (hq : dcB σ P u b S q = true) (k3 : σ.1 66 q = 3) : σ.1 68 q ≠ 3 := fun z => by
  unfold dcB at hq
  rw [Bool.and_eq_true] at hq
  rcases lsB_o hq.2 with w | w
  · exact w (ov_k (by show ¬ (σ.1 66 q = 4 ∨ σ.1 66 q = 5 ∨ σ.1 66 q = 6); rw [k3]; decide))
  · exact w (ov_k (by show ¬ (σ.1 68 q = 4 ∨ σ.1 68 q = 5 ∨ σ.1 68 q = 6); rw [z]; decide))
theorem tw_dp {σ τ : lj_S} {n : Nat} {P B : Nat → List Nat} {Fr : List Nat} {P' B' : Nat → List Nat} {Fr' : List Nat} (h : tw σ τ n P B Fr P' B' Fr') {u : Nat} (hu : u ≤ n + 1) (b : Bool) (S : Nat → Bool) : tw (dpC σ (dcB σ P u b S)) (dpM τ (dmB σ τ P P' u b S)) n P B Fr P' B' Fr' := by
  have c : ∀ k j, k ≠ 68 ∧ k ≠ 69 → (dpC σ (dcB σ P u b S)).1 k j = σ.1 k j ∧ (dpC σ (dcB σ P u b S)).2 k j = σ.2 k j := fun k j z => dpC_o σ _ z
  have m : ∀ k j, k ≠ 47 → (dpM τ (dmB σ τ P P' u b S)).1 k j = τ.1 k j ∧ (dpM τ (dmB σ τ P P' u b S)).2 k j = τ.2 k j := fun k j z => dpM_o τ _ z
  have vC : ∀ k j, vqC k j = true → (dpC σ (dcB σ P u b S)).1 k j = σ.1 k j := fun k j q => (c k j (by unfold vqC at q; simp at q; omega)).1
  have vM : ∀ k j, vqM k j = true → (dpM τ (dmB σ τ P P' u b S)).1 k j = τ.1 k j := fun k j q => (m k j (by unfold vqM at q; simp at q; omega)).1
  have lC : ∀ k j, k ≠ 68 ∧ k ≠ 69 → lv (dpC σ (dcB σ P u b S)) k j = lv σ k j := fun k j z => by unfold lv; rw [(c k j z).1]
  have lM : ∀ k j, k ≠ 47 → lv (dpM τ (dmB σ τ P P' u b S)) k j = lv τ k j := fun k j z => by unfold lv; rw [(m k j z).1]
  refine ⟨h.1.cg (fun k j q => (c k j (by unfold sqC at q; simp at q; omega)).1) (fun k j q => (m k j (by unfold sqM at q; simp at q; omega)).1), ?_, ?_, h.2.2.2.cg (fun k j q => (c k j (by omega)).1) (fun k j q => (m k j (by omega)).1)⟩
  · rw [(c 8 1 (by omega)).1]
    exact h.2.1.up (sG_eq vC vM)
  · have hX := h.2.2.1
    obtain ⟨⟨h1, h2, h3⟩, hc, hm, hl, he⟩ := h.2.2.1
    refine ⟨⟨h1, by rw [lC 7 0 (by omega)]; exact h2, by rw [lM 0 77 (by omega)]; exact h3⟩, ⟨hpC_cg hc.1 (fun k j q => (c k j (by omega)).1) (fun j => (c 67 j (by omega)).2), ⟨?_, by rw [lC 7 11 (by omega)]; exact hc.2.1.2.1, hc.2.1.2.2⟩, fun t ht => by rw [lC 61 t (by omega)]; exact hc.2.2 t ht⟩, ⟨hpM_cg hm.1 (fun k j q => (m k j (by omega)).1) (fun j => (m 46 j (by omega)).2), fsM_cg (fun j => (m 53 j (by omega)).1) hm.2.1, by rw [lM 0 88 (by omega)]; exact hm.2.2.1, by rw [lM 0 89 (by omega)]; exact hm.2.2.2.1, hm.2.2.2.2⟩, ⟨hl.1, fun i hi => by rw [(c 66 i (by omega)).1]; exact hl.2.1 i hi, fun t ht z => hl.2.2 t ht (by rw [← (c 57 t (by omega)).1]; exact z)⟩, fun t ht => ?_⟩
    · have : lv (dpC σ (dcB σ P u b S)) 70 = lv σ 70 := by funext j; exact lC 70 j (by omega)
      rw [this, lC 7 12 (by omega)]
      exact hc.2.1.1
    · refine eR_up (he t ht) (fun p hp q hq w => ?_)
      have ek : (enC (dpC σ (dcB σ P u b S)) p).1 = (enC σ p).1 := by unfold enC; rw [(c 66 p (by omega)).1, (c 67 p (by omega)).2]
      have em : (enM (dpM τ (dmB σ τ P P' u b S)) q).1 = (enM τ q).1 := by unfold enM; rw [(m 45 q (by omega)).1, (m 46 q (by omega)).2]
      -- both drop it, or none
      have de : dcB σ P u b S p = true ↔ dmB σ τ P P' u b S q = true := by
        by_cases t0 : t = 0
        · subst t0
          have q1 : (lv τ 49 q).toNat = 2001 := by
            unfold lv
            rw [(hm.1.2.2 _ (tm_V ht) q hq).2.1]
            show (Int32.ofNat (if (0 : Nat) = 0 then 2001 else 0)).toInt.toNat = 2001
            rw [if_pos rfl, lz_lit (by omega)]
            omega
          constructor
          · intro z
            have := ((dc_in hX ht hp).1 z).1
            omega
          · intro z
            unfold dmB at z
            rw [q1, Bool.and_eq_true, decide_eq_true_iff] at z
            omega
        · rw [tm_1 (by omega)] at hq
          rw [dc_in hX ht hp, dm_in hX (by omega) ht hq]
          have e1 : ov (kyM τ q) = ov (kyC σ p) := w.1.oj.1.symm
          rcases w.2.2 with ⟨y1, y2⟩ | ⟨y1, y2⟩
          · have y1' : σ.1 68 p = 0 := congrArg Prod.fst y1
            have y2' : τ.1 47 q = 0 := y2
            constructor
            · rintro ⟨_, _, _, z, _⟩; exact absurd y1' z
            · rintro ⟨_, _, z, _⟩; exact absurd y2' z
          · have e2 : ov (vlM τ q) = ov (vlC σ p) := y2.oj.1.symm
            have y3 : σ.1 68 p ≠ 0 := y1
            have y4 : τ.1 47 q ≠ 0 := fun z => y1 (y2.k0.2 z)
            rw [e1, e2]
            constructor
            · rintro ⟨_, z1, z2, _, z3⟩; exact ⟨z1, z2, y4, z3⟩
            · rintro ⟨z1, z2, _, z3⟩; exact ⟨by omega, z1, z2, y3, z3⟩
      unfold pR
      rw [ek, em]
      refine ⟨w.1.cg vC vM, w.2.1, ?_⟩
      by_cases d : dcB σ P u b S p = true
      · left
        have d' := de.1 d
        refine ⟨?_, ?_⟩
        · show ((dpC σ (dcB σ P u b S)).1 68 p, (dpC σ (dcB σ P u b S)).2 69 p) = (0, 0)
          rw [dpC_1, if_pos ⟨rfl, d⟩, dpC_2, if_pos ⟨rfl, d⟩]
        · show (dpM τ (dmB σ τ P P' u b S)).1 47 q = 0
          rw [dpM_1, if_pos ⟨rfl, d'⟩]
      · have d' : ¬ (dmB σ τ P P' u b S q = true) := fun y => d (de.2 y)
        have e1 : (enC (dpC σ (dcB σ P u b S)) p).2 = (enC σ p).2 := by
          show ((dpC σ (dcB σ P u b S)).1 68 p, (dpC σ (dcB σ P u b S)).2 69 p) = (σ.1 68 p, σ.2 69 p)
          rw [dpC_1, if_neg (fun y => d y.2), dpC_2, if_neg (fun y => d y.2)]
        have e2 : (enM (dpM τ (dmB σ τ P P' u b S)) q).2 = (enM τ q).2 := by
          show ((dpM τ (dmB σ τ P P' u b S)).1 47 q, (dpM τ (dmB σ τ P P' u b S)).2 48 q) = (τ.1 47 q, τ.2 48 q)
          rw [dpM_1, if_neg (fun y => d' y.2), (m 48 q (by omega)).2]
        rw [e1, e2]
        exact w.2.2.imp id (fun y => ⟨y.1, y.2.cg vC vM⟩)
