/-! the gathering: pairs that are lost are dropped: the model's loops -/
/-- one place of the model -/
theorem m_dr_one {σ τ : lj_S} {n : Nat} {P B : Nat → List Nat} {Fr : List Nat} {P' B' : Nat → List Nat} {Fr' : List Nat} (h : hpX σ τ n P B Fr P' B' Fr') {t : Nat} (t1 : 1 ≤ t) (ht : t ≤ n) (k4 : σ.1 57 t = 4) (b : Bool) {E : Nat → Bool} {τc : lj_S} (hl : lf fdN (dpM τ E) τc) {q : Nat} (hq : q ∈ P' t) (hE : E q = false) (X5 : Value) : ∃ x50 τ', lj_D lm_P lm_M217 46 [.ref 0, .int (bI b), .int (Int32.ofNat t), .int (Int32.ofNat (mdX σ P t)), .int (Int32.ofNat q), X5] [] τc = lj_D lm_P lm_M217 139 [.ref 0, .int (bI b), .int (Int32.ofNat t), .int (Int32.ofNat (mdX σ P t)), .int (Int32.ofNat q), .int x50] [] τ' ∧ lf fdN (dpM τ (fun x => E x || (decide (x = q) && dmB σ τ P P' (n + 1) b (flg n 96 τ) x))) τ' := by
  obtain ⟨a1, ⟨a2, a3⟩, a4, a5⟩ := h.wm t1 ht hq
  have md4 := mdX_le σ P t
  obtain ⟨_, _, m5, m6, _⟩ := and4 _ md4
  have iq : lj_in (Int32.ofNat q) 3001 := ofN_in (by omega) (by omega)
  have nq : (Int32.ofNat q).toNatClampNeg = q := lz_onat (by omega)
  have c : ∀ k j, ¬ (k = 0 ∧ (j = 90 ∨ j = 91)) → τc.1 k j = (dpM τ E).1 k j ∧ τc.2 k j = (dpM τ E).2 k j := fun k j z => hl k j (by unfold fdN; simp; omega)
  have v47 : τc.1 47 q = τ.1 47 q := by rw [(c 47 q (by omega)).1, dpM_1, if_neg (fun y => by rw [hE] at y; cases y.2)]
  have v48 : τc.2 48 q = τ.2 48 q := by rw [(c 48 q (by omega)).2]; rfl
  have v45 : τc.1 45 q = τ.1 45 q := by rw [(c 45 q (by omega)).1, (dpM_o τ E (by omega)).1]
  have v46 : τc.2 46 q = τ.2 46 q := by rw [(c 46 q (by omega)).2]; rfl
  have fl : flg n 96 τc = flg n 96 τ := by funext x; unfold flg; rw [(c 96 x (by omega)).1, (dpM_o τ E (by omega)).1]
  have n2 := h.1.1
  have lv' := m_lost (τ := τc) a4 (by omega)
  have lk' := m_lost (τ := τc) a2 (by omega)
  rw [los_f (n := n) a5, fl] at lv'
  rw [los_f (n := n) a3, fl] at lk'
  have lv' : lj_R lm_P 216 [.ref 0, .int (τ.1 47 q), .long (τ.2 48 q)] τc = _ := lv'
  have lk' : lj_R lm_P 216 [.ref 0, .int (τ.1 45 q), .long (τ.2 46 q)] τc = _ := lk'
  -- the end, when it is known whether it is lost
  have fin : ∀ x50, x50 = bI (lsB b (mdX σ P t) (flg n 96 τ) (ov (kyM τ q)) (ov (vlM τ q))) → ∃ z50 τ', lj_D lm_P lm_M217 114 [.ref 0, .int (bI b), .int (Int32.ofNat t), .int (Int32.ofNat (mdX σ P t)), .int (Int32.ofNat q), X5] [.int x50] τc = lj_D lm_P lm_M217 139 [.ref 0, .int (bI b), .int (Int32.ofNat t), .int (Int32.ofNat (mdX σ P t)), .int (Int32.ofNat q), .int z50] [] τ' ∧ lf fdN (dpM τ (fun x => E x || (decide (x = q) && dmB σ τ P P' (n + 1) b (flg n 96 τ) x))) τ' := fun x50 e50 => by
    have same : dmB σ τ P P' (n + 1) b (flg n 96 τ) q = false → lf fdN (dpM τ (fun x => E x || (decide (x = q) && dmB σ τ P P' (n + 1) b (flg n 96 τ) x))) τc := fun z => by
      have : (fun x => E x || (decide (x = q) && dmB σ τ P P' (n + 1) b (flg n 96 τ) x)) = E := by
        funext x
        by_cases y : x = q
        · rw [y, z]; simp
        · simp [y]
      rw [this]
      exact hl
    rw [km_217_114]
    (try simp only [if_pos iq, nq])
    rw [v47]
    by_cases y : τ.1 47 q = 0
    · rw [if_pos y]
      refine ⟨_, τc, rfl, same ?_⟩
      cases d : dmB σ τ P P' (n + 1) b (flg n 96 τ) q with
      | false => rfl
      | true => exact absurd y ((dm_in h t1 ht hq).1 d).2.2.1
    · rw [if_neg y]
      by_cases z : lsB b (mdX σ P t) (flg n 96 τ) (ov (kyM τ q)) (ov (vlM τ q)) = true
      · rw [z] at e50
        have d : dmB σ τ P P' (n + 1) b (flg n 96 τ) q = true := (dm_in h t1 ht hq).2 ⟨by omega, k4, y, z⟩
        rw [e50, if_neg (by decide)]
        refine ⟨_, _, rfl, fun k j w => ?_⟩
        obtain ⟨w1, w2⟩ := hl k j w
        refine ⟨?_, w2⟩
        rw [lj_put_1, w1, dpM_1, dpM_1]
        by_cases e : k = 47 ∧ j = q
        · rw [if_pos e, if_pos ⟨e.1, by rw [e.2, d]; simp⟩]
        · rw [if_neg e]
          by_cases e2 : k = 47 ∧ E j = true
          · rw [if_pos e2, if_pos ⟨e2.1, by rw [e2.2]; rfl⟩]
          · rw [if_neg e2, if_neg (fun w => by
              have := w.2
              simp only [Bool.or_eq_true, Bool.and_eq_true, decide_eq_true_iff] at this
              rcases this with v | v
              · exact e2 ⟨w.1, v⟩
              · exact e ⟨w.1, v.1⟩)]
      · have z' : lsB b (mdX σ P t) (flg n 96 τ) (ov (kyM τ q)) (ov (vlM τ q)) = false := by
          cases y : lsB b (mdX σ P t) (flg n 96 τ) (ov (kyM τ q)) (ov (vlM τ q)) with
          | false => rfl
          | true => exact absurd y z
        rw [z'] at e50
        rw [e50, if_pos (by decide)]
        refine ⟨_, τc, rfl, same ?_⟩
        cases d : dmB σ τ P P' (n + 1) b (flg n 96 τ) q with
        | false => rfl
        | true => exact absurd ((dm_in h t1 ht hq).1 d).2.2.2 z
  -- by the key
  have key : (decide (2 ≤ mdX σ P t) && (decide (ov (vlM τ q) ≠ 0) && !flg n 96 τ (ov (vlM τ q)))) = false → ∃ x50 τ', lj_D lm_P lm_M217 78 [.ref 0, .int (bI b), .int (Int32.ofNat t), .int (Int32.ofNat (mdX σ P t)), .int (Int32.ofNat q), X5] [] τc = lj_D lm_P lm_M217 139 [.ref 0, .int (bI b), .int (Int32.ofNat t), .int (Int32.ofNat (mdX σ P t)), .int (Int32.ofNat q), .int x50] [] τ' ∧ lf fdN (dpM τ (fun x => E x || (decide (x = q) && dmB σ τ P P' (n + 1) b (flg n 96 τ) x))) τ' := fun w => by
    rw [km_217_78]
    by_cases y : b = false
    · rw [if_pos ((bI0 b).2 y), km_217_113]
      refine fin 0 ?_
      unfold lsB
      rw [w, y]
      rfl
    · have y' : b = true := by cases b <;> simp_all
      rw [if_neg (fun v => y ((bI0 b).1 v))]
      by_cases v : mdX σ P t % 2 = 0
      · rw [if_pos (m5.2 v), km_217_113]
        refine fin 0 ?_
        unfold lsB
        rw [w, show decide (mdX σ P t % 2 = 1) = false by simp; omega]
        simp [bI]
      · rw [if_neg (fun x => v (m5.1 x))]
        (try simp only [if_pos iq, nq])
        rw [v45, v46, lk', bi_ok]
        have o1 : decide (mdX σ P t % 2 = 1) = true := by simp; omega
        by_cases l : (decide (ov (kyM τ q) ≠ 0) && !flg n 96 τ (ov (kyM τ q))) = true
        · rw [if_pos l, if_neg (by decide), km_217_109]
          refine fin 1 ?_
          unfold lsB
          rw [w, y', o1, l]
          rfl
        · rw [if_neg l, if_pos rfl, km_217_113]
          refine fin 0 ?_
          have l' : (decide (ov (kyM τ q) ≠ 0) && !flg n 96 τ (ov (kyM τ q))) = false := by
            cases x : (decide (ov (kyM τ q) ≠ 0) && !flg n 96 τ (ov (kyM τ q))) with
            | false => rfl
            | true => exact absurd x l
          unfold lsB
          rw [w, l']
          simp [bI]
  rw [km_217_46, if_neg (ofN_nneg (by omega))]
  by_cases m : mdX σ P t < 2
  · rw [if_pos (m6.2 m)]
    exact key (by rw [show decide (2 ≤ mdX σ P t) = false by simp; omega]; rfl)
  · rw [if_neg (fun x => m (m6.1 x))]
    (try simp only [if_pos iq, nq])
    rw [v47, v48, lv', bi_ok]
    have o1 : decide (2 ≤ mdX σ P t) = true := by simp; omega
    by_cases l : (decide (ov (vlM τ q) ≠ 0) && !flg n 96 τ (ov (vlM τ q))) = true
    · rw [if_pos l, if_neg (by decide), km_217_109]
      refine fin 1 ?_
      unfold lsB
      rw [o1, l]
      rfl
    · have l' : (decide (ov (vlM τ q) ≠ 0) && !flg n 96 τ (ov (vlM τ q))) = false := by
        cases x : (decide (ov (vlM τ q) ≠ 0) && !flg n 96 τ (ov (vlM τ q))) with
        | false => rfl
        | true => exact absurd x l
      rw [if_neg l, if_pos rfl]
      exact key (by rw [o1, l']; rfl)
theorem m_dr_in {σ τ : lj_S} {n : Nat} {P B : Nat → List Nat} {Fr : List Nat} {P' B' : Nat → List Nat} {Fr' : List Nat} (h : hpX σ τ n P B Fr P' B' Fr') {t : Nat} (t1 : 1 ≤ t) (ht : t ≤ n) (k4 : σ.1 57 t = 4) (b : Bool) : ∀ (L : List Nat) (y : Int32) (τc : lj_S) (E : Nat → Bool) (X5 : Value), lk (lv τ 50) y.toInt L → (∀ q ∈ L, q ∈ P' t) → L.Nodup → (∀ q ∈ L, E q = false) → lf fdN (dpM τ E) τc → ∃ τ' X4 X5', lj_D lm_P lm_M217 46 [.ref 0, .int (bI b), .int (Int32.ofNat t), .int (Int32.ofNat (mdX σ P t)), .int y, X5] [] τc = lj_D lm_P lm_M217 2 [.ref 0, .int (bI b), .int (Int32.ofNat (t + 1)), .int (Int32.ofNat (mdX σ P t)), X4, X5'] [] τ' ∧ lf fdN (dpM τ (fun x => E x || (decide (x ∈ L) && dmB σ τ P P' (n + 1) b (flg n 96 τ) x))) τ'
  | [], y, τc, E, X5, hl, _, _, _, he => by
    have hl : y.toInt = -1 := hl
    refine ⟨τc, .int y, X5, ?_, ?_⟩
    · rw [km_217_46, if_pos (by rw [lz_lt, hl]; decide), lz_osucc]
    · have : (fun x => E x || (decide (x ∈ ([] : List Nat)) && dmB σ τ P P' (n + 1) b (flg n 96 τ) x)) = E := by funext x; simp
      rw [this]
      exact he
  | q :: L, y, τc, E, X5, hl, hp, nd, hE, he => by
    obtain ⟨hl1, hl2⟩ := hl
    have nd' := List.nodup_cons.1 nd
    have a1 := (h.wm t1 ht (hp q List.mem_cons_self)).1
    have ey : y = Int32.ofNat q := lz_ext (by rw [lz_lit (by omega)]; exact hl1)
    subst ey
    have iq : lj_in (Int32.ofNat q) 3001 := ofN_in (by omega) (by omega)
    have nq : (Int32.ofNat q).toNatClampNeg = q := lz_onat (by omega)
    obtain ⟨x50, τ1, r1, r2⟩ := m_dr_one h t1 ht k4 b he (hp q List.mem_cons_self) (hE q List.mem_cons_self) X5
    have e50 : τ1.1 50 q = τ.1 50 q := by rw [(r2 50 q rfl).1, (dpM_o τ _ (by omega)).1]
    obtain ⟨τ2, X4, X5', s1, s2⟩ := m_dr_in h t1 ht k4 b L (τ1.1 50 q) τ1 _ (.int x50) (by rw [e50]; exact hl2) (fun x hx => hp x (List.mem_cons_of_mem _ hx)) nd'.2 (fun x hx => by
      have : x ≠ q := fun y => nd'.1 (by rw [← y]; exact hx)
      rw [hE x (List.mem_cons_of_mem _ hx)]
      simp [this]) r2
    refine ⟨τ2, X4, X5', by rw [r1, km_217_139]; (try simp only [if_pos iq, nq]); exact s1, ?_⟩
    have : (fun x => E x || (decide (x ∈ q :: L) && dmB σ τ P P' (n + 1) b (flg n 96 τ) x)) = (fun x => (E x || (decide (x = q) && dmB σ τ P P' (n + 1) b (flg n 96 τ) x)) || (decide (x ∈ L) && dmB σ τ P P' (n + 1) b (flg n 96 τ) x)) := by
      funext x
      by_cases z : x = q
      · have : x ∉ L := by rw [z]; exact nd'.1
        simp [z, nd'.1]
      · simp [z]
    rw [this]
    exact s2
/-- dropped below t + 1 -/
theorem dm_succ {σ τ : lj_S} {n : Nat} {P B : Nat → List Nat} {Fr : List Nat} {P' B' : Nat → List Nat} {Fr' : List Nat} (h : hpX σ τ n P B Fr P' B' Fr') {t : Nat} (t1 : 1 ≤ t) (ht : t ≤ n) (b : Bool) (S : Nat → Bool) : (fun x => dmB σ τ P P' t b S x || (decide (x ∈ P' t) && dmB σ τ P P' (n + 1) b S x)) = dmB σ τ P P' (t + 1) b S := by
  have n2 := h.1.1
  funext x
  have iff : (dmB σ τ P P' t b S x || (decide (x ∈ P' t) && dmB σ τ P P' (n + 1) b S x)) = true ↔ dmB σ τ P P' (t + 1) b S x = true := by
    simp only [Bool.or_eq_true, Bool.and_eq_true, decide_eq_true_iff]
    unfold dmB
    simp only [Bool.and_eq_true, decide_eq_true_iff]
    constructor
    · rintro (⟨⟨w1, w2, w3⟩, w4⟩ | ⟨w0, ⟨w1, w2, w3⟩, w4⟩)
      · exact ⟨⟨w1, by omega, w3⟩, w4⟩
      · have e : (lv τ 49 x).toNat = t := by
          unfold lv
          rw [(h.2.2.1.1.2.2 t (by rw [← tm_1 t1]; exact tm_V ht) x w0).2.1, lz_lit (by omega)]
          omega
        exact ⟨⟨w1, by omega, w3⟩, w4⟩
    · rintro ⟨⟨w1, w2, w3⟩, w4⟩
      by_cases z : (lv τ 49 x).toNat < t
      · exact Or.inl ⟨⟨w1, z, w3⟩, w4⟩
      · have e : (lv τ 49 x).toNat = t := by omega
        refine Or.inr ⟨by rw [← e]; exact w3.2.1, ⟨w1, by omega, w3⟩, w4⟩
  cases a : dmB σ τ P P' (t + 1) b S x with
  | true => exact iff.2 a
  | false =>
    cases c : (dmB σ τ P P' t b S x || (decide (x ∈ P' t) && dmB σ τ P P' (n + 1) b S x)) with
    | false => rfl
    | true =>
      have := iff.1 c
      rw [a] at this
      cases this
theorem m_dr_all {σ τ : lj_S} {n : Nat} {P B : Nat → List Nat} {Fr : List Nat} {P' B' : Nat → List Nat} {Fr' : List Nat} (h : tw σ τ n P B Fr P' B' Fr') (b : Bool) : ∀ (d t : Nat) (τc : lj_S) (X3 X4 X5 : Value), 1 ≤ t → t + d = n + 1 → lf fdN (dpM τ (dmB σ τ P P' t b (flg n 96 τ))) τc → ∃ τ', lj_D lm_P lm_M217 2 [.ref 0, .int (bI b), .int (Int32.ofNat t), X3, X4, X5] [] τc = some (.inl none, τ') ∧ lf fdN (dpM τ (dmB σ τ P P' (n + 1) b (flg n 96 τ))) τ'
  | 0, t, τc, X3, X4, X5, t1, ht, he => by
    have hx := h.2.2.1
    have n2 := hx.1.1
    have te : t = n + 1 := by omega
    subst te
    have e77 : τc.1 0 77 = Int32.ofNat n := lz_ext (by
      rw [(he 0 77 rfl).1, (dpM_o τ _ (by omega)).1, lz_lit (by omega)]
      exact hx.1.2.2)
    refine ⟨τc, ?_, he⟩
    rw [km_217_2, e77, if_pos (by rw [lz_lt, lz_lit (by omega), lz_lit (by omega)]; omega)]
  | d + 1, t, τc, X3, X4, X5, t1, ht, he => by
    have hx := h.2.2.1
    have n2 := hx.1.1
    have tn : t ≤ n := by omega
    have it : lj_in (Int32.ofNat t) 2002 := ofN_in (by omega) (by omega)
    have nt : (Int32.ofNat t).toNatClampNeg = t := lz_onat (by omega)
    have e77 : τc.1 0 77 = Int32.ofNat n := lz_ext (by
      rw [(he 0 77 rfl).1, (dpM_o τ _ (by omega)).1, lz_lit (by omega)]
      exact hx.1.2.2)
    have e38 : τc.1 38 t = σ.1 57 t := by rw [(he 38 t rfl).1, (dpM_o τ _ (by omega)).1]; exact (h.2.2.2.2 t t1 tn).1.1.symm
    have hd : ∀ z, lj_D lm_P lm_M217 2 [.ref 0, .int (bI b), .int (Int32.ofNat t), X3, X4, X5] [] τc = z ↔ (if σ.1 57 t = 4 then lj_bi (lj_R lm_P 209 [.ref 0, .int (Int32.ofNat t)] τc) (fun y2 σ1 => lj_D lm_P lm_M217 29 [.ref 0, .int (bI b), .int (Int32.ofNat t), X3, X4, X5] [.int y2] σ1) lj_up else lj_D lm_P lm_M217 29 [.ref 0, .int (bI b), .int (Int32.ofNat t), X3, X4, X5] [.int 0] τc) = z := fun z => by
      rw [km_217_2, e77, if_neg (by rw [lz_lt, lz_lit (by omega), lz_lit (by omega)]; omega)]
      (try simp only [if_pos it, nt])
      rw [e38]
    -- nothing to drop
    have skip : ∀ (τ1 : lj_S), lf fdN (dpM τ (dmB σ τ P P' t b (flg n 96 τ))) τ1 → (∀ q ∈ P' t, dmB σ τ P P' (n + 1) b (flg n 96 τ) q = false) → ∃ τ', lj_D lm_P lm_M217 29 [.ref 0, .int (bI b), .int (Int32.ofNat t), X3, X4, X5] [.int 0] τ1 = some (.inl none, τ') ∧ lf fdN (dpM τ (dmB σ τ P P' (n + 1) b (flg n 96 τ))) τ' := fun τ1 l1 no => by
      have e : dmB σ τ P P' (t + 1) b (flg n 96 τ) = dmB σ τ P P' t b (flg n 96 τ) := by
        rw [← dm_succ hx t1 tn b (flg n 96 τ)]
        funext x
        by_cases z : x ∈ P' t
        · rw [no x z]; simp
        · simp [z]
      obtain ⟨τ2, s1, s2⟩ := m_dr_all h b d (t + 1) τ1 (.int 0) (.int (-1)) X5 (by omega) (by omega) (by rw [e]; exact l1)
      refine ⟨τ2, ?_, s2⟩
      rw [km_217_29, if_pos (by decide), km_217_44, km_217_46, if_pos (by decide), lz_osucc]
      exact s1
    by_cases k4 : σ.1 57 t = 4
    · have tw1 := (tw_dp h (u := t) (by omega) b (flg n 96 τ)).cg (lf_rf _ _) (he.mo (fun k j z => by unfold gKM at z; unfold fdN; simp at z ⊢; omega))
      obtain ⟨_, τ1, _, _, r1, r2⟩ := tw1.mode tn (Or.inr (by rw [(dpC_o σ _ (by omega)).1]; exact k4))
      have r1 := r1 t1
      rw [md_dp (fun q z => dc_k hx q z)] at r1
      have l1 : lf fdN (dpM τ (dmB σ τ P P' t b (flg n 96 τ))) τ1 := he.tr r2
      obtain ⟨_, _, _, _, _, a2⟩ := and4 _ (mdX_le σ P t)
      have step : ∀ {z : Option lj_O} , lj_D lm_P lm_M217 29 [.ref 0, .int (bI b), .int (Int32.ofNat t), X3, X4, X5] [.int (Int32.ofNat (mdX σ P t))] τ1 = z → lj_D lm_P lm_M217 2 [.ref 0, .int (bI b), .int (Int32.ofNat t), X3, X4, X5] [] τc = z := fun w => (hd _).2 (by rw [if_pos k4, r1, bi_ok]; exact w)
      by_cases m0 : mdX σ P t = 0
      · obtain ⟨τ2, s1, s2⟩ := skip τ1 l1 (fun q hq => by
          cases d : dmB σ τ P P' (n + 1) b (flg n 96 τ) q with
          | false => rfl
          | true =>
            have w := ((dm_in hx t1 tn hq).1 d).2.2.2
            rw [m0] at w
            unfold lsB at w
            simp at w)
        refine ⟨τ2, step ?_, s2⟩
        rw [m0]
        exact s1
      · have e40 : τ1.1 40 t = τ.1 40 t := by rw [(l1 40 t rfl).1, (dpM_o τ _ (by omega)).1]
        have lP := (hx.2.2.1.1.1 t (by rw [← tm_1 t1]; exact tm_V tn)).1
        obtain ⟨τ2, Y4, Y5, s1, s2⟩ := m_dr_in hx t1 tn k4 b (P' t) (τ1.1 40 t) τ1 _ X5 (by rw [e40]; exact lP) (fun q hq => hq) (lk_nd lP) (fun q hq => by
          cases d : dmB σ τ P P' t b (flg n 96 τ) q with
          | false => rfl
          | true =>
            have := ((dm_in hx t1 tn hq).1 d).1
            omega) l1
        rw [dm_succ hx t1 tn] at s2
        obtain ⟨τ3, u1, u2⟩ := m_dr_all h b d (t + 1) τ2 (.int (Int32.ofNat (mdX σ P t))) Y4 Y5 (by omega) (by omega) s2
        refine ⟨τ3, step ?_, u2⟩
        rw [km_217_29, if_neg (fun y => m0 (a2.1 y))]
        (try simp only [if_pos it, nt])
        rw [km_217_44, s1]
        exact u1
    · obtain ⟨τ2, s1, s2⟩ := skip τc he (fun q hq => by
        have e := eR_len (hx.2.2.2.2 t tn)
        rw [hx.2.2.2.1.2.2 t tn k4, tm_1 t1] at e
        have : P' t = [] := List.length_eq_zero_iff.1 e.symm
        rw [this] at hq
        cases hq)
      exact ⟨τ2, (hd _).2 (by rw [if_neg k4]; exact s1), s2⟩
/-- the model drops what is lost -/
theorem m_drop1 {σ τ : lj_S} {n : Nat} {P B : Nat → List Nat} {Fr : List Nat} {P' B' : Nat → List Nat} {Fr' : List Nat} (h : tw σ τ n P B Fr P' B' Fr') (b : Bool) : ∃ τ', lj_R lm_P 217 [.ref 0, .int (bI b)] τ = some (.inl none, τ') ∧ lf fdN (dpM τ (dmB σ τ P P' (n + 1) b (flg n 96 τ))) τ' := by
  have e : dpM τ (dmB σ τ P P' 1 b (flg n 96 τ)) = τ := by
    have : dmB σ τ P P' 1 b (flg n 96 τ) = fun _ => false := by
      funext x
      cases d : dmB σ τ P P' 1 b (flg n 96 τ) x with
      | false => rfl
      | true =>
        unfold dmB at d
        rw [Bool.and_eq_true, decide_eq_true_iff] at d
        omega
    rw [this]
    exact st_ext (fun k j => by rw [dpM_1, if_neg (by simp)]) (fun k j => rfl)
  obtain ⟨τ', r1, r2⟩ := m_dr_all h b n 1 τ (.retAddr 0) (.retAddr 0) (.retAddr 0) (Nat.le_refl _) (by omega) (by rw [e]; exact lf_rf _ _)
  refine ⟨τ', ?_, r2⟩
  rw [rm_217, km_217_0]
  exact r1
