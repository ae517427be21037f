/-! the gathering: pairs that are lost are dropped: the loops -/
def bI (b : Bool) : Int32 := if b = true then 1 else 0
theorem bI0 (b : Bool) : bI b = 0 ↔ b = false := by cases b <;> decide
/-- values of a place of the component -/
theorem hpX.wv {σ τ : lj_S} {n : Nat} {P B : Nat → List Nat} {Fr : List Nat} {P' B' : Nat → List Nat} {Fr' : List Nat} (h : hpX σ τ n P B Fr P' B' Fr') {t : Nat} (ht : t ≤ n) {q : Nat} (hq : q ∈ P t) : q < 3000 ∧ (wfC (kyC σ q) ∧ ov (kyC σ q) ≤ n) ∧ (wfC (vlC σ q) ∧ ov (vlC σ q) ≤ n) := by
  obtain ⟨a1, ⟨a2, a2'⟩, a3⟩ := h.kv ht hq
  have n2 := h.1.1
  refine ⟨a1, ⟨a2, by omega⟩, ?_⟩
  by_cases z : σ.1 68 q = 0
  · have e : ov (vlC σ q) = 0 := ov_k (by show ¬ (σ.1 68 q = 4 ∨ σ.1 68 q = 5 ∨ σ.1 68 q = 6); rw [z]; decide)
    exact ⟨fun y => absurd e y, by omega⟩
  · exact ⟨(a3 z).1, by have := (a3 z).2; omega⟩
theorem hpX.wm {σ τ : lj_S} {n : Nat} {P B : Nat → List Nat} {Fr : List Nat} {P' B' : Nat → List Nat} {Fr' : List Nat} (h : hpX σ τ n P B Fr P' B' Fr') {t : Nat} (t1 : 1 ≤ t) (ht : t ≤ n) {q : Nat} (hq : q ∈ P' t) : q < 3001 ∧ (wfM (kyM τ q) ∧ ov (kyM τ q) ≤ n) ∧ (wfM (vlM τ q) ∧ ov (vlM τ q) ≤ n) := by
  obtain ⟨a1, ⟨a2, a2'⟩, q', b1, b2, b3⟩ := h.qp ht (by rw [tm_1 t1]; exact hq)
  have n2 := h.1.1
  refine ⟨a1, ⟨a2, by omega⟩, ?_⟩
  by_cases z : τ.1 47 q = 0
  · have k : ¬ ((vlM τ q).1 = 4 ∨ (vlM τ q).1 = 5 ∨ (vlM τ q).1 = 6) := by show ¬ (τ.1 47 q = 4 ∨ τ.1 47 q = 5 ∨ τ.1 47 q = 6); rw [z]; decide
    exact ⟨fun y => absurd y k, by rw [ov_k k]; omega⟩
  · obtain ⟨_, _, c3, c4⟩ := b3 z
    exact ⟨c3, by omega⟩
/-- one place of the component -/
theorem c_dr_one {σ τ : lj_S} {n : Nat} {P B : Nat → List Nat} {Fr : List Nat} {P' B' : Nat → List Nat} {Fr' : List Nat} (h : hpX σ τ n P B Fr P' B' Fr') {t : Nat} (t1 : 1 ≤ t) (ht : t ≤ n) (k4 : σ.1 57 t = 4) (b : Bool) {E : Nat → Bool} {σc : lj_S} (hl : lf fdK (dpC σ E) σc) {q : Nat} (hq : q ∈ P t) (hE : E q = false) (X5 : Value) : ∃ x50 σ', lj_D lc_P lc_M186 64 [.ref 8, .int (bI b), .int (Int32.ofNat t), .int (Int32.ofNat (mdX σ P t)), .int (Int32.ofNat q), X5] [] σc = lj_D lc_P lc_M186 207 [.ref 8, .int (bI b), .int (Int32.ofNat t), .int (Int32.ofNat (mdX σ P t)), .int (Int32.ofNat q), .int x50] [] σ' ∧ lf fdK (dpC σ (fun x => E x || (decide (x = q) && dcB σ P (n + 1) b (flg n 111 σ) x))) σ' := by
  obtain ⟨a1, ⟨a2, a3⟩, a4, a5⟩ := h.wv ht hq
  have md4 := mdX_le σ P t
  obtain ⟨⟨m1, m2, m3⟩, m4, _⟩ := and4 _ md4
  have iq : lj_in (Int32.ofNat q) 3000 := ofN_in (by omega) (by omega)
  have nq : (Int32.ofNat q).toNatClampNeg = q := lz_onat (by omega)
  have c : ∀ k j, ¬ (k = 7 ∧ (j = 27 ∨ j = 28)) → σc.1 k j = (dpC σ E).1 k j ∧ σc.2 k j = (dpC σ E).2 k j := fun k j z => hl k j (by unfold fdK; simp; omega)
  have v68 : σc.1 68 q = σ.1 68 q := by rw [(c 68 q (by omega)).1, dpC_1, if_neg (fun y => by rw [hE] at y; cases y.2)]
  have v69 : σc.2 69 q = σ.2 69 q := by rw [(c 69 q (by omega)).2, dpC_2, if_neg (fun y => by rw [hE] at y; cases y.2)]
  have v66 : σc.1 66 q = σ.1 66 q := by rw [(c 66 q (by omega)).1, (dpC_o σ E (by omega)).1]
  have v67 : σc.2 67 q = σ.2 67 q := by rw [(c 67 q (by omega)).2, (dpC_o σ E (by omega)).2]
  have fl : flg n 111 σc = flg n 111 σ := by funext x; unfold flg; rw [(c 111 x (by omega)).1, (dpC_o σ E (by omega)).1]
  have n2 := h.1.1
  have lv' := c_lost (σ := σc) a4 (by omega)
  have lk' := c_lost (σ := σc) a2 (by omega)
  rw [los_f (n := n) a5, fl] at lv'
  rw [los_f (n := n) a3, fl] at lk'
  have lv' : lj_R lc_P 184 [.ref 8, .int (σ.1 68 q), .long (σ.2 69 q)] σc = _ := lv'
  have lk' : lj_R lc_P 184 [.ref 8, .int (σ.1 66 q), .long (σ.2 67 q)] σc = _ := lk'
  -- the end, when it is known whether it is lost
  have fin : ∀ x50, x50 = bI (lsB b (mdX σ P t) (flg n 111 σ) (ov (kyC σ q)) (ov (vlC σ q))) → ∃ z50 σ', lj_D lc_P lc_M186 156 [.ref 8, .int (bI b), .int (Int32.ofNat t), .int (Int32.ofNat (mdX σ P t)), .int (Int32.ofNat q), X5] [.int x50] σc = lj_D lc_P lc_M186 207 [.ref 8, .int (bI b), .int (Int32.ofNat t), .int (Int32.ofNat (mdX σ P t)), .int (Int32.ofNat q), .int z50] [] σ' ∧ lf fdK (dpC σ (fun x => E x || (decide (x = q) && dcB σ P (n + 1) b (flg n 111 σ) x))) σ' := fun x50 e50 => by
    have same : dcB σ P (n + 1) b (flg n 111 σ) q = false → lf fdK (dpC σ (fun x => E x || (decide (x = q) && dcB σ P (n + 1) b (flg n 111 σ) x))) σc := fun z => by
      have : (fun x => E x || (decide (x = q) && dcB σ P (n + 1) b (flg n 111 σ) x)) = E := by
        funext x
        by_cases y : x = q
        · rw [y, z]; simp
        · simp [y]
      rw [this]
      exact hl
    rw [kc_186_156]
    by_cases z : lsB b (mdX σ P t) (flg n 111 σ) (ov (kyC σ q)) (ov (vlC σ q)) = true
    · rw [z] at e50
      rw [e50, if_neg (by decide)]; (try simp only [if_pos iq, nq]); rw [v68]
      by_cases y : σ.1 68 q = 0
      · rw [if_pos y]
        refine ⟨_, σc, rfl, same ?_⟩
        cases d : dcB σ P (n + 1) b (flg n 111 σ) q with
        | false => rfl
        | true => exact absurd y ((dc_in h ht hq).1 d).2.2.2.1
      · have d : dcB σ P (n + 1) b (flg n 111 σ) q = true := (dc_in h ht hq).2 ⟨t1, by omega, k4, y, z⟩
        rw [if_neg y]; (try simp only [if_pos iq])
        refine ⟨_, _, rfl, fun k j w => ?_⟩
        obtain ⟨w1, w2⟩ := hl k j w
        constructor
        · rw [lj_putL_1, lj_put_1, w1, dpC_1, dpC_1]
          by_cases e : k = 68 ∧ j = q
          · rw [if_pos e, if_pos ⟨e.1, by rw [e.2, d]; simp⟩]
          · rw [if_neg e]
            by_cases e2 : k = 68 ∧ E j = true
            · rw [if_pos e2, if_pos ⟨e2.1, by rw [e2.2]; rfl⟩]
            · rw [if_neg e2, if_neg (fun w => by
                have := w.2
                simp only [Bool.or_eq_true, Bool.and_eq_true, decide_eq_true_iff] at this
                rcases this with v | v
                · exact e2 ⟨w.1, v⟩
                · exact e ⟨w.1, v.1⟩)]
        · rw [lj_putL_2, dpC_2]
          by_cases e : k = 69 ∧ j = q
          · rw [if_pos e, if_pos ⟨e.1, by rw [e.2, d]; simp⟩]
          · rw [if_neg e]
            show σc.2 k j = _
            rw [w2, dpC_2]
            by_cases e2 : k = 69 ∧ E j = true
            · rw [if_pos e2, if_pos ⟨e2.1, by rw [e2.2]; rfl⟩]
            · rw [if_neg e2, if_neg (fun w => by
                have := w.2
                simp only [Bool.or_eq_true, Bool.and_eq_true, decide_eq_true_iff] at this
                rcases this with v | v
                · exact e2 ⟨w.1, v⟩
                · exact e ⟨w.1, v.1⟩)]
    · have z' : lsB b (mdX σ P t) (flg n 111 σ) (ov (kyC σ q)) (ov (vlC σ q)) = false := by
        cases y : lsB b (mdX σ P t) (flg n 111 σ) (ov (kyC σ q)) (ov (vlC σ q)) with
        | false => rfl
        | true => exact absurd y z
      rw [z'] at e50
      rw [e50, if_pos (by decide)]
      refine ⟨_, σc, rfl, same ?_⟩
      cases d : dcB σ P (n + 1) b (flg n 111 σ) q with
      | false => rfl
      | true => exact absurd ((dc_in h ht hq).1 d).2.2.2.2 z
  -- by the key
  have key : (decide (2 ≤ mdX σ P t) && (decide (ov (vlC σ q) ≠ 0) && !flg n 111 σ (ov (vlC σ q)))) = false → ∃ x50 σ', lj_D lc_P lc_M186 108 [.ref 8, .int (bI b), .int (Int32.ofNat t), .int (Int32.ofNat (mdX σ P t)), .int (Int32.ofNat q), X5] [] σc = lj_D lc_P lc_M186 207 [.ref 8, .int (bI b), .int (Int32.ofNat t), .int (Int32.ofNat (mdX σ P t)), .int (Int32.ofNat q), .int x50] [] σ' ∧ lf fdK (dpC σ (fun x => E x || (decide (x = q) && dcB σ P (n + 1) b (flg n 111 σ) x))) σ' := fun w => by
    rw [kc_186_108]
    by_cases y : b = false
    · rw [if_pos ((bI0 b).2 y), kc_186_155]
      refine fin 0 ?_
      unfold lsB
      rw [w, y]
      rfl
    · have y' : b = true := by cases b <;> simp_all
      rw [if_neg (fun v => y ((bI0 b).1 v))]
      by_cases v : mdX σ P t % 2 = 0
      · rw [if_pos (m1.2 v), kc_186_155]
        refine fin 0 ?_
        unfold lsB
        rw [w, show decide (mdX σ P t % 2 = 1) = false by simp; omega]
        simp [bI]
      · rw [if_neg (fun x => v (m1.1 x))]; (try simp only [if_pos iq, nq]); rw [v66, v67, lk', bi_ok]
        have o1 : decide (mdX σ P t % 2 = 1) = true := by simp; omega
        by_cases l : (decide (ov (kyC σ q) ≠ 0) && !flg n 111 σ (ov (kyC σ q))) = true
        · rw [if_pos l, if_neg (by decide), kc_186_151]
          refine fin 1 ?_
          unfold lsB
          rw [w, y', o1, l]
          rfl
        · rw [if_neg l, if_pos rfl, kc_186_155]
          refine fin 0 ?_
          have l' : (decide (ov (kyC σ q) ≠ 0) && !flg n 111 σ (ov (kyC σ q))) = false := by
            cases x : (decide (ov (kyC σ q) ≠ 0) && !flg n 111 σ (ov (kyC σ q))) with
            | false => rfl
            | true => exact absurd x l
          unfold lsB
          rw [w, l']
          simp [bI]
  rw [kc_186_64, if_neg (ofN_nneg (by omega))]
  by_cases m : mdX σ P t < 2
  · rw [if_pos (m4.2 m)]
    exact key (by rw [show decide (2 ≤ mdX σ P t) = false by simp; omega]; rfl)
  · rw [if_neg (fun x => m (m4.1 x))]; (try simp only [if_pos iq, nq]); rw [v68, v69, lv', bi_ok]
    have o1 : decide (2 ≤ mdX σ P t) = true := by simp; omega
    by_cases l : (decide (ov (vlC σ q) ≠ 0) && !flg n 111 σ (ov (vlC σ q))) = true
    · rw [if_pos l, if_neg (by decide), kc_186_151]
      refine fin 1 ?_
      unfold lsB
      rw [o1, l]
      rfl
    · have l' : (decide (ov (vlC σ q) ≠ 0) && !flg n 111 σ (ov (vlC σ q))) = false := by
        cases x : (decide (ov (vlC σ q) ≠ 0) && !flg n 111 σ (ov (vlC σ q))) with
        | false => rfl
        | true => exact absurd x l
      rw [if_neg l, if_pos rfl]
      exact key (by rw [o1, l']; rfl)
theorem c_dr_in {σ τ : lj_S} {n : Nat} {P B : Nat → List Nat} {Fr : List Nat} {P' B' : Nat → List Nat} {Fr' : List Nat} (h : hpX σ τ n P B Fr P' B' Fr') {t : Nat} (t1 : 1 ≤ t) (ht : t ≤ n) (k4 : σ.1 57 t = 4) (b : Bool) : ∀ (L : List Nat) (y : Int32) (σc : lj_S) (E : Nat → Bool) (X5 : Value), lk (lv σ 70) y.toInt L → (∀ q ∈ L, q ∈ P t) → L.Nodup → (∀ q ∈ L, E q = false) → lf fdK (dpC σ E) σc → ∃ σ' X4 X5', lj_D lc_P lc_M186 64 [.ref 8, .int (bI b), .int (Int32.ofNat t), .int (Int32.ofNat (mdX σ P t)), .int y, X5] [] σc = lj_D lc_P lc_M186 2 [.ref 8, .int (bI b), .int (Int32.ofNat (t + 1)), .int (Int32.ofNat (mdX σ P t)), X4, X5'] [] σ' ∧ lf fdK (dpC σ (fun x => E x || (decide (x ∈ L) && dcB σ P (n + 1) b (flg n 111 σ) x))) σ'
  | [], y, σc, E, X5, hl, _, _, _, he => by
    have hl : y.toInt = -1 := hl
    refine ⟨σc, .int y, X5, ?_, ?_⟩
    · rw [kc_186_64, if_pos (by rw [lz_lt, hl]; decide), lz_osucc]
    · have : (fun x => E x || (decide (x ∈ ([] : List Nat)) && dcB σ P (n + 1) b (flg n 111 σ) x)) = E := by funext x; simp
      rw [this]
      exact he
  | q :: L, y, σc, E, X5, hl, hp, nd, hE, he => by
    obtain ⟨hl1, hl2⟩ := hl
    have nd' := List.nodup_cons.1 nd
    have a1 := (h.wv ht (hp q List.mem_cons_self)).1
    have ey : y = Int32.ofNat q := lz_ext (by rw [lz_lit (by omega)]; exact hl1)
    subst ey
    have iq : lj_in (Int32.ofNat q) 3000 := ofN_in (by omega) (by omega)
    have nq : (Int32.ofNat q).toNatClampNeg = q := lz_onat (by omega)
    obtain ⟨x50, σ1, r1, r2⟩ := c_dr_one h t1 ht k4 b he (hp q List.mem_cons_self) (hE q List.mem_cons_self) X5
    have e70 : σ1.1 70 q = σ.1 70 q := by rw [(r2 70 q rfl).1, (dpC_o σ _ (by omega)).1]
    obtain ⟨σ2, X4, X5', s1, s2⟩ := c_dr_in h t1 ht k4 b L (σ1.1 70 q) σ1 _ (.int x50) (by rw [e70]; exact hl2) (fun x hx => hp x (List.mem_cons_of_mem _ hx)) nd'.2 (fun x hx => by
      have : x ≠ q := fun y => nd'.1 (by rw [← y]; exact hx)
      rw [hE x (List.mem_cons_of_mem _ hx)]
      simp [this]) r2
    refine ⟨σ2, X4, X5', by rw [r1, kc_186_207]; (try simp only [if_pos iq, nq]); exact s1, ?_⟩
    have : (fun x => E x || (decide (x ∈ q :: L) && dcB σ P (n + 1) b (flg n 111 σ) x)) = (fun x => (E x || (decide (x = q) && dcB σ P (n + 1) b (flg n 111 σ) x)) || (decide (x ∈ L) && dcB σ P (n + 1) b (flg n 111 σ) x)) := by
      funext x
      by_cases z : x = q
      · have : x ∉ L := by rw [z]; exact nd'.1
        simp [z, nd'.1]
      · simp [z]
    rw [this]
    exact s2
/-- dropped below t + 1 -/
theorem dc_succ {σ τ : lj_S} {n : Nat} {P B : Nat → List Nat} {Fr : List Nat} {P' B' : Nat → List Nat} {Fr' : List Nat} (h : hpX σ τ n P B Fr P' B' Fr') {t : Nat} (t1 : 1 ≤ t) (ht : t ≤ n) (b : Bool) (S : Nat → Bool) : (fun x => dcB σ P t b S x || (decide (x ∈ P t) && dcB σ P (n + 1) b S x)) = dcB σ P (t + 1) b S := by
  have n2 := h.1.1
  funext x
  have iff : (dcB σ P t b S x || (decide (x ∈ P t) && dcB σ P (n + 1) b S x)) = true ↔ dcB σ P (t + 1) b S x = true := by
    simp only [Bool.or_eq_true, Bool.and_eq_true, decide_eq_true_iff]
    unfold dcB
    simp only [Bool.and_eq_true, decide_eq_true_iff]
    constructor
    · rintro (⟨⟨w1, w2, w3⟩, w4⟩ | ⟨w0, ⟨w1, w2, w3⟩, w4⟩)
      · exact ⟨⟨w1, by omega, w3⟩, w4⟩
      · have e : (lv σ 71 x).toNat = t := by
          unfold lv
          rw [(h.2.1.1.2.2 t ht x w0).2.1, lz_lit (by omega)]
          omega
        exact ⟨⟨w1, by omega, w3⟩, w4⟩
    · rintro ⟨⟨w1, w2, w3⟩, w4⟩
      by_cases z : (lv σ 71 x).toNat < t
      · exact Or.inl ⟨⟨w1, z, w3⟩, w4⟩
      · have e : (lv σ 71 x).toNat = t := by omega
        refine Or.inr ⟨by rw [← e]; exact w3.2.1, ⟨w1, by omega, w3⟩, w4⟩
  cases a : dcB σ P (t + 1) b S x with
  | true => exact iff.2 a
  | false =>
    cases c : (dcB σ P t b S x || (decide (x ∈ P t) && dcB σ P (n + 1) b S x)) with
    | false => rfl
    | true =>
      have := iff.1 c
      rw [a] at this
      cases this
theorem c_dr_all {σ τ : lj_S} {n : Nat} {P B : Nat → List Nat} {Fr : List Nat} {P' B' : Nat → List Nat} {Fr' : List Nat} (h : tw σ τ n P B Fr P' B' Fr') (b : Bool) : ∀ (d t : Nat) (σc : lj_S) (X3 X4 X5 : Value), 1 ≤ t → t + d = n + 1 → lf fdK (dpC σ (dcB σ P t b (flg n 111 σ))) σc → ∃ σ', lj_D lc_P lc_M186 2 [.ref 8, .int (bI b), .int (Int32.ofNat t), X3, X4, X5] [] σc = some (.inl none, σ') ∧ lf fdK (dpC σ (dcB σ P (n + 1) b (flg n 111 σ))) σ'
  | 0, t, σc, X3, X4, X5, t1, ht, he => by
    have hx := h.2.2.1
    have n2 := hx.1.1
    have te : t = n + 1 := by omega
    subst te
    have e70 : σc.1 7 0 = Int32.ofNat n := lz_ext (by
      rw [(he 7 0 rfl).1, (dpC_o σ _ (by omega)).1, lz_lit (by omega)]
      exact hx.1.2.1)
    refine ⟨σc, ?_, he⟩
    rw [kc_186_2, e70, if_pos (by rw [lz_lt, lz_lit (by omega), lz_lit (by omega)]; omega)]
  | d + 1, t, σc, X3, X4, X5, t1, ht, he => by
    have hx := h.2.2.1
    have n2 := hx.1.1
    have tn : t ≤ n := by omega
    have it : lj_in (Int32.ofNat t) 2001 := ofN_in (by omega) (by omega)
    have nt : (Int32.ofNat t).toNatClampNeg = t := lz_onat (by omega)
    have e70 : σc.1 7 0 = Int32.ofNat n := lz_ext (by
      rw [(he 7 0 rfl).1, (dpC_o σ _ (by omega)).1, lz_lit (by omega)]
      exact hx.1.2.1)
    have e57 : σc.1 57 t = σ.1 57 t := by rw [(he 57 t rfl).1, (dpC_o σ _ (by omega)).1]
    have hd : ∀ z, lj_D lc_P lc_M186 2 [.ref 8, .int (bI b), .int (Int32.ofNat t), X3, X4, X5] [] σc = z ↔ (if σ.1 57 t = 4 then lj_bi (lj_R lc_P 183 [.ref 8, .int (Int32.ofNat t)] σc) (fun y2 σ1 => lj_D lc_P lc_M186 41 [.ref 8, .int (bI b), .int (Int32.ofNat t), X3, X4, X5] [.int y2] σ1) lj_up else lj_D lc_P lc_M186 41 [.ref 8, .int (bI b), .int (Int32.ofNat t), X3, X4, X5] [.int 0] σc) = z := fun z => by
      rw [kc_186_2, e70, if_neg (by rw [lz_lt, lz_lit (by omega), lz_lit (by omega)]; omega)]; (try simp only [if_pos it, nt]); rw [e57]
    -- nothing to drop
    have skip : ∀ (σ1 : lj_S), lf fdK (dpC σ (dcB σ P t b (flg n 111 σ))) σ1 → (∀ q ∈ P t, dcB σ P (n + 1) b (flg n 111 σ) q = false) → ∃ σ', lj_D lc_P lc_M186 41 [.ref 8, .int (bI b), .int (Int32.ofNat t), X3, X4, X5] [.int 0] σ1 = some (.inl none, σ') ∧ lf fdK (dpC σ (dcB σ P (n + 1) b (flg n 111 σ))) σ' := fun σ1 l1 no => by
      have e : dcB σ P (t + 1) b (flg n 111 σ) = dcB σ P t b (flg n 111 σ) := by
        rw [← dc_succ hx t1 tn b (flg n 111 σ)]
        funext x
        by_cases z : x ∈ P t
        · rw [no x z]; simp
        · simp [z]
      obtain ⟨σ2, s1, s2⟩ := c_dr_all h b d (t + 1) σ1 (.int 0) (.int (-1)) X5 (by omega) (by omega) (by rw [e]; exact l1)
      refine ⟨σ2, ?_, s2⟩
      rw [kc_186_41, if_pos rfl, kc_186_62, kc_186_64, if_pos (by decide), lz_osucc]
      exact s1
    by_cases k4 : σ.1 57 t = 4
    · have tw1 := (tw_dp h (u := t) (by omega) b (flg n 111 σ)).cg (he.mo (fun k j z => by unfold gKC at z; unfold fdK; simp at z ⊢; omega)) (lf_rf _ _)
      obtain ⟨σ1, _, r1, r2, _⟩ := tw1.mode tn (Or.inr (by rw [e57]; exact k4))
      have em : mdX σc P t = mdX σ P t := by
        rw [md_gK (he.mo (fun k j z => by unfold gKC at z; unfold fdK; simp at z ⊢; omega)), md_dp (fun q z => dc_k hx q z)]
      rw [em] at r1
      have l1 : lf fdK (dpC σ (dcB σ P t b (flg n 111 σ))) σ1 := he.tr r2
      obtain ⟨⟨_, a2, _⟩, _⟩ := and4 _ (mdX_le σ P t)
      have step : ∀ {z : Option lj_O} , lj_D lc_P lc_M186 41 [.ref 8, .int (bI b), .int (Int32.ofNat t), X3, X4, X5] [.int (Int32.ofNat (mdX σ P t))] σ1 = z → lj_D lc_P lc_M186 2 [.ref 8, .int (bI b), .int (Int32.ofNat t), X3, X4, X5] [] σc = z := fun w => (hd _).2 (by rw [if_pos k4, r1, bi_ok]; exact w)
      by_cases m0 : mdX σ P t = 0
      · obtain ⟨σ2, s1, s2⟩ := skip σ1 l1 (fun q hq => by
          cases d : dcB σ P (n + 1) b (flg n 111 σ) q with
          | false => rfl
          | true =>
            have w := ((dc_in hx tn hq).1 d).2.2.2.2
            rw [m0] at w
            unfold lsB at w
            simp at w)
        refine ⟨σ2, step ?_, s2⟩
        rw [m0]
        exact s1
      · have e59 : σ1.1 59 t = σ.1 59 t := by rw [(l1 59 t rfl).1, (dpC_o σ _ (by omega)).1]
        have lP := (hx.2.1.1.1 t tn).1
        obtain ⟨σ2, Y4, Y5, s1, s2⟩ := c_dr_in hx t1 tn k4 b (P t) (σ1.1 59 t) σ1 _ X5 (by rw [e59]; exact lP) (fun q hq => hq) (lk_nd lP) (fun q hq => by
          cases d : dcB σ P t b (flg n 111 σ) q with
          | false => rfl
          | true =>
            have := ((dc_in hx tn hq).1 d).2.1
            omega) l1
        rw [dc_succ hx t1 tn] at s2
        obtain ⟨σ3, u1, u2⟩ := c_dr_all h b d (t + 1) σ2 (.int (Int32.ofNat (mdX σ P t))) Y4 Y5 (by omega) (by omega) s2
        refine ⟨σ3, step ?_, u2⟩
        rw [kc_186_41, if_neg (fun y => m0 (a2.1 y))]; (try simp only [if_pos it, nt]); rw [kc_186_62, s1]
        exact u1
    · obtain ⟨σ2, s1, s2⟩ := skip σc he (fun q hq => by
        rw [hx.2.2.2.1.2.2 t tn k4] at hq
        cases hq)
      exact ⟨σ2, (hd _).2 (by rw [if_neg k4]; exact s1), s2⟩
/-- the component drops what is lost -/
theorem c_drop1 {σ τ : lj_S} {n : Nat} {P B : Nat → List Nat} {Fr : List Nat} {P' B' : Nat → List Nat} {Fr' : List Nat} (h : tw σ τ n P B Fr P' B' Fr') (b : Bool) : ∃ σ', lj_R lc_P 186 [.ref 8, .int (bI b)] σ = some (.inl none, σ') ∧ lf fdK (dpC σ (dcB σ P (n + 1) b (flg n 111 σ))) σ' := by
  have e : dpC σ (dcB σ P 1 b (flg n 111 σ)) = σ := by
    have : dcB σ P 1 b (flg n 111 σ) = fun _ => false := by
      funext x
      cases d : dcB σ P 1 b (flg n 111 σ) x with
      | false => rfl
      | true =>
        unfold dcB at d
        rw [Bool.and_eq_true, decide_eq_true_iff] at d
        omega
    rw [this]
    exact st_ext (fun k j => by rw [dpC_1, if_neg (by simp)]) (fun k j => by rw [dpC_2, if_neg (by simp)])
  obtain ⟨σ', r1, r2⟩ := c_dr_all h b n 1 σ (.retAddr 0) (.retAddr 0) (.retAddr 0) (Nat.le_refl _) (by omega) (by rw [e]; exact lf_rf _ _)
  refine ⟨σ', ?_, r2⟩
  rw [rc_186, kc_186_0]
  exact r1
