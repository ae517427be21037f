/-! the gathering: functions of the model; what is held by keys; all that is reached -/
theorem m_rfun_loop {n : Nat} (hn : n ≤ 2000) {W : Nat → Prop} {o f cap : Nat} (ho : o ≤ 2000) (hf : f < 51) (hcap : cap ≤ 30) : ∀ (d k : Nat) (τ : lj_S) (Q : List Nat) (X3 : Value), k + d = cap → τ.1 43 o = Int32.ofNat f → τ.1 15 f = Int32.ofNat cap → (∀ k, k < cap → ∃ c : Nat, c < 95000 ∧ τ.1 44 (30 * o + k) = Int32.ofNat c ∧ gdM n W (τ.1 54 c, τ.2 55 c)) → wqM n τ Q → ∃ τ' Q', lj_D lm_P lm_M214 30 [.ref 0, .int (Int32.ofNat o), .int (Int32.ofNat k), X3] [] τ = some (.inl none, τ') ∧ visM n W (fun x => x ≠ 0 ∧ ∃ j c : Nat, k ≤ j ∧ j < cap ∧ c < 95000 ∧ τ.1 44 (30 * o + j) = Int32.ofNat c ∧ x = ov (τ.1 54 c, τ.2 55 c)) τ Q τ' Q'
  | 0, k, τ, Q, X3, hd, h43, h15, hc, hm => by
    have io : lj_in (Int32.ofNat o) 2002 := ofN_in (by omega) (by omega)
    have no : (Int32.ofNat o).toNatClampNeg = o := lz_onat (by omega)
    have jf : lj_in (Int32.ofNat f) 51 := ofN_in (by omega) (by omega)
    have nf : (Int32.ofNat f).toNatClampNeg = f := lz_onat (by omega)
    refine ⟨τ, Q, ?_, (vis.rf hm).mo (fun x ⟨_, j, _, j1, j2, _⟩ => by omega)⟩
    rw [km_214_30]; simp only [if_pos io, no]; rw [h43]
    simp only [if_pos jf, nf]
    rw [h15, if_pos ((ofN_le (by omega) (by omega)).2 (by omega)), km_214_107]
  | d + 1, k, τ, Q, X3, hd, h43, h15, hc, hm => by
    have io : lj_in (Int32.ofNat o) 2002 := ofN_in (by omega) (by omega)
    have no : (Int32.ofNat o).toNatClampNeg = o := lz_onat (by omega)
    have jf : lj_in (Int32.ofNat f) 51 := ofN_in (by omega) (by omega)
    have nf : (Int32.ofNat f).toNatClampNeg = f := lz_onat (by omega)
    have ea : (30 : Int32) * Int32.ofNat o + Int32.ofNat k = Int32.ofNat (30 * o + k) := by rw [show (30 : Int32) = Int32.ofNat 30 from rfl, ← Int32.ofNat_mul, ← Int32.ofNat_add]
    have ia : lj_in (Int32.ofNat (30 * o + k)) 60060 := ofN_in (by omega) (by omega)
    have na : (Int32.ofNat (30 * o + k)).toNatClampNeg = 30 * o + k := lz_onat (by omega)
    obtain ⟨c, c1, c2, c3⟩ := hc k (by omega)
    have ic : lj_in (Int32.ofNat c) 95000 := ofN_in (by omega) (by omega)
    have nc : (Int32.ofNat c).toNatClampNeg = c := lz_onat (by omega)
    obtain ⟨τ1, Q1, r1, r2⟩ := m_reach hn hm (a := (τ.1 54 c, τ.2 55 c)) c3.1 c3.2.1 (W := W) c3.2.2
    have r1 : lj_R lm_P 210 [.ref 0, .int (τ.1 54 c), .long (τ.2 55 c)] τ = some (.inl none, τ1) := r1
    have e : ∀ k j, k ≠ 96 → k ≠ 98 → (k ≠ 0 ∨ j ≠ 157) → τ1.1 k j = τ.1 k j ∧ τ1.2 k j = τ.2 k j := fun k j z1 z2 z3 => visM.o r2 ⟨z1, z2, z3⟩
    obtain ⟨τ2, Q2, s1, s2⟩ := m_rfun_loop hn ho hf hcap d (k + 1) τ1 Q1 (.int (Int32.ofNat c)) (by omega) (by rw [(e 43 o (by omega) (by omega) (by omega)).1]; exact h43) (by rw [(e 15 f (by omega) (by omega) (by omega)).1]; exact h15) (fun j hj => by
      obtain ⟨x, x1, x2, x3⟩ := hc j hj
      exact ⟨x, x1, by rw [(e 44 _ (by omega) (by omega) (by omega)).1]; exact x2, by rw [(e 54 x (by omega) (by omega) (by omega)).1, (e 55 x (by omega) (by omega) (by omega)).2]; exact x3⟩) r2.1
    refine ⟨τ2, Q2, ?_, (r2.tr s2).mo (fun x ⟨x0, j, y, j1, j2, y1, y2, y3⟩ => ?_)⟩
    · rw [km_214_30]; simp only [if_pos io, no]; rw [h43]
      simp only [if_pos jf, nf]
      rw [h15, if_neg (fun z => by have := (ofN_le (by omega) (by omega)).1 z; omega), ea]; simp only [if_pos ia, na]; rw [c2]; simp only [if_pos ic, nc]; rw [r1, bv_ok, lz_osucc]
      exact s1
    · by_cases z : j = k
      · left
        rw [z, c2] at y2
        have : c = y := (ofN_eq (by omega) (by omega)).1 y2
        rw [this]
        exact ⟨y3, x0⟩
      · right
        exact ⟨x0, j, y, by omega, j2, y1, by rw [(e 44 _ (by omega) (by omega) (by omega)).1]; exact y2, by rw [(e 54 y (by omega) (by omega) (by omega)).1, (e 55 y (by omega) (by omega) (by omega)).2]; exact y3⟩
/-- places of tables that hold their keys weakly, by these -/
def bkI (σ τ : lj_S) (n : Nat) (P P' : Nat → List Nat) (Bk : Nat → List Nat) : Prop := (∀ o, o ≤ 2001 → lk (lv τ 100) (lv τ 99 o) (Bk o)) ∧ (∀ o, o ≤ 2001 → ∀ q ∈ Bk o, ∃ t, 1 ≤ t ∧ t ≤ n ∧ σ.1 57 t = 4 ∧ mdX σ P t = 1 ∧ q ∈ P' t ∧ ov (kyM τ q) = o ∧ o ≠ 0) ∧ ∀ t, 1 ≤ t → t ≤ n → σ.1 57 t = 4 → mdX σ P t = 1 → ∀ q ∈ P' t, τ.1 47 q ≠ 0 → ov (kyM τ q) ≠ 0 → q ∈ Bk (ov (kyM τ q))
theorem tm_1 {t : Nat} (h : 1 ≤ t) : tm t = t := by unfold tm; rw [if_neg (by omega)]
/-- what an object is the weak key of -/
theorem m_bykey_loop {σ0 τ0 σ : lj_S} {n np p : Nat} {r : List Nat} {FP : Nat → List kF} {ρ : Nat → Nat} {P B : Nat → List Nat} {Fr : List Nat} {P' B' : Nat → List Nat} {Fr' : List Nat} {W : Nat → Prop} {o : Nat} (o0 : o ≠ 0) (hWo : W o) (hWe : ∀ t k v, W t → W k → epX σ P t k v → W v) : ∀ (L : List Nat) (y : Int32) (τ : lj_S) (Q : List Nat), gw σ0 τ0 n np p r FP ρ P B Fr P' B' Fr' σ τ → lk (lv τ 100) y.toInt L → (∀ q ∈ L, ∃ t, 1 ≤ t ∧ t ≤ n ∧ σ.1 57 t = 4 ∧ mdX σ P t = 1 ∧ q ∈ P' t ∧ ov (kyM τ q) = o) → (∀ x, flg n 96 τ x = true → W x) → wqM n τ Q → ∃ τ' Q', lj_D lm_P lm_M213 7 [.ref 0, .int (Int32.ofNat o), .int y] [] τ = some (.inl none, τ') ∧ visM n W (fun v => v ≠ 0 ∧ ∃ q ∈ L, ∃ t, t ≤ n ∧ 1 ≤ t ∧ q ∈ P' t ∧ flg n 96 τ t = true ∧ τ.1 47 q ≠ 0 ∧ v = ov (vlM τ q)) τ Q τ' Q'
  | [], y, τ, Q, h, hl, _, _, hm => by
    have hl : y.toInt = -1 := hl
    refine ⟨τ, Q, ?_, (vis.rf hm).mo (fun v ⟨_, q, hq, _⟩ => by cases hq)⟩
    rw [km_213_7, if_pos (by rw [lz_lt, hl]; decide)]
  | q :: L, y, τ, Q, h, hl, hq, hf, hm => by
    obtain ⟨hl1, hl2⟩ := hl
    obtain ⟨t, t1, t2, t3, t4, t5, t6⟩ := hq q List.mem_cons_self
    have hx := h.2.1.2.2.1
    have hn := hx.1.1
    have tq : q ∈ P' (tm t) := by rw [tm_1 t1]; exact t5
    obtain ⟨a1, _, q', b1, b2, b3⟩ := hx.qp t2 tq
    have e49 : τ.1 49 q = Int32.ofNat t := (hx.2.2.1.1.2.2 t (by rw [← tm_1 t1]; exact tm_V t2) q t5).2.1
    have ey : y = Int32.ofNat q := lz_ext (by rw [lz_lit (by omega)]; exact hl1)
    subst ey
    have iq : lj_in (Int32.ofNat q) 3001 := ofN_in (by omega) (by omega)
    have nq : (Int32.ofNat q).toNatClampNeg = q := lz_onat (by omega)
    have it : lj_in (Int32.ofNat t) 2002 := ofN_in (by omega) (by omega)
    have nt : (Int32.ofNat t).toNatClampNeg = t := lz_onat (by omega)
    -- the rest
    have rest : ∀ (τ1 : lj_S) (Q1 : List Nat) (M : Nat → Prop), visM n W M τ Q τ1 Q1 → (flg n 96 τ t = true → τ.1 47 q ≠ 0 → ∀ v, v ≠ 0 → v = ov (vlM τ q) → M v) → ∃ τ' Q', lj_D lm_P lm_M213 50 [.ref 0, .int (Int32.ofNat o), .int (Int32.ofNat q)] [] τ1 = some (.inl none, τ') ∧ visM n W (fun v => v ≠ 0 ∧ ∃ q' ∈ q :: L, ∃ t, t ≤ n ∧ 1 ≤ t ∧ q' ∈ P' t ∧ flg n 96 τ t = true ∧ τ.1 47 q' ≠ 0 ∧ v = ov (vlM τ q')) τ Q τ' Q' := fun τ1 Q1 M hv hM => by
      have g1 : lf gKM τ τ1 := hv.2.1.mo (fun _ _ q => gRM_K q)
      have c : ∀ k j, k ≠ 96 → k ≠ 98 → (k ≠ 0 ∨ j ≠ 157) → τ1.1 k j = τ.1 k j ∧ τ1.2 k j = τ.2 k j := fun k j z1 z2 z3 => visM.o hv ⟨z1, z2, z3⟩
      have ek : ∀ x, kyM τ1 x = kyM τ x := fun x => by unfold kyM enM; rw [(c 45 x (by omega) (by omega) (by omega)).1, (c 46 x (by omega) (by omega) (by omega)).2]
      have ew : ∀ x, vlM τ1 x = vlM τ x := fun x => by unfold vlM enM; rw [(c 47 x (by omega) (by omega) (by omega)).1, (c 48 x (by omega) (by omega) (by omega)).2]
      have e100 : lv τ1 100 = lv τ 100 := by funext j; unfold lv; rw [(c 100 j (by omega) (by omega) (by omega)).1]
      obtain ⟨τ2, Q2, s1, s2⟩ := m_bykey_loop (p := p) (np := np) (r := r) (FP := FP) (ρ := ρ) o0 hWo hWe L (τ1.1 100 q) τ1 Q1 (h.cg (lf_rf _ σ) g1) (by rw [e100, (c 100 q (by omega) (by omega) (by omega)).1]; exact hl2) (fun x hx' => by
        obtain ⟨t', w1, w2, w3, w4, w5, w6⟩ := hq x (List.mem_cons_of_mem _ hx')
        exact ⟨t', w1, w2, w3, w4, w5, by rw [ek]; exact w6⟩) (fun x y => hv.inw hf y) hv.1
      refine ⟨τ2, Q2, by rw [km_213_50]; simp only [if_pos iq, nq]; exact s1, (hv.tr s2).mo (fun v ⟨v0, x, x1, t', x2, x3, x4, x5, x6, x7⟩ => ?_)⟩
      rcases List.mem_cons.1 x1 with e | e
      · left
        rw [e] at x4 x6 x7
        -- the table of a place is one
        have e49' : τ.1 49 q = Int32.ofNat t' := (hx.2.2.1.1.2.2 t' (by rw [← tm_1 x3]; exact tm_V x2) q x4).2.1
        have : t = t' := (ofN_eq (by omega) (by omega)).1 (by rw [← e49, ← e49'])
        rw [← this] at x5
        exact hM x5 x6 v v0 x7
      · right
        exact ⟨v0, x, e, t', x2, x3, x4, hv.up x5, by rw [(c 47 x (by omega) (by omega) (by omega)).1]; exact x6, by rw [ew]; exact x7⟩
    rw [km_213_7, if_neg (ofN_nneg (by omega))]; simp only [if_pos iq, nq]; rw [e49]; simp only [if_pos it, nt]
    by_cases f : τ.1 96 t = 0
    · rw [if_pos f]
      exact rest τ Q _ (vis.rf hm) (fun y => by unfold flg at y; rw [f] at y; simp at y)
    · have ft : flg n 96 τ t = true := by unfold flg; simp [f, t2]
      rw [if_neg f]; (try simp only [if_pos iq])
      by_cases z : τ.1 47 q = 0
      · rw [if_pos z]
        exact rest τ Q _ (vis.rf hm) (fun _ y => absurd z y)
      · obtain ⟨d1, d2, d3, d4⟩ := b3 z
        obtain ⟨τ1, Q1, r1, r2⟩ := m_reach hn hm (a := vlM τ q) d3 d4 (W := W) (fun y => hWe t o _ (hf t ft) hWo ⟨t3, t4, o0, y, q', b1, d1, by rw [← t6, b2], d2⟩)
        have r1 : lj_R lm_P 210 [.ref 0, .int (τ.1 47 q), .long (τ.2 48 q)] τ = some (.inl none, τ1) := r1
        rw [if_neg z]; (try simp only [if_pos iq]); rw [r1, bv_ok]
        exact rest τ1 Q1 _ r2 (fun _ _ v v0 e => ⟨e, v0⟩)
theorem bkI_cg {σ τ σ' τ' : lj_S} {n : Nat} {P P' Bk : Nat → List Nat} (h : bkI σ τ n P P' Bk) (h57 : ∀ t, σ'.1 57 t = σ.1 57 t) (hmd : ∀ t, mdX σ' P t = mdX σ P t) (hM : ∀ k j, k = 45 ∨ k = 46 ∨ k = 99 ∨ k = 100 → τ'.1 k j = τ.1 k j ∧ τ'.2 k j = τ.2 k j) (h47 : ∀ j, τ'.1 47 j ≠ 0 → τ.1 47 j ≠ 0) : bkI σ' τ' n P P' Bk := by
  have ek : ∀ x, kyM τ' x = kyM τ x := fun x => by unfold kyM enM; rw [(hM 45 x (by omega)).1, (hM 46 x (by omega)).2]
  have e100 : lv τ' 100 = lv τ 100 := by funext j; unfold lv; rw [(hM 100 j (by omega)).1]
  refine ⟨fun o ho => ?_, fun o ho q hq => ?_, fun t t1 t2 t3 t4 q hq z y => ?_⟩
  · rw [e100]
    unfold lv
    rw [(hM 99 o (by omega)).1]
    exact h.1 o ho
  · obtain ⟨t, w1, w2, w3, w4, w5, w6⟩ := h.2.1 o ho q hq
    exact ⟨t, w1, w2, by rw [h57]; exact w3, by rw [hmd]; exact w4, w5, by rw [ek]; exact w6⟩
  · rw [ek] at y ⊢
    rw [h57] at t3
    rw [hmd] at t4
    exact h.2.2 t t1 t2 t3 t4 q hq (h47 q z) y
/-- flags of the model, the globals too -/
def fl0 (n : Nat) (τ : lj_S) (x : Nat) : Bool := flg n 96 τ x || x == 0
theorem rgN.z {n : Nat} {W : Nat → Prop} {S S' : Nat → Bool} {Q Q' : List Nat} (h : rgN n (fun x => W x ∧ x ≠ 0) S Q S' Q') : rgN n W (fun x => S x || x == 0) Q (fun x => S' x || x == 0) Q' := by
  obtain ⟨N, h1, h2, h3, h4⟩ := h
  refine ⟨N, h1, fun x => ?_, h3, fun x hx => ?_⟩
  · have := h2 x
    simp only [Bool.or_eq_true]
    rw [this]
    constructor
    · rintro ((z | z) | z)
      · exact Or.inl (Or.inl z)
      · exact Or.inr z
      · exact Or.inl (Or.inr z)
    · rintro ((z | z) | z)
      · exact Or.inl (Or.inl z)
      · exact Or.inr z
      · exact Or.inl (Or.inr z)
  · obtain ⟨w1, w2, w3, w4⟩ := h4 x hx
    exact ⟨by simp [w1, w4], w2, w3⟩
