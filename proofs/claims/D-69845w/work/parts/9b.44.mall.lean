/-! the gathering: all that is reached, the model -/
/-- parts that were gone through: all that they hold is flagged -/
def pgI (σ0 σ τ : lj_S) (n np p : Nat) (FP : Nat → List kF) : Prop := ∀ q, q ≤ np → τ.1 97 q ≠ 0 → ∀ x, ptC σ0 σ p FP q x → flg n 96 τ x = true
theorem mdX_0 {σ τ : lj_S} {n : Nat} (h : obR σ τ n) (P : Nat → List Nat) : mdX σ P 0 = 0 := by
  unfold mdX lv
  rw [h.1, if_pos (by decide)]
/-- one object of the model is gone through -/
theorem m_one1 {σ0 τ0 σ τ : lj_S} {n np p : Nat} {r : List Nat} {FP : Nat → List kF} {ρ : Nat → Nat} {P B : Nat → List Nat} {Fr : List Nat} {P' B' : Nat → List Nat} {Fr' : List Nat} {Bk : Nat → List Nat} (h : gw σ0 τ0 n np p r FP ρ P B Fr P' B' Fr' σ τ) (hb : bkI σ τ n P P' Bk) {o : Nat} (o0 : o ≠ 0) {W : Nat → Prop} (hok : ∀ x, W x → okO σ n x) (hWo : W o) (hE : ∀ x, edX σ0 σ τ p FP P o x → W x) (hWe : ∀ t k v, W t → W k → epX σ P t k v → W v) (hf : ∀ x, flg n 96 τ x = true → W x) (hg : ∀ q, q ≤ np → τ.1 58 q ≠ 4 → gcF τ q n W (FP q)) (hpf : pgI σ0 σ τ n np p FP) {Q : List Nat} (hm : wqM n τ Q) : ∃ τ1 τ' Q', lj_R lm_P 213 [.ref 0, .int (Int32.ofNat o)] τ = some (.inl none, τ1) ∧ lj_R lm_P 214 [.ref 0, .int (Int32.ofNat o)] τ1 = some (.inl none, τ') ∧ visN n W (fun x => edX σ0 σ τ p FP P o x ∨ (∃ t, flg n 96 τ t = true ∧ epX σ P t o x) ∨ ∃ k, flg n 96 τ k = true ∧ epX σ P o k x) τ Q τ' Q' ∧ pgI σ0 σ τ' n np p FP ∧ ∀ k j, k ≠ 96 → k ≠ 97 → k ≠ 98 → ¬ (k = 0 ∧ (j = 157 ∨ j = 90 ∨ j = 91)) → τ'.1 k j = τ.1 k j ∧ τ'.2 k j = τ.2 k j := by
  have hx := h.2.1.2.2.1
  have hn := hx.1.1
  have ok := hok o hWo
  have o2 := ok.1
  have io : lj_in (Int32.ofNat o) 2002 := ofN_in (by omega) (by omega)
  have no : (Int32.ofNat o).toNatClampNeg = o := lz_onat (by omega)
  -- by keys
  obtain ⟨τ1, Q1, r1, r2⟩ := m_bykey_loop (p := p) (np := np) (r := r) (FP := FP) (ρ := ρ) (B := B) o0 hWo hWe (Bk o) (τ.1 99 o) τ Q h (hb.1 o (by omega)) (fun q hq => by
    obtain ⟨t, w1, w2, w3, w4, w5, w6, _⟩ := hb.2.1 o (by omega) q hq
    exact ⟨t, w1, w2, w3, w4, w5, w6⟩) hf hm
  have g1 : lf gKM τ τ1 := r2.2.1.mo (fun _ _ q => gRM_K q)
  have h1 := h.cg (lf_rf _ σ) g1
  have c1 : ∀ k j, k ≠ 96 → k ≠ 98 → (k ≠ 0 ∨ j ≠ 157) → τ1.1 k j = τ.1 k j ∧ τ1.2 k j = τ.2 k j := fun k j z1 z2 z3 => visM.o r2 ⟨z1, z2, z3⟩
  have L1 : ∀ x, (∃ t, flg n 96 τ t = true ∧ epX σ P t o x) → flg n 96 τ1 x = true := fun x ⟨t, t1, t2, t3, t4, t5, q, q1, q2, q3, q4⟩ => by
    have tW := hf t t1
    have t0 : t ≠ 0 := fun z => by
      rw [z, mdX_0 h.2.1.2.2.2] at t3
      omega
    have tn := (hok t tW).1
    obtain ⟨q', w1, w2, w3, w4⟩ := hx.pq tn q1 q2
    rw [tm_1 (by omega)] at w1
    have e : ov (kyM τ q') = o := by rw [w3, ← q3]
    have qB := hb.2.2 t (by omega) tn t2 t3 q' w1 w2 (by rw [e]; exact o0)
    rw [e] at qB
    exact r2.2.2.2 x ⟨t5, q', qB, t, tn, by omega, w1, t1, w2, by rw [w4]; exact q4⟩
  have v1 : visN n W (fun x => ∃ t, flg n 96 τ t = true ∧ epX σ P t o x) τ Q τ1 Q1 := ⟨r2.1, g1, r2.2.2.1, L1⟩
  have run1 : lj_R lm_P 213 [.ref 0, .int (Int32.ofNat o)] τ = some (.inl none, τ1) := by
    rw [rm_213, km_213_0]; (try simp only [if_pos io, no])
    exact r1
  have e38 : τ1.1 38 o = σ.1 57 o := by rw [(c1 38 o (by omega) (by omega) (by omega)).1]; exact (h.2.1.2.2.2.2 o (by omega) o2).1.1.symm
  have hf1 : ∀ x, flg n 96 τ1 x = true → W x := fun x y => v1.inw hf y
  have ed1 : ∀ o x, edX σ0 σ τ1 p FP P o x ↔ edX σ0 σ τ p FP P o x := fun o x => edX_gK (lf_rf _ σ) g1 p FP P o x
  have hg1 : ∀ q, q ≤ np → τ1.1 58 q ≠ 4 → gcF τ1 q n W (FP q) := fun q q1 q2 => gcF_cg (fun k j z => (c1 k j (by omega) (by omega) (by omega)).1) (hg q q1 (by rw [← (c1 58 q (by omega) (by omega) (by omega)).1]; exact q2))
  have hpf1 : pgI σ0 σ τ1 n np p FP := fun q q1 q2 x hx' => v1.up (hpf q q1 (by rw [← (c1 97 q (by omega) (by omega) (by omega)).1]; exact q2) x hx')
  by_cases k4 : σ.1 57 o = 4
  · obtain ⟨τ2, Q2, s1, s2, s3⟩ := m_rtab h1.2.1 (by omega) o2 k4 (W := W) r2.1 hf1 (fun x x0 y => hE x (Or.inl ⟨k4, Or.inl ⟨x0, y⟩⟩)) (fun q hq z => ⟨fun y1 y2 => hE _ (Or.inl ⟨k4, Or.inr ⟨q, hq, z, y2, Or.inl ⟨y1, rfl⟩⟩⟩), fun y1 y2 => hE _ (Or.inl ⟨k4, Or.inr ⟨q, hq, z, y2, Or.inr ⟨Or.inl y1, rfl⟩⟩⟩), fun y1 y2 y3 => by
      by_cases k0 : ov (kyC σ q) = 0
      · exact hE _ (Or.inl ⟨k4, Or.inr ⟨q, hq, z, y3, Or.inr ⟨Or.inr ⟨y1, Or.inl k0⟩, rfl⟩⟩⟩)
      · exact hWe _ _ _ hWo (y2.resolve_left k0) ⟨k4, y1, k0, y3, q, hq, z, rfl, rfl⟩⟩)
    refine ⟨τ1, τ2, Q2, run1, ?_, (v1.tr s2).mo (fun x hx' => ?_), fun q q1 q2 x hx' => s2.up (hpf1 q q1 (by rw [← (s3 97 q (by omega) (by omega) (by omega)).1]; exact q2) x hx'), fun k j z1 z2 z3 z4 => ?_⟩
    · rw [rm_214, km_214_0]; (try simp only [if_pos io, no]); rw [e38, if_pos k4, s1, bv_ok, km_214_107]
    · rcases hx' with (⟨_, hx'⟩ | ⟨z, _⟩ | ⟨z, _⟩) | hx' | ⟨k, k1, k2, k3, k4', k5, q, q1, q2, q3, q4⟩
      · exact Or.inr (hx'.imp id (fun ⟨q, q1, q2, q3⟩ => ⟨q, q1, q2, q3.up (fun y z => by cases z)⟩))
      · rw [k4] at z; exact absurd z (by decide)
      · rw [k4] at z; exact absurd z (by decide)
      · exact Or.inl hx'
      · exact Or.inr (Or.inr ⟨q, q1, q2, k5, Or.inr ⟨Or.inr ⟨k3, Or.inr (by rw [← q3]; exact v1.up k1)⟩, q4⟩⟩)
    · obtain ⟨w1, w2⟩ := s3 k j z1 z3 z4
      obtain ⟨w3, w4⟩ := c1 k j z1 z3 (by omega)
      exact ⟨w1.trans w3, w2.trans w4⟩
  · obtain ⟨_, k56⟩ := ok.2.resolve_left k4
    have ob : ∀ k, σ.1 57 o = k → obA σ τ1 o k := fun k e => ⟨by omega, by omega, by have := hx.1.2.1; omega, e, by rw [e38]; exact e⟩
    by_cases k5 : σ.1 57 o = 5
    · obtain ⟨f, cap, rr, f1, f2, f3, ⟨f4, f4'⟩, ⟨f5, f5', f5''⟩, f6, f7⟩ := h1.fn (ob 5 k5)
      obtain ⟨τ2, Q2, s1, s2⟩ := m_rfun_loop hn (W := W) (o := o) (f := f) (cap := cap) (by omega) f1 f2 cap 0 τ1 Q1 (.retAddr 0) (by omega) f4' f5' (fun k hk => by
        obtain ⟨c, x1, x2, x3, x4, x5, x6, x7⟩ := f7 k hk
        exact ⟨ρ (loC σ c), x4, x3, x5.gm hx.1.2.1 (fun y => by
          rw [← x5.oj.1] at y ⊢
          exact hE _ ((ed1 o _).1 (Or.inr (Or.inl ⟨k5, y, k, c, x7, rfl⟩))))⟩) r2.1
      refine ⟨τ1, τ2, Q2, run1, ?_, (v1.tr (s2.fr (fun _ _ q => gRM_K q))).mo (fun x hx' => ?_), fun q q1 q2 x hx' => s2.up (hpf1 q q1 (by rw [← (visM.o s2 (k := 97) (j := q) (by omega)).1]; exact q2) x hx'), fun k j z1 z2 z3 z4 => ?_⟩
      · rw [rm_214, km_214_0]; (try simp only [if_pos io, no]); rw [e38, if_neg k4, if_pos k5]
        rw [show (0 : Int32) = Int32.ofNat 0 from rfl]
        exact s1
      · rcases hx' with hx' | hx' | ⟨k, k1, k2, _⟩
        · rcases (ed1 o x).2 hx' with ⟨z, _⟩ | ⟨_, x0, k, c, cp, hx''⟩ | ⟨z, _⟩
          · exact absurd z k4
          · right
            obtain ⟨_, f', r', y1, y2, y3, y4, y5, y6, y7⟩ := cp
            have ef : f' = f := (ofN_eq (by omega) (by omega)).1 (by rw [← y2, ← f4])
            have er : r' = rr := (ofN_eq (by omega) (by omega)).1 (by rw [← y5, ← f6])
            rw [ef] at y3
            rw [er] at y6
            have kc : k < cap := by omega
            obtain ⟨c', x1, x2, x3, x4, x5, _⟩ := f7 k kc
            have ec : c' = c := (ofN_eq (by omega) (by omega)).1 (by rw [← x2, ← y6])
            rw [ec] at x3 x4 x5
            exact ⟨x0, k, ρ (loC σ c), Nat.zero_le _, kc, x4, x3, by rw [← x5.oj.1]; exact hx''⟩
          · rw [k5] at z; exact absurd z (by decide)
        · exact Or.inl hx'
        · exact absurd k2 k4
      · obtain ⟨w1, w2⟩ := visM.o s2 (k := k) (j := j) (by omega)
        obtain ⟨w3, w4⟩ := c1 k j z1 z3 (by omega)
        exact ⟨w1.trans w3, w2.trans w4⟩
    · have k6 := k56.resolve_left k5
      obtain ⟨q, q1, q2, q3, q4⟩ := h1.2.2.2.1.2.2.2.2.2.2.2.2.2.2.1.2 o (ob 6 k6)
      have np25 := h.2.2.2.1.1.2.2
      -- the model's number of the part
      obtain ⟨q', p1, p2, p3, p4⟩ := (h1.2.1.2.2.2.2 o (by omega) o2).2.2.2 k6
      have eq : q' = q := (ofN_eq (by omega) (by omega)).1 (by rw [← p3, ← q3])
      rw [eq] at p4
      have iq : lj_in (Int32.ofNat q) 26 := ofN_in (by omega) (by omega)
      have nq : (Int32.ofNat q).toNatClampNeg = q := lz_onat (by omega)
      have hd : lj_R lm_P 214 [.ref 0, .int (Int32.ofNat o)] τ1 = (if τ1.1 58 q = 4 then some (.inl none, τ1) else lj_bv (lj_R lm_P 211 [.ref 0, .int (Int32.ofNat q)] τ1) (fun σ1 => some (.inl none, σ1)) lj_up) := by
        rw [rm_214, km_214_0]; (try simp only [if_pos io, no]); rw [e38, if_neg k4, if_neg k5, p4]
        (try simp only [if_pos iq, nq, if_pos io, km_214_107])
      -- what the part leads to
      have lead : ∀ x, edX σ0 σ τ p FP P o x → τ1.1 58 q ≠ 4 ∧ ptC σ0 σ p FP q x := fun x hx' => by
        rcases (ed1 o x).2 hx' with ⟨z, _⟩ | ⟨z, _⟩ | ⟨_, q'', _, y2, y3, y4, y5⟩
        · exact absurd z k4
        · exact absurd z k5
        · rw [q3] at y3
          have : q = q'' := (ofN_eq (by omega) (by omega)).1 y3
          rw [this]
          exact ⟨y4, y5⟩
      by_cases z : τ1.1 58 q = 4
      · refine ⟨τ1, τ1, Q1, run1, by rw [hd, if_pos z], v1.mo (fun x hx' => ?_), hpf1, fun k j z1 z2 z3 z4 => c1 k j z1 z3 (by omega)⟩
        rcases hx' with hx' | hx' | ⟨k, k1, k2, _⟩
        · exact absurd z (lead x hx').1
        · exact hx'
        · exact absurd k2 k4
      · by_cases y : τ1.1 97 q = 0
        · obtain ⟨τ2, Q2, s1, s2, s3, s4⟩ := m_rpart h1 q2 z (W := W) (fun x hx' => hE x ((ed1 o x).1 (Or.inr (Or.inr ⟨k6, q, q1, by omega, q3, z, hx'⟩)))) (hg1 q q2 z) r2.1 y
          refine ⟨τ1, τ2, Q2, run1, by rw [hd, if_neg z, s1, bv_ok], (v1.tr s2).mo (fun x hx' => ?_), fun u u1 u2 x hx' => ?_, fun k j z1 z2 z3 z4 => ?_⟩
          · rcases hx' with hx' | hx' | ⟨k, k1, k2, _⟩
            · exact Or.inr (Or.inl (lead x hx').2)
            · exact Or.inl hx'
            · exact absurd k2 k4
          · rw [s3] at u2
            by_cases w : u = q
            · rw [w] at hx'; exact s2.2.2.2 x (Or.inl hx')
            · rw [if_neg w] at u2
              exact s2.up (hpf1 u u1 u2 x hx')
          · obtain ⟨w1, w2⟩ := s4 k j z1 z2 z3 (by omega)
            obtain ⟨w3, w4⟩ := c1 k j z1 z3 (by omega)
            exact ⟨w1.trans w3, w2.trans w4⟩
        · refine ⟨τ1, τ1, Q1, run1, ?_, ⟨v1.1, v1.2.1, v1.2.2.1, fun x hx' => ?_⟩, hpf1, fun k j z1 z2 z3 z4 => c1 k j z1 z3 (by omega)⟩
          · rw [hd, if_neg z, rm_211, km_211_0]; (try simp only [if_pos iq, nq]); rw [if_neg y, bv_ok]
          · rcases hx' with hx' | hx' | ⟨k, k1, k2, _⟩
            · exact hpf1 q q2 y x (lead x hx').2
            · exact v1.2.2.2 x hx'
            · exact absurd k2 k4
/-- the loop: all that waits is gone through -/
theorem m_rall {σ0 τ0 σ : lj_S} {n np p : Nat} {r : List Nat} {FP : Nat → List kF} {ρ : Nat → Nat} {P B : Nat → List Nat} {Fr : List Nat} {P' B' : Nat → List Nat} {Fr' : List Nat} {Bk : Nat → List Nat} {root : Nat → Prop} {edge : Nat → Nat → Prop} {eph : Nat → Nat → Nat → Prop} (hp : ∀ t k v, eph t k v ↔ epX σ P t k v) (hok : ∀ x, lstR root edge eph x → okO σ n x) : ∀ (m : Nat) (τ : lj_S) (Q : List Nat) (X1 : Value), cnt0 (flg n 96 τ) n + Q.length ≤ m → gw σ0 τ0 n np p r FP ρ P B Fr P' B' Fr' σ τ → bkI σ τ n P P' Bk → (∀ o x, edge o x ↔ edX σ0 σ τ p FP P o x) → (∀ q, q ≤ np → τ.1 58 q ≠ 4 → gcF τ q n (lstR root edge eph) (FP q)) → pgI σ0 σ τ n np p FP → wqM n τ Q → wlI root edge eph n (fl0 n τ) Q → (∀ x ∈ Q, x ≠ 0) → ∃ τ', lj_D lm_P lm_M212 0 [.ref 0, X1] [] τ = some (.inl none, τ') ∧ wqM n τ' [] ∧ wlI root edge eph n (fl0 n τ') [] ∧ pgI σ0 σ τ' n np p FP ∧ (∀ k j, k ≠ 96 → k ≠ 97 → k ≠ 98 → ¬ (k = 0 ∧ (j = 157 ∨ j = 90 ∨ j = 91)) → τ'.1 k j = τ.1 k j ∧ τ'.2 k j = τ.2 k j) ∧ ∀ x, flg n 96 τ x = true → flg n 96 τ' x = true
  | m, τ, [], X1, hmm, h, hb, he, hg, hpf, hm, hw, h0 => by
    refine ⟨τ, ?_, hm, hw, hpf, fun _ _ _ _ _ _ => ⟨rfl, rfl⟩, fun _ y => y⟩
    rw [km_212_0, hm.1, if_pos (by decide)]
  | 0, τ, o :: Q, X1, hmm, h, hb, he, hg, hpf, hm, hw, h0 => by
    rw [List.length_cons] at hmm
    omega
  | m + 1, τ, o :: Q, X1, hmm, h, hb, he, hg, hpf, hm, hw, h0 => by
    have hn := h.2.1.2.2.1.1.1
    have o0 := h0 o List.mem_cons_self
    have Wo := (hw.1 o (hw.2.1 o List.mem_cons_self)).1
    have ok := hok o Wo
    have o2 := ok.1
    have cl := lstR_clo root edge eph
    have lQ := hm.2.2
    rw [List.length_cons] at lQ hmm
    have e57 : τ.1 0 157 = Int32.ofNat (Q.length + 1) := hm.1
    have em : Int32.ofNat (Q.length + 1) - 1 = Int32.ofNat Q.length := lz_ext (by
      have t1 : (1 : Int32).toInt = 1 := by decide
      rw [lz_sub (by rw [lz_lit (by omega), t1]; omega), lz_lit (by omega), lz_lit (by omega), t1]
      omega)
    have i2 : lj_in (Int32.ofNat Q.length) 2004 := ofN_in (by omega) (by omega)
    have nq : (Int32.ofNat Q.length).toNatClampNeg = Q.length := lz_onat (by omega)
    have e98 : τ.1 98 Q.length = Int32.ofNat o := hm.2.1.1
    obtain ⟨τ1, hτ1⟩ : ∃ τ1, τ1 = lj_put τ 0 157 (Int32.ofNat Q.length) := ⟨_, rfl⟩
    have c1 : ∀ k j, ¬ (k = 0 ∧ j = 157) → τ1.1 k j = τ.1 k j := fun k j z => by rw [hτ1, lj_put_1, if_neg z]
    have c1' : τ1.2 = τ.2 := by rw [hτ1]; rfl
    have g1 : lf gKM τ τ1 := by rw [hτ1]; exact lf_put (lf_rf _ _) _ _ _ rfl
    have fl1 : flg n 96 τ1 = flg n 96 τ := by funext x; unfold flg; rw [c1 96 x (by omega)]
    have hm1 : wqM n τ1 Q := ⟨by rw [hτ1, lj_put_1, if_pos ⟨rfl, rfl⟩], pil_cg hm.2.1.2 (fun j _ => c1 98 j (by omega)), by rw [fl1]; omega⟩
    have h1 := h.cg (lf_rf _ σ) g1
    have hb1 : bkI σ τ1 n P P' Bk := bkI_cg hb (fun _ => rfl) (fun _ => rfl) (fun k j z => ⟨c1 k j (by omega), by rw [c1']⟩) (fun j z => by rw [← c1 47 j (by omega)]; exact z)
    have ed1 : ∀ o x, edge o x ↔ edX σ0 σ τ1 p FP P o x := fun o x => (he o x).trans (edX_gK (lf_rf _ σ) g1 p FP P o x).symm
    have hf1 : ∀ x, flg n 96 τ1 x = true → lstR root edge eph x := fun x y => by
      rw [fl1] at y
      exact (hw.1 x (by unfold fl0; rw [y]; rfl)).1
    obtain ⟨τ2, τ3, Q3, r1, r2, r3, r4, r5⟩ := m_one1 h1 hb1 o0 hok Wo (fun x hx => cl.2.1 o x Wo ((ed1 o x).2 hx)) (fun t k v a b c => cl.2.2 t k v a b ((hp t k v).2 c)) hf1 (fun q q1 q2 => gcF_cg (fun k j z => c1 k j (by omega)) (hg q q1 (by rw [← c1 58 q (by omega)]; exact q2))) (fun q q1 q2 x hx => by rw [fl1]; exact hpf q q1 (by rw [← c1 97 q (by omega)]; exact q2) x hx) hm1
    have rg0 : rgN n (fun x => lstR root edge eph x ∧ x ≠ 0) (flg n 96 τ) Q (flg n 96 τ3) Q3 := by
      have := r3.2.2.1
      rw [fl1] at this
      exact this
    have rg : rgN n (lstR root edge eph) (fl0 n τ) Q (fl0 n τ3) Q3 := rg0.z
    have up : ∀ x, flg n 96 τ3 x = true → fl0 n τ3 x = true := fun x y => by unfold fl0; rw [y]; rfl
    have dn : ∀ x, x ≠ 0 → fl0 n τ x = true → flg n 96 τ1 x = true := fun x x0 y => by
      rw [fl1]
      unfold fl0 at y
      simpa [x0] using y
    have w3 : wlI root edge eph n (fl0 n τ3) Q3 := hw.step rg (fun x hx => up x (r3.2.2.2 x (Or.inl ((ed1 o x).1 hx)))) (fun k v y1 y2 => by
      have y3 := (hp o k v).1 y2
      exact up v (r3.2.2.2 v (Or.inr (Or.inr ⟨k, dn k y3.2.2.1 y1, y3⟩)))) (fun t v y1 y2 y3 => by
      have y4 := (hp t o v).1 y3
      have t0 : t ≠ 0 := fun z => by
        have := y4.2.1
        rw [z, mdX_0 h.2.1.2.2.2] at this
        omega
      exact up v (r3.2.2.2 v (Or.inr (Or.inl ⟨t, dn t t0 y1, y4⟩))))
    have ct := rg0.ct
    have g3 : lf gKM τ τ3 := g1.tr r3.2.1
    have c3 : ∀ k j, k ≠ 96 → k ≠ 97 → k ≠ 98 → ¬ (k = 0 ∧ (j = 157 ∨ j = 90 ∨ j = 91)) → τ3.1 k j = τ.1 k j ∧ τ3.2 k j = τ.2 k j := fun k j z1 z2 z3 z4 => by
      obtain ⟨w1, w2⟩ := r5 k j z1 z2 z3 z4
      exact ⟨w1.trans (c1 k j (by omega)), by rw [w2, c1']⟩
    obtain ⟨τ4, t1, t2, t3, t4, t5, t6⟩ := m_rall (r := r) (ρ := ρ) (B := B) (Fr := Fr) (P' := P') (B' := B') (Fr' := Fr') (Bk := Bk) hp hok m τ3 Q3 (.int (Int32.ofNat o)) (by omega) (h.cg (lf_rf _ σ) g3) (bkI_cg hb (fun _ => rfl) (fun _ => rfl) (fun k j z => c3 k j (by omega) (by omega) (by omega) (by omega)) (fun j z => by rw [← (c3 47 j (by omega) (by omega) (by omega) (by omega)).1]; exact z)) (fun o x => (he o x).trans (edX_gK (lf_rf _ σ) g3 p FP P o x).symm) (fun q q1 q2 => gcF_cg (fun k j z => (c3 k j (by omega) (by omega) (by omega) (by omega)).1) (hg q q1 (by rw [← (c3 58 q (by omega) (by omega) (by omega) (by omega)).1]; exact q2))) r4 r3.1 w3 (fun x hx => by
      obtain ⟨N, n1, _, _, n4⟩ := rg0
      rw [n1] at hx
      rcases List.mem_append.1 hx with y | y
      · exact (n4 x y).2.2.2
      · exact h0 x (List.mem_cons_of_mem _ y))
    refine ⟨τ4, ?_, t2, t3, t4, fun k j z1 z2 z3 z4 => ?_, fun x hx => t6 x (rg0.up hx)⟩
    · rw [km_212_0, e57, if_neg (by rw [lz_le, lz_lit (by omega)]; show ¬ (((Q.length + 1 : Nat) : Int) ≤ 0); omega), em]; (try simp only [if_pos i2, nq]); rw [e98, ← hτ1, r1, bv_ok, r2, bv_ok]
      exact t1
    · obtain ⟨w1, w2⟩ := t5 k j z1 z2 z3 z4
      obtain ⟨w3, w4⟩ := c3 k j z1 z2 z3 z4
      exact ⟨w1.trans w3, w2.trans w4⟩
