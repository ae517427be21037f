/-! the gathering: all that is reached, the component: the loop -/
theorem c_rdead {σ : lj_S} {q : Nat} (hq : q < 26) (h83 : σ.1 83 q = 4) (h90 : True) : lj_R lc_P 178 [.ref 8, .int (Int32.ofNat q)] σ = some (.inl none, σ) := by
  have iq : lj_in (Int32.ofNat q) 26 := ofN_in (by omega) (by omega)
  have nq : (Int32.ofNat q).toNatClampNeg = q := lz_onat (by omega)
  rw [rc_178, kc_178_0]; simp only [if_pos iq, nq]; rw [h83, if_neg (by decide), kc_178_25, kc_178_27]; simp only [if_pos iq, nq]
  by_cases z : σ.1 90 q ≤ 0
  · rw [if_pos z, kc_178_114]
  · rw [if_neg z]; (try simp only [if_pos iq]); rw [h83, if_pos rfl, kc_178_114]
/-- one object of the component is gone through -/
theorem c_one1 {σ0 τ0 σ τ : lj_S} {n np p : Nat} {r : List Nat} {FP : Nat → List kF} {ρ : Nat → Nat} {P B : Nat → List Nat} {Fr : List Nat} {P' B' : Nat → List Nat} {Fr' : List Nat} (h : gw σ0 τ0 n np p r FP ρ P B Fr P' B' Fr' σ τ) {Fn : Nat} (fx : FR σ0 τ0 Fn) (h38 : sh38 σ0) {o : Nat} (ok : okO σ n o) {W : Nat → Prop} (hE : ∀ x, edX σ0 σ τ p FP P o x → W x) (hP : ∀ k v, W k → epX σ P o k v → W v) (hf : ∀ x, flg n 111 σ x = true → W x) {Q K : List Nat} (hm : wqC n σ Q) (hK : wkK σ K) (hKl : K.length ≤ 2000) : ∃ σ' Q' K', (if σ.1 57 o = 4 then lj_R lc_P 182 [.ref 8, .int (Int32.ofNat o)] σ else if σ.1 57 o = 5 then lj_R lc_P 185 [.ref 8, .int (Int32.ofNat o)] σ else lj_R lc_P 178 [.ref 8, .int (σ.1 64 o)] σ) = some (.inl none, σ') ∧ visK n W (fun x => edX σ0 σ τ p FP P o x ∨ ∃ k, flg n 111 σ k = true ∧ epX σ P o k x) σ Q σ' Q' ∧ wkK σ' K' ∧ K' = if σ.1 57 o = 4 ∧ mdX σ P o = 1 then K ++ [o] else K := by
  have hn := h.2.1.2.2.1.1.1
  by_cases k4 : σ.1 57 o = 4
  · rw [if_pos k4]
    obtain ⟨σ', Q', K', r1, r2, r3, r4⟩ := c_rtab h.2.1 ok.1 (Or.inr k4) (W := W) hm hK hKl hf (fun x x0 y => hE x (Or.inl ⟨k4, Or.inl ⟨x0, y⟩⟩)) (fun q hq z => ⟨fun y1 y2 => hE _ (Or.inl ⟨k4, Or.inr ⟨q, hq, z, y2, Or.inl ⟨y1, rfl⟩⟩⟩), fun y1 y2 => hE _ (Or.inl ⟨k4, Or.inr ⟨q, hq, z, y2, Or.inr ⟨Or.inl y1, rfl⟩⟩⟩), fun y1 y2 y3 => by
      by_cases k0 : ov (kyC σ q) = 0
      · exact hE _ (Or.inl ⟨k4, Or.inr ⟨q, hq, z, y3, Or.inr ⟨Or.inr ⟨y1, Or.inl k0⟩, rfl⟩⟩⟩)
      · exact hP _ _ (y2.resolve_left k0) ⟨k4, y1, k0, y3, q, hq, z, rfl, rfl⟩⟩)
    refine ⟨σ', Q', K', r1, r2.mo (fun x hx => ?_), r3, ?_⟩
    · rcases hx with (⟨_, hx⟩ | ⟨z, _⟩ | ⟨z, _⟩) | ⟨k, k1, k2, k3, k4', k5, q, q1, q2, q3, q4⟩
      · exact hx.imp id (fun ⟨q, q1, q2, q3⟩ => ⟨q, q1, q2, q3.up (fun y z => by cases z)⟩)
      · rw [k4] at z; exact absurd z (by decide)
      · rw [k4] at z; exact absurd z (by decide)
      · exact Or.inr ⟨q, q1, q2, k5, Or.inr ⟨Or.inr ⟨k3, Or.inr (by rw [← q3]; exact k1)⟩, q4⟩⟩
    · rw [r4]
      by_cases z : mdX σ P o = 1
      · rw [if_pos z, if_pos ⟨k4, z⟩]
      · rw [if_neg z, if_neg (fun y => z y.2)]
  · have nK : ¬ (σ.1 57 o = 4 ∧ mdX σ P o = 1) := fun y => k4 y.1
    rw [if_neg k4, if_neg nK]
    obtain ⟨o0, k56⟩ := ok.2.resolve_left k4
    have o2 := ok.1
    -- the model's kind
    have ob : ∀ k, σ.1 57 o = k → obA σ τ o k := fun k e => ⟨by omega, by omega, by have := h.2.1.2.2.1.1.2.1; omega, e, by rw [← (h.2.1.2.2.2.2 o (by omega) o2).1.1]; exact e⟩
    by_cases k5 : σ.1 57 o = 5
    · rw [if_pos k5]
      obtain ⟨σ', Q', r1, r2, r3⟩ := c_rfun h (ob 5 k5) (W := W) (fun x hx => hE x (Or.inr (Or.inl ⟨k5, hx⟩))) hm
      refine ⟨σ', Q', K, r1, r2.mo (fun x hx => ?_), ⟨by rw [(r3 8 60 (by omega) (by omega) (by omega) (by omega)).1]; exact hK.1, fun i hi => by rw [(r3 113 i (by omega) (by omega) (by omega) (by omega)).1]; exact hK.2 i hi⟩, rfl⟩
      rcases hx with (⟨z, _⟩ | ⟨_, z⟩ | ⟨z, _⟩) | ⟨k, _, z, _⟩
      · exact absurd z k4
      · exact z
      · rw [k5] at z; exact absurd z (by decide)
      · exact absurd z k4
    · rw [if_neg k5]
      have k6 := k56.resolve_left k5
      obtain ⟨q, q1, q2, q3, q4⟩ := h.2.2.2.1.2.2.2.2.2.2.2.2.2.2.1.2 o (ob 6 k6)
      have np25 := h.2.2.2.1.1.2.2
      rw [q3]
      by_cases z : τ.1 58 q = 4
      · have h83 : σ.1 83 q = 4 := by
          obtain ⟨_, _, ⟨c1, c2⟩, d1, d2, d3, d4, d5, d6, d7, d8, d9⟩ := h.2.2.2.1
          by_cases zz : q ∈ p :: r
          · exfalso
            rcases List.mem_cons.1 zz with e | e
            · rw [e, c2] at z; exact absurd z (by decide)
            · have : ∀ (l : List Nat) (a : Nat), chn σ0 σ τ FP (a :: l) → q ∈ l → τ.1 58 q = 3 := by
                intro l
                induction l with
                | nil => intro a _ hq; cases hq
                | cons b l ih =>
                  intro a hc hq
                  rcases List.mem_cons.1 hq with e | e
                  · rw [e]; exact hc.2.2.1.2
                  · exact ih b hc.2.2.2 e
              rw [this r p d1 e] at z
              exact absurd z (by decide)
          · rcases d9 q q2 zz with w | w | ⟨_, _, _, w⟩
            · rw [w.2.1] at z; exact absurd z (by decide)
            · rw [w.2.1] at z; exact absurd z (by decide)
            · rcases w with w | ⟨o', w0, w1, w2, _⟩
              · exact w
              · exfalso
                rw [q4] at w1
                have : o = o' := (ofN_eq (by omega) (by omega)).1 w1
                rw [← this, k6] at w2
                exact absurd w2 (by decide)
        refine ⟨σ, Q, K, c_rdead (by omega) h83 trivial, (vis.rf hm).mo (fun x hx => ?_), hK, rfl⟩
        rcases hx with (⟨y, _⟩ | ⟨y, _⟩ | ⟨_, q', _, y2, y3, y4, _⟩) | ⟨k, _, y, _⟩
        · exact k4 y
        · exact k5 y
        · rw [q3] at y3
          have : q = q' := (ofN_eq (by omega) (by omega)).1 y3
          rw [← this] at y4
          exact y4 z
        · exact k4 y
      · obtain ⟨σ', Q', r1, r2⟩ := c_rpart h fx h38 q2 z (W := W) (fun x hx => hE x (Or.inr (Or.inr ⟨k6, q, q1, by omega, q3, z, hx⟩))) hm
        refine ⟨σ', Q', K, r1, (r2.fr (fun _ _ y => gRC_K y)).mo (fun x hx => ?_), hK.cg r2.2.1, rfl⟩
        rcases hx with (⟨y, _⟩ | ⟨y, _⟩ | ⟨_, q', _, y2, y3, y4, y5⟩) | ⟨k, _, y, _⟩
        · exact absurd y k4
        · exact absurd y k5
        · rw [q3] at y3
          have : q = q' := (ofN_eq (by omega) (by omega)).1 y3
          rw [this]
          exact y5
        · exact absurd y k4
/-- the loop: all that waits is gone through -/
theorem c_rall {σ0 τ0 τ : lj_S} {n np p : Nat} {r : List Nat} {FP : Nat → List kF} {ρ : Nat → Nat} {P B : Nat → List Nat} {Fr : List Nat} {P' B' : Nat → List Nat} {Fr' : List Nat} {Fn : Nat} (fx : FR σ0 τ0 Fn) (h38 : sh38 σ0) {root : Nat → Prop} {edge : Nat → Nat → Prop} {eph : Nat → Nat → Nat → Prop} : ∀ (m : Nat) (σ : lj_S) (Q K : List Nat) (X1 X2 X3 : Value), cnt0 (flg n 111 σ) n + Q.length ≤ m → gw σ0 τ0 n np p r FP ρ P B Fr P' B' Fr' σ τ → (∀ o x, edge o x ↔ edX σ0 σ τ p FP P o x) → (∀ t k v, eph t k v ↔ epX σ P t k v) → (∀ x, lstR root edge eph x → okO σ n x) → wqC n σ Q → wkK σ K → wlI root edge eph n (flg n 111 σ) Q → kwI σ n P (lstR root edge eph) Q K → ∃ σ' K', lj_D lc_P lc_M181 0 [.ref 8, X1, X2, X3] [] σ = some (.inl none, σ') ∧ lf gKC σ σ' ∧ wqC n σ' [] ∧ wkK σ' K' ∧ wlI root edge eph n (flg n 111 σ') [] ∧ kwI σ' n P (lstR root edge eph) [] K' ∧ ∀ x, flg n 111 σ x = true → flg n 111 σ' x = true
  | m, σ, [], K, X1, X2, X3, hmm, h, he, hp, hok, hm, hK, hw, hk => by
    refine ⟨σ, K, ?_, lf_rf _ _, hm, hK, hw, hk, fun _ y => y⟩
    rw [kc_181_0, hm.1, if_pos (by decide)]
  | 0, σ, o :: Q, K, X1, X2, X3, hmm, h, he, hp, hok, hm, hK, hw, hk => by
    rw [List.length_cons] at hmm
    omega
  | m + 1, σ, o :: Q, K, X1, X2, X3, hmm, h, he, hp, hok, hm, hK, hw, hk => by
    have hn := h.2.1.2.2.1.1.1
    have fo := hw.2.1 o List.mem_cons_self
    have Wo := (hw.1 o fo).1
    have ok := hok o Wo
    have o2 := ok.1
    have cl := lstR_clo root edge eph
    have lQ := hm.2.2
    rw [List.length_cons] at lQ hmm
    -- what was uppermost is taken
    have e58 : σ.1 8 58 = Int32.ofNat (Q.length + 1) := hm.1
    have em : Int32.ofNat (Q.length + 1) - 1 = Int32.ofNat Q.length := lz_ext (by
      have t1 : (1 : Int32).toInt = 1 := by decide
      rw [lz_sub (by rw [lz_lit (by omega), t1]; omega), lz_lit (by omega), lz_lit (by omega), t1]
      omega)
    have i2 : lj_in (Int32.ofNat Q.length) 2001 := ofN_in (by omega) (by omega)
    have nq : (Int32.ofNat Q.length).toNatClampNeg = Q.length := lz_onat (by omega)
    have e112 : σ.1 112 Q.length = Int32.ofNat o := hm.2.1.1
    have io : lj_in (Int32.ofNat o) 2001 := ofN_in (by omega) (by omega)
    have no : (Int32.ofNat o).toNatClampNeg = o := lz_onat (by omega)
    obtain ⟨σ1, hσ1⟩ : ∃ σ1, σ1 = lj_put σ 8 58 (Int32.ofNat Q.length) := ⟨_, rfl⟩
    have c1 : ∀ k j, ¬ (k = 8 ∧ j = 58) → σ1.1 k j = σ.1 k j := fun k j z => by rw [hσ1, lj_put_1, if_neg z]
    have f1 : lf gKC σ σ1 := by rw [hσ1]; exact lf_put (lf_rf _ _) _ _ _ rfl
    have fl1 : flg n 111 σ1 = flg n 111 σ := by funext x; unfold flg; rw [c1 111 x (by omega)]
    have hm1 : wqC n σ1 Q := ⟨by rw [hσ1, lj_put_1, if_pos ⟨rfl, rfl⟩], pil_cg hm.2.1.2 (fun j _ => c1 112 j (by omega)), by rw [fl1]; omega⟩
    have hK1 : wkK σ1 K := ⟨by rw [c1 8 60 (by omega)]; exact hK.1, fun i hi => by rw [c1 113 i (by omega)]; exact hK.2 i hi⟩
    have g1 := h.cg f1 (lf_rf _ τ)
    have ed1 : ∀ o x, edge o x ↔ edX σ0 σ1 τ p FP P o x := fun o x => (he o x).trans (edX_gK f1 (lf_rf _ τ) p FP P o x).symm
    have ep1 : ∀ t k v, eph t k v ↔ epX σ1 P t k v := fun t k v => (hp t k v).trans (epX_gK f1 P t k v).symm
    have e57 : ∀ x, σ1.1 57 x = σ.1 57 x := fun x => c1 57 x (by omega)
    have ok1 : okO σ1 n o := by unfold okO; rw [e57]; exact ok
    have kl := hk.2.2
    rw [List.length_cons] at kl
    obtain ⟨σ2, Q2, K2, r1, r2, r3, r4⟩ := c_one1 g1 fx h38 ok1 (W := lstR root edge eph) (fun x hx => cl.2.1 o x Wo ((ed1 o x).2 hx)) (fun k v hk' hx => cl.2.2 o k v Wo hk' ((ep1 o k v).2 hx)) (fun x hx => by rw [fl1] at hx; exact (hw.1 x hx).1) hm1 hK1 (by omega)
    have f2 : lf gKC σ1 σ2 := r2.2.1
    have g2 := g1.cg f2 (lf_rf _ τ)
    have hK2 : ∀ t ∈ K2, t ≤ n ∧ σ2.1 57 t = 4 ∧ mdX σ2 P t = 1 ∧ lstR root edge eph t := fun t ht => by
      rw [gK_v f2 57 t rfl, e57, md_gK f2, md_gK f1]
      rw [r4] at ht
      by_cases z : σ1.1 57 o = 4 ∧ mdX σ1 P o = 1
      · rw [if_pos z] at ht
        rcases List.mem_append.1 ht with y | y
        · exact hk.2.1 t y
        · have : t = o := by simpa using y
          rw [this]
          refine ⟨o2, by rw [← e57]; exact z.1, by rw [← md_gK f1]; exact z.2, Wo⟩
      · rw [if_neg z] at ht
        exact hk.2.1 t ht
    have lK2 : K2.length ≤ K.length + 1 := by
      rw [r4]
      split
      · rw [List.length_append]; exact Nat.le_refl _
      · omega
    obtain ⟨σ3, Q3, X', s1, s2⟩ := c_wk_loop (p := p) (np := np) (r := r) (FP := FP) (ρ := ρ) (B := B) (W := lstR root edge eph) (K := K2) (o := o) (by omega) (by omega) K2.length 0 σ2 Q2 X3 (by omega) g2 (by unfold okO; rw [gK_v f2 57 o rfl]; exact ok1) r3 hK2 Wo (fun t k v a b c => cl.2.2 t k v a b ((ep1 t k v).2 ((epX_gK f2 P t k v).1 c))) r2.1
    have v3 := r2.tr (s2.fr (fun _ _ y => gRC_K y))
    have f3 : lf gKC σ σ3 := f1.tr v3.2.1
    have g3 := h.cg f3 (lf_rf _ τ)
    have rg : rgN n (lstR root edge eph) (flg n 111 σ) Q (flg n 111 σ3) Q3 := by
      have := v3.2.2.1.mo (P' := lstR root edge eph) (fun x y => y.1)
      rw [fl1] at this
      exact this
    have inK : ∀ t, flg n 111 σ t = true → t ∉ Q → σ.1 57 t = 4 → mdX σ P t = 1 → t ∈ K2 := fun t y1 y2 y3 y4 => by
      rw [r4]
      by_cases z : t = o
      · rw [z] at y3 y4
        rw [if_pos ⟨by rw [e57]; exact y3, by rw [md_gK f1]; exact y4⟩, z]
        exact List.mem_append_right _ List.mem_cons_self
      · have : t ∈ K := hk.1 t y1 (fun y => by
          rcases List.mem_cons.1 y with y | y
          · exact z y
          · exact y2 y) y3 y4
        split
        · exact List.mem_append_left _ this
        · exact this
    have w3 : wlI root edge eph n (flg n 111 σ3) Q3 := hw.step rg (fun x hx => v3.2.2.2 x (Or.inl (Or.inl ((ed1 o x).1 hx)))) (fun k v y1 y2 => v3.2.2.2 v (Or.inl (Or.inr ⟨k, by rw [fl1]; exact y1, (ep1 o k v).1 y2⟩))) (fun t v y1 y2 y3 => by
      have y3' := (hp t o v).1 y3
      have tK := inK t y1 y2 y3'.1 y3'.2.1
      obtain ⟨j, j1, j2⟩ := List.getElem_of_mem tK
      refine v3.2.2.2 v (Or.inr ⟨j, Nat.zero_le _, j1, ?_⟩)
      have e : K2.getD j 0 = t := by rw [List.getD_eq_getElem?_getD, List.getElem?_eq_getElem j1, j2]; rfl
      rw [e]
      exact (epX_gK f2 P t o v).2 ((ep1 t o v).1 y3))
    have ct := rg.ct
    have k3 : kwI σ3 n P (lstR root edge eph) Q3 K2 := by
      refine ⟨fun t y1 y2 y3 y4 => ?_, fun t ht => ?_, by omega⟩
      · rw [gK_v f3 57 t rfl] at y3
        rw [md_gK f3] at y4
        obtain ⟨N, n1, n2, _⟩ := rg
        rw [n1] at y2
        rcases (n2 t).1 y1 with z | z
        · exact inK t z (fun q => y2 (List.mem_append_right _ q)) y3 y4
        · exact absurd (List.mem_append_left _ z) y2
      · have := hK2 t ht
        have f23 : lf gKC σ2 σ3 := s2.2.1.mo (fun _ _ y => gRC_K y)
        rw [gK_v f23 57 t rfl, md_gK f23]
        exact this
    obtain ⟨σ4, K4, t1, t2, t3, t4, t5, t6, t7⟩ := c_rall fx h38 m σ3 Q3 K2 (.int (Int32.ofNat o)) (.int (Int32.ofNat K2.length)) X' (by omega) g3 (fun o x => (he o x).trans (edX_gK f3 (lf_rf _ τ) p FP P o x).symm) (fun t k v => (hp t k v).trans (epX_gK f3 P t k v).symm) (fun x hx => by
      have := hok x hx
      unfold okO at this ⊢
      rw [gK_v f3 57 x rfl]
      exact this) s2.1 (r3.cg s2.2.1) w3 k3
    refine ⟨σ4, K4, ?_, f3.tr t2, t3, t4, t5, t6, fun x hx => t7 x (rg.up hx)⟩
    have r1' := r1
    rw [e57, c1 64 o (by omega)] at r1'
    rw [kc_181_0, e58, if_neg (by rw [lz_le, lz_lit (by omega)]; show ¬ (((Q.length + 1 : Nat) : Int) ≤ 0); omega), em]; simp only [if_pos i2, nq]; rw [e112]; simp only [if_pos io, no]; rw [← hσ1]
    by_cases k4 : σ.1 57 o = 4
    · rw [if_pos k4] at r1' ⊢
      rw [r1', bv_ok, kc_181_96]
      rw [show (0 : Int32) = Int32.ofNat 0 from rfl, s1]
      exact t1
    · rw [if_neg k4] at r1' ⊢
      by_cases k5 : σ.1 57 o = 5
      · rw [if_pos k5] at r1' ⊢
        rw [r1', bv_ok, kc_181_96]
        rw [show (0 : Int32) = Int32.ofNat 0 from rfl, s1]
        exact t1
      · rw [if_neg k5] at r1' ⊢
        (try simp only [if_pos io]); rw [r1', bv_ok, kc_181_96]
        rw [show (0 : Int32) = Int32.ofNat 0 from rfl, s1]
        exact t1
