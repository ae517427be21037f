/-! the gathering: what is reached first, the model -/
/-- last acts of gathering frames -/
theorem gaL_gc {σ τ : lj_S} {q n : Nat} {W : Nat → Prop} {La : List Nat} (hN : La.length ≤ 4004) (h95 : ∀ i, i < La.length → τ.1 95 i = Int32.ofNat (La.getD i 0) ∧ 1 ≤ La.getD i 0 ∧ La.getD i 0 ≤ n ∧ W (La.getD i 0)) : ∀ {L : List kF} {e e' : Nat}, gaL σ τ q L e e' → e ≤ La.length → e' ≤ e ∧ gcF τ q n W L ∧ ∀ i, e' ≤ i → i < e → gcX τ q n L (La.getD i 0)
  | [], e, e', h, he => by
    have h : e = e' := h
    exact ⟨by omega, trivial, fun i i1 i2 => by omega⟩
  | F :: L, e, e', h, he => by
    rcases h with ⟨h1, h2⟩ | ⟨h1, b, ⟨hb, _⟩, ⟨_, h84, h85⟩, _, h2⟩
    · obtain ⟨a1, a2, a3⟩ := gaL_gc hN h95 h2 he
      exact ⟨a1, ⟨fun z => absurd z h1, a2⟩, fun i i1 i2 => Or.inr (a3 i i1 i2)⟩
    · obtain ⟨a1, a2, a3⟩ := gaL_gc hN h95 h2 (by omega)
      refine ⟨by omega, ⟨fun _ => ⟨b, e, hb, by omega, h84, h85, fun a w1 w2 => ?_⟩, a2⟩, fun i i1 i2 => ?_⟩
      · obtain ⟨y1, y2, y3, y4⟩ := h95 a (by omega)
        exact ⟨_, y1, y2, y3, y4⟩
      · by_cases z : i < b
        · exact Or.inr (a3 i i1 z)
        · obtain ⟨y1, y2, y3, y4⟩ := h95 i (by omega)
          left
          refine ⟨h1, by omega, y3, i, ?_, ?_, y1⟩
          · unfold lv; rw [h84, lz_lit (by omega)]; omega
          · unfold lv; rw [h85, lz_lit (by omega)]; omega
theorem gaC_gc {σ τ : lj_S} {n : Nat} {W : Nat → Prop} {FP : Nat → List kF} {La : List Nat} (hN : La.length ≤ 4004) (h95 : ∀ i, i < La.length → τ.1 95 i = Int32.ofNat (La.getD i 0) ∧ 1 ≤ La.getD i 0 ∧ La.getD i 0 ≤ n ∧ W (La.getD i 0)) : ∀ {l : List Nat} {e : Nat}, gaC σ τ FP l e → e ≤ La.length → (∀ q ∈ l, gcF τ q n W (FP q)) ∧ ∀ i, i < e → ∃ q ∈ l, gcX τ q n (FP q) (La.getD i 0)
  | [], e, h, he => by
    have h : e = 0 := h
    exact ⟨fun q hq => (by cases hq), fun i hi => by omega⟩
  | q :: l, e, h, he => by
    obtain ⟨e', h1, h2⟩ := h
    obtain ⟨a1, a2, a3⟩ := gaL_gc hN h95 h1 he
    obtain ⟨b1, b2⟩ := gaC_gc hN h95 h2 (by omega)
    refine ⟨fun u hu => ?_, fun i hi => ?_⟩
    · rcases List.mem_cons.1 hu with z | z
      · rw [z]; exact a2
      · exact b1 u z
    · by_cases z : i < e'
      · obtain ⟨u, u1, u2⟩ := b2 i z
        exact ⟨u, List.mem_cons_of_mem _ u1, u2⟩
      · exact ⟨q, List.mem_cons_self, a3 i (by omega) hi⟩
theorem gcF_no {τ : lj_S} {q n : Nat} {W : Nat → Prop} : ∀ {L : List kF}, (∀ F ∈ L, kS F ≠ 2) → gcF τ q n W L
  | [], _ => trivial
  | F :: L, h => ⟨fun z => absurd z (h F List.mem_cons_self), gcF_no (fun G hG => h G (List.mem_cons_of_mem _ hG))⟩
/-- flags anew -/
theorem m_fini : ∀ (d o : Nat) (τ : lj_S), o + d = 2002 → ∃ τ', lj_D lm_P lm_M207 2 [.ref 0, .int (Int32.ofNat o)] [] τ = lj_D lm_P lm_M207 2 [.ref 0, .int (Int32.ofNat 2002)] [] τ' ∧ (∀ k j, ¬ (k = 96 ∧ o ≤ j ∧ j < 2002) → τ'.1 k j = τ.1 k j) ∧ τ'.2 = τ.2 ∧ ∀ j, o ≤ j → j < 2002 → τ'.1 96 j = 0
  | 0, o, τ, ho => ⟨τ, by rw [show o = 2002 by omega], fun _ _ _ => rfl, rfl, fun j _ _ => by omega⟩
  | d + 1, o, τ, ho => by
    have io : lj_in (Int32.ofNat o) 2002 := ofN_in (by omega) (by omega)
    have no : (Int32.ofNat o).toNatClampNeg = o := lz_onat (by omega)
    obtain ⟨τ', r1, r2, r3, r4⟩ := m_fini d (o + 1) (lj_put τ 96 o 0) (by omega)
    refine ⟨τ', ?_, fun k j z => ?_, r3, fun j j1 j2 => ?_⟩
    · rw [← r1, km_207_2, if_neg (by rw [show (2002 : Int32) = Int32.ofNat 2002 from rfl]; intro z; have := (ofN_le (by omega) (by omega)).1 z; omega)]
      (try simp only [if_pos io, no])
      rw [lz_osucc]
      rfl
    · rw [r2 k j (by omega), lj_put_1, if_neg (by omega)]
    · by_cases z : j = o
      · rw [r2 96 j (by omega), lj_put_1, if_pos ⟨rfl, z⟩]
      · exact r4 j (by omega) j2
/-- values of the globals -/
theorem m_glob {n : Nat} (hn : n ≤ 2000) {W : Nat → Prop} : ∀ (L : List Nat) (y : Int32) (τ : lj_S) (Q : List Nat), lk (lv τ 50) y.toInt L → (∀ q ∈ L, q < 3001 ∧ gdM n W (vlM τ q)) → wqM n τ Q → ∃ τ' Q', lj_D lm_P lm_M207 62 [.ref 0, .int y] [] τ = lj_D lm_P lm_M207 94 [.ref 0, .int 0] [] τ' ∧ visM n W (fun x => x ≠ 0 ∧ ∃ q ∈ L, x = ov (vlM τ q)) τ Q τ' Q'
  | [], y, τ, Q, hl, _, hm => by
    have hl : y.toInt = -1 := hl
    refine ⟨τ, Q, by rw [km_207_62, if_pos (by rw [lz_lt, hl]; decide)], (vis.rf hm).mo (fun x ⟨_, q, hq, _⟩ => by cases hq)⟩
  | q :: L, y, τ, Q, hl, hq, hm => by
    obtain ⟨hl1, hl2⟩ := hl
    obtain ⟨q1, q2⟩ := hq q List.mem_cons_self
    have ey : y = Int32.ofNat q := lz_ext (by rw [lz_lit (by omega)]; exact hl1)
    subst ey
    have iq : lj_in (Int32.ofNat q) 3001 := ofN_in (by omega) (by omega)
    have nq : (Int32.ofNat q).toNatClampNeg = q := lz_onat (by omega)
    obtain ⟨τ1, Q1, r1, r2⟩ := m_reach hn hm (a := vlM τ q) q2.1 q2.2.1 (W := W) q2.2.2
    have r1 : lj_R lm_P 210 [.ref 0, .int (τ.1 47 q), .long (τ.2 48 q)] τ = some (.inl none, τ1) := r1
    have c : ∀ k j, k ≠ 96 → k ≠ 98 → (k ≠ 0 ∨ j ≠ 157) → τ1.1 k j = τ.1 k j ∧ τ1.2 k j = τ.2 k j := fun k j z1 z2 z3 => visM.o r2 ⟨z1, z2, z3⟩
    have ew : ∀ x, vlM τ1 x = vlM τ x := fun x => by unfold vlM enM; rw [(c 47 x (by omega) (by omega) (by omega)).1, (c 48 x (by omega) (by omega) (by omega)).2]
    have e50 : lv τ1 50 = lv τ 50 := by funext j; unfold lv; rw [(c 50 j (by omega) (by omega) (by omega)).1]
    obtain ⟨τ2, Q2, s1, s2⟩ := m_glob hn L (τ1.1 50 q) τ1 Q1 (by rw [e50, (c 50 q (by omega) (by omega) (by omega)).1]; exact hl2) (fun x hx => by rw [ew]; exact hq x (List.mem_cons_of_mem _ hx)) r2.1
    refine ⟨τ2, Q2, ?_, (r2.tr s2).mo (fun x ⟨x0, u, u1, u2⟩ => ?_)⟩
    · rw [km_207_62, if_neg (ofN_nneg (by omega))]
      (try simp only [if_pos iq, nq])
      rw [r1, bv_ok]
      exact s1
    · rcases List.mem_cons.1 u1 with z | z
      · left; rw [z] at u2; exact ⟨u2, x0⟩
      · right; exact ⟨x0, u, z, by rw [ew]; exact u2⟩
/-- no part was gone through yet -/
theorem m_p97 {np : Nat} (hnp : np ≤ 25) : ∀ (d q : Nat) (τ : lj_S), q + d = np + 1 → τ.1 0 110 = Int32.ofNat np → ∃ τ', lj_D lm_P lm_M207 94 [.ref 0, .int (Int32.ofNat q)] [] τ = lj_D lm_P lm_M207 117 [.ref 0, .int 0] [] τ' ∧ (∀ k j, ¬ (k = 97 ∧ q ≤ j ∧ j ≤ np) → τ'.1 k j = τ.1 k j) ∧ τ'.2 = τ.2 ∧ ∀ j, q ≤ j → j ≤ np → τ'.1 97 j = 0
  | 0, q, τ, hq, h => ⟨τ, by rw [km_207_94, h, if_pos (by rw [lz_lt, lz_lit (by omega), lz_lit (by omega)]; omega)], fun _ _ _ => rfl, rfl, fun j _ _ => by omega⟩
  | d + 1, q, τ, hq, h => by
    have iq : lj_in (Int32.ofNat q) 26 := ofN_in (by omega) (by omega)
    have nq : (Int32.ofNat q).toNatClampNeg = q := lz_onat (by omega)
    obtain ⟨τ', r1, r2, r3, r4⟩ := m_p97 hnp d (q + 1) (lj_put τ 97 q 0) (by omega) (by rw [lj_put_1, if_neg (by omega)]; exact h)
    refine ⟨τ', ?_, fun k j z => ?_, r3, fun j j1 j2 => ?_⟩
    · rw [km_207_94, h, if_neg (by rw [lz_lt, lz_lit (by omega), lz_lit (by omega)]; omega)]
      (try simp only [if_pos iq, nq])
      rw [lz_osucc]
      exact r1
    · rw [r2 k j (by omega), lj_put_1, if_neg (by omega)]
    · by_cases z : j = q
      · rw [r2 97 j (by omega), lj_put_1, if_pos ⟨rfl, z⟩]
      · exact r4 j (by omega) j2
/-- parts that run or let others go on -/
theorem m_prts {σ0 τ0 σ : lj_S} {n np p : Nat} {r : List Nat} {FP : Nat → List kF} {ρ : Nat → Nat} {P B : Nat → List Nat} {Fr : List Nat} {P' B' : Nat → List Nat} {Fr' : List Nat} {W : Nat → Prop} : ∀ (d q : Nat) (τ : lj_S) (Q : List Nat), q + d = np + 1 → gw σ0 τ0 n np p r FP ρ P B Fr P' B' Fr' σ τ → (∀ u ∈ p :: r, (u ≠ 0 → ∃ o : Nat, σ.1 85 u = Int32.ofNat o ∧ τ.1 59 u = Int32.ofNat o ∧ 1 ≤ o ∧ o ≤ n ∧ W o) ∧ (∀ x, ptC σ0 σ p FP u x → W x) ∧ gcF τ u n W (FP u)) → (∀ u, q ≤ u → u ≤ np → τ.1 97 u = 0) → pgI σ0 σ τ n np p FP → wqM n τ Q → ∃ τ' Q', lj_D lm_P lm_M207 117 [.ref 0, .int (Int32.ofNat q)] [] τ = lj_bv (lj_R lm_P 212 [.ref 0] τ') (fun σ1 => some (.inl none, σ1)) lj_up ∧ visN n W (fun x => ∃ u ∈ p :: r, q ≤ u ∧ ((u ≠ 0 ∧ σ.1 85 u = Int32.ofNat x ∧ x ≠ 0 ∧ x ≤ 2000) ∨ ptC σ0 σ p FP u x ∨ gcX τ u n (FP u) x)) τ Q τ' Q' ∧ pgI σ0 σ τ' n np p FP ∧ ∀ k j, k ≠ 96 → k ≠ 97 → k ≠ 98 → ¬ (k = 0 ∧ j = 157) → τ'.1 k j = τ.1 k j ∧ τ'.2 k j = τ.2 k j
  | 0, q, τ, Q, hd, h, hW, h97, hpf, hm => by
    have np25 := h.2.2.2.1.1.2.2
    refine ⟨τ, Q, ?_, (vis.rf hm).mo (fun x ⟨u, hu, u1, _⟩ => by have := (h.al hu).1; omega), hpf, fun _ _ _ _ _ _ => ⟨rfl, rfl⟩⟩
    rw [km_207_117, h.2.2.2.1.1.2.1, if_pos (by rw [lz_lt, lz_lit (by omega), lz_lit (by omega)]; omega)]
  | d + 1, q, τ, Q, hd, h, hW, h97, hpf, hm => by
    have np25 := h.2.2.2.1.1.2.2
    have hn := h.2.1.2.2.1.1.1
    have iq : lj_in (Int32.ofNat q) 26 := ofN_in (by omega) (by omega)
    have nq : (Int32.ofNat q).toNatClampNeg = q := lz_onat (by omega)
    -- the rest
    have rest : ∀ (τ1 : lj_S) (Q1 : List Nat) (M : Nat → Prop), visN n W M τ Q τ1 Q1 → (∀ k j, k ≠ 96 → k ≠ 97 → k ≠ 98 → ¬ (k = 0 ∧ j = 157) → τ1.1 k j = τ.1 k j ∧ τ1.2 k j = τ.2 k j) → (∀ u, q + 1 ≤ u → u ≤ np → τ1.1 97 u = 0) → pgI σ0 σ τ1 n np p FP → (q ∈ p :: r → ∀ x, ((q ≠ 0 ∧ σ.1 85 q = Int32.ofNat x ∧ x ≠ 0 ∧ x ≤ 2000) ∨ ptC σ0 σ p FP q x ∨ gcX τ q n (FP q) x) → M x) → ∃ τ' Q', lj_D lm_P lm_M207 176 [.ref 0, .int (Int32.ofNat q)] [] τ1 = lj_bv (lj_R lm_P 212 [.ref 0] τ') (fun σ1 => some (.inl none, σ1)) lj_up ∧ visN n W (fun x => ∃ u ∈ p :: r, q ≤ u ∧ ((u ≠ 0 ∧ σ.1 85 u = Int32.ofNat x ∧ x ≠ 0 ∧ x ≤ 2000) ∨ ptC σ0 σ p FP u x ∨ gcX τ u n (FP u) x)) τ Q τ' Q' ∧ pgI σ0 σ τ' n np p FP ∧ ∀ k j, k ≠ 96 → k ≠ 97 → k ≠ 98 → ¬ (k = 0 ∧ j = 157) → τ'.1 k j = τ.1 k j ∧ τ'.2 k j = τ.2 k j := fun τ1 Q1 M hv c g97 gpf hM => by
      have eg : ∀ u x, gcX τ1 u n (FP u) x ↔ gcX τ u n (FP u) x := fun u x => gcX_cg (fun k j z => (c k j (by omega) (by omega) (by omega) (by omega)).1)
      obtain ⟨τ2, Q2, s1, s2, s3, s4⟩ := m_prts (τ0 := τ0) (ρ := ρ) (P := P) (B := B) (Fr := Fr) (P' := P') (B' := B') (Fr' := Fr') (W := W) d (q + 1) τ1 Q1 (by omega) (h.cg (lf_rf _ σ) hv.2.1) (fun u hu => ⟨fun z => by rw [(c 59 u (by omega) (by omega) (by omega) (by omega)).1]; exact (hW u hu).1 z, (hW u hu).2.1, gcF_cg (fun k j z => (c k j (by omega) (by omega) (by omega) (by omega)).1) (hW u hu).2.2⟩) g97 gpf hv.1
      refine ⟨τ2, Q2, by rw [km_207_176, lz_osucc]; exact s1, (hv.tr s2).mo (fun x ⟨u, hu, u1, u2⟩ => ?_), s3, fun k j z1 z2 z3 z4 => ⟨(s4 k j z1 z2 z3 z4).1.trans (c k j z1 z2 z3 z4).1, (s4 k j z1 z2 z3 z4).2.trans (c k j z1 z2 z3 z4).2⟩⟩
      by_cases z : u = q
      · rw [z] at hu u2
        exact Or.inl (hM hu x u2)
      · refine Or.inr ⟨u, hu, by omega, ?_⟩
        rw [eg]
        exact u2
    rw [km_207_117, h.2.2.2.1.1.2.1, if_neg (by rw [lz_lt, lz_lit (by omega), lz_lit (by omega)]; omega)]
    (try simp only [if_pos iq, nq])
    by_cases z : q ∈ p :: r
    · have w := ((h.ch (by omega)).1 z).2
      have go : lj_D lm_P lm_M207 145 [.ref 0, .int (Int32.ofNat q)] [] τ = (if τ.1 58 q = 2 then lj_D lm_P lm_M207 145 [.ref 0, .int (Int32.ofNat q)] [] τ else if τ.1 58 q = 3 then lj_D lm_P lm_M207 145 [.ref 0, .int (Int32.ofNat q)] [] τ else lj_D lm_P lm_M207 176 [.ref 0, .int (Int32.ofNat q)] [] τ) := by
        rcases w with w | w
        · rw [if_pos w]
        · by_cases y : τ.1 58 q = 2
          · rw [if_pos y]
          · rw [if_neg y, if_pos w]
      rw [← go, km_207_145]
      (try simp only [if_pos iq, nq])
      obtain ⟨a1, a2⟩ := h.al z
      -- the part's object, and the part
      have mid : ∀ (τ1 : lj_S) (Q1 : List Nat) (M : Nat → Prop), visM n W M τ Q τ1 Q1 → (∀ x, (q ≠ 0 ∧ σ.1 85 q = Int32.ofNat x ∧ x ≠ 0 ∧ x ≤ 2000) → M x) → ∃ τ' Q', lj_bv (lj_R lm_P 211 [.ref 0, .int (Int32.ofNat q)] τ1) (fun σ2 => lj_D lm_P lm_M207 176 [.ref 0, .int (Int32.ofNat q)] [] σ2) lj_up = lj_bv (lj_R lm_P 212 [.ref 0] τ') (fun σ1 => some (.inl none, σ1)) lj_up ∧ visN n W (fun x => ∃ u ∈ p :: r, q ≤ u ∧ ((u ≠ 0 ∧ σ.1 85 u = Int32.ofNat x ∧ x ≠ 0 ∧ x ≤ 2000) ∨ ptC σ0 σ p FP u x ∨ gcX τ u n (FP u) x)) τ Q τ' Q' ∧ pgI σ0 σ τ' n np p FP ∧ ∀ k j, k ≠ 96 → k ≠ 97 → k ≠ 98 → ¬ (k = 0 ∧ j = 157) → τ'.1 k j = τ.1 k j ∧ τ'.2 k j = τ.2 k j := fun τ1 Q1 M hv hM => by
        have g1 : lf gKM τ τ1 := hv.2.1.mo (fun _ _ q => gRM_K q)
        have c : ∀ k j, k ≠ 96 → k ≠ 98 → (k ≠ 0 ∨ j ≠ 157) → τ1.1 k j = τ.1 k j ∧ τ1.2 k j = τ.2 k j := fun k j z1 z2 z3 => visM.o hv ⟨z1, z2, z3⟩
        obtain ⟨τ2, Q2, s1, s2, s3, s4⟩ := m_rpart (h.cg (lf_rf _ σ) g1) a1 (by rw [(c 58 q (by omega) (by omega) (by omega)).1]; exact a2) (W := W) (hW q z).2.1 (gcF_cg (fun k j y => (c k j (by omega) (by omega) (by omega)).1) (hW q z).2.2) hv.1 (by rw [(c 97 q (by omega) (by omega) (by omega)).1]; exact h97 q (Nat.le_refl _) (by omega))
        rw [s1, bv_ok]
        have hv2 := (hv.fr (fun _ _ q => gRM_K q)).tr s2
        refine rest τ2 Q2 _ hv2 (fun k j z1 z2 z3 z4 => ⟨(s4 k j z1 z2 z3 z4).1.trans (c k j z1 z3 (by omega)).1, (s4 k j z1 z2 z3 z4).2.trans (c k j z1 z3 (by omega)).2⟩) (fun u u1 u2 => by rw [s3, if_neg (by omega), (c 97 u (by omega) (by omega) (by omega)).1]; exact h97 u (by omega) u2) (fun u u1 u2 x hx => ?_) (fun _ x hx => ?_)
        · rw [s3] at u2
          by_cases y : u = q
          · rw [y] at hx; exact s2.2.2.2 x (Or.inl hx)
          · rw [if_neg y, (c 97 u (by omega) (by omega) (by omega)).1] at u2
            exact s2.up (hv.up (hpf u u1 u2 x hx))
        · rcases hx with hx | hx | hx
          · exact Or.inl (hM x hx)
          · exact Or.inr (Or.inl hx)
          · exact Or.inr (Or.inr ((gcX_cg (fun k j y => (c k j (by omega) (by omega) (by omega)).1)).2 hx))
      by_cases q0 : q = 0
      · have e59 : τ.1 59 q = 0 := by rw [q0]; exact h.2.2.2.1.2.2.2.2.2.2.2.2.2.1
        have k0 : ov ((0 : Int32), (τ.1 59 q).toInt64) = 0 := ov_k (by dsimp only; decide)
        obtain ⟨τ1, Q1, r1, r2⟩ := m_reach hn hm (a := (0, (τ.1 59 q).toInt64)) (W := W) (gm_k (n := n) (W := W) (by dsimp only; decide)).1 (by rw [k0]; omega) (fun y => absurd k0 y)
        have r1 : lj_R lm_P 210 [.ref 0, .int 0, .long (τ.1 59 q).toInt64] τ = some (.inl none, τ1) := r1
        rw [e59, if_pos (by decide), km_207_161]
        (try simp only [if_pos iq, nq])
        rw [r1, bv_ok]
        exact mid τ1 Q1 _ r2 (fun x y => absurd q0 y.1)
      · obtain ⟨o, o1, o1', o2, o3, o4⟩ := (hW q z).1 q0
        have om : ov (6, i64 o) = o := ov_ob (Or.inr (Or.inr rfl)) (by omega)
        obtain ⟨τ1, Q1, r1, r2⟩ := m_reach hn hm (a := (6, i64 o)) (fun _ => by rw [om]) (by rw [om]; exact o3) (W := W) (by rw [om]; exact fun _ => o4)
        have r1 : lj_R lm_P 210 [.ref 0, .int 6, .long (Int32.ofNat o).toInt64] τ = some (.inl none, τ1) := r1
        rw [o1', if_neg (by rw [lz_le, lz_lit (by omega)]; show ¬ ((o : Int) ≤ 0); omega), km_207_161]
        (try simp only [if_pos iq, nq])
        rw [o1', r1, bv_ok]
        refine mid τ1 Q1 _ r2 (fun x ⟨_, y1, y2, y3⟩ => ?_)
        rw [o1] at y1
        have : o = x := (ofN_eq (by omega) (by omega)).1 y1
        exact ⟨by rw [om, this], y2⟩
    · have w := ((h.ch (q := q) (by omega)).2 z).2
      rw [if_neg (fun y => w (Or.inl y)), if_neg (fun y => w (Or.inr y))]
      exact rest τ Q _ (vis.rf hm) (fun _ _ _ _ _ _ => ⟨rfl, rfl⟩) (fun u u1 u2 => h97 u (by omega) u2) hpf (fun y => absurd y z)
