/-! loops: they begin, they end -/
theorem chM_fun {τ : lj_S} : ∀ {r r' : List Nat} {h : Int32}, chM τ h r → chM τ h r' → r = r'
  | [], [], _, _, _ => rfl
  | [], j :: _, h, a, g => by
    have a : h = -1 := a
    exact absurd (g.1.symm.trans a) (ofN_nm1 (by have := g.2.1; omega))
  | j :: _, [], h, a, g => by
    have g : h = -1 := g
    exact absurd (a.1.symm.trans g) (ofN_nm1 (by have := a.2.1; omega))
  | j :: r, j' :: r', h, a, g => by
    have e : j = j' := (ofN_eq (by have := a.2.1; omega) (by have := g.2.1; omega)).1 (a.1.symm.trans g.1)
    subst e
    rw [chM_fun a.2.2 g.2.2]
theorem chM_mid {τ : lj_S} {j : Nat} {r2 : List Nat} : ∀ (r1 : List Nat) {h : Int32}, chM τ h (r1 ++ j :: r2) → chM τ (τ.1 21 j) r2
  | [], _, a => a.2.2
  | _ :: r1, _, a => chM_mid r1 a.2.2
theorem chM_nd {τ : lj_S} {h : Int32} {j : Nat} {r : List Nat} (a : chM τ h (j :: r)) : j ∉ r := fun q => by
  obtain ⟨r1, r2, e⟩ := List.append_of_mem q
  have a2 := a.2.2
  rw [e] at a2
  have := chM_fun (chM_mid r1 a2) a.2.2
  have := congrArg List.length this
  rw [e] at this
  simp at this
  omega
theorem chM_put {τ : lj_S} {i : Nat} {x : Int32} : ∀ (r : List Nat) {h : Int32}, i ∉ r → chM τ h r → chM (lj_put τ 21 i x) h r
  | [], _, _, a => a
  | j :: r, _, hi, a => ⟨a.1, a.2.1, by
      rw [lj_put_1, if_neg (fun q => hi (by rw [q.2]; exact List.mem_cons_self))]
      exact chM_put r (fun q => hi (List.mem_cons_of_mem _ q)) a.2.2⟩
/-- the model's jumps that wait come to here -/
theorem m_land_loop {D : Int32 → Value → lj_S → Option lj_O} {m : Nat} (hD : ∀ (j : Nat) (x3 : Value) (τ : lj_S), j < 14000 → τ.1 0 41 = Int32.ofNat m → D (Int32.ofNat j) x3 τ = D (τ.1 21 j) (.int (τ.1 21 j)) (lj_put τ 21 j (Int32.ofNat m))) : ∀ (r : List Nat) (h : Int32) (x3 : Value) (τ : lj_S), τ.1 0 41 = Int32.ofNat m → chM τ h r →
    ∃ τ' y, D h x3 τ = D (-1) y τ' ∧ (∀ j ∈ r, τ'.1 21 j = Int32.ofNat m) ∧ (∀ k j, ¬ (k = 21 ∧ j ∈ r) → τ'.1 k j = τ.1 k j) ∧ τ'.2 = τ.2
  | [], h, x3, τ, _, a => by
    have a : h = -1 := a
    exact ⟨τ, x3, by rw [a], fun j hj => by simp at hj, fun _ _ _ => rfl, rfl⟩
  | j :: r, h, x3, τ, h41, a => by
    have nd := chM_nd a
    obtain ⟨τ', y, r1, r2, r3, r4⟩ := m_land_loop hD r (τ.1 21 j) (.int (τ.1 21 j)) (lj_put τ 21 j (Int32.ofNat m)) (by rw [lj_put_1, if_neg (by omega)]; exact h41) (chM_put r nd a.2.2)
    refine ⟨τ', y, by rw [a.1, hD j x3 τ a.2.1 h41]; exact r1, fun i hi => ?_, fun k i q => ?_, r4⟩
    · rcases List.mem_cons.1 hi with e | e
      · rw [e, r3 21 j (fun q => nd q.2), lj_put_1, if_pos ⟨rfl, rfl⟩]
      · exact r2 i e
    · rw [r3 k i (fun w => q ⟨w.1, List.mem_cons_of_mem _ w.2⟩), lj_put_1, if_neg (fun w => q ⟨w.1, by rw [w.2]; exact List.mem_cons_self⟩)]
/-- the component's breaks of a loop come to here -/
theorem c_leave_loop {b0 L c : Nat} (hL : 0 < L) (hL2 : L ≤ 22) : ∀ (B : List Nat) (σ : lj_S), σ.1 6 13 = Int32.ofNat (b0 + B.length) → σ.1 6 10 = Int32.ofNat L → b0 + B.length ≤ 1400 → bkL σ b0 L B → (∀ j ∈ B, j < 14000 ∧ σ.1 22 j = 30) → σ.1 5 0 = Int32.ofNat c → (b0 = 0 ∨ ∃ L', L' < 2147483648 ∧ L' ≠ L ∧ σ.1 53 (b0 - 1) = Int32.ofNat L') →
    ∃ σ', lj_D lc_P lc_M99 0 [.ref 6] [] σ = some (.inl none, lj_put σ' 6 10 (Int32.ofNat (L - 1))) ∧ σ'.1 6 13 = Int32.ofNat b0 ∧ (∀ j ∈ B, σ'.1 23 j = Int32.ofNat c) ∧ (∀ k j, ¬ (k = 23 ∧ j ∈ B) → ¬ (k = 6 ∧ j = 13) → σ'.1 k j = σ.1 k j) ∧ σ'.2 = σ.2
  | [], σ, h1, h2, h3, _, _, _, h6 => by
    simp only [List.length_nil, Nat.add_zero] at h1 h3
    have eL : Int32.ofNat L - 1 = Int32.ofNat (L - 1) := by rw [show L = L - 1 + 1 by omega, lz_pred']; rfl
    refine ⟨σ, ?_, h1, fun j hj => by simp at hj, fun _ _ _ _ => rfl, rfl⟩
    rw [kc_99_0, kc_99_57, h1, h2, eL]
    rcases h6 with e | ⟨L', e1, e2, e3⟩
    · rw [if_pos (by rw [e]; decide)]
    · by_cases z : b0 = 0
      · rw [if_pos (by rw [z]; decide)]
      · have eb : Int32.ofNat b0 - 1 = Int32.ofNat (b0 - 1) := by rw [show b0 = b0 - 1 + 1 by omega, lz_pred']; rfl
        rw [if_neg (by rw [lz_le, lz_lit (by omega)]; show ¬ ((b0 : Int) ≤ 0); omega), eb]
        have ib0 : lj_in (Int32.ofNat (b0 - 1)) 1502 := ofN_in (by omega) (by omega)
        simp only [if_pos ib0, lz_onat (show b0 - 1 < 2147483648 by omega), e3]
        rw [if_neg (fun q => e2 ((ofN_eq (by omega) (by omega)).1 q))]
  | j :: B, σ, h1, h2, h3, h4, h5, h50, h6 => by
    simp only [List.length_cons] at h1 h3
    have eb : Int32.ofNat (b0 + (B.length + 1)) - 1 = Int32.ofNat (b0 + B.length) := by rw [← Nat.add_assoc, lz_pred']
    obtain ⟨j1, j2⟩ := h5 j (List.mem_cons_self)
    have i1 : lj_in (Int32.ofNat (b0 + B.length)) 1502 := ofN_in (by omega) (by omega)
    have ld : lj_R lc_P 57 [.ref 5, .int (Int32.ofNat j)] (lj_put σ 6 13 (Int32.ofNat (b0 + B.length))) = some (.inl none, lj_put (lj_put σ 6 13 (Int32.ofNat (b0 + B.length))) 23 j (Int32.ofNat c)) := c_land (by rw [lj_put_1, if_neg (by omega)]; exact h50) j1 (by rw [lj_put_1, if_neg (by omega), j2]; decide) (by rw [lj_put_1, if_neg (by omega), j2]; decide)
    have o : ∀ k i, ¬ (k = 23 ∧ i = j) → ¬ (k = 6 ∧ i = 13) → (lj_put (lj_put σ 6 13 (Int32.ofNat (b0 + B.length))) 23 j (Int32.ofNat c)).1 k i = σ.1 k i := fun k i q1 q2 => by rw [lj_put_1, if_neg q1, lj_put_1, if_neg q2]
    obtain ⟨σ', r1, r2, r3, r4, r5⟩ := c_leave_loop hL hL2 B (lj_put (lj_put σ 6 13 (Int32.ofNat (b0 + B.length))) 23 j (Int32.ofNat c)) (by rw [lj_put_1, if_neg (by omega), lj_put_1, if_pos ⟨rfl, rfl⟩]) (by rw [o _ _ (by omega) (by omega)]; exact h2) (by omega) (bkL_cg (fun i => o _ _ (by omega) (by omega)) (fun i => o _ _ (by omega) (by omega)) _ _ _ h4.2.2) (fun i hi => ⟨(h5 i (List.mem_cons_of_mem _ hi)).1, by rw [o _ _ (by omega) (by omega)]; exact (h5 i (List.mem_cons_of_mem _ hi)).2⟩) (by rw [o _ _ (by omega) (by omega)]; exact h50) (by
      rcases h6 with e | ⟨L', e1, e2, e3⟩
      · exact Or.inl e
      · exact Or.inr ⟨L', e1, e2, by rw [o _ _ (by omega) (by omega)]; exact e3⟩)
    refine ⟨σ', ?_, r2, fun i hi => ?_, fun k i q1 q2 => ?_, r5⟩
    · rw [kc_99_0, h1, if_neg (by rw [lz_le, lz_lit (by omega)]; show ¬ (((b0 + (B.length + 1) : Nat) : Int) ≤ 0); omega), eb]
      simp only [if_pos i1, lz_onat (show b0 + B.length < 2147483648 by omega), h4.2.1, h4.1, h2]
      rw [if_pos trivial, ld, bv_ok]
      exact r1
    · rcases List.mem_cons.1 hi with e | e
      · by_cases w : j ∈ B
        · rw [e]; exact r3 j w
        · rw [e, r4 23 j (fun q => w q.2) (by omega), lj_put_1, if_pos ⟨rfl, rfl⟩]
      · exact r3 i e
    · rw [r4 k i (fun w => q1 ⟨w.1, List.mem_cons_of_mem _ w.2⟩) q2, o k i (fun w => q1 ⟨w.1, by rw [w.2]; exact List.mem_cons_self⟩) q2]
/-- who has the latest break -/
theorem bk_top {σ τ : lj_S} : ∀ (Y : List zT), loA σ τ Y → 0 < bks Y → ∃ L, L ≤ Y.length ∧ σ.1 53 (bks Y - 1) = Int32.ofNat L
  | [], _, h => by simp [bks] at h
  | x :: Y, h, hp => by
    cases hB : x.2.2.2.1 with
    | nil =>
      have e : bks (x :: Y) = bks Y := by simp [bks, hB]
      rw [e] at hp ⊢
      obtain ⟨L, l1, l2⟩ := bk_top Y h.2 hp
      exact ⟨L, by simp; omega, l2⟩
    | cons j r =>
      have q := h.1.2.2.2.1
      rw [hB] at q
      have e : bks (x :: Y) - 1 = bks Y + r.length := by simp [bks, hB]; omega
      exact ⟨Y.length + 1, by simp, by rw [e]; exact q.2.1⟩
theorem chM_lt {τ : lj_S} : ∀ (r : List Nat) {h : Int32}, chM τ h r → ∀ j ∈ r, j < 14000
  | i :: r, _, a, j, hj => by
    rcases List.mem_cons.1 hj with e | e
    · rw [e]; exact a.2.1
    · exact chM_lt r a.2.2 j e
/-- a loop begins, in both -/
theorem cm_enter {b : Nat → Int32} {n T : Nat} {Q : tkQ} {X : List Int32 → Prop} {FO : List fT} {Z : List zT} {PL : List qT} {cl ml : Nat} {F : Nat} {p v c m wh : Nat} {W : List wT} {σ τ : lj_S} {z0 : lT} {R0 : List lT} (h : PS b n T Q X F (z0 :: R0) FO Z PL cl ml p v c m wh W σ τ) (hZ : Z.length + 1 ≤ v) :
    ∃ σ' τ', lj_R lc_P 98 [.ref 6] σ = some (.inl none, σ') ∧ lj_R lm_P 44 [.ref 0] τ = some (.inl none, τ') ∧ PS b n T Q X F (z0 :: R0) FO ((z0.1, R0.length, z0.2.1.length, [], []) :: Z) PL cl ml p v c m wh W σ' τ' ∧ GR (z0 :: R0) (z0 :: R0) F F p p c c m m σ τ σ' τ' ∧ (∀ k j, k ≠ 50 → k ≠ 51 → ¬ (k = 6 ∧ j = 10) → σ'.1 k j = σ.1 k j) ∧ (∀ k j, k ≠ 33 → k ≠ 34 → ¬ (k = 0 ∧ j = 56) → τ'.1 k j = τ.1 k j) := by
  have hv := h.2.2.1.2.1
  have hNR := h.1.2.2.1
  have h62 : σ.1 6 2 = Int32.ofNat z0.1 := hNR.2.2.2.2.2.2.1
  have hz51 : z0.1 < 51 := hNR.1.1.1
  have h44 : σ.1 44 z0.1 = Int32.ofNat z0.2.1.length := hNR.1.1.2.2.1
  have h53 : τ.1 0 53 = Int32.ofNat R0.length := hNR.2.2.2.2.2.2.2.1
  have hzF : z0.1 < F := h.1.2.2.2.2.1 z0 (List.mem_cons_self)
  have hF50 := h.1.2.2.2.1.2.2.1
  have hF8 : lv σ 5 8 = (F : Int) := by unfold lv; rw [h.1.2.2.2.1.1, lz_lit (by omega)]
  obtain ⟨l1, l2, l3, l4, l5, l6, l7, l8, l9, l10, l11⟩ := h.2.2.2.1
  have i1 : lj_in (Int32.ofNat Z.length) 22 := ofN_in (by omega) (by omega)
  have i2 : lj_in (Int32.ofNat Z.length) 64 := ofN_in (by omega) (by omega)
  have i3 : lj_in (Int32.ofNat z0.1) 51 := ofN_in hz51 (by omega)
  have oC : ∀ k j, ¬ ((k = 50 ∨ k = 51) ∧ j = Z.length) → ¬ (k = 6 ∧ j = 10) → (lj_put (lj_put (lj_put σ 50 Z.length (Int32.ofNat z0.1)) 51 Z.length (Int32.ofNat z0.2.1.length)) 6 10 (Int32.ofNat (Z.length + 1))).1 k j = σ.1 k j := fun k j q1 q2 => by rw [lj_put_1, if_neg (by omega), lj_put_1, if_neg (by omega), lj_put_1, if_neg (by omega)]
  have oM : ∀ k j, ¬ ((k = 33 ∨ k = 34) ∧ j = Z.length) → ¬ (k = 0 ∧ j = 56) → (lj_put (lj_put (lj_put τ 33 Z.length (-1)) 34 Z.length (Int32.ofNat R0.length)) 0 56 (Int32.ofNat (Z.length + 1))).1 k j = τ.1 k j := fun k j q1 q2 => by rw [lj_put_1, if_neg (by omega), lj_put_1, if_neg (by omega), lj_put_1, if_neg (by omega)]
  have fC : lf pC σ (lj_put (lj_put (lj_put σ 50 Z.length (Int32.ofNat z0.1)) 51 Z.length (Int32.ofNat z0.2.1.length)) 6 10 (Int32.ofNat (Z.length + 1))) := lf_put (lf_put (lf_put (lf_rf _ _) _ _ _ rfl) _ _ _ rfl) _ _ _ rfl
  have fM : lf pM τ (lj_put (lj_put (lj_put τ 33 Z.length (-1)) 34 Z.length (Int32.ofNat R0.length)) 0 56 (Int32.ofNat (Z.length + 1))) := lf_put (lf_put (lf_put (lf_rf _ _) _ _ _ rfl) _ _ _ rfl) _ _ _ rfl
  refine ⟨_, _, ?_, ?_, ?_, ?_, fun k j q1 q2 q3 => oC k j (by omega) (by omega), fun k j q1 q2 q3 => oM k j (by omega) (by omega)⟩
  · rw [rc_98, kc_98_0, l1, h62]
    simp only [if_pos i1, if_pos i3, lz_onat (show Z.length < 2147483648 by omega), lz_onat (show z0.1 < 2147483648 by omega), h44, lz_osucc]
  · rw [rm_44, km_44_0, l2, h53]
    simp only [if_pos i2, lz_onat (show Z.length < 2147483648 by omega), lz_osucc]
  · have x50 : (lj_put (lj_put (lj_put σ 50 Z.length (Int32.ofNat z0.1)) 51 Z.length (Int32.ofNat z0.2.1.length)) 6 10 (Int32.ofNat (Z.length + 1))).1 50 Z.length = Int32.ofNat z0.1 := by rw [lj_put_1, if_neg (by omega), lj_put_1, if_neg (by omega), lj_put_1, if_pos ⟨rfl, rfl⟩]
    have x51 : (lj_put (lj_put (lj_put σ 50 Z.length (Int32.ofNat z0.1)) 51 Z.length (Int32.ofNat z0.2.1.length)) 6 10 (Int32.ofNat (Z.length + 1))).1 51 Z.length = Int32.ofNat z0.2.1.length := by rw [lj_put_1, if_neg (by omega), lj_put_1, if_pos ⟨rfl, rfl⟩]
    have x610 : (lj_put (lj_put (lj_put σ 50 Z.length (Int32.ofNat z0.1)) 51 Z.length (Int32.ofNat z0.2.1.length)) 6 10 (Int32.ofNat (Z.length + 1))).1 6 10 = Int32.ofNat (Z.length + 1) := by rw [lj_put_1, if_pos ⟨rfl, rfl⟩]
    have y33 : (lj_put (lj_put (lj_put τ 33 Z.length (-1)) 34 Z.length (Int32.ofNat R0.length)) 0 56 (Int32.ofNat (Z.length + 1))).1 33 Z.length = -1 := by rw [lj_put_1, if_neg (by omega), lj_put_1, if_neg (by omega), lj_put_1, if_pos ⟨rfl, rfl⟩]
    have y34 : (lj_put (lj_put (lj_put τ 33 Z.length (-1)) 34 Z.length (Int32.ofNat R0.length)) 0 56 (Int32.ofNat (Z.length + 1))).1 34 Z.length = Int32.ofNat R0.length := by rw [lj_put_1, if_neg (by omega), lj_put_1, if_pos ⟨rfl, rfl⟩]
    have y56 : (lj_put (lj_put (lj_put τ 33 Z.length (-1)) 34 Z.length (Int32.ofNat R0.length)) 0 56 (Int32.ofNat (Z.length + 1))).1 0 56 = Int32.ofNat (Z.length + 1) := by rw [lj_put_1, if_pos ⟨rfl, rfl⟩]
    generalize lj_put (lj_put (lj_put σ 50 Z.length (Int32.ofNat z0.1)) 51 Z.length (Int32.ofNat z0.2.1.length)) 6 10 (Int32.ofNat (Z.length + 1)) = σ' at *
    generalize lj_put (lj_put (lj_put τ 33 Z.length (-1)) 34 Z.length (Int32.ofNat R0.length)) 0 56 (Int32.ofNat (Z.length + 1)) = τ' at *
    have loA' : ∀ (Y : List zT), Y.length ≤ Z.length → loA σ τ Y → loA σ' τ' Y := by
      intro Y
      induction Y with
      | nil => intro _ _; trivial
      | cons x Y ih =>
        intro hl g
        simp only [List.length_cons] at hl
        exact ⟨⟨by rw [oC _ _ (by omega) (by omega)]; exact g.1.1, by rw [oM _ _ (by omega) (by omega)]; exact g.1.2.1, by rw [oC _ _ (by omega) (by omega)]; exact g.1.2.2.1, bkL_cg (fun j => oC _ _ (by omega) (by omega)) (fun j => oC _ _ (by omega) (by omega)) _ _ _ g.1.2.2.2.1, by rw [oM _ _ (by omega) (by omega)]; exact chM_cg (m := 14000) (fun j _ => oM _ _ (by omega) (by omega)) _ _ (chM_lt _ g.1.2.2.2.2) g.1.2.2.2.2⟩, ih (by omega) g.2⟩
    refine h.mk' fC fM (NR_eq hNR (fun k j q => oC k j (by rintro ⟨e | e, _⟩ <;> rw [e] at q <;> cases q) (by rintro ⟨e1, e2⟩; rw [e1, e2] at q; cases q)) (fun k j q => oM k j (by rintro ⟨e | e, _⟩ <;> rw [e] at q <;> cases q) (by rintro ⟨e1, e2⟩; rw [e1, e2] at q; cases q))) (FR_eq h.1.2.2.2.1 (fun k j q => oC k j (by rintro ⟨e | e, _⟩ <;> rw [e] at q <;> cases q) (by rintro ⟨e1, e2⟩; rw [e1, e2] at q; cases q)) (fun k j q => oM k j (by rintro ⟨e | e, _⟩ <;> rw [e] at q <;> cases q) (by rintro ⟨e1, e2⟩; rw [e1, e2] at q; cases q))) h.1.2.2.2.2.1 (lvS_eq (fun k j q => oC k j (by rintro ⟨e | e, _⟩ <;> rw [e] at q <;> cases q) (by rintro ⟨e1, e2⟩; rw [e1, e2] at q; cases q)) h.1.2.2.2.2.2.1) (SCr_eq h.1.2.2.2.2.2.2 (Nat.le_refl _) (fun k j q => oC k j (by rintro ⟨e | e, _⟩ <;> rw [e] at q <;> cases q) (by rintro ⟨e1, e2⟩; rw [e1, e2] at q; cases q))) (hnd_eq h.2.1 (fun k j q => oC k j (by rintro ⟨e | e, _⟩ <;> rw [e] at q <;> cases q) (by rintro ⟨e1, e2⟩; rw [e1, e2] at q; cases q)) (fun k j q => oM k j (by rintro ⟨e | e, _⟩ <;> rw [e] at q <;> cases q) (by rintro ⟨e1, e2⟩; rw [e1, e2] at q; cases q))) h.2.2.1 ⟨x610, y56, by simp; omega, by rw [oC 6 13 (by omega) (by omega)]; simpa [bks] using l4, by simpa [bks] using l5, by rw [oC 6 18 (by omega) (by omega)]; exact l6, by rw [oM 0 60 (by omega) (by omega)]; exact l7, l8, ⟨⟨x50, y34, x51, trivial, y33⟩, loA' Z (Nat.le_refl _) l9⟩, plA_cg (fun j => oC 54 j (by omega) (by omega)) (fun j => oC 55 j (by omega) (by omega)) (fun j => oC 56 j (by omega) (by omega)) (fun j => oM 35 j (by omega) (by omega)) (fun j => oM 36 j (by omega) (by omega)) (fun j => oM 37 j (by omega) (by omega)) PL l10, fun y hy => ?_⟩ h.2.2.2.2.1.1 ?_ h.2.2.2.2.2
    · rcases List.mem_cons.1 hy with e | e
      · rw [e]; exact ⟨fun j hj => by simp at hj, fun j hj => by simp at hj⟩
      · exact l11 y e
    · obtain ⟨⟨q1, q2, q3⟩, a1, a2, a3, a4, a5⟩ := h.2.2.2.2.1.2
      have e18 : lv σ' 5 18 = lv σ 5 18 := by unfold lv; rw [oC 5 18 (by omega) (by omega)]
      have e8 : lv σ' 5 8 = lv σ 5 8 := by unfold lv; rw [oC 5 8 (by omega) (by omega)]
      refine ⟨⟨by rw [e18]; exact q1, by simpa [bks] using q2, fun y hy => ?_⟩, by simp; omega, a2, a3, a4, fun y hy => ?_⟩
      · rw [e8]
        rcases List.mem_cons.1 hy with e | e
        · rw [e]; show (z0.1 : Int) < lv σ 5 8; omega
        · exact q3 y e
      · rcases List.mem_cons.1 hy with e | e
        · rw [e]; simp
        · exact a5 y e
  · exact ⟨TX_eq _ fC fM h.1.2.1 (fun k j q => oC k j (by rintro ⟨e | e, _⟩ <;> rw [e] at q <;> cases q) (by rintro ⟨e1, e2⟩; rw [e1, e2] at q; cases q)) (fun k j q => oM k j (by rintro ⟨e | e, _⟩ <;> rw [e] at q <;> cases q) (by rintro ⟨e1, e2⟩; rw [e1, e2] at q; cases q)) (fun _ => rfl) (fun _ => rfl) (by unfold lv; rw [oC 5 0 (by omega) (by omega)]; exact Int.le_refl _), lvX_rf _, (Nat.le_refl _), (Nat.le_refl _), (Nat.le_refl _), (Nat.le_refl _), fz_eq (fun k j a b => oC k j (by omega) (by omega)) (fun k j a b => oM k j (by omega) (by omega))⟩
