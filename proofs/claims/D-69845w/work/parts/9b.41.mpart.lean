/-! the gathering: frames and parts of the model, functions -/
/-- gathering frames of a list: their last acts belong to W -/
def gcF (τ : lj_S) (q n : Nat) (W : Nat → Prop) : List kF → Prop
  | [] => True
  | F :: L => (kS F = 2 → ∃ b e : Nat, b ≤ e ∧ e ≤ 4004 ∧ τ.1 84 (48 * q + L.length) = Int32.ofNat b ∧ τ.1 85 (48 * q + L.length) = Int32.ofNat e ∧ ∀ a, b ≤ a → a < e → ∃ o : Nat, τ.1 95 a = Int32.ofNat o ∧ 1 ≤ o ∧ o ≤ n ∧ W o) ∧ gcF τ q n W L
def gcX (τ : lj_S) (q n : Nat) : List kF → Nat → Prop
  | [], _ => False
  | F :: L, x => (kS F = 2 ∧ x ≠ 0 ∧ x ≤ n ∧ ∃ a : Nat, lv τ 84 (48 * q + L.length) ≤ (a : Int) ∧ (a : Int) < lv τ 85 (48 * q + L.length) ∧ τ.1 95 a = Int32.ofNat x) ∨ gcX τ q n L x
theorem gcF_cg {τ τ' : lj_S} {q n : Nat} {W : Nat → Prop} (h : ∀ k j, k = 84 ∨ k = 85 ∨ k = 95 → τ'.1 k j = τ.1 k j) : ∀ {L : List kF}, gcF τ q n W L → gcF τ' q n W L
  | [], _ => trivial
  | F :: L, w => ⟨fun z => by
      obtain ⟨b, e, w1, w2, w3, w4, w5⟩ := w.1 z
      exact ⟨b, e, w1, w2, by rw [h 84 _ (by omega)]; exact w3, by rw [h 85 _ (by omega)]; exact w4, fun a a1 a2 => by rw [h 95 a (by omega)]; exact w5 a a1 a2⟩, gcF_cg h w.2⟩
theorem gcX_cg {τ τ' : lj_S} {q n : Nat} (h : ∀ k j, k = 84 ∨ k = 85 ∨ k = 95 → τ'.1 k j = τ.1 k j) : ∀ {L : List kF} {x : Nat}, gcX τ' q n L x ↔ gcX τ q n L x
  | [], _ => Iff.rfl
  | F :: L, x => by
    have e95 : ∀ a, τ'.1 95 a = τ.1 95 a := fun a => h 95 a (by omega)
    unfold gcX lv
    rw [h 84 _ (by omega), h 85 _ (by omega), gcX_cg h]
    simp only [e95]
theorem fgM_cg {τ τ' : lj_S} {ρ : Nat → Nat} (h54 : ∀ j, τ'.1 54 j = τ.1 54 j) (h55 : ∀ j, τ'.2 55 j = τ.2 55 j) {F : kF} {x : Nat} : fgM τ' ρ F x ↔ fgM τ ρ F x := by
  unfold fgM clM
  simp only [h54, h55]
/-- all frames of a part -/
theorem m_rfrl {σ0 τ0 σ : lj_S} {ρ : Nat → Nat} {q n D : Nat} (hn : n ≤ 2000) (l70 : lv σ 7 0 = (n : Int)) (hq : q < 26) (hD : D ≤ 20) {W : Nat → Prop} : ∀ (L : List kF) (ce me mq : Nat) (τ : lj_S) (Q : List Nat) (Y3 Y4 Y5 : Value), prt σ0 τ0 σ τ ρ q L ce me mq → L.length ≤ D → τ.1 62 q = Int32.ofNat D → (∀ F ∈ L, kS F = 0 → kW F ≠ 0) → (∀ F ∈ L, kS F = 0 → ∀ y ∈ (kY F).2.2.2.2.1, ρ (kB F + y) < 95000 ∧ vR σ τ (cv σ (kB F + y)) (clM τ ρ (kB F + y))) → gcF τ q n W L → (∀ F ∈ L, ∀ x, fgM τ ρ F x → W x) → wqM n τ Q → ∃ τ' Q' X3 X4 X5, lj_D lm_P lm_M211 90 [.ref 0, .int (Int32.ofNat q), .int 0, Y3, Y4, Y5] [] τ = lj_D lm_P lm_M211 90 [.ref 0, .int (Int32.ofNat q), .int (Int32.ofNat L.length), X3, X4, X5] [] τ' ∧ visM n W (fun x => (∃ F ∈ L, fgM τ ρ F x) ∨ gcX τ q n L x) τ Q τ' Q'
  | [], ce, me, mq, τ, Q, Y3, Y4, Y5, _, _, _, _, _, _, _, hm => ⟨τ, Q, Y3, Y4, Y5, rfl, (vis.rf hm).mo (fun x z => by
      rcases z with ⟨F, hF, _⟩ | z
      · cases hF
      · exact z)⟩
  | F :: L, ce, me, mq, τ, Q, Y3, Y4, Y5, hpr, lD, h62, hw, hlv, hg, hW, hm => by
    have hpr0 := hpr
    obtain ⟨ms, ks, h1, h2, h3⟩ := hpr
    rw [List.length_cons] at lD
    obtain ⟨τ1, Q1, Z3, Z4, Z5, r1, r2⟩ := m_rfrl hn l70 hq hD L (kC F) ms ks τ Q Y3 Y4 Y5 h1 (by omega) h62 (fun G hG => hw G (List.mem_cons_of_mem _ hG)) (fun G hG => hlv G (List.mem_cons_of_mem _ hG)) hg.2 (fun G hG => hW G (List.mem_cons_of_mem _ hG)) hm
    have g1 : lf gKM τ τ1 := r2.2.1.mo (fun _ _ q => gRM_K q)
    have c : ∀ k j, k ≠ 96 → k ≠ 98 → (k ≠ 0 ∨ j ≠ 157) → τ1.1 k j = τ.1 k j ∧ τ1.2 k j = τ.2 k j := fun k j z1 z2 z3 => visM.o r2 ⟨z1, z2, z3⟩
    have iq : lj_in (Int32.ofNat q) 26 := ofN_in (by omega) (by omega)
    have nq : (Int32.ofNat q).toNatClampNeg = q := lz_onat (by omega)
    have ea : (48 : Int32) * Int32.ofNat q + Int32.ofNat L.length = Int32.ofNat (48 * q + L.length) := by rw [show (48 : Int32) = Int32.ofNat 48 from rfl, ← Int32.ofNat_mul, ← Int32.ofNat_add]
    have ii : lj_in (Int32.ofNat (48 * q + L.length)) 1248 := ofN_in (by omega) (by omega)
    have ni : (Int32.ofNat (48 * q + L.length)).toNatClampNeg = 48 * q + L.length := lz_onat (by omega)
    have hd : ∀ X3 X4 X5, lj_D lm_P lm_M211 90 [.ref 0, .int (Int32.ofNat q), .int (Int32.ofNat L.length), X3, X4, X5] [] τ1 = (if τ.1 74 (48 * q + L.length) = 0 then (if τ.1 76 (48 * q + L.length) ≤ 0 then lj_D lm_P lm_M211 131 [.ref 0, .int (Int32.ofNat q), .int (Int32.ofNat L.length), .int (Int32.ofNat (48 * q + L.length)), X4, X5] [.int 0, .ref 0] τ1 else lj_D lm_P lm_M211 131 [.ref 0, .int (Int32.ofNat q), .int (Int32.ofNat L.length), .int (Int32.ofNat (48 * q + L.length)), X4, X5] [.int 5, .ref 0] τ1) else lj_D lm_P lm_M211 194 [.ref 0, .int (Int32.ofNat q), .int (Int32.ofNat L.length), .int (Int32.ofNat (48 * q + L.length)), X4, X5] [] τ1) := fun X3 X4 X5 => by
      rw [km_211_90]; simp only [if_pos iq, nq]; rw [(c 62 q (by omega) (by omega) (by omega)).1, h62, if_neg (fun z => by have := (ofN_le (by omega) (by omega)).1 z; omega), ea]; simp only [if_pos ii, ni]; rw [(c 74 _ (by omega) (by omega) (by omega)).1, (c 76 _ (by omega) (by omega) (by omega)).1]
    rcases h2.2 with ⟨s0, t⟩ | ⟨s12, _, h74, _⟩
    · obtain ⟨_, ⟨b74, _, b76, _, _⟩, _, _, ⟨t5, t6, _⟩, ⟨⟨f51, fL, _⟩, fO, _, fW⟩⟩ := t
      obtain ⟨⟨_, sc1, _⟩, _⟩ := fW (hw F List.mem_cons_self s0)
      -- behind the function object
      have mid : ∀ (τ2 : lj_S) (Q2 : List Nat) (M : Nat → Prop) (X5 : Value), visM n W M τ Q τ2 Q2 → (∀ x, (∃ G ∈ L, fgM τ ρ G x) ∨ gcX τ q n L x → M x) → (∀ x, x ≠ 0 → x = kO F → M x) → ∃ τ' Q' X3 X4 X5', lj_D lm_P lm_M211 144 [.ref 0, .int (Int32.ofNat q), .int (Int32.ofNat L.length), .int (Int32.ofNat (48 * q + L.length)), .int 0, X5] [] τ2 = lj_D lm_P lm_M211 90 [.ref 0, .int (Int32.ofNat q), .int (Int32.ofNat (L.length + 1)), X3, X4, X5'] [] τ' ∧ visM n W (fun x => (∃ G ∈ F :: L, fgM τ ρ G x) ∨ gcX τ q n (F :: L) x) τ Q τ' Q' := fun τ2 Q2 M X5 hv hM1 hM2 => by
        have c2 : ∀ k j, k ≠ 96 → k ≠ 98 → (k ≠ 0 ∨ j ≠ 157) → τ2.1 k j = τ.1 k j ∧ τ2.2 k j = τ.2 k j := fun k j z1 z2 z3 => visM.o hv ⟨z1, z2, z3⟩
        obtain ⟨τ3, Q3, X4, X5', s1, s2⟩ := m_rcel hn (W := W) (i := 48 * q + L.length) (by omega) (Int32.ofNat q) (Int32.ofNat L.length) 50 0 τ2 Q2 X5 (by omega) (fun y _ y2 => by
          rw [(c2 87 _ (by omega) (by omega) (by omega)).1]
          by_cases z : y ∈ (kY F).2.2.2.2.1
          · right
            obtain ⟨l1, l2⟩ := hlv F List.mem_cons_self s0 y z
            refine ⟨ρ (kB F + y), l1, (t5 y z).2, ?_⟩
            rw [(c2 54 _ (by omega) (by omega) (by omega)).1, (c2 55 _ (by omega) (by omega) (by omega)).2]
            exact l2.gm l70 (fun w => hW F List.mem_cons_self _ ⟨s0, w, Or.inr ⟨y, z, rfl⟩⟩)
          · left
            exact (t6 y y2 z).1 (by omega)) hv.1
        have hv3 := hv.tr s2
        have c3 : ∀ k j, k ≠ 96 → k ≠ 98 → (k ≠ 0 ∨ j ≠ 157) → τ3.1 k j = τ.1 k j := fun k j z1 z2 z3 => (visM.o hv3 ⟨z1, z2, z3⟩).1
        refine ⟨τ3, Q3, .int (Int32.ofNat (48 * q + L.length)), .int (τ.1 84 (48 * q + L.length)), X5', ?_, hv3.mo (fun x hx => ?_)⟩
        · rw [show (0 : Int32) = Int32.ofNat 0 from rfl, s1, km_211_194]; simp only [if_pos ii, ni]; rw [km_211_202]; simp only [if_pos ii, ni]; rw [c3 74 _ (by omega) (by omega) (by omega), b74, if_neg (by decide), km_211_242, lz_osucc, c3 84 _ (by omega) (by omega) (by omega)]
        · rcases hx with ⟨G, hG, w⟩ | w
          · rcases List.mem_cons.1 hG with e | e
            · rw [e] at w
              obtain ⟨_, x0, w | ⟨y, y1, y2⟩⟩ := w
              · exact Or.inl (hM2 x x0 w)
              · right
                have yl := (t5 y y1).1
                exact ⟨x0, y, ρ (kB F + y), Nat.zero_le _, by omega, (hlv F List.mem_cons_self s0 y y1).1, by rw [(c2 87 _ (by omega) (by omega) (by omega)).1]; exact (t5 y y1).2, by rw [(c2 54 _ (by omega) (by omega) (by omega)).1, (c2 55 _ (by omega) (by omega) (by omega)).2]; exact y2⟩
            · exact Or.inl (hM1 x (Or.inl ⟨G, e, w⟩))
          · rcases w with ⟨w, _⟩ | w
            · omega
            · exact Or.inl (hM1 x (Or.inr w))
      by_cases z : kO F = 0
      · obtain ⟨τ2, Q2, s1, s2⟩ := m_reach hn r2.1 (a := (0, i64 (kO F))) (W := W) (gm_k (n := n) (W := W) (by dsimp only; decide)).1 (by rw [ov_k (by dsimp only; decide)]; omega) (fun y => absurd (ov_k (by dsimp only; decide)) y)
        have s1 : lj_R lm_P 210 [.ref 0, .int 0, .long (Int32.ofNat (kO F)).toInt64] τ1 = some (.inl none, τ2) := s1
        obtain ⟨τ3, Q3, X3, X4, X5, u1, u2⟩ := mid τ2 Q2 _ Z5 (r2.tr s2) (fun x y => Or.inl y) (fun x x0 y => absurd (y.trans z) x0)
        refine ⟨τ3, Q3, X3, X4, X5, ?_, u2⟩
        rw [r1, hd, b74, if_pos rfl, b76, if_pos (by rw [z]; decide), km_211_131]; simp only [if_pos ii, ni]; rw [(c 76 _ (by omega) (by omega) (by omega)).1, b76, s1, bv_ok]
        exact u1
      · have fO : obA σ τ (kO F) 5 := by
          rcases fO with w | w
          · exact absurd w.1 z
          · exact w.1
        have o2 := fO.2.1
        have o3 := fO.2.2.1
        have om : ov (5, i64 (kO F)) = kO F := ov_ob (Or.inr (Or.inl rfl)) (by omega)
        obtain ⟨τ2, Q2, s1, s2⟩ := m_reach hn r2.1 (a := (5, i64 (kO F))) (fun _ => by rw [om]) (by rw [om]; omega) (W := W) (by rw [om]; exact fun y => hW F List.mem_cons_self _ ⟨s0, y, Or.inl rfl⟩)
        have s1 : lj_R lm_P 210 [.ref 0, .int 5, .long (Int32.ofNat (kO F)).toInt64] τ1 = some (.inl none, τ2) := s1
        obtain ⟨τ3, Q3, X3, X4, X5, u1, u2⟩ := mid τ2 Q2 _ Z5 (r2.tr s2) (fun x y => Or.inl y) (fun x x0 y => Or.inr ⟨by rw [om]; exact y, x0⟩)
        refine ⟨τ3, Q3, X3, X4, X5, ?_, u2⟩
        rw [r1, hd, b74, if_pos rfl, b76, if_neg (by rw [lz_le, lz_lit (by omega)]; show ¬ ((kO F : Int) ≤ 0); omega), km_211_131]; simp only [if_pos ii, ni]; rw [(c 76 _ (by omega) (by omega) (by omega)).1, b76, s1, bv_ok]
        exact u1
    · rw [r1]
      have n0 : ¬ (τ.1 74 (48 * q + L.length) = 0) := by rw [h74]; rcases s12 with z | z <;> rw [z] <;> decide
      by_cases z : kS F = 2
      · obtain ⟨b, e, w1, w2, w3, w4, w5⟩ := hg.1 z
        obtain ⟨τ2, Q2, s1, s2⟩ := m_ract hn (W := W) (i := 48 * q + L.length) (e := e) (by omega) w2 (Int32.ofNat q) (Int32.ofNat L.length) (e - b) b τ1 Q1 Z5 (by omega) (by rw [(c 74 _ (by omega) (by omega) (by omega)).1, h74, z]; rfl) (by rw [(c 85 _ (by omega) (by omega) (by omega)).1]; exact w4) (fun a a1 a2 => by rw [(c 95 a (by omega) (by omega) (by omega)).1]; exact w5 a a1 a2) r2.1
        refine ⟨τ2, Q2, .int (Int32.ofNat (48 * q + L.length)), .int (Int32.ofNat e), Z5, ?_, (r2.tr s2).mo (fun x hx => ?_)⟩
        · rw [hd, if_neg n0, km_211_194]; simp only [if_pos ii, ni]; rw [(c 84 _ (by omega) (by omega) (by omega)).1, w3, s1, km_211_242, lz_osucc, List.length_cons]
        · rcases hx with ⟨G, hG, w⟩ | w
          · rcases List.mem_cons.1 hG with y | y
            · rw [y] at w
              have := w.1
              omega
            · exact Or.inl (Or.inl ⟨G, y, w⟩)
          · rcases w with ⟨_, x0, xn, a, a1, a2, a3⟩ | w
            · right
              have l1 : lv τ 84 (48 * q + L.length) = (b : Int) := by unfold lv; rw [w3, lz_lit (by omega)]
              have l2 : lv τ 85 (48 * q + L.length) = (e : Int) := by unfold lv; rw [w4, lz_lit (by omega)]
              exact ⟨x0, xn, a, by omega, by omega, by rw [(c 95 a (by omega) (by omega) (by omega)).1]; exact a3⟩
            · exact Or.inl (Or.inr w)
      · have s1' : kS F = 1 := by omega
        refine ⟨τ1, Q1, .int (Int32.ofNat (48 * q + L.length)), .int (τ.1 84 (48 * q + L.length)), Z5, ?_, r2.mo (fun x hx => ?_)⟩
        · rw [hd, if_neg n0, km_211_194]; simp only [if_pos ii, ni]; rw [km_211_202]; simp only [if_pos ii, ni]; rw [(c 74 _ (by omega) (by omega) (by omega)).1, h74, s1', if_neg (by decide), km_211_242, lz_osucc, List.length_cons, (c 84 _ (by omega) (by omega) (by omega)).1]
        · rcases hx with ⟨G, hG, w⟩ | w
          · rcases List.mem_cons.1 hG with y | y
            · rw [y] at w
              have := w.1
              omega
            · exact Or.inl ⟨G, y, w⟩
          · rcases w with ⟨w, _⟩ | w
            · omega
            · exact Or.inr w
/-- values of a part of the model -/
theorem prt_gm {σ0 τ0 σ τ : lj_S} {ρ : Nat → Nat} {q n : Nat} (l70 : lv σ 7 0 = (n : Int)) {W : Nat → Prop} : ∀ {L : List kF} {ce me mq : Nat}, prt σ0 τ0 σ τ ρ q L ce me mq → (∀ x, x ≠ 0 → (∃ j, j < me ∧ x = ov (mv τ (10000 * q + j))) → W x) → ∀ j, j < me → gdM n W (mv τ (10000 * q + j))
  | [], ce, me, mq, h, _, j, hj => by have := h.2.1; omega
  | F :: L, ce, me, mq, h, hW, j, hj => by
    obtain ⟨ms, ks, h1, h2, _⟩ := h
    have rg := frm_rg h2
    by_cases z : j < ms
    · exact prt_gm l70 h1 (fun x x0 ⟨i, i1, i2⟩ => hW x x0 ⟨i, by omega, i2⟩) j z
    · have w : ov (mv τ (10000 * q + j)) ≠ 0 → W (ov (mv τ (10000 * q + j))) := fun y => hW _ y ⟨j, hj, rfl⟩
      rcases h2.2 with ⟨s0, t⟩ | ⟨_, _, _, c1, c2, c3⟩
      · obtain ⟨_, _, t3, t4, _⟩ := t
        by_cases y : j < ms + kD F
        · have := (t3 (j - ms) (by omega)).1
          rw [show ms + (j - ms) = j by omega] at this
          exact this.gm l70 w
        · -- on the stack
          have : ∀ {s : List Nat} {ce me mq : Nat} {cm : Int32}, stk σ τ q (kB F + nL σ0 (kY F).1) (kB F + nL σ0 (kY F).1 + 3 * nH σ0 (kY F).1) (ms + kD F) ks s ce me mq cm → ∀ j, ms + kD F ≤ j → j < me → (∃ a, vR σ τ a (mv τ (10000 * q + j))) ∨ τ.1 71 (10000 * q + j) = 0 := by
            intro s
            induction s with
            | nil => intro ce me mq cm h j j1 j2; have := h.2.1; omega
            | cons x s ih =>
              intro ce me mq cm h j j1 j2
              rcases h with ⟨_, ce', mq', cm', _, _, _, _, _, h⟩ | ⟨_, mq', _, _, h⟩ | ⟨_, me', e1, e2, h⟩ | ⟨_, r, ce', me', _, e1, _, e2, h⟩ | ⟨_, ce', me', _, e1, e2, _, _, _, h⟩ | ⟨_, ce', me', _, e1, _, e2, _, h⟩
              · exact ih h j j1 j2
              · exact ih h j j1 j2
              · by_cases w : j < me'
                · exact ih h j j1 w
                · have := (e2 (j - me') (by omega)).1
                  rw [show 10000 * q + me' + (j - me') = 10000 * q + j by omega] at this
                  exact Or.inl ⟨_, this⟩
              · by_cases w : j < me'
                · exact ih h j j1 w
                · have := (e2 (j - me') (by omega)).1
                  rw [show 10000 * q + me' + (j - me') = 10000 * q + j by omega] at this
                  exact Or.inl ⟨_, this⟩
              · by_cases w : j < me'
                · exact ih h j j1 w
                · rw [show j = me' by omega]; exact Or.inl ⟨_, e2⟩
              · by_cases w : j < me'
                · exact ih h j j1 w
                · rw [show j = me' by omega]; exact Or.inr e2
          rcases this t4 j (by omega) hj with ⟨a, v⟩ | v
          · exact v.gm l70 w
          · exact gm_k (by show ¬ (τ.1 71 _ = 4 ∨ τ.1 71 _ = 5 ∨ τ.1 71 _ = 6); rw [v]; decide)
      · omega
/-- the model goes through a part that was not gone through yet -/
theorem m_rpart {σ0 τ0 σ τ : lj_S} {n np p : Nat} {r : List Nat} {FP : Nat → List kF} {ρ : Nat → Nat} {P B : Nat → List Nat} {Fr : List Nat} {P' B' : Nat → List Nat} {Fr' : List Nat} (h : gw σ0 τ0 n np p r FP ρ P B Fr P' B' Fr' σ τ) {q : Nat} (q1 : q ≤ np) (q2 : τ.1 58 q ≠ 4) {W : Nat → Prop} (hW : ∀ x, ptC σ0 σ p FP q x → W x) (hg : gcF τ q n W (FP q)) {Q : List Nat} (hm : wqM n τ Q) (h97 : τ.1 97 q = 0) : ∃ τ' Q', lj_R lm_P 211 [.ref 0, .int (Int32.ofNat q)] τ = some (.inl none, τ') ∧ visN n W (fun x => ptC σ0 σ p FP q x ∨ gcX τ q n (FP q) x) τ Q τ' Q' ∧ (∀ j, τ'.1 97 j = if j = q then 1 else τ.1 97 j) ∧ ∀ k j, k ≠ 96 → k ≠ 97 → k ≠ 98 → ¬ (k = 0 ∧ j = 157) → τ'.1 k j = τ.1 k j ∧ τ'.2 k j = τ.2 k j := by
  obtain ⟨ce, me, mq, pg⟩ := h.2.2.2.2.1 q q1 q2
  have np25 := h.2.2.2.1.1.2.2
  have tp := tpN_eq (show q < 26 by omega) pg
  obtain ⟨pr, ⟨b1, b2, b3, b4⟩, e8, e90, e63, e62⟩ := pg
  have hn := h.2.1.2.2.1.1.1
  have l70 := h.2.1.2.2.1.1.2.1
  have iq : lj_in (Int32.ofNat q) 26 := ofN_in (by omega) (by omega)
  have nq : (Int32.ofNat q).toNatClampNeg = q := lz_onat (by omega)
  have mc := fun {x : Nat} (x0 : x ≠ 0) => prt_mc pr (fun F hF h0 y hy => (h.lc q2 hF h0 hy).2) x0
  -- what the part begins with
  have s58 : (τ.1 58 q = 0 ↔ σ.1 83 q = 0) ∧ (τ.1 58 q = 0 → vR σ τ (σ.1 88 q, σ.2 89 q) (τ.1 60 q, τ.2 61 q)) := by
    obtain ⟨_, _, ⟨c1, c2⟩, d1, d2, d3, d4, d5, d6, d7, d8, d9⟩ := h.2.2.2.1
    by_cases z : q ∈ p :: r
    · rcases List.mem_cons.1 z with e | e
      · rw [e, c1, c2]; exact ⟨by decide, fun y => absurd y (by decide)⟩
      · have : ∀ (l : List Nat) (a : Nat), chn σ0 σ τ FP (a :: l) → q ∈ l → σ.1 83 q = 3 ∧ τ.1 58 q = 3 := by
          intro l
          induction l with
          | nil => intro a _ hq; cases hq
          | cons b l ih =>
            intro a hc hq
            rcases List.mem_cons.1 hq with e | e
            · rw [e]; exact hc.2.2.1
            · exact ih b hc.2.2.2 e
        have w := this r p d1 e
        rw [w.1, w.2]
        exact ⟨by decide, fun y => absurd y (by decide)⟩
    · rcases d9 q q1 z with ⟨w1, w2, w3, w4, w5⟩ | w | w
      · rw [w1, w2]; exact ⟨by decide, fun _ => w5⟩
      · rw [w.1, w.2.1]; exact ⟨by decide, fun y => absurd y (by decide)⟩
      · exact absurd w.1 q2
  obtain ⟨τ1, hτ1⟩ : ∃ τ1, τ1 = lj_put τ 97 q 1 := ⟨_, rfl⟩
  have c1 : ∀ k j, k ≠ 97 → τ1.1 k j = τ.1 k j := fun k j z => by rw [hτ1, lj_put_1, if_neg (by omega)]
  have c1' : τ1.2 = τ.2 := by rw [hτ1]; rfl
  have g1 : lf gKM τ τ1 := by rw [hτ1]; exact lf_put (lf_rf _ _) _ _ _ rfl
  have fl1 : flg n 96 τ1 = flg n 96 τ := by funext x; unfold flg; rw [c1 96 x (by omega)]
  have v1 : visN n W (fun _ => False) τ Q τ1 Q := ⟨⟨by rw [c1 0 157 (by omega)]; exact hm.1, pil_cg hm.2.1 (fun j _ => c1 98 j (by omega)), by rw [fl1]; exact hm.2.2⟩, g1, by rw [fl1]; exact rgN.rf _ _ _ _, fun _ z => z.elim⟩
  -- behind what the part begins with
  have mid : ∀ (τ2 : lj_S) (Q2 : List Nat) (M : Nat → Prop), visM n W M τ1 Q τ2 Q2 → (∀ x, σ.1 83 q = 0 → x ≠ 0 → x = ov (σ.1 88 q, σ.2 89 q) → M x) → ∃ τ' Q', lj_D lm_P lm_M211 42 [.ref 0, .int (Int32.ofNat q), .retAddr 0, .retAddr 0, .retAddr 0, .retAddr 0] [] τ2 = some (.inl none, τ') ∧ visN n W (fun x => ptC σ0 σ p FP q x ∨ gcX τ q n (FP q) x) τ Q τ' Q' ∧ (∀ j, τ'.1 97 j = if j = q then 1 else τ.1 97 j) ∧ ∀ k j, k ≠ 96 → k ≠ 97 → k ≠ 98 → ¬ (k = 0 ∧ j = 157) → τ'.1 k j = τ.1 k j ∧ τ'.2 k j = τ.2 k j := fun τ2 Q2 M hv hM => by
    have hv2 := v1.tr (hv.fr (fun _ _ q => gRM_K q))
    have c2 : ∀ k j, k ≠ 96 → k ≠ 97 → k ≠ 98 → ¬ (k = 0 ∧ j = 157) → τ2.1 k j = τ.1 k j ∧ τ2.2 k j = τ.2 k j := fun k j z1 z2 z3 z4 => by
      obtain ⟨w1, w2⟩ := visM.o hv (k := k) (j := j) (by omega)
      exact ⟨w1.trans (c1 k j z2), by rw [w2, c1']⟩
    have emv : ∀ j, mv τ2 j = mv τ j := fun j => by unfold mv; rw [(c2 71 j (by omega) (by omega) (by omega) (by omega)).1, (c2 72 j (by omega) (by omega) (by omega) (by omega)).2]
    obtain ⟨τ3, Q3, s1, s2⟩ := m_rval hn (W := W) (q := q) (me := me) (by omega) b3 me 0 τ2 Q2 (by omega) (by rw [(c2 63 q (by omega) (by omega) (by omega) (by omega)).1]; exact e63) (fun j _ j2 => by
      rw [emv]
      exact prt_gm l70 pr (fun x x0 w => hW x (Or.inr (by rw [tp]; exact (mc x0).1 (Or.inl w)))) j j2) hv.1
    have hv3 := hv2.tr (s2.fr (fun _ _ q => gRM_K q))
    have c3 : ∀ k j, k ≠ 96 → k ≠ 97 → k ≠ 98 → ¬ (k = 0 ∧ j = 157) → τ3.1 k j = τ.1 k j ∧ τ3.2 k j = τ.2 k j := fun k j z1 z2 z3 z4 => by
      obtain ⟨w1, w2⟩ := visM.o s2 (k := k) (j := j) (by omega)
      obtain ⟨w3, w4⟩ := c2 k j z1 z2 z3 z4
      exact ⟨w1.trans w3, w2.trans w4⟩
    have g3 : lf gKM τ τ3 := hv3.2.1
    have efr : ∀ F x, fgM τ3 ρ F x ↔ fgM τ ρ F x := fun F x => fgM_cg (fun j => (c3 54 j (by omega) (by omega) (by omega) (by omega)).1) (fun j => (c3 55 j (by omega) (by omega) (by omega) (by omega)).2)
    have g3' := h.cg (lf_rf _ σ) g3
    obtain ⟨τ4, Q4, X3, X4, X5, u1, u2⟩ := m_rfrl hn l70 (show q < 26 by omega) b1 (W := W) (FP q) ce me mq τ3 Q3 (.retAddr 0) (.retAddr 0) (.retAddr 0) (prt_gK (lf_rf _ σ) g3 pr) (Nat.le_refl _) (by rw [(c3 62 q (by omega) (by omega) (by omega) (by omega)).1]; exact e62) (fun F hF h0 => h.2.2.2.2.2.2.2 q q1 q2 F hF h0) (fun F hF h0 y hy => g3'.lc (by rw [(c3 58 q (by omega) (by omega) (by omega) (by omega)).1]; exact q2) hF h0 hy) (gcF_cg (fun k j z => (c3 k j (by omega) (by omega) (by omega) (by omega)).1) hg) (fun F hF x hx => hW x (Or.inr (by
      have hx := (efr F x).1 hx
      rw [tp]
      exact (mc hx.2.1).1 (Or.inr ⟨F, hF, hx⟩)))) hv3.1
    refine ⟨τ4, Q4, ?_, (hv3.tr (u2.fr (fun _ _ q => gRM_K q))).mo (fun x hx => ?_), fun j => ?_, fun k j z1 z2 z3 z4 => ?_⟩
    · rw [km_211_42, show (0 : Int32) = Int32.ofNat 0 from rfl, s1, u1, km_211_90]; simp only [if_pos iq, nq]; rw [(visM.o u2 (k := 62) (j := q) (by omega)).1, (c3 62 q (by omega) (by omega) (by omega) (by omega)).1, e62, if_pos ((ofN_le (by omega) (by omega)).2 (Nat.le_refl _))]
    · rcases hx with (⟨y1, y2, y3⟩ | hx) | hx
      · exact Or.inl (Or.inl (Or.inr (hM x y1 y2 y3)))
      · rw [tp] at hx
        have x0 : x ≠ 0 := by
          have : ∀ {L : List kF} {ce : Nat}, pCt σ0 σ L ce x → x ≠ 0 := by
            intro L
            induction L with
            | nil => intro ce z; exact z.elim
            | cons F L ih =>
              intro ce z
              rcases z with z | z
              · exact z.2.1
              · exact ih z
          exact this hx
        rcases (mc x0).2 hx with ⟨j, j1, j2⟩ | ⟨F, hF, w⟩
        · exact Or.inl (Or.inr ⟨x0, j, Nat.zero_le _, j1, by rw [emv]; exact j2⟩)
        · exact Or.inr (Or.inl ⟨F, hF, (efr F x).2 w⟩)
      · exact Or.inr (Or.inr ((gcX_cg (fun k j z => (c3 k j (by omega) (by omega) (by omega) (by omega)).1)).2 hx))
    · rw [(visM.o u2 (k := 97) (j := j) (by omega)).1, (visM.o s2 (k := 97) (j := j) (by omega)).1, (visM.o hv (k := 97) (j := j) (by omega)).1, hτ1, lj_put_1]
      by_cases z : j = q
      · rw [if_pos ⟨rfl, z⟩, if_pos z]
      · rw [if_neg (fun y => z y.2), if_neg z]
    · obtain ⟨w1, w2⟩ := visM.o u2 (k := k) (j := j) (by omega)
      obtain ⟨w3, w4⟩ := c3 k j z1 z2 z3 z4
      exact ⟨w1.trans w3, w2.trans w4⟩
  have bo : vp_nar .boolean 1 = 1 := rfl
  rw [rm_211, km_211_0]; simp only [if_pos iq, nq]; rw [h97, if_pos rfl, bo, ← hτ1]
  by_cases z : τ.1 58 q = 0
  · have vv := s58.2 z
    have z83 := s58.1.1 z
    obtain ⟨g1', g2', g3'⟩ := vv.gm l70 (W := W) (fun y => by
      rw [← vv.oj.1] at y ⊢
      exact hW _ (Or.inl ⟨z83, y, rfl⟩))
    obtain ⟨τ2, Q2, r1, r2⟩ := m_reach hn v1.1 (a := (τ.1 60 q, τ.2 61 q)) g1' g2' (W := W) g3'
    have r1 : lj_R lm_P 210 [.ref 0, .int (τ.1 60 q), .long (τ.2 61 q)] τ1 = some (.inl none, τ2) := r1
    rw [if_pos z]; (try simp only [if_pos iq]); rw [r1, bv_ok]
    exact mid τ2 Q2 _ r2 (fun x _ x0 x1 => ⟨by rw [← vv.oj.1]; exact x1, x0⟩)
  · rw [if_neg z]
    exact mid τ1 Q _ (vis.rf v1.1) (fun x y => absurd (s58.1.2 y) z)
