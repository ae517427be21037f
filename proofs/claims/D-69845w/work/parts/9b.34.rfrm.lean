/-! the gathering: functions, slots and frames of the component are gone through -/
theorem visK.o {n : Nat} {W L : Nat → Prop} {σ σ1 : lj_S} {Q Q1 : List Nat} (h : visK n W L σ Q σ1 Q1) {k j : Nat} (z : k ≠ 111 ∧ k ≠ 112 ∧ k ≠ 113 ∧ k ≠ 8 ∧ k ≠ 7) : σ1.1 k j = σ.1 k j ∧ σ1.2 k j = σ.2 k j := h.2.1 k j (by unfold gKC; simp; omega)
theorem visC.o {n : Nat} {W L : Nat → Prop} {σ σ1 : lj_S} {Q Q1 : List Nat} (h : visC n W L σ Q σ1 Q1) {k j : Nat} (z : k ≠ 111 ∧ k ≠ 112 ∧ (k ≠ 8 ∨ j ≠ 58)) : σ1.1 k j = σ.1 k j ∧ σ1.2 k j = σ.2 k j := h.2.1 k j (by unfold gRC; simp; omega)
/-- a value that may be reached -/
def gdV (n : Nat) (W : Nat → Prop) (a : vT) : Prop := wfC a ∧ ov a ≤ n ∧ (ov a ≠ 0 → W (ov a))
theorem vR.gd {σ τ : lj_S} {a b : vT} (h : vR σ τ a b) {n : Nat} (hn : lv σ 7 0 = (n : Int)) {W : Nat → Prop} (hW : ov a ≠ 0 → W (ov a)) : gdV n W a := by
  have := h.oj
  exact ⟨this.2.2.2.2.1, by have := this.2.1; omega, hW⟩
theorem gd_k {n : Nat} {W : Nat → Prop} {a : vT} (h : ov a = 0) : gdV n W a := ⟨fun z => absurd h z, by omega, fun z => absurd h z⟩
/-- the component reads a cell -/
theorem c_cof {σ : lj_S} {c : Nat} (hc : c < 60000) (h : (σ.1 74 c = -1 ∧ loC σ c = 325000 + c) ∨ ∃ s : Nat, s < 325000 ∧ σ.1 74 c = Int32.ofNat s ∧ loC σ c = s) : lj_R lc_P 141 [.ref 8, .int (Int32.ofNat c)] σ = some (.inl (some (.long (vaC σ (loC σ c)).2)), lj_put σ 7 27 (vaC σ (loC σ c)).1) := by
  have ic : lj_in (Int32.ofNat c) 60000 := ofN_in (by omega) (by omega)
  have nc : (Int32.ofNat c).toNatClampNeg = c := lz_onat (by omega)
  rw [rc_141, kc_141_0]; simp only [if_pos ic, nc]
  rcases h with ⟨w1, w2⟩ | ⟨s, w0, w1, w2⟩
  · rw [w1, if_pos (by decide)]; (try simp only [if_pos ic]); rw [kc_141_45, if_pos (by decide)]; (try simp only [if_pos ic]); rw [kc_141_73, w2]
    unfold vaC
    rw [if_neg (by omega), Nat.add_sub_cancel_left, nc]
  · have is : lj_in (Int32.ofNat s) 325000 := ofN_in (by omega) (by omega)
    rw [w1, if_neg (ofN_nneg (by omega))]; (try simp only [if_pos is]); rw [kc_141_45, if_neg (ofN_nneg (by omega))]; (try simp only [if_pos is]); rw [kc_141_73, w2]
    unfold vaC
    rw [if_pos w0, lz_onat (by omega)]
    rfl
/-- a function's variables -/
theorem c_rfun_loop {n : Nat} (hn : n ≤ 2000) {W : Nat → Prop} {o f cap r : Nat} (ho : o ≤ 2000) (hf : f < 51) (hcap : cap ≤ 30) (hr : r + cap ≤ 60000) : ∀ (d k : Nat) (σ : lj_S) (Q : List Nat) (X3 : Value), k + d = cap → σ.1 62 o = Int32.ofNat f → σ.1 33 f = Int32.ofNat cap → σ.1 63 o = Int32.ofNat r → (∀ k, k < cap → ∃ c : Nat, c < 60000 ∧ σ.1 77 (r + k) = Int32.ofNat c ∧ ((σ.1 74 c = -1 ∧ loC σ c = 325000 + c) ∨ ∃ s : Nat, s < 325000 ∧ σ.1 74 c = Int32.ofNat s ∧ loC σ c = s) ∧ gdV n W (vaC σ (loC σ c))) → wqC n σ Q → ∃ σ' Q', lj_D lc_P lc_M185 2 [.ref 8, .int (Int32.ofNat o), .int (Int32.ofNat k), X3, .retAddr 0] [] σ = some (.inl none, σ') ∧ (visK n W (fun x => x ≠ 0 ∧ ∃ j c : Nat, k ≤ j ∧ j < cap ∧ c < 60000 ∧ σ.1 77 (r + j) = Int32.ofNat c ∧ x = ov (vaC σ (loC σ c))) σ Q σ' Q' ∧ ∀ k j, k ≠ 111 → k ≠ 112 → ¬ (k = 8 ∧ j = 58) → ¬ (k = 7 ∧ j = 27) → σ'.1 k j = σ.1 k j ∧ σ'.2 k j = σ.2 k j)
  | 0, k, σ, Q, X3, hd, h62, h33, h63, hc, hm => by
    have io : lj_in (Int32.ofNat o) 2001 := ofN_in (by omega) (by omega)
    have no : (Int32.ofNat o).toNatClampNeg = o := lz_onat (by omega)
    have jf : lj_in (Int32.ofNat f) 51 := ofN_in (by omega) (by omega)
    have nf : (Int32.ofNat f).toNatClampNeg = f := lz_onat (by omega)
    refine ⟨σ, Q, ?_, (vis.rf hm).mo (fun x ⟨_, j, _, j1, j2, _⟩ => by omega), fun k j _ _ _ _ => ⟨rfl, rfl⟩⟩
    rw [kc_185_2]; simp only [if_pos io, no]; rw [h62]
    simp only [if_pos jf, nf]
    rw [h33, if_pos ((ofN_le (by omega) (by omega)).2 (by omega))]
  | d + 1, k, σ, Q, X3, hd, h62, h33, h63, hc, hm => by
    have io : lj_in (Int32.ofNat o) 2001 := ofN_in (by omega) (by omega)
    have no : (Int32.ofNat o).toNatClampNeg = o := lz_onat (by omega)
    have jf : lj_in (Int32.ofNat f) 51 := ofN_in (by omega) (by omega)
    have nf : (Int32.ofNat f).toNatClampNeg = f := lz_onat (by omega)
    have ir : lj_in (Int32.ofNat (r + k)) 60000 := ofN_in (by omega) (by omega)
    have nr : (Int32.ofNat (r + k)).toNatClampNeg = r + k := lz_onat (by omega)
    obtain ⟨c, c1, c2, c3, c4, c5, c6⟩ := hc k (by omega)
    have cf := c_cof c1 c3
    have fl : flg n 111 (lj_put σ 7 27 (vaC σ (loC σ c)).1) = flg n 111 σ := by funext x; unfold flg; rw [lj_put_1, if_neg (by omega)]
    have hm1 : wqC n (lj_put σ 7 27 (vaC σ (loC σ c)).1) Q := ⟨by rw [lj_put_1, if_neg (by omega)]; exact hm.1, pil_cg hm.2.1 (fun j _ => by rw [lj_put_1, if_neg (by omega)]), by rw [fl]; exact hm.2.2⟩
    obtain ⟨σ2, Q2, r1, r2⟩ := c_reach hn hm1 (a := vaC σ (loC σ c)) c4 c5 (W := W) c6
    have v1 : visK n W (fun x => x = ov (vaC σ (loC σ c)) ∧ x ≠ 0) σ Q σ2 Q2 := by
      refine ⟨r2.1, (lf_put (lf_rf gKC σ) 7 27 _ rfl).tr (r2.2.1.mo (fun _ _ q => gRC_K q)), ?_, r2.2.2.2⟩
      have := r2.2.2.1
      rw [fl] at this
      exact this
    have e : ∀ k j, k ≠ 111 → k ≠ 112 → ¬ (k = 8 ∧ j = 58) → ¬ (k = 7 ∧ j = 27) → σ2.1 k j = σ.1 k j ∧ σ2.2 k j = σ.2 k j := fun k j z1 z2 z3 z4 => by
      obtain ⟨w1, w2⟩ := r2.2.1 k j (by unfold gRC; simp; omega)
      exact ⟨by rw [w1, lj_put_1, if_neg z4], w2⟩
    have va : ∀ x, vaC σ2 x = vaC σ x := fun x => by unfold vaC cv; rw [(e 79 x (by omega) (by omega) (by omega) (by omega)).1, (e 80 x (by omega) (by omega) (by omega) (by omega)).2, (e 75 _ (by omega) (by omega) (by omega) (by omega)).1, (e 76 _ (by omega) (by omega) (by omega) (by omega)).2]
    have lo : ∀ x, loC σ2 x = loC σ x := fun x => by unfold loC lv; rw [(e 74 x (by omega) (by omega) (by omega) (by omega)).1]
    obtain ⟨σ3, Q3, s1, s2, s3⟩ := c_rfun_loop hn ho hf hcap hr d (k + 1) σ2 Q2 (.long (vaC σ (loC σ c)).2) (by omega) (by rw [(e 62 o (by omega) (by omega) (by omega) (by omega)).1]; exact h62) (by rw [(e 33 f (by omega) (by omega) (by omega) (by omega)).1]; exact h33) (by rw [(e 63 o (by omega) (by omega) (by omega) (by omega)).1]; exact h63) (fun j hj => by
      obtain ⟨x, x1, x2, x3, x4⟩ := hc j hj
      refine ⟨x, x1, by rw [(e 77 _ (by omega) (by omega) (by omega) (by omega)).1]; exact x2, ?_, by rw [lo, va]; exact x4⟩
      rw [(e 74 x (by omega) (by omega) (by omega) (by omega)).1, lo]
      exact x3) r2.1
    refine ⟨σ3, Q3, ?_, (v1.tr s2).mo (fun x ⟨x0, j, y, j1, j2, y1, y2, y3⟩ => ?_), fun a j z1 z2 z3 z4 => ⟨(s3 a j z1 z2 z3 z4).1.trans (e a j z1 z2 z3 z4).1, (s3 a j z1 z2 z3 z4).2.trans (e a j z1 z2 z3 z4).2⟩⟩
    · have l : ¬ (Int32.ofNat cap ≤ Int32.ofNat k) := fun z => by have := (ofN_le (by omega) (by omega)).1 z; omega
      rw [kc_185_2]; simp only [if_pos io, no]; rw [h62]
      simp only [if_pos jf, nf]
      rw [h33, if_neg l]; (try simp only [if_pos io]); rw [h63, ← Int32.ofNat_add]; simp only [if_pos ir, nr]; rw [c2, cf, bl_ok]
      have g : (lj_put σ 7 27 (vaC σ (loC σ c)).1).1 7 27 = (vaC σ (loC σ c)).1 := by rw [lj_put_1, if_pos ⟨rfl, rfl⟩]
      rw [g, r1, bv_ok, lz_osucc]
      exact s1
    · by_cases z : j = k
      · left
        rw [z, c2] at y2
        have : c = y := (ofN_eq (by omega) (by omega)).1 y2
        rw [y3, ← this]
        exact ⟨rfl, by rw [this, ← y3]; exact x0⟩
      · right
        exact ⟨x0, j, y, by omega, j2, y1, by rw [(e 77 _ (by omega) (by omega) (by omega) (by omega)).1]; exact y2, by rw [va, lo]; exact y3⟩
/-- slots -/
theorem c_rslots {n : Nat} (hn : n ≤ 2000) {W : Nat → Prop} (x1 : Int32) : ∀ (d a : Nat) (σ : lj_S) (Q : List Nat), a + d ≤ 325000 → (∀ j, a ≤ j → j < a + d → gdV n W (cv σ j)) → wqC n σ Q → ∃ σ' Q', lj_D lc_P lc_M180 2 [.ref 8, .int x1, .int (Int32.ofNat (a + d)), .int (Int32.ofNat a)] [] σ = some (.inl none, σ') ∧ visC n W (fun x => x ≠ 0 ∧ ∃ j, a ≤ j ∧ j < a + d ∧ x = ov (cv σ j)) σ Q σ' Q'
  | 0, a, σ, Q, ha, hv, hm => by
    refine ⟨σ, Q, ?_, (vis.rf hm).mo (fun x ⟨_, j, j1, j2, _⟩ => by omega)⟩
    rw [kc_180_2, if_pos ((ofN_le (by omega) (by omega)).2 (by omega))]
  | d + 1, a, σ, Q, ha, hv, hm => by
    have ia : lj_in (Int32.ofNat a) 325000 := ofN_in (by omega) (by omega)
    have na : (Int32.ofNat a).toNatClampNeg = a := lz_onat (by omega)
    obtain ⟨g1, g2, g3⟩ := hv a (Nat.le_refl _) (by omega)
    obtain ⟨σ2, Q2, r1, r2⟩ := c_reach hn hm (a := cv σ a) g1 g2 (W := W) g3
    have r1 : lj_R lc_P 176 [.ref 8, .int (σ.1 79 a), .long (σ.2 80 a)] σ = some (.inl none, σ2) := r1
    have ec : ∀ j, cv σ2 j = cv σ j := fun j => by unfold cv; rw [(visC.o r2 (k := 79) (j := j) (by omega)).1, (visC.o r2 (k := 80) (j := j) (by omega)).2]
    obtain ⟨σ3, Q3, s1, s2⟩ := c_rslots hn x1 d (a + 1) σ2 Q2 (by omega) (fun j j1 j2 => by rw [ec]; exact hv j (by omega) (by omega)) r2.1
    refine ⟨σ3, Q3, ?_, (r2.tr s2).mo (fun x ⟨x0, j, j1, j2, j3⟩ => ?_)⟩
    · rw [kc_180_2, if_neg (fun z => by have := (ofN_le (by omega) (by omega)).1 z; omega)]; simp only [if_pos ia, na]; rw [r1, bv_ok, lz_osucc]
      rw [show a + (d + 1) = a + 1 + d by omega]
      exact s1
    · by_cases z : j = a
      · left; rw [← z]; exact ⟨j3, x0⟩
      · right; exact ⟨x0, j, by omega, by omega, by rw [ec]; exact j3⟩
theorem c_rsl {n : Nat} (hn : n ≤ 2000) {W : Nat → Prop} {a b : Nat} {σ : lj_S} {Q : List Nat} (hab : a ≤ b) (hb : b ≤ 325000) (hv : ∀ j, a ≤ j → j < b → gdV n W (cv σ j)) (hm : wqC n σ Q) : ∃ σ' Q', lj_R lc_P 180 [.ref 8, .int (Int32.ofNat a), .int (Int32.ofNat b)] σ = some (.inl none, σ') ∧ visC n W (fun x => x ≠ 0 ∧ ∃ j, a ≤ j ∧ j < b ∧ x = ov (cv σ j)) σ Q σ' Q' := by
  obtain ⟨d, rfl⟩ : ∃ d, b = a + d := ⟨b - a, by omega⟩
  rw [rc_180, kc_180_0]
  exact c_rslots hn (Int32.ofNat a) d a σ Q hb hv hm
/-- where a scope's slot lies behind the base -/
def saO (σ : lj_S) (nl k : Nat) : Nat := if lv σ 38 k < 1000 then (lv σ 38 k).toNat else nl + (lv σ 38 k).toNat - 1000
/-- scopes of a frame's function, then its stack -/
theorem c_rscp {n : Nat} (hn : n ≤ 2000) {W : Nat → Prop} {i f kb nl nh pc e : Nat} (hi : i < 520) (hf : f < 51) (hkb : kb + nl + 3 * nh ≤ e) (he : e ≤ 325000) (hnl : nl ≤ 50) (hpc : pc < 14000) : ∀ (L : List Nat) (y : Int32) (σ : lj_S) (Q : List Nat) (X6 : Value), lk (lv σ 41) y.toInt L → σ.1 96 i = Int32.ofNat kb → σ.1 31 f = Int32.ofNat nl → σ.1 32 f = Int32.ofNat nh → nh ≤ 20 → (∀ k ∈ L, k < 4000 ∧ 0 ≤ lv σ 38 k ∧ (lv σ 39 k ≤ (pc : Int) → (pc : Int) < lv σ 40 k → kb + saO σ nl k < 325000 ∧ lv σ 38 k < 3000 ∧ gdV n W (cv σ (kb + saO σ nl k)))) → (∀ j, kb + nl + 3 * nh ≤ j → j < e → gdV n W (cv σ j)) → wqC n σ Q → ∃ σ' Q', lj_D lc_P lc_M179 78 [.ref 8, .int (Int32.ofNat i), .int (Int32.ofNat e), .int (Int32.ofNat f), .int (Int32.ofNat pc), .int y, X6] [] σ = some (.inl none, σ') ∧ visC n W (fun x => x ≠ 0 ∧ ((∃ k ∈ L, lv σ 39 k ≤ (pc : Int) ∧ (pc : Int) < lv σ 40 k ∧ x = ov (cv σ (kb + saO σ nl k))) ∨ ∃ j, kb + nl + 3 * nh ≤ j ∧ j < e ∧ x = ov (cv σ j))) σ Q σ' Q'
  | [], y, σ, Q, X6, hl, h96, h31, h32, hnh, _, hv, hm => by
    have hl : y.toInt = -1 := hl
    have ii : lj_in (Int32.ofNat i) 520 := ofN_in (by omega) (by omega)
    have ni : (Int32.ofNat i).toNatClampNeg = i := lz_onat (by omega)
    have jf : lj_in (Int32.ofNat f) 51 := ofN_in (by omega) (by omega)
    have nf : (Int32.ofNat f).toNatClampNeg = f := lz_onat (by omega)
    obtain ⟨σ2, Q2, r1, r2⟩ := c_rsl hn hkb he hv hm
    refine ⟨σ2, Q2, ?_, r2.mo (fun x ⟨x0, h⟩ => ⟨x0, h.resolve_left (fun ⟨k, hk, _⟩ => by cases hk)⟩)⟩
    have em : Int32.ofNat kb + Int32.ofNat nl + 3 * Int32.ofNat nh = Int32.ofNat (kb + nl + 3 * nh) := by
      rw [show (3 : Int32) = Int32.ofNat 3 from rfl, ← Int32.ofNat_mul, ← Int32.ofNat_add, ← Int32.ofNat_add]
    rw [kc_179_78, if_pos (by rw [lz_lt, hl]; decide)]; simp only [if_pos ii, if_pos jf, ni, nf]; rw [h96, h31, h32, em, r1, bv_ok]
  | k :: L, y, σ, Q, X6, hl, h96, h31, h32, hnh, hk, hv, hm => by
    obtain ⟨hl1, hl2⟩ := hl
    obtain ⟨k1, k2, k3⟩ := hk k List.mem_cons_self
    have ey : y = Int32.ofNat k := lz_ext (by rw [lz_lit (by omega)]; exact hl1)
    subst ey
    have ik : lj_in (Int32.ofNat k) 4000 := ofN_in (by omega) (by omega)
    have nk : (Int32.ofNat k).toNatClampNeg = k := lz_onat (by omega)
    have ii : lj_in (Int32.ofNat i) 520 := ofN_in (by omega) (by omega)
    have ni : (Int32.ofNat i).toNatClampNeg = i := lz_onat (by omega)
    have jf : lj_in (Int32.ofNat f) 51 := ofN_in (by omega) (by omega)
    have nf : (Int32.ofNat f).toNatClampNeg = f := lz_onat (by omega)
    -- the rest
    have rest : ∀ (σ1 : lj_S) (Q1 : List Nat) (M : Nat → Prop) (X : Value), visC n W M σ Q σ1 Q1 → (lv σ 39 k ≤ (pc : Int) → (pc : Int) < lv σ 40 k → ∀ x, x ≠ 0 → x = ov (cv σ (kb + saO σ nl k)) → M x) → ∃ σ' Q', lj_D lc_P lc_M179 193 [.ref 8, .int (Int32.ofNat i), .int (Int32.ofNat e), .int (Int32.ofNat f), .int (Int32.ofNat pc), .int (Int32.ofNat k), X] [] σ1 = some (.inl none, σ') ∧ visC n W (fun x => x ≠ 0 ∧ ((∃ j ∈ k :: L, lv σ 39 j ≤ (pc : Int) ∧ (pc : Int) < lv σ 40 j ∧ x = ov (cv σ (kb + saO σ nl j))) ∨ ∃ j, kb + nl + 3 * nh ≤ j ∧ j < e ∧ x = ov (cv σ j))) σ Q σ' Q' := fun σ1 Q1 M X hv1 hM => by
      have c : ∀ k j, k ≠ 111 → k ≠ 112 → (k ≠ 8 ∨ j ≠ 58) → σ1.1 k j = σ.1 k j ∧ σ1.2 k j = σ.2 k j := fun k j z1 z2 z3 => visC.o hv1 ⟨z1, z2, z3⟩
      have l : ∀ k j, k ≠ 111 → k ≠ 112 → (k ≠ 8 ∨ j ≠ 58) → lv σ1 k j = lv σ k j := fun k j z1 z2 z3 => by unfold lv; rw [(c k j z1 z2 z3).1]
      have ec : ∀ j, cv σ1 j = cv σ j := fun j => by unfold cv; rw [(c 79 j (by omega) (by omega) (by omega)).1, (c 80 j (by omega) (by omega) (by omega)).2]
      have es : ∀ j, saO σ1 nl j = saO σ nl j := fun j => by unfold saO; rw [l 38 j (by omega) (by omega) (by omega)]
      have e41 : lv σ1 41 = lv σ 41 := by funext j; exact l 41 j (by omega) (by omega) (by omega)
      obtain ⟨σ2, Q2, r1, r2⟩ := c_rscp hn hi hf hkb he hnl hpc L (σ1.1 41 k) σ1 Q1 X (by rw [e41, (c 41 k (by omega) (by omega) (by omega)).1]; exact hl2) (by rw [(c 96 i (by omega) (by omega) (by omega)).1]; exact h96) (by rw [(c 31 f (by omega) (by omega) (by omega)).1]; exact h31) (by rw [(c 32 f (by omega) (by omega) (by omega)).1]; exact h32) hnh (fun j hj => by
        rw [l 38 j (by omega) (by omega) (by omega), l 39 j (by omega) (by omega) (by omega), l 40 j (by omega) (by omega) (by omega), es, ec]
        exact hk j (List.mem_cons_of_mem _ hj)) (fun j j1 j2 => by rw [ec]; exact hv j j1 j2) hv1.1
      refine ⟨σ2, Q2, by rw [kc_179_193]; simp only [if_pos ik, nk]; exact r1, (hv1.tr r2).mo (fun x ⟨x0, h⟩ => ?_)⟩
      rcases h with ⟨j, hj, j1, j2, j3⟩ | ⟨j, j1, j2, j3⟩
      · rcases List.mem_cons.1 hj with z | z
        · left
          rw [z] at j1 j2 j3
          exact hM j1 j2 x x0 j3
        · right
          exact ⟨x0, Or.inl ⟨j, z, by rw [l 39 j (by omega) (by omega) (by omega)]; exact j1, by rw [l 40 j (by omega) (by omega) (by omega)]; exact j2, by rw [es, ec]; exact j3⟩⟩
      · right
        exact ⟨x0, Or.inr ⟨j, j1, j2, by rw [ec]; exact j3⟩⟩
    rw [kc_179_78, if_neg (ofN_nneg (by omega))]; simp only [if_pos ik, nk]
    by_cases z1 : lv σ 39 k ≤ (pc : Int)
    · rw [if_neg (by rw [lz_lt, lz_lit (by omega)]; unfold lv at z1; omega)]; (try simp only [if_pos ik])
      by_cases z2 : (pc : Int) < lv σ 40 k
      · obtain ⟨a1, a2, a3⟩ := k3 z1 z2
        rw [if_neg (by rw [lz_le, lz_lit (by omega)]; unfold lv at z2; omega)]; simp only [if_pos ik, if_pos ii, ni]; rw [h96]
        -- the slot
        have go : ∀ (x50 X : Int32), x50.toInt = (saO σ nl k : Int) → ∃ σ' Q', lj_D lc_P lc_M179 172 [.ref 8, .int (Int32.ofNat i), .int (Int32.ofNat e), .int (Int32.ofNat f), .int (Int32.ofNat pc), .int (Int32.ofNat k), .int X] [.int x50, .int (Int32.ofNat kb)] σ = some (.inl none, σ') ∧ visC n W (fun x => x ≠ 0 ∧ ((∃ j ∈ k :: L, lv σ 39 j ≤ (pc : Int) ∧ (pc : Int) < lv σ 40 j ∧ x = ov (cv σ (kb + saO σ nl j))) ∨ ∃ j, kb + nl + 3 * nh ≤ j ∧ j < e ∧ x = ov (cv σ j))) σ Q σ' Q' := fun x50 X e50 => by
          have ea : Int32.ofNat kb + x50 = Int32.ofNat (kb + saO σ nl k) := lz_ext (by rw [lz_add (by rw [lz_lit (by omega), e50]; omega), lz_lit (by omega), lz_lit (by omega), e50]; omega)
          have ia : lj_in (Int32.ofNat (kb + saO σ nl k)) 325000 := ofN_in (by omega) (by omega)
          have na : (Int32.ofNat (kb + saO σ nl k)).toNatClampNeg = kb + saO σ nl k := lz_onat (by omega)
          obtain ⟨σ2, Q2, r1, r2⟩ := c_reach hn hm (a := cv σ (kb + saO σ nl k)) a3.1 a3.2.1 (W := W) a3.2.2
          have r1 : lj_R lc_P 176 [.ref 8, .int (σ.1 79 (kb + saO σ nl k)), .long (σ.2 80 (kb + saO σ nl k))] σ = some (.inl none, σ2) := r1
          rw [kc_179_172, ea]; simp only [if_pos ia, na]; rw [r1, bv_ok]
          exact rest σ2 Q2 _ _ r2 (fun _ _ x x0 x1 => ⟨x1, x0⟩)
        have t1000 : (1000 : Int32).toInt = 1000 := by decide
        by_cases z3 : lv σ 38 k < 1000
        · rw [if_neg (by rw [lz_le, t1000]; unfold lv at z3; omega)]
          refine go _ _ ?_
          unfold saO
          rw [if_pos z3]
          show lv σ 38 k = _
          omega
        · rw [if_pos (by rw [lz_le, t1000]; unfold lv at z3; omega)]; simp only [if_pos jf, nf]; rw [h31]
          refine go _ _ ?_
          unfold saO
          rw [if_neg z3]
          have e1 : (Int32.ofNat nl + σ.1 38 k).toInt = (nl : Int) + lv σ 38 k := by rw [lz_add (by rw [lz_lit (by omega), lv_def]; omega), lz_lit (by omega), lv_def]
          rw [lz_sub (by rw [e1, t1000]; omega), e1, t1000]
          omega
      · rw [if_pos (by rw [lz_le, lz_lit (by omega)]; unfold lv at z2; omega)]
        exact rest σ Q _ _ (vis.rf hm) (fun _ y => absurd y z2)
    · rw [if_pos (by rw [lz_lt, lz_lit (by omega)]; unfold lv at z1; omega)]
      exact rest σ Q _ _ (vis.rf hm) (fun y => absurd y z1)
