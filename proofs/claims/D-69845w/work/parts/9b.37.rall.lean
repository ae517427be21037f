/-! the gathering: all that is reached, the component -/
def fnX (σ0 σ τ : lj_S) (o x : Nat) : Prop := x ≠ 0 ∧ ∃ k c, cpO σ0 σ τ o k c ∧ x = ov (vaC σ (loC σ c))
/-- variables of a function object, as both keep them -/
theorem gw.fn {σ0 τ0 σ τ : lj_S} {n np p : Nat} {r : List Nat} {FP : Nat → List kF} {ρ : Nat → Nat} {P B : Nat → List Nat} {Fr : List Nat} {P' B' : Nat → List Nat} {Fr' : List Nat} (h : gw σ0 τ0 n np p r FP ρ P B Fr P' B' Fr' σ τ) {o : Nat} (ob : obA σ τ o 5) : ∃ f cap rr : Nat, f < 51 ∧ cap ≤ 30 ∧ rr + cap ≤ 60000 ∧ (σ.1 62 o = Int32.ofNat f ∧ τ.1 43 o = Int32.ofNat f) ∧ (σ.1 33 f = Int32.ofNat cap ∧ τ.1 15 f = Int32.ofNat cap ∧ lv σ0 33 f = (cap : Int)) ∧ σ.1 63 o = Int32.ofNat rr ∧ ∀ k, k < cap → ∃ c : Nat, c < 60000 ∧ σ.1 77 (rr + k) = Int32.ofNat c ∧ τ.1 44 (30 * o + k) = Int32.ofNat (ρ (loC σ c)) ∧ ρ (loC σ c) < 95000 ∧ vR σ τ (vaC σ (loC σ c)) (τ.1 54 (ρ (loC σ c)), τ.2 55 (ρ (loC σ c))) ∧ ((σ.1 74 c = -1 ∧ loC σ c = 325000 + c) ∨ ∃ s : Nat, s < 325000 ∧ σ.1 74 c = Int32.ofNat s ∧ loC σ c = s) ∧ cpO σ0 σ τ o k c := by
  obtain ⟨h1, ⟨_, _, hx, obr⟩, h3, h4, h5, h6, _⟩ := h
  have n2 := hx.1.1
  have on : o ≤ n := by have := ob.2.2.1; have := hx.1.2.1; omega
  obtain ⟨f, f1, f2, f3⟩ := (obr.2 o ob.1 on).2.2.1 ob.2.2.2.1
  obtain ⟨_, _, _, g1, g2, g3, _⟩ := h3 o f ob f1 f2
  obtain ⟨rr, r1, r2, _⟩ := h6.2.2.2.1 o f ob f1 f2
  have b7 := h6.2.2.2.2.2.2
  refine ⟨f, (lv σ0 33 f).toNat, rr, f1, by omega, by omega, ⟨f2, f3⟩, ⟨?_, ?_, by omega⟩, r1, fun k hk => ?_⟩
  · rw [(h1.1 33 f (by unfold cdC; rfl)).1]
    exact lz_ext (by rw [lz_lit (by omega)]; show lv σ0 33 f = _; omega)
  · rw [(h1.2 15 f (by unfold cdM; rfl)).1]
    exact lz_ext (by rw [lz_lit (by omega)]; show lv τ0 15 f = _; omega)
  · obtain ⟨r', c, c1, c2, c3, c4, c5, _, c7, c8, c9⟩ := h6.cap n2 ob f1 f2 (k := k) (by omega)
    have er : r' = rr := (ofN_eq (by omega) (by omega)).1 (by rw [← c1, ← r1])
    rw [er] at c2 c3
    refine ⟨c, c4, c3, c5, c7, c8, c9.imp id (fun ⟨s, s1, s2, s3, _⟩ => ⟨s, s1, s2, s3⟩), ob, f, rr, f1, f2, by omega, by omega, r1, c3, c4⟩
theorem c_rfun {σ0 τ0 σ τ : lj_S} {n np p : Nat} {r : List Nat} {FP : Nat → List kF} {ρ : Nat → Nat} {P B : Nat → List Nat} {Fr : List Nat} {P' B' : Nat → List Nat} {Fr' : List Nat} (h : gw σ0 τ0 n np p r FP ρ P B Fr P' B' Fr' σ τ) {o : Nat} (ob : obA σ τ o 5) {W : Nat → Prop} (hW : ∀ x, fnX σ0 σ τ o x → W x) {Q : List Nat} (hm : wqC n σ Q) : ∃ σ' Q', lj_R lc_P 185 [.ref 8, .int (Int32.ofNat o)] σ = some (.inl none, σ') ∧ visK n W (fnX σ0 σ τ o) σ Q σ' Q' ∧ ∀ k j, k ≠ 111 → k ≠ 112 → ¬ (k = 8 ∧ j = 58) → ¬ (k = 7 ∧ j = 27) → σ'.1 k j = σ.1 k j ∧ σ'.2 k j = σ.2 k j := by
  obtain ⟨f, cap, rr, f1, f2, f3, ⟨f4, _⟩, ⟨f5, _, f5'⟩, f6, f7⟩ := h.fn ob
  have hn := h.2.1.2.2.1.1.1
  have l70 := h.2.1.2.2.1.1.2.1
  obtain ⟨σ', Q', r1, r2, r3⟩ := c_rfun_loop hn (W := W) (o := o) (f := f) (cap := cap) (r := rr) ob.2.1 f1 f2 f3 cap 0 σ Q (.retAddr 0) (by omega) f4 f5 f6 (fun k hk => by
    obtain ⟨c, c1, c2, _, _, c5, c6, c7⟩ := f7 k hk
    exact ⟨c, c1, c2, c6, c5.gd l70 (fun y => hW _ ⟨y, k, c, c7, rfl⟩)⟩) hm
  refine ⟨σ', Q', by rw [rc_185, kc_185_0]; exact r1, r2.mo (fun x ⟨x0, k, c, cp, hx⟩ => ?_), r3⟩
  obtain ⟨_, f', r', g1, g2, g3, g4, g5, g6, g7⟩ := cp
  have ef : f' = f := (ofN_eq (by omega) (by omega)).1 (by rw [← g2, ← f4])
  have er : r' = rr := (ofN_eq (by omega) (by omega)).1 (by rw [← g5, ← f6])
  rw [ef] at g3
  rw [er] at g6
  exact ⟨x0, k, c, Nat.zero_le _, by omega, g7, g6, hx⟩
/-- where an object leads to; what is held by a key -/
def edX (σ0 σ τ : lj_S) (p : Nat) (FP : Nat → List kF) (P : Nat → List Nat) (o x : Nat) : Prop := (σ.1 57 o = 4 ∧ tEd σ P o (fun _ => false) x) ∨ (σ.1 57 o = 5 ∧ fnX σ0 σ τ o x) ∨ (σ.1 57 o = 6 ∧ ∃ q, 1 ≤ q ∧ q ≤ 25 ∧ σ.1 64 o = Int32.ofNat q ∧ τ.1 58 q ≠ 4 ∧ ptC σ0 σ p FP q x)
def epX (σ : lj_S) (P : Nat → List Nat) (t k v : Nat) : Prop := σ.1 57 t = 4 ∧ mdX σ P t = 1 ∧ k ≠ 0 ∧ v ≠ 0 ∧ ∃ p ∈ P t, σ.1 68 p ≠ 0 ∧ k = ov (kyC σ p) ∧ v = ov (vlC σ p)
theorem edX_gK {σ0 σ τ σ' τ' : lj_S} (f : lf gKC σ σ') (g : lf gKM τ τ') (p : Nat) (FP : Nat → List kF) (P : Nat → List Nat) (o x : Nat) : edX σ0 σ' τ' p FP P o x ↔ edX σ0 σ τ p FP P o x := by
  have ec : ∀ j, cv σ' j = cv σ j := fun j => by unfold cv; rw [(gK_o f (k := 79) (j := j) (by omega)).1, (gK_o f (k := 80) (j := j) (by omega)).2]
  have eN : enC σ' = enC σ := by funext q; unfold enC; rw [(gK_o f (k := 66) (j := q) (by omega)).1, (gK_o f (k := 67) (j := q) (by omega)).2, (gK_o f (k := 68) (j := q) (by omega)).1, (gK_o f (k := 69) (j := q) (by omega)).2]
  have va : ∀ x, vaC σ' x = vaC σ x := fun x => by unfold vaC; rw [ec, (gK_o f (k := 75) (by omega)).1, (gK_o f (k := 76) (by omega)).2]
  have lo : ∀ x, loC σ' x = loC σ x := fun x => by unfold loC lv; rw [(gK_o f (k := 74) (j := x) (by omega)).1]
  have oa : ∀ o k, obA σ' τ' o k ↔ obA σ τ o k := fun o k => by unfold obA lv; rw [gK_v f 7 0 rfl, gK_v f 57 o rfl, gM_v g 38 o rfl]
  have tp : ∀ q, tpN σ' p q = tpN σ p q := fun q => by unfold tpN lv; rw [(gK_o f (k := 8) (j := 8) (by omega)).1, (gK_o f (k := 82) (j := q) (by omega)).1]
  have e57 : σ'.1 57 o = σ.1 57 o := gK_v f 57 o rfl
  have t1 : tEd σ' P o (fun _ => false) x ↔ tEd σ P o (fun _ => false) x := by
    unfold tEd kyC vlC lv
    rw [md_gK f, (gK_o f (k := 58) (j := o) (by omega)).1, eN]
    have : ∀ q, σ'.1 68 q = σ.1 68 q := fun q => (gK_o f (by omega)).1
    simp only [this]
  have t2 : fnX σ0 σ' τ' o x ↔ fnX σ0 σ τ o x := by
    have e62 : ∀ j, σ'.1 62 j = σ.1 62 j := fun j => (gK_o f (by omega)).1
    have e63 : ∀ j, σ'.1 63 j = σ.1 63 j := fun j => (gK_o f (by omega)).1
    have e77 : ∀ j, σ'.1 77 j = σ.1 77 j := fun j => (gK_o f (by omega)).1
    unfold fnX cpO
    simp only [va, lo, oa, e62, e63, e77]
  have t3 : ∀ q, ptC σ0 σ' p FP q x ↔ ptC σ0 σ p FP q x := fun q => by
    unfold ptC
    rw [pCt_cg ec, tp, (gK_o f (k := 83) (j := q) (by omega)).1, (gK_o f (k := 88) (j := q) (by omega)).1, (gK_o f (k := 89) (j := q) (by omega)).2]
  have e64 : σ'.1 64 o = σ.1 64 o := (gK_o f (by omega)).1
  have e58 : ∀ q, τ'.1 58 q = τ.1 58 q := fun q => (gM_o g (by omega)).1
  unfold edX
  rw [e57, t1, t2, e64]
  simp only [t3, e58]
theorem epX_gK {σ σ' : lj_S} (f : lf gKC σ σ') (P : Nat → List Nat) (t k v : Nat) : epX σ' P t k v ↔ epX σ P t k v := by
  have eN : enC σ' = enC σ := by funext q; unfold enC; rw [(gK_o f (k := 66) (j := q) (by omega)).1, (gK_o f (k := 67) (j := q) (by omega)).2, (gK_o f (k := 68) (j := q) (by omega)).1, (gK_o f (k := 69) (j := q) (by omega)).2]
  have : ∀ q, σ'.1 68 q = σ.1 68 q := fun q => (gK_o f (by omega)).1
  unfold epX kyC vlC
  rw [gK_v f 57 t rfl, md_gK f, eN]
  simp only [this]
/-- kinds of what may be reached -/
def okO (σ : lj_S) (n x : Nat) : Prop := x ≤ n ∧ (σ.1 57 x = 4 ∨ x ≠ 0 ∧ (σ.1 57 x = 5 ∨ σ.1 57 x = 6))
theorem vR.oki {σ τ : lj_S} {a b : vT} (h : vR σ τ a b) {n : Nat} (hn : lv σ 7 0 = (n : Int)) (z : ov a ≠ 0) : okO σ n (ov a) := by
  obtain ⟨_, w2, _, w4, _⟩ := h.oj
  have w := w4 z
  refine ⟨by omega, ?_⟩
  rcases h.k.2 with k | k | k | k | k | k | k
  · exact absurd (ov_k (by rw [k]; decide)) z
  · exact absurd (ov_k (by rw [k]; decide)) z
  · exact absurd (ov_k (by rw [k]; decide)) z
  · exact absurd (ov_k (by rw [k]; decide)) z
  · left; rw [w.2.2.2.1, k]
  · right; exact ⟨z, Or.inl (by rw [w.2.2.2.1, k])⟩
  · right; exact ⟨z, Or.inr (by rw [w.2.2.2.1, k])⟩
/-- tables that hold their keys weakly: what is known of those that are kept -/
def kwI (σ : lj_S) (n : Nat) (P : Nat → List Nat) (W : Nat → Prop) (Q K : List Nat) : Prop := (∀ t, flg n 111 σ t = true → t ∉ Q → σ.1 57 t = 4 → mdX σ P t = 1 → t ∈ K) ∧ (∀ t ∈ K, t ≤ n ∧ σ.1 57 t = 4 ∧ mdX σ P t = 1 ∧ W t) ∧ K.length + (cnt0 (flg n 111 σ) n + Q.length) ≤ n + 1
/-- an object is looked for among the keys of the tables that hold them weakly -/
theorem c_wk_loop {σ0 τ0 τ : lj_S} {n np p : Nat} {r : List Nat} {FP : Nat → List kF} {ρ : Nat → Nat} {P B : Nat → List Nat} {Fr : List Nat} {P' B' : Nat → List Nat} {Fr' : List Nat} {W : Nat → Prop} {K : List Nat} {o : Nat} (hK2 : K.length ≤ 2001) (ho : o ≤ 2000) : ∀ (d i : Nat) (σ : lj_S) (Q : List Nat) (X3 : Value), i + d = K.length → gw σ0 τ0 n np p r FP ρ P B Fr P' B' Fr' σ τ → okO σ n o → wkK σ K → (∀ t ∈ K, t ≤ n ∧ σ.1 57 t = 4 ∧ mdX σ P t = 1 ∧ W t) → W o → (∀ t k v, W t → W k → epX σ P t k v → W v) → wqC n σ Q → ∃ σ' Q' X', lj_D lc_P lc_M181 98 [.ref 8, .int (Int32.ofNat o), .int (Int32.ofNat i), X3] [] σ = lj_D lc_P lc_M181 0 [.ref 8, .int (Int32.ofNat o), .int (Int32.ofNat K.length), X'] [] σ' ∧ visC n W (fun v => ∃ j, i ≤ j ∧ j < K.length ∧ epX σ P (K.getD j 0) o v) σ Q σ' Q'
  | 0, i, σ, Q, X3, hd, h, ok, hK, hKt, hWo, hWe, hm => by
    refine ⟨σ, Q, X3, ?_, (vis.rf hm).mo (fun x ⟨j, j1, j2, _⟩ => by omega)⟩
    rw [kc_181_98, hK.1, if_pos ((ofN_le (by omega) (by omega)).2 (by omega)), show i = K.length by omega]
  | d + 1, i, σ, Q, X3, hd, h, ok, hK, hKt, hWo, hWe, hm => by
    have hx := h.2.1.2.2.1
    have hn := hx.1.1
    have ii : lj_in (Int32.ofNat i) 2001 := ofN_in (by omega) (by omega)
    have ni : (Int32.ofNat i).toNatClampNeg = i := lz_onat (by omega)
    have io : lj_in (Int32.ofNat o) 2001 := ofN_in (by omega) (by omega)
    have no : (Int32.ofNat o).toNatClampNeg = o := lz_onat (by omega)
    have e113 := hK.2 i (by omega)
    have tK : K.getD i 0 ∈ K := getD_me (by omega)
    obtain ⟨t1, t2, t3, t4⟩ := hKt _ tK
    -- the rest
    have rest : ∀ (σ1 : lj_S) (Q1 : List Nat) (M : Nat → Prop) (y : Int32), visC n W M σ Q σ1 Q1 → (∀ v, epX σ P (K.getD i 0) o v → M v) → ∃ σ' Q' X', lj_D lc_P lc_M181 169 [.ref 8, .int (Int32.ofNat o), .int (Int32.ofNat i), .int y] [] σ1 = lj_D lc_P lc_M181 0 [.ref 8, .int (Int32.ofNat o), .int (Int32.ofNat K.length), X'] [] σ' ∧ visC n W (fun v => ∃ j, i ≤ j ∧ j < K.length ∧ epX σ P (K.getD j 0) o v) σ Q σ' Q' := fun σ1 Q1 M y hv hM => by
      have f1 : lf gKC σ σ1 := hv.2.1.mo (fun _ _ q => gRC_K q)
      obtain ⟨σ2, Q2, X2, s1, s2⟩ := c_wk_loop (p := p) (np := np) (r := r) (FP := FP) (ρ := ρ) (B := B) (W := W) hK2 ho d (i + 1) σ1 Q1 (.int y) (by omega) (h.cg f1 (lf_rf _ τ)) (by unfold okO; rw [gK_v f1 57 o rfl]; exact ok) (hK.cg hv.2.1) (fun t ht => by rw [gK_v f1 57 t rfl, md_gK f1]; exact hKt t ht) hWo (fun t k v a b c => hWe t k v a b ((epX_gK f1 P t k v).1 c)) hv.1
      refine ⟨σ2, Q2, X2, by rw [kc_181_169, lz_osucc]; exact s1, (hv.tr s2).mo (fun v ⟨j, j1, j2, j3⟩ => ?_)⟩
      by_cases z : j = i
      · rw [z] at j3; exact Or.inl (hM v j3)
      · exact Or.inr ⟨j, by omega, j2, (epX_gK f1 P _ _ _).2 j3⟩
    rw [kc_181_98, hK.1, if_neg (fun z => by have := (ofN_le (by omega) (by omega)).1 z; omega)]; simp only [if_pos ii, if_pos io, ni, no]; rw [e113]
    rcases c_hseek hx.2.1.1 (fun t ht => by have ht : t ≤ n := ht; omega) t1 (σ.1 57 o) (Int32.ofNat o).toInt64 with ⟨q, q1, q2, q3, q4⟩ | ⟨q1, q2⟩
    · obtain ⟨a1, ⟨_, a2⟩, a3⟩ := hx.kv t1 q1
      have iq : lj_in (Int32.ofNat q) 3000 := ofN_in (by omega) (by omega)
      have nq : (Int32.ofNat q).toNatClampNeg = q := lz_onat (by omega)
      have ek : kyC σ q = (σ.1 57 o, i64 o) := Prod.ext q2 q3
      rw [q4, bi_ok, if_neg (ofN_nneg (by omega))]; simp only [if_pos iq, nq]
      -- the key is that object
      have o0 : o ≠ 0 ∧ ov (kyC σ q) = o := by
        obtain ⟨q', _, w⟩ := eR_l (hx.2.2.2.2 _ t1) q1
        have kk := w.1
        have e1 : (enC σ q).1 = (σ.1 57 o, i64 o) := ek
        rw [e1] at kk
        have hk : σ.1 57 o = 4 ∨ σ.1 57 o = 5 ∨ σ.1 57 o = 6 := by
          rcases ok.2 with z | ⟨_, z | z⟩
          · exact Or.inl z
          · exact Or.inr (Or.inl z)
          · exact Or.inr (Or.inr z)
        have e2 : ov (kyC σ q) = o := by rw [ek]; exact ov_ob hk (by omega)
        refine ⟨fun z => ?_, e2⟩
        have k4 : σ.1 57 o = 4 := by
          rcases ok.2 with y | ⟨y, _⟩
          · exact y
          · exact absurd z y
        rw [k4] at kk
        obtain ⟨o', y1, _, y3⟩ := kk.tb rfl
        have : i64 o = i64 o' := (Prod.mk.inj y1).2
        have := i64_inj (by omega) (by have := y3.2.1; omega) this
        have := y3.1
        omega
      have gv : gdV n W (vlC σ q) := by
        by_cases z : σ.1 68 q = 0
        · refine gd_k (ov_k ?_)
          show ¬ (σ.1 68 q = 4 ∨ σ.1 68 q = 5 ∨ σ.1 68 q = 6)
          rw [z]
          decide
        · obtain ⟨b1, b2⟩ := a3 z
          exact ⟨b1, b2, fun y => hWe _ _ _ t4 hWo ⟨t2, t3, o0.1, y, q, q1, z, o0.2.symm, rfl⟩⟩
      obtain ⟨σ1, Q1, r1, r2⟩ := c_reach hn hm (a := vlC σ q) gv.1 gv.2.1 (W := W) gv.2.2
      have r1 : lj_R lc_P 176 [.ref 8, .int (σ.1 68 q), .long (σ.2 69 q)] σ = some (.inl none, σ1) := r1
      rw [r1, bv_ok]
      refine rest σ1 Q1 _ _ r2 (fun v ⟨_, _, _, v0, q', x1, x2, x3, x4⟩ => ?_)
      have : q' = q := by
        obtain ⟨q'', _, w⟩ := eR_l (hx.2.2.2.2 _ t1) x1
        have kk := w.1.oj
        have e3 : ov (enC σ q').1 = o := x3.symm
        rw [e3] at kk
        have w4 := kk.2.2.2.1 o0.1
        have w5 := kk.2.2.2.2.1
        unfold wfC at w5
        rw [e3] at w5
        refine (hx.2.1.1.2.2 _ t1 q' x1).2.2.2 q q1 ?_ ?_
        · rw [q2]; exact w4.2.2.2.1.symm
        · rw [q3]; exact w5 o0.1
      rw [this] at x4
      exact ⟨x4, v0⟩
    · rw [q2, bi_ok, if_pos (by decide)]
      refine rest σ Q _ _ (vis.rf hm) (fun v ⟨_, _, o0, v0, q', x1, x2, x3, x4⟩ => ?_)
      exfalso
      obtain ⟨q'', _, w⟩ := eR_l (hx.2.2.2.2 _ t1) x1
      have kk := w.1.oj
      have e3 : ov (enC σ q').1 = o := x3.symm
      rw [e3] at kk
      have w4 := kk.2.2.2.1 o0
      have w5 := kk.2.2.2.2.1
      unfold wfC at w5
      rw [e3] at w5
      exact q1 q' x1 ⟨w4.2.2.2.1.symm, w5 o0⟩
