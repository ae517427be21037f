/-! the gathering: what it rests on; a part of the component -/
def pCt (σ0 σ : lj_S) : List kF → Nat → Nat → Prop
  | [], _, _ => False
  | F :: L, ce, x => fgC σ0 σ F ce x ∨ pCt σ0 σ L (kC F) x
theorem gK_v {σ σ' : lj_S} (f : lf gKC σ σ') : ∀ k j, vqC k j = true → σ'.1 k j = σ.1 k j := fun k j q => (f k j (by unfold vqC at q; unfold gKC; simp at q ⊢; omega)).1
theorem gM_v {τ τ' : lj_S} (g : lf gKM τ τ') : ∀ k j, vqM k j = true → τ'.1 k j = τ.1 k j := fun k j q => (g k j (by unfold vqM at q; unfold gKM; simp at q ⊢; omega)).1
theorem gK_o {σ σ' : lj_S} (f : lf gKC σ σ') {k j : Nat} (z : k ≠ 111 ∧ k ≠ 112 ∧ k ≠ 113 ∧ ¬ (k = 8 ∧ (j = 58 ∨ j = 60)) ∧ ¬ (k = 7 ∧ (j = 27 ∨ j = 28))) : σ'.1 k j = σ.1 k j ∧ σ'.2 k j = σ.2 k j := f k j (by unfold gKC; simp; omega)
theorem gM_o {τ τ' : lj_S} (g : lf gKM τ τ') {k j : Nat} (z : (k < 96 ∨ 100 < k) ∧ ¬ (k = 0 ∧ (j = 157 ∨ j = 90 ∨ j = 91))) : τ'.1 k j = τ.1 k j ∧ τ'.2 k j = τ.2 k j := g k j (by unfold gKM; simp; omega)
theorem prt_gK {σ0 τ0 σ τ σ' τ' : lj_S} {ρ : Nat → Nat} {p : Nat} (f : lf gKC σ σ') (g : lf gKM τ τ') {L : List kF} {ce me mq : Nat} (h : prt σ0 τ0 σ τ ρ p L ce me mq) : prt σ0 τ0 σ' τ' ρ p L ce me mq :=
  prt_cg (fun a b w => w.cg (gK_v f) (gM_v g)) (oG_eq (gK_v f) (gM_v g)) (fun o _ => (gK_o f (by omega)).1) h (fun j _ _ _ => ⟨(gK_o f (by omega)).1, (gK_o f (by omega)).2, (gK_o f (by omega)).1⟩) (fun k i w1 w2 _ => (gK_o f (by omega)).1) (fun j _ => ⟨(gM_o g (by omega)).1, (gM_o g (by omega)).2⟩) (fun j _ => (gM_o g (by omega)).1) (fun k i w1 w2 _ => (gM_o g (by omega)).1) (fun i x _ _ => (gM_o g (by omega)).1) (fun _ _ => rfl)
theorem fgC_cg {σ0 σ σ' : lj_S} (h : ∀ j, cv σ' j = cv σ j) {F : kF} {ce x : Nat} : fgC σ0 σ' F ce x ↔ fgC σ0 σ F ce x := by
  unfold fgC
  simp only [h]
theorem pCt_cg {σ0 σ σ' : lj_S} (h : ∀ j, cv σ' j = cv σ j) : ∀ {L : List kF} {ce x : Nat}, pCt σ0 σ' L ce x ↔ pCt σ0 σ L ce x
  | [], _, _ => Iff.rfl
  | F :: L, ce, x => by
    unfold pCt
    rw [fgC_cg h, pCt_cg h]
theorem c_fat (q d : Nat) (σ : lj_S) : lj_R lc_P 130 [.ref 8, .int (Int32.ofNat q), .int (Int32.ofNat d)] σ = some (.inl (some (.int (Int32.ofNat (20 * q + d)))), σ) := by
  rw [rc_130, kc_130_0, show (20 : Int32) = Int32.ofNat 20 from rfl, ← Int32.ofNat_mul, ← Int32.ofNat_add, Nat.mul_comm q 20]
/-- all frames of a part -/
theorem c_rpl {σ0 τ0 τ : lj_S} {ρ : Nat → Nat} {p q n Fn D : Nat} (fx : FR σ0 τ0 Fn) (h38 : sh38 σ0) (hn : n ≤ 2000) (hq : q < 26) (hp : p < 26) (hD : D ≤ 20) {W : Nat → Prop} : ∀ (L : List kF) (ce me mq : Nat) (σ : lj_S) (Q : List Nat) (X : Value), prt σ0 τ0 σ τ ρ q L ce me mq → (∀ k j, cdC k j = true → σ.1 k j = σ0.1 k j) → lv σ 7 0 = (n : Int) → σ.1 90 q = Int32.ofNat D → σ.1 83 q ≠ 4 → σ.1 8 7 = Int32.ofNat p → (∀ F ∈ L, kS F = 0 → kW F ≠ 0) → ce ≤ 325000 → (∀ F ∈ L, kS F = 0 → ∀ y ∈ (kY F).2.2.2.2.1, ∃ b, vR σ τ (cv σ (kB F + y)) b) → (L.length < D ∧ σ.1 95 (20 * q + L.length) = Int32.ofNat ce ∨ L.length = D ∧ (if q = p then σ.1 8 8 else σ.1 82 q) = Int32.ofNat ce) → (∀ x, pCt σ0 σ L ce x → W x) → wqC n σ Q → ∃ σ' Q' X', lj_D lc_P lc_M178 27 [.ref 8, .int (Int32.ofNat q), .int 0, X] [] σ = lj_D lc_P lc_M178 27 [.ref 8, .int (Int32.ofNat q), .int (Int32.ofNat L.length), X'] [] σ' ∧ visC n W (pCt σ0 σ L ce) σ Q σ' Q'
  | [], ce, me, mq, σ, Q, X, _, _, _, _, _, _, _, _, _, _, _, hm => ⟨σ, Q, X, rfl, (vis.rf hm).mo (fun x z => z.elim)⟩
  | F :: L, ce, me, mq, σ, Q, X, hpr, cd, l70, h90, h83, h87, hw, hce, hlv, hend, hW, hm => by
    obtain ⟨ms, ks, h1, h2, h3⟩ := hpr
    have rg := frm_rg h2
    have lD : L.length + 1 ≤ D := by rcases hend with z | z <;> rw [List.length_cons] at z <;> omega
    obtain ⟨σ1, Q1, X1, r1, r2⟩ := c_rpl (p := p) fx h38 hn hq hp hD L (kC F) ms ks σ Q X h1 cd l70 h90 h83 h87 (fun G hG => hw G (List.mem_cons_of_mem _ hG)) (by omega) (fun G hG => hlv G (List.mem_cons_of_mem _ hG)) (Or.inl ⟨by omega, h2.1.1⟩) (fun x hx => hW x (Or.inr hx)) hm
    have f1 : lf gKC σ σ1 := r2.2.1.mo (fun _ _ q => gRC_K q)
    have c : ∀ k j, k ≠ 111 → k ≠ 112 → (k ≠ 8 ∨ j ≠ 58) → σ1.1 k j = σ.1 k j ∧ σ1.2 k j = σ.2 k j := fun k j z1 z2 z3 => visC.o r2 ⟨z1, z2, z3⟩
    have ec : ∀ j, cv σ1 j = cv σ j := fun j => by unfold cv; rw [(c 79 j (by omega) (by omega) (by omega)).1, (c 80 j (by omega) (by omega) (by omega)).2]
    have hpr1 : prt σ0 τ0 σ1 τ ρ q (F :: L) ce me mq := prt_gK f1 (lf_rf _ τ) ⟨ms, ks, h1, h2, h3⟩
    obtain ⟨ms', ks', _, h2', _⟩ := hpr1
    obtain ⟨σ2, Q2, s1, s2⟩ := c_rfrm fx h38 (fun k j z => by rw [(c k j (by rintro rfl; simp [cdC] at z) (by rintro rfl; simp [cdC] at z) (by left; rintro rfl; simp [cdC] at z)).1]; exact cd k j z) hn (by unfold lv; rw [(c 7 0 (by omega) (by omega) (by omega)).1]; exact l70) hq (by omega) h2' (hw F List.mem_cons_self) hce (fun z y hy => by
      rw [ec]
      obtain ⟨b, hb⟩ := hlv F List.mem_cons_self z y hy
      exact ⟨b, hb.cg (gK_v f1) (fun _ _ _ => rfl)⟩) (W := W) (fun x hx => hW x (Or.inl ((fgC_cg ec).1 hx))) r2.1
    refine ⟨σ2, Q2, .int (Int32.ofNat ce), ?_, (r2.tr s2).mo (fun x hx => ?_)⟩
    · have iq : lj_in (Int32.ofNat q) 26 := ofN_in (by omega) (by omega)
      have nq : (Int32.ofNat q).toNatClampNeg = q := lz_onat (by omega)
      have go : lj_D lc_P lc_M178 96 [.ref 8, .int (Int32.ofNat q), .int (Int32.ofNat L.length), X1] [.int (Int32.ofNat ce)] σ1 = lj_D lc_P lc_M178 27 [.ref 8, .int (Int32.ofNat q), .int (Int32.ofNat (L.length + 1)), .int (Int32.ofNat ce)] [] σ2 := by
        rw [kc_178_96, c_fat, bi_ok, s1, bv_ok, lz_osucc]
      rw [r1, List.length_cons, kc_178_27]; simp only [if_pos iq, nq]; rw [(c 90 q (by omega) (by omega) (by omega)).1, h90, if_neg (fun z => by have := (ofN_le (by omega) (by omega)).1 z; omega), (c 83 q (by omega) (by omega) (by omega)).1, if_neg h83, lz_osucc]
      rcases hend with ⟨e1, e2⟩ | ⟨e1, e2⟩
      · rw [List.length_cons] at e1 e2
        have ii : lj_in (Int32.ofNat (20 * q + (L.length + 1))) 520 := ofN_in (by omega) (by omega)
        rw [if_neg (fun z => by have := (ofN_le (by omega) (by omega)).1 z; omega), c_fat, bi_ok]; simp only [if_pos ii]; rw [lz_onat (by omega), (c 95 _ (by omega) (by omega) (by omega)).1, e2]
        exact go
      · rw [List.length_cons] at e1
        rw [if_pos ((ofN_le (by omega) (by omega)).2 (by omega)), (c 8 7 (by omega) (by omega) (by omega)).1, h87]
        by_cases z : q = p
        · rw [if_pos (by rw [z]), (c 8 8 (by omega) (by omega) (by omega)).1]
          rw [if_pos z] at e2
          rw [e2]
          exact go
        · rw [if_neg (fun y => z ((ofN_eq (by omega) (by omega)).1 y))]; (try simp only [if_pos iq]); rw [(c 82 q (by omega) (by omega) (by omega)).1]
          rw [if_neg z] at e2
          rw [e2]
          exact go
    · rcases hx with hx | hx
      · exact Or.inr ((fgC_cg ec).2 hx)
      · exact Or.inl hx
/-- a part in both, while things are gathered: the component may hold one frame more -/
def paG (σ0 τ0 σ τ : lj_S) (ρ : Nat → Nat) (FP : Nat → List kF) (p q ce me mq : Nat) : Prop :=
  prt σ0 τ0 σ τ ρ q (FP q) ce me mq ∧ ((FP q).length ≤ 20 ∧ ce ≤ 12500 * q + 12500 ∧ me ≤ 10000 ∧ mq ≤ 2000) ∧ (if q = p then σ.1 8 8 = Int32.ofNat ce else σ.1 82 q = Int32.ofNat ce) ∧ (σ.1 90 q = Int32.ofNat (FP q).length ∨ (FP q).length < 20 ∧ σ.1 90 q = Int32.ofNat ((FP q).length + 1) ∧ σ.1 91 (20 * q + (FP q).length) = 2 ∧ σ.1 95 (20 * q + (FP q).length) = Int32.ofNat ce) ∧ τ.1 63 q = Int32.ofNat me ∧ τ.1 62 q = Int32.ofNat (FP q).length
def gw (σ0 τ0 : lj_S) (n np p : Nat) (r : List Nat) (FP : Nat → List kF) (ρ : Nat → Nat) (P B : Nat → List Nat) (Fr : List Nat) (P' B' : Nat → List Nat) (Fr' : List Nat) (σ τ : lj_S) : Prop :=
  cdR σ0 τ0 σ τ ∧ tw σ τ n P B Fr P' B' Fr' ∧ fnO σ0 τ0 σ τ ∧ ptR σ0 σ τ FP p r np n ∧ (∀ q, q ≤ np → τ.1 58 q ≠ 4 → ∃ ce me mq, paG σ0 τ0 σ τ ρ FP p q ce me mq) ∧ clR σ0 σ τ FP ρ n ∧ lb3 σ τ ∧ ∀ q, q ≤ np → τ.1 58 q ≠ 4 → ∀ F ∈ FP q, kS F = 0 → kW F ≠ 0
theorem ptR_gK {σ0 σ τ σ' τ' : lj_S} {FP : Nat → List kF} {p np n : Nat} {r : List Nat} (f : lf gKC σ σ') (g : lf gKM τ τ') (h : ptR σ0 σ τ FP p r np n) : ptR σ0 σ' τ' FP p r np n := by
  have oa : ∀ o k, obA σ' τ' o k ↔ obA σ τ o k := fun o k => by unfold obA lv; rw [gK_v f 7 0 rfl, gK_v f 57 o rfl, gM_v g 38 o rfl]
  have c : ∀ k j, 59 ≤ k ∧ k ≤ 110 → σ'.1 k j = σ.1 k j ∧ σ'.2 k j = σ.2 k j := fun k j z => gK_o f (by omega)
  have m : ∀ k j, 1 ≤ k ∧ k ≤ 95 → τ'.1 k j = τ.1 k j ∧ τ'.2 k j = τ.2 k j := fun k j z => gM_o g (by omega)
  obtain ⟨⟨a1, a2, a3⟩, ⟨b1, b2⟩, ⟨c1, c2⟩, d1, d2, d3, d4, d5, d6, d7, d8, d9⟩ := h
  refine ⟨⟨by rw [(gK_o f (k := 7) (j := 1) (by omega)).1]; exact a1, by rw [(gM_o g (k := 0) (j := 110) (by omega)).1]; exact a2, a3⟩, ⟨by rw [(gK_o f (k := 8) (j := 7) (by omega)).1]; exact b1, by rw [(gM_o g (k := 0) (j := 111) (by omega)).1]; exact b2⟩, ⟨by rw [(c 83 p (by omega)).1]; exact c1, by rw [(m 58 p (by omega)).1]; exact c2⟩, chn_cg (fun k q w => (c k q (by omega)).1) (fun k q w => (m k q (by omega)).1) d1 (fun q hq => rfl), d2, d3, by rw [(gK_o f (k := 8) (j := 18) (by omega)).1]; exact d4, d5, d6, by rw [(m 59 0 (by omega)).1]; exact d7, ⟨fun q q1 q2 => ?_, fun o w => ?_⟩, fun q q1 q2 => ?_⟩
  · obtain ⟨o, o1, o2, o3, o4, o5, o6⟩ := d8.1 q q1 q2
    exact ⟨o, o1, o2, by rw [(c 85 q (by omega)).1]; exact o3, by rw [(m 59 q (by omega)).1]; exact o4, fun w => (oa o 6).2 (o5 (by rw [← (m 58 q (by omega)).1]; exact w)), fun w => by rw [(c 64 o (by omega)).1]; exact o6 ((oa o 6).1 w)⟩
  · obtain ⟨q, q1, q2, q3, q4⟩ := d8.2 o ((oa o 6).1 w)
    exact ⟨q, q1, q2, by rw [(c 64 o (by omega)).1]; exact q3, by rw [(c 85 q (by omega)).1]; exact q4⟩
  · rw [(c 83 q (by omega)).1, (m 58 q (by omega)).1, (c 88 q (by omega)).1, (c 89 q (by omega)).2, (m 60 q (by omega)).1, (m 61 q (by omega)).2, (c 87 q (by omega)).1, (m 69 q (by omega)).1, (m 70 q (by omega)).1, (m 62 q (by omega)).1, (c 85 q (by omega)).1]
    rcases d9 q q1 q2 with ⟨w1, w2, w3, w4, w5⟩ | w | ⟨w1, w2, w3, w4⟩
    · exact Or.inl ⟨w1, w2, w3, w4, w5.cg (gK_v f) (gM_v g)⟩
    · exact Or.inr (Or.inl w)
    · exact Or.inr (Or.inr ⟨w1, w2, w3, w4.imp id (fun ⟨o, o0, o1, o2, o3⟩ => ⟨o, o0, o1, by rw [gK_v f 57 o rfl]; exact o2, o3⟩)⟩)
theorem gw.cg {σ0 τ0 σ τ σ' τ' : lj_S} {n np p : Nat} {r : List Nat} {FP : Nat → List kF} {ρ : Nat → Nat} {P B : Nat → List Nat} {Fr : List Nat} {P' B' : Nat → List Nat} {Fr' : List Nat} (h : gw σ0 τ0 n np p r FP ρ P B Fr P' B' Fr' σ τ) (f : lf gKC σ σ') (g : lf gKM τ τ') : gw σ0 τ0 n np p r FP ρ P B Fr P' B' Fr' σ' τ' := by
  obtain ⟨h1, h2, h3, h4, h5, h6, h7, h8⟩ := h
  have oa : ∀ o k, obA σ' τ' o k ↔ obA σ τ o k := fun o k => by unfold obA lv; rw [gK_v f 7 0 rfl, gK_v f 57 o rfl, gM_v g 38 o rfl]
  have e58 : ∀ q, τ'.1 58 q = τ.1 58 q := fun q => (gM_o g (by omega)).1
  have hv : ∀ a b, vR σ τ a b → vR σ' τ' a b := fun a b w => w.cg (gK_v f) (gM_v g)
  refine ⟨⟨fun k j q => ?_, fun k j q => ?_⟩, h2.cg f g, fun o q w1 w2 w3 => h3 o q ((oa o 5).1 w1) w2 (by rw [← (gK_o f (k := 62) (j := o) (by omega)).1]; exact w3), ptR_gK f g h4, fun q q1 q2 => ?_, h6.cg hv (fun k j w => (gK_o f (by omega)).1) (fun j => (gK_o f (by omega)).2) (fun q s w => ⟨by unfold cv; rw [(gK_o f (k := 79) (j := s) (by omega)).1, (gK_o f (k := 80) (j := s) (by omega)).2], (gK_o f (by omega)).1⟩) (fun k j w => (gM_o g (by omega)).1) (fun j => (gM_o g (by omega)).2), h7.up (fun o k w => (oa o k).2 w) (gK_v f 57 0 rfl), fun q q1 q2 => h8 q q1 (by rw [← e58]; exact q2)⟩
  · have w := h1.1 k j q
    have := gK_o f (k := k) (j := j) (by unfold cdC at q; simp at q; omega)
    exact ⟨this.1.trans w.1, this.2.trans w.2⟩
  · have w := h1.2 k j q
    have := gM_o g (k := k) (j := j) (by unfold cdM at q; simp at q; omega)
    exact ⟨this.1.trans w.1, this.2.trans w.2⟩
  · obtain ⟨ce, me, mq, a1, a2, a3, a4, a5, a6⟩ := h5 q q1 (by rw [← e58]; exact q2)
    refine ⟨ce, me, mq, prt_gK f g a1, a2, ?_, ?_, by rw [(gM_o g (k := 63) (j := q) (by omega)).1]; exact a5, by rw [(gM_o g (k := 62) (j := q) (by omega)).1]; exact a6⟩
    · rw [(gK_o f (k := 8) (j := 8) (by omega)).1, (gK_o f (k := 82) (j := q) (by omega)).1]
      exact a3
    · rw [(gK_o f (k := 90) (j := q) (by omega)).1, (gK_o f (k := 91) (by omega)).1, (gK_o f (k := 95) (by omega)).1]
      exact a4
/-- what a part holds -/
def tpN (σ : lj_S) (p q : Nat) : Nat := (if q = p then lv σ 8 8 else lv σ 82 q).toNat
def ptC (σ0 σ : lj_S) (p : Nat) (FP : Nat → List kF) (q x : Nat) : Prop := (σ.1 83 q = 0 ∧ x ≠ 0 ∧ x = ov (σ.1 88 q, σ.2 89 q)) ∨ pCt σ0 σ (FP q) (tpN σ p q) x
theorem gw.lc {σ0 τ0 σ τ : lj_S} {n np p : Nat} {r : List Nat} {FP : Nat → List kF} {ρ : Nat → Nat} {P B : Nat → List Nat} {Fr : List Nat} {P' B' : Nat → List Nat} {Fr' : List Nat} (h : gw σ0 τ0 n np p r FP ρ P B Fr P' B' Fr' σ τ) {q : Nat} (q2 : τ.1 58 q ≠ 4) {F : kF} (hF : F ∈ FP q) (h0 : kS F = 0) {y : Nat} (hy : y ∈ (kY F).2.2.2.2.1) : ρ (kB F + y) < 95000 ∧ vR σ τ (cv σ (kB F + y)) (τ.1 54 (ρ (kB F + y)), τ.2 55 (ρ (kB F + y))) := by
  have ls : lsL (FP q) (kB F + y) := ⟨F, hF, h0, y, hy, rfl⟩
  obtain ⟨w1, w2⟩ := h.2.2.2.2.2.1.1 _ (Or.inl ⟨q, ls, Or.inl q2⟩)
  have a3 := (h.2.2.2.2.2.1.2.2.2.2.2.1 q _ ls).1
  unfold vaC at w2
  rw [if_pos a3] at w2
  exact ⟨w1, w2⟩
theorem tpN_eq {σ0 τ0 σ τ : lj_S} {ρ : Nat → Nat} {FP : Nat → List kF} {p q ce me mq : Nat} (hq : q < 26) (h : paG σ0 τ0 σ τ ρ FP p q ce me mq) : tpN σ p q = ce := by
  obtain ⟨_, ⟨_, b, _⟩, c, _⟩ := h
  unfold tpN
  by_cases z : q = p
  · rw [if_pos z] at c ⊢
    unfold lv
    rw [c, lz_lit (by omega)]
    omega
  · rw [if_neg z] at c ⊢
    unfold lv
    rw [c, lz_lit (by omega)]
    omega
/-- the component goes through a part -/
theorem c_rpart {σ0 τ0 σ τ : lj_S} {n np p : Nat} {r : List Nat} {FP : Nat → List kF} {ρ : Nat → Nat} {P B : Nat → List Nat} {Fr : List Nat} {P' B' : Nat → List Nat} {Fr' : List Nat} (h : gw σ0 τ0 n np p r FP ρ P B Fr P' B' Fr' σ τ) {Fn : Nat} (fx : FR σ0 τ0 Fn) (h38 : sh38 σ0) {q : Nat} (q1 : q ≤ np) (q2 : τ.1 58 q ≠ 4) {W : Nat → Prop} (hW : ∀ x, ptC σ0 σ p FP q x → W x) {Q : List Nat} (hm : wqC n σ Q) : ∃ σ' Q', lj_R lc_P 178 [.ref 8, .int (Int32.ofNat q)] σ = some (.inl none, σ') ∧ visC n W (ptC σ0 σ p FP q) σ Q σ' Q' := by
  obtain ⟨ce, me, mq, pg⟩ := h.2.2.2.2.1 q q1 q2
  have np25 := h.2.2.2.1.1.2.2
  have pn := h.2.2.2.1.2.2.2.2.2.1 p List.mem_cons_self
  have tp := tpN_eq (show q < 26 by omega) pg
  obtain ⟨pr, ⟨b1, b2, b3, b4⟩, e8, e90, _⟩ := pg
  have hn := h.2.1.2.2.1.1.1
  have l70 := h.2.1.2.2.1.1.2.1
  have iq : lj_in (Int32.ofNat q) 26 := ofN_in (by omega) (by omega)
  have nq : (Int32.ofNat q).toNatClampNeg = q := lz_onat (by omega)
  -- the state of the part in the component
  have s83 : σ.1 83 q ≠ 4 ∧ (σ.1 83 q = 0 → ∃ b, vR σ τ (σ.1 88 q, σ.2 89 q) b) := by
    obtain ⟨_, _, ⟨c1, c2⟩, d1, d2, d3, d4, d5, d6, d7, d8, d9⟩ := h.2.2.2.1
    by_cases z : q ∈ p :: r
    · rcases List.mem_cons.1 z with e | e
      · rw [e, c1]; exact ⟨by decide, fun y => absurd y (by decide)⟩
      · have : ∀ (l : List Nat) (a : Nat), chn σ0 σ τ FP (a :: l) → q ∈ l → σ.1 83 q = 3 := by
          intro l
          induction l with
          | nil => intro a _ hq; cases hq
          | cons b l ih =>
            intro a hc hq
            rcases List.mem_cons.1 hq with e | e
            · rw [e]; exact hc.2.2.1.1
            · exact ih b hc.2.2.2 e
        rw [this r p d1 e]
        exact ⟨by decide, fun y => absurd y (by decide)⟩
    · rcases d9 q q1 z with ⟨w1, w2, w3, w4, w5⟩ | w | w
      · rw [w1]; exact ⟨by decide, fun _ => ⟨_, w5⟩⟩
      · rw [w.1]; exact ⟨by decide, fun y => absurd y (by decide)⟩
      · exact absurd w.1 q2
  -- behind what the part begins with
  have mid : ∀ (σ1 : lj_S) (Q1 : List Nat) (M : Nat → Prop), visC n W M σ Q σ1 Q1 → (∀ x, σ.1 83 q = 0 → x ≠ 0 → x = ov (σ.1 88 q, σ.2 89 q) → M x) → ∃ σ' Q', lj_D lc_P lc_M178 25 [.ref 8, .int (Int32.ofNat q), .retAddr 0, .retAddr 0] [] σ1 = some (.inl none, σ') ∧ visC n W (ptC σ0 σ p FP q) σ Q σ' Q' := fun σ1 Q1 M hv hM => by
    have f1 : lf gKC σ σ1 := hv.2.1.mo (fun _ _ q => gRC_K q)
    have g1 := h.cg f1 (lf_rf _ τ)
    have c : ∀ k j, k ≠ 111 → k ≠ 112 → (k ≠ 8 ∨ j ≠ 58) → σ1.1 k j = σ.1 k j ∧ σ1.2 k j = σ.2 k j := fun k j z1 z2 z3 => visC.o hv ⟨z1, z2, z3⟩
    have ec : ∀ j, cv σ1 j = cv σ j := fun j => by unfold cv; rw [(c 79 j (by omega) (by omega) (by omega)).1, (c 80 j (by omega) (by omega) (by omega)).2]
    have top : (if q = p then σ1.1 8 8 else σ1.1 82 q) = Int32.ofNat ce := by
      rw [(c 8 8 (by omega) (by omega) (by omega)).1, (c 82 q (by omega) (by omega) (by omega)).1]
      by_cases z : q = p
      · rw [if_pos z] at e8 ⊢; exact e8
      · rw [if_neg z] at e8 ⊢; exact e8
    have lp : ∀ D, D ≤ 20 → σ.1 90 q = Int32.ofNat D → ((FP q).length < D ∧ σ1.1 95 (20 * q + (FP q).length) = Int32.ofNat ce ∨ (FP q).length = D ∧ (if q = p then σ1.1 8 8 else σ1.1 82 q) = Int32.ofNat ce) → ∃ σ' Q' X', lj_D lc_P lc_M178 27 [.ref 8, .int (Int32.ofNat q), .int 0, .retAddr 0] [] σ1 = lj_D lc_P lc_M178 27 [.ref 8, .int (Int32.ofNat q), .int (Int32.ofNat (FP q).length), X'] [] σ' ∧ visC n W (pCt σ0 σ1 (FP q) ce) σ1 Q1 σ' Q' := fun D hD h90 he => c_rpl (p := p) (τ0 := τ0) (τ := τ) (ρ := ρ) fx h38 hn (by omega) (by omega) hD (FP q) ce me mq σ1 Q1 (.retAddr 0) (prt_gK f1 (lf_rf _ τ) pr) (fun k j z => (g1.1.1 k j z).1) g1.2.1.2.2.1.1.2.1 (by rw [(c 90 q (by omega) (by omega) (by omega)).1]; exact h90) (by rw [(c 83 q (by omega) (by omega) (by omega)).1]; exact s83.1) g1.2.2.2.1.2.1.1 (fun F hF h0 => h.2.2.2.2.2.2.2 q q1 q2 F hF h0) (by omega) (fun F hF h0 y hy => ⟨_, (g1.lc q2 hF h0 hy).2⟩) he (fun x hx => hW x (Or.inr (by rw [tp]; exact (pCt_cg ec).1 hx))) hv.1
    have fin : ∀ (σ2 : lj_S) (Q2 : List Nat), visC n W (pCt σ0 σ1 (FP q) ce) σ1 Q1 σ2 Q2 → visC n W (ptC σ0 σ p FP q) σ Q σ2 Q2 := fun σ2 Q2 v2 => (hv.tr v2).mo (fun x hx => by
      rcases hx with ⟨y1, y2, y3⟩ | hx
      · exact Or.inl (hM x y1 y2 y3)
      · rw [tp] at hx
        exact Or.inr ((pCt_cg ec).2 hx))
    rw [kc_178_25]
    rcases e90 with e90 | ⟨l20, e90, e91, e95⟩
    · obtain ⟨σ2, Q2, X', s1, s2⟩ := lp (FP q).length b1 e90 (Or.inr ⟨rfl, top⟩)
      refine ⟨σ2, Q2, ?_, fin σ2 Q2 s2⟩
      rw [s1, kc_178_27]; simp only [if_pos iq, nq]; rw [(visC.o s2 (k := 90) (j := q) (by omega)).1, (c 90 q (by omega) (by omega) (by omega)).1, e90, if_pos ((ofN_le (by omega) (by omega)).2 (Nat.le_refl _)), kc_178_114]
    · obtain ⟨σ2, Q2, X', s1, s2⟩ := lp ((FP q).length + 1) (by omega) e90 (Or.inl ⟨by omega, by rw [(c 95 _ (by omega) (by omega) (by omega)).1]; exact e95⟩)
      refine ⟨σ2, Q2, ?_, fin σ2 Q2 s2⟩
      have d : ∀ k j, k ≠ 111 → k ≠ 112 → (k ≠ 8 ∨ j ≠ 58) → σ2.1 k j = σ.1 k j := fun k j z1 z2 z3 => (visC.o s2 ⟨z1, z2, z3⟩).1.trans (c k j z1 z2 z3).1
      have ii : lj_in (Int32.ofNat (20 * q + (FP q).length)) 520 := ofN_in (by omega) (by omega)
      have r179 : ∀ x, lj_R lc_P 179 [.ref 8, .int (Int32.ofNat (20 * q + (FP q).length)), .int x] σ2 = some (.inl none, σ2) := fun x => by
        rw [rc_179, kc_179_0]; simp only [if_pos ii]; rw [lz_onat (by omega), d 91 _ (by omega) (by omega) (by omega), e91, if_neg (by decide)]
      have go : ∀ x, lj_D lc_P lc_M178 96 [.ref 8, .int (Int32.ofNat q), .int (Int32.ofNat (FP q).length), X'] [.int x] σ2 = some (.inl none, σ2) := fun x => by
        rw [kc_178_96, c_fat, bi_ok, r179, bv_ok, lz_osucc, kc_178_27]; simp only [if_pos iq, nq]; rw [d 90 q (by omega) (by omega) (by omega), e90, if_pos ((ofN_le (by omega) (by omega)).2 (Nat.le_refl _)), kc_178_114]
      rw [s1, kc_178_27]; simp only [if_pos iq, nq]; rw [d 90 q (by omega) (by omega) (by omega), e90, if_neg (fun z => by have := (ofN_le (by omega) (by omega)).1 z; omega), d 83 q (by omega) (by omega) (by omega), if_neg s83.1, lz_osucc, if_pos ((ofN_le (by omega) (by omega)).2 (Nat.le_refl _))]
      by_cases z : Int32.ofNat q = σ2.1 8 7
      · rw [if_pos z]; exact go _
      · rw [if_neg z]; (try simp only [if_pos iq]); exact go _
  rw [rc_178, kc_178_0]; simp only [if_pos iq, nq]
  by_cases z : σ.1 83 q = 0
  · obtain ⟨b, hb⟩ := s83.2 z
    obtain ⟨g1, g2, g3⟩ := hb.gd l70 (W := W) (fun y => hW _ (Or.inl ⟨z, y, rfl⟩))
    obtain ⟨σ1, Q1, r1, r2⟩ := c_reach hn hm (a := (σ.1 88 q, σ.2 89 q)) g1 g2 (W := W) g3
    have r1 : lj_R lc_P 176 [.ref 8, .int (σ.1 88 q), .long (σ.2 89 q)] σ = some (.inl none, σ1) := r1
    rw [if_pos z]; (try simp only [if_pos iq]); rw [r1, bv_ok]
    exact mid σ1 Q1 _ r2 (fun x _ x0 x1 => ⟨x1, x0⟩)
  · rw [if_neg z]
    exact mid σ Q _ (vis.rf hm) (fun x y => absurd y z)
