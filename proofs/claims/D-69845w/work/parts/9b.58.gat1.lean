/-! the gathering: both rounds in both -/
theorem nd_len {n : Nat} {N : List Nat} (nd : N.Nodup) (h : ∀ x ∈ N, x ≤ n) : N.length ≤ n + 1 := by
  have e := cnt0_N (S := fun _ => false) (S' := fun x => decide (x ∈ N)) (n := n) nd (fun x hx => ⟨rfl, h x hx⟩) (fun x => by simp)
  have := cnt0_le (fun _ => false) n
  omega
theorem flg_t {n k : Nat} {σ : lj_S} {x : Nat} : flg n k σ x = true ↔ σ.1 k x ≠ 0 ∧ x ≤ n := by
  unfold flg
  simp only [Bool.and_eq_true, decide_eq_true_iff]
theorem fl0_t {n : Nat} {τ : lj_S} {x : Nat} : fl0 n τ x = true ↔ flg n 96 τ x = true ∨ x = 0 := by
  unfold fl0
  simp only [Bool.or_eq_true, beq_iff_eq]
theorem gat1 {σ0 τ0 σ τ : lj_S} {n np p : Nat} {r : List Nat} {FP : Nat → List kF} {ρ : Nat → Nat} {P B : Nat → List Nat} {Fr : List Nat} {P' B' : Nat → List Nat} {Fr' : List Nat} (h : gw σ0 τ0 n np p r FP ρ P B Fr P' B' Fr' σ τ) {Fn : Nat} (fx : FR σ0 τ0 Fn) (h38 : sh38 σ0) {MO La : List Nat} {fi : Nat} (hfi : fi < 520) (h34 : σ.1 8 34 = Int32.ofNat fi) (h100 : σ.1 100 fi = Int32.ofNat La.length) (m1 : σ.1 8 53 = Int32.ofNat MO.length) (m2 : ∀ i, i < MO.length → σ.1 110 i = Int32.ofNat (MO.getD i 0)) (m3 : MO.Nodup) (m4 : ∀ t ∈ MO, obA σ τ t 4 ∧ 0 < τ.2 42 t) (m5 : MO.Pairwise (fun a b => τ.2 42 a < τ.2 42 b)) (m6 : ∀ t, 1 ≤ t → t ≤ n → τ.2 42 t ≠ 0 → t ∈ MO) (l1 : σ.1 8 33 = Int32.ofNat La.length) (l2 : τ.1 0 152 = Int32.ofNat La.length) (l3 : La.Nodup) (l4 : ∀ o ∈ La, obA σ τ o 4) (l5 : ∀ i, i < La.length → σ.1 104 i = Int32.ofNat (La.getD i 0)) (l6 : ∀ i, i < La.length → τ.1 95 i = Int32.ofNat (La.getD i 0)) (gac : gaC σ τ FP (p :: r) La.length) (x1 x2 : Int32) : ∃ (σF τF : lj_S) (S T : Nat → Bool) (x3 : Int32), lj_D lc_P lc_M175 32 [.ref 8, .int x1, .int x2, .int 0, .retAddr 0, .retAddr 0] [] σ = lj_D lc_P lc_M175 353 [.ref 8, .int x1, .int x2, .int x3, .int 0, .int 1] [] σF ∧ (∃ τ1 τ2 τ3 : lj_S, lj_R lm_P 207 [.ref 0] τ = some (.inl none, τ1) ∧ lj_R lm_P 217 [.ref 0, .int 0] τ1 = some (.inl none, τ2) ∧ lj_R lm_P 218 [.ref 0] τ2 = some (.inl none, τ3) ∧ lj_R lm_P 217 [.ref 0, .int 1] τ3 = some (.inl none, τF)) ∧ (gw σ0 τ0 n np p r FP ρ P B Fr P' B' Fr' σF τF ∧ lf gDC σ σF ∧ lf gDM τ τF) ∧ ((∀ x, x ≤ n → (σF.1 111 x ≠ 0 ↔ T x = true)) ∧ (∀ x, 1 ≤ x → x ≤ n → (τF.1 96 x ≠ 0 ↔ T x = true)) ∧ ∀ x, T x = true → okO σF n x) ∧ ((∀ x, rtX σ0 σ p r FP La x → T x = true) ∧ (∀ o x, T o = true → edX σ0 σF τF p FP P o x → T x = true) ∧ ∀ t, T t = true → σF.1 57 t = 4 → ∀ q ∈ P t, σF.1 68 q ≠ 0 → (ov (kyC σF q) ≠ 0 → T (ov (kyC σF q)) = true) ∧ (ov (vlC σF q) ≠ 0 → T (ov (vlC σF q)) = true)) ∧ (σF.1 8 53 = Int32.ofNat (lsS S MO).length ∧ (∀ j, j < (lsS S MO).length → σF.1 110 j = Int32.ofNat ((lsS S MO).getD j 0)) ∧ (∀ t, σF.1 65 t = if t ∈ lsN S MO then 0 else σ.1 65 t) ∧ ∀ t, τF.2 42 t = if t ∈ lsN S MO then 0 else τ.2 42 t) ∧ (La.length + (lsN S MO).length ≤ 2001 ∧ σF.1 8 33 = Int32.ofNat (La.length + (lsN S MO).length) ∧ τF.1 0 152 = Int32.ofNat (La.length + (lsN S MO).length) ∧ ∀ j, j < La.length + (lsN S MO).length → σF.1 104 j = Int32.ofNat ((La ++ lsN S MO).getD j 0) ∧ τF.1 95 j = Int32.ofNat ((La ++ lsN S MO).getD j 0)) ∧ (∀ x, S x = true → T x = true) ∧ (∀ x ∈ lsN S MO, T x = true) ∧ ∀ x ∈ La, S x = true := by
  have hn := h.2.1.2.2.1.1.1
  have l70 := h.2.1.2.2.1.1.2.1
  have l77 := h.2.1.2.2.1.1.2.2
  have obn : ∀ o k, obA σ τ o k → 1 ≤ o ∧ o ≤ n := fun o k w => ⟨w.1, by have := w.2.2.1; omega⟩
  have lLa : La.length ≤ n + 1 := nd_len l3 (fun x hx => (obn x 4 (l4 x hx)).2)
  -- first round
  obtain ⟨σ1, K, a1, a2, a3, a4, a5, a6, a7⟩ := c_phA h fx h38 l4 (by omega) l1 l5 x1 x2
  obtain ⟨τ1, Bk, b1, b2, b3, b4, b5, b6, b7⟩ := m_phA h l4 (by omega) l6 gac
  obtain ⟨S, hS⟩ : ∃ S : Nat → Bool, S = flg n 111 σ1 := ⟨_, rfl⟩
  have sC : ∀ x, S x = true ↔ lstR (rtX σ0 σ p r FP La) (edX σ0 σ τ p FP P) (epX σ P) x := fun x => by rw [hS]; exact wlI.fin a5 a7 x
  have sM : ∀ x, fl0 n τ1 x = true ↔ S x = true := fun x => (wlI.fin b6 b7 x).trans (sC x).symm
  have sr : ∀ x, rtX σ0 σ p r FP La x → S x = true := fun x hx => (sC x).2 ((lstR_clo _ _ _).1 x hx)
  have sE : ∀ o x, S o = true → edX σ0 σ τ p FP P o x → S x = true := fun o x w e => (sC x).2 ((lstR_clo _ _ _).2.1 o x ((sC o).1 w) e)
  have sP : ∀ t k v, S t = true → S k = true → epX σ P t k v → S v = true := fun t k v w1 w2 e => (sC v).2 ((lstR_clo _ _ _).2.2 t k v ((sC t).1 w1) ((sC k).1 w2) e)
  have sok : ∀ x, S x = true → okO σ n x := fun x w => gw.ok h (rtX_ok h l4) x ((sC x).1 w)
  have sf : ∀ x, x ≠ 0 → flg n 96 τ1 x = S x := fun x x0 => by
    have := sM x
    rw [fl0_t] at this
    cases e : S x with
    | true => rcases this.2 e with w | w; exact w; exact absurd w x0
    | false =>
      cases e2 : flg n 96 τ1 x with
      | false => rfl
      | true => rw [this.1 (Or.inl e2)] at e; cases e
  have h1 := h.cg a2 b2
  -- first drop
  obtain ⟨σ2, τ2, c1, c2, c3, c4, c5, c6, c7, c8⟩ := cm_drp h1 false (fun x x0 => by rw [sf x x0, hS])
  have d4 : lf gDC σ σ2 := (a2.mo (fun _ _ q => gDC_K q)).tr (c4.mo (fun _ _ q => gDC_Q q))
  have d5 : lf gDM τ τ2 := (b2.mo (fun _ _ q => gDM_K q)).tr (c5.mo (fun _ _ q => gDM_Q q))
  have e2 : ∀ k j, k = 100 ∨ k = 104 ∨ k = 110 ∨ k = 65 ∨ k = 8 ∧ (j = 33 ∨ j = 34 ∨ j = 53) → σ2.1 k j = σ.1 k j := fun k j z => ((c4 k j (by unfold gQC; simp; omega)).1).trans ((a2 k j (by unfold gKC; simp; omega)).1)
  have e111 : ∀ x, σ2.1 111 x = σ1.1 111 x := fun x => (c4 111 x rfl).1
  have e96 : ∀ x, τ2.1 96 x = τ1.1 96 x := fun x => (c5 96 x rfl).1
  have e42 : ∀ x, τ2.2 42 x = τ.2 42 x := fun x => (c5 42 x rfl).2.trans (b2 42 x rfl).2
  have e95 : ∀ x, τ2.1 95 x = τ.1 95 x := fun x => (c5 95 x rfl).1.trans (b2 95 x rfl).1
  -- new last acts
  have MOn : ∀ t ∈ MO, 1 ≤ t ∧ t ≤ n := fun t ht => obn t 4 (m4 t ht).1
  have inN : ∀ t, t ∈ lsN S MO ↔ t ∈ MO ∧ S t = false := fun t => by
    unfold lsN
    rw [List.mem_filter]
    simp
  have ndN : (lsN S MO).Nodup := List.Pairwise.filter _ m3
  have lLN : La.length + (lsN S MO).length ≤ 2001 := by
    have := nd_len (n := n) (N := La ++ lsN S MO) (List.nodup_append.2 ⟨l3, ndN, fun a ha b hb e => by
      have w1 := sr a (Or.inr (Or.inl ha))
      rw [e, ((inN b).1 hb).2] at w1
      cases w1⟩) (fun x hx => by
      rcases List.mem_append.1 hx with w | w
      · exact (obn x 4 (l4 x w)).2
      · exact (MOn x ((inN x).1 w).1).2)
    rw [List.length_append] at this
    omega
  have mS : ∀ t ∈ MO, (σ2.1 111 t = 0 ↔ S t = false) := fun t ht => by
    have := flg_t (n := n) (k := 111) (σ := σ1) (x := t)
    rw [← hS] at this
    rw [e111]
    cases e : S t with
    | false => exact ⟨fun _ => rfl, fun _ => Classical.byContradiction (fun w => by rw [this.2 ⟨w, (MOn t ht).2⟩] at e; cases e)⟩
    | true => exact ⟨fun w => absurd w (this.1 e).1, fun w => by cases w⟩
  obtain ⟨σ3, X5', f1, f2, f3, f4, f5, f6, f7, f8⟩ := c_part hn (M := MO) (La := La) (by have := nd_len m3 (fun x hx => (MOn x hx).2); omega) MOn S lLN hfi x1 x2 MO.length 0 σ2 (.retAddr 0) (by omega) (by rw [e2 8 53 (by omega)]; exact m1) (by rw [e2 8 34 (by omega)]; exact h34) (fun j _ j2 => by rw [e2 110 j (by omega)]; exact m2 j j2) mS (fun j hj => absurd hj (Nat.not_lt_zero _)) (by rw [e2 8 33 (by omega)]; exact l1) (fun j hj => by
    have hj : j < La.length := hj
    rw [e2 104 j (by omega), gD_app1 hj]
    exact l5 j hj)
  have e77 : τ2.1 0 77 = Int32.ofNat n := lz_ext (by
    rw [lz_lit (by omega), (gE_o d5 (k := 0) (j := 77) (by omega)).1]
    exact l77)
  obtain ⟨τ3, y4, Y5, g1, g2, g3, g4, g5, g6, g7⟩ := m_acts hn e77 (N := lsN S MO) ⟨fun t ht => MOn t ((inN t).1 ht).1, fun t t1 t2 => by
    rw [(gE_o d5 (k := 38) (j := t) (by omega)).1, e42, e96, inN]
    have w := sf t (by omega)
    constructor
    · rintro ⟨_, y2, y3⟩
      refine ⟨m6 t t1 t2 (fun q => by rw [q] at y2; exact absurd y2 (by decide)), ?_⟩
      rw [← w]
      cases e : flg n 96 τ1 t with
      | false => rfl
      | true => exact absurd y3 (flg_t.1 e).1
    · rintro ⟨y1, y2⟩
      refine ⟨(m4 t y1).1.2.2.2.2, (m4 t y1).2, Classical.byContradiction (fun q => ?_)⟩
      rw [flg_t.2 ⟨q, t2⟩, y2] at w
      cases w⟩ ndN (List.Pairwise.filter _ (List.Pairwise.imp (fun {a b} w => by rw [e42, e42]; exact w) m5)) (k := La.length) (by rw [(c5 0 152 rfl).1, (b2 0 152 rfl).1]; exact l2) (by omega)
  have p3 : lf gPC σ2 σ3 := fun k j z => by
    unfold gPC at z
    simp at z
    exact ⟨f7 k j (by omega) (by omega) (by omega) (by omega), by rw [f8]⟩
  have q3 : lf gPM τ2 τ3 := fun k j z => by
    unfold gPM at z
    simp at z
    exact ⟨g5 k j (by omega) (by omega), g7 k j (by omega)⟩
  have h3 := c3.up (p3.mo (fun _ _ q => gDC_P q)) (q3.mo (fun _ _ q => gDM_P q)) (c3.2.1.cp p3 q3)
  have d6 : lf gDC σ σ3 := d4.tr (p3.mo (fun _ _ q => gDC_P q))
  have d7 : lf gDM τ τ3 := d5.tr (q3.mo (fun _ _ q => gDM_P q))
  -- second round
  have fl3 : flg n 111 σ3 = S := by
    rw [hS]
    funext x
    unfold flg
    rw [f7 111 x (by omega) (by omega) (by omega) (by omega), e111]
  have fm3 : flg n 96 τ3 = flg n 96 τ1 := by
    funext x
    unfold flg
    rw [g5 96 x (by omega) (by omega), e96]
  have fm0 : ∀ x, fl0 n τ3 x = true ↔ S x = true := fun x => by
    unfold fl0
    rw [fm3]
    exact sM x
  have md3 : ∀ t, mdX σ3 P t = mdX σ P t := fun t => by rw [md_gP p3, c8, md_gK a2]
  have v3 : ∀ q, σ3.1 68 q ≠ 0 → σ3.1 68 q = σ.1 68 q ∧ σ3.2 69 q = σ.2 69 q := fun q z => by
    rw [(p3 68 q rfl).1] at z
    obtain ⟨⟨w1, w2⟩, _⟩ := c6 q z
    exact ⟨by rw [(p3 68 q rfl).1, w1, (a2 68 q rfl).1], by rw [(p3 69 q rfl).2, w2, (a2 69 q rfl).2]⟩
  have ok3 : ∀ x, okO σ n x → okO σ3 n x := fun x w => by
    unfold okO at w ⊢
    rw [gD_v d6 57 x rfl]
    exact w
  have hN3 : ∀ x ∈ lsN S MO, 1 ≤ x ∧ okO σ3 n x := fun x hx => by
    have w := (inN x).1 hx
    have w2 := MOn x w.1
    exact ⟨w2.1, ok3 x ⟨w2.2, Or.inl (m4 x w.1).1.2.2.2.1⟩⟩
  have c31 : ∀ o x, S o = true → edX σ0 σ3 τ3 p FP P o x → S x = true := fun o x w e => sE o x w (edX_gD d6 d7 (md3 o) v3 e)
  have c32 : ∀ t k v, S t = true → S k = true → epX σ3 P t k v → S v = true := fun t k v w1 w2 e => sP t k v w1 w2 (epX_gD d6 (md3 t) v3 e)
  have wq3 : wqC n σ3 [] := ⟨by rw [f7 8 58 (by omega) (by omega) (by omega) (by omega), (c4 8 58 rfl).1]; exact a3.1, trivial, by rw [fl3, hS]; exact a3.2.2⟩
  have wk3 : wkK σ3 K := ⟨by rw [f7 8 60 (by omega) (by omega) (by omega) (by omega), (c4 8 60 rfl).1]; exact a4.1, fun i hi => by rw [f7 113 i (by omega) (by omega) (by omega) (by omega), (c4 113 i rfl).1]; exact a4.2 i hi⟩
  have kw3 : kwI σ3 n P (fun t => flg n 111 σ3 t = true) [] K := by
    refine ⟨fun t y1 y2 y3 y4 => ?_, fun t ht => ?_, ?_⟩
    · rw [fl3, hS] at y1
      refine a6.1 t y1 y2 ?_ ?_
      · rw [gK_v a2 57 t rfl, ← gD_v d6 57 t rfl]; exact y3
      · rw [md_gK a2, ← md3]; exact y4
    · obtain ⟨w1, w2, w3, w4⟩ := a6.2.1 t ht
      refine ⟨w1, ?_, ?_, by rw [fl3]; exact (sC t).2 w4⟩
      · rw [gD_v d6 57 t rfl, ← gK_v a2 57 t rfl]; exact w2
      · rw [md3, ← md_gK a2]; exact w3
    · rw [fl3, hS]; exact a6.2.2
  obtain ⟨σ4, i1, i2, i3⟩ := c_two h3 fx h38 (La := La) (N := lsN S MO) (K := K) lLN f4 f5 hN3 (fun x w => by rw [fl3] at w; exact ok3 x (sok x w)) (fun o x w e => by rw [fl3] at w ⊢; exact c31 o x w e) (fun t k v w1 w2 e => by rw [fl3] at w1 w2 ⊢; exact c32 t k v w1 w2 e) wq3 wk3 kw3 x1 x2 (Int32.ofNat (lsS S MO).length) X5'
  have e953 : ∀ j, j < La.length + (lsN S MO).length → τ3.1 95 j = Int32.ofNat ((La ++ lsN S MO).getD j 0) := fun j hj => by
    by_cases z : j < La.length
    · rw [g6 j z, e95, gD_app1 z]
      exact l6 j z
    · have := g3 (j - La.length) (by omega)
      rw [show La.length + (j - La.length) = j by omega] at this
      rw [this, gD_app2 (by omega)]
  have gac3 : gaC σ3 τ3 FP (p :: r) La.length := gaC_cg (fun k j z => (gD_o d6 (by omega)).1) (fun k j z => (gE_o d7 (by omega)).1) (fun _ _ _ w => w) gac
  obtain ⟨τ4, j1, j2, j3⟩ := m_two h3 (Bk := Bk) (La := La) (N := lsN S MO) (by omega) g2 e953 (fun x hx => ⟨(obn x 4 (l4 x hx)).1, (fm0 x).2 (sr x (Or.inr (Or.inl hx)))⟩) hN3 (fun x w => ok3 x (sok x ((fm0 x).1 w))) (fun o x w e => (fm0 x).2 (c31 o x ((fm0 o).1 w) e)) (fun t k v w1 w2 e => (fm0 v).2 (c32 t k v ((fm0 t).1 w1) ((fm0 k).1 w2) e)) ⟨by rw [g5 0 157 (by omega) (by omega), (c5 0 157 rfl).1]; exact b3.1, trivial, by rw [fm3]; exact b3.2.2⟩ (bkI_cg b4 (fun t => gD_v d6 57 t rfl) md3 (fun k j z => ⟨by rw [g5 k j (by omega) (by omega), (c5 k j (by unfold gQM; simp; omega)).1], by rw [g7 k j (by omega), (c5 k j (by unfold gQM; simp; omega)).2]⟩) (fun j z => c7 j (by rw [← g5 47 j (by omega) (by omega)]; exact z))) (fun q q1 q2 x hx => by
    rw [fm3]
    exact b5 q q1 (by rw [← (c5 97 q rfl).1, ← g5 97 q (by omega) (by omega)]; exact q2) x ((ptC_gD d6 p FP q x).1 hx)) gac3 0 y4 Y5
  have er : rt2 (fun x => fl0 n τ3 x = true) (lsN S MO) = rt2 (fun x => flg n 111 σ3 x = true) (lsN S MO) := by
    funext x
    unfold rt2
    rw [fl3]
    exact propext ⟨fun w => w.imp (fm0 x).1 id, fun w => w.imp (fm0 x).2 id⟩
  rw [er] at j3
  have h4 := h3.cg i2 j2
  have sf4 : ∀ x, x ≠ 0 → flg n 96 τ4 x = flg n 111 σ4 x := fun x x0 => by
    have w := (j3 x).trans (i3 x).symm
    rw [fl0_t] at w
    cases e : flg n 111 σ4 x with
    | true => rcases w.2 e with y | y; exact y; exact absurd y x0
    | false =>
      cases e2 : flg n 96 τ4 x with
      | false => rfl
      | true => rw [w.1 (Or.inl e2)] at e; cases e
  -- second drop
  obtain ⟨σ5, τ5, k1, k2, k3, k4, k5, k6, k7, k8⟩ := cm_drp h4 true sf4
  have n4 : lf gPC σ3 σ4 := i2.mo (fun k j z => by unfold gPC at z; unfold gKC; simp at z ⊢; omega)
  have d8 : lf gDC σ3 σ5 := (i2.mo (fun _ _ q => gDC_K q)).tr (k4.mo (fun _ _ q => gDC_Q q))
  have d9 : lf gDM τ3 τ5 := (j2.mo (fun _ _ q => gDM_K q)).tr (k5.mo (fun _ _ q => gDM_Q q))
  have fl5 : flg n 111 σ5 = flg n 111 σ4 := by
    funext x
    unfold flg
    rw [(k4 111 x rfl).1]
  have fm5 : flg n 96 τ5 = flg n 96 τ4 := by
    funext x
    unfold flg
    rw [(k5 96 x rfl).1]
  have c41 : ∀ o x, flg n 111 σ4 o = true → edX σ0 σ4 τ4 p FP P o x → flg n 111 σ4 x = true := fun o x w e => (i3 x).2 ((lstR_clo _ _ _).2.1 o x ((i3 o).1 w) ((edX_gK i2 j2 p FP P o x).1 e))
  have c42 : ∀ t k v, flg n 111 σ4 t = true → flg n 111 σ4 k = true → epX σ4 P t k v → flg n 111 σ4 v = true := fun t k v w1 w2 e => (i3 v).2 ((lstR_clo _ _ _).2.2 t k v ((i3 t).1 w1) ((i3 k).1 w2) ((epX_gK i2 P t k v).1 e))
  have ST : ∀ x, S x = true → flg n 111 σ4 x = true := fun x w => (i3 x).2 ((lstR_clo _ _ _).1 x (Or.inl (by rw [fl3]; exact w)))
  have e5 : ∀ k j, k = 104 ∨ k = 110 ∨ k = 65 ∨ k = 8 ∧ (j = 33 ∨ j = 53) → σ5.1 k j = σ3.1 k j := fun k j z => ((k4 k j (by unfold gQC; simp; omega)).1).trans ((i2 k j (by unfold gKC; simp; omega)).1)
  refine ⟨σ5, τ5, S, flg n 111 σ5, Int32.ofNat (lsS S MO).length, ?_, ⟨τ1, τ2, τ4, b1, c2, ?_, k2⟩, ⟨k3, d6.tr d8, d7.tr d9⟩, ⟨fun x hx => ?_, fun x x1 hx => ?_, fun x w => ?_⟩, ⟨fun x hx => ?_, fun o x w e => ?_, fun t w w4 q hq z => ?_⟩, ⟨by rw [e5 8 53 (by omega)]; exact f2, fun j hj => by rw [e5 110 j (by omega)]; exact f3 j hj, fun t => ?_, fun t => ?_⟩, ⟨lLN, by rw [e5 8 33 (by omega)]; exact f4, ?_, fun j hj => ⟨by rw [e5 104 j (by omega)]; exact f5 j hj, ?_⟩⟩, fun x w => by rw [fl5]; exact ST x w, fun x hx => ?_, fun x hx => sr x (Or.inr (Or.inl hx))⟩
  · rw [a1]
    have c1 : lj_R lc_P 186 [.ref 8, .int 0] σ1 = some (.inl none, σ2) := c1
    rw [c1, bv_ok]
    have f1 : lj_D lc_P lc_M175 214 [.ref 8, .int x1, .int x2, .int 0, .int 0, .retAddr 0] [] σ2 = _ := f1
    have k1 : lj_R lc_P 186 [.ref 8, .int 1] σ4 = some (.inl none, σ5) := k1
    rw [f1, e2 100 fi (by omega), h100, i1, k1, bv_ok]
  · rw [g1, j1]
  · rw [flg_t]
    exact ⟨fun w => ⟨w, hx⟩, fun w => w.1⟩
  · rw [fl5, ← sf4 x (by omega), ← fm5, flg_t]
    exact ⟨fun w => ⟨w, hx⟩, fun w => w.1⟩
  · rw [fl5] at w
    have ok := gw.ok h3 (root := rt2 (fun x => flg n 111 σ3 x = true) (lsN S MO)) (fun y hy => by
      rcases hy with y | y
      · rw [fl3] at y; exact ok3 _ (sok _ y)
      · exact (hN3 _ y).2) x ((i3 x).1 w)
    unfold okO at ok ⊢
    rw [gD_v d8 57 x rfl]
    exact ok
  · rw [fl5]; exact ST x (sr x hx)
  · rw [fl5] at w ⊢
    refine c41 o x w (edX_gD (k4.mo (fun _ _ q => gDC_Q q)) (k5.mo (fun _ _ q => gDM_Q q)) (k8 o) (fun q z => (k6 q z).1) e)
  · rw [fl5] at w ⊢
    exact kpt_ok h4 k4 k6 c41 c42 w (by rw [← (k4 57 t rfl).1]; exact w4) hq z
  · rw [e5 65 t (by omega), f6, e2 65 t (by omega), List.drop_zero]
  · rw [(k5 42 t rfl).2, (j2 42 t rfl).2, g4, e42]
  · rw [(k5 0 152 rfl).1, (j2 0 152 rfl).1]
    exact g2
  · rw [(k5 95 j rfl).1, (j2 95 j rfl).1]
    exact e953 j hj
  · rw [fl5]
    exact (i3 x).2 ((lstR_clo _ _ _).1 x (Or.inr hx))
