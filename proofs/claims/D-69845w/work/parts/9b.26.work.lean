/-! frames at work come and go -/
theorem MB.popG {σ0 τ0 σ τ : lj_S} {n np p : Nat} {r : List Nat} {FP : Nat → List kF} {ρ : Nat → Nat} {A MO LA : List Nat} (h : MB σ0 τ0 n np p r FP ρ A MO LA σ τ) {F : kF} {L : List kF} (hF : FP p = F :: L) (hnl : ∀ a, ¬ lsF F a) {ms ks ce me mq : Nat} (hpa : paR σ0 τ0 σ τ ρ FP p p ce me mq) (hp : prt σ0 τ0 σ τ ρ p L (kC F) ms ks) {σ' τ' : lj_S} (f : ∀ k j, ¬ (k = 8 ∧ (j = 8 ∨ j = 34 ∨ j = 35) ∨ k = 90 ∧ j = p ∨ szC k j = true) → σ'.1 k j = σ.1 k j ∧ σ'.2 k j = σ.2 k j) (g : ∀ k j, ¬ (62 ≤ k ∧ k ≤ 65 ∧ j = p ∨ szM k j = true) → τ'.1 k j = τ.1 k j ∧ τ'.2 k j = τ.2 k j) (e8 : σ'.1 8 8 = Int32.ofNat (kC F)) (e90 : σ'.1 90 p = Int32.ofNat L.length) (e34 : fhR σ' p L) (e63 : τ'.1 63 p = Int32.ofNat ms) (e64 : τ'.1 64 p = Int32.ofNat ks) (e62 : τ'.1 62 p = Int32.ofNat L.length) (e65 : τ'.1 65 p = Int32.ofNat L.length) (b1 : kC F ≤ 12500 * p + 12500) (b2 : ms ≤ 10000) (b3 : ks ≤ 2000) {A' MO' LA' : List Nat} (gga : gaR σ' τ' n (fpT FP p L) (p :: r) A' MO' LA') : MB σ0 τ0 n np p r (fpT FP p L) ρ A' MO' LA' σ' τ' := by
  have fx : lf (rxC p) σ σ' := fun k j q => f k j (fun z => by
    unfold rxC at q
    simp at q
    rcases z with z | z | z
    · omega
    · omega
    · rw [z] at q; simp at q)
  have gx : lf (rxM p) τ τ' := fun k j q => g k j (fun z => by
    unfold rxM at q
    simp at q
    rcases z with z | z
    · omega
    · rw [z] at q; simp at q)
  have c : ∀ k j, (k < 2 ∨ 2 < k) ∧ k ≠ 3 ∧ k ≠ 7 ∧ k ≠ 8 ∧ k ≠ 14 ∧ (k < 105 ∨ 108 < k) ∧ k ≠ 90 → σ'.1 k j = σ.1 k j ∧ σ'.2 k j = σ.2 k j := fun k j z => f k j (fun y => by
    rcases y with y | y | y
    · omega
    · omega
    · rw [szC_f (by omega)] at y; cases y)
  have m : ∀ k j, k ≠ 0 ∧ k ≠ 8 ∧ (k < 88 ∨ 91 < k) ∧ (k < 62 ∨ 65 < k) → τ'.1 k j = τ.1 k j ∧ τ'.2 k j = τ.2 k j := fun k j z => g k j (fun y => by
    rcases y with y | y
    · omega
    · rw [szM_f (by omega)] at y; cases y)
  have c7 : ∀ j, ¬ (j = 27 ∨ j = 28) → σ'.1 7 j = σ.1 7 j := fun j z => (f 7 j (fun y => by
    rcases y with y | y | y
    · omega
    · omega
    · rw [szC_f (by omega)] at y; cases y)).1
  have c8 : ∀ j, ¬ (j = 8 ∨ j = 34 ∨ j = 35 ∨ j = 38 ∨ 41 ≤ j ∧ j ≤ 44) → σ'.1 8 j = σ.1 8 j := fun j z => (f 8 j (fun y => by
    rcases y with y | y | y
    · omega
    · omega
    · rw [szC_f (by omega)] at y; cases y)).1
  have m0 : ∀ j, ¬ (j = 20 ∨ j = 90 ∨ j = 91 ∨ 129 ≤ j ∧ j ≤ 145) → τ'.1 0 j = τ.1 0 j ∧ τ'.2 0 j = τ.2 0 j := fun j z => g 0 j (fun y => by
    rcases y with y | y
    · omega
    · rw [szM_f (by omega)] at y; cases y)
  have vC : ∀ k j, vqC k j = true → σ'.1 k j = σ.1 k j := fun k j q => (rx_eq fx (by unfold vqC at q; simp at q; omega)).1
  have vM : ∀ k j, vqM k j = true → τ'.1 k j = τ.1 k j := fun k j q => (rx_eqM gx (by unfold vqM at q; simp at q; omega)).1
  have hv : ∀ a b, vR σ τ a b → vR σ' τ' a b := fun a b w => w.cg vC vM
  have oa : ∀ o k, obA σ' τ' o k ↔ obA σ τ o k := fun o k => by unfold obA lv; rw [vC 7 0 rfl, vC 57 o rfl, vM 38 o rfl]
  have ls : ∀ q a, lsL (fpT FP p L q) a ↔ lsL (FP q) a := fun q a => by
    by_cases z : q = p
    · rw [z, fpT_o, hF]
      constructor
      · rintro ⟨G, hG, wG⟩; exact ⟨G, List.mem_cons_of_mem _ hG, wG⟩
      · rintro ⟨G, hG, wG⟩
        rcases List.mem_cons.1 hG with e | e
        · rw [e] at wG; exact absurd wG (hnl a)
        · exact ⟨G, e, wG⟩
    · unfold fpT; rw [if_neg z]
  obtain ⟨p1, ⟨p2, p3, p4, p5⟩, p6, p7, p8, p9, p10, p11⟩ := hpa
  rw [hF, List.length_cons] at p2
  refine h.rx fx gx (fun _ _ _ _ => rfl) ((h.2.2.2.2.2.2.2.2.2.1.cg hv (fun k j w => ?_) (fun j => (c 76 j (by omega)).2) (fun q s w => ⟨by unfold cv; rw [(c 79 s (by omega)).1, (c 80 s (by omega)).2], (c 81 s (by omega)).1⟩) (fun k j w => ?_) (fun j => (m 55 j (by omega)).2)).fp ls) ⟨kC F, ms, ks, ?_⟩ e34 gga (fun j z => by rw [(c 81 j (by omega)).1]; exact h.2.2.2.2.2.2.2.2.2.2.2.2.1 j (fun q w => z q ((ls q j).2 w)))
  · rcases w with w | w | w | w | w | w | w
    · exact (c k j (by omega)).1
    · exact (c k j (by omega)).1
    · exact (c k j (by omega)).1
    · exact (c k j (by omega)).1
    · exact (c k j (by omega)).1
    · exact (c k j (by omega)).1
    · rw [w.1]; exact c7 j (by omega)
  · rcases w with w | w | w | w | w | w
    · exact (m k j (by omega)).1
    · exact (m k j (by omega)).1
    · exact (m k j (by omega)).1
    · exact (m k j (by omega)).1
    · exact (m k j (by omega)).1
    · rw [w.1]; exact (m0 j (by omega)).1
  · unfold paR
    rw [fpT_o, if_pos rfl]
    exact ⟨prt_cg hv (oG_eq vC vM) (fun o _ => (c 62 o (by omega)).1) hp (fun j _ _ _ => ⟨(c 79 j (by omega)).1, (c 80 j (by omega)).2, (c 81 j (by omega)).1⟩) (fun k i w1 w2 w3 => (c k _ (by omega)).1) (fun j w => ⟨(m 71 _ (by omega)).1, (m 72 _ (by omega)).2⟩) (fun j w => (m 73 _ (by omega)).1) (fun k i w1 w2 w3 => (m k _ (by omega)).1) (fun i x _ _ => (m 87 _ (by omega)).1) (fun a _ => rfl), ⟨by omega, b1, b2, b3⟩, e8, e90, e63, e64, e62, e65⟩
theorem MB.gA {σ0 τ0 σ τ : lj_S} {n np p : Nat} {r : List Nat} {FP : Nat → List kF} {ρ : Nat → Nat} {A MO LA A' MO' LA' : List Nat} (h : MB σ0 τ0 n np p r FP ρ A MO LA σ τ) (gga : gaR σ τ n FP (p :: r) A' MO' LA') : MB σ0 τ0 n np p r FP ρ A' MO' LA' σ τ := by
  obtain ⟨h1, h2, h3, h4, h5, h6, h7, h8, h9, h10, h11, h12, h13⟩ := h
  exact ⟨h1, h2, h3, h4, h5, h6, h7, h8, h9, h10, gga, h12, h13⟩
def gzC (k j : Nat) : Bool := k == 102 || k == 103 || (k == 8 && (j == 33 || j == 51))
def gzM (k j : Nat) : Bool := k == 85 || (k == 0 && (j == 152 || j == 153))
/-- what the gathering keeps changes -/
theorem MB.gz {σ0 τ0 σ τ : lj_S} {n np p : Nat} {r : List Nat} {FP : Nat → List kF} {ρ : Nat → Nat} {A MO LA MO' LA' : List Nat} (h : MB σ0 τ0 n np p r FP ρ A MO LA σ τ) {σ' τ' : lj_S} (f : lf gzC σ σ') (g : lf gzM τ τ') (gga : gaR σ' τ' n FP (p :: r) A MO' LA') : MB σ0 τ0 n np p r FP ρ A MO' LA' σ' τ' := by
  have c : ∀ k j, ¬ (k = 102 ∨ k = 103 ∨ k = 8 ∧ (j = 33 ∨ j = 51)) → σ'.1 k j = σ.1 k j ∧ σ'.2 k j = σ.2 k j := fun k j z => f k j (by unfold gzC; simp; omega)
  have m : ∀ k j, ¬ (k = 85 ∨ k = 0 ∧ (j = 152 ∨ j = 153)) → τ'.1 k j = τ.1 k j ∧ τ'.2 k j = τ.2 k j := fun k j z => g k j (by unfold gzM; simp; omega)
  obtain ⟨hO, oA⟩ := oA_eq (σ := σ) (τ := τ) (σ' := σ') (τ' := τ') (c 7 0 (by omega)).1 (fun j => (c 57 j (by omega)).1) (fun j => (m 38 j (by omega)).1)
  have vC : ∀ k j, vqC k j = true → σ'.1 k j = σ.1 k j := fun k j q => (c k j (by unfold vqC at q; simp at q; omega)).1
  have vM : ∀ k j, vqM k j = true → τ'.1 k j = τ.1 k j := fun k j q => (m k j (by unfold vqM at q; simp at q; omega)).1
  have hv : ∀ a b, vR σ τ a b → vR σ' τ' a b := fun a b w => w.cg vC vM
  exact h.up (fun k j q => c k j (by unfold kpC at q; simp at q; omega)) (fun k j q => m k j (by unfold kpM at q; simp at q; omega)) (fun j _ => ⟨(c 79 j (by omega)).1, (c 80 j (by omega)).2, (c 81 j (by omega)).1⟩) (fun _ _ _ => rfl) (sG_eq vC vM) hO (fun o _ => (c 62 o (by omega)).1) (fun o _ => (c 64 o (by omega)).1) (fun o w => (oA o 6).1 w) (Nat.le_refl _) (h.2.1.cg (fun k j q => (c k j (by unfold sqC at q; simp at q; omega)).1) (fun k j q => (m k j (by unfold sqM at q; simp at q; omega)).1)) (h.2.2.2.1.cg (fun k j q => c k j (by unfold hqC vqC at q; simp at q; omega)) (fun k j q => m k j (by unfold hqM vqM at q; simp at q; omega))) (h.2.2.2.2.1.cg (fun k j q => (c k j (by omega)).1) (fun k j q => (m k j (by omega)).1)) (fun o q w1 w2 w3 => h.2.2.2.2.2.1 o q ((oA o 5).1 w1) w2 (by rw [← (c 62 o (by omega)).1]; exact w3)) (h.2.2.2.2.2.2.2.2.2.1.cg hv (fun k j w => (c k j (by omega)).1) (fun j => (c 76 j (by omega)).2) (fun q s w => ⟨by unfold cv; rw [(c 79 s (by omega)).1, (c 80 s (by omega)).2], (c 81 s (by omega)).1⟩) (fun k j w => (m k j (by omega)).1) (fun j => (m 55 j (by omega)).2)) gga
/-- a frame is no more at work -/
theorem MB.un {σ0 τ0 σ τ : lj_S} {n np p : Nat} {r : List Nat} {FP : Nat → List kF} {ρ : Nat → Nat} {A MO LA : List Nat} {f : Nat} (h : MB σ0 τ0 n np p r FP ρ (f :: A) MO LA σ τ) : MB σ0 τ0 n np p r FP ρ A MO LA (lj_put σ 102 f 0) τ := by
  obtain ⟨g1, ⟨g2, g3, g4, g5⟩, g6, g7, g8, g9⟩ := h.2.2.2.2.2.2.2.2.2.2.1
  have e : ∀ k j, k ≠ 102 → (lj_put σ 102 f 0).1 k j = σ.1 k j := fun k j z => by rw [lj_put_1, if_neg (by omega)]
  have oA : ∀ o k, obA σ τ o k → obA (lj_put σ 102 f 0) τ o k := fun o k w => ⟨w.1, w.2.1, by unfold lv; rw [e 7 0 (by omega)]; exact w.2.2.1, by rw [e 57 o (by omega)]; exact w.2.2.2.1, w.2.2.2.2⟩
  have gr : ∀ B : List Nat, (∀ i, i ∉ B → (lj_put σ 102 f 0).1 102 i = 0) → gaR (lj_put σ 102 f 0) τ n FP (p :: r) B MO LA := fun B w => by
    obtain ⟨a1, a2, a3, a4, a5, a6, a7⟩ := g1
    refine ⟨⟨by unfold lv at a1 ⊢; rw [e 8 53 (by omega)]; exact a1, fun i hi => by rw [e 110 i (by omega)]; exact a2 i hi, a3, fun t ht => ⟨oA _ _ (a4 t ht).1, (a4 t ht).2⟩, a5, a6, fun t t1 t2 => by rw [e 57 t (by omega), e 65 t (by omega)]; exact a7 t t1 t2⟩, ⟨by unfold lv at g2 ⊢; rw [e 8 33 (by omega)]; exact g2, g3, g4, fun i hi => ⟨oA _ _ (g5 i hi).1, by rw [e 104 i (by omega)]; exact (g5 i hi).2.1, (g5 i hi).2.2⟩⟩, g6.up oA (e 57 0 (by omega)), gaC_cg (fun k i z => e k i (by omega)) (fun _ _ _ => rfl) (fun _ _ _ z => z) g7, w, by rw [e 8 51 (by omega)]; exact g9⟩
  refine (h.gz (σ' := lj_put σ 102 f 0) (τ' := τ) (lf_put (lf_rf _ _) _ _ _ rfl) (lf_rf _ _) (gr (f :: A) (fun i hi => ?_))).gA (gr A (fun i hi => ?_))
  · rw [lj_put_1, if_neg (fun z => hi (by rw [z.2]; exact List.mem_cons_self))]
    exact g8 i hi
  · by_cases z : i = f
    · rw [lj_put_1, if_pos ⟨rfl, z⟩]
    · rw [lj_put_1, if_neg (fun y => z y.2)]
      exact g8 i (fun y => by
        rcases List.mem_cons.1 y with y | y
        · exact z y
        · exact hi y)
theorem cPu_102 (σ : lj_S) (t : Nat) (u : vT) (f : Nat) (x : Int32) : lj_put (cPu σ t u) 102 f x = cPu (lj_put σ 102 f x) t u := st_ext (fun k j => by
  rw [lj_put_1, cPu_1, cPu_1, lj_put_1]
  by_cases z : k = 102 ∧ j = f
  · rw [if_pos z, if_neg (by omega), if_neg (by omega), if_neg (by omega), if_pos z]
  · rw [if_neg z, if_neg z]) (fun k j => by
  rw [cPu_2]
  show (cPu σ t u).2 k j = _
  rw [cPu_2]
  rfl)
theorem cPus_102 (f : Nat) (x : Int32) : ∀ (G : List vT) (σ : lj_S) (t : Nat), lj_put (cPus σ t G) 102 f x = cPus (lj_put σ 102 f x) t G
  | [], _, _ => rfl
  | u :: G, σ, t => by
    show lj_put (cPus (cPu σ t u) (t + 1) G) 102 f x = cPus (cPu (lj_put σ 102 f x) t u) (t + 1) G
    rw [cPus_102 f x G, cPu_102]
theorem hfS_102 (σ : lj_S) (i ce : Nat) (G : List vT) (f : Nat) (x : Int32) : lj_put (hfS σ i ce G) 102 f x = hfS (lj_put σ 102 f x) i ce G := by
  unfold hfS
  rw [cPus_102, cPu_102, put_cm _ _ _ (show ¬ (97 = 102 ∧ i = f) by omega)]
  rfl
theorem vR.un {σ τ : lj_S} {a b : vT} (h : vR σ τ a b) (f : Nat) (x : Int32) : vR (lj_put σ 102 f x) τ a b := h.cg (fun k j q => by rw [lj_put_1, if_neg (by unfold vqC at q; simp at q; omega)]) (fun _ _ _ => rfl)
theorem runR.un {σ0 τ0 σ τ : lj_S} {n np p : Nat} {r : List Nat} {FP : Nat → List kF} {A MO LA : List Nat} {f : Nat} (h : runR σ0 τ0 n np p r FP (f :: A) MO LA σ τ) : runR σ0 τ0 n np p r FP A MO LA (lj_put σ 102 f 0) τ := by
  have e : ∀ (s : lj_S) k j, k ≠ 102 → (lj_put s 102 f 0).1 k j = s.1 k j := fun s k j z => by rw [lj_put_1, if_neg (by omega)]
  rcases h with ⟨ρ, F, L, h1, h2, h3, h4, h5, h6⟩ | ⟨ρ, F, L, σw, G, G', ce, h1, h2, h3, h4, h5, h6, h7, h8, h9, h10⟩
  · exact Or.inl ⟨ρ, F, L, h1, h2, h3, h4, h5.un, by rw [e σ 8 46 (by omega)]; exact h6.1, h6.2.1, h6.2.2.1, by rw [e σ 8 45 (by omega)]; exact h6.2.2.2.1, h6.2.2.2.2⟩
  · obtain ⟨⟨d1, d2, d3, d4, d5⟩, d6, d7, d8⟩ := h7
    refine Or.inr ⟨ρ, F, L, lj_put σw 102 f 0, G, G', ce, h1, h2, h3, h4.un, by rw [e σw 8 8 (by omega)]; exact h5, h6, ⟨⟨by rw [e σw 8 46 (by omega)]; exact d1, d2, d3, by rw [e σw 8 45 (by omega)]; exact d4, d5⟩, ⟨by unfold lv; rw [e σw 8 41 (by omega)]; exact d6.1, fun j hj => by rw [e σw 107 j (by omega)]; exact d6.2 j hj⟩, d7, ⟨d8.1, d8.2.1, fun j => (d8.2.2 j).un f 0⟩⟩, h8, h9, ?_⟩
    rw [h10, hfS_102]
theorem QR.un {σ τ : lj_S} {n : Nat} (h : QR σ τ n) (f : Nat) (x : Int32) : QR (lj_put σ 102 f x) τ n := h.cg (fun k j q => ⟨by rw [lj_put_1, if_neg (by unfold qrC sqC hqC vqC at q; simp at q; omega)], rfl⟩) (fun _ _ _ => ⟨rfl, rfl⟩)
theorem lsR.un {σ0 τ0 σ τ : lj_S} (h : lsR σ0 τ0 σ τ) (f : Nat) (x : Int32) : lsR σ0 τ0 (lj_put σ 102 f x) τ := by
  have g : sG σ τ (lj_put σ 102 f x) τ := sG_eq (fun k j q => by rw [lj_put_1, if_neg (by unfold vqC at q; simp at q; omega)]) (fun _ _ _ => rfl)
  refine ⟨⟨fun k j q => ?_, h.1.2⟩, h.2.1.up g (fun j => by rw [lj_put_1, if_neg (by omega)]) (by rw [lj_put_1, if_neg (by omega)]) (by rw [lj_put_1, if_neg (by omega)]), h.2.2.tr g⟩
  have w := h.1.1 k j q
  exact ⟨by rw [lj_put_1, if_neg (by unfold cdC at q; simp at q; omega)]; exact w.1, w.2⟩
theorem eoR.un {σ0 τ0 σ τ : lj_S} {n np p : Nat} {r : List Nat} {FP : Nat → List kF} {ρ : Nat → Nat} {A MO LA : List Nat} {f : Nat} (h : eoR σ0 τ0 n np p r FP ρ (f :: A) MO LA σ τ) : eoR σ0 τ0 n np p r FP ρ A MO LA (lj_put σ 102 f 0) τ := by
  have e : ∀ k j, k ≠ 102 → (lj_put σ 102 f 0).1 k j = σ.1 k j := fun k j z => by rw [lj_put_1, if_neg (by omega)]
  obtain ⟨h1, h2, h3, h4⟩ := h
  refine ⟨by rw [e 8 46 (by omega)]; exact h1, by rw [e 8 45 (by omega)]; exact h2, h3, ?_⟩
  rcases h4 with ⟨w1, w2, w3, w4⟩ | ⟨w1, w2, w3, w4, hx, w5, w6⟩
  · exact Or.inl ⟨by rw [e 2 6 (by omega)]; exact w1, w2, w3.un f 0, w4.un f 0⟩
  · exact Or.inr ⟨by rw [e 2 6 (by omega)]; exact w1, w2, w3, by rw [e 8 42 (by omega)]; exact w4.un f 0, hx, w5.un, w6⟩
theorem finR.un {σ0 τ0 σ τ : lj_S} (h : finR σ0 τ0 σ τ) (f : Nat) : finR σ0 τ0 (lj_put σ 102 f 0) τ := by
  have e : ∀ k j, k ≠ 102 → (lj_put σ 102 f 0).1 k j = σ.1 k j := fun k j z => by rw [lj_put_1, if_neg (by omega)]
  obtain ⟨h1, h2, h3, ⟨n, h4⟩, h5, h6, G, G', h7, h8, h9, h10⟩ := h
  obtain ⟨l1, l2, l3⟩ := lsR.un ⟨h1, h2, h3⟩ f 0
  exact ⟨l1, l2, l3, ⟨n, h4.un f 0⟩, by rw [e 8 46 (by omega)]; exact h5, by rw [e 8 47 (by omega)]; exact h6, G, G', ⟨by unfold lv; rw [e 8 41 (by omega)]; exact h7.1, fun j hj => by rw [e 107 j (by omega)]; exact h7.2 j hj⟩, h8, h9, ⟨h10.1, h10.2.1, fun j => (h10.2.2 j).un f 0⟩⟩
theorem wkR.un {FP : Nat → List kF} {ch A : List Nat} {σ : lj_S} {f : Nat} (h : wkR FP ch (f :: A) σ) (hf : f ∉ A) : wkR FP ch A (lj_put σ 102 f 0) := ⟨fun i hi => by rw [lj_put_1, if_neg (fun z => hf (by rw [← z.2]; exact hi))]; exact h.1 i (List.mem_cons_of_mem _ hi), (List.sublist_cons_self f A).trans h.2.1, h.2.2⟩
