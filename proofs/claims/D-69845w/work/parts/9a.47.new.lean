/-! a local more -/
theorem frm_re {σ0 τ0 σ τ : lj_S} {ρ : Nat → Nat} {FP : Nat → List kF} {p : Nat} {F : kF} {L : List kF} {ms ks ce me mq : Nat} (V : vw σ0 τ0 σ τ ρ FP p F L ms ks ce me mq) (h0 : kS F = 0) {σ' τ' : lj_S} {ρ' : Nat → Nat} (f : lf (rzC p (20 * p + L.length) (kC F)) σ σ') (g : lf (rzM p (48 * p + L.length) ms ks) τ τ') {c' m' dd' n' w' ce' me' mq' : Nat} {s' l' : List Nat} (e94 : σ'.1 94 (20 * p + L.length) = Int32.ofNat c') (e77 : τ'.1 77 (48 * p + L.length) = Int32.ofNat m') (dC : ∀ j, kC F ≤ j → j < kB F → σ'.1 79 j = σ.1 79 j ∧ σ'.2 80 j = σ.2 80 j ∧ σ'.1 81 j = σ.1 81 j) (dM : ∀ j, j < kD F → τ'.1 71 (10000 * p + (ms + j)) = τ.1 71 (10000 * p + (ms + j)) ∧ τ'.2 72 (10000 * p + (ms + j)) = τ.2 72 (10000 * p + (ms + j))) (hs : stk σ' τ' p (kB F + nL σ0 (kY F).1) (kB F + nL σ0 (kY F).1 + 3 * nH σ0 (kY F).1) (ms + kD F) ks s' ce' me' mq' (σ'.1 97 (20 * p + L.length))) (hl : (∀ x ∈ l', x < nL σ0 (kY F).1 ∧ τ'.1 87 (50 * (48 * p + L.length) + x) = Int32.ofNat (ρ' (kB F + x))) ∧ (∀ x, x < 50 → x ∉ l' → (x < dd' → τ'.1 87 (50 * (48 * p + L.length) + x) = -1) ∧ gdc (τ'.1 87 (50 * (48 * p + L.length) + x))) ∧ (∀ x, x < nL σ0 (kY F).1 → x ∉ l' → σ'.1 81 (kB F + x) = -1) ∧ (∀ i, i < 3 * nH σ0 (kY F).1 → σ'.1 81 (kB F + nL σ0 (kY F).1 + i) = -1) ∧ (flo s').length ≤ nH σ0 (kY F).1) (hO : sOK s') (hn : n' = 0 ∧ w' = 0 ∨ n' ≠ 0 ∧ wtR σ0 τ0 (kY F).1 c' m' s' l' dd' (n' - 1) w') (hw : w' ≠ 0 → ((1 ≤ c' ∧ c' ≤ 14000) ∧ scl σ0 (kY F).1 (c' - 1) s' l' dd') ∧ ∀ x ∈ s', x ≠ 5) : frm σ0 τ0 σ' τ' ρ' p L.length (kTo F c' m' s' l' dd' n' w') ms ks ce' me' mq' := by
  have B := V.bd
  have nl := V.ff.1
  have vC : ∀ k j, vqC k j = true → σ'.1 k j = σ.1 k j := fun k j q => (rz_eq f (by unfold vqC at q; simp at q; omega)).1
  have vM : ∀ k j, vqM k j = true → τ'.1 k j = τ.1 k j := fun k j q => (rz_eqM g (by unfold vqM at q; simp at q; omega)).1
  obtain ⟨⟨f1, f2, f3⟩, f4⟩ := V.2.2.1
  obtain ⟨⟨a1, a2, a3, a4, a5⟩, ⟨b1, b2, b3, b4, b5⟩, t3, t4, _, t9⟩ := V.2.2.2.2.1
  have cf : ∀ k, 91 ≤ k → k ≤ 98 → k ≠ 94 → k ≠ 97 → σ'.1 k (20 * p + L.length) = σ.1 k (20 * p + L.length) := fun k w1 w2 w3 w4 => (rz_eq f (by omega)).1
  have mf : ∀ k, 74 ≤ k → k ≤ 82 → k ≠ 77 → τ'.1 k (48 * p + L.length) = τ.1 k (48 * p + L.length) := fun k w1 w2 w3 => (rz_eqM g (by omega)).1
  refine ⟨⟨by rw [cf 95 (by decide) (by decide) (by decide) (by decide)]; exact f1, by rw [mf 80 (by decide) (by decide) (by decide)]; exact f2, by rw [mf 81 (by decide) (by decide) (by decide)]; exact f3⟩, Or.inl ⟨rfl, ⟨by rw [cf 91 (by decide) (by decide) (by decide) (by decide)]; exact a1, by rw [cf 92 (by decide) (by decide) (by decide) (by decide)]; exact a2, by rw [cf 93 (by decide) (by decide) (by decide) (by decide)]; exact a3, e94, by rw [cf 96 (by decide) (by decide) (by decide) (by decide)]; exact a5⟩, ⟨by rw [mf 74 (by decide) (by decide) (by decide)]; exact b1, by rw [mf 75 (by decide) (by decide) (by decide)]; exact b2, by rw [mf 76 (by decide) (by decide) (by decide)]; exact b3, e77, by rw [mf 82 (by decide) (by decide) (by decide)]; exact b5⟩, fun i hi => ?_, hs, hl, ⟨⟨nl.1, nl.2.1, nl.2.2.1, hO, nl.2.2.2.2⟩, t9.2.1.imp id (fun z => ⟨z.1.up (oG_eq vC vM), by show σ'.1 62 (kO F) = _; rw [(rz_eq f (k := 62) (j := kO F) (by omega)).1]; exact z.2⟩), hn, hw⟩⟩⟩
  have hi : i < kD F := hi
  obtain ⟨c1, c2⟩ := t3 i hi
  obtain ⟨o1, o2, o3⟩ := dC (kC F + i) (by omega) (by omega)
  obtain ⟨o4, o5⟩ := dM i hi
  show vR σ' τ' (cv σ' (kC F + i)) (mv τ' (10000 * p + (ms + i))) ∧ σ'.1 81 (kC F + i) = -1
  unfold cv mv at c1 ⊢
  rw [o1, o2, o3, o4, o5]
  exact ⟨c1.cg vC vM, c2⟩
/-- variables: one more that lives -/
theorem clR.new {σ0 σ τ σ' τ' : lj_S} {FP FP' : Nat → List kF} {ρ : Nat → Nat} {n p a c : Nat} (h : clR σ0 σ τ FP ρ n) (hn : n ≤ 2000) (hv : ∀ x y, vR σ τ x y → vR σ' τ' x y) (hC : ∀ k j, (k = 57 ∨ k = 62 ∨ k = 63 ∨ k = 74 ∨ k = 75 ∨ k = 77 ∨ k = 7 ∧ (j = 0 ∨ j = 21 ∨ j = 25)) → σ'.1 k j = σ.1 k j) (h76 : ∀ j, σ'.2 76 j = σ.2 76 j) (hl : ∀ q s, lsL (FP q) s → cv σ' s = cv σ s ∧ σ'.1 81 s = σ.1 81 s) (hM : ∀ k j, (k = 38 ∨ k = 44 ∨ k = 58) → τ'.1 k j = τ.1 k j) (hp4 : τ.1 58 p ≠ 4) (h54 : ∀ x, x ≠ c → τ'.1 54 x = τ.1 54 x ∧ τ'.2 55 x = τ.2 55 x) (hf : ∀ q b, lsL (FP' q) b ↔ lsL (FP q) b ∨ q = p ∧ b = a) (ha : a < 325000) (hna : ∀ q, ¬ lsL (FP q) a) (hc : c < 95000) (hcn : ∀ b, usd σ0 σ τ FP b → ρ b ≠ c) {Fc : List Nat} (f1 : fcM τ' Fc) (f2 : lv τ' 0 96 = (Fc.length : Int)) (f3 : (c :: Fc).Nodup) (f4 : ∀ x ∈ Fc, x < 95000 ∧ ∀ b, usd σ0 σ τ FP b → ρ b ≠ x) (h81 : σ'.1 81 a = -1) (hva : vR σ' τ' (cv σ' a) (τ'.1 54 c, τ'.2 55 c)) : clR σ0 σ' τ' FP' (fun b => if b = a then c else ρ b) n := by
  have e57 : ∀ j, σ'.1 57 j = σ.1 57 j := fun j => hC 57 j (by omega)
  have e62 : ∀ j, σ'.1 62 j = σ.1 62 j := fun j => hC 62 j (by omega)
  have e63 : ∀ j, σ'.1 63 j = σ.1 63 j := fun j => hC 63 j (by omega)
  have e74 : ∀ j, σ'.1 74 j = σ.1 74 j := fun j => hC 74 j (by omega)
  have e75 : ∀ j, σ'.1 75 j = σ.1 75 j := fun j => hC 75 j (by omega)
  have e77 : ∀ j, σ'.1 77 j = σ.1 77 j := fun j => hC 77 j (by omega)
  have e70 : σ'.1 7 0 = σ.1 7 0 := hC 7 0 (by omega)
  have m38 : ∀ j, τ'.1 38 j = τ.1 38 j := fun j => hM 38 j (by omega)
  have m44 : ∀ j, τ'.1 44 j = τ.1 44 j := fun j => hM 44 j (by omega)
  have oa : ∀ o k, obA σ' τ' o k ↔ obA σ τ o k := fun o k => by unfold obA lv; simp only [e57, e70, m38]
  have m58 : ∀ j, τ'.1 58 j = τ.1 58 j := fun j => hM 58 j (by omega)
  have us : ∀ b, usd σ0 σ' τ' FP' b ↔ usd σ0 σ τ FP b ∨ b = a := fun b => by
    unfold usd cpO lv
    simp only [oa, e62, e63, e74, e77, m58]
    constructor
    · rintro (⟨q, w, y⟩ | w)
      · rcases (hf q b).1 w with w | w
        · exact Or.inl (Or.inl ⟨q, w, y⟩)
        · exact Or.inr w.2
      · exact Or.inl (Or.inr w)
    · rintro ((⟨q, w, y⟩ | w) | w)
      · exact Or.inl ⟨q, (hf q b).2 (Or.inl w), y⟩
      · exact Or.inr w
      · exact Or.inl ⟨p, (hf p b).2 (Or.inr ⟨rfl, w⟩), Or.inl hp4⟩
  have nu : ¬ usd σ0 σ τ FP a := fun w => by
    rcases w with ⟨q, w, _⟩ | ⟨_, _, _, _, _, w⟩
    · exact hna q w
    · omega
  have lo : ∀ x, loC σ' x = loC σ x := fun x => by unfold loC lv; rw [e74]
  have l21 : lv σ' 7 21 = lv σ 7 21 := by unfold lv; rw [hC 7 21 (by omega)]
  have l25 : lv σ' 7 25 = lv σ 7 25 := by unfold lv; rw [hC 7 25 (by omega)]
  have hcap := fun o f k w1 w2 w3 w4 r x y1 y2 y3 y4 => h.cap' (o := o) (f := f) (k := k) w1 w2 w3 w4 r x y1 y2 y3 y4 hn
  obtain ⟨h1, h2, _, h4, h5, h6, h7⟩ := h
  have va : ∀ b, usd σ0 σ τ FP b → vaC σ' b = vaC σ b := fun b w => by
    unfold vaC
    rcases w with ⟨q, w, _⟩ | ⟨o, k, x, _, _, w⟩
    · have := (h6 q b w).1
      rw [if_pos this, if_pos this, (hl q b w).1]
    · rw [if_neg (by omega), if_neg (by omega), e75, h76]
  refine ⟨fun b w => ?_, fun b b' w1 w2 e => ?_, ⟨Fc, f1, f2, (List.nodup_cons.1 f3).2, fun x hx => ⟨(f4 x hx).1, fun b w => ?_⟩⟩, fun o f w1 w2 w3 => ?_, fun x hx => ?_, fun q s w => ?_, by rw [l21, l25]; exact h7⟩
  · by_cases z : b = a
    · show (if b = a then c else ρ b) < 95000 ∧ _
      dsimp only
      rw [if_pos z, z]
      refine ⟨hc, ?_⟩
      unfold vaC
      rw [if_pos ha]
      exact hva
    · have w' := ((us b).1 w).resolve_right z
      obtain ⟨a1, a2⟩ := h1 b w'
      dsimp only
      rw [if_neg z, va b w', (h54 (ρ b) (hcn b w')).1, (h54 (ρ b) (hcn b w')).2]
      exact ⟨a1, hv _ _ a2⟩
  · dsimp only at e
    by_cases z : b = a
    · by_cases z' : b' = a
      · rw [z, z']
      · rw [if_pos z, if_neg z'] at e
        exact absurd e.symm (hcn b' (((us b').1 w2).resolve_right z'))
    · by_cases z' : b' = a
      · rw [if_neg z, if_pos z'] at e
        exact absurd e (hcn b (((us b).1 w1).resolve_right z))
      · rw [if_neg z, if_neg z'] at e
        exact h2 b b' (((us b).1 w1).resolve_right z) (((us b').1 w2).resolve_right z') e
  · dsimp only
    by_cases z : b = a
    · rw [if_pos z]
      intro e
      exact (List.nodup_cons.1 f3).1 (by rw [e]; exact hx)
    · rw [if_neg z]
      exact (f4 x hx).2 b (((us b).1 w).resolve_right z)
  · rw [e62] at w3
    obtain ⟨r, r1, r2, r3⟩ := h4 o f ((oa o 5).1 w1) w2 w3
    refine ⟨r, by rw [e63]; exact r1, by rw [l25]; exact r2, fun k hk => ?_⟩
    obtain ⟨x, c1, c2, c3⟩ := r3 k hk
    have ux := hcap o f k ((oa o 5).1 w1) w2 w3 hk r x r1 c1 c2 r2
    refine ⟨x, by rw [l21]; exact c1, by rw [e77]; exact c2, ?_⟩
    rw [m44, lo]
    dsimp only
    rw [if_neg (fun z => nu (by rw [← z]; exact ux))]
    exact c3
  · rw [l21] at hx
    rw [e74]
    rcases h5 x hx with w | ⟨s, ⟨q, s1⟩, s2, s3, s4⟩
    · exact Or.inl w
    · exact Or.inr ⟨s, ⟨q, (hf q s).2 (Or.inl s1)⟩, s2, s3, by rw [(hl q s s1).2]; exact s4⟩
  · rcases (hf q s).1 w with w | ⟨_, w⟩
    · obtain ⟨a1, a2⟩ := h6 q s w
      refine ⟨a1, ?_⟩
      rw [(hl q s w).2, l21]
      rcases a2 with z | ⟨x, c1, c2, c3⟩
      · exact Or.inl z
      · exact Or.inr ⟨x, c1, c2, by rw [e74]; exact c3⟩
    · rw [w]; exact ⟨ha, Or.inl h81⟩
