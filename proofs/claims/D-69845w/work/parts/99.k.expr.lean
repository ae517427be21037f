/-! chains -/
def chR (b : Nat → Int32) (n T : Nat) (Q : tkQ) (X : List Int32 → Prop) (FO : List fT) (Z : List zT) (PL : List qT) (cl ml : Nat) (v : Nat) (W : List wT) (f : Nat) (s l : List Nat) (N : List lT) (F p c m : Nat) (σ τ : lj_S) (oC oM : Option lj_O) : Prop :=
  fltR n oC oM ∨ ∃ what σ' τ' p' c' m' wh' F' N', oC = some (.inl (some (.int what)), σ') ∧ oM = mLoop τ' ∧ PS b n T Q X F' N' FO Z PL cl ml p' v c' m' wh' W σ' τ' ∧ GR N N' F F' p p' c c' m m' σ τ σ' τ' ∧ p < p' ∧ c' + 12 ≤ c + 25 * (p' - p) ∧ m' + 12 ≤ m + 25 * (p' - p) ∧ chS f s l N' c m c' m' what σ' τ'
theorem chS_cases {f : Nat} {s l : List Nat} {N : List lT} {c0 m0 c m : Nat} {what : Int32} {σ τ : lj_S} (h : chS f s l N c0 m0 c m what σ τ) : what = 0 ∨ what = 1 ∨ (what = 3 ∨ what = 4 ∨ what = 5 ∨ what = 6) := by
  rcases h with ⟨q, _⟩ | ⟨q, _⟩ | ⟨srt, v, v', a, a', q, _⟩ | ⟨q, _⟩
  · exact Or.inl q
  · exact Or.inr (Or.inl q)
  · rcases q with e | e | e
    · exact Or.inr (Or.inr (Or.inl e))
    · exact Or.inr (Or.inr (Or.inr (Or.inl e)))
    · exact Or.inr (Or.inr (Or.inr (Or.inr (Or.inl e))))
  · exact Or.inr (Or.inr (Or.inr (Or.inr (Or.inr q))))
theorem chS_pop {f : Nat} {s l : List Nat} {N : List lT} {c0 m0 c m : Nat} {what : Int32} {σ τ : lj_S} (h : chS f s l N c0 m0 c m what σ τ) (x : Int32) : chS f s l N c0 m0 c m what σ (lj_put τ 0 46 x) := by
  have g : lf aM τ (lj_put τ 0 46 x) := lf_put (lf_rf _ _) _ _ _ rfl
  have o : ∀ k j, ¬ (k = 0 ∧ j = 46) → (lj_put τ 0 46 x).1 k j = τ.1 k j := fun k j q => by rw [lj_put_1, if_neg q]
  rcases chS_cases h with q | q | q
  · rcases h with ⟨_, q1, q2⟩ | ⟨q', _⟩ | ⟨srt, v, v', a, a', q', _⟩ | ⟨q', _⟩
    · exact Or.inl ⟨q, by rw [o 0 61 (by omega)]; exact q1, exS_cg0 q2 (putM_TX N σ τ _ g (fun _ => rfl)) (fun _ _ _ _ => rfl) (fun k j _ _ => o k j (by omega))⟩
    · rw [q] at q'; exact absurd q' (by decide)
    · rw [q] at q'; exact absurd q' (by decide)
    · rw [q] at q'; exact absurd q' (by decide)
  · rcases h with ⟨q', _⟩ | ⟨_, q1, m1, q2, q3⟩ | ⟨srt, v, v', a, a', q', _⟩ | ⟨q', _⟩
    · rw [q] at q'; exact absurd q' (by decide)
    · refine Or.inr (Or.inl ⟨q, by rw [o 0 61 (by omega)]; exact q1, m1, by rw [o 0 62 (by omega)]; exact q2, exS_cg q3 (putM_TX N σ _ _ (fun k j z => ?_) (fun _ => rfl)) (fun _ _ _ _ => rfl) (fun k j a b => ?_) ?_⟩)
      · refine ⟨?_, rfl⟩
        by_cases e : k = 0 ∧ j = 64
        · rw [e.1, e.2, lj_put_1, if_pos ⟨rfl, rfl⟩, lj_put_1, if_pos ⟨rfl, rfl⟩]
        · rw [lj_put_1, if_neg e, lj_put_1, if_neg (fun w => by rw [w.1, w.2] at z; exact absurd z (by decide)), lj_put_1, if_neg e]
      · rw [lj_put_1, if_neg (by omega), lj_put_1, if_neg (by omega), lj_put_1, if_neg (by omega)]
      · rw [lj_put_1, if_pos ⟨rfl, rfl⟩, lj_put_1, if_pos ⟨rfl, rfl⟩]
    · rw [q] at q'; exact absurd q' (by decide)
    · rw [q] at q'; exact absurd q' (by decide)
  · exact chS_M h q g rfl (fun k j a b => o k j (by omega)) (fun j hj => o 0 j (by omega))
/-- what a chain means comes uppermost in both -/
theorem ch_val {b : Nat → Int32} {n T : Nat} {Q : tkQ} {X : List Int32 → Prop} {F : Nat} {N : List lT} {FO : List fT} {Z : List zT} {PL : List qT} {cl ml p v c m wh : Nat} {W : List wT} {σ τ : lj_S} (h : PS b n T Q X F N FO Z PL cl ml p v c m wh W σ τ) {f : Nat} {s l : List Nat} {ha ho : Nat} (hN : hdN N f l) (hFO : hdF ha ho FO s) {c0 m0 : Nat} {what : Int32} (hS : chS f s l N c0 m0 c m what σ τ) (hc0 : c0 ≤ c) (hm0 : m0 ≤ m) (hc : c + 1 ≤ 25 * p + 100) (hm : m + 1 ≤ 25 * p + 100) (hT5 : T ≤ 520) (hB : sB s := by assumption) :
    ∃ σ' τ' c' m', lj_R lc_P 78 [.ref 6, .int what] σ = some (.inl none, σ') ∧ lj_R lm_P 53 [.ref 0] τ = some (.inl none, τ') ∧ PS b n T Q X F N FO Z PL cl ml p v c' m' wh W σ' τ' ∧ exS f s l N c0 m0 c' m' 0 σ' τ' ∧ c ≤ c' ∧ c' ≤ c + 1 ∧ m ≤ m' ∧ m' ≤ m + 1 ∧ TX N σ τ σ' τ' ∧ fz 0 c 0 m σ τ σ' τ' := by
  rcases chS_cases hS with q | q | q
  · rcases hS with ⟨_, q1, q2⟩ | ⟨q', _⟩ | ⟨srt, v, v', a, a', q', _⟩ | ⟨q', _⟩
    · subst q
      refine ⟨σ, τ, c, m, c_get0 σ, ?_, h, q2, Nat.le_refl _, by omega, Nat.le_refl _, by omega, TX_rf _ _ _, fz_rf _ _ _ _ _ _⟩
      rw [rm_53, km_53_0, q1, if_pos (by decide), if_neg (by decide), km_53_55]
    · rw [q] at q'; exact absurd q' (by decide)
    · rw [q] at q'; exact absurd q' (by decide)
    · rw [q] at q'; exact absurd q' (by decide)
  · rcases hS with ⟨q', _⟩ | ⟨_, q1, m1, q2, q3⟩ | ⟨srt, v, v', a, a', q', _⟩ | ⟨q', _⟩
    · rw [q] at q'; exact absurd q' (by decide)
    · subst q
      have g : lf aM τ (lj_put τ 0 64 (Int32.ofNat m1)) := lf_put (lf_rf _ _) _ _ _ rfl
      have g' : lf aM (lj_put τ 0 64 (Int32.ofNat m1)) τ := fun k j z => ⟨by rw [lj_put_1, if_neg (fun w => by rw [w.1, w.2] at z; exact absurd z (by decide))], rfl⟩
      have o : ∀ k j, ¬ (k = 0 ∧ j = 64) → (lj_put τ 0 64 (Int32.ofNat m1)).1 k j = τ.1 k j := fun k j q => by rw [lj_put_1, if_neg q]
      have h' := h.up (lf_rf _ _) g (hnd_ch h.2.1 0 64 (Int32.ofNat m1) (by omega)) h.2.2.1 (Nat.le_refl _) (Nat.le_refl _) (fun i _ => o 21 i (by omega))
      obtain ⟨σ', c', r1, r2, r3, r4, r5, r6, r7, r8⟩ := ex_get h' q3 hc hT5 hc0 hm0
      have t1 : TX N σ τ σ (lj_put τ 0 64 (Int32.ofNat m1)) := putM_TX N σ τ _ g (fun _ => rfl)
      have t2 : TX N σ' (lj_put τ 0 64 (Int32.ofNat m1)) σ' τ := putM_TX N σ' _ τ g' (fun _ => rfl)
      have hh := r2.2.1
      have hb2 := r2.2.2.1
      refine ⟨σ', τ, c', m, r1, ?_, r2.up (lf_rf _ _) g' ⟨hh.1, h.2.1.2.1, hh.2.2.1, h.2.1.2.2.2.1, hh.2.2.2.2.1, h.2.1.2.2.2.2.2.1, hh.2.2.2.2.2.2.1, h.2.1.2.2.2.2.2.2.2.1, h.2.1.2.2.2.2.2.2.2.2.1, h.2.1.2.2.2.2.2.2.2.2.2⟩ hb2 (Nat.le_refl _) (Nat.le_refl _) (fun i _ => (o 21 i (by omega)).symm), exS_cg0 r3 t2 (fun _ _ _ _ => rfl) (fun k j a b => (o k j (by omega)).symm), r4, r5, Nat.le_refl _, by omega, (t1.tr r6 (fun _ _ q => q)).tr t2 (fun _ _ q => q), ⟨r7.1, fun _ _ _ _ _ _ => rfl⟩⟩
      rw [rm_53, km_53_0, q1, if_pos (by decide), if_neg (by decide), km_53_55]
    · rw [q] at q'; exact absurd q' (by decide)
    · rw [q] at q'; exact absurd q' (by decide)
  · obtain ⟨σ', τ', r1, r2, r3, r4, r5, r6, _⟩ := ch_get h hN hFO hS q hc0 hm0 hc hm hT5
    exact ⟨σ', τ', c + 1, m + 1, r1, r2, r3, r4, by omega, by omega, by omega, by omega, r5, r6⟩
