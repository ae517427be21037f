/-! an error goes up to what catches it -/
theorem x_overQ {σ0 τ0 σ τ : lj_S} {n : Nat} (hls : lsR σ0 τ0 σ τ) (hq : QR σ τ n) (b1 : σ.1 8 7 = 0) (hg0 : lj_g0 σ = true) {G G' : List vT} (hr : rsC σ G) (hm : rsM τ G') (hrw : rwE σ τ G G') (g : Bool) : ∃ σ' τ', lj_R lc_P 199 [.ref 8, .int (bif g then 1 else 0)] σ = some (.inl none, σ') ∧ lj_R lm_P 182 [.ref 0, .int (bif g then 1 else 2)] τ = some (.inl none, τ') ∧ finR σ0 τ0 σ' τ' ∧ ∀ j, σ'.1 103 j = σ.1 103 j := by
  obtain ⟨τ', e1, e2, e3, e4, e5⟩ := m_finish hm (by rw [← hrw.1]; have := hrw.2.1; omega) (bif g then 1 else 2)
  obtain ⟨σ', hσ'⟩ : ∃ σ', σ' = lj_put (lj_put σ 8 46 1) 8 47 (bif g then 0 else 1) := ⟨_, rfl⟩
  have o : ∀ k j, ¬ (k = 8 ∧ (j = 46 ∨ j = 47)) → σ'.1 k j = σ.1 k j ∧ σ'.2 k j = σ.2 k j := fun k j z => by
    rw [hσ']
    exact ⟨by rw [lj_put_1, if_neg (by omega), lj_put_1, if_neg (by omega)], rfl⟩
  have vC : ∀ k j, vqC k j = true → σ'.1 k j = σ.1 k j := fun k j q => (o k j (by unfold vqC at q; simp at q; omega)).1
  have vM : ∀ k j, vqM k j = true → τ'.1 k j = τ.1 k j := fun k j q => (e5 k j (by unfold vqM at q; simp at q; omega) (by unfold vqM at q; simp at q; omega) (by unfold vqM at q; simp at q; omega)).1
  have hG := sG_eq vC vM
  refine ⟨σ', τ', ?_, e1, ⟨⟨fun k j q => ?_, fun k j q => ?_⟩, hls.2.1.up hG (fun j => (o 78 j (by omega)).1) (o 8 1 (by omega)).1 (o 8 3 (by omega)).1, hls.2.2.tr hG, ⟨n, hq.cg (fun k j q => o k j ?_) (fun k j q => e5 k j ?_ ?_ ?_)⟩, ?_, ?_, G, G', ⟨?_, fun j hj => ?_⟩, e3, e4, hrw.1, hrw.2.1, fun j => (hrw.2.2 j).cg vC vM⟩, fun j => (o 103 j (by omega)).1⟩
  · rw [rc_199 _ _ hg0, kc_199_0, if_pos b1]
    cases g
    · rw [if_pos (by decide), kc_199_22, hσ']; rfl
    · rw [if_neg (by decide), kc_199_22, hσ']; rfl
  · obtain ⟨w1, w2⟩ := hls.1.1 k j q
    obtain ⟨v1, v2⟩ := o k j (by unfold cdC at q; simp at q; omega)
    exact ⟨v1.trans w1, v2.trans w2⟩
  · obtain ⟨w1, w2⟩ := hls.1.2 k j q
    obtain ⟨v1, v2⟩ := e5 k j (by unfold cdM at q; simp at q; omega) (by unfold cdM at q; simp at q; omega) (by unfold cdM at q; simp at q; omega)
    exact ⟨v1.trans w1, v2.trans w2⟩
  · unfold qrC sqC hqC vqC at q; simp at q; omega
  · unfold qrM sqM hqM vqM at q; simp at q; omega
  · unfold qrM sqM hqM vqM at q; simp at q; omega
  · unfold qrM sqM hqM vqM at q; simp at q; omega
  · rw [hσ']; exact (by simp [lj_put_1, lj_putL_1])
  · cases g
    · exact Or.inr ⟨by rw [hσ']; exact (by simp [lj_put_1, lj_putL_1]), e2⟩
    · exact Or.inl ⟨by rw [hσ']; exact (by simp [lj_put_1, lj_putL_1]), e2⟩
  · unfold lv
    rw [(o 8 41 (by omega)).1]
    exact hr.1
  · rw [(o 107 j (by omega)).1, (o 108 j (by omega)).2]
    exact hr.2 j hj
/-- the model's height does not matter to what is kept for a load and for questions -/
theorem MB.q63 {σ0 τ0 σ τ : lj_S} {n np p : Nat} {r : List Nat} {FP : Nat → List kF} {ρ : Nat → Nat} {A MO LA : List Nat} {x : Int32} (h : MB σ0 τ0 n np p r FP ρ A MO LA σ (lj_put τ 63 p x)) (hs : σ.2 8 44 = τ.2 0 145) : lsR σ0 τ0 σ τ ∧ QR σ τ n := by
  have pe : ∀ k j, k ≠ 63 → (lj_put τ 63 p x).1 k j = τ.1 k j := fun k j z => by rw [lj_put_1, if_neg (by omega)]
  have G3 : sG σ (lj_put τ 63 p x) σ τ := sG_eq (fun _ _ _ => rfl) (fun k j q => (pe k j (fun z => by rw [z] at q; simp [vqM] at q)).symm)
  refine ⟨⟨⟨h.1.1, fun k j q => ?_⟩, h.2.2.1.up G3 (fun _ => rfl) rfl rfl, h.2.2.2.2.2.2.2.2.2.2.2.2.2.tr G3⟩, (h.q hs).cg (fun _ _ _ => ⟨rfl, rfl⟩) (fun k j q => ⟨(pe k j (fun z => by rw [z] at q; simp [qrM, sqM, hqM, vqM] at q)).symm, rfl⟩)⟩
  have := h.1.2 k j q
  rw [pe k j (fun z => by rw [z] at q; simp [cdM] at q)] at this
  exact this
theorem m179_63 (τ : lj_S) {p : Nat} (h : τ.1 0 111 = Int32.ofNat p) (hp : p < 26) (x g : Int32) : lj_R lm_P 179 [.ref 0, .int g] (lj_put τ 63 p x) = lj_R lm_P 179 [.ref 0, .int g] τ := by
  have i : lj_in (τ.1 0 111) 26 := by rw [h]; exact ofN_in (by omega) (by omega)
  have e : (lj_put τ 63 p x).1 0 111 = τ.1 0 111 := by rw [lj_put_1, if_neg (by omega)]
  have n : (τ.1 0 111).toNatClampNeg = p := by rw [h]; exact lz_onat (by omega)
  have s : lj_put (lj_put (lj_put τ 63 p x) 58 p 4) 63 p 0 = lj_put (lj_put τ 58 p 4) 63 p 0 := by
    refine Prod.ext ?_ rfl
    funext k j
    show (lj_put (lj_put (lj_put τ 63 p x) 58 p 4) 63 p 0).1 k j = (lj_put (lj_put τ 58 p 4) 63 p 0).1 k j
    rw [lj_put_1, lj_put_1, lj_put_1, lj_put_1, lj_put_1]
    by_cases z : k = 63 ∧ j = p
    · rw [if_pos z, if_pos z]
    · rw [if_neg z, if_neg z, if_neg z]
  rw [rm_179, rm_179, km_179_0, km_179_0, e, if_pos i, if_pos i, if_pos i, if_pos i, if_pos i, if_pos i, if_pos i, if_pos i, n, s]
