/-! tables are written to -/
theorem MB.hw {σ0 τ0 σ τ : lj_S} {n np p : Nat} {r : List Nat} {FP : Nat → List kF} {ρ : Nat → Nat} {A MO LA : List Nat} (h : MB σ0 τ0 n np p r FP ρ A MO LA σ τ) {σ' τ' : lj_S} (f : lf hwC σ σ') (g : lf hwM τ τ') (ghp : hpR σ' τ' n) : MB σ0 τ0 n np p r FP ρ A MO LA σ' τ' := by
  have c : ∀ k j, ¬ (k = 7 ∧ (j = 11 ∨ j = 12) ∨ 59 ≤ k ∧ k ≤ 61 ∨ 66 ≤ k ∧ k ≤ 73) → σ'.1 k j = σ.1 k j ∧ σ'.2 k j = σ.2 k j := fun k j z => f k j (by unfold hwC; simp; omega)
  have m : ∀ k j, ¬ (k = 0 ∧ (j = 88 ∨ j = 89) ∨ 40 ≤ k ∧ k ≤ 41 ∨ 45 ≤ k ∧ k ≤ 52) → τ'.1 k j = τ.1 k j ∧ τ'.2 k j = τ.2 k j := fun k j z => g k j (by unfold hwM; simp; omega)
  obtain ⟨hO, oA⟩ := oA_eq (σ := σ) (τ := τ) (σ' := σ') (τ' := τ') (c 7 0 (by omega)).1 (fun j => (c 57 j (by omega)).1) (fun j => (m 38 j (by omega)).1)
  have vC : ∀ k j, vqC k j = true → σ'.1 k j = σ.1 k j := fun k j q => (c k j (by unfold vqC at q; simp at q; omega)).1
  have vM : ∀ k j, vqM k j = true → τ'.1 k j = τ.1 k j := fun k j q => (m k j (by unfold vqM at q; simp at q; omega)).1
  have hv : ∀ a b, vR σ τ a b → vR σ' τ' a b := fun a b w => w.cg vC vM
  exact h.up (fun k j q => c k j (by unfold kpC at q; simp at q; omega)) (fun k j q => m k j (by unfold kpM at q; simp at q; omega)) (fun j _ => ⟨(c 79 j (by omega)).1, (c 80 j (by omega)).2, (c 81 j (by omega)).1⟩) (fun _ _ _ => rfl) (sG_eq vC vM) hO (fun o _ => (c 62 o (by omega)).1) (fun o _ => (c 64 o (by omega)).1) (fun o w => (oA o 6).1 w) (Nat.le_refl _) (h.2.1.cg (fun k j q => (c k j (by unfold sqC at q; simp at q; omega)).1) (fun k j q => (m k j (by unfold sqM at q; simp at q; omega)).1)) ghp (h.2.2.2.2.1.cg (fun k j q => (c k j (by omega)).1) (fun k j q => (m k j (by omega)).1)) (fun o q w1 w2 w3 => h.2.2.2.2.2.1 o q ((oA o 5).1 w1) w2 (by rw [← (c 62 o (by omega)).1]; exact w3)) (h.2.2.2.2.2.2.2.2.2.1.cg hv (fun k j w => (c k j (by omega)).1) (fun j => (c 76 j (by omega)).2) (fun q s w => ⟨by unfold cv; rw [(c 79 s (by omega)).1, (c 80 s (by omega)).2], (c 81 s (by omega)).1⟩) (fun k j w => (m k j (by omega)).1) (fun j => (m 55 j (by omega)).2)) (h.2.2.2.2.2.2.2.2.2.2.1.cg (fun o k w => (oA o k).2 w) (fun k j w => (c k j (by omega)).1) (fun k j w => (m k j (by omega)).1) (fun j => (m 42 j (by omega)).2) (m 0 78 (by omega)).2 (fun q e e' w => w))
/-- the model's height does not matter to heaps -/
theorem hp63 {σ τ : lj_S} {n : Nat} (h : hpR σ τ n) (p : Nat) (x : Int32) : hpR σ (lj_put τ 63 p x) n := h.cg (fun _ _ _ => ⟨rfl, rfl⟩) (fun k j q => ⟨by rw [lj_put_1, if_neg (by rintro ⟨rfl, rfl⟩; simp [hqM, vqM] at q)], rfl⟩)
theorem hp63' {σ τ : lj_S} {n : Nat} {p : Nat} {x : Int32} (h : hpR σ (lj_put τ 63 p x) n) : hpR σ τ n := h.cg (fun _ _ _ => ⟨rfl, rfl⟩) (fun k j q => ⟨by rw [lj_put_1, if_neg (by rintro ⟨rfl, rfl⟩; simp [hqM, vqM] at q)], rfl⟩)
theorem sm63' {σ τ : lj_S} {p : Nat} {x : Int32} (h : sM σ (lj_put τ 63 p x)) : sM σ τ := h.cg (fun _ _ _ => rfl) (fun k j q => by rw [lj_put_1, if_neg (by rintro ⟨rfl, rfl⟩; simp [sqM] at q)])
theorem MB.set63 {σ0 τ0 σ τ : lj_S} {n np p : Nat} {r : List Nat} {FP : Nat → List kF} {ρ : Nat → Nat} {A MO LA : List Nat} {hx : Int32} (h : MB σ0 τ0 n np p r FP ρ A MO LA σ (lj_put τ 63 p hx)) {t : Nat} (ht : t ≤ n) {a b : vT} (hab : vR σ τ a b) (ha : a.1 ≠ 0) {u w : vT} (huw : vR σ τ u w) (hk0 : t = 0 → a.1 = 3) (hk4 : σ.1 57 t = 4) :
    (lj_R lc_P 113 [.ref 7, .int (Int32.ofNat t), .int a.1, .long a.2, .int u.1, .long u.2] σ = some (.inr 2, lj_put σ 2 6 1) ∧ lj_R lm_P 108 [.ref 0, .int (Int32.ofNat (tm t)), .int b.1, .long b.2, .int w.1, .long w.2] τ = some (.inl (some (.int 0)), lj_put τ 0 143 4)) ∨
    ∃ σ' τ', lj_R lc_P 113 [.ref 7, .int (Int32.ofNat t), .int a.1, .long a.2, .int u.1, .long u.2] σ = some (.inl none, σ') ∧ lj_R lm_P 108 [.ref 0, .int (Int32.ofNat (tm t)), .int b.1, .long b.2, .int w.1, .long w.2] τ = some (.inl (some (.int 1)), τ') ∧ MB σ0 τ0 n np p r FP ρ A MO LA σ' (lj_put τ' 63 p hx) ∧ lf hwC σ σ' ∧ lf hwM τ τ' := by
  rcases cm_set (sm63' h.2.1).1 (hp63' h.2.2.2.1) ht hab ha huw hk0 hk4 with z | ⟨σ', τ', e1, e2, e3, e4, e5⟩
  · exact Or.inl z
  · refine Or.inr ⟨σ', τ', e1, e2, h.hw e4 (fun k j q => ?_) (hp63 e3 p hx), e4, e5⟩
    obtain ⟨x1, x2⟩ := e5 k j q
    refine ⟨?_, x2⟩
    rw [lj_put_1, lj_put_1]
    split
    · rfl
    · exact x1
/-- no room: both end -/
def tqN (p i ml kl k j : Nat) : Bool := tqM p i ml kl k j || (k == 0 && j == 143)
theorem tqN_m {p i ml kl : Nat} {τ τ' : lj_S} (g : lf (tqM p i ml kl) τ τ') : lf (tqN p i ml kl) τ τ' := g.mo (fun k j q => by unfold tqN at q; simp at q; exact q.1)
theorem MB.nr {σ0 τ0 σ τ : lj_S} {n np p : Nat} {r : List Nat} {FP : Nat → List kF} {ρ : Nat → Nat} {A MO LA : List Nat} (h : MB σ0 τ0 n np p r FP ρ A MO LA σ τ) (rg : rgR σ τ) {σ' τ' : lj_S} {i lo i' ml kl : Nat} (f : lf (tqC p i lo) σ σ') (g : lf (tqN p i' ml kl) τ τ') (e1 : σ'.1 2 6 = 1) (e2 : τ'.1 0 143 = 4) {FP' : Nat → List kF} : eoR σ0 τ0 n np p r FP' ρ A MO LA σ' τ' := by
  obtain ⟨g1, g2, g3, g4, g5⟩ := rg
  have c : ∀ k j, ¬ (k = 14 ∨ k = 3 ∧ j = 6 ∨ k = 7 ∧ (j = 27 ∨ j = 28) ∨ (105 ≤ k ∧ k ≤ 108) ∨ k = 8 ∧ (j = 8 ∨ j = 38 ∨ 41 ≤ j ∧ j ≤ 43) ∨ k = 2) → k ≠ 94 → k ≠ 97 → (k < 79 ∨ 81 < k) → σ'.1 k j = σ.1 k j ∧ σ'.2 k j = σ.2 k j := fun k j z1 z2 z3 z4 => f k j (tqC_f (sxC_f (by omega)) (by omega))
  have m : ∀ k j, ¬ (k = 8 ∨ k = 0 ∧ (j = 20 ∨ j = 90 ∨ j = 91 ∨ 130 ≤ j ∧ j ≤ 143) ∨ (88 ≤ k ∧ k ≤ 91)) → k ≠ 77 → k ≠ 63 → k ≠ 64 → (k < 71 ∨ 73 < k) → τ'.1 k j = τ.1 k j ∧ τ'.2 k j = τ.2 k j := fun k j z1 z2 z3 z4 z5 => g k j (by unfold tqN; rw [tqM_f (sxM_f (by omega)) (by omega)]; simp; omega)
  have s44 : σ'.2 8 44 = τ'.2 0 145 := by rw [(c 8 44 (by omega) (by omega) (by omega) (by omega)).2, (m 0 145 (by omega) (by omega) (by omega) (by omega) (by omega)).2]; exact g5
  refine ⟨by rw [(c 8 46 (by omega) (by omega) (by omega) (by omega)).1]; exact g1, by rw [(c 8 45 (by omega) (by omega) (by omega) (by omega)).1, (m 0 144 (by omega) (by omega) (by omega) (by omega) (by omega)).1]; exact g4, s44, Or.inl ⟨e1, e2, ?_, ⟨fun k j q => ?_, fun k j q => ?_⟩, ?_, ?_⟩⟩
  rotate_left
  · obtain ⟨w1, w2⟩ := h.1.1 k j q
    obtain ⟨v1, v2⟩ := c k j (by unfold cdC at q; simp at q; omega) (by unfold cdC at q; simp at q; omega) (by unfold cdC at q; simp at q; omega) (by unfold cdC at q; simp at q; omega)
    exact ⟨v1.trans w1, v2.trans w2⟩
  · obtain ⟨w1, w2⟩ := h.1.2 k j q
    obtain ⟨v1, v2⟩ := m k j (by unfold cdM at q; simp at q; omega) (by unfold cdM at q; simp at q; omega) (by unfold cdM at q; simp at q; omega) (by unfold cdM at q; simp at q; omega) (by unfold cdM at q; simp at q; omega)
    exact ⟨v1.trans w1, v2.trans w2⟩
  · exact h.2.2.1.up (sG_eq (fun k j q => (c k j (by unfold vqC at q; simp at q; omega) (by unfold vqC at q; simp at q; omega) (by unfold vqC at q; simp at q; omega) (by unfold vqC at q; simp at q; omega)).1) (fun k j q => (m k j (by unfold vqM at q; simp at q; omega) (by unfold vqM at q; simp at q; omega) (by unfold vqM at q; simp at q; omega) (by unfold vqM at q; simp at q; omega) (by unfold vqM at q; simp at q; omega)).1)) (fun j => (c 78 j (by omega) (by omega) (by omega) (by omega)).1) (c 8 1 (by omega) (by omega) (by omega) (by omega)).1 (c 8 3 (by omega) (by omega) (by omega) (by omega)).1
  · exact h.2.2.2.2.2.2.2.2.2.2.2.2.2.tr (sG_eq (fun k j q => (c k j (by unfold vqC at q; simp at q; omega) (by unfold vqC at q; simp at q; omega) (by unfold vqC at q; simp at q; omega) (by unfold vqC at q; simp at q; omega)).1) (fun k j q => (m k j (by unfold vqM at q; simp at q; omega) (by unfold vqM at q; simp at q; omega) (by unfold vqM at q; simp at q; omega) (by unfold vqM at q; simp at q; omega) (by unfold vqM at q; simp at q; omega)).1))
  refine (h.q g5).cg (fun k j q => c k j ?_ ?_ ?_ ?_) (fun k j q => m k j ?_ ?_ ?_ ?_ ?_)
  all_goals first | (unfold qrC sqC hqC vqC at q; simp at q; omega) | (unfold qrM sqM hqM vqM at q; simp at q; omega)
theorem tq_26 {p i lo : Nat} {σ σ1 : lj_S} (f : lf (tqC p i lo) σ σ1) (v : Int32) : lf (tqC p i lo) σ (lj_put σ1 2 6 v) := lf_put f 2 6 _ (by unfold tqC sxC szC; simp)
theorem tn_143 {p i ml kl : Nat} {τ τ1 : lj_S} (g : lf (tqN p i ml kl) τ τ1) (v : Int32) : lf (tqN p i ml kl) τ (lj_put τ1 0 143 v) := lf_put g 0 143 _ (by unfold tqN; simp)
theorem tn_63 {p i ml kl : Nat} {τ τ1 : lj_S} (g : lf (tqN p i ml kl) τ τ1) (v : Int32) : lf (tqN p i ml kl) τ (lj_put τ1 63 p v) := lf_put g 63 p _ (by unfold tqN; rw [tqM_t (by omega)]; rfl)
theorem rg_hw {σ τ σ' τ' : lj_S} {p : Nat} {x : Int32} (rg : rgR σ (lj_put τ 63 p x)) (f : lf hwC σ σ') (g : lf hwM τ τ') : rgR σ' (lj_put τ' 63 p x) := by
  obtain ⟨g1, g2, g3, g4, g5⟩ := rg
  have m : ∀ j, ¬ (j = 88 ∨ j = 89) → (lj_put τ' 63 p x).1 0 j = (lj_put τ 63 p x).1 0 j := fun j z => by
    rw [lj_put_1, if_neg (by omega), lj_put_1, if_neg (by omega), (g 0 j (by unfold hwM; simp; omega)).1]
  exact ⟨by rw [(f 8 46 rfl).1]; exact g1, by rw [m 143 (by omega)]; exact g2, by rw [m 129 (by omega)]; exact g3, by rw [(f 8 45 rfl).1, m 144 (by omega)]; exact g4, by rw [(f 8 44 rfl).2]; show σ.2 8 44 = τ'.2 0 145; rw [(g 0 145 rfl).2]; exact g5⟩
/-- a string of both as a key -/
theorem sEi.v {σ τ : lj_S} {x y : Int32} (h : sEi σ τ x y) : vR σ τ (3, x.toInt64) (3, y.toInt64) := by
  obtain ⟨a, a', h1, h2, rfl, rfl, h5⟩ := h
  exact vR_str h5 h1 h2
/-- names of the whole text -/
theorem act_11 {σ0 τ0 σ τ : lj_S} {n np p : Nat} {r : List Nat} {FP : Nat → List kF} {ρ : Nat → Nat} {A MO LA : List Nat} (h : MB σ0 τ0 n np p r FP ρ A MO LA σ τ) {F : kF} {L : List kF} (hF : FP p = F :: L) (h0 : kS F = 0) (rg : rgR σ τ) (hs : stF σ0 τ0) {Z : List pT} (hk : insK σ0 τ0 (kY F).1 (kY F).2.1 (kY F).2.2.1 (kY F).2.2.2.1 (kY F).2.2.2.2.1 (kY F).2.2.2.2.2 Z 11) {n' : Nat} (hn : ∀ z ∈ Z, gn σ0 τ0 n' z) : oaR σ0 τ0 n np p r FP ρ A MO LA σ τ F L n' Z := by
  obtain ⟨s', hsh, k1, k2, kk, rfl⟩ := hk
  obtain ⟨ms, ks, ce, me, mq, V⟩ := h.w hF h0
  have B := V.bd
  have st := V.st
  have hO := V.ff.1.2.2.2.1
  have hfl := V.fl
  have m64 : τ.1 64 p = Int32.ofNat mq := V.at.2.2.2.2.1
  rw [hsh] at st hO hfl
  obtain ⟨ce', me', rfl, rfl, hv, _, _, _, st⟩ := st.u0 (Or.inl rfl)
  obtain ⟨f1, f2, f3, f4, fA, fL, fK, f5⟩ := c_ft h hF h0 hs k1 (by decide)
  have hfl' : (flo s').length ≤ nH σ0 (kY F).1 := Nat.le_trans (flo_t 0 s') hfl
  have fC : lf (tqC p (20 * p + L.length) ce') σ (lj_put (lj_put σ 94 (20 * p + L.length) (Int32.ofNat ((kY F).2.1 + 1))) 8 8 (Int32.ofNat ce')) := tq_88 (tq_94 (lf_rf _ _) _) _
  have fM1 : lf (tqM p (48 * p + L.length) me' mq) τ (lj_put τ 77 (48 * p + L.length) (Int32.ofNat ((kY F).2.2.1 + 1))) := tm_77 (lf_rf _ _) _
  obtain ⟨g1, g2⟩ := h.dn hF h0 rg V st fC (tm_63 fM1 (Int32.ofNat me')) (by simp [lj_put_1, lj_putL_1]) (by simp [lj_put_1, lj_putL_1]) (by simp [lj_put_1, lj_putL_1]) (by simp [lj_put_1, lj_putL_1]) (by simp [lj_put_1, lj_putL_1]) (by simp [lj_put_1, m64]) hO.tl hfl' (Or.inr ⟨Nat.succ_ne_zero _, hn _ List.mem_cons_self⟩)
  have kk' := (kk.up h.2.2.2.2.2.2.2.2.2.2.2.2.2).v
  obtain ⟨i1, i2, i3⟩ := c_pre (x := σ.1 8 8) (t := ce') V.tp (by omega)
  have at1 := mAt_p (i := (48 * p + L.length)) (v := Int32.ofNat ((kY F).2.2.1 + 1)) V.at
  have tk0 : lj_R lm_P 124 [.ref 0, .int 0] (lj_put τ 77 (48 * p + L.length) (Int32.ofNat ((kY F).2.2.1 + 1))) = some (.inl (some (.int (mv τ (10000 * p + me')).1)), lj_put τ 77 (48 * p + L.length) (Int32.ofNat ((kY F).2.2.1 + 1))) := by
    have := m_topK at1 (d := 0) (by omega)
    rw [mv_p _ (by decide), show me' + 1 - 1 - 0 = me' by omega] at this
    exact this
  have tn0 : lj_R lm_P 125 [.ref 0, .int 0] (lj_put τ 77 (48 * p + L.length) (Int32.ofNat ((kY F).2.2.1 + 1))) = some (.inl (some (.long (mv τ (10000 * p + me')).2)), lj_put τ 77 (48 * p + L.length) (Int32.ofNat ((kY F).2.2.1 + 1))) := by
    have := m_topN at1 (d := 0) (by omega)
    rw [mv_p _ (by decide), show me' + 1 - 1 - 0 = me' by omega] at this
    exact this
  obtain ⟨⟨m1, m2, m3, m4, m5, m6, m7⟩, m8⟩ := (h.cx hF h0 hs).2 (by rw [k2]; decide)
  have k20 : τ.1 20 (kY F).2.2.1 = 11 := by rw [m8 20 (by decide) (by decide)]; exact k2
  have mst : lj_R lm_P 121 [.ref 0] τ = _ := mw_11 τ m1 m2 m3 m5 m6 (A := τ0.1 21 (kY F).2.2.1) (by rw [m7]; exact m8 21 (by decide) (by decide)) (by rw [m7]; exact k20)
  rw [m4, lz_osucc, tk0, bi_ok, tn0, bl_ok] at mst
  have cst : lj_R lc_P 139 [.ref 8] σ = _ := ca_11 σ f1 f3 f4 fA fL fK
  rw [if_pos i1, if_pos i1, i2, i3, f2, lz_osucc] at cst
  have atm : ∀ τ2 : lj_S, (τ2.1 0 111 = (lj_put τ 77 (48 * p + L.length) (Int32.ofNat ((kY F).2.2.1 + 1))).1 0 111) → τ2.1 63 p = (lj_put τ 77 (48 * p + L.length) (Int32.ofNat ((kY F).2.2.1 + 1))).1 63 p → τ2.1 64 p = (lj_put τ 77 (48 * p + L.length) (Int32.ofNat ((kY F).2.2.1 + 1))).1 64 p → lj_R lm_P 126 [.ref 0, .int 1] τ2 = some (.inl none, lj_put τ2 63 p (Int32.ofNat me')) := fun τ2 e1 e2 e3 => by
    have a2 : mAt τ2 p (me' + 1) mq := by
      obtain ⟨a1, a2, a3, a4, a5, a6⟩ := at1
      exact ⟨by rw [e1]; exact a1, a2, by rw [e2]; exact a3, a4, by rw [e3]; exact a5, a6⟩
    have := m_drop a2 (d := 1) (by omega)
    exact this
  rcases g1.set63 (t := 0) (Nat.zero_le _) (vR_tq fC fM1 kk') (show (3 : Int32) ≠ 0 by decide) (vR_tq fC fM1 hv) (fun _ => rfl) g1.2.2.2.2.2.2.2.2.2.2.1.2.2.1.2 with ⟨x1, x2⟩ | ⟨σ', τ', x1, x2, x3, x4, x5⟩
  · right
    refine ⟨F, h0, σ, lj_put (lj_put (lj_put σ 94 (20 * p + L.length) (Int32.ofNat ((kY F).2.1 + 1))) 8 8 (Int32.ofNat ce')) 2 6 1, lj_put (lj_put (lj_put τ 77 (48 * p + L.length) (Int32.ofNat ((kY F).2.2.1 + 1))) 0 143 4) 63 p (Int32.ofNat me'), fun _ => rfl, rg.1, ?_, run_step rg.2.1 rg.2.2.1 ?_, ?_⟩
    · have x1 : lj_R lc_P 113 [.ref 7, .int 0, .int 3, .long (σ0.1 23 (kY F).2.1).toInt64, .int (σ.1 79 ce'), .long (σ.2 80 ce')] _ = _ := x1
      rw [cst, x1, bv_th]
    · have x2 : lj_R lm_P 108 [.ref 0, .int 2001, .int 3, .long (τ0.1 21 (kY F).2.2.1).toInt64, .int (mv τ (10000 * p + me')).1, .long (mv τ (10000 * p + me')).2] _ = _ := x2
      rw [mst, x2, bi_ok, atm _ (by simp [lj_put_1, lj_putL_1]) (by simp [lj_put_1, lj_putL_1]) (by simp [lj_put_1, lj_putL_1]), bv_ok, km_121_398]
    · exact h.nr rg (tq_26 fC _) (tn_63 (tn_143 (tqN_m fM1) _) _) (by simp [lj_put_1, lj_putL_1]) (by simp [lj_put_1, lj_putL_1])
  · left
    refine ⟨σ', _, _, List.mem_cons_self, go_step rg.1 ?_, run_step rg.2.1 rg.2.2.1 ?_, x3, rg_hw g2 x4 x5⟩
    · have x1 : lj_R lc_P 113 [.ref 7, .int 0, .int 3, .long (σ0.1 23 (kY F).2.1).toInt64, .int (σ.1 79 ce'), .long (σ.2 80 ce')] _ = _ := x1
      rw [cst, x1, bv_ok, kc_139_1051]
    · have x2 : lj_R lm_P 108 [.ref 0, .int 2001, .int 3, .long (τ0.1 21 (kY F).2.2.1).toInt64, .int (mv τ (10000 * p + me')).1, .long (mv τ (10000 * p + me')).2] _ = _ := x2
      rw [mst, x2, bi_ok, atm τ' (x5 0 111 rfl).1 (x5 63 p rfl).1 (x5 64 p rfl).1, bv_ok, km_121_398]
