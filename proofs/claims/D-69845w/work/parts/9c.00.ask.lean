/-! QUESTIONS of both: what the law asks -/
def wTy (t : Nat) (v : Option Value) : Prop := match t with
  | 0 => v = none
  | 1 => ∃ x, v = some (.int x)
  | _ => ∃ x, v = some (.long x)
/-- both answer alike: the same value, or what the component throws is what the model tells -/
def ag (t : Nat) (f : Nat → Int32) (K : lj_S → lj_S → Prop) (oC oM : Option lj_O) : Prop := ∃ σ' τ', K σ' τ' ∧ ((∃ v, wTy t v ∧ oC = some (.inl v, σ') ∧ oM = some (.inl v, τ') ∧ τ'.1 0 0 = 0) ∨ ∃ x w, (x = 2001 ∨ x = 2002 ∨ x = 2003) ∧ wTy t w ∧ oC = some (.inr x, σ') ∧ oM = some (.inl w, τ') ∧ τ'.1 0 0 = f x)
/-- a question changes nothing but what was found and thrown -/
def qK (σ τ : lj_S) (σ' τ' : lj_S) : Prop := ∃ y, (σ' = σ ∧ τ' = lj_put τ 0 0 y) ∨ (σ' = fdC σ (0, 0) ∧ τ' = fdM (lj_put τ 0 0 y) (0, 0))
/-- not compiled -/
def ncR (σ τ : lj_S) : Prop := σ.1 0 9 = 0 ∧ τ.1 0 3 = 0 ∧ σ.1 5 8 = 0
/-- results of both -/
def rsR (σ τ : lj_S) : Prop := (σ.1 8 46 = 0 ∧ τ.1 0 143 = 0) ∨ (σ.1 8 46 = 1 ∧ σ.1 8 47 = 3 ∧ τ.1 0 143 = 4) ∨
  (σ.1 8 46 = 1 ∧ (σ.1 8 47 = 0 ∧ τ.1 0 143 = 1 ∨ σ.1 8 47 = 1 ∧ τ.1 0 143 = 2) ∧ ∃ G G', rsC σ G ∧ lv τ 0 148 = (G'.length : Int) ∧ (∀ j, j < G'.length → (τ.1 92 j, τ.2 93 j) = G'.getD j (0, 0)) ∧ rwE σ τ G G')
/-- compiled: what questions look at -/
def qsR (σ τ : lj_S) : Prop := σ.1 0 9 = 1 ∧ τ.1 0 3 = 1 ∧ (∃ n, QR σ τ n) ∧ rsR σ τ ∧ ∃ F, FR σ τ F
theorem c_in (σ : lj_S) (x : Int32) (a b : Int64) (P : Prop) [Decidable P] (h : (a.toInt ≤ x.toInt ∧ x.toInt ≤ b.toInt) ↔ P) : lj_R lc_P 3 [.long x.toInt64, .long a, .long b] σ = some (.inl (some (.int (if P then 1 else 0))), σ) := by
  rw [c_isIn, lz_i64, lz_ite h]
set_option maxRecDepth 100000 in
theorem c_909 (σ : lj_S) (b : Int32) : lj_R lc_P 909 [.int b] σ = if b = 0 then some (.inr 2001, σ) else some (.inl none, σ) := by
  rw [lj_R_prim _ _ _ _ rfl]
  rfl
set_option maxRecDepth 100000 in
theorem c_910 (σ : lj_S) (b : Int32) : lj_R lc_P 910 [.int b] σ = if b = 0 then some (.inr 2002, σ) else some (.inl none, σ) := by
  rw [lj_R_prim _ _ _ _ rfl]
  rfl
set_option maxRecDepth 100000 in
theorem c_911 (σ : lj_S) : lj_R lc_P 911 [.ref 0] σ = if σ.1 0 9 = 0 then some (.inr 2003, σ) else some (.inl none, σ) := by
  rw [lj_R_prim _ _ _ _ rfl]
  rfl
theorem bv_up (σ : lj_S) (x : Nat) (k : lj_S → Option lj_O) (h : Nat → lj_S → Option lj_O) : lj_bv (some (.inr x, σ)) k h = h x σ := rfl
theorem bi_up (σ : lj_S) (x : Nat) (k : Int32 → lj_S → Option lj_O) (h : Nat → lj_S → Option lj_O) : lj_bi (some (.inr x, σ)) k h = h x σ := rfl
theorem put00 (τ : lj_S) (y : Int32) : (lj_put τ 0 0 y).1 0 0 = y := by rw [lj_put_1, if_pos ⟨rfl, rfl⟩]
theorem ag_v {t : Nat} {f : Nat → Int32} {σ τ : lj_S} {v : Option Value} {oC oM : Option lj_O} (hv : wTy t v) (h1 : oC = some (.inl v, σ)) (h2 : oM = some (.inl v, lj_put τ 0 0 0)) : ag t f (qK σ τ) oC oM :=
  ⟨σ, _, ⟨0, Or.inl ⟨rfl, rfl⟩⟩, Or.inl ⟨v, hv, h1, h2, put00 τ 0⟩⟩
theorem ag_x {t : Nat} {σ τ : lj_S} {w : Option Value} {oC oM : Option lj_O} (hv : wTy t w) (h1 : oC = some (.inr 2001, σ)) (h2 : oM = some (.inl w, lj_put τ 0 0 1)) : ag t (fun _ => 1) (qK σ τ) oC oM :=
  ⟨σ, _, ⟨1, Or.inl ⟨rfl, rfl⟩⟩, Or.inr ⟨2001, w, Or.inl rfl, hv, h1, h2, put00 τ 1⟩⟩
theorem q_steps {σ τ : lj_S} (h : qsR σ τ ∨ ncR σ τ) : ag 2 (fun _ => 1) (qK σ τ) (lj_R lc_P 4 [.ref 0] σ) (lj_R lm_P 239 [.ref 0] τ) := by
  rcases h with ⟨h1, h2, ⟨n, hq⟩, _⟩ | ⟨h1, h2, _⟩
  · refine ag_v (v := some (.long (σ.2 8 44))) ⟨_, rfl⟩ ?_ ?_
    · rw [rc_4, kc_4_0, if_neg (by rw [h1]; decide), kc_4_18]
    · rw [rm_239, km_239_0, if_neg (by rw [h2]; decide), km_239_20, hq.2.2.2.2.2.2]
  · refine ag_v (v := some (.long 0)) ⟨_, rfl⟩ ?_ ?_
    · rw [rc_4, kc_4_0, if_pos h1, kc_4_18]
    · rw [rm_239, km_239_0, if_pos h2, km_239_20]
/-- how many results there are -/
def rsNo (σ : lj_S) : Int32 := if σ.1 0 9 = 0 then 0 else if σ.1 8 46 = 0 then 0 else if σ.1 8 47 = 3 then 0 else σ.1 8 41
theorem c_rs (σ : lj_S) : lj_R lc_P 5 [.ref 0] σ = some (.inl (some (.int (rsNo σ))), σ) := by
  rw [rc_5, kc_5_0]
  unfold rsNo
  by_cases a : σ.1 0 9 = 0
  · rw [if_pos a, if_pos a, kc_5_38, kc_5_39]
  · rw [if_neg a, if_neg a]
    by_cases b : σ.1 8 46 = 0
    · rw [if_pos b, if_pos b, kc_5_38, kc_5_39]
    · rw [if_neg b, if_neg b]
      by_cases c : σ.1 8 47 = 3
      · rw [if_pos c, if_pos c, kc_5_38, kc_5_39]
      · rw [if_neg c, if_neg c, kc_5_39]
theorem m_rs {σ τ : lj_S} (h : qsR σ τ ∨ ncR σ τ) (y : Int32) : lj_R lm_P 241 [.ref 0] (lj_put τ 0 0 y) = some (.inl (some (.int (rsNo σ))), lj_put τ 0 0 y) ∧ lj_R lm_P 241 [.ref 0] τ = some (.inl (some (.int (rsNo σ))), τ) := by
  have key : ∀ s : lj_S, s.1 0 3 = τ.1 0 3 → s.1 0 143 = τ.1 0 143 → s.1 0 148 = τ.1 0 148 → lj_R lm_P 241 [.ref 0] s = some (.inl (some (.int (rsNo σ))), s) := by
    intro s e1 e2 e3
    rw [rm_241, km_241_0, e1, e2]
    unfold rsNo
    rcases h with ⟨h1, h2, _, hr, _⟩ | ⟨h1, h2, _⟩
    · rw [if_neg (by rw [h2]; decide), if_neg (by rw [h1]; decide)]
      rcases hr with ⟨a1, a2⟩ | ⟨a1, a2, a3⟩ | ⟨a1, a2, G, G', g1, g2, g3, g4⟩
      · rw [if_neg (by rw [a2]; decide), if_neg (by rw [a2]; decide), km_241_30, km_241_31, if_pos a1]
      · rw [if_neg (by rw [a3]; decide), if_neg (by rw [a3]; decide), km_241_30, km_241_31, if_neg (by rw [a1]; decide), if_pos a2]
      · have e : s.1 0 148 = σ.1 8 41 := by
          rw [e3]
          apply lz_ext
          have q1 : (τ.1 0 148).toInt = (G'.length : Int) := g2
          have q2 : (σ.1 8 41).toInt = (G.length : Int) := g1.1
          rw [q1, q2, g4.1]
        rcases a2 with ⟨b1, b2⟩ | ⟨b1, b2⟩
        · rw [if_pos b2, km_241_23, km_241_31, e, if_neg (by rw [a1]; decide), if_neg (by rw [b1]; decide)]
        · rw [if_neg (by rw [b2]; decide), if_pos b2, km_241_23, km_241_31, e, if_neg (by rw [a1]; decide), if_neg (by rw [b1]; decide)]
    · rw [if_pos h2, if_pos h1, km_241_30, km_241_31]
  exact ⟨key _ (by rw [lj_put_1, if_neg (by omega)]) (by rw [lj_put_1, if_neg (by omega)]) (by rw [lj_put_1, if_neg (by omega)]), key _ rfl rfl rfl⟩
theorem q_results {σ τ : lj_S} (h : qsR σ τ ∨ ncR σ τ) : ag 1 (fun _ => 1) (qK σ τ) (lj_R lc_P 5 [.ref 0] σ) (lj_R lm_P 240 [.ref 0] τ) := by
  refine ag_v (v := some (.int (rsNo σ))) ⟨_, rfl⟩ (c_rs σ) ?_
  rw [rm_240, km_240_0, (m_rs h 0).1, bi_ok]
theorem q_outputs {σ τ : lj_S} (h : qsR σ τ ∨ ncR σ τ) : ag 1 (fun _ => 1) (qK σ τ) (lj_R lc_P 6 [.ref 0] σ) (lj_R lm_P 246 [.ref 0] τ) := by
  rcases h with ⟨h1, h2, ⟨n, hq⟩, _⟩ | ⟨h1, h2, _⟩
  · refine ag_v (v := some (.int (σ.1 8 50))) ⟨_, rfl⟩ ?_ ?_
    · rw [rc_6, kc_6_0, if_neg (by rw [h1]; decide), kc_6_18]
    · rw [rm_246, km_246_0, if_neg (by rw [h2]; decide), km_246_20, hq.2.2.2.1.1]
  · refine ag_v (v := some (.int 0)) ⟨_, rfl⟩ ?_ ?_
    · rw [rc_6, kc_6_0, if_pos h1, kc_6_18]
    · rw [rm_246, km_246_0, if_pos h2, km_246_20]
/-- faults of both -/
def flR (σ τ : lj_S) : Prop := (τ.1 0 4 = 0 ∧ σ.1 0 10 = -1 ∧ σ.1 0 11 = -1) ∨ (τ.1 0 4 ≠ 0 ∧ σ.1 0 10 = τ.1 0 5 ∧ σ.1 0 11 = τ.1 0 6)
theorem q_fault {σ τ : lj_S} (h : flR σ τ) (x : Int32) : ag 1 (fun _ => 1) (qK σ τ) (lj_R lc_P 8 [.ref 0, .int x] σ) (lj_R lm_P 117 [.ref 0, .int x] τ) := by
  by_cases z0 : x = 0
  · rw [z0]
    refine ag_v (v := some (.int (σ.1 0 10))) ⟨_, rfl⟩ ?_ ?_
    · rw [rc_8, kc_8_0, c_in σ 0 0 1 True (by decide), if_pos trivial, bi_ok, c_909, if_neg (by decide), bv_ok, if_pos rfl, kc_8_25]
    · rw [rm_117, km_117_0, if_pos rfl, km_117_10, km_117_15]
      rcases h with ⟨a1, a2, a3⟩ | ⟨a1, a2, a3⟩
      · rw [if_pos a1, km_117_32, km_117_51, a2]
      · rw [if_neg a1, if_pos (by decide), if_pos rfl, km_117_51, a2]
  · by_cases z1 : x = 1
    · rw [z1]
      refine ag_v (v := some (.int (σ.1 0 11))) ⟨_, rfl⟩ ?_ ?_
      · rw [rc_8, kc_8_0, c_in σ 1 0 1 True (by decide), if_pos trivial, bi_ok, c_909, if_neg (by decide), bv_ok, if_neg (by decide), kc_8_25]
      · rw [rm_117, km_117_0, if_neg (by decide), if_pos rfl, km_117_10, km_117_15]
        rcases h with ⟨a1, a2, a3⟩ | ⟨a1, a2, a3⟩
        · rw [if_pos a1, km_117_32, km_117_51, a3]
        · rw [if_neg a1, if_pos (by decide), if_neg (by decide), km_117_51, a3]
    · refine ag_x (w := some (.int (-1))) ⟨_, rfl⟩ ?_ ?_
      · rw [rc_8, kc_8_0, c_in σ x 0 1 False (by
          rw [lz_eq] at z0 z1
          have z0 : ¬ (x.toInt = 0) := z0
          have z1 : ¬ (x.toInt = 1) := z1
          show ((0 : Int) ≤ x.toInt ∧ x.toInt ≤ 1) ↔ False
          omega), if_neg id, bi_ok, c_909, if_pos rfl, bv_up]
        rfl
      · rw [rm_117, km_117_0, if_neg z0, if_neg z1, km_117_15]
        by_cases a : τ.1 0 4 = 0
        · rw [if_pos a, km_117_32, km_117_51]
        · rw [if_neg a, if_neg (by decide), km_117_32, km_117_51]
