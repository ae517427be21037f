/-! the rest of what was given -/
theorem c_rst (x1 x2 x3 : Int32) {R : List vT} {kc : Nat} : ∀ (d k t : Nat) (σ : lj_S), k + d = R.length → (∀ j, j < R.length → cv σ (kc + j) = R.getD j (0, 0)) → σ.1 8 8 = Int32.ofNat t → σ.1 8 35 = Int32.ofNat (kc + R.length) → kc + R.length ≤ t → t + d < 325000 → lj_D lc_P lc_M139 673 [.ref 8, .int x1, .int x2, .int x3, .int (Int32.ofNat (kc + k)), .retAddr 0] [] σ = some (.inl (some (.int 1)), cPus σ t (R.drop k))
  | 0, k, t, σ, hk, hR, h8, h35, hb, ht => by
    rw [kc_139_673, h35, if_pos ((ofN_le (by omega) (by omega)).2 (by omega)), kc_139_1051, List.drop_eq_nil_iff.2 (by omega)]
    rfl
  | d + 1, k, t, σ, hk, hR, h8, h35, hb, ht => by
    have ii : lj_in (Int32.ofNat (kc + k)) 325000 := ofN_in (by omega) (by omega)
    have pu := c_push h8 (by omega) (cv σ (kc + k))
    have pu : lj_R lc_P 137 [.ref 8, .int (σ.1 79 (kc + k)), .long (σ.2 80 (kc + k))] σ = some (.inl none, cPu σ t (cv σ (kc + k))) := pu
    have ih := c_rst x1 x2 x3 (R := R) (kc := kc) d (k + 1) (t + 1) (cPu σ t (cv σ (kc + k))) (by omega) (fun j hj => by
      rw [← hR j hj]
      unfold cv
      rw [cPu_1, if_neg (by omega), if_neg (by omega), if_neg (by omega), cPu_2, if_neg (by omega)]) (by rw [cPu_1, if_pos ⟨rfl, rfl⟩]) (by rw [cPu_1, if_neg (by omega), if_neg (by omega), if_neg (by omega)]; exact h35) (by omega) (by omega)
    have el : R.drop k = cv σ (kc + k) :: R.drop (k + 1) := by
      rw [hR k (by omega), List.getD_eq_getElem?_getD, List.getElem?_eq_getElem (show k < R.length by omega)]
      exact List.drop_eq_getElem_cons _
    rw [kc_139_673, h35, if_neg (by rw [ofN_le (by omega) (by omega)]; omega), if_pos ii, if_pos ii, lz_onat (by omega), pu, bv_ok, lz_osucc, Nat.add_assoc, ih, el]
    rfl
theorem m_rst {p mq nn ms i : Nat} (A : Int32) {R : List vT} (hi : i < 1248) (hnn : nn < 1000) (hms : ms + R.length < 10000) : ∀ (d k me : Nat) (τ : lj_S) (x5 : Value), k + d = nn → mAt τ p me mq → τ.1 82 i = Int32.ofNat R.length → τ.1 80 i = Int32.ofNat ms → ms + R.length ≤ me → (∀ j, j < R.length → mv τ (10000 * p + (ms + j)) = R.getD j (0, 0)) → me + d < 10000 → lj_D lm_P lm_M156 18 [.ref 0, .int (Int32.ofNat i), .int A, .int (Int32.ofNat nn), .int (Int32.ofNat k), x5] [] τ = some (.inl none, mPus p τ me ((List.range d).map (fun j => R.getD (k + j) (0, 0))))
  | 0, k, me, τ, x5, hk, a, h82, h80, hb, hR, hm => by
    rw [km_156_18, if_pos ((ofN_le (by omega) (by omega)).2 (by omega))]
    rfl
  | d + 1, k, me, τ, x5, hk, a, h82, h80, hb, hR, hm => by
    have ii : lj_in (Int32.ofNat i) 1248 := ofN_in (by omega) (by omega)
    have ni : (Int32.ofNat i).toNatClampNeg = i := lz_onat (by omega)
    have pu := m_push a (by omega) (R.getD k (0, 0))
    have ih := fun x5 => m_rst (mq := mq) A (R := R) hi hnn hms d (k + 1) (me + 1) (mPu τ p me (R.getD k (0, 0))) x5 (by omega) (mAt_pu a (by omega) _) (by rw [mPu_1, if_neg (by omega), if_neg (by omega)]; exact h82) (by rw [mPu_1, if_neg (by omega), if_neg (by omega)]; exact h80) (by omega) (fun j hj => by
      rw [← hR j hj]
      unfold mv
      rw [mPu_1, if_neg (by omega), if_neg (by omega), mPu_2, if_neg (by omega)]) (by omega)
    have el : (List.range (d + 1)).map (fun j => R.getD (k + j) (0, 0)) = R.getD k (0, 0) :: (List.range d).map (fun j => R.getD (k + 1 + j) (0, 0)) := by
      rw [List.range_succ_eq_map, List.map_cons, List.map_map]
      congr 1
      refine List.map_congr_left (fun j _ => ?_)
      show R.getD (k + (j + 1)) (0, 0) = R.getD (k + 1 + j) (0, 0)
      congr 1
      omega
    have e82 : τ.1 82 (Int32.ofNat i).toNatClampNeg = Int32.ofNat R.length := by rw [ni]; exact h82
    rw [km_156_18, if_neg (by rw [ofN_le (by omega) (by omega)]; omega), if_pos ii, e82, el]
    by_cases z : R.length ≤ k
    · have gz : R.getD k (0, 0) = (0, 0) := by rw [List.getD_eq_getElem?_getD, List.getElem?_eq_none z]; rfl
      rw [gz] at pu ih ⊢
      have pu : lj_R lm_P 116 [.ref 0, .int 0, .long 0] τ = _ := pu
      rw [if_pos ((ofN_le (by omega) (by omega)).2 z), km_156_40, if_pos rfl, km_156_75, if_pos rfl, km_156_107, pu, bv_ok, lz_osucc, ih]
      rfl
    · have ev := hR k (by omega)
      have e80 : (10000 : Int32) * τ.1 0 111 + τ.1 80 (Int32.ofNat i).toNatClampNeg + Int32.ofNat k = Int32.ofNat (10000 * p + (ms + k)) := by
        rw [ni, h80, a.1, show (10000 : Int32) = Int32.ofNat 10000 from rfl, ← Int32.ofNat_mul, ← Int32.ofNat_add, ← Int32.ofNat_add, Nat.add_assoc]
      have p26 := a.2.1
      have ij : lj_in (Int32.ofNat (10000 * p + (ms + k))) 260000 := ofN_in (by omega) (by omega)
      rw [← ev] at pu ih ⊢
      have pu : lj_R lm_P 116 [.ref 0, .int (τ.1 71 (10000 * p + (ms + k))), .long (τ.2 72 (10000 * p + (ms + k)))] τ = _ := pu
      rw [if_neg (by rw [ofN_le (by omega) (by omega)]; exact z), km_156_40, if_neg (by decide), if_pos ii, e80, if_pos ij, lz_onat (by omega), km_156_75, if_neg (by decide), if_pos ii, e80, if_pos ij, lz_onat (by omega), km_156_107, pu, bv_ok, lz_osucc, ih]
      rfl
/-- the rest in the component, in the model -/
def rsK (σ : lj_S) (kc d : Nat) : List vT := (List.range d).map (fun j => cv σ (kc + j))
def rsN (τ : lj_S) (p ms d : Nat) : List vT := (List.range d).map (fun j => mv τ (10000 * p + (ms + j)))
theorem rsK_get (σ : lj_S) (kc d j : Nat) (h : j < d) : (rsK σ kc d).getD j (0, 0) = cv σ (kc + j) := by
  unfold rsK
  rw [List.getD_eq_getElem?_getD, List.getElem?_map, List.getElem?_range h]
  rfl
theorem rsN_get (τ : lj_S) (p ms d j : Nat) (h : j < d) : (rsN τ p ms d).getD j (0, 0) = mv τ (10000 * p + (ms + j)) := by
  unfold rsN
  rw [List.getD_eq_getElem?_getD, List.getElem?_map, List.getElem?_range h]
  rfl
theorem rsK_len (σ : lj_S) (kc d : Nat) : (rsK σ kc d).length = d := by unfold rsK; rw [List.length_map, List.length_range]
theorem rsN_len (τ : lj_S) (p ms d : Nat) : (rsN τ p ms d).length = d := by unfold rsN; rw [List.length_map, List.length_range]
/-- half-way: a mark lies on the stack of the component, and values -/
def hfS (σ : lj_S) (i ce : Nat) (G : List vT) : lj_S := cPus (cPu (lj_put σ 97 i (Int32.ofNat ce)) ce (9, (σ.1 97 i).toInt64)) (ce + 1) G
def hfw (σ σ1 : lj_S) (p i ce : Nat) (G : List vT) : Prop := lf (tqC p i ce) σ σ1 ∧ mkC σ1 i ce G.length (σ.1 97 i) ∧ (∀ k, k < G.length → cv σ1 (ce + 1 + k) = G.getD k (0, 0) ∧ σ1.1 81 (ce + 1 + k) = -1) ∧ σ1.1 94 i = σ.1 94 i ∧ σ1.1 81 ce = -1 ∧ ∀ j, σ1.1 81 j = σ.1 81 j ∨ σ1.1 81 j = -1
theorem hfw_mk {σ : lj_S} {p i ce : Nat} {G : List vT} (h34 : σ.1 8 34 = Int32.ofNat i) (hi : i < 520) (hp : p < 26) (hcb : ce + 1 + G.length < 12500 * p + 12500) : hfw σ (hfS σ i ce G) p i ce G := by
  have o := fun k j => cPus_o G (cPu (lj_put σ 97 i (Int32.ofNat ce)) ce (9, (σ.1 97 i).toInt64)) (ce + 1) k j
  refine ⟨tq_pus G (tq_pu (tq_97 (lf_rf _ _) _) _ (Nat.le_refl _) (by omega)) (by omega) (by omega), ⟨?_, ?_, ?_, ?_, (by omega), (by omega)⟩, fun k hk => cPus_v G _ (ce + 1) k hk, ?_, ?_, fun j => ?_⟩
  · exact cPus_8 G _ (ce + 1) (by rw [cPu_1, if_pos ⟨rfl, rfl⟩])
  · show (cPus _ _ _).1 _ _ = _
    rw [(o 8 34 (by omega) (by omega)).1, cPu_1, if_neg (by omega), if_neg (by omega), if_neg (by omega), lj_put_1, if_neg (by omega)]; exact h34
  · show (cPus _ _ _).1 _ _ = _
    rw [(o 97 _ (by omega) (by omega)).1, cPu_1, if_neg (by omega), if_neg (by omega), if_neg (by omega), lj_put_1, if_pos ⟨rfl, rfl⟩]
  · show (cPus _ _ _).2 _ _ = _
    rw [(o 80 ce (by omega) (by omega)).2, cPu_2, if_pos ⟨rfl, rfl⟩]
  · show (cPus _ _ _).1 _ _ = _
    rw [(o 94 _ (by omega) (by omega)).1, cPu_1, if_neg (by omega), if_neg (by omega), if_neg (by omega), lj_put_1, if_neg (by omega)]
  · show (cPus _ _ _).1 _ _ = _
    rw [(o 81 ce (by omega) (by omega)).1, cPu_1, if_neg (by omega), if_pos ⟨rfl, rfl⟩]
  · show (cPus _ _ _).1 _ _ = _ ∨ (cPus _ _ _).1 _ _ = _
    by_cases z : ce + 1 ≤ j ∧ j < ce + 1 + G.length
    · right
      have := (cPus_v G (cPu (lj_put σ 97 i (Int32.ofNat ce)) ce (9, (σ.1 97 i).toInt64)) (ce + 1) (j - (ce + 1)) (by omega)).2
      rw [show ce + 1 + (j - (ce + 1)) = j by omega] at this
      exact this
    · rw [(o 81 j (by omega) (by omega)).1]
      by_cases y : j = ce
      · right; rw [y, cPu_1, if_neg (by omega), if_pos ⟨rfl, rfl⟩]
      · left; rw [cPu_1, if_neg (by omega), if_neg (by omega), if_neg (by omega), lj_put_1, if_neg (by omega)]
/-- half-way, then one value is taken -/
theorem hf_tk1 {σ0 τ0 σ τ : lj_S} {n np p : Nat} {r : List Nat} {FP : Nat → List kF} {ρ : Nat → Nat} {A MO LA : List Nat} (h : MB σ0 τ0 n np p r FP ρ A MO LA σ τ) {F : kF} {L : List kF} (hF : FP p = F :: L) (h0 : kS F = 0) (rg : rgR σ τ) {ms ks ce me mq : Nat} (V : vw σ0 τ0 σ τ ρ FP p F L ms ks ce me mq) (hs : stF σ0 τ0) {G : List vT} {σ1 : lj_S} (hf : hfw σ σ1 p (20 * p + L.length) ce G) (k1 : σ0.1 22 (kY F).2.1 = 17) {nn : Nat} (w2 : gn σ0 τ0 nn ((kY F).1, (kY F).2.1 + 1, (kY F).2.2.1, 0 :: (kY F).2.2.2.1, (kY F).2.2.2.2.1, (kY F).2.2.2.2.2)) {w : vT} (hv : vR σ τ (G.getD 0 (0, 0)) w) : ∃ σ', (∀ v, goC v σ1 = goC v σ') ∧ MB σ0 τ0 n np p r (fpT FP p (kAt F ((kY F).1, (kY F).2.1 + 1, (kY F).2.2.1, 0 :: (kY F).2.2.2.1, (kY F).2.2.2.2.1, (kY F).2.2.2.2.2) (nn + 1) :: L)) ρ A MO LA σ' (mPu τ p me w) ∧ rgR σ' (mPu τ p me w) := by
  have B := V.bd
  obtain ⟨e2, e3, e4, e5, e6, e7⟩ := hf
  have e5' : σ1.1 94 (20 * p + L.length) = Int32.ofNat (kY F).2.1 := by rw [e5]; exact V.2.2.2.2.1.1.2.2.2.1
  obtain ⟨f1, f2, f3, f4, fA, fL, fK, f5⟩ := c_fq h hF h0 V hs k1 (by decide) e2 e5'
  have mk' : mkC (lj_put σ1 94 (20 * p + L.length) (Int32.ofNat ((kY F).2.1 + 1))) (20 * p + L.length) ce G.length (σ.1 97 (20 * p + L.length)) := by
    obtain ⟨a1, a2, a3, a4, a5, a6⟩ := e3
    exact ⟨by rw [lj_put_1, if_neg (by omega)]; exact a1, by rw [lj_put_1, if_neg (by omega)]; exact a2, by rw [lj_put_1, if_neg (by omega)]; exact a3, a4, a5, a6⟩
  have t1 := c_take1 mk'
  have ev : (if G.length = 0 then ((0, 0) : vT) else cv (lj_put σ1 94 (20 * p + L.length) (Int32.ofNat ((kY F).2.1 + 1))) (ce + 1)) = G.getD 0 (0, 0) := by
    rcases G with _ | ⟨g, G⟩
    · rfl
    · rw [if_neg (by simp), cv_p _ (by decide)]
      exact (e4 0 (by simp)).1
  rw [ev] at t1
  obtain ⟨g1, g2⟩ := h.pu hF h0 rg V V.st (σ1 := lj_put (lj_put (lj_put σ1 94 (20 * p + L.length) (Int32.ofNat ((kY F).2.1 + 1))) 97 (20 * p + L.length) (σ.1 97 (20 * p + L.length))) 8 8 (Int32.ofNat ce)) (τ1 := τ) (tq_88 (tq_97 (tq_94 e2 _) _) _) (lf_rf _ _) (by simp [lj_put_1, lj_putL_1]) (c' := (kY F).2.1 + 1) (m' := (kY F).2.2.1) (n' := nn + 1) (w' := 0) (by simp [lj_put_1, lj_putL_1]) V.2.2.2.2.1.2.1.2.2.2.1 V.at.2.2.2.2.1 (gn_ok w2) V.fl hv (Or.inr ⟨Nat.succ_ne_zero _, w2⟩) (fun z => absurd rfl z) (fun j => by simp [lj_put_1]; exact e7 j)
  refine ⟨_, go_step ?_ ?_, g1, g2⟩
  · rw [(e2 8 46 (tqC_f (sxC_f (by omega)) (by omega))).1]; exact rg.1
  · rw [ca_17 σ1 f1 f3 f4 fA fL fK, f2, lz_osucc, t1, bv_ok, kc_139_1051]
/-- half-way, then all become a row -/
theorem hf_row {σ0 τ0 σ τ : lj_S} {n np p : Nat} {r : List Nat} {FP : Nat → List kF} {ρ : Nat → Nat} {A MO LA : List Nat} (h : MB σ0 τ0 n np p r FP ρ A MO LA σ τ) {F : kF} {L : List kF} (hF : FP p = F :: L) (h0 : kS F = 0) (rg : rgR σ τ) {ms ks ce me mq : Nat} (V : vw σ0 τ0 σ τ ρ FP p F L ms ks ce me mq) (hs : stF σ0 τ0) {G G' : List vT} {σ1 : lj_S} (hf : hfw σ σ1 p (20 * p + L.length) ce G) (k1 : σ0.1 22 (kY F).2.1 = 18) {nn : Nat} (w2 : gn σ0 τ0 nn ((kY F).1, (kY F).2.1 + 1, (kY F).2.2.1, 5 :: (kY F).2.2.2.1, (kY F).2.2.2.2.1, (kY F).2.2.2.2.2)) (hl : G.length = G'.length) (hl2 : G.length ≤ 110) (hv : ∀ i, i < G.length → vR σ τ (G.getD i (0, 0)) (G'.getD i (0, 0))) (hcb : ce + 1 + G.length < 12500 * p + 12500) (hmb : me + G.length < 10000) : ∃ σ', (∀ v, goC v σ1 = goC v σ') ∧ MB σ0 τ0 n np p r (fpT FP p (kAt F ((kY F).1, (kY F).2.1 + 1, (kY F).2.2.1, 5 :: (kY F).2.2.2.1, (kY F).2.2.2.2.1, (kY F).2.2.2.2.2) (nn + 1) :: L)) ρ A MO LA σ' (mPus p τ me G') ∧ rgR σ' (mPus p τ me G') := by
  have B := V.bd
  obtain ⟨e2, e3, e4, e5, e6, e7⟩ := hf
  have e5' : σ1.1 94 (20 * p + L.length) = Int32.ofNat (kY F).2.1 := by rw [e5]; exact V.2.2.2.2.1.1.2.2.2.1
  obtain ⟨f1, f2, f3, f4, fA, fL, fK, f5⟩ := c_fq h hF h0 V hs k1 (by decide) e2 e5'
  have mk' : mkC (lj_put σ1 94 (20 * p + L.length) (Int32.ofNat ((kY F).2.1 + 1))) (20 * p + L.length) ce G.length (σ.1 97 (20 * p + L.length)) := by
    obtain ⟨a1, a2, a3, a4, a5, a6⟩ := e3
    exact ⟨by rw [lj_put_1, if_neg (by omega)]; exact a1, by rw [lj_put_1, if_neg (by omega)]; exact a2, by rw [lj_put_1, if_neg (by omega)]; exact a3, a4, a5, a6⟩
  obtain ⟨σ2, t1, sd⟩ := c_splice mk'
  have st1 := V.st
  obtain ⟨b1, b2, b3, _⟩ := stk_bd st1
  have fC : lf (tqC p (20 * p + L.length) ce) σ (lj_put σ2 8 8 (Int32.ofNat (ce + G.length))) := tq_88 (tq_sh (tq_97 (tq_94 e2 _) _) sd (Nat.le_refl _) (by omega)) _
  have gM : lf (tqM p (48 * p + L.length) me mq) τ (mPus p τ me G') := tm_pus _ (lf_rf _ _) (Nat.le_refl _) (by omega)
  have vr := tp_vR (tq_tp b1 fC) (tq_tpM b2 b3 gM)
  have s81 : ∀ j, (lj_put σ2 8 8 (Int32.ofNat (ce + G.length))).1 81 j = σ1.1 81 j := fun j => by
    rw [lj_put_1, if_neg (by omega), (sd.2 81 j (by unfold sdC; simp)).1, lj_put_1, if_neg (by omega), lj_put_1, if_neg (by omega)]
  obtain ⟨g1, g2⟩ := h.tp hF h0 rg V b1 b2 b3 fC gM st1 (Nat.le_refl _) (Nat.le_refl _) (Nat.le_refl _) V.fl (s' := 5 :: (kY F).2.2.2.1) (ce' := ce + G.length) (me' := me + G.length) (mq' := mq) (fun z => by
      have e97 : (lj_put σ2 8 8 (Int32.ofNat (ce + G.length))).1 97 (20 * p + L.length) = σ.1 97 (20 * p + L.length) := by rw [lj_put_1, if_neg (by omega), (sd.2 97 _ (by unfold sdC; simp)).1, lj_put_1, if_pos ⟨rfl, rfl⟩]
      rw [e97]
      refine stk_p5 z hl2 (fun i hi => ⟨?_, ?_⟩)
      · have v1 : cv (lj_put σ2 8 8 (Int32.ofNat (ce + G.length))) (ce + i) = G.getD i (0, 0) := by
          rw [cv_p _ (by decide), sd.1 (ce + i) (by omega) (by omega), cv_p _ (by decide), cv_p _ (by decide), show ce + i + 1 = ce + 1 + i by omega]
          exact (e4 i hi).1
        have v2 := mPus_v p G' τ me i (by omega)
        rw [v1, v2]
        exact (hv i hi).cg vr.1 vr.2
      · rw [s81]
        by_cases y : i = 0
        · rw [y]; exact e6
        · have := (e4 (i - 1) (by omega)).2
          rw [show ce + 1 + (i - 1) = ce + i by omega] at this
          exact this) (c' := (kY F).2.1 + 1) (m' := (kY F).2.2.1) (by rw [lj_put_1, if_neg (by omega), (sd.2 94 _ (by unfold sdC; simp)).1, lj_put_1, if_neg (by omega), lj_put_1, if_pos ⟨rfl, rfl⟩]) (by rw [(mPus_o p _ _ _ 77 _ (by omega) (by omega)).1]; exact V.2.2.2.2.1.2.1.2.2.2.1) (by simp [lj_put_1, lj_putL_1]) (by rw [mPus_63 p _ _ _ V.at.2.2.1, hl]) (by rw [(mPus_o p _ _ _ 64 _ (by omega) (by omega)).1]; exact V.at.2.2.2.2.1) (gn_ok w2) (by rw [flo_c (by decide)]; exact V.fl) (n' := nn + 1) (Or.inr ⟨Nat.succ_ne_zero _, w2⟩) (fun j => by rw [s81]; exact e7 j)
  refine ⟨_, go_step ?_ ?_, g1, g2⟩
  · rw [(e2 8 46 (tqC_f (sxC_f (by omega)) (by omega))).1]; exact rg.1
  · rw [ca_18 σ1 f1 f3 f4 fA fL fK, f2, lz_osucc, t1, bv_ok, kc_139_1051]
