/-! what is built in: a part stops -/
theorem prt_ks {σ0 τ0 σ τ : lj_S} {ρ : Nat → Nat} {p : Nat} : ∀ {L : List kF} {ce me mq : Nat}, prt σ0 τ0 σ τ ρ p L ce me mq → (∀ i, i < L.length → (σ.1 91 (20 * p + i) = 2 ↔ τ.1 74 (48 * p + i) = 2)) ∧ ((∀ i, i < L.length → σ.1 91 (20 * p + i) ≠ 2) → ∀ F ∈ L, kS F ≠ 2)
  | [], _, _, _, _ => ⟨fun i hi => absurd hi (Nat.not_lt_zero _), fun _ F hF => by cases hF⟩
  | F :: L, ce, me, mq, h => by
    obtain ⟨ms, ks, h1, h2, _⟩ := h
    obtain ⟨i1, i2⟩ := prt_ks h1
    have k : (σ.1 91 (20 * p + L.length) = 2 ↔ τ.1 74 (48 * p + L.length) = 2) ∧ (kS F = 2 → σ.1 91 (20 * p + L.length) = 2) := by
      rcases h2.2 with ⟨z, t⟩ | ⟨z, w1, w2, _⟩
      · have t1 := t.1.1
        have t2 := t.2.1.1
        rw [t1, t2]
        exact ⟨⟨fun y => absurd y (by decide), fun y => absurd y (by decide)⟩, fun y => by omega⟩
      · rw [w1, w2]
        exact ⟨Iff.rfl, fun y => by rw [y]; rfl⟩
    refine ⟨fun i hi => ?_, fun w G hG => ?_⟩
    · rw [List.length_cons] at hi
      by_cases z : i = L.length
      · rw [z]; exact k.1
      · exact i1 i (by omega)
    · rcases List.mem_cons.1 hG with e | e
      · rw [e]
        exact fun z => w L.length (by rw [List.length_cons]; omega) (k.2 z)
      · exact i2 (fun i hi => w i (by rw [List.length_cons]; omega)) G e
/-- is none of the frames a gathering? -/
def scn (f : Nat → Int32) : Int32 → Nat → Nat → Int32
  | x, _, 0 => x
  | x, i, d + 1 => scn f (if x = 0 then 0 else if f i = 2 then 0 else 1) (i + 1) d
theorem scn_eq {f g : Nat → Int32} {N : Nat} (h : ∀ j, j < N → (f j = 2 ↔ g j = 2)) : ∀ (d i : Nat) (x : Int32), i + d = N → scn f x i d = scn g x i d
  | 0, _, _, _ => rfl
  | d + 1, i, x, hd => by
    unfold scn
    have e : (if f i = 2 then (0 : Int32) else 1) = if g i = 2 then 0 else 1 := by
      by_cases z : f i = 2
      · rw [if_pos z, if_pos ((h i (by omega)).1 z)]
      · rw [if_neg z, if_neg (fun y => z ((h i (by omega)).2 y))]
    rw [e]
    exact scn_eq h d (i + 1) _ (by omega)
theorem scn_s {x : Int32} (f : Nat → Int32) (i : Nat) : (if x = 0 then (0 : Int32) else if f i = 2 then 0 else 1) = 0 ∨ (if x = 0 then (0 : Int32) else if f i = 2 then 0 else 1) = 1 := by
  split
  · exact Or.inl rfl
  · split
    · exact Or.inl rfl
    · exact Or.inr rfl
theorem scn_1 {f : Nat → Int32} : ∀ (d i : Nat) (x : Int32), scn f x i d ≠ 0 → x ≠ 0 ∧ ∀ j, i ≤ j → j < i + d → f j ≠ 2
  | 0, _, _, h => ⟨h, fun j h1 h2 => by omega⟩
  | d + 1, i, x, h => by
    obtain ⟨a, b⟩ := scn_1 d (i + 1) _ h
    have x0 : x ≠ 0 := fun z => a (if_pos z)
    rw [if_neg x0] at a
    refine ⟨x0, fun j h1 h2 => ?_⟩
    by_cases z : j = i
    · rw [z]
      exact fun y => a (if_pos y)
    · exact b j (by omega) (by omega)
theorem c_scnf {σ : lj_S} {p N : Nat} (h7 : σ.1 8 7 = Int32.ofNat p) (hp : p < 26) (h90 : σ.1 90 p = Int32.ofNat N) (hN : N ≤ 20) (x1 x2 : Int32) : ∀ (d i : Nat) (x3 : Int32), i + d = N → lj_D lc_P lc_M197 16 [.ref 8, .int x1, .int x2, .int x3, .int (Int32.ofNat i), .retAddr 0] [] σ = lj_D lc_P lc_M197 16 [.ref 8, .int x1, .int x2, .int (scn (fun j => σ.1 91 (20 * p + j)) x3 i d), .int (Int32.ofNat N), .retAddr 0] [] σ
  | 0, i, x3, hd => by
    rw [show i = N by omega]
    rfl
  | d + 1, i, x3, hd => by
    have i7 : lj_in (σ.1 8 7) 26 := by rw [h7]; exact ofN_in (by omega) (by omega)
    have n7 : (σ.1 8 7).toNatClampNeg = p := by rw [h7]; exact lz_onat (by omega)
    have c : ¬ (σ.1 90 (σ.1 8 7).toNatClampNeg ≤ Int32.ofNat i) := by rw [n7, h90, lz_le, lz_lit (by omega), lz_lit (by omega)]; omega
    have e2 : σ.1 8 7 * 20 + Int32.ofNat i = Int32.ofNat (20 * p + i) := by
      rw [h7, show (20 : Int32) = Int32.ofNat 20 from rfl, ← Int32.ofNat_mul, ← Int32.ofNat_add, Nat.mul_comm]
    have ii : lj_in (Int32.ofNat (20 * p + i)) 520 := ofN_in (by omega) (by omega)
    have ni : (Int32.ofNat (20 * p + i)).toNatClampNeg = 20 * p + i := lz_onat (by omega)
    refine Eq.trans ?_ (c_scnf h7 hp h90 hN x1 x2 d (i + 1) (if x3 = 0 then 0 else if σ.1 91 (20 * p + i) = 2 then 0 else 1) (by omega))
    rw [kc_197_16 _ _ _ (Int32.ofNat i), if_pos i7, if_neg c]
    by_cases z : x3 = 0
    · rw [if_pos z, if_pos z, kc_197_57, kc_197_58, lz_osucc]
    · rw [if_neg z, if_neg z, rc_130, kc_130_0, bi_ok, e2, if_pos ii]
      by_cases y : σ.1 91 (20 * p + i) = 2
      · rw [if_pos (by rw [ni]; exact y), if_pos y, kc_197_57, kc_197_58, lz_osucc]
      · rw [if_neg (by rw [ni]; exact y), if_neg y, kc_197_58, lz_osucc]
theorem m_scnf {τ : lj_S} {p N : Nat} (h111 : τ.1 0 111 = Int32.ofNat p) (hp : p < 26) (h62 : τ.1 62 p = Int32.ofNat N) (hN : N ≤ 20) : ∀ (d i : Nat) (x : Int32), i + d = N → lj_D lm_P lm_M235 15 [.ref 0, .int x, .int (Int32.ofNat i)] [] τ = lj_D lm_P lm_M235 15 [.ref 0, .int (scn (fun j => τ.1 74 (48 * p + j)) x i d), .int (Int32.ofNat N)] [] τ
  | 0, i, x, hd => by
    rw [show i = N by omega]
    rfl
  | d + 1, i, x, hd => by
    have i7 : lj_in (τ.1 0 111) 26 := by rw [h111]; exact ofN_in (by omega) (by omega)
    have n7 : (τ.1 0 111).toNatClampNeg = p := by rw [h111]; exact lz_onat (by omega)
    have c : ¬ (τ.1 62 (τ.1 0 111).toNatClampNeg ≤ Int32.ofNat i) := by rw [n7, h62, lz_le, lz_lit (by omega), lz_lit (by omega)]; omega
    have e2 : 48 * (τ.1 0 111) + Int32.ofNat i = Int32.ofNat (48 * p + i) := by
      rw [h111, show (48 : Int32) = Int32.ofNat 48 from rfl, ← Int32.ofNat_mul, ← Int32.ofNat_add]
    have ii : lj_in (48 * (τ.1 0 111) + Int32.ofNat i) 1248 := by rw [e2]; exact ofN_in (by omega) (by omega)
    have ni : (48 * (τ.1 0 111) + Int32.ofNat i).toNatClampNeg = 48 * p + i := by rw [e2]; exact lz_onat (by omega)
    refine Eq.trans ?_ (m_scnf h111 hp h62 hN d (i + 1) (if x = 0 then 0 else if τ.1 74 (48 * p + i) = 2 then 0 else 1) (by omega))
    rw [km_235_15 _ (Int32.ofNat i), if_pos i7, if_neg c]
    by_cases z : x = 0
    · rw [if_pos z, if_pos z, km_235_54, km_235_55, lz_osucc]
    · rw [if_neg z, if_neg z, if_pos ii]
      by_cases y : τ.1 74 (48 * p + i) = 2
      · rw [if_pos (by rw [ni]; exact y), if_pos y, km_235_54, km_235_55, lz_osucc]
      · rw [if_neg (by rw [ni]; exact y), if_neg y, km_235_55, lz_osucc]
/-- what was given is given back -/
theorem tk_one : ∀ (G : List vT) (i : Nat), i < G.length → G.take (i + 1) = G.take i ++ [G.getD i (0, 0)]
  | [], _, h => absurd h (Nat.not_lt_zero _)
  | _ :: _, 0, _ => rfl
  | a :: G, i + 1, h => by
    show a :: G.take (i + 1) = a :: (G.take i ++ [G.getD i (0, 0)])
    rw [tk_one G i (Nat.lt_of_succ_lt_succ h)]
theorem c_cp {Φ : Int32 → lj_S → Option lj_O} {G : List vT} (hl : G.length ≤ 100) (hΦ : ∀ (x : Int32) (s : lj_S), lj_in x 128 → ¬ (s.1 8 38 ≤ x) → Φ x s = lj_bv (lj_R lc_P 143 [.ref 8, .int (s.1 105 x.toNatClampNeg), .long (s.2 106 x.toNatClampNeg)] s) (fun s2 => Φ (x + 1) s2) lj_up) : ∀ (d i : Nat) (σ : lj_S), i + d = G.length → gvC σ G → rsC σ (G.take i) → ∃ σ', Φ (Int32.ofNat i) σ = Φ (Int32.ofNat G.length) σ' ∧ rsC σ' G ∧ gvC σ' G ∧ lf rtC σ σ'
  | 0, i, σ, hd, hG, hr => ⟨σ, by rw [show i = G.length by omega], by rw [List.take_of_length_le (by omega)] at hr; exact hr, hG, lf_rf _ _⟩
  | d + 1, i, σ, hd, hG, hr => by
    have ii : lj_in (Int32.ofNat i) 128 := ofN_in (by omega) (by omega)
    have ni : (Int32.ofNat i).toNatClampNeg = i := lz_onat (by omega)
    have c : ¬ (σ.1 8 38 ≤ Int32.ofNat i) := fun z => by
      rw [lz_le, lz_lit (by omega)] at z
      have := hG.1
      unfold lv at this
      rw [this] at z
      omega
    obtain ⟨σ1, a1, a2, a3⟩ := c_gives hr (by rw [List.length_take]; omega) (G.getD i (0, 0))
    rw [← tk_one G i (by omega)] at a2
    have gi := hG.2 i (by omega)
    rw [← gi] at a1
    have a1 : lj_R lc_P 143 [.ref 8, .int (σ.1 105 i), .long (σ.2 106 i)] σ = some (.inl none, σ1) := a1
    have g1 : gvC σ1 G := ⟨by unfold lv; rw [(a3 8 38 rfl).1]; exact hG.1, fun j hj => by rw [(a3 105 j rfl).1, (a3 106 j rfl).2]; exact hG.2 j hj⟩
    obtain ⟨σ', b1, b2, b3, b4⟩ := c_cp hl hΦ d (i + 1) σ1 (by omega) g1 a2
    refine ⟨σ', ?_, b2, b3, a3.tr b4⟩
    rw [hΦ _ _ ii c, ni, a1, bv_ok, lz_osucc]
    exact b1
theorem m_cp {Φ : Int32 → lj_S → Option lj_O} {G : List vT} (hl : G.length ≤ 100) (hΦ : ∀ (x : Int32) (s : lj_S), lj_in x 128 → ¬ (s.1 0 137 ≤ x) → Φ x s = Φ (x + 1) (lj_putL (lj_put s 90 x.toNatClampNeg (s.1 88 x.toNatClampNeg)) 91 x.toNatClampNeg (s.2 89 x.toNatClampNeg))) : ∀ (d i : Nat) (τ : lj_S), i + d = G.length → gvM τ G → (∀ j, j < i → (τ.1 90 j, τ.2 91 j) = G.getD j (0, 0)) → ∃ τ', Φ (Int32.ofNat i) τ = Φ (Int32.ofNat G.length) τ' ∧ (∀ j, j < G.length → (τ'.1 90 j, τ'.2 91 j) = G.getD j (0, 0)) ∧ ∀ k j, k ≠ 90 → k ≠ 91 → τ'.1 k j = τ.1 k j ∧ τ'.2 k j = τ.2 k j
  | 0, i, τ, hd, hG, hr => ⟨τ, by rw [show i = G.length by omega], fun j hj => hr j (by omega), fun _ _ _ _ => ⟨rfl, rfl⟩⟩
  | d + 1, i, τ, hd, hG, hr => by
    have ii : lj_in (Int32.ofNat i) 128 := ofN_in (by omega) (by omega)
    have ni : (Int32.ofNat i).toNatClampNeg = i := lz_onat (by omega)
    have c : ¬ (τ.1 0 137 ≤ Int32.ofNat i) := fun z => by
      rw [lz_le, lz_lit (by omega)] at z
      have := hG.1
      unfold lv at this
      rw [this] at z
      omega
    have o : ∀ k j, k ≠ 90 → k ≠ 91 → (lj_putL (lj_put τ 90 i (τ.1 88 i)) 91 i (τ.2 89 i)).1 k j = τ.1 k j ∧ (lj_putL (lj_put τ 90 i (τ.1 88 i)) 91 i (τ.2 89 i)).2 k j = τ.2 k j := fun k j z1 z2 => ⟨by rw [lj_putL_1, lj_put_1, if_neg (by omega)], by rw [lj_putL_2, if_neg (by omega)]; rfl⟩
    obtain ⟨τ', b1, b2, b3⟩ := m_cp hl hΦ d (i + 1) (lj_putL (lj_put τ 90 i (τ.1 88 i)) 91 i (τ.2 89 i)) (by omega) ⟨by unfold lv; rw [(o 0 137 (by omega) (by omega)).1]; exact hG.1, fun j hj => by rw [(o 88 j (by omega) (by omega)).1, (o 89 j (by omega) (by omega)).2]; exact hG.2 j hj⟩ (fun j hj => by
      rw [lj_putL_1, lj_put_1, lj_putL_2]
      by_cases z : j = i
      · rw [if_pos ⟨rfl, z⟩, if_pos ⟨rfl, z⟩, z]
        exact hG.2 i (by omega)
      · rw [if_neg (by omega), if_neg (by omega)]
        exact hr j (by omega))
    refine ⟨τ', ?_, b2, fun k j z1 z2 => ⟨(b3 k j z1 z2).1.trans (o k j z1 z2).1, (b3 k j z1 z2).2.trans (o k j z1 z2).2⟩⟩
    rw [hΦ _ _ ii c, ni, lz_osucc]
    exact b1
/-- the component leaves a part -/
theorem c_leave {σ : lj_S} {p q' l N : Nat} (h7 : σ.1 8 7 = Int32.ofNat p) (hp : p < 26) (hq : q' < 26) (pq : p ≠ q') (h84 : σ.1 84 p = Int32.ofNat q') (h18 : σ.1 8 18 = Int32.ofNat (l + 1)) (h90 : σ.1 90 q' = Int32.ofNat N) (hN : N ≤ 20) : ∃ σ', lj_R lc_P 198 [.ref 8] σ = some (.inl none, σ') ∧ (σ'.1 8 7 = Int32.ofNat q' ∧ σ'.1 8 18 = Int32.ofNat l ∧ σ'.1 83 q' = 2 ∧ σ'.1 8 8 = σ.1 82 q' ∧ σ'.1 82 p = σ.1 8 8) ∧ (σ'.1 8 34 = (if N = 0 then -1 else Int32.ofNat (20 * q' + (N - 1))) ∧ σ'.1 8 35 = (if N = 0 then 0 else σ.1 96 (20 * q' + (N - 1)))) ∧ ∀ k j, ¬ (k = 82 ∧ j = p) → ¬ (k = 83 ∧ j = q') → ¬ (k = 8 ∧ (j = 7 ∨ j = 8 ∨ j = 18 ∨ j = 34 ∨ j = 35)) → σ'.1 k j = σ.1 k j ∧ σ'.2 k j = σ.2 k j := by
  have i7 : lj_in (σ.1 8 7) 26 := by rw [h7]; exact ofN_in (by omega) (by omega)
  have n7 : (σ.1 8 7).toNatClampNeg = p := by rw [h7]; exact lz_onat (by omega)
  have q84 : lj_in (Int32.ofNat q') 26 := ofN_in (by omega) (by omega)
  have nq : (Int32.ofNat q').toNatClampNeg = q' := lz_onat (by omega)
  have e18 : σ.1 8 18 - 1 = Int32.ofNat l := by rw [h18]; exact lz_pred' _
  obtain ⟨σb, hσb⟩ : ∃ σb, σb = lj_put (lj_put (lj_put (lj_put (lj_put σ 82 p (σ.1 8 8)) 8 18 (Int32.ofNat l)) 8 7 (Int32.ofNat q')) 83 q' 2) 8 8 (σ.1 82 q') := ⟨_, rfl⟩
  have ob : ∀ k j, ¬ (k = 82 ∧ j = p ∨ k = 8 ∧ (j = 18 ∨ j = 7 ∨ j = 8) ∨ k = 83 ∧ j = q') → σb.1 k j = σ.1 k j ∧ σb.2 k j = σ.2 k j := fun k j z => by
    rw [hσb]
    exact ⟨by rw [lj_put_1, if_neg (by omega), lj_put_1, if_neg (by omega), lj_put_1, if_neg (by omega), lj_put_1, if_neg (by omega), lj_put_1, if_neg (by omega)], rfl⟩
  have sf := c_setF (σ := σb) (p := q') (l := N) (by rw [hσb]; exact (by simp [lj_put_1, lj_putL_1])) hq (by rw [(ob 90 q' (by omega)).1]; exact h90) hN
  have c96 : σb.1 96 (20 * q' + (N - 1)) = σ.1 96 (20 * q' + (N - 1)) := (ob 96 _ (by omega)).1
  rw [c96] at sf
  obtain ⟨σc, hσc⟩ : ∃ σc, σc = (if N = 0 then lj_put (lj_put σb 8 34 (-1)) 8 35 0 else lj_put (lj_put σb 8 34 (Int32.ofNat (20 * q' + (N - 1)))) 8 35 (σ.1 96 (20 * q' + (N - 1)))) := ⟨_, rfl⟩
  rw [← hσc] at sf
  have oc : ∀ k j, ¬ (k = 8 ∧ (j = 34 ∨ j = 35)) → σc.1 k j = σb.1 k j ∧ σc.2 k j = σb.2 k j := fun k j z => by
    rw [hσc]
    by_cases y : N = 0
    · rw [if_pos y, lj_put_1, if_neg (by omega), lj_put_1, if_neg (by omega)]
      exact ⟨rfl, rfl⟩
    · rw [if_neg y, lj_put_1, if_neg (by omega), lj_put_1, if_neg (by omega)]
      exact ⟨rfl, rfl⟩
  have a82 : (lj_put σ 82 p (σ.1 8 8)).1 82 q' = σ.1 82 q' := by rw [lj_put_1, if_neg (by omega)]
  refine ⟨σc, ?_, ⟨by rw [(oc 8 7 (by omega)).1, hσb]; exact (by simp [lj_put_1, lj_putL_1]), by rw [(oc 8 18 (by omega)).1, hσb]; exact (by simp [lj_put_1, lj_putL_1]), by rw [(oc 83 q' (by omega)).1, hσb]; exact (by simp [lj_put_1, lj_putL_1]), by rw [(oc 8 8 (by omega)).1, hσb]; exact (by simp [lj_put_1, lj_putL_1]), by rw [(oc 82 p (by omega)).1, hσb]; exact (by simp [lj_put_1, lj_putL_1])⟩, ⟨?_, ?_⟩, fun k j z1 z2 z3 => ?_⟩
  · rw [rc_198, kc_198_0, if_pos i7, if_pos i7, n7, h84, if_pos q84, if_pos q84, nq, a82, e18, ← hσb, sf, bv_ok]
  · rw [hσc]
    by_cases y : N = 0
    · rw [if_pos y, if_pos y]; exact (by simp [lj_put_1, lj_putL_1])
    · rw [if_neg y, if_neg y]; exact (by simp [lj_put_1, lj_putL_1])
  · rw [hσc]
    by_cases y : N = 0
    · rw [if_pos y, if_pos y]; exact (by simp [lj_put_1, lj_putL_1])
    · rw [if_neg y, if_neg y]; exact (by simp [lj_put_1, lj_putL_1])
  · obtain ⟨u1, u2⟩ := oc k j (by omega)
    obtain ⟨v1, v2⟩ := ob k j (by omega)
    exact ⟨u1.trans v1, u2.trans v2⟩
/-- the model leaves a part -/
theorem m_leave {τ : lj_S} {p q' : Nat} (h111 : τ.1 0 111 = Int32.ofNat p) (hp : p < 26) (hq : q' < 26) (h66 : τ.1 66 p = Int32.ofNat q') {G : List vT} (hm : rsM τ G) (hl : G.length < 120) (g : Int32) : ∃ τ', lj_R lm_P 180 [.ref 0, .int g] τ = some (.inl none, τ') ∧ rsM τ' ((1, if g = 0 then 0 else 1) :: G) ∧ (τ'.1 0 111 = Int32.ofNat q' ∧ τ'.1 58 q' = 2 ∧ τ'.1 0 130 = τ.1 67 p ∧ τ'.1 0 131 = τ.1 68 p ∧ τ'.1 0 129 = 1) ∧ ∀ k j, ¬ (k = 58 ∧ j = q') → ¬ (k = 90 ∨ k = 91) → ¬ (k = 0 ∧ (j = 111 ∨ 129 ≤ j ∧ j ≤ 131 ∨ j = 140)) → τ'.1 k j = τ.1 k j ∧ τ'.2 k j = τ.2 k j := by
  have i111 : lj_in (τ.1 0 111) 26 := by rw [h111]; exact ofN_in (by omega) (by omega)
  have n111 : (τ.1 0 111).toNatClampNeg = p := by rw [h111]; exact lz_onat (by omega)
  have q84 : lj_in (Int32.ofNat q') 26 := ofN_in (by omega) (by omega)
  have nq : (Int32.ofNat q').toNatClampNeg = q' := lz_onat (by omega)
  obtain ⟨τb, p1, p2, p3⟩ := m_first hm (by omega) g
  have mb : ∀ k j, ¬ (k = 90 ∨ k = 91 ∨ k = 0 ∧ j = 140) → τb.1 k j = τ.1 k j ∧ τb.2 k j = τ.2 k j := fun k j z => p3 k j (by unfold rtM; simp; omega)
  obtain ⟨τ2, hτ2⟩ : ∃ τ2, τ2 = lj_put (lj_put (lj_put (lj_put (lj_put τb 0 111 (Int32.ofNat q')) 58 q' 2) 0 130 (τ.1 67 p)) 0 131 (τ.1 68 p)) 0 129 1 := ⟨_, rfl⟩
  have m2 : ∀ k j, ¬ (k = 58 ∧ j = q' ∨ k = 0 ∧ (j = 111 ∨ j = 129 ∨ j = 130 ∨ j = 131)) → τ2.1 k j = τb.1 k j ∧ τ2.2 k j = τb.2 k j := fun k j z => by
    rw [hτ2]
    exact ⟨by rw [lj_put_1, if_neg (by omega), lj_put_1, if_neg (by omega), lj_put_1, if_neg (by omega), lj_put_1, if_neg (by omega), lj_put_1, if_neg (by omega)], rfl⟩
  have b66 : τb.1 66 p = Int32.ofNat q' := by rw [(mb 66 p (by omega)).1]; exact h66
  have b67 : τb.1 67 p = τ.1 67 p := (mb 67 p (by omega)).1
  have b68 : τb.1 68 p = τ.1 68 p := (mb 68 p (by omega)).1
  refine ⟨τ2, ?_, ⟨?_, fun j hj => ?_⟩, ⟨by rw [hτ2]; exact (by simp [lj_put_1, lj_putL_1]), by rw [hτ2]; exact (by simp [lj_put_1, lj_putL_1]), by rw [hτ2]; exact (by simp [lj_put_1, lj_putL_1]), by rw [hτ2]; exact (by simp [lj_put_1, lj_putL_1]), by rw [hτ2]; exact (by simp [lj_put_1, lj_putL_1])⟩, fun k j z1 z2 z3 => ?_⟩
  · rw [rm_180, km_180_0, p1, bv_ok, if_pos i111, if_pos (show lj_in (τb.1 66 (τ.1 0 111).toNatClampNeg) 26 by rw [n111, b66]; exact q84), if_pos i111, if_pos i111, n111, b66, b67, b68, nq, hτ2]
  · unfold lv
    rw [(m2 0 140 (by omega)).1]
    exact p2.1
  · rw [(m2 90 j (by omega)).1, (m2 91 j (by omega)).2]
    exact p2.2 j hj
  · obtain ⟨u1, u2⟩ := m2 k j (by omega)
    obtain ⟨v1, v2⟩ := mb k j (by omega)
    exact ⟨u1.trans v1, u2.trans v2⟩
theorem gL_0 {p : Nat} : ∀ {L : List kF}, (∀ F ∈ L, kS F ≠ 2) → gL p L = []
  | [], _ => rfl
  | F :: L, h => by
    unfold gL
    rw [if_neg (h F List.mem_cons_self)]
    exact gL_0 (fun G hG => h G (List.mem_cons_of_mem _ hG))
theorem bi_28 {σ0 τ0 σ τ : lj_S} {n np p : Nat} {r : List Nat} {FP : Nat → List kF} {ρ : Nat → Nat} {A MO LA : List Nat} {M : Nat} (D : DLV σ0 τ0 M) (h : MB σ0 τ0 n np p r FP ρ A MO LA σ τ) (ry : ryR σ τ) (hwk : wkR FP (p :: r) A σ) {as line : Int32} (ht : τ.1 0 129 = 1) (ha : awR σ0 (FP p) as (τ.1 0 130) (τ.1 0 131)) (hln : τ.1 0 132 = line) {G G' : List vT} (hG : gwR σ τ G G') (hGl : G.length ≤ 49) (hM : thM FP (p :: r) MO LA + 5001 ≤ M) {X : Nat} (hX : X ≤ TH) (hT : thM FP (p :: r) MO LA + 5001 ≤ X) : ∃ τ1, lj_R lm_P 187 [.ref 0, .int 28] τ = some (.inl none, τ1) ∧ ocR σ0 τ0 A (fun t => t ≤ X) σ τ1 (lj_R lc_P 159 [.ref 8, .int 28, .int as, .int line] σ) := by
  have h7 := h.2.2.2.2.2.2.1
  have hp : p ≤ np := h7.2.2.2.2.2.1 p List.mem_cons_self
  have np25 := h7.1.2.2
  obtain ⟨ce, me, mq, pa⟩ := h.2.2.2.2.2.2.2.1 p hp (by rw [h7.2.2.1.2]; decide)
  obtain ⟨pr, ⟨t1, t2, t3, t4⟩, t8, t90, t63, t64, t62, t65⟩ := pa
  obtain ⟨k1, k2⟩ := prt_ks pr
  obtain ⟨N, hN⟩ : ∃ N, N = (FP p).length := ⟨_, rfl⟩
  rw [← hN] at t1 t90 t62 t65 k1 k2
  have b1 := h7.2.1.1
  have b2 := h7.2.1.2
  have i7 : lj_in (σ.1 8 7) 26 := by rw [b1]; exact ofN_in (by omega) (by omega)
  have n7 : (σ.1 8 7).toNatClampNeg = p := by rw [b1]; exact lz_onat (by omega)
  have i111 : lj_in (τ.1 0 111) 26 := by rw [b2]; exact ofN_in (by omega) (by omega)
  have n111 : (τ.1 0 111).toNatClampNeg = p := by rw [b2]; exact lz_onat (by omega)
  obtain ⟨x0, hx0⟩ : ∃ x : Int32, x = if p = 0 then 0 else 1 := ⟨_, rfl⟩
  obtain ⟨K, hK⟩ : ∃ K, K = scn (fun j => σ.1 91 (20 * p + j)) x0 0 N := ⟨_, rfl⟩
  have rM : ∀ {τx : lj_S}, lj_D lm_P lm_M235 15 [.ref 0, .int K, .int (Int32.ofNat N)] [] τ = some (.inl none, τx) → lj_R lm_P 187 [.ref 0, .int 28] τ = some (.inl none, τx) := fun e => mb_more (by decide) (by
    have s1 : lj_R lm_P 235 [.ref 0] τ = lj_D lm_P lm_M235 15 [.ref 0, .int x0, .int (Int32.ofNat 0)] [] τ := by
      rw [rm_235, km_235_0, hx0]
      by_cases z : p = 0
      · rw [if_pos (by rw [b2, z]; decide), if_pos z, km_235_12]
        rfl
      · rw [if_neg (by rw [b2, lz_le, lz_lit (by omega)]; show ¬ ((p : Int) ≤ 0); omega), if_neg z, km_235_12]
        rfl
    rw [rm_221, km_221_0, if_neg (by decide), if_neg (by decide), if_neg (by decide), if_neg (by decide), if_neg (by decide), if_neg (by decide), if_neg (by decide), if_neg (by decide), if_neg (by decide), if_neg (by decide), if_neg (by decide), if_pos rfl, s1, m_scnf b2 (by omega) t62 t1 N 0 x0 (by omega), ← scn_eq k1 N 0 x0 (by omega), ← hK, e, bv_ok, km_221_215])
  have rC : ∀ {x : Option lj_O}, lj_D lc_P lc_M197 16 [.ref 8, .int line, .int as, .int K, .int (Int32.ofNat N), .retAddr 0] [] σ = x → lj_R lc_P 159 [.ref 8, .int 28, .int as, .int line] σ = finC (finC x) := fun e => by
    have s1 : lj_R lc_P 197 [.ref 8, .int line, .int as] σ = lj_D lc_P lc_M197 16 [.ref 8, .int line, .int as, .int x0, .int (Int32.ofNat 0), .retAddr 0] [] σ := by
      rw [rc_197, kc_197_0, hx0]
      by_cases z : p = 0
      · rw [if_pos (by rw [b1, z]; rfl), if_pos z, kc_197_12]
        rfl
      · rw [if_neg (fun y => z ((ofN_eq (a := p) (c := 0) (by omega) (by omega)).1 (by rw [← b1]; exact y))), if_neg z, kc_197_12]
        rfl
    rw [cb_more (by decide) (by decide), rc_187, kc_187_0, if_neg (by decide), if_neg (by decide), if_neg (by decide), if_neg (by decide), if_neg (by decide), if_neg (by decide), if_neg (by decide), if_neg (by decide), if_neg (by decide), if_neg (by decide), if_neg (by decide), if_pos rfl, s1, c_scnf b1 (by omega) t90 t1 line as N 0 x0 (by omega), ← hK, e]
    simp only [kc_187_919]
    rfl
  have cN : σ.1 90 (σ.1 8 7).toNatClampNeg ≤ Int32.ofNat N := by rw [n7, t90, lz_le]; exact Int.le_refl _
  have mN : τ.1 62 (τ.1 0 111).toNatClampNeg ≤ Int32.ofNat N := by rw [n111, t62, lz_le]; exact Int.le_refl _
  by_cases k0 : K = 0
  · obtain ⟨σ', τ', q1, q2, q3⟩ := cm_wrong h.2.1 line (e := 15) (by decide)
    have q1 : lj_br (lj_R lc_P 133 [.ref 8, .int line, .ref 1030] σ) (fun y s => (bif Nat.blt y 2000 then lj_up y s else none)) lj_up = some (.inr 2, σ') := q1
    have q2 : lj_R lm_P 142 [.ref 0, .int 15, .int line] τ = some (.inl none, τ') := q2
    refine ⟨τ', rM ?_, ?_⟩
    · rw [km_235_15, if_pos i111, if_pos mN, if_pos k0, hln, q2, bv_ok]
    · rw [rC (by rw [kc_197_16, if_pos i7, if_pos cN, if_pos k0, q1])]
      exact (bt_er ry hwk h (lf_rf _ _) (lf_rf _ _) q3 (by omega)).fin.fin
  · obtain ⟨x1, k3⟩ := scn_1 N 0 x0 (by rw [← hK]; exact k0)
    have hk := k2 (fun i hi => k3 i (by omega) (by omega))
    have p0 : p ≠ 0 := fun z => x1 (by rw [hx0, if_pos z])
    cases r with
    | nil => exact absurd ((chn_0 h7.2.2.2.1).2 rfl) p0
    | cons q' r' =>
      obtain ⟨_, _, ⟨x58, x2⟩, ⟨⟨_, y2, y3⟩, y4, ⟨y5, y6⟩, y7⟩, d2, d3, d4, d5, d6, d7, d8, d9⟩ := h7
      have nd := List.nodup_cons.1 d2
      have pq : p ≠ q' := fun z => nd.1 (by rw [z]; exact List.mem_cons_self)
      have qnp : q' ≤ np := d3 q' (List.mem_cons_of_mem _ List.mem_cons_self)
      obtain ⟨ce1, me1, mq1, pr1, ⟨u1, u2, u3, u4⟩, u8, u90, u63, u64, u62, u65⟩ := h.2.2.2.2.2.2.2.1 q' qnp (by rw [y6]; decide)
      have hGl' := hG.2.2.1
      -- the component
      obtain ⟨σa, hσa⟩ : ∃ s, s = lj_put (lj_put σ 87 p as) 8 41 0 := ⟨_, rfl⟩
      have oa : ∀ k j, ¬ (k = 87 ∧ j = p) → ¬ (k = 8 ∧ j = 41) → σa.1 k j = σ.1 k j ∧ σa.2 k j = σ.2 k j := fun k j z1 z2 => by
        rw [hσa]
        exact ⟨by rw [lj_put_1, if_neg (by omega), lj_put_1, if_neg (by omega)], rfl⟩
      have ga : gvC σa G := ⟨by unfold lv; rw [(oa 8 38 (by omega) (by omega)).1]; exact hG.1.1, fun j hj => by rw [(oa 105 j (by omega) (by omega)).1, (oa 106 j (by omega) (by omega)).2]; exact hG.1.2 j hj⟩
      have ra : rsC σa (G.take 0) := ⟨by unfold lv; rw [hσa, lj_put_1, if_pos ⟨rfl, rfl⟩]; rfl, fun j hj => absurd hj (by simp)⟩
      obtain ⟨σb, c1, c2, c3, c4⟩ := c_cp (Φ := fun x s => lj_D lc_P lc_M197 100 [.ref 8, .int line, .int as, .int K, .int (Int32.ofNat p), .int x] [] s) (G := G) (by omega) (fun x s w1 w2 => by
        show lj_D lc_P lc_M197 100 [.ref 8, .int line, .int as, .int K, .int (Int32.ofNat p), .int x] [] s = _
        rw [kc_197_100, if_neg w2, if_pos w1, if_pos w1]) G.length 0 σa (by omega) ga ra
      have c1 : lj_D lc_P lc_M197 100 [.ref 8, .int line, .int as, .int K, .int (Int32.ofNat p), .int 0] [] σa = lj_D lc_P lc_M197 100 [.ref 8, .int line, .int as, .int K, .int (Int32.ofNat p), .int (Int32.ofNat G.length)] [] σb := c1
      have ob : ∀ k j, ¬ (k = 107 ∨ k = 108 ∨ k = 8 ∧ j = 41) → σb.1 k j = σa.1 k j ∧ σb.2 k j = σa.2 k j := fun k j z => c4 k j (by unfold rtC; simp; omega)
      obtain ⟨σc, hσc⟩ : ∃ s, s = lj_put σb 83 p 1 := ⟨_, rfl⟩
      have oc : ∀ k j, ¬ (k = 83 ∧ j = p) → σc.1 k j = σb.1 k j ∧ σc.2 k j = σb.2 k j := fun k j z => by
        rw [hσc]
        exact ⟨by rw [lj_put_1, if_neg z], rfl⟩
      have f1 : ∀ k j, ¬ (k = 87 ∧ j = p) → ¬ (k = 107 ∨ k = 108 ∨ k = 8 ∧ j = 41) → ¬ (k = 83 ∧ j = p) → σc.1 k j = σ.1 k j ∧ σc.2 k j = σ.2 k j := fun k j z1 z2 z3 => by
        obtain ⟨v1, v2⟩ := oc k j z3
        obtain ⟨w1, w2⟩ := ob k j z2
        obtain ⟨v3, v4⟩ := oa k j z1 (by omega)
        exact ⟨v1.trans (w1.trans v3), v2.trans (w2.trans v4)⟩
      have rc : rsC σc G := ⟨by unfold lv; rw [(oc 8 41 (by omega)).1]; exact c2.1, fun j hj => by rw [(oc 107 j (by omega)).1, (oc 108 j (by omega)).2]; exact c2.2 j hj⟩
      obtain ⟨σd, l1, ⟨l2, l3, l4, l5, l6⟩, ⟨l7, l8⟩, l9⟩ := c_leave (σ := σc) (l := r'.length) (N := (FP q').length) (by rw [(f1 8 7 (by omega) (by omega) (by omega)).1]; exact b1) (by omega) (by omega) pq (by rw [(f1 84 p (by omega) (by omega) (by omega)).1]; exact y2) (by rw [(f1 8 18 (by omega) (by omega) (by omega)).1, d4, List.length_cons]) (by rw [(f1 90 q' (by omega) (by omega) (by omega)).1]; exact u90) u1
      have rd : rsC σd G := ⟨by unfold lv; rw [(l9 8 41 (by omega) (by omega) (by omega)).1]; exact rc.1, fun j hj => by rw [(l9 107 j (by omega) (by omega) (by omega)).1, (l9 108 j (by omega) (by omega) (by omega)).2]; exact rc.2 j hj⟩
      obtain ⟨σ2, g1, g2, g3⟩ := c_first rd (by omega) 1
      have g2 : rsC σ2 ((1, 1) :: G) := g2
      have o2 : ∀ k j, ¬ (k = 107 ∨ k = 108 ∨ k = 8 ∧ j = 41) → σ2.1 k j = σd.1 k j ∧ σ2.2 k j = σd.2 k j := fun k j z => g3 k j (by unfold rtC; simp; omega)
      have all : ∀ k j, ¬ (k = 8 ∧ (j = 7 ∨ j = 8 ∨ j = 18 ∨ j = 34 ∨ j = 35 ∨ j = 41)) → ¬ (k = 107 ∨ k = 108) → ¬ ((k = 82 ∨ k = 87) ∧ j = p) → ¬ (k = 83 ∧ (j = p ∨ j = q')) → σ2.1 k j = σ.1 k j ∧ σ2.2 k j = σ.2 k j := fun k j z1 z2 z3 z4 => by
        obtain ⟨v1, v2⟩ := o2 k j (by omega)
        obtain ⟨w1, w2⟩ := l9 k j (by omega) (by omega) (by omega)
        obtain ⟨v3, v4⟩ := f1 k j (by omega) (by omega) (by omega)
        exact ⟨v1.trans (w1.trans v3), v2.trans (w2.trans v4)⟩
      -- the model
      obtain ⟨τa, hτa⟩ : ∃ s, s = lj_put (lj_put (lj_put (lj_put τ 58 p 1) 69 p (τ.1 0 130)) 70 p (τ.1 0 131)) 0 140 (τ.1 0 137) := ⟨_, rfl⟩
      have ma : ∀ k j, ¬ ((k = 58 ∨ k = 69 ∨ k = 70) ∧ j = p) → ¬ (k = 0 ∧ j = 140) → τa.1 k j = τ.1 k j ∧ τa.2 k j = τ.2 k j := fun k j z1 z2 => by
        rw [hτa]
        exact ⟨by rw [lj_put_1, if_neg (by omega), lj_put_1, if_neg (by omega), lj_put_1, if_neg (by omega), lj_put_1, if_neg (by omega)], rfl⟩
      obtain ⟨τb, e1, e2, e3⟩ := m_cp (Φ := fun x s => lj_D lm_P lm_M235 123 [.ref 0, .int K, .int x] [] s) (G := G') (by omega) (fun x s w1 w2 => by
        show lj_D lm_P lm_M235 123 [.ref 0, .int K, .int x] [] s = _
        rw [km_235_123, if_neg w2, if_pos w1, if_pos w1, if_pos w1, if_pos w1]) G'.length 0 τa (by omega) ⟨by unfold lv; rw [(ma 0 137 (by omega) (by omega)).1]; exact hG.2.1.1, fun j hj => by rw [(ma 88 j (by omega) (by omega)).1, (ma 89 j (by omega) (by omega)).2]; exact hG.2.1.2 j hj⟩ (fun j hj => absurd hj (Nat.not_lt_zero _))
      have e1 : lj_D lm_P lm_M235 123 [.ref 0, .int K, .int 0] [] τa = lj_D lm_P lm_M235 123 [.ref 0, .int K, .int (Int32.ofNat G'.length)] [] τb := e1
      have mb : ∀ k j, ¬ ((k = 58 ∨ k = 69 ∨ k = 70) ∧ j = p) → ¬ (k = 0 ∧ j = 140) → ¬ (k = 90 ∨ k = 91) → τb.1 k j = τ.1 k j ∧ τb.2 k j = τ.2 k j := fun k j z1 z2 z3 => by
        obtain ⟨v1, v2⟩ := e3 k j (by omega) (by omega)
        obtain ⟨w1, w2⟩ := ma k j z1 z2
        exact ⟨v1.trans w1, v2.trans w2⟩
      have rb : rsM τb G' := ⟨by unfold lv; rw [(e3 0 140 (by omega) (by omega)).1, hτa, lj_put_1, if_pos ⟨rfl, rfl⟩]; exact hG.2.1.1, e2⟩
      obtain ⟨τ2, w1, w2, ⟨w3, w4, w5, w6, w7⟩, w8⟩ := m_leave (τ := τb) (p := p) (q' := q') (by rw [(mb 0 111 (by omega) (by omega) (by omega)).1]; exact b2) (by omega) (by omega) (by rw [(mb 66 p (by omega) (by omega) (by omega)).1]; exact y3) rb (by omega) 1
      have w2 : rsM τ2 ((1, 1) :: G') := w2
      have mall : ∀ k j, ¬ ((k = 58 ∨ k = 69 ∨ k = 70) ∧ j = p) → ¬ (k = 58 ∧ j = q') → ¬ (k = 90 ∨ k = 91) → ¬ (k = 0 ∧ (j = 111 ∨ 129 ≤ j ∧ j ≤ 131 ∨ j = 140)) → τ2.1 k j = τ.1 k j ∧ τ2.2 k j = τ.2 k j := fun k j z1 z2 z3 z4 => by
        obtain ⟨v1, v2⟩ := w8 k j z2 z3 z4
        obtain ⟨v3, v4⟩ := mb k j z1 (by omega) z3
        exact ⟨v1.trans v3, v2.trans v4⟩
      have hfh : fhR σ2 q' (FP q') := by
        have e34 : σ2.1 8 34 = σd.1 8 34 := (o2 8 34 (by omega)).1
        have e35 : σ2.1 8 35 = σd.1 8 35 := (o2 8 35 (by omega)).1
        cases hq : FP q' with
        | nil =>
          show σ2.1 8 34 = -1
          rw [e34, l7, hq, if_pos (show ([] : List kF).length = 0 from rfl)]
        | cons F2 L2 =>
          rw [hq] at l7 l8 pr1
          rw [if_neg (by simp), List.length_cons, Nat.add_sub_cancel] at l7 l8
          refine ⟨by rw [e34]; exact l7, fun z => ?_⟩
          obtain ⟨ms3, ks3, v1, v2, v3⟩ := pr1
          rcases v2.2 with ⟨_, t⟩ | ⟨y, _⟩
          · rw [e35, l8, (f1 96 _ (by omega) (by omega) (by omega)).1]; exact t.1.2.2.2.2
          · omega
      have hv : ∀ a b, vR σ τ a b → vR σ2 τ2 a b := fun a b w => w.cg (fun k j q => (all k j (by unfold vqC at q; simp at q; omega) (by unfold vqC at q; simp at q; omega) (by unfold vqC at q; simp at q; omega) (by unfold vqC at q; simp at q; omega)).1) (fun k j q => (mall k j (by unfold vqM at q; simp at q; omega) (by unfold vqM at q; simp at q; omega) (by unfold vqM at q; simp at q; omega) (by unfold vqM at q; simp at q; omega)).1)
      have mbn := h.leav (σ' := σ2) (τ' := τ2) (fun k j z => by
          have zz : szC k j = false := by
            cases y : szC k j with
            | false => rfl
            | true => exact absurd (Or.inl y) z
          exact all k j (fun y => by
            rcases y with ⟨rfl, y⟩
            by_cases y41 : j = 41
            · subst y41; exact absurd zz (by decide)
            · exact z (by omega)) (fun y => by
            unfold szC at zz; simp at zz; omega) (fun y => z (by omega)) (fun y => z (by omega))) (fun k j z => by
          have zz : szM k j = false := by
            cases y : szM k j with
            | false => rfl
            | true => exact absurd (Or.inl y) z
          exact mall k j (fun y => z (by omega)) (fun y => z (by omega)) (by unfold szM at zz; simp at zz; omega) (by
            intro y
            rcases y with ⟨rfl, y | y | y⟩
            · exact z (by omega)
            · unfold szM at zz; simp at zz; omega
            · unfold szM at zz; simp at zz; omega)) (by rw [(o2 8 7 (by omega)).1]; exact l2) w3 (by rw [(o2 8 18 (by omega)).1]; exact l3) (by rw [(o2 83 q' (by omega)).1]; exact l4) w4 (by rw [(o2 8 8 (by omega)).1, l5, (f1 82 q' (by omega) (by omega) (by omega)).1]) hfh hk (Or.inl ⟨by rw [(o2 83 p (by omega)).1, (l9 83 p (by omega) (by omega) (by omega)).1, hσc]; exact (by simp [lj_put_1, lj_putL_1]), by rw [(w8 58 p (by omega) (by omega) (by omega)).1, (e3 58 p (by omega) (by omega)).1, hτa]; exact (by simp [lj_put_1, lj_putL_1]), by
            have q1 : σ2.1 87 p = as := by rw [(o2 87 p (by omega)).1, (l9 87 p (by omega) (by omega) (by omega)).1, (oc 87 p (by omega)).1, (ob 87 p (by omega)).1, hσa]; exact (by simp [lj_put_1, lj_putL_1])
            have q2 : τ2.1 69 p = τ.1 0 130 := by rw [(w8 69 p (by omega) (by omega) (by omega)).1, (e3 69 p (by omega) (by omega)).1, hτa]; exact (by simp [lj_put_1, lj_putL_1])
            have q3 : τ2.1 70 p = τ.1 0 131 := by rw [(w8 70 p (by omega) (by omega) (by omega)).1, (e3 70 p (by omega) (by omega)).1, hτa]; exact (by simp [lj_put_1, lj_putL_1])
            rw [q1, q2, q3]
            exact ha, by rw [(o2 82 p (by omega)).1, l6, (f1 8 8 (by omega) (by omega) (by omega)).1], fun k z1 z2 => (mall k p (by omega) (by omega) (by omega) (by omega)).1⟩)
      have c86 : σ2.1 86 p = σ.1 86 p := (all 86 p (by omega) (by omega) (by omega) (by omega)).1
      have hw2 : wkR FP (q' :: r') A σ2 := ⟨fun i hi => by rw [(all 102 i (by omega) (by omega) (by omega) (by omega)).1]; exact hwk.1 i hi, by
        have := hwk.2.1
        rw [show gX FP (p :: q' :: r') = gL p (FP p) ++ gX FP (q' :: r') from rfl, gL_0 hk] at this
        exact this, hwk.2.2.2⟩
      have pf := hwk.2.2.1
      have tm := thM_in FP (q := p) (r := q' :: r') (by omega) nd.1 MO LA
      have dl := D n np q' r' FP ρ A MO LA σ2 τ2 ((1, 1) :: G) ((1, 1) :: G') (σ.1 86 p) mbn ⟨⟨by rw [(all 8 46 (by omega) (by omega) (by omega) (by omega)).1]; exact ry.1, by rw [(mall 0 143 (by omega) (by omega) (by omega) (by omega)).1]; exact ry.2.1, w7, by rw [(all 8 45 (by omega) (by omega) (by omega) (by omega)).1, (mall 0 144 (by omega) (by omega) (by omega) (by omega)).1]; exact ry.2.2.1, by rw [(all 8 44 (by omega) (by omega) (by omega) (by omega)).2, (mall 0 145 (by omega) (by omega) (by omega) (by omega)).2]; exact ry.2.2.2⟩, g2, w2, ⟨by rw [List.length_cons, List.length_cons, hGl'], by rw [List.length_cons]; omega, fun j => by
          cases j with
          | zero => exact vR_truth _ _ (Or.inr rfl)
          | succ j => exact hv _ _ (hG.v j)⟩⟩ (by
            rw [w5, w6, (mb 67 p (by omega) (by omega) (by omega)).1, (mb 68 p (by omega) (by omega) (by omega)).1]
            exact y4) hw2 (by rw [List.length_cons]; omega) (by omega) (by omega)
      refine ⟨τ2, rM ?_, ?_⟩
      · rw [km_235_15, if_pos i111, if_pos mN, if_neg k0, if_pos i111, if_pos i111, if_pos i111, n111, ← hτa, e1, km_235_123, if_pos (by rw [(e3 0 137 (by omega) (by omega)).1, (ma 0 137 (by omega) (by omega)).1, lz_le, lz_lit (by omega)]; have := hG.2.1.1; unfold lv at this; rw [this]; exact Int.le_refl _), w1, bv_ok]
      · have ip : lj_in (Int32.ofNat p) 26 := ofN_in (by omega) (by omega)
        have np' : (Int32.ofNat p).toNatClampNeg = p := lz_onat (by omega)
        have l1' : lj_R lc_P 198 [.ref 8] (lj_put σb 83 (Int32.ofNat p).toNatClampNeg 1) = some (.inl none, σd) := by rw [np', ← hσc]; exact l1
        rw [rC (x := finC (lj_R lc_P 144 [.ref 8, .int (σ.1 86 p)] σ2)) (by
          rw [kc_197_16, if_pos i7, if_pos cN, if_neg k0, if_pos i7, n7, ← hσa, b1, c1, kc_197_100, if_pos (by rw [(ob 8 38 (by omega)).1, (oa 8 38 (by omega) (by omega)).1, lz_le, lz_lit (by omega)]; have := hG.1.1; unfold lv at this; rw [this]; exact Int.le_refl _), if_pos ip, l1', bv_ok, g1, bv_ok, if_pos ip, np', c86]
          rfl)]
        exact (dl.pre (fun _ => rfl) (fun i _ => (all 103 i (by omega) (by omega) (by omega) (by omega)).1) (fun t w => by show t ≤ X; omega)).fin.fin.fin
