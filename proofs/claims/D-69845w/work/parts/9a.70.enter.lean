/-! the component enters a function -/
theorem gvC_pu {σ : lj_S} {G : List vT} (h : gvC σ G) (t : Nat) (u : vT) : gvC (cPu σ t u) G := by
  refine ⟨?_, fun j hj => ?_⟩
  · unfold lv
    rw [cPu_1, if_neg (by omega), if_neg (by omega), if_neg (by omega)]
    exact h.1
  · rw [cPu_1, if_neg (by omega), if_neg (by omega), if_neg (by omega), cPu_2, if_neg (by omega)]
    exact h.2 j hj
theorem c_en1 {G : List vT} (hG : G.length ≤ 128) (x1 x2 x3 x4 x5 : Int32) : ∀ (G2 : List vT) (k t : Nat) (σ : lj_S) (G1 : List vT), G = G1 ++ G2 → G1.length = k → gvC σ G → σ.1 8 8 = Int32.ofNat t → t + G2.length < 325000 → ∃ x6, lj_D lc_P lc_M131 41 [.ref 8, .int x1, .int x2, .int x3, .int x4, .int x5, .int (Int32.ofNat k), .retAddr 0] [] σ = lj_D lc_P lc_M131 74 [.ref 8, .int x1, .int x2, .int x3, .int x4, .int x5, x6, .retAddr 0] [] (cPus σ t G2)
  | [], k, t, σ, G1, hs, hl, hg, h8, ht => by
    rw [List.append_nil] at hs
    subst hs
    have e : σ.1 8 38 = Int32.ofNat k := lz_ext (by rw [lz_lit (by omega), ← hl]; exact hg.1)
    refine ⟨.int (Int32.ofNat k), ?_⟩
    rw [kc_131_41, e, if_pos ((ofN_le (by omega) (by omega)).2 (Nat.le_refl _))]
    rfl
  | u :: G2, k, t, σ, G1, hs, hl, hg, h8, ht => by
    have hlen : G.length = k + (G2.length + 1) := by rw [hs, List.length_append, List.length_cons, hl]
    have e : σ.1 8 38 = Int32.ofNat (k + (G2.length + 1)) := lz_ext (by rw [lz_lit (by omega), ← hlen]; exact hg.1)
    have ev : (σ.1 105 k, σ.2 106 k) = u := by
      rw [hg.2 k (by omega), hs, List.getD_eq_getElem?_getD, List.getElem?_append_right (by omega), hl, Nat.sub_self]
      rfl
    rw [List.length_cons] at ht
    have pu := c_push h8 (by omega) u
    have p1 : lj_R lc_P 137 [.ref 8, .int (σ.1 105 k), .long (σ.2 106 k)] σ = some (.inl none, cPu σ t u) := by rw [← ev] at pu ⊢; exact pu
    have ik : lj_in (Int32.ofNat k) 128 := ofN_in (by omega) (by omega)
    obtain ⟨x6, ih⟩ := c_en1 hG x1 x2 x3 x4 x5 G2 (k + 1) (t + 1) (cPu σ t u) (G1 ++ [u]) (by rw [List.append_assoc]; exact hs) (by rw [List.length_append, hl]; rfl) (gvC_pu hg t u) (by rw [cPu_1, if_pos ⟨rfl, rfl⟩]) (by omega)
    refine ⟨x6, ?_⟩
    rw [kc_131_41, e, if_neg (by rw [ofN_le (by omega) (by omega)]; omega), if_pos ik, if_pos ik, lz_onat (by omega), p1, bv_ok, lz_osucc, ih]
    rfl
/-- the values of the locals -/
def lcN (G : List vT) (pn k d : Nat) : List vT := (List.range d).map (fun j => if k + j < pn then G.getD (k + j) (0, 0) else (0, 0))
theorem c_en2 {G : List vT} {pn al : Nat} (hG : G.length ≤ 128) (hpn : pn ≤ 50) (hal : al < 1000) (x1 x2 x3 x4 : Int32) : ∀ (d k t : Nat) (σ : lj_S), k + d = al → gvC σ G → σ.1 8 8 = Int32.ofNat t → t + d < 325000 → lj_D lc_P lc_M131 178 [.ref 8, .int x1, .int x2, .int x3, .int x4, .int (Int32.ofNat pn), .int (Int32.ofNat al), .int (Int32.ofNat k)] [] σ = some (.inl none, cPus σ t (lcN G pn k d))
  | 0, k, t, σ, hd, hg, h8, ht => by
    rw [kc_131_178, if_pos ((ofN_le (by omega) (by omega)).2 (by omega))]
    rfl
  | d + 1, k, t, σ, hd, hg, h8, ht => by
    have e38 : σ.1 8 38 = Int32.ofNat G.length := lz_ext (by rw [lz_lit (by omega)]; exact hg.1)
    have ih := fun u => c_en2 hG hpn hal x1 x2 x3 x4 d (k + 1) (t + 1) (cPu σ t u) (by omega) (gvC_pu hg t u) (by rw [cPu_1, if_pos ⟨rfl, rfl⟩]) (by omega)
    have el : lcN G pn k (d + 1) = (if k < pn then G.getD k (0, 0) else (0, 0)) :: lcN G pn (k + 1) d := by
      unfold lcN
      rw [List.range_succ_eq_map, List.map_cons, List.map_map]
      congr 1
      refine List.map_congr_left (fun j _ => ?_)
      show (if k + (j + 1) < pn then G.getD (k + (j + 1)) (0, 0) else (0, 0)) = if k + 1 + j < pn then G.getD (k + 1 + j) (0, 0) else (0, 0)
      rw [show k + (j + 1) = k + 1 + j by omega]
    have p0 : lj_R lc_P 137 [.ref 8, .int 0, .long 0] σ = some (.inl none, cPu σ t (0, 0)) := c_push h8 (by omega) (0, 0)
    rw [kc_131_178, if_neg (by rw [ofN_le (by omega) (by omega)]; omega), el]
    by_cases z : pn ≤ k
    · rw [if_pos ((ofN_le (by omega) (by omega)).2 z), kc_131_222, p0, bv_ok, kc_131_228, lz_osucc, ih, if_neg (by omega)]
      rfl
    · rw [if_neg (by rw [ofN_le (by omega) (by omega)]; exact z), e38, if_pos (show k < pn by omega)]
      by_cases y : G.length ≤ k
      · have gz : G.getD k (0, 0) = (0, 0) := by rw [List.getD_eq_getElem?_getD, List.getElem?_eq_none y]; rfl
        rw [if_pos ((ofN_le (by omega) (by omega)).2 y), kc_131_222, p0, bv_ok, kc_131_228, lz_osucc, ih, gz]
        rfl
      · have ev := hg.2 k (by omega)
        have pu := c_push h8 (by omega) (G.getD k (0, 0))
        have p1 : lj_R lc_P 137 [.ref 8, .int (σ.1 105 k), .long (σ.2 106 k)] σ = some (.inl none, cPu σ t (G.getD k (0, 0))) := by rw [← ev] at pu ⊢; exact pu
        have ik : lj_in (Int32.ofNat k) 128 := ofN_in (by omega) (by omega)
        rw [if_neg (by rw [ofN_le (by omega) (by omega)]; exact y), if_pos ik, if_pos ik, lz_onat (by omega), p1, bv_ok, kc_131_228, lz_osucc, ih]
        rfl
theorem lcN_len (G : List vT) (pn k d : Nat) : (lcN G pn k d).length = d := by unfold lcN; rw [List.length_map, List.length_range]
theorem lcN_get (G : List vT) (pn d j : Nat) (h : j < d) : (lcN G pn 0 d).getD j (0, 0) = if j < pn then G.getD j (0, 0) else (0, 0) := by
  unfold lcN
  rw [List.getD_eq_getElem?_getD, List.getElem?_map, List.getElem?_range h]
  simp
/-- all that comes of it -/
def enR (σ σ' : lj_S) (p l f pn t al : Nat) (o as line : Int32) (G D : List vT) : Prop :=
  (σ'.1 8 34 = Int32.ofNat (20 * p + l) ∧ σ'.1 8 35 = Int32.ofNat (t + D.length) ∧ σ'.1 8 8 = Int32.ofNat (t + D.length + al) ∧ σ'.1 90 p = Int32.ofNat (l + 1)) ∧
  (σ'.1 91 (20 * p + l) = 0 ∧ σ'.1 92 (20 * p + l) = Int32.ofNat f ∧ σ'.1 93 (20 * p + l) = o ∧ σ'.1 94 (20 * p + l) = σ.1 28 f ∧ σ'.1 95 (20 * p + l) = Int32.ofNat t ∧ σ'.1 96 (20 * p + l) = Int32.ofNat (t + D.length) ∧ σ'.1 97 (20 * p + l) = -1 ∧ σ'.1 98 (20 * p + l) = as) ∧
  (∀ i, i < D.length → cv σ' (t + i) = D.getD i (0, 0)) ∧ (∀ i, i < al → cv σ' (t + D.length + i) = if i < pn then gvN G i else (0, 0)) ∧ (∀ j, t ≤ j → j < t + D.length + al → σ'.1 81 j = -1) ∧
  ∀ k j, ¬ (k = 8 ∧ (j = 8 ∨ j = 34 ∨ j = 35)) → ¬ (k = 90 ∧ j = p) → ¬ (91 ≤ k ∧ k ≤ 99 ∧ j = 20 * p + l) → ¬ ((79 ≤ k ∧ k ≤ 81) ∧ t ≤ j ∧ j < t + D.length + al) → σ'.1 k j = σ.1 k j ∧ σ'.2 k j = σ.2 k j
theorem c_enter {σ : lj_S} {p l f pn t a b : Nat} {G : List vT} {o : Int32} (h7 : σ.1 8 7 = Int32.ofNat p) (hp : p < 26) (h90 : σ.1 90 p = Int32.ofNat l) (hl : l < 20) (h8 : σ.1 8 8 = Int32.ofNat t) (hf : f < 51) (h29 : σ.1 29 f = Int32.ofNat pn) (hpn : pn ≤ 50) (h31 : σ.1 31 f = Int32.ofNat a) (h32 : σ.1 32 f = Int32.ofNat b) (ha : a ≤ 50) (hb : b ≤ 20) (hg : gvC σ G) (hG : G.length ≤ 128) (ht : t + G.length + (a + 3 * b) < 325000) (as line : Int32) : ∃ σ', lj_R lc_P 131 [.ref 8, .int (Int32.ofNat f), .int o, .int as, .int line] σ = some (.inl none, σ') ∧ enR σ σ' p l f pn t (a + 3 * b) o as line G (if σ.1 30 f = 0 then [] else G.drop pn) := by
  have i7 : lj_in (σ.1 8 7) 26 := by rw [h7]; exact ofN_in (by omega) (by omega)
  have n7 : (σ.1 8 7).toNatClampNeg = p := by rw [h7]; exact lz_onat (by omega)
  have ne : σ.1 90 (σ.1 8 7).toNatClampNeg ≠ 20 := by
    rw [n7, h90]
    intro z
    have := (ofN_eq (c := 20) (by omega) (by omega)).1 z
    omega
  have e2 : Int32.ofNat p * 20 + Int32.ofNat l = Int32.ofNat (20 * p + l) := by
    rw [show (20 : Int32) = Int32.ofNat 20 from rfl, ← Int32.ofNat_mul, ← Int32.ofNat_add, Nat.mul_comm]
  have ii : lj_in (Int32.ofNat (20 * p + l)) 520 := ofN_in (by omega) (by omega)
  have ni : (Int32.ofNat (20 * p + l)).toNatClampNeg = 20 * p + l := lz_onat (by omega)
  have fm : lj_R lc_P 132 [.ref 8, .int 0, .int as, .int line] σ = some (.inl none, lj_put (lj_put (lj_put (lj_put (lj_put (lj_put σ 8 34 (Int32.ofNat (20 * p + l))) 90 p (Int32.ofNat (l + 1))) 91 (20 * p + l) 0) 98 (20 * p + l) as) 99 (20 * p + l) line) 95 (20 * p + l) (Int32.ofNat t)) := by
    have e90 : σ.1 90 (σ.1 8 7).toNatClampNeg = Int32.ofNat l := by rw [n7]; exact h90
    rw [rc_132, kc_132_0, if_pos i7, if_neg ne, if_pos i7, e90, rc_130, kc_130_0, bi_ok, if_pos i7, if_pos i7]
    rw [show σ.1 8 7 * 20 + Int32.ofNat l = Int32.ofNat (20 * p + l) by rw [h7]; exact e2]
    rw [if_pos ii, if_pos ii, if_pos ii, if_pos ii, ni, n7, h90, lz_osucc, h8]
  obtain ⟨σ1, hs1⟩ : ∃ σ1, σ1 = lj_put (lj_put (lj_put (lj_put (lj_put (lj_put σ 8 34 (Int32.ofNat (20 * p + l))) 90 p (Int32.ofNat (l + 1))) 91 (20 * p + l) 0) 98 (20 * p + l) as) 99 (20 * p + l) line) 95 (20 * p + l) (Int32.ofNat t) := ⟨_, rfl⟩
  rw [← hs1] at fm
  have o1 : ∀ k j, ¬ (k = 8 ∧ j = 34) → ¬ (k = 90 ∧ j = p) → ¬ ((k = 91 ∨ k = 98 ∨ k = 99 ∨ k = 95) ∧ j = 20 * p + l) → σ1.1 k j = σ.1 k j ∧ σ1.2 k j = σ.2 k j := fun k j z1 z2 z3 => ⟨by rw [hs1, lj_put_1, if_neg (by omega), lj_put_1, if_neg (by omega), lj_put_1, if_neg (by omega), lj_put_1, if_neg (by omega), lj_put_1, if_neg (by omega), lj_put_1, if_neg (by omega)], by rw [hs1]; rfl⟩
  have g1 : gvC σ1 G := ⟨by unfold lv; rw [(o1 8 38 (by omega) (by omega) (by omega)).1]; exact hg.1, fun j hj => by rw [(o1 105 j (by omega) (by omega) (by omega)).1, (o1 106 j (by omega) (by omega) (by omega)).2]; exact hg.2 j hj⟩
  have iq : lj_in (Int32.ofNat f) 51 := ofN_in (by omega) (by omega)
  have nq : (Int32.ofNat f).toNatClampNeg = f := lz_onat (by omega)
  -- what follows the rest
  have fin : ∀ (D : List vT) (x6 : Value), D.length ≤ G.length → ∃ σ', lj_D lc_P lc_M131 74 [.ref 8, .int (Int32.ofNat f), .int o, .int as, .int line, .int (Int32.ofNat pn), x6, .retAddr 0] [] (cPus σ1 t D) = some (.inl none, σ') ∧ enR σ σ' p l f pn t (a + 3 * b) o as line G D := fun D x6 hD => by
    have oD := fun k j => cPus_o D σ1 t k j
    have c34 : (cPus σ1 t D).1 8 34 = Int32.ofNat (20 * p + l) := by rw [(oD 8 34 (by omega) (by omega)).1, hs1]; exact (by simp [lj_put_1, lj_putL_1])
    have i34 : lj_in ((cPus σ1 t D).1 8 34) 520 := by rw [c34]; exact ii
    have n34 : ((cPus σ1 t D).1 8 34).toNatClampNeg = 20 * p + l := by rw [c34]; exact ni
    have c8 : (cPus σ1 t D).1 8 8 = Int32.ofNat (t + D.length) := cPus_8 D σ1 t (by rw [(o1 8 8 (by omega) (by omega) (by omega)).1]; exact h8)
    have c28 : (cPus σ1 t D).1 28 f = σ.1 28 f := by rw [(oD 28 f (by omega) (by omega)).1, (o1 28 f (by omega) (by omega) (by omega)).1]
    have c31 : (cPus σ1 t D).1 31 f = Int32.ofNat a := by rw [(oD 31 f (by omega) (by omega)).1, (o1 31 f (by omega) (by omega) (by omega)).1]; exact h31
    have c32 : (cPus σ1 t D).1 32 f = Int32.ofNat b := by rw [(oD 32 f (by omega) (by omega)).1, (o1 32 f (by omega) (by omega) (by omega)).1]; exact h32
    obtain ⟨σ3, hs3⟩ : ∃ σ3, σ3 = lj_put (lj_put (lj_put (lj_put (lj_put (lj_put (cPus σ1 t D) 92 (20 * p + l) (Int32.ofNat f)) 93 (20 * p + l) o) 94 (20 * p + l) (σ.1 28 f)) 96 (20 * p + l) (Int32.ofNat (t + D.length))) 97 (20 * p + l) (-1)) 8 35 (Int32.ofNat (t + D.length)) := ⟨_, rfl⟩
    have o3 : ∀ k j, ¬ (k = 8 ∧ j = 35) → ¬ ((92 ≤ k ∧ k ≤ 97 ∧ k ≠ 95) ∧ j = 20 * p + l) → σ3.1 k j = (cPus σ1 t D).1 k j ∧ σ3.2 k j = (cPus σ1 t D).2 k j := fun k j z1 z2 => ⟨by rw [hs3, lj_put_1, if_neg (by omega), lj_put_1, if_neg (by omega), lj_put_1, if_neg (by omega), lj_put_1, if_neg (by omega), lj_put_1, if_neg (by omega), lj_put_1, if_neg (by omega)], by rw [hs3]; rfl⟩
    have g3 : gvC σ3 G := ⟨by unfold lv; rw [(o3 8 38 (by omega) (by omega)).1, (oD 8 38 (by omega) (by omega)).1]; exact g1.1, fun j hj => by rw [(o3 105 j (by omega) (by omega)).1, (o3 106 j (by omega) (by omega)).2, (oD 105 j (by omega) (by omega)).1, (oD 106 j (by omega) (by omega)).2]; exact g1.2 j hj⟩
    have s8 : σ3.1 8 8 = Int32.ofNat (t + D.length) := by rw [(o3 8 8 (by omega) (by omega)).1]; exact c8
    have lo := c_en2 (G := G) (pn := pn) (al := a + 3 * b) hG hpn (by omega) (Int32.ofNat f) o as line (a + 3 * b) 0 (t + D.length) σ3 (Nat.zero_add _) g3 s8 (by omega)
    have lo : lj_D lc_P lc_M131 178 [.ref 8, .int (Int32.ofNat f), .int o, .int as, .int line, .int (Int32.ofNat pn), .int (Int32.ofNat (a + 3 * b)), .int 0] [] σ3 = _ := lo
    have oL := fun k j => cPus_o (lcN G pn 0 (a + 3 * b)) σ3 (t + D.length) k j
    rw [lcN_len] at oL
    refine ⟨cPus σ3 (t + D.length) (lcN G pn 0 (a + 3 * b)), ?_, ⟨?_, ?_, ?_, ?_⟩, ⟨?_, ?_, ?_, ?_, ?_, ?_, ?_, ?_⟩, fun i hi => ?_, fun i hi => ?_, fun j j1 j2 => ?_, fun k j z1 z2 z3 z4 => ?_⟩
    · have ea : (cPus σ1 t D).1 31 (Int32.ofNat f).toNatClampNeg + 3 * (cPus σ1 t D).1 32 (Int32.ofNat f).toNatClampNeg = Int32.ofNat (a + 3 * b) := by rw [nq, c31, c32, show (3 : Int32) = Int32.ofNat 3 from rfl, ← Int32.ofNat_mul, ← Int32.ofNat_add]
      rw [kc_131_74, if_pos i34, if_pos i34, if_pos iq, if_pos i34, if_pos i34, if_pos i34, if_pos iq, if_pos iq, ea, n34, nq, c28, c8, ← hs3, lo]
    · rw [(oL 8 34 (by omega) (by omega)).1, (o3 8 34 (by omega) (by omega)).1]; exact c34
    · rw [(oL 8 35 (by omega) (by omega)).1, hs3]; exact (by simp [lj_put_1, lj_putL_1])
    · rw [cPus_8 _ _ _ s8, lcN_len]
    · rw [(oL 90 p (by omega) (by omega)).1, (o3 90 p (by omega) (by omega)).1, (oD 90 p (by omega) (by omega)).1, hs1]; exact (by simp [lj_put_1, lj_putL_1])
    · rw [(oL 91 _ (by omega) (by omega)).1, (o3 91 _ (by omega) (by omega)).1, (oD 91 _ (by omega) (by omega)).1, hs1]; exact (by simp [lj_put_1, lj_putL_1])
    · rw [(oL 92 _ (by omega) (by omega)).1, hs3]; exact (by simp [lj_put_1, lj_putL_1])
    · rw [(oL 93 _ (by omega) (by omega)).1, hs3]; exact (by simp [lj_put_1, lj_putL_1])
    · rw [(oL 94 _ (by omega) (by omega)).1, hs3]; exact (by simp [lj_put_1, lj_putL_1])
    · rw [(oL 95 _ (by omega) (by omega)).1, (o3 95 _ (by omega) (by omega)).1, (oD 95 _ (by omega) (by omega)).1, hs1]; exact (by simp [lj_put_1, lj_putL_1])
    · rw [(oL 96 _ (by omega) (by omega)).1, hs3]; exact (by simp [lj_put_1, lj_putL_1])
    · rw [(oL 97 _ (by omega) (by omega)).1, hs3]; exact (by simp [lj_put_1, lj_putL_1])
    · rw [(oL 98 _ (by omega) (by omega)).1, (o3 98 _ (by omega) (by omega)).1, (oD 98 _ (by omega) (by omega)).1, hs1]; exact (by simp [lj_put_1, lj_putL_1])
    · have e : cv (cPus σ3 (t + D.length) (lcN G pn 0 (a + 3 * b))) (t + i) = cv (cPus σ1 t D) (t + i) := by
        unfold cv
        rw [(oL 79 _ (by omega) (by omega)).1, (oL 80 _ (by omega) (by omega)).2, (o3 79 _ (by omega) (by omega)).1, (o3 80 _ (by omega) (by omega)).2]
      rw [e]
      exact (cPus_v D σ1 t i hi).1
    · rw [(cPus_v (lcN G pn 0 (a + 3 * b)) σ3 (t + D.length) i (by rw [lcN_len]; exact hi)).1, lcN_get _ _ _ _ hi]
      rfl
    · by_cases y : j < t + D.length
      · have := (cPus_v D σ1 t (j - t) (by omega)).2
        rw [show t + (j - t) = j by omega] at this
        rw [(oL 81 _ (by omega) (by omega)).1, (o3 81 _ (by omega) (by omega)).1]
        exact this
      · have := (cPus_v (lcN G pn 0 (a + 3 * b)) σ3 (t + D.length) (j - (t + D.length)) (by rw [lcN_len]; omega)).2
        rw [show t + D.length + (j - (t + D.length)) = j by omega] at this
        exact this
    · obtain ⟨u1, u2⟩ := oL k j (by omega) (by omega)
      obtain ⟨v1, v2⟩ := o3 k j (by omega) (by omega)
      obtain ⟨w1, w2⟩ := oD k j (by omega) (by omega)
      obtain ⟨x1, x2⟩ := o1 k j (by omega) (by omega) (by omega)
      exact ⟨u1.trans (v1.trans (w1.trans x1)), u2.trans (v2.trans (w2.trans x2))⟩
  have s29 : σ1.1 29 (Int32.ofNat f).toNatClampNeg = Int32.ofNat pn := by rw [nq, (o1 29 f (by omega) (by omega) (by omega)).1]; exact h29
  have s30 : σ1.1 30 (Int32.ofNat f).toNatClampNeg = σ.1 30 f := by rw [nq, (o1 30 f (by omega) (by omega) (by omega)).1]
  have t8 : σ1.1 8 8 = Int32.ofNat t := by rw [(o1 8 8 (by omega) (by omega) (by omega)).1]; exact h8
  by_cases z : σ.1 30 f = 0
  · rw [if_pos z]
    obtain ⟨σ', y1, y2⟩ := fin [] (.retAddr 0) (Nat.zero_le _)
    refine ⟨σ', ?_, y2⟩
    have y1 : lj_D lc_P lc_M131 74 [.ref 8, .int (Int32.ofNat f), .int o, .int as, .int line, .int (Int32.ofNat pn), .retAddr 0, .retAddr 0] [] σ1 = _ := y1
    rw [rc_131, kc_131_0, fm, bv_ok, if_pos iq, if_pos iq, if_pos (by rw [s30]; exact z), s29, y1]
  · rw [if_neg z]
    by_cases y : pn ≤ G.length
    · obtain ⟨x6, e1⟩ := c_en1 hG (Int32.ofNat f) o as line (Int32.ofNat pn) (G.drop pn) pn t σ1 (G.take pn) (List.take_append_drop pn G).symm (by rw [List.length_take]; omega) g1 t8 (by rw [List.length_drop]; omega)
      obtain ⟨σ', y1, y2⟩ := fin (G.drop pn) x6 (by rw [List.length_drop]; omega)
      exact ⟨σ', by rw [rc_131, kc_131_0, fm, bv_ok, if_pos iq, if_pos iq, if_neg (by rw [s30]; exact z), s29, e1, y1], y2⟩
    · have dz : G.drop pn = [] := List.drop_eq_nil_iff.2 (by omega)
      rw [dz]
      obtain ⟨σ', y1, y2⟩ := fin [] (.int (Int32.ofNat pn)) (Nat.zero_le _)
      refine ⟨σ', ?_, y2⟩
      have y1 : lj_D lc_P lc_M131 74 [.ref 8, .int (Int32.ofNat f), .int o, .int as, .int line, .int (Int32.ofNat pn), .int (Int32.ofNat pn), .retAddr 0] [] σ1 = _ := y1
      have e38 : σ1.1 8 38 = Int32.ofNat G.length := lz_ext (by rw [lz_lit (by omega)]; exact g1.1)
      rw [rc_131, kc_131_0, fm, bv_ok, if_pos iq, if_pos iq, if_neg (by rw [s30]; exact z), s29, kc_131_41, e38, if_pos ((ofN_le (by omega) (by omega)).2 (by omega)), y1]
