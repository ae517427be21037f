/-! what came of a call is delivered: each alone -/
theorem rs_0 {σ : lj_S} {G : List vT} (h : rsC σ G) : (σ.1 8 41 ≤ 0 ↔ G = []) ∧ (G ≠ [] → (σ.1 107 0, σ.2 108 0) = G.getD 0 (0, 0)) := by
  refine ⟨?_, fun z => h.2 0 ?_⟩
  · have e : (σ.1 8 41 ≤ 0) ↔ lv σ 8 41 ≤ 0 := by rw [lz_le]; exact Iff.rfl
    rw [e, h.1]
    constructor
    · intro z; exact List.length_eq_zero_iff.1 (by omega)
    · intro z; rw [z]; exact Int.le_refl _
  · rcases G with _ | ⟨g, G⟩
    · exact absurd rfl z
    · simp
theorem i128 : lj_in (0 : Int32) 128 := by decide
theorem n0z : (0 : Int32).toNatClampNeg = 0 := by decide
/-- one value -/
theorem c_d1 {σ : lj_S} {G : List vT} {t : Nat} (h : rsC σ G) (h8 : σ.1 8 8 = Int32.ofNat t) (ht : t < 325000) : lj_R lc_P 144 [.ref 8, .int 1] σ = some (.inl none, cPu σ t (G.getD 0 (0, 0))) := by
  obtain ⟨r1, r2⟩ := rs_0 h
  have pu := c_push h8 ht (G.getD 0 (0, 0))
  rw [rc_144, kc_144_0, if_neg (by decide), if_pos rfl]
  by_cases z : G = []
  · rw [z] at pu ⊢
    have pu : lj_R lc_P 137 [.ref 8, .int 0, .long 0] σ = _ := pu
    rw [if_pos (r1.2 z), kc_144_109, if_pos (r1.2 z), kc_144_126, pu, bv_ok, kc_144_316]
  · have e := r2 z
    rw [← e] at pu ⊢
    have pu : lj_R lc_P 137 [.ref 8, .int (σ.1 107 0), .long (σ.2 108 0)] σ = _ := pu
    rw [if_neg (fun y => z (r1.1 y)), if_pos i128, n0z, kc_144_109, if_neg (fun y => z (r1.1 y)), if_pos i128, n0z, kc_144_126, pu, bv_ok, kc_144_316]
/-- whether it is true, whether it is not -/
theorem c_d2 {σ : lj_S} {G : List vT} {t : Nat} (h : rsC σ G) (h8 : σ.1 8 8 = Int32.ofNat t) (ht : t < 325000) : lj_R lc_P 144 [.ref 8, .int 2] σ = some (.inl none, cPu σ t (1, if tru (G.getD 0 (0, 0)) then 1 else 0)) := by
  obtain ⟨r1, r2⟩ := rs_0 h
  have p0 := c_pushTruth h8 ht 0
  have p1 := c_pushTruth h8 ht 1
  rw [if_pos rfl] at p0
  rw [if_neg (by decide)] at p1
  rw [rc_144, kc_144_0, if_neg (by decide), if_neg (by decide), if_pos rfl]
  by_cases z : G = []
  · rw [z, if_neg (show ¬ tru (([] : List vT).getD 0 (0, 0)) = true by decide), if_pos (r1.2 z), kc_144_163, kc_144_164, p0, bv_ok, kc_144_316]
  · have e := r2 z
    have ct := c_isTrue σ (G.getD 0 (0, 0))
    rw [← e] at ct ⊢
    have ct : lj_R lc_P 146 [.ref 8, .int (σ.1 107 0), .long (σ.2 108 0)] σ = _ := ct
    rw [if_neg (fun y => z (r1.1 y)), if_pos i128, if_pos i128, n0z, ct, bi_ok]
    by_cases y : tru (σ.1 107 0, σ.2 108 0) = true
    · rw [if_pos y, if_neg (by decide), kc_144_164, p1, bv_ok, kc_144_316, if_pos y]
    · rw [if_neg y, if_pos rfl, kc_144_163, kc_144_164, p0, bv_ok, kc_144_316, if_neg y]
theorem c_d3 {σ : lj_S} {G : List vT} {t : Nat} (h : rsC σ G) (h8 : σ.1 8 8 = Int32.ofNat t) (ht : t < 325000) : lj_R lc_P 144 [.ref 8, .int 3] σ = some (.inl none, cPu σ t (1, if tru (G.getD 0 (0, 0)) then 0 else 1)) := by
  obtain ⟨r1, r2⟩ := rs_0 h
  have p0 := c_pushTruth h8 ht 0
  have p1 := c_pushTruth h8 ht 1
  rw [if_pos rfl] at p0
  rw [if_neg (by decide)] at p1
  rw [rc_144, kc_144_0, if_neg (by decide), if_neg (by decide), if_neg (by decide), if_pos rfl]
  by_cases z : G = []
  · rw [z, if_neg (show ¬ tru (([] : List vT).getD 0 (0, 0)) = true by decide), if_pos (r1.2 z), kc_144_197, kc_144_202, p1, bv_ok, kc_144_316]
  · have e := r2 z
    have ct := c_isTrue σ (G.getD 0 (0, 0))
    rw [← e] at ct ⊢
    have ct : lj_R lc_P 146 [.ref 8, .int (σ.1 107 0), .long (σ.2 108 0)] σ = _ := ct
    rw [if_neg (fun y => z (r1.1 y)), if_pos i128, if_pos i128, n0z, ct, bi_ok]
    by_cases y : tru (σ.1 107 0, σ.2 108 0) = true
    · rw [if_pos y, if_neg (by decide), kc_144_202, p0, bv_ok, kc_144_316, if_pos y]
    · rw [if_neg y, if_pos rfl, kc_144_197, kc_144_202, p1, bv_ok, kc_144_316, if_neg y]
/-- nothing -/
theorem c_d4 (σ : lj_S) : lj_R lc_P 144 [.ref 8, .int 4] σ = some (.inl none, σ) := by
  rw [rc_144, kc_144_0, if_neg (by decide), if_neg (by decide), if_neg (by decide), if_neg (by decide), if_pos rfl, kc_144_316]
/-- all behind a mark -/
theorem c_d0_loop (x1 : Int32) : ∀ (G2 : List vT) (i t : Nat) (σ : lj_S) (G1 : List vT), G1.length = i → rsC σ (G1 ++ G2) → σ.1 8 8 = Int32.ofNat t → t + G2.length < 325000 → (G1 ++ G2).length ≤ 128 → lj_D lc_P lc_M144 58 [.ref 8, .int x1, .int (Int32.ofNat i), .retAddr 0, .retAddr 0] [] σ = some (.inl none, cPus σ t G2)
  | [], i, t, σ, G1, hl, h, h8, ht, hb => by
    have e : σ.1 8 41 = Int32.ofNat i := lz_ext (by rw [lz_lit (by rw [List.length_append] at hb; omega)]; have := h.1; rw [List.append_nil, hl] at this; exact this)
    rw [List.append_nil, hl] at hb
    rw [kc_144_58, e, if_pos ((ofN_le (by omega) (by omega)).2 (Nat.le_refl _)), kc_144_316]
    rfl
  | u :: G2, i, t, σ, G1, hl, h, h8, ht, hb => by
    have hlen : (G1 ++ u :: G2).length = i + (G2.length + 1) := by rw [List.length_append, List.length_cons, hl]
    have e : σ.1 8 41 = Int32.ofNat (i + (G2.length + 1)) := lz_ext (by rw [lz_lit (by omega)]; have := h.1; rw [hlen] at this; exact this)
    have ev : (σ.1 107 i, σ.2 108 i) = u := by
      rw [h.2 i (by omega), List.getD_eq_getElem?_getD, List.getElem?_append_right (by omega), hl, Nat.sub_self]
      rfl
    have pu := c_push h8 (by rw [List.length_cons] at ht; omega) u
    have p1 : lj_R lc_P 137 [.ref 8, .int (σ.1 107 i), .long (σ.2 108 i)] σ = some (.inl none, cPu σ t u) := by rw [← ev] at pu ⊢; exact pu
    have ii : lj_in (Int32.ofNat i) 128 := ofN_in (by omega) (by omega)
    have ih := c_d0_loop x1 G2 (i + 1) (t + 1) (cPu σ t u) (G1 ++ [u]) (by rw [List.length_append, hl]; rfl) (by
      rw [List.append_assoc]
      refine ⟨?_, fun j hj => ?_⟩
      · unfold lv
        rw [cPu_1, if_neg (by omega), if_neg (by omega), if_neg (by omega)]
        exact h.1
      · rw [cPu_1, if_neg (by omega), if_neg (by omega), if_neg (by omega), cPu_2, if_neg (by omega)]
        exact h.2 j hj) (by rw [cPu_1, if_pos ⟨rfl, rfl⟩]) (by rw [List.length_cons] at ht; omega) (by rw [List.append_assoc]; exact hb)
    rw [kc_144_58, e, if_neg (by rw [ofN_le (by omega) (by omega)]; omega), if_pos ii, if_pos ii, lz_onat (by omega), p1, bv_ok, lz_osucc, ih]
    rfl
theorem c_d0 {σ : lj_S} {G : List vT} {t i : Nat} (h : rsC σ G) (h8 : σ.1 8 8 = Int32.ofNat t) (ht : t + 1 + G.length < 325000) (h34 : σ.1 8 34 = Int32.ofNat i) (hi : i < 520) (hl : G.length ≤ 128) : lj_R lc_P 144 [.ref 8, .int 0] σ = some (.inl none, cPus (cPu (lj_put σ 97 i (Int32.ofNat t)) t (9, (σ.1 97 i).toInt64)) (t + 1) G) := by
  have pm := c_pushMark h8 (by omega) h34 hi
  have lo := c_d0_loop 0 G 0 (t + 1) (cPu (lj_put σ 97 i (Int32.ofNat t)) t (9, (σ.1 97 i).toInt64)) [] rfl (by
    refine ⟨?_, fun j hj => ?_⟩
    · unfold lv
      rw [cPu_1, if_neg (by omega), if_neg (by omega), if_neg (by omega), lj_put_1, if_neg (by omega)]
      exact h.1
    · rw [cPu_1, if_neg (by omega), if_neg (by omega), if_neg (by omega), lj_put_1, if_neg (by omega), cPu_2, if_neg (by omega)]
      exact h.2 j hj) (by rw [cPu_1, if_pos ⟨rfl, rfl⟩]) (by omega) hl
  have lo : lj_D lc_P lc_M144 58 [.ref 8, .int 0, .int 0, .retAddr 0, .retAddr 0] [] _ = _ := lo
  rw [rc_144, kc_144_0, if_pos rfl, pm, bv_ok, lo]
/-- so many of a row -/
def tkN (G : List vT) (n : Nat) : List vT := (List.range n).map (fun k => G.getD k (0, 0))
theorem tkN_len (G : List vT) (n : Nat) : (tkN G n).length = n := by unfold tkN; rw [List.length_map, List.length_range]
theorem tkN_get (G : List vT) (n k : Nat) (h : k < n) : (tkN G n).getD k (0, 0) = G.getD k (0, 0) := by
  unfold tkN
  rw [List.getD_eq_getElem?_getD, List.getElem?_map, List.getElem?_range h]
  rfl
/-- the model pushes them -/
theorem m_dv_loop {p mq n : Nat} (J : Int32) {G : List vT} (hG : G.length ≤ 128) : ∀ (d k me : Nat) (τ : lj_S), k + d = n → rsM τ G → mAt τ p me mq → me + d < 10000 → n < 1000 → lj_D lm_P lm_M178 184 [.ref 0, .int J, .int (Int32.ofNat n), .int (Int32.ofNat k)] [] τ = some (.inl none, mPus p τ me ((List.range d).map (fun j => G.getD (k + j) (0, 0))))
  | 0, k, me, τ, hk, h, a, hm, hn => by
    rw [km_178_184, if_pos ((ofN_le (by omega) (by omega)).2 (by omega))]
    rfl
  | d + 1, k, me, τ, hk, h, a, hm, hn => by
    have e40 : τ.1 0 140 = Int32.ofNat G.length := lz_ext (by rw [lz_lit (by omega)]; exact h.1)
    have pu := m_push a (by omega) (G.getD k (0, 0))
    have h' : rsM (mPu τ p me (G.getD k (0, 0))) G := by
      refine ⟨?_, fun j hj => ?_⟩
      · unfold lv
        rw [mPu_1, if_neg (by omega), if_neg (by omega)]
        exact h.1
      · rw [mPu_1, if_neg (by omega), if_neg (by omega), mPu_2, if_neg (by omega)]
        exact h.2 j hj
    have ih := m_dv_loop J hG d (k + 1) (me + 1) (mPu τ p me (G.getD k (0, 0))) (by omega) h' (mAt_pu a (by omega) _) (by omega) hn
    have el : (List.range (d + 1)).map (fun j => G.getD (k + j) (0, 0)) = G.getD k (0, 0) :: (List.range d).map (fun j => G.getD (k + 1 + j) (0, 0)) := by
      rw [List.range_succ_eq_map, List.map_cons, List.map_map]
      congr 1
      refine List.map_congr_left (fun j _ => ?_)
      show G.getD (k + (j + 1)) (0, 0) = G.getD (k + 1 + j) (0, 0)
      congr 1
      omega
    rw [km_178_184, if_neg (by rw [ofN_le (by omega) (by omega)]; omega), e40, el]
    by_cases z : G.length ≤ k
    · have gz : G.getD k (0, 0) = (0, 0) := by rw [List.getD_eq_getElem?_getD, List.getElem?_eq_none z]; rfl
      rw [gz] at pu ih ⊢
      have pu : lj_R lm_P 116 [.ref 0, .int 0, .long 0] τ = _ := pu
      rw [if_pos ((ofN_le (by omega) (by omega)).2 z), km_178_208, e40, if_pos ((ofN_le (by omega) (by omega)).2 z), km_178_226, pu, bv_ok, lz_osucc, ih]
      rfl
    · have ev := h.2 k (by omega)
      have ii : lj_in (Int32.ofNat k) 128 := ofN_in (by omega) (by omega)
      rw [← ev] at pu ih ⊢
      have pu : lj_R lm_P 116 [.ref 0, .int (τ.1 90 k), .long (τ.2 91 k)] τ = _ := pu
      rw [if_neg (by rw [ofN_le (by omega) (by omega)]; exact z), if_pos ii, km_178_208, e40, if_neg (by rw [ofN_le (by omega) (by omega)]; exact z), if_pos ii, km_178_226, lz_onat (by omega), pu, bv_ok, lz_osucc, ih]
      rfl
/-- a frame of the text lies uppermost in the model -/
def mFr (τ : lj_S) (p i : Nat) : Prop := ∃ l : Nat, i = 48 * p + l ∧ l < 48 ∧ p < 26 ∧ τ.1 0 111 = Int32.ofNat p ∧ τ.1 62 p = Int32.ofNat (l + 1) ∧ τ.1 74 i = 0
theorem mFr.r {τ : lj_S} {p i : Nat} (h : mFr τ p i) : lj_in (τ.1 0 111) 26 ∧ τ.1 62 (τ.1 0 111).toNatClampNeg ≠ 0 ∧ lj_R lm_P 122 [.ref 0] τ = some (.inl (some (.int (Int32.ofNat i))), τ) ∧ lj_in (Int32.ofNat i) 1248 ∧ τ.1 74 (Int32.ofNat i).toNatClampNeg = 0 := by
  obtain ⟨l, rfl, h1, h2, h3, h4, h5⟩ := h
  have i1 : lj_in (τ.1 0 111) 26 := by rw [h3]; exact ofN_in (by omega) (by omega)
  have e1 : (τ.1 0 111).toNatClampNeg = p := by rw [h3]; exact lz_onat (by omega)
  refine ⟨i1, ?_, ?_, ofN_in (by omega) (by omega), by rw [lz_onat (by omega)]; exact h5⟩
  · rw [e1, h4]
    intro z
    have := (ofN_eq (a := l + 1) (c := 0) (by omega) (by omega)).1 z
    omega
  · rw [rm_122, km_122_0, if_pos i1, e1, h4, h3, show (48 : Int32) = Int32.ofNat 48 from rfl, ← Int32.ofNat_mul, ← Int32.ofNat_add, ← Nat.add_assoc, lz_pred']
theorem m_dlvV {τ : lj_S} {p me mq i nn : Nat} {G : List vT} (f : mFr τ p i) (a : mAt τ p me mq) (h : rsM τ G) (hG : G.length ≤ 128) (hm : τ.1 0 130 = 0) (hw : τ.1 0 131 = Int32.ofNat nn ∧ nn < 1000 ∨ τ.1 0 131 = -1 ∧ nn = G.length) (hb : me + nn < 10000) : lj_R lm_P 178 [.ref 0] τ = some (.inl none, mPus p (lj_put τ 0 129 0) me (tkN G nn)) := by
  obtain ⟨f1, f2, f3, f4, f5⟩ := f.r
  have a' : mAt (lj_put τ 0 129 0) p me mq := by
    obtain ⟨a1, a2, a3, a4, a5, a6⟩ := a
    exact ⟨by rw [lj_put_1, if_neg (by omega)]; exact a1, a2, by rw [lj_put_1, if_neg (by omega)]; exact a3, a4, by rw [lj_put_1, if_neg (by omega)]; exact a5, a6⟩
  have h' : rsM (lj_put τ 0 129 0) G := by
    refine ⟨?_, fun j hj => ?_⟩
    · unfold lv
      rw [lj_put_1, if_neg (by omega)]
      exact h.1
    · rw [lj_put_1, if_neg (by omega)]
      exact h.2 j hj
  have nn1 : nn < 1000 := by rcases hw with w | w <;> omega
  have lo := m_dv_loop (Int32.ofNat i) hG (n := nn) nn 0 me (lj_put τ 0 129 0) (by omega) h' a' hb nn1
  have lo : lj_D lm_P lm_M178 184 [.ref 0, .int (Int32.ofNat i), .int (Int32.ofNat nn), .int 0] [] (lj_put τ 0 129 0) = _ := lo
  simp only [Nat.zero_add] at lo
  rw [rm_178, km_178_0, if_pos f1, if_neg f2, f3, bi_ok, if_pos f4, if_neg (by rw [f5]; decide), if_pos f4, if_neg (by rw [f5]; decide), if_pos hm]
  rcases hw with ⟨w1, w2⟩ | ⟨w1, w2⟩
  · have ge : (0 : Int32) ≤ Int32.ofNat nn := (ofN_le (a := 0) (b := nn) (by omega) (by omega)).2 (by omega)
    rw [w1, if_pos ge, km_178_181, lo]
    rfl
  · have e40 : τ.1 0 140 = Int32.ofNat nn := lz_ext (by rw [lz_lit (by omega), w2]; exact h.1)
    rw [w1, if_neg (by decide), e40, km_178_181, lo]
    rfl
theorem m_dlvT {τ : lj_S} {p me mq i : Nat} {G : List vT} (f : mFr τ p i) (a : mAt τ p me mq) (h : rsM τ G) (hm : τ.1 0 130 = 1 ∨ τ.1 0 130 = 2) (hb : me < 10000) : lj_R lm_P 178 [.ref 0] τ = some (.inl none, mPu (lj_put τ 0 129 0) p me (1, if tru (G.getD 0 (0, 0)) = decide (τ.1 0 130 = 1) then 1 else 0)) := by
  obtain ⟨f1, f2, f3, f4, f5⟩ := f.r
  have a' : mAt (lj_put τ 0 129 0) p me mq := by
    obtain ⟨a1, a2, a3, a4, a5, a6⟩ := a
    exact ⟨by rw [lj_put_1, if_neg (by omega)]; exact a1, a2, by rw [lj_put_1, if_neg (by omega)]; exact a3, a4, by rw [lj_put_1, if_neg (by omega)]; exact a5, a6⟩
  have e130 : (lj_put τ 0 129 0).1 0 130 = τ.1 0 130 := by rw [lj_put_1, if_neg (by omega)]
  -- the end: what is pushed
  have fin : ∀ b : Bool, lj_D lm_P lm_M178 134 [.ref 0, .int (Int32.ofNat i), .retAddr 0, .retAddr 0] [.int (if b then 1 else 0)] (lj_put τ 0 129 0) = some (.inl none, mPu (lj_put τ 0 129 0) p me (1, if b = decide (τ.1 0 130 = 1) then 1 else 0)) := fun b => by
    have p0 : lj_R lm_P 116 [.ref 0, .int 1, .long 0] _ = _ := m_push a' hb (1, 0)
    have p1 : lj_R lm_P 116 [.ref 0, .int 1, .long 1] _ = _ := m_push a' hb (1, 1)
    rw [km_178_134, e130]
    by_cases z : τ.1 0 130 = 1
    · rw [if_pos z, decide_eq_true z, km_178_151]
      cases b
      · rw [if_neg (by decide), km_178_159, p0, bv_ok]; rfl
      · rw [if_pos rfl, km_178_159, p1, bv_ok]; rfl
    · rw [if_neg z, decide_eq_false z, km_178_151]
      cases b
      · rw [if_pos rfl, km_178_159, p1, bv_ok]; rfl
      · rw [if_neg (by decide), km_178_159, p0, bv_ok]; rfl
  have e40 : (τ.1 0 140 ≤ 0) ↔ G = [] := by
    have e : (τ.1 0 140 ≤ 0) ↔ lv τ 0 140 ≤ 0 := by rw [lz_le]; exact Iff.rfl
    rw [e, h.1]
    constructor
    · intro z; exact List.length_eq_zero_iff.1 (by omega)
    · intro z; rw [z]; exact Int.le_refl _
  rw [rm_178, km_178_0, if_pos f1, if_neg f2, f3, bi_ok, if_pos f4, if_neg (by rw [f5]; decide), if_pos f4, if_neg (by rw [f5]; decide), if_neg (by rcases hm with w | w <;> rw [w] <;> decide)]
  by_cases z : G = []
  · have ff := fin false
    have ff : lj_D lm_P lm_M178 134 [.ref 0, .int (Int32.ofNat i), .retAddr 0, .retAddr 0] [.int 0] (lj_put τ 0 129 0) = _ := ff
    rw [if_pos (e40.2 z), km_178_133, ff, z]
    rfl
  · have ev := h.2 0 (by rcases G with _ | ⟨g, G⟩; exact absurd rfl z; simp)
    have mt := m_isTrue (lj_put τ 0 129 0) (G.getD 0 (0, 0))
    have ff := fin (tru (G.getD 0 (0, 0)))
    rw [← ev] at mt ff ⊢
    have mt : lj_R lm_P 151 [.int (τ.1 90 0), .long (τ.2 91 0)] (lj_put τ 0 129 0) = _ := mt
    rw [if_neg (fun y => z (e40.1 y)), if_pos i128, if_pos i128, n0z, mt, bi_ok]
    by_cases y : tru (τ.1 90 0, τ.2 91 0) = true
    · rw [y] at ff ⊢
      rw [if_pos rfl, if_neg (by decide)]
      exact ff
    · have y' : tru (τ.1 90 0, τ.2 91 0) = false := by simpa using y
      rw [y'] at ff ⊢
      rw [if_pos (by decide), km_178_133]
      exact ff
