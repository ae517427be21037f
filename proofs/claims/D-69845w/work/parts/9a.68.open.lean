/-! the model opens a frame -/
/-- what is given, or nil -/
def gvN (G : List vT) (k : Nat) : vT := G.getD k (0, 0)
theorem m_op1 {i : Nat} (hi : i < 1248) (x1 x2 : Int32) : ∀ (d x : Nat) (τ : lj_S), x + d = 50 → ∃ τ', lj_D lm_P lm_M113 137 [.ref 0, .int x1, .int x2, .int (Int32.ofNat i), .int (Int32.ofNat x)] [] τ = lj_D lm_P lm_M113 166 [.ref 0, .int x1, .int x2, .int (Int32.ofNat i), .int 0] [] τ' ∧ (∀ k j, τ'.1 k j = if k = 87 ∧ 50 * i + x ≤ j ∧ j < 50 * i + 50 then -1 else τ.1 k j) ∧ τ'.2 = τ.2
  | 0, x, τ, hd => by
    have e : x = 50 := by omega
    refine ⟨τ, ?_, fun k j => by rw [if_neg (by omega)], rfl⟩
    rw [km_113_137, if_pos (by rw [e]; decide)]
  | d + 1, x, τ, hd => by
    have ec : (50 : Int32) * Int32.ofNat i + Int32.ofNat x = Int32.ofNat (50 * i + x) := by rw [show (50 : Int32) = Int32.ofNat 50 from rfl, ← Int32.ofNat_mul, ← Int32.ofNat_add]
    obtain ⟨τ', e1, e2, e3⟩ := m_op1 hi x1 x2 d (x + 1) (lj_put τ 87 (50 * i + x) (-1)) (by omega)
    have n50 : ¬ ((50 : Int32) ≤ Int32.ofNat x) := by
      rw [show (50 : Int32) = Int32.ofNat 50 from rfl, ofN_le (by omega) (by omega)]; omega
    refine ⟨τ', ?_, fun k j => ?_, by rw [e3]; rfl⟩
    · rw [km_113_137, if_neg n50, ec, if_pos (ofN_in (by omega) (by omega)), lz_onat (by omega), lz_osucc, e1]
    · rw [e2, lj_put_1]
      by_cases z : k = 87 ∧ 50 * i + x ≤ j ∧ j < 50 * i + 50
      · rw [if_pos z]
        by_cases y : j = 50 * i + x
        · rw [if_neg (by omega), if_pos ⟨z.1, y⟩]
        · rw [if_pos (by omega)]
      · rw [if_neg z, if_neg (by omega), if_neg (by omega)]
/-- the references of a state where one cell more is referred to -/
theorem rfA_put {τ τ1 : lj_S} {np n : Nat} {len : Nat → Nat} (h : rfA τ np n len) {c : Nat} {w : vT} (hc : c < 95000) (e : clA τ τ1 c w) {q i y : Nat} (hq : q ≤ np) (hi : i < len q) (hy : y < 50) (h74 : τ.1 74 (48 * q + i) = 0) : rfA (lj_put τ1 87 (50 * (48 * q + i) + y) (Int32.ofNat c)) np n len ∧ (∀ x, rfM τ np n len x → τ.1 87 (50 * (48 * q + i) + y) = -1 → rfM (lj_put τ1 87 (50 * (48 * q + i) + y) (Int32.ofNat c)) np n len x) ∧ rfM (lj_put τ1 87 (50 * (48 * q + i) + y) (Int32.ofNat c)) np n len c := by
  obtain ⟨h1, h2, h3, h4, h5, h6, h7⟩ := h
  have o : ∀ k j, ¬ (54 ≤ k ∧ k ≤ 57) → ¬ (k = 0 ∧ j = 96) → ¬ (k = 87 ∧ j = 50 * (48 * q + i) + y) → (lj_put τ1 87 (50 * (48 * q + i) + y) (Int32.ofNat c)).1 k j = τ.1 k j := fun k j z1 z2 z3 => by
    rw [lj_put_1, if_neg z3]
    exact (e.1 k j (by simp; omega)).1
  have n8 : (lj_put τ1 87 (50 * (48 * q + i) + y) (Int32.ofNat c)).1 87 (50 * (48 * q + i) + y) = Int32.ofNat c := by rw [lj_put_1, if_pos ⟨rfl, rfl⟩]
  refine ⟨⟨h1, h2, by rw [o 0 110 (by omega) (by omega) (by omega)]; exact h3, by rw [o 0 77 (by omega) (by omega) (by omega)]; exact h4, fun q hq => by rw [o 62 q (by omega) (by omega) (by omega)]; exact h5 q hq, fun q' hq' i' hi' t y' hy' => ?_, fun o' o1 o2 o3 => ?_⟩, fun x w v => ?_, ⟨hc, Or.inl ⟨q, hq, i, hi, by rw [o 74 _ (by omega) (by omega) (by omega)]; exact h74, y, hy, n8⟩⟩⟩
  · rw [o 74 _ (by omega) (by omega) (by omega)] at t
    by_cases z : 50 * (48 * q' + i') + y' = 50 * (48 * q + i) + y
    · rw [z, n8]; exact Or.inr ⟨c, hc, rfl⟩
    · rw [o 87 _ (by omega) (by omega) (by omega)]; exact h6 q' hq' i' hi' t y' hy'
  · rw [o 38 o' (by omega) (by omega) (by omega)] at o3
    obtain ⟨f, cn, g1, g2, g3, g4, g5⟩ := h7 o' o1 o2 o3
    exact ⟨f, cn, g1, by rw [o 43 o' (by omega) (by omega) (by omega)]; exact g2, g3, by rw [o 15 f (by omega) (by omega) (by omega)]; exact g4, fun k hk => by rw [o 44 _ (by omega) (by omega) (by omega)]; exact g5 k hk⟩
  · obtain ⟨w1, w⟩ := w
    refine ⟨w1, ?_⟩
    rcases w with ⟨q', q1, i', i1, i2, y', y1, y2⟩ | ⟨o', o1, o2, o3, f, cn, g1, g2, g3, g4, k, k1, k2⟩
    · refine Or.inl ⟨q', q1, i', i1, by rw [o 74 _ (by omega) (by omega) (by omega)]; exact i2, y', y1, ?_⟩
      by_cases z : 50 * (48 * q' + i') + y' = 50 * (48 * q + i) + y
      · exfalso
        rw [z, v] at y2
        have : (Int32.ofNat x).toInt = -1 := by rw [← y2]; rfl
        rw [lz_lit (by omega)] at this
        omega
      · rw [o 87 _ (by omega) (by omega) (by omega)]; exact y2
    · exact Or.inr ⟨o', o1, o2, by rw [o 38 _ (by omega) (by omega) (by omega)]; exact o3, f, cn, g1, by rw [o 43 _ (by omega) (by omega) (by omega)]; exact g2, g3, by rw [o 15 _ (by omega) (by omega) (by omega)]; exact g4, k, k1, by rw [o 44 _ (by omega) (by omega) (by omega)]; exact k2⟩
/-- cells of the parameters -/
theorem m_op2 {np n q i fn pn : Nat} {len : Nat → Nat} {G : List vT} (hq : q ≤ np) (hi : i < len q) (hi48 : 48 * q + i < 1248) (hfn : fn < 51) (hpn : pn ≤ 50) (hG : G.length ≤ 128) (x2 : Int32) : ∀ (d k : Nat) (τ : lj_S) (Fc : List Nat) (U : Nat → Prop), k + d = pn → rfA τ np n len → τ.1 74 (48 * q + i) = 0 → (∀ y, k ≤ y → y < 50 → τ.1 87 (50 * (48 * q + i) + y) = -1) → gvM τ G → τ.1 13 fn = Int32.ofNat pn → fcM τ Fc → lv τ 0 96 = (Fc.length : Int) → Fc.Nodup → (∀ c ∈ Fc, c < 95000 ∧ ¬ U c) → (∀ c, U c → rfM τ np n len c) → ∃ (τ' : lj_S) (Cs Fc' : List Nat), lj_D lm_P lm_M113 166 [.ref 0, .int (Int32.ofNat fn), .int x2, .int (Int32.ofNat (48 * q + i)), .int (Int32.ofNat k)] [] τ = lj_D lm_P lm_M113 239 [.ref 0, .int (Int32.ofNat fn), .int x2, .int (Int32.ofNat (48 * q + i)), .int (Int32.ofNat pn)] [] τ' ∧ Cs.length = d ∧ (Cs ++ Fc').Nodup ∧ (∀ c ∈ Cs ++ Fc', c < 95000 ∧ ¬ U c) ∧ fcM τ' Fc' ∧ lv τ' 0 96 = (Fc'.length : Int) ∧ (∀ j, j < d → τ'.1 87 (50 * (48 * q + i) + (k + j)) = Int32.ofNat (Cs.getD j 0) ∧ (τ'.1 54 (Cs.getD j 0), τ'.2 55 (Cs.getD j 0)) = gvN G (k + j)) ∧ (∀ c, c ∉ Cs → τ'.1 54 c = τ.1 54 c ∧ τ'.2 55 c = τ.2 55 c) ∧ (∀ kk j, ¬ (54 ≤ kk ∧ kk ≤ 57) → ¬ (kk = 0 ∧ j = 96) → ¬ (kk = 87 ∧ 50 * (48 * q + i) + k ≤ j ∧ j < 50 * (48 * q + i) + pn) → τ'.1 kk j = τ.1 kk j ∧ τ'.2 kk j = τ.2 kk j)
  | 0, k, τ, Fc, U, hd, h, h74, h87, hg, h13, f1, f2, f3, f4, hU => by
    refine ⟨τ, [], Fc, ?_, rfl, f3, f4, f1, f2, fun j hj => absurd hj (by omega), fun _ _ => ⟨rfl, rfl⟩, fun _ _ _ _ _ => ⟨rfl, rfl⟩⟩
    have iq : lj_in (Int32.ofNat fn) 51 := ofN_in (by omega) (by omega)
    have e13 : τ.1 13 (Int32.ofNat fn).toNatClampNeg = Int32.ofNat pn := by rw [lz_onat (by omega)]; exact h13
    rw [km_113_166, if_pos iq, if_pos (by rw [e13]; exact (ofN_le (by omega) (by omega)).2 (by omega)), if_pos iq, e13]
  | d + 1, k, τ, Fc, U, hd, h, h74, h87, hg, h13, f1, f2, f3, f4, hU => by
    have iq : lj_in (Int32.ofNat fn) 51 := ofN_in (by omega) (by omega)
    have e13 : τ.1 13 (Int32.ofNat fn).toNatClampNeg = Int32.ofNat pn := by rw [lz_onat (by omega)]; exact h13
    obtain ⟨τ1, c, Fc1, a1, a2, a3, a4, a5, a6⟩ := m_cell h f1 f2 f3 (fun c hc => (f4 c hc).1) (gvN G k)
    have c95 := (a6 c List.mem_cons_self).1
    obtain ⟨r1, r2, r3⟩ := rfA_put h c95 a2 (q := q) (i := i) (y := k) hq hi (by omega) h74
    have nU : ∀ x ∈ c :: Fc1, ¬ U x := fun x hx w => by
      rcases (a6 x hx).2 with z | z
      · exact (f4 x z).2 w
      · exact z (hU x w)
    have oo : ∀ kk j, ¬ (54 ≤ kk ∧ kk ≤ 57) → ¬ (kk = 0 ∧ j = 96) → ¬ (kk = 87 ∧ j = 50 * (48 * q + i) + k) → (lj_put τ1 87 (50 * (48 * q + i) + k) (Int32.ofNat c)).1 kk j = τ.1 kk j ∧ (lj_put τ1 87 (50 * (48 * q + i) + k) (Int32.ofNat c)).2 kk j = τ.2 kk j := fun kk j z1 z2 z3 => by
      have := a2.1 kk j (by simp; omega)
      exact ⟨by rw [lj_put_1, if_neg z3]; exact this.1, this.2⟩
    obtain ⟨τ', Cs, Fc', b1, b2, b3, b4, b5, b6, b7, b8, b9⟩ := m_op2 (n := n) hq hi hi48 hfn hpn hG x2 d (k + 1) (lj_put τ1 87 (50 * (48 * q + i) + k) (Int32.ofNat c)) Fc1 (fun x => U x ∨ x = c) (by omega) r1 (by rw [(oo 74 _ (by omega) (by omega) (by omega)).1]; exact h74) (fun y y1 y2 => by rw [(oo 87 _ (by omega) (by omega) (by omega)).1]; exact h87 y (by omega) (by omega)) ⟨by unfold lv; rw [(oo 0 137 (by omega) (by omega) (by omega)).1]; exact hg.1, fun j hj => by rw [(oo 88 j (by omega) (by omega) (by omega)).1, (oo 89 j (by omega) (by omega) (by omega)).2]; exact hg.2 j hj⟩ (by rw [(oo 13 fn (by omega) (by omega) (by omega)).1]; exact h13) (fcM_cg (fun j => by rw [lj_put_1, if_neg (by omega)]) a3) (by unfold lv; rw [lj_put_1, if_neg (by omega)]; exact a4) (List.nodup_cons.1 a5).2 (fun x hx => ⟨(a6 x (List.mem_cons_of_mem _ hx)).1, fun w => w.elim (nU x (List.mem_cons_of_mem _ hx)) (fun e => (List.nodup_cons.1 a5).1 (by rw [← e]; exact hx))⟩) (fun x w => w.elim (fun w => r2 x (hU x w) (h87 k (Nat.le_refl _) (by omega))) (fun e => by rw [e]; exact r3))
    have cn : c ∉ Cs ++ Fc' := fun w => (b4 c w).2 (Or.inr rfl)
    have ec : (50 : Int32) * Int32.ofNat (48 * q + i) + Int32.ofNat k = Int32.ofNat (50 * (48 * q + i) + k) := by rw [show (50 : Int32) = Int32.ofNat 50 from rfl, ← Int32.ofNat_mul, ← Int32.ofNat_add]
    have ic : lj_in (Int32.ofNat (50 * (48 * q + i) + k)) 62400 := ofN_in (by omega) (by omega)
    have go : lj_D lm_P lm_M113 224 [.ref 0, .int (Int32.ofNat fn), .int x2, .int (Int32.ofNat (48 * q + i)), .int (Int32.ofNat k)] [.int (Int32.ofNat c), .int (Int32.ofNat (50 * (48 * q + i) + k)), .ref 87] τ1 = lj_D lm_P lm_M113 239 [.ref 0, .int (Int32.ofNat fn), .int x2, .int (Int32.ofNat (48 * q + i)), .int (Int32.ofNat pn)] [] τ' := by
      rw [km_113_224, if_pos ic, lz_onat (by omega), lz_osucc, b1]
    have e37 : τ.1 0 137 = Int32.ofNat G.length := lz_ext (by rw [lz_lit (by omega)]; exact hg.1)
    refine ⟨τ', c :: Cs, Fc', ?_, by rw [List.length_cons, b2], List.nodup_cons.2 ⟨cn, b3⟩, fun x hx => ?_, b5, b6, fun j hj => ?_, fun x hx => ?_, fun kk j z1 z2 z3 => ?_⟩
    · rw [km_113_166, if_pos iq, if_neg (by rw [e13, ofN_le (by omega) (by omega)]; omega), e37]
      by_cases z : G.length ≤ k
      · have gz : gvN G k = (0, 0) := by unfold gvN; rw [List.getD_eq_getElem?_getD, List.getElem?_eq_none z]; rfl
        rw [gz] at a1
        have a1 : lj_R lm_P 114 [.ref 0, .int 0, .long 0] τ = _ := a1
        rw [if_pos ((ofN_le (by omega) (by omega)).2 z), a1, bi_ok, ec, go]
      · have ev := hg.2 k (by omega)
        have a1 : lj_R lm_P 114 [.ref 0, .int (τ.1 88 k), .long (τ.2 89 k)] τ = some (.inl (some (.int (Int32.ofNat c))), τ1) := by unfold gvN at a1; rw [← ev] at a1; exact a1
        have ik : lj_in (Int32.ofNat k) 128 := ofN_in (by omega) (by omega)
        rw [if_neg (by rw [ofN_le (by omega) (by omega)]; exact z), if_pos ik, if_pos ik, lz_onat (n := k) (by omega), a1, bi_ok, ec, go]
    · rcases List.mem_cons.1 (show x ∈ c :: (Cs ++ Fc') from hx) with e | e
      · rw [e]; exact ⟨c95, nU c List.mem_cons_self⟩
      · exact ⟨(b4 x e).1, fun w => (b4 x e).2 (Or.inl w)⟩
    · rcases Nat.eq_zero_or_pos j with e | e
      · subst e
        show τ'.1 87 _ = Int32.ofNat c ∧ (τ'.1 54 c, τ'.2 55 c) = _
        have nc : c ∉ Cs := fun w => cn (List.mem_append_left _ w)
        obtain ⟨v1, v2⟩ := b8 c nc
        refine ⟨?_, ?_⟩
        · rw [(b9 87 _ (by omega) (by omega) (by omega)).1, lj_put_1, if_pos ⟨rfl, rfl⟩]
        · rw [v1, v2, lj_put_1, if_neg (by omega)]
          exact a2.2
      · obtain ⟨j', rfl⟩ : ∃ j', j = j' + 1 := ⟨j - 1, by omega⟩
        have := b7 j' (by omega)
        rw [show k + 1 + j' = k + (j' + 1) by omega] at this
        exact this
    · have x1 : x ≠ c := fun e => hx (by rw [e]; exact List.mem_cons_self)
      obtain ⟨v1, v2⟩ := b8 x (fun w => hx (List.mem_cons_of_mem _ w))
      rw [v1, v2, lj_put_1, if_neg (by omega)]
      exact ⟨(a2.1 54 x (by simp; exact x1)).1, (a2.1 55 x (by simp; exact x1)).2⟩
    · obtain ⟨v1, v2⟩ := b9 kk j z1 z2 (by omega)
      obtain ⟨u1, u2⟩ := oo kk j z1 z2 (by omega)
      exact ⟨v1.trans u1, v2.trans u2⟩
/-- the rest of what was given -/
theorem m_op3 {p mq i fn : Nat} {G : List vT} (hi : i < 1248) (hfn : fn < 51) (hG : G.length ≤ 128) (x2 : Int32) : ∀ (G2 : List vT) (k me dk : Nat) (τ : lj_S) (G1 : List vT), G = G1 ++ G2 → G1.length = k → gvM τ G → mAt τ p me mq → τ.1 16 fn ≠ 0 → τ.1 82 i = Int32.ofNat dk → me + G2.length < 10000 → dk + G2.length < 1000 → lj_D lm_P lm_M113 239 [.ref 0, .int (Int32.ofNat fn), .int x2, .int (Int32.ofNat i), .int (Int32.ofNat k)] [] τ = some (.inl none, lj_put (mPus p τ me G2) 82 i (Int32.ofNat (dk + G2.length)))
  | [], k, me, dk, τ, G1, hs, hl, hg, a, h16, h82, hm, hk => by
    rw [List.append_nil] at hs
    subst hs
    have e37 : τ.1 0 137 = Int32.ofNat k := lz_ext (by rw [lz_lit (by omega), ← hl]; exact hg.1)
    rw [km_113_239, e37, if_pos ((ofN_le (by omega) (by omega)).2 (Nat.le_refl _)), km_113_291]
    show _ = some (Sum.inl none, lj_put τ 82 i (Int32.ofNat dk))
    rw [← h82, put_id]
  | u :: G2, k, me, dk, τ, G1, hs, hl, hg, a, h16, h82, hm, hk => by
    have hlen : G.length = k + (G2.length + 1) := by rw [hs, List.length_append, List.length_cons, hl]
    have e37 : τ.1 0 137 = Int32.ofNat (k + (G2.length + 1)) := lz_ext (by rw [lz_lit (by omega), ← hlen]; exact hg.1)
    have ev : (τ.1 88 k, τ.2 89 k) = u := by
      rw [hg.2 k (by omega), hs, List.getD_eq_getElem?_getD, List.getElem?_append_right (by omega), hl, Nat.sub_self]
      rfl
    rw [List.length_cons] at hm hk
    have pu := m_push a (by omega) u
    have p1 : lj_R lm_P 116 [.ref 0, .int (τ.1 88 k), .long (τ.2 89 k)] τ = some (.inl none, mPu τ p me u) := by rw [← ev] at pu ⊢; exact pu
    have ik : lj_in (Int32.ofNat k) 128 := ofN_in (by omega) (by omega)
    have iq : lj_in (Int32.ofNat fn) 51 := ofN_in (by omega) (by omega)
    have ii : lj_in (Int32.ofNat i) 1248 := ofN_in (by omega) (by omega)
    have q82 : (mPu τ p me u).1 82 i = Int32.ofNat dk := by rw [mPu_1, if_neg (by omega), if_neg (by omega)]; exact h82
    have ih := m_op3 (mq := mq) (fn := fn) hi hfn hG x2 G2 (k + 1) (me + 1) (dk + 1) (lj_put (mPu τ p me u) 82 i (Int32.ofNat (dk + 1))) (G1 ++ [u]) (by rw [List.append_assoc]; exact hs) (by rw [List.length_append, hl]; rfl) ⟨by unfold lv; rw [lj_put_1, if_neg (by omega), mPu_1, if_neg (by omega), if_neg (by omega)]; exact hg.1, fun j hj => by rw [lj_put_1, if_neg (by omega), mPu_1, if_neg (by omega), if_neg (by omega), pt2, mPu_2, if_neg (by omega)]; exact hg.2 j hj⟩ (by
      obtain ⟨a1, a2, a3, a4, a5, a6⟩ := mAt_pu a (by omega) u
      exact ⟨by rw [lj_put_1, if_neg (by omega)]; exact a1, a2, by rw [lj_put_1, if_neg (by omega)]; exact a3, a4, by rw [lj_put_1, if_neg (by omega)]; exact a5, a6⟩) (by rw [lj_put_1, if_neg (by omega), mPu_1, if_neg (by omega), if_neg (by omega)]; exact h16) (by simp [lj_put_1, lj_putL_1]) (by omega) (by omega)
    have cm : ∀ (G2 : List vT) (t : Nat) (τ : lj_S) (x : Int32), mPus p (lj_put τ 82 i x) t G2 = lj_put (mPus p τ t G2) 82 i x := by
      intro G2
      induction G2 with
      | nil => intro _ _ _; rfl
      | cons v G2 ih2 =>
        intro t τ x
        show mPus p (mPu (lj_put τ 82 i x) p t v) (t + 1) G2 = lj_put (mPus p (mPu τ p t v) (t + 1) G2) 82 i x
        rw [← ih2]
        congr 1
        unfold mPu
        rw [put_cm τ _ _ (by omega)]
        show lj_put (lj_put (lj_putL (lj_put τ 71 (10000 * p + t) v.1) 72 (10000 * p + t) v.2) 82 i x) 63 p _ = _
        rw [put_cm _ _ _ (by omega)]
    rw [km_113_239, e37, if_neg (by rw [ofN_le (by omega) (by omega)]; omega), if_pos iq, if_neg (by rw [lz_onat (by omega)]; exact h16), if_pos ik, if_pos ik, lz_onat (n := k) (by omega), p1, bv_ok, if_pos ii, if_pos ii, lz_onat (n := i) (by omega), q82, lz_osucc, lz_osucc, ih, cm, put_put]
    show some (Sum.inl none, lj_put (mPus p (mPu τ p me u) (me + 1) G2) 82 i (Int32.ofNat (dk + 1 + G2.length))) = some (Sum.inl none, lj_put (mPus p (mPu τ p me u) (me + 1) G2) 82 i (Int32.ofNat (dk + (G2.length + 1))))
    rw [show dk + 1 + G2.length = dk + (G2.length + 1) by omega]
