/-! statements: an assignment or a call -/
theorem cs_ac {b : Nat → Int32} {n T : Nat} {Q : tkQ} {X : List Int32 → Prop} (hT5 : T ≤ 520) (k : Nat) (hC : CC b n T Q X k) (hR : CR b n T Q X k) {F : Nat} {N : List lT} {FO0 : List fT} {nl rv : Nat} {fl : List Nat} {Z : List zT} {PL : List qT} {cl ml : Nat} {p v c m wh : Nat} {W : List wT} {σ τ : lj_S} {f : Nat} {s l lB : List Nat} {D : Nat} (hTp : T - p < k) (h : PS b n T Q X F N (((nl, rv), fl) :: FO0) Z PL cl ml p v c m wh W σ τ) (hN : hdN N f l) (hs : fls s fl) (hW : W.length + 30 ≤ 40 * v + 60) (hPL : PL.length + 20 ≤ 20 * v) (hc : c + 40 ≤ 25 * p + 100) (hm : m + 40 ≤ 25 * p + 100) (hk : (Q p).1 = 1 ∨ (Q p).1 = 60) :
    ∃ y τ', (y = 0 ∨ y = 1) ∧ lj_R lm_P 42 [.ref 0] τ = some (.inl (some (.int y)), τ') ∧ stR b n T Q X FO0 nl rv fl Z PL v W f s l lB D N F p c m σ τ (fun p' => p < p') 0 (lj_bi (lj_R lc_P 54 [.ref 5, .int 0, .int 0, .int 0] σ) (fun _ σ1 => lj_R lc_P 110 [.ref 6] σ1) lj_up) (mNx y τ') := by
  have hv20 := h.2.2.1.2.1
  have hfv := h.fv
  have hsB : sB s := hs.sb hfv hv20
  have hpT := h.2.2.1.1
  have c14 := h.c14 hT5
  have h1 := h.2.1
  have hml := h.2.2.2.2.2
  have hNe := hdN_ne hN
  have hFO : hdF (3 * v) 0 (((nl, rv), fl) :: FO0) s := hs.hd hfv
  obtain ⟨τ1, e42, e1, P, G, SG⟩ := ac_start hT5 h hk (by omega) (by omega) (by omega)
  refine ⟨1, τ1, Or.inr rfl, e42, ?_⟩
  rw [e1, c_put3 h1.2.2.2.2.1 (by omega), bi_ok, rc_110, ac_C]
  rcases hC F N (((nl, rv), fl) :: FO0) Z PL cl ml p v (c + 1) (m + 2) wh ((21, Int32.ofNat PL.length, 0, 0) :: W) _ τ1 f (2 :: s) l hTp P hN (hFO.t.up (by omega) (by omega)) (by simp only [List.length_cons]; omega) with hf | ⟨what, σ5, τ5, p5, c5, m5, wh5, F5, N5, i1, i2, i3, i4, i5, i6, i7, i8⟩
  · exact Or.inl (flt_bi hf _)
  · have Q1 := i3.pop
    have hS5 := chS_pop i8 (Int32.ofNat W.length)
    have hp5 := i3.2.2.1.1
    have hN5 := hdN_X hN i4.2.1
    have g45 := i4.2.2.2.2.1
    have g46 := i4.2.2.2.2.2.1
    have G5 := i4.tr Q1.2
    rw [i1, bi_ok, i2]
    have kd := c_kind Q1.1.1.1 hp5 Q1.1.2.1.1
    have hk5 := tk_lt Q1.1.1.1 hp5
    have ne : ∀ x : Nat, x < 70 → (Q p5).1 ≠ x → ¬ (Int32.ofNat (Q p5).1 = Int32.ofNat x) := fun x hx q z => q ((ofN_eq (by omega) (by omega)).1 z)
    -- the model goes on behind the chain
    have go : ∀ y τ', (y = 0 ∨ y = 1) → lj_R lm_P 87 [.ref 0, .int (Int32.ofNat PL.length)] (lj_put τ5 0 46 (Int32.ofNat W.length)) = some (.inl (some (.int y)), τ') → mLoop τ5 = mNx y τ' := fun y τ' hy e => i3.go hy (by
      rw [rm_30, km_30_0, if_neg (by decide), if_neg (by decide), if_neg (by decide), if_neg (by decide), if_neg (by decide), if_neg (by decide), if_neg (by decide), if_neg (by decide), if_neg (by decide), if_neg (by decide), if_neg (by decide), if_neg (by decide), if_neg (by decide), if_neg (by decide), if_neg (by decide), if_neg (by decide), if_neg (by decide), if_neg (by decide), if_neg (by decide), if_neg (by decide), if_neg (by decide), rm_86, km_86_0, if_pos rfl, e, bi_ok, bi_ok, vpb y hy, vpb y hy])
    by_cases tk : (Q p5).1 = 58 ∨ (Q p5).1 = 68
    · have e44 : acC what σ5 = lj_D lc_P lc_M110 62 [.ref 6, .int what, .retAddr 0, .retAddr 0, .retAddr 0, .retAddr 0, .retAddr 0, .retAddr 0, .retAddr 0] [] σ5 := by
        have q44 : lj_D lc_P lc_M110 44 [.ref 6, .int what, .retAddr 0, .retAddr 0, .retAddr 0, .retAddr 0, .retAddr 0, .retAddr 0, .retAddr 0] [] σ5 = lj_D lc_P lc_M110 62 [.ref 6, .int what, .retAddr 0, .retAddr 0, .retAddr 0, .retAddr 0, .retAddr 0, .retAddr 0, .retAddr 0] [] σ5 := by
          rw [kc_110_44, kd, bi_ok]
          rcases tk with a | a
          · rw [if_pos (show Int32.ofNat (Q p5).1 = 58 by rw [a]; rfl)]
          · rw [if_neg (show ¬ Int32.ofNat (Q p5).1 = 58 from ne 58 (by omega) (by omega)), kd, bi_ok, if_pos (show Int32.ofNat (Q p5).1 = 68 by rw [a]; rfl)]
        unfold acC
        by_cases w1 : what = 1
        · rw [if_pos w1, kd, bi_ok]
          rcases tk with a | a
          · rw [if_pos (show Int32.ofNat (Q p5).1 = 58 by rw [a]; rfl), q44]
          · rw [if_neg (show ¬ Int32.ofNat (Q p5).1 = 58 from ne 58 (by omega) (by omega)), kd, bi_ok, if_pos (show Int32.ofNat (Q p5).1 = 68 by rw [a]; rfl), q44]
        · rw [if_neg w1, q44]
      rcases chS_cases i8 with q | q | q
      · rw [go 0 _ (Or.inl rfl) (m_acbad Q1.1 hS5 (Or.inl q) (Or.inr tk)), nx0, e44, kc_110_62, q, if_neg (by decide), kc_110_67, c_throw Q1.1.1.1 hp5 Q1.1.2.1.1]
        exact Or.inl (Q1.1.flt hT5 2 (Or.inl rfl) _)
      · rw [go 0 _ (Or.inl rfl) (m_acbad Q1.1 hS5 (Or.inr q) (Or.inr tk)), nx0, e44, kc_110_62, q, if_neg (by decide), kc_110_67, c_throw Q1.1.1.1 hp5 Q1.1.2.1.1]
        exact Or.inl (Q1.1.flt hT5 2 (Or.inl rfl) _)
      · have q3 : 3 ≤ what := by rcases q with q | q | q | q <;> rw [q] <;> decide
        have e18 : σ5.1 6 18 = Int32.ofNat PL.length := Q1.1.2.2.2.1.2.2.2.2.2.1
        obtain ⟨y, τ', hy, e87, hA⟩ := ac_loop hT5 k hC hR hFO hPL (by omega) (p0 := p) (c0 := c) (m0 := m) h.2.2.1.2.2.1 h.2.2.1.2.2.2.1 (k + 1) [] F5 N5 p5 c5 m5 wh5 σ5 _ (c + 1) (m + 2) what (by omega) (Nat.le_refl _) (by show 0 < 20; omega) Q1.1 hN5 (fun x hx => by simp at hx) q hS5 g45 g46 (by show c5 + 0 + 10 + 25 * p ≤ c + 25 * p5; omega) (by show m5 + 0 + 10 + 25 * p ≤ m + 25 * p5; omega)
        rw [go y τ' hy e87, e44, kc_110_62, if_pos q3, e18]
        rcases hA with hA | ⟨σ', τ'', p', c', m', wh', F', N', j1, j2, j3, j4, j5, j6, j7⟩
        · exact Or.inl hA
        · have gp := j4.2.2.2.1
          have gc := j4.2.2.2.2.1
          have gm := j4.2.2.2.2.2.1
          refine Or.inr ⟨σ', τ'', p', c', m', wh', F', N', nl, [], [], j1, j2, by rw [adB_nil]; exact j3.top, (G.tr (G5.tr j4)).gs hNe, (Nat.le_refl _), fun y hy => by simp at hy, (by omega), (by omega), (by omega), fun x hx => by simp at hx, fun q => absurd rfl q, fun σ2 τ2 L => ?_⟩
          have L' := L.lt
          refine Or.inr ((SG σ2 τ2 (G5.bk (j4.bk L')) f s l hsB).tr (fun y hy => ?_))
          rw [hy]
          exact (j7 σ2 τ2 ⟨L'.1, L'.2.mo (by omega) (by omega) (by omega) (by omega)⟩).tr (fun y hy => seg_ex (Or.inl hy))
    · have n58 : (Q p5).1 ≠ 58 := fun q => tk (Or.inl q)
      have n68 : (Q p5).1 ≠ 68 := fun q => tk (Or.inr q)
      obtain ⟨y, τ', hy, e87, hA⟩ := ac_call hT5 Q1.1 (show ml ≤ m + 2 by omega) hS5 n58 n68 (by omega) (by omega)
      rw [go y τ' hy e87]
      rcases hA with hA | ⟨σ', j1, j2, j3, j4, j5, j6⟩
      · exact Or.inl hA
      · have TA := (G.tr G5).1.tr j4 (fun q _ hq => by rw [lvX_q (G.tr G5).2.1]; exact hq)
        have zA := (G.tr G5).2.2.2.2.2.2.tr (j5.mo (by omega) (by omega) (by omega) (by omega))
        have z1 := G5.2.2.2.2.2.2.tr j5
        refine Or.inr ⟨σ', τ', p5, c5 + 1, m5 + 1, wh5, F5, N5, nl, [], [], j1, j2, by rw [adB_nil]; exact j3.top, GR.gs (⟨TA, (G.tr G5).2.1, (G.tr G5).2.2.1, (G.tr G5).2.2.2.1, (by omega), (by omega), zA⟩ : GR N N5 F F5 p p5 c (c5 + 1) m (m5 + 1) σ τ σ' τ') hNe, (Nat.le_refl _), fun y hy => by simp at hy, (by omega), (by omega), (by omega), fun x hx => by simp at hx, fun q => absurd rfl q, fun σ2 τ2 L => ?_⟩
        have L' := L.lt
        refine Or.inr ((SG σ2 τ2 ⟨(G5.1.tr j4 (fun q _ hq => by rw [lvX_q G5.2.1]; exact hq)).tr L'.1 (fun q _ hq => by rw [lvX_q G5.2.1]; exact hq), (z1.mo (by omega) (by omega) (by omega) (by omega)).tr (L'.2.mo (by omega) (by omega) (by omega) (by omega))⟩ f s l hsB).tr (fun y hy => ?_))
        rw [hy]
        exact (j6 σ2 τ2 ⟨L'.1, L'.2.mo (by omega) (by omega) (by omega) (by omega)⟩).tr (fun y hy => seg_ex (Or.inl hy))
