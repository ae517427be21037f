/-! statements: repeat -/
theorem GS_fg2 {e kn : List kT} {N0 : List lT} {z : lT} {R : List lT} {z0 : lT} {R0 : List lT} {F F' p p' c c1 c' m m1 m' : Nat} {σ τ σ1 τ1 σ' τ' : lj_S} (hN0 : N0 = z0 :: R0) (h0 : z0.2.1 = kn) (g : GS e N0 (z :: R) F F' p p' c c1 m m1 σ τ σ1 τ1) (tx : TX (z :: R) σ1 τ1 σ' τ') (zz : fz 0 c 0 m σ1 τ1 σ' τ') (hc : c ≤ c') (hm : m ≤ m') : GR N0 ((z.1, kn, z.2.2) :: R) F F' p p' c c' m m' σ τ σ' τ' := by
  obtain ⟨a1, a2, a3, a4, a5, a6, a7⟩ := g
  have q := lvY_q a2
  obtain ⟨y, S, y', S', e1, e2, b1, b2, b3, b4⟩ := a2
  subst hN0
  obtain ⟨rfl, rfl⟩ := List.cons.inj e1
  obtain ⟨rfl, rfl⟩ := List.cons.inj e2
  exact ⟨a1.tr tx (fun q' _ hq => by rw [q]; exact hq), ⟨b1, h0.symm, b3, b4⟩, a3, a4, hc, hm, a7.tr zz⟩
theorem cs_repeat {b : Nat → Int32} {n T : Nat} {Q : tkQ} {X : List Int32 → Prop} (hT5 : T ≤ 520) (k : Nat) (hV : CV b n T Q X k) (hK : CK b n T Q X k) {F : Nat} {N : List lT} {FO0 : List fT} {nl rv : Nat} {fl : List Nat} {Z : List zT} {PL : List qT} {cl ml : Nat} {p v c m wh : Nat} {W : List wT} {σ τ : lj_S} {f : Nat} {s l lB : List Nat} {D : Nat} (hTp : T - p < k + 1) (h : PS b n T Q X F N (((nl, rv), fl) :: FO0) Z PL cl ml p v c m wh W σ τ) (hN : hdN N f l) (hs : fls s fl) (hW : W.length + 25 ≤ 40 * v + 60) (hc : c + 40 ≤ 25 * p + 100) (hm : m + 40 ≤ 25 * p + 100) (hZ : Z.length + 1 ≤ v) (a25 : (Q p).1 = 25) :
    ∃ y τ', (y = 0 ∨ y = 1) ∧ lj_R lm_P 42 [.ref 0] τ = some (.inl (some (.int y)), τ') ∧ stR b n T Q X FO0 nl rv fl Z PL v W f s l lB D N F p c m σ τ (fun p' => p < p') 0 (lj_bi (lj_R lc_P 54 [.ref 5, .int 0, .int 0, .int 0] σ) (fun _ σ1 => lj_R lc_P 100 [.ref 6] σ1) lj_up) (mNx y τ') := by
  have hv20 := h.2.2.1.2.1
  have hfv := h.fv
  have hsB : sB s := hs.sb hfv hv20
  have hpT := h.2.2.1.1
  have hv20 := h.2.2.1.2.1
  have hlt : p < T := h.lt (by omega) (by omega)
  have c14 := h.c14 hT5
  have h1 := h.2.1
  have w4 := h.w4
  have hNe := hdN_ne hN
  obtain ⟨z0, R0, rfl, hf0, hl0⟩ := hN
  have P1 := h.C (by omega) hT5 0 0 0 0 0
  have P2 := P1.1.M (by omega) 0 0 0 0
  have P3 := P2.1.st hlt
  obtain ⟨σ4, τ4, b1, b2, b3, b4, b5, b6⟩ := cm_enter P3.1 hZ
  have hNR4 := b3.1.2.2.1
  have hF4 := b3.1.2.2.2.1
  have hz51 : z0.1 < 51 := hNR4.1.1.1
  have hzF := b3.1.2.2.2.2.1 z0 (List.mem_cons_self)
  obtain ⟨sl1, sl2, sl3, sl4⟩ := b3.1.2.2.2.2.2.1.1.2.2.2.2.2.2
  have sl2 : nl ≤ 50 := sl2
  have sl4 : ∀ y ∈ z0.2.1.map (·.2.2), y < nl := sl4
  rw [hl0] at sl4
  have h14 : τ4.1 14 z0.1 = Int32.ofNat nl := by rw [← (hF4.2.2.2 z0.1 hzF).1]; exact sl1
  have h50 : τ4.1 0 50 = Int32.ofNat (z0.2.1.length + baseN R0) := hNR4.2.2.2.2.2.2.2.2.1
  have hBb : baseN (z0 :: R0) ≤ 50 * (z0 :: R0).length := baseN_le hNR4.1
  have hR22 := hNR4.2.2.2.2.2.1
  have hB' : z0.2.1.length + baseN R0 ≤ 1100 := by
    have : baseN (z0 :: R0) = z0.2.1.length + baseN R0 := rfl
    omega
  have h44 : (lj_put (cP σ c 0 0 0 0 0) 6 0 (Int32.ofNat (p + 1))).1 44 z0.1 = Int32.ofNat z0.2.1.length := P3.1.1.2.2.1.1.1.2.2.1
  have h62 : (lj_put (cP σ c 0 0 0 0 0) 6 0 (Int32.ofNat (p + 1))).1 6 2 = Int32.ofNat z0.1 := P3.1.1.2.2.1.2.2.2.2.2.2.1
  have h5c : (lj_put (cP σ c 0 0 0 0 0) 6 0 (Int32.ofNat (p + 1))).1 5 0 = Int32.ofNat (c + 1) := P3.1.2.1.2.2.2.2.1
  have A1 := b3.la (by omega) (28, Int32.ofNat (m + 1), Int32.ofNat (z0.2.1.length + baseN R0), Int32.ofNat nl)
  have A2 := A1.1.la (by simp; omega) (0, 0, 0, 0)
  have eM : lj_R lm_P 42 [.ref 0] τ = _ := m_st42 h hT5 (by omega)
  rw [a25] at eM
  unfold mSt at eM
  rw [if_neg (by decide), if_neg (by decide), if_neg (by decide), if_neg (by decide), if_neg (by decide), if_neg (by decide), if_neg (by decide), if_neg (by decide), if_neg (by decide), if_neg (by decide), if_neg (by decide), if_neg (by decide), if_neg (by decide), if_pos (by decide), b2, bv_ok, m_prt hNR4, bi_ok, if_pos (ofN_in hz51 (by omega)), lz_onat (by omega), h14, b3.2.1.2.2.2.2.2.1, h50, (m_later b3.2.1.2.2.2.2.2.2.2.2.1 (by omega) 28 (Int32.ofNat (m + 1)) (Int32.ofNat (z0.2.1.length + baseN R0)) (Int32.ofNat nl)).1, bv_ok, (m_later A1.1.2.1.2.2.2.2.2.2.2.2.1 (by simp; omega) 0 0 0 0).1, bv_ok] at eM
  refine ⟨1, _, Or.inr rfl, eM, ?_⟩
  have G2 := P1.2.tr (P2.2.tr (P3.2.tr (b4.tr (A1.2.tr A2.2))))
  rw [nx1 A2.1.2.1, c_put3 h1.2.2.2.2.1 (by omega), bi_ok, rc_100, kc_100_0, c_step P1.1.1.1 hpT P1.1.2.1.1, bv_ok, h62, if_pos (ofN_in hz51 (by omega)), lz_onat (by omega), h44, h5c, b1, bv_ok]
  rcases hK F (z0 :: R0) FO0 nl rv fl _ PL cl ml (p + 1) v (c + 1) (m + 1) wh ((28, Int32.ofNat (m + 1), Int32.ofNat (z0.2.1.length + baseN R0), Int32.ofNat nl) :: W) _ _ f s l l nl (by omega) A2.1 ⟨z0, R0, rfl, hf0, hl0⟩ hs (by simp; omega) (by omega) (by omega) (bW_until (by omega) (by omega) _ _ _) (by
    intro x Y ex
    obtain ⟨rfl, rfl⟩ := List.cons.inj ex
    refine ⟨by simp [hf0], fun _ => ⟨by rw [← hl0]; simp, ⟨[], rfl, fun y hy => by simp at hy⟩, (Nat.le_refl _)⟩⟩) with hf | ⟨σ5, τ5, p5, c5, m5, wh5, F5, N5, nl5, e, nb, j1, j2, j3, j4, j5, j6, j7, j8, j9, j10, j11, j12⟩
  · exact Or.inl (flt_bv hf _)
  · have hc5 := j4.2.2.2.2.1
    have hm5 := j4.2.2.2.2.2.1
    have hp5 := j3.2.2.1.1
    have hpp5 := j4.2.2.2.1
    have c145 := j3.c14 hT5
    have hne5 : N5 ≠ [] := by obtain ⟨_, _, _, _, _, e2, _⟩ := j4.2.1; rw [e2]; exact fun q => by cases q
    rw [j1, bv_ok, j2]
    have B1 := j3.pop
    have ps := c_pass j3.1.1 hp5 j3.2.1.1 29 (by omega)
    have nw := m_needWord B1.1.1.1 hp5 B1.1.2.1.2.1 B1.1.2.1.2.2.2.2.2.2.2.2.2 19 (by omega) 20 rfl
    have ge : ∀ y τ2, (y = 0 ∨ y = 1) → lj_R lm_P 95 [.ref 0, .int (Int32.ofNat (m + 1)), .int (Int32.ofNat (z0.2.1.length + baseN R0)), .int (Int32.ofNat nl)] (lj_put τ5 0 46 (Int32.ofNat W.length)) = some (.inl (some (.int y)), τ2) → mLoop τ5 = mNx y τ2 := fun y τ2 hy e => j3.go hy (by rw [rm_30, km_30_0, if_neg (by decide), if_neg (by decide), if_neg (by decide), if_neg (by decide), if_neg (by decide), if_neg (by decide), if_neg (by decide), if_neg (by decide), if_neg (by decide), if_neg (by decide), if_neg (by decide), if_neg (by decide), if_neg (by decide), if_neg (by decide), if_neg (by decide), if_neg (by decide), if_neg (by decide), if_neg (by decide), if_neg (by decide), if_neg (by decide), if_neg (by decide), rm_86, km_86_0, if_neg (by decide), if_neg (by decide), if_neg (by decide), if_neg (by decide), if_neg (by decide), if_neg (by decide), if_neg (by decide), if_pos rfl, e, bi_ok, bi_ok, vpb y hy, vpb y hy])
    have eW : lj_R lm_P 95 [.ref 0, .int (Int32.ofNat (m + 1)), .int (Int32.ofNat (z0.2.1.length + baseN R0)), .int (Int32.ofNat nl)] (lj_put τ5 0 46 (Int32.ofNat W.length)) = _ := rm_95 _ _ _ _
    rw [km_95_0, nw] at eW
    by_cases a29 : (Q p5).1 = 29
    · have hlt5 : p5 < T := j3.lt (by omega) (by omega)
      rw [if_pos a29] at ps
      have B2 := B1.1.st hlt5
      have B3 := B2.1.C (by omega) hT5 0 0 0 0 0
      have B4 := B3.1.M (by omega) 0 0 0 0
      have B5 := B4.1.la (by omega) (29, Int32.ofNat (m + 1), Int32.ofNat (z0.2.1.length + baseN R0), Int32.ofNat nl)
      have B6 := B5.1.la (by simp; omega) (3, 0, 0, 0)
      rw [if_pos (show (Q p5).1 = 10 + 19 by omega), bi_ok, if_neg (by decide), m_emit B2.1.2.1.2.2.2.2.2.1 (by omega), bi_ok, (m_later B4.1.2.1.2.2.2.2.2.2.2.2.1 (by omega) 29 (Int32.ofNat (m + 1)) (Int32.ofNat (z0.2.1.length + baseN R0)) (Int32.ofNat nl)).1, bv_ok, (m_later B5.1.2.1.2.2.2.2.2.2.2.2.1 (by simp; omega) 3 0 0 0).1, bv_ok] at eW
      rw [show lj_R lc_P 71 [.ref 6, .int 29] σ5 = _ from ps, bv_ok, ge 1 _ (Or.inr rfl) eW, nx1 B6.1.2.1, c_put3 B2.1.2.1.2.2.2.2.1 (by omega), bi_ok]
      have G6 := B1.2.tr (B2.2.tr (B3.2.tr (B4.2.tr (B5.2.tr B6.2))))
      have hN5 := lvY_hd ⟨z0, R0, rfl, hf0, hl0⟩ j4.2.1
      rcases hV F5 N5 (((nl5, rv), fl) :: FO0) _ PL c5 m5 (p5 + 1) v (c5 + 1) (m5 + 1) wh5 ((29, Int32.ofNat (m + 1), Int32.ofNat (z0.2.1.length + baseN R0), Int32.ofNat nl) :: W) _ _ f s (e.map (·.2.2) ++ l) (by omega) B6.1 hN5 ((hs.hd hfv).up (by omega) (by omega)) (by simp; omega) with hf | ⟨σ7, τ7, p7, c7, m7, wh7, F7, N7, i1, i2, i3, i4, i5, i6, i7, i8⟩
      · exact Or.inl (flt_bv hf _)
      · have hc7 := i4.2.2.2.2.1
        have hm7 := i4.2.2.2.2.2.1
        have hp7 := i3.2.2.1.1
        have c147 := i3.c14 hT5
        rw [i1, bv_ok, i2, c_put3 i3.2.1.2.2.2.2.1 (by omega), bi_ok]
        have D1 := i3.pop
        have gs7 : GS e (z0 :: R0) N7 F F7 p p7 c c7 m m7 σ τ σ7 (lj_put τ7 0 46 (Int32.ofNat W.length)) := ((G2.s hNe j4).r G6).r (i4.tr D1.2)
        have hsp : ∃ z R, N7 = z :: R ∧ z.2.1 = e ++ z0.2.1 ∧ baseN R = baseN R0 ∧ z.1 = z0.1 := by
          obtain ⟨y, S, y', S', e1, e2, b1, b2, b3, b4⟩ := gs7.2.1
          obtain ⟨rfl, rfl⟩ := List.cons.inj e1
          exact ⟨y', S', e2, b2, (lvX_map b4).2.2.1, b1⟩
        obtain ⟨z7, R7, rfl, hk7, hb7, hz7⟩ := hsp
        have hl7 : z7.2.1.map (·.2.2) = e.map (·.2.2) ++ l := by rw [hk7, List.map_append, hl0]
        obtain ⟨t1, t2, t3, t4⟩ := D1.1.1.2.2.2.2.2.1.1.2.2.2.2.2.2
        have t1 : σ7.1 31 z7.1 = Int32.ofNat nl5 := t1
        have t2 : nl5 ≤ 50 := t2
        have t4 : ∀ y ∈ z7.2.1.map (·.2.2), y < nl5 := t4
        have E1 := D1.1.C (by omega) hT5 31 0 0 0 0
        have z62 : ∀ σx, (∀ k j, ¬ (22 ≤ k ∧ k ≤ 26) → ¬ (k = 5 ∧ j = 0) → σx.1 k j = σ7.1 k j) → σx.1 6 2 = Int32.ofNat z7.1 ∧ σx.1 31 z7.1 = Int32.ofNat nl5 ∧ nmC σx (z7 :: R7) := fun σx q => ⟨by rw [q 6 2 (by omega) (by omega)]; exact D1.1.1.2.2.1.2.2.2.2.2.2.1, by rw [q 31 _ (by omega) (by omega)]; exact t1, nmC_cg (fun j => q _ j (by omega) (by omega)) (fun j => q _ j (by omega) (by omega)) (fun j => q _ j (by omega) (by omega)) (fun j => q _ j (by omega) (by omega)) (fun j => q _ j (by omega) (by omega)) (fun j => q _ j (by omega) (by omega)) (fun j => q _ j (by omega) (by omega)) (fun j => q _ j (by omega) (by omega)) D1.1.1.2.2.1.1⟩
        have ge7 : ∀ y τ2, (y = 0 ∨ y = 1) → lj_R lm_P 96 [.ref 0, .int (Int32.ofNat (m + 1)), .int (Int32.ofNat (z0.2.1.length + baseN R0)), .int (Int32.ofNat nl)] (lj_put τ7 0 46 (Int32.ofNat W.length)) = some (.inl (some (.int y)), τ2) → mLoop τ7 = mNx y τ2 := fun y τ2 hy e => i3.go hy (by rw [rm_30, km_30_0, if_neg (by decide), if_neg (by decide), if_neg (by decide), if_neg (by decide), if_neg (by decide), if_neg (by decide), if_neg (by decide), if_neg (by decide), if_neg (by decide), if_neg (by decide), if_neg (by decide), if_neg (by decide), if_neg (by decide), if_neg (by decide), if_neg (by decide), if_neg (by decide), if_neg (by decide), if_neg (by decide), if_neg (by decide), if_neg (by decide), if_neg (by decide), rm_86, km_86_0, if_neg (by decide), if_neg (by decide), if_neg (by decide), if_neg (by decide), if_neg (by decide), if_neg (by decide), if_neg (by decide), if_neg (by decide), if_pos rfl, e, bi_ok, bi_ok, vpb y hy, vpb y hy])
        have eE : lj_R lm_P 96 [.ref 0, .int (Int32.ofNat (m + 1)), .int (Int32.ofNat (z0.2.1.length + baseN R0)), .int (Int32.ofNat nl)] (lj_put τ7 0 46 (Int32.ofNat W.length)) = _ := rm_96 _ _ _ _
        rw [km_96_0] at eE
        have h507 : (lj_put τ7 0 46 (Int32.ofNat W.length)).1 0 50 = Int32.ofNat ((e ++ z0.2.1).length + baseN R0) := by rw [← hk7, ← hb7]; exact D1.1.1.2.2.1.2.2.2.2.2.2.2.2.1
        -- from a state where all acts are laid on
        have fin : ∀ (c9 m9 : Nat) (σ9 τ9 : lj_S), PS b n T Q X F7 (z7 :: R7) (((nl5, rv), fl) :: FO0) _ PL c5 m5 p7 v c9 m9 wh7 W σ9 τ9 → TX (z7 :: R7) σ7 (lj_put τ7 0 46 (Int32.ofNat W.length)) σ9 τ9 → fz 0 c7 0 m7 σ7 (lj_put τ7 0 46 (Int32.ofNat W.length)) σ9 τ9 → c7 ≤ c9 → m7 ≤ m9 → c9 ≤ c7 + 5 → m9 ≤ m7 + 2 → (∀ σ2 τ2, fz c7 c9 m7 m9 σ9 τ9 σ2 τ2 → σ2.1 22 (c + 1) = 0 → τ2.1 20 (m + 1) = 0 → (nl5 : Int) ≤ lv σ2 31 f → seg σ2 τ2 (f, c7, m7, 0 :: s, e.map (·.2.2) ++ l, 50) (fun y => y = (f, c9, m9, s, l, 50) ∨ y = (f, c + 1, m + 1, s, l, 50))) → (∀ τ', lj_R lm_P 94 [.ref 0, .int (Int32.ofNat nl)] (lj_put τ9 0 50 (Int32.ofNat (z0.2.1.length + baseN R7))) = some (.inl none, τ') → lj_R lm_P 96 [.ref 0, .int (Int32.ofNat (m + 1)), .int (Int32.ofNat (z0.2.1.length + baseN R0)), .int (Int32.ofNat nl)] (lj_put τ7 0 46 (Int32.ofNat W.length)) = some (.inl (some (.int 1)), τ')) → ∀ x3 x4 : Int32,
            stR b n T Q X FO0 nl rv fl Z PL v W f s l lB D (z0 :: R0) F p c m σ τ (fun p' => p < p') 0 (lj_D lc_P lc_M100 136 [.ref 6, .int (Int32.ofNat (c + 1)), .int (Int32.ofNat z0.2.1.length), .int x3, .int x4] [] σ9) (mLoop τ7) := fun c9 m9 σ9 τ9 u1 u2 u3 u4 u5 u6 u7 u8 u9 x3 x4 => by
          have cls := c_cls100 (f := z7.1) (K0 := z0.2.1.length) u1.1.2.2.1.1.1.1 (by have := u1.1.2.2.1.1.1.2.2.2.1; rw [hk7] at this; simp at this; omega) (Int32.ofNat (c + 1)) x3 x4
          obtain ⟨σ10, r1, r2, r3, r4, r5, r6⟩ := cm_cls u1 hk7 hT5 cls.1 cls.2
          rw [r1]
          have hnb5 : ∀ j ∈ (nb.map (·.1) ++ ([] : List Nat)), j < c5 ∧ c + 1 ≤ j ∧ σ5.1 22 j = 30 := fun j hj => by
            rw [List.append_nil] at hj
            obtain ⟨x, hx, rfl⟩ := List.mem_map.1 hj
            have := j10 x hx
            exact ⟨(by omega), (by omega), this.2.2.2.2.1⟩
          have hmb5 : ∀ j ∈ (nb.map (·.2) ++ ([] : List Nat)), j < m5 ∧ m + 1 ≤ j := fun j hj => by
            rw [List.append_nil] at hj
            obtain ⟨x, hx, rfl⟩ := List.mem_map.1 hj
            have := j10 x hx
            exact ⟨(by omega), (by omega)⟩
          have hZlt := h.2.2.2.1.2.2.2.2.2.2.2.2.2.2
          have hml := h.2.2.2.2.2
          have z59 := (G6.tr (i4.tr D1.2)).2.2.2.2.2.2.tr (u3.mo (by omega) (by omega) (by omega) (by omega))
          have z510 := z59.tr (r4 c5 m5)
          obtain ⟨σ11, τ11, d1, d2, d3, d4, d5, d6, d7, d8, d9, d10⟩ := cm_leave (x := (z0.1, R0.length, z0.2.1.length, nb.map (·.1) ++ [], nb.map (·.2) ++ [])) (Y := Z) r2 hT5 (by have := u1.2.2.1; omega) (fun j hj => by have := hnb5 j hj; rw [z510.1 22 j (by omega) (by omega) (by omega) (by omega)]; exact this.2.2) (fun y hy j hj hj2 => by have q1 := (hZlt y hy).2 j hj; have := hmb5 j hj2; omega) nl
          rw [d1, bv_ok, ge7 1 _ (Or.inr rfl) (u9 _ d2), nx1 d3.2.1]
          have z1011 : ∀ a0 d0, a0 ≤ c + 1 → d0 ≤ m + 1 → fz 0 a0 0 d0 σ10 (lj_put τ9 0 50 (Int32.ofNat (z0.2.1.length + baseN R7))) σ11 τ11 := fun a0 d0 q1 q2 => ⟨fun k j w1 w2 _ w4 => d6 k j w1 w2 (fun w => by have := hnb5 j w.2; omega), fun k j w1 w2 _ w4 => d8 k j w1 w2 (by omega) (fun w => by have := hmb5 j w.2; omega)⟩
          have tx711 := (u2.tr r3 (fun _ _ q => q)).tr d4 (fun _ _ q => q)
          have gfin := GS_fg2 (c' := c9) (m' := m9 + 1) rfl rfl gs7 tx711 (((u3.mo (by omega) (by omega) (by omega) (by omega)).tr (r4 c m)).tr (z1011 c m (by omega) (by omega))) (by have := gs7.2.2.2.2.1; omega) (by have := gs7.2.2.2.2.2.1; omega)
          have hcc7 := gs7.2.2.2.2.1
          refine Or.inr ⟨σ11, τ11, p7, c9, m9 + 1, wh7, F7, _, nl5, [], [], rfl, rfl, by rw [adB_nil]; exact d3.top, gfin.gs hNe, (by omega), fun y hy => by simp at hy, (by omega), (by omega), (by omega), fun y hy => by simp at hy, fun q => absurd rfl q, fun σ2 τ2 L => ?_⟩
          have SC := L.lt.2.1
          have SM := L.lt.2.2
          -- acts up to the end of the block: all but breaks
          have C5 : ∀ k j, 22 ≤ k → k ≤ 26 → c ≤ j → j < c5 → ¬ (k = 23 ∧ j ∈ nb.map (·.1) ++ ([] : List Nat)) → σ2.1 k j = σ5.1 k j := fun k j w1 w2 w3 w4 w5 => by rw [SC k j w1 w2 (by omega) (by omega), d6 k j w1 w2 w5, z510.1 k j w1 w2 (by omega) (by omega)]
          have M5 : ∀ k j, 20 ≤ k → k ≤ 23 → m ≤ j → j < m5 → ¬ (k = 21 ∧ j ∈ nb.map (·.2) ++ ([] : List Nat)) → τ2.1 k j = τ5.1 k j := fun k j w1 w2 w3 w4 w5 => by rw [SM k j w1 w2 (by omega) (by omega), d8 k j w1 w2 (by omega) w5, z510.2 k j w1 w2 (by omega) (by omega)]
          have TX5 : TX N5 σ5 τ5 σ2 τ2 := (((G6.tr (i4.tr D1.2)).1.tr tx711 (fun q _ hq => by rw [lvX_q (i4.2.1)]; exact hq))).tr L.1 (fun q _ hq => by rw [← lvX_q i4.2.1] at hq; exact hq)
          have LBb : LB N5 nb (c + 1) c5 (m + 1) m5 σ5 τ5 σ2 τ2 := ⟨TX5, fun k j w1 w2 w3 w4 w5 => C5 k j w1 w2 (by omega) w4 (fun w => by
            rw [List.append_nil] at w
            obtain ⟨x, hx, ex⟩ := List.mem_map.1 w.2
            exact w5 w.1 x hx ex), fun k j w1 w2 w3 w4 w5 => M5 k j w1 w2 (by omega) w4 (fun w => by
            rw [List.append_nil] at w
            obtain ⟨x, hx, ex⟩ := List.mem_map.1 w.2
            exact w5 w.1 x hx ex)⟩
          have LBc : LB N5 nb c c5 m m5 σ5 τ5 σ2 τ2 := ⟨TX5, fun k j w1 w2 w3 w4 w5 => C5 k j w1 w2 (by omega) w4 (fun w => by
            rw [List.append_nil] at w
            obtain ⟨x, hx, ex⟩ := List.mem_map.1 w.2
            exact w5 w.1 x hx ex), fun k j w1 w2 w3 w4 w5 => M5 k j w1 w2 (by omega) w4 (fun w => by
            rw [List.append_nil] at w
            obtain ⟨x, hx, ex⟩ := List.mem_map.1 w.2
            exact w5 w.1 x hx ex)⟩
          have L2 := (j4.bk LBc).no (a' := c) (c' := c + 1) (d' := m) (m' := m + 1) (by omega) (by omega) (by omega) (by omega) (fun x hx => by have := j10 x hx; constructor <;> omega)
          have La := P3.2.bk (b4.bk (A1.2.bk (A2.2.bk L2)))
          have Lb := P2.2.bk La
          have k1 := Lb.gC (by omega)
          have k2 := La.gM (by omega)
          -- acts behind the block
          have C7 : ∀ k j, 22 ≤ k → k ≤ 26 → c5 ≤ j → j < c9 → σ2.1 k j = σ9.1 k j := fun k j w1 w2 w3 w4 => by rw [SC k j w1 w2 (by omega) (by omega), d6 k j w1 w2 (fun w => by have := hnb5 j w.2; omega), (r4 c9 m9).1 k j w1 w2 (by omega) (by omega)]
          have M7 : ∀ k j, 20 ≤ k → k ≤ 23 → m5 ≤ j → j < m9 → τ2.1 k j = τ9.1 k j := fun k j w1 w2 w3 w4 => by rw [SM k j w1 w2 (by omega) (by omega), d8 k j w1 w2 (by omega) (fun w => by have := hmb5 j w.2; omega), (r4 c9 m9).2 k j w1 w2 (by omega) (by omega)]
          have L7 : LT (z7 :: R7) (c5 + 1) c7 (m5 + 1) m7 σ7 τ7 σ2 τ2 := ⟨(D1.2.1.tr tx711 (fun _ _ q => q)).tr L.1 (fun _ _ q => q), fun k j w1 w2 w3 w4 => (C7 k j w1 w2 (by omega) (by omega)).trans (u3.1 k j w1 w2 (by omega) (by omega)), fun k j w1 w2 w3 w4 => by rw [M7 k j w1 w2 (by omega) (by omega), u3.2 k j w1 w2 (by omega) (by omega), lj_put_1, if_neg (by omega)]⟩
          have L6 : LT N5 c5 (c5 + 1) m5 (m5 + 1) _ _ σ2 τ2 := i4.bk ⟨L7.1, fun k j w1 w2 w3 w4 => (C7 k j w1 w2 (by omega) (by omega)).trans (u3.1 k j w1 w2 (by omega) (by omega)), fun k j w1 w2 w3 w4 => by rw [M7 k j w1 w2 (by omega) (by omega), u3.2 k j w1 w2 (by omega) (by omega), lj_put_1, if_neg (by omega)]⟩
          have L4 := B5.2.bk (B6.2.bk L6)
          have L3 := B4.2.bk L4
          have k3 := L3.gC (by omega)
          have k4 := L4.gM (by omega)
          -- the way out
          have ex : ∀ d, nl ≤ d → d ≤ 50 → seg σ2 τ2 (f, c9, m9, s, l, d) (fun y => (y = (f, c9, m9 + 1, s, ([] : List kT).map (·.2.2) ++ l, 50) ∨ bkE [] f s lB D y) ∨ y = (f, c5, m5, s, e.map (·.2.2) ++ l, 50)) := fun d q1 q2 =>
            seg_in [(f, c9, m9 + 1, s, l, 50)] ⟨45, nl, sl2, by show τ2.1 20 m9 = 20; rw [SM 20 _ (by omega) (by omega) (by omega) (by omega)]; exact d9, by show τ2.1 21 m9 = _; rw [SM 21 _ (by omega) (by omega) (by omega) (by omega)]; exact d10, q1, sl4, rfl⟩ (fun y hy => by rw [List.mem_singleton.1 hy]; exact seg_ex (Or.inl (Or.inl rfl)))
          have bk : ∀ y, bkE nb f s l nl y → seg σ2 τ2 y (fun y => (y = (f, c9, m9 + 1, s, ([] : List kT).map (·.2.2) ++ l, 50) ∨ bkE [] f s lB D y) ∨ y = (f, c5, m5, s, e.map (·.2.2) ++ l, 50)) := fun y ⟨x, hx, d, x1, x2, x3⟩ => by
            rw [x3]
            obtain ⟨y1, y2, y3, y4, y5, y6⟩ := j10 x hx
            have q5 : σ2.1 22 x.1 = 30 := by rw [C5 22 x.1 (by omega) (by omega) (by omega) (by omega) (by omega)]; exact y5
            have q6 : σ2.1 23 x.1 = Int32.ofNat c9 := by rw [SC 23 x.1 (by omega) (by omega) (by omega) (by omega)]; exact d5 x.1 (List.mem_append_left _ (List.mem_map.2 ⟨x, hx, rfl⟩))
            have q7 : τ2.1 20 x.2 = 21 := by rw [M5 20 x.2 (by omega) (by omega) (by omega) (by omega) (by omega)]; exact y6
            have q8 : τ2.1 21 x.2 = Int32.ofNat m9 := by rw [SM 21 x.2 (by omega) (by omega) (by omega) (by omega)]; exact d7 x.2 (List.mem_append_left _ (List.mem_map.2 ⟨x, hx, rfl⟩))
            exact seg_in [(f, c9, m9, s, l, d)] ⟨37, c9, m9, (by omega), ⟨by omega, Or.inl ⟨by first | omega | (dsimp only; omega), by first | omega | (dsimp only; omega)⟩⟩, q5, q6, q7, q8, rfl⟩ (fun y hy => by rw [List.mem_singleton.1 hy]; exact ex d x1 x2)
          have body := j12 σ2 τ2 LBb
          have stp : σ2.1 22 (c + 1) = 0 ∧ τ2.1 20 (m + 1) = 0 := by
            rcases body with q | q
            · have q1 : c + 1 = c5 := congrArg (fun x : pT => x.2.1) q
              have q2 : m + 1 = m5 := congrArg (fun x : pT => x.2.2.1) q
              rw [q1, q2]; exact ⟨k3.1, k4.1⟩
            · exact q.stp
          -- round and round, by the step behind the block
          have lp : seg σ2 τ2 (f, c5, m5, s, e.map (·.2.2) ++ l, 50) (fun y => y = (f, c9, m9 + 1, s, ([] : List kT).map (·.2.2) ++ l, 50) ∨ bkE [] f s lB D y) := by
            refine seg_loop [(f, c5 + 1, m5 + 1, s, e.map (·.2.2) ++ l, 50)] ⟨k3.1, k4.1, rfl⟩ (fun y hy => ?_)
            rw [List.mem_singleton.1 hy]
            rcases i8 with ⟨_, hE⟩ | ⟨q, _⟩ | ⟨q, _⟩
            · refine (hE σ2 τ2 L7.1 L7.2).tr (fun y hy => ?_)
              rw [hy]
              refine (u8 σ2 τ2 ⟨fun k j w1 w2 w3 w4 => C7 k j w1 w2 (by omega) (by omega), fun k j w1 w2 w3 w4 => M7 k j w1 w2 (by omega) (by omega)⟩ stp.1 stp.2 (i3.l31 ⟨z7, R7, rfl, hz7.trans hf0, rfl⟩ L7.1).1).tr (fun y hy => ?_)
              rcases hy with hy | hy
              · rw [hy]; exact ex 50 sl2 (Nat.le_refl _)
              · rw [hy]
                refine body.tr (fun y hy => ?_)
                rcases hy with hy | hy
                · exact seg_ex (Or.inr hy)
                · exact bk y hy
            · exact absurd q (by decide)
            · exact absurd q (by decide)
          refine seg0_in [(f, c + 1, m + 1, s, l, 50)] ⟨k1.1, k2.1, rfl⟩ (fun y hy => ?_)
          rw [List.mem_singleton.1 hy]
          refine body.tr (fun y hy => ?_)
          rcases hy with hy | hy
          · rw [hy]; exact lp
          · refine (bk y hy).tr (fun y hy => ?_)
            rcases hy with hy | hy
            · exact seg_ex hy
            · rw [hy]; exact lp
        have gE1 := cP_get σ7 c7 31 0 0 0 0
        have oE1 := cP_o σ7 c7 31 0 0 0 0
        rcases c_closeFrom (z62 _ (fun k j q1 q2 => oE1 k j (by omega) (by omega))).2.2 (z62 _ (fun k j q1 q2 => oE1 k j (by omega) (by omega))).1 (z62 _ (fun k j q1 q2 => oE1 k j (by omega) (by omega))).2.1 gE1.2.2.2.2.2 (by omega) hk7 with ⟨ce, cf⟩ | ⟨e', t, ce, ct, cf⟩
        · -- no locals in it
          subst ce
          rw [cf, bv_ok, c_put3 gE1.2.2.2.2.2 (by omega), bi_ok]
          have E2 := E1.1.C (by omega) hT5 30 0 0 0 0
          have gE2 := cP_get (cP σ7 c7 31 0 0 0 0) (c7 + 1) 30 0 0 0 0
          have oE2 := cP_o (cP σ7 c7 31 0 0 0 0) (c7 + 1) 30 0 0 0 0
          rw [c_land (j := c7) gE2.2.2.2.2.2 (by omega) (by rw [oE2 22 c7 (by omega) (by omega), gE1.1]; decide) (by rw [oE2 22 c7 (by omega) (by omega), gE1.1]; decide), bv_ok]
          have E3 := E2.1.p23 c7 23 (Or.inl rfl) (Int32.ofNat (c7 + 1 + 1))
          have oE3 : ∀ k j, ¬ (k = 23 ∧ j = c7) → (lj_put (cP (cP σ7 c7 31 0 0 0 0) (c7 + 1) 30 0 0 0 0) 23 c7 (Int32.ofNat (c7 + 1 + 1))).1 k j = (cP (cP σ7 c7 31 0 0 0 0) (c7 + 1) 30 0 0 0 0).1 k j := fun k j q => by rw [lj_put_1, if_neg q]
          have gE3 : (lj_put (cP (cP σ7 c7 31 0 0 0 0) (c7 + 1) 30 0 0 0 0) 23 c7 (Int32.ofNat (c7 + 1 + 1))).1 23 c7 = Int32.ofNat (c7 + 1 + 1) := by rw [lj_put_1, if_pos ⟨rfl, rfl⟩]
          have zz3 := z62 (lj_put (cP (cP σ7 c7 31 0 0 0 0) (c7 + 1) 30 0 0 0 0) 23 c7 (Int32.ofNat (c7 + 1 + 1))) (fun k j q1 q2 => by rw [oE3 k j (by omega), oE2 k j (by omega) (by omega), oE1 k j (by omega) (by omega)])
          have e53 : (lj_put (cP (cP σ7 c7 31 0 0 0 0) (c7 + 1) 30 0 0 0 0) 23 c7 (Int32.ofNat (c7 + 1 + 1))).1 5 0 = Int32.ofNat (c7 + 1 + 1) := by rw [oE3 5 0 (by omega)]; exact gE2.2.2.2.2.2
          rcases c_closeFrom zz3.2.2 zz3.1 zz3.2.1 e53 (by omega) hk7 with ⟨_, cf2⟩ | ⟨e'', t'', ce2, _, _⟩
          · rw [cf2, bv_ok, c_put3 e53 (by omega), bi_ok]
            have E4 := E3.1.C (by omega) hT5 30 (Int32.ofNat (c + 1)) 0 0 0
            have gE4 := cP_get (lj_put (cP (cP σ7 c7 31 0 0 0 0) (c7 + 1) 30 0 0 0 0) 23 c7 (Int32.ofNat (c7 + 1 + 1))) (c7 + 1 + 1) 30 (Int32.ofNat (c + 1)) 0 0 0
            have oE4 := cP_o (lj_put (cP (cP σ7 c7 31 0 0 0 0) (c7 + 1) 30 0 0 0 0) 23 c7 (Int32.ofNat (c7 + 1 + 1))) (c7 + 1 + 1) 30 (Int32.ofNat (c + 1)) 0 0 0
            rw [c_land (j := c7 + 1) gE4.2.2.2.2.2 (by omega) (by rw [oE4 22 _ (by omega) (by omega), oE3 22 _ (by omega), gE2.1]; decide) (by rw [oE4 22 _ (by omega) (by omega), oE3 22 _ (by omega), gE2.1]; decide), bv_ok]
            have E5 := E4.1.p23 (c7 + 1) 23 (Or.inl rfl) (Int32.ofNat (c7 + 1 + 1 + 1))
            have E6 := E5.1.M (by omega) 22 (Int32.ofNat (m + 1)) 0 0
            have g6 := mP_get (lj_put τ7 0 46 (Int32.ofNat W.length)) m7 22 (Int32.ofNat (m + 1)) 0 0
            have oE5 : ∀ k j, ¬ (k = 23 ∧ j = c7 + 1) → (lj_put (cP (lj_put (cP (cP σ7 c7 31 0 0 0 0) (c7 + 1) 30 0 0 0 0) 23 c7 (Int32.ofNat (c7 + 1 + 1))) (c7 + 1 + 1) 30 (Int32.ofNat (c + 1)) 0 0 0) 23 (c7 + 1) (Int32.ofNat (c7 + 1 + 1 + 1))).1 k j = (cP (lj_put (cP (cP σ7 c7 31 0 0 0 0) (c7 + 1) 30 0 0 0 0) 23 c7 (Int32.ofNat (c7 + 1 + 1))) (c7 + 1 + 1) 30 (Int32.ofNat (c + 1)) 0 0 0).1 k j := fun k j q => by rw [lj_put_1, if_neg q]
            have gE5 : (lj_put (cP (lj_put (cP (cP σ7 c7 31 0 0 0 0) (c7 + 1) 30 0 0 0 0) 23 c7 (Int32.ofNat (c7 + 1 + 1))) (c7 + 1 + 1) 30 (Int32.ofNat (c + 1)) 0 0 0) 23 (c7 + 1) (Int32.ofNat (c7 + 1 + 1 + 1))).1 23 (c7 + 1) = Int32.ofNat (c7 + 1 + 1 + 1) := by rw [lj_put_1, if_pos ⟨rfl, rfl⟩]
            have hxx : (mP (lj_put τ7 0 46 (Int32.ofNat W.length)) m7 22 (Int32.ofNat (m + 1)) 0 0).1 0 50 = Int32.ofNat (z0.2.1.length + baseN R7) := by rw [mP_o _ _ _ _ _ _ _ _ (by omega) (by omega), h507, hb7]; rfl
            refine fin (c7 + 3) (m7 + 1) _ _ E6.1 ((((((E1.2.tr E2.2).1.tr E3.2.1 (fun _ _ q => q)).tr E4.2.1 (fun _ _ q => q)).tr E5.2.1 (fun _ _ q => q)).tr E6.2.1 (fun _ _ q => q))) ((((((E1.2.tr E2.2).2.2.2.2.2.2.tr (E3.2.2.mo (by omega) (by omega) (by omega) (by omega))).tr (E4.2.2.2.2.2.2.2.mo (by omega) (by omega) (by omega) (by omega))).tr (E5.2.2.mo (by omega) (by omega) (by omega) (by omega))).tr (E6.2.2.2.2.2.2.2.mo (by omega) (by omega) (by omega) (by omega)))) (by omega) (by omega) (by omega) (by omega) (fun σ2 τ2 z2 s1 s2 s3 => ?_) (fun τ' e94 => ?_) _ _
            · have c1 : ∀ k j, 22 ≤ k → k ≤ 26 → c7 ≤ j → j < c7 + 3 → σ2.1 k j = _ := z2.1
              refine seg_in [(f, c7 + 3, m7 + 1, s, l, 50), (f, c + 1, m + 1, s, l, 50)] ⟨41, c7 + 2, c + 1, m + 1, c7 + 3, s, (by omega), (by omega), ⟨(by omega), s1, s2⟩, ⟨by omega, by first | omega | (dsimp only; omega)⟩, rfl, ?_, ?_, ?_, ?_, ?_, ?_, ?_, ?_, rfl⟩ (fun y hy => ?_)
              · show σ2.1 22 c7 = 31
                rw [c1 22 c7 (by omega) (by omega) (by omega) (by omega), oE5 22 c7 (by omega), oE4 22 c7 (by omega) (by omega), oE3 22 c7 (by omega), oE2 22 c7 (by omega) (by omega)]; exact gE1.1
              · show σ2.1 23 c7 = _
                rw [c1 23 c7 (by omega) (by omega) (by omega) (by omega), oE5 23 c7 (by omega), oE4 23 c7 (by omega) (by omega)]; exact gE3
              · show σ2.1 22 (c7 + 1) = 30
                rw [c1 22 _ (by omega) (by omega) (by omega) (by omega), oE5 22 _ (by omega), oE4 22 _ (by omega) (by omega), oE3 22 _ (by omega)]; exact gE2.1
              · show σ2.1 23 (c7 + 1) = _
                rw [c1 23 _ (by omega) (by omega) (by omega) (by omega)]; exact gE5
              · show σ2.1 22 (c7 + 2) = 30
                rw [c1 22 _ (by omega) (by omega) (by omega) (by omega), oE5 22 _ (by omega)]; exact gE4.1
              · show σ2.1 23 (c7 + 2) = _
                rw [c1 23 _ (by omega) (by omega) (by omega) (by omega), oE5 23 _ (by omega)]; exact gE4.2.1
              · show τ2.1 20 m7 = 22
                rw [z2.2 20 _ (by omega) (by omega) (by omega) (by omega)]; exact g6.1
              · show τ2.1 21 m7 = _
                rw [z2.2 21 _ (by omega) (by omega) (by omega) (by omega)]; exact g6.2.1
              · rcases List.mem_cons.1 hy with hy | hy
                · rw [hy]; exact seg_ex (Or.inl rfl)
                · rw [List.mem_singleton.1 hy]; exact seg_ex (Or.inr rfl)
            · rw [← hxx, put_same] at e94
              rw [eE, rm_58, km_58_0, h507, if_pos (by rw [lz_le]; exact Int.le_refl _), km_58_28, bv_ok, m_emit D1.1.2.1.2.2.2.2.2.1 (by omega), bi_ok, e94, bv_ok]
          · simp at ce2
        · -- with locals
          have hk72 : z7.2.1 = e' ++ t :: z0.2.1 := by rw [hk7, ce]; simp
          have hel : (e ++ z0.2.1).length = e'.length + 1 + z0.2.1.length := by rw [ce]; simp; omega
          have hl50 : (e ++ z0.2.1).length ≤ 50 := by rw [← hk7]; exact D1.1.1.2.2.1.1.1.2.2.2.1
          rw [cf, bv_ok]
          have E2 := E1.1.C (by omega) hT5 34 (Int32.ofNat t.2.2) (Int32.ofNat nl5) 0 0
          have gE2 := cP_get (cP σ7 c7 31 0 0 0 0) (c7 + 1) 34 (Int32.ofNat t.2.2) (Int32.ofNat nl5) 0 0
          have oE2 := cP_o (cP σ7 c7 31 0 0 0 0) (c7 + 1) 34 (Int32.ofNat t.2.2) (Int32.ofNat nl5) 0 0
          generalize hσa : cP (cP σ7 c7 31 0 0 0 0) (c7 + 1) 34 (Int32.ofNat t.2.2) (Int32.ofNat nl5) 0 0 = σa at *
          rw [c_put3 gE2.2.2.2.2.2 (by omega), bi_ok]
          have E3 := E2.1.C (by omega) hT5 30 0 0 0 0
          have gE3 := cP_get σa (c7 + 1 + 1) 30 0 0 0 0
          have oE3 := cP_o σa (c7 + 1 + 1) 30 0 0 0 0
          generalize hσb : cP σa (c7 + 1 + 1) 30 0 0 0 0 = σb at *
          rw [c_land (j := c7) gE3.2.2.2.2.2 (by omega) (by rw [oE3 22 c7 (by omega) (by omega), oE2 22 c7 (by omega) (by omega), gE1.1]; decide) (by rw [oE3 22 c7 (by omega) (by omega), oE2 22 c7 (by omega) (by omega), gE1.1]; decide), bv_ok]
          have E4 := E3.1.p23 c7 23 (Or.inl rfl) (Int32.ofNat (c7 + 1 + 1 + 1))
          have oE4 : ∀ k j, ¬ (k = 23 ∧ j = c7) → (lj_put σb 23 c7 (Int32.ofNat (c7 + 1 + 1 + 1))).1 k j = σb.1 k j := fun k j q => by rw [lj_put_1, if_neg q]
          have gE4 : (lj_put σb 23 c7 (Int32.ofNat (c7 + 1 + 1 + 1))).1 23 c7 = Int32.ofNat (c7 + 1 + 1 + 1) := by rw [lj_put_1, if_pos ⟨rfl, rfl⟩]
          generalize hσc : lj_put σb 23 c7 (Int32.ofNat (c7 + 1 + 1 + 1)) = σc at *
          have zz4 := z62 σc (fun k j q1 q2 => by rw [oE4 k j (by omega), oE3 k j (by omega) (by omega), oE2 k j (by omega) (by omega), oE1 k j (by omega) (by omega)])
          have e54 : σc.1 5 0 = Int32.ofNat (c7 + 1 + 1 + 1) := by rw [oE4 5 0 (by omega)]; exact gE3.2.2.2.2.2
          rcases c_closeFrom zz4.2.2 zz4.1 zz4.2.1 e54 (by omega) hk7 with ⟨ce2, _⟩ | ⟨e'', t'', ce2, _, cf2⟩
          · rw [ce2] at ce; simp at ce
          · have ett : t'' = t := by
              have := List.append_inj_right' (ce.symm.trans ce2) rfl
              simpa using this.symm
            subst ett
            rw [cf2, bv_ok]
            have E5 := E4.1.C (by omega) hT5 34 (Int32.ofNat t''.2.2) (Int32.ofNat nl5) 0 0
            have gE5 := cP_get σc (c7 + 1 + 1 + 1) 34 (Int32.ofNat t''.2.2) (Int32.ofNat nl5) 0 0
            have oE5 := cP_o σc (c7 + 1 + 1 + 1) 34 (Int32.ofNat t''.2.2) (Int32.ofNat nl5) 0 0
            generalize hσd : cP σc (c7 + 1 + 1 + 1) 34 (Int32.ofNat t''.2.2) (Int32.ofNat nl5) 0 0 = σd at *
            rw [c_put3 gE5.2.2.2.2.2 (by omega), bi_ok]
            have E6 := E5.1.C (by omega) hT5 30 (Int32.ofNat (c + 1)) 0 0 0
            have gE6 := cP_get σd (c7 + 1 + 1 + 1 + 1) 30 (Int32.ofNat (c + 1)) 0 0 0
            have oE6 := cP_o σd (c7 + 1 + 1 + 1 + 1) 30 (Int32.ofNat (c + 1)) 0 0 0
            generalize hσe : cP σd (c7 + 1 + 1 + 1 + 1) 30 (Int32.ofNat (c + 1)) 0 0 0 = σe at *
            rw [c_land (j := c7 + 1 + 1) gE6.2.2.2.2.2 (by omega) (by rw [oE6 22 _ (by omega) (by omega), oE5 22 _ (by omega) (by omega), oE4 22 _ (by omega), gE3.1]; decide) (by rw [oE6 22 _ (by omega) (by omega), oE5 22 _ (by omega) (by omega), oE4 22 _ (by omega), gE3.1]; decide), bv_ok]
            have E7 := E6.1.p23 (c7 + 1 + 1) 23 (Or.inl rfl) (Int32.ofNat (c7 + 1 + 1 + 1 + 1 + 1))
            have oE7 : ∀ k j, ¬ (k = 23 ∧ j = c7 + 1 + 1) → (lj_put σe 23 (c7 + 1 + 1) (Int32.ofNat (c7 + 1 + 1 + 1 + 1 + 1))).1 k j = σe.1 k j := fun k j q => by rw [lj_put_1, if_neg q]
            have gE7 : (lj_put σe 23 (c7 + 1 + 1) (Int32.ofNat (c7 + 1 + 1 + 1 + 1 + 1))).1 23 (c7 + 1 + 1) = Int32.ofNat (c7 + 1 + 1 + 1 + 1 + 1) := by rw [lj_put_1, if_pos ⟨rfl, rfl⟩]
            generalize hσf : lj_put σe 23 (c7 + 1 + 1) (Int32.ofNat (c7 + 1 + 1 + 1 + 1 + 1)) = σf at *
            have E8 := E7.1.M (by omega) 20 (Int32.ofNat t''.2.2) 0 0
            have E9 := E8.1.M (by omega) 22 (Int32.ofNat (m + 1)) 0 0
            have g8 := mP_get (lj_put τ7 0 46 (Int32.ofNat W.length)) m7 20 (Int32.ofNat t''.2.2) 0 0
            have g9 := mP_get (mP (lj_put τ7 0 46 (Int32.ofNat W.length)) m7 20 (Int32.ofNat t''.2.2) 0 0) (m7 + 1) 22 (Int32.ofNat (m + 1)) 0 0
            have o9 := mP_o (mP (lj_put τ7 0 46 (Int32.ofNat W.length)) m7 20 (Int32.ofNat t''.2.2) 0 0) (m7 + 1) 22 (Int32.ofNat (m + 1)) 0 0
            have km := knM_dr e' (by rw [← hk72]; exact D1.1.1.2.2.1.2.1.1.2.2.2.2.1)
            have km30 : (lj_put τ7 0 46 (Int32.ofNat W.length)).1 30 (z0.2.1.length + baseN R0) = Int32.ofNat t''.2.2 := by rw [← hb7, Nat.add_comm]; exact km.1.2.1
            have TXx := ((((((E1.2.tr (E2.2.tr E3.2)).1.tr E4.2.1 (fun _ _ q => q)).tr (E5.2.tr E6.2).1 (fun _ _ q => q)).tr E7.2.1 (fun _ _ q => q)).tr (E8.2.tr E9.2).1 (fun _ _ q => q)))
            have fzx := (((((E1.2.tr (E2.2.tr E3.2)).2.2.2.2.2.2.tr (E4.2.2.mo (by omega) (by omega) (by omega) (by omega))).tr ((E5.2.tr E6.2).2.2.2.2.2.2.mo (by omega) (by omega) (by omega) (by omega))).tr (E7.2.2.mo (by omega) (by omega) (by omega) (by omega))).tr ((E8.2.tr E9.2).2.2.2.2.2.2.mo (by omega) (by omega) (by omega) (by omega)))
            refine fin (c7 + 5) (m7 + 2) _ _ E9.1 TXx fzx (by omega) (by omega) (by omega) (by omega) (fun σ2 τ2 z2 s1 s2 s3 => ?_) (fun τ' e94 => ?_) _ _
            · have c1 : ∀ k j, 22 ≤ k → k ≤ 26 → c7 ≤ j → j < c7 + 5 → σ2.1 k j = _ := z2.1
              have fe := sl_filter (e' := e') (t := t'') (kn := z0.2.1) (by rw [← hk72]; exact t3)
              rw [← hk72, hl7, hl0] at fe
              refine seg_in [(f, c7 + 5, m7 + 2, s, l, 50), (f, c + 1, m + 1, s, l, 50)] ⟨42, c7 + 3, c + 1, m + 1, c7 + 5, t''.2.2, nl5, s, (by omega), (by omega), ⟨(by omega), s1, s2⟩, ⟨by omega, by first | omega | (dsimp only; omega)⟩, ct, ⟨t2, s3⟩, rfl, by rw [hl7] at t4; exact t4, ?_, ?_, ?_, ?_, ?_, ?_, ?_, ?_, ?_, ?_, ?_, ?_, ?_, ?_, ?_, ?_, by show t''.2.2 ≤ 50; omega, ?_⟩ (fun y hy => ?_)
              · show σ2.1 22 c7 = 31
                rw [c1 22 c7 (by omega) (by omega) (by omega) (by omega), oE7 22 c7 (by omega), oE6 22 c7 (by omega) (by omega), oE5 22 c7 (by omega) (by omega), oE4 22 c7 (by omega), oE3 22 c7 (by omega) (by omega), oE2 22 c7 (by omega) (by omega)]; exact gE1.1
              · show σ2.1 23 c7 = _
                rw [c1 23 c7 (by omega) (by omega) (by omega) (by omega), oE7 23 c7 (by omega), oE6 23 c7 (by omega) (by omega), oE5 23 c7 (by omega) (by omega)]; exact gE4
              · show σ2.1 22 (c7 + 1) = 34
                rw [c1 22 _ (by omega) (by omega) (by omega) (by omega), oE7 22 _ (by omega), oE6 22 _ (by omega) (by omega), oE5 22 _ (by omega) (by omega), oE4 22 _ (by omega), oE3 22 _ (by omega) (by omega)]; exact gE2.1
              · show σ2.1 23 (c7 + 1) = _
                rw [c1 23 _ (by omega) (by omega) (by omega) (by omega), oE7 23 _ (by omega), oE6 23 _ (by omega) (by omega), oE5 23 _ (by omega) (by omega), oE4 23 _ (by omega), oE3 23 _ (by omega) (by omega)]; exact gE2.2.1
              · show σ2.1 24 (c7 + 1) = _
                rw [c1 24 _ (by omega) (by omega) (by omega) (by omega), oE7 24 _ (by omega), oE6 24 _ (by omega) (by omega), oE5 24 _ (by omega) (by omega), oE4 24 _ (by omega), oE3 24 _ (by omega) (by omega)]; exact gE2.2.2.1
              · show σ2.1 22 (c7 + 2) = 30
                rw [c1 22 _ (by omega) (by omega) (by omega) (by omega), oE7 22 _ (by omega), oE6 22 _ (by omega) (by omega), oE5 22 _ (by omega) (by omega), oE4 22 _ (by omega)]; exact gE3.1
              · show σ2.1 23 (c7 + 2) = _
                rw [c1 23 _ (by omega) (by omega) (by omega) (by omega)]; exact gE7
              · show σ2.1 22 (c7 + 3) = 34
                rw [c1 22 _ (by omega) (by omega) (by omega) (by omega), oE7 22 _ (by omega), oE6 22 _ (by omega) (by omega)]; exact gE5.1
              · show σ2.1 23 (c7 + 3) = _
                rw [c1 23 _ (by omega) (by omega) (by omega) (by omega), oE7 23 _ (by omega), oE6 23 _ (by omega) (by omega)]; exact gE5.2.1
              · show σ2.1 24 (c7 + 3) = _
                rw [c1 24 _ (by omega) (by omega) (by omega) (by omega), oE7 24 _ (by omega), oE6 24 _ (by omega) (by omega)]; exact gE5.2.2.1
              · show σ2.1 22 (c7 + 3 + 1) = 30
                rw [c1 22 _ (by omega) (by omega) (by omega) (by omega), oE7 22 _ (by omega)]; exact gE6.1
              · show σ2.1 23 (c7 + 3 + 1) = _
                rw [c1 23 _ (by omega) (by omega) (by omega) (by omega), oE7 23 _ (by omega)]; exact gE6.2.1
              · show τ2.1 20 m7 = 20
                rw [z2.2 20 _ (by omega) (by omega) (by omega) (by omega), o9 20 m7 (by omega) (by omega)]; exact g8.1
              · show τ2.1 21 m7 = _
                rw [z2.2 21 _ (by omega) (by omega) (by omega) (by omega), o9 21 m7 (by omega) (by omega)]; exact g8.2.1
              · show τ2.1 20 (m7 + 1) = 22
                rw [z2.2 20 _ (by omega) (by omega) (by omega) (by omega)]; exact g9.1
              · show τ2.1 21 (m7 + 1) = _
                rw [z2.2 21 _ (by omega) (by omega) (by omega) (by omega)]; exact g9.2.1
              · show _ = [(f, c7 + 5, m7 + 2, s, (e.map (·.2.2) ++ l).filter (· < t''.2.2), 50), (f, c + 1, m + 1, s, (e.map (·.2.2) ++ l).filter (· < t''.2.2), 50)]
                rw [fe]
              · rcases List.mem_cons.1 hy with hy | hy
                · rw [hy]; exact seg_ex (Or.inl rfl)
                · rw [List.mem_singleton.1 hy]; exact seg_ex (Or.inr rfl)
            · rw [eE, rm_58, km_58_0, h507, if_neg (by rw [lz_le, lz_lit (by omega), lz_lit (by omega)]; omega), if_pos (ofN_in (by omega) (by omega)), lz_onat (by omega), km30, m_emit D1.1.2.1.2.2.2.2.2.1 (by omega), bi_ok, km_58_28, bv_ok, m_emit (m := m7 + 1) (by rw [lj_put_1, if_neg (by omega)]; exact g8.2.2.2.2) (by omega), bi_ok, mP_50, ← hb7, e94, bv_ok]
    · rw [if_neg a29] at ps
      rw [if_neg (show ¬ (Q p5).1 = 10 + 19 by omega), bi_ok, if_pos rfl] at eW
      rw [show lj_R lc_P 71 [.ref 6, .int 29] _ = _ from ps, ge 0 _ (Or.inl rfl) eW, nx0]
      exact Or.inl (flt_bv (B1.1.flt hT5 2 (Or.inl rfl) _) _)
