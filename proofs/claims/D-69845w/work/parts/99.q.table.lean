/-! tables -/
theorem m_sgAt {b : Nat → Int32} {n T : Nat} {Q : tkQ} {σ τ : lj_S} (h : TE b n T Q σ τ) {p : Nat} (hp : p ≤ T) (w : Nat) (hw : w < 30) (x : Int64) (hx : lsgn[w]? = some x) : (τ.1 9 p = 5 ∧ lg_cmp (τ.2 11 p) x = 0) ↔ (Q p).1 = 40 + w := by
  have hk := tk_lt h hp
  have hA := h.2.2.2.2.1 p hp
  have t : tkk (Q p).1 = 5 → 10 ≤ (Q p).1 := fun a => by
    have : ∀ k : Fin 70, tkk k.val = 5 → 10 ≤ k.val := by decide
    exact this ⟨_, hk⟩ a
  rw [← tkk_5 (Q p).1 w hk hw, lg_cmp_eq, hx, Option.some.injEq, hA.2.2.1]
  constructor
  · rintro ⟨a, c⟩
    exact ⟨a, by rw [hA.2.2.2.1 (t a)] at c; exact c⟩
  · rintro ⟨a, c⟩
    exact ⟨a, by rw [hA.2.2.2.1 (t a)]; exact c⟩
theorem m_named {b : Nat → Int32} {n T : Nat} {Q : tkQ} {σ τ : lj_S} (h : TE b n T Q σ τ) {p : Nat} (hp : p ≤ T) (hT5 : T ≤ 520) (h0 : τ.1 0 25 = Int32.ofNat p) (A B : Option lj_O) : (if lj_in (τ.1 0 25) 1502 then (if τ.1 9 (τ.1 0 25).toNatClampNeg = 1 then (if 1500 ≤ τ.1 0 25 then B else (if lj_in (τ.1 0 25 + 1) 1502 then (if τ.1 9 (τ.1 0 25 + 1).toNatClampNeg = 5 then (if lj_in (τ.1 0 25 + 1) 1502 then (if lg_cmp (τ.2 11 (τ.1 0 25 + 1).toNatClampNeg) 61 = 0 then A else B) else none) else B) else none)) else B) else none) = if (Q p).1 = 1 ∧ (Q (p + 1)).1 = 58 then A else B := by
  have hk := tk_lt h hp
  have t1 : ∀ k : Fin 70, ((tkk k.val = 1) ↔ k.val = 1) := by decide
  have t1' := t1 ⟨(Q p).1, hk⟩
  rw [h0, lz_osucc, if_pos (ofN_in (by omega) (by omega)), if_pos (ofN_in (by omega) (by omega)), if_pos (ofN_in (by omega) (by omega)), lz_onat (by omega), lz_onat (by omega), (h.2.2.2.2.1 p hp).2.2.1, if_neg (show ¬ ((1500 : Int32) ≤ Int32.ofNat p) by rw [lz_le, lz_lit (by omega)]; show ¬ ((1500 : Int) ≤ (p : Int)); omega)]
  by_cases e : (Q p).1 = 1
  · have hp1 : p < T := by
      rcases Nat.lt_or_ge p T with q | q
      · exact q
      · have e1 : p = T := by omega
        have := h.2.2.2.2.2.2.1
        rw [← e1] at this
        omega
    rw [if_pos (t1'.2 e)]
    have s := m_sgAt h (show p + 1 ≤ T from hp1) 18 (by omega) 61 rfl
    by_cases e2 : (Q (p + 1)).1 = 58
    · have s' := s.2 (by omega)
      rw [if_pos s'.1, if_pos s'.2, if_pos ⟨e, e2⟩]
    · rw [if_neg (show ¬ ((Q p).1 = 1 ∧ (Q (p + 1)).1 = 58) from fun q => e2 q.2)]
      by_cases q1 : τ.1 9 (p + 1) = 5
      · rw [if_pos q1, if_neg (fun q2 => e2 (by have := s.1 ⟨q1, q2⟩; omega))]
      · rw [if_neg q1]
  · rw [if_neg (fun q => e (t1'.1 q)), if_neg (fun q => e q.1)]
theorem cm_fields {b : Nat → Int32} {n T : Nat} {Q : tkQ} {X : List Int32 → Prop} (hT5 : T ≤ 520) (k : Nat) (ihV : CV b n T Q X k) (ihE : CE b n T Q X k) {FO : List fT} {Z : List zT} {PL : List qT} {cl ml : Nat} {v : Nat} {W : List wT} {f : Nat} {s l : List Nat} (hFO : hdF (16 * v + 64) (v + 4) FO s) (hWl : W.length + 20 ≤ 40 * v + 60) {N0 : List lT} {F0 p0 c0 m0 : Nat} {σ0 τ0 : lj_S} (hc00 : c0 ≤ 25 * p0 + 100) (hm00 : m0 ≤ 25 * p0 + 100) :
    ∀ (j F : Nat) (N : List lT) (p c m wh x1 it : Nat) (σ τ : lj_S) (x3 : Value), T - p < j → j ≤ k → PS b n T Q X F N FO Z PL cl ml p v c m wh ((15, Int32.ofNat (it + 1), Int32.ofNat x1, 0) :: W) σ τ → hdN N f l → GR N0 N F0 F p0 p c0 c m0 m σ0 τ0 σ τ → p0 < p → c + 24 ≤ c0 + 25 * (p - p0) → m + 24 ≤ m0 + 25 * (p - p0) → x1 ≤ 30 → it ≤ x1 → (∀ σ2 τ2, LT N c0 c m0 m σ τ σ2 τ2 → seg σ2 τ2 (f, c0, m0, s, l, 50) (fun y => y = (f, c, m, 8 :: s, l, 50))) →
      vlR b n T Q X FO Z PL cl ml v W f s l N0 F0 p0 c0 m0 σ0 τ0 (lj_D lc_P lc_M85 25 [.ref 6, .int (Int32.ofNat x1), .int (Int32.ofNat it), x3] [] σ) (mLoop τ)
  | 0, _, _, _, _, _, _, _, _, _, _, _, hj, _, _, _, _, _, _, _, _, _, _ => by omega
  | j + 1, F, N, p, c, m, wh, x1, it, σ, τ, x3, hj, hjk, hPS, hN, hG, hp0, hcr, hmr, hx1, hit, hsg => by
    have hTE := hPS.1.1
    have hb := hPS.2.2.1
    have hpT := hb.1
    have hv := hb.2.1
    have hB : sB s := hFO.sb (by omega) (by omega)
    have hB2 : sB (2 :: 8 :: s) := (hFO.n 8 (by omega)).t.sb (by omega) (by omega)
    have h1 := hPS.2.1
    have hk := tk_lt hTE hpT
    have c14 := hPS.c14 hT5
    have hc0 : c0 ≤ c := hG.2.2.2.2.1
    have hm0 : m0 ≤ m := hG.2.2.2.2.2.1
    have hml := hPS.2.2.2.2.2
    have hvb : vbd N.length FO Z PL v := hPS.2.2.2.2.1.2.2
    have PA := hPS.pop
    have w4 := PA.1.w4
    have goA : ∀ y τ', (y = 0 ∨ y = 1) → lj_R lm_P 79 [.ref 0, .int (Int32.ofNat (it + 1)), .int (Int32.ofNat x1)] (lj_put τ 0 46 (Int32.ofNat W.length)) = some (.inl (some (.int y)), τ') → mLoop τ = mNx y τ' := fun y τ' hy e => hPS.go hy (by rw [rm_30, km_30_0, if_neg (by decide), if_neg (by decide), if_neg (by decide), if_neg (by decide), if_neg (by decide), if_neg (by decide), if_neg (by decide), if_neg (by decide), if_neg (by decide), if_neg (by decide), if_neg (by decide), if_neg (by decide), if_neg (by decide), if_neg (by decide), if_neg (by decide), if_pos rfl, e, bi_ok, vpb y hy])
    generalize hτa : lj_put τ 0 46 (Int32.ofNat W.length) = τa at *
    have ha := PA.1.2.1
    have hTEa := PA.1.1.1
    have kd := c_kind hTE hpT h1.1
    have s63 := m_isSign hTEa hpT ha.2.1 23 (by omega) 125 rfl
    have s64 := m_isSign hTEa hpT ha.2.1 24 (by omega) 91 rfl
    have ne : ∀ c : Nat, c < 70 → (Q p).1 ≠ c → ¬ (Int32.ofNat (Q p).1 = Int32.ofNat c) := fun c hc q z => q ((ofN_eq (by omega) (by omega)).1 z)
    have eM : lj_R lm_P 79 [.ref 0, .int (Int32.ofNat (it + 1)), .int (Int32.ofNat x1)] τa = _ := rm_79 _ _ τa
    rw [km_79_0, s63, bi_ok] at eM
    rw [kc_85_25, kd, bi_ok]
    by_cases a63 : (Q p).1 = 63
    · -- the end
      have hlt : p < T := hPS.lt (by omega) (by omega)
      have P1 := PA.1.ch 64 (by omega) (-1)
      have P2 := P1.1.st hlt
      rw [if_pos (show (Q p).1 = 40 + 23 by omega), if_neg (by decide), m_take P1.1.1.1 hpT P1.1.2.1.2.1 (by omega), bi_ok] at eM
      rw [if_pos (by rw [a63]; rfl), c_step hTE hpT h1.1, bv_ok, goA 1 _ (Or.inr rfl) eM, nx1 P2.1.2.1]
      have G2 := PA.2.tr (P1.2.tr P2.2)
      refine Or.inr ⟨_, _, p + 1, c, m, wh, F, N, rfl, rfl, P2.1, hG.tr G2, (by omega), (by omega), (by omega), Or.inl ⟨rfl, fun σ2 τ2 t2 z2 => (hsg σ2 τ2 (G2.bk ⟨t2, z2⟩)).tr (fun y hy => by rw [hy]; exact seg_in [(f, c, m, 0 :: s, l, 50)] ⟨54, s, rfl, rfl⟩ (fun y hy => by rw [List.mem_singleton.1 hy]; exact seg_ex rfl))⟩, ?_⟩
      rw [lj_put_1, if_neg (by omega), lj_put_1, if_pos ⟨rfl, rfl⟩]
    · rw [if_neg (show ¬ (Int32.ofNat (Q p).1 = 63) from ne 63 (by omega) a63), kd, bi_ok]
      rw [if_neg (show ¬ (Q p).1 = 40 + 23 by omega), if_pos rfl, s64, bi_ok] at eM
      by_cases hbg : (Q p).1 = 64 ∨ bgE (Q p).1
      · have hK : (Q p).1 ≠ 0 ∧ (Q p).1 ≠ 4 := by
          rcases hbg with e | e
          · omega
          · constructor <;> (intro e'; rw [e'] at e; exact absurd e (by decide))
        have hfq : fq (Q p).1 3 = 3 := by unfold fq; rw [if_neg hK.2]
        have hlt : p < T := hPS.lt hK.1 hK.2
        have eC : (if Int32.ofNat (Q p).1 = 64 then lj_D lc_P lc_M85 50 [.ref 6, .int (Int32.ofNat x1), .int (Int32.ofNat it), x3] [] σ else lj_bi (lj_R lc_P 76 [.ref 6] σ) (fun y7 σ6 => (if y7 = 0 then lj_D lc_P lc_M85 55 [.ref 6, .int (Int32.ofNat x1), .int (Int32.ofNat it), x3] [.int 0] σ6 else lj_D lc_P lc_M85 50 [.ref 6, .int (Int32.ofNat x1), .int (Int32.ofNat it), x3] [] σ6)) lj_up) = lj_D lc_P lc_M85 55 [.ref 6, .int (Int32.ofNat x1), .int (Int32.ofNat it), x3] [.int 1] σ := by
          by_cases e : (Q p).1 = 64
          · rw [if_pos (by rw [e]; rfl), kc_85_50]
          · rw [if_neg (show ¬ (Int32.ofNat (Q p).1 = 64) from ne 64 (by omega) e), c_beginsE hTE hpT h1.1, if_pos (hbg.resolve_left e), bi_ok, if_neg (by decide), kc_85_50]
        have eM2 : lj_R lm_P 79 [.ref 0, .int (Int32.ofNat (it + 1)), .int (Int32.ofNat x1)] τa = lj_D lm_P lm_M79 42 [.ref 0, .int (Int32.ofNat (it + 1)), .int (Int32.ofNat x1), .int (if (Q p).1 = 40 + 24 then 1 else 0), .retAddr 0, .retAddr 0, .retAddr 0] [] τa := by
          rw [eM]
          by_cases e : (Q p).1 = 64
          · rw [if_pos (show (Q p).1 = 40 + 24 by omega), if_neg (by decide)]
          · rw [if_neg (show ¬ (Q p).1 = 40 + 24 by omega), if_pos rfl, m_beginsE hTEa hpT ha.2.1, if_pos (hbg.resolve_left e), bi_ok, if_neg (by decide)]
        rw [km_79_42] at eM2
        rw [eC, kc_85_55, if_neg (by decide)]
        by_cases e30 : x1 = 30
        · -- too many
          rw [if_pos (by rw [e30]; rfl), c_throw hTE hpT h1.1]
          rw [if_pos (by rw [e30]; rfl), m_here hTEa hpT ha.2.1, bi_ok, m_fail τa ha.2.2.2.2.2.2.2.2.2, bi_ok] at eM2
          rw [goA 0 _ (Or.inl rfl) eM2, nx0]
          have := PA.1.flt hT5 3 (Or.inr (Or.inl rfl)) σ
          rw [hfq] at this ⊢
          exact Or.inl this
        · rw [if_neg (show ¬ (Int32.ofNat x1 = 30) from fun z => e30 ((ofN_eq (c := 30) (by omega) (by omega)).1 z)), c_deeper hTE hpT h1.1 hv h1.2.2.1]
          rw [if_neg (show ¬ (Int32.ofNat x1 = 30) from fun z => e30 ((ofN_eq (c := 30) (by omega) (by omega)).1 z)), m_enter hTEa hpT ha.2.1 ha.2.2.2.2.2.2.2.2.2 hv ha.2.2.2.1] at eM2
          by_cases e20 : v = 20
          · rw [if_pos e20]
            rw [if_pos e20, bi_ok, if_pos rfl] at eM2
            rw [goA 0 _ (Or.inl rfl) eM2, nx0]
            have := PA.1.flt hT5 3 (Or.inr (Or.inl rfl)) σ
            rw [hfq] at this ⊢
            exact Or.inl (flt_bv this _)
          · have Pd := PA.1.vv (v + 1) (by omega) (by omega) (hvb.mo (by omega))
            rw [if_neg e20, bv_ok]
            rw [if_neg e20, bi_ok, if_neg (by decide), m_lineHere Pd.1.1.1 hpT Pd.1.2.1.2.1, bi_ok] at eM2
            show vlR b n T Q X FO Z PL cl ml v W f s l N0 F0 p0 c0 m0 σ0 τ0 (lj_bi (lj_R lc_P 86 [.ref 6, .int (Int32.ofNat it)] (lj_put σ 6 1 (Int32.ofNat (v + 1)))) (fun y3 σ2 => tbE (Int32.ofNat x1 + 1) (Int32.ofNat it + y3) 1 σ2) lj_up) (mLoop τ)
            have Gd := PA.2.tr Pd.2
            generalize hσd : lj_put σ 6 1 (Int32.ofNat (v + 1)) = σd at *
            generalize hτd : lj_put τa 0 47 (Int32.ofNat (v + 1)) = τd at *
            have hd := Pd.1.2.1
            have hTEd := Pd.1.1.1
            have eC6 : lj_R lc_P 86 [.ref 6, .int (Int32.ofNat it)] σd = _ := rc_86 _ σd
            have tk64 := c_take hTEd hpT hd.1 64 (by omega)
            rw [kc_86_0, c_line hTEd hpT hd.1, bi_ok, show lj_R lc_P 84 [.ref 6, .int 64] σd = _ from tk64] at eC6
            generalize hLn : Int32.ofNat (1 + tN b (Q p).2.1) = Ln at *
            rw [lz_osucc]
            -- how it goes on
            have next : ∀ (F' : Nat) (N' : List lT) (p' c' m' wh' it' : Nat) (σ' τ' : lj_S), PS b n T Q X F' N' FO Z PL cl ml p' v c' m' wh' ((15, Int32.ofNat (it' + 1), Int32.ofNat (x1 + 1), 0) :: W) σ' τ' → lvX N N' → GR N0 N' F0 F' p0 p' c0 c' m0 m' σ0 τ0 σ' τ' → p < p' → c' + 24 ≤ c0 + 25 * (p' - p0) → m' + 24 ≤ m0 + 25 * (p' - p0) → it' ≤ it + 1 → (∀ σ2 τ2, LT N' c0 c' m0 m' σ' τ' σ2 τ2 → seg σ2 τ2 (f, c0, m0, s, l, 50) (fun y => y = (f, c', m', 8 :: s, l, 50))) →
                vlR b n T Q X FO Z PL cl ml v W f s l N0 F0 p0 c0 m0 σ0 τ0 (lj_D lc_P lc_M85 25 [.ref 6, .int (Int32.ofNat (x1 + 1)), .int (Int32.ofNat it'), .int 1] [] σ') (mLoop τ') := fun F' N' p' c' m' wh' it' σ' τ' q1 q2 q3 q4 q5 q6 q7 q8 => by
              have := q1.2.2.1.1
              exact cm_fields hT5 k ihV ihE hFO hWl hc00 hm00 j F' N' p' c' m' wh' (x1 + 1) it' σ' τ' _ (by omega) (by omega) q1 (hdN_X hN q2) q3 (by omega) (by omega) (by omega) (by omega) (by omega) q8
            by_cases a64 : (Q p).1 = 64
            · -- a key
              rw [if_pos a64, bi_ok, if_neg (by decide)] at eC6
              have P1 := Pd.1.la (by omega) (16, Ln, Int32.ofNat (it + 1), Int32.ofNat x1)
              have P2 := P1.1.la (by simp; omega) (3, 0, 0, 0)
              have P3 := P2.1.st hlt
              rw [if_pos (show (Q p).1 = 40 + 24 by omega), if_neg (by decide), (m_later hd.2.2.2.2.2.2.2.2.1 (by omega) 16 Ln (Int32.ofNat (it + 1)) (Int32.ofNat x1)).1, bv_ok, (m_later P1.1.2.1.2.2.2.2.2.2.2.2.1 (by simp; omega) 3 0 0 0).1, bv_ok, m_take P2.1.1.1 hpT P2.1.2.1.2.1 (by omega), bi_ok] at eM2
              rw [goA 1 _ (Or.inr rfl) eM2, nx1 P3.1.2.1, eC6]
              have G3 := Gd.tr (P1.2.tr (P2.2.tr P3.2))
              rcases ihV F N FO Z PL cl ml (p + 1) (v + 1) c m wh ((16, Ln, Int32.ofNat (it + 1), Int32.ofNat x1) :: W) _ _ f (8 :: s) l (by omega) P3.1 hN ((hFO.n 8 (by omega)).up (by omega) (by omega)) (by simp; omega) with hf | ⟨σ3, τ3, p3, c3, m3, wh3, F3, N3, i1, i2, i3, i4, i5, i6, i7, i8⟩
              · exact Or.inl (flt_bi (flt_bv hf _) _)
              · rw [i1, bv_ok, i2]
                have hp3 := i3.2.2.1.1
                have Pa := i3.pop
                have Pb := Pa.1.la (by omega) (17, Ln, Int32.ofNat (it + 1), Int32.ofNat x1)
                have Pc := Pb.1.la (by simp; omega) (3, 0, 0, 0)
                have ps1 := c_pass i3.1.1 hp3 i3.2.1.1 65 (by omega)
                have ns1 := m_needSign Pc.1.1.1 hp3 Pc.1.2.1.2.1 Pc.1.2.1.2.2.2.2.2.2.2.2.2 25 (by omega) 93 rfl
                have goB : ∀ y τ', (y = 0 ∨ y = 1) → lj_R lm_P 30 [.ref 0, .int 16, .int Ln, .int (Int32.ofNat (it + 1)), .int (Int32.ofNat x1)] (lj_put τ3 0 46 (Int32.ofNat W.length)) = some (.inl (some (.int y)), τ') → mLoop τ3 = mNx y τ' := fun y τ' hy e => i3.go hy e
                have eB : lj_R lm_P 30 [.ref 0, .int 16, .int Ln, .int (Int32.ofNat (it + 1)), .int (Int32.ofNat x1)] (lj_put τ3 0 46 (Int32.ofNat W.length)) = _ := rm_30 _ _ _ _ _
                rw [km_30_0, if_neg (by decide), if_neg (by decide), if_neg (by decide), if_neg (by decide), if_neg (by decide), if_neg (by decide), if_neg (by decide), if_neg (by decide), if_neg (by decide), if_neg (by decide), if_neg (by decide), if_neg (by decide), if_neg (by decide), if_neg (by decide), if_neg (by decide), if_neg (by decide), if_pos rfl, (m_later Pa.1.2.1.2.2.2.2.2.2.2.2.1 (by omega) 17 Ln (Int32.ofNat (it + 1)) (Int32.ofNat x1)).1, bv_ok, (m_later Pb.1.2.1.2.2.2.2.2.2.2.2.1 (by simp; omega) 3 0 0 0).1, bv_ok, ns1] at eB
                by_cases a65 : (Q p3).1 = 65
                · have hlt3 : p3 < T := i3.lt (by omega) (by omega)
                  have Pe := Pc.1.st hlt3
                  have hp4 := Pe.1.2.2.1.1
                  rw [if_pos a65] at ps1
                  have ps2 := c_pass Pe.1.1.1 hp4 Pe.1.2.1.1 58 (by omega)
                  have ns2 := m_needSign Pe.1.1.1 hp4 Pe.1.2.1.2.1 Pe.1.2.1.2.2.2.2.2.2.2.2.2 18 (by omega) 61 rfl
                  rw [if_pos (show (Q p3).1 = 40 + 25 by omega), bi_ok, if_neg (by decide), ns2] at eB
                  rw [show lj_R lc_P 71 [.ref 6, .int 65] σ3 = _ from ps1, bv_ok]
                  by_cases a58 : (Q (p3 + 1)).1 = 58
                  · have hlt4 : p3 + 1 < T := Pe.1.lt (by omega) (by omega)
                    have Pg := Pe.1.st hlt4
                    rw [if_pos a58] at ps2
                    rw [if_pos (show (Q (p3 + 1)).1 = 40 + 18 by omega), bi_ok, if_neg (by decide), km_30_245] at eB
                    rw [show lj_R lc_P 71 [.ref 6, .int 58] _ = _ from ps2, bv_ok, goB 1 _ (Or.inr rfl) eB, nx1 Pg.1.2.1]
                    have G4 := Pa.2.tr (Pb.2.tr (Pc.2.tr (Pe.2.tr Pg.2)))
                    rcases ihV F3 N3 FO Z PL cl ml (p3 + 1 + 1) (v + 1) c3 m3 wh3 ((17, Ln, Int32.ofNat (it + 1), Int32.ofNat x1) :: W) _ _ f (0 :: 8 :: s) l (by omega) Pg.1 (hdN_X hN i4.2.1) ((hFO.n 8 (by omega)).z.up (by omega) (by omega)) (by simp; omega) with hf | ⟨σ5, τ5, p5, c5, m5, wh5, F5, N5, j1, j2, j3, j4, j5, j6, j7, j8⟩
                    · exact Or.inl (flt_bi (flt_bv hf _) _)
                    · have hb5 := j3.2.2.1
                      have hb51 := hb5.1
                      have hb52 := hb5.2.2.1
                      have hb53 := hb5.2.2.2.1
                      rw [j1, bv_ok, j2, c_put3 j3.2.1.2.2.2.2.1 (by have := j3.c14 hT5; omega), bi_ok, bi_ok, Int32.add_zero]
                      rcases fk_end hT5 j3 (by omega) (by omega) hWl (hvb.X (i4.2.1.tr j4.2.1)) Ln (Int32.ofNat (x1 + 1)) (Int32.ofNat it) 1 with hf | ⟨σ6, τ6, p6, g1, g2, g3, g4, g5⟩
                      · exact Or.inl hf
                      · rw [g1, g2]
                        have hp6 : p5 ≤ p6 := g4.2.2.2.1
                        rw [lz_osucc] at g3
                        have G5 := i4.tr (G4.tr (j4.tr g4))
                        refine next F5 N5 p6 (c5 + 1) (m5 + 1) wh5 it σ6 τ6 g3 (G5.2.1) (hG.tr (G3.tr G5)) (by omega) (by omega) (by omega) (by omega) (fun σ2 τ2 L6 => ?_)
                        have w := g5 _ _ σ2 τ2 L6 (by have := G5.2.2.2.2.1; have := j4.2.2.2.2.1; have := i4.2.2.2.2.1; omega) (by have := j4.2.2.2.2.2.1; have := i4.2.2.2.2.2.1; omega)
                        have L5 := g4.bk L6
                        have L3 := G4.bk (j4.bk L5)
                        have L0 := G3.bk (i4.bk L3)
                        refine (hsg σ2 τ2 L0).tr (fun y hy => ?_)
                        rw [hy]
                        rcases i8 with ⟨_, hE⟩ | ⟨q, _⟩ | ⟨q, _⟩
                        · refine (hE σ2 τ2 L3.1 (L3.2.mo (by omega) (by omega) (by omega) (by omega))).tr (fun y hy => ?_)
                          rw [hy]
                          rcases j8 with ⟨_, hE'⟩ | ⟨q, _⟩ | ⟨q, _⟩
                          · refine (hE' σ2 τ2 L5.1 (L5.2.mo (by have := i4.2.2.2.2.1; omega) (by omega) (by have := i4.2.2.2.2.2.1; omega) (by omega))).tr (fun y hy => ?_)
                            rw [hy]
                            exact seg_in [(f, c5 + 1, m5 + 1, 8 :: s, l, 50)] ⟨32, s, rfl, w.1, w.2.2.1, by show σ2.1 26 c5 = τ2.1 23 m5; rw [w.2.1, w.2.2.2], rfl⟩ (fun y hy => by rw [List.mem_singleton.1 hy]; exact seg_ex rfl)
                          · exact absurd q (by decide)
                          · exact absurd q (by decide)
                        · exact absurd q (by decide)
                        · exact absurd q (by decide)
                  · rw [if_neg a58] at ps2
                    rw [if_neg (show ¬ (Q (p3 + 1)).1 = 40 + 18 by omega), bi_ok, if_pos rfl, km_30_244, km_30_245] at eB
                    rw [show lj_R lc_P 71 [.ref 6, .int 58] _ = _ from ps2, goB 0 _ (Or.inl rfl) eB, nx0]
                    exact Or.inl (flt_bi (flt_bv (Pe.1.flt hT5 2 (Or.inl rfl) _) _) _)
                · rw [if_neg a65] at ps1
                  rw [if_neg (show ¬ (Q p3).1 = 40 + 25 by omega), bi_ok, if_pos rfl, km_30_244, km_30_245] at eB
                  rw [show lj_R lc_P 71 [.ref 6, .int 65] σ3 = _ from ps1, goB 0 _ (Or.inl rfl) eB, nx0]
                  exact Or.inl (flt_bi (flt_bv (Pc.1.flt hT5 2 (Or.inl rfl) _) _) _)
            · -- no key in brackets
              have hbE := hbg.resolve_left a64
              rw [if_neg a64, bi_ok, if_pos rfl, c_kind hTEd hpT hd.1, bi_ok] at eC6
              rw [if_neg (show ¬ (Q p).1 = 40 + 24 by omega), if_pos rfl, m_named hTEd hpT hT5 hd.2.1, km_79_160] at eM2
              by_cases anm : (Q p).1 = 1 ∧ (Q (p + 1)).1 = 58
              · -- a name
                have hp1 : p + 1 ≤ T := hlt
                have hlt1 : p + 1 < T := by
                  rcases Nat.lt_or_ge (p + 1) T with q | q
                  · exact q
                  · have e : p + 1 = T := by omega
                    have := hTE.2.2.2.2.2.2.1
                    rw [← e] at this
                    omega
                obtain ⟨n1, n2, n3, n4, n5⟩ := (hTEd.2.2.2.2.1 p hpT).2.2.2.2.2.2.2.2.1 (Or.inl anm.1)
                have P1 := Pd.1.C (by omega) hT5 5 (Int32.ofNat (Q p).2.2.1) 0 0 0
                have P2 := P1.1.M (by omega) 5 (Int32.ofNat (Q p).2.2.2) 0 0
                have P3 := P2.1.la (by omega) (17, 0, Int32.ofNat (it + 1), Int32.ofNat x1)
                have P4 := P3.1.la (by simp; omega) (3, 0, 0, 0)
                have P5 := P4.1.st hlt
                have P6 := P5.1.st hlt1
                have hin : lj_in (Int32.ofNat p) 1502 := ofN_in (by omega) (by omega)
                rw [if_pos (show Int32.ofNat (Q p).1 = 1 by rw [anm.1]; rfl), hd.1, if_neg (show ¬ ((1500 : Int32) ≤ Int32.ofNat p) by rw [lz_le, lz_lit (by omega)]; show ¬ ((1500 : Int) ≤ (p : Int)); omega), lz_osucc, if_pos (ofN_in (by omega) (by omega)), lz_onat (by omega), (hTEd.2.2.2.2.1 (p + 1) hp1).2.1, if_pos (by rw [anm.2]; rfl), c_name hTEd hpT hd.1 (Or.inl anm.1), bi_ok, c_put3 hd.2.2.2.2.1 (by omega), bi_ok, c_step P1.1.1.1 hpT P1.1.2.1.1, bv_ok, c_step P5.1.1.1 P5.1.2.2.1.1 P5.1.2.1.1, bv_ok] at eC6
                rw [if_pos anm, km_79_161, if_neg (by decide), hd.2.1, if_pos hin, lz_onat (by omega), n4, Int32.toInt32_toInt64, m_emit hd.2.2.2.2.2.1 (by omega), bi_ok, (m_later P2.1.2.1.2.2.2.2.2.2.2.2.1 (by omega) 17 0 (Int32.ofNat (it + 1)) (Int32.ofNat x1)).1, bv_ok, (m_later P3.1.2.1.2.2.2.2.2.2.2.2.1 (by simp; omega) 3 0 0 0).1, bv_ok, m_take P4.1.1.1 hpT P4.1.2.1.2.1 (by omega), bi_ok, if_neg (by decide), m_take P5.1.1.1 hp1 P5.1.2.1.2.1 (by omega), bi_ok, if_neg (by decide), km_79_223] at eM2
                rw [goA 1 _ (Or.inr rfl) eM2, nx1 P6.1.2.1, eC6]
                have G6 := P1.2.tr (P2.2.tr (P3.2.tr (P4.2.tr (P5.2.tr P6.2))))
                rcases ihV F N FO Z PL cl ml (p + 1 + 1) (v + 1) (c + 1) (m + 1) wh ((17, 0, Int32.ofNat (it + 1), Int32.ofNat x1) :: W) _ _ f (7 :: 8 :: s) l (by omega) P6.1 hN (((hFO.n 8 (by omega)).n 7 (by omega)).up (by omega) (by omega)) (by simp; omega) with hf | ⟨σ5, τ5, p5, c5, m5, wh5, F5, N5, j1, j2, j3, j4, j5, j6, j7, j8⟩
                · exact Or.inl (flt_bi (flt_bv hf _) _)
                · have hb5 := j3.2.2.1
                  have hb51 := hb5.1
                  rw [j1, bv_ok, j2, c_put3 j3.2.1.2.2.2.2.1 (by have := j3.c14 hT5; omega), bi_ok, bi_ok, Int32.add_zero]
                  rcases fk_end hT5 j3 (by omega) (by omega) hWl (hvb.X j4.2.1) Ln (Int32.ofNat (x1 + 1)) (Int32.ofNat it) 1 with hf | ⟨σ7, τ7, p7, g1, g2, g3, g4, g5⟩
                  · exact Or.inl hf
                  · rw [g1, g2]
                    have hp7 : p5 ≤ p7 := g4.2.2.2.1
                    rw [lz_osucc] at g3
                    have hcc5 := j4.2.2.2.2.1
                    have hmm5 := j4.2.2.2.2.2.1
                    have G5 := j4.tr g4
                    refine next F5 N5 p7 (c5 + 1) (m5 + 1) wh5 it σ7 τ7 g3 G5.2.1 (hG.tr (Gd.tr (G6.tr G5))) (by omega) (by omega) (by omega) (by omega) (fun σ2 τ2 L7 => ?_)
                    have w := g5 _ _ σ2 τ2 L7 (by omega) (by omega)
                    have L5 := g4.bk L7
                    have L4 := P3.2.bk (P4.2.bk (P5.2.bk (P6.2.bk (j4.bk L5))))
                    have L1 := P2.2.bk L4
                    have Ld := P1.2.bk L1
                    have g2' := L4.gM (by omega)
                    have g1' := L1.gC (by omega)
                    refine (hsg σ2 τ2 (Gd.bk Ld)).tr (fun y hy => ?_)
                    rw [hy]
                    refine seg_in [(f, c + 1, m + 1, 7 :: 8 :: s, l, 50)] ⟨52, g1'.1, g2'.1, ⟨_, _, n1, n2, g1'.2.1, g2'.2.1, n5.up Ld.1.1⟩, rfl⟩ (fun y hy => ?_)
                    rw [List.mem_singleton.1 hy]
                    rcases j8 with ⟨_, hE'⟩ | ⟨q, _⟩ | ⟨q, _⟩
                    · refine (hE' σ2 τ2 L5.1 (L5.2.mo (by omega) (by omega) (by omega) (by omega))).tr (fun y hy => ?_)
                      rw [hy]
                      exact seg_in [(f, c5 + 1, m5 + 1, 8 :: s, l, 50)] ⟨53, s, rfl, w.1, w.2.2.1, rfl⟩ (fun y hy => by rw [List.mem_singleton.1 hy]; exact seg_ex rfl)
                    · exact absurd q (by decide)
                    · exact absurd q (by decide)
              · -- an item
                have e137 : lj_R lc_P 86 [.ref 6, .int (Int32.ofNat it)] σd = lj_D lc_P lc_M86 137 [.ref 6, .int (Int32.ofNat it), .int Ln, .retAddr 0, .retAddr 0] [] σd := by
                  rw [eC6]
                  by_cases e1 : (Q p).1 = 1
                  · have hk1 := tk_lt hTE (show p + 1 ≤ T from hlt)
                    rw [if_pos (show Int32.ofNat (Q p).1 = 1 by rw [e1]; rfl), hd.1, if_neg (show ¬ ((1500 : Int32) ≤ Int32.ofNat p) by rw [lz_le, lz_lit (by omega)]; show ¬ ((1500 : Int) ≤ (p : Int)); omega), lz_osucc, if_pos (ofN_in (by omega) (by omega)), lz_onat (by omega), (hTEd.2.2.2.2.1 (p + 1) hlt).2.1, if_neg (show ¬ (Int32.ofNat (Q (p + 1)).1 = 58) from fun z => anm ⟨e1, (ofN_eq (c := 58) (by omega) (by omega)).1 z⟩)]
                  · rw [if_neg (show ¬ (Int32.ofNat (Q p).1 = 1) from ne 1 (by omega) e1)]
                rw [if_neg anm] at eM2
                have P1 := Pd.1.M (by omega) 14 0 0 0
                have P2 := P1.1.la (by omega) (18, Int32.ofNat (it + 1), Int32.ofNat x1, 0)
                have P3 := P2.1.la (by simp; omega) (3, 0, 0, 0)
                rw [km_79_161, if_pos rfl, m_emit hd.2.2.2.2.2.1 (by omega), bi_ok, (m_later P1.1.2.1.2.2.2.2.2.2.2.2.1 (by omega) 18 (Int32.ofNat (it + 1)) (Int32.ofNat x1) 0).1, bv_ok, (m_later P2.1.2.1.2.2.2.2.2.2.2.2.1 (by simp; omega) 3 0 0 0).1, bv_ok] at eM2
                rw [goA 1 _ (Or.inr rfl) eM2, nx1 P3.1.2.1, e137, kc_86_137, rc_74, kc_74_0]
                have G3 := P1.2.tr (P2.2.tr P3.2)
                rcases ihE F N FO Z PL cl ml p (v + 1) c (m + 1) wh ((18, Int32.ofNat (it + 1), Int32.ofNat x1, 0) :: W) _ _ f (2 :: 8 :: s) l 0 0 (by omega) P3.1 hN ((hFO.n 8 (by omega)).t.up (by omega) (by omega)) (Or.inl ⟨rfl, (by omega)⟩) (by simp; omega) with hf | ⟨what, σ5, τ5, p5, c5, m5, wh5, F5, N5, j1, j2, j3, j4, j5, j6, j7, j8, j9⟩
                · exact Or.inl (flt_bi (flt_bi (flt_bi hf _) _) _)
                · have hb5 := j3.2.2.1
                  have hb51 := hb5.1
                  have hcc5 := j4.2.2.2.2.1
                  have hmm5 := j4.2.2.2.2.2.1
                  rw [show lj_R lc_P 75 [.ref 6, .int 0] σd = _ from j1, bi_ok, bi_ok, j2]
                  rcases fp_end hT5 (by omega) j3 j8 j9 (by omega) (by omega) (by omega) (by omega) (by omega) hWl (hvb.X j4.2.1) (Int32.ofNat (x1 + 1)) Ln 1 with hf | ⟨σ7, τ7, p7, c7, m7, g1, g2, g3, g4, g5, g6, g7, g8, g9, g10, g11⟩
                  · exact Or.inl hf
                  · refine (congrArg (fun o => vlR b n T Q X FO Z PL cl ml v W f s l N0 F0 p0 c0 m0 σ0 τ0 o (mLoop τ5)) g1).mpr ?_
                    show vlR b n T Q X FO Z PL cl ml v W f s l N0 F0 p0 c0 m0 σ0 τ0 _ (mLoop τ5)
                    rw [g2]
                    rw [lz_osucc] at g3
                    have hh3 := P3.1.2.2.2.2.2
                    have G7 : GR N N5 F F5 p p7 c c7 (m + 1) m7 _ _ σ7 τ7 := ⟨j4.1.tr g4 (fun q _ hq => by rw [lvX_q j4.2.1]; exact hq), j4.2.1, j4.2.2.1, (by omega), (by omega), (by omega), j4.2.2.2.2.2.2.tr g5⟩
                    refine next F5 N5 p7 c7 m7 wh5 (it + 1) σ7 τ7 g3 j4.2.1 (hG.tr (Gd.tr (G3.tr G7))) (by omega) (by omega) (by omega) (by omega) (fun σ2 τ2 L7 => ?_)
                    have L3 := G7.bk L7
                    have L1 := P2.2.bk (P3.2.bk L3)
                    have Ld := P1.2.bk L1
                    have g1' := L1.gM (by omega)
                    refine (hsg σ2 τ2 (Gd.bk Ld)).tr (fun y hy => ?_)
                    rw [hy]
                    refine seg_in [(f, c, m + 1, 2 :: 8 :: s, l, 50)] ⟨17, g1'.1, rfl⟩ (fun y hy => ?_)
                    rw [List.mem_singleton.1 hy]
                    exact g11 σ2 τ2 (L7.mo (by omega) (by omega) (by omega) (by omega))
      · -- wrong
        have h64 : (Q p).1 ≠ 64 := fun e => hbg (Or.inl e)
        have hnE : ¬ bgE (Q p).1 := fun e => hbg (Or.inr e)
        rw [if_neg (show ¬ (Int32.ofNat (Q p).1 = 64) from ne 64 (by omega) h64), c_beginsE hTE hpT h1.1, if_neg hnE, bi_ok, if_pos rfl, kc_85_55, if_pos rfl, c_throw hTE hpT h1.1]
        rw [if_neg (show ¬ (Q p).1 = 40 + 24 by omega), if_pos rfl, m_beginsE hTEa hpT ha.2.1, if_neg hnE, bi_ok, if_pos rfl, m_wrong hTEa hpT ha.2.1 ha.2.2.2.2.2.2.2.2.2, bi_ok] at eM
        rw [goA 0 _ (Or.inl rfl) eM, nx0]
        exact Or.inl (PA.1.flt hT5 2 (Or.inl rfl) _)
/-- tables -/
theorem ct_step {b : Nat → Int32} {n T : Nat} {Q : tkQ} {X : List Int32 → Prop} (hT5 : T ≤ 520) (k : Nat) (ihV : CV b n T Q X k) (ihE : CE b n T Q X k) : CT b n T Q X (k + 1) := by
  intro F N FO Z PL cl ml p v c m wh W σ τ f s l hTp hPS hN hFO hWl a62
  have hb := hPS.2.2.1
  have hv20 := hb.2.1
  have hB : sB s := hFO.sb (by omega) (by omega)
  have hpT := hb.1
  have hbc := hb.2.2.1
  have hbm := hb.2.2.2.1
  have c14 := hPS.c14 hT5
  have h1 := hPS.2.1
  have w4 := hPS.w4
  have hlt : p < T := hPS.lt (by omega) (by omega)
  have S := hPS.st hlt
  have P1 := hPS.M
  have ps := c_pass hPS.1.1 hpT h1.1 62 (by omega)
  rw [if_pos a62] at ps
  have e41 := h1.2.2.2.2.2.1
  -- the model lays first, then goes on
  have g25 : ∀ τ', lj_put (mW (mP τ m 26 0 0 0) W.length (15, 1, 0, 0)) 0 25 (Int32.ofNat (p + 1)) = τ' → mW (mP (lj_put τ 0 25 (Int32.ofNat (p + 1))) m 26 0 0 0) W.length (15, 1, 0, 0) = τ' := fun τ' e => by
    rw [← e]
    refine Prod.ext ?_ rfl
    funext k' j'
    unfold mW mP
    simp only [lj_put_1]
    by_cases q : k' = 0 ∧ j' = 25
    · obtain ⟨rfl, rfl⟩ := q
      simp
    · simp only [if_neg q]
  have P2 := S.1.C (by omega) hT5 23 0 0 0 0
  have P3 := P2.1.M (by omega) 26 0 0 0
  have P4 := P3.1.la (by simp; omega) (15, 1, 0, 0)
  rw [g25 _ rfl] at P4
  refine ⟨1, lj_put (mW (mP τ m 26 0 0 0) W.length (15, 1, 0, 0)) 0 25 (Int32.ofNat (p + 1)), ?_, Or.inr rfl, ?_⟩
  · have hm' := hnd_M h1 26 0 0 0
    have hw' := hnd_W hm' (15, 1, 0, 0)
    rw [rm_62, km_62_0, m_emit e41 (by omega), bi_ok, (m_later hm'.2.2.2.2.2.2.2.2.1 (by omega) 15 1 0 0).1, bv_ok, m_take (TE_up hPS.1.1 (lf_rf _ _) ((mP_lf _ _ _ _ _ _).tr (mW_lf _ _ _))) hpT hw'.2.1 (by omega), bi_ok]
    rfl
  · rw [nx1 P4.1.2.1, rc_85, kc_85_0, show lj_R lc_P 71 [.ref 6, .int 62] σ = _ from ps, bv_ok, c_put3 S.1.2.1.2.2.2.2.1 (by omega), bi_ok]
    have hG := S.2.tr (P2.2.tr (P3.2.tr P4.2))
    refine cm_fields hT5 k ihV ihE hFO hWl hbc hbm k F N (p + 1) (c + 1) (m + 1) wh 0 0 _ _ _ (by omega) (by omega) P4.1 hN hG (by omega) (by omega) (by omega) (by omega) (by omega) (fun σ2 τ2 L4 => ?_)
    have L3 := P4.2.bk L4
    have L2 := P3.2.bk L3
    exact seg_in [(f, c + 1, m + 1, 8 :: s, l, 50)] ⟨30, (L2.gC (by omega)).1, (L3.gM (by omega)).1, rfl⟩ (fun y hy => by rw [List.mem_singleton.1 hy]; exact seg_ex rfl)
