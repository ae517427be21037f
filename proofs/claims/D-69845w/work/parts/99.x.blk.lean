/-! blocks -/
/-- the model's end of a return -/
theorem m_returned {b : Nat → Int32} {n T : Nat} {Q : tkQ} {σ τ : lj_S} (h : TE b n T Q σ τ) {p : Nat} (hp : p ≤ T) (h0 : τ.1 0 25 = Int32.ofNat p) {m : Nat} (h41 : τ.1 0 41 = Int32.ofNat m) (hm : m + 1 < 14000) (Ln : Int32) : lj_R lm_P 103 [.ref 0, .int Ln] τ = some (.inl (some (.int 1)), if (Q p).1 = 66 then lj_put (mP (mP τ m 17 0 0 Ln) (m + 1) 38 0 0 0) 0 25 (Int32.ofNat (p + 1)) else mP (mP τ m 17 0 0 Ln) (m + 1) 38 0 0 0) := by
  have f2 : lf aM τ (mP (mP τ m 17 0 0 Ln) (m + 1) 38 0 0 0) := (mP_lf _ _ _ _ _ _).tr (mP_lf _ _ _ _ _ _)
  have hT2 := TE_up h (lf_rf _ σ) f2
  have e25 : (mP (mP τ m 17 0 0 Ln) (m + 1) 38 0 0 0).1 0 25 = Int32.ofNat p := by rw [mP_o _ _ _ _ _ _ _ _ (by omega) (by omega), mP_o _ _ _ _ _ _ _ _ (by omega) (by omega)]; exact h0
  rw [rm_103, km_103_0, m_emit h41 (by omega), bi_ok, m_emit (mP_get _ _ _ _ _ _).2.2.2.2 (by omega), bi_ok, m_isSign hT2 hp e25 26 (by omega) 59 rfl, bi_ok]
  by_cases e : (Q p).1 = 66
  · rw [if_pos (show (Q p).1 = 40 + 26 by omega), if_neg (by decide), m_take hT2 hp e25 (by omega), bi_ok, if_neg (by decide), if_pos e, km_103_36, km_103_41]
    rfl
  · rw [if_neg (show ¬ (Q p).1 = 40 + 26 by omega), if_pos rfl, if_neg e, km_103_36, km_103_41]
    rfl
/-- the component's end of a return -/
theorem c_ret91 {b : Nat → Int32} {n T : Nat} {Q : tkQ} {σ τ : lj_S} (h : TE b n T Q σ τ) {p : Nat} (hp : p ≤ T) (h0 : σ.1 6 0 = Int32.ofNat p) {c : Nat} (h5 : σ.1 5 0 = Int32.ofNat c) (hc : c < 14000) (Ln : Int32) (q : Nat) (hq : q = if (Q p).1 = 66 then p + 1 else p) : lj_D lc_P lc_M61 91 [.ref 6, .int Ln, .retAddr 0] [] σ = if blE (Q q).1 then some (.inl none, if (Q p).1 = 66 then lj_put (cP σ c 40 0 0 0 Ln) 6 0 (Int32.ofNat (p + 1)) else cP σ c 40 0 0 0 Ln) else some (.inr 1, cFl (if (Q p).1 = 66 then lj_put (cP σ c 40 0 0 0 Ln) 6 0 (Int32.ofNat (p + 1)) else cP σ c 40 0 0 0 Ln) (fq (Q q).1 2) (Q q).2.1) := by
  have hT2 := TE_up h (cP_lf σ c 40 0 0 0 Ln) (lf_rf _ τ)
  have e0 : (cP σ c 40 0 0 0 Ln).1 6 0 = Int32.ofNat p := by rw [cP_o _ _ _ _ _ _ _ _ _ (by omega) (by omega)]; exact h0
  have tk := c_take hT2 hp e0 66 (by omega)
  have fin : ∀ (y : Int32) (σ1 : lj_S), TE b n T Q σ1 τ → q ≤ T → σ1.1 6 0 = Int32.ofNat q → lj_bi (lj_R lc_P 62 [.ref 6] σ1) (fun y6 σ5 => (if y6 = 0 then lj_D lc_P lc_M61 129 [.ref 6, .int Ln, .int y] [] σ5 else lj_bi (lj_R lc_P 63 [.ref 6] σ5) (fun y8 σ7 => (if y8 = 26 then lj_D lc_P lc_M61 129 [.ref 6, .int Ln, .int y] [] σ7 else lj_D lc_P lc_M61 135 [.ref 6, .int Ln, .int y] [] σ7)) lj_up)) lj_up = if blE (Q q).1 then some (.inl none, σ1) else some (.inr 1, cFl σ1 (fq (Q q).1 2) (Q q).2.1) := fun y σ1 t1 t2 t3 => by
    have hk := tk_lt t1 t2
    rw [c_endsBlock t1 t2 t3, bi_ok]
    by_cases e1 : blE (Q q).1
    · have e2 := blE_no e1
      rw [if_pos e2.1, if_neg (by decide), c_kind t1 t2 t3, bi_ok, if_neg (show ¬ (Int32.ofNat (Q q).1 = 26) from fun z => e2.2.1 ((ofN_eq (c := 26) (by omega) (by omega)).1 z)), kc_61_135, if_pos e1]
    · by_cases e3 : edB (Q q).1
      · have e4 : (Q q).1 = 26 := by
          rcases Nat.decEq (Q q).1 26 with z | z
          · exact absurd (edB_bl e3 z) e1
          · exact z
        rw [if_pos e3, if_neg (by decide), c_kind t1 t2 t3, bi_ok, if_pos (by rw [e4]; rfl), kc_61_129, c_throw t1 t2 t3, if_neg e1]
      · rw [if_neg e3, if_pos rfl, kc_61_129, c_throw t1 t2 t3, if_neg e1]
  rw [kc_61_91, c_put3 h5 hc, bi_ok, show lj_R lc_P 84 [.ref 6, .int 66] _ = _ from tk]
  by_cases e : (Q p).1 = 66
  · have hlt : p < T := by
      rcases Nat.lt_or_ge p T with q | q
      · exact q
      · have e1 : p = T := by omega
        have := h.2.2.2.2.2.2.1
        rw [← e1] at this
        omega
    simp only [if_pos e] at hq ⊢
    rw [bi_ok]
    subst hq
    exact fin 1 _ (TE_up hT2 (lf_put (lf_rf _ _) _ _ _ rfl) (lf_rf _ τ)) hlt (by rw [lj_put_1, if_pos ⟨rfl, rfl⟩])
  · simp only [if_neg e] at hq ⊢
    rw [bi_ok]
    subst hq
    exact fin 0 _ hT2 hp e0
theorem nbK_app {nb nb' : List (Nat × Nat)} {c0 c c' m0 m m' : Nat} {σ τ σ' τ' : lj_S} (h : nbK nb c0 c m0 m σ τ) (g : nbK nb' c c' m m' σ' τ') (hz : fz 0 c 0 m σ τ σ' τ') (hc0 : c0 ≤ c) (hm0 : m0 ≤ m) (hc : c ≤ c') (hm : m ≤ m') : nbK (nb' ++ nb) c0 c' m0 m' σ' τ' := by
  intro x hx
  rcases List.mem_append.1 hx with q | q
  · obtain ⟨q1, q2, q3, q4, q5, q6⟩ := g x q
    exact ⟨(by omega), q2, (by omega), q4, q5, q6⟩
  · obtain ⟨q1, q2, q3, q4, q5, q6⟩ := h x q
    exact ⟨q1, (by omega), q3, (by omega), by rw [hz.1 22 x.1 (by omega) (by omega) (by omega) (by omega)]; exact q5, by rw [hz.2 20 x.2 (by omega) (by omega) (by omega) (by omega)]; exact q6⟩
theorem LB_fst {e : List kT} {N N' : List lT} {F F' p p' c0 c c' m0 m m' : Nat} {σ τ σ' τ' σ2 τ2 : lj_S} {nb nb' : List (Nat × Nat)} (g : GS e N N' F F' p p' c c' m m' σ τ σ' τ') (L : LB N' (nb' ++ nb) c0 c' m0 m' σ' τ' σ2 τ2) {a d : Nat} (h' : nbK nb' c a m d σ' τ') : LB N nb c0 c m0 m σ τ σ2 τ2 :=
  (g.bk L).mo (Nat.le_refl _) (Nat.le_refl _) (Nat.le_refl _) (Nat.le_refl _) (fun x hx => by
    rcases List.mem_append.1 hx with q | q
    · have := h' x q
      exact ⟨fun a b => by omega, fun a b => by omega⟩
    · exact ⟨fun _ _ => q, fun _ _ => q⟩)
theorem LB_snd {N' : List lT} {c0 c c' m0 m m' : Nat} {σ' τ' σ2 τ2 : lj_S} {nb nb' : List (Nat × Nat)} (L : LB N' (nb' ++ nb) c0 c' m0 m' σ' τ' σ2 τ2) (hc : c0 ≤ c) (hm : m0 ≤ m) {σ τ : lj_S} (h : nbK nb c0 c m0 m σ τ) : LB N' nb' c c' m m' σ' τ' σ2 τ2 :=
  L.mo hc (Nat.le_refl _) hm (Nat.le_refl _) (fun x hx => by
    rcases List.mem_append.1 hx with q | q
    · exact ⟨fun _ _ => q, fun _ _ => q⟩
    · have := h x q
      exact ⟨fun a b => by omega, fun a b => by omega⟩)
theorem cm_block {b : Nat → Int32} {n T : Nat} {Q : tkQ} {X : List Int32 → Prop} (hT5 : T ≤ 520) (k : Nat) (hS : CS b n T Q X k) (hR : CR b n T Q X k) {FO0 : List fT} {rv : Nat} {fl : List Nat} {Z : List zT} {PL : List qT} {v : Nat} {W : List wT} {f : Nat} {s l lB : List Nat} {D nl0 : Nat} (hs : fls s fl) (hW : W.length + 18 ≤ 40 * v + 60) {N0 : List lT} {F0 p0 c0 m0 : Nat} {σ0 τ0 : lj_S} (hN0 : hdN N0 f l) (hbW : bW b n T Q 13300 W m0 τ0) (hc0 : c0 + 40 ≤ 25 * p0 + 100) (hm0 : m0 + 40 ≤ 25 * p0 + 100) (hlp : lpH f (N0.length - 1) l lB D nl0 Z) :
    ∀ (j F : Nat) (N : List lT) (nl cl ml p c m wh : Nat) (σ τ : lj_S) (e : List kT) (nb : List (Nat × Nat)), T - p < j → j ≤ k → PS b n T Q X F N (((nl, rv), fl) :: FO0) (adB nb Z) PL cl ml p v c m wh ((0, 0, 0, 0) :: W) σ τ → GS e N0 N F0 F p0 p c0 c m0 m σ0 τ0 σ τ → nl0 ≤ nl → (∀ y ∈ e, nl0 ≤ y.2.2) → c ≤ c0 + 25 * (p - p0) → m ≤ m0 + 25 * (p - p0) → nbK nb c0 c m0 m σ τ → (nb ≠ [] → inL f Z) → (∀ σ2 τ2, LB N nb c0 c m0 m σ τ σ2 τ2 → seg0 σ2 τ2 (f, c0, m0, s, l, 50) (f, c, m, s, e.map (·.2.2) ++ l, 50) (fun y => y = (f, c, m, s, e.map (·.2.2) ++ l, 50) ∨ bkE nb f s lB D y)) →
      stR b n T Q X FO0 nl0 rv fl Z PL v W f s l lB D N0 F0 p0 c0 m0 σ0 τ0 (fun p' => blE (Q p').1) 0 (lj_D lc_P lc_M61 0 [.ref 6, .retAddr 0, .retAddr 0] [] σ) (mLoop τ)
  | 0, _, _, _, _, _, _, _, _, _, _, _, _, _, hj, _, _, _, _, _, _, _, _, _, _ => by omega
  | j + 1, F, N, nl, cl, ml, p, c, m, wh, σ, τ, e, nb, hj, hjk, hPS, hG, hnl, he, hcr, hmr, hnb, hin, hsg => by
    have hTE := hPS.1.1
    have hb := hPS.2.2.1
    have hpT := hb.1
    have hv := hb.2.1
    have hfv := hPS.fv
    have hsB : sB s := hs.sb hfv hv
    have h1 := hPS.2.1
    have hk := tk_lt hTE hpT
    have c14 := hPS.c14 hT5
    have hcc : c0 ≤ c := hG.2.2.2.2.1
    have hmm : m0 ≤ m := hG.2.2.2.2.2.1
    have hpp : p0 ≤ p := hG.2.2.2.1
    have PA := hPS.pop
    have w4 := PA.1.w4
    have ha := PA.1.2.1
    have hTEa := PA.1.1.1
    have hNd := lvY_hd hN0 hG.2.1
    have z0 := hG.2.2.2.2.2.2
    have ge : ∀ y τ', (y = 0 ∨ y = 1) → lj_R lm_P 31 [.ref 0] (lj_put τ 0 46 (Int32.ofNat W.length)) = some (.inl (some (.int y)), τ') → mLoop τ = mNx y τ' := fun y τ' hy e => hPS.go hy (by rw [rm_30, km_30_0, if_pos rfl, e, bi_ok, vpb y hy])
    have eM : lj_R lm_P 31 [.ref 0] (lj_put τ 0 46 (Int32.ofNat W.length)) = _ := rm_31 _
    rw [km_31_0, m_isWord hTEa hpT ha.2.1 16 (by omega) 17 rfl, bi_ok] at eM
    have h21a : ∀ i, i < m0 → (lj_put τ 0 46 (Int32.ofNat W.length)).1 21 i = τ0.1 21 i := fun i hi => by rw [lj_put_1, if_neg (by omega)]; exact z0.2 21 i (by omega) (by omega) (by omega) (by omega)
    rw [kc_61_0, c_endsBlock hTE hpT h1.1, bi_ok]
    by_cases a26 : (Q p).1 = 26
    · -- return
      have hlt : p < T := hPS.lt (by omega) (by omega)
      rw [if_pos (show edB (Q p).1 by rw [a26]; decide), if_neg (by decide), c_kind hTE hpT h1.1, bi_ok, if_pos (by rw [a26]; rfl)]
      have P1 := PA.1.C (by omega) hT5 0 0 0 0 0
      have P2 := P1.1.M (by omega) 0 0 0 0
      have P3 := P2.1.M (by omega) 14 0 0 0
      have P4 := P3.1.st hlt
      have P5 := P4.1.C (by omega) hT5 15 0 0 0 0
      have hp1 : p + 1 ≤ T := hlt
      have P6 := P5.1.la (by omega) (37, Int32.ofNat (1 + tN b (Q p).2.1), 0, 0)
      rw [c_put3 h1.2.2.2.2.1 (by omega), bi_ok, c_line P1.1.1.1 hpT P1.1.2.1.1, bi_ok, c_step P1.1.1.1 hpT P1.1.2.1.1, bv_ok, c_put3 P4.1.2.1.2.2.2.2.1 (by omega), bi_ok, c_kind P5.1.1.1 hp1 P5.1.2.1.1, bi_ok]
      rw [if_pos (show (Q p).1 = 10 + 16 by omega), if_neg (by decide), m_lineHere hTEa hpT ha.2.1, bi_ok, m_emit ha.2.2.2.2.2.1 (by omega), bi_ok, m_emit P2.1.2.1.2.2.2.2.2.1 (by omega), bi_ok, m_take P3.1.1.1 hpT P3.1.2.1.2.1 (by omega), bi_ok, if_neg (by decide), (m_later P5.1.2.1.2.2.2.2.2.2.2.2.1 (by omega) 37 (Int32.ofNat (1 + tN b (Q p).2.1)) 0 0).1, bv_ok, m_beginsE P6.1.1.1 hp1 P6.1.2.1.2.1, bi_ok] at eM
      generalize hLn : Int32.ofNat (1 + tN b (Q p).2.1) = Ln at *
      have G5 := P1.2.tr (P2.2.tr (P3.2.tr (P4.2.tr P5.2)))
      have hk1 := tk_lt hTE hp1
      have ne1 : ∀ x : Nat, x < 70 → (Q (p + 1)).1 ≠ x → ¬ (Int32.ofNat (Q (p + 1)).1 = Int32.ofNat x) := fun x hx q z => q ((ofN_eq (by omega) (by omega)).1 z)
      -- the end, whatever has been read
      have fin : ∀ (F' : Nat) (N' : List lT) (p' c' m' wh' : Nat) (σ' τ' : lj_S) (r : List Nat), PS b n T Q X F' N' (((nl, rv), fl) :: FO0) (adB nb Z) PL cl ml p' v c' m' wh' ((37, Ln, 0, 0) :: W) σ' τ' → GR N N' F F' p p' c c' m m' σ τ σ' τ' → p < p' → c' + 5 ≤ c + 25 * (p' - p) → m' + 5 ≤ m + 25 * (p' - p) → rowS r → (∀ σ2 τ2, LB N' [] c c' m m' σ' τ' σ2 τ2 → gS σ2 τ2 (fun y => y = (f, c', m', r ++ 1 :: s, e.map (·.2.2) ++ l, 50)) (f, c, m, s, e.map (·.2.2) ++ l, 50)) →
          stR b n T Q X FO0 nl0 rv fl Z PL v W f s l lB D N0 F0 p0 c0 m0 σ0 τ0 (fun p' => blE (Q p').1) 0 (lj_D lc_P lc_M61 91 [.ref 6, .int Ln, .retAddr 0] [] σ') (mLoop τ') := fun F' N' p' c' m' wh' σ' τ' r q1 q2 q3 q4 q5 q6 q7 => by
        have hp' := q1.2.2.1.1
        have c14' := q1.c14 hT5
        have hcc' := q2.2.2.2.2.1
        have hmm' := q2.2.2.2.2.2.1
        have Pa := q1.pop
        have w4' := Pa.1.w4
        have X1 := Pa.1.C (by omega) hT5 40 0 0 0 Ln
        have X2 := X1.1.M (by omega) 17 0 0 Ln
        have X3 := X2.1.M (by omega) 38 0 0 0
        have eR := m_returned Pa.1.1.1 hp' Pa.1.2.1.2.1 Pa.1.2.1.2.2.2.2.2.1 (by omega) Ln
        have eL : mLoop τ' = mNx 1 _ := q1.go (Or.inr rfl) (by rw [rm_30, km_30_0, if_neg (by decide), if_neg (by decide), if_neg (by decide), if_neg (by decide), if_neg (by decide), if_neg (by decide), if_neg (by decide), if_neg (by decide), if_neg (by decide), if_neg (by decide), if_neg (by decide), if_neg (by decide), if_neg (by decide), if_neg (by decide), if_neg (by decide), if_neg (by decide), if_neg (by decide), if_neg (by decide), if_neg (by decide), if_neg (by decide), if_neg (by decide), rm_86, km_86_0, if_neg (by decide), if_neg (by decide), if_neg (by decide), if_neg (by decide), if_neg (by decide), if_neg (by decide), if_neg (by decide), if_neg (by decide), if_neg (by decide), if_neg (by decide), if_neg (by decide), if_neg (by decide), if_neg (by decide), if_neg (by decide), if_neg (by decide), if_neg (by decide), if_pos rfl, eR, bi_ok, bi_ok]; rfl)
        have eC := c_ret91 q1.1.1 hp' q1.2.1.1 q1.2.1.2.2.2.2.1 (by omega) Ln _ rfl
        have sgx : ∀ σ2 τ2, LB N' [] c (c' + 1) m (m' + 2) (cP σ' c' 40 0 0 0 Ln) (mP (mP (lj_put τ' 0 46 (Int32.ofNat W.length)) m' 17 0 0 Ln) (m' + 1) 38 0 0 0) σ2 τ2 → ∀ E, gS σ2 τ2 E (f, c, m, s, e.map (·.2.2) ++ l, 50) := fun σ2 τ2 L E => by
          have L3 := L.lt
          have L2 := X3.2.bk L3
          have L1 := X2.2.bk L2
          have L0 := X1.2.bk L1
          have g1 := L1.gC (by omega)
          have g2 := L2.gM (by omega)
          have g3 := L3.gM (by omega)
          have La := Pa.2.bk L0
          refine (q7 σ2 τ2 (La.lb [])).tr (fun y hy => ?_)
          rw [hy]
          exact seg_in [] ⟨27, r, s, q6, rfl, g1.1, g2.1, by show τ2.1 23 m' = σ2.1 26 c'; rw [g2.2.2.2, g1.2.2.2.2], g3.1, rfl⟩ (fun z hz => by simp at hz)
        by_cases e66 : (Q p').1 = 66
        · have hlt' : p' < T := q1.lt (by omega) (by omega)
          have X4 := X3.1.st hlt'
          simp only [if_pos e66] at eC eL
          rw [eC, eL, nx1 X4.1.2.1]
          have Gx := Pa.2.tr (X1.2.tr (X2.2.tr (X3.2.tr X4.2)))
          have zx : fz 0 c 0 m σ τ _ _ := (q2.tr Gx).2.2.2.2.2.2
          by_cases eb : blE (Q (p' + 1)).1
          · rw [if_pos eb]
            refine Or.inr ⟨_, _, p' + 1, c' + 1, m' + 2, wh', F', N', nl, e, nb, rfl, rfl, ⟨X4.1.1, X4.1.2.1, X4.1.2.2.1, LPr_eq X4.1.2.2.2.1 (fun _ _ _ => rfl) (fun _ _ _ => rfl) (by have := X4.1.2.2.2.2.1.1; omega) (by have := X4.1.2.2.2.2.2; omega) (fun _ _ => rfl), ⟨(Nat.le_refl _), X4.1.2.2.2.2.1.2⟩, (Nat.le_refl _)⟩, hG.r (q2.tr Gx), hnl, he, eb, (by omega), (by omega), fun x hx => ?_, hin, fun σ2 τ2 L => ?_⟩
            · obtain ⟨y1, y2, y3, y4, y5, y6⟩ := hnb x hx
              exact ⟨y1, (by omega), y3, (by omega), by rw [zx.1 22 x.1 (by omega) (by omega) (by omega) (by omega)]; exact y5, by rw [zx.2 20 x.2 (by omega) (by omega) (by omega) (by omega)]; exact y6⟩
            · have L3 := X4.2.bkB L
              have Lx : LB N' [] c (c' + 1) m (m' + 2) _ _ σ2 τ2 := L3.mo hcc (Nat.le_refl _) hmm (Nat.le_refl _) (fun x hx => by have := hnb x hx; exact ⟨fun a b => by omega, fun a b => by omega⟩)
              have Ly : LB N nb c0 c m0 m σ τ σ2 τ2 := (q2.tr Gx).bkB L
              refine (hsg σ2 τ2 Ly).tr0 (sgx σ2 τ2 Lx _) (fun y hy => ?_)
              rcases hy with hy | hy
              · rw [hy]; exact (sgx σ2 τ2 Lx _).sgm
              · exact seg_ex (Or.inr hy)
          · rw [if_neg eb]
            exact Or.inl (bW_flt hbW X4.1 hT5 (by omega) (fun i hi => (zx.2 21 i (by omega) (by omega) (by omega) (by omega)).trans (z0.2 21 i (by omega) (by omega) (by omega) (by omega))) eb _)
        · simp only [if_neg e66] at eC eL
          rw [eC, eL, nx1 X3.1.2.1]
          have Gx := Pa.2.tr (X1.2.tr (X2.2.tr X3.2))
          have zx : fz 0 c 0 m σ τ _ _ := (q2.tr Gx).2.2.2.2.2.2
          by_cases eb : blE (Q p').1
          · rw [if_pos eb]
            refine Or.inr ⟨_, _, p', c' + 1, m' + 2, wh', F', N', nl, e, nb, rfl, rfl, ⟨X3.1.1, X3.1.2.1, X3.1.2.2.1, LPr_eq X3.1.2.2.2.1 (fun _ _ _ => rfl) (fun _ _ _ => rfl) (by have := X3.1.2.2.2.2.1.1; omega) (by have := X3.1.2.2.2.2.2; omega) (fun _ _ => rfl), ⟨(Nat.le_refl _), X3.1.2.2.2.2.1.2⟩, (Nat.le_refl _)⟩, hG.r (q2.tr Gx), hnl, he, eb, (by omega), (by omega), fun x hx => ?_, hin, fun σ2 τ2 L => ?_⟩
            · obtain ⟨y1, y2, y3, y4, y5, y6⟩ := hnb x hx
              exact ⟨y1, (by omega), y3, (by omega), by rw [zx.1 22 x.1 (by omega) (by omega) (by omega) (by omega)]; exact y5, by rw [zx.2 20 x.2 (by omega) (by omega) (by omega) (by omega)]; exact y6⟩
            · have Lx : LB N' [] c (c' + 1) m (m' + 2) _ _ σ2 τ2 := L.mo hcc (Nat.le_refl _) hmm (Nat.le_refl _) (fun x hx => by have := hnb x hx; exact ⟨fun a b => by omega, fun a b => by omega⟩)
              have Ly : LB N nb c0 c m0 m σ τ σ2 τ2 := (q2.tr Gx).bkB L
              refine (hsg σ2 τ2 Ly).tr0 (sgx σ2 τ2 Lx _) (fun y hy => ?_)
              rcases hy with hy | hy
              · rw [hy]; exact (sgx σ2 τ2 Lx _).sgm
              · exact seg_ex (Or.inr hy)
          · rw [if_neg eb]
            exact Or.inl (bW_flt hbW X3.1 hT5 (by omega) (fun i hi => (zx.2 21 i (by omega) (by omega) (by omega) (by omega)).trans (z0.2 21 i (by omega) (by omega) (by omega) (by omega))) eb _)
      -- the head: a step, a mark
      have sg5 : ∀ σ2 τ2, LT N c (c + 2) m (m + 2) (cP (lj_put (cP σ c 0 0 0 0 0) 6 0 (Int32.ofNat (p + 1))) (c + 1) 15 0 0 0 0) (lj_put (mP (mP (lj_put τ 0 46 (Int32.ofNat W.length)) m 0 0 0 0) (m + 1) 14 0 0 0) 0 25 (Int32.ofNat (p + 1))) σ2 τ2 → gS σ2 τ2 (fun y => y = (f, c + 2, m + 2, 1 :: s, e.map (·.2.2) ++ l, 50)) (f, c, m, s, e.map (·.2.2) ++ l, 50) := fun σ2 τ2 L => by
        have L4 := P5.2.bk L
        have L3 := P4.2.bk L4
        have L2 := P3.2.bk L3
        have L1 := P2.2.bk L2
        have g1 := L1.gC (by omega)
        have g2 := L2.gM (by omega)
        have g3 := L3.gM (by omega)
        have g5 := L.gC (by omega)
        refine gS_in [(f, c + 1, m + 1, s, e.map (·.2.2) ++ l, 50)] ⟨g1.1, g2.1, rfl⟩ (fun y hy => ?_)
        rw [List.mem_singleton.1 hy]
        exact seg_in [(f, c + 2, m + 2, 1 :: s, e.map (·.2.2) ++ l, 50)] ⟨16, g5.1, g3.1, rfl⟩ (fun y hy => by rw [List.mem_singleton.1 hy]; exact seg_ex rfl)
      by_cases hbE : bgE (Q (p + 1)).1
      · -- a row
        have e66 : (Q (p + 1)).1 ≠ 66 := fun q => by rw [q] at hbE; exact absurd hbE (by decide)
        have eed : ¬ edB (Q (p + 1)).1 := fun q => by
          generalize (Q (p + 1)).1 = K at *
          rcases q with q | q | q | q | q | q <;> (rw [q] at hbE; exact absurd hbE (by decide))
        have P7 := P6.1.la (by simp; omega) (14, 0, 0, 0)
        have P8 := P7.1.la (by simp; omega) (3, 0, 0, 0)
        rw [if_neg (show ¬ (Int32.ofNat (Q (p + 1)).1 = 66) from ne1 66 (by omega) e66), c_endsBlock P5.1.1.1 hp1 P5.1.2.1.1, if_neg eed, bi_ok, if_pos rfl, kc_61_86]
        rw [if_pos hbE, if_neg (by decide), (m_later P6.1.2.1.2.2.2.2.2.2.2.2.1 (by simp; omega) 14 0 0 0).1, bv_ok, (m_later P7.1.2.1.2.2.2.2.2.2.2.2.1 (by simp; omega) 3 0 0 0).1, bv_ok, km_31_75] at eM
        rw [ge 1 _ (Or.inr rfl) eM, nx1 P8.1.2.1]
        have G8 := P6.2.tr (P7.2.tr P8.2)
        rcases hR F N _ (adB nb Z) PL cl ml (p + 1) v (c + 2) (m + 2) wh ((37, Ln, 0, 0) :: W) _ _ f (1 :: s) (e.map (·.2.2) ++ l) Ln (by omega) P8.1 hNd ((hs.hd hfv).o.up (by omega) (by omega)) (by simp; omega) hbE with hf | ⟨σ3, τ3, p3, c3, m3, wh3, F3, N3, r, i1, i2, i3, i4, i5, i6, i7, i8, i9⟩
        · exact Or.inl (flt_bv hf _)
        · rw [i1, bv_ok, i2]
          refine fin F3 N3 p3 c3 m3 wh3 σ3 τ3 r i3 (PA.2.tr (G5.tr (G8.tr i4))) (by omega) (by omega) (by omega) i8.1 (fun σ2 τ2 L => ?_)
          have L3 := L.lt
          have L8 := i4.bk L3
          have L5 := G8.bk L8
          refine (sg5 σ2 τ2 L5).tr (fun y hy => ?_)
          rw [hy]
          exact i9 σ2 τ2 L3.1 (L3.2.mo (by omega) (by omega) (by omega) (by omega))
      · rw [if_neg hbE, if_pos rfl, km_31_75] at eM
        rw [ge 1 _ (Or.inr rfl) eM, nx1 P6.1.2.1]
        have fin0 := fin F N (p + 1) (c + 2) (m + 2) wh _ _ [] P6.1 (PA.2.tr (G5.tr P6.2)) (by omega) (by omega) (by omega) ⟨fun x hx => by simp at hx, by decide, fun x hx => by simp at hx⟩ (fun σ2 τ2 L => sg5 σ2 τ2 (P6.2.bk L.lt))
        by_cases e66 : (Q (p + 1)).1 = 66
        · rw [if_pos (by rw [e66]; rfl)]
          exact fin0
        · rw [if_neg (show ¬ (Int32.ofNat (Q (p + 1)).1 = 66) from ne1 66 (by omega) e66), c_endsBlock P5.1.1.1 hp1 P5.1.2.1.1, bi_ok]
          by_cases eb : blE (Q (p + 1)).1
          · have e2 := blE_no eb
            rw [if_pos e2.1, if_neg (by decide), c_kind P5.1.1.1 hp1 P5.1.2.1.1, bi_ok, if_neg (show ¬ (Int32.ofNat (Q (p + 1)).1 = 26) from ne1 26 (by omega) e2.2.1)]
            exact fin0
          · -- nothing that may stand there
            have e86 : (if (if edB (Q (p + 1)).1 then (1 : Int32) else 0) = 0 then lj_D lc_P lc_M61 86 [.ref 6, .int Ln, .retAddr 0] [] (cP (lj_put (cP σ c 0 0 0 0 0) 6 0 (Int32.ofNat (p + 1))) (c + 1) 15 0 0 0 0) else lj_bi (lj_R lc_P 63 [.ref 6] (cP (lj_put (cP σ c 0 0 0 0 0) 6 0 (Int32.ofNat (p + 1))) (c + 1) 15 0 0 0 0)) (fun y17 σ16 => (if y17 = 26 then lj_D lc_P lc_M61 86 [.ref 6, .int Ln, .retAddr 0] [] σ16 else lj_D lc_P lc_M61 91 [.ref 6, .int Ln, .retAddr 0] [] σ16)) lj_up) = lj_D lc_P lc_M61 86 [.ref 6, .int Ln, .retAddr 0] [] (cP (lj_put (cP σ c 0 0 0 0 0) 6 0 (Int32.ofNat (p + 1))) (c + 1) 15 0 0 0 0) := by
              by_cases e3 : edB (Q (p + 1)).1
              · have e4 : (Q (p + 1)).1 = 26 := by
                  rcases Nat.decEq (Q (p + 1)).1 26 with z | z
                  · exact absurd (edB_bl e3 z) eb
                  · exact z
                rw [if_pos e3, if_neg (by decide), c_kind P5.1.1.1 hp1 P5.1.2.1.1, bi_ok, if_pos (by rw [e4]; rfl)]
              · rw [if_neg e3, if_pos rfl]
            rw [e86, kc_61_86, rc_95, kc_95_0, kc_95_4, if_neg (by decide), c_beginsE P5.1.1.1 hp1 P5.1.2.1.1, if_neg hbE, bi_ok, if_pos rfl, c_throw P5.1.1.1 hp1 P5.1.2.1.1]
            have Y0 := P6.1.pop
            have Y1 := Y0.1.M (by omega) 17 0 0 Ln
            have Y2 := Y1.1.M (by omega) 38 0 0 0
            have eR := m_returned Y0.1.1.1 hp1 Y0.1.2.1.2.1 Y0.1.2.1.2.2.2.2.2.1 (by omega) Ln
            rw [if_neg e66] at eR
            have eL := P6.1.go (Or.inr rfl) (show lj_R lm_P 30 [.ref 0, .int 37, .int Ln, .int 0, .int 0] _ = _ by rw [rm_30, km_30_0, if_neg (by decide), if_neg (by decide), if_neg (by decide), if_neg (by decide), if_neg (by decide), if_neg (by decide), if_neg (by decide), if_neg (by decide), if_neg (by decide), if_neg (by decide), if_neg (by decide), if_neg (by decide), if_neg (by decide), if_neg (by decide), if_neg (by decide), if_neg (by decide), if_neg (by decide), if_neg (by decide), if_neg (by decide), if_neg (by decide), if_neg (by decide), rm_86, km_86_0, if_neg (by decide), if_neg (by decide), if_neg (by decide), if_neg (by decide), if_neg (by decide), if_neg (by decide), if_neg (by decide), if_neg (by decide), if_neg (by decide), if_neg (by decide), if_neg (by decide), if_neg (by decide), if_neg (by decide), if_neg (by decide), if_neg (by decide), if_neg (by decide), if_pos rfl, eR, bi_ok, bi_ok]; rfl)
            rw [eL, nx1 Y2.1.2.1]
            have zy : fz 0 c 0 m σ τ _ _ := (PA.2.tr (G5.tr (P6.2.tr (Y0.2.tr (Y1.2.tr Y2.2))))).2.2.2.2.2.2
            exact Or.inl (flt_bv (bW_flt hbW Y2.1 hT5 (by omega) (fun i hi => (zy.2 21 i (by omega) (by omega) (by omega) (by omega)).trans (z0.2 21 i (by omega) (by omega) (by omega) (by omega))) eb _) _)
    · rw [if_neg (show ¬ (Q p).1 = 10 + 16 by omega), if_pos rfl, m_begS hTEa hpT ha.2.1, bi_ok] at eM
      by_cases eb : blE (Q p).1
      · -- the block ends
        have e2 := blE_no eb
        rw [if_pos e2.1, if_neg (by decide), c_kind hTE hpT h1.1, bi_ok, if_neg (show ¬ (Int32.ofNat (Q p).1 = 26) from fun z => a26 ((ofN_eq (c := 26) (by omega) (by omega)).1 z)), kc_61_135]
        rw [if_neg e2.2.2, if_pos rfl] at eM
        rw [ge 1 _ (Or.inr rfl) eM, nx1 PA.1.2.1]
        refine Or.inr ⟨σ, _, p, c, m, wh, F, N, nl, e, nb, rfl, rfl, ⟨PA.1.1, PA.1.2.1, PA.1.2.2.1, LPr_eq PA.1.2.2.2.1 (fun _ _ _ => rfl) (fun _ _ _ => rfl) PA.1.2.2.2.2.1.1 PA.1.2.2.2.2.2 (fun _ _ => rfl), ⟨(Nat.le_refl _), PA.1.2.2.2.2.1.2⟩, (Nat.le_refl _)⟩, hG.r PA.2, hnl, he, eb, (by omega), (by omega), fun x hx => ?_, hin, fun σ2 τ2 L => hsg σ2 τ2 (PA.2.bkB L)⟩
        obtain ⟨y1, y2, y3, y4, y5, y6⟩ := hnb x hx
        exact ⟨y1, y2, y3, y4, y5, by rw [lj_put_1, if_neg (by omega)]; exact y6⟩
      · have eed : ¬ edB (Q p).1 := fun q => eb (edB_bl q a26)
        rw [if_neg eed, if_pos rfl]
        by_cases hbS : bgS (Q p).1
        · -- a statement
          rcases hS F N FO0 nl rv fl (adB nb Z) PL cl ml p v c m wh W σ τ f s (e.map (·.2.2) ++ l) lB D (by omega) hPS hNd hs hW (by omega) (by omega) (by rw [lvY_len hG.2.1]; exact lpH_ad hlp nb hnl (fun y hy => by obtain ⟨x, hx, q⟩ := List.mem_map.1 hy; rw [← q]; exact he x hx)) hbS with hf | ⟨σ', τ', p', c', m', wh', F', N', nl', e', nb', i1, i2, i3, i4, i5, i6, i7, i8, i9, i10, i11, i12⟩
          · exact Or.inl (flt_bv hf _)
          · rw [i1, bv_ok, i2]
            have hp' := i3.2.2.1.1
            rw [adB_app] at i3
            refine cm_block hT5 k hS hR hs hW hN0 hbW hc0 hm0 hlp j F' N' nl' c' m' p' c' m' wh' σ' τ' (e' ++ e) (nb' ++ nb) (by omega) (by omega) i3 (hG.tr i4) (by omega) (fun y hy => ?_) (by omega) (by omega) (nbK_app hnb i10 i4.2.2.2.2.2.2 hcc hmm i4.2.2.2.2.1 i4.2.2.2.2.2.1) (fun q => ?_) (fun σ2 τ2 L => ?_)
            · rcases List.mem_append.1 hy with q | q
              · have := i6 y q; omega
              · exact he y q
            · cases nb with
              | nil => rw [List.append_nil] at q; exact inL_ad.1 (i11 q)
              | cons x nb => exact hin (by simp)
            · have A1 := hsg σ2 τ2 (LB_fst i4 L i10)
              have A2 := i12 σ2 τ2 (LB_snd L hcc hmm hnb)
              have A3 := sg_app A1 A2
              rw [← List.append_assoc, ← List.map_append] at A3
              exact A3
        · -- none
          rw [c_begS hTE hpT h1.1, if_neg hbS, kc_64_75, if_pos rfl, c_throw hTE hpT h1.1]
          rw [if_neg hbS, if_pos rfl] at eM
          rw [ge 1 _ (Or.inr rfl) eM, nx1 PA.1.2.1]
          exact Or.inl (flt_bv (bW_flt hbW PA.1 hT5 (by omega) h21a eb _) _)
theorem ck_of {b : Nat → Int32} {n T : Nat} {Q : tkQ} {X : List Int32 → Prop} (hT5 : T ≤ 520) (k : Nat) (hS : CS b n T Q X k) (hR : CR b n T Q X k) : CK b n T Q X k := by
  intro F N FO0 nl rv fl Z PL cl ml p v c m wh W σ τ f s l lB D hTp hPS hN hs hW hc hm hbW hlp
  rw [rc_61]
  refine cm_block hT5 k hS hR hs hW hN hbW hc hm hlp k F N nl cl ml p c m wh σ τ [] [] hTp (Nat.le_refl _) (by rw [adB_nil]; exact hPS) ((GR_rf _ _ _ _ _ _ _).gs (hdN_ne hN)) (Nat.le_refl _) (fun y hy => by simp at hy) (by omega) (by omega) (fun x hx => by simp at hx) (fun q => absurd rfl q) (fun σ2 τ2 _ => Or.inl rfl)
