/-! the gathering: tables of the model are gone through (the loop: printed by gen/gen9b39.py) -/
def kyM (τ : lj_S) (p : Nat) : vT := (enM τ p).1
def vlM (τ : lj_S) (p : Nat) : vT := (enM τ p).2
theorem m_rtab_loop {n : Nat} (hn : n ≤ 2000) {W : Nat → Prop} {md : Nat} (hmd : md < 4) (x1 : Int32) : ∀ (L : List Nat) (y : Int32) (σ : lj_S) (Q : List Nat), lk (lv σ 50) y.toInt L → (∀ p ∈ L, p < 3001 ∧ (σ.1 47 p ≠ 0 → (wfM (kyM σ p) ∧ ov (kyM σ p) ≤ n) ∧ (wfM (vlM σ p) ∧ ov (vlM σ p) ≤ n) ∧ prW md W (ov (kyM σ p)) (ov (vlM σ p)))) → (∀ x, flg n 96 σ x = true → W x) → wqM n σ Q → ∃ σ' Q', lj_D lm_P lm_M215 34 [.ref 0, .int x1, .int (Int32.ofNat md), .int y] [] σ = some (.inl none, σ') ∧ visM n W (fun x => ∃ p ∈ L, σ.1 47 p ≠ 0 ∧ prE md (flg n 96 σ) (ov (kyM σ p)) (ov (vlM σ p)) x) σ Q σ' Q'
  | [], y, σ, Q, hl, _, _, hm => by
    have hl : y.toInt = -1 := hl
    rw [km_215_34, if_pos (by rw [lz_lt, hl]; decide)]
    exact ⟨σ, Q, rfl, (vis.rf hm).mo (fun x ⟨p, hp, _⟩ => by cases hp)⟩
  | p :: L, y, σ, Q, hl, hp, hf, hm => by
    obtain ⟨hl1, hl2⟩ := hl
    obtain ⟨p1, p2⟩ := hp p List.mem_cons_self
    have ey : y = Int32.ofNat p := lz_ext (by rw [lz_lit (by omega)]; exact hl1)
    subst ey
    have i : lj_in (Int32.ofNat p) 3001 := ofN_in (by omega) (by omega)
    have nn : (Int32.ofNat p).toNatClampNeg = p := lz_onat (by omega)
    obtain ⟨⟨a1, a2, a3⟩, _⟩ := and4 md hmd
    -- the rest
    have rest : ∀ (σ1 : lj_S) (Q1 : List Nat) (M : Nat → Prop), visM n W M σ Q σ1 Q1 → ∃ σ' Q', lj_D lm_P lm_M215 113 [.ref 0, .int x1, .int (Int32.ofNat md), .int (Int32.ofNat p)] [] σ1 = some (.inl none, σ') ∧ visM n W (fun x => M x ∨ ∃ p ∈ L, σ.1 47 p ≠ 0 ∧ prE md (flg n 96 σ) (ov (kyM σ p)) (ov (vlM σ p)) x) σ Q σ' Q' := fun σ1 Q1 M hv => by
      have c : ∀ k j, k = 45 ∨ k = 46 ∨ k = 47 ∨ k = 48 ∨ k = 50 → σ1.1 k j = σ.1 k j ∧ σ1.2 k j = σ.2 k j := fun k j z => hv.2.1 k j (by unfold gRM; simp; omega)
      have e50 : lv σ1 50 = lv σ 50 := by funext j; unfold lv; rw [(c 50 j (by omega)).1]
      have ek : ∀ q, kyM σ1 q = kyM σ q := fun q => by unfold kyM enM; rw [(c 45 q (by omega)).1, (c 46 q (by omega)).2]
      have ew : ∀ q, vlM σ1 q = vlM σ q := fun q => by unfold vlM enM; rw [(c 47 q (by omega)).1, (c 48 q (by omega)).2]
      obtain ⟨σ2, Q2, r1, r2⟩ := m_rtab_loop hn hmd x1 L (σ1.1 50 p) σ1 Q1 (by rw [e50, (c 50 p (by omega)).1]; exact hl2) (fun q hq => by rw [(c 47 q (by omega)).1, ek, ew]; exact hp q (List.mem_cons_of_mem _ hq)) (fun x hx => hv.inw hf hx) hv.1
      refine ⟨σ2, Q2, by rw [km_215_113]; simp only [if_pos i, nn]; exact r1, (hv.tr r2).mo (fun x z => z.imp id (fun ⟨q, q1, q2, q3⟩ => ⟨q, q1, by rw [(c 47 q (by omega)).1]; exact q2, ?_⟩))⟩
      rw [ek, ew]
      exact q3.up (fun y hy => hv.up hy)
    rw [km_215_34, if_neg (ofN_nneg (by omega))]; simp only [if_pos i, nn]
    by_cases z : σ.1 47 p = 0
    · rw [if_pos z]
      obtain ⟨σ', Q', r1, r2⟩ := rest σ Q _ (vis.rf hm)
      exact ⟨σ', Q', r1, r2.mo (fun x ⟨q, q1, q2, q3⟩ => by
        rcases List.mem_cons.1 q1 with e | e
        · rw [e] at q2; exact absurd z q2
        · exact Or.inr ⟨q, e, q2, q3⟩)⟩
    · obtain ⟨⟨k1, k2⟩, ⟨v1, v2⟩, w1, w2, w3⟩ := p2 z
      rw [if_neg z]
      -- behind the key
      have mid : ∀ (σ1 : lj_S) (Q1 : List Nat) (M : Nat → Prop), visM n W M σ Q σ1 Q1 → (∀ x, x ≠ 0 → md % 2 = 0 → x = ov (kyM σ p) → M x) → ∃ σ' Q', lj_D lm_P lm_M215 69 [.ref 0, .int x1, .int (Int32.ofNat md), .int (Int32.ofNat p)] [] σ1 = some (.inl none, σ') ∧ visM n W (fun x => ∃ q ∈ p :: L, σ.1 47 q ≠ 0 ∧ prE md (flg n 96 σ) (ov (kyM σ q)) (ov (vlM σ q)) x) σ Q σ' Q' := fun σ1 Q1 M hv hM => by
        have c : ∀ k j, k = 45 ∨ k = 46 ∨ k = 47 ∨ k = 48 → σ1.1 k j = σ.1 k j ∧ σ1.2 k j = σ.2 k j := fun k j z => hv.2.1 k j (by unfold gRM; simp; omega)
        have ek : kyM σ1 p = kyM σ p := by unfold kyM enM; rw [(c 45 p (by omega)).1, (c 46 p (by omega)).2]
        have ew : vlM σ1 p = vlM σ p := by unfold vlM enM; rw [(c 47 p (by omega)).1, (c 48 p (by omega)).2]
        -- the value is reached
        have val : (ov (vlM σ p) ≠ 0 → W (ov (vlM σ p))) → ∃ σ' Q', lj_D lm_P lm_M215 97 [.ref 0, .int x1, .int (Int32.ofNat md), .int (Int32.ofNat p)] [] σ1 = some (.inl none, σ') ∧ visM n W (fun x => ∃ q ∈ p :: L, σ.1 47 q ≠ 0 ∧ prE md (flg n 96 σ) (ov (kyM σ q)) (ov (vlM σ q)) x) σ Q σ' Q' := fun hW => by
          obtain ⟨σ2, Q2, r1, r2⟩ := m_reach hn hv.1 (a := vlM σ1 p) (by rw [ew]; exact v1) (by rw [ew]; exact v2) (W := W) (by rw [ew]; exact hW)
          have r1 : lj_R lm_P 210 [.ref 0, .int (σ1.1 47 p), .long (σ1.2 48 p)] σ1 = some (.inl none, σ2) := r1
          obtain ⟨σ3, Q3, s1, s2⟩ := rest σ2 Q2 _ (hv.tr r2)
          refine ⟨σ3, Q3, by rw [km_215_97]; simp only [if_pos i, nn]; rw [r1, bv_ok]; exact s1, s2.mo (fun x ⟨q, q1, q2, q3⟩ => ?_)⟩
          rcases List.mem_cons.1 q1 with e | e
          · rw [e] at q3
            rcases q3.2 with ⟨y1, y2⟩ | ⟨_, y2⟩
            · exact Or.inl (Or.inl (hM x q3.1 y1 y2))
            · exact Or.inl (Or.inr ⟨by rw [ew]; exact y2, q3.1⟩)
          · exact Or.inr ⟨q, e, q2, q3⟩
        have noval : (∀ x, prE md (flg n 96 σ) (ov (kyM σ p)) (ov (vlM σ p)) x → M x) → ∃ σ' Q', lj_D lm_P lm_M215 113 [.ref 0, .int x1, .int (Int32.ofNat md), .int (Int32.ofNat p)] [] σ1 = some (.inl none, σ') ∧ visM n W (fun x => ∃ q ∈ p :: L, σ.1 47 q ≠ 0 ∧ prE md (flg n 96 σ) (ov (kyM σ q)) (ov (vlM σ q)) x) σ Q σ' Q' := fun hN => by
          obtain ⟨σ3, Q3, s1, s2⟩ := rest σ1 Q1 _ hv
          refine ⟨σ3, Q3, s1, s2.mo (fun x ⟨q, q1, q2, q3⟩ => ?_)⟩
          rcases List.mem_cons.1 q1 with e | e
          · rw [e] at q3
            exact Or.inl (hN x q3)
          · exact Or.inr ⟨q, e, q2, q3⟩
        rw [km_215_69]
        by_cases m0 : md = 0
        · rw [if_pos (a2.2 m0)]
          exact val (w2 m0)
        · rw [if_neg (fun y => m0 (a2.1 y))]
          by_cases m1 : md = 1
          · have cl := m_lost (τ := σ1) (a := kyM σ1 p) (by rw [ek]; exact k1) (by rw [ek]; omega)
            have cl : lj_R lm_P 216 [.ref 0, .int (σ1.1 45 p), .long (σ1.2 46 p)] σ1 = _ := cl
            rw [if_pos (a3.2 m1)]; simp only [if_pos i, nn]; rw [cl, bi_ok]
            by_cases y : los 96 σ1 (kyM σ1 p) = true
            · rw [if_pos y, if_neg (by decide)]
              refine noval (fun x hx => ?_)
              rcases hx.2 with ⟨y1, _⟩ | ⟨y1, _⟩
              · omega
              · exfalso
                rw [ek] at y
                rw [los_f (n := n) k2] at y
                simp at y
                rcases y1 with y1 | ⟨_, y1 | y1⟩
                · exact m0 y1
                · exact y.1 y1
                · have := hv.up y1
                  rw [y.2] at this
                  cases this
            · rw [if_neg y, if_pos rfl]
              refine val (w3 m1 ?_)
              rw [ek] at y
              rw [los_f (n := n) k2] at y
              simp at y
              by_cases k0 : ov (kyM σ p) = 0
              · exact Or.inl k0
              · exact Or.inr (hv.inw hf (y k0))
          · rw [if_neg (fun y => m1 (a3.1 y))]
            refine noval (fun x hx => ?_)
            rcases hx.2 with ⟨y1, y2⟩ | ⟨y1 | ⟨y1, _⟩, _⟩
            · exact hM x hx.1 y1 y2
            · exact absurd y1 m0
            · exact absurd y1 m1
      by_cases m2 : md % 2 = 0
      · obtain ⟨σ2, Q2, r1, r2⟩ := m_reach hn hm (a := kyM σ p) k1 k2 (W := W) (w1 m2)
        have r1 : lj_R lm_P 210 [.ref 0, .int (σ.1 45 p), .long (σ.2 46 p)] σ = some (.inl none, σ2) := r1
        rw [if_pos (a1.2 m2)]; (try simp only [if_pos i]); rw [r1, bv_ok]
        exact mid σ2 Q2 _ r2 (fun x x0 _ e => ⟨e, x0⟩)
      · rw [if_neg (fun y => m2 (a1.1 y))]
        exact mid σ Q _ (vis.rf hm) (fun x _ e _ => absurd e m2)
/-- places of both side by side -/
theorem hpX.pq {σ τ : lj_S} {n : Nat} {P B : Nat → List Nat} {Fr : List Nat} {P' B' : Nat → List Nat} {Fr' : List Nat} (h : hpX σ τ n P B Fr P' B' Fr') {t : Nat} (ht : t ≤ n) {q : Nat} (hq : q ∈ P t) (z : σ.1 68 q ≠ 0) : ∃ q' ∈ P' (tm t), τ.1 47 q' ≠ 0 ∧ ov (kyM τ q') = ov (kyC σ q) ∧ ov (vlM τ q') = ov (vlC σ q) := by
  obtain ⟨q', w1, w⟩ := eR_l (h.2.2.2.2 t ht) hq
  refine ⟨q', w1, ?_, w.1.oj.1.symm, ?_⟩
  · rcases w.2.2 with ⟨y, _⟩ | ⟨y1, y2⟩
    · have y' : σ.1 68 q = 0 := congrArg Prod.fst y
      exact absurd y' z
    · exact fun y => y1 (y2.k0.2 y)
  · rcases w.2.2 with ⟨y, _⟩ | ⟨_, y⟩
    · have y' : σ.1 68 q = 0 := congrArg Prod.fst y
      exact absurd y' z
    · exact y.oj.1.symm
theorem hpX.qp {σ τ : lj_S} {n : Nat} {P B : Nat → List Nat} {Fr : List Nat} {P' B' : Nat → List Nat} {Fr' : List Nat} (h : hpX σ τ n P B Fr P' B' Fr') {t : Nat} (ht : t ≤ n) {q' : Nat} (hq : q' ∈ P' (tm t)) : q' < 3001 ∧ (wfM (kyM τ q') ∧ ov (kyM τ q') ≤ n) ∧ ∃ q ∈ P t, ov (kyM τ q') = ov (kyC σ q) ∧ (τ.1 47 q' ≠ 0 → σ.1 68 q ≠ 0 ∧ ov (vlM τ q') = ov (vlC σ q) ∧ wfM (vlM τ q') ∧ ov (vlM τ q') ≤ n) := by
  obtain ⟨q, w1, w⟩ := eR_r (h.2.2.2.2 t ht) hq
  have kk := w.1.oj
  have l70 := h.1.2.1
  refine ⟨(h.2.2.1.1.2.2 _ (tm_V ht) q' hq).1, ⟨kk.2.2.2.2.2, by have := kk.1; have := kk.2.1; unfold kyM; omega⟩, q, w1, kk.1.symm, fun z => ?_⟩
  rcases w.2.2 with ⟨_, y⟩ | ⟨y1, y⟩
  · exact absurd y z
  · have vv := y.oj
    exact ⟨y1, vv.1.symm, vv.2.2.2.2.2, by have := vv.1; have := vv.2.1; unfold vlM; omega⟩
theorem m_rtab {σ τ : lj_S} {n : Nat} {P B : Nat → List Nat} {Fr : List Nat} {P' B' : Nat → List Nat} {Fr' : List Nat} (h : tw σ τ n P B Fr P' B' Fr') {t : Nat} (t1 : 1 ≤ t) (ht : t ≤ n) (k4 : σ.1 57 t = 4) {W : Nat → Prop} {Q : List Nat} (hm : wqM n τ Q) (hf : ∀ x, flg n 96 τ x = true → W x) (hW1 : ∀ x : Nat, x ≠ 0 → lv σ 58 t = (x : Int) → W x) (hW2 : ∀ p ∈ P t, σ.1 68 p ≠ 0 → prW (mdX σ P t) W (ov (kyC σ p)) (ov (vlC σ p))) : ∃ τ' Q', lj_R lm_P 215 [.ref 0, .int (Int32.ofNat t)] τ = some (.inl none, τ') ∧ visN n W (tEd σ P t (flg n 96 τ)) τ Q τ' Q' ∧ ∀ k j, k ≠ 96 → k ≠ 98 → ¬ (k = 0 ∧ (j = 157 ∨ j = 90 ∨ j = 91)) → τ'.1 k j = τ.1 k j ∧ τ'.2 k j = τ.2 k j := by
  have n2 := h.2.2.1.1.1
  have md4 := mdX_le σ P t
  have it : lj_in (Int32.ofNat t) 2002 := ofN_in (by omega) (by omega)
  have nt : (Int32.ofNat t).toNatClampNeg = t := lz_onat (by omega)
  have tmt : tm t = t := by unfold tm; rw [if_neg (by omega)]
  obtain ⟨_, τ1, _, _, r1, r2⟩ := h.mode ht (Or.inr k4)
  have r1 := r1 t1
  have f1 : lf gKM τ τ1 := r2.mo (fun k j q => by unfold gKM at q; unfold fdN; simp at q ⊢; omega)
  have fl1 : flg n 96 τ1 = flg n 96 τ := by funext x; unfold flg; rw [(r2 96 x rfl).1]
  have v1 : visN n W (fun _ => False) τ Q τ1 Q := ⟨⟨by rw [(r2 0 157 rfl).1]; exact hm.1, pil_cg hm.2.1 (fun j _ => (r2 98 j rfl).1), by rw [fl1]; exact hm.2.2⟩, f1, by rw [fl1]; exact rgN.rf _ _ _ _, fun _ z => z.elim⟩
  have e39 : τ1.1 39 t = τ.1 39 t := (r2 39 t rfl).1
  -- behind the metatable
  have mid : ∀ (τ2 : lj_S) (Q2 : List Nat) (M : Nat → Prop), visM n W M τ1 Q τ2 Q2 → (∀ x : Nat, x ≠ 0 → lv σ 58 t = (x : Int) → M x) → ∃ τ' Q', lj_D lm_P lm_M215 27 [.ref 0, .int (Int32.ofNat t), .int (Int32.ofNat (mdX σ P t)), .retAddr 0] [] τ2 = some (.inl none, τ') ∧ visN n W (tEd σ P t (flg n 96 τ)) τ Q τ' Q' ∧ ∀ k j, k ≠ 96 → k ≠ 98 → ¬ (k = 0 ∧ (j = 157 ∨ j = 90 ∨ j = 91)) → τ'.1 k j = τ.1 k j ∧ τ'.2 k j = τ.2 k j := fun τ2 Q2 M hv hM => by
    have hv2 := v1.tr (hv.fr (fun _ _ q => gRM_K q))
    have e : ∀ k j, k = 40 ∨ k = 45 ∨ k = 46 ∨ k = 47 ∨ k = 48 ∨ k = 50 → τ2.1 k j = τ.1 k j ∧ τ2.2 k j = τ.2 k j := fun k j z => hv2.2.1 k j (by unfold gKM; simp; omega)
    have ek : ∀ q, kyM τ2 q = kyM τ q := fun q => by unfold kyM enM; rw [(e 45 q (by omega)).1, (e 46 q (by omega)).2]
    have ew : ∀ q, vlM τ2 q = vlM τ q := fun q => by unfold vlM enM; rw [(e 47 q (by omega)).1, (e 48 q (by omega)).2]
    have e50 : lv τ2 50 = lv τ 50 := by funext j; unfold lv; rw [(e 50 j (by omega)).1]
    obtain ⟨τ3, Q3, s1, s2⟩ := m_rtab_loop n2 (W := W) md4 (Int32.ofNat t) (P' (tm t)) (τ2.1 40 t) τ2 Q2 (by
      rw [e50, (e 40 t (by omega)).1]
      have := (h.2.2.1.2.2.1.1.1 (tm t) (tm_V ht)).1
      rw [tmt] at this ⊢
      exact this) (fun q hq => by
      obtain ⟨a1, a2, q', b1, b2, b3⟩ := h.2.2.1.qp ht hq
      refine ⟨by omega, fun z => ?_⟩
      rw [(e 47 q (by omega)).1] at z
      obtain ⟨b4, b5, b6⟩ := b3 z
      rw [ek, ew]
      exact ⟨a2, b6, by rw [b2, b5]; exact hW2 q' b1 b4⟩) (fun x hx => hv2.inw hf hx) hv2.1
    refine ⟨τ3, Q3, ?_, (hv2.tr (s2.fr (fun _ _ q => gRM_K q))).mo (fun x hx => ?_), fun k j z1 z2 z3 => ?_⟩
    · rw [km_215_27]; simp only [if_pos it, nt]
      exact s1
    · rcases hx with ⟨y1, y2⟩ | ⟨q, q1, q2, q3⟩
      · exact Or.inl (Or.inr (hM x y1 y2))
      · right
        obtain ⟨q', b1, b2, b3, b4⟩ := h.2.2.1.pq ht q1 q2
        refine ⟨q', b1, by rw [(e 47 q' (by omega)).1]; exact b2, ?_⟩
        rw [ek, ew, b3, b4]
        exact q3.up (fun y hy => hv2.up hy)
    · obtain ⟨a1, a2⟩ := s2.2.1 k j (by unfold gRM; simp; omega)
      obtain ⟨b1, b2⟩ := hv.2.1 k j (by unfold gRM; simp; omega)
      obtain ⟨c1, c2⟩ := r2 k j (by unfold fdN; simp; omega)
      exact ⟨a1.trans (b1.trans c1), a2.trans (b2.trans c2)⟩
  rw [rm_215, km_215_0, r1, bi_ok]; simp only [if_pos it, nt]; rw [e39]
  rcases (h.2.2.2.2 t t1 ht).2.1 k4 with ⟨m1, m2⟩ | ⟨m, ma, m1, m2⟩
  · rw [m2, if_pos (by decide)]
    refine mid τ1 Q _ (vis.rf v1.1) (fun x _ y => ?_)
    unfold lv at y
    rw [m1] at y
    have : (-1 : Int32).toInt = -1 := by decide
    omega
  · have m0 := ma.1
    have m20 := ma.2.1
    have mn : m ≤ n := by have := ma.2.2.1; have := h.2.2.1.1.2.1; omega
    have om : ov (4, i64 m) = m := ov_ob (Or.inl rfl) (by omega)
    have lm : lv σ 58 t = (m : Int) := by unfold lv; rw [m1, lz_lit (by omega)]
    obtain ⟨τ2, Q2, s1, s2⟩ := m_reach n2 v1.1 (a := (4, i64 m)) (fun _ => by rw [om]) (by rw [om]; exact mn) (W := W) (by rw [om]; exact fun y => hW1 m y lm)
    have s1 : lj_R lm_P 210 [.ref 0, .int 4, .long (Int32.ofNat m).toInt64] τ1 = some (.inl none, τ2) := s1
    rw [m2, if_neg (by rw [lz_le, lz_lit (by omega)]; show ¬ ((m : Int) ≤ 0); omega)]; (try simp only [if_pos it]); rw [s1, bv_ok]
    exact mid τ2 Q2 _ s2 (fun x x0 y => ⟨by rw [om]; omega, x0⟩)
