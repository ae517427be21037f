/-! the gathering: what is reached first, the model: all together -/
theorem m_r4 {n : Nat} (hn : n ≤ 2000) {τ : lj_S} {Q : List Nat} (h : wqM n τ Q) {o : Nat} (o1 : 1 ≤ o) (ho : o ≤ n) {W : Nat → Prop} (hW : W o) : ∃ τ' Q', lj_R lm_P 210 [.ref 0, .int 4, .long (i64 o)] τ = some (.inl none, τ') ∧ visM n W (fun x => x = o) τ Q τ' Q' := by
  have om : ov (4, i64 o) = o := ov_ob (Or.inl rfl) (by omega)
  obtain ⟨τ1, Q1, r1, r2⟩ := m_reach hn h (a := (4, i64 o)) (fun _ => by rw [om]) (by rw [om]; exact ho) (W := W) (by rw [om]; exact fun _ => hW)
  exact ⟨τ1, Q1, r1, r2.mo (fun x e => ⟨by rw [om]; exact e, by omega⟩)⟩
theorem m_phA {σ0 τ0 σ τ : lj_S} {n np p : Nat} {r : List Nat} {FP : Nat → List kF} {ρ : Nat → Nat} {P B : Nat → List Nat} {Fr : List Nat} {P' B' : Nat → List Nat} {Fr' : List Nat} (h : gw σ0 τ0 n np p r FP ρ P B Fr P' B' Fr' σ τ) {La : List Nat} (hLa : ∀ o ∈ La, obA σ τ o 4) (hL2 : La.length ≤ 2001) (h95 : ∀ i, i < La.length → τ.1 95 i = Int32.ofNat (La.getD i 0)) (gac : gaC σ τ FP (p :: r) La.length) : ∃ τ' Bk, lj_R lm_P 207 [.ref 0] τ = some (.inl none, τ') ∧ lf gKM τ τ' ∧ wqM n τ' [] ∧ bkI σ τ' n P P' Bk ∧ pgI σ0 σ τ' n np p FP ∧ wlI (rtX σ0 σ p r FP La) (edX σ0 σ τ p FP P) (epX σ P) n (fl0 n τ') [] ∧ ∀ x, rtX σ0 σ p r FP La x → fl0 n τ' x = true := by
  obtain ⟨root, hroot⟩ : ∃ root, root = rtX σ0 σ p r FP La := ⟨_, rfl⟩
  obtain ⟨edge, hedge⟩ : ∃ edge, edge = edX σ0 σ τ p FP P := ⟨_, rfl⟩
  obtain ⟨eph, heph⟩ : ∃ eph, eph = epX σ P := ⟨_, rfl⟩
  have okR : ∀ x, root x → okO σ n x := fun x hx => rtX_ok h hLa x (by rw [← hroot]; exact hx)
  have okW : ∀ x, lstR root edge eph x → okO σ n x := fun x hx => gw.ok h okR x (by rw [← hedge, ← heph]; exact hx)
  have cl := lstR_clo root edge eph
  rw [← hroot, ← hedge, ← heph]
  have hX := h.2.1.2.2.1
  have hn := hX.1.1
  have l70 := hX.1.2.1
  have np25 := h.2.2.2.1.1.2.2
  have n3 : 3 ≤ n := by
    have := h.2.2.2.2.2.2.1.1.2.2.2.2.1
    omega
  -- flags anew
  obtain ⟨τa, a1, a2, a3, a4⟩ := m_fini 2002 0 τ (by omega)
  obtain ⟨τb, hτb⟩ : ∃ τb, τb = lj_put τa 0 157 0 := ⟨_, rfl⟩
  have fb : lf gKM τ τb := fun k j z => by
    unfold gKM at z
    simp at z
    exact ⟨by rw [hτb, lj_put_1, if_neg (by omega), a2 k j (by omega)], by rw [hτb]; show τa.2 k j = _; rw [a3]⟩
  -- keys
  obtain ⟨τc, Bk, c1, c2, c3⟩ := m_lkeys (h.cg (lf_rf _ σ) fb)
  have fc : lf gKM τ τc := fb.tr (c2.mo (fun k j z => by unfold gKM at z; unfold lkM; simp at z ⊢; omega))
  have flc : flg n 96 τc = fun _ => false := by
    funext x
    unfold flg
    by_cases z : x ≤ n
    · have e : τc.1 96 x = 0 := by rw [(c2 96 x rfl).1, hτb, lj_put_1, if_neg (by omega)]; exact a4 x (Nat.zero_le _) (by omega)
      rw [e]
      rfl
    · simp [z]
  have mkc : wqM n τc [] := ⟨by
    rw [(c2 0 157 rfl).1, hτb, lj_put_1, if_pos ⟨rfl, rfl⟩]
    rfl, trivial, by
    rw [flc, cnt0_ff]
    exact Nat.le_refl _⟩
  -- the three libraries
  have W3 : ∀ x, x < 4 → lstR root edge eph x := fun x hx => cl.1 x (by rw [hroot]; exact Or.inl hx)
  obtain ⟨τd, Qd, d1, d2⟩ := m_r4 hn mkc (o := 1) (by omega) (by omega) (W3 1 (by omega))
  obtain ⟨τe, Qe, e1, e2⟩ := m_r4 hn d2.1 (o := 2) (by omega) (by omega) (W3 2 (by omega))
  obtain ⟨τf, Qf, f1, f2⟩ := m_r4 hn e2.1 (o := 3) (by omega) (by omega) (W3 3 (by omega))
  have v3 := (d2.tr e2).tr f2
  have ff : lf gKM τ τf := fc.tr (v3.2.1.mo (fun _ _ q => gRM_K q))
  -- values of the globals
  have cf : ∀ k j, k ≠ 96 → k ≠ 97 → k ≠ 98 → k ≠ 99 → k ≠ 100 → k ≠ 0 → τf.1 k j = τ.1 k j ∧ τf.2 k j = τ.2 k j := fun k j z1 z2 z3 z4 z5 z6 => gM_o ff (by omega)
  have ew : ∀ x, vlM τf x = vlM τ x := fun x => by unfold vlM enM; rw [(cf 47 x (by omega) (by omega) (by omega) (by omega) (by omega) (by omega)).1, (cf 48 x (by omega) (by omega) (by omega) (by omega) (by omega) (by omega)).2]
  have e50 : lv τf 50 = lv τ 50 := by funext j; unfold lv; rw [(cf 50 j (by omega) (by omega) (by omega) (by omega) (by omega) (by omega)).1]
  have tm0 : tm 0 = 2001 := rfl
  have ed0 : ∀ q ∈ P 0, σ.1 68 q ≠ 0 → ov (vlC σ q) ≠ 0 → edge 0 (ov (vlC σ q)) := fun q hq z y => by
    rw [hedge]
    exact Or.inl ⟨h.2.2.2.2.2.2.1.2, Or.inr ⟨q, hq, z, y, Or.inr ⟨Or.inl (mdX_0 h.2.1.2.2.2 P), rfl⟩⟩⟩
  have lg := (hX.2.2.1.1.1 (tm 0) (tm_V (Nat.zero_le n))).1
  rw [tm0] at lg
  obtain ⟨τg, Qg, g1, g2⟩ := m_glob hn (W := lstR root edge eph) (P' 2001) (τf.1 40 2001) τf Qf (by rw [e50, (cf 40 2001 (by omega) (by omega) (by omega) (by omega) (by omega) (by omega)).1]; exact lg) (fun q hq => by
    obtain ⟨b1, _, q', b3, _, b5⟩ := hX.qp (Nat.zero_le n) (by rw [tm0]; exact hq)
    refine ⟨b1, ?_⟩
    rw [ew]
    by_cases z : τ.1 47 q = 0
    · exact gm_k (by show ¬ (τ.1 47 q = 4 ∨ τ.1 47 q = 5 ∨ τ.1 47 q = 6); rw [z]; decide)
    · obtain ⟨w1, w2, w3, w4⟩ := b5 z
      exact ⟨w3, w4, fun y => by rw [w2] at y ⊢; exact cl.2.1 0 _ (W3 0 (by omega)) (ed0 q' b3 w1 y)⟩) f2.1
  have vg := v3.tr g2
  have fg : lf gKM τ τg := fc.tr (vg.2.1.mo (fun _ _ q => gRM_K q))
  -- parts
  obtain ⟨τh, h1, h2, h3, h4⟩ := m_p97 np25 (np + 1) 0 τg (by omega) (by rw [(gM_o fg (k := 0) (j := 110) (by omega)).1]; exact h.2.2.2.1.1.2.1)
  have lh : lf gKM τg τh := fun k j z => ⟨h2 k j (by unfold gKM at z; simp at z; omega), by rw [h3]⟩
  have fh : lf gKM τ τh := fg.tr lh
  have ch : ∀ k j, k ≠ 97 → τh.1 k j = τg.1 k j := fun k j z => h2 k j (by omega)
  have flh : flg n 96 τh = flg n 96 τg := by funext x; unfold flg; rw [ch 96 x (by omega)]
  have mkh : wqM n τh Qg := ⟨by rw [ch 0 157 (by omega)]; exact g2.1.1, pil_cg g2.1.2.1 (fun j _ => ch 98 j (by omega)), by rw [flh]; exact g2.1.2.2⟩
  have WLa : ∀ o ∈ La, lstR root edge eph o := fun o ho => cl.1 o (by rw [hroot]; exact Or.inr (Or.inl ho))
  obtain ⟨gc1, gc2⟩ := gaC_gc (W := lstR root edge eph) (n := n) (La := La) (by omega) (fun i hi => by
    have m := getD_me (l := La) hi
    have w := hLa _ m
    have := w.2.2.1
    exact ⟨h95 i hi, w.1, by omega, WLa _ m⟩) gac (Nat.le_refl _)
  have cgh : ∀ k j, k = 84 ∨ k = 85 ∨ k = 95 → τh.1 k j = τ.1 k j := fun k j z => (gM_o fh (by omega)).1
  obtain ⟨τi, Qi, i1, i2, i3, i4⟩ := m_prts (τ0 := τ0) (n := n) (np := np) (p := p) (r := r) (FP := FP) (ρ := ρ) (P := P) (B := B) (Fr := Fr) (P' := P') (B' := B') (Fr' := Fr') (W := lstR root edge eph) (np + 1) 0 τh Qg (by omega) (h.cg (lf_rf _ σ) fh) (fun u hu => ⟨fun u0 => by
    obtain ⟨o, o1, o2, o3, o4, _⟩ := h.2.2.2.1.2.2.2.2.2.2.2.2.2.2.1.1 u (by omega) (h.al hu).1
    refine ⟨o, o3, by rw [(gM_o fh (k := 59) (j := u) (by omega)).1]; exact o4, o1, o2, cl.1 o ?_⟩
    rw [hroot]
    exact Or.inr (Or.inr (Or.inl ⟨u, hu, u0, o3, by omega, by omega⟩)), fun x hx => cl.1 x (by rw [hroot]; exact Or.inr (Or.inr (Or.inr ⟨u, hu, hx⟩))), gcF_cg cgh (gc1 u hu)⟩) (fun u _ u2 => h4 u (Nat.zero_le _) u2) (fun u u1 u2 => absurd (h4 u (Nat.zero_le _) u1) u2) mkh
  have fi : lf gKM τ τi := fh.tr i2.2.1
  have rgi : rgN n (fun x => lstR root edge eph x ∧ x ≠ 0) (fun _ => false) [] (flg n 96 τi) Qi := by
    have w1 := vg.2.2.1
    rw [flc] at w1
    have w2 := i2.2.2.1
    rw [flh] at w2
    exact w1.tr w2
  -- all that waits
  have bki : bkI σ τi n P P' Bk := by
    have e : ∀ k j, k = 45 ∨ k = 46 ∨ k = 47 ∨ k = 99 ∨ k = 100 → τi.1 k j = τc.1 k j ∧ τi.2 k j = τc.2 k j := fun k j z => by
      obtain ⟨y1, y2⟩ := i4 k j (by omega) (by omega) (by omega) (by omega)
      have y3 : τh.2 k j = τg.2 k j := by rw [h3]
      obtain ⟨y4, y5⟩ := vg.2.1 k j (by unfold gRM; simp; omega)
      exact ⟨y1.trans ((ch k j (by omega)).trans y4), y2.trans (y3.trans y5)⟩
    exact bkI_cg c3 (fun _ => rfl) (fun _ => rfl) (fun k j z => e k j (by omega)) (fun j z => by rw [← (e 47 j (by omega)).1]; exact z)
  have hp : ∀ t k v, eph t k v ↔ epX σ P t k v := fun t k v => by rw [heph]
  have inQ : ∀ x, flg n 96 τi x = true → x ∈ Qi := fun x y => by
    obtain ⟨N, n1, n2, _⟩ := rgi
    rw [List.append_nil] at n1
    rcases (n2 x).1 y with z | z
    · cases z
    · rw [n1]; exact z
  have qW : ∀ x ∈ Qi, (lstR root edge eph x ∧ x ≠ 0) ∧ x ≤ n ∧ flg n 96 τi x = true := fun x hx => by
    obtain ⟨N, n1, n2, _, n4⟩ := rgi
    rw [List.append_nil] at n1
    rw [n1] at hx
    exact ⟨(n4 x hx).2.2, (n4 x hx).2.1, (n2 x).2 (Or.inr hx)⟩
  have zero : ∀ o, fl0 n τi o = true → o ∉ Qi → o = 0 := fun o y z => by
    unfold fl0 at y
    simp only [Bool.or_eq_true, beq_iff_eq] at y
    rcases y with y | y
    · exact absurd (inQ o y) z
    · exact y
  have up : ∀ x, flg n 96 τi x = true → fl0 n τi x = true := fun x y => by unfold fl0; rw [y]; rfl
  -- what the globals lead to is flagged
  have e0 : ∀ x, edge 0 x → fl0 n τi x = true := fun x hx => by
    rw [hedge] at hx
    rcases hx with ⟨_, hx⟩ | ⟨z, _⟩ | ⟨z, _⟩
    · rcases hx with ⟨x0, z⟩ | ⟨q, hq, z, x0, w⟩
      · exfalso
        unfold lv at z
        rw [h.2.1.2.2.2.1] at z
        have : (-1 : Int32).toInt = -1 := by decide
        omega
      · rcases w with ⟨_, w⟩ | ⟨_, w⟩
        · exfalso
          refine x0 (w.trans (ov_k ?_))
          show ¬ (σ.1 66 q = 4 ∨ σ.1 66 q = 5 ∨ σ.1 66 q = 6)
          rw [hX.2.2.2.1.2.1 q hq]
          decide
        · obtain ⟨q', b1, b2, b3, b4⟩ := hX.pq (Nat.zero_le n) hq z
          rw [tm0] at b1
          refine up x (i2.up ?_)
          rw [flh]
          exact g2.2.2.2 x ⟨x0, q', b1, by rw [ew, b4]; exact w⟩
    · rw [h.2.2.2.2.2.2.1.2] at z; exact absurd z (by decide)
    · rw [h.2.2.2.2.2.2.1.2] at z; exact absurd z (by decide)
  have wl : wlI root edge eph n (fl0 n τi) Qi := by
    refine ⟨fun x y => ?_, fun x hx => up x (qW x hx).2.2, fun o y z x e => ?_, fun t k v y z _ _ e => ?_, ?_⟩
    · by_cases z : x ∈ Qi
      · exact ⟨(qW x z).1.1, (qW x z).2.1⟩
      · rw [zero x y z]; exact ⟨W3 0 (by omega), Nat.zero_le _⟩
    · rw [zero o y z] at e; exact e0 x e
    · rw [zero t y z] at e
      have := ((hp 0 k v).1 e).2.1
      rw [mdX_0 h.2.1.2.2.2] at this
      omega
    · obtain ⟨N, n1, _, n3, _⟩ := rgi
      rw [List.append_nil] at n1
      rw [n1]; exact n3
  have gno : ∀ q, q ≤ np → q ∉ p :: r → τ.1 58 q ≠ 4 → ∀ F ∈ FP q, kS F ≠ 2 := fun q q1 q2 q3 F hF => by
    rcases h.2.2.2.1.2.2.2.2.2.2.2.2.2.2.2 q q1 q2 with ⟨_, _, w, _⟩ | ⟨_, _, _, w⟩ | ⟨w, _⟩
    · rw [w] at hF; cases hF
    · exact w F hF
    · exact absurd w q3
  have cgi : ∀ k j, k = 84 ∨ k = 85 ∨ k = 95 → τi.1 k j = τ.1 k j := fun k j z => (gM_o fi (by omega)).1
  obtain ⟨τk, k1, k2, k3, k4, k5, k6⟩ := m_rall (τ0 := τ0) (σ := σ) (n := n) (np := np) (p := p) (r := r) (FP := FP) (ρ := ρ) (P := P) (B := B) (Fr := Fr) (P' := P') (B' := B') (Fr' := Fr') (Bk := Bk) (root := root) (edge := edge) (eph := eph) hp okW (cnt0 (flg n 96 τi) n + Qi.length) τi Qi (.retAddr 0) (Nat.le_refl _) (h.cg (lf_rf _ σ) fi) bki (fun o x => by rw [hedge]; exact (edX_gK (lf_rf _ σ) fi p FP P o x).symm) (fun q q1 q2 => by
    by_cases z : q ∈ p :: r
    · exact gcF_cg cgi (gc1 q z)
    · exact gcF_no (gno q q1 z (by rw [← (gM_o fi (k := 58) (j := q) (by omega)).1]; exact q2))) i3 i2.1 wl (fun x hx => (qW x hx).1.2)
  have lk' : lf gKM τi τk := fun k j z => by
    unfold gKM at z
    simp at z
    exact k5 k j (by omega) (by omega) (by omega) (by omega)
  have upk : ∀ x, fl0 n τi x = true → fl0 n τk x = true := fun x y => by
    unfold fl0 at y ⊢
    simp only [Bool.or_eq_true] at y ⊢
    exact y.imp (k6 x) id
  refine ⟨τk, Bk, ?_, fi.tr lk', k2, bkI_cg bki (fun _ => rfl) (fun _ => rfl) (fun k j z => k5 k j (by omega) (by omega) (by omega) (by omega)) (fun j z => by rw [← (k5 47 j (by omega) (by omega) (by omega) (by omega)).1]; exact z), k4, k3, fun x hx => upk x ?_⟩
  · have a1 : lj_D lm_P lm_M207 2 [.ref 0, .int 0] [] τ = _ := a1
    have d1 : lj_R lm_P 210 [.ref 0, .int 4, .long 1] τc = some (.inl none, τd) := d1
    have e1 : lj_R lm_P 210 [.ref 0, .int 4, .long 2] τd = some (.inl none, τe) := e1
    have f1 : lj_R lm_P 210 [.ref 0, .int 4, .long 3] τe = some (.inl none, τf) := f1
    have g1 : lj_D lm_P lm_M207 62 [.ref 0, .int (τf.1 40 (2001 : Int32).toNatClampNeg)] [] τf = _ := g1
    have h1 : lj_D lm_P lm_M207 94 [.ref 0, .int 0] [] τg = _ := h1
    have i1 : lj_D lm_P lm_M207 117 [.ref 0, .int 0] [] τh = _ := i1
    rw [rm_207, km_207_0, a1, km_207_2, if_pos (by decide), ← hτb, c1, bv_ok, d1, bv_ok, e1, bv_ok, f1, bv_ok, if_pos (by decide), g1, h1, i1, rm_212, k1, bv_ok]
  · rw [hroot] at hx
    rcases hx with hx | hx | ⟨q, hq, q0, y1, y2, y3⟩ | ⟨q, hq, hx⟩
    · by_cases z : x = 0
      · unfold fl0; rw [z]; simp
      · refine up x (i2.up ?_)
        rw [flh]
        have : x = 1 ∨ x = 2 ∨ x = 3 := by omega
        rcases this with w | w | w
        · exact vg.2.2.2 x (Or.inl (Or.inl (Or.inl w)))
        · exact vg.2.2.2 x (Or.inl (Or.inl (Or.inr w)))
        · exact vg.2.2.2 x (Or.inl (Or.inr w))
    · obtain ⟨i, j1, j2⟩ := List.getElem_of_mem hx
      have e : La.getD i 0 = x := by rw [List.getD_eq_getElem?_getD, List.getElem?_eq_getElem j1, j2]; rfl
      obtain ⟨u, u1, u2⟩ := gc2 i j1
      rw [e] at u2
      exact up x (i2.2.2.2 x ⟨u, u1, Nat.zero_le _, Or.inr (Or.inr ((gcX_cg cgh).2 u2))⟩)
    · exact up x (i2.2.2.2 x ⟨q, hq, Nat.zero_le _, Or.inl ⟨q0, y1, y2, y3⟩⟩)
    · exact up x (i2.2.2.2 x ⟨q, hq, Nat.zero_le _, Or.inr (Or.inl hx)⟩)
