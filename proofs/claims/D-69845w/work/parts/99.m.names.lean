/-! a name in a chain -/
/-- places that parsers change -/
def pC (k _j : Nat) : Bool := k == 5 || k == 6 || (decide (22 ≤ k) && decide (k ≤ 56))
def pM (k j : Nat) : Bool := (decide (12 ≤ k) && decide (k ≤ 37)) || (k == 0 && decide (25 ≤ j))
theorem pC_k {k j : Nat} (h : pC k j = false) : k ≠ 5 ∧ k ≠ 6 ∧ (k < 22 ∨ 56 < k) := by
  simp [pC] at h; omega
theorem pM_k {k j : Nat} (h : pM k j = false) : (k < 12 ∨ 37 < k) ∧ (k ≠ 0 ∨ j < 25) := by
  simp [pM] at h; omega
theorem TE_pp {b : Nat → Int32} {n T : Nat} {Q : tkQ} {σ τ σ' τ' : lj_S} (h : TE b n T Q σ τ) (f : lf pC σ σ') (g : lf pM τ τ') : TE b n T Q σ' τ' := by
  refine ⟨h.1, h.2.1, h.2.2.1, ⟨by rw [g.v (by rfl)]; exact h.2.2.2.1.1, fun i hi => by rw [(g 1 i rfl).1]; exact h.2.2.2.1.2 i hi⟩, fun t ht => ?_, h.2.2.2.2.2.1, h.2.2.2.2.2.2.1, slC_cg h.2.2.2.2.2.2.2.1 (f 0 8 rfl).1 (f 3 7 rfl).1 (fun j => (f 9 j rfl).1) (fun j => (f 10 j rfl).1) (fun j => (f 11 j rfl).1), slM_cg h.2.2.2.2.2.2.2.2 (g 0 14 rfl).1 (g 0 8 rfl).1 (fun j => (g 2 j rfl).1) (fun j => (g 3 j rfl).1) (fun j => (g 4 j rfl).1)⟩
  obtain ⟨t1, t2, t3, t4, t5, t6, t7, t8, t9, t10⟩ := h.2.2.2.2.1 t ht
  refine ⟨t1, by rw [(f 18 t rfl).1]; exact t2, by rw [(g 9 t rfl).1]; exact t3, fun q => by rw [(g 11 t rfl).2]; exact t4 q, t5, by rw [(f 19 t rfl).1]; exact t6, by rw [(g 10 t rfl).1]; exact t7, by rw [(f 20 t rfl).1]; exact t8, fun q => ?_, fun q => by rw [(f 21 t rfl).2, (g 11 t rfl).2]; exact t10 q⟩
  obtain ⟨u1, u2, u3, u4, u5⟩ := t9 q
  exact ⟨u1, u2, by rw [(f 21 t rfl).2]; exact u3, by rw [(g 11 t rfl).2]; exact u4, ⟨by rw [f.v (by rfl)]; exact u5.1, by rw [g.v (by rfl)]; exact u5.2.1, by rw [cS_cong (fun j => (f 9 j rfl).1) (fun j => (f 10 j rfl).1) (fun j => (f 11 j rfl).1), mS_cong (fun j => (g 2 j rfl).1) (fun j => (g 3 j rfl).1) (fun j => (g 4 j rfl).1)]; exact u5.2.2⟩⟩
theorem pM_g {τ τ' : lj_S} (g : lf pM τ τ') : lf gM τ τ' := g.mo (fun k j q => by simp [gM] at q; simp [pM]; omega)
theorem sR_pp {σ τ σ' τ' : lj_S} {X : List Int32 → Prop} (h : sR σ τ X) (f : lf pC σ σ') (g : lf pM τ τ') : sR σ' τ' X ∧ sG σ τ σ' τ' :=
  sR_dy h (f.mo (fun k j q => by simp [cDy] at q; simp [pC]; omega)) (g.mo (fun k j q => by simp [mDy] at q; simp [pM]; omega))
theorem nmC_at {σ : lj_S} : ∀ {N : List lT}, nmC σ N → ∀ z ∈ N, cpC σ z.1 z.2.2
  | z :: R, h, w, hw => by
    rcases List.mem_cons.1 hw with e | e
    · rw [e]; exact h.1.2.2.2.2.2
    · exact nmC_at h.2 w e
theorem nmM_at {τ : lj_S} : ∀ {N : List lT}, nmM τ N → ∀ z ∈ N, cpM τ z.1 z.2.2
  | z :: R, h, w, hw => by
    rcases List.mem_cons.1 hw with e | e
    · rw [e]; exact h.1.2.2.2.2.2
    · exact nmM_at h.2 w e
theorem lvX_at : ∀ {N N' : List lT}, lvX N N' → ∀ z ∈ N, ∃ z' ∈ N', z'.1 = z.1 ∧ z'.2.1 = z.2.1 ∧ z.2.2.length ≤ z'.2.2.length
  | z :: R, z' :: R', h, w, hw => by
    rcases List.mem_cons.1 hw with e | e
    · obtain ⟨t, ht⟩ := h.2.2.1
      exact ⟨z', List.mem_cons_self, by rw [e]; exact h.1, by rw [e]; exact h.2.1, by rw [e, ht]; simp⟩
    · obtain ⟨y, hy, q⟩ := lvX_at h.2.2.2 w e
      exact ⟨y, List.mem_cons_of_mem _ hy, q⟩
theorem lvS_X {σ : lj_S} : ∀ {N N' : List lT} {FO : List fT}, lvX N N' → lvS σ N FO → lvS σ N' FO
  | [], [], [], _, _ => trivial
  | z :: R, z' :: R', fl :: FO, h, g => ⟨by rw [h.1, h.2.1]; exact g.1, lvS_X h.2.2.2 g.2⟩
def aCx (k j : Nat) : Bool := aC k j || capC k j
def aMx (k j : Nat) : Bool := aM k j || capM k j
theorem LPr.upx {σ τ σ' τ' : lj_S} {Z : List zT} {PL : List qT} {c m : Nat} (h : LPr σ τ Z PL c m) (f : lf aCx σ σ') (g : lf aMx τ τ') (h21 : ∀ j, j < m → τ'.1 21 j = τ.1 21 j) : LPr σ' τ' Z PL c m := by
  obtain ⟨h1, h2, h3, h4, h5, h6, h7, h8, h9, h10, h11⟩ := h
  exact ⟨by rw [(f 6 10 rfl).1]; exact h1, by rw [(g 0 56 rfl).1]; exact h2, h3, by rw [(f 6 13 rfl).1]; exact h4, h5, by rw [(f 6 18 rfl).1]; exact h6, by rw [(g 0 60 rfl).1]; exact h7, h8, loA_cg (fun j => (f 50 j rfl).1) (fun j => (f 51 j rfl).1) (fun j => (f 52 j rfl).1) (fun j => (f 53 j rfl).1) (fun j => (g 33 j rfl).1) (fun j => (g 34 j rfl).1) h21 Z (fun x hx => (h11 x hx).2) h9, plA_cg (fun j => (f 54 j rfl).1) (fun j => (f 55 j rfl).1) (fun j => (f 56 j rfl).1) (fun j => (g 35 j rfl).1) (fun j => (g 36 j rfl).1) (fun j => (g 37 j rfl).1) PL h10, h11⟩
theorem PS.nm {b : Nat → Int32} {n T : Nat} {Q : tkQ} {X : List Int32 → Prop} {FO : List fT} {Z : List zT} {PL : List qT} {cl ml : Nat} {F : Nat} {N : List lT} {p v c m wh : Nat} {W : List wT} {σ τ : lj_S} (h : PS b n T Q X F N FO Z PL cl ml p v c m wh W σ τ) {N' : List lT} {σ' τ' τ'' : lj_S} (f : lf nmcC σ σ') (g : lf nmcM τ τ') (hNR : NR σ' τ' N') (hX : lvX N N') (oC : ouC N σ σ') (oM : ouM N τ τ') (g2 : lf aM τ' τ'') {p' : Nat} {W' : List wT} (hpp : p ≤ p') (hh : hnd p' v c m wh W' σ' τ'') (hb : bnd T p' v c m wh W'.length) (g24 : ∀ i, τ''.2 24 i = τ'.2 24 i) (h20 : ∀ k j, 20 ≤ k → k ≤ 23 → τ''.1 k j = τ'.1 k j) :
    PS b n T Q X F N' FO Z PL cl ml p' v c m wh W' σ' τ'' ∧ GR N N' F F p p' c c m m σ τ σ' τ'' := by
  obtain ⟨⟨h1, h2, h3, h4, h5, h6, h7⟩, hh0, hb0, hL, hcl, hml⟩ := h
  have fx : lf aCx σ σ' := f.mo (fun k j q => by simp [aCx, aC] at q; simp [nmcC]; refine ⟨q.2, fun e => ?_⟩; omega)
  have gx : lf aMx τ τ'' := (g.mo (fun k j q => by simp [aMx, aM] at q; simp [nmcM]; refine ⟨q.2, fun e => ?_⟩; omega)).tr (g2.mo (fun k j q => by simp only [aMx, Bool.or_eq_false_iff] at q; exact q.1))
  have fp : lf pC σ σ' := fx.mo (fun k j q => by have := pC_k q; simp [aCx, aC, capC]; omega)
  have gp : lf pM τ τ'' := gx.mo (fun k j q => by have := pM_k q; simp [aMx, aM, capM]; omega)
  obtain ⟨s1, s2⟩ := sR_pp h2 fp gp
  have hNR2 := NR_up hNR (lf_rf aC σ') g2
  have hq := lvX_q hX
  have l8 : lv σ' 5 8 = lv σ 5 8 := f.v rfl
  have l18 : lv σ' 5 18 = lv σ 5 18 := f.v rfl
  have l0 : lv σ' 5 0 = lv σ 5 0 := f.v rfl
  have l6 : lv σ' 5 6 = lv σ 5 6 := f.v rfl
  have oM2 : ouM N τ τ'' := oM.tr (ouM_lf N g2 (fun _ => rfl) (fun _ => rfl) (fun _ => rfl))
  have eq33 : ∀ q, q < F → σ'.1 33 q = τ''.1 15 q := fun q hqF => by
    by_cases e : q ∈ N.map (·.1)
    · rw [← hq] at e
      obtain ⟨z, hz, rfl⟩ := List.mem_map.1 e
      exact (nmC_at hNR2.1 z hz).1.trans (nmM_at hNR2.2.1 z hz).1.symm
    · rw [(oC q e).1, (oM2 q e).1]
      exact (h4.2.2.2 q hqF).2.2.2.1
  have mo33 : ∀ q : Nat, lv σ 33 q ≤ lv σ' 33 q := fun q => by
    by_cases e : q ∈ N.map (·.1)
    · obtain ⟨z, hz, rfl⟩ := List.mem_map.1 e
      obtain ⟨z', hz', e1, e2, e3⟩ := lvX_at hX z hz
      have a1 := nmC_at h3.1 z hz
      have a2 := nmC_at hNR.1 z' hz'
      rw [e1] at a2
      unfold lv
      rw [a1.1, a2.1, lz_lit (by have := a1.2.1; omega), lz_lit (by have := a2.2.1; omega)]
      omega
    · unfold lv; rw [(oC q e).1]; exact Int.le_refl _
  refine ⟨⟨⟨TE_pp h1 fp gp, s1, hNR2, ⟨by rw [(f 5 8 rfl).1]; exact h4.1, by rw [(gx 0 34 rfl).1]; exact h4.2.1, h4.2.2.1, fun q hqF => ?_⟩, fun z hz => ?_, lvS_X hX (lvS_cg (fun k => (f 49 k rfl).1) (fun k => (f 32 k rfl).1) (fun k => (f 31 k rfl).1) (opA_cg (f 5 18 rfl).1 (fun k => (f 37 k rfl).1) (fun k => (f 38 k rfl).1) (fun k => (f 40 k rfl).1)) (fun q r => ksc_cg (f 5 18 rfl).1 (fun k => (f 47 k rfl).1) (fun k => (f 37 k rfl).1) (fun k => (f 38 k rfl).1) (fun k => (f 40 k rfl).1)) h6), ⟨⟨by rw [l18]; exact h7.1.1, opU_cg (f 5 18 rfl).1 (fun k => (f 37 k rfl).1) (fun k => (f 38 k rfl).1) (fun k => (f 40 k rfl).1) h7.1.2⟩, fun k hk => ?_⟩⟩, hh, hb, hL.upx fx gx (fun j hj => by rw [h20 21 j (by omega) (by omega)]; exact (g 21 j rfl).1), ⟨hcl.1, ⟨by rw [l18]; have := hcl.2.1.1; omega, Nat.le_trans hcl.2.1.2.1 hpp, fun x hx => by rw [l8]; exact hcl.2.1.2.2 x hx⟩, hcl.2.2.X hX⟩, hml⟩, ⟨s2, by omega, by omega, by omega, by omega, fun i _ => ⟨(f 27 i rfl).2, by rw [g24]; exact (g 24 i rfl).2⟩, fun q _ => ⟨(f 28 q rfl).1, (f 29 q rfl).1, ⟨(gx 12 q rfl).1, (gx 13 q rfl).1⟩, ⟨by rw [f.v (k := 32) (j := q) rfl]; exact Int.le_refl _, by rw [f.v (k := 31) (j := q) rfl]; exact Int.le_refl _⟩, mo33 q⟩, fun q _ hqN => ⟨(oC q hqN).1, (oM2 q hqN).1, fun i hi => ⟨((oC q hqN).2 i hi).1, ((oC q hqN).2 i hi).2, ((oM2 q hqN).2 i hi).1, ((oM2 q hqN).2 i hi).2⟩⟩, fun k _ => ⟨(f 37 k rfl).1, (f 38 k rfl).1, (f 39 k rfl).1, Or.inl (f 40 k rfl).1⟩, fun k a b => by omega, fp, pM_g gp⟩, hX, (Nat.le_refl _), hpp, (Nat.le_refl _), (Nat.le_refl _), fun k j a b _ _ => (f k j (by simp [nmcC, capC]; omega)).1, fun k j a b _ _ => by rw [h20 k j a b]; exact (g k j (by simp [nmcM, capM]; omega)).1⟩
  · have := h4.2.2.2 q hqF
    refine ⟨by rw [(f 31 q rfl).1, (gx 14 q rfl).1]; exact this.1, by rw [f.v rfl]; exact this.2.1, by rw [f.v rfl]; exact this.2.2.1, eq33 q hqF, ?_⟩
    rw [(f 30 q rfl).1, (gx 16 q rfl).1, (f 36 q rfl).1, (gx 17 q rfl).1]
    exact ⟨this.2.2.2.2.1, this.2.2.2.2.2.1, this.2.2.2.2.2.2.1, FX_cg (f 5 18 rfl).1 (fun k => (f 29 k rfl).1) (fun k => (f 31 k rfl).1) (fun k => (f 32 k rfl).1) (fun k => (f 37 k rfl).1) (fun k => (f 41 k rfl).1) (fun k => (f 42 k rfl).1) this.2.2.2.2.2.2.2⟩
  · have : z.1 ∈ N.map (·.1) := by rw [← hq]; exact List.mem_map.2 ⟨z, hz, rfl⟩
    obtain ⟨w, hw, e⟩ := List.mem_map.1 this
    rw [← e]; exact h5 w hw
  · rw [l18] at hk
    have := h7.2 k hk
    have e1 : lv σ' 39 k = lv σ 39 k := f.v rfl
    have e2 : lv σ' 40 k = lv σ 40 k := f.v rfl
    have e3 : lv σ' 37 k = lv σ 37 k := f.v rfl
    have e5 : lv σ' 38 k = lv σ 38 k := f.v rfl
    omega
