/-! called fors: variables come while values lie on the model's stack -/
theorem rfA_63 {τ : lj_S} {np n : Nat} {len : Nat → Nat} {p : Nat} (h : rfA τ np n len) (X : Int32) : rfA (lj_put τ 63 p X) np n len := by
  unfold rfA obF at h ⊢
  simpa [lj_put_1] using h
theorem rfM_63 {τ : lj_S} {np n : Nat} {len : Nat → Nat} {p x : Nat} (h : rfM τ np n len x) (X : Int32) : rfM (lj_put τ 63 p X) np n len x := by
  unfold rfM at h ⊢
  simpa [lj_put_1] using h
theorem MB.nlx {σ0 τ0 σ τ : lj_S} {n np p : Nat} {r : List Nat} {FP : Nat → List kF} {ρ : Nat → Nat} {A MO LA : List Nat} (h : MB σ0 τ0 n np p r FP ρ A MO LA σ τ) {F : kF} {L : List kF} (hF : FP p = F :: L) (h0 : kS F = 0) {ms ks ce me mq : Nat} (V : vw σ0 τ0 σ τ ρ FP p F L ms ks ce me mq) (X : Int32) {x : Nat} {u w : vT} (hx : x < nL σ0 (kY F).1) (hxl : x ∉ (kY F).2.2.2.2.1) (hv : vR σ τ u w) {l' : List Nat} (hl' : ∀ y, y ∈ l' ↔ y = x ∨ y ∈ (kY F).2.2.2.2.1) : ∃ τ' ρ', lj_R lm_P 150 [.ref 0, .int (Int32.ofNat (48 * p + L.length)), .int (Int32.ofNat x), .int w.1, .long w.2] (lj_put τ 63 p X) = some (.inl none, lj_put τ' 63 p X) ∧ lf (nlM (48 * p + L.length)) τ τ' ∧ MB σ0 τ0 n np p r (fpT FP p (kTo F (kY F).2.1 (kY F).2.2.1 (kY F).2.2.2.1 l' (kY F).2.2.2.2.2 0 0 :: L)) ρ' A MO LA (setC σ (kB F + x) u) τ' := by
  have B := V.bd
  have nl := V.ff.1
  have x50 : x < 50 := by omega
  have hls := h.ls
  obtain ⟨ra, ru⟩ := h.rfa
  have hcl := h.2.2.2.2.2.2.2.2.2.1
  obtain ⟨Fc, f1, f2, f3, f4⟩ := hcl.2.2.1
  obtain ⟨τx, c, Fc', e1, ⟨e2, e2'⟩, e3, e4, e5, e6⟩ := m_cell (rfA_63 ra X) (fcM_cg (fun j => by rw [lj_put_1, if_neg (by omega)]) f1) (show lv (lj_put τ 63 p X) 0 96 = (Fc.length : Int) by unfold lv; rw [lj_put_1, if_neg (by omega)]; exact f2) f3 (fun c hc => (f4 c hc).1) w
  obtain ⟨τc, hτc⟩ : ∃ y, y = lj_put τx 63 p (τ.1 63 p) := ⟨_, rfl⟩
  have cx : ∀ k j, ¬ (k = 63 ∧ j = p) → τc.1 k j = τx.1 k j := fun k j z => by rw [hτc, lj_put_1, if_neg z]
  have cy : ∀ k j, τc.2 k j = τx.2 k j := fun k j => by rw [hτc]; rfl
  have ex : τx = lj_put τc 63 p X := by
    have q := (e2 63 p (by simp)).1
    rw [lj_put_1, if_pos ⟨rfl, rfl⟩] at q
    have i := put_id τx 63 p
    rw [q] at i
    rw [hτc, put_put]
    exact i.symm
  have e2 : lf (fun k j => k == 56 || k == 57 || (k == 0 && j == 96) || ((k == 54 || k == 55) && j == c)) τ τc := fun k j q => by
    obtain ⟨a1, a2⟩ := e2 k j q
    refine ⟨?_, by rw [cy]; exact a2⟩
    by_cases z : k = 63 ∧ j = p
    · rw [hτc, lj_put_1, if_pos z, z.1, z.2]
    · rw [cx k j z, a1, lj_put_1, if_neg z]
  have e2' : (τc.1 54 c, τc.2 55 c) = w := by rw [cx 54 c (by omega), cy]; exact e2'
  have e3 : fcM τc Fc' := fcM_cg (fun j => cx 57 j (by omega)) e3
  have e4 : lv τc 0 96 = (Fc'.length : Int) := by unfold lv; rw [cx 0 96 (by omega)]; exact e4
  have e6 := fun (x : Nat) (hx : x ∈ c :: Fc') => And.intro (e6 x hx).1 ((e6 x hx).2.imp_right (fun z y => z (rfM_63 y X)))
  rw [ex] at e1
  have ec : (50 : Int32) * Int32.ofNat (48 * p + L.length) + Int32.ofNat x = Int32.ofNat (50 * (48 * p + L.length) + x) := by rw [show (50 : Int32) = Int32.ofNat 50 from rfl, ← Int32.ofNat_mul, ← Int32.ofNat_add]
  have oC : ∀ k j, k ≠ 54 → k ≠ 55 → k ≠ 56 → k ≠ 57 → ¬ (k = 0 ∧ j = 96) → τc.1 k j = τ.1 k j ∧ τc.2 k j = τ.2 k j := fun k j z1 z2 z3 z4 z5 => e2 k j (by simp; omega)
  have gM : lf (nlM (48 * p + L.length)) τ (lj_put τc 87 (50 * (48 * p + L.length) + x) (Int32.ofNat c)) := lf_put (e2.mo (fun k j q => by unfold nlM at q; simp at q ⊢; omega)) 87 _ _ (by unfold nlM; simp; omega)
  have a3 : kB F + x < 325000 := by omega
  have lsp : ∀ y, lsL (FP p) (kB F + y) → y ∈ (kY F).2.2.2.2.1 ∨ nL σ0 (kY F).1 ≤ y := fun y w => by
    rw [hF] at w
    obtain ⟨G, hG, wG⟩ := w
    rcases List.mem_cons.1 hG with e | e
    · rw [e] at wG
      obtain ⟨_, z, hz, ez⟩ := wG
      left
      rw [show y = z by omega]
      exact hz
    · have := (prt_rg V.2.1).2 _ ⟨G, e, wG⟩
      omega
  have nlv : ∀ q, ¬ lsL (FP q) (kB F + x) := fun q w => by
    have w1 := hls q _ w
    have : q = p := by omega
    rw [this] at w
    rcases lsp x w with z | z
    · exact hxl z
    · omega
  have f : lf (rzC p (20 * p + L.length) (kC F)) σ (setC σ (kB F + x) u) := fun k j q => setC_o σ _ u k j (by
    unfold rzC at q
    simp at q
    constructor
    · intro z
      have := q.1.1.1.1.2
      omega
    · omega)
  have g : lf (rzM p (48 * p + L.length) ms ks) τ (lj_put τc 87 (50 * (48 * p + L.length) + x) (Int32.ofNat c)) := gM.mo (fun k j q => by
    unfold rzM at q
    unfold nlM
    simp at q ⊢
    omega)
  have vC : ∀ k j, vqC k j = true → (setC σ (kB F + x) u).1 k j = σ.1 k j := fun k j q => (rz_eq f (by unfold vqC at q; simp at q; omega)).1
  have vM : ∀ k j, vqM k j = true → (lj_put τc 87 (50 * (48 * p + L.length) + x) (Int32.ofNat c)).1 k j = τ.1 k j := fun k j q => (rz_eqM g (by unfold vqM at q; simp at q; omega)).1
  have cS : ∀ k j, (k ≠ 79 ∧ k ≠ 80 ∧ k ≠ 75 ∧ k ≠ 76) ∨ (k ≠ 75 ∧ k ≠ 76 ∧ j ≠ kB F + x) → (setC σ (kB F + x) u).1 k j = σ.1 k j ∧ (setC σ (kB F + x) u).2 k j = σ.2 k j := fun k j z => setC_o σ _ u k j (by omega)
  have mS : ∀ k j, k ≠ 54 → k ≠ 55 → k ≠ 56 → k ≠ 57 → ¬ (k = 0 ∧ j = 96) → ¬ (k = 87 ∧ j = 50 * (48 * p + L.length) + x) → (lj_put τc 87 (50 * (48 * p + L.length) + x) (Int32.ofNat c)).1 k j = τ.1 k j ∧ (lj_put τc 87 (50 * (48 * p + L.length) + x) (Int32.ofNat c)).2 k j = τ.2 k j := fun k j z1 z2 z3 z4 z5 z6 => ⟨by rw [lj_put_1, if_neg z6]; exact (oC k j z1 z2 z3 z4 z5).1, (oC k j z1 z2 z3 z4 z5).2⟩
  have hf : ∀ q b, lsL (fpT FP p (kTo F (kY F).2.1 (kY F).2.2.1 (kY F).2.2.2.1 l' (kY F).2.2.2.2.2 0 0 :: L) q) b ↔ lsL (FP q) b ∨ q = p ∧ b = kB F + x := fun q b => by
    by_cases z : q = p
    · rw [z, fpT_o, hF]
      constructor
      · rintro ⟨G, hG, wG⟩
        rcases List.mem_cons.1 hG with e | e
        · rw [e] at wG
          obtain ⟨_, y, hy, ey⟩ := wG
          rcases (hl' y).1 hy with w | w
          · right; exact ⟨rfl, by rw [ey, w]; rfl⟩
          · left; exact ⟨F, List.mem_cons_self, h0, y, w, ey⟩
        · left; exact ⟨G, List.mem_cons_of_mem _ e, wG⟩
      · rintro (⟨G, hG, wG⟩ | ⟨_, w⟩)
        · rcases List.mem_cons.1 hG with e | e
          · rw [e] at wG
            obtain ⟨_, y, hy, ey⟩ := wG
            exact ⟨_, List.mem_cons_self, rfl, y, (hl' y).2 (Or.inr hy), ey⟩
          · exact ⟨G, List.mem_cons_of_mem _ e, wG⟩
        · exact ⟨_, List.mem_cons_self, rfl, x, (hl' x).2 (Or.inl rfl), w⟩
    · unfold fpT
      rw [if_neg z]
      exact ⟨Or.inl, fun w => w.resolve_right (fun y => z y.1)⟩
  obtain ⟨t5, t6, t7, t8, t10⟩ := V.2.2.2.2.1.2.2.2.2.1
  have gcl := hcl.new (σ' := setC σ (kB F + x) u) (τ' := lj_put τc 87 (50 * (48 * p + L.length) + x) (Int32.ofNat c)) (p := p) (a := kB F + x) (c := c) h.2.2.2.1.1 (fun a b z => z.cg vC vM) (fun k j z => (setC_o σ _ u k j (by omega)).1) (fun j => (setC_o σ _ u 76 j (by omega)).2) (fun q s z => by
      have ne : s ≠ kB F + x := fun y => nlv q (by rw [← y]; exact z)
      unfold cv
      rw [(cS 79 s (by omega)).1, (cS 80 s (by omega)).2, (cS 81 s (by omega)).1]
      exact ⟨rfl, rfl⟩) (fun k j z => (mS k j (by omega) (by omega) (by omega) (by omega) (by omega) (by omega)).1) (by rw [h.2.2.2.2.2.2.1.2.2.1.2]; decide) (fun y z => by
      have := e2 54 y (by simp; exact z)
      have := e2 55 y (by simp; exact z)
      exact ⟨by rw [lj_put_1, if_neg (by omega)]; exact (e2 54 y (by simp; exact z)).1, (e2 55 y (by simp; exact z)).2⟩) hf a3 nlv (e6 c List.mem_cons_self).1 (fun b w => by
      rcases (e6 c List.mem_cons_self).2 with z | z
      · exact (f4 c z).2 b w
      · intro y; exact z (by rw [← y]; exact ru b w)) (Fc := Fc') (fcM_cg (fun j => by rw [lj_put_1, if_neg (by omega)]) e3) (by unfold lv; rw [lj_put_1, if_neg (by omega)]; exact e4) e5 (fun y hy => ⟨(e6 y (List.mem_cons_of_mem _ hy)).1, fun b w => by
      rcases (e6 y (List.mem_cons_of_mem _ hy)).2 with z | z
      · exact (f4 y z).2 b w
      · intro e; exact z (by rw [← e]; exact ru b w)⟩) (by rw [(cS 81 _ (by omega)).1]; exact t7 x hx hxl) (by
      have ev := vaC_s σ (kB F + x) u
      unfold vaC at ev
      rw [if_pos a3] at ev
      rw [ev, lj_put_1, if_neg (by omega)]
      show vR _ _ u (τc.1 54 c, τc.2 55 c)
      rw [e2']
      exact hv.cg vC vM)
  have gfr := frm_re V h0 (ρ' := fun b => if b = kB F + x then c else ρ b) f g (c' := (kY F).2.1) (m' := (kY F).2.2.1) (dd' := (kY F).2.2.2.2.2) (n' := 0) (w' := 0) (ce' := ce) (me' := me) (mq' := mq) (s' := (kY F).2.2.2.1) (l' := l') (by rw [(cS 94 _ (by omega)).1]; exact V.2.2.2.2.1.1.2.2.2.1) (by rw [(mS 77 _ (by omega) (by omega) (by omega) (by omega) (by omega) (by omega)).1]; exact V.2.2.2.2.1.2.1.2.2.2.1) (fun j w1 w2 => ⟨(cS 79 j (by omega)).1, (cS 80 j (by omega)).2, (cS 81 j (by omega)).1⟩) (fun j w => ⟨(mS 71 _ (by omega) (by omega) (by omega) (by omega) (by omega) (by omega)).1, (mS 72 _ (by omega) (by omega) (by omega) (by omega) (by omega) (by omega)).2⟩) (by
      rw [(cS 97 _ (by omega)).1]
      exact stk_cg (fun a b z => z.cg vC vM) V.st (fun j z => ⟨(cS 79 j (by omega)).1, (cS 80 j (by omega)).2, (cS 81 j (by omega)).1⟩) (fun j z => ⟨(cS 79 j (by omega)).1, (cS 80 j (by omega)).2⟩) (fun j z => ⟨(mS 71 _ (by omega) (by omega) (by omega) (by omega) (by omega) (by omega)).1, (mS 72 _ (by omega) (by omega) (by omega) (by omega) (by omega) (by omega)).2⟩) (fun j z => (mS 73 _ (by omega) (by omega) (by omega) (by omega) (by omega) (by omega)).1)) ⟨fun y hy => ?_, fun y y1 y2 => ?_, fun y y1 y2 => ?_, fun i hi => ?_, t10⟩ nl.2.2.2.1 (Or.inl ⟨rfl, rfl⟩) (fun z => absurd rfl z)
  · refine ⟨lj_put τc 87 (50 * (48 * p + L.length) + x) (Int32.ofNat c), _, ?_, gM, h.rf hF h0 V (F' := kTo F (kY F).2.1 (kY F).2.2.1 (kY F).2.2.2.1 l' (kY F).2.2.2.2.2 0 0) rfl rfl rfl f g (ρ' := fun b => if b = kB F + x then c else ρ b) (fun q a w => ?_) gcl gfr (by rw [(cS 8 8 (by omega)).1]; exact V.tp) (by rw [(mS 63 p (by omega) (by omega) (by omega) (by omega) (by omega) (by omega)).1]; exact V.at.2.2.1) (by rw [(mS 64 p (by omega) (by omega) (by omega) (by omega) (by omega) (by omega)).1]; exact V.at.2.2.2.2.1) (by omega) (by omega) (by omega) (fun j z => by rw [(cS 81 j (by omega)).1]; exact h.2.2.2.2.2.2.2.2.2.2.2.2.1 j (fun q w => z q ((hf q j).2 (Or.inl w))))⟩
    · rw [rm_150, km_150_0, e1, bi_ok, ec, if_pos (ofN_in (by omega) (by omega)), lz_onat (by omega), put_cm _ _ _ (by omega)]
    · show (if a = kB F + x then c else ρ a) = ρ a
      rw [if_neg (fun y => ?_)]
      rw [y] at w
      by_cases z : q = p
      · rw [z, fpT_o] at w
        have := (prt_rg V.2.1).2 _ w
        omega
      · unfold fpT at w
        rw [if_neg z] at w
        exact nlv q w
  · show y < _ ∧ _ = Int32.ofNat (if kB F + y = kB F + x then c else ρ (kB F + y))
    by_cases z : y = x
    · rw [z, if_pos rfl, lj_put_1, if_pos ⟨rfl, rfl⟩]
      exact ⟨hx, rfl⟩
    · rw [if_neg (by omega), (mS 87 _ (by omega) (by omega) (by omega) (by omega) (by omega) (by omega)).1]
      exact t5 y (((hl' y).1 hy).resolve_left z)
  · have z : y ≠ x := fun z => y2 ((hl' y).2 (Or.inl z))
    rw [(mS 87 _ (by omega) (by omega) (by omega) (by omega) (by omega) (by omega)).1]
    exact t6 y y1 (fun w => y2 ((hl' y).2 (Or.inr w)))
  · have z : y ≠ x := fun z => y2 ((hl' y).2 (Or.inl z))
    rw [(cS 81 _ (by omega)).1]
    exact t7 y y1 (fun w => y2 ((hl' y).2 (Or.inr w)))
  · rw [(cS 81 _ (by omega)).1]
    exact t8 i hi
/-- many variables come -/
theorem x_fst {σ0 τ0 σ τ : lj_S} {n np p : Nat} {r : List Nat} {FP : Nat → List kF} {ρ : Nat → Nat} {A MO LA : List Nat} {F : kF} {L : List kF} {c m dd : Nat} {s l : List Nat} (h : MB σ0 τ0 n np p r (fpT FP p (kTo F c m s l dd 0 0 :: L)) ρ A MO LA σ τ) {x k me : Nat} (u : Nat → vT) (hk : x + k ≤ 50) (hx : x + k ≤ nL σ0 (kY F).1) (hl : ∀ y ∈ l, y < x) (hme : me + k < 10000) (hv : ∀ i, i < k → vR σ τ (u i) (mv τ (10000 * p + (me + i)))) (X x2 x3 : Int32) : ∀ j, j ≤ k → ∃ τ' ρ', lj_D lm_P lm_M176 94 [.ref 0, .int (Int32.ofNat (48 * p + L.length)), .int x2, .int x3, .int (Int32.ofNat k), .int (Int32.ofNat x), .int (Int32.ofNat (10000 * p + me)), .int 0] [] (lj_put τ 63 p X) = lj_D lm_P lm_M176 94 [.ref 0, .int (Int32.ofNat (48 * p + L.length)), .int x2, .int x3, .int (Int32.ofNat k), .int (Int32.ofNat x), .int (Int32.ofNat (10000 * p + me)), .int (Int32.ofNat j)] [] (lj_put τ' 63 p X) ∧ lf (nlM (48 * p + L.length)) τ τ' ∧ MB σ0 τ0 n np p r (fpT FP p (kTo F c m s (((List.range j).map (x + ·)).reverse ++ l) dd 0 0 :: L)) ρ' A MO LA (sL (kB F + x) u σ j) τ'
  | 0, _ => ⟨τ, ρ, rfl, lf_rf _ _, h⟩
  | j + 1, hj => by
    obtain ⟨τ1, ρ1, e1, e2, e3⟩ := x_fst h u hk hx hl hme hv X x2 x3 j (by omega)
    have fo := fpT_o FP p (kTo F c m s (((List.range j).map (x + ·)).reverse ++ l) dd 0 0 :: L)
    obtain ⟨ms1, ks1, ce1, me1, mq1, V1⟩ := e3.w fo rfl
    have B1 := V1.bd
    have B1 : _ ∧ _ := B1
    have b3 : kB F + x + j < 325000 := by
      have nl := V1.ff.1
      have B2 := V1.bd
      have : kB (kTo F c m s (((List.range j).map (x + ·)).reverse ++ l) dd 0 0) = kB F := rfl
      have : nL σ0 (kY (kTo F c m s (((List.range j).map (x + ·)).reverse ++ l) dd 0 0)).1 = nL σ0 (kY F).1 := rfl
      omega
    have p26 : p < 26 := by have := V1.bd; omega
    have ni : x + j ∉ ((List.range j).map (x + ·)).reverse ++ l := fun z => by
      rcases List.mem_append.1 z with z | z
      · obtain ⟨i, hi, ei⟩ := List.mem_map.1 (List.mem_reverse.1 z)
        have := List.mem_range.1 hi
        omega
      · have := hl _ z
        omega
    have vC : ∀ k i, vqC k i = true → (sL (kB F + x) u σ j).1 k i = σ.1 k i := fun k i q => (sL_o _ _ _ k i j (by omega) (by unfold vqC at q; simp at q; omega)).1
    have vM : ∀ k i, vqM k i = true → τ1.1 k i = τ.1 k i := fun k i q => (e2 k i (by unfold vqM at q; unfold nlM; simp at q ⊢; omega)).1
    obtain ⟨τ2, ρ2, a1, a2, a3⟩ := MB.nlx e3 fo rfl V1 X (x := x + j) (u := u j) (w := mv τ (10000 * p + (me + j))) (show x + j < nL σ0 (kY F).1 by omega) ni ((hv j (by omega)).cg vC vM) (l' := ((List.range (j + 1)).map (x + ·)).reverse ++ l) (fun y => by
      rw [List.range_succ, List.map_append, List.reverse_append]
      exact List.mem_cons)
    rw [fpT_2, kTo_2] at a3
    refine ⟨τ2, ρ2, ?_, e2.tr a2, ?_⟩
    · rw [e1]
      have ea : Int32.ofNat (10000 * p + me) + Int32.ofNat j = Int32.ofNat (10000 * p + (me + j)) := by rw [← Int32.ofNat_add, Nat.add_assoc]
      have ex : Int32.ofNat x + Int32.ofNat j = Int32.ofNat (x + j) := (Int32.ofNat_add _ _).symm
      have ii : lj_in (Int32.ofNat (10000 * p + (me + j))) 260000 := ofN_in (by omega) (by omega)
      have em : (lj_put τ1 63 p X).1 71 (10000 * p + (me + j)) = (mv τ (10000 * p + (me + j))).1 := by
        rw [lj_put_1, if_neg (by omega), (e2 71 _ (by unfold nlM; simp)).1]; rfl
      have en : (lj_put τ1 63 p X).2 72 (10000 * p + (me + j)) = (mv τ (10000 * p + (me + j))).2 := (e2 72 _ (by unfold nlM; simp)).2
      have a1 : lj_R lm_P 150 [.ref 0, .int (Int32.ofNat (48 * p + L.length)), .int (Int32.ofNat (x + j)), .int (mv τ (10000 * p + (me + j))).1, .long (mv τ (10000 * p + (me + j))).2] (lj_put τ1 63 p X) = some (.inl none, lj_put τ2 63 p X) := a1
      rw [km_176_94, if_neg (by rw [ofN_le (by omega) (by omega)]; omega), ea, ex, if_pos ii, if_pos ii, lz_onat (by omega), em, en, a1, bv_ok, lz_osucc]
    · have a3 : MB σ0 τ0 n np p r (fpT FP p (kTo F c m s (((List.range (j + 1)).map (x + ·)).reverse ++ l) dd 0 0 :: L)) ρ2 A MO LA (setC (sL (kB F + x) u σ j) (kB F + (x + j)) (u j)) τ2 := a3
      rw [← Nat.add_assoc] at a3
      exact a3
