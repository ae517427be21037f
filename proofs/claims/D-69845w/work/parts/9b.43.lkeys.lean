/-! the gathering: the model lists what is held by weak keys -/
def lkM (k j : Nat) : Bool := k == 99 || k == 100 || (k == 0 && (j == 90 || j == 91))
/-- places that were listed -/
def bkJ (σ τ : lj_S) (n : Nat) (P P' : Nat → List Nat) (Bk : Nat → List Nat) (D : Nat → Prop) : Prop := (∀ o, o ≤ 2001 → lk (lv τ 100) (lv τ 99 o) (Bk o)) ∧ (∀ o, o ≤ 2001 → ∀ q ∈ Bk o, D q ∧ ∃ t, 1 ≤ t ∧ t ≤ n ∧ σ.1 57 t = 4 ∧ mdX σ P t = 1 ∧ q ∈ P' t ∧ ov (kyM τ q) = o ∧ o ≠ 0) ∧ ∀ q, D q → τ.1 47 q ≠ 0 → ov (kyM τ q) ≠ 0 → q ∈ Bk (ov (kyM τ q))
theorem bkJ_D {σ τ : lj_S} {n : Nat} {P P' Bk : Nat → List Nat} {D D' : Nat → Prop} (h : bkJ σ τ n P P' Bk D) (w : ∀ q, D q ↔ D' q) : bkJ σ τ n P P' Bk D' := ⟨h.1, fun o ho q hq => ⟨(w q).1 (h.2.1 o ho q hq).1, (h.2.1 o ho q hq).2⟩, fun q d => h.2.2 q ((w q).2 d)⟩
theorem m_lk_in {σ0 τ0 σ : lj_S} {n np p : Nat} {r : List Nat} {FP : Nat → List kF} {ρ : Nat → Nat} {P B : Nat → List Nat} {Fr : List Nat} {P' B' : Nat → List Nat} {Fr' : List Nat} {t : Nat} (t1 : 1 ≤ t) (t2 : t ≤ n) (t3 : σ.1 57 t = 4) (t4 : mdX σ P t = 1) : ∀ (L : List Nat) (y : Int32) (τ : lj_S) (Bk : Nat → List Nat) (D : Nat → Prop) (X3 : Value), gw σ0 τ0 n np p r FP ρ P B Fr P' B' Fr' σ τ → lk (lv τ 50) y.toInt L → (∀ q ∈ L, q ∈ P' t) → L.Nodup → (∀ q ∈ L, ¬ D q) → bkJ σ τ n P P' Bk D → ∃ τ' Bk' X2 X3', lj_D lm_P lm_M208 62 [.ref 0, .int (Int32.ofNat t), .int y, X3] [] τ = lj_D lm_P lm_M208 24 [.ref 0, .int (Int32.ofNat (t + 1)), X2, X3'] [] τ' ∧ lf lkM τ τ' ∧ bkJ σ τ' n P P' Bk' (fun q => D q ∨ q ∈ L)
  | [], y, τ, Bk, D, X3, h, hl, _, _, _, hb => by
    have hl : y.toInt = -1 := hl
    refine ⟨τ, Bk, .int y, X3, ?_, lf_rf _ _, bkJ_D hb (fun q => ⟨Or.inl, fun z => z.elim id (fun w => by cases w)⟩)⟩
    rw [km_208_62, if_pos (by rw [lz_lt, hl]; decide), lz_osucc]
  | q :: L, y, τ, Bk, D, X3, h, hl, hp, nd, hD, hb => by
    obtain ⟨hl1, hl2⟩ := hl
    have nd' := List.nodup_cons.1 nd
    have qP := hp q List.mem_cons_self
    have hx := h.2.1.2.2.1
    have hn := hx.1.1
    have tq : q ∈ P' (tm t) := by rw [tm_1 t1]; exact qP
    obtain ⟨a1, ⟨a2, a2'⟩, q', b1, b2, b3⟩ := hx.qp t2 tq
    have ey : y = Int32.ofNat q := lz_ext (by rw [lz_lit (by omega)]; exact hl1)
    subst ey
    have iq : lj_in (Int32.ofNat q) 3001 := ofN_in (by omega) (by omega)
    have nq : (Int32.ofNat q).toNatClampNeg = q := lz_onat (by omega)
    -- the rest
    have rest : ∀ (τ1 : lj_S) (Bk1 : Nat → List Nat) (X : Value), lf lkM τ τ1 → bkJ σ τ1 n P P' Bk1 (fun x => D x ∨ x = q) → ∃ τ' Bk' X2 X3', lj_D lm_P lm_M208 134 [.ref 0, .int (Int32.ofNat t), .int (Int32.ofNat q), X] [] τ1 = lj_D lm_P lm_M208 24 [.ref 0, .int (Int32.ofNat (t + 1)), X2, X3'] [] τ' ∧ lf lkM τ τ' ∧ bkJ σ τ' n P P' Bk' (fun x => D x ∨ x ∈ q :: L) := fun τ1 Bk1 X l1 hb1 => by
      have c : ∀ k j, k ≠ 99 → k ≠ 100 → k ≠ 0 → τ1.1 k j = τ.1 k j := fun k j z1 z2 z3 => (l1 k j (by unfold lkM; simp; omega)).1
      have e50 : lv τ1 50 = lv τ 50 := by funext j; unfold lv; rw [c 50 j (by omega) (by omega) (by omega)]
      have g1 : lf gKM τ τ1 := l1.mo (fun k j z => by unfold gKM at z; unfold lkM; simp at z ⊢; omega)
      obtain ⟨τ2, Bk2, X2, X3', s1, s2, s3⟩ := m_lk_in (p := p) (np := np) (r := r) (FP := FP) (ρ := ρ) (B := B) t1 t2 t3 t4 L (τ1.1 50 q) τ1 Bk1 _ X (h.cg (lf_rf _ σ) g1) (by rw [e50, c 50 q (by omega) (by omega) (by omega)]; exact hl2) (fun x hx' => hp x (List.mem_cons_of_mem _ hx')) nd'.2 (fun x hx' z => by
        rcases z with z | z
        · exact hD x (List.mem_cons_of_mem _ hx') z
        · rw [z] at hx'; exact nd'.1 hx') hb1
      refine ⟨τ2, Bk2, X2, X3', by rw [km_208_134]; (try simp only [if_pos iq, nq]); exact s1, l1.tr s2, bkJ_D s3 (fun x => ?_)⟩
      constructor
      · rintro ((z | z) | z)
        · exact Or.inl z
        · rw [z]; exact Or.inr List.mem_cons_self
        · exact Or.inr (List.mem_cons_of_mem _ z)
      · rintro (z | z)
        · exact Or.inl (Or.inl z)
        · rcases List.mem_cons.1 z with z | z
          · exact Or.inl (Or.inr z)
          · exact Or.inr z
    -- nothing to list
    have none_ : (τ.1 47 q ≠ 0 → ov (kyM τ q) = 0) → bkJ σ τ n P P' Bk (fun x => D x ∨ x = q) := fun z => ⟨hb.1, fun o ho x hx' => ⟨Or.inl (hb.2.1 o ho x hx').1, (hb.2.1 o ho x hx').2⟩, fun x d w1 w2 => by
      rcases d with d | d
      · exact hb.2.2 x d w1 w2
      · rw [d] at w1 w2; exact absurd (z w1) w2⟩
    rw [km_208_62, if_neg (ofN_nneg (by omega))]; (try simp only [if_pos iq, nq])
    by_cases z : τ.1 47 q = 0
    · rw [if_pos z]
      exact rest τ Bk _ (lf_rf _ _) (none_ (fun y => absurd z y))
    · rw [if_neg z]; (try simp only [if_pos iq])
      by_cases k : (kyM τ q).1 = 4 ∨ (kyM τ q).1 = 5 ∨ (kyM τ q).1 = 6
      · have k' : τ.1 45 q = 4 ∨ τ.1 45 q = 5 ∨ τ.1 45 q = 6 := k
        have e46 : τ.2 46 q = i64 (ov (kyM τ q)) := a2 k
        rw [if_neg (by rcases k' with k | k | k <;> rw [k] <;> decide)]; (try simp only [if_pos iq]); rw [if_neg (by rcases k' with k | k | k <;> rw [k] <;> decide)]; (try simp only [if_pos iq])
        have z0 : (0 : Int64).toInt = 0 := by decide
        have iv : (τ.2 46 q).toInt = (ov (kyM τ q) : Int) := by rw [e46, i64_int (by omega)]
        by_cases o0 : ov (kyM τ q) = 0
        · rw [if_pos ((lg_le _ _).2 (Int64.le_iff_toInt_le.2 (by rw [iv, z0]; omega)))]
          exact rest τ Bk _ (lf_rf _ _) (none_ (fun _ => o0))
        · have io : lj_in (Int32.ofNat (ov (kyM τ q))) 2002 := ofN_in (by omega) (by omega)
          have no : (Int32.ofNat (ov (kyM τ q))).toNatClampNeg = ov (kyM τ q) := lz_onat (by omega)
          have e32 : (τ.2 46 q).toInt32 = Int32.ofNat (ov (kyM τ q)) := by rw [e46, i64_32]
          rw [if_neg (fun w => by
            have := Int64.le_iff_toInt_le.1 ((lg_le _ _).1 w)
            rw [iv, z0] at this
            omega), e32]
          (try simp only [if_pos iq, if_pos io, no])
          have fresh : ∀ o, o ≤ 2001 → q ∉ Bk o := fun o ho w => hD q List.mem_cons_self (hb.2.1 o ho q w).1
          refine rest _ (fun o => if o = ov (kyM τ q) then q :: Bk o else Bk o) _ (lf_put (lf_put (lf_rf _ _) _ _ _ rfl) _ _ _ rfl) ⟨fun o ho => ?_, fun o ho x hx' => ?_, fun x d w1 w2 => ?_⟩
          · have l100 : ∀ j, j ≠ q → lv (lj_put (lj_put τ 100 q (τ.1 99 (ov (kyM τ q)))) 99 (ov (kyM τ q)) (Int32.ofNat q)) 100 j = lv τ 100 j := fun j w => by unfold lv; rw [lj_put_1, if_neg (by omega), lj_put_1, if_neg (by omega)]
            have old := lk_cong (g := lv (lj_put (lj_put τ 100 q (τ.1 99 (ov (kyM τ q)))) 99 (ov (kyM τ q)) (Int32.ofNat q)) 100) (fun x hx' => (l100 x (fun w => fresh o ho (by rw [← w]; exact hx'))).symm) (hb.1 o ho)
            dsimp only
            by_cases w : o = ov (kyM τ q)
            · rw [if_pos w]
              refine ⟨?_, ?_⟩
              · unfold lv; rw [lj_put_1, if_pos ⟨rfl, w⟩, lz_lit (by omega)]
              · have : lv (lj_put (lj_put τ 100 q (τ.1 99 (ov (kyM τ q)))) 99 (ov (kyM τ q)) (Int32.ofNat q)) 100 q = lv τ 99 o := by
                  unfold lv; rw [lj_put_1, if_neg (by omega), lj_put_1, if_pos ⟨rfl, rfl⟩, w]
                rw [this]
                exact old
            · rw [if_neg w]
              have : lv (lj_put (lj_put τ 100 q (τ.1 99 (ov (kyM τ q)))) 99 (ov (kyM τ q)) (Int32.ofNat q)) 99 o = lv τ 99 o := by
                unfold lv; rw [lj_put_1, if_neg (fun y => w y.2), lj_put_1, if_neg (by omega)]
              rw [this]
              exact old
          · have ek : ∀ x, kyM (lj_put (lj_put τ 100 q (τ.1 99 (ov (kyM τ q)))) 99 (ov (kyM τ q)) (Int32.ofNat q)) x = kyM τ x := fun x => by
              unfold kyM enM
              rw [lj_put_1, if_neg (by omega), lj_put_1, if_neg (by omega)]
              rfl
            rw [ek]
            dsimp only at hx'
            by_cases w : o = ov (kyM τ q)
            · rw [if_pos w] at hx'
              rcases List.mem_cons.1 hx' with e | e
              · rw [e, w]; exact ⟨Or.inr rfl, t, t1, t2, t3, t4, qP, rfl, o0⟩
              · exact ⟨Or.inl (hb.2.1 o ho x e).1, (hb.2.1 o ho x e).2⟩
            · rw [if_neg w] at hx'
              exact ⟨Or.inl (hb.2.1 o ho x hx').1, (hb.2.1 o ho x hx').2⟩
          · have ek : kyM (lj_put (lj_put τ 100 q (τ.1 99 (ov (kyM τ q)))) 99 (ov (kyM τ q)) (Int32.ofNat q)) x = kyM τ x := by
              unfold kyM enM
              rw [lj_put_1, if_neg (by omega), lj_put_1, if_neg (by omega)]
              rfl
            rw [ek] at w2 ⊢
            have w1 : τ.1 47 x ≠ 0 := by
              rw [lj_put_1, if_neg (by omega), lj_put_1, if_neg (by omega)] at w1
              exact w1
            dsimp only
            rcases d with d | d
            · have := hb.2.2 x d w1 w2
              split
              · exact List.mem_cons_of_mem _ this
              · exact this
            · rw [d, if_pos rfl]; exact List.mem_cons_self
      · have k0 := ov_k k
        have fin : ∃ τ' Bk' X2 X3', lj_D lm_P lm_M208 134 [.ref 0, .int (Int32.ofNat t), .int (Int32.ofNat q), X3] [] τ = lj_D lm_P lm_M208 24 [.ref 0, .int (Int32.ofNat (t + 1)), X2, X3'] [] τ' ∧ lf lkM τ τ' ∧ bkJ σ τ' n P P' Bk' (fun x => D x ∨ x ∈ q :: L) := rest τ Bk _ (lf_rf _ _) (none_ (fun _ => k0))
        by_cases k1 : τ.1 45 q < 4
        · rw [if_pos k1]; exact fin
        · rw [if_neg k1]; (try simp only [if_pos iq]); rw [if_pos (by
            rw [lz_lt] at k1 ⊢
            have e4 : (4 : Int32).toInt = 4 := by decide
            have e6 : (6 : Int32).toInt = 6 := by decide
            rw [e4] at k1
            rw [e6]
            have n1 : (τ.1 45 q).toInt ≠ 4 := fun w => k (Or.inl (lz_ext w))
            have n2 : (τ.1 45 q).toInt ≠ 5 := fun w => k (Or.inr (Or.inl (lz_ext w)))
            have n3 : (τ.1 45 q).toInt ≠ 6 := fun w => k (Or.inr (Or.inr (lz_ext w)))
            omega)]
          exact fin
/-- all tables -/
theorem m_lk_all {σ0 τ0 σ : lj_S} {n np p : Nat} {r : List Nat} {FP : Nat → List kF} {ρ : Nat → Nat} {P B : Nat → List Nat} {Fr : List Nat} {P' B' : Nat → List Nat} {Fr' : List Nat} : ∀ (d t : Nat) (τ : lj_S) (Bk : Nat → List Nat) (X2 X3 : Value), 1 ≤ t → t + d = n + 1 → gw σ0 τ0 n np p r FP ρ P B Fr P' B' Fr' σ τ → bkJ σ τ n P P' Bk (fun q => ∃ u, 1 ≤ u ∧ u < t ∧ σ.1 57 u = 4 ∧ mdX σ P u = 1 ∧ q ∈ P' u) → ∃ τ' Bk', lj_D lm_P lm_M208 24 [.ref 0, .int (Int32.ofNat t), X2, X3] [] τ = some (.inl none, τ') ∧ lf lkM τ τ' ∧ bkJ σ τ' n P P' Bk' (fun q => ∃ u, 1 ≤ u ∧ u < n + 1 ∧ σ.1 57 u = 4 ∧ mdX σ P u = 1 ∧ q ∈ P' u)
  | 0, t, τ, Bk, X2, X3, t1, ht, h, hb => by
    have hn := h.2.1.2.2.1.1.1
    have l77 := h.2.1.2.2.1.1.2.2
    have e77 : τ.1 0 77 = Int32.ofNat n := lz_ext (by rw [lz_lit (by omega)]; exact l77)
    have te : t = n + 1 := by omega
    subst te
    refine ⟨τ, Bk, ?_, lf_rf _ _, hb⟩
    rw [km_208_24, e77, if_pos (by rw [lz_lt, lz_lit (by omega), lz_lit (by omega)]; omega)]
  | d + 1, t, τ, Bk, X2, X3, t1, ht, h, hb => by
    have hx := h.2.1.2.2.1
    have hn := hx.1.1
    have e77 : τ.1 0 77 = Int32.ofNat n := lz_ext (by rw [lz_lit (by omega)]; exact hx.1.2.2)
    have it : lj_in (Int32.ofNat t) 2002 := ofN_in (by omega) (by omega)
    have nt : (Int32.ofNat t).toNatClampNeg = t := lz_onat (by omega)
    have tn : t ≤ n := by omega
    have e38 : τ.1 38 t = σ.1 57 t := (h.2.1.2.2.2.2 t t1 tn).1.1.symm
    have c0 : ¬ (Int32.ofNat n < Int32.ofNat t) := by rw [lz_lt, lz_lit (by omega), lz_lit (by omega)]; omega
    -- to the next table
    have next : ∀ (τ1 : lj_S) (Bk1 : Nat → List Nat) (Y2 Y3 : Value), lf lkM τ τ1 → bkJ σ τ1 n P P' Bk1 (fun q => ∃ u, 1 ≤ u ∧ u < t + 1 ∧ σ.1 57 u = 4 ∧ mdX σ P u = 1 ∧ q ∈ P' u) → ∃ τ' Bk', lj_D lm_P lm_M208 24 [.ref 0, .int (Int32.ofNat (t + 1)), Y2, Y3] [] τ1 = some (.inl none, τ') ∧ lf lkM τ τ' ∧ bkJ σ τ' n P P' Bk' (fun q => ∃ u, 1 ≤ u ∧ u < n + 1 ∧ σ.1 57 u = 4 ∧ mdX σ P u = 1 ∧ q ∈ P' u) := fun τ1 Bk1 Y2 Y3 l1 hb1 => by
      obtain ⟨τ2, Bk2, s1, s2, s3⟩ := m_lk_all (p := p) (np := np) (r := r) (FP := FP) (ρ := ρ) (B := B) d (t + 1) τ1 Bk1 Y2 Y3 (by omega) (by omega) (h.cg (lf_rf _ σ) (l1.mo (fun k j z => by unfold gKM at z; unfold lkM; simp at z ⊢; omega))) hb1
      exact ⟨τ2, Bk2, s1, l1.tr s2, s3⟩
    have skip : ∀ (τ1 : lj_S), lf lkM τ τ1 → (∀ k j, ¬ (k = 0 ∧ (j = 90 ∨ j = 91)) → τ1.1 k j = τ.1 k j ∧ τ1.2 k j = τ.2 k j) → ¬ (σ.1 57 t = 4 ∧ mdX σ P t = 1) → ∃ τ' Bk', lj_D lm_P lm_M208 60 [.ref 0, .int (Int32.ofNat t), X2, X3] [] τ1 = some (.inl none, τ') ∧ lf lkM τ τ' ∧ bkJ σ τ' n P P' Bk' (fun q => ∃ u, 1 ≤ u ∧ u < n + 1 ∧ σ.1 57 u = 4 ∧ mdX σ P u = 1 ∧ q ∈ P' u) := fun τ1 l1 c1 no => by
      rw [km_208_60, km_208_61, km_208_62, if_pos (by decide), lz_osucc]
      refine next τ1 Bk _ _ l1 ?_
      have e100 : lv τ1 100 = lv τ 100 := by funext j; unfold lv; rw [(c1 100 j (by omega)).1]
      have ek : ∀ x, kyM τ1 x = kyM τ x := fun x => by unfold kyM enM; rw [(c1 45 x (by omega)).1, (c1 46 x (by omega)).2]
      have b2 : bkJ σ τ1 n P P' Bk (fun q => ∃ u, 1 ≤ u ∧ u < t ∧ σ.1 57 u = 4 ∧ mdX σ P u = 1 ∧ q ∈ P' u) := ⟨fun o ho => by rw [e100]; unfold lv; rw [(c1 99 o (by omega)).1]; exact hb.1 o ho, fun o ho q hq => by rw [ek]; exact hb.2.1 o ho q hq, fun q d w1 w2 => by rw [ek] at w2 ⊢; exact hb.2.2 q d (by rw [← (c1 47 q (by omega)).1]; exact w1) w2⟩
      refine bkJ_D b2 (fun q => ?_)
      constructor
      · rintro ⟨u, u1, u2, u3⟩; exact ⟨u, u1, by omega, u3⟩
      · rintro ⟨u, u1, u2, u3, u4, u5⟩
        refine ⟨u, u1, ?_, u3, u4, u5⟩
        by_cases z : u = t
        · rw [z] at u3 u4; exact absurd ⟨u3, u4⟩ no
        · omega
    rw [km_208_24, e77, if_neg c0]; (try simp only [if_pos it, nt]); rw [e38]
    by_cases k4 : σ.1 57 t = 4
    · obtain ⟨_, τ1, _, _, r1, r2⟩ := h.2.1.mode tn (Or.inr k4)
      have r1 := r1 t1
      have l1 : lf lkM τ τ1 := r2.mo (fun k j z => by unfold lkM at z; unfold fdN; simp at z ⊢; omega)
      have c1 : ∀ k j, ¬ (k = 0 ∧ (j = 90 ∨ j = 91)) → τ1.1 k j = τ.1 k j ∧ τ1.2 k j = τ.2 k j := fun k j z => r2 k j (by unfold fdN; simp; omega)
      obtain ⟨⟨_, _, a3⟩, _⟩ := and4 _ (mdX_le σ P t)
      rw [if_pos k4, r1, bi_ok]
      by_cases m1 : mdX σ P t = 1
      · rw [if_pos (a3.2 m1)]; (try simp only [if_pos it, nt]); rw [km_208_61]
        have e100 : lv τ1 100 = lv τ 100 := by funext j; unfold lv; rw [(c1 100 j (by omega)).1]
        have e50 : lv τ1 50 = lv τ 50 := by funext j; unfold lv; rw [(c1 50 j (by omega)).1]
        have ek : ∀ x, kyM τ1 x = kyM τ x := fun x => by unfold kyM enM; rw [(c1 45 x (by omega)).1, (c1 46 x (by omega)).2]
        have b2 : bkJ σ τ1 n P P' Bk (fun q => ∃ u, 1 ≤ u ∧ u < t ∧ σ.1 57 u = 4 ∧ mdX σ P u = 1 ∧ q ∈ P' u) := ⟨fun o ho => by rw [e100]; unfold lv; rw [(c1 99 o (by omega)).1]; exact hb.1 o ho, fun o ho q hq => by rw [ek]; exact hb.2.1 o ho q hq, fun q d w1 w2 => by rw [ek] at w2 ⊢; exact hb.2.2 q d (by rw [← (c1 47 q (by omega)).1]; exact w1) w2⟩
        have V' : VM n t := by rw [← tm_1 t1]; exact tm_V tn
        have lP := (hx.2.2.1.1.1 t V').1
        obtain ⟨τ2, Bk2, Y2, Y3, s1, s2, s3⟩ := m_lk_in (p := p) (np := np) (r := r) (FP := FP) (ρ := ρ) (B := B) t1 tn k4 m1 (P' t) (τ1.1 40 t) τ1 Bk _ X3 (h.cg (lf_rf _ σ) (l1.mo (fun k j z => by unfold gKM at z; unfold lkM; simp at z ⊢; omega))) (by rw [e50, (c1 40 t (by omega)).1]; exact lP) (fun q hq => hq) (lk_nd lP) (fun q hq ⟨u, u1, u2, _, _, u5⟩ => by
          have e1 := (hx.2.2.1.1.2.2 t V' q hq).2.1
          have e2 := (hx.2.2.1.1.2.2 u (by rw [← tm_1 u1]; exact tm_V (by omega)) q u5).2.1
          have : t = u := (ofN_eq (by omega) (by omega)).1 (by rw [← e1, ← e2])
          omega) b2
        rw [s1]
        refine next τ2 Bk2 _ _ (l1.tr s2) (bkJ_D s3 (fun q => ?_))
        constructor
        · rintro (⟨u, u1, u2, u3⟩ | z)
          · exact ⟨u, u1, by omega, u3⟩
          · exact ⟨t, t1, by omega, k4, m1, z⟩
        · rintro ⟨u, u1, u2, u3, u4, u5⟩
          by_cases z : u = t
          · rw [z] at u5; exact Or.inr u5
          · exact Or.inl ⟨u, u1, by omega, u3, u4, u5⟩
      · rw [if_neg (fun y => m1 (a3.1 y))]
        exact skip τ1 l1 c1 (fun y => m1 y.2)
    · rw [if_neg k4]
      exact skip τ (lf_rf _ _) (fun _ _ _ => ⟨rfl, rfl⟩) (fun y => k4 y.1)
theorem m_lk_ini : ∀ (d o : Nat) (τ : lj_S), o + d = 2002 → ∃ τ', lj_D lm_P lm_M208 2 [.ref 0, .int (Int32.ofNat o), .retAddr 0, .retAddr 0] [] τ = lj_D lm_P lm_M208 24 [.ref 0, .int 1, .retAddr 0, .retAddr 0] [] τ' ∧ (∀ k j, ¬ (k = 99 ∧ o ≤ j ∧ j < 2002) → τ'.1 k j = τ.1 k j) ∧ τ'.2 = τ.2 ∧ ∀ j, o ≤ j → j < 2002 → τ'.1 99 j = -1
  | 0, o, τ, ho => ⟨τ, by rw [km_208_2, if_pos (by rw [show (2002 : Int32) = Int32.ofNat 2002 from rfl]; exact (ofN_le (by omega) (by omega)).2 (by omega))], fun _ _ _ => rfl, rfl, fun j _ _ => by omega⟩
  | d + 1, o, τ, ho => by
    have io : lj_in (Int32.ofNat o) 2002 := ofN_in (by omega) (by omega)
    obtain ⟨τ', r1, r2, r3, r4⟩ := m_lk_ini d (o + 1) (lj_put τ 99 o (-1)) (by omega)
    refine ⟨τ', ?_, fun k j z => ?_, r3, fun j j1 j2 => ?_⟩
    · rw [km_208_2, if_neg (by rw [show (2002 : Int32) = Int32.ofNat 2002 from rfl]; intro z; have := (ofN_le (by omega) (by omega)).1 z; omega)]; (try simp only [if_pos io]); rw [lz_osucc, lz_onat (by omega)]
      exact r1
    · rw [r2 k j (by omega), lj_put_1, if_neg (by omega)]
    · by_cases z : j = o
      · rw [r2 99 j (by omega), lj_put_1, if_pos ⟨rfl, z⟩]
      · exact r4 j (by omega) j2
theorem m_lkeys {σ0 τ0 σ τ : lj_S} {n np p : Nat} {r : List Nat} {FP : Nat → List kF} {ρ : Nat → Nat} {P B : Nat → List Nat} {Fr : List Nat} {P' B' : Nat → List Nat} {Fr' : List Nat} (h : gw σ0 τ0 n np p r FP ρ P B Fr P' B' Fr' σ τ) : ∃ τ' Bk, lj_R lm_P 208 [.ref 0] τ = some (.inl none, τ') ∧ lf lkM τ τ' ∧ bkI σ τ' n P P' Bk := by
  obtain ⟨τ1, r1, r2, r3, r4⟩ := m_lk_ini 2002 0 τ (by omega)
  have l1 : lf lkM τ τ1 := fun k j z => ⟨r2 k j (by unfold lkM at z; simp at z; omega), by rw [r3]⟩
  have g1 := h.cg (lf_rf _ σ) (l1.mo (fun k j z => by unfold gKM at z; unfold lkM; simp at z ⊢; omega))
  obtain ⟨τ2, Bk, s1, s2, s3⟩ := m_lk_all (p := p) (np := np) (r := r) (FP := FP) (ρ := ρ) (B := B) n 1 τ1 (fun _ => []) (.retAddr 0) (.retAddr 0) (Nat.le_refl _) (by omega) g1 ⟨fun o ho => by
    show lv τ1 99 o = -1
    unfold lv
    rw [r4 o (Nat.zero_le _) (by omega)]
    rfl, fun o ho q hq => (by cases hq), fun q ⟨u, u1, u2, _⟩ => (by omega)⟩
  refine ⟨τ2, Bk, ?_, l1.tr s2, s3.1, fun o ho q hq => (s3.2.1 o ho q hq).2, fun t t1 t2 t3 t4 q hq => s3.2.2 q ⟨t, t1, by omega, t3, t4, hq⟩⟩
  rw [rm_208, km_208_0]
  rw [show (0 : Int32) = Int32.ofNat 0 from rfl, r1]
  exact s1
