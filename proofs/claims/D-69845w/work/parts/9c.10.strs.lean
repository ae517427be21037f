/-! strings anew: clear, fix, back of the component; forgetFrom of the model -/
def clrS (k j : Nat) : Bool := k == 13 || (k == 3 && (j == 7 || j == 8 || j == 9 || j == 10))
theorem c_clr_loop : ∀ (d i : Nat) (σ : lj_S), i + d = 1024 → ∃ σ', lj_D lc_P lc_M21 22 [.ref 3, .int (Int32.ofNat i)] [] σ = some (.inl none, σ') ∧ (∀ b, i ≤ b → b < 1024 → σ'.1 13 b = -1) ∧ lf (fun k j => k == 13 && decide (i ≤ j)) σ σ'
  | 0, i, σ, h => by
    refine ⟨σ, ?_, fun b h1 h2 => (by omega), lf_rf _ _⟩
    rw [kc_21_22, if_pos (by rw [show (1024 : Int32) = Int32.ofNat 1024 from rfl, ofN_le (by omega) (by omega)]; omega)]
  | d + 1, i, σ, h => by
    obtain ⟨σ', e1, e2, e3⟩ := c_clr_loop d (i + 1) (lj_put σ 13 i (-1)) (by omega)
    refine ⟨σ', ?_, fun b h1 h2 => ?_, ?_⟩
    · rw [kc_21_22, if_neg (by rw [show (1024 : Int32) = Int32.ofNat 1024 from rfl, ofN_le (by omega) (by omega)]; omega), if_pos (ofN_in (by omega) (by omega)), lz_onat (by omega), lz_osucc]
      exact e1
    · by_cases z : b = i
      · rw [z, (e3 13 i (by simp)).1, lj_put_1, if_pos ⟨rfl, rfl⟩]
      · exact e2 b (by omega) (by omega)
    · exact (lf_put (lf_rf _ _) _ _ _ (by simp)).tr (e3.mo (fun k j w => by
        simp at w ⊢
        omega))
theorem c_clr (σ : lj_S) : ∃ σ', lj_R lc_P 21 [.ref 3] σ = some (.inl none, σ') ∧ (∀ b, b < 1024 → σ'.1 13 b = -1) ∧ (σ'.1 3 7 = 0 ∧ σ'.1 3 8 = 0 ∧ σ'.1 3 9 = 0 ∧ σ'.1 3 10 = 0) ∧ lf clrS σ σ' := by
  obtain ⟨σ', e1, e2, e3⟩ := c_clr_loop 1024 0 (lj_put (lj_put (lj_put (lj_put σ 3 7 0) 3 8 0) 3 9 0) 3 10 0) rfl
  have o : ∀ j, σ'.1 3 j = (lj_put (lj_put (lj_put (lj_put σ 3 7 0) 3 8 0) 3 9 0) 3 10 0).1 3 j := fun j => (e3 3 j rfl).1
  refine ⟨σ', ?_, fun b hb => e2 b (Nat.zero_le _) hb, ⟨?_, ?_, ?_, ?_⟩, ?_⟩
  · rw [rc_21, kc_21_0]; exact e1
  · rw [o]; simp [lj_put_1]
  · rw [o]; simp [lj_put_1]
  · rw [o]; simp [lj_put_1]
  · rw [o]; simp [lj_put_1]
  · exact (lf_put (lf_put (lf_put (lf_put (lf_rf _ _) _ _ _ rfl) _ _ _ rfl) _ _ _ rfl) _ _ _ rfl).tr (e3.mo (fun k j w => by
      unfold clrS
      simp at w ⊢
      omega))
/-- no strings at all: in order -/
theorem cOK_none {σ : lj_S} (hby : ∀ j, lz_by (σ.1 9 j) = σ.1 9 j) (h7 : σ.1 3 7 = 0) (h8 : σ.1 3 8 = 0) (h13 : ∀ b, b < 1024 → σ.1 13 b = -1) : cOK σ := by
  have e7 : lv σ 3 7 = 0 := by unfold lv; rw [h7]; rfl
  have e8 : lv σ 3 8 = 0 := by unfold lv; rw [h8]; rfl
  refine ⟨(by omega), ⟨(by omega), (by omega), ⟨by rw [if_neg (by omega), e8], fun s hs => (by omega)⟩⟩, fun s hs => (by omega), hby, fun s t hs ht _ => (by omega), fun _ => [], fun b hb => ?_, fun b hb s hs => (by cases hs), fun b hb => List.Pairwise.nil, fun s hs => (by omega)⟩
  show lv σ 13 b = -1
  unfold lv
  rw [h13 b hb]
  rfl
theorem nxtS_mono {p l : Nat → Int} {m u : Int} (h : nxtS p l m u) (hl : ∀ t : Nat, (t : Int) < m → 0 ≤ l t) : ∀ (d t : Nat), ((t + d + 1 : Nat) : Int) ≤ m → p t + l t ≤ (if ((t + d + 1 : Nat) : Int) < m then p (t + d + 1) else u)
  | 0, t, w => by
    have := h.2 t (by omega)
    rw [this]
    exact Int.le_refl _
  | d + 1, t, w => by
    have q := nxtS_mono h hl d t (by omega)
    rw [if_pos (by omega)] at q
    have q2 := h.2 (t + d + 1) (by omega)
    have q3 := hl (t + d + 1) (by omega)
    rw [show t + (d + 1) + 1 = t + d + 1 + 1 by omega, ← q2]
    omega
/-- the first k strings alone -/
theorem nxtS_cut {p l : Nat → Int} {m u : Int} (h : nxtS p l m u) {k : Nat} (hk : (k : Int) ≤ m) : nxtS p l (k : Int) (if (k : Int) < m then p k else u) := by
  obtain ⟨c1, c2⟩ := h
  refine ⟨?_, fun s hs => ?_⟩
  · by_cases z : k = 0
    · rw [z, if_neg (by omega)]
      exact c1
    · rw [if_pos (by omega)]
      rw [if_pos (by omega)] at c1
      exact c1
  · have q := c2 s (by omega)
    rw [q]
    by_cases y : s + 1 = k
    · rw [if_neg (show ¬ (((s + 1 : Nat) : Int) < (k : Int)) by omega), y]
    · rw [if_pos (show ((s + 1 : Nat) : Int) < (k : Int) by omega), if_pos (by omega)]
theorem pw_head {l : List Nat} {s m : Nat} (h : l.Pairwise (· > ·)) (hs : s ∈ l) (hm : ∀ x ∈ l, x ≤ s) : ∃ r, l = s :: r := by
  cases l with
  | nil => cases hs
  | cons a r =>
    rw [List.pairwise_cons] at h
    rcases List.mem_cons.1 hs with e | e
    · exact ⟨r, by rw [e]⟩
    · have := h.1 s e
      have := hm a List.mem_cons_self
      omega
/-- what forgetting changes in the model -/
def fgS (k j : Nat) : Bool := k == 7 || (k == 0 && j == 14)
theorem m_fg_find (x1 x2 : Int32) {τ : lj_S} {s b0 : Nat} (hb : b0 < 1024) (h14 : τ.1 0 14 = Int32.ofNat s) (h7 : τ.1 7 b0 = Int32.ofNat s) (hn : ∀ b, b < b0 → τ.1 7 b ≠ Int32.ofNat s) : ∀ (d i : Nat), i + d = b0 → lj_D lm_P lm_M11 20 [.ref 0, .int x1, .int x2, .int (Int32.ofNat i)] [] τ = lj_D lm_P lm_M11 46 [.ref 0, .int x1, .int x2, .int (Int32.ofNat b0)] [] τ
  | 0, i, h => by
    have e : i = b0 := h
    rw [e, km_11_20, if_neg (by rw [show (1024 : Int32) = Int32.ofNat 1024 from rfl, ofN_le (by omega) (by omega)]; omega), if_pos (ofN_in (by omega) (by omega)), lz_onat (by omega), h14, if_pos h7]
  | d + 1, i, h => by
    rw [km_11_20, if_neg (by rw [show (1024 : Int32) = Int32.ofNat 1024 from rfl, ofN_le (by omega) (by omega)]; omega), if_pos (ofN_in (by omega) (by omega)), lz_onat (by omega), h14, if_neg (hn i (by omega)), lz_osucc]
    exact m_fg_find x1 x2 hb h14 h7 hn d (i + 1) (by omega)
/-- the last string is forgotten -/
theorem m_fg_one {τ : lj_S} {u : Int32} {s : Nat} (h : mOK (lj_put τ 0 8 u)) (hs : lv τ 0 14 = ((s + 1 : Nat) : Int)) (x1 : Nat) (hx : x1 ≤ s) (x2 : Int32) (x3 : Value) : ∃ τ' x3', lj_D lm_P lm_M11 0 [.ref 0, .int (Int32.ofNat x1), .int x2, x3] [] τ = lj_D lm_P lm_M11 0 [.ref 0, .int (Int32.ofNat x1), .int x2, x3'] [] τ' ∧ mOK (lj_put τ' 0 8 (τ.1 3 s)) ∧ lv τ' 0 14 = (s : Int) ∧ lf fgS τ τ' := by
  obtain ⟨⟨m1, m2⟩, ⟨u1, u2, u3⟩, hin, hby, hinj, B, hB, hBm, hBp, hBa⟩ := h
  have e14 : lv (lj_put τ 0 8 u) 0 14 = lv τ 0 14 := by rw [lv_put, if_neg (by omega)]
  have e3 : lv (lj_put τ 0 8 u) 3 = lv τ 3 := funext fun j => by rw [lv_put, if_neg (by omega)]
  have e4 : lv (lj_put τ 0 8 u) 4 = lv τ 4 := funext fun j => by rw [lv_put, if_neg (by omega)]
  have e6 : lv (lj_put τ 0 8 u) 6 = lv τ 6 := funext fun j => by rw [lv_put, if_neg (by omega)]
  have e7 : ∀ b, lv (lj_put τ 0 8 u) 7 b = lv τ 7 b := fun j => by rw [lv_put, if_neg (by omega)]
  have eS : ∀ t, mS (lj_put τ 0 8 u) t = mS τ t := mS_cong (fun j => by rw [lj_put_1, if_neg (by omega)]) (fun j => by rw [lj_put_1, if_neg (by omega)]) (fun j => by rw [lj_put_1, if_neg (by omega)])
  have e8 : lv (lj_put τ 0 8 u) 0 8 = u.toInt := by rw [lv_put, if_pos ⟨rfl, rfl⟩]
  have e2 : ∀ j, (lj_put τ 0 8 u).1 2 j = τ.1 2 j := fun j => by rw [lj_put_1, if_neg (by omega)]
  simp only [e14, e3, e4, e6, e7, eS, e8, e2] at m1 m2 u1 u2 u3 hin hby hinj hB hBm hBa
  rw [hs] at m1 m2 u3 hin hinj hBm hBa
  -- the bucket of the last one
  obtain ⟨b0, hb0⟩ : ∃ b0, b0 = (bkM (mS τ s)).toNatClampNeg := ⟨_, rfl⟩
  have hb : b0 < 1024 := by
    have := bkM_b (mS τ s)
    rw [hb0, lz_nat]
    omega
  have hmem : s ∈ B b0 := by rw [hb0]; exact hBa s (by omega)
  obtain ⟨l0, hl0⟩ := pw_head (m := 0) (hBp b0 hb) hmem (fun x hx => by have := (hBm b0 hb x hx).1; omega)
  have hB0 := hB b0 hb
  rw [hl0] at hB0
  have k7 : τ.1 7 b0 = Int32.ofNat s := lz_ext (by rw [lz_lit (by omega)]; exact hB0.1)
  have k7n : ∀ b, b < 1024 → b ≠ b0 → τ.1 7 b ≠ Int32.ofNat s := fun b h1 h2 w => by
    have hb' := hB b h1
    have wv : lv τ 7 b = (s : Int) := by unfold lv; rw [w, lz_lit (by omega)]
    cases hq : B b with
    | nil =>
      rw [hq] at hb'
      have : lv τ 7 b = -1 := hb'
      omega
    | cons a r =>
      rw [hq] at hb'
      have : a = s := by have := hb'.1; omega
      have := (hBm b h1 a (by rw [hq]; exact List.mem_cons_self)).2
      rw [‹a = s›, ← hb0] at this
      exact h2 this.symm
  have h14 : τ.1 0 14 = Int32.ofNat (s + 1) := lz_ext (by rw [lz_lit (by omega)]; exact hs)
  have s14 : τ.1 0 14 - 1 = Int32.ofNat s := lz_ext (by
    rw [lz_sub (by rw [h14, lz_lit (by omega)]; show _ ≤ ((s + 1 : Nat) : Int) - 1 ∧ ((s + 1 : Nat) : Int) - 1 < _; omega), h14, lz_lit (by omega), lz_lit (by omega)]
    show ((s + 1 : Nat) : Int) - 1 = _
    omega)
  obtain ⟨τ1, hτ1⟩ : ∃ t, t = lj_put τ 0 14 (Int32.ofNat s) := ⟨_, rfl⟩
  have o1 : ∀ k j, ¬ (k = 0 ∧ j = 14) → τ1.1 k j = τ.1 k j := fun k j w => by rw [hτ1, lj_put_1, if_neg w]
  have o14 : τ1.1 0 14 = Int32.ofNat s := by rw [hτ1, lj_put_1, if_pos ⟨rfl, rfl⟩]
  have fnd := m_fg_find (Int32.ofNat x1) x2 (τ := τ1) hb o14 (by rw [o1 7 b0 (by omega)]; exact k7) (fun b w => by rw [o1 7 b (by omega)]; exact k7n b (by omega) (by omega)) b0 0 (by omega)
  refine ⟨lj_put τ1 7 b0 (τ.1 6 s), .int (Int32.ofNat b0), ?_, ?_, ?_, ?_⟩
  · rw [km_11_0, h14, if_neg (by rw [ofN_le (by omega) (by omega)]; omega), ← h14, s14, ← hτ1, show (0 : Int32) = Int32.ofNat 0 from rfl, fnd, km_11_46, if_neg (by rw [show (1024 : Int32) = Int32.ofNat 1024 from rfl, ofN_le (by omega) (by omega)]; omega), o14, if_pos (ofN_in (by omega) (by omega)), if_pos (ofN_in (by omega) (by omega)), lz_onat (by omega), lz_onat (by omega), o1 6 s (by omega), km_11_68]
  · obtain ⟨τ2, hτ2⟩ : ∃ t, t = lj_put (lj_put τ1 7 b0 (τ.1 6 s)) 0 8 (τ.1 3 s) := ⟨_, rfl⟩
    rw [← hτ2]
    have o2 : ∀ k j, ¬ (k = 0 ∧ (j = 14 ∨ j = 8)) → ¬ (k = 7 ∧ j = b0) → τ2.1 k j = τ.1 k j := fun k j w1 w2 => by rw [hτ2, lj_put_1, if_neg (by omega), lj_put_1, if_neg w2, o1 k j (by omega)]
    have f14 : lv τ2 0 14 = (s : Int) := by unfold lv; rw [hτ2, lj_put_1, if_neg (by omega), lj_put_1, if_neg (by omega), o14, lz_lit (by omega)]
    have f8 : lv τ2 0 8 = lv τ 3 s := by unfold lv; rw [hτ2, lj_put_1, if_pos ⟨rfl, rfl⟩]
    have f3 : lv τ2 3 = lv τ 3 := funext fun j => by unfold lv; rw [o2 3 j (by omega) (by omega)]
    have f4 : lv τ2 4 = lv τ 4 := funext fun j => by unfold lv; rw [o2 4 j (by omega) (by omega)]
    have f6 : lv τ2 6 = lv τ 6 := funext fun j => by unfold lv; rw [o2 6 j (by omega) (by omega)]
    have f7 : ∀ b, b ≠ b0 → lv τ2 7 b = lv τ 7 b := fun j w => by unfold lv; rw [o2 7 j (by omega) (by omega)]
    have f70 : lv τ2 7 b0 = lv τ 6 s := by unfold lv; rw [hτ2, lj_put_1, if_neg (by omega), lj_put_1, if_pos ⟨rfl, rfl⟩]
    have fS : ∀ t, mS τ2 t = mS τ t := mS_cong (fun j => o2 2 j (by omega) (by omega)) (fun j => o2 3 j (by omega) (by omega)) (fun j => o2 4 j (by omega) (by omega))
    have ls : ∀ t : Nat, (t : Int) < ((s + 1 : Nat) : Int) → 0 ≤ lv τ 4 t := fun t ht => (hin t ht).2.1
    have cut := nxtS_cut u3 (k := s) (by omega)
    rw [if_pos (show (s : Int) < ((s + 1 : Nat) : Int) by omega)] at cut
    have hs3 := hin s (by omega)
    have tl : ∀ x ∈ l0, x < s := fun x hx => by
      have := hBp b0 hb
      rw [hl0, List.pairwise_cons] at this
      exact this.1 x hx
    unfold mOK
    rw [f14, f8, f3, f4, f6]
    simp only [fS]
    refine ⟨(by omega), ⟨(by omega), (by omega), cut⟩, fun t ht => ⟨(hin t (by omega)).1, (hin t (by omega)).2.1, ?_⟩, fun j => by rw [o2 2 j (by omega) (by omega)]; exact hby j, fun a b h1 h2 => hinj a b (by omega) (by omega), fun b => if b = b0 then l0 else B b, fun b h1 => ?_, fun b h1 x hx => ?_, fun b h1 => ?_, fun t ht => ?_⟩
    · have q := nxtS_mono u3 ls (s - t - 1) t (by omega)
      rw [show t + (s - t - 1) + 1 = s by omega, if_pos (by omega)] at q
      exact q
    · dsimp only
      by_cases z : b = b0
      · rw [if_pos z, z, f70]; exact hB0.2
      · rw [if_neg z, f7 b z]; exact hB b h1
    · dsimp only at hx
      by_cases z : b = b0
      · rw [if_pos z] at hx
        have := tl x hx
        exact ⟨(by omega), (hBm b h1 x (by rw [z, hl0]; exact List.mem_cons_of_mem _ hx)).2⟩
      · rw [if_neg z] at hx
        have q := hBm b h1 x hx
        refine ⟨?_, q.2⟩
        by_cases y : x = s
        · exfalso
          rw [y, ← hb0] at q
          exact z q.2.symm
        · have := q.1; omega
    · dsimp only
      by_cases z : b = b0
      · rw [if_pos z]
        have := hBp b0 hb
        rw [hl0, List.pairwise_cons] at this
        exact this.2
      · rw [if_neg z]; exact hBp b h1
    · dsimp only
      have q := hBa t (by omega)
      by_cases z : (bkM (mS τ t)).toNatClampNeg = b0
      · rw [if_pos z]
        rw [z, hl0] at q
        rcases List.mem_cons.1 q with e | e
        · omega
        · exact e
      · rw [if_neg z]; exact q
  · rw [lv_put, if_neg (by omega)]; unfold lv; rw [o14, lz_lit (by omega)]
  · rw [hτ1]; exact lf_put (lf_put (lf_rf _ _) _ _ _ rfl) _ _ _ rfl
theorem m_fg_all (k : Nat) (x2 : Int32) : ∀ (d : Nat) (τ : lj_S) (u : Int32) (x3 : Value), mOK (lj_put τ 0 8 u) → lv τ 0 14 = ((k + d : Nat) : Int) → ∃ τ', lj_D lm_P lm_M11 0 [.ref 0, .int (Int32.ofNat k), .int x2, x3] [] τ = some (.inl none, lj_put τ' 0 8 x2) ∧ mOK (lj_put τ' 0 8 (if d = 0 then u else τ.1 3 k)) ∧ lv τ' 0 14 = (k : Int) ∧ lf fgS τ τ'
  | 0, τ, u, x3, h, h14 => by
    have m2 := h.1.2
    rw [lv_put, if_neg (by omega), h14] at m2
    have e14 : τ.1 0 14 = Int32.ofNat k := lz_ext (by rw [lz_lit (by omega)]; exact h14)
    refine ⟨τ, ?_, by rw [if_pos rfl]; exact h, h14, lf_rf _ _⟩
    rw [km_11_0, e14, if_pos (by rw [ofN_le (by omega) (by omega)]; omega)]
  | d + 1, τ, u, x3, h, h14 => by
    obtain ⟨τ1, x3', e1, e2, e3, e4⟩ := m_fg_one h (s := k + d) (by rw [h14]; rfl) k (by omega) x2 x3
    obtain ⟨τ', g1, g2, g3, g4⟩ := m_fg_all k x2 d τ1 _ x3' e2 e3
    refine ⟨τ', by rw [e1]; exact g1, ?_, g3, e4.tr g4⟩
    rw [if_neg (by omega)]
    by_cases z : d = 0
    · rw [if_pos z, z] at g2; exact g2
    · rw [if_neg z, (e4 3 k rfl).1] at g2; exact g2
/-- strings from a number on are forgotten -/
theorem m_forget {τ : lj_S} (h : mOK τ) {k : Nat} (hk : (k : Int) ≤ lv τ 0 14) {x2 : Int32} (hx : x2.toInt = if (k : Int) < lv τ 0 14 then lv τ 3 k else lv τ 0 8) : ∃ τ', lj_R lm_P 11 [.ref 0, .int (Int32.ofNat k), .int x2] τ = some (.inl none, τ') ∧ mOK τ' ∧ lv τ' 0 14 = (k : Int) ∧ τ'.1 0 8 = x2 ∧ lf (fun a j => fgS a j || (a == 0 && j == 8)) τ τ' := by
  obtain ⟨τ', e1, e2, e3, e4⟩ := m_fg_all k x2 ((lv τ 0 14).toNat - k) τ (τ.1 0 8) (.retAddr 0) (by rw [lj_put_self _ _ _ _ rfl]; exact h) (by omega)
  refine ⟨lj_put τ' 0 8 x2, by rw [rm_11]; exact e1, ?_, by rw [lv_put, if_neg (by omega)]; exact e3, by rw [lj_put_1, if_pos ⟨rfl, rfl⟩], lf_put (e4.mo (fun a j w => by simp at w ⊢; exact w.1)) _ _ _ (by simp)⟩
  have e : x2 = (if (lv τ 0 14).toNat - k = 0 then τ.1 0 8 else τ.1 3 k) := by
    apply lz_ext
    rw [hx]
    by_cases z : (k : Int) < lv τ 0 14
    · rw [if_pos z, if_neg (by omega)]; rfl
    · rw [if_neg z, if_pos (by omega)]; rfl
  rw [e]
  exact e2
