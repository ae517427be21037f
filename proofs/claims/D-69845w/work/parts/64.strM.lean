theorem m_findK (σ : lj_S) {D : List Int32} (hD : mDr σ D) (h42 : D.length ≤ 4200) (x1 : Int32) : ∀ (l : List Nat) (x : Int32) (x4 x5 : Value), lk (lv σ 6) x.toInt l → (∀ s ∈ l, mIn σ s) →
    ∃ (y : Int32) (x4' x5' : Value), lj_D lm_P lm_M139 18 [.ref 0, .int x1, .int (-1), .int x, x4, x5] [] σ = lj_D lm_P lm_M139 121 [.ref 0, .int x1, .int (match l.find? (fun s => decide (mS σ s = D)) with | some s => Int32.ofNat s | none => -1), .int y, x4', x5'] [] σ
  | [], x, x4, x5, hx, hl => by
    have e : x = -1 := lz_ext (by rw [lz_m1]; exact hx)
    refine ⟨-1, x4, x5, ?_⟩
    rw [e, km_139_18, if_pos (by decide)]; rfl
  | p :: l, x, x4, x5, hx, hl => by
    have hp := hl p (List.mem_cons_self)
    have hp1 := hp.1
    have e : x = Int32.ofNat p := lz_ext (by rw [lz_lit (by omega)]; exact hx.1)
    obtain ⟨y, hy⟩ := m_same139 σ hD h42 hp x1 (-1) x4 x5 (by decide)
    have ip : lj_in (Int32.ofNat p) 3000 := lz_in.2 (by rw [lz_lit (by omega)]; omega)
    by_cases q : mS σ p = D
    · refine ⟨σ.1 6 p, .int 1, .int y, ?_⟩
      rw [e, hy, km_139_100]
      simp only [q, if_true]
      rw [if_neg (by decide), km_139_110, if_pos ip, lz_onat (by omega), List.find?_cons_of_pos (by simp [q]), km_139_18]
      have h0 : (0 : Int32) ≤ Int32.ofNat p := by rw [lz_le, lz_lit (by omega), show (0 : Int32).toInt = 0 from rfl]; omega
      rw [if_pos h0]
      split <;> rfl
    · obtain ⟨y', v4, v5, h⟩ := m_findK σ hD h42 x1 l (σ.1 6 p) (.int 0) (.int y) hx.2 (fun s hs => hl s (List.mem_cons_of_mem _ hs))
      refine ⟨y', v4, v5, ?_⟩
      rw [e, hy, km_139_100]
      simp only [q, if_false]
      rw [if_pos trivial, km_139_110, if_pos ip, lz_onat (by omega), List.find?_cons_of_neg (by simp [q])]
      exact h
/-- a string is there that is not the machine's alone -/
def mHas (σ : lj_S) (D : List Int32) : Prop := ∃ s : Nat, (s : Int) < lv σ 0 14 ∧ mS σ s = D ∧ 0 < lv σ 5 s
/-- what is counted changes these places -/
def mAc (k j : Nat) : Bool := mAs k j || (k == 0 && (j == 17 || j == 18))
theorem m_make (σ : lj_S) {D : List Int32} (hD : mDr σ D) (h42 : D.length ≤ 4200) (hok : mOK σ) (hm : lv σ 0 14 < 3000) (hu : lv σ 0 8 + D.length ≤ 40000) (hc : 0 ≤ lv σ 0 17 ∧ lv σ 0 17 ≤ 800) (hb : 0 ≤ lv σ 0 18 ∧ lv σ 0 18 ≤ 24000) :
    (¬ (mHas σ D ∨ (lv σ 0 17 < 800 ∧ lv σ 0 18 + D.length ≤ 24000)) ∧ lj_R lm_P 139 [.ref 0] σ = some (.inl (some (.int (-1))), lj_put σ 0 143 4)) ∨
    ((mHas σ D ∨ (lv σ 0 17 < 800 ∧ lv σ 0 18 + D.length ≤ 24000)) ∧ ∃ σ' s, lj_R lm_P 139 [.ref 0] σ = some (.inl (some (.int (Int32.ofNat s))), σ') ∧ (s : Int) < lv σ' 0 14 ∧ mS σ' s = D ∧ 0 < lv σ' 5 s ∧ mOK σ' ∧ mDr σ' D ∧ lf mAc σ σ' ∧
      (∀ t : Nat, (t : Int) < lv σ 0 14 → mS σ' t = mS σ t ∧ (t ≠ s → σ'.1 5 t = σ.1 5 t)) ∧
      ((mHas σ D ∧ lv σ' 0 17 = lv σ 0 17 ∧ lv σ' 0 18 = lv σ 0 18 ∧ lv σ' 0 14 = lv σ 0 14 ∧ lv σ' 0 8 = lv σ 0 8) ∨
       (¬ mHas σ D ∧ lv σ' 0 17 = lv σ 0 17 + 1 ∧ lv σ' 0 18 = lv σ 0 18 + D.length ∧ lv σ' 0 14 ≤ lv σ 0 14 + 1 ∧ lv σ' 0 8 ≤ lv σ 0 8 + D.length)) ∧ lv σ 0 14 ≤ lv σ' 0 14 ∧ (∀ t : Nat, (t : Int) < lv σ' 0 14 → (t : Int) < lv σ 0 14 ∨ t = s)) := by
  have hok' := hok
  obtain ⟨⟨m1, m2⟩, ⟨u1, u2⟩, hin, hby, hinj, B, hB, hBm, hBp, hBa⟩ := hok'
  have bb := bkM_b D
  have hbn : (bkM D).toNatClampNeg < 1024 := by rw [lz_nat]; omega
  have hd : (σ.1 0 20).toInt = (D.length : Int) := hD.1
  have one : (1 : Int32).toInt = 1 := by decide
  have e24 : (24000 : Int32).toInt = 24000 := by decide
  have e8 : (800 : Int32).toInt = 800 := by decide
  have z0 : (0 : Int32).toInt = 0 := rfl
  have hl : ∀ s ∈ B (bkM D).toNatClampNeg, mIn σ s := fun s hs => hok.inn (hBm _ hbn s hs).1
  obtain ⟨y, v4, v5, hf⟩ := m_findK σ hD h42 (bkM D) (B (bkM D).toNatClampNeg) (σ.1 7 (bkM D).toNatClampNeg) (.retAddr 0) (.retAddr 0) (hB _ hbn) hl
  have start : lj_R lm_P 139 [.ref 0] σ = lj_D lm_P lm_M139 121 [.ref 0, .int (bkM D), .int (match (B (bkM D).toNatClampNeg).find? (fun s => decide (mS σ s = D)) with | some s => Int32.ofNat s | none => -1), .int y, v4, v5] [] σ := by
    rw [rm_139, km_139_0, m_hash σ hD h42]
    unfold lj_bi
    simp only []
    rw [if_pos (lz_in.2 bb), hf]
  rw [start]
  have ea : ((σ.1 0 17) + 1).toInt = lv σ 0 17 + 1 := by rw [lz_add (by rw [one, lv_def]; omega), one, lv_def]
  have eb : ((σ.1 0 18) + (σ.1 0 20)).toInt = lv σ 0 18 + D.length := by rw [lz_add (by rw [lv_def, hd]; omega), hd, lv_def]
  have go136 : ∀ x2 : Int32, lj_D lm_P lm_M139 136 [.ref 0, .int (bkM D), .int x2, .int y, v4, v5] [] σ = if lv σ 0 17 < 800 ∧ lv σ 0 18 + D.length ≤ 24000 then (if x2 < 0 then lj_bi (lj_R lm_P 3 [.ref 0, .int 2] (lj_put (lj_put σ 0 17 ((σ.1 0 17) + 1)) 0 18 ((σ.1 0 18) + (σ.1 0 20)))) (fun y2 σ1 => some (.inl (some (.int y2)), σ1)) lj_up else (if lj_in x2 3000 then some (.inl (some (.int x2)), (lj_put (lj_put (lj_put σ 0 17 ((σ.1 0 17) + 1)) 0 18 ((σ.1 0 18) + (σ.1 0 20))) 5 x2.toNatClampNeg 2)) else none)) else some (.inl (some (.int (-1))), lj_put σ 0 143 4) := fun x2 => by
    rw [km_139_136]
    by_cases c : σ.1 0 17 = 800
    · rw [if_pos c, km_139_161, if_neg]
      rw [lz_eq, e8, lv_def] at c
      omega
    · rw [if_neg c]
      rw [lz_eq, e8, lv_def] at c
      by_cases c2 : (σ.1 0 18) + (σ.1 0 20) ≤ 24000
      · rw [if_pos c2]
        rw [lz_le, eb, e24] at c2
        rw [if_pos (show lv σ 0 17 < 800 ∧ lv σ 0 18 + D.length ≤ 24000 by omega)]
      · rw [if_neg c2, km_139_161]
        rw [lz_le, eb, e24] at c2
        rw [if_neg (show ¬ (lv σ 0 17 < 800 ∧ lv σ 0 18 + D.length ≤ 24000) by omega)]
  generalize hσ2 : lj_put (lj_put σ 0 17 ((σ.1 0 17) + 1)) 0 18 ((σ.1 0 18) + (σ.1 0 20)) = σ2 at *
  have k2 : ∀ k j, ¬ (k = 0 ∧ (j = 17 ∨ j = 18)) → σ2.1 k j = σ.1 k j := fun k j h => by
    rw [← hσ2, lj_put_1, if_neg (by omega), lj_put_1, if_neg (by omega)]
  have k2v : ∀ k j, ¬ (k = 0 ∧ (j = 17 ∨ j = 18)) → lv σ2 k j = lv σ k j := fun k j h => by unfold lv; rw [k2 k j h]
  have k17 : lv σ2 0 17 = lv σ 0 17 + 1 := by rw [← hσ2, lv_put, if_neg (by omega), lv_put, if_pos ⟨rfl, rfl⟩]; exact ea
  have k18 : lv σ2 0 18 = lv σ 0 18 + D.length := by rw [← hσ2, lv_put, if_pos ⟨rfl, rfl⟩]; exact eb
  have ok2 : mOK σ2 := mOK_cong hok (fun j => k2 _ _ (by omega)) (fun j => k2 _ _ (by omega)) (fun j => k2 _ _ (by omega)) (fun j => k2 _ _ (by omega)) (fun j => k2 _ _ (by omega)) (k2 _ _ (by omega)) (k2 _ _ (by omega))
  have S2 : ∀ t, mS σ2 t = mS σ t := mS_cong (fun j => k2 _ _ (by omega)) (fun j => k2 _ _ (by omega)) (fun j => k2 _ _ (by omega))
  have dr2 : mDr σ2 D := ⟨by rw [k2v _ _ (by omega)]; exact hD.1, fun j h => by rw [k2 _ _ (by omega)]; exact hD.2.1 j h, hD.2.2⟩
  have f2 : lf mAc σ σ2 := by rw [← hσ2]; exact lf_put (lf_put (lf_rf _ _) _ _ _ rfl) _ _ _ rfl
  cases hq : (B (bkM D).toNatClampNeg).find? (fun s => decide (mS σ s = D)) with
  | some s =>
    have h1 := (hBm _ hbn s (List.mem_of_find?_eq_some hq)).1
    have h2 : mS σ s = D := by have := List.find?_some hq; simpa using this
    have hs3 : s < 3000 := by omega
    have is : lj_in (Int32.ofNat s) 3000 := lz_in.2 (by rw [lz_lit (by omega)]; omega)
    have n0 : ¬ Int32.ofNat s < 0 := by rw [lz_lt, lz_lit (by omega), z0]; omega
    simp only []
    rw [km_139_121, if_neg n0, if_pos is, lz_onat (by omega)]
    by_cases z : σ.1 5 s ≤ 0
    · rw [if_pos z, go136]
      rw [lz_le, z0, lv_def] at z
      have hno : ¬ mHas σ D := fun ⟨t, ht, e1, e2⟩ => by
        have := hinj t s ht h1 (by rw [e1, h2])
        subst this; omega
      by_cases c : lv σ 0 17 < 800 ∧ lv σ 0 18 + D.length ≤ 24000
      · right
        rw [if_pos c, if_neg n0, if_pos is, lz_onat (by omega)]
        refine ⟨Or.inr c, _, s, rfl, ?_, ?_, ?_, mOK_sort ok2 _ _, ?_, lf_put f2 _ _ _ rfl, ?_, Or.inr ⟨hno, ?_, ?_, ?_, ?_⟩, ?_, ?_⟩
        · rw [lv_put, if_neg (by omega), k2v _ _ (by omega)]; exact h1
        · rw [mS_sort, S2]; exact h2
        · rw [lv_put, if_pos ⟨rfl, rfl⟩]; decide
        · exact ⟨by rw [lv_put, if_neg (by omega)]; exact dr2.1, fun j h => by rw [lj_put_1, if_neg (by omega)]; exact dr2.2.1 j h, hD.2.2⟩
        · intro t ht
          exact ⟨by rw [mS_sort, S2], fun ne => by rw [lj_put_1, if_neg (by omega), k2 _ _ (by omega)]⟩
        · rw [lv_put, if_neg (by omega)]; exact k17
        · rw [lv_put, if_neg (by omega)]; exact k18
        · rw [lv_put, if_neg (by omega), k2v _ _ (by omega)]; omega
        · rw [lv_put, if_neg (by omega), k2v _ _ (by omega)]; omega
        · rw [lv_put, if_neg (by omega), k2v _ _ (by omega)]; omega
        · rw [lv_put, if_neg (by omega), k2v _ _ (by omega)]; exact fun t ht => Or.inl ht
      · left
        rw [if_neg c]
        exact ⟨fun h => h.elim hno c, rfl⟩
    · right
      rw [if_neg z]
      rw [lz_le, z0, lv_def] at z
      have has : mHas σ D := ⟨s, h1, h2, by omega⟩
      exact ⟨Or.inl has, σ, s, rfl, h1, h2, by omega, hok, hD, lf_rf _ _, fun t _ => ⟨rfl, fun _ => rfl⟩, Or.inl ⟨has, rfl, rfl, rfl, rfl⟩, by omega, fun t ht => Or.inl ht⟩
  | none =>
    have hno' : ∀ t : Nat, (t : Int) < lv σ 0 14 → mS σ t ≠ D := fun t ht e => by
      have h1 := hBa t ht
      rw [e] at h1
      have h2 := List.find?_eq_none.1 hq t h1
      simp [e] at h2
    have hno : ¬ mHas σ D := fun ⟨t, ht, e1, e2⟩ => hno' t ht e1
    simp only []
    rw [km_139_121, if_pos (by decide), go136]
    by_cases c : lv σ 0 17 < 800 ∧ lv σ 0 18 + D.length ≤ 24000
    · right
      rw [if_pos c, if_pos (by decide)]
      obtain ⟨σ3, s, e, hmd, ok3, dr3, f3⟩ := m_intern σ2 2 dr2 h42 ok2 (by rw [k2v _ _ (by omega)]; exact hm) (by rw [k2v _ _ (by omega)]; exact hu)
      rw [e]
      unfold lj_bi
      simp only []
      have f3' : lf mAc σ2 σ3 := f3.mo (fun k j q => by simp [mAc] at q; exact q.1)
      have g17 : lv σ3 0 17 = lv σ2 0 17 := f3.v rfl
      have g18 : lv σ3 0 18 = lv σ2 0 18 := f3.v rfl
      have a14 : lv σ2 0 14 = lv σ 0 14 := k2v _ _ (by omega)
      have a8 : lv σ2 0 8 = lv σ 0 8 := k2v _ _ (by omega)
      rcases hmd with ⟨_, h1, h2⟩ | ⟨b1, b2, b3, b4, b5, b6, b7, b8⟩
      · exact absurd (by rw [← S2]; exact h2) (hno' s (by omega))
      · refine ⟨Or.inr c, σ3, s, rfl, by omega, b6, by unfold lv; rw [b7]; decide, ok3, dr3, f2.tr f3', ?_, Or.inr ⟨hno, by omega, by omega, by omega, by omega⟩, by omega, fun t ht => by omega⟩
        intro t ht
        exact ⟨by rw [b5 t (by omega), S2], fun ne => by rw [b8 t ne, k2 _ _ (by omega)]⟩
    · left
      rw [if_neg c]
      exact ⟨fun h => h.elim hno c, rfl⟩
