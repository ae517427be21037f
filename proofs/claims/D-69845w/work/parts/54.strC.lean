theorem c_room_loop (σ : lj_S) {D : List Int32} (hD : cDr σ D) (h24 : D.length ≤ 2400) : ∀ (l : List Nat) (x : Int32), lk (lv σ 12) x.toInt l → (∀ s ∈ l, cIn σ s) → lj_D lc_P lc_M34 10 [.ref 3, .int x] [] σ = match l.find? (fun s => decide (cS σ s = D ∧ σ.1 15 s ≠ 0)) with
    | some _ => some (.inl (some (.int 1)), σ)
    | none => lj_D lc_P lc_M34 10 [.ref 3, .int (-1)] [] σ
  | [], x, hx, hl => by
    have e : x = -1 := lz_ext (by rw [lz_m1]; exact hx)
    rw [e]; rfl
  | p :: l, x, hx, hl => by
    have hp := hl p (List.mem_cons_self)
    have hp1 := hp.1
    have e : x = Int32.ofNat p := lz_ext (by rw [lz_lit (by omega)]; exact hx.1)
    have ip : lj_in (Int32.ofNat p) 2600 := lz_in.2 (by rw [lz_lit (by omega)]; omega)
    have ih := c_room_loop σ hD h24 l _ hx.2 (fun s hs => hl s (List.mem_cons_of_mem _ hs))
    rw [kc_34_10, if_neg (by rw [lz_lt, hx.1, show (0 : Int32).toInt = 0 from rfl]; omega)]
    rw [e, c_isDraft σ hD h24 hp]
    unfold lj_bi
    by_cases q : cS σ p = D
    · simp only [q, if_true]
      rw [if_neg (by decide), if_pos ip, lz_onat (by omega)]
      by_cases z : σ.1 15 p = 0
      · rw [if_pos z, kc_34_33, if_pos ip, lz_onat (by omega), List.find?_cons_of_neg (by simp [z])]
        exact ih
      · rw [if_neg z, List.find?_cons_of_pos (by simp [q, z])]
    · simp only [q, if_false]
      rw [if_pos trivial, kc_34_33, if_pos ip, lz_onat (by omega), List.find?_cons_of_neg (by simp [q])]
      exact ih
/-- a string is there that is settled -/
def cHas (σ : lj_S) (D : List Int32) : Prop := ∃ s : Nat, (s : Int) < lv σ 3 7 ∧ cS σ s = D ∧ σ.1 15 s ≠ 0
theorem c_hasRoom (σ : lj_S) {D : List Int32} (hD : cDr σ D) (h24 : D.length ≤ 2400) (hok : cOK σ) (hc : 0 ≤ lv σ 3 13 ∧ lv σ 3 13 ≤ 800) (hb : 0 ≤ lv σ 3 14 ∧ lv σ 3 14 ≤ 24000) : ∃ r : Int32, lj_R lc_P 34 [.ref 3] σ = some (.inl (some (.int r)), σ) ∧ ((r = 1 ∧ (cHas σ D ∨ (lv σ 3 13 < 800 ∧ lv σ 3 14 + D.length ≤ 24000))) ∨ (r = 0 ∧ ¬ (cHas σ D ∨ (lv σ 3 13 < 800 ∧ lv σ 3 14 + D.length ≤ 24000)))) := by
  have hok' := hok
  obtain ⟨⟨m1, m2⟩, ⟨u1, u2⟩, hin, hby, hinj, B, hB, hBm, hBp, hBa⟩ := hok'
  have bb := bkC_b D
  have hbn : (bkC D).toNatClampNeg < 1024 := by rw [lz_nat]; omega
  have hd : (σ.1 3 6).toInt = (D.length : Int) := hD.1
  rw [rc_34, kc_34_0, c_bucket σ hD h24]
  unfold lj_bi
  simp only []
  rw [if_pos (lz_in.2 bb)]
  have hl : ∀ s ∈ B (bkC D).toNatClampNeg, cIn σ s := fun s hs => hok.inn (hBm _ hbn s hs)
  rw [c_room_loop σ hD h24 (B (bkC D).toNatClampNeg) _ (hB _ hbn) hl]
  cases hf : (B (bkC D).toNatClampNeg).find? (fun s => decide (cS σ s = D ∧ σ.1 15 s ≠ 0)) with
  | some s =>
    have h1 := List.mem_of_find?_eq_some hf
    have h2 := List.find?_some hf
    simp at h2
    exact ⟨1, rfl, Or.inl ⟨rfl, Or.inl ⟨s, hBm _ hbn s h1, h2.1, h2.2⟩⟩⟩
  | none =>
    have hno : ¬ cHas σ D := fun ⟨t, ht, e, z⟩ => by
      have h1 := hBa t ht
      rw [e] at h1
      have h2 := List.find?_eq_none.1 hf t h1
      simp [e] at h2
      exact z h2
    simp only []
    rw [kc_34_10, if_pos (by decide)]
    have e8 : (800 : Int32).toInt = 800 := by decide
    have e24 : (24000 : Int32).toInt = 24000 := by decide
    by_cases q : (800 : Int32) ≤ σ.1 3 13
    · rw [if_pos q, kc_34_72, kc_34_73]
      rw [lz_le, e8, lv_def] at q
      exact ⟨0, rfl, Or.inr ⟨rfl, fun h => h.elim hno (fun h => by omega)⟩⟩
    · rw [if_neg q]
      rw [lz_le, e8, lv_def] at q
      have ea : ((σ.1 3 14) + (σ.1 3 6)).toInt = lv σ 3 14 + D.length := by rw [lz_add (by rw [hd, lv_def]; omega), hd, lv_def]
      by_cases q2 : (24000 : Int32) < (σ.1 3 14) + (σ.1 3 6)
      · rw [if_pos q2, kc_34_72, kc_34_73]
        rw [lz_lt, e24, ea] at q2
        exact ⟨0, rfl, Or.inr ⟨rfl, fun h => h.elim hno (fun h => by omega)⟩⟩
      · rw [if_neg q2, kc_34_73]
        rw [lz_lt, e24, ea] at q2
        exact ⟨1, rfl, Or.inl ⟨rfl, Or.inr ⟨by omega, by omega⟩⟩⟩
/-- what is counted changes these places -/
def cAc (k j : Nat) : Bool := cAs k j || (k == 3 && (j == 13 || j == 14))
theorem c_count (σ : lj_S) {D : List Int32} (hD : cDr σ D) (h24 : D.length ≤ 2400) (hok : cOK σ) (hm : lv σ 3 7 < 2600) (hu : lv σ 3 8 + D.length ≤ 40000) (hc : 0 ≤ lv σ 3 13 ∧ lv σ 3 13 ≤ 800) (hb : 0 ≤ lv σ 3 14 ∧ lv σ 3 14 ≤ 24000) : ∃ σ' s, lj_R lc_P 35 [.ref 3] σ = some (.inl (some (.int (Int32.ofNat s))), σ') ∧ (s : Int) < lv σ' 3 7 ∧ cS σ' s = D ∧ σ'.1 15 s ≠ 0 ∧ cOK σ' ∧ cDr σ' D ∧ lf cAc σ σ' ∧
    (∀ t : Nat, (t : Int) < lv σ 3 7 → cS σ' t = cS σ t ∧ (t ≠ s → σ'.1 15 t = σ.1 15 t)) ∧
    ((cHas σ D ∧ lv σ' 3 13 = lv σ 3 13 ∧ lv σ' 3 14 = lv σ 3 14 ∧ lv σ' 3 7 = lv σ 3 7 ∧ lv σ' 3 8 = lv σ 3 8) ∨
     (¬ cHas σ D ∧ lv σ' 3 13 = lv σ 3 13 + 1 ∧ lv σ' 3 14 = lv σ 3 14 + D.length ∧ lv σ' 3 7 ≤ lv σ 3 7 + 1 ∧ lv σ' 3 8 ≤ lv σ 3 8 + D.length)) ∧ lv σ 3 7 ≤ lv σ' 3 7 ∧ (∀ t : Nat, (t : Int) < lv σ' 3 7 → (t : Int) < lv σ 3 7 ∨ t = s) := by
  obtain ⟨σ1, s, e, hmd, ok, dr, fr⟩ := c_make σ hD h24 hok hm hu
  have one : (1 : Int32).toInt = 1 := by decide
  have hs : s < 2600 := by rcases hmd with h | h <;> omega
  have is : lj_in (Int32.ofNat s) 2600 := lz_in.2 (by rw [lz_lit (by omega)]; omega)
  have f13 : lv σ1 3 13 = lv σ 3 13 := fr.v rfl
  have f14 : lv σ1 3 14 = lv σ 3 14 := fr.v rfl
  have hlt : (s : Int) < lv σ1 3 7 := by
    rcases hmd with ⟨rfl, h, _⟩ | ⟨h, _, h2, _⟩
    · exact h
    · omega
  have hS : cS σ1 s = D := by
    rcases hmd with ⟨rfl, _, h⟩ | ⟨_, _, _, _, _, h, _⟩ <;> exact h
  have hold : ∀ t : Nat, (t : Int) < lv σ 3 7 → cS σ1 t = cS σ t ∧ (t ≠ s → σ1.1 15 t = σ.1 15 t) := fun t ht => by
    rcases hmd with ⟨rfl, _, h⟩ | ⟨_, _, _, _, h, _, _, h2⟩
    · exact ⟨rfl, fun _ => rfl⟩
    · exact ⟨h t ht, h2 t⟩
  have hle : lv σ 3 7 ≤ lv σ1 3 7 ∧ lv σ1 3 7 ≤ lv σ 3 7 + 1 ∧ lv σ1 3 8 ≤ lv σ 3 8 + D.length ∧ ∀ t : Nat, (t : Int) < lv σ1 3 7 → (t : Int) < lv σ 3 7 ∨ t = s := by
    rcases hmd with ⟨rfl, _, h⟩ | ⟨h0, _, h1, h2, _⟩
    · exact ⟨by omega, by omega, by omega, fun t ht => Or.inl ht⟩
    · exact ⟨by omega, by omega, by omega, fun t ht => by omega⟩
  have hlen : lv σ1 11 s = D.length := by
    have := cS_len σ1 s
    rw [hS] at this
    have := (ok.inn hlt).2.2.1
    omega
  rw [rc_35, kc_35_0, e]
  unfold lj_bi
  simp only []
  simp only [lz_onat (show s < 2147483648 by omega)]
  rw [if_pos is]
  by_cases z : σ1.1 15 s = 0
  · rw [if_pos z, if_pos is, if_pos is, kc_35_46]
    have hno : ¬ cHas σ D := fun ⟨t, ht, e1, e2⟩ => by
      rcases hmd with ⟨rfl, h, h2⟩ | ⟨_, h, _⟩
      · have := hok.2.2.2.2.1 t s ht h (by rw [e1, h2])
        subst this; exact e2 z
      · exact h t ht e1
    have ea : ((σ1.1 3 13) + 1).toInt = lv σ 3 13 + 1 := by rw [lz_add (by rw [one, lv_def]; omega), one, lv_def]; omega
    have eb : ((σ1.1 3 14) + (σ1.1 11 s)).toInt = lv σ 3 14 + D.length := by rw [lz_add (by rw [lv_def, lv_def]; omega), lv_def, lv_def]; omega
    refine ⟨_, s, rfl, ?_, ?_, ?_, ?_, ?_, ?_, ?_, Or.inr ⟨hno, ?_, ?_, ?_, ?_⟩, ?_, ?_⟩
    · rw [lv_put, if_neg (by omega), lv_put, if_neg (by omega), lv_put, if_neg (by omega)]; exact hlt
    · rw [cS_cong (fun j => by rw [lj_put_1, if_neg (by omega), lj_put_1, if_neg (by omega), lj_put_1, if_neg (by omega)]) (fun j => by rw [lj_put_1, if_neg (by omega), lj_put_1, if_neg (by omega), lj_put_1, if_neg (by omega)]) (fun j => by rw [lj_put_1, if_neg (by omega), lj_put_1, if_neg (by omega), lj_put_1, if_neg (by omega)])]; exact hS
    · rw [lj_put_1, if_neg (by omega), lj_put_1, if_neg (by omega), lj_put_1, if_pos ⟨rfl, rfl⟩]; decide
    · exact cOK_cong ok (fun j => by rw [lj_put_1, if_neg (by omega), lj_put_1, if_neg (by omega), lj_put_1, if_neg (by omega)]) (fun j => by rw [lj_put_1, if_neg (by omega), lj_put_1, if_neg (by omega), lj_put_1, if_neg (by omega)]) (fun j => by rw [lj_put_1, if_neg (by omega), lj_put_1, if_neg (by omega), lj_put_1, if_neg (by omega)]) (fun j => by rw [lj_put_1, if_neg (by omega), lj_put_1, if_neg (by omega), lj_put_1, if_neg (by omega)]) (fun j => by rw [lj_put_1, if_neg (by omega), lj_put_1, if_neg (by omega), lj_put_1, if_neg (by omega)]) (by rw [lj_put_1, if_neg (by omega), lj_put_1, if_neg (by omega), lj_put_1, if_neg (by omega)]) (by rw [lj_put_1, if_neg (by omega), lj_put_1, if_neg (by omega), lj_put_1, if_neg (by omega)])
    · exact ⟨by rw [lv_put, if_neg (by omega), lv_put, if_neg (by omega), lv_put, if_neg (by omega)]; exact dr.1, fun i h1 h2 => by rw [lj_put_1, if_neg (by omega), lj_put_1, if_neg (by omega), lj_put_1, if_neg (by omega)]; exact dr.2.1 i h1 h2, dr.2.2⟩
    · exact lf_put (lf_put (lf_put (fr.mo (fun k j q => by simp [cAc] at q; exact q.1)) _ _ _ rfl) _ _ _ rfl) _ _ _ rfl
    · intro t ht
      refine ⟨?_, fun ne => ?_⟩
      · rw [cS_cong (fun j => by rw [lj_put_1, if_neg (by omega), lj_put_1, if_neg (by omega), lj_put_1, if_neg (by omega)]) (fun j => by rw [lj_put_1, if_neg (by omega), lj_put_1, if_neg (by omega), lj_put_1, if_neg (by omega)]) (fun j => by rw [lj_put_1, if_neg (by omega), lj_put_1, if_neg (by omega), lj_put_1, if_neg (by omega)])]; exact (hold t ht).1
      · rw [lj_put_1, if_neg (by omega), lj_put_1, if_neg (by omega), lj_put_1, if_neg (by omega)]; exact (hold t ht).2 ne
    · rw [lv_put, if_neg (by omega), lv_put, if_pos ⟨rfl, rfl⟩]; exact ea
    · rw [lv_put, if_pos ⟨rfl, rfl⟩]; exact eb
    · rw [lv_put, if_neg (by omega), lv_put, if_neg (by omega), lv_put, if_neg (by omega)]; exact hle.2.1
    · rw [lv_put, if_neg (by omega), lv_put, if_neg (by omega), lv_put, if_neg (by omega)]; exact hle.2.2.1
    · rw [lv_put, if_neg (by omega), lv_put, if_neg (by omega), lv_put, if_neg (by omega)]; exact hle.1
    · rw [lv_put, if_neg (by omega), lv_put, if_neg (by omega), lv_put, if_neg (by omega)]; exact hle.2.2.2
  · rw [if_neg z, kc_35_46]
    rcases hmd with ⟨rfl, h, h2⟩ | ⟨_, _, _, _, _, _, h, _⟩
    · exact ⟨σ1, s, rfl, hlt, hS, z, ok, dr, lf_rf _ _, hold, Or.inl ⟨⟨s, h, h2, z⟩, rfl, rfl, rfl, rfl⟩, hle.1, hle.2.2.2⟩
    · exact absurd h z
