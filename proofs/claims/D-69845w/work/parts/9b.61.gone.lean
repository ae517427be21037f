/-! the gathering: what the component takes away -/
def gnN (kd : Nat → Int32) (T : Nat → Bool) : Nat → Nat → Nat
  | _, 0 => 0
  | t, d + 1 => (if kd t ≠ 0 ∧ T t = false then 1 else 0) + gnN kd T (t + 1) d
theorem gnN_cg {kd kd' : Nat → Int32} {T : Nat → Bool} : ∀ (d t : Nat), (∀ u, t ≤ u → u < t + d → kd' u = kd u) → gnN kd' T t d = gnN kd T t d
  | 0, _, _ => rfl
  | d + 1, t, h => by
    unfold gnN
    rw [h t (Nat.le_refl _) (by omega), gnN_cg d (t + 1) (fun u u1 u2 => h u (by omega) (by omega))]
theorem gnN_le (kd : Nat → Int32) (T : Nat → Bool) : ∀ (d t : Nat), gnN kd T t d ≤ d
  | 0, _ => Nat.le_refl _
  | d + 1, t => by
    have := gnN_le kd T d (t + 1)
    unfold gnN
    split <;> omega
def sumP (P : Nat → List Nat) : Nat → Nat
  | 0 => (P 0).length
  | n + 1 => sumP P n + (P (n + 1)).length
theorem sumP_cg {P P' : Nat → List Nat} : ∀ {n : Nat}, (∀ u, u ≤ n → (P' u).length = (P u).length) → sumP P' n = sumP P n
  | 0, h => h 0 (Nat.le_refl _)
  | n + 1, h => by
    unfold sumP
    rw [sumP_cg (fun u hu => h u (by omega)), h (n + 1) (Nat.le_refl _)]
theorem sumP_up (P : Nat → List Nat) (t : Nat) (L : List Nat) : ∀ {n : Nat}, t ≤ n → sumP (pUp P t L) n + (P t).length = sumP P n + L.length
  | 0, h => by
    have e : t = 0 := by omega
    subst e
    unfold sumP
    rw [pUp_t]
    omega
  | n + 1, h => by
    unfold sumP
    by_cases e : t = n + 1
    · rw [← e, pUp_t, sumP_cg (P := P) (fun u hu => by rw [pUp_o _ _ (by omega)])]
      omega
    · have := sumP_up P t L (n := n) (by omega)
      rw [pUp_o _ _ (show n + 1 ≠ t by omega)]
      omega
def swK (k j : Nat) : Bool := k == 57 || k == 59 || k == 60 || k == 61 || k == 70 || k == 72 || k == 73 || (k == 7 && (j == 11 || j == 12))
theorem swC_K {k j : Nat} (h : swK k j = false) : swC k j = false := by unfold swK at h; unfold swC; simp at h ⊢; omega
theorem hsC_57 {σ : lj_S} {V : Nat → Prop} {P B : Nat → List Nat} {Fr : List Nat} (h : hsC σ V P B Fr) (t : Nat) (x : Int32) : hsC (lj_put σ 57 t x) V P B Fr := by
  have l : ∀ k j, k ≠ 57 → lv (lj_put σ 57 t x) k j = lv σ k j := fun k j w => by rw [lv_put, if_neg (fun y => w y.1)]
  refine ⟨hpC_cg h.1 (fun k j w => by rw [lj_put_1, if_neg (by omega)]) (fun _ => rfl), ⟨?_, by rw [l 7 11 (by omega)]; exact h.2.1.2.1, h.2.1.2.2⟩, fun t ht => by rw [l 61 t (by omega)]; exact h.2.2 t ht⟩
  rw [show lv (lj_put σ 57 t x) 70 = lv σ 70 from funext (fun j => l 70 j (by omega)), l 7 12 (by omega)]
  exact h.2.1.1
theorem kp_all (σ : lj_S) (L : List Nat) : L.filter (kpB true σ) = [] := by
  rw [List.filter_eq_nil_iff]
  intro x _ w
  cases w
theorem c_gone {n : Nat} (hn : n ≤ 2000) {T : Nat → Bool} (x1 x2 x3 : Int32) : ∀ (d t g : Nat) (σ : lj_S) (P B : Nat → List Nat) (Fr : List Nat), 1 ≤ t → t + d = n + 1 → σ.1 7 0 = Int32.ofNat n → (∀ u, u ≤ n → (σ.1 111 u ≠ 0 ↔ T u = true)) → hsC σ (· ≤ n) P B Fr → (∀ u, t ≤ u → u ≤ n → σ.1 57 u ≠ 4 → P u = []) → ∃ (σ' : lj_S) (P' B' : Nat → List Nat) (Fr' : List Nat), lj_D lc_P lc_M175 353 [.ref 8, .int x1, .int x2, .int x3, .int (Int32.ofNat g), .int (Int32.ofNat t)] [] σ = lj_D lc_P lc_M175 450 [.ref 8, .int x1, .int x2, .int x3, .int (Int32.ofNat (g + gnN (σ.1 57) T t d)), .int 0] [] σ' ∧ hsC σ' (· ≤ n) P' B' Fr' ∧ (∀ u, u ≤ n → P' u = if t ≤ u ∧ T u = false then [] else P u) ∧ (∀ u, σ'.1 57 u = if t ≤ u ∧ u ≤ n ∧ T u = false then 0 else σ.1 57 u) ∧ Fr'.length + sumP P' n = Fr.length + sumP P n ∧ lf swK σ σ'
  | 0, t, g, σ, P, B, Fr, t1, hd, h70, h111, h, hP => by
    refine ⟨σ, P, B, Fr, ?_, h, fun u hu => by rw [if_neg (by omega)], fun u => by rw [if_neg (by omega)], rfl, lf_rf _ _⟩
    rw [kc_175_353, h70, if_pos (by rw [lz_lt, lz_lit (by omega), lz_lit (by omega)]; omega)]
    rfl
  | d + 1, t, g, σ, P, B, Fr, t1, hd, h70, h111, h, hP => by
    have it : lj_in (Int32.ofNat t) 2001 := ofN_in (by omega) (by omega)
    have nt : (Int32.ofNat t).toNatClampNeg = t := lz_onat (by omega)
    have tn : t ≤ n := by omega
    by_cases hg : σ.1 57 t ≠ 0 ∧ T t = false
    · -- it goes
      have e111 : σ.1 111 t = 0 := Classical.byContradiction (fun w => by rw [(h111 t tn).1 w] at hg; cases hg.2)
      obtain ⟨σ1, B1, Fr1, a1, a2, a3, a4⟩ : ∃ (σ1 : lj_S) (B1 : Nat → List Nat) (Fr1 : List Nat), lj_D lc_P lc_M175 353 [.ref 8, .int x1, .int x2, .int x3, .int (Int32.ofNat g), .int (Int32.ofNat t)] [] σ = lj_D lc_P lc_M175 424 [.ref 8, .int x1, .int x2, .int x3, .int (Int32.ofNat g), .int (Int32.ofNat t)] [] σ1 ∧ hsC σ1 (· ≤ n) (pUp P t []) B1 Fr1 ∧ Fr1.length = Fr.length + (P t).length ∧ lf swC σ σ1 := by
        by_cases k4 : σ.1 57 t = 4
        · obtain ⟨σ1, B1, Fr1, r1, r2, r3, r4⟩ := c_sw hn tn true h
          rw [kp_all] at r2 r3
          refine ⟨σ1, B1, Fr1, ?_, r2, r3, r4⟩
          have r1 : lj_R lc_P 120 [.ref 7, .int (Int32.ofNat t), .int 1] σ = some (.inl none, σ1) := r1
          rw [kc_175_353, h70, if_neg (by rw [lz_lt, lz_lit (by omega), lz_lit (by omega)]; omega)]
          simp only [if_pos it, nt]
          rw [if_neg hg.1, if_pos e111, if_pos k4, r1, bv_ok]
        · have pe := hP t (Nat.le_refl _) tn k4
          refine ⟨σ, B, Fr, ?_, by rw [pUp_id P t pe]; exact h, by rw [pe]; rfl, lf_rf _ _⟩
          rw [kc_175_353, h70, if_neg (by rw [lz_lt, lz_lit (by omega), lz_lit (by omega)]; omega)]
          simp only [if_pos it, nt]
          rw [if_neg hg.1, if_pos e111, if_neg k4]
      have c : ∀ k j, swC k j = false → k ≠ 57 → (lj_put σ1 57 t 0).1 k j = σ.1 k j := fun k j w1 w2 => by rw [lj_put_1, if_neg (fun y => w2 y.1), (a4 k j w1).1]
      have e57 : ∀ u, (lj_put σ1 57 t 0).1 57 u = if u = t then 0 else σ.1 57 u := fun u => by
        rw [lj_put_1]
        by_cases e : u = t
        · rw [if_pos ⟨rfl, e⟩, if_pos e]
        · rw [if_neg (fun y => e y.2), if_neg e, (a4 57 u rfl).1]
      obtain ⟨σ', P', B', Fr', r1, r2, r3, r4, r5, r6⟩ := c_gone hn x1 x2 x3 d (t + 1) (g + 1) (lj_put σ1 57 t 0) (pUp P t []) B1 Fr1 (by omega) (by omega) (by rw [c 7 0 rfl (by omega)]; exact h70) (fun u hu => by rw [c 111 u rfl (by omega)]; exact h111 u hu) (hsC_57 a2 t 0) (fun u u1 u2 w => by
        rw [pUp_o _ _ (show u ≠ t by omega)]
        rw [e57, if_neg (by omega)] at w
        exact hP u (by omega) u2 w)
      refine ⟨σ', P', B', Fr', ?_, r2, fun u hu => ?_, fun u => ?_, ?_, (lf_put (a4.mo (fun _ _ q => swC_K q)) _ _ _ rfl).tr r6⟩
      · have eg : g + 1 + gnN ((lj_put σ1 57 t 0).1 57) T (t + 1) d = g + gnN (σ.1 57) T t (d + 1) := by
          rw [gnN_cg (kd := σ.1 57) d (t + 1) (fun u u1 u2 => by rw [e57, if_neg (by omega)])]
          show _ = g + ((if σ.1 57 t ≠ 0 ∧ T t = false then 1 else 0) + gnN (σ.1 57) T (t + 1) d)
          rw [if_pos hg]
          omega
        rw [eg] at r1
        rw [a1, kc_175_424, if_pos it, nt, kc_175_441, lz_osucc, lz_osucc]
        exact r1
      · rw [r3 u hu]
        by_cases e : u = t
        · rw [e, if_neg (by omega), if_pos ⟨Nat.le_refl _, hg.2⟩, pUp_t]
        · rw [pUp_o _ _ e]
          by_cases w : t + 1 ≤ u ∧ T u = false
          · rw [if_pos w, if_pos ⟨by omega, w.2⟩]
          · rw [if_neg w, if_neg (fun y => w ⟨by omega, y.2⟩)]
      · rw [r4, e57]
        by_cases e : u = t
        · rw [if_pos e, if_neg (by omega), if_pos ⟨by omega, by omega, by rw [e]; exact hg.2⟩]
        · rw [if_neg e]
          by_cases w : t + 1 ≤ u ∧ u ≤ n ∧ T u = false
          · rw [if_pos w, if_pos ⟨by omega, w.2⟩]
          · rw [if_neg w, if_neg (fun y => w ⟨by omega, y.2⟩)]
      · have := sumP_up P t [] tn
        have e0 : ([] : List Nat).length = 0 := rfl
        omega
    · obtain ⟨σ', P', B', Fr', r1, r2, r3, r4, r5, r6⟩ := c_gone hn x1 x2 x3 d (t + 1) g σ P B Fr (by omega) (by omega) h70 h111 h (fun u u1 u2 w => hP u (by omega) u2 w)
      have pe : T t = false → P t = [] ∧ σ.1 57 t = 0 := fun w => by
        have k0 : σ.1 57 t = 0 := Classical.byContradiction (fun y => hg ⟨y, w⟩)
        exact ⟨hP t (Nat.le_refl _) tn (by rw [k0]; decide), k0⟩
      refine ⟨σ', P', B', Fr', ?_, r2, fun u hu => ?_, fun u => ?_, r5, r6⟩
      · have eg : gnN (σ.1 57) T t (d + 1) = gnN (σ.1 57) T (t + 1) d := by
          show (if σ.1 57 t ≠ 0 ∧ T t = false then 1 else 0) + gnN (σ.1 57) T (t + 1) d = _
          rw [if_neg hg, Nat.zero_add]
        rw [eg, kc_175_353, h70, if_neg (by rw [lz_lt, lz_lit (by omega), lz_lit (by omega)]; omega)]
        simp only [if_pos it, nt]
        by_cases k0 : σ.1 57 t = 0
        · rw [if_pos k0, kc_175_441, lz_osucc]
          exact r1
        · have tt : T t = true := by
            cases e : T t with
            | true => rfl
            | false => exact absurd ⟨k0, e⟩ hg
          rw [if_neg k0, if_neg ((h111 t tn).2 tt), kc_175_441, lz_osucc]
          exact r1
      · rw [r3 u hu]
        by_cases e : u = t
        · rw [e, if_neg (by omega)]
          by_cases w : T t = false
          · rw [if_pos ⟨Nat.le_refl _, w⟩, (pe w).1]
          · rw [if_neg (fun y => w y.2)]
        · by_cases w : t + 1 ≤ u ∧ T u = false
          · rw [if_pos w, if_pos ⟨by omega, w.2⟩]
          · rw [if_neg w, if_neg (fun y => w ⟨by omega, y.2⟩)]
      · rw [r4]
        by_cases e : u = t
        · rw [e, if_neg (by omega)]
          by_cases w : T t = false
          · rw [if_pos ⟨Nat.le_refl _, tn, w⟩, (pe w).2]
          · rw [if_neg (fun y => w y.2.2)]
        · by_cases w : t + 1 ≤ u ∧ u ≤ n ∧ T u = false
          · rw [if_pos w, if_pos ⟨by omega, w.2⟩]
          · rw [if_neg w, if_neg (fun y => w ⟨by omega, y.2⟩)]
theorem c_kept {n : Nat} (hn : n ≤ 2000) {fi : Nat} (hfi : fi < 520) (x1 x2 x3 x4 : Int32) : ∀ (d t : Nat) (σ : lj_S) (P B : Nat → List Nat) (Fr : List Nat), t + d = n + 1 → σ.1 7 0 = Int32.ofNat n → σ.1 8 34 = Int32.ofNat fi → hsC σ (· ≤ n) P B Fr → (∀ u, t ≤ u → u ≤ n → σ.1 57 u ≠ 4 → P u = []) → ∃ (σ' : lj_S) (P' B' : Nat → List Nat) (Fr' : List Nat), lj_D lc_P lc_M175 450 [.ref 8, .int x1, .int x2, .int x3, .int x4, .int (Int32.ofNat t)] [] σ = lj_bv (lj_R lc_P 153 [.ref 8] (lj_put σ' 101 fi x4)) (fun σ1 => some (.inl none, σ1)) lj_up ∧ hsC σ' (· ≤ n) P' B' Fr' ∧ (∀ u, u ≤ n → P' u = if t ≤ u then (P u).filter (kpB false σ) else P u) ∧ Fr'.length + sumP P' n = Fr.length + sumP P n ∧ lf swC σ σ'
  | 0, t, σ, P, B, Fr, hd, h70, h34, h, hP => by
    have ii : lj_in (Int32.ofNat fi) 520 := ofN_in (by omega) (by omega)
    refine ⟨σ, P, B, Fr, ?_, h, fun u hu => by rw [if_neg (by omega)], rfl, lf_rf _ _⟩
    rw [kc_175_450, h70, if_pos (by rw [lz_lt, lz_lit (by omega), lz_lit (by omega)]; omega), h34, if_pos ii, lz_onat (by omega)]
  | d + 1, t, σ, P, B, Fr, hd, h70, h34, h, hP => by
    have it : lj_in (Int32.ofNat t) 2001 := ofN_in (by omega) (by omega)
    have nt : (Int32.ofNat t).toNatClampNeg = t := lz_onat (by omega)
    have tn : t ≤ n := by omega
    obtain ⟨σ1, B1, Fr1, a1, a2, a3, a4⟩ : ∃ (σ1 : lj_S) (B1 : Nat → List Nat) (Fr1 : List Nat), lj_D lc_P lc_M175 450 [.ref 8, .int x1, .int x2, .int x3, .int x4, .int (Int32.ofNat t)] [] σ = lj_D lc_P lc_M175 495 [.ref 8, .int x1, .int x2, .int x3, .int x4, .int (Int32.ofNat t)] [] σ1 ∧ hsC σ1 (· ≤ n) (pUp P t ((P t).filter (kpB false σ))) B1 Fr1 ∧ Fr1.length + ((P t).filter (kpB false σ)).length = Fr.length + (P t).length ∧ lf swC σ σ1 := by
      by_cases k4 : σ.1 57 t = 4
      · obtain ⟨σ1, B1, Fr1, r1, r2, r3, r4⟩ := c_sw hn tn false h
        refine ⟨σ1, B1, Fr1, ?_, r2, r3, r4⟩
        have r1 : lj_R lc_P 120 [.ref 7, .int (Int32.ofNat t), .int 0] σ = some (.inl none, σ1) := r1
        rw [kc_175_450, h70, if_neg (by rw [lz_lt, lz_lit (by omega), lz_lit (by omega)]; omega), if_pos it, nt, if_pos k4, r1, bv_ok]
      · have pe := hP t (Nat.le_refl _) tn k4
        refine ⟨σ, B, Fr, ?_, by rw [pe, pUp_id P t (by rw [pe]; rfl)]; exact h, by rw [pe]; rfl, lf_rf _ _⟩
        rw [kc_175_450, h70, if_neg (by rw [lz_lt, lz_lit (by omega), lz_lit (by omega)]; omega), if_pos it, nt, if_neg k4]
    have ek : kpB false σ1 = kpB false σ := by
      funext x
      unfold kpB
      rw [(a4 68 x rfl).1]
    obtain ⟨σ', P', B', Fr', r1, r2, r3, r4, r5⟩ := c_kept hn hfi x1 x2 x3 x4 d (t + 1) σ1 _ B1 Fr1 (by omega) (by rw [(a4 7 0 rfl).1]; exact h70) (by rw [(a4 8 34 rfl).1]; exact h34) a2 (fun u u1 u2 w => by
      rw [pUp_o _ _ (show u ≠ t by omega)]
      rw [(a4 57 u rfl).1] at w
      exact hP u (by omega) u2 w)
    refine ⟨σ', P', B', Fr', ?_, r2, fun u hu => ?_, ?_, a4.tr r5⟩
    · rw [a1, kc_175_495, lz_osucc]
      exact r1
    · rw [r3 u hu, ek]
      by_cases e : u = t
      · rw [e, if_neg (by omega), if_pos (Nat.le_refl _), pUp_t]
      · rw [pUp_o _ _ e]
        by_cases w : t + 1 ≤ u
        · rw [if_pos w, if_pos (by omega)]
        · rw [if_neg w, if_neg (by omega)]
    · have := sumP_up P t ((P t).filter (kpB false σ)) tn
      omega
