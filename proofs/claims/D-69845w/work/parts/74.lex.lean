theorem c_seek_skip {σ : lj_S} (r : Nat) {W : List Int32} (hW : lj_nth lc_str (r - 1000) = some W) (hr : 1000 ≤ r) (hWl : W.length < 100000) (x2 x3 x4 : Int32) (ws : List (List Int32)) (x6 : Value) : ∀ (u : List Int32) (i : Nat), W.drop i = u ++ rowt ws → (32 : Int32) ∉ u → lj_D lc_P lc_M46 6 [.ref 4, .ref r, .int x2, .int x3, .int x4, .int (Int32.ofNat i), x6] [] σ = lj_D lc_P lc_M46 6 [.ref 4, .ref r, .int x2, .int x3, .int x4, .int (Int32.ofNat (i + u.length)), x6] [] σ
  | [], i, _, _ => rfl
  | c :: u, i, h, hn => by
    have hlen : W.length - i = (c :: u).length + (rowt ws).length := by rw [← List.length_drop, h, List.length_append]
    have hpos : 0 < (rowt ws).length := List.length_pos_iff.2 (rowt_ne ws)
    have hi : i + 1 < W.length := by simp at hlen; omega
    have hc : W.getD i 0 = c := by
      have := List.getElem?_drop (xs := W) (i := i) (j := 0)
      rw [h] at this
      simp at this
      rw [List.getD_eq_getElem?_getD, ← this]; rfl
    have hd : W.drop (i + 1) = u ++ rowt ws := by
      rw [← List.drop_drop, h]; rfl
    have hble : Nat.ble 1000 r = true := Nat.ble_eq_true_of_le hr
    have one : (1 : Int32).toInt = 1 := by decide
    have c32 : ¬ c = 32 := fun e => hn (by rw [e]; exact List.mem_cons_self)
    rw [kc_46_6, hble, c_strlen σ r hW hr]
    simp only [Bool.and_true, cond_true]
    unfold lj_bi
    simp only []
    rw [if_neg (by rw [lz_le, lz_sub (by rw [lz_lit (by omega), one]; omega), lz_lit (by omega), lz_lit (by omega), one]; omega), c_charAt σ r hW hr _ (lz_in.2 (by rw [lz_lit (by omega)]; omega)), lz_onat (by omega), hc]
    simp only []
    rw [if_neg c32, kc_46_122, lz_osucc, c_seek_skip r hW hr hWl x2 x3 x4 ws x6 u (i + 1) hd (fun z => hn (List.mem_cons_of_mem _ z))]
    rw [show i + 1 + u.length = i + (c :: u).length by simp; omega]
def lidx (P : List Int32) : List (List Int32) → Nat → Int32
  | [], _ => -1
  | w :: ws, k => if P = w then Int32.ofNat k else lidx P ws (k + 1)
theorem c_seek_row {σ : lj_S} {b : Nat → Int32} {n : Nat} (hb : tB b n) (hC : tC σ b n) (r : Nat) {W : List Int32} (hW : lj_nth lc_str (r - 1000) = some W) (hr : 1000 ≤ r) (hWl : W.length < 100000) (p N : Nat) (hp : p + N < 100000) (h32 : ∀ j, j < N → b (p + j) ≠ 32) : ∀ (ws : List (List Int32)) (i k : Nat) (x6 : Value), W.drop i = rowt ws → (∀ w ∈ ws, (32 : Int32) ∉ w) → lj_D lc_P lc_M46 6 [.ref 4, .ref r, .int (Int32.ofNat p), .int (Int32.ofNat N), .int (Int32.ofNat k), .int (Int32.ofNat i), x6] [] σ = some (.inl (some (.int (lidx (tP b p N) ws k))), σ)
  | [], i, k, x6, h, _ => by
    have hlen : W.length - i = 1 := by rw [← List.length_drop, h]; rfl
    have hble : Nat.ble 1000 r = true := Nat.ble_eq_true_of_le hr
    have one : (1 : Int32).toInt = 1 := by decide
    rw [kc_46_6, hble, c_strlen σ r hW hr]
    simp only [Bool.and_true, cond_true]
    unfold lj_bi
    simp only []
    rw [if_pos (by rw [lz_le, lz_sub (by rw [lz_lit (by omega), one]; omega), lz_lit (by omega), lz_lit (by omega), one]; omega)]
    rfl
  | w :: ws, i, k, x6, h, hn => by
    have hw := hn w (List.mem_cons_self)
    obtain ⟨R, hR⟩ := rowt_head ws
    have hlen : W.length - i = 1 + (w.length + (R.length + 1)) := by rw [← List.length_drop, h]; simp [rowt, hR]; omega
    have hd : W.drop (i + 1) = w ++ rowt ws := by
      rw [← List.drop_drop, h]; rfl
    have hd' : W.drop (i + 1) = w ++ 32 :: R := by rw [hd, hR]
    have hc : W.getD i 0 = 32 := by
      have := List.getElem?_drop (xs := W) (i := i) (j := 0)
      rw [h] at this
      simp [rowt] at this
      rw [List.getD_eq_getElem?_getD, ← this]; rfl
    have hget : ∀ t, i + 1 + t < W.length → (w ++ 32 :: R)[t]? = some (W.getD (i + 1 + t) 0) := fun t ht => by
      rw [← hd', List.getElem?_drop, List.getD_eq_getElem?_getD, List.getElem?_eq_getElem ht]; rfl
    have hble : Nat.ble 1000 r = true := Nat.ble_eq_true_of_le hr
    have one : (1 : Int32).toInt = 1 := by decide
    have h32P : (32 : Int32) ∉ tP b p N := fun z => by
      simp only [tP, List.mem_map, List.mem_range] at z
      obtain ⟨j, hj, e⟩ := z
      exact h32 j hj e
    obtain ⟨j', hj⟩ := c_seek_in hb hC r hW hr hWl p N i (Int32.ofNat k) hp h32 N 0 (by omega)
    obtain ⟨_, a2, a3, a4, a5⟩ := hj.resolve_right (by omega)
    have next : lj_D lc_P lc_M46 119 [.ref 4, .ref r, .int (Int32.ofNat p), .int (Int32.ofNat N), .int (Int32.ofNat k), .int (Int32.ofNat i), .int (Int32.ofNat j')] [] σ = some (.inl (some (.int (lidx (tP b p N) ws (k + 1)))), σ) := by
      rw [kc_46_119, kc_46_122, lz_osucc, lz_osucc, c_seek_skip r hW hr hWl _ _ _ ws _ w (i + 1) hd hw]
      refine c_seek_row hb hC r hW hr hWl p N hp h32 ws _ _ _ ?_ (fun w' h' => hn w' (List.mem_cons_of_mem _ h'))
      rw [← List.drop_drop, hd, List.drop_left]
    rw [kc_46_6, hble, c_strlen σ r hW hr]
    simp only [Bool.and_true, cond_true]
    unfold lj_bi
    simp only []
    rw [if_neg (by rw [lz_le, lz_sub (by rw [lz_lit (by omega), one]; omega), lz_lit (by omega), lz_lit (by omega), one]; omega), c_charAt σ r hW hr _ (lz_in.2 (by rw [lz_lit (by omega)]; omega)), lz_onat (by omega), hc]
    simp only []
    rw [if_pos trivial]
    have z : (Value.int (0 : Int32)) = .int (Int32.ofNat 0) := rfl
    rw [z, a5, kc_46_95]
    by_cases hN : j' = N
    · subst hN
      rw [if_pos rfl]
      -- all bytes stand there
      have hlt : i + 1 + j' < W.length := by
        rcases Nat.lt_or_ge (i + 1 + j') W.length with h1 | h1
        · exact h1
        · exfalso
          -- then the blank behind the word is among the bytes
          have hwl : w.length < j' := by omega
          have h2 := a3 w.length (by omega) hwl
          have h3 := hget w.length h2.1
          rw [List.getElem?_append_right (Nat.le_refl _), Nat.sub_self, List.getElem?_cons_zero] at h3
          rw [← Option.some.inj h3] at h2
          exact h32 w.length hwl h2.2.symm
      have e2 : Int32.ofNat i + 1 + Int32.ofNat j' = Int32.ofNat (i + 1 + j') := by rw [lz_osucc]; exact (Int32.ofNat_add (i + 1) j').symm
      rw [hble, e2, c_charAt σ r hW hr _ (lz_in.2 (by rw [lz_lit (by omega)]; omega)), lz_onat (by omega)]
      simp only [Bool.and_true, cond_true]
      unfold lj_bi
      simp only []
      have htake : (w ++ 32 :: R).take (tP b p j').length = tP b p j' := by
        apply List.ext_getElem?
        intro t
        rw [tP_len, List.getElem?_take]
        by_cases ht : t < j'
        · rw [if_pos ht, hget t (a3 t (by omega) ht).1, (a3 t (by omega) ht).2, List.getElem?_eq_getElem (by rw [tP_len]; exact ht), tP_get]
        · rw [if_neg ht, List.getElem?_eq_none (by rw [tP_len]; omega)]
      have hm := row_match (P := tP b p j') (w := w) (R := R) h32P hw
      rw [tP_len] at hm htake
      have hg := hget j' hlt
      by_cases q : W.getD (i + 1 + j') 0 = 32
      · rw [if_pos q]
        have : tP b p j' = w := hm.1 ⟨htake, by rw [hg, q]⟩
        unfold lidx
        rw [if_pos this]
      · rw [if_neg q, next]
        have : ¬ tP b p j' = w := fun e => q (by have := (hm.2 e).2; rw [hg] at this; exact Option.some.inj this)
        rw [show lidx (tP b p j') (w :: ws) k = if tP b p j' = w then Int32.ofNat k else lidx (tP b p j') ws (k + 1) from rfl, if_neg this]
    · rw [if_neg (by rw [lz_eq, lz_lit (by omega), lz_lit (by omega)]; omega), next]
      have : ¬ tP b p N = w := fun e => by
        have hjl : j' < (tP b p N).length := by rw [tP_len]; omega
        refine a4 (by omega) ⟨?_, ?_⟩
        · rw [tP_len] at hjl; have : (tP b p N).length = w.length := by rw [e]
          rw [tP_len] at this; omega
        · have h1 : i + 1 + j' < W.length := by
            have : (tP b p N).length = w.length := by rw [e]
            rw [tP_len] at this; omega
          have h2 := hget j' h1
          rw [← e, List.getElem?_append_left hjl, List.getElem?_eq_getElem hjl, tP_get] at h2
          exact (Option.some.inj h2).symm
      rw [show lidx (tP b p N) (w :: ws) k = if tP b p N = w then Int32.ofNat k else lidx (tP b p N) ws (k + 1) from rfl, if_neg this]
theorem c_seek {σ : lj_S} {b : Nat → Int32} {n : Nat} (hb : tB b n) (hC : tC σ b n) (r : Nat) (ws : List (List Int32)) (hW : lj_nth lc_str (r - 1000) = some (rowt ws)) (hr : 1000 ≤ r) (hWl : (rowt ws).length < 100000) (hws : ∀ w ∈ ws, (32 : Int32) ∉ w) (p N : Nat) (hp : p + N < 100000) (h32 : ∀ j, j < N → b (p + j) ≠ 32) : lj_R lc_P 46 [.ref 4, .ref r, .int (Int32.ofNat p), .int (Int32.ofNat N)] σ = some (.inl (some (.int (lidx (tP b p N) ws 0))), σ) := by
  rw [rc_46, kc_46_0]
  exact c_seek_row hb hC r hW hr hWl p N hp h32 ws 0 0 _ rfl hws
