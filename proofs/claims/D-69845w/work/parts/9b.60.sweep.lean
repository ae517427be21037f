/-! the gathering: a table's places are swept -/
def swC (k j : Nat) : Bool := k == 59 || k == 60 || k == 61 || k == 70 || k == 72 || k == 73 || (k == 7 && (j == 11 || j == 12))
def kpB (all : Bool) (σ : lj_S) (q : Nat) : Bool := !all && decide (σ.1 68 q ≠ 0)
theorem ls_32 {L : List Nat} (h : ∀ x ∈ L, x < 3001) : ∃ z : Int32, z.toInt = lsI L := by
  by_cases e : L = []
  · exact ⟨-1, by rw [e]; exact lz_m1⟩
  · obtain ⟨q, hq⟩ := ls_ex L e
    exact ⟨Int32.ofNat q, by rw [hq, lz_lit (by have := h q (ls_mem L q hq.symm); omega)]⟩
/-- one place goes -/
theorem c_sw_one {n t : Nat} (hn : n ≤ 2000) (ht : t ≤ n) {σ : lj_S} {P B : Nat → List Nat} {Fr : List Nat} {z : Int32} (h : hsC (lj_put σ 60 t z) (· ≤ n) P B Fr) {K R : List Nat} {q : Nat} (hP : P t = K ++ q :: R) (x2 : Int32) {x3 : Int32} (h3 : x3.toInt = lsI K) : ∃ (σ1 : lj_S) (z1 : Int32) (B1 : Nat → List Nat), lj_D lc_P lc_M120 38 [.ref 7, .int (Int32.ofNat t), .int x2, .int x3, .int (Int32.ofNat q), .int (σ.1 70 q)] [] σ = lj_D lc_P lc_M120 10 [.ref 7, .int (Int32.ofNat t), .int x2, .int x3, .int (σ.1 70 q), .int (σ.1 70 q)] [] σ1 ∧ hsC (lj_put σ1 60 t z1) (· ≤ n) (pUp P t (K ++ R)) B1 (q :: Fr) ∧ z1.toInt = lsI (K ++ R) ∧ lf swC σ σ1 ∧ ∀ x ∈ R, lv σ1 70 x = lv σ 70 x := by
  have lz : ∀ k j, k ≠ 60 → lv (lj_put σ 60 t z) k j = lv σ k j := fun k j w => by rw [lv_put, if_neg (fun y => w y.1)]
  have l1 : ∀ k j, k ≠ 60 → (lj_put σ 60 t z).1 k j = σ.1 k j := fun k j w => by rw [lj_put_1, if_neg (fun y => w y.1)]
  obtain ⟨⟨p1, p2, p3⟩, ⟨f1, f2, f3⟩, c61⟩ := id h
  have mq : q ∈ P t := by rw [hP]; exact List.mem_append_right _ List.mem_cons_self
  obtain ⟨q3, q71, qB, _⟩ := p3 t ht q mq
  rw [l1 71 q (by omega), l1 66 q (by omega), lj_put_2] at qB
  obtain ⟨b, hbe⟩ : ∃ b, b = hbC (σ.1 71 q) (σ.1 66 q) (σ.2 67 q) := ⟨_, rfl⟩
  have hb : b < 4096 := by rw [hbe]; exact hbC_lt _ _ _
  rw [← hbe] at qB
  obtain ⟨X, Y, hB⟩ := List.append_of_mem qB
  have ndP := lk_nd (p1 t ht).1
  rw [hP] at ndP
  have bP : ∀ x ∈ P t, x < 3000 := fun x hx => (p3 t ht x hx).1
  have bK : ∀ x ∈ K, x < 3000 := fun x hx => bP x (by rw [hP]; exact List.mem_append_left _ hx)
  have ndB := lk_nd (p2 b hb).1
  rw [hB] at ndB
  have lB := (p2 b hb).1
  rw [show lv (lj_put σ 60 t z) 72 = lv σ 72 from funext (fun j => lz 72 j (by omega)), lz 73 b (by omega), hB] at lB
  obtain ⟨k, j, hkj, run⟩ := c_unb q3 hb hbe.symm lB (fun x hx => by
    rw [← hB] at hx
    obtain ⟨⟨u, u1, u2⟩, _⟩ := (p2 b hb).2 x hx
    exact (p3 u u1 x u2).1) ndB
  have qK : q ∉ K := fun w => (List.nodup_append.1 ndP).2.2 q w q List.mem_cons_self rfl
  have lFr : Fr.length ≤ 3000 := nd_le _ _ (lk_nd f1) (fun x hx => (f3 x hx).1)
  obtain ⟨kp, jp, hK⟩ : ∃ kp jp : Nat, (K = [] ∧ kp = 59 ∧ jp = t) ∨ (K ≠ [] ∧ kp = 70 ∧ lsI K = (jp : Int) ∧ jp ∈ K) := by
    by_cases e : K = []
    · exact ⟨59, t, Or.inl ⟨e, rfl, rfl⟩⟩
    · obtain ⟨w, hw⟩ := ls_ex K e
      exact ⟨70, w, Or.inr ⟨e, rfl, hw, ls_mem K w hw.symm⟩⟩
  obtain ⟨σb, hσb⟩ : ∃ σb, σb = lj_put (lj_put σ k j (σ.1 72 q)) kp jp (σ.1 70 q) := ⟨_, rfl⟩
  obtain ⟨σ1, hσ1⟩ : ∃ σ1, σ1 = lj_put (lj_put (lj_put (lj_put σb 70 q (σb.1 7 12)) 7 12 (Int32.ofNat q)) 7 11 (σb.1 7 11 - 1)) 61 t (σb.1 61 t - 1) := ⟨_, rfl⟩
  obtain ⟨z1, hz1⟩ := ls_32 (L := K ++ R) (fun x hx => by
    have : x ∈ P t := by
      rw [hP]
      rcases List.mem_append.1 hx with w | w
      · exact List.mem_append_left _ w
      · exact List.mem_append_right _ (List.mem_cons_of_mem _ w)
    have := bP x this
    omega)
  have kk : k = 73 ∨ k = 72 := by rcases hkj with w | w; exact Or.inl w.2.1; exact Or.inr w.2.1
  have kq : kp = 59 ∨ kp = 70 := by rcases hK with w | w; exact Or.inl w.2.1; exact Or.inr w.2.1
  have eb : ∀ a i, a = 7 ∨ a = 61 → σb.1 a i = σ.1 a i := fun a i w => by rw [hσb, lj_put_1, if_neg (by omega), lj_put_1, if_neg (by omega)]
  have o1 : (1 : Int32).toInt = 1 := by decide
  have v61 : (σb.1 61 t - 1).toInt = lv σ 61 t - 1 := by
    rw [eb 61 t (by omega)]
    have w := c61 t ht
    rw [lz 61 t (by omega), hP, List.length_append, List.length_cons] at w
    have := lv_b σ 61 t
    unfold lv at w this ⊢
    rw [lz_sub (by rw [o1]; omega), o1]
  have v11 : (σb.1 7 11 - 1).toInt = lv σ 7 11 - 1 := by
    rw [eb 7 11 (by omega)]
    rw [lz 7 11 (by omega)] at f2
    unfold lv at f2 ⊢
    rw [lz_sub (by rw [o1]; omega), o1]
  have v12 : (σb.1 7 12).toInt = lv σ 7 12 := by rw [eb 7 12 (by omega)]; rfl
  have vq : (Int32.ofNat q).toInt = (q : Int) := lz_lit (by omega)
  have key : ∀ a i, lv (lj_put σ1 60 t z1) a i = if a = 60 ∧ i = t then lsI (K ++ R) else if a = 61 ∧ i = t then lv σ 61 t - 1 else if a = 7 ∧ i = 11 then lv σ 7 11 - 1 else if a = 7 ∧ i = 12 then (q : Int) else if a = 70 ∧ i = q then lv σ 7 12 else if a = kp ∧ i = jp then lv σ 70 q else if a = k ∧ i = j then lv σ 72 q else lv σ a i := fun a i => by
    rw [lv_put, hσ1, lv_put, lv_put, lv_put, lv_put, hz1, v61, v11, vq, v12, hσb, lv_put, lv_put]
    rfl
  have n60 : ∀ a i, a ≠ 60 → lv (lj_put σ1 60 t z1) a i = lv σ1 a i := fun a i w => by rw [lv_put, if_neg (fun y => w y.1)]
  have it : lj_in (Int32.ofNat t) 2001 := ofN_in (by omega) (by omega)
  have nt : (Int32.ofNat t).toNatClampNeg = t := lz_onat (by omega)
  have iq : lj_in (Int32.ofNat q) 3000 := ofN_in (by omega) (by omega)
  have nq : (Int32.ofNat q).toNatClampNeg = q := lz_onat (by omega)
  have g70 : ∀ x : Nat, x ≠ q → (x : Int) ≠ lsI K → lv (lj_put σ1 60 t z1) 70 x = lv σ 70 x := fun x w1 w2 => by
    rw [key, if_neg (by omega), if_neg (by omega), if_neg (by omega), if_neg (by omega), if_neg (by omega), if_neg (fun y => by rcases hK with w | w <;> omega), if_neg (by omega)]
  refine ⟨σ1, z1, pUp B b (X ++ Y), ?_, ?_, hz1, ?_, fun x hx => ?_⟩
  · have s38 : lj_D lc_P lc_M120 38 [.ref 7, .int (Int32.ofNat t), .int x2, .int x3, .int (Int32.ofNat q), .int (σ.1 70 q)] [] σ = lj_D lc_P lc_M120 67 [.ref 7, .int (Int32.ofNat t), .int x2, .int x3, .int (Int32.ofNat q), .int (σ.1 70 q)] [] σb := by
      rw [kc_120_38, run, bv_ok]
      rcases hK with ⟨w1, w2, w3⟩ | ⟨w1, w2, w3, w4⟩
      · rw [w1] at h3
        have h3 : x3.toInt = -1 := h3
        rw [if_neg (by rw [lz_le, h3]; decide), if_pos it, nt, hσb, w2, w3]
      · have e3 : x3 = Int32.ofNat jp := lz_ext (by rw [h3, w3, lz_lit (by have := bK jp w4; omega)])
        have := bK jp w4
        have ij : lj_in (Int32.ofNat jp) 3000 := ofN_in (by omega) (by omega)
        rw [e3, if_pos (by rw [lz_le, lz_lit (by omega)]; show (0 : Int) ≤ _; omega), if_pos ij, lz_onat (by omega), hσb, w2]
    rw [s38, kc_120_67]
    simp only [if_pos iq, if_pos it, nq, nt]
    rw [kc_120_110, hσ1]
  · refine hs_del h (fun u hu => by have hu : u ≤ n := hu; omega) ht hP hb hB (fun x w1 w2 => by rw [lz 70 x (by omega)]; exact g70 x w1 w2) (fun x hx w => ?_) ?_ (fun u => ?_) (fun u => ?_) (fun x w => ?_) (fun x hx w => ?_) (fun d => ?_) ?_ ?_ (fun u => ?_) (fun a i w => ?_) (fun i => ?_)
    · have xq : x ≠ q := fun e => qK (by rw [← e]; exact hx)
      rcases hK with ⟨w1, _⟩ | ⟨w1, w2, w3, w4⟩
      · rw [w1] at hx; cases hx
      · rw [key, if_neg (by omega), if_neg (by omega), if_neg (by omega), if_neg (by omega), if_neg (by omega), if_pos ⟨w2.symm, by omega⟩, lz 70 q (by omega)]
    · rw [key, if_neg (by omega), if_neg (by omega), if_neg (by omega), if_neg (by omega), if_pos ⟨rfl, rfl⟩, lz 7 12 (by omega)]
    · rw [key, if_neg (by omega), if_neg (by omega), if_neg (by omega), if_neg (by omega), if_neg (by omega), lz 70 q (by omega), lz 59 u (by omega)]
      rcases hK with ⟨w1, w2, w3⟩ | ⟨w1, w2, w3, w4⟩
      · by_cases e : u = t
        · rw [if_pos ⟨w2.symm, by rw [w3]; exact e⟩, if_pos ⟨e, w1⟩]
        · rw [if_neg (fun y => e (by rw [← w3]; exact y.2)), if_neg (by omega), if_neg (fun y => e y.1)]
      · rw [if_neg (by omega), if_neg (by omega), if_neg (fun y => w1 y.2)]
    · by_cases e : u = t
      · rw [key, if_pos ⟨rfl, e⟩, if_pos e]
      · rw [key, if_neg (fun y => e y.2), if_neg (by omega), if_neg (by omega), if_neg (by omega), if_neg (by omega), if_neg (by omega), if_neg (by omega), if_neg e, lv_put, if_neg (fun y => e y.2)]
    · rw [key, if_neg (by omega), if_neg (by omega), if_neg (by omega), if_neg (by omega), if_neg (by omega), if_neg (by omega), if_neg (fun y => by rcases hkj with w' | w' <;> omega), lz 72 x (by omega)]
    · rcases hkj with ⟨w1, _⟩ | ⟨w1, w2, w3, w4⟩
      · rw [w1] at hx; cases hx
      · rw [key, if_neg (by omega), if_neg (by omega), if_neg (by omega), if_neg (by omega), if_neg (by omega), if_neg (by omega), if_pos ⟨w2.symm, by omega⟩, lz 72 q (by omega)]
    · rw [key, if_neg (by omega), if_neg (by omega), if_neg (by omega), if_neg (by omega), if_neg (by omega), if_neg (by omega), lz 72 q (by omega), lz 73 d (by omega)]
      rcases hkj with ⟨w1, w2, w3⟩ | ⟨w1, w2, w3, w4⟩
      · by_cases e : d = b
        · rw [if_pos ⟨w2.symm, by rw [w3]; exact e⟩, if_pos ⟨e, w1⟩]
        · rw [if_neg (fun y => e (by rw [← w3]; exact y.2)), if_neg (fun y => e y.1)]
      · rw [if_neg (by omega), if_neg (fun y => w1 y.2)]
    · rw [key, if_neg (by omega), if_neg (by omega), if_neg (by omega), if_pos ⟨rfl, rfl⟩]
    · rw [key, if_neg (by omega), if_neg (by omega), if_pos ⟨rfl, rfl⟩, lz 7 11 (by omega)]
    · by_cases e : u = t
      · rw [key, if_neg (by omega), if_pos ⟨rfl, e⟩, if_pos e, lz 61 t (by omega)]
      · rw [key, if_neg (by omega), if_neg (fun y => e y.2), if_neg (by omega), if_neg (by omega), if_neg (by omega), if_neg (by omega), if_neg (by omega), if_neg e, lz 61 u (by omega)]
    · rw [l1 a i (by omega), lj_put_1, if_neg (by omega), hσ1, lj_put_1, if_neg (by omega), lj_put_1, if_neg (by omega), lj_put_1, if_neg (by omega), lj_put_1, if_neg (by omega), hσb, lj_put_1, if_neg (by omega), lj_put_1, if_neg (by omega)]
    · rw [lj_put_2, hσ1, hσb]
      rfl
  · rw [hσ1, hσb]
    refine lf_put (lf_put (lf_put (lf_put (lf_put (lf_put (lf_rf _ _) _ _ _ ?_) _ _ _ ?_) _ _ _ ?_) _ _ _ ?_) _ _ _ ?_) _ _ _ ?_
    · rcases kk with w | w <;> rw [w] <;> rfl
    · rcases kq with w | w <;> rw [w] <;> rfl
    · rfl
    · rfl
    · rfl
    · rfl
  · rw [← n60 70 x (by omega)]
    have nd2 := List.nodup_append.1 ndP
    refine g70 x (fun e => (List.nodup_cons.1 nd2.2.1).1 (by rw [← e]; exact hx)) (fun e => nd2.2.2 x (ls_mem K x e) x (List.mem_cons_of_mem _ hx) rfl)
theorem pUp_pUp (P : Nat → List Nat) (t : Nat) (L M : List Nat) : pUp (pUp P t L) t M = pUp P t M := by
  funext u
  unfold pUp
  by_cases e : u = t
  · rw [if_pos e, if_pos e]
  · rw [if_neg e, if_neg e, if_neg e]
theorem pUp_id (P : Nat → List Nat) (t : Nat) {L : List Nat} (h : P t = L) : pUp P t L = P := by
  funext u
  unfold pUp
  by_cases e : u = t
  · rw [if_pos e, e, h]
  · rw [if_neg e]
theorem c_sw_loop {n t : Nat} (hn : n ≤ 2000) (ht : t ≤ n) (all : Bool) : ∀ (L K : List Nat) (σ : lj_S) (P B : Nat → List Nat) (Fr : List Nat) (z x3 y : Int32) (X5 : Value), hsC (lj_put σ 60 t z) (· ≤ n) P B Fr → P t = K ++ L → z.toInt = lsI (K ++ L) → x3.toInt = lsI K → lk (lv σ 70) y.toInt L → ∃ (σ' : lj_S) (B' : Nat → List Nat) (Fr' : List Nat), lj_D lc_P lc_M120 10 [.ref 7, .int (Int32.ofNat t), .int (bI all), .int x3, .int y, X5] [] σ = some (.inl none, σ') ∧ hsC σ' (· ≤ n) (pUp P t (K ++ L.filter (kpB all σ))) B' Fr' ∧ Fr'.length + (K ++ L.filter (kpB all σ)).length = Fr.length + (K ++ L).length ∧ lf swC σ σ'
  | [], K, σ, P, B, Fr, z, x3, y, X5, h, hP, hz, h3, hl => by
    have hl : y.toInt = -1 := hl
    have it : lj_in (Int32.ofNat t) 2001 := ofN_in (by omega) (by omega)
    have e : x3 = z := lz_ext (by rw [h3, hz, List.append_nil])
    refine ⟨lj_put σ 60 t z, B, Fr, ?_, ?_, rfl, lf_put (lf_rf _ _) _ _ _ rfl⟩
    · rw [kc_120_10, if_pos (by rw [lz_lt, hl]; decide), if_pos it, lz_onat (by omega), e]
    · rw [List.filter_nil, pUp_id P t hP]
      exact h
  | q :: R, K, σ, P, B, Fr, z, x3, y, X5, h, hP, hz, h3, hl => by
    have mq : q ∈ P t := by rw [hP]; exact List.mem_append_right _ List.mem_cons_self
    have q3 := (h.1.2.2 t ht q mq).1
    have ey : y = Int32.ofNat q := lz_ext (by rw [hl.1, lz_lit (by omega)])
    have iq : lj_in (Int32.ofNat q) 3000 := ofN_in (by omega) (by omega)
    have nq : (Int32.ofNat q).toNatClampNeg = q := lz_onat (by omega)
    have nn : ¬ (Int32.ofNat q < 0) := ofN_nneg (by omega)
    by_cases hk : kpB all σ q = true
    · obtain ⟨σ', B', Fr', r1, r2, r3, r4⟩ := c_sw_loop hn ht all R (K ++ [q]) σ P B Fr z (Int32.ofNat q) (σ.1 70 q) (.int (σ.1 70 q)) h (by rw [hP, List.append_assoc]; rfl) (by rw [hz, List.append_assoc]; rfl) (by rw [lz_lit (by omega), lsI_app]) hl.2
      have ef : K ++ [q] ++ R.filter (kpB all σ) = K ++ (q :: R).filter (kpB all σ) := by rw [List.filter_cons, if_pos hk, List.append_assoc]; rfl
      rw [ef] at r2 r3
      rw [List.append_assoc] at r3
      refine ⟨σ', B', Fr', ?_, r2, r3, r4⟩
      unfold kpB at hk
      simp only [Bool.and_eq_true, Bool.not_eq_true', decide_eq_true_iff] at hk
      have eb : bI all = 0 := (bI0 all).2 hk.1
      rw [ey, kc_120_10, if_neg nn]
      simp only [if_pos iq, nq]
      rw [if_pos eb, if_neg hk.2, kc_120_110]
      exact r1
    · obtain ⟨σ1, z1, B1, a1, a2, a3, a4, a5⟩ := c_sw_one hn ht h hP (bI all) h3
      obtain ⟨σ', B', Fr', r1, r2, r3, r4⟩ := c_sw_loop hn ht all R K σ1 (pUp P t (K ++ R)) B1 (q :: Fr) z1 x3 (σ.1 70 q) (.int (σ.1 70 q)) a2 (pUp_t _ _ _) a3 h3 (lk_cong (fun x hx => (a5 x hx).symm) hl.2)
      have ek : kpB all σ1 = kpB all σ := by
        funext x
        unfold kpB
        rw [(a4 68 x rfl).1]
      have ef : (q :: R).filter (kpB all σ) = R.filter (kpB all σ) := by rw [List.filter_cons, if_neg hk]
      rw [ek, pUp_pUp] at r2
      rw [ek] at r3
      rw [ef]
      refine ⟨σ', B', Fr', ?_, r2, ?_, a4.tr r4⟩
      · rw [ey, kc_120_10, if_neg nn]
        simp only [if_pos iq, nq]
        by_cases eb : bI all = 0
        · rw [if_pos eb]
          have ea := (bI0 all).1 eb
          have e68 : σ.1 68 q = 0 := Classical.byContradiction (fun w => hk (by unfold kpB; rw [ea]; simp [w]))
          rw [if_pos e68, a1]
          exact r1
        · rw [if_neg eb, a1]
          exact r1
      · rw [r3]
        simp only [List.length_append, List.length_cons]
        omega
theorem c_sw {n t : Nat} (hn : n ≤ 2000) (ht : t ≤ n) (all : Bool) {σ : lj_S} {P B : Nat → List Nat} {Fr : List Nat} (h : hsC σ (· ≤ n) P B Fr) : ∃ (σ' : lj_S) (B' : Nat → List Nat) (Fr' : List Nat), lj_R lc_P 120 [.ref 7, .int (Int32.ofNat t), .int (bI all)] σ = some (.inl none, σ') ∧ hsC σ' (· ≤ n) (pUp P t ((P t).filter (kpB all σ))) B' Fr' ∧ Fr'.length + ((P t).filter (kpB all σ)).length = Fr.length + (P t).length ∧ lf swC σ σ' := by
  have it : lj_in (Int32.ofNat t) 2001 := ofN_in (by omega) (by omega)
  have nt : (Int32.ofNat t).toNatClampNeg = t := lz_onat (by omega)
  obtain ⟨σ', B', Fr', r1, r2, r3, r4⟩ := c_sw_loop hn ht all (P t) [] σ P B Fr (σ.1 60 t) (-1) (σ.1 59 t) (.retAddr 0) (by rw [put_id]; exact h) rfl (h.1.1 t ht).2 lz_m1 (h.1.1 t ht).1
  refine ⟨σ', B', Fr', ?_, r2, r3, r4⟩
  rw [rc_120, kc_120_0, if_pos it, nt]
  exact r1
