/-! the gathering: the model's places are laid anew -/
def rbM (k j : Nat) : Bool := k == 40 || k == 41 || k == 50 || k == 51 || k == 52 || k == 53 || (k == 0 && (j == 88 || j == 89))
/-- one table more, without places -/
theorem hp_more {τ τ' : lj_S} {V V' : Nat → Prop} {P B : Nat → List Nat} {u : Nat} (h : hpM τ V P B) (hu : ¬ V u) (hV : ∀ v, V' v ↔ V v ∨ v = u) (e40 : lv τ' 40 u = -1) (e41 : lv τ' 41 u = -1) (o : ∀ v, v ≠ u → τ'.1 40 v = τ.1 40 v ∧ τ'.1 41 v = τ.1 41 v) (c : ∀ k j, k = 45 ∨ k = 49 ∨ k = 50 ∨ k = 51 ∨ k = 52 → τ'.1 k j = τ.1 k j) (c46 : ∀ j, τ'.2 46 j = τ.2 46 j) : hpM τ' V' (pUp P u []) B := by
  have l : ∀ k, k = 45 ∨ k = 49 ∨ k = 50 ∨ k = 51 ∨ k = 52 → lv τ' k = lv τ k := fun k w => funext (fun j => by unfold lv; rw [c k j w])
  obtain ⟨p1, p2, p3⟩ := h
  refine ⟨fun v hv => ?_, fun b hb => ?_, fun v hv p hp => ?_⟩
  · by_cases e : v = u
    · rw [e, pUp_t]
      exact ⟨e40, e41⟩
    · rw [pUp_o _ _ e, l 50 (by omega)]
      have w := p1 v (((hV v).1 hv).resolve_right e)
      unfold lv at w ⊢
      rw [(o v e).1, (o v e).2]
      exact w
  · rw [l 51 (by omega), l 52 (by omega)]
    refine ⟨(p2 b hb).1, fun p hp => ?_⟩
    obtain ⟨⟨t, t1, t2⟩, y⟩ := (p2 b hb).2 p hp
    refine ⟨⟨t, (hV t).2 (Or.inl t1), by rw [pUp_o _ _ (fun e => hu (by rw [← e]; exact t1))]; exact t2⟩, ?_⟩
    rw [c 49 p (by omega), c 45 p (by omega), c46]
    exact y
  · by_cases e : v = u
    · rw [e, pUp_t] at hp
      cases hp
    · rw [pUp_o _ _ e] at hp ⊢
      obtain ⟨a1, a2, a3, a4⟩ := p3 v (((hV v).1 hv).resolve_right e) p hp
      refine ⟨a1, by rw [c 49 p (by omega)]; exact a2, by rw [c 49 p (by omega), c 45 p (by omega), c46]; exact a3, fun q hq z1 z2 => ?_⟩
      rw [c 45 p (by omega), c 45 q (by omega)] at z1
      rw [c46, c46] at z2
      exact a4 q hq z1 z2
/-- free places of the model -/
def frI (τ : lj_S) (Fr : List Nat) : Prop := fsM τ Fr ∧ lv τ 0 88 = (Fr.length : Int) ∧ lv τ 0 89 + (Fr.length : Int) = 3000 ∧ Fr.Nodup ∧ ∀ p ∈ Fr, p < 3001
theorem fsM_put {τ τ' : lj_S} : ∀ {l : List Nat}, fsM τ l → (∀ j, j < l.length → τ'.1 53 j = τ.1 53 j) → fsM τ' l
  | [], _, _ => trivial
  | _ :: l, g, h => ⟨by rw [h _ (by rw [List.length_cons]; omega)]; exact g.1, fsM_put g.2 (fun j hj => h j (by rw [List.length_cons]; omega))⟩
theorem m_rb_loop {u : Nat} (hu : u ≤ 2001) : ∀ (L K : List Nat) (τ : lj_S) (V : Nat → Prop) (P B : Nat → List Nat) (Fr : List Nat) (z x4 y : Int32) (X5 X6 : Value), hpM (lj_put τ 41 u z) V P B → V u → (∀ v, V v → v ≤ 2001) → P u = K → z.toInt = lsI K → x4.toInt = lsI K → lk (lv τ 50) y.toInt L → (∀ q ∈ L, q < 3001 ∧ τ.1 49 q = Int32.ofNat u ∧ (∀ v, V v → q ∉ P v) ∧ q ∉ Fr) → L.Nodup → (∀ q ∈ K ++ L, ∀ q' ∈ K ++ L, τ.1 45 q = τ.1 45 q' → τ.2 46 q = τ.2 46 q' → q = q') → frI τ Fr → ∃ (τ' : lj_S) (B' : Nat → List Nat) (Fr' : List Nat) (Y2 Y3 Y4 Y5 Y6 : Value), lj_D lm_P lm_M220 91 [.ref 0, .int (Int32.ofNat u), .int 1, .int y, .int x4, X5, X6] [] τ = lj_D lm_P lm_M220 24 [.ref 0, .int (Int32.ofNat (u + 1)), Y2, Y3, Y4, Y5, Y6] [] τ' ∧ hpM τ' V (pUp P u (K ++ L.filter (fun q => decide (τ.1 47 q ≠ 0)))) B' ∧ frI τ' Fr' ∧ (∀ q, q ∈ Fr' ↔ q ∈ Fr ∨ (q ∈ L ∧ τ.1 47 q = 0)) ∧ Fr'.length + (L.filter (fun q => decide (τ.1 47 q ≠ 0))).length = Fr.length + L.length ∧ lf rbM τ τ' ∧ (∀ v, v ≠ u → τ'.1 40 v = τ.1 40 v ∧ τ'.1 41 v = τ.1 41 v) ∧ ∀ q, q ∉ K → q ∉ L → τ'.1 50 q = τ.1 50 q
  | [], K, τ, V, P, B, Fr, z, x4, y, X5, X6, h, hv, hV, hP, hz, h4, hl, hL, nd, hk, hF => by
    have hl : y.toInt = -1 := hl
    have iu : lj_in (Int32.ofNat u) 2002 := ofN_in (by omega) (by omega)
    have e : x4 = z := lz_ext (by rw [h4, hz])
    refine ⟨lj_put τ 41 u z, B, Fr, .int 1, .int y, .int x4, X5, X6, ?_, ?_, ⟨fsM_cg (fun j => by rw [lj_put_1, if_neg (by omega)]) hF.1, by rw [lv_put, if_neg (by omega)]; exact hF.2.1, by rw [lv_put, if_neg (by omega)]; exact hF.2.2.1, hF.2.2.2⟩, fun q => ⟨Or.inl, fun w => w.elim id (fun w => by cases w.1)⟩, rfl, lf_put (lf_rf _ _) _ _ _ rfl, fun v hv => ⟨by rw [lj_put_1, if_neg (by omega)], by rw [lj_put_1, if_neg (by omega)]⟩, fun q _ _ => by rw [lj_put_1, if_neg (by omega)]⟩
    · rw [km_220_91, if_pos (by rw [lz_lt, hl]; decide), if_neg (by decide), if_pos iu, lz_onat (by omega), e, km_220_235, lz_osucc]
    · rw [List.filter_nil, List.append_nil, pUp_id P u hP]
      exact h
  | q :: R, K, τ, V, P, B, Fr, z, x4, y, X5, X6, h, hv, hV, hP, hz, h4, hl, hL, nd, hk, hF => by
    obtain ⟨q1, q2, q3, q4⟩ := hL q List.mem_cons_self
    have nd' := List.nodup_cons.1 nd
    have ey : y = Int32.ofNat q := lz_ext (by rw [hl.1, lz_lit (by omega)])
    have iq : lj_in (Int32.ofNat q) 3001 := ofN_in (by omega) (by omega)
    have nq : (Int32.ofNat q).toNatClampNeg = q := lz_onat (by omega)
    have nn : ¬ (Int32.ofNat q < 0) := ofN_nneg (by omega)
    have iu : lj_in (Int32.ofNat u) 2002 := ofN_in (by omega) (by omega)
    have nu : (Int32.ofNat u).toNatClampNeg = u := lz_onat (by omega)
    have o1 : (1 : Int32).toInt = 1 := by decide
    by_cases e47 : τ.1 47 q = 0
    · -- it is free
      obtain ⟨f1, f2, f3, f4, f5⟩ := hF
      have lF : Fr.length + 1 ≤ 3001 := by
        have := nd_le 3001 (q :: Fr) (List.nodup_cons.2 ⟨q4, f4⟩) (fun x hx => by
          rcases List.mem_cons.1 hx with w | w
          · rw [w]; exact q1
          · exact f5 x w)
        exact this
      have e88 : τ.1 0 88 = Int32.ofNat Fr.length := lz_ext (by rw [lz_lit (by omega)]; exact f2)
      have i8 : lj_in (Int32.ofNat Fr.length) 3001 := ofN_in (by omega) (by omega)
      have n8 : (Int32.ofNat Fr.length).toNatClampNeg = Fr.length := lz_onat (by omega)
      obtain ⟨τ1, hτ1⟩ : ∃ τ1, τ1 = lj_put (lj_put (lj_put τ 53 Fr.length (Int32.ofNat q)) 0 88 (Int32.ofNat Fr.length + 1)) 0 89 (τ.1 0 89 - 1) := ⟨_, rfl⟩
      have c : ∀ k j, k ≠ 53 → k ≠ 0 → τ1.1 k j = τ.1 k j := fun k j w1 w2 => by rw [hτ1, lj_put_1, if_neg (by omega), lj_put_1, if_neg (by omega), lj_put_1, if_neg (by omega)]
      have c2 : τ1.2 = τ.2 := by rw [hτ1]; rfl
      have e50 : lv τ1 50 = lv τ 50 := funext (fun j => by unfold lv; rw [c 50 j (by omega) (by omega)])
      have cp : ∀ k j, k ≠ 53 → k ≠ 0 → (lj_put τ1 41 u z).1 k j = (lj_put τ 41 u z).1 k j := fun k j w1 w2 => by rw [lj_put_1, lj_put_1, c k j w1 w2]
      have fr1 : frI τ1 (q :: Fr) := by
        refine ⟨⟨?_, fsM_put f1 (fun j hj => ?_)⟩, ?_, ?_, List.nodup_cons.2 ⟨q4, f4⟩, fun x hx => ?_⟩
        · rw [hτ1, lj_put_1, if_neg (by omega), lj_put_1, if_neg (by omega), lj_put_1, if_pos ⟨rfl, rfl⟩]
        · rw [hτ1, lj_put_1, if_neg (by omega), lj_put_1, if_neg (by omega), lj_put_1, if_neg (by omega)]
        · rw [hτ1, lv_put, if_neg (by omega), lv_put, if_pos ⟨rfl, rfl⟩, lz_osucc, lz_lit (by omega)]
          rfl
        · rw [hτ1, lv_put, if_pos ⟨rfl, rfl⟩, List.length_cons]
          unfold lv at f3
          rw [lz_sub (by rw [o1]; omega), o1]
          omega
        · rcases List.mem_cons.1 hx with w | w
          · rw [w]; exact q1
          · exact f5 x w
      obtain ⟨τ', B', Fr', Y2, Y3, Y4, Y5, Y6, r1, r2, r3, r4, r5, r6, r7, r8⟩ := m_rb_loop hu R K τ1 V P B (q :: Fr) z x4 (τ.1 50 q) (.int (τ.1 50 q)) X6 (hpM_cg h (fun k j w => cp k j (by omega) (by omega)) (fun j => by rw [lj_put_2, lj_put_2, c2])) hv hV hP hz h4 (by rw [e50]; exact hl.2) (fun x hx => by
        obtain ⟨w1, w2, w3, w4⟩ := hL x (List.mem_cons_of_mem _ hx)
        refine ⟨w1, by rw [c 49 x (by omega) (by omega)]; exact w2, w3, fun w => ?_⟩
        rcases List.mem_cons.1 w with w | w
        · exact nd'.1 (by rw [← w]; exact hx)
        · exact w4 w) nd'.2 (fun a ha b hb z1 z2 => by
        rw [c 45 a (by omega) (by omega), c 45 b (by omega) (by omega)] at z1
        rw [c2] at z2
        have up : ∀ a, a ∈ K ++ R → a ∈ K ++ q :: R := fun a ha => by
          rcases List.mem_append.1 ha with w | w
          · exact List.mem_append_left _ w
          · exact List.mem_append_right _ (List.mem_cons_of_mem _ w)
        exact hk a (up a ha) b (up b hb) z1 z2) fr1
      have ef : (fun x => decide (τ1.1 47 x ≠ 0)) = (fun x => decide (τ.1 47 x ≠ 0)) := by
        funext x
        rw [c 47 x (by omega) (by omega)]
      have eg : (q :: R).filter (fun x => decide (τ.1 47 x ≠ 0)) = R.filter (fun x => decide (τ.1 47 x ≠ 0)) := by rw [List.filter_cons, if_neg (by simp [e47])]
      rw [ef] at r2 r5
      rw [eg]
      refine ⟨τ', B', Fr', Y2, Y3, Y4, Y5, Y6, ?_, r2, r3, fun x => ?_, ?_, ?_, fun v hv' => ⟨by rw [(r7 v hv').1, c 40 v (by omega) (by omega)], by rw [(r7 v hv').2, c 41 v (by omega) (by omega)]⟩, fun x x1 x2 => by rw [r8 x x1 (fun w => x2 (List.mem_cons_of_mem _ w)), c 50 x (by omega) (by omega)]⟩
      · rw [ey, km_220_91, if_neg nn]
        simp only [if_pos iq, nq]
        rw [if_pos e47, e88]
        simp only [if_pos i8, n8]
        rw [km_220_217, ← hτ1]
        exact r1
      · rw [r4, c 47 x (by omega) (by omega)]
        constructor
        · rintro (w | w)
          · rcases List.mem_cons.1 w with w | w
            · exact Or.inr ⟨by rw [w]; exact List.mem_cons_self, by rw [w]; exact e47⟩
            · exact Or.inl w
          · exact Or.inr ⟨List.mem_cons_of_mem _ w.1, w.2⟩
        · rintro (w | ⟨w, w'⟩)
          · exact Or.inl (List.mem_cons_of_mem _ w)
          · rcases List.mem_cons.1 w with w | w
            · exact Or.inl (by rw [w]; exact List.mem_cons_self)
            · exact Or.inr ⟨w, w'⟩
      · rw [List.length_cons] at r5 ⊢
        omega
      · refine lf.tr ?_ r6
        rw [hτ1]
        exact lf_put (lf_put (lf_put (lf_rf _ _) _ _ _ rfl) _ _ _ rfl) _ _ _ rfl
    · -- it stays
      obtain ⟨b, hb⟩ : ∃ b, b = hbM (Int32.ofNat u) (τ.1 45 q) (τ.2 46 q) := ⟨_, rfl⟩
      have hb4 : b < 4096 := by rw [hb]; exact hbM_lt _ _ _
      have ib : lj_in (Int32.ofNat b) 4096 := ofN_in (by omega) (by omega)
      have nb : (Int32.ofNat b).toNatClampNeg = b := lz_onat (by omega)
      have bK : ∀ x ∈ K, x < 3001 := fun x hx => (h.2.2 u hv x (by rw [hP]; exact hx)).1
      have qK : q ∉ K := fun w => q3 u hv (by rw [hP]; exact w)
      obtain ⟨kp, jp, hK⟩ : ∃ kp jp : Nat, (K = [] ∧ kp = 40 ∧ jp = u) ∨ (K ≠ [] ∧ kp = 50 ∧ lsI K = (jp : Int) ∧ jp ∈ K) := by
        by_cases e : K = []
        · exact ⟨40, u, Or.inl ⟨e, rfl, rfl⟩⟩
        · obtain ⟨w, hw⟩ := ls_ex K e
          exact ⟨50, w, Or.inr ⟨e, rfl, hw, ls_mem K w hw.symm⟩⟩
      have kq : kp = 40 ∨ kp = 50 := by rcases hK with w | w; exact Or.inl w.2.1; exact Or.inr w.2.1
      obtain ⟨τ1, hτ1⟩ : ∃ τ1, τ1 = lj_put (lj_put (lj_put (lj_put τ kp jp (Int32.ofNat q)) 50 q (-1)) 51 q (τ.1 52 b)) 52 b (Int32.ofNat q) := ⟨_, rfl⟩
      have key : ∀ k j, τ1.1 k j = if k = 52 ∧ j = b then Int32.ofNat q else if k = 51 ∧ j = q then τ.1 52 b else if k = 50 ∧ j = q then -1 else if k = kp ∧ j = jp then Int32.ofNat q else τ.1 k j := fun k j => by rw [hτ1, lj_put_1, lj_put_1, lj_put_1, lj_put_1]
      have c : ∀ k j, k ≠ 40 → k ≠ 50 → k ≠ 51 → k ≠ 52 → τ1.1 k j = τ.1 k j := fun k j w1 w2 w3 w4 => by rw [key, if_neg (by omega), if_neg (by omega), if_neg (by omega), if_neg (by omega)]
      have c2 : τ1.2 = τ.2 := by rw [hτ1]; rfl
      have s41 : ∀ (ζ : lj_S) (x : Int32) k j, k ≠ 41 → (lj_put ζ 41 u x).1 k j = ζ.1 k j := fun ζ x k j w => by rw [lj_put_1, if_neg (fun e => w e.1)]
      have c50 : ∀ j, j ≠ q → (j : Int) ≠ lsI K → τ1.1 50 j = τ.1 50 j := fun j w1 w2 => by
        rw [key, if_neg (by omega), if_neg (by omega), if_neg (by omega), if_neg (fun e => by rcases hK with w | w <;> omega)]
      have ins := hp_ins (σ := lj_put τ 41 u z) (σ' := lj_put τ1 41 u (Int32.ofNat q)) h (by omega) (fun v hv => by have := hV v hv; omega) hv hbM_lt q1 q3 (k := τ.1 45 q) (x := τ.2 46 q) (fun x hx w => by
        rw [hP] at hx
        rw [s41 _ _ _ _ (by omega), lj_put_2] at w
        exact qK (by rw [← hk x (List.mem_append_left _ hx) q (List.mem_append_right _ List.mem_cons_self) w.1 w.2]; exact hx)) (fun j w => by
        rw [s41 _ _ _ _ (by omega), s41 _ _ _ _ (by omega), key, if_neg (by omega), if_neg (by omega), if_neg (by omega), if_neg (fun e => by rcases hK with y | y <;> omega)]) (by
        unfold lv
        rw [s41 _ _ _ _ (by omega), s41 _ _ _ _ (by omega), key, if_neg (by omega), if_neg (by omega), if_neg (by omega), hP]
        rcases hK with ⟨w1, w2, w3⟩ | ⟨w1, w2, w3, w4⟩
        · rw [if_pos ⟨w2.symm, w3.symm⟩, if_pos w1, lz_lit (by omega)]
        · rw [if_neg (by omega), if_neg w1]) (fun j w => by
        rw [lj_put_1, if_neg (by omega), lj_put_1, if_neg (by omega), c 41 j (by omega) (by omega) (by omega) (by omega)]) (by rw [lj_put_1, if_pos ⟨rfl, rfl⟩]) (fun j w1 w2 => by
        rw [hP] at w2
        rw [s41 _ _ _ _ (by omega), s41 _ _ _ _ (by omega)]
        exact c50 j w1 w2) (by
        rw [s41 _ _ _ _ (by omega), key, if_neg (by omega), if_neg (by omega), if_pos ⟨rfl, rfl⟩]) (fun j w => by
        rw [hP] at w
        rcases hK with ⟨w1, w2, w3⟩ | ⟨w1, w2, w3, w4⟩
        · rw [w1] at w
          have w : (j : Int) = -1 := w
          omega
        · have ej : j = jp := by omega
          have jq : j ≠ q := fun e => qK (by rw [← e, ej]; exact w4)
          rw [s41 _ _ _ _ (by omega), key, if_neg (by omega), if_neg (by omega), if_neg (by omega), if_pos ⟨w2.symm, ej⟩]) (fun j w => by
        rw [s41 _ _ _ _ (by omega), s41 _ _ _ _ (by omega), key, if_neg (by omega), if_neg (by omega), if_neg (by omega), if_neg (by omega)]) (by
        rw [s41 _ _ _ _ (by omega), s41 _ _ _ _ (by omega), key, if_neg (by omega), if_pos ⟨rfl, rfl⟩, hb]) (fun j w => by
        rw [← hb] at w
        rw [s41 _ _ _ _ (by omega), s41 _ _ _ _ (by omega), key, if_neg (by omega), if_neg (by omega), if_neg (by omega), if_neg (by omega)]) (by
        rw [← hb, s41 _ _ _ _ (by omega), key, if_pos ⟨rfl, rfl⟩]) (fun j w => ⟨by rw [s41 _ _ _ _ (by omega), s41 _ _ _ _ (by omega), c 49 j (by omega) (by omega) (by omega) (by omega)], by rw [s41 _ _ _ _ (by omega), s41 _ _ _ _ (by omega), c 45 j (by omega) (by omega) (by omega) (by omega)], by rw [lj_put_2, lj_put_2, c2]⟩) ⟨by rw [s41 _ _ _ _ (by omega), c 49 q (by omega) (by omega) (by omega) (by omega)]; exact q2, by rw [s41 _ _ _ _ (by omega), c 45 q (by omega) (by omega) (by omega) (by omega)], by rw [lj_put_2, c2]⟩
      have eP : (fun j => if j = u then P u ++ [q] else P j) = pUp P u (K ++ [q]) := by
        funext j
        unfold pUp
        rw [hP]
      rw [eP] at ins
      obtain ⟨f1, f2, f3, f4, f5⟩ := hF
      have fr1 : frI τ1 Fr := ⟨fsM_put f1 (fun j _ => c 53 j (by omega) (by omega) (by omega) (by omega)), by unfold lv; rw [c 0 88 (by omega) (by omega) (by omega) (by omega)]; exact f2, by unfold lv; rw [c 0 89 (by omega) (by omega) (by omega) (by omega)]; exact f3, f4, f5⟩
      obtain ⟨τ', B', Fr', Y2, Y3, Y4, Y5, Y6, r1, r2, r3, r4, r5, r6, r7, r8⟩ := m_rb_loop hu R (K ++ [q]) τ1 V (pUp P u (K ++ [q])) _ Fr (Int32.ofNat q) (Int32.ofNat q) (τ.1 50 q) (.int (τ.1 50 q)) (.int (Int32.ofNat b)) ins hv hV (pUp_t _ _ _) (by rw [lsI_app, lz_lit (by omega)]) (by rw [lsI_app, lz_lit (by omega)]) (lk_cong (fun x hx => by
        unfold lv
        rw [c50 x (fun e => nd'.1 (by rw [← e]; exact hx)) (fun e => by
          have := (hL x (List.mem_cons_of_mem _ hx)).2.2.1 u hv
          exact this (by rw [hP]; exact ls_mem K x e))]) hl.2) (fun x hx => by
        obtain ⟨w1, w2, w3, w4⟩ := hL x (List.mem_cons_of_mem _ hx)
        refine ⟨w1, by rw [c 49 x (by omega) (by omega) (by omega) (by omega)]; exact w2, fun v hv' w => ?_, w4⟩
        by_cases e : v = u
        · rw [e, pUp_t] at w
          rcases List.mem_append.1 w with w | w
          · exact w3 u hv (by rw [hP]; exact w)
          · have : x = q := by simpa using w
            exact nd'.1 (by rw [← this]; exact hx)
        · rw [pUp_o _ _ e] at w
          exact w3 v hv' w) nd'.2 (fun a ha b' hb' z1 z2 => by
        rw [c 45 a (by omega) (by omega) (by omega) (by omega), c 45 b' (by omega) (by omega) (by omega) (by omega)] at z1
        rw [c2] at z2
        have up : ∀ a, a ∈ K ++ [q] ++ R → a ∈ K ++ q :: R := fun a ha => by
          rw [List.append_assoc] at ha
          exact ha
        exact hk a (up a ha) b' (up b' hb') z1 z2) fr1
      have ef : (fun x => decide (τ1.1 47 x ≠ 0)) = (fun x => decide (τ.1 47 x ≠ 0)) := by
        funext x
        rw [c 47 x (by omega) (by omega) (by omega) (by omega)]
      have eg : K ++ [q] ++ R.filter (fun x => decide (τ.1 47 x ≠ 0)) = K ++ (q :: R).filter (fun x => decide (τ.1 47 x ≠ 0)) := by rw [List.filter_cons, if_pos (by simp [e47]), List.append_assoc]; rfl
      have eh : ((q :: R).filter (fun x => decide (τ.1 47 x ≠ 0))).length = (R.filter (fun x => decide (τ.1 47 x ≠ 0))).length + 1 := by rw [List.filter_cons, if_pos (by simp [e47])]; rfl
      rw [ef] at r2 r5
      rw [pUp_pUp, eg] at r2
      refine ⟨τ', B', Fr', Y2, Y3, Y4, Y5, Y6, ?_, r2, r3, fun x => ?_, ?_, ?_, fun v hv' => ⟨?_, by rw [(r7 v hv').2, c 41 v (by omega) (by omega) (by omega) (by omega)]⟩, fun x x1 x2 => ?_⟩
      · have s1 : lj_D lm_P lm_M220 91 [.ref 0, .int (Int32.ofNat u), .int 1, .int y, .int x4, X5, X6] [] τ = lj_D lm_P lm_M220 168 [.ref 0, .int (Int32.ofNat u), .int 1, .int (Int32.ofNat q), .int x4, .int (τ.1 50 q), X6] [] (lj_put τ kp jp (Int32.ofNat q)) := by
          rw [ey, km_220_91, if_neg nn]
          simp only [if_pos iq, nq]
          rw [if_neg e47]
          rcases hK with ⟨w1, w2, w3⟩ | ⟨w1, w2, w3, w4⟩
          · rw [w1] at h4
            have h4 : x4.toInt = -1 := h4
            rw [if_neg (by rw [lz_le, h4]; decide), if_pos iu, nu, w2, w3]
          · have := bK jp w4
            have e4 : x4 = Int32.ofNat jp := lz_ext (by rw [h4, w3, lz_lit (by omega)])
            have ij : lj_in (Int32.ofNat jp) 3001 := ofN_in (by omega) (by omega)
            rw [e4, if_pos (by rw [lz_le, lz_lit (by omega)]; show (0 : Int) ≤ _; omega), if_pos ij, lz_onat (by omega), w2]
        have k45 : (lj_put τ kp jp (Int32.ofNat q)).1 45 q = τ.1 45 q := by rw [lj_put_1, if_neg (by omega)]
        have k52 : (lj_put (lj_put τ kp jp (Int32.ofNat q)) 50 q (-1)).1 52 b = τ.1 52 b := by rw [lj_put_1, if_neg (by omega), lj_put_1, if_neg (by omega)]
        rw [s1, km_220_168]
        simp only [if_pos iq, nq]
        rw [k45, lj_put_2, m_hbkt, bi_ok, ← hb]
        simp only [if_pos ib, nb]
        rw [k52, ← hτ1, km_220_217]
        exact r1
      · rw [r4, c 47 x (by omega) (by omega) (by omega) (by omega)]
        constructor
        · rintro (w | w)
          · exact Or.inl w
          · exact Or.inr ⟨List.mem_cons_of_mem _ w.1, w.2⟩
        · rintro (w | ⟨w, w'⟩)
          · exact Or.inl w
          · rcases List.mem_cons.1 w with w | w
            · rw [w] at w'; exact absurd w' e47
            · exact Or.inr ⟨w, w'⟩
      · rw [eh, List.length_cons]
        omega
      · refine lf.tr ?_ r6
        rw [hτ1]
        refine lf_put (lf_put (lf_put (lf_put (lf_rf _ _) _ _ _ ?_) _ _ _ rfl) _ _ _ rfl) _ _ _ rfl
        rcases kq with w | w <;> rw [w] <;> rfl
      · rw [(r7 v hv').1, key, if_neg (by omega), if_neg (by omega), if_neg (by omega), if_neg (fun e => by rcases hK with y | y <;> omega)]
      · have xq : x ≠ q := fun e => x2 (by rw [e]; exact List.mem_cons_self)
        rw [r8 x (fun w => by
          rcases List.mem_append.1 w with w | w
          · exact x1 w
          · exact xq (by simpa using w)) (fun w => x2 (List.mem_cons_of_mem _ w))]
        exact c50 x xq (fun e => x1 (ls_mem K x e))
