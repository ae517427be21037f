/-! the gathering: frames and parts of the component are gone through -/
theorem flo_k {x : Nat} (s : List Nat) : flo (x :: s) = if x = 3 ∨ x = 4 then flo s ++ [x] else flo s := by
  unfold flo
  by_cases z : x = 3 ∨ x = 4
  · rw [if_pos z, List.filter_cons, if_pos (by rcases z with z | z <;> rw [z] <;> rfl), List.reverse_cons]
  · rw [if_neg z, List.filter_cons, if_neg (by simp; omega)]
/-- what lies on the stack of a frame of the component: values, or nothing that names an object -/
theorem stk_gd {σ τ : lj_S} {p hb ob mb kb : Nat} : ∀ {s : List Nat} {ce me mq : Nat} {cm : Int32}, stk σ τ p hb ob mb kb s ce me mq cm → ∀ j, ob ≤ j → j < ce → (∃ b, vR σ τ (cv σ j) b) ∨ ov (cv σ j) = 0
  | [], ce, me, mq, cm, h, j, j1, j2 => by have := h.1; omega
  | x :: s, ce, me, mq, cm, h, j, j1, j2 => by
    rcases h with ⟨_, ce', mq', cm', e1, _, _, ⟨e2, _⟩, _, h⟩ | ⟨_, mq', _, _, h⟩ | ⟨_, me', _, _, h⟩ | ⟨_, r, ce', me', e1, _, _, e2, h⟩ | ⟨_, ce', me', e1, _, e2, _, _, _, h⟩ | ⟨_, ce', me', e1, _, e2, _, _, h⟩
    · by_cases z : j = ce'
      · right
        rw [z]
        refine ov_k ?_
        show ¬ (σ.1 79 ce' = 4 ∨ σ.1 79 ce' = 5 ∨ σ.1 79 ce' = 6)
        rw [e2]
        decide
      · exact stk_gd h j j1 (by omega)
    · exact stk_gd h j j1 j2
    · exact stk_gd h j j1 j2
    · by_cases z : j < ce'
      · exact stk_gd h j j1 z
      · left
        have := (e2 (j - ce') (by omega)).1
        rw [show ce' + (j - ce') = j by omega] at this
        exact ⟨_, this⟩
    · by_cases z : j = ce'
      · left; rw [z]; exact ⟨_, e2⟩
      · exact stk_gd h j j1 (by omega)
    · by_cases z : j = ce'
      · right
        rw [z]
        refine ov_k ?_
        show ¬ (σ.1 79 ce' = 4 ∨ σ.1 79 ce' = 5 ∨ σ.1 79 ce' = 6)
        rw [e2]
        decide
      · exact stk_gd h j j1 (by omega)
/-- hidden values of fors -/
theorem stk_hd {σ τ : lj_S} {p hb ob mb kb : Nat} : ∀ {s : List Nat} {ce me mq : Nat} {cm : Int32}, stk σ τ p hb ob mb kb s ce me mq cm → ∀ d e, e < 3 → (flo s)[d]? = some 4 → ∃ b, vR σ τ (cv σ (hb + 3 * d + e)) b
  | [], ce, me, mq, cm, h, d, e, he, hd => by
    have : flo [] = [] := rfl
    rw [this] at hd
    simp at hd
  | x :: s, ce, me, mq, cm, h, d, e, he, hd => by
    rw [flo_k] at hd
    rcases h with ⟨x1, ce', mq', cm', _, _, _, _, _, h⟩ | ⟨x1, mq', _, _, h⟩ | ⟨x1, me', _, e2, h⟩ | ⟨x1, r, ce', me', _, _, _, _, h⟩ | ⟨x1, ce', me', _, _, _, _, _, _, h⟩ | ⟨x1, ce', me', _, _, _, _, _, h⟩
    · rw [if_neg (by omega)] at hd; exact stk_hd h d e he hd
    · rw [if_neg (by omega)] at hd; exact stk_hd h d e he hd
    · rw [if_pos x1] at hd
      by_cases z : d < (flo s).length
      · rw [List.getElem?_append_left z] at hd
        exact stk_hd h d e he hd
      · have z' : d = (flo s).length := by
          rw [List.getElem?_append_right (by omega)] at hd
          have := List.getElem?_eq_some_iff.1 hd
          obtain ⟨w, _⟩ := this
          simp at w
          omega
        rw [z']
        exact ⟨_, (e2 e he).1⟩
    · rw [if_neg (by omega)] at hd; exact stk_hd h d e he hd
    · rw [if_neg (by omega)] at hd; exact stk_hd h d e he hd
    · rw [if_neg (by omega)] at hd; exact stk_hd h d e he hd
/-- what a frame holds: the component's side -/
def fgC (σ0 σ : lj_S) (F : kF) (ce x : Nat) : Prop := kS F = 0 ∧ x ≠ 0 ∧ (x = kO F ∨ (∃ j, kC F ≤ j ∧ j < kB F ∧ x = ov (cv σ j)) ∨ (∃ y ∈ (kY F).2.2.2.2.1, x = ov (cv σ (kB F + y))) ∨ (∃ d e, e < 3 ∧ (flo (kY F).2.2.2.1)[d]? = some 4 ∧ x = ov (cv σ (kB F + nL σ0 (kY F).1 + 3 * d + e))) ∨ ∃ j, kB F + nL σ0 (kY F).1 + 3 * nH σ0 (kY F).1 ≤ j ∧ j < ce ∧ x = ov (cv σ j))
/-- scopes' slots are no negative numbers -/
def sh38 (σ0 : lj_S) : Prop := (0 ≤ lv σ0 5 18 ∧ lv σ0 5 18 ≤ 4000) ∧ ∀ k : Nat, (k : Int) < lv σ0 5 18 → 0 ≤ lv σ0 38 k
theorem c_rfrm {σ0 τ0 σ τ : lj_S} {ρ : Nat → Nat} {q d n Fn : Nat} {F : kF} {ms ks ce me mq : Nat} (fx : FR σ0 τ0 Fn) (h38 : sh38 σ0) (cd : ∀ k j, cdC k j = true → σ.1 k j = σ0.1 k j) (hn : n ≤ 2000) (l70 : lv σ 7 0 = (n : Int)) (hq : q < 26) (hd : d < 20) (hfr : frm σ0 τ0 σ τ ρ q d F ms ks ce me mq) (hw : kS F = 0 → kW F ≠ 0) (hce : ce ≤ 325000) (hlv : kS F = 0 → ∀ y ∈ (kY F).2.2.2.2.1, ∃ b, vR σ τ (cv σ (kB F + y)) b) {W : Nat → Prop} (hW : ∀ x, fgC σ0 σ F ce x → W x) {Q : List Nat} (hm : wqC n σ Q) : ∃ σ' Q', lj_R lc_P 179 [.ref 8, .int (Int32.ofNat (20 * q + d)), .int (Int32.ofNat ce)] σ = some (.inl none, σ') ∧ visC n W (fgC σ0 σ F ce) σ Q σ' Q' := by
  have ii : lj_in (Int32.ofNat (20 * q + d)) 520 := ofN_in (by omega) (by omega)
  have ni : (Int32.ofNat (20 * q + d)).toNatClampNeg = 20 * q + d := lz_onat (by omega)
  obtain ⟨⟨h95, _, _⟩, hf⟩ := hfr
  rcases hf with ⟨s0, t⟩ | ⟨s12, h91, _⟩
  · obtain ⟨⟨a91, a92, a93, a94, a96⟩, _, t3, t4, ⟨t5, t6, t7, t8, t10⟩, ⟨⟨f51, fL, fH, _, fD, f31, fFn⟩, fO, _, fW⟩⟩ := t
    obtain ⟨⟨⟨c1, c2⟩, sc1, sc2, sc3⟩, _⟩ := fW (hw s0)
    obtain ⟨b1, b2, b3, _⟩ := stk_bd t4
    have hB : kB F = kC F + kD F := rfl
    obtain ⟨x1, x2, x3, x4⟩ := fx
    have fF : (kY F).1 < Fn := by
      have : lv σ0 5 8 = (Fn : Int) := by unfold lv; rw [x1, lz_lit (by omega)]
      omega
    obtain ⟨_, _, _, _, _, _, _, yX⟩ := x4 _ fF
    obtain ⟨_, _, z32a, z32b, zlk⟩ := yX
    have e31 : σ.1 31 (kY F).1 = Int32.ofNat (nL σ0 (kY F).1) := by rw [cd 31 _ (by unfold cdC; rfl)]; exact lz_ext (by rw [lz_lit (by omega)]; unfold nL; show lv σ0 31 _ = _; omega)
    have e32 : σ.1 32 (kY F).1 = Int32.ofNat (nH σ0 (kY F).1) := by rw [cd 32 _ (by unfold cdC; rfl)]; exact lz_ext (by rw [lz_lit (by omega)]; unfold nH; show lv σ0 32 _ = _; omega)
    have lcd : ∀ k j, cdC k j = true → lv σ k j = lv σ0 k j := fun k j z => by unfold lv; rw [cd k j z]
    have gd : ∀ a, (∃ b, vR σ τ a b) ∨ ov a = 0 → (ov a ≠ 0 → W (ov a)) → gdV n W a := fun a z y => by
      rcases z with ⟨b, z⟩ | z
      · exact z.gd l70 y
      · exact gd_k z
    have jf : lj_in (Int32.ofNat (kY F).1) 51 := ofN_in (by omega) (by omega)
    have nf : (Int32.ofNat (kY F).1).toNatClampNeg = (kY F).1 := lz_onat (by omega)
    -- behind the function object
    have mid : ∀ (σ1 : lj_S) (Q1 : List Nat) (M : Nat → Prop), visC n W M σ Q σ1 Q1 → (∀ x, x ≠ 0 → x = kO F → M x) → ∃ σ' Q', lj_D lc_P lc_M179 31 [.ref 8, .int (Int32.ofNat (20 * q + d)), .int (Int32.ofNat ce), .retAddr 0, .retAddr 0, .retAddr 0, .retAddr 0] [] σ1 = some (.inl none, σ') ∧ visC n W (fgC σ0 σ F ce) σ Q σ' Q' := fun σ1 Q1 M hv hM => by
      have c : ∀ k j, k ≠ 111 → k ≠ 112 → (k ≠ 8 ∨ j ≠ 58) → σ1.1 k j = σ.1 k j ∧ σ1.2 k j = σ.2 k j := fun k j z1 z2 z3 => visC.o hv ⟨z1, z2, z3⟩
      have ec : ∀ j, cv σ1 j = cv σ j := fun j => by unfold cv; rw [(c 79 j (by omega) (by omega) (by omega)).1, (c 80 j (by omega) (by omega) (by omega)).2]
      obtain ⟨σ2, Q2, r1, r2⟩ := c_rsl hn (W := W) (a := kC F) (b := kB F) (σ := σ1) (Q := Q1) (by omega) (by omega) (fun j j1 j2 => by
        rw [ec]
        refine gd _ ?_ (fun y => hW _ ⟨s0, y, Or.inr (Or.inl ⟨j, j1, j2, rfl⟩)⟩)
        left
        have := (t3 (j - kC F) (by omega)).1
        rw [show kC F + (j - kC F) = j by omega] at this
        exact ⟨_, this⟩) hv.1
      have hv2 := hv.tr r2
      have c2' : ∀ k j, k ≠ 111 → k ≠ 112 → (k ≠ 8 ∨ j ≠ 58) → σ2.1 k j = σ.1 k j ∧ σ2.2 k j = σ.2 k j := fun k j z1 z2 z3 => visC.o hv2 ⟨z1, z2, z3⟩
      have ec2 : ∀ j, cv σ2 j = cv σ j := fun j => by unfold cv; rw [(c2' 79 j (by omega) (by omega) (by omega)).1, (c2' 80 j (by omega) (by omega) (by omega)).2]
      have l2 : ∀ k j, cdC k j = true → lv σ2 k j = lv σ0 k j := fun k j z => by rw [← lcd k j z]; unfold lv; rw [(c2' k j (by rintro rfl; simp [cdC] at z) (by rintro rfl; simp [cdC] at z) (by left; rintro rfl; simp [cdC] at z)).1]
      have e41 : lv σ2 41 = lv σ0 41 := by funext j; exact l2 41 j (by unfold cdC; rfl)
      have sa : ∀ k, saO σ2 (nL σ0 (kY F).1) k = saO σ0 (nL σ0 (kY F).1) k := fun k => by unfold saO; rw [l2 38 k (by unfold cdC; rfl)]
      -- what a scope that is known tells
      have sck : ∀ k ∈ scL σ0 (kY F).1, lv σ0 39 k ≤ (((kY F).2.1 - 1 : Nat) : Int) → (((kY F).2.1 - 1 : Nat) : Int) < lv σ0 40 k → ((lv σ0 38 k).toNat ∈ (kY F).2.2.2.2.1 ∧ saO σ0 (nL σ0 (kY F).1) k = (lv σ0 38 k).toNat ∧ lv σ0 38 k < 1000) ∨ ∃ d e, e < 3 ∧ (flo (kY F).2.2.2.1)[d]? = some 4 ∧ saO σ0 (nL σ0 (kY F).1) k = nL σ0 (kY F).1 + 3 * d + e ∧ lv σ0 38 k = ((1000 + 3 * d + e : Nat) : Int) := fun k hk w1 w2 => by
        unfold scL at hk
        rw [List.mem_reverse, List.mem_filter, List.mem_range] at hk
        obtain ⟨hk1, hk2⟩ := hk
        have hk2 : lv σ0 37 k = ((kY F).1 : Int) := by simpa using hk2
        have p18 := h38.1.1
        have k0 := h38.2 k (by omega)
        by_cases z : lv σ0 38 k < 1000
        · left
          refine ⟨(sc2 (lv σ0 38 k).toNat (by omega)).1 ⟨k, by omega, hk2, w1, w2, by omega⟩, ?_, z⟩
          unfold saO
          rw [if_pos z]
        · right
          refine ⟨((lv σ0 38 k).toNat - 1000) / 3, ((lv σ0 38 k).toNat - 1000) % 3, by omega, ?_, ?_, by omega⟩
          · exact (sc3 (((lv σ0 38 k).toNat - 1000) / 3) (((lv σ0 38 k).toNat - 1000) % 3) (by omega)).1 ⟨k, by omega, hk2, w1, w2, by omega⟩
          · unfold saO
            rw [if_neg z]
            omega
      have e94 : Int32.ofNat (kY F).2.1 - 1 = Int32.ofNat ((kY F).2.1 - 1) := lz_ext (by
        have t1 : (1 : Int32).toInt = 1 := by decide
        rw [lz_sub (by rw [lz_lit (by omega), t1]; omega), lz_lit (by omega), lz_lit (by omega), t1]
        omega)
      obtain ⟨σ3, Q3, s1, s2⟩ := c_rscp hn (W := W) (i := 20 * q + d) (f := (kY F).1) (kb := kB F) (nl := nL σ0 (kY F).1) (nh := nH σ0 (kY F).1) (pc := (kY F).2.1 - 1) (e := ce) (by omega) f51 (by omega) hce fL (by omega) (scL σ0 (kY F).1) (σ2.1 42 (kY F).1) σ2 Q2 (.retAddr 0) (by
          rw [e41]
          have : (σ2.1 42 (kY F).1).toInt = lv σ0 42 (kY F).1 := l2 42 _ (by unfold cdC; rfl)
          rw [this]
          exact zlk) (by rw [(c2' 96 _ (by omega) (by omega) (by omega)).1]; exact a96) (by rw [(c2' 31 _ (by omega) (by omega) (by omega)).1]; exact e31) (by rw [(c2' 32 _ (by omega) (by omega) (by omega)).1]; exact e32) fH (fun k hk => by
          rw [l2 38 k (by unfold cdC; rfl), l2 39 k (by unfold cdC; rfl), l2 40 k (by unfold cdC; rfl), sa, ec2]
          have hk' := hk
          unfold scL at hk'
          rw [List.mem_reverse, List.mem_filter, List.mem_range] at hk'
          have p18 := h38.1
          refine ⟨by omega, h38.2 k (by omega), fun w1 w2 => ?_⟩
          rcases sck k hk w1 w2 with ⟨y1, y2, y3⟩ | ⟨d', e', y1, y2, y3, y4⟩
          · have := (t5 _ y1).1
            rw [y2]
            refine ⟨by omega, by omega, gd _ (Or.inl (hlv s0 _ y1)) (fun y => hW _ ⟨s0, y, Or.inr (Or.inr (Or.inl ⟨_, y1, rfl⟩))⟩)⟩
          · have dl : d' < (flo (kY F).2.2.2.1).length := (List.getElem?_eq_some_iff.1 y2).1
            rw [y3, ← Nat.add_assoc, ← Nat.add_assoc]
            exact ⟨by omega, by omega, gd _ (Or.inl (stk_hd t4 d' e' y1 y2)) (fun y => hW _ ⟨s0, y, Or.inr (Or.inr (Or.inr (Or.inl ⟨d', e', y1, y2, rfl⟩)))⟩)⟩) (fun j j1 j2 => by
          rw [ec2]
          exact gd _ (stk_gd t4 j j1 j2) (fun y => hW _ ⟨s0, y, Or.inr (Or.inr (Or.inr (Or.inr ⟨j, j1, j2, rfl⟩)))⟩)) hv2.1
      refine ⟨σ3, Q3, ?_, (hv2.tr s2).mo (fun x ⟨_, x0, hx⟩ => ?_)⟩
      · rw [kc_179_31]; simp only [if_pos ii, ni]; rw [(c 95 _ (by omega) (by omega) (by omega)).1, (c 96 _ (by omega) (by omega) (by omega)).1, (c 92 _ (by omega) (by omega) (by omega)).1, (c 94 _ (by omega) (by omega) (by omega)).1, h95, a96, a92, a94, r1, bv_ok]; simp only [if_pos jf, nf]; rw [e94]
        exact s1
      · rcases hx with hx | ⟨j, j1, j2, j3⟩ | ⟨y, y1, y2⟩ | ⟨d', e', y1, y2, y3⟩ | ⟨j, j1, j2, j3⟩
        · exact Or.inl (Or.inl (hM x x0 hx))
        · exact Or.inl (Or.inr ⟨x0, j, j1, j2, by rw [ec]; exact j3⟩)
        · right
          have yl := (t5 y y1).1
          obtain ⟨k, k1, k2, k3, k4, k5⟩ := (sc2 y (by omega)).2 y1
          have p18 := h38.1.1
          refine ⟨x0, Or.inl ⟨k, ?_, ?_, ?_, ?_⟩⟩
          · unfold scL
            rw [List.mem_reverse, List.mem_filter, List.mem_range]
            exact ⟨by omega, by simpa using k2⟩
          · rw [l2 39 k (by unfold cdC; rfl)]; exact k3
          · rw [l2 40 k (by unfold cdC; rfl)]; exact k4
          · rw [sa, ec2, y2]
            have : saO σ0 (nL σ0 (kY F).1) k = y := by
              unfold saO
              rw [k5, if_pos (by omega)]
              omega
            rw [this]
        · right
          obtain ⟨k, k1, k2, k3, k4, k5⟩ := (sc3 d' e' y1).2 y2
          have p18 := h38.1.1
          refine ⟨x0, Or.inl ⟨k, ?_, ?_, ?_, ?_⟩⟩
          · unfold scL
            rw [List.mem_reverse, List.mem_filter, List.mem_range]
            exact ⟨by omega, by simpa using k2⟩
          · rw [l2 39 k (by unfold cdC; rfl)]; exact k3
          · rw [l2 40 k (by unfold cdC; rfl)]; exact k4
          · rw [sa, ec2, y3]
            have : saO σ0 (nL σ0 (kY F).1) k = nL σ0 (kY F).1 + 3 * d' + e' := by
              unfold saO
              rw [k5, if_neg (by omega)]
              omega
            rw [this, ← Nat.add_assoc, ← Nat.add_assoc]
        · exact Or.inr ⟨x0, Or.inr ⟨j, j1, j2, by rw [ec2]; exact j3⟩⟩
    rw [rc_179, kc_179_0]; simp only [if_pos ii, ni]; rw [a91, if_pos rfl, a93]
    by_cases z : kO F = 0
    · rw [if_pos (by rw [z]; decide)]
      exact mid σ Q _ (vis.rf hm) (fun x x0 y => absurd (y.trans z) x0)
    · have fO : obA σ τ (kO F) 5 := by
        rcases fO with w | w
        · exact absurd w.1 z
        · exact w.1
      have o2 := fO.2.1
      have o3 := fO.2.2.1
      have om : ov (5, i64 (kO F)) = kO F := ov_ob (Or.inr (Or.inl rfl)) (by omega)
      obtain ⟨σ1, Q1, r1, r2⟩ := c_reach hn hm (a := (5, i64 (kO F))) (fun _ => by rw [om]) (by rw [om]; omega) (W := W) (by rw [om]; exact fun y => hW _ ⟨s0, y, Or.inl rfl⟩)
      have r1 : lj_R lc_P 176 [.ref 8, .int 5, .long (Int32.ofNat (kO F)).toInt64] σ = some (.inl none, σ1) := r1
      rw [if_neg (by rw [lz_le, lz_lit (by omega)]; show ¬ ((kO F : Int) ≤ 0); omega)]; (try simp only [if_pos ii]); rw [r1, bv_ok]
      exact mid σ1 Q1 _ r2 (fun x x0 y => ⟨by rw [om]; exact y, x0⟩)
  · refine ⟨σ, Q, ?_, (vis.rf hm).mo (fun x hx => by have := hx.1; omega)⟩
    rw [rc_179, kc_179_0]; simp only [if_pos ii, ni]; rw [h91, if_neg (by rcases s12 with z | z <;> rw [z] <;> decide)]
