/-! the gathering: what is reached first, the component: all together -/
theorem c_four (x1 x2 : Int32) : ∀ (d t : Nat) (σ : lj_S), t + d = 4 → σ.1 8 58 = Int32.ofNat t → ∃ σ', lj_D lc_P lc_M175 80 [.ref 8, .int x1, .int x2, .int (Int32.ofNat t), .retAddr 0, .retAddr 0] [] σ = lj_D lc_P lc_M175 110 [.ref 8, .int x1, .int x2, .int 0, .retAddr 0, .retAddr 0] [] σ' ∧ σ'.1 8 58 = Int32.ofNat 4 ∧ (∀ j, t ≤ j → j < 4 → σ'.1 112 j = Int32.ofNat j) ∧ (∀ k j, ¬ (k = 8 ∧ j = 58) → ¬ (k = 112 ∧ t ≤ j ∧ j < 4) → σ'.1 k j = σ.1 k j) ∧ σ'.2 = σ.2
  | 0, t, σ, ht, h58 => ⟨σ, by rw [kc_175_80, if_pos (by rw [show (4 : Int32) = Int32.ofNat 4 from rfl]; exact (ofN_le (by omega) (by omega)).2 (by omega))], by rw [h58, show t = 4 by omega], fun j _ _ => by omega, fun _ _ _ _ => rfl, rfl⟩
  | d + 1, t, σ, ht, h58 => by
    have it : lj_in (Int32.ofNat t) 2001 := ofN_in (by omega) (by omega)
    have nt : (Int32.ofNat t).toNatClampNeg = t := lz_onat (by omega)
    obtain ⟨σ', r1, r2, r3, r4, r5⟩ := c_four x1 x2 d (t + 1) (lj_put (lj_put σ 8 58 (Int32.ofNat (t + 1))) 112 t (Int32.ofNat t)) (by omega) (by rw [lj_put_1, if_neg (by omega), lj_put_1, if_pos ⟨rfl, rfl⟩])
    refine ⟨σ', ?_, r2, fun j j1 j2 => ?_, fun k j z1 z2 => ?_, r5⟩
    · rw [kc_175_80, if_neg (by rw [show (4 : Int32) = Int32.ofNat 4 from rfl]; intro w; have := (ofN_le (by omega) (by omega)).1 w; omega), h58]
      (try simp only [if_pos it, nt])
      rw [lz_osucc]
      exact r1
    · by_cases z : j = t
      · rw [r4 112 j (by omega) (by omega), lj_put_1, if_pos ⟨rfl, z⟩, z]
      · exact r3 j (by omega) j2
    · rw [r4 k j z1 (by omega), lj_put_1, if_neg (by omega), lj_put_1, if_neg (by omega)]
theorem rtX_ok {σ0 τ0 σ τ : lj_S} {n np p : Nat} {r : List Nat} {FP : Nat → List kF} {ρ : Nat → Nat} {P B : Nat → List Nat} {Fr : List Nat} {P' B' : Nat → List Nat} {Fr' : List Nat} (h : gw σ0 τ0 n np p r FP ρ P B Fr P' B' Fr' σ τ) {La : List Nat} (hLa : ∀ o ∈ La, obA σ τ o 4) : ∀ x, rtX σ0 σ p r FP La x → okO σ n x := fun x hx => by
  have l70 := h.2.1.2.2.1.1.2.1
  have lb := h.2.2.2.2.2.2.1
  rcases hx with hx | hx | ⟨q, hq, q0, e, x0, x2⟩ | ⟨q, hq, hx⟩
  · have k3 := lb.1.2.2.2.2.1
    refine ⟨by omega, Or.inl ?_⟩
    have : x = 0 ∨ x = 1 ∨ x = 2 ∨ x = 3 := by omega
    rcases this with z | z | z | z <;> rw [z]
    · exact lb.2
    · exact lb.1.1.2.2.2.1
    · exact lb.1.2.1.2.2.2.1
    · exact lb.1.2.2.2.2.2.1
  · have w := hLa x hx
    have := w.2.2.1
    exact ⟨by omega, Or.inl w.2.2.2.1⟩
  · obtain ⟨o, o1, o2, o3, _, o5, _⟩ := h.2.2.2.1.2.2.2.2.2.2.2.2.2.2.1.1 q (by omega) (h.al hq).1
    rw [e] at o3
    have n2 := h.2.1.2.2.1.1.1
    have : x = o := (ofN_eq (by omega) (by omega)).1 o3
    rw [this]
    have w := o5 (h.al hq).2
    exact ⟨o2, Or.inr ⟨by omega, Or.inr w.2.2.2.1⟩⟩
  · obtain ⟨a1, a2⟩ := h.al hq
    exact pt_ok h a1 a2 hx
theorem cnt0_ff : ∀ n, cnt0 (fun _ => false) n = n + 1
  | 0 => rfl
  | n + 1 => by
    unfold cnt0
    rw [cnt0_ff n]
    rfl
theorem c_phA {σ0 τ0 σ τ : lj_S} {n np p : Nat} {r : List Nat} {FP : Nat → List kF} {ρ : Nat → Nat} {P B : Nat → List Nat} {Fr : List Nat} {P' B' : Nat → List Nat} {Fr' : List Nat} (h : gw σ0 τ0 n np p r FP ρ P B Fr P' B' Fr' σ τ) {Fn : Nat} (fx : FR σ0 τ0 Fn) (h38 : sh38 σ0) {La : List Nat} (hLa : ∀ o ∈ La, obA σ τ o 4) (hL2 : La.length ≤ 2001) (h33 : σ.1 8 33 = Int32.ofNat La.length) (h104 : ∀ i, i < La.length → σ.1 104 i = Int32.ofNat (La.getD i 0)) (x1 x2 : Int32) : ∃ σ' K, lj_D lc_P lc_M175 32 [.ref 8, .int x1, .int x2, .int 0, .retAddr 0, .retAddr 0] [] σ = lj_bv (lj_R lc_P 186 [.ref 8, .int 0] σ') (fun σ2 => lj_D lc_P lc_M175 214 [.ref 8, .int x1, .int x2, .int 0, .int 0, .retAddr 0] [] σ2) lj_up ∧ lf gKC σ σ' ∧ wqC n σ' [] ∧ wkK σ' K ∧ wlI (rtX σ0 σ p r FP La) (edX σ0 σ τ p FP P) (epX σ P) n (flg n 111 σ') [] ∧ kwI σ' n P (lstR (rtX σ0 σ p r FP La) (edX σ0 σ τ p FP P) (epX σ P)) [] K ∧ ∀ x, rtX σ0 σ p r FP La x → flg n 111 σ' x = true := by
  obtain ⟨root, hroot⟩ : ∃ root, root = rtX σ0 σ p r FP La := ⟨_, rfl⟩
  obtain ⟨edge, hedge⟩ : ∃ edge, edge = edX σ0 σ τ p FP P := ⟨_, rfl⟩
  obtain ⟨eph, heph⟩ : ∃ eph, eph = epX σ P := ⟨_, rfl⟩
  have okR : ∀ x, root x → okO σ n x := fun x hx => rtX_ok h hLa x (by rw [← hroot]; exact hx)
  have okW : ∀ x, lstR root edge eph x → okO σ n x := fun x hx => gw.ok h okR x (by rw [← hedge, ← heph]; exact hx)
  have cl := lstR_clo root edge eph
  rw [← hroot, ← hedge, ← heph]
  have hn := h.2.1.2.2.1.1.1
  have l70 := h.2.1.2.2.1.1.2.1
  have e70 : σ.1 7 0 = Int32.ofNat n := lz_ext (by rw [lz_lit (by omega)]; exact l70)
  have n3 : 3 ≤ n := by
    have := h.2.2.2.2.2.2.1.1.2.2.2.2.1
    omega
  -- flags anew
  obtain ⟨σa, a1, a2, a3, a4⟩ := c_ini hn x1 x2 (n + 1) 0 σ (by omega) e70
  obtain ⟨σb, b1, b2, b3, b4, b5⟩ := c_four x1 x2 4 0 (lj_put (lj_put σa 8 58 0) 8 60 0) (by omega) (by rw [lj_put_1, if_neg (by omega), lj_put_1, if_pos ⟨rfl, rfl⟩]; rfl)
  have e111 : ∀ j, σb.1 111 j = σa.1 111 j := fun j => by rw [b4 111 j (by omega) (by omega), lj_put_1, if_neg (by omega), lj_put_1, if_neg (by omega)]
  have fb : lf gKC σ σb := fun k j z => by
    unfold gKC at z
    simp at z
    exact ⟨by rw [b4 k j (by omega) (by omega), lj_put_1, if_neg (by omega), lj_put_1, if_neg (by omega), a2 k j (by omega)], by rw [b5]; show σa.2 k j = _; rw [a3]⟩
  have flb : ∀ x, flg n 111 σb x = true ↔ x < 4 := fun x => by
    unfold flg
    rw [e111]
    simp only [Bool.and_eq_true, decide_eq_true_iff]
    constructor
    · rintro ⟨w1, w2⟩
      rw [a4 x (Nat.zero_le _) w2] at w1
      by_cases z : x < 4
      · exact z
      · rw [if_neg z] at w1; exact absurd rfl w1
    · intro z
      refine ⟨?_, by omega⟩
      rw [a4 x (Nat.zero_le _) (by omega), if_pos z]
      decide
  have rgb : rgN n (lstR root edge eph) (fun _ => false) [] (flg n 111 σb) [3, 2, 1, 0] := by
    refine ⟨[3, 2, 1, 0], rfl, fun x => ?_, by decide, fun x hx => ?_⟩
    · rw [flb]
      constructor
      · intro z
        right
        have : x = 3 ∨ x = 2 ∨ x = 1 ∨ x = 0 := by omega
        simpa using this
      · rintro (z | z)
        · cases z
        · have : x = 3 ∨ x = 2 ∨ x = 1 ∨ x = 0 := by simpa using z
          omega
    · have : x = 3 ∨ x = 2 ∨ x = 1 ∨ x = 0 := by simpa using hx
      exact ⟨rfl, by omega, cl.1 x (by rw [hroot]; exact Or.inl (by omega))⟩
  have ctb := rgb.ct
  rw [cnt0_ff] at ctb
  have mkb : wqC n σb [3, 2, 1, 0] := ⟨b2, ⟨b3 3 (by omega) (by omega), b3 2 (by omega) (by omega), b3 1 (by omega) (by omega), b3 0 (by omega) (by omega), trivial⟩, by
    have : ([3, 2, 1, 0] : List Nat).length = 4 := rfl
    have : ([] : List Nat).length = 0 := rfl
    omega⟩
  -- last acts that wait
  have WLa : ∀ o ∈ La, lstR root edge eph o := fun o ho => cl.1 o (by rw [hroot]; exact Or.inr (Or.inl ho))
  obtain ⟨σc, Qc, c1, c2⟩ := c_lact hn (W := lstR root edge eph) (N := La.length) hL2 x1 x2 La.length 0 σb _ (by omega) (by rw [(gK_o fb (k := 8) (j := 33) (by omega)).1]; exact h33) (fun i _ i2 => by
    have m := getD_me (l := La) i2
    have w := hLa _ m
    have := w.2.2.1
    exact ⟨La.getD i 0, by rw [(gK_o fb (k := 104) (j := i) (by omega)).1]; exact h104 i i2, w.1, by omega, WLa _ m⟩) mkb
  have fc : lf gKC σ σc := fb.tr (c2.2.1.mo (fun _ _ q => gRC_K q))
  -- parts
  have ept : ∀ u x, ptC σ0 σc p FP u x ↔ ptC σ0 σ p FP u x := fun u x => by
    have ec : ∀ j, cv σc j = cv σ j := fun j => by unfold cv; rw [(gK_o fc (k := 79) (j := j) (by omega)).1, (gK_o fc (k := 80) (j := j) (by omega)).2]
    have tp : tpN σc p u = tpN σ p u := by unfold tpN lv; rw [(gK_o fc (k := 8) (j := 8) (by omega)).1, (gK_o fc (k := 82) (j := u) (by omega)).1]
    unfold ptC
    rw [pCt_cg ec, tp, (gK_o fc (k := 83) (j := u) (by omega)).1, (gK_o fc (k := 88) (j := u) (by omega)).1, (gK_o fc (k := 89) (j := u) (by omega)).2]
  obtain ⟨σd, Qd, d1, d2⟩ := c_prts (τ0 := τ0) (τ := τ) (n := n) (np := np) (p := p) (r := r) (FP := FP) (ρ := ρ) (P := P) (B := B) (Fr := Fr) (P' := P') (B' := B') (Fr' := Fr') fx h38 (W := lstR root edge eph) x1 x2 (np + 1) 0 σc Qc (by omega) (h.cg fc (lf_rf _ τ)) (fun u hu => ⟨fun u0 => by
    obtain ⟨o, o1, o2, o3, _, _⟩ := h.2.2.2.1.2.2.2.2.2.2.2.2.2.2.1.1 u (by omega) (h.al hu).1
    refine ⟨o, by rw [(gK_o fc (k := 85) (j := u) (by omega)).1]; exact o3, o1, o2, cl.1 o ?_⟩
    rw [hroot]
    exact Or.inr (Or.inr (Or.inl ⟨u, hu, u0, o3, by omega, by omega⟩)), fun x hx => cl.1 x (by rw [hroot]; exact Or.inr (Or.inr (Or.inr ⟨u, hu, (ept u x).1 hx⟩)))⟩) c2.1
  have fd : lf gKC σ σd := fc.tr (d2.2.1.mo (fun _ _ q => gRC_K q))
  have rgd : rgN n (lstR root edge eph) (fun _ => false) [] (flg n 111 σd) Qd := (rgb.tr (c2.2.2.1.mo (fun x y => y.1))).tr (d2.2.2.1.mo (fun x y => y.1))
  have hK : wkK σd [] := by
    refine ⟨?_, fun i hi => by cases hi⟩
    rw [(visC.o d2 (k := 8) (j := 60) (by omega)).1, (visC.o c2 (k := 8) (j := 60) (by omega)).1, b4 8 60 (by omega) (by omega), lj_put_1, if_pos ⟨rfl, rfl⟩]
    rfl
  have ctd := rgd.ct
  rw [cnt0_ff] at ctd
  have hk : kwI σd n P (lstR root edge eph) Qd [] := by
    refine ⟨fun t y1 y2 _ _ => ?_, fun t ht => (by cases ht), ?_⟩
    · obtain ⟨N, n1, n2, _⟩ := rgd
      rw [List.append_nil] at n1
      rcases (n2 t).1 y1 with z | z
      · cases z
      · rw [n1] at y2; exact absurd z y2
    · have : ([] : List Nat).length = 0 := rfl
      omega
  have he : ∀ o x, edge o x ↔ edX σ0 σd τ p FP P o x := fun o x => by rw [hedge]; exact (edX_gK fd (lf_rf _ τ) p FP P o x).symm
  have hp : ∀ t k v, eph t k v ↔ epX σd P t k v := fun t k v => by rw [heph]; exact (epX_gK fd P t k v).symm
  obtain ⟨σe, K, e1, e2, e3, e4, e5, e6, e7⟩ := c_rall (τ0 := τ0) (τ := τ) (n := n) (np := np) (p := p) (r := r) (FP := FP) (ρ := ρ) (P := P) (B := B) (Fr := Fr) (P' := P') (B' := B') (Fr' := Fr') fx h38 (root := root) (edge := edge) (eph := eph) (n + 1) σd Qd [] (.retAddr 0) (.retAddr 0) (.retAddr 0) (by
    have : ([] : List Nat).length = 0 := rfl
    omega) (h.cg fd (lf_rf _ τ)) he hp (fun x hx => by
    have := okW x hx
    unfold okO at this ⊢
    rw [gK_v fd 57 x rfl]
    exact this) d2.1 hK (wlI.ini rgd) hk
  refine ⟨σe, K, ?_, fd.tr e2, e3, e4, e5, e6, fun x hx => e7 x ?_⟩
  · rw [show (0 : Int32) = Int32.ofNat 0 from rfl, a1]
    have b1 : lj_D lc_P lc_M175 80 [.ref 8, .int x1, .int x2, .int 0, .retAddr 0, .retAddr 0] [] (lj_put (lj_put σa 8 58 0) 8 60 0) = _ := b1
    rw [b1]
    have c1 : lj_D lc_P lc_M175 110 [.ref 8, .int x1, .int x2, .int 0, .retAddr 0, .retAddr 0] [] σb = _ := c1
    rw [c1]
    have d1 : lj_D lc_P lc_M175 138 [.ref 8, .int x1, .int x2, .int 0, .retAddr 0, .retAddr 0] [] σc = _ := d1
    rw [d1, rc_181, e1, bv_ok]
    rfl
  · rw [hroot] at hx
    rcases hx with hx | hx | ⟨q, hq, q0, y1, y2, y3⟩ | ⟨q, hq, hx⟩
    · exact d2.up (c2.up ((flb x).2 hx))
    · have w := hLa x hx
      have := w.2.2.1
      obtain ⟨i, i1, i2⟩ := List.getElem_of_mem hx
      refine d2.up (c2.2.2.2 x ⟨by have := w.1; omega, by omega, i, Nat.zero_le _, i1, ?_⟩)
      rw [(gK_o fb (k := 104) (j := i) (by omega)).1, h104 i i1]
      have : La.getD i 0 = x := by rw [List.getD_eq_getElem?_getD, List.getElem?_eq_getElem i1, i2]; rfl
      rw [this]
    · refine d2.2.2.2 x ⟨q, hq, Nat.zero_le _, Or.inl ⟨q0, ?_, y2, y3⟩⟩
      rw [(gK_o fc (k := 85) (j := q) (by omega)).1]
      exact y1
    · exact d2.2.2.2 x ⟨q, hq, Nat.zero_le _, Or.inr ((ept q x).2 hx)⟩
