/-! the gathering: both take away, the heaps are alike again -/
theorem vR.tT {σ τ σ' τ' : lj_S} {a b : vT} (h : vR σ τ a b) {T : Nat → Bool} (g : sG σ τ σ' τ') (l70 : lv σ' 7 0 = lv σ 7 0) (k : ∀ o, T o = true → σ'.1 57 o = σ.1 57 o ∧ τ'.1 38 o = τ.1 38 o) (hT : ov a ≠ 0 → T (ov a) = true) : vR σ' τ' a b := by
  rcases h with h | h | ⟨s, s', u1, u2, h, e, w⟩ | ⟨x, c, hk, h, e, w⟩ | h
  · exact Or.inl h
  · exact Or.inr (Or.inl h)
  · exact Or.inr (Or.inr (Or.inl ⟨s, s', u1, u2, h, e, w.up g⟩))
  · refine Or.inr (Or.inr (Or.inr (Or.inl ⟨x, c, hk, h, e, ?_⟩)))
    rcases w with w | w
    · exact Or.inl w
    · right
      have x2 := w.2.1
      have ex : ov a = x := by rw [h]; exact ov_ob hk (by omega)
      rw [ex] at hT
      have := hT (by have := w.1; omega)
      exact ⟨w.1, w.2.1, by rw [l70]; exact w.2.2.1, by rw [(k x this).1]; exact w.2.2.2.1, by rw [(k x this).2]; exact w.2.2.2.2⟩
  · exact Or.inr (Or.inr (Or.inr (Or.inr h)))
theorem eR_fil {R R' : vT → vT → Prop} {f g f' g' : Nat → enT} {fk gk : Nat → Bool} : ∀ {l l' : List Nat}, eR R f g l l' → (∀ p ∈ l, ∀ q ∈ l', pR R (f p) (g q) → (fk p = false ∧ gk q = false) ∨ (fk p = true ∧ gk q = true ∧ pR R' (f' p) (g' q))) → eR R' f' g' (l.filter fk) (l'.filter gk)
  | [], [], _, _ => trivial
  | [], _ :: _, h, _ => h.elim
  | _ :: _, [], h, _ => h.elim
  | p :: l, q :: l', h, w => by
    have ih := eR_fil (f' := f') (g' := g') (R' := R') h.2 (fun x hx y hy => w x (List.mem_cons_of_mem _ hx) y (List.mem_cons_of_mem _ hy))
    rw [List.filter_cons, List.filter_cons]
    rcases w p List.mem_cons_self q List.mem_cons_self h.1 with ⟨w1, w2⟩ | ⟨w1, w2, w3⟩
    · rw [w1, w2]
      exact ih
    · rw [w1, w2]
      exact ⟨w3, ih⟩
theorem smV_snoc (D : Nat → Nat) : ∀ (d u : Nat), smV D u (d + 1) = smV D u d + D (u + d)
  | 0, u => by
    show D u + 0 = 0 + D u
    omega
  | d + 1, u => by
    show D u + smV D (u + 1) (d + 1) = D u + smV D (u + 1) d + D (u + (d + 1))
    rw [smV_snoc D d (u + 1), show u + 1 + d = u + (d + 1) by omega]
    omega
theorem sm_sum {D : Nat → Nat} {P P2 : Nat → List Nat} : ∀ (k : Nat), (∀ v, 1 ≤ v → v ≤ k → D v + (P2 v).length = (P v).length) → smV D 1 k + sumP P2 k + (P 0).length = sumP P k + (P2 0).length
  | 0, _ => by
    show 0 + (P2 0).length + (P 0).length = (P 0).length + (P2 0).length
    omega
  | k + 1, h => by
    have ih := sm_sum k (fun v v1 v2 => h v v1 (by omega))
    have := h (k + 1) (by omega) (Nat.le_refl _)
    rw [smV_snoc, Nat.add_comm 1 k]
    unfold sumP
    omega
theorem sm_zero {D : Nat → Nat} {n : Nat} : ∀ (e : Nat), (∀ v, n < v → v ≤ n + e → D v = 0) → smV D 1 (n + e) = smV D 1 n
  | 0, _ => rfl
  | e + 1, h => by
    rw [show n + (e + 1) = (n + e) + 1 by omega, smV_snoc, sm_zero e (fun v v1 v2 => h v v1 (by omega)), h (1 + (n + e)) (by omega) (by omega)]
    rfl
theorem hsM_o {τ τ' : lj_S} {V : Nat → Prop} {P B : Nat → List Nat} {Fr : List Nat} (h : hsM τ V P B Fr) (c : ∀ k j, k = 40 ∨ k = 41 ∨ k = 45 ∨ k = 49 ∨ k = 50 ∨ k = 51 ∨ k = 52 ∨ k = 53 ∨ k = 0 ∧ (j = 88 ∨ j = 89) → τ'.1 k j = τ.1 k j) (c46 : ∀ j, τ'.2 46 j = τ.2 46 j) : hsM τ' V P B Fr :=
  ⟨hpM_cg h.1 (fun k j w => c k j (by omega)) c46, fsM_cg (fun j => c 53 j (by omega)) h.2.1, by unfold lv; rw [c 0 88 (by omega)]; exact h.2.2.1, by unfold lv; rw [c 0 89 (by omega)]; exact h.2.2.2.1, h.2.2.2.2⟩
def tkM (k j : Nat) : Bool := k == 38 || k == 40 || k == 41 || k == 42 || k == 47 || k == 50 || k == 51 || k == 52 || k == 53 || k == 58 || k == 62 || k == 63 || (k == 0 && (j == 88 || j == 89))
/-- kinds afterwards -/
def kdA (n : Nat) (T : Nat → Bool) (u : Nat) : Prop := 1 ≤ u ∧ u ≤ n ∧ T u = false
theorem gat2 {σ τ : lj_S} {n : Nat} {P B : Nat → List Nat} {Fr : List Nat} {P' B' : Nat → List Nat} {Fr' : List Nat} (h : tw σ τ n P B Fr P' B' Fr') {T : Nat → Bool} (T0 : T 0 = true) (fC : ∀ x, x ≤ n → (σ.1 111 x ≠ 0 ↔ T x = true)) (fM : ∀ x, 1 ≤ x → x ≤ n → (τ.1 96 x ≠ 0 ↔ T x = true)) (hT : ∀ t, T t = true → t ≤ n → σ.1 57 t = 4 → ∀ q ∈ P t, σ.1 68 q ≠ 0 → (ov (kyC σ q) ≠ 0 → T (ov (kyC σ q)) = true) ∧ (ov (vlC σ q) ≠ 0 → T (ov (vlC σ q)) = true)) {fi : Nat} (hfi : fi < 520) (h34 : σ.1 8 34 = Int32.ofNat fi) (x1 x2 x3 : Int32) : ∃ (σG τG : lj_S) (P2 B2 : Nat → List Nat) (Fr2 : List Nat) (P2' B2' : Nat → List Nat) (Fr2' : List Nat) (g : Nat), lj_D lc_P lc_M175 353 [.ref 8, .int x1, .int x2, .int x3, .int 0, .int 1] [] σ = lj_bv (lj_R lc_P 153 [.ref 8] (lj_put σG 101 fi (Int32.ofNat g))) (fun σ1 => some (.inl none, σ1)) lj_up ∧ lj_R lm_P 219 [.ref 0] τ = some (.inl (some (.int (Int32.ofNat g))), τG) ∧ hpX σG τG n P2 B2 Fr2 P2' B2' Fr2' ∧ (∀ u, (kdA n T u → σG.1 57 u = 0 ∧ τG.1 38 u = 0) ∧ (¬ kdA n T u → σG.1 57 u = σ.1 57 u ∧ τG.1 38 u = τ.1 38 u)) ∧ (∀ u, τG.2 42 u = if 1 ≤ u ∧ u ≤ n ∧ T u = false ∧ τ.1 38 u ≠ 0 then 0 else τ.2 42 u) ∧ (∀ q, q < 26 → tkP n T τ 1 q → τG.1 58 q = 4 ∧ τG.1 62 q = 0 ∧ τG.1 63 q = 0) ∧ (∀ q, ¬ (q < 26 ∧ tkP n T τ 1 q) → τG.1 58 q = τ.1 58 q ∧ τG.1 62 q = τ.1 62 q ∧ τG.1 63 q = τ.1 63 q) ∧ lf swK σ σG ∧ lf tkM τ τG := by
  obtain ⟨⟨hn, l70, l77⟩, hc, hm, hl, he⟩ := id h.2.2.1
  have e70 : σ.1 7 0 = Int32.ofNat n := lz_ext (by rw [lz_lit (by omega)]; exact l70)
  have e77 : τ.1 0 77 = Int32.ofNat n := lz_ext (by rw [lz_lit (by omega)]; exact l77)
  have ob := h.2.2.2.2
  have VMn : ∀ u, 1 ≤ u → u ≤ n → VM n u := fun u u1 u2 => Or.inr ⟨u1, u2⟩
  -- component
  obtain ⟨σg, Pg, Bg, Frg, a1, a2, a3, a4, a5, a6⟩ := c_gone hn (T := T) x1 x2 x3 n 1 0 σ P B Fr (by omega) (by omega) e70 fC hc (fun u _ u2 w => hl.2.2 u u2 w)
  have g68 : ∀ q, σg.1 68 q = σ.1 68 q := fun q => (a6 68 q rfl).1
  have e57g : ∀ u, (kdA n T u → σg.1 57 u = 0) ∧ (¬ kdA n T u → σg.1 57 u = σ.1 57 u) := fun u => ⟨fun w => by rw [a4, if_pos (show 1 ≤ u ∧ u ≤ n ∧ T u = false from w)], fun w => by rw [a4, if_neg (show ¬ (1 ≤ u ∧ u ≤ n ∧ T u = false) from w)]⟩
  obtain ⟨σk, P2, B2, Fr2, b1, b2, b3, b4, b5⟩ := c_kept hn hfi x1 x2 x3 (Int32.ofNat (0 + gnN (σ.1 57) T 1 n)) (n + 1) 0 σg Pg Bg Frg (by omega) (by rw [(a6 7 0 rfl).1]; exact e70) (by rw [(a6 8 34 rfl).1]; exact h34) a2 (fun u _ u2 w => by
    rw [a3 u u2]
    by_cases y : 1 ≤ u ∧ T u = false
    · rw [if_pos y]
    · rw [if_neg y]
      refine hl.2.2 u u2 (fun z => w ?_)
      rw [(e57g u).2 (fun q => y ⟨q.1, q.2.2⟩)]
      exact z)
  have e57k : ∀ u, σk.1 57 u = σg.1 57 u := fun u => (b5 57 u rfl).1
  have ekp : kpB false σg = fun q => decide (σ.1 68 q ≠ 0) := by
    funext q
    unfold kpB
    rw [g68]
    rfl
  have eP2 : ∀ u, u ≤ n → P2 u = if T u = true then (P u).filter (fun q => decide (σ.1 68 q ≠ 0)) else [] := fun u hu => by
    rw [b3 u hu, if_pos (Nat.zero_le _), a3 u hu, ekp]
    by_cases y : T u = true
    · rw [if_pos y, if_neg (fun z => by rw [y] at z; cases z.2)]
    · have yf : T u = false := by
        cases e : T u with
        | false => rfl
        | true => exact absurd e y
      have u1 : 1 ≤ u := by
        by_cases e : u = 0
        · rw [e, T0] at yf; cases yf
        · omega
      rw [if_neg y, if_pos ⟨u1, yf⟩]
      rfl
  -- model
  have p3 := hm.1.2.2
  obtain ⟨τa, X, c1, c2, c3, c4, c5, c6⟩ := m_tk hn (T := T) (P' := P') n 1 0 τ (.retAddr 0) (by omega) (by omega) e77 fM (fun u u1 u2 => by
    obtain ⟨⟨w1, w2⟩, _, _, w5⟩ := ob u u1 u2
    refine ⟨by rw [← w1]; exact w2, (hm.1.1 u (VMn u u1 u2)).1, fun q hq => (p3 u (VMn u u1 u2) q hq).1, fun z => ?_⟩
    obtain ⟨q, _, q2, _, q4⟩ := w5 (by rw [w1]; exact z)
    exact ⟨q, q2, q4⟩)
  have pe' : ∀ v, 1 ≤ v → v ≤ n → τ.1 38 v ≠ 4 → P' v = [] := fun v v1 v2 w => by
    have := he v v2
    rw [tm_1 v1, hl.2.2 v v2 (by rw [(ob v v1 v2).1.1]; exact w)] at this
    cases e : P' v with
    | nil => rfl
    | cons q l => rw [e] at this; exact this.elim
  obtain ⟨τb, P2', B2', Fr2', d1, d2, d3, d4, d5⟩ := m_rb hn (τ := τa) (by rw [c5 0 77 (by omega) (by omega) (by omega) (by omega)]; exact e77) (hsM_o hm (fun k j w => c5 k j (by omega) (by omega) (by omega) (by omega)) (fun j => by rw [c6])) (fun v v1 v2 w => pe' v v1 v2 (by rw [← c5 38 v (by omega) (by omega) (by omega) (by omega)]; exact w))
  have b38 : ∀ u, τb.1 38 u = τ.1 38 u := fun u => by rw [(d5 38 u rfl).1, c5 38 u (by omega) (by omega) (by omega) (by omega)]
  obtain ⟨τG, f1, f2, f3, f4, f5⟩ := m_off hn (T := T) (Int32.ofNat (0 + gnN (τ.1 38) T 1 n)) X n 1 τb (by omega) (by omega) (by rw [(d5 0 77 rfl).1, c5 0 77 (by omega) (by omega) (by omega) (by omega)]; exact e77) (fun u u1 u2 => by rw [(d5 96 u rfl).1, c5 96 u (by omega) (by omega) (by omega) (by omega)]; exact fM u u1 u2) (fun u u1 u2 => by
    rw [b38, ← (ob u u1 u2).1.1]
    exact (ob u u1 u2).1.2)
  have gg : gnN (τ.1 38) T 1 n = gnN (σ.1 57) T 1 n := gnN_cg n 1 (fun u u1 u2 => ((ob u u1 (by omega)).1.1).symm)
  -- kinds
  have kC : ∀ u, (kdA n T u → σk.1 57 u = 0 ∧ τG.1 38 u = 0) ∧ (¬ kdA n T u → σk.1 57 u = σ.1 57 u ∧ τG.1 38 u = τ.1 38 u) := fun u => by
    rw [e57k, f2, b38]
    exact ⟨fun w => ⟨(e57g u).1 w, if_pos w⟩, fun w => ⟨(e57g u).2 w, if_neg w⟩⟩
  have kT : ∀ o, T o = true → σk.1 57 o = σ.1 57 o ∧ τG.1 38 o = τ.1 38 o := fun o w => (kC o).2 (fun y => by have := y.2.2; rw [w] at this; cases this)
  have lC : lf swK σ σk := a6.tr (b5.mo (fun _ _ q => swC_K q))
  have lM : lf tkM τ τG := fun k j z => by
    unfold tkM at z
    simp at z
    refine ⟨?_, ?_⟩
    · rw [f4 k j (by omega), (d5 k j (by unfold rbM; simp; omega)).1, c5 k j (by omega) (by omega) (by omega) (by omega)]
    · rw [f5 k j (by omega), (d5 k j (by unfold rbM; simp; omega)).2, c6]
  have g : sG σ τ σk τG := by
    have e1 : lv σk 3 7 = lv σ 3 7 := by unfold lv; rw [(lC 3 7 rfl).1]
    have e2 : lv τG 0 14 = lv τ 0 14 := by unfold lv; rw [(lM 0 14 rfl).1]
    exact ⟨by omega, by omega, fun t _ => cS_cong (fun j => (lC 9 j rfl).1) (fun j => (lC 10 j rfl).1) (fun j => (lC 11 j rfl).1) t, fun t _ => mS_cong (fun j => (lM 2 j rfl).1) (fun j => (lM 3 j rfl).1) (fun j => (lM 4 j rfl).1) t⟩
  have k70 : lv σk 7 0 = lv σ 7 0 := by unfold lv; rw [(lC 7 0 rfl).1]
  -- what is alive in the model
  have alT : ∀ t, t ≤ n → T t = true → ∀ q ∈ P' (tm t), alM τa q = decide (τ.1 47 q ≠ 0) := fun t ht w q hq => by
    have : τa.1 47 q = τ.1 47 q := (c2 q).2 (fun ⟨u, u1, u2, u3, u4, u5⟩ => by
      have e1 := (p3 (tm t) (tm_V ht) q hq).2.1
      rw [(p3 u (VMn u u1 u2) q u5).2.1] at e1
      have b : tm t ≤ 2001 := by unfold tm; split <;> omega
      have e2 := (ofN_eq (by omega) (by omega)).1 e1
      have : u = t := by
        unfold tm at e2
        by_cases z : t = 0
        · rw [if_pos z] at e2; omega
        · rw [if_neg z] at e2; exact e2
      rw [this, w] at u3
      cases u3)
    unfold alM
    rw [this]
  have alF : ∀ t, 1 ≤ t → t ≤ n → T t = false → (P' t).filter (alM τa) = [] := fun t t1 t2 w => by
    by_cases k4 : τ.1 38 t = 4
    · rw [List.filter_eq_nil_iff]
      intro q hq y
      unfold alM at y
      rw [(c2 q).1 ⟨t, t1, t2, w, k4, hq⟩] at y
      cases y
    · rw [pe' t t1 t2 k4]
      rfl
  have eP2' : ∀ t, t ≤ n → P2' (tm t) = if T t = true then (P' (tm t)).filter (fun q => decide (τ.1 47 q ≠ 0)) else [] := fun t ht => by
    rw [d3 _ (tm_V ht)]
    by_cases w : T t = true
    · rw [if_pos w]
      exact List.filter_congr (fun q hq => alT t ht w q hq)
    · rw [if_neg w]
      have wf : T t = false := by
        cases e : T t with
        | false => rfl
        | true => exact absurd e w
      have t1 : 1 ≤ t := by
        by_cases e : t = 0
        · rw [e, T0] at wf; cases wf
        · omega
      rw [tm_1 t1]
      exact alF t t1 ht wf
  have enk : ∀ q, (enC σk q) = enC σ q := fun q => by unfold enC; rw [(lC 66 q rfl).1, (lC 67 q rfl).2, (lC 68 q rfl).1, (lC 69 q rfl).2]
  have m47 : ∀ q, τG.1 47 q = τa.1 47 q := fun q => by rw [f4 47 q (by omega), (d5 47 q rfl).1]
  have heN : ∀ t, t ≤ n → eR (vR σk τG) (enC σk) (enM τG) (P2 t) (P2' (tm t)) := fun t ht => by
    rw [eP2 t ht, eP2' t ht]
    by_cases w : T t = true
    · rw [if_pos w, if_pos w]
      refine eR_fil (he t ht) (fun p hp q hq y => ?_)
      have k4 : σ.1 57 t = 4 := Classical.byContradiction (fun z => by rw [hl.2.2 t ht z] at hp; cases hp)
      obtain ⟨y1, y2, y3⟩ := y
      rcases y3 with ⟨y3, y4⟩ | ⟨y3, y4⟩
      · left
        have e1 : σ.1 68 p = 0 := congrArg Prod.fst y3
        have e2 : τ.1 47 q = 0 := y4
        exact ⟨by simp [e1], by simp [e2]⟩
      · right
        have e1 : σ.1 68 p ≠ 0 := y3
        have e2 : τ.1 47 q ≠ 0 := fun z => by
          rcases y4.k.1 with r | r
          · have r : τ.1 47 q = σ.1 68 p := r
            rw [z] at r; exact e1 r.symm
          · have r : τ.1 47 q = 7 := r.2
            rw [z] at r; exact absurd r (by decide)
        obtain ⟨t1, t2⟩ := hT t w ht k4 p hp e1
        have em : enM τG q = enM τ q := by
          have e47 : τG.1 47 q = τ.1 47 q := by
            rw [m47]
            have := alT t ht w q hq
            unfold alM at this
            rw [show decide (τ.1 47 q ≠ 0) = true by simp [e2]] at this
            have z : τa.1 47 q ≠ 0 := by simpa using this
            exact (c2 q).2 (fun y => z ((c2 q).1 y))
          unfold enM
          rw [e47, (lM 45 q rfl).1, (lM 46 q rfl).2, (lM 48 q rfl).2]
        refine ⟨by simp [e1], by simp [e2], ?_⟩
        rw [enk, em]
        exact ⟨y1.tT g k70 kT t1, y2, Or.inr ⟨e1, y4.tT g k70 kT t2⟩⟩
    · rw [if_neg w, if_neg w]
      trivial
  -- how many places are free
  have lenP : ∀ t, t ≤ n → (P t).length = (P' (tm t)).length := fun t ht => eR_len (he t ht)
  have lenP2 : ∀ t, t ≤ n → (P2 t).length = (P2' (tm t)).length := fun t ht => eR_len (heN t ht)
  have dd : ∀ t, t ≤ n → ddV n P' τa (tm t) + (P2 t).length = (P t).length := fun t ht => by
    unfold ddV
    rw [if_pos (show tm t = 2001 ∨ (1 ≤ tm t ∧ tm t ≤ n) from tm_V ht), lenP t ht, lenP2 t ht, d3 _ (tm_V ht)]
    have := List.length_filter_le (alM τa) (P' (tm t))
    omega
  have lens : Fr2.length = Fr2'.length := by
    have s1 := sm_sum (D := ddV n P' τa) (P := P) (P2 := P2) n (fun v v1 v2 => by
      have := dd v v2
      rw [tm_1 v1] at this
      exact this)
    have s2 := sm_zero (D := ddV n P' τa) (n := n) (2000 - n) (fun v v1 v2 => by
      unfold ddV
      rw [if_neg (by omega)])
    have s3 := smV_snoc (ddV n P' τa) 2000 1
    rw [show n + (2000 - n) = 2000 by omega] at s2
    have s4 := dd 0 (Nat.zero_le _)
    have t0 : tm 0 = 2001 := rfl
    rw [t0] at s4
    rw [show 1 + 2000 = 2001 from rfl] at s3
    have s5 : smV (ddV n P' τa) 1 (2000 + 1) = smV (ddV n P' τa) 1 2001 := rfl
    have := hl.1
    omega
  refine ⟨σk, τG, P2, B2, Fr2, P2', B2', Fr2', 0 + gnN (σ.1 57) T 1 n, ?_, ?_, ⟨⟨hn, by rw [k70]; exact l70, by unfold lv; rw [(lM 0 77 rfl).1]; exact l77⟩, b2, hsM_o d2 (fun k j w => f4 k j (by omega)) (fun j => f5 46 j (by omega)), ⟨lens, fun i hi => ?_, fun t ht w => ?_⟩, heN⟩, kC, fun u => ?_, fun q hq w => ?_, fun q w => ?_, lC, lM⟩
  · have a1 : lj_D lc_P lc_M175 353 [.ref 8, .int x1, .int x2, .int x3, .int 0, .int 1] [] σ = _ := a1
    have b1 : lj_D lc_P lc_M175 450 [.ref 8, .int x1, .int x2, .int x3, .int (Int32.ofNat (0 + gnN (σ.1 57) T 1 n)), .int 0] [] σg = _ := b1
    rw [a1, b1]
  · have c1 : lj_D lm_P lm_M219 4 [.ref 0, .int 0, .int 1, .retAddr 0] [] τ = _ := c1
    have f1 : lj_D lm_P lm_M219 133 [.ref 0, .int (Int32.ofNat (0 + gnN (τ.1 38) T 1 n)), .int 1, X] [] τb = _ := f1
    rw [rm_219, km_219_0, c1, d1, bv_ok, f1, gg]
  · rw [eP2 0 (Nat.zero_le _), if_pos T0] at hi
    rw [(lC 66 i rfl).1]
    exact hl.2.1 i (List.mem_filter.1 hi).1
  · rw [eP2 t ht]
    by_cases y : T t = true
    · rw [if_pos y, hl.2.2 t ht (by rw [← (kT t y).1]; exact w)]
      rfl
    · rw [if_neg y]
  · rw [f3, b38, (d5 42 u rfl).2, c6]
  · obtain ⟨y1, y2, y3⟩ := c3 q hq w
    rw [f4 58 q (by omega), f4 62 q (by omega), f4 63 q (by omega), (d5 58 q rfl).1, (d5 62 q rfl).1, (d5 63 q rfl).1]
    exact ⟨y1, y2, y3⟩
  · obtain ⟨y1, y2, y3⟩ := c4 q w
    rw [f4 58 q (by omega), f4 62 q (by omega), f4 63 q (by omega), (d5 58 q rfl).1, (d5 62 q rfl).1, (d5 63 q rfl).1]
    exact ⟨y1, y2, y3⟩
