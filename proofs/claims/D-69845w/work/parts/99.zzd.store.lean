/-! places of an assignment: stores -/
theorem pl_one {b : Nat → Int32} {n T : Nat} {Q : tkQ} {X : List Int32 → Prop} (hT5 : T ≤ 520) {FO : List fT} {Z : List zT} {PL : List qT} {cl ml : Nat} {F : Nat} {N : List lT} {p v c m wh : Nat} {W : List wT} {σ τ : lj_S} {f : Nat} {s l : List Nat} (h : PS b n T Q X F N FO Z PL cl ml p v c m wh W σ τ) {ha ho : Nat} (hN : hdN N f l) (hFO : hdF ha ho FO s) {x : qT} (hV : plV f l x σ τ) (hc : c + 1 ≤ 25 * p + 100) (hm : m + 1 ≤ 25 * p + 100) (A : Int32) (o : Nat) (r1 r2 S S' : List Nat) (hA : x.1 = 6 → A = Int32.ofNat r1.length ∧ o = r2.length ∧ S = r1 ++ 0 :: 0 :: (r2 ++ 2 :: s) ∧ S' = r1 ++ 6 :: 6 :: (r2 ++ 2 :: s) ∧ (∀ x ∈ r1, x = 0 ∨ x = 6) ∧ ∀ x ∈ r2, x = 0 ∨ x = 6) (hA' : x.1 ≠ 6 → S' = S) (hOK : sOK (0 :: S)) :
    ∃ σ' τ', lj_R lc_P 107 [.ref 6, .int x.1, .int A] (lj_put (lj_put σ 6 16 (Int32.ofNat x.2.2.1)) 6 17 x.2.2.2.2) = some (.inl none, σ') ∧ lj_R lm_P 28 [.ref 0, .int (if x.1 = 6 then 13 else 9 + x.2.1), .int (if x.1 = 6 then Int32.ofNat o else Int32.ofNat x.2.2.2.1), .int 0, .int (if x.1 = 6 then x.2.2.2.2 else 0)] τ = some (.inl (some (.int (Int32.ofNat m))), τ') ∧ PS b n T Q X F N FO Z PL cl ml p v (c + 1) (m + 1) wh W σ' τ' ∧ GR N N F F p p c (c + 1) m (m + 1) σ τ σ' τ' ∧
    ∀ σ2 τ2, LT N c (c + 1) m (m + 1) σ' τ' σ2 τ2 → seg σ2 τ2 (f, c, m, 0 :: S, l, 50) (fun y => y = (f, c + 1, m + 1, S', l, 50)) := by
  have c14 := h.c14 hT5
  have hf8 := hdN_8 h hN
  have Y0 := h.p67 (Int32.ofNat x.2.2.1) x.2.2.2.2
  have g16 : (lj_put (lj_put σ 6 16 (Int32.ofNat x.2.2.1)) 6 17 x.2.2.2.2).1 6 16 = Int32.ofNat x.2.2.1 := by rw [lj_put_1, if_neg (by omega), lj_put_1, if_pos ⟨rfl, rfl⟩]
  have g17 : (lj_put (lj_put σ 6 16 (Int32.ofNat x.2.2.1)) 6 17 x.2.2.2.2).1 6 17 = x.2.2.2.2 := by rw [lj_put_1, if_pos ⟨rfl, rfl⟩]
  generalize hσx : lj_put (lj_put σ 6 16 (Int32.ofNat x.2.2.1)) 6 17 x.2.2.2.2 = σx at *
  have p5 := Y0.1.2.1.2.2.2.2.1
  have p41 := h.2.1.2.2.2.2.2.1
  -- one act of each
  have one : ∀ (o1 xa xl o2 ya yl : Int32), lj_R lc_P 107 [.ref 6, .int x.1, .int A] σx = some (.inl none, cP σx c o1 xa 0 0 xl) → (if x.1 = 6 then (13 : Int32) else 9 + x.2.1) = o2 → (if x.1 = 6 then Int32.ofNat o else Int32.ofNat x.2.2.2.1) = ya → (if x.1 = 6 then x.2.2.2.2 else 0) = yl → (∀ σ2 τ2, TX N σ τ σ2 τ2 → TX N (cP σx c o1 xa 0 0 xl) τ σ2 τ2 → σ2.1 22 c = o1 → σ2.1 23 c = xa → σ2.1 26 c = xl → τ2.1 20 m = o2 → τ2.1 21 m = ya → τ2.1 23 m = yl → ∃ kk, insK σ2 τ2 f c m (0 :: S) l 50 [(f, c + 1, m + 1, S', l, 50)] kk) →
      ∃ σ' τ', lj_R lc_P 107 [.ref 6, .int x.1, .int A] σx = some (.inl none, σ') ∧ lj_R lm_P 28 [.ref 0, .int (if x.1 = 6 then 13 else 9 + x.2.1), .int (if x.1 = 6 then Int32.ofNat o else Int32.ofNat x.2.2.2.1), .int 0, .int (if x.1 = 6 then x.2.2.2.2 else 0)] τ = some (.inl (some (.int (Int32.ofNat m))), τ') ∧ PS b n T Q X F N FO Z PL cl ml p v (c + 1) (m + 1) wh W σ' τ' ∧ GR N N F F p p c (c + 1) m (m + 1) σ τ σ' τ' ∧
        ∀ σ2 τ2, LT N c (c + 1) m (m + 1) σ' τ' σ2 τ2 → seg σ2 τ2 (f, c, m, 0 :: S, l, 50) (fun y => y = (f, c + 1, m + 1, S', l, 50)) := fun o1 xa xl o2 ya yl e1 e2 e3 e4 e5 => by
    have Y1 := Y0.1.C (by omega) hT5 o1 xa 0 0 xl
    have Y2 := Y1.1.M (by omega) o2 ya 0 yl
    refine ⟨_, mP τ m o2 ya 0 yl, e1, by rw [e2, e3, e4, m_emit p41 (by omega)], Y2.1, Y0.2.tr (Y1.2.tr Y2.2), fun σ2 τ2 L => ?_⟩
    have k2 := L.gM (by omega)
    have L1 := Y2.2.bk L
    have k1 := L1.gC (by omega)
    have L0 := Y0.2.bk (Y1.2.bk L1)
    obtain ⟨kk, e⟩ := e5 σ2 τ2 L0.1 L1.1 k1.1 k1.2.1 k1.2.2.2.2 k2.1 k2.2.1 k2.2.2.2
    exact seg_in [(f, c + 1, m + 1, S', l, 50)] ⟨kk, e⟩ (fun y hy => by rw [List.mem_singleton.1 hy]; exact seg_ex rfl) hOK
  rcases hV with ⟨h1, h2, h3, h4⟩ | ⟨h1, h2, h3, h4⟩ | ⟨h1, h2, h3, h4, h5⟩ | ⟨h1, h2⟩
  · have n6 : ¬ (x.1 = 6) := by rw [h1]; decide
    refine one 9 (Int32.ofNat x.2.2.1) 0 9 (Int32.ofNat x.2.2.1) 0 ?_ (by rw [if_neg n6, h2]; rfl) (by rw [if_neg n6, h4]) (by rw [if_neg n6]) (fun σ2 τ2 _ _ a1 a2 a3 a4 a5 a6 => ⟨8, x.2.2.1, S, h3, rfl, a1, a2, a4, a5, by rw [hA' n6]⟩)
    rw [h1, rc_107, kc_107_0, if_pos rfl, g16, c_put3 p5 (by omega), bi_ok, kc_107_112]
  · have n6 : ¬ (x.1 = 6) := by rw [h1]; decide
    refine one 10 (Int32.ofNat x.2.2.1) 0 10 (Int32.ofNat x.2.2.1) 0 ?_ (by rw [if_neg n6, h2]; rfl) (by rw [if_neg n6, h4]) (by rw [if_neg n6]) (fun σ2 τ2 tx _ a1 a2 a3 a4 a5 a6 => ⟨10, x.2.2.1, S, ?_, rfl, a1, a2, a4, a5, by rw [hA' n6]⟩)
    · rw [h1, rc_107, kc_107_0, if_neg (by decide), if_pos rfl, g16, c_put3 p5 (by omega), bi_ok, kc_107_112]
    · have mono := (tx.2.2.2.2.2.2.1 f hf8).2.2.2.2
      omega
  · have n6 : ¬ (x.1 = 6) := by rw [h1]; decide
    refine one 11 (Int32.ofNat x.2.2.1) x.2.2.2.2 11 (Int32.ofNat x.2.2.2.1) 0 ?_ (by rw [if_neg n6, h2]; rfl) (by rw [if_neg n6]) (by rw [if_neg n6]) (fun σ2 τ2 tx _ a1 a2 a3 a4 a5 a6 => ⟨11, S, rfl, a1, a4, ⟨x.2.2.1, x.2.2.2.1, h4, h5, a2, a5, h3.up tx.1⟩, by rw [hA' n6]⟩)
    rw [h1, rc_107, kc_107_0, if_neg (by decide), if_neg (by decide), if_pos rfl, g16, g17, c_put3 p5 (by omega), bi_ok, kc_107_112]
  · obtain ⟨A1, A2, A3, A4, A5, A6⟩ := hA h1
    refine one 13 (Int32.ofNat r1.length) x.2.2.2.2 13 (Int32.ofNat o) x.2.2.2.2 ?_ (by rw [if_pos h1]) (by rw [if_pos h1]) (by rw [if_pos h1]) (fun σ2 τ2 tx tx1 a1 a2 a3 a4 a5 a6 => ⟨13, r1, r2, s, by rw [A3], A5, A6, a1, a2, a4, by rw [← A2]; exact a5, by show σ2.1 26 c = τ2.1 23 m; rw [a3, a6], ?_, by rw [A4]⟩)
    · rw [h1, rc_107, kc_107_0, if_neg (by decide), if_neg (by decide), if_neg (by decide), g17, A1, c_put3 p5 (by omega), bi_ok, kc_107_112]
    · obtain ⟨zz, R, eN, ez, el⟩ := hN
      obtain ⟨fl, FO', eF, ef⟩ := hFO.1
      have hS4 := Y0.1.1.2.2.2.2.2
      rw [← ez, ← el]
      rw [eN, eF] at hS4
      exact scl_mk hS4.2 hS4.1 (cP_lf σx c 13 (Int32.ofNat r1.length) 0 0 x.2.2.2.2) (by unfold lv; rw [(cP_get _ _ _ _ _ _ _).2.2.2.2.2, lz_lit (by omega)]) tx1 (by omega) ef
/-- the stack while values are stored: those that are left, dead pairs, pairs that are needed -/
def plS (d r : List qT) (s : List Nat) : List Nat := List.replicate r.length 0 ++ (List.replicate (2 * itN d) 6 ++ (List.replicate (2 * itN r) 0 ++ 2 :: s))
/-- all of them, the last one first -/
theorem pl_all {b : Nat → Int32} {n T : Nat} {Q : tkQ} {X : List Int32 → Prop} (hT5 : T ≤ 520) {FO : List fT} {Z : List zT} {PL ps : List qT} {cl ml F : Nat} {N : List lT} {p v wh : Nat} {W : List wT} {f : Nat} {s l : List Nat} {ha ho : Nat} (hN : hdN N f l) (hFO : hdF ha ho FO s) (hsB : sB s) (hs3 : va s ≤ 120) (hps : ps.length ≤ 20) (hPL : PL.length ≤ 380) (y1 y3 y4 y5 z2 z3 : Int32) :
    ∀ (r d : List qT) (c m : Nat) (σ τ : lj_S) (z4 : Int32), d ++ r = ps → PS b n T Q X F N FO Z (ps ++ PL) cl ml p v c m wh W σ τ → (∀ x ∈ ps, plV f l x σ τ) → c + r.length ≤ 25 * p + 100 → m + r.length ≤ 25 * p + 100 →
    ∃ σ' τ' z4', lj_D lc_P lc_M110 294 [.ref 6, .int y1, .int (Int32.ofNat PL.length), .int y3, .int y4, .int y5, .int (Int32.ofNat (itN ps)), .int (Int32.ofNat (itN d)), .int (Int32.ofNat r.length - 1)] [] σ = lj_D lc_P lc_M110 294 [.ref 6, .int y1, .int (Int32.ofNat PL.length), .int y3, .int y4, .int y5, .int (Int32.ofNat (itN ps)), .int (Int32.ofNat (itN ps)), .int (Int32.ofNat 0 - 1)] [] σ' ∧
      lj_D lm_P lm_M88 80 [.ref 0, .int (Int32.ofNat PL.length), .int z2, .int z3, .int z4, .int (Int32.ofNat (2 * itN r)), .int (Int32.ofNat (r.length + PL.length) - 1)] [] τ = lj_D lm_P lm_M88 80 [.ref 0, .int (Int32.ofNat PL.length), .int z2, .int z3, .int z4', .int (Int32.ofNat 0), .int (Int32.ofNat PL.length - 1)] [] τ' ∧
      PS b n T Q X F N FO Z (ps ++ PL) cl ml p v (c + r.length) (m + r.length) wh W σ' τ' ∧ GR N N F F p p c (c + r.length) m (m + r.length) σ τ σ' τ' ∧ ∀ σ2 τ2, LT N c (c + r.length) m (m + r.length) σ' τ' σ2 τ2 → seg σ2 τ2 (f, c, m, plS d r s, l, 50) (fun y => y = (f, c + r.length, m + r.length, plS ps [] s, l, 50)) := by
  intro r
  induction r with
  | nil =>
    intro d c m σ τ z4 hd h hV hc hm
    have hd' : d = ps := by rw [← hd, List.append_nil]
    subst hd'
    refine ⟨σ, τ, z4, rfl, ?_, h, GR_rf _ _ _ _ _ _ _, fun σ2 τ2 _ => ?_⟩
    · show lj_D lm_P lm_M88 80 [.ref 0, .int (Int32.ofNat PL.length), .int z2, .int z3, .int z4, .int (Int32.ofNat 0), .int (Int32.ofNat (0 + PL.length) - 1)] [] τ = _
      rw [Nat.zero_add]
    · exact seg_ex rfl
  | cons x r ih =>
    intro d c m σ τ z4 hd h hV hc hm
    simp only [List.length_cons] at hc hm
    have hxm : x ∈ ps := by rw [← hd]; simp
    have hVx := hV x hxm
    have hsrt := hVx.srt
    have hl : ps.length = d.length + (r.length + 1) := by rw [← hd]; simp
    have hit : itN ps = itN d + ((if x.1 = 6 then 1 else 0) + itN r) := by rw [← hd, itN_app]; rfl
    have hid := itN_le d
    have hir := itN_le r
    have hA := h.2.2.2.1.2.2.2.2.2.2.2.2.2.1
    rw [← hd, List.append_assoc, List.cons_append] at hA
    have hg := plA_get d hA
    have hi : PL.length + r.length = (r ++ PL).length := by rw [List.length_append]; omega
    have hi' : r.length + PL.length = (r ++ PL).length := by rw [List.length_append]
    have qS : x.1 = 6 → List.replicate r.length 0 ++ (List.replicate (2 * itN d) 6 ++ (List.replicate (2 * itN (x :: r)) 0 ++ 2 :: s)) = (List.replicate r.length 0 ++ List.replicate (2 * itN d) 6) ++ 0 :: 0 :: (List.replicate (2 * itN r) 0 ++ 2 :: s) := fun q => by
      rw [show 2 * itN (x :: r) = (2 * itN r + 1) + 1 by simp only [itN, if_pos q]; omega, List.append_assoc]
      rfl
    have qS' : x.1 = 6 → plS (d ++ [x]) r s = (List.replicate r.length 0 ++ List.replicate (2 * itN d) 6) ++ 6 :: 6 :: (List.replicate (2 * itN r) 0 ++ 2 :: s) := fun q => by
      have q3 : itN (d ++ [x]) = itN d + 1 := by rw [itN_app]; simp only [itN, if_pos q]
      unfold plS
      rw [q3, show 2 * (itN d + 1) = 2 * itN d + 2 by omega, ← List.replicate_append_replicate, List.append_assoc, List.append_assoc]
      rfl
    have qm : ∀ y ∈ List.replicate r.length 0 ++ List.replicate (2 * itN d) 6, y = 0 ∨ y = 6 := fun y hy => by
      rcases List.mem_append.1 hy with w | w
      · exact Or.inl (List.eq_of_mem_replicate w)
      · exact Or.inr (List.eq_of_mem_replicate w)
    have qN : x.1 ≠ 6 → plS (d ++ [x]) r s = List.replicate r.length 0 ++ (List.replicate (2 * itN d) 6 ++ (List.replicate (2 * itN (x :: r)) 0 ++ 2 :: s)) := fun q => by
      have q3 : itN (d ++ [x]) = itN d := by rw [itN_app]; simp only [itN, if_neg q]; rfl
      have q4 : itN (x :: r) = itN r := by simp only [itN, if_neg q]; omega
      unfold plS
      rw [q3, q4]
    have qO : sOK (0 :: (List.replicate r.length 0 ++ (List.replicate (2 * itN d) 6 ++ (List.replicate (2 * itN (x :: r)) 0 ++ 2 :: s)))) := by
      have hix := itN_le (x :: r)
      rw [List.length_cons] at hix
      have := skq (0 :: (List.replicate r.length 0 ++ (List.replicate (2 * itN d) 6 ++ List.replicate (2 * itN (x :: r)) 0))) (s := s) (fun y hy => by
        rcases List.mem_cons.1 hy with w | w
        · exact Or.inl w
        rcases List.mem_append.1 w with w | w
        · exact Or.inl (List.eq_of_mem_replicate w)
        rcases List.mem_append.1 w with w | w
        · exact Or.inr (List.eq_of_mem_replicate w)
        · exact Or.inl (List.eq_of_mem_replicate w)) (by
        rw [List.length_cons, List.length_append, List.length_append, List.length_replicate, List.length_replicate, List.length_replicate]
        have h2 : itN (x :: r) = (if x.1 = 6 then 1 else 0) + itN r := rfl
        omega) hsB
      rw [List.cons_append, List.append_assoc, List.append_assoc] at this
      exact this
    obtain ⟨σ', τ', e1, e2, e3, e4, e5⟩ := pl_one hT5 h hN hFO hVx (by omega) (by omega) (if x.1 = 6 then Int32.ofNat (2 * itN d + r.length) else 2 * ((Int32.ofNat (itN d) + 0) - 1) + Int32.ofNat r.length) (2 * itN r) (List.replicate r.length 0 ++ List.replicate (2 * itN d) 6) (List.replicate (2 * itN r) 0) (List.replicate r.length 0 ++ (List.replicate (2 * itN d) 6 ++ (List.replicate (2 * itN (x :: r)) 0 ++ 2 :: s))) (plS (d ++ [x]) r s) (fun q => ⟨by rw [if_pos q, List.length_append, List.length_replicate, List.length_replicate]; congr 1; omega, by rw [List.length_replicate], qS q, qS' q, qm, fun y hy => Or.inl (List.eq_of_mem_replicate hy)⟩) qN qO
    have hd' : (d ++ [x]) ++ r = ps := by rw [← hd]; simp
    have hf8 := hdN_8 h hN
    obtain ⟨σ3, τ3, z5, r1, r2, r3, r4, r5⟩ := ih (d ++ [x]) (c + 1) (m + 1) σ' τ' (Int32.ofNat m) hd' e3 (fun y hy => (hV y hy).up e4.1 hf8) (by omega) (by omega)
    have ec : c + 1 + r.length = c + (x :: r).length := by rw [List.length_cons]; omega
    have em : m + 1 + r.length = m + (x :: r).length := by rw [List.length_cons]; omega
    rw [ec, em] at r3 r4 r5
    refine ⟨σ3, τ3, z5, ?_, ?_, r3, e4.tr r4, fun σ2 τ2 L => ?_⟩
    · rw [← r1, List.length_cons, lz_pred', kc_110_294, if_neg (ofN_nneg (by omega)), ofN_add', if_pos (ofN_in (by omega) (by omega)), lz_onat (show PL.length + r.length < 2147483648 by omega), hi, hg.1]
      by_cases h6 : x.1 = 6
      · rw [if_pos h6, kc_110_320, ofN_add', if_pos (ofN_in (by omega) (by omega)), if_pos (ofN_in (by omega) (by omega)), if_pos (ofN_in (by omega) (by omega)), lz_onat (show PL.length + r.length < 2147483648 by omega), hi, hg.1, hg.2.2.1, hg.2.2.2.2.1]
        have q1 : Int32.ofNat (itN d) + 1 = Int32.ofNat (itN d + 1) := lz_osucc _
        have q2 : 2 * (Int32.ofNat (itN d + 1) - 1) + Int32.ofNat r.length = Int32.ofNat (2 * itN d + r.length) := by
          rw [lz_pred', show (2 : Int32) = Int32.ofNat 2 from rfl, ← Int32.ofNat_mul, ofN_add']
        have q3 : itN (d ++ [x]) = itN d + 1 := by rw [itN_app]; simp only [itN, if_pos h6]
        rw [if_pos h6] at e1
        rw [q1, q2, e1, bv_ok, ofN_m1, q3]
      · rw [if_neg h6, kc_110_320, ofN_add', if_pos (ofN_in (by omega) (by omega)), if_pos (ofN_in (by omega) (by omega)), if_pos (ofN_in (by omega) (by omega)), lz_onat (show PL.length + r.length < 2147483648 by omega), hi, hg.1, hg.2.2.1, hg.2.2.2.2.1]
        have q3 : itN (d ++ [x]) = itN d := by rw [itN_app]; simp only [itN, if_neg h6]; rfl
        rw [if_neg h6] at e1
        rw [e1, bv_ok, ofN_m1, q3, Int32.add_zero]
    · have eq : (x :: r).length + PL.length = (r.length + PL.length) + 1 := by rw [List.length_cons]; omega
      have i6 : lj_in (Int32.ofNat (r.length + PL.length)) 600 := ofN_in (by omega) (by omega)
      have h35 : τ.1 35 (r.length + PL.length) = x.2.1 := by rw [hi']; exact hg.2.1
      have h36 : τ.1 36 (r.length + PL.length) = Int32.ofNat x.2.2.2.1 := by rw [hi']; exact hg.2.2.2.1
      have h37 : τ.1 37 (r.length + PL.length) = x.2.2.2.2 := by rw [hi']; exact hg.2.2.2.2.2
      rw [← r2, eq, lz_pred', km_88_80, if_neg (by rw [lz_lt, lz_lit (by omega), lz_lit (by omega)]; omega)]
      simp only [if_pos i6, lz_onat (show r.length + PL.length < 2147483648 by omega), h35, h36, h37]
      by_cases h6 : x.1 = 6
      · have q1 : Int32.ofNat (2 * itN (x :: r)) - 2 = Int32.ofNat (2 * itN r) := by
          rw [show 2 * itN (x :: r) = 2 * itN r + 2 by simp only [itN, if_pos h6]; omega]
          exact ofN_sub' _ 2
        rw [if_pos h6, if_pos h6, if_pos h6] at e2
        rw [if_pos (hsrt.2 h6), q1, e2, bi_ok, km_88_149, ofN_m1]
      · have q1 : Int32.ofNat (2 * itN (x :: r)) = Int32.ofNat (2 * itN r) := by
          rw [show 2 * itN (x :: r) = 2 * itN r by simp only [itN, if_neg h6]; omega]
        rw [if_neg h6, if_neg h6, if_neg h6] at e2
        rw [if_neg (fun q => h6 (hsrt.1 q)), q1, e2, bi_ok, km_88_149, ofN_m1]
    · have La := r4.bk L
      refine (e5 σ2 τ2 ⟨La.1, La.2.mo (Nat.le_refl _) (Nat.le_refl _) (Nat.le_refl _) (Nat.le_refl _)⟩).tr (fun y hy => ?_)
      rw [hy]
      exact r5 σ2 τ2 ⟨L.1, L.2.mo (by omega) (by omega) (by omega) (by omega)⟩
