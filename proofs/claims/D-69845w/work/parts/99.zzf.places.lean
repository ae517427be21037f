/-! places before an = -/
theorem ch_seg {f : Nat} {s l : List Nat} {N : List lT} {cs ms c m k : Nat} {what : Int32} {σ τ : lj_S} (hS : chS f (List.replicate (2 * k) 0 ++ 2 :: s) l N cs ms c m what σ τ) (hw : what = 3 ∨ what = 4 ∨ what = 5 ∨ what = 6) (σ2 τ2 : lj_S) (L : LT N cs c ms m σ τ σ2 τ2) : seg σ2 τ2 (f, cs, ms, List.replicate (2 * k) 0 ++ 2 :: s, l, 50) (fun y => y = (f, c, m, List.replicate (2 * ((if what = 6 then 1 else 0) + k)) 0 ++ 2 :: s, l, 50)) := by
  rcases hS with ⟨q, _⟩ | ⟨q, _⟩ | ⟨srt, v1, v1', a, a', q, q1, q2, q3, q4, q5, q6, q7, q8, q9, q10, q11⟩ | ⟨q, q1, q2, q3⟩
  · rw [q] at hw; exact absurd hw (by decide)
  · rw [q] at hw; exact absurd hw (by decide)
  · have n6 : ¬ (what = 6) := by rcases q with q | q | q <;> rw [q] <;> decide
    rw [q10, q11, if_neg n6, Nat.zero_add]
    exact seg_ex rfl
  · refine (q3 σ2 τ2 L.1 L.2).tr (fun y hy => ?_)
    rw [hy, if_pos q, show 2 * (1 + k) = (2 * k + 1) + 1 by omega, List.replicate_succ, List.replicate_succ]
    exact seg_ex rfl
/-- the model: what is no place -/
theorem m_acbad {b : Nat → Int32} {n T : Nat} {Q : tkQ} {X : List Int32 → Prop} {FO : List fT} {Z : List zT} {PL : List qT} {cl ml : Nat} {F : Nat} {N : List lT} {p v c m wh : Nat} {W : List wT} {σ τ : lj_S} {f : Nat} {s l : List Nat} {c0 m0 B : Nat} {what : Int32} (h : PS b n T Q X F N FO Z PL cl ml p v c m wh W σ τ) (hS : chS f s l N c0 m0 c m what σ τ) (hw : what = 0 ∨ what = 1) (hB : B < PL.length ∨ (Q p).1 = 58 ∨ (Q p).1 = 68) : lj_R lm_P 87 [.ref 0, .int (Int32.ofNat B)] τ = some (.inl (some (.int 0)), mFl τ (fq (Q p).1 2) (Q p).2.1) := by
  have hpT := h.2.2.1.1
  have h1 := h.2.1
  have h61 : τ.1 0 61 = 5 ∨ τ.1 0 61 = 4 := by
    rcases hS with ⟨_, q, _⟩ | ⟨_, q, _⟩ | ⟨_, _, _, _, _, q, _⟩ | ⟨q, _⟩
    · exact Or.inl q
    · exact Or.inr q
    · rcases hw with w | w <;> rw [w] at q <;> exact absurd q (by decide)
    · rcases hw with w | w <;> rw [w] at q <;> exact absurd q (by decide)
  have g3 : 3 < τ.1 0 61 := by rcases h61 with e | e <;> rw [e] <;> decide
  have s61 := m_isSign h.1.1 hpT h1.2.1 18 (by omega) 61 rfl
  have s44 := m_isSign h.1.1 hpT h1.2.1 28 (by omega) 44 rfl
  have e60 : τ.1 0 60 = Int32.ofNat PL.length := h.2.2.2.1.2.2.2.2.2.2.1
  have hPL : PL.length ≤ 400 := h.2.2.2.1.2.2.2.2.2.2.2.1
  have w257 : lj_D lm_P lm_M87 257 [.ref 0, .int (Int32.ofNat B), .int 0, .retAddr 0, .retAddr 0] [] τ = some (.inl (some (.int 0)), mFl τ (fq (Q p).1 2) (Q p).2.1) := by
    rw [km_87_257, m_wrong h.1.1 hpT h1.2.1 h1.2.2.2.2.2.2.2.2.2, bi_ok]; rfl
  have w32 : lj_D lm_P lm_M87 32 [.ref 0, .int (Int32.ofNat B), .int 0, .retAddr 0, .retAddr 0] [] τ = some (.inl (some (.int 0)), mFl τ (fq (Q p).1 2) (Q p).2.1) := by
    rw [km_87_32, if_pos rfl, m_wrong h.1.1 hpT h1.2.1 h1.2.2.2.2.2.2.2.2.2, bi_ok]; rfl
  rw [rm_87, km_87_0, if_pos g3, km_87_13, s61, bi_ok]
  by_cases a58 : (Q p).1 = 58
  · rw [if_pos (show (Q p).1 = 40 + 18 by omega), if_neg (by decide), w32]
  · rw [if_neg (show ¬ (Q p).1 = 40 + 18 by omega), if_pos rfl, s44, bi_ok]
    by_cases a68 : (Q p).1 = 68
    · rw [if_pos (show (Q p).1 = 40 + 28 by omega), if_neg (by decide), w32]
    · have hB' : B < PL.length := by
        rcases hB with q | q | q
        · exact q
        · exact absurd q a58
        · exact absurd q a68
      rw [if_neg (show ¬ (Q p).1 = 40 + 28 by omega), if_pos rfl]
      by_cases e4 : τ.1 0 61 = 4
      · rw [if_pos e4, e60, if_neg (by rw [lz_le, lz_lit (by omega), lz_lit (by omega)]; omega), w257]
      · rw [if_neg e4, w257]
/-- the loop of places, behind a chain that is one -/
theorem ac_loop {b : Nat → Int32} {n T : Nat} {Q : tkQ} {X : List Int32 → Prop} (hT5 : T ≤ 520) (k : Nat) (hC : CC b n T Q X k) (hR : CR b n T Q X k) {FO : List fT} {Z : List zT} {PL : List qT} {cl ml v : Nat} {W : List wT} {f : Nat} {s l : List Nat} (hFO : hdF (3 * v) 0 FO s) (hPL : PL.length + 20 ≤ 20 * v) (hW : W.length + 28 ≤ 40 * v + 60) {p0 c0 m0 : Nat} (hc0 : c0 ≤ 25 * p0 + 100) (hm0 : m0 ≤ 25 * p0 + 100) :
    ∀ (dd : Nat) (ps : List qT) (F : Nat) (N : List lT) (p c m wh : Nat) (σ τ : lj_S) (cs ms : Nat) (what : Int32), T - p < dd → dd ≤ k + 1 → ps.length < 20 → PS b n T Q X F N FO Z (ps ++ PL) cl ml p v c m wh W σ τ → hdN N f l → (∀ x ∈ ps, plV f l x σ τ) → (what = 3 ∨ what = 4 ∨ what = 5 ∨ what = 6) → chS f (List.replicate (2 * itN ps) 0 ++ 2 :: s) l N cs ms c m what σ τ → cs ≤ c → ms ≤ m → c + ps.length + 10 + 25 * p0 ≤ c0 + 25 * p → m + ps.length + 10 + 25 * p0 ≤ m0 + 25 * p →
    ∃ y τ', (y = 0 ∨ y = 1) ∧ lj_R lm_P 87 [.ref 0, .int (Int32.ofNat PL.length)] τ = some (.inl (some (.int y)), τ') ∧ asR b n T Q X FO Z PL cl ml v W f (List.replicate (2 * itN ps) 0 ++ 2 :: s) s l cs ms N F p c m σ τ p0 c0 m0 (lj_D lc_P lc_M110 83 [.ref 6, .int what, .int (Int32.ofNat PL.length), .int (Int32.ofNat ps.length), .int 1, .retAddr 0, .retAddr 0, .retAddr 0, .retAddr 0] [] σ) (mNx y τ') := by
  intro dd
  induction dd with
  | zero => intro ps F N p c m wh σ τ cs ms what h0; omega
  | succ dd ih =>
    intro ps F N p c m wh σ τ cs ms what hTp hdd hps h hN hV hw hS hcs hms hc hm
    have hpT := h.2.2.1.1
    have hv20 := h.2.2.1.2.1
    have c14 := h.c14 hT5
    have h1 := h.2.1
    have hf8 := hdN_8 h hN
    have hL : (ps ++ PL).length = ps.length + PL.length := List.length_append
    obtain ⟨srt, _, _, hws, h61, _⟩ := plV_of h hN hS hw
    have n3 : ¬ (3 < τ.1 0 61) := by rw [h61]; rcases hws with ⟨_, e⟩ | ⟨_, e⟩ | ⟨_, e⟩ | ⟨_, e⟩ <;> rw [e] <;> decide
    have n4 : ¬ (τ.1 0 61 = 4) := by rw [h61]; rcases hws with ⟨_, e⟩ | ⟨_, e⟩ | ⟨_, e⟩ | ⟨_, e⟩ <;> rw [e] <;> decide
    have e60 : τ.1 0 60 = Int32.ofNat (ps ++ PL).length := h.2.2.2.1.2.2.2.2.2.2.1
    obtain ⟨x, x1, hVx, R1, RG⟩ := h.rec hN hS hw (by omega)
    have eY : Int32.ofNat PL.length + Int32.ofNat ps.length = Int32.ofNat (ps ++ PL).length := by rw [ofN_add', hL, Nat.add_comm]
    have eX : Int32.ofNat PL.length + (Int32.ofNat ps.length + 1) = Int32.ofNat ((ps ++ PL).length + 1) := by rw [lz_osucc, ofN_add', hL]; congr 1; omega
    have eZ : Int32.ofNat ps.length + 1 = Int32.ofNat (x :: ps).length := by rw [lz_osucc, List.length_cons]
    have s61 := m_isSign h.1.1 hpT h1.2.1 18 (by omega) 61 rfl
    have s44 := m_isSign h.1.1 hpT h1.2.1 28 (by omega) 44 rfl
    -- the model keeps the place
    have eM : ((Q p).1 = 58 ∨ (Q p).1 = 68) → lj_R lm_P 87 [.ref 0, .int (Int32.ofNat PL.length)] τ = lj_D lm_P lm_M87 32 [.ref 0, .int (Int32.ofNat PL.length), .int 1, .retAddr 0, .retAddr 0] [] τ := fun q => by
      rw [rm_87, km_87_0, if_neg n3, km_87_13, s61, bi_ok]
      by_cases a58 : (Q p).1 = 58
      · rw [if_pos (show (Q p).1 = 40 + 18 by omega), if_neg (by decide)]
      · rw [if_neg (show ¬ (Q p).1 = 40 + 18 by omega), if_pos rfl, s44, bi_ok, if_pos (show (Q p).1 = 40 + 28 by omega), if_neg (by decide)]
    rw [km_87_32, if_neg (by decide), e60, if_pos (ofN_in (by omega) (by omega)), if_pos (ofN_in (by omega) (by omega)), if_pos (ofN_in (by omega) (by omega)), lz_onat (by omega), lz_osucc] at eM
    rw [kc_110_83, if_neg (by decide), eX, eY, if_pos (ofN_in (by omega) (by omega)), if_pos (ofN_in (by omega) (by omega)), if_pos (ofN_in (by omega) (by omega)), lz_onat (by omega), eZ]
    generalize hσr : lj_put (lj_put (lj_put (lj_put σ 54 (ps ++ PL).length what) 55 (ps ++ PL).length (σ.1 6 16)) 56 (ps ++ PL).length (σ.1 6 17)) 6 18 (Int32.ofNat ((ps ++ PL).length + 1)) = σr at *
    generalize hτr : lj_put (lj_put (lj_put (lj_put τ 35 (ps ++ PL).length (τ.1 0 61)) 36 (ps ++ PL).length (τ.1 0 62)) 37 (ps ++ PL).length (τ.1 0 63)) 0 60 (Int32.ofNat ((ps ++ PL).length + 1)) = τr at *
    have hVr : ∀ y ∈ x :: ps, plV f l y σr τr := fun y hy => by
      rcases List.mem_cons.1 hy with q | q
      · rw [q]; exact hVx.up RG.1 hf8
      · exact (hV y q).up RG.1 hf8
    have tk := c_take R1.1.1 hpT R1.2.1.1 68 (by omega)
    have r61 := m_isSign R1.1.1 hpT R1.2.1.2.1 18 (by omega) 61 rfl
    have hit : itN (x :: ps) = (if what = 6 then 1 else 0) + itN ps := by rw [← x1]; rfl
    have hseg : ∀ σ2 τ2, LT N cs c ms m σr τr σ2 τ2 → seg σ2 τ2 (f, cs, ms, List.replicate (2 * itN ps) 0 ++ 2 :: s, l, 50) (fun y => y = (f, c, m, List.replicate (2 * itN (x :: ps)) 0 ++ 2 :: s, l, 50)) := fun σ2 τ2 L => by
      rw [hit]
      exact ch_seg hS hw σ2 τ2 (RG.bk L)
    have hpsl : (x :: ps).length = ps.length + 1 := List.length_cons
    by_cases a68 : (Q p).1 = 68
    · have hlt : p < T := h.lt (by omega) (by omega)
      have hp1 : p + 1 ≤ T := hlt
      have S1 := R1.st hlt
      rw [if_pos a68] at tk
      have eM := eM (Or.inr a68)
      rw [r61, bi_ok, if_neg (show ¬ (Q p).1 = 40 + 18 by omega), if_pos rfl, m_take R1.1.1 hpT R1.2.1.2.1 (by omega), bi_ok, if_neg (by decide)] at eM
      rw [show lj_R lc_P 84 [.ref 6, .int 68] σr = _ from tk, bi_ok, if_neg (by decide), c_kind S1.1.1.1 hp1 S1.1.2.1.1, bi_ok]
      have hk := tk_lt S1.1.1.1 hp1
      obtain ⟨b1, b2, b3⟩ := m_kindv S1.1.1.1 hp1 S1.1.2.1.2.1
      rw [if_pos b1, b2] at eM
      have t1 : ∀ k : Fin 70, ((tkk k.val = 1) ↔ k.val = 1) := by decide
      have t1' := t1 ⟨(Q (p + 1)).1, hk⟩
      have r40 := m_isSign S1.1.1.1 hp1 S1.1.2.1.2.1 20 (by omega) 40 rfl
      have ne : ∀ y : Nat, y < 70 → (Q (p + 1)).1 ≠ y → ¬ (Int32.ofNat (Q (p + 1)).1 = Int32.ofNat y) := fun y hy q z => q ((ofN_eq (by omega) (by omega)).1 z)
      generalize hσs : lj_put σr 6 0 (Int32.ofNat (p + 1)) = σs at *
      generalize hτs : lj_put τr 0 25 (Int32.ofNat (p + 1)) = τs at *
      by_cases aB : (Q (p + 1)).1 = 1 ∨ (Q (p + 1)).1 = 60
      · have eC2 : (if Int32.ofNat (Q (p + 1)).1 = 1 then lj_D lc_P lc_M110 167 [.ref 6, .int what, .int (Int32.ofNat PL.length), .int (Int32.ofNat (x :: ps).length), .int 1, .retAddr 0, .retAddr 0, .retAddr 0, .retAddr 0] [] σs else lj_bi (lj_R lc_P 63 [.ref 6] σs) (fun y14 σ13 => (if y14 = 60 then lj_D lc_P lc_M110 167 [.ref 6, .int what, .int (Int32.ofNat PL.length), .int (Int32.ofNat (x :: ps).length), .int 1, .retAddr 0, .retAddr 0, .retAddr 0, .retAddr 0] [] σ13 else lj_br (lj_R lc_P 65 [.ref 6, .int 2] σ13) (fun y16 σ15 => (bif Nat.blt y16 2000 then lj_up y16 σ15 else none)) lj_up)) lj_up) = lj_D lc_P lc_M110 167 [.ref 6, .int what, .int (Int32.ofNat PL.length), .int (Int32.ofNat (x :: ps).length), .int 1, .retAddr 0, .retAddr 0, .retAddr 0, .retAddr 0] [] σs := by
          rcases aB with a1 | a60
          · rw [if_pos (show Int32.ofNat (Q (p + 1)).1 = 1 by rw [a1]; rfl)]
          · rw [if_neg (show ¬ Int32.ofNat (Q (p + 1)).1 = 1 from ne 1 (by omega) (by omega)), c_kind S1.1.1.1 hp1 S1.1.2.1.1, bi_ok, if_pos (show Int32.ofNat (Q (p + 1)).1 = 60 by rw [a60]; rfl)]
        have eM2 : lj_R lm_P 87 [.ref 0, .int (Int32.ofNat PL.length)] τ = lj_D lm_P lm_M87 200 [.ref 0, .int (Int32.ofNat PL.length), .int 1, .retAddr 0, .retAddr 0] [] τs := by
          rw [eM]
          rcases aB with a1 | a60
          · rw [if_pos (t1'.2 a1)]
          · rw [if_neg (fun q => by have w1 : (Q (p + 1)).1 = 1 := t1'.1 q; omega), r40, bi_ok, if_pos (show (Q (p + 1)).1 = 40 + 20 by omega), if_neg (by decide)]
        have e60s : τs.1 0 60 = Int32.ofNat ((ps.length + 1) + PL.length) := by
          have := S1.1.2.2.2.1.2.2.2.2.2.2.1
          rw [List.length_cons, hL] at this
          rw [this]; congr 1; omega
        rw [eC2, kc_110_167, hpsl]
        rw [km_87_200, e60s, ofN_sub'] at eM2
        by_cases a20 : ps.length + 1 = 20
        · have q20 : Int32.ofNat (ps.length + 1) = 20 := by rw [a20]; rfl
          have fq3 : fq (Q (p + 1)).1 3 = 3 := by
            unfold fq
            rw [if_neg (by rcases aB with w | w <;> omega)]
          rw [if_pos q20, m_here S1.1.1.1 hp1 S1.1.2.1.2.1, bi_ok, m_fail τs S1.1.2.1.2.2.2.2.2.2.2.2.2 3 (Q (p + 1)).2.1, bi_ok] at eM2
          refine ⟨0, _, Or.inl rfl, eM2, Or.inl ?_⟩
          have hfl := S1.1.flt hT5 3 (Or.inr (Or.inl rfl)) σs
          rw [if_pos q20, c_throw S1.1.1.1 hp1 S1.1.2.1.1, nx0]
          rw [fq3] at hfl ⊢
          exact hfl
        · have q20 : ¬ (Int32.ofNat (ps.length + 1) = 20) := fun q => a20 ((ofN_eq (c := 20) (by omega) (by omega)).1 q)
          have P7 := S1.1.la (by omega) (21, Int32.ofNat PL.length, 0, 0)
          have P8 := P7.1.la (by simp only [List.length_cons]; omega) (7, 0, 0, 0)
          rw [if_neg q20, (m_later S1.1.2.1.2.2.2.2.2.2.2.2.1 (by omega) 21 (Int32.ofNat PL.length) 0 0).1, bv_ok, (m_later P7.1.2.1.2.2.2.2.2.2.2.2.1 (by simp only [List.length_cons]; omega) 7 0 0 0).1, bv_ok] at eM2
          refine ⟨1, _, Or.inr rfl, eM2, ?_⟩
          rw [nx1 P8.1.2.1, if_neg q20]
          have hFS := fun j => hFO.t.k j
          rcases hC F N FO Z (x :: (ps ++ PL)) cl ml (p + 1) v c m wh ((21, Int32.ofNat PL.length, 0, 0) :: W) _ _ f (List.replicate (2 * itN (x :: ps)) 0 ++ 2 :: s) l (by omega) P8.1 hN ((hFS _).up (by have := itN_le (x :: ps); rw [List.length_cons] at this; omega) (by omega)) (by simp only [List.length_cons]; omega) with hf | ⟨what2, σ5, τ5, p5, c5, m5, wh5, F5, N5, i1, i2, i3, i4, i5, i6, i7, i8⟩
          · exact Or.inl (flt_bi hf _)
          · have Q1 := i3.pop
            have hS5 := chS_pop i8 (Int32.ofNat W.length)
            have hp5 := i3.2.2.1.1
            have G8 := RG.tr (S1.2.tr (P7.2.tr P8.2))
            rw [i1, bi_ok, i2]
            rcases chS_cases i8 with q | q | q
            · have e87 := m_acbad (B := PL.length) Q1.1 hS5 (Or.inl q) (Or.inl (by simp only [List.length_cons]; omega))
              rw [i3.go (Or.inl rfl) (by rw [rm_30, km_30_0, if_neg (by decide), if_neg (by decide), if_neg (by decide), if_neg (by decide), if_neg (by decide), if_neg (by decide), if_neg (by decide), if_neg (by decide), if_neg (by decide), if_neg (by decide), if_neg (by decide), if_neg (by decide), if_neg (by decide), if_neg (by decide), if_neg (by decide), if_neg (by decide), if_neg (by decide), if_neg (by decide), if_neg (by decide), if_neg (by decide), if_neg (by decide), rm_86, km_86_0, if_pos rfl, e87, bi_ok, bi_ok]; rfl), nx0, q, if_neg (by decide), c_throw Q1.1.1.1 hp5 Q1.1.2.1.1]
              exact Or.inl (Q1.1.flt hT5 2 (Or.inl rfl) _)
            · have e87 := m_acbad (B := PL.length) Q1.1 hS5 (Or.inr q) (Or.inl (by simp only [List.length_cons]; omega))
              rw [i3.go (Or.inl rfl) (by rw [rm_30, km_30_0, if_neg (by decide), if_neg (by decide), if_neg (by decide), if_neg (by decide), if_neg (by decide), if_neg (by decide), if_neg (by decide), if_neg (by decide), if_neg (by decide), if_neg (by decide), if_neg (by decide), if_neg (by decide), if_neg (by decide), if_neg (by decide), if_neg (by decide), if_neg (by decide), if_neg (by decide), if_neg (by decide), if_neg (by decide), if_neg (by decide), if_neg (by decide), rm_86, km_86_0, if_pos rfl, e87, bi_ok, bi_ok]; rfl), nx0, q, if_neg (by decide), c_throw Q1.1.1.1 hp5 Q1.1.2.1.1]
              exact Or.inl (Q1.1.flt hT5 2 (Or.inl rfl) _)
            · have q3 : 3 ≤ what2 := by rcases q with q | q | q | q <;> rw [q] <;> decide
              obtain ⟨y, τ', hy, e87, hA⟩ := ih (x :: ps) F5 N5 p5 c5 m5 wh5 σ5 _ c m what2 (by omega) (by omega) (by rw [hpsl]; omega) Q1.1 (hdN_X hN i4.2.1) (fun y hy => (hVr y hy).up ((S1.2.tr (P7.2.tr (P8.2.tr (i4.tr Q1.2)))).1) (by have := RG.1.2.2.2.1; omega)) q hS5 i4.2.2.2.2.1 i4.2.2.2.2.2.1 (by rw [hpsl]; omega) (by rw [hpsl]; omega)
              rw [i3.go hy (by
                rw [rm_30, km_30_0, if_neg (by decide), if_neg (by decide), if_neg (by decide), if_neg (by decide), if_neg (by decide), if_neg (by decide), if_neg (by decide), if_neg (by decide), if_neg (by decide), if_neg (by decide), if_neg (by decide), if_neg (by decide), if_neg (by decide), if_neg (by decide), if_neg (by decide), if_neg (by decide), if_neg (by decide), if_neg (by decide), if_neg (by decide), if_neg (by decide), if_neg (by decide), rm_86, km_86_0, if_pos rfl, e87, bi_ok, bi_ok, vpb y hy, vpb y hy]), if_pos q3]
              rw [hpsl] at hA
              refine asR.pre hA (G8.tr (i4.tr Q1.2)) hcs hms (fun σ2 τ2 L => ?_)
              have L5 := i4.bk (Q1.2.bk L)
              have L8 := S1.2.bk (P7.2.bk (P8.2.bk L5))
              exact hseg σ2 τ2 L8
      · have n1 : (Q (p + 1)).1 ≠ 1 := fun q => aB (Or.inl q)
        have n60 : (Q (p + 1)).1 ≠ 60 := fun q => aB (Or.inr q)
        rw [if_neg (fun q => n1 (t1'.1 q)), r40, bi_ok, if_neg (show ¬ (Q (p + 1)).1 = 40 + 20 by omega), if_pos rfl, m_wrong S1.1.1.1 hp1 S1.1.2.1.2.1 S1.1.2.1.2.2.2.2.2.2.2.2.2, bi_ok] at eM
        refine ⟨0, _, Or.inl rfl, eM, Or.inl ?_⟩
        rw [if_neg (show ¬ Int32.ofNat (Q (p + 1)).1 = 1 from ne 1 (by omega) n1), c_kind S1.1.1.1 hp1 S1.1.2.1.1, bi_ok, if_neg (show ¬ Int32.ofNat (Q (p + 1)).1 = 60 from ne 60 (by omega) n60), c_throw S1.1.1.1 hp1 S1.1.2.1.1, nx0]
        exact S1.1.flt hT5 2 (Or.inl rfl) _
    · rw [if_neg a68] at tk
      rw [show lj_R lc_P 84 [.ref 6, .int 68] σr = _ from tk, bi_ok, if_pos rfl]
      by_cases a58 : (Q p).1 = 58
      · have eM := eM (Or.inl a58)
        rw [r61, bi_ok, if_pos (show (Q p).1 = 40 + 18 by omega), if_neg (by decide)] at eM
        obtain ⟨y, τ', hy, eA, hA⟩ := ac_asg hT5 k hR (ps := x :: ps) (PL := PL) (f := f) (s := s) (l := l) (p0 := p0) (c0 := c0) (m0 := m0) (by omega) R1 hN hFO hVr (by rw [hpsl]; omega) (by omega) (by omega) a58 hc0 hm0 (by rw [hpsl]; omega) (by rw [hpsl]; omega) what
        exact ⟨y, τ', hy, by rw [eM]; exact eA, asR.pre hA RG hcs hms hseg⟩
      · have eB : lj_R lm_P 87 [.ref 0, .int (Int32.ofNat PL.length)] τ = some (.inl (some (.int 0)), mFl τ (fq (Q p).1 2) (Q p).2.1) := by
          rw [rm_87, km_87_0, if_neg n3, km_87_13, s61, bi_ok, if_neg (show ¬ (Q p).1 = 40 + 18 by omega), if_pos rfl, s44, bi_ok, if_neg (show ¬ (Q p).1 = 40 + 28 by omega), if_pos rfl, if_neg n4, km_87_257, m_wrong h.1.1 hpT h1.2.1 h1.2.2.2.2.2.2.2.2.2, bi_ok]
          rfl
        refine ⟨0, _, Or.inl rfl, eB, Or.inl ?_⟩
        have ps1 := c_pass R1.1.1 hpT R1.2.1.1 58 (by omega)
        rw [if_neg a58] at ps1
        rw [nx0, kc_110_83, if_pos rfl, c_line R1.1.1 hpT R1.2.1.1, bi_ok, show lj_R lc_P 71 [.ref 6, .int 58] σr = _ from ps1]
        exact h.flt hT5 2 (Or.inl rfl) _
