/-! laying acts, in both -/
/-- acts that were laid stay -/
def fz (c0 c1 m0 m1 : Nat) (σ τ σ' τ' : lj_S) : Prop := (∀ k j, 22 ≤ k → k ≤ 26 → c0 ≤ j → j < c1 → σ'.1 k j = σ.1 k j) ∧ ∀ k j, 20 ≤ k → k ≤ 23 → m0 ≤ j → j < m1 → τ'.1 k j = τ.1 k j
theorem fz_rf (c0 c1 m0 m1 : Nat) (σ τ : lj_S) : fz c0 c1 m0 m1 σ τ σ τ := ⟨fun _ _ _ _ _ _ => rfl, fun _ _ _ _ _ _ => rfl⟩
theorem fz.tr {c0 c1 m0 m1 : Nat} {σ τ σ1 τ1 σ2 τ2 : lj_S} (h : fz c0 c1 m0 m1 σ τ σ1 τ1) (g : fz c0 c1 m0 m1 σ1 τ1 σ2 τ2) : fz c0 c1 m0 m1 σ τ σ2 τ2 :=
  ⟨fun k j a b c d => (g.1 k j a b c d).trans (h.1 k j a b c d), fun k j a b c d => (g.2 k j a b c d).trans (h.2 k j a b c d)⟩
theorem fz.mo {c0 c1 m0 m1 c0' c1' m0' m1' : Nat} {σ τ σ' τ' : lj_S} (h : fz c0 c1 m0 m1 σ τ σ' τ') (h1 : c0 ≤ c0') (h2 : c1' ≤ c1) (h3 : m0 ≤ m0') (h4 : m1' ≤ m1) : fz c0' c1' m0' m1' σ τ σ' τ' :=
  ⟨fun k j a b c d => h.1 k j a b (by omega) (by omega), fun k j a b c d => h.2 k j a b (by omega) (by omega)⟩
theorem cP_lf (σ : lj_S) (c : Nat) (o a b d l : Int32) : lf aC σ (cP σ c o a b d l) := lf_put (lf_put (lf_put (lf_put (lf_put (lf_put (lf_rf _ _) _ _ _ rfl) _ _ _ rfl) _ _ _ rfl) _ _ _ rfl) _ _ _ rfl) _ _ _ rfl
theorem mP_lf (τ : lj_S) (m : Nat) (o a b l : Int32) : lf aM τ (mP τ m o a b l) := lf_put (lf_put (lf_put (lf_put (lf_put (lf_rf _ _) _ _ _ rfl) _ _ _ rfl) _ _ _ rfl) _ _ _ rfl) _ _ _ rfl
theorem cP_get (σ : lj_S) (c : Nat) (o a b d l : Int32) : (cP σ c o a b d l).1 22 c = o ∧ (cP σ c o a b d l).1 23 c = a ∧ (cP σ c o a b d l).1 24 c = b ∧ (cP σ c o a b d l).1 25 c = d ∧ (cP σ c o a b d l).1 26 c = l ∧ (cP σ c o a b d l).1 5 0 = Int32.ofNat (c + 1) := by
  unfold cP; simp [lj_put_1]
theorem mP_get (τ : lj_S) (m : Nat) (o a b l : Int32) : (mP τ m o a b l).1 20 m = o ∧ (mP τ m o a b l).1 21 m = a ∧ (mP τ m o a b l).1 22 m = b ∧ (mP τ m o a b l).1 23 m = l ∧ (mP τ m o a b l).1 0 41 = Int32.ofNat (m + 1) := by
  unfold mP; simp [lj_put_1]
theorem cP_o (σ : lj_S) (c : Nat) (o a b d l : Int32) (k j : Nat) (h : ¬ (22 ≤ k ∧ k ≤ 26 ∧ j = c)) (h5 : ¬ (k = 5 ∧ j = 0)) : (cP σ c o a b d l).1 k j = σ.1 k j := by
  unfold cP
  rw [lj_put_1, if_neg (by omega), lj_put_1, if_neg (by omega), lj_put_1, if_neg (by omega), lj_put_1, if_neg (by omega), lj_put_1, if_neg (by omega), lj_put_1, if_neg (by omega)]
theorem mP_o (τ : lj_S) (m : Nat) (o a b l : Int32) (k j : Nat) (h : ¬ (20 ≤ k ∧ k ≤ 23 ∧ j = m)) (h5 : ¬ (k = 0 ∧ j = 41)) : (mP τ m o a b l).1 k j = τ.1 k j := by
  unfold mP
  rw [lj_put_1, if_neg (by omega), lj_put_1, if_neg (by omega), lj_put_1, if_neg (by omega), lj_put_1, if_neg (by omega), lj_put_1, if_neg (by omega)]
theorem cP_fz (σ τ : lj_S) (c m : Nat) (o a b d l : Int32) : fz 0 c 0 m σ τ (cP σ c o a b d l) τ := ⟨fun k j h1 h2 _ h4 => cP_o _ _ _ _ _ _ _ _ _ (by omega) (by omega), fun _ _ _ _ _ _ => rfl⟩
theorem mP_fz (σ τ : lj_S) (c m : Nat) (o a b l : Int32) : fz 0 c 0 m σ τ σ (mP τ m o a b l) := ⟨fun _ _ _ _ _ _ => rfl, fun k j h1 h2 _ h4 => mP_o _ _ _ _ _ _ _ _ (by omega) (by omega)⟩
theorem mWt_cg {τ τ' : lj_S} {W : List wT} (h : mWt τ W) (h46 : τ'.1 0 46 = τ.1 0 46) (hk : ∀ k j, (k = 25 ∨ k = 26 ∨ k = 27 ∨ k = 28) → τ'.1 k j = τ.1 k j) : mWt τ' W := ⟨by rw [h46]; exact h.1, wA_cg W (fun k j a _ => hk k j a) h.2⟩
theorem hnd_C {p v c m wh : Nat} {W : List wT} {σ τ : lj_S} (h : hnd p v c m wh W σ τ) (o a b d l : Int32) : hnd p v (c + 1) m wh W (cP σ c o a b d l) τ := by
  obtain ⟨h1, h2, h3, h4, h5, h6, h7, h8, h9, h10⟩ := h
  exact ⟨by rw [cP_o _ _ _ _ _ _ _ _ _ (by omega) (by omega)]; exact h1, h2, by rw [cP_o _ _ _ _ _ _ _ _ _ (by omega) (by omega)]; exact h3, h4, (cP_get _ _ _ _ _ _ _).2.2.2.2.2, h6, by rw [cP_o _ _ _ _ _ _ _ _ _ (by omega) (by omega)]; exact h7, h8, h9, h10⟩
theorem hnd_M {p v c m wh : Nat} {W : List wT} {σ τ : lj_S} (h : hnd p v c m wh W σ τ) (o a b l : Int32) : hnd p v c (m + 1) wh W σ (mP τ m o a b l) := by
  obtain ⟨h1, h2, h3, h4, h5, h6, h7, h8, h9, h10⟩ := h
  exact ⟨h1, by rw [mP_o _ _ _ _ _ _ _ _ (by omega) (by omega)]; exact h2, h3, by rw [mP_o _ _ _ _ _ _ _ _ (by omega) (by omega)]; exact h4, h5, (mP_get _ _ _ _ _ _).2.2.2.2, h7, by rw [mP_o _ _ _ _ _ _ _ _ (by omega) (by omega)]; exact h8, mWt_cg h9 (mP_o _ _ _ _ _ _ _ _ (by omega) (by omega)) (fun k j _ => mP_o _ _ _ _ _ _ _ _ (by omega) (by omega)), by rw [mP_o _ _ _ _ _ _ _ _ (by omega) (by omega)]; exact h10⟩
theorem hnd_p {p v c m wh : Nat} {W : List wT} {σ τ : lj_S} (h : hnd p v c m wh W σ τ) (p' : Nat) : hnd p' v c m wh W (lj_put σ 6 0 (Int32.ofNat p')) (lj_put τ 0 25 (Int32.ofNat p')) := by
  obtain ⟨h1, h2, h3, h4, h5, h6, h7, h8, h9, h10⟩ := h
  refine ⟨by rw [lj_put_1, if_pos ⟨rfl, rfl⟩], by rw [lj_put_1, if_pos ⟨rfl, rfl⟩], ?_, ?_, ?_, ?_, ?_, ?_, mWt_cg h9 ?_ (fun k j _ => ?_), ?_⟩
  all_goals rw [lj_put_1, if_neg (by omega)]
  all_goals assumption
theorem hnd_v {p v c m wh : Nat} {W : List wT} {σ τ : lj_S} (h : hnd p v c m wh W σ τ) (v' : Nat) : hnd p v' c m wh W (lj_put σ 6 1 (Int32.ofNat v')) (lj_put τ 0 47 (Int32.ofNat v')) := by
  obtain ⟨h1, h2, h3, h4, h5, h6, h7, h8, h9, h10⟩ := h
  refine ⟨?_, ?_, by rw [lj_put_1, if_pos ⟨rfl, rfl⟩], by rw [lj_put_1, if_pos ⟨rfl, rfl⟩], ?_, ?_, ?_, ?_, mWt_cg h9 ?_ (fun k j _ => ?_), ?_⟩
  all_goals rw [lj_put_1, if_neg (by omega)]
  all_goals assumption
/-- fields of a chain -/
theorem hnd_ch {p v c m wh : Nat} {W : List wT} {σ τ : lj_S} (h : hnd p v c m wh W σ τ) (k j : Nat) (x : Int32) (hk : k = 0 ∧ (j = 61 ∨ j = 62 ∨ j = 63 ∨ j = 64)) : hnd p v c m wh W σ (lj_put τ k j x) := by
  obtain ⟨h1, h2, h3, h4, h5, h6, h7, h8, h9, h10⟩ := h
  refine ⟨h1, ?_, h3, ?_, h5, ?_, h7, ?_, mWt_cg h9 ?_ (fun k j _ => ?_), ?_⟩
  all_goals rw [lj_put_1, if_neg (by omega)]
  all_goals assumption
theorem hnd_cc {p v c m wh : Nat} {W : List wT} {σ τ : lj_S} (h : hnd p v c m wh W σ τ) (j : Nat) (x : Int32) (hk : j = 16 ∨ j = 17) : hnd p v c m wh W (lj_put σ 6 j x) τ := by
  obtain ⟨h1, h2, h3, h4, h5, h6, h7, h8, h9, h10⟩ := h
  refine ⟨?_, h2, ?_, h4, ?_, h6, ?_, h8, h9, h10⟩
  all_goals rw [lj_put_1, if_neg (by omega)]
  all_goals assumption
theorem hnd_W {p v c m wh : Nat} {W : List wT} {σ τ : lj_S} (h : hnd p v c m wh W σ τ) (x : wT) : hnd p v c m wh (x :: W) σ (mW τ W.length x) := by
  obtain ⟨h1, h2, h3, h4, h5, h6, h7, h8, h9, h10⟩ := h
  have o : ∀ k j, ¬ (25 ≤ k ∧ k ≤ 28) → ¬ (k = 0 ∧ j = 46) → (mW τ W.length x).1 k j = τ.1 k j := fun k j a b => by
    unfold mW
    rw [lj_put_1, if_neg (by omega), lj_put_1, if_neg (by omega), lj_put_1, if_neg (by omega), lj_put_1, if_neg (by omega), lj_put_1, if_neg (by omega)]
  refine ⟨h1, by rw [o _ _ (by omega) (by omega)]; exact h2, h3, by rw [o _ _ (by omega) (by omega)]; exact h4, h5, by rw [o _ _ (by omega) (by omega)]; exact h6, h7, by rw [o _ _ (by omega) (by omega)]; exact h8, ?_, by rw [o _ _ (by omega) (by omega)]; exact h10⟩
  refine ⟨by unfold mW; rw [lj_put_1, if_pos ⟨rfl, rfl⟩]; rfl, ?_, ?_, ?_, ?_, wA_cg W (fun k j a b => ?_) h9.2⟩
  · unfold mW; simp [lj_put_1]
  · unfold mW; simp [lj_put_1]
  · unfold mW; simp [lj_put_1]
  · unfold mW; simp [lj_put_1]
  · unfold mW
    rw [lj_put_1, if_neg (by omega), lj_put_1, if_neg (by omega), lj_put_1, if_neg (by omega), lj_put_1, if_neg (by omega), lj_put_1, if_neg (by omega)]
theorem hnd_pop {p v c m wh : Nat} {x : wT} {W : List wT} {σ τ : lj_S} (h : hnd p v c m wh (x :: W) σ τ) : hnd p v c m wh W σ (lj_put τ 0 46 (Int32.ofNat W.length)) := by
  obtain ⟨h1, h2, h3, h4, h5, h6, h7, h8, h9, h10⟩ := h
  refine ⟨h1, ?_, h3, ?_, h5, ?_, h7, ?_, ⟨by rw [lj_put_1, if_pos ⟨rfl, rfl⟩], wA_cg W (fun k j a _ => ?_) h9.2.2.2.2.2⟩, ?_⟩
  all_goals rw [lj_put_1, if_neg (by omega)]
  all_goals assumption
theorem mW_lf (τ : lj_S) (w : Nat) (x : wT) : lf aM τ (mW τ w x) := lf_put (lf_put (lf_put (lf_put (lf_put (lf_rf _ _) _ _ _ rfl) _ _ _ rfl) _ _ _ rfl) _ _ _ rfl) _ _ _ rfl
/-- a goOn of the model that goes well -/
theorem m_go {τ τ' : lj_S} {x : wT} {W : List wT} (h : mWt τ (x :: W)) (hw : W.length < 4000) {y : Int32} (hg : lj_R lm_P 30 [.ref 0, .int x.1, .int x.2.1, .int x.2.2.1, .int x.2.2.2] (lj_put τ 0 46 (Int32.ofNat W.length)) = some (.inl (some (.int y)), τ')) (hy : y ≠ 0) (h4 : τ'.1 0 4 = 0) : mLoop τ = mLoop τ' := by
  rw [(m_iter h hw).1, hg]
  unfold lj_bi
  simp only []
  rw [if_neg hy, if_pos h4]
/-- one that does not -/
theorem m_no {τ τ' : lj_S} {x : wT} {W : List wT} (h : mWt τ (x :: W)) (hw : W.length < 4000) {y : Int32} (hg : lj_R lm_P 30 [.ref 0, .int x.1, .int x.2.1, .int x.2.2.1, .int x.2.2.2] (lj_put τ 0 46 (Int32.ofNat W.length)) = some (.inl (some (.int y)), τ')) (hy : y = 0 ∨ τ'.1 0 4 ≠ 0) : mLoop τ = mBad τ' := by
  rw [(m_iter h hw).1, hg]
  unfold lj_bi
  simp only []
  by_cases e : y = 0
  · rw [if_pos e]
  · rw [if_neg e, if_neg (hy.resolve_left e)]
/-- what a chain means comes uppermost: names and items -/
def whS (what srt : Int32) : Prop := (what = 3 ∧ srt = 0) ∨ (what = 4 ∧ srt = 1) ∨ (what = 5 ∧ srt = 2) ∨ (what = 6 ∧ srt = 3)
def actG (what : Int32) : Int32 := if what = 3 then 6 else if what = 4 then 7 else if what = 5 then 8 else 12
theorem c_get {σ : lj_S} {c : Nat} (h : σ.1 5 0 = Int32.ofNat c) (hc : c < 14000) (what srt : Int32) (hw : whS what srt) : lj_R lc_P 78 [.ref 6, .int what] σ = some (.inl none, cP σ c (actG what) (if what = 6 then 0 else σ.1 6 16) 0 0 (if what = 5 ∨ what = 6 then σ.1 6 17 else 0)) := by
  rcases hw with ⟨rfl, _⟩ | ⟨rfl, _⟩ | ⟨rfl, _⟩ | ⟨rfl, _⟩
  · rw [rc_78, kc_78_0, if_neg (by decide), if_neg (by decide), if_pos rfl, c_put3 h hc]
    unfold lj_bi
    simp only []
    rw [kc_78_145]; rfl
  · rw [rc_78, kc_78_0, if_neg (by decide), if_neg (by decide), if_neg (by decide), if_pos rfl, c_put3 h hc]
    unfold lj_bi
    simp only []
    rw [kc_78_145]; rfl
  · rw [rc_78, kc_78_0, if_neg (by decide), if_neg (by decide), if_neg (by decide), if_neg (by decide), if_pos rfl, c_put3 h hc]
    unfold lj_bi
    simp only []
    rw [kc_78_145]; rfl
  · rw [rc_78, kc_78_0, if_neg (by decide), if_neg (by decide), if_neg (by decide), if_neg (by decide), if_neg (by decide), if_pos rfl, c_put3 h hc]
    unfold lj_bi
    simp only []
    rw [kc_78_145]; rfl
theorem c_get0 (σ : lj_S) : lj_R lc_P 78 [.ref 6, .int 0] σ = some (.inl none, σ) := by
  rw [rc_78, kc_78_0, if_neg (by decide), if_neg (by decide), if_neg (by decide), if_neg (by decide), if_neg (by decide), if_neg (by decide), kc_78_145]
theorem c_get1 {σ : lj_S} {c : Nat} (h : σ.1 5 0 = Int32.ofNat c) (hc : c < 14000) (what : Int32) (hw : what = 1 ∨ what = 2) : lj_R lc_P 78 [.ref 6, .int what] σ = some (.inl none, cP σ c 17 0 0 0 0) := by
  have k : lj_D lc_P lc_M78 127 [.ref 6, .int what] [] σ = some (.inl none, cP σ c 17 0 0 0 0) := by
    rw [kc_78_127, c_put3 h hc]
    unfold lj_bi
    simp only []
    rw [kc_78_145]
  rcases hw with rfl | rfl
  · rw [rc_78, kc_78_0, if_pos rfl, k]
  · rw [rc_78, kc_78_0, if_neg (by decide), if_pos rfl, k]
theorem m_discharge {τ : lj_S} {m : Nat} (h : τ.1 0 41 = Int32.ofNat m) (hm : m < 14000) (what : Int32) (hw : whS what (τ.1 0 61)) : lj_R lm_P 53 [.ref 0] τ = some (.inl none, mP τ m (actG what) (if what = 6 then 0 else τ.1 0 62) 0 (τ.1 0 63)) := by
  rcases hw with ⟨rfl, e⟩ | ⟨rfl, e⟩ | ⟨rfl, e⟩ | ⟨rfl, e⟩
  · rw [rm_53, km_53_0, e, if_neg (by decide), m_emit h hm]
    unfold lj_bi
    simp only []
    rw [km_53_55]; rfl
  · rw [rm_53, km_53_0, e, if_neg (by decide), m_emit h hm]
    unfold lj_bi
    simp only []
    rw [km_53_55]; rfl
  · rw [rm_53, km_53_0, e, if_neg (by decide), m_emit h hm]
    unfold lj_bi
    simp only []
    rw [km_53_55]; rfl
  · rw [rm_53, km_53_0, e, if_pos (by decide), if_pos rfl, m_emit h hm]
    unfold lj_bi
    simp only []
    rw [km_53_55]; rfl
