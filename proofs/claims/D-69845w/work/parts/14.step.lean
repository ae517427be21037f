
section LJS
variable {p : Program} {l : Launch} {e : Env} {R : Room} {s : State} {m : MethodId} {args : Array Value} {below : List Frame} {meth : Method} {c : Code} {H : Heap} {locs : List Loc} {cells slots : Nat} {Q : State → Prop}
variable {cc : ByteArray} {pc : Nat} {ls : Array Slot} {rest : List Value}
theorem lj_ldcwS (hexec : p.tables.exec = Jvm.exec) (hb : c.code = cc) {own tx : String} {index q : Nat} (hown : s.vm.findClass own = some m.cls) (hZ : vk_R own index tx q s) (hdg : decode cc pc = .ok (.ldc_w index, 3))
    (k : W p l e R s m args below meth c H locs cells slots Q (F0 m (pc + 3) ls (.ref q :: rest))) : W p l e R s m args below meth c H locs cells slots Q (F0 m pc ls rest) := by
  intro T hT X
  obtain ⟨t, a1, b1⟩ := k T hT X
  refine ⟨t, ?_, b1⟩
  obtain ⟨k, cf, i, a', hk, hcf, hcp, -, hr, hev'⟩ := Cond.stringRef_spec hown hZ.1
  cases hZ.2.symm.trans hev'
  obtain ⟨k', hk', he⟩ := X.warmed.alike.2.2 _ _ hk
  have hr' : k'.resolved[index]? = some (some (.string q)) := by
    rcases X.warmed.entry hk hk' index with h | ⟨h, -⟩
    · rw [h]; exact hr
    · rw [hr] at h; cases h
  have hdg' : decode c.code pc = .ok (.ldc_w index, 3) := by rw [hb]; exact hdg
  jvm_step X.here [hexec, hdg', ldc_w.wp_string (e := e) (s := T) (f := F0 m pc ls rest) X.here.top hk' (by rw [he]; exact hcf) hcp hr']
  exact a1
theorem lj_in_vp {i : Int32} {n : Nat} (h : lj_in i n) : vp_in i n := fun q => by
  rcases q with q | q
  · exact h.2 q
  · exact absurd h.1 (by omega)
variable {own : String} {D : va_G} {cl : List vw_C} {cA : Nat → ClassId} {ad : Nat → Nat} {nw : List Cond} {strs : List (String × Nat × String × Nat)} {A : Nat → Prop} {ds : List lj_C} {nL : Nat} {fr : List (Nat × Nat × Nat)} {cr : List (Nat × Value)}
/-- where a method walks -/
def lj_ctx (p : Program) (s : State) (m : MethodId) (args : Array Value) (c : Code) (cc : ByteArray) (own : String) (D : va_G) (cl : List vw_C) (cA : Nat → ClassId) (ad : Nat → Nat) (nw : List Cond) (strs : List (String × Nat × String × Nat)) (A : Nat → Prop) (ds : List lj_C) (fr : List (Nat × Nat × Nat)) (cr : List (Nat × Value)) : Prop :=
  p.tables.exec = Jvm.exec ∧ c.code = cc ∧ s.vm.findClass own = some m.cls ∧ (∀ w ∈ lw_all, w.before args s = true) ∧ lj_env D cl cA ad nw strs s ∧ lj_apart ad A ds ∧ lj_okC cl ds ∧ lj_okF cl nw own fr ∧ lj_okR strs own cr
set_option maxHeartbeats 4000000 in
theorem lj_getf_ok (hc : lj_ctx p s m args c cc own D cl cA ad nw strs A ds fr cr) {ix : Nat} {L st : List Value} {σ : lj_S} {go : lj_K} {o : lj_O} (h : lj_getf ds fr ix pc L st σ go = some o) (hd : decode cc pc = .ok (.getfield ix, 3)) (hP : va_P D cl (lj_ws cA ad σ 0 ds) H)
    (k : ∀ v r, go (pc + 3) L (v :: r) σ = some o → W p l e R s m args below meth c H locs cells slots Q (F0 m (pc + 3) ls ((v :: r).map (lj_re ad)))) : W p l e R s m args below meth c H locs cells slots Q (F0 m pc ls (st.map (lj_re ad))) := by
  obtain ⟨hx, hb, hown, hts, ⟨hK, hnw, hst⟩, had, hC, hF, hR⟩ := hc
  unfold lj_getf at h
  split at h
  · split at h
    · rename_i q r _ _ ci j ci' fs hf hn
      cases hb1 : Nat.beq ci ci' with
      | false => rw [hb1] at h; cases h
      | true =>
        rw [hb1] at h
        obtain rfl := Nat.eq_of_beq_eq_true hb1
        dsimp only [cond_true] at h
        split at h
        · rename_i f hfj
          obtain ⟨C, T, N, hcl, hj, hlk⟩ := hF ix ci j hf
          have he := lj_ws_at (cA := cA) (ad := ad) (σ := σ) hn
          have hv : (lj_fs ad σ q 0 fs)[j]? = some (lj_re ad (lj_fld σ q j f)) := by rw [lj_fs_get, hfj]; simp
          rcases hlk with hlk | ⟨host, hlk⟩
          · exact va_get hx hb hts (hC.1 ci C T N hcl).1 hown hK hP q he hcl j hj (hts _ hlk) (fun _ z => z) hv hd (k _ _ h)
          · exact va_getN hx hb hts (hC.1 ci C T N hcl).1 hown hK hP q he hcl j hj (va_Nw.use rfl (hnw _ hlk)) (fun _ z => z) hv hd (k _ _ h)
        · cases h
    · cases h
  · cases h
set_option maxHeartbeats 4000000 in
theorem lj_putf_ok (hc : lj_ctx p s m args c cc own D cl cA ad nw strs A ds fr cr) {ix : Nat} {L st : List Value} {σ : lj_S} {go : lj_K} {o : lj_O} (h : lj_putf ds fr ix pc L st σ go = some o) (hd : decode cc pc = .ok (.putfield ix, 3)) (hP : va_P D cl (lj_ws cA ad σ 0 ds) H) (hS : va_S A s.heap H locs)
    (k : ∀ r σ' H' locs', go (pc + 3) L r σ' = some o → va_P D cl (lj_ws cA ad σ' 0 ds) H' → va_S A s.heap H' locs' → W p l e R s m args below meth c H' locs' cells slots Q (F0 m (pc + 3) ls (r.map (lj_re ad)))) : W p l e R s m args below meth c H locs cells slots Q (F0 m pc ls (st.map (lj_re ad))) := by
  obtain ⟨hx, hb, hown, hts, ⟨hK, hnw, hst⟩, had, hC, hF, hR⟩ := hc
  have main : ∀ {q : Nat} {r : List Value} {ci j : Nat} {fs : List (Nat × Nat)} {f : Nat × Nat} {v : Value} {σ' : lj_S} {ty : FieldType}, lj_find fr ix = some (ci, j) → lj_nth ds q = some (.inl (ci, fs)) → lj_nth fs j = some f → lj_re ad v = v →
      (∀ C T N, cl[ci]? = some (C, T, N) → parseFieldDescriptor (T j).2.2.1 = some ty ∧ (T j).2.2.2 = false) → narrow ty v = v → fits ty v = true → lj_re ad (lj_fld σ' q j f) = v → (∀ i g, i ≠ j → lj_fld σ' q i g = lj_fld σ q i g) → (∀ i, i ≠ q → σ'.1 i = σ.1 i ∧ σ'.2 i = σ.2 i) → go (pc + 3) L r σ' = some o →
      W p l e R s m args below meth c H locs cells slots Q (F0 m pc ls (v :: .ref (ad q) :: r.map (lj_re ad))) := by
    intro q r ci j fs f v σ' ty hf hn hfj hv0 hty hnar hfit hnew hold hoth h
    obtain ⟨C, T, N, hcl, hj, hlk⟩ := hF ix ci j hf
    have he := lj_ws_at (cA := cA) (ad := ad) (σ := σ) hn
    obtain ⟨hin, ⟨ty0, hty0⟩, hnm⟩ := hC.1 ci C T N hcl
    obtain ⟨ht1, ht2⟩ := hty C T N hcl
    have hl : j < (lj_fs ad σ q 0 fs).length := by
      rw [lj_fs_len]
      rw [lj_nth_eq] at hfj
      exact (List.getElem?_eq_some_iff.mp hfj).1
    have hset : (lj_ws cA ad σ 0 ds).set q (ad q, .inr (ci, (lj_fs ad σ q 0 fs).set j v)) = lj_ws cA ad σ' 0 ds := by
      refine lj_ws_set hn ?_ hoth
      rw [lj_fs_set hfj hnew hold]; rfl
    have kk : ∀ (H1 : Heap) (locs1 : List Loc), va_P D cl ((lj_ws cA ad σ 0 ds).set q (ad q, .inr (ci, (lj_fs ad σ q 0 fs).set j v))) H1 → va_D A ((lj_ws cA ad σ 0 ds).set q (ad q, .inr (ci, (lj_fs ad σ q 0 fs).set j v))) → va_S A s.heap H1 locs1 → W p l e R s m args below meth c H1 locs1 cells slots Q (F0 m (pc + 3) ls (r.map (lj_re ad))) := by
      intro H1 locs1 hP1 _ hS1
      rw [hset] at hP1
      exact k r σ' H1 locs1 h hP1 hS1
    rcases hlk with hlk | ⟨host, hlk⟩
    · exact va_put hx hb hts hin ty0 hty0 hnm hown hK hP (lj_wsD had σ) hS q he hcl j hj (hts _ hlk) (fun _ z => z) ht2 ht1 hnar hfit hl hd kk
    · exact va_putN hx hb hts hin ty0 hty0 hnm hown hK hP (lj_wsD had σ) hS q he hcl j hj (va_Nw.use rfl (hnw _ hlk)) (fun _ z => z) ht2 ht1 hnar hfit hl hd kk
  have fl : ∀ (q j : Nat) (v : Int32) (a : Nat), a ≠ 1 → a ≠ 2 → a ≠ 4 → ∀ b, lj_re ad (lj_fld (lj_put σ q j v) q j (a, b)) = .int v := by
    intro q j v a h1 h2 h4 b
    have : lj_fld (lj_put σ q j v) q j (a, b) = .int v := by
      unfold lj_fld
      split
      · exact absurd (by assumption) h1
      · exact absurd (by assumption) h2
      · exact absurd (by assumption) h4
      · simp [lj_put, upd]
    rw [this]; rfl
  have fo : ∀ (q j : Nat) (v : Int32), ∀ i g, i ≠ j → lj_fld (lj_put σ q j v) q i g = lj_fld σ q i g := by
    intro q j v i g hi
    unfold lj_fld
    simp [lj_put, upd, hi]
  unfold lj_putf at h
  split at h
  · split at h
    · rename_i v q r _ _ ci j ci' fs hf hn
      cases hb1 : Nat.beq ci ci' with
      | false => rw [hb1] at h; cases h
      | true =>
        rw [hb1] at h
        obtain rfl := Nat.eq_of_beq_eq_true hb1
        dsimp only [cond_true] at h
        split at h
        · rename_i x hfj
          exact main (v := .int v) (ty := .int) hf hn hfj rfl (fun C T N hcl => (hC.2.1 q ci fs j _ C T N hn hfj hcl).1 rfl) rfl rfl (fl q j v 0 (by decide) (by decide) (by decide) _) (fo q j v) lj_put_o h
        · rename_i x hfj
          split at h
          · rename_i hv
            refine main (v := .int v) (ty := .boolean) hf hn hfj rfl (fun C T N hcl => (hC.2.1 q ci fs j _ C T N hn hfj hcl).2.2 rfl) ?_ ?_ (fl q j v 3 (by decide) (by decide) (by decide) _) (fo q j v) lj_put_o h
            · rcases hv with rfl | rfl <;> rfl
            · rcases hv with rfl | rfl <;> rfl
          · cases h
        · cases h
    · cases h
  · split at h
    · rename_i v q r _ _ ci j ci' fs hf hn
      cases hb1 : Nat.beq ci ci' with
      | false => rw [hb1] at h; cases h
      | true =>
        rw [hb1] at h
        obtain rfl := Nat.eq_of_beq_eq_true hb1
        dsimp only [cond_true] at h
        split at h
        · rename_i x hfj
          refine main (v := .long v) (ty := .long) hf hn hfj rfl (fun C T N hcl => (hC.2.1 q ci fs j _ C T N hn hfj hcl).2.1 rfl) rfl rfl ?_ ?_ lj_putL_o h
          · simp [lj_fld, lj_putL, vp_updL, lj_re]
          · intro i g hi
            unfold lj_fld
            simp [lj_putL, vp_updL, hi]
        · cases h
    · cases h
  · cases h

theorem lj_ty {cA : Nat → ClassId} {t : Nat} {ty : FieldType} (h : [FieldType.int, .long, .byte, .boolean][t]? = some ty) : (lj_tys cA)[t]? = some (cA t, ty) := by
  match t, h with
  | 0, h => cases h; rfl
  | 1, h => cases h; rfl
  | 2, h => cases h; rfl
  | 3, h => cases h; rfl
  | t + 4, h => simp at h
theorem lj_ent_i {cA : Nat → ClassId} {ad : Nat → Nat} {σ : lj_S} {k t n : Nat} (h : Nat.beq t 1 = false) : lj_ent cA ad σ k (.inr (t, n)) = .inl (cA t, n, .inl (σ.1 k)) := by simp only [lj_ent, h, cond_false]
set_option maxHeartbeats 4000000 in
theorem lj_ald_ok (hc : lj_ctx p s m args c cc own D cl cA ad nw strs A ds fr cr) {b : Bool} {L st : List Value} {σ : lj_S} {go : lj_K} {o : lj_O} (h : lj_ald ds b pc L st σ go = some o) (hd : decode cc pc = .ok (bif b then .baload else .iaload, 1)) (hP : va_P D cl (lj_ws cA ad σ 0 ds) H)
    (k : ∀ v r, go (pc + 1) L (v :: r) σ = some o → W p l e R s m args below meth c H locs cells slots Q (F0 m (pc + 1) ls ((v :: r).map (lj_re ad)))) : W p l e R s m args below meth c H locs cells slots Q (F0 m pc ls (st.map (lj_re ad))) := by
  obtain ⟨hx, hb, hown, hts, ⟨hK, hnw, hst⟩, had, hC, hF, hR⟩ := hc
  unfold lj_ald at h
  split at h
  · split at h
    · rename_i i q r _ t n hn
      have he := lj_ws_at (cA := cA) (ad := ad) (σ := σ) hn
      cases b with
      | false =>
        dsimp only [cond_false] at h hd
        cases hb1 : Nat.beq t 0 with
        | false => rw [hb1] at h; cases h
        | true =>
          rw [hb1] at h
          obtain rfl := Nat.eq_of_beq_eq_true hb1
          dsimp only [cond_true] at h
          split at h
          · rename_i hi
            rw [lj_ent_i rfl] at he
            exact va_iald hx hb hK hP q 0 he (lj_ty rfl) (lj_in_vp hi) hd (k _ _ h)
          · cases h
      | true =>
        dsimp only [cond_true] at h hd
        cases hb1 : Nat.beq t 2 with
        | true =>
          rw [hb1] at h
          obtain rfl := Nat.eq_of_beq_eq_true hb1
          change (if lj_in i n then _ else none) = some o at h
          split at h
          · rename_i hi
            rw [lj_ent_i rfl] at he
            exact va_bald hx hb hK hP q 2 he (lj_ty rfl) (lj_in_vp hi) hd (k _ _ h)
          · cases h
        | false =>
          rw [hb1] at h
          cases hb2 : Nat.beq t 3 with
          | false => rw [hb2] at h; cases h
          | true =>
            rw [hb2] at h
            obtain rfl := Nat.eq_of_beq_eq_true hb2
            change (if lj_in i n then _ else none) = some o at h
            split at h
            · rename_i hi
              rw [lj_ent_i rfl] at he
              exact va_zald hx hb hK hP q 3 he (lj_ty rfl) (lj_in_vp hi) hd (k _ _ h)
            · cases h
    · cases h
  · cases h
theorem lj_lald_ok (hc : lj_ctx p s m args c cc own D cl cA ad nw strs A ds fr cr) {L st : List Value} {σ : lj_S} {go : lj_K} {o : lj_O} (h : lj_lald ds pc L st σ go = some o) (hd : decode cc pc = .ok (.laload, 1)) (hP : va_P D cl (lj_ws cA ad σ 0 ds) H)
    (k : ∀ v r, go (pc + 1) L (v :: r) σ = some o → W p l e R s m args below meth c H locs cells slots Q (F0 m (pc + 1) ls ((v :: r).map (lj_re ad)))) : W p l e R s m args below meth c H locs cells slots Q (F0 m pc ls (st.map (lj_re ad))) := by
  obtain ⟨hx, hb, hown, hts, ⟨hK, hnw, hst⟩, had, hC, hF, hR⟩ := hc
  unfold lj_lald at h
  split at h
  · split at h
    · rename_i i q r _ n hn
      have he := lj_ws_at (cA := cA) (ad := ad) (σ := σ) hn
      split at h
      · rename_i hi
        exact va_lald hx hb hK hP q 1 he (lj_ty rfl) (lj_in_vp hi) hd (k _ _ h)
      · cases h
    · cases h
  · cases h
theorem lj_ws_setA {σ : lj_S} {q t n i : Nat} {v : Int32} (hn : lj_nth ds q = some (.inr (t, n))) (ht : Nat.beq t 1 = false) : (lj_ws cA ad σ 0 ds).set q (ad q, .inl (cA t, n, .inl (upd (σ.1 q) i v))) = lj_ws cA ad (lj_put σ q i v) 0 ds := by
  refine lj_ws_set hn ?_ lj_put_o
  rw [lj_ent_i ht]
  simp [lj_put]
set_option maxHeartbeats 4000000 in
theorem lj_ast_ok (hc : lj_ctx p s m args c cc own D cl cA ad nw strs A ds fr cr) {b : Bool} {L st : List Value} {σ : lj_S} {go : lj_K} {o : lj_O} (h : lj_ast ds b pc L st σ go = some o) (hd : decode cc pc = .ok (bif b then .bastore else .iastore, 1)) (hP : va_P D cl (lj_ws cA ad σ 0 ds) H) (hS : va_S A s.heap H locs)
    (k : ∀ r σ' H' locs', go (pc + 1) L r σ' = some o → va_P D cl (lj_ws cA ad σ' 0 ds) H' → va_S A s.heap H' locs' → W p l e R s m args below meth c H' locs' cells slots Q (F0 m (pc + 1) ls (r.map (lj_re ad)))) : W p l e R s m args below meth c H locs cells slots Q (F0 m pc ls (st.map (lj_re ad))) := by
  obtain ⟨hx, hb, hown, hts, ⟨hK, hnw, hst⟩, had, hC, hF, hR⟩ := hc
  unfold lj_ast at h
  split at h
  · split at h
    · rename_i v i q r _ t n hn
      have he := lj_ws_at (cA := cA) (ad := ad) (σ := σ) hn
      cases b with
      | true =>
        dsimp only [cond_true] at h hd
        split at h
        · split at h
          · rename_i hi
            rw [lj_ent_i rfl] at he
            exact va_bast hx hb hK hP (lj_wsD had σ) hS q 2 he (lj_ty rfl) (lj_in_vp hi) hd (fun H1 l1 hP1 _ hS1 => k _ _ H1 l1 h (by rw [lj_ws_setA hn rfl] at hP1; exact hP1) hS1)
          · cases h
        · split at h
          · rename_i hi
            rw [lj_ent_i rfl] at he
            exact va_zast hx hb hK hP (lj_wsD had σ) hS q 3 he (lj_ty rfl) (lj_in_vp hi) hd (fun H1 l1 hP1 _ hS1 => k _ _ H1 l1 h (by rw [lj_ws_setA hn rfl] at hP1; exact hP1) hS1)
          · cases h
        · cases h
      | false =>
        dsimp only [cond_false] at h hd
        split at h
        · split at h
          · rename_i hi
            rw [lj_ent_i rfl] at he
            exact va_iast hx hb hK hP (lj_wsD had σ) hS q 0 he (lj_ty rfl) (lj_in_vp hi) hd (fun H1 l1 hP1 _ hS1 => k _ _ H1 l1 h (by rw [lj_ws_setA hn rfl] at hP1; exact hP1) hS1)
          · cases h
        · cases h
    · cases h
  · cases h
theorem lj_last_ok (hc : lj_ctx p s m args c cc own D cl cA ad nw strs A ds fr cr) {L st : List Value} {σ : lj_S} {go : lj_K} {o : lj_O} (h : lj_last ds pc L st σ go = some o) (hd : decode cc pc = .ok (.lastore, 1)) (hP : va_P D cl (lj_ws cA ad σ 0 ds) H) (hS : va_S A s.heap H locs)
    (k : ∀ r σ' H' locs', go (pc + 1) L r σ' = some o → va_P D cl (lj_ws cA ad σ' 0 ds) H' → va_S A s.heap H' locs' → W p l e R s m args below meth c H' locs' cells slots Q (F0 m (pc + 1) ls (r.map (lj_re ad)))) : W p l e R s m args below meth c H locs cells slots Q (F0 m pc ls (st.map (lj_re ad))) := by
  obtain ⟨hx, hb, hown, hts, ⟨hK, hnw, hst⟩, had, hC, hF, hR⟩ := hc
  unfold lj_last at h
  split at h
  · split at h
    · rename_i v i q r _ n hn
      have he := lj_ws_at (cA := cA) (ad := ad) (σ := σ) hn
      split at h
      · rename_i hi
        refine va_last hx hb hK hP (lj_wsD had σ) hS q 1 he (lj_ty rfl) (lj_in_vp hi) hd (fun H1 l1 hP1 _ hS1 => k _ _ H1 l1 h ?_ hS1)
        have e1 : (lj_ws cA ad σ 0 ds).set q (ad q, .inl (cA 1, n, .inr (.inl (vp_updL (σ.2 q) i.toNatClampNeg v)))) = lj_ws cA ad (lj_putL σ q i.toNatClampNeg v) 0 ds := by
          refine lj_ws_set hn ?_ lj_putL_o
          simp [lj_ent, lj_putL]
        rw [e1] at hP1; exact hP1
      · cases h
    · cases h
  · cases h
/-- where a table of jumps goes -/
theorem lj_tab_of {d : Int} {x : Int32} {f : Int → Option lj_O} {o : lj_O} : ∀ {os : List Int} {lo : Int}, lj_tab lo os d x f = some o → ((∀ i, i < os.length → x ≠ Int32.ofInt (lo + i)) ∧ f d = some o) ∨ ∃ (i : Nat) (o' : Int), os[i]? = some o' ∧ x = Int32.ofInt (lo + i) ∧ f o' = some o
  | [], lo, h => Or.inl ⟨fun i hi => absurd hi (by simp), h⟩
  | q :: r, lo, h => by
    unfold lj_tab at h
    split at h
    · rename_i hx
      exact Or.inr ⟨0, q, rfl, by simpa using hx, h⟩
    · rename_i hx
      rcases lj_tab_of h with ⟨h1, h2⟩ | ⟨i, o', h1, h2, h3⟩
      · refine Or.inl ⟨fun i hi => ?_, h2⟩
        cases i with
        | zero => simpa using hx
        | succ i =>
          have := h1 i (by simpa using hi)
          rw [show lo + 1 + (i : Int) = lo + ((i + 1 : Nat) : Int) by omega] at this
          exact this
      · exact Or.inr ⟨i + 1, o', h1, by rw [show lo + ((i + 1 : Nat) : Int) = lo + 1 + (i : Int) by omega]; exact h2, h3⟩
theorem lj_lkp_of {pc : Nat} {d : Int} {x : Int32} {f : Int → Option lj_O} {o : lj_O} : ∀ {ps : List (Int × Int)}, (∀ q ∈ ps, -2147483648 ≤ q.1 ∧ q.1 < 2147483648) → (∀ q ∈ ps, 0 ≤ (pc : Int) + q.2) → 0 ≤ (pc : Int) + d → lj_lkp ps d x f = some o → ∃ o' : Int, Op.lookupswitch.offset ps d x.toInt = o' ∧ 0 ≤ (pc : Int) + o' ∧ f o' = some o
  | [], _, _, h0, h => ⟨d, rfl, h0, h⟩
  | (a, q) :: r, hr, hp, h0, h => by
    unfold lj_lkp at h
    obtain ⟨b1, b2⟩ := hr (a, q) List.mem_cons_self
    split at h
    · rename_i hx
      refine ⟨q, ?_, hp (a, q) List.mem_cons_self, h⟩
      rw [Op.lookupswitch.offset_cons, if_pos ((lj_of_toInt b1 b2).mp hx).symm]
    · rename_i hx
      obtain ⟨o', h1, h2, h3⟩ := lj_lkp_of (ps := r) (fun z hz => hr z (List.mem_cons_of_mem _ hz)) (fun z hz => hp z (List.mem_cons_of_mem _ hz)) h0 h
      refine ⟨o', ?_, h2, h3⟩
      rw [Op.lookupswitch.offset_cons, if_neg (fun e => hx ((lj_of_toInt b1 b2).mpr e.symm))]
      exact h1
set_option maxHeartbeats 8000000 in
theorem lj_st_ok (hc : lj_ctx p s m args c cc own D cl cA ad nw strs A ds fr cr) {ins : Instr} {len : Nat} {L st : List Value} {σ : lj_S} {go : lj_K} {o : lj_O} (h : lj_st ds fr cr ins pc len L st σ go = some o) (hd : decode cc pc = .ok (ins, len)) (hk : lj_lok nL pc ins len = true) (hP : va_P D cl (lj_ws cA ad σ 0 ds) H) (hS : va_S A s.heap H locs) (hl : lj_has ad ls nL L)
    (k : ∀ pc' L' st' σ' H' locs' ls', go pc' L' st' σ' = some o → va_P D cl (lj_ws cA ad σ' 0 ds) H' → va_S A s.heap H' locs' → lj_has ad ls' nL L' → W p l e R s m args below meth c H' locs' cells slots Q (F0 m pc' ls' (st'.map (lj_re ad)))) : W p l e R s m args below meth c H locs cells slots Q (F0 m pc ls (st.map (lj_re ad))) := by
  have hc0 := hc
  obtain ⟨hx, hb, hown, hts, ⟨hK, hnw, hst⟩, had, hC, hF, hR⟩ := hc
  have kk : ∀ {pc' L' st'}, go pc' L' st' σ = some o → lj_has ad ls nL L' → W p l e R s m args below meth c H locs cells slots Q (F0 m pc' ls (st'.map (lj_re ad))) := fun q w => k _ _ _ _ _ _ _ q hP hS w
  unfold lj_st at h
  split at h
  · obtain rfl : len = 1 := Nat.eq_of_beq_eq_true hk
    exact lv_null hx hb hd (kk h hl)
  · obtain rfl : len = 1 := Nat.eq_of_beq_eq_true hk
    exact lv_iconst hx hb hd rfl (kk h hl)
  · obtain rfl : len = 2 := Nat.eq_of_beq_eq_true hk
    exact lv_bipush hx hb hd rfl (kk h hl)
  · obtain rfl : len = 3 := Nat.eq_of_beq_eq_true hk
    exact lv_sipush hx hb hd rfl (kk h hl)
  · obtain rfl : len = 1 := Nat.eq_of_beq_eq_true hk
    exact lv_lconst hx hb hd rfl (kk h hl)
  · obtain rfl : len = 2 := Nat.eq_of_beq_eq_true hk
    split at h
    · rename_i v hv
      rcases hR _ _ hv with ⟨x, e1, hw⟩ | ⟨x, e1, hw⟩ | ⟨q, tx, e1, hw⟩
      · cases e1; exact lv_ldc hx hb hown (hts _ hw) hd (kk h hl)
      · cases e1
      · cases e1
    · rename_i v hv
      rcases hR _ _ hv with ⟨x, e1, hw⟩ | ⟨x, e1, hw⟩ | ⟨q, tx, e1, hw⟩
      · cases e1
      · cases e1
      · cases e1; exact va_ldcS hx hb hown (hst _ _ _ _ hw) hd (kk h hl)
    · cases h
  · obtain rfl : len = 3 := Nat.eq_of_beq_eq_true hk
    split at h
    · rename_i v hv
      rcases hR _ _ hv with ⟨x, e1, hw⟩ | ⟨x, e1, hw⟩ | ⟨q, tx, e1, hw⟩
      · cases e1; exact lv_ldcw hx hb hown (hts _ hw) hd (kk h hl)
      · cases e1
      · cases e1
    · rename_i v hv
      rcases hR _ _ hv with ⟨x, e1, hw⟩ | ⟨x, e1, hw⟩ | ⟨q, tx, e1, hw⟩
      · cases e1
      · cases e1
      · cases e1; exact lj_ldcwS hx hb hown (hst _ _ _ _ hw) hd (kk h hl)
    · cases h
  · obtain rfl : len = 3 := Nat.eq_of_beq_eq_true hk
    split at h
    · rename_i v hv
      rcases hR _ _ hv with ⟨x, e1, hw⟩ | ⟨x, e1, hw⟩ | ⟨q, tx, e1, hw⟩
      · cases e1
      · cases e1; exact lv_ldc2 hx hb hown (hts _ hw) hd (kk h hl)
      · cases e1
    · cases h
  · obtain rfl : len = 2 := Nat.eq_of_beq_eq_true hk
    unfold lj_ild at h
    split at h
    · rename_i x hv
      exact lv_iload hx hb hd (hl.at hv (fun _ q => by cases q)) (kk h hl)
    · cases h
  · obtain rfl : len = 1 := Nat.eq_of_beq_eq_true hk
    unfold lj_ild at h
    split at h
    · rename_i x hv
      exact lv_iload_n hx hb hd rfl (hl.at hv (fun _ q => by cases q)) (kk h hl)
    · cases h
  · obtain rfl : len = 2 := Nat.eq_of_beq_eq_true hk
    unfold lj_lld at h
    split at h
    · rename_i x hv
      exact lv_lload hx hb hd (hl.at hv (fun _ q => by cases q)) (kk h hl)
    · cases h
  · obtain rfl : len = 1 := Nat.eq_of_beq_eq_true hk
    unfold lj_lld at h
    split at h
    · rename_i x hv
      exact lv_lload_n hx hb hd rfl (hl.at hv (fun _ q => by cases q)) (kk h hl)
    · cases h
  · obtain rfl : len = 2 := Nat.eq_of_beq_eq_true hk
    unfold lj_rld at h
    split at h
    · rename_i x hv
      exact lv_aload hx hb hd (hl.at hv (fun _ q => by cases q)) (kk h hl)
    · rename_i hv
      exact lv_aloadN hx hb hd (hl.at hv (fun _ q => by cases q)) (kk h hl)
    · cases h
  · obtain rfl : len = 1 := Nat.eq_of_beq_eq_true hk
    unfold lj_rld at h
    split at h
    · rename_i x hv
      exact lv_aload_n hx hb hd rfl (hl.at hv (fun _ q => by cases q)) (kk h hl)
    · rename_i hv
      exact lv_aload_nN hx hb hd rfl (hl.at hv (fun _ q => by cases q)) (kk h hl)
    · cases h
  · simp only [lj_lok, Bool.and_eq_true] at hk
    obtain rfl : len = 2 := Nat.eq_of_beq_eq_true hk.1
    have hn := Nat.le_of_ble_eq_true hk.2
    unfold lj_i1 at h
    split at h
    · rename_i x r
      exact lv_istore hx hb hd hl hn rfl (fun ls' hl' => k _ _ _ _ _ _ _ h hP hS (lj_has.sto1 hl'))
    · cases h
  · simp only [lj_lok, Bool.and_eq_true] at hk
    obtain rfl : len = 1 := Nat.eq_of_beq_eq_true hk.1
    have hn := Nat.le_of_ble_eq_true hk.2
    unfold lj_i1 at h
    split at h
    · rename_i x r
      exact lv_istore_n hx hb hd rfl hl hn rfl (fun ls' hl' => k _ _ _ _ _ _ _ h hP hS (lj_has.sto1 hl'))
    · cases h
  · simp only [lj_lok, Bool.and_eq_true] at hk
    obtain rfl : len = 2 := Nat.eq_of_beq_eq_true hk.1
    have hn := Nat.le_of_ble_eq_true hk.2
    unfold lj_l1 at h
    split at h
    · rename_i x r
      exact lv_lstore hx hb hd hl hn rfl (fun ls' hl' => k _ _ _ _ _ _ _ h hP hS (lj_has.sto2 hl'))
    · cases h
  · simp only [lj_lok, Bool.and_eq_true] at hk
    obtain rfl : len = 1 := Nat.eq_of_beq_eq_true hk.1
    have hn := Nat.le_of_ble_eq_true hk.2
    unfold lj_l1 at h
    split at h
    · rename_i x r
      exact lv_lstore_n hx hb hd rfl hl hn rfl (fun ls' hl' => k _ _ _ _ _ _ _ h hP hS (lj_has.sto2 hl'))
    · cases h
  · simp only [lj_lok, Bool.and_eq_true] at hk
    obtain rfl : len = 2 := Nat.eq_of_beq_eq_true hk.1
    have hn := Nat.le_of_ble_eq_true hk.2
    split at h
    · exact lv_astore hx hb hd hl hn rfl (fun ls' hl' => k _ _ _ _ _ _ _ h hP hS (lj_has.sto1 (v := .ref _) hl'))
    · exact lv_astoreN hx hb hd hl hn rfl (fun ls' hl' => k _ _ _ _ _ _ _ h hP hS (lj_has.sto1 (v := .null) hl'))
    · cases h
  · simp only [lj_lok, Bool.and_eq_true] at hk
    obtain rfl : len = 1 := Nat.eq_of_beq_eq_true hk.1
    have hn := Nat.le_of_ble_eq_true hk.2
    split at h
    · exact lv_astore_n hx hb hd rfl hl hn rfl (fun ls' hl' => k _ _ _ _ _ _ _ h hP hS (lj_has.sto1 (v := .ref _) hl'))
    · exact lv_astore_nN hx hb hd rfl hl hn rfl (fun ls' hl' => k _ _ _ _ _ _ _ h hP hS (lj_has.sto1 (v := .null) hl'))
    · cases h
  · simp only [lj_lok, Bool.and_eq_true] at hk
    obtain rfl : len = 3 := Nat.eq_of_beq_eq_true hk.1
    have hn := Nat.le_of_ble_eq_true hk.2
    unfold lj_ild at h
    split at h
    · rename_i x hv
      obtain ⟨q, hq⟩ := List.getElem?_of_mem (lj_al_in (ad := ad) L 0 _ (.int x) hv (fun _ q => by cases q))
      rw [Nat.zero_add] at hq
      exact lv_iinc hx hb hd hl hq rfl hn rfl (fun ls' hl' => k _ _ _ _ _ _ _ h hP hS (lj_has.sto1 (v := .int _) hl'))
    · cases h
  · obtain rfl : len = 1 := Nat.eq_of_beq_eq_true hk
    unfold lj_i2 at h
    split at h
    · exact lv_iadd hx hb hd (kk h hl)
    · cases h
  · obtain rfl : len = 1 := Nat.eq_of_beq_eq_true hk
    unfold lj_i2 at h
    split at h
    · exact lv_isub hx hb hd (kk h hl)
    · cases h
  · obtain rfl : len = 1 := Nat.eq_of_beq_eq_true hk
    unfold lj_i2 at h
    split at h
    · exact lv_imul hx hb hd (kk h hl)
    · cases h
  · obtain rfl : len = 1 := Nat.eq_of_beq_eq_true hk
    unfold lj_i2 at h
    split at h
    · exact lv_iand hx hb hd (kk h hl)
    · cases h
  · obtain rfl : len = 1 := Nat.eq_of_beq_eq_true hk
    unfold lj_i2 at h
    split at h
    · exact lv_ior hx hb hd (kk h hl)
    · cases h
  · obtain rfl : len = 1 := Nat.eq_of_beq_eq_true hk
    unfold lj_i2 at h
    split at h
    · exact lv_ixor hx hb hd (kk h hl)
    · cases h
  · obtain rfl : len = 1 := Nat.eq_of_beq_eq_true hk
    unfold lj_i2 at h
    split at h
    · exact lv_ishl hx hb hd (kk h hl)
    · cases h
  · obtain rfl : len = 1 := Nat.eq_of_beq_eq_true hk
    unfold lj_i2 at h
    split at h
    · exact lv_ishr hx hb hd (kk h hl)
    · cases h
  · obtain rfl : len = 1 := Nat.eq_of_beq_eq_true hk
    unfold lj_i2 at h
    split at h
    · exact lv_iushr hx hb hd rfl (kk h hl)
    · cases h
  · obtain rfl : len = 1 := Nat.eq_of_beq_eq_true hk
    unfold lj_i2 at h
    split at h
    · dsimp only at h
      split at h
      · cases h
      · rename_i hne
        exact lv_idiv hx hb hd hne (kk h hl)
    · cases h
  · obtain rfl : len = 1 := Nat.eq_of_beq_eq_true hk
    unfold lj_i2 at h
    split at h
    · dsimp only at h
      split at h
      · cases h
      · rename_i hne
        exact lv_irem hx hb hd hne (kk h hl)
    · cases h
  · obtain rfl : len = 1 := Nat.eq_of_beq_eq_true hk
    unfold lj_i1 at h
    split at h
    · exact lv_ineg hx hb hd (kk h hl)
    · cases h
  · obtain rfl : len = 1 := Nat.eq_of_beq_eq_true hk
    unfold lj_l2 at h
    split at h
    · exact lv_ladd hx hb hd (kk h hl)
    · cases h
  · obtain rfl : len = 1 := Nat.eq_of_beq_eq_true hk
    unfold lj_l2 at h
    split at h
    · exact lv_lsub hx hb hd (kk h hl)
    · cases h
  · obtain rfl : len = 1 := Nat.eq_of_beq_eq_true hk
    unfold lj_l2 at h
    split at h
    · exact lv_lmul hx hb hd (kk h hl)
    · cases h
  · obtain rfl : len = 1 := Nat.eq_of_beq_eq_true hk
    unfold lj_l2 at h
    split at h
    · exact lv_land hx hb hd (kk h hl)
    · cases h
  · obtain rfl : len = 1 := Nat.eq_of_beq_eq_true hk
    unfold lj_l2 at h
    split at h
    · exact lv_lor hx hb hd (kk h hl)
    · cases h
  · obtain rfl : len = 1 := Nat.eq_of_beq_eq_true hk
    unfold lj_l2 at h
    split at h
    · exact lv_lxor hx hb hd (kk h hl)
    · cases h
  · obtain rfl : len = 1 := Nat.eq_of_beq_eq_true hk
    unfold lj_l2 at h
    split at h
    · dsimp only at h
      split at h
      · cases h
      · rename_i hne
        exact lv_ldiv hx hb hd hne (kk h hl)
    · cases h
  · obtain rfl : len = 1 := Nat.eq_of_beq_eq_true hk
    unfold lj_l2 at h
    split at h
    · dsimp only at h
      split at h
      · cases h
      · rename_i hne
        exact lv_lrem hx hb hd hne (kk h hl)
    · cases h
  · obtain rfl : len = 1 := Nat.eq_of_beq_eq_true hk
    unfold lj_l1 at h
    split at h
    · exact lv_lneg hx hb hd (kk h hl)
    · cases h
  · obtain rfl : len = 1 := Nat.eq_of_beq_eq_true hk
    unfold lj_li at h
    split at h
    · exact lv_lshl hx hb hd rfl (kk h hl)
    · cases h
  · obtain rfl : len = 1 := Nat.eq_of_beq_eq_true hk
    unfold lj_li at h
    split at h
    · exact lv_lushr hx hb hd rfl (kk h hl)
    · cases h
  · obtain rfl : len = 1 := Nat.eq_of_beq_eq_true hk
    unfold lj_l2 at h
    split at h
    · exact W.lcmp hx hb hd (kk h hl)
    · cases h
  · obtain rfl : len = 1 := Nat.eq_of_beq_eq_true hk
    unfold lj_i1 at h
    split at h
    · exact lv_i2l hx hb hd rfl (kk h hl)
    · cases h
  · obtain rfl : len = 1 := Nat.eq_of_beq_eq_true hk
    unfold lj_l1 at h
    split at h
    · exact lv_l2i hx hb hd rfl (kk h hl)
    · cases h
  · obtain rfl : len = 1 := Nat.eq_of_beq_eq_true hk
    unfold lj_i1 at h
    split at h
    · exact lv_i2b hx hb hd rfl (kk h hl)
    · cases h
  · obtain rfl : len = 1 := Nat.eq_of_beq_eq_true hk
    split at h
    · rename_i v r
      cases hv : lj_is2 v with
      | true => rw [hv] at h; cases h
      | false =>
        rw [hv] at h
        exact lv_dup hx hb hd (by rw [lj_is2_cat, hv]; rfl) (kk h hl)
    · cases h
  · obtain rfl : len = 1 := Nat.eq_of_beq_eq_true hk
    split at h
    · rename_i v r
      cases hv : lj_is2 v with
      | true => rw [hv] at h; cases h
      | false =>
        rw [hv] at h
        exact lv_pop hx hb hd (by rw [lj_is2_cat, hv]; rfl) (kk h hl)
    · cases h
  · obtain rfl : len = 1 := Nat.eq_of_beq_eq_true hk
    split at h
    · rename_i v w r
      cases hv : lj_is2 v with
      | true => rw [hv] at h; cases h
      | false =>
        cases hw : lj_is2 w with
        | true => rw [hv, hw] at h; cases h
        | false =>
          rw [hv, hw] at h
          exact lv_dup_x1 hx hb hd (by rw [lj_is2_cat, hv]; rfl) (by rw [lj_is2_cat, hw]; rfl) (kk h hl)
    · cases h
  · obtain rfl : len = 1 := Nat.eq_of_beq_eq_true hk
    split at h
    · rename_i v w u r
      cases hv : lj_is2 v with
      | true => rw [hv] at h; cases h
      | false =>
        cases hw : lj_is2 w with
        | true => rw [hv, hw] at h; cases h
        | false =>
          cases hu : lj_is2 u with
          | true => rw [hv, hw, hu] at h; cases h
          | false =>
            rw [hv, hw, hu] at h
            exact lv_dup_x2 hx hb hd (by rw [lj_is2_cat, hv]; rfl) (by rw [lj_is2_cat, hw]; rfl) (by rw [lj_is2_cat, hu]; rfl) (kk h hl)
    · cases h
  · obtain rfl : len = 1 := Nat.eq_of_beq_eq_true hk
    split at h
    · rename_i v w r
      cases hv : lj_is2 v with
      | true =>
        rw [hv] at h
        exact lv_dup2_2 hx hb hd (by rw [lj_is2_cat, hv]; rfl) (kk (st' := v :: v :: w :: r) h hl)
      | false =>
        cases hw : lj_is2 w with
        | true => rw [hv, hw] at h; cases h
        | false =>
          rw [hv, hw] at h
          exact lv_dup2_11 hx hb hd (by rw [lj_is2_cat, hv]; rfl) (by rw [lj_is2_cat, hw]; rfl) (kk h hl)
    · cases h
  · obtain rfl : len = 1 := Nat.eq_of_beq_eq_true hk
    split at h
    · split at h
      · rename_i q r _ t n hn
        have he := lj_ws_at (cA := cA) (ad := ad) (σ := σ) hn
        have ht := hC.2.2 _ _ _ hn
        obtain ⟨ty, hty⟩ : ∃ ty, [FieldType.int, .long, .byte, .boolean][t]? = some ty := ⟨_, List.getElem?_eq_getElem (by simpa using ht)⟩
        exact va_alen hx hb hK hP q t he (lj_ty hty) rfl hd (kk h hl)
      · cases h
    · cases h
  · obtain rfl : len = 3 := Nat.eq_of_beq_eq_true hk
    exact lj_getf_ok hc0 h hd hP (fun v r q => kk q hl)
  · obtain rfl : len = 3 := Nat.eq_of_beq_eq_true hk
    exact lj_putf_ok hc0 h hd hP hS (fun r σ' H' l' q hP' hS' => k _ _ _ _ _ _ _ q hP' hS' hl)
  · obtain rfl : len = 1 := Nat.eq_of_beq_eq_true hk
    exact lj_ald_ok (b := false) hc0 h hd hP (fun v r q => kk q hl)
  · obtain rfl : len = 1 := Nat.eq_of_beq_eq_true hk
    exact lj_ald_ok (b := true) hc0 h hd hP (fun v r q => kk q hl)
  · obtain rfl : len = 1 := Nat.eq_of_beq_eq_true hk
    exact lj_lald_ok hc0 h hd hP (fun v r q => kk q hl)
  · obtain rfl : len = 1 := Nat.eq_of_beq_eq_true hk
    exact lj_ast_ok (b := false) hc0 h hd hP hS (fun r σ' H' l' q hP' hS' => k _ _ _ _ _ _ _ q hP' hS' hl)
  · obtain rfl : len = 1 := Nat.eq_of_beq_eq_true hk
    exact lj_ast_ok (b := true) hc0 h hd hP hS (fun r σ' H' l' q hP' hS' => k _ _ _ _ _ _ _ q hP' hS' hl)
  · obtain rfl : len = 1 := Nat.eq_of_beq_eq_true hk
    exact lj_last_ok hc0 h hd hP hS (fun r σ' H' l' q hP' hS' => k _ _ _ _ _ _ _ q hP' hS' hl)
  · simp only [lj_lok, Bool.and_eq_true, decide_eq_true_eq] at hk
    obtain rfl : len = 3 := Nat.eq_of_beq_eq_true hk.1
    have ht := lj_tg_eq hk.2
    exact lv_goto hx hb hd ht (kk h hl)
  · simp only [lj_lok, Bool.and_eq_true, decide_eq_true_eq] at hk
    obtain rfl : len = 3 := Nat.eq_of_beq_eq_true hk.1
    have ht := lj_tg_eq hk.2
    unfold lj_i1 at h
    split at h
    · dsimp only at h
      unfold lj_cmp at h
      split at h
      · split at h
        · rename_i hq; exact lv_if_eq hx hb hd ht (fun _ => kk h hl) (fun z => absurd hq z)
        · rename_i hq; exact lv_if_eq hx hb hd ht (fun z => absurd z hq) (fun _ => kk h hl)
      · split at h
        · rename_i hq; exact lv_if_ne hx hb hd ht (fun z => absurd hq z) (fun _ => kk h hl)
        · rename_i hq; exact lv_if_ne hx hb hd ht (fun _ => kk h hl) (fun z => absurd z hq)
      · split at h
        · rename_i hq; exact lv_if_lt hx hb hd ht (fun _ => kk h hl) (fun z => absurd hq z)
        · rename_i hq; exact lv_if_lt hx hb hd ht (fun z => absurd z hq) (fun _ => kk h hl)
      · split at h
        · rename_i hq; exact lv_if_ge hx hb hd ht (fun _ => kk h hl) (fun z => absurd hq z)
        · rename_i hq; exact lv_if_ge hx hb hd ht (fun z => absurd z hq) (fun _ => kk h hl)
      · split at h
        · rename_i hq; exact lv_if_gt hx hb hd ht (fun _ => kk h hl) (fun z => absurd hq z)
        · rename_i hq; exact lv_if_gt hx hb hd ht (fun z => absurd z hq) (fun _ => kk h hl)
      · split at h
        · rename_i hq; exact lv_if_le hx hb hd ht (fun _ => kk h hl) (fun z => absurd hq z)
        · rename_i hq; exact lv_if_le hx hb hd ht (fun z => absurd z hq) (fun _ => kk h hl)
    · cases h
  · simp only [lj_lok, Bool.and_eq_true, decide_eq_true_eq] at hk
    obtain rfl : len = 3 := Nat.eq_of_beq_eq_true hk.1
    have ht := lj_tg_eq hk.2
    unfold lj_i2 at h
    split at h
    · dsimp only at h
      unfold lj_cmp at h
      split at h
      · split at h
        · rename_i hq; exact lv_icmp_eq hx hb hd ht (fun _ => kk h hl) (fun z => absurd hq z)
        · rename_i hq; exact lv_icmp_eq hx hb hd ht (fun z => absurd z hq) (fun _ => kk h hl)
      · split at h
        · rename_i hq; exact lv_icmp_ne hx hb hd ht (fun z => absurd hq z) (fun _ => kk h hl)
        · rename_i hq; exact lv_icmp_ne hx hb hd ht (fun _ => kk h hl) (fun z => absurd z hq)
      · split at h
        · rename_i hq; exact lv_icmp_lt hx hb hd ht (fun _ => kk h hl) (fun z => absurd hq z)
        · rename_i hq; exact lv_icmp_lt hx hb hd ht (fun z => absurd z hq) (fun _ => kk h hl)
      · split at h
        · rename_i hq; exact lv_icmp_ge hx hb hd ht (fun _ => kk h hl) (fun z => absurd hq z)
        · rename_i hq; exact lv_icmp_ge hx hb hd ht (fun z => absurd z hq) (fun _ => kk h hl)
      · split at h
        · rename_i hq; exact lv_icmp_gt hx hb hd ht (fun _ => kk h hl) (fun z => absurd hq z)
        · rename_i hq; exact lv_icmp_gt hx hb hd ht (fun z => absurd z hq) (fun _ => kk h hl)
      · split at h
        · rename_i hq; exact lv_icmp_le hx hb hd ht (fun _ => kk h hl) (fun z => absurd hq z)
        · rename_i hq; exact lv_icmp_le hx hb hd ht (fun z => absurd z hq) (fun _ => kk h hl)
    · cases h
  · simp only [lj_lok, Bool.and_eq_true, decide_eq_true_eq] at hk
    obtain rfl : len = 3 := Nat.eq_of_beq_eq_true hk.1
    have ht := lj_tg_eq hk.2
    split at h
    · exact lv_ifnullN hx hb hd ht (kk h hl)
    · exact lv_ifnull hx hb hd (kk h hl)
    · cases h
  · simp only [lj_lok, Bool.and_eq_true, decide_eq_true_eq] at hk
    obtain rfl : len = 3 := Nat.eq_of_beq_eq_true hk.1
    have ht := lj_tg_eq hk.2
    split at h
    · exact lv_ifnonnullN hx hb hd (kk h hl)
    · exact lv_ifnonnull hx hb hd ht (kk h hl)
    · cases h
  · unfold lj_i1 at h
    split at h
    · simp only [lj_lok, Bool.and_eq_true, decide_eq_true_eq, List.all_eq_true] at hk
      obtain ⟨⟨⟨⟨h1, h2⟩, h3⟩, h4⟩, h5⟩ := hk
      rename_i d lo hi os _ x r
      rcases lj_tab_of h with ⟨hq, hg⟩ | ⟨i, o', ho, hq, hg⟩
      · refine lv_tableOut hx hb hd ?_ (lj_tg_eq h1) (kk hg hl)
        rcases Int.lt_or_le x.toInt _ with q | q
        · exact Or.inl q
        · refine Or.inr ?_
          rcases Int.lt_or_le hi x.toInt with z | z
          · exact z
          · exfalso
            refine hq (x.toInt - lo).toNat ?_ ((lj_of_toInt (by omega) (by omega)).mpr (by omega))
            omega
      · have hb0 : i < _ := (List.getElem?_eq_some_iff.mp ho).1
        have hx0 := (lj_of_toInt (x := x) (by omega) (by omega)).mp hq
        refine lv_tableIn hx hb hd (by omega) (by omega) ?_ (lj_tg_eq (h2 _ (List.mem_of_getElem? ho))) (kk hg hl)
        rw [hx0, ← Array.getElem?_toList]
        rw [show (_ + (i : Int) - _).toNat = i by omega]
        exact ho
    · cases h
  · unfold lj_i1 at h
    split at h
    · simp only [lj_lok, Bool.and_eq_true, decide_eq_true_eq, List.all_eq_true] at hk
      obtain ⟨⟨h1, h2⟩, h3⟩ := hk
      rename_i x r
      obtain ⟨o', ho, h4, hg⟩ := lj_lkp_of (pc := pc) (fun q hq => ⟨(h2 q hq).1.2, (h2 q hq).2⟩) (fun q hq => (h2 q hq).1.1) h1 h
      exact lv_lookup hx hb hd (List.all_eq_true.mpr (fun q hq => by simpa using h3 q hq)) ho (lj_tg_eq h4) (kk hg hl)
    · cases h
  · cases h
end LJS
