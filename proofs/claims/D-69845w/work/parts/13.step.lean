/-! SOUNDNESS OF A SIMPLE INSTRUCTION -/
/-- an instruction of a code of nL locals, at a place, of a length: as the rows want them -/
def lj_lok (nL pc : Nat) (ins : Instr) (len : Nat) : Bool := match ins with
  | .bipush _ => Nat.beq len 2
  | .sipush _ => Nat.beq len 3
  | .ldc _ => Nat.beq len 2
  | .ldc_w _ => Nat.beq len 3
  | .ldc2_w _ => Nat.beq len 3
  | .iload _ => Nat.beq len 2
  | .lload _ => Nat.beq len 2
  | .aload _ => Nat.beq len 2
  | .istore i => Nat.beq len 2 && Nat.blt i nL
  | .lstore i => Nat.beq len 2 && Nat.blt (i + 1) nL
  | .astore i => Nat.beq len 2 && Nat.blt i nL
  | .istore_n i => Nat.beq len 1 && Nat.blt i.val nL
  | .lstore_n i => Nat.beq len 1 && Nat.blt (i.val + 1) nL
  | .astore_n i => Nat.beq len 1 && Nat.blt i.val nL
  | .iinc i _ => Nat.beq len 3 && Nat.blt i nL
  | .getfield _ => Nat.beq len 3
  | .putfield _ => Nat.beq len 3
  | .goto o => Nat.beq len 3 && decide (0 ≤ (pc : Int) + o)
  | .ifCond _ o => Nat.beq len 3 && decide (0 ≤ (pc : Int) + o)
  | .if_icmp _ o => Nat.beq len 3 && decide (0 ≤ (pc : Int) + o)
  | .ifnull o => Nat.beq len 3 && decide (0 ≤ (pc : Int) + o)
  | .ifnonnull o => Nat.beq len 3 && decide (0 ≤ (pc : Int) + o)
  | .invokevirtual _ => Nat.beq len 3
  | .invokestatic _ => Nat.beq len 3
  | .tableswitch d lo hi os => decide (0 ≤ (pc : Int) + d) && os.toList.all (fun o => decide (0 ≤ (pc : Int) + o)) && decide (hi + 1 = lo + os.toList.length) && decide (-2147483648 ≤ lo) && decide (hi < 2147483648)
  | .lookupswitch d ps => decide (0 ≤ (pc : Int) + d) && ps.toList.all (fun q => decide (0 ≤ (pc : Int) + q.2) && decide (-2147483648 ≤ q.1) && decide (q.1 < 2147483648)) && (ps.toList.zip (ps.toList.drop 1)).all (fun (a, next) => a.1 < next.1)
  | _ => Nat.beq len 1
/-- classes: their words, and what the cells say of their fields -/
def lj_okC (cl : List vw_C) (ds : List lj_C) : Prop :=
  (∀ (ci : Nat) (C : String) (T : u_T) (N : Nat), cl[ci]? = some (C, T, N) → (∀ w ∈ u_ws C T N, w ∈ lw_all) ∧ (∃ ty0 : Nat → FieldType, ∀ k, k < N → parseFieldDescriptor (T k).2.2.1 = some (ty0 k)) ∧ (∀ a, a < N → ∀ b, b < N → a ≠ b → (T a).2.1 ≠ (T b).2.1)) ∧
  (∀ (k ci : Nat) (fs : List (Nat × Nat)) (j : Nat) (f : Nat × Nat) (C : String) (T : u_T) (N : Nat), lj_nth ds k = some (.inl (ci, fs)) → lj_nth fs j = some f → cl[ci]? = some (C, T, N) →
    (f.1 = 0 → parseFieldDescriptor (T j).2.2.1 = some .int ∧ (T j).2.2.2 = false) ∧ (f.1 = 1 → parseFieldDescriptor (T j).2.2.1 = some .long ∧ (T j).2.2.2 = false) ∧ (f.1 = 3 → parseFieldDescriptor (T j).2.2.1 = some .boolean ∧ (T j).2.2.2 = false)) ∧
  (∀ (k t n : Nat), lj_nth ds k = some (.inr (t, n)) → t < 4)
/-- a class's fields by its entries; nw: words of nest mates -/
def lj_okF (cl : List vw_C) (nw : List Cond) (own : String) (fr : List (Nat × Nat × Nat)) : Prop :=
  ∀ (ix ci j : Nat), lj_find fr ix = some (ci, j) → ∃ (C : String) (T : u_T) (N : Nat), cl[ci]? = some (C, T, N) ∧ j < N ∧
    (Cond.fieldLink own ix (T j).1 (T j).2.1 (T j).2.2.1 ∈ lw_all ∨ ∃ host, Cond.fieldLinkNest own ix (T j).1 (T j).2.1 (T j).2.2.1 host ∈ nw)
/-- a class's constants; strs: its String constants (entry, text, number) -/
def lj_okR (strs : List (String × Nat × String × Nat)) (own : String) (cr : List (Nat × Value)) : Prop :=
  ∀ (ix : Nat) (v : Value), lj_find cr ix = some v → (∃ x, v = .int x ∧ Cond.constant own ix x ∈ lw_all) ∨ (∃ x, v = .long x ∧ Cond.constantLong own ix x ∈ lw_all) ∨ (∃ k tx, v = .ref k ∧ (own, ix, tx, k) ∈ strs)
def lj_tys (cA : Nat → ClassId) : List (ClassId × FieldType) := [(cA 0, .int), (cA 1, .long), (cA 2, .byte), (cA 3, .boolean)]
/-- what the tables say all through a run -/
def lj_env (D : va_G) (cl : List vw_C) (cA : Nat → ClassId) (ad : Nat → Nat) (nw : List Cond) (strs : List (String × Nat × String × Nat)) (s : State) : Prop :=
  va_K D cl (lj_tys cA) s ∧ (∀ w ∈ nw, va_Nw w s) ∧ ∀ own ix tx k, (own, ix, tx, k) ∈ strs → vk_R own ix tx (ad k) s
theorem lj_tg_eq {pc : Nat} {o : Int} (h : 0 ≤ (pc : Int) + o) : (pc : Int) + o = ((lj_tg pc o : Nat) : Int) := by
  unfold lj_tg; omega
theorem lj_of_toInt {x : Int32} {a : Int} (h1 : -2147483648 ≤ a) (h2 : a < 2147483648) : x = Int32.ofInt a ↔ x.toInt = a := by
  rw [← Int32.toInt_inj, Int32.toInt_ofInt_of_le (by omega) (by omega)]
