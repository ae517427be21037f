/-! THE SMALL MACHINE: what a method of the two programs does, over a store of numbers (cell, slot); references are numbers of cells -/
abbrev lj_S : Type := (Nat → Nat → Int32) × (Nat → Nat → Int64)
/-- an outcome: an answer, or the number of what was thrown; and the store -/
abbrev lj_O : Type := (Option Value ⊕ Nat) × lj_S
/-- a cell: an object (its class's number; its fields: 0 int, 1 long, 2 reference to a cell, 3 boolean) or an array (0 int, 1 long, 2 byte, 3 boolean; its length) -/
abbrev lj_C : Type := (Nat × List (Nat × Nat)) ⊕ (Nat × Nat)
def lj_put (σ : lj_S) (k i : Nat) (v : Int32) : lj_S := (fun j => if j = k then upd (σ.1 k) i v else σ.1 j, σ.2)
def lj_putL (σ : lj_S) (k i : Nat) (v : Int64) : lj_S := (σ.1, fun j => if j = k then vp_updL (σ.2 k) i v else σ.2 j)
def lj_find {α : Type} : List (Nat × α) → Nat → Option α
  | [], _ => none
  | (a, x) :: r, k => bif Nat.beq a k then some x else lj_find r k
def lj_nth {α : Type} : List α → Nat → Option α
  | [], _ => none
  | x :: _, 0 => some x
  | _ :: r, k + 1 => lj_nth r k
def lj_mem : List Nat → Nat → Bool
  | [], _ => false
  | a :: r, k => bif Nat.beq a k then true else lj_mem r k
def lj_is2 : Value → Bool
  | .long _ => true
  | .double _ => true
  | _ => false
def lj_lset : List Value → Nat → Value → List Value
  | [], _, _ => []
  | _ :: r, 0, v => v :: r
  | a :: r, k + 1, v => a :: lj_lset r k v
/-- the value below a place of the locals is no more if it was long -/
def lj_kill : List Value → Nat → List Value
  | [], _ => []
  | a :: r, 0 => a :: r
  | a :: r, 1 => (bif lj_is2 a then .retAddr 0 else a) :: r
  | a :: r, k + 2 => a :: lj_kill r (k + 1)
def lj_sto1 (L : List Value) (i : Nat) (v : Value) : List Value := lj_lset (lj_kill L i) i v
def lj_sto2 (L : List Value) (i : Nat) (v : Value) : List Value := lj_lset (lj_lset (lj_kill L i) i v) (i + 1) (.retAddr 0)
/-- what a field holds -/
def lj_fld (σ : lj_S) (k j : Nat) (f : Nat × Nat) : Value := match f.1 with
  | 1 => .long (σ.2 k j)
  | 2 => .ref f.2
  | 4 => .null
  | _ => .int (σ.1 k j)
/-- a place of an array of n -/
abbrev lj_in (i : Int32) (n : Nat) : Prop := i.toNatClampNeg < n ∧ ¬ i < 0
abbrev lj_K : Type := Nat → List Value → List Value → lj_S → Option lj_O
def lj_getf (ds : List lj_C) (fr : List (Nat × Nat × Nat)) (ix pc : Nat) (L st : List Value) (σ : lj_S) (go : lj_K) : Option lj_O := match st with
  | .ref k :: r => match lj_find fr ix, lj_nth ds k with
    | some (ci, j), some (.inl (ci', fs)) => bif Nat.beq ci ci' then (match lj_nth fs j with
      | some f => go (pc + 3) L (lj_fld σ k j f :: r) σ
      | none => none) else none
    | _, _ => none
  | _ => none
def lj_putf (ds : List lj_C) (fr : List (Nat × Nat × Nat)) (ix pc : Nat) (L st : List Value) (σ : lj_S) (go : lj_K) : Option lj_O := match st with
  | .int v :: .ref k :: r => match lj_find fr ix, lj_nth ds k with
    | some (ci, j), some (.inl (ci', fs)) => bif Nat.beq ci ci' then (match lj_nth fs j with
      | some (0, _) => go (pc + 3) L r (lj_put σ k j v)
      | some (3, _) => if v = 0 ∨ v = 1 then go (pc + 3) L r (lj_put σ k j v) else none
      | _ => none) else none
    | _, _ => none
  | .long v :: .ref k :: r => match lj_find fr ix, lj_nth ds k with
    | some (ci, j), some (.inl (ci', fs)) => bif Nat.beq ci ci' then (match lj_nth fs j with
      | some (1, _) => go (pc + 3) L r (lj_putL σ k j v)
      | _ => none) else none
    | _, _ => none
  | _ => none
/-- an int from an array of ints (t = 0), bytes or truths (t = 2, 3) -/
def lj_ald (ds : List lj_C) (b : Bool) (pc : Nat) (L st : List Value) (σ : lj_S) (go : lj_K) : Option lj_O := match st with
  | .int i :: .ref k :: r => match lj_nth ds k with
    | some (.inr (t, n)) => bif (bif b then Nat.beq t 2 || Nat.beq t 3 else Nat.beq t 0) then (if lj_in i n then go (pc + 1) L (.int (σ.1 k i.toNatClampNeg) :: r) σ else none) else none
    | _ => none
  | _ => none
def lj_lald (ds : List lj_C) (pc : Nat) (L st : List Value) (σ : lj_S) (go : lj_K) : Option lj_O := match st with
  | .int i :: .ref k :: r => match lj_nth ds k with
    | some (.inr (1, n)) => if lj_in i n then go (pc + 1) L (.long (σ.2 k i.toNatClampNeg) :: r) σ else none
    | _ => none
  | _ => none
def lj_ast (ds : List lj_C) (b : Bool) (pc : Nat) (L st : List Value) (σ : lj_S) (go : lj_K) : Option lj_O := match st with
  | .int v :: .int i :: .ref k :: r => match lj_nth ds k with
    | some (.inr (t, n)) => bif b then
        (match t with
        | 2 => if lj_in i n then go (pc + 1) L r (lj_put σ k i.toNatClampNeg (vp_nar .byte v)) else none
        | 3 => if lj_in i n then go (pc + 1) L r (lj_put σ k i.toNatClampNeg (vp_nar .boolean v)) else none
        | _ => none)
      else (match t with
        | 0 => if lj_in i n then go (pc + 1) L r (lj_put σ k i.toNatClampNeg v) else none
        | _ => none)
    | _ => none
  | _ => none
def lj_last (ds : List lj_C) (pc : Nat) (L st : List Value) (σ : lj_S) (go : lj_K) : Option lj_O := match st with
  | .long v :: .int i :: .ref k :: r => match lj_nth ds k with
    | some (.inr (1, n)) => if lj_in i n then go (pc + 1) L r (lj_putL σ k i.toNatClampNeg v) else none
    | _ => none
  | _ => none

def lj_i2 (st : List Value) (f : Int32 → Int32 → List Value → Option lj_O) : Option lj_O := match st with
  | .int y :: .int x :: r => f x y r
  | _ => none
def lj_i1 (st : List Value) (f : Int32 → List Value → Option lj_O) : Option lj_O := match st with
  | .int x :: r => f x r
  | _ => none
def lj_l2 (st : List Value) (f : Int64 → Int64 → List Value → Option lj_O) : Option lj_O := match st with
  | .long y :: .long x :: r => f x y r
  | _ => none
def lj_l1 (st : List Value) (f : Int64 → List Value → Option lj_O) : Option lj_O := match st with
  | .long x :: r => f x r
  | _ => none
def lj_li (st : List Value) (f : Int64 → Int32 → List Value → Option lj_O) : Option lj_O := match st with
  | .int y :: .long x :: r => f x y r
  | _ => none
def lj_ild (L : List Value) (i : Nat) (f : Int32 → Option lj_O) : Option lj_O := match lj_nth L i with
  | some (.int x) => f x
  | _ => none
def lj_lld (L : List Value) (i : Nat) (f : Int64 → Option lj_O) : Option lj_O := match lj_nth L i with
  | some (.long x) => f x
  | _ => none
def lj_rld (L : List Value) (i : Nat) (f : Value → Option lj_O) : Option lj_O := match lj_nth L i with
  | some (.ref x) => f (.ref x)
  | some .null => f .null
  | _ => none
/-- a jump by an offset -/
def lj_tg (pc : Nat) (off : Int) : Nat := ((pc : Int) + off).toNat
def lj_cmp (c : Jvm.ClassFile.Cond) (x y : Int32) (a b : Option lj_O) : Option lj_O := match c with
  | .eq => if x = y then a else b
  | .ne => if x = y then b else a
  | .lt => if x < y then a else b
  | .ge => if y ≤ x then a else b
  | .gt => if y < x then a else b
  | .le => if x ≤ y then a else b
def lj_tab : Int → List Int → Int → Int32 → (Int → Option lj_O) → Option lj_O
  | _, [], d, _, f => f d
  | lo, o :: r, d, x, f => if x = Int32.ofInt lo then f o else lj_tab (lo + 1) r d x f
def lj_lkp : List (Int × Int) → Int → Int32 → (Int → Option lj_O) → Option lj_O
  | [], d, _, f => f d
  | (a, o) :: r, d, x, f => if x = Int32.ofInt a then f o else lj_lkp r d x f
/-- a simple instruction, or a jump: what goes on is 'go' -/
def lj_st (ds : List lj_C) (fr : List (Nat × Nat × Nat)) (cr : List (Nat × Value)) (ins : Instr) (pc len : Nat) (L st : List Value) (σ : lj_S) (go : lj_K) : Option lj_O := match ins with
  | .aconst_null => go (pc + 1) L (.null :: st) σ
  | .iconst n => go (pc + 1) L (.int (Int32.ofInt n) :: st) σ
  | .bipush n => go (pc + 2) L (.int (Int8.ofInt n).toInt32 :: st) σ
  | .sipush n => go (pc + 3) L (.int (Int16.ofInt n).toInt32 :: st) σ
  | .lconst n => go (pc + 1) L (.long (Int64.ofNat n) :: st) σ
  | .ldc i => match lj_find cr i with
    | some (.int v) => go (pc + 2) L (.int v :: st) σ
    | some (.ref v) => go (pc + 2) L (.ref v :: st) σ
    | _ => none
  | .ldc_w i => match lj_find cr i with
    | some (.int v) => go (pc + 3) L (.int v :: st) σ
    | some (.ref v) => go (pc + 3) L (.ref v :: st) σ
    | _ => none
  | .ldc2_w i => match lj_find cr i with
    | some (.long v) => go (pc + 3) L (.long v :: st) σ
    | _ => none
  | .iload i => lj_ild L i fun x => go (pc + 2) L (.int x :: st) σ
  | .iload_n i => lj_ild L i.val fun x => go (pc + 1) L (.int x :: st) σ
  | .lload i => lj_lld L i fun x => go (pc + 2) L (.long x :: st) σ
  | .lload_n i => lj_lld L i.val fun x => go (pc + 1) L (.long x :: st) σ
  | .aload i => lj_rld L i fun x => go (pc + 2) L (x :: st) σ
  | .aload_n i => lj_rld L i.val fun x => go (pc + 1) L (x :: st) σ
  | .istore i => lj_i1 st fun x r => go (pc + 2) (lj_sto1 L i (.int x)) r σ
  | .istore_n i => lj_i1 st fun x r => go (pc + 1) (lj_sto1 L i.val (.int x)) r σ
  | .lstore i => lj_l1 st fun x r => go (pc + 2) (lj_sto2 L i (.long x)) r σ
  | .lstore_n i => lj_l1 st fun x r => go (pc + 1) (lj_sto2 L i.val (.long x)) r σ
  | .astore i => match st with
    | .ref x :: r => go (pc + 2) (lj_sto1 L i (.ref x)) r σ
    | .null :: r => go (pc + 2) (lj_sto1 L i .null) r σ
    | _ => none
  | .astore_n i => match st with
    | .ref x :: r => go (pc + 1) (lj_sto1 L i.val (.ref x)) r σ
    | .null :: r => go (pc + 1) (lj_sto1 L i.val .null) r σ
    | _ => none
  | .iinc i n => lj_ild L i fun x => go (pc + 3) (lj_sto1 L i (.int (x + Int32.ofInt n))) st σ
  | .iadd => lj_i2 st fun x y r => go (pc + 1) L (.int (x + y) :: r) σ
  | .isub => lj_i2 st fun x y r => go (pc + 1) L (.int (x - y) :: r) σ
  | .imul => lj_i2 st fun x y r => go (pc + 1) L (.int (x * y) :: r) σ
  | .iand => lj_i2 st fun x y r => go (pc + 1) L (.int (x &&& y) :: r) σ
  | .ior => lj_i2 st fun x y r => go (pc + 1) L (.int (x ||| y) :: r) σ
  | .ixor => lj_i2 st fun x y r => go (pc + 1) L (.int (x ^^^ y) :: r) σ
  | .ishl => lj_i2 st fun x y r => go (pc + 1) L (.int (x <<< (y &&& 31)) :: r) σ
  | .ishr => lj_i2 st fun x y r => go (pc + 1) L (.int (x >>> (y &&& 31)) :: r) σ
  | .iushr => lj_i2 st fun x y r => go (pc + 1) L (.int (x.toUInt32 >>> (y.toUInt32 &&& Int32.toUInt32 31)).toInt32 :: r) σ
  | .idiv => lj_i2 st fun x y r => if y = 0 then none else go (pc + 1) L (.int (x / y) :: r) σ
  | .irem => lj_i2 st fun x y r => if y = 0 then none else go (pc + 1) L (.int (x - x / y * y) :: r) σ
  | .ineg => lj_i1 st fun x r => go (pc + 1) L (.int (-x) :: r) σ
  | .ladd => lj_l2 st fun x y r => go (pc + 1) L (.long (x + y) :: r) σ
  | .lsub => lj_l2 st fun x y r => go (pc + 1) L (.long (x - y) :: r) σ
  | .lmul => lj_l2 st fun x y r => go (pc + 1) L (.long (x * y) :: r) σ
  | .land => lj_l2 st fun x y r => go (pc + 1) L (.long (x &&& y) :: r) σ
  | .lor => lj_l2 st fun x y r => go (pc + 1) L (.long (x ||| y) :: r) σ
  | .lxor => lj_l2 st fun x y r => go (pc + 1) L (.long (x ^^^ y) :: r) σ
  | .ldiv => lj_l2 st fun x y r => if y = 0 then none else go (pc + 1) L (.long (x / y) :: r) σ
  | .lrem => lj_l2 st fun x y r => if y = 0 then none else go (pc + 1) L (.long (x - x / y * y) :: r) σ
  | .lneg => lj_l1 st fun x r => go (pc + 1) L (.long (-x) :: r) σ
  | .lshl => lj_li st fun x y r => go (pc + 1) L (.long (x <<< (y.toInt64 &&& 63)) :: r) σ
  | .lushr => lj_li st fun x y r => go (pc + 1) L (.long (x.toUInt64 >>> (y.toInt64.toUInt64 &&& Int64.toUInt64 63)).toInt64 :: r) σ
  | .lcmp => lj_l2 st fun x y r => go (pc + 1) L (.int (lg_cmp x y) :: r) σ
  | .i2l => lj_i1 st fun x r => go (pc + 1) L (.long x.toInt64 :: r) σ
  | .l2i => lj_l1 st fun x r => go (pc + 1) L (.int x.toInt32 :: r) σ
  | .i2b => lj_i1 st fun x r => go (pc + 1) L (.int x.toInt8.toInt32 :: r) σ
  | .dup => match st with
    | v :: r => bif lj_is2 v then none else go (pc + 1) L (v :: v :: r) σ
    | _ => none
  | .pop => match st with
    | v :: r => bif lj_is2 v then none else go (pc + 1) L r σ
    | _ => none
  | .dup_x1 => match st with
    | v :: w :: r => bif lj_is2 v || lj_is2 w then none else go (pc + 1) L (v :: w :: v :: r) σ
    | _ => none
  | .dup_x2 => match st with
    | v :: w :: u :: r => bif lj_is2 v || lj_is2 w || lj_is2 u then none else go (pc + 1) L (v :: w :: u :: v :: r) σ
    | _ => none
  | .dup2 => match st with
    | v :: w :: r => bif lj_is2 v then go (pc + 1) L (v :: v :: w :: r) σ else bif lj_is2 w then none else go (pc + 1) L (v :: w :: v :: w :: r) σ
    | _ => none
  | .arraylength => match st with
    | .ref k :: r => match lj_nth ds k with
      | some (.inr (_, n)) => go (pc + 1) L (.int (Int32.ofNat n) :: r) σ
      | _ => none
    | _ => none
  | .getfield i => lj_getf ds fr i pc L st σ go
  | .putfield i => lj_putf ds fr i pc L st σ go
  | .iaload => lj_ald ds false pc L st σ go
  | .baload => lj_ald ds true pc L st σ go
  | .laload => lj_lald ds pc L st σ go
  | .iastore => lj_ast ds false pc L st σ go
  | .bastore => lj_ast ds true pc L st σ go
  | .lastore => lj_last ds pc L st σ go
  | .goto o => go (lj_tg pc o) L st σ
  | .ifCond c o => lj_i1 st fun x r => lj_cmp c x 0 (go (lj_tg pc o) L r σ) (go (pc + 3) L r σ)
  | .if_icmp c o => lj_i2 st fun x y r => lj_cmp c x y (go (lj_tg pc o) L r σ) (go (pc + 3) L r σ)
  | .ifnull o => match st with
    | .null :: r => go (lj_tg pc o) L r σ
    | .ref _ :: r => go (pc + 3) L r σ
    | _ => none
  | .ifnonnull o => match st with
    | .null :: r => go (pc + 3) L r σ
    | .ref _ :: r => go (lj_tg pc o) L r σ
    | _ => none
  | .tableswitch d lo _ os => lj_i1 st fun x r => lj_tab lo os.toList d x fun o => go (lj_tg pc o) L r σ
  | .lookupswitch d ps => lj_i1 st fun x r => lj_lkp ps.toList d x fun o => go (lj_tg pc o) L r σ
  | _ => none
/-- n arguments off the stack, the first one deepest -/
def lj_args : Nat → List Value → List Value → Option (List Value × List Value)
  | 0, acc, st => some (acc, st)
  | n + 1, acc, v :: st => lj_args n (v :: acc) st
  | _ + 1, _, [] => none
/-- a method: its code, the places where a block begins, its class's fields, methods (number; how many arguments; what it answers: 0 nothing, 1 an int, 2 a long, 3 a reference; whose it is: 0 static, 1000 a String's, else its class's number and 1), constants, its handlers, whether it answers a truth -/
abbrev lj_M : Type := List (Nat × Instr × Nat) × List Nat × List (Nat × Nat × Nat) × List (Nat × Nat × Nat × Nat × Nat) × List (Nat × Value) × List (Nat × Nat × Nat × Nat) × Bool
abbrev lj_Y : Type := Nat → List Value → lj_S → Option lj_O
def lj_up (x : Nat) (σ : lj_S) : Option lj_O := some (.inr x, σ)
/-- what was thrown goes to the handler that is there for it, or up -/
def lj_thr (ca : Nat → Nat → Bool) : List (Nat × Nat × Nat × Nat) → Nat → List Value → lj_K → Nat → lj_S → Option lj_O
  | [], _, _, _, x, σ => some (.inr x, σ)
  | (a, b, h, t) :: r, pc, L, go, x, σ => bif Nat.ble a pc && Nat.blt pc b then (bif ca t x then go h L [.ref x] σ else none) else lj_thr ca r pc L go x σ
def lj_hh (ca : Nat → Nat → Bool) (hd : List (Nat × Nat × Nat × Nat)) (pc : Nat) (L : List Value) (go : lj_K) : Nat → lj_S → Option lj_O := match hd with
  | [] => lj_up
  | a :: r => lj_thr ca (a :: r) pc L go
/-- what goes on behind a call -/
def lj_bv (o : Option lj_O) (k : lj_S → Option lj_O) (h : Nat → lj_S → Option lj_O) : Option lj_O := match o with
  | some (.inl none, σ) => k σ
  | some (.inr x, σ) => h x σ
  | _ => none
def lj_bi (o : Option lj_O) (k : Int32 → lj_S → Option lj_O) (h : Nat → lj_S → Option lj_O) : Option lj_O := match o with
  | some (.inl (some (.int v)), σ) => k v σ
  | some (.inr x, σ) => h x σ
  | _ => none
def lj_bl (o : Option lj_O) (k : Int64 → lj_S → Option lj_O) (h : Nat → lj_S → Option lj_O) : Option lj_O := match o with
  | some (.inl (some (.long v)), σ) => k v σ
  | some (.inr x, σ) => h x σ
  | _ => none
def lj_br (o : Option lj_O) (k : Nat → lj_S → Option lj_O) (h : Nat → lj_S → Option lj_O) : Option lj_O := match o with
  | some (.inl (some (.ref v)), σ) => k v σ
  | some (.inr x, σ) => h x σ
  | _ => none
def lj_back (t : Nat) (pc : Nat) (L st : List Value) (go : lj_K) (h : Nat → lj_S → Option lj_O) (o : Option lj_O) : Option lj_O := match t with
  | 0 => lj_bv o (fun σ => go (pc + 3) L st σ) h
  | 1 => lj_bi o (fun v σ => go (pc + 3) L (.int v :: st) σ) h
  | 2 => lj_bl o (fun v σ => go (pc + 3) L (.long v :: st) σ) h
  | _ => lj_br o (fun v σ => go (pc + 3) L (.ref v :: st) σ) h
/-- how many words values take -/
def lj_w : List Value → Nat
  | [] => 0
  | v :: r => (bif lj_is2 v then 2 else 1) + lj_w r
/-- the receiver is of the method's class -/
def lj_rc (ds : List lj_C) (rc : Nat) (as : List Value) : Bool := match rc, as with
  | 0, _ => true
  | 1000, .ref k :: _ => Nat.ble 1000 k
  | q + 1, .ref k :: _ => match lj_nth ds k with
    | some (.inl (ci, _)) => Nat.beq ci q
    | _ => false
  | _, _ => false
def lj_inv (ds : List lj_C) (ca : Nat → Nat → Bool) (call : lj_Y) (M : lj_M) (ix pc : Nat) (L st : List Value) (σ : lj_S) (go : lj_K) : Option lj_O := match lj_find M.2.2.2.1 ix with
  | some (id, n, t, rc) => match lj_args n [] st with
    | some (as, r) => bif lj_rc ds rc as && Nat.ble (lj_w r) 8 then lj_back t pc L r go (lj_hh ca M.2.2.2.2.2.1 pc L go) (call id as σ) else none
    | none => none
  | none => none
def lj_one (ds : List lj_C) (ca : Nat → Nat → Bool) (call : lj_Y) (M : lj_M) (ins : Instr) (pc len : Nat) (L st : List Value) (σ : lj_S) (go : lj_K) : Option lj_O := match ins with
  | .return_ => match st with
    | [] => some (.inl none, σ)
    | _ => none
  | .ireturn => match st with
    | [.int x] => some (.inl (some (.int (bif M.2.2.2.2.2.2 then vp_nar .boolean x else x))), σ)
    | _ => none
  | .lreturn => match st with
    | [.long x] => some (.inl (some (.long x)), σ)
    | _ => none
  | .areturn => match st with
    | [.ref x] => some (.inl (some (.ref x)), σ)
    | _ => none
  | .athrow => match st with
    | .ref x :: _ => bif Nat.blt x 2000 then lj_hh ca M.2.2.2.2.2.1 pc L go x σ else none
    | _ => none
  | .invokevirtual i => lj_inv ds ca call M i pc L st σ go
  | .invokestatic i => lj_inv ds ca call M i pc L st σ go
  | ins => lj_st ds M.2.2.1 M.2.2.2.2.1 ins pc len L st σ go
def lj_ex (ds : List lj_C) (ca : Nat → Nat → Bool) (call : lj_Y) (M : lj_M) (jump : lj_K) : Nat → lj_K
  | 0, _, _, _, _ => none
  | k + 1, pc, L, st, σ => match lj_find M.1 pc with
    | none => none
    | some (ins, len) => lj_one ds ca call M ins pc len L st σ (fun pc' L' st' σ' => bif lj_mem M.2.1 pc' then jump pc' L' st' σ' else lj_ex ds ca call M jump k pc' L' st' σ')
/-- n blocks at most -/
def lj_exec (ds : List lj_C) (ca : Nat → Nat → Bool) (call : lj_Y) (M : lj_M) : Nat → lj_K
  | 0 => fun _ _ _ _ => none
  | n + 1 => lj_ex ds ca call M (lj_exec ds ca call M n) 4000
/-- arguments as locals, up to so many -/
def lj_loc : Nat → List Value → List Value
  | 0, _ => []
  | n + 1, [] => .retAddr 0 :: lj_loc n []
  | 1, v :: _ => [v]
  | n + 2, v :: r => bif lj_is2 v then v :: .retAddr 0 :: lj_loc n r else v :: lj_loc (n + 1) r
/-- a program: its cells, who catches what, methods that are given otherwise, methods by their numbers (how many locals; the rest) -/
abbrev lj_P : Type := List lj_C × (Nat → Nat → Bool) × lj_Y × (Nat → Option (Nat × lj_M))
/-- the component's machine: part, depth, frame and how many parts are nested fit together -/
def lj_g0 (σ : lj_S) : Bool := decide (0 ≤ (σ.1 8 7).toInt ∧ (σ.1 8 7).toInt < 26 ∧ 0 ≤ (σ.1 90 (σ.1 8 7).toInt.toNat).toInt ∧ (σ.1 90 (σ.1 8 7).toInt.toNat).toInt ≤ 20 ∧ 0 ≤ (σ.1 8 18).toInt ∧ (σ.1 8 18).toInt ≤ 10 ∧ ((σ.1 8 7).toInt = 0 ∨ 1 ≤ (σ.1 8 18).toInt) ∧ (σ.1 8 34).toInt = if (σ.1 90 (σ.1 8 7).toInt.toNat).toInt = 0 then -1 else 20 * (σ.1 8 7).toInt + (σ.1 90 (σ.1 8 7).toInt.toNat).toInt - 1)
/-- what is asked where endProtected, nextLastAct, call, endPart begin -/
def lj_gc (id : Nat) (σ : lj_S) : Bool := match id with
  | 148 => lj_g0 σ
  | 153 => lj_g0 σ && decide (σ.1 91 (σ.1 8 34).toInt.toNat = 2)
  | 155 => lj_g0 σ
  | 199 => lj_g0 σ
  | _ => true
/-- a method of so many locals may begin -/
def lj_may (P : lj_P) (id : Nat) (as : List Value) (nL : Nat) (σ : lj_S) : Bool := Nat.ble (lj_w as) nL && (bif Nat.beq P.1.length 114 then lj_gc id σ else true)
theorem lj_may_w {P : lj_P} {id : Nat} {as : List Value} {nL : Nat} {σ : lj_S} (h : lj_may P id as nL σ = true) : Nat.ble (lj_w as) nL = true := by
  unfold lj_may at h
  rw [Bool.and_eq_true] at h
  exact h.1
/-- calls within calls at most d, blocks of a call at most n -/
def lj_run (P : lj_P) : Nat → Nat → lj_Y
  | 0, _, _, _, _ => none
  | d + 1, n, id, as, σ => match P.2.2.2 id with
    | some (nL, M) => bif lj_may P id as nL σ then lj_exec P.1 P.2.1 (lj_run P d n) M n 0 (lj_loc nL as) [] σ else none
    | none => P.2.2.1 id as σ
