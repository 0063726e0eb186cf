/-! THE PURE MACHINE. An abstract heap: size, slots laid, tags, lengths, ints, longs, references.
    tag 0: nothing of ours; tag c + 1: an object of class number c; 100 int[], 101 byte[], 102 boolean[], 103 long[], 104 int[][], 105 the script (read only), 200 + c: an array of references to class number c -/
abbrev hh_T : Type := Nat × Nat × (Nat → Nat) × (Nat → Nat) × (Nat → Nat → Int32) × (Nat → Nat → Int64) × (Nat → Nat → Option Nat)
def hh_sz (h : hh_T) : Nat := h.1
def hh_sl (h : hh_T) : Nat := h.2.1
def hh_tg (h : hh_T) : Nat → Nat := h.2.2.1
def hh_ln (h : hh_T) : Nat → Nat := h.2.2.2.1
def hh_i (h : hh_T) : Nat → Nat → Int32 := h.2.2.2.2.1
def hh_j (h : hh_T) : Nat → Nat → Int64 := h.2.2.2.2.2.1
def hh_r (h : hh_T) : Nat → Nat → Option Nat := h.2.2.2.2.2.2
def hh_u {α : Type} (f : Nat → Nat → α) (a k : Nat) (x : α) : Nat → Nat → α := fun b j => if b = a ∧ j = k then x else f b j
def hh_wi (h : hh_T) (a k : Nat) (x : Int32) : hh_T := (hh_sz h, hh_sl h, hh_tg h, hh_ln h, hh_u (hh_i h) a k x, hh_j h, hh_r h)
def hh_wj (h : hh_T) (a k : Nat) (x : Int64) : hh_T := (hh_sz h, hh_sl h, hh_tg h, hh_ln h, hh_i h, hh_u (hh_j h) a k x, hh_r h)
def hh_wr (h : hh_T) (a k : Nat) (x : Option Nat) : hh_T := (hh_sz h, hh_sl h, hh_tg h, hh_ln h, hh_i h, hh_j h, hh_u (hh_r h) a k x)
/-- a new cell of a tag, a length (0 of an object), so many slots; all its places are 0 or null -/
def hh_al (h : hh_T) (t n s : Nat) : hh_T := (hh_sz h + 1, hh_sl h + s, va_up (hh_tg h) (hh_sz h) t, va_up (hh_ln h) (hh_sz h) n, va_up (hh_i h) (hh_sz h) (fun _ => 0), va_up (hh_j h) (hh_sz h) (fun _ => 0), va_up (hh_r h) (hh_sz h) (fun _ => none))
/-- how a call ends: it returned, or threw -/
abbrev gm_R : Type := (Option Value ⊕ Nat) × hh_T
abbrev gm_L : Type := List (Option Value)
abbrev gm_K : Type := Nat → Nat → gm_L → List Value → hh_T → Option gm_R
def gm_ld : gm_L → Nat → Option Value
  | [], _ => none
  | x :: _, 0 => x
  | _ :: t, i + 1 => gm_ld t i
/-- a store of one slot; a long one slot ahead is no more -/
def gm_sto : gm_L → Nat → Value → gm_L
  | [], 0, v => [some v]
  | [], i + 1, v => none :: gm_sto [] i v
  | _ :: t, 0, v => some v :: t
  | x :: t, i + 1, v => (match i, x with | 0, some (.long _) => none | 0, some (.double _) => none | _, x => x) :: gm_sto t i v
/-- a store of two slots -/
def gm_no : gm_L → gm_L
  | [] => [none]
  | _ :: t => none :: t
def gm_sto2 : gm_L → Nat → Value → gm_L
  | [], 0, v => [some v, none]
  | [], i + 1, v => none :: gm_sto2 [] i v
  | _ :: t, 0, v => some v :: gm_no t
  | x :: t, i + 1, v => (match i, x with | 0, some (.long _) => none | 0, some (.double _) => none | _, x => x) :: gm_sto2 t i v
/-- the locals at a method's entry -/
def gm_ent : List Value → gm_L
  | [] => []
  | .long x :: r => some (.long x) :: none :: gm_ent r
  | .double x :: r => some (.double x) :: none :: gm_ent r
  | v :: r => some v :: gm_ent r
def gm_ii (st : List Value) (f : Int32 → Int32 → Int32) (c : List Value → Option gm_R) : Option gm_R := match st with
  | .int y :: .int x :: r => c (.int (f x y) :: r)
  | _ => none
def gm_ll (st : List Value) (f : Int64 → Int64 → Int64) (c : List Value → Option gm_R) : Option gm_R := match st with
  | .long y :: .long x :: r => c (.long (f x y) :: r)
  | _ => none
def gm_li (st : List Value) (f : Int64 → Int32 → Int64) (c : List Value → Option gm_R) : Option gm_R := match st with
  | .int y :: .long x :: r => c (.long (f x y) :: r)
  | _ => none
def gm_br (c : Jvm.ClassFile.Cond) (x y : Int32) (A B : Option gm_R) : Option gm_R := match c with
  | .eq => if x = y then A else B
  | .ne => if x = y then B else A
  | .lt => if x < y then A else B
  | .ge => if y ≤ x then A else B
  | .gt => if y < x then A else B
  | .le => if x ≤ y then A else B
/-- how an object's class stands to a class: the same, or below it (25 Node, 3 Group, 33 Change, 40 BytesChange) -/
def gm_sub (t d : Nat) : Bool := match d with
  | 25 => t == 27 || t == 28 || t == 29
  | 3 => t == 5 || t == 7
  | 33 => t == 35 || t == 36 || t == 37 || t == 38 || t == 39 || t == 40 || t == 42 || t == 45 || t == 46 || t == 47
  | 40 => t == 42 || t == 45 || t == 46 || t == 47
  | d => t == d + 1
def gm_new (t : ArrayType) : Nat := match t with
  | .int => 100
  | .byte => 101
  | .boolean => 102
  | .long => 103
  | _ => 0
/-- what may be stored into an array of references of tag t: an object of tag u -/
def gm_as (t u : Nat) : Bool := if 200 ≤ t ∧ t < 248 ∧ t ≠ 240 then gm_sub u (t - 200) else false
/-- the receiver of a superclass's method (192, 193: Node's copyFrom, isLike) -/
def gm_sc (y t : Nat) : Bool := bif Nat.beq y 192 || Nat.beq y 193 then gm_sub t 25 else true
/-- an exception at pc of method k: to the handler, or out -/
def gm_exc (K : gm_K) (k pc : Nat) (L : gm_L) (a : Nat) (h : hh_T) : Option gm_R :=
  if hh_tg h a = 21 then (match gm_hd k pc with
    | some q => K k q L [.ref a] h
    | none => some (.inr a, h)) else none
/-- a call of method y with the n topmost values -/
def gm_call (K : gm_K) (k pc len y n : Nat) (L : gm_L) (st : List Value) (h : hh_T) : Option gm_R :=
  if n ≤ st.length ∧ st.length ≤ n + 6 ∧ (gm_ent ((st.take n).reverse)).length ≤ gm_ml y then (match K y 0 (gm_ent ((st.take n).reverse)) [] h with
    | some (.inl none, h') => K k (pc + len) L (st.drop n) h'
    | some (.inl (some v), h') => K k (pc + len) L (v :: st.drop n) h'
    | some (.inr a, h') => gm_exc K k pc L a h'
    | none => none) else none
def gm_stI (K : gm_K) (k pc len : Nat) (ins : Instr) (L : gm_L) (st : List Value) (h : hh_T) : Option gm_R := match ins with
  | .iconst z => K k (pc + len) L (.int (Int32.ofInt z) :: st) h
  | .jsr z => K k (pc + len) L (.long (Int64.ofInt z) :: st) h
  | .aconst_null => K k (pc + len) L (.null :: st) h
  | .iload i => (match gm_ld L i with
    | some (.int x) => K k (pc + len) L (.int x :: st) h
    | _ => none)
  | .lload i => (match gm_ld L i with
    | some (.long x) => K k (pc + len) L (.long x :: st) h
    | _ => none)
  | .aload i => (match gm_ld L i with
    | some (.ref x) => K k (pc + len) L (.ref x :: st) h
    | some .null => K k (pc + len) L (.null :: st) h
    | _ => none)
  | .istore i => (match st with
    | .int x :: r => K k (pc + len) (gm_sto L i (.int x)) r h
    | _ => none)
  | .lstore i => (match st with
    | .long x :: r => K k (pc + len) (gm_sto2 L i (.long x)) r h
    | _ => none)
  | .astore i => (match st with
    | .ref x :: r => K k (pc + len) (gm_sto L i (.ref x)) r h
    | .null :: r => K k (pc + len) (gm_sto L i .null) r h
    | _ => none)
  | .iinc i z => (match gm_ld L i with
    | some (.int x) => K k (pc + len) (gm_sto L i (.int (x + Int32.ofInt z))) st h
    | _ => none)
  | .iadd => gm_ii st (fun x y => x + y) (fun r => K k (pc + len) L r h)
  | .isub => gm_ii st (fun x y => x - y) (fun r => K k (pc + len) L r h)
  | .imul => gm_ii st (fun x y => x * y) (fun r => K k (pc + len) L r h)
  | .iand => gm_ii st (fun x y => x &&& y) (fun r => K k (pc + len) L r h)
  | .ior => gm_ii st (fun x y => x ||| y) (fun r => K k (pc + len) L r h)
  | .ixor => gm_ii st (fun x y => x ^^^ y) (fun r => K k (pc + len) L r h)
  | .ishl => gm_ii st (fun x y => x <<< (y &&& 31)) (fun r => K k (pc + len) L r h)
  | .ishr => gm_ii st (fun x y => x >>> (y &&& 31)) (fun r => K k (pc + len) L r h)
  | .iushr => gm_ii st (fun x y => (x.toUInt32 >>> (y.toUInt32 &&& Int32.toUInt32 31)).toInt32) (fun r => K k (pc + len) L r h)
  | .dadd => if st.length ≤ 8 then gm_ii st (fun x y => if x < y then y else x) (fun r => K k (pc + len) L r h) else none
  | .dsub => if st.length ≤ 8 then gm_ii st (fun x y => if y < x then y else x) (fun r => K k (pc + len) L r h) else none
  | .idiv => (match st with
    | .int y :: .int x :: r => if y = 0 then none else K k (pc + len) L (.int (x / y) :: r) h
    | _ => none)
  | .irem => (match st with
    | .int y :: .int x :: r => if y = 0 then none else K k (pc + len) L (.int (x - x / y * y) :: r) h
    | _ => none)
  | .ineg => (match st with
    | .int x :: r => K k (pc + len) L (.int (-x) :: r) h
    | _ => none)
  | .lmul => gm_ll st (fun x y => x * y) (fun r => K k (pc + len) L r h)
  | .land => gm_ll st (fun x y => x &&& y) (fun r => K k (pc + len) L r h)
  | .lor => gm_ll st (fun x y => x ||| y) (fun r => K k (pc + len) L r h)
  | .lxor => gm_ll st (fun x y => x ^^^ y) (fun r => K k (pc + len) L r h)
  | .lshl => gm_li st (fun x y => x <<< (y.toInt64 &&& 63)) (fun r => K k (pc + len) L r h)
  | .lshr => gm_li st (fun x y => x >>> (y.toInt64 &&& 63)) (fun r => K k (pc + len) L r h)
  | .lushr => gm_li st (fun x y => (x.toUInt64 >>> (y.toInt64.toUInt64 &&& Int64.toUInt64 63)).toInt64) (fun r => K k (pc + len) L r h)
  | .lcmp => (match st with
    | .long y :: .long x :: r => K k (pc + len) L (.int (lg_cmp x y) :: r) h
    | _ => none)
  | .i2l => (match st with
    | .int x :: r => K k (pc + len) L (.long x.toInt64 :: r) h
    | _ => none)
  | .l2i => (match st with
    | .long x :: r => K k (pc + len) L (.int x.toInt32 :: r) h
    | _ => none)
  | .i2b => (match st with
    | .int x :: r => K k (pc + len) L (.int x.toInt8.toInt32 :: r) h
    | _ => none)
  | .dup => (match st with
    | .int x :: r => K k (pc + len) L (.int x :: .int x :: r) h
    | .ref x :: r => K k (pc + len) L (.ref x :: .ref x :: r) h
    | .null :: r => K k (pc + len) L (.null :: .null :: r) h
    | _ => none)
  | .dup_x1 => (match st with
    | .int x :: .ref y :: r => K k (pc + len) L (.int x :: .ref y :: .int x :: r) h
    | .ref x :: .ref y :: r => K k (pc + len) L (.ref x :: .ref y :: .ref x :: r) h
    | _ => none)
  | .dup_x2 => (match st with
    | .int x :: .int y :: .ref z :: r => K k (pc + len) L (.int x :: .int y :: .ref z :: .int x :: r) h
    | _ => none)
  | .dup2 => (match st with
    | .int x :: .ref y :: r => K k (pc + len) L (.int x :: .ref y :: .int x :: .ref y :: r) h
    | .int x :: .int y :: r => K k (pc + len) L (.int x :: .int y :: .int x :: .int y :: r) h
    | _ => none)
  | .pop => (match st with
    | .int _ :: r => K k (pc + len) L r h
    | .ref _ :: r => K k (pc + len) L r h
    | .null :: r => K k (pc + len) L r h
    | _ => none)
  | .ifCond c t => (match st with
    | .int x :: r => gm_br c x 0 (K k t.toNat L r h) (K k (pc + len) L r h)
    | _ => none)
  | .if_icmp c t => (match st with
    | .int y :: .int x :: r => gm_br c x y (K k t.toNat L r h) (K k (pc + len) L r h)
    | _ => none)
  | .if_acmp c t => (match c, st with
    | .eq, .ref y :: .ref x :: r => if x = y then K k t.toNat L r h else K k (pc + len) L r h
    | .ne, .ref y :: .ref x :: r => if x = y then K k (pc + len) L r h else K k t.toNat L r h
    | .eq, .null :: .ref _ :: r => K k (pc + len) L r h
    | .ne, .null :: .ref _ :: r => K k t.toNat L r h
    | .eq, .ref _ :: .null :: r => K k (pc + len) L r h
    | .ne, .ref _ :: .null :: r => K k t.toNat L r h
    | .eq, .null :: .null :: r => K k t.toNat L r h
    | .ne, .null :: .null :: r => K k (pc + len) L r h
    | _, _ => none)
  | .ifnull t => (match st with
    | .ref _ :: r => K k (pc + len) L r h
    | .null :: r => K k t.toNat L r h
    | _ => none)
  | .ifnonnull t => (match st with
    | .ref _ :: r => K k t.toNat L r h
    | .null :: r => K k (pc + len) L r h
    | _ => none)
  | .goto t => K k t.toNat L st h
  | .tableswitch d lo hi ts => (match st with
    | .int x :: r => if x.toInt < lo ∨ hi < x.toInt then K k d.toNat L r h else (match ts[(x.toInt - lo).toNat]? with
      | some t => K k t.toNat L r h
      | none => none)
    | _ => none)
  | .getfield n => (match st with
    | .ref a :: r => if gm_sub (hh_tg h a) (n / 1024) then (match n / 256 % 4 with
      | 2 => K k (pc + len) L (.long (hh_j h a (n % 256)) :: r) h
      | 3 => K k (pc + len) L (va_rf (hh_r h a (n % 256)) :: r) h
      | _ => K k (pc + len) L (.int (hh_i h a (n % 256)) :: r) h) else none
    | _ => none)
  | .putfield n => (match n / 256 % 4, st with
    | 0, .int x :: .ref a :: r => if gm_sub (hh_tg h a) (n / 1024) then K k (pc + len) L r (hh_wi h a (n % 256) x) else none
    | 1, .int x :: .ref a :: r => if gm_sub (hh_tg h a) (n / 1024) ∧ (x = 0 ∨ x = 1) then K k (pc + len) L r (hh_wi h a (n % 256) x) else none
    | 2, .long x :: .ref a :: r => if gm_sub (hh_tg h a) (n / 1024) then K k (pc + len) L r (hh_wj h a (n % 256) x) else none
    | 3, .ref x :: .ref a :: r => if gm_sub (hh_tg h a) (n / 1024) then K k (pc + len) L r (hh_wr h a (n % 256) (some x)) else none
    | 3, .null :: .ref a :: r => if gm_sub (hh_tg h a) (n / 1024) then K k (pc + len) L r (hh_wr h a (n % 256) none) else none
    | _, _ => none)
  | .new n => K k (pc + len) L (.ref (hh_sz h) :: st) (hh_al h (n % 64 + 1) 0 (n / 64))
  | .newarray t => (match st with
    | .int n :: r => if (0 ≤ n ∧ n ≤ 100000) ∧ gm_new t ≠ 0 then K k (pc + len) L (.ref (hh_sz h) :: r) (hh_al h (gm_new t) n.toNatClampNeg n.toNatClampNeg) else none
    | _ => none)
  | .anewarray t => (match st with
    | .int n :: r => if 0 ≤ n ∧ n ≤ 100000 then K k (pc + len) L (.ref (hh_sz h) :: r) (hh_al h t n.toNatClampNeg n.toNatClampNeg) else none
    | _ => none)
  | .arraylength => (match st with
    | .ref a :: r => if 100 ≤ hh_tg h a then K k (pc + len) L (.int (Int32.ofNat (hh_ln h a)) :: r) h else none
    | _ => none)
  | .iaload => (match st with
    | .int i :: .ref a :: r => if (hh_tg h a = 100 ∨ hh_tg h a = 105) ∧ ¬ (i < 0 ∨ hh_ln h a ≤ i.toNatClampNeg) then K k (pc + len) L (.int (hh_i h a i.toNatClampNeg) :: r) h else none
    | _ => none)
  | .baload => (match st with
    | .int i :: .ref a :: r => if (hh_tg h a = 101 ∨ hh_tg h a = 102) ∧ ¬ (i < 0 ∨ hh_ln h a ≤ i.toNatClampNeg) then K k (pc + len) L (.int (hh_i h a i.toNatClampNeg) :: r) h else none
    | _ => none)
  | .laload => (match st with
    | .int i :: .ref a :: r => if hh_tg h a = 103 ∧ ¬ (i < 0 ∨ hh_ln h a ≤ i.toNatClampNeg) then K k (pc + len) L (.long (hh_j h a i.toNatClampNeg) :: r) h else none
    | _ => none)
  | .aaload => (match st with
    | .int i :: .ref a :: r => if (hh_tg h a = 104 ∨ 200 ≤ hh_tg h a) ∧ ¬ (i < 0 ∨ hh_ln h a ≤ i.toNatClampNeg) then K k (pc + len) L (va_rf (hh_r h a i.toNatClampNeg) :: r) h else none
    | _ => none)
  | .iastore => (match st with
    | .int x :: .int i :: .ref a :: r => if hh_tg h a = 100 ∧ ¬ (i < 0 ∨ hh_ln h a ≤ i.toNatClampNeg) then K k (pc + len) L r (hh_wi h a i.toNatClampNeg x) else none
    | _ => none)
  | .bastore => (match st with
    | .int x :: .int i :: .ref a :: r => if hh_tg h a = 101 ∧ ¬ (i < 0 ∨ hh_ln h a ≤ i.toNatClampNeg) then K k (pc + len) L r (hh_wi h a i.toNatClampNeg x.toInt8.toInt32)
      else if hh_tg h a = 102 ∧ ¬ (i < 0 ∨ hh_ln h a ≤ i.toNatClampNeg) ∧ (x = 0 ∨ x = 1) then K k (pc + len) L r (hh_wi h a i.toNatClampNeg x) else none
    | _ => none)
  | .lastore => (match st with
    | .long x :: .int i :: .ref a :: r => if hh_tg h a = 103 ∧ ¬ (i < 0 ∨ hh_ln h a ≤ i.toNatClampNeg) then K k (pc + len) L r (hh_wj h a i.toNatClampNeg x) else none
    | _ => none)
  | .aastore => (match st with
    | .ref x :: .int i :: .ref a :: r => if gm_as (hh_tg h a) (hh_tg h x) ∧ ¬ (i < 0 ∨ hh_ln h a ≤ i.toNatClampNeg) then K k (pc + len) L r (hh_wr h a i.toNatClampNeg (some x)) else none
    | .null :: .int i :: .ref a :: r => if 200 ≤ hh_tg h a ∧ ¬ (i < 0 ∨ hh_ln h a ≤ i.toNatClampNeg) then K k (pc + len) L r (hh_wr h a i.toNatClampNeg none) else none
    | _ => none)
  | .checkcast d => (match st with
    | .ref a :: r => if gm_sub (hh_tg h a) d then K k (pc + len) L (.ref a :: r) h else none
    | .null :: r => K k (pc + len) L (.null :: r) h
    | _ => none)
  | .athrow => (match st with
    | .ref a :: _ => gm_exc K k pc L a h
    | _ => none)
  | .ireturn => (match st with
    | [.int x] => if gm_rb k = true → (x = 0 ∨ x = 1) then some (.inl (some (.int x)), h) else none
    | _ => none)
  | .lreturn => (match st with
    | [.long x] => some (.inl (some (.long x)), h)
    | _ => none)
  | .areturn => (match st with
    | [.ref x] => some (.inl (some (.ref x)), h)
    | [.null] => some (.inl (some .null), h)
    | _ => none)
  | .return_ => (match st with
    | [] => some (.inl none, h)
    | _ => none)
  | .invokestatic n => gm_call K k pc len (n / 16) (n % 16) L st h
  | .invokespecial n => (match st.drop (n % 16 - 1) with
    | .ref a :: _ => if gm_sc (n / 16) (hh_tg h a) then gm_call K k pc len (n / 16) (n % 16) L st h else none
    | _ => none)
  | .invokevirtual n => (match st.drop (n % 16 - 1) with
    | .ref a :: _ => (match gm_vt (n / 16) (hh_tg h a) with
      | some y => gm_call K k pc len y (n % 16) L st h
      | none => none)
    | _ => none)
  | .invokeinterface n _ => (match st.drop (n % 16 - 1) with
    | .ref a :: _ => (match gm_vt (n / 16) (hh_tg h a) with
      | some y => gm_call K k pc len y (n % 16) L st h
      | none => none)
    | _ => none)
  | .jsr_w z => (match st with
    | .ref a :: r => if z = 0 then (if st.length ≤ 6 then K k (pc + len) L r h else none) else if hh_tg h a = 21 ∧ hh_r h a 1 = none ∧ st.length ≤ 6 then K k (pc + len) L r h else none
    | _ => none)
  | .multianewarray _ _ => (match st with
    | .int n :: .int m :: r => if m = 3 ∧ n = 6 then K k (pc + len) L (.ref (hh_sz h) :: r)
        (hh_wr (hh_al (hh_wr (hh_al (hh_wr (hh_al (hh_al h 104 3 3) 100 6 6) (hh_sz h) 0 (some (hh_sz h + 1))) 100 6 6) (hh_sz h) 1 (some (hh_sz h + 2))) 100 6 6) (hh_sz h) 2 (some (hh_sz h + 3))) else none
    | _ => none)
  | _ => none
def gm_stp (K : gm_K) : gm_K := fun k pc L st h => gm_stI K k pc (gm_it k pc).2 (gm_it k pc).1 L st h
/-- the run, of at most so many steps in a row and so deep -/
def gm_go : Nat → gm_K
  | 0 => fun _ _ _ _ _ => none
  | n + 1 => gm_stp (gm_go n)
/-- it comes to an end with Q -/
def gm_G (k pc : Nat) (L : gm_L) (st : List Value) (h : hh_T) (Q : Option Value ⊕ Nat → hh_T → Prop) : Prop := ∃ n r h', gm_go n k pc L st h = some (r, h') ∧ Q r h'
