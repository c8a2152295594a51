/-! THE PURE MACHINE: values are ints, longs, roles of cells; memory is a function of a role and a place -/
abbrev pv_ : Type := Int ⊕ (Int ⊕ Nat)
abbrev mm_ : Type := Nat → Int → Int
abbrev lo_ : Type := List (Option pv_)
/-- pc, instruction, its length, two words that the program told (target, class, callee; field, constant, how many arguments), a switch's table -/
abbrev en_ : Type := Nat × Instr × Nat × Nat × Int × List (Int × Nat)
abbrev qr_ : Type := List pv_ → mm_ → Prop
abbrev qt_ : Type := Nat → mm_ → Prop
abbrev vv_ : Type := Nat → lo_ → List pv_ → mm_ → Prop
/-- what a callee does, by its number: arguments, memory, what is asked behind a return, behind a throw -/
abbrev ca_ : Type := Nat → List pv_ → mm_ → qr_ → qt_ → Prop
def w32 (x : Int) : Int := (x + 2147483648) % 4294967296 - 2147483648
def w64 (x : Int) : Int := (x + 9223372036854775808) % 18446744073709551616 - 9223372036854775808
def up_ (M : mm_) (r : Nat) (i v : Int) : mm_ := fun r' => if r' = r then (fun j => if j = i then v else M r j) else M r'
def an_ (x y : Int) : Int := (Int32.ofInt x &&& Int32.ofInt y).toInt
def or_ (x y : Int) : Int := (Int32.ofInt x ||| Int32.ofInt y).toInt
def xo_ (x y : Int) : Int := (Int32.ofInt x ^^^ Int32.ofInt y).toInt
def sl_ (x y : Int) : Int := (Int32.ofInt x <<< (Int32.ofInt y &&& 31)).toInt
def sr_ (x y : Int) : Int := (Int32.ofInt x >>> (Int32.ofInt y &&& 31)).toInt
def us_ (x y : Int) : Int := (((Int32.ofInt x).toUInt32 >>> ((Int32.ofInt y).toUInt32 &&& Int32.toUInt32 31)).toInt32).toInt
def ib_ (x : Int) : Int := (x + 128) % 256 - 128
def ic_ (x : Int) : Int := x % 65536
def bl_ (x : Int) : Prop := x = 0 ∨ x = 1
/-- what the world looks like: a role's class (99: an array), a field's kind (0 int, 1 boolean, 2 a cell that stays, 3 a cell or null), the cell that a field holds, an array's kind (1 int, 2 byte, 3 boolean, 4 long, 5 an int array that is read only and whose length is told at place -1, 6 a byte array that is read only) and length -/
abbrev wd_ : Type := (Nat → Nat) × (Nat → Nat → Nat) × (Nat → Nat → Nat) × (Nat → Nat) × (Nat → Nat)
/-- a method: its code, its locals, its answer's kind (0 none, 1 int, 2 boolean, 3 long, 4 a cell, 5 byte, 6 char), its handlers (from, to, where) -/
abbrev md_ : Type := List en_ × Nat × Nat × List (Nat × Nat × Nat)
abbrev pg_ : Type := Nat → md_
def lk_ : List en_ → Nat → Option (Instr × Nat × Nat × Int × List (Int × Nat))
  | [], _ => none
  | e :: t, pc => if e.1 = pc then some e.2 else lk_ t pc
def hd_ : List (Nat × Nat × Nat) → Nat → Option Nat
  | [], _ => none
  | h :: t, pc => if h.1 ≤ pc ∧ pc < h.2.1 then some h.2.2 else hd_ t pc
def sw_ (K : Nat → Prop) (x : Int) : List (Int × Nat) → Nat → Prop
  | [], d => K d
  | k :: t, d => if x = k.1 then K k.2 else sw_ K x t d
/-- which cell the field of a role holds, out of the instruction's own table of roles -/
def fd_ : List (Int × Nat) → Nat → Option Nat
  | [], _ => none
  | q :: t, r => if q.1 = (r : Int) then some q.2 else fd_ t r
def ld_ (ls : lo_) (k : Nat) : Option pv_ := match ls[k]? with
  | some (some v) => some v
  | _ => none
def isl_ : Option (Option pv_) → Bool
  | some (some (.inr (.inl _))) => true
  | _ => false
/-- a word of one place is stored -/
def s1_ (ls : lo_) (k : Nat) (v : pv_) : lo_ := ls.set k (some v)
def s2_ (ls : lo_) (k : Nat) (v : pv_) : lo_ := (ls.set k (some v)).set (k + 1) none
def ok1_ (ls : lo_) (k : Nat) : Bool := decide (k < ls.length) && (k == 0 || !isl_ ls[k - 1]?)
def ok2_ (ls : lo_) (k : Nat) : Bool := decide (k + 1 < ls.length) && (k == 0 || !isl_ ls[k - 1]?) 
def th_ (V : vv_) (Qt : qt_) (hs : List (Nat × Nat × Nat)) (pc : Nat) (ls : lo_) (r : Nat) (M : mm_) : Prop := match hd_ hs pc with
  | some h => (r = 7 ∨ r = 8) ∧ V h ls [.inr (.inr r)] M
  | none => Qt r M
def rk_ (V : vv_) (k pc : Nat) (ls : lo_) (st : List pv_) : qr_ := match k with
  | 0 => fun vs M => vs = [] ∧ V pc ls st M
  | 3 => fun vs M => ∃ x, vs = [.inr (.inl x)] ∧ V pc ls (.inr (.inl x) :: st) M
  | 4 => fun vs M => ∃ r, vs = [.inr (.inr r)] ∧ V pc ls (.inr (.inr r) :: st) M
  | _ => fun vs M => ∃ x, vs = [.inl x] ∧ V pc ls (.inl x :: st) M
def cl_ (D : ca_) (V : vv_) (Qt : qt_) (hs : List (Nat × Nat × Nat)) (pc a n k : Nat) (ls : lo_) (st : List pv_) (M : mm_) : Prop :=
  if n ≤ st.length ∧ st.length ≤ n + 8 then D a (st.take n).reverse M (rk_ V k (pc + 3) ls (st.drop n)) (fun r M' => th_ V Qt hs pc ls r M') else False
def ex_ (w : wd_) (D : ca_) (V : vv_) (Qr : qr_) (Qt : qt_) (m : md_) (pc : Nat) (i : Instr) (len a : Nat) (b : Int) (tb : List (Int × Nat)) (ls : lo_) (st : List pv_) (M : mm_) : Prop :=
  match i with
  | .iconst c => V (pc + 1) ls (.inl c :: st) M
  | .bipush c => V (pc + 2) ls (.inl c :: st) M
  | .sipush c => V (pc + 3) ls (.inl c :: st) M
  | .ldc _ => if a = 0 then V (pc + 2) ls (.inl b :: st) M else V (pc + 2) ls (.inr (.inr a) :: st) M
  | .ldc_w _ => V (pc + 3) ls (.inl b :: st) M
  | .ldc2_w _ => V (pc + 3) ls (.inr (.inl b) :: st) M
  | .lconst c => V (pc + 1) ls (.inr (.inl ((c : Nat) : Int)) :: st) M
  | .iload k => match ld_ ls k with | some (.inl x) => V (pc + 2) ls (.inl x :: st) M | _ => False
  | .iload_n k => match ld_ ls k with | some (.inl x) => V (pc + 1) ls (.inl x :: st) M | _ => False
  | .lload k => match ld_ ls k with | some (.inr (.inl x)) => V (pc + 2) ls (.inr (.inl x) :: st) M | _ => False
  | .lload_n k => match ld_ ls k with | some (.inr (.inl x)) => V (pc + 1) ls (.inr (.inl x) :: st) M | _ => False
  | .aload k => match ld_ ls k with | some (.inr (.inr x)) => if x = 1999 then False else V (pc + 2) ls (.inr (.inr x) :: st) M | _ => False
  | .aload_n k => match ld_ ls k with | some (.inr (.inr x)) => if x = 1999 then False else V (pc + 1) ls (.inr (.inr x) :: st) M | _ => False
  | .istore k => match st with | .inl x :: st' => if ok1_ ls k then V (pc + 2) (s1_ ls k (.inl x)) st' M else False | _ => False
  | .istore_n k => match st with | .inl x :: st' => if ok1_ ls k then V (pc + 1) (s1_ ls k (.inl x)) st' M else False | _ => False
  | .lstore k => match st with | .inr (.inl x) :: st' => if ok2_ ls k then V (pc + 2) (s2_ ls k (.inr (.inl x))) st' M else False | _ => False
  | .lstore_n k => match st with | .inr (.inl x) :: st' => if ok2_ ls k then V (pc + 1) (s2_ ls k (.inr (.inl x))) st' M else False | _ => False
  | .astore k => match st with | .inr (.inr x) :: st' => if ok1_ ls k && !(x == 1999) then V (pc + 2) (s1_ ls k (.inr (.inr x))) st' M else False | _ => False
  | .astore_n k => match st with | .inr (.inr x) :: st' => if ok1_ ls k && !(x == 1999) then V (pc + 1) (s1_ ls k (.inr (.inr x))) st' M else False | _ => False
  | .iinc k c => match ld_ ls k with | some (.inl x) => if ok1_ ls k then V (pc + 3) (s1_ ls k (.inl (w32 (x + c)))) st M else False | _ => False
  | .iadd => match st with | .inl y :: .inl x :: st' => V (pc + 1) ls (.inl (w32 (x + y)) :: st') M | _ => False
  | .isub => match st with | .inl y :: .inl x :: st' => V (pc + 1) ls (.inl (w32 (x - y)) :: st') M | _ => False
  | .imul => match st with | .inl y :: .inl x :: st' => V (pc + 1) ls (.inl (w32 (x * y)) :: st') M | _ => False
  | .idiv => match st with | .inl y :: .inl x :: st' => y ≠ 0 ∧ V (pc + 1) ls (.inl (w32 (Int.tdiv x y)) :: st') M | _ => False
  | .irem => match st with | .inl y :: .inl x :: st' => y ≠ 0 ∧ V (pc + 1) ls (.inl (Int.tmod x y) :: st') M | _ => False
  | .ineg => match st with | .inl x :: st' => V (pc + 1) ls (.inl (w32 (-x)) :: st') M | _ => False
  | .iand => match st with | .inl y :: .inl x :: st' => V (pc + 1) ls (.inl (an_ x y) :: st') M | _ => False
  | .ior => match st with | .inl y :: .inl x :: st' => V (pc + 1) ls (.inl (or_ x y) :: st') M | _ => False
  | .ixor => match st with | .inl y :: .inl x :: st' => V (pc + 1) ls (.inl (xo_ x y) :: st') M | _ => False
  | .ishl => match st with | .inl y :: .inl x :: st' => V (pc + 1) ls (.inl (sl_ x y) :: st') M | _ => False
  | .ishr => match st with | .inl y :: .inl x :: st' => V (pc + 1) ls (.inl (sr_ x y) :: st') M | _ => False
  | .iushr => match st with | .inl y :: .inl x :: st' => V (pc + 1) ls (.inl (us_ x y) :: st') M | _ => False
  | .i2b => match st with | .inl x :: st' => V (pc + 1) ls (.inl (ib_ x) :: st') M | _ => False
  | .i2c => match st with | .inl x :: st' => V (pc + 1) ls (.inl (ic_ x) :: st') M | _ => False
  | .i2l => match st with | .inl x :: st' => V (pc + 1) ls (.inr (.inl x) :: st') M | _ => False
  | .l2i => match st with | .inr (.inl x) :: st' => V (pc + 1) ls (.inl (w32 x) :: st') M | _ => False
  | .ladd => match st with | .inr (.inl y) :: .inr (.inl x) :: st' => V (pc + 1) ls (.inr (.inl (w64 (x + y))) :: st') M | _ => False
  | .lsub => match st with | .inr (.inl y) :: .inr (.inl x) :: st' => V (pc + 1) ls (.inr (.inl (w64 (x - y))) :: st') M | _ => False
  | .lmul => match st with | .inr (.inl y) :: .inr (.inl x) :: st' => V (pc + 1) ls (.inr (.inl (w64 (x * y))) :: st') M | _ => False
  | .lcmp => match st with | .inr (.inl y) :: .inr (.inl x) :: st' => V (pc + 1) ls (.inl (if x < y then -1 else if x = y then 0 else 1) :: st') M | _ => False
  | .dup => match st with | .inl x :: st' => V (pc + 1) ls (.inl x :: .inl x :: st') M | .inr (.inr x) :: st' => V (pc + 1) ls (.inr (.inr x) :: .inr (.inr x) :: st') M | _ => False
  | .dup2 => match st with | .inl y :: .inr (.inr x) :: st' => V (pc + 1) ls (.inl y :: .inr (.inr x) :: .inl y :: .inr (.inr x) :: st') M | _ => False
  | .pop => match st with | .inl _ :: st' => V (pc + 1) ls st' M | .inr (.inr _) :: st' => V (pc + 1) ls st' M | _ => False
  | .goto _ => V a ls st M
  | .if_icmp c _ => match st with
    | .inl y :: .inl x :: st' => (match c with
      | .eq => if x = y then V a ls st' M else V (pc + 3) ls st' M
      | .ne => if x = y then V (pc + 3) ls st' M else V a ls st' M
      | .lt => if x < y then V a ls st' M else V (pc + 3) ls st' M
      | .ge => if x < y then V (pc + 3) ls st' M else V a ls st' M
      | .gt => if x ≤ y then V (pc + 3) ls st' M else V a ls st' M
      | .le => if x ≤ y then V a ls st' M else V (pc + 3) ls st' M)
    | _ => False
  | .ifCond c _ => match st with
    | .inl x :: st' => (match c with
      | .eq => if x = 0 then V a ls st' M else V (pc + 3) ls st' M
      | .ne => if x = 0 then V (pc + 3) ls st' M else V a ls st' M
      | .lt => if x < 0 then V a ls st' M else V (pc + 3) ls st' M
      | .ge => if x < 0 then V (pc + 3) ls st' M else V a ls st' M
      | .gt => if x ≤ 0 then V (pc + 3) ls st' M else V a ls st' M
      | .le => if x ≤ 0 then V a ls st' M else V (pc + 3) ls st' M)
    | _ => False
  | .tableswitch _ _ _ _ => match st with | .inl x :: st' => sw_ (fun q => V q ls st' M) x tb a | _ => False
  | .lookupswitch _ _ => match st with | .inl x :: st' => sw_ (fun q => V q ls st' M) x tb a | _ => False
  | .getfield _ => match st with
    | .inr (.inr r) :: st' => (match fd_ tb r with
      | some t => (match a with
        | 0 => V (pc + 3) ls (.inl (M r b) :: st') M
        | 1 => bl_ (M r b) → V (pc + 3) ls (.inl (M r b) :: st') M
        | 2 => V (pc + 3) ls (.inr (.inr t) :: st') M
        | 3 => M r b = (t : Int) ∧ V (pc + 3) ls (.inr (.inr t) :: st') M
        | _ => False)
      | none => False)
    | _ => False
  | .putfield _ => match st with
    | .inl x :: .inr (.inr r) :: st' => (match fd_ tb r with
      | some _ => (match a with
        | 0 => V (pc + 3) ls st' (up_ M r b x)
        | 1 => bl_ x ∧ V (pc + 3) ls st' (up_ M r b x)
        | _ => False)
      | none => False)
    | .inr (.inr q) :: .inr (.inr r) :: st' => (match fd_ tb r with
      | some t => (match a with
        | 3 => q = t ∧ V (pc + 3) ls st' (up_ M r b (t : Int))
        | _ => False)
      | none => False)
    | _ => False
  | .getstatic _ => if a = 0 then V (pc + 3) ls (.inl b :: st) M else V (pc + 3) ls (.inr (.inr a) :: st) M
  | .iaload => match st with
    | .inl k :: .inr (.inr r) :: st' => if w.2.2.2.1 r = 1 then (0 ≤ k ∧ k < (w.2.2.2.2 r : Int)) ∧ V (pc + 1) ls (.inl (M r k) :: st') M else if w.2.2.2.1 r = 5 then (0 ≤ k ∧ k < M r (-1)) ∧ V (pc + 1) ls (.inl (M r k) :: st') M else False
    | _ => False
  | .baload => match st with
    | .inl k :: .inr (.inr r) :: st' => if w.2.2.2.1 r = 2 then (0 ≤ k ∧ k < (w.2.2.2.2 r : Int)) ∧ (-128 ≤ M r k ∧ M r k ≤ 127 → V (pc + 1) ls (.inl (M r k) :: st') M) else if w.2.2.2.1 r = 3 then (0 ≤ k ∧ k < (w.2.2.2.2 r : Int)) ∧ (bl_ (M r k) → V (pc + 1) ls (.inl (M r k) :: st') M)
      else if w.2.2.2.1 r = 6 then (0 ≤ k ∧ k < (w.2.2.2.2 r : Int)) ∧ V (pc + 1) ls (.inl (M r k) :: st') M else False
    | _ => False
  | .laload => match st with
    | .inl k :: .inr (.inr r) :: st' => if w.2.2.2.1 r = 4 then (0 ≤ k ∧ k < (w.2.2.2.2 r : Int)) ∧ V (pc + 1) ls (.inr (.inl (M r k)) :: st') M else False
    | _ => False
  | .iastore => match st with
    | .inl x :: .inl k :: .inr (.inr r) :: st' => if w.2.2.2.1 r = 1 then (0 ≤ k ∧ k < (w.2.2.2.2 r : Int)) ∧ V (pc + 1) ls st' (up_ M r k x) else False
    | _ => False
  | .bastore => match st with
    | .inl x :: .inl k :: .inr (.inr r) :: st' => if w.2.2.2.1 r = 2 then ((0 ≤ k ∧ k < (w.2.2.2.2 r : Int)) ∧ (-128 ≤ x ∧ x ≤ 127)) ∧ V (pc + 1) ls st' (up_ M r k x) else if w.2.2.2.1 r = 3 then ((0 ≤ k ∧ k < (w.2.2.2.2 r : Int)) ∧ bl_ x) ∧ V (pc + 1) ls st' (up_ M r k x) else False
    | _ => False
  | .lastore => match st with
    | .inr (.inl x) :: .inl k :: .inr (.inr r) :: st' => if w.2.2.2.1 r = 4 then (0 ≤ k ∧ k < (w.2.2.2.2 r : Int)) ∧ V (pc + 1) ls st' (up_ M r k x) else False
    | _ => False
  | .arraylength => match st with
    | .inr (.inr r) :: st' => if w.2.2.2.1 r = 5 then V (pc + 1) ls (.inl (M r (-1)) :: st') M else if w.2.2.2.1 r = 6 then V (pc + 1) ls (.inl (w.2.2.2.2 r : Int) :: st') M else False
    | _ => False
  | .ireturn => match st with
    | .inl x :: [] => if m.2.2.1 = 1 then Qr [.inl x] M else if m.2.2.1 = 2 then bl_ x ∧ Qr [.inl x] M else if m.2.2.1 = 5 then (-128 ≤ x ∧ x ≤ 127) ∧ Qr [.inl x] M else if m.2.2.1 = 6 then (0 ≤ x ∧ x ≤ 65535) ∧ Qr [.inl x] M else False
    | _ => False
  | .lreturn => match st with | .inr (.inl x) :: [] => if m.2.2.1 = 3 then Qr [.inr (.inl x)] M else False | _ => False
  | .areturn => match st with | .inr (.inr x) :: [] => if m.2.2.1 = 4 ∧ x ≠ 1999 then Qr [.inr (.inr x)] M else False | _ => False
  | .return_ => if m.2.2.1 = 0 then (match st with | [] => Qr [] M | _ => False) else False
  | .athrow => match st with | .inr (.inr r) :: _ => if r = 1999 then False else th_ V Qt m.2.2.2 pc ls r M | _ => False
  | .invokevirtual _ => match st[b.toNat - 1]? with
    | some (.inr (.inr r)) => if (fd_ tb r).isSome then cl_ D V Qt m.2.2.2 pc a b.toNat (match tb with | k :: _ => k.2 | _ => 99) ls st M else False
    | _ => False
  | .invokestatic _ => if a = 9001 then (match st with | .inl y :: .inl x :: st' => if st'.length ≤ 8 then V (pc + 3) ls (.inl (if x < y then y else x) :: st') M else False | _ => False)
    else if a = 9002 then (match st with | .inl y :: .inl x :: st' => if st'.length ≤ 8 then V (pc + 3) ls (.inl (if y < x then y else x) :: st') M else False | _ => False)
    else if a = 9003 then (match st with | .inr (.inl y) :: .inr (.inl x) :: st' => if st'.length ≤ 8 then V (pc + 3) ls (.inr (.inl (if y < x then y else x)) :: st') M else False | _ => False)
    else cl_ D V Qt m.2.2.2 pc a b.toNat (match tb with | k :: _ => k.2 | _ => 99) ls st M
  | _ => False
def st_ (w : wd_) (D : ca_) (V : vv_) (Qr : qr_) (Qt : qt_) (m : md_) (pc : Nat) (ls : lo_) (st : List pv_) (M : mm_) : Prop := match lk_ m.1 pc with
  | some e => ex_ w D V Qr Qt m pc e.1 e.2.1 e.2.2.1 e.2.2.2.1 e.2.2.2.2 ls st M
  | none => False
/-- V is closed under the machine's steps -/
def Cl_ (w : wd_) (D : ca_) (V : vv_) (Qr : qr_) (Qt : qt_) (m : md_) : Prop := ∀ pc ls st M, st_ w D V Qr Qt m pc ls st M → V pc ls st M
/-- fewer locals known -/
def lle_ (ls' ls : lo_) : Prop := ls'.length = ls.length ∧ ∀ (k : Nat) (v : pv_), ls'[k]? = some (some v) → ls[k]? = some (some v)
def Wk_ (V : vv_) : Prop := ∀ pc ls ls' st M, lle_ ls' ls → V pc ls' st M → V pc ls st M
def el_ : List pv_ → lo_
  | [] => []
  | .inr (.inl x) :: t => some (.inr (.inl x)) :: none :: el_ t
  | v :: t => some v :: el_ t
def ent_ (args : List pv_) (n : Nat) : lo_ := el_ args ++ List.replicate (n - (el_ args).length) none
/-- what a method does, with so many calls in one another at the most -/
def Tr_ (w : wd_) (P : pg_) : Nat → ca_
  | 0, _, _, _, _, _ => False
  | d + 1, n, args, M, Qr, Qt => (el_ args).length ≤ (P n).2.1 ∧ ∀ V : vv_, Cl_ w (Tr_ w P d) V Qr Qt (P n) → Wk_ V → V 0 (ent_ args (P n).2.1) [] M
def fc_ : List (Nat × List Nat) → Nat → Option (List Nat)
  | [], _ => none
  | q :: t, pc => if q.1 = pc then some q.2 else fc_ t pc
def mk_ : lo_ → List Nat → lo_
  | ls, [] => ls
  | ls, k :: t => mk_ (ls.set k none) t
/-- so many steps at once, up to a place where a stop is wanted (with the locals that are dead there) -/
def bx_ (w : wd_) (D : ca_) (V : vv_) (Qr : qr_) (Qt : qt_) (m : md_) (cuts : List (Nat × List Nat)) : Nat → vv_
  | 0, pc, ls, st, M => V pc ls st M
  | k + 1, pc, ls, st, M => st_ w D (fun pc' ls' st' M' => match fc_ cuts pc' with | some dd => V pc' (mk_ ls' dd) st' M' | none => bx_ w D V Qr Qt m cuts k pc' ls' st' M') Qr Qt m pc ls st M
