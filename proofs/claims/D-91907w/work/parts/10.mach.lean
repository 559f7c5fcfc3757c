/-! THE ABSTRACT MACHINE: the bytecode's fragment as a pure function. Memory: (K, I, R, n, s): the kind of each cell (class number, 0) or (100 + array type, length), its ints, its references, the next cell, the slots used. -/
set_option maxRecDepth 100000
abbrev Mem : Type := (Nat → Nat × Nat) × (Nat → Nat → Int32) × (Nat → Nat → Option Nat) × Nat × Nat
abbrev Lcs : Type := List (Option Value)
abbrev Fr : Type := Nat × Lcs × List Value
/-- next | returned | thrown | a call: method, arguments, the frame behind it -/
abbrev Cmd : Type := (Fr × Mem) ⊕ (Option Value × Mem) ⊕ (Nat × Mem) ⊕ (Nat × List Value × Fr × Mem)
def fu {α : Type} (f : Nat → α) (a : Nat) (v : α) : Nat → α := fun j => bif Nat.beq j a then v else f j
def wr {α : Type} (f : Nat → Nat → α) (a k : Nat) (v : α) : Nat → Nat → α := fun b => bif Nat.beq b a then fu (f b) k v else f b
def lget : Lcs → Nat → Option Value
  | [], _ => none
  | a :: _, 0 => a
  | _ :: L, i + 1 => lget L i
def lset : Lcs → Nat → Option Value → Lcs
  | [], _, _ => []
  | _ :: L, 0, v => v :: L
  | a :: L, i + 1, v => a :: lset L i v
/-- the list's spine is worked out before it goes on -/
def lnorm {β : Type} : Lcs → (Lcs → β) → β
  | [], k => k []
  | a :: L, k => lnorm L (fun L' => k (a :: L'))
def isL (v : Option Value) : Bool := match v with
  | some (.long _) => true
  | some (.double _) => true
  | _ => false
def nx (p : Nat) (L : Lcs) (S : List Value) (m : Mem) : Option Cmd := some (.inl ((p, L, S), m))
def rvl (r : Option Nat) : Value := match r with
  | some a => .ref a
  | none => .null
/-- a place's own start is no second half of the one before it -/
def stOK (L : Lcs) (i : Nat) : Bool := match i with
  | 0 => true
  | j + 1 => !isL (lget L j)
def st1 (L : Lcs) (i : Nat) (v : Value) (k : Lcs → Option Cmd) : Option Cmd :=
  bif stOK L i && Nat.ble (i + 1) L.length then lnorm (lset L i (some v)) k else none
def st2 (L : Lcs) (i : Nat) (v : Value) (k : Lcs → Option Cmd) : Option Cmd :=
  bif stOK L i && Nat.ble (i + 2) L.length then lnorm (lset (lset L i (some v)) (i + 1) none) k else none
def i2 (f : Int32 → Int32 → Int32) (p : Nat) (L : Lcs) (S : List Value) (m : Mem) : Option Cmd := match S with
  | .int y :: .int x :: S => nx p L (.int (f x y) :: S) m
  | _ => none
def l2 (f : Int64 → Int64 → Int64) (p : Nat) (L : Lcs) (S : List Value) (m : Mem) : Option Cmd := match S with
  | .long y :: .long x :: S => nx p L (.long (f x y) :: S) m
  | _ => none
def i1 (f : Int32 → Int32) (p : Nat) (L : Lcs) (S : List Value) (m : Mem) : Option Cmd := match S with
  | .int x :: S => nx p L (.int (f x) :: S) m
  | _ => none
def br (c : Prop) [Decidable c] (t p : Nat) (L : Lcs) (S : List Value) (m : Mem) : Option Cmd := if c then nx t L S m else nx p L S m
def chk (c : Prop) [Decidable c] (r : Option Cmd) : Option Cmd := if c then r else none
def cnd (c : ClassFile.Cond) (x y : Int32) (t p : Nat) (L : Lcs) (S : List Value) (m : Mem) : Option Cmd := match c with
  | .eq => br (x = y) t p L S m
  | .ne => br (¬ x = y) t p L S m
  | .lt => br (x < y) t p L S m
  | .ge => br (y ≤ x) t p L S m
  | .gt => br (y < x) t p L S m
  | .le => br (x ≤ y) t p L S m
/-- classes that are one family by their fields -/
def grp (c : Nat) : Nat := bif Nat.beq c 9 || Nat.beq c 13 || Nat.beq c 14 || Nat.beq c 15 then 8 else c
def isTerm (c : Nat) : Bool := Nat.beq c 8 || Nat.beq c 9 || Nat.beq c 11 || Nat.beq c 12 || Nat.beq c 13 || Nat.beq c 14 || Nat.beq c 15 || Nat.beq c 16 || Nat.beq c 17
/-- which kinds there are facts of -/
def kOK (t : Nat) : Bool := Nat.ble t 109
/-- may an object of kind k lie in an array of kind t -/
def mayLie (t k : Nat) : Bool := bif Nat.beq t 104 then isTerm k else bif Nat.beq t 105 then Nat.beq k 18 else bif Nat.beq t 106 then Nat.beq k 19 else bif Nat.beq t 103 then (isTerm k || Nat.beq k 4 || Nat.beq k 22) else false
def refArr (t : Nat) : Bool := Nat.ble 103 t && Nat.ble t 109
/-- may a reference to a cell of kind k pass a cast to t -/
def mayCast (t k : Nat) : Bool := bif Nat.beq t 8 then isTerm k else (Nat.beq t 4 && Nat.beq k 4) || (Nat.beq t 22 && Nat.beq k 22)
def ofTab (c : Nat) : Option Nat := match c with
  | 8 => some 195
  | 9 => some 195
  | 11 => some 202
  | 12 => some 204
  | 13 => some 195
  | 14 => some 195
  | 15 => some 195
  | 16 => some 212
  | 17 => some 214
  | _ => none
def joinTab (c : Nat) : Option Nat := match c with
  | 8 => some 197
  | 9 => some 199
  | 13 => some 206
  | 14 => some 208
  | 15 => some 210
  | _ => none
/-- the method that runs for a resolved one and a receiver's class -/
def isRow (c : Nat) : Bool := Nat.beq c 8 || Nat.beq c 9 || Nat.beq c 13 || Nat.beq c 14 || Nat.beq c 15
def vtab (c x : Nat) : Option Nat := bif Nat.ble x 899 then (bif Nat.beq (mcl x) 7 then (bif isRow c then some x else none) else (bif Nat.beq c (mcl x) then some x else none)) else bif Nat.beq x 910 then ofTab c else bif Nat.beq x 911 then joinTab c else bif Nat.ble 928 x && Nat.beq x (920 + c) && isRow c then some 193 else none
def popN (b : Nat) (S : List Value) (k : List Value → List Value → Option Cmd) : Option Cmd := match b, S with
  | 0, S => k [] S
  | 1, x1 :: S => k [x1] S
  | 2, x2 :: x1 :: S => k [x1, x2] S
  | 3, x3 :: x2 :: x1 :: S => k [x1, x2, x3] S
  | 4, x4 :: x3 :: x2 :: x1 :: S => k [x1, x2, x3, x4] S
  | 5, x5 :: x4 :: x3 :: x2 :: x1 :: S => k [x1, x2, x3, x4, x5] S
  | _, _ => none
def lcst (a : Nat) : Int64 := bif Nat.beq a 0 then 0 else bif Nat.beq a 1 then 1 else -1
def statv (a : Nat) : Option Value := match a with
  | 0 => some (.int 127)
  | 1 => some (.ref 20)
  | 2 => some (.int 1)
  | 3 => some (.ref 1)
  | 4 => some (.ref 278)
  | 5 => some (.ref 279)
  | 6 => some (.ref 280)
  | _ => none
/-- System.arraycopy between two arrays of references, or of ints, of one kind -/
def cpyf {α : Type} (f g : Nat → α) (sp dp n : Nat) : Nat → α := fun k => if dp ≤ k ∧ k < dp + n then f (sp + (k - dp)) else g k
def lieO (K : Nat → Nat × Nat) (o : Option Nat) : Bool := match o with
  | some v => mayLie 103 (K v).1
  | none => true
def acopy (p : Nat) (L : Lcs) (S : List Value) (m : Mem) : Option Cmd := match S, m with
  | .int n :: .int dp :: .ref d :: .int sp :: .ref q :: S, (K, I, R, nn, s) =>
    match K q, K d with
    | (kq, lq), (kd, ld) =>
      bif Nat.ble 281 d && Nat.ble 281 q && Nat.beq kq kd && (Nat.beq kd 101 || Nat.beq kd 103) && Nat.ble S.length 20 then
        chk (¬ sp < 0 ∧ ¬ dp < 0 ∧ ¬ n < 0 ∧ sp.toNatClampNeg + n.toNatClampNeg ≤ lq ∧ dp.toNatClampNeg + n.toNatClampNeg ≤ ld ∧ ¬ q = d)
          (bif Nat.beq kd 101 then nx p L S (K, fu I d (cpyf (I q) (I d) sp.toNatClampNeg dp.toNatClampNeg n.toNatClampNeg), R, nn, s)
           else chk (∀ i, i < n.toNatClampNeg → lieO K (R q (sp.toNatClampNeg + i)) = true) (nx p L S (K, I, fu R d (cpyf (R q) (R d) sp.toNatClampNeg dp.toNatClampNeg n.toNatClampNeg), nn, s)))
      else none
  | _, _ => none
/-- a new cell -/
def mkc (kd : Nat × Nat) (sl : Nat) (m : Mem) : Mem := match m with
  | (K, I, R, n, s) => (fu K n kd, fu I n (fun _ => 0), fu R n (fun _ => none), n + 1, s + sl)
/-- an array of arrays: k rows of kind t2 of length len, the outer one at o -/
def mkRows (o t2 len : Nat) : Nat → Mem → Mem
  | 0, m => m
  | k + 1, m => match mkRows o t2 len k m with
    | (K, I, R, n, s) => match mkc (t2, len) len (K, I, R, n, s) with
      | (K', I', R', n', s') => (K', I', wr R' o k (some n), n', s')
def fldG (a b : Nat) (isR : Bool) (p : Nat) (L : Lcs) (S : List Value) (m : Mem) : Option Cmd := match S, m with
  | .ref r :: S, (K, I, R, n, s) => match K r with
    | (c, _) => bif Nat.beq (grp c) b then (bif isR then nx p L (rvl (R r a) :: S) (K, I, R, n, s) else nx p L (.int (I r a) :: S) (K, I, R, n, s)) else none
  | _, _ => none
/-- what is put into a byte, a short or a boolean field fits -/
def fitF (g j : Nat) (x : Int32) : Bool :=
  bif Nat.beq g 4 then (bif Nat.ble 3 j then decide (x.toInt16.toInt32 = x) else decide (x.toInt8.toInt32 = x))
  else bif (Nat.beq g 0 && Nat.beq j 7) || (Nat.beq g 18 && Nat.beq j 4) then decide (x = 0 ∨ x = 1) else true
def fldP (a b : Nat) (isR : Bool) (p : Nat) (L : Lcs) (S : List Value) (m : Mem) : Option Cmd := match S, m with
  | v :: .ref r :: S, (K, I, R, n, s) => match K r with
    | (c, _) => bif Nat.beq (grp c) b && Nat.ble 281 r then
        (match v with
          | .int x => bif isR then none else bif fitF b a x then nx p L S (K, wr I r a x, R, n, s) else none
          | .ref v => bif isR then nx p L S (K, I, wr R r a (some v), n, s) else none
          | .null => bif isR then nx p L S (K, I, wr R r a none, n, s) else none
          | _ => none)
      else none
  | _, _ => none
/-- what an int array of kind t keeps of an int -/
def narK (t : Nat) (x : Int32) : Int32 := bif Nat.beq t 101 then x else bif Nat.beq t 100 then x.toInt8.toInt32 else x &&& 1
def ald (t1 t2 : Nat) (p : Nat) (L : Lcs) (S : List Value) (m : Mem) : Option Cmd := match S, m with
  | .int i :: .ref r :: S, (K, I, R, n, s) => match K r with
    | (t, len) => bif Nat.beq t t1 || Nat.beq t t2 then chk (¬ (i < 0 ∨ len ≤ i.toNatClampNeg)) (nx p L (.int (I r i.toNatClampNeg) :: S) (K, I, R, n, s)) else none
  | _, _ => none
def aldR (p : Nat) (L : Lcs) (S : List Value) (m : Mem) : Option Cmd := match S, m with
  | .int i :: .ref r :: S, (K, I, R, n, s) => match K r with
    | (t, len) => bif refArr t then chk (¬ (i < 0 ∨ len ≤ i.toNatClampNeg)) (nx p L (rvl (R r i.toNatClampNeg) :: S) (K, I, R, n, s)) else none
  | _, _ => none
def ast (t1 t2 : Nat) (p : Nat) (L : Lcs) (S : List Value) (m : Mem) : Option Cmd := match S, m with
  | .int x :: .int i :: .ref r :: S, (K, I, R, n, s) => match K r with
    | (t, len) => bif (Nat.beq t t1 || Nat.beq t t2) && Nat.ble 281 r then chk (¬ (i < 0 ∨ len ≤ i.toNatClampNeg)) (nx p L S (K, wr I r i.toNatClampNeg (narK t x), R, n, s)) else none
  | _, _ => none
def astR (p : Nat) (L : Lcs) (S : List Value) (m : Mem) : Option Cmd := match S, m with
  | v :: .int i :: .ref r :: S, (K, I, R, n, s) => match K r with
    | (t, len) => bif Nat.ble 103 t && Nat.ble t 106 && Nat.ble 281 r then
        chk (¬ (i < 0 ∨ len ≤ i.toNatClampNeg)) (match v with
          | .null => nx p L S (K, I, wr R r i.toNatClampNeg none, n, s)
          | .ref q => bif mayLie t (K q).1 then nx p L S (K, I, wr R r i.toNatClampNeg (some q), n, s) else none
          | _ => none)
      else none
  | _, _ => none
def alen (p : Nat) (L : Lcs) (S : List Value) (m : Mem) : Option Cmd := match S, m with
  | .ref r :: S, (K, I, R, n, s) => match K r with
    | (t, len) => bif Nat.ble 100 t && Nat.ble t 109 then nx p L (.int (Int32.ofNat len) :: S) (K, I, R, n, s) else none
  | _, _ => none
def newA (t : Nat) (p : Nat) (L : Lcs) (S : List Value) (m : Mem) : Option Cmd := match S, m with
  | .int x :: S, (K, I, R, n, s) => chk (¬ x < 0 ∧ x.toNatClampNeg ≤ 100000) (nx p L (.ref n :: S) (mkc (t, x.toNatClampNeg) x.toNatClampNeg (K, I, R, n, s)))
  | _, _ => none
def newAA (t t2 : Nat) (p : Nat) (L : Lcs) (S : List Value) (m : Mem) : Option Cmd := match S, m with
  | .int y :: .int x :: S, (K, I, R, n, s) => chk (¬ x < 0 ∧ ¬ y < 0 ∧ 0 < x.toNatClampNeg ∧ x.toNatClampNeg ≤ 1000 ∧ y.toNatClampNeg ≤ 1000)
      (nx p L (.ref n :: S) (mkRows n t2 y.toNatClampNeg x.toNatClampNeg (mkc (t, x.toNatClampNeg) x.toNatClampNeg (K, I, R, n, s))))
  | _, _ => none
def isNo : Option Nat → Bool
  | some _ => false
  | none => true
/-- Throwable's constructor, of a Fault: its cause is itself, its trace and its list are the statics' -/
def thrI (r p : Nat) (L : Lcs) (S : List Value) (m : Mem) : Option Cmd := match m with
  | (K, I, R, n, s) => bif Nat.beq (K r).1 10 && isNo (R r 4) && Nat.ble S.length 20 then nx p L S (K, I, wr (wr (wr (wr R r 0 (some r)) r 1 (some 279)) r 2 (some 280)) r 1 (some 279), n, s) else none
def invV (a b p : Nat) (L : Lcs) (S : List Value) (m : Mem) : Option Cmd :=
  popN b S (fun As S => match S, m with
    | .ref r :: S, (K, I, R, n, s) =>
      bif Nat.beq a 901 then (bif Nat.beq (K r).1 103 && Nat.ble 281 r && Nat.ble S.length 20 then nx p L (.ref 277 :: S) (K, I, R, n, s) else none)
      else bif Nat.beq a 903 then none
      else match vtab (K r).1 a with
        | some z => some (.inr (.inr (.inr (z, .ref r :: As, (p, L, S), (K, I, R, n, s)))))
        | none => none
    | _, _ => none)
def invI (a b p : Nat) (L : Lcs) (S : List Value) (m : Mem) : Option Cmd :=
  popN b S (fun As S => match S with
    | .ref r :: S => bif Nat.ble 281 r then (bif Nat.beq a 900 then (bif Nat.ble S.length 20 then nx p L S m else none) else bif Nat.beq a 906 then thrI r p L S m else some (.inr (.inr (.inr (a, .ref r :: As, (p, L, S), m))))) else none
    | _ => none)
def invS (a b p : Nat) (L : Lcs) (S : List Value) (m : Mem) : Option Cmd :=
  bif Nat.beq a 902 then acopy p L S m else
  bif Nat.beq a 904 then (match S with | .int y :: .int x :: S => bif Nat.ble S.length 20 then nx p L (.int (if x < y then y else x) :: S) m else none | _ => none) else
  bif Nat.beq a 905 then (match S with | .int y :: .int x :: S => bif Nat.ble S.length 20 then nx p L (.int (if y < x then y else x) :: S) m else none | _ => none) else popN b S (fun As S => some (.inr (.inr (.inr (a, As, (p, L, S), m)))))
def lcm (x y : Int64) : Int32 := if x < y then -1 else if x = y then 0 else 1
def swT (pc : Nat) (dflt lo hi : Int) (offs : Array Int) (L : Lcs) (S : List Value) (m : Mem) : Option Cmd := match S with
  | .int x :: S => if x.toInt < lo ∨ hi < x.toInt then nx (((pc : Int) + dflt).toNat) L S m else
      match offs[(x.toInt - lo).toNat]? with
        | some o => nx (((pc : Int) + o).toNat) L S m
        | none => none
  | _ => none
/-- what a method that answers a boolean, a byte, a char may answer -/
def retOK (a : Nat) (x : Int32) : Bool := bif Nat.beq a 0 then true else bif Nat.beq a 1 then (x == 0 || x == 1) else bif Nat.beq a 2 then (x.toInt8.toInt32 == x) else ((x.toUInt32 % 65536).toInt32 == x)
def cmdI (ins : ClassFile.Instr) (p a b : Nat) (c : Int32) (pc : Nat) (L : Lcs) (S : List Value) (m : Mem) : Option Cmd := match ins with
  | .iconst _ => nx p L (.int c :: S) m
  | .bipush _ => nx p L (.int c :: S) m
  | .sipush _ => nx p L (.int c :: S) m
  | .lconst _ => nx p L (.long (lcst a) :: S) m
  | .ldc _ => bif Nat.beq b 0 then nx p L (.int c :: S) m else nx p L (.ref a :: S) m
  | .ldc_w _ => nx p L (.int c :: S) m
  | .ldc2_w _ => nx p L (.long (lcst a) :: S) m
  | .aconst_null => nx p L (.null :: S) m
  | .iload _ => (match lget L a with | some (.int x) => nx p L (.int x :: S) m | _ => none)
  | .iload_n _ => (match lget L a with | some (.int x) => nx p L (.int x :: S) m | _ => none)
  | .lload _ => (match lget L a with | some (.long x) => nx p L (.long x :: S) m | _ => none)
  | .lload_n _ => (match lget L a with | some (.long x) => nx p L (.long x :: S) m | _ => none)
  | .aload _ => (match lget L a with | some (.ref x) => nx p L (.ref x :: S) m | some .null => nx p L (.null :: S) m | _ => none)
  | .aload_n _ => (match lget L a with | some (.ref x) => nx p L (.ref x :: S) m | some .null => nx p L (.null :: S) m | _ => none)
  | .istore _ => (match S with | .int x :: S => st1 L a (.int x) (fun L => nx p L S m) | _ => none)
  | .istore_n _ => (match S with | .int x :: S => st1 L a (.int x) (fun L => nx p L S m) | _ => none)
  | .lstore _ => (match S with | .long x :: S => st2 L a (.long x) (fun L => nx p L S m) | _ => none)
  | .lstore_n _ => (match S with | .long x :: S => st2 L a (.long x) (fun L => nx p L S m) | _ => none)
  | .astore _ => (match S with | .ref x :: S => st1 L a (.ref x) (fun L => nx p L S m) | .null :: S => st1 L a .null (fun L => nx p L S m) | _ => none)
  | .astore_n _ => (match S with | .ref x :: S => st1 L a (.ref x) (fun L => nx p L S m) | .null :: S => st1 L a .null (fun L => nx p L S m) | _ => none)
  | .iinc _ _ => (match lget L a with | some (.int x) => st1 L a (.int (x + c)) (fun L => nx p L S m) | _ => none)
  | .iadd => i2 (fun x y => x + y) p L S m
  | .isub => i2 (fun x y => x - y) p L S m
  | .imul => i2 (fun x y => x * y) p L S m
  | .iand => i2 (fun x y => x &&& y) p L S m
  | .ior => i2 (fun x y => x ||| y) p L S m
  | .ixor => i2 (fun x y => x ^^^ y) p L S m
  | .ishl => i2 (fun x y => x <<< (y &&& 31)) p L S m
  | .ishr => i2 (fun x y => x >>> (y &&& 31)) p L S m
  | .iushr => i2 (fun x y => (x.toUInt32 >>> (y.toUInt32 &&& Int32.toUInt32 31)).toInt32) p L S m
  | .idiv => (match S with | .int y :: .int x :: S => chk (¬ y = 0) (nx p L (.int (x / y) :: S) m) | _ => none)
  | .irem => (match S with | .int y :: .int x :: S => chk (¬ y = 0) (nx p L (.int (x - x / y * y) :: S) m) | _ => none)
  | .ladd => l2 (fun x y => x + y) p L S m
  | .lmul => l2 (fun x y => x * y) p L S m
  | .ldiv => (match S with | .long y :: .long x :: S => chk (¬ y = 0) (nx p L (.long (x / y) :: S) m) | _ => none)
  | .lrem => (match S with | .long y :: .long x :: S => chk (¬ y = 0) (nx p L (.long (x - x / y * y) :: S) m) | _ => none)
  | .lshl => (match S with | .int y :: .long x :: S => nx p L (.long (x <<< (y.toInt64 &&& 63)) :: S) m | _ => none)
  | .lcmp => (match S with | .long y :: .long x :: S => nx p L (.int (lg_cmp x y) :: S) m | _ => none)
  | .i2l => (match S with | .int x :: S => nx p L (.long x.toInt64 :: S) m | _ => none)
  | .i2b => i1 (fun x => x.toInt8.toInt32) p L S m
  | .i2s => i1 (fun x => x.toInt16.toInt32) p L S m
  | .i2c => i1 (fun x => (x.toUInt32 % 65536).toInt32) p L S m
  | .dup => (match S with | .int x :: S => nx p L (.int x :: .int x :: S) m | .ref x :: S => nx p L (.ref x :: .ref x :: S) m | _ => none)
  | .dup2 => (match S with | .int x :: .ref y :: S => nx p L (.int x :: .ref y :: .int x :: .ref y :: S) m | _ => none)
  | .dup_x1 => (match S with | .int x :: .ref y :: S => nx p L (.int x :: .ref y :: .int x :: S) m | .ref x :: .ref y :: S => nx p L (.ref x :: .ref y :: .ref x :: S) m | _ => none)
  | .pop => (match S with | .int _ :: S => nx p L S m | .ref _ :: S => nx p L S m | .null :: S => nx p L S m | _ => none)
  | .ifCond k _ => (match S with | .int x :: S => cnd k x 0 a p L S m | _ => none)
  | .if_icmp k _ => (match S with | .int y :: .int x :: S => cnd k x y a p L S m | _ => none)
  | .if_acmp k _ => (match S with
      | .ref y :: .ref x :: S => bif Nat.beq x y then (match k with | .eq => nx a L S m | .ne => nx p L S m) else none
      | _ => none)
  | .ifnull _ => (match S with | .ref r :: S => (match m with | (K, I, R, n, s) => bif kOK (K r).1 then nx p L S (K, I, R, n, s) else none) | .null :: S => nx a L S m | _ => none)
  | .ifnonnull _ => (match S with | .ref r :: S => (match m with | (K, I, R, n, s) => bif kOK (K r).1 then nx a L S (K, I, R, n, s) else none) | .null :: S => nx p L S m | _ => none)
  | .goto _ => nx a L S m
  | .tableswitch d lo hi o => swT pc d lo hi o L S m
  | .lookupswitch d ps => (match S with | .int x :: S => nx (((pc : Int) + Op.lookupswitch.offset ps.toList d x.toInt).toNat) L S m | _ => none)
  | .getfield _ => fldG a b (c == 1) p L S m
  | .putfield _ => fldP a b (c == 1) p L S m
  | .getstatic _ => (match statv a with | some v => nx p L (v :: S) m | none => none)
  | .iaload => ald 101 101 p L S m
  | .baload => ald 100 102 p L S m
  | .aaload => aldR p L S m
  | .iastore => ast 101 101 p L S m
  | .bastore => ast 100 102 p L S m
  | .aastore => astR p L S m
  | .arraylength => alen p L S m
  | .newarray _ => newA a p L S m
  | .anewarray _ => newA a p L S m
  | .multianewarray _ _ => newAA a b p L S m
  | .new _ => (match m with | (K, I, R, n, s) => nx p L (.ref n :: S) (mkc (a, 0) b (K, I, R, n, s)))
  | .checkcast _ => (match S, m with
      | .null :: S, m => nx p L (.null :: S) m
      | .ref r :: S, (K, I, R, n, s) => bif mayCast a (K r).1 then nx p L (.ref r :: S) (K, I, R, n, s) else none
      | _, _ => none)
  | .invokevirtual _ => invV a b p L S m
  | .invokespecial _ => invI a b p L S m
  | .invokestatic _ => invS a b p L S m
  | .athrow => (match S, m with | .ref r :: _, (K, I, R, n, s) => (bif Nat.beq (K r).1 10 && Nat.ble 281 r then some (.inr (.inr (.inl (r, (K, I, R, n, s))))) else none) | _, _ => none)
  | .ireturn => (match S with | [.int x] => bif retOK a x then some (.inr (.inl (some (.int x), m))) else none | _ => none)
  | .lreturn => (match S with | [.long x] => some (.inr (.inl (some (.long x), m))) | _ => none)
  | .areturn => (match S with | [.ref x] => some (.inr (.inl (some (.ref x), m))) | [.null] => some (.inr (.inl (some .null, m))) | _ => none)
  | .return_ => (match S with | [] => some (.inr (.inl (none, m))) | _ => none)
  | _ => none
noncomputable def cmd (y pc : Nat) (L : Lcs) (S : List Value) (m : Mem) : Option Cmd := match code_of y pc with
  | some (ins, p, a, b, c) => cmdI ins p a b c pc L S m
  | none => none
def hnd (y pc c : Nat) : Option Nat := bif Nat.beq y 47 && Nat.beq c 10 && Nat.ble 24 pc && Nat.ble pc 49 then some 57 else none
def lnone : Nat → Lcs
  | 0 => []
  | n + 1 => none :: lnone n
def entL : List Value → Nat → Lcs
  | [], n => lnone n
  | .long x :: vs, n => some (.long x) :: none :: entL vs (n - 2)
  | .double x :: vs, n => some (.double x) :: none :: entL vs (n - 2)
  | v :: vs, n => some v :: entL vs (n - 1)
abbrev Res : Type := (Option Value ⊕ Nat) × Mem
def pushV (v : Option Value) (S : List Value) : List Value := match v with
  | some v => v :: S
  | none => S
noncomputable def exec : Nat → Nat → Nat → Nat → Lcs → List Value → Mem → Option Res
  | 0, _, _, _, _, _, _ => none
  | f + 1, d, y, pc, L, S, m => match cmd y pc L S m with
    | none => none
    | some (.inl ((p, L', S'), m')) => exec f d y p L' S' m'
    | some (.inr (.inl (v, m'))) => some (.inl v, m')
    | some (.inr (.inr (.inl (a, m')))) => (match hnd y pc (m'.1 a).1 with
      | some pc' => exec f d y pc' L [.ref a] m'
      | none => some (.inr a, m'))
    | some (.inr (.inr (.inr (z, As, (p, L', S'), m')))) => (match d with
      | 0 => none
      | d' + 1 => bif Nat.ble S'.length 4 && Nat.beq (entL As (mxl z)).length (mxl z) then (match exec f d' z 0 (entL As (mxl z)) [] m' with
        | none => none
        | some (.inl v, m2) => exec f (d' + 1) y p L' (pushV v S') m2
        | some (.inr a, m2) => bif Nat.beq z 47 then none else (match hnd y pc (m2.1 a).1 with
          | some pc' => exec f (d' + 1) y pc' L [.ref a] m2
          | none => some (.inr a, m2))) else none)
def Go (d y pc : Nat) (L : Lcs) (S : List Value) (m : Mem) (Q : Res → Prop) : Prop := ∃ f r, exec f d y pc L S m = some r ∧ Q r
def Ev (d z : Nat) (As : List Value) (m : Mem) (Q : Res → Prop) : Prop := Go d z 0 (entL As (mxl z)) [] m Q
noncomputable def run (y : Nat) : Nat → Nat → Lcs → List Value → Mem → Option (Fr × Mem)
  | 0, p, L, S, m => some ((p, L, S), m)
  | n + 1, pc, L, S, m => match cmd y pc L S m with
    | some (.inl ((p, L', S'), m')) => run y n p L' S' m'
    | _ => none
theorem exec_succ : ∀ (f d y pc : Nat) (L : Lcs) (S : List Value) (m : Mem) (r : Res), exec f d y pc L S m = some r → exec (f + 1) d y pc L S m = some r := by
  intro f
  induction f with
  | zero => intro d y pc L S m r h; simp [exec] at h
  | succ f ih =>
    intro d y pc L S m r h
    rw [exec] at h ⊢
    cases hc : cmd y pc L S m with
    | none => rw [hc] at h; cases h
    | some c =>
      rw [hc] at h
      match c, h with
      | .inl ((p, L', S'), m'), h => exact ih _ _ _ _ _ _ _ h
      | .inr (.inl (v, m')), h => exact h
      | .inr (.inr (.inl (a, m'))), h =>
        dsimp only at h ⊢
        cases hh : hnd y pc (m'.1 a).1 with
        | none => rw [hh] at h; exact h
        | some pc' => rw [hh] at h; exact ih _ _ _ _ _ _ _ h
      | .inr (.inr (.inr (z, As, (p, L', S'), m'))), h =>
        cases d with
        | zero => cases h
        | succ d' =>
          dsimp only at h ⊢
          cases hl : (Nat.ble S'.length 4 && Nat.beq (entL As (mxl z)).length (mxl z)) with
          | false => rw [hl] at h; cases h
          | true =>
            rw [hl] at h
            dsimp only [cond] at h ⊢
            cases he : exec f d' z 0 (entL As (mxl z)) [] m' with
            | none => rw [he] at h; cases h
            | some q =>
              rw [he] at h
              rw [ih _ _ _ _ _ _ _ he]
              obtain ⟨o, m2⟩ := q
              cases o with
              | inl v => exact ih _ _ _ _ _ _ _ h
              | inr a =>
                dsimp only at h ⊢
                cases hz : Nat.beq z 47 with
                | true => rw [hz] at h; cases h
                | false =>
                rw [hz] at h
                dsimp only [cond] at h ⊢
                cases hh : hnd y pc (m2.1 a).1 with
                | none => rw [hh] at h; exact h
                | some pc' => rw [hh] at h; exact ih _ _ _ _ _ _ _ h
theorem exec_le {f g d y pc : Nat} {L : Lcs} {S : List Value} {m : Mem} {r : Res} (h : f ≤ g) (e : exec f d y pc L S m = some r) : exec g d y pc L S m = some r := by
  induction h with
  | refl => exact e
  | step _ ih => exact exec_succ _ _ _ _ _ _ _ _ ih
section GO
variable {d y pc p t : Nat} {L L' : Lcs} {S S' : List Value} {m m' m1 m2 : Mem} {Q : Res → Prop}
theorem go_nx (h : cmd y pc L S m = some (.inl ((p, L', S'), m'))) (k : Go d y p L' S' m' Q) : Go d y pc L S m Q := by
  obtain ⟨f, r, e, q⟩ := k
  exact ⟨f + 1, r, by rw [exec, h]; exact e, q⟩
theorem go_run (n : Nat) (h : run y n pc L S m = some ((p, L', S'), m')) (k : Go d y p L' S' m' Q) : Go d y pc L S m Q := by
  induction n generalizing pc L S m with
  | zero => rw [run] at h; cases h; exact k
  | succ n ih =>
    rw [run] at h
    split at h
    · rename_i p1 L1 S1 m1 hc
      exact go_nx hc (ih h)
    · cases h
theorem go_rtb {v : Option Value} {c : Bool} (h : cmd y pc L S m = bif c then some (.inr (.inl (v, m'))) else none) (hc : c = true) (k : Q (.inl v, m')) : Go d y pc L S m Q := by
  rw [hc] at h
  exact ⟨1, _, by rw [exec, h]; rfl, k⟩
theorem go_bif {c : Bool} (h : cmd y pc L S m = bif c then some (.inl ((p, L', S'), m1)) else none) (hc : c = true) (k : Go d y p L' S' m1 Q) : Go d y pc L S m Q := by
  rw [hc] at h
  exact go_nx h k
/-- n steps, then a branch -/
theorem go_br {c : Prop} [i : Decidable c] (h : cmd y pc L S m = br c t p L' S' m1) (k1 : c → Go d y t L' S' m1 Q) (k2 : ¬ c → Go d y p L' S' m1 Q) : Go d y pc L S m Q := by
  unfold br at h
  by_cases hc : c
  · rw [if_pos hc] at h
    exact go_nx h (k1 hc)
  · rw [if_neg hc] at h
    exact go_nx h (k2 hc)
theorem go_chk {c : Prop} [i : Decidable c] (h : cmd y pc L S m = chk c (some (.inl ((p, L', S'), m1)))) (hc : c) (k : Go d y p L' S' m1 Q) : Go d y pc L S m Q := by
  unfold chk at h
  rw [if_pos hc] at h
  exact go_nx h k
theorem go_ret {v : Option Value} (h : cmd y pc L S m = some (.inr (.inl (v, m')))) (k : Q (.inl v, m')) : Go d y pc L S m Q := ⟨1, _, by rw [exec, h], k⟩
theorem go_thr {a : Nat} (h : cmd y pc L S m = some (.inr (.inr (.inl (a, m'))))) (hh : hnd y pc (m'.1 a).1 = none) (k : Q (.inr a, m')) : Go d y pc L S m Q := ⟨1, _, by rw [exec, h]; dsimp only; rw [hh], k⟩
theorem go_call {z : Nat} {As : List Value} {P : Res → Prop} (h : cmd y pc L S m = some (.inr (.inr (.inr (z, As, (p, L', S'), m'))))) (hs : (Nat.ble S'.length 4 && Nat.beq (entL As (mxl z)).length (mxl z)) = true) (e : Ev d z As m' P)
    (k1 : ∀ v m2, P (.inl v, m2) → Go (d + 1) y p L' (pushV v S') m2 Q) (k2 : ∀ a m2, P (.inr a, m2) → Nat.beq z 47 = false ∧ (match hnd y pc (m2.1 a).1 with | some pc' => Go (d + 1) y pc' L [.ref a] m2 Q | none => Q (.inr a, m2))) : Go (d + 1) y pc L S m Q := by
  obtain ⟨f, r, e1, p⟩ := e
  obtain ⟨o, mm⟩ := r
  cases o with
  | inl v =>
    obtain ⟨g, r, e2, q⟩ := k1 v mm p
    refine ⟨max f g + 1, r, ?_, q⟩
    rw [exec, h]
    dsimp only
    rw [hs, exec_le (Nat.le_max_left f g) e1]
    exact exec_le (Nat.le_max_right f g) e2
  | inr a =>
    obtain ⟨hz, k⟩ := k2 a mm p
    cases hh : hnd y pc (mm.1 a).1 with
    | none =>
      rw [hh] at k
      refine ⟨f + 1, _, ?_, k⟩
      rw [exec, h]
      dsimp only
      rw [hs, e1]
      dsimp only [cond]
      rw [hz]
      dsimp only
      rw [hh]
    | some pc' =>
      rw [hh] at k
      obtain ⟨g, r, e2, q⟩ := k
      refine ⟨max f g + 1, r, ?_, q⟩
      rw [exec, h]
      dsimp only
      rw [hs, exec_le (Nat.le_max_left f g) e1]
      dsimp only [cond]
      rw [hz]
      dsimp only
      rw [hh]
      exact exec_le (Nat.le_max_right f g) e2
/-- what a call that returns says -/
def Rt (P : Option Value → Mem → Prop) : Res → Prop := fun r => match r.1 with
  | .inl v => P v r.2
  | .inr _ => False
/-- a call that returns -/
theorem go_c {z : Nat} {As : List Value} {P : Option Value → Mem → Prop} (h : cmd y pc L S m = some (.inr (.inr (.inr (z, As, (p, L', S'), m'))))) (hs : (Nat.ble S'.length 4 && Nat.beq (entL As (mxl z)).length (mxl z)) = true) (e : Ev d z As m' (Rt P))
    (k1 : ∀ v m2, P v m2 → Go (d + 1) y p L' (pushV v S') m2 Q) : Go (d + 1) y pc L S m Q :=
  go_call h hs e (fun v m2 hp => k1 _ _ hp) (fun a m2 hp => hp.elim)
/-- one answer, one memory -/
def Is (v : Option Value) (m : Mem) : Option Value → Mem → Prop := fun v' m' => v' = v ∧ m' = m
theorem go_f {z : Nat} {As : List Value} {v : Option Value} (h : cmd y pc L S m = some (.inr (.inr (.inr (z, As, (p, L', S'), m'))))) (hs : (Nat.ble S'.length 4 && Nat.beq (entL As (mxl z)).length (mxl z)) = true) (e : Ev d z As m' (Rt (Is v m2)))
    (k1 : Go (d + 1) y p L' (pushV v S') m2 Q) : Go (d + 1) y pc L S m Q :=
  go_c h hs e (fun v m2 hp => by obtain ⟨rfl, rfl⟩ := hp; exact k1)
theorem go_post {P : Res → Prop} (h : Go d y pc L S m P) (hq : ∀ r, P r → Q r) : Go d y pc L S m Q := by
  obtain ⟨f, r, e, p⟩ := h
  exact ⟨f, r, e, hq r p⟩
theorem ev_in {z : Nat} {As : List Value} (h : lnorm (entL As (mxl z)) some = some L) (k : Go d z 0 L [] m Q) : Ev d z As m Q := by
  have e : ∀ (l : Lcs) (g : Lcs → Option Lcs), lnorm l g = g l := by
    intro l
    induction l with
    | nil => intro g; rfl
    | cons a l ih => intro g; rw [lnorm, ih]
  rw [e] at h
  cases h
  exact k
end GO
