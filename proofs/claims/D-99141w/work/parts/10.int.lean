/-! ===== THE INTERPRETER: bytecode over an abstract heap. Ints are mathematical; pointers: 0 null, 1.. made since the law began, negative: cells that stood before ===== -/
abbrev AV : Type := Int ⊕ (Int ⊕ Int)
abbrev vI (z : Int) : AV := .inl z
abbrev vL (z : Int) : AV := .inr (.inl z)
abbrev vR (z : Int) : AV := .inr (.inr z)
/-- contents, tags (object of class number t - 1 where t > 0; array kind t < 0 with its length), the next pointer, slots used -/
abbrev AH : Type := (Int → Int → Int) × (Int → Int × Int) × Int × Int
abbrev ALoc : Type := List (Option AV)
abbrev AStk : Type := List AV
abbrev AOut : Type := Option AV ⊕ Int
abbrev ARes : Type := AOut × AH
abbrev AI : Type := Instr × Int × Int × List (Int × Int)
def ah_m (h : AH) (a k : Int) : Int := h.1 a k
def ah_t (h : AH) (a : Int) : Int × Int := h.2.1 a
def ah_n (h : AH) : Int := h.2.2.1
def ah_s (h : AH) : Int := h.2.2.2
def ah_w (h : AH) (a k z : Int) : AH := (fun x y => if x = a ∧ y = k then z else h.1 x y, h.2)
def ah_new (h : AH) (t : Int × Int) (N : Int) : AH := (fun x y => if x = h.2.2.1 then 0 else h.1 x y, fun x => if x = h.2.2.1 then t else h.2.1 x, h.2.2.1 + 1, h.2.2.2 + N)
/-- a row of the contents written anew -/
def ah_row (h : AH) (a : Int) (f : Int → Int) : AH := (fun x y => if x = a then f y else h.1 x y, h.2)
def w32 (z : Int) : Int := (z + 2147483648) % 4294967296 - 2147483648
def w64 (z : Int) : Int := (z + 9223372036854775808) % 18446744073709551616 - 9223372036854775808
def w8 (z : Int) : Int := (z + 128) % 256 - 128
def w16 (z : Int) : Int := z % 65536
def iand_ (a b : Int) : Int := (Int32.ofInt a &&& Int32.ofInt b).toInt
def ior_ (a b : Int) : Int := (Int32.ofInt a ||| Int32.ofInt b).toInt
def lxor_ (a b : Int) : Int := (Int64.ofInt a ^^^ Int64.ofInt b).toInt
def ishl_ (a b : Int) : Int := (Int32.ofInt a <<< (Int32.ofInt b &&& 31)).toInt
def ishr_ (a b : Int) : Int := (Int32.ofInt a >>> (Int32.ofInt b &&& 31)).toInt
def iushr_ (a b : Int) : Int := (((Int32.ofInt a).toUInt32 >>> ((Int32.ofInt b).toUInt32 &&& Int32.toUInt32 31)).toInt32).toInt
def lcmp_ (a b : Int) : Int := if a < b then -1 else if a = b then 0 else 1
def lget : ALoc → Nat → Option AV
  | [], _ => none
  | x :: _, 0 => x
  | _ :: L, i + 1 => lget L i
def lkill : Option AV → Option AV
  | some (.inr (.inl _)) => none
  | x => x
def lst1 : ALoc → Nat → AV → ALoc
  | [], 0, v => [some v]
  | [], i + 1, v => none :: lst1 [] i v
  | _ :: L, 0, v => some v :: L
  | x :: L, 1, v => lkill x :: lst1 L 0 v
  | x :: L, i + 2, v => x :: lst1 L (i + 1) v
def lst2 : ALoc → Nat → AV → ALoc
  | [], 0, v => [some v, none]
  | [], i + 1, v => none :: lst2 [] i v
  | [_], 0, v => [some v, none]
  | _ :: _ :: L, 0, v => some v :: none :: L
  | x :: L, 1, v => lkill x :: lst2 L 0 v
  | x :: L, i + 2, v => x :: lst2 L (i + 1) v
def lent : List AV → ALoc
  | [] => []
  | .inr (.inl z) :: as => some (.inr (.inl z)) :: none :: lent as
  | v :: as => some v :: lent as
def asc : List (Int × Int) → Int → Option Int
  | [], _ => none
  | (a, b) :: t, x => if x = a then some b else asc t x
def cnd : Jvm.ClassFile.Cond → Int → Int → Bool
  | .eq, x, y => decide (x = y)
  | .ne, x, y => decide (x ≠ y)
  | .lt, x, y => decide (x < y)
  | .ge, x, y => decide (y ≤ x)
  | .gt, x, y => decide (y < x)
  | .le, x, y => decide (x ≤ y)
def popN : Nat → AStk → List AV → Option (List AV × AStk)
  | 0, st, acc => some (acc, st)
  | n + 1, v :: st, acc => popN n st (v :: acc)
  | _ + 1, [], _ => none
/-- a value read of kind kd: 0 an int, 1 a long, 2 a reference -/
def ofK (kd : Int) (z : Int) : AV := if kd = 0 then .inl z else if kd = 1 then .inr (.inl z) else .inr (.inr z)
/-- what may be stored: 0 int, 1 long, 2 reference, 3 boolean, 4 byte -/
def toK (kd : Int) (v : AV) : Option Int := match v with
  | .inl z => if kd = 0 then some z else if kd = 3 then (if z = 0 ∨ z = 1 then some z else none) else if kd = 4 then (if -128 ≤ z ∧ z < 128 then some z else none) else none
  | .inr (.inl z) => if kd = 1 then some z else none
  | .inr (.inr z) => if kd = 2 then some z else none
def ld0 (L : ALoc) (i : Nat) (st : AStk) (h : AH) : Option (ALoc × AStk × AH) := match lget L i with
  | some (.inl z) => some (L, .inl z :: st, h)
  | _ => none
def ld1 (L : ALoc) (i : Nat) (st : AStk) (h : AH) : Option (ALoc × AStk × AH) := match lget L i with
  | some (.inr (.inl z)) => some (L, .inr (.inl z) :: st, h)
  | _ => none
def ld2 (L : ALoc) (i : Nat) (st : AStk) (h : AH) : Option (ALoc × AStk × AH) := match lget L i with
  | some (.inr (.inr z)) => some (L, .inr (.inr z) :: st, h)
  | _ => none
def st0 (L : ALoc) (i : Nat) (st : AStk) (h : AH) : Option (ALoc × AStk × AH) := match st with
  | .inl z :: st => some (lst1 L i (.inl z), st, h)
  | _ => none
def st1 (L : ALoc) (i : Nat) (st : AStk) (h : AH) : Option (ALoc × AStk × AH) := match st with
  | .inr (.inl z) :: st => some (lst2 L i (.inr (.inl z)), st, h)
  | _ => none
def st2 (L : ALoc) (i : Nat) (st : AStk) (h : AH) : Option (ALoc × AStk × AH) := match st with
  | .inr (.inr z) :: st => some (lst1 L i (.inr (.inr z)), st, h)
  | _ => none
def bI (f : Int → Int → Int) (L : ALoc) (st : AStk) (h : AH) : Option (ALoc × AStk × AH) := match st with
  | .inl y :: .inl x :: st => some (L, .inl (f x y) :: st, h)
  | _ => none
def bL (f : Int → Int → Int) (L : ALoc) (st : AStk) (h : AH) : Option (ALoc × AStk × AH) := match st with
  | .inr (.inl y) :: .inr (.inl x) :: st => some (L, .inr (.inl (f x y)) :: st, h)
  | _ => none
/-- an array's element of the array kind ta, the value's kind kd -/
def aLd (ta kd : Int) (L : ALoc) (st : AStk) (h : AH) : Option (ALoc × AStk × AH) := match st with
  | .inl i :: .inr (.inr z) :: st => if (ah_t h z).1 = ta ∧ 0 ≤ i ∧ i < (ah_t h z).2 then some (L, ofK kd (ah_m h z i) :: st, h) else none
  | _ => none
def aSt (ta kd : Int) (f : Int → Int) (L : ALoc) (st : AStk) (h : AH) : Option (ALoc × AStk × AH) := match st with
  | v :: .inl i :: .inr (.inr z) :: st => match toK kd v with
    | some x => if 0 < z ∧ (ah_t h z).1 = ta ∧ 0 ≤ i ∧ i < (ah_t h z).2 then some (L, st, ah_w h z i (f x)) else none
    | none => none
  | _ => none
def arrT : ArrayType → Int
  | .int => -1
  | .byte => -2
  | .char => -3
  | .long => -4
  | .short => -5
  | .boolean => -6
  | _ => 0
def sem1 (x : AI) (L : ALoc) (st : AStk) (h : AH) : Option (ALoc × AStk × AH) := match x with
  | (i, a, b, t) => match i with
    | .iconst _ => some (L, .inl a :: st, h)
    | .bipush _ => some (L, .inl a :: st, h)
    | .sipush _ => some (L, .inl a :: st, h)
    | .lconst _ => some (L, .inr (.inl a) :: st, h)
    | .ldc2_w _ => some (L, .inr (.inl a) :: st, h)
    | .aconst_null => some (L, .inr (.inr 0) :: st, h)
    | .ldc _ => some (L, ofK b a :: st, h)
    | .ldc_w _ => some (L, ofK b a :: st, h)
    | .getstatic _ => some (L, ofK b a :: st, h)
    | .iload_n k => ld0 L k st h
    | .iload k => ld0 L k st h
    | .lload_n k => ld1 L k st h
    | .lload k => ld1 L k st h
    | .aload_n k => ld2 L k st h
    | .aload k => ld2 L k st h
    | .istore_n k => st0 L k st h
    | .istore k => st0 L k st h
    | .lstore_n k => st1 L k st h
    | .lstore k => st1 L k st h
    | .astore_n k => st2 L k st h
    | .astore k => st2 L k st h
    | .iinc k n => match lget L k with
      | some (.inl z) => some (lst1 L k (.inl (w32 (z + n))), st, h)
      | _ => none
    | .dup => match st with
      | .inl z :: st => some (L, .inl z :: .inl z :: st, h)
      | .inr (.inr z) :: st => some (L, .inr (.inr z) :: .inr (.inr z) :: st, h)
      | _ => none
    | .dup_x1 => match st with
      | .inl z :: .inr (.inr y) :: st => some (L, .inl z :: .inr (.inr y) :: .inl z :: st, h)
      | .inr (.inr z) :: .inr (.inr y) :: st => some (L, .inr (.inr z) :: .inr (.inr y) :: .inr (.inr z) :: st, h)
      | _ => none
    | .dup2 => match st with
      | .inl z :: .inr (.inr y) :: st => some (L, .inl z :: .inr (.inr y) :: .inl z :: .inr (.inr y) :: st, h)
      | _ => none
    | .pop => match st with
      | .inl _ :: st => some (L, st, h)
      | .inr (.inr _) :: st => some (L, st, h)
      | _ => none
    | .iadd => bI (fun x y => w32 (x + y)) L st h
    | .isub => bI (fun x y => w32 (x - y)) L st h
    | .imul => bI (fun x y => w32 (x * y)) L st h
    | .iand => bI iand_ L st h
    | .ior => bI ior_ L st h
    | .ishl => bI ishl_ L st h
    | .ishr => bI ishr_ L st h
    | .iushr => bI iushr_ L st h
    | .idiv => match st with
      | .inl y :: .inl x :: st => if y = 0 then none else some (L, .inl (w32 (x.tdiv y)) :: st, h)
      | _ => none
    | .irem => match st with
      | .inl y :: .inl x :: st => if y = 0 then none else some (L, .inl (x.tmod y) :: st, h)
      | _ => none
    | .ineg => match st with
      | .inl x :: st => some (L, .inl (w32 (-x)) :: st, h)
      | _ => none
    | .ladd => bL (fun x y => w64 (x + y)) L st h
    | .lsub => bL (fun x y => w64 (x - y)) L st h
    | .lmul => bL (fun x y => w64 (x * y)) L st h
    | .lxor => bL lxor_ L st h
    | .ldiv => match st with
      | .inr (.inl y) :: .inr (.inl x) :: st => if y = 0 then none else some (L, .inr (.inl (w64 (x.tdiv y))) :: st, h)
      | _ => none
    | .lrem => match st with
      | .inr (.inl y) :: .inr (.inl x) :: st => if y = 0 then none else some (L, .inr (.inl (x.tmod y)) :: st, h)
      | _ => none
    | .lcmp => match st with
      | .inr (.inl y) :: .inr (.inl x) :: st => some (L, .inl (lcmp_ x y) :: st, h)
      | _ => none
    | .i2l => match st with
      | .inl x :: st => some (L, .inr (.inl x) :: st, h)
      | _ => none
    | .l2i => match st with
      | .inr (.inl x) :: st => some (L, .inl (w32 x) :: st, h)
      | _ => none
    | .i2b => match st with
      | .inl x :: st => some (L, .inl (w8 x) :: st, h)
      | _ => none
    | .i2c => match st with
      | .inl x :: st => some (L, .inl (w16 x) :: st, h)
      | _ => none
    | .getfield _ => match st with
      | .inr (.inr z) :: st => match asc t (ah_t h z).1 with
        | some k => some (L, ofK a (ah_m h z k) :: st, h)
        | none => none
      | _ => none
    | .putfield _ => match st with
      | v :: .inr (.inr z) :: st => match asc t (ah_t h z).1, toK a v with
        | some k, some x => if 0 < z then some (L, st, ah_w h z k x) else none
        | _, _ => none
      | _ => none
    | .new _ => some (L, .inr (.inr (ah_n h)) :: st, ah_new h (a, 0) b.toNat)
    | .newarray ty => match st with
      | .inl n :: st => if 0 ≤ n ∧ n ≤ 100000 then some (L, .inr (.inr (ah_n h)) :: st, ah_new h (arrT ty, n) n) else none
      | _ => none
    | .anewarray _ => match st with
      | .inl n :: st => if 0 ≤ n ∧ n ≤ 100000 then some (L, .inr (.inr (ah_n h)) :: st, ah_new h (a, n) n) else none
      | _ => none
    | .arraylength => match st with
      | .inr (.inr z) :: st => if (ah_t h z).1 < 0 then some (L, .inl (ah_t h z).2 :: st, h) else none
      | _ => none
    | .iaload => aLd (-1) 0 L st h
    | .baload => aLd (-2) 0 L st h
    | .caload => aLd (-3) 0 L st h
    | .laload => aLd (-4) 1 L st h
    | .aaload => aLd a 2 L st h
    | .iastore => aSt (-1) 0 (fun x => x) L st h
    | .bastore => aSt (-2) 0 w8 L st h
    | .castore => aSt (-3) 0 w16 L st h
    | .lastore => aSt (-4) 1 (fun x => x) L st h
    | .aastore => match st with
      | .inr (.inr x) :: .inl i :: .inr (.inr z) :: st => match asc t (ah_t h x).1 with
        | some _ => if 0 < z ∧ (ah_t h z).1 = a ∧ 0 ≤ i ∧ i < (ah_t h z).2 then some (L, st, ah_w h z i x) else none
        | none => none
      | _ => none
    | .checkcast _ => match st with
      | .inr (.inr z) :: st => match asc t (ah_t h z).1 with
        | some _ => some (L, .inr (.inr z) :: st, h)
        | none => none
      | _ => none
    | .instanceof _ => match st with
      | .inr (.inr z) :: st => match asc t (ah_t h z).1 with
        | some r => some (L, .inl r :: st, h)
        | none => none
      | _ => none
    | .multianewarray _ _ => match st with
      | .inl n :: .inl k :: st => if 0 ≤ n ∧ n ≤ 1000 ∧ 0 ≤ k ∧ k ≤ 1000 then
          some (L, .inr (.inr (ah_n h)) :: st,
            (fun x y => if x = h.2.2.1 then (if 0 ≤ y ∧ y < k then h.2.2.1 + 1 + y else 0) else if h.2.2.1 ≤ x then 0 else h.1 x y,
             fun x => if x = h.2.2.1 then (a, k) else if h.2.2.1 < x ∧ x ≤ h.2.2.1 + k then (-1, n) else h.2.1 x,
             h.2.2.1 + 1 + k, h.2.2.2 + k + k * n)) else none
      | _ => none
    | _ => none
/-- words of the pile -/
def stw : AStk → Nat
  | [] => 0
  | .inr (.inl _) :: st => stw st + 2
  | _ :: st => stw st + 1
/-- System.arraycopy between arrays of one kind -/
def semCopy (t : List (Int × Int)) (L : ALoc) (st : AStk) (h : AH) : Option (ALoc × AStk × AH) := match st with
  | .inl n :: .inl dp :: .inr (.inr y) :: .inl sp :: .inr (.inr x) :: st =>
    if 0 < x ∧ 0 < y ∧ x ≠ y ∧ ((ah_t h x).1 = -2 ∨ ((ah_t h x).1 = -10 ∧ (List.range n.toNat).all (fun i => ah_m h x (sp + i) == 0 || (asc t (ah_t h (ah_m h x (sp + i))).1).isSome) = true)) ∧ (ah_t h x).1 = (ah_t h y).1 ∧ 0 ≤ n ∧ 0 ≤ sp ∧ 0 ≤ dp ∧ sp + n ≤ (ah_t h x).2 ∧ dp + n ≤ (ah_t h y).2 ∧ stw st ≤ 8 then
      some (L, st, ah_row h y (fun j => if dp ≤ j ∧ j < dp + n then ah_m h x (sp + (j - dp)) else ah_m h y j)) else none
  | _ => none
def after (recB : Nat → ALoc → AStk → AH → Option ARes) (k : ALoc → AStk → AH → Option ARes) (a : Int) (L : ALoc) (st : AStk) : Option ARes → Option ARes
  | none => none
  | some (.inl none, h) => k L st h
  | some (.inl (some v), h) => k L (v :: st) h
  | some (.inr z, h) => if a = 0 then some (.inr z, h) else if a < 0 then none else recB a.toNat L [.inr (.inr z)] h
def okRet (a z : Int) : Prop := a = 0 ∨ (a = 1 ∧ (z = 0 ∨ z = 1)) ∨ (a = 2 ∧ 0 ≤ z ∧ z < 65536) ∨ (a = 3 ∧ -128 ≤ z ∧ z < 128)
def exL (recB : Nat → ALoc → AStk → AH → Option ARes) (recC : Nat → List AV → AH → Option ARes) : List AI → ALoc → AStk → AH → Option ARes
  | [], _, _, _ => none
  | (i, a, b, t) :: is, L, st, h => match i with
    | .nop => recB a.toNat L st h
    | .goto _ => recB a.toNat L st h
    | .ifCond c _ => match st with
      | .inl x :: st => if cnd c x 0 then recB a.toNat L st h else exL recB recC is L st h
      | _ => none
    | .if_icmp c _ => match st with
      | .inl y :: .inl x :: st => if cnd c x y then recB a.toNat L st h else exL recB recC is L st h
      | _ => none
    | .if_acmp c _ => match st with
      | .inr (.inr y) :: .inr (.inr x) :: st => if x = y then (if c = .eq then recB a.toNat L st h else exL recB recC is L st h)
          else if 0 < x ∨ 0 < y then (if c = .ne then recB a.toNat L st h else exL recB recC is L st h) else none
      | _ => none
    | .ifnull _ => match st with
      | .inr (.inr x) :: st => if x = 0 then recB a.toNat L st h else if 0 < x then exL recB recC is L st h else none
      | _ => none
    | .ifnonnull _ => match st with
      | .inr (.inr x) :: st => if x = 0 then exL recB recC is L st h else if 0 < x then recB a.toNat L st h else none
      | _ => none
    | .tableswitch _ _ _ _ => match st with
      | .inl x :: st => recB ((asc t x).getD a).toNat L st h
      | _ => none
    | .lookupswitch _ _ => match st with
      | .inl x :: st => recB ((asc t x).getD a).toNat L st h
      | _ => none
    | .return_ => match st with
      | [] => some (.inl none, h)
      | _ => none
    | .ireturn => match st with
      | [.inl z] => if a = 0 ∨ (a = 1 ∧ (z = 0 ∨ z = 1)) ∨ (a = 2 ∧ 0 ≤ z ∧ z < 65536) ∨ (a = 3 ∧ -128 ≤ z ∧ z < 128) then some (.inl (some (.inl z)), h) else none
      | _ => none
    | .lreturn => match st with
      | [.inr (.inl z)] => some (.inl (some (.inr (.inl z))), h)
      | _ => none
    | .areturn => match st with
      | [.inr (.inr z)] => some (.inl (some (.inr (.inr z))), h)
      | _ => none
    | .athrow => match st with
      | .inr (.inr z) :: _ => if asc t (ah_t h z).1 = some 0 ∧ 0 < z then some (.inr z, h) else none
      | _ => none
    | .invokestatic _ => if a = -1 then (match semCopy t L st h with
          | some (L, st, h) => exL recB recC is L st h
          | none => none)
        else match popN b.toNat st [] with
          | some (as, rest) => if stw rest ≤ 8 then (match t with
              | (_, y) :: _ => after recB (fun L st h => exL recB recC is L st h) a L rest (recC y.toNat as h)
              | [] => none) else none
          | none => none
    | .invokespecial _ => if a = -3 then (match st with
          | .inr (.inr z) :: st => if 0 < z ∧ stw st ≤ 8 then exL recB recC is L st h else none
          | _ => none)
        else match popN (b.toNat + 1) st [] with
      | some (.inr (.inr z) :: as, rest) => match asc t (ah_t h z).1 with
        | some y => if stw rest ≤ 8 then after recB (fun L st h => exL recB recC is L st h) a L rest (recC y.toNat (.inr (.inr z) :: as) h) else none
        | none => none
      | _ => none
    | .invokevirtual _ => if a = -2 then (match st with
          | .inr (.inr z) :: st => if (ah_t h z).1 = -10 ∧ stw st ≤ 8 then exL recB recC is L (.inr (.inr b) :: st) h else none
          | _ => none)
        else match popN (b.toNat + 1) st [] with
      | some (.inr (.inr z) :: as, rest) => match asc t (ah_t h z).1 with
        | some y => if stw rest ≤ 8 then after recB (fun L st h => exL recB recC is L st h) a L rest (recC y.toNat (.inr (.inr z) :: as) h) else none
        | none => none
      | _ => none
    | .invokeinterface _ _ => match popN (b.toNat + 1) st [] with
      | some (.inr (.inr z) :: as, rest) => match asc t (ah_t h z).1 with
        | some y => if stw rest ≤ 8 then after recB (fun L st h => exL recB recC is L st h) a L rest (recC y.toNat (.inr (.inr z) :: as) h) else none
        | none => none
      | _ => none
    | i => match sem1 (i, a, b, t) L st h with
      | some (L, st, h) => exL recB recC is L st h
      | none => none
def ex (P : Nat → Nat → List AI) (ML : Nat → Nat) : Nat → Nat → Nat → Nat → ALoc → AStk → AH → Option ARes
  | 0, _, _, _, _, _, _ => none
  | n + 1, d, m, l, L, st, h => exL (fun l => ex P ML n d m l) (fun y as h => match d with
      | 0 => none
      | d + 1 => if 0 < y ∧ (lent as).length ≤ ML y then ex P ML n d y 0 (lent as) [] h else none) (P m l) L st h
