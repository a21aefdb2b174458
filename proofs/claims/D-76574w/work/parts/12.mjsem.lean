/-! THE SMALL MACHINE, 2: its steps -/
set_option maxRecDepth 100000
set_option linter.unusedVariables false
def mget : List (Option mV) → Nat → Option mV
  | [], _ => none
  | o :: _, 0 => o
  | _ :: t, n + 1 => mget t n
def mset : List (Option mV) → Nat → Option mV → List (Option mV)
  | [], _, _ => []
  | _ :: t, 0, x => x :: t
  | o :: t, n + 1, x => o :: mset t n x
def mLg (o : Option mV) : Bool := match o with
  | some (.inr (.inl _)) => true
  | _ => false
/-- a store at i: a long that stands at i - 1 is gone -/
def mclr (L : List (Option mV)) (i : Nat) : List (Option mV) := match i with
  | 0 => L
  | j + 1 => bif mLg (mget L j) then mset L j none else L
def mst1 (L : List (Option mV)) (i : Nat) (v : mV) : List (Option mV) := mset (mclr L i) i (some v)
def mst2 (L : List (Option mV)) (i : Nat) (v : mV) : List (Option mV) := mset (mset (mclr L i) i (some v)) (i + 1) none
/-- in an array of n places -/
abbrev mIn (i : Int32) (n : Nat) : Prop := 0 ≤ i.toInt ∧ i.toInt < (n : Int)
theorem mIn_vp {i : Int32} {n : Nat} (h : mIn i n) : vp_in i n := vp_in_iff.mpr h
def mCat : List mV → Nat
  | [] => 0
  | .inr (.inl _) :: st => mCat st + 2
  | _ :: st => mCat st + 1
/-- an array of ints (or less) rewritten -/
def mSa (R : mR) (i : Nat) (f : Nat → Int32) : mR := (R.1, R.2.1, R.2.2.1, fun j => if j = i then f else R.2.2.2.1 j, R.2.2.2.2.1, R.2.2.2.2.2)
/-- how many fields -/
def mNf (a : Nat) : Nat := match mcl[a]? with
  | some q => q.2.2
  | none => 0
/-- what may be put into an array of references: the array's kind, the value's -/
def mFi (t u : Nat) : Bool := (Nat.beq t 54 && (Nat.ble 4 u && Nat.ble u 9)) || (Nat.beq t 55 && (Nat.ble 10 u && Nat.ble u 13)) || (Nat.beq t 56 && Nat.beq u 55) || (Nat.beq t 57 && Nat.beq u 15) || (Nat.beq t 59 && Nat.beq u 3)
noncomputable def mstp (e : mE) (L : List (Option mV)) (st : List mV) (S : mS) : Option (List (Option mV) × List mV × mS) :=
  match e with
  | (i, _, v, a, b) => match i with
    | .iconst _ => some (L, v :: st, S)
    | .bipush _ => some (L, v :: st, S)
    | .sipush _ => some (L, v :: st, S)
    | .lconst _ => some (L, v :: st, S)
    | .ldc _ => some (L, v :: st, S)
    | .ldc_w _ => some (L, v :: st, S)
    | .ldc2_w _ => some (L, v :: st, S)
    | .aconst_null => some (L, .inr (.inr none) :: st, S)
    | .iload j => (match mget L j with
      | some (.inl x) => some (L, .inl x :: st, S)
      | _ => none)
    | .iload_n j => (match mget L j.val with
      | some (.inl x) => some (L, .inl x :: st, S)
      | _ => none)
    | .lload j => (match mget L j with
      | some (.inr (.inl x)) => some (L, .inr (.inl x) :: st, S)
      | _ => none)
    | .lload_n j => (match mget L j.val with
      | some (.inr (.inl x)) => some (L, .inr (.inl x) :: st, S)
      | _ => none)
    | .aload j => (match mget L j with
      | some (.inr (.inr x)) => some (L, .inr (.inr x) :: st, S)
      | _ => none)
    | .aload_n j => (match mget L j.val with
      | some (.inr (.inr x)) => some (L, .inr (.inr x) :: st, S)
      | _ => none)
    | .istore j => (match st with
      | .inl x :: st => some (mst1 L j (.inl x), st, S)
      | _ => none)
    | .istore_n j => (match st with
      | .inl x :: st => some (mst1 L j.val (.inl x), st, S)
      | _ => none)
    | .lstore j => (match st with
      | .inr (.inl x) :: st => some (mst2 L j (.inr (.inl x)), st, S)
      | _ => none)
    | .lstore_n j => (match st with
      | .inr (.inl x) :: st => some (mst2 L j.val (.inr (.inl x)), st, S)
      | _ => none)
    | .astore j => (match st with
      | .inr (.inr x) :: st => some (mst1 L j (.inr (.inr x)), st, S)
      | _ => none)
    | .astore_n j => (match st with
      | .inr (.inr x) :: st => some (mst1 L j.val (.inr (.inr x)), st, S)
      | _ => none)
    | .iinc j _ => (match v with
      | .inl y => (match mget L j with
        | some (.inl x) => some (mst1 L j (.inl (x + y)), st, S)
        | _ => none)
      | _ => none)
    | .iadd => (match st with
      | .inl y :: .inl x :: st => some (L, .inl (x + y) :: st, S)
      | _ => none)
    | .isub => (match st with
      | .inl y :: .inl x :: st => some (L, .inl (x - y) :: st, S)
      | _ => none)
    | .imul => (match st with
      | .inl y :: .inl x :: st => some (L, .inl (x * y) :: st, S)
      | _ => none)
    | .iand => (match st with
      | .inl y :: .inl x :: st => some (L, .inl (x &&& y) :: st, S)
      | _ => none)
    | .ior => (match st with
      | .inl y :: .inl x :: st => some (L, .inl (x ||| y) :: st, S)
      | _ => none)
    | .ixor => (match st with
      | .inl y :: .inl x :: st => some (L, .inl (x ^^^ y) :: st, S)
      | _ => none)
    | .ineg => (match st with
      | .inl x :: st => some (L, .inl (-x) :: st, S)
      | _ => none)
    | .idiv => (match st with
      | .inl y :: .inl x :: st => if ¬ y = 0 then some (L, .inl (x / y) :: st, S) else none
      | _ => none)
    | .irem => (match st with
      | .inl y :: .inl x :: st => if ¬ y = 0 then some (L, .inl (x - x / y * y) :: st, S) else none
      | _ => none)
    | .ishl => (match st with
      | .inl y :: .inl x :: st => some (L, .inl (x <<< (y &&& 31)) :: st, S)
      | _ => none)
    | .ishr => (match st with
      | .inl y :: .inl x :: st => some (L, .inl (x >>> (y &&& 31)) :: st, S)
      | _ => none)
    | .iushr => (match st with
      | .inl y :: .inl x :: st => some (L, .inl (x.toUInt32 >>> (y.toUInt32 &&& Int32.toUInt32 31)).toInt32 :: st, S)
      | _ => none)
    | .ladd => (match st with
      | .inr (.inl y) :: .inr (.inl x) :: st => some (L, .inr (.inl (x + y)) :: st, S)
      | _ => none)
    | .lsub => (match st with
      | .inr (.inl y) :: .inr (.inl x) :: st => some (L, .inr (.inl (x - y)) :: st, S)
      | _ => none)
    | .lmul => (match st with
      | .inr (.inl y) :: .inr (.inl x) :: st => some (L, .inr (.inl (x * y)) :: st, S)
      | _ => none)
    | .lneg => (match st with
      | .inr (.inl x) :: st => some (L, .inr (.inl (-x)) :: st, S)
      | _ => none)
    | .ldiv => (match st with
      | .inr (.inl y) :: .inr (.inl x) :: st => if ¬ y = 0 then some (L, .inr (.inl (x / y)) :: st, S) else none
      | _ => none)
    | .lrem => (match st with
      | .inr (.inl y) :: .inr (.inl x) :: st => if ¬ y = 0 then some (L, .inr (.inl (x - x / y * y)) :: st, S) else none
      | _ => none)
    | .lcmp => (match st with
      | .inr (.inl y) :: .inr (.inl x) :: st => some (L, .inl (lg_cmp x y) :: st, S)
      | _ => none)
    | .i2l => (match st with
      | .inl x :: st => some (L, .inr (.inl x.toInt64) :: st, S)
      | _ => none)
    | .l2i => (match st with
      | .inr (.inl x) :: st => some (L, .inl x.toInt32 :: st, S)
      | _ => none)
    | .i2b => (match st with
      | .inl x :: st => some (L, .inl x.toInt8.toInt32 :: st, S)
      | _ => none)
    | .i2s => (match st with
      | .inl x :: st => some (L, .inl x.toInt16.toInt32 :: st, S)
      | _ => none)
    | .i2c => (match st with
      | .inl x :: st => some (L, .inl (x.toUInt32 % 65536).toInt32 :: st, S)
      | _ => none)
    | .dup => (match st with
      | .inl x :: st => some (L, .inl x :: .inl x :: st, S)
      | .inr (.inr x) :: st => some (L, .inr (.inr x) :: .inr (.inr x) :: st, S)
      | _ => none)
    | .dup2 => (match st with
      | .inl y :: .inr (.inr x) :: st => some (L, .inl y :: .inr (.inr x) :: .inl y :: .inr (.inr x) :: st, S)
      | _ => none)
    | .pop => (match st with
      | .inl x :: st => some (L, st, S)
      | .inr (.inr x) :: st => some (L, st, S)
      | _ => none)
    | .getfield _ => (match st with
      | .inr (.inr (some (r, i))) :: st => bif mIs (mTg (mG S r) i) b then (match v with
        | .inl _ => some (L, .inl (mIv (mG S r) i a) :: st, S)
        | .inr (.inl _) => some (L, .inr (.inl (mLv (mG S r) i a)) :: st, S)
        | .inr (.inr _) => some (L, .inr (.inr (mRv (mG S r) i a)) :: st, S)) else none
      | _ => none)
    | .putfield _ => (match st with
      | w :: .inr (.inr (some (r, i))) :: st => bif mIs (mTg (mG S r) i) (b % 100) && Nat.blt r 2 then (match v, w with
        | .inl _, .inl x => (match b / 100 with
          | 0 => some (L, st, mU S r (mSi (mG S r) i a x))
          | _ => if x = 0 ∨ x = 1 then some (L, st, mU S r (mSi (mG S r) i a x)) else none)
        | .inr (.inl _), .inr (.inl x) => some (L, st, mU S r (mSl (mG S r) i a x))
        | .inr (.inr _), .inr (.inr x) => some (L, st, mU S r (mSr (mG S r) i a x))
        | _, _ => none) else none
      | _ => none)
    | .arraylength => (match st with
      | .inr (.inr (some (r, i))) :: st => bif Nat.blt 49 (mTg (mG S r) i) && Nat.blt (mTg (mG S r) i) 60 then some (L, .inl (Int32.ofNat (mLn (mG S r) i)) :: st, S) else none
      | _ => none)
    | .iaload => (match st with
      | .inl j :: .inr (.inr (some (r, i))) :: st => bif Nat.beq (mTg (mG S r) i) 50 then (if mIn j (mLn (mG S r) i) then some (L, .inl (mIv (mG S r) i j.toNatClampNeg) :: st, S) else none) else none
      | _ => none)
    | .baload => (match st with
      | .inl j :: .inr (.inr (some (r, i))) :: st => bif Nat.beq (mTg (mG S r) i) 51 || Nat.beq (mTg (mG S r) i) 53 then (if mIn j (mLn (mG S r) i) then some (L, .inl (mIv (mG S r) i j.toNatClampNeg) :: st, S) else none) else none
      | _ => none)
    | .saload => (match st with
      | .inl j :: .inr (.inr (some (r, i))) :: st => bif Nat.beq (mTg (mG S r) i) 52 then (if mIn j (mLn (mG S r) i) then some (L, .inl (mIv (mG S r) i j.toNatClampNeg) :: st, S) else none) else none
      | _ => none)
    | .iastore => (match st with
      | .inl x :: .inl j :: .inr (.inr (some (r, i))) :: st => bif Nat.beq (mTg (mG S r) i) 50 && Nat.blt r 2 then (if mIn j (mLn (mG S r) i) then some (L, st, mU S r (mSi (mG S r) i j.toNatClampNeg x)) else none) else none
      | _ => none)
    | .bastore => (match st with
      | .inl x :: .inl j :: .inr (.inr (some (r, i))) :: st => bif Nat.blt r 2 then (bif Nat.beq (mTg (mG S r) i) 51 then (if mIn j (mLn (mG S r) i) then some (L, st, mU S r (mSi (mG S r) i j.toNatClampNeg x.toInt8.toInt32)) else none) else (bif Nat.beq (mTg (mG S r) i) 53 then (if mIn j (mLn (mG S r) i) ∧ (x = 0 ∨ x = 1) then some (L, st, mU S r (mSi (mG S r) i j.toNatClampNeg x)) else none) else none)) else none
      | _ => none)
    | .newarray _ => (match st with
      | .inl n :: st => if 0 ≤ n.toInt ∧ n.toInt ≤ 1000 then some (L, .inr (.inr (some (b, (mG S b).1))) :: st, mAl S b (50 + a) n.toNatClampNeg n.toNatClampNeg) else none
      | _ => none)
    | .invokestatic _ => bif Nat.beq a 991 then (match st with
      | .inl y :: .inl x :: st => bif Nat.ble (mCat st) 8 then some (L, .inl (if y < x then y else x) :: st, S) else none
      | _ => none) else (bif Nat.beq a 992 then (match st with
      | .inl y :: .inl x :: st => bif Nat.ble (mCat st) 8 then some (L, .inl (if x < y then y else x) :: st, S) else none
      | _ => none) else (bif Nat.beq a 993 then (match st with
      | .inr (.inl x) :: st => bif Nat.ble (mCat st) 8 then some (L, .inr (.inl (if 0 < x then x else -x)) :: st, S) else none
      | _ => none) else (bif Nat.beq a 994 then (match st with
      | .inr (.inl y) :: .inr (.inl x) :: st => bif Nat.ble (mCat st) 8 then some (L, .inr (.inl (if y < x then x else y)) :: st, S) else none
      | _ => none) else (bif Nat.beq a 998 then (match st with
      | .inl n :: .inl dp :: .inr (.inr (some (r', i'))) :: .inl sp :: .inr (.inr (some (r, i))) :: st => bif Nat.beq (mTg (mG S r) i) (mTg (mG S r') i') && (Nat.blt 49 (mTg (mG S r) i) && (Nat.blt (mTg (mG S r) i) 54 && (Nat.blt r' 2 && Nat.ble (mCat st) 8))) then (if 0 ≤ sp.toInt ∧ 0 ≤ dp.toInt ∧ 0 ≤ n.toInt ∧ sp.toInt + n.toInt ≤ mLn (mG S r) i ∧ dp.toInt + n.toInt ≤ mLn (mG S r') i' ∧ (∀ q, q < n.toNatClampNeg → fits (mta (mTg (mG S r) i - 50)) (.int (mIv (mG S r) i (sp.toNatClampNeg + q))) = true) then some (L, st, mU S r' (mSa (mG S r') i' (va_cpy (mIv (mG S r) i) (mIv (mG S r') i') sp.toNatClampNeg dp.toNatClampNeg n.toNatClampNeg))) else none) else none
      | _ => none) else none))))
    | .new _ => bif Nat.blt a 50 then some (L, .inr (.inr (some (b, (mG S b).1))) :: st, mAl S b a 0 (mNf a)) else none
    | .getstatic _ => (match v with
      | .inl x => some (L, .inl x :: st, S)
      | _ => some (L, .inr (.inr (mRv (mG S 2) 0 a)) :: st, S))
    | .anewarray _ => (match st with
      | .inl n :: st => if 0 ≤ n.toInt ∧ n.toInt ≤ 1000 then some (L, .inr (.inr (some (b, (mG S b).1))) :: st, mAl S b (50 + a) n.toNatClampNeg n.toNatClampNeg) else none
      | _ => none)
    | .aaload => (match st with
      | .inl j :: .inr (.inr (some (r, i))) :: st => bif Nat.blt 53 (mTg (mG S r) i) && Nat.blt (mTg (mG S r) i) 60 then (if mIn j (mLn (mG S r) i) then some (L, .inr (.inr (mRv (mG S r) i j.toNatClampNeg)) :: st, S) else none) else none
      | _ => none)
    | .aastore => (match st with
      | .inr (.inr (some (r', i'))) :: .inl j :: .inr (.inr (some (r, i))) :: st => bif mFi (mTg (mG S r) i) (mTg (mG S r') i') && Nat.blt r 2 then (if mIn j (mLn (mG S r) i) then some (L, st, mU S r (mSr (mG S r) i j.toNatClampNeg (some (r', i')))) else none) else none
      | _ => none)
    | .checkcast _ => (match st with
      | .inr (.inr none) :: st => some (L, .inr (.inr none) :: st, S)
      | .inr (.inr (some (r, i))) :: st => bif mIs (mTg (mG S r) i) a then some (L, .inr (.inr (some (r, i))) :: st, S) else none
      | _ => none)
    | .instanceof _ => (match st with
      | .inr (.inr none) :: st => some (L, .inl 0 :: st, S)
      | .inr (.inr (some (r, i))) :: st => bif Nat.beq (mTg (mG S r) i) a then some (L, .inl 1 :: st, S) else (bif Nat.blt 49 (mTg (mG S r) i) && Nat.blt (mTg (mG S r) i) 54 then some (L, .inl 0 :: st, S) else none)
      | _ => none)
    | .invokespecial _ => (match st with
      | .inr (.inr (some _)) :: st => bif Nat.beq a 999 && Nat.ble (mCat st) 8 then some (L, st, S) else none
      | _ => none)
    | _ => none
/-- a branch: its condition, where it goes, what is left -/
noncomputable def mbr (e : mE) (st : List mV) : Option (Bool × List mV) :=
  match e with
  | (i, _, v, a, b) => match i with
    | .goto _ => some (true, st)
    | .ifCond .eq _ => (match st with
      | .inl x :: st => some (decide (x = 0), st)
      | _ => none)
    | .ifCond .ne _ => (match st with
      | .inl x :: st => some (decide (¬ x = 0), st)
      | _ => none)
    | .ifCond .lt _ => (match st with
      | .inl x :: st => some (decide (x < 0), st)
      | _ => none)
    | .ifCond .ge _ => (match st with
      | .inl x :: st => some (decide (0 ≤ x), st)
      | _ => none)
    | .ifCond .gt _ => (match st with
      | .inl x :: st => some (decide (0 < x), st)
      | _ => none)
    | .ifCond .le _ => (match st with
      | .inl x :: st => some (decide (x ≤ 0), st)
      | _ => none)
    | .if_icmp .eq _ => (match st with
      | .inl y :: .inl x :: st => some (decide (x = y), st)
      | _ => none)
    | .if_icmp .ne _ => (match st with
      | .inl y :: .inl x :: st => some (decide (¬ x = y), st)
      | _ => none)
    | .if_icmp .lt _ => (match st with
      | .inl y :: .inl x :: st => some (decide (x < y), st)
      | _ => none)
    | .if_icmp .ge _ => (match st with
      | .inl y :: .inl x :: st => some (decide (y ≤ x), st)
      | _ => none)
    | .if_icmp .gt _ => (match st with
      | .inl y :: .inl x :: st => some (decide (y < x), st)
      | _ => none)
    | .if_icmp .le _ => (match st with
      | .inl y :: .inl x :: st => some (decide (x ≤ y), st)
      | _ => none)
    | .ifnull _ => (match st with
      | .inr (.inr none) :: st => some (true, st)
      | .inr (.inr (some _)) :: st => some (false, st)
      | _ => none)
    | .ifnonnull _ => (match st with
      | .inr (.inr none) :: st => some (false, st)
      | .inr (.inr (some _)) :: st => some (true, st)
      | _ => none)
    | _ => none
/-- a switch: where it goes, what is left -/
noncomputable def msw (e : mE) (st : List mV) : Option (Nat × List mV) :=
  match e with
  | (i, nx, v, a, b) => match i with
    | .tableswitch dflt lo hi offs => (match st with
      | .inl x :: st => (match decide (x.toInt < lo ∨ hi < x.toInt) with
        | true => some (((nx : Int) + dflt).toNat, st)
        | false => (match offs[(x.toInt - lo).toNat]? with
          | some o => some (((nx : Int) + o).toNat, st)
          | none => none))
      | _ => none)
    | .lookupswitch dflt ps => (match st with
      | .inl x :: st => some (((nx : Int) + Op.lookupswitch.offset ps.toList dflt x.toInt).toNat, st)
      | _ => none)
    | _ => none
/-- an end: its answer -/
noncomputable def mrt (e : mE) (st : List mV) : Option (Option mV) :=
  match e with
  | (i, _, v, a, b) => match i with
    | .return_ => (match st with
      | [] => some none
      | _ => none)
    | .ireturn => (match st with
      | [.inl x] => (match a with
        | 0 => some (some (.inl x))
        | 1 => if x = 0 ∨ x = 1 then some (some (.inl x)) else none
        | 2 => if (x.toUInt32 % 65536).toInt32 = x then some (some (.inl x)) else none
        | _ => if x.toInt8.toInt32 = x then some (some (.inl x)) else none)
      | _ => none)
    | .areturn => (match st with
      | [.inr (.inr x)] => some (some (.inr (.inr x)))
      | _ => none)
    | .lreturn => (match st with
      | [.inr (.inl x)] => some (some (.inr (.inl x)))
      | _ => none)
    | _ => none
/-- what kind of instruction: a step, a branch, a switch, a call, an end -/
def mkn (e : mE) : Bool × Bool × Bool := match e with
  | (i, _, _, a, _) => match i with
    | .goto _ => (false, true, false)
    | .ifCond _ _ => (false, true, false)
    | .if_icmp _ _ => (false, true, false)
    | .ifnull _ => (false, true, false)
    | .ifnonnull _ => (false, true, false)
    | .tableswitch _ _ _ _ => (false, true, true)
    | .lookupswitch _ _ => (false, true, true)
    | .invokevirtual _ => (true, false, false)
    | .invokestatic _ => bif Nat.blt a 900 then (true, false, false) else (false, false, false)
    | .invokespecial _ => bif Nat.beq a 999 then (false, false, false) else (true, false, false)
    | .return_ => (true, true, false)
    | .ireturn => (true, true, false)
    | .lreturn => (true, true, false)
    | .areturn => (true, true, false)
    | _ => (false, false, false)
/-- a throw costs so many cells and slots -/
def mco (S : mS) (k n : Nat) : mS := (S.1, S.2.1, S.2.2.1, S.2.2.2.1 + k, S.2.2.2.2 + n)
/-- a cast that fails: what it is, what it was to be -/
def mCc (t a : Nat) : Bool := (Nat.blt 49 t && Nat.blt t 54 && (Nat.blt 49 a && Nat.blt a 54) && !Nat.beq t a) || (Nat.ble 4 t && Nat.blt t 10 && (Nat.ble 5 a && Nat.blt a 10) && !mIs t a)
/-- a throw: the exception, what it costs -/
noncomputable def mth (e : mE) (st : List mV) (S : mS) : Option (Nat × mS) :=
  match e with
  | (i, _, v, a, b) => match i with
    | .athrow => (match st with
      | .inr (.inr (some (r, i))) :: _ => bif Nat.beq (mTg (mG S r) i) 1 then some (0, S) else none
      | _ => none)
    | .new _ => bif Nat.beq a 901 && Nat.ble (mCat st) 8 then some (1, mco S 1 6) else none
    | .arraylength => (match st with
      | .inr (.inr none) :: st => bif Nat.ble (mCat st) 8 then some (2, mco S 1 8) else none
      | _ => none)
    | .getfield _ => (match st with
      | .inr (.inr none) :: st => bif Nat.ble (mCat st) 8 then some (2, mco S 1 8) else none
      | _ => none)
    | .newarray _ => (match st with
      | .inl n :: st => bif Nat.ble (mCat st) 8 then (if n.toInt < 0 then some (4, mco S 3 54) else none) else none
      | _ => none)
    | .checkcast _ => (match st with
      | .inr (.inr (some (r, i))) :: st => bif mCc (mTg (mG S r) i) a && Nat.ble (mCat st) 7 then some (3, mco S 3 930) else none
      | _ => none)
    | _ => none
/-- how far behind its first instruction a throw is -/
def mof (e : mE) : Nat := match e.1 with
  | .new _ => 7
  | _ => 0
/-- n values off the stack, the first argument first -/
def mPop : Nat → List mV → List mV → Option (List mV × List mV)
  | 0, acc, st => some (acc, st)
  | n + 1, acc, v :: st => mPop n (v :: acc) st
  | _ + 1, _, [] => none
/-- a method's locals at its entry -/
def mEnt : List mV → Nat → List (Option mV)
  | [], n => List.replicate n none
  | .inr (.inl x) :: t, n + 2 => some (.inr (.inl x)) :: none :: mEnt t n
  | v :: t, n + 1 => some v :: mEnt t n
  | _ :: _, 0 => []
def mEntOK : List mV → Nat → Bool
  | [], _ => true
  | .inr (.inl _) :: t, n + 2 => mEntOK t n
  | .inr (.inl _) :: _, _ => false
  | _ :: t, n + 1 => mEntOK t n
  | _ :: _, 0 => false
/-- the table's entry -/
noncomputable def mins (k pc : Nat) : Option mE := match mm k with
  | some ⟨_, ⟨⟨⟨_, tb⟩, _, _⟩, _⟩⟩ => (match tb pc with
    | some e => some e.1
    | none => none)
  | none => none
noncomputable def mml (k : Nat) : Nat := match mm k with
  | some ⟨_, ⟨⟨⟨x, _⟩, _, _⟩, _⟩⟩ => x.1
  | none => 0
noncomputable def mnp (k : Nat) : Nat := match mm k with
  | some ⟨_, ⟨⟨⟨x, _⟩, _, _⟩, _⟩⟩ => x.2.2
  | none => 0
noncomputable def mgg (k : Nat) : List (Nat × Nat × Nat × Nat × Nat) := match mm k with
  | some ⟨_, ⟨⟨_, _, gg⟩, _⟩⟩ => gg
  | none => []
/-- who catches: nobody (some none); where it goes on and which local took it; none: not said -/
def mhd : List (Nat × Nat × Nat × Nat × Nat) → Nat → Nat → Option (Option (Nat × Nat))
  | [], _, _ => some none
  | (a, b, n, j, c) :: gs, pc, E => bif Nat.ble a pc && Nat.blt pc b then (bif Nat.beq c 99 then none else (bif Nat.beq c E then some (some (n, j)) else mhd gs pc E)) else mhd gs pc E
/-- a call: the method, its arguments, its locals at the entry, what is left -/
noncomputable def mcal (e : mE) (st : List mV) (S : mS) : Option (Nat × List mV × List (Option mV) × List mV) :=
  match e with
  | (i, _, v, a, b) => match i with
    | .invokevirtual _ => (match b / 100 with
      | 1 => (match mPop (mxp a + 1) [] st with
        | some (.inr (.inr (some (r, j))) :: As, rest) => (match mdisp a (mTg (mG S r) j) with
          | some k => bif (mgg k.1).isEmpty && (Nat.ble (mCat rest) 8 && mEntOK (.inr (.inr (some (r, j))) :: As) (mml k.1)) then some (k.1, .inr (.inr (some (r, j))) :: As, mEnt (.inr (.inr (some (r, j))) :: As) (mml k.1), rest) else none
          | none => none)
        | _ => none)
      | _ => (match mPop (mnp a + 1) [] st with
        | some (.inr (.inr (some (r, j))) :: As, rest) => bif Nat.beq (mTg (mG S r) j) (b % 100) && ((Nat.beq (b / 100) 0 || (mgg a).isEmpty) && (Nat.ble (mCat rest) 8 && mEntOK (.inr (.inr (some (r, j))) :: As) (mml a))) then some (a, .inr (.inr (some (r, j))) :: As, mEnt (.inr (.inr (some (r, j))) :: As) (mml a), rest) else none
        | _ => none))
    | .invokestatic _ => (match mPop (mnp a) [] st with
      | some (As, rest) => bif (mgg a).isEmpty && (Nat.ble (mCat rest) 8 && mEntOK As (mml a)) then some (a, As, mEnt As (mml a), rest) else none
      | none => none)
    | .invokespecial _ => (match mPop (mnp a + 1) [] st with
      | some (.inr (.inr (some (r, j))) :: As, rest) => bif ((mgg a).isEmpty && (Nat.blt b 3 || mIs (mTg (mG S r) j) (b - 3))) && (Nat.ble (mCat rest) 8 && mEntOK (.inr (.inr (some (r, j))) :: As) (mml a)) then some (a, .inr (.inr (some (r, j))) :: As, mEnt (.inr (.inr (some (r, j))) :: As) (mml a), rest) else none
      | _ => none)
    | _ => none
/-- what is on the stack behind a call -/
def mpush (v : Option mV) (st : List mV) : List mV := match v with
  | some v => v :: st
  | none => st
/-- the machine: fuel, how deep calls may go, method, place, locals, stack, state; its end: an answer, or an exception -/
noncomputable def mgo : Nat → Nat → Nat → Nat → List (Option mV) → List mV → mS → Option (mS × (Option mV ⊕ Nat))
  | 0, _, _, _, _, _, _ => none
  | f + 1, d, k, pc, L, st, S => match mins k pc with
    | none => none
    | some e => match mkn e with
      | (false, false, _) => (match mstp e L st S with
        | some (L', st', S') => mgo f d k e.2.1 L' st' S'
        | none => (match mth e st S with
          | none => none
          | some (E, S1) => (match mhd (mgg k) (pc + mof e) E with
            | none => none
            | some none => some (S1, .inr E)
            | some (some (n, j)) => mgo f d k n (mset (mclr L j) j none) [] S1)))
      | (false, true, false) => (match mbr e st with
        | none => none
        | some (b, st') => mgo f d k (bif b then e.2.2.2.1 else e.2.1) L st' S)
      | (false, true, true) => (match msw e st with
        | none => none
        | some (n, st') => mgo f d k n L st' S)
      | (true, false, _) => (match d with
        | 0 => none
        | d' + 1 => (match mcal e st S with
          | none => none
          | some (k', _, L0, rest) => (match mgo f d' k' 0 L0 [] S with
            | none => none
            | some (S1, .inl v) => mgo f (d' + 1) k e.2.1 L (mpush v rest) S1
            | some (S1, .inr E) => (match mhd (mgg k) pc E with
              | none => none
              | some none => some (S1, .inr E)
              | some (some (n, j)) => mgo f (d' + 1) k n (mset (mclr L j) j none) [] S1))))
      | (true, true, _) => (match mrt e st with
        | none => none
        | some v => some (S, .inl v))
