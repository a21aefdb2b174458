/-! THE SMALL MACHINE, 1: values, heap, table entries -/
set_option maxRecDepth 100000
/-- an int; a long; null or a reference: its region and number -/
abbrev mV : Type := Int32 ⊕ Int64 ⊕ Option (Nat × Nat)
/-- a region: how many cells; each one's kind; an array's length; ints; longs; references -/
abbrev mR : Type := Nat × (Nat → Nat) × (Nat → Nat) × (Nat → Nat → Int32) × (Nat → Nat → Int64) × (Nat → Nat → Option (Nat × Nat))
/-- the state: three regions (the third is only read), cells and slots made so far -/
abbrev mS : Type := mR × mR × mR × Nat × Nat
/-- an instruction: itself, where the next stands, a value, two numbers -/
abbrev mE : Type := Instr × Nat × mV × Nat × Nat
def mG (S : mS) (r : Nat) : mR := match r with
  | 0 => S.1
  | 1 => S.2.1
  | _ => S.2.2.1
def mU (S : mS) (r : Nat) (R : mR) : mS := match r with
  | 0 => (R, S.2)
  | 1 => (S.1, R, S.2.2)
  | _ => (S.1, S.2.1, R, S.2.2.2)
def u2 {α : Type} (f : Nat → Nat → α) (i k : Nat) (x : α) : Nat → Nat → α := fun j l => if j = i then (if l = k then x else f j l) else f j l
def mTg (R : mR) (i : Nat) : Nat := R.2.1 i
def mLn (R : mR) (i : Nat) : Nat := R.2.2.1 i
def mIv (R : mR) (i k : Nat) : Int32 := R.2.2.2.1 i k
def mLv (R : mR) (i k : Nat) : Int64 := R.2.2.2.2.1 i k
def mRv (R : mR) (i k : Nat) : Option (Nat × Nat) := R.2.2.2.2.2 i k
def mSi (R : mR) (i k : Nat) (x : Int32) : mR := (R.1, R.2.1, R.2.2.1, u2 R.2.2.2.1 i k x, R.2.2.2.2.1, R.2.2.2.2.2)
def mSl (R : mR) (i k : Nat) (x : Int64) : mR := (R.1, R.2.1, R.2.2.1, R.2.2.2.1, u2 R.2.2.2.2.1 i k x, R.2.2.2.2.2)
def mSr (R : mR) (i k : Nat) (x : Option (Nat × Nat)) : mR := (R.1, R.2.1, R.2.2.1, R.2.2.2.1, R.2.2.2.2.1, u2 R.2.2.2.2.2 i k x)
/-- one cell more: its kind, its length, all else as new cells are -/
def mNew (R : mR) (t n : Nat) : mR := (R.1 + 1, fun j => if j = R.1 then t else R.2.1 j, fun j => if j = R.1 then n else R.2.2.1 j, fun j k => if j = R.1 then 0 else R.2.2.2.1 j k, fun j k => if j = R.1 then 0 else R.2.2.2.2.1 j k, fun j k => if j = R.1 then none else R.2.2.2.2.2 j k)
/-- a cell more in a region, counted -/
def mAl (S : mS) (r t n sl : Nat) : mS := match r with
  | 0 => (mNew S.1 t n, S.2.1, S.2.2.1, S.2.2.2.1 + 1, S.2.2.2.2 + sl)
  | _ => (S.1, mNew S.2.1 t n, S.2.2.1, S.2.2.2.1 + 1, S.2.2.2.2 + sl)
def mW : Instr → Nat
  | .bipush _ => 2
  | .sipush _ => 3
  | .ldc _ => 2
  | .ldc_w _ => 3
  | .ldc2_w _ => 3
  | .iload _ => 2
  | .lload _ => 2
  | .aload _ => 2
  | .istore _ => 2
  | .lstore _ => 2
  | .astore _ => 2
  | .iinc _ _ => 3
  | .ifCond _ _ => 3
  | .if_icmp _ _ => 3
  | .if_acmp _ _ => 3
  | .ifnull _ => 3
  | .ifnonnull _ => 3
  | .goto _ => 3
  | .getfield _ => 3
  | .putfield _ => 3
  | .getstatic _ => 3
  | .invokevirtual _ => 3
  | .invokestatic _ => 3
  | .invokespecial _ => 3
  | .new _ => 3
  | .newarray _ => 2
  | .anewarray _ => 3
  | .multianewarray _ _ => 4
  | .checkcast _ => 3
  | .instanceof _ => 3
  | .tableswitch _ _ _ _ => 0
  | .lookupswitch _ _ => 0
  | _ => 1
/-- how long an instruction is that stands at pc -/
def mWd (pc : Nat) : Instr → Nat
  | .tableswitch _ _ _ offs => 1 + (3 - pc % 4) + 12 + 4 * offs.size
  | .lookupswitch _ ps => 1 + (3 - pc % 4) + 8 + 8 * ps.size
  | i => mW i
def mcl : List vw_C := [(RX0, TX0, 32), (RX1, TX1, 6), (RX2, TX2, 2), (RX3, TX3, 1), (RX10, TX10, 4), (RX11, TX11, 4), (RX12, TX12, 4), (RX13, TX13, 4), (RX14, TX14, 4), (RX15, TX15, 4), (RX6, TX6, 1), (RX7, TX7, 2), (RX5, TX5, 2), (RX8, TX8, 3), (RX9, TX9, 39), (RJ3, TJ3, 2)]
def mty (t k : Nat) : FieldType := match t with
  | 0 => tyX0 k
  | 1 => tyX1 k
  | 2 => tyX2 k
  | 3 => tyX3 k
  | 4 => tyX10 k
  | 5 => tyX11 k
  | 6 => tyX12 k
  | 7 => tyX13 k
  | 8 => tyX14 k
  | 9 => tyX15 k
  | 10 => tyX6 k
  | 11 => tyX7 k
  | 12 => tyX5 k
  | 13 => tyX8 k
  | 14 => tyX9 k
  | _ => tyJ3 k
theorem mcl_in : ∀ (t : Nat) (q : vw_C), mcl[t]? = some q → ∀ w ∈ u_ws q.1 q.2.1 q.2.2, w ∈ lw_all := by
  intro t q hq
  match t, hq with
  | 0, hq => cases hq; exact in_X0
  | 1, hq => cases hq; exact in_X1
  | 2, hq => cases hq; exact in_X2
  | 3, hq => cases hq; exact in_X3
  | 4, hq => cases hq; exact in_X10
  | 5, hq => cases hq; exact in_X11
  | 6, hq => cases hq; exact in_X12
  | 7, hq => cases hq; exact in_X13
  | 8, hq => cases hq; exact in_X14
  | 9, hq => cases hq; exact in_X15
  | 10, hq => cases hq; exact in_X6
  | 11, hq => cases hq; exact in_X7
  | 12, hq => cases hq; exact in_X5
  | 13, hq => cases hq; exact in_X8
  | 14, hq => cases hq; exact in_X9
  | 15, hq => cases hq; exact in_J3
  | t + 16, hq => simp [mcl] at hq
theorem mcl_ty : ∀ (t : Nat) (q : vw_C), mcl[t]? = some q → ∀ k, k < q.2.2 → parseFieldDescriptor (q.2.1 k).2.2.1 = some (mty t k) := by
  intro t q hq
  match t, hq with
  | 0, hq => cases hq; exact tyX0_ok
  | 1, hq => cases hq; exact tyX1_ok
  | 2, hq => cases hq; exact tyX2_ok
  | 3, hq => cases hq; exact tyX3_ok
  | 4, hq => cases hq; exact tyX10_ok
  | 5, hq => cases hq; exact tyX11_ok
  | 6, hq => cases hq; exact tyX12_ok
  | 7, hq => cases hq; exact tyX13_ok
  | 8, hq => cases hq; exact tyX14_ok
  | 9, hq => cases hq; exact tyX15_ok
  | 10, hq => cases hq; exact tyX6_ok
  | 11, hq => cases hq; exact tyX7_ok
  | 12, hq => cases hq; exact tyX5_ok
  | 13, hq => cases hq; exact tyX8_ok
  | 14, hq => cases hq; exact tyX9_ok
  | 15, hq => cases hq; exact tyJ3_ok
  | t + 16, hq => simp [mcl] at hq
theorem mcl_nm : ∀ (t : Nat) (q : vw_C), mcl[t]? = some q → ∀ a, a < q.2.2 → ∀ b, b < q.2.2 → a ≠ b → (q.2.1 a).2.1 ≠ (q.2.1 b).2.1 := by
  intro t q hq
  match t, hq with
  | 0, hq => cases hq; exact nmX0
  | 1, hq => cases hq; exact nmX1
  | 2, hq => cases hq; exact nmX2
  | 3, hq => cases hq; exact nmX3
  | 4, hq => cases hq; exact nmX10
  | 5, hq => cases hq; exact nmX11
  | 6, hq => cases hq; exact nmX12
  | 7, hq => cases hq; exact nmX13
  | 8, hq => cases hq; exact nmX14
  | 9, hq => cases hq; exact nmX15
  | 10, hq => cases hq; exact nmX6
  | 11, hq => cases hq; exact nmX7
  | 12, hq => cases hq; exact nmX5
  | 13, hq => cases hq; exact nmX8
  | 14, hq => cases hq; exact nmX9
  | 15, hq => cases hq; exact nmJ3
  | t + 16, hq => simp [mcl] at hq
/-- a field's kind: 0 int, 1 boolean, 2 byte, 3 short, 4 char, 5 long, 6 a reference -/
def mKd (t k : Nat) : Nat := match mty t k with
  | .int => 0
  | .boolean => 1
  | .byte => 2
  | .short => 3
  | .char => 4
  | .long => 5
  | .object _ => 6
  | .array _ => 6
  | _ => 7
/-- the component types of the arrays: kind 50 + j -/
def mta : Nat → FieldType := fun j => match j with
  | 0 => .int
  | 1 => .byte
  | 2 => .short
  | 3 => .boolean
  | 4 => .object "NobodyCanLiftIt$Man"
  | 5 => .object "NobodyCanLiftIt$Node"
  | 6 => .array (.object "NobodyCanLiftIt$Node")
  | 7 => .object "java/lang/String"
  | 8 => .array .int
  | _ => .object "NobodyCanLiftIt$Sheet"
def my (k : Nat) : MethodName :=
 bif Nat.blt k 138 then
  bif Nat.blt k 69 then
   bif Nat.blt k 34 then
    bif Nat.blt k 17 then
     bif Nat.blt k 8 then
      bif Nat.blt k 4 then
       bif Nat.blt k 2 then
        bif Nat.blt k 1 then
         yX9_init
        else
         yX9_spell
       else
        bif Nat.blt k 3 then
         yX9_set
        else
         yX9_in
      else
       bif Nat.blt k 6 then
        bif Nat.blt k 5 then
         yX9_isOf
        else
         yX9_isOne
       else
        bif Nat.blt k 7 then
         yX9_mostOf
        else
         yX9_told
     else
      bif Nat.blt k 12 then
       bif Nat.blt k 10 then
        bif Nat.blt k 9 then
         yX9_strongOf
        else
         yX9_says
       else
        bif Nat.blt k 11 then
         yX9_hereMany
        else
         yX9_read
      else
       bif Nat.blt k 14 then
        bif Nat.blt k 13 then
         yX9_next
        else
         yX9_byteAt
       else
        bif Nat.blt k 15 then
         yX9_isWord
        else
         bif Nat.blt k 16 then
          yX9_isLetter
         else
          yX9_part
    else
     bif Nat.blt k 25 then
      bif Nat.blt k 21 then
       bif Nat.blt k 19 then
        bif Nat.blt k 18 then
         yX9_fail
        else
         yX9_either0
       else
        bif Nat.blt k 20 then
         yX9_both0
        else
         yX9_not0
      else
       bif Nat.blt k 23 then
        bif Nat.blt k 22 then
         yX9_opens
        else
         yX9_not1
       else
        bif Nat.blt k 24 then
         yX9_not2
        else
         yX9_not3
     else
      bif Nat.blt k 29 then
       bif Nat.blt k 27 then
        bif Nat.blt k 26 then
         yX9_not4
        else
         yX9_not5
       else
        bif Nat.blt k 28 then
         yX9_added5
        else
         yX9_term5
      else
       bif Nat.blt k 31 then
        bif Nat.blt k 30 then
         yX9_atom5
        else
         yX9_isSign
       else
        bif Nat.blt k 32 then
         yX9_name
        else
         bif Nat.blt k 33 then
          yX9_added4
         else
          yX9_term4
   else
    bif Nat.blt k 51 then
     bif Nat.blt k 42 then
      bif Nat.blt k 38 then
       bif Nat.blt k 36 then
        bif Nat.blt k 35 then
         yX9_atom4
        else
         yX9_either5
       else
        bif Nat.blt k 37 then
         yX9_both5
        else
         yX9_added3
      else
       bif Nat.blt k 40 then
        bif Nat.blt k 39 then
         yX9_term3
        else
         yX9_atom3
       else
        bif Nat.blt k 41 then
         yX9_either4
        else
         yX9_both4
     else
      bif Nat.blt k 46 then
       bif Nat.blt k 44 then
        bif Nat.blt k 43 then
         yX9_added2
        else
         yX9_term2
       else
        bif Nat.blt k 45 then
         yX9_atom2
        else
         yX9_either3
      else
       bif Nat.blt k 48 then
        bif Nat.blt k 47 then
         yX9_both3
        else
         yX9_added1
       else
        bif Nat.blt k 49 then
         yX9_term1
        else
         bif Nat.blt k 50 then
          yX9_atom1
         else
          yX9_either2
    else
     bif Nat.blt k 60 then
      bif Nat.blt k 55 then
       bif Nat.blt k 53 then
        bif Nat.blt k 52 then
         yX9_both2
        else
         yX9_added0
       else
        bif Nat.blt k 54 then
         yX9_term0
        else
         yX9_atom0
      else
       bif Nat.blt k 57 then
        bif Nat.blt k 56 then
         yX9_either1
        else
         yX9_both1
       else
        bif Nat.blt k 58 then
         yX9_within
        else
         bif Nat.blt k 59 then
          yX9_easedBy
         else
          yX9_canLift
     else
      bif Nat.blt k 64 then
       bif Nat.blt k 62 then
        bif Nat.blt k 61 then
         yX9_isHere
        else
         yX9_weightNow
       else
        bif Nat.blt k 63 then
         yX9_feelsOf
        else
         yX9_lays
      else
       bif Nat.blt k 66 then
        bif Nat.blt k 65 then
         yX9_person
        else
         yX9_feed
       else
        bif Nat.blt k 67 then
         yX9_text
        else
         bif Nat.blt k 68 then
          yX9_force
         else
          yX9_feels
  else
   bif Nat.blt k 103 then
    bif Nat.blt k 86 then
     bif Nat.blt k 77 then
      bif Nat.blt k 73 then
       bif Nat.blt k 71 then
        bif Nat.blt k 70 then
         yX9_lowest
        else
         yX9_weight
       else
        bif Nat.blt k 72 then
         yX9_year
        else
         yX9_passes
      else
       bif Nat.blt k 75 then
        bif Nat.blt k 74 then
         yX9_lift
        else
         yX9_run
       else
        bif Nat.blt k 76 then
         yX9_laysAside
        else
         yX9_go
     else
      bif Nat.blt k 81 then
       bif Nat.blt k 79 then
        bif Nat.blt k 78 then
         yX9_laysBack
        else
         yX9_heavy
       else
        bif Nat.blt k 80 then
         yX9_when
        else
         yX9_best
      else
       bif Nat.blt k 83 then
        bif Nat.blt k 82 then
         yX9_lightest
        else
         yX9_hereSet
       else
        bif Nat.blt k 84 then
         yX9_leaveSet
        else
         bif Nat.blt k 85 then
          yX9_bitsOf
         else
          yX9_hereJust
    else
     bif Nat.blt k 94 then
      bif Nat.blt k 90 then
       bif Nat.blt k 88 then
        bif Nat.blt k 87 then
         yX9_anyCan
        else
         yX9_prop
       else
        bif Nat.blt k 89 then
         yX9_floorBehind
        else
         yX9_sit
      else
       bif Nat.blt k 92 then
        bif Nat.blt k 91 then
         yX9_tells
        else
         yX9_isSheet
       else
        bif Nat.blt k 93 then
         yX9_firstOther
        else
         yX9_turnedSet
     else
      bif Nat.blt k 98 then
       bif Nat.blt k 96 then
        bif Nat.blt k 95 then
         yX9_film
        else
         yX9_sheet
       else
        bif Nat.blt k 97 then
         yX9_drawn
        else
         yX9_floorDrawn
      else
       bif Nat.blt k 100 then
        bif Nat.blt k 99 then
         yX9_chance
        else
         yX9_image
       else
        bif Nat.blt k 101 then
         yX9_back
        else
         bif Nat.blt k 102 then
          yX9_count
         else
          yX9_cell
   else
    bif Nat.blt k 120 then
     bif Nat.blt k 111 then
      bif Nat.blt k 107 then
       bif Nat.blt k 105 then
        bif Nat.blt k 104 then
         yX9_copy
        else
         yX9_court
       else
        bif Nat.blt k 106 then
         yX9_taken
        else
         yX9_over
      else
       bif Nat.blt k 109 then
        bif Nat.blt k 108 then
         yX0_person
        else
         yX0_in
       else
        bif Nat.blt k 110 then
         yX0_made
        else
         yX0_set
     else
      bif Nat.blt k 115 then
       bif Nat.blt k 113 then
        bif Nat.blt k 112 then
         yX0_isThere
        else
         yX0_isFloor
       else
        bif Nat.blt k 114 then
         yX0_isOne
        else
         yX0_mostOf
      else
       bif Nat.blt k 117 then
        bif Nat.blt k 116 then
         yX0_heldBy
        else
         yX0_becomes
       else
        bif Nat.blt k 118 then
         yX0_told
        else
         bif Nat.blt k 119 then
          yX0_strongOf
         else
          yX0_says
    else
     bif Nat.blt k 129 then
      bif Nat.blt k 124 then
       bif Nat.blt k 122 then
        bif Nat.blt k 121 then
         yX0_others
        else
         yX0_held
       else
        bif Nat.blt k 123 then
         yX0_loadNow
        else
         yX0_easedOf
      else
       bif Nat.blt k 126 then
        bif Nat.blt k 125 then
         yX0_canLift
        else
         yX0_tellsWeight
       else
        bif Nat.blt k 127 then
         yX0_tellsFelt
        else
         bif Nat.blt k 128 then
          yX0_feed
         else
          yX0_text
     else
      bif Nat.blt k 133 then
       bif Nat.blt k 131 then
        bif Nat.blt k 130 then
         yX0_newText
        else
         yX0_next
       else
        bif Nat.blt k 132 then
         yX0_byteAt
        else
         yX0_isLetter
      else
       bif Nat.blt k 135 then
        bif Nat.blt k 134 then
         yX0_word
        else
         yX0_placeIn
       else
        bif Nat.blt k 136 then
         yX0_isDigit
        else
         bif Nat.blt k 137 then
          yX0_digits
         else
          yX0_isKey
 else
  bif Nat.blt k 207 then
   bif Nat.blt k 172 then
    bif Nat.blt k 155 then
     bif Nat.blt k 146 then
      bif Nat.blt k 142 then
       bif Nat.blt k 140 then
        bif Nat.blt k 139 then
         yX0_need
        else
         yX0_either
       else
        bif Nat.blt k 141 then
         yX0_both
        else
         yX0_not
      else
       bif Nat.blt k 144 then
        bif Nat.blt k 143 then
         yX0_openOne
        else
         yX0_plus
       else
        bif Nat.blt k 145 then
         yX0_times
        else
         yX0_one
     else
      bif Nat.blt k 150 then
       bif Nat.blt k 148 then
        bif Nat.blt k 147 then
         yX0_isSign
        else
         yX0_init
       else
        bif Nat.blt k 149 then
         yX0_firstText
        else
         yX0_force
      else
       bif Nat.blt k 152 then
        bif Nat.blt k 151 then
         yX0_isText
        else
         yX0_feels
       else
        bif Nat.blt k 153 then
         yX0_weight
        else
         bif Nat.blt k 154 then
          yX0_year
         else
          yX0_passes
    else
     bif Nat.blt k 163 then
      bif Nat.blt k 159 then
       bif Nat.blt k 157 then
        bif Nat.blt k 156 then
         yX0_lift
        else
         yX0_run
       else
        bif Nat.blt k 158 then
         yX0_onBehind
        else
         yX0_keeps
      else
       bif Nat.blt k 161 then
        bif Nat.blt k 160 then
         yX0_laysBack
        else
         yX0_easeBehind
       else
        bif Nat.blt k 162 then
         yX0_heavy
        else
         yX0_when
     else
      bif Nat.blt k 167 then
       bif Nat.blt k 165 then
        bif Nat.blt k 164 then
         yX0_firstTime
        else
         yX0_isNow
       else
        bif Nat.blt k 166 then
         yX0_best
        else
         yX0_leave
      else
       bif Nat.blt k 169 then
        bif Nat.blt k 168 then
         yX0_hereSet
        else
         yX0_comes
       else
        bif Nat.blt k 170 then
         yX0_isIn
        else
         bif Nat.blt k 171 then
          yX0_anybodyLifts
         else
          yX0_lightestOf
   else
    bif Nat.blt k 189 then
     bif Nat.blt k 180 then
      bif Nat.blt k 176 then
       bif Nat.blt k 174 then
        bif Nat.blt k 173 then
         yX0_prop
        else
         yX0_onPropping
       else
        bif Nat.blt k 175 then
         yX0_sit
        else
         yX0_onSitting
      else
       bif Nat.blt k 178 then
        bif Nat.blt k 177 then
         yX0_tells
        else
         yX0_isSheet
       else
        bif Nat.blt k 179 then
         yX0_sortOf
        else
         yX0_lengthOf
     else
      bif Nat.blt k 184 then
       bif Nat.blt k 182 then
        bif Nat.blt k 181 then
         yX0_unlike
        else
         yX0_item
       else
        bif Nat.blt k 183 then
         yX0_asksPlace
        else
         yX0_kindsOf
      else
       bif Nat.blt k 186 then
        bif Nat.blt k 185 then
         yX0_isSoAs
        else
         yX0_numbersOf
       else
        bif Nat.blt k 187 then
         yX0_isSoBy
        else
         bif Nat.blt k 188 then
          yX0_manyBy
         else
          yX0_textsOf
    else
     bif Nat.blt k 198 then
      bif Nat.blt k 193 then
       bif Nat.blt k 191 then
        bif Nat.blt k 190 then
         yX0_peopleOf
        else
         yX0_film
       else
        bif Nat.blt k 192 then
         yX0_sheet
        else
         yX0_rowOf
      else
       bif Nat.blt k 195 then
        bif Nat.blt k 194 then
         yX0_cell
        else
         yX0_put
       else
        bif Nat.blt k 196 then
         yX0_drawn
        else
         bif Nat.blt k 197 then
          yX0_onDrawn
         else
          yX0_chance
     else
      bif Nat.blt k 202 then
       bif Nat.blt k 200 then
        bif Nat.blt k 199 then
         yX0_lowest
        else
         yX0_image
       else
        bif Nat.blt k 201 then
         yX0_back
        else
         yX0_count
      else
       bif Nat.blt k 204 then
        bif Nat.blt k 203 then
         yX0_copy
        else
         yX0_court
       else
        bif Nat.blt k 205 then
         yX0_came
        else
         bif Nat.blt k 206 then
          yX0_taken
         else
          yX0_as
  else
   bif Nat.blt k 242 then
    bif Nat.blt k 224 then
     bif Nat.blt k 215 then
      bif Nat.blt k 211 then
       bif Nat.blt k 209 then
        bif Nat.blt k 208 then
         yX1_init
        else
         yX2_is
       else
        bif Nat.blt k 210 then
         yX2_lowers
        else
         yX2_by
      else
       bif Nat.blt k 213 then
        bif Nat.blt k 212 then
         yX2_lessens
        else
         yX2_adds
       else
        bif Nat.blt k 214 then
         yX2_against
        else
         yX2_init
     else
      bif Nat.blt k 219 then
       bif Nat.blt k 217 then
        bif Nat.blt k 216 then
         yX2_told
        else
         yX2_against_2
       else
        bif Nat.blt k 218 then
         yX2_becomes
        else
         yX3_init
      else
       bif Nat.blt k 221 then
        bif Nat.blt k 220 then
         yX10_init
        else
         yX10_kind
       else
        bif Nat.blt k 222 then
         yX10_strong
        else
         bif Nat.blt k 223 then
          yX10_eased
         else
          yX10_feels
    else
     bif Nat.blt k 233 then
      bif Nat.blt k 228 then
       bif Nat.blt k 226 then
        bif Nat.blt k 225 then
         yX10_like
        else
         yX11_init
       else
        bif Nat.blt k 227 then
         yX11_kind
        else
         yX11_strong
      else
       bif Nat.blt k 230 then
        bif Nat.blt k 229 then
         yX11_eased
        else
         yX11_feels
       else
        bif Nat.blt k 231 then
         yX12_init
        else
         bif Nat.blt k 232 then
          yX12_kind
         else
          yX12_strong
     else
      bif Nat.blt k 237 then
       bif Nat.blt k 235 then
        bif Nat.blt k 234 then
         yX12_eased
        else
         yX12_feels
       else
        bif Nat.blt k 236 then
         yX13_init
        else
         yX13_kind
      else
       bif Nat.blt k 239 then
        bif Nat.blt k 238 then
         yX13_strong
        else
         yX13_eased
       else
        bif Nat.blt k 240 then
         yX13_feels
        else
         bif Nat.blt k 241 then
          yX14_init
         else
          yX14_kind
   else
    bif Nat.blt k 259 then
     bif Nat.blt k 250 then
      bif Nat.blt k 246 then
       bif Nat.blt k 244 then
        bif Nat.blt k 243 then
         yX14_strong
        else
         yX14_eased
       else
        bif Nat.blt k 245 then
         yX14_feels
        else
         yX15_init
      else
       bif Nat.blt k 248 then
        bif Nat.blt k 247 then
         yX15_kind
        else
         yX15_strong
       else
        bif Nat.blt k 249 then
         yX15_eased
        else
         yX15_feels
     else
      bif Nat.blt k 254 then
       bif Nat.blt k 252 then
        bif Nat.blt k 251 then
         yX6_worth
        else
         yX6_init
       else
        bif Nat.blt k 253 then
         yX7_worth
        else
         yX7_init
      else
       bif Nat.blt k 256 then
        bif Nat.blt k 255 then
         yX5_worth
        else
         yX5_init
       else
        bif Nat.blt k 257 then
         yX8_worth
        else
         bif Nat.blt k 258 then
          yX8_init
         else
          yX4_init
    else
     bif Nat.blt k 268 then
      bif Nat.blt k 263 then
       bif Nat.blt k 261 then
        bif Nat.blt k 260 then
         yJ9_compare
        else
         yJ10_bitCount
       else
        bif Nat.blt k 262 then
         yJ0_init_2
        else
         yJ1_init
      else
       bif Nat.blt k 265 then
        bif Nat.blt k 264 then
         yJ2_init
        else
         yJ3_length
       else
        bif Nat.blt k 266 then
         yJ3_coder
        else
         bif Nat.blt k 267 then
          yJ3_charAt
         else
          yJ3_isLatin1
     else
      bif Nat.blt k 272 then
       bif Nat.blt k 270 then
        bif Nat.blt k 269 then
         yJ3_checkIndex
        else
         yJ3_indexOf
       else
        bif Nat.blt k 271 then
         yJ3_indexOf_2
        else
         yJ4_charAt
      else
       bif Nat.blt k 274 then
        bif Nat.blt k 273 then
         yJ4_indexOf
        else
         yJ4_canEncode
       else
        bif Nat.blt k 275 then
         yJ4_indexOfChar
        else
         bif Nat.blt k 900 then
          yJ5_checkIndex
         else
          x

/-- what calls name that are looked up by the receiver -/
def mxs (k : Nat) : MethodName := match k with
  | 0 => ⟨"NobodyCanLiftIt$Man", "kind", "()I"⟩
  | 1 => ⟨"NobodyCanLiftIt$Man", "feels", "(LNobodyCanLiftIt$Part;I)V"⟩
  | 2 => ⟨"NobodyCanLiftIt$Man", "strong", "(II)I"⟩
  | 3 => ⟨"NobodyCanLiftIt$Man", "eased", "(II)I"⟩
  | 4 => ⟨"NobodyCanLiftIt$Man", "like", "(LNobodyCanLiftIt$Man;)LNobodyCanLiftIt$Man;"⟩
  | _ => ⟨"NobodyCanLiftIt$Node", "worth", "()I"⟩
def mxp (k : Nat) : Nat := match k with
  | 1 => 2
  | 2 => 2
  | 3 => 2
  | 4 => 1
  | _ => 0
/-- what the shape of an entry's value says of a field's kind -/
def mSh (v : mV) (kd : Nat) : Prop := match v with
  | .inl _ => kd ≤ 4
  | .inr (.inl _) => kd = 5
  | .inr (.inr _) => kd = 6
/-- kind t is that of b's class or of one below it -/
def mIs (t b : Nat) : Bool := Nat.beq t b || (Nat.beq b 4 && (Nat.ble 5 t && Nat.ble t 9)) || (Nat.beq b 5 && Nat.beq t 7) || (Nat.beq b 6 && Nat.beq t 8)
theorem mIs_ok : ∀ (t b : Nat) (q q' : vw_C), mIs t b = true → mcl[t]? = some q → mcl[b]? = some q' → q'.2.2 ≤ q.2.2 ∧ ∀ a, a < q'.2.2 → q.2.1 a = q'.2.1 a := by
  intro t b q q' h hq hq'
  by_cases e : t = b
  · subst e
    cases hq.symm.trans hq'
    exact ⟨Nat.le_refl _, fun _ _ => rfl⟩
  · have h1 : (b = 4 ∧ 5 ≤ t ∧ t ≤ 9) ∨ (b = 5 ∧ t = 7) ∨ (b = 6 ∧ t = 8) := by
      unfold mIs at h
      rcases Bool.or_eq_true_iff.mp h with h | h
      · rcases Bool.or_eq_true_iff.mp h with h | h
        · rcases Bool.or_eq_true_iff.mp h with h | h
          · exact absurd (Nat.eq_of_beq_eq_true h) e
          · obtain ⟨p1, p2⟩ := Bool.and_eq_true_iff.mp h
            obtain ⟨p2, p3⟩ := Bool.and_eq_true_iff.mp p2
            exact Or.inl ⟨Nat.eq_of_beq_eq_true p1, Nat.le_of_ble_eq_true p2, Nat.le_of_ble_eq_true p3⟩
        · obtain ⟨p1, p2⟩ := Bool.and_eq_true_iff.mp h
          exact Or.inr (Or.inl ⟨Nat.eq_of_beq_eq_true p1, Nat.eq_of_beq_eq_true p2⟩)
      · obtain ⟨p1, p2⟩ := Bool.and_eq_true_iff.mp h
        exact Or.inr (Or.inr ⟨Nat.eq_of_beq_eq_true p1, Nat.eq_of_beq_eq_true p2⟩)
    have h2 : ∀ t', t' < 10 → 4 ≤ t' → ∀ q, mcl[t']? = some q → q.2.2 = 4 ∧ q.2.1 0 = ("NobodyCanLiftIt$Man", "number", "I", false) ∧ q.2.1 1 = ("NobodyCanLiftIt$Man", "age", "I", false) ∧ q.2.1 2 = ("NobodyCanLiftIt$Man", "ease", "I", false) ∧ q.2.1 3 = ("NobodyCanLiftIt$Man", "here", "Z", false) := by
      intro t' h1 h2 q hq
      match t', h1, h2, hq with
      | 4, _, _, hq => cases hq; exact ⟨rfl, rfl, rfl, rfl, rfl⟩
      | 5, _, _, hq => cases hq; exact ⟨rfl, rfl, rfl, rfl, rfl⟩
      | 6, _, _, hq => cases hq; exact ⟨rfl, rfl, rfl, rfl, rfl⟩
      | 7, _, _, hq => cases hq; exact ⟨rfl, rfl, rfl, rfl, rfl⟩
      | 8, _, _, hq => cases hq; exact ⟨rfl, rfl, rfl, rfl, rfl⟩
      | 9, _, _, hq => cases hq; exact ⟨rfl, rfl, rfl, rfl, rfl⟩
    obtain ⟨a0, a1, a2, a3, a4⟩ := h2 t (by omega) (by omega) q hq
    obtain ⟨b0, b1, b2, b3, b4⟩ := h2 b (by omega) (by omega) q' hq'
    refine ⟨by omega, fun a ha => ?_⟩
    rw [b0] at ha
    match a, ha with
    | 0, _ => rw [a1, b1]
    | 1, _ => rw [a2, b2]
    | 2, _ => rw [a3, b3]
    | 3, _ => rw [a4, b4]
/-- words of the tables that ride beside the lists: links of nest mates -/
def mxM : List (String × Nat × MethodName × String) := [("NobodyCanLiftIt", 295, ⟨"NobodyCanLiftIt$Part", "<init>", "()V"⟩, "NobodyCanLiftIt"), ("NobodyCanLiftIt", 325, ⟨"NobodyCanLiftIt$Sheet", "<init>", "()V"⟩, "NobodyCanLiftIt"), ("NobodyCanLiftIt$Name", 7, ⟨"NobodyCanLiftIt$Node", "<init>", "()V"⟩, "NobodyCanLiftIt"), ("NobodyCanLiftIt$Name", 43, ⟨"NobodyCanLiftIt", "others", "(I)I"⟩, "NobodyCanLiftIt"), ("NobodyCanLiftIt$Number", 1, ⟨"NobodyCanLiftIt$Node", "<init>", "()V"⟩, "NobodyCanLiftIt"), ("NobodyCanLiftIt$Turned", 1, ⟨"NobodyCanLiftIt$Node", "<init>", "()V"⟩, "NobodyCanLiftIt"), ("NobodyCanLiftIt$Two", 1, ⟨"NobodyCanLiftIt$Node", "<init>", "()V"⟩, "NobodyCanLiftIt")]
def mxF : List (String × Nat × String × String × String × String) := [("NobodyCanLiftIt", 490, "NobodyCanLiftIt$Sheet", "row", "Ljava/lang/Object;", "NobodyCanLiftIt"), ("NobodyCanLiftIt$Name", 17, "NobodyCanLiftIt", "folk", "[LNobodyCanLiftIt$Man;", "NobodyCanLiftIt"), ("NobodyCanLiftIt$Name", 23, "NobodyCanLiftIt", "forOne", "I", "NobodyCanLiftIt"), ("NobodyCanLiftIt$Name", 34, "NobodyCanLiftIt", "on", "I", "NobodyCanLiftIt"), ("NobodyCanLiftIt$Name", 37, "NobodyCanLiftIt", "year", "I", "NobodyCanLiftIt")]
def mxC : List (String × String) := [("java/lang/IndexOutOfBoundsException", "java/lang/IndexOutOfBoundsException"), ("java/lang/NegativeArraySizeException", "java/lang/NegativeArraySizeException"), ("java/lang/NullPointerException", "java/lang/NullPointerException"), ("java/lang/ArrayIndexOutOfBoundsException", "java/lang/ArrayIndexOutOfBoundsException"), ("java/lang/ArrayIndexOutOfBoundsException", "java/lang/IndexOutOfBoundsException"), ("java/lang/ClassCastException", "java/lang/ClassCastException"), ("java/lang/RuntimeException", "java/lang/Throwable"), ("NobodyCanLiftIt$Faulty", "NobodyCanLiftIt$Faulty"), ("NobodyCanLiftIt$King", "NobodyCanLiftIt$Man"), ("NobodyCanLiftIt$Child", "NobodyCanLiftIt$Man"), ("NobodyCanLiftIt$Queen", "NobodyCanLiftIt$King"), ("NobodyCanLiftIt$Queen", "NobodyCanLiftIt$Man"), ("NobodyCanLiftIt$Knitter", "NobodyCanLiftIt$Child"), ("NobodyCanLiftIt$Knitter", "NobodyCanLiftIt$Man"), ("NobodyCanLiftIt$Engineer", "NobodyCanLiftIt$Man"), ("NobodyCanLiftIt$Turned", "NobodyCanLiftIt$Node"), ("NobodyCanLiftIt$Number", "NobodyCanLiftIt$Node"), ("NobodyCanLiftIt$Name", "NobodyCanLiftIt$Node"), ("NobodyCanLiftIt$Two", "NobodyCanLiftIt$Node")]
def mxA : List FieldType := [.object "NobodyCanLiftIt$Man", .object "NobodyCanLiftIt$Node", .array (.object "NobodyCanLiftIt$Node"), .object "java/lang/String", .array .int, .object "NobodyCanLiftIt$Sheet"]
/-- the exceptions: 0 .. 4 -/
def mxn (k : Nat) : String := match k with
  | 0 => "NobodyCanLiftIt$Faulty"
  | 1 => "java/lang/IndexOutOfBoundsException"
  | 2 => "java/lang/NullPointerException"
  | 3 => "java/lang/ClassCastException"
  | _ => "java/lang/NegativeArraySizeException"
def mFld (own : String) (idx a b : Nat) : Prop := ∃ q : vw_C, mcl[b]? = some q ∧ a < q.2.2 ∧ ∃ ref : String, (Cond.fieldLink own idx ref (q.2.1 a).2.1 (q.2.1 a).2.2.1 ∈ lw_all ∨ ∃ host : String, (own, idx, ref, (q.2.1 a).2.1, (q.2.1 a).2.2.1, host) ∈ mxF) ∧ (ref = (q.2.1 a).1 ∨ Cond.sameField ref (q.2.1 a).1 (q.2.1 a).2.1 (q.2.1 a).2.2.1 ∈ lw_all)
def mFin (y : MethodName) (idx a b : Nat) : Prop := ∀ q : vw_C, mcl[b]? = some q → (q.2.1 a).2.2.2 = false ∨ ((q.2.1 a).2.2.2 = true ∧ (q.2.1 a).1 = y.cls ∧ y.name = "<init>" ∧ Cond.fieldLink y.cls idx (q.2.1 a).1 (q.2.1 a).2.1 (q.2.1 a).2.2.1 ∈ lw_all)
/-- the statics that are read: class, name, type -/
def msn (a : Nat) : String × String × String := match a with
  | 0 => ("java/lang/String", "COMPACT_STRINGS", "Z")
  | 1 => ("jdk/internal/util/Preconditions", "SIOOBE_FORMATTER", "Ljava/util/function/BiFunction;")
  | 2 => ("java/lang/Throwable", "UNASSIGNED_STACK", "[Ljava/lang/StackTraceElement;")
  | _ => ("java/lang/Throwable", "SUPPRESSED_SENTINEL", "Ljava/util/List;")
/-- the text constants: entry, text -/
def mtx0 : List (Nat × String) := [(162, "();+-*<="), (274, "feels"), (276, "strong"), (278, "eases"), (280, "or"), (282, "and"), (284, "not"), (285, "age"), (286, "number"), (287, "floor"), (289, "year"), (290, "ease"), (291, "others"), (330, "feels 10 ; strong age ; eases 1 ;")]
def mRt (a : Nat) : Option FieldType := match a with
  | 0 => some .int
  | 1 => some .boolean
  | 2 => some .char
  | _ => some .byte
/-- Math's own: 991 min, 992 max, 993 abs (long), 994 max (long) -/
def mMth (own : String) (idx a : Nat) : Prop := (900 ≤ a ∧ a < 998) ∧ Cond.initialized "java/lang/Math" ∈ lw_all ∧
  (a = 991 → Cond.methodLink own idx Lib.Math.min.name ∈ lw_all ∧ Cond.static Lib.Math.min.name ∈ lw_all ∧ Cond.code Lib.Math.min.name Lib.Math.min.code 2 (some .int) ∈ lw_all) ∧
  (a = 992 → Cond.methodLink own idx Lib.Math.max.name ∈ lw_all ∧ Cond.static Lib.Math.max.name ∈ lw_all ∧ Cond.code Lib.Math.max.name Lib.Math.max.code 2 (some .int) ∈ lw_all) ∧
  (a = 993 → Cond.methodLink own idx Lib.MathLoose.abs_long.x ∈ lw_all ∧ Cond.static Lib.MathLoose.abs_long.x ∈ lw_all ∧ Cond.code Lib.MathLoose.abs_long.x Lib.MathLoose.abs_long.code 2 (some .long) ∈ lw_all) ∧
  (a = 994 → Cond.methodLink own idx Lib.MathLoose.max_long.x ∈ lw_all ∧ Cond.static Lib.MathLoose.max_long.x ∈ lw_all ∧ Cond.code Lib.MathLoose.max_long.x Lib.MathLoose.max_long.code 4 (some .long) ∈ lw_all)
def mOKx (y : MethodName) (cc : ByteArray) (ml : Nat) (rt : Option FieldType) (pc : Nat) (e : mE) : Prop := match e.1 with
  | .iconst n => ∃ x : Int32, e.2.2.1 = .inl x ∧ Int32.ofInt n = x
  | .bipush n => ∃ x : Int32, e.2.2.1 = .inl x ∧ (Int8.ofInt n).toInt32 = x
  | .sipush n => ∃ x : Int32, e.2.2.1 = .inl x ∧ (Int16.ofInt n).toInt32 = x
  | .lconst n => ∃ x : Int64, e.2.2.1 = .inr (.inl x) ∧ Int64.ofNat (n : Nat) = x
  | .ldc idx => (∃ x : Int32, e.2.2.1 = .inl x ∧ Cond.constant y.cls idx x ∈ lw_all) ∨ ∃ (j : Nat) (tx : String), e.2.2.1 = .inr (.inr (some (2, 2 + j))) ∧ y.cls = RX0 ∧ mtx0[j]? = some (idx, tx)
  | .ldc_w idx => (∃ x : Int32, e.2.2.1 = .inl x ∧ Cond.constant y.cls idx x ∈ lw_all) ∨ ∃ (j : Nat) (tx : String), e.2.2.1 = .inr (.inr (some (2, 2 + j))) ∧ y.cls = RX0 ∧ mtx0[j]? = some (idx, tx)
  | .getstatic idx => Cond.fieldLink y.cls idx (msn e.2.2.2.1).1 (msn e.2.2.2.1).2.1 (msn e.2.2.2.1).2.2 ∈ lw_all ∧ ((e.2.2.2.1 = 0 ∧ e.2.2.1 = .inl 1) ∨ (1 ≤ e.2.2.2.1 ∧ e.2.2.2.1 < 4 ∧ e.2.2.1 = .inr (.inr none)))
  | .multianewarray idx dim => dim = 2 ∧ e.2.2.2.1 = 8 ∧ e.2.2.2.2 = 0 ∧ Cond.classLink y.cls idx "[[I" ∈ lw_all
  | .ldc2_w idx => ∃ x : Int64, e.2.2.1 = .inr (.inl x) ∧ Cond.constantLong y.cls idx x ∈ lw_all
  | .istore j => j < ml
  | .istore_n j => j.val < ml
  | .astore j => j < ml
  | .astore_n j => j.val < ml
  | .lstore j => j + 1 < ml
  | .lstore_n j => j.val + 1 < ml
  | .iinc j n => j < ml ∧ ∃ x : Int32, e.2.2.1 = .inl x ∧ Int32.ofInt n = x
  | .ifCond _ off => (pc : Int) + off = (e.2.2.2.1 : Int)
  | .if_icmp _ off => (pc : Int) + off = (e.2.2.2.1 : Int)
  | .ifnull off => (pc : Int) + off = (e.2.2.2.1 : Int)
  | .ifnonnull off => (pc : Int) + off = (e.2.2.2.1 : Int)
  | .goto off => (pc : Int) + off = (e.2.2.2.1 : Int)
  | .getfield idx => mFld y.cls idx e.2.2.2.1 e.2.2.2.2 ∧ mSh e.2.2.1 (mKd e.2.2.2.2 e.2.2.2.1)
  | .putfield idx => mFld y.cls idx e.2.2.2.1 (e.2.2.2.2 % 100) ∧ mSh e.2.2.1 (mKd (e.2.2.2.2 % 100) e.2.2.2.1) ∧ (mKd (e.2.2.2.2 % 100) e.2.2.2.1 ≤ 4 → mKd (e.2.2.2.2 % 100) e.2.2.2.1 ≤ 1) ∧ (e.2.2.2.2 / 100 = 0 → mKd (e.2.2.2.2 % 100) e.2.2.2.1 ≠ 1) ∧ mFin y idx e.2.2.2.1 (e.2.2.2.2 % 100)
  | .areturn => ∃ t : FieldType, rt = some t ∧ ((∃ n, t = .object n) ∨ ∃ u, t = .array u)
  | .tableswitch dflt lo hi offs => 0 ≤ (pc : Int) + dflt ∧ (offs.toList.all fun o => decide (0 ≤ (pc : Int) + o)) = true ∧ (offs.size : Int) = hi - lo + 1
  | .lookupswitch dflt ps => (ps.toList.zip (ps.toList.drop 1)).all (fun (a, next) => a.1 < next.1) = true ∧ 0 ≤ (pc : Int) + dflt ∧ (ps.toList.all fun o => decide (0 ≤ (pc : Int) + o.2)) = true
  | .new idx => (e.2.2.2.1 = 901 ∧ Cond.classLink y.cls idx (mxn 1) ∈ lw_all ∧ Cond.initialized (mxn 1) ∈ lw_all ∧ y.cls = RX0 ∧ decode cc (pc + 3) = .ok (.dup, 1) ∧ decode cc (pc + 4) = .ok (.invokespecial 561, 3) ∧ decode cc (pc + 7) = .ok (.athrow, 1)) ∨ ∃ q : vw_C, mcl[e.2.2.2.1]? = some q ∧ Cond.classLink y.cls idx q.1 ∈ lw_all ∧ Cond.instantiable q.1 q.2.2 ∈ lw_all ∧ Cond.initialized q.1 ∈ lw_all ∧ e.2.2.2.2 < 2
  | .anewarray idx => 4 ≤ e.2.2.2.1 ∧ e.2.2.2.1 < 10 ∧ e.2.2.2.2 < 2 ∧ ((∃ C : String, mta e.2.2.2.1 = .object C ∧ Cond.classLink y.cls idx C ∈ lw_all) ∨ ∃ t : FieldType, mta e.2.2.2.1 = .array t ∧ Cond.classLink y.cls idx (FieldType.array t).toString ∈ lw_all)
  | .checkcast idx => (50 ≤ e.2.2.2.1 ∧ e.2.2.2.1 < 54 ∧ Cond.classLink y.cls idx ("[" ++ (mta (e.2.2.2.1 - 50)).toString) ∈ lw_all) ∨ ∃ q : vw_C, mcl[e.2.2.2.1]? = some q ∧ Cond.classLink y.cls idx q.1 ∈ lw_all
  | .instanceof idx => 50 ≤ e.2.2.2.1 ∧ e.2.2.2.1 < 54 ∧ Cond.classLink y.cls idx ("[" ++ (mta (e.2.2.2.1 - 50)).toString) ∈ lw_all
  | .invokevirtual idx => match e.2.2.2.2 / 100 with
    | 0 => e.2.2.2.1 < 900 ∧ Cond.methodLink y.cls idx (my e.2.2.2.1) ∈ lw_all ∧ Cond.instanceMethod (my e.2.2.2.1) ∈ lw_all ∧ Cond.selects (my e.2.2.2.1).cls (my e.2.2.2.1) (my e.2.2.2.1) ∈ lw_all ∧ ∃ q : vw_C, mcl[e.2.2.2.2 % 100]? = some q ∧ q.1 = (my e.2.2.2.1).cls
    | 1 => Cond.methodLink y.cls idx (mxs e.2.2.2.1) ∈ lw_all
    | _ => e.2.2.2.1 < 900 ∧ (∃ host : String, (y.cls, idx, my e.2.2.2.1, host) ∈ mxM) ∧ Cond.instanceMethod (my e.2.2.2.1) ∈ lw_all ∧ Cond.selects (my e.2.2.2.1).cls (my e.2.2.2.1) (my e.2.2.2.1) ∈ lw_all ∧ ∃ q : vw_C, mcl[e.2.2.2.2 % 100]? = some q ∧ q.1 = (my e.2.2.2.1).cls
  | .invokestatic idx => (e.2.2.2.1 < 900 ∧ Cond.methodLink y.cls idx (my e.2.2.2.1) ∈ lw_all ∧ Cond.static (my e.2.2.2.1) ∈ lw_all) ∨ mMth y.cls idx e.2.2.2.1 ∨ (e.2.2.2.1 = 998 ∧ Cond.methodLink y.cls idx arraycopyName ∈ lw_all ∧ Cond.native arraycopyName ∈ lw_all ∧ Cond.static arraycopyName ∈ lw_all ∧ Cond.initialized "java/lang/System" ∈ lw_all)
  | .invokespecial idx => match e.2.2.2.2 with
    | 0 => e.2.2.2.1 = 999 ∧ Cond.methodLink y.cls idx Lib.objectInit ∈ lw_all ∧ Cond.instanceMethod Lib.objectInit ∈ lw_all ∧ Cond.code Lib.objectInit ⟨#[0xb1]⟩ 1 none ∈ lw_all
    | 1 => e.2.2.2.1 < 900 ∧ (my e.2.2.2.1).name = "<init>" ∧ Cond.methodLink y.cls idx (my e.2.2.2.1) ∈ lw_all ∧ Cond.instanceMethod (my e.2.2.2.1) ∈ lw_all
    | 2 => e.2.2.2.1 < 900 ∧ (my e.2.2.2.1).name = "<init>" ∧ (∃ host : String, (y.cls, idx, my e.2.2.2.1, host) ∈ mxM) ∧ Cond.instanceMethod (my e.2.2.2.1) ∈ lw_all
    | _ => e.2.2.2.1 < 900 ∧ (my e.2.2.2.1).name ≠ "<init>" ∧ Cond.methodLink y.cls idx (my e.2.2.2.1) ∈ lw_all ∧ Cond.sameMethod (my e.2.2.2.1).cls (my e.2.2.2.1).cls (my e.2.2.2.1).name (my e.2.2.2.1).desc ∈ lw_all ∧ Cond.superclass y.cls (my e.2.2.2.1).cls ∈ lw_all ∧ Cond.instanceMethod (my e.2.2.2.1) ∈ lw_all ∧ ∃ q : vw_C, mcl[e.2.2.2.2 - 3]? = some q ∧ q.1 = (my e.2.2.2.1).cls
  | .newarray aty => Cond.arrayClass (newarray.typeOf aty) ∈ lw_all ∧ newarray.typeOf aty = mta e.2.2.2.1 ∧ e.2.2.2.1 < 4 ∧ e.2.2.2.2 < 2
  | .ireturn => rt = mRt e.2.2.2.1
  | .lreturn => rt = some .long
  | .return_ => rt = none
  | _ => True
def mOK (y : MethodName) (cc : ByteArray) (ml : Nat) (rt : Option FieldType) (pc : Nat) (e : mE) : Prop := decode cc pc = .ok (e.1, mWd pc e.1) ∧ e.2.1 = pc + mW e.1 ∧ mOKx y cc ml rt pc e
/-- handlers: from, to, where it goes on behind the handler's own store, that local, the exception (99: any) -/
def mHok (y : MethodName) (cc : ByteArray) (ml : Nat) : List (Nat × Nat × Nat × Nat) → List (Nat × Nat × Nat × Nat × Nat) → Prop
  | [], [] => True
  | h :: hs, g :: gs => h.1 = g.1 ∧ h.2.1 = g.2.1 ∧ (g.2.2.2.2 = 99 ∨ (g.2.2.2.2 < 5 ∧ h.2.2.2 ≠ 0 ∧ Cond.classLink y.cls h.2.2.2 (mxn g.2.2.2.2) ∈ lw_all ∧ g.2.2.2.1 < ml ∧ ((decode cc h.2.2.1 = .ok (.astore g.2.2.2.1, 2) ∧ g.2.2.1 = h.2.2.1 + 2) ∨ ∃ q : Fin 4, q.val = g.2.2.2.1 ∧ decode cc h.2.2.1 = .ok (.astore_n q, 1) ∧ g.2.2.1 = h.2.2.1 + 1))) ∧ mHok y cc ml hs gs
  | _, _ => False
/-- what is known of a method: locals, answer, how many parameters -/
def mMOK (y : MethodName) (cc : ByteArray) (x : Nat × Option FieldType × Nat) (hh : List (Nat × Nat × Nat × Nat)) (gg : List (Nat × Nat × Nat × Nat × Nat)) : Prop := ((hh = [] ∧ Cond.code y cc x.1 x.2.1 ∈ lw_all) ∨ (hh ≠ [] ∧ Cond.codeWith y cc x.1 x.2.1 hh ∈ lw_all)) ∧ plainName y.cls = true ∧ Cond.initialized y.cls ∈ lw_all ∧ (y.cls ≠ "java/lang/invoke/MethodHandle" ∧ y.cls ≠ "java/lang/invoke/VarHandle") ∧ (parseMethodDescriptor y.desc).map (fun d => d.parameters.length) = some x.2.2 ∧ x.1 ≤ 40 ∧ mHok y cc x.1 hh gg
