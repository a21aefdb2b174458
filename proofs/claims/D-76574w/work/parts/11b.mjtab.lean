set_option maxRecDepth 100000
set_option linter.unusedVariables false
noncomputable def mt107 (pc : Nat) : Option {e : mE // mOK yX0_person cX0_person 4 ((Option.some ClassFile.FieldType.int)) pc e} :=
 bif Nat.blt pc 44 then
  bif Nat.blt pc 21 then
   bif Nat.blt pc 9 then
    bif Nat.blt pc 2 then
     bif Nat.blt pc 1 then
      if h : pc = 0 then some ⟨(.iload_n 1, 1, .inl 0, 0, 0), by subst h; exact ⟨dX0_person_0, rfl, trivial⟩⟩ else none
     else
      if h : pc = 1 then some ⟨(.i2l, 2, .inl 0, 0, 0), by subst h; exact ⟨dX0_person_1, rfl, trivial⟩⟩ else none
    else
     bif Nat.blt pc 3 then
      if h : pc = 2 then some ⟨(.lconst 0, 3, .inr (.inl 0), 0, 0), by subst h; exact ⟨dX0_person_2, rfl, ⟨0, rfl, by decide⟩⟩⟩ else none
     else
      bif Nat.blt pc 6 then
       if h : pc = 3 then some ⟨(.ldc2_w 43, 6, .inr (.inl 5), 0, 0), by subst h; exact ⟨dX0_person_3, rfl, ⟨_, rfl, q166⟩⟩⟩ else none
      else
       if h : pc = 6 then some ⟨(.invokestatic 16, 9, .inl 0, 108, 0), by subst h; exact ⟨dX0_person_6, rfl, Or.inl ⟨by decide, q167, q168⟩⟩⟩ else none
   else
    bif Nat.blt pc 14 then
     bif Nat.blt pc 12 then
      if h : pc = 9 then some ⟨(.ifCond .eq 27, 12, .inl 0, 36, 0), by subst h; exact ⟨dX0_person_9, rfl, (show ((9 : Nat) : Int) + (27) = ((36 : Nat) : Int) by decide)⟩⟩ else none
     else
      bif Nat.blt pc 13 then
       if h : pc = 12 then some ⟨(.iload_n 2, 13, .inl 0, 0, 0), by subst h; exact ⟨dX0_person_12, rfl, trivial⟩⟩ else none
      else
       if h : pc = 13 then some ⟨(.i2l, 14, .inl 0, 0, 0), by subst h; exact ⟨dX0_person_13, rfl, trivial⟩⟩ else none
    else
     bif Nat.blt pc 15 then
      if h : pc = 14 then some ⟨(.lconst 0, 15, .inr (.inl 0), 0, 0), by subst h; exact ⟨dX0_person_14, rfl, ⟨0, rfl, by decide⟩⟩⟩ else none
     else
      bif Nat.blt pc 18 then
       if h : pc = 15 then some ⟨(.ldc2_w 20, 18, .inr (.inl 9), 0, 0), by subst h; exact ⟨dX0_person_15, rfl, ⟨_, rfl, q170⟩⟩⟩ else none
      else
       if h : pc = 18 then some ⟨(.invokestatic 16, 21, .inl 0, 108, 0), by subst h; exact ⟨dX0_person_18, rfl, Or.inl ⟨by decide, q167, q168⟩⟩⟩ else none
  else
   bif Nat.blt pc 33 then
    bif Nat.blt pc 26 then
     bif Nat.blt pc 24 then
      if h : pc = 21 then some ⟨(.ifCond .eq 15, 24, .inl 0, 36, 0), by subst h; exact ⟨dX0_person_21, rfl, (show ((21 : Nat) : Int) + (15) = ((36 : Nat) : Int) by decide)⟩⟩ else none
     else
      bif Nat.blt pc 25 then
       if h : pc = 24 then some ⟨(.iload_n 3, 25, .inl 0, 0, 0), by subst h; exact ⟨dX0_person_24, rfl, trivial⟩⟩ else none
      else
       if h : pc = 25 then some ⟨(.i2l, 26, .inl 0, 0, 0), by subst h; exact ⟨dX0_person_25, rfl, trivial⟩⟩ else none
    else
     bif Nat.blt pc 27 then
      if h : pc = 26 then some ⟨(.lconst 0, 27, .inr (.inl 0), 0, 0), by subst h; exact ⟨dX0_person_26, rfl, ⟨0, rfl, by decide⟩⟩⟩ else none
     else
      bif Nat.blt pc 30 then
       if h : pc = 27 then some ⟨(.ldc2_w 45, 30, .inr (.inl 999), 0, 0), by subst h; exact ⟨dX0_person_27, rfl, ⟨_, rfl, q171⟩⟩⟩ else none
      else
       if h : pc = 30 then some ⟨(.invokestatic 16, 33, .inl 0, 108, 0), by subst h; exact ⟨dX0_person_30, rfl, Or.inl ⟨by decide, q167, q168⟩⟩⟩ else none
   else
    bif Nat.blt pc 39 then
     bif Nat.blt pc 36 then
      if h : pc = 33 then some ⟨(.ifCond .ne 6, 36, .inl 0, 39, 0), by subst h; exact ⟨dX0_person_33, rfl, (show ((33 : Nat) : Int) + (6) = ((39 : Nat) : Int) by decide)⟩⟩ else none
     else
      bif Nat.blt pc 38 then
       if h : pc = 36 then some ⟨(.bipush (-2), 38, .inl (-2), 0, 0), by subst h; exact ⟨dX0_person_36, rfl, ⟨(-2), rfl, by decide⟩⟩⟩ else none
      else
       if h : pc = 38 then some ⟨(.ireturn, 39, .inl 0, 0, 0), by subst h; exact ⟨dX0_person_38, rfl, rfl⟩⟩ else none
    else
     bif Nat.blt pc 40 then
      if h : pc = 39 then some ⟨(.aload_n 0, 40, .inl 0, 0, 0), by subst h; exact ⟨dX0_person_39, rfl, trivial⟩⟩ else none
     else
      bif Nat.blt pc 43 then
       if h : pc = 40 then some ⟨(.getfield 10, 43, .inl 0, 1, 0), by subst h; exact ⟨dX0_person_40, rfl, ⟨⟨_, rfl, by decide, _, Or.inl q881, Or.inl rfl⟩, (show mKd 0 1 ≤ 4 by decide)⟩⟩⟩ else none
      else
       if h : pc = 43 then some ⟨(.iconst 5, 44, .inl 5, 0, 0), by subst h; exact ⟨dX0_person_43, rfl, ⟨5, rfl, by decide⟩⟩⟩ else none
 else
  bif Nat.blt pc 64 then
   bif Nat.blt pc 54 then
    bif Nat.blt pc 49 then
     bif Nat.blt pc 47 then
      if h : pc = 44 then some ⟨(.if_icmp .ne 6, 47, .inl 0, 50, 0), by subst h; exact ⟨dX0_person_44, rfl, (show ((44 : Nat) : Int) + (6) = ((50 : Nat) : Int) by decide)⟩⟩ else none
     else
      if h : pc = 47 then some ⟨(.bipush (-4), 49, .inl (-4), 0, 0), by subst h; exact ⟨dX0_person_47, rfl, ⟨(-4), rfl, by decide⟩⟩⟩ else none
    else
     bif Nat.blt pc 50 then
      if h : pc = 49 then some ⟨(.ireturn, 50, .inl 0, 0, 0), by subst h; exact ⟨dX0_person_49, rfl, rfl⟩⟩ else none
     else
      bif Nat.blt pc 51 then
       if h : pc = 50 then some ⟨(.aload_n 0, 51, .inl 0, 0, 0), by subst h; exact ⟨dX0_person_50, rfl, trivial⟩⟩ else none
      else
       if h : pc = 51 then some ⟨(.getfield 47, 54, .inr (.inr none), 0, 0), by subst h; exact ⟨dX0_person_51, rfl, ⟨⟨_, rfl, by decide, _, Or.inl q880, Or.inl rfl⟩, (show mKd 0 0 = 6 by rfl)⟩⟩⟩ else none
   else
    bif Nat.blt pc 59 then
     bif Nat.blt pc 55 then
      if h : pc = 54 then some ⟨(.aload_n 0, 55, .inl 0, 0, 0), by subst h; exact ⟨dX0_person_54, rfl, trivial⟩⟩ else none
     else
      bif Nat.blt pc 58 then
       if h : pc = 55 then some ⟨(.getfield 10, 58, .inl 0, 1, 0), by subst h; exact ⟨dX0_person_55, rfl, ⟨⟨_, rfl, by decide, _, Or.inl q881, Or.inl rfl⟩, (show mKd 0 1 ≤ 4 by decide)⟩⟩⟩ else none
      else
       if h : pc = 58 then some ⟨(.iload_n 1, 59, .inl 0, 0, 0), by subst h; exact ⟨dX0_person_58, rfl, trivial⟩⟩ else none
    else
     bif Nat.blt pc 60 then
      if h : pc = 59 then some ⟨(.iload_n 2, 60, .inl 0, 0, 0), by subst h; exact ⟨dX0_person_59, rfl, trivial⟩⟩ else none
     else
      bif Nat.blt pc 61 then
       if h : pc = 60 then some ⟨(.iload_n 3, 61, .inl 0, 0, 0), by subst h; exact ⟨dX0_person_60, rfl, trivial⟩⟩ else none
      else
       if h : pc = 61 then some ⟨(.invokestatic 51, 64, .inl 0, 109, 0), by subst h; exact ⟨dX0_person_61, rfl, Or.inl ⟨by decide, q172, q173⟩⟩⟩ else none
  else
   bif Nat.blt pc 72 then
    bif Nat.blt pc 67 then
     bif Nat.blt pc 65 then
      if h : pc = 64 then some ⟨(.aastore, 65, .inl 0, 0, 0), by subst h; exact ⟨dX0_person_64, rfl, trivial⟩⟩ else none
     else
      bif Nat.blt pc 66 then
       if h : pc = 65 then some ⟨(.aload_n 0, 66, .inl 0, 0, 0), by subst h; exact ⟨dX0_person_65, rfl, trivial⟩⟩ else none
      else
       if h : pc = 66 then some ⟨(.dup, 67, .inl 0, 0, 0), by subst h; exact ⟨dX0_person_66, rfl, trivial⟩⟩ else none
    else
     bif Nat.blt pc 70 then
      if h : pc = 67 then some ⟨(.getfield 10, 70, .inl 0, 1, 0), by subst h; exact ⟨dX0_person_67, rfl, ⟨⟨_, rfl, by decide, _, Or.inl q881, Or.inl rfl⟩, (show mKd 0 1 ≤ 4 by decide)⟩⟩⟩ else none
     else
      bif Nat.blt pc 71 then
       if h : pc = 70 then some ⟨(.iconst 1, 71, .inl 1, 0, 0), by subst h; exact ⟨dX0_person_70, rfl, ⟨1, rfl, by decide⟩⟩⟩ else none
      else
       if h : pc = 71 then some ⟨(.iadd, 72, .inl 0, 0, 0), by subst h; exact ⟨dX0_person_71, rfl, trivial⟩⟩ else none
   else
    bif Nat.blt pc 79 then
     bif Nat.blt pc 75 then
      if h : pc = 72 then some ⟨(.putfield 10, 75, .inl 0, 1, 0), by subst h; exact ⟨dX0_person_72, rfl, ⟨⟨_, rfl, by decide, _, Or.inl q881, Or.inl rfl⟩, (show mKd 0 1 ≤ 4 by decide), by decide, by decide, (fun q h => Or.inl (by cases h; rfl))⟩⟩⟩ else none
     else
      bif Nat.blt pc 76 then
       if h : pc = 75 then some ⟨(.aload_n 0, 76, .inl 0, 0, 0), by subst h; exact ⟨dX0_person_75, rfl, trivial⟩⟩ else none
      else
       if h : pc = 76 then some ⟨(.getfield 10, 79, .inl 0, 1, 0), by subst h; exact ⟨dX0_person_76, rfl, ⟨⟨_, rfl, by decide, _, Or.inl q881, Or.inl rfl⟩, (show mKd 0 1 ≤ 4 by decide)⟩⟩⟩ else none
    else
     bif Nat.blt pc 80 then
      if h : pc = 79 then some ⟨(.iconst 1, 80, .inl 1, 0, 0), by subst h; exact ⟨dX0_person_79, rfl, ⟨1, rfl, by decide⟩⟩⟩ else none
     else
      bif Nat.blt pc 81 then
       if h : pc = 80 then some ⟨(.isub, 81, .inl 0, 0, 0), by subst h; exact ⟨dX0_person_80, rfl, trivial⟩⟩ else none
      else
       if h : pc = 81 then some ⟨(.ireturn, 82, .inl 0, 0, 0), by subst h; exact ⟨dX0_person_81, rfl, rfl⟩⟩ else none

noncomputable def mt108 (pc : Nat) : Option {e : mE // mOK yX0_in cX0_in 6 ((Option.some ClassFile.FieldType.boolean)) pc e} :=
 bif Nat.blt pc 9 then
  bif Nat.blt pc 3 then
   bif Nat.blt pc 1 then
    if h : pc = 0 then some ⟨(.lload_n 0, 1, .inl 0, 0, 0), by subst h; exact ⟨dX0_in_0, rfl, trivial⟩⟩ else none
   else
    bif Nat.blt pc 2 then
     if h : pc = 1 then some ⟨(.lload_n 2, 2, .inl 0, 0, 0), by subst h; exact ⟨dX0_in_1, rfl, trivial⟩⟩ else none
    else
     if h : pc = 2 then some ⟨(.lcmp, 3, .inl 0, 0, 0), by subst h; exact ⟨dX0_in_2, rfl, trivial⟩⟩ else none
  else
   bif Nat.blt pc 6 then
    if h : pc = 3 then some ⟨(.ifCond .lt 14, 6, .inl 0, 17, 0), by subst h; exact ⟨dX0_in_3, rfl, (show ((3 : Nat) : Int) + (14) = ((17 : Nat) : Int) by decide)⟩⟩ else none
   else
    bif Nat.blt pc 7 then
     if h : pc = 6 then some ⟨(.lload_n 0, 7, .inl 0, 0, 0), by subst h; exact ⟨dX0_in_6, rfl, trivial⟩⟩ else none
    else
     if h : pc = 7 then some ⟨(.lload 4, 9, .inl 0, 0, 0), by subst h; exact ⟨dX0_in_7, rfl, trivial⟩⟩ else none
 else
  bif Nat.blt pc 14 then
   bif Nat.blt pc 10 then
    if h : pc = 9 then some ⟨(.lcmp, 10, .inl 0, 0, 0), by subst h; exact ⟨dX0_in_9, rfl, trivial⟩⟩ else none
   else
    bif Nat.blt pc 13 then
     if h : pc = 10 then some ⟨(.ifCond .gt 7, 13, .inl 0, 17, 0), by subst h; exact ⟨dX0_in_10, rfl, (show ((10 : Nat) : Int) + (7) = ((17 : Nat) : Int) by decide)⟩⟩ else none
    else
     if h : pc = 13 then some ⟨(.iconst 1, 14, .inl 1, 0, 0), by subst h; exact ⟨dX0_in_13, rfl, ⟨1, rfl, by decide⟩⟩⟩ else none
  else
   bif Nat.blt pc 17 then
    if h : pc = 14 then some ⟨(.goto 4, 17, .inl 0, 18, 0), by subst h; exact ⟨dX0_in_14, rfl, (show ((14 : Nat) : Int) + (4) = ((18 : Nat) : Int) by decide)⟩⟩ else none
   else
    bif Nat.blt pc 18 then
     if h : pc = 17 then some ⟨(.iconst 0, 18, .inl 0, 0, 0), by subst h; exact ⟨dX0_in_17, rfl, ⟨0, rfl, by decide⟩⟩⟩ else none
    else
     if h : pc = 18 then some ⟨(.ireturn, 19, .inl 0, 1, 0), by subst h; exact ⟨dX0_in_18, rfl, rfl⟩⟩ else none

noncomputable def mt109 (pc : Nat) : Option {e : mE // mOK yX0_made cX0_made 3 ((Option.some (ClassFile.FieldType.object "NobodyCanLiftIt$Man"))) pc e} :=
 bif Nat.blt pc 65 then
  bif Nat.blt pc 49 then
   bif Nat.blt pc 40 then
    bif Nat.blt pc 36 then
     bif Nat.blt pc 1 then
      if h : pc = 0 then some ⟨(.iload_n 0, 1, .inl 0, 0, 0), by subst h; exact ⟨dX0_made_0, rfl, trivial⟩⟩ else none
     else
      if h : pc = 1 then some ⟨(.tableswitch 85 1 5 #[35, 45, 55, 65, 75], 1, .inl 0, 0, 0), by subst h; exact ⟨dX0_made_1, rfl, ⟨by decide, rfl, by decide⟩⟩⟩ else none
    else
     bif Nat.blt pc 39 then
      if h : pc = 36 then some ⟨(.new 22, 39, .inl 0, 5, 0), by subst h; exact ⟨dX0_made_36, rfl, Or.inr ⟨_, rfl, q175, q176, q149, by decide⟩⟩⟩ else none
     else
      if h : pc = 39 then some ⟨(.dup, 40, .inl 0, 0, 0), by subst h; exact ⟨dX0_made_39, rfl, trivial⟩⟩ else none
   else
    bif Nat.blt pc 42 then
     bif Nat.blt pc 41 then
      if h : pc = 40 then some ⟨(.iload_n 1, 41, .inl 0, 0, 0), by subst h; exact ⟨dX0_made_40, rfl, trivial⟩⟩ else none
     else
      if h : pc = 41 then some ⟨(.iload_n 2, 42, .inl 0, 0, 0), by subst h; exact ⟨dX0_made_41, rfl, trivial⟩⟩ else none
    else
     bif Nat.blt pc 45 then
      if h : pc = 42 then some ⟨(.invokespecial 24, 45, .inl 0, 225, 1), by subst h; exact ⟨dX0_made_42, rfl, ⟨by decide, rfl, q177, q178⟩⟩⟩ else none
     else
      bif Nat.blt pc 46 then
       if h : pc = 45 then some ⟨(.areturn, 46, .inl 0, 0, 0), by subst h; exact ⟨dX0_made_45, rfl, ⟨_, rfl, Or.inl ⟨_, rfl⟩⟩⟩⟩ else none
      else
       if h : pc = 46 then some ⟨(.new 28, 49, .inl 0, 6, 0), by subst h; exact ⟨dX0_made_46, rfl, Or.inr ⟨_, rfl, q216, q217, q150, by decide⟩⟩⟩ else none
  else
   bif Nat.blt pc 56 then
    bif Nat.blt pc 51 then
     bif Nat.blt pc 50 then
      if h : pc = 49 then some ⟨(.dup, 50, .inl 0, 0, 0), by subst h; exact ⟨dX0_made_49, rfl, trivial⟩⟩ else none
     else
      if h : pc = 50 then some ⟨(.iload_n 1, 51, .inl 0, 0, 0), by subst h; exact ⟨dX0_made_50, rfl, trivial⟩⟩ else none
    else
     bif Nat.blt pc 52 then
      if h : pc = 51 then some ⟨(.iload_n 2, 52, .inl 0, 0, 0), by subst h; exact ⟨dX0_made_51, rfl, trivial⟩⟩ else none
     else
      bif Nat.blt pc 55 then
       if h : pc = 52 then some ⟨(.invokespecial 30, 55, .inl 0, 230, 1), by subst h; exact ⟨dX0_made_52, rfl, ⟨by decide, rfl, q218, q219⟩⟩⟩ else none
      else
       if h : pc = 55 then some ⟨(.areturn, 56, .inl 0, 0, 0), by subst h; exact ⟨dX0_made_55, rfl, ⟨_, rfl, Or.inl ⟨_, rfl⟩⟩⟩⟩ else none
   else
    bif Nat.blt pc 60 then
     bif Nat.blt pc 59 then
      if h : pc = 56 then some ⟨(.new 31, 59, .inl 0, 7, 0), by subst h; exact ⟨dX0_made_56, rfl, Or.inr ⟨_, rfl, q227, q228, q151, by decide⟩⟩⟩ else none
     else
      if h : pc = 59 then some ⟨(.dup, 60, .inl 0, 0, 0), by subst h; exact ⟨dX0_made_59, rfl, trivial⟩⟩ else none
    else
     bif Nat.blt pc 61 then
      if h : pc = 60 then some ⟨(.iload_n 1, 61, .inl 0, 0, 0), by subst h; exact ⟨dX0_made_60, rfl, trivial⟩⟩ else none
     else
      bif Nat.blt pc 62 then
       if h : pc = 61 then some ⟨(.iload_n 2, 62, .inl 0, 0, 0), by subst h; exact ⟨dX0_made_61, rfl, trivial⟩⟩ else none
      else
       if h : pc = 62 then some ⟨(.invokespecial 33, 65, .inl 0, 235, 1), by subst h; exact ⟨dX0_made_62, rfl, ⟨by decide, rfl, q229, q230⟩⟩⟩ else none
 else
  bif Nat.blt pc 80 then
   bif Nat.blt pc 71 then
    bif Nat.blt pc 69 then
     bif Nat.blt pc 66 then
      if h : pc = 65 then some ⟨(.areturn, 66, .inl 0, 0, 0), by subst h; exact ⟨dX0_made_65, rfl, ⟨_, rfl, Or.inl ⟨_, rfl⟩⟩⟩⟩ else none
     else
      if h : pc = 66 then some ⟨(.new 34, 69, .inl 0, 8, 0), by subst h; exact ⟨dX0_made_66, rfl, Or.inr ⟨_, rfl, q238, q239, q152, by decide⟩⟩⟩ else none
    else
     bif Nat.blt pc 70 then
      if h : pc = 69 then some ⟨(.dup, 70, .inl 0, 0, 0), by subst h; exact ⟨dX0_made_69, rfl, trivial⟩⟩ else none
     else
      if h : pc = 70 then some ⟨(.iload_n 1, 71, .inl 0, 0, 0), by subst h; exact ⟨dX0_made_70, rfl, trivial⟩⟩ else none
   else
    bif Nat.blt pc 75 then
     bif Nat.blt pc 72 then
      if h : pc = 71 then some ⟨(.iload_n 2, 72, .inl 0, 0, 0), by subst h; exact ⟨dX0_made_71, rfl, trivial⟩⟩ else none
     else
      if h : pc = 72 then some ⟨(.invokespecial 36, 75, .inl 0, 240, 1), by subst h; exact ⟨dX0_made_72, rfl, ⟨by decide, rfl, q240, q241⟩⟩⟩ else none
    else
     bif Nat.blt pc 76 then
      if h : pc = 75 then some ⟨(.areturn, 76, .inl 0, 0, 0), by subst h; exact ⟨dX0_made_75, rfl, ⟨_, rfl, Or.inl ⟨_, rfl⟩⟩⟩⟩ else none
     else
      bif Nat.blt pc 79 then
       if h : pc = 76 then some ⟨(.new 37, 79, .inl 0, 9, 0), by subst h; exact ⟨dX0_made_76, rfl, Or.inr ⟨_, rfl, q249, q250, q153, by decide⟩⟩⟩ else none
      else
       if h : pc = 79 then some ⟨(.dup, 80, .inl 0, 0, 0), by subst h; exact ⟨dX0_made_79, rfl, trivial⟩⟩ else none
  else
   bif Nat.blt pc 89 then
    bif Nat.blt pc 82 then
     bif Nat.blt pc 81 then
      if h : pc = 80 then some ⟨(.iload_n 1, 81, .inl 0, 0, 0), by subst h; exact ⟨dX0_made_80, rfl, trivial⟩⟩ else none
     else
      if h : pc = 81 then some ⟨(.iload_n 2, 82, .inl 0, 0, 0), by subst h; exact ⟨dX0_made_81, rfl, trivial⟩⟩ else none
    else
     bif Nat.blt pc 85 then
      if h : pc = 82 then some ⟨(.invokespecial 39, 85, .inl 0, 245, 1), by subst h; exact ⟨dX0_made_82, rfl, ⟨by decide, rfl, q251, q252⟩⟩⟩ else none
     else
      bif Nat.blt pc 86 then
       if h : pc = 85 then some ⟨(.areturn, 86, .inl 0, 0, 0), by subst h; exact ⟨dX0_made_85, rfl, ⟨_, rfl, Or.inl ⟨_, rfl⟩⟩⟩⟩ else none
      else
       if h : pc = 86 then some ⟨(.new 40, 89, .inl 0, 4, 0), by subst h; exact ⟨dX0_made_86, rfl, Or.inr ⟨_, rfl, q260, q261, q148, by decide⟩⟩⟩ else none
   else
    bif Nat.blt pc 91 then
     bif Nat.blt pc 90 then
      if h : pc = 89 then some ⟨(.dup, 90, .inl 0, 0, 0), by subst h; exact ⟨dX0_made_89, rfl, trivial⟩⟩ else none
     else
      if h : pc = 90 then some ⟨(.iload_n 1, 91, .inl 0, 0, 0), by subst h; exact ⟨dX0_made_90, rfl, trivial⟩⟩ else none
    else
     bif Nat.blt pc 92 then
      if h : pc = 91 then some ⟨(.iload_n 2, 92, .inl 0, 0, 0), by subst h; exact ⟨dX0_made_91, rfl, trivial⟩⟩ else none
     else
      bif Nat.blt pc 95 then
       if h : pc = 92 then some ⟨(.invokespecial 42, 95, .inl 0, 219, 1), by subst h; exact ⟨dX0_made_92, rfl, ⟨by decide, rfl, q262, q181⟩⟩⟩ else none
      else
       if h : pc = 95 then some ⟨(.areturn, 96, .inl 0, 0, 0), by subst h; exact ⟨dX0_made_95, rfl, ⟨_, rfl, Or.inl ⟨_, rfl⟩⟩⟩⟩ else none

noncomputable def mt110 (pc : Nat) : Option {e : mE // mOK yX0_set cX0_set 5 ((Option.some ClassFile.FieldType.int)) pc e} :=
 bif Nat.blt pc 28 then
  bif Nat.blt pc 14 then
   bif Nat.blt pc 6 then
    bif Nat.blt pc 2 then
     bif Nat.blt pc 1 then
      if h : pc = 0 then some ⟨(.iload_n 1, 1, .inl 0, 0, 0), by subst h; exact ⟨dX0_set_0, rfl, trivial⟩⟩ else none
     else
      if h : pc = 1 then some ⟨(.i2l, 2, .inl 0, 0, 0), by subst h; exact ⟨dX0_set_1, rfl, trivial⟩⟩ else none
    else
     bif Nat.blt pc 3 then
      if h : pc = 2 then some ⟨(.lconst 0, 3, .inr (.inl 0), 0, 0), by subst h; exact ⟨dX0_set_2, rfl, ⟨0, rfl, by decide⟩⟩⟩ else none
     else
      if h : pc = 3 then some ⟨(.ldc2_w 85, 6, .inr (.inl 6), 0, 0), by subst h; exact ⟨dX0_set_3, rfl, ⟨_, rfl, q272⟩⟩⟩ else none
   else
    bif Nat.blt pc 12 then
     bif Nat.blt pc 9 then
      if h : pc = 6 then some ⟨(.invokestatic 16, 9, .inl 0, 108, 0), by subst h; exact ⟨dX0_set_6, rfl, Or.inl ⟨by decide, q167, q168⟩⟩⟩ else none
     else
      if h : pc = 9 then some ⟨(.ifCond .eq 26, 12, .inl 0, 35, 0), by subst h; exact ⟨dX0_set_9, rfl, (show ((9 : Nat) : Int) + (26) = ((35 : Nat) : Int) by decide)⟩⟩ else none
    else
     bif Nat.blt pc 13 then
      if h : pc = 12 then some ⟨(.aload_n 0, 13, .inl 0, 0, 0), by subst h; exact ⟨dX0_set_12, rfl, trivial⟩⟩ else none
     else
      if h : pc = 13 then some ⟨(.iload_n 1, 14, .inl 0, 0, 0), by subst h; exact ⟨dX0_set_13, rfl, trivial⟩⟩ else none
  else
   bif Nat.blt pc 22 then
    bif Nat.blt pc 18 then
     bif Nat.blt pc 15 then
      if h : pc = 14 then some ⟨(.iload_n 2, 15, .inl 0, 0, 0), by subst h; exact ⟨dX0_set_14, rfl, trivial⟩⟩ else none
     else
      if h : pc = 15 then some ⟨(.invokevirtual 87, 18, .inl 0, 111, 0), by subst h; exact ⟨dX0_set_15, rfl, ⟨by decide, q273, q275, qs0, _, rfl, rfl⟩⟩⟩ else none
    else
     bif Nat.blt pc 21 then
      if h : pc = 18 then some ⟨(.ifCond .eq 17, 21, .inl 0, 35, 0), by subst h; exact ⟨dX0_set_18, rfl, (show ((18 : Nat) : Int) + (17) = ((35 : Nat) : Int) by decide)⟩⟩ else none
     else
      if h : pc = 21 then some ⟨(.iload_n 3, 22, .inl 0, 0, 0), by subst h; exact ⟨dX0_set_21, rfl, trivial⟩⟩ else none
   else
    bif Nat.blt pc 24 then
     bif Nat.blt pc 23 then
      if h : pc = 22 then some ⟨(.i2l, 23, .inl 0, 0, 0), by subst h; exact ⟨dX0_set_22, rfl, trivial⟩⟩ else none
     else
      if h : pc = 23 then some ⟨(.lconst 0, 24, .inr (.inl 0), 0, 0), by subst h; exact ⟨dX0_set_23, rfl, ⟨0, rfl, by decide⟩⟩⟩ else none
    else
     bif Nat.blt pc 25 then
      if h : pc = 24 then some ⟨(.iload_n 1, 25, .inl 0, 0, 0), by subst h; exact ⟨dX0_set_24, rfl, trivial⟩⟩ else none
     else
      if h : pc = 25 then some ⟨(.invokestatic 91, 28, .inl 0, 114, 0), by subst h; exact ⟨dX0_set_25, rfl, Or.inl ⟨by decide, q285, q286⟩⟩⟩ else none
 else
  bif Nat.blt pc 41 then
   bif Nat.blt pc 37 then
    bif Nat.blt pc 32 then
     bif Nat.blt pc 29 then
      if h : pc = 28 then some ⟨(.i2l, 29, .inl 0, 0, 0), by subst h; exact ⟨dX0_set_28, rfl, trivial⟩⟩ else none
     else
      if h : pc = 29 then some ⟨(.invokestatic 16, 32, .inl 0, 108, 0), by subst h; exact ⟨dX0_set_29, rfl, Or.inl ⟨by decide, q167, q168⟩⟩⟩ else none
    else
     bif Nat.blt pc 35 then
      if h : pc = 32 then some ⟨(.ifCond .ne 6, 35, .inl 0, 38, 0), by subst h; exact ⟨dX0_set_32, rfl, (show ((32 : Nat) : Int) + (6) = ((38 : Nat) : Int) by decide)⟩⟩ else none
     else
      if h : pc = 35 then some ⟨(.bipush (-2), 37, .inl (-2), 0, 0), by subst h; exact ⟨dX0_set_35, rfl, ⟨(-2), rfl, by decide⟩⟩⟩ else none
   else
    bif Nat.blt pc 39 then
     bif Nat.blt pc 38 then
      if h : pc = 37 then some ⟨(.ireturn, 38, .inl 0, 0, 0), by subst h; exact ⟨dX0_set_37, rfl, rfl⟩⟩ else none
     else
      if h : pc = 38 then some ⟨(.aload_n 0, 39, .inl 0, 0, 0), by subst h; exact ⟨dX0_set_38, rfl, trivial⟩⟩ else none
    else
     bif Nat.blt pc 40 then
      if h : pc = 39 then some ⟨(.iload_n 1, 40, .inl 0, 0, 0), by subst h; exact ⟨dX0_set_39, rfl, trivial⟩⟩ else none
     else
      if h : pc = 40 then some ⟨(.iload_n 2, 41, .inl 0, 0, 0), by subst h; exact ⟨dX0_set_40, rfl, trivial⟩⟩ else none
  else
   bif Nat.blt pc 48 then
    bif Nat.blt pc 46 then
     bif Nat.blt pc 44 then
      if h : pc = 41 then some ⟨(.invokevirtual 95, 44, .inl 0, 115, 0), by subst h; exact ⟨dX0_set_41, rfl, ⟨by decide, q288, q290, qs2, _, rfl, rfl⟩⟩⟩ else none
     else
      if h : pc = 44 then some ⟨(.istore 4, 46, .inl 0, 0, 0), by subst h; exact ⟨dX0_set_44, rfl, (show (4 : Nat) < 5 by decide)⟩⟩ else none
    else
     bif Nat.blt pc 47 then
      if h : pc = 46 then some ⟨(.aload_n 0, 47, .inl 0, 0, 0), by subst h; exact ⟨dX0_set_46, rfl, trivial⟩⟩ else none
     else
      if h : pc = 47 then some ⟨(.iload_n 1, 48, .inl 0, 0, 0), by subst h; exact ⟨dX0_set_47, rfl, trivial⟩⟩ else none
   else
    bif Nat.blt pc 50 then
     bif Nat.blt pc 49 then
      if h : pc = 48 then some ⟨(.iload_n 2, 49, .inl 0, 0, 0), by subst h; exact ⟨dX0_set_48, rfl, trivial⟩⟩ else none
     else
      if h : pc = 49 then some ⟨(.iload_n 3, 50, .inl 0, 0, 0), by subst h; exact ⟨dX0_set_49, rfl, trivial⟩⟩ else none
    else
     bif Nat.blt pc 53 then
      if h : pc = 50 then some ⟨(.invokevirtual 98, 53, .inl 0, 116, 0), by subst h; exact ⟨dX0_set_50, rfl, ⟨by decide, q292, q294, qs3, _, rfl, rfl⟩⟩⟩ else none
     else
      bif Nat.blt pc 55 then
       if h : pc = 53 then some ⟨(.iload 4, 55, .inl 0, 0, 0), by subst h; exact ⟨dX0_set_53, rfl, trivial⟩⟩ else none
      else
       if h : pc = 55 then some ⟨(.ireturn, 56, .inl 0, 0, 0), by subst h; exact ⟨dX0_set_55, rfl, rfl⟩⟩ else none

noncomputable def mt111 (pc : Nat) : Option {e : mE // mOK yX0_isThere cX0_isThere 3 ((Option.some ClassFile.FieldType.boolean)) pc e} :=
 bif Nat.blt pc 18 then
  bif Nat.blt pc 7 then
   bif Nat.blt pc 2 then
    bif Nat.blt pc 1 then
     if h : pc = 0 then some ⟨(.iload_n 1, 1, .inl 0, 0, 0), by subst h; exact ⟨dX0_isThere_0, rfl, trivial⟩⟩ else none
    else
     if h : pc = 1 then some ⟨(.iconst 1, 2, .inl 1, 0, 0), by subst h; exact ⟨dX0_isThere_1, rfl, ⟨1, rfl, by decide⟩⟩⟩ else none
   else
    bif Nat.blt pc 5 then
     if h : pc = 2 then some ⟨(.if_icmp .eq 30, 5, .inl 0, 32, 0), by subst h; exact ⟨dX0_isThere_2, rfl, (show ((2 : Nat) : Int) + (30) = ((32 : Nat) : Int) by decide)⟩⟩ else none
    else
     bif Nat.blt pc 6 then
      if h : pc = 5 then some ⟨(.iload_n 1, 6, .inl 0, 0, 0), by subst h; exact ⟨dX0_isThere_5, rfl, trivial⟩⟩ else none
     else
      if h : pc = 6 then some ⟨(.iconst 2, 7, .inl 2, 0, 0), by subst h; exact ⟨dX0_isThere_6, rfl, ⟨2, rfl, by decide⟩⟩⟩ else none
  else
   bif Nat.blt pc 11 then
    bif Nat.blt pc 10 then
     if h : pc = 7 then some ⟨(.if_icmp .eq 25, 10, .inl 0, 32, 0), by subst h; exact ⟨dX0_isThere_7, rfl, (show ((7 : Nat) : Int) + (25) = ((32 : Nat) : Int) by decide)⟩⟩ else none
    else
     if h : pc = 10 then some ⟨(.iload_n 1, 11, .inl 0, 0, 0), by subst h; exact ⟨dX0_isThere_10, rfl, trivial⟩⟩ else none
   else
    bif Nat.blt pc 14 then
     if h : pc = 11 then some ⟨(.ifCond .ne 13, 14, .inl 0, 24, 0), by subst h; exact ⟨dX0_isThere_11, rfl, (show ((11 : Nat) : Int) + (13) = ((24 : Nat) : Int) by decide)⟩⟩ else none
    else
     bif Nat.blt pc 15 then
      if h : pc = 14 then some ⟨(.iload_n 2, 15, .inl 0, 0, 0), by subst h; exact ⟨dX0_isThere_14, rfl, trivial⟩⟩ else none
     else
      if h : pc = 15 then some ⟨(.invokestatic 55, 18, .inl 0, 112, 0), by subst h; exact ⟨dX0_isThere_15, rfl, Or.inl ⟨by decide, q278, q279⟩⟩⟩ else none
 else
  bif Nat.blt pc 29 then
   bif Nat.blt pc 24 then
    bif Nat.blt pc 21 then
     if h : pc = 18 then some ⟨(.ifCond .eq 18, 21, .inl 0, 36, 0), by subst h; exact ⟨dX0_isThere_18, rfl, (show ((18 : Nat) : Int) + (18) = ((36 : Nat) : Int) by decide)⟩⟩ else none
    else
     if h : pc = 21 then some ⟨(.goto 11, 24, .inl 0, 32, 0), by subst h; exact ⟨dX0_isThere_21, rfl, (show ((21 : Nat) : Int) + (11) = ((32 : Nat) : Int) by decide)⟩⟩ else none
   else
    bif Nat.blt pc 25 then
     if h : pc = 24 then some ⟨(.aload_n 0, 25, .inl 0, 0, 0), by subst h; exact ⟨dX0_isThere_24, rfl, trivial⟩⟩ else none
    else
     bif Nat.blt pc 26 then
      if h : pc = 25 then some ⟨(.iload_n 2, 26, .inl 0, 0, 0), by subst h; exact ⟨dX0_isThere_25, rfl, trivial⟩⟩ else none
     else
      if h : pc = 26 then some ⟨(.invokevirtual 59, 29, .inl 0, 113, 0), by subst h; exact ⟨dX0_isThere_26, rfl, ⟨by decide, q281, q283, qs1, _, rfl, rfl⟩⟩⟩ else none
  else
   bif Nat.blt pc 33 then
    bif Nat.blt pc 32 then
     if h : pc = 29 then some ⟨(.ifCond .eq 7, 32, .inl 0, 36, 0), by subst h; exact ⟨dX0_isThere_29, rfl, (show ((29 : Nat) : Int) + (7) = ((36 : Nat) : Int) by decide)⟩⟩ else none
    else
     if h : pc = 32 then some ⟨(.iconst 1, 33, .inl 1, 0, 0), by subst h; exact ⟨dX0_isThere_32, rfl, ⟨1, rfl, by decide⟩⟩⟩ else none
   else
    bif Nat.blt pc 36 then
     if h : pc = 33 then some ⟨(.goto 4, 36, .inl 0, 37, 0), by subst h; exact ⟨dX0_isThere_33, rfl, (show ((33 : Nat) : Int) + (4) = ((37 : Nat) : Int) by decide)⟩⟩ else none
    else
     bif Nat.blt pc 37 then
      if h : pc = 36 then some ⟨(.iconst 0, 37, .inl 0, 0, 0), by subst h; exact ⟨dX0_isThere_36, rfl, ⟨0, rfl, by decide⟩⟩⟩ else none
     else
      if h : pc = 37 then some ⟨(.ireturn, 38, .inl 0, 1, 0), by subst h; exact ⟨dX0_isThere_37, rfl, rfl⟩⟩ else none

noncomputable def mt112 (pc : Nat) : Option {e : mE // mOK yX0_isFloor cX0_isFloor 1 ((Option.some ClassFile.FieldType.boolean)) pc e} :=
 bif Nat.blt pc 3 then
  bif Nat.blt pc 1 then
   if h : pc = 0 then some ⟨(.iload_n 0, 1, .inl 0, 0, 0), by subst h; exact ⟨dX0_isFloor_0, rfl, trivial⟩⟩ else none
  else
   bif Nat.blt pc 2 then
    if h : pc = 1 then some ⟨(.i2l, 2, .inl 0, 0, 0), by subst h; exact ⟨dX0_isFloor_1, rfl, trivial⟩⟩ else none
   else
    if h : pc = 2 then some ⟨(.lconst 0, 3, .inr (.inl 0), 0, 0), by subst h; exact ⟨dX0_isFloor_2, rfl, ⟨0, rfl, by decide⟩⟩⟩ else none
 else
  bif Nat.blt pc 6 then
   if h : pc = 3 then some ⟨(.ldc2_w 20, 6, .inr (.inl 9), 0, 0), by subst h; exact ⟨dX0_isFloor_3, rfl, ⟨_, rfl, q170⟩⟩⟩ else none
  else
   bif Nat.blt pc 9 then
    if h : pc = 6 then some ⟨(.invokestatic 16, 9, .inl 0, 108, 0), by subst h; exact ⟨dX0_isFloor_6, rfl, Or.inl ⟨by decide, q167, q168⟩⟩⟩ else none
   else
    if h : pc = 9 then some ⟨(.ireturn, 10, .inl 0, 1, 0), by subst h; exact ⟨dX0_isFloor_9, rfl, rfl⟩⟩ else none

noncomputable def mt113 (pc : Nat) : Option {e : mE // mOK yX0_isOne cX0_isOne 2 ((Option.some ClassFile.FieldType.boolean)) pc e} :=
 bif Nat.blt pc 7 then
  bif Nat.blt pc 2 then
   bif Nat.blt pc 1 then
    if h : pc = 0 then some ⟨(.iload_n 1, 1, .inl 0, 0, 0), by subst h; exact ⟨dX0_isOne_0, rfl, trivial⟩⟩ else none
   else
    if h : pc = 1 then some ⟨(.i2l, 2, .inl 0, 0, 0), by subst h; exact ⟨dX0_isOne_1, rfl, trivial⟩⟩ else none
  else
   bif Nat.blt pc 3 then
    if h : pc = 2 then some ⟨(.lconst 0, 3, .inr (.inl 0), 0, 0), by subst h; exact ⟨dX0_isOne_2, rfl, ⟨0, rfl, by decide⟩⟩⟩ else none
   else
    bif Nat.blt pc 4 then
     if h : pc = 3 then some ⟨(.aload_n 0, 4, .inl 0, 0, 0), by subst h; exact ⟨dX0_isOne_3, rfl, trivial⟩⟩ else none
    else
     if h : pc = 4 then some ⟨(.getfield 10, 7, .inl 0, 1, 0), by subst h; exact ⟨dX0_isOne_4, rfl, ⟨⟨_, rfl, by decide, _, Or.inl q881, Or.inl rfl⟩, (show mKd 0 1 ≤ 4 by decide)⟩⟩⟩ else none
 else
  bif Nat.blt pc 9 then
   bif Nat.blt pc 8 then
    if h : pc = 7 then some ⟨(.iconst 1, 8, .inl 1, 0, 0), by subst h; exact ⟨dX0_isOne_7, rfl, ⟨1, rfl, by decide⟩⟩⟩ else none
   else
    if h : pc = 8 then some ⟨(.isub, 9, .inl 0, 0, 0), by subst h; exact ⟨dX0_isOne_8, rfl, trivial⟩⟩ else none
  else
   bif Nat.blt pc 10 then
    if h : pc = 9 then some ⟨(.i2l, 10, .inl 0, 0, 0), by subst h; exact ⟨dX0_isOne_9, rfl, trivial⟩⟩ else none
   else
    bif Nat.blt pc 13 then
     if h : pc = 10 then some ⟨(.invokestatic 16, 13, .inl 0, 108, 0), by subst h; exact ⟨dX0_isOne_10, rfl, Or.inl ⟨by decide, q167, q168⟩⟩⟩ else none
    else
     if h : pc = 13 then some ⟨(.ireturn, 14, .inl 0, 1, 0), by subst h; exact ⟨dX0_isOne_13, rfl, rfl⟩⟩ else none

noncomputable def mt114 (pc : Nat) : Option {e : mE // mOK yX0_mostOf cX0_mostOf 1 ((Option.some ClassFile.FieldType.int)) pc e} :=
 bif Nat.blt pc 46 then
  bif Nat.blt pc 42 then
   bif Nat.blt pc 1 then
    if h : pc = 0 then some ⟨(.iload_n 0, 1, .inl 0, 0, 0), by subst h; exact ⟨dX0_mostOf_0, rfl, trivial⟩⟩ else none
   else
    bif Nat.blt pc 40 then
     if h : pc = 1 then some ⟨(.tableswitch 50 1 6 #[39, 50, 42, 50, 45, 48], 1, .inl 0, 0, 0), by subst h; exact ⟨dX0_mostOf_1, rfl, ⟨by decide, rfl, by decide⟩⟩⟩ else none
    else
     if h : pc = 40 then some ⟨(.bipush 10, 42, .inl 10, 0, 0), by subst h; exact ⟨dX0_mostOf_40, rfl, ⟨10, rfl, by decide⟩⟩⟩ else none
  else
   bif Nat.blt pc 43 then
    if h : pc = 42 then some ⟨(.ireturn, 43, .inl 0, 0, 0), by subst h; exact ⟨dX0_mostOf_42, rfl, rfl⟩⟩ else none
   else
    bif Nat.blt pc 45 then
     if h : pc = 43 then some ⟨(.bipush 9, 45, .inl 9, 0, 0), by subst h; exact ⟨dX0_mostOf_43, rfl, ⟨9, rfl, by decide⟩⟩⟩ else none
    else
     if h : pc = 45 then some ⟨(.ireturn, 46, .inl 0, 0, 0), by subst h; exact ⟨dX0_mostOf_45, rfl, rfl⟩⟩ else none
 else
  bif Nat.blt pc 50 then
   bif Nat.blt pc 48 then
    if h : pc = 46 then some ⟨(.bipush 99, 48, .inl 99, 0, 0), by subst h; exact ⟨dX0_mostOf_46, rfl, ⟨99, rfl, by decide⟩⟩⟩ else none
   else
    bif Nat.blt pc 49 then
     if h : pc = 48 then some ⟨(.ireturn, 49, .inl 0, 0, 0), by subst h; exact ⟨dX0_mostOf_48, rfl, rfl⟩⟩ else none
    else
     if h : pc = 49 then some ⟨(.iconst 1, 50, .inl 1, 0, 0), by subst h; exact ⟨dX0_mostOf_49, rfl, ⟨1, rfl, by decide⟩⟩⟩ else none
  else
   bif Nat.blt pc 51 then
    if h : pc = 50 then some ⟨(.ireturn, 51, .inl 0, 0, 0), by subst h; exact ⟨dX0_mostOf_50, rfl, rfl⟩⟩ else none
   else
    bif Nat.blt pc 54 then
     if h : pc = 51 then some ⟨(.sipush 999, 54, .inl 999, 0, 0), by subst h; exact ⟨dX0_mostOf_51, rfl, ⟨999, rfl, by decide⟩⟩⟩ else none
    else
     if h : pc = 54 then some ⟨(.ireturn, 55, .inl 0, 0, 0), by subst h; exact ⟨dX0_mostOf_54, rfl, rfl⟩⟩ else none

noncomputable def mt115 (pc : Nat) : Option {e : mE // mOK yX0_heldBy cX0_heldBy 3 ((Option.some ClassFile.FieldType.int)) pc e} :=
 bif Nat.blt pc 68 then
  bif Nat.blt pc 52 then
   bif Nat.blt pc 45 then
    bif Nat.blt pc 40 then
     bif Nat.blt pc 1 then
      if h : pc = 0 then some ⟨(.iload_n 1, 1, .inl 0, 0, 0), by subst h; exact ⟨dX0_heldBy_0, rfl, trivial⟩⟩ else none
     else
      if h : pc = 1 then some ⟨(.tableswitch 86 0 5 #[39, 46, 51, 56, 66, 76], 1, .inl 0, 0, 0), by subst h; exact ⟨dX0_heldBy_1, rfl, ⟨by decide, rfl, by decide⟩⟩⟩ else none
    else
     bif Nat.blt pc 41 then
      if h : pc = 40 then some ⟨(.aload_n 0, 41, .inl 0, 0, 0), by subst h; exact ⟨dX0_heldBy_40, rfl, trivial⟩⟩ else none
     else
      bif Nat.blt pc 44 then
       if h : pc = 41 then some ⟨(.getfield 62, 44, .inr (.inr none), 4, 0), by subst h; exact ⟨dX0_heldBy_41, rfl, ⟨⟨_, rfl, by decide, _, Or.inl q886, Or.inl rfl⟩, (show mKd 0 4 = 6 by rfl)⟩⟩⟩ else none
      else
       if h : pc = 44 then some ⟨(.iload_n 2, 45, .inl 0, 0, 0), by subst h; exact ⟨dX0_heldBy_44, rfl, trivial⟩⟩ else none
   else
    bif Nat.blt pc 47 then
     bif Nat.blt pc 46 then
      if h : pc = 45 then some ⟨(.iaload, 46, .inl 0, 0, 0), by subst h; exact ⟨dX0_heldBy_45, rfl, trivial⟩⟩ else none
     else
      if h : pc = 46 then some ⟨(.ireturn, 47, .inl 0, 0, 0), by subst h; exact ⟨dX0_heldBy_46, rfl, rfl⟩⟩ else none
    else
     bif Nat.blt pc 48 then
      if h : pc = 47 then some ⟨(.aload_n 0, 48, .inl 0, 0, 0), by subst h; exact ⟨dX0_heldBy_47, rfl, trivial⟩⟩ else none
     else
      bif Nat.blt pc 51 then
       if h : pc = 48 then some ⟨(.getfield 66, 51, .inl 0, 3, 0), by subst h; exact ⟨dX0_heldBy_48, rfl, ⟨⟨_, rfl, by decide, _, Or.inl q885, Or.inl rfl⟩, (show mKd 0 3 ≤ 4 by decide)⟩⟩⟩ else none
      else
       if h : pc = 51 then some ⟨(.ireturn, 52, .inl 0, 0, 0), by subst h; exact ⟨dX0_heldBy_51, rfl, rfl⟩⟩ else none
  else
   bif Nat.blt pc 61 then
    bif Nat.blt pc 56 then
     bif Nat.blt pc 53 then
      if h : pc = 52 then some ⟨(.aload_n 0, 53, .inl 0, 0, 0), by subst h; exact ⟨dX0_heldBy_52, rfl, trivial⟩⟩ else none
     else
      if h : pc = 53 then some ⟨(.getfield 69, 56, .inl 0, 2, 0), by subst h; exact ⟨dX0_heldBy_53, rfl, ⟨⟨_, rfl, by decide, _, Or.inl q883, Or.inl rfl⟩, (show mKd 0 2 ≤ 4 by decide)⟩⟩⟩ else none
    else
     bif Nat.blt pc 57 then
      if h : pc = 56 then some ⟨(.ireturn, 57, .inl 0, 0, 0), by subst h; exact ⟨dX0_heldBy_56, rfl, rfl⟩⟩ else none
     else
      bif Nat.blt pc 58 then
       if h : pc = 57 then some ⟨(.aload_n 0, 58, .inl 0, 0, 0), by subst h; exact ⟨dX0_heldBy_57, rfl, trivial⟩⟩ else none
      else
       if h : pc = 58 then some ⟨(.getfield 47, 61, .inr (.inr none), 0, 0), by subst h; exact ⟨dX0_heldBy_58, rfl, ⟨⟨_, rfl, by decide, _, Or.inl q880, Or.inl rfl⟩, (show mKd 0 0 = 6 by rfl)⟩⟩⟩ else none
   else
    bif Nat.blt pc 63 then
     bif Nat.blt pc 62 then
      if h : pc = 61 then some ⟨(.iload_n 2, 62, .inl 0, 0, 0), by subst h; exact ⟨dX0_heldBy_61, rfl, trivial⟩⟩ else none
     else
      if h : pc = 62 then some ⟨(.aaload, 63, .inl 0, 0, 0), by subst h; exact ⟨dX0_heldBy_62, rfl, trivial⟩⟩ else none
    else
     bif Nat.blt pc 66 then
      if h : pc = 63 then some ⟨(.getfield 72, 66, .inl 0, 0, 4), by subst h; exact ⟨dX0_heldBy_63, rfl, ⟨⟨_, rfl, by decide, _, Or.inl q192, Or.inl rfl⟩, (show mKd 4 0 ≤ 4 by decide)⟩⟩⟩ else none
     else
      bif Nat.blt pc 67 then
       if h : pc = 66 then some ⟨(.ireturn, 67, .inl 0, 0, 0), by subst h; exact ⟨dX0_heldBy_66, rfl, rfl⟩⟩ else none
      else
       if h : pc = 67 then some ⟨(.aload_n 0, 68, .inl 0, 0, 0), by subst h; exact ⟨dX0_heldBy_67, rfl, trivial⟩⟩ else none
 else
  bif Nat.blt pc 86 then
   bif Nat.blt pc 77 then
    bif Nat.blt pc 72 then
     bif Nat.blt pc 71 then
      if h : pc = 68 then some ⟨(.getfield 47, 71, .inr (.inr none), 0, 0), by subst h; exact ⟨dX0_heldBy_68, rfl, ⟨⟨_, rfl, by decide, _, Or.inl q880, Or.inl rfl⟩, (show mKd 0 0 = 6 by rfl)⟩⟩⟩ else none
     else
      if h : pc = 71 then some ⟨(.iload_n 2, 72, .inl 0, 0, 0), by subst h; exact ⟨dX0_heldBy_71, rfl, trivial⟩⟩ else none
    else
     bif Nat.blt pc 73 then
      if h : pc = 72 then some ⟨(.aaload, 73, .inl 0, 0, 0), by subst h; exact ⟨dX0_heldBy_72, rfl, trivial⟩⟩ else none
     else
      bif Nat.blt pc 76 then
       if h : pc = 73 then some ⟨(.getfield 75, 76, .inl 0, 1, 4), by subst h; exact ⟨dX0_heldBy_73, rfl, ⟨⟨_, rfl, by decide, _, Or.inl q197, Or.inl rfl⟩, (show mKd 4 1 ≤ 4 by decide)⟩⟩⟩ else none
      else
       if h : pc = 76 then some ⟨(.ireturn, 77, .inl 0, 0, 0), by subst h; exact ⟨dX0_heldBy_76, rfl, rfl⟩⟩ else none
   else
    bif Nat.blt pc 81 then
     bif Nat.blt pc 78 then
      if h : pc = 77 then some ⟨(.aload_n 0, 78, .inl 0, 0, 0), by subst h; exact ⟨dX0_heldBy_77, rfl, trivial⟩⟩ else none
     else
      if h : pc = 78 then some ⟨(.getfield 47, 81, .inr (.inr none), 0, 0), by subst h; exact ⟨dX0_heldBy_78, rfl, ⟨⟨_, rfl, by decide, _, Or.inl q880, Or.inl rfl⟩, (show mKd 0 0 = 6 by rfl)⟩⟩⟩ else none
    else
     bif Nat.blt pc 82 then
      if h : pc = 81 then some ⟨(.iload_n 2, 82, .inl 0, 0, 0), by subst h; exact ⟨dX0_heldBy_81, rfl, trivial⟩⟩ else none
     else
      bif Nat.blt pc 83 then
       if h : pc = 82 then some ⟨(.aaload, 83, .inl 0, 0, 0), by subst h; exact ⟨dX0_heldBy_82, rfl, trivial⟩⟩ else none
      else
       if h : pc = 83 then some ⟨(.getfield 78, 86, .inl 0, 2, 4), by subst h; exact ⟨dX0_heldBy_83, rfl, ⟨⟨_, rfl, by decide, _, Or.inl q204, Or.inl rfl⟩, (show mKd 4 2 ≤ 4 by decide)⟩⟩⟩ else none
  else
   bif Nat.blt pc 93 then
    bif Nat.blt pc 88 then
     bif Nat.blt pc 87 then
      if h : pc = 86 then some ⟨(.ireturn, 87, .inl 0, 0, 0), by subst h; exact ⟨dX0_heldBy_86, rfl, rfl⟩⟩ else none
     else
      if h : pc = 87 then some ⟨(.aload_n 0, 88, .inl 0, 0, 0), by subst h; exact ⟨dX0_heldBy_87, rfl, trivial⟩⟩ else none
    else
     bif Nat.blt pc 91 then
      if h : pc = 88 then some ⟨(.getfield 47, 91, .inr (.inr none), 0, 0), by subst h; exact ⟨dX0_heldBy_88, rfl, ⟨⟨_, rfl, by decide, _, Or.inl q880, Or.inl rfl⟩, (show mKd 0 0 = 6 by rfl)⟩⟩⟩ else none
     else
      bif Nat.blt pc 92 then
       if h : pc = 91 then some ⟨(.iload_n 2, 92, .inl 0, 0, 0), by subst h; exact ⟨dX0_heldBy_91, rfl, trivial⟩⟩ else none
      else
       if h : pc = 92 then some ⟨(.aaload, 93, .inl 0, 0, 0), by subst h; exact ⟨dX0_heldBy_92, rfl, trivial⟩⟩ else none
   else
    bif Nat.blt pc 100 then
     bif Nat.blt pc 96 then
      if h : pc = 93 then some ⟨(.getfield 81, 96, .inl 0, 3, 4), by subst h; exact ⟨dX0_heldBy_93, rfl, ⟨⟨_, rfl, by decide, _, Or.inl q206, Or.inl rfl⟩, (show mKd 4 3 ≤ 4 by decide)⟩⟩⟩ else none
     else
      bif Nat.blt pc 99 then
       if h : pc = 96 then some ⟨(.ifCond .eq 7, 99, .inl 0, 103, 0), by subst h; exact ⟨dX0_heldBy_96, rfl, (show ((96 : Nat) : Int) + (7) = ((103 : Nat) : Int) by decide)⟩⟩ else none
      else
       if h : pc = 99 then some ⟨(.iconst 1, 100, .inl 1, 0, 0), by subst h; exact ⟨dX0_heldBy_99, rfl, ⟨1, rfl, by decide⟩⟩⟩ else none
    else
     bif Nat.blt pc 103 then
      if h : pc = 100 then some ⟨(.goto 4, 103, .inl 0, 104, 0), by subst h; exact ⟨dX0_heldBy_100, rfl, (show ((100 : Nat) : Int) + (4) = ((104 : Nat) : Int) by decide)⟩⟩ else none
     else
      bif Nat.blt pc 104 then
       if h : pc = 103 then some ⟨(.iconst 0, 104, .inl 0, 0, 0), by subst h; exact ⟨dX0_heldBy_103, rfl, ⟨0, rfl, by decide⟩⟩⟩ else none
      else
       if h : pc = 104 then some ⟨(.ireturn, 105, .inl 0, 0, 0), by subst h; exact ⟨dX0_heldBy_104, rfl, rfl⟩⟩ else none

noncomputable def mt116 (pc : Nat) : Option {e : mE // mOK yX0_becomes cX0_becomes 4 ((Option.none : Option ClassFile.FieldType)) pc e} :=
 bif Nat.blt pc 80 then
  bif Nat.blt pc 58 then
   bif Nat.blt pc 46 then
    bif Nat.blt pc 41 then
     bif Nat.blt pc 1 then
      if h : pc = 0 then some ⟨(.iload_n 1, 1, .inl 0, 0, 0), by subst h; exact ⟨dX0_becomes_0, rfl, trivial⟩⟩ else none
     else
      bif Nat.blt pc 40 then
       if h : pc = 1 then some ⟨(.tableswitch 104 0 5 #[39, 49, 57, 65, 78, 91], 1, .inl 0, 0, 0), by subst h; exact ⟨dX0_becomes_1, rfl, ⟨by decide, rfl, by decide⟩⟩⟩ else none
      else
       if h : pc = 40 then some ⟨(.aload_n 0, 41, .inl 0, 0, 0), by subst h; exact ⟨dX0_becomes_40, rfl, trivial⟩⟩ else none
    else
     bif Nat.blt pc 44 then
      if h : pc = 41 then some ⟨(.getfield 62, 44, .inr (.inr none), 4, 0), by subst h; exact ⟨dX0_becomes_41, rfl, ⟨⟨_, rfl, by decide, _, Or.inl q886, Or.inl rfl⟩, (show mKd 0 4 = 6 by rfl)⟩⟩⟩ else none
     else
      bif Nat.blt pc 45 then
       if h : pc = 44 then some ⟨(.iload_n 2, 45, .inl 0, 0, 0), by subst h; exact ⟨dX0_becomes_44, rfl, trivial⟩⟩ else none
      else
       if h : pc = 45 then some ⟨(.iload_n 3, 46, .inl 0, 0, 0), by subst h; exact ⟨dX0_becomes_45, rfl, trivial⟩⟩ else none
   else
    bif Nat.blt pc 51 then
     bif Nat.blt pc 47 then
      if h : pc = 46 then some ⟨(.iastore, 47, .inl 0, 0, 0), by subst h; exact ⟨dX0_becomes_46, rfl, trivial⟩⟩ else none
     else
      bif Nat.blt pc 50 then
       if h : pc = 47 then some ⟨(.goto 77, 50, .inl 0, 124, 0), by subst h; exact ⟨dX0_becomes_47, rfl, (show ((47 : Nat) : Int) + (77) = ((124 : Nat) : Int) by decide)⟩⟩ else none
      else
       if h : pc = 50 then some ⟨(.aload_n 0, 51, .inl 0, 0, 0), by subst h; exact ⟨dX0_becomes_50, rfl, trivial⟩⟩ else none
    else
     bif Nat.blt pc 52 then
      if h : pc = 51 then some ⟨(.iload_n 3, 52, .inl 0, 0, 0), by subst h; exact ⟨dX0_becomes_51, rfl, trivial⟩⟩ else none
     else
      bif Nat.blt pc 55 then
       if h : pc = 52 then some ⟨(.putfield 66, 55, .inl 0, 3, 0), by subst h; exact ⟨dX0_becomes_52, rfl, ⟨⟨_, rfl, by decide, _, Or.inl q885, Or.inl rfl⟩, (show mKd 0 3 ≤ 4 by decide), by decide, by decide, (fun q h => Or.inl (by cases h; rfl))⟩⟩⟩ else none
      else
       if h : pc = 55 then some ⟨(.goto 69, 58, .inl 0, 124, 0), by subst h; exact ⟨dX0_becomes_55, rfl, (show ((55 : Nat) : Int) + (69) = ((124 : Nat) : Int) by decide)⟩⟩ else none
  else
   bif Nat.blt pc 70 then
    bif Nat.blt pc 63 then
     bif Nat.blt pc 59 then
      if h : pc = 58 then some ⟨(.aload_n 0, 59, .inl 0, 0, 0), by subst h; exact ⟨dX0_becomes_58, rfl, trivial⟩⟩ else none
     else
      bif Nat.blt pc 60 then
       if h : pc = 59 then some ⟨(.iload_n 3, 60, .inl 0, 0, 0), by subst h; exact ⟨dX0_becomes_59, rfl, trivial⟩⟩ else none
      else
       if h : pc = 60 then some ⟨(.putfield 69, 63, .inl 0, 2, 0), by subst h; exact ⟨dX0_becomes_60, rfl, ⟨⟨_, rfl, by decide, _, Or.inl q883, Or.inl rfl⟩, (show mKd 0 2 ≤ 4 by decide), by decide, by decide, (fun q h => Or.inl (by cases h; rfl))⟩⟩⟩ else none
    else
     bif Nat.blt pc 66 then
      if h : pc = 63 then some ⟨(.goto 61, 66, .inl 0, 124, 0), by subst h; exact ⟨dX0_becomes_63, rfl, (show ((63 : Nat) : Int) + (61) = ((124 : Nat) : Int) by decide)⟩⟩ else none
     else
      bif Nat.blt pc 67 then
       if h : pc = 66 then some ⟨(.aload_n 0, 67, .inl 0, 0, 0), by subst h; exact ⟨dX0_becomes_66, rfl, trivial⟩⟩ else none
      else
       if h : pc = 67 then some ⟨(.getfield 47, 70, .inr (.inr none), 0, 0), by subst h; exact ⟨dX0_becomes_67, rfl, ⟨⟨_, rfl, by decide, _, Or.inl q880, Or.inl rfl⟩, (show mKd 0 0 = 6 by rfl)⟩⟩⟩ else none
   else
    bif Nat.blt pc 73 then
     bif Nat.blt pc 71 then
      if h : pc = 70 then some ⟨(.iload_n 2, 71, .inl 0, 0, 0), by subst h; exact ⟨dX0_becomes_70, rfl, trivial⟩⟩ else none
     else
      bif Nat.blt pc 72 then
       if h : pc = 71 then some ⟨(.aaload, 72, .inl 0, 0, 0), by subst h; exact ⟨dX0_becomes_71, rfl, trivial⟩⟩ else none
      else
       if h : pc = 72 then some ⟨(.iload_n 3, 73, .inl 0, 0, 0), by subst h; exact ⟨dX0_becomes_72, rfl, trivial⟩⟩ else none
    else
     bif Nat.blt pc 76 then
      if h : pc = 73 then some ⟨(.putfield 72, 76, .inl 0, 0, 4), by subst h; exact ⟨dX0_becomes_73, rfl, ⟨⟨_, rfl, by decide, _, Or.inl q192, Or.inl rfl⟩, (show mKd 4 0 ≤ 4 by decide), by decide, by decide, (fun q h => Or.inl (by cases h; rfl))⟩⟩⟩ else none
     else
      bif Nat.blt pc 79 then
       if h : pc = 76 then some ⟨(.goto 48, 79, .inl 0, 124, 0), by subst h; exact ⟨dX0_becomes_76, rfl, (show ((76 : Nat) : Int) + (48) = ((124 : Nat) : Int) by decide)⟩⟩ else none
      else
       if h : pc = 79 then some ⟨(.aload_n 0, 80, .inl 0, 0, 0), by subst h; exact ⟨dX0_becomes_79, rfl, trivial⟩⟩ else none
 else
  bif Nat.blt pc 102 then
   bif Nat.blt pc 92 then
    bif Nat.blt pc 85 then
     bif Nat.blt pc 83 then
      if h : pc = 80 then some ⟨(.getfield 47, 83, .inr (.inr none), 0, 0), by subst h; exact ⟨dX0_becomes_80, rfl, ⟨⟨_, rfl, by decide, _, Or.inl q880, Or.inl rfl⟩, (show mKd 0 0 = 6 by rfl)⟩⟩⟩ else none
     else
      bif Nat.blt pc 84 then
       if h : pc = 83 then some ⟨(.iload_n 2, 84, .inl 0, 0, 0), by subst h; exact ⟨dX0_becomes_83, rfl, trivial⟩⟩ else none
      else
       if h : pc = 84 then some ⟨(.aaload, 85, .inl 0, 0, 0), by subst h; exact ⟨dX0_becomes_84, rfl, trivial⟩⟩ else none
    else
     bif Nat.blt pc 86 then
      if h : pc = 85 then some ⟨(.iload_n 3, 86, .inl 0, 0, 0), by subst h; exact ⟨dX0_becomes_85, rfl, trivial⟩⟩ else none
     else
      bif Nat.blt pc 89 then
       if h : pc = 86 then some ⟨(.putfield 75, 89, .inl 0, 1, 4), by subst h; exact ⟨dX0_becomes_86, rfl, ⟨⟨_, rfl, by decide, _, Or.inl q197, Or.inl rfl⟩, (show mKd 4 1 ≤ 4 by decide), by decide, by decide, (fun q h => Or.inl (by cases h; rfl))⟩⟩⟩ else none
      else
       if h : pc = 89 then some ⟨(.goto 35, 92, .inl 0, 124, 0), by subst h; exact ⟨dX0_becomes_89, rfl, (show ((89 : Nat) : Int) + (35) = ((124 : Nat) : Int) by decide)⟩⟩ else none
   else
    bif Nat.blt pc 97 then
     bif Nat.blt pc 93 then
      if h : pc = 92 then some ⟨(.aload_n 0, 93, .inl 0, 0, 0), by subst h; exact ⟨dX0_becomes_92, rfl, trivial⟩⟩ else none
     else
      bif Nat.blt pc 96 then
       if h : pc = 93 then some ⟨(.getfield 47, 96, .inr (.inr none), 0, 0), by subst h; exact ⟨dX0_becomes_93, rfl, ⟨⟨_, rfl, by decide, _, Or.inl q880, Or.inl rfl⟩, (show mKd 0 0 = 6 by rfl)⟩⟩⟩ else none
      else
       if h : pc = 96 then some ⟨(.iload_n 2, 97, .inl 0, 0, 0), by subst h; exact ⟨dX0_becomes_96, rfl, trivial⟩⟩ else none
    else
     bif Nat.blt pc 98 then
      if h : pc = 97 then some ⟨(.aaload, 98, .inl 0, 0, 0), by subst h; exact ⟨dX0_becomes_97, rfl, trivial⟩⟩ else none
     else
      bif Nat.blt pc 99 then
       if h : pc = 98 then some ⟨(.iload_n 3, 99, .inl 0, 0, 0), by subst h; exact ⟨dX0_becomes_98, rfl, trivial⟩⟩ else none
      else
       if h : pc = 99 then some ⟨(.putfield 78, 102, .inl 0, 2, 4), by subst h; exact ⟨dX0_becomes_99, rfl, ⟨⟨_, rfl, by decide, _, Or.inl q204, Or.inl rfl⟩, (show mKd 4 2 ≤ 4 by decide), by decide, by decide, (fun q h => Or.inl (by cases h; rfl))⟩⟩⟩ else none
  else
   bif Nat.blt pc 112 then
    bif Nat.blt pc 109 then
     bif Nat.blt pc 105 then
      if h : pc = 102 then some ⟨(.goto 22, 105, .inl 0, 124, 0), by subst h; exact ⟨dX0_becomes_102, rfl, (show ((102 : Nat) : Int) + (22) = ((124 : Nat) : Int) by decide)⟩⟩ else none
     else
      bif Nat.blt pc 106 then
       if h : pc = 105 then some ⟨(.aload_n 0, 106, .inl 0, 0, 0), by subst h; exact ⟨dX0_becomes_105, rfl, trivial⟩⟩ else none
      else
       if h : pc = 106 then some ⟨(.getfield 47, 109, .inr (.inr none), 0, 0), by subst h; exact ⟨dX0_becomes_106, rfl, ⟨⟨_, rfl, by decide, _, Or.inl q880, Or.inl rfl⟩, (show mKd 0 0 = 6 by rfl)⟩⟩⟩ else none
    else
     bif Nat.blt pc 110 then
      if h : pc = 109 then some ⟨(.iload_n 2, 110, .inl 0, 0, 0), by subst h; exact ⟨dX0_becomes_109, rfl, trivial⟩⟩ else none
     else
      bif Nat.blt pc 111 then
       if h : pc = 110 then some ⟨(.aaload, 111, .inl 0, 0, 0), by subst h; exact ⟨dX0_becomes_110, rfl, trivial⟩⟩ else none
      else
       if h : pc = 111 then some ⟨(.iload_n 3, 112, .inl 0, 0, 0), by subst h; exact ⟨dX0_becomes_111, rfl, trivial⟩⟩ else none
   else
    bif Nat.blt pc 117 then
     bif Nat.blt pc 113 then
      if h : pc = 112 then some ⟨(.iconst 1, 113, .inl 1, 0, 0), by subst h; exact ⟨dX0_becomes_112, rfl, ⟨1, rfl, by decide⟩⟩⟩ else none
     else
      bif Nat.blt pc 116 then
       if h : pc = 113 then some ⟨(.if_icmp .ne 7, 116, .inl 0, 120, 0), by subst h; exact ⟨dX0_becomes_113, rfl, (show ((113 : Nat) : Int) + (7) = ((120 : Nat) : Int) by decide)⟩⟩ else none
      else
       if h : pc = 116 then some ⟨(.iconst 1, 117, .inl 1, 0, 0), by subst h; exact ⟨dX0_becomes_116, rfl, ⟨1, rfl, by decide⟩⟩⟩ else none
    else
     bif Nat.blt pc 121 then
      bif Nat.blt pc 120 then
       if h : pc = 117 then some ⟨(.goto 4, 120, .inl 0, 121, 0), by subst h; exact ⟨dX0_becomes_117, rfl, (show ((117 : Nat) : Int) + (4) = ((121 : Nat) : Int) by decide)⟩⟩ else none
      else
       if h : pc = 120 then some ⟨(.iconst 0, 121, .inl 0, 0, 0), by subst h; exact ⟨dX0_becomes_120, rfl, ⟨0, rfl, by decide⟩⟩⟩ else none
     else
      bif Nat.blt pc 124 then
       if h : pc = 121 then some ⟨(.putfield 81, 124, .inl 0, 3, 104), by subst h; exact ⟨dX0_becomes_121, rfl, ⟨⟨_, rfl, by decide, _, Or.inl q206, Or.inl rfl⟩, (show mKd 4 3 ≤ 4 by decide), by decide, by decide, (fun q h => Or.inl (by cases h; rfl))⟩⟩⟩ else none
      else
       if h : pc = 124 then some ⟨(.return_, 125, .inl 0, 0, 0), by subst h; exact ⟨dX0_becomes_124, rfl, rfl⟩⟩ else none

noncomputable def mt117 (pc : Nat) : Option {e : mE // mOK yX0_told cX0_told 3 ((Option.some ClassFile.FieldType.int)) pc e} :=
 bif Nat.blt pc 52 then
  bif Nat.blt pc 23 then
   bif Nat.blt pc 12 then
    bif Nat.blt pc 3 then
     bif Nat.blt pc 1 then
      if h : pc = 0 then some ⟨(.iload_n 2, 1, .inl 0, 0, 0), by subst h; exact ⟨dX0_told_0, rfl, trivial⟩⟩ else none
     else
      bif Nat.blt pc 2 then
       if h : pc = 1 then some ⟨(.i2l, 2, .inl 0, 0, 0), by subst h; exact ⟨dX0_told_1, rfl, trivial⟩⟩ else none
      else
       if h : pc = 2 then some ⟨(.lconst 0, 3, .inr (.inl 0), 0, 0), by subst h; exact ⟨dX0_told_2, rfl, ⟨0, rfl, by decide⟩⟩⟩ else none
    else
     bif Nat.blt pc 6 then
      if h : pc = 3 then some ⟨(.ldc2_w 85, 6, .inr (.inl 6), 0, 0), by subst h; exact ⟨dX0_told_3, rfl, ⟨_, rfl, q272⟩⟩⟩ else none
     else
      bif Nat.blt pc 9 then
       if h : pc = 6 then some ⟨(.invokestatic 16, 9, .inl 0, 108, 0), by subst h; exact ⟨dX0_told_6, rfl, Or.inl ⟨by decide, q167, q168⟩⟩⟩ else none
      else
       if h : pc = 9 then some ⟨(.ifCond .eq 24, 12, .inl 0, 33, 0), by subst h; exact ⟨dX0_told_9, rfl, (show ((9 : Nat) : Int) + (24) = ((33 : Nat) : Int) by decide)⟩⟩ else none
   else
    bif Nat.blt pc 15 then
     bif Nat.blt pc 13 then
      if h : pc = 12 then some ⟨(.aload_n 0, 13, .inl 0, 0, 0), by subst h; exact ⟨dX0_told_12, rfl, trivial⟩⟩ else none
     else
      bif Nat.blt pc 14 then
       if h : pc = 13 then some ⟨(.iload_n 2, 14, .inl 0, 0, 0), by subst h; exact ⟨dX0_told_13, rfl, trivial⟩⟩ else none
      else
       if h : pc = 14 then some ⟨(.iload_n 1, 15, .inl 0, 0, 0), by subst h; exact ⟨dX0_told_14, rfl, trivial⟩⟩ else none
    else
     bif Nat.blt pc 21 then
      bif Nat.blt pc 18 then
       if h : pc = 15 then some ⟨(.invokevirtual 87, 18, .inl 0, 111, 0), by subst h; exact ⟨dX0_told_15, rfl, ⟨by decide, q273, q275, qs0, _, rfl, rfl⟩⟩⟩ else none
      else
       if h : pc = 18 then some ⟨(.ifCond .eq 12, 21, .inl 0, 30, 0), by subst h; exact ⟨dX0_told_18, rfl, (show ((18 : Nat) : Int) + (12) = ((30 : Nat) : Int) by decide)⟩⟩ else none
     else
      bif Nat.blt pc 22 then
       if h : pc = 21 then some ⟨(.aload_n 0, 22, .inl 0, 0, 0), by subst h; exact ⟨dX0_told_21, rfl, trivial⟩⟩ else none
      else
       if h : pc = 22 then some ⟨(.iload_n 2, 23, .inl 0, 0, 0), by subst h; exact ⟨dX0_told_22, rfl, trivial⟩⟩ else none
  else
   bif Nat.blt pc 35 then
    bif Nat.blt pc 30 then
     bif Nat.blt pc 24 then
      if h : pc = 23 then some ⟨(.iload_n 1, 24, .inl 0, 0, 0), by subst h; exact ⟨dX0_told_23, rfl, trivial⟩⟩ else none
     else
      bif Nat.blt pc 27 then
       if h : pc = 24 then some ⟨(.invokevirtual 95, 27, .inl 0, 115, 0), by subst h; exact ⟨dX0_told_24, rfl, ⟨by decide, q288, q290, qs2, _, rfl, rfl⟩⟩⟩ else none
      else
       if h : pc = 27 then some ⟨(.goto 5, 30, .inl 0, 32, 0), by subst h; exact ⟨dX0_told_27, rfl, (show ((27 : Nat) : Int) + (5) = ((32 : Nat) : Int) by decide)⟩⟩ else none
    else
     bif Nat.blt pc 33 then
      bif Nat.blt pc 32 then
       if h : pc = 30 then some ⟨(.bipush (-2), 32, .inl (-2), 0, 0), by subst h; exact ⟨dX0_told_30, rfl, ⟨(-2), rfl, by decide⟩⟩⟩ else none
      else
       if h : pc = 32 then some ⟨(.ireturn, 33, .inl 0, 0, 0), by subst h; exact ⟨dX0_told_32, rfl, rfl⟩⟩ else none
     else
      bif Nat.blt pc 34 then
       if h : pc = 33 then some ⟨(.iload_n 2, 34, .inl 0, 0, 0), by subst h; exact ⟨dX0_told_33, rfl, trivial⟩⟩ else none
      else
       if h : pc = 34 then some ⟨(.i2l, 35, .inl 0, 0, 0), by subst h; exact ⟨dX0_told_34, rfl, trivial⟩⟩ else none
   else
    bif Nat.blt pc 44 then
     bif Nat.blt pc 38 then
      if h : pc = 35 then some ⟨(.ldc2_w 102, 38, .inr (.inl 7), 0, 0), by subst h; exact ⟨dX0_told_35, rfl, ⟨_, rfl, q300⟩⟩⟩ else none
     else
      bif Nat.blt pc 41 then
       if h : pc = 38 then some ⟨(.ldc2_w 104, 41, .inr (.inl 10), 0, 0), by subst h; exact ⟨dX0_told_38, rfl, ⟨_, rfl, q301⟩⟩⟩ else none
      else
       if h : pc = 41 then some ⟨(.invokestatic 16, 44, .inl 0, 108, 0), by subst h; exact ⟨dX0_told_41, rfl, Or.inl ⟨by decide, q167, q168⟩⟩⟩ else none
    else
     bif Nat.blt pc 48 then
      bif Nat.blt pc 47 then
       if h : pc = 44 then some ⟨(.ifCond .eq 11, 47, .inl 0, 55, 0), by subst h; exact ⟨dX0_told_44, rfl, (show ((44 : Nat) : Int) + (11) = ((55 : Nat) : Int) by decide)⟩⟩ else none
      else
       if h : pc = 47 then some ⟨(.aload_n 0, 48, .inl 0, 0, 0), by subst h; exact ⟨dX0_told_47, rfl, trivial⟩⟩ else none
     else
      bif Nat.blt pc 49 then
       if h : pc = 48 then some ⟨(.iload_n 1, 49, .inl 0, 0, 0), by subst h; exact ⟨dX0_told_48, rfl, trivial⟩⟩ else none
      else
       if h : pc = 49 then some ⟨(.invokevirtual 59, 52, .inl 0, 113, 0), by subst h; exact ⟨dX0_told_49, rfl, ⟨by decide, q281, q283, qs1, _, rfl, rfl⟩⟩⟩ else none
 else
  bif Nat.blt pc 96 then
   bif Nat.blt pc 85 then
    bif Nat.blt pc 58 then
     bif Nat.blt pc 55 then
      if h : pc = 52 then some ⟨(.ifCond .ne 6, 55, .inl 0, 58, 0), by subst h; exact ⟨dX0_told_52, rfl, (show ((52 : Nat) : Int) + (6) = ((58 : Nat) : Int) by decide)⟩⟩ else none
     else
      bif Nat.blt pc 57 then
       if h : pc = 55 then some ⟨(.bipush (-2), 57, .inl (-2), 0, 0), by subst h; exact ⟨dX0_told_55, rfl, ⟨(-2), rfl, by decide⟩⟩⟩ else none
      else
       if h : pc = 57 then some ⟨(.ireturn, 58, .inl 0, 0, 0), by subst h; exact ⟨dX0_told_57, rfl, rfl⟩⟩ else none
    else
     bif Nat.blt pc 59 then
      if h : pc = 58 then some ⟨(.iload_n 2, 59, .inl 0, 0, 0), by subst h; exact ⟨dX0_told_58, rfl, trivial⟩⟩ else none
     else
      bif Nat.blt pc 84 then
       if h : pc = 59 then some ⟨(.tableswitch 47 7 9 #[25, 35, 41], 59, .inl 0, 0, 0), by subst h; exact ⟨dX0_told_59, rfl, ⟨by decide, rfl, by decide⟩⟩⟩ else none
      else
       if h : pc = 84 then some ⟨(.aload_n 0, 85, .inl 0, 0, 0), by subst h; exact ⟨dX0_told_84, rfl, trivial⟩⟩ else none
   else
    bif Nat.blt pc 90 then
     bif Nat.blt pc 88 then
      if h : pc = 85 then some ⟨(.getfield 47, 88, .inr (.inr none), 0, 0), by subst h; exact ⟨dX0_told_85, rfl, ⟨⟨_, rfl, by decide, _, Or.inl q880, Or.inl rfl⟩, (show mKd 0 0 = 6 by rfl)⟩⟩⟩ else none
     else
      bif Nat.blt pc 89 then
       if h : pc = 88 then some ⟨(.iload_n 1, 89, .inl 0, 0, 0), by subst h; exact ⟨dX0_told_88, rfl, trivial⟩⟩ else none
      else
       if h : pc = 89 then some ⟨(.aaload, 90, .inl 0, 0, 0), by subst h; exact ⟨dX0_told_89, rfl, trivial⟩⟩ else none
    else
     bif Nat.blt pc 94 then
      bif Nat.blt pc 93 then
       if h : pc = 90 then some ⟨(.invokevirtual 106, 93, .inl 0, 0, 100), by subst h; exact ⟨dX0_told_90, rfl, q302⟩⟩ else none
      else
       if h : pc = 93 then some ⟨(.ireturn, 94, .inl 0, 0, 0), by subst h; exact ⟨dX0_told_93, rfl, rfl⟩⟩ else none
     else
      bif Nat.blt pc 95 then
       if h : pc = 94 then some ⟨(.aload_n 0, 95, .inl 0, 0, 0), by subst h; exact ⟨dX0_told_94, rfl, trivial⟩⟩ else none
      else
       if h : pc = 95 then some ⟨(.iload_n 1, 96, .inl 0, 0, 0), by subst h; exact ⟨dX0_told_95, rfl, trivial⟩⟩ else none
  else
   bif Nat.blt pc 107 then
    bif Nat.blt pc 101 then
     bif Nat.blt pc 99 then
      if h : pc = 96 then some ⟨(.invokevirtual 110, 99, .inl 0, 118, 0), by subst h; exact ⟨dX0_told_96, rfl, ⟨by decide, q327, q329, qs4, _, rfl, rfl⟩⟩⟩ else none
     else
      bif Nat.blt pc 100 then
       if h : pc = 99 then some ⟨(.ireturn, 100, .inl 0, 0, 0), by subst h; exact ⟨dX0_told_99, rfl, rfl⟩⟩ else none
      else
       if h : pc = 100 then some ⟨(.aload_n 0, 101, .inl 0, 0, 0), by subst h; exact ⟨dX0_told_100, rfl, trivial⟩⟩ else none
    else
     bif Nat.blt pc 105 then
      bif Nat.blt pc 102 then
       if h : pc = 101 then some ⟨(.iload_n 1, 102, .inl 0, 0, 0), by subst h; exact ⟨dX0_told_101, rfl, trivial⟩⟩ else none
      else
       if h : pc = 102 then some ⟨(.invokevirtual 113, 105, .inl 0, 123, 0), by subst h; exact ⟨dX0_told_102, rfl, ⟨by decide, q394, q396, qs8, _, rfl, rfl⟩⟩⟩ else none
     else
      bif Nat.blt pc 106 then
       if h : pc = 105 then some ⟨(.ireturn, 106, .inl 0, 0, 0), by subst h; exact ⟨dX0_told_105, rfl, rfl⟩⟩ else none
      else
       if h : pc = 106 then some ⟨(.aload_n 0, 107, .inl 0, 0, 0), by subst h; exact ⟨dX0_told_106, rfl, trivial⟩⟩ else none
   else
    bif Nat.blt pc 114 then
     bif Nat.blt pc 108 then
      if h : pc = 107 then some ⟨(.iload_n 1, 108, .inl 0, 0, 0), by subst h; exact ⟨dX0_told_107, rfl, trivial⟩⟩ else none
     else
      bif Nat.blt pc 111 then
       if h : pc = 108 then some ⟨(.invokevirtual 116, 111, .inl 0, 124, 0), by subst h; exact ⟨dX0_told_108, rfl, ⟨by decide, q421, q423, qs9, _, rfl, rfl⟩⟩⟩ else none
      else
       if h : pc = 111 then some ⟨(.ifCond .eq 7, 114, .inl 0, 118, 0), by subst h; exact ⟨dX0_told_111, rfl, (show ((111 : Nat) : Int) + (7) = ((118 : Nat) : Int) by decide)⟩⟩ else none
    else
     bif Nat.blt pc 118 then
      bif Nat.blt pc 115 then
       if h : pc = 114 then some ⟨(.iconst 1, 115, .inl 1, 0, 0), by subst h; exact ⟨dX0_told_114, rfl, ⟨1, rfl, by decide⟩⟩⟩ else none
      else
       if h : pc = 115 then some ⟨(.goto 4, 118, .inl 0, 119, 0), by subst h; exact ⟨dX0_told_115, rfl, (show ((115 : Nat) : Int) + (4) = ((119 : Nat) : Int) by decide)⟩⟩ else none
     else
      bif Nat.blt pc 119 then
       if h : pc = 118 then some ⟨(.iconst 0, 119, .inl 0, 0, 0), by subst h; exact ⟨dX0_told_118, rfl, ⟨0, rfl, by decide⟩⟩⟩ else none
      else
       if h : pc = 119 then some ⟨(.ireturn, 120, .inl 0, 0, 0), by subst h; exact ⟨dX0_told_119, rfl, rfl⟩⟩ else none

noncomputable def mt118 (pc : Nat) : Option {e : mE // mOK yX0_strongOf cX0_strongOf 2 ((Option.some ClassFile.FieldType.int)) pc e} :=
 bif Nat.blt pc 8 then
  bif Nat.blt pc 5 then
   bif Nat.blt pc 1 then
    if h : pc = 0 then some ⟨(.aload_n 0, 1, .inl 0, 0, 0), by subst h; exact ⟨dX0_strongOf_0, rfl, trivial⟩⟩ else none
   else
    bif Nat.blt pc 4 then
     if h : pc = 1 then some ⟨(.getfield 47, 4, .inr (.inr none), 0, 0), by subst h; exact ⟨dX0_strongOf_1, rfl, ⟨⟨_, rfl, by decide, _, Or.inl q880, Or.inl rfl⟩, (show mKd 0 0 = 6 by rfl)⟩⟩⟩ else none
    else
     if h : pc = 4 then some ⟨(.iload_n 1, 5, .inl 0, 0, 0), by subst h; exact ⟨dX0_strongOf_4, rfl, trivial⟩⟩ else none
  else
   bif Nat.blt pc 6 then
    if h : pc = 5 then some ⟨(.aaload, 6, .inl 0, 0, 0), by subst h; exact ⟨dX0_strongOf_5, rfl, trivial⟩⟩ else none
   else
    bif Nat.blt pc 7 then
     if h : pc = 6 then some ⟨(.aload_n 0, 7, .inl 0, 0, 0), by subst h; exact ⟨dX0_strongOf_6, rfl, trivial⟩⟩ else none
    else
     if h : pc = 7 then some ⟨(.iconst 1, 8, .inl 1, 0, 0), by subst h; exact ⟨dX0_strongOf_7, rfl, ⟨1, rfl, by decide⟩⟩⟩ else none
 else
  bif Nat.blt pc 13 then
   bif Nat.blt pc 9 then
    if h : pc = 8 then some ⟨(.iload_n 1, 9, .inl 0, 0, 0), by subst h; exact ⟨dX0_strongOf_8, rfl, trivial⟩⟩ else none
   else
    bif Nat.blt pc 12 then
     if h : pc = 9 then some ⟨(.invokevirtual 352, 12, .inl 0, 119, 0), by subst h; exact ⟨dX0_strongOf_9, rfl, ⟨by decide, q331, q333, qs5, _, rfl, rfl⟩⟩⟩ else none
    else
     if h : pc = 12 then some ⟨(.aload_n 0, 13, .inl 0, 0, 0), by subst h; exact ⟨dX0_strongOf_12, rfl, trivial⟩⟩ else none
  else
   bif Nat.blt pc 16 then
    if h : pc = 13 then some ⟨(.invokevirtual 369, 16, .inl 0, 122, 0), by subst h; exact ⟨dX0_strongOf_13, rfl, ⟨by decide, q365, q367, qs7, _, rfl, rfl⟩⟩⟩ else none
   else
    bif Nat.blt pc 19 then
     if h : pc = 16 then some ⟨(.invokevirtual 372, 19, .inl 0, 2, 100), by subst h; exact ⟨dX0_strongOf_16, rfl, q369⟩⟩ else none
    else
     if h : pc = 19 then some ⟨(.ireturn, 20, .inl 0, 0, 0), by subst h; exact ⟨dX0_strongOf_19, rfl, rfl⟩⟩ else none

noncomputable def mt119 (pc : Nat) : Option {e : mE // mOK yX0_says cX0_says 3 ((Option.some ClassFile.FieldType.int)) pc e} :=
 bif Nat.blt pc 13 then
  bif Nat.blt pc 5 then
   bif Nat.blt pc 1 then
    if h : pc = 0 then some ⟨(.aload_n 0, 1, .inl 0, 0, 0), by subst h; exact ⟨dX0_says_0, rfl, trivial⟩⟩ else none
   else
    bif Nat.blt pc 2 then
     if h : pc = 1 then some ⟨(.iload_n 2, 2, .inl 0, 0, 0), by subst h; exact ⟨dX0_says_1, rfl, trivial⟩⟩ else none
    else
     if h : pc = 2 then some ⟨(.putfield 342, 5, .inl 0, 6, 0), by subst h; exact ⟨dX0_says_2, rfl, ⟨⟨_, rfl, by decide, _, Or.inl q889, Or.inl rfl⟩, (show mKd 0 6 ≤ 4 by decide), by decide, by decide, (fun q h => Or.inl (by cases h; rfl))⟩⟩⟩ else none
  else
   bif Nat.blt pc 9 then
    bif Nat.blt pc 6 then
     if h : pc = 5 then some ⟨(.aload_n 0, 6, .inl 0, 0, 0), by subst h; exact ⟨dX0_says_5, rfl, trivial⟩⟩ else none
    else
     if h : pc = 6 then some ⟨(.getfield 255, 9, .inr (.inr none), 7, 0), by subst h; exact ⟨dX0_says_6, rfl, ⟨⟨_, rfl, by decide, _, Or.inl q890, Or.inl rfl⟩, (show mKd 0 7 = 6 by rfl)⟩⟩⟩ else none
   else
    bif Nat.blt pc 10 then
     if h : pc = 9 then some ⟨(.aload_n 0, 10, .inl 0, 0, 0), by subst h; exact ⟨dX0_says_9, rfl, trivial⟩⟩ else none
    else
     if h : pc = 10 then some ⟨(.getfield 339, 13, .inl 0, 19, 0), by subst h; exact ⟨dX0_says_10, rfl, ⟨⟨_, rfl, by decide, _, Or.inl q902, Or.inl rfl⟩, (show mKd 0 19 ≤ 4 by decide)⟩⟩⟩ else none
 else
  bif Nat.blt pc 19 then
   bif Nat.blt pc 15 then
    bif Nat.blt pc 14 then
     if h : pc = 13 then some ⟨(.aaload, 14, .inl 0, 0, 0), by subst h; exact ⟨dX0_says_13, rfl, trivial⟩⟩ else none
    else
     if h : pc = 14 then some ⟨(.iload_n 1, 15, .inl 0, 0, 0), by subst h; exact ⟨dX0_says_14, rfl, trivial⟩⟩ else none
   else
    bif Nat.blt pc 16 then
     if h : pc = 15 then some ⟨(.aaload, 16, .inl 0, 0, 0), by subst h; exact ⟨dX0_says_15, rfl, trivial⟩⟩ else none
    else
     if h : pc = 16 then some ⟨(.invokevirtual 345, 19, .inl 0, 5, 100), by subst h; exact ⟨dX0_says_16, rfl, q335⟩⟩ else none
  else
   bif Nat.blt pc 22 then
    bif Nat.blt pc 20 then
     if h : pc = 19 then some ⟨(.iconst 0, 20, .inl 0, 0, 0), by subst h; exact ⟨dX0_says_19, rfl, ⟨0, rfl, by decide⟩⟩⟩ else none
    else
     if h : pc = 20 then some ⟨(.bipush 99, 22, .inl 99, 0, 0), by subst h; exact ⟨dX0_says_20, rfl, ⟨99, rfl, by decide⟩⟩⟩ else none
   else
    bif Nat.blt pc 25 then
     if h : pc = 22 then some ⟨(.invokestatic 348, 25, .inl 0, 121, 0), by subst h; exact ⟨dX0_says_22, rfl, Or.inl ⟨by decide, q356, q357⟩⟩⟩ else none
    else
     if h : pc = 25 then some ⟨(.ireturn, 26, .inl 0, 0, 0), by subst h; exact ⟨dX0_says_25, rfl, rfl⟩⟩ else none

noncomputable def mt120 (pc : Nat) : Option {e : mE // mOK yX0_others cX0_others 4 ((Option.some ClassFile.FieldType.int)) pc e} :=
 bif Nat.blt pc 19 then
  bif Nat.blt pc 6 then
   bif Nat.blt pc 3 then
    bif Nat.blt pc 1 then
     if h : pc = 0 then some ⟨(.iconst 0, 1, .inl 0, 0, 0), by subst h; exact ⟨dX0_others_0, rfl, ⟨0, rfl, by decide⟩⟩⟩ else none
    else
     bif Nat.blt pc 2 then
      if h : pc = 1 then some ⟨(.istore_n 2, 2, .inl 0, 0, 0), by subst h; exact ⟨dX0_others_1, rfl, (show (2 : Nat) < 4 by decide)⟩⟩ else none
     else
      if h : pc = 2 then some ⟨(.iconst 0, 3, .inl 0, 0, 0), by subst h; exact ⟨dX0_others_2, rfl, ⟨0, rfl, by decide⟩⟩⟩ else none
   else
    bif Nat.blt pc 4 then
     if h : pc = 3 then some ⟨(.istore_n 3, 4, .inl 0, 0, 0), by subst h; exact ⟨dX0_others_3, rfl, (show (3 : Nat) < 4 by decide)⟩⟩ else none
    else
     bif Nat.blt pc 5 then
      if h : pc = 4 then some ⟨(.iload_n 3, 5, .inl 0, 0, 0), by subst h; exact ⟨dX0_others_4, rfl, trivial⟩⟩ else none
     else
      if h : pc = 5 then some ⟨(.aload_n 0, 6, .inl 0, 0, 0), by subst h; exact ⟨dX0_others_5, rfl, trivial⟩⟩ else none
  else
   bif Nat.blt pc 13 then
    bif Nat.blt pc 9 then
     if h : pc = 6 then some ⟨(.getfield 10, 9, .inl 0, 1, 0), by subst h; exact ⟨dX0_others_6, rfl, ⟨⟨_, rfl, by decide, _, Or.inl q881, Or.inl rfl⟩, (show mKd 0 1 ≤ 4 by decide)⟩⟩⟩ else none
    else
     bif Nat.blt pc 12 then
      if h : pc = 9 then some ⟨(.if_icmp .ge 34, 12, .inl 0, 43, 0), by subst h; exact ⟨dX0_others_9, rfl, (show ((9 : Nat) : Int) + (34) = ((43 : Nat) : Int) by decide)⟩⟩ else none
     else
      if h : pc = 12 then some ⟨(.iload_n 2, 13, .inl 0, 0, 0), by subst h; exact ⟨dX0_others_12, rfl, trivial⟩⟩ else none
   else
    bif Nat.blt pc 15 then
     bif Nat.blt pc 14 then
      if h : pc = 13 then some ⟨(.iload_n 3, 14, .inl 0, 0, 0), by subst h; exact ⟨dX0_others_13, rfl, trivial⟩⟩ else none
     else
      if h : pc = 14 then some ⟨(.iload_n 1, 15, .inl 0, 0, 0), by subst h; exact ⟨dX0_others_14, rfl, trivial⟩⟩ else none
    else
     bif Nat.blt pc 18 then
      if h : pc = 15 then some ⟨(.if_icmp .eq 19, 18, .inl 0, 34, 0), by subst h; exact ⟨dX0_others_15, rfl, (show ((15 : Nat) : Int) + (19) = ((34 : Nat) : Int) by decide)⟩⟩ else none
     else
      if h : pc = 18 then some ⟨(.aload_n 0, 19, .inl 0, 0, 0), by subst h; exact ⟨dX0_others_18, rfl, trivial⟩⟩ else none
 else
  bif Nat.blt pc 34 then
   bif Nat.blt pc 24 then
    bif Nat.blt pc 22 then
     if h : pc = 19 then some ⟨(.getfield 47, 22, .inr (.inr none), 0, 0), by subst h; exact ⟨dX0_others_19, rfl, ⟨⟨_, rfl, by decide, _, Or.inl q880, Or.inl rfl⟩, (show mKd 0 0 = 6 by rfl)⟩⟩⟩ else none
    else
     bif Nat.blt pc 23 then
      if h : pc = 22 then some ⟨(.iload_n 3, 23, .inl 0, 0, 0), by subst h; exact ⟨dX0_others_22, rfl, trivial⟩⟩ else none
     else
      if h : pc = 23 then some ⟨(.aaload, 24, .inl 0, 0, 0), by subst h; exact ⟨dX0_others_23, rfl, trivial⟩⟩ else none
   else
    bif Nat.blt pc 30 then
     bif Nat.blt pc 27 then
      if h : pc = 24 then some ⟨(.getfield 81, 27, .inl 0, 3, 4), by subst h; exact ⟨dX0_others_24, rfl, ⟨⟨_, rfl, by decide, _, Or.inl q206, Or.inl rfl⟩, (show mKd 4 3 ≤ 4 by decide)⟩⟩⟩ else none
     else
      if h : pc = 27 then some ⟨(.ifCond .eq 7, 30, .inl 0, 34, 0), by subst h; exact ⟨dX0_others_27, rfl, (show ((27 : Nat) : Int) + (7) = ((34 : Nat) : Int) by decide)⟩⟩ else none
    else
     bif Nat.blt pc 31 then
      if h : pc = 30 then some ⟨(.iconst 1, 31, .inl 1, 0, 0), by subst h; exact ⟨dX0_others_30, rfl, ⟨1, rfl, by decide⟩⟩⟩ else none
     else
      if h : pc = 31 then some ⟨(.goto 4, 34, .inl 0, 35, 0), by subst h; exact ⟨dX0_others_31, rfl, (show ((31 : Nat) : Int) + (4) = ((35 : Nat) : Int) by decide)⟩⟩ else none
  else
   bif Nat.blt pc 37 then
    bif Nat.blt pc 35 then
     if h : pc = 34 then some ⟨(.iconst 0, 35, .inl 0, 0, 0), by subst h; exact ⟨dX0_others_34, rfl, ⟨0, rfl, by decide⟩⟩⟩ else none
    else
     bif Nat.blt pc 36 then
      if h : pc = 35 then some ⟨(.iadd, 36, .inl 0, 0, 0), by subst h; exact ⟨dX0_others_35, rfl, trivial⟩⟩ else none
     else
      if h : pc = 36 then some ⟨(.istore_n 2, 37, .inl 0, 0, 0), by subst h; exact ⟨dX0_others_36, rfl, (show (2 : Nat) < 4 by decide)⟩⟩ else none
   else
    bif Nat.blt pc 43 then
     bif Nat.blt pc 40 then
      if h : pc = 37 then some ⟨(.iinc 3 1, 40, .inl 1, 0, 0), by subst h; exact ⟨dX0_others_37, rfl, ⟨(show (3 : Nat) < 4 by decide), 1, rfl, by decide⟩⟩⟩ else none
     else
      if h : pc = 40 then some ⟨(.goto (-36), 43, .inl 0, 4, 0), by subst h; exact ⟨dX0_others_40, rfl, (show ((40 : Nat) : Int) + ((-36)) = ((4 : Nat) : Int) by decide)⟩⟩ else none
    else
     bif Nat.blt pc 44 then
      if h : pc = 43 then some ⟨(.iload_n 2, 44, .inl 0, 0, 0), by subst h; exact ⟨dX0_others_43, rfl, trivial⟩⟩ else none
     else
      if h : pc = 44 then some ⟨(.ireturn, 45, .inl 0, 0, 0), by subst h; exact ⟨dX0_others_44, rfl, rfl⟩⟩ else none

noncomputable def mt121 (pc : Nat) : Option {e : mE // mOK yX0_held cX0_held 3 ((Option.some ClassFile.FieldType.int)) pc e} :=
 bif Nat.blt pc 3 then
  bif Nat.blt pc 1 then
   if h : pc = 0 then some ⟨(.iload_n 1, 1, .inl 0, 0, 0), by subst h; exact ⟨dX0_held_0, rfl, trivial⟩⟩ else none
  else
   bif Nat.blt pc 2 then
    if h : pc = 1 then some ⟨(.iload_n 2, 2, .inl 0, 0, 0), by subst h; exact ⟨dX0_held_1, rfl, trivial⟩⟩ else none
   else
    if h : pc = 2 then some ⟨(.iload_n 0, 3, .inl 0, 0, 0), by subst h; exact ⟨dX0_held_2, rfl, trivial⟩⟩ else none
 else
  bif Nat.blt pc 6 then
   if h : pc = 3 then some ⟨(.invokestatic 1, 6, .inl 0, 991, 0), by subst h; exact ⟨dX0_held_3, rfl, Or.inr (Or.inl ⟨by decide, q140, fun h => ⟨q359, q360, q361⟩, fun h => absurd h (by decide), fun h => absurd h (by decide), fun h => absurd h (by decide)⟩)⟩⟩ else none
  else
   bif Nat.blt pc 9 then
    if h : pc = 6 then some ⟨(.invokestatic 7, 9, .inl 0, 992, 0), by subst h; exact ⟨dX0_held_6, rfl, Or.inr (Or.inl ⟨by decide, q140, fun h => absurd h (by decide), fun h => ⟨q362, q363, q364⟩, fun h => absurd h (by decide), fun h => absurd h (by decide)⟩)⟩⟩ else none
   else
    if h : pc = 9 then some ⟨(.ireturn, 10, .inl 0, 0, 0), by subst h; exact ⟨dX0_held_9, rfl, rfl⟩⟩ else none

noncomputable def mt122 (pc : Nat) : Option {e : mE // mOK yX0_loadNow cX0_loadNow 1 ((Option.some ClassFile.FieldType.int)) pc e} :=
 bif Nat.blt pc 13 then
  bif Nat.blt pc 6 then
   bif Nat.blt pc 1 then
    if h : pc = 0 then some ⟨(.aload_n 0, 1, .inl 0, 0, 0), by subst h; exact ⟨dX0_loadNow_0, rfl, trivial⟩⟩ else none
   else
    bif Nat.blt pc 4 then
     if h : pc = 1 then some ⟨(.getfield 66, 4, .inl 0, 3, 0), by subst h; exact ⟨dX0_loadNow_1, rfl, ⟨⟨_, rfl, by decide, _, Or.inl q885, Or.inl rfl⟩, (show mKd 0 3 ≤ 4 by decide)⟩⟩⟩ else none
    else
     if h : pc = 4 then some ⟨(.bipush 10, 6, .inl 10, 0, 0), by subst h; exact ⟨dX0_loadNow_4, rfl, ⟨10, rfl, by decide⟩⟩⟩ else none
  else
   bif Nat.blt pc 9 then
    if h : pc = 6 then some ⟨(.if_icmp .ne 7, 9, .inl 0, 13, 0), by subst h; exact ⟨dX0_loadNow_6, rfl, (show ((6 : Nat) : Int) + (7) = ((13 : Nat) : Int) by decide)⟩⟩ else none
   else
    bif Nat.blt pc 10 then
     if h : pc = 9 then some ⟨(.iconst 0, 10, .inl 0, 0, 0), by subst h; exact ⟨dX0_loadNow_9, rfl, ⟨0, rfl, by decide⟩⟩⟩ else none
    else
     if h : pc = 10 then some ⟨(.goto 12, 13, .inl 0, 22, 0), by subst h; exact ⟨dX0_loadNow_10, rfl, (show ((10 : Nat) : Int) + (12) = ((22 : Nat) : Int) by decide)⟩⟩ else none
 else
  bif Nat.blt pc 18 then
   bif Nat.blt pc 14 then
    if h : pc = 13 then some ⟨(.aload_n 0, 14, .inl 0, 0, 0), by subst h; exact ⟨dX0_loadNow_13, rfl, trivial⟩⟩ else none
   else
    bif Nat.blt pc 17 then
     if h : pc = 14 then some ⟨(.getfield 62, 17, .inr (.inr none), 4, 0), by subst h; exact ⟨dX0_loadNow_14, rfl, ⟨⟨_, rfl, by decide, _, Or.inl q886, Or.inl rfl⟩, (show mKd 0 4 = 6 by rfl)⟩⟩⟩ else none
    else
     if h : pc = 17 then some ⟨(.aload_n 0, 18, .inl 0, 0, 0), by subst h; exact ⟨dX0_loadNow_17, rfl, trivial⟩⟩ else none
  else
   bif Nat.blt pc 21 then
    if h : pc = 18 then some ⟨(.getfield 66, 21, .inl 0, 3, 0), by subst h; exact ⟨dX0_loadNow_18, rfl, ⟨⟨_, rfl, by decide, _, Or.inl q885, Or.inl rfl⟩, (show mKd 0 3 ≤ 4 by decide)⟩⟩⟩ else none
   else
    bif Nat.blt pc 22 then
     if h : pc = 21 then some ⟨(.iaload, 22, .inl 0, 0, 0), by subst h; exact ⟨dX0_loadNow_21, rfl, trivial⟩⟩ else none
    else
     if h : pc = 22 then some ⟨(.ireturn, 23, .inl 0, 0, 0), by subst h; exact ⟨dX0_loadNow_22, rfl, rfl⟩⟩ else none

noncomputable def mt123 (pc : Nat) : Option {e : mE // mOK yX0_easedOf cX0_easedOf 2 ((Option.some ClassFile.FieldType.int)) pc e} :=
 bif Nat.blt pc 8 then
  bif Nat.blt pc 5 then
   bif Nat.blt pc 1 then
    if h : pc = 0 then some ⟨(.aload_n 0, 1, .inl 0, 0, 0), by subst h; exact ⟨dX0_easedOf_0, rfl, trivial⟩⟩ else none
   else
    bif Nat.blt pc 4 then
     if h : pc = 1 then some ⟨(.getfield 47, 4, .inr (.inr none), 0, 0), by subst h; exact ⟨dX0_easedOf_1, rfl, ⟨⟨_, rfl, by decide, _, Or.inl q880, Or.inl rfl⟩, (show mKd 0 0 = 6 by rfl)⟩⟩⟩ else none
    else
     if h : pc = 4 then some ⟨(.iload_n 1, 5, .inl 0, 0, 0), by subst h; exact ⟨dX0_easedOf_4, rfl, trivial⟩⟩ else none
  else
   bif Nat.blt pc 6 then
    if h : pc = 5 then some ⟨(.aaload, 6, .inl 0, 0, 0), by subst h; exact ⟨dX0_easedOf_5, rfl, trivial⟩⟩ else none
   else
    bif Nat.blt pc 7 then
     if h : pc = 6 then some ⟨(.aload_n 0, 7, .inl 0, 0, 0), by subst h; exact ⟨dX0_easedOf_6, rfl, trivial⟩⟩ else none
    else
     if h : pc = 7 then some ⟨(.iconst 2, 8, .inl 2, 0, 0), by subst h; exact ⟨dX0_easedOf_7, rfl, ⟨2, rfl, by decide⟩⟩⟩ else none
 else
  bif Nat.blt pc 13 then
   bif Nat.blt pc 9 then
    if h : pc = 8 then some ⟨(.iload_n 1, 9, .inl 0, 0, 0), by subst h; exact ⟨dX0_easedOf_8, rfl, trivial⟩⟩ else none
   else
    bif Nat.blt pc 12 then
     if h : pc = 9 then some ⟨(.invokevirtual 352, 12, .inl 0, 119, 0), by subst h; exact ⟨dX0_easedOf_9, rfl, ⟨by decide, q331, q333, qs5, _, rfl, rfl⟩⟩⟩ else none
    else
     if h : pc = 12 then some ⟨(.aload_n 0, 13, .inl 0, 0, 0), by subst h; exact ⟨dX0_easedOf_12, rfl, trivial⟩⟩ else none
  else
   bif Nat.blt pc 16 then
    if h : pc = 13 then some ⟨(.getfield 69, 16, .inl 0, 2, 0), by subst h; exact ⟨dX0_easedOf_13, rfl, ⟨⟨_, rfl, by decide, _, Or.inl q883, Or.inl rfl⟩, (show mKd 0 2 ≤ 4 by decide)⟩⟩⟩ else none
   else
    bif Nat.blt pc 19 then
     if h : pc = 16 then some ⟨(.invokevirtual 374, 19, .inl 0, 3, 100), by subst h; exact ⟨dX0_easedOf_16, rfl, q398⟩⟩ else none
    else
     if h : pc = 19 then some ⟨(.ireturn, 20, .inl 0, 0, 0), by subst h; exact ⟨dX0_easedOf_19, rfl, rfl⟩⟩ else none

noncomputable def mt124 (pc : Nat) : Option {e : mE // mOK yX0_canLift cX0_canLift 2 ((Option.some ClassFile.FieldType.boolean)) pc e} :=
 bif Nat.blt pc 19 then
  bif Nat.blt pc 9 then
   bif Nat.blt pc 4 then
    bif Nat.blt pc 1 then
     if h : pc = 0 then some ⟨(.aload_n 0, 1, .inl 0, 0, 0), by subst h; exact ⟨dX0_canLift_0, rfl, trivial⟩⟩ else none
    else
     if h : pc = 1 then some ⟨(.getfield 47, 4, .inr (.inr none), 0, 0), by subst h; exact ⟨dX0_canLift_1, rfl, ⟨⟨_, rfl, by decide, _, Or.inl q880, Or.inl rfl⟩, (show mKd 0 0 = 6 by rfl)⟩⟩⟩ else none
   else
    bif Nat.blt pc 5 then
     if h : pc = 4 then some ⟨(.iload_n 1, 5, .inl 0, 0, 0), by subst h; exact ⟨dX0_canLift_4, rfl, trivial⟩⟩ else none
    else
     bif Nat.blt pc 6 then
      if h : pc = 5 then some ⟨(.aaload, 6, .inl 0, 0, 0), by subst h; exact ⟨dX0_canLift_5, rfl, trivial⟩⟩ else none
     else
      if h : pc = 6 then some ⟨(.getfield 81, 9, .inl 0, 3, 4), by subst h; exact ⟨dX0_canLift_6, rfl, ⟨⟨_, rfl, by decide, _, Or.inl q206, Or.inl rfl⟩, (show mKd 4 3 ≤ 4 by decide)⟩⟩⟩ else none
  else
   bif Nat.blt pc 14 then
    bif Nat.blt pc 12 then
     if h : pc = 9 then some ⟨(.ifCond .ne 5, 12, .inl 0, 14, 0), by subst h; exact ⟨dX0_canLift_9, rfl, (show ((9 : Nat) : Int) + (5) = ((14 : Nat) : Int) by decide)⟩⟩ else none
    else
     bif Nat.blt pc 13 then
      if h : pc = 12 then some ⟨(.iconst 0, 13, .inl 0, 0, 0), by subst h; exact ⟨dX0_canLift_12, rfl, ⟨0, rfl, by decide⟩⟩⟩ else none
     else
      if h : pc = 13 then some ⟨(.ireturn, 14, .inl 0, 1, 0), by subst h; exact ⟨dX0_canLift_13, rfl, rfl⟩⟩ else none
   else
    bif Nat.blt pc 15 then
     if h : pc = 14 then some ⟨(.aload_n 0, 15, .inl 0, 0, 0), by subst h; exact ⟨dX0_canLift_14, rfl, trivial⟩⟩ else none
    else
     bif Nat.blt pc 18 then
      if h : pc = 15 then some ⟨(.invokevirtual 377, 18, .inl 0, 125, 0), by subst h; exact ⟨dX0_canLift_15, rfl, ⟨by decide, q425, q427, qs10, _, rfl, rfl⟩⟩⟩ else none
     else
      if h : pc = 18 then some ⟨(.aload_n 0, 19, .inl 0, 0, 0), by subst h; exact ⟨dX0_canLift_18, rfl, trivial⟩⟩ else none
 else
  bif Nat.blt pc 28 then
   bif Nat.blt pc 23 then
    bif Nat.blt pc 22 then
     if h : pc = 19 then some ⟨(.getfield 300, 22, .inr (.inr none), 21, 0), by subst h; exact ⟨dX0_canLift_19, rfl, ⟨⟨_, rfl, by decide, _, Or.inl q904, Or.inl rfl⟩, (show mKd 0 21 = 6 by rfl)⟩⟩⟩ else none
    else
     if h : pc = 22 then some ⟨(.aload_n 0, 23, .inl 0, 0, 0), by subst h; exact ⟨dX0_canLift_22, rfl, trivial⟩⟩ else none
   else
    bif Nat.blt pc 24 then
     if h : pc = 23 then some ⟨(.iload_n 1, 24, .inl 0, 0, 0), by subst h; exact ⟨dX0_canLift_23, rfl, trivial⟩⟩ else none
    else
     bif Nat.blt pc 27 then
      if h : pc = 24 then some ⟨(.invokevirtual 110, 27, .inl 0, 118, 0), by subst h; exact ⟨dX0_canLift_24, rfl, ⟨by decide, q327, q329, qs4, _, rfl, rfl⟩⟩⟩ else none
     else
      if h : pc = 27 then some ⟨(.i2l, 28, .inl 0, 0, 0), by subst h; exact ⟨dX0_canLift_27, rfl, trivial⟩⟩ else none
  else
   bif Nat.blt pc 35 then
    bif Nat.blt pc 31 then
     if h : pc = 28 then some ⟨(.invokevirtual 380, 31, .inl 0, 213, 2), by subst h; exact ⟨dX0_canLift_28, rfl, ⟨by decide, q492, q493, q494, _, rfl, rfl⟩⟩⟩ else none
    else
     bif Nat.blt pc 34 then
      if h : pc = 31 then some ⟨(.ifCond .gt 7, 34, .inl 0, 38, 0), by subst h; exact ⟨dX0_canLift_31, rfl, (show ((31 : Nat) : Int) + (7) = ((38 : Nat) : Int) by decide)⟩⟩ else none
     else
      if h : pc = 34 then some ⟨(.iconst 1, 35, .inl 1, 0, 0), by subst h; exact ⟨dX0_canLift_34, rfl, ⟨1, rfl, by decide⟩⟩⟩ else none
   else
    bif Nat.blt pc 38 then
     if h : pc = 35 then some ⟨(.goto 4, 38, .inl 0, 39, 0), by subst h; exact ⟨dX0_canLift_35, rfl, (show ((35 : Nat) : Int) + (4) = ((39 : Nat) : Int) by decide)⟩⟩ else none
    else
     bif Nat.blt pc 39 then
      if h : pc = 38 then some ⟨(.iconst 0, 39, .inl 0, 0, 0), by subst h; exact ⟨dX0_canLift_38, rfl, ⟨0, rfl, by decide⟩⟩⟩ else none
     else
      if h : pc = 39 then some ⟨(.ireturn, 40, .inl 0, 1, 0), by subst h; exact ⟨dX0_canLift_39, rfl, rfl⟩⟩ else none

noncomputable def mt125 (pc : Nat) : Option {e : mE // mOK yX0_tellsWeight cX0_tellsWeight 2 ((Option.none : Option ClassFile.FieldType)) pc e} :=
 bif Nat.blt pc 24 then
  bif Nat.blt pc 11 then
   bif Nat.blt pc 5 then
    bif Nat.blt pc 1 then
     if h : pc = 0 then some ⟨(.aload_n 0, 1, .inl 0, 0, 0), by subst h; exact ⟨dX0_tellsWeight_0, rfl, trivial⟩⟩ else none
    else
     bif Nat.blt pc 4 then
      if h : pc = 1 then some ⟨(.getfield 300, 4, .inr (.inr none), 21, 0), by subst h; exact ⟨dX0_tellsWeight_1, rfl, ⟨⟨_, rfl, by decide, _, Or.inl q904, Or.inl rfl⟩, (show mKd 0 21 = 6 by rfl)⟩⟩⟩ else none
     else
      if h : pc = 4 then some ⟨(.lconst 0, 5, .inr (.inl 0), 0, 0), by subst h; exact ⟨dX0_tellsWeight_4, rfl, ⟨0, rfl, by decide⟩⟩⟩ else none
   else
    bif Nat.blt pc 9 then
     bif Nat.blt pc 6 then
      if h : pc = 5 then some ⟨(.lconst 1, 6, .inr (.inl 1), 0, 0), by subst h; exact ⟨dX0_tellsWeight_5, rfl, ⟨1, rfl, by decide⟩⟩⟩ else none
     else
      if h : pc = 6 then some ⟨(.invokevirtual 358, 9, .inl 0, 208, 2), by subst h; exact ⟨dX0_tellsWeight_6, rfl, ⟨by decide, q429, q430, q431, _, rfl, rfl⟩⟩⟩ else none
    else
     bif Nat.blt pc 10 then
      if h : pc = 9 then some ⟨(.iconst 0, 10, .inl 0, 0, 0), by subst h; exact ⟨dX0_tellsWeight_9, rfl, ⟨0, rfl, by decide⟩⟩⟩ else none
     else
      if h : pc = 10 then some ⟨(.istore_n 1, 11, .inl 0, 0, 0), by subst h; exact ⟨dX0_tellsWeight_10, rfl, (show (1 : Nat) < 2 by decide)⟩⟩ else none
  else
   bif Nat.blt pc 16 then
    bif Nat.blt pc 12 then
     if h : pc = 11 then some ⟨(.iload_n 1, 12, .inl 0, 0, 0), by subst h; exact ⟨dX0_tellsWeight_11, rfl, trivial⟩⟩ else none
    else
     bif Nat.blt pc 13 then
      if h : pc = 12 then some ⟨(.aload_n 0, 13, .inl 0, 0, 0), by subst h; exact ⟨dX0_tellsWeight_12, rfl, trivial⟩⟩ else none
     else
      if h : pc = 13 then some ⟨(.getfield 10, 16, .inl 0, 1, 0), by subst h; exact ⟨dX0_tellsWeight_13, rfl, ⟨⟨_, rfl, by decide, _, Or.inl q881, Or.inl rfl⟩, (show mKd 0 1 ≤ 4 by decide)⟩⟩⟩ else none
   else
    bif Nat.blt pc 20 then
     bif Nat.blt pc 19 then
      if h : pc = 16 then some ⟨(.if_icmp .ge 37, 19, .inl 0, 53, 0), by subst h; exact ⟨dX0_tellsWeight_16, rfl, (show ((16 : Nat) : Int) + (37) = ((53 : Nat) : Int) by decide)⟩⟩ else none
     else
      if h : pc = 19 then some ⟨(.aload_n 0, 20, .inl 0, 0, 0), by subst h; exact ⟨dX0_tellsWeight_19, rfl, trivial⟩⟩ else none
    else
     bif Nat.blt pc 23 then
      if h : pc = 20 then some ⟨(.getfield 47, 23, .inr (.inr none), 0, 0), by subst h; exact ⟨dX0_tellsWeight_20, rfl, ⟨⟨_, rfl, by decide, _, Or.inl q880, Or.inl rfl⟩, (show mKd 0 0 = 6 by rfl)⟩⟩⟩ else none
     else
      if h : pc = 23 then some ⟨(.iload_n 1, 24, .inl 0, 0, 0), by subst h; exact ⟨dX0_tellsWeight_23, rfl, trivial⟩⟩ else none
 else
  bif Nat.blt pc 37 then
   bif Nat.blt pc 31 then
    bif Nat.blt pc 25 then
     if h : pc = 24 then some ⟨(.aaload, 25, .inl 0, 0, 0), by subst h; exact ⟨dX0_tellsWeight_24, rfl, trivial⟩⟩ else none
    else
     bif Nat.blt pc 28 then
      if h : pc = 25 then some ⟨(.getfield 81, 28, .inl 0, 3, 4), by subst h; exact ⟨dX0_tellsWeight_25, rfl, ⟨⟨_, rfl, by decide, _, Or.inl q206, Or.inl rfl⟩, (show mKd 4 3 ≤ 4 by decide)⟩⟩⟩ else none
     else
      if h : pc = 28 then some ⟨(.ifCond .eq 19, 31, .inl 0, 47, 0), by subst h; exact ⟨dX0_tellsWeight_28, rfl, (show ((28 : Nat) : Int) + (19) = ((47 : Nat) : Int) by decide)⟩⟩ else none
   else
    bif Nat.blt pc 33 then
     bif Nat.blt pc 32 then
      if h : pc = 31 then some ⟨(.aload_n 0, 32, .inl 0, 0, 0), by subst h; exact ⟨dX0_tellsWeight_31, rfl, trivial⟩⟩ else none
     else
      if h : pc = 32 then some ⟨(.iload_n 1, 33, .inl 0, 0, 0), by subst h; exact ⟨dX0_tellsWeight_32, rfl, trivial⟩⟩ else none
    else
     bif Nat.blt pc 36 then
      if h : pc = 33 then some ⟨(.invokevirtual 362, 36, .inl 0, 126, 0), by subst h; exact ⟨dX0_tellsWeight_33, rfl, ⟨by decide, q441, q443, qs12, _, rfl, rfl⟩⟩⟩ else none
     else
      if h : pc = 36 then some ⟨(.aload_n 0, 37, .inl 0, 0, 0), by subst h; exact ⟨dX0_tellsWeight_36, rfl, trivial⟩⟩ else none
  else
   bif Nat.blt pc 44 then
    bif Nat.blt pc 40 then
     if h : pc = 37 then some ⟨(.getfield 300, 40, .inr (.inr none), 21, 0), by subst h; exact ⟨dX0_tellsWeight_37, rfl, ⟨⟨_, rfl, by decide, _, Or.inl q904, Or.inl rfl⟩, (show mKd 0 21 = 6 by rfl)⟩⟩⟩ else none
    else
     bif Nat.blt pc 41 then
      if h : pc = 40 then some ⟨(.aload_n 0, 41, .inl 0, 0, 0), by subst h; exact ⟨dX0_tellsWeight_40, rfl, trivial⟩⟩ else none
     else
      if h : pc = 41 then some ⟨(.getfield 296, 44, .inr (.inr none), 20, 0), by subst h; exact ⟨dX0_tellsWeight_41, rfl, ⟨⟨_, rfl, by decide, _, Or.inl q903, Or.inl rfl⟩, (show mKd 0 20 = 6 by rfl)⟩⟩⟩ else none
   else
    bif Nat.blt pc 50 then
     bif Nat.blt pc 47 then
      if h : pc = 44 then some ⟨(.invokevirtual 365, 47, .inl 0, 212, 2), by subst h; exact ⟨dX0_tellsWeight_44, rfl, ⟨by decide, q488, q489, q490, _, rfl, rfl⟩⟩⟩ else none
     else
      if h : pc = 47 then some ⟨(.iinc 1 1, 50, .inl 1, 0, 0), by subst h; exact ⟨dX0_tellsWeight_47, rfl, ⟨(show (1 : Nat) < 2 by decide), 1, rfl, by decide⟩⟩⟩ else none
    else
     bif Nat.blt pc 53 then
      if h : pc = 50 then some ⟨(.goto (-39), 53, .inl 0, 11, 0), by subst h; exact ⟨dX0_tellsWeight_50, rfl, (show ((50 : Nat) : Int) + ((-39)) = ((11 : Nat) : Int) by decide)⟩⟩ else none
     else
      if h : pc = 53 then some ⟨(.return_, 54, .inl 0, 0, 0), by subst h; exact ⟨dX0_tellsWeight_53, rfl, rfl⟩⟩ else none

noncomputable def mt126 (pc : Nat) : Option {e : mE // mOK yX0_tellsFelt cX0_tellsFelt 2 ((Option.none : Option ClassFile.FieldType)) pc e} :=
 bif Nat.blt pc 10 then
  bif Nat.blt pc 5 then
   bif Nat.blt pc 1 then
    if h : pc = 0 then some ⟨(.aload_n 0, 1, .inl 0, 0, 0), by subst h; exact ⟨dX0_tellsFelt_0, rfl, trivial⟩⟩ else none
   else
    bif Nat.blt pc 4 then
     if h : pc = 1 then some ⟨(.getfield 47, 4, .inr (.inr none), 0, 0), by subst h; exact ⟨dX0_tellsFelt_1, rfl, ⟨⟨_, rfl, by decide, _, Or.inl q880, Or.inl rfl⟩, (show mKd 0 0 = 6 by rfl)⟩⟩⟩ else none
    else
     if h : pc = 4 then some ⟨(.iload_n 1, 5, .inl 0, 0, 0), by subst h; exact ⟨dX0_tellsFelt_4, rfl, trivial⟩⟩ else none
  else
   bif Nat.blt pc 6 then
    if h : pc = 5 then some ⟨(.aaload, 6, .inl 0, 0, 0), by subst h; exact ⟨dX0_tellsFelt_5, rfl, trivial⟩⟩ else none
   else
    bif Nat.blt pc 7 then
     if h : pc = 6 then some ⟨(.aload_n 0, 7, .inl 0, 0, 0), by subst h; exact ⟨dX0_tellsFelt_6, rfl, trivial⟩⟩ else none
    else
     if h : pc = 7 then some ⟨(.getfield 296, 10, .inr (.inr none), 20, 0), by subst h; exact ⟨dX0_tellsFelt_7, rfl, ⟨⟨_, rfl, by decide, _, Or.inl q903, Or.inl rfl⟩, (show mKd 0 20 = 6 by rfl)⟩⟩⟩ else none
 else
  bif Nat.blt pc 13 then
   bif Nat.blt pc 11 then
    if h : pc = 10 then some ⟨(.aload_n 0, 11, .inl 0, 0, 0), by subst h; exact ⟨dX0_tellsFelt_10, rfl, trivial⟩⟩ else none
   else
    bif Nat.blt pc 12 then
     if h : pc = 11 then some ⟨(.iconst 0, 12, .inl 0, 0, 0), by subst h; exact ⟨dX0_tellsFelt_11, rfl, ⟨0, rfl, by decide⟩⟩⟩ else none
    else
     if h : pc = 12 then some ⟨(.iload_n 1, 13, .inl 0, 0, 0), by subst h; exact ⟨dX0_tellsFelt_12, rfl, trivial⟩⟩ else none
  else
   bif Nat.blt pc 16 then
    if h : pc = 13 then some ⟨(.invokevirtual 352, 16, .inl 0, 119, 0), by subst h; exact ⟨dX0_tellsFelt_13, rfl, ⟨by decide, q331, q333, qs5, _, rfl, rfl⟩⟩⟩ else none
   else
    bif Nat.blt pc 19 then
     if h : pc = 16 then some ⟨(.invokevirtual 355, 19, .inl 0, 1, 100), by subst h; exact ⟨dX0_tellsFelt_16, rfl, q445⟩⟩ else none
    else
     if h : pc = 19 then some ⟨(.return_, 20, .inl 0, 0, 0), by subst h; exact ⟨dX0_tellsFelt_19, rfl, rfl⟩⟩ else none

noncomputable def mt127 (pc : Nat) : Option {e : mE // mOK yX0_feed cX0_feed 2 ((Option.some ClassFile.FieldType.int)) pc e} :=
 bif Nat.blt pc 29 then
  bif Nat.blt pc 14 then
   bif Nat.blt pc 3 then
    bif Nat.blt pc 1 then
     if h : pc = 0 then some ⟨(.iload_n 1, 1, .inl 0, 0, 0), by subst h; exact ⟨dX0_feed_0, rfl, trivial⟩⟩ else none
    else
     bif Nat.blt pc 2 then
      if h : pc = 1 then some ⟨(.i2l, 2, .inl 0, 0, 0), by subst h; exact ⟨dX0_feed_1, rfl, trivial⟩⟩ else none
     else
      if h : pc = 2 then some ⟨(.lconst 0, 3, .inr (.inl 0), 0, 0), by subst h; exact ⟨dX0_feed_2, rfl, ⟨0, rfl, by decide⟩⟩⟩ else none
   else
    bif Nat.blt pc 9 then
     bif Nat.blt pc 6 then
      if h : pc = 3 then some ⟨(.ldc2_w 265, 6, .inr (.inl 255), 0, 0), by subst h; exact ⟨dX0_feed_3, rfl, ⟨_, rfl, q503⟩⟩⟩ else none
     else
      if h : pc = 6 then some ⟨(.invokestatic 16, 9, .inl 0, 108, 0), by subst h; exact ⟨dX0_feed_6, rfl, Or.inl ⟨by decide, q167, q168⟩⟩⟩ else none
    else
     bif Nat.blt pc 12 then
      if h : pc = 9 then some ⟨(.ifCond .ne 6, 12, .inl 0, 15, 0), by subst h; exact ⟨dX0_feed_9, rfl, (show ((9 : Nat) : Int) + (6) = ((15 : Nat) : Int) by decide)⟩⟩ else none
     else
      if h : pc = 12 then some ⟨(.bipush (-2), 14, .inl (-2), 0, 0), by subst h; exact ⟨dX0_feed_12, rfl, ⟨(-2), rfl, by decide⟩⟩⟩ else none
  else
   bif Nat.blt pc 22 then
    bif Nat.blt pc 16 then
     bif Nat.blt pc 15 then
      if h : pc = 14 then some ⟨(.ireturn, 15, .inl 0, 0, 0), by subst h; exact ⟨dX0_feed_14, rfl, rfl⟩⟩ else none
     else
      if h : pc = 15 then some ⟨(.aload_n 0, 16, .inl 0, 0, 0), by subst h; exact ⟨dX0_feed_15, rfl, trivial⟩⟩ else none
    else
     bif Nat.blt pc 19 then
      if h : pc = 16 then some ⟨(.getfield 248, 19, .inl 0, 12, 0), by subst h; exact ⟨dX0_feed_16, rfl, ⟨⟨_, rfl, by decide, _, Or.inl q895, Or.inl rfl⟩, (show mKd 0 12 ≤ 4 by decide)⟩⟩⟩ else none
     else
      if h : pc = 19 then some ⟨(.sipush 160, 22, .inl 160, 0, 0), by subst h; exact ⟨dX0_feed_19, rfl, ⟨160, rfl, by decide⟩⟩⟩ else none
   else
    bif Nat.blt pc 27 then
     bif Nat.blt pc 25 then
      if h : pc = 22 then some ⟨(.if_icmp .ne 6, 25, .inl 0, 28, 0), by subst h; exact ⟨dX0_feed_22, rfl, (show ((22 : Nat) : Int) + (6) = ((28 : Nat) : Int) by decide)⟩⟩ else none
     else
      if h : pc = 25 then some ⟨(.bipush (-4), 27, .inl (-4), 0, 0), by subst h; exact ⟨dX0_feed_25, rfl, ⟨(-4), rfl, by decide⟩⟩⟩ else none
    else
     bif Nat.blt pc 28 then
      if h : pc = 27 then some ⟨(.ireturn, 28, .inl 0, 0, 0), by subst h; exact ⟨dX0_feed_27, rfl, rfl⟩⟩ else none
     else
      if h : pc = 28 then some ⟨(.aload_n 0, 29, .inl 0, 0, 0), by subst h; exact ⟨dX0_feed_28, rfl, trivial⟩⟩ else none
 else
  bif Nat.blt pc 40 then
   bif Nat.blt pc 36 then
    bif Nat.blt pc 32 then
     if h : pc = 29 then some ⟨(.getfield 122, 32, .inr (.inr none), 11, 0), by subst h; exact ⟨dX0_feed_29, rfl, ⟨⟨_, rfl, by decide, _, Or.inl q894, Or.inl rfl⟩, (show mKd 0 11 = 6 by rfl)⟩⟩⟩ else none
    else
     bif Nat.blt pc 33 then
      if h : pc = 32 then some ⟨(.aload_n 0, 33, .inl 0, 0, 0), by subst h; exact ⟨dX0_feed_32, rfl, trivial⟩⟩ else none
     else
      if h : pc = 33 then some ⟨(.getfield 248, 36, .inl 0, 12, 0), by subst h; exact ⟨dX0_feed_33, rfl, ⟨⟨_, rfl, by decide, _, Or.inl q895, Or.inl rfl⟩, (show mKd 0 12 ≤ 4 by decide)⟩⟩⟩ else none
   else
    bif Nat.blt pc 38 then
     bif Nat.blt pc 37 then
      if h : pc = 36 then some ⟨(.iload_n 1, 37, .inl 0, 0, 0), by subst h; exact ⟨dX0_feed_36, rfl, trivial⟩⟩ else none
     else
      if h : pc = 37 then some ⟨(.i2b, 38, .inl 0, 0, 0), by subst h; exact ⟨dX0_feed_37, rfl, trivial⟩⟩ else none
    else
     bif Nat.blt pc 39 then
      if h : pc = 38 then some ⟨(.bastore, 39, .inl 0, 0, 0), by subst h; exact ⟨dX0_feed_38, rfl, trivial⟩⟩ else none
     else
      if h : pc = 39 then some ⟨(.aload_n 0, 40, .inl 0, 0, 0), by subst h; exact ⟨dX0_feed_39, rfl, trivial⟩⟩ else none
  else
   bif Nat.blt pc 46 then
    bif Nat.blt pc 44 then
     bif Nat.blt pc 41 then
      if h : pc = 40 then some ⟨(.dup, 41, .inl 0, 0, 0), by subst h; exact ⟨dX0_feed_40, rfl, trivial⟩⟩ else none
     else
      if h : pc = 41 then some ⟨(.getfield 248, 44, .inl 0, 12, 0), by subst h; exact ⟨dX0_feed_41, rfl, ⟨⟨_, rfl, by decide, _, Or.inl q895, Or.inl rfl⟩, (show mKd 0 12 ≤ 4 by decide)⟩⟩⟩ else none
    else
     bif Nat.blt pc 45 then
      if h : pc = 44 then some ⟨(.iconst 1, 45, .inl 1, 0, 0), by subst h; exact ⟨dX0_feed_44, rfl, ⟨1, rfl, by decide⟩⟩⟩ else none
     else
      if h : pc = 45 then some ⟨(.iadd, 46, .inl 0, 0, 0), by subst h; exact ⟨dX0_feed_45, rfl, trivial⟩⟩ else none
   else
    bif Nat.blt pc 50 then
     bif Nat.blt pc 49 then
      if h : pc = 46 then some ⟨(.putfield 248, 49, .inl 0, 12, 0), by subst h; exact ⟨dX0_feed_46, rfl, ⟨⟨_, rfl, by decide, _, Or.inl q895, Or.inl rfl⟩, (show mKd 0 12 ≤ 4 by decide), by decide, by decide, (fun q h => Or.inl (by cases h; rfl))⟩⟩⟩ else none
     else
      if h : pc = 49 then some ⟨(.aload_n 0, 50, .inl 0, 0, 0), by subst h; exact ⟨dX0_feed_49, rfl, trivial⟩⟩ else none
    else
     bif Nat.blt pc 53 then
      if h : pc = 50 then some ⟨(.getfield 248, 53, .inl 0, 12, 0), by subst h; exact ⟨dX0_feed_50, rfl, ⟨⟨_, rfl, by decide, _, Or.inl q895, Or.inl rfl⟩, (show mKd 0 12 ≤ 4 by decide)⟩⟩⟩ else none
     else
      if h : pc = 53 then some ⟨(.ireturn, 54, .inl 0, 0, 0), by subst h; exact ⟨dX0_feed_53, rfl, rfl⟩⟩ else none

noncomputable def mt128 (pc : Nat) : Option {e : mE // mOK yX0_text cX0_text 1 ((Option.some ClassFile.FieldType.int)) pc e} :=
 bif Nat.blt pc 9 then
  bif Nat.blt pc 4 then
   bif Nat.blt pc 1 then
    if h : pc = 0 then some ⟨(.aload_n 0, 1, .inl 0, 0, 0), by subst h; exact ⟨dX0_text_0, rfl, trivial⟩⟩ else none
   else
    if h : pc = 1 then some ⟨(.getfield 259, 4, .inl 0, 8, 0), by subst h; exact ⟨dX0_text_1, rfl, ⟨⟨_, rfl, by decide, _, Or.inl q891, Or.inl rfl⟩, (show mKd 0 8 ≤ 4 by decide)⟩⟩⟩ else none
  else
   bif Nat.blt pc 6 then
    if h : pc = 4 then some ⟨(.bipush 6, 6, .inl 6, 0, 0), by subst h; exact ⟨dX0_text_4, rfl, ⟨6, rfl, by decide⟩⟩⟩ else none
   else
    if h : pc = 6 then some ⟨(.if_icmp .ne 8, 9, .inl 0, 14, 0), by subst h; exact ⟨dX0_text_6, rfl, (show ((6 : Nat) : Int) + (8) = ((14 : Nat) : Int) by decide)⟩⟩ else none
 else
  bif Nat.blt pc 14 then
   bif Nat.blt pc 11 then
    if h : pc = 9 then some ⟨(.bipush (-4), 11, .inl (-4), 0, 0), by subst h; exact ⟨dX0_text_9, rfl, ⟨(-4), rfl, by decide⟩⟩⟩ else none
   else
    if h : pc = 11 then some ⟨(.goto 7, 14, .inl 0, 18, 0), by subst h; exact ⟨dX0_text_11, rfl, (show ((11 : Nat) : Int) + (7) = ((18 : Nat) : Int) by decide)⟩⟩ else none
  else
   bif Nat.blt pc 15 then
    if h : pc = 14 then some ⟨(.aload_n 0, 15, .inl 0, 0, 0), by subst h; exact ⟨dX0_text_14, rfl, trivial⟩⟩ else none
   else
    bif Nat.blt pc 18 then
     if h : pc = 15 then some ⟨(.invokevirtual 262, 18, .inl 0, 129, 0), by subst h; exact ⟨dX0_text_15, rfl, ⟨by decide, q508, q510, qs13, _, rfl, rfl⟩⟩⟩ else none
    else
     if h : pc = 18 then some ⟨(.ireturn, 19, .inl 0, 0, 0), by subst h; exact ⟨dX0_text_18, rfl, rfl⟩⟩ else none

noncomputable def mt129 (pc : Nat) : Option {e : mE // mOK yX0_newText cX0_newText 3 ((Option.some ClassFile.FieldType.int)) pc e} :=
 bif Nat.blt pc 57 then
  bif Nat.blt pc 29 then
   bif Nat.blt pc 14 then
    bif Nat.blt pc 8 then
     bif Nat.blt pc 2 then
      bif Nat.blt pc 1 then
       if h : pc = 0 then some ⟨(.aload_n 0, 1, .inl 0, 0, 0), by subst h; exact ⟨dX0_newText_0, rfl, trivial⟩⟩ else none
      else
       if h : pc = 1 then some ⟨(.aload_n 0, 2, .inl 0, 0, 0), by subst h; exact ⟨dX0_newText_1, rfl, trivial⟩⟩ else none
     else
      bif Nat.blt pc 5 then
       if h : pc = 2 then some ⟨(.getfield 248, 5, .inl 0, 12, 0), by subst h; exact ⟨dX0_newText_2, rfl, ⟨⟨_, rfl, by decide, _, Or.inl q895, Or.inl rfl⟩, (show mKd 0 12 ≤ 4 by decide)⟩⟩⟩ else none
      else
       if h : pc = 5 then some ⟨(.putfield 119, 8, .inl 0, 13, 0), by subst h; exact ⟨dX0_newText_5, rfl, ⟨⟨_, rfl, by decide, _, Or.inl q896, Or.inl rfl⟩, (show mKd 0 13 ≤ 4 by decide), by decide, by decide, (fun q h => Or.inl (by cases h; rfl))⟩⟩⟩ else none
    else
     bif Nat.blt pc 10 then
      bif Nat.blt pc 9 then
       if h : pc = 8 then some ⟨(.aload_n 0, 9, .inl 0, 0, 0), by subst h; exact ⟨dX0_newText_8, rfl, trivial⟩⟩ else none
      else
       if h : pc = 9 then some ⟨(.iconst 0, 10, .inl 0, 0, 0), by subst h; exact ⟨dX0_newText_9, rfl, ⟨0, rfl, by decide⟩⟩⟩ else none
     else
      bif Nat.blt pc 13 then
       if h : pc = 10 then some ⟨(.putfield 248, 13, .inl 0, 12, 0), by subst h; exact ⟨dX0_newText_10, rfl, ⟨⟨_, rfl, by decide, _, Or.inl q895, Or.inl rfl⟩, (show mKd 0 12 ≤ 4 by decide), by decide, by decide, (fun q h => Or.inl (by cases h; rfl))⟩⟩⟩ else none
      else
       if h : pc = 13 then some ⟨(.aload_n 0, 14, .inl 0, 0, 0), by subst h; exact ⟨dX0_newText_13, rfl, trivial⟩⟩ else none
   else
    bif Nat.blt pc 20 then
     bif Nat.blt pc 18 then
      bif Nat.blt pc 15 then
       if h : pc = 14 then some ⟨(.iconst 0, 15, .inl 0, 0, 0), by subst h; exact ⟨dX0_newText_14, rfl, ⟨0, rfl, by decide⟩⟩⟩ else none
      else
       if h : pc = 15 then some ⟨(.putfield 134, 18, .inl 0, 14, 0), by subst h; exact ⟨dX0_newText_15, rfl, ⟨⟨_, rfl, by decide, _, Or.inl q897, Or.inl rfl⟩, (show mKd 0 14 ≤ 4 by decide), by decide, by decide, (fun q h => Or.inl (by cases h; rfl))⟩⟩⟩ else none
     else
      bif Nat.blt pc 19 then
       if h : pc = 18 then some ⟨(.aload_n 0, 19, .inl 0, 0, 0), by subst h; exact ⟨dX0_newText_18, rfl, trivial⟩⟩ else none
      else
       if h : pc = 19 then some ⟨(.iconst 0, 20, .inl 0, 0, 0), by subst h; exact ⟨dX0_newText_19, rfl, ⟨0, rfl, by decide⟩⟩⟩ else none
    else
     bif Nat.blt pc 24 then
      bif Nat.blt pc 23 then
       if h : pc = 20 then some ⟨(.putfield 193, 23, .inl 0, 18, 0), by subst h; exact ⟨dX0_newText_20, rfl, ⟨⟨_, rfl, by decide, _, Or.inl q901, Or.inl rfl⟩, (show mKd 0 18 ≤ 4 by decide), by decide, by decide, (fun q h => Or.inl (by cases h; rfl))⟩⟩⟩ else none
      else
       if h : pc = 23 then some ⟨(.iconst 3, 24, .inl 3, 0, 0), by subst h; exact ⟨dX0_newText_23, rfl, ⟨3, rfl, by decide⟩⟩⟩ else none
     else
      bif Nat.blt pc 27 then
       if h : pc = 24 then some ⟨(.anewarray 251, 27, .inl 0, 5, 0), by subst h; exact ⟨dX0_newText_24, rfl, ⟨by decide, by decide, by decide, Or.inl ⟨_, rfl, q513⟩⟩⟩⟩ else none
      else
       bif Nat.blt pc 28 then
        if h : pc = 27 then some ⟨(.astore_n 1, 28, .inl 0, 0, 0), by subst h; exact ⟨dX0_newText_27, rfl, (show (1 : Nat) < 3 by decide)⟩⟩ else none
       else
        if h : pc = 28 then some ⟨(.aload_n 0, 29, .inl 0, 0, 0), by subst h; exact ⟨dX0_newText_28, rfl, trivial⟩⟩ else none
  else
   bif Nat.blt pc 42 then
    bif Nat.blt pc 35 then
     bif Nat.blt pc 33 then
      bif Nat.blt pc 32 then
       if h : pc = 29 then some ⟨(.invokevirtual 190, 32, .inl 0, 130, 0), by subst h; exact ⟨dX0_newText_29, rfl, ⟨by decide, q515, q517, qs14, _, rfl, rfl⟩⟩⟩ else none
      else
       if h : pc = 32 then some ⟨(.iconst 0, 33, .inl 0, 0, 0), by subst h; exact ⟨dX0_newText_32, rfl, ⟨0, rfl, by decide⟩⟩⟩ else none
     else
      bif Nat.blt pc 34 then
       if h : pc = 33 then some ⟨(.istore_n 2, 34, .inl 0, 0, 0), by subst h; exact ⟨dX0_newText_33, rfl, (show (2 : Nat) < 3 by decide)⟩⟩ else none
      else
       if h : pc = 34 then some ⟨(.iload_n 2, 35, .inl 0, 0, 0), by subst h; exact ⟨dX0_newText_34, rfl, trivial⟩⟩ else none
    else
     bif Nat.blt pc 39 then
      bif Nat.blt pc 36 then
       if h : pc = 35 then some ⟨(.iconst 3, 36, .inl 3, 0, 0), by subst h; exact ⟨dX0_newText_35, rfl, ⟨3, rfl, by decide⟩⟩⟩ else none
      else
       if h : pc = 36 then some ⟨(.if_icmp .ge 35, 39, .inl 0, 71, 0), by subst h; exact ⟨dX0_newText_36, rfl, (show ((36 : Nat) : Int) + (35) = ((71 : Nat) : Int) by decide)⟩⟩ else none
     else
      bif Nat.blt pc 40 then
       if h : pc = 39 then some ⟨(.aload_n 0, 40, .inl 0, 0, 0), by subst h; exact ⟨dX0_newText_39, rfl, trivial⟩⟩ else none
      else
       bif Nat.blt pc 41 then
        if h : pc = 40 then some ⟨(.aload_n 0, 41, .inl 0, 0, 0), by subst h; exact ⟨dX0_newText_40, rfl, trivial⟩⟩ else none
       else
        if h : pc = 41 then some ⟨(.iload_n 2, 42, .inl 0, 0, 0), by subst h; exact ⟨dX0_newText_41, rfl, trivial⟩⟩ else none
   else
    bif Nat.blt pc 50 then
     bif Nat.blt pc 48 then
      bif Nat.blt pc 45 then
       if h : pc = 42 then some ⟨(.invokevirtual 204, 45, .inl 0, 137, 0), by subst h; exact ⟨dX0_newText_42, rfl, ⟨by decide, q649, q651, qs19, _, rfl, rfl⟩⟩⟩ else none
      else
       if h : pc = 45 then some ⟨(.invokevirtual 196, 48, .inl 0, 138, 0), by subst h; exact ⟨dX0_newText_45, rfl, ⟨by decide, q653, q655, qs20, _, rfl, rfl⟩⟩⟩ else none
     else
      bif Nat.blt pc 49 then
       if h : pc = 48 then some ⟨(.aload_n 1, 49, .inl 0, 0, 0), by subst h; exact ⟨dX0_newText_48, rfl, trivial⟩⟩ else none
      else
       if h : pc = 49 then some ⟨(.iload_n 2, 50, .inl 0, 0, 0), by subst h; exact ⟨dX0_newText_49, rfl, trivial⟩⟩ else none
    else
     bif Nat.blt pc 54 then
      bif Nat.blt pc 51 then
       if h : pc = 50 then some ⟨(.aload_n 0, 51, .inl 0, 0, 0), by subst h; exact ⟨dX0_newText_50, rfl, trivial⟩⟩ else none
      else
       if h : pc = 51 then some ⟨(.invokevirtual 245, 54, .inl 0, 139, 0), by subst h; exact ⟨dX0_newText_51, rfl, ⟨by decide, q657, q659, qs21, _, rfl, rfl⟩⟩⟩ else none
     else
      bif Nat.blt pc 55 then
       if h : pc = 54 then some ⟨(.aastore, 55, .inl 0, 0, 0), by subst h; exact ⟨dX0_newText_54, rfl, trivial⟩⟩ else none
      else
       bif Nat.blt pc 56 then
        if h : pc = 55 then some ⟨(.aload_n 0, 56, .inl 0, 0, 0), by subst h; exact ⟨dX0_newText_55, rfl, trivial⟩⟩ else none
       else
        if h : pc = 56 then some ⟨(.aload_n 0, 57, .inl 0, 0, 0), by subst h; exact ⟨dX0_newText_56, rfl, trivial⟩⟩ else none
 else
  bif Nat.blt pc 94 then
   bif Nat.blt pc 78 then
    bif Nat.blt pc 68 then
     bif Nat.blt pc 62 then
      bif Nat.blt pc 59 then
       if h : pc = 57 then some ⟨(.bipush 59, 59, .inl 59, 0, 0), by subst h; exact ⟨dX0_newText_57, rfl, ⟨59, rfl, by decide⟩⟩⟩ else none
      else
       if h : pc = 59 then some ⟨(.invokevirtual 226, 62, .inl 0, 146, 0), by subst h; exact ⟨dX0_newText_59, rfl, ⟨by decide, q725, q727, qs28, _, rfl, rfl⟩⟩⟩ else none
     else
      bif Nat.blt pc 65 then
       if h : pc = 62 then some ⟨(.invokevirtual 196, 65, .inl 0, 138, 0), by subst h; exact ⟨dX0_newText_62, rfl, ⟨by decide, q653, q655, qs20, _, rfl, rfl⟩⟩⟩ else none
      else
       if h : pc = 65 then some ⟨(.iinc 2 1, 68, .inl 1, 0, 0), by subst h; exact ⟨dX0_newText_65, rfl, ⟨(show (2 : Nat) < 3 by decide), 1, rfl, by decide⟩⟩⟩ else none
    else
     bif Nat.blt pc 72 then
      bif Nat.blt pc 71 then
       if h : pc = 68 then some ⟨(.goto (-34), 71, .inl 0, 34, 0), by subst h; exact ⟨dX0_newText_68, rfl, (show ((68 : Nat) : Int) + ((-34)) = ((34 : Nat) : Int) by decide)⟩⟩ else none
      else
       if h : pc = 71 then some ⟨(.aload_n 0, 72, .inl 0, 0, 0), by subst h; exact ⟨dX0_newText_71, rfl, trivial⟩⟩ else none
     else
      bif Nat.blt pc 75 then
       if h : pc = 72 then some ⟨(.getfield 143, 75, .inl 0, 16, 0), by subst h; exact ⟨dX0_newText_72, rfl, ⟨⟨_, rfl, by decide, _, Or.inl q899, Or.inl rfl⟩, (show mKd 0 16 ≤ 4 by decide)⟩⟩⟩ else none
      else
       if h : pc = 75 then some ⟨(.ifCond .eq 8, 78, .inl 0, 83, 0), by subst h; exact ⟨dX0_newText_75, rfl, (show ((75 : Nat) : Int) + (8) = ((83 : Nat) : Int) by decide)⟩⟩ else none
   else
    bif Nat.blt pc 86 then
     bif Nat.blt pc 82 then
      bif Nat.blt pc 79 then
       if h : pc = 78 then some ⟨(.aload_n 0, 79, .inl 0, 0, 0), by subst h; exact ⟨dX0_newText_78, rfl, trivial⟩⟩ else none
      else
       if h : pc = 79 then some ⟨(.getfield 169, 82, .inr (.inr none), 5, 0), by subst h; exact ⟨dX0_newText_79, rfl, ⟨⟨_, rfl, by decide, _, Or.inl q887, Or.inl rfl⟩, (show mKd 0 5 = 6 by rfl)⟩⟩⟩ else none
     else
      bif Nat.blt pc 83 then
       if h : pc = 82 then some ⟨(.athrow, 83, .inl 0, 0, 0), by subst h; exact ⟨dX0_newText_82, rfl, trivial⟩⟩ else none
      else
       if h : pc = 83 then some ⟨(.goto 12, 86, .inl 0, 95, 0), by subst h; exact ⟨dX0_newText_83, rfl, (show ((83 : Nat) : Int) + (12) = ((95 : Nat) : Int) by decide)⟩⟩ else none
    else
     bif Nat.blt pc 89 then
      bif Nat.blt pc 87 then
       if h : pc = 86 then some ⟨(.astore_n 2, 87, .inl 0, 0, 0), by subst h; exact ⟨dX0_newText_86, rfl, (show (2 : Nat) < 3 by decide)⟩⟩ else none
      else
       if h : pc = 87 then some ⟨(.bipush (-100), 89, .inl (-100), 0, 0), by subst h; exact ⟨dX0_newText_87, rfl, ⟨(-100), rfl, by decide⟩⟩⟩ else none
     else
      bif Nat.blt pc 90 then
       if h : pc = 89 then some ⟨(.aload_n 0, 90, .inl 0, 0, 0), by subst h; exact ⟨dX0_newText_89, rfl, trivial⟩⟩ else none
      else
       bif Nat.blt pc 93 then
        if h : pc = 90 then some ⟨(.getfield 140, 93, .inl 0, 15, 0), by subst h; exact ⟨dX0_newText_90, rfl, ⟨⟨_, rfl, by decide, _, Or.inl q898, Or.inl rfl⟩, (show mKd 0 15 ≤ 4 by decide)⟩⟩⟩ else none
       else
        if h : pc = 93 then some ⟨(.isub, 94, .inl 0, 0, 0), by subst h; exact ⟨dX0_newText_93, rfl, trivial⟩⟩ else none
  else
   bif Nat.blt pc 107 then
    bif Nat.blt pc 100 then
     bif Nat.blt pc 96 then
      bif Nat.blt pc 95 then
       if h : pc = 94 then some ⟨(.ireturn, 95, .inl 0, 0, 0), by subst h; exact ⟨dX0_newText_94, rfl, rfl⟩⟩ else none
      else
       if h : pc = 95 then some ⟨(.aload_n 0, 96, .inl 0, 0, 0), by subst h; exact ⟨dX0_newText_95, rfl, trivial⟩⟩ else none
     else
      bif Nat.blt pc 99 then
       if h : pc = 96 then some ⟨(.getfield 255, 99, .inr (.inr none), 7, 0), by subst h; exact ⟨dX0_newText_96, rfl, ⟨⟨_, rfl, by decide, _, Or.inl q890, Or.inl rfl⟩, (show mKd 0 7 = 6 by rfl)⟩⟩⟩ else none
      else
       if h : pc = 99 then some ⟨(.aload_n 0, 100, .inl 0, 0, 0), by subst h; exact ⟨dX0_newText_99, rfl, trivial⟩⟩ else none
    else
     bif Nat.blt pc 104 then
      bif Nat.blt pc 103 then
       if h : pc = 100 then some ⟨(.getfield 259, 103, .inl 0, 8, 0), by subst h; exact ⟨dX0_newText_100, rfl, ⟨⟨_, rfl, by decide, _, Or.inl q891, Or.inl rfl⟩, (show mKd 0 8 ≤ 4 by decide)⟩⟩⟩ else none
      else
       if h : pc = 103 then some ⟨(.aload_n 1, 104, .inl 0, 0, 0), by subst h; exact ⟨dX0_newText_103, rfl, trivial⟩⟩ else none
     else
      bif Nat.blt pc 105 then
       if h : pc = 104 then some ⟨(.aastore, 105, .inl 0, 0, 0), by subst h; exact ⟨dX0_newText_104, rfl, trivial⟩⟩ else none
      else
       bif Nat.blt pc 106 then
        if h : pc = 105 then some ⟨(.aload_n 0, 106, .inl 0, 0, 0), by subst h; exact ⟨dX0_newText_105, rfl, trivial⟩⟩ else none
       else
        if h : pc = 106 then some ⟨(.dup, 107, .inl 0, 0, 0), by subst h; exact ⟨dX0_newText_106, rfl, trivial⟩⟩ else none
   else
    bif Nat.blt pc 115 then
     bif Nat.blt pc 111 then
      bif Nat.blt pc 110 then
       if h : pc = 107 then some ⟨(.getfield 259, 110, .inl 0, 8, 0), by subst h; exact ⟨dX0_newText_107, rfl, ⟨⟨_, rfl, by decide, _, Or.inl q891, Or.inl rfl⟩, (show mKd 0 8 ≤ 4 by decide)⟩⟩⟩ else none
      else
       if h : pc = 110 then some ⟨(.iconst 1, 111, .inl 1, 0, 0), by subst h; exact ⟨dX0_newText_110, rfl, ⟨1, rfl, by decide⟩⟩⟩ else none
     else
      bif Nat.blt pc 112 then
       if h : pc = 111 then some ⟨(.iadd, 112, .inl 0, 0, 0), by subst h; exact ⟨dX0_newText_111, rfl, trivial⟩⟩ else none
      else
       if h : pc = 112 then some ⟨(.putfield 259, 115, .inl 0, 8, 0), by subst h; exact ⟨dX0_newText_112, rfl, ⟨⟨_, rfl, by decide, _, Or.inl q891, Or.inl rfl⟩, (show mKd 0 8 ≤ 4 by decide), by decide, by decide, (fun q h => Or.inl (by cases h; rfl))⟩⟩⟩ else none
    else
     bif Nat.blt pc 119 then
      bif Nat.blt pc 116 then
       if h : pc = 115 then some ⟨(.aload_n 0, 116, .inl 0, 0, 0), by subst h; exact ⟨dX0_newText_115, rfl, trivial⟩⟩ else none
      else
       if h : pc = 116 then some ⟨(.getfield 259, 119, .inl 0, 8, 0), by subst h; exact ⟨dX0_newText_116, rfl, ⟨⟨_, rfl, by decide, _, Or.inl q891, Or.inl rfl⟩, (show mKd 0 8 ≤ 4 by decide)⟩⟩⟩ else none
     else
      bif Nat.blt pc 120 then
       if h : pc = 119 then some ⟨(.iconst 1, 120, .inl 1, 0, 0), by subst h; exact ⟨dX0_newText_119, rfl, ⟨1, rfl, by decide⟩⟩⟩ else none
      else
       bif Nat.blt pc 121 then
        if h : pc = 120 then some ⟨(.isub, 121, .inl 0, 0, 0), by subst h; exact ⟨dX0_newText_120, rfl, trivial⟩⟩ else none
       else
        if h : pc = 121 then some ⟨(.ireturn, 122, .inl 0, 0, 0), by subst h; exact ⟨dX0_newText_121, rfl, rfl⟩⟩ else none

noncomputable def mt130 (pc : Nat) : Option {e : mE // mOK yX0_next cX0_next 2 ((Option.none : Option ClassFile.FieldType)) pc e} :=
 bif Nat.blt pc 63 then
  bif Nat.blt pc 32 then
   bif Nat.blt pc 15 then
    bif Nat.blt pc 8 then
     bif Nat.blt pc 2 then
      bif Nat.blt pc 1 then
       if h : pc = 0 then some ⟨(.aload_n 0, 1, .inl 0, 0, 0), by subst h; exact ⟨dX0_next_0, rfl, trivial⟩⟩ else none
      else
       if h : pc = 1 then some ⟨(.aload_n 0, 2, .inl 0, 0, 0), by subst h; exact ⟨dX0_next_1, rfl, trivial⟩⟩ else none
     else
      bif Nat.blt pc 5 then
       if h : pc = 2 then some ⟨(.getfield 134, 5, .inl 0, 14, 0), by subst h; exact ⟨dX0_next_2, rfl, ⟨⟨_, rfl, by decide, _, Or.inl q897, Or.inl rfl⟩, (show mKd 0 14 ≤ 4 by decide)⟩⟩⟩ else none
      else
       if h : pc = 5 then some ⟨(.invokevirtual 137, 8, .inl 0, 131, 0), by subst h; exact ⟨dX0_next_5, rfl, ⟨by decide, q519, q521, qs15, _, rfl, rfl⟩⟩⟩ else none
    else
     bif Nat.blt pc 13 then
      bif Nat.blt pc 10 then
       if h : pc = 8 then some ⟨(.bipush 32, 10, .inl 32, 0, 0), by subst h; exact ⟨dX0_next_8, rfl, ⟨32, rfl, by decide⟩⟩⟩ else none
      else
       if h : pc = 10 then some ⟨(.if_icmp .eq 16, 13, .inl 0, 26, 0), by subst h; exact ⟨dX0_next_10, rfl, (show ((10 : Nat) : Int) + (16) = ((26 : Nat) : Int) by decide)⟩⟩ else none
     else
      bif Nat.blt pc 14 then
       if h : pc = 13 then some ⟨(.aload_n 0, 14, .inl 0, 0, 0), by subst h; exact ⟨dX0_next_13, rfl, trivial⟩⟩ else none
      else
       if h : pc = 14 then some ⟨(.aload_n 0, 15, .inl 0, 0, 0), by subst h; exact ⟨dX0_next_14, rfl, trivial⟩⟩ else none
   else
    bif Nat.blt pc 26 then
     bif Nat.blt pc 21 then
      bif Nat.blt pc 18 then
       if h : pc = 15 then some ⟨(.getfield 134, 18, .inl 0, 14, 0), by subst h; exact ⟨dX0_next_15, rfl, ⟨⟨_, rfl, by decide, _, Or.inl q897, Or.inl rfl⟩, (show mKd 0 14 ≤ 4 by decide)⟩⟩⟩ else none
      else
       if h : pc = 18 then some ⟨(.invokevirtual 137, 21, .inl 0, 131, 0), by subst h; exact ⟨dX0_next_18, rfl, ⟨by decide, q519, q521, qs15, _, rfl, rfl⟩⟩⟩ else none
     else
      bif Nat.blt pc 23 then
       if h : pc = 21 then some ⟨(.bipush 10, 23, .inl 10, 0, 0), by subst h; exact ⟨dX0_next_21, rfl, ⟨10, rfl, by decide⟩⟩⟩ else none
      else
       if h : pc = 23 then some ⟨(.if_icmp .ne 16, 26, .inl 0, 39, 0), by subst h; exact ⟨dX0_next_23, rfl, (show ((23 : Nat) : Int) + (16) = ((39 : Nat) : Int) by decide)⟩⟩ else none
    else
     bif Nat.blt pc 28 then
      bif Nat.blt pc 27 then
       if h : pc = 26 then some ⟨(.aload_n 0, 27, .inl 0, 0, 0), by subst h; exact ⟨dX0_next_26, rfl, trivial⟩⟩ else none
      else
       if h : pc = 27 then some ⟨(.dup, 28, .inl 0, 0, 0), by subst h; exact ⟨dX0_next_27, rfl, trivial⟩⟩ else none
     else
      bif Nat.blt pc 31 then
       if h : pc = 28 then some ⟨(.getfield 134, 31, .inl 0, 14, 0), by subst h; exact ⟨dX0_next_28, rfl, ⟨⟨_, rfl, by decide, _, Or.inl q897, Or.inl rfl⟩, (show mKd 0 14 ≤ 4 by decide)⟩⟩⟩ else none
      else
       if h : pc = 31 then some ⟨(.iconst 1, 32, .inl 1, 0, 0), by subst h; exact ⟨dX0_next_31, rfl, ⟨1, rfl, by decide⟩⟩⟩ else none
  else
   bif Nat.blt pc 48 then
    bif Nat.blt pc 40 then
     bif Nat.blt pc 36 then
      bif Nat.blt pc 33 then
       if h : pc = 32 then some ⟨(.iadd, 33, .inl 0, 0, 0), by subst h; exact ⟨dX0_next_32, rfl, trivial⟩⟩ else none
      else
       if h : pc = 33 then some ⟨(.putfield 134, 36, .inl 0, 14, 0), by subst h; exact ⟨dX0_next_33, rfl, ⟨⟨_, rfl, by decide, _, Or.inl q897, Or.inl rfl⟩, (show mKd 0 14 ≤ 4 by decide), by decide, by decide, (fun q h => Or.inl (by cases h; rfl))⟩⟩⟩ else none
     else
      bif Nat.blt pc 39 then
       if h : pc = 36 then some ⟨(.goto (-36), 39, .inl 0, 0, 0), by subst h; exact ⟨dX0_next_36, rfl, (show ((36 : Nat) : Int) + ((-36)) = ((0 : Nat) : Int) by decide)⟩⟩ else none
      else
       if h : pc = 39 then some ⟨(.aload_n 0, 40, .inl 0, 0, 0), by subst h; exact ⟨dX0_next_39, rfl, trivial⟩⟩ else none
    else
     bif Nat.blt pc 44 then
      bif Nat.blt pc 41 then
       if h : pc = 40 then some ⟨(.aload_n 0, 41, .inl 0, 0, 0), by subst h; exact ⟨dX0_next_40, rfl, trivial⟩⟩ else none
      else
       if h : pc = 41 then some ⟨(.getfield 134, 44, .inl 0, 14, 0), by subst h; exact ⟨dX0_next_41, rfl, ⟨⟨_, rfl, by decide, _, Or.inl q897, Or.inl rfl⟩, (show mKd 0 14 ≤ 4 by decide)⟩⟩⟩ else none
     else
      bif Nat.blt pc 47 then
       if h : pc = 44 then some ⟨(.putfield 140, 47, .inl 0, 15, 0), by subst h; exact ⟨dX0_next_44, rfl, ⟨⟨_, rfl, by decide, _, Or.inl q898, Or.inl rfl⟩, (show mKd 0 15 ≤ 4 by decide), by decide, by decide, (fun q h => Or.inl (by cases h; rfl))⟩⟩⟩ else none
      else
       if h : pc = 47 then some ⟨(.aload_n 0, 48, .inl 0, 0, 0), by subst h; exact ⟨dX0_next_47, rfl, trivial⟩⟩ else none
   else
    bif Nat.blt pc 56 then
     bif Nat.blt pc 52 then
      bif Nat.blt pc 49 then
       if h : pc = 48 then some ⟨(.aload_n 0, 49, .inl 0, 0, 0), by subst h; exact ⟨dX0_next_48, rfl, trivial⟩⟩ else none
      else
       if h : pc = 49 then some ⟨(.getfield 134, 52, .inl 0, 14, 0), by subst h; exact ⟨dX0_next_49, rfl, ⟨⟨_, rfl, by decide, _, Or.inl q897, Or.inl rfl⟩, (show mKd 0 14 ≤ 4 by decide)⟩⟩⟩ else none
     else
      bif Nat.blt pc 55 then
       if h : pc = 52 then some ⟨(.invokevirtual 137, 55, .inl 0, 131, 0), by subst h; exact ⟨dX0_next_52, rfl, ⟨by decide, q519, q521, qs15, _, rfl, rfl⟩⟩⟩ else none
      else
       if h : pc = 55 then some ⟨(.istore_n 1, 56, .inl 0, 0, 0), by subst h; exact ⟨dX0_next_55, rfl, (show (1 : Nat) < 2 by decide)⟩⟩ else none
    else
     bif Nat.blt pc 58 then
      bif Nat.blt pc 57 then
       if h : pc = 56 then some ⟨(.iload_n 1, 57, .inl 0, 0, 0), by subst h; exact ⟨dX0_next_56, rfl, trivial⟩⟩ else none
      else
       if h : pc = 57 then some ⟨(.iconst (-1), 58, .inl (-1), 0, 0), by subst h; exact ⟨dX0_next_57, rfl, ⟨(-1), rfl, by decide⟩⟩⟩ else none
     else
      bif Nat.blt pc 61 then
       if h : pc = 58 then some ⟨(.if_icmp .ne 11, 61, .inl 0, 69, 0), by subst h; exact ⟨dX0_next_58, rfl, (show ((58 : Nat) : Int) + (11) = ((69 : Nat) : Int) by decide)⟩⟩ else none
      else
       bif Nat.blt pc 62 then
        if h : pc = 61 then some ⟨(.aload_n 0, 62, .inl 0, 0, 0), by subst h; exact ⟨dX0_next_61, rfl, trivial⟩⟩ else none
       else
        if h : pc = 62 then some ⟨(.iconst 0, 63, .inl 0, 0, 0), by subst h; exact ⟨dX0_next_62, rfl, ⟨0, rfl, by decide⟩⟩⟩ else none
 else
  bif Nat.blt pc 102 then
   bif Nat.blt pc 83 then
    bif Nat.blt pc 73 then
     bif Nat.blt pc 69 then
      bif Nat.blt pc 66 then
       if h : pc = 63 then some ⟨(.putfield 143, 66, .inl 0, 16, 0), by subst h; exact ⟨dX0_next_63, rfl, ⟨⟨_, rfl, by decide, _, Or.inl q899, Or.inl rfl⟩, (show mKd 0 16 ≤ 4 by decide), by decide, by decide, (fun q h => Or.inl (by cases h; rfl))⟩⟩⟩ else none
      else
       if h : pc = 66 then some ⟨(.goto 65, 69, .inl 0, 131, 0), by subst h; exact ⟨dX0_next_66, rfl, (show ((66 : Nat) : Int) + (65) = ((131 : Nat) : Int) by decide)⟩⟩ else none
     else
      bif Nat.blt pc 70 then
       if h : pc = 69 then some ⟨(.iload_n 1, 70, .inl 0, 0, 0), by subst h; exact ⟨dX0_next_69, rfl, trivial⟩⟩ else none
      else
       if h : pc = 70 then some ⟨(.invokestatic 146, 73, .inl 0, 132, 0), by subst h; exact ⟨dX0_next_70, rfl, Or.inl ⟨by decide, q523, q524⟩⟩⟩ else none
    else
     bif Nat.blt pc 77 then
      bif Nat.blt pc 76 then
       if h : pc = 73 then some ⟨(.ifCond .eq 10, 76, .inl 0, 83, 0), by subst h; exact ⟨dX0_next_73, rfl, (show ((73 : Nat) : Int) + (10) = ((83 : Nat) : Int) by decide)⟩⟩ else none
      else
       if h : pc = 76 then some ⟨(.aload_n 0, 77, .inl 0, 0, 0), by subst h; exact ⟨dX0_next_76, rfl, trivial⟩⟩ else none
     else
      bif Nat.blt pc 80 then
       if h : pc = 77 then some ⟨(.invokevirtual 149, 80, .inl 0, 133, 0), by subst h; exact ⟨dX0_next_77, rfl, ⟨by decide, q528, q530, qs16, _, rfl, rfl⟩⟩⟩ else none
      else
       if h : pc = 80 then some ⟨(.goto 51, 83, .inl 0, 131, 0), by subst h; exact ⟨dX0_next_80, rfl, (show ((80 : Nat) : Int) + (51) = ((131 : Nat) : Int) by decide)⟩⟩ else none
   else
    bif Nat.blt pc 91 then
     bif Nat.blt pc 87 then
      bif Nat.blt pc 84 then
       if h : pc = 83 then some ⟨(.iload_n 1, 84, .inl 0, 0, 0), by subst h; exact ⟨dX0_next_83, rfl, trivial⟩⟩ else none
      else
       if h : pc = 84 then some ⟨(.invokestatic 153, 87, .inl 0, 135, 0), by subst h; exact ⟨dX0_next_84, rfl, Or.inl ⟨by decide, q584, q585⟩⟩⟩ else none
     else
      bif Nat.blt pc 90 then
       if h : pc = 87 then some ⟨(.ifCond .eq 10, 90, .inl 0, 97, 0), by subst h; exact ⟨dX0_next_87, rfl, (show ((87 : Nat) : Int) + (10) = ((97 : Nat) : Int) by decide)⟩⟩ else none
      else
       if h : pc = 90 then some ⟨(.aload_n 0, 91, .inl 0, 0, 0), by subst h; exact ⟨dX0_next_90, rfl, trivial⟩⟩ else none
    else
     bif Nat.blt pc 97 then
      bif Nat.blt pc 94 then
       if h : pc = 91 then some ⟨(.invokevirtual 156, 94, .inl 0, 136, 0), by subst h; exact ⟨dX0_next_91, rfl, ⟨by decide, q589, q591, qs18, _, rfl, rfl⟩⟩⟩ else none
      else
       if h : pc = 94 then some ⟨(.goto 37, 97, .inl 0, 131, 0), by subst h; exact ⟨dX0_next_94, rfl, (show ((94 : Nat) : Int) + (37) = ((131 : Nat) : Int) by decide)⟩⟩ else none
     else
      bif Nat.blt pc 98 then
       if h : pc = 97 then some ⟨(.aload_n 0, 98, .inl 0, 0, 0), by subst h; exact ⟨dX0_next_97, rfl, trivial⟩⟩ else none
      else
       bif Nat.blt pc 99 then
        if h : pc = 98 then some ⟨(.iconst 4, 99, .inl 4, 0, 0), by subst h; exact ⟨dX0_next_98, rfl, ⟨4, rfl, by decide⟩⟩⟩ else none
       else
        if h : pc = 99 then some ⟨(.putfield 143, 102, .inl 0, 16, 0), by subst h; exact ⟨dX0_next_99, rfl, ⟨⟨_, rfl, by decide, _, Or.inl q899, Or.inl rfl⟩, (show mKd 0 16 ≤ 4 by decide), by decide, by decide, (fun q h => Or.inl (by cases h; rfl))⟩⟩⟩ else none
  else
   bif Nat.blt pc 114 then
    bif Nat.blt pc 108 then
     bif Nat.blt pc 104 then
      bif Nat.blt pc 103 then
       if h : pc = 102 then some ⟨(.aload_n 0, 103, .inl 0, 0, 0), by subst h; exact ⟨dX0_next_102, rfl, trivial⟩⟩ else none
      else
       if h : pc = 103 then some ⟨(.iload_n 1, 104, .inl 0, 0, 0), by subst h; exact ⟨dX0_next_103, rfl, trivial⟩⟩ else none
     else
      bif Nat.blt pc 107 then
       if h : pc = 104 then some ⟨(.putfield 159, 107, .inl 0, 17, 0), by subst h; exact ⟨dX0_next_104, rfl, ⟨⟨_, rfl, by decide, _, Or.inl q900, Or.inl rfl⟩, (show mKd 0 17 ≤ 4 by decide), by decide, by decide, (fun q h => Or.inl (by cases h; rfl))⟩⟩⟩ else none
      else
       if h : pc = 107 then some ⟨(.aload_n 0, 108, .inl 0, 0, 0), by subst h; exact ⟨dX0_next_107, rfl, trivial⟩⟩ else none
    else
     bif Nat.blt pc 112 then
      bif Nat.blt pc 109 then
       if h : pc = 108 then some ⟨(.dup, 109, .inl 0, 0, 0), by subst h; exact ⟨dX0_next_108, rfl, trivial⟩⟩ else none
      else
       if h : pc = 109 then some ⟨(.getfield 134, 112, .inl 0, 14, 0), by subst h; exact ⟨dX0_next_109, rfl, ⟨⟨_, rfl, by decide, _, Or.inl q897, Or.inl rfl⟩, (show mKd 0 14 ≤ 4 by decide)⟩⟩⟩ else none
     else
      bif Nat.blt pc 113 then
       if h : pc = 112 then some ⟨(.iconst 1, 113, .inl 1, 0, 0), by subst h; exact ⟨dX0_next_112, rfl, ⟨1, rfl, by decide⟩⟩⟩ else none
      else
       if h : pc = 113 then some ⟨(.iadd, 114, .inl 0, 0, 0), by subst h; exact ⟨dX0_next_113, rfl, trivial⟩⟩ else none
   else
    bif Nat.blt pc 123 then
     bif Nat.blt pc 119 then
      bif Nat.blt pc 117 then
       if h : pc = 114 then some ⟨(.putfield 134, 117, .inl 0, 14, 0), by subst h; exact ⟨dX0_next_114, rfl, ⟨⟨_, rfl, by decide, _, Or.inl q897, Or.inl rfl⟩, (show mKd 0 14 ≤ 4 by decide), by decide, by decide, (fun q h => Or.inl (by cases h; rfl))⟩⟩⟩ else none
      else
       if h : pc = 117 then some ⟨(.ldc 162, 119, .inr (.inr (some (2, 2))), 0, 0), by subst h; exact ⟨dX0_next_117, rfl, Or.inr ⟨0, _, rfl, rfl, rfl⟩⟩⟩ else none
     else
      bif Nat.blt pc 120 then
       if h : pc = 119 then some ⟨(.iload_n 1, 120, .inl 0, 0, 0), by subst h; exact ⟨dX0_next_119, rfl, trivial⟩⟩ else none
      else
       if h : pc = 120 then some ⟨(.invokevirtual 164, 123, .inl 0, 269, 15), by subst h; exact ⟨dX0_next_120, rfl, ⟨by decide, q594, q595, q596, _, rfl, rfl⟩⟩⟩ else none
    else
     bif Nat.blt pc 127 then
      bif Nat.blt pc 126 then
       if h : pc = 123 then some ⟨(.ifCond .ge 8, 126, .inl 0, 131, 0), by subst h; exact ⟨dX0_next_123, rfl, (show ((123 : Nat) : Int) + (8) = ((131 : Nat) : Int) by decide)⟩⟩ else none
      else
       if h : pc = 126 then some ⟨(.aload_n 0, 127, .inl 0, 0, 0), by subst h; exact ⟨dX0_next_126, rfl, trivial⟩⟩ else none
     else
      bif Nat.blt pc 130 then
       if h : pc = 127 then some ⟨(.getfield 169, 130, .inr (.inr none), 5, 0), by subst h; exact ⟨dX0_next_127, rfl, ⟨⟨_, rfl, by decide, _, Or.inl q887, Or.inl rfl⟩, (show mKd 0 5 = 6 by rfl)⟩⟩⟩ else none
      else
       bif Nat.blt pc 131 then
        if h : pc = 130 then some ⟨(.athrow, 131, .inl 0, 0, 0), by subst h; exact ⟨dX0_next_130, rfl, trivial⟩⟩ else none
       else
        if h : pc = 131 then some ⟨(.return_, 132, .inl 0, 0, 0), by subst h; exact ⟨dX0_next_131, rfl, rfl⟩⟩ else none

noncomputable def mt131 (pc : Nat) : Option {e : mE // mOK yX0_byteAt cX0_byteAt 2 ((Option.some ClassFile.FieldType.int)) pc e} :=
 bif Nat.blt pc 12 then
  bif Nat.blt pc 5 then
   bif Nat.blt pc 1 then
    if h : pc = 0 then some ⟨(.iload_n 1, 1, .inl 0, 0, 0), by subst h; exact ⟨dX0_byteAt_0, rfl, trivial⟩⟩ else none
   else
    bif Nat.blt pc 2 then
     if h : pc = 1 then some ⟨(.aload_n 0, 2, .inl 0, 0, 0), by subst h; exact ⟨dX0_byteAt_1, rfl, trivial⟩⟩ else none
    else
     if h : pc = 2 then some ⟨(.getfield 119, 5, .inl 0, 13, 0), by subst h; exact ⟨dX0_byteAt_2, rfl, ⟨⟨_, rfl, by decide, _, Or.inl q896, Or.inl rfl⟩, (show mKd 0 13 ≤ 4 by decide)⟩⟩⟩ else none
  else
   bif Nat.blt pc 8 then
    if h : pc = 5 then some ⟨(.if_icmp .ge 16, 8, .inl 0, 21, 0), by subst h; exact ⟨dX0_byteAt_5, rfl, (show ((5 : Nat) : Int) + (16) = ((21 : Nat) : Int) by decide)⟩⟩ else none
   else
    bif Nat.blt pc 9 then
     if h : pc = 8 then some ⟨(.aload_n 0, 9, .inl 0, 0, 0), by subst h; exact ⟨dX0_byteAt_8, rfl, trivial⟩⟩ else none
    else
     if h : pc = 9 then some ⟨(.getfield 122, 12, .inr (.inr none), 11, 0), by subst h; exact ⟨dX0_byteAt_9, rfl, ⟨⟨_, rfl, by decide, _, Or.inl q894, Or.inl rfl⟩, (show mKd 0 11 = 6 by rfl)⟩⟩⟩ else none
 else
  bif Nat.blt pc 17 then
   bif Nat.blt pc 13 then
    if h : pc = 12 then some ⟨(.iload_n 1, 13, .inl 0, 0, 0), by subst h; exact ⟨dX0_byteAt_12, rfl, trivial⟩⟩ else none
   else
    bif Nat.blt pc 14 then
     if h : pc = 13 then some ⟨(.baload, 14, .inl 0, 0, 0), by subst h; exact ⟨dX0_byteAt_13, rfl, trivial⟩⟩ else none
    else
     if h : pc = 14 then some ⟨(.sipush 255, 17, .inl 255, 0, 0), by subst h; exact ⟨dX0_byteAt_14, rfl, ⟨255, rfl, by decide⟩⟩⟩ else none
  else
   bif Nat.blt pc 21 then
    bif Nat.blt pc 18 then
     if h : pc = 17 then some ⟨(.iand, 18, .inl 0, 0, 0), by subst h; exact ⟨dX0_byteAt_17, rfl, trivial⟩⟩ else none
    else
     if h : pc = 18 then some ⟨(.goto 4, 21, .inl 0, 22, 0), by subst h; exact ⟨dX0_byteAt_18, rfl, (show ((18 : Nat) : Int) + (4) = ((22 : Nat) : Int) by decide)⟩⟩ else none
   else
    bif Nat.blt pc 22 then
     if h : pc = 21 then some ⟨(.iconst (-1), 22, .inl (-1), 0, 0), by subst h; exact ⟨dX0_byteAt_21, rfl, ⟨(-1), rfl, by decide⟩⟩⟩ else none
    else
     if h : pc = 22 then some ⟨(.ireturn, 23, .inl 0, 0, 0), by subst h; exact ⟨dX0_byteAt_22, rfl, rfl⟩⟩ else none

noncomputable def mt132 (pc : Nat) : Option {e : mE // mOK yX0_isLetter cX0_isLetter 1 ((Option.some ClassFile.FieldType.boolean)) pc e} :=
 bif Nat.blt pc 5 then
  bif Nat.blt pc 1 then
   if h : pc = 0 then some ⟨(.iload_n 0, 1, .inl 0, 0, 0), by subst h; exact ⟨dX0_isLetter_0, rfl, trivial⟩⟩ else none
  else
   bif Nat.blt pc 2 then
    if h : pc = 1 then some ⟨(.i2l, 2, .inl 0, 0, 0), by subst h; exact ⟨dX0_isLetter_1, rfl, trivial⟩⟩ else none
   else
    if h : pc = 2 then some ⟨(.ldc2_w 126, 5, .inr (.inl 97), 0, 0), by subst h; exact ⟨dX0_isLetter_2, rfl, ⟨_, rfl, q526⟩⟩⟩ else none
 else
  bif Nat.blt pc 8 then
   if h : pc = 5 then some ⟨(.ldc2_w 128, 8, .inr (.inl 122), 0, 0), by subst h; exact ⟨dX0_isLetter_5, rfl, ⟨_, rfl, q527⟩⟩⟩ else none
  else
   bif Nat.blt pc 11 then
    if h : pc = 8 then some ⟨(.invokestatic 16, 11, .inl 0, 108, 0), by subst h; exact ⟨dX0_isLetter_8, rfl, Or.inl ⟨by decide, q167, q168⟩⟩⟩ else none
   else
    if h : pc = 11 then some ⟨(.ireturn, 12, .inl 0, 1, 0), by subst h; exact ⟨dX0_isLetter_11, rfl, rfl⟩⟩ else none

noncomputable def mt133 (pc : Nat) : Option {e : mE // mOK yX0_word cX0_word 2 ((Option.none : Option ClassFile.FieldType)) pc e} :=
 bif Nat.blt pc 42 then
  bif Nat.blt pc 21 then
   bif Nat.blt pc 11 then
    bif Nat.blt pc 2 then
     bif Nat.blt pc 1 then
      if h : pc = 0 then some ⟨(.aload_n 0, 1, .inl 0, 0, 0), by subst h; exact ⟨dX0_word_0, rfl, trivial⟩⟩ else none
     else
      if h : pc = 1 then some ⟨(.aload_n 0, 2, .inl 0, 0, 0), by subst h; exact ⟨dX0_word_1, rfl, trivial⟩⟩ else none
    else
     bif Nat.blt pc 5 then
      if h : pc = 2 then some ⟨(.getfield 134, 5, .inl 0, 14, 0), by subst h; exact ⟨dX0_word_2, rfl, ⟨⟨_, rfl, by decide, _, Or.inl q897, Or.inl rfl⟩, (show mKd 0 14 ≤ 4 by decide)⟩⟩⟩ else none
     else
      bif Nat.blt pc 8 then
       if h : pc = 5 then some ⟨(.invokevirtual 137, 8, .inl 0, 131, 0), by subst h; exact ⟨dX0_word_5, rfl, ⟨by decide, q519, q521, qs15, _, rfl, rfl⟩⟩⟩ else none
      else
       if h : pc = 8 then some ⟨(.invokestatic 146, 11, .inl 0, 132, 0), by subst h; exact ⟨dX0_word_8, rfl, Or.inl ⟨by decide, q523, q524⟩⟩⟩ else none
   else
    bif Nat.blt pc 16 then
     bif Nat.blt pc 14 then
      if h : pc = 11 then some ⟨(.ifCond .eq 16, 14, .inl 0, 27, 0), by subst h; exact ⟨dX0_word_11, rfl, (show ((11 : Nat) : Int) + (16) = ((27 : Nat) : Int) by decide)⟩⟩ else none
     else
      bif Nat.blt pc 15 then
       if h : pc = 14 then some ⟨(.aload_n 0, 15, .inl 0, 0, 0), by subst h; exact ⟨dX0_word_14, rfl, trivial⟩⟩ else none
      else
       if h : pc = 15 then some ⟨(.dup, 16, .inl 0, 0, 0), by subst h; exact ⟨dX0_word_15, rfl, trivial⟩⟩ else none
    else
     bif Nat.blt pc 19 then
      if h : pc = 16 then some ⟨(.getfield 134, 19, .inl 0, 14, 0), by subst h; exact ⟨dX0_word_16, rfl, ⟨⟨_, rfl, by decide, _, Or.inl q897, Or.inl rfl⟩, (show mKd 0 14 ≤ 4 by decide)⟩⟩⟩ else none
     else
      bif Nat.blt pc 20 then
       if h : pc = 19 then some ⟨(.iconst 1, 20, .inl 1, 0, 0), by subst h; exact ⟨dX0_word_19, rfl, ⟨1, rfl, by decide⟩⟩⟩ else none
      else
       if h : pc = 20 then some ⟨(.iadd, 21, .inl 0, 0, 0), by subst h; exact ⟨dX0_word_20, rfl, trivial⟩⟩ else none
  else
   bif Nat.blt pc 32 then
    bif Nat.blt pc 27 then
     bif Nat.blt pc 24 then
      if h : pc = 21 then some ⟨(.putfield 134, 24, .inl 0, 14, 0), by subst h; exact ⟨dX0_word_21, rfl, ⟨⟨_, rfl, by decide, _, Or.inl q897, Or.inl rfl⟩, (show mKd 0 14 ≤ 4 by decide), by decide, by decide, (fun q h => Or.inl (by cases h; rfl))⟩⟩⟩ else none
     else
      if h : pc = 24 then some ⟨(.goto (-24), 27, .inl 0, 0, 0), by subst h; exact ⟨dX0_word_24, rfl, (show ((24 : Nat) : Int) + ((-24)) = ((0 : Nat) : Int) by decide)⟩⟩ else none
    else
     bif Nat.blt pc 28 then
      if h : pc = 27 then some ⟨(.aload_n 0, 28, .inl 0, 0, 0), by subst h; exact ⟨dX0_word_27, rfl, trivial⟩⟩ else none
     else
      bif Nat.blt pc 29 then
       if h : pc = 28 then some ⟨(.aload_n 0, 29, .inl 0, 0, 0), by subst h; exact ⟨dX0_word_28, rfl, trivial⟩⟩ else none
      else
       if h : pc = 29 then some ⟨(.getfield 179, 32, .inr (.inr none), 9, 0), by subst h; exact ⟨dX0_word_29, rfl, ⟨⟨_, rfl, by decide, _, Or.inl q892, Or.inl rfl⟩, (show mKd 0 9 = 6 by rfl)⟩⟩⟩ else none
   else
    bif Nat.blt pc 37 then
     bif Nat.blt pc 35 then
      if h : pc = 32 then some ⟨(.invokevirtual 183, 35, .inl 0, 134, 0), by subst h; exact ⟨dX0_word_32, rfl, ⟨by decide, q532, q534, qs17, _, rfl, rfl⟩⟩⟩ else none
     else
      bif Nat.blt pc 36 then
       if h : pc = 35 then some ⟨(.istore_n 1, 36, .inl 0, 0, 0), by subst h; exact ⟨dX0_word_35, rfl, (show (1 : Nat) < 2 by decide)⟩⟩ else none
      else
       if h : pc = 36 then some ⟨(.aload_n 0, 37, .inl 0, 0, 0), by subst h; exact ⟨dX0_word_36, rfl, trivial⟩⟩ else none
    else
     bif Nat.blt pc 38 then
      if h : pc = 37 then some ⟨(.iload_n 1, 38, .inl 0, 0, 0), by subst h; exact ⟨dX0_word_37, rfl, trivial⟩⟩ else none
     else
      bif Nat.blt pc 39 then
       if h : pc = 38 then some ⟨(.iconst (-1), 39, .inl (-1), 0, 0), by subst h; exact ⟨dX0_word_38, rfl, ⟨(-1), rfl, by decide⟩⟩⟩ else none
      else
       if h : pc = 39 then some ⟨(.if_icmp .ne 7, 42, .inl 0, 46, 0), by subst h; exact ⟨dX0_word_39, rfl, (show ((39 : Nat) : Int) + (7) = ((46 : Nat) : Int) by decide)⟩⟩ else none
 else
  bif Nat.blt pc 61 then
   bif Nat.blt pc 51 then
    bif Nat.blt pc 46 then
     bif Nat.blt pc 43 then
      if h : pc = 42 then some ⟨(.iconst 2, 43, .inl 2, 0, 0), by subst h; exact ⟨dX0_word_42, rfl, ⟨2, rfl, by decide⟩⟩⟩ else none
     else
      if h : pc = 43 then some ⟨(.goto 4, 46, .inl 0, 47, 0), by subst h; exact ⟨dX0_word_43, rfl, (show ((43 : Nat) : Int) + (4) = ((47 : Nat) : Int) by decide)⟩⟩ else none
    else
     bif Nat.blt pc 47 then
      if h : pc = 46 then some ⟨(.iconst 1, 47, .inl 1, 0, 0), by subst h; exact ⟨dX0_word_46, rfl, ⟨1, rfl, by decide⟩⟩⟩ else none
     else
      bif Nat.blt pc 50 then
       if h : pc = 47 then some ⟨(.putfield 143, 50, .inl 0, 16, 0), by subst h; exact ⟨dX0_word_47, rfl, ⟨⟨_, rfl, by decide, _, Or.inl q899, Or.inl rfl⟩, (show mKd 0 16 ≤ 4 by decide), by decide, by decide, (fun q h => Or.inl (by cases h; rfl))⟩⟩⟩ else none
      else
       if h : pc = 50 then some ⟨(.aload_n 0, 51, .inl 0, 0, 0), by subst h; exact ⟨dX0_word_50, rfl, trivial⟩⟩ else none
   else
    bif Nat.blt pc 56 then
     bif Nat.blt pc 52 then
      if h : pc = 51 then some ⟨(.iload_n 1, 52, .inl 0, 0, 0), by subst h; exact ⟨dX0_word_51, rfl, trivial⟩⟩ else none
     else
      bif Nat.blt pc 53 then
       if h : pc = 52 then some ⟨(.iconst (-1), 53, .inl (-1), 0, 0), by subst h; exact ⟨dX0_word_52, rfl, ⟨(-1), rfl, by decide⟩⟩⟩ else none
      else
       if h : pc = 53 then some ⟨(.if_icmp .ne 14, 56, .inl 0, 67, 0), by subst h; exact ⟨dX0_word_53, rfl, (show ((53 : Nat) : Int) + (14) = ((67 : Nat) : Int) by decide)⟩⟩ else none
    else
     bif Nat.blt pc 57 then
      if h : pc = 56 then some ⟨(.aload_n 0, 57, .inl 0, 0, 0), by subst h; exact ⟨dX0_word_56, rfl, trivial⟩⟩ else none
     else
      bif Nat.blt pc 58 then
       if h : pc = 57 then some ⟨(.aload_n 0, 58, .inl 0, 0, 0), by subst h; exact ⟨dX0_word_57, rfl, trivial⟩⟩ else none
      else
       if h : pc = 58 then some ⟨(.getfield 187, 61, .inr (.inr none), 10, 0), by subst h; exact ⟨dX0_word_58, rfl, ⟨⟨_, rfl, by decide, _, Or.inl q893, Or.inl rfl⟩, (show mKd 0 10 = 6 by rfl)⟩⟩⟩ else none
  else
   bif Nat.blt pc 75 then
    bif Nat.blt pc 68 then
     bif Nat.blt pc 64 then
      if h : pc = 61 then some ⟨(.invokevirtual 183, 64, .inl 0, 134, 0), by subst h; exact ⟨dX0_word_61, rfl, ⟨by decide, q532, q534, qs17, _, rfl, rfl⟩⟩⟩ else none
     else
      bif Nat.blt pc 67 then
       if h : pc = 64 then some ⟨(.goto 4, 67, .inl 0, 68, 0), by subst h; exact ⟨dX0_word_64, rfl, (show ((64 : Nat) : Int) + (4) = ((68 : Nat) : Int) by decide)⟩⟩ else none
      else
       if h : pc = 67 then some ⟨(.iload_n 1, 68, .inl 0, 0, 0), by subst h; exact ⟨dX0_word_67, rfl, trivial⟩⟩ else none
    else
     bif Nat.blt pc 71 then
      if h : pc = 68 then some ⟨(.putfield 159, 71, .inl 0, 17, 0), by subst h; exact ⟨dX0_word_68, rfl, ⟨⟨_, rfl, by decide, _, Or.inl q900, Or.inl rfl⟩, (show mKd 0 17 ≤ 4 by decide), by decide, by decide, (fun q h => Or.inl (by cases h; rfl))⟩⟩⟩ else none
     else
      bif Nat.blt pc 72 then
       if h : pc = 71 then some ⟨(.aload_n 0, 72, .inl 0, 0, 0), by subst h; exact ⟨dX0_word_71, rfl, trivial⟩⟩ else none
      else
       if h : pc = 72 then some ⟨(.getfield 159, 75, .inl 0, 17, 0), by subst h; exact ⟨dX0_word_72, rfl, ⟨⟨_, rfl, by decide, _, Or.inl q900, Or.inl rfl⟩, (show mKd 0 17 ≤ 4 by decide)⟩⟩⟩ else none
   else
    bif Nat.blt pc 80 then
     bif Nat.blt pc 76 then
      if h : pc = 75 then some ⟨(.iconst (-1), 76, .inl (-1), 0, 0), by subst h; exact ⟨dX0_word_75, rfl, ⟨(-1), rfl, by decide⟩⟩⟩ else none
     else
      bif Nat.blt pc 79 then
       if h : pc = 76 then some ⟨(.if_icmp .ne 8, 79, .inl 0, 84, 0), by subst h; exact ⟨dX0_word_76, rfl, (show ((76 : Nat) : Int) + (8) = ((84 : Nat) : Int) by decide)⟩⟩ else none
      else
       if h : pc = 79 then some ⟨(.aload_n 0, 80, .inl 0, 0, 0), by subst h; exact ⟨dX0_word_79, rfl, trivial⟩⟩ else none
    else
     bif Nat.blt pc 83 then
      if h : pc = 80 then some ⟨(.getfield 169, 83, .inr (.inr none), 5, 0), by subst h; exact ⟨dX0_word_80, rfl, ⟨⟨_, rfl, by decide, _, Or.inl q887, Or.inl rfl⟩, (show mKd 0 5 = 6 by rfl)⟩⟩⟩ else none
     else
      bif Nat.blt pc 84 then
       if h : pc = 83 then some ⟨(.athrow, 84, .inl 0, 0, 0), by subst h; exact ⟨dX0_word_83, rfl, trivial⟩⟩ else none
      else
       if h : pc = 84 then some ⟨(.return_, 85, .inl 0, 0, 0), by subst h; exact ⟨dX0_word_84, rfl, rfl⟩⟩ else none

noncomputable def mt134 (pc : Nat) : Option {e : mE // mOK yX0_placeIn cX0_placeIn 5 ((Option.some ClassFile.FieldType.int)) pc e} :=
 bif Nat.blt pc 46 then
  bif Nat.blt pc 22 then
   bif Nat.blt pc 9 then
    bif Nat.blt pc 3 then
     bif Nat.blt pc 1 then
      if h : pc = 0 then some ⟨(.iconst 0, 1, .inl 0, 0, 0), by subst h; exact ⟨dX0_placeIn_0, rfl, ⟨0, rfl, by decide⟩⟩⟩ else none
     else
      bif Nat.blt pc 2 then
       if h : pc = 1 then some ⟨(.istore_n 2, 2, .inl 0, 0, 0), by subst h; exact ⟨dX0_placeIn_1, rfl, (show (2 : Nat) < 5 by decide)⟩⟩ else none
      else
       if h : pc = 2 then some ⟨(.iload_n 2, 3, .inl 0, 0, 0), by subst h; exact ⟨dX0_placeIn_2, rfl, trivial⟩⟩ else none
    else
     bif Nat.blt pc 5 then
      bif Nat.blt pc 4 then
       if h : pc = 3 then some ⟨(.aload_n 1, 4, .inl 0, 0, 0), by subst h; exact ⟨dX0_placeIn_3, rfl, trivial⟩⟩ else none
      else
       if h : pc = 4 then some ⟨(.arraylength, 5, .inl 0, 0, 0), by subst h; exact ⟨dX0_placeIn_4, rfl, trivial⟩⟩ else none
     else
      bif Nat.blt pc 8 then
       if h : pc = 5 then some ⟨(.if_icmp .ge 94, 8, .inl 0, 99, 0), by subst h; exact ⟨dX0_placeIn_5, rfl, (show ((5 : Nat) : Int) + (94) = ((99 : Nat) : Int) by decide)⟩⟩ else none
      else
       if h : pc = 8 then some ⟨(.aload_n 1, 9, .inl 0, 0, 0), by subst h; exact ⟨dX0_placeIn_8, rfl, trivial⟩⟩ else none
   else
    bif Nat.blt pc 14 then
     bif Nat.blt pc 10 then
      if h : pc = 9 then some ⟨(.iload_n 2, 10, .inl 0, 0, 0), by subst h; exact ⟨dX0_placeIn_9, rfl, trivial⟩⟩ else none
     else
      bif Nat.blt pc 11 then
       if h : pc = 10 then some ⟨(.aaload, 11, .inl 0, 0, 0), by subst h; exact ⟨dX0_placeIn_10, rfl, trivial⟩⟩ else none
      else
       if h : pc = 11 then some ⟨(.invokevirtual 173, 14, .inl 0, 264, 15), by subst h; exact ⟨dX0_placeIn_11, rfl, ⟨by decide, q536, q537, q538, _, rfl, rfl⟩⟩⟩ else none
    else
     bif Nat.blt pc 18 then
      bif Nat.blt pc 15 then
       if h : pc = 14 then some ⟨(.aload_n 0, 15, .inl 0, 0, 0), by subst h; exact ⟨dX0_placeIn_14, rfl, trivial⟩⟩ else none
      else
       if h : pc = 15 then some ⟨(.getfield 134, 18, .inl 0, 14, 0), by subst h; exact ⟨dX0_placeIn_15, rfl, ⟨⟨_, rfl, by decide, _, Or.inl q897, Or.inl rfl⟩, (show mKd 0 14 ≤ 4 by decide)⟩⟩⟩ else none
     else
      bif Nat.blt pc 19 then
       if h : pc = 18 then some ⟨(.aload_n 0, 19, .inl 0, 0, 0), by subst h; exact ⟨dX0_placeIn_18, rfl, trivial⟩⟩ else none
      else
       if h : pc = 19 then some ⟨(.getfield 140, 22, .inl 0, 15, 0), by subst h; exact ⟨dX0_placeIn_19, rfl, ⟨⟨_, rfl, by decide, _, Or.inl q898, Or.inl rfl⟩, (show mKd 0 15 ≤ 4 by decide)⟩⟩⟩ else none
  else
   bif Nat.blt pc 33 then
    bif Nat.blt pc 27 then
     bif Nat.blt pc 23 then
      if h : pc = 22 then some ⟨(.isub, 23, .inl 0, 0, 0), by subst h; exact ⟨dX0_placeIn_22, rfl, trivial⟩⟩ else none
     else
      bif Nat.blt pc 26 then
       if h : pc = 23 then some ⟨(.if_icmp .ne 7, 26, .inl 0, 30, 0), by subst h; exact ⟨dX0_placeIn_23, rfl, (show ((23 : Nat) : Int) + (7) = ((30 : Nat) : Int) by decide)⟩⟩ else none
      else
       if h : pc = 26 then some ⟨(.iconst 1, 27, .inl 1, 0, 0), by subst h; exact ⟨dX0_placeIn_26, rfl, ⟨1, rfl, by decide⟩⟩⟩ else none
    else
     bif Nat.blt pc 31 then
      bif Nat.blt pc 30 then
       if h : pc = 27 then some ⟨(.goto 4, 30, .inl 0, 31, 0), by subst h; exact ⟨dX0_placeIn_27, rfl, (show ((27 : Nat) : Int) + (4) = ((31 : Nat) : Int) by decide)⟩⟩ else none
      else
       if h : pc = 30 then some ⟨(.iconst 0, 31, .inl 0, 0, 0), by subst h; exact ⟨dX0_placeIn_30, rfl, ⟨0, rfl, by decide⟩⟩⟩ else none
     else
      bif Nat.blt pc 32 then
       if h : pc = 31 then some ⟨(.istore_n 3, 32, .inl 0, 0, 0), by subst h; exact ⟨dX0_placeIn_31, rfl, (show (3 : Nat) < 5 by decide)⟩⟩ else none
      else
       if h : pc = 32 then some ⟨(.iconst 0, 33, .inl 0, 0, 0), by subst h; exact ⟨dX0_placeIn_32, rfl, ⟨0, rfl, by decide⟩⟩⟩ else none
   else
    bif Nat.blt pc 39 then
     bif Nat.blt pc 35 then
      if h : pc = 33 then some ⟨(.istore 4, 35, .inl 0, 0, 0), by subst h; exact ⟨dX0_placeIn_33, rfl, (show (4 : Nat) < 5 by decide)⟩⟩ else none
     else
      bif Nat.blt pc 36 then
       if h : pc = 35 then some ⟨(.iload_n 3, 36, .inl 0, 0, 0), by subst h; exact ⟨dX0_placeIn_35, rfl, trivial⟩⟩ else none
      else
       if h : pc = 36 then some ⟨(.ifCond .eq 51, 39, .inl 0, 87, 0), by subst h; exact ⟨dX0_placeIn_36, rfl, (show ((36 : Nat) : Int) + (51) = ((87 : Nat) : Int) by decide)⟩⟩ else none
    else
     bif Nat.blt pc 42 then
      bif Nat.blt pc 41 then
       if h : pc = 39 then some ⟨(.iload 4, 41, .inl 0, 0, 0), by subst h; exact ⟨dX0_placeIn_39, rfl, trivial⟩⟩ else none
      else
       if h : pc = 41 then some ⟨(.aload_n 0, 42, .inl 0, 0, 0), by subst h; exact ⟨dX0_placeIn_41, rfl, trivial⟩⟩ else none
     else
      bif Nat.blt pc 45 then
       if h : pc = 42 then some ⟨(.getfield 134, 45, .inl 0, 14, 0), by subst h; exact ⟨dX0_placeIn_42, rfl, ⟨⟨_, rfl, by decide, _, Or.inl q897, Or.inl rfl⟩, (show mKd 0 14 ≤ 4 by decide)⟩⟩⟩ else none
      else
       if h : pc = 45 then some ⟨(.aload_n 0, 46, .inl 0, 0, 0), by subst h; exact ⟨dX0_placeIn_45, rfl, trivial⟩⟩ else none
 else
  bif Nat.blt pc 72 then
   bif Nat.blt pc 58 then
    bif Nat.blt pc 53 then
     bif Nat.blt pc 49 then
      if h : pc = 46 then some ⟨(.getfield 140, 49, .inl 0, 15, 0), by subst h; exact ⟨dX0_placeIn_46, rfl, ⟨⟨_, rfl, by decide, _, Or.inl q898, Or.inl rfl⟩, (show mKd 0 15 ≤ 4 by decide)⟩⟩⟩ else none
     else
      bif Nat.blt pc 50 then
       if h : pc = 49 then some ⟨(.isub, 50, .inl 0, 0, 0), by subst h; exact ⟨dX0_placeIn_49, rfl, trivial⟩⟩ else none
      else
       if h : pc = 50 then some ⟨(.if_icmp .ge 37, 53, .inl 0, 87, 0), by subst h; exact ⟨dX0_placeIn_50, rfl, (show ((50 : Nat) : Int) + (37) = ((87 : Nat) : Int) by decide)⟩⟩ else none
    else
     bif Nat.blt pc 55 then
      bif Nat.blt pc 54 then
       if h : pc = 53 then some ⟨(.aload_n 1, 54, .inl 0, 0, 0), by subst h; exact ⟨dX0_placeIn_53, rfl, trivial⟩⟩ else none
      else
       if h : pc = 54 then some ⟨(.iload_n 2, 55, .inl 0, 0, 0), by subst h; exact ⟨dX0_placeIn_54, rfl, trivial⟩⟩ else none
     else
      bif Nat.blt pc 56 then
       if h : pc = 55 then some ⟨(.aaload, 56, .inl 0, 0, 0), by subst h; exact ⟨dX0_placeIn_55, rfl, trivial⟩⟩ else none
      else
       if h : pc = 56 then some ⟨(.iload 4, 58, .inl 0, 0, 0), by subst h; exact ⟨dX0_placeIn_56, rfl, trivial⟩⟩ else none
   else
    bif Nat.blt pc 63 then
     bif Nat.blt pc 61 then
      if h : pc = 58 then some ⟨(.invokevirtual 175, 61, .inl 0, 266, 15), by subst h; exact ⟨dX0_placeIn_58, rfl, ⟨by decide, q546, q547, q548, _, rfl, rfl⟩⟩⟩ else none
     else
      bif Nat.blt pc 62 then
       if h : pc = 61 then some ⟨(.aload_n 0, 62, .inl 0, 0, 0), by subst h; exact ⟨dX0_placeIn_61, rfl, trivial⟩⟩ else none
      else
       if h : pc = 62 then some ⟨(.aload_n 0, 63, .inl 0, 0, 0), by subst h; exact ⟨dX0_placeIn_62, rfl, trivial⟩⟩ else none
    else
     bif Nat.blt pc 68 then
      bif Nat.blt pc 66 then
       if h : pc = 63 then some ⟨(.getfield 140, 66, .inl 0, 15, 0), by subst h; exact ⟨dX0_placeIn_63, rfl, ⟨⟨_, rfl, by decide, _, Or.inl q898, Or.inl rfl⟩, (show mKd 0 15 ≤ 4 by decide)⟩⟩⟩ else none
      else
       if h : pc = 66 then some ⟨(.iload 4, 68, .inl 0, 0, 0), by subst h; exact ⟨dX0_placeIn_66, rfl, trivial⟩⟩ else none
     else
      bif Nat.blt pc 69 then
       if h : pc = 68 then some ⟨(.iadd, 69, .inl 0, 0, 0), by subst h; exact ⟨dX0_placeIn_68, rfl, trivial⟩⟩ else none
      else
       if h : pc = 69 then some ⟨(.invokevirtual 137, 72, .inl 0, 131, 0), by subst h; exact ⟨dX0_placeIn_69, rfl, ⟨by decide, q519, q521, qs15, _, rfl, rfl⟩⟩⟩ else none
  else
   bif Nat.blt pc 87 then
    bif Nat.blt pc 79 then
     bif Nat.blt pc 75 then
      if h : pc = 72 then some ⟨(.if_icmp .ne 7, 75, .inl 0, 79, 0), by subst h; exact ⟨dX0_placeIn_72, rfl, (show ((72 : Nat) : Int) + (7) = ((79 : Nat) : Int) by decide)⟩⟩ else none
     else
      bif Nat.blt pc 76 then
       if h : pc = 75 then some ⟨(.iconst 1, 76, .inl 1, 0, 0), by subst h; exact ⟨dX0_placeIn_75, rfl, ⟨1, rfl, by decide⟩⟩⟩ else none
      else
       if h : pc = 76 then some ⟨(.goto 4, 79, .inl 0, 80, 0), by subst h; exact ⟨dX0_placeIn_76, rfl, (show ((76 : Nat) : Int) + (4) = ((80 : Nat) : Int) by decide)⟩⟩ else none
    else
     bif Nat.blt pc 81 then
      bif Nat.blt pc 80 then
       if h : pc = 79 then some ⟨(.iconst 0, 80, .inl 0, 0, 0), by subst h; exact ⟨dX0_placeIn_79, rfl, ⟨0, rfl, by decide⟩⟩⟩ else none
      else
       if h : pc = 80 then some ⟨(.istore_n 3, 81, .inl 0, 0, 0), by subst h; exact ⟨dX0_placeIn_80, rfl, (show (3 : Nat) < 5 by decide)⟩⟩ else none
     else
      bif Nat.blt pc 84 then
       if h : pc = 81 then some ⟨(.iinc 4 1, 84, .inl 1, 0, 0), by subst h; exact ⟨dX0_placeIn_81, rfl, ⟨(show (4 : Nat) < 5 by decide), 1, rfl, by decide⟩⟩⟩ else none
      else
       if h : pc = 84 then some ⟨(.goto (-49), 87, .inl 0, 35, 0), by subst h; exact ⟨dX0_placeIn_84, rfl, (show ((84 : Nat) : Int) + ((-49)) = ((35 : Nat) : Int) by decide)⟩⟩ else none
   else
    bif Nat.blt pc 93 then
     bif Nat.blt pc 91 then
      bif Nat.blt pc 88 then
       if h : pc = 87 then some ⟨(.iload_n 3, 88, .inl 0, 0, 0), by subst h; exact ⟨dX0_placeIn_87, rfl, trivial⟩⟩ else none
      else
       if h : pc = 88 then some ⟨(.ifCond .eq 5, 91, .inl 0, 93, 0), by subst h; exact ⟨dX0_placeIn_88, rfl, (show ((88 : Nat) : Int) + (5) = ((93 : Nat) : Int) by decide)⟩⟩ else none
     else
      bif Nat.blt pc 92 then
       if h : pc = 91 then some ⟨(.iload_n 2, 92, .inl 0, 0, 0), by subst h; exact ⟨dX0_placeIn_91, rfl, trivial⟩⟩ else none
      else
       if h : pc = 92 then some ⟨(.ireturn, 93, .inl 0, 0, 0), by subst h; exact ⟨dX0_placeIn_92, rfl, rfl⟩⟩ else none
    else
     bif Nat.blt pc 99 then
      bif Nat.blt pc 96 then
       if h : pc = 93 then some ⟨(.iinc 2 1, 96, .inl 1, 0, 0), by subst h; exact ⟨dX0_placeIn_93, rfl, ⟨(show (2 : Nat) < 5 by decide), 1, rfl, by decide⟩⟩⟩ else none
      else
       if h : pc = 96 then some ⟨(.goto (-94), 99, .inl 0, 2, 0), by subst h; exact ⟨dX0_placeIn_96, rfl, (show ((96 : Nat) : Int) + ((-94)) = ((2 : Nat) : Int) by decide)⟩⟩ else none
     else
      bif Nat.blt pc 100 then
       if h : pc = 99 then some ⟨(.iconst (-1), 100, .inl (-1), 0, 0), by subst h; exact ⟨dX0_placeIn_99, rfl, ⟨(-1), rfl, by decide⟩⟩⟩ else none
      else
       if h : pc = 100 then some ⟨(.ireturn, 101, .inl 0, 0, 0), by subst h; exact ⟨dX0_placeIn_100, rfl, rfl⟩⟩ else none

noncomputable def mt135 (pc : Nat) : Option {e : mE // mOK yX0_isDigit cX0_isDigit 1 ((Option.some ClassFile.FieldType.boolean)) pc e} :=
 bif Nat.blt pc 5 then
  bif Nat.blt pc 1 then
   if h : pc = 0 then some ⟨(.iload_n 0, 1, .inl 0, 0, 0), by subst h; exact ⟨dX0_isDigit_0, rfl, trivial⟩⟩ else none
  else
   bif Nat.blt pc 2 then
    if h : pc = 1 then some ⟨(.i2l, 2, .inl 0, 0, 0), by subst h; exact ⟨dX0_isDigit_1, rfl, trivial⟩⟩ else none
   else
    if h : pc = 2 then some ⟨(.ldc2_w 130, 5, .inr (.inl 48), 0, 0), by subst h; exact ⟨dX0_isDigit_2, rfl, ⟨_, rfl, q587⟩⟩⟩ else none
 else
  bif Nat.blt pc 8 then
   if h : pc = 5 then some ⟨(.ldc2_w 132, 8, .inr (.inl 57), 0, 0), by subst h; exact ⟨dX0_isDigit_5, rfl, ⟨_, rfl, q588⟩⟩⟩ else none
  else
   bif Nat.blt pc 11 then
    if h : pc = 8 then some ⟨(.invokestatic 16, 11, .inl 0, 108, 0), by subst h; exact ⟨dX0_isDigit_8, rfl, Or.inl ⟨by decide, q167, q168⟩⟩⟩ else none
   else
    if h : pc = 11 then some ⟨(.ireturn, 12, .inl 0, 1, 0), by subst h; exact ⟨dX0_isDigit_11, rfl, rfl⟩⟩ else none

noncomputable def mt136 (pc : Nat) : Option {e : mE // mOK yX0_digits cX0_digits 1 ((Option.none : Option ClassFile.FieldType)) pc e} :=
 bif Nat.blt pc 49 then
  bif Nat.blt pc 25 then
   bif Nat.blt pc 10 then
    bif Nat.blt pc 5 then
     bif Nat.blt pc 1 then
      if h : pc = 0 then some ⟨(.aload_n 0, 1, .inl 0, 0, 0), by subst h; exact ⟨dX0_digits_0, rfl, trivial⟩⟩ else none
     else
      bif Nat.blt pc 2 then
       if h : pc = 1 then some ⟨(.iconst 0, 2, .inl 0, 0, 0), by subst h; exact ⟨dX0_digits_1, rfl, ⟨0, rfl, by decide⟩⟩⟩ else none
      else
       if h : pc = 2 then some ⟨(.putfield 159, 5, .inl 0, 17, 0), by subst h; exact ⟨dX0_digits_2, rfl, ⟨⟨_, rfl, by decide, _, Or.inl q900, Or.inl rfl⟩, (show mKd 0 17 ≤ 4 by decide), by decide, by decide, (fun q h => Or.inl (by cases h; rfl))⟩⟩⟩ else none
    else
     bif Nat.blt pc 6 then
      if h : pc = 5 then some ⟨(.aload_n 0, 6, .inl 0, 0, 0), by subst h; exact ⟨dX0_digits_5, rfl, trivial⟩⟩ else none
     else
      bif Nat.blt pc 7 then
       if h : pc = 6 then some ⟨(.aload_n 0, 7, .inl 0, 0, 0), by subst h; exact ⟨dX0_digits_6, rfl, trivial⟩⟩ else none
      else
       if h : pc = 7 then some ⟨(.getfield 134, 10, .inl 0, 14, 0), by subst h; exact ⟨dX0_digits_7, rfl, ⟨⟨_, rfl, by decide, _, Or.inl q897, Or.inl rfl⟩, (show mKd 0 14 ≤ 4 by decide)⟩⟩⟩ else none
   else
    bif Nat.blt pc 19 then
     bif Nat.blt pc 13 then
      if h : pc = 10 then some ⟨(.invokevirtual 137, 13, .inl 0, 131, 0), by subst h; exact ⟨dX0_digits_10, rfl, ⟨by decide, q519, q521, qs15, _, rfl, rfl⟩⟩⟩ else none
     else
      bif Nat.blt pc 16 then
       if h : pc = 13 then some ⟨(.invokestatic 153, 16, .inl 0, 135, 0), by subst h; exact ⟨dX0_digits_13, rfl, Or.inl ⟨by decide, q584, q585⟩⟩⟩ else none
      else
       if h : pc = 16 then some ⟨(.ifCond .eq 59, 19, .inl 0, 75, 0), by subst h; exact ⟨dX0_digits_16, rfl, (show ((16 : Nat) : Int) + (59) = ((75 : Nat) : Int) by decide)⟩⟩ else none
    else
     bif Nat.blt pc 21 then
      bif Nat.blt pc 20 then
       if h : pc = 19 then some ⟨(.aload_n 0, 20, .inl 0, 0, 0), by subst h; exact ⟨dX0_digits_19, rfl, trivial⟩⟩ else none
      else
       if h : pc = 20 then some ⟨(.aload_n 0, 21, .inl 0, 0, 0), by subst h; exact ⟨dX0_digits_20, rfl, trivial⟩⟩ else none
     else
      bif Nat.blt pc 24 then
       if h : pc = 21 then some ⟨(.getfield 134, 24, .inl 0, 14, 0), by subst h; exact ⟨dX0_digits_21, rfl, ⟨⟨_, rfl, by decide, _, Or.inl q897, Or.inl rfl⟩, (show mKd 0 14 ≤ 4 by decide)⟩⟩⟩ else none
      else
       if h : pc = 24 then some ⟨(.aload_n 0, 25, .inl 0, 0, 0), by subst h; exact ⟨dX0_digits_24, rfl, trivial⟩⟩ else none
  else
   bif Nat.blt pc 36 then
    bif Nat.blt pc 30 then
     bif Nat.blt pc 28 then
      if h : pc = 25 then some ⟨(.getfield 140, 28, .inl 0, 15, 0), by subst h; exact ⟨dX0_digits_25, rfl, ⟨⟨_, rfl, by decide, _, Or.inl q898, Or.inl rfl⟩, (show mKd 0 15 ≤ 4 by decide)⟩⟩⟩ else none
     else
      bif Nat.blt pc 29 then
       if h : pc = 28 then some ⟨(.isub, 29, .inl 0, 0, 0), by subst h; exact ⟨dX0_digits_28, rfl, trivial⟩⟩ else none
      else
       if h : pc = 29 then some ⟨(.iconst 4, 30, .inl 4, 0, 0), by subst h; exact ⟨dX0_digits_29, rfl, ⟨4, rfl, by decide⟩⟩⟩ else none
    else
     bif Nat.blt pc 33 then
      if h : pc = 30 then some ⟨(.if_icmp .ge 25, 33, .inl 0, 55, 0), by subst h; exact ⟨dX0_digits_30, rfl, (show ((30 : Nat) : Int) + (25) = ((55 : Nat) : Int) by decide)⟩⟩ else none
     else
      bif Nat.blt pc 35 then
       if h : pc = 33 then some ⟨(.bipush 10, 35, .inl 10, 0, 0), by subst h; exact ⟨dX0_digits_33, rfl, ⟨10, rfl, by decide⟩⟩⟩ else none
      else
       if h : pc = 35 then some ⟨(.aload_n 0, 36, .inl 0, 0, 0), by subst h; exact ⟨dX0_digits_35, rfl, trivial⟩⟩ else none
   else
    bif Nat.blt pc 41 then
     bif Nat.blt pc 39 then
      if h : pc = 36 then some ⟨(.getfield 159, 39, .inl 0, 17, 0), by subst h; exact ⟨dX0_digits_36, rfl, ⟨⟨_, rfl, by decide, _, Or.inl q900, Or.inl rfl⟩, (show mKd 0 17 ≤ 4 by decide)⟩⟩⟩ else none
     else
      bif Nat.blt pc 40 then
       if h : pc = 39 then some ⟨(.imul, 40, .inl 0, 0, 0), by subst h; exact ⟨dX0_digits_39, rfl, trivial⟩⟩ else none
      else
       if h : pc = 40 then some ⟨(.aload_n 0, 41, .inl 0, 0, 0), by subst h; exact ⟨dX0_digits_40, rfl, trivial⟩⟩ else none
    else
     bif Nat.blt pc 45 then
      bif Nat.blt pc 42 then
       if h : pc = 41 then some ⟨(.aload_n 0, 42, .inl 0, 0, 0), by subst h; exact ⟨dX0_digits_41, rfl, trivial⟩⟩ else none
      else
       if h : pc = 42 then some ⟨(.getfield 134, 45, .inl 0, 14, 0), by subst h; exact ⟨dX0_digits_42, rfl, ⟨⟨_, rfl, by decide, _, Or.inl q897, Or.inl rfl⟩, (show mKd 0 14 ≤ 4 by decide)⟩⟩⟩ else none
     else
      bif Nat.blt pc 48 then
       if h : pc = 45 then some ⟨(.invokevirtual 137, 48, .inl 0, 131, 0), by subst h; exact ⟨dX0_digits_45, rfl, ⟨by decide, q519, q521, qs15, _, rfl, rfl⟩⟩⟩ else none
      else
       if h : pc = 48 then some ⟨(.iadd, 49, .inl 0, 0, 0), by subst h; exact ⟨dX0_digits_48, rfl, trivial⟩⟩ else none
 else
  bif Nat.blt pc 75 then
   bif Nat.blt pc 62 then
    bif Nat.blt pc 55 then
     bif Nat.blt pc 51 then
      if h : pc = 49 then some ⟨(.bipush 48, 51, .inl 48, 0, 0), by subst h; exact ⟨dX0_digits_49, rfl, ⟨48, rfl, by decide⟩⟩⟩ else none
     else
      bif Nat.blt pc 52 then
       if h : pc = 51 then some ⟨(.isub, 52, .inl 0, 0, 0), by subst h; exact ⟨dX0_digits_51, rfl, trivial⟩⟩ else none
      else
       if h : pc = 52 then some ⟨(.goto 7, 55, .inl 0, 59, 0), by subst h; exact ⟨dX0_digits_52, rfl, (show ((52 : Nat) : Int) + (7) = ((59 : Nat) : Int) by decide)⟩⟩ else none
    else
     bif Nat.blt pc 56 then
      if h : pc = 55 then some ⟨(.aload_n 0, 56, .inl 0, 0, 0), by subst h; exact ⟨dX0_digits_55, rfl, trivial⟩⟩ else none
     else
      bif Nat.blt pc 59 then
       if h : pc = 56 then some ⟨(.getfield 159, 59, .inl 0, 17, 0), by subst h; exact ⟨dX0_digits_56, rfl, ⟨⟨_, rfl, by decide, _, Or.inl q900, Or.inl rfl⟩, (show mKd 0 17 ≤ 4 by decide)⟩⟩⟩ else none
      else
       if h : pc = 59 then some ⟨(.putfield 159, 62, .inl 0, 17, 0), by subst h; exact ⟨dX0_digits_59, rfl, ⟨⟨_, rfl, by decide, _, Or.inl q900, Or.inl rfl⟩, (show mKd 0 17 ≤ 4 by decide), by decide, by decide, (fun q h => Or.inl (by cases h; rfl))⟩⟩⟩ else none
   else
    bif Nat.blt pc 67 then
     bif Nat.blt pc 63 then
      if h : pc = 62 then some ⟨(.aload_n 0, 63, .inl 0, 0, 0), by subst h; exact ⟨dX0_digits_62, rfl, trivial⟩⟩ else none
     else
      bif Nat.blt pc 64 then
       if h : pc = 63 then some ⟨(.dup, 64, .inl 0, 0, 0), by subst h; exact ⟨dX0_digits_63, rfl, trivial⟩⟩ else none
      else
       if h : pc = 64 then some ⟨(.getfield 134, 67, .inl 0, 14, 0), by subst h; exact ⟨dX0_digits_64, rfl, ⟨⟨_, rfl, by decide, _, Or.inl q897, Or.inl rfl⟩, (show mKd 0 14 ≤ 4 by decide)⟩⟩⟩ else none
    else
     bif Nat.blt pc 69 then
      bif Nat.blt pc 68 then
       if h : pc = 67 then some ⟨(.iconst 1, 68, .inl 1, 0, 0), by subst h; exact ⟨dX0_digits_67, rfl, ⟨1, rfl, by decide⟩⟩⟩ else none
      else
       if h : pc = 68 then some ⟨(.iadd, 69, .inl 0, 0, 0), by subst h; exact ⟨dX0_digits_68, rfl, trivial⟩⟩ else none
     else
      bif Nat.blt pc 72 then
       if h : pc = 69 then some ⟨(.putfield 134, 72, .inl 0, 14, 0), by subst h; exact ⟨dX0_digits_69, rfl, ⟨⟨_, rfl, by decide, _, Or.inl q897, Or.inl rfl⟩, (show mKd 0 14 ≤ 4 by decide), by decide, by decide, (fun q h => Or.inl (by cases h; rfl))⟩⟩⟩ else none
      else
       if h : pc = 72 then some ⟨(.goto (-67), 75, .inl 0, 5, 0), by subst h; exact ⟨dX0_digits_72, rfl, (show ((72 : Nat) : Int) + ((-67)) = ((5 : Nat) : Int) by decide)⟩⟩ else none
  else
   bif Nat.blt pc 88 then
    bif Nat.blt pc 80 then
     bif Nat.blt pc 76 then
      if h : pc = 75 then some ⟨(.aload_n 0, 76, .inl 0, 0, 0), by subst h; exact ⟨dX0_digits_75, rfl, trivial⟩⟩ else none
     else
      bif Nat.blt pc 77 then
       if h : pc = 76 then some ⟨(.iconst 3, 77, .inl 3, 0, 0), by subst h; exact ⟨dX0_digits_76, rfl, ⟨3, rfl, by decide⟩⟩⟩ else none
      else
       if h : pc = 77 then some ⟨(.putfield 143, 80, .inl 0, 16, 0), by subst h; exact ⟨dX0_digits_77, rfl, ⟨⟨_, rfl, by decide, _, Or.inl q899, Or.inl rfl⟩, (show mKd 0 16 ≤ 4 by decide), by decide, by decide, (fun q h => Or.inl (by cases h; rfl))⟩⟩⟩ else none
    else
     bif Nat.blt pc 84 then
      bif Nat.blt pc 81 then
       if h : pc = 80 then some ⟨(.aload_n 0, 81, .inl 0, 0, 0), by subst h; exact ⟨dX0_digits_80, rfl, trivial⟩⟩ else none
      else
       if h : pc = 81 then some ⟨(.getfield 134, 84, .inl 0, 14, 0), by subst h; exact ⟨dX0_digits_81, rfl, ⟨⟨_, rfl, by decide, _, Or.inl q897, Or.inl rfl⟩, (show mKd 0 14 ≤ 4 by decide)⟩⟩⟩ else none
     else
      bif Nat.blt pc 85 then
       if h : pc = 84 then some ⟨(.aload_n 0, 85, .inl 0, 0, 0), by subst h; exact ⟨dX0_digits_84, rfl, trivial⟩⟩ else none
      else
       if h : pc = 85 then some ⟨(.getfield 140, 88, .inl 0, 15, 0), by subst h; exact ⟨dX0_digits_85, rfl, ⟨⟨_, rfl, by decide, _, Or.inl q898, Or.inl rfl⟩, (show mKd 0 15 ≤ 4 by decide)⟩⟩⟩ else none
   else
    bif Nat.blt pc 93 then
     bif Nat.blt pc 89 then
      if h : pc = 88 then some ⟨(.isub, 89, .inl 0, 0, 0), by subst h; exact ⟨dX0_digits_88, rfl, trivial⟩⟩ else none
     else
      bif Nat.blt pc 90 then
       if h : pc = 89 then some ⟨(.iconst 4, 90, .inl 4, 0, 0), by subst h; exact ⟨dX0_digits_89, rfl, ⟨4, rfl, by decide⟩⟩⟩ else none
      else
       if h : pc = 90 then some ⟨(.if_icmp .le 8, 93, .inl 0, 98, 0), by subst h; exact ⟨dX0_digits_90, rfl, (show ((90 : Nat) : Int) + (8) = ((98 : Nat) : Int) by decide)⟩⟩ else none
    else
     bif Nat.blt pc 97 then
      bif Nat.blt pc 94 then
       if h : pc = 93 then some ⟨(.aload_n 0, 94, .inl 0, 0, 0), by subst h; exact ⟨dX0_digits_93, rfl, trivial⟩⟩ else none
      else
       if h : pc = 94 then some ⟨(.getfield 169, 97, .inr (.inr none), 5, 0), by subst h; exact ⟨dX0_digits_94, rfl, ⟨⟨_, rfl, by decide, _, Or.inl q887, Or.inl rfl⟩, (show mKd 0 5 = 6 by rfl)⟩⟩⟩ else none
     else
      bif Nat.blt pc 98 then
       if h : pc = 97 then some ⟨(.athrow, 98, .inl 0, 0, 0), by subst h; exact ⟨dX0_digits_97, rfl, trivial⟩⟩ else none
      else
       if h : pc = 98 then some ⟨(.return_, 99, .inl 0, 0, 0), by subst h; exact ⟨dX0_digits_98, rfl, rfl⟩⟩ else none

noncomputable def mt137 (pc : Nat) : Option {e : mE // mOK yX0_isKey cX0_isKey 2 ((Option.some ClassFile.FieldType.boolean)) pc e} :=
 bif Nat.blt pc 12 then
  bif Nat.blt pc 5 then
   bif Nat.blt pc 1 then
    if h : pc = 0 then some ⟨(.aload_n 0, 1, .inl 0, 0, 0), by subst h; exact ⟨dX0_isKey_0, rfl, trivial⟩⟩ else none
   else
    bif Nat.blt pc 4 then
     if h : pc = 1 then some ⟨(.getfield 143, 4, .inl 0, 16, 0), by subst h; exact ⟨dX0_isKey_1, rfl, ⟨⟨_, rfl, by decide, _, Or.inl q899, Or.inl rfl⟩, (show mKd 0 16 ≤ 4 by decide)⟩⟩⟩ else none
    else
     if h : pc = 4 then some ⟨(.iconst 1, 5, .inl 1, 0, 0), by subst h; exact ⟨dX0_isKey_4, rfl, ⟨1, rfl, by decide⟩⟩⟩ else none
  else
   bif Nat.blt pc 8 then
    if h : pc = 5 then some ⟨(.if_icmp .ne 15, 8, .inl 0, 20, 0), by subst h; exact ⟨dX0_isKey_5, rfl, (show ((5 : Nat) : Int) + (15) = ((20 : Nat) : Int) by decide)⟩⟩ else none
   else
    bif Nat.blt pc 9 then
     if h : pc = 8 then some ⟨(.aload_n 0, 9, .inl 0, 0, 0), by subst h; exact ⟨dX0_isKey_8, rfl, trivial⟩⟩ else none
    else
     if h : pc = 9 then some ⟨(.getfield 159, 12, .inl 0, 17, 0), by subst h; exact ⟨dX0_isKey_9, rfl, ⟨⟨_, rfl, by decide, _, Or.inl q900, Or.inl rfl⟩, (show mKd 0 17 ≤ 4 by decide)⟩⟩⟩ else none
 else
  bif Nat.blt pc 17 then
   bif Nat.blt pc 13 then
    if h : pc = 12 then some ⟨(.iload_n 1, 13, .inl 0, 0, 0), by subst h; exact ⟨dX0_isKey_12, rfl, trivial⟩⟩ else none
   else
    bif Nat.blt pc 16 then
     if h : pc = 13 then some ⟨(.if_icmp .ne 7, 16, .inl 0, 20, 0), by subst h; exact ⟨dX0_isKey_13, rfl, (show ((13 : Nat) : Int) + (7) = ((20 : Nat) : Int) by decide)⟩⟩ else none
    else
     if h : pc = 16 then some ⟨(.iconst 1, 17, .inl 1, 0, 0), by subst h; exact ⟨dX0_isKey_16, rfl, ⟨1, rfl, by decide⟩⟩⟩ else none
  else
   bif Nat.blt pc 20 then
    if h : pc = 17 then some ⟨(.goto 4, 20, .inl 0, 21, 0), by subst h; exact ⟨dX0_isKey_17, rfl, (show ((17 : Nat) : Int) + (4) = ((21 : Nat) : Int) by decide)⟩⟩ else none
   else
    bif Nat.blt pc 21 then
     if h : pc = 20 then some ⟨(.iconst 0, 21, .inl 0, 0, 0), by subst h; exact ⟨dX0_isKey_20, rfl, ⟨0, rfl, by decide⟩⟩⟩ else none
    else
     if h : pc = 21 then some ⟨(.ireturn, 22, .inl 0, 1, 0), by subst h; exact ⟨dX0_isKey_21, rfl, rfl⟩⟩ else none

noncomputable def mt138 (pc : Nat) : Option {e : mE // mOK yX0_need cX0_need 2 ((Option.none : Option ClassFile.FieldType)) pc e} :=
 bif Nat.blt pc 8 then
  bif Nat.blt pc 4 then
   bif Nat.blt pc 1 then
    if h : pc = 0 then some ⟨(.iload_n 1, 1, .inl 0, 0, 0), by subst h; exact ⟨dX0_need_0, rfl, trivial⟩⟩ else none
   else
    if h : pc = 1 then some ⟨(.ifCond .ne 8, 4, .inl 0, 9, 0), by subst h; exact ⟨dX0_need_1, rfl, (show ((1 : Nat) : Int) + (8) = ((9 : Nat) : Int) by decide)⟩⟩ else none
  else
   bif Nat.blt pc 5 then
    if h : pc = 4 then some ⟨(.aload_n 0, 5, .inl 0, 0, 0), by subst h; exact ⟨dX0_need_4, rfl, trivial⟩⟩ else none
   else
    if h : pc = 5 then some ⟨(.getfield 169, 8, .inr (.inr none), 5, 0), by subst h; exact ⟨dX0_need_5, rfl, ⟨⟨_, rfl, by decide, _, Or.inl q887, Or.inl rfl⟩, (show mKd 0 5 = 6 by rfl)⟩⟩⟩ else none
 else
  bif Nat.blt pc 10 then
   bif Nat.blt pc 9 then
    if h : pc = 8 then some ⟨(.athrow, 9, .inl 0, 0, 0), by subst h; exact ⟨dX0_need_8, rfl, trivial⟩⟩ else none
   else
    if h : pc = 9 then some ⟨(.aload_n 0, 10, .inl 0, 0, 0), by subst h; exact ⟨dX0_need_9, rfl, trivial⟩⟩ else none
  else
   bif Nat.blt pc 13 then
    if h : pc = 10 then some ⟨(.invokevirtual 190, 13, .inl 0, 130, 0), by subst h; exact ⟨dX0_need_10, rfl, ⟨by decide, q515, q517, qs14, _, rfl, rfl⟩⟩⟩ else none
   else
    if h : pc = 13 then some ⟨(.return_, 14, .inl 0, 0, 0), by subst h; exact ⟨dX0_need_13, rfl, rfl⟩⟩ else none

noncomputable def mt139 (pc : Nat) : Option {e : mE // mOK yX0_either cX0_either 2 ((Option.some (ClassFile.FieldType.object "NobodyCanLiftIt$Node"))) pc e} :=
 bif Nat.blt pc 20 then
  bif Nat.blt pc 7 then
   bif Nat.blt pc 4 then
    bif Nat.blt pc 1 then
     if h : pc = 0 then some ⟨(.aload_n 0, 1, .inl 0, 0, 0), by subst h; exact ⟨dX0_either_0, rfl, trivial⟩⟩ else none
    else
     if h : pc = 1 then some ⟨(.invokevirtual 200, 4, .inl 0, 140, 0), by subst h; exact ⟨dX0_either_1, rfl, ⟨by decide, q661, q663, qs22, _, rfl, rfl⟩⟩⟩ else none
   else
    bif Nat.blt pc 5 then
     if h : pc = 4 then some ⟨(.astore_n 1, 5, .inl 0, 0, 0), by subst h; exact ⟨dX0_either_4, rfl, (show (1 : Nat) < 2 by decide)⟩⟩ else none
    else
     bif Nat.blt pc 6 then
      if h : pc = 5 then some ⟨(.aload_n 0, 6, .inl 0, 0, 0), by subst h; exact ⟨dX0_either_5, rfl, trivial⟩⟩ else none
     else
      if h : pc = 6 then some ⟨(.iconst 3, 7, .inl 3, 0, 0), by subst h; exact ⟨dX0_either_6, rfl, ⟨3, rfl, by decide⟩⟩⟩ else none
  else
   bif Nat.blt pc 13 then
    bif Nat.blt pc 10 then
     if h : pc = 7 then some ⟨(.invokevirtual 204, 10, .inl 0, 137, 0), by subst h; exact ⟨dX0_either_7, rfl, ⟨by decide, q649, q651, qs19, _, rfl, rfl⟩⟩⟩ else none
    else
     if h : pc = 10 then some ⟨(.ifCond .eq 25, 13, .inl 0, 35, 0), by subst h; exact ⟨dX0_either_10, rfl, (show ((10 : Nat) : Int) + (25) = ((35 : Nat) : Int) by decide)⟩⟩ else none
   else
    bif Nat.blt pc 14 then
     if h : pc = 13 then some ⟨(.aload_n 0, 14, .inl 0, 0, 0), by subst h; exact ⟨dX0_either_13, rfl, trivial⟩⟩ else none
    else
     bif Nat.blt pc 17 then
      if h : pc = 14 then some ⟨(.invokevirtual 190, 17, .inl 0, 130, 0), by subst h; exact ⟨dX0_either_14, rfl, ⟨by decide, q515, q517, qs14, _, rfl, rfl⟩⟩⟩ else none
     else
      if h : pc = 17 then some ⟨(.new 207, 20, .inl 0, 13, 0), by subst h; exact ⟨dX0_either_17, rfl, Or.inr ⟨_, rfl, q729, q730, q146, by decide⟩⟩⟩ else none
 else
  bif Nat.blt pc 28 then
   bif Nat.blt pc 23 then
    bif Nat.blt pc 21 then
     if h : pc = 20 then some ⟨(.dup, 21, .inl 0, 0, 0), by subst h; exact ⟨dX0_either_20, rfl, trivial⟩⟩ else none
    else
     if h : pc = 21 then some ⟨(.bipush 124, 23, .inl 124, 0, 0), by subst h; exact ⟨dX0_either_21, rfl, ⟨124, rfl, by decide⟩⟩⟩ else none
   else
    bif Nat.blt pc 24 then
     if h : pc = 23 then some ⟨(.aload_n 1, 24, .inl 0, 0, 0), by subst h; exact ⟨dX0_either_23, rfl, trivial⟩⟩ else none
    else
     bif Nat.blt pc 25 then
      if h : pc = 24 then some ⟨(.aload_n 0, 25, .inl 0, 0, 0), by subst h; exact ⟨dX0_either_24, rfl, trivial⟩⟩ else none
     else
      if h : pc = 25 then some ⟨(.invokevirtual 200, 28, .inl 0, 140, 0), by subst h; exact ⟨dX0_either_25, rfl, ⟨by decide, q661, q663, qs22, _, rfl, rfl⟩⟩⟩ else none
  else
   bif Nat.blt pc 32 then
    bif Nat.blt pc 31 then
     if h : pc = 28 then some ⟨(.invokespecial 209, 31, .inl 0, 257, 1), by subst h; exact ⟨dX0_either_28, rfl, ⟨by decide, rfl, q731, q732⟩⟩⟩ else none
    else
     if h : pc = 31 then some ⟨(.astore_n 1, 32, .inl 0, 0, 0), by subst h; exact ⟨dX0_either_31, rfl, (show (1 : Nat) < 2 by decide)⟩⟩ else none
   else
    bif Nat.blt pc 35 then
     if h : pc = 32 then some ⟨(.goto (-27), 35, .inl 0, 5, 0), by subst h; exact ⟨dX0_either_32, rfl, (show ((32 : Nat) : Int) + ((-27)) = ((5 : Nat) : Int) by decide)⟩⟩ else none
    else
     bif Nat.blt pc 36 then
      if h : pc = 35 then some ⟨(.aload_n 1, 36, .inl 0, 0, 0), by subst h; exact ⟨dX0_either_35, rfl, trivial⟩⟩ else none
     else
      if h : pc = 36 then some ⟨(.areturn, 37, .inl 0, 0, 0), by subst h; exact ⟨dX0_either_36, rfl, ⟨_, rfl, Or.inl ⟨_, rfl⟩⟩⟩⟩ else none

noncomputable def mt140 (pc : Nat) : Option {e : mE // mOK yX0_both cX0_both 2 ((Option.some (ClassFile.FieldType.object "NobodyCanLiftIt$Node"))) pc e} :=
 bif Nat.blt pc 20 then
  bif Nat.blt pc 7 then
   bif Nat.blt pc 4 then
    bif Nat.blt pc 1 then
     if h : pc = 0 then some ⟨(.aload_n 0, 1, .inl 0, 0, 0), by subst h; exact ⟨dX0_both_0, rfl, trivial⟩⟩ else none
    else
     if h : pc = 1 then some ⟨(.invokevirtual 212, 4, .inl 0, 141, 0), by subst h; exact ⟨dX0_both_1, rfl, ⟨by decide, q665, q667, qs23, _, rfl, rfl⟩⟩⟩ else none
   else
    bif Nat.blt pc 5 then
     if h : pc = 4 then some ⟨(.astore_n 1, 5, .inl 0, 0, 0), by subst h; exact ⟨dX0_both_4, rfl, (show (1 : Nat) < 2 by decide)⟩⟩ else none
    else
     bif Nat.blt pc 6 then
      if h : pc = 5 then some ⟨(.aload_n 0, 6, .inl 0, 0, 0), by subst h; exact ⟨dX0_both_5, rfl, trivial⟩⟩ else none
     else
      if h : pc = 6 then some ⟨(.iconst 4, 7, .inl 4, 0, 0), by subst h; exact ⟨dX0_both_6, rfl, ⟨4, rfl, by decide⟩⟩⟩ else none
  else
   bif Nat.blt pc 13 then
    bif Nat.blt pc 10 then
     if h : pc = 7 then some ⟨(.invokevirtual 204, 10, .inl 0, 137, 0), by subst h; exact ⟨dX0_both_7, rfl, ⟨by decide, q649, q651, qs19, _, rfl, rfl⟩⟩⟩ else none
    else
     if h : pc = 10 then some ⟨(.ifCond .eq 25, 13, .inl 0, 35, 0), by subst h; exact ⟨dX0_both_10, rfl, (show ((10 : Nat) : Int) + (25) = ((35 : Nat) : Int) by decide)⟩⟩ else none
   else
    bif Nat.blt pc 14 then
     if h : pc = 13 then some ⟨(.aload_n 0, 14, .inl 0, 0, 0), by subst h; exact ⟨dX0_both_13, rfl, trivial⟩⟩ else none
    else
     bif Nat.blt pc 17 then
      if h : pc = 14 then some ⟨(.invokevirtual 190, 17, .inl 0, 130, 0), by subst h; exact ⟨dX0_both_14, rfl, ⟨by decide, q515, q517, qs14, _, rfl, rfl⟩⟩⟩ else none
     else
      if h : pc = 17 then some ⟨(.new 207, 20, .inl 0, 13, 0), by subst h; exact ⟨dX0_both_17, rfl, Or.inr ⟨_, rfl, q729, q730, q146, by decide⟩⟩⟩ else none
 else
  bif Nat.blt pc 28 then
   bif Nat.blt pc 23 then
    bif Nat.blt pc 21 then
     if h : pc = 20 then some ⟨(.dup, 21, .inl 0, 0, 0), by subst h; exact ⟨dX0_both_20, rfl, trivial⟩⟩ else none
    else
     if h : pc = 21 then some ⟨(.bipush 38, 23, .inl 38, 0, 0), by subst h; exact ⟨dX0_both_21, rfl, ⟨38, rfl, by decide⟩⟩⟩ else none
   else
    bif Nat.blt pc 24 then
     if h : pc = 23 then some ⟨(.aload_n 1, 24, .inl 0, 0, 0), by subst h; exact ⟨dX0_both_23, rfl, trivial⟩⟩ else none
    else
     bif Nat.blt pc 25 then
      if h : pc = 24 then some ⟨(.aload_n 0, 25, .inl 0, 0, 0), by subst h; exact ⟨dX0_both_24, rfl, trivial⟩⟩ else none
     else
      if h : pc = 25 then some ⟨(.invokevirtual 212, 28, .inl 0, 141, 0), by subst h; exact ⟨dX0_both_25, rfl, ⟨by decide, q665, q667, qs23, _, rfl, rfl⟩⟩⟩ else none
  else
   bif Nat.blt pc 32 then
    bif Nat.blt pc 31 then
     if h : pc = 28 then some ⟨(.invokespecial 209, 31, .inl 0, 257, 1), by subst h; exact ⟨dX0_both_28, rfl, ⟨by decide, rfl, q731, q732⟩⟩⟩ else none
    else
     if h : pc = 31 then some ⟨(.astore_n 1, 32, .inl 0, 0, 0), by subst h; exact ⟨dX0_both_31, rfl, (show (1 : Nat) < 2 by decide)⟩⟩ else none
   else
    bif Nat.blt pc 35 then
     if h : pc = 32 then some ⟨(.goto (-27), 35, .inl 0, 5, 0), by subst h; exact ⟨dX0_both_32, rfl, (show ((32 : Nat) : Int) + ((-27)) = ((5 : Nat) : Int) by decide)⟩⟩ else none
    else
     bif Nat.blt pc 36 then
      if h : pc = 35 then some ⟨(.aload_n 1, 36, .inl 0, 0, 0), by subst h; exact ⟨dX0_both_35, rfl, trivial⟩⟩ else none
     else
      if h : pc = 36 then some ⟨(.areturn, 37, .inl 0, 0, 0), by subst h; exact ⟨dX0_both_36, rfl, ⟨_, rfl, Or.inl ⟨_, rfl⟩⟩⟩⟩ else none

noncomputable def mt141 (pc : Nat) : Option {e : mE // mOK yX0_not cX0_not 3 ((Option.some (ClassFile.FieldType.object "NobodyCanLiftIt$Node"))) pc e} :=
 bif Nat.blt pc 41 then
  bif Nat.blt pc 19 then
   bif Nat.blt pc 9 then
    bif Nat.blt pc 2 then
     bif Nat.blt pc 1 then
      if h : pc = 0 then some ⟨(.aload_n 0, 1, .inl 0, 0, 0), by subst h; exact ⟨dX0_not_0, rfl, trivial⟩⟩ else none
     else
      if h : pc = 1 then some ⟨(.iconst 5, 2, .inl 5, 0, 0), by subst h; exact ⟨dX0_not_1, rfl, ⟨5, rfl, by decide⟩⟩⟩ else none
    else
     bif Nat.blt pc 5 then
      if h : pc = 2 then some ⟨(.invokevirtual 204, 5, .inl 0, 137, 0), by subst h; exact ⟨dX0_not_2, rfl, ⟨by decide, q649, q651, qs19, _, rfl, rfl⟩⟩⟩ else none
     else
      bif Nat.blt pc 8 then
       if h : pc = 5 then some ⟨(.ifCond .eq 32, 8, .inl 0, 37, 0), by subst h; exact ⟨dX0_not_5, rfl, (show ((5 : Nat) : Int) + (32) = ((37 : Nat) : Int) by decide)⟩⟩ else none
      else
       if h : pc = 8 then some ⟨(.aload_n 0, 9, .inl 0, 0, 0), by subst h; exact ⟨dX0_not_8, rfl, trivial⟩⟩ else none
   else
    bif Nat.blt pc 16 then
     bif Nat.blt pc 12 then
      if h : pc = 9 then some ⟨(.invokevirtual 215, 12, .inl 0, 142, 0), by subst h; exact ⟨dX0_not_9, rfl, ⟨by decide, q669, q671, qs24, _, rfl, rfl⟩⟩⟩ else none
     else
      bif Nat.blt pc 13 then
       if h : pc = 12 then some ⟨(.aload_n 0, 13, .inl 0, 0, 0), by subst h; exact ⟨dX0_not_12, rfl, trivial⟩⟩ else none
      else
       if h : pc = 13 then some ⟨(.invokevirtual 212, 16, .inl 0, 141, 0), by subst h; exact ⟨dX0_not_13, rfl, ⟨by decide, q665, q667, qs23, _, rfl, rfl⟩⟩⟩ else none
    else
     bif Nat.blt pc 17 then
      if h : pc = 16 then some ⟨(.astore_n 1, 17, .inl 0, 0, 0), by subst h; exact ⟨dX0_not_16, rfl, (show (1 : Nat) < 3 by decide)⟩⟩ else none
     else
      bif Nat.blt pc 18 then
       if h : pc = 17 then some ⟨(.aload_n 0, 18, .inl 0, 0, 0), by subst h; exact ⟨dX0_not_17, rfl, trivial⟩⟩ else none
      else
       if h : pc = 18 then some ⟨(.dup, 19, .inl 0, 0, 0), by subst h; exact ⟨dX0_not_18, rfl, trivial⟩⟩ else none
  else
   bif Nat.blt pc 31 then
    bif Nat.blt pc 24 then
     bif Nat.blt pc 22 then
      if h : pc = 19 then some ⟨(.getfield 193, 22, .inl 0, 18, 0), by subst h; exact ⟨dX0_not_19, rfl, ⟨⟨_, rfl, by decide, _, Or.inl q901, Or.inl rfl⟩, (show mKd 0 18 ≤ 4 by decide)⟩⟩⟩ else none
     else
      bif Nat.blt pc 23 then
       if h : pc = 22 then some ⟨(.iconst 1, 23, .inl 1, 0, 0), by subst h; exact ⟨dX0_not_22, rfl, ⟨1, rfl, by decide⟩⟩⟩ else none
      else
       if h : pc = 23 then some ⟨(.isub, 24, .inl 0, 0, 0), by subst h; exact ⟨dX0_not_23, rfl, trivial⟩⟩ else none
    else
     bif Nat.blt pc 27 then
      if h : pc = 24 then some ⟨(.putfield 193, 27, .inl 0, 18, 0), by subst h; exact ⟨dX0_not_24, rfl, ⟨⟨_, rfl, by decide, _, Or.inl q901, Or.inl rfl⟩, (show mKd 0 18 ≤ 4 by decide), by decide, by decide, (fun q h => Or.inl (by cases h; rfl))⟩⟩⟩ else none
     else
      bif Nat.blt pc 30 then
       if h : pc = 27 then some ⟨(.new 218, 30, .inl 0, 12, 0), by subst h; exact ⟨dX0_not_27, rfl, Or.inr ⟨_, rfl, q673, q674, q143, by decide⟩⟩⟩ else none
      else
       if h : pc = 30 then some ⟨(.dup, 31, .inl 0, 0, 0), by subst h; exact ⟨dX0_not_30, rfl, trivial⟩⟩ else none
   else
    bif Nat.blt pc 36 then
     bif Nat.blt pc 32 then
      if h : pc = 31 then some ⟨(.aload_n 1, 32, .inl 0, 0, 0), by subst h; exact ⟨dX0_not_31, rfl, trivial⟩⟩ else none
     else
      bif Nat.blt pc 33 then
       if h : pc = 32 then some ⟨(.iconst 0, 33, .inl 0, 0, 0), by subst h; exact ⟨dX0_not_32, rfl, ⟨0, rfl, by decide⟩⟩⟩ else none
      else
       if h : pc = 33 then some ⟨(.invokespecial 220, 36, .inl 0, 255, 1), by subst h; exact ⟨dX0_not_33, rfl, ⟨by decide, rfl, q675, q676⟩⟩⟩ else none
    else
     bif Nat.blt pc 37 then
      if h : pc = 36 then some ⟨(.areturn, 37, .inl 0, 0, 0), by subst h; exact ⟨dX0_not_36, rfl, ⟨_, rfl, Or.inl ⟨_, rfl⟩⟩⟩⟩ else none
     else
      bif Nat.blt pc 38 then
       if h : pc = 37 then some ⟨(.aload_n 0, 38, .inl 0, 0, 0), by subst h; exact ⟨dX0_not_37, rfl, trivial⟩⟩ else none
      else
       if h : pc = 38 then some ⟨(.invokevirtual 223, 41, .inl 0, 143, 0), by subst h; exact ⟨dX0_not_38, rfl, ⟨by decide, q690, q692, qs25, _, rfl, rfl⟩⟩⟩ else none
 else
  bif Nat.blt pc 65 then
   bif Nat.blt pc 52 then
    bif Nat.blt pc 45 then
     bif Nat.blt pc 42 then
      if h : pc = 41 then some ⟨(.astore_n 1, 42, .inl 0, 0, 0), by subst h; exact ⟨dX0_not_41, rfl, (show (1 : Nat) < 3 by decide)⟩⟩ else none
     else
      bif Nat.blt pc 43 then
       if h : pc = 42 then some ⟨(.aload_n 0, 43, .inl 0, 0, 0), by subst h; exact ⟨dX0_not_42, rfl, trivial⟩⟩ else none
      else
       if h : pc = 43 then some ⟨(.bipush 60, 45, .inl 60, 0, 0), by subst h; exact ⟨dX0_not_43, rfl, ⟨60, rfl, by decide⟩⟩⟩ else none
    else
     bif Nat.blt pc 48 then
      if h : pc = 45 then some ⟨(.invokevirtual 226, 48, .inl 0, 146, 0), by subst h; exact ⟨dX0_not_45, rfl, ⟨by decide, q725, q727, qs28, _, rfl, rfl⟩⟩⟩ else none
     else
      bif Nat.blt pc 51 then
       if h : pc = 48 then some ⟨(.ifCond .ne 12, 51, .inl 0, 60, 0), by subst h; exact ⟨dX0_not_48, rfl, (show ((48 : Nat) : Int) + (12) = ((60 : Nat) : Int) by decide)⟩⟩ else none
      else
       if h : pc = 51 then some ⟨(.aload_n 0, 52, .inl 0, 0, 0), by subst h; exact ⟨dX0_not_51, rfl, trivial⟩⟩ else none
   else
    bif Nat.blt pc 60 then
     bif Nat.blt pc 54 then
      if h : pc = 52 then some ⟨(.bipush 61, 54, .inl 61, 0, 0), by subst h; exact ⟨dX0_not_52, rfl, ⟨61, rfl, by decide⟩⟩⟩ else none
     else
      bif Nat.blt pc 57 then
       if h : pc = 54 then some ⟨(.invokevirtual 226, 57, .inl 0, 146, 0), by subst h; exact ⟨dX0_not_54, rfl, ⟨by decide, q725, q727, qs28, _, rfl, rfl⟩⟩⟩ else none
      else
       if h : pc = 57 then some ⟨(.ifCond .eq 26, 60, .inl 0, 83, 0), by subst h; exact ⟨dX0_not_57, rfl, (show ((57 : Nat) : Int) + (26) = ((83 : Nat) : Int) by decide)⟩⟩ else none
    else
     bif Nat.blt pc 61 then
      if h : pc = 60 then some ⟨(.aload_n 0, 61, .inl 0, 0, 0), by subst h; exact ⟨dX0_not_60, rfl, trivial⟩⟩ else none
     else
      bif Nat.blt pc 64 then
       if h : pc = 61 then some ⟨(.getfield 159, 64, .inl 0, 17, 0), by subst h; exact ⟨dX0_not_61, rfl, ⟨⟨_, rfl, by decide, _, Or.inl q900, Or.inl rfl⟩, (show mKd 0 17 ≤ 4 by decide)⟩⟩⟩ else none
      else
       if h : pc = 64 then some ⟨(.istore_n 2, 65, .inl 0, 0, 0), by subst h; exact ⟨dX0_not_64, rfl, (show (2 : Nat) < 3 by decide)⟩⟩ else none
  else
   bif Nat.blt pc 75 then
    bif Nat.blt pc 72 then
     bif Nat.blt pc 66 then
      if h : pc = 65 then some ⟨(.aload_n 0, 66, .inl 0, 0, 0), by subst h; exact ⟨dX0_not_65, rfl, trivial⟩⟩ else none
     else
      bif Nat.blt pc 69 then
       if h : pc = 66 then some ⟨(.invokevirtual 190, 69, .inl 0, 130, 0), by subst h; exact ⟨dX0_not_66, rfl, ⟨by decide, q515, q517, qs14, _, rfl, rfl⟩⟩⟩ else none
      else
       if h : pc = 69 then some ⟨(.new 207, 72, .inl 0, 13, 0), by subst h; exact ⟨dX0_not_69, rfl, Or.inr ⟨_, rfl, q729, q730, q146, by decide⟩⟩⟩ else none
    else
     bif Nat.blt pc 73 then
      if h : pc = 72 then some ⟨(.dup, 73, .inl 0, 0, 0), by subst h; exact ⟨dX0_not_72, rfl, trivial⟩⟩ else none
     else
      bif Nat.blt pc 74 then
       if h : pc = 73 then some ⟨(.iload_n 2, 74, .inl 0, 0, 0), by subst h; exact ⟨dX0_not_73, rfl, trivial⟩⟩ else none
      else
       if h : pc = 74 then some ⟨(.aload_n 1, 75, .inl 0, 0, 0), by subst h; exact ⟨dX0_not_74, rfl, trivial⟩⟩ else none
   else
    bif Nat.blt pc 82 then
     bif Nat.blt pc 76 then
      if h : pc = 75 then some ⟨(.aload_n 0, 76, .inl 0, 0, 0), by subst h; exact ⟨dX0_not_75, rfl, trivial⟩⟩ else none
     else
      bif Nat.blt pc 79 then
       if h : pc = 76 then some ⟨(.invokevirtual 223, 79, .inl 0, 143, 0), by subst h; exact ⟨dX0_not_76, rfl, ⟨by decide, q690, q692, qs25, _, rfl, rfl⟩⟩⟩ else none
      else
       if h : pc = 79 then some ⟨(.invokespecial 209, 82, .inl 0, 257, 1), by subst h; exact ⟨dX0_not_79, rfl, ⟨by decide, rfl, q731, q732⟩⟩⟩ else none
    else
     bif Nat.blt pc 83 then
      if h : pc = 82 then some ⟨(.astore_n 1, 83, .inl 0, 0, 0), by subst h; exact ⟨dX0_not_82, rfl, (show (1 : Nat) < 3 by decide)⟩⟩ else none
     else
      bif Nat.blt pc 84 then
       if h : pc = 83 then some ⟨(.aload_n 1, 84, .inl 0, 0, 0), by subst h; exact ⟨dX0_not_83, rfl, trivial⟩⟩ else none
      else
       if h : pc = 84 then some ⟨(.areturn, 85, .inl 0, 0, 0), by subst h; exact ⟨dX0_not_84, rfl, ⟨_, rfl, Or.inl ⟨_, rfl⟩⟩⟩⟩ else none

noncomputable def mt142 (pc : Nat) : Option {e : mE // mOK yX0_openOne cX0_openOne 1 ((Option.none : Option ClassFile.FieldType)) pc e} :=
 bif Nat.blt pc 14 then
  bif Nat.blt pc 6 then
   bif Nat.blt pc 2 then
    bif Nat.blt pc 1 then
     if h : pc = 0 then some ⟨(.aload_n 0, 1, .inl 0, 0, 0), by subst h; exact ⟨dX0_openOne_0, rfl, trivial⟩⟩ else none
    else
     if h : pc = 1 then some ⟨(.aload_n 0, 2, .inl 0, 0, 0), by subst h; exact ⟨dX0_openOne_1, rfl, trivial⟩⟩ else none
   else
    bif Nat.blt pc 5 then
     if h : pc = 2 then some ⟨(.getfield 193, 5, .inl 0, 18, 0), by subst h; exact ⟨dX0_openOne_2, rfl, ⟨⟨_, rfl, by decide, _, Or.inl q901, Or.inl rfl⟩, (show mKd 0 18 ≤ 4 by decide)⟩⟩⟩ else none
    else
     if h : pc = 5 then some ⟨(.iconst 5, 6, .inl 5, 0, 0), by subst h; exact ⟨dX0_openOne_5, rfl, ⟨5, rfl, by decide⟩⟩⟩ else none
  else
   bif Nat.blt pc 10 then
    bif Nat.blt pc 9 then
     if h : pc = 6 then some ⟨(.if_icmp .ge 7, 9, .inl 0, 13, 0), by subst h; exact ⟨dX0_openOne_6, rfl, (show ((6 : Nat) : Int) + (7) = ((13 : Nat) : Int) by decide)⟩⟩ else none
    else
     if h : pc = 9 then some ⟨(.iconst 1, 10, .inl 1, 0, 0), by subst h; exact ⟨dX0_openOne_9, rfl, ⟨1, rfl, by decide⟩⟩⟩ else none
   else
    bif Nat.blt pc 13 then
     if h : pc = 10 then some ⟨(.goto 4, 13, .inl 0, 14, 0), by subst h; exact ⟨dX0_openOne_10, rfl, (show ((10 : Nat) : Int) + (4) = ((14 : Nat) : Int) by decide)⟩⟩ else none
    else
     if h : pc = 13 then some ⟨(.iconst 0, 14, .inl 0, 0, 0), by subst h; exact ⟨dX0_openOne_13, rfl, ⟨0, rfl, by decide⟩⟩⟩ else none
 else
  bif Nat.blt pc 22 then
   bif Nat.blt pc 18 then
    bif Nat.blt pc 17 then
     if h : pc = 14 then some ⟨(.invokevirtual 196, 17, .inl 0, 138, 0), by subst h; exact ⟨dX0_openOne_14, rfl, ⟨by decide, q653, q655, qs20, _, rfl, rfl⟩⟩⟩ else none
    else
     if h : pc = 17 then some ⟨(.aload_n 0, 18, .inl 0, 0, 0), by subst h; exact ⟨dX0_openOne_17, rfl, trivial⟩⟩ else none
   else
    bif Nat.blt pc 19 then
     if h : pc = 18 then some ⟨(.dup, 19, .inl 0, 0, 0), by subst h; exact ⟨dX0_openOne_18, rfl, trivial⟩⟩ else none
    else
     if h : pc = 19 then some ⟨(.getfield 193, 22, .inl 0, 18, 0), by subst h; exact ⟨dX0_openOne_19, rfl, ⟨⟨_, rfl, by decide, _, Or.inl q901, Or.inl rfl⟩, (show mKd 0 18 ≤ 4 by decide)⟩⟩⟩ else none
  else
   bif Nat.blt pc 24 then
    bif Nat.blt pc 23 then
     if h : pc = 22 then some ⟨(.iconst 1, 23, .inl 1, 0, 0), by subst h; exact ⟨dX0_openOne_22, rfl, ⟨1, rfl, by decide⟩⟩⟩ else none
    else
     if h : pc = 23 then some ⟨(.iadd, 24, .inl 0, 0, 0), by subst h; exact ⟨dX0_openOne_23, rfl, trivial⟩⟩ else none
   else
    bif Nat.blt pc 27 then
     if h : pc = 24 then some ⟨(.putfield 193, 27, .inl 0, 18, 0), by subst h; exact ⟨dX0_openOne_24, rfl, ⟨⟨_, rfl, by decide, _, Or.inl q901, Or.inl rfl⟩, (show mKd 0 18 ≤ 4 by decide), by decide, by decide, (fun q h => Or.inl (by cases h; rfl))⟩⟩⟩ else none
    else
     if h : pc = 27 then some ⟨(.return_, 28, .inl 0, 0, 0), by subst h; exact ⟨dX0_openOne_27, rfl, rfl⟩⟩ else none

noncomputable def mt143 (pc : Nat) : Option {e : mE // mOK yX0_plus cX0_plus 3 ((Option.some (ClassFile.FieldType.object "NobodyCanLiftIt$Node"))) pc e} :=
 bif Nat.blt pc 27 then
  bif Nat.blt pc 11 then
   bif Nat.blt pc 5 then
    bif Nat.blt pc 1 then
     if h : pc = 0 then some ⟨(.aload_n 0, 1, .inl 0, 0, 0), by subst h; exact ⟨dX0_plus_0, rfl, trivial⟩⟩ else none
    else
     bif Nat.blt pc 4 then
      if h : pc = 1 then some ⟨(.invokevirtual 229, 4, .inl 0, 144, 0), by subst h; exact ⟨dX0_plus_1, rfl, ⟨by decide, q694, q696, qs26, _, rfl, rfl⟩⟩⟩ else none
     else
      if h : pc = 4 then some ⟨(.astore_n 1, 5, .inl 0, 0, 0), by subst h; exact ⟨dX0_plus_4, rfl, (show (1 : Nat) < 3 by decide)⟩⟩ else none
   else
    bif Nat.blt pc 6 then
     if h : pc = 5 then some ⟨(.aload_n 0, 6, .inl 0, 0, 0), by subst h; exact ⟨dX0_plus_5, rfl, trivial⟩⟩ else none
    else
     bif Nat.blt pc 8 then
      if h : pc = 6 then some ⟨(.bipush 43, 8, .inl 43, 0, 0), by subst h; exact ⟨dX0_plus_6, rfl, ⟨43, rfl, by decide⟩⟩⟩ else none
     else
      if h : pc = 8 then some ⟨(.invokevirtual 226, 11, .inl 0, 146, 0), by subst h; exact ⟨dX0_plus_8, rfl, ⟨by decide, q725, q727, qs28, _, rfl, rfl⟩⟩⟩ else none
  else
   bif Nat.blt pc 17 then
    bif Nat.blt pc 14 then
     if h : pc = 11 then some ⟨(.ifCond .ne 12, 14, .inl 0, 23, 0), by subst h; exact ⟨dX0_plus_11, rfl, (show ((11 : Nat) : Int) + (12) = ((23 : Nat) : Int) by decide)⟩⟩ else none
    else
     bif Nat.blt pc 15 then
      if h : pc = 14 then some ⟨(.aload_n 0, 15, .inl 0, 0, 0), by subst h; exact ⟨dX0_plus_14, rfl, trivial⟩⟩ else none
     else
      if h : pc = 15 then some ⟨(.bipush 45, 17, .inl 45, 0, 0), by subst h; exact ⟨dX0_plus_15, rfl, ⟨45, rfl, by decide⟩⟩⟩ else none
   else
    bif Nat.blt pc 23 then
     bif Nat.blt pc 20 then
      if h : pc = 17 then some ⟨(.invokevirtual 226, 20, .inl 0, 146, 0), by subst h; exact ⟨dX0_plus_17, rfl, ⟨by decide, q725, q727, qs28, _, rfl, rfl⟩⟩⟩ else none
     else
      if h : pc = 20 then some ⟨(.ifCond .eq 29, 23, .inl 0, 49, 0), by subst h; exact ⟨dX0_plus_20, rfl, (show ((20 : Nat) : Int) + (29) = ((49 : Nat) : Int) by decide)⟩⟩ else none
    else
     bif Nat.blt pc 24 then
      if h : pc = 23 then some ⟨(.aload_n 0, 24, .inl 0, 0, 0), by subst h; exact ⟨dX0_plus_23, rfl, trivial⟩⟩ else none
     else
      if h : pc = 24 then some ⟨(.getfield 159, 27, .inl 0, 17, 0), by subst h; exact ⟨dX0_plus_24, rfl, ⟨⟨_, rfl, by decide, _, Or.inl q900, Or.inl rfl⟩, (show mKd 0 17 ≤ 4 by decide)⟩⟩⟩ else none
 else
  bif Nat.blt pc 38 then
   bif Nat.blt pc 32 then
    bif Nat.blt pc 28 then
     if h : pc = 27 then some ⟨(.istore_n 2, 28, .inl 0, 0, 0), by subst h; exact ⟨dX0_plus_27, rfl, (show (2 : Nat) < 3 by decide)⟩⟩ else none
    else
     bif Nat.blt pc 29 then
      if h : pc = 28 then some ⟨(.aload_n 0, 29, .inl 0, 0, 0), by subst h; exact ⟨dX0_plus_28, rfl, trivial⟩⟩ else none
     else
      if h : pc = 29 then some ⟨(.invokevirtual 190, 32, .inl 0, 130, 0), by subst h; exact ⟨dX0_plus_29, rfl, ⟨by decide, q515, q517, qs14, _, rfl, rfl⟩⟩⟩ else none
   else
    bif Nat.blt pc 36 then
     bif Nat.blt pc 35 then
      if h : pc = 32 then some ⟨(.new 207, 35, .inl 0, 13, 0), by subst h; exact ⟨dX0_plus_32, rfl, Or.inr ⟨_, rfl, q729, q730, q146, by decide⟩⟩⟩ else none
     else
      if h : pc = 35 then some ⟨(.dup, 36, .inl 0, 0, 0), by subst h; exact ⟨dX0_plus_35, rfl, trivial⟩⟩ else none
    else
     bif Nat.blt pc 37 then
      if h : pc = 36 then some ⟨(.iload_n 2, 37, .inl 0, 0, 0), by subst h; exact ⟨dX0_plus_36, rfl, trivial⟩⟩ else none
     else
      if h : pc = 37 then some ⟨(.aload_n 1, 38, .inl 0, 0, 0), by subst h; exact ⟨dX0_plus_37, rfl, trivial⟩⟩ else none
  else
   bif Nat.blt pc 45 then
    bif Nat.blt pc 39 then
     if h : pc = 38 then some ⟨(.aload_n 0, 39, .inl 0, 0, 0), by subst h; exact ⟨dX0_plus_38, rfl, trivial⟩⟩ else none
    else
     bif Nat.blt pc 42 then
      if h : pc = 39 then some ⟨(.invokevirtual 229, 42, .inl 0, 144, 0), by subst h; exact ⟨dX0_plus_39, rfl, ⟨by decide, q694, q696, qs26, _, rfl, rfl⟩⟩⟩ else none
     else
      if h : pc = 42 then some ⟨(.invokespecial 209, 45, .inl 0, 257, 1), by subst h; exact ⟨dX0_plus_42, rfl, ⟨by decide, rfl, q731, q732⟩⟩⟩ else none
   else
    bif Nat.blt pc 49 then
     bif Nat.blt pc 46 then
      if h : pc = 45 then some ⟨(.astore_n 1, 46, .inl 0, 0, 0), by subst h; exact ⟨dX0_plus_45, rfl, (show (1 : Nat) < 3 by decide)⟩⟩ else none
     else
      if h : pc = 46 then some ⟨(.goto (-41), 49, .inl 0, 5, 0), by subst h; exact ⟨dX0_plus_46, rfl, (show ((46 : Nat) : Int) + ((-41)) = ((5 : Nat) : Int) by decide)⟩⟩ else none
    else
     bif Nat.blt pc 50 then
      if h : pc = 49 then some ⟨(.aload_n 1, 50, .inl 0, 0, 0), by subst h; exact ⟨dX0_plus_49, rfl, trivial⟩⟩ else none
     else
      if h : pc = 50 then some ⟨(.areturn, 51, .inl 0, 0, 0), by subst h; exact ⟨dX0_plus_50, rfl, ⟨_, rfl, Or.inl ⟨_, rfl⟩⟩⟩⟩ else none

noncomputable def mt144 (pc : Nat) : Option {e : mE // mOK yX0_times cX0_times 2 ((Option.some (ClassFile.FieldType.object "NobodyCanLiftIt$Node"))) pc e} :=
 bif Nat.blt pc 21 then
  bif Nat.blt pc 8 then
   bif Nat.blt pc 4 then
    bif Nat.blt pc 1 then
     if h : pc = 0 then some ⟨(.aload_n 0, 1, .inl 0, 0, 0), by subst h; exact ⟨dX0_times_0, rfl, trivial⟩⟩ else none
    else
     if h : pc = 1 then some ⟨(.invokevirtual 232, 4, .inl 0, 145, 0), by subst h; exact ⟨dX0_times_1, rfl, ⟨by decide, q698, q700, qs27, _, rfl, rfl⟩⟩⟩ else none
   else
    bif Nat.blt pc 5 then
     if h : pc = 4 then some ⟨(.astore_n 1, 5, .inl 0, 0, 0), by subst h; exact ⟨dX0_times_4, rfl, (show (1 : Nat) < 2 by decide)⟩⟩ else none
    else
     bif Nat.blt pc 6 then
      if h : pc = 5 then some ⟨(.aload_n 0, 6, .inl 0, 0, 0), by subst h; exact ⟨dX0_times_5, rfl, trivial⟩⟩ else none
     else
      if h : pc = 6 then some ⟨(.bipush 42, 8, .inl 42, 0, 0), by subst h; exact ⟨dX0_times_6, rfl, ⟨42, rfl, by decide⟩⟩⟩ else none
  else
   bif Nat.blt pc 14 then
    bif Nat.blt pc 11 then
     if h : pc = 8 then some ⟨(.invokevirtual 226, 11, .inl 0, 146, 0), by subst h; exact ⟨dX0_times_8, rfl, ⟨by decide, q725, q727, qs28, _, rfl, rfl⟩⟩⟩ else none
    else
     if h : pc = 11 then some ⟨(.ifCond .eq 25, 14, .inl 0, 36, 0), by subst h; exact ⟨dX0_times_11, rfl, (show ((11 : Nat) : Int) + (25) = ((36 : Nat) : Int) by decide)⟩⟩ else none
   else
    bif Nat.blt pc 15 then
     if h : pc = 14 then some ⟨(.aload_n 0, 15, .inl 0, 0, 0), by subst h; exact ⟨dX0_times_14, rfl, trivial⟩⟩ else none
    else
     bif Nat.blt pc 18 then
      if h : pc = 15 then some ⟨(.invokevirtual 190, 18, .inl 0, 130, 0), by subst h; exact ⟨dX0_times_15, rfl, ⟨by decide, q515, q517, qs14, _, rfl, rfl⟩⟩⟩ else none
     else
      if h : pc = 18 then some ⟨(.new 207, 21, .inl 0, 13, 0), by subst h; exact ⟨dX0_times_18, rfl, Or.inr ⟨_, rfl, q729, q730, q146, by decide⟩⟩⟩ else none
 else
  bif Nat.blt pc 29 then
   bif Nat.blt pc 24 then
    bif Nat.blt pc 22 then
     if h : pc = 21 then some ⟨(.dup, 22, .inl 0, 0, 0), by subst h; exact ⟨dX0_times_21, rfl, trivial⟩⟩ else none
    else
     if h : pc = 22 then some ⟨(.bipush 42, 24, .inl 42, 0, 0), by subst h; exact ⟨dX0_times_22, rfl, ⟨42, rfl, by decide⟩⟩⟩ else none
   else
    bif Nat.blt pc 25 then
     if h : pc = 24 then some ⟨(.aload_n 1, 25, .inl 0, 0, 0), by subst h; exact ⟨dX0_times_24, rfl, trivial⟩⟩ else none
    else
     bif Nat.blt pc 26 then
      if h : pc = 25 then some ⟨(.aload_n 0, 26, .inl 0, 0, 0), by subst h; exact ⟨dX0_times_25, rfl, trivial⟩⟩ else none
     else
      if h : pc = 26 then some ⟨(.invokevirtual 232, 29, .inl 0, 145, 0), by subst h; exact ⟨dX0_times_26, rfl, ⟨by decide, q698, q700, qs27, _, rfl, rfl⟩⟩⟩ else none
  else
   bif Nat.blt pc 33 then
    bif Nat.blt pc 32 then
     if h : pc = 29 then some ⟨(.invokespecial 209, 32, .inl 0, 257, 1), by subst h; exact ⟨dX0_times_29, rfl, ⟨by decide, rfl, q731, q732⟩⟩⟩ else none
    else
     if h : pc = 32 then some ⟨(.astore_n 1, 33, .inl 0, 0, 0), by subst h; exact ⟨dX0_times_32, rfl, (show (1 : Nat) < 2 by decide)⟩⟩ else none
   else
    bif Nat.blt pc 36 then
     if h : pc = 33 then some ⟨(.goto (-28), 36, .inl 0, 5, 0), by subst h; exact ⟨dX0_times_33, rfl, (show ((33 : Nat) : Int) + ((-28)) = ((5 : Nat) : Int) by decide)⟩⟩ else none
    else
     bif Nat.blt pc 37 then
      if h : pc = 36 then some ⟨(.aload_n 1, 37, .inl 0, 0, 0), by subst h; exact ⟨dX0_times_36, rfl, trivial⟩⟩ else none
     else
      if h : pc = 37 then some ⟨(.areturn, 38, .inl 0, 0, 0), by subst h; exact ⟨dX0_times_37, rfl, ⟨_, rfl, Or.inl ⟨_, rfl⟩⟩⟩⟩ else none

noncomputable def mt145 (pc : Nat) : Option {e : mE // mOK yX0_one cX0_one 3 ((Option.some (ClassFile.FieldType.object "NobodyCanLiftIt$Node"))) pc e} :=
 bif Nat.blt pc 71 then
  bif Nat.blt pc 35 then
   bif Nat.blt pc 17 then
    bif Nat.blt pc 6 then
     bif Nat.blt pc 4 then
      bif Nat.blt pc 1 then
       if h : pc = 0 then some ⟨(.aload_n 0, 1, .inl 0, 0, 0), by subst h; exact ⟨dX0_one_0, rfl, trivial⟩⟩ else none
      else
       if h : pc = 1 then some ⟨(.getfield 159, 4, .inl 0, 17, 0), by subst h; exact ⟨dX0_one_1, rfl, ⟨⟨_, rfl, by decide, _, Or.inl q900, Or.inl rfl⟩, (show mKd 0 17 ≤ 4 by decide)⟩⟩⟩ else none
     else
      bif Nat.blt pc 5 then
       if h : pc = 4 then some ⟨(.istore_n 1, 5, .inl 0, 0, 0), by subst h; exact ⟨dX0_one_4, rfl, (show (1 : Nat) < 3 by decide)⟩⟩ else none
      else
       if h : pc = 5 then some ⟨(.aload_n 0, 6, .inl 0, 0, 0), by subst h; exact ⟨dX0_one_5, rfl, trivial⟩⟩ else none
    else
     bif Nat.blt pc 10 then
      bif Nat.blt pc 9 then
       if h : pc = 6 then some ⟨(.getfield 143, 9, .inl 0, 16, 0), by subst h; exact ⟨dX0_one_6, rfl, ⟨⟨_, rfl, by decide, _, Or.inl q899, Or.inl rfl⟩, (show mKd 0 16 ≤ 4 by decide)⟩⟩⟩ else none
      else
       if h : pc = 9 then some ⟨(.iconst 3, 10, .inl 3, 0, 0), by subst h; exact ⟨dX0_one_9, rfl, ⟨3, rfl, by decide⟩⟩⟩ else none
     else
      bif Nat.blt pc 13 then
       if h : pc = 10 then some ⟨(.if_icmp .ne 16, 13, .inl 0, 26, 0), by subst h; exact ⟨dX0_one_10, rfl, (show ((10 : Nat) : Int) + (16) = ((26 : Nat) : Int) by decide)⟩⟩ else none
      else
       bif Nat.blt pc 14 then
        if h : pc = 13 then some ⟨(.aload_n 0, 14, .inl 0, 0, 0), by subst h; exact ⟨dX0_one_13, rfl, trivial⟩⟩ else none
       else
        if h : pc = 14 then some ⟨(.invokevirtual 190, 17, .inl 0, 130, 0), by subst h; exact ⟨dX0_one_14, rfl, ⟨by decide, q515, q517, qs14, _, rfl, rfl⟩⟩⟩ else none
   else
    bif Nat.blt pc 26 then
     bif Nat.blt pc 21 then
      bif Nat.blt pc 20 then
       if h : pc = 17 then some ⟨(.new 235, 20, .inl 0, 10, 0), by subst h; exact ⟨dX0_one_17, rfl, Or.inr ⟨_, rfl, q702, q703, q144, by decide⟩⟩⟩ else none
      else
       if h : pc = 20 then some ⟨(.dup, 21, .inl 0, 0, 0), by subst h; exact ⟨dX0_one_20, rfl, trivial⟩⟩ else none
     else
      bif Nat.blt pc 22 then
       if h : pc = 21 then some ⟨(.iload_n 1, 22, .inl 0, 0, 0), by subst h; exact ⟨dX0_one_21, rfl, trivial⟩⟩ else none
      else
       bif Nat.blt pc 25 then
        if h : pc = 22 then some ⟨(.invokespecial 237, 25, .inl 0, 251, 1), by subst h; exact ⟨dX0_one_22, rfl, ⟨by decide, rfl, q704, q705⟩⟩⟩ else none
       else
        if h : pc = 25 then some ⟨(.areturn, 26, .inl 0, 0, 0), by subst h; exact ⟨dX0_one_25, rfl, ⟨_, rfl, Or.inl ⟨_, rfl⟩⟩⟩⟩ else none
    else
     bif Nat.blt pc 30 then
      bif Nat.blt pc 27 then
       if h : pc = 26 then some ⟨(.aload_n 0, 27, .inl 0, 0, 0), by subst h; exact ⟨dX0_one_26, rfl, trivial⟩⟩ else none
      else
       if h : pc = 27 then some ⟨(.getfield 143, 30, .inl 0, 16, 0), by subst h; exact ⟨dX0_one_27, rfl, ⟨⟨_, rfl, by decide, _, Or.inl q899, Or.inl rfl⟩, (show mKd 0 16 ≤ 4 by decide)⟩⟩⟩ else none
     else
      bif Nat.blt pc 31 then
       if h : pc = 30 then some ⟨(.iconst 2, 31, .inl 2, 0, 0), by subst h; exact ⟨dX0_one_30, rfl, ⟨2, rfl, by decide⟩⟩⟩ else none
      else
       bif Nat.blt pc 34 then
        if h : pc = 31 then some ⟨(.if_icmp .ne 17, 34, .inl 0, 48, 0), by subst h; exact ⟨dX0_one_31, rfl, (show ((31 : Nat) : Int) + (17) = ((48 : Nat) : Int) by decide)⟩⟩ else none
       else
        if h : pc = 34 then some ⟨(.aload_n 0, 35, .inl 0, 0, 0), by subst h; exact ⟨dX0_one_34, rfl, trivial⟩⟩ else none
  else
   bif Nat.blt pc 51 then
    bif Nat.blt pc 43 then
     bif Nat.blt pc 41 then
      bif Nat.blt pc 38 then
       if h : pc = 35 then some ⟨(.invokevirtual 190, 38, .inl 0, 130, 0), by subst h; exact ⟨dX0_one_35, rfl, ⟨by decide, q515, q517, qs14, _, rfl, rfl⟩⟩⟩ else none
      else
       if h : pc = 38 then some ⟨(.new 240, 41, .inl 0, 11, 0), by subst h; exact ⟨dX0_one_38, rfl, Or.inr ⟨_, rfl, q712, q713, q145, by decide⟩⟩⟩ else none
     else
      bif Nat.blt pc 42 then
       if h : pc = 41 then some ⟨(.dup, 42, .inl 0, 0, 0), by subst h; exact ⟨dX0_one_41, rfl, trivial⟩⟩ else none
      else
       if h : pc = 42 then some ⟨(.aload_n 0, 43, .inl 0, 0, 0), by subst h; exact ⟨dX0_one_42, rfl, trivial⟩⟩ else none
    else
     bif Nat.blt pc 47 then
      bif Nat.blt pc 44 then
       if h : pc = 43 then some ⟨(.iload_n 1, 44, .inl 0, 0, 0), by subst h; exact ⟨dX0_one_43, rfl, trivial⟩⟩ else none
      else
       if h : pc = 44 then some ⟨(.invokespecial 242, 47, .inl 0, 253, 1), by subst h; exact ⟨dX0_one_44, rfl, ⟨by decide, rfl, q714, q715⟩⟩⟩ else none
     else
      bif Nat.blt pc 48 then
       if h : pc = 47 then some ⟨(.areturn, 48, .inl 0, 0, 0), by subst h; exact ⟨dX0_one_47, rfl, ⟨_, rfl, Or.inl ⟨_, rfl⟩⟩⟩⟩ else none
      else
       bif Nat.blt pc 49 then
        if h : pc = 48 then some ⟨(.aload_n 0, 49, .inl 0, 0, 0), by subst h; exact ⟨dX0_one_48, rfl, trivial⟩⟩ else none
       else
        if h : pc = 49 then some ⟨(.bipush 45, 51, .inl 45, 0, 0), by subst h; exact ⟨dX0_one_49, rfl, ⟨45, rfl, by decide⟩⟩⟩ else none
   else
    bif Nat.blt pc 62 then
     bif Nat.blt pc 57 then
      bif Nat.blt pc 54 then
       if h : pc = 51 then some ⟨(.invokevirtual 226, 54, .inl 0, 146, 0), by subst h; exact ⟨dX0_one_51, rfl, ⟨by decide, q725, q727, qs28, _, rfl, rfl⟩⟩⟩ else none
      else
       if h : pc = 54 then some ⟨(.ifCond .eq 32, 57, .inl 0, 86, 0), by subst h; exact ⟨dX0_one_54, rfl, (show ((54 : Nat) : Int) + (32) = ((86 : Nat) : Int) by decide)⟩⟩ else none
     else
      bif Nat.blt pc 58 then
       if h : pc = 57 then some ⟨(.aload_n 0, 58, .inl 0, 0, 0), by subst h; exact ⟨dX0_one_57, rfl, trivial⟩⟩ else none
      else
       bif Nat.blt pc 61 then
        if h : pc = 58 then some ⟨(.invokevirtual 215, 61, .inl 0, 142, 0), by subst h; exact ⟨dX0_one_58, rfl, ⟨by decide, q669, q671, qs24, _, rfl, rfl⟩⟩⟩ else none
       else
        if h : pc = 61 then some ⟨(.aload_n 0, 62, .inl 0, 0, 0), by subst h; exact ⟨dX0_one_61, rfl, trivial⟩⟩ else none
    else
     bif Nat.blt pc 66 then
      bif Nat.blt pc 65 then
       if h : pc = 62 then some ⟨(.invokevirtual 232, 65, .inl 0, 145, 0), by subst h; exact ⟨dX0_one_62, rfl, ⟨by decide, q698, q700, qs27, _, rfl, rfl⟩⟩⟩ else none
      else
       if h : pc = 65 then some ⟨(.astore_n 2, 66, .inl 0, 0, 0), by subst h; exact ⟨dX0_one_65, rfl, (show (2 : Nat) < 3 by decide)⟩⟩ else none
     else
      bif Nat.blt pc 67 then
       if h : pc = 66 then some ⟨(.aload_n 0, 67, .inl 0, 0, 0), by subst h; exact ⟨dX0_one_66, rfl, trivial⟩⟩ else none
      else
       bif Nat.blt pc 68 then
        if h : pc = 67 then some ⟨(.dup, 68, .inl 0, 0, 0), by subst h; exact ⟨dX0_one_67, rfl, trivial⟩⟩ else none
       else
        if h : pc = 68 then some ⟨(.getfield 193, 71, .inl 0, 18, 0), by subst h; exact ⟨dX0_one_68, rfl, ⟨⟨_, rfl, by decide, _, Or.inl q901, Or.inl rfl⟩, (show mKd 0 18 ≤ 4 by decide)⟩⟩⟩ else none
 else
  bif Nat.blt pc 105 then
   bif Nat.blt pc 86 then
    bif Nat.blt pc 79 then
     bif Nat.blt pc 73 then
      bif Nat.blt pc 72 then
       if h : pc = 71 then some ⟨(.iconst 1, 72, .inl 1, 0, 0), by subst h; exact ⟨dX0_one_71, rfl, ⟨1, rfl, by decide⟩⟩⟩ else none
      else
       if h : pc = 72 then some ⟨(.isub, 73, .inl 0, 0, 0), by subst h; exact ⟨dX0_one_72, rfl, trivial⟩⟩ else none
     else
      bif Nat.blt pc 76 then
       if h : pc = 73 then some ⟨(.putfield 193, 76, .inl 0, 18, 0), by subst h; exact ⟨dX0_one_73, rfl, ⟨⟨_, rfl, by decide, _, Or.inl q901, Or.inl rfl⟩, (show mKd 0 18 ≤ 4 by decide), by decide, by decide, (fun q h => Or.inl (by cases h; rfl))⟩⟩⟩ else none
      else
       if h : pc = 76 then some ⟨(.new 218, 79, .inl 0, 12, 0), by subst h; exact ⟨dX0_one_76, rfl, Or.inr ⟨_, rfl, q673, q674, q143, by decide⟩⟩⟩ else none
    else
     bif Nat.blt pc 81 then
      bif Nat.blt pc 80 then
       if h : pc = 79 then some ⟨(.dup, 80, .inl 0, 0, 0), by subst h; exact ⟨dX0_one_79, rfl, trivial⟩⟩ else none
      else
       if h : pc = 80 then some ⟨(.aload_n 2, 81, .inl 0, 0, 0), by subst h; exact ⟨dX0_one_80, rfl, trivial⟩⟩ else none
     else
      bif Nat.blt pc 82 then
       if h : pc = 81 then some ⟨(.iconst 1, 82, .inl 1, 0, 0), by subst h; exact ⟨dX0_one_81, rfl, ⟨1, rfl, by decide⟩⟩⟩ else none
      else
       bif Nat.blt pc 85 then
        if h : pc = 82 then some ⟨(.invokespecial 220, 85, .inl 0, 255, 1), by subst h; exact ⟨dX0_one_82, rfl, ⟨by decide, rfl, q675, q676⟩⟩⟩ else none
       else
        if h : pc = 85 then some ⟨(.areturn, 86, .inl 0, 0, 0), by subst h; exact ⟨dX0_one_85, rfl, ⟨_, rfl, Or.inl ⟨_, rfl⟩⟩⟩⟩ else none
   else
    bif Nat.blt pc 96 then
     bif Nat.blt pc 89 then
      bif Nat.blt pc 87 then
       if h : pc = 86 then some ⟨(.aload_n 0, 87, .inl 0, 0, 0), by subst h; exact ⟨dX0_one_86, rfl, trivial⟩⟩ else none
      else
       if h : pc = 87 then some ⟨(.bipush 40, 89, .inl 40, 0, 0), by subst h; exact ⟨dX0_one_87, rfl, ⟨40, rfl, by decide⟩⟩⟩ else none
     else
      bif Nat.blt pc 92 then
       if h : pc = 89 then some ⟨(.invokevirtual 226, 92, .inl 0, 146, 0), by subst h; exact ⟨dX0_one_89, rfl, ⟨by decide, q725, q727, qs28, _, rfl, rfl⟩⟩⟩ else none
      else
       bif Nat.blt pc 95 then
        if h : pc = 92 then some ⟨(.ifCond .ne 8, 95, .inl 0, 100, 0), by subst h; exact ⟨dX0_one_92, rfl, (show ((92 : Nat) : Int) + (8) = ((100 : Nat) : Int) by decide)⟩⟩ else none
       else
        if h : pc = 95 then some ⟨(.aload_n 0, 96, .inl 0, 0, 0), by subst h; exact ⟨dX0_one_95, rfl, trivial⟩⟩ else none
    else
     bif Nat.blt pc 100 then
      bif Nat.blt pc 99 then
       if h : pc = 96 then some ⟨(.getfield 169, 99, .inr (.inr none), 5, 0), by subst h; exact ⟨dX0_one_96, rfl, ⟨⟨_, rfl, by decide, _, Or.inl q887, Or.inl rfl⟩, (show mKd 0 5 = 6 by rfl)⟩⟩⟩ else none
      else
       if h : pc = 99 then some ⟨(.athrow, 100, .inl 0, 0, 0), by subst h; exact ⟨dX0_one_99, rfl, trivial⟩⟩ else none
     else
      bif Nat.blt pc 101 then
       if h : pc = 100 then some ⟨(.aload_n 0, 101, .inl 0, 0, 0), by subst h; exact ⟨dX0_one_100, rfl, trivial⟩⟩ else none
      else
       bif Nat.blt pc 104 then
        if h : pc = 101 then some ⟨(.invokevirtual 215, 104, .inl 0, 142, 0), by subst h; exact ⟨dX0_one_101, rfl, ⟨by decide, q669, q671, qs24, _, rfl, rfl⟩⟩⟩ else none
       else
        if h : pc = 104 then some ⟨(.aload_n 0, 105, .inl 0, 0, 0), by subst h; exact ⟨dX0_one_104, rfl, trivial⟩⟩ else none
  else
   bif Nat.blt pc 123 then
    bif Nat.blt pc 112 then
     bif Nat.blt pc 109 then
      bif Nat.blt pc 108 then
       if h : pc = 105 then some ⟨(.invokevirtual 245, 108, .inl 0, 139, 0), by subst h; exact ⟨dX0_one_105, rfl, ⟨by decide, q657, q659, qs21, _, rfl, rfl⟩⟩⟩ else none
      else
       if h : pc = 108 then some ⟨(.astore_n 2, 109, .inl 0, 0, 0), by subst h; exact ⟨dX0_one_108, rfl, (show (2 : Nat) < 3 by decide)⟩⟩ else none
     else
      bif Nat.blt pc 110 then
       if h : pc = 109 then some ⟨(.aload_n 0, 110, .inl 0, 0, 0), by subst h; exact ⟨dX0_one_109, rfl, trivial⟩⟩ else none
      else
       if h : pc = 110 then some ⟨(.bipush 41, 112, .inl 41, 0, 0), by subst h; exact ⟨dX0_one_110, rfl, ⟨41, rfl, by decide⟩⟩⟩ else none
    else
     bif Nat.blt pc 118 then
      bif Nat.blt pc 115 then
       if h : pc = 112 then some ⟨(.invokevirtual 226, 115, .inl 0, 146, 0), by subst h; exact ⟨dX0_one_112, rfl, ⟨by decide, q725, q727, qs28, _, rfl, rfl⟩⟩⟩ else none
      else
       if h : pc = 115 then some ⟨(.ifCond .ne 8, 118, .inl 0, 123, 0), by subst h; exact ⟨dX0_one_115, rfl, (show ((115 : Nat) : Int) + (8) = ((123 : Nat) : Int) by decide)⟩⟩ else none
     else
      bif Nat.blt pc 119 then
       if h : pc = 118 then some ⟨(.aload_n 0, 119, .inl 0, 0, 0), by subst h; exact ⟨dX0_one_118, rfl, trivial⟩⟩ else none
      else
       bif Nat.blt pc 122 then
        if h : pc = 119 then some ⟨(.getfield 169, 122, .inr (.inr none), 5, 0), by subst h; exact ⟨dX0_one_119, rfl, ⟨⟨_, rfl, by decide, _, Or.inl q887, Or.inl rfl⟩, (show mKd 0 5 = 6 by rfl)⟩⟩⟩ else none
       else
        if h : pc = 122 then some ⟨(.athrow, 123, .inl 0, 0, 0), by subst h; exact ⟨dX0_one_122, rfl, trivial⟩⟩ else none
   else
    bif Nat.blt pc 130 then
     bif Nat.blt pc 125 then
      bif Nat.blt pc 124 then
       if h : pc = 123 then some ⟨(.aload_n 0, 124, .inl 0, 0, 0), by subst h; exact ⟨dX0_one_123, rfl, trivial⟩⟩ else none
      else
       if h : pc = 124 then some ⟨(.dup, 125, .inl 0, 0, 0), by subst h; exact ⟨dX0_one_124, rfl, trivial⟩⟩ else none
     else
      bif Nat.blt pc 128 then
       if h : pc = 125 then some ⟨(.getfield 193, 128, .inl 0, 18, 0), by subst h; exact ⟨dX0_one_125, rfl, ⟨⟨_, rfl, by decide, _, Or.inl q901, Or.inl rfl⟩, (show mKd 0 18 ≤ 4 by decide)⟩⟩⟩ else none
      else
       bif Nat.blt pc 129 then
        if h : pc = 128 then some ⟨(.iconst 1, 129, .inl 1, 0, 0), by subst h; exact ⟨dX0_one_128, rfl, ⟨1, rfl, by decide⟩⟩⟩ else none
       else
        if h : pc = 129 then some ⟨(.isub, 130, .inl 0, 0, 0), by subst h; exact ⟨dX0_one_129, rfl, trivial⟩⟩ else none
    else
     bif Nat.blt pc 134 then
      bif Nat.blt pc 133 then
       if h : pc = 130 then some ⟨(.putfield 193, 133, .inl 0, 18, 0), by subst h; exact ⟨dX0_one_130, rfl, ⟨⟨_, rfl, by decide, _, Or.inl q901, Or.inl rfl⟩, (show mKd 0 18 ≤ 4 by decide), by decide, by decide, (fun q h => Or.inl (by cases h; rfl))⟩⟩⟩ else none
      else
       if h : pc = 133 then some ⟨(.aload_n 0, 134, .inl 0, 0, 0), by subst h; exact ⟨dX0_one_133, rfl, trivial⟩⟩ else none
     else
      bif Nat.blt pc 137 then
       if h : pc = 134 then some ⟨(.invokevirtual 190, 137, .inl 0, 130, 0), by subst h; exact ⟨dX0_one_134, rfl, ⟨by decide, q515, q517, qs14, _, rfl, rfl⟩⟩⟩ else none
      else
       bif Nat.blt pc 138 then
        if h : pc = 137 then some ⟨(.aload_n 2, 138, .inl 0, 0, 0), by subst h; exact ⟨dX0_one_137, rfl, trivial⟩⟩ else none
       else
        if h : pc = 138 then some ⟨(.areturn, 139, .inl 0, 0, 0), by subst h; exact ⟨dX0_one_138, rfl, ⟨_, rfl, Or.inl ⟨_, rfl⟩⟩⟩⟩ else none

noncomputable def mt146 (pc : Nat) : Option {e : mE // mOK yX0_isSign cX0_isSign 2 ((Option.some ClassFile.FieldType.boolean)) pc e} :=
 bif Nat.blt pc 12 then
  bif Nat.blt pc 5 then
   bif Nat.blt pc 1 then
    if h : pc = 0 then some ⟨(.aload_n 0, 1, .inl 0, 0, 0), by subst h; exact ⟨dX0_isSign_0, rfl, trivial⟩⟩ else none
   else
    bif Nat.blt pc 4 then
     if h : pc = 1 then some ⟨(.getfield 143, 4, .inl 0, 16, 0), by subst h; exact ⟨dX0_isSign_1, rfl, ⟨⟨_, rfl, by decide, _, Or.inl q899, Or.inl rfl⟩, (show mKd 0 16 ≤ 4 by decide)⟩⟩⟩ else none
    else
     if h : pc = 4 then some ⟨(.iconst 4, 5, .inl 4, 0, 0), by subst h; exact ⟨dX0_isSign_4, rfl, ⟨4, rfl, by decide⟩⟩⟩ else none
  else
   bif Nat.blt pc 8 then
    if h : pc = 5 then some ⟨(.if_icmp .ne 15, 8, .inl 0, 20, 0), by subst h; exact ⟨dX0_isSign_5, rfl, (show ((5 : Nat) : Int) + (15) = ((20 : Nat) : Int) by decide)⟩⟩ else none
   else
    bif Nat.blt pc 9 then
     if h : pc = 8 then some ⟨(.aload_n 0, 9, .inl 0, 0, 0), by subst h; exact ⟨dX0_isSign_8, rfl, trivial⟩⟩ else none
    else
     if h : pc = 9 then some ⟨(.getfield 159, 12, .inl 0, 17, 0), by subst h; exact ⟨dX0_isSign_9, rfl, ⟨⟨_, rfl, by decide, _, Or.inl q900, Or.inl rfl⟩, (show mKd 0 17 ≤ 4 by decide)⟩⟩⟩ else none
 else
  bif Nat.blt pc 17 then
   bif Nat.blt pc 13 then
    if h : pc = 12 then some ⟨(.iload_n 1, 13, .inl 0, 0, 0), by subst h; exact ⟨dX0_isSign_12, rfl, trivial⟩⟩ else none
   else
    bif Nat.blt pc 16 then
     if h : pc = 13 then some ⟨(.if_icmp .ne 7, 16, .inl 0, 20, 0), by subst h; exact ⟨dX0_isSign_13, rfl, (show ((13 : Nat) : Int) + (7) = ((20 : Nat) : Int) by decide)⟩⟩ else none
    else
     if h : pc = 16 then some ⟨(.iconst 1, 17, .inl 1, 0, 0), by subst h; exact ⟨dX0_isSign_16, rfl, ⟨1, rfl, by decide⟩⟩⟩ else none
  else
   bif Nat.blt pc 20 then
    if h : pc = 17 then some ⟨(.goto 4, 20, .inl 0, 21, 0), by subst h; exact ⟨dX0_isSign_17, rfl, (show ((17 : Nat) : Int) + (4) = ((21 : Nat) : Int) by decide)⟩⟩ else none
   else
    bif Nat.blt pc 21 then
     if h : pc = 20 then some ⟨(.iconst 0, 21, .inl 0, 0, 0), by subst h; exact ⟨dX0_isSign_20, rfl, ⟨0, rfl, by decide⟩⟩⟩ else none
    else
     if h : pc = 21 then some ⟨(.ireturn, 22, .inl 0, 1, 0), by subst h; exact ⟨dX0_isSign_21, rfl, rfl⟩⟩ else none

noncomputable def mt147 (pc : Nat) : Option {e : mE // mOK yX0_init cX0_init 1 ((Option.none : Option ClassFile.FieldType)) pc e} :=
 bif Nat.blt pc 150 then
  bif Nat.blt pc 67 then
   bif Nat.blt pc 33 then
    bif Nat.blt pc 19 then
     bif Nat.blt pc 9 then
      bif Nat.blt pc 4 then
       bif Nat.blt pc 1 then
        if h : pc = 0 then some ⟨(.aload_n 0, 1, .inl 0, 0, 0), by subst h; exact ⟨dX0_init_0, rfl, trivial⟩⟩ else none
       else
        if h : pc = 1 then some ⟨(.invokespecial 267, 4, .inl 0, 999, 0), by subst h; exact ⟨dX0_init_1, rfl, ⟨rfl, q749, q184, q185⟩⟩⟩ else none
      else
       bif Nat.blt pc 5 then
        if h : pc = 4 then some ⟨(.aload_n 0, 5, .inl 0, 0, 0), by subst h; exact ⟨dX0_init_4, rfl, trivial⟩⟩ else none
       else
        bif Nat.blt pc 6 then
         if h : pc = 5 then some ⟨(.iconst 5, 6, .inl 5, 0, 0), by subst h; exact ⟨dX0_init_5, rfl, ⟨5, rfl, by decide⟩⟩⟩ else none
        else
         if h : pc = 6 then some ⟨(.anewarray 40, 9, .inl 0, 4, 0), by subst h; exact ⟨dX0_init_6, rfl, ⟨by decide, by decide, by decide, Or.inl ⟨_, rfl, q260⟩⟩⟩⟩ else none
     else
      bif Nat.blt pc 15 then
       bif Nat.blt pc 12 then
        if h : pc = 9 then some ⟨(.putfield 47, 12, .inr (.inr none), 0, 0), by subst h; exact ⟨dX0_init_9, rfl, ⟨⟨_, rfl, by decide, _, Or.inl q880, Or.inl rfl⟩, (show mKd 0 0 = 6 by rfl), by decide, by decide, (fun q h => Or.inr (by cases h; exact ⟨rfl, rfl, rfl, q880⟩))⟩⟩⟩ else none
       else
        bif Nat.blt pc 13 then
         if h : pc = 12 then some ⟨(.aload_n 0, 13, .inl 0, 0, 0), by subst h; exact ⟨dX0_init_12, rfl, trivial⟩⟩ else none
        else
         if h : pc = 13 then some ⟨(.bipush 10, 15, .inl 10, 0, 0), by subst h; exact ⟨dX0_init_13, rfl, ⟨10, rfl, by decide⟩⟩⟩ else none
      else
       bif Nat.blt pc 17 then
        if h : pc = 15 then some ⟨(.newarray .int, 17, .inl 0, 0, 0), by subst h; exact ⟨dX0_init_15, rfl, ⟨q832, rfl, by decide, by decide⟩⟩⟩ else none
       else
        bif Nat.blt pc 18 then
         if h : pc = 17 then some ⟨(.dup, 18, .inl 0, 0, 0), by subst h; exact ⟨dX0_init_17, rfl, trivial⟩⟩ else none
        else
         if h : pc = 18 then some ⟨(.iconst 0, 19, .inl 0, 0, 0), by subst h; exact ⟨dX0_init_18, rfl, ⟨0, rfl, by decide⟩⟩⟩ else none
    else
     bif Nat.blt pc 26 then
      bif Nat.blt pc 22 then
       bif Nat.blt pc 20 then
        if h : pc = 19 then some ⟨(.iconst 5, 20, .inl 5, 0, 0), by subst h; exact ⟨dX0_init_19, rfl, ⟨5, rfl, by decide⟩⟩⟩ else none
       else
        bif Nat.blt pc 21 then
         if h : pc = 20 then some ⟨(.iastore, 21, .inl 0, 0, 0), by subst h; exact ⟨dX0_init_20, rfl, trivial⟩⟩ else none
        else
         if h : pc = 21 then some ⟨(.dup, 22, .inl 0, 0, 0), by subst h; exact ⟨dX0_init_21, rfl, trivial⟩⟩ else none
      else
       bif Nat.blt pc 23 then
        if h : pc = 22 then some ⟨(.iconst 1, 23, .inl 1, 0, 0), by subst h; exact ⟨dX0_init_22, rfl, ⟨1, rfl, by decide⟩⟩⟩ else none
       else
        bif Nat.blt pc 25 then
         if h : pc = 23 then some ⟨(.bipush 10, 25, .inl 10, 0, 0), by subst h; exact ⟨dX0_init_23, rfl, ⟨10, rfl, by decide⟩⟩⟩ else none
        else
         if h : pc = 25 then some ⟨(.iastore, 26, .inl 0, 0, 0), by subst h; exact ⟨dX0_init_25, rfl, trivial⟩⟩ else none
     else
      bif Nat.blt pc 30 then
       bif Nat.blt pc 27 then
        if h : pc = 26 then some ⟨(.dup, 27, .inl 0, 0, 0), by subst h; exact ⟨dX0_init_26, rfl, trivial⟩⟩ else none
       else
        bif Nat.blt pc 28 then
         if h : pc = 27 then some ⟨(.iconst 2, 28, .inl 2, 0, 0), by subst h; exact ⟨dX0_init_27, rfl, ⟨2, rfl, by decide⟩⟩⟩ else none
        else
         if h : pc = 28 then some ⟨(.bipush 15, 30, .inl 15, 0, 0), by subst h; exact ⟨dX0_init_28, rfl, ⟨15, rfl, by decide⟩⟩⟩ else none
      else
       bif Nat.blt pc 31 then
        if h : pc = 30 then some ⟨(.iastore, 31, .inl 0, 0, 0), by subst h; exact ⟨dX0_init_30, rfl, trivial⟩⟩ else none
       else
        bif Nat.blt pc 32 then
         if h : pc = 31 then some ⟨(.dup, 32, .inl 0, 0, 0), by subst h; exact ⟨dX0_init_31, rfl, trivial⟩⟩ else none
        else
         if h : pc = 32 then some ⟨(.iconst 3, 33, .inl 3, 0, 0), by subst h; exact ⟨dX0_init_32, rfl, ⟨3, rfl, by decide⟩⟩⟩ else none
   else
    bif Nat.blt pc 49 then
     bif Nat.blt pc 41 then
      bif Nat.blt pc 37 then
       bif Nat.blt pc 35 then
        if h : pc = 33 then some ⟨(.bipush 20, 35, .inl 20, 0, 0), by subst h; exact ⟨dX0_init_33, rfl, ⟨20, rfl, by decide⟩⟩⟩ else none
       else
        bif Nat.blt pc 36 then
         if h : pc = 35 then some ⟨(.iastore, 36, .inl 0, 0, 0), by subst h; exact ⟨dX0_init_35, rfl, trivial⟩⟩ else none
        else
         if h : pc = 36 then some ⟨(.dup, 37, .inl 0, 0, 0), by subst h; exact ⟨dX0_init_36, rfl, trivial⟩⟩ else none
      else
       bif Nat.blt pc 38 then
        if h : pc = 37 then some ⟨(.iconst 4, 38, .inl 4, 0, 0), by subst h; exact ⟨dX0_init_37, rfl, ⟨4, rfl, by decide⟩⟩⟩ else none
       else
        bif Nat.blt pc 40 then
         if h : pc = 38 then some ⟨(.bipush 25, 40, .inl 25, 0, 0), by subst h; exact ⟨dX0_init_38, rfl, ⟨25, rfl, by decide⟩⟩⟩ else none
        else
         if h : pc = 40 then some ⟨(.iastore, 41, .inl 0, 0, 0), by subst h; exact ⟨dX0_init_40, rfl, trivial⟩⟩ else none
     else
      bif Nat.blt pc 45 then
       bif Nat.blt pc 42 then
        if h : pc = 41 then some ⟨(.dup, 42, .inl 0, 0, 0), by subst h; exact ⟨dX0_init_41, rfl, trivial⟩⟩ else none
       else
        bif Nat.blt pc 43 then
         if h : pc = 42 then some ⟨(.iconst 5, 43, .inl 5, 0, 0), by subst h; exact ⟨dX0_init_42, rfl, ⟨5, rfl, by decide⟩⟩⟩ else none
        else
         if h : pc = 43 then some ⟨(.bipush 30, 45, .inl 30, 0, 0), by subst h; exact ⟨dX0_init_43, rfl, ⟨30, rfl, by decide⟩⟩⟩ else none
      else
       bif Nat.blt pc 46 then
        if h : pc = 45 then some ⟨(.iastore, 46, .inl 0, 0, 0), by subst h; exact ⟨dX0_init_45, rfl, trivial⟩⟩ else none
       else
        bif Nat.blt pc 47 then
         if h : pc = 46 then some ⟨(.dup, 47, .inl 0, 0, 0), by subst h; exact ⟨dX0_init_46, rfl, trivial⟩⟩ else none
        else
         if h : pc = 47 then some ⟨(.bipush 6, 49, .inl 6, 0, 0), by subst h; exact ⟨dX0_init_47, rfl, ⟨6, rfl, by decide⟩⟩⟩ else none
    else
     bif Nat.blt pc 58 then
      bif Nat.blt pc 53 then
       bif Nat.blt pc 51 then
        if h : pc = 49 then some ⟨(.bipush 35, 51, .inl 35, 0, 0), by subst h; exact ⟨dX0_init_49, rfl, ⟨35, rfl, by decide⟩⟩⟩ else none
       else
        bif Nat.blt pc 52 then
         if h : pc = 51 then some ⟨(.iastore, 52, .inl 0, 0, 0), by subst h; exact ⟨dX0_init_51, rfl, trivial⟩⟩ else none
        else
         if h : pc = 52 then some ⟨(.dup, 53, .inl 0, 0, 0), by subst h; exact ⟨dX0_init_52, rfl, trivial⟩⟩ else none
      else
       bif Nat.blt pc 55 then
        if h : pc = 53 then some ⟨(.bipush 7, 55, .inl 7, 0, 0), by subst h; exact ⟨dX0_init_53, rfl, ⟨7, rfl, by decide⟩⟩⟩ else none
       else
        bif Nat.blt pc 57 then
         if h : pc = 55 then some ⟨(.bipush 40, 57, .inl 40, 0, 0), by subst h; exact ⟨dX0_init_55, rfl, ⟨40, rfl, by decide⟩⟩⟩ else none
        else
         if h : pc = 57 then some ⟨(.iastore, 58, .inl 0, 0, 0), by subst h; exact ⟨dX0_init_57, rfl, trivial⟩⟩ else none
     else
      bif Nat.blt pc 63 then
       bif Nat.blt pc 59 then
        if h : pc = 58 then some ⟨(.dup, 59, .inl 0, 0, 0), by subst h; exact ⟨dX0_init_58, rfl, trivial⟩⟩ else none
       else
        bif Nat.blt pc 61 then
         if h : pc = 59 then some ⟨(.bipush 8, 61, .inl 8, 0, 0), by subst h; exact ⟨dX0_init_59, rfl, ⟨8, rfl, by decide⟩⟩⟩ else none
        else
         if h : pc = 61 then some ⟨(.bipush 45, 63, .inl 45, 0, 0), by subst h; exact ⟨dX0_init_61, rfl, ⟨45, rfl, by decide⟩⟩⟩ else none
      else
       bif Nat.blt pc 64 then
        if h : pc = 63 then some ⟨(.iastore, 64, .inl 0, 0, 0), by subst h; exact ⟨dX0_init_63, rfl, trivial⟩⟩ else none
       else
        bif Nat.blt pc 65 then
         if h : pc = 64 then some ⟨(.dup, 65, .inl 0, 0, 0), by subst h; exact ⟨dX0_init_64, rfl, trivial⟩⟩ else none
        else
         if h : pc = 65 then some ⟨(.bipush 9, 67, .inl 9, 0, 0), by subst h; exact ⟨dX0_init_65, rfl, ⟨9, rfl, by decide⟩⟩⟩ else none
  else
   bif Nat.blt pc 111 then
    bif Nat.blt pc 90 then
     bif Nat.blt pc 77 then
      bif Nat.blt pc 70 then
       bif Nat.blt pc 69 then
        if h : pc = 67 then some ⟨(.bipush 50, 69, .inl 50, 0, 0), by subst h; exact ⟨dX0_init_67, rfl, ⟨50, rfl, by decide⟩⟩⟩ else none
       else
        if h : pc = 69 then some ⟨(.iastore, 70, .inl 0, 0, 0), by subst h; exact ⟨dX0_init_69, rfl, trivial⟩⟩ else none
      else
       bif Nat.blt pc 73 then
        if h : pc = 70 then some ⟨(.putfield 62, 73, .inr (.inr none), 4, 0), by subst h; exact ⟨dX0_init_70, rfl, ⟨⟨_, rfl, by decide, _, Or.inl q886, Or.inl rfl⟩, (show mKd 0 4 = 6 by rfl), by decide, by decide, (fun q h => Or.inr (by cases h; exact ⟨rfl, rfl, rfl, q886⟩))⟩⟩⟩ else none
       else
        bif Nat.blt pc 74 then
         if h : pc = 73 then some ⟨(.aload_n 0, 74, .inl 0, 0, 0), by subst h; exact ⟨dX0_init_73, rfl, trivial⟩⟩ else none
        else
         if h : pc = 74 then some ⟨(.new 253, 77, .inl 0, 1, 0), by subst h; exact ⟨dX0_init_74, rfl, Or.inr ⟨_, rfl, q512, q751, q133, by decide⟩⟩⟩ else none
     else
      bif Nat.blt pc 84 then
       bif Nat.blt pc 78 then
        if h : pc = 77 then some ⟨(.dup, 78, .inl 0, 0, 0), by subst h; exact ⟨dX0_init_77, rfl, trivial⟩⟩ else none
       else
        bif Nat.blt pc 81 then
         if h : pc = 78 then some ⟨(.invokespecial 271, 81, .inl 0, 207, 1), by subst h; exact ⟨dX0_init_78, rfl, ⟨by decide, rfl, q807, q808⟩⟩⟩ else none
        else
         if h : pc = 81 then some ⟨(.putfield 169, 84, .inr (.inr none), 5, 0), by subst h; exact ⟨dX0_init_81, rfl, ⟨⟨_, rfl, by decide, _, Or.inl q887, Or.inl rfl⟩, (show mKd 0 5 = 6 by rfl), by decide, by decide, (fun q h => Or.inr (by cases h; exact ⟨rfl, rfl, rfl, q887⟩))⟩⟩⟩ else none
      else
       bif Nat.blt pc 85 then
        if h : pc = 84 then some ⟨(.aload_n 0, 85, .inl 0, 0, 0), by subst h; exact ⟨dX0_init_84, rfl, trivial⟩⟩ else none
       else
        bif Nat.blt pc 87 then
         if h : pc = 85 then some ⟨(.bipush 6, 87, .inl 6, 0, 0), by subst h; exact ⟨dX0_init_85, rfl, ⟨6, rfl, by decide⟩⟩⟩ else none
        else
         if h : pc = 87 then some ⟨(.anewarray 272, 90, .inl 0, 6, 0), by subst h; exact ⟨dX0_init_87, rfl, ⟨by decide, by decide, by decide, Or.inr ⟨_, rfl, q833⟩⟩⟩⟩ else none
    else
     bif Nat.blt pc 101 then
      bif Nat.blt pc 96 then
       bif Nat.blt pc 93 then
        if h : pc = 90 then some ⟨(.putfield 255, 93, .inr (.inr none), 7, 0), by subst h; exact ⟨dX0_init_90, rfl, ⟨⟨_, rfl, by decide, _, Or.inl q890, Or.inl rfl⟩, (show mKd 0 7 = 6 by rfl), by decide, by decide, (fun q h => Or.inr (by cases h; exact ⟨rfl, rfl, rfl, q890⟩))⟩⟩⟩ else none
       else
        bif Nat.blt pc 94 then
         if h : pc = 93 then some ⟨(.aload_n 0, 94, .inl 0, 0, 0), by subst h; exact ⟨dX0_init_93, rfl, trivial⟩⟩ else none
        else
         if h : pc = 94 then some ⟨(.bipush 6, 96, .inl 6, 0, 0), by subst h; exact ⟨dX0_init_94, rfl, ⟨6, rfl, by decide⟩⟩⟩ else none
      else
       bif Nat.blt pc 99 then
        if h : pc = 96 then some ⟨(.anewarray 165, 99, .inl 0, 7, 0), by subst h; exact ⟨dX0_init_96, rfl, ⟨by decide, by decide, by decide, Or.inl ⟨_, rfl, q835⟩⟩⟩⟩ else none
       else
        bif Nat.blt pc 100 then
         if h : pc = 99 then some ⟨(.dup, 100, .inl 0, 0, 0), by subst h; exact ⟨dX0_init_99, rfl, trivial⟩⟩ else none
        else
         if h : pc = 100 then some ⟨(.iconst 0, 101, .inl 0, 0, 0), by subst h; exact ⟨dX0_init_100, rfl, ⟨0, rfl, by decide⟩⟩⟩ else none
     else
      bif Nat.blt pc 106 then
       bif Nat.blt pc 104 then
        if h : pc = 101 then some ⟨(.ldc_w 274, 104, .inr (.inr (some (2, 3))), 0, 0), by subst h; exact ⟨dX0_init_101, rfl, Or.inr ⟨1, _, rfl, rfl, rfl⟩⟩⟩ else none
       else
        bif Nat.blt pc 105 then
         if h : pc = 104 then some ⟨(.aastore, 105, .inl 0, 0, 0), by subst h; exact ⟨dX0_init_104, rfl, trivial⟩⟩ else none
        else
         if h : pc = 105 then some ⟨(.dup, 106, .inl 0, 0, 0), by subst h; exact ⟨dX0_init_105, rfl, trivial⟩⟩ else none
      else
       bif Nat.blt pc 107 then
        if h : pc = 106 then some ⟨(.iconst 1, 107, .inl 1, 0, 0), by subst h; exact ⟨dX0_init_106, rfl, ⟨1, rfl, by decide⟩⟩⟩ else none
       else
        bif Nat.blt pc 110 then
         if h : pc = 107 then some ⟨(.ldc_w 276, 110, .inr (.inr (some (2, 4))), 0, 0), by subst h; exact ⟨dX0_init_107, rfl, Or.inr ⟨2, _, rfl, rfl, rfl⟩⟩⟩ else none
        else
         if h : pc = 110 then some ⟨(.aastore, 111, .inl 0, 0, 0), by subst h; exact ⟨dX0_init_110, rfl, trivial⟩⟩ else none
   else
    bif Nat.blt pc 129 then
     bif Nat.blt pc 119 then
      bif Nat.blt pc 116 then
       bif Nat.blt pc 112 then
        if h : pc = 111 then some ⟨(.dup, 112, .inl 0, 0, 0), by subst h; exact ⟨dX0_init_111, rfl, trivial⟩⟩ else none
       else
        bif Nat.blt pc 113 then
         if h : pc = 112 then some ⟨(.iconst 2, 113, .inl 2, 0, 0), by subst h; exact ⟨dX0_init_112, rfl, ⟨2, rfl, by decide⟩⟩⟩ else none
        else
         if h : pc = 113 then some ⟨(.ldc_w 278, 116, .inr (.inr (some (2, 5))), 0, 0), by subst h; exact ⟨dX0_init_113, rfl, Or.inr ⟨3, _, rfl, rfl, rfl⟩⟩⟩ else none
      else
       bif Nat.blt pc 117 then
        if h : pc = 116 then some ⟨(.aastore, 117, .inl 0, 0, 0), by subst h; exact ⟨dX0_init_116, rfl, trivial⟩⟩ else none
       else
        bif Nat.blt pc 118 then
         if h : pc = 117 then some ⟨(.dup, 118, .inl 0, 0, 0), by subst h; exact ⟨dX0_init_117, rfl, trivial⟩⟩ else none
        else
         if h : pc = 118 then some ⟨(.iconst 3, 119, .inl 3, 0, 0), by subst h; exact ⟨dX0_init_118, rfl, ⟨3, rfl, by decide⟩⟩⟩ else none
     else
      bif Nat.blt pc 124 then
       bif Nat.blt pc 122 then
        if h : pc = 119 then some ⟨(.ldc_w 280, 122, .inr (.inr (some (2, 6))), 0, 0), by subst h; exact ⟨dX0_init_119, rfl, Or.inr ⟨4, _, rfl, rfl, rfl⟩⟩⟩ else none
       else
        bif Nat.blt pc 123 then
         if h : pc = 122 then some ⟨(.aastore, 123, .inl 0, 0, 0), by subst h; exact ⟨dX0_init_122, rfl, trivial⟩⟩ else none
        else
         if h : pc = 123 then some ⟨(.dup, 124, .inl 0, 0, 0), by subst h; exact ⟨dX0_init_123, rfl, trivial⟩⟩ else none
      else
       bif Nat.blt pc 125 then
        if h : pc = 124 then some ⟨(.iconst 4, 125, .inl 4, 0, 0), by subst h; exact ⟨dX0_init_124, rfl, ⟨4, rfl, by decide⟩⟩⟩ else none
       else
        bif Nat.blt pc 128 then
         if h : pc = 125 then some ⟨(.ldc_w 282, 128, .inr (.inr (some (2, 7))), 0, 0), by subst h; exact ⟨dX0_init_125, rfl, Or.inr ⟨5, _, rfl, rfl, rfl⟩⟩⟩ else none
        else
         if h : pc = 128 then some ⟨(.aastore, 129, .inl 0, 0, 0), by subst h; exact ⟨dX0_init_128, rfl, trivial⟩⟩ else none
    else
     bif Nat.blt pc 139 then
      bif Nat.blt pc 134 then
       bif Nat.blt pc 130 then
        if h : pc = 129 then some ⟨(.dup, 130, .inl 0, 0, 0), by subst h; exact ⟨dX0_init_129, rfl, trivial⟩⟩ else none
       else
        bif Nat.blt pc 131 then
         if h : pc = 130 then some ⟨(.iconst 5, 131, .inl 5, 0, 0), by subst h; exact ⟨dX0_init_130, rfl, ⟨5, rfl, by decide⟩⟩⟩ else none
        else
         if h : pc = 131 then some ⟨(.ldc_w 284, 134, .inr (.inr (some (2, 8))), 0, 0), by subst h; exact ⟨dX0_init_131, rfl, Or.inr ⟨6, _, rfl, rfl, rfl⟩⟩⟩ else none
      else
       bif Nat.blt pc 135 then
        if h : pc = 134 then some ⟨(.aastore, 135, .inl 0, 0, 0), by subst h; exact ⟨dX0_init_134, rfl, trivial⟩⟩ else none
       else
        bif Nat.blt pc 138 then
         if h : pc = 135 then some ⟨(.putfield 179, 138, .inr (.inr none), 9, 0), by subst h; exact ⟨dX0_init_135, rfl, ⟨⟨_, rfl, by decide, _, Or.inl q892, Or.inl rfl⟩, (show mKd 0 9 = 6 by rfl), by decide, by decide, (fun q h => Or.inr (by cases h; exact ⟨rfl, rfl, rfl, q892⟩))⟩⟩⟩ else none
        else
         if h : pc = 138 then some ⟨(.aload_n 0, 139, .inl 0, 0, 0), by subst h; exact ⟨dX0_init_138, rfl, trivial⟩⟩ else none
     else
      bif Nat.blt pc 145 then
       bif Nat.blt pc 141 then
        if h : pc = 139 then some ⟨(.bipush 6, 141, .inl 6, 0, 0), by subst h; exact ⟨dX0_init_139, rfl, ⟨6, rfl, by decide⟩⟩⟩ else none
       else
        bif Nat.blt pc 144 then
         if h : pc = 141 then some ⟨(.anewarray 165, 144, .inl 0, 7, 0), by subst h; exact ⟨dX0_init_141, rfl, ⟨by decide, by decide, by decide, Or.inl ⟨_, rfl, q835⟩⟩⟩⟩ else none
        else
         if h : pc = 144 then some ⟨(.dup, 145, .inl 0, 0, 0), by subst h; exact ⟨dX0_init_144, rfl, trivial⟩⟩ else none
      else
       bif Nat.blt pc 146 then
        if h : pc = 145 then some ⟨(.iconst 0, 146, .inl 0, 0, 0), by subst h; exact ⟨dX0_init_145, rfl, ⟨0, rfl, by decide⟩⟩⟩ else none
       else
        bif Nat.blt pc 149 then
         if h : pc = 146 then some ⟨(.ldc_w 285, 149, .inr (.inr (some (2, 9))), 0, 0), by subst h; exact ⟨dX0_init_146, rfl, Or.inr ⟨7, _, rfl, rfl, rfl⟩⟩⟩ else none
        else
         if h : pc = 149 then some ⟨(.aastore, 150, .inl 0, 0, 0), by subst h; exact ⟨dX0_init_149, rfl, trivial⟩⟩ else none
 else
  bif Nat.blt pc 235 then
   bif Nat.blt pc 187 then
    bif Nat.blt pc 167 then
     bif Nat.blt pc 157 then
      bif Nat.blt pc 152 then
       bif Nat.blt pc 151 then
        if h : pc = 150 then some ⟨(.dup, 151, .inl 0, 0, 0), by subst h; exact ⟨dX0_init_150, rfl, trivial⟩⟩ else none
       else
        if h : pc = 151 then some ⟨(.iconst 1, 152, .inl 1, 0, 0), by subst h; exact ⟨dX0_init_151, rfl, ⟨1, rfl, by decide⟩⟩⟩ else none
      else
       bif Nat.blt pc 155 then
        if h : pc = 152 then some ⟨(.ldc_w 286, 155, .inr (.inr (some (2, 10))), 0, 0), by subst h; exact ⟨dX0_init_152, rfl, Or.inr ⟨8, _, rfl, rfl, rfl⟩⟩⟩ else none
       else
        bif Nat.blt pc 156 then
         if h : pc = 155 then some ⟨(.aastore, 156, .inl 0, 0, 0), by subst h; exact ⟨dX0_init_155, rfl, trivial⟩⟩ else none
        else
         if h : pc = 156 then some ⟨(.dup, 157, .inl 0, 0, 0), by subst h; exact ⟨dX0_init_156, rfl, trivial⟩⟩ else none
     else
      bif Nat.blt pc 162 then
       bif Nat.blt pc 158 then
        if h : pc = 157 then some ⟨(.iconst 2, 158, .inl 2, 0, 0), by subst h; exact ⟨dX0_init_157, rfl, ⟨2, rfl, by decide⟩⟩⟩ else none
       else
        bif Nat.blt pc 161 then
         if h : pc = 158 then some ⟨(.ldc_w 287, 161, .inr (.inr (some (2, 11))), 0, 0), by subst h; exact ⟨dX0_init_158, rfl, Or.inr ⟨9, _, rfl, rfl, rfl⟩⟩⟩ else none
        else
         if h : pc = 161 then some ⟨(.aastore, 162, .inl 0, 0, 0), by subst h; exact ⟨dX0_init_161, rfl, trivial⟩⟩ else none
      else
       bif Nat.blt pc 163 then
        if h : pc = 162 then some ⟨(.dup, 163, .inl 0, 0, 0), by subst h; exact ⟨dX0_init_162, rfl, trivial⟩⟩ else none
       else
        bif Nat.blt pc 164 then
         if h : pc = 163 then some ⟨(.iconst 3, 164, .inl 3, 0, 0), by subst h; exact ⟨dX0_init_163, rfl, ⟨3, rfl, by decide⟩⟩⟩ else none
        else
         if h : pc = 164 then some ⟨(.ldc_w 289, 167, .inr (.inr (some (2, 12))), 0, 0), by subst h; exact ⟨dX0_init_164, rfl, Or.inr ⟨10, _, rfl, rfl, rfl⟩⟩⟩ else none
    else
     bif Nat.blt pc 175 then
      bif Nat.blt pc 170 then
       bif Nat.blt pc 168 then
        if h : pc = 167 then some ⟨(.aastore, 168, .inl 0, 0, 0), by subst h; exact ⟨dX0_init_167, rfl, trivial⟩⟩ else none
       else
        bif Nat.blt pc 169 then
         if h : pc = 168 then some ⟨(.dup, 169, .inl 0, 0, 0), by subst h; exact ⟨dX0_init_168, rfl, trivial⟩⟩ else none
        else
         if h : pc = 169 then some ⟨(.iconst 4, 170, .inl 4, 0, 0), by subst h; exact ⟨dX0_init_169, rfl, ⟨4, rfl, by decide⟩⟩⟩ else none
      else
       bif Nat.blt pc 173 then
        if h : pc = 170 then some ⟨(.ldc_w 290, 173, .inr (.inr (some (2, 13))), 0, 0), by subst h; exact ⟨dX0_init_170, rfl, Or.inr ⟨11, _, rfl, rfl, rfl⟩⟩⟩ else none
       else
        bif Nat.blt pc 174 then
         if h : pc = 173 then some ⟨(.aastore, 174, .inl 0, 0, 0), by subst h; exact ⟨dX0_init_173, rfl, trivial⟩⟩ else none
        else
         if h : pc = 174 then some ⟨(.dup, 175, .inl 0, 0, 0), by subst h; exact ⟨dX0_init_174, rfl, trivial⟩⟩ else none
     else
      bif Nat.blt pc 180 then
       bif Nat.blt pc 176 then
        if h : pc = 175 then some ⟨(.iconst 5, 176, .inl 5, 0, 0), by subst h; exact ⟨dX0_init_175, rfl, ⟨5, rfl, by decide⟩⟩⟩ else none
       else
        bif Nat.blt pc 179 then
         if h : pc = 176 then some ⟨(.ldc_w 291, 179, .inr (.inr (some (2, 14))), 0, 0), by subst h; exact ⟨dX0_init_176, rfl, Or.inr ⟨12, _, rfl, rfl, rfl⟩⟩⟩ else none
        else
         if h : pc = 179 then some ⟨(.aastore, 180, .inl 0, 0, 0), by subst h; exact ⟨dX0_init_179, rfl, trivial⟩⟩ else none
      else
       bif Nat.blt pc 183 then
        if h : pc = 180 then some ⟨(.putfield 187, 183, .inr (.inr none), 10, 0), by subst h; exact ⟨dX0_init_180, rfl, ⟨⟨_, rfl, by decide, _, Or.inl q893, Or.inl rfl⟩, (show mKd 0 10 = 6 by rfl), by decide, by decide, (fun q h => Or.inr (by cases h; exact ⟨rfl, rfl, rfl, q893⟩))⟩⟩⟩ else none
       else
        bif Nat.blt pc 184 then
         if h : pc = 183 then some ⟨(.aload_n 0, 184, .inl 0, 0, 0), by subst h; exact ⟨dX0_init_183, rfl, trivial⟩⟩ else none
        else
         if h : pc = 184 then some ⟨(.sipush 160, 187, .inl 160, 0, 0), by subst h; exact ⟨dX0_init_184, rfl, ⟨160, rfl, by decide⟩⟩⟩ else none
   else
    bif Nat.blt pc 214 then
     bif Nat.blt pc 200 then
      bif Nat.blt pc 193 then
       bif Nat.blt pc 189 then
        if h : pc = 187 then some ⟨(.newarray .byte, 189, .inl 0, 1, 0), by subst h; exact ⟨dX0_init_187, rfl, ⟨q689, rfl, by decide, by decide⟩⟩⟩ else none
       else
        bif Nat.blt pc 192 then
         if h : pc = 189 then some ⟨(.putfield 122, 192, .inr (.inr none), 11, 0), by subst h; exact ⟨dX0_init_189, rfl, ⟨⟨_, rfl, by decide, _, Or.inl q894, Or.inl rfl⟩, (show mKd 0 11 = 6 by rfl), by decide, by decide, (fun q h => Or.inr (by cases h; exact ⟨rfl, rfl, rfl, q894⟩))⟩⟩⟩ else none
        else
         if h : pc = 192 then some ⟨(.aload_n 0, 193, .inl 0, 0, 0), by subst h; exact ⟨dX0_init_192, rfl, trivial⟩⟩ else none
      else
       bif Nat.blt pc 196 then
        if h : pc = 193 then some ⟨(.new 293, 196, .inl 0, 2, 0), by subst h; exact ⟨dX0_init_193, rfl, Or.inr ⟨_, rfl, q849, q436, q134, by decide⟩⟩⟩ else none
       else
        bif Nat.blt pc 197 then
         if h : pc = 196 then some ⟨(.dup, 197, .inl 0, 0, 0), by subst h; exact ⟨dX0_init_196, rfl, trivial⟩⟩ else none
        else
         if h : pc = 197 then some ⟨(.invokespecial 295, 200, .inl 0, 214, 2), by subst h; exact ⟨dX0_init_197, rfl, ⟨by decide, rfl, ⟨"NobodyCanLiftIt", List.mem_of_getElem? (i := 0) rfl⟩, q851⟩⟩⟩ else none
     else
      bif Nat.blt pc 207 then
       bif Nat.blt pc 203 then
        if h : pc = 200 then some ⟨(.putfield 296, 203, .inr (.inr none), 20, 0), by subst h; exact ⟨dX0_init_200, rfl, ⟨⟨_, rfl, by decide, _, Or.inl q903, Or.inl rfl⟩, (show mKd 0 20 = 6 by rfl), by decide, by decide, (fun q h => Or.inr (by cases h; exact ⟨rfl, rfl, rfl, q903⟩))⟩⟩⟩ else none
       else
        bif Nat.blt pc 204 then
         if h : pc = 203 then some ⟨(.aload_n 0, 204, .inl 0, 0, 0), by subst h; exact ⟨dX0_init_203, rfl, trivial⟩⟩ else none
        else
         if h : pc = 204 then some ⟨(.new 293, 207, .inl 0, 2, 0), by subst h; exact ⟨dX0_init_204, rfl, Or.inr ⟨_, rfl, q849, q436, q134, by decide⟩⟩⟩ else none
      else
       bif Nat.blt pc 208 then
        if h : pc = 207 then some ⟨(.dup, 208, .inl 0, 0, 0), by subst h; exact ⟨dX0_init_207, rfl, trivial⟩⟩ else none
       else
        bif Nat.blt pc 211 then
         if h : pc = 208 then some ⟨(.invokespecial 295, 211, .inl 0, 214, 2), by subst h; exact ⟨dX0_init_208, rfl, ⟨by decide, rfl, ⟨"NobodyCanLiftIt", List.mem_of_getElem? (i := 0) rfl⟩, q851⟩⟩⟩ else none
        else
         if h : pc = 211 then some ⟨(.putfield 300, 214, .inr (.inr none), 21, 0), by subst h; exact ⟨dX0_init_211, rfl, ⟨⟨_, rfl, by decide, _, Or.inl q904, Or.inl rfl⟩, (show mKd 0 21 = 6 by rfl), by decide, by decide, (fun q h => Or.inr (by cases h; exact ⟨rfl, rfl, rfl, q904⟩))⟩⟩⟩ else none
    else
     bif Nat.blt pc 226 then
      bif Nat.blt pc 219 then
       bif Nat.blt pc 215 then
        if h : pc = 214 then some ⟨(.aload_n 0, 215, .inl 0, 0, 0), by subst h; exact ⟨dX0_init_214, rfl, trivial⟩⟩ else none
       else
        bif Nat.blt pc 218 then
         if h : pc = 215 then some ⟨(.new 293, 218, .inl 0, 2, 0), by subst h; exact ⟨dX0_init_215, rfl, Or.inr ⟨_, rfl, q849, q436, q134, by decide⟩⟩⟩ else none
        else
         if h : pc = 218 then some ⟨(.dup, 219, .inl 0, 0, 0), by subst h; exact ⟨dX0_init_218, rfl, trivial⟩⟩ else none
      else
       bif Nat.blt pc 222 then
        if h : pc = 219 then some ⟨(.invokespecial 295, 222, .inl 0, 214, 2), by subst h; exact ⟨dX0_init_219, rfl, ⟨by decide, rfl, ⟨"NobodyCanLiftIt", List.mem_of_getElem? (i := 0) rfl⟩, q851⟩⟩⟩ else none
       else
        bif Nat.blt pc 225 then
         if h : pc = 222 then some ⟨(.putfield 303, 225, .inr (.inr none), 22, 0), by subst h; exact ⟨dX0_init_222, rfl, ⟨⟨_, rfl, by decide, _, Or.inl q905, Or.inl rfl⟩, (show mKd 0 22 = 6 by rfl), by decide, by decide, (fun q h => Or.inr (by cases h; exact ⟨rfl, rfl, rfl, q905⟩))⟩⟩⟩ else none
        else
         if h : pc = 225 then some ⟨(.aload_n 0, 226, .inl 0, 0, 0), by subst h; exact ⟨dX0_init_225, rfl, trivial⟩⟩ else none
     else
      bif Nat.blt pc 232 then
       bif Nat.blt pc 227 then
        if h : pc = 226 then some ⟨(.iconst 5, 227, .inl 5, 0, 0), by subst h; exact ⟨dX0_init_226, rfl, ⟨5, rfl, by decide⟩⟩⟩ else none
       else
        bif Nat.blt pc 229 then
         if h : pc = 227 then some ⟨(.newarray .int, 229, .inl 0, 0, 0), by subst h; exact ⟨dX0_init_227, rfl, ⟨q832, rfl, by decide, by decide⟩⟩⟩ else none
        else
         if h : pc = 229 then some ⟨(.putfield 306, 232, .inr (.inr none), 23, 0), by subst h; exact ⟨dX0_init_229, rfl, ⟨⟨_, rfl, by decide, _, Or.inl q906, Or.inl rfl⟩, (show mKd 0 23 = 6 by rfl), by decide, by decide, (fun q h => Or.inr (by cases h; exact ⟨rfl, rfl, rfl, q906⟩))⟩⟩⟩ else none
      else
       bif Nat.blt pc 233 then
        if h : pc = 232 then some ⟨(.aload_n 0, 233, .inl 0, 0, 0), by subst h; exact ⟨dX0_init_232, rfl, trivial⟩⟩ else none
       else
        bif Nat.blt pc 234 then
         if h : pc = 233 then some ⟨(.iconst 3, 234, .inl 3, 0, 0), by subst h; exact ⟨dX0_init_233, rfl, ⟨3, rfl, by decide⟩⟩⟩ else none
        else
         if h : pc = 234 then some ⟨(.iconst 5, 235, .inl 5, 0, 0), by subst h; exact ⟨dX0_init_234, rfl, ⟨5, rfl, by decide⟩⟩⟩ else none
  else
   bif Nat.blt pc 281 then
    bif Nat.blt pc 260 then
     bif Nat.blt pc 247 then
      bif Nat.blt pc 242 then
       bif Nat.blt pc 239 then
        if h : pc = 235 then some ⟨(.multianewarray 309 2, 239, .inl 0, 8, 0), by subst h; exact ⟨dX0_init_235, rfl, ⟨rfl, rfl, rfl, q861⟩⟩⟩ else none
       else
        if h : pc = 239 then some ⟨(.putfield 311, 242, .inr (.inr none), 24, 0), by subst h; exact ⟨dX0_init_239, rfl, ⟨⟨_, rfl, by decide, _, Or.inl q907, Or.inl rfl⟩, (show mKd 0 24 = 6 by rfl), by decide, by decide, (fun q h => Or.inr (by cases h; exact ⟨rfl, rfl, rfl, q907⟩))⟩⟩⟩ else none
      else
       bif Nat.blt pc 243 then
        if h : pc = 242 then some ⟨(.aload_n 0, 243, .inl 0, 0, 0), by subst h; exact ⟨dX0_init_242, rfl, trivial⟩⟩ else none
       else
        bif Nat.blt pc 245 then
         if h : pc = 243 then some ⟨(.bipush 10, 245, .inl 10, 0, 0), by subst h; exact ⟨dX0_init_243, rfl, ⟨10, rfl, by decide⟩⟩⟩ else none
        else
         if h : pc = 245 then some ⟨(.newarray .int, 247, .inl 0, 0, 0), by subst h; exact ⟨dX0_init_245, rfl, ⟨q832, rfl, by decide, by decide⟩⟩⟩ else none
     else
      bif Nat.blt pc 252 then
       bif Nat.blt pc 250 then
        if h : pc = 247 then some ⟨(.putfield 314, 250, .inr (.inr none), 28, 0), by subst h; exact ⟨dX0_init_247, rfl, ⟨⟨_, rfl, by decide, _, Or.inl q911, Or.inl rfl⟩, (show mKd 0 28 = 6 by rfl), by decide, by decide, (fun q h => Or.inr (by cases h; exact ⟨rfl, rfl, rfl, q911⟩))⟩⟩⟩ else none
       else
        bif Nat.blt pc 251 then
         if h : pc = 250 then some ⟨(.aload_n 0, 251, .inl 0, 0, 0), by subst h; exact ⟨dX0_init_250, rfl, trivial⟩⟩ else none
        else
         if h : pc = 251 then some ⟨(.iconst 4, 252, .inl 4, 0, 0), by subst h; exact ⟨dX0_init_251, rfl, ⟨4, rfl, by decide⟩⟩⟩ else none
      else
       bif Nat.blt pc 253 then
        if h : pc = 252 then some ⟨(.iconst 5, 253, .inl 5, 0, 0), by subst h; exact ⟨dX0_init_252, rfl, ⟨5, rfl, by decide⟩⟩⟩ else none
       else
        bif Nat.blt pc 257 then
         if h : pc = 253 then some ⟨(.multianewarray 309 2, 257, .inl 0, 8, 0), by subst h; exact ⟨dX0_init_253, rfl, ⟨rfl, rfl, rfl, q861⟩⟩⟩ else none
        else
         if h : pc = 257 then some ⟨(.putfield 317, 260, .inr (.inr none), 29, 0), by subst h; exact ⟨dX0_init_257, rfl, ⟨⟨_, rfl, by decide, _, Or.inl q912, Or.inl rfl⟩, (show mKd 0 29 = 6 by rfl), by decide, by decide, (fun q h => Or.inr (by cases h; exact ⟨rfl, rfl, rfl, q912⟩))⟩⟩⟩ else none
    else
     bif Nat.blt pc 269 then
      bif Nat.blt pc 264 then
       bif Nat.blt pc 261 then
        if h : pc = 260 then some ⟨(.aload_n 0, 261, .inl 0, 0, 0), by subst h; exact ⟨dX0_init_260, rfl, trivial⟩⟩ else none
       else
        bif Nat.blt pc 262 then
         if h : pc = 261 then some ⟨(.iconst 4, 262, .inl 4, 0, 0), by subst h; exact ⟨dX0_init_261, rfl, ⟨4, rfl, by decide⟩⟩⟩ else none
        else
         if h : pc = 262 then some ⟨(.newarray .int, 264, .inl 0, 0, 0), by subst h; exact ⟨dX0_init_262, rfl, ⟨q832, rfl, by decide, by decide⟩⟩⟩ else none
      else
       bif Nat.blt pc 267 then
        if h : pc = 264 then some ⟨(.putfield 320, 267, .inr (.inr none), 30, 0), by subst h; exact ⟨dX0_init_264, rfl, ⟨⟨_, rfl, by decide, _, Or.inl q913, Or.inl rfl⟩, (show mKd 0 30 = 6 by rfl), by decide, by decide, (fun q h => Or.inr (by cases h; exact ⟨rfl, rfl, rfl, q913⟩))⟩⟩⟩ else none
       else
        bif Nat.blt pc 268 then
         if h : pc = 267 then some ⟨(.aload_n 0, 268, .inl 0, 0, 0), by subst h; exact ⟨dX0_init_267, rfl, trivial⟩⟩ else none
        else
         if h : pc = 268 then some ⟨(.iconst 4, 269, .inl 4, 0, 0), by subst h; exact ⟨dX0_init_268, rfl, ⟨4, rfl, by decide⟩⟩⟩ else none
     else
      bif Nat.blt pc 274 then
       bif Nat.blt pc 272 then
        if h : pc = 269 then some ⟨(.anewarray 323, 272, .inl 0, 9, 0), by subst h; exact ⟨dX0_init_269, rfl, ⟨by decide, by decide, by decide, Or.inl ⟨_, rfl, q863⟩⟩⟩⟩ else none
       else
        bif Nat.blt pc 273 then
         if h : pc = 272 then some ⟨(.dup, 273, .inl 0, 0, 0), by subst h; exact ⟨dX0_init_272, rfl, trivial⟩⟩ else none
        else
         if h : pc = 273 then some ⟨(.iconst 0, 274, .inl 0, 0, 0), by subst h; exact ⟨dX0_init_273, rfl, ⟨0, rfl, by decide⟩⟩⟩ else none
      else
       bif Nat.blt pc 277 then
        if h : pc = 274 then some ⟨(.new 323, 277, .inl 0, 3, 0), by subst h; exact ⟨dX0_init_274, rfl, Or.inr ⟨_, rfl, q863, q865, q135, by decide⟩⟩⟩ else none
       else
        bif Nat.blt pc 278 then
         if h : pc = 277 then some ⟨(.dup, 278, .inl 0, 0, 0), by subst h; exact ⟨dX0_init_277, rfl, trivial⟩⟩ else none
        else
         if h : pc = 278 then some ⟨(.invokespecial 325, 281, .inl 0, 218, 2), by subst h; exact ⟨dX0_init_278, rfl, ⟨by decide, rfl, ⟨"NobodyCanLiftIt", List.mem_of_getElem? (i := 1) rfl⟩, q867⟩⟩⟩ else none
   else
    bif Nat.blt pc 301 then
     bif Nat.blt pc 291 then
      bif Nat.blt pc 284 then
       bif Nat.blt pc 282 then
        if h : pc = 281 then some ⟨(.aastore, 282, .inl 0, 0, 0), by subst h; exact ⟨dX0_init_281, rfl, trivial⟩⟩ else none
       else
        bif Nat.blt pc 283 then
         if h : pc = 282 then some ⟨(.dup, 283, .inl 0, 0, 0), by subst h; exact ⟨dX0_init_282, rfl, trivial⟩⟩ else none
        else
         if h : pc = 283 then some ⟨(.iconst 1, 284, .inl 1, 0, 0), by subst h; exact ⟨dX0_init_283, rfl, ⟨1, rfl, by decide⟩⟩⟩ else none
      else
       bif Nat.blt pc 287 then
        if h : pc = 284 then some ⟨(.new 323, 287, .inl 0, 3, 0), by subst h; exact ⟨dX0_init_284, rfl, Or.inr ⟨_, rfl, q863, q865, q135, by decide⟩⟩⟩ else none
       else
        bif Nat.blt pc 288 then
         if h : pc = 287 then some ⟨(.dup, 288, .inl 0, 0, 0), by subst h; exact ⟨dX0_init_287, rfl, trivial⟩⟩ else none
        else
         if h : pc = 288 then some ⟨(.invokespecial 325, 291, .inl 0, 218, 2), by subst h; exact ⟨dX0_init_288, rfl, ⟨by decide, rfl, ⟨"NobodyCanLiftIt", List.mem_of_getElem? (i := 1) rfl⟩, q867⟩⟩⟩ else none
     else
      bif Nat.blt pc 294 then
       bif Nat.blt pc 292 then
        if h : pc = 291 then some ⟨(.aastore, 292, .inl 0, 0, 0), by subst h; exact ⟨dX0_init_291, rfl, trivial⟩⟩ else none
       else
        bif Nat.blt pc 293 then
         if h : pc = 292 then some ⟨(.dup, 293, .inl 0, 0, 0), by subst h; exact ⟨dX0_init_292, rfl, trivial⟩⟩ else none
        else
         if h : pc = 293 then some ⟨(.iconst 2, 294, .inl 2, 0, 0), by subst h; exact ⟨dX0_init_293, rfl, ⟨2, rfl, by decide⟩⟩⟩ else none
      else
       bif Nat.blt pc 297 then
        if h : pc = 294 then some ⟨(.new 323, 297, .inl 0, 3, 0), by subst h; exact ⟨dX0_init_294, rfl, Or.inr ⟨_, rfl, q863, q865, q135, by decide⟩⟩⟩ else none
       else
        bif Nat.blt pc 298 then
         if h : pc = 297 then some ⟨(.dup, 298, .inl 0, 0, 0), by subst h; exact ⟨dX0_init_297, rfl, trivial⟩⟩ else none
        else
         if h : pc = 298 then some ⟨(.invokespecial 325, 301, .inl 0, 218, 2), by subst h; exact ⟨dX0_init_298, rfl, ⟨by decide, rfl, ⟨"NobodyCanLiftIt", List.mem_of_getElem? (i := 1) rfl⟩, q867⟩⟩⟩ else none
    else
     bif Nat.blt pc 311 then
      bif Nat.blt pc 304 then
       bif Nat.blt pc 302 then
        if h : pc = 301 then some ⟨(.aastore, 302, .inl 0, 0, 0), by subst h; exact ⟨dX0_init_301, rfl, trivial⟩⟩ else none
       else
        bif Nat.blt pc 303 then
         if h : pc = 302 then some ⟨(.dup, 303, .inl 0, 0, 0), by subst h; exact ⟨dX0_init_302, rfl, trivial⟩⟩ else none
        else
         if h : pc = 303 then some ⟨(.iconst 3, 304, .inl 3, 0, 0), by subst h; exact ⟨dX0_init_303, rfl, ⟨3, rfl, by decide⟩⟩⟩ else none
      else
       bif Nat.blt pc 307 then
        if h : pc = 304 then some ⟨(.new 323, 307, .inl 0, 3, 0), by subst h; exact ⟨dX0_init_304, rfl, Or.inr ⟨_, rfl, q863, q865, q135, by decide⟩⟩⟩ else none
       else
        bif Nat.blt pc 308 then
         if h : pc = 307 then some ⟨(.dup, 308, .inl 0, 0, 0), by subst h; exact ⟨dX0_init_307, rfl, trivial⟩⟩ else none
        else
         if h : pc = 308 then some ⟨(.invokespecial 325, 311, .inl 0, 218, 2), by subst h; exact ⟨dX0_init_308, rfl, ⟨by decide, rfl, ⟨"NobodyCanLiftIt", List.mem_of_getElem? (i := 1) rfl⟩, q867⟩⟩⟩ else none
     else
      bif Nat.blt pc 316 then
       bif Nat.blt pc 312 then
        if h : pc = 311 then some ⟨(.aastore, 312, .inl 0, 0, 0), by subst h; exact ⟨dX0_init_311, rfl, trivial⟩⟩ else none
       else
        bif Nat.blt pc 315 then
         if h : pc = 312 then some ⟨(.putfield 326, 315, .inr (.inr none), 31, 0), by subst h; exact ⟨dX0_init_312, rfl, ⟨⟨_, rfl, by decide, _, Or.inl q914, Or.inl rfl⟩, (show mKd 0 31 = 6 by rfl), by decide, by decide, (fun q h => Or.inr (by cases h; exact ⟨rfl, rfl, rfl, q914⟩))⟩⟩⟩ else none
        else
         if h : pc = 315 then some ⟨(.aload_n 0, 316, .inl 0, 0, 0), by subst h; exact ⟨dX0_init_315, rfl, trivial⟩⟩ else none
      else
       bif Nat.blt pc 319 then
        if h : pc = 316 then some ⟨(.ldc_w 330, 319, .inr (.inr (some (2, 15))), 0, 0), by subst h; exact ⟨dX0_init_316, rfl, Or.inr ⟨13, _, rfl, rfl, rfl⟩⟩⟩ else none
       else
        bif Nat.blt pc 322 then
         if h : pc = 319 then some ⟨(.invokevirtual 332, 322, .inl 0, 148, 0), by subst h; exact ⟨dX0_init_319, rfl, ⟨by decide, q875, q877, qs31, _, rfl, rfl⟩⟩⟩ else none
        else
         if h : pc = 322 then some ⟨(.return_, 323, .inl 0, 0, 0), by subst h; exact ⟨dX0_init_322, rfl, rfl⟩⟩ else none

noncomputable def mt148 (pc : Nat) : Option {e : mE // mOK yX0_firstText cX0_firstText 3 ((Option.none : Option ClassFile.FieldType)) pc e} :=
 bif Nat.blt pc 20 then
  bif Nat.blt pc 10 then
   bif Nat.blt pc 3 then
    bif Nat.blt pc 1 then
     if h : pc = 0 then some ⟨(.iconst 0, 1, .inl 0, 0, 0), by subst h; exact ⟨dX0_firstText_0, rfl, ⟨0, rfl, by decide⟩⟩⟩ else none
    else
     bif Nat.blt pc 2 then
      if h : pc = 1 then some ⟨(.istore_n 2, 2, .inl 0, 0, 0), by subst h; exact ⟨dX0_firstText_1, rfl, (show (2 : Nat) < 3 by decide)⟩⟩ else none
     else
      if h : pc = 2 then some ⟨(.iload_n 2, 3, .inl 0, 0, 0), by subst h; exact ⟨dX0_firstText_2, rfl, trivial⟩⟩ else none
   else
    bif Nat.blt pc 4 then
     if h : pc = 3 then some ⟨(.aload_n 1, 4, .inl 0, 0, 0), by subst h; exact ⟨dX0_firstText_3, rfl, trivial⟩⟩ else none
    else
     bif Nat.blt pc 7 then
      if h : pc = 4 then some ⟨(.invokevirtual 173, 7, .inl 0, 264, 15), by subst h; exact ⟨dX0_firstText_4, rfl, ⟨by decide, q536, q537, q538, _, rfl, rfl⟩⟩⟩ else none
     else
      if h : pc = 7 then some ⟨(.if_icmp .ge 21, 10, .inl 0, 28, 0), by subst h; exact ⟨dX0_firstText_7, rfl, (show ((7 : Nat) : Int) + (21) = ((28 : Nat) : Int) by decide)⟩⟩ else none
  else
   bif Nat.blt pc 15 then
    bif Nat.blt pc 11 then
     if h : pc = 10 then some ⟨(.aload_n 0, 11, .inl 0, 0, 0), by subst h; exact ⟨dX0_firstText_10, rfl, trivial⟩⟩ else none
    else
     bif Nat.blt pc 14 then
      if h : pc = 11 then some ⟨(.getfield 122, 14, .inr (.inr none), 11, 0), by subst h; exact ⟨dX0_firstText_11, rfl, ⟨⟨_, rfl, by decide, _, Or.inl q894, Or.inl rfl⟩, (show mKd 0 11 = 6 by rfl)⟩⟩⟩ else none
     else
      if h : pc = 14 then some ⟨(.iload_n 2, 15, .inl 0, 0, 0), by subst h; exact ⟨dX0_firstText_14, rfl, trivial⟩⟩ else none
   else
    bif Nat.blt pc 16 then
     if h : pc = 15 then some ⟨(.aload_n 1, 16, .inl 0, 0, 0), by subst h; exact ⟨dX0_firstText_15, rfl, trivial⟩⟩ else none
    else
     bif Nat.blt pc 17 then
      if h : pc = 16 then some ⟨(.iload_n 2, 17, .inl 0, 0, 0), by subst h; exact ⟨dX0_firstText_16, rfl, trivial⟩⟩ else none
     else
      if h : pc = 17 then some ⟨(.invokevirtual 175, 20, .inl 0, 266, 15), by subst h; exact ⟨dX0_firstText_17, rfl, ⟨by decide, q546, q547, q548, _, rfl, rfl⟩⟩⟩ else none
 else
  bif Nat.blt pc 30 then
   bif Nat.blt pc 25 then
    bif Nat.blt pc 21 then
     if h : pc = 20 then some ⟨(.i2b, 21, .inl 0, 0, 0), by subst h; exact ⟨dX0_firstText_20, rfl, trivial⟩⟩ else none
    else
     bif Nat.blt pc 22 then
      if h : pc = 21 then some ⟨(.bastore, 22, .inl 0, 0, 0), by subst h; exact ⟨dX0_firstText_21, rfl, trivial⟩⟩ else none
     else
      if h : pc = 22 then some ⟨(.iinc 2 1, 25, .inl 1, 0, 0), by subst h; exact ⟨dX0_firstText_22, rfl, ⟨(show (2 : Nat) < 3 by decide), 1, rfl, by decide⟩⟩⟩ else none
   else
    bif Nat.blt pc 28 then
     if h : pc = 25 then some ⟨(.goto (-23), 28, .inl 0, 2, 0), by subst h; exact ⟨dX0_firstText_25, rfl, (show ((25 : Nat) : Int) + ((-23)) = ((2 : Nat) : Int) by decide)⟩⟩ else none
    else
     bif Nat.blt pc 29 then
      if h : pc = 28 then some ⟨(.aload_n 0, 29, .inl 0, 0, 0), by subst h; exact ⟨dX0_firstText_28, rfl, trivial⟩⟩ else none
     else
      if h : pc = 29 then some ⟨(.aload_n 1, 30, .inl 0, 0, 0), by subst h; exact ⟨dX0_firstText_29, rfl, trivial⟩⟩ else none
  else
   bif Nat.blt pc 37 then
    bif Nat.blt pc 33 then
     if h : pc = 30 then some ⟨(.invokevirtual 173, 33, .inl 0, 264, 15), by subst h; exact ⟨dX0_firstText_30, rfl, ⟨by decide, q536, q537, q538, _, rfl, rfl⟩⟩⟩ else none
    else
     bif Nat.blt pc 36 then
      if h : pc = 33 then some ⟨(.putfield 248, 36, .inl 0, 12, 0), by subst h; exact ⟨dX0_firstText_33, rfl, ⟨⟨_, rfl, by decide, _, Or.inl q895, Or.inl rfl⟩, (show mKd 0 12 ≤ 4 by decide), by decide, by decide, (fun q h => Or.inl (by cases h; rfl))⟩⟩⟩ else none
     else
      if h : pc = 36 then some ⟨(.aload_n 0, 37, .inl 0, 0, 0), by subst h; exact ⟨dX0_firstText_36, rfl, trivial⟩⟩ else none
   else
    bif Nat.blt pc 40 then
     if h : pc = 37 then some ⟨(.invokevirtual 262, 40, .inl 0, 129, 0), by subst h; exact ⟨dX0_firstText_37, rfl, ⟨by decide, q508, q510, qs13, _, rfl, rfl⟩⟩⟩ else none
    else
     bif Nat.blt pc 41 then
      if h : pc = 40 then some ⟨(.istore_n 2, 41, .inl 0, 0, 0), by subst h; exact ⟨dX0_firstText_40, rfl, (show (2 : Nat) < 3 by decide)⟩⟩ else none
     else
      if h : pc = 41 then some ⟨(.return_, 42, .inl 0, 0, 0), by subst h; exact ⟨dX0_firstText_41, rfl, rfl⟩⟩ else none

noncomputable def mt149 (pc : Nat) : Option {e : mE // mOK yX0_force cX0_force 3 ((Option.some ClassFile.FieldType.int)) pc e} :=
 bif Nat.blt pc 12 then
  bif Nat.blt pc 5 then
   bif Nat.blt pc 1 then
    if h : pc = 0 then some ⟨(.aload_n 0, 1, .inl 0, 0, 0), by subst h; exact ⟨dX0_force_0, rfl, trivial⟩⟩ else none
   else
    bif Nat.blt pc 2 then
     if h : pc = 1 then some ⟨(.iload_n 1, 2, .inl 0, 0, 0), by subst h; exact ⟨dX0_force_1, rfl, trivial⟩⟩ else none
    else
     if h : pc = 2 then some ⟨(.invokevirtual 336, 5, .inl 0, 150, 0), by subst h; exact ⟨dX0_force_2, rfl, ⟨by decide, q984, q986, qs32, _, rfl, rfl⟩⟩⟩ else none
  else
   bif Nat.blt pc 10 then
    bif Nat.blt pc 8 then
     if h : pc = 5 then some ⟨(.ifCond .ne 6, 8, .inl 0, 11, 0), by subst h; exact ⟨dX0_force_5, rfl, (show ((5 : Nat) : Int) + (6) = ((11 : Nat) : Int) by decide)⟩⟩ else none
    else
     if h : pc = 8 then some ⟨(.bipush (-2), 10, .inl (-2), 0, 0), by subst h; exact ⟨dX0_force_8, rfl, ⟨(-2), rfl, by decide⟩⟩⟩ else none
   else
    bif Nat.blt pc 11 then
     if h : pc = 10 then some ⟨(.ireturn, 11, .inl 0, 0, 0), by subst h; exact ⟨dX0_force_10, rfl, rfl⟩⟩ else none
    else
     if h : pc = 11 then some ⟨(.aload_n 0, 12, .inl 0, 0, 0), by subst h; exact ⟨dX0_force_11, rfl, trivial⟩⟩ else none
 else
  bif Nat.blt pc 17 then
   bif Nat.blt pc 15 then
    if h : pc = 12 then some ⟨(.getfield 339, 15, .inl 0, 19, 0), by subst h; exact ⟨dX0_force_12, rfl, ⟨⟨_, rfl, by decide, _, Or.inl q902, Or.inl rfl⟩, (show mKd 0 19 ≤ 4 by decide)⟩⟩⟩ else none
   else
    bif Nat.blt pc 16 then
     if h : pc = 15 then some ⟨(.istore_n 2, 16, .inl 0, 0, 0), by subst h; exact ⟨dX0_force_15, rfl, (show (2 : Nat) < 3 by decide)⟩⟩ else none
    else
     if h : pc = 16 then some ⟨(.aload_n 0, 17, .inl 0, 0, 0), by subst h; exact ⟨dX0_force_16, rfl, trivial⟩⟩ else none
  else
   bif Nat.blt pc 21 then
    bif Nat.blt pc 18 then
     if h : pc = 17 then some ⟨(.iload_n 1, 18, .inl 0, 0, 0), by subst h; exact ⟨dX0_force_17, rfl, trivial⟩⟩ else none
    else
     if h : pc = 18 then some ⟨(.putfield 339, 21, .inl 0, 19, 0), by subst h; exact ⟨dX0_force_18, rfl, ⟨⟨_, rfl, by decide, _, Or.inl q902, Or.inl rfl⟩, (show mKd 0 19 ≤ 4 by decide), by decide, by decide, (fun q h => Or.inl (by cases h; rfl))⟩⟩⟩ else none
   else
    bif Nat.blt pc 22 then
     if h : pc = 21 then some ⟨(.iload_n 2, 22, .inl 0, 0, 0), by subst h; exact ⟨dX0_force_21, rfl, trivial⟩⟩ else none
    else
     if h : pc = 22 then some ⟨(.ireturn, 23, .inl 0, 0, 0), by subst h; exact ⟨dX0_force_22, rfl, rfl⟩⟩ else none

noncomputable def mt150 (pc : Nat) : Option {e : mE // mOK yX0_isText cX0_isText 2 ((Option.some ClassFile.FieldType.boolean)) pc e} :=
 bif Nat.blt pc 7 then
  bif Nat.blt pc 2 then
   bif Nat.blt pc 1 then
    if h : pc = 0 then some ⟨(.iload_n 1, 1, .inl 0, 0, 0), by subst h; exact ⟨dX0_isText_0, rfl, trivial⟩⟩ else none
   else
    if h : pc = 1 then some ⟨(.i2l, 2, .inl 0, 0, 0), by subst h; exact ⟨dX0_isText_1, rfl, trivial⟩⟩ else none
  else
   bif Nat.blt pc 3 then
    if h : pc = 2 then some ⟨(.lconst 0, 3, .inr (.inl 0), 0, 0), by subst h; exact ⟨dX0_isText_2, rfl, ⟨0, rfl, by decide⟩⟩⟩ else none
   else
    bif Nat.blt pc 4 then
     if h : pc = 3 then some ⟨(.aload_n 0, 4, .inl 0, 0, 0), by subst h; exact ⟨dX0_isText_3, rfl, trivial⟩⟩ else none
    else
     if h : pc = 4 then some ⟨(.getfield 259, 7, .inl 0, 8, 0), by subst h; exact ⟨dX0_isText_4, rfl, ⟨⟨_, rfl, by decide, _, Or.inl q891, Or.inl rfl⟩, (show mKd 0 8 ≤ 4 by decide)⟩⟩⟩ else none
 else
  bif Nat.blt pc 9 then
   bif Nat.blt pc 8 then
    if h : pc = 7 then some ⟨(.iconst 1, 8, .inl 1, 0, 0), by subst h; exact ⟨dX0_isText_7, rfl, ⟨1, rfl, by decide⟩⟩⟩ else none
   else
    if h : pc = 8 then some ⟨(.isub, 9, .inl 0, 0, 0), by subst h; exact ⟨dX0_isText_8, rfl, trivial⟩⟩ else none
  else
   bif Nat.blt pc 10 then
    if h : pc = 9 then some ⟨(.i2l, 10, .inl 0, 0, 0), by subst h; exact ⟨dX0_isText_9, rfl, trivial⟩⟩ else none
   else
    bif Nat.blt pc 13 then
     if h : pc = 10 then some ⟨(.invokestatic 16, 13, .inl 0, 108, 0), by subst h; exact ⟨dX0_isText_10, rfl, Or.inl ⟨by decide, q167, q168⟩⟩⟩ else none
    else
     if h : pc = 13 then some ⟨(.ireturn, 14, .inl 0, 1, 0), by subst h; exact ⟨dX0_isText_13, rfl, rfl⟩⟩ else none

noncomputable def mt151 (pc : Nat) : Option {e : mE // mOK yX0_feels cX0_feels 3 ((Option.some ClassFile.FieldType.long)) pc e} :=
 bif Nat.blt pc 18 then
  bif Nat.blt pc 9 then
   bif Nat.blt pc 2 then
    bif Nat.blt pc 1 then
     if h : pc = 0 then some ⟨(.aload_n 0, 1, .inl 0, 0, 0), by subst h; exact ⟨dX0_feels_0, rfl, trivial⟩⟩ else none
    else
     if h : pc = 1 then some ⟨(.iload_n 1, 2, .inl 0, 0, 0), by subst h; exact ⟨dX0_feels_1, rfl, trivial⟩⟩ else none
   else
    bif Nat.blt pc 5 then
     if h : pc = 2 then some ⟨(.invokevirtual 59, 5, .inl 0, 113, 0), by subst h; exact ⟨dX0_feels_2, rfl, ⟨by decide, q281, q283, qs1, _, rfl, rfl⟩⟩⟩ else none
    else
     bif Nat.blt pc 8 then
      if h : pc = 5 then some ⟨(.ifCond .eq 13, 8, .inl 0, 18, 0), by subst h; exact ⟨dX0_feels_5, rfl, (show ((5 : Nat) : Int) + (13) = ((18 : Nat) : Int) by decide)⟩⟩ else none
     else
      if h : pc = 8 then some ⟨(.iload_n 2, 9, .inl 0, 0, 0), by subst h; exact ⟨dX0_feels_8, rfl, trivial⟩⟩ else none
  else
   bif Nat.blt pc 11 then
    bif Nat.blt pc 10 then
     if h : pc = 9 then some ⟨(.i2l, 10, .inl 0, 0, 0), by subst h; exact ⟨dX0_feels_9, rfl, trivial⟩⟩ else none
    else
     if h : pc = 10 then some ⟨(.lconst 0, 11, .inr (.inl 0), 0, 0), by subst h; exact ⟨dX0_feels_10, rfl, ⟨0, rfl, by decide⟩⟩⟩ else none
   else
    bif Nat.blt pc 12 then
     if h : pc = 11 then some ⟨(.lconst 1, 12, .inr (.inl 1), 0, 0), by subst h; exact ⟨dX0_feels_11, rfl, ⟨1, rfl, by decide⟩⟩⟩ else none
    else
     bif Nat.blt pc 15 then
      if h : pc = 12 then some ⟨(.invokestatic 16, 15, .inl 0, 108, 0), by subst h; exact ⟨dX0_feels_12, rfl, Or.inl ⟨by decide, q167, q168⟩⟩⟩ else none
     else
      if h : pc = 15 then some ⟨(.ifCond .ne 7, 18, .inl 0, 22, 0), by subst h; exact ⟨dX0_feels_15, rfl, (show ((15 : Nat) : Int) + (7) = ((22 : Nat) : Int) by decide)⟩⟩ else none
 else
  bif Nat.blt pc 27 then
   bif Nat.blt pc 22 then
    bif Nat.blt pc 21 then
     if h : pc = 18 then some ⟨(.ldc2_w 384, 21, .inr (.inl (-4611686018427387904)), 0, 0), by subst h; exact ⟨dX0_feels_18, rfl, ⟨_, rfl, q992⟩⟩⟩ else none
    else
     if h : pc = 21 then some ⟨(.lreturn, 22, .inl 0, 0, 0), by subst h; exact ⟨dX0_feels_21, rfl, rfl⟩⟩ else none
   else
    bif Nat.blt pc 23 then
     if h : pc = 22 then some ⟨(.aload_n 0, 23, .inl 0, 0, 0), by subst h; exact ⟨dX0_feels_22, rfl, trivial⟩⟩ else none
    else
     bif Nat.blt pc 24 then
      if h : pc = 23 then some ⟨(.iload_n 1, 24, .inl 0, 0, 0), by subst h; exact ⟨dX0_feels_23, rfl, trivial⟩⟩ else none
     else
      if h : pc = 24 then some ⟨(.invokevirtual 362, 27, .inl 0, 126, 0), by subst h; exact ⟨dX0_feels_24, rfl, ⟨by decide, q441, q443, qs12, _, rfl, rfl⟩⟩⟩ else none
  else
   bif Nat.blt pc 31 then
    bif Nat.blt pc 28 then
     if h : pc = 27 then some ⟨(.aload_n 0, 28, .inl 0, 0, 0), by subst h; exact ⟨dX0_feels_27, rfl, trivial⟩⟩ else none
    else
     if h : pc = 28 then some ⟨(.getfield 296, 31, .inr (.inr none), 20, 0), by subst h; exact ⟨dX0_feels_28, rfl, ⟨⟨_, rfl, by decide, _, Or.inl q903, Or.inl rfl⟩, (show mKd 0 20 = 6 by rfl)⟩⟩⟩ else none
   else
    bif Nat.blt pc 32 then
     if h : pc = 31 then some ⟨(.iload_n 2, 32, .inl 0, 0, 0), by subst h; exact ⟨dX0_feels_31, rfl, trivial⟩⟩ else none
    else
     bif Nat.blt pc 35 then
      if h : pc = 32 then some ⟨(.invokevirtual 386, 35, .inl 0, 215, 2), by subst h; exact ⟨dX0_feels_32, rfl, ⟨by decide, q993, q994, q995, _, rfl, rfl⟩⟩⟩ else none
     else
      if h : pc = 35 then some ⟨(.lreturn, 36, .inl 0, 0, 0), by subst h; exact ⟨dX0_feels_35, rfl, rfl⟩⟩ else none

noncomputable def mt152 (pc : Nat) : Option {e : mE // mOK yX0_weight cX0_weight 2 ((Option.some ClassFile.FieldType.long)) pc e} :=
 bif Nat.blt pc 13 then
  bif Nat.blt pc 3 then
   bif Nat.blt pc 1 then
    if h : pc = 0 then some ⟨(.iload_n 1, 1, .inl 0, 0, 0), by subst h; exact ⟨dX0_weight_0, rfl, trivial⟩⟩ else none
   else
    bif Nat.blt pc 2 then
     if h : pc = 1 then some ⟨(.i2l, 2, .inl 0, 0, 0), by subst h; exact ⟨dX0_weight_1, rfl, trivial⟩⟩ else none
    else
     if h : pc = 2 then some ⟨(.lconst 0, 3, .inr (.inl 0), 0, 0), by subst h; exact ⟨dX0_weight_2, rfl, ⟨0, rfl, by decide⟩⟩⟩ else none
  else
   bif Nat.blt pc 7 then
    bif Nat.blt pc 4 then
     if h : pc = 3 then some ⟨(.lconst 1, 4, .inr (.inl 1), 0, 0), by subst h; exact ⟨dX0_weight_3, rfl, ⟨1, rfl, by decide⟩⟩⟩ else none
    else
     if h : pc = 4 then some ⟨(.invokestatic 16, 7, .inl 0, 108, 0), by subst h; exact ⟨dX0_weight_4, rfl, Or.inl ⟨by decide, q167, q168⟩⟩⟩ else none
   else
    bif Nat.blt pc 10 then
     if h : pc = 7 then some ⟨(.ifCond .ne 7, 10, .inl 0, 14, 0), by subst h; exact ⟨dX0_weight_7, rfl, (show ((7 : Nat) : Int) + (7) = ((14 : Nat) : Int) by decide)⟩⟩ else none
    else
     if h : pc = 10 then some ⟨(.ldc2_w 384, 13, .inr (.inl (-4611686018427387904)), 0, 0), by subst h; exact ⟨dX0_weight_10, rfl, ⟨_, rfl, q992⟩⟩⟩ else none
 else
  bif Nat.blt pc 19 then
   bif Nat.blt pc 15 then
    bif Nat.blt pc 14 then
     if h : pc = 13 then some ⟨(.lreturn, 14, .inl 0, 0, 0), by subst h; exact ⟨dX0_weight_13, rfl, rfl⟩⟩ else none
    else
     if h : pc = 14 then some ⟨(.aload_n 0, 15, .inl 0, 0, 0), by subst h; exact ⟨dX0_weight_14, rfl, trivial⟩⟩ else none
   else
    bif Nat.blt pc 18 then
     if h : pc = 15 then some ⟨(.invokevirtual 377, 18, .inl 0, 125, 0), by subst h; exact ⟨dX0_weight_15, rfl, ⟨by decide, q425, q427, qs10, _, rfl, rfl⟩⟩⟩ else none
    else
     if h : pc = 18 then some ⟨(.aload_n 0, 19, .inl 0, 0, 0), by subst h; exact ⟨dX0_weight_18, rfl, trivial⟩⟩ else none
  else
   bif Nat.blt pc 23 then
    bif Nat.blt pc 22 then
     if h : pc = 19 then some ⟨(.getfield 300, 22, .inr (.inr none), 21, 0), by subst h; exact ⟨dX0_weight_19, rfl, ⟨⟨_, rfl, by decide, _, Or.inl q904, Or.inl rfl⟩, (show mKd 0 21 = 6 by rfl)⟩⟩⟩ else none
    else
     if h : pc = 22 then some ⟨(.iload_n 1, 23, .inl 0, 0, 0), by subst h; exact ⟨dX0_weight_22, rfl, trivial⟩⟩ else none
   else
    bif Nat.blt pc 26 then
     if h : pc = 23 then some ⟨(.invokevirtual 386, 26, .inl 0, 215, 2), by subst h; exact ⟨dX0_weight_23, rfl, ⟨by decide, q993, q994, q995, _, rfl, rfl⟩⟩⟩ else none
    else
     if h : pc = 26 then some ⟨(.lreturn, 27, .inl 0, 0, 0), by subst h; exact ⟨dX0_weight_26, rfl, rfl⟩⟩ else none

noncomputable def mt153 (pc : Nat) : Option {e : mE // mOK yX0_year cX0_year 1 ((Option.some ClassFile.FieldType.int)) pc e} :=
 bif Nat.blt pc 12 then
  bif Nat.blt pc 4 then
   bif Nat.blt pc 1 then
    if h : pc = 0 then some ⟨(.aload_n 0, 1, .inl 0, 0, 0), by subst h; exact ⟨dX0_year_0, rfl, trivial⟩⟩ else none
   else
    if h : pc = 1 then some ⟨(.getfield 69, 4, .inl 0, 2, 0), by subst h; exact ⟨dX0_year_1, rfl, ⟨⟨_, rfl, by decide, _, Or.inl q883, Or.inl rfl⟩, (show mKd 0 2 ≤ 4 by decide)⟩⟩⟩ else none
  else
   bif Nat.blt pc 7 then
    if h : pc = 4 then some ⟨(.sipush 999, 7, .inl 999, 0, 0), by subst h; exact ⟨dX0_year_4, rfl, ⟨999, rfl, by decide⟩⟩⟩ else none
   else
    bif Nat.blt pc 10 then
     if h : pc = 7 then some ⟨(.if_icmp .ne 6, 10, .inl 0, 13, 0), by subst h; exact ⟨dX0_year_7, rfl, (show ((7 : Nat) : Int) + (6) = ((13 : Nat) : Int) by decide)⟩⟩ else none
    else
     if h : pc = 10 then some ⟨(.bipush (-3), 12, .inl (-3), 0, 0), by subst h; exact ⟨dX0_year_10, rfl, ⟨(-3), rfl, by decide⟩⟩⟩ else none
 else
  bif Nat.blt pc 17 then
   bif Nat.blt pc 13 then
    if h : pc = 12 then some ⟨(.ireturn, 13, .inl 0, 0, 0), by subst h; exact ⟨dX0_year_12, rfl, rfl⟩⟩ else none
   else
    bif Nat.blt pc 14 then
     if h : pc = 13 then some ⟨(.aload_n 0, 14, .inl 0, 0, 0), by subst h; exact ⟨dX0_year_13, rfl, trivial⟩⟩ else none
    else
     if h : pc = 14 then some ⟨(.invokevirtual 390, 17, .inl 0, 154, 0), by subst h; exact ⟨dX0_year_14, rfl, ⟨by decide, q1005, q1007, qs33, _, rfl, rfl⟩⟩⟩ else none
  else
   bif Nat.blt pc 18 then
    if h : pc = 17 then some ⟨(.aload_n 0, 18, .inl 0, 0, 0), by subst h; exact ⟨dX0_year_17, rfl, trivial⟩⟩ else none
   else
    bif Nat.blt pc 21 then
     if h : pc = 18 then some ⟨(.getfield 66, 21, .inl 0, 3, 0), by subst h; exact ⟨dX0_year_18, rfl, ⟨⟨_, rfl, by decide, _, Or.inl q885, Or.inl rfl⟩, (show mKd 0 3 ≤ 4 by decide)⟩⟩⟩ else none
    else
     if h : pc = 21 then some ⟨(.ireturn, 22, .inl 0, 0, 0), by subst h; exact ⟨dX0_year_21, rfl, rfl⟩⟩ else none

noncomputable def mt154 (pc : Nat) : Option {e : mE // mOK yX0_passes cX0_passes 3 ((Option.none : Option ClassFile.FieldType)) pc e} :=
 bif Nat.blt pc 91 then
  bif Nat.blt pc 45 then
   bif Nat.blt pc 25 then
    bif Nat.blt pc 13 then
     bif Nat.blt pc 5 then
      bif Nat.blt pc 1 then
       if h : pc = 0 then some ⟨(.aload_n 0, 1, .inl 0, 0, 0), by subst h; exact ⟨dX0_passes_0, rfl, trivial⟩⟩ else none
      else
       bif Nat.blt pc 4 then
        if h : pc = 1 then some ⟨(.invokevirtual 377, 4, .inl 0, 125, 0), by subst h; exact ⟨dX0_passes_1, rfl, ⟨by decide, q425, q427, qs10, _, rfl, rfl⟩⟩⟩ else none
       else
        if h : pc = 4 then some ⟨(.aload_n 0, 5, .inl 0, 0, 0), by subst h; exact ⟨dX0_passes_4, rfl, trivial⟩⟩ else none
     else
      bif Nat.blt pc 8 then
       if h : pc = 5 then some ⟨(.getfield 66, 8, .inl 0, 3, 0), by subst h; exact ⟨dX0_passes_5, rfl, ⟨⟨_, rfl, by decide, _, Or.inl q885, Or.inl rfl⟩, (show mKd 0 3 ≤ 4 by decide)⟩⟩⟩ else none
      else
       bif Nat.blt pc 10 then
        if h : pc = 8 then some ⟨(.bipush 10, 10, .inl 10, 0, 0), by subst h; exact ⟨dX0_passes_8, rfl, ⟨10, rfl, by decide⟩⟩⟩ else none
       else
        if h : pc = 10 then some ⟨(.if_icmp .ge 22, 13, .inl 0, 32, 0), by subst h; exact ⟨dX0_passes_10, rfl, (show ((10 : Nat) : Int) + (22) = ((32 : Nat) : Int) by decide)⟩⟩ else none
    else
     bif Nat.blt pc 18 then
      bif Nat.blt pc 14 then
       if h : pc = 13 then some ⟨(.aload_n 0, 14, .inl 0, 0, 0), by subst h; exact ⟨dX0_passes_13, rfl, trivial⟩⟩ else none
      else
       bif Nat.blt pc 17 then
        if h : pc = 14 then some ⟨(.getfield 300, 17, .inr (.inr none), 21, 0), by subst h; exact ⟨dX0_passes_14, rfl, ⟨⟨_, rfl, by decide, _, Or.inl q904, Or.inl rfl⟩, (show mKd 0 21 = 6 by rfl)⟩⟩⟩ else none
       else
        if h : pc = 17 then some ⟨(.aload_n 0, 18, .inl 0, 0, 0), by subst h; exact ⟨dX0_passes_17, rfl, trivial⟩⟩ else none
     else
      bif Nat.blt pc 21 then
       if h : pc = 18 then some ⟨(.invokevirtual 369, 21, .inl 0, 122, 0), by subst h; exact ⟨dX0_passes_18, rfl, ⟨by decide, q365, q367, qs7, _, rfl, rfl⟩⟩⟩ else none
      else
       bif Nat.blt pc 22 then
        if h : pc = 21 then some ⟨(.i2l, 22, .inl 0, 0, 0), by subst h; exact ⟨dX0_passes_21, rfl, trivial⟩⟩ else none
       else
        if h : pc = 22 then some ⟨(.invokevirtual 380, 25, .inl 0, 213, 2), by subst h; exact ⟨dX0_passes_22, rfl, ⟨by decide, q492, q493, q494, _, rfl, rfl⟩⟩⟩ else none
   else
    bif Nat.blt pc 35 then
     bif Nat.blt pc 32 then
      bif Nat.blt pc 28 then
       if h : pc = 25 then some ⟨(.ifCond .le 7, 28, .inl 0, 32, 0), by subst h; exact ⟨dX0_passes_25, rfl, (show ((25 : Nat) : Int) + (7) = ((32 : Nat) : Int) by decide)⟩⟩ else none
      else
       bif Nat.blt pc 29 then
        if h : pc = 28 then some ⟨(.iconst 1, 29, .inl 1, 0, 0), by subst h; exact ⟨dX0_passes_28, rfl, ⟨1, rfl, by decide⟩⟩⟩ else none
       else
        if h : pc = 29 then some ⟨(.goto 4, 32, .inl 0, 33, 0), by subst h; exact ⟨dX0_passes_29, rfl, (show ((29 : Nat) : Int) + (4) = ((33 : Nat) : Int) by decide)⟩⟩ else none
     else
      bif Nat.blt pc 33 then
       if h : pc = 32 then some ⟨(.iconst 0, 33, .inl 0, 0, 0), by subst h; exact ⟨dX0_passes_32, rfl, ⟨0, rfl, by decide⟩⟩⟩ else none
      else
       bif Nat.blt pc 34 then
        if h : pc = 33 then some ⟨(.istore_n 1, 34, .inl 0, 0, 0), by subst h; exact ⟨dX0_passes_33, rfl, (show (1 : Nat) < 3 by decide)⟩⟩ else none
       else
        if h : pc = 34 then some ⟨(.iconst 0, 35, .inl 0, 0, 0), by subst h; exact ⟨dX0_passes_34, rfl, ⟨0, rfl, by decide⟩⟩⟩ else none
    else
     bif Nat.blt pc 38 then
      bif Nat.blt pc 36 then
       if h : pc = 35 then some ⟨(.istore_n 2, 36, .inl 0, 0, 0), by subst h; exact ⟨dX0_passes_35, rfl, (show (2 : Nat) < 3 by decide)⟩⟩ else none
      else
       bif Nat.blt pc 37 then
        if h : pc = 36 then some ⟨(.iload_n 2, 37, .inl 0, 0, 0), by subst h; exact ⟨dX0_passes_36, rfl, trivial⟩⟩ else none
       else
        if h : pc = 37 then some ⟨(.aload_n 0, 38, .inl 0, 0, 0), by subst h; exact ⟨dX0_passes_37, rfl, trivial⟩⟩ else none
     else
      bif Nat.blt pc 41 then
       if h : pc = 38 then some ⟨(.getfield 10, 41, .inl 0, 1, 0), by subst h; exact ⟨dX0_passes_38, rfl, ⟨⟨_, rfl, by decide, _, Or.inl q881, Or.inl rfl⟩, (show mKd 0 1 ≤ 4 by decide)⟩⟩⟩ else none
      else
       bif Nat.blt pc 44 then
        if h : pc = 41 then some ⟨(.if_icmp .ge 36, 44, .inl 0, 77, 0), by subst h; exact ⟨dX0_passes_41, rfl, (show ((41 : Nat) : Int) + (36) = ((77 : Nat) : Int) by decide)⟩⟩ else none
       else
        if h : pc = 44 then some ⟨(.aload_n 0, 45, .inl 0, 0, 0), by subst h; exact ⟨dX0_passes_44, rfl, trivial⟩⟩ else none
  else
   bif Nat.blt pc 69 then
    bif Nat.blt pc 55 then
     bif Nat.blt pc 50 then
      bif Nat.blt pc 48 then
       if h : pc = 45 then some ⟨(.getfield 306, 48, .inr (.inr none), 23, 0), by subst h; exact ⟨dX0_passes_45, rfl, ⟨⟨_, rfl, by decide, _, Or.inl q906, Or.inl rfl⟩, (show mKd 0 23 = 6 by rfl)⟩⟩⟩ else none
      else
       bif Nat.blt pc 49 then
        if h : pc = 48 then some ⟨(.iload_n 2, 49, .inl 0, 0, 0), by subst h; exact ⟨dX0_passes_48, rfl, trivial⟩⟩ else none
       else
        if h : pc = 49 then some ⟨(.aload_n 0, 50, .inl 0, 0, 0), by subst h; exact ⟨dX0_passes_49, rfl, trivial⟩⟩ else none
     else
      bif Nat.blt pc 53 then
       if h : pc = 50 then some ⟨(.getfield 47, 53, .inr (.inr none), 0, 0), by subst h; exact ⟨dX0_passes_50, rfl, ⟨⟨_, rfl, by decide, _, Or.inl q880, Or.inl rfl⟩, (show mKd 0 0 = 6 by rfl)⟩⟩⟩ else none
      else
       bif Nat.blt pc 54 then
        if h : pc = 53 then some ⟨(.iload_n 2, 54, .inl 0, 0, 0), by subst h; exact ⟨dX0_passes_53, rfl, trivial⟩⟩ else none
       else
        if h : pc = 54 then some ⟨(.aaload, 55, .inl 0, 0, 0), by subst h; exact ⟨dX0_passes_54, rfl, trivial⟩⟩ else none
    else
     bif Nat.blt pc 62 then
      bif Nat.blt pc 58 then
       if h : pc = 55 then some ⟨(.getfield 81, 58, .inl 0, 3, 4), by subst h; exact ⟨dX0_passes_55, rfl, ⟨⟨_, rfl, by decide, _, Or.inl q206, Or.inl rfl⟩, (show mKd 4 3 ≤ 4 by decide)⟩⟩⟩ else none
      else
       bif Nat.blt pc 61 then
        if h : pc = 58 then some ⟨(.ifCond .eq 11, 61, .inl 0, 69, 0), by subst h; exact ⟨dX0_passes_58, rfl, (show ((58 : Nat) : Int) + (11) = ((69 : Nat) : Int) by decide)⟩⟩ else none
       else
        if h : pc = 61 then some ⟨(.aload_n 0, 62, .inl 0, 0, 0), by subst h; exact ⟨dX0_passes_61, rfl, trivial⟩⟩ else none
     else
      bif Nat.blt pc 63 then
       if h : pc = 62 then some ⟨(.iload_n 2, 63, .inl 0, 0, 0), by subst h; exact ⟨dX0_passes_62, rfl, trivial⟩⟩ else none
      else
       bif Nat.blt pc 66 then
        if h : pc = 63 then some ⟨(.invokevirtual 113, 66, .inl 0, 123, 0), by subst h; exact ⟨dX0_passes_63, rfl, ⟨by decide, q394, q396, qs8, _, rfl, rfl⟩⟩⟩ else none
       else
        if h : pc = 66 then some ⟨(.goto 4, 69, .inl 0, 70, 0), by subst h; exact ⟨dX0_passes_66, rfl, (show ((66 : Nat) : Int) + (4) = ((70 : Nat) : Int) by decide)⟩⟩ else none
   else
    bif Nat.blt pc 79 then
     bif Nat.blt pc 74 then
      bif Nat.blt pc 70 then
       if h : pc = 69 then some ⟨(.iconst 0, 70, .inl 0, 0, 0), by subst h; exact ⟨dX0_passes_69, rfl, ⟨0, rfl, by decide⟩⟩⟩ else none
      else
       bif Nat.blt pc 71 then
        if h : pc = 70 then some ⟨(.iastore, 71, .inl 0, 0, 0), by subst h; exact ⟨dX0_passes_70, rfl, trivial⟩⟩ else none
       else
        if h : pc = 71 then some ⟨(.iinc 2 1, 74, .inl 1, 0, 0), by subst h; exact ⟨dX0_passes_71, rfl, ⟨(show (2 : Nat) < 3 by decide), 1, rfl, by decide⟩⟩⟩ else none
     else
      bif Nat.blt pc 77 then
       if h : pc = 74 then some ⟨(.goto (-38), 77, .inl 0, 36, 0), by subst h; exact ⟨dX0_passes_74, rfl, (show ((74 : Nat) : Int) + ((-38)) = ((36 : Nat) : Int) by decide)⟩⟩ else none
      else
       bif Nat.blt pc 78 then
        if h : pc = 77 then some ⟨(.iconst 0, 78, .inl 0, 0, 0), by subst h; exact ⟨dX0_passes_77, rfl, ⟨0, rfl, by decide⟩⟩⟩ else none
       else
        if h : pc = 78 then some ⟨(.istore_n 2, 79, .inl 0, 0, 0), by subst h; exact ⟨dX0_passes_78, rfl, (show (2 : Nat) < 3 by decide)⟩⟩ else none
    else
     bif Nat.blt pc 84 then
      bif Nat.blt pc 80 then
       if h : pc = 79 then some ⟨(.iload_n 2, 80, .inl 0, 0, 0), by subst h; exact ⟨dX0_passes_79, rfl, trivial⟩⟩ else none
      else
       bif Nat.blt pc 81 then
        if h : pc = 80 then some ⟨(.aload_n 0, 81, .inl 0, 0, 0), by subst h; exact ⟨dX0_passes_80, rfl, trivial⟩⟩ else none
       else
        if h : pc = 81 then some ⟨(.getfield 10, 84, .inl 0, 1, 0), by subst h; exact ⟨dX0_passes_81, rfl, ⟨⟨_, rfl, by decide, _, Or.inl q881, Or.inl rfl⟩, (show mKd 0 1 ≤ 4 by decide)⟩⟩⟩ else none
     else
      bif Nat.blt pc 87 then
       if h : pc = 84 then some ⟨(.if_icmp .ge 65, 87, .inl 0, 149, 0), by subst h; exact ⟨dX0_passes_84, rfl, (show ((84 : Nat) : Int) + (65) = ((149 : Nat) : Int) by decide)⟩⟩ else none
      else
       bif Nat.blt pc 88 then
        if h : pc = 87 then some ⟨(.aload_n 0, 88, .inl 0, 0, 0), by subst h; exact ⟨dX0_passes_87, rfl, trivial⟩⟩ else none
       else
        if h : pc = 88 then some ⟨(.getfield 47, 91, .inr (.inr none), 0, 0), by subst h; exact ⟨dX0_passes_88, rfl, ⟨⟨_, rfl, by decide, _, Or.inl q880, Or.inl rfl⟩, (show mKd 0 0 = 6 by rfl)⟩⟩⟩ else none
 else
  bif Nat.blt pc 132 then
   bif Nat.blt pc 110 then
    bif Nat.blt pc 100 then
     bif Nat.blt pc 95 then
      bif Nat.blt pc 92 then
       if h : pc = 91 then some ⟨(.iload_n 2, 92, .inl 0, 0, 0), by subst h; exact ⟨dX0_passes_91, rfl, trivial⟩⟩ else none
      else
       bif Nat.blt pc 93 then
        if h : pc = 92 then some ⟨(.aaload, 93, .inl 0, 0, 0), by subst h; exact ⟨dX0_passes_92, rfl, trivial⟩⟩ else none
       else
        if h : pc = 93 then some ⟨(.bipush 99, 95, .inl 99, 0, 0), by subst h; exact ⟨dX0_passes_93, rfl, ⟨99, rfl, by decide⟩⟩⟩ else none
     else
      bif Nat.blt pc 96 then
       if h : pc = 95 then some ⟨(.aload_n 0, 96, .inl 0, 0, 0), by subst h; exact ⟨dX0_passes_95, rfl, trivial⟩⟩ else none
      else
       bif Nat.blt pc 99 then
        if h : pc = 96 then some ⟨(.getfield 47, 99, .inr (.inr none), 0, 0), by subst h; exact ⟨dX0_passes_96, rfl, ⟨⟨_, rfl, by decide, _, Or.inl q880, Or.inl rfl⟩, (show mKd 0 0 = 6 by rfl)⟩⟩⟩ else none
       else
        if h : pc = 99 then some ⟨(.iload_n 2, 100, .inl 0, 0, 0), by subst h; exact ⟨dX0_passes_99, rfl, trivial⟩⟩ else none
    else
     bif Nat.blt pc 105 then
      bif Nat.blt pc 101 then
       if h : pc = 100 then some ⟨(.aaload, 101, .inl 0, 0, 0), by subst h; exact ⟨dX0_passes_100, rfl, trivial⟩⟩ else none
      else
       bif Nat.blt pc 104 then
        if h : pc = 101 then some ⟨(.getfield 78, 104, .inl 0, 2, 4), by subst h; exact ⟨dX0_passes_101, rfl, ⟨⟨_, rfl, by decide, _, Or.inl q204, Or.inl rfl⟩, (show mKd 4 2 ≤ 4 by decide)⟩⟩⟩ else none
       else
        if h : pc = 104 then some ⟨(.aload_n 0, 105, .inl 0, 0, 0), by subst h; exact ⟨dX0_passes_104, rfl, trivial⟩⟩ else none
     else
      bif Nat.blt pc 108 then
       if h : pc = 105 then some ⟨(.getfield 306, 108, .inr (.inr none), 23, 0), by subst h; exact ⟨dX0_passes_105, rfl, ⟨⟨_, rfl, by decide, _, Or.inl q906, Or.inl rfl⟩, (show mKd 0 23 = 6 by rfl)⟩⟩⟩ else none
      else
       bif Nat.blt pc 109 then
        if h : pc = 108 then some ⟨(.iload_n 2, 109, .inl 0, 0, 0), by subst h; exact ⟨dX0_passes_108, rfl, trivial⟩⟩ else none
       else
        if h : pc = 109 then some ⟨(.iaload, 110, .inl 0, 0, 0), by subst h; exact ⟨dX0_passes_109, rfl, trivial⟩⟩ else none
   else
    bif Nat.blt pc 122 then
     bif Nat.blt pc 117 then
      bif Nat.blt pc 111 then
       if h : pc = 110 then some ⟨(.iadd, 111, .inl 0, 0, 0), by subst h; exact ⟨dX0_passes_110, rfl, trivial⟩⟩ else none
      else
       bif Nat.blt pc 114 then
        if h : pc = 111 then some ⟨(.invokestatic 1, 114, .inl 0, 991, 0), by subst h; exact ⟨dX0_passes_111, rfl, Or.inr (Or.inl ⟨by decide, q140, fun h => ⟨q359, q360, q361⟩, fun h => absurd h (by decide), fun h => absurd h (by decide), fun h => absurd h (by decide)⟩)⟩⟩ else none
       else
        if h : pc = 114 then some ⟨(.putfield 78, 117, .inl 0, 2, 4), by subst h; exact ⟨dX0_passes_114, rfl, ⟨⟨_, rfl, by decide, _, Or.inl q204, Or.inl rfl⟩, (show mKd 4 2 ≤ 4 by decide), by decide, by decide, (fun q h => Or.inl (by cases h; rfl))⟩⟩⟩ else none
     else
      bif Nat.blt pc 118 then
       if h : pc = 117 then some ⟨(.aload_n 0, 118, .inl 0, 0, 0), by subst h; exact ⟨dX0_passes_117, rfl, trivial⟩⟩ else none
      else
       bif Nat.blt pc 121 then
        if h : pc = 118 then some ⟨(.getfield 47, 121, .inr (.inr none), 0, 0), by subst h; exact ⟨dX0_passes_118, rfl, ⟨⟨_, rfl, by decide, _, Or.inl q880, Or.inl rfl⟩, (show mKd 0 0 = 6 by rfl)⟩⟩⟩ else none
       else
        if h : pc = 121 then some ⟨(.iload_n 2, 122, .inl 0, 0, 0), by subst h; exact ⟨dX0_passes_121, rfl, trivial⟩⟩ else none
    else
     bif Nat.blt pc 127 then
      bif Nat.blt pc 123 then
       if h : pc = 122 then some ⟨(.aaload, 123, .inl 0, 0, 0), by subst h; exact ⟨dX0_passes_122, rfl, trivial⟩⟩ else none
      else
       bif Nat.blt pc 126 then
        if h : pc = 123 then some ⟨(.sipush 999, 126, .inl 999, 0, 0), by subst h; exact ⟨dX0_passes_123, rfl, ⟨999, rfl, by decide⟩⟩⟩ else none
       else
        if h : pc = 126 then some ⟨(.aload_n 0, 127, .inl 0, 0, 0), by subst h; exact ⟨dX0_passes_126, rfl, trivial⟩⟩ else none
     else
      bif Nat.blt pc 130 then
       if h : pc = 127 then some ⟨(.getfield 47, 130, .inr (.inr none), 0, 0), by subst h; exact ⟨dX0_passes_127, rfl, ⟨⟨_, rfl, by decide, _, Or.inl q880, Or.inl rfl⟩, (show mKd 0 0 = 6 by rfl)⟩⟩⟩ else none
      else
       bif Nat.blt pc 131 then
        if h : pc = 130 then some ⟨(.iload_n 2, 131, .inl 0, 0, 0), by subst h; exact ⟨dX0_passes_130, rfl, trivial⟩⟩ else none
       else
        if h : pc = 131 then some ⟨(.aaload, 132, .inl 0, 0, 0), by subst h; exact ⟨dX0_passes_131, rfl, trivial⟩⟩ else none
  else
   bif Nat.blt pc 158 then
    bif Nat.blt pc 146 then
     bif Nat.blt pc 137 then
      bif Nat.blt pc 135 then
       if h : pc = 132 then some ⟨(.getfield 75, 135, .inl 0, 1, 4), by subst h; exact ⟨dX0_passes_132, rfl, ⟨⟨_, rfl, by decide, _, Or.inl q197, Or.inl rfl⟩, (show mKd 4 1 ≤ 4 by decide)⟩⟩⟩ else none
      else
       bif Nat.blt pc 136 then
        if h : pc = 135 then some ⟨(.iconst 1, 136, .inl 1, 0, 0), by subst h; exact ⟨dX0_passes_135, rfl, ⟨1, rfl, by decide⟩⟩⟩ else none
       else
        if h : pc = 136 then some ⟨(.iadd, 137, .inl 0, 0, 0), by subst h; exact ⟨dX0_passes_136, rfl, trivial⟩⟩ else none
     else
      bif Nat.blt pc 140 then
       if h : pc = 137 then some ⟨(.invokestatic 1, 140, .inl 0, 991, 0), by subst h; exact ⟨dX0_passes_137, rfl, Or.inr (Or.inl ⟨by decide, q140, fun h => ⟨q359, q360, q361⟩, fun h => absurd h (by decide), fun h => absurd h (by decide), fun h => absurd h (by decide)⟩)⟩⟩ else none
      else
       bif Nat.blt pc 143 then
        if h : pc = 140 then some ⟨(.putfield 75, 143, .inl 0, 1, 4), by subst h; exact ⟨dX0_passes_140, rfl, ⟨⟨_, rfl, by decide, _, Or.inl q197, Or.inl rfl⟩, (show mKd 4 1 ≤ 4 by decide), by decide, by decide, (fun q h => Or.inl (by cases h; rfl))⟩⟩⟩ else none
       else
        if h : pc = 143 then some ⟨(.iinc 2 1, 146, .inl 1, 0, 0), by subst h; exact ⟨dX0_passes_143, rfl, ⟨(show (2 : Nat) < 3 by decide), 1, rfl, by decide⟩⟩⟩ else none
    else
     bif Nat.blt pc 151 then
      bif Nat.blt pc 149 then
       if h : pc = 146 then some ⟨(.goto (-67), 149, .inl 0, 79, 0), by subst h; exact ⟨dX0_passes_146, rfl, (show ((146 : Nat) : Int) + ((-67)) = ((79 : Nat) : Int) by decide)⟩⟩ else none
      else
       bif Nat.blt pc 150 then
        if h : pc = 149 then some ⟨(.aload_n 0, 150, .inl 0, 0, 0), by subst h; exact ⟨dX0_passes_149, rfl, trivial⟩⟩ else none
       else
        if h : pc = 150 then some ⟨(.dup, 151, .inl 0, 0, 0), by subst h; exact ⟨dX0_passes_150, rfl, trivial⟩⟩ else none
     else
      bif Nat.blt pc 154 then
       if h : pc = 151 then some ⟨(.getfield 66, 154, .inl 0, 3, 0), by subst h; exact ⟨dX0_passes_151, rfl, ⟨⟨_, rfl, by decide, _, Or.inl q885, Or.inl rfl⟩, (show mKd 0 3 ≤ 4 by decide)⟩⟩⟩ else none
      else
       bif Nat.blt pc 155 then
        if h : pc = 154 then some ⟨(.iload_n 1, 155, .inl 0, 0, 0), by subst h; exact ⟨dX0_passes_154, rfl, trivial⟩⟩ else none
       else
        if h : pc = 155 then some ⟨(.ifCond .eq 7, 158, .inl 0, 162, 0), by subst h; exact ⟨dX0_passes_155, rfl, (show ((155 : Nat) : Int) + (7) = ((162 : Nat) : Int) by decide)⟩⟩ else none
   else
    bif Nat.blt pc 168 then
     bif Nat.blt pc 163 then
      bif Nat.blt pc 159 then
       if h : pc = 158 then some ⟨(.iconst 1, 159, .inl 1, 0, 0), by subst h; exact ⟨dX0_passes_158, rfl, ⟨1, rfl, by decide⟩⟩⟩ else none
      else
       bif Nat.blt pc 162 then
        if h : pc = 159 then some ⟨(.goto 4, 162, .inl 0, 163, 0), by subst h; exact ⟨dX0_passes_159, rfl, (show ((159 : Nat) : Int) + (4) = ((163 : Nat) : Int) by decide)⟩⟩ else none
       else
        if h : pc = 162 then some ⟨(.iconst 0, 163, .inl 0, 0, 0), by subst h; exact ⟨dX0_passes_162, rfl, ⟨0, rfl, by decide⟩⟩⟩ else none
     else
      bif Nat.blt pc 164 then
       if h : pc = 163 then some ⟨(.iadd, 164, .inl 0, 0, 0), by subst h; exact ⟨dX0_passes_163, rfl, trivial⟩⟩ else none
      else
       bif Nat.blt pc 167 then
        if h : pc = 164 then some ⟨(.putfield 66, 167, .inl 0, 3, 0), by subst h; exact ⟨dX0_passes_164, rfl, ⟨⟨_, rfl, by decide, _, Or.inl q885, Or.inl rfl⟩, (show mKd 0 3 ≤ 4 by decide), by decide, by decide, (fun q h => Or.inl (by cases h; rfl))⟩⟩⟩ else none
       else
        if h : pc = 167 then some ⟨(.aload_n 0, 168, .inl 0, 0, 0), by subst h; exact ⟨dX0_passes_167, rfl, trivial⟩⟩ else none
    else
     bif Nat.blt pc 173 then
      bif Nat.blt pc 169 then
       if h : pc = 168 then some ⟨(.dup, 169, .inl 0, 0, 0), by subst h; exact ⟨dX0_passes_168, rfl, trivial⟩⟩ else none
      else
       bif Nat.blt pc 172 then
        if h : pc = 169 then some ⟨(.getfield 69, 172, .inl 0, 2, 0), by subst h; exact ⟨dX0_passes_169, rfl, ⟨⟨_, rfl, by decide, _, Or.inl q883, Or.inl rfl⟩, (show mKd 0 2 ≤ 4 by decide)⟩⟩⟩ else none
       else
        if h : pc = 172 then some ⟨(.iconst 1, 173, .inl 1, 0, 0), by subst h; exact ⟨dX0_passes_172, rfl, ⟨1, rfl, by decide⟩⟩⟩ else none
     else
      bif Nat.blt pc 174 then
       if h : pc = 173 then some ⟨(.iadd, 174, .inl 0, 0, 0), by subst h; exact ⟨dX0_passes_173, rfl, trivial⟩⟩ else none
      else
       bif Nat.blt pc 177 then
        if h : pc = 174 then some ⟨(.putfield 69, 177, .inl 0, 2, 0), by subst h; exact ⟨dX0_passes_174, rfl, ⟨⟨_, rfl, by decide, _, Or.inl q883, Or.inl rfl⟩, (show mKd 0 2 ≤ 4 by decide), by decide, by decide, (fun q h => Or.inl (by cases h; rfl))⟩⟩⟩ else none
       else
        if h : pc = 177 then some ⟨(.return_, 178, .inl 0, 0, 0), by subst h; exact ⟨dX0_passes_177, rfl, rfl⟩⟩ else none

noncomputable def mt155 (pc : Nat) : Option {e : mE // mOK yX0_lift cX0_lift 3 ((Option.some ClassFile.FieldType.int)) pc e} :=
 bif Nat.blt pc 19 then
  bif Nat.blt pc 10 then
   bif Nat.blt pc 2 then
    bif Nat.blt pc 1 then
     if h : pc = 0 then some ⟨(.aload_n 0, 1, .inl 0, 0, 0), by subst h; exact ⟨dX0_lift_0, rfl, trivial⟩⟩ else none
    else
     if h : pc = 1 then some ⟨(.iload_n 1, 2, .inl 0, 0, 0), by subst h; exact ⟨dX0_lift_1, rfl, trivial⟩⟩ else none
   else
    bif Nat.blt pc 5 then
     if h : pc = 2 then some ⟨(.invokevirtual 59, 5, .inl 0, 113, 0), by subst h; exact ⟨dX0_lift_2, rfl, ⟨by decide, q281, q283, qs1, _, rfl, rfl⟩⟩⟩ else none
    else
     bif Nat.blt pc 8 then
      if h : pc = 5 then some ⟨(.ifCond .ne 6, 8, .inl 0, 11, 0), by subst h; exact ⟨dX0_lift_5, rfl, (show ((5 : Nat) : Int) + (6) = ((11 : Nat) : Int) by decide)⟩⟩ else none
     else
      if h : pc = 8 then some ⟨(.bipush (-2), 10, .inl (-2), 0, 0), by subst h; exact ⟨dX0_lift_8, rfl, ⟨(-2), rfl, by decide⟩⟩⟩ else none
  else
   bif Nat.blt pc 12 then
    bif Nat.blt pc 11 then
     if h : pc = 10 then some ⟨(.ireturn, 11, .inl 0, 0, 0), by subst h; exact ⟨dX0_lift_10, rfl, rfl⟩⟩ else none
    else
     if h : pc = 11 then some ⟨(.aload_n 0, 12, .inl 0, 0, 0), by subst h; exact ⟨dX0_lift_11, rfl, trivial⟩⟩ else none
   else
    bif Nat.blt pc 13 then
     if h : pc = 12 then some ⟨(.iload_n 1, 13, .inl 0, 0, 0), by subst h; exact ⟨dX0_lift_12, rfl, trivial⟩⟩ else none
    else
     bif Nat.blt pc 16 then
      if h : pc = 13 then some ⟨(.invokevirtual 116, 16, .inl 0, 124, 0), by subst h; exact ⟨dX0_lift_13, rfl, ⟨by decide, q421, q423, qs9, _, rfl, rfl⟩⟩⟩ else none
     else
      if h : pc = 16 then some ⟨(.ifCond .ne 6, 19, .inl 0, 22, 0), by subst h; exact ⟨dX0_lift_16, rfl, (show ((16 : Nat) : Int) + (6) = ((22 : Nat) : Int) by decide)⟩⟩ else none
 else
  bif Nat.blt pc 27 then
   bif Nat.blt pc 22 then
    bif Nat.blt pc 21 then
     if h : pc = 19 then some ⟨(.bipush (-3), 21, .inl (-3), 0, 0), by subst h; exact ⟨dX0_lift_19, rfl, ⟨(-3), rfl, by decide⟩⟩⟩ else none
    else
     if h : pc = 21 then some ⟨(.ireturn, 22, .inl 0, 0, 0), by subst h; exact ⟨dX0_lift_21, rfl, rfl⟩⟩ else none
   else
    bif Nat.blt pc 23 then
     if h : pc = 22 then some ⟨(.aload_n 0, 23, .inl 0, 0, 0), by subst h; exact ⟨dX0_lift_22, rfl, trivial⟩⟩ else none
    else
     bif Nat.blt pc 26 then
      if h : pc = 23 then some ⟨(.getfield 66, 26, .inl 0, 3, 0), by subst h; exact ⟨dX0_lift_23, rfl, ⟨⟨_, rfl, by decide, _, Or.inl q885, Or.inl rfl⟩, (show mKd 0 3 ≤ 4 by decide)⟩⟩⟩ else none
     else
      if h : pc = 26 then some ⟨(.istore_n 2, 27, .inl 0, 0, 0), by subst h; exact ⟨dX0_lift_26, rfl, (show (2 : Nat) < 3 by decide)⟩⟩ else none
  else
   bif Nat.blt pc 29 then
    bif Nat.blt pc 28 then
     if h : pc = 27 then some ⟨(.aload_n 0, 28, .inl 0, 0, 0), by subst h; exact ⟨dX0_lift_27, rfl, trivial⟩⟩ else none
    else
     if h : pc = 28 then some ⟨(.iconst 0, 29, .inl 0, 0, 0), by subst h; exact ⟨dX0_lift_28, rfl, ⟨0, rfl, by decide⟩⟩⟩ else none
   else
    bif Nat.blt pc 32 then
     if h : pc = 29 then some ⟨(.putfield 66, 32, .inl 0, 3, 0), by subst h; exact ⟨dX0_lift_29, rfl, ⟨⟨_, rfl, by decide, _, Or.inl q885, Or.inl rfl⟩, (show mKd 0 3 ≤ 4 by decide), by decide, by decide, (fun q h => Or.inl (by cases h; rfl))⟩⟩⟩ else none
    else
     bif Nat.blt pc 33 then
      if h : pc = 32 then some ⟨(.iload_n 2, 33, .inl 0, 0, 0), by subst h; exact ⟨dX0_lift_32, rfl, trivial⟩⟩ else none
     else
      if h : pc = 33 then some ⟨(.ireturn, 34, .inl 0, 0, 0), by subst h; exact ⟨dX0_lift_33, rfl, rfl⟩⟩ else none

noncomputable def mt156 (pc : Nat) : Option {e : mE // mOK yX0_run cX0_run 4 ((Option.some ClassFile.FieldType.int)) pc e} :=
 bif Nat.blt pc 24 then
  bif Nat.blt pc 11 then
   bif Nat.blt pc 5 then
    bif Nat.blt pc 1 then
     if h : pc = 0 then some ⟨(.aload_n 0, 1, .inl 0, 0, 0), by subst h; exact ⟨dX0_run_0, rfl, trivial⟩⟩ else none
    else
     bif Nat.blt pc 2 then
      if h : pc = 1 then some ⟨(.iload_n 1, 2, .inl 0, 0, 0), by subst h; exact ⟨dX0_run_1, rfl, trivial⟩⟩ else none
     else
      if h : pc = 2 then some ⟨(.invokevirtual 59, 5, .inl 0, 113, 0), by subst h; exact ⟨dX0_run_2, rfl, ⟨by decide, q281, q283, qs1, _, rfl, rfl⟩⟩⟩ else none
   else
    bif Nat.blt pc 9 then
     bif Nat.blt pc 8 then
      if h : pc = 5 then some ⟨(.ifCond .eq 25, 8, .inl 0, 30, 0), by subst h; exact ⟨dX0_run_5, rfl, (show ((5 : Nat) : Int) + (25) = ((30 : Nat) : Int) by decide)⟩⟩ else none
     else
      if h : pc = 8 then some ⟨(.iload_n 2, 9, .inl 0, 0, 0), by subst h; exact ⟨dX0_run_8, rfl, trivial⟩⟩ else none
    else
     bif Nat.blt pc 10 then
      if h : pc = 9 then some ⟨(.i2l, 10, .inl 0, 0, 0), by subst h; exact ⟨dX0_run_9, rfl, trivial⟩⟩ else none
     else
      if h : pc = 10 then some ⟨(.lconst 0, 11, .inr (.inl 0), 0, 0), by subst h; exact ⟨dX0_run_10, rfl, ⟨0, rfl, by decide⟩⟩⟩ else none
  else
   bif Nat.blt pc 20 then
    bif Nat.blt pc 14 then
     if h : pc = 11 then some ⟨(.ldc2_w 405, 14, .inr (.inl 60), 0, 0), by subst h; exact ⟨dX0_run_11, rfl, ⟨_, rfl, q1017⟩⟩⟩ else none
    else
     bif Nat.blt pc 17 then
      if h : pc = 14 then some ⟨(.invokestatic 16, 17, .inl 0, 108, 0), by subst h; exact ⟨dX0_run_14, rfl, Or.inl ⟨by decide, q167, q168⟩⟩⟩ else none
     else
      if h : pc = 17 then some ⟨(.ifCond .eq 13, 20, .inl 0, 30, 0), by subst h; exact ⟨dX0_run_17, rfl, (show ((17 : Nat) : Int) + (13) = ((30 : Nat) : Int) by decide)⟩⟩ else none
   else
    bif Nat.blt pc 22 then
     bif Nat.blt pc 21 then
      if h : pc = 20 then some ⟨(.iload_n 3, 21, .inl 0, 0, 0), by subst h; exact ⟨dX0_run_20, rfl, trivial⟩⟩ else none
     else
      if h : pc = 21 then some ⟨(.i2l, 22, .inl 0, 0, 0), by subst h; exact ⟨dX0_run_21, rfl, trivial⟩⟩ else none
    else
     bif Nat.blt pc 23 then
      if h : pc = 22 then some ⟨(.lconst 0, 23, .inr (.inl 0), 0, 0), by subst h; exact ⟨dX0_run_22, rfl, ⟨0, rfl, by decide⟩⟩⟩ else none
     else
      if h : pc = 23 then some ⟨(.lconst 1, 24, .inr (.inl 1), 0, 0), by subst h; exact ⟨dX0_run_23, rfl, ⟨1, rfl, by decide⟩⟩⟩ else none
 else
  bif Nat.blt pc 38 then
   bif Nat.blt pc 32 then
    bif Nat.blt pc 27 then
     if h : pc = 24 then some ⟨(.invokestatic 16, 27, .inl 0, 108, 0), by subst h; exact ⟨dX0_run_24, rfl, Or.inl ⟨by decide, q167, q168⟩⟩⟩ else none
    else
     bif Nat.blt pc 30 then
      if h : pc = 27 then some ⟨(.ifCond .ne 6, 30, .inl 0, 33, 0), by subst h; exact ⟨dX0_run_27, rfl, (show ((27 : Nat) : Int) + (6) = ((33 : Nat) : Int) by decide)⟩⟩ else none
     else
      if h : pc = 30 then some ⟨(.bipush (-2), 32, .inl (-2), 0, 0), by subst h; exact ⟨dX0_run_30, rfl, ⟨(-2), rfl, by decide⟩⟩⟩ else none
   else
    bif Nat.blt pc 34 then
     bif Nat.blt pc 33 then
      if h : pc = 32 then some ⟨(.ireturn, 33, .inl 0, 0, 0), by subst h; exact ⟨dX0_run_32, rfl, rfl⟩⟩ else none
     else
      if h : pc = 33 then some ⟨(.iload_n 3, 34, .inl 0, 0, 0), by subst h; exact ⟨dX0_run_33, rfl, trivial⟩⟩ else none
    else
     bif Nat.blt pc 37 then
      if h : pc = 34 then some ⟨(.ifCond .ne 11, 37, .inl 0, 45, 0), by subst h; exact ⟨dX0_run_34, rfl, (show ((34 : Nat) : Int) + (11) = ((45 : Nat) : Int) by decide)⟩⟩ else none
     else
      if h : pc = 37 then some ⟨(.aload_n 0, 38, .inl 0, 0, 0), by subst h; exact ⟨dX0_run_37, rfl, trivial⟩⟩ else none
  else
   bif Nat.blt pc 46 then
    bif Nat.blt pc 42 then
     bif Nat.blt pc 39 then
      if h : pc = 38 then some ⟨(.iload_n 2, 39, .inl 0, 0, 0), by subst h; exact ⟨dX0_run_38, rfl, trivial⟩⟩ else none
     else
      if h : pc = 39 then some ⟨(.invokevirtual 407, 42, .inl 0, 157, 0), by subst h; exact ⟨dX0_run_39, rfl, ⟨by decide, q1018, q1020, qs34, _, rfl, rfl⟩⟩⟩ else none
    else
     bif Nat.blt pc 45 then
      if h : pc = 42 then some ⟨(.goto 9, 45, .inl 0, 51, 0), by subst h; exact ⟨dX0_run_42, rfl, (show ((42 : Nat) : Int) + (9) = ((51 : Nat) : Int) by decide)⟩⟩ else none
     else
      if h : pc = 45 then some ⟨(.aload_n 0, 46, .inl 0, 0, 0), by subst h; exact ⟨dX0_run_45, rfl, trivial⟩⟩ else none
   else
    bif Nat.blt pc 48 then
     bif Nat.blt pc 47 then
      if h : pc = 46 then some ⟨(.iload_n 1, 47, .inl 0, 0, 0), by subst h; exact ⟨dX0_run_46, rfl, trivial⟩⟩ else none
     else
      if h : pc = 47 then some ⟨(.iload_n 2, 48, .inl 0, 0, 0), by subst h; exact ⟨dX0_run_47, rfl, trivial⟩⟩ else none
    else
     bif Nat.blt pc 51 then
      if h : pc = 48 then some ⟨(.invokevirtual 410, 51, .inl 0, 160, 0), by subst h; exact ⟨dX0_run_48, rfl, ⟨by decide, q1030, q1032, qs37, _, rfl, rfl⟩⟩⟩ else none
     else
      if h : pc = 51 then some ⟨(.ireturn, 52, .inl 0, 0, 0), by subst h; exact ⟨dX0_run_51, rfl, rfl⟩⟩ else none

noncomputable def mt157 (pc : Nat) : Option {e : mE // mOK yX0_onBehind cX0_onBehind 4 ((Option.some ClassFile.FieldType.int)) pc e} :=
 bif Nat.blt pc 21 then
  bif Nat.blt pc 7 then
   bif Nat.blt pc 4 then
    bif Nat.blt pc 1 then
     if h : pc = 0 then some ⟨(.aload_n 0, 1, .inl 0, 0, 0), by subst h; exact ⟨dX0_onBehind_0, rfl, trivial⟩⟩ else none
    else
     if h : pc = 1 then some ⟨(.invokevirtual 399, 4, .inl 0, 158, 0), by subst h; exact ⟨dX0_onBehind_1, rfl, ⟨by decide, q1022, q1024, qs35, _, rfl, rfl⟩⟩⟩ else none
   else
    bif Nat.blt pc 5 then
     if h : pc = 4 then some ⟨(.iconst 0, 5, .inl 0, 0, 0), by subst h; exact ⟨dX0_onBehind_4, rfl, ⟨0, rfl, by decide⟩⟩⟩ else none
    else
     bif Nat.blt pc 6 then
      if h : pc = 5 then some ⟨(.istore_n 2, 6, .inl 0, 0, 0), by subst h; exact ⟨dX0_onBehind_5, rfl, (show (2 : Nat) < 4 by decide)⟩⟩ else none
     else
      if h : pc = 6 then some ⟨(.iload_n 2, 7, .inl 0, 0, 0), by subst h; exact ⟨dX0_onBehind_6, rfl, trivial⟩⟩ else none
  else
   bif Nat.blt pc 12 then
    bif Nat.blt pc 8 then
     if h : pc = 7 then some ⟨(.iload_n 1, 8, .inl 0, 0, 0), by subst h; exact ⟨dX0_onBehind_7, rfl, trivial⟩⟩ else none
    else
     bif Nat.blt pc 11 then
      if h : pc = 8 then some ⟨(.if_icmp .ge 13, 11, .inl 0, 21, 0), by subst h; exact ⟨dX0_onBehind_8, rfl, (show ((8 : Nat) : Int) + (13) = ((21 : Nat) : Int) by decide)⟩⟩ else none
     else
      if h : pc = 11 then some ⟨(.aload_n 0, 12, .inl 0, 0, 0), by subst h; exact ⟨dX0_onBehind_11, rfl, trivial⟩⟩ else none
   else
    bif Nat.blt pc 15 then
     if h : pc = 12 then some ⟨(.invokevirtual 390, 15, .inl 0, 154, 0), by subst h; exact ⟨dX0_onBehind_12, rfl, ⟨by decide, q1005, q1007, qs33, _, rfl, rfl⟩⟩⟩ else none
    else
     bif Nat.blt pc 18 then
      if h : pc = 15 then some ⟨(.iinc 2 1, 18, .inl 1, 0, 0), by subst h; exact ⟨dX0_onBehind_15, rfl, ⟨(show (2 : Nat) < 4 by decide), 1, rfl, by decide⟩⟩⟩ else none
     else
      if h : pc = 18 then some ⟨(.goto (-12), 21, .inl 0, 6, 0), by subst h; exact ⟨dX0_onBehind_18, rfl, (show ((18 : Nat) : Int) + ((-12)) = ((6 : Nat) : Int) by decide)⟩⟩ else none
 else
  bif Nat.blt pc 31 then
   bif Nat.blt pc 26 then
    bif Nat.blt pc 22 then
     if h : pc = 21 then some ⟨(.aload_n 0, 22, .inl 0, 0, 0), by subst h; exact ⟨dX0_onBehind_21, rfl, trivial⟩⟩ else none
    else
     bif Nat.blt pc 25 then
      if h : pc = 22 then some ⟨(.getfield 66, 25, .inl 0, 3, 0), by subst h; exact ⟨dX0_onBehind_22, rfl, ⟨⟨_, rfl, by decide, _, Or.inl q885, Or.inl rfl⟩, (show mKd 0 3 ≤ 4 by decide)⟩⟩⟩ else none
     else
      if h : pc = 25 then some ⟨(.istore_n 2, 26, .inl 0, 0, 0), by subst h; exact ⟨dX0_onBehind_25, rfl, (show (2 : Nat) < 4 by decide)⟩⟩ else none
   else
    bif Nat.blt pc 27 then
     if h : pc = 26 then some ⟨(.aload_n 0, 27, .inl 0, 0, 0), by subst h; exact ⟨dX0_onBehind_26, rfl, trivial⟩⟩ else none
    else
     bif Nat.blt pc 30 then
      if h : pc = 27 then some ⟨(.invokevirtual 402, 30, .inl 0, 159, 0), by subst h; exact ⟨dX0_onBehind_27, rfl, ⟨by decide, q1026, q1028, qs36, _, rfl, rfl⟩⟩⟩ else none
     else
      if h : pc = 30 then some ⟨(.iload_n 2, 31, .inl 0, 0, 0), by subst h; exact ⟨dX0_onBehind_30, rfl, trivial⟩⟩ else none
  else
   bif Nat.blt pc 34 then
    bif Nat.blt pc 32 then
     if h : pc = 31 then some ⟨(.ireturn, 32, .inl 0, 0, 0), by subst h; exact ⟨dX0_onBehind_31, rfl, rfl⟩⟩ else none
    else
     bif Nat.blt pc 33 then
      if h : pc = 32 then some ⟨(.astore_n 3, 33, .inl 0, 0, 0), by subst h; exact ⟨dX0_onBehind_32, rfl, (show (3 : Nat) < 4 by decide)⟩⟩ else none
     else
      if h : pc = 33 then some ⟨(.aload_n 0, 34, .inl 0, 0, 0), by subst h; exact ⟨dX0_onBehind_33, rfl, trivial⟩⟩ else none
   else
    bif Nat.blt pc 37 then
     if h : pc = 34 then some ⟨(.invokevirtual 402, 37, .inl 0, 159, 0), by subst h; exact ⟨dX0_onBehind_34, rfl, ⟨by decide, q1026, q1028, qs36, _, rfl, rfl⟩⟩⟩ else none
    else
     bif Nat.blt pc 38 then
      if h : pc = 37 then some ⟨(.aload_n 3, 38, .inl 0, 0, 0), by subst h; exact ⟨dX0_onBehind_37, rfl, trivial⟩⟩ else none
     else
      if h : pc = 38 then some ⟨(.athrow, 39, .inl 0, 0, 0), by subst h; exact ⟨dX0_onBehind_38, rfl, trivial⟩⟩ else none

noncomputable def mt158 (pc : Nat) : Option {e : mE // mOK yX0_keeps cX0_keeps 3 ((Option.none : Option ClassFile.FieldType)) pc e} :=
 bif Nat.blt pc 26 then
  bif Nat.blt pc 13 then
   bif Nat.blt pc 4 then
    bif Nat.blt pc 2 then
     bif Nat.blt pc 1 then
      if h : pc = 0 then some ⟨(.iconst 0, 1, .inl 0, 0, 0), by subst h; exact ⟨dX0_keeps_0, rfl, ⟨0, rfl, by decide⟩⟩⟩ else none
     else
      if h : pc = 1 then some ⟨(.istore_n 1, 2, .inl 0, 0, 0), by subst h; exact ⟨dX0_keeps_1, rfl, (show (1 : Nat) < 3 by decide)⟩⟩ else none
    else
     bif Nat.blt pc 3 then
      if h : pc = 2 then some ⟨(.iload_n 1, 3, .inl 0, 0, 0), by subst h; exact ⟨dX0_keeps_2, rfl, trivial⟩⟩ else none
     else
      if h : pc = 3 then some ⟨(.aload_n 0, 4, .inl 0, 0, 0), by subst h; exact ⟨dX0_keeps_3, rfl, trivial⟩⟩ else none
   else
    bif Nat.blt pc 10 then
     bif Nat.blt pc 7 then
      if h : pc = 4 then some ⟨(.getfield 10, 7, .inl 0, 1, 0), by subst h; exact ⟨dX0_keeps_4, rfl, ⟨⟨_, rfl, by decide, _, Or.inl q881, Or.inl rfl⟩, (show mKd 0 1 ≤ 4 by decide)⟩⟩⟩ else none
     else
      if h : pc = 7 then some ⟨(.if_icmp .ge 38, 10, .inl 0, 45, 0), by subst h; exact ⟨dX0_keeps_7, rfl, (show ((7 : Nat) : Int) + (38) = ((45 : Nat) : Int) by decide)⟩⟩ else none
    else
     bif Nat.blt pc 11 then
      if h : pc = 10 then some ⟨(.iconst 0, 11, .inl 0, 0, 0), by subst h; exact ⟨dX0_keeps_10, rfl, ⟨0, rfl, by decide⟩⟩⟩ else none
     else
      bif Nat.blt pc 12 then
       if h : pc = 11 then some ⟨(.istore_n 2, 12, .inl 0, 0, 0), by subst h; exact ⟨dX0_keeps_11, rfl, (show (2 : Nat) < 3 by decide)⟩⟩ else none
      else
       if h : pc = 12 then some ⟨(.iload_n 2, 13, .inl 0, 0, 0), by subst h; exact ⟨dX0_keeps_12, rfl, trivial⟩⟩ else none
  else
   bif Nat.blt pc 21 then
    bif Nat.blt pc 17 then
     bif Nat.blt pc 14 then
      if h : pc = 13 then some ⟨(.iconst 3, 14, .inl 3, 0, 0), by subst h; exact ⟨dX0_keeps_13, rfl, ⟨3, rfl, by decide⟩⟩⟩ else none
     else
      if h : pc = 14 then some ⟨(.if_icmp .ge 25, 17, .inl 0, 39, 0), by subst h; exact ⟨dX0_keeps_14, rfl, (show ((14 : Nat) : Int) + (25) = ((39 : Nat) : Int) by decide)⟩⟩ else none
    else
     bif Nat.blt pc 18 then
      if h : pc = 17 then some ⟨(.aload_n 0, 18, .inl 0, 0, 0), by subst h; exact ⟨dX0_keeps_17, rfl, trivial⟩⟩ else none
     else
      if h : pc = 18 then some ⟨(.getfield 311, 21, .inr (.inr none), 24, 0), by subst h; exact ⟨dX0_keeps_18, rfl, ⟨⟨_, rfl, by decide, _, Or.inl q907, Or.inl rfl⟩, (show mKd 0 24 = 6 by rfl)⟩⟩⟩ else none
   else
    bif Nat.blt pc 23 then
     bif Nat.blt pc 22 then
      if h : pc = 21 then some ⟨(.iload_n 2, 22, .inl 0, 0, 0), by subst h; exact ⟨dX0_keeps_21, rfl, trivial⟩⟩ else none
     else
      if h : pc = 22 then some ⟨(.aaload, 23, .inl 0, 0, 0), by subst h; exact ⟨dX0_keeps_22, rfl, trivial⟩⟩ else none
    else
     bif Nat.blt pc 24 then
      if h : pc = 23 then some ⟨(.iload_n 1, 24, .inl 0, 0, 0), by subst h; exact ⟨dX0_keeps_23, rfl, trivial⟩⟩ else none
     else
      bif Nat.blt pc 25 then
       if h : pc = 24 then some ⟨(.aload_n 0, 25, .inl 0, 0, 0), by subst h; exact ⟨dX0_keeps_24, rfl, trivial⟩⟩ else none
      else
       if h : pc = 25 then some ⟨(.iconst 4, 26, .inl 4, 0, 0), by subst h; exact ⟨dX0_keeps_25, rfl, ⟨4, rfl, by decide⟩⟩⟩ else none
 else
  bif Nat.blt pc 45 then
   bif Nat.blt pc 32 then
    bif Nat.blt pc 28 then
     bif Nat.blt pc 27 then
      if h : pc = 26 then some ⟨(.iload_n 2, 27, .inl 0, 0, 0), by subst h; exact ⟨dX0_keeps_26, rfl, trivial⟩⟩ else none
     else
      if h : pc = 27 then some ⟨(.iadd, 28, .inl 0, 0, 0), by subst h; exact ⟨dX0_keeps_27, rfl, trivial⟩⟩ else none
    else
     bif Nat.blt pc 29 then
      if h : pc = 28 then some ⟨(.iload_n 1, 29, .inl 0, 0, 0), by subst h; exact ⟨dX0_keeps_28, rfl, trivial⟩⟩ else none
     else
      if h : pc = 29 then some ⟨(.invokevirtual 95, 32, .inl 0, 115, 0), by subst h; exact ⟨dX0_keeps_29, rfl, ⟨by decide, q288, q290, qs2, _, rfl, rfl⟩⟩⟩ else none
   else
    bif Nat.blt pc 36 then
     bif Nat.blt pc 33 then
      if h : pc = 32 then some ⟨(.iastore, 33, .inl 0, 0, 0), by subst h; exact ⟨dX0_keeps_32, rfl, trivial⟩⟩ else none
     else
      if h : pc = 33 then some ⟨(.iinc 2 1, 36, .inl 1, 0, 0), by subst h; exact ⟨dX0_keeps_33, rfl, ⟨(show (2 : Nat) < 3 by decide), 1, rfl, by decide⟩⟩⟩ else none
    else
     bif Nat.blt pc 39 then
      if h : pc = 36 then some ⟨(.goto (-24), 39, .inl 0, 12, 0), by subst h; exact ⟨dX0_keeps_36, rfl, (show ((36 : Nat) : Int) + ((-24)) = ((12 : Nat) : Int) by decide)⟩⟩ else none
     else
      bif Nat.blt pc 42 then
       if h : pc = 39 then some ⟨(.iinc 1 1, 42, .inl 1, 0, 0), by subst h; exact ⟨dX0_keeps_39, rfl, ⟨(show (1 : Nat) < 3 by decide), 1, rfl, by decide⟩⟩⟩ else none
      else
       if h : pc = 42 then some ⟨(.goto (-40), 45, .inl 0, 2, 0), by subst h; exact ⟨dX0_keeps_42, rfl, (show ((42 : Nat) : Int) + ((-40)) = ((2 : Nat) : Int) by decide)⟩⟩ else none
  else
   bif Nat.blt pc 53 then
    bif Nat.blt pc 47 then
     bif Nat.blt pc 46 then
      if h : pc = 45 then some ⟨(.aload_n 0, 46, .inl 0, 0, 0), by subst h; exact ⟨dX0_keeps_45, rfl, trivial⟩⟩ else none
     else
      if h : pc = 46 then some ⟨(.aload_n 0, 47, .inl 0, 0, 0), by subst h; exact ⟨dX0_keeps_46, rfl, trivial⟩⟩ else none
    else
     bif Nat.blt pc 50 then
      if h : pc = 47 then some ⟨(.getfield 66, 50, .inl 0, 3, 0), by subst h; exact ⟨dX0_keeps_47, rfl, ⟨⟨_, rfl, by decide, _, Or.inl q885, Or.inl rfl⟩, (show mKd 0 3 ≤ 4 by decide)⟩⟩⟩ else none
     else
      if h : pc = 50 then some ⟨(.putfield 393, 53, .inl 0, 25, 0), by subst h; exact ⟨dX0_keeps_50, rfl, ⟨⟨_, rfl, by decide, _, Or.inl q908, Or.inl rfl⟩, (show mKd 0 25 ≤ 4 by decide), by decide, by decide, (fun q h => Or.inl (by cases h; rfl))⟩⟩⟩ else none
   else
    bif Nat.blt pc 55 then
     bif Nat.blt pc 54 then
      if h : pc = 53 then some ⟨(.aload_n 0, 54, .inl 0, 0, 0), by subst h; exact ⟨dX0_keeps_53, rfl, trivial⟩⟩ else none
     else
      if h : pc = 54 then some ⟨(.aload_n 0, 55, .inl 0, 0, 0), by subst h; exact ⟨dX0_keeps_54, rfl, trivial⟩⟩ else none
    else
     bif Nat.blt pc 58 then
      if h : pc = 55 then some ⟨(.getfield 69, 58, .inl 0, 2, 0), by subst h; exact ⟨dX0_keeps_55, rfl, ⟨⟨_, rfl, by decide, _, Or.inl q883, Or.inl rfl⟩, (show mKd 0 2 ≤ 4 by decide)⟩⟩⟩ else none
     else
      bif Nat.blt pc 61 then
       if h : pc = 58 then some ⟨(.putfield 396, 61, .inl 0, 26, 0), by subst h; exact ⟨dX0_keeps_58, rfl, ⟨⟨_, rfl, by decide, _, Or.inl q909, Or.inl rfl⟩, (show mKd 0 26 ≤ 4 by decide), by decide, by decide, (fun q h => Or.inl (by cases h; rfl))⟩⟩⟩ else none
      else
       if h : pc = 61 then some ⟨(.return_, 62, .inl 0, 0, 0), by subst h; exact ⟨dX0_keeps_61, rfl, rfl⟩⟩ else none

noncomputable def mt159 (pc : Nat) : Option {e : mE // mOK yX0_laysBack cX0_laysBack 3 ((Option.none : Option ClassFile.FieldType)) pc e} :=
 bif Nat.blt pc 26 then
  bif Nat.blt pc 13 then
   bif Nat.blt pc 4 then
    bif Nat.blt pc 2 then
     bif Nat.blt pc 1 then
      if h : pc = 0 then some ⟨(.iconst 0, 1, .inl 0, 0, 0), by subst h; exact ⟨dX0_laysBack_0, rfl, ⟨0, rfl, by decide⟩⟩⟩ else none
     else
      if h : pc = 1 then some ⟨(.istore_n 1, 2, .inl 0, 0, 0), by subst h; exact ⟨dX0_laysBack_1, rfl, (show (1 : Nat) < 3 by decide)⟩⟩ else none
    else
     bif Nat.blt pc 3 then
      if h : pc = 2 then some ⟨(.iload_n 1, 3, .inl 0, 0, 0), by subst h; exact ⟨dX0_laysBack_2, rfl, trivial⟩⟩ else none
     else
      if h : pc = 3 then some ⟨(.aload_n 0, 4, .inl 0, 0, 0), by subst h; exact ⟨dX0_laysBack_3, rfl, trivial⟩⟩ else none
   else
    bif Nat.blt pc 10 then
     bif Nat.blt pc 7 then
      if h : pc = 4 then some ⟨(.getfield 10, 7, .inl 0, 1, 0), by subst h; exact ⟨dX0_laysBack_4, rfl, ⟨⟨_, rfl, by decide, _, Or.inl q881, Or.inl rfl⟩, (show mKd 0 1 ≤ 4 by decide)⟩⟩⟩ else none
     else
      if h : pc = 7 then some ⟨(.if_icmp .ge 38, 10, .inl 0, 45, 0), by subst h; exact ⟨dX0_laysBack_7, rfl, (show ((7 : Nat) : Int) + (38) = ((45 : Nat) : Int) by decide)⟩⟩ else none
    else
     bif Nat.blt pc 11 then
      if h : pc = 10 then some ⟨(.iconst 0, 11, .inl 0, 0, 0), by subst h; exact ⟨dX0_laysBack_10, rfl, ⟨0, rfl, by decide⟩⟩⟩ else none
     else
      bif Nat.blt pc 12 then
       if h : pc = 11 then some ⟨(.istore_n 2, 12, .inl 0, 0, 0), by subst h; exact ⟨dX0_laysBack_11, rfl, (show (2 : Nat) < 3 by decide)⟩⟩ else none
      else
       if h : pc = 12 then some ⟨(.iload_n 2, 13, .inl 0, 0, 0), by subst h; exact ⟨dX0_laysBack_12, rfl, trivial⟩⟩ else none
  else
   bif Nat.blt pc 19 then
    bif Nat.blt pc 17 then
     bif Nat.blt pc 14 then
      if h : pc = 13 then some ⟨(.iconst 3, 14, .inl 3, 0, 0), by subst h; exact ⟨dX0_laysBack_13, rfl, ⟨3, rfl, by decide⟩⟩⟩ else none
     else
      if h : pc = 14 then some ⟨(.if_icmp .ge 25, 17, .inl 0, 39, 0), by subst h; exact ⟨dX0_laysBack_14, rfl, (show ((14 : Nat) : Int) + (25) = ((39 : Nat) : Int) by decide)⟩⟩ else none
    else
     bif Nat.blt pc 18 then
      if h : pc = 17 then some ⟨(.aload_n 0, 18, .inl 0, 0, 0), by subst h; exact ⟨dX0_laysBack_17, rfl, trivial⟩⟩ else none
     else
      if h : pc = 18 then some ⟨(.iconst 4, 19, .inl 4, 0, 0), by subst h; exact ⟨dX0_laysBack_18, rfl, ⟨4, rfl, by decide⟩⟩⟩ else none
   else
    bif Nat.blt pc 21 then
     bif Nat.blt pc 20 then
      if h : pc = 19 then some ⟨(.iload_n 2, 20, .inl 0, 0, 0), by subst h; exact ⟨dX0_laysBack_19, rfl, trivial⟩⟩ else none
     else
      if h : pc = 20 then some ⟨(.iadd, 21, .inl 0, 0, 0), by subst h; exact ⟨dX0_laysBack_20, rfl, trivial⟩⟩ else none
    else
     bif Nat.blt pc 22 then
      if h : pc = 21 then some ⟨(.iload_n 1, 22, .inl 0, 0, 0), by subst h; exact ⟨dX0_laysBack_21, rfl, trivial⟩⟩ else none
     else
      bif Nat.blt pc 23 then
       if h : pc = 22 then some ⟨(.aload_n 0, 23, .inl 0, 0, 0), by subst h; exact ⟨dX0_laysBack_22, rfl, trivial⟩⟩ else none
      else
       if h : pc = 23 then some ⟨(.getfield 311, 26, .inr (.inr none), 24, 0), by subst h; exact ⟨dX0_laysBack_23, rfl, ⟨⟨_, rfl, by decide, _, Or.inl q907, Or.inl rfl⟩, (show mKd 0 24 = 6 by rfl)⟩⟩⟩ else none
 else
  bif Nat.blt pc 45 then
   bif Nat.blt pc 30 then
    bif Nat.blt pc 28 then
     bif Nat.blt pc 27 then
      if h : pc = 26 then some ⟨(.iload_n 2, 27, .inl 0, 0, 0), by subst h; exact ⟨dX0_laysBack_26, rfl, trivial⟩⟩ else none
     else
      if h : pc = 27 then some ⟨(.aaload, 28, .inl 0, 0, 0), by subst h; exact ⟨dX0_laysBack_27, rfl, trivial⟩⟩ else none
    else
     bif Nat.blt pc 29 then
      if h : pc = 28 then some ⟨(.iload_n 1, 29, .inl 0, 0, 0), by subst h; exact ⟨dX0_laysBack_28, rfl, trivial⟩⟩ else none
     else
      if h : pc = 29 then some ⟨(.iaload, 30, .inl 0, 0, 0), by subst h; exact ⟨dX0_laysBack_29, rfl, trivial⟩⟩ else none
   else
    bif Nat.blt pc 36 then
     bif Nat.blt pc 33 then
      if h : pc = 30 then some ⟨(.invokevirtual 98, 33, .inl 0, 116, 0), by subst h; exact ⟨dX0_laysBack_30, rfl, ⟨by decide, q292, q294, qs3, _, rfl, rfl⟩⟩⟩ else none
     else
      if h : pc = 33 then some ⟨(.iinc 2 1, 36, .inl 1, 0, 0), by subst h; exact ⟨dX0_laysBack_33, rfl, ⟨(show (2 : Nat) < 3 by decide), 1, rfl, by decide⟩⟩⟩ else none
    else
     bif Nat.blt pc 39 then
      if h : pc = 36 then some ⟨(.goto (-24), 39, .inl 0, 12, 0), by subst h; exact ⟨dX0_laysBack_36, rfl, (show ((36 : Nat) : Int) + ((-24)) = ((12 : Nat) : Int) by decide)⟩⟩ else none
     else
      bif Nat.blt pc 42 then
       if h : pc = 39 then some ⟨(.iinc 1 1, 42, .inl 1, 0, 0), by subst h; exact ⟨dX0_laysBack_39, rfl, ⟨(show (1 : Nat) < 3 by decide), 1, rfl, by decide⟩⟩⟩ else none
      else
       if h : pc = 42 then some ⟨(.goto (-40), 45, .inl 0, 2, 0), by subst h; exact ⟨dX0_laysBack_42, rfl, (show ((42 : Nat) : Int) + ((-40)) = ((2 : Nat) : Int) by decide)⟩⟩ else none
  else
   bif Nat.blt pc 53 then
    bif Nat.blt pc 47 then
     bif Nat.blt pc 46 then
      if h : pc = 45 then some ⟨(.aload_n 0, 46, .inl 0, 0, 0), by subst h; exact ⟨dX0_laysBack_45, rfl, trivial⟩⟩ else none
     else
      if h : pc = 46 then some ⟨(.aload_n 0, 47, .inl 0, 0, 0), by subst h; exact ⟨dX0_laysBack_46, rfl, trivial⟩⟩ else none
    else
     bif Nat.blt pc 50 then
      if h : pc = 47 then some ⟨(.getfield 393, 50, .inl 0, 25, 0), by subst h; exact ⟨dX0_laysBack_47, rfl, ⟨⟨_, rfl, by decide, _, Or.inl q908, Or.inl rfl⟩, (show mKd 0 25 ≤ 4 by decide)⟩⟩⟩ else none
     else
      if h : pc = 50 then some ⟨(.putfield 66, 53, .inl 0, 3, 0), by subst h; exact ⟨dX0_laysBack_50, rfl, ⟨⟨_, rfl, by decide, _, Or.inl q885, Or.inl rfl⟩, (show mKd 0 3 ≤ 4 by decide), by decide, by decide, (fun q h => Or.inl (by cases h; rfl))⟩⟩⟩ else none
   else
    bif Nat.blt pc 55 then
     bif Nat.blt pc 54 then
      if h : pc = 53 then some ⟨(.aload_n 0, 54, .inl 0, 0, 0), by subst h; exact ⟨dX0_laysBack_53, rfl, trivial⟩⟩ else none
     else
      if h : pc = 54 then some ⟨(.aload_n 0, 55, .inl 0, 0, 0), by subst h; exact ⟨dX0_laysBack_54, rfl, trivial⟩⟩ else none
    else
     bif Nat.blt pc 58 then
      if h : pc = 55 then some ⟨(.getfield 396, 58, .inl 0, 26, 0), by subst h; exact ⟨dX0_laysBack_55, rfl, ⟨⟨_, rfl, by decide, _, Or.inl q909, Or.inl rfl⟩, (show mKd 0 26 ≤ 4 by decide)⟩⟩⟩ else none
     else
      bif Nat.blt pc 61 then
       if h : pc = 58 then some ⟨(.putfield 69, 61, .inl 0, 2, 0), by subst h; exact ⟨dX0_laysBack_58, rfl, ⟨⟨_, rfl, by decide, _, Or.inl q883, Or.inl rfl⟩, (show mKd 0 2 ≤ 4 by decide), by decide, by decide, (fun q h => Or.inl (by cases h; rfl))⟩⟩⟩ else none
      else
       if h : pc = 61 then some ⟨(.return_, 62, .inl 0, 0, 0), by subst h; exact ⟨dX0_laysBack_61, rfl, rfl⟩⟩ else none

noncomputable def mt160 (pc : Nat) : Option {e : mE // mOK yX0_easeBehind cX0_easeBehind 5 ((Option.some ClassFile.FieldType.int)) pc e} :=
 bif Nat.blt pc 25 then
  bif Nat.blt pc 8 then
   bif Nat.blt pc 5 then
    bif Nat.blt pc 1 then
     if h : pc = 0 then some ⟨(.aload_n 0, 1, .inl 0, 0, 0), by subst h; exact ⟨dX0_easeBehind_0, rfl, trivial⟩⟩ else none
    else
     bif Nat.blt pc 4 then
      if h : pc = 1 then some ⟨(.invokevirtual 399, 4, .inl 0, 158, 0), by subst h; exact ⟨dX0_easeBehind_1, rfl, ⟨by decide, q1022, q1024, qs35, _, rfl, rfl⟩⟩⟩ else none
     else
      if h : pc = 4 then some ⟨(.iconst 0, 5, .inl 0, 0, 0), by subst h; exact ⟨dX0_easeBehind_4, rfl, ⟨0, rfl, by decide⟩⟩⟩ else none
   else
    bif Nat.blt pc 6 then
     if h : pc = 5 then some ⟨(.istore_n 3, 6, .inl 0, 0, 0), by subst h; exact ⟨dX0_easeBehind_5, rfl, (show (3 : Nat) < 5 by decide)⟩⟩ else none
    else
     bif Nat.blt pc 7 then
      if h : pc = 6 then some ⟨(.iload_n 3, 7, .inl 0, 0, 0), by subst h; exact ⟨dX0_easeBehind_6, rfl, trivial⟩⟩ else none
     else
      if h : pc = 7 then some ⟨(.iload_n 2, 8, .inl 0, 0, 0), by subst h; exact ⟨dX0_easeBehind_7, rfl, trivial⟩⟩ else none
  else
   bif Nat.blt pc 15 then
    bif Nat.blt pc 11 then
     if h : pc = 8 then some ⟨(.if_icmp .ge 13, 11, .inl 0, 21, 0), by subst h; exact ⟨dX0_easeBehind_8, rfl, (show ((8 : Nat) : Int) + (13) = ((21 : Nat) : Int) by decide)⟩⟩ else none
    else
     bif Nat.blt pc 12 then
      if h : pc = 11 then some ⟨(.aload_n 0, 12, .inl 0, 0, 0), by subst h; exact ⟨dX0_easeBehind_11, rfl, trivial⟩⟩ else none
     else
      if h : pc = 12 then some ⟨(.invokevirtual 390, 15, .inl 0, 154, 0), by subst h; exact ⟨dX0_easeBehind_12, rfl, ⟨by decide, q1005, q1007, qs33, _, rfl, rfl⟩⟩⟩ else none
   else
    bif Nat.blt pc 21 then
     bif Nat.blt pc 18 then
      if h : pc = 15 then some ⟨(.iinc 3 1, 18, .inl 1, 0, 0), by subst h; exact ⟨dX0_easeBehind_15, rfl, ⟨(show (3 : Nat) < 5 by decide), 1, rfl, by decide⟩⟩⟩ else none
     else
      if h : pc = 18 then some ⟨(.goto (-12), 21, .inl 0, 6, 0), by subst h; exact ⟨dX0_easeBehind_18, rfl, (show ((18 : Nat) : Int) + ((-12)) = ((6 : Nat) : Int) by decide)⟩⟩ else none
    else
     bif Nat.blt pc 22 then
      if h : pc = 21 then some ⟨(.aload_n 0, 22, .inl 0, 0, 0), by subst h; exact ⟨dX0_easeBehind_21, rfl, trivial⟩⟩ else none
     else
      if h : pc = 22 then some ⟨(.getfield 47, 25, .inr (.inr none), 0, 0), by subst h; exact ⟨dX0_easeBehind_22, rfl, ⟨⟨_, rfl, by decide, _, Or.inl q880, Or.inl rfl⟩, (show mKd 0 0 = 6 by rfl)⟩⟩⟩ else none
 else
  bif Nat.blt pc 35 then
   bif Nat.blt pc 30 then
    bif Nat.blt pc 26 then
     if h : pc = 25 then some ⟨(.iload_n 1, 26, .inl 0, 0, 0), by subst h; exact ⟨dX0_easeBehind_25, rfl, trivial⟩⟩ else none
    else
     bif Nat.blt pc 27 then
      if h : pc = 26 then some ⟨(.aaload, 27, .inl 0, 0, 0), by subst h; exact ⟨dX0_easeBehind_26, rfl, trivial⟩⟩ else none
     else
      if h : pc = 27 then some ⟨(.getfield 78, 30, .inl 0, 2, 4), by subst h; exact ⟨dX0_easeBehind_27, rfl, ⟨⟨_, rfl, by decide, _, Or.inl q204, Or.inl rfl⟩, (show mKd 4 2 ≤ 4 by decide)⟩⟩⟩ else none
   else
    bif Nat.blt pc 31 then
     if h : pc = 30 then some ⟨(.istore_n 3, 31, .inl 0, 0, 0), by subst h; exact ⟨dX0_easeBehind_30, rfl, (show (3 : Nat) < 5 by decide)⟩⟩ else none
    else
     bif Nat.blt pc 32 then
      if h : pc = 31 then some ⟨(.aload_n 0, 32, .inl 0, 0, 0), by subst h; exact ⟨dX0_easeBehind_31, rfl, trivial⟩⟩ else none
     else
      if h : pc = 32 then some ⟨(.invokevirtual 402, 35, .inl 0, 159, 0), by subst h; exact ⟨dX0_easeBehind_32, rfl, ⟨by decide, q1026, q1028, qs36, _, rfl, rfl⟩⟩⟩ else none
  else
   bif Nat.blt pc 39 then
    bif Nat.blt pc 36 then
     if h : pc = 35 then some ⟨(.iload_n 3, 36, .inl 0, 0, 0), by subst h; exact ⟨dX0_easeBehind_35, rfl, trivial⟩⟩ else none
    else
     bif Nat.blt pc 37 then
      if h : pc = 36 then some ⟨(.ireturn, 37, .inl 0, 0, 0), by subst h; exact ⟨dX0_easeBehind_36, rfl, rfl⟩⟩ else none
     else
      if h : pc = 37 then some ⟨(.astore 4, 39, .inl 0, 0, 0), by subst h; exact ⟨dX0_easeBehind_37, rfl, (show (4 : Nat) < 5 by decide)⟩⟩ else none
   else
    bif Nat.blt pc 43 then
     bif Nat.blt pc 40 then
      if h : pc = 39 then some ⟨(.aload_n 0, 40, .inl 0, 0, 0), by subst h; exact ⟨dX0_easeBehind_39, rfl, trivial⟩⟩ else none
     else
      if h : pc = 40 then some ⟨(.invokevirtual 402, 43, .inl 0, 159, 0), by subst h; exact ⟨dX0_easeBehind_40, rfl, ⟨by decide, q1026, q1028, qs36, _, rfl, rfl⟩⟩⟩ else none
    else
     bif Nat.blt pc 45 then
      if h : pc = 43 then some ⟨(.aload 4, 45, .inl 0, 0, 0), by subst h; exact ⟨dX0_easeBehind_43, rfl, trivial⟩⟩ else none
     else
      if h : pc = 45 then some ⟨(.athrow, 46, .inl 0, 0, 0), by subst h; exact ⟨dX0_easeBehind_45, rfl, trivial⟩⟩ else none

noncomputable def mt161 (pc : Nat) : Option {e : mE // mOK yX0_heavy cX0_heavy 6 ((Option.some ClassFile.FieldType.long)) pc e} :=
 bif Nat.blt pc 34 then
  bif Nat.blt pc 16 then
   bif Nat.blt pc 9 then
    bif Nat.blt pc 2 then
     bif Nat.blt pc 1 then
      if h : pc = 0 then some ⟨(.iload_n 1, 1, .inl 0, 0, 0), by subst h; exact ⟨dX0_heavy_0, rfl, trivial⟩⟩ else none
     else
      if h : pc = 1 then some ⟨(.i2l, 2, .inl 0, 0, 0), by subst h; exact ⟨dX0_heavy_1, rfl, trivial⟩⟩ else none
    else
     bif Nat.blt pc 3 then
      if h : pc = 2 then some ⟨(.lconst 0, 3, .inr (.inl 0), 0, 0), by subst h; exact ⟨dX0_heavy_2, rfl, ⟨0, rfl, by decide⟩⟩⟩ else none
     else
      bif Nat.blt pc 6 then
       if h : pc = 3 then some ⟨(.ldc2_w 405, 6, .inr (.inl 60), 0, 0), by subst h; exact ⟨dX0_heavy_3, rfl, ⟨_, rfl, q1017⟩⟩⟩ else none
      else
       if h : pc = 6 then some ⟨(.invokestatic 16, 9, .inl 0, 108, 0), by subst h; exact ⟨dX0_heavy_6, rfl, Or.inl ⟨by decide, q167, q168⟩⟩⟩ else none
   else
    bif Nat.blt pc 13 then
     bif Nat.blt pc 12 then
      if h : pc = 9 then some ⟨(.ifCond .eq 13, 12, .inl 0, 22, 0), by subst h; exact ⟨dX0_heavy_9, rfl, (show ((9 : Nat) : Int) + (13) = ((22 : Nat) : Int) by decide)⟩⟩ else none
     else
      if h : pc = 12 then some ⟨(.iload_n 2, 13, .inl 0, 0, 0), by subst h; exact ⟨dX0_heavy_12, rfl, trivial⟩⟩ else none
    else
     bif Nat.blt pc 14 then
      if h : pc = 13 then some ⟨(.i2l, 14, .inl 0, 0, 0), by subst h; exact ⟨dX0_heavy_13, rfl, trivial⟩⟩ else none
     else
      bif Nat.blt pc 15 then
       if h : pc = 14 then some ⟨(.lconst 0, 15, .inr (.inl 0), 0, 0), by subst h; exact ⟨dX0_heavy_14, rfl, ⟨0, rfl, by decide⟩⟩⟩ else none
      else
       if h : pc = 15 then some ⟨(.lconst 1, 16, .inr (.inl 1), 0, 0), by subst h; exact ⟨dX0_heavy_15, rfl, ⟨1, rfl, by decide⟩⟩⟩ else none
  else
   bif Nat.blt pc 27 then
    bif Nat.blt pc 22 then
     bif Nat.blt pc 19 then
      if h : pc = 16 then some ⟨(.invokestatic 16, 19, .inl 0, 108, 0), by subst h; exact ⟨dX0_heavy_16, rfl, Or.inl ⟨by decide, q167, q168⟩⟩⟩ else none
     else
      if h : pc = 19 then some ⟨(.ifCond .ne 7, 22, .inl 0, 26, 0), by subst h; exact ⟨dX0_heavy_19, rfl, (show ((19 : Nat) : Int) + (7) = ((26 : Nat) : Int) by decide)⟩⟩ else none
    else
     bif Nat.blt pc 25 then
      if h : pc = 22 then some ⟨(.ldc2_w 384, 25, .inr (.inl (-4611686018427387904)), 0, 0), by subst h; exact ⟨dX0_heavy_22, rfl, ⟨_, rfl, q992⟩⟩⟩ else none
     else
      bif Nat.blt pc 26 then
       if h : pc = 25 then some ⟨(.lreturn, 26, .inl 0, 0, 0), by subst h; exact ⟨dX0_heavy_25, rfl, rfl⟩⟩ else none
      else
       if h : pc = 26 then some ⟨(.aload_n 0, 27, .inl 0, 0, 0), by subst h; exact ⟨dX0_heavy_26, rfl, trivial⟩⟩ else none
   else
    bif Nat.blt pc 31 then
     bif Nat.blt pc 30 then
      if h : pc = 27 then some ⟨(.invokevirtual 399, 30, .inl 0, 158, 0), by subst h; exact ⟨dX0_heavy_27, rfl, ⟨by decide, q1022, q1024, qs35, _, rfl, rfl⟩⟩⟩ else none
     else
      if h : pc = 30 then some ⟨(.iconst 0, 31, .inl 0, 0, 0), by subst h; exact ⟨dX0_heavy_30, rfl, ⟨0, rfl, by decide⟩⟩⟩ else none
    else
     bif Nat.blt pc 32 then
      if h : pc = 31 then some ⟨(.istore_n 3, 32, .inl 0, 0, 0), by subst h; exact ⟨dX0_heavy_31, rfl, (show (3 : Nat) < 6 by decide)⟩⟩ else none
     else
      bif Nat.blt pc 33 then
       if h : pc = 32 then some ⟨(.iload_n 3, 33, .inl 0, 0, 0), by subst h; exact ⟨dX0_heavy_32, rfl, trivial⟩⟩ else none
      else
       if h : pc = 33 then some ⟨(.iload_n 1, 34, .inl 0, 0, 0), by subst h; exact ⟨dX0_heavy_33, rfl, trivial⟩⟩ else none
 else
  bif Nat.blt pc 56 then
   bif Nat.blt pc 47 then
    bif Nat.blt pc 38 then
     bif Nat.blt pc 37 then
      if h : pc = 34 then some ⟨(.if_icmp .ge 13, 37, .inl 0, 47, 0), by subst h; exact ⟨dX0_heavy_34, rfl, (show ((34 : Nat) : Int) + (13) = ((47 : Nat) : Int) by decide)⟩⟩ else none
     else
      if h : pc = 37 then some ⟨(.aload_n 0, 38, .inl 0, 0, 0), by subst h; exact ⟨dX0_heavy_37, rfl, trivial⟩⟩ else none
    else
     bif Nat.blt pc 41 then
      if h : pc = 38 then some ⟨(.invokevirtual 390, 41, .inl 0, 154, 0), by subst h; exact ⟨dX0_heavy_38, rfl, ⟨by decide, q1005, q1007, qs33, _, rfl, rfl⟩⟩⟩ else none
     else
      bif Nat.blt pc 44 then
       if h : pc = 41 then some ⟨(.iinc 3 1, 44, .inl 1, 0, 0), by subst h; exact ⟨dX0_heavy_41, rfl, ⟨(show (3 : Nat) < 6 by decide), 1, rfl, by decide⟩⟩⟩ else none
      else
       if h : pc = 44 then some ⟨(.goto (-12), 47, .inl 0, 32, 0), by subst h; exact ⟨dX0_heavy_44, rfl, (show ((44 : Nat) : Int) + ((-12)) = ((32 : Nat) : Int) by decide)⟩⟩ else none
   else
    bif Nat.blt pc 51 then
     bif Nat.blt pc 48 then
      if h : pc = 47 then some ⟨(.aload_n 0, 48, .inl 0, 0, 0), by subst h; exact ⟨dX0_heavy_47, rfl, trivial⟩⟩ else none
     else
      if h : pc = 48 then some ⟨(.invokevirtual 377, 51, .inl 0, 125, 0), by subst h; exact ⟨dX0_heavy_48, rfl, ⟨by decide, q425, q427, qs10, _, rfl, rfl⟩⟩⟩ else none
    else
     bif Nat.blt pc 52 then
      if h : pc = 51 then some ⟨(.aload_n 0, 52, .inl 0, 0, 0), by subst h; exact ⟨dX0_heavy_51, rfl, trivial⟩⟩ else none
     else
      bif Nat.blt pc 55 then
       if h : pc = 52 then some ⟨(.getfield 300, 55, .inr (.inr none), 21, 0), by subst h; exact ⟨dX0_heavy_52, rfl, ⟨⟨_, rfl, by decide, _, Or.inl q904, Or.inl rfl⟩, (show mKd 0 21 = 6 by rfl)⟩⟩⟩ else none
      else
       if h : pc = 55 then some ⟨(.iload_n 2, 56, .inl 0, 0, 0), by subst h; exact ⟨dX0_heavy_55, rfl, trivial⟩⟩ else none
  else
   bif Nat.blt pc 65 then
    bif Nat.blt pc 60 then
     bif Nat.blt pc 59 then
      if h : pc = 56 then some ⟨(.invokevirtual 386, 59, .inl 0, 215, 2), by subst h; exact ⟨dX0_heavy_56, rfl, ⟨by decide, q993, q994, q995, _, rfl, rfl⟩⟩⟩ else none
     else
      if h : pc = 59 then some ⟨(.lstore_n 3, 60, .inl 0, 0, 0), by subst h; exact ⟨dX0_heavy_59, rfl, (show (3 : Nat) + 1 < 6 by decide)⟩⟩ else none
    else
     bif Nat.blt pc 61 then
      if h : pc = 60 then some ⟨(.aload_n 0, 61, .inl 0, 0, 0), by subst h; exact ⟨dX0_heavy_60, rfl, trivial⟩⟩ else none
     else
      bif Nat.blt pc 64 then
       if h : pc = 61 then some ⟨(.invokevirtual 402, 64, .inl 0, 159, 0), by subst h; exact ⟨dX0_heavy_61, rfl, ⟨by decide, q1026, q1028, qs36, _, rfl, rfl⟩⟩⟩ else none
      else
       if h : pc = 64 then some ⟨(.lload_n 3, 65, .inl 0, 0, 0), by subst h; exact ⟨dX0_heavy_64, rfl, trivial⟩⟩ else none
   else
    bif Nat.blt pc 69 then
     bif Nat.blt pc 66 then
      if h : pc = 65 then some ⟨(.lreturn, 66, .inl 0, 0, 0), by subst h; exact ⟨dX0_heavy_65, rfl, rfl⟩⟩ else none
     else
      bif Nat.blt pc 68 then
       if h : pc = 66 then some ⟨(.astore 5, 68, .inl 0, 0, 0), by subst h; exact ⟨dX0_heavy_66, rfl, (show (5 : Nat) < 6 by decide)⟩⟩ else none
      else
       if h : pc = 68 then some ⟨(.aload_n 0, 69, .inl 0, 0, 0), by subst h; exact ⟨dX0_heavy_68, rfl, trivial⟩⟩ else none
    else
     bif Nat.blt pc 72 then
      if h : pc = 69 then some ⟨(.invokevirtual 402, 72, .inl 0, 159, 0), by subst h; exact ⟨dX0_heavy_69, rfl, ⟨by decide, q1026, q1028, qs36, _, rfl, rfl⟩⟩⟩ else none
     else
      bif Nat.blt pc 74 then
       if h : pc = 72 then some ⟨(.aload 5, 74, .inl 0, 0, 0), by subst h; exact ⟨dX0_heavy_72, rfl, trivial⟩⟩ else none
      else
       if h : pc = 74 then some ⟨(.athrow, 75, .inl 0, 0, 0), by subst h; exact ⟨dX0_heavy_74, rfl, trivial⟩⟩ else none

noncomputable def mt162 (pc : Nat) : Option {e : mE // mOK yX0_when cX0_when 4 ((Option.some ClassFile.FieldType.int)) pc e} :=
 bif Nat.blt pc 26 then
  bif Nat.blt pc 13 then
   bif Nat.blt pc 5 then
    bif Nat.blt pc 1 then
     if h : pc = 0 then some ⟨(.iload_n 2, 1, .inl 0, 0, 0), by subst h; exact ⟨dX0_when_0, rfl, trivial⟩⟩ else none
    else
     bif Nat.blt pc 4 then
      if h : pc = 1 then some ⟨(.ifCond .ne 11, 4, .inl 0, 12, 0), by subst h; exact ⟨dX0_when_1, rfl, (show ((1 : Nat) : Int) + (11) = ((12 : Nat) : Int) by decide)⟩⟩ else none
     else
      if h : pc = 4 then some ⟨(.aload_n 0, 5, .inl 0, 0, 0), by subst h; exact ⟨dX0_when_4, rfl, trivial⟩⟩ else none
   else
    bif Nat.blt pc 9 then
     bif Nat.blt pc 6 then
      if h : pc = 5 then some ⟨(.iload_n 1, 6, .inl 0, 0, 0), by subst h; exact ⟨dX0_when_5, rfl, trivial⟩⟩ else none
     else
      if h : pc = 6 then some ⟨(.invokevirtual 59, 9, .inl 0, 113, 0), by subst h; exact ⟨dX0_when_6, rfl, ⟨by decide, q281, q283, qs1, _, rfl, rfl⟩⟩⟩ else none
    else
     bif Nat.blt pc 12 then
      if h : pc = 9 then some ⟨(.goto 25, 12, .inl 0, 34, 0), by subst h; exact ⟨dX0_when_9, rfl, (show ((9 : Nat) : Int) + (25) = ((34 : Nat) : Int) by decide)⟩⟩ else none
     else
      if h : pc = 12 then some ⟨(.iload_n 2, 13, .inl 0, 0, 0), by subst h; exact ⟨dX0_when_12, rfl, trivial⟩⟩ else none
  else
   bif Nat.blt pc 18 then
    bif Nat.blt pc 14 then
     if h : pc = 13 then some ⟨(.iconst 1, 14, .inl 1, 0, 0), by subst h; exact ⟨dX0_when_13, rfl, ⟨1, rfl, by decide⟩⟩⟩ else none
    else
     bif Nat.blt pc 17 then
      if h : pc = 14 then some ⟨(.if_icmp .ne 19, 17, .inl 0, 33, 0), by subst h; exact ⟨dX0_when_14, rfl, (show ((14 : Nat) : Int) + (19) = ((33 : Nat) : Int) by decide)⟩⟩ else none
     else
      if h : pc = 17 then some ⟨(.iload_n 1, 18, .inl 0, 0, 0), by subst h; exact ⟨dX0_when_17, rfl, trivial⟩⟩ else none
   else
    bif Nat.blt pc 20 then
     bif Nat.blt pc 19 then
      if h : pc = 18 then some ⟨(.i2l, 19, .inl 0, 0, 0), by subst h; exact ⟨dX0_when_18, rfl, trivial⟩⟩ else none
     else
      if h : pc = 19 then some ⟨(.lconst 0, 20, .inr (.inl 0), 0, 0), by subst h; exact ⟨dX0_when_19, rfl, ⟨0, rfl, by decide⟩⟩⟩ else none
    else
     bif Nat.blt pc 23 then
      if h : pc = 20 then some ⟨(.ldc2_w 104, 23, .inr (.inl 10), 0, 0), by subst h; exact ⟨dX0_when_20, rfl, ⟨_, rfl, q301⟩⟩⟩ else none
     else
      if h : pc = 23 then some ⟨(.invokestatic 16, 26, .inl 0, 108, 0), by subst h; exact ⟨dX0_when_23, rfl, Or.inl ⟨by decide, q167, q168⟩⟩⟩ else none
 else
  bif Nat.blt pc 39 then
   bif Nat.blt pc 33 then
    bif Nat.blt pc 29 then
     if h : pc = 26 then some ⟨(.ifCond .eq 7, 29, .inl 0, 33, 0), by subst h; exact ⟨dX0_when_26, rfl, (show ((26 : Nat) : Int) + (7) = ((33 : Nat) : Int) by decide)⟩⟩ else none
    else
     bif Nat.blt pc 30 then
      if h : pc = 29 then some ⟨(.iconst 1, 30, .inl 1, 0, 0), by subst h; exact ⟨dX0_when_29, rfl, ⟨1, rfl, by decide⟩⟩⟩ else none
     else
      if h : pc = 30 then some ⟨(.goto 4, 33, .inl 0, 34, 0), by subst h; exact ⟨dX0_when_30, rfl, (show ((30 : Nat) : Int) + (4) = ((34 : Nat) : Int) by decide)⟩⟩ else none
   else
    bif Nat.blt pc 35 then
     bif Nat.blt pc 34 then
      if h : pc = 33 then some ⟨(.iconst 0, 34, .inl 0, 0, 0), by subst h; exact ⟨dX0_when_33, rfl, ⟨0, rfl, by decide⟩⟩⟩ else none
     else
      if h : pc = 34 then some ⟨(.istore_n 3, 35, .inl 0, 0, 0), by subst h; exact ⟨dX0_when_34, rfl, (show (3 : Nat) < 4 by decide)⟩⟩ else none
    else
     bif Nat.blt pc 36 then
      if h : pc = 35 then some ⟨(.iload_n 3, 36, .inl 0, 0, 0), by subst h; exact ⟨dX0_when_35, rfl, trivial⟩⟩ else none
     else
      if h : pc = 36 then some ⟨(.ifCond .eq 12, 39, .inl 0, 48, 0), by subst h; exact ⟨dX0_when_36, rfl, (show ((36 : Nat) : Int) + (12) = ((48 : Nat) : Int) by decide)⟩⟩ else none
  else
   bif Nat.blt pc 42 then
    bif Nat.blt pc 40 then
     if h : pc = 39 then some ⟨(.aload_n 0, 40, .inl 0, 0, 0), by subst h; exact ⟨dX0_when_39, rfl, trivial⟩⟩ else none
    else
     bif Nat.blt pc 41 then
      if h : pc = 40 then some ⟨(.iload_n 1, 41, .inl 0, 0, 0), by subst h; exact ⟨dX0_when_40, rfl, trivial⟩⟩ else none
     else
      if h : pc = 41 then some ⟨(.iload_n 2, 42, .inl 0, 0, 0), by subst h; exact ⟨dX0_when_41, rfl, trivial⟩⟩ else none
   else
    bif Nat.blt pc 48 then
     bif Nat.blt pc 45 then
      if h : pc = 42 then some ⟨(.invokevirtual 416, 45, .inl 0, 163, 0), by subst h; exact ⟨dX0_when_42, rfl, ⟨by decide, q1042, q1044, qs38, _, rfl, rfl⟩⟩⟩ else none
     else
      if h : pc = 45 then some ⟨(.goto 5, 48, .inl 0, 50, 0), by subst h; exact ⟨dX0_when_45, rfl, (show ((45 : Nat) : Int) + (5) = ((50 : Nat) : Int) by decide)⟩⟩ else none
    else
     bif Nat.blt pc 50 then
      if h : pc = 48 then some ⟨(.bipush (-2), 50, .inl (-2), 0, 0), by subst h; exact ⟨dX0_when_48, rfl, ⟨(-2), rfl, by decide⟩⟩⟩ else none
     else
      if h : pc = 50 then some ⟨(.ireturn, 51, .inl 0, 0, 0), by subst h; exact ⟨dX0_when_50, rfl, rfl⟩⟩ else none

noncomputable def mt163 (pc : Nat) : Option {e : mE // mOK yX0_firstTime cX0_firstTime 6 ((Option.some ClassFile.FieldType.int)) pc e} :=
 bif Nat.blt pc 28 then
  bif Nat.blt pc 13 then
   bif Nat.blt pc 6 then
    bif Nat.blt pc 4 then
     bif Nat.blt pc 1 then
      if h : pc = 0 then some ⟨(.aload_n 0, 1, .inl 0, 0, 0), by subst h; exact ⟨dX0_firstTime_0, rfl, trivial⟩⟩ else none
     else
      if h : pc = 1 then some ⟨(.invokevirtual 399, 4, .inl 0, 158, 0), by subst h; exact ⟨dX0_firstTime_1, rfl, ⟨by decide, q1022, q1024, qs35, _, rfl, rfl⟩⟩⟩ else none
    else
     bif Nat.blt pc 5 then
      if h : pc = 4 then some ⟨(.iconst 0, 5, .inl 0, 0, 0), by subst h; exact ⟨dX0_firstTime_4, rfl, ⟨0, rfl, by decide⟩⟩⟩ else none
     else
      if h : pc = 5 then some ⟨(.istore_n 3, 6, .inl 0, 0, 0), by subst h; exact ⟨dX0_firstTime_5, rfl, (show (3 : Nat) < 6 by decide)⟩⟩ else none
   else
    bif Nat.blt pc 9 then
     bif Nat.blt pc 7 then
      if h : pc = 6 then some ⟨(.iload_n 3, 7, .inl 0, 0, 0), by subst h; exact ⟨dX0_firstTime_6, rfl, trivial⟩⟩ else none
     else
      if h : pc = 7 then some ⟨(.bipush 60, 9, .inl 60, 0, 0), by subst h; exact ⟨dX0_firstTime_7, rfl, ⟨60, rfl, by decide⟩⟩⟩ else none
    else
     bif Nat.blt pc 12 then
      if h : pc = 9 then some ⟨(.if_icmp .gt 32, 12, .inl 0, 41, 0), by subst h; exact ⟨dX0_firstTime_9, rfl, (show ((9 : Nat) : Int) + (32) = ((41 : Nat) : Int) by decide)⟩⟩ else none
     else
      if h : pc = 12 then some ⟨(.aload_n 0, 13, .inl 0, 0, 0), by subst h; exact ⟨dX0_firstTime_12, rfl, trivial⟩⟩ else none
  else
   bif Nat.blt pc 21 then
    bif Nat.blt pc 15 then
     bif Nat.blt pc 14 then
      if h : pc = 13 then some ⟨(.iload_n 1, 14, .inl 0, 0, 0), by subst h; exact ⟨dX0_firstTime_13, rfl, trivial⟩⟩ else none
     else
      if h : pc = 14 then some ⟨(.iload_n 2, 15, .inl 0, 0, 0), by subst h; exact ⟨dX0_firstTime_14, rfl, trivial⟩⟩ else none
    else
     bif Nat.blt pc 18 then
      if h : pc = 15 then some ⟨(.invokevirtual 413, 18, .inl 0, 164, 0), by subst h; exact ⟨dX0_firstTime_15, rfl, ⟨by decide, q1046, q1048, qs39, _, rfl, rfl⟩⟩⟩ else none
     else
      if h : pc = 18 then some ⟨(.ifCond .eq 13, 21, .inl 0, 31, 0), by subst h; exact ⟨dX0_firstTime_18, rfl, (show ((18 : Nat) : Int) + (13) = ((31 : Nat) : Int) by decide)⟩⟩ else none
   else
    bif Nat.blt pc 24 then
     bif Nat.blt pc 22 then
      if h : pc = 21 then some ⟨(.iload_n 3, 22, .inl 0, 0, 0), by subst h; exact ⟨dX0_firstTime_21, rfl, trivial⟩⟩ else none
     else
      if h : pc = 22 then some ⟨(.istore 4, 24, .inl 0, 0, 0), by subst h; exact ⟨dX0_firstTime_22, rfl, (show (4 : Nat) < 6 by decide)⟩⟩ else none
    else
     bif Nat.blt pc 25 then
      if h : pc = 24 then some ⟨(.aload_n 0, 25, .inl 0, 0, 0), by subst h; exact ⟨dX0_firstTime_24, rfl, trivial⟩⟩ else none
     else
      if h : pc = 25 then some ⟨(.invokevirtual 402, 28, .inl 0, 159, 0), by subst h; exact ⟨dX0_firstTime_25, rfl, ⟨by decide, q1026, q1028, qs36, _, rfl, rfl⟩⟩⟩ else none
 else
  bif Nat.blt pc 43 then
   bif Nat.blt pc 35 then
    bif Nat.blt pc 31 then
     bif Nat.blt pc 30 then
      if h : pc = 28 then some ⟨(.iload 4, 30, .inl 0, 0, 0), by subst h; exact ⟨dX0_firstTime_28, rfl, trivial⟩⟩ else none
     else
      if h : pc = 30 then some ⟨(.ireturn, 31, .inl 0, 0, 0), by subst h; exact ⟨dX0_firstTime_30, rfl, rfl⟩⟩ else none
    else
     bif Nat.blt pc 32 then
      if h : pc = 31 then some ⟨(.aload_n 0, 32, .inl 0, 0, 0), by subst h; exact ⟨dX0_firstTime_31, rfl, trivial⟩⟩ else none
     else
      if h : pc = 32 then some ⟨(.invokevirtual 390, 35, .inl 0, 154, 0), by subst h; exact ⟨dX0_firstTime_32, rfl, ⟨by decide, q1005, q1007, qs33, _, rfl, rfl⟩⟩⟩ else none
   else
    bif Nat.blt pc 41 then
     bif Nat.blt pc 38 then
      if h : pc = 35 then some ⟨(.iinc 3 1, 38, .inl 1, 0, 0), by subst h; exact ⟨dX0_firstTime_35, rfl, ⟨(show (3 : Nat) < 6 by decide), 1, rfl, by decide⟩⟩⟩ else none
     else
      if h : pc = 38 then some ⟨(.goto (-32), 41, .inl 0, 6, 0), by subst h; exact ⟨dX0_firstTime_38, rfl, (show ((38 : Nat) : Int) + ((-32)) = ((6 : Nat) : Int) by decide)⟩⟩ else none
    else
     bif Nat.blt pc 42 then
      if h : pc = 41 then some ⟨(.iconst (-1), 42, .inl (-1), 0, 0), by subst h; exact ⟨dX0_firstTime_41, rfl, ⟨(-1), rfl, by decide⟩⟩⟩ else none
     else
      if h : pc = 42 then some ⟨(.istore_n 3, 43, .inl 0, 0, 0), by subst h; exact ⟨dX0_firstTime_42, rfl, (show (3 : Nat) < 6 by decide)⟩⟩ else none
  else
   bif Nat.blt pc 49 then
    bif Nat.blt pc 47 then
     bif Nat.blt pc 44 then
      if h : pc = 43 then some ⟨(.aload_n 0, 44, .inl 0, 0, 0), by subst h; exact ⟨dX0_firstTime_43, rfl, trivial⟩⟩ else none
     else
      if h : pc = 44 then some ⟨(.invokevirtual 402, 47, .inl 0, 159, 0), by subst h; exact ⟨dX0_firstTime_44, rfl, ⟨by decide, q1026, q1028, qs36, _, rfl, rfl⟩⟩⟩ else none
    else
     bif Nat.blt pc 48 then
      if h : pc = 47 then some ⟨(.iload_n 3, 48, .inl 0, 0, 0), by subst h; exact ⟨dX0_firstTime_47, rfl, trivial⟩⟩ else none
     else
      if h : pc = 48 then some ⟨(.ireturn, 49, .inl 0, 0, 0), by subst h; exact ⟨dX0_firstTime_48, rfl, rfl⟩⟩ else none
   else
    bif Nat.blt pc 52 then
     bif Nat.blt pc 51 then
      if h : pc = 49 then some ⟨(.astore 5, 51, .inl 0, 0, 0), by subst h; exact ⟨dX0_firstTime_49, rfl, (show (5 : Nat) < 6 by decide)⟩⟩ else none
     else
      if h : pc = 51 then some ⟨(.aload_n 0, 52, .inl 0, 0, 0), by subst h; exact ⟨dX0_firstTime_51, rfl, trivial⟩⟩ else none
    else
     bif Nat.blt pc 55 then
      if h : pc = 52 then some ⟨(.invokevirtual 402, 55, .inl 0, 159, 0), by subst h; exact ⟨dX0_firstTime_52, rfl, ⟨by decide, q1026, q1028, qs36, _, rfl, rfl⟩⟩⟩ else none
     else
      bif Nat.blt pc 57 then
       if h : pc = 55 then some ⟨(.aload 5, 57, .inl 0, 0, 0), by subst h; exact ⟨dX0_firstTime_55, rfl, trivial⟩⟩ else none
      else
       if h : pc = 57 then some ⟨(.athrow, 58, .inl 0, 0, 0), by subst h; exact ⟨dX0_firstTime_57, rfl, trivial⟩⟩ else none

noncomputable def mt164 (pc : Nat) : Option {e : mE // mOK yX0_isNow cX0_isNow 3 ((Option.some ClassFile.FieldType.boolean)) pc e} :=
 bif Nat.blt pc 13 then
  bif Nat.blt pc 5 then
   bif Nat.blt pc 1 then
    if h : pc = 0 then some ⟨(.iload_n 2, 1, .inl 0, 0, 0), by subst h; exact ⟨dX0_isNow_0, rfl, trivial⟩⟩ else none
   else
    bif Nat.blt pc 4 then
     if h : pc = 1 then some ⟨(.ifCond .ne 11, 4, .inl 0, 12, 0), by subst h; exact ⟨dX0_isNow_1, rfl, (show ((1 : Nat) : Int) + (11) = ((12 : Nat) : Int) by decide)⟩⟩ else none
    else
     if h : pc = 4 then some ⟨(.aload_n 0, 5, .inl 0, 0, 0), by subst h; exact ⟨dX0_isNow_4, rfl, trivial⟩⟩ else none
  else
   bif Nat.blt pc 9 then
    bif Nat.blt pc 6 then
     if h : pc = 5 then some ⟨(.iload_n 1, 6, .inl 0, 0, 0), by subst h; exact ⟨dX0_isNow_5, rfl, trivial⟩⟩ else none
    else
     if h : pc = 6 then some ⟨(.invokevirtual 116, 9, .inl 0, 124, 0), by subst h; exact ⟨dX0_isNow_6, rfl, ⟨by decide, q421, q423, qs9, _, rfl, rfl⟩⟩⟩ else none
   else
    bif Nat.blt pc 12 then
     if h : pc = 9 then some ⟨(.goto 16, 12, .inl 0, 25, 0), by subst h; exact ⟨dX0_isNow_9, rfl, (show ((9 : Nat) : Int) + (16) = ((25 : Nat) : Int) by decide)⟩⟩ else none
    else
     if h : pc = 12 then some ⟨(.aload_n 0, 13, .inl 0, 0, 0), by subst h; exact ⟨dX0_isNow_12, rfl, trivial⟩⟩ else none
 else
  bif Nat.blt pc 20 then
   bif Nat.blt pc 16 then
    if h : pc = 13 then some ⟨(.getfield 66, 16, .inl 0, 3, 0), by subst h; exact ⟨dX0_isNow_13, rfl, ⟨⟨_, rfl, by decide, _, Or.inl q885, Or.inl rfl⟩, (show mKd 0 3 ≤ 4 by decide)⟩⟩⟩ else none
   else
    bif Nat.blt pc 17 then
     if h : pc = 16 then some ⟨(.iload_n 1, 17, .inl 0, 0, 0), by subst h; exact ⟨dX0_isNow_16, rfl, trivial⟩⟩ else none
    else
     if h : pc = 17 then some ⟨(.if_icmp .lt 7, 20, .inl 0, 24, 0), by subst h; exact ⟨dX0_isNow_17, rfl, (show ((17 : Nat) : Int) + (7) = ((24 : Nat) : Int) by decide)⟩⟩ else none
  else
   bif Nat.blt pc 24 then
    bif Nat.blt pc 21 then
     if h : pc = 20 then some ⟨(.iconst 1, 21, .inl 1, 0, 0), by subst h; exact ⟨dX0_isNow_20, rfl, ⟨1, rfl, by decide⟩⟩⟩ else none
    else
     if h : pc = 21 then some ⟨(.goto 4, 24, .inl 0, 25, 0), by subst h; exact ⟨dX0_isNow_21, rfl, (show ((21 : Nat) : Int) + (4) = ((25 : Nat) : Int) by decide)⟩⟩ else none
   else
    bif Nat.blt pc 25 then
     if h : pc = 24 then some ⟨(.iconst 0, 25, .inl 0, 0, 0), by subst h; exact ⟨dX0_isNow_24, rfl, ⟨0, rfl, by decide⟩⟩⟩ else none
    else
     if h : pc = 25 then some ⟨(.ireturn, 26, .inl 0, 1, 0), by subst h; exact ⟨dX0_isNow_25, rfl, rfl⟩⟩ else none

noncomputable def mt165 (pc : Nat) : Option {e : mE // mOK yX0_best cX0_best 3 ((Option.some ClassFile.FieldType.int)) pc e} :=
 bif Nat.blt pc 48 then
  bif Nat.blt pc 38 then
   bif Nat.blt pc 33 then
    bif Nat.blt pc 1 then
     if h : pc = 0 then some ⟨(.iload_n 1, 1, .inl 0, 0, 0), by subst h; exact ⟨dX0_best_0, rfl, trivial⟩⟩ else none
    else
     bif Nat.blt pc 32 then
      if h : pc = 1 then some ⟨(.tableswitch 65 0 3 #[31, 36, 55, 60], 1, .inl 0, 0, 0), by subst h; exact ⟨dX0_best_1, rfl, ⟨by decide, rfl, by decide⟩⟩⟩ else none
     else
      if h : pc = 32 then some ⟨(.aload_n 0, 33, .inl 0, 0, 0), by subst h; exact ⟨dX0_best_32, rfl, trivial⟩⟩ else none
   else
    bif Nat.blt pc 36 then
     if h : pc = 33 then some ⟨(.invokevirtual 442, 36, .inl 0, 166, 0), by subst h; exact ⟨dX0_best_33, rfl, ⟨by decide, q1054, q1056, qs40, _, rfl, rfl⟩⟩⟩ else none
    else
     bif Nat.blt pc 37 then
      if h : pc = 36 then some ⟨(.ireturn, 37, .inl 0, 0, 0), by subst h; exact ⟨dX0_best_36, rfl, rfl⟩⟩ else none
     else
      if h : pc = 37 then some ⟨(.aload_n 0, 38, .inl 0, 0, 0), by subst h; exact ⟨dX0_best_37, rfl, trivial⟩⟩ else none
  else
   bif Nat.blt pc 43 then
    bif Nat.blt pc 41 then
     if h : pc = 38 then some ⟨(.invokevirtual 442, 41, .inl 0, 166, 0), by subst h; exact ⟨dX0_best_38, rfl, ⟨by decide, q1054, q1056, qs40, _, rfl, rfl⟩⟩⟩ else none
    else
     bif Nat.blt pc 42 then
      if h : pc = 41 then some ⟨(.istore_n 2, 42, .inl 0, 0, 0), by subst h; exact ⟨dX0_best_41, rfl, (show (2 : Nat) < 3 by decide)⟩⟩ else none
     else
      if h : pc = 42 then some ⟨(.iload_n 2, 43, .inl 0, 0, 0), by subst h; exact ⟨dX0_best_42, rfl, trivial⟩⟩ else none
   else
    bif Nat.blt pc 44 then
     if h : pc = 43 then some ⟨(.iconst (-1), 44, .inl (-1), 0, 0), by subst h; exact ⟨dX0_best_43, rfl, ⟨(-1), rfl, by decide⟩⟩⟩ else none
    else
     bif Nat.blt pc 47 then
      if h : pc = 44 then some ⟨(.if_icmp .ne 7, 47, .inl 0, 51, 0), by subst h; exact ⟨dX0_best_44, rfl, (show ((44 : Nat) : Int) + (7) = ((51 : Nat) : Int) by decide)⟩⟩ else none
     else
      if h : pc = 47 then some ⟨(.iconst (-1), 48, .inl (-1), 0, 0), by subst h; exact ⟨dX0_best_47, rfl, ⟨(-1), rfl, by decide⟩⟩⟩ else none
 else
  bif Nat.blt pc 60 then
   bif Nat.blt pc 55 then
    bif Nat.blt pc 51 then
     if h : pc = 48 then some ⟨(.goto 7, 51, .inl 0, 55, 0), by subst h; exact ⟨dX0_best_48, rfl, (show ((48 : Nat) : Int) + (7) = ((55 : Nat) : Int) by decide)⟩⟩ else none
    else
     bif Nat.blt pc 52 then
      if h : pc = 51 then some ⟨(.iload_n 2, 52, .inl 0, 0, 0), by subst h; exact ⟨dX0_best_51, rfl, trivial⟩⟩ else none
     else
      if h : pc = 52 then some ⟨(.invokestatic 425, 55, .inl 0, 260, 0), by subst h; exact ⟨dX0_best_52, rfl, Or.inl ⟨by decide, q1062, q1063⟩⟩⟩ else none
   else
    bif Nat.blt pc 56 then
     if h : pc = 55 then some ⟨(.ireturn, 56, .inl 0, 0, 0), by subst h; exact ⟨dX0_best_55, rfl, rfl⟩⟩ else none
    else
     bif Nat.blt pc 57 then
      if h : pc = 56 then some ⟨(.aload_n 0, 57, .inl 0, 0, 0), by subst h; exact ⟨dX0_best_56, rfl, trivial⟩⟩ else none
     else
      if h : pc = 57 then some ⟨(.invokevirtual 445, 60, .inl 0, 171, 0), by subst h; exact ⟨dX0_best_57, rfl, ⟨by decide, q1079, q1081, qs44, _, rfl, rfl⟩⟩⟩ else none
  else
   bif Nat.blt pc 65 then
    bif Nat.blt pc 61 then
     if h : pc = 60 then some ⟨(.ireturn, 61, .inl 0, 0, 0), by subst h; exact ⟨dX0_best_60, rfl, rfl⟩⟩ else none
    else
     bif Nat.blt pc 62 then
      if h : pc = 61 then some ⟨(.aload_n 0, 62, .inl 0, 0, 0), by subst h; exact ⟨dX0_best_61, rfl, trivial⟩⟩ else none
     else
      if h : pc = 62 then some ⟨(.invokevirtual 422, 65, .inl 0, 167, 0), by subst h; exact ⟨dX0_best_62, rfl, ⟨by decide, q1058, q1060, qs41, _, rfl, rfl⟩⟩⟩ else none
   else
    bif Nat.blt pc 66 then
     if h : pc = 65 then some ⟨(.ireturn, 66, .inl 0, 0, 0), by subst h; exact ⟨dX0_best_65, rfl, rfl⟩⟩ else none
    else
     bif Nat.blt pc 68 then
      if h : pc = 66 then some ⟨(.bipush (-2), 68, .inl (-2), 0, 0), by subst h; exact ⟨dX0_best_66, rfl, ⟨(-2), rfl, by decide⟩⟩⟩ else none
     else
      if h : pc = 68 then some ⟨(.ireturn, 69, .inl 0, 0, 0), by subst h; exact ⟨dX0_best_68, rfl, rfl⟩⟩ else none

noncomputable def mt166 (pc : Nat) : Option {e : mE // mOK yX0_leave cX0_leave 6 ((Option.some ClassFile.FieldType.int)) pc e} :=
 bif Nat.blt pc 50 then
  bif Nat.blt pc 21 then
   bif Nat.blt pc 9 then
    bif Nat.blt pc 5 then
     bif Nat.blt pc 1 then
      if h : pc = 0 then some ⟨(.aload_n 0, 1, .inl 0, 0, 0), by subst h; exact ⟨dX0_leave_0, rfl, trivial⟩⟩ else none
     else
      bif Nat.blt pc 4 then
       if h : pc = 1 then some ⟨(.invokevirtual 422, 4, .inl 0, 167, 0), by subst h; exact ⟨dX0_leave_1, rfl, ⟨by decide, q1058, q1060, qs41, _, rfl, rfl⟩⟩⟩ else none
      else
       if h : pc = 4 then some ⟨(.istore_n 1, 5, .inl 0, 0, 0), by subst h; exact ⟨dX0_leave_4, rfl, (show (1 : Nat) < 6 by decide)⟩⟩ else none
    else
     bif Nat.blt pc 7 then
      bif Nat.blt pc 6 then
       if h : pc = 5 then some ⟨(.iconst (-1), 6, .inl (-1), 0, 0), by subst h; exact ⟨dX0_leave_5, rfl, ⟨(-1), rfl, by decide⟩⟩⟩ else none
      else
       if h : pc = 6 then some ⟨(.istore_n 2, 7, .inl 0, 0, 0), by subst h; exact ⟨dX0_leave_6, rfl, (show (2 : Nat) < 6 by decide)⟩⟩ else none
     else
      bif Nat.blt pc 8 then
       if h : pc = 7 then some ⟨(.iconst 0, 8, .inl 0, 0, 0), by subst h; exact ⟨dX0_leave_7, rfl, ⟨0, rfl, by decide⟩⟩⟩ else none
      else
       if h : pc = 8 then some ⟨(.istore_n 3, 9, .inl 0, 0, 0), by subst h; exact ⟨dX0_leave_8, rfl, (show (3 : Nat) < 6 by decide)⟩⟩ else none
   else
    bif Nat.blt pc 15 then
     bif Nat.blt pc 11 then
      bif Nat.blt pc 10 then
       if h : pc = 9 then some ⟨(.iload_n 3, 10, .inl 0, 0, 0), by subst h; exact ⟨dX0_leave_9, rfl, trivial⟩⟩ else none
      else
       if h : pc = 10 then some ⟨(.iconst 1, 11, .inl 1, 0, 0), by subst h; exact ⟨dX0_leave_10, rfl, ⟨1, rfl, by decide⟩⟩⟩ else none
     else
      bif Nat.blt pc 12 then
       if h : pc = 11 then some ⟨(.aload_n 0, 12, .inl 0, 0, 0), by subst h; exact ⟨dX0_leave_11, rfl, trivial⟩⟩ else none
      else
       if h : pc = 12 then some ⟨(.getfield 10, 15, .inl 0, 1, 0), by subst h; exact ⟨dX0_leave_12, rfl, ⟨⟨_, rfl, by decide, _, Or.inl q881, Or.inl rfl⟩, (show mKd 0 1 ≤ 4 by decide)⟩⟩⟩ else none
    else
     bif Nat.blt pc 19 then
      bif Nat.blt pc 16 then
       if h : pc = 15 then some ⟨(.ishl, 16, .inl 0, 0, 0), by subst h; exact ⟨dX0_leave_15, rfl, trivial⟩⟩ else none
      else
       if h : pc = 16 then some ⟨(.if_icmp .ge 70, 19, .inl 0, 86, 0), by subst h; exact ⟨dX0_leave_16, rfl, (show ((16 : Nat) : Int) + (70) = ((86 : Nat) : Int) by decide)⟩⟩ else none
     else
      bif Nat.blt pc 20 then
       if h : pc = 19 then some ⟨(.iload_n 2, 20, .inl 0, 0, 0), by subst h; exact ⟨dX0_leave_19, rfl, trivial⟩⟩ else none
      else
       if h : pc = 20 then some ⟨(.iconst (-1), 21, .inl (-1), 0, 0), by subst h; exact ⟨dX0_leave_20, rfl, ⟨(-1), rfl, by decide⟩⟩⟩ else none
  else
   bif Nat.blt pc 39 then
    bif Nat.blt pc 29 then
     bif Nat.blt pc 25 then
      bif Nat.blt pc 24 then
       if h : pc = 21 then some ⟨(.if_icmp .eq 14, 24, .inl 0, 35, 0), by subst h; exact ⟨dX0_leave_21, rfl, (show ((21 : Nat) : Int) + (14) = ((35 : Nat) : Int) by decide)⟩⟩ else none
      else
       if h : pc = 24 then some ⟨(.iload_n 3, 25, .inl 0, 0, 0), by subst h; exact ⟨dX0_leave_24, rfl, trivial⟩⟩ else none
     else
      bif Nat.blt pc 28 then
       if h : pc = 25 then some ⟨(.invokestatic 425, 28, .inl 0, 260, 0), by subst h; exact ⟨dX0_leave_25, rfl, Or.inl ⟨by decide, q1062, q1063⟩⟩⟩ else none
      else
       if h : pc = 28 then some ⟨(.iload_n 2, 29, .inl 0, 0, 0), by subst h; exact ⟨dX0_leave_28, rfl, trivial⟩⟩ else none
    else
     bif Nat.blt pc 35 then
      bif Nat.blt pc 32 then
       if h : pc = 29 then some ⟨(.invokestatic 425, 32, .inl 0, 260, 0), by subst h; exact ⟨dX0_leave_29, rfl, Or.inl ⟨by decide, q1062, q1063⟩⟩⟩ else none
      else
       if h : pc = 32 then some ⟨(.if_icmp .ge 7, 35, .inl 0, 39, 0), by subst h; exact ⟨dX0_leave_32, rfl, (show ((32 : Nat) : Int) + (7) = ((39 : Nat) : Int) by decide)⟩⟩ else none
     else
      bif Nat.blt pc 36 then
       if h : pc = 35 then some ⟨(.iconst 1, 36, .inl 1, 0, 0), by subst h; exact ⟨dX0_leave_35, rfl, ⟨1, rfl, by decide⟩⟩⟩ else none
      else
       if h : pc = 36 then some ⟨(.goto 4, 39, .inl 0, 40, 0), by subst h; exact ⟨dX0_leave_36, rfl, (show ((36 : Nat) : Int) + (4) = ((40 : Nat) : Int) by decide)⟩⟩ else none
   else
    bif Nat.blt pc 44 then
     bif Nat.blt pc 42 then
      bif Nat.blt pc 40 then
       if h : pc = 39 then some ⟨(.iconst 0, 40, .inl 0, 0, 0), by subst h; exact ⟨dX0_leave_39, rfl, ⟨0, rfl, by decide⟩⟩⟩ else none
      else
       if h : pc = 40 then some ⟨(.istore 4, 42, .inl 0, 0, 0), by subst h; exact ⟨dX0_leave_40, rfl, (show (4 : Nat) < 6 by decide)⟩⟩ else none
     else
      bif Nat.blt pc 43 then
       if h : pc = 42 then some ⟨(.iload_n 3, 43, .inl 0, 0, 0), by subst h; exact ⟨dX0_leave_42, rfl, trivial⟩⟩ else none
      else
       if h : pc = 43 then some ⟨(.iload_n 1, 44, .inl 0, 0, 0), by subst h; exact ⟨dX0_leave_43, rfl, trivial⟩⟩ else none
    else
     bif Nat.blt pc 46 then
      bif Nat.blt pc 45 then
       if h : pc = 44 then some ⟨(.iconst (-1), 45, .inl (-1), 0, 0), by subst h; exact ⟨dX0_leave_44, rfl, ⟨(-1), rfl, by decide⟩⟩⟩ else none
      else
       if h : pc = 45 then some ⟨(.ixor, 46, .inl 0, 0, 0), by subst h; exact ⟨dX0_leave_45, rfl, trivial⟩⟩ else none
     else
      bif Nat.blt pc 47 then
       if h : pc = 46 then some ⟨(.iand, 47, .inl 0, 0, 0), by subst h; exact ⟨dX0_leave_46, rfl, trivial⟩⟩ else none
      else
       if h : pc = 47 then some ⟨(.ifCond .ne 33, 50, .inl 0, 80, 0), by subst h; exact ⟨dX0_leave_47, rfl, (show ((47 : Nat) : Int) + (33) = ((80 : Nat) : Int) by decide)⟩⟩ else none
 else
  bif Nat.blt pc 78 then
   bif Nat.blt pc 62 then
    bif Nat.blt pc 58 then
     bif Nat.blt pc 52 then
      if h : pc = 50 then some ⟨(.iload 4, 52, .inl 0, 0, 0), by subst h; exact ⟨dX0_leave_50, rfl, trivial⟩⟩ else none
     else
      bif Nat.blt pc 55 then
       if h : pc = 52 then some ⟨(.ifCond .ne 6, 55, .inl 0, 58, 0), by subst h; exact ⟨dX0_leave_52, rfl, (show ((52 : Nat) : Int) + (6) = ((58 : Nat) : Int) by decide)⟩⟩ else none
      else
       if h : pc = 55 then some ⟨(.goto 25, 58, .inl 0, 80, 0), by subst h; exact ⟨dX0_leave_55, rfl, (show ((55 : Nat) : Int) + (25) = ((80 : Nat) : Int) by decide)⟩⟩ else none
    else
     bif Nat.blt pc 60 then
      bif Nat.blt pc 59 then
       if h : pc = 58 then some ⟨(.aload_n 0, 59, .inl 0, 0, 0), by subst h; exact ⟨dX0_leave_58, rfl, trivial⟩⟩ else none
      else
       if h : pc = 59 then some ⟨(.iload_n 1, 60, .inl 0, 0, 0), by subst h; exact ⟨dX0_leave_59, rfl, trivial⟩⟩ else none
     else
      bif Nat.blt pc 61 then
       if h : pc = 60 then some ⟨(.iload_n 3, 61, .inl 0, 0, 0), by subst h; exact ⟨dX0_leave_60, rfl, trivial⟩⟩ else none
      else
       if h : pc = 61 then some ⟨(.iconst (-1), 62, .inl (-1), 0, 0), by subst h; exact ⟨dX0_leave_61, rfl, ⟨(-1), rfl, by decide⟩⟩⟩ else none
   else
    bif Nat.blt pc 68 then
     bif Nat.blt pc 64 then
      bif Nat.blt pc 63 then
       if h : pc = 62 then some ⟨(.ixor, 63, .inl 0, 0, 0), by subst h; exact ⟨dX0_leave_62, rfl, trivial⟩⟩ else none
      else
       if h : pc = 63 then some ⟨(.iand, 64, .inl 0, 0, 0), by subst h; exact ⟨dX0_leave_63, rfl, trivial⟩⟩ else none
     else
      bif Nat.blt pc 67 then
       if h : pc = 64 then some ⟨(.invokevirtual 430, 67, .inl 0, 168, 0), by subst h; exact ⟨dX0_leave_64, rfl, ⟨by decide, q1068, q1070, qs42, _, rfl, rfl⟩⟩⟩ else none
      else
       if h : pc = 67 then some ⟨(.aload_n 0, 68, .inl 0, 0, 0), by subst h; exact ⟨dX0_leave_67, rfl, trivial⟩⟩ else none
    else
     bif Nat.blt pc 74 then
      bif Nat.blt pc 71 then
       if h : pc = 68 then some ⟨(.invokevirtual 433, 71, .inl 0, 170, 0), by subst h; exact ⟨dX0_leave_68, rfl, ⟨by decide, q1075, q1077, qs43, _, rfl, rfl⟩⟩⟩ else none
      else
       if h : pc = 71 then some ⟨(.ifCond .eq 7, 74, .inl 0, 78, 0), by subst h; exact ⟨dX0_leave_71, rfl, (show ((71 : Nat) : Int) + (7) = ((78 : Nat) : Int) by decide)⟩⟩ else none
     else
      bif Nat.blt pc 75 then
       if h : pc = 74 then some ⟨(.iload_n 3, 75, .inl 0, 0, 0), by subst h; exact ⟨dX0_leave_74, rfl, trivial⟩⟩ else none
      else
       if h : pc = 75 then some ⟨(.goto 4, 78, .inl 0, 79, 0), by subst h; exact ⟨dX0_leave_75, rfl, (show ((75 : Nat) : Int) + (4) = ((79 : Nat) : Int) by decide)⟩⟩ else none
  else
   bif Nat.blt pc 94 then
    bif Nat.blt pc 86 then
     bif Nat.blt pc 80 then
      bif Nat.blt pc 79 then
       if h : pc = 78 then some ⟨(.iload_n 2, 79, .inl 0, 0, 0), by subst h; exact ⟨dX0_leave_78, rfl, trivial⟩⟩ else none
      else
       if h : pc = 79 then some ⟨(.istore_n 2, 80, .inl 0, 0, 0), by subst h; exact ⟨dX0_leave_79, rfl, (show (2 : Nat) < 6 by decide)⟩⟩ else none
     else
      bif Nat.blt pc 83 then
       if h : pc = 80 then some ⟨(.iinc 3 1, 83, .inl 1, 0, 0), by subst h; exact ⟨dX0_leave_80, rfl, ⟨(show (3 : Nat) < 6 by decide), 1, rfl, by decide⟩⟩⟩ else none
      else
       if h : pc = 83 then some ⟨(.goto (-74), 86, .inl 0, 9, 0), by subst h; exact ⟨dX0_leave_83, rfl, (show ((83 : Nat) : Int) + ((-74)) = ((9 : Nat) : Int) by decide)⟩⟩ else none
    else
     bif Nat.blt pc 88 then
      bif Nat.blt pc 87 then
       if h : pc = 86 then some ⟨(.aload_n 0, 87, .inl 0, 0, 0), by subst h; exact ⟨dX0_leave_86, rfl, trivial⟩⟩ else none
      else
       if h : pc = 87 then some ⟨(.iload_n 1, 88, .inl 0, 0, 0), by subst h; exact ⟨dX0_leave_87, rfl, trivial⟩⟩ else none
     else
      bif Nat.blt pc 91 then
       if h : pc = 88 then some ⟨(.invokevirtual 430, 91, .inl 0, 168, 0), by subst h; exact ⟨dX0_leave_88, rfl, ⟨by decide, q1068, q1070, qs42, _, rfl, rfl⟩⟩⟩ else none
      else
       if h : pc = 91 then some ⟨(.goto 13, 94, .inl 0, 104, 0), by subst h; exact ⟨dX0_leave_91, rfl, (show ((91 : Nat) : Int) + (13) = ((104 : Nat) : Int) by decide)⟩⟩ else none
   else
    bif Nat.blt pc 101 then
     bif Nat.blt pc 97 then
      bif Nat.blt pc 96 then
       if h : pc = 94 then some ⟨(.astore 5, 96, .inl 0, 0, 0), by subst h; exact ⟨dX0_leave_94, rfl, (show (5 : Nat) < 6 by decide)⟩⟩ else none
      else
       if h : pc = 96 then some ⟨(.aload_n 0, 97, .inl 0, 0, 0), by subst h; exact ⟨dX0_leave_96, rfl, trivial⟩⟩ else none
     else
      bif Nat.blt pc 98 then
       if h : pc = 97 then some ⟨(.iload_n 1, 98, .inl 0, 0, 0), by subst h; exact ⟨dX0_leave_97, rfl, trivial⟩⟩ else none
      else
       if h : pc = 98 then some ⟨(.invokevirtual 430, 101, .inl 0, 168, 0), by subst h; exact ⟨dX0_leave_98, rfl, ⟨by decide, q1068, q1070, qs42, _, rfl, rfl⟩⟩⟩ else none
    else
     bif Nat.blt pc 104 then
      bif Nat.blt pc 103 then
       if h : pc = 101 then some ⟨(.aload 5, 103, .inl 0, 0, 0), by subst h; exact ⟨dX0_leave_101, rfl, trivial⟩⟩ else none
      else
       if h : pc = 103 then some ⟨(.athrow, 104, .inl 0, 0, 0), by subst h; exact ⟨dX0_leave_103, rfl, trivial⟩⟩ else none
     else
      bif Nat.blt pc 105 then
       if h : pc = 104 then some ⟨(.iload_n 2, 105, .inl 0, 0, 0), by subst h; exact ⟨dX0_leave_104, rfl, trivial⟩⟩ else none
      else
       if h : pc = 105 then some ⟨(.ireturn, 106, .inl 0, 0, 0), by subst h; exact ⟨dX0_leave_105, rfl, rfl⟩⟩ else none

noncomputable def mt167 (pc : Nat) : Option {e : mE // mOK yX0_hereSet cX0_hereSet 3 ((Option.some ClassFile.FieldType.int)) pc e} :=
 bif Nat.blt pc 19 then
  bif Nat.blt pc 6 then
   bif Nat.blt pc 3 then
    bif Nat.blt pc 1 then
     if h : pc = 0 then some ⟨(.iconst 0, 1, .inl 0, 0, 0), by subst h; exact ⟨dX0_hereSet_0, rfl, ⟨0, rfl, by decide⟩⟩⟩ else none
    else
     bif Nat.blt pc 2 then
      if h : pc = 1 then some ⟨(.istore_n 1, 2, .inl 0, 0, 0), by subst h; exact ⟨dX0_hereSet_1, rfl, (show (1 : Nat) < 3 by decide)⟩⟩ else none
     else
      if h : pc = 2 then some ⟨(.iconst 0, 3, .inl 0, 0, 0), by subst h; exact ⟨dX0_hereSet_2, rfl, ⟨0, rfl, by decide⟩⟩⟩ else none
   else
    bif Nat.blt pc 4 then
     if h : pc = 3 then some ⟨(.istore_n 2, 4, .inl 0, 0, 0), by subst h; exact ⟨dX0_hereSet_3, rfl, (show (2 : Nat) < 3 by decide)⟩⟩ else none
    else
     bif Nat.blt pc 5 then
      if h : pc = 4 then some ⟨(.iload_n 2, 5, .inl 0, 0, 0), by subst h; exact ⟨dX0_hereSet_4, rfl, trivial⟩⟩ else none
     else
      if h : pc = 5 then some ⟨(.aload_n 0, 6, .inl 0, 0, 0), by subst h; exact ⟨dX0_hereSet_5, rfl, trivial⟩⟩ else none
  else
   bif Nat.blt pc 13 then
    bif Nat.blt pc 9 then
     if h : pc = 6 then some ⟨(.getfield 10, 9, .inl 0, 1, 0), by subst h; exact ⟨dX0_hereSet_6, rfl, ⟨⟨_, rfl, by decide, _, Or.inl q881, Or.inl rfl⟩, (show mKd 0 1 ≤ 4 by decide)⟩⟩⟩ else none
    else
     bif Nat.blt pc 12 then
      if h : pc = 9 then some ⟨(.if_icmp .ge 31, 12, .inl 0, 40, 0), by subst h; exact ⟨dX0_hereSet_9, rfl, (show ((9 : Nat) : Int) + (31) = ((40 : Nat) : Int) by decide)⟩⟩ else none
     else
      if h : pc = 12 then some ⟨(.iload_n 1, 13, .inl 0, 0, 0), by subst h; exact ⟨dX0_hereSet_12, rfl, trivial⟩⟩ else none
   else
    bif Nat.blt pc 17 then
     bif Nat.blt pc 14 then
      if h : pc = 13 then some ⟨(.aload_n 0, 14, .inl 0, 0, 0), by subst h; exact ⟨dX0_hereSet_13, rfl, trivial⟩⟩ else none
     else
      if h : pc = 14 then some ⟨(.getfield 47, 17, .inr (.inr none), 0, 0), by subst h; exact ⟨dX0_hereSet_14, rfl, ⟨⟨_, rfl, by decide, _, Or.inl q880, Or.inl rfl⟩, (show mKd 0 0 = 6 by rfl)⟩⟩⟩ else none
    else
     bif Nat.blt pc 18 then
      if h : pc = 17 then some ⟨(.iload_n 2, 18, .inl 0, 0, 0), by subst h; exact ⟨dX0_hereSet_17, rfl, trivial⟩⟩ else none
     else
      if h : pc = 18 then some ⟨(.aaload, 19, .inl 0, 0, 0), by subst h; exact ⟨dX0_hereSet_18, rfl, trivial⟩⟩ else none
 else
  bif Nat.blt pc 31 then
   bif Nat.blt pc 26 then
    bif Nat.blt pc 22 then
     if h : pc = 19 then some ⟨(.getfield 81, 22, .inl 0, 3, 4), by subst h; exact ⟨dX0_hereSet_19, rfl, ⟨⟨_, rfl, by decide, _, Or.inl q206, Or.inl rfl⟩, (show mKd 4 3 ≤ 4 by decide)⟩⟩⟩ else none
    else
     bif Nat.blt pc 25 then
      if h : pc = 22 then some ⟨(.ifCond .eq 9, 25, .inl 0, 31, 0), by subst h; exact ⟨dX0_hereSet_22, rfl, (show ((22 : Nat) : Int) + (9) = ((31 : Nat) : Int) by decide)⟩⟩ else none
     else
      if h : pc = 25 then some ⟨(.iconst 1, 26, .inl 1, 0, 0), by subst h; exact ⟨dX0_hereSet_25, rfl, ⟨1, rfl, by decide⟩⟩⟩ else none
   else
    bif Nat.blt pc 27 then
     if h : pc = 26 then some ⟨(.iload_n 2, 27, .inl 0, 0, 0), by subst h; exact ⟨dX0_hereSet_26, rfl, trivial⟩⟩ else none
    else
     bif Nat.blt pc 28 then
      if h : pc = 27 then some ⟨(.ishl, 28, .inl 0, 0, 0), by subst h; exact ⟨dX0_hereSet_27, rfl, trivial⟩⟩ else none
     else
      if h : pc = 28 then some ⟨(.goto 4, 31, .inl 0, 32, 0), by subst h; exact ⟨dX0_hereSet_28, rfl, (show ((28 : Nat) : Int) + (4) = ((32 : Nat) : Int) by decide)⟩⟩ else none
  else
   bif Nat.blt pc 34 then
    bif Nat.blt pc 32 then
     if h : pc = 31 then some ⟨(.iconst 0, 32, .inl 0, 0, 0), by subst h; exact ⟨dX0_hereSet_31, rfl, ⟨0, rfl, by decide⟩⟩⟩ else none
    else
     bif Nat.blt pc 33 then
      if h : pc = 32 then some ⟨(.ior, 33, .inl 0, 0, 0), by subst h; exact ⟨dX0_hereSet_32, rfl, trivial⟩⟩ else none
     else
      if h : pc = 33 then some ⟨(.istore_n 1, 34, .inl 0, 0, 0), by subst h; exact ⟨dX0_hereSet_33, rfl, (show (1 : Nat) < 3 by decide)⟩⟩ else none
   else
    bif Nat.blt pc 40 then
     bif Nat.blt pc 37 then
      if h : pc = 34 then some ⟨(.iinc 2 1, 37, .inl 1, 0, 0), by subst h; exact ⟨dX0_hereSet_34, rfl, ⟨(show (2 : Nat) < 3 by decide), 1, rfl, by decide⟩⟩⟩ else none
     else
      if h : pc = 37 then some ⟨(.goto (-33), 40, .inl 0, 4, 0), by subst h; exact ⟨dX0_hereSet_37, rfl, (show ((37 : Nat) : Int) + ((-33)) = ((4 : Nat) : Int) by decide)⟩⟩ else none
    else
     bif Nat.blt pc 41 then
      if h : pc = 40 then some ⟨(.iload_n 1, 41, .inl 0, 0, 0), by subst h; exact ⟨dX0_hereSet_40, rfl, trivial⟩⟩ else none
     else
      if h : pc = 41 then some ⟨(.ireturn, 42, .inl 0, 0, 0), by subst h; exact ⟨dX0_hereSet_41, rfl, rfl⟩⟩ else none

noncomputable def mt168 (pc : Nat) : Option {e : mE // mOK yX0_comes cX0_comes 3 ((Option.none : Option ClassFile.FieldType)) pc e} :=
 bif Nat.blt pc 14 then
  bif Nat.blt pc 4 then
   bif Nat.blt pc 2 then
    bif Nat.blt pc 1 then
     if h : pc = 0 then some ⟨(.iconst 0, 1, .inl 0, 0, 0), by subst h; exact ⟨dX0_comes_0, rfl, ⟨0, rfl, by decide⟩⟩⟩ else none
    else
     if h : pc = 1 then some ⟨(.istore_n 2, 2, .inl 0, 0, 0), by subst h; exact ⟨dX0_comes_1, rfl, (show (2 : Nat) < 3 by decide)⟩⟩ else none
   else
    bif Nat.blt pc 3 then
     if h : pc = 2 then some ⟨(.iload_n 2, 3, .inl 0, 0, 0), by subst h; exact ⟨dX0_comes_2, rfl, trivial⟩⟩ else none
    else
     if h : pc = 3 then some ⟨(.aload_n 0, 4, .inl 0, 0, 0), by subst h; exact ⟨dX0_comes_3, rfl, trivial⟩⟩ else none
  else
   bif Nat.blt pc 10 then
    bif Nat.blt pc 7 then
     if h : pc = 4 then some ⟨(.getfield 10, 7, .inl 0, 1, 0), by subst h; exact ⟨dX0_comes_4, rfl, ⟨⟨_, rfl, by decide, _, Or.inl q881, Or.inl rfl⟩, (show mKd 0 1 ≤ 4 by decide)⟩⟩⟩ else none
    else
     if h : pc = 7 then some ⟨(.if_icmp .ge 23, 10, .inl 0, 30, 0), by subst h; exact ⟨dX0_comes_7, rfl, (show ((7 : Nat) : Int) + (23) = ((30 : Nat) : Int) by decide)⟩⟩ else none
   else
    bif Nat.blt pc 11 then
     if h : pc = 10 then some ⟨(.aload_n 0, 11, .inl 0, 0, 0), by subst h; exact ⟨dX0_comes_10, rfl, trivial⟩⟩ else none
    else
     if h : pc = 11 then some ⟨(.getfield 47, 14, .inr (.inr none), 0, 0), by subst h; exact ⟨dX0_comes_11, rfl, ⟨⟨_, rfl, by decide, _, Or.inl q880, Or.inl rfl⟩, (show mKd 0 0 = 6 by rfl)⟩⟩⟩ else none
 else
  bif Nat.blt pc 18 then
   bif Nat.blt pc 16 then
    bif Nat.blt pc 15 then
     if h : pc = 14 then some ⟨(.iload_n 2, 15, .inl 0, 0, 0), by subst h; exact ⟨dX0_comes_14, rfl, trivial⟩⟩ else none
    else
     if h : pc = 15 then some ⟨(.aaload, 16, .inl 0, 0, 0), by subst h; exact ⟨dX0_comes_15, rfl, trivial⟩⟩ else none
   else
    bif Nat.blt pc 17 then
     if h : pc = 16 then some ⟨(.iload_n 1, 17, .inl 0, 0, 0), by subst h; exact ⟨dX0_comes_16, rfl, trivial⟩⟩ else none
    else
     if h : pc = 17 then some ⟨(.iload_n 2, 18, .inl 0, 0, 0), by subst h; exact ⟨dX0_comes_17, rfl, trivial⟩⟩ else none
  else
   bif Nat.blt pc 24 then
    bif Nat.blt pc 21 then
     if h : pc = 18 then some ⟨(.invokestatic 419, 21, .inl 0, 169, 0), by subst h; exact ⟨dX0_comes_18, rfl, Or.inl ⟨by decide, q1072, q1073⟩⟩⟩ else none
    else
     if h : pc = 21 then some ⟨(.putfield 81, 24, .inl 0, 3, 104), by subst h; exact ⟨dX0_comes_21, rfl, ⟨⟨_, rfl, by decide, _, Or.inl q206, Or.inl rfl⟩, (show mKd 4 3 ≤ 4 by decide), by decide, by decide, (fun q h => Or.inl (by cases h; rfl))⟩⟩⟩ else none
   else
    bif Nat.blt pc 27 then
     if h : pc = 24 then some ⟨(.iinc 2 1, 27, .inl 1, 0, 0), by subst h; exact ⟨dX0_comes_24, rfl, ⟨(show (2 : Nat) < 3 by decide), 1, rfl, by decide⟩⟩⟩ else none
    else
     bif Nat.blt pc 30 then
      if h : pc = 27 then some ⟨(.goto (-25), 30, .inl 0, 2, 0), by subst h; exact ⟨dX0_comes_27, rfl, (show ((27 : Nat) : Int) + ((-25)) = ((2 : Nat) : Int) by decide)⟩⟩ else none
     else
      if h : pc = 30 then some ⟨(.return_, 31, .inl 0, 0, 0), by subst h; exact ⟨dX0_comes_30, rfl, rfl⟩⟩ else none

noncomputable def mt169 (pc : Nat) : Option {e : mE // mOK yX0_isIn cX0_isIn 2 ((Option.some ClassFile.FieldType.boolean)) pc e} :=
 bif Nat.blt pc 5 then
  bif Nat.blt pc 2 then
   bif Nat.blt pc 1 then
    if h : pc = 0 then some ⟨(.iload_n 0, 1, .inl 0, 0, 0), by subst h; exact ⟨dX0_isIn_0, rfl, trivial⟩⟩ else none
   else
    if h : pc = 1 then some ⟨(.iload_n 1, 2, .inl 0, 0, 0), by subst h; exact ⟨dX0_isIn_1, rfl, trivial⟩⟩ else none
  else
   bif Nat.blt pc 3 then
    if h : pc = 2 then some ⟨(.ishr, 3, .inl 0, 0, 0), by subst h; exact ⟨dX0_isIn_2, rfl, trivial⟩⟩ else none
   else
    bif Nat.blt pc 4 then
     if h : pc = 3 then some ⟨(.iconst 1, 4, .inl 1, 0, 0), by subst h; exact ⟨dX0_isIn_3, rfl, ⟨1, rfl, by decide⟩⟩⟩ else none
    else
     if h : pc = 4 then some ⟨(.iand, 5, .inl 0, 0, 0), by subst h; exact ⟨dX0_isIn_4, rfl, trivial⟩⟩ else none
 else
  bif Nat.blt pc 10 then
   bif Nat.blt pc 6 then
    if h : pc = 5 then some ⟨(.iconst 1, 6, .inl 1, 0, 0), by subst h; exact ⟨dX0_isIn_5, rfl, ⟨1, rfl, by decide⟩⟩⟩ else none
   else
    bif Nat.blt pc 9 then
     if h : pc = 6 then some ⟨(.if_icmp .ne 7, 9, .inl 0, 13, 0), by subst h; exact ⟨dX0_isIn_6, rfl, (show ((6 : Nat) : Int) + (7) = ((13 : Nat) : Int) by decide)⟩⟩ else none
    else
     if h : pc = 9 then some ⟨(.iconst 1, 10, .inl 1, 0, 0), by subst h; exact ⟨dX0_isIn_9, rfl, ⟨1, rfl, by decide⟩⟩⟩ else none
  else
   bif Nat.blt pc 13 then
    if h : pc = 10 then some ⟨(.goto 4, 13, .inl 0, 14, 0), by subst h; exact ⟨dX0_isIn_10, rfl, (show ((10 : Nat) : Int) + (4) = ((14 : Nat) : Int) by decide)⟩⟩ else none
   else
    bif Nat.blt pc 14 then
     if h : pc = 13 then some ⟨(.iconst 0, 14, .inl 0, 0, 0), by subst h; exact ⟨dX0_isIn_13, rfl, ⟨0, rfl, by decide⟩⟩⟩ else none
    else
     if h : pc = 14 then some ⟨(.ireturn, 15, .inl 0, 1, 0), by subst h; exact ⟨dX0_isIn_14, rfl, rfl⟩⟩ else none

noncomputable def mt170 (pc : Nat) : Option {e : mE // mOK yX0_anybodyLifts cX0_anybodyLifts 2 ((Option.some ClassFile.FieldType.boolean)) pc e} :=
 bif Nat.blt pc 12 then
  bif Nat.blt pc 4 then
   bif Nat.blt pc 2 then
    bif Nat.blt pc 1 then
     if h : pc = 0 then some ⟨(.iconst 0, 1, .inl 0, 0, 0), by subst h; exact ⟨dX0_anybodyLifts_0, rfl, ⟨0, rfl, by decide⟩⟩⟩ else none
    else
     if h : pc = 1 then some ⟨(.istore_n 1, 2, .inl 0, 0, 0), by subst h; exact ⟨dX0_anybodyLifts_1, rfl, (show (1 : Nat) < 2 by decide)⟩⟩ else none
   else
    bif Nat.blt pc 3 then
     if h : pc = 2 then some ⟨(.iload_n 1, 3, .inl 0, 0, 0), by subst h; exact ⟨dX0_anybodyLifts_2, rfl, trivial⟩⟩ else none
    else
     if h : pc = 3 then some ⟨(.aload_n 0, 4, .inl 0, 0, 0), by subst h; exact ⟨dX0_anybodyLifts_3, rfl, trivial⟩⟩ else none
  else
   bif Nat.blt pc 10 then
    bif Nat.blt pc 7 then
     if h : pc = 4 then some ⟨(.getfield 10, 7, .inl 0, 1, 0), by subst h; exact ⟨dX0_anybodyLifts_4, rfl, ⟨⟨_, rfl, by decide, _, Or.inl q881, Or.inl rfl⟩, (show mKd 0 1 ≤ 4 by decide)⟩⟩⟩ else none
    else
     if h : pc = 7 then some ⟨(.if_icmp .ge 19, 10, .inl 0, 26, 0), by subst h; exact ⟨dX0_anybodyLifts_7, rfl, (show ((7 : Nat) : Int) + (19) = ((26 : Nat) : Int) by decide)⟩⟩ else none
   else
    bif Nat.blt pc 11 then
     if h : pc = 10 then some ⟨(.aload_n 0, 11, .inl 0, 0, 0), by subst h; exact ⟨dX0_anybodyLifts_10, rfl, trivial⟩⟩ else none
    else
     if h : pc = 11 then some ⟨(.iload_n 1, 12, .inl 0, 0, 0), by subst h; exact ⟨dX0_anybodyLifts_11, rfl, trivial⟩⟩ else none
 else
  bif Nat.blt pc 20 then
   bif Nat.blt pc 18 then
    bif Nat.blt pc 15 then
     if h : pc = 12 then some ⟨(.invokevirtual 116, 15, .inl 0, 124, 0), by subst h; exact ⟨dX0_anybodyLifts_12, rfl, ⟨by decide, q421, q423, qs9, _, rfl, rfl⟩⟩⟩ else none
    else
     if h : pc = 15 then some ⟨(.ifCond .eq 5, 18, .inl 0, 20, 0), by subst h; exact ⟨dX0_anybodyLifts_15, rfl, (show ((15 : Nat) : Int) + (5) = ((20 : Nat) : Int) by decide)⟩⟩ else none
   else
    bif Nat.blt pc 19 then
     if h : pc = 18 then some ⟨(.iconst 1, 19, .inl 1, 0, 0), by subst h; exact ⟨dX0_anybodyLifts_18, rfl, ⟨1, rfl, by decide⟩⟩⟩ else none
    else
     if h : pc = 19 then some ⟨(.ireturn, 20, .inl 0, 1, 0), by subst h; exact ⟨dX0_anybodyLifts_19, rfl, rfl⟩⟩ else none
  else
   bif Nat.blt pc 26 then
    bif Nat.blt pc 23 then
     if h : pc = 20 then some ⟨(.iinc 1 1, 23, .inl 1, 0, 0), by subst h; exact ⟨dX0_anybodyLifts_20, rfl, ⟨(show (1 : Nat) < 2 by decide), 1, rfl, by decide⟩⟩⟩ else none
    else
     if h : pc = 23 then some ⟨(.goto (-21), 26, .inl 0, 2, 0), by subst h; exact ⟨dX0_anybodyLifts_23, rfl, (show ((23 : Nat) : Int) + ((-21)) = ((2 : Nat) : Int) by decide)⟩⟩ else none
   else
    bif Nat.blt pc 27 then
     if h : pc = 26 then some ⟨(.iconst 0, 27, .inl 0, 0, 0), by subst h; exact ⟨dX0_anybodyLifts_26, rfl, ⟨0, rfl, by decide⟩⟩⟩ else none
    else
     if h : pc = 27 then some ⟨(.ireturn, 28, .inl 0, 1, 0), by subst h; exact ⟨dX0_anybodyLifts_27, rfl, rfl⟩⟩ else none

noncomputable def mt171 (pc : Nat) : Option {e : mE // mOK yX0_lightestOf cX0_lightestOf 5 ((Option.some ClassFile.FieldType.int)) pc e} :=
 bif Nat.blt pc 44 then
  bif Nat.blt pc 22 then
   bif Nat.blt pc 9 then
    bif Nat.blt pc 5 then
     bif Nat.blt pc 1 then
      if h : pc = 0 then some ⟨(.aload_n 0, 1, .inl 0, 0, 0), by subst h; exact ⟨dX0_lightestOf_0, rfl, trivial⟩⟩ else none
     else
      bif Nat.blt pc 4 then
       if h : pc = 1 then some ⟨(.invokevirtual 422, 4, .inl 0, 167, 0), by subst h; exact ⟨dX0_lightestOf_1, rfl, ⟨by decide, q1058, q1060, qs41, _, rfl, rfl⟩⟩⟩ else none
      else
       if h : pc = 4 then some ⟨(.istore_n 1, 5, .inl 0, 0, 0), by subst h; exact ⟨dX0_lightestOf_4, rfl, (show (1 : Nat) < 5 by decide)⟩⟩ else none
    else
     bif Nat.blt pc 7 then
      bif Nat.blt pc 6 then
       if h : pc = 5 then some ⟨(.iconst (-1), 6, .inl (-1), 0, 0), by subst h; exact ⟨dX0_lightestOf_5, rfl, ⟨(-1), rfl, by decide⟩⟩⟩ else none
      else
       if h : pc = 6 then some ⟨(.istore_n 2, 7, .inl 0, 0, 0), by subst h; exact ⟨dX0_lightestOf_6, rfl, (show (2 : Nat) < 5 by decide)⟩⟩ else none
     else
      bif Nat.blt pc 8 then
       if h : pc = 7 then some ⟨(.iconst 0, 8, .inl 0, 0, 0), by subst h; exact ⟨dX0_lightestOf_7, rfl, ⟨0, rfl, by decide⟩⟩⟩ else none
      else
       if h : pc = 8 then some ⟨(.istore_n 3, 9, .inl 0, 0, 0), by subst h; exact ⟨dX0_lightestOf_8, rfl, (show (3 : Nat) < 5 by decide)⟩⟩ else none
   else
    bif Nat.blt pc 14 then
     bif Nat.blt pc 10 then
      if h : pc = 9 then some ⟨(.iload_n 3, 10, .inl 0, 0, 0), by subst h; exact ⟨dX0_lightestOf_9, rfl, trivial⟩⟩ else none
     else
      bif Nat.blt pc 11 then
       if h : pc = 10 then some ⟨(.aload_n 0, 11, .inl 0, 0, 0), by subst h; exact ⟨dX0_lightestOf_10, rfl, trivial⟩⟩ else none
      else
       if h : pc = 11 then some ⟨(.getfield 10, 14, .inl 0, 1, 0), by subst h; exact ⟨dX0_lightestOf_11, rfl, ⟨⟨_, rfl, by decide, _, Or.inl q881, Or.inl rfl⟩, (show mKd 0 1 ≤ 4 by decide)⟩⟩⟩ else none
    else
     bif Nat.blt pc 18 then
      bif Nat.blt pc 17 then
       if h : pc = 14 then some ⟨(.if_icmp .ge 67, 17, .inl 0, 81, 0), by subst h; exact ⟨dX0_lightestOf_14, rfl, (show ((14 : Nat) : Int) + (67) = ((81 : Nat) : Int) by decide)⟩⟩ else none
      else
       if h : pc = 17 then some ⟨(.iload_n 1, 18, .inl 0, 0, 0), by subst h; exact ⟨dX0_lightestOf_17, rfl, trivial⟩⟩ else none
     else
      bif Nat.blt pc 19 then
       if h : pc = 18 then some ⟨(.iload_n 3, 19, .inl 0, 0, 0), by subst h; exact ⟨dX0_lightestOf_18, rfl, trivial⟩⟩ else none
      else
       if h : pc = 19 then some ⟨(.invokestatic 419, 22, .inl 0, 169, 0), by subst h; exact ⟨dX0_lightestOf_19, rfl, Or.inl ⟨by decide, q1072, q1073⟩⟩⟩ else none
  else
   bif Nat.blt pc 33 then
    bif Nat.blt pc 29 then
     bif Nat.blt pc 25 then
      if h : pc = 22 then some ⟨(.ifCond .ne 6, 25, .inl 0, 28, 0), by subst h; exact ⟨dX0_lightestOf_22, rfl, (show ((22 : Nat) : Int) + (6) = ((28 : Nat) : Int) by decide)⟩⟩ else none
     else
      bif Nat.blt pc 28 then
       if h : pc = 25 then some ⟨(.goto 50, 28, .inl 0, 75, 0), by subst h; exact ⟨dX0_lightestOf_25, rfl, (show ((25 : Nat) : Int) + (50) = ((75 : Nat) : Int) by decide)⟩⟩ else none
      else
       if h : pc = 28 then some ⟨(.aload_n 0, 29, .inl 0, 0, 0), by subst h; exact ⟨dX0_lightestOf_28, rfl, trivial⟩⟩ else none
    else
     bif Nat.blt pc 31 then
      bif Nat.blt pc 30 then
       if h : pc = 29 then some ⟨(.iload_n 1, 30, .inl 0, 0, 0), by subst h; exact ⟨dX0_lightestOf_29, rfl, trivial⟩⟩ else none
      else
       if h : pc = 30 then some ⟨(.iconst 1, 31, .inl 1, 0, 0), by subst h; exact ⟨dX0_lightestOf_30, rfl, ⟨1, rfl, by decide⟩⟩⟩ else none
     else
      bif Nat.blt pc 32 then
       if h : pc = 31 then some ⟨(.iload_n 3, 32, .inl 0, 0, 0), by subst h; exact ⟨dX0_lightestOf_31, rfl, trivial⟩⟩ else none
      else
       if h : pc = 32 then some ⟨(.ishl, 33, .inl 0, 0, 0), by subst h; exact ⟨dX0_lightestOf_32, rfl, trivial⟩⟩ else none
   else
    bif Nat.blt pc 36 then
     bif Nat.blt pc 34 then
      if h : pc = 33 then some ⟨(.iconst (-1), 34, .inl (-1), 0, 0), by subst h; exact ⟨dX0_lightestOf_33, rfl, ⟨(-1), rfl, by decide⟩⟩⟩ else none
     else
      bif Nat.blt pc 35 then
       if h : pc = 34 then some ⟨(.ixor, 35, .inl 0, 0, 0), by subst h; exact ⟨dX0_lightestOf_34, rfl, trivial⟩⟩ else none
      else
       if h : pc = 35 then some ⟨(.iand, 36, .inl 0, 0, 0), by subst h; exact ⟨dX0_lightestOf_35, rfl, trivial⟩⟩ else none
    else
     bif Nat.blt pc 40 then
      bif Nat.blt pc 39 then
       if h : pc = 36 then some ⟨(.invokevirtual 430, 39, .inl 0, 168, 0), by subst h; exact ⟨dX0_lightestOf_36, rfl, ⟨by decide, q1068, q1070, qs42, _, rfl, rfl⟩⟩⟩ else none
      else
       if h : pc = 39 then some ⟨(.aload_n 0, 40, .inl 0, 0, 0), by subst h; exact ⟨dX0_lightestOf_39, rfl, trivial⟩⟩ else none
     else
      bif Nat.blt pc 43 then
       if h : pc = 40 then some ⟨(.invokevirtual 377, 43, .inl 0, 125, 0), by subst h; exact ⟨dX0_lightestOf_40, rfl, ⟨by decide, q425, q427, qs10, _, rfl, rfl⟩⟩⟩ else none
      else
       if h : pc = 43 then some ⟨(.iload_n 2, 44, .inl 0, 0, 0), by subst h; exact ⟨dX0_lightestOf_43, rfl, trivial⟩⟩ else none
 else
  bif Nat.blt pc 72 then
   bif Nat.blt pc 59 then
    bif Nat.blt pc 49 then
     bif Nat.blt pc 45 then
      if h : pc = 44 then some ⟨(.iconst (-1), 45, .inl (-1), 0, 0), by subst h; exact ⟨dX0_lightestOf_44, rfl, ⟨(-1), rfl, by decide⟩⟩⟩ else none
     else
      bif Nat.blt pc 48 then
       if h : pc = 45 then some ⟨(.if_icmp .eq 17, 48, .inl 0, 62, 0), by subst h; exact ⟨dX0_lightestOf_45, rfl, (show ((45 : Nat) : Int) + (17) = ((62 : Nat) : Int) by decide)⟩⟩ else none
      else
       if h : pc = 48 then some ⟨(.aload_n 0, 49, .inl 0, 0, 0), by subst h; exact ⟨dX0_lightestOf_48, rfl, trivial⟩⟩ else none
    else
     bif Nat.blt pc 53 then
      bif Nat.blt pc 52 then
       if h : pc = 49 then some ⟨(.getfield 300, 52, .inr (.inr none), 21, 0), by subst h; exact ⟨dX0_lightestOf_49, rfl, ⟨⟨_, rfl, by decide, _, Or.inl q904, Or.inl rfl⟩, (show mKd 0 21 = 6 by rfl)⟩⟩⟩ else none
      else
       if h : pc = 52 then some ⟨(.aload_n 0, 53, .inl 0, 0, 0), by subst h; exact ⟨dX0_lightestOf_52, rfl, trivial⟩⟩ else none
     else
      bif Nat.blt pc 56 then
       if h : pc = 53 then some ⟨(.getfield 303, 56, .inr (.inr none), 22, 0), by subst h; exact ⟨dX0_lightestOf_53, rfl, ⟨⟨_, rfl, by decide, _, Or.inl q905, Or.inl rfl⟩, (show mKd 0 22 = 6 by rfl)⟩⟩⟩ else none
      else
       if h : pc = 56 then some ⟨(.invokevirtual 437, 59, .inl 0, 216, 2), by subst h; exact ⟨dX0_lightestOf_56, rfl, ⟨by decide, q1083, q1084, q1085, _, rfl, rfl⟩⟩⟩ else none
   else
    bif Nat.blt pc 64 then
     bif Nat.blt pc 62 then
      if h : pc = 59 then some ⟨(.ifCond .ge 16, 62, .inl 0, 75, 0), by subst h; exact ⟨dX0_lightestOf_59, rfl, (show ((59 : Nat) : Int) + (16) = ((75 : Nat) : Int) by decide)⟩⟩ else none
     else
      bif Nat.blt pc 63 then
       if h : pc = 62 then some ⟨(.iload_n 3, 63, .inl 0, 0, 0), by subst h; exact ⟨dX0_lightestOf_62, rfl, trivial⟩⟩ else none
      else
       if h : pc = 63 then some ⟨(.istore_n 2, 64, .inl 0, 0, 0), by subst h; exact ⟨dX0_lightestOf_63, rfl, (show (2 : Nat) < 5 by decide)⟩⟩ else none
    else
     bif Nat.blt pc 68 then
      bif Nat.blt pc 65 then
       if h : pc = 64 then some ⟨(.aload_n 0, 65, .inl 0, 0, 0), by subst h; exact ⟨dX0_lightestOf_64, rfl, trivial⟩⟩ else none
      else
       if h : pc = 65 then some ⟨(.getfield 303, 68, .inr (.inr none), 22, 0), by subst h; exact ⟨dX0_lightestOf_65, rfl, ⟨⟨_, rfl, by decide, _, Or.inl q905, Or.inl rfl⟩, (show mKd 0 22 = 6 by rfl)⟩⟩⟩ else none
     else
      bif Nat.blt pc 69 then
       if h : pc = 68 then some ⟨(.aload_n 0, 69, .inl 0, 0, 0), by subst h; exact ⟨dX0_lightestOf_68, rfl, trivial⟩⟩ else none
      else
       if h : pc = 69 then some ⟨(.getfield 300, 72, .inr (.inr none), 21, 0), by subst h; exact ⟨dX0_lightestOf_69, rfl, ⟨⟨_, rfl, by decide, _, Or.inl q904, Or.inl rfl⟩, (show mKd 0 21 = 6 by rfl)⟩⟩⟩ else none
  else
   bif Nat.blt pc 89 then
    bif Nat.blt pc 81 then
     bif Nat.blt pc 75 then
      if h : pc = 72 then some ⟨(.invokevirtual 440, 75, .inl 0, 217, 2), by subst h; exact ⟨dX0_lightestOf_72, rfl, ⟨by decide, q1087, q1088, q1089, _, rfl, rfl⟩⟩⟩ else none
     else
      bif Nat.blt pc 78 then
       if h : pc = 75 then some ⟨(.iinc 3 1, 78, .inl 1, 0, 0), by subst h; exact ⟨dX0_lightestOf_75, rfl, ⟨(show (3 : Nat) < 5 by decide), 1, rfl, by decide⟩⟩⟩ else none
      else
       if h : pc = 78 then some ⟨(.goto (-69), 81, .inl 0, 9, 0), by subst h; exact ⟨dX0_lightestOf_78, rfl, (show ((78 : Nat) : Int) + ((-69)) = ((9 : Nat) : Int) by decide)⟩⟩ else none
    else
     bif Nat.blt pc 83 then
      bif Nat.blt pc 82 then
       if h : pc = 81 then some ⟨(.aload_n 0, 82, .inl 0, 0, 0), by subst h; exact ⟨dX0_lightestOf_81, rfl, trivial⟩⟩ else none
      else
       if h : pc = 82 then some ⟨(.iload_n 1, 83, .inl 0, 0, 0), by subst h; exact ⟨dX0_lightestOf_82, rfl, trivial⟩⟩ else none
     else
      bif Nat.blt pc 86 then
       if h : pc = 83 then some ⟨(.invokevirtual 430, 86, .inl 0, 168, 0), by subst h; exact ⟨dX0_lightestOf_83, rfl, ⟨by decide, q1068, q1070, qs42, _, rfl, rfl⟩⟩⟩ else none
      else
       if h : pc = 86 then some ⟨(.goto 13, 89, .inl 0, 99, 0), by subst h; exact ⟨dX0_lightestOf_86, rfl, (show ((86 : Nat) : Int) + (13) = ((99 : Nat) : Int) by decide)⟩⟩ else none
   else
    bif Nat.blt pc 96 then
     bif Nat.blt pc 92 then
      bif Nat.blt pc 91 then
       if h : pc = 89 then some ⟨(.astore 4, 91, .inl 0, 0, 0), by subst h; exact ⟨dX0_lightestOf_89, rfl, (show (4 : Nat) < 5 by decide)⟩⟩ else none
      else
       if h : pc = 91 then some ⟨(.aload_n 0, 92, .inl 0, 0, 0), by subst h; exact ⟨dX0_lightestOf_91, rfl, trivial⟩⟩ else none
     else
      bif Nat.blt pc 93 then
       if h : pc = 92 then some ⟨(.iload_n 1, 93, .inl 0, 0, 0), by subst h; exact ⟨dX0_lightestOf_92, rfl, trivial⟩⟩ else none
      else
       if h : pc = 93 then some ⟨(.invokevirtual 430, 96, .inl 0, 168, 0), by subst h; exact ⟨dX0_lightestOf_93, rfl, ⟨by decide, q1068, q1070, qs42, _, rfl, rfl⟩⟩⟩ else none
    else
     bif Nat.blt pc 99 then
      bif Nat.blt pc 98 then
       if h : pc = 96 then some ⟨(.aload 4, 98, .inl 0, 0, 0), by subst h; exact ⟨dX0_lightestOf_96, rfl, trivial⟩⟩ else none
      else
       if h : pc = 98 then some ⟨(.athrow, 99, .inl 0, 0, 0), by subst h; exact ⟨dX0_lightestOf_98, rfl, trivial⟩⟩ else none
     else
      bif Nat.blt pc 100 then
       if h : pc = 99 then some ⟨(.iload_n 2, 100, .inl 0, 0, 0), by subst h; exact ⟨dX0_lightestOf_99, rfl, trivial⟩⟩ else none
      else
       if h : pc = 100 then some ⟨(.ireturn, 101, .inl 0, 0, 0), by subst h; exact ⟨dX0_lightestOf_100, rfl, rfl⟩⟩ else none

noncomputable def mt172 (pc : Nat) : Option {e : mE // mOK yX0_prop cX0_prop 8 ((Option.some ClassFile.FieldType.int)) pc e} :=
 bif Nat.blt pc 50 then
  bif Nat.blt pc 26 then
   bif Nat.blt pc 13 then
    bif Nat.blt pc 3 then
     bif Nat.blt pc 1 then
      if h : pc = 0 then some ⟨(.iload_n 1, 1, .inl 0, 0, 0), by subst h; exact ⟨dX0_prop_0, rfl, trivial⟩⟩ else none
     else
      bif Nat.blt pc 2 then
       if h : pc = 1 then some ⟨(.i2l, 2, .inl 0, 0, 0), by subst h; exact ⟨dX0_prop_1, rfl, trivial⟩⟩ else none
      else
       if h : pc = 2 then some ⟨(.lconst 0, 3, .inr (.inl 0), 0, 0), by subst h; exact ⟨dX0_prop_2, rfl, ⟨0, rfl, by decide⟩⟩⟩ else none
    else
     bif Nat.blt pc 9 then
      bif Nat.blt pc 6 then
       if h : pc = 3 then some ⟨(.ldc2_w 448, 6, .inr (.inl 40), 0, 0), by subst h; exact ⟨dX0_prop_3, rfl, ⟨_, rfl, q1095⟩⟩⟩ else none
      else
       if h : pc = 6 then some ⟨(.invokestatic 16, 9, .inl 0, 108, 0), by subst h; exact ⟨dX0_prop_6, rfl, Or.inl ⟨by decide, q167, q168⟩⟩⟩ else none
     else
      bif Nat.blt pc 12 then
       if h : pc = 9 then some ⟨(.ifCond .eq 25, 12, .inl 0, 34, 0), by subst h; exact ⟨dX0_prop_9, rfl, (show ((9 : Nat) : Int) + (25) = ((34 : Nat) : Int) by decide)⟩⟩ else none
      else
       if h : pc = 12 then some ⟨(.iload_n 2, 13, .inl 0, 0, 0), by subst h; exact ⟨dX0_prop_12, rfl, trivial⟩⟩ else none
   else
    bif Nat.blt pc 18 then
     bif Nat.blt pc 14 then
      if h : pc = 13 then some ⟨(.i2l, 14, .inl 0, 0, 0), by subst h; exact ⟨dX0_prop_13, rfl, trivial⟩⟩ else none
     else
      bif Nat.blt pc 15 then
       if h : pc = 14 then some ⟨(.lconst 1, 15, .inr (.inl 1), 0, 0), by subst h; exact ⟨dX0_prop_14, rfl, ⟨1, rfl, by decide⟩⟩⟩ else none
      else
       if h : pc = 15 then some ⟨(.ldc2_w 450, 18, .inr (.inl 99), 0, 0), by subst h; exact ⟨dX0_prop_15, rfl, ⟨_, rfl, q1096⟩⟩⟩ else none
    else
     bif Nat.blt pc 24 then
      bif Nat.blt pc 21 then
       if h : pc = 18 then some ⟨(.invokestatic 16, 21, .inl 0, 108, 0), by subst h; exact ⟨dX0_prop_18, rfl, Or.inl ⟨by decide, q167, q168⟩⟩⟩ else none
      else
       if h : pc = 21 then some ⟨(.ifCond .eq 13, 24, .inl 0, 34, 0), by subst h; exact ⟨dX0_prop_21, rfl, (show ((21 : Nat) : Int) + (13) = ((34 : Nat) : Int) by decide)⟩⟩ else none
     else
      bif Nat.blt pc 25 then
       if h : pc = 24 then some ⟨(.iload_n 3, 25, .inl 0, 0, 0), by subst h; exact ⟨dX0_prop_24, rfl, trivial⟩⟩ else none
      else
       if h : pc = 25 then some ⟨(.i2l, 26, .inl 0, 0, 0), by subst h; exact ⟨dX0_prop_25, rfl, trivial⟩⟩ else none
  else
   bif Nat.blt pc 38 then
    bif Nat.blt pc 31 then
     bif Nat.blt pc 27 then
      if h : pc = 26 then some ⟨(.lconst 0, 27, .inr (.inl 0), 0, 0), by subst h; exact ⟨dX0_prop_26, rfl, ⟨0, rfl, by decide⟩⟩⟩ else none
     else
      bif Nat.blt pc 28 then
       if h : pc = 27 then some ⟨(.lconst 1, 28, .inr (.inl 1), 0, 0), by subst h; exact ⟨dX0_prop_27, rfl, ⟨1, rfl, by decide⟩⟩⟩ else none
      else
       if h : pc = 28 then some ⟨(.invokestatic 16, 31, .inl 0, 108, 0), by subst h; exact ⟨dX0_prop_28, rfl, Or.inl ⟨by decide, q167, q168⟩⟩⟩ else none
    else
     bif Nat.blt pc 36 then
      bif Nat.blt pc 34 then
       if h : pc = 31 then some ⟨(.ifCond .ne 6, 34, .inl 0, 37, 0), by subst h; exact ⟨dX0_prop_31, rfl, (show ((31 : Nat) : Int) + (6) = ((37 : Nat) : Int) by decide)⟩⟩ else none
      else
       if h : pc = 34 then some ⟨(.bipush (-2), 36, .inl (-2), 0, 0), by subst h; exact ⟨dX0_prop_34, rfl, ⟨(-2), rfl, by decide⟩⟩⟩ else none
     else
      bif Nat.blt pc 37 then
       if h : pc = 36 then some ⟨(.ireturn, 37, .inl 0, 0, 0), by subst h; exact ⟨dX0_prop_36, rfl, rfl⟩⟩ else none
      else
       if h : pc = 37 then some ⟨(.iconst (-1), 38, .inl (-1), 0, 0), by subst h; exact ⟨dX0_prop_37, rfl, ⟨(-1), rfl, by decide⟩⟩⟩ else none
   else
    bif Nat.blt pc 42 then
     bif Nat.blt pc 40 then
      if h : pc = 38 then some ⟨(.istore 4, 40, .inl 0, 0, 0), by subst h; exact ⟨dX0_prop_38, rfl, (show (4 : Nat) < 8 by decide)⟩⟩ else none
     else
      bif Nat.blt pc 41 then
       if h : pc = 40 then some ⟨(.aload_n 0, 41, .inl 0, 0, 0), by subst h; exact ⟨dX0_prop_40, rfl, trivial⟩⟩ else none
      else
       if h : pc = 41 then some ⟨(.iload_n 1, 42, .inl 0, 0, 0), by subst h; exact ⟨dX0_prop_41, rfl, trivial⟩⟩ else none
    else
     bif Nat.blt pc 47 then
      bif Nat.blt pc 45 then
       if h : pc = 42 then some ⟨(.invokevirtual 407, 45, .inl 0, 157, 0), by subst h; exact ⟨dX0_prop_42, rfl, ⟨by decide, q1018, q1020, qs34, _, rfl, rfl⟩⟩⟩ else none
      else
       if h : pc = 45 then some ⟨(.istore 5, 47, .inl 0, 0, 0), by subst h; exact ⟨dX0_prop_45, rfl, (show (5 : Nat) < 8 by decide)⟩⟩ else none
     else
      bif Nat.blt pc 48 then
       if h : pc = 47 then some ⟨(.iconst 0, 48, .inl 0, 0, 0), by subst h; exact ⟨dX0_prop_47, rfl, ⟨0, rfl, by decide⟩⟩⟩ else none
      else
       if h : pc = 48 then some ⟨(.istore 6, 50, .inl 0, 0, 0), by subst h; exact ⟨dX0_prop_48, rfl, (show (6 : Nat) < 8 by decide)⟩⟩ else none
 else
  bif Nat.blt pc 79 then
   bif Nat.blt pc 62 then
    bif Nat.blt pc 57 then
     bif Nat.blt pc 52 then
      if h : pc = 50 then some ⟨(.iload 6, 52, .inl 0, 0, 0), by subst h; exact ⟨dX0_prop_50, rfl, trivial⟩⟩ else none
     else
      bif Nat.blt pc 54 then
       if h : pc = 52 then some ⟨(.bipush 10, 54, .inl 10, 0, 0), by subst h; exact ⟨dX0_prop_52, rfl, ⟨10, rfl, by decide⟩⟩⟩ else none
      else
       if h : pc = 54 then some ⟨(.if_icmp .ge 44, 57, .inl 0, 98, 0), by subst h; exact ⟨dX0_prop_54, rfl, (show ((54 : Nat) : Int) + (44) = ((98 : Nat) : Int) by decide)⟩⟩ else none
    else
     bif Nat.blt pc 60 then
      bif Nat.blt pc 58 then
       if h : pc = 57 then some ⟨(.aload_n 0, 58, .inl 0, 0, 0), by subst h; exact ⟨dX0_prop_57, rfl, trivial⟩⟩ else none
      else
       if h : pc = 58 then some ⟨(.iload 6, 60, .inl 0, 0, 0), by subst h; exact ⟨dX0_prop_58, rfl, trivial⟩⟩ else none
     else
      bif Nat.blt pc 61 then
       if h : pc = 60 then some ⟨(.iload_n 2, 61, .inl 0, 0, 0), by subst h; exact ⟨dX0_prop_60, rfl, trivial⟩⟩ else none
      else
       if h : pc = 61 then some ⟨(.iload_n 1, 62, .inl 0, 0, 0), by subst h; exact ⟨dX0_prop_61, rfl, trivial⟩⟩ else none
   else
    bif Nat.blt pc 69 then
     bif Nat.blt pc 65 then
      if h : pc = 62 then some ⟨(.invokevirtual 452, 65, .inl 0, 173, 0), by subst h; exact ⟨dX0_prop_62, rfl, ⟨by decide, q1097, q1099, qs45, _, rfl, rfl⟩⟩⟩ else none
     else
      bif Nat.blt pc 67 then
       if h : pc = 65 then some ⟨(.istore 7, 67, .inl 0, 0, 0), by subst h; exact ⟨dX0_prop_65, rfl, (show (7 : Nat) < 8 by decide)⟩⟩ else none
      else
       if h : pc = 67 then some ⟨(.iload 7, 69, .inl 0, 0, 0), by subst h; exact ⟨dX0_prop_67, rfl, trivial⟩⟩ else none
    else
     bif Nat.blt pc 74 then
      bif Nat.blt pc 71 then
       if h : pc = 69 then some ⟨(.iload 5, 71, .inl 0, 0, 0), by subst h; exact ⟨dX0_prop_69, rfl, trivial⟩⟩ else none
      else
       if h : pc = 71 then some ⟨(.if_icmp .ge 8, 74, .inl 0, 79, 0), by subst h; exact ⟨dX0_prop_71, rfl, (show ((71 : Nat) : Int) + (8) = ((79 : Nat) : Int) by decide)⟩⟩ else none
     else
      bif Nat.blt pc 76 then
       if h : pc = 74 then some ⟨(.iload 6, 76, .inl 0, 0, 0), by subst h; exact ⟨dX0_prop_74, rfl, trivial⟩⟩ else none
      else
       if h : pc = 76 then some ⟨(.goto 5, 79, .inl 0, 81, 0), by subst h; exact ⟨dX0_prop_76, rfl, (show ((76 : Nat) : Int) + (5) = ((81 : Nat) : Int) by decide)⟩⟩ else none
  else
   bif Nat.blt pc 95 then
    bif Nat.blt pc 85 then
     bif Nat.blt pc 81 then
      if h : pc = 79 then some ⟨(.iload 4, 81, .inl 0, 0, 0), by subst h; exact ⟨dX0_prop_79, rfl, trivial⟩⟩ else none
     else
      bif Nat.blt pc 83 then
       if h : pc = 81 then some ⟨(.istore 4, 83, .inl 0, 0, 0), by subst h; exact ⟨dX0_prop_81, rfl, (show (4 : Nat) < 8 by decide)⟩⟩ else none
      else
       if h : pc = 83 then some ⟨(.iload 5, 85, .inl 0, 0, 0), by subst h; exact ⟨dX0_prop_83, rfl, trivial⟩⟩ else none
    else
     bif Nat.blt pc 90 then
      bif Nat.blt pc 87 then
       if h : pc = 85 then some ⟨(.iload 7, 87, .inl 0, 0, 0), by subst h; exact ⟨dX0_prop_85, rfl, trivial⟩⟩ else none
      else
       if h : pc = 87 then some ⟨(.invokestatic 1, 90, .inl 0, 991, 0), by subst h; exact ⟨dX0_prop_87, rfl, Or.inr (Or.inl ⟨by decide, q140, fun h => ⟨q359, q360, q361⟩, fun h => absurd h (by decide), fun h => absurd h (by decide), fun h => absurd h (by decide)⟩)⟩⟩ else none
     else
      bif Nat.blt pc 92 then
       if h : pc = 90 then some ⟨(.istore 5, 92, .inl 0, 0, 0), by subst h; exact ⟨dX0_prop_90, rfl, (show (5 : Nat) < 8 by decide)⟩⟩ else none
      else
       if h : pc = 92 then some ⟨(.iinc 6 1, 95, .inl 1, 0, 0), by subst h; exact ⟨dX0_prop_92, rfl, ⟨(show (6 : Nat) < 8 by decide), 1, rfl, by decide⟩⟩⟩ else none
   else
    bif Nat.blt pc 102 then
     bif Nat.blt pc 98 then
      if h : pc = 95 then some ⟨(.goto (-45), 98, .inl 0, 50, 0), by subst h; exact ⟨dX0_prop_95, rfl, (show ((95 : Nat) : Int) + ((-45)) = ((50 : Nat) : Int) by decide)⟩⟩ else none
     else
      bif Nat.blt pc 99 then
       if h : pc = 98 then some ⟨(.iload_n 3, 99, .inl 0, 0, 0), by subst h; exact ⟨dX0_prop_98, rfl, trivial⟩⟩ else none
      else
       if h : pc = 99 then some ⟨(.ifCond .ne 8, 102, .inl 0, 107, 0), by subst h; exact ⟨dX0_prop_99, rfl, (show ((99 : Nat) : Int) + (8) = ((107 : Nat) : Int) by decide)⟩⟩ else none
    else
     bif Nat.blt pc 107 then
      bif Nat.blt pc 104 then
       if h : pc = 102 then some ⟨(.iload 4, 104, .inl 0, 0, 0), by subst h; exact ⟨dX0_prop_102, rfl, trivial⟩⟩ else none
      else
       if h : pc = 104 then some ⟨(.goto 5, 107, .inl 0, 109, 0), by subst h; exact ⟨dX0_prop_104, rfl, (show ((104 : Nat) : Int) + (5) = ((109 : Nat) : Int) by decide)⟩⟩ else none
     else
      bif Nat.blt pc 109 then
       if h : pc = 107 then some ⟨(.iload 5, 109, .inl 0, 0, 0), by subst h; exact ⟨dX0_prop_107, rfl, trivial⟩⟩ else none
      else
       if h : pc = 109 then some ⟨(.ireturn, 110, .inl 0, 0, 0), by subst h; exact ⟨dX0_prop_109, rfl, rfl⟩⟩ else none

noncomputable def mt173 (pc : Nat) : Option {e : mE // mOK yX0_onPropping cX0_onPropping 7 ((Option.some ClassFile.FieldType.int)) pc e} :=
 bif Nat.blt pc 26 then
  bif Nat.blt pc 13 then
   bif Nat.blt pc 6 then
    bif Nat.blt pc 4 then
     bif Nat.blt pc 1 then
      if h : pc = 0 then some ⟨(.aload_n 0, 1, .inl 0, 0, 0), by subst h; exact ⟨dX0_onPropping_0, rfl, trivial⟩⟩ else none
     else
      if h : pc = 1 then some ⟨(.getfield 62, 4, .inr (.inr none), 4, 0), by subst h; exact ⟨dX0_onPropping_1, rfl, ⟨⟨_, rfl, by decide, _, Or.inl q886, Or.inl rfl⟩, (show mKd 0 4 = 6 by rfl)⟩⟩⟩ else none
    else
     bif Nat.blt pc 5 then
      if h : pc = 4 then some ⟨(.iload_n 1, 5, .inl 0, 0, 0), by subst h; exact ⟨dX0_onPropping_4, rfl, trivial⟩⟩ else none
     else
      if h : pc = 5 then some ⟨(.iaload, 6, .inl 0, 0, 0), by subst h; exact ⟨dX0_onPropping_5, rfl, trivial⟩⟩ else none
   else
    bif Nat.blt pc 9 then
     bif Nat.blt pc 8 then
      if h : pc = 6 then some ⟨(.istore 4, 8, .inl 0, 0, 0), by subst h; exact ⟨dX0_onPropping_6, rfl, (show (4 : Nat) < 7 by decide)⟩⟩ else none
     else
      if h : pc = 8 then some ⟨(.aload_n 0, 9, .inl 0, 0, 0), by subst h; exact ⟨dX0_onPropping_8, rfl, trivial⟩⟩ else none
    else
     bif Nat.blt pc 12 then
      if h : pc = 9 then some ⟨(.getfield 62, 12, .inr (.inr none), 4, 0), by subst h; exact ⟨dX0_onPropping_9, rfl, ⟨⟨_, rfl, by decide, _, Or.inl q886, Or.inl rfl⟩, (show mKd 0 4 = 6 by rfl)⟩⟩⟩ else none
     else
      if h : pc = 12 then some ⟨(.iload_n 1, 13, .inl 0, 0, 0), by subst h; exact ⟨dX0_onPropping_12, rfl, trivial⟩⟩ else none
  else
   bif Nat.blt pc 20 then
    bif Nat.blt pc 18 then
     bif Nat.blt pc 16 then
      if h : pc = 13 then some ⟨(.sipush 999, 16, .inl 999, 0, 0), by subst h; exact ⟨dX0_onPropping_13, rfl, ⟨999, rfl, by decide⟩⟩⟩ else none
     else
      if h : pc = 16 then some ⟨(.iload 4, 18, .inl 0, 0, 0), by subst h; exact ⟨dX0_onPropping_16, rfl, trivial⟩⟩ else none
    else
     bif Nat.blt pc 19 then
      if h : pc = 18 then some ⟨(.iload_n 2, 19, .inl 0, 0, 0), by subst h; exact ⟨dX0_onPropping_18, rfl, trivial⟩⟩ else none
     else
      if h : pc = 19 then some ⟨(.iadd, 20, .inl 0, 0, 0), by subst h; exact ⟨dX0_onPropping_19, rfl, trivial⟩⟩ else none
   else
    bif Nat.blt pc 24 then
     bif Nat.blt pc 23 then
      if h : pc = 20 then some ⟨(.invokestatic 1, 23, .inl 0, 991, 0), by subst h; exact ⟨dX0_onPropping_20, rfl, Or.inr (Or.inl ⟨by decide, q140, fun h => ⟨q359, q360, q361⟩, fun h => absurd h (by decide), fun h => absurd h (by decide), fun h => absurd h (by decide)⟩)⟩⟩ else none
     else
      if h : pc = 23 then some ⟨(.iastore, 24, .inl 0, 0, 0), by subst h; exact ⟨dX0_onPropping_23, rfl, trivial⟩⟩ else none
    else
     bif Nat.blt pc 25 then
      if h : pc = 24 then some ⟨(.aload_n 0, 25, .inl 0, 0, 0), by subst h; exact ⟨dX0_onPropping_24, rfl, trivial⟩⟩ else none
     else
      if h : pc = 25 then some ⟨(.iload_n 3, 26, .inl 0, 0, 0), by subst h; exact ⟨dX0_onPropping_25, rfl, trivial⟩⟩ else none
 else
  bif Nat.blt pc 41 then
   bif Nat.blt pc 35 then
    bif Nat.blt pc 31 then
     bif Nat.blt pc 29 then
      if h : pc = 26 then some ⟨(.invokevirtual 407, 29, .inl 0, 157, 0), by subst h; exact ⟨dX0_onPropping_26, rfl, ⟨by decide, q1018, q1020, qs34, _, rfl, rfl⟩⟩⟩ else none
     else
      if h : pc = 29 then some ⟨(.istore 5, 31, .inl 0, 0, 0), by subst h; exact ⟨dX0_onPropping_29, rfl, (show (5 : Nat) < 7 by decide)⟩⟩ else none
    else
     bif Nat.blt pc 32 then
      if h : pc = 31 then some ⟨(.aload_n 0, 32, .inl 0, 0, 0), by subst h; exact ⟨dX0_onPropping_31, rfl, trivial⟩⟩ else none
     else
      if h : pc = 32 then some ⟨(.getfield 62, 35, .inr (.inr none), 4, 0), by subst h; exact ⟨dX0_onPropping_32, rfl, ⟨⟨_, rfl, by decide, _, Or.inl q886, Or.inl rfl⟩, (show mKd 0 4 = 6 by rfl)⟩⟩⟩ else none
   else
    bif Nat.blt pc 38 then
     bif Nat.blt pc 36 then
      if h : pc = 35 then some ⟨(.iload_n 1, 36, .inl 0, 0, 0), by subst h; exact ⟨dX0_onPropping_35, rfl, trivial⟩⟩ else none
     else
      if h : pc = 36 then some ⟨(.iload 4, 38, .inl 0, 0, 0), by subst h; exact ⟨dX0_onPropping_36, rfl, trivial⟩⟩ else none
    else
     bif Nat.blt pc 39 then
      if h : pc = 38 then some ⟨(.iastore, 39, .inl 0, 0, 0), by subst h; exact ⟨dX0_onPropping_38, rfl, trivial⟩⟩ else none
     else
      if h : pc = 39 then some ⟨(.iload 5, 41, .inl 0, 0, 0), by subst h; exact ⟨dX0_onPropping_39, rfl, trivial⟩⟩ else none
  else
   bif Nat.blt pc 48 then
    bif Nat.blt pc 44 then
     bif Nat.blt pc 42 then
      if h : pc = 41 then some ⟨(.ireturn, 42, .inl 0, 0, 0), by subst h; exact ⟨dX0_onPropping_41, rfl, rfl⟩⟩ else none
     else
      if h : pc = 42 then some ⟨(.astore 6, 44, .inl 0, 0, 0), by subst h; exact ⟨dX0_onPropping_42, rfl, (show (6 : Nat) < 7 by decide)⟩⟩ else none
    else
     bif Nat.blt pc 45 then
      if h : pc = 44 then some ⟨(.aload_n 0, 45, .inl 0, 0, 0), by subst h; exact ⟨dX0_onPropping_44, rfl, trivial⟩⟩ else none
     else
      if h : pc = 45 then some ⟨(.getfield 62, 48, .inr (.inr none), 4, 0), by subst h; exact ⟨dX0_onPropping_45, rfl, ⟨⟨_, rfl, by decide, _, Or.inl q886, Or.inl rfl⟩, (show mKd 0 4 = 6 by rfl)⟩⟩⟩ else none
   else
    bif Nat.blt pc 51 then
     bif Nat.blt pc 49 then
      if h : pc = 48 then some ⟨(.iload_n 1, 49, .inl 0, 0, 0), by subst h; exact ⟨dX0_onPropping_48, rfl, trivial⟩⟩ else none
     else
      if h : pc = 49 then some ⟨(.iload 4, 51, .inl 0, 0, 0), by subst h; exact ⟨dX0_onPropping_49, rfl, trivial⟩⟩ else none
    else
     bif Nat.blt pc 52 then
      if h : pc = 51 then some ⟨(.iastore, 52, .inl 0, 0, 0), by subst h; exact ⟨dX0_onPropping_51, rfl, trivial⟩⟩ else none
     else
      bif Nat.blt pc 54 then
       if h : pc = 52 then some ⟨(.aload 6, 54, .inl 0, 0, 0), by subst h; exact ⟨dX0_onPropping_52, rfl, trivial⟩⟩ else none
      else
       if h : pc = 54 then some ⟨(.athrow, 55, .inl 0, 0, 0), by subst h; exact ⟨dX0_onPropping_54, rfl, trivial⟩⟩ else none

noncomputable def mt174 (pc : Nat) : Option {e : mE // mOK yX0_sit cX0_sit 8 ((Option.some ClassFile.FieldType.int)) pc e} :=
 bif Nat.blt pc 61 then
  bif Nat.blt pc 27 then
   bif Nat.blt pc 14 then
    bif Nat.blt pc 6 then
     bif Nat.blt pc 2 then
      bif Nat.blt pc 1 then
       if h : pc = 0 then some ⟨(.iload_n 1, 1, .inl 0, 0, 0), by subst h; exact ⟨dX0_sit_0, rfl, trivial⟩⟩ else none
      else
       if h : pc = 1 then some ⟨(.i2l, 2, .inl 0, 0, 0), by subst h; exact ⟨dX0_sit_1, rfl, trivial⟩⟩ else none
     else
      bif Nat.blt pc 3 then
       if h : pc = 2 then some ⟨(.lconst 0, 3, .inr (.inl 0), 0, 0), by subst h; exact ⟨dX0_sit_2, rfl, ⟨0, rfl, by decide⟩⟩⟩ else none
      else
       if h : pc = 3 then some ⟨(.ldc2_w 448, 6, .inr (.inl 40), 0, 0), by subst h; exact ⟨dX0_sit_3, rfl, ⟨_, rfl, q1095⟩⟩⟩ else none
    else
     bif Nat.blt pc 12 then
      bif Nat.blt pc 9 then
       if h : pc = 6 then some ⟨(.invokestatic 16, 9, .inl 0, 108, 0), by subst h; exact ⟨dX0_sit_6, rfl, Or.inl ⟨by decide, q167, q168⟩⟩⟩ else none
      else
       if h : pc = 9 then some ⟨(.ifCond .eq 13, 12, .inl 0, 22, 0), by subst h; exact ⟨dX0_sit_9, rfl, (show ((9 : Nat) : Int) + (13) = ((22 : Nat) : Int) by decide)⟩⟩ else none
     else
      bif Nat.blt pc 13 then
       if h : pc = 12 then some ⟨(.iload_n 2, 13, .inl 0, 0, 0), by subst h; exact ⟨dX0_sit_12, rfl, trivial⟩⟩ else none
      else
       if h : pc = 13 then some ⟨(.i2l, 14, .inl 0, 0, 0), by subst h; exact ⟨dX0_sit_13, rfl, trivial⟩⟩ else none
   else
    bif Nat.blt pc 22 then
     bif Nat.blt pc 16 then
      bif Nat.blt pc 15 then
       if h : pc = 14 then some ⟨(.lconst 0, 15, .inr (.inl 0), 0, 0), by subst h; exact ⟨dX0_sit_14, rfl, ⟨0, rfl, by decide⟩⟩⟩ else none
      else
       if h : pc = 15 then some ⟨(.lconst 1, 16, .inr (.inl 1), 0, 0), by subst h; exact ⟨dX0_sit_15, rfl, ⟨1, rfl, by decide⟩⟩⟩ else none
     else
      bif Nat.blt pc 19 then
       if h : pc = 16 then some ⟨(.invokestatic 16, 19, .inl 0, 108, 0), by subst h; exact ⟨dX0_sit_16, rfl, Or.inl ⟨by decide, q167, q168⟩⟩⟩ else none
      else
       if h : pc = 19 then some ⟨(.ifCond .ne 6, 22, .inl 0, 25, 0), by subst h; exact ⟨dX0_sit_19, rfl, (show ((19 : Nat) : Int) + (6) = ((25 : Nat) : Int) by decide)⟩⟩ else none
    else
     bif Nat.blt pc 25 then
      bif Nat.blt pc 24 then
       if h : pc = 22 then some ⟨(.bipush (-2), 24, .inl (-2), 0, 0), by subst h; exact ⟨dX0_sit_22, rfl, ⟨(-2), rfl, by decide⟩⟩⟩ else none
      else
       if h : pc = 24 then some ⟨(.ireturn, 25, .inl 0, 0, 0), by subst h; exact ⟨dX0_sit_24, rfl, rfl⟩⟩ else none
     else
      bif Nat.blt pc 26 then
       if h : pc = 25 then some ⟨(.iconst (-1), 26, .inl (-1), 0, 0), by subst h; exact ⟨dX0_sit_25, rfl, ⟨(-1), rfl, by decide⟩⟩⟩ else none
      else
       if h : pc = 26 then some ⟨(.istore_n 3, 27, .inl 0, 0, 0), by subst h; exact ⟨dX0_sit_26, rfl, (show (3 : Nat) < 8 by decide)⟩⟩ else none
  else
   bif Nat.blt pc 42 then
    bif Nat.blt pc 33 then
     bif Nat.blt pc 30 then
      bif Nat.blt pc 28 then
       if h : pc = 27 then some ⟨(.iconst (-1), 28, .inl (-1), 0, 0), by subst h; exact ⟨dX0_sit_27, rfl, ⟨(-1), rfl, by decide⟩⟩⟩ else none
      else
       if h : pc = 28 then some ⟨(.istore 4, 30, .inl 0, 0, 0), by subst h; exact ⟨dX0_sit_28, rfl, (show (4 : Nat) < 8 by decide)⟩⟩ else none
     else
      bif Nat.blt pc 31 then
       if h : pc = 30 then some ⟨(.iconst 0, 31, .inl 0, 0, 0), by subst h; exact ⟨dX0_sit_30, rfl, ⟨0, rfl, by decide⟩⟩⟩ else none
      else
       if h : pc = 31 then some ⟨(.istore 5, 33, .inl 0, 0, 0), by subst h; exact ⟨dX0_sit_31, rfl, (show (5 : Nat) < 8 by decide)⟩⟩ else none
    else
     bif Nat.blt pc 36 then
      bif Nat.blt pc 35 then
       if h : pc = 33 then some ⟨(.iload 5, 35, .inl 0, 0, 0), by subst h; exact ⟨dX0_sit_33, rfl, trivial⟩⟩ else none
      else
       if h : pc = 35 then some ⟨(.aload_n 0, 36, .inl 0, 0, 0), by subst h; exact ⟨dX0_sit_35, rfl, trivial⟩⟩ else none
     else
      bif Nat.blt pc 39 then
       if h : pc = 36 then some ⟨(.getfield 10, 39, .inl 0, 1, 0), by subst h; exact ⟨dX0_sit_36, rfl, ⟨⟨_, rfl, by decide, _, Or.inl q881, Or.inl rfl⟩, (show mKd 0 1 ≤ 4 by decide)⟩⟩⟩ else none
      else
       if h : pc = 39 then some ⟨(.if_icmp .ge 79, 42, .inl 0, 118, 0), by subst h; exact ⟨dX0_sit_39, rfl, (show ((39 : Nat) : Int) + (79) = ((118 : Nat) : Int) by decide)⟩⟩ else none
   else
    bif Nat.blt pc 49 then
     bif Nat.blt pc 46 then
      bif Nat.blt pc 43 then
       if h : pc = 42 then some ⟨(.aload_n 0, 43, .inl 0, 0, 0), by subst h; exact ⟨dX0_sit_42, rfl, trivial⟩⟩ else none
      else
       if h : pc = 43 then some ⟨(.getfield 47, 46, .inr (.inr none), 0, 0), by subst h; exact ⟨dX0_sit_43, rfl, ⟨⟨_, rfl, by decide, _, Or.inl q880, Or.inl rfl⟩, (show mKd 0 0 = 6 by rfl)⟩⟩⟩ else none
     else
      bif Nat.blt pc 48 then
       if h : pc = 46 then some ⟨(.iload 5, 48, .inl 0, 0, 0), by subst h; exact ⟨dX0_sit_46, rfl, trivial⟩⟩ else none
      else
       if h : pc = 48 then some ⟨(.aaload, 49, .inl 0, 0, 0), by subst h; exact ⟨dX0_sit_48, rfl, trivial⟩⟩ else none
    else
     bif Nat.blt pc 55 then
      bif Nat.blt pc 52 then
       if h : pc = 49 then some ⟨(.getfield 81, 52, .inl 0, 3, 4), by subst h; exact ⟨dX0_sit_49, rfl, ⟨⟨_, rfl, by decide, _, Or.inl q206, Or.inl rfl⟩, (show mKd 4 3 ≤ 4 by decide)⟩⟩⟩ else none
      else
       if h : pc = 52 then some ⟨(.ifCond .eq 6, 55, .inl 0, 58, 0), by subst h; exact ⟨dX0_sit_52, rfl, (show ((52 : Nat) : Int) + (6) = ((58 : Nat) : Int) by decide)⟩⟩ else none
     else
      bif Nat.blt pc 58 then
       if h : pc = 55 then some ⟨(.goto 57, 58, .inl 0, 112, 0), by subst h; exact ⟨dX0_sit_55, rfl, (show ((55 : Nat) : Int) + (57) = ((112 : Nat) : Int) by decide)⟩⟩ else none
      else
       bif Nat.blt pc 59 then
        if h : pc = 58 then some ⟨(.aload_n 0, 59, .inl 0, 0, 0), by subst h; exact ⟨dX0_sit_58, rfl, trivial⟩⟩ else none
       else
        if h : pc = 59 then some ⟨(.iload 5, 61, .inl 0, 0, 0), by subst h; exact ⟨dX0_sit_59, rfl, trivial⟩⟩ else none
 else
  bif Nat.blt pc 93 then
   bif Nat.blt pc 76 then
    bif Nat.blt pc 68 then
     bif Nat.blt pc 65 then
      bif Nat.blt pc 62 then
       if h : pc = 61 then some ⟨(.iload_n 1, 62, .inl 0, 0, 0), by subst h; exact ⟨dX0_sit_61, rfl, trivial⟩⟩ else none
      else
       if h : pc = 62 then some ⟨(.invokevirtual 455, 65, .inl 0, 175, 0), by subst h; exact ⟨dX0_sit_62, rfl, ⟨by decide, q1105, q1107, qs46, _, rfl, rfl⟩⟩⟩ else none
     else
      bif Nat.blt pc 67 then
       if h : pc = 65 then some ⟨(.istore 6, 67, .inl 0, 0, 0), by subst h; exact ⟨dX0_sit_65, rfl, (show (6 : Nat) < 8 by decide)⟩⟩ else none
      else
       if h : pc = 67 then some ⟨(.iload_n 3, 68, .inl 0, 0, 0), by subst h; exact ⟨dX0_sit_67, rfl, trivial⟩⟩ else none
    else
     bif Nat.blt pc 72 then
      bif Nat.blt pc 69 then
       if h : pc = 68 then some ⟨(.iconst (-1), 69, .inl (-1), 0, 0), by subst h; exact ⟨dX0_sit_68, rfl, ⟨(-1), rfl, by decide⟩⟩⟩ else none
      else
       if h : pc = 69 then some ⟨(.if_icmp .eq 10, 72, .inl 0, 79, 0), by subst h; exact ⟨dX0_sit_69, rfl, (show ((69 : Nat) : Int) + (10) = ((79 : Nat) : Int) by decide)⟩⟩ else none
     else
      bif Nat.blt pc 74 then
       if h : pc = 72 then some ⟨(.iload 6, 74, .inl 0, 0, 0), by subst h; exact ⟨dX0_sit_72, rfl, trivial⟩⟩ else none
      else
       if h : pc = 74 then some ⟨(.iload 4, 76, .inl 0, 0, 0), by subst h; exact ⟨dX0_sit_74, rfl, trivial⟩⟩ else none
   else
    bif Nat.blt pc 84 then
     bif Nat.blt pc 80 then
      bif Nat.blt pc 79 then
       if h : pc = 76 then some ⟨(.if_icmp .ge 7, 79, .inl 0, 83, 0), by subst h; exact ⟨dX0_sit_76, rfl, (show ((76 : Nat) : Int) + (7) = ((83 : Nat) : Int) by decide)⟩⟩ else none
      else
       if h : pc = 79 then some ⟨(.iconst 1, 80, .inl 1, 0, 0), by subst h; exact ⟨dX0_sit_79, rfl, ⟨1, rfl, by decide⟩⟩⟩ else none
     else
      bif Nat.blt pc 83 then
       if h : pc = 80 then some ⟨(.goto 4, 83, .inl 0, 84, 0), by subst h; exact ⟨dX0_sit_80, rfl, (show ((80 : Nat) : Int) + (4) = ((84 : Nat) : Int) by decide)⟩⟩ else none
      else
       if h : pc = 83 then some ⟨(.iconst 0, 84, .inl 0, 0, 0), by subst h; exact ⟨dX0_sit_83, rfl, ⟨0, rfl, by decide⟩⟩⟩ else none
    else
     bif Nat.blt pc 88 then
      bif Nat.blt pc 86 then
       if h : pc = 84 then some ⟨(.istore 7, 86, .inl 0, 0, 0), by subst h; exact ⟨dX0_sit_84, rfl, (show (7 : Nat) < 8 by decide)⟩⟩ else none
      else
       if h : pc = 86 then some ⟨(.iload 7, 88, .inl 0, 0, 0), by subst h; exact ⟨dX0_sit_86, rfl, trivial⟩⟩ else none
     else
      bif Nat.blt pc 91 then
       if h : pc = 88 then some ⟨(.ifCond .eq 8, 91, .inl 0, 96, 0), by subst h; exact ⟨dX0_sit_88, rfl, (show ((88 : Nat) : Int) + (8) = ((96 : Nat) : Int) by decide)⟩⟩ else none
      else
       if h : pc = 91 then some ⟨(.iload 5, 93, .inl 0, 0, 0), by subst h; exact ⟨dX0_sit_91, rfl, trivial⟩⟩ else none
  else
   bif Nat.blt pc 110 then
    bif Nat.blt pc 100 then
     bif Nat.blt pc 97 then
      bif Nat.blt pc 96 then
       if h : pc = 93 then some ⟨(.goto 4, 96, .inl 0, 97, 0), by subst h; exact ⟨dX0_sit_93, rfl, (show ((93 : Nat) : Int) + (4) = ((97 : Nat) : Int) by decide)⟩⟩ else none
      else
       if h : pc = 96 then some ⟨(.iload_n 3, 97, .inl 0, 0, 0), by subst h; exact ⟨dX0_sit_96, rfl, trivial⟩⟩ else none
     else
      bif Nat.blt pc 98 then
       if h : pc = 97 then some ⟨(.istore_n 3, 98, .inl 0, 0, 0), by subst h; exact ⟨dX0_sit_97, rfl, (show (3 : Nat) < 8 by decide)⟩⟩ else none
      else
       if h : pc = 98 then some ⟨(.iload 7, 100, .inl 0, 0, 0), by subst h; exact ⟨dX0_sit_98, rfl, trivial⟩⟩ else none
    else
     bif Nat.blt pc 105 then
      bif Nat.blt pc 103 then
       if h : pc = 100 then some ⟨(.ifCond .eq 8, 103, .inl 0, 108, 0), by subst h; exact ⟨dX0_sit_100, rfl, (show ((100 : Nat) : Int) + (8) = ((108 : Nat) : Int) by decide)⟩⟩ else none
      else
       if h : pc = 103 then some ⟨(.iload 6, 105, .inl 0, 0, 0), by subst h; exact ⟨dX0_sit_103, rfl, trivial⟩⟩ else none
     else
      bif Nat.blt pc 108 then
       if h : pc = 105 then some ⟨(.goto 5, 108, .inl 0, 110, 0), by subst h; exact ⟨dX0_sit_105, rfl, (show ((105 : Nat) : Int) + (5) = ((110 : Nat) : Int) by decide)⟩⟩ else none
      else
       if h : pc = 108 then some ⟨(.iload 4, 110, .inl 0, 0, 0), by subst h; exact ⟨dX0_sit_108, rfl, trivial⟩⟩ else none
   else
    bif Nat.blt pc 119 then
     bif Nat.blt pc 115 then
      bif Nat.blt pc 112 then
       if h : pc = 110 then some ⟨(.istore 4, 112, .inl 0, 0, 0), by subst h; exact ⟨dX0_sit_110, rfl, (show (4 : Nat) < 8 by decide)⟩⟩ else none
      else
       if h : pc = 112 then some ⟨(.iinc 5 1, 115, .inl 1, 0, 0), by subst h; exact ⟨dX0_sit_112, rfl, ⟨(show (5 : Nat) < 8 by decide), 1, rfl, by decide⟩⟩⟩ else none
     else
      bif Nat.blt pc 118 then
       if h : pc = 115 then some ⟨(.goto (-82), 118, .inl 0, 33, 0), by subst h; exact ⟨dX0_sit_115, rfl, (show ((115 : Nat) : Int) + ((-82)) = ((33 : Nat) : Int) by decide)⟩⟩ else none
      else
       if h : pc = 118 then some ⟨(.iload_n 2, 119, .inl 0, 0, 0), by subst h; exact ⟨dX0_sit_118, rfl, trivial⟩⟩ else none
    else
     bif Nat.blt pc 123 then
      bif Nat.blt pc 122 then
       if h : pc = 119 then some ⟨(.ifCond .ne 7, 122, .inl 0, 126, 0), by subst h; exact ⟨dX0_sit_119, rfl, (show ((119 : Nat) : Int) + (7) = ((126 : Nat) : Int) by decide)⟩⟩ else none
      else
       if h : pc = 122 then some ⟨(.iload_n 3, 123, .inl 0, 0, 0), by subst h; exact ⟨dX0_sit_122, rfl, trivial⟩⟩ else none
     else
      bif Nat.blt pc 126 then
       if h : pc = 123 then some ⟨(.goto 5, 126, .inl 0, 128, 0), by subst h; exact ⟨dX0_sit_123, rfl, (show ((123 : Nat) : Int) + (5) = ((128 : Nat) : Int) by decide)⟩⟩ else none
      else
       bif Nat.blt pc 128 then
        if h : pc = 126 then some ⟨(.iload 4, 128, .inl 0, 0, 0), by subst h; exact ⟨dX0_sit_126, rfl, trivial⟩⟩ else none
       else
        if h : pc = 128 then some ⟨(.ireturn, 129, .inl 0, 0, 0), by subst h; exact ⟨dX0_sit_128, rfl, rfl⟩⟩ else none

noncomputable def mt175 (pc : Nat) : Option {e : mE // mOK yX0_onSitting cX0_onSitting 5 ((Option.some ClassFile.FieldType.int)) pc e} :=
 bif Nat.blt pc 21 then
  bif Nat.blt pc 10 then
   bif Nat.blt pc 5 then
    bif Nat.blt pc 1 then
     if h : pc = 0 then some ⟨(.aload_n 0, 1, .inl 0, 0, 0), by subst h; exact ⟨dX0_onSitting_0, rfl, trivial⟩⟩ else none
    else
     bif Nat.blt pc 4 then
      if h : pc = 1 then some ⟨(.getfield 47, 4, .inr (.inr none), 0, 0), by subst h; exact ⟨dX0_onSitting_1, rfl, ⟨⟨_, rfl, by decide, _, Or.inl q880, Or.inl rfl⟩, (show mKd 0 0 = 6 by rfl)⟩⟩⟩ else none
     else
      if h : pc = 4 then some ⟨(.iload_n 1, 5, .inl 0, 0, 0), by subst h; exact ⟨dX0_onSitting_4, rfl, trivial⟩⟩ else none
   else
    bif Nat.blt pc 6 then
     if h : pc = 5 then some ⟨(.aaload, 6, .inl 0, 0, 0), by subst h; exact ⟨dX0_onSitting_5, rfl, trivial⟩⟩ else none
    else
     bif Nat.blt pc 7 then
      if h : pc = 6 then some ⟨(.iconst 1, 7, .inl 1, 0, 0), by subst h; exact ⟨dX0_onSitting_6, rfl, ⟨1, rfl, by decide⟩⟩⟩ else none
     else
      if h : pc = 7 then some ⟨(.putfield 81, 10, .inl 0, 3, 104), by subst h; exact ⟨dX0_onSitting_7, rfl, ⟨⟨_, rfl, by decide, _, Or.inl q206, Or.inl rfl⟩, (show mKd 4 3 ≤ 4 by decide), by decide, by decide, (fun q h => Or.inl (by cases h; rfl))⟩⟩⟩ else none
  else
   bif Nat.blt pc 15 then
    bif Nat.blt pc 11 then
     if h : pc = 10 then some ⟨(.aload_n 0, 11, .inl 0, 0, 0), by subst h; exact ⟨dX0_onSitting_10, rfl, trivial⟩⟩ else none
    else
     bif Nat.blt pc 12 then
      if h : pc = 11 then some ⟨(.iload_n 2, 12, .inl 0, 0, 0), by subst h; exact ⟨dX0_onSitting_11, rfl, trivial⟩⟩ else none
     else
      if h : pc = 12 then some ⟨(.invokevirtual 407, 15, .inl 0, 157, 0), by subst h; exact ⟨dX0_onSitting_12, rfl, ⟨by decide, q1018, q1020, qs34, _, rfl, rfl⟩⟩⟩ else none
   else
    bif Nat.blt pc 17 then
     bif Nat.blt pc 16 then
      if h : pc = 15 then some ⟨(.istore_n 3, 16, .inl 0, 0, 0), by subst h; exact ⟨dX0_onSitting_15, rfl, (show (3 : Nat) < 5 by decide)⟩⟩ else none
     else
      if h : pc = 16 then some ⟨(.aload_n 0, 17, .inl 0, 0, 0), by subst h; exact ⟨dX0_onSitting_16, rfl, trivial⟩⟩ else none
    else
     bif Nat.blt pc 20 then
      if h : pc = 17 then some ⟨(.getfield 47, 20, .inr (.inr none), 0, 0), by subst h; exact ⟨dX0_onSitting_17, rfl, ⟨⟨_, rfl, by decide, _, Or.inl q880, Or.inl rfl⟩, (show mKd 0 0 = 6 by rfl)⟩⟩⟩ else none
     else
      if h : pc = 20 then some ⟨(.iload_n 1, 21, .inl 0, 0, 0), by subst h; exact ⟨dX0_onSitting_20, rfl, trivial⟩⟩ else none
 else
  bif Nat.blt pc 31 then
   bif Nat.blt pc 26 then
    bif Nat.blt pc 22 then
     if h : pc = 21 then some ⟨(.aaload, 22, .inl 0, 0, 0), by subst h; exact ⟨dX0_onSitting_21, rfl, trivial⟩⟩ else none
    else
     bif Nat.blt pc 23 then
      if h : pc = 22 then some ⟨(.iconst 0, 23, .inl 0, 0, 0), by subst h; exact ⟨dX0_onSitting_22, rfl, ⟨0, rfl, by decide⟩⟩⟩ else none
     else
      if h : pc = 23 then some ⟨(.putfield 81, 26, .inl 0, 3, 104), by subst h; exact ⟨dX0_onSitting_23, rfl, ⟨⟨_, rfl, by decide, _, Or.inl q206, Or.inl rfl⟩, (show mKd 4 3 ≤ 4 by decide), by decide, by decide, (fun q h => Or.inl (by cases h; rfl))⟩⟩⟩ else none
   else
    bif Nat.blt pc 28 then
     bif Nat.blt pc 27 then
      if h : pc = 26 then some ⟨(.iload_n 3, 27, .inl 0, 0, 0), by subst h; exact ⟨dX0_onSitting_26, rfl, trivial⟩⟩ else none
     else
      if h : pc = 27 then some ⟨(.ireturn, 28, .inl 0, 0, 0), by subst h; exact ⟨dX0_onSitting_27, rfl, rfl⟩⟩ else none
    else
     bif Nat.blt pc 30 then
      if h : pc = 28 then some ⟨(.astore 4, 30, .inl 0, 0, 0), by subst h; exact ⟨dX0_onSitting_28, rfl, (show (4 : Nat) < 5 by decide)⟩⟩ else none
     else
      if h : pc = 30 then some ⟨(.aload_n 0, 31, .inl 0, 0, 0), by subst h; exact ⟨dX0_onSitting_30, rfl, trivial⟩⟩ else none
  else
   bif Nat.blt pc 36 then
    bif Nat.blt pc 34 then
     if h : pc = 31 then some ⟨(.getfield 47, 34, .inr (.inr none), 0, 0), by subst h; exact ⟨dX0_onSitting_31, rfl, ⟨⟨_, rfl, by decide, _, Or.inl q880, Or.inl rfl⟩, (show mKd 0 0 = 6 by rfl)⟩⟩⟩ else none
    else
     bif Nat.blt pc 35 then
      if h : pc = 34 then some ⟨(.iload_n 1, 35, .inl 0, 0, 0), by subst h; exact ⟨dX0_onSitting_34, rfl, trivial⟩⟩ else none
     else
      if h : pc = 35 then some ⟨(.aaload, 36, .inl 0, 0, 0), by subst h; exact ⟨dX0_onSitting_35, rfl, trivial⟩⟩ else none
   else
    bif Nat.blt pc 40 then
     bif Nat.blt pc 37 then
      if h : pc = 36 then some ⟨(.iconst 0, 37, .inl 0, 0, 0), by subst h; exact ⟨dX0_onSitting_36, rfl, ⟨0, rfl, by decide⟩⟩⟩ else none
     else
      if h : pc = 37 then some ⟨(.putfield 81, 40, .inl 0, 3, 104), by subst h; exact ⟨dX0_onSitting_37, rfl, ⟨⟨_, rfl, by decide, _, Or.inl q206, Or.inl rfl⟩, (show mKd 4 3 ≤ 4 by decide), by decide, by decide, (fun q h => Or.inl (by cases h; rfl))⟩⟩⟩ else none
    else
     bif Nat.blt pc 42 then
      if h : pc = 40 then some ⟨(.aload 4, 42, .inl 0, 0, 0), by subst h; exact ⟨dX0_onSitting_40, rfl, trivial⟩⟩ else none
     else
      if h : pc = 42 then some ⟨(.athrow, 43, .inl 0, 0, 0), by subst h; exact ⟨dX0_onSitting_42, rfl, trivial⟩⟩ else none

noncomputable def mt176 (pc : Nat) : Option {e : mE // mOK yX0_tells cX0_tells 5 ((Option.some ClassFile.FieldType.int)) pc e} :=
 bif Nat.blt pc 124 then
  bif Nat.blt pc 39 then
   bif Nat.blt pc 18 then
    bif Nat.blt pc 9 then
     bif Nat.blt pc 4 then
      bif Nat.blt pc 1 then
       if h : pc = 0 then some ⟨(.iload_n 1, 1, .inl 0, 0, 0), by subst h; exact ⟨dX0_tells_0, rfl, trivial⟩⟩ else none
      else
       if h : pc = 1 then some ⟨(.invokestatic 485, 4, .inl 0, 177, 0), by subst h; exact ⟨dX0_tells_1, rfl, Or.inl ⟨by decide, q1113, q1114⟩⟩⟩ else none
     else
      bif Nat.blt pc 7 then
       if h : pc = 4 then some ⟨(.ifCond .eq 23, 7, .inl 0, 27, 0), by subst h; exact ⟨dX0_tells_4, rfl, (show ((4 : Nat) : Int) + (23) = ((27 : Nat) : Int) by decide)⟩⟩ else none
      else
       bif Nat.blt pc 8 then
        if h : pc = 7 then some ⟨(.aload_n 0, 8, .inl 0, 0, 0), by subst h; exact ⟨dX0_tells_7, rfl, trivial⟩⟩ else none
       else
        if h : pc = 8 then some ⟨(.iload_n 2, 9, .inl 0, 0, 0), by subst h; exact ⟨dX0_tells_8, rfl, trivial⟩⟩ else none
    else
     bif Nat.blt pc 15 then
      bif Nat.blt pc 12 then
       if h : pc = 9 then some ⟨(.invokevirtual 59, 12, .inl 0, 113, 0), by subst h; exact ⟨dX0_tells_9, rfl, ⟨by decide, q281, q283, qs1, _, rfl, rfl⟩⟩⟩ else none
      else
       if h : pc = 12 then some ⟨(.ifCond .eq 15, 15, .inl 0, 27, 0), by subst h; exact ⟨dX0_tells_12, rfl, (show ((12 : Nat) : Int) + (15) = ((27 : Nat) : Int) by decide)⟩⟩ else none
     else
      bif Nat.blt pc 16 then
       if h : pc = 15 then some ⟨(.iload_n 3, 16, .inl 0, 0, 0), by subst h; exact ⟨dX0_tells_15, rfl, trivial⟩⟩ else none
      else
       bif Nat.blt pc 17 then
        if h : pc = 16 then some ⟨(.i2l, 17, .inl 0, 0, 0), by subst h; exact ⟨dX0_tells_16, rfl, trivial⟩⟩ else none
       else
        if h : pc = 17 then some ⟨(.lconst 0, 18, .inr (.inl 0), 0, 0), by subst h; exact ⟨dX0_tells_17, rfl, ⟨0, rfl, by decide⟩⟩⟩ else none
   else
    bif Nat.blt pc 30 then
     bif Nat.blt pc 24 then
      bif Nat.blt pc 21 then
       if h : pc = 18 then some ⟨(.ldc2_w 488, 21, .inr (.inl 8), 0, 0), by subst h; exact ⟨dX0_tells_18, rfl, ⟨_, rfl, q1117⟩⟩⟩ else none
      else
       if h : pc = 21 then some ⟨(.invokestatic 16, 24, .inl 0, 108, 0), by subst h; exact ⟨dX0_tells_21, rfl, Or.inl ⟨by decide, q167, q168⟩⟩⟩ else none
     else
      bif Nat.blt pc 27 then
       if h : pc = 24 then some ⟨(.ifCond .ne 6, 27, .inl 0, 30, 0), by subst h; exact ⟨dX0_tells_24, rfl, (show ((24 : Nat) : Int) + (6) = ((30 : Nat) : Int) by decide)⟩⟩ else none
      else
       bif Nat.blt pc 29 then
        if h : pc = 27 then some ⟨(.bipush (-2), 29, .inl (-2), 0, 0), by subst h; exact ⟨dX0_tells_27, rfl, ⟨(-2), rfl, by decide⟩⟩⟩ else none
       else
        if h : pc = 29 then some ⟨(.ireturn, 30, .inl 0, 0, 0), by subst h; exact ⟨dX0_tells_29, rfl, rfl⟩⟩ else none
    else
     bif Nat.blt pc 34 then
      bif Nat.blt pc 31 then
       if h : pc = 30 then some ⟨(.aload_n 0, 31, .inl 0, 0, 0), by subst h; exact ⟨dX0_tells_30, rfl, trivial⟩⟩ else none
      else
       if h : pc = 31 then some ⟨(.getfield 326, 34, .inr (.inr none), 31, 0), by subst h; exact ⟨dX0_tells_31, rfl, ⟨⟨_, rfl, by decide, _, Or.inl q914, Or.inl rfl⟩, (show mKd 0 31 = 6 by rfl)⟩⟩⟩ else none
     else
      bif Nat.blt pc 35 then
       if h : pc = 34 then some ⟨(.iload_n 1, 35, .inl 0, 0, 0), by subst h; exact ⟨dX0_tells_34, rfl, trivial⟩⟩ else none
      else
       bif Nat.blt pc 36 then
        if h : pc = 35 then some ⟨(.aaload, 36, .inl 0, 0, 0), by subst h; exact ⟨dX0_tells_35, rfl, trivial⟩⟩ else none
       else
        if h : pc = 36 then some ⟨(.getfield 490, 39, .inr (.inr none), 0, 3), by subst h; exact ⟨dX0_tells_36, rfl, ⟨⟨_, rfl, by decide, _, Or.inr ⟨"NobodyCanLiftIt", List.mem_of_getElem? (i := 0) rfl⟩, Or.inl rfl⟩, (show mKd 3 0 = 6 by rfl)⟩⟩⟩ else none
  else
   bif Nat.blt pc 61 then
    bif Nat.blt pc 49 then
     bif Nat.blt pc 43 then
      bif Nat.blt pc 41 then
       if h : pc = 39 then some ⟨(.astore 4, 41, .inl 0, 0, 0), by subst h; exact ⟨dX0_tells_39, rfl, (show (4 : Nat) < 5 by decide)⟩⟩ else none
      else
       if h : pc = 41 then some ⟨(.aload 4, 43, .inl 0, 0, 0), by subst h; exact ⟨dX0_tells_41, rfl, trivial⟩⟩ else none
     else
      bif Nat.blt pc 46 then
       if h : pc = 43 then some ⟨(.ifnonnull 6, 46, .inl 0, 49, 0), by subst h; exact ⟨dX0_tells_43, rfl, (show ((43 : Nat) : Int) + (6) = ((49 : Nat) : Int) by decide)⟩⟩ else none
      else
       bif Nat.blt pc 48 then
        if h : pc = 46 then some ⟨(.bipush (-11), 48, .inl (-11), 0, 0), by subst h; exact ⟨dX0_tells_46, rfl, ⟨(-11), rfl, by decide⟩⟩⟩ else none
       else
        if h : pc = 48 then some ⟨(.ireturn, 49, .inl 0, 0, 0), by subst h; exact ⟨dX0_tells_48, rfl, rfl⟩⟩ else none
    else
     bif Nat.blt pc 53 then
      bif Nat.blt pc 51 then
       if h : pc = 49 then some ⟨(.aload 4, 51, .inl 0, 0, 0), by subst h; exact ⟨dX0_tells_49, rfl, trivial⟩⟩ else none
      else
       if h : pc = 51 then some ⟨(.aload 4, 53, .inl 0, 0, 0), by subst h; exact ⟨dX0_tells_51, rfl, trivial⟩⟩ else none
     else
      bif Nat.blt pc 56 then
       if h : pc = 53 then some ⟨(.invokestatic 458, 56, .inl 0, 178, 0), by subst h; exact ⟨dX0_tells_53, rfl, Or.inl ⟨by decide, q1118, q1119⟩⟩⟩ else none
      else
       bif Nat.blt pc 59 then
        if h : pc = 56 then some ⟨(.invokestatic 462, 59, .inl 0, 179, 0), by subst h; exact ⟨dX0_tells_56, rfl, Or.inl ⟨by decide, q1123, q1124⟩⟩⟩ else none
       else
        if h : pc = 59 then some ⟨(.bipush 20, 61, .inl 20, 0, 0), by subst h; exact ⟨dX0_tells_59, rfl, ⟨20, rfl, by decide⟩⟩⟩ else none
   else
    bif Nat.blt pc 116 then
     bif Nat.blt pc 66 then
      bif Nat.blt pc 64 then
       if h : pc = 61 then some ⟨(.if_icmp .le 6, 64, .inl 0, 67, 0), by subst h; exact ⟨dX0_tells_61, rfl, (show ((61 : Nat) : Int) + (6) = ((67 : Nat) : Int) by decide)⟩⟩ else none
      else
       if h : pc = 64 then some ⟨(.bipush (-2), 66, .inl (-2), 0, 0), by subst h; exact ⟨dX0_tells_64, rfl, ⟨(-2), rfl, by decide⟩⟩⟩ else none
     else
      bif Nat.blt pc 67 then
       if h : pc = 66 then some ⟨(.ireturn, 67, .inl 0, 0, 0), by subst h; exact ⟨dX0_tells_66, rfl, rfl⟩⟩ else none
      else
       bif Nat.blt pc 68 then
        if h : pc = 67 then some ⟨(.iload_n 3, 68, .inl 0, 0, 0), by subst h; exact ⟨dX0_tells_67, rfl, trivial⟩⟩ else none
       else
        if h : pc = 68 then some ⟨(.tableswitch 117 0 7 #[48, 55, 63, 71, 71, 90, 90, 110], 68, .inl 0, 0, 0), by subst h; exact ⟨dX0_tells_68, rfl, ⟨by decide, rfl, by decide⟩⟩⟩ else none
    else
     bif Nat.blt pc 119 then
      bif Nat.blt pc 117 then
       if h : pc = 116 then some ⟨(.aload_n 0, 117, .inl 0, 0, 0), by subst h; exact ⟨dX0_tells_116, rfl, trivial⟩⟩ else none
      else
       if h : pc = 117 then some ⟨(.aload 4, 119, .inl 0, 0, 0), by subst h; exact ⟨dX0_tells_117, rfl, trivial⟩⟩ else none
     else
      bif Nat.blt pc 122 then
       if h : pc = 119 then some ⟨(.invokevirtual 474, 122, .inl 0, 180, 0), by subst h; exact ⟨dX0_tells_119, rfl, ⟨by decide, q1127, q1129, qs47, _, rfl, rfl⟩⟩⟩ else none
      else
       bif Nat.blt pc 123 then
        if h : pc = 122 then some ⟨(.ireturn, 123, .inl 0, 0, 0), by subst h; exact ⟨dX0_tells_122, rfl, rfl⟩⟩ else none
       else
        if h : pc = 123 then some ⟨(.aload_n 0, 124, .inl 0, 0, 0), by subst h; exact ⟨dX0_tells_123, rfl, trivial⟩⟩ else none
 else
  bif Nat.blt pc 157 then
   bif Nat.blt pc 140 then
    bif Nat.blt pc 132 then
     bif Nat.blt pc 127 then
      bif Nat.blt pc 126 then
       if h : pc = 124 then some ⟨(.aload 4, 126, .inl 0, 0, 0), by subst h; exact ⟨dX0_tells_124, rfl, trivial⟩⟩ else none
      else
       if h : pc = 126 then some ⟨(.iload_n 2, 127, .inl 0, 0, 0), by subst h; exact ⟨dX0_tells_126, rfl, trivial⟩⟩ else none
     else
      bif Nat.blt pc 130 then
       if h : pc = 127 then some ⟨(.invokevirtual 494, 130, .inl 0, 183, 0), by subst h; exact ⟨dX0_tells_127, rfl, ⟨by decide, q1158, q1160, qs48, _, rfl, rfl⟩⟩⟩ else none
      else
       bif Nat.blt pc 131 then
        if h : pc = 130 then some ⟨(.ireturn, 131, .inl 0, 0, 0), by subst h; exact ⟨dX0_tells_130, rfl, rfl⟩⟩ else none
       else
        if h : pc = 131 then some ⟨(.aload_n 0, 132, .inl 0, 0, 0), by subst h; exact ⟨dX0_tells_131, rfl, trivial⟩⟩ else none
    else
     bif Nat.blt pc 135 then
      bif Nat.blt pc 134 then
       if h : pc = 132 then some ⟨(.aload 4, 134, .inl 0, 0, 0), by subst h; exact ⟨dX0_tells_132, rfl, trivial⟩⟩ else none
      else
       if h : pc = 134 then some ⟨(.iload_n 2, 135, .inl 0, 0, 0), by subst h; exact ⟨dX0_tells_134, rfl, trivial⟩⟩ else none
     else
      bif Nat.blt pc 138 then
       if h : pc = 135 then some ⟨(.invokevirtual 497, 138, .inl 0, 185, 0), by subst h; exact ⟨dX0_tells_135, rfl, ⟨by decide, q1176, q1178, qs50, _, rfl, rfl⟩⟩⟩ else none
      else
       bif Nat.blt pc 139 then
        if h : pc = 138 then some ⟨(.ireturn, 139, .inl 0, 0, 0), by subst h; exact ⟨dX0_tells_138, rfl, rfl⟩⟩ else none
       else
        if h : pc = 139 then some ⟨(.aload_n 0, 140, .inl 0, 0, 0), by subst h; exact ⟨dX0_tells_139, rfl, trivial⟩⟩ else none
   else
    bif Nat.blt pc 146 then
     bif Nat.blt pc 143 then
      bif Nat.blt pc 142 then
       if h : pc = 140 then some ⟨(.aload 4, 142, .inl 0, 0, 0), by subst h; exact ⟨dX0_tells_140, rfl, trivial⟩⟩ else none
      else
       if h : pc = 142 then some ⟨(.iload_n 2, 143, .inl 0, 0, 0), by subst h; exact ⟨dX0_tells_142, rfl, trivial⟩⟩ else none
     else
      bif Nat.blt pc 144 then
       if h : pc = 143 then some ⟨(.iconst 4, 144, .inl 4, 0, 0), by subst h; exact ⟨dX0_tells_143, rfl, ⟨4, rfl, by decide⟩⟩⟩ else none
      else
       bif Nat.blt pc 145 then
        if h : pc = 144 then some ⟨(.iload_n 3, 145, .inl 0, 0, 0), by subst h; exact ⟨dX0_tells_144, rfl, trivial⟩⟩ else none
       else
        if h : pc = 145 then some ⟨(.iconst 4, 146, .inl 4, 0, 0), by subst h; exact ⟨dX0_tells_145, rfl, ⟨4, rfl, by decide⟩⟩⟩ else none
    else
     bif Nat.blt pc 150 then
      bif Nat.blt pc 149 then
       if h : pc = 146 then some ⟨(.if_icmp .ne 7, 149, .inl 0, 153, 0), by subst h; exact ⟨dX0_tells_146, rfl, (show ((146 : Nat) : Int) + (7) = ((153 : Nat) : Int) by decide)⟩⟩ else none
      else
       if h : pc = 149 then some ⟨(.iconst 1, 150, .inl 1, 0, 0), by subst h; exact ⟨dX0_tells_149, rfl, ⟨1, rfl, by decide⟩⟩⟩ else none
     else
      bif Nat.blt pc 153 then
       if h : pc = 150 then some ⟨(.goto 4, 153, .inl 0, 154, 0), by subst h; exact ⟨dX0_tells_150, rfl, (show ((150 : Nat) : Int) + (4) = ((154 : Nat) : Int) by decide)⟩⟩ else none
      else
       bif Nat.blt pc 154 then
        if h : pc = 153 then some ⟨(.iconst 0, 154, .inl 0, 0, 0), by subst h; exact ⟨dX0_tells_153, rfl, ⟨0, rfl, by decide⟩⟩⟩ else none
       else
        if h : pc = 154 then some ⟨(.invokevirtual 500, 157, .inl 0, 187, 0), by subst h; exact ⟨dX0_tells_154, rfl, ⟨by decide, q1184, q1186, qs52, _, rfl, rfl⟩⟩⟩ else none
  else
   bif Nat.blt pc 173 then
    bif Nat.blt pc 163 then
     bif Nat.blt pc 159 then
      bif Nat.blt pc 158 then
       if h : pc = 157 then some ⟨(.ireturn, 158, .inl 0, 0, 0), by subst h; exact ⟨dX0_tells_157, rfl, rfl⟩⟩ else none
      else
       if h : pc = 158 then some ⟨(.aload_n 0, 159, .inl 0, 0, 0), by subst h; exact ⟨dX0_tells_158, rfl, trivial⟩⟩ else none
     else
      bif Nat.blt pc 161 then
       if h : pc = 159 then some ⟨(.aload 4, 161, .inl 0, 0, 0), by subst h; exact ⟨dX0_tells_159, rfl, trivial⟩⟩ else none
      else
       bif Nat.blt pc 162 then
        if h : pc = 161 then some ⟨(.iload_n 2, 162, .inl 0, 0, 0), by subst h; exact ⟨dX0_tells_161, rfl, trivial⟩⟩ else none
       else
        if h : pc = 162 then some ⟨(.iconst 5, 163, .inl 5, 0, 0), by subst h; exact ⟨dX0_tells_162, rfl, ⟨5, rfl, by decide⟩⟩⟩ else none
    else
     bif Nat.blt pc 166 then
      bif Nat.blt pc 164 then
       if h : pc = 163 then some ⟨(.iload_n 3, 164, .inl 0, 0, 0), by subst h; exact ⟨dX0_tells_163, rfl, trivial⟩⟩ else none
      else
       if h : pc = 164 then some ⟨(.bipush 6, 166, .inl 6, 0, 0), by subst h; exact ⟨dX0_tells_164, rfl, ⟨6, rfl, by decide⟩⟩⟩ else none
     else
      bif Nat.blt pc 169 then
       if h : pc = 166 then some ⟨(.if_icmp .ne 7, 169, .inl 0, 173, 0), by subst h; exact ⟨dX0_tells_166, rfl, (show ((166 : Nat) : Int) + (7) = ((173 : Nat) : Int) by decide)⟩⟩ else none
      else
       bif Nat.blt pc 170 then
        if h : pc = 169 then some ⟨(.iconst 1, 170, .inl 1, 0, 0), by subst h; exact ⟨dX0_tells_169, rfl, ⟨1, rfl, by decide⟩⟩⟩ else none
       else
        if h : pc = 170 then some ⟨(.goto 4, 173, .inl 0, 174, 0), by subst h; exact ⟨dX0_tells_170, rfl, (show ((170 : Nat) : Int) + (4) = ((174 : Nat) : Int) by decide)⟩⟩ else none
   else
    bif Nat.blt pc 181 then
     bif Nat.blt pc 177 then
      bif Nat.blt pc 174 then
       if h : pc = 173 then some ⟨(.iconst 0, 174, .inl 0, 0, 0), by subst h; exact ⟨dX0_tells_173, rfl, ⟨0, rfl, by decide⟩⟩⟩ else none
      else
       if h : pc = 174 then some ⟨(.invokevirtual 500, 177, .inl 0, 187, 0), by subst h; exact ⟨dX0_tells_174, rfl, ⟨by decide, q1184, q1186, qs52, _, rfl, rfl⟩⟩⟩ else none
     else
      bif Nat.blt pc 178 then
       if h : pc = 177 then some ⟨(.ireturn, 178, .inl 0, 0, 0), by subst h; exact ⟨dX0_tells_177, rfl, rfl⟩⟩ else none
      else
       bif Nat.blt pc 179 then
        if h : pc = 178 then some ⟨(.aload_n 0, 179, .inl 0, 0, 0), by subst h; exact ⟨dX0_tells_178, rfl, trivial⟩⟩ else none
       else
        if h : pc = 179 then some ⟨(.aload 4, 181, .inl 0, 0, 0), by subst h; exact ⟨dX0_tells_179, rfl, trivial⟩⟩ else none
    else
     bif Nat.blt pc 186 then
      bif Nat.blt pc 184 then
       if h : pc = 181 then some ⟨(.invokevirtual 504, 184, .inl 0, 188, 0), by subst h; exact ⟨dX0_tells_181, rfl, ⟨by decide, q1188, q1190, qs53, _, rfl, rfl⟩⟩⟩ else none
      else
       bif Nat.blt pc 185 then
        if h : pc = 184 then some ⟨(.ireturn, 185, .inl 0, 0, 0), by subst h; exact ⟨dX0_tells_184, rfl, rfl⟩⟩ else none
       else
        if h : pc = 185 then some ⟨(.aload_n 0, 186, .inl 0, 0, 0), by subst h; exact ⟨dX0_tells_185, rfl, trivial⟩⟩ else none
     else
      bif Nat.blt pc 188 then
       if h : pc = 186 then some ⟨(.aload 4, 188, .inl 0, 0, 0), by subst h; exact ⟨dX0_tells_186, rfl, trivial⟩⟩ else none
      else
       bif Nat.blt pc 191 then
        if h : pc = 188 then some ⟨(.invokevirtual 507, 191, .inl 0, 189, 0), by subst h; exact ⟨dX0_tells_188, rfl, ⟨by decide, q1192, q1194, qs54, _, rfl, rfl⟩⟩⟩ else none
       else
        if h : pc = 191 then some ⟨(.ireturn, 192, .inl 0, 0, 0), by subst h; exact ⟨dX0_tells_191, rfl, rfl⟩⟩ else none

noncomputable def mt177 (pc : Nat) : Option {e : mE // mOK yX0_isSheet cX0_isSheet 1 ((Option.some ClassFile.FieldType.boolean)) pc e} :=
 bif Nat.blt pc 3 then
  bif Nat.blt pc 1 then
   if h : pc = 0 then some ⟨(.iload_n 0, 1, .inl 0, 0, 0), by subst h; exact ⟨dX0_isSheet_0, rfl, trivial⟩⟩ else none
  else
   bif Nat.blt pc 2 then
    if h : pc = 1 then some ⟨(.i2l, 2, .inl 0, 0, 0), by subst h; exact ⟨dX0_isSheet_1, rfl, trivial⟩⟩ else none
   else
    if h : pc = 2 then some ⟨(.lconst 0, 3, .inr (.inl 0), 0, 0), by subst h; exact ⟨dX0_isSheet_2, rfl, ⟨0, rfl, by decide⟩⟩⟩ else none
 else
  bif Nat.blt pc 6 then
   if h : pc = 3 then some ⟨(.ldc2_w 535, 6, .inr (.inl 3), 0, 0), by subst h; exact ⟨dX0_isSheet_3, rfl, ⟨_, rfl, q1116⟩⟩⟩ else none
  else
   bif Nat.blt pc 9 then
    if h : pc = 6 then some ⟨(.invokestatic 16, 9, .inl 0, 108, 0), by subst h; exact ⟨dX0_isSheet_6, rfl, Or.inl ⟨by decide, q167, q168⟩⟩⟩ else none
   else
    if h : pc = 9 then some ⟨(.ireturn, 10, .inl 0, 1, 0), by subst h; exact ⟨dX0_isSheet_9, rfl, rfl⟩⟩ else none

noncomputable def mt178 (pc : Nat) : Option {e : mE // mOK yX0_sortOf cX0_sortOf 1 ((Option.some ClassFile.FieldType.int)) pc e} :=
 bif Nat.blt pc 12 then
  bif Nat.blt pc 7 then
   bif Nat.blt pc 1 then
    if h : pc = 0 then some ⟨(.aload_n 0, 1, .inl 0, 0, 0), by subst h; exact ⟨dX0_sortOf_0, rfl, trivial⟩⟩ else none
   else
    bif Nat.blt pc 4 then
     if h : pc = 1 then some ⟨(.instanceof 547, 4, .inl 0, 51, 0), by subst h; exact ⟨dX0_sortOf_1, rfl, ⟨by decide, by decide, q1121⟩⟩⟩ else none
    else
     if h : pc = 4 then some ⟨(.ifCond .eq 7, 7, .inl 0, 11, 0), by subst h; exact ⟨dX0_sortOf_4, rfl, (show ((4 : Nat) : Int) + (7) = ((11 : Nat) : Int) by decide)⟩⟩ else none
  else
   bif Nat.blt pc 8 then
    if h : pc = 7 then some ⟨(.iconst 0, 8, .inl 0, 0, 0), by subst h; exact ⟨dX0_sortOf_7, rfl, ⟨0, rfl, by decide⟩⟩⟩ else none
   else
    bif Nat.blt pc 11 then
     if h : pc = 8 then some ⟨(.goto 15, 11, .inl 0, 23, 0), by subst h; exact ⟨dX0_sortOf_8, rfl, (show ((8 : Nat) : Int) + (15) = ((23 : Nat) : Int) by decide)⟩⟩ else none
    else
     if h : pc = 11 then some ⟨(.aload_n 0, 12, .inl 0, 0, 0), by subst h; exact ⟨dX0_sortOf_11, rfl, trivial⟩⟩ else none
 else
  bif Nat.blt pc 19 then
   bif Nat.blt pc 15 then
    if h : pc = 12 then some ⟨(.instanceof 551, 15, .inl 0, 52, 0), by subst h; exact ⟨dX0_sortOf_12, rfl, ⟨by decide, by decide, q1122⟩⟩⟩ else none
   else
    bif Nat.blt pc 18 then
     if h : pc = 15 then some ⟨(.ifCond .eq 7, 18, .inl 0, 22, 0), by subst h; exact ⟨dX0_sortOf_15, rfl, (show ((15 : Nat) : Int) + (7) = ((22 : Nat) : Int) by decide)⟩⟩ else none
    else
     if h : pc = 18 then some ⟨(.iconst 1, 19, .inl 1, 0, 0), by subst h; exact ⟨dX0_sortOf_18, rfl, ⟨1, rfl, by decide⟩⟩⟩ else none
  else
   bif Nat.blt pc 22 then
    if h : pc = 19 then some ⟨(.goto 4, 22, .inl 0, 23, 0), by subst h; exact ⟨dX0_sortOf_19, rfl, (show ((19 : Nat) : Int) + (4) = ((23 : Nat) : Int) by decide)⟩⟩ else none
   else
    bif Nat.blt pc 23 then
     if h : pc = 22 then some ⟨(.iconst 2, 23, .inl 2, 0, 0), by subst h; exact ⟨dX0_sortOf_22, rfl, ⟨2, rfl, by decide⟩⟩⟩ else none
    else
     if h : pc = 23 then some ⟨(.ireturn, 24, .inl 0, 0, 0), by subst h; exact ⟨dX0_sortOf_23, rfl, rfl⟩⟩ else none

noncomputable def mt179 (pc : Nat) : Option {e : mE // mOK yX0_lengthOf cX0_lengthOf 2 ((Option.some ClassFile.FieldType.int)) pc e} :=
 bif Nat.blt pc 35 then
  bif Nat.blt pc 29 then
   bif Nat.blt pc 1 then
    if h : pc = 0 then some ⟨(.iload_n 1, 1, .inl 0, 0, 0), by subst h; exact ⟨dX0_lengthOf_0, rfl, trivial⟩⟩ else none
   else
    bif Nat.blt pc 28 then
     if h : pc = 1 then some ⟨(.lookupswitch 39 #[(0, 27), (1, 33)], 1, .inl 0, 0, 0), by subst h; exact ⟨dX0_lengthOf_1, rfl, ⟨rfl, by decide, rfl⟩⟩⟩ else none
    else
     if h : pc = 28 then some ⟨(.aload_n 0, 29, .inl 0, 0, 0), by subst h; exact ⟨dX0_lengthOf_28, rfl, trivial⟩⟩ else none
  else
   bif Nat.blt pc 33 then
    bif Nat.blt pc 32 then
     if h : pc = 29 then some ⟨(.checkcast 547, 32, .inl 0, 51, 0), by subst h; exact ⟨dX0_lengthOf_29, rfl, Or.inl ⟨by decide, by decide, q1121⟩⟩⟩ else none
    else
     if h : pc = 32 then some ⟨(.arraylength, 33, .inl 0, 0, 0), by subst h; exact ⟨dX0_lengthOf_32, rfl, trivial⟩⟩ else none
   else
    bif Nat.blt pc 34 then
     if h : pc = 33 then some ⟨(.ireturn, 34, .inl 0, 0, 0), by subst h; exact ⟨dX0_lengthOf_33, rfl, rfl⟩⟩ else none
    else
     if h : pc = 34 then some ⟨(.aload_n 0, 35, .inl 0, 0, 0), by subst h; exact ⟨dX0_lengthOf_34, rfl, trivial⟩⟩ else none
 else
  bif Nat.blt pc 40 then
   bif Nat.blt pc 38 then
    if h : pc = 35 then some ⟨(.checkcast 551, 38, .inl 0, 52, 0), by subst h; exact ⟨dX0_lengthOf_35, rfl, Or.inl ⟨by decide, by decide, q1122⟩⟩⟩ else none
   else
    bif Nat.blt pc 39 then
     if h : pc = 38 then some ⟨(.arraylength, 39, .inl 0, 0, 0), by subst h; exact ⟨dX0_lengthOf_38, rfl, trivial⟩⟩ else none
    else
     if h : pc = 39 then some ⟨(.ireturn, 40, .inl 0, 0, 0), by subst h; exact ⟨dX0_lengthOf_39, rfl, rfl⟩⟩ else none
  else
   bif Nat.blt pc 44 then
    bif Nat.blt pc 41 then
     if h : pc = 40 then some ⟨(.aload_n 0, 41, .inl 0, 0, 0), by subst h; exact ⟨dX0_lengthOf_40, rfl, trivial⟩⟩ else none
    else
     if h : pc = 41 then some ⟨(.checkcast 553, 44, .inl 0, 50, 0), by subst h; exact ⟨dX0_lengthOf_41, rfl, Or.inl ⟨by decide, by decide, q1126⟩⟩⟩ else none
   else
    bif Nat.blt pc 45 then
     if h : pc = 44 then some ⟨(.arraylength, 45, .inl 0, 0, 0), by subst h; exact ⟨dX0_lengthOf_44, rfl, trivial⟩⟩ else none
    else
     if h : pc = 45 then some ⟨(.ireturn, 46, .inl 0, 0, 0), by subst h; exact ⟨dX0_lengthOf_45, rfl, rfl⟩⟩ else none

noncomputable def mt180 (pc : Nat) : Option {e : mE // mOK yX0_unlike cX0_unlike 5 ((Option.some ClassFile.FieldType.int)) pc e} :=
 bif Nat.blt pc 35 then
  bif Nat.blt pc 15 then
   bif Nat.blt pc 6 then
    bif Nat.blt pc 4 then
     bif Nat.blt pc 1 then
      if h : pc = 0 then some ⟨(.aload_n 0, 1, .inl 0, 0, 0), by subst h; exact ⟨dX0_unlike_0, rfl, trivial⟩⟩ else none
     else
      if h : pc = 1 then some ⟨(.invokevirtual 399, 4, .inl 0, 158, 0), by subst h; exact ⟨dX0_unlike_1, rfl, ⟨by decide, q1022, q1024, qs35, _, rfl, rfl⟩⟩⟩ else none
    else
     bif Nat.blt pc 5 then
      if h : pc = 4 then some ⟨(.iconst 0, 5, .inl 0, 0, 0), by subst h; exact ⟨dX0_unlike_4, rfl, ⟨0, rfl, by decide⟩⟩⟩ else none
     else
      if h : pc = 5 then some ⟨(.istore_n 2, 6, .inl 0, 0, 0), by subst h; exact ⟨dX0_unlike_5, rfl, (show (2 : Nat) < 5 by decide)⟩⟩ else none
   else
    bif Nat.blt pc 8 then
     bif Nat.blt pc 7 then
      if h : pc = 6 then some ⟨(.iload_n 2, 7, .inl 0, 0, 0), by subst h; exact ⟨dX0_unlike_6, rfl, trivial⟩⟩ else none
     else
      if h : pc = 7 then some ⟨(.aload_n 1, 8, .inl 0, 0, 0), by subst h; exact ⟨dX0_unlike_7, rfl, trivial⟩⟩ else none
    else
     bif Nat.blt pc 9 then
      if h : pc = 8 then some ⟨(.aload_n 1, 9, .inl 0, 0, 0), by subst h; exact ⟨dX0_unlike_8, rfl, trivial⟩⟩ else none
     else
      bif Nat.blt pc 12 then
       if h : pc = 9 then some ⟨(.invokestatic 458, 12, .inl 0, 178, 0), by subst h; exact ⟨dX0_unlike_9, rfl, Or.inl ⟨by decide, q1118, q1119⟩⟩⟩ else none
      else
       if h : pc = 12 then some ⟨(.invokestatic 462, 15, .inl 0, 179, 0), by subst h; exact ⟨dX0_unlike_12, rfl, Or.inl ⟨by decide, q1123, q1124⟩⟩⟩ else none
  else
   bif Nat.blt pc 24 then
    bif Nat.blt pc 19 then
     bif Nat.blt pc 18 then
      if h : pc = 15 then some ⟨(.if_icmp .ge 37, 18, .inl 0, 52, 0), by subst h; exact ⟨dX0_unlike_15, rfl, (show ((15 : Nat) : Int) + (37) = ((52 : Nat) : Int) by decide)⟩⟩ else none
     else
      if h : pc = 18 then some ⟨(.aload_n 0, 19, .inl 0, 0, 0), by subst h; exact ⟨dX0_unlike_18, rfl, trivial⟩⟩ else none
    else
     bif Nat.blt pc 22 then
      if h : pc = 19 then some ⟨(.invokevirtual 390, 22, .inl 0, 154, 0), by subst h; exact ⟨dX0_unlike_19, rfl, ⟨by decide, q1005, q1007, qs33, _, rfl, rfl⟩⟩⟩ else none
     else
      bif Nat.blt pc 23 then
       if h : pc = 22 then some ⟨(.aload_n 1, 23, .inl 0, 0, 0), by subst h; exact ⟨dX0_unlike_22, rfl, trivial⟩⟩ else none
      else
       if h : pc = 23 then some ⟨(.aload_n 1, 24, .inl 0, 0, 0), by subst h; exact ⟨dX0_unlike_23, rfl, trivial⟩⟩ else none
   else
    bif Nat.blt pc 28 then
     bif Nat.blt pc 27 then
      if h : pc = 24 then some ⟨(.invokestatic 458, 27, .inl 0, 178, 0), by subst h; exact ⟨dX0_unlike_24, rfl, Or.inl ⟨by decide, q1118, q1119⟩⟩⟩ else none
     else
      if h : pc = 27 then some ⟨(.iload_n 2, 28, .inl 0, 0, 0), by subst h; exact ⟨dX0_unlike_27, rfl, trivial⟩⟩ else none
    else
     bif Nat.blt pc 31 then
      if h : pc = 28 then some ⟨(.invokestatic 466, 31, .inl 0, 181, 0), by subst h; exact ⟨dX0_unlike_28, rfl, Or.inl ⟨by decide, q1131, q1132⟩⟩⟩ else none
     else
      bif Nat.blt pc 32 then
       if h : pc = 31 then some ⟨(.aload_n 0, 32, .inl 0, 0, 0), by subst h; exact ⟨dX0_unlike_31, rfl, trivial⟩⟩ else none
      else
       if h : pc = 32 then some ⟨(.getfield 66, 35, .inl 0, 3, 0), by subst h; exact ⟨dX0_unlike_32, rfl, ⟨⟨_, rfl, by decide, _, Or.inl q885, Or.inl rfl⟩, (show mKd 0 3 ≤ 4 by decide)⟩⟩⟩ else none
 else
  bif Nat.blt pc 53 then
   bif Nat.blt pc 44 then
    bif Nat.blt pc 39 then
     bif Nat.blt pc 38 then
      if h : pc = 35 then some ⟨(.if_icmp .eq 11, 38, .inl 0, 46, 0), by subst h; exact ⟨dX0_unlike_35, rfl, (show ((35 : Nat) : Int) + (11) = ((46 : Nat) : Int) by decide)⟩⟩ else none
     else
      if h : pc = 38 then some ⟨(.iload_n 2, 39, .inl 0, 0, 0), by subst h; exact ⟨dX0_unlike_38, rfl, trivial⟩⟩ else none
    else
     bif Nat.blt pc 40 then
      if h : pc = 39 then some ⟨(.istore_n 3, 40, .inl 0, 0, 0), by subst h; exact ⟨dX0_unlike_39, rfl, (show (3 : Nat) < 5 by decide)⟩⟩ else none
     else
      bif Nat.blt pc 41 then
       if h : pc = 40 then some ⟨(.aload_n 0, 41, .inl 0, 0, 0), by subst h; exact ⟨dX0_unlike_40, rfl, trivial⟩⟩ else none
      else
       if h : pc = 41 then some ⟨(.invokevirtual 402, 44, .inl 0, 159, 0), by subst h; exact ⟨dX0_unlike_41, rfl, ⟨by decide, q1026, q1028, qs36, _, rfl, rfl⟩⟩⟩ else none
   else
    bif Nat.blt pc 46 then
     bif Nat.blt pc 45 then
      if h : pc = 44 then some ⟨(.iload_n 3, 45, .inl 0, 0, 0), by subst h; exact ⟨dX0_unlike_44, rfl, trivial⟩⟩ else none
     else
      if h : pc = 45 then some ⟨(.ireturn, 46, .inl 0, 0, 0), by subst h; exact ⟨dX0_unlike_45, rfl, rfl⟩⟩ else none
    else
     bif Nat.blt pc 49 then
      if h : pc = 46 then some ⟨(.iinc 2 1, 49, .inl 1, 0, 0), by subst h; exact ⟨dX0_unlike_46, rfl, ⟨(show (2 : Nat) < 5 by decide), 1, rfl, by decide⟩⟩⟩ else none
     else
      bif Nat.blt pc 52 then
       if h : pc = 49 then some ⟨(.goto (-43), 52, .inl 0, 6, 0), by subst h; exact ⟨dX0_unlike_49, rfl, (show ((49 : Nat) : Int) + ((-43)) = ((6 : Nat) : Int) by decide)⟩⟩ else none
      else
       if h : pc = 52 then some ⟨(.iconst (-1), 53, .inl (-1), 0, 0), by subst h; exact ⟨dX0_unlike_52, rfl, ⟨(-1), rfl, by decide⟩⟩⟩ else none
  else
   bif Nat.blt pc 60 then
    bif Nat.blt pc 55 then
     bif Nat.blt pc 54 then
      if h : pc = 53 then some ⟨(.istore_n 2, 54, .inl 0, 0, 0), by subst h; exact ⟨dX0_unlike_53, rfl, (show (2 : Nat) < 5 by decide)⟩⟩ else none
     else
      if h : pc = 54 then some ⟨(.aload_n 0, 55, .inl 0, 0, 0), by subst h; exact ⟨dX0_unlike_54, rfl, trivial⟩⟩ else none
    else
     bif Nat.blt pc 58 then
      if h : pc = 55 then some ⟨(.invokevirtual 402, 58, .inl 0, 159, 0), by subst h; exact ⟨dX0_unlike_55, rfl, ⟨by decide, q1026, q1028, qs36, _, rfl, rfl⟩⟩⟩ else none
     else
      bif Nat.blt pc 59 then
       if h : pc = 58 then some ⟨(.iload_n 2, 59, .inl 0, 0, 0), by subst h; exact ⟨dX0_unlike_58, rfl, trivial⟩⟩ else none
      else
       if h : pc = 59 then some ⟨(.ireturn, 60, .inl 0, 0, 0), by subst h; exact ⟨dX0_unlike_59, rfl, rfl⟩⟩ else none
   else
    bif Nat.blt pc 63 then
     bif Nat.blt pc 62 then
      if h : pc = 60 then some ⟨(.astore 4, 62, .inl 0, 0, 0), by subst h; exact ⟨dX0_unlike_60, rfl, (show (4 : Nat) < 5 by decide)⟩⟩ else none
     else
      if h : pc = 62 then some ⟨(.aload_n 0, 63, .inl 0, 0, 0), by subst h; exact ⟨dX0_unlike_62, rfl, trivial⟩⟩ else none
    else
     bif Nat.blt pc 66 then
      if h : pc = 63 then some ⟨(.invokevirtual 402, 66, .inl 0, 159, 0), by subst h; exact ⟨dX0_unlike_63, rfl, ⟨by decide, q1026, q1028, qs36, _, rfl, rfl⟩⟩⟩ else none
     else
      bif Nat.blt pc 68 then
       if h : pc = 66 then some ⟨(.aload 4, 68, .inl 0, 0, 0), by subst h; exact ⟨dX0_unlike_66, rfl, trivial⟩⟩ else none
      else
       if h : pc = 68 then some ⟨(.athrow, 69, .inl 0, 0, 0), by subst h; exact ⟨dX0_unlike_68, rfl, trivial⟩⟩ else none

noncomputable def mt181 (pc : Nat) : Option {e : mE // mOK yX0_item cX0_item 3 ((Option.some ClassFile.FieldType.int)) pc e} :=
 bif Nat.blt pc 50 then
  bif Nat.blt pc 38 then
   bif Nat.blt pc 30 then
    bif Nat.blt pc 28 then
     bif Nat.blt pc 1 then
      if h : pc = 0 then some ⟨(.iload_n 1, 1, .inl 0, 0, 0), by subst h; exact ⟨dX0_item_0, rfl, trivial⟩⟩ else none
     else
      if h : pc = 1 then some ⟨(.lookupswitch 59 #[(0, 27), (1, 43)], 1, .inl 0, 0, 0), by subst h; exact ⟨dX0_item_1, rfl, ⟨rfl, by decide, rfl⟩⟩⟩ else none
    else
     bif Nat.blt pc 29 then
      if h : pc = 28 then some ⟨(.iload_n 2, 29, .inl 0, 0, 0), by subst h; exact ⟨dX0_item_28, rfl, trivial⟩⟩ else none
     else
      if h : pc = 29 then some ⟨(.aload_n 0, 30, .inl 0, 0, 0), by subst h; exact ⟨dX0_item_29, rfl, trivial⟩⟩ else none
   else
    bif Nat.blt pc 34 then
     bif Nat.blt pc 33 then
      if h : pc = 30 then some ⟨(.checkcast 547, 33, .inl 0, 51, 0), by subst h; exact ⟨dX0_item_30, rfl, Or.inl ⟨by decide, by decide, q1121⟩⟩⟩ else none
     else
      if h : pc = 33 then some ⟨(.arraylength, 34, .inl 0, 0, 0), by subst h; exact ⟨dX0_item_33, rfl, trivial⟩⟩ else none
    else
     bif Nat.blt pc 37 then
      if h : pc = 34 then some ⟨(.invokestatic 548, 37, .inl 0, 182, 0), by subst h; exact ⟨dX0_item_34, rfl, Or.inl ⟨by decide, q1134, q1135⟩⟩⟩ else none
     else
      if h : pc = 37 then some ⟨(.aload_n 0, 38, .inl 0, 0, 0), by subst h; exact ⟨dX0_item_37, rfl, trivial⟩⟩ else none
  else
   bif Nat.blt pc 44 then
    bif Nat.blt pc 42 then
     bif Nat.blt pc 41 then
      if h : pc = 38 then some ⟨(.checkcast 547, 41, .inl 0, 51, 0), by subst h; exact ⟨dX0_item_38, rfl, Or.inl ⟨by decide, by decide, q1121⟩⟩⟩ else none
     else
      if h : pc = 41 then some ⟨(.iload_n 2, 42, .inl 0, 0, 0), by subst h; exact ⟨dX0_item_41, rfl, trivial⟩⟩ else none
    else
     bif Nat.blt pc 43 then
      if h : pc = 42 then some ⟨(.baload, 43, .inl 0, 0, 0), by subst h; exact ⟨dX0_item_42, rfl, trivial⟩⟩ else none
     else
      if h : pc = 43 then some ⟨(.ireturn, 44, .inl 0, 0, 0), by subst h; exact ⟨dX0_item_43, rfl, rfl⟩⟩ else none
   else
    bif Nat.blt pc 46 then
     bif Nat.blt pc 45 then
      if h : pc = 44 then some ⟨(.iload_n 2, 45, .inl 0, 0, 0), by subst h; exact ⟨dX0_item_44, rfl, trivial⟩⟩ else none
     else
      if h : pc = 45 then some ⟨(.aload_n 0, 46, .inl 0, 0, 0), by subst h; exact ⟨dX0_item_45, rfl, trivial⟩⟩ else none
    else
     bif Nat.blt pc 49 then
      if h : pc = 46 then some ⟨(.checkcast 551, 49, .inl 0, 52, 0), by subst h; exact ⟨dX0_item_46, rfl, Or.inl ⟨by decide, by decide, q1122⟩⟩⟩ else none
     else
      if h : pc = 49 then some ⟨(.arraylength, 50, .inl 0, 0, 0), by subst h; exact ⟨dX0_item_49, rfl, trivial⟩⟩ else none
 else
  bif Nat.blt pc 62 then
   bif Nat.blt pc 58 then
    bif Nat.blt pc 54 then
     bif Nat.blt pc 53 then
      if h : pc = 50 then some ⟨(.invokestatic 548, 53, .inl 0, 182, 0), by subst h; exact ⟨dX0_item_50, rfl, Or.inl ⟨by decide, q1134, q1135⟩⟩⟩ else none
     else
      if h : pc = 53 then some ⟨(.aload_n 0, 54, .inl 0, 0, 0), by subst h; exact ⟨dX0_item_53, rfl, trivial⟩⟩ else none
    else
     bif Nat.blt pc 57 then
      if h : pc = 54 then some ⟨(.checkcast 551, 57, .inl 0, 52, 0), by subst h; exact ⟨dX0_item_54, rfl, Or.inl ⟨by decide, by decide, q1122⟩⟩⟩ else none
     else
      if h : pc = 57 then some ⟨(.iload_n 2, 58, .inl 0, 0, 0), by subst h; exact ⟨dX0_item_57, rfl, trivial⟩⟩ else none
   else
    bif Nat.blt pc 60 then
     bif Nat.blt pc 59 then
      if h : pc = 58 then some ⟨(.saload, 59, .inl 0, 0, 0), by subst h; exact ⟨dX0_item_58, rfl, trivial⟩⟩ else none
     else
      if h : pc = 59 then some ⟨(.ireturn, 60, .inl 0, 0, 0), by subst h; exact ⟨dX0_item_59, rfl, rfl⟩⟩ else none
    else
     bif Nat.blt pc 61 then
      if h : pc = 60 then some ⟨(.iload_n 2, 61, .inl 0, 0, 0), by subst h; exact ⟨dX0_item_60, rfl, trivial⟩⟩ else none
     else
      if h : pc = 61 then some ⟨(.aload_n 0, 62, .inl 0, 0, 0), by subst h; exact ⟨dX0_item_61, rfl, trivial⟩⟩ else none
  else
   bif Nat.blt pc 70 then
    bif Nat.blt pc 66 then
     bif Nat.blt pc 65 then
      if h : pc = 62 then some ⟨(.checkcast 553, 65, .inl 0, 50, 0), by subst h; exact ⟨dX0_item_62, rfl, Or.inl ⟨by decide, by decide, q1126⟩⟩⟩ else none
     else
      if h : pc = 65 then some ⟨(.arraylength, 66, .inl 0, 0, 0), by subst h; exact ⟨dX0_item_65, rfl, trivial⟩⟩ else none
    else
     bif Nat.blt pc 69 then
      if h : pc = 66 then some ⟨(.invokestatic 548, 69, .inl 0, 182, 0), by subst h; exact ⟨dX0_item_66, rfl, Or.inl ⟨by decide, q1134, q1135⟩⟩⟩ else none
     else
      if h : pc = 69 then some ⟨(.aload_n 0, 70, .inl 0, 0, 0), by subst h; exact ⟨dX0_item_69, rfl, trivial⟩⟩ else none
   else
    bif Nat.blt pc 74 then
     bif Nat.blt pc 73 then
      if h : pc = 70 then some ⟨(.checkcast 553, 73, .inl 0, 50, 0), by subst h; exact ⟨dX0_item_70, rfl, Or.inl ⟨by decide, by decide, q1126⟩⟩⟩ else none
     else
      if h : pc = 73 then some ⟨(.iload_n 2, 74, .inl 0, 0, 0), by subst h; exact ⟨dX0_item_73, rfl, trivial⟩⟩ else none
    else
     bif Nat.blt pc 75 then
      if h : pc = 74 then some ⟨(.iaload, 75, .inl 0, 0, 0), by subst h; exact ⟨dX0_item_74, rfl, trivial⟩⟩ else none
     else
      if h : pc = 75 then some ⟨(.ireturn, 76, .inl 0, 0, 0), by subst h; exact ⟨dX0_item_75, rfl, rfl⟩⟩ else none

noncomputable def mt182 (pc : Nat) : Option {e : mE // mOK yX0_asksPlace cX0_asksPlace 2 ((Option.none : Option ClassFile.FieldType)) pc e} :=
 bif Nat.blt pc 6 then
  bif Nat.blt pc 4 then
   bif Nat.blt pc 1 then
    if h : pc = 0 then some ⟨(.iload_n 0, 1, .inl 0, 0, 0), by subst h; exact ⟨dX0_asksPlace_0, rfl, trivial⟩⟩ else none
   else
    if h : pc = 1 then some ⟨(.ifCond .lt 8, 4, .inl 0, 9, 0), by subst h; exact ⟨dX0_asksPlace_1, rfl, (show ((1 : Nat) : Int) + (8) = ((9 : Nat) : Int) by decide)⟩⟩ else none
  else
   bif Nat.blt pc 5 then
    if h : pc = 4 then some ⟨(.iload_n 0, 5, .inl 0, 0, 0), by subst h; exact ⟨dX0_asksPlace_4, rfl, trivial⟩⟩ else none
   else
    if h : pc = 5 then some ⟨(.iload_n 1, 6, .inl 0, 0, 0), by subst h; exact ⟨dX0_asksPlace_5, rfl, trivial⟩⟩ else none
 else
  bif Nat.blt pc 12 then
   bif Nat.blt pc 9 then
    if h : pc = 6 then some ⟨(.if_icmp .lt 11, 9, .inl 0, 17, 0), by subst h; exact ⟨dX0_asksPlace_6, rfl, (show ((6 : Nat) : Int) + (11) = ((17 : Nat) : Int) by decide)⟩⟩ else none
   else
    if h : pc = 9 then some ⟨(.new 559, 12, .inl 0, 901, 0), by subst h; exact ⟨dX0_asksPlace_9, rfl, Or.inl ⟨rfl, q1137, q156, rfl, dX0_asksPlace_12, dX0_asksPlace_13, dX0_asksPlace_16⟩⟩⟩ else none
  else
   bif Nat.blt pc 16 then
    if h : pc = 12 then some ⟨(.dup, 13, .inl 0, 0, 0), by subst h; exact ⟨dX0_asksPlace_12, rfl, trivial⟩⟩ else none
   else
    bif Nat.blt pc 17 then
     if h : pc = 16 then some ⟨(.athrow, 17, .inl 0, 0, 0), by subst h; exact ⟨dX0_asksPlace_16, rfl, trivial⟩⟩ else none
    else
     if h : pc = 17 then some ⟨(.return_, 18, .inl 0, 0, 0), by subst h; exact ⟨dX0_asksPlace_17, rfl, rfl⟩⟩ else none

noncomputable def mt183 (pc : Nat) : Option {e : mE // mOK yX0_kindsOf cX0_kindsOf 5 ((Option.some ClassFile.FieldType.int)) pc e} :=
 bif Nat.blt pc 18 then
  bif Nat.blt pc 9 then
   bif Nat.blt pc 3 then
    bif Nat.blt pc 1 then
     if h : pc = 0 then some ⟨(.iconst 0, 1, .inl 0, 0, 0), by subst h; exact ⟨dX0_kindsOf_0, rfl, ⟨0, rfl, by decide⟩⟩⟩ else none
    else
     bif Nat.blt pc 2 then
      if h : pc = 1 then some ⟨(.istore_n 3, 2, .inl 0, 0, 0), by subst h; exact ⟨dX0_kindsOf_1, rfl, (show (3 : Nat) < 5 by decide)⟩⟩ else none
     else
      if h : pc = 2 then some ⟨(.iconst 0, 3, .inl 0, 0, 0), by subst h; exact ⟨dX0_kindsOf_2, rfl, ⟨0, rfl, by decide⟩⟩⟩ else none
   else
    bif Nat.blt pc 5 then
     if h : pc = 3 then some ⟨(.istore 4, 5, .inl 0, 0, 0), by subst h; exact ⟨dX0_kindsOf_3, rfl, (show (4 : Nat) < 5 by decide)⟩⟩ else none
    else
     bif Nat.blt pc 7 then
      if h : pc = 5 then some ⟨(.iload 4, 7, .inl 0, 0, 0), by subst h; exact ⟨dX0_kindsOf_5, rfl, trivial⟩⟩ else none
     else
      if h : pc = 7 then some ⟨(.bipush 6, 9, .inl 6, 0, 0), by subst h; exact ⟨dX0_kindsOf_7, rfl, ⟨6, rfl, by decide⟩⟩⟩ else none
  else
   bif Nat.blt pc 14 then
    bif Nat.blt pc 12 then
     if h : pc = 9 then some ⟨(.if_icmp .ge 31, 12, .inl 0, 40, 0), by subst h; exact ⟨dX0_kindsOf_9, rfl, (show ((9 : Nat) : Int) + (31) = ((40 : Nat) : Int) by decide)⟩⟩ else none
    else
     bif Nat.blt pc 13 then
      if h : pc = 12 then some ⟨(.iload_n 3, 13, .inl 0, 0, 0), by subst h; exact ⟨dX0_kindsOf_12, rfl, trivial⟩⟩ else none
     else
      if h : pc = 13 then some ⟨(.aload_n 0, 14, .inl 0, 0, 0), by subst h; exact ⟨dX0_kindsOf_13, rfl, trivial⟩⟩ else none
   else
    bif Nat.blt pc 15 then
     if h : pc = 14 then some ⟨(.aload_n 1, 15, .inl 0, 0, 0), by subst h; exact ⟨dX0_kindsOf_14, rfl, trivial⟩⟩ else none
    else
     bif Nat.blt pc 16 then
      if h : pc = 15 then some ⟨(.iload_n 2, 16, .inl 0, 0, 0), by subst h; exact ⟨dX0_kindsOf_15, rfl, trivial⟩⟩ else none
     else
      if h : pc = 16 then some ⟨(.iload 4, 18, .inl 0, 0, 0), by subst h; exact ⟨dX0_kindsOf_16, rfl, trivial⟩⟩ else none
 else
  bif Nat.blt pc 31 then
   bif Nat.blt pc 25 then
    bif Nat.blt pc 21 then
     if h : pc = 18 then some ⟨(.invokevirtual 477, 21, .inl 0, 184, 0), by subst h; exact ⟨dX0_kindsOf_18, rfl, ⟨by decide, q1162, q1164, qs49, _, rfl, rfl⟩⟩⟩ else none
    else
     bif Nat.blt pc 24 then
      if h : pc = 21 then some ⟨(.ifCond .eq 10, 24, .inl 0, 31, 0), by subst h; exact ⟨dX0_kindsOf_21, rfl, (show ((21 : Nat) : Int) + (10) = ((31 : Nat) : Int) by decide)⟩⟩ else none
     else
      if h : pc = 24 then some ⟨(.iconst 1, 25, .inl 1, 0, 0), by subst h; exact ⟨dX0_kindsOf_24, rfl, ⟨1, rfl, by decide⟩⟩⟩ else none
   else
    bif Nat.blt pc 27 then
     if h : pc = 25 then some ⟨(.iload 4, 27, .inl 0, 0, 0), by subst h; exact ⟨dX0_kindsOf_25, rfl, trivial⟩⟩ else none
    else
     bif Nat.blt pc 28 then
      if h : pc = 27 then some ⟨(.ishl, 28, .inl 0, 0, 0), by subst h; exact ⟨dX0_kindsOf_27, rfl, trivial⟩⟩ else none
     else
      if h : pc = 28 then some ⟨(.goto 4, 31, .inl 0, 32, 0), by subst h; exact ⟨dX0_kindsOf_28, rfl, (show ((28 : Nat) : Int) + (4) = ((32 : Nat) : Int) by decide)⟩⟩ else none
  else
   bif Nat.blt pc 34 then
    bif Nat.blt pc 32 then
     if h : pc = 31 then some ⟨(.iconst 0, 32, .inl 0, 0, 0), by subst h; exact ⟨dX0_kindsOf_31, rfl, ⟨0, rfl, by decide⟩⟩⟩ else none
    else
     bif Nat.blt pc 33 then
      if h : pc = 32 then some ⟨(.ior, 33, .inl 0, 0, 0), by subst h; exact ⟨dX0_kindsOf_32, rfl, trivial⟩⟩ else none
     else
      if h : pc = 33 then some ⟨(.istore_n 3, 34, .inl 0, 0, 0), by subst h; exact ⟨dX0_kindsOf_33, rfl, (show (3 : Nat) < 5 by decide)⟩⟩ else none
   else
    bif Nat.blt pc 40 then
     bif Nat.blt pc 37 then
      if h : pc = 34 then some ⟨(.iinc 4 1, 37, .inl 1, 0, 0), by subst h; exact ⟨dX0_kindsOf_34, rfl, ⟨(show (4 : Nat) < 5 by decide), 1, rfl, by decide⟩⟩⟩ else none
     else
      if h : pc = 37 then some ⟨(.goto (-32), 40, .inl 0, 5, 0), by subst h; exact ⟨dX0_kindsOf_37, rfl, (show ((37 : Nat) : Int) + ((-32)) = ((5 : Nat) : Int) by decide)⟩⟩ else none
    else
     bif Nat.blt pc 41 then
      if h : pc = 40 then some ⟨(.iload_n 3, 41, .inl 0, 0, 0), by subst h; exact ⟨dX0_kindsOf_40, rfl, trivial⟩⟩ else none
     else
      if h : pc = 41 then some ⟨(.ireturn, 42, .inl 0, 0, 0), by subst h; exact ⟨dX0_kindsOf_41, rfl, rfl⟩⟩ else none

noncomputable def mt184 (pc : Nat) : Option {e : mE // mOK yX0_isSoAs cX0_isSoAs 7 ((Option.some ClassFile.FieldType.boolean)) pc e} :=
 bif Nat.blt pc 38 then
  bif Nat.blt pc 16 then
   bif Nat.blt pc 8 then
    bif Nat.blt pc 4 then
     bif Nat.blt pc 1 then
      if h : pc = 0 then some ⟨(.aload_n 0, 1, .inl 0, 0, 0), by subst h; exact ⟨dX0_isSoAs_0, rfl, trivial⟩⟩ else none
     else
      if h : pc = 1 then some ⟨(.getfield 47, 4, .inr (.inr none), 0, 0), by subst h; exact ⟨dX0_isSoAs_1, rfl, ⟨⟨_, rfl, by decide, _, Or.inl q880, Or.inl rfl⟩, (show mKd 0 0 = 6 by rfl)⟩⟩⟩ else none
    else
     bif Nat.blt pc 5 then
      if h : pc = 4 then some ⟨(.iload_n 2, 5, .inl 0, 0, 0), by subst h; exact ⟨dX0_isSoAs_4, rfl, trivial⟩⟩ else none
     else
      bif Nat.blt pc 6 then
       if h : pc = 5 then some ⟨(.aaload, 6, .inl 0, 0, 0), by subst h; exact ⟨dX0_isSoAs_5, rfl, trivial⟩⟩ else none
      else
       if h : pc = 6 then some ⟨(.astore 4, 8, .inl 0, 0, 0), by subst h; exact ⟨dX0_isSoAs_6, rfl, (show (4 : Nat) < 7 by decide)⟩⟩ else none
   else
    bif Nat.blt pc 12 then
     bif Nat.blt pc 9 then
      if h : pc = 8 then some ⟨(.aload_n 0, 9, .inl 0, 0, 0), by subst h; exact ⟨dX0_isSoAs_8, rfl, trivial⟩⟩ else none
     else
      if h : pc = 9 then some ⟨(.getfield 47, 12, .inr (.inr none), 0, 0), by subst h; exact ⟨dX0_isSoAs_9, rfl, ⟨⟨_, rfl, by decide, _, Or.inl q880, Or.inl rfl⟩, (show mKd 0 0 = 6 by rfl)⟩⟩⟩ else none
    else
     bif Nat.blt pc 13 then
      if h : pc = 12 then some ⟨(.iload_n 2, 13, .inl 0, 0, 0), by subst h; exact ⟨dX0_isSoAs_12, rfl, trivial⟩⟩ else none
     else
      bif Nat.blt pc 14 then
       if h : pc = 13 then some ⟨(.iload_n 3, 14, .inl 0, 0, 0), by subst h; exact ⟨dX0_isSoAs_13, rfl, trivial⟩⟩ else none
      else
       if h : pc = 14 then some ⟨(.aload 4, 16, .inl 0, 0, 0), by subst h; exact ⟨dX0_isSoAs_14, rfl, trivial⟩⟩ else none
  else
   bif Nat.blt pc 29 then
    bif Nat.blt pc 21 then
     bif Nat.blt pc 19 then
      if h : pc = 16 then some ⟨(.getfield 72, 19, .inl 0, 0, 4), by subst h; exact ⟨dX0_isSoAs_16, rfl, ⟨⟨_, rfl, by decide, _, Or.inl q192, Or.inl rfl⟩, (show mKd 4 0 ≤ 4 by decide)⟩⟩⟩ else none
     else
      if h : pc = 19 then some ⟨(.aload 4, 21, .inl 0, 0, 0), by subst h; exact ⟨dX0_isSoAs_19, rfl, trivial⟩⟩ else none
    else
     bif Nat.blt pc 24 then
      if h : pc = 21 then some ⟨(.getfield 75, 24, .inl 0, 1, 4), by subst h; exact ⟨dX0_isSoAs_21, rfl, ⟨⟨_, rfl, by decide, _, Or.inl q197, Or.inl rfl⟩, (show mKd 4 1 ≤ 4 by decide)⟩⟩⟩ else none
     else
      bif Nat.blt pc 27 then
       if h : pc = 24 then some ⟨(.invokestatic 51, 27, .inl 0, 109, 0), by subst h; exact ⟨dX0_isSoAs_24, rfl, Or.inl ⟨by decide, q172, q173⟩⟩⟩ else none
      else
       if h : pc = 27 then some ⟨(.aload 4, 29, .inl 0, 0, 0), by subst h; exact ⟨dX0_isSoAs_27, rfl, trivial⟩⟩ else none
   else
    bif Nat.blt pc 33 then
     bif Nat.blt pc 32 then
      if h : pc = 29 then some ⟨(.invokevirtual 470, 32, .inl 0, 4, 100), by subst h; exact ⟨dX0_isSoAs_29, rfl, q1166⟩⟩ else none
     else
      if h : pc = 32 then some ⟨(.aastore, 33, .inl 0, 0, 0), by subst h; exact ⟨dX0_isSoAs_32, rfl, trivial⟩⟩ else none
    else
     bif Nat.blt pc 34 then
      if h : pc = 33 then some ⟨(.aload_n 0, 34, .inl 0, 0, 0), by subst h; exact ⟨dX0_isSoAs_33, rfl, trivial⟩⟩ else none
     else
      bif Nat.blt pc 35 then
       if h : pc = 34 then some ⟨(.aload_n 1, 35, .inl 0, 0, 0), by subst h; exact ⟨dX0_isSoAs_34, rfl, trivial⟩⟩ else none
      else
       if h : pc = 35 then some ⟨(.invokevirtual 474, 38, .inl 0, 180, 0), by subst h; exact ⟨dX0_isSoAs_35, rfl, ⟨by decide, q1127, q1129, qs47, _, rfl, rfl⟩⟩⟩ else none
 else
  bif Nat.blt pc 56 then
   bif Nat.blt pc 47 then
    bif Nat.blt pc 42 then
     bif Nat.blt pc 39 then
      if h : pc = 38 then some ⟨(.iconst (-1), 39, .inl (-1), 0, 0), by subst h; exact ⟨dX0_isSoAs_38, rfl, ⟨(-1), rfl, by decide⟩⟩⟩ else none
     else
      if h : pc = 39 then some ⟨(.if_icmp .ne 7, 42, .inl 0, 46, 0), by subst h; exact ⟨dX0_isSoAs_39, rfl, (show ((39 : Nat) : Int) + (7) = ((46 : Nat) : Int) by decide)⟩⟩ else none
    else
     bif Nat.blt pc 43 then
      if h : pc = 42 then some ⟨(.iconst 1, 43, .inl 1, 0, 0), by subst h; exact ⟨dX0_isSoAs_42, rfl, ⟨1, rfl, by decide⟩⟩⟩ else none
     else
      bif Nat.blt pc 46 then
       if h : pc = 43 then some ⟨(.goto 4, 46, .inl 0, 47, 0), by subst h; exact ⟨dX0_isSoAs_43, rfl, (show ((43 : Nat) : Int) + (4) = ((47 : Nat) : Int) by decide)⟩⟩ else none
      else
       if h : pc = 46 then some ⟨(.iconst 0, 47, .inl 0, 0, 0), by subst h; exact ⟨dX0_isSoAs_46, rfl, ⟨0, rfl, by decide⟩⟩⟩ else none
   else
    bif Nat.blt pc 50 then
     bif Nat.blt pc 49 then
      if h : pc = 47 then some ⟨(.istore 5, 49, .inl 0, 0, 0), by subst h; exact ⟨dX0_isSoAs_47, rfl, (show (5 : Nat) < 7 by decide)⟩⟩ else none
     else
      if h : pc = 49 then some ⟨(.aload_n 0, 50, .inl 0, 0, 0), by subst h; exact ⟨dX0_isSoAs_49, rfl, trivial⟩⟩ else none
    else
     bif Nat.blt pc 53 then
      if h : pc = 50 then some ⟨(.getfield 47, 53, .inr (.inr none), 0, 0), by subst h; exact ⟨dX0_isSoAs_50, rfl, ⟨⟨_, rfl, by decide, _, Or.inl q880, Or.inl rfl⟩, (show mKd 0 0 = 6 by rfl)⟩⟩⟩ else none
     else
      bif Nat.blt pc 54 then
       if h : pc = 53 then some ⟨(.iload_n 2, 54, .inl 0, 0, 0), by subst h; exact ⟨dX0_isSoAs_53, rfl, trivial⟩⟩ else none
      else
       if h : pc = 54 then some ⟨(.aload 4, 56, .inl 0, 0, 0), by subst h; exact ⟨dX0_isSoAs_54, rfl, trivial⟩⟩ else none
  else
   bif Nat.blt pc 63 then
    bif Nat.blt pc 59 then
     bif Nat.blt pc 57 then
      if h : pc = 56 then some ⟨(.aastore, 57, .inl 0, 0, 0), by subst h; exact ⟨dX0_isSoAs_56, rfl, trivial⟩⟩ else none
     else
      if h : pc = 57 then some ⟨(.iload 5, 59, .inl 0, 0, 0), by subst h; exact ⟨dX0_isSoAs_57, rfl, trivial⟩⟩ else none
    else
     bif Nat.blt pc 60 then
      if h : pc = 59 then some ⟨(.ireturn, 60, .inl 0, 1, 0), by subst h; exact ⟨dX0_isSoAs_59, rfl, rfl⟩⟩ else none
     else
      bif Nat.blt pc 62 then
       if h : pc = 60 then some ⟨(.astore 6, 62, .inl 0, 0, 0), by subst h; exact ⟨dX0_isSoAs_60, rfl, (show (6 : Nat) < 7 by decide)⟩⟩ else none
      else
       if h : pc = 62 then some ⟨(.aload_n 0, 63, .inl 0, 0, 0), by subst h; exact ⟨dX0_isSoAs_62, rfl, trivial⟩⟩ else none
   else
    bif Nat.blt pc 69 then
     bif Nat.blt pc 66 then
      if h : pc = 63 then some ⟨(.getfield 47, 66, .inr (.inr none), 0, 0), by subst h; exact ⟨dX0_isSoAs_63, rfl, ⟨⟨_, rfl, by decide, _, Or.inl q880, Or.inl rfl⟩, (show mKd 0 0 = 6 by rfl)⟩⟩⟩ else none
     else
      bif Nat.blt pc 67 then
       if h : pc = 66 then some ⟨(.iload_n 2, 67, .inl 0, 0, 0), by subst h; exact ⟨dX0_isSoAs_66, rfl, trivial⟩⟩ else none
      else
       if h : pc = 67 then some ⟨(.aload 4, 69, .inl 0, 0, 0), by subst h; exact ⟨dX0_isSoAs_67, rfl, trivial⟩⟩ else none
    else
     bif Nat.blt pc 70 then
      if h : pc = 69 then some ⟨(.aastore, 70, .inl 0, 0, 0), by subst h; exact ⟨dX0_isSoAs_69, rfl, trivial⟩⟩ else none
     else
      bif Nat.blt pc 72 then
       if h : pc = 70 then some ⟨(.aload 6, 72, .inl 0, 0, 0), by subst h; exact ⟨dX0_isSoAs_70, rfl, trivial⟩⟩ else none
      else
       if h : pc = 72 then some ⟨(.athrow, 73, .inl 0, 0, 0), by subst h; exact ⟨dX0_isSoAs_72, rfl, trivial⟩⟩ else none

noncomputable def mt185 (pc : Nat) : Option {e : mE // mOK yX0_numbersOf cX0_numbersOf 5 ((Option.some ClassFile.FieldType.int)) pc e} :=
 bif Nat.blt pc 19 then
  bif Nat.blt pc 9 then
   bif Nat.blt pc 3 then
    bif Nat.blt pc 1 then
     if h : pc = 0 then some ⟨(.iconst 0, 1, .inl 0, 0, 0), by subst h; exact ⟨dX0_numbersOf_0, rfl, ⟨0, rfl, by decide⟩⟩⟩ else none
    else
     bif Nat.blt pc 2 then
      if h : pc = 1 then some ⟨(.istore_n 3, 2, .inl 0, 0, 0), by subst h; exact ⟨dX0_numbersOf_1, rfl, (show (3 : Nat) < 5 by decide)⟩⟩ else none
     else
      if h : pc = 2 then some ⟨(.iconst 0, 3, .inl 0, 0, 0), by subst h; exact ⟨dX0_numbersOf_2, rfl, ⟨0, rfl, by decide⟩⟩⟩ else none
   else
    bif Nat.blt pc 5 then
     if h : pc = 3 then some ⟨(.istore 4, 5, .inl 0, 0, 0), by subst h; exact ⟨dX0_numbersOf_3, rfl, (show (4 : Nat) < 5 by decide)⟩⟩ else none
    else
     bif Nat.blt pc 7 then
      if h : pc = 5 then some ⟨(.iload 4, 7, .inl 0, 0, 0), by subst h; exact ⟨dX0_numbersOf_5, rfl, trivial⟩⟩ else none
     else
      if h : pc = 7 then some ⟨(.bipush 9, 9, .inl 9, 0, 0), by subst h; exact ⟨dX0_numbersOf_7, rfl, ⟨9, rfl, by decide⟩⟩⟩ else none
  else
   bif Nat.blt pc 14 then
    bif Nat.blt pc 12 then
     if h : pc = 9 then some ⟨(.if_icmp .gt 32, 12, .inl 0, 41, 0), by subst h; exact ⟨dX0_numbersOf_9, rfl, (show ((9 : Nat) : Int) + (32) = ((41 : Nat) : Int) by decide)⟩⟩ else none
    else
     bif Nat.blt pc 13 then
      if h : pc = 12 then some ⟨(.iload_n 3, 13, .inl 0, 0, 0), by subst h; exact ⟨dX0_numbersOf_12, rfl, trivial⟩⟩ else none
     else
      if h : pc = 13 then some ⟨(.aload_n 0, 14, .inl 0, 0, 0), by subst h; exact ⟨dX0_numbersOf_13, rfl, trivial⟩⟩ else none
   else
    bif Nat.blt pc 16 then
     bif Nat.blt pc 15 then
      if h : pc = 14 then some ⟨(.aload_n 1, 15, .inl 0, 0, 0), by subst h; exact ⟨dX0_numbersOf_14, rfl, trivial⟩⟩ else none
     else
      if h : pc = 15 then some ⟨(.iload_n 2, 16, .inl 0, 0, 0), by subst h; exact ⟨dX0_numbersOf_15, rfl, trivial⟩⟩ else none
    else
     bif Nat.blt pc 17 then
      if h : pc = 16 then some ⟨(.iconst 3, 17, .inl 3, 0, 0), by subst h; exact ⟨dX0_numbersOf_16, rfl, ⟨3, rfl, by decide⟩⟩⟩ else none
     else
      if h : pc = 17 then some ⟨(.iload 4, 19, .inl 0, 0, 0), by subst h; exact ⟨dX0_numbersOf_17, rfl, trivial⟩⟩ else none
 else
  bif Nat.blt pc 32 then
   bif Nat.blt pc 26 then
    bif Nat.blt pc 22 then
     if h : pc = 19 then some ⟨(.invokevirtual 481, 22, .inl 0, 186, 0), by subst h; exact ⟨dX0_numbersOf_19, rfl, ⟨by decide, q1180, q1182, qs51, _, rfl, rfl⟩⟩⟩ else none
    else
     bif Nat.blt pc 25 then
      if h : pc = 22 then some ⟨(.ifCond .eq 10, 25, .inl 0, 32, 0), by subst h; exact ⟨dX0_numbersOf_22, rfl, (show ((22 : Nat) : Int) + (10) = ((32 : Nat) : Int) by decide)⟩⟩ else none
     else
      if h : pc = 25 then some ⟨(.iconst 1, 26, .inl 1, 0, 0), by subst h; exact ⟨dX0_numbersOf_25, rfl, ⟨1, rfl, by decide⟩⟩⟩ else none
   else
    bif Nat.blt pc 28 then
     if h : pc = 26 then some ⟨(.iload 4, 28, .inl 0, 0, 0), by subst h; exact ⟨dX0_numbersOf_26, rfl, trivial⟩⟩ else none
    else
     bif Nat.blt pc 29 then
      if h : pc = 28 then some ⟨(.ishl, 29, .inl 0, 0, 0), by subst h; exact ⟨dX0_numbersOf_28, rfl, trivial⟩⟩ else none
     else
      if h : pc = 29 then some ⟨(.goto 4, 32, .inl 0, 33, 0), by subst h; exact ⟨dX0_numbersOf_29, rfl, (show ((29 : Nat) : Int) + (4) = ((33 : Nat) : Int) by decide)⟩⟩ else none
  else
   bif Nat.blt pc 35 then
    bif Nat.blt pc 33 then
     if h : pc = 32 then some ⟨(.iconst 0, 33, .inl 0, 0, 0), by subst h; exact ⟨dX0_numbersOf_32, rfl, ⟨0, rfl, by decide⟩⟩⟩ else none
    else
     bif Nat.blt pc 34 then
      if h : pc = 33 then some ⟨(.ior, 34, .inl 0, 0, 0), by subst h; exact ⟨dX0_numbersOf_33, rfl, trivial⟩⟩ else none
     else
      if h : pc = 34 then some ⟨(.istore_n 3, 35, .inl 0, 0, 0), by subst h; exact ⟨dX0_numbersOf_34, rfl, (show (3 : Nat) < 5 by decide)⟩⟩ else none
   else
    bif Nat.blt pc 41 then
     bif Nat.blt pc 38 then
      if h : pc = 35 then some ⟨(.iinc 4 1, 38, .inl 1, 0, 0), by subst h; exact ⟨dX0_numbersOf_35, rfl, ⟨(show (4 : Nat) < 5 by decide), 1, rfl, by decide⟩⟩⟩ else none
     else
      if h : pc = 38 then some ⟨(.goto (-33), 41, .inl 0, 5, 0), by subst h; exact ⟨dX0_numbersOf_38, rfl, (show ((38 : Nat) : Int) + ((-33)) = ((5 : Nat) : Int) by decide)⟩⟩ else none
    else
     bif Nat.blt pc 42 then
      if h : pc = 41 then some ⟨(.iload_n 3, 42, .inl 0, 0, 0), by subst h; exact ⟨dX0_numbersOf_41, rfl, trivial⟩⟩ else none
     else
      if h : pc = 42 then some ⟨(.ireturn, 43, .inl 0, 0, 0), by subst h; exact ⟨dX0_numbersOf_42, rfl, rfl⟩⟩ else none

noncomputable def mt186 (pc : Nat) : Option {e : mE // mOK yX0_isSoBy cX0_isSoBy 8 ((Option.some ClassFile.FieldType.boolean)) pc e} :=
 bif Nat.blt pc 29 then
  bif Nat.blt pc 11 then
   bif Nat.blt pc 6 then
    bif Nat.blt pc 2 then
     bif Nat.blt pc 1 then
      if h : pc = 0 then some ⟨(.aload_n 0, 1, .inl 0, 0, 0), by subst h; exact ⟨dX0_isSoBy_0, rfl, trivial⟩⟩ else none
     else
      if h : pc = 1 then some ⟨(.iload_n 3, 2, .inl 0, 0, 0), by subst h; exact ⟨dX0_isSoBy_1, rfl, trivial⟩⟩ else none
    else
     bif Nat.blt pc 3 then
      if h : pc = 2 then some ⟨(.iload_n 2, 3, .inl 0, 0, 0), by subst h; exact ⟨dX0_isSoBy_2, rfl, trivial⟩⟩ else none
     else
      if h : pc = 3 then some ⟨(.invokevirtual 95, 6, .inl 0, 115, 0), by subst h; exact ⟨dX0_isSoBy_3, rfl, ⟨by decide, q288, q290, qs2, _, rfl, rfl⟩⟩⟩ else none
   else
    bif Nat.blt pc 9 then
     bif Nat.blt pc 8 then
      if h : pc = 6 then some ⟨(.istore 5, 8, .inl 0, 0, 0), by subst h; exact ⟨dX0_isSoBy_6, rfl, (show (5 : Nat) < 8 by decide)⟩⟩ else none
     else
      if h : pc = 8 then some ⟨(.aload_n 0, 9, .inl 0, 0, 0), by subst h; exact ⟨dX0_isSoBy_8, rfl, trivial⟩⟩ else none
    else
     bif Nat.blt pc 10 then
      if h : pc = 9 then some ⟨(.iload_n 3, 10, .inl 0, 0, 0), by subst h; exact ⟨dX0_isSoBy_9, rfl, trivial⟩⟩ else none
     else
      if h : pc = 10 then some ⟨(.iload_n 2, 11, .inl 0, 0, 0), by subst h; exact ⟨dX0_isSoBy_10, rfl, trivial⟩⟩ else none
  else
   bif Nat.blt pc 18 then
    bif Nat.blt pc 16 then
     bif Nat.blt pc 13 then
      if h : pc = 11 then some ⟨(.iload 4, 13, .inl 0, 0, 0), by subst h; exact ⟨dX0_isSoBy_11, rfl, trivial⟩⟩ else none
     else
      if h : pc = 13 then some ⟨(.invokevirtual 98, 16, .inl 0, 116, 0), by subst h; exact ⟨dX0_isSoBy_13, rfl, ⟨by decide, q292, q294, qs3, _, rfl, rfl⟩⟩⟩ else none
    else
     bif Nat.blt pc 17 then
      if h : pc = 16 then some ⟨(.aload_n 0, 17, .inl 0, 0, 0), by subst h; exact ⟨dX0_isSoBy_16, rfl, trivial⟩⟩ else none
     else
      if h : pc = 17 then some ⟨(.aload_n 1, 18, .inl 0, 0, 0), by subst h; exact ⟨dX0_isSoBy_17, rfl, trivial⟩⟩ else none
   else
    bif Nat.blt pc 22 then
     bif Nat.blt pc 21 then
      if h : pc = 18 then some ⟨(.invokevirtual 474, 21, .inl 0, 180, 0), by subst h; exact ⟨dX0_isSoBy_18, rfl, ⟨by decide, q1127, q1129, qs47, _, rfl, rfl⟩⟩⟩ else none
     else
      if h : pc = 21 then some ⟨(.iconst (-1), 22, .inl (-1), 0, 0), by subst h; exact ⟨dX0_isSoBy_21, rfl, ⟨(-1), rfl, by decide⟩⟩⟩ else none
    else
     bif Nat.blt pc 25 then
      if h : pc = 22 then some ⟨(.if_icmp .ne 7, 25, .inl 0, 29, 0), by subst h; exact ⟨dX0_isSoBy_22, rfl, (show ((22 : Nat) : Int) + (7) = ((29 : Nat) : Int) by decide)⟩⟩ else none
     else
      bif Nat.blt pc 26 then
       if h : pc = 25 then some ⟨(.iconst 1, 26, .inl 1, 0, 0), by subst h; exact ⟨dX0_isSoBy_25, rfl, ⟨1, rfl, by decide⟩⟩⟩ else none
      else
       if h : pc = 26 then some ⟨(.goto 4, 29, .inl 0, 30, 0), by subst h; exact ⟨dX0_isSoBy_26, rfl, (show ((26 : Nat) : Int) + (4) = ((30 : Nat) : Int) by decide)⟩⟩ else none
 else
  bif Nat.blt pc 42 then
   bif Nat.blt pc 34 then
    bif Nat.blt pc 32 then
     bif Nat.blt pc 30 then
      if h : pc = 29 then some ⟨(.iconst 0, 30, .inl 0, 0, 0), by subst h; exact ⟨dX0_isSoBy_29, rfl, ⟨0, rfl, by decide⟩⟩⟩ else none
     else
      if h : pc = 30 then some ⟨(.istore 6, 32, .inl 0, 0, 0), by subst h; exact ⟨dX0_isSoBy_30, rfl, (show (6 : Nat) < 8 by decide)⟩⟩ else none
    else
     bif Nat.blt pc 33 then
      if h : pc = 32 then some ⟨(.aload_n 0, 33, .inl 0, 0, 0), by subst h; exact ⟨dX0_isSoBy_32, rfl, trivial⟩⟩ else none
     else
      if h : pc = 33 then some ⟨(.iload_n 3, 34, .inl 0, 0, 0), by subst h; exact ⟨dX0_isSoBy_33, rfl, trivial⟩⟩ else none
   else
    bif Nat.blt pc 37 then
     bif Nat.blt pc 35 then
      if h : pc = 34 then some ⟨(.iload_n 2, 35, .inl 0, 0, 0), by subst h; exact ⟨dX0_isSoBy_34, rfl, trivial⟩⟩ else none
     else
      if h : pc = 35 then some ⟨(.iload 5, 37, .inl 0, 0, 0), by subst h; exact ⟨dX0_isSoBy_35, rfl, trivial⟩⟩ else none
    else
     bif Nat.blt pc 40 then
      if h : pc = 37 then some ⟨(.invokevirtual 98, 40, .inl 0, 116, 0), by subst h; exact ⟨dX0_isSoBy_37, rfl, ⟨by decide, q292, q294, qs3, _, rfl, rfl⟩⟩⟩ else none
     else
      if h : pc = 40 then some ⟨(.iload 6, 42, .inl 0, 0, 0), by subst h; exact ⟨dX0_isSoBy_40, rfl, trivial⟩⟩ else none
  else
   bif Nat.blt pc 47 then
    bif Nat.blt pc 45 then
     bif Nat.blt pc 43 then
      if h : pc = 42 then some ⟨(.ireturn, 43, .inl 0, 1, 0), by subst h; exact ⟨dX0_isSoBy_42, rfl, rfl⟩⟩ else none
     else
      if h : pc = 43 then some ⟨(.astore 7, 45, .inl 0, 0, 0), by subst h; exact ⟨dX0_isSoBy_43, rfl, (show (7 : Nat) < 8 by decide)⟩⟩ else none
    else
     bif Nat.blt pc 46 then
      if h : pc = 45 then some ⟨(.aload_n 0, 46, .inl 0, 0, 0), by subst h; exact ⟨dX0_isSoBy_45, rfl, trivial⟩⟩ else none
     else
      if h : pc = 46 then some ⟨(.iload_n 3, 47, .inl 0, 0, 0), by subst h; exact ⟨dX0_isSoBy_46, rfl, trivial⟩⟩ else none
   else
    bif Nat.blt pc 50 then
     bif Nat.blt pc 48 then
      if h : pc = 47 then some ⟨(.iload_n 2, 48, .inl 0, 0, 0), by subst h; exact ⟨dX0_isSoBy_47, rfl, trivial⟩⟩ else none
     else
      if h : pc = 48 then some ⟨(.iload 5, 50, .inl 0, 0, 0), by subst h; exact ⟨dX0_isSoBy_48, rfl, trivial⟩⟩ else none
    else
     bif Nat.blt pc 53 then
      if h : pc = 50 then some ⟨(.invokevirtual 98, 53, .inl 0, 116, 0), by subst h; exact ⟨dX0_isSoBy_50, rfl, ⟨by decide, q292, q294, qs3, _, rfl, rfl⟩⟩⟩ else none
     else
      bif Nat.blt pc 55 then
       if h : pc = 53 then some ⟨(.aload 7, 55, .inl 0, 0, 0), by subst h; exact ⟨dX0_isSoBy_53, rfl, trivial⟩⟩ else none
      else
       if h : pc = 55 then some ⟨(.athrow, 56, .inl 0, 0, 0), by subst h; exact ⟨dX0_isSoBy_55, rfl, trivial⟩⟩ else none

noncomputable def mt187 (pc : Nat) : Option {e : mE // mOK yX0_manyBy cX0_manyBy 7 ((Option.some ClassFile.FieldType.int)) pc e} :=
 bif Nat.blt pc 22 then
  bif Nat.blt pc 10 then
   bif Nat.blt pc 4 then
    bif Nat.blt pc 1 then
     if h : pc = 0 then some ⟨(.iconst 0, 1, .inl 0, 0, 0), by subst h; exact ⟨dX0_manyBy_0, rfl, ⟨0, rfl, by decide⟩⟩⟩ else none
    else
     bif Nat.blt pc 3 then
      if h : pc = 1 then some ⟨(.istore 5, 3, .inl 0, 0, 0), by subst h; exact ⟨dX0_manyBy_1, rfl, (show (5 : Nat) < 7 by decide)⟩⟩ else none
     else
      if h : pc = 3 then some ⟨(.iconst 0, 4, .inl 0, 0, 0), by subst h; exact ⟨dX0_manyBy_3, rfl, ⟨0, rfl, by decide⟩⟩⟩ else none
   else
    bif Nat.blt pc 6 then
     if h : pc = 4 then some ⟨(.istore 6, 6, .inl 0, 0, 0), by subst h; exact ⟨dX0_manyBy_4, rfl, (show (6 : Nat) < 7 by decide)⟩⟩ else none
    else
     bif Nat.blt pc 8 then
      if h : pc = 6 then some ⟨(.iload 6, 8, .inl 0, 0, 0), by subst h; exact ⟨dX0_manyBy_6, rfl, trivial⟩⟩ else none
     else
      if h : pc = 8 then some ⟨(.bipush 99, 10, .inl 99, 0, 0), by subst h; exact ⟨dX0_manyBy_8, rfl, ⟨99, rfl, by decide⟩⟩⟩ else none
  else
   bif Nat.blt pc 15 then
    bif Nat.blt pc 13 then
     if h : pc = 10 then some ⟨(.if_icmp .gt 32, 13, .inl 0, 42, 0), by subst h; exact ⟨dX0_manyBy_10, rfl, (show ((10 : Nat) : Int) + (32) = ((42 : Nat) : Int) by decide)⟩⟩ else none
    else
     bif Nat.blt pc 14 then
      if h : pc = 13 then some ⟨(.aload_n 0, 14, .inl 0, 0, 0), by subst h; exact ⟨dX0_manyBy_13, rfl, trivial⟩⟩ else none
     else
      if h : pc = 14 then some ⟨(.aload_n 1, 15, .inl 0, 0, 0), by subst h; exact ⟨dX0_manyBy_14, rfl, trivial⟩⟩ else none
   else
    bif Nat.blt pc 17 then
     bif Nat.blt pc 16 then
      if h : pc = 15 then some ⟨(.iload_n 2, 16, .inl 0, 0, 0), by subst h; exact ⟨dX0_manyBy_15, rfl, trivial⟩⟩ else none
     else
      if h : pc = 16 then some ⟨(.iload_n 3, 17, .inl 0, 0, 0), by subst h; exact ⟨dX0_manyBy_16, rfl, trivial⟩⟩ else none
    else
     bif Nat.blt pc 19 then
      if h : pc = 17 then some ⟨(.iload 6, 19, .inl 0, 0, 0), by subst h; exact ⟨dX0_manyBy_17, rfl, trivial⟩⟩ else none
     else
      if h : pc = 19 then some ⟨(.invokevirtual 481, 22, .inl 0, 186, 0), by subst h; exact ⟨dX0_manyBy_19, rfl, ⟨by decide, q1180, q1182, qs51, _, rfl, rfl⟩⟩⟩ else none
 else
  bif Nat.blt pc 39 then
   bif Nat.blt pc 30 then
    bif Nat.blt pc 25 then
     if h : pc = 22 then some ⟨(.ifCond .eq 14, 25, .inl 0, 36, 0), by subst h; exact ⟨dX0_manyBy_22, rfl, (show ((22 : Nat) : Int) + (14) = ((36 : Nat) : Int) by decide)⟩⟩ else none
    else
     bif Nat.blt pc 27 then
      if h : pc = 25 then some ⟨(.iload 4, 27, .inl 0, 0, 0), by subst h; exact ⟨dX0_manyBy_25, rfl, trivial⟩⟩ else none
     else
      if h : pc = 27 then some ⟨(.ifCond .eq 6, 30, .inl 0, 33, 0), by subst h; exact ⟨dX0_manyBy_27, rfl, (show ((27 : Nat) : Int) + (6) = ((33 : Nat) : Int) by decide)⟩⟩ else none
   else
    bif Nat.blt pc 33 then
     bif Nat.blt pc 32 then
      if h : pc = 30 then some ⟨(.iload 6, 32, .inl 0, 0, 0), by subst h; exact ⟨dX0_manyBy_30, rfl, trivial⟩⟩ else none
     else
      if h : pc = 32 then some ⟨(.ireturn, 33, .inl 0, 0, 0), by subst h; exact ⟨dX0_manyBy_32, rfl, rfl⟩⟩ else none
    else
     bif Nat.blt pc 36 then
      if h : pc = 33 then some ⟨(.iinc 5 1, 36, .inl 1, 0, 0), by subst h; exact ⟨dX0_manyBy_33, rfl, ⟨(show (5 : Nat) < 7 by decide), 1, rfl, by decide⟩⟩⟩ else none
     else
      if h : pc = 36 then some ⟨(.iinc 6 1, 39, .inl 1, 0, 0), by subst h; exact ⟨dX0_manyBy_36, rfl, ⟨(show (6 : Nat) < 7 by decide), 1, rfl, by decide⟩⟩⟩ else none
  else
   bif Nat.blt pc 47 then
    bif Nat.blt pc 42 then
     if h : pc = 39 then some ⟨(.goto (-33), 42, .inl 0, 6, 0), by subst h; exact ⟨dX0_manyBy_39, rfl, (show ((39 : Nat) : Int) + ((-33)) = ((6 : Nat) : Int) by decide)⟩⟩ else none
    else
     bif Nat.blt pc 44 then
      if h : pc = 42 then some ⟨(.iload 4, 44, .inl 0, 0, 0), by subst h; exact ⟨dX0_manyBy_42, rfl, trivial⟩⟩ else none
     else
      if h : pc = 44 then some ⟨(.ifCond .eq 7, 47, .inl 0, 51, 0), by subst h; exact ⟨dX0_manyBy_44, rfl, (show ((44 : Nat) : Int) + (7) = ((51 : Nat) : Int) by decide)⟩⟩ else none
   else
    bif Nat.blt pc 51 then
     bif Nat.blt pc 48 then
      if h : pc = 47 then some ⟨(.iconst (-1), 48, .inl (-1), 0, 0), by subst h; exact ⟨dX0_manyBy_47, rfl, ⟨(-1), rfl, by decide⟩⟩⟩ else none
     else
      if h : pc = 48 then some ⟨(.goto 5, 51, .inl 0, 53, 0), by subst h; exact ⟨dX0_manyBy_48, rfl, (show ((48 : Nat) : Int) + (5) = ((53 : Nat) : Int) by decide)⟩⟩ else none
    else
     bif Nat.blt pc 53 then
      if h : pc = 51 then some ⟨(.iload 5, 53, .inl 0, 0, 0), by subst h; exact ⟨dX0_manyBy_51, rfl, trivial⟩⟩ else none
     else
      if h : pc = 53 then some ⟨(.ireturn, 54, .inl 0, 0, 0), by subst h; exact ⟨dX0_manyBy_53, rfl, rfl⟩⟩ else none

noncomputable def mt188 (pc : Nat) : Option {e : mE // mOK yX0_textsOf cX0_textsOf 6 ((Option.some ClassFile.FieldType.int)) pc e} :=
 bif Nat.blt pc 35 then
  bif Nat.blt pc 16 then
   bif Nat.blt pc 7 then
    bif Nat.blt pc 4 then
     bif Nat.blt pc 1 then
      if h : pc = 0 then some ⟨(.aload_n 0, 1, .inl 0, 0, 0), by subst h; exact ⟨dX0_textsOf_0, rfl, trivial⟩⟩ else none
     else
      if h : pc = 1 then some ⟨(.getfield 339, 4, .inl 0, 19, 0), by subst h; exact ⟨dX0_textsOf_1, rfl, ⟨⟨_, rfl, by decide, _, Or.inl q902, Or.inl rfl⟩, (show mKd 0 19 ≤ 4 by decide)⟩⟩⟩ else none
    else
     bif Nat.blt pc 5 then
      if h : pc = 4 then some ⟨(.istore_n 2, 5, .inl 0, 0, 0), by subst h; exact ⟨dX0_textsOf_4, rfl, (show (2 : Nat) < 6 by decide)⟩⟩ else none
     else
      bif Nat.blt pc 6 then
       if h : pc = 5 then some ⟨(.iconst 0, 6, .inl 0, 0, 0), by subst h; exact ⟨dX0_textsOf_5, rfl, ⟨0, rfl, by decide⟩⟩⟩ else none
      else
       if h : pc = 6 then some ⟨(.istore_n 3, 7, .inl 0, 0, 0), by subst h; exact ⟨dX0_textsOf_6, rfl, (show (3 : Nat) < 6 by decide)⟩⟩ else none
   else
    bif Nat.blt pc 10 then
     bif Nat.blt pc 8 then
      if h : pc = 7 then some ⟨(.iconst 0, 8, .inl 0, 0, 0), by subst h; exact ⟨dX0_textsOf_7, rfl, ⟨0, rfl, by decide⟩⟩⟩ else none
     else
      if h : pc = 8 then some ⟨(.istore 4, 10, .inl 0, 0, 0), by subst h; exact ⟨dX0_textsOf_8, rfl, (show (4 : Nat) < 6 by decide)⟩⟩ else none
    else
     bif Nat.blt pc 12 then
      if h : pc = 10 then some ⟨(.iload 4, 12, .inl 0, 0, 0), by subst h; exact ⟨dX0_textsOf_10, rfl, trivial⟩⟩ else none
     else
      bif Nat.blt pc 13 then
       if h : pc = 12 then some ⟨(.aload_n 0, 13, .inl 0, 0, 0), by subst h; exact ⟨dX0_textsOf_12, rfl, trivial⟩⟩ else none
      else
       if h : pc = 13 then some ⟨(.getfield 259, 16, .inl 0, 8, 0), by subst h; exact ⟨dX0_textsOf_13, rfl, ⟨⟨_, rfl, by decide, _, Or.inl q891, Or.inl rfl⟩, (show mKd 0 8 ≤ 4 by decide)⟩⟩⟩ else none
  else
   bif Nat.blt pc 26 then
    bif Nat.blt pc 20 then
     bif Nat.blt pc 19 then
      if h : pc = 16 then some ⟨(.if_icmp .ge 35, 19, .inl 0, 51, 0), by subst h; exact ⟨dX0_textsOf_16, rfl, (show ((16 : Nat) : Int) + (35) = ((51 : Nat) : Int) by decide)⟩⟩ else none
     else
      if h : pc = 19 then some ⟨(.aload_n 0, 20, .inl 0, 0, 0), by subst h; exact ⟨dX0_textsOf_19, rfl, trivial⟩⟩ else none
    else
     bif Nat.blt pc 22 then
      if h : pc = 20 then some ⟨(.iload 4, 22, .inl 0, 0, 0), by subst h; exact ⟨dX0_textsOf_20, rfl, trivial⟩⟩ else none
     else
      bif Nat.blt pc 25 then
       if h : pc = 22 then some ⟨(.putfield 339, 25, .inl 0, 19, 0), by subst h; exact ⟨dX0_textsOf_22, rfl, ⟨⟨_, rfl, by decide, _, Or.inl q902, Or.inl rfl⟩, (show mKd 0 19 ≤ 4 by decide), by decide, by decide, (fun q h => Or.inl (by cases h; rfl))⟩⟩⟩ else none
      else
       if h : pc = 25 then some ⟨(.iload_n 3, 26, .inl 0, 0, 0), by subst h; exact ⟨dX0_textsOf_25, rfl, trivial⟩⟩ else none
   else
    bif Nat.blt pc 28 then
     bif Nat.blt pc 27 then
      if h : pc = 26 then some ⟨(.aload_n 0, 27, .inl 0, 0, 0), by subst h; exact ⟨dX0_textsOf_26, rfl, trivial⟩⟩ else none
     else
      if h : pc = 27 then some ⟨(.aload_n 1, 28, .inl 0, 0, 0), by subst h; exact ⟨dX0_textsOf_27, rfl, trivial⟩⟩ else none
    else
     bif Nat.blt pc 31 then
      if h : pc = 28 then some ⟨(.invokevirtual 474, 31, .inl 0, 180, 0), by subst h; exact ⟨dX0_textsOf_28, rfl, ⟨by decide, q1127, q1129, qs47, _, rfl, rfl⟩⟩⟩ else none
     else
      bif Nat.blt pc 32 then
       if h : pc = 31 then some ⟨(.iconst (-1), 32, .inl (-1), 0, 0), by subst h; exact ⟨dX0_textsOf_31, rfl, ⟨(-1), rfl, by decide⟩⟩⟩ else none
      else
       if h : pc = 32 then some ⟨(.if_icmp .ne 10, 35, .inl 0, 42, 0), by subst h; exact ⟨dX0_textsOf_32, rfl, (show ((32 : Nat) : Int) + (10) = ((42 : Nat) : Int) by decide)⟩⟩ else none
 else
  bif Nat.blt pc 52 then
   bif Nat.blt pc 43 then
    bif Nat.blt pc 38 then
     bif Nat.blt pc 36 then
      if h : pc = 35 then some ⟨(.iconst 1, 36, .inl 1, 0, 0), by subst h; exact ⟨dX0_textsOf_35, rfl, ⟨1, rfl, by decide⟩⟩⟩ else none
     else
      if h : pc = 36 then some ⟨(.iload 4, 38, .inl 0, 0, 0), by subst h; exact ⟨dX0_textsOf_36, rfl, trivial⟩⟩ else none
    else
     bif Nat.blt pc 39 then
      if h : pc = 38 then some ⟨(.ishl, 39, .inl 0, 0, 0), by subst h; exact ⟨dX0_textsOf_38, rfl, trivial⟩⟩ else none
     else
      bif Nat.blt pc 42 then
       if h : pc = 39 then some ⟨(.goto 4, 42, .inl 0, 43, 0), by subst h; exact ⟨dX0_textsOf_39, rfl, (show ((39 : Nat) : Int) + (4) = ((43 : Nat) : Int) by decide)⟩⟩ else none
      else
       if h : pc = 42 then some ⟨(.iconst 0, 43, .inl 0, 0, 0), by subst h; exact ⟨dX0_textsOf_42, rfl, ⟨0, rfl, by decide⟩⟩⟩ else none
   else
    bif Nat.blt pc 45 then
     bif Nat.blt pc 44 then
      if h : pc = 43 then some ⟨(.ior, 44, .inl 0, 0, 0), by subst h; exact ⟨dX0_textsOf_43, rfl, trivial⟩⟩ else none
     else
      if h : pc = 44 then some ⟨(.istore_n 3, 45, .inl 0, 0, 0), by subst h; exact ⟨dX0_textsOf_44, rfl, (show (3 : Nat) < 6 by decide)⟩⟩ else none
    else
     bif Nat.blt pc 48 then
      if h : pc = 45 then some ⟨(.iinc 4 1, 48, .inl 1, 0, 0), by subst h; exact ⟨dX0_textsOf_45, rfl, ⟨(show (4 : Nat) < 6 by decide), 1, rfl, by decide⟩⟩⟩ else none
     else
      bif Nat.blt pc 51 then
       if h : pc = 48 then some ⟨(.goto (-38), 51, .inl 0, 10, 0), by subst h; exact ⟨dX0_textsOf_48, rfl, (show ((48 : Nat) : Int) + ((-38)) = ((10 : Nat) : Int) by decide)⟩⟩ else none
      else
       if h : pc = 51 then some ⟨(.aload_n 0, 52, .inl 0, 0, 0), by subst h; exact ⟨dX0_textsOf_51, rfl, trivial⟩⟩ else none
  else
   bif Nat.blt pc 62 then
    bif Nat.blt pc 56 then
     bif Nat.blt pc 53 then
      if h : pc = 52 then some ⟨(.iload_n 2, 53, .inl 0, 0, 0), by subst h; exact ⟨dX0_textsOf_52, rfl, trivial⟩⟩ else none
     else
      if h : pc = 53 then some ⟨(.putfield 339, 56, .inl 0, 19, 0), by subst h; exact ⟨dX0_textsOf_53, rfl, ⟨⟨_, rfl, by decide, _, Or.inl q902, Or.inl rfl⟩, (show mKd 0 19 ≤ 4 by decide), by decide, by decide, (fun q h => Or.inl (by cases h; rfl))⟩⟩⟩ else none
    else
     bif Nat.blt pc 59 then
      if h : pc = 56 then some ⟨(.goto 13, 59, .inl 0, 69, 0), by subst h; exact ⟨dX0_textsOf_56, rfl, (show ((56 : Nat) : Int) + (13) = ((69 : Nat) : Int) by decide)⟩⟩ else none
     else
      bif Nat.blt pc 61 then
       if h : pc = 59 then some ⟨(.astore 5, 61, .inl 0, 0, 0), by subst h; exact ⟨dX0_textsOf_59, rfl, (show (5 : Nat) < 6 by decide)⟩⟩ else none
      else
       if h : pc = 61 then some ⟨(.aload_n 0, 62, .inl 0, 0, 0), by subst h; exact ⟨dX0_textsOf_61, rfl, trivial⟩⟩ else none
   else
    bif Nat.blt pc 68 then
     bif Nat.blt pc 63 then
      if h : pc = 62 then some ⟨(.iload_n 2, 63, .inl 0, 0, 0), by subst h; exact ⟨dX0_textsOf_62, rfl, trivial⟩⟩ else none
     else
      bif Nat.blt pc 66 then
       if h : pc = 63 then some ⟨(.putfield 339, 66, .inl 0, 19, 0), by subst h; exact ⟨dX0_textsOf_63, rfl, ⟨⟨_, rfl, by decide, _, Or.inl q902, Or.inl rfl⟩, (show mKd 0 19 ≤ 4 by decide), by decide, by decide, (fun q h => Or.inl (by cases h; rfl))⟩⟩⟩ else none
      else
       if h : pc = 66 then some ⟨(.aload 5, 68, .inl 0, 0, 0), by subst h; exact ⟨dX0_textsOf_66, rfl, trivial⟩⟩ else none
    else
     bif Nat.blt pc 69 then
      if h : pc = 68 then some ⟨(.athrow, 69, .inl 0, 0, 0), by subst h; exact ⟨dX0_textsOf_68, rfl, trivial⟩⟩ else none
     else
      bif Nat.blt pc 70 then
       if h : pc = 69 then some ⟨(.iload_n 3, 70, .inl 0, 0, 0), by subst h; exact ⟨dX0_textsOf_69, rfl, trivial⟩⟩ else none
      else
       if h : pc = 70 then some ⟨(.ireturn, 71, .inl 0, 0, 0), by subst h; exact ⟨dX0_textsOf_70, rfl, rfl⟩⟩ else none

noncomputable def mt189 (pc : Nat) : Option {e : mE // mOK yX0_peopleOf cX0_peopleOf 4 ((Option.some ClassFile.FieldType.int)) pc e} :=
 bif Nat.blt pc 24 then
  bif Nat.blt pc 12 then
   bif Nat.blt pc 4 then
    bif Nat.blt pc 2 then
     bif Nat.blt pc 1 then
      if h : pc = 0 then some ⟨(.iconst 0, 1, .inl 0, 0, 0), by subst h; exact ⟨dX0_peopleOf_0, rfl, ⟨0, rfl, by decide⟩⟩⟩ else none
     else
      if h : pc = 1 then some ⟨(.istore_n 2, 2, .inl 0, 0, 0), by subst h; exact ⟨dX0_peopleOf_1, rfl, (show (2 : Nat) < 4 by decide)⟩⟩ else none
    else
     bif Nat.blt pc 3 then
      if h : pc = 2 then some ⟨(.iconst 0, 3, .inl 0, 0, 0), by subst h; exact ⟨dX0_peopleOf_2, rfl, ⟨0, rfl, by decide⟩⟩⟩ else none
     else
      if h : pc = 3 then some ⟨(.istore_n 3, 4, .inl 0, 0, 0), by subst h; exact ⟨dX0_peopleOf_3, rfl, (show (3 : Nat) < 4 by decide)⟩⟩ else none
   else
    bif Nat.blt pc 6 then
     bif Nat.blt pc 5 then
      if h : pc = 4 then some ⟨(.iload_n 3, 5, .inl 0, 0, 0), by subst h; exact ⟨dX0_peopleOf_4, rfl, trivial⟩⟩ else none
     else
      if h : pc = 5 then some ⟨(.aload_n 0, 6, .inl 0, 0, 0), by subst h; exact ⟨dX0_peopleOf_5, rfl, trivial⟩⟩ else none
    else
     bif Nat.blt pc 9 then
      if h : pc = 6 then some ⟨(.getfield 10, 9, .inl 0, 1, 0), by subst h; exact ⟨dX0_peopleOf_6, rfl, ⟨⟨_, rfl, by decide, _, Or.inl q881, Or.inl rfl⟩, (show mKd 0 1 ≤ 4 by decide)⟩⟩⟩ else none
     else
      if h : pc = 9 then some ⟨(.if_icmp .ge 47, 12, .inl 0, 56, 0), by subst h; exact ⟨dX0_peopleOf_9, rfl, (show ((9 : Nat) : Int) + (47) = ((56 : Nat) : Int) by decide)⟩⟩ else none
  else
   bif Nat.blt pc 16 then
    bif Nat.blt pc 14 then
     bif Nat.blt pc 13 then
      if h : pc = 12 then some ⟨(.iload_n 2, 13, .inl 0, 0, 0), by subst h; exact ⟨dX0_peopleOf_12, rfl, trivial⟩⟩ else none
     else
      if h : pc = 13 then some ⟨(.aload_n 0, 14, .inl 0, 0, 0), by subst h; exact ⟨dX0_peopleOf_13, rfl, trivial⟩⟩ else none
    else
     bif Nat.blt pc 15 then
      if h : pc = 14 then some ⟨(.aload_n 1, 15, .inl 0, 0, 0), by subst h; exact ⟨dX0_peopleOf_14, rfl, trivial⟩⟩ else none
     else
      if h : pc = 15 then some ⟨(.iload_n 3, 16, .inl 0, 0, 0), by subst h; exact ⟨dX0_peopleOf_15, rfl, trivial⟩⟩ else none
   else
    bif Nat.blt pc 19 then
     bif Nat.blt pc 18 then
      if h : pc = 16 then some ⟨(.bipush 6, 18, .inl 6, 0, 0), by subst h; exact ⟨dX0_peopleOf_16, rfl, ⟨6, rfl, by decide⟩⟩⟩ else none
     else
      if h : pc = 18 then some ⟨(.aload_n 0, 19, .inl 0, 0, 0), by subst h; exact ⟨dX0_peopleOf_18, rfl, trivial⟩⟩ else none
    else
     bif Nat.blt pc 22 then
      if h : pc = 19 then some ⟨(.getfield 47, 22, .inr (.inr none), 0, 0), by subst h; exact ⟨dX0_peopleOf_19, rfl, ⟨⟨_, rfl, by decide, _, Or.inl q880, Or.inl rfl⟩, (show mKd 0 0 = 6 by rfl)⟩⟩⟩ else none
     else
      bif Nat.blt pc 23 then
       if h : pc = 22 then some ⟨(.iload_n 3, 23, .inl 0, 0, 0), by subst h; exact ⟨dX0_peopleOf_22, rfl, trivial⟩⟩ else none
      else
       if h : pc = 23 then some ⟨(.aaload, 24, .inl 0, 0, 0), by subst h; exact ⟨dX0_peopleOf_23, rfl, trivial⟩⟩ else none
 else
  bif Nat.blt pc 43 then
   bif Nat.blt pc 34 then
    bif Nat.blt pc 30 then
     bif Nat.blt pc 27 then
      if h : pc = 24 then some ⟨(.getfield 81, 27, .inl 0, 3, 4), by subst h; exact ⟨dX0_peopleOf_24, rfl, ⟨⟨_, rfl, by decide, _, Or.inl q206, Or.inl rfl⟩, (show mKd 4 3 ≤ 4 by decide)⟩⟩⟩ else none
     else
      if h : pc = 27 then some ⟨(.ifCond .eq 7, 30, .inl 0, 34, 0), by subst h; exact ⟨dX0_peopleOf_27, rfl, (show ((27 : Nat) : Int) + (7) = ((34 : Nat) : Int) by decide)⟩⟩ else none
    else
     bif Nat.blt pc 31 then
      if h : pc = 30 then some ⟨(.iconst 0, 31, .inl 0, 0, 0), by subst h; exact ⟨dX0_peopleOf_30, rfl, ⟨0, rfl, by decide⟩⟩⟩ else none
     else
      if h : pc = 31 then some ⟨(.goto 4, 34, .inl 0, 35, 0), by subst h; exact ⟨dX0_peopleOf_31, rfl, (show ((31 : Nat) : Int) + (4) = ((35 : Nat) : Int) by decide)⟩⟩ else none
   else
    bif Nat.blt pc 38 then
     bif Nat.blt pc 35 then
      if h : pc = 34 then some ⟨(.iconst 1, 35, .inl 1, 0, 0), by subst h; exact ⟨dX0_peopleOf_34, rfl, ⟨1, rfl, by decide⟩⟩⟩ else none
     else
      if h : pc = 35 then some ⟨(.invokevirtual 481, 38, .inl 0, 186, 0), by subst h; exact ⟨dX0_peopleOf_35, rfl, ⟨by decide, q1180, q1182, qs51, _, rfl, rfl⟩⟩⟩ else none
    else
     bif Nat.blt pc 41 then
      if h : pc = 38 then some ⟨(.ifCond .eq 9, 41, .inl 0, 47, 0), by subst h; exact ⟨dX0_peopleOf_38, rfl, (show ((38 : Nat) : Int) + (9) = ((47 : Nat) : Int) by decide)⟩⟩ else none
     else
      bif Nat.blt pc 42 then
       if h : pc = 41 then some ⟨(.iconst 1, 42, .inl 1, 0, 0), by subst h; exact ⟨dX0_peopleOf_41, rfl, ⟨1, rfl, by decide⟩⟩⟩ else none
      else
       if h : pc = 42 then some ⟨(.iload_n 3, 43, .inl 0, 0, 0), by subst h; exact ⟨dX0_peopleOf_42, rfl, trivial⟩⟩ else none
  else
   bif Nat.blt pc 49 then
    bif Nat.blt pc 47 then
     bif Nat.blt pc 44 then
      if h : pc = 43 then some ⟨(.ishl, 44, .inl 0, 0, 0), by subst h; exact ⟨dX0_peopleOf_43, rfl, trivial⟩⟩ else none
     else
      if h : pc = 44 then some ⟨(.goto 4, 47, .inl 0, 48, 0), by subst h; exact ⟨dX0_peopleOf_44, rfl, (show ((44 : Nat) : Int) + (4) = ((48 : Nat) : Int) by decide)⟩⟩ else none
    else
     bif Nat.blt pc 48 then
      if h : pc = 47 then some ⟨(.iconst 0, 48, .inl 0, 0, 0), by subst h; exact ⟨dX0_peopleOf_47, rfl, ⟨0, rfl, by decide⟩⟩⟩ else none
     else
      if h : pc = 48 then some ⟨(.ior, 49, .inl 0, 0, 0), by subst h; exact ⟨dX0_peopleOf_48, rfl, trivial⟩⟩ else none
   else
    bif Nat.blt pc 53 then
     bif Nat.blt pc 50 then
      if h : pc = 49 then some ⟨(.istore_n 2, 50, .inl 0, 0, 0), by subst h; exact ⟨dX0_peopleOf_49, rfl, (show (2 : Nat) < 4 by decide)⟩⟩ else none
     else
      if h : pc = 50 then some ⟨(.iinc 3 1, 53, .inl 1, 0, 0), by subst h; exact ⟨dX0_peopleOf_50, rfl, ⟨(show (3 : Nat) < 4 by decide), 1, rfl, by decide⟩⟩⟩ else none
    else
     bif Nat.blt pc 56 then
      if h : pc = 53 then some ⟨(.goto (-49), 56, .inl 0, 4, 0), by subst h; exact ⟨dX0_peopleOf_53, rfl, (show ((53 : Nat) : Int) + ((-49)) = ((4 : Nat) : Int) by decide)⟩⟩ else none
     else
      bif Nat.blt pc 57 then
       if h : pc = 56 then some ⟨(.iload_n 2, 57, .inl 0, 0, 0), by subst h; exact ⟨dX0_peopleOf_56, rfl, trivial⟩⟩ else none
      else
       if h : pc = 57 then some ⟨(.ireturn, 58, .inl 0, 0, 0), by subst h; exact ⟨dX0_peopleOf_57, rfl, rfl⟩⟩ else none

noncomputable def mt190 (pc : Nat) : Option {e : mE // mOK yX0_film cX0_film 5 ((Option.some ClassFile.FieldType.int)) pc e} :=
 bif Nat.blt pc 37 then
  bif Nat.blt pc 22 then
   bif Nat.blt pc 9 then
    bif Nat.blt pc 4 then
     bif Nat.blt pc 1 then
      if h : pc = 0 then some ⟨(.iload_n 1, 1, .inl 0, 0, 0), by subst h; exact ⟨dX0_film_0, rfl, trivial⟩⟩ else none
     else
      if h : pc = 1 then some ⟨(.invokestatic 485, 4, .inl 0, 177, 0), by subst h; exact ⟨dX0_film_1, rfl, Or.inl ⟨by decide, q1113, q1114⟩⟩⟩ else none
    else
     bif Nat.blt pc 7 then
      if h : pc = 4 then some ⟨(.ifCond .eq 15, 7, .inl 0, 19, 0), by subst h; exact ⟨dX0_film_4, rfl, (show ((4 : Nat) : Int) + (15) = ((19 : Nat) : Int) by decide)⟩⟩ else none
     else
      bif Nat.blt pc 8 then
       if h : pc = 7 then some ⟨(.iload_n 2, 8, .inl 0, 0, 0), by subst h; exact ⟨dX0_film_7, rfl, trivial⟩⟩ else none
      else
       if h : pc = 8 then some ⟨(.i2l, 9, .inl 0, 0, 0), by subst h; exact ⟨dX0_film_8, rfl, trivial⟩⟩ else none
   else
    bif Nat.blt pc 16 then
     bif Nat.blt pc 10 then
      if h : pc = 9 then some ⟨(.lconst 0, 10, .inr (.inl 0), 0, 0), by subst h; exact ⟨dX0_film_9, rfl, ⟨0, rfl, by decide⟩⟩⟩ else none
     else
      bif Nat.blt pc 13 then
       if h : pc = 10 then some ⟨(.ldc2_w 510, 13, .inr (.inl 20), 0, 0), by subst h; exact ⟨dX0_film_10, rfl, ⟨_, rfl, q1200⟩⟩⟩ else none
      else
       if h : pc = 13 then some ⟨(.invokestatic 16, 16, .inl 0, 108, 0), by subst h; exact ⟨dX0_film_13, rfl, Or.inl ⟨by decide, q167, q168⟩⟩⟩ else none
    else
     bif Nat.blt pc 19 then
      if h : pc = 16 then some ⟨(.ifCond .ne 6, 19, .inl 0, 22, 0), by subst h; exact ⟨dX0_film_16, rfl, (show ((16 : Nat) : Int) + (6) = ((22 : Nat) : Int) by decide)⟩⟩ else none
     else
      bif Nat.blt pc 21 then
       if h : pc = 19 then some ⟨(.bipush (-2), 21, .inl (-2), 0, 0), by subst h; exact ⟨dX0_film_19, rfl, ⟨(-2), rfl, by decide⟩⟩⟩ else none
      else
       if h : pc = 21 then some ⟨(.ireturn, 22, .inl 0, 0, 0), by subst h; exact ⟨dX0_film_21, rfl, rfl⟩⟩ else none
  else
   bif Nat.blt pc 29 then
    bif Nat.blt pc 24 then
     bif Nat.blt pc 23 then
      if h : pc = 22 then some ⟨(.aload_n 0, 23, .inl 0, 0, 0), by subst h; exact ⟨dX0_film_22, rfl, trivial⟩⟩ else none
     else
      if h : pc = 23 then some ⟨(.iload_n 1, 24, .inl 0, 0, 0), by subst h; exact ⟨dX0_film_23, rfl, trivial⟩⟩ else none
    else
     bif Nat.blt pc 25 then
      if h : pc = 24 then some ⟨(.iconst 0, 25, .inl 0, 0, 0), by subst h; exact ⟨dX0_film_24, rfl, ⟨0, rfl, by decide⟩⟩⟩ else none
     else
      bif Nat.blt pc 26 then
       if h : pc = 25 then some ⟨(.iload_n 2, 26, .inl 0, 0, 0), by subst h; exact ⟨dX0_film_25, rfl, trivial⟩⟩ else none
      else
       if h : pc = 26 then some ⟨(.invokevirtual 512, 29, .inl 0, 191, 0), by subst h; exact ⟨dX0_film_26, rfl, ⟨by decide, q1201, q1202, q1203, _, rfl, rfl⟩⟩⟩ else none
   else
    bif Nat.blt pc 34 then
     bif Nat.blt pc 30 then
      if h : pc = 29 then some ⟨(.pop, 30, .inl 0, 0, 0), by subst h; exact ⟨dX0_film_29, rfl, trivial⟩⟩ else none
     else
      bif Nat.blt pc 31 then
       if h : pc = 30 then some ⟨(.aload_n 0, 31, .inl 0, 0, 0), by subst h; exact ⟨dX0_film_30, rfl, trivial⟩⟩ else none
      else
       if h : pc = 31 then some ⟨(.invokevirtual 399, 34, .inl 0, 158, 0), by subst h; exact ⟨dX0_film_31, rfl, ⟨by decide, q1022, q1024, qs35, _, rfl, rfl⟩⟩⟩ else none
    else
     bif Nat.blt pc 35 then
      if h : pc = 34 then some ⟨(.iconst 0, 35, .inl 0, 0, 0), by subst h; exact ⟨dX0_film_34, rfl, ⟨0, rfl, by decide⟩⟩⟩ else none
     else
      bif Nat.blt pc 36 then
       if h : pc = 35 then some ⟨(.istore_n 3, 36, .inl 0, 0, 0), by subst h; exact ⟨dX0_film_35, rfl, (show (3 : Nat) < 5 by decide)⟩⟩ else none
      else
       if h : pc = 36 then some ⟨(.iload_n 3, 37, .inl 0, 0, 0), by subst h; exact ⟨dX0_film_36, rfl, trivial⟩⟩ else none
 else
  bif Nat.blt pc 56 then
   bif Nat.blt pc 46 then
    bif Nat.blt pc 41 then
     bif Nat.blt pc 38 then
      if h : pc = 37 then some ⟨(.iload_n 2, 38, .inl 0, 0, 0), by subst h; exact ⟨dX0_film_37, rfl, trivial⟩⟩ else none
     else
      if h : pc = 38 then some ⟨(.if_icmp .ge 24, 41, .inl 0, 62, 0), by subst h; exact ⟨dX0_film_38, rfl, (show ((38 : Nat) : Int) + (24) = ((62 : Nat) : Int) by decide)⟩⟩ else none
    else
     bif Nat.blt pc 42 then
      if h : pc = 41 then some ⟨(.aload_n 0, 42, .inl 0, 0, 0), by subst h; exact ⟨dX0_film_41, rfl, trivial⟩⟩ else none
     else
      bif Nat.blt pc 45 then
       if h : pc = 42 then some ⟨(.invokevirtual 390, 45, .inl 0, 154, 0), by subst h; exact ⟨dX0_film_42, rfl, ⟨by decide, q1005, q1007, qs33, _, rfl, rfl⟩⟩⟩ else none
      else
       if h : pc = 45 then some ⟨(.aload_n 0, 46, .inl 0, 0, 0), by subst h; exact ⟨dX0_film_45, rfl, trivial⟩⟩ else none
   else
    bif Nat.blt pc 49 then
     bif Nat.blt pc 47 then
      if h : pc = 46 then some ⟨(.iload_n 1, 47, .inl 0, 0, 0), by subst h; exact ⟨dX0_film_46, rfl, trivial⟩⟩ else none
     else
      bif Nat.blt pc 48 then
       if h : pc = 47 then some ⟨(.iload_n 3, 48, .inl 0, 0, 0), by subst h; exact ⟨dX0_film_47, rfl, trivial⟩⟩ else none
      else
       if h : pc = 48 then some ⟨(.aload_n 0, 49, .inl 0, 0, 0), by subst h; exact ⟨dX0_film_48, rfl, trivial⟩⟩ else none
    else
     bif Nat.blt pc 52 then
      if h : pc = 49 then some ⟨(.getfield 66, 52, .inl 0, 3, 0), by subst h; exact ⟨dX0_film_49, rfl, ⟨⟨_, rfl, by decide, _, Or.inl q885, Or.inl rfl⟩, (show mKd 0 3 ≤ 4 by decide)⟩⟩⟩ else none
     else
      bif Nat.blt pc 55 then
       if h : pc = 52 then some ⟨(.invokevirtual 515, 55, .inl 0, 193, 0), by subst h; exact ⟨dX0_film_52, rfl, ⟨by decide, q1237, q1238, q1239, _, rfl, rfl⟩⟩⟩ else none
      else
       if h : pc = 55 then some ⟨(.pop, 56, .inl 0, 0, 0), by subst h; exact ⟨dX0_film_55, rfl, trivial⟩⟩ else none
  else
   bif Nat.blt pc 71 then
    bif Nat.blt pc 63 then
     bif Nat.blt pc 59 then
      if h : pc = 56 then some ⟨(.iinc 3 1, 59, .inl 1, 0, 0), by subst h; exact ⟨dX0_film_56, rfl, ⟨(show (3 : Nat) < 5 by decide), 1, rfl, by decide⟩⟩⟩ else none
     else
      bif Nat.blt pc 62 then
       if h : pc = 59 then some ⟨(.goto (-23), 62, .inl 0, 36, 0), by subst h; exact ⟨dX0_film_59, rfl, (show ((59 : Nat) : Int) + ((-23)) = ((36 : Nat) : Int) by decide)⟩⟩ else none
      else
       if h : pc = 62 then some ⟨(.aload_n 0, 63, .inl 0, 0, 0), by subst h; exact ⟨dX0_film_62, rfl, trivial⟩⟩ else none
    else
     bif Nat.blt pc 66 then
      if h : pc = 63 then some ⟨(.invokevirtual 402, 66, .inl 0, 159, 0), by subst h; exact ⟨dX0_film_63, rfl, ⟨by decide, q1026, q1028, qs36, _, rfl, rfl⟩⟩⟩ else none
     else
      bif Nat.blt pc 69 then
       if h : pc = 66 then some ⟨(.goto 12, 69, .inl 0, 78, 0), by subst h; exact ⟨dX0_film_66, rfl, (show ((66 : Nat) : Int) + (12) = ((78 : Nat) : Int) by decide)⟩⟩ else none
      else
       if h : pc = 69 then some ⟨(.astore 4, 71, .inl 0, 0, 0), by subst h; exact ⟨dX0_film_69, rfl, (show (4 : Nat) < 5 by decide)⟩⟩ else none
   else
    bif Nat.blt pc 77 then
     bif Nat.blt pc 72 then
      if h : pc = 71 then some ⟨(.aload_n 0, 72, .inl 0, 0, 0), by subst h; exact ⟨dX0_film_71, rfl, trivial⟩⟩ else none
     else
      bif Nat.blt pc 75 then
       if h : pc = 72 then some ⟨(.invokevirtual 402, 75, .inl 0, 159, 0), by subst h; exact ⟨dX0_film_72, rfl, ⟨by decide, q1026, q1028, qs36, _, rfl, rfl⟩⟩⟩ else none
      else
       if h : pc = 75 then some ⟨(.aload 4, 77, .inl 0, 0, 0), by subst h; exact ⟨dX0_film_75, rfl, trivial⟩⟩ else none
    else
     bif Nat.blt pc 78 then
      if h : pc = 77 then some ⟨(.athrow, 78, .inl 0, 0, 0), by subst h; exact ⟨dX0_film_77, rfl, trivial⟩⟩ else none
     else
      bif Nat.blt pc 79 then
       if h : pc = 78 then some ⟨(.iload_n 2, 79, .inl 0, 0, 0), by subst h; exact ⟨dX0_film_78, rfl, trivial⟩⟩ else none
      else
       if h : pc = 79 then some ⟨(.ireturn, 80, .inl 0, 0, 0), by subst h; exact ⟨dX0_film_79, rfl, rfl⟩⟩ else none

noncomputable def mt191 (pc : Nat) : Option {e : mE // mOK yX0_sheet cX0_sheet 5 ((Option.some ClassFile.FieldType.int)) pc e} :=
 bif Nat.blt pc 40 then
  bif Nat.blt pc 22 then
   bif Nat.blt pc 9 then
    bif Nat.blt pc 4 then
     bif Nat.blt pc 1 then
      if h : pc = 0 then some ⟨(.iload_n 1, 1, .inl 0, 0, 0), by subst h; exact ⟨dX0_sheet_0, rfl, trivial⟩⟩ else none
     else
      if h : pc = 1 then some ⟨(.invokestatic 485, 4, .inl 0, 177, 0), by subst h; exact ⟨dX0_sheet_1, rfl, Or.inl ⟨by decide, q1113, q1114⟩⟩⟩ else none
    else
     bif Nat.blt pc 7 then
      if h : pc = 4 then some ⟨(.ifCond .eq 28, 7, .inl 0, 32, 0), by subst h; exact ⟨dX0_sheet_4, rfl, (show ((4 : Nat) : Int) + (28) = ((32 : Nat) : Int) by decide)⟩⟩ else none
     else
      bif Nat.blt pc 8 then
       if h : pc = 7 then some ⟨(.iload_n 2, 8, .inl 0, 0, 0), by subst h; exact ⟨dX0_sheet_7, rfl, trivial⟩⟩ else none
      else
       if h : pc = 8 then some ⟨(.i2l, 9, .inl 0, 0, 0), by subst h; exact ⟨dX0_sheet_8, rfl, trivial⟩⟩ else none
   else
    bif Nat.blt pc 15 then
     bif Nat.blt pc 12 then
      if h : pc = 9 then some ⟨(.ldc2_w 537, 12, .inr (.inl (-1)), 0, 0), by subst h; exact ⟨dX0_sheet_9, rfl, ⟨_, rfl, q1232⟩⟩⟩ else none
     else
      if h : pc = 12 then some ⟨(.ldc2_w 539, 15, .inr (.inl 2), 0, 0), by subst h; exact ⟨dX0_sheet_12, rfl, ⟨_, rfl, q1233⟩⟩⟩ else none
    else
     bif Nat.blt pc 18 then
      if h : pc = 15 then some ⟨(.invokestatic 16, 18, .inl 0, 108, 0), by subst h; exact ⟨dX0_sheet_15, rfl, Or.inl ⟨by decide, q167, q168⟩⟩⟩ else none
     else
      bif Nat.blt pc 21 then
       if h : pc = 18 then some ⟨(.ifCond .eq 14, 21, .inl 0, 32, 0), by subst h; exact ⟨dX0_sheet_18, rfl, (show ((18 : Nat) : Int) + (14) = ((32 : Nat) : Int) by decide)⟩⟩ else none
      else
       if h : pc = 21 then some ⟨(.iload_n 2, 22, .inl 0, 0, 0), by subst h; exact ⟨dX0_sheet_21, rfl, trivial⟩⟩ else none
  else
   bif Nat.blt pc 32 then
    bif Nat.blt pc 26 then
     bif Nat.blt pc 23 then
      if h : pc = 22 then some ⟨(.iconst (-1), 23, .inl (-1), 0, 0), by subst h; exact ⟨dX0_sheet_22, rfl, ⟨(-1), rfl, by decide⟩⟩⟩ else none
     else
      if h : pc = 23 then some ⟨(.if_icmp .eq 12, 26, .inl 0, 35, 0), by subst h; exact ⟨dX0_sheet_23, rfl, (show ((23 : Nat) : Int) + (12) = ((35 : Nat) : Int) by decide)⟩⟩ else none
    else
     bif Nat.blt pc 27 then
      if h : pc = 26 then some ⟨(.iload_n 3, 27, .inl 0, 0, 0), by subst h; exact ⟨dX0_sheet_26, rfl, trivial⟩⟩ else none
     else
      bif Nat.blt pc 29 then
       if h : pc = 27 then some ⟨(.bipush 40, 29, .inl 40, 0, 0), by subst h; exact ⟨dX0_sheet_27, rfl, ⟨40, rfl, by decide⟩⟩⟩ else none
      else
       if h : pc = 29 then some ⟨(.if_icmp .le 6, 32, .inl 0, 35, 0), by subst h; exact ⟨dX0_sheet_29, rfl, (show ((29 : Nat) : Int) + (6) = ((35 : Nat) : Int) by decide)⟩⟩ else none
   else
    bif Nat.blt pc 35 then
     bif Nat.blt pc 34 then
      if h : pc = 32 then some ⟨(.bipush (-2), 34, .inl (-2), 0, 0), by subst h; exact ⟨dX0_sheet_32, rfl, ⟨(-2), rfl, by decide⟩⟩⟩ else none
     else
      if h : pc = 34 then some ⟨(.ireturn, 35, .inl 0, 0, 0), by subst h; exact ⟨dX0_sheet_34, rfl, rfl⟩⟩ else none
    else
     bif Nat.blt pc 36 then
      if h : pc = 35 then some ⟨(.iload_n 2, 36, .inl 0, 0, 0), by subst h; exact ⟨dX0_sheet_35, rfl, trivial⟩⟩ else none
     else
      bif Nat.blt pc 37 then
       if h : pc = 36 then some ⟨(.iconst (-1), 37, .inl (-1), 0, 0), by subst h; exact ⟨dX0_sheet_36, rfl, ⟨(-1), rfl, by decide⟩⟩⟩ else none
      else
       if h : pc = 37 then some ⟨(.if_icmp .ne 15, 40, .inl 0, 52, 0), by subst h; exact ⟨dX0_sheet_37, rfl, (show ((37 : Nat) : Int) + (15) = ((52 : Nat) : Int) by decide)⟩⟩ else none
 else
  bif Nat.blt pc 56 then
   bif Nat.blt pc 47 then
    bif Nat.blt pc 44 then
     bif Nat.blt pc 41 then
      if h : pc = 40 then some ⟨(.aload_n 0, 41, .inl 0, 0, 0), by subst h; exact ⟨dX0_sheet_40, rfl, trivial⟩⟩ else none
     else
      if h : pc = 41 then some ⟨(.getfield 326, 44, .inr (.inr none), 31, 0), by subst h; exact ⟨dX0_sheet_41, rfl, ⟨⟨_, rfl, by decide, _, Or.inl q914, Or.inl rfl⟩, (show mKd 0 31 = 6 by rfl)⟩⟩⟩ else none
    else
     bif Nat.blt pc 45 then
      if h : pc = 44 then some ⟨(.iload_n 1, 45, .inl 0, 0, 0), by subst h; exact ⟨dX0_sheet_44, rfl, trivial⟩⟩ else none
     else
      bif Nat.blt pc 46 then
       if h : pc = 45 then some ⟨(.aaload, 46, .inl 0, 0, 0), by subst h; exact ⟨dX0_sheet_45, rfl, trivial⟩⟩ else none
      else
       if h : pc = 46 then some ⟨(.aconst_null, 47, .inl 0, 0, 0), by subst h; exact ⟨dX0_sheet_46, rfl, trivial⟩⟩ else none
   else
    bif Nat.blt pc 51 then
     bif Nat.blt pc 50 then
      if h : pc = 47 then some ⟨(.putfield 490, 50, .inr (.inr none), 0, 3), by subst h; exact ⟨dX0_sheet_47, rfl, ⟨⟨_, rfl, by decide, _, Or.inr ⟨"NobodyCanLiftIt", List.mem_of_getElem? (i := 0) rfl⟩, Or.inl rfl⟩, (show mKd 3 0 = 6 by rfl), by decide, by decide, (fun q h => Or.inl (by cases h; rfl))⟩⟩⟩ else none
     else
      if h : pc = 50 then some ⟨(.iconst 1, 51, .inl 1, 0, 0), by subst h; exact ⟨dX0_sheet_50, rfl, ⟨1, rfl, by decide⟩⟩⟩ else none
    else
     bif Nat.blt pc 52 then
      if h : pc = 51 then some ⟨(.ireturn, 52, .inl 0, 0, 0), by subst h; exact ⟨dX0_sheet_51, rfl, rfl⟩⟩ else none
     else
      bif Nat.blt pc 53 then
       if h : pc = 52 then some ⟨(.aload_n 0, 53, .inl 0, 0, 0), by subst h; exact ⟨dX0_sheet_52, rfl, trivial⟩⟩ else none
      else
       if h : pc = 53 then some ⟨(.getfield 326, 56, .inr (.inr none), 31, 0), by subst h; exact ⟨dX0_sheet_53, rfl, ⟨⟨_, rfl, by decide, _, Or.inl q914, Or.inl rfl⟩, (show mKd 0 31 = 6 by rfl)⟩⟩⟩ else none
  else
   bif Nat.blt pc 63 then
    bif Nat.blt pc 58 then
     bif Nat.blt pc 57 then
      if h : pc = 56 then some ⟨(.iload_n 1, 57, .inl 0, 0, 0), by subst h; exact ⟨dX0_sheet_56, rfl, trivial⟩⟩ else none
     else
      if h : pc = 57 then some ⟨(.aaload, 58, .inl 0, 0, 0), by subst h; exact ⟨dX0_sheet_57, rfl, trivial⟩⟩ else none
    else
     bif Nat.blt pc 59 then
      if h : pc = 58 then some ⟨(.iload_n 2, 59, .inl 0, 0, 0), by subst h; exact ⟨dX0_sheet_58, rfl, trivial⟩⟩ else none
     else
      bif Nat.blt pc 60 then
       if h : pc = 59 then some ⟨(.iload_n 3, 60, .inl 0, 0, 0), by subst h; exact ⟨dX0_sheet_59, rfl, trivial⟩⟩ else none
      else
       if h : pc = 60 then some ⟨(.invokestatic 541, 63, .inl 0, 192, 0), by subst h; exact ⟨dX0_sheet_60, rfl, Or.inl ⟨by decide, q1234, q1235⟩⟩⟩ else none
   else
    bif Nat.blt pc 68 then
     bif Nat.blt pc 66 then
      if h : pc = 63 then some ⟨(.putfield 490, 66, .inr (.inr none), 0, 3), by subst h; exact ⟨dX0_sheet_63, rfl, ⟨⟨_, rfl, by decide, _, Or.inr ⟨"NobodyCanLiftIt", List.mem_of_getElem? (i := 0) rfl⟩, Or.inl rfl⟩, (show mKd 3 0 = 6 by rfl), by decide, by decide, (fun q h => Or.inl (by cases h; rfl))⟩⟩⟩ else none
     else
      bif Nat.blt pc 67 then
       if h : pc = 66 then some ⟨(.iconst 1, 67, .inl 1, 0, 0), by subst h; exact ⟨dX0_sheet_66, rfl, ⟨1, rfl, by decide⟩⟩⟩ else none
      else
       if h : pc = 67 then some ⟨(.ireturn, 68, .inl 0, 0, 0), by subst h; exact ⟨dX0_sheet_67, rfl, rfl⟩⟩ else none
    else
     bif Nat.blt pc 70 then
      if h : pc = 68 then some ⟨(.astore 4, 70, .inl 0, 0, 0), by subst h; exact ⟨dX0_sheet_68, rfl, (show (4 : Nat) < 5 by decide)⟩⟩ else none
     else
      bif Nat.blt pc 72 then
       if h : pc = 70 then some ⟨(.bipush (-14), 72, .inl (-14), 0, 0), by subst h; exact ⟨dX0_sheet_70, rfl, ⟨(-14), rfl, by decide⟩⟩⟩ else none
      else
       if h : pc = 72 then some ⟨(.ireturn, 73, .inl 0, 0, 0), by subst h; exact ⟨dX0_sheet_72, rfl, rfl⟩⟩ else none

noncomputable def mt192 (pc : Nat) : Option {e : mE // mOK yX0_rowOf cX0_rowOf 2 ((Option.some (ClassFile.FieldType.object "java/lang/Object"))) pc e} :=
 bif Nat.blt pc 32 then
  bif Nat.blt pc 28 then
   bif Nat.blt pc 1 then
    if h : pc = 0 then some ⟨(.iload_n 0, 1, .inl 0, 0, 0), by subst h; exact ⟨dX0_rowOf_0, rfl, trivial⟩⟩ else none
   else
    if h : pc = 1 then some ⟨(.lookupswitch 35 #[(0, 27), (1, 31)], 1, .inl 0, 0, 0), by subst h; exact ⟨dX0_rowOf_1, rfl, ⟨rfl, by decide, rfl⟩⟩⟩ else none
  else
   bif Nat.blt pc 29 then
    if h : pc = 28 then some ⟨(.iload_n 1, 29, .inl 0, 0, 0), by subst h; exact ⟨dX0_rowOf_28, rfl, trivial⟩⟩ else none
   else
    bif Nat.blt pc 31 then
     if h : pc = 29 then some ⟨(.newarray .byte, 31, .inl 0, 1, 0), by subst h; exact ⟨dX0_rowOf_29, rfl, ⟨q689, rfl, by decide, by decide⟩⟩⟩ else none
    else
     if h : pc = 31 then some ⟨(.areturn, 32, .inl 0, 0, 0), by subst h; exact ⟨dX0_rowOf_31, rfl, ⟨_, rfl, Or.inl ⟨_, rfl⟩⟩⟩⟩ else none
 else
  bif Nat.blt pc 36 then
   bif Nat.blt pc 33 then
    if h : pc = 32 then some ⟨(.iload_n 1, 33, .inl 0, 0, 0), by subst h; exact ⟨dX0_rowOf_32, rfl, trivial⟩⟩ else none
   else
    bif Nat.blt pc 35 then
     if h : pc = 33 then some ⟨(.newarray .short, 35, .inl 0, 2, 0), by subst h; exact ⟨dX0_rowOf_33, rfl, ⟨q1281, rfl, by decide, by decide⟩⟩⟩ else none
    else
     if h : pc = 35 then some ⟨(.areturn, 36, .inl 0, 0, 0), by subst h; exact ⟨dX0_rowOf_35, rfl, ⟨_, rfl, Or.inl ⟨_, rfl⟩⟩⟩⟩ else none
  else
   bif Nat.blt pc 37 then
    if h : pc = 36 then some ⟨(.iload_n 1, 37, .inl 0, 0, 0), by subst h; exact ⟨dX0_rowOf_36, rfl, trivial⟩⟩ else none
   else
    bif Nat.blt pc 39 then
     if h : pc = 37 then some ⟨(.newarray .int, 39, .inl 0, 0, 0), by subst h; exact ⟨dX0_rowOf_37, rfl, ⟨q832, rfl, by decide, by decide⟩⟩⟩ else none
    else
     if h : pc = 39 then some ⟨(.areturn, 40, .inl 0, 0, 0), by subst h; exact ⟨dX0_rowOf_39, rfl, ⟨_, rfl, Or.inl ⟨_, rfl⟩⟩⟩⟩ else none

noncomputable def mt193 (pc : Nat) : Option {e : mE // mOK yX0_cell cX0_cell 5 ((Option.some ClassFile.FieldType.int)) pc e} :=
 bif Nat.blt pc 19 then
  bif Nat.blt pc 10 then
   bif Nat.blt pc 4 then
    bif Nat.blt pc 1 then
     if h : pc = 0 then some ⟨(.iload_n 1, 1, .inl 0, 0, 0), by subst h; exact ⟨dX0_cell_0, rfl, trivial⟩⟩ else none
    else
     if h : pc = 1 then some ⟨(.invokestatic 485, 4, .inl 0, 177, 0), by subst h; exact ⟨dX0_cell_1, rfl, Or.inl ⟨by decide, q1113, q1114⟩⟩⟩ else none
   else
    bif Nat.blt pc 7 then
     if h : pc = 4 then some ⟨(.ifCond .ne 6, 7, .inl 0, 10, 0), by subst h; exact ⟨dX0_cell_4, rfl, (show ((4 : Nat) : Int) + (6) = ((10 : Nat) : Int) by decide)⟩⟩ else none
    else
     bif Nat.blt pc 9 then
      if h : pc = 7 then some ⟨(.bipush (-2), 9, .inl (-2), 0, 0), by subst h; exact ⟨dX0_cell_7, rfl, ⟨(-2), rfl, by decide⟩⟩⟩ else none
     else
      if h : pc = 9 then some ⟨(.ireturn, 10, .inl 0, 0, 0), by subst h; exact ⟨dX0_cell_9, rfl, rfl⟩⟩ else none
  else
   bif Nat.blt pc 14 then
    bif Nat.blt pc 11 then
     if h : pc = 10 then some ⟨(.aload_n 0, 11, .inl 0, 0, 0), by subst h; exact ⟨dX0_cell_10, rfl, trivial⟩⟩ else none
    else
     if h : pc = 11 then some ⟨(.getfield 326, 14, .inr (.inr none), 31, 0), by subst h; exact ⟨dX0_cell_11, rfl, ⟨⟨_, rfl, by decide, _, Or.inl q914, Or.inl rfl⟩, (show mKd 0 31 = 6 by rfl)⟩⟩⟩ else none
   else
    bif Nat.blt pc 15 then
     if h : pc = 14 then some ⟨(.iload_n 1, 15, .inl 0, 0, 0), by subst h; exact ⟨dX0_cell_14, rfl, trivial⟩⟩ else none
    else
     bif Nat.blt pc 16 then
      if h : pc = 15 then some ⟨(.aaload, 16, .inl 0, 0, 0), by subst h; exact ⟨dX0_cell_15, rfl, trivial⟩⟩ else none
     else
      if h : pc = 16 then some ⟨(.getfield 490, 19, .inr (.inr none), 0, 3), by subst h; exact ⟨dX0_cell_16, rfl, ⟨⟨_, rfl, by decide, _, Or.inr ⟨"NobodyCanLiftIt", List.mem_of_getElem? (i := 0) rfl⟩, Or.inl rfl⟩, (show mKd 3 0 = 6 by rfl)⟩⟩⟩ else none
 else
  bif Nat.blt pc 27 then
   bif Nat.blt pc 21 then
    bif Nat.blt pc 20 then
     if h : pc = 19 then some ⟨(.iload_n 2, 20, .inl 0, 0, 0), by subst h; exact ⟨dX0_cell_19, rfl, trivial⟩⟩ else none
    else
     if h : pc = 20 then some ⟨(.iload_n 3, 21, .inl 0, 0, 0), by subst h; exact ⟨dX0_cell_20, rfl, trivial⟩⟩ else none
   else
    bif Nat.blt pc 24 then
     if h : pc = 21 then some ⟨(.invokestatic 554, 24, .inl 0, 194, 0), by subst h; exact ⟨dX0_cell_21, rfl, Or.inl ⟨by decide, q1278, q1279⟩⟩⟩ else none
    else
     bif Nat.blt pc 25 then
      if h : pc = 24 then some ⟨(.ireturn, 25, .inl 0, 0, 0), by subst h; exact ⟨dX0_cell_24, rfl, rfl⟩⟩ else none
     else
      if h : pc = 25 then some ⟨(.astore 4, 27, .inl 0, 0, 0), by subst h; exact ⟨dX0_cell_25, rfl, (show (4 : Nat) < 5 by decide)⟩⟩ else none
  else
   bif Nat.blt pc 30 then
    bif Nat.blt pc 29 then
     if h : pc = 27 then some ⟨(.bipush (-11), 29, .inl (-11), 0, 0), by subst h; exact ⟨dX0_cell_27, rfl, ⟨(-11), rfl, by decide⟩⟩⟩ else none
    else
     if h : pc = 29 then some ⟨(.ireturn, 30, .inl 0, 0, 0), by subst h; exact ⟨dX0_cell_29, rfl, rfl⟩⟩ else none
   else
    bif Nat.blt pc 32 then
     if h : pc = 30 then some ⟨(.astore 4, 32, .inl 0, 0, 0), by subst h; exact ⟨dX0_cell_30, rfl, (show (4 : Nat) < 5 by decide)⟩⟩ else none
    else
     bif Nat.blt pc 34 then
      if h : pc = 32 then some ⟨(.bipush (-12), 34, .inl (-12), 0, 0), by subst h; exact ⟨dX0_cell_32, rfl, ⟨(-12), rfl, by decide⟩⟩⟩ else none
     else
      if h : pc = 34 then some ⟨(.ireturn, 35, .inl 0, 0, 0), by subst h; exact ⟨dX0_cell_34, rfl, rfl⟩⟩ else none

noncomputable def mt194 (pc : Nat) : Option {e : mE // mOK yX0_put cX0_put 3 ((Option.some ClassFile.FieldType.int)) pc e} :=
 bif Nat.blt pc 39 then
  bif Nat.blt pc 20 then
   bif Nat.blt pc 9 then
    bif Nat.blt pc 4 then
     bif Nat.blt pc 1 then
      if h : pc = 0 then some ⟨(.aload_n 0, 1, .inl 0, 0, 0), by subst h; exact ⟨dX0_put_0, rfl, trivial⟩⟩ else none
     else
      if h : pc = 1 then some ⟨(.instanceof 547, 4, .inl 0, 51, 0), by subst h; exact ⟨dX0_put_1, rfl, ⟨by decide, by decide, q1121⟩⟩⟩ else none
    else
     bif Nat.blt pc 7 then
      if h : pc = 4 then some ⟨(.ifCond .eq 23, 7, .inl 0, 27, 0), by subst h; exact ⟨dX0_put_4, rfl, (show ((4 : Nat) : Int) + (23) = ((27 : Nat) : Int) by decide)⟩⟩ else none
     else
      bif Nat.blt pc 8 then
       if h : pc = 7 then some ⟨(.iload_n 1, 8, .inl 0, 0, 0), by subst h; exact ⟨dX0_put_7, rfl, trivial⟩⟩ else none
      else
       if h : pc = 8 then some ⟨(.aload_n 0, 9, .inl 0, 0, 0), by subst h; exact ⟨dX0_put_8, rfl, trivial⟩⟩ else none
   else
    bif Nat.blt pc 13 then
     bif Nat.blt pc 12 then
      if h : pc = 9 then some ⟨(.checkcast 547, 12, .inl 0, 51, 0), by subst h; exact ⟨dX0_put_9, rfl, Or.inl ⟨by decide, by decide, q1121⟩⟩⟩ else none
     else
      if h : pc = 12 then some ⟨(.arraylength, 13, .inl 0, 0, 0), by subst h; exact ⟨dX0_put_12, rfl, trivial⟩⟩ else none
    else
     bif Nat.blt pc 16 then
      if h : pc = 13 then some ⟨(.invokestatic 548, 16, .inl 0, 182, 0), by subst h; exact ⟨dX0_put_13, rfl, Or.inl ⟨by decide, q1134, q1135⟩⟩⟩ else none
     else
      bif Nat.blt pc 17 then
       if h : pc = 16 then some ⟨(.aload_n 0, 17, .inl 0, 0, 0), by subst h; exact ⟨dX0_put_16, rfl, trivial⟩⟩ else none
      else
       if h : pc = 17 then some ⟨(.checkcast 547, 20, .inl 0, 51, 0), by subst h; exact ⟨dX0_put_17, rfl, Or.inl ⟨by decide, by decide, q1121⟩⟩⟩ else none
  else
   bif Nat.blt pc 27 then
    bif Nat.blt pc 22 then
     bif Nat.blt pc 21 then
      if h : pc = 20 then some ⟨(.iload_n 1, 21, .inl 0, 0, 0), by subst h; exact ⟨dX0_put_20, rfl, trivial⟩⟩ else none
     else
      if h : pc = 21 then some ⟨(.iload_n 2, 22, .inl 0, 0, 0), by subst h; exact ⟨dX0_put_21, rfl, trivial⟩⟩ else none
    else
     bif Nat.blt pc 23 then
      if h : pc = 22 then some ⟨(.i2b, 23, .inl 0, 0, 0), by subst h; exact ⟨dX0_put_22, rfl, trivial⟩⟩ else none
     else
      bif Nat.blt pc 24 then
       if h : pc = 23 then some ⟨(.bastore, 24, .inl 0, 0, 0), by subst h; exact ⟨dX0_put_23, rfl, trivial⟩⟩ else none
      else
       if h : pc = 24 then some ⟨(.goto 46, 27, .inl 0, 70, 0), by subst h; exact ⟨dX0_put_24, rfl, (show ((24 : Nat) : Int) + (46) = ((70 : Nat) : Int) by decide)⟩⟩ else none
   else
    bif Nat.blt pc 34 then
     bif Nat.blt pc 28 then
      if h : pc = 27 then some ⟨(.aload_n 0, 28, .inl 0, 0, 0), by subst h; exact ⟨dX0_put_27, rfl, trivial⟩⟩ else none
     else
      bif Nat.blt pc 31 then
       if h : pc = 28 then some ⟨(.instanceof 551, 31, .inl 0, 52, 0), by subst h; exact ⟨dX0_put_28, rfl, ⟨by decide, by decide, q1122⟩⟩⟩ else none
      else
       if h : pc = 31 then some ⟨(.ifCond .eq 23, 34, .inl 0, 54, 0), by subst h; exact ⟨dX0_put_31, rfl, (show ((31 : Nat) : Int) + (23) = ((54 : Nat) : Int) by decide)⟩⟩ else none
    else
     bif Nat.blt pc 35 then
      if h : pc = 34 then some ⟨(.iload_n 1, 35, .inl 0, 0, 0), by subst h; exact ⟨dX0_put_34, rfl, trivial⟩⟩ else none
     else
      bif Nat.blt pc 36 then
       if h : pc = 35 then some ⟨(.aload_n 0, 36, .inl 0, 0, 0), by subst h; exact ⟨dX0_put_35, rfl, trivial⟩⟩ else none
      else
       if h : pc = 36 then some ⟨(.checkcast 551, 39, .inl 0, 52, 0), by subst h; exact ⟨dX0_put_36, rfl, Or.inl ⟨by decide, by decide, q1122⟩⟩⟩ else none
 else
  bif Nat.blt pc 55 then
   bif Nat.blt pc 48 then
    bif Nat.blt pc 43 then
     bif Nat.blt pc 40 then
      if h : pc = 39 then some ⟨(.arraylength, 40, .inl 0, 0, 0), by subst h; exact ⟨dX0_put_39, rfl, trivial⟩⟩ else none
     else
      if h : pc = 40 then some ⟨(.invokestatic 548, 43, .inl 0, 182, 0), by subst h; exact ⟨dX0_put_40, rfl, Or.inl ⟨by decide, q1134, q1135⟩⟩⟩ else none
    else
     bif Nat.blt pc 44 then
      if h : pc = 43 then some ⟨(.aload_n 0, 44, .inl 0, 0, 0), by subst h; exact ⟨dX0_put_43, rfl, trivial⟩⟩ else none
     else
      bif Nat.blt pc 47 then
       if h : pc = 44 then some ⟨(.checkcast 551, 47, .inl 0, 52, 0), by subst h; exact ⟨dX0_put_44, rfl, Or.inl ⟨by decide, by decide, q1122⟩⟩⟩ else none
      else
       if h : pc = 47 then some ⟨(.iload_n 1, 48, .inl 0, 0, 0), by subst h; exact ⟨dX0_put_47, rfl, trivial⟩⟩ else none
   else
    bif Nat.blt pc 50 then
     bif Nat.blt pc 49 then
      if h : pc = 48 then some ⟨(.iload_n 2, 49, .inl 0, 0, 0), by subst h; exact ⟨dX0_put_48, rfl, trivial⟩⟩ else none
     else
      if h : pc = 49 then some ⟨(.i2s, 50, .inl 0, 0, 0), by subst h; exact ⟨dX0_put_49, rfl, trivial⟩⟩ else none
    else
     bif Nat.blt pc 51 then
      if h : pc = 50 then some ⟨(.sastore, 51, .inl 0, 0, 0), by subst h; exact ⟨dX0_put_50, rfl, trivial⟩⟩ else none
     else
      bif Nat.blt pc 54 then
       if h : pc = 51 then some ⟨(.goto 19, 54, .inl 0, 70, 0), by subst h; exact ⟨dX0_put_51, rfl, (show ((51 : Nat) : Int) + (19) = ((70 : Nat) : Int) by decide)⟩⟩ else none
      else
       if h : pc = 54 then some ⟨(.iload_n 1, 55, .inl 0, 0, 0), by subst h; exact ⟨dX0_put_54, rfl, trivial⟩⟩ else none
  else
   bif Nat.blt pc 64 then
    bif Nat.blt pc 59 then
     bif Nat.blt pc 56 then
      if h : pc = 55 then some ⟨(.aload_n 0, 56, .inl 0, 0, 0), by subst h; exact ⟨dX0_put_55, rfl, trivial⟩⟩ else none
     else
      if h : pc = 56 then some ⟨(.checkcast 553, 59, .inl 0, 50, 0), by subst h; exact ⟨dX0_put_56, rfl, Or.inl ⟨by decide, by decide, q1126⟩⟩⟩ else none
    else
     bif Nat.blt pc 60 then
      if h : pc = 59 then some ⟨(.arraylength, 60, .inl 0, 0, 0), by subst h; exact ⟨dX0_put_59, rfl, trivial⟩⟩ else none
     else
      bif Nat.blt pc 63 then
       if h : pc = 60 then some ⟨(.invokestatic 548, 63, .inl 0, 182, 0), by subst h; exact ⟨dX0_put_60, rfl, Or.inl ⟨by decide, q1134, q1135⟩⟩⟩ else none
      else
       if h : pc = 63 then some ⟨(.aload_n 0, 64, .inl 0, 0, 0), by subst h; exact ⟨dX0_put_63, rfl, trivial⟩⟩ else none
   else
    bif Nat.blt pc 69 then
     bif Nat.blt pc 67 then
      if h : pc = 64 then some ⟨(.checkcast 553, 67, .inl 0, 50, 0), by subst h; exact ⟨dX0_put_64, rfl, Or.inl ⟨by decide, by decide, q1126⟩⟩⟩ else none
     else
      bif Nat.blt pc 68 then
       if h : pc = 67 then some ⟨(.iload_n 1, 68, .inl 0, 0, 0), by subst h; exact ⟨dX0_put_67, rfl, trivial⟩⟩ else none
      else
       if h : pc = 68 then some ⟨(.iload_n 2, 69, .inl 0, 0, 0), by subst h; exact ⟨dX0_put_68, rfl, trivial⟩⟩ else none
    else
     bif Nat.blt pc 70 then
      if h : pc = 69 then some ⟨(.iastore, 70, .inl 0, 0, 0), by subst h; exact ⟨dX0_put_69, rfl, trivial⟩⟩ else none
     else
      bif Nat.blt pc 71 then
       if h : pc = 70 then some ⟨(.iconst 1, 71, .inl 1, 0, 0), by subst h; exact ⟨dX0_put_70, rfl, ⟨1, rfl, by decide⟩⟩⟩ else none
      else
       if h : pc = 71 then some ⟨(.ireturn, 72, .inl 0, 0, 0), by subst h; exact ⟨dX0_put_71, rfl, rfl⟩⟩ else none

noncomputable def mt195 (pc : Nat) : Option {e : mE // mOK yX0_drawn cX0_drawn 3 ((Option.some ClassFile.FieldType.int)) pc e} :=
 bif Nat.blt pc 12 then
  bif Nat.blt pc 3 then
   bif Nat.blt pc 1 then
    if h : pc = 0 then some ⟨(.iload_n 2, 1, .inl 0, 0, 0), by subst h; exact ⟨dX0_drawn_0, rfl, trivial⟩⟩ else none
   else
    bif Nat.blt pc 2 then
     if h : pc = 1 then some ⟨(.i2l, 2, .inl 0, 0, 0), by subst h; exact ⟨dX0_drawn_1, rfl, trivial⟩⟩ else none
    else
     if h : pc = 2 then some ⟨(.lconst 0, 3, .inr (.inl 0), 0, 0), by subst h; exact ⟨dX0_drawn_2, rfl, ⟨0, rfl, by decide⟩⟩⟩ else none
  else
   bif Nat.blt pc 6 then
    if h : pc = 3 then some ⟨(.ldc2_w 448, 6, .inr (.inl 40), 0, 0), by subst h; exact ⟨dX0_drawn_3, rfl, ⟨_, rfl, q1095⟩⟩⟩ else none
   else
    bif Nat.blt pc 9 then
     if h : pc = 6 then some ⟨(.invokestatic 16, 9, .inl 0, 108, 0), by subst h; exact ⟨dX0_drawn_6, rfl, Or.inl ⟨by decide, q167, q168⟩⟩⟩ else none
    else
     if h : pc = 9 then some ⟨(.ifCond .eq 12, 12, .inl 0, 21, 0), by subst h; exact ⟨dX0_drawn_9, rfl, (show ((9 : Nat) : Int) + (12) = ((21 : Nat) : Int) by decide)⟩⟩ else none
 else
  bif Nat.blt pc 15 then
   bif Nat.blt pc 13 then
    if h : pc = 12 then some ⟨(.aload_n 0, 13, .inl 0, 0, 0), by subst h; exact ⟨dX0_drawn_12, rfl, trivial⟩⟩ else none
   else
    bif Nat.blt pc 14 then
     if h : pc = 13 then some ⟨(.iload_n 1, 14, .inl 0, 0, 0), by subst h; exact ⟨dX0_drawn_13, rfl, trivial⟩⟩ else none
    else
     if h : pc = 14 then some ⟨(.iload_n 2, 15, .inl 0, 0, 0), by subst h; exact ⟨dX0_drawn_14, rfl, trivial⟩⟩ else none
  else
   bif Nat.blt pc 21 then
    bif Nat.blt pc 18 then
     if h : pc = 15 then some ⟨(.invokevirtual 519, 18, .inl 0, 196, 0), by subst h; exact ⟨dX0_drawn_15, rfl, ⟨by decide, q1286, q1288, qs55, _, rfl, rfl⟩⟩⟩ else none
    else
     if h : pc = 18 then some ⟨(.goto 5, 21, .inl 0, 23, 0), by subst h; exact ⟨dX0_drawn_18, rfl, (show ((18 : Nat) : Int) + (5) = ((23 : Nat) : Int) by decide)⟩⟩ else none
   else
    bif Nat.blt pc 23 then
     if h : pc = 21 then some ⟨(.bipush (-2), 23, .inl (-2), 0, 0), by subst h; exact ⟨dX0_drawn_21, rfl, ⟨(-2), rfl, by decide⟩⟩⟩ else none
    else
     if h : pc = 23 then some ⟨(.ireturn, 24, .inl 0, 0, 0), by subst h; exact ⟨dX0_drawn_23, rfl, rfl⟩⟩ else none

noncomputable def mt196 (pc : Nat) : Option {e : mE // mOK yX0_onDrawn cX0_onDrawn 7 ((Option.some ClassFile.FieldType.int)) pc e} :=
 bif Nat.blt pc 47 then
  bif Nat.blt pc 23 then
   bif Nat.blt pc 9 then
    bif Nat.blt pc 3 then
     bif Nat.blt pc 1 then
      if h : pc = 0 then some ⟨(.iload_n 1, 1, .inl 0, 0, 0), by subst h; exact ⟨dX0_onDrawn_0, rfl, trivial⟩⟩ else none
     else
      bif Nat.blt pc 2 then
       if h : pc = 1 then some ⟨(.istore_n 3, 2, .inl 0, 0, 0), by subst h; exact ⟨dX0_onDrawn_1, rfl, (show (3 : Nat) < 7 by decide)⟩⟩ else none
      else
       if h : pc = 2 then some ⟨(.aload_n 0, 3, .inl 0, 0, 0), by subst h; exact ⟨dX0_onDrawn_2, rfl, trivial⟩⟩ else none
    else
     bif Nat.blt pc 6 then
      if h : pc = 3 then some ⟨(.invokevirtual 399, 6, .inl 0, 158, 0), by subst h; exact ⟨dX0_onDrawn_3, rfl, ⟨by decide, q1022, q1024, qs35, _, rfl, rfl⟩⟩⟩ else none
     else
      bif Nat.blt pc 7 then
       if h : pc = 6 then some ⟨(.iconst 0, 7, .inl 0, 0, 0), by subst h; exact ⟨dX0_onDrawn_6, rfl, ⟨0, rfl, by decide⟩⟩⟩ else none
      else
       if h : pc = 7 then some ⟨(.istore 4, 9, .inl 0, 0, 0), by subst h; exact ⟨dX0_onDrawn_7, rfl, (show (4 : Nat) < 7 by decide)⟩⟩ else none
   else
    bif Nat.blt pc 15 then
     bif Nat.blt pc 11 then
      if h : pc = 9 then some ⟨(.iload 4, 11, .inl 0, 0, 0), by subst h; exact ⟨dX0_onDrawn_9, rfl, trivial⟩⟩ else none
     else
      bif Nat.blt pc 12 then
       if h : pc = 11 then some ⟨(.iload_n 2, 12, .inl 0, 0, 0), by subst h; exact ⟨dX0_onDrawn_11, rfl, trivial⟩⟩ else none
      else
       if h : pc = 12 then some ⟨(.if_icmp .ge 69, 15, .inl 0, 81, 0), by subst h; exact ⟨dX0_onDrawn_12, rfl, (show ((12 : Nat) : Int) + (69) = ((81 : Nat) : Int) by decide)⟩⟩ else none
    else
     bif Nat.blt pc 19 then
      bif Nat.blt pc 16 then
       if h : pc = 15 then some ⟨(.iload_n 3, 16, .inl 0, 0, 0), by subst h; exact ⟨dX0_onDrawn_15, rfl, trivial⟩⟩ else none
      else
       if h : pc = 16 then some ⟨(.ldc_w 518, 19, .inl 1103515245, 0, 0), by subst h; exact ⟨dX0_onDrawn_16, rfl, Or.inl ⟨_, rfl, q1290⟩⟩⟩ else none
     else
      bif Nat.blt pc 20 then
       if h : pc = 19 then some ⟨(.imul, 20, .inl 0, 0, 0), by subst h; exact ⟨dX0_onDrawn_19, rfl, trivial⟩⟩ else none
      else
       if h : pc = 20 then some ⟨(.sipush 12345, 23, .inl 12345, 0, 0), by subst h; exact ⟨dX0_onDrawn_20, rfl, ⟨12345, rfl, by decide⟩⟩⟩ else none
  else
   bif Nat.blt pc 32 then
    bif Nat.blt pc 26 then
     bif Nat.blt pc 24 then
      if h : pc = 23 then some ⟨(.iadd, 24, .inl 0, 0, 0), by subst h; exact ⟨dX0_onDrawn_23, rfl, trivial⟩⟩ else none
     else
      bif Nat.blt pc 25 then
       if h : pc = 24 then some ⟨(.istore_n 3, 25, .inl 0, 0, 0), by subst h; exact ⟨dX0_onDrawn_24, rfl, (show (3 : Nat) < 7 by decide)⟩⟩ else none
      else
       if h : pc = 25 then some ⟨(.iload_n 3, 26, .inl 0, 0, 0), by subst h; exact ⟨dX0_onDrawn_25, rfl, trivial⟩⟩ else none
    else
     bif Nat.blt pc 29 then
      bif Nat.blt pc 28 then
       if h : pc = 26 then some ⟨(.bipush 9, 28, .inl 9, 0, 0), by subst h; exact ⟨dX0_onDrawn_26, rfl, ⟨9, rfl, by decide⟩⟩⟩ else none
      else
       if h : pc = 28 then some ⟨(.iushr, 29, .inl 0, 0, 0), by subst h; exact ⟨dX0_onDrawn_28, rfl, trivial⟩⟩ else none
     else
      bif Nat.blt pc 31 then
       if h : pc = 29 then some ⟨(.bipush 8, 31, .inl 8, 0, 0), by subst h; exact ⟨dX0_onDrawn_29, rfl, ⟨8, rfl, by decide⟩⟩⟩ else none
      else
       if h : pc = 31 then some ⟨(.irem, 32, .inl 0, 0, 0), by subst h; exact ⟨dX0_onDrawn_31, rfl, trivial⟩⟩ else none
   else
    bif Nat.blt pc 37 then
     bif Nat.blt pc 34 then
      if h : pc = 32 then some ⟨(.istore 5, 34, .inl 0, 0, 0), by subst h; exact ⟨dX0_onDrawn_32, rfl, (show (5 : Nat) < 7 by decide)⟩⟩ else none
     else
      bif Nat.blt pc 36 then
       if h : pc = 34 then some ⟨(.iload 5, 36, .inl 0, 0, 0), by subst h; exact ⟨dX0_onDrawn_34, rfl, trivial⟩⟩ else none
      else
       if h : pc = 36 then some ⟨(.aload_n 0, 37, .inl 0, 0, 0), by subst h; exact ⟨dX0_onDrawn_36, rfl, trivial⟩⟩ else none
    else
     bif Nat.blt pc 43 then
      bif Nat.blt pc 40 then
       if h : pc = 37 then some ⟨(.getfield 10, 40, .inl 0, 1, 0), by subst h; exact ⟨dX0_onDrawn_37, rfl, ⟨⟨_, rfl, by decide, _, Or.inl q881, Or.inl rfl⟩, (show mKd 0 1 ≤ 4 by decide)⟩⟩⟩ else none
      else
       if h : pc = 40 then some ⟨(.if_icmp .ge 31, 43, .inl 0, 71, 0), by subst h; exact ⟨dX0_onDrawn_40, rfl, (show ((40 : Nat) : Int) + (31) = ((71 : Nat) : Int) by decide)⟩⟩ else none
     else
      bif Nat.blt pc 44 then
       if h : pc = 43 then some ⟨(.aload_n 0, 44, .inl 0, 0, 0), by subst h; exact ⟨dX0_onDrawn_43, rfl, trivial⟩⟩ else none
      else
       if h : pc = 44 then some ⟨(.getfield 47, 47, .inr (.inr none), 0, 0), by subst h; exact ⟨dX0_onDrawn_44, rfl, ⟨⟨_, rfl, by decide, _, Or.inl q880, Or.inl rfl⟩, (show mKd 0 0 = 6 by rfl)⟩⟩⟩ else none
 else
  bif Nat.blt pc 75 then
   bif Nat.blt pc 60 then
    bif Nat.blt pc 51 then
     bif Nat.blt pc 49 then
      if h : pc = 47 then some ⟨(.iload 5, 49, .inl 0, 0, 0), by subst h; exact ⟨dX0_onDrawn_47, rfl, trivial⟩⟩ else none
     else
      bif Nat.blt pc 50 then
       if h : pc = 49 then some ⟨(.aaload, 50, .inl 0, 0, 0), by subst h; exact ⟨dX0_onDrawn_49, rfl, trivial⟩⟩ else none
      else
       if h : pc = 50 then some ⟨(.aload_n 0, 51, .inl 0, 0, 0), by subst h; exact ⟨dX0_onDrawn_50, rfl, trivial⟩⟩ else none
    else
     bif Nat.blt pc 56 then
      bif Nat.blt pc 54 then
       if h : pc = 51 then some ⟨(.getfield 47, 54, .inr (.inr none), 0, 0), by subst h; exact ⟨dX0_onDrawn_51, rfl, ⟨⟨_, rfl, by decide, _, Or.inl q880, Or.inl rfl⟩, (show mKd 0 0 = 6 by rfl)⟩⟩⟩ else none
      else
       if h : pc = 54 then some ⟨(.iload 5, 56, .inl 0, 0, 0), by subst h; exact ⟨dX0_onDrawn_54, rfl, trivial⟩⟩ else none
     else
      bif Nat.blt pc 57 then
       if h : pc = 56 then some ⟨(.aaload, 57, .inl 0, 0, 0), by subst h; exact ⟨dX0_onDrawn_56, rfl, trivial⟩⟩ else none
      else
       if h : pc = 57 then some ⟨(.getfield 81, 60, .inl 0, 3, 4), by subst h; exact ⟨dX0_onDrawn_57, rfl, ⟨⟨_, rfl, by decide, _, Or.inl q206, Or.inl rfl⟩, (show mKd 4 3 ≤ 4 by decide)⟩⟩⟩ else none
   else
    bif Nat.blt pc 67 then
     bif Nat.blt pc 63 then
      if h : pc = 60 then some ⟨(.ifCond .ne 7, 63, .inl 0, 67, 0), by subst h; exact ⟨dX0_onDrawn_60, rfl, (show ((60 : Nat) : Int) + (7) = ((67 : Nat) : Int) by decide)⟩⟩ else none
     else
      bif Nat.blt pc 64 then
       if h : pc = 63 then some ⟨(.iconst 1, 64, .inl 1, 0, 0), by subst h; exact ⟨dX0_onDrawn_63, rfl, ⟨1, rfl, by decide⟩⟩⟩ else none
      else
       if h : pc = 64 then some ⟨(.goto 4, 67, .inl 0, 68, 0), by subst h; exact ⟨dX0_onDrawn_64, rfl, (show ((64 : Nat) : Int) + (4) = ((68 : Nat) : Int) by decide)⟩⟩ else none
    else
     bif Nat.blt pc 71 then
      bif Nat.blt pc 68 then
       if h : pc = 67 then some ⟨(.iconst 0, 68, .inl 0, 0, 0), by subst h; exact ⟨dX0_onDrawn_67, rfl, ⟨0, rfl, by decide⟩⟩⟩ else none
      else
       if h : pc = 68 then some ⟨(.putfield 81, 71, .inl 0, 3, 104), by subst h; exact ⟨dX0_onDrawn_68, rfl, ⟨⟨_, rfl, by decide, _, Or.inl q206, Or.inl rfl⟩, (show mKd 4 3 ≤ 4 by decide), by decide, by decide, (fun q h => Or.inl (by cases h; rfl))⟩⟩⟩ else none
     else
      bif Nat.blt pc 72 then
       if h : pc = 71 then some ⟨(.aload_n 0, 72, .inl 0, 0, 0), by subst h; exact ⟨dX0_onDrawn_71, rfl, trivial⟩⟩ else none
      else
       if h : pc = 72 then some ⟨(.invokevirtual 390, 75, .inl 0, 154, 0), by subst h; exact ⟨dX0_onDrawn_72, rfl, ⟨by decide, q1005, q1007, qs33, _, rfl, rfl⟩⟩⟩ else none
  else
   bif Nat.blt pc 91 then
    bif Nat.blt pc 82 then
     bif Nat.blt pc 78 then
      if h : pc = 75 then some ⟨(.iinc 4 1, 78, .inl 1, 0, 0), by subst h; exact ⟨dX0_onDrawn_75, rfl, ⟨(show (4 : Nat) < 7 by decide), 1, rfl, by decide⟩⟩⟩ else none
     else
      bif Nat.blt pc 81 then
       if h : pc = 78 then some ⟨(.goto (-69), 81, .inl 0, 9, 0), by subst h; exact ⟨dX0_onDrawn_78, rfl, (show ((78 : Nat) : Int) + ((-69)) = ((9 : Nat) : Int) by decide)⟩⟩ else none
      else
       if h : pc = 81 then some ⟨(.aload_n 0, 82, .inl 0, 0, 0), by subst h; exact ⟨dX0_onDrawn_81, rfl, trivial⟩⟩ else none
    else
     bif Nat.blt pc 87 then
      bif Nat.blt pc 85 then
       if h : pc = 82 then some ⟨(.getfield 66, 85, .inl 0, 3, 0), by subst h; exact ⟨dX0_onDrawn_82, rfl, ⟨⟨_, rfl, by decide, _, Or.inl q885, Or.inl rfl⟩, (show mKd 0 3 ≤ 4 by decide)⟩⟩⟩ else none
      else
       if h : pc = 85 then some ⟨(.istore 4, 87, .inl 0, 0, 0), by subst h; exact ⟨dX0_onDrawn_85, rfl, (show (4 : Nat) < 7 by decide)⟩⟩ else none
     else
      bif Nat.blt pc 88 then
       if h : pc = 87 then some ⟨(.aload_n 0, 88, .inl 0, 0, 0), by subst h; exact ⟨dX0_onDrawn_87, rfl, trivial⟩⟩ else none
      else
       if h : pc = 88 then some ⟨(.invokevirtual 402, 91, .inl 0, 159, 0), by subst h; exact ⟨dX0_onDrawn_88, rfl, ⟨by decide, q1026, q1028, qs36, _, rfl, rfl⟩⟩⟩ else none
   else
    bif Nat.blt pc 96 then
     bif Nat.blt pc 93 then
      if h : pc = 91 then some ⟨(.iload 4, 93, .inl 0, 0, 0), by subst h; exact ⟨dX0_onDrawn_91, rfl, trivial⟩⟩ else none
     else
      bif Nat.blt pc 94 then
       if h : pc = 93 then some ⟨(.ireturn, 94, .inl 0, 0, 0), by subst h; exact ⟨dX0_onDrawn_93, rfl, rfl⟩⟩ else none
      else
       if h : pc = 94 then some ⟨(.astore 6, 96, .inl 0, 0, 0), by subst h; exact ⟨dX0_onDrawn_94, rfl, (show (6 : Nat) < 7 by decide)⟩⟩ else none
    else
     bif Nat.blt pc 100 then
      bif Nat.blt pc 97 then
       if h : pc = 96 then some ⟨(.aload_n 0, 97, .inl 0, 0, 0), by subst h; exact ⟨dX0_onDrawn_96, rfl, trivial⟩⟩ else none
      else
       if h : pc = 97 then some ⟨(.invokevirtual 402, 100, .inl 0, 159, 0), by subst h; exact ⟨dX0_onDrawn_97, rfl, ⟨by decide, q1026, q1028, qs36, _, rfl, rfl⟩⟩⟩ else none
     else
      bif Nat.blt pc 102 then
       if h : pc = 100 then some ⟨(.aload 6, 102, .inl 0, 0, 0), by subst h; exact ⟨dX0_onDrawn_100, rfl, trivial⟩⟩ else none
      else
       if h : pc = 102 then some ⟨(.athrow, 103, .inl 0, 0, 0), by subst h; exact ⟨dX0_onDrawn_102, rfl, trivial⟩⟩ else none

noncomputable def mt197 (pc : Nat) : Option {e : mE // mOK yX0_chance cX0_chance 8 ((Option.some ClassFile.FieldType.long)) pc e} :=
 bif Nat.blt pc 45 then
  bif Nat.blt pc 24 then
   bif Nat.blt pc 12 then
    bif Nat.blt pc 3 then
     bif Nat.blt pc 1 then
      if h : pc = 0 then some ⟨(.iload_n 2, 1, .inl 0, 0, 0), by subst h; exact ⟨dX0_chance_0, rfl, trivial⟩⟩ else none
     else
      bif Nat.blt pc 2 then
       if h : pc = 1 then some ⟨(.i2l, 2, .inl 0, 0, 0), by subst h; exact ⟨dX0_chance_1, rfl, trivial⟩⟩ else none
      else
       if h : pc = 2 then some ⟨(.lconst 1, 3, .inr (.inl 1), 0, 0), by subst h; exact ⟨dX0_chance_2, rfl, ⟨1, rfl, by decide⟩⟩⟩ else none
    else
     bif Nat.blt pc 6 then
      if h : pc = 3 then some ⟨(.ldc2_w 510, 6, .inr (.inl 20), 0, 0), by subst h; exact ⟨dX0_chance_3, rfl, ⟨_, rfl, q1200⟩⟩⟩ else none
     else
      bif Nat.blt pc 9 then
       if h : pc = 6 then some ⟨(.invokestatic 16, 9, .inl 0, 108, 0), by subst h; exact ⟨dX0_chance_6, rfl, Or.inl ⟨by decide, q167, q168⟩⟩⟩ else none
      else
       if h : pc = 9 then some ⟨(.ifCond .eq 26, 12, .inl 0, 35, 0), by subst h; exact ⟨dX0_chance_9, rfl, (show ((9 : Nat) : Int) + (26) = ((35 : Nat) : Int) by decide)⟩⟩ else none
   else
    bif Nat.blt pc 15 then
     bif Nat.blt pc 13 then
      if h : pc = 12 then some ⟨(.iload_n 3, 13, .inl 0, 0, 0), by subst h; exact ⟨dX0_chance_12, rfl, trivial⟩⟩ else none
     else
      bif Nat.blt pc 14 then
       if h : pc = 13 then some ⟨(.i2l, 14, .inl 0, 0, 0), by subst h; exact ⟨dX0_chance_13, rfl, trivial⟩⟩ else none
      else
       if h : pc = 14 then some ⟨(.lconst 0, 15, .inr (.inl 0), 0, 0), by subst h; exact ⟨dX0_chance_14, rfl, ⟨0, rfl, by decide⟩⟩⟩ else none
    else
     bif Nat.blt pc 18 then
      if h : pc = 15 then some ⟨(.ldc2_w 104, 18, .inr (.inl 10), 0, 0), by subst h; exact ⟨dX0_chance_15, rfl, ⟨_, rfl, q301⟩⟩⟩ else none
     else
      bif Nat.blt pc 21 then
       if h : pc = 18 then some ⟨(.invokestatic 16, 21, .inl 0, 108, 0), by subst h; exact ⟨dX0_chance_18, rfl, Or.inl ⟨by decide, q167, q168⟩⟩⟩ else none
      else
       if h : pc = 21 then some ⟨(.ifCond .eq 14, 24, .inl 0, 35, 0), by subst h; exact ⟨dX0_chance_21, rfl, (show ((21 : Nat) : Int) + (14) = ((35 : Nat) : Int) by decide)⟩⟩ else none
  else
   bif Nat.blt pc 35 then
    bif Nat.blt pc 28 then
     bif Nat.blt pc 26 then
      if h : pc = 24 then some ⟨(.iload 4, 26, .inl 0, 0, 0), by subst h; exact ⟨dX0_chance_24, rfl, trivial⟩⟩ else none
     else
      bif Nat.blt pc 27 then
       if h : pc = 26 then some ⟨(.i2l, 27, .inl 0, 0, 0), by subst h; exact ⟨dX0_chance_26, rfl, trivial⟩⟩ else none
      else
       if h : pc = 27 then some ⟨(.lconst 0, 28, .inr (.inl 0), 0, 0), by subst h; exact ⟨dX0_chance_27, rfl, ⟨0, rfl, by decide⟩⟩⟩ else none
    else
     bif Nat.blt pc 29 then
      if h : pc = 28 then some ⟨(.lconst 1, 29, .inr (.inl 1), 0, 0), by subst h; exact ⟨dX0_chance_28, rfl, ⟨1, rfl, by decide⟩⟩⟩ else none
     else
      bif Nat.blt pc 32 then
       if h : pc = 29 then some ⟨(.invokestatic 16, 32, .inl 0, 108, 0), by subst h; exact ⟨dX0_chance_29, rfl, Or.inl ⟨by decide, q167, q168⟩⟩⟩ else none
      else
       if h : pc = 32 then some ⟨(.ifCond .ne 7, 35, .inl 0, 39, 0), by subst h; exact ⟨dX0_chance_32, rfl, (show ((32 : Nat) : Int) + (7) = ((39 : Nat) : Int) by decide)⟩⟩ else none
   else
    bif Nat.blt pc 40 then
     bif Nat.blt pc 38 then
      if h : pc = 35 then some ⟨(.ldc2_w 384, 38, .inr (.inl (-4611686018427387904)), 0, 0), by subst h; exact ⟨dX0_chance_35, rfl, ⟨_, rfl, q992⟩⟩⟩ else none
     else
      bif Nat.blt pc 39 then
       if h : pc = 38 then some ⟨(.lreturn, 39, .inl 0, 0, 0), by subst h; exact ⟨dX0_chance_38, rfl, rfl⟩⟩ else none
      else
       if h : pc = 39 then some ⟨(.lconst 0, 40, .inr (.inl 0), 0, 0), by subst h; exact ⟨dX0_chance_39, rfl, ⟨0, rfl, by decide⟩⟩⟩ else none
    else
     bif Nat.blt pc 42 then
      if h : pc = 40 then some ⟨(.lstore 5, 42, .inl 0, 0, 0), by subst h; exact ⟨dX0_chance_40, rfl, (show (5 : Nat) + 1 < 8 by decide)⟩⟩ else none
     else
      bif Nat.blt pc 43 then
       if h : pc = 42 then some ⟨(.iconst 0, 43, .inl 0, 0, 0), by subst h; exact ⟨dX0_chance_42, rfl, ⟨0, rfl, by decide⟩⟩⟩ else none
      else
       if h : pc = 43 then some ⟨(.istore 7, 45, .inl 0, 0, 0), by subst h; exact ⟨dX0_chance_43, rfl, (show (7 : Nat) < 8 by decide)⟩⟩ else none
 else
  bif Nat.blt pc 67 then
   bif Nat.blt pc 55 then
    bif Nat.blt pc 51 then
     bif Nat.blt pc 47 then
      if h : pc = 45 then some ⟨(.iload 7, 47, .inl 0, 0, 0), by subst h; exact ⟨dX0_chance_45, rfl, trivial⟩⟩ else none
     else
      bif Nat.blt pc 48 then
       if h : pc = 47 then some ⟨(.iload_n 2, 48, .inl 0, 0, 0), by subst h; exact ⟨dX0_chance_47, rfl, trivial⟩⟩ else none
      else
       if h : pc = 48 then some ⟨(.if_icmp .ge 33, 51, .inl 0, 81, 0), by subst h; exact ⟨dX0_chance_48, rfl, (show ((48 : Nat) : Int) + (33) = ((81 : Nat) : Int) by decide)⟩⟩ else none
    else
     bif Nat.blt pc 53 then
      if h : pc = 51 then some ⟨(.lload 5, 53, .inl 0, 0, 0), by subst h; exact ⟨dX0_chance_51, rfl, trivial⟩⟩ else none
     else
      bif Nat.blt pc 54 then
       if h : pc = 53 then some ⟨(.aload_n 0, 54, .inl 0, 0, 0), by subst h; exact ⟨dX0_chance_53, rfl, trivial⟩⟩ else none
      else
       if h : pc = 54 then some ⟨(.iload_n 1, 55, .inl 0, 0, 0), by subst h; exact ⟨dX0_chance_54, rfl, trivial⟩⟩ else none
   else
    bif Nat.blt pc 60 then
     bif Nat.blt pc 57 then
      if h : pc = 55 then some ⟨(.iload 7, 57, .inl 0, 0, 0), by subst h; exact ⟨dX0_chance_55, rfl, trivial⟩⟩ else none
     else
      bif Nat.blt pc 58 then
       if h : pc = 57 then some ⟨(.iadd, 58, .inl 0, 0, 0), by subst h; exact ⟨dX0_chance_57, rfl, trivial⟩⟩ else none
      else
       if h : pc = 58 then some ⟨(.bipush 10, 60, .inl 10, 0, 0), by subst h; exact ⟨dX0_chance_58, rfl, ⟨10, rfl, by decide⟩⟩⟩ else none
    else
     bif Nat.blt pc 63 then
      if h : pc = 60 then some ⟨(.invokevirtual 519, 63, .inl 0, 196, 0), by subst h; exact ⟨dX0_chance_60, rfl, ⟨by decide, q1286, q1288, qs55, _, rfl, rfl⟩⟩⟩ else none
     else
      bif Nat.blt pc 64 then
       if h : pc = 63 then some ⟨(.iload_n 3, 64, .inl 0, 0, 0), by subst h; exact ⟨dX0_chance_63, rfl, trivial⟩⟩ else none
      else
       if h : pc = 64 then some ⟨(.if_icmp .lt 7, 67, .inl 0, 71, 0), by subst h; exact ⟨dX0_chance_64, rfl, (show ((64 : Nat) : Int) + (7) = ((71 : Nat) : Int) by decide)⟩⟩ else none
  else
   bif Nat.blt pc 78 then
    bif Nat.blt pc 72 then
     bif Nat.blt pc 68 then
      if h : pc = 67 then some ⟨(.lconst 1, 68, .inr (.inl 1), 0, 0), by subst h; exact ⟨dX0_chance_67, rfl, ⟨1, rfl, by decide⟩⟩⟩ else none
     else
      bif Nat.blt pc 71 then
       if h : pc = 68 then some ⟨(.goto 4, 71, .inl 0, 72, 0), by subst h; exact ⟨dX0_chance_68, rfl, (show ((68 : Nat) : Int) + (4) = ((72 : Nat) : Int) by decide)⟩⟩ else none
      else
       if h : pc = 71 then some ⟨(.lconst 0, 72, .inr (.inl 0), 0, 0), by subst h; exact ⟨dX0_chance_71, rfl, ⟨0, rfl, by decide⟩⟩⟩ else none
    else
     bif Nat.blt pc 73 then
      if h : pc = 72 then some ⟨(.ladd, 73, .inl 0, 0, 0), by subst h; exact ⟨dX0_chance_72, rfl, trivial⟩⟩ else none
     else
      bif Nat.blt pc 75 then
       if h : pc = 73 then some ⟨(.lstore 5, 75, .inl 0, 0, 0), by subst h; exact ⟨dX0_chance_73, rfl, (show (5 : Nat) + 1 < 8 by decide)⟩⟩ else none
      else
       if h : pc = 75 then some ⟨(.iinc 7 1, 78, .inl 1, 0, 0), by subst h; exact ⟨dX0_chance_75, rfl, ⟨(show (7 : Nat) < 8 by decide), 1, rfl, by decide⟩⟩⟩ else none
   else
    bif Nat.blt pc 84 then
     bif Nat.blt pc 81 then
      if h : pc = 78 then some ⟨(.goto (-33), 81, .inl 0, 45, 0), by subst h; exact ⟨dX0_chance_78, rfl, (show ((78 : Nat) : Int) + ((-33)) = ((45 : Nat) : Int) by decide)⟩⟩ else none
     else
      bif Nat.blt pc 83 then
       if h : pc = 81 then some ⟨(.lload 5, 83, .inl 0, 0, 0), by subst h; exact ⟨dX0_chance_81, rfl, trivial⟩⟩ else none
      else
       if h : pc = 83 then some ⟨(.iload_n 2, 84, .inl 0, 0, 0), by subst h; exact ⟨dX0_chance_83, rfl, trivial⟩⟩ else none
    else
     bif Nat.blt pc 87 then
      bif Nat.blt pc 85 then
       if h : pc = 84 then some ⟨(.i2l, 85, .inl 0, 0, 0), by subst h; exact ⟨dX0_chance_84, rfl, trivial⟩⟩ else none
      else
       if h : pc = 85 then some ⟨(.iload 4, 87, .inl 0, 0, 0), by subst h; exact ⟨dX0_chance_85, rfl, trivial⟩⟩ else none
     else
      bif Nat.blt pc 90 then
       if h : pc = 87 then some ⟨(.invokestatic 522, 90, .inl 0, 198, 0), by subst h; exact ⟨dX0_chance_87, rfl, Or.inl ⟨by decide, q1295, q1296⟩⟩⟩ else none
      else
       if h : pc = 90 then some ⟨(.lreturn, 91, .inl 0, 0, 0), by subst h; exact ⟨dX0_chance_90, rfl, rfl⟩⟩ else none

noncomputable def mt198 (pc : Nat) : Option {e : mE // mOK yX0_lowest cX0_lowest 11 ((Option.some ClassFile.FieldType.long)) pc e} :=
 bif Nat.blt pc 20 then
  bif Nat.blt pc 9 then
   bif Nat.blt pc 4 then
    bif Nat.blt pc 1 then
     if h : pc = 0 then some ⟨(.lload_n 0, 1, .inl 0, 0, 0), by subst h; exact ⟨dX0_lowest_0, rfl, trivial⟩⟩ else none
    else
     bif Nat.blt pc 3 then
      if h : pc = 1 then some ⟨(.lstore 5, 3, .inl 0, 0, 0), by subst h; exact ⟨dX0_lowest_1, rfl, (show (5 : Nat) + 1 < 11 by decide)⟩⟩ else none
     else
      if h : pc = 3 then some ⟨(.lload_n 2, 4, .inl 0, 0, 0), by subst h; exact ⟨dX0_lowest_3, rfl, trivial⟩⟩ else none
   else
    bif Nat.blt pc 6 then
     if h : pc = 4 then some ⟨(.lstore 7, 6, .inl 0, 0, 0), by subst h; exact ⟨dX0_lowest_4, rfl, (show (7 : Nat) + 1 < 11 by decide)⟩⟩ else none
    else
     bif Nat.blt pc 8 then
      if h : pc = 6 then some ⟨(.lload 7, 8, .inl 0, 0, 0), by subst h; exact ⟨dX0_lowest_6, rfl, trivial⟩⟩ else none
     else
      if h : pc = 8 then some ⟨(.lconst 0, 9, .inr (.inl 0), 0, 0), by subst h; exact ⟨dX0_lowest_8, rfl, ⟨0, rfl, by decide⟩⟩⟩ else none
  else
   bif Nat.blt pc 15 then
    bif Nat.blt pc 10 then
     if h : pc = 9 then some ⟨(.lcmp, 10, .inl 0, 0, 0), by subst h; exact ⟨dX0_lowest_9, rfl, trivial⟩⟩ else none
    else
     bif Nat.blt pc 13 then
      if h : pc = 10 then some ⟨(.ifCond .eq 21, 13, .inl 0, 31, 0), by subst h; exact ⟨dX0_lowest_10, rfl, (show ((10 : Nat) : Int) + (21) = ((31 : Nat) : Int) by decide)⟩⟩ else none
     else
      if h : pc = 13 then some ⟨(.lload 5, 15, .inl 0, 0, 0), by subst h; exact ⟨dX0_lowest_13, rfl, trivial⟩⟩ else none
   else
    bif Nat.blt pc 17 then
     if h : pc = 15 then some ⟨(.lload 7, 17, .inl 0, 0, 0), by subst h; exact ⟨dX0_lowest_15, rfl, trivial⟩⟩ else none
    else
     bif Nat.blt pc 18 then
      if h : pc = 17 then some ⟨(.lrem, 18, .inl 0, 0, 0), by subst h; exact ⟨dX0_lowest_17, rfl, trivial⟩⟩ else none
     else
      if h : pc = 18 then some ⟨(.lstore 9, 20, .inl 0, 0, 0), by subst h; exact ⟨dX0_lowest_18, rfl, (show (9 : Nat) + 1 < 11 by decide)⟩⟩ else none
 else
  bif Nat.blt pc 33 then
   bif Nat.blt pc 26 then
    bif Nat.blt pc 22 then
     if h : pc = 20 then some ⟨(.lload 7, 22, .inl 0, 0, 0), by subst h; exact ⟨dX0_lowest_20, rfl, trivial⟩⟩ else none
    else
     bif Nat.blt pc 24 then
      if h : pc = 22 then some ⟨(.lstore 5, 24, .inl 0, 0, 0), by subst h; exact ⟨dX0_lowest_22, rfl, (show (5 : Nat) + 1 < 11 by decide)⟩⟩ else none
     else
      if h : pc = 24 then some ⟨(.lload 9, 26, .inl 0, 0, 0), by subst h; exact ⟨dX0_lowest_24, rfl, trivial⟩⟩ else none
   else
    bif Nat.blt pc 28 then
     if h : pc = 26 then some ⟨(.lstore 7, 28, .inl 0, 0, 0), by subst h; exact ⟨dX0_lowest_26, rfl, (show (7 : Nat) + 1 < 11 by decide)⟩⟩ else none
    else
     bif Nat.blt pc 31 then
      if h : pc = 28 then some ⟨(.goto (-22), 31, .inl 0, 6, 0), by subst h; exact ⟨dX0_lowest_28, rfl, (show ((28 : Nat) : Int) + ((-22)) = ((6 : Nat) : Int) by decide)⟩⟩ else none
     else
      if h : pc = 31 then some ⟨(.iload 4, 33, .inl 0, 0, 0), by subst h; exact ⟨dX0_lowest_31, rfl, trivial⟩⟩ else none
  else
   bif Nat.blt pc 40 then
    bif Nat.blt pc 36 then
     if h : pc = 33 then some ⟨(.ifCond .ne 7, 36, .inl 0, 40, 0), by subst h; exact ⟨dX0_lowest_33, rfl, (show ((33 : Nat) : Int) + (7) = ((40 : Nat) : Int) by decide)⟩⟩ else none
    else
     bif Nat.blt pc 37 then
      if h : pc = 36 then some ⟨(.lload_n 0, 37, .inl 0, 0, 0), by subst h; exact ⟨dX0_lowest_36, rfl, trivial⟩⟩ else none
     else
      if h : pc = 37 then some ⟨(.goto 4, 40, .inl 0, 41, 0), by subst h; exact ⟨dX0_lowest_37, rfl, (show ((37 : Nat) : Int) + (4) = ((41 : Nat) : Int) by decide)⟩⟩ else none
   else
    bif Nat.blt pc 43 then
     bif Nat.blt pc 41 then
      if h : pc = 40 then some ⟨(.lload_n 2, 41, .inl 0, 0, 0), by subst h; exact ⟨dX0_lowest_40, rfl, trivial⟩⟩ else none
     else
      if h : pc = 41 then some ⟨(.lload 5, 43, .inl 0, 0, 0), by subst h; exact ⟨dX0_lowest_41, rfl, trivial⟩⟩ else none
    else
     bif Nat.blt pc 44 then
      if h : pc = 43 then some ⟨(.ldiv, 44, .inl 0, 0, 0), by subst h; exact ⟨dX0_lowest_43, rfl, trivial⟩⟩ else none
     else
      if h : pc = 44 then some ⟨(.lreturn, 45, .inl 0, 0, 0), by subst h; exact ⟨dX0_lowest_44, rfl, rfl⟩⟩ else none

noncomputable def mt199 (pc : Nat) : Option {e : mE // mOK yX0_image cX0_image 3 ((Option.some ClassFile.FieldType.int)) pc e} :=
 bif Nat.blt pc 51 then
  bif Nat.blt pc 27 then
   bif Nat.blt pc 15 then
    bif Nat.blt pc 6 then
     bif Nat.blt pc 4 then
      bif Nat.blt pc 1 then
       if h : pc = 0 then some ⟨(.aload_n 0, 1, .inl 0, 0, 0), by subst h; exact ⟨dX0_image_0, rfl, trivial⟩⟩ else none
      else
       if h : pc = 1 then some ⟨(.getfield 62, 4, .inr (.inr none), 4, 0), by subst h; exact ⟨dX0_image_1, rfl, ⟨⟨_, rfl, by decide, _, Or.inl q886, Or.inl rfl⟩, (show mKd 0 4 = 6 by rfl)⟩⟩⟩ else none
     else
      bif Nat.blt pc 5 then
       if h : pc = 4 then some ⟨(.iconst 0, 5, .inl 0, 0, 0), by subst h; exact ⟨dX0_image_4, rfl, ⟨0, rfl, by decide⟩⟩⟩ else none
      else
       if h : pc = 5 then some ⟨(.aload_n 0, 6, .inl 0, 0, 0), by subst h; exact ⟨dX0_image_5, rfl, trivial⟩⟩ else none
    else
     bif Nat.blt pc 10 then
      bif Nat.blt pc 9 then
       if h : pc = 6 then some ⟨(.getfield 314, 9, .inr (.inr none), 28, 0), by subst h; exact ⟨dX0_image_6, rfl, ⟨⟨_, rfl, by decide, _, Or.inl q911, Or.inl rfl⟩, (show mKd 0 28 = 6 by rfl)⟩⟩⟩ else none
      else
       if h : pc = 9 then some ⟨(.iconst 0, 10, .inl 0, 0, 0), by subst h; exact ⟨dX0_image_9, rfl, ⟨0, rfl, by decide⟩⟩⟩ else none
     else
      bif Nat.blt pc 12 then
       if h : pc = 10 then some ⟨(.bipush 10, 12, .inl 10, 0, 0), by subst h; exact ⟨dX0_image_10, rfl, ⟨10, rfl, by decide⟩⟩⟩ else none
      else
       if h : pc = 12 then some ⟨(.invokestatic 526, 15, .inl 0, 998, 0), by subst h; exact ⟨dX0_image_12, rfl, Or.inr (Or.inr ⟨rfl, q1302, q1304, q1303, q160⟩)⟩⟩ else none
   else
    bif Nat.blt pc 19 then
     bif Nat.blt pc 17 then
      bif Nat.blt pc 16 then
       if h : pc = 15 then some ⟨(.iconst 0, 16, .inl 0, 0, 0), by subst h; exact ⟨dX0_image_15, rfl, ⟨0, rfl, by decide⟩⟩⟩ else none
      else
       if h : pc = 16 then some ⟨(.istore_n 1, 17, .inl 0, 0, 0), by subst h; exact ⟨dX0_image_16, rfl, (show (1 : Nat) < 3 by decide)⟩⟩ else none
     else
      bif Nat.blt pc 18 then
       if h : pc = 17 then some ⟨(.iload_n 1, 18, .inl 0, 0, 0), by subst h; exact ⟨dX0_image_17, rfl, trivial⟩⟩ else none
      else
       if h : pc = 18 then some ⟨(.aload_n 0, 19, .inl 0, 0, 0), by subst h; exact ⟨dX0_image_18, rfl, trivial⟩⟩ else none
    else
     bif Nat.blt pc 25 then
      bif Nat.blt pc 22 then
       if h : pc = 19 then some ⟨(.getfield 10, 22, .inl 0, 1, 0), by subst h; exact ⟨dX0_image_19, rfl, ⟨⟨_, rfl, by decide, _, Or.inl q881, Or.inl rfl⟩, (show mKd 0 1 ≤ 4 by decide)⟩⟩⟩ else none
      else
       if h : pc = 22 then some ⟨(.if_icmp .ge 38, 25, .inl 0, 60, 0), by subst h; exact ⟨dX0_image_22, rfl, (show ((22 : Nat) : Int) + (38) = ((60 : Nat) : Int) by decide)⟩⟩ else none
     else
      bif Nat.blt pc 26 then
       if h : pc = 25 then some ⟨(.iconst 0, 26, .inl 0, 0, 0), by subst h; exact ⟨dX0_image_25, rfl, ⟨0, rfl, by decide⟩⟩⟩ else none
      else
       if h : pc = 26 then some ⟨(.istore_n 2, 27, .inl 0, 0, 0), by subst h; exact ⟨dX0_image_26, rfl, (show (2 : Nat) < 3 by decide)⟩⟩ else none
  else
   bif Nat.blt pc 39 then
    bif Nat.blt pc 33 then
     bif Nat.blt pc 29 then
      bif Nat.blt pc 28 then
       if h : pc = 27 then some ⟨(.iload_n 2, 28, .inl 0, 0, 0), by subst h; exact ⟨dX0_image_27, rfl, trivial⟩⟩ else none
      else
       if h : pc = 28 then some ⟨(.iconst 4, 29, .inl 4, 0, 0), by subst h; exact ⟨dX0_image_28, rfl, ⟨4, rfl, by decide⟩⟩⟩ else none
     else
      bif Nat.blt pc 32 then
       if h : pc = 29 then some ⟨(.if_icmp .ge 25, 32, .inl 0, 54, 0), by subst h; exact ⟨dX0_image_29, rfl, (show ((29 : Nat) : Int) + (25) = ((54 : Nat) : Int) by decide)⟩⟩ else none
      else
       if h : pc = 32 then some ⟨(.aload_n 0, 33, .inl 0, 0, 0), by subst h; exact ⟨dX0_image_32, rfl, trivial⟩⟩ else none
    else
     bif Nat.blt pc 37 then
      bif Nat.blt pc 36 then
       if h : pc = 33 then some ⟨(.getfield 317, 36, .inr (.inr none), 29, 0), by subst h; exact ⟨dX0_image_33, rfl, ⟨⟨_, rfl, by decide, _, Or.inl q912, Or.inl rfl⟩, (show mKd 0 29 = 6 by rfl)⟩⟩⟩ else none
      else
       if h : pc = 36 then some ⟨(.iload_n 2, 37, .inl 0, 0, 0), by subst h; exact ⟨dX0_image_36, rfl, trivial⟩⟩ else none
     else
      bif Nat.blt pc 38 then
       if h : pc = 37 then some ⟨(.aaload, 38, .inl 0, 0, 0), by subst h; exact ⟨dX0_image_37, rfl, trivial⟩⟩ else none
      else
       if h : pc = 38 then some ⟨(.iload_n 1, 39, .inl 0, 0, 0), by subst h; exact ⟨dX0_image_38, rfl, trivial⟩⟩ else none
   else
    bif Nat.blt pc 43 then
     bif Nat.blt pc 41 then
      bif Nat.blt pc 40 then
       if h : pc = 39 then some ⟨(.aload_n 0, 40, .inl 0, 0, 0), by subst h; exact ⟨dX0_image_39, rfl, trivial⟩⟩ else none
      else
       if h : pc = 40 then some ⟨(.iconst 3, 41, .inl 3, 0, 0), by subst h; exact ⟨dX0_image_40, rfl, ⟨3, rfl, by decide⟩⟩⟩ else none
     else
      bif Nat.blt pc 42 then
       if h : pc = 41 then some ⟨(.iload_n 2, 42, .inl 0, 0, 0), by subst h; exact ⟨dX0_image_41, rfl, trivial⟩⟩ else none
      else
       if h : pc = 42 then some ⟨(.iadd, 43, .inl 0, 0, 0), by subst h; exact ⟨dX0_image_42, rfl, trivial⟩⟩ else none
    else
     bif Nat.blt pc 47 then
      bif Nat.blt pc 44 then
       if h : pc = 43 then some ⟨(.iload_n 1, 44, .inl 0, 0, 0), by subst h; exact ⟨dX0_image_43, rfl, trivial⟩⟩ else none
      else
       if h : pc = 44 then some ⟨(.invokevirtual 95, 47, .inl 0, 115, 0), by subst h; exact ⟨dX0_image_44, rfl, ⟨by decide, q288, q290, qs2, _, rfl, rfl⟩⟩⟩ else none
     else
      bif Nat.blt pc 48 then
       if h : pc = 47 then some ⟨(.iastore, 48, .inl 0, 0, 0), by subst h; exact ⟨dX0_image_47, rfl, trivial⟩⟩ else none
      else
       if h : pc = 48 then some ⟨(.iinc 2 1, 51, .inl 1, 0, 0), by subst h; exact ⟨dX0_image_48, rfl, ⟨(show (2 : Nat) < 3 by decide), 1, rfl, by decide⟩⟩⟩ else none
 else
  bif Nat.blt pc 81 then
   bif Nat.blt pc 69 then
    bif Nat.blt pc 61 then
     bif Nat.blt pc 57 then
      bif Nat.blt pc 54 then
       if h : pc = 51 then some ⟨(.goto (-24), 54, .inl 0, 27, 0), by subst h; exact ⟨dX0_image_51, rfl, (show ((51 : Nat) : Int) + ((-24)) = ((27 : Nat) : Int) by decide)⟩⟩ else none
      else
       if h : pc = 54 then some ⟨(.iinc 1 1, 57, .inl 1, 0, 0), by subst h; exact ⟨dX0_image_54, rfl, ⟨(show (1 : Nat) < 3 by decide), 1, rfl, by decide⟩⟩⟩ else none
     else
      bif Nat.blt pc 60 then
       if h : pc = 57 then some ⟨(.goto (-40), 60, .inl 0, 17, 0), by subst h; exact ⟨dX0_image_57, rfl, (show ((57 : Nat) : Int) + ((-40)) = ((17 : Nat) : Int) by decide)⟩⟩ else none
      else
       if h : pc = 60 then some ⟨(.aload_n 0, 61, .inl 0, 0, 0), by subst h; exact ⟨dX0_image_60, rfl, trivial⟩⟩ else none
    else
     bif Nat.blt pc 65 then
      bif Nat.blt pc 64 then
       if h : pc = 61 then some ⟨(.getfield 320, 64, .inr (.inr none), 30, 0), by subst h; exact ⟨dX0_image_61, rfl, ⟨⟨_, rfl, by decide, _, Or.inl q913, Or.inl rfl⟩, (show mKd 0 30 = 6 by rfl)⟩⟩⟩ else none
      else
       if h : pc = 64 then some ⟨(.iconst 0, 65, .inl 0, 0, 0), by subst h; exact ⟨dX0_image_64, rfl, ⟨0, rfl, by decide⟩⟩⟩ else none
     else
      bif Nat.blt pc 66 then
       if h : pc = 65 then some ⟨(.aload_n 0, 66, .inl 0, 0, 0), by subst h; exact ⟨dX0_image_65, rfl, trivial⟩⟩ else none
      else
       if h : pc = 66 then some ⟨(.getfield 10, 69, .inl 0, 1, 0), by subst h; exact ⟨dX0_image_66, rfl, ⟨⟨_, rfl, by decide, _, Or.inl q881, Or.inl rfl⟩, (show mKd 0 1 ≤ 4 by decide)⟩⟩⟩ else none
   else
    bif Nat.blt pc 75 then
     bif Nat.blt pc 71 then
      bif Nat.blt pc 70 then
       if h : pc = 69 then some ⟨(.iastore, 70, .inl 0, 0, 0), by subst h; exact ⟨dX0_image_69, rfl, trivial⟩⟩ else none
      else
       if h : pc = 70 then some ⟨(.aload_n 0, 71, .inl 0, 0, 0), by subst h; exact ⟨dX0_image_70, rfl, trivial⟩⟩ else none
     else
      bif Nat.blt pc 74 then
       if h : pc = 71 then some ⟨(.getfield 320, 74, .inr (.inr none), 30, 0), by subst h; exact ⟨dX0_image_71, rfl, ⟨⟨_, rfl, by decide, _, Or.inl q913, Or.inl rfl⟩, (show mKd 0 30 = 6 by rfl)⟩⟩⟩ else none
      else
       if h : pc = 74 then some ⟨(.iconst 1, 75, .inl 1, 0, 0), by subst h; exact ⟨dX0_image_74, rfl, ⟨1, rfl, by decide⟩⟩⟩ else none
    else
     bif Nat.blt pc 79 then
      bif Nat.blt pc 76 then
       if h : pc = 75 then some ⟨(.aload_n 0, 76, .inl 0, 0, 0), by subst h; exact ⟨dX0_image_75, rfl, trivial⟩⟩ else none
      else
       if h : pc = 76 then some ⟨(.getfield 66, 79, .inl 0, 3, 0), by subst h; exact ⟨dX0_image_76, rfl, ⟨⟨_, rfl, by decide, _, Or.inl q885, Or.inl rfl⟩, (show mKd 0 3 ≤ 4 by decide)⟩⟩⟩ else none
     else
      bif Nat.blt pc 80 then
       if h : pc = 79 then some ⟨(.iastore, 80, .inl 0, 0, 0), by subst h; exact ⟨dX0_image_79, rfl, trivial⟩⟩ else none
      else
       if h : pc = 80 then some ⟨(.aload_n 0, 81, .inl 0, 0, 0), by subst h; exact ⟨dX0_image_80, rfl, trivial⟩⟩ else none
  else
   bif Nat.blt pc 95 then
    bif Nat.blt pc 89 then
     bif Nat.blt pc 85 then
      bif Nat.blt pc 84 then
       if h : pc = 81 then some ⟨(.getfield 320, 84, .inr (.inr none), 30, 0), by subst h; exact ⟨dX0_image_81, rfl, ⟨⟨_, rfl, by decide, _, Or.inl q913, Or.inl rfl⟩, (show mKd 0 30 = 6 by rfl)⟩⟩⟩ else none
      else
       if h : pc = 84 then some ⟨(.iconst 2, 85, .inl 2, 0, 0), by subst h; exact ⟨dX0_image_84, rfl, ⟨2, rfl, by decide⟩⟩⟩ else none
     else
      bif Nat.blt pc 86 then
       if h : pc = 85 then some ⟨(.aload_n 0, 86, .inl 0, 0, 0), by subst h; exact ⟨dX0_image_85, rfl, trivial⟩⟩ else none
      else
       if h : pc = 86 then some ⟨(.getfield 69, 89, .inl 0, 2, 0), by subst h; exact ⟨dX0_image_86, rfl, ⟨⟨_, rfl, by decide, _, Or.inl q883, Or.inl rfl⟩, (show mKd 0 2 ≤ 4 by decide)⟩⟩⟩ else none
    else
     bif Nat.blt pc 91 then
      bif Nat.blt pc 90 then
       if h : pc = 89 then some ⟨(.iastore, 90, .inl 0, 0, 0), by subst h; exact ⟨dX0_image_89, rfl, trivial⟩⟩ else none
      else
       if h : pc = 90 then some ⟨(.aload_n 0, 91, .inl 0, 0, 0), by subst h; exact ⟨dX0_image_90, rfl, trivial⟩⟩ else none
     else
      bif Nat.blt pc 94 then
       if h : pc = 91 then some ⟨(.getfield 320, 94, .inr (.inr none), 30, 0), by subst h; exact ⟨dX0_image_91, rfl, ⟨⟨_, rfl, by decide, _, Or.inl q913, Or.inl rfl⟩, (show mKd 0 30 = 6 by rfl)⟩⟩⟩ else none
      else
       if h : pc = 94 then some ⟨(.iconst 3, 95, .inl 3, 0, 0), by subst h; exact ⟨dX0_image_94, rfl, ⟨3, rfl, by decide⟩⟩⟩ else none
   else
    bif Nat.blt pc 101 then
     bif Nat.blt pc 99 then
      bif Nat.blt pc 96 then
       if h : pc = 95 then some ⟨(.aload_n 0, 96, .inl 0, 0, 0), by subst h; exact ⟨dX0_image_95, rfl, trivial⟩⟩ else none
      else
       if h : pc = 96 then some ⟨(.getfield 339, 99, .inl 0, 19, 0), by subst h; exact ⟨dX0_image_96, rfl, ⟨⟨_, rfl, by decide, _, Or.inl q902, Or.inl rfl⟩, (show mKd 0 19 ≤ 4 by decide)⟩⟩⟩ else none
     else
      bif Nat.blt pc 100 then
       if h : pc = 99 then some ⟨(.iastore, 100, .inl 0, 0, 0), by subst h; exact ⟨dX0_image_99, rfl, trivial⟩⟩ else none
      else
       if h : pc = 100 then some ⟨(.aload_n 0, 101, .inl 0, 0, 0), by subst h; exact ⟨dX0_image_100, rfl, trivial⟩⟩ else none
    else
     bif Nat.blt pc 105 then
      bif Nat.blt pc 102 then
       if h : pc = 101 then some ⟨(.iconst 1, 102, .inl 1, 0, 0), by subst h; exact ⟨dX0_image_101, rfl, ⟨1, rfl, by decide⟩⟩⟩ else none
      else
       if h : pc = 102 then some ⟨(.putfield 532, 105, .inl 0, 27, 100), by subst h; exact ⟨dX0_image_102, rfl, ⟨⟨_, rfl, by decide, _, Or.inl q910, Or.inl rfl⟩, (show mKd 0 27 ≤ 4 by decide), by decide, by decide, (fun q h => Or.inl (by cases h; rfl))⟩⟩⟩ else none
     else
      bif Nat.blt pc 106 then
       if h : pc = 105 then some ⟨(.aload_n 0, 106, .inl 0, 0, 0), by subst h; exact ⟨dX0_image_105, rfl, trivial⟩⟩ else none
      else
       bif Nat.blt pc 109 then
        if h : pc = 106 then some ⟨(.getfield 10, 109, .inl 0, 1, 0), by subst h; exact ⟨dX0_image_106, rfl, ⟨⟨_, rfl, by decide, _, Or.inl q881, Or.inl rfl⟩, (show mKd 0 1 ≤ 4 by decide)⟩⟩⟩ else none
       else
        if h : pc = 109 then some ⟨(.ireturn, 110, .inl 0, 0, 0), by subst h; exact ⟨dX0_image_109, rfl, rfl⟩⟩ else none

noncomputable def mt200 (pc : Nat) : Option {e : mE // mOK yX0_back cX0_back 3 ((Option.some ClassFile.FieldType.int)) pc e} :=
 bif Nat.blt pc 57 then
  bif Nat.blt pc 30 then
   bif Nat.blt pc 15 then
    bif Nat.blt pc 9 then
     bif Nat.blt pc 4 then
      bif Nat.blt pc 1 then
       if h : pc = 0 then some ⟨(.aload_n 0, 1, .inl 0, 0, 0), by subst h; exact ⟨dX0_back_0, rfl, trivial⟩⟩ else none
      else
       if h : pc = 1 then some ⟨(.getfield 532, 4, .inl 0, 27, 0), by subst h; exact ⟨dX0_back_1, rfl, ⟨⟨_, rfl, by decide, _, Or.inl q910, Or.inl rfl⟩, (show mKd 0 27 ≤ 4 by decide)⟩⟩⟩ else none
     else
      bif Nat.blt pc 7 then
       if h : pc = 4 then some ⟨(.ifCond .ne 6, 7, .inl 0, 10, 0), by subst h; exact ⟨dX0_back_4, rfl, (show ((4 : Nat) : Int) + (6) = ((10 : Nat) : Int) by decide)⟩⟩ else none
      else
       if h : pc = 7 then some ⟨(.bipush (-3), 9, .inl (-3), 0, 0), by subst h; exact ⟨dX0_back_7, rfl, ⟨(-3), rfl, by decide⟩⟩⟩ else none
    else
     bif Nat.blt pc 11 then
      bif Nat.blt pc 10 then
       if h : pc = 9 then some ⟨(.ireturn, 10, .inl 0, 0, 0), by subst h; exact ⟨dX0_back_9, rfl, rfl⟩⟩ else none
      else
       if h : pc = 10 then some ⟨(.aload_n 0, 11, .inl 0, 0, 0), by subst h; exact ⟨dX0_back_10, rfl, trivial⟩⟩ else none
     else
      bif Nat.blt pc 14 then
       if h : pc = 11 then some ⟨(.getfield 314, 14, .inr (.inr none), 28, 0), by subst h; exact ⟨dX0_back_11, rfl, ⟨⟨_, rfl, by decide, _, Or.inl q911, Or.inl rfl⟩, (show mKd 0 28 = 6 by rfl)⟩⟩⟩ else none
      else
       if h : pc = 14 then some ⟨(.iconst 0, 15, .inl 0, 0, 0), by subst h; exact ⟨dX0_back_14, rfl, ⟨0, rfl, by decide⟩⟩⟩ else none
   else
    bif Nat.blt pc 22 then
     bif Nat.blt pc 19 then
      bif Nat.blt pc 16 then
       if h : pc = 15 then some ⟨(.aload_n 0, 16, .inl 0, 0, 0), by subst h; exact ⟨dX0_back_15, rfl, trivial⟩⟩ else none
      else
       if h : pc = 16 then some ⟨(.getfield 62, 19, .inr (.inr none), 4, 0), by subst h; exact ⟨dX0_back_16, rfl, ⟨⟨_, rfl, by decide, _, Or.inl q886, Or.inl rfl⟩, (show mKd 0 4 = 6 by rfl)⟩⟩⟩ else none
     else
      bif Nat.blt pc 20 then
       if h : pc = 19 then some ⟨(.iconst 0, 20, .inl 0, 0, 0), by subst h; exact ⟨dX0_back_19, rfl, ⟨0, rfl, by decide⟩⟩⟩ else none
      else
       if h : pc = 20 then some ⟨(.bipush 10, 22, .inl 10, 0, 0), by subst h; exact ⟨dX0_back_20, rfl, ⟨10, rfl, by decide⟩⟩⟩ else none
    else
     bif Nat.blt pc 26 then
      bif Nat.blt pc 25 then
       if h : pc = 22 then some ⟨(.invokestatic 526, 25, .inl 0, 998, 0), by subst h; exact ⟨dX0_back_22, rfl, Or.inr (Or.inr ⟨rfl, q1302, q1304, q1303, q160⟩)⟩⟩ else none
      else
       if h : pc = 25 then some ⟨(.aload_n 0, 26, .inl 0, 0, 0), by subst h; exact ⟨dX0_back_25, rfl, trivial⟩⟩ else none
     else
      bif Nat.blt pc 27 then
       if h : pc = 26 then some ⟨(.aload_n 0, 27, .inl 0, 0, 0), by subst h; exact ⟨dX0_back_26, rfl, trivial⟩⟩ else none
      else
       if h : pc = 27 then some ⟨(.getfield 320, 30, .inr (.inr none), 30, 0), by subst h; exact ⟨dX0_back_27, rfl, ⟨⟨_, rfl, by decide, _, Or.inl q913, Or.inl rfl⟩, (show mKd 0 30 = 6 by rfl)⟩⟩⟩ else none
  else
   bif Nat.blt pc 42 then
    bif Nat.blt pc 36 then
     bif Nat.blt pc 32 then
      bif Nat.blt pc 31 then
       if h : pc = 30 then some ⟨(.iconst 0, 31, .inl 0, 0, 0), by subst h; exact ⟨dX0_back_30, rfl, ⟨0, rfl, by decide⟩⟩⟩ else none
      else
       if h : pc = 31 then some ⟨(.iaload, 32, .inl 0, 0, 0), by subst h; exact ⟨dX0_back_31, rfl, trivial⟩⟩ else none
     else
      bif Nat.blt pc 35 then
       if h : pc = 32 then some ⟨(.putfield 10, 35, .inl 0, 1, 0), by subst h; exact ⟨dX0_back_32, rfl, ⟨⟨_, rfl, by decide, _, Or.inl q881, Or.inl rfl⟩, (show mKd 0 1 ≤ 4 by decide), by decide, by decide, (fun q h => Or.inl (by cases h; rfl))⟩⟩⟩ else none
      else
       if h : pc = 35 then some ⟨(.aload_n 0, 36, .inl 0, 0, 0), by subst h; exact ⟨dX0_back_35, rfl, trivial⟩⟩ else none
    else
     bif Nat.blt pc 40 then
      bif Nat.blt pc 37 then
       if h : pc = 36 then some ⟨(.aload_n 0, 37, .inl 0, 0, 0), by subst h; exact ⟨dX0_back_36, rfl, trivial⟩⟩ else none
      else
       if h : pc = 37 then some ⟨(.getfield 320, 40, .inr (.inr none), 30, 0), by subst h; exact ⟨dX0_back_37, rfl, ⟨⟨_, rfl, by decide, _, Or.inl q913, Or.inl rfl⟩, (show mKd 0 30 = 6 by rfl)⟩⟩⟩ else none
     else
      bif Nat.blt pc 41 then
       if h : pc = 40 then some ⟨(.iconst 1, 41, .inl 1, 0, 0), by subst h; exact ⟨dX0_back_40, rfl, ⟨1, rfl, by decide⟩⟩⟩ else none
      else
       if h : pc = 41 then some ⟨(.iaload, 42, .inl 0, 0, 0), by subst h; exact ⟨dX0_back_41, rfl, trivial⟩⟩ else none
   else
    bif Nat.blt pc 50 then
     bif Nat.blt pc 46 then
      bif Nat.blt pc 45 then
       if h : pc = 42 then some ⟨(.putfield 66, 45, .inl 0, 3, 0), by subst h; exact ⟨dX0_back_42, rfl, ⟨⟨_, rfl, by decide, _, Or.inl q885, Or.inl rfl⟩, (show mKd 0 3 ≤ 4 by decide), by decide, by decide, (fun q h => Or.inl (by cases h; rfl))⟩⟩⟩ else none
      else
       if h : pc = 45 then some ⟨(.aload_n 0, 46, .inl 0, 0, 0), by subst h; exact ⟨dX0_back_45, rfl, trivial⟩⟩ else none
     else
      bif Nat.blt pc 47 then
       if h : pc = 46 then some ⟨(.aload_n 0, 47, .inl 0, 0, 0), by subst h; exact ⟨dX0_back_46, rfl, trivial⟩⟩ else none
      else
       if h : pc = 47 then some ⟨(.getfield 320, 50, .inr (.inr none), 30, 0), by subst h; exact ⟨dX0_back_47, rfl, ⟨⟨_, rfl, by decide, _, Or.inl q913, Or.inl rfl⟩, (show mKd 0 30 = 6 by rfl)⟩⟩⟩ else none
    else
     bif Nat.blt pc 52 then
      bif Nat.blt pc 51 then
       if h : pc = 50 then some ⟨(.iconst 2, 51, .inl 2, 0, 0), by subst h; exact ⟨dX0_back_50, rfl, ⟨2, rfl, by decide⟩⟩⟩ else none
      else
       if h : pc = 51 then some ⟨(.iaload, 52, .inl 0, 0, 0), by subst h; exact ⟨dX0_back_51, rfl, trivial⟩⟩ else none
     else
      bif Nat.blt pc 55 then
       if h : pc = 52 then some ⟨(.putfield 69, 55, .inl 0, 2, 0), by subst h; exact ⟨dX0_back_52, rfl, ⟨⟨_, rfl, by decide, _, Or.inl q883, Or.inl rfl⟩, (show mKd 0 2 ≤ 4 by decide), by decide, by decide, (fun q h => Or.inl (by cases h; rfl))⟩⟩⟩ else none
      else
       bif Nat.blt pc 56 then
        if h : pc = 55 then some ⟨(.aload_n 0, 56, .inl 0, 0, 0), by subst h; exact ⟨dX0_back_55, rfl, trivial⟩⟩ else none
       else
        if h : pc = 56 then some ⟨(.aload_n 0, 57, .inl 0, 0, 0), by subst h; exact ⟨dX0_back_56, rfl, trivial⟩⟩ else none
 else
  bif Nat.blt pc 84 then
   bif Nat.blt pc 69 then
    bif Nat.blt pc 65 then
     bif Nat.blt pc 61 then
      bif Nat.blt pc 60 then
       if h : pc = 57 then some ⟨(.getfield 320, 60, .inr (.inr none), 30, 0), by subst h; exact ⟨dX0_back_57, rfl, ⟨⟨_, rfl, by decide, _, Or.inl q913, Or.inl rfl⟩, (show mKd 0 30 = 6 by rfl)⟩⟩⟩ else none
      else
       if h : pc = 60 then some ⟨(.iconst 3, 61, .inl 3, 0, 0), by subst h; exact ⟨dX0_back_60, rfl, ⟨3, rfl, by decide⟩⟩⟩ else none
     else
      bif Nat.blt pc 62 then
       if h : pc = 61 then some ⟨(.iaload, 62, .inl 0, 0, 0), by subst h; exact ⟨dX0_back_61, rfl, trivial⟩⟩ else none
      else
       if h : pc = 62 then some ⟨(.putfield 339, 65, .inl 0, 19, 0), by subst h; exact ⟨dX0_back_62, rfl, ⟨⟨_, rfl, by decide, _, Or.inl q902, Or.inl rfl⟩, (show mKd 0 19 ≤ 4 by decide), by decide, by decide, (fun q h => Or.inl (by cases h; rfl))⟩⟩⟩ else none
    else
     bif Nat.blt pc 67 then
      bif Nat.blt pc 66 then
       if h : pc = 65 then some ⟨(.iconst 0, 66, .inl 0, 0, 0), by subst h; exact ⟨dX0_back_65, rfl, ⟨0, rfl, by decide⟩⟩⟩ else none
      else
       if h : pc = 66 then some ⟨(.istore_n 1, 67, .inl 0, 0, 0), by subst h; exact ⟨dX0_back_66, rfl, (show (1 : Nat) < 3 by decide)⟩⟩ else none
     else
      bif Nat.blt pc 68 then
       if h : pc = 67 then some ⟨(.iload_n 1, 68, .inl 0, 0, 0), by subst h; exact ⟨dX0_back_67, rfl, trivial⟩⟩ else none
      else
       if h : pc = 68 then some ⟨(.aload_n 0, 69, .inl 0, 0, 0), by subst h; exact ⟨dX0_back_68, rfl, trivial⟩⟩ else none
   else
    bif Nat.blt pc 77 then
     bif Nat.blt pc 75 then
      bif Nat.blt pc 72 then
       if h : pc = 69 then some ⟨(.getfield 10, 72, .inl 0, 1, 0), by subst h; exact ⟨dX0_back_69, rfl, ⟨⟨_, rfl, by decide, _, Or.inl q881, Or.inl rfl⟩, (show mKd 0 1 ≤ 4 by decide)⟩⟩⟩ else none
      else
       if h : pc = 72 then some ⟨(.if_icmp .ge 38, 75, .inl 0, 110, 0), by subst h; exact ⟨dX0_back_72, rfl, (show ((72 : Nat) : Int) + (38) = ((110 : Nat) : Int) by decide)⟩⟩ else none
     else
      bif Nat.blt pc 76 then
       if h : pc = 75 then some ⟨(.iconst 0, 76, .inl 0, 0, 0), by subst h; exact ⟨dX0_back_75, rfl, ⟨0, rfl, by decide⟩⟩⟩ else none
      else
       if h : pc = 76 then some ⟨(.istore_n 2, 77, .inl 0, 0, 0), by subst h; exact ⟨dX0_back_76, rfl, (show (2 : Nat) < 3 by decide)⟩⟩ else none
    else
     bif Nat.blt pc 79 then
      bif Nat.blt pc 78 then
       if h : pc = 77 then some ⟨(.iload_n 2, 78, .inl 0, 0, 0), by subst h; exact ⟨dX0_back_77, rfl, trivial⟩⟩ else none
      else
       if h : pc = 78 then some ⟨(.iconst 4, 79, .inl 4, 0, 0), by subst h; exact ⟨dX0_back_78, rfl, ⟨4, rfl, by decide⟩⟩⟩ else none
     else
      bif Nat.blt pc 82 then
       if h : pc = 79 then some ⟨(.if_icmp .ge 25, 82, .inl 0, 104, 0), by subst h; exact ⟨dX0_back_79, rfl, (show ((79 : Nat) : Int) + (25) = ((104 : Nat) : Int) by decide)⟩⟩ else none
      else
       bif Nat.blt pc 83 then
        if h : pc = 82 then some ⟨(.aload_n 0, 83, .inl 0, 0, 0), by subst h; exact ⟨dX0_back_82, rfl, trivial⟩⟩ else none
       else
        if h : pc = 83 then some ⟨(.iconst 3, 84, .inl 3, 0, 0), by subst h; exact ⟨dX0_back_83, rfl, ⟨3, rfl, by decide⟩⟩⟩ else none
  else
   bif Nat.blt pc 94 then
    bif Nat.blt pc 88 then
     bif Nat.blt pc 86 then
      bif Nat.blt pc 85 then
       if h : pc = 84 then some ⟨(.iload_n 2, 85, .inl 0, 0, 0), by subst h; exact ⟨dX0_back_84, rfl, trivial⟩⟩ else none
      else
       if h : pc = 85 then some ⟨(.iadd, 86, .inl 0, 0, 0), by subst h; exact ⟨dX0_back_85, rfl, trivial⟩⟩ else none
     else
      bif Nat.blt pc 87 then
       if h : pc = 86 then some ⟨(.iload_n 1, 87, .inl 0, 0, 0), by subst h; exact ⟨dX0_back_86, rfl, trivial⟩⟩ else none
      else
       if h : pc = 87 then some ⟨(.aload_n 0, 88, .inl 0, 0, 0), by subst h; exact ⟨dX0_back_87, rfl, trivial⟩⟩ else none
    else
     bif Nat.blt pc 92 then
      bif Nat.blt pc 91 then
       if h : pc = 88 then some ⟨(.getfield 317, 91, .inr (.inr none), 29, 0), by subst h; exact ⟨dX0_back_88, rfl, ⟨⟨_, rfl, by decide, _, Or.inl q912, Or.inl rfl⟩, (show mKd 0 29 = 6 by rfl)⟩⟩⟩ else none
      else
       if h : pc = 91 then some ⟨(.iload_n 2, 92, .inl 0, 0, 0), by subst h; exact ⟨dX0_back_91, rfl, trivial⟩⟩ else none
     else
      bif Nat.blt pc 93 then
       if h : pc = 92 then some ⟨(.aaload, 93, .inl 0, 0, 0), by subst h; exact ⟨dX0_back_92, rfl, trivial⟩⟩ else none
      else
       if h : pc = 93 then some ⟨(.iload_n 1, 94, .inl 0, 0, 0), by subst h; exact ⟨dX0_back_93, rfl, trivial⟩⟩ else none
   else
    bif Nat.blt pc 104 then
     bif Nat.blt pc 98 then
      bif Nat.blt pc 95 then
       if h : pc = 94 then some ⟨(.iaload, 95, .inl 0, 0, 0), by subst h; exact ⟨dX0_back_94, rfl, trivial⟩⟩ else none
      else
       if h : pc = 95 then some ⟨(.invokevirtual 98, 98, .inl 0, 116, 0), by subst h; exact ⟨dX0_back_95, rfl, ⟨by decide, q292, q294, qs3, _, rfl, rfl⟩⟩⟩ else none
     else
      bif Nat.blt pc 101 then
       if h : pc = 98 then some ⟨(.iinc 2 1, 101, .inl 1, 0, 0), by subst h; exact ⟨dX0_back_98, rfl, ⟨(show (2 : Nat) < 3 by decide), 1, rfl, by decide⟩⟩⟩ else none
      else
       if h : pc = 101 then some ⟨(.goto (-24), 104, .inl 0, 77, 0), by subst h; exact ⟨dX0_back_101, rfl, (show ((101 : Nat) : Int) + ((-24)) = ((77 : Nat) : Int) by decide)⟩⟩ else none
    else
     bif Nat.blt pc 110 then
      bif Nat.blt pc 107 then
       if h : pc = 104 then some ⟨(.iinc 1 1, 107, .inl 1, 0, 0), by subst h; exact ⟨dX0_back_104, rfl, ⟨(show (1 : Nat) < 3 by decide), 1, rfl, by decide⟩⟩⟩ else none
      else
       if h : pc = 107 then some ⟨(.goto (-40), 110, .inl 0, 67, 0), by subst h; exact ⟨dX0_back_107, rfl, (show ((107 : Nat) : Int) + ((-40)) = ((67 : Nat) : Int) by decide)⟩⟩ else none
     else
      bif Nat.blt pc 111 then
       if h : pc = 110 then some ⟨(.aload_n 0, 111, .inl 0, 0, 0), by subst h; exact ⟨dX0_back_110, rfl, trivial⟩⟩ else none
      else
       bif Nat.blt pc 114 then
        if h : pc = 111 then some ⟨(.getfield 10, 114, .inl 0, 1, 0), by subst h; exact ⟨dX0_back_111, rfl, ⟨⟨_, rfl, by decide, _, Or.inl q881, Or.inl rfl⟩, (show mKd 0 1 ≤ 4 by decide)⟩⟩⟩ else none
       else
        if h : pc = 114 then some ⟨(.ireturn, 115, .inl 0, 0, 0), by subst h; exact ⟨dX0_back_114, rfl, rfl⟩⟩ else none

noncomputable def mt201 (pc : Nat) : Option {e : mE // mOK yX0_count cX0_count 2 ((Option.some ClassFile.FieldType.int)) pc e} :=
 bif Nat.blt pc 57 then
  bif Nat.blt pc 45 then
   bif Nat.blt pc 40 then
    bif Nat.blt pc 1 then
     if h : pc = 0 then some ⟨(.iload_n 1, 1, .inl 0, 0, 0), by subst h; exact ⟨dX0_count_0, rfl, trivial⟩⟩ else none
    else
     if h : pc = 1 then some ⟨(.tableswitch 72 0 5 #[39, 44, 52, 57, 62, 67], 1, .inl 0, 0, 0), by subst h; exact ⟨dX0_count_1, rfl, ⟨by decide, rfl, by decide⟩⟩⟩ else none
   else
    bif Nat.blt pc 41 then
     if h : pc = 40 then some ⟨(.aload_n 0, 41, .inl 0, 0, 0), by subst h; exact ⟨dX0_count_40, rfl, trivial⟩⟩ else none
    else
     bif Nat.blt pc 44 then
      if h : pc = 41 then some ⟨(.getfield 10, 44, .inl 0, 1, 0), by subst h; exact ⟨dX0_count_41, rfl, ⟨⟨_, rfl, by decide, _, Or.inl q881, Or.inl rfl⟩, (show mKd 0 1 ≤ 4 by decide)⟩⟩⟩ else none
     else
      if h : pc = 44 then some ⟨(.ireturn, 45, .inl 0, 0, 0), by subst h; exact ⟨dX0_count_44, rfl, rfl⟩⟩ else none
  else
   bif Nat.blt pc 52 then
    bif Nat.blt pc 46 then
     if h : pc = 45 then some ⟨(.aload_n 0, 46, .inl 0, 0, 0), by subst h; exact ⟨dX0_count_45, rfl, trivial⟩⟩ else none
    else
     bif Nat.blt pc 49 then
      if h : pc = 46 then some ⟨(.invokevirtual 422, 49, .inl 0, 167, 0), by subst h; exact ⟨dX0_count_46, rfl, ⟨by decide, q1058, q1060, qs41, _, rfl, rfl⟩⟩⟩ else none
     else
      if h : pc = 49 then some ⟨(.invokestatic 425, 52, .inl 0, 260, 0), by subst h; exact ⟨dX0_count_49, rfl, Or.inl ⟨by decide, q1062, q1063⟩⟩⟩ else none
   else
    bif Nat.blt pc 53 then
     if h : pc = 52 then some ⟨(.ireturn, 53, .inl 0, 0, 0), by subst h; exact ⟨dX0_count_52, rfl, rfl⟩⟩ else none
    else
     bif Nat.blt pc 54 then
      if h : pc = 53 then some ⟨(.aload_n 0, 54, .inl 0, 0, 0), by subst h; exact ⟨dX0_count_53, rfl, trivial⟩⟩ else none
     else
      if h : pc = 54 then some ⟨(.getfield 69, 57, .inl 0, 2, 0), by subst h; exact ⟨dX0_count_54, rfl, ⟨⟨_, rfl, by decide, _, Or.inl q883, Or.inl rfl⟩, (show mKd 0 2 ≤ 4 by decide)⟩⟩⟩ else none
 else
  bif Nat.blt pc 67 then
   bif Nat.blt pc 62 then
    bif Nat.blt pc 58 then
     if h : pc = 57 then some ⟨(.ireturn, 58, .inl 0, 0, 0), by subst h; exact ⟨dX0_count_57, rfl, rfl⟩⟩ else none
    else
     bif Nat.blt pc 59 then
      if h : pc = 58 then some ⟨(.aload_n 0, 59, .inl 0, 0, 0), by subst h; exact ⟨dX0_count_58, rfl, trivial⟩⟩ else none
     else
      if h : pc = 59 then some ⟨(.getfield 259, 62, .inl 0, 8, 0), by subst h; exact ⟨dX0_count_59, rfl, ⟨⟨_, rfl, by decide, _, Or.inl q891, Or.inl rfl⟩, (show mKd 0 8 ≤ 4 by decide)⟩⟩⟩ else none
   else
    bif Nat.blt pc 63 then
     if h : pc = 62 then some ⟨(.ireturn, 63, .inl 0, 0, 0), by subst h; exact ⟨dX0_count_62, rfl, rfl⟩⟩ else none
    else
     bif Nat.blt pc 64 then
      if h : pc = 63 then some ⟨(.aload_n 0, 64, .inl 0, 0, 0), by subst h; exact ⟨dX0_count_63, rfl, trivial⟩⟩ else none
     else
      if h : pc = 64 then some ⟨(.getfield 248, 67, .inl 0, 12, 0), by subst h; exact ⟨dX0_count_64, rfl, ⟨⟨_, rfl, by decide, _, Or.inl q895, Or.inl rfl⟩, (show mKd 0 12 ≤ 4 by decide)⟩⟩⟩ else none
  else
   bif Nat.blt pc 72 then
    bif Nat.blt pc 68 then
     if h : pc = 67 then some ⟨(.ireturn, 68, .inl 0, 0, 0), by subst h; exact ⟨dX0_count_67, rfl, rfl⟩⟩ else none
    else
     bif Nat.blt pc 69 then
      if h : pc = 68 then some ⟨(.aload_n 0, 69, .inl 0, 0, 0), by subst h; exact ⟨dX0_count_68, rfl, trivial⟩⟩ else none
     else
      if h : pc = 69 then some ⟨(.getfield 339, 72, .inl 0, 19, 0), by subst h; exact ⟨dX0_count_69, rfl, ⟨⟨_, rfl, by decide, _, Or.inl q902, Or.inl rfl⟩, (show mKd 0 19 ≤ 4 by decide)⟩⟩⟩ else none
   else
    bif Nat.blt pc 73 then
     if h : pc = 72 then some ⟨(.ireturn, 73, .inl 0, 0, 0), by subst h; exact ⟨dX0_count_72, rfl, rfl⟩⟩ else none
    else
     bif Nat.blt pc 75 then
      if h : pc = 73 then some ⟨(.bipush (-2), 75, .inl (-2), 0, 0), by subst h; exact ⟨dX0_count_73, rfl, ⟨(-2), rfl, by decide⟩⟩⟩ else none
     else
      if h : pc = 75 then some ⟨(.ireturn, 76, .inl 0, 0, 0), by subst h; exact ⟨dX0_count_75, rfl, rfl⟩⟩ else none

noncomputable def mt202 (pc : Nat) : Option {e : mE // mOK yX0_copy cX0_copy 10 ((Option.some ClassFile.FieldType.int)) pc e} :=
 bif Nat.blt pc 78 then
  bif Nat.blt pc 34 then
   bif Nat.blt pc 18 then
    bif Nat.blt pc 8 then
     bif Nat.blt pc 4 then
      bif Nat.blt pc 1 then
       if h : pc = 0 then some ⟨(.iload_n 1, 1, .inl 0, 0, 0), by subst h; exact ⟨dX0_copy_0, rfl, trivial⟩⟩ else none
      else
       if h : pc = 1 then some ⟨(.invokestatic 485, 4, .inl 0, 177, 0), by subst h; exact ⟨dX0_copy_1, rfl, Or.inl ⟨by decide, q1113, q1114⟩⟩⟩ else none
     else
      bif Nat.blt pc 7 then
       if h : pc = 4 then some ⟨(.ifCond .eq 10, 7, .inl 0, 14, 0), by subst h; exact ⟨dX0_copy_4, rfl, (show ((4 : Nat) : Int) + (10) = ((14 : Nat) : Int) by decide)⟩⟩ else none
      else
       if h : pc = 7 then some ⟨(.iload_n 3, 8, .inl 0, 0, 0), by subst h; exact ⟨dX0_copy_7, rfl, trivial⟩⟩ else none
    else
     bif Nat.blt pc 14 then
      bif Nat.blt pc 11 then
       if h : pc = 8 then some ⟨(.invokestatic 485, 11, .inl 0, 177, 0), by subst h; exact ⟨dX0_copy_8, rfl, Or.inl ⟨by decide, q1113, q1114⟩⟩⟩ else none
      else
       if h : pc = 11 then some ⟨(.ifCond .ne 6, 14, .inl 0, 17, 0), by subst h; exact ⟨dX0_copy_11, rfl, (show ((11 : Nat) : Int) + (6) = ((17 : Nat) : Int) by decide)⟩⟩ else none
     else
      bif Nat.blt pc 16 then
       if h : pc = 14 then some ⟨(.bipush (-2), 16, .inl (-2), 0, 0), by subst h; exact ⟨dX0_copy_14, rfl, ⟨(-2), rfl, by decide⟩⟩⟩ else none
      else
       bif Nat.blt pc 17 then
        if h : pc = 16 then some ⟨(.ireturn, 17, .inl 0, 0, 0), by subst h; exact ⟨dX0_copy_16, rfl, rfl⟩⟩ else none
       else
        if h : pc = 17 then some ⟨(.aload_n 0, 18, .inl 0, 0, 0), by subst h; exact ⟨dX0_copy_17, rfl, trivial⟩⟩ else none
   else
    bif Nat.blt pc 26 then
     bif Nat.blt pc 22 then
      bif Nat.blt pc 21 then
       if h : pc = 18 then some ⟨(.getfield 326, 21, .inr (.inr none), 31, 0), by subst h; exact ⟨dX0_copy_18, rfl, ⟨⟨_, rfl, by decide, _, Or.inl q914, Or.inl rfl⟩, (show mKd 0 31 = 6 by rfl)⟩⟩⟩ else none
      else
       if h : pc = 21 then some ⟨(.iload_n 1, 22, .inl 0, 0, 0), by subst h; exact ⟨dX0_copy_21, rfl, trivial⟩⟩ else none
     else
      bif Nat.blt pc 23 then
       if h : pc = 22 then some ⟨(.aaload, 23, .inl 0, 0, 0), by subst h; exact ⟨dX0_copy_22, rfl, trivial⟩⟩ else none
      else
       if h : pc = 23 then some ⟨(.getfield 490, 26, .inr (.inr none), 0, 3), by subst h; exact ⟨dX0_copy_23, rfl, ⟨⟨_, rfl, by decide, _, Or.inr ⟨"NobodyCanLiftIt", List.mem_of_getElem? (i := 0) rfl⟩, Or.inl rfl⟩, (show mKd 3 0 = 6 by rfl)⟩⟩⟩ else none
    else
     bif Nat.blt pc 29 then
      bif Nat.blt pc 28 then
       if h : pc = 26 then some ⟨(.astore 6, 28, .inl 0, 0, 0), by subst h; exact ⟨dX0_copy_26, rfl, (show (6 : Nat) < 10 by decide)⟩⟩ else none
      else
       if h : pc = 28 then some ⟨(.aload_n 0, 29, .inl 0, 0, 0), by subst h; exact ⟨dX0_copy_28, rfl, trivial⟩⟩ else none
     else
      bif Nat.blt pc 32 then
       if h : pc = 29 then some ⟨(.getfield 326, 32, .inr (.inr none), 31, 0), by subst h; exact ⟨dX0_copy_29, rfl, ⟨⟨_, rfl, by decide, _, Or.inl q914, Or.inl rfl⟩, (show mKd 0 31 = 6 by rfl)⟩⟩⟩ else none
      else
       bif Nat.blt pc 33 then
        if h : pc = 32 then some ⟨(.iload_n 3, 33, .inl 0, 0, 0), by subst h; exact ⟨dX0_copy_32, rfl, trivial⟩⟩ else none
       else
        if h : pc = 33 then some ⟨(.aaload, 34, .inl 0, 0, 0), by subst h; exact ⟨dX0_copy_33, rfl, trivial⟩⟩ else none
  else
   bif Nat.blt pc 54 then
    bif Nat.blt pc 44 then
     bif Nat.blt pc 39 then
      bif Nat.blt pc 37 then
       if h : pc = 34 then some ⟨(.getfield 490, 37, .inr (.inr none), 0, 3), by subst h; exact ⟨dX0_copy_34, rfl, ⟨⟨_, rfl, by decide, _, Or.inr ⟨"NobodyCanLiftIt", List.mem_of_getElem? (i := 0) rfl⟩, Or.inl rfl⟩, (show mKd 3 0 = 6 by rfl)⟩⟩⟩ else none
      else
       if h : pc = 37 then some ⟨(.astore 7, 39, .inl 0, 0, 0), by subst h; exact ⟨dX0_copy_37, rfl, (show (7 : Nat) < 10 by decide)⟩⟩ else none
     else
      bif Nat.blt pc 41 then
       if h : pc = 39 then some ⟨(.aload 6, 41, .inl 0, 0, 0), by subst h; exact ⟨dX0_copy_39, rfl, trivial⟩⟩ else none
      else
       if h : pc = 41 then some ⟨(.ifnull 8, 44, .inl 0, 49, 0), by subst h; exact ⟨dX0_copy_41, rfl, (show ((41 : Nat) : Int) + (8) = ((49 : Nat) : Int) by decide)⟩⟩ else none
    else
     bif Nat.blt pc 49 then
      bif Nat.blt pc 46 then
       if h : pc = 44 then some ⟨(.aload 7, 46, .inl 0, 0, 0), by subst h; exact ⟨dX0_copy_44, rfl, trivial⟩⟩ else none
      else
       if h : pc = 46 then some ⟨(.ifnonnull 6, 49, .inl 0, 52, 0), by subst h; exact ⟨dX0_copy_46, rfl, (show ((46 : Nat) : Int) + (6) = ((52 : Nat) : Int) by decide)⟩⟩ else none
     else
      bif Nat.blt pc 51 then
       if h : pc = 49 then some ⟨(.bipush (-11), 51, .inl (-11), 0, 0), by subst h; exact ⟨dX0_copy_49, rfl, ⟨(-11), rfl, by decide⟩⟩⟩ else none
      else
       bif Nat.blt pc 52 then
        if h : pc = 51 then some ⟨(.ireturn, 52, .inl 0, 0, 0), by subst h; exact ⟨dX0_copy_51, rfl, rfl⟩⟩ else none
       else
        if h : pc = 52 then some ⟨(.aload 6, 54, .inl 0, 0, 0), by subst h; exact ⟨dX0_copy_52, rfl, trivial⟩⟩ else none
   else
    bif Nat.blt pc 67 then
     bif Nat.blt pc 59 then
      bif Nat.blt pc 57 then
       if h : pc = 54 then some ⟨(.invokestatic 458, 57, .inl 0, 178, 0), by subst h; exact ⟨dX0_copy_54, rfl, Or.inl ⟨by decide, q1118, q1119⟩⟩⟩ else none
      else
       if h : pc = 57 then some ⟨(.aload 7, 59, .inl 0, 0, 0), by subst h; exact ⟨dX0_copy_57, rfl, trivial⟩⟩ else none
     else
      bif Nat.blt pc 62 then
       if h : pc = 59 then some ⟨(.invokestatic 458, 62, .inl 0, 178, 0), by subst h; exact ⟨dX0_copy_59, rfl, Or.inl ⟨by decide, q1118, q1119⟩⟩⟩ else none
      else
       bif Nat.blt pc 65 then
        if h : pc = 62 then some ⟨(.if_icmp .eq 6, 65, .inl 0, 68, 0), by subst h; exact ⟨dX0_copy_62, rfl, (show ((62 : Nat) : Int) + (6) = ((68 : Nat) : Int) by decide)⟩⟩ else none
       else
        if h : pc = 65 then some ⟨(.bipush (-13), 67, .inl (-13), 0, 0), by subst h; exact ⟨dX0_copy_65, rfl, ⟨(-13), rfl, by decide⟩⟩⟩ else none
    else
     bif Nat.blt pc 70 then
      bif Nat.blt pc 68 then
       if h : pc = 67 then some ⟨(.ireturn, 68, .inl 0, 0, 0), by subst h; exact ⟨dX0_copy_67, rfl, rfl⟩⟩ else none
      else
       if h : pc = 68 then some ⟨(.aload 6, 70, .inl 0, 0, 0), by subst h; exact ⟨dX0_copy_68, rfl, trivial⟩⟩ else none
     else
      bif Nat.blt pc 72 then
       if h : pc = 70 then some ⟨(.aload 6, 72, .inl 0, 0, 0), by subst h; exact ⟨dX0_copy_70, rfl, trivial⟩⟩ else none
      else
       bif Nat.blt pc 75 then
        if h : pc = 72 then some ⟨(.invokestatic 458, 75, .inl 0, 178, 0), by subst h; exact ⟨dX0_copy_72, rfl, Or.inl ⟨by decide, q1118, q1119⟩⟩⟩ else none
       else
        if h : pc = 75 then some ⟨(.invokestatic 462, 78, .inl 0, 179, 0), by subst h; exact ⟨dX0_copy_75, rfl, Or.inl ⟨by decide, q1123, q1124⟩⟩⟩ else none
 else
  bif Nat.blt pc 121 then
   bif Nat.blt pc 98 then
    bif Nat.blt pc 87 then
     bif Nat.blt pc 82 then
      bif Nat.blt pc 80 then
       if h : pc = 78 then some ⟨(.istore 8, 80, .inl 0, 0, 0), by subst h; exact ⟨dX0_copy_78, rfl, (show (8 : Nat) < 10 by decide)⟩⟩ else none
      else
       if h : pc = 80 then some ⟨(.aload 7, 82, .inl 0, 0, 0), by subst h; exact ⟨dX0_copy_80, rfl, trivial⟩⟩ else none
     else
      bif Nat.blt pc 84 then
       if h : pc = 82 then some ⟨(.aload 7, 84, .inl 0, 0, 0), by subst h; exact ⟨dX0_copy_82, rfl, trivial⟩⟩ else none
      else
       if h : pc = 84 then some ⟨(.invokestatic 458, 87, .inl 0, 178, 0), by subst h; exact ⟨dX0_copy_84, rfl, Or.inl ⟨by decide, q1118, q1119⟩⟩⟩ else none
    else
     bif Nat.blt pc 92 then
      bif Nat.blt pc 90 then
       if h : pc = 87 then some ⟨(.invokestatic 462, 90, .inl 0, 179, 0), by subst h; exact ⟨dX0_copy_87, rfl, Or.inl ⟨by decide, q1123, q1124⟩⟩⟩ else none
      else
       if h : pc = 90 then some ⟨(.istore 9, 92, .inl 0, 0, 0), by subst h; exact ⟨dX0_copy_90, rfl, (show (9 : Nat) < 10 by decide)⟩⟩ else none
     else
      bif Nat.blt pc 94 then
       if h : pc = 92 then some ⟨(.iload 5, 94, .inl 0, 0, 0), by subst h; exact ⟨dX0_copy_92, rfl, trivial⟩⟩ else none
      else
       bif Nat.blt pc 97 then
        if h : pc = 94 then some ⟨(.ifCond .lt 44, 97, .inl 0, 138, 0), by subst h; exact ⟨dX0_copy_94, rfl, (show ((94 : Nat) : Int) + (44) = ((138 : Nat) : Int) by decide)⟩⟩ else none
       else
        if h : pc = 97 then some ⟨(.iload_n 2, 98, .inl 0, 0, 0), by subst h; exact ⟨dX0_copy_97, rfl, trivial⟩⟩ else none
   else
    bif Nat.blt pc 109 then
     bif Nat.blt pc 103 then
      bif Nat.blt pc 101 then
       if h : pc = 98 then some ⟨(.ifCond .lt 40, 101, .inl 0, 138, 0), by subst h; exact ⟨dX0_copy_98, rfl, (show ((98 : Nat) : Int) + (40) = ((138 : Nat) : Int) by decide)⟩⟩ else none
      else
       if h : pc = 101 then some ⟨(.iload 4, 103, .inl 0, 0, 0), by subst h; exact ⟨dX0_copy_101, rfl, trivial⟩⟩ else none
     else
      bif Nat.blt pc 106 then
       if h : pc = 103 then some ⟨(.ifCond .lt 35, 106, .inl 0, 138, 0), by subst h; exact ⟨dX0_copy_103, rfl, (show ((103 : Nat) : Int) + (35) = ((138 : Nat) : Int) by decide)⟩⟩ else none
      else
       bif Nat.blt pc 107 then
        if h : pc = 106 then some ⟨(.iload_n 2, 107, .inl 0, 0, 0), by subst h; exact ⟨dX0_copy_106, rfl, trivial⟩⟩ else none
       else
        if h : pc = 107 then some ⟨(.iload 8, 109, .inl 0, 0, 0), by subst h; exact ⟨dX0_copy_107, rfl, trivial⟩⟩ else none
    else
     bif Nat.blt pc 114 then
      bif Nat.blt pc 112 then
       if h : pc = 109 then some ⟨(.if_icmp .gt 29, 112, .inl 0, 138, 0), by subst h; exact ⟨dX0_copy_109, rfl, (show ((109 : Nat) : Int) + (29) = ((138 : Nat) : Int) by decide)⟩⟩ else none
      else
       if h : pc = 112 then some ⟨(.iload 4, 114, .inl 0, 0, 0), by subst h; exact ⟨dX0_copy_112, rfl, trivial⟩⟩ else none
     else
      bif Nat.blt pc 116 then
       if h : pc = 114 then some ⟨(.iload 9, 116, .inl 0, 0, 0), by subst h; exact ⟨dX0_copy_114, rfl, trivial⟩⟩ else none
      else
       bif Nat.blt pc 119 then
        if h : pc = 116 then some ⟨(.if_icmp .gt 22, 119, .inl 0, 138, 0), by subst h; exact ⟨dX0_copy_116, rfl, (show ((116 : Nat) : Int) + (22) = ((138 : Nat) : Int) by decide)⟩⟩ else none
       else
        if h : pc = 119 then some ⟨(.iload 5, 121, .inl 0, 0, 0), by subst h; exact ⟨dX0_copy_119, rfl, trivial⟩⟩ else none
  else
   bif Nat.blt pc 138 then
    bif Nat.blt pc 128 then
     bif Nat.blt pc 124 then
      bif Nat.blt pc 123 then
       if h : pc = 121 then some ⟨(.iload 8, 123, .inl 0, 0, 0), by subst h; exact ⟨dX0_copy_121, rfl, trivial⟩⟩ else none
      else
       if h : pc = 123 then some ⟨(.iload_n 2, 124, .inl 0, 0, 0), by subst h; exact ⟨dX0_copy_123, rfl, trivial⟩⟩ else none
     else
      bif Nat.blt pc 125 then
       if h : pc = 124 then some ⟨(.isub, 125, .inl 0, 0, 0), by subst h; exact ⟨dX0_copy_124, rfl, trivial⟩⟩ else none
      else
       if h : pc = 125 then some ⟨(.if_icmp .gt 13, 128, .inl 0, 138, 0), by subst h; exact ⟨dX0_copy_125, rfl, (show ((125 : Nat) : Int) + (13) = ((138 : Nat) : Int) by decide)⟩⟩ else none
    else
     bif Nat.blt pc 132 then
      bif Nat.blt pc 130 then
       if h : pc = 128 then some ⟨(.iload 5, 130, .inl 0, 0, 0), by subst h; exact ⟨dX0_copy_128, rfl, trivial⟩⟩ else none
      else
       if h : pc = 130 then some ⟨(.iload 9, 132, .inl 0, 0, 0), by subst h; exact ⟨dX0_copy_130, rfl, trivial⟩⟩ else none
     else
      bif Nat.blt pc 134 then
       if h : pc = 132 then some ⟨(.iload 4, 134, .inl 0, 0, 0), by subst h; exact ⟨dX0_copy_132, rfl, trivial⟩⟩ else none
      else
       bif Nat.blt pc 135 then
        if h : pc = 134 then some ⟨(.isub, 135, .inl 0, 0, 0), by subst h; exact ⟨dX0_copy_134, rfl, trivial⟩⟩ else none
       else
        if h : pc = 135 then some ⟨(.if_icmp .le 6, 138, .inl 0, 141, 0), by subst h; exact ⟨dX0_copy_135, rfl, (show ((135 : Nat) : Int) + (6) = ((141 : Nat) : Int) by decide)⟩⟩ else none
   else
    bif Nat.blt pc 146 then
     bif Nat.blt pc 141 then
      bif Nat.blt pc 140 then
       if h : pc = 138 then some ⟨(.bipush (-12), 140, .inl (-12), 0, 0), by subst h; exact ⟨dX0_copy_138, rfl, ⟨(-12), rfl, by decide⟩⟩⟩ else none
      else
       if h : pc = 140 then some ⟨(.ireturn, 141, .inl 0, 0, 0), by subst h; exact ⟨dX0_copy_140, rfl, rfl⟩⟩ else none
     else
      bif Nat.blt pc 143 then
       if h : pc = 141 then some ⟨(.aload 6, 143, .inl 0, 0, 0), by subst h; exact ⟨dX0_copy_141, rfl, trivial⟩⟩ else none
      else
       bif Nat.blt pc 144 then
        if h : pc = 143 then some ⟨(.iload_n 2, 144, .inl 0, 0, 0), by subst h; exact ⟨dX0_copy_143, rfl, trivial⟩⟩ else none
       else
        if h : pc = 144 then some ⟨(.aload 7, 146, .inl 0, 0, 0), by subst h; exact ⟨dX0_copy_144, rfl, trivial⟩⟩ else none
    else
     bif Nat.blt pc 150 then
      bif Nat.blt pc 148 then
       if h : pc = 146 then some ⟨(.iload 4, 148, .inl 0, 0, 0), by subst h; exact ⟨dX0_copy_146, rfl, trivial⟩⟩ else none
      else
       if h : pc = 148 then some ⟨(.iload 5, 150, .inl 0, 0, 0), by subst h; exact ⟨dX0_copy_148, rfl, trivial⟩⟩ else none
     else
      bif Nat.blt pc 153 then
       if h : pc = 150 then some ⟨(.invokestatic 526, 153, .inl 0, 998, 0), by subst h; exact ⟨dX0_copy_150, rfl, Or.inr (Or.inr ⟨rfl, q1302, q1304, q1303, q160⟩)⟩⟩ else none
      else
       bif Nat.blt pc 155 then
        if h : pc = 153 then some ⟨(.iload 5, 155, .inl 0, 0, 0), by subst h; exact ⟨dX0_copy_153, rfl, trivial⟩⟩ else none
       else
        if h : pc = 155 then some ⟨(.ireturn, 156, .inl 0, 0, 0), by subst h; exact ⟨dX0_copy_155, rfl, rfl⟩⟩ else none

noncomputable def mt203 (pc : Nat) : Option {e : mE // mOK yX0_court cX0_court 6 ((Option.some ClassFile.FieldType.int)) pc e} :=
 bif Nat.blt pc 36 then
  bif Nat.blt pc 19 then
   bif Nat.blt pc 8 then
    bif Nat.blt pc 4 then
     bif Nat.blt pc 1 then
      if h : pc = 0 then some ⟨(.iload_n 1, 1, .inl 0, 0, 0), by subst h; exact ⟨dX0_court_0, rfl, trivial⟩⟩ else none
     else
      if h : pc = 1 then some ⟨(.invokestatic 485, 4, .inl 0, 177, 0), by subst h; exact ⟨dX0_court_1, rfl, Or.inl ⟨by decide, q1113, q1114⟩⟩⟩ else none
    else
     bif Nat.blt pc 7 then
      if h : pc = 4 then some ⟨(.ifCond .eq 28, 7, .inl 0, 32, 0), by subst h; exact ⟨dX0_court_4, rfl, (show ((4 : Nat) : Int) + (28) = ((32 : Nat) : Int) by decide)⟩⟩ else none
     else
      if h : pc = 7 then some ⟨(.iload_n 2, 8, .inl 0, 0, 0), by subst h; exact ⟨dX0_court_7, rfl, trivial⟩⟩ else none
   else
    bif Nat.blt pc 10 then
     bif Nat.blt pc 9 then
      if h : pc = 8 then some ⟨(.i2l, 9, .inl 0, 0, 0), by subst h; exact ⟨dX0_court_8, rfl, trivial⟩⟩ else none
     else
      if h : pc = 9 then some ⟨(.lconst 0, 10, .inr (.inl 0), 0, 0), by subst h; exact ⟨dX0_court_9, rfl, ⟨0, rfl, by decide⟩⟩⟩ else none
    else
     bif Nat.blt pc 13 then
      if h : pc = 10 then some ⟨(.ldc2_w 539, 13, .inr (.inl 2), 0, 0), by subst h; exact ⟨dX0_court_10, rfl, ⟨_, rfl, q1233⟩⟩⟩ else none
     else
      bif Nat.blt pc 16 then
       if h : pc = 13 then some ⟨(.invokestatic 16, 16, .inl 0, 108, 0), by subst h; exact ⟨dX0_court_13, rfl, Or.inl ⟨by decide, q167, q168⟩⟩⟩ else none
      else
       if h : pc = 16 then some ⟨(.ifCond .eq 16, 19, .inl 0, 32, 0), by subst h; exact ⟨dX0_court_16, rfl, (show ((16 : Nat) : Int) + (16) = ((32 : Nat) : Int) by decide)⟩⟩ else none
  else
   bif Nat.blt pc 26 then
    bif Nat.blt pc 22 then
     bif Nat.blt pc 21 then
      if h : pc = 19 then some ⟨(.iload 4, 21, .inl 0, 0, 0), by subst h; exact ⟨dX0_court_19, rfl, trivial⟩⟩ else none
     else
      if h : pc = 21 then some ⟨(.i2l, 22, .inl 0, 0, 0), by subst h; exact ⟨dX0_court_21, rfl, trivial⟩⟩ else none
    else
     bif Nat.blt pc 23 then
      if h : pc = 22 then some ⟨(.lconst 0, 23, .inr (.inl 0), 0, 0), by subst h; exact ⟨dX0_court_22, rfl, ⟨0, rfl, by decide⟩⟩⟩ else none
     else
      if h : pc = 23 then some ⟨(.ldc2_w 43, 26, .inr (.inl 5), 0, 0), by subst h; exact ⟨dX0_court_23, rfl, ⟨_, rfl, q166⟩⟩⟩ else none
   else
    bif Nat.blt pc 32 then
     bif Nat.blt pc 29 then
      if h : pc = 26 then some ⟨(.invokestatic 16, 29, .inl 0, 108, 0), by subst h; exact ⟨dX0_court_26, rfl, Or.inl ⟨by decide, q167, q168⟩⟩⟩ else none
     else
      if h : pc = 29 then some ⟨(.ifCond .ne 6, 32, .inl 0, 35, 0), by subst h; exact ⟨dX0_court_29, rfl, (show ((29 : Nat) : Int) + (6) = ((35 : Nat) : Int) by decide)⟩⟩ else none
    else
     bif Nat.blt pc 34 then
      if h : pc = 32 then some ⟨(.bipush (-2), 34, .inl (-2), 0, 0), by subst h; exact ⟨dX0_court_32, rfl, ⟨(-2), rfl, by decide⟩⟩⟩ else none
     else
      bif Nat.blt pc 35 then
       if h : pc = 34 then some ⟨(.ireturn, 35, .inl 0, 0, 0), by subst h; exact ⟨dX0_court_34, rfl, rfl⟩⟩ else none
      else
       if h : pc = 35 then some ⟨(.aload_n 0, 36, .inl 0, 0, 0), by subst h; exact ⟨dX0_court_35, rfl, trivial⟩⟩ else none
 else
  bif Nat.blt pc 52 then
   bif Nat.blt pc 42 then
    bif Nat.blt pc 40 then
     bif Nat.blt pc 37 then
      if h : pc = 36 then some ⟨(.aload_n 0, 37, .inl 0, 0, 0), by subst h; exact ⟨dX0_court_36, rfl, trivial⟩⟩ else none
     else
      if h : pc = 37 then some ⟨(.getfield 326, 40, .inr (.inr none), 31, 0), by subst h; exact ⟨dX0_court_37, rfl, ⟨⟨_, rfl, by decide, _, Or.inl q914, Or.inl rfl⟩, (show mKd 0 31 = 6 by rfl)⟩⟩⟩ else none
    else
     bif Nat.blt pc 41 then
      if h : pc = 40 then some ⟨(.iload_n 1, 41, .inl 0, 0, 0), by subst h; exact ⟨dX0_court_40, rfl, trivial⟩⟩ else none
     else
      if h : pc = 41 then some ⟨(.aaload, 42, .inl 0, 0, 0), by subst h; exact ⟨dX0_court_41, rfl, trivial⟩⟩ else none
   else
    bif Nat.blt pc 46 then
     bif Nat.blt pc 45 then
      if h : pc = 42 then some ⟨(.getfield 490, 45, .inr (.inr none), 0, 3), by subst h; exact ⟨dX0_court_42, rfl, ⟨⟨_, rfl, by decide, _, Or.inr ⟨"NobodyCanLiftIt", List.mem_of_getElem? (i := 0) rfl⟩, Or.inl rfl⟩, (show mKd 3 0 = 6 by rfl)⟩⟩⟩ else none
     else
      if h : pc = 45 then some ⟨(.iload_n 2, 46, .inl 0, 0, 0), by subst h; exact ⟨dX0_court_45, rfl, trivial⟩⟩ else none
    else
     bif Nat.blt pc 47 then
      if h : pc = 46 then some ⟨(.iload_n 3, 47, .inl 0, 0, 0), by subst h; exact ⟨dX0_court_46, rfl, trivial⟩⟩ else none
     else
      bif Nat.blt pc 49 then
       if h : pc = 47 then some ⟨(.iload 4, 49, .inl 0, 0, 0), by subst h; exact ⟨dX0_court_47, rfl, trivial⟩⟩ else none
      else
       if h : pc = 49 then some ⟨(.invokevirtual 565, 52, .inl 0, 204, 0), by subst h; exact ⟨dX0_court_49, rfl, ⟨by decide, q1337, q1339, qs56, _, rfl, rfl⟩⟩⟩ else none
  else
   bif Nat.blt pc 60 then
    bif Nat.blt pc 55 then
     bif Nat.blt pc 53 then
      if h : pc = 52 then some ⟨(.ireturn, 53, .inl 0, 0, 0), by subst h; exact ⟨dX0_court_52, rfl, rfl⟩⟩ else none
     else
      if h : pc = 53 then some ⟨(.astore 5, 55, .inl 0, 0, 0), by subst h; exact ⟨dX0_court_53, rfl, (show (5 : Nat) < 6 by decide)⟩⟩ else none
    else
     bif Nat.blt pc 57 then
      if h : pc = 55 then some ⟨(.bipush (-13), 57, .inl (-13), 0, 0), by subst h; exact ⟨dX0_court_55, rfl, ⟨(-13), rfl, by decide⟩⟩⟩ else none
     else
      bif Nat.blt pc 58 then
       if h : pc = 57 then some ⟨(.ireturn, 58, .inl 0, 0, 0), by subst h; exact ⟨dX0_court_57, rfl, rfl⟩⟩ else none
      else
       if h : pc = 58 then some ⟨(.astore 5, 60, .inl 0, 0, 0), by subst h; exact ⟨dX0_court_58, rfl, (show (5 : Nat) < 6 by decide)⟩⟩ else none
   else
    bif Nat.blt pc 63 then
     bif Nat.blt pc 62 then
      if h : pc = 60 then some ⟨(.bipush (-11), 62, .inl (-11), 0, 0), by subst h; exact ⟨dX0_court_60, rfl, ⟨(-11), rfl, by decide⟩⟩⟩ else none
     else
      if h : pc = 62 then some ⟨(.ireturn, 63, .inl 0, 0, 0), by subst h; exact ⟨dX0_court_62, rfl, rfl⟩⟩ else none
    else
     bif Nat.blt pc 65 then
      if h : pc = 63 then some ⟨(.astore 5, 65, .inl 0, 0, 0), by subst h; exact ⟨dX0_court_63, rfl, (show (5 : Nat) < 6 by decide)⟩⟩ else none
     else
      bif Nat.blt pc 67 then
       if h : pc = 65 then some ⟨(.bipush (-12), 67, .inl (-12), 0, 0), by subst h; exact ⟨dX0_court_65, rfl, ⟨(-12), rfl, by decide⟩⟩⟩ else none
      else
       if h : pc = 67 then some ⟨(.ireturn, 68, .inl 0, 0, 0), by subst h; exact ⟨dX0_court_67, rfl, rfl⟩⟩ else none

noncomputable def mt204 (pc : Nat) : Option {e : mE // mOK yX0_came cX0_came 10 ((Option.some ClassFile.FieldType.int)) pc e} :=
 bif Nat.blt pc 42 then
  bif Nat.blt pc 23 then
   bif Nat.blt pc 11 then
    bif Nat.blt pc 5 then
     bif Nat.blt pc 1 then
      if h : pc = 0 then some ⟨(.aload_n 1, 1, .inl 0, 0, 0), by subst h; exact ⟨dX0_came_0, rfl, trivial⟩⟩ else none
     else
      bif Nat.blt pc 2 then
       if h : pc = 1 then some ⟨(.iload_n 2, 2, .inl 0, 0, 0), by subst h; exact ⟨dX0_came_1, rfl, trivial⟩⟩ else none
      else
       if h : pc = 2 then some ⟨(.invokestatic 462, 5, .inl 0, 179, 0), by subst h; exact ⟨dX0_came_2, rfl, Or.inl ⟨by decide, q1123, q1124⟩⟩⟩ else none
    else
     bif Nat.blt pc 8 then
      bif Nat.blt pc 7 then
       if h : pc = 5 then some ⟨(.istore 5, 7, .inl 0, 0, 0), by subst h; exact ⟨dX0_came_5, rfl, (show (5 : Nat) < 10 by decide)⟩⟩ else none
      else
       if h : pc = 7 then some ⟨(.iconst 0, 8, .inl 0, 0, 0), by subst h; exact ⟨dX0_came_7, rfl, ⟨0, rfl, by decide⟩⟩⟩ else none
     else
      bif Nat.blt pc 10 then
       if h : pc = 8 then some ⟨(.istore 6, 10, .inl 0, 0, 0), by subst h; exact ⟨dX0_came_8, rfl, (show (6 : Nat) < 10 by decide)⟩⟩ else none
      else
       if h : pc = 10 then some ⟨(.iconst 0, 11, .inl 0, 0, 0), by subst h; exact ⟨dX0_came_10, rfl, ⟨0, rfl, by decide⟩⟩⟩ else none
   else
    bif Nat.blt pc 17 then
     bif Nat.blt pc 13 then
      if h : pc = 11 then some ⟨(.istore 7, 13, .inl 0, 0, 0), by subst h; exact ⟨dX0_came_11, rfl, (show (7 : Nat) < 10 by decide)⟩⟩ else none
     else
      bif Nat.blt pc 15 then
       if h : pc = 13 then some ⟨(.iload 7, 15, .inl 0, 0, 0), by subst h; exact ⟨dX0_came_13, rfl, trivial⟩⟩ else none
      else
       if h : pc = 15 then some ⟨(.iload 4, 17, .inl 0, 0, 0), by subst h; exact ⟨dX0_came_15, rfl, trivial⟩⟩ else none
    else
     bif Nat.blt pc 21 then
      bif Nat.blt pc 20 then
       if h : pc = 17 then some ⟨(.if_icmp .ge 71, 20, .inl 0, 88, 0), by subst h; exact ⟨dX0_came_17, rfl, (show ((17 : Nat) : Int) + (71) = ((88 : Nat) : Int) by decide)⟩⟩ else none
      else
       if h : pc = 20 then some ⟨(.aload_n 1, 21, .inl 0, 0, 0), by subst h; exact ⟨dX0_came_20, rfl, trivial⟩⟩ else none
     else
      bif Nat.blt pc 22 then
       if h : pc = 21 then some ⟨(.iload_n 2, 22, .inl 0, 0, 0), by subst h; exact ⟨dX0_came_21, rfl, trivial⟩⟩ else none
      else
       if h : pc = 22 then some ⟨(.iload_n 3, 23, .inl 0, 0, 0), by subst h; exact ⟨dX0_came_22, rfl, trivial⟩⟩ else none
  else
   bif Nat.blt pc 34 then
    bif Nat.blt pc 27 then
     bif Nat.blt pc 24 then
      if h : pc = 23 then some ⟨(.iconst 3, 24, .inl 3, 0, 0), by subst h; exact ⟨dX0_came_23, rfl, ⟨3, rfl, by decide⟩⟩⟩ else none
     else
      bif Nat.blt pc 26 then
       if h : pc = 24 then some ⟨(.iload 7, 26, .inl 0, 0, 0), by subst h; exact ⟨dX0_came_24, rfl, trivial⟩⟩ else none
      else
       if h : pc = 26 then some ⟨(.imul, 27, .inl 0, 0, 0), by subst h; exact ⟨dX0_came_26, rfl, trivial⟩⟩ else none
    else
     bif Nat.blt pc 31 then
      bif Nat.blt pc 28 then
       if h : pc = 27 then some ⟨(.iadd, 28, .inl 0, 0, 0), by subst h; exact ⟨dX0_came_27, rfl, trivial⟩⟩ else none
      else
       if h : pc = 28 then some ⟨(.invokestatic 466, 31, .inl 0, 181, 0), by subst h; exact ⟨dX0_came_28, rfl, Or.inl ⟨by decide, q1131, q1132⟩⟩⟩ else none
     else
      bif Nat.blt pc 33 then
       if h : pc = 31 then some ⟨(.istore 8, 33, .inl 0, 0, 0), by subst h; exact ⟨dX0_came_31, rfl, (show (8 : Nat) < 10 by decide)⟩⟩ else none
      else
       if h : pc = 33 then some ⟨(.aload_n 1, 34, .inl 0, 0, 0), by subst h; exact ⟨dX0_came_33, rfl, trivial⟩⟩ else none
   else
    bif Nat.blt pc 37 then
     bif Nat.blt pc 35 then
      if h : pc = 34 then some ⟨(.iload_n 2, 35, .inl 0, 0, 0), by subst h; exact ⟨dX0_came_34, rfl, trivial⟩⟩ else none
     else
      bif Nat.blt pc 36 then
       if h : pc = 35 then some ⟨(.iload_n 3, 36, .inl 0, 0, 0), by subst h; exact ⟨dX0_came_35, rfl, trivial⟩⟩ else none
      else
       if h : pc = 36 then some ⟨(.iconst 3, 37, .inl 3, 0, 0), by subst h; exact ⟨dX0_came_36, rfl, ⟨3, rfl, by decide⟩⟩⟩ else none
    else
     bif Nat.blt pc 40 then
      bif Nat.blt pc 39 then
       if h : pc = 37 then some ⟨(.iload 7, 39, .inl 0, 0, 0), by subst h; exact ⟨dX0_came_37, rfl, trivial⟩⟩ else none
      else
       if h : pc = 39 then some ⟨(.imul, 40, .inl 0, 0, 0), by subst h; exact ⟨dX0_came_39, rfl, trivial⟩⟩ else none
     else
      bif Nat.blt pc 41 then
       if h : pc = 40 then some ⟨(.iadd, 41, .inl 0, 0, 0), by subst h; exact ⟨dX0_came_40, rfl, trivial⟩⟩ else none
      else
       if h : pc = 41 then some ⟨(.iconst 1, 42, .inl 1, 0, 0), by subst h; exact ⟨dX0_came_41, rfl, ⟨1, rfl, by decide⟩⟩⟩ else none
 else
  bif Nat.blt pc 63 then
   bif Nat.blt pc 55 then
    bif Nat.blt pc 48 then
     bif Nat.blt pc 43 then
      if h : pc = 42 then some ⟨(.iadd, 43, .inl 0, 0, 0), by subst h; exact ⟨dX0_came_42, rfl, trivial⟩⟩ else none
     else
      bif Nat.blt pc 46 then
       if h : pc = 43 then some ⟨(.invokestatic 466, 46, .inl 0, 181, 0), by subst h; exact ⟨dX0_came_43, rfl, Or.inl ⟨by decide, q1131, q1132⟩⟩⟩ else none
      else
       if h : pc = 46 then some ⟨(.istore 9, 48, .inl 0, 0, 0), by subst h; exact ⟨dX0_came_46, rfl, (show (9 : Nat) < 10 by decide)⟩⟩ else none
    else
     bif Nat.blt pc 51 then
      bif Nat.blt pc 50 then
       if h : pc = 48 then some ⟨(.iload 6, 50, .inl 0, 0, 0), by subst h; exact ⟨dX0_came_48, rfl, trivial⟩⟩ else none
      else
       if h : pc = 50 then some ⟨(.aload_n 0, 51, .inl 0, 0, 0), by subst h; exact ⟨dX0_came_50, rfl, trivial⟩⟩ else none
     else
      bif Nat.blt pc 53 then
       if h : pc = 51 then some ⟨(.iload 8, 53, .inl 0, 0, 0), by subst h; exact ⟨dX0_came_51, rfl, trivial⟩⟩ else none
      else
       if h : pc = 53 then some ⟨(.iload 9, 55, .inl 0, 0, 0), by subst h; exact ⟨dX0_came_53, rfl, trivial⟩⟩ else none
   else
    bif Nat.blt pc 58 then
     bif Nat.blt pc 56 then
      if h : pc = 55 then some ⟨(.aload_n 1, 56, .inl 0, 0, 0), by subst h; exact ⟨dX0_came_55, rfl, trivial⟩⟩ else none
     else
      bif Nat.blt pc 57 then
       if h : pc = 56 then some ⟨(.iload_n 2, 57, .inl 0, 0, 0), by subst h; exact ⟨dX0_came_56, rfl, trivial⟩⟩ else none
      else
       if h : pc = 57 then some ⟨(.iload_n 3, 58, .inl 0, 0, 0), by subst h; exact ⟨dX0_came_57, rfl, trivial⟩⟩ else none
    else
     bif Nat.blt pc 61 then
      bif Nat.blt pc 59 then
       if h : pc = 58 then some ⟨(.iconst 3, 59, .inl 3, 0, 0), by subst h; exact ⟨dX0_came_58, rfl, ⟨3, rfl, by decide⟩⟩⟩ else none
      else
       if h : pc = 59 then some ⟨(.iload 7, 61, .inl 0, 0, 0), by subst h; exact ⟨dX0_came_59, rfl, trivial⟩⟩ else none
     else
      bif Nat.blt pc 62 then
       if h : pc = 61 then some ⟨(.imul, 62, .inl 0, 0, 0), by subst h; exact ⟨dX0_came_61, rfl, trivial⟩⟩ else none
      else
       if h : pc = 62 then some ⟨(.iadd, 63, .inl 0, 0, 0), by subst h; exact ⟨dX0_came_62, rfl, trivial⟩⟩ else none
  else
   bif Nat.blt pc 78 then
    bif Nat.blt pc 68 then
     bif Nat.blt pc 64 then
      if h : pc = 63 then some ⟨(.iconst 2, 64, .inl 2, 0, 0), by subst h; exact ⟨dX0_came_63, rfl, ⟨2, rfl, by decide⟩⟩⟩ else none
     else
      bif Nat.blt pc 65 then
       if h : pc = 64 then some ⟨(.iadd, 65, .inl 0, 0, 0), by subst h; exact ⟨dX0_came_64, rfl, trivial⟩⟩ else none
      else
       if h : pc = 65 then some ⟨(.invokestatic 466, 68, .inl 0, 181, 0), by subst h; exact ⟨dX0_came_65, rfl, Or.inl ⟨by decide, q1131, q1132⟩⟩⟩ else none
    else
     bif Nat.blt pc 74 then
      bif Nat.blt pc 71 then
       if h : pc = 68 then some ⟨(.invokevirtual 562, 71, .inl 0, 107, 0), by subst h; exact ⟨dX0_came_68, rfl, ⟨by decide, q1341, q163, q164, _, rfl, rfl⟩⟩⟩ else none
      else
       if h : pc = 71 then some ⟨(.ifCond .lt 7, 74, .inl 0, 78, 0), by subst h; exact ⟨dX0_came_71, rfl, (show ((71 : Nat) : Int) + (7) = ((78 : Nat) : Int) by decide)⟩⟩ else none
     else
      bif Nat.blt pc 75 then
       if h : pc = 74 then some ⟨(.iconst 1, 75, .inl 1, 0, 0), by subst h; exact ⟨dX0_came_74, rfl, ⟨1, rfl, by decide⟩⟩⟩ else none
      else
       if h : pc = 75 then some ⟨(.goto 4, 78, .inl 0, 79, 0), by subst h; exact ⟨dX0_came_75, rfl, (show ((75 : Nat) : Int) + (4) = ((79 : Nat) : Int) by decide)⟩⟩ else none
   else
    bif Nat.blt pc 82 then
     bif Nat.blt pc 79 then
      if h : pc = 78 then some ⟨(.iconst 0, 79, .inl 0, 0, 0), by subst h; exact ⟨dX0_came_78, rfl, ⟨0, rfl, by decide⟩⟩⟩ else none
     else
      bif Nat.blt pc 80 then
       if h : pc = 79 then some ⟨(.iadd, 80, .inl 0, 0, 0), by subst h; exact ⟨dX0_came_79, rfl, trivial⟩⟩ else none
      else
       if h : pc = 80 then some ⟨(.istore 6, 82, .inl 0, 0, 0), by subst h; exact ⟨dX0_came_80, rfl, (show (6 : Nat) < 10 by decide)⟩⟩ else none
    else
     bif Nat.blt pc 88 then
      bif Nat.blt pc 85 then
       if h : pc = 82 then some ⟨(.iinc 7 1, 85, .inl 1, 0, 0), by subst h; exact ⟨dX0_came_82, rfl, ⟨(show (7 : Nat) < 10 by decide), 1, rfl, by decide⟩⟩⟩ else none
      else
       if h : pc = 85 then some ⟨(.goto (-72), 88, .inl 0, 13, 0), by subst h; exact ⟨dX0_came_85, rfl, (show ((85 : Nat) : Int) + ((-72)) = ((13 : Nat) : Int) by decide)⟩⟩ else none
     else
      bif Nat.blt pc 90 then
       if h : pc = 88 then some ⟨(.iload 6, 90, .inl 0, 0, 0), by subst h; exact ⟨dX0_came_88, rfl, trivial⟩⟩ else none
      else
       if h : pc = 90 then some ⟨(.ireturn, 91, .inl 0, 0, 0), by subst h; exact ⟨dX0_came_90, rfl, rfl⟩⟩ else none

noncomputable def mt205 (pc : Nat) : Option {e : mE // mOK yX0_taken cX0_taken 4 ((Option.some ClassFile.FieldType.int)) pc e} :=
 bif Nat.blt pc 27 then
  bif Nat.blt pc 14 then
   bif Nat.blt pc 3 then
    bif Nat.blt pc 1 then
     if h : pc = 0 then some ⟨(.iload_n 2, 1, .inl 0, 0, 0), by subst h; exact ⟨dX0_taken_0, rfl, trivial⟩⟩ else none
    else
     bif Nat.blt pc 2 then
      if h : pc = 1 then some ⟨(.i2l, 2, .inl 0, 0, 0), by subst h; exact ⟨dX0_taken_1, rfl, trivial⟩⟩ else none
     else
      if h : pc = 2 then some ⟨(.lconst 0, 3, .inr (.inl 0), 0, 0), by subst h; exact ⟨dX0_taken_2, rfl, ⟨0, rfl, by decide⟩⟩⟩ else none
   else
    bif Nat.blt pc 9 then
     bif Nat.blt pc 6 then
      if h : pc = 3 then some ⟨(.ldc2_w 43, 6, .inr (.inl 5), 0, 0), by subst h; exact ⟨dX0_taken_3, rfl, ⟨_, rfl, q166⟩⟩⟩ else none
     else
      if h : pc = 6 then some ⟨(.invokestatic 16, 9, .inl 0, 108, 0), by subst h; exact ⟨dX0_taken_6, rfl, Or.inl ⟨by decide, q167, q168⟩⟩⟩ else none
    else
     bif Nat.blt pc 12 then
      if h : pc = 9 then some ⟨(.ifCond .ne 6, 12, .inl 0, 15, 0), by subst h; exact ⟨dX0_taken_9, rfl, (show ((9 : Nat) : Int) + (6) = ((15 : Nat) : Int) by decide)⟩⟩ else none
     else
      if h : pc = 12 then some ⟨(.bipush (-2), 14, .inl (-2), 0, 0), by subst h; exact ⟨dX0_taken_12, rfl, ⟨(-2), rfl, by decide⟩⟩⟩ else none
  else
   bif Nat.blt pc 17 then
    bif Nat.blt pc 15 then
     if h : pc = 14 then some ⟨(.ireturn, 15, .inl 0, 0, 0), by subst h; exact ⟨dX0_taken_14, rfl, rfl⟩⟩ else none
    else
     bif Nat.blt pc 16 then
      if h : pc = 15 then some ⟨(.aload_n 0, 16, .inl 0, 0, 0), by subst h; exact ⟨dX0_taken_15, rfl, trivial⟩⟩ else none
     else
      if h : pc = 16 then some ⟨(.iload_n 1, 17, .inl 0, 0, 0), by subst h; exact ⟨dX0_taken_16, rfl, trivial⟩⟩ else none
   else
    bif Nat.blt pc 23 then
     bif Nat.blt pc 20 then
      if h : pc = 17 then some ⟨(.invokevirtual 59, 20, .inl 0, 113, 0), by subst h; exact ⟨dX0_taken_17, rfl, ⟨by decide, q281, q283, qs1, _, rfl, rfl⟩⟩⟩ else none
     else
      if h : pc = 20 then some ⟨(.ifCond .eq 12, 23, .inl 0, 32, 0), by subst h; exact ⟨dX0_taken_20, rfl, (show ((20 : Nat) : Int) + (12) = ((32 : Nat) : Int) by decide)⟩⟩ else none
    else
     bif Nat.blt pc 24 then
      if h : pc = 23 then some ⟨(.aload_n 0, 24, .inl 0, 0, 0), by subst h; exact ⟨dX0_taken_23, rfl, trivial⟩⟩ else none
     else
      if h : pc = 24 then some ⟨(.getfield 47, 27, .inr (.inr none), 0, 0), by subst h; exact ⟨dX0_taken_24, rfl, ⟨⟨_, rfl, by decide, _, Or.inl q880, Or.inl rfl⟩, (show mKd 0 0 = 6 by rfl)⟩⟩⟩ else none
 else
  bif Nat.blt pc 40 then
   bif Nat.blt pc 32 then
    bif Nat.blt pc 28 then
     if h : pc = 27 then some ⟨(.iload_n 1, 28, .inl 0, 0, 0), by subst h; exact ⟨dX0_taken_27, rfl, trivial⟩⟩ else none
    else
     bif Nat.blt pc 29 then
      if h : pc = 28 then some ⟨(.aaload, 29, .inl 0, 0, 0), by subst h; exact ⟨dX0_taken_28, rfl, trivial⟩⟩ else none
     else
      if h : pc = 29 then some ⟨(.goto 4, 32, .inl 0, 33, 0), by subst h; exact ⟨dX0_taken_29, rfl, (show ((29 : Nat) : Int) + (4) = ((33 : Nat) : Int) by decide)⟩⟩ else none
   else
    bif Nat.blt pc 34 then
     bif Nat.blt pc 33 then
      if h : pc = 32 then some ⟨(.aconst_null, 33, .inl 0, 0, 0), by subst h; exact ⟨dX0_taken_32, rfl, trivial⟩⟩ else none
     else
      if h : pc = 33 then some ⟨(.iload_n 2, 34, .inl 0, 0, 0), by subst h; exact ⟨dX0_taken_33, rfl, trivial⟩⟩ else none
    else
     bif Nat.blt pc 37 then
      if h : pc = 34 then some ⟨(.invokestatic 571, 37, .inl 0, 206, 0), by subst h; exact ⟨dX0_taken_34, rfl, Or.inl ⟨by decide, q1346, q1347⟩⟩⟩ else none
     else
      if h : pc = 37 then some ⟨(.getfield 72, 40, .inl 0, 0, 4), by subst h; exact ⟨dX0_taken_37, rfl, ⟨⟨_, rfl, by decide, _, Or.inl q192, Or.inl rfl⟩, (show mKd 4 0 ≤ 4 by decide)⟩⟩⟩ else none
  else
   bif Nat.blt pc 44 then
    bif Nat.blt pc 41 then
     if h : pc = 40 then some ⟨(.ireturn, 41, .inl 0, 0, 0), by subst h; exact ⟨dX0_taken_40, rfl, rfl⟩⟩ else none
    else
     bif Nat.blt pc 42 then
      if h : pc = 41 then some ⟨(.astore_n 3, 42, .inl 0, 0, 0), by subst h; exact ⟨dX0_taken_41, rfl, (show (3 : Nat) < 4 by decide)⟩⟩ else none
     else
      if h : pc = 42 then some ⟨(.bipush (-11), 44, .inl (-11), 0, 0), by subst h; exact ⟨dX0_taken_42, rfl, ⟨(-11), rfl, by decide⟩⟩⟩ else none
   else
    bif Nat.blt pc 46 then
     bif Nat.blt pc 45 then
      if h : pc = 44 then some ⟨(.ireturn, 45, .inl 0, 0, 0), by subst h; exact ⟨dX0_taken_44, rfl, rfl⟩⟩ else none
     else
      if h : pc = 45 then some ⟨(.astore_n 3, 46, .inl 0, 0, 0), by subst h; exact ⟨dX0_taken_45, rfl, (show (3 : Nat) < 4 by decide)⟩⟩ else none
    else
     bif Nat.blt pc 48 then
      if h : pc = 46 then some ⟨(.bipush (-13), 48, .inl (-13), 0, 0), by subst h; exact ⟨dX0_taken_46, rfl, ⟨(-13), rfl, by decide⟩⟩⟩ else none
     else
      if h : pc = 48 then some ⟨(.ireturn, 49, .inl 0, 0, 0), by subst h; exact ⟨dX0_taken_48, rfl, rfl⟩⟩ else none

noncomputable def mt206 (pc : Nat) : Option {e : mE // mOK yX0_as cX0_as 2 ((Option.some (ClassFile.FieldType.object "NobodyCanLiftIt$Man"))) pc e} :=
 bif Nat.blt pc 47 then
  bif Nat.blt pc 40 then
   bif Nat.blt pc 36 then
    bif Nat.blt pc 1 then
     if h : pc = 0 then some ⟨(.iload_n 1, 1, .inl 0, 0, 0), by subst h; exact ⟨dX0_as_0, rfl, trivial⟩⟩ else none
    else
     if h : pc = 1 then some ⟨(.tableswitch 60 1 5 #[35, 40, 45, 50, 55], 1, .inl 0, 0, 0), by subst h; exact ⟨dX0_as_1, rfl, ⟨by decide, rfl, by decide⟩⟩⟩ else none
   else
    bif Nat.blt pc 37 then
     if h : pc = 36 then some ⟨(.aload_n 0, 37, .inl 0, 0, 0), by subst h; exact ⟨dX0_as_36, rfl, trivial⟩⟩ else none
    else
     if h : pc = 37 then some ⟨(.checkcast 22, 40, .inl 0, 5, 0), by subst h; exact ⟨dX0_as_37, rfl, Or.inr ⟨_, rfl, q175⟩⟩⟩ else none
  else
   bif Nat.blt pc 42 then
    bif Nat.blt pc 41 then
     if h : pc = 40 then some ⟨(.areturn, 41, .inl 0, 0, 0), by subst h; exact ⟨dX0_as_40, rfl, ⟨_, rfl, Or.inl ⟨_, rfl⟩⟩⟩⟩ else none
    else
     if h : pc = 41 then some ⟨(.aload_n 0, 42, .inl 0, 0, 0), by subst h; exact ⟨dX0_as_41, rfl, trivial⟩⟩ else none
   else
    bif Nat.blt pc 45 then
     if h : pc = 42 then some ⟨(.checkcast 28, 45, .inl 0, 6, 0), by subst h; exact ⟨dX0_as_42, rfl, Or.inr ⟨_, rfl, q216⟩⟩⟩ else none
    else
     bif Nat.blt pc 46 then
      if h : pc = 45 then some ⟨(.areturn, 46, .inl 0, 0, 0), by subst h; exact ⟨dX0_as_45, rfl, ⟨_, rfl, Or.inl ⟨_, rfl⟩⟩⟩⟩ else none
     else
      if h : pc = 46 then some ⟨(.aload_n 0, 47, .inl 0, 0, 0), by subst h; exact ⟨dX0_as_46, rfl, trivial⟩⟩ else none
 else
  bif Nat.blt pc 56 then
   bif Nat.blt pc 51 then
    bif Nat.blt pc 50 then
     if h : pc = 47 then some ⟨(.checkcast 31, 50, .inl 0, 7, 0), by subst h; exact ⟨dX0_as_47, rfl, Or.inr ⟨_, rfl, q227⟩⟩⟩ else none
    else
     if h : pc = 50 then some ⟨(.areturn, 51, .inl 0, 0, 0), by subst h; exact ⟨dX0_as_50, rfl, ⟨_, rfl, Or.inl ⟨_, rfl⟩⟩⟩⟩ else none
   else
    bif Nat.blt pc 52 then
     if h : pc = 51 then some ⟨(.aload_n 0, 52, .inl 0, 0, 0), by subst h; exact ⟨dX0_as_51, rfl, trivial⟩⟩ else none
    else
     bif Nat.blt pc 55 then
      if h : pc = 52 then some ⟨(.checkcast 34, 55, .inl 0, 8, 0), by subst h; exact ⟨dX0_as_52, rfl, Or.inr ⟨_, rfl, q238⟩⟩⟩ else none
     else
      if h : pc = 55 then some ⟨(.areturn, 56, .inl 0, 0, 0), by subst h; exact ⟨dX0_as_55, rfl, ⟨_, rfl, Or.inl ⟨_, rfl⟩⟩⟩⟩ else none
  else
   bif Nat.blt pc 60 then
    bif Nat.blt pc 57 then
     if h : pc = 56 then some ⟨(.aload_n 0, 57, .inl 0, 0, 0), by subst h; exact ⟨dX0_as_56, rfl, trivial⟩⟩ else none
    else
     if h : pc = 57 then some ⟨(.checkcast 37, 60, .inl 0, 9, 0), by subst h; exact ⟨dX0_as_57, rfl, Or.inr ⟨_, rfl, q249⟩⟩⟩ else none
   else
    bif Nat.blt pc 61 then
     if h : pc = 60 then some ⟨(.areturn, 61, .inl 0, 0, 0), by subst h; exact ⟨dX0_as_60, rfl, ⟨_, rfl, Or.inl ⟨_, rfl⟩⟩⟩⟩ else none
    else
     bif Nat.blt pc 62 then
      if h : pc = 61 then some ⟨(.aload_n 0, 62, .inl 0, 0, 0), by subst h; exact ⟨dX0_as_61, rfl, trivial⟩⟩ else none
     else
      if h : pc = 62 then some ⟨(.areturn, 63, .inl 0, 0, 0), by subst h; exact ⟨dX0_as_62, rfl, ⟨_, rfl, Or.inl ⟨_, rfl⟩⟩⟩⟩ else none

noncomputable def mt207 (pc : Nat) : Option {e : mE // mOK yX1_init cX1_init 1 ((Option.none : Option ClassFile.FieldType)) pc e} :=
 bif Nat.blt pc 3 then
  bif Nat.blt pc 1 then
   if h : pc = 0 then some ⟨(.aload_n 0, 1, .inl 0, 0, 0), by subst h; exact ⟨dX1_init_0, rfl, trivial⟩⟩ else none
  else
   bif Nat.blt pc 2 then
    if h : pc = 1 then some ⟨(.aconst_null, 2, .inl 0, 0, 0), by subst h; exact ⟨dX1_init_1, rfl, trivial⟩⟩ else none
   else
    if h : pc = 2 then some ⟨(.aconst_null, 3, .inl 0, 0, 0), by subst h; exact ⟨dX1_init_2, rfl, trivial⟩⟩ else none
 else
  bif Nat.blt pc 5 then
   bif Nat.blt pc 4 then
    if h : pc = 3 then some ⟨(.iconst 0, 4, .inl 0, 0, 0), by subst h; exact ⟨dX1_init_3, rfl, ⟨0, rfl, by decide⟩⟩⟩ else none
   else
    if h : pc = 4 then some ⟨(.iconst 0, 5, .inl 0, 0, 0), by subst h; exact ⟨dX1_init_4, rfl, ⟨0, rfl, by decide⟩⟩⟩ else none
  else
   bif Nat.blt pc 8 then
    if h : pc = 5 then some ⟨(.invokespecial 1, 8, .inl 0, 263, 1), by subst h; exact ⟨dX1_init_5, rfl, ⟨by decide, rfl, q810, q811⟩⟩⟩ else none
   else
    if h : pc = 8 then some ⟨(.return_, 9, .inl 0, 0, 0), by subst h; exact ⟨dX1_init_8, rfl, rfl⟩⟩ else none

noncomputable def mt208 (pc : Nat) : Option {e : mE // mOK yX2_is cX2_is 5 ((Option.none : Option ClassFile.FieldType)) pc e} :=
 bif Nat.blt pc 6 then
  bif Nat.blt pc 2 then
   bif Nat.blt pc 1 then
    if h : pc = 0 then some ⟨(.aload_n 0, 1, .inl 0, 0, 0), by subst h; exact ⟨dX2_is_0, rfl, trivial⟩⟩ else none
   else
    if h : pc = 1 then some ⟨(.lload_n 1, 2, .inl 0, 0, 0), by subst h; exact ⟨dX2_is_1, rfl, trivial⟩⟩ else none
  else
   bif Nat.blt pc 5 then
    if h : pc = 2 then some ⟨(.putfield 13, 5, .inr (.inl 0), 0, 2), by subst h; exact ⟨dX2_is_2, rfl, ⟨⟨_, rfl, by decide, _, Or.inl q854, Or.inl rfl⟩, (show mKd 2 0 = 5 by rfl), by decide, by decide, (fun q h => Or.inl (by cases h; rfl))⟩⟩⟩ else none
   else
    if h : pc = 5 then some ⟨(.aload_n 0, 6, .inl 0, 0, 0), by subst h; exact ⟨dX2_is_5, rfl, trivial⟩⟩ else none
 else
  bif Nat.blt pc 10 then
   bif Nat.blt pc 7 then
    if h : pc = 6 then some ⟨(.lload_n 3, 7, .inl 0, 0, 0), by subst h; exact ⟨dX2_is_6, rfl, trivial⟩⟩ else none
   else
    if h : pc = 7 then some ⟨(.putfield 7, 10, .inr (.inl 0), 1, 2), by subst h; exact ⟨dX2_is_7, rfl, ⟨⟨_, rfl, by decide, _, Or.inl q855, Or.inl rfl⟩, (show mKd 2 1 = 5 by rfl), by decide, by decide, (fun q h => Or.inl (by cases h; rfl))⟩⟩⟩ else none
  else
   bif Nat.blt pc 11 then
    if h : pc = 10 then some ⟨(.aload_n 0, 11, .inl 0, 0, 0), by subst h; exact ⟨dX2_is_10, rfl, trivial⟩⟩ else none
   else
    bif Nat.blt pc 14 then
     if h : pc = 11 then some ⟨(.invokevirtual 16, 14, .inl 0, 209, 2), by subst h; exact ⟨dX2_is_11, rfl, ⟨by decide, q433, q435, qs11, _, rfl, rfl⟩⟩⟩ else none
    else
     if h : pc = 14 then some ⟨(.return_, 15, .inl 0, 0, 0), by subst h; exact ⟨dX2_is_14, rfl, rfl⟩⟩ else none

noncomputable def mt209 (pc : Nat) : Option {e : mE // mOK yX2_lowers cX2_lowers 7 ((Option.none : Option ClassFile.FieldType)) pc e} :=
 bif Nat.blt pc 25 then
  bif Nat.blt pc 14 then
   bif Nat.blt pc 8 then
    bif Nat.blt pc 4 then
     bif Nat.blt pc 1 then
      if h : pc = 0 then some ⟨(.aload_n 0, 1, .inl 0, 0, 0), by subst h; exact ⟨dX2_lowers_0, rfl, trivial⟩⟩ else none
     else
      if h : pc = 1 then some ⟨(.getfield 13, 4, .inr (.inl 0), 0, 2), by subst h; exact ⟨dX2_lowers_1, rfl, ⟨⟨_, rfl, by decide, _, Or.inl q854, Or.inl rfl⟩, (show mKd 2 0 = 5 by rfl)⟩⟩⟩ else none
    else
     bif Nat.blt pc 7 then
      if h : pc = 4 then some ⟨(.invokestatic 19, 7, .inl 0, 993, 0), by subst h; exact ⟨dX2_lowers_4, rfl, Or.inr (Or.inl ⟨by decide, q140, fun h => absurd h (by decide), fun h => absurd h (by decide), fun h => ⟨q438, q439, q440⟩, fun h => absurd h (by decide)⟩)⟩⟩ else none
     else
      if h : pc = 7 then some ⟨(.lstore_n 1, 8, .inl 0, 0, 0), by subst h; exact ⟨dX2_lowers_7, rfl, (show (1 : Nat) + 1 < 7 by decide)⟩⟩ else none
   else
    bif Nat.blt pc 12 then
     bif Nat.blt pc 9 then
      if h : pc = 8 then some ⟨(.aload_n 0, 9, .inl 0, 0, 0), by subst h; exact ⟨dX2_lowers_8, rfl, trivial⟩⟩ else none
     else
      if h : pc = 9 then some ⟨(.getfield 7, 12, .inr (.inl 0), 1, 2), by subst h; exact ⟨dX2_lowers_9, rfl, ⟨⟨_, rfl, by decide, _, Or.inl q855, Or.inl rfl⟩, (show mKd 2 1 = 5 by rfl)⟩⟩⟩ else none
    else
     bif Nat.blt pc 13 then
      if h : pc = 12 then some ⟨(.lstore_n 3, 13, .inl 0, 0, 0), by subst h; exact ⟨dX2_lowers_12, rfl, (show (3 : Nat) + 1 < 7 by decide)⟩⟩ else none
     else
      if h : pc = 13 then some ⟨(.lload_n 3, 14, .inl 0, 0, 0), by subst h; exact ⟨dX2_lowers_13, rfl, trivial⟩⟩ else none
  else
   bif Nat.blt pc 20 then
    bif Nat.blt pc 16 then
     bif Nat.blt pc 15 then
      if h : pc = 14 then some ⟨(.lconst 0, 15, .inr (.inl 0), 0, 0), by subst h; exact ⟨dX2_lowers_14, rfl, ⟨0, rfl, by decide⟩⟩⟩ else none
     else
      if h : pc = 15 then some ⟨(.lcmp, 16, .inl 0, 0, 0), by subst h; exact ⟨dX2_lowers_15, rfl, trivial⟩⟩ else none
    else
     bif Nat.blt pc 19 then
      if h : pc = 16 then some ⟨(.ifCond .eq 16, 19, .inl 0, 32, 0), by subst h; exact ⟨dX2_lowers_16, rfl, (show ((16 : Nat) : Int) + (16) = ((32 : Nat) : Int) by decide)⟩⟩ else none
     else
      if h : pc = 19 then some ⟨(.lload_n 1, 20, .inl 0, 0, 0), by subst h; exact ⟨dX2_lowers_19, rfl, trivial⟩⟩ else none
   else
    bif Nat.blt pc 22 then
     bif Nat.blt pc 21 then
      if h : pc = 20 then some ⟨(.lload_n 3, 21, .inl 0, 0, 0), by subst h; exact ⟨dX2_lowers_20, rfl, trivial⟩⟩ else none
     else
      if h : pc = 21 then some ⟨(.lrem, 22, .inl 0, 0, 0), by subst h; exact ⟨dX2_lowers_21, rfl, trivial⟩⟩ else none
    else
     bif Nat.blt pc 24 then
      if h : pc = 22 then some ⟨(.lstore 5, 24, .inl 0, 0, 0), by subst h; exact ⟨dX2_lowers_22, rfl, (show (5 : Nat) + 1 < 7 by decide)⟩⟩ else none
     else
      if h : pc = 24 then some ⟨(.lload_n 3, 25, .inl 0, 0, 0), by subst h; exact ⟨dX2_lowers_24, rfl, trivial⟩⟩ else none
 else
  bif Nat.blt pc 38 then
   bif Nat.blt pc 32 then
    bif Nat.blt pc 28 then
     bif Nat.blt pc 26 then
      if h : pc = 25 then some ⟨(.lstore_n 1, 26, .inl 0, 0, 0), by subst h; exact ⟨dX2_lowers_25, rfl, (show (1 : Nat) + 1 < 7 by decide)⟩⟩ else none
     else
      if h : pc = 26 then some ⟨(.lload 5, 28, .inl 0, 0, 0), by subst h; exact ⟨dX2_lowers_26, rfl, trivial⟩⟩ else none
    else
     bif Nat.blt pc 29 then
      if h : pc = 28 then some ⟨(.lstore_n 3, 29, .inl 0, 0, 0), by subst h; exact ⟨dX2_lowers_28, rfl, (show (3 : Nat) + 1 < 7 by decide)⟩⟩ else none
     else
      if h : pc = 29 then some ⟨(.goto (-16), 32, .inl 0, 13, 0), by subst h; exact ⟨dX2_lowers_29, rfl, (show ((29 : Nat) : Int) + ((-16)) = ((13 : Nat) : Int) by decide)⟩⟩ else none
   else
    bif Nat.blt pc 34 then
     bif Nat.blt pc 33 then
      if h : pc = 32 then some ⟨(.aload_n 0, 33, .inl 0, 0, 0), by subst h; exact ⟨dX2_lowers_32, rfl, trivial⟩⟩ else none
     else
      if h : pc = 33 then some ⟨(.dup, 34, .inl 0, 0, 0), by subst h; exact ⟨dX2_lowers_33, rfl, trivial⟩⟩ else none
    else
     bif Nat.blt pc 37 then
      if h : pc = 34 then some ⟨(.getfield 13, 37, .inr (.inl 0), 0, 2), by subst h; exact ⟨dX2_lowers_34, rfl, ⟨⟨_, rfl, by decide, _, Or.inl q854, Or.inl rfl⟩, (show mKd 2 0 = 5 by rfl)⟩⟩⟩ else none
     else
      if h : pc = 37 then some ⟨(.lload_n 1, 38, .inl 0, 0, 0), by subst h; exact ⟨dX2_lowers_37, rfl, trivial⟩⟩ else none
  else
   bif Nat.blt pc 44 then
    bif Nat.blt pc 42 then
     bif Nat.blt pc 39 then
      if h : pc = 38 then some ⟨(.ldiv, 39, .inl 0, 0, 0), by subst h; exact ⟨dX2_lowers_38, rfl, trivial⟩⟩ else none
     else
      if h : pc = 39 then some ⟨(.putfield 13, 42, .inr (.inl 0), 0, 2), by subst h; exact ⟨dX2_lowers_39, rfl, ⟨⟨_, rfl, by decide, _, Or.inl q854, Or.inl rfl⟩, (show mKd 2 0 = 5 by rfl), by decide, by decide, (fun q h => Or.inl (by cases h; rfl))⟩⟩⟩ else none
    else
     bif Nat.blt pc 43 then
      if h : pc = 42 then some ⟨(.aload_n 0, 43, .inl 0, 0, 0), by subst h; exact ⟨dX2_lowers_42, rfl, trivial⟩⟩ else none
     else
      if h : pc = 43 then some ⟨(.dup, 44, .inl 0, 0, 0), by subst h; exact ⟨dX2_lowers_43, rfl, trivial⟩⟩ else none
   else
    bif Nat.blt pc 48 then
     bif Nat.blt pc 47 then
      if h : pc = 44 then some ⟨(.getfield 7, 47, .inr (.inl 0), 1, 2), by subst h; exact ⟨dX2_lowers_44, rfl, ⟨⟨_, rfl, by decide, _, Or.inl q855, Or.inl rfl⟩, (show mKd 2 1 = 5 by rfl)⟩⟩⟩ else none
     else
      if h : pc = 47 then some ⟨(.lload_n 1, 48, .inl 0, 0, 0), by subst h; exact ⟨dX2_lowers_47, rfl, trivial⟩⟩ else none
    else
     bif Nat.blt pc 49 then
      if h : pc = 48 then some ⟨(.ldiv, 49, .inl 0, 0, 0), by subst h; exact ⟨dX2_lowers_48, rfl, trivial⟩⟩ else none
     else
      bif Nat.blt pc 52 then
       if h : pc = 49 then some ⟨(.putfield 7, 52, .inr (.inl 0), 1, 2), by subst h; exact ⟨dX2_lowers_49, rfl, ⟨⟨_, rfl, by decide, _, Or.inl q855, Or.inl rfl⟩, (show mKd 2 1 = 5 by rfl), by decide, by decide, (fun q h => Or.inl (by cases h; rfl))⟩⟩⟩ else none
      else
       if h : pc = 52 then some ⟨(.return_, 53, .inl 0, 0, 0), by subst h; exact ⟨dX2_lowers_52, rfl, rfl⟩⟩ else none

noncomputable def mt210 (pc : Nat) : Option {e : mE // mOK yX2_by cX2_by 5 ((Option.none : Option ClassFile.FieldType)) pc e} :=
 bif Nat.blt pc 7 then
  bif Nat.blt pc 2 then
   bif Nat.blt pc 1 then
    if h : pc = 0 then some ⟨(.aload_n 0, 1, .inl 0, 0, 0), by subst h; exact ⟨dX2_by_0, rfl, trivial⟩⟩ else none
   else
    if h : pc = 1 then some ⟨(.aload_n 0, 2, .inl 0, 0, 0), by subst h; exact ⟨dX2_by_1, rfl, trivial⟩⟩ else none
  else
   bif Nat.blt pc 5 then
    if h : pc = 2 then some ⟨(.getfield 13, 5, .inr (.inl 0), 0, 2), by subst h; exact ⟨dX2_by_2, rfl, ⟨⟨_, rfl, by decide, _, Or.inl q854, Or.inl rfl⟩, (show mKd 2 0 = 5 by rfl)⟩⟩⟩ else none
   else
    bif Nat.blt pc 6 then
     if h : pc = 5 then some ⟨(.lload_n 1, 6, .inl 0, 0, 0), by subst h; exact ⟨dX2_by_5, rfl, trivial⟩⟩ else none
    else
     if h : pc = 6 then some ⟨(.lmul, 7, .inl 0, 0, 0), by subst h; exact ⟨dX2_by_6, rfl, trivial⟩⟩ else none
 else
  bif Nat.blt pc 12 then
   bif Nat.blt pc 8 then
    if h : pc = 7 then some ⟨(.aload_n 0, 8, .inl 0, 0, 0), by subst h; exact ⟨dX2_by_7, rfl, trivial⟩⟩ else none
   else
    bif Nat.blt pc 11 then
     if h : pc = 8 then some ⟨(.getfield 7, 11, .inr (.inl 0), 1, 2), by subst h; exact ⟨dX2_by_8, rfl, ⟨⟨_, rfl, by decide, _, Or.inl q855, Or.inl rfl⟩, (show mKd 2 1 = 5 by rfl)⟩⟩⟩ else none
    else
     if h : pc = 11 then some ⟨(.lload_n 3, 12, .inl 0, 0, 0), by subst h; exact ⟨dX2_by_11, rfl, trivial⟩⟩ else none
  else
   bif Nat.blt pc 13 then
    if h : pc = 12 then some ⟨(.lmul, 13, .inl 0, 0, 0), by subst h; exact ⟨dX2_by_12, rfl, trivial⟩⟩ else none
   else
    bif Nat.blt pc 16 then
     if h : pc = 13 then some ⟨(.invokevirtual 25, 16, .inl 0, 208, 2), by subst h; exact ⟨dX2_by_13, rfl, ⟨by decide, q460, q430, q431, _, rfl, rfl⟩⟩⟩ else none
    else
     if h : pc = 16 then some ⟨(.return_, 17, .inl 0, 0, 0), by subst h; exact ⟨dX2_by_16, rfl, rfl⟩⟩ else none

noncomputable def mt211 (pc : Nat) : Option {e : mE // mOK yX2_lessens cX2_lessens 3 ((Option.none : Option ClassFile.FieldType)) pc e} :=
 bif Nat.blt pc 11 then
  bif Nat.blt pc 3 then
   bif Nat.blt pc 1 then
    if h : pc = 0 then some ⟨(.aload_n 0, 1, .inl 0, 0, 0), by subst h; exact ⟨dX2_lessens_0, rfl, trivial⟩⟩ else none
   else
    bif Nat.blt pc 2 then
     if h : pc = 1 then some ⟨(.lconst 0, 2, .inr (.inl 0), 0, 0), by subst h; exact ⟨dX2_lessens_1, rfl, ⟨0, rfl, by decide⟩⟩⟩ else none
    else
     if h : pc = 2 then some ⟨(.aload_n 0, 3, .inl 0, 0, 0), by subst h; exact ⟨dX2_lessens_2, rfl, trivial⟩⟩ else none
  else
   bif Nat.blt pc 7 then
    bif Nat.blt pc 6 then
     if h : pc = 3 then some ⟨(.getfield 13, 6, .inr (.inl 0), 0, 2), by subst h; exact ⟨dX2_lessens_3, rfl, ⟨⟨_, rfl, by decide, _, Or.inl q854, Or.inl rfl⟩, (show mKd 2 0 = 5 by rfl)⟩⟩⟩ else none
    else
     if h : pc = 6 then some ⟨(.lload_n 1, 7, .inl 0, 0, 0), by subst h; exact ⟨dX2_lessens_6, rfl, trivial⟩⟩ else none
   else
    bif Nat.blt pc 8 then
     if h : pc = 7 then some ⟨(.aload_n 0, 8, .inl 0, 0, 0), by subst h; exact ⟨dX2_lessens_7, rfl, trivial⟩⟩ else none
    else
     if h : pc = 8 then some ⟨(.getfield 7, 11, .inr (.inl 0), 1, 2), by subst h; exact ⟨dX2_lessens_8, rfl, ⟨⟨_, rfl, by decide, _, Or.inl q855, Or.inl rfl⟩, (show mKd 2 1 = 5 by rfl)⟩⟩⟩ else none
 else
  bif Nat.blt pc 16 then
   bif Nat.blt pc 12 then
    if h : pc = 11 then some ⟨(.lmul, 12, .inl 0, 0, 0), by subst h; exact ⟨dX2_lessens_11, rfl, trivial⟩⟩ else none
   else
    bif Nat.blt pc 13 then
     if h : pc = 12 then some ⟨(.lsub, 13, .inl 0, 0, 0), by subst h; exact ⟨dX2_lessens_12, rfl, trivial⟩⟩ else none
    else
     if h : pc = 13 then some ⟨(.invokestatic 29, 16, .inl 0, 994, 0), by subst h; exact ⟨dX2_lessens_13, rfl, Or.inr (Or.inl ⟨by decide, q140, fun h => absurd h (by decide), fun h => absurd h (by decide), fun h => absurd h (by decide), fun h => ⟨q485, q486, q487⟩⟩)⟩⟩ else none
  else
   bif Nat.blt pc 20 then
    bif Nat.blt pc 17 then
     if h : pc = 16 then some ⟨(.aload_n 0, 17, .inl 0, 0, 0), by subst h; exact ⟨dX2_lessens_16, rfl, trivial⟩⟩ else none
    else
     if h : pc = 17 then some ⟨(.getfield 7, 20, .inr (.inl 0), 1, 2), by subst h; exact ⟨dX2_lessens_17, rfl, ⟨⟨_, rfl, by decide, _, Or.inl q855, Or.inl rfl⟩, (show mKd 2 1 = 5 by rfl)⟩⟩⟩ else none
   else
    bif Nat.blt pc 23 then
     if h : pc = 20 then some ⟨(.invokevirtual 25, 23, .inl 0, 208, 2), by subst h; exact ⟨dX2_lessens_20, rfl, ⟨by decide, q460, q430, q431, _, rfl, rfl⟩⟩⟩ else none
    else
     if h : pc = 23 then some ⟨(.return_, 24, .inl 0, 0, 0), by subst h; exact ⟨dX2_lessens_23, rfl, rfl⟩⟩ else none

noncomputable def mt212 (pc : Nat) : Option {e : mE // mOK yX2_adds cX2_adds 2 ((Option.none : Option ClassFile.FieldType)) pc e} :=
 bif Nat.blt pc 15 then
  bif Nat.blt pc 6 then
   bif Nat.blt pc 2 then
    bif Nat.blt pc 1 then
     if h : pc = 0 then some ⟨(.aload_n 0, 1, .inl 0, 0, 0), by subst h; exact ⟨dX2_adds_0, rfl, trivial⟩⟩ else none
    else
     if h : pc = 1 then some ⟨(.aload_n 0, 2, .inl 0, 0, 0), by subst h; exact ⟨dX2_adds_1, rfl, trivial⟩⟩ else none
   else
    bif Nat.blt pc 5 then
     if h : pc = 2 then some ⟨(.getfield 13, 5, .inr (.inl 0), 0, 2), by subst h; exact ⟨dX2_adds_2, rfl, ⟨⟨_, rfl, by decide, _, Or.inl q854, Or.inl rfl⟩, (show mKd 2 0 = 5 by rfl)⟩⟩⟩ else none
    else
     if h : pc = 5 then some ⟨(.aload_n 1, 6, .inl 0, 0, 0), by subst h; exact ⟨dX2_adds_5, rfl, trivial⟩⟩ else none
  else
   bif Nat.blt pc 10 then
    bif Nat.blt pc 9 then
     if h : pc = 6 then some ⟨(.getfield 7, 9, .inr (.inl 0), 1, 2), by subst h; exact ⟨dX2_adds_6, rfl, ⟨⟨_, rfl, by decide, _, Or.inl q855, Or.inl rfl⟩, (show mKd 2 1 = 5 by rfl)⟩⟩⟩ else none
    else
     if h : pc = 9 then some ⟨(.lmul, 10, .inl 0, 0, 0), by subst h; exact ⟨dX2_adds_9, rfl, trivial⟩⟩ else none
   else
    bif Nat.blt pc 11 then
     if h : pc = 10 then some ⟨(.aload_n 1, 11, .inl 0, 0, 0), by subst h; exact ⟨dX2_adds_10, rfl, trivial⟩⟩ else none
    else
     bif Nat.blt pc 14 then
      if h : pc = 11 then some ⟨(.getfield 13, 14, .inr (.inl 0), 0, 2), by subst h; exact ⟨dX2_adds_11, rfl, ⟨⟨_, rfl, by decide, _, Or.inl q854, Or.inl rfl⟩, (show mKd 2 0 = 5 by rfl)⟩⟩⟩ else none
     else
      if h : pc = 14 then some ⟨(.aload_n 0, 15, .inl 0, 0, 0), by subst h; exact ⟨dX2_adds_14, rfl, trivial⟩⟩ else none
 else
  bif Nat.blt pc 24 then
   bif Nat.blt pc 19 then
    bif Nat.blt pc 18 then
     if h : pc = 15 then some ⟨(.getfield 7, 18, .inr (.inl 0), 1, 2), by subst h; exact ⟨dX2_adds_15, rfl, ⟨⟨_, rfl, by decide, _, Or.inl q855, Or.inl rfl⟩, (show mKd 2 1 = 5 by rfl)⟩⟩⟩ else none
    else
     if h : pc = 18 then some ⟨(.lmul, 19, .inl 0, 0, 0), by subst h; exact ⟨dX2_adds_18, rfl, trivial⟩⟩ else none
   else
    bif Nat.blt pc 20 then
     if h : pc = 19 then some ⟨(.ladd, 20, .inl 0, 0, 0), by subst h; exact ⟨dX2_adds_19, rfl, trivial⟩⟩ else none
    else
     bif Nat.blt pc 21 then
      if h : pc = 20 then some ⟨(.aload_n 0, 21, .inl 0, 0, 0), by subst h; exact ⟨dX2_adds_20, rfl, trivial⟩⟩ else none
     else
      if h : pc = 21 then some ⟨(.getfield 7, 24, .inr (.inl 0), 1, 2), by subst h; exact ⟨dX2_adds_21, rfl, ⟨⟨_, rfl, by decide, _, Or.inl q855, Or.inl rfl⟩, (show mKd 2 1 = 5 by rfl)⟩⟩⟩ else none
  else
   bif Nat.blt pc 28 then
    bif Nat.blt pc 25 then
     if h : pc = 24 then some ⟨(.aload_n 1, 25, .inl 0, 0, 0), by subst h; exact ⟨dX2_adds_24, rfl, trivial⟩⟩ else none
    else
     if h : pc = 25 then some ⟨(.getfield 7, 28, .inr (.inl 0), 1, 2), by subst h; exact ⟨dX2_adds_25, rfl, ⟨⟨_, rfl, by decide, _, Or.inl q855, Or.inl rfl⟩, (show mKd 2 1 = 5 by rfl)⟩⟩⟩ else none
   else
    bif Nat.blt pc 29 then
     if h : pc = 28 then some ⟨(.lmul, 29, .inl 0, 0, 0), by subst h; exact ⟨dX2_adds_28, rfl, trivial⟩⟩ else none
    else
     bif Nat.blt pc 32 then
      if h : pc = 29 then some ⟨(.invokevirtual 25, 32, .inl 0, 208, 2), by subst h; exact ⟨dX2_adds_29, rfl, ⟨by decide, q460, q430, q431, _, rfl, rfl⟩⟩⟩ else none
     else
      if h : pc = 32 then some ⟨(.return_, 33, .inl 0, 0, 0), by subst h; exact ⟨dX2_adds_32, rfl, rfl⟩⟩ else none

noncomputable def mt213 (pc : Nat) : Option {e : mE // mOK yX2_against cX2_against 3 ((Option.some ClassFile.FieldType.int)) pc e} :=
 bif Nat.blt pc 6 then
  bif Nat.blt pc 4 then
   bif Nat.blt pc 1 then
    if h : pc = 0 then some ⟨(.aload_n 0, 1, .inl 0, 0, 0), by subst h; exact ⟨dX2_against_0, rfl, trivial⟩⟩ else none
   else
    if h : pc = 1 then some ⟨(.getfield 13, 4, .inr (.inl 0), 0, 2), by subst h; exact ⟨dX2_against_1, rfl, ⟨⟨_, rfl, by decide, _, Or.inl q854, Or.inl rfl⟩, (show mKd 2 0 = 5 by rfl)⟩⟩⟩ else none
  else
   bif Nat.blt pc 5 then
    if h : pc = 4 then some ⟨(.lload_n 1, 5, .inl 0, 0, 0), by subst h; exact ⟨dX2_against_4, rfl, trivial⟩⟩ else none
   else
    if h : pc = 5 then some ⟨(.aload_n 0, 6, .inl 0, 0, 0), by subst h; exact ⟨dX2_against_5, rfl, trivial⟩⟩ else none
 else
  bif Nat.blt pc 10 then
   bif Nat.blt pc 9 then
    if h : pc = 6 then some ⟨(.getfield 7, 9, .inr (.inl 0), 1, 2), by subst h; exact ⟨dX2_against_6, rfl, ⟨⟨_, rfl, by decide, _, Or.inl q855, Or.inl rfl⟩, (show mKd 2 1 = 5 by rfl)⟩⟩⟩ else none
   else
    if h : pc = 9 then some ⟨(.lmul, 10, .inl 0, 0, 0), by subst h; exact ⟨dX2_against_9, rfl, trivial⟩⟩ else none
  else
   bif Nat.blt pc 13 then
    if h : pc = 10 then some ⟨(.invokestatic 33, 13, .inl 0, 259, 0), by subst h; exact ⟨dX2_against_10, rfl, Or.inl ⟨by decide, q496, q497⟩⟩⟩ else none
   else
    if h : pc = 13 then some ⟨(.ireturn, 14, .inl 0, 0, 0), by subst h; exact ⟨dX2_against_13, rfl, rfl⟩⟩ else none

noncomputable def mt214 (pc : Nat) : Option {e : mE // mOK yX2_init cX2_init 1 ((Option.none : Option ClassFile.FieldType)) pc e} :=
 bif Nat.blt pc 5 then
  bif Nat.blt pc 1 then
   if h : pc = 0 then some ⟨(.aload_n 0, 1, .inl 0, 0, 0), by subst h; exact ⟨dX2_init_0, rfl, trivial⟩⟩ else none
  else
   bif Nat.blt pc 4 then
    if h : pc = 1 then some ⟨(.invokespecial 1, 4, .inl 0, 999, 0), by subst h; exact ⟨dX2_init_1, rfl, ⟨rfl, q853, q184, q185⟩⟩⟩ else none
   else
    if h : pc = 4 then some ⟨(.aload_n 0, 5, .inl 0, 0, 0), by subst h; exact ⟨dX2_init_4, rfl, trivial⟩⟩ else none
 else
  bif Nat.blt pc 6 then
   if h : pc = 5 then some ⟨(.lconst 1, 6, .inr (.inl 1), 0, 0), by subst h; exact ⟨dX2_init_5, rfl, ⟨1, rfl, by decide⟩⟩⟩ else none
  else
   bif Nat.blt pc 9 then
    if h : pc = 6 then some ⟨(.putfield 7, 9, .inr (.inl 0), 1, 2), by subst h; exact ⟨dX2_init_6, rfl, ⟨⟨_, rfl, by decide, _, Or.inl q855, Or.inl rfl⟩, (show mKd 2 1 = 5 by rfl), by decide, by decide, (fun q h => Or.inl (by cases h; rfl))⟩⟩⟩ else none
   else
    if h : pc = 9 then some ⟨(.return_, 10, .inl 0, 0, 0), by subst h; exact ⟨dX2_init_9, rfl, rfl⟩⟩ else none

noncomputable def mt215 (pc : Nat) : Option {e : mE // mOK yX2_told cX2_told 2 ((Option.some ClassFile.FieldType.long)) pc e} :=
 bif Nat.blt pc 8 then
  bif Nat.blt pc 4 then
   bif Nat.blt pc 1 then
    if h : pc = 0 then some ⟨(.iload_n 1, 1, .inl 0, 0, 0), by subst h; exact ⟨dX2_told_0, rfl, trivial⟩⟩ else none
   else
    if h : pc = 1 then some ⟨(.ifCond .ne 10, 4, .inl 0, 11, 0), by subst h; exact ⟨dX2_told_1, rfl, (show ((1 : Nat) : Int) + (10) = ((11 : Nat) : Int) by decide)⟩⟩ else none
  else
   bif Nat.blt pc 5 then
    if h : pc = 4 then some ⟨(.aload_n 0, 5, .inl 0, 0, 0), by subst h; exact ⟨dX2_told_4, rfl, trivial⟩⟩ else none
   else
    if h : pc = 5 then some ⟨(.getfield 13, 8, .inr (.inl 0), 0, 2), by subst h; exact ⟨dX2_told_5, rfl, ⟨⟨_, rfl, by decide, _, Or.inl q854, Or.inl rfl⟩, (show mKd 2 0 = 5 by rfl)⟩⟩⟩ else none
 else
  bif Nat.blt pc 12 then
   bif Nat.blt pc 11 then
    if h : pc = 8 then some ⟨(.goto 7, 11, .inl 0, 15, 0), by subst h; exact ⟨dX2_told_8, rfl, (show ((8 : Nat) : Int) + (7) = ((15 : Nat) : Int) by decide)⟩⟩ else none
   else
    if h : pc = 11 then some ⟨(.aload_n 0, 12, .inl 0, 0, 0), by subst h; exact ⟨dX2_told_11, rfl, trivial⟩⟩ else none
  else
   bif Nat.blt pc 15 then
    if h : pc = 12 then some ⟨(.getfield 7, 15, .inr (.inl 0), 1, 2), by subst h; exact ⟨dX2_told_12, rfl, ⟨⟨_, rfl, by decide, _, Or.inl q855, Or.inl rfl⟩, (show mKd 2 1 = 5 by rfl)⟩⟩⟩ else none
   else
    if h : pc = 15 then some ⟨(.lreturn, 16, .inl 0, 0, 0), by subst h; exact ⟨dX2_told_15, rfl, rfl⟩⟩ else none

noncomputable def mt216 (pc : Nat) : Option {e : mE // mOK yX2_against_2 cX2_against_2 2 ((Option.some ClassFile.FieldType.int)) pc e} :=
 bif Nat.blt pc 10 then
  bif Nat.blt pc 5 then
   bif Nat.blt pc 1 then
    if h : pc = 0 then some ⟨(.aload_n 0, 1, .inl 0, 0, 0), by subst h; exact ⟨dX2_against_2_0, rfl, trivial⟩⟩ else none
   else
    bif Nat.blt pc 4 then
     if h : pc = 1 then some ⟨(.getfield 13, 4, .inr (.inl 0), 0, 2), by subst h; exact ⟨dX2_against_2_1, rfl, ⟨⟨_, rfl, by decide, _, Or.inl q854, Or.inl rfl⟩, (show mKd 2 0 = 5 by rfl)⟩⟩⟩ else none
    else
     if h : pc = 4 then some ⟨(.aload_n 1, 5, .inl 0, 0, 0), by subst h; exact ⟨dX2_against_2_4, rfl, trivial⟩⟩ else none
  else
   bif Nat.blt pc 8 then
    if h : pc = 5 then some ⟨(.getfield 7, 8, .inr (.inl 0), 1, 2), by subst h; exact ⟨dX2_against_2_5, rfl, ⟨⟨_, rfl, by decide, _, Or.inl q855, Or.inl rfl⟩, (show mKd 2 1 = 5 by rfl)⟩⟩⟩ else none
   else
    bif Nat.blt pc 9 then
     if h : pc = 8 then some ⟨(.lmul, 9, .inl 0, 0, 0), by subst h; exact ⟨dX2_against_2_8, rfl, trivial⟩⟩ else none
    else
     if h : pc = 9 then some ⟨(.aload_n 1, 10, .inl 0, 0, 0), by subst h; exact ⟨dX2_against_2_9, rfl, trivial⟩⟩ else none
 else
  bif Nat.blt pc 17 then
   bif Nat.blt pc 13 then
    if h : pc = 10 then some ⟨(.getfield 13, 13, .inr (.inl 0), 0, 2), by subst h; exact ⟨dX2_against_2_10, rfl, ⟨⟨_, rfl, by decide, _, Or.inl q854, Or.inl rfl⟩, (show mKd 2 0 = 5 by rfl)⟩⟩⟩ else none
   else
    bif Nat.blt pc 14 then
     if h : pc = 13 then some ⟨(.aload_n 0, 14, .inl 0, 0, 0), by subst h; exact ⟨dX2_against_2_13, rfl, trivial⟩⟩ else none
    else
     if h : pc = 14 then some ⟨(.getfield 7, 17, .inr (.inl 0), 1, 2), by subst h; exact ⟨dX2_against_2_14, rfl, ⟨⟨_, rfl, by decide, _, Or.inl q855, Or.inl rfl⟩, (show mKd 2 1 = 5 by rfl)⟩⟩⟩ else none
  else
   bif Nat.blt pc 18 then
    if h : pc = 17 then some ⟨(.lmul, 18, .inl 0, 0, 0), by subst h; exact ⟨dX2_against_2_17, rfl, trivial⟩⟩ else none
   else
    bif Nat.blt pc 21 then
     if h : pc = 18 then some ⟨(.invokestatic 33, 21, .inl 0, 259, 0), by subst h; exact ⟨dX2_against_2_18, rfl, Or.inl ⟨by decide, q496, q497⟩⟩⟩ else none
    else
     if h : pc = 21 then some ⟨(.ireturn, 22, .inl 0, 0, 0), by subst h; exact ⟨dX2_against_2_21, rfl, rfl⟩⟩ else none

noncomputable def mt217 (pc : Nat) : Option {e : mE // mOK yX2_becomes cX2_becomes 2 ((Option.none : Option ClassFile.FieldType)) pc e} :=
 bif Nat.blt pc 8 then
  bif Nat.blt pc 2 then
   bif Nat.blt pc 1 then
    if h : pc = 0 then some ⟨(.aload_n 0, 1, .inl 0, 0, 0), by subst h; exact ⟨dX2_becomes_0, rfl, trivial⟩⟩ else none
   else
    if h : pc = 1 then some ⟨(.aload_n 1, 2, .inl 0, 0, 0), by subst h; exact ⟨dX2_becomes_1, rfl, trivial⟩⟩ else none
  else
   bif Nat.blt pc 5 then
    if h : pc = 2 then some ⟨(.getfield 13, 5, .inr (.inl 0), 0, 2), by subst h; exact ⟨dX2_becomes_2, rfl, ⟨⟨_, rfl, by decide, _, Or.inl q854, Or.inl rfl⟩, (show mKd 2 0 = 5 by rfl)⟩⟩⟩ else none
   else
    if h : pc = 5 then some ⟨(.putfield 13, 8, .inr (.inl 0), 0, 2), by subst h; exact ⟨dX2_becomes_5, rfl, ⟨⟨_, rfl, by decide, _, Or.inl q854, Or.inl rfl⟩, (show mKd 2 0 = 5 by rfl), by decide, by decide, (fun q h => Or.inl (by cases h; rfl))⟩⟩⟩ else none
 else
  bif Nat.blt pc 10 then
   bif Nat.blt pc 9 then
    if h : pc = 8 then some ⟨(.aload_n 0, 9, .inl 0, 0, 0), by subst h; exact ⟨dX2_becomes_8, rfl, trivial⟩⟩ else none
   else
    if h : pc = 9 then some ⟨(.aload_n 1, 10, .inl 0, 0, 0), by subst h; exact ⟨dX2_becomes_9, rfl, trivial⟩⟩ else none
  else
   bif Nat.blt pc 13 then
    if h : pc = 10 then some ⟨(.getfield 7, 13, .inr (.inl 0), 1, 2), by subst h; exact ⟨dX2_becomes_10, rfl, ⟨⟨_, rfl, by decide, _, Or.inl q855, Or.inl rfl⟩, (show mKd 2 1 = 5 by rfl)⟩⟩⟩ else none
   else
    bif Nat.blt pc 16 then
     if h : pc = 13 then some ⟨(.putfield 7, 16, .inr (.inl 0), 1, 2), by subst h; exact ⟨dX2_becomes_13, rfl, ⟨⟨_, rfl, by decide, _, Or.inl q855, Or.inl rfl⟩, (show mKd 2 1 = 5 by rfl), by decide, by decide, (fun q h => Or.inl (by cases h; rfl))⟩⟩⟩ else none
    else
     if h : pc = 16 then some ⟨(.return_, 17, .inl 0, 0, 0), by subst h; exact ⟨dX2_becomes_16, rfl, rfl⟩⟩ else none

noncomputable def mt218 (pc : Nat) : Option {e : mE // mOK yX3_init cX3_init 1 ((Option.none : Option ClassFile.FieldType)) pc e} :=
 bif Nat.blt pc 1 then
  if h : pc = 0 then some ⟨(.aload_n 0, 1, .inl 0, 0, 0), by subst h; exact ⟨dX3_init_0, rfl, trivial⟩⟩ else none
 else
  bif Nat.blt pc 4 then
   if h : pc = 1 then some ⟨(.invokespecial 1, 4, .inl 0, 999, 0), by subst h; exact ⟨dX3_init_1, rfl, ⟨rfl, q869, q184, q185⟩⟩⟩ else none
  else
   if h : pc = 4 then some ⟨(.return_, 5, .inl 0, 0, 0), by subst h; exact ⟨dX3_init_4, rfl, rfl⟩⟩ else none

noncomputable def mt219 (pc : Nat) : Option {e : mE // mOK yX10_init cX10_init 3 ((Option.none : Option ClassFile.FieldType)) pc e} :=
 bif Nat.blt pc 10 then
  bif Nat.blt pc 5 then
   bif Nat.blt pc 1 then
    if h : pc = 0 then some ⟨(.aload_n 0, 1, .inl 0, 0, 0), by subst h; exact ⟨dX10_init_0, rfl, trivial⟩⟩ else none
   else
    bif Nat.blt pc 4 then
     if h : pc = 1 then some ⟨(.invokespecial 1, 4, .inl 0, 999, 0), by subst h; exact ⟨dX10_init_1, rfl, ⟨rfl, q183, q184, q185⟩⟩⟩ else none
    else
     if h : pc = 4 then some ⟨(.aload_n 0, 5, .inl 0, 0, 0), by subst h; exact ⟨dX10_init_4, rfl, trivial⟩⟩ else none
  else
   bif Nat.blt pc 6 then
    if h : pc = 5 then some ⟨(.iconst 1, 6, .inl 1, 0, 0), by subst h; exact ⟨dX10_init_5, rfl, ⟨1, rfl, by decide⟩⟩⟩ else none
   else
    bif Nat.blt pc 9 then
     if h : pc = 6 then some ⟨(.putfield 7, 9, .inl 0, 3, 104), by subst h; exact ⟨dX10_init_6, rfl, ⟨⟨_, rfl, by decide, _, Or.inl q205, Or.inl rfl⟩, (show mKd 4 3 ≤ 4 by decide), by decide, by decide, (fun q h => Or.inl (by cases h; rfl))⟩⟩⟩ else none
    else
     if h : pc = 9 then some ⟨(.aload_n 0, 10, .inl 0, 0, 0), by subst h; exact ⟨dX10_init_9, rfl, trivial⟩⟩ else none
 else
  bif Nat.blt pc 15 then
   bif Nat.blt pc 11 then
    if h : pc = 10 then some ⟨(.iload_n 1, 11, .inl 0, 0, 0), by subst h; exact ⟨dX10_init_10, rfl, trivial⟩⟩ else none
   else
    bif Nat.blt pc 14 then
     if h : pc = 11 then some ⟨(.putfield 13, 14, .inl 0, 0, 4), by subst h; exact ⟨dX10_init_11, rfl, ⟨⟨_, rfl, by decide, _, Or.inl q186, Or.inl rfl⟩, (show mKd 4 0 ≤ 4 by decide), by decide, by decide, (fun q h => Or.inl (by cases h; rfl))⟩⟩⟩ else none
    else
     if h : pc = 14 then some ⟨(.aload_n 0, 15, .inl 0, 0, 0), by subst h; exact ⟨dX10_init_14, rfl, trivial⟩⟩ else none
  else
   bif Nat.blt pc 16 then
    if h : pc = 15 then some ⟨(.iload_n 2, 16, .inl 0, 0, 0), by subst h; exact ⟨dX10_init_15, rfl, trivial⟩⟩ else none
   else
    bif Nat.blt pc 19 then
     if h : pc = 16 then some ⟨(.putfield 17, 19, .inl 0, 1, 4), by subst h; exact ⟨dX10_init_16, rfl, ⟨⟨_, rfl, by decide, _, Or.inl q193, Or.inl rfl⟩, (show mKd 4 1 ≤ 4 by decide), by decide, by decide, (fun q h => Or.inl (by cases h; rfl))⟩⟩⟩ else none
    else
     if h : pc = 19 then some ⟨(.return_, 20, .inl 0, 0, 0), by subst h; exact ⟨dX10_init_19, rfl, rfl⟩⟩ else none

noncomputable def mt220 (pc : Nat) : Option {e : mE // mOK yX10_kind cX10_kind 1 ((Option.some ClassFile.FieldType.int)) pc e} :=
 bif Nat.blt pc 1 then
  if h : pc = 0 then some ⟨(.iconst 0, 1, .inl 0, 0, 0), by subst h; exact ⟨dX10_kind_0, rfl, ⟨0, rfl, by decide⟩⟩⟩ else none
 else
  if h : pc = 1 then some ⟨(.ireturn, 2, .inl 0, 0, 0), by subst h; exact ⟨dX10_kind_1, rfl, rfl⟩⟩ else none

noncomputable def mt221 (pc : Nat) : Option {e : mE // mOK yX10_strong cX10_strong 3 ((Option.some ClassFile.FieldType.int)) pc e} :=
 bif Nat.blt pc 1 then
  if h : pc = 0 then some ⟨(.iload_n 1, 1, .inl 0, 0, 0), by subst h; exact ⟨dX10_strong_0, rfl, trivial⟩⟩ else none
 else
  if h : pc = 1 then some ⟨(.ireturn, 2, .inl 0, 0, 0), by subst h; exact ⟨dX10_strong_1, rfl, rfl⟩⟩ else none

noncomputable def mt222 (pc : Nat) : Option {e : mE // mOK yX10_eased cX10_eased 3 ((Option.some ClassFile.FieldType.int)) pc e} :=
 bif Nat.blt pc 1 then
  if h : pc = 0 then some ⟨(.iload_n 1, 1, .inl 0, 0, 0), by subst h; exact ⟨dX10_eased_0, rfl, trivial⟩⟩ else none
 else
  if h : pc = 1 then some ⟨(.ireturn, 2, .inl 0, 0, 0), by subst h; exact ⟨dX10_eased_1, rfl, rfl⟩⟩ else none

noncomputable def mt223 (pc : Nat) : Option {e : mE // mOK yX10_feels cX10_feels 3 ((Option.none : Option ClassFile.FieldType)) pc e} :=
 bif Nat.blt pc 7 then
  bif Nat.blt pc 2 then
   bif Nat.blt pc 1 then
    if h : pc = 0 then some ⟨(.aload_n 1, 1, .inl 0, 0, 0), by subst h; exact ⟨dX10_feels_0, rfl, trivial⟩⟩ else none
   else
    if h : pc = 1 then some ⟨(.iload_n 2, 2, .inl 0, 0, 0), by subst h; exact ⟨dX10_feels_1, rfl, trivial⟩⟩ else none
  else
   bif Nat.blt pc 3 then
    if h : pc = 2 then some ⟨(.i2l, 3, .inl 0, 0, 0), by subst h; exact ⟨dX10_feels_2, rfl, trivial⟩⟩ else none
   else
    bif Nat.blt pc 4 then
     if h : pc = 3 then some ⟨(.aload_n 0, 4, .inl 0, 0, 0), by subst h; exact ⟨dX10_feels_3, rfl, trivial⟩⟩ else none
    else
     if h : pc = 4 then some ⟨(.getfield 13, 7, .inl 0, 0, 4), by subst h; exact ⟨dX10_feels_4, rfl, ⟨⟨_, rfl, by decide, _, Or.inl q186, Or.inl rfl⟩, (show mKd 4 0 ≤ 4 by decide)⟩⟩⟩ else none
 else
  bif Nat.blt pc 9 then
   bif Nat.blt pc 8 then
    if h : pc = 7 then some ⟨(.i2l, 8, .inl 0, 0, 0), by subst h; exact ⟨dX10_feels_7, rfl, trivial⟩⟩ else none
   else
    if h : pc = 8 then some ⟨(.lconst 1, 9, .inr (.inl 1), 0, 0), by subst h; exact ⟨dX10_feels_8, rfl, ⟨1, rfl, by decide⟩⟩⟩ else none
  else
   bif Nat.blt pc 10 then
    if h : pc = 9 then some ⟨(.ladd, 10, .inl 0, 0, 0), by subst h; exact ⟨dX10_feels_9, rfl, trivial⟩⟩ else none
   else
    bif Nat.blt pc 13 then
     if h : pc = 10 then some ⟨(.invokevirtual 20, 13, .inl 0, 208, 2), by subst h; exact ⟨dX10_feels_10, rfl, ⟨by decide, q454, q430, q431, _, rfl, rfl⟩⟩⟩ else none
    else
     if h : pc = 13 then some ⟨(.return_, 14, .inl 0, 0, 0), by subst h; exact ⟨dX10_feels_13, rfl, rfl⟩⟩ else none

noncomputable def mt224 (pc : Nat) : Option {e : mE // mOK yX10_like cX10_like 2 ((Option.some (ClassFile.FieldType.object "NobodyCanLiftIt$Man"))) pc e} :=
 bif Nat.blt pc 9 then
  bif Nat.blt pc 2 then
   bif Nat.blt pc 1 then
    if h : pc = 0 then some ⟨(.aload_n 0, 1, .inl 0, 0, 0), by subst h; exact ⟨dX10_like_0, rfl, trivial⟩⟩ else none
   else
    if h : pc = 1 then some ⟨(.aload_n 1, 2, .inl 0, 0, 0), by subst h; exact ⟨dX10_like_1, rfl, trivial⟩⟩ else none
  else
   bif Nat.blt pc 5 then
    if h : pc = 2 then some ⟨(.getfield 26, 5, .inl 0, 2, 4), by subst h; exact ⟨dX10_like_2, rfl, ⟨⟨_, rfl, by decide, _, Or.inl q203, Or.inl rfl⟩, (show mKd 4 2 ≤ 4 by decide)⟩⟩⟩ else none
   else
    bif Nat.blt pc 8 then
     if h : pc = 5 then some ⟨(.putfield 26, 8, .inl 0, 2, 4), by subst h; exact ⟨dX10_like_5, rfl, ⟨⟨_, rfl, by decide, _, Or.inl q203, Or.inl rfl⟩, (show mKd 4 2 ≤ 4 by decide), by decide, by decide, (fun q h => Or.inl (by cases h; rfl))⟩⟩⟩ else none
    else
     if h : pc = 8 then some ⟨(.aload_n 0, 9, .inl 0, 0, 0), by subst h; exact ⟨dX10_like_8, rfl, trivial⟩⟩ else none
 else
  bif Nat.blt pc 13 then
   bif Nat.blt pc 10 then
    if h : pc = 9 then some ⟨(.aload_n 1, 10, .inl 0, 0, 0), by subst h; exact ⟨dX10_like_9, rfl, trivial⟩⟩ else none
   else
    if h : pc = 10 then some ⟨(.getfield 7, 13, .inl 0, 3, 4), by subst h; exact ⟨dX10_like_10, rfl, ⟨⟨_, rfl, by decide, _, Or.inl q205, Or.inl rfl⟩, (show mKd 4 3 ≤ 4 by decide)⟩⟩⟩ else none
  else
   bif Nat.blt pc 16 then
    if h : pc = 13 then some ⟨(.putfield 7, 16, .inl 0, 3, 104), by subst h; exact ⟨dX10_like_13, rfl, ⟨⟨_, rfl, by decide, _, Or.inl q205, Or.inl rfl⟩, (show mKd 4 3 ≤ 4 by decide), by decide, by decide, (fun q h => Or.inl (by cases h; rfl))⟩⟩⟩ else none
   else
    bif Nat.blt pc 17 then
     if h : pc = 16 then some ⟨(.aload_n 0, 17, .inl 0, 0, 0), by subst h; exact ⟨dX10_like_16, rfl, trivial⟩⟩ else none
    else
     if h : pc = 17 then some ⟨(.areturn, 18, .inl 0, 0, 0), by subst h; exact ⟨dX10_like_17, rfl, ⟨_, rfl, Or.inl ⟨_, rfl⟩⟩⟩⟩ else none

noncomputable def mt225 (pc : Nat) : Option {e : mE // mOK yX11_init cX11_init 3 ((Option.none : Option ClassFile.FieldType)) pc e} :=
 bif Nat.blt pc 2 then
  bif Nat.blt pc 1 then
   if h : pc = 0 then some ⟨(.aload_n 0, 1, .inl 0, 0, 0), by subst h; exact ⟨dX11_init_0, rfl, trivial⟩⟩ else none
  else
   if h : pc = 1 then some ⟨(.iload_n 1, 2, .inl 0, 0, 0), by subst h; exact ⟨dX11_init_1, rfl, trivial⟩⟩ else none
 else
  bif Nat.blt pc 3 then
   if h : pc = 2 then some ⟨(.iload_n 2, 3, .inl 0, 0, 0), by subst h; exact ⟨dX11_init_2, rfl, trivial⟩⟩ else none
  else
   bif Nat.blt pc 6 then
    if h : pc = 3 then some ⟨(.invokespecial 1, 6, .inl 0, 219, 1), by subst h; exact ⟨dX11_init_3, rfl, ⟨by decide, rfl, q180, q181⟩⟩⟩ else none
   else
    if h : pc = 6 then some ⟨(.return_, 7, .inl 0, 0, 0), by subst h; exact ⟨dX11_init_6, rfl, rfl⟩⟩ else none

noncomputable def mt226 (pc : Nat) : Option {e : mE // mOK yX11_kind cX11_kind 1 ((Option.some ClassFile.FieldType.int)) pc e} :=
 bif Nat.blt pc 4 then
  bif Nat.blt pc 1 then
   if h : pc = 0 then some ⟨(.aload_n 0, 1, .inl 0, 0, 0), by subst h; exact ⟨dX11_kind_0, rfl, trivial⟩⟩ else none
  else
   if h : pc = 1 then some ⟨(.invokespecial 7, 4, .inl 0, 220, 7), by subst h; exact ⟨dX11_kind_1, rfl, ⟨by decide, by decide, q318, q305, q215, q303, _, rfl, rfl⟩⟩⟩ else none
 else
  bif Nat.blt pc 5 then
   if h : pc = 4 then some ⟨(.iconst 1, 5, .inl 1, 0, 0), by subst h; exact ⟨dX11_kind_4, rfl, ⟨1, rfl, by decide⟩⟩⟩ else none
  else
   bif Nat.blt pc 6 then
    if h : pc = 5 then some ⟨(.iadd, 6, .inl 0, 0, 0), by subst h; exact ⟨dX11_kind_5, rfl, trivial⟩⟩ else none
   else
    if h : pc = 6 then some ⟨(.ireturn, 7, .inl 0, 0, 0), by subst h; exact ⟨dX11_kind_6, rfl, rfl⟩⟩ else none

noncomputable def mt227 (pc : Nat) : Option {e : mE // mOK yX11_strong cX11_strong 3 ((Option.some ClassFile.FieldType.int)) pc e} :=
 bif Nat.blt pc 6 then
  bif Nat.blt pc 2 then
   bif Nat.blt pc 1 then
    if h : pc = 0 then some ⟨(.aload_n 0, 1, .inl 0, 0, 0), by subst h; exact ⟨dX11_strong_0, rfl, trivial⟩⟩ else none
   else
    if h : pc = 1 then some ⟨(.iload_n 1, 2, .inl 0, 0, 0), by subst h; exact ⟨dX11_strong_1, rfl, trivial⟩⟩ else none
  else
   bif Nat.blt pc 3 then
    if h : pc = 2 then some ⟨(.iload_n 2, 3, .inl 0, 0, 0), by subst h; exact ⟨dX11_strong_2, rfl, trivial⟩⟩ else none
   else
    if h : pc = 3 then some ⟨(.invokespecial 23, 6, .inl 0, 221, 7), by subst h; exact ⟨dX11_strong_3, rfl, ⟨by decide, by decide, q385, q372, q215, q370, _, rfl, rfl⟩⟩⟩ else none
 else
  bif Nat.blt pc 10 then
   bif Nat.blt pc 7 then
    if h : pc = 6 then some ⟨(.aload_n 0, 7, .inl 0, 0, 0), by subst h; exact ⟨dX11_strong_6, rfl, trivial⟩⟩ else none
   else
    if h : pc = 7 then some ⟨(.getfield 27, 10, .inl 0, 0, 5), by subst h; exact ⟨dX11_strong_7, rfl, ⟨⟨_, rfl, by decide, _, Or.inl q188, Or.inr q189⟩, (show mKd 5 0 ≤ 4 by decide)⟩⟩⟩ else none
  else
   bif Nat.blt pc 11 then
    if h : pc = 10 then some ⟨(.iadd, 11, .inl 0, 0, 0), by subst h; exact ⟨dX11_strong_10, rfl, trivial⟩⟩ else none
   else
    if h : pc = 11 then some ⟨(.ireturn, 12, .inl 0, 0, 0), by subst h; exact ⟨dX11_strong_11, rfl, rfl⟩⟩ else none

noncomputable def mt228 (pc : Nat) : Option {e : mE // mOK yX11_eased cX11_eased 3 ((Option.some ClassFile.FieldType.int)) pc e} :=
 bif Nat.blt pc 1 then
  if h : pc = 0 then some ⟨(.iconst 0, 1, .inl 0, 0, 0), by subst h; exact ⟨dX11_eased_0, rfl, ⟨0, rfl, by decide⟩⟩⟩ else none
 else
  if h : pc = 1 then some ⟨(.ireturn, 2, .inl 0, 0, 0), by subst h; exact ⟨dX11_eased_1, rfl, rfl⟩⟩ else none

noncomputable def mt229 (pc : Nat) : Option {e : mE // mOK yX11_feels cX11_feels 3 ((Option.none : Option ClassFile.FieldType)) pc e} :=
 bif Nat.blt pc 6 then
  bif Nat.blt pc 2 then
   bif Nat.blt pc 1 then
    if h : pc = 0 then some ⟨(.aload_n 0, 1, .inl 0, 0, 0), by subst h; exact ⟨dX11_feels_0, rfl, trivial⟩⟩ else none
   else
    if h : pc = 1 then some ⟨(.aload_n 1, 2, .inl 0, 0, 0), by subst h; exact ⟨dX11_feels_1, rfl, trivial⟩⟩ else none
  else
   bif Nat.blt pc 3 then
    if h : pc = 2 then some ⟨(.iload_n 2, 3, .inl 0, 0, 0), by subst h; exact ⟨dX11_feels_2, rfl, trivial⟩⟩ else none
   else
    if h : pc = 3 then some ⟨(.invokespecial 11, 6, .inl 0, 223, 7), by subst h; exact ⟨dX11_feels_3, rfl, ⟨by decide, by decide, q468, q448, q215, q446, _, rfl, rfl⟩⟩⟩ else none
 else
  bif Nat.blt pc 10 then
   bif Nat.blt pc 7 then
    if h : pc = 6 then some ⟨(.aload_n 1, 7, .inl 0, 0, 0), by subst h; exact ⟨dX11_feels_6, rfl, trivial⟩⟩ else none
   else
    if h : pc = 7 then some ⟨(.ldc2_w 15, 10, .inr (.inl 2), 0, 0), by subst h; exact ⟨dX11_feels_7, rfl, ⟨_, rfl, q469⟩⟩⟩ else none
  else
   bif Nat.blt pc 11 then
    if h : pc = 10 then some ⟨(.lconst 1, 11, .inr (.inl 1), 0, 0), by subst h; exact ⟨dX11_feels_10, rfl, ⟨1, rfl, by decide⟩⟩⟩ else none
   else
    bif Nat.blt pc 14 then
     if h : pc = 11 then some ⟨(.invokevirtual 17, 14, .inl 0, 210, 2), by subst h; exact ⟨dX11_feels_11, rfl, ⟨by decide, q470, q457, q458, _, rfl, rfl⟩⟩⟩ else none
    else
     if h : pc = 14 then some ⟨(.return_, 15, .inl 0, 0, 0), by subst h; exact ⟨dX11_feels_14, rfl, rfl⟩⟩ else none

noncomputable def mt230 (pc : Nat) : Option {e : mE // mOK yX12_init cX12_init 3 ((Option.none : Option ClassFile.FieldType)) pc e} :=
 bif Nat.blt pc 2 then
  bif Nat.blt pc 1 then
   if h : pc = 0 then some ⟨(.aload_n 0, 1, .inl 0, 0, 0), by subst h; exact ⟨dX12_init_0, rfl, trivial⟩⟩ else none
  else
   if h : pc = 1 then some ⟨(.iload_n 1, 2, .inl 0, 0, 0), by subst h; exact ⟨dX12_init_1, rfl, trivial⟩⟩ else none
 else
  bif Nat.blt pc 3 then
   if h : pc = 2 then some ⟨(.iload_n 2, 3, .inl 0, 0, 0), by subst h; exact ⟨dX12_init_2, rfl, trivial⟩⟩ else none
  else
   bif Nat.blt pc 6 then
    if h : pc = 3 then some ⟨(.invokespecial 1, 6, .inl 0, 219, 1), by subst h; exact ⟨dX12_init_3, rfl, ⟨by decide, rfl, q221, q181⟩⟩⟩ else none
   else
    if h : pc = 6 then some ⟨(.return_, 7, .inl 0, 0, 0), by subst h; exact ⟨dX12_init_6, rfl, rfl⟩⟩ else none

noncomputable def mt231 (pc : Nat) : Option {e : mE // mOK yX12_kind cX12_kind 1 ((Option.some ClassFile.FieldType.int)) pc e} :=
 bif Nat.blt pc 4 then
  bif Nat.blt pc 1 then
   if h : pc = 0 then some ⟨(.aload_n 0, 1, .inl 0, 0, 0), by subst h; exact ⟨dX12_kind_0, rfl, trivial⟩⟩ else none
  else
   if h : pc = 1 then some ⟨(.invokespecial 7, 4, .inl 0, 220, 7), by subst h; exact ⟨dX12_kind_1, rfl, ⟨by decide, by decide, q309, q305, q226, q303, _, rfl, rfl⟩⟩⟩ else none
 else
  bif Nat.blt pc 5 then
   if h : pc = 4 then some ⟨(.iconst 2, 5, .inl 2, 0, 0), by subst h; exact ⟨dX12_kind_4, rfl, ⟨2, rfl, by decide⟩⟩⟩ else none
  else
   bif Nat.blt pc 6 then
    if h : pc = 5 then some ⟨(.iadd, 6, .inl 0, 0, 0), by subst h; exact ⟨dX12_kind_5, rfl, trivial⟩⟩ else none
   else
    if h : pc = 6 then some ⟨(.ireturn, 7, .inl 0, 0, 0), by subst h; exact ⟨dX12_kind_6, rfl, rfl⟩⟩ else none

noncomputable def mt232 (pc : Nat) : Option {e : mE // mOK yX12_strong cX12_strong 3 ((Option.some ClassFile.FieldType.int)) pc e} :=
 bif Nat.blt pc 3 then
  bif Nat.blt pc 1 then
   if h : pc = 0 then some ⟨(.aload_n 0, 1, .inl 0, 0, 0), by subst h; exact ⟨dX12_strong_0, rfl, trivial⟩⟩ else none
  else
   bif Nat.blt pc 2 then
    if h : pc = 1 then some ⟨(.iload_n 1, 2, .inl 0, 0, 0), by subst h; exact ⟨dX12_strong_1, rfl, trivial⟩⟩ else none
   else
    if h : pc = 2 then some ⟨(.iload_n 2, 3, .inl 0, 0, 0), by subst h; exact ⟨dX12_strong_2, rfl, trivial⟩⟩ else none
 else
  bif Nat.blt pc 8 then
   bif Nat.blt pc 6 then
    if h : pc = 3 then some ⟨(.invokespecial 29, 6, .inl 0, 221, 7), by subst h; exact ⟨dX12_strong_3, rfl, ⟨by decide, by decide, q376, q372, q226, q370, _, rfl, rfl⟩⟩⟩ else none
   else
    if h : pc = 6 then some ⟨(.bipush 10, 8, .inl 10, 0, 0), by subst h; exact ⟨dX12_strong_6, rfl, ⟨10, rfl, by decide⟩⟩⟩ else none
  else
   bif Nat.blt pc 9 then
    if h : pc = 8 then some ⟨(.idiv, 9, .inl 0, 0, 0), by subst h; exact ⟨dX12_strong_8, rfl, trivial⟩⟩ else none
   else
    if h : pc = 9 then some ⟨(.ireturn, 10, .inl 0, 0, 0), by subst h; exact ⟨dX12_strong_9, rfl, rfl⟩⟩ else none

noncomputable def mt233 (pc : Nat) : Option {e : mE // mOK yX12_eased cX12_eased 3 ((Option.some ClassFile.FieldType.int)) pc e} :=
 bif Nat.blt pc 3 then
  bif Nat.blt pc 1 then
   if h : pc = 0 then some ⟨(.aload_n 0, 1, .inl 0, 0, 0), by subst h; exact ⟨dX12_eased_0, rfl, trivial⟩⟩ else none
  else
   bif Nat.blt pc 2 then
    if h : pc = 1 then some ⟨(.iload_n 1, 2, .inl 0, 0, 0), by subst h; exact ⟨dX12_eased_1, rfl, trivial⟩⟩ else none
   else
    if h : pc = 2 then some ⟨(.iload_n 2, 3, .inl 0, 0, 0), by subst h; exact ⟨dX12_eased_2, rfl, trivial⟩⟩ else none
 else
  bif Nat.blt pc 7 then
   bif Nat.blt pc 6 then
    if h : pc = 3 then some ⟨(.invokespecial 33, 6, .inl 0, 222, 7), by subst h; exact ⟨dX12_eased_3, rfl, ⟨by decide, by decide, q405, q401, q226, q399, _, rfl, rfl⟩⟩⟩ else none
   else
    if h : pc = 6 then some ⟨(.iconst 1, 7, .inl 1, 0, 0), by subst h; exact ⟨dX12_eased_6, rfl, ⟨1, rfl, by decide⟩⟩⟩ else none
  else
   bif Nat.blt pc 8 then
    if h : pc = 7 then some ⟨(.iadd, 8, .inl 0, 0, 0), by subst h; exact ⟨dX12_eased_7, rfl, trivial⟩⟩ else none
   else
    if h : pc = 8 then some ⟨(.ireturn, 9, .inl 0, 0, 0), by subst h; exact ⟨dX12_eased_8, rfl, rfl⟩⟩ else none

noncomputable def mt234 (pc : Nat) : Option {e : mE // mOK yX12_feels cX12_feels 3 ((Option.none : Option ClassFile.FieldType)) pc e} :=
 bif Nat.blt pc 11 then
  bif Nat.blt pc 3 then
   bif Nat.blt pc 1 then
    if h : pc = 0 then some ⟨(.aload_n 0, 1, .inl 0, 0, 0), by subst h; exact ⟨dX12_feels_0, rfl, trivial⟩⟩ else none
   else
    bif Nat.blt pc 2 then
     if h : pc = 1 then some ⟨(.aload_n 1, 2, .inl 0, 0, 0), by subst h; exact ⟨dX12_feels_1, rfl, trivial⟩⟩ else none
    else
     if h : pc = 2 then some ⟨(.iload_n 2, 3, .inl 0, 0, 0), by subst h; exact ⟨dX12_feels_2, rfl, trivial⟩⟩ else none
  else
   bif Nat.blt pc 7 then
    bif Nat.blt pc 6 then
     if h : pc = 3 then some ⟨(.invokespecial 11, 6, .inl 0, 223, 7), by subst h; exact ⟨dX12_feels_3, rfl, ⟨by decide, by decide, q452, q448, q226, q446, _, rfl, rfl⟩⟩⟩ else none
    else
     if h : pc = 6 then some ⟨(.aload_n 1, 7, .inl 0, 0, 0), by subst h; exact ⟨dX12_feels_6, rfl, trivial⟩⟩ else none
   else
    bif Nat.blt pc 8 then
     if h : pc = 7 then some ⟨(.aload_n 0, 8, .inl 0, 0, 0), by subst h; exact ⟨dX12_feels_7, rfl, trivial⟩⟩ else none
    else
     if h : pc = 8 then some ⟨(.getfield 15, 11, .inl 0, 1, 6), by subst h; exact ⟨dX12_feels_8, rfl, ⟨⟨_, rfl, by decide, _, Or.inl q195, Or.inr q196⟩, (show mKd 6 1 ≤ 4 by decide)⟩⟩⟩ else none
 else
  bif Nat.blt pc 20 then
   bif Nat.blt pc 16 then
    bif Nat.blt pc 13 then
     if h : pc = 11 then some ⟨(.bipush 9, 13, .inl 9, 0, 0), by subst h; exact ⟨dX12_feels_11, rfl, ⟨9, rfl, by decide⟩⟩⟩ else none
    else
     if h : pc = 13 then some ⟨(.if_icmp .ge 7, 16, .inl 0, 20, 0), by subst h; exact ⟨dX12_feels_13, rfl, (show ((13 : Nat) : Int) + (7) = ((20 : Nat) : Int) by decide)⟩⟩ else none
   else
    bif Nat.blt pc 17 then
     if h : pc = 16 then some ⟨(.lconst 0, 17, .inr (.inl 0), 0, 0), by subst h; exact ⟨dX12_feels_16, rfl, ⟨0, rfl, by decide⟩⟩⟩ else none
    else
     if h : pc = 17 then some ⟨(.goto 4, 20, .inl 0, 21, 0), by subst h; exact ⟨dX12_feels_17, rfl, (show ((17 : Nat) : Int) + (4) = ((21 : Nat) : Int) by decide)⟩⟩ else none
  else
   bif Nat.blt pc 24 then
    bif Nat.blt pc 21 then
     if h : pc = 20 then some ⟨(.lconst 1, 21, .inr (.inl 1), 0, 0), by subst h; exact ⟨dX12_feels_20, rfl, ⟨1, rfl, by decide⟩⟩⟩ else none
    else
     if h : pc = 21 then some ⟨(.ldc2_w 21, 24, .inr (.inl 2), 0, 0), by subst h; exact ⟨dX12_feels_21, rfl, ⟨_, rfl, q455⟩⟩⟩ else none
   else
    bif Nat.blt pc 27 then
     if h : pc = 24 then some ⟨(.invokevirtual 23, 27, .inl 0, 210, 2), by subst h; exact ⟨dX12_feels_24, rfl, ⟨by decide, q456, q457, q458, _, rfl, rfl⟩⟩⟩ else none
    else
     if h : pc = 27 then some ⟨(.return_, 28, .inl 0, 0, 0), by subst h; exact ⟨dX12_feels_27, rfl, rfl⟩⟩ else none

noncomputable def mt235 (pc : Nat) : Option {e : mE // mOK yX13_init cX13_init 3 ((Option.none : Option ClassFile.FieldType)) pc e} :=
 bif Nat.blt pc 2 then
  bif Nat.blt pc 1 then
   if h : pc = 0 then some ⟨(.aload_n 0, 1, .inl 0, 0, 0), by subst h; exact ⟨dX13_init_0, rfl, trivial⟩⟩ else none
  else
   if h : pc = 1 then some ⟨(.iload_n 1, 2, .inl 0, 0, 0), by subst h; exact ⟨dX13_init_1, rfl, trivial⟩⟩ else none
 else
  bif Nat.blt pc 3 then
   if h : pc = 2 then some ⟨(.iload_n 2, 3, .inl 0, 0, 0), by subst h; exact ⟨dX13_init_2, rfl, trivial⟩⟩ else none
  else
   bif Nat.blt pc 6 then
    if h : pc = 3 then some ⟨(.invokespecial 1, 6, .inl 0, 225, 1), by subst h; exact ⟨dX13_init_3, rfl, ⟨by decide, rfl, q232, q178⟩⟩⟩ else none
   else
    if h : pc = 6 then some ⟨(.return_, 7, .inl 0, 0, 0), by subst h; exact ⟨dX13_init_6, rfl, rfl⟩⟩ else none

noncomputable def mt236 (pc : Nat) : Option {e : mE // mOK yX13_kind cX13_kind 1 ((Option.some ClassFile.FieldType.int)) pc e} :=
 bif Nat.blt pc 4 then
  bif Nat.blt pc 1 then
   if h : pc = 0 then some ⟨(.aload_n 0, 1, .inl 0, 0, 0), by subst h; exact ⟨dX13_kind_0, rfl, trivial⟩⟩ else none
  else
   if h : pc = 1 then some ⟨(.invokespecial 7, 4, .inl 0, 226, 8), by subst h; exact ⟨dX13_kind_1, rfl, ⟨by decide, by decide, q326, q1916, q237, q316, _, rfl, rfl⟩⟩⟩ else none
 else
  bif Nat.blt pc 5 then
   if h : pc = 4 then some ⟨(.iconst 2, 5, .inl 2, 0, 0), by subst h; exact ⟨dX13_kind_4, rfl, ⟨2, rfl, by decide⟩⟩⟩ else none
  else
   bif Nat.blt pc 6 then
    if h : pc = 5 then some ⟨(.iadd, 6, .inl 0, 0, 0), by subst h; exact ⟨dX13_kind_5, rfl, trivial⟩⟩ else none
   else
    if h : pc = 6 then some ⟨(.ireturn, 7, .inl 0, 0, 0), by subst h; exact ⟨dX13_kind_6, rfl, rfl⟩⟩ else none

noncomputable def mt237 (pc : Nat) : Option {e : mE // mOK yX13_strong cX13_strong 4 ((Option.some ClassFile.FieldType.int)) pc e} :=
 bif Nat.blt pc 11 then
  bif Nat.blt pc 3 then
   bif Nat.blt pc 1 then
    if h : pc = 0 then some ⟨(.aload_n 0, 1, .inl 0, 0, 0), by subst h; exact ⟨dX13_strong_0, rfl, trivial⟩⟩ else none
   else
    bif Nat.blt pc 2 then
     if h : pc = 1 then some ⟨(.iload_n 1, 2, .inl 0, 0, 0), by subst h; exact ⟨dX13_strong_1, rfl, trivial⟩⟩ else none
    else
     if h : pc = 2 then some ⟨(.iload_n 2, 3, .inl 0, 0, 0), by subst h; exact ⟨dX13_strong_2, rfl, trivial⟩⟩ else none
  else
   bif Nat.blt pc 7 then
    bif Nat.blt pc 6 then
     if h : pc = 3 then some ⟨(.invokespecial 27, 6, .inl 0, 227, 8), by subst h; exact ⟨dX13_strong_3, rfl, ⟨by decide, by decide, q393, q1918, q237, q383, _, rfl, rfl⟩⟩⟩ else none
    else
     if h : pc = 6 then some ⟨(.istore_n 3, 7, .inl 0, 0, 0), by subst h; exact ⟨dX13_strong_6, rfl, (show (3 : Nat) < 4 by decide)⟩⟩ else none
   else
    bif Nat.blt pc 8 then
     if h : pc = 7 then some ⟨(.aload_n 0, 8, .inl 0, 0, 0), by subst h; exact ⟨dX13_strong_7, rfl, trivial⟩⟩ else none
    else
     if h : pc = 8 then some ⟨(.getfield 15, 11, .inl 0, 2, 7), by subst h; exact ⟨dX13_strong_8, rfl, ⟨⟨_, rfl, by decide, _, Or.inl q199, Or.inr q200⟩, (show mKd 7 2 ≤ 4 by decide)⟩⟩⟩ else none
 else
  bif Nat.blt pc 18 then
   bif Nat.blt pc 16 then
    bif Nat.blt pc 13 then
     if h : pc = 11 then some ⟨(.bipush 50, 13, .inl 50, 0, 0), by subst h; exact ⟨dX13_strong_11, rfl, ⟨50, rfl, by decide⟩⟩⟩ else none
    else
     if h : pc = 13 then some ⟨(.if_icmp .lt 9, 16, .inl 0, 22, 0), by subst h; exact ⟨dX13_strong_13, rfl, (show ((13 : Nat) : Int) + (9) = ((22 : Nat) : Int) by decide)⟩⟩ else none
   else
    bif Nat.blt pc 17 then
     if h : pc = 16 then some ⟨(.iconst 2, 17, .inl 2, 0, 0), by subst h; exact ⟨dX13_strong_16, rfl, ⟨2, rfl, by decide⟩⟩⟩ else none
    else
     if h : pc = 17 then some ⟨(.iload_n 3, 18, .inl 0, 0, 0), by subst h; exact ⟨dX13_strong_17, rfl, trivial⟩⟩ else none
  else
   bif Nat.blt pc 22 then
    bif Nat.blt pc 19 then
     if h : pc = 18 then some ⟨(.imul, 19, .inl 0, 0, 0), by subst h; exact ⟨dX13_strong_18, rfl, trivial⟩⟩ else none
    else
     if h : pc = 19 then some ⟨(.goto 4, 22, .inl 0, 23, 0), by subst h; exact ⟨dX13_strong_19, rfl, (show ((19 : Nat) : Int) + (4) = ((23 : Nat) : Int) by decide)⟩⟩ else none
   else
    bif Nat.blt pc 23 then
     if h : pc = 22 then some ⟨(.iload_n 3, 23, .inl 0, 0, 0), by subst h; exact ⟨dX13_strong_22, rfl, trivial⟩⟩ else none
    else
     if h : pc = 23 then some ⟨(.ireturn, 24, .inl 0, 0, 0), by subst h; exact ⟨dX13_strong_23, rfl, rfl⟩⟩ else none

noncomputable def mt238 (pc : Nat) : Option {e : mE // mOK yX13_eased cX13_eased 3 ((Option.some ClassFile.FieldType.int)) pc e} :=
 bif Nat.blt pc 1 then
  if h : pc = 0 then some ⟨(.aload_n 0, 1, .inl 0, 0, 0), by subst h; exact ⟨dX13_eased_0, rfl, trivial⟩⟩ else none
 else
  bif Nat.blt pc 4 then
   if h : pc = 1 then some ⟨(.getfield 31, 4, .inl 0, 0, 7), by subst h; exact ⟨dX13_eased_1, rfl, ⟨⟨_, rfl, by decide, _, Or.inl q190, Or.inr q191⟩, (show mKd 7 0 ≤ 4 by decide)⟩⟩⟩ else none
  else
   if h : pc = 4 then some ⟨(.ireturn, 5, .inl 0, 0, 0), by subst h; exact ⟨dX13_eased_4, rfl, rfl⟩⟩ else none

noncomputable def mt239 (pc : Nat) : Option {e : mE // mOK yX13_feels cX13_feels 3 ((Option.none : Option ClassFile.FieldType)) pc e} :=
 bif Nat.blt pc 7 then
  bif Nat.blt pc 2 then
   bif Nat.blt pc 1 then
    if h : pc = 0 then some ⟨(.aload_n 0, 1, .inl 0, 0, 0), by subst h; exact ⟨dX13_feels_0, rfl, trivial⟩⟩ else none
   else
    if h : pc = 1 then some ⟨(.aload_n 1, 2, .inl 0, 0, 0), by subst h; exact ⟨dX13_feels_1, rfl, trivial⟩⟩ else none
  else
   bif Nat.blt pc 3 then
    if h : pc = 2 then some ⟨(.iload_n 2, 3, .inl 0, 0, 0), by subst h; exact ⟨dX13_feels_2, rfl, trivial⟩⟩ else none
   else
    bif Nat.blt pc 6 then
     if h : pc = 3 then some ⟨(.invokespecial 11, 6, .inl 0, 229, 8), by subst h; exact ⟨dX13_feels_3, rfl, ⟨by decide, by decide, q480, q1921, q237, q466, _, rfl, rfl⟩⟩⟩ else none
    else
     if h : pc = 6 then some ⟨(.aload_n 1, 7, .inl 0, 0, 0), by subst h; exact ⟨dX13_feels_6, rfl, trivial⟩⟩ else none
 else
  bif Nat.blt pc 11 then
   bif Nat.blt pc 8 then
    if h : pc = 7 then some ⟨(.aload_n 0, 8, .inl 0, 0, 0), by subst h; exact ⟨dX13_feels_7, rfl, trivial⟩⟩ else none
   else
    if h : pc = 8 then some ⟨(.getfield 15, 11, .inl 0, 2, 7), by subst h; exact ⟨dX13_feels_8, rfl, ⟨⟨_, rfl, by decide, _, Or.inl q199, Or.inr q200⟩, (show mKd 7 2 ≤ 4 by decide)⟩⟩⟩ else none
  else
   bif Nat.blt pc 12 then
    if h : pc = 11 then some ⟨(.i2l, 12, .inl 0, 0, 0), by subst h; exact ⟨dX13_feels_11, rfl, trivial⟩⟩ else none
   else
    bif Nat.blt pc 15 then
     if h : pc = 12 then some ⟨(.invokevirtual 21, 15, .inl 0, 211, 2), by subst h; exact ⟨dX13_feels_12, rfl, ⟨by decide, q481, q482, q483, _, rfl, rfl⟩⟩⟩ else none
    else
     if h : pc = 15 then some ⟨(.return_, 16, .inl 0, 0, 0), by subst h; exact ⟨dX13_feels_15, rfl, rfl⟩⟩ else none

noncomputable def mt240 (pc : Nat) : Option {e : mE // mOK yX14_init cX14_init 3 ((Option.none : Option ClassFile.FieldType)) pc e} :=
 bif Nat.blt pc 2 then
  bif Nat.blt pc 1 then
   if h : pc = 0 then some ⟨(.aload_n 0, 1, .inl 0, 0, 0), by subst h; exact ⟨dX14_init_0, rfl, trivial⟩⟩ else none
  else
   if h : pc = 1 then some ⟨(.iload_n 1, 2, .inl 0, 0, 0), by subst h; exact ⟨dX14_init_1, rfl, trivial⟩⟩ else none
 else
  bif Nat.blt pc 3 then
   if h : pc = 2 then some ⟨(.iload_n 2, 3, .inl 0, 0, 0), by subst h; exact ⟨dX14_init_2, rfl, trivial⟩⟩ else none
  else
   bif Nat.blt pc 6 then
    if h : pc = 3 then some ⟨(.invokespecial 1, 6, .inl 0, 230, 1), by subst h; exact ⟨dX14_init_3, rfl, ⟨by decide, rfl, q243, q219⟩⟩⟩ else none
   else
    if h : pc = 6 then some ⟨(.return_, 7, .inl 0, 0, 0), by subst h; exact ⟨dX14_init_6, rfl, rfl⟩⟩ else none

noncomputable def mt241 (pc : Nat) : Option {e : mE // mOK yX14_kind cX14_kind 1 ((Option.some ClassFile.FieldType.int)) pc e} :=
 bif Nat.blt pc 4 then
  bif Nat.blt pc 1 then
   if h : pc = 0 then some ⟨(.aload_n 0, 1, .inl 0, 0, 0), by subst h; exact ⟨dX14_kind_0, rfl, trivial⟩⟩ else none
  else
   if h : pc = 1 then some ⟨(.invokespecial 7, 4, .inl 0, 231, 9), by subst h; exact ⟨dX14_kind_1, rfl, ⟨by decide, by decide, q322, q1915, q248, q307, _, rfl, rfl⟩⟩⟩ else none
 else
  bif Nat.blt pc 5 then
   if h : pc = 4 then some ⟨(.iconst 2, 5, .inl 2, 0, 0), by subst h; exact ⟨dX14_kind_4, rfl, ⟨2, rfl, by decide⟩⟩⟩ else none
  else
   bif Nat.blt pc 6 then
    if h : pc = 5 then some ⟨(.iadd, 6, .inl 0, 0, 0), by subst h; exact ⟨dX14_kind_5, rfl, trivial⟩⟩ else none
   else
    if h : pc = 6 then some ⟨(.ireturn, 7, .inl 0, 0, 0), by subst h; exact ⟨dX14_kind_6, rfl, rfl⟩⟩ else none

noncomputable def mt242 (pc : Nat) : Option {e : mE // mOK yX14_strong cX14_strong 3 ((Option.some ClassFile.FieldType.int)) pc e} :=
 bif Nat.blt pc 6 then
  bif Nat.blt pc 2 then
   bif Nat.blt pc 1 then
    if h : pc = 0 then some ⟨(.aload_n 0, 1, .inl 0, 0, 0), by subst h; exact ⟨dX14_strong_0, rfl, trivial⟩⟩ else none
   else
    if h : pc = 1 then some ⟨(.iload_n 1, 2, .inl 0, 0, 0), by subst h; exact ⟨dX14_strong_1, rfl, trivial⟩⟩ else none
  else
   bif Nat.blt pc 3 then
    if h : pc = 2 then some ⟨(.iload_n 2, 3, .inl 0, 0, 0), by subst h; exact ⟨dX14_strong_2, rfl, trivial⟩⟩ else none
   else
    if h : pc = 3 then some ⟨(.invokespecial 23, 6, .inl 0, 232, 9), by subst h; exact ⟨dX14_strong_3, rfl, ⟨by decide, by decide, q389, q1917, q248, q374, _, rfl, rfl⟩⟩⟩ else none
 else
  bif Nat.blt pc 10 then
   bif Nat.blt pc 7 then
    if h : pc = 6 then some ⟨(.aload_n 0, 7, .inl 0, 0, 0), by subst h; exact ⟨dX14_strong_6, rfl, trivial⟩⟩ else none
   else
    if h : pc = 7 then some ⟨(.getfield 27, 10, .inl 0, 2, 8), by subst h; exact ⟨dX14_strong_7, rfl, ⟨⟨_, rfl, by decide, _, Or.inl q201, Or.inr q202⟩, (show mKd 8 2 ≤ 4 by decide)⟩⟩⟩ else none
  else
   bif Nat.blt pc 11 then
    if h : pc = 10 then some ⟨(.iadd, 11, .inl 0, 0, 0), by subst h; exact ⟨dX14_strong_10, rfl, trivial⟩⟩ else none
   else
    if h : pc = 11 then some ⟨(.ireturn, 12, .inl 0, 0, 0), by subst h; exact ⟨dX14_strong_11, rfl, rfl⟩⟩ else none

noncomputable def mt243 (pc : Nat) : Option {e : mE // mOK yX14_eased cX14_eased 3 ((Option.some ClassFile.FieldType.int)) pc e} :=
 bif Nat.blt pc 3 then
  bif Nat.blt pc 1 then
   if h : pc = 0 then some ⟨(.iconst 2, 1, .inl 2, 0, 0), by subst h; exact ⟨dX14_eased_0, rfl, ⟨2, rfl, by decide⟩⟩⟩ else none
  else
   bif Nat.blt pc 2 then
    if h : pc = 1 then some ⟨(.aload_n 0, 2, .inl 0, 0, 0), by subst h; exact ⟨dX14_eased_1, rfl, trivial⟩⟩ else none
   else
    if h : pc = 2 then some ⟨(.iload_n 1, 3, .inl 0, 0, 0), by subst h; exact ⟨dX14_eased_2, rfl, trivial⟩⟩ else none
 else
  bif Nat.blt pc 7 then
   bif Nat.blt pc 4 then
    if h : pc = 3 then some ⟨(.iload_n 2, 4, .inl 0, 0, 0), by subst h; exact ⟨dX14_eased_3, rfl, trivial⟩⟩ else none
   else
    if h : pc = 4 then some ⟨(.invokespecial 33, 7, .inl 0, 233, 9), by subst h; exact ⟨dX14_eased_4, rfl, ⟨by decide, by decide, q417, q1919, q248, q403, _, rfl, rfl⟩⟩⟩ else none
  else
   bif Nat.blt pc 8 then
    if h : pc = 7 then some ⟨(.imul, 8, .inl 0, 0, 0), by subst h; exact ⟨dX14_eased_7, rfl, trivial⟩⟩ else none
   else
    if h : pc = 8 then some ⟨(.ireturn, 9, .inl 0, 0, 0), by subst h; exact ⟨dX14_eased_8, rfl, rfl⟩⟩ else none

noncomputable def mt244 (pc : Nat) : Option {e : mE // mOK yX14_feels cX14_feels 3 ((Option.none : Option ClassFile.FieldType)) pc e} :=
 bif Nat.blt pc 6 then
  bif Nat.blt pc 2 then
   bif Nat.blt pc 1 then
    if h : pc = 0 then some ⟨(.aload_n 0, 1, .inl 0, 0, 0), by subst h; exact ⟨dX14_feels_0, rfl, trivial⟩⟩ else none
   else
    if h : pc = 1 then some ⟨(.aload_n 1, 2, .inl 0, 0, 0), by subst h; exact ⟨dX14_feels_1, rfl, trivial⟩⟩ else none
  else
   bif Nat.blt pc 3 then
    if h : pc = 2 then some ⟨(.iload_n 2, 3, .inl 0, 0, 0), by subst h; exact ⟨dX14_feels_2, rfl, trivial⟩⟩ else none
   else
    if h : pc = 3 then some ⟨(.invokespecial 11, 6, .inl 0, 234, 9), by subst h; exact ⟨dX14_feels_3, rfl, ⟨by decide, by decide, q474, q1920, q248, q450, _, rfl, rfl⟩⟩⟩ else none
 else
  bif Nat.blt pc 8 then
   bif Nat.blt pc 7 then
    if h : pc = 6 then some ⟨(.aload_n 1, 7, .inl 0, 0, 0), by subst h; exact ⟨dX14_feels_6, rfl, trivial⟩⟩ else none
   else
    if h : pc = 7 then some ⟨(.lconst 1, 8, .inr (.inl 1), 0, 0), by subst h; exact ⟨dX14_feels_7, rfl, ⟨1, rfl, by decide⟩⟩⟩ else none
  else
   bif Nat.blt pc 11 then
    if h : pc = 8 then some ⟨(.ldc2_w 15, 11, .inr (.inl 3), 0, 0), by subst h; exact ⟨dX14_feels_8, rfl, ⟨_, rfl, q475⟩⟩⟩ else none
   else
    bif Nat.blt pc 14 then
     if h : pc = 11 then some ⟨(.invokevirtual 17, 14, .inl 0, 210, 2), by subst h; exact ⟨dX14_feels_11, rfl, ⟨by decide, q476, q457, q458, _, rfl, rfl⟩⟩⟩ else none
    else
     if h : pc = 14 then some ⟨(.return_, 15, .inl 0, 0, 0), by subst h; exact ⟨dX14_feels_14, rfl, rfl⟩⟩ else none

noncomputable def mt245 (pc : Nat) : Option {e : mE // mOK yX15_init cX15_init 3 ((Option.none : Option ClassFile.FieldType)) pc e} :=
 bif Nat.blt pc 2 then
  bif Nat.blt pc 1 then
   if h : pc = 0 then some ⟨(.aload_n 0, 1, .inl 0, 0, 0), by subst h; exact ⟨dX15_init_0, rfl, trivial⟩⟩ else none
  else
   if h : pc = 1 then some ⟨(.iload_n 1, 2, .inl 0, 0, 0), by subst h; exact ⟨dX15_init_1, rfl, trivial⟩⟩ else none
 else
  bif Nat.blt pc 3 then
   if h : pc = 2 then some ⟨(.iload_n 2, 3, .inl 0, 0, 0), by subst h; exact ⟨dX15_init_2, rfl, trivial⟩⟩ else none
  else
   bif Nat.blt pc 6 then
    if h : pc = 3 then some ⟨(.invokespecial 1, 6, .inl 0, 219, 1), by subst h; exact ⟨dX15_init_3, rfl, ⟨by decide, rfl, q254, q181⟩⟩⟩ else none
   else
    if h : pc = 6 then some ⟨(.return_, 7, .inl 0, 0, 0), by subst h; exact ⟨dX15_init_6, rfl, rfl⟩⟩ else none

noncomputable def mt246 (pc : Nat) : Option {e : mE // mOK yX15_kind cX15_kind 1 ((Option.some ClassFile.FieldType.int)) pc e} :=
 bif Nat.blt pc 4 then
  bif Nat.blt pc 1 then
   if h : pc = 0 then some ⟨(.aload_n 0, 1, .inl 0, 0, 0), by subst h; exact ⟨dX15_kind_0, rfl, trivial⟩⟩ else none
  else
   if h : pc = 1 then some ⟨(.invokespecial 7, 4, .inl 0, 220, 7), by subst h; exact ⟨dX15_kind_1, rfl, ⟨by decide, by decide, q314, q305, q259, q303, _, rfl, rfl⟩⟩⟩ else none
 else
  bif Nat.blt pc 5 then
   if h : pc = 4 then some ⟨(.iconst 5, 5, .inl 5, 0, 0), by subst h; exact ⟨dX15_kind_4, rfl, ⟨5, rfl, by decide⟩⟩⟩ else none
  else
   bif Nat.blt pc 6 then
    if h : pc = 5 then some ⟨(.iadd, 6, .inl 0, 0, 0), by subst h; exact ⟨dX15_kind_5, rfl, trivial⟩⟩ else none
   else
    if h : pc = 6 then some ⟨(.ireturn, 7, .inl 0, 0, 0), by subst h; exact ⟨dX15_kind_6, rfl, rfl⟩⟩ else none

noncomputable def mt247 (pc : Nat) : Option {e : mE // mOK yX15_strong cX15_strong 3 ((Option.some ClassFile.FieldType.int)) pc e} :=
 bif Nat.blt pc 3 then
  bif Nat.blt pc 1 then
   if h : pc = 0 then some ⟨(.aload_n 0, 1, .inl 0, 0, 0), by subst h; exact ⟨dX15_strong_0, rfl, trivial⟩⟩ else none
  else
   bif Nat.blt pc 2 then
    if h : pc = 1 then some ⟨(.iload_n 1, 2, .inl 0, 0, 0), by subst h; exact ⟨dX15_strong_1, rfl, trivial⟩⟩ else none
   else
    if h : pc = 2 then some ⟨(.iload_n 2, 3, .inl 0, 0, 0), by subst h; exact ⟨dX15_strong_2, rfl, trivial⟩⟩ else none
 else
  bif Nat.blt pc 7 then
   bif Nat.blt pc 6 then
    if h : pc = 3 then some ⟨(.invokespecial 17, 6, .inl 0, 221, 7), by subst h; exact ⟨dX15_strong_3, rfl, ⟨by decide, by decide, q381, q372, q259, q370, _, rfl, rfl⟩⟩⟩ else none
   else
    if h : pc = 6 then some ⟨(.iload_n 2, 7, .inl 0, 0, 0), by subst h; exact ⟨dX15_strong_6, rfl, trivial⟩⟩ else none
  else
   bif Nat.blt pc 8 then
    if h : pc = 7 then some ⟨(.iadd, 8, .inl 0, 0, 0), by subst h; exact ⟨dX15_strong_7, rfl, trivial⟩⟩ else none
   else
    if h : pc = 8 then some ⟨(.ireturn, 9, .inl 0, 0, 0), by subst h; exact ⟨dX15_strong_8, rfl, rfl⟩⟩ else none

noncomputable def mt248 (pc : Nat) : Option {e : mE // mOK yX15_eased cX15_eased 3 ((Option.some ClassFile.FieldType.int)) pc e} :=
 bif Nat.blt pc 7 then
  bif Nat.blt pc 2 then
   bif Nat.blt pc 1 then
    if h : pc = 0 then some ⟨(.iload_n 2, 1, .inl 0, 0, 0), by subst h; exact ⟨dX15_eased_0, rfl, trivial⟩⟩ else none
   else
    if h : pc = 1 then some ⟨(.iconst 2, 2, .inl 2, 0, 0), by subst h; exact ⟨dX15_eased_1, rfl, ⟨2, rfl, by decide⟩⟩⟩ else none
  else
   bif Nat.blt pc 3 then
    if h : pc = 2 then some ⟨(.irem, 3, .inl 0, 0, 0), by subst h; exact ⟨dX15_eased_2, rfl, trivial⟩⟩ else none
   else
    bif Nat.blt pc 6 then
     if h : pc = 3 then some ⟨(.ifCond .ne 12, 6, .inl 0, 15, 0), by subst h; exact ⟨dX15_eased_3, rfl, (show ((3 : Nat) : Int) + (12) = ((15 : Nat) : Int) by decide)⟩⟩ else none
    else
     if h : pc = 6 then some ⟨(.aload_n 0, 7, .inl 0, 0, 0), by subst h; exact ⟨dX15_eased_6, rfl, trivial⟩⟩ else none
 else
  bif Nat.blt pc 12 then
   bif Nat.blt pc 8 then
    if h : pc = 7 then some ⟨(.iload_n 1, 8, .inl 0, 0, 0), by subst h; exact ⟨dX15_eased_7, rfl, trivial⟩⟩ else none
   else
    bif Nat.blt pc 9 then
     if h : pc = 8 then some ⟨(.iload_n 2, 9, .inl 0, 0, 0), by subst h; exact ⟨dX15_eased_8, rfl, trivial⟩⟩ else none
    else
     if h : pc = 9 then some ⟨(.invokespecial 21, 12, .inl 0, 222, 7), by subst h; exact ⟨dX15_eased_9, rfl, ⟨by decide, by decide, q410, q401, q259, q399, _, rfl, rfl⟩⟩⟩ else none
  else
   bif Nat.blt pc 15 then
    if h : pc = 12 then some ⟨(.goto 4, 15, .inl 0, 16, 0), by subst h; exact ⟨dX15_eased_12, rfl, (show ((12 : Nat) : Int) + (4) = ((16 : Nat) : Int) by decide)⟩⟩ else none
   else
    bif Nat.blt pc 16 then
     if h : pc = 15 then some ⟨(.iconst 0, 16, .inl 0, 0, 0), by subst h; exact ⟨dX15_eased_15, rfl, ⟨0, rfl, by decide⟩⟩⟩ else none
    else
     if h : pc = 16 then some ⟨(.ireturn, 17, .inl 0, 0, 0), by subst h; exact ⟨dX15_eased_16, rfl, rfl⟩⟩ else none

noncomputable def mt249 (pc : Nat) : Option {e : mE // mOK yX15_feels cX15_feels 3 ((Option.none : Option ClassFile.FieldType)) pc e} :=
 bif Nat.blt pc 3 then
  bif Nat.blt pc 1 then
   if h : pc = 0 then some ⟨(.aload_n 1, 1, .inl 0, 0, 0), by subst h; exact ⟨dX15_feels_0, rfl, trivial⟩⟩ else none
  else
   bif Nat.blt pc 2 then
    if h : pc = 1 then some ⟨(.iload_n 2, 2, .inl 0, 0, 0), by subst h; exact ⟨dX15_feels_1, rfl, trivial⟩⟩ else none
   else
    if h : pc = 2 then some ⟨(.i2l, 3, .inl 0, 0, 0), by subst h; exact ⟨dX15_feels_2, rfl, trivial⟩⟩ else none
 else
  bif Nat.blt pc 4 then
   if h : pc = 3 then some ⟨(.lconst 1, 4, .inr (.inl 1), 0, 0), by subst h; exact ⟨dX15_feels_3, rfl, ⟨1, rfl, by decide⟩⟩⟩ else none
  else
   bif Nat.blt pc 7 then
    if h : pc = 4 then some ⟨(.invokevirtual 11, 7, .inl 0, 208, 2), by subst h; exact ⟨dX15_feels_4, rfl, ⟨by decide, q464, q430, q431, _, rfl, rfl⟩⟩⟩ else none
   else
    if h : pc = 7 then some ⟨(.return_, 8, .inl 0, 0, 0), by subst h; exact ⟨dX15_feels_7, rfl, rfl⟩⟩ else none

noncomputable def mt250 (pc : Nat) : Option {e : mE // mOK yX6_worth cX6_worth 1 ((Option.some ClassFile.FieldType.int)) pc e} :=
 bif Nat.blt pc 1 then
  if h : pc = 0 then some ⟨(.aload_n 0, 1, .inl 0, 0, 0), by subst h; exact ⟨dX6_worth_0, rfl, trivial⟩⟩ else none
 else
  bif Nat.blt pc 4 then
   if h : pc = 1 then some ⟨(.getfield 7, 4, .inl 0, 0, 10), by subst h; exact ⟨dX6_worth_1, rfl, ⟨⟨_, rfl, by decide, _, Or.inl q708, Or.inl rfl⟩, (show mKd 10 0 ≤ 4 by decide)⟩⟩⟩ else none
  else
   if h : pc = 4 then some ⟨(.ireturn, 5, .inl 0, 0, 0), by subst h; exact ⟨dX6_worth_4, rfl, rfl⟩⟩ else none

noncomputable def mt251 (pc : Nat) : Option {e : mE // mOK yX6_init cX6_init 2 ((Option.none : Option ClassFile.FieldType)) pc e} :=
 bif Nat.blt pc 5 then
  bif Nat.blt pc 1 then
   if h : pc = 0 then some ⟨(.aload_n 0, 1, .inl 0, 0, 0), by subst h; exact ⟨dX6_init_0, rfl, trivial⟩⟩ else none
  else
   bif Nat.blt pc 4 then
    if h : pc = 1 then some ⟨(.invokespecial 1, 4, .inl 0, 258, 2), by subst h; exact ⟨dX6_init_1, rfl, ⟨by decide, rfl, ⟨"NobodyCanLiftIt", List.mem_of_getElem? (i := 4) rfl⟩, q679⟩⟩⟩ else none
   else
    if h : pc = 4 then some ⟨(.aload_n 0, 5, .inl 0, 0, 0), by subst h; exact ⟨dX6_init_4, rfl, trivial⟩⟩ else none
 else
  bif Nat.blt pc 6 then
   if h : pc = 5 then some ⟨(.iload_n 1, 6, .inl 0, 0, 0), by subst h; exact ⟨dX6_init_5, rfl, trivial⟩⟩ else none
  else
   bif Nat.blt pc 9 then
    if h : pc = 6 then some ⟨(.putfield 7, 9, .inl 0, 0, 10), by subst h; exact ⟨dX6_init_6, rfl, ⟨⟨_, rfl, by decide, _, Or.inl q708, Or.inl rfl⟩, (show mKd 10 0 ≤ 4 by decide), by decide, by decide, (fun q h => Or.inr (by cases h; exact ⟨rfl, rfl, rfl, q708⟩))⟩⟩⟩ else none
   else
    if h : pc = 9 then some ⟨(.return_, 10, .inl 0, 0, 0), by subst h; exact ⟨dX6_init_9, rfl, rfl⟩⟩ else none

noncomputable def mt252 (pc : Nat) : Option {e : mE // mOK yX7_worth cX7_worth 1 ((Option.some ClassFile.FieldType.int)) pc e} :=
 bif Nat.blt pc 79 then
  bif Nat.blt pc 58 then
   bif Nat.blt pc 44 then
    bif Nat.blt pc 4 then
     bif Nat.blt pc 1 then
      if h : pc = 0 then some ⟨(.aload_n 0, 1, .inl 0, 0, 0), by subst h; exact ⟨dX7_worth_0, rfl, trivial⟩⟩ else none
     else
      if h : pc = 1 then some ⟨(.getfield 13, 4, .inl 0, 0, 11), by subst h; exact ⟨dX7_worth_1, rfl, ⟨⟨_, rfl, by decide, _, Or.inl q718, Or.inl rfl⟩, (show mKd 11 0 ≤ 4 by decide)⟩⟩⟩ else none
    else
     bif Nat.blt pc 40 then
      if h : pc = 4 then some ⟨(.tableswitch 109 0 4 #[36, 55, 74, 82, 90], 4, .inl 0, 0, 0), by subst h; exact ⟨dX7_worth_4, rfl, ⟨by decide, rfl, by decide⟩⟩⟩ else none
     else
      bif Nat.blt pc 41 then
       if h : pc = 40 then some ⟨(.aload_n 0, 41, .inl 0, 0, 0), by subst h; exact ⟨dX7_worth_40, rfl, trivial⟩⟩ else none
      else
       if h : pc = 41 then some ⟨(.getfield 1, 44, .inr (.inr none), 1, 11), by subst h; exact ⟨dX7_worth_41, rfl, ⟨⟨_, rfl, by decide, _, Or.inl q719, Or.inl rfl⟩, (show mKd 11 1 = 6 by rfl)⟩⟩⟩ else none
   else
    bif Nat.blt pc 51 then
     bif Nat.blt pc 47 then
      if h : pc = 44 then some ⟨(.getfield 17, 47, .inr (.inr none), 0, 0), by subst h; exact ⟨dX7_worth_44, rfl, ⟨⟨_, rfl, by decide, _, Or.inr ⟨"NobodyCanLiftIt", List.mem_of_getElem? (i := 1) rfl⟩, Or.inl rfl⟩, (show mKd 0 0 = 6 by rfl)⟩⟩⟩ else none
     else
      bif Nat.blt pc 48 then
       if h : pc = 47 then some ⟨(.aload_n 0, 48, .inl 0, 0, 0), by subst h; exact ⟨dX7_worth_47, rfl, trivial⟩⟩ else none
      else
       if h : pc = 48 then some ⟨(.getfield 1, 51, .inr (.inr none), 1, 11), by subst h; exact ⟨dX7_worth_48, rfl, ⟨⟨_, rfl, by decide, _, Or.inl q719, Or.inl rfl⟩, (show mKd 11 1 = 6 by rfl)⟩⟩⟩ else none
    else
     bif Nat.blt pc 54 then
      if h : pc = 51 then some ⟨(.getfield 23, 54, .inl 0, 6, 0), by subst h; exact ⟨dX7_worth_51, rfl, ⟨⟨_, rfl, by decide, _, Or.inr ⟨"NobodyCanLiftIt", List.mem_of_getElem? (i := 2) rfl⟩, Or.inl rfl⟩, (show mKd 0 6 ≤ 4 by decide)⟩⟩⟩ else none
     else
      bif Nat.blt pc 55 then
       if h : pc = 54 then some ⟨(.aaload, 55, .inl 0, 0, 0), by subst h; exact ⟨dX7_worth_54, rfl, trivial⟩⟩ else none
      else
       if h : pc = 55 then some ⟨(.getfield 26, 58, .inl 0, 1, 4), by subst h; exact ⟨dX7_worth_55, rfl, ⟨⟨_, rfl, by decide, _, Or.inl q194, Or.inl rfl⟩, (show mKd 4 1 ≤ 4 by decide)⟩⟩⟩ else none
  else
   bif Nat.blt pc 67 then
    bif Nat.blt pc 60 then
     bif Nat.blt pc 59 then
      if h : pc = 58 then some ⟨(.ireturn, 59, .inl 0, 0, 0), by subst h; exact ⟨dX7_worth_58, rfl, rfl⟩⟩ else none
     else
      if h : pc = 59 then some ⟨(.aload_n 0, 60, .inl 0, 0, 0), by subst h; exact ⟨dX7_worth_59, rfl, trivial⟩⟩ else none
    else
     bif Nat.blt pc 63 then
      if h : pc = 60 then some ⟨(.getfield 1, 63, .inr (.inr none), 1, 11), by subst h; exact ⟨dX7_worth_60, rfl, ⟨⟨_, rfl, by decide, _, Or.inl q719, Or.inl rfl⟩, (show mKd 11 1 = 6 by rfl)⟩⟩⟩ else none
     else
      bif Nat.blt pc 66 then
       if h : pc = 63 then some ⟨(.getfield 17, 66, .inr (.inr none), 0, 0), by subst h; exact ⟨dX7_worth_63, rfl, ⟨⟨_, rfl, by decide, _, Or.inr ⟨"NobodyCanLiftIt", List.mem_of_getElem? (i := 1) rfl⟩, Or.inl rfl⟩, (show mKd 0 0 = 6 by rfl)⟩⟩⟩ else none
      else
       if h : pc = 66 then some ⟨(.aload_n 0, 67, .inl 0, 0, 0), by subst h; exact ⟨dX7_worth_66, rfl, trivial⟩⟩ else none
   else
    bif Nat.blt pc 74 then
     bif Nat.blt pc 70 then
      if h : pc = 67 then some ⟨(.getfield 1, 70, .inr (.inr none), 1, 11), by subst h; exact ⟨dX7_worth_67, rfl, ⟨⟨_, rfl, by decide, _, Or.inl q719, Or.inl rfl⟩, (show mKd 11 1 = 6 by rfl)⟩⟩⟩ else none
     else
      bif Nat.blt pc 73 then
       if h : pc = 70 then some ⟨(.getfield 23, 73, .inl 0, 6, 0), by subst h; exact ⟨dX7_worth_70, rfl, ⟨⟨_, rfl, by decide, _, Or.inr ⟨"NobodyCanLiftIt", List.mem_of_getElem? (i := 2) rfl⟩, Or.inl rfl⟩, (show mKd 0 6 ≤ 4 by decide)⟩⟩⟩ else none
      else
       if h : pc = 73 then some ⟨(.aaload, 74, .inl 0, 0, 0), by subst h; exact ⟨dX7_worth_73, rfl, trivial⟩⟩ else none
    else
     bif Nat.blt pc 77 then
      if h : pc = 74 then some ⟨(.getfield 31, 77, .inl 0, 0, 4), by subst h; exact ⟨dX7_worth_74, rfl, ⟨⟨_, rfl, by decide, _, Or.inl q187, Or.inl rfl⟩, (show mKd 4 0 ≤ 4 by decide)⟩⟩⟩ else none
     else
      bif Nat.blt pc 78 then
       if h : pc = 77 then some ⟨(.ireturn, 78, .inl 0, 0, 0), by subst h; exact ⟨dX7_worth_77, rfl, rfl⟩⟩ else none
      else
       if h : pc = 78 then some ⟨(.aload_n 0, 79, .inl 0, 0, 0), by subst h; exact ⟨dX7_worth_78, rfl, trivial⟩⟩ else none
 else
  bif Nat.blt pc 102 then
   bif Nat.blt pc 90 then
    bif Nat.blt pc 85 then
     bif Nat.blt pc 82 then
      if h : pc = 79 then some ⟨(.getfield 1, 82, .inr (.inr none), 1, 11), by subst h; exact ⟨dX7_worth_79, rfl, ⟨⟨_, rfl, by decide, _, Or.inl q719, Or.inl rfl⟩, (show mKd 11 1 = 6 by rfl)⟩⟩⟩ else none
     else
      if h : pc = 82 then some ⟨(.getfield 34, 85, .inl 0, 3, 0), by subst h; exact ⟨dX7_worth_82, rfl, ⟨⟨_, rfl, by decide, _, Or.inr ⟨"NobodyCanLiftIt", List.mem_of_getElem? (i := 3) rfl⟩, Or.inl rfl⟩, (show mKd 0 3 ≤ 4 by decide)⟩⟩⟩ else none
    else
     bif Nat.blt pc 86 then
      if h : pc = 85 then some ⟨(.ireturn, 86, .inl 0, 0, 0), by subst h; exact ⟨dX7_worth_85, rfl, rfl⟩⟩ else none
     else
      bif Nat.blt pc 87 then
       if h : pc = 86 then some ⟨(.aload_n 0, 87, .inl 0, 0, 0), by subst h; exact ⟨dX7_worth_86, rfl, trivial⟩⟩ else none
      else
       if h : pc = 87 then some ⟨(.getfield 1, 90, .inr (.inr none), 1, 11), by subst h; exact ⟨dX7_worth_87, rfl, ⟨⟨_, rfl, by decide, _, Or.inl q719, Or.inl rfl⟩, (show mKd 11 1 = 6 by rfl)⟩⟩⟩ else none
   else
    bif Nat.blt pc 95 then
     bif Nat.blt pc 93 then
      if h : pc = 90 then some ⟨(.getfield 37, 93, .inl 0, 2, 0), by subst h; exact ⟨dX7_worth_90, rfl, ⟨⟨_, rfl, by decide, _, Or.inr ⟨"NobodyCanLiftIt", List.mem_of_getElem? (i := 4) rfl⟩, Or.inl rfl⟩, (show mKd 0 2 ≤ 4 by decide)⟩⟩⟩ else none
     else
      bif Nat.blt pc 94 then
       if h : pc = 93 then some ⟨(.ireturn, 94, .inl 0, 0, 0), by subst h; exact ⟨dX7_worth_93, rfl, rfl⟩⟩ else none
      else
       if h : pc = 94 then some ⟨(.aload_n 0, 95, .inl 0, 0, 0), by subst h; exact ⟨dX7_worth_94, rfl, trivial⟩⟩ else none
    else
     bif Nat.blt pc 98 then
      if h : pc = 95 then some ⟨(.getfield 1, 98, .inr (.inr none), 1, 11), by subst h; exact ⟨dX7_worth_95, rfl, ⟨⟨_, rfl, by decide, _, Or.inl q719, Or.inl rfl⟩, (show mKd 11 1 = 6 by rfl)⟩⟩⟩ else none
     else
      bif Nat.blt pc 101 then
       if h : pc = 98 then some ⟨(.getfield 17, 101, .inr (.inr none), 0, 0), by subst h; exact ⟨dX7_worth_98, rfl, ⟨⟨_, rfl, by decide, _, Or.inr ⟨"NobodyCanLiftIt", List.mem_of_getElem? (i := 1) rfl⟩, Or.inl rfl⟩, (show mKd 0 0 = 6 by rfl)⟩⟩⟩ else none
      else
       if h : pc = 101 then some ⟨(.aload_n 0, 102, .inl 0, 0, 0), by subst h; exact ⟨dX7_worth_101, rfl, trivial⟩⟩ else none
  else
   bif Nat.blt pc 114 then
    bif Nat.blt pc 109 then
     bif Nat.blt pc 105 then
      if h : pc = 102 then some ⟨(.getfield 1, 105, .inr (.inr none), 1, 11), by subst h; exact ⟨dX7_worth_102, rfl, ⟨⟨_, rfl, by decide, _, Or.inl q719, Or.inl rfl⟩, (show mKd 11 1 = 6 by rfl)⟩⟩⟩ else none
     else
      bif Nat.blt pc 108 then
       if h : pc = 105 then some ⟨(.getfield 23, 108, .inl 0, 6, 0), by subst h; exact ⟨dX7_worth_105, rfl, ⟨⟨_, rfl, by decide, _, Or.inr ⟨"NobodyCanLiftIt", List.mem_of_getElem? (i := 2) rfl⟩, Or.inl rfl⟩, (show mKd 0 6 ≤ 4 by decide)⟩⟩⟩ else none
      else
       if h : pc = 108 then some ⟨(.aaload, 109, .inl 0, 0, 0), by subst h; exact ⟨dX7_worth_108, rfl, trivial⟩⟩ else none
    else
     bif Nat.blt pc 112 then
      if h : pc = 109 then some ⟨(.getfield 40, 112, .inl 0, 2, 4), by subst h; exact ⟨dX7_worth_109, rfl, ⟨⟨_, rfl, by decide, _, Or.inl q198, Or.inl rfl⟩, (show mKd 4 2 ≤ 4 by decide)⟩⟩⟩ else none
     else
      bif Nat.blt pc 113 then
       if h : pc = 112 then some ⟨(.ireturn, 113, .inl 0, 0, 0), by subst h; exact ⟨dX7_worth_112, rfl, rfl⟩⟩ else none
      else
       if h : pc = 113 then some ⟨(.aload_n 0, 114, .inl 0, 0, 0), by subst h; exact ⟨dX7_worth_113, rfl, trivial⟩⟩ else none
   else
    bif Nat.blt pc 121 then
     bif Nat.blt pc 117 then
      if h : pc = 114 then some ⟨(.getfield 1, 117, .inr (.inr none), 1, 11), by subst h; exact ⟨dX7_worth_114, rfl, ⟨⟨_, rfl, by decide, _, Or.inl q719, Or.inl rfl⟩, (show mKd 11 1 = 6 by rfl)⟩⟩⟩ else none
     else
      bif Nat.blt pc 118 then
       if h : pc = 117 then some ⟨(.aload_n 0, 118, .inl 0, 0, 0), by subst h; exact ⟨dX7_worth_117, rfl, trivial⟩⟩ else none
      else
       if h : pc = 118 then some ⟨(.getfield 1, 121, .inr (.inr none), 1, 11), by subst h; exact ⟨dX7_worth_118, rfl, ⟨⟨_, rfl, by decide, _, Or.inl q719, Or.inl rfl⟩, (show mKd 11 1 = 6 by rfl)⟩⟩⟩ else none
    else
     bif Nat.blt pc 124 then
      if h : pc = 121 then some ⟨(.getfield 23, 124, .inl 0, 6, 0), by subst h; exact ⟨dX7_worth_121, rfl, ⟨⟨_, rfl, by decide, _, Or.inr ⟨"NobodyCanLiftIt", List.mem_of_getElem? (i := 2) rfl⟩, Or.inl rfl⟩, (show mKd 0 6 ≤ 4 by decide)⟩⟩⟩ else none
     else
      bif Nat.blt pc 127 then
       if h : pc = 124 then some ⟨(.invokevirtual 43, 127, .inl 0, 120, 200), by subst h; exact ⟨dX7_worth_124, rfl, ⟨by decide, ⟨"NobodyCanLiftIt", List.mem_of_getElem? (i := 3) rfl⟩, q343, qs6, _, rfl, rfl⟩⟩⟩ else none
      else
       if h : pc = 127 then some ⟨(.ireturn, 128, .inl 0, 0, 0), by subst h; exact ⟨dX7_worth_127, rfl, rfl⟩⟩ else none

noncomputable def mt253 (pc : Nat) : Option {e : mE // mOK yX7_init cX7_init 3 ((Option.none : Option ClassFile.FieldType)) pc e} :=
 bif Nat.blt pc 6 then
  bif Nat.blt pc 2 then
   bif Nat.blt pc 1 then
    if h : pc = 0 then some ⟨(.aload_n 0, 1, .inl 0, 0, 0), by subst h; exact ⟨dX7_init_0, rfl, trivial⟩⟩ else none
   else
    if h : pc = 1 then some ⟨(.aload_n 1, 2, .inl 0, 0, 0), by subst h; exact ⟨dX7_init_1, rfl, trivial⟩⟩ else none
  else
   bif Nat.blt pc 5 then
    if h : pc = 2 then some ⟨(.putfield 1, 5, .inr (.inr none), 1, 11), by subst h; exact ⟨dX7_init_2, rfl, ⟨⟨_, rfl, by decide, _, Or.inl q719, Or.inl rfl⟩, (show mKd 11 1 = 6 by rfl), by decide, by decide, (fun q h => Or.inr (by cases h; exact ⟨rfl, rfl, rfl, q719⟩))⟩⟩⟩ else none
   else
    if h : pc = 5 then some ⟨(.aload_n 0, 6, .inl 0, 0, 0), by subst h; exact ⟨dX7_init_5, rfl, trivial⟩⟩ else none
 else
  bif Nat.blt pc 10 then
   bif Nat.blt pc 9 then
    if h : pc = 6 then some ⟨(.invokespecial 7, 9, .inl 0, 258, 2), by subst h; exact ⟨dX7_init_6, rfl, ⟨by decide, rfl, ⟨"NobodyCanLiftIt", List.mem_of_getElem? (i := 2) rfl⟩, q679⟩⟩⟩ else none
   else
    if h : pc = 9 then some ⟨(.aload_n 0, 10, .inl 0, 0, 0), by subst h; exact ⟨dX7_init_9, rfl, trivial⟩⟩ else none
  else
   bif Nat.blt pc 11 then
    if h : pc = 10 then some ⟨(.iload_n 2, 11, .inl 0, 0, 0), by subst h; exact ⟨dX7_init_10, rfl, trivial⟩⟩ else none
   else
    bif Nat.blt pc 14 then
     if h : pc = 11 then some ⟨(.putfield 13, 14, .inl 0, 0, 11), by subst h; exact ⟨dX7_init_11, rfl, ⟨⟨_, rfl, by decide, _, Or.inl q718, Or.inl rfl⟩, (show mKd 11 0 ≤ 4 by decide), by decide, by decide, (fun q h => Or.inr (by cases h; exact ⟨rfl, rfl, rfl, q718⟩))⟩⟩⟩ else none
    else
     if h : pc = 14 then some ⟨(.return_, 15, .inl 0, 0, 0), by subst h; exact ⟨dX7_init_14, rfl, rfl⟩⟩ else none

noncomputable def mt254 (pc : Nat) : Option {e : mE // mOK yX5_worth cX5_worth 2 ((Option.some ClassFile.FieldType.int)) pc e} :=
 bif Nat.blt pc 16 then
  bif Nat.blt pc 8 then
   bif Nat.blt pc 4 then
    bif Nat.blt pc 1 then
     if h : pc = 0 then some ⟨(.aload_n 0, 1, .inl 0, 0, 0), by subst h; exact ⟨dX5_worth_0, rfl, trivial⟩⟩ else none
    else
     if h : pc = 1 then some ⟨(.getfield 7, 4, .inr (.inr none), 0, 12), by subst h; exact ⟨dX5_worth_1, rfl, ⟨⟨_, rfl, by decide, _, Or.inl q682, Or.inl rfl⟩, (show mKd 12 0 = 6 by rfl)⟩⟩⟩ else none
   else
    bif Nat.blt pc 7 then
     if h : pc = 4 then some ⟨(.invokevirtual 17, 7, .inl 0, 5, 100), by subst h; exact ⟨dX5_worth_4, rfl, q351⟩⟩ else none
    else
     if h : pc = 7 then some ⟨(.istore_n 1, 8, .inl 0, 0, 0), by subst h; exact ⟨dX5_worth_7, rfl, (show (1 : Nat) < 2 by decide)⟩⟩ else none
  else
   bif Nat.blt pc 12 then
    bif Nat.blt pc 9 then
     if h : pc = 8 then some ⟨(.aload_n 0, 9, .inl 0, 0, 0), by subst h; exact ⟨dX5_worth_8, rfl, trivial⟩⟩ else none
    else
     if h : pc = 9 then some ⟨(.getfield 13, 12, .inl 0, 1, 12), by subst h; exact ⟨dX5_worth_9, rfl, ⟨⟨_, rfl, by decide, _, Or.inl q683, Or.inl rfl⟩, (show mKd 12 1 ≤ 4 by decide)⟩⟩⟩ else none
   else
    bif Nat.blt pc 15 then
     if h : pc = 12 then some ⟨(.ifCond .eq 8, 15, .inl 0, 20, 0), by subst h; exact ⟨dX5_worth_12, rfl, (show ((12 : Nat) : Int) + (8) = ((20 : Nat) : Int) by decide)⟩⟩ else none
    else
     if h : pc = 15 then some ⟨(.iload_n 1, 16, .inl 0, 0, 0), by subst h; exact ⟨dX5_worth_15, rfl, trivial⟩⟩ else none
 else
  bif Nat.blt pc 24 then
   bif Nat.blt pc 20 then
    bif Nat.blt pc 17 then
     if h : pc = 16 then some ⟨(.ineg, 17, .inl 0, 0, 0), by subst h; exact ⟨dX5_worth_16, rfl, trivial⟩⟩ else none
    else
     if h : pc = 17 then some ⟨(.goto 12, 20, .inl 0, 29, 0), by subst h; exact ⟨dX5_worth_17, rfl, (show ((17 : Nat) : Int) + (12) = ((29 : Nat) : Int) by decide)⟩⟩ else none
   else
    bif Nat.blt pc 21 then
     if h : pc = 20 then some ⟨(.iload_n 1, 21, .inl 0, 0, 0), by subst h; exact ⟨dX5_worth_20, rfl, trivial⟩⟩ else none
    else
     if h : pc = 21 then some ⟨(.ifCond .ne 7, 24, .inl 0, 28, 0), by subst h; exact ⟨dX5_worth_21, rfl, (show ((21 : Nat) : Int) + (7) = ((28 : Nat) : Int) by decide)⟩⟩ else none
  else
   bif Nat.blt pc 28 then
    bif Nat.blt pc 25 then
     if h : pc = 24 then some ⟨(.iconst 1, 25, .inl 1, 0, 0), by subst h; exact ⟨dX5_worth_24, rfl, ⟨1, rfl, by decide⟩⟩⟩ else none
    else
     if h : pc = 25 then some ⟨(.goto 4, 28, .inl 0, 29, 0), by subst h; exact ⟨dX5_worth_25, rfl, (show ((25 : Nat) : Int) + (4) = ((29 : Nat) : Int) by decide)⟩⟩ else none
   else
    bif Nat.blt pc 29 then
     if h : pc = 28 then some ⟨(.iconst 0, 29, .inl 0, 0, 0), by subst h; exact ⟨dX5_worth_28, rfl, ⟨0, rfl, by decide⟩⟩⟩ else none
    else
     if h : pc = 29 then some ⟨(.ireturn, 30, .inl 0, 0, 0), by subst h; exact ⟨dX5_worth_29, rfl, rfl⟩⟩ else none

noncomputable def mt255 (pc : Nat) : Option {e : mE // mOK yX5_init cX5_init 3 ((Option.none : Option ClassFile.FieldType)) pc e} :=
 bif Nat.blt pc 6 then
  bif Nat.blt pc 4 then
   bif Nat.blt pc 1 then
    if h : pc = 0 then some ⟨(.aload_n 0, 1, .inl 0, 0, 0), by subst h; exact ⟨dX5_init_0, rfl, trivial⟩⟩ else none
   else
    if h : pc = 1 then some ⟨(.invokespecial 1, 4, .inl 0, 258, 2), by subst h; exact ⟨dX5_init_1, rfl, ⟨by decide, rfl, ⟨"NobodyCanLiftIt", List.mem_of_getElem? (i := 5) rfl⟩, q679⟩⟩⟩ else none
  else
   bif Nat.blt pc 5 then
    if h : pc = 4 then some ⟨(.aload_n 0, 5, .inl 0, 0, 0), by subst h; exact ⟨dX5_init_4, rfl, trivial⟩⟩ else none
   else
    if h : pc = 5 then some ⟨(.aload_n 1, 6, .inl 0, 0, 0), by subst h; exact ⟨dX5_init_5, rfl, trivial⟩⟩ else none
 else
  bif Nat.blt pc 10 then
   bif Nat.blt pc 9 then
    if h : pc = 6 then some ⟨(.putfield 7, 9, .inr (.inr none), 0, 12), by subst h; exact ⟨dX5_init_6, rfl, ⟨⟨_, rfl, by decide, _, Or.inl q682, Or.inl rfl⟩, (show mKd 12 0 = 6 by rfl), by decide, by decide, (fun q h => Or.inr (by cases h; exact ⟨rfl, rfl, rfl, q682⟩))⟩⟩⟩ else none
   else
    if h : pc = 9 then some ⟨(.aload_n 0, 10, .inl 0, 0, 0), by subst h; exact ⟨dX5_init_9, rfl, trivial⟩⟩ else none
  else
   bif Nat.blt pc 11 then
    if h : pc = 10 then some ⟨(.iload_n 2, 11, .inl 0, 0, 0), by subst h; exact ⟨dX5_init_10, rfl, trivial⟩⟩ else none
   else
    bif Nat.blt pc 14 then
     if h : pc = 11 then some ⟨(.putfield 13, 14, .inl 0, 1, 112), by subst h; exact ⟨dX5_init_11, rfl, ⟨⟨_, rfl, by decide, _, Or.inl q683, Or.inl rfl⟩, (show mKd 12 1 ≤ 4 by decide), by decide, by decide, (fun q h => Or.inr (by cases h; exact ⟨rfl, rfl, rfl, q683⟩))⟩⟩⟩ else none
    else
     if h : pc = 14 then some ⟨(.return_, 15, .inl 0, 0, 0), by subst h; exact ⟨dX5_init_14, rfl, rfl⟩⟩ else none

noncomputable def mt256 (pc : Nat) : Option {e : mE // mOK yX8_worth cX8_worth 3 ((Option.some ClassFile.FieldType.int)) pc e} :=
 bif Nat.blt pc 97 then
  bif Nat.blt pc 82 then
   bif Nat.blt pc 12 then
    bif Nat.blt pc 7 then
     bif Nat.blt pc 1 then
      if h : pc = 0 then some ⟨(.aload_n 0, 1, .inl 0, 0, 0), by subst h; exact ⟨dX8_worth_0, rfl, trivial⟩⟩ else none
     else
      bif Nat.blt pc 4 then
       if h : pc = 1 then some ⟨(.getfield 13, 4, .inr (.inr none), 1, 13), by subst h; exact ⟨dX8_worth_1, rfl, ⟨⟨_, rfl, by decide, _, Or.inl q736, Or.inl rfl⟩, (show mKd 13 1 = 6 by rfl)⟩⟩⟩ else none
      else
       if h : pc = 4 then some ⟨(.invokevirtual 20, 7, .inl 0, 5, 100), by subst h; exact ⟨dX8_worth_4, rfl, q354⟩⟩ else none
    else
     bif Nat.blt pc 8 then
      if h : pc = 7 then some ⟨(.istore_n 1, 8, .inl 0, 0, 0), by subst h; exact ⟨dX8_worth_7, rfl, (show (1 : Nat) < 3 by decide)⟩⟩ else none
     else
      bif Nat.blt pc 9 then
       if h : pc = 8 then some ⟨(.aload_n 0, 9, .inl 0, 0, 0), by subst h; exact ⟨dX8_worth_8, rfl, trivial⟩⟩ else none
      else
       if h : pc = 9 then some ⟨(.getfield 17, 12, .inr (.inr none), 2, 13), by subst h; exact ⟨dX8_worth_9, rfl, ⟨⟨_, rfl, by decide, _, Or.inl q737, Or.inl rfl⟩, (show mKd 13 2 = 6 by rfl)⟩⟩⟩ else none
   else
    bif Nat.blt pc 17 then
     bif Nat.blt pc 15 then
      if h : pc = 12 then some ⟨(.invokevirtual 20, 15, .inl 0, 5, 100), by subst h; exact ⟨dX8_worth_12, rfl, q354⟩⟩ else none
     else
      bif Nat.blt pc 16 then
       if h : pc = 15 then some ⟨(.istore_n 2, 16, .inl 0, 0, 0), by subst h; exact ⟨dX8_worth_15, rfl, (show (2 : Nat) < 3 by decide)⟩⟩ else none
      else
       if h : pc = 16 then some ⟨(.aload_n 0, 17, .inl 0, 0, 0), by subst h; exact ⟨dX8_worth_16, rfl, trivial⟩⟩ else none
    else
     bif Nat.blt pc 80 then
      bif Nat.blt pc 20 then
       if h : pc = 17 then some ⟨(.getfield 7, 20, .inl 0, 0, 13), by subst h; exact ⟨dX8_worth_17, rfl, ⟨⟨_, rfl, by decide, _, Or.inl q735, Or.inl rfl⟩, (show mKd 13 0 ≤ 4 by decide)⟩⟩⟩ else none
      else
       if h : pc = 20 then some ⟨(.lookupswitch 108 #[(38, 94), (42, 68), (43, 60), (45, 64), (60, 72), (61, 83)], 20, .inl 0, 0, 0), by subst h; exact ⟨dX8_worth_20, rfl, ⟨rfl, by decide, rfl⟩⟩⟩ else none
     else
      bif Nat.blt pc 81 then
       if h : pc = 80 then some ⟨(.iload_n 1, 81, .inl 0, 0, 0), by subst h; exact ⟨dX8_worth_80, rfl, trivial⟩⟩ else none
      else
       if h : pc = 81 then some ⟨(.iload_n 2, 82, .inl 0, 0, 0), by subst h; exact ⟨dX8_worth_81, rfl, trivial⟩⟩ else none
  else
   bif Nat.blt pc 88 then
    bif Nat.blt pc 85 then
     bif Nat.blt pc 83 then
      if h : pc = 82 then some ⟨(.iadd, 83, .inl 0, 0, 0), by subst h; exact ⟨dX8_worth_82, rfl, trivial⟩⟩ else none
     else
      bif Nat.blt pc 84 then
       if h : pc = 83 then some ⟨(.ireturn, 84, .inl 0, 0, 0), by subst h; exact ⟨dX8_worth_83, rfl, rfl⟩⟩ else none
      else
       if h : pc = 84 then some ⟨(.iload_n 1, 85, .inl 0, 0, 0), by subst h; exact ⟨dX8_worth_84, rfl, trivial⟩⟩ else none
    else
     bif Nat.blt pc 86 then
      if h : pc = 85 then some ⟨(.iload_n 2, 86, .inl 0, 0, 0), by subst h; exact ⟨dX8_worth_85, rfl, trivial⟩⟩ else none
     else
      bif Nat.blt pc 87 then
       if h : pc = 86 then some ⟨(.isub, 87, .inl 0, 0, 0), by subst h; exact ⟨dX8_worth_86, rfl, trivial⟩⟩ else none
      else
       if h : pc = 87 then some ⟨(.ireturn, 88, .inl 0, 0, 0), by subst h; exact ⟨dX8_worth_87, rfl, rfl⟩⟩ else none
   else
    bif Nat.blt pc 91 then
     bif Nat.blt pc 89 then
      if h : pc = 88 then some ⟨(.iload_n 1, 89, .inl 0, 0, 0), by subst h; exact ⟨dX8_worth_88, rfl, trivial⟩⟩ else none
     else
      bif Nat.blt pc 90 then
       if h : pc = 89 then some ⟨(.iload_n 2, 90, .inl 0, 0, 0), by subst h; exact ⟨dX8_worth_89, rfl, trivial⟩⟩ else none
      else
       if h : pc = 90 then some ⟨(.imul, 91, .inl 0, 0, 0), by subst h; exact ⟨dX8_worth_90, rfl, trivial⟩⟩ else none
    else
     bif Nat.blt pc 93 then
      bif Nat.blt pc 92 then
       if h : pc = 91 then some ⟨(.ireturn, 92, .inl 0, 0, 0), by subst h; exact ⟨dX8_worth_91, rfl, rfl⟩⟩ else none
      else
       if h : pc = 92 then some ⟨(.iload_n 1, 93, .inl 0, 0, 0), by subst h; exact ⟨dX8_worth_92, rfl, trivial⟩⟩ else none
     else
      bif Nat.blt pc 94 then
       if h : pc = 93 then some ⟨(.iload_n 2, 94, .inl 0, 0, 0), by subst h; exact ⟨dX8_worth_93, rfl, trivial⟩⟩ else none
      else
       if h : pc = 94 then some ⟨(.if_icmp .ge 7, 97, .inl 0, 101, 0), by subst h; exact ⟨dX8_worth_94, rfl, (show ((94 : Nat) : Int) + (7) = ((101 : Nat) : Int) by decide)⟩⟩ else none
 else
  bif Nat.blt pc 118 then
   bif Nat.blt pc 105 then
    bif Nat.blt pc 102 then
     bif Nat.blt pc 98 then
      if h : pc = 97 then some ⟨(.iconst 1, 98, .inl 1, 0, 0), by subst h; exact ⟨dX8_worth_97, rfl, ⟨1, rfl, by decide⟩⟩⟩ else none
     else
      bif Nat.blt pc 101 then
       if h : pc = 98 then some ⟨(.goto 4, 101, .inl 0, 102, 0), by subst h; exact ⟨dX8_worth_98, rfl, (show ((98 : Nat) : Int) + (4) = ((102 : Nat) : Int) by decide)⟩⟩ else none
      else
       if h : pc = 101 then some ⟨(.iconst 0, 102, .inl 0, 0, 0), by subst h; exact ⟨dX8_worth_101, rfl, ⟨0, rfl, by decide⟩⟩⟩ else none
    else
     bif Nat.blt pc 103 then
      if h : pc = 102 then some ⟨(.ireturn, 103, .inl 0, 0, 0), by subst h; exact ⟨dX8_worth_102, rfl, rfl⟩⟩ else none
     else
      bif Nat.blt pc 104 then
       if h : pc = 103 then some ⟨(.iload_n 1, 104, .inl 0, 0, 0), by subst h; exact ⟨dX8_worth_103, rfl, trivial⟩⟩ else none
      else
       if h : pc = 104 then some ⟨(.iload_n 2, 105, .inl 0, 0, 0), by subst h; exact ⟨dX8_worth_104, rfl, trivial⟩⟩ else none
   else
    bif Nat.blt pc 112 then
     bif Nat.blt pc 108 then
      if h : pc = 105 then some ⟨(.if_icmp .ne 7, 108, .inl 0, 112, 0), by subst h; exact ⟨dX8_worth_105, rfl, (show ((105 : Nat) : Int) + (7) = ((112 : Nat) : Int) by decide)⟩⟩ else none
     else
      bif Nat.blt pc 109 then
       if h : pc = 108 then some ⟨(.iconst 1, 109, .inl 1, 0, 0), by subst h; exact ⟨dX8_worth_108, rfl, ⟨1, rfl, by decide⟩⟩⟩ else none
      else
       if h : pc = 109 then some ⟨(.goto 4, 112, .inl 0, 113, 0), by subst h; exact ⟨dX8_worth_109, rfl, (show ((109 : Nat) : Int) + (4) = ((113 : Nat) : Int) by decide)⟩⟩ else none
    else
     bif Nat.blt pc 114 then
      bif Nat.blt pc 113 then
       if h : pc = 112 then some ⟨(.iconst 0, 113, .inl 0, 0, 0), by subst h; exact ⟨dX8_worth_112, rfl, ⟨0, rfl, by decide⟩⟩⟩ else none
      else
       if h : pc = 113 then some ⟨(.ireturn, 114, .inl 0, 0, 0), by subst h; exact ⟨dX8_worth_113, rfl, rfl⟩⟩ else none
     else
      bif Nat.blt pc 115 then
       if h : pc = 114 then some ⟨(.iload_n 1, 115, .inl 0, 0, 0), by subst h; exact ⟨dX8_worth_114, rfl, trivial⟩⟩ else none
      else
       if h : pc = 115 then some ⟨(.ifCond .eq 11, 118, .inl 0, 126, 0), by subst h; exact ⟨dX8_worth_115, rfl, (show ((115 : Nat) : Int) + (11) = ((126 : Nat) : Int) by decide)⟩⟩ else none
  else
   bif Nat.blt pc 129 then
    bif Nat.blt pc 123 then
     bif Nat.blt pc 119 then
      if h : pc = 118 then some ⟨(.iload_n 2, 119, .inl 0, 0, 0), by subst h; exact ⟨dX8_worth_118, rfl, trivial⟩⟩ else none
     else
      bif Nat.blt pc 122 then
       if h : pc = 119 then some ⟨(.ifCond .eq 7, 122, .inl 0, 126, 0), by subst h; exact ⟨dX8_worth_119, rfl, (show ((119 : Nat) : Int) + (7) = ((126 : Nat) : Int) by decide)⟩⟩ else none
      else
       if h : pc = 122 then some ⟨(.iconst 1, 123, .inl 1, 0, 0), by subst h; exact ⟨dX8_worth_122, rfl, ⟨1, rfl, by decide⟩⟩⟩ else none
    else
     bif Nat.blt pc 127 then
      bif Nat.blt pc 126 then
       if h : pc = 123 then some ⟨(.goto 4, 126, .inl 0, 127, 0), by subst h; exact ⟨dX8_worth_123, rfl, (show ((123 : Nat) : Int) + (4) = ((127 : Nat) : Int) by decide)⟩⟩ else none
      else
       if h : pc = 126 then some ⟨(.iconst 0, 127, .inl 0, 0, 0), by subst h; exact ⟨dX8_worth_126, rfl, ⟨0, rfl, by decide⟩⟩⟩ else none
     else
      bif Nat.blt pc 128 then
       if h : pc = 127 then some ⟨(.ireturn, 128, .inl 0, 0, 0), by subst h; exact ⟨dX8_worth_127, rfl, rfl⟩⟩ else none
      else
       if h : pc = 128 then some ⟨(.iload_n 1, 129, .inl 0, 0, 0), by subst h; exact ⟨dX8_worth_128, rfl, trivial⟩⟩ else none
   else
    bif Nat.blt pc 136 then
     bif Nat.blt pc 132 then
      if h : pc = 129 then some ⟨(.ifCond .ne 7, 132, .inl 0, 136, 0), by subst h; exact ⟨dX8_worth_129, rfl, (show ((129 : Nat) : Int) + (7) = ((136 : Nat) : Int) by decide)⟩⟩ else none
     else
      bif Nat.blt pc 133 then
       if h : pc = 132 then some ⟨(.iload_n 2, 133, .inl 0, 0, 0), by subst h; exact ⟨dX8_worth_132, rfl, trivial⟩⟩ else none
      else
       if h : pc = 133 then some ⟨(.ifCond .eq 7, 136, .inl 0, 140, 0), by subst h; exact ⟨dX8_worth_133, rfl, (show ((133 : Nat) : Int) + (7) = ((140 : Nat) : Int) by decide)⟩⟩ else none
    else
     bif Nat.blt pc 140 then
      bif Nat.blt pc 137 then
       if h : pc = 136 then some ⟨(.iconst 1, 137, .inl 1, 0, 0), by subst h; exact ⟨dX8_worth_136, rfl, ⟨1, rfl, by decide⟩⟩⟩ else none
      else
       if h : pc = 137 then some ⟨(.goto 4, 140, .inl 0, 141, 0), by subst h; exact ⟨dX8_worth_137, rfl, (show ((137 : Nat) : Int) + (4) = ((141 : Nat) : Int) by decide)⟩⟩ else none
     else
      bif Nat.blt pc 141 then
       if h : pc = 140 then some ⟨(.iconst 0, 141, .inl 0, 0, 0), by subst h; exact ⟨dX8_worth_140, rfl, ⟨0, rfl, by decide⟩⟩⟩ else none
      else
       if h : pc = 141 then some ⟨(.ireturn, 142, .inl 0, 0, 0), by subst h; exact ⟨dX8_worth_141, rfl, rfl⟩⟩ else none

noncomputable def mt257 (pc : Nat) : Option {e : mE // mOK yX8_init cX8_init 4 ((Option.none : Option ClassFile.FieldType)) pc e} :=
 bif Nat.blt pc 10 then
  bif Nat.blt pc 5 then
   bif Nat.blt pc 1 then
    if h : pc = 0 then some ⟨(.aload_n 0, 1, .inl 0, 0, 0), by subst h; exact ⟨dX8_init_0, rfl, trivial⟩⟩ else none
   else
    bif Nat.blt pc 4 then
     if h : pc = 1 then some ⟨(.invokespecial 1, 4, .inl 0, 258, 2), by subst h; exact ⟨dX8_init_1, rfl, ⟨by decide, rfl, ⟨"NobodyCanLiftIt", List.mem_of_getElem? (i := 6) rfl⟩, q679⟩⟩⟩ else none
    else
     if h : pc = 4 then some ⟨(.aload_n 0, 5, .inl 0, 0, 0), by subst h; exact ⟨dX8_init_4, rfl, trivial⟩⟩ else none
  else
   bif Nat.blt pc 6 then
    if h : pc = 5 then some ⟨(.iload_n 1, 6, .inl 0, 0, 0), by subst h; exact ⟨dX8_init_5, rfl, trivial⟩⟩ else none
   else
    bif Nat.blt pc 9 then
     if h : pc = 6 then some ⟨(.putfield 7, 9, .inl 0, 0, 13), by subst h; exact ⟨dX8_init_6, rfl, ⟨⟨_, rfl, by decide, _, Or.inl q735, Or.inl rfl⟩, (show mKd 13 0 ≤ 4 by decide), by decide, by decide, (fun q h => Or.inr (by cases h; exact ⟨rfl, rfl, rfl, q735⟩))⟩⟩⟩ else none
    else
     if h : pc = 9 then some ⟨(.aload_n 0, 10, .inl 0, 0, 0), by subst h; exact ⟨dX8_init_9, rfl, trivial⟩⟩ else none
 else
  bif Nat.blt pc 15 then
   bif Nat.blt pc 11 then
    if h : pc = 10 then some ⟨(.aload_n 2, 11, .inl 0, 0, 0), by subst h; exact ⟨dX8_init_10, rfl, trivial⟩⟩ else none
   else
    bif Nat.blt pc 14 then
     if h : pc = 11 then some ⟨(.putfield 13, 14, .inr (.inr none), 1, 13), by subst h; exact ⟨dX8_init_11, rfl, ⟨⟨_, rfl, by decide, _, Or.inl q736, Or.inl rfl⟩, (show mKd 13 1 = 6 by rfl), by decide, by decide, (fun q h => Or.inr (by cases h; exact ⟨rfl, rfl, rfl, q736⟩))⟩⟩⟩ else none
    else
     if h : pc = 14 then some ⟨(.aload_n 0, 15, .inl 0, 0, 0), by subst h; exact ⟨dX8_init_14, rfl, trivial⟩⟩ else none
  else
   bif Nat.blt pc 16 then
    if h : pc = 15 then some ⟨(.aload_n 3, 16, .inl 0, 0, 0), by subst h; exact ⟨dX8_init_15, rfl, trivial⟩⟩ else none
   else
    bif Nat.blt pc 19 then
     if h : pc = 16 then some ⟨(.putfield 17, 19, .inr (.inr none), 2, 13), by subst h; exact ⟨dX8_init_16, rfl, ⟨⟨_, rfl, by decide, _, Or.inl q737, Or.inl rfl⟩, (show mKd 13 2 = 6 by rfl), by decide, by decide, (fun q h => Or.inr (by cases h; exact ⟨rfl, rfl, rfl, q737⟩))⟩⟩⟩ else none
    else
     if h : pc = 19 then some ⟨(.return_, 20, .inl 0, 0, 0), by subst h; exact ⟨dX8_init_19, rfl, rfl⟩⟩ else none

noncomputable def mt258 (pc : Nat) : Option {e : mE // mOK yX4_init cX4_init 1 ((Option.none : Option ClassFile.FieldType)) pc e} :=
 bif Nat.blt pc 1 then
  if h : pc = 0 then some ⟨(.aload_n 0, 1, .inl 0, 0, 0), by subst h; exact ⟨dX4_init_0, rfl, trivial⟩⟩ else none
 else
  bif Nat.blt pc 4 then
   if h : pc = 1 then some ⟨(.invokespecial 1, 4, .inl 0, 999, 0), by subst h; exact ⟨dX4_init_1, rfl, ⟨rfl, q681, q184, q185⟩⟩⟩ else none
  else
   if h : pc = 4 then some ⟨(.return_, 5, .inl 0, 0, 0), by subst h; exact ⟨dX4_init_4, rfl, rfl⟩⟩ else none

noncomputable def mt259 (pc : Nat) : Option {e : mE // mOK yJ9_compare cJ9_compare 4 ((Option.some ClassFile.FieldType.int)) pc e} :=
 bif Nat.blt pc 11 then
  bif Nat.blt pc 3 then
   bif Nat.blt pc 1 then
    if h : pc = 0 then some ⟨(.lload_n 0, 1, .inl 0, 0, 0), by subst h; exact ⟨dJ9_compare_0, rfl, trivial⟩⟩ else none
   else
    bif Nat.blt pc 2 then
     if h : pc = 1 then some ⟨(.lload_n 2, 2, .inl 0, 0, 0), by subst h; exact ⟨dJ9_compare_1, rfl, trivial⟩⟩ else none
    else
     if h : pc = 2 then some ⟨(.lcmp, 3, .inl 0, 0, 0), by subst h; exact ⟨dJ9_compare_2, rfl, trivial⟩⟩ else none
  else
   bif Nat.blt pc 7 then
    bif Nat.blt pc 6 then
     if h : pc = 3 then some ⟨(.ifCond .ge 7, 6, .inl 0, 10, 0), by subst h; exact ⟨dJ9_compare_3, rfl, (show ((3 : Nat) : Int) + (7) = ((10 : Nat) : Int) by decide)⟩⟩ else none
    else
     if h : pc = 6 then some ⟨(.iconst (-1), 7, .inl (-1), 0, 0), by subst h; exact ⟨dJ9_compare_6, rfl, ⟨(-1), rfl, by decide⟩⟩⟩ else none
   else
    bif Nat.blt pc 10 then
     if h : pc = 7 then some ⟨(.goto 14, 10, .inl 0, 21, 0), by subst h; exact ⟨dJ9_compare_7, rfl, (show ((7 : Nat) : Int) + (14) = ((21 : Nat) : Int) by decide)⟩⟩ else none
    else
     if h : pc = 10 then some ⟨(.lload_n 0, 11, .inl 0, 0, 0), by subst h; exact ⟨dJ9_compare_10, rfl, trivial⟩⟩ else none
 else
  bif Nat.blt pc 16 then
   bif Nat.blt pc 12 then
    if h : pc = 11 then some ⟨(.lload_n 2, 12, .inl 0, 0, 0), by subst h; exact ⟨dJ9_compare_11, rfl, trivial⟩⟩ else none
   else
    bif Nat.blt pc 13 then
     if h : pc = 12 then some ⟨(.lcmp, 13, .inl 0, 0, 0), by subst h; exact ⟨dJ9_compare_12, rfl, trivial⟩⟩ else none
    else
     if h : pc = 13 then some ⟨(.ifCond .ne 7, 16, .inl 0, 20, 0), by subst h; exact ⟨dJ9_compare_13, rfl, (show ((13 : Nat) : Int) + (7) = ((20 : Nat) : Int) by decide)⟩⟩ else none
  else
   bif Nat.blt pc 20 then
    bif Nat.blt pc 17 then
     if h : pc = 16 then some ⟨(.iconst 0, 17, .inl 0, 0, 0), by subst h; exact ⟨dJ9_compare_16, rfl, ⟨0, rfl, by decide⟩⟩⟩ else none
    else
     if h : pc = 17 then some ⟨(.goto 4, 20, .inl 0, 21, 0), by subst h; exact ⟨dJ9_compare_17, rfl, (show ((17 : Nat) : Int) + (4) = ((21 : Nat) : Int) by decide)⟩⟩ else none
   else
    bif Nat.blt pc 21 then
     if h : pc = 20 then some ⟨(.iconst 1, 21, .inl 1, 0, 0), by subst h; exact ⟨dJ9_compare_20, rfl, ⟨1, rfl, by decide⟩⟩⟩ else none
    else
     if h : pc = 21 then some ⟨(.ireturn, 22, .inl 0, 0, 0), by subst h; exact ⟨dJ9_compare_21, rfl, rfl⟩⟩ else none

noncomputable def mt260 (pc : Nat) : Option {e : mE // mOK yJ10_bitCount cJ10_bitCount 1 ((Option.some ClassFile.FieldType.int)) pc e} :=
 bif Nat.blt pc 27 then
  bif Nat.blt pc 14 then
   bif Nat.blt pc 7 then
    bif Nat.blt pc 2 then
     bif Nat.blt pc 1 then
      if h : pc = 0 then some ⟨(.iload_n 0, 1, .inl 0, 0, 0), by subst h; exact ⟨dJ10_bitCount_0, rfl, trivial⟩⟩ else none
     else
      if h : pc = 1 then some ⟨(.iload_n 0, 2, .inl 0, 0, 0), by subst h; exact ⟨dJ10_bitCount_1, rfl, trivial⟩⟩ else none
    else
     bif Nat.blt pc 3 then
      if h : pc = 2 then some ⟨(.iconst 1, 3, .inl 1, 0, 0), by subst h; exact ⟨dJ10_bitCount_2, rfl, ⟨1, rfl, by decide⟩⟩⟩ else none
     else
      bif Nat.blt pc 4 then
       if h : pc = 3 then some ⟨(.iushr, 4, .inl 0, 0, 0), by subst h; exact ⟨dJ10_bitCount_3, rfl, trivial⟩⟩ else none
      else
       if h : pc = 4 then some ⟨(.ldc_w 265, 7, .inl 1431655765, 0, 0), by subst h; exact ⟨dJ10_bitCount_4, rfl, Or.inl ⟨_, rfl, q1065⟩⟩⟩ else none
   else
    bif Nat.blt pc 9 then
     bif Nat.blt pc 8 then
      if h : pc = 7 then some ⟨(.iand, 8, .inl 0, 0, 0), by subst h; exact ⟨dJ10_bitCount_7, rfl, trivial⟩⟩ else none
     else
      if h : pc = 8 then some ⟨(.isub, 9, .inl 0, 0, 0), by subst h; exact ⟨dJ10_bitCount_8, rfl, trivial⟩⟩ else none
    else
     bif Nat.blt pc 10 then
      if h : pc = 9 then some ⟨(.istore_n 0, 10, .inl 0, 0, 0), by subst h; exact ⟨dJ10_bitCount_9, rfl, (show (0 : Nat) < 1 by decide)⟩⟩ else none
     else
      bif Nat.blt pc 11 then
       if h : pc = 10 then some ⟨(.iload_n 0, 11, .inl 0, 0, 0), by subst h; exact ⟨dJ10_bitCount_10, rfl, trivial⟩⟩ else none
      else
       if h : pc = 11 then some ⟨(.ldc_w 266, 14, .inl 858993459, 0, 0), by subst h; exact ⟨dJ10_bitCount_11, rfl, Or.inl ⟨_, rfl, q1066⟩⟩⟩ else none
  else
   bif Nat.blt pc 21 then
    bif Nat.blt pc 16 then
     bif Nat.blt pc 15 then
      if h : pc = 14 then some ⟨(.iand, 15, .inl 0, 0, 0), by subst h; exact ⟨dJ10_bitCount_14, rfl, trivial⟩⟩ else none
     else
      if h : pc = 15 then some ⟨(.iload_n 0, 16, .inl 0, 0, 0), by subst h; exact ⟨dJ10_bitCount_15, rfl, trivial⟩⟩ else none
    else
     bif Nat.blt pc 17 then
      if h : pc = 16 then some ⟨(.iconst 2, 17, .inl 2, 0, 0), by subst h; exact ⟨dJ10_bitCount_16, rfl, ⟨2, rfl, by decide⟩⟩⟩ else none
     else
      bif Nat.blt pc 18 then
       if h : pc = 17 then some ⟨(.iushr, 18, .inl 0, 0, 0), by subst h; exact ⟨dJ10_bitCount_17, rfl, trivial⟩⟩ else none
      else
       if h : pc = 18 then some ⟨(.ldc_w 266, 21, .inl 858993459, 0, 0), by subst h; exact ⟨dJ10_bitCount_18, rfl, Or.inl ⟨_, rfl, q1066⟩⟩⟩ else none
   else
    bif Nat.blt pc 24 then
     bif Nat.blt pc 22 then
      if h : pc = 21 then some ⟨(.iand, 22, .inl 0, 0, 0), by subst h; exact ⟨dJ10_bitCount_21, rfl, trivial⟩⟩ else none
     else
      bif Nat.blt pc 23 then
       if h : pc = 22 then some ⟨(.iadd, 23, .inl 0, 0, 0), by subst h; exact ⟨dJ10_bitCount_22, rfl, trivial⟩⟩ else none
      else
       if h : pc = 23 then some ⟨(.istore_n 0, 24, .inl 0, 0, 0), by subst h; exact ⟨dJ10_bitCount_23, rfl, (show (0 : Nat) < 1 by decide)⟩⟩ else none
    else
     bif Nat.blt pc 25 then
      if h : pc = 24 then some ⟨(.iload_n 0, 25, .inl 0, 0, 0), by subst h; exact ⟨dJ10_bitCount_24, rfl, trivial⟩⟩ else none
     else
      bif Nat.blt pc 26 then
       if h : pc = 25 then some ⟨(.iload_n 0, 26, .inl 0, 0, 0), by subst h; exact ⟨dJ10_bitCount_25, rfl, trivial⟩⟩ else none
      else
       if h : pc = 26 then some ⟨(.iconst 4, 27, .inl 4, 0, 0), by subst h; exact ⟨dJ10_bitCount_26, rfl, ⟨4, rfl, by decide⟩⟩⟩ else none
 else
  bif Nat.blt pc 40 then
   bif Nat.blt pc 34 then
    bif Nat.blt pc 29 then
     bif Nat.blt pc 28 then
      if h : pc = 27 then some ⟨(.iushr, 28, .inl 0, 0, 0), by subst h; exact ⟨dJ10_bitCount_27, rfl, trivial⟩⟩ else none
     else
      if h : pc = 28 then some ⟨(.iadd, 29, .inl 0, 0, 0), by subst h; exact ⟨dJ10_bitCount_28, rfl, trivial⟩⟩ else none
    else
     bif Nat.blt pc 32 then
      if h : pc = 29 then some ⟨(.ldc_w 267, 32, .inl 252645135, 0, 0), by subst h; exact ⟨dJ10_bitCount_29, rfl, Or.inl ⟨_, rfl, q1067⟩⟩⟩ else none
     else
      bif Nat.blt pc 33 then
       if h : pc = 32 then some ⟨(.iand, 33, .inl 0, 0, 0), by subst h; exact ⟨dJ10_bitCount_32, rfl, trivial⟩⟩ else none
      else
       if h : pc = 33 then some ⟨(.istore_n 0, 34, .inl 0, 0, 0), by subst h; exact ⟨dJ10_bitCount_33, rfl, (show (0 : Nat) < 1 by decide)⟩⟩ else none
   else
    bif Nat.blt pc 36 then
     bif Nat.blt pc 35 then
      if h : pc = 34 then some ⟨(.iload_n 0, 35, .inl 0, 0, 0), by subst h; exact ⟨dJ10_bitCount_34, rfl, trivial⟩⟩ else none
     else
      if h : pc = 35 then some ⟨(.iload_n 0, 36, .inl 0, 0, 0), by subst h; exact ⟨dJ10_bitCount_35, rfl, trivial⟩⟩ else none
    else
     bif Nat.blt pc 38 then
      if h : pc = 36 then some ⟨(.bipush 8, 38, .inl 8, 0, 0), by subst h; exact ⟨dJ10_bitCount_36, rfl, ⟨8, rfl, by decide⟩⟩⟩ else none
     else
      bif Nat.blt pc 39 then
       if h : pc = 38 then some ⟨(.iushr, 39, .inl 0, 0, 0), by subst h; exact ⟨dJ10_bitCount_38, rfl, trivial⟩⟩ else none
      else
       if h : pc = 39 then some ⟨(.iadd, 40, .inl 0, 0, 0), by subst h; exact ⟨dJ10_bitCount_39, rfl, trivial⟩⟩ else none
  else
   bif Nat.blt pc 46 then
    bif Nat.blt pc 42 then
     bif Nat.blt pc 41 then
      if h : pc = 40 then some ⟨(.istore_n 0, 41, .inl 0, 0, 0), by subst h; exact ⟨dJ10_bitCount_40, rfl, (show (0 : Nat) < 1 by decide)⟩⟩ else none
     else
      if h : pc = 41 then some ⟨(.iload_n 0, 42, .inl 0, 0, 0), by subst h; exact ⟨dJ10_bitCount_41, rfl, trivial⟩⟩ else none
    else
     bif Nat.blt pc 43 then
      if h : pc = 42 then some ⟨(.iload_n 0, 43, .inl 0, 0, 0), by subst h; exact ⟨dJ10_bitCount_42, rfl, trivial⟩⟩ else none
     else
      bif Nat.blt pc 45 then
       if h : pc = 43 then some ⟨(.bipush 16, 45, .inl 16, 0, 0), by subst h; exact ⟨dJ10_bitCount_43, rfl, ⟨16, rfl, by decide⟩⟩⟩ else none
      else
       if h : pc = 45 then some ⟨(.iushr, 46, .inl 0, 0, 0), by subst h; exact ⟨dJ10_bitCount_45, rfl, trivial⟩⟩ else none
   else
    bif Nat.blt pc 49 then
     bif Nat.blt pc 47 then
      if h : pc = 46 then some ⟨(.iadd, 47, .inl 0, 0, 0), by subst h; exact ⟨dJ10_bitCount_46, rfl, trivial⟩⟩ else none
     else
      bif Nat.blt pc 48 then
       if h : pc = 47 then some ⟨(.istore_n 0, 48, .inl 0, 0, 0), by subst h; exact ⟨dJ10_bitCount_47, rfl, (show (0 : Nat) < 1 by decide)⟩⟩ else none
      else
       if h : pc = 48 then some ⟨(.iload_n 0, 49, .inl 0, 0, 0), by subst h; exact ⟨dJ10_bitCount_48, rfl, trivial⟩⟩ else none
    else
     bif Nat.blt pc 51 then
      if h : pc = 49 then some ⟨(.bipush 63, 51, .inl 63, 0, 0), by subst h; exact ⟨dJ10_bitCount_49, rfl, ⟨63, rfl, by decide⟩⟩⟩ else none
     else
      bif Nat.blt pc 52 then
       if h : pc = 51 then some ⟨(.iand, 52, .inl 0, 0, 0), by subst h; exact ⟨dJ10_bitCount_51, rfl, trivial⟩⟩ else none
      else
       if h : pc = 52 then some ⟨(.ireturn, 53, .inl 0, 0, 0), by subst h; exact ⟨dJ10_bitCount_52, rfl, rfl⟩⟩ else none

noncomputable def mt261 (pc : Nat) : Option {e : mE // mOK yJ0_init_2 cJ0_init_2 5 ((Option.none : Option ClassFile.FieldType)) pc e} :=
 bif Nat.blt pc 33 then
  bif Nat.blt pc 13 then
   bif Nat.blt pc 5 then
    bif Nat.blt pc 1 then
     if h : pc = 0 then some ⟨(.aload_n 0, 1, .inl 0, 0, 0), by subst h; exact ⟨dJ0_init_2_0, rfl, trivial⟩⟩ else none
    else
     bif Nat.blt pc 4 then
      if h : pc = 1 then some ⟨(.invokespecial 1, 4, .inl 0, 999, 0), by subst h; exact ⟨dJ0_init_2_1, rfl, ⟨rfl, q775, q184, q185⟩⟩⟩ else none
     else
      if h : pc = 4 then some ⟨(.aload_n 0, 5, .inl 0, 0, 0), by subst h; exact ⟨dJ0_init_2_4, rfl, trivial⟩⟩ else none
   else
    bif Nat.blt pc 9 then
     bif Nat.blt pc 6 then
      if h : pc = 5 then some ⟨(.aload_n 0, 6, .inl 0, 0, 0), by subst h; exact ⟨dJ0_init_2_5, rfl, trivial⟩⟩ else none
     else
      if h : pc = 6 then some ⟨(.putfield 7, 9, .inr (.inr none), 0, 1), by subst h; exact ⟨dJ0_init_2_6, rfl, ⟨⟨_, rfl, by decide, _, Or.inl q821, Or.inl rfl⟩, (show mKd 1 0 = 6 by rfl), by decide, by decide, (fun q h => Or.inl (by cases h; rfl))⟩⟩⟩ else none
    else
     bif Nat.blt pc 10 then
      if h : pc = 9 then some ⟨(.aload_n 0, 10, .inl 0, 0, 0), by subst h; exact ⟨dJ0_init_2_9, rfl, trivial⟩⟩ else none
     else
      if h : pc = 10 then some ⟨(.getstatic 13, 13, .inr (.inr none), 2, 0), by subst h; exact ⟨dJ0_init_2_10, rfl, ⟨q776, Or.inr ⟨by decide, by decide, rfl⟩⟩⟩⟩ else none
  else
   bif Nat.blt pc 23 then
    bif Nat.blt pc 17 then
     bif Nat.blt pc 16 then
      if h : pc = 13 then some ⟨(.putfield 17, 16, .inr (.inr none), 1, 1), by subst h; exact ⟨dJ0_init_2_13, rfl, ⟨⟨_, rfl, by decide, _, Or.inl q822, Or.inl rfl⟩, (show mKd 1 1 = 6 by rfl), by decide, by decide, (fun q h => Or.inl (by cases h; rfl))⟩⟩⟩ else none
     else
      if h : pc = 16 then some ⟨(.aload_n 0, 17, .inl 0, 0, 0), by subst h; exact ⟨dJ0_init_2_16, rfl, trivial⟩⟩ else none
    else
     bif Nat.blt pc 20 then
      if h : pc = 17 then some ⟨(.getstatic 20, 20, .inr (.inr none), 3, 0), by subst h; exact ⟨dJ0_init_2_17, rfl, ⟨q778, Or.inr ⟨by decide, by decide, rfl⟩⟩⟩⟩ else none
     else
      if h : pc = 20 then some ⟨(.putfield 24, 23, .inr (.inr none), 2, 1), by subst h; exact ⟨dJ0_init_2_20, rfl, ⟨⟨_, rfl, by decide, _, Or.inl q823, Or.inl rfl⟩, (show mKd 1 2 = 6 by rfl), by decide, by decide, (fun q h => Or.inl (by cases h; rfl))⟩⟩⟩ else none
   else
    bif Nat.blt pc 28 then
     bif Nat.blt pc 25 then
      if h : pc = 23 then some ⟨(.iload 4, 25, .inl 0, 0, 0), by subst h; exact ⟨dJ0_init_2_23, rfl, trivial⟩⟩ else none
     else
      if h : pc = 25 then some ⟨(.ifCond .eq 11, 28, .inl 0, 36, 0), by subst h; exact ⟨dJ0_init_2_25, rfl, (show ((25 : Nat) : Int) + (11) = ((36 : Nat) : Int) by decide)⟩⟩ else none
    else
     bif Nat.blt pc 32 then
      if h : pc = 28 then some ⟨(.aload_n 0, 29, .inl 0, 0, 0), by subst h; exact ⟨dJ0_init_2_28, rfl, trivial⟩⟩ else none
     else
      if h : pc = 32 then some ⟨(.pop, 33, .inl 0, 0, 0), by subst h; exact ⟨dJ0_init_2_32, rfl, trivial⟩⟩ else none
 else
  bif Nat.blt pc 47 then
   bif Nat.blt pc 41 then
    bif Nat.blt pc 37 then
     bif Nat.blt pc 36 then
      if h : pc = 33 then some ⟨(.goto 8, 36, .inl 0, 41, 0), by subst h; exact ⟨dJ0_init_2_33, rfl, (show ((33 : Nat) : Int) + (8) = ((41 : Nat) : Int) by decide)⟩⟩ else none
     else
      if h : pc = 36 then some ⟨(.aload_n 0, 37, .inl 0, 0, 0), by subst h; exact ⟨dJ0_init_2_36, rfl, trivial⟩⟩ else none
    else
     bif Nat.blt pc 38 then
      if h : pc = 37 then some ⟨(.aconst_null, 38, .inl 0, 0, 0), by subst h; exact ⟨dJ0_init_2_37, rfl, trivial⟩⟩ else none
     else
      if h : pc = 38 then some ⟨(.putfield 17, 41, .inr (.inr none), 1, 1), by subst h; exact ⟨dJ0_init_2_38, rfl, ⟨⟨_, rfl, by decide, _, Or.inl q822, Or.inl rfl⟩, (show mKd 1 1 = 6 by rfl), by decide, by decide, (fun q h => Or.inl (by cases h; rfl))⟩⟩⟩ else none
   else
    bif Nat.blt pc 43 then
     bif Nat.blt pc 42 then
      if h : pc = 41 then some ⟨(.aload_n 0, 42, .inl 0, 0, 0), by subst h; exact ⟨dJ0_init_2_41, rfl, trivial⟩⟩ else none
     else
      if h : pc = 42 then some ⟨(.aload_n 1, 43, .inl 0, 0, 0), by subst h; exact ⟨dJ0_init_2_42, rfl, trivial⟩⟩ else none
    else
     bif Nat.blt pc 46 then
      if h : pc = 43 then some ⟨(.putfield 31, 46, .inr (.inr none), 3, 1), by subst h; exact ⟨dJ0_init_2_43, rfl, ⟨⟨_, rfl, by decide, _, Or.inl q820, Or.inl rfl⟩, (show mKd 1 3 = 6 by rfl), by decide, by decide, (fun q h => Or.inl (by cases h; rfl))⟩⟩⟩ else none
     else
      if h : pc = 46 then some ⟨(.aload_n 0, 47, .inl 0, 0, 0), by subst h; exact ⟨dJ0_init_2_46, rfl, trivial⟩⟩ else none
  else
   bif Nat.blt pc 55 then
    bif Nat.blt pc 51 then
     bif Nat.blt pc 48 then
      if h : pc = 47 then some ⟨(.aload_n 2, 48, .inl 0, 0, 0), by subst h; exact ⟨dJ0_init_2_47, rfl, trivial⟩⟩ else none
     else
      if h : pc = 48 then some ⟨(.putfield 7, 51, .inr (.inr none), 0, 1), by subst h; exact ⟨dJ0_init_2_48, rfl, ⟨⟨_, rfl, by decide, _, Or.inl q821, Or.inl rfl⟩, (show mKd 1 0 = 6 by rfl), by decide, by decide, (fun q h => Or.inl (by cases h; rfl))⟩⟩⟩ else none
    else
     bif Nat.blt pc 52 then
      if h : pc = 51 then some ⟨(.iload_n 3, 52, .inl 0, 0, 0), by subst h; exact ⟨dJ0_init_2_51, rfl, trivial⟩⟩ else none
     else
      if h : pc = 52 then some ⟨(.ifCond .ne 8, 55, .inl 0, 60, 0), by subst h; exact ⟨dJ0_init_2_52, rfl, (show ((52 : Nat) : Int) + (8) = ((60 : Nat) : Int) by decide)⟩⟩ else none
   else
    bif Nat.blt pc 57 then
     bif Nat.blt pc 56 then
      if h : pc = 55 then some ⟨(.aload_n 0, 56, .inl 0, 0, 0), by subst h; exact ⟨dJ0_init_2_55, rfl, trivial⟩⟩ else none
     else
      if h : pc = 56 then some ⟨(.aconst_null, 57, .inl 0, 0, 0), by subst h; exact ⟨dJ0_init_2_56, rfl, trivial⟩⟩ else none
    else
     bif Nat.blt pc 60 then
      if h : pc = 57 then some ⟨(.putfield 24, 60, .inr (.inr none), 2, 1), by subst h; exact ⟨dJ0_init_2_57, rfl, ⟨⟨_, rfl, by decide, _, Or.inl q823, Or.inl rfl⟩, (show mKd 1 2 = 6 by rfl), by decide, by decide, (fun q h => Or.inl (by cases h; rfl))⟩⟩⟩ else none
     else
      if h : pc = 60 then some ⟨(.return_, 61, .inl 0, 0, 0), by subst h; exact ⟨dJ0_init_2_60, rfl, rfl⟩⟩ else none

noncomputable def mt262 (pc : Nat) : Option {e : mE // mOK yJ1_init cJ1_init 5 ((Option.none : Option ClassFile.FieldType)) pc e} :=
 bif Nat.blt pc 3 then
  bif Nat.blt pc 1 then
   if h : pc = 0 then some ⟨(.aload_n 0, 1, .inl 0, 0, 0), by subst h; exact ⟨dJ1_init_0, rfl, trivial⟩⟩ else none
  else
   bif Nat.blt pc 2 then
    if h : pc = 1 then some ⟨(.aload_n 1, 2, .inl 0, 0, 0), by subst h; exact ⟨dJ1_init_1, rfl, trivial⟩⟩ else none
   else
    if h : pc = 2 then some ⟨(.aload_n 2, 3, .inl 0, 0, 0), by subst h; exact ⟨dJ1_init_2, rfl, trivial⟩⟩ else none
 else
  bif Nat.blt pc 6 then
   bif Nat.blt pc 4 then
    if h : pc = 3 then some ⟨(.iload_n 3, 4, .inl 0, 0, 0), by subst h; exact ⟨dJ1_init_3, rfl, trivial⟩⟩ else none
   else
    if h : pc = 4 then some ⟨(.iload 4, 6, .inl 0, 0, 0), by subst h; exact ⟨dJ1_init_4, rfl, trivial⟩⟩ else none
  else
   bif Nat.blt pc 9 then
    if h : pc = 6 then some ⟨(.invokespecial 16, 9, .inl 0, 261, 1), by subst h; exact ⟨dJ1_init_6, rfl, ⟨by decide, rfl, q816, q817⟩⟩⟩ else none
   else
    if h : pc = 9 then some ⟨(.return_, 10, .inl 0, 0, 0), by subst h; exact ⟨dJ1_init_9, rfl, rfl⟩⟩ else none

noncomputable def mt263 (pc : Nat) : Option {e : mE // mOK yJ2_init cJ2_init 5 ((Option.none : Option ClassFile.FieldType)) pc e} :=
 bif Nat.blt pc 3 then
  bif Nat.blt pc 1 then
   if h : pc = 0 then some ⟨(.aload_n 0, 1, .inl 0, 0, 0), by subst h; exact ⟨dJ2_init_0, rfl, trivial⟩⟩ else none
  else
   bif Nat.blt pc 2 then
    if h : pc = 1 then some ⟨(.aload_n 1, 2, .inl 0, 0, 0), by subst h; exact ⟨dJ2_init_1, rfl, trivial⟩⟩ else none
   else
    if h : pc = 2 then some ⟨(.aload_n 2, 3, .inl 0, 0, 0), by subst h; exact ⟨dJ2_init_2, rfl, trivial⟩⟩ else none
 else
  bif Nat.blt pc 6 then
   bif Nat.blt pc 4 then
    if h : pc = 3 then some ⟨(.iload_n 3, 4, .inl 0, 0, 0), by subst h; exact ⟨dJ2_init_3, rfl, trivial⟩⟩ else none
   else
    if h : pc = 4 then some ⟨(.iload 4, 6, .inl 0, 0, 0), by subst h; exact ⟨dJ2_init_4, rfl, trivial⟩⟩ else none
  else
   bif Nat.blt pc 9 then
    if h : pc = 6 then some ⟨(.invokespecial 16, 9, .inl 0, 262, 1), by subst h; exact ⟨dJ2_init_6, rfl, ⟨by decide, rfl, q813, q814⟩⟩⟩ else none
   else
    if h : pc = 9 then some ⟨(.return_, 10, .inl 0, 0, 0), by subst h; exact ⟨dJ2_init_9, rfl, rfl⟩⟩ else none

noncomputable def mt264 (pc : Nat) : Option {e : mE // mOK yJ3_length cJ3_length 1 ((Option.some ClassFile.FieldType.int)) pc e} :=
 bif Nat.blt pc 5 then
  bif Nat.blt pc 1 then
   if h : pc = 0 then some ⟨(.aload_n 0, 1, .inl 0, 0, 0), by subst h; exact ⟨dJ3_length_0, rfl, trivial⟩⟩ else none
  else
   bif Nat.blt pc 4 then
    if h : pc = 1 then some ⟨(.getfield 9, 4, .inr (.inr none), 0, 15), by subst h; exact ⟨dJ3_length_1, rfl, ⟨⟨_, rfl, by decide, _, Or.inl q1935, Or.inl rfl⟩, (show mKd 15 0 = 6 by rfl)⟩⟩⟩ else none
   else
    if h : pc = 4 then some ⟨(.arraylength, 5, .inl 0, 0, 0), by subst h; exact ⟨dJ3_length_4, rfl, trivial⟩⟩ else none
 else
  bif Nat.blt pc 9 then
   bif Nat.blt pc 6 then
    if h : pc = 5 then some ⟨(.aload_n 0, 6, .inl 0, 0, 0), by subst h; exact ⟨dJ3_length_5, rfl, trivial⟩⟩ else none
   else
    if h : pc = 6 then some ⟨(.invokevirtual 335, 9, .inl 0, 265, 15), by subst h; exact ⟨dJ3_length_6, rfl, ⟨by decide, q540, q541, q542, _, rfl, rfl⟩⟩⟩ else none
  else
   bif Nat.blt pc 10 then
    if h : pc = 9 then some ⟨(.ishr, 10, .inl 0, 0, 0), by subst h; exact ⟨dJ3_length_9, rfl, trivial⟩⟩ else none
   else
    if h : pc = 10 then some ⟨(.ireturn, 11, .inl 0, 0, 0), by subst h; exact ⟨dJ3_length_10, rfl, rfl⟩⟩ else none

noncomputable def mt265 (pc : Nat) : Option {e : mE // mOK yJ3_coder cJ3_coder 1 ((Option.some ClassFile.FieldType.byte)) pc e} :=
 bif Nat.blt pc 7 then
  bif Nat.blt pc 3 then
   if h : pc = 0 then some ⟨(.getstatic 38, 3, .inl 1, 0, 0), by subst h; exact ⟨dJ3_coder_0, rfl, ⟨q544, Or.inl ⟨rfl, rfl⟩⟩⟩⟩ else none
  else
   bif Nat.blt pc 6 then
    if h : pc = 3 then some ⟨(.ifCond .eq 10, 6, .inl 0, 13, 0), by subst h; exact ⟨dJ3_coder_3, rfl, (show ((3 : Nat) : Int) + (10) = ((13 : Nat) : Int) by decide)⟩⟩ else none
   else
    if h : pc = 6 then some ⟨(.aload_n 0, 7, .inl 0, 0, 0), by subst h; exact ⟨dJ3_coder_6, rfl, trivial⟩⟩ else none
 else
  bif Nat.blt pc 13 then
   bif Nat.blt pc 10 then
    if h : pc = 7 then some ⟨(.getfield 15, 10, .inl 0, 1, 15), by subst h; exact ⟨dJ3_coder_7, rfl, ⟨⟨_, rfl, by decide, _, Or.inl q1936, Or.inl rfl⟩, (show mKd 15 1 ≤ 4 by decide)⟩⟩⟩ else none
   else
    if h : pc = 10 then some ⟨(.goto 4, 13, .inl 0, 14, 0), by subst h; exact ⟨dJ3_coder_10, rfl, (show ((10 : Nat) : Int) + (4) = ((14 : Nat) : Int) by decide)⟩⟩ else none
  else
   bif Nat.blt pc 14 then
    if h : pc = 13 then some ⟨(.iconst 1, 14, .inl 1, 0, 0), by subst h; exact ⟨dJ3_coder_13, rfl, ⟨1, rfl, by decide⟩⟩⟩ else none
   else
    if h : pc = 14 then some ⟨(.ireturn, 15, .inl 0, 3, 0), by subst h; exact ⟨dJ3_coder_14, rfl, rfl⟩⟩ else none

noncomputable def mt266 (pc : Nat) : Option {e : mE // mOK yJ3_charAt cJ3_charAt 2 ((Option.some ClassFile.FieldType.char)) pc e} :=
 bif Nat.blt pc 12 then
  bif Nat.blt pc 7 then
   bif Nat.blt pc 1 then
    if h : pc = 0 then some ⟨(.aload_n 0, 1, .inl 0, 0, 0), by subst h; exact ⟨dJ3_charAt_0, rfl, trivial⟩⟩ else none
   else
    bif Nat.blt pc 4 then
     if h : pc = 1 then some ⟨(.invokevirtual 492, 4, .inl 0, 267, 15), by subst h; exact ⟨dJ3_charAt_1, rfl, ⟨by decide, q550, q551, q552, _, rfl, rfl⟩⟩⟩ else none
    else
     if h : pc = 4 then some ⟨(.ifCond .eq 12, 7, .inl 0, 16, 0), by subst h; exact ⟨dJ3_charAt_4, rfl, (show ((4 : Nat) : Int) + (12) = ((16 : Nat) : Int) by decide)⟩⟩ else none
  else
   bif Nat.blt pc 8 then
    if h : pc = 7 then some ⟨(.aload_n 0, 8, .inl 0, 0, 0), by subst h; exact ⟨dJ3_charAt_7, rfl, trivial⟩⟩ else none
   else
    bif Nat.blt pc 11 then
     if h : pc = 8 then some ⟨(.getfield 9, 11, .inr (.inr none), 0, 15), by subst h; exact ⟨dJ3_charAt_8, rfl, ⟨⟨_, rfl, by decide, _, Or.inl q1935, Or.inl rfl⟩, (show mKd 15 0 = 6 by rfl)⟩⟩⟩ else none
    else
     if h : pc = 11 then some ⟨(.iload_n 1, 12, .inl 0, 0, 0), by subst h; exact ⟨dJ3_charAt_11, rfl, trivial⟩⟩ else none
 else
  bif Nat.blt pc 17 then
   bif Nat.blt pc 15 then
    if h : pc = 12 then some ⟨(.invokestatic 495, 15, .inl 0, 271, 0), by subst h; exact ⟨dJ3_charAt_12, rfl, Or.inl ⟨by decide, q554, q555⟩⟩⟩ else none
   else
    bif Nat.blt pc 16 then
     if h : pc = 15 then some ⟨(.ireturn, 16, .inl 0, 2, 0), by subst h; exact ⟨dJ3_charAt_15, rfl, rfl⟩⟩ else none
    else
     if h : pc = 16 then some ⟨(.aload_n 0, 17, .inl 0, 0, 0), by subst h; exact ⟨dJ3_charAt_16, rfl, trivial⟩⟩ else none
  else
   bif Nat.blt pc 20 then
    if h : pc = 17 then some ⟨(.getfield 9, 20, .inr (.inr none), 0, 15), by subst h; exact ⟨dJ3_charAt_17, rfl, ⟨⟨_, rfl, by decide, _, Or.inl q1935, Or.inl rfl⟩, (show mKd 15 0 = 6 by rfl)⟩⟩⟩ else none
   else
    bif Nat.blt pc 24 then
     if h : pc = 20 then some ⟨(.iload_n 1, 21, .inl 0, 0, 0), by subst h; exact ⟨dJ3_charAt_20, rfl, trivial⟩⟩ else none
    else
     if h : pc = 24 then some ⟨(.ireturn, 25, .inl 0, 2, 0), by subst h; exact ⟨dJ3_charAt_24, rfl, rfl⟩⟩ else none

noncomputable def mt267 (pc : Nat) : Option {e : mE // mOK yJ3_isLatin1 cJ3_isLatin1 1 ((Option.some ClassFile.FieldType.boolean)) pc e} :=
 bif Nat.blt pc 10 then
  bif Nat.blt pc 6 then
   bif Nat.blt pc 3 then
    if h : pc = 0 then some ⟨(.getstatic 38, 3, .inl 1, 0, 0), by subst h; exact ⟨dJ3_isLatin1_0, rfl, ⟨q544, Or.inl ⟨rfl, rfl⟩⟩⟩⟩ else none
   else
    if h : pc = 3 then some ⟨(.ifCond .eq 14, 6, .inl 0, 17, 0), by subst h; exact ⟨dJ3_isLatin1_3, rfl, (show ((3 : Nat) : Int) + (14) = ((17 : Nat) : Int) by decide)⟩⟩ else none
  else
   bif Nat.blt pc 7 then
    if h : pc = 6 then some ⟨(.aload_n 0, 7, .inl 0, 0, 0), by subst h; exact ⟨dJ3_isLatin1_6, rfl, trivial⟩⟩ else none
   else
    if h : pc = 7 then some ⟨(.getfield 15, 10, .inl 0, 1, 15), by subst h; exact ⟨dJ3_isLatin1_7, rfl, ⟨⟨_, rfl, by decide, _, Or.inl q1936, Or.inl rfl⟩, (show mKd 15 1 ≤ 4 by decide)⟩⟩⟩ else none
 else
  bif Nat.blt pc 14 then
   bif Nat.blt pc 13 then
    if h : pc = 10 then some ⟨(.ifCond .ne 7, 13, .inl 0, 17, 0), by subst h; exact ⟨dJ3_isLatin1_10, rfl, (show ((10 : Nat) : Int) + (7) = ((17 : Nat) : Int) by decide)⟩⟩ else none
   else
    if h : pc = 13 then some ⟨(.iconst 1, 14, .inl 1, 0, 0), by subst h; exact ⟨dJ3_isLatin1_13, rfl, ⟨1, rfl, by decide⟩⟩⟩ else none
  else
   bif Nat.blt pc 17 then
    if h : pc = 14 then some ⟨(.goto 4, 17, .inl 0, 18, 0), by subst h; exact ⟨dJ3_isLatin1_14, rfl, (show ((14 : Nat) : Int) + (4) = ((18 : Nat) : Int) by decide)⟩⟩ else none
   else
    bif Nat.blt pc 18 then
     if h : pc = 17 then some ⟨(.iconst 0, 18, .inl 0, 0, 0), by subst h; exact ⟨dJ3_isLatin1_17, rfl, ⟨0, rfl, by decide⟩⟩⟩ else none
    else
     if h : pc = 18 then some ⟨(.ireturn, 19, .inl 0, 1, 0), by subst h; exact ⟨dJ3_isLatin1_18, rfl, rfl⟩⟩ else none

noncomputable def mt268 (pc : Nat) : Option {e : mE // mOK yJ3_checkIndex cJ3_checkIndex 2 ((Option.none : Option ClassFile.FieldType)) pc e} :=
 bif Nat.blt pc 5 then
  bif Nat.blt pc 1 then
   if h : pc = 0 then some ⟨(.iload_n 0, 1, .inl 0, 0, 0), by subst h; exact ⟨dJ3_checkIndex_0, rfl, trivial⟩⟩ else none
  else
   bif Nat.blt pc 2 then
    if h : pc = 1 then some ⟨(.iload_n 1, 2, .inl 0, 0, 0), by subst h; exact ⟨dJ3_checkIndex_1, rfl, trivial⟩⟩ else none
   else
    if h : pc = 2 then some ⟨(.getstatic 1053, 5, .inr (.inr none), 1, 0), by subst h; exact ⟨dJ3_checkIndex_2, rfl, ⟨q560, Or.inr ⟨by decide, by decide, rfl⟩⟩⟩⟩ else none
 else
  bif Nat.blt pc 8 then
   if h : pc = 5 then some ⟨(.invokestatic 1059, 8, .inl 0, 275, 0), by subst h; exact ⟨dJ3_checkIndex_5, rfl, Or.inl ⟨by decide, q562, q563⟩⟩⟩ else none
  else
   bif Nat.blt pc 9 then
    if h : pc = 8 then some ⟨(.pop, 9, .inl 0, 0, 0), by subst h; exact ⟨dJ3_checkIndex_8, rfl, trivial⟩⟩ else none
   else
    if h : pc = 9 then some ⟨(.return_, 10, .inl 0, 0, 0), by subst h; exact ⟨dJ3_checkIndex_9, rfl, rfl⟩⟩ else none

noncomputable def mt269 (pc : Nat) : Option {e : mE // mOK yJ3_indexOf cJ3_indexOf 2 ((Option.some ClassFile.FieldType.int)) pc e} :=
 bif Nat.blt pc 2 then
  bif Nat.blt pc 1 then
   if h : pc = 0 then some ⟨(.aload_n 0, 1, .inl 0, 0, 0), by subst h; exact ⟨dJ3_indexOf_0, rfl, trivial⟩⟩ else none
  else
   if h : pc = 1 then some ⟨(.iload_n 1, 2, .inl 0, 0, 0), by subst h; exact ⟨dJ3_indexOf_1, rfl, trivial⟩⟩ else none
 else
  bif Nat.blt pc 3 then
   if h : pc = 2 then some ⟨(.iconst 0, 3, .inl 0, 0, 0), by subst h; exact ⟨dJ3_indexOf_2, rfl, ⟨0, rfl, by decide⟩⟩⟩ else none
  else
   bif Nat.blt pc 6 then
    if h : pc = 3 then some ⟨(.invokevirtual 633, 6, .inl 0, 270, 15), by subst h; exact ⟨dJ3_indexOf_3, rfl, ⟨by decide, q598, q599, q600, _, rfl, rfl⟩⟩⟩ else none
   else
    if h : pc = 6 then some ⟨(.ireturn, 7, .inl 0, 0, 0), by subst h; exact ⟨dJ3_indexOf_6, rfl, rfl⟩⟩ else none

noncomputable def mt270 (pc : Nat) : Option {e : mE // mOK yJ3_indexOf_2 cJ3_indexOf_2 3 ((Option.some ClassFile.FieldType.int)) pc e} :=
 bif Nat.blt pc 17 then
  bif Nat.blt pc 8 then
   bif Nat.blt pc 4 then
    bif Nat.blt pc 1 then
     if h : pc = 0 then some ⟨(.aload_n 0, 1, .inl 0, 0, 0), by subst h; exact ⟨dJ3_indexOf_2_0, rfl, trivial⟩⟩ else none
    else
     if h : pc = 1 then some ⟨(.invokevirtual 492, 4, .inl 0, 267, 15), by subst h; exact ⟨dJ3_indexOf_2_1, rfl, ⟨by decide, q550, q551, q552, _, rfl, rfl⟩⟩⟩ else none
   else
    bif Nat.blt pc 7 then
     if h : pc = 4 then some ⟨(.ifCond .eq 19, 7, .inl 0, 23, 0), by subst h; exact ⟨dJ3_indexOf_2_4, rfl, (show ((4 : Nat) : Int) + (19) = ((23 : Nat) : Int) by decide)⟩⟩ else none
    else
     if h : pc = 7 then some ⟨(.aload_n 0, 8, .inl 0, 0, 0), by subst h; exact ⟨dJ3_indexOf_2_7, rfl, trivial⟩⟩ else none
  else
   bif Nat.blt pc 12 then
    bif Nat.blt pc 11 then
     if h : pc = 8 then some ⟨(.getfield 9, 11, .inr (.inr none), 0, 15), by subst h; exact ⟨dJ3_indexOf_2_8, rfl, ⟨⟨_, rfl, by decide, _, Or.inl q1935, Or.inl rfl⟩, (show mKd 15 0 = 6 by rfl)⟩⟩⟩ else none
    else
     if h : pc = 11 then some ⟨(.iload_n 1, 12, .inl 0, 0, 0), by subst h; exact ⟨dJ3_indexOf_2_11, rfl, trivial⟩⟩ else none
   else
    bif Nat.blt pc 13 then
     if h : pc = 12 then some ⟨(.iload_n 2, 13, .inl 0, 0, 0), by subst h; exact ⟨dJ3_indexOf_2_12, rfl, trivial⟩⟩ else none
    else
     bif Nat.blt pc 14 then
      if h : pc = 13 then some ⟨(.aload_n 0, 14, .inl 0, 0, 0), by subst h; exact ⟨dJ3_indexOf_2_13, rfl, trivial⟩⟩ else none
     else
      if h : pc = 14 then some ⟨(.invokevirtual 505, 17, .inl 0, 264, 15), by subst h; exact ⟨dJ3_indexOf_2_14, rfl, ⟨by decide, q602, q537, q538, _, rfl, rfl⟩⟩⟩ else none
 else
  bif Nat.blt pc 27 then
   bif Nat.blt pc 23 then
    bif Nat.blt pc 20 then
     if h : pc = 17 then some ⟨(.invokestatic 637, 20, .inl 0, 272, 0), by subst h; exact ⟨dJ3_indexOf_2_17, rfl, Or.inl ⟨by decide, q603, q604⟩⟩⟩ else none
    else
     if h : pc = 20 then some ⟨(.goto 16, 23, .inl 0, 36, 0), by subst h; exact ⟨dJ3_indexOf_2_20, rfl, (show ((20 : Nat) : Int) + (16) = ((36 : Nat) : Int) by decide)⟩⟩ else none
   else
    bif Nat.blt pc 24 then
     if h : pc = 23 then some ⟨(.aload_n 0, 24, .inl 0, 0, 0), by subst h; exact ⟨dJ3_indexOf_2_23, rfl, trivial⟩⟩ else none
    else
     if h : pc = 24 then some ⟨(.getfield 9, 27, .inr (.inr none), 0, 15), by subst h; exact ⟨dJ3_indexOf_2_24, rfl, ⟨⟨_, rfl, by decide, _, Or.inl q1935, Or.inl rfl⟩, (show mKd 15 0 = 6 by rfl)⟩⟩⟩ else none
  else
   bif Nat.blt pc 29 then
    bif Nat.blt pc 28 then
     if h : pc = 27 then some ⟨(.iload_n 1, 28, .inl 0, 0, 0), by subst h; exact ⟨dJ3_indexOf_2_27, rfl, trivial⟩⟩ else none
    else
     if h : pc = 28 then some ⟨(.iload_n 2, 29, .inl 0, 0, 0), by subst h; exact ⟨dJ3_indexOf_2_28, rfl, trivial⟩⟩ else none
   else
    bif Nat.blt pc 30 then
     if h : pc = 29 then some ⟨(.aload_n 0, 30, .inl 0, 0, 0), by subst h; exact ⟨dJ3_indexOf_2_29, rfl, trivial⟩⟩ else none
    else
     bif Nat.blt pc 36 then
      if h : pc = 30 then some ⟨(.invokevirtual 505, 33, .inl 0, 264, 15), by subst h; exact ⟨dJ3_indexOf_2_30, rfl, ⟨by decide, q602, q537, q538, _, rfl, rfl⟩⟩⟩ else none
     else
      if h : pc = 36 then some ⟨(.ireturn, 37, .inl 0, 0, 0), by subst h; exact ⟨dJ3_indexOf_2_36, rfl, rfl⟩⟩ else none

noncomputable def mt271 (pc : Nat) : Option {e : mE // mOK yJ4_charAt cJ4_charAt 2 ((Option.some ClassFile.FieldType.char)) pc e} :=
 bif Nat.blt pc 7 then
  bif Nat.blt pc 2 then
   bif Nat.blt pc 1 then
    if h : pc = 0 then some ⟨(.iload_n 1, 1, .inl 0, 0, 0), by subst h; exact ⟨dJ4_charAt_0, rfl, trivial⟩⟩ else none
   else
    if h : pc = 1 then some ⟨(.aload_n 0, 2, .inl 0, 0, 0), by subst h; exact ⟨dJ4_charAt_1, rfl, trivial⟩⟩ else none
  else
   bif Nat.blt pc 3 then
    if h : pc = 2 then some ⟨(.arraylength, 3, .inl 0, 0, 0), by subst h; exact ⟨dJ4_charAt_2, rfl, trivial⟩⟩ else none
   else
    bif Nat.blt pc 6 then
     if h : pc = 3 then some ⟨(.invokestatic 9, 6, .inl 0, 268, 0), by subst h; exact ⟨dJ4_charAt_3, rfl, Or.inl ⟨by decide, q557, q558⟩⟩⟩ else none
    else
     if h : pc = 6 then some ⟨(.aload_n 0, 7, .inl 0, 0, 0), by subst h; exact ⟨dJ4_charAt_6, rfl, trivial⟩⟩ else none
 else
  bif Nat.blt pc 12 then
   bif Nat.blt pc 8 then
    if h : pc = 7 then some ⟨(.iload_n 1, 8, .inl 0, 0, 0), by subst h; exact ⟨dJ4_charAt_7, rfl, trivial⟩⟩ else none
   else
    bif Nat.blt pc 9 then
     if h : pc = 8 then some ⟨(.baload, 9, .inl 0, 0, 0), by subst h; exact ⟨dJ4_charAt_8, rfl, trivial⟩⟩ else none
    else
     if h : pc = 9 then some ⟨(.sipush 255, 12, .inl 255, 0, 0), by subst h; exact ⟨dJ4_charAt_9, rfl, ⟨255, rfl, by decide⟩⟩⟩ else none
  else
   bif Nat.blt pc 13 then
    if h : pc = 12 then some ⟨(.iand, 13, .inl 0, 0, 0), by subst h; exact ⟨dJ4_charAt_12, rfl, trivial⟩⟩ else none
   else
    bif Nat.blt pc 14 then
     if h : pc = 13 then some ⟨(.i2c, 14, .inl 0, 0, 0), by subst h; exact ⟨dJ4_charAt_13, rfl, trivial⟩⟩ else none
    else
     if h : pc = 14 then some ⟨(.ireturn, 15, .inl 0, 2, 0), by subst h; exact ⟨dJ4_charAt_14, rfl, rfl⟩⟩ else none

noncomputable def mt272 (pc : Nat) : Option {e : mE // mOK yJ4_indexOf cJ4_indexOf 4 ((Option.some ClassFile.FieldType.int)) pc e} :=
 bif Nat.blt pc 18 then
  bif Nat.blt pc 10 then
   bif Nat.blt pc 7 then
    bif Nat.blt pc 1 then
     if h : pc = 0 then some ⟨(.iload_n 1, 1, .inl 0, 0, 0), by subst h; exact ⟨dJ4_indexOf_0, rfl, trivial⟩⟩ else none
    else
     bif Nat.blt pc 4 then
      if h : pc = 1 then some ⟨(.invokestatic 88, 4, .inl 0, 273, 0), by subst h; exact ⟨dJ4_indexOf_1, rfl, Or.inl ⟨by decide, q606, q607⟩⟩⟩ else none
     else
      if h : pc = 4 then some ⟨(.ifCond .ne 5, 7, .inl 0, 9, 0), by subst h; exact ⟨dJ4_indexOf_4, rfl, (show ((4 : Nat) : Int) + (5) = ((9 : Nat) : Int) by decide)⟩⟩ else none
   else
    bif Nat.blt pc 8 then
     if h : pc = 7 then some ⟨(.iconst (-1), 8, .inl (-1), 0, 0), by subst h; exact ⟨dJ4_indexOf_7, rfl, ⟨(-1), rfl, by decide⟩⟩⟩ else none
    else
     bif Nat.blt pc 9 then
      if h : pc = 8 then some ⟨(.ireturn, 9, .inl 0, 0, 0), by subst h; exact ⟨dJ4_indexOf_8, rfl, rfl⟩⟩ else none
     else
      if h : pc = 9 then some ⟨(.iload_n 2, 10, .inl 0, 0, 0), by subst h; exact ⟨dJ4_indexOf_9, rfl, trivial⟩⟩ else none
  else
   bif Nat.blt pc 15 then
    bif Nat.blt pc 11 then
     if h : pc = 10 then some ⟨(.iconst 0, 11, .inl 0, 0, 0), by subst h; exact ⟨dJ4_indexOf_10, rfl, ⟨0, rfl, by decide⟩⟩⟩ else none
    else
     bif Nat.blt pc 14 then
      if h : pc = 11 then some ⟨(.invokestatic 92, 14, .inl 0, 992, 0), by subst h; exact ⟨dJ4_indexOf_11, rfl, Or.inr (Or.inl ⟨by decide, q140, fun h => absurd h (by decide), fun h => ⟨q609, q363, q364⟩, fun h => absurd h (by decide), fun h => absurd h (by decide)⟩)⟩⟩ else none
     else
      if h : pc = 14 then some ⟨(.istore_n 2, 15, .inl 0, 0, 0), by subst h; exact ⟨dJ4_indexOf_14, rfl, (show (2 : Nat) < 4 by decide)⟩⟩ else none
   else
    bif Nat.blt pc 16 then
     if h : pc = 15 then some ⟨(.iload_n 3, 16, .inl 0, 0, 0), by subst h; exact ⟨dJ4_indexOf_15, rfl, trivial⟩⟩ else none
    else
     bif Nat.blt pc 17 then
      if h : pc = 16 then some ⟨(.aload_n 0, 17, .inl 0, 0, 0), by subst h; exact ⟨dJ4_indexOf_16, rfl, trivial⟩⟩ else none
     else
      if h : pc = 17 then some ⟨(.arraylength, 18, .inl 0, 0, 0), by subst h; exact ⟨dJ4_indexOf_17, rfl, trivial⟩⟩ else none
 else
  bif Nat.blt pc 28 then
   bif Nat.blt pc 23 then
    bif Nat.blt pc 21 then
     if h : pc = 18 then some ⟨(.invokestatic 38, 21, .inl 0, 991, 0), by subst h; exact ⟨dJ4_indexOf_18, rfl, Or.inr (Or.inl ⟨by decide, q140, fun h => ⟨q610, q360, q361⟩, fun h => absurd h (by decide), fun h => absurd h (by decide), fun h => absurd h (by decide)⟩)⟩⟩ else none
    else
     bif Nat.blt pc 22 then
      if h : pc = 21 then some ⟨(.istore_n 3, 22, .inl 0, 0, 0), by subst h; exact ⟨dJ4_indexOf_21, rfl, (show (3 : Nat) < 4 by decide)⟩⟩ else none
     else
      if h : pc = 22 then some ⟨(.iload_n 2, 23, .inl 0, 0, 0), by subst h; exact ⟨dJ4_indexOf_22, rfl, trivial⟩⟩ else none
   else
    bif Nat.blt pc 24 then
     if h : pc = 23 then some ⟨(.iload_n 3, 24, .inl 0, 0, 0), by subst h; exact ⟨dJ4_indexOf_23, rfl, trivial⟩⟩ else none
    else
     bif Nat.blt pc 27 then
      if h : pc = 24 then some ⟨(.if_icmp .lt 5, 27, .inl 0, 29, 0), by subst h; exact ⟨dJ4_indexOf_24, rfl, (show ((24 : Nat) : Int) + (5) = ((29 : Nat) : Int) by decide)⟩⟩ else none
     else
      if h : pc = 27 then some ⟨(.iconst (-1), 28, .inl (-1), 0, 0), by subst h; exact ⟨dJ4_indexOf_27, rfl, ⟨(-1), rfl, by decide⟩⟩⟩ else none
  else
   bif Nat.blt pc 31 then
    bif Nat.blt pc 29 then
     if h : pc = 28 then some ⟨(.ireturn, 29, .inl 0, 0, 0), by subst h; exact ⟨dJ4_indexOf_28, rfl, rfl⟩⟩ else none
    else
     bif Nat.blt pc 30 then
      if h : pc = 29 then some ⟨(.aload_n 0, 30, .inl 0, 0, 0), by subst h; exact ⟨dJ4_indexOf_29, rfl, trivial⟩⟩ else none
     else
      if h : pc = 30 then some ⟨(.iload_n 1, 31, .inl 0, 0, 0), by subst h; exact ⟨dJ4_indexOf_30, rfl, trivial⟩⟩ else none
   else
    bif Nat.blt pc 33 then
     bif Nat.blt pc 32 then
      if h : pc = 31 then some ⟨(.iload_n 2, 32, .inl 0, 0, 0), by subst h; exact ⟨dJ4_indexOf_31, rfl, trivial⟩⟩ else none
     else
      if h : pc = 32 then some ⟨(.iload_n 3, 33, .inl 0, 0, 0), by subst h; exact ⟨dJ4_indexOf_32, rfl, trivial⟩⟩ else none
    else
     bif Nat.blt pc 36 then
      if h : pc = 33 then some ⟨(.invokestatic 95, 36, .inl 0, 274, 0), by subst h; exact ⟨dJ4_indexOf_33, rfl, Or.inl ⟨by decide, q611, q612⟩⟩⟩ else none
     else
      if h : pc = 36 then some ⟨(.ireturn, 37, .inl 0, 0, 0), by subst h; exact ⟨dJ4_indexOf_36, rfl, rfl⟩⟩ else none

noncomputable def mt273 (pc : Nat) : Option {e : mE // mOK yJ4_canEncode cJ4_canEncode 1 ((Option.some ClassFile.FieldType.boolean)) pc e} :=
 bif Nat.blt pc 8 then
  bif Nat.blt pc 4 then
   bif Nat.blt pc 1 then
    if h : pc = 0 then some ⟨(.iload_n 0, 1, .inl 0, 0, 0), by subst h; exact ⟨dJ4_canEncode_0, rfl, trivial⟩⟩ else none
   else
    if h : pc = 1 then some ⟨(.ifCond .lt 14, 4, .inl 0, 15, 0), by subst h; exact ⟨dJ4_canEncode_1, rfl, (show ((1 : Nat) : Int) + (14) = ((15 : Nat) : Int) by decide)⟩⟩ else none
  else
   bif Nat.blt pc 5 then
    if h : pc = 4 then some ⟨(.iload_n 0, 5, .inl 0, 0, 0), by subst h; exact ⟨dJ4_canEncode_4, rfl, trivial⟩⟩ else none
   else
    if h : pc = 5 then some ⟨(.sipush 255, 8, .inl 255, 0, 0), by subst h; exact ⟨dJ4_canEncode_5, rfl, ⟨255, rfl, by decide⟩⟩⟩ else none
 else
  bif Nat.blt pc 12 then
   bif Nat.blt pc 11 then
    if h : pc = 8 then some ⟨(.if_icmp .gt 7, 11, .inl 0, 15, 0), by subst h; exact ⟨dJ4_canEncode_8, rfl, (show ((8 : Nat) : Int) + (7) = ((15 : Nat) : Int) by decide)⟩⟩ else none
   else
    if h : pc = 11 then some ⟨(.iconst 1, 12, .inl 1, 0, 0), by subst h; exact ⟨dJ4_canEncode_11, rfl, ⟨1, rfl, by decide⟩⟩⟩ else none
  else
   bif Nat.blt pc 15 then
    if h : pc = 12 then some ⟨(.goto 4, 15, .inl 0, 16, 0), by subst h; exact ⟨dJ4_canEncode_12, rfl, (show ((12 : Nat) : Int) + (4) = ((16 : Nat) : Int) by decide)⟩⟩ else none
   else
    bif Nat.blt pc 16 then
     if h : pc = 15 then some ⟨(.iconst 0, 16, .inl 0, 0, 0), by subst h; exact ⟨dJ4_canEncode_15, rfl, ⟨0, rfl, by decide⟩⟩⟩ else none
    else
     if h : pc = 16 then some ⟨(.ireturn, 17, .inl 0, 1, 0), by subst h; exact ⟨dJ4_canEncode_16, rfl, rfl⟩⟩ else none

noncomputable def mt274 (pc : Nat) : Option {e : mE // mOK yJ4_indexOfChar cJ4_indexOfChar 6 ((Option.some ClassFile.FieldType.int)) pc e} :=
 bif Nat.blt pc 14 then
  bif Nat.blt pc 5 then
   bif Nat.blt pc 2 then
    bif Nat.blt pc 1 then
     if h : pc = 0 then some ⟨(.iload_n 1, 1, .inl 0, 0, 0), by subst h; exact ⟨dJ4_indexOfChar_0, rfl, trivial⟩⟩ else none
    else
     if h : pc = 1 then some ⟨(.i2b, 2, .inl 0, 0, 0), by subst h; exact ⟨dJ4_indexOfChar_1, rfl, trivial⟩⟩ else none
   else
    bif Nat.blt pc 4 then
     if h : pc = 2 then some ⟨(.istore 4, 4, .inl 0, 0, 0), by subst h; exact ⟨dJ4_indexOfChar_2, rfl, (show (4 : Nat) < 6 by decide)⟩⟩ else none
    else
     if h : pc = 4 then some ⟨(.iload_n 2, 5, .inl 0, 0, 0), by subst h; exact ⟨dJ4_indexOfChar_4, rfl, trivial⟩⟩ else none
  else
   bif Nat.blt pc 9 then
    bif Nat.blt pc 7 then
     if h : pc = 5 then some ⟨(.istore 5, 7, .inl 0, 0, 0), by subst h; exact ⟨dJ4_indexOfChar_5, rfl, (show (5 : Nat) < 6 by decide)⟩⟩ else none
    else
     if h : pc = 7 then some ⟨(.iload 5, 9, .inl 0, 0, 0), by subst h; exact ⟨dJ4_indexOfChar_7, rfl, trivial⟩⟩ else none
   else
    bif Nat.blt pc 10 then
     if h : pc = 9 then some ⟨(.iload_n 3, 10, .inl 0, 0, 0), by subst h; exact ⟨dJ4_indexOfChar_9, rfl, trivial⟩⟩ else none
    else
     bif Nat.blt pc 13 then
      if h : pc = 10 then some ⟨(.if_icmp .ge 21, 13, .inl 0, 31, 0), by subst h; exact ⟨dJ4_indexOfChar_10, rfl, (show ((10 : Nat) : Int) + (21) = ((31 : Nat) : Int) by decide)⟩⟩ else none
     else
      if h : pc = 13 then some ⟨(.aload_n 0, 14, .inl 0, 0, 0), by subst h; exact ⟨dJ4_indexOfChar_13, rfl, trivial⟩⟩ else none
 else
  bif Nat.blt pc 24 then
   bif Nat.blt pc 17 then
    bif Nat.blt pc 16 then
     if h : pc = 14 then some ⟨(.iload 5, 16, .inl 0, 0, 0), by subst h; exact ⟨dJ4_indexOfChar_14, rfl, trivial⟩⟩ else none
    else
     if h : pc = 16 then some ⟨(.baload, 17, .inl 0, 0, 0), by subst h; exact ⟨dJ4_indexOfChar_16, rfl, trivial⟩⟩ else none
   else
    bif Nat.blt pc 19 then
     if h : pc = 17 then some ⟨(.iload 4, 19, .inl 0, 0, 0), by subst h; exact ⟨dJ4_indexOfChar_17, rfl, trivial⟩⟩ else none
    else
     bif Nat.blt pc 22 then
      if h : pc = 19 then some ⟨(.if_icmp .ne 6, 22, .inl 0, 25, 0), by subst h; exact ⟨dJ4_indexOfChar_19, rfl, (show ((19 : Nat) : Int) + (6) = ((25 : Nat) : Int) by decide)⟩⟩ else none
     else
      if h : pc = 22 then some ⟨(.iload 5, 24, .inl 0, 0, 0), by subst h; exact ⟨dJ4_indexOfChar_22, rfl, trivial⟩⟩ else none
  else
   bif Nat.blt pc 28 then
    bif Nat.blt pc 25 then
     if h : pc = 24 then some ⟨(.ireturn, 25, .inl 0, 0, 0), by subst h; exact ⟨dJ4_indexOfChar_24, rfl, rfl⟩⟩ else none
    else
     if h : pc = 25 then some ⟨(.iinc 5 1, 28, .inl 1, 0, 0), by subst h; exact ⟨dJ4_indexOfChar_25, rfl, ⟨(show (5 : Nat) < 6 by decide), 1, rfl, by decide⟩⟩⟩ else none
   else
    bif Nat.blt pc 31 then
     if h : pc = 28 then some ⟨(.goto (-21), 31, .inl 0, 7, 0), by subst h; exact ⟨dJ4_indexOfChar_28, rfl, (show ((28 : Nat) : Int) + ((-21)) = ((7 : Nat) : Int) by decide)⟩⟩ else none
    else
     bif Nat.blt pc 32 then
      if h : pc = 31 then some ⟨(.iconst (-1), 32, .inl (-1), 0, 0), by subst h; exact ⟨dJ4_indexOfChar_31, rfl, ⟨(-1), rfl, by decide⟩⟩⟩ else none
     else
      if h : pc = 32 then some ⟨(.ireturn, 33, .inl 0, 0, 0), by subst h; exact ⟨dJ4_indexOfChar_32, rfl, rfl⟩⟩ else none

noncomputable def mt275 (pc : Nat) : Option {e : mE // mOK yJ5_checkIndex cJ5_checkIndex 3 ((Option.some ClassFile.FieldType.int)) pc e} :=
 bif Nat.blt pc 9 then
  bif Nat.blt pc 4 then
   bif Nat.blt pc 1 then
    if h : pc = 0 then some ⟨(.iload_n 0, 1, .inl 0, 0, 0), by subst h; exact ⟨dJ5_checkIndex_0, rfl, trivial⟩⟩ else none
   else
    if h : pc = 1 then some ⟨(.ifCond .lt 8, 4, .inl 0, 9, 0), by subst h; exact ⟨dJ5_checkIndex_1, rfl, (show ((1 : Nat) : Int) + (8) = ((9 : Nat) : Int) by decide)⟩⟩ else none
  else
   bif Nat.blt pc 5 then
    if h : pc = 4 then some ⟨(.iload_n 0, 5, .inl 0, 0, 0), by subst h; exact ⟨dJ5_checkIndex_4, rfl, trivial⟩⟩ else none
   else
    bif Nat.blt pc 6 then
     if h : pc = 5 then some ⟨(.iload_n 1, 6, .inl 0, 0, 0), by subst h; exact ⟨dJ5_checkIndex_5, rfl, trivial⟩⟩ else none
    else
     if h : pc = 6 then some ⟨(.if_icmp .lt 10, 9, .inl 0, 16, 0), by subst h; exact ⟨dJ5_checkIndex_6, rfl, (show ((6 : Nat) : Int) + (10) = ((16 : Nat) : Int) by decide)⟩⟩ else none
 else
  bif Nat.blt pc 15 then
   bif Nat.blt pc 10 then
    if h : pc = 9 then some ⟨(.aload_n 2, 10, .inl 0, 0, 0), by subst h; exact ⟨dJ5_checkIndex_9, rfl, trivial⟩⟩ else none
   else
    bif Nat.blt pc 11 then
     if h : pc = 10 then some ⟨(.iload_n 0, 11, .inl 0, 0, 0), by subst h; exact ⟨dJ5_checkIndex_10, rfl, trivial⟩⟩ else none
    else
     if h : pc = 11 then some ⟨(.iload_n 1, 12, .inl 0, 0, 0), by subst h; exact ⟨dJ5_checkIndex_11, rfl, trivial⟩⟩ else none
  else
   bif Nat.blt pc 16 then
    if h : pc = 15 then some ⟨(.athrow, 16, .inl 0, 0, 0), by subst h; exact ⟨dJ5_checkIndex_15, rfl, trivial⟩⟩ else none
   else
    bif Nat.blt pc 17 then
     if h : pc = 16 then some ⟨(.iload_n 0, 17, .inl 0, 0, 0), by subst h; exact ⟨dJ5_checkIndex_16, rfl, trivial⟩⟩ else none
    else
     if h : pc = 17 then some ⟨(.ireturn, 18, .inl 0, 0, 0), by subst h; exact ⟨dJ5_checkIndex_17, rfl, rfl⟩⟩ else none

noncomputable def mt900 (pc : Nat) : Option {e : mE // mOK x cL_law 4 ((Option.some ClassFile.FieldType.boolean)) pc e} :=
 bif Nat.blt pc 623 then
  bif Nat.blt pc 376 then
   bif Nat.blt pc 248 then
    bif Nat.blt pc 189 then
     bif Nat.blt pc 162 then
      bif Nat.blt pc 20 then
       bif Nat.blt pc 12 then
        bif Nat.blt pc 7 then
         bif Nat.blt pc 3 then
          if h : pc = 0 then some ⟨(.new 7, 3, .inl 0, 0, 0), by subst h; exact ⟨dL_law_0, rfl, Or.inr ⟨_, rfl, q745, q276, q129, by decide⟩⟩⟩ else none
         else
          bif Nat.blt pc 4 then
           if h : pc = 3 then some ⟨(.dup, 4, .inl 0, 0, 0), by subst h; exact ⟨dL_law_3, rfl, trivial⟩⟩ else none
          else
           if h : pc = 4 then some ⟨(.invokespecial 9, 7, .inl 0, 147, 1), by subst h; exact ⟨dL_law_4, rfl, ⟨by decide, rfl, q746, q747⟩⟩⟩ else none
        else
         bif Nat.blt pc 8 then
          if h : pc = 7 then some ⟨(.astore_n 1, 8, .inl 0, 0, 0), by subst h; exact ⟨dL_law_7, rfl, (show (1 : Nat) < 4 by decide)⟩⟩ else none
         else
          bif Nat.blt pc 11 then
           if h : pc = 8 then some ⟨(.new 10, 11, .inl 0, 14, 1), by subst h; exact ⟨dL_law_8, rfl, Or.inr ⟨_, rfl, q1349, q1350, q147, by decide⟩⟩⟩ else none
          else
           if h : pc = 11 then some ⟨(.dup, 12, .inl 0, 0, 0), by subst h; exact ⟨dL_law_11, rfl, trivial⟩⟩ else none
       else
        bif Nat.blt pc 17 then
         bif Nat.blt pc 15 then
          if h : pc = 12 then some ⟨(.invokespecial 12, 15, .inl 0, 0, 1), by subst h; exact ⟨dL_law_12, rfl, ⟨by decide, rfl, q1351, q1352⟩⟩⟩ else none
         else
          bif Nat.blt pc 16 then
           if h : pc = 15 then some ⟨(.astore_n 2, 16, .inl 0, 0, 0), by subst h; exact ⟨dL_law_15, rfl, (show (2 : Nat) < 4 by decide)⟩⟩ else none
          else
           if h : pc = 16 then some ⟨(.iconst 0, 17, .inl 0, 0, 0), by subst h; exact ⟨dL_law_16, rfl, ⟨0, rfl, by decide⟩⟩⟩ else none
        else
         bif Nat.blt pc 18 then
          if h : pc = 17 then some ⟨(.istore_n 3, 18, .inl 0, 0, 0), by subst h; exact ⟨dL_law_17, rfl, (show (3 : Nat) < 4 by decide)⟩⟩ else none
         else
          bif Nat.blt pc 19 then
           if h : pc = 18 then some ⟨(.iload_n 3, 19, .inl 0, 0, 0), by subst h; exact ⟨dL_law_18, rfl, trivial⟩⟩ else none
          else
           if h : pc = 19 then some ⟨(.aload_n 0, 20, .inl 0, 0, 0), by subst h; exact ⟨dL_law_19, rfl, trivial⟩⟩ else none
      else
       bif Nat.blt pc 29 then
        bif Nat.blt pc 24 then
         bif Nat.blt pc 21 then
          if h : pc = 20 then some ⟨(.arraylength, 21, .inl 0, 0, 0), by subst h; exact ⟨dL_law_20, rfl, trivial⟩⟩ else none
         else
          bif Nat.blt pc 23 then
           if h : pc = 21 then some ⟨(.bipush 6, 23, .inl 6, 0, 0), by subst h; exact ⟨dL_law_21, rfl, ⟨6, rfl, by decide⟩⟩⟩ else none
          else
           if h : pc = 23 then some ⟨(.isub, 24, .inl 0, 0, 0), by subst h; exact ⟨dL_law_23, rfl, trivial⟩⟩ else none
        else
         bif Nat.blt pc 27 then
          if h : pc = 24 then some ⟨(.if_icmp .gt 1070, 27, .inl 0, 1094, 0), by subst h; exact ⟨dL_law_24, rfl, (show ((24 : Nat) : Int) + (1070) = ((1094 : Nat) : Int) by decide)⟩⟩ else none
         else
          bif Nat.blt pc 28 then
           if h : pc = 27 then some ⟨(.aload_n 0, 28, .inl 0, 0, 0), by subst h; exact ⟨dL_law_27, rfl, trivial⟩⟩ else none
          else
           if h : pc = 28 then some ⟨(.iload_n 3, 29, .inl 0, 0, 0), by subst h; exact ⟨dL_law_28, rfl, trivial⟩⟩ else none
       else
        bif Nat.blt pc 33 then
         bif Nat.blt pc 30 then
          if h : pc = 29 then some ⟨(.iaload, 30, .inl 0, 0, 0), by subst h; exact ⟨dL_law_29, rfl, trivial⟩⟩ else none
         else
          bif Nat.blt pc 32 then
           if h : pc = 30 then some ⟨(.bipush 31, 32, .inl 31, 0, 0), by subst h; exact ⟨dL_law_30, rfl, ⟨31, rfl, by decide⟩⟩⟩ else none
          else
           if h : pc = 32 then some ⟨(.iand, 33, .inl 0, 0, 0), by subst h; exact ⟨dL_law_32, rfl, trivial⟩⟩ else none
        else
         bif Nat.blt pc 160 then
          if h : pc = 33 then some ⟨(.tableswitch 1055 0 27 #[127, 170, 213, 246, 280, 304, 327, 340, 363, 376, 399, 442, 476, 509, 532, 575, 608, 651, 684, 717, 771, 784, 797, 820, 863, 906, 969, 1022], 33, .inl 0, 0, 0), by subst h; exact ⟨dL_law_33, rfl, ⟨by decide, rfl, by decide⟩⟩⟩ else none
         else
          bif Nat.blt pc 161 then
           if h : pc = 160 then some ⟨(.aload_n 1, 161, .inl 0, 0, 0), by subst h; exact ⟨dL_law_160, rfl, trivial⟩⟩ else none
          else
           if h : pc = 161 then some ⟨(.aload_n 0, 162, .inl 0, 0, 0), by subst h; exact ⟨dL_law_161, rfl, trivial⟩⟩ else none
     else
      bif Nat.blt pc 174 then
       bif Nat.blt pc 168 then
        bif Nat.blt pc 165 then
         bif Nat.blt pc 163 then
          if h : pc = 162 then some ⟨(.iload_n 3, 163, .inl 0, 0, 0), by subst h; exact ⟨dL_law_162, rfl, trivial⟩⟩ else none
         else
          bif Nat.blt pc 164 then
           if h : pc = 163 then some ⟨(.iconst 1, 164, .inl 1, 0, 0), by subst h; exact ⟨dL_law_163, rfl, ⟨1, rfl, by decide⟩⟩⟩ else none
          else
           if h : pc = 164 then some ⟨(.iadd, 165, .inl 0, 0, 0), by subst h; exact ⟨dL_law_164, rfl, trivial⟩⟩ else none
        else
         bif Nat.blt pc 166 then
          if h : pc = 165 then some ⟨(.iaload, 166, .inl 0, 0, 0), by subst h; exact ⟨dL_law_165, rfl, trivial⟩⟩ else none
         else
          bif Nat.blt pc 167 then
           if h : pc = 166 then some ⟨(.aload_n 0, 167, .inl 0, 0, 0), by subst h; exact ⟨dL_law_166, rfl, trivial⟩⟩ else none
          else
           if h : pc = 167 then some ⟨(.iload_n 3, 168, .inl 0, 0, 0), by subst h; exact ⟨dL_law_167, rfl, trivial⟩⟩ else none
       else
        bif Nat.blt pc 171 then
         bif Nat.blt pc 169 then
          if h : pc = 168 then some ⟨(.iconst 2, 169, .inl 2, 0, 0), by subst h; exact ⟨dL_law_168, rfl, ⟨2, rfl, by decide⟩⟩⟩ else none
         else
          bif Nat.blt pc 170 then
           if h : pc = 169 then some ⟨(.iadd, 170, .inl 0, 0, 0), by subst h; exact ⟨dL_law_169, rfl, trivial⟩⟩ else none
          else
           if h : pc = 170 then some ⟨(.iaload, 171, .inl 0, 0, 0), by subst h; exact ⟨dL_law_170, rfl, trivial⟩⟩ else none
        else
         bif Nat.blt pc 172 then
          if h : pc = 171 then some ⟨(.aload_n 0, 172, .inl 0, 0, 0), by subst h; exact ⟨dL_law_171, rfl, trivial⟩⟩ else none
         else
          bif Nat.blt pc 173 then
           if h : pc = 172 then some ⟨(.iload_n 3, 173, .inl 0, 0, 0), by subst h; exact ⟨dL_law_172, rfl, trivial⟩⟩ else none
          else
           if h : pc = 173 then some ⟨(.iconst 3, 174, .inl 3, 0, 0), by subst h; exact ⟨dL_law_173, rfl, ⟨3, rfl, by decide⟩⟩⟩ else none
      else
       bif Nat.blt pc 182 then
        bif Nat.blt pc 179 then
         bif Nat.blt pc 175 then
          if h : pc = 174 then some ⟨(.iadd, 175, .inl 0, 0, 0), by subst h; exact ⟨dL_law_174, rfl, trivial⟩⟩ else none
         else
          bif Nat.blt pc 176 then
           if h : pc = 175 then some ⟨(.iaload, 176, .inl 0, 0, 0), by subst h; exact ⟨dL_law_175, rfl, trivial⟩⟩ else none
          else
           if h : pc = 176 then some ⟨(.invokevirtual 13, 179, .inl 0, 110, 0), by subst h; exact ⟨dL_law_176, rfl, ⟨by decide, q268, q269, q270, _, rfl, rfl⟩⟩⟩ else none
        else
         bif Nat.blt pc 180 then
          if h : pc = 179 then some ⟨(.aload_n 2, 180, .inl 0, 0, 0), by subst h; exact ⟨dL_law_179, rfl, trivial⟩⟩ else none
         else
          bif Nat.blt pc 181 then
           if h : pc = 180 then some ⟨(.aload_n 0, 181, .inl 0, 0, 0), by subst h; exact ⟨dL_law_180, rfl, trivial⟩⟩ else none
          else
           if h : pc = 181 then some ⟨(.iload_n 3, 182, .inl 0, 0, 0), by subst h; exact ⟨dL_law_181, rfl, trivial⟩⟩ else none
       else
        bif Nat.blt pc 185 then
         bif Nat.blt pc 183 then
          if h : pc = 182 then some ⟨(.iconst 1, 183, .inl 1, 0, 0), by subst h; exact ⟨dL_law_182, rfl, ⟨1, rfl, by decide⟩⟩⟩ else none
         else
          bif Nat.blt pc 184 then
           if h : pc = 183 then some ⟨(.iadd, 184, .inl 0, 0, 0), by subst h; exact ⟨dL_law_183, rfl, trivial⟩⟩ else none
          else
           if h : pc = 184 then some ⟨(.iaload, 185, .inl 0, 0, 0), by subst h; exact ⟨dL_law_184, rfl, trivial⟩⟩ else none
        else
         bif Nat.blt pc 187 then
          bif Nat.blt pc 186 then
           if h : pc = 185 then some ⟨(.aload_n 0, 186, .inl 0, 0, 0), by subst h; exact ⟨dL_law_185, rfl, trivial⟩⟩ else none
          else
           if h : pc = 186 then some ⟨(.iload_n 3, 187, .inl 0, 0, 0), by subst h; exact ⟨dL_law_186, rfl, trivial⟩⟩ else none
         else
          bif Nat.blt pc 188 then
           if h : pc = 187 then some ⟨(.iconst 2, 188, .inl 2, 0, 0), by subst h; exact ⟨dL_law_187, rfl, ⟨2, rfl, by decide⟩⟩⟩ else none
          else
           if h : pc = 188 then some ⟨(.iadd, 189, .inl 0, 0, 0), by subst h; exact ⟨dL_law_188, rfl, trivial⟩⟩ else none
    else
     bif Nat.blt pc 217 then
      bif Nat.blt pc 205 then
       bif Nat.blt pc 195 then
        bif Nat.blt pc 192 then
         bif Nat.blt pc 190 then
          if h : pc = 189 then some ⟨(.iaload, 190, .inl 0, 0, 0), by subst h; exact ⟨dL_law_189, rfl, trivial⟩⟩ else none
         else
          bif Nat.blt pc 191 then
           if h : pc = 190 then some ⟨(.aload_n 0, 191, .inl 0, 0, 0), by subst h; exact ⟨dL_law_190, rfl, trivial⟩⟩ else none
          else
           if h : pc = 191 then some ⟨(.iload_n 3, 192, .inl 0, 0, 0), by subst h; exact ⟨dL_law_191, rfl, trivial⟩⟩ else none
        else
         bif Nat.blt pc 193 then
          if h : pc = 192 then some ⟨(.iconst 3, 193, .inl 3, 0, 0), by subst h; exact ⟨dL_law_192, rfl, ⟨3, rfl, by decide⟩⟩⟩ else none
         else
          bif Nat.blt pc 194 then
           if h : pc = 193 then some ⟨(.iadd, 194, .inl 0, 0, 0), by subst h; exact ⟨dL_law_193, rfl, trivial⟩⟩ else none
          else
           if h : pc = 194 then some ⟨(.iaload, 195, .inl 0, 0, 0), by subst h; exact ⟨dL_law_194, rfl, trivial⟩⟩ else none
       else
        bif Nat.blt pc 202 then
         bif Nat.blt pc 198 then
          if h : pc = 195 then some ⟨(.invokevirtual 17, 198, .inl 0, 2, 14), by subst h; exact ⟨dL_law_195, rfl, ⟨by decide, q1477, q1478, q1479, _, rfl, rfl⟩⟩⟩ else none
         else
          bif Nat.blt pc 201 then
           if h : pc = 198 then some ⟨(.if_icmp .eq 890, 201, .inl 0, 1088, 0), by subst h; exact ⟨dL_law_198, rfl, (show ((198 : Nat) : Int) + (890) = ((1088 : Nat) : Int) by decide)⟩⟩ else none
          else
           if h : pc = 201 then some ⟨(.iconst 0, 202, .inl 0, 0, 0), by subst h; exact ⟨dL_law_201, rfl, ⟨0, rfl, by decide⟩⟩⟩ else none
        else
         bif Nat.blt pc 203 then
          if h : pc = 202 then some ⟨(.ireturn, 203, .inl 0, 1, 0), by subst h; exact ⟨dL_law_202, rfl, rfl⟩⟩ else none
         else
          bif Nat.blt pc 204 then
           if h : pc = 203 then some ⟨(.aload_n 1, 204, .inl 0, 0, 0), by subst h; exact ⟨dL_law_203, rfl, trivial⟩⟩ else none
          else
           if h : pc = 204 then some ⟨(.aload_n 0, 205, .inl 0, 0, 0), by subst h; exact ⟨dL_law_204, rfl, trivial⟩⟩ else none
      else
       bif Nat.blt pc 211 then
        bif Nat.blt pc 208 then
         bif Nat.blt pc 206 then
          if h : pc = 205 then some ⟨(.iload_n 3, 206, .inl 0, 0, 0), by subst h; exact ⟨dL_law_205, rfl, trivial⟩⟩ else none
         else
          bif Nat.blt pc 207 then
           if h : pc = 206 then some ⟨(.iconst 1, 207, .inl 1, 0, 0), by subst h; exact ⟨dL_law_206, rfl, ⟨1, rfl, by decide⟩⟩⟩ else none
          else
           if h : pc = 207 then some ⟨(.iadd, 208, .inl 0, 0, 0), by subst h; exact ⟨dL_law_207, rfl, trivial⟩⟩ else none
        else
         bif Nat.blt pc 209 then
          if h : pc = 208 then some ⟨(.iaload, 209, .inl 0, 0, 0), by subst h; exact ⟨dL_law_208, rfl, trivial⟩⟩ else none
         else
          bif Nat.blt pc 210 then
           if h : pc = 209 then some ⟨(.aload_n 0, 210, .inl 0, 0, 0), by subst h; exact ⟨dL_law_209, rfl, trivial⟩⟩ else none
          else
           if h : pc = 210 then some ⟨(.iload_n 3, 211, .inl 0, 0, 0), by subst h; exact ⟨dL_law_210, rfl, trivial⟩⟩ else none
       else
        bif Nat.blt pc 214 then
         bif Nat.blt pc 212 then
          if h : pc = 211 then some ⟨(.iconst 2, 212, .inl 2, 0, 0), by subst h; exact ⟨dL_law_211, rfl, ⟨2, rfl, by decide⟩⟩⟩ else none
         else
          bif Nat.blt pc 213 then
           if h : pc = 212 then some ⟨(.iadd, 213, .inl 0, 0, 0), by subst h; exact ⟨dL_law_212, rfl, trivial⟩⟩ else none
          else
           if h : pc = 213 then some ⟨(.iaload, 214, .inl 0, 0, 0), by subst h; exact ⟨dL_law_213, rfl, trivial⟩⟩ else none
        else
         bif Nat.blt pc 215 then
          if h : pc = 214 then some ⟨(.aload_n 0, 215, .inl 0, 0, 0), by subst h; exact ⟨dL_law_214, rfl, trivial⟩⟩ else none
         else
          bif Nat.blt pc 216 then
           if h : pc = 215 then some ⟨(.iload_n 3, 216, .inl 0, 0, 0), by subst h; exact ⟨dL_law_215, rfl, trivial⟩⟩ else none
          else
           if h : pc = 216 then some ⟨(.iconst 3, 217, .inl 3, 0, 0), by subst h; exact ⟨dL_law_216, rfl, ⟨3, rfl, by decide⟩⟩⟩ else none
     else
      bif Nat.blt pc 231 then
       bif Nat.blt pc 225 then
        bif Nat.blt pc 222 then
         bif Nat.blt pc 218 then
          if h : pc = 217 then some ⟨(.iadd, 218, .inl 0, 0, 0), by subst h; exact ⟨dL_law_217, rfl, trivial⟩⟩ else none
         else
          bif Nat.blt pc 219 then
           if h : pc = 218 then some ⟨(.iaload, 219, .inl 0, 0, 0), by subst h; exact ⟨dL_law_218, rfl, trivial⟩⟩ else none
          else
           if h : pc = 219 then some ⟨(.invokevirtual 18, 222, .inl 0, 107, 0), by subst h; exact ⟨dL_law_219, rfl, ⟨by decide, q162, q163, q164, _, rfl, rfl⟩⟩⟩ else none
        else
         bif Nat.blt pc 223 then
          if h : pc = 222 then some ⟨(.aload_n 2, 223, .inl 0, 0, 0), by subst h; exact ⟨dL_law_222, rfl, trivial⟩⟩ else none
         else
          bif Nat.blt pc 224 then
           if h : pc = 223 then some ⟨(.aload_n 0, 224, .inl 0, 0, 0), by subst h; exact ⟨dL_law_223, rfl, trivial⟩⟩ else none
          else
           if h : pc = 224 then some ⟨(.iload_n 3, 225, .inl 0, 0, 0), by subst h; exact ⟨dL_law_224, rfl, trivial⟩⟩ else none
       else
        bif Nat.blt pc 228 then
         bif Nat.blt pc 226 then
          if h : pc = 225 then some ⟨(.iconst 1, 226, .inl 1, 0, 0), by subst h; exact ⟨dL_law_225, rfl, ⟨1, rfl, by decide⟩⟩⟩ else none
         else
          bif Nat.blt pc 227 then
           if h : pc = 226 then some ⟨(.iadd, 227, .inl 0, 0, 0), by subst h; exact ⟨dL_law_226, rfl, trivial⟩⟩ else none
          else
           if h : pc = 227 then some ⟨(.iaload, 228, .inl 0, 0, 0), by subst h; exact ⟨dL_law_227, rfl, trivial⟩⟩ else none
        else
         bif Nat.blt pc 229 then
          if h : pc = 228 then some ⟨(.aload_n 0, 229, .inl 0, 0, 0), by subst h; exact ⟨dL_law_228, rfl, trivial⟩⟩ else none
         else
          bif Nat.blt pc 230 then
           if h : pc = 229 then some ⟨(.iload_n 3, 230, .inl 0, 0, 0), by subst h; exact ⟨dL_law_229, rfl, trivial⟩⟩ else none
          else
           if h : pc = 230 then some ⟨(.iconst 2, 231, .inl 2, 0, 0), by subst h; exact ⟨dL_law_230, rfl, ⟨2, rfl, by decide⟩⟩⟩ else none
      else
       bif Nat.blt pc 237 then
        bif Nat.blt pc 234 then
         bif Nat.blt pc 232 then
          if h : pc = 231 then some ⟨(.iadd, 232, .inl 0, 0, 0), by subst h; exact ⟨dL_law_231, rfl, trivial⟩⟩ else none
         else
          bif Nat.blt pc 233 then
           if h : pc = 232 then some ⟨(.iaload, 233, .inl 0, 0, 0), by subst h; exact ⟨dL_law_232, rfl, trivial⟩⟩ else none
          else
           if h : pc = 233 then some ⟨(.aload_n 0, 234, .inl 0, 0, 0), by subst h; exact ⟨dL_law_233, rfl, trivial⟩⟩ else none
        else
         bif Nat.blt pc 235 then
          if h : pc = 234 then some ⟨(.iload_n 3, 235, .inl 0, 0, 0), by subst h; exact ⟨dL_law_234, rfl, trivial⟩⟩ else none
         else
          bif Nat.blt pc 236 then
           if h : pc = 235 then some ⟨(.iconst 3, 236, .inl 3, 0, 0), by subst h; exact ⟨dL_law_235, rfl, ⟨3, rfl, by decide⟩⟩⟩ else none
          else
           if h : pc = 236 then some ⟨(.iadd, 237, .inl 0, 0, 0), by subst h; exact ⟨dL_law_236, rfl, trivial⟩⟩ else none
       else
        bif Nat.blt pc 244 then
         bif Nat.blt pc 238 then
          if h : pc = 237 then some ⟨(.iaload, 238, .inl 0, 0, 0), by subst h; exact ⟨dL_law_237, rfl, trivial⟩⟩ else none
         else
          bif Nat.blt pc 241 then
           if h : pc = 238 then some ⟨(.invokevirtual 21, 241, .inl 0, 64, 14), by subst h; exact ⟨dL_law_238, rfl, ⟨by decide, q1731, q1732, q1733, _, rfl, rfl⟩⟩⟩ else none
          else
           if h : pc = 241 then some ⟨(.if_icmp .eq 847, 244, .inl 0, 1088, 0), by subst h; exact ⟨dL_law_241, rfl, (show ((241 : Nat) : Int) + (847) = ((1088 : Nat) : Int) by decide)⟩⟩ else none
        else
         bif Nat.blt pc 246 then
          bif Nat.blt pc 245 then
           if h : pc = 244 then some ⟨(.iconst 0, 245, .inl 0, 0, 0), by subst h; exact ⟨dL_law_244, rfl, ⟨0, rfl, by decide⟩⟩⟩ else none
          else
           if h : pc = 245 then some ⟨(.ireturn, 246, .inl 0, 1, 0), by subst h; exact ⟨dL_law_245, rfl, rfl⟩⟩ else none
         else
          bif Nat.blt pc 247 then
           if h : pc = 246 then some ⟨(.aload_n 1, 247, .inl 0, 0, 0), by subst h; exact ⟨dL_law_246, rfl, trivial⟩⟩ else none
          else
           if h : pc = 247 then some ⟨(.aload_n 0, 248, .inl 0, 0, 0), by subst h; exact ⟨dL_law_247, rfl, trivial⟩⟩ else none
   else
    bif Nat.blt pc 307 then
     bif Nat.blt pc 278 then
      bif Nat.blt pc 262 then
       bif Nat.blt pc 254 then
        bif Nat.blt pc 251 then
         bif Nat.blt pc 249 then
          if h : pc = 248 then some ⟨(.iload_n 3, 249, .inl 0, 0, 0), by subst h; exact ⟨dL_law_248, rfl, trivial⟩⟩ else none
         else
          bif Nat.blt pc 250 then
           if h : pc = 249 then some ⟨(.iconst 1, 250, .inl 1, 0, 0), by subst h; exact ⟨dL_law_249, rfl, ⟨1, rfl, by decide⟩⟩⟩ else none
          else
           if h : pc = 250 then some ⟨(.iadd, 251, .inl 0, 0, 0), by subst h; exact ⟨dL_law_250, rfl, trivial⟩⟩ else none
        else
         bif Nat.blt pc 252 then
          if h : pc = 251 then some ⟨(.iaload, 252, .inl 0, 0, 0), by subst h; exact ⟨dL_law_251, rfl, trivial⟩⟩ else none
         else
          bif Nat.blt pc 253 then
           if h : pc = 252 then some ⟨(.aload_n 0, 253, .inl 0, 0, 0), by subst h; exact ⟨dL_law_252, rfl, trivial⟩⟩ else none
          else
           if h : pc = 253 then some ⟨(.iload_n 3, 254, .inl 0, 0, 0), by subst h; exact ⟨dL_law_253, rfl, trivial⟩⟩ else none
       else
        bif Nat.blt pc 257 then
         bif Nat.blt pc 255 then
          if h : pc = 254 then some ⟨(.iconst 2, 255, .inl 2, 0, 0), by subst h; exact ⟨dL_law_254, rfl, ⟨2, rfl, by decide⟩⟩⟩ else none
         else
          bif Nat.blt pc 256 then
           if h : pc = 255 then some ⟨(.iadd, 256, .inl 0, 0, 0), by subst h; exact ⟨dL_law_255, rfl, trivial⟩⟩ else none
          else
           if h : pc = 256 then some ⟨(.iaload, 257, .inl 0, 0, 0), by subst h; exact ⟨dL_law_256, rfl, trivial⟩⟩ else none
        else
         bif Nat.blt pc 260 then
          if h : pc = 257 then some ⟨(.invokevirtual 22, 260, .inl 0, 117, 0), by subst h; exact ⟨dL_law_257, rfl, ⟨by decide, q296, q297, q298, _, rfl, rfl⟩⟩⟩ else none
         else
          bif Nat.blt pc 261 then
           if h : pc = 260 then some ⟨(.aload_n 2, 261, .inl 0, 0, 0), by subst h; exact ⟨dL_law_260, rfl, trivial⟩⟩ else none
          else
           if h : pc = 261 then some ⟨(.aload_n 0, 262, .inl 0, 0, 0), by subst h; exact ⟨dL_law_261, rfl, trivial⟩⟩ else none
      else
       bif Nat.blt pc 268 then
        bif Nat.blt pc 265 then
         bif Nat.blt pc 263 then
          if h : pc = 262 then some ⟨(.iload_n 3, 263, .inl 0, 0, 0), by subst h; exact ⟨dL_law_262, rfl, trivial⟩⟩ else none
         else
          bif Nat.blt pc 264 then
           if h : pc = 263 then some ⟨(.iconst 1, 264, .inl 1, 0, 0), by subst h; exact ⟨dL_law_263, rfl, ⟨1, rfl, by decide⟩⟩⟩ else none
          else
           if h : pc = 264 then some ⟨(.iadd, 265, .inl 0, 0, 0), by subst h; exact ⟨dL_law_264, rfl, trivial⟩⟩ else none
        else
         bif Nat.blt pc 266 then
          if h : pc = 265 then some ⟨(.iaload, 266, .inl 0, 0, 0), by subst h; exact ⟨dL_law_265, rfl, trivial⟩⟩ else none
         else
          bif Nat.blt pc 267 then
           if h : pc = 266 then some ⟨(.aload_n 0, 267, .inl 0, 0, 0), by subst h; exact ⟨dL_law_266, rfl, trivial⟩⟩ else none
          else
           if h : pc = 267 then some ⟨(.iload_n 3, 268, .inl 0, 0, 0), by subst h; exact ⟨dL_law_267, rfl, trivial⟩⟩ else none
       else
        bif Nat.blt pc 271 then
         bif Nat.blt pc 269 then
          if h : pc = 268 then some ⟨(.iconst 2, 269, .inl 2, 0, 0), by subst h; exact ⟨dL_law_268, rfl, ⟨2, rfl, by decide⟩⟩⟩ else none
         else
          bif Nat.blt pc 270 then
           if h : pc = 269 then some ⟨(.iadd, 270, .inl 0, 0, 0), by subst h; exact ⟨dL_law_269, rfl, trivial⟩⟩ else none
          else
           if h : pc = 270 then some ⟨(.iaload, 271, .inl 0, 0, 0), by subst h; exact ⟨dL_law_270, rfl, trivial⟩⟩ else none
        else
         bif Nat.blt pc 274 then
          if h : pc = 271 then some ⟨(.invokevirtual 26, 274, .inl 0, 7, 14), by subst h; exact ⟨dL_law_271, rfl, ⟨by decide, q1737, q1498, q1499, _, rfl, rfl⟩⟩⟩ else none
         else
          bif Nat.blt pc 277 then
           if h : pc = 274 then some ⟨(.if_icmp .eq 814, 277, .inl 0, 1088, 0), by subst h; exact ⟨dL_law_274, rfl, (show ((274 : Nat) : Int) + (814) = ((1088 : Nat) : Int) by decide)⟩⟩ else none
          else
           if h : pc = 277 then some ⟨(.iconst 0, 278, .inl 0, 0, 0), by subst h; exact ⟨dL_law_277, rfl, ⟨0, rfl, by decide⟩⟩⟩ else none
     else
      bif Nat.blt pc 290 then
       bif Nat.blt pc 284 then
        bif Nat.blt pc 281 then
         bif Nat.blt pc 279 then
          if h : pc = 278 then some ⟨(.ireturn, 279, .inl 0, 1, 0), by subst h; exact ⟨dL_law_278, rfl, rfl⟩⟩ else none
         else
          bif Nat.blt pc 280 then
           if h : pc = 279 then some ⟨(.aload_n 1, 280, .inl 0, 0, 0), by subst h; exact ⟨dL_law_279, rfl, trivial⟩⟩ else none
          else
           if h : pc = 280 then some ⟨(.aload_n 0, 281, .inl 0, 0, 0), by subst h; exact ⟨dL_law_280, rfl, trivial⟩⟩ else none
        else
         bif Nat.blt pc 282 then
          if h : pc = 281 then some ⟨(.iload_n 3, 282, .inl 0, 0, 0), by subst h; exact ⟨dL_law_281, rfl, trivial⟩⟩ else none
         else
          bif Nat.blt pc 283 then
           if h : pc = 282 then some ⟨(.iconst 1, 283, .inl 1, 0, 0), by subst h; exact ⟨dL_law_282, rfl, ⟨1, rfl, by decide⟩⟩⟩ else none
          else
           if h : pc = 283 then some ⟨(.iadd, 284, .inl 0, 0, 0), by subst h; exact ⟨dL_law_283, rfl, trivial⟩⟩ else none
       else
        bif Nat.blt pc 287 then
         bif Nat.blt pc 285 then
          if h : pc = 284 then some ⟨(.iaload, 285, .inl 0, 0, 0), by subst h; exact ⟨dL_law_284, rfl, trivial⟩⟩ else none
         else
          bif Nat.blt pc 286 then
           if h : pc = 285 then some ⟨(.aload_n 0, 286, .inl 0, 0, 0), by subst h; exact ⟨dL_law_285, rfl, trivial⟩⟩ else none
          else
           if h : pc = 286 then some ⟨(.iload_n 3, 287, .inl 0, 0, 0), by subst h; exact ⟨dL_law_286, rfl, trivial⟩⟩ else none
        else
         bif Nat.blt pc 288 then
          if h : pc = 287 then some ⟨(.iconst 2, 288, .inl 2, 0, 0), by subst h; exact ⟨dL_law_287, rfl, ⟨2, rfl, by decide⟩⟩⟩ else none
         else
          bif Nat.blt pc 289 then
           if h : pc = 288 then some ⟨(.iadd, 289, .inl 0, 0, 0), by subst h; exact ⟨dL_law_288, rfl, trivial⟩⟩ else none
          else
           if h : pc = 289 then some ⟨(.iaload, 290, .inl 0, 0, 0), by subst h; exact ⟨dL_law_289, rfl, trivial⟩⟩ else none
      else
       bif Nat.blt pc 298 then
        bif Nat.blt pc 295 then
         bif Nat.blt pc 293 then
          if h : pc = 290 then some ⟨(.invokevirtual 27, 293, .inl 0, 151, 0), by subst h; exact ⟨dL_law_290, rfl, ⟨by decide, q988, q989, q990, _, rfl, rfl⟩⟩⟩ else none
         else
          bif Nat.blt pc 294 then
           if h : pc = 293 then some ⟨(.aload_n 2, 294, .inl 0, 0, 0), by subst h; exact ⟨dL_law_293, rfl, trivial⟩⟩ else none
          else
           if h : pc = 294 then some ⟨(.aload_n 0, 295, .inl 0, 0, 0), by subst h; exact ⟨dL_law_294, rfl, trivial⟩⟩ else none
        else
         bif Nat.blt pc 296 then
          if h : pc = 295 then some ⟨(.iload_n 3, 296, .inl 0, 0, 0), by subst h; exact ⟨dL_law_295, rfl, trivial⟩⟩ else none
         else
          bif Nat.blt pc 297 then
           if h : pc = 296 then some ⟨(.iconst 1, 297, .inl 1, 0, 0), by subst h; exact ⟨dL_law_296, rfl, ⟨1, rfl, by decide⟩⟩⟩ else none
          else
           if h : pc = 297 then some ⟨(.iadd, 298, .inl 0, 0, 0), by subst h; exact ⟨dL_law_297, rfl, trivial⟩⟩ else none
       else
        bif Nat.blt pc 301 then
         bif Nat.blt pc 299 then
          if h : pc = 298 then some ⟨(.iaload, 299, .inl 0, 0, 0), by subst h; exact ⟨dL_law_298, rfl, trivial⟩⟩ else none
         else
          bif Nat.blt pc 300 then
           if h : pc = 299 then some ⟨(.aload_n 0, 300, .inl 0, 0, 0), by subst h; exact ⟨dL_law_299, rfl, trivial⟩⟩ else none
          else
           if h : pc = 300 then some ⟨(.iload_n 3, 301, .inl 0, 0, 0), by subst h; exact ⟨dL_law_300, rfl, trivial⟩⟩ else none
        else
         bif Nat.blt pc 303 then
          bif Nat.blt pc 302 then
           if h : pc = 301 then some ⟨(.iconst 2, 302, .inl 2, 0, 0), by subst h; exact ⟨dL_law_301, rfl, ⟨2, rfl, by decide⟩⟩⟩ else none
          else
           if h : pc = 302 then some ⟨(.iadd, 303, .inl 0, 0, 0), by subst h; exact ⟨dL_law_302, rfl, trivial⟩⟩ else none
         else
          bif Nat.blt pc 304 then
           if h : pc = 303 then some ⟨(.iaload, 304, .inl 0, 0, 0), by subst h; exact ⟨dL_law_303, rfl, trivial⟩⟩ else none
          else
           if h : pc = 304 then some ⟨(.invokevirtual 31, 307, .inl 0, 68, 14), by subst h; exact ⟨dL_law_304, rfl, ⟨by decide, q1751, q1752, q1753, _, rfl, rfl⟩⟩⟩ else none
    else
     bif Nat.blt pc 339 then
      bif Nat.blt pc 323 then
       bif Nat.blt pc 315 then
        bif Nat.blt pc 312 then
         bif Nat.blt pc 308 then
          if h : pc = 307 then some ⟨(.lcmp, 308, .inl 0, 0, 0), by subst h; exact ⟨dL_law_307, rfl, trivial⟩⟩ else none
         else
          bif Nat.blt pc 311 then
           if h : pc = 308 then some ⟨(.ifCond .eq 780, 311, .inl 0, 1088, 0), by subst h; exact ⟨dL_law_308, rfl, (show ((308 : Nat) : Int) + (780) = ((1088 : Nat) : Int) by decide)⟩⟩ else none
          else
           if h : pc = 311 then some ⟨(.iconst 0, 312, .inl 0, 0, 0), by subst h; exact ⟨dL_law_311, rfl, ⟨0, rfl, by decide⟩⟩⟩ else none
        else
         bif Nat.blt pc 313 then
          if h : pc = 312 then some ⟨(.ireturn, 313, .inl 0, 1, 0), by subst h; exact ⟨dL_law_312, rfl, rfl⟩⟩ else none
         else
          bif Nat.blt pc 314 then
           if h : pc = 313 then some ⟨(.aload_n 1, 314, .inl 0, 0, 0), by subst h; exact ⟨dL_law_313, rfl, trivial⟩⟩ else none
          else
           if h : pc = 314 then some ⟨(.aload_n 0, 315, .inl 0, 0, 0), by subst h; exact ⟨dL_law_314, rfl, trivial⟩⟩ else none
       else
        bif Nat.blt pc 318 then
         bif Nat.blt pc 316 then
          if h : pc = 315 then some ⟨(.iload_n 3, 316, .inl 0, 0, 0), by subst h; exact ⟨dL_law_315, rfl, trivial⟩⟩ else none
         else
          bif Nat.blt pc 317 then
           if h : pc = 316 then some ⟨(.iconst 1, 317, .inl 1, 0, 0), by subst h; exact ⟨dL_law_316, rfl, ⟨1, rfl, by decide⟩⟩⟩ else none
          else
           if h : pc = 317 then some ⟨(.iadd, 318, .inl 0, 0, 0), by subst h; exact ⟨dL_law_317, rfl, trivial⟩⟩ else none
        else
         bif Nat.blt pc 319 then
          if h : pc = 318 then some ⟨(.iaload, 319, .inl 0, 0, 0), by subst h; exact ⟨dL_law_318, rfl, trivial⟩⟩ else none
         else
          bif Nat.blt pc 322 then
           if h : pc = 319 then some ⟨(.invokevirtual 32, 322, .inl 0, 152, 0), by subst h; exact ⟨dL_law_319, rfl, ⟨by decide, q997, q998, q999, _, rfl, rfl⟩⟩⟩ else none
          else
           if h : pc = 322 then some ⟨(.aload_n 2, 323, .inl 0, 0, 0), by subst h; exact ⟨dL_law_322, rfl, trivial⟩⟩ else none
      else
       bif Nat.blt pc 331 then
        bif Nat.blt pc 326 then
         bif Nat.blt pc 324 then
          if h : pc = 323 then some ⟨(.aload_n 0, 324, .inl 0, 0, 0), by subst h; exact ⟨dL_law_323, rfl, trivial⟩⟩ else none
         else
          bif Nat.blt pc 325 then
           if h : pc = 324 then some ⟨(.iload_n 3, 325, .inl 0, 0, 0), by subst h; exact ⟨dL_law_324, rfl, trivial⟩⟩ else none
          else
           if h : pc = 325 then some ⟨(.iconst 1, 326, .inl 1, 0, 0), by subst h; exact ⟨dL_law_325, rfl, ⟨1, rfl, by decide⟩⟩⟩ else none
        else
         bif Nat.blt pc 327 then
          if h : pc = 326 then some ⟨(.iadd, 327, .inl 0, 0, 0), by subst h; exact ⟨dL_law_326, rfl, trivial⟩⟩ else none
         else
          bif Nat.blt pc 328 then
           if h : pc = 327 then some ⟨(.iaload, 328, .inl 0, 0, 0), by subst h; exact ⟨dL_law_327, rfl, trivial⟩⟩ else none
          else
           if h : pc = 328 then some ⟨(.invokevirtual 36, 331, .inl 0, 70, 14), by subst h; exact ⟨dL_law_328, rfl, ⟨by decide, q1760, q1761, q1762, _, rfl, rfl⟩⟩⟩ else none
       else
        bif Nat.blt pc 336 then
         bif Nat.blt pc 332 then
          if h : pc = 331 then some ⟨(.lcmp, 332, .inl 0, 0, 0), by subst h; exact ⟨dL_law_331, rfl, trivial⟩⟩ else none
         else
          bif Nat.blt pc 335 then
           if h : pc = 332 then some ⟨(.ifCond .eq 756, 335, .inl 0, 1088, 0), by subst h; exact ⟨dL_law_332, rfl, (show ((332 : Nat) : Int) + (756) = ((1088 : Nat) : Int) by decide)⟩⟩ else none
          else
           if h : pc = 335 then some ⟨(.iconst 0, 336, .inl 0, 0, 0), by subst h; exact ⟨dL_law_335, rfl, ⟨0, rfl, by decide⟩⟩⟩ else none
        else
         bif Nat.blt pc 337 then
          if h : pc = 336 then some ⟨(.ireturn, 337, .inl 0, 1, 0), by subst h; exact ⟨dL_law_336, rfl, rfl⟩⟩ else none
         else
          bif Nat.blt pc 338 then
           if h : pc = 337 then some ⟨(.aload_n 1, 338, .inl 0, 0, 0), by subst h; exact ⟨dL_law_337, rfl, trivial⟩⟩ else none
          else
           if h : pc = 338 then some ⟨(.aload_n 0, 339, .inl 0, 0, 0), by subst h; exact ⟨dL_law_338, rfl, trivial⟩⟩ else none
     else
      bif Nat.blt pc 355 then
       bif Nat.blt pc 347 then
        bif Nat.blt pc 342 then
         bif Nat.blt pc 340 then
          if h : pc = 339 then some ⟨(.iload_n 3, 340, .inl 0, 0, 0), by subst h; exact ⟨dL_law_339, rfl, trivial⟩⟩ else none
         else
          bif Nat.blt pc 341 then
           if h : pc = 340 then some ⟨(.iconst 1, 341, .inl 1, 0, 0), by subst h; exact ⟨dL_law_340, rfl, ⟨1, rfl, by decide⟩⟩⟩ else none
          else
           if h : pc = 341 then some ⟨(.iadd, 342, .inl 0, 0, 0), by subst h; exact ⟨dL_law_341, rfl, trivial⟩⟩ else none
        else
         bif Nat.blt pc 343 then
          if h : pc = 342 then some ⟨(.iaload, 343, .inl 0, 0, 0), by subst h; exact ⟨dL_law_342, rfl, trivial⟩⟩ else none
         else
          bif Nat.blt pc 346 then
           if h : pc = 343 then some ⟨(.invokevirtual 37, 346, .inl 0, 127, 0), by subst h; exact ⟨dL_law_343, rfl, ⟨by decide, q499, q500, q501, _, rfl, rfl⟩⟩⟩ else none
          else
           if h : pc = 346 then some ⟨(.aload_n 2, 347, .inl 0, 0, 0), by subst h; exact ⟨dL_law_346, rfl, trivial⟩⟩ else none
       else
        bif Nat.blt pc 350 then
         bif Nat.blt pc 348 then
          if h : pc = 347 then some ⟨(.aload_n 0, 348, .inl 0, 0, 0), by subst h; exact ⟨dL_law_347, rfl, trivial⟩⟩ else none
         else
          bif Nat.blt pc 349 then
           if h : pc = 348 then some ⟨(.iload_n 3, 349, .inl 0, 0, 0), by subst h; exact ⟨dL_law_348, rfl, trivial⟩⟩ else none
          else
           if h : pc = 349 then some ⟨(.iconst 1, 350, .inl 1, 0, 0), by subst h; exact ⟨dL_law_349, rfl, ⟨1, rfl, by decide⟩⟩⟩ else none
        else
         bif Nat.blt pc 351 then
          if h : pc = 350 then some ⟨(.iadd, 351, .inl 0, 0, 0), by subst h; exact ⟨dL_law_350, rfl, trivial⟩⟩ else none
         else
          bif Nat.blt pc 352 then
           if h : pc = 351 then some ⟨(.iaload, 352, .inl 0, 0, 0), by subst h; exact ⟨dL_law_351, rfl, trivial⟩⟩ else none
          else
           if h : pc = 352 then some ⟨(.invokevirtual 41, 355, .inl 0, 65, 14), by subst h; exact ⟨dL_law_352, rfl, ⟨by decide, q1738, q1739, q1740, _, rfl, rfl⟩⟩⟩ else none
      else
       bif Nat.blt pc 365 then
        bif Nat.blt pc 360 then
         bif Nat.blt pc 358 then
          if h : pc = 355 then some ⟨(.if_icmp .eq 733, 358, .inl 0, 1088, 0), by subst h; exact ⟨dL_law_355, rfl, (show ((355 : Nat) : Int) + (733) = ((1088 : Nat) : Int) by decide)⟩⟩ else none
         else
          bif Nat.blt pc 359 then
           if h : pc = 358 then some ⟨(.iconst 0, 359, .inl 0, 0, 0), by subst h; exact ⟨dL_law_358, rfl, ⟨0, rfl, by decide⟩⟩⟩ else none
          else
           if h : pc = 359 then some ⟨(.ireturn, 360, .inl 0, 1, 0), by subst h; exact ⟨dL_law_359, rfl, rfl⟩⟩ else none
        else
         bif Nat.blt pc 361 then
          if h : pc = 360 then some ⟨(.aload_n 1, 361, .inl 0, 0, 0), by subst h; exact ⟨dL_law_360, rfl, trivial⟩⟩ else none
         else
          bif Nat.blt pc 364 then
           if h : pc = 361 then some ⟨(.invokevirtual 42, 364, .inl 0, 128, 0), by subst h; exact ⟨dL_law_361, rfl, ⟨by decide, q504, q505, q506, _, rfl, rfl⟩⟩⟩ else none
          else
           if h : pc = 364 then some ⟨(.aload_n 2, 365, .inl 0, 0, 0), by subst h; exact ⟨dL_law_364, rfl, trivial⟩⟩ else none
       else
        bif Nat.blt pc 372 then
         bif Nat.blt pc 368 then
          if h : pc = 365 then some ⟨(.invokevirtual 46, 368, .inl 0, 66, 14), by subst h; exact ⟨dL_law_365, rfl, ⟨by decide, q1743, q1744, q1745, _, rfl, rfl⟩⟩⟩ else none
         else
          bif Nat.blt pc 371 then
           if h : pc = 368 then some ⟨(.if_icmp .eq 720, 371, .inl 0, 1088, 0), by subst h; exact ⟨dL_law_368, rfl, (show ((368 : Nat) : Int) + (720) = ((1088 : Nat) : Int) by decide)⟩⟩ else none
          else
           if h : pc = 371 then some ⟨(.iconst 0, 372, .inl 0, 0, 0), by subst h; exact ⟨dL_law_371, rfl, ⟨0, rfl, by decide⟩⟩⟩ else none
        else
         bif Nat.blt pc 374 then
          bif Nat.blt pc 373 then
           if h : pc = 372 then some ⟨(.ireturn, 373, .inl 0, 1, 0), by subst h; exact ⟨dL_law_372, rfl, rfl⟩⟩ else none
          else
           if h : pc = 373 then some ⟨(.aload_n 1, 374, .inl 0, 0, 0), by subst h; exact ⟨dL_law_373, rfl, trivial⟩⟩ else none
         else
          bif Nat.blt pc 375 then
           if h : pc = 374 then some ⟨(.aload_n 0, 375, .inl 0, 0, 0), by subst h; exact ⟨dL_law_374, rfl, trivial⟩⟩ else none
          else
           if h : pc = 375 then some ⟨(.iload_n 3, 376, .inl 0, 0, 0), by subst h; exact ⟨dL_law_375, rfl, trivial⟩⟩ else none
  else
   bif Nat.blt pc 500 then
    bif Nat.blt pc 443 then
     bif Nat.blt pc 412 then
      bif Nat.blt pc 394 then
       bif Nat.blt pc 384 then
        bif Nat.blt pc 379 then
         bif Nat.blt pc 377 then
          if h : pc = 376 then some ⟨(.iconst 1, 377, .inl 1, 0, 0), by subst h; exact ⟨dL_law_376, rfl, ⟨1, rfl, by decide⟩⟩⟩ else none
         else
          bif Nat.blt pc 378 then
           if h : pc = 377 then some ⟨(.iadd, 378, .inl 0, 0, 0), by subst h; exact ⟨dL_law_377, rfl, trivial⟩⟩ else none
          else
           if h : pc = 378 then some ⟨(.iaload, 379, .inl 0, 0, 0), by subst h; exact ⟨dL_law_378, rfl, trivial⟩⟩ else none
        else
         bif Nat.blt pc 382 then
          if h : pc = 379 then some ⟨(.invokevirtual 47, 382, .inl 0, 149, 0), by subst h; exact ⟨dL_law_379, rfl, ⟨by decide, q980, q981, q982, _, rfl, rfl⟩⟩⟩ else none
         else
          bif Nat.blt pc 383 then
           if h : pc = 382 then some ⟨(.aload_n 2, 383, .inl 0, 0, 0), by subst h; exact ⟨dL_law_382, rfl, trivial⟩⟩ else none
          else
           if h : pc = 383 then some ⟨(.aload_n 0, 384, .inl 0, 0, 0), by subst h; exact ⟨dL_law_383, rfl, trivial⟩⟩ else none
       else
        bif Nat.blt pc 387 then
         bif Nat.blt pc 385 then
          if h : pc = 384 then some ⟨(.iload_n 3, 385, .inl 0, 0, 0), by subst h; exact ⟨dL_law_384, rfl, trivial⟩⟩ else none
         else
          bif Nat.blt pc 386 then
           if h : pc = 385 then some ⟨(.iconst 1, 386, .inl 1, 0, 0), by subst h; exact ⟨dL_law_385, rfl, ⟨1, rfl, by decide⟩⟩⟩ else none
          else
           if h : pc = 386 then some ⟨(.iadd, 387, .inl 0, 0, 0), by subst h; exact ⟨dL_law_386, rfl, trivial⟩⟩ else none
        else
         bif Nat.blt pc 388 then
          if h : pc = 387 then some ⟨(.iaload, 388, .inl 0, 0, 0), by subst h; exact ⟨dL_law_387, rfl, trivial⟩⟩ else none
         else
          bif Nat.blt pc 391 then
           if h : pc = 388 then some ⟨(.invokevirtual 50, 391, .inl 0, 67, 14), by subst h; exact ⟨dL_law_388, rfl, ⟨by decide, q1747, q1748, q1749, _, rfl, rfl⟩⟩⟩ else none
          else
           if h : pc = 391 then some ⟨(.if_icmp .eq 697, 394, .inl 0, 1088, 0), by subst h; exact ⟨dL_law_391, rfl, (show ((391 : Nat) : Int) + (697) = ((1088 : Nat) : Int) by decide)⟩⟩ else none
      else
       bif Nat.blt pc 404 then
        bif Nat.blt pc 397 then
         bif Nat.blt pc 395 then
          if h : pc = 394 then some ⟨(.iconst 0, 395, .inl 0, 0, 0), by subst h; exact ⟨dL_law_394, rfl, ⟨0, rfl, by decide⟩⟩⟩ else none
         else
          bif Nat.blt pc 396 then
           if h : pc = 395 then some ⟨(.ireturn, 396, .inl 0, 1, 0), by subst h; exact ⟨dL_law_395, rfl, rfl⟩⟩ else none
          else
           if h : pc = 396 then some ⟨(.aload_n 1, 397, .inl 0, 0, 0), by subst h; exact ⟨dL_law_396, rfl, trivial⟩⟩ else none
        else
         bif Nat.blt pc 400 then
          if h : pc = 397 then some ⟨(.invokevirtual 51, 400, .inl 0, 153, 0), by subst h; exact ⟨dL_law_397, rfl, ⟨by decide, q1001, q1002, q1003, _, rfl, rfl⟩⟩⟩ else none
         else
          bif Nat.blt pc 401 then
           if h : pc = 400 then some ⟨(.aload_n 2, 401, .inl 0, 0, 0), by subst h; exact ⟨dL_law_400, rfl, trivial⟩⟩ else none
          else
           if h : pc = 401 then some ⟨(.invokevirtual 54, 404, .inl 0, 71, 14), by subst h; exact ⟨dL_law_401, rfl, ⟨by decide, q1764, q1765, q1766, _, rfl, rfl⟩⟩⟩ else none
       else
        bif Nat.blt pc 409 then
         bif Nat.blt pc 407 then
          if h : pc = 404 then some ⟨(.if_icmp .eq 684, 407, .inl 0, 1088, 0), by subst h; exact ⟨dL_law_404, rfl, (show ((404 : Nat) : Int) + (684) = ((1088 : Nat) : Int) by decide)⟩⟩ else none
         else
          bif Nat.blt pc 408 then
           if h : pc = 407 then some ⟨(.iconst 0, 408, .inl 0, 0, 0), by subst h; exact ⟨dL_law_407, rfl, ⟨0, rfl, by decide⟩⟩⟩ else none
          else
           if h : pc = 408 then some ⟨(.ireturn, 409, .inl 0, 1, 0), by subst h; exact ⟨dL_law_408, rfl, rfl⟩⟩ else none
        else
         bif Nat.blt pc 410 then
          if h : pc = 409 then some ⟨(.aload_n 1, 410, .inl 0, 0, 0), by subst h; exact ⟨dL_law_409, rfl, trivial⟩⟩ else none
         else
          bif Nat.blt pc 411 then
           if h : pc = 410 then some ⟨(.aload_n 0, 411, .inl 0, 0, 0), by subst h; exact ⟨dL_law_410, rfl, trivial⟩⟩ else none
          else
           if h : pc = 411 then some ⟨(.iload_n 3, 412, .inl 0, 0, 0), by subst h; exact ⟨dL_law_411, rfl, trivial⟩⟩ else none
     else
      bif Nat.blt pc 430 then
       bif Nat.blt pc 420 then
        bif Nat.blt pc 415 then
         bif Nat.blt pc 413 then
          if h : pc = 412 then some ⟨(.iconst 1, 413, .inl 1, 0, 0), by subst h; exact ⟨dL_law_412, rfl, ⟨1, rfl, by decide⟩⟩⟩ else none
         else
          bif Nat.blt pc 414 then
           if h : pc = 413 then some ⟨(.iadd, 414, .inl 0, 0, 0), by subst h; exact ⟨dL_law_413, rfl, trivial⟩⟩ else none
          else
           if h : pc = 414 then some ⟨(.iaload, 415, .inl 0, 0, 0), by subst h; exact ⟨dL_law_414, rfl, trivial⟩⟩ else none
        else
         bif Nat.blt pc 418 then
          if h : pc = 415 then some ⟨(.invokevirtual 55, 418, .inl 0, 155, 0), by subst h; exact ⟨dL_law_415, rfl, ⟨by decide, q1009, q1010, q1011, _, rfl, rfl⟩⟩⟩ else none
         else
          bif Nat.blt pc 419 then
           if h : pc = 418 then some ⟨(.aload_n 2, 419, .inl 0, 0, 0), by subst h; exact ⟨dL_law_418, rfl, trivial⟩⟩ else none
          else
           if h : pc = 419 then some ⟨(.aload_n 0, 420, .inl 0, 0, 0), by subst h; exact ⟨dL_law_419, rfl, trivial⟩⟩ else none
       else
        bif Nat.blt pc 423 then
         bif Nat.blt pc 421 then
          if h : pc = 420 then some ⟨(.iload_n 3, 421, .inl 0, 0, 0), by subst h; exact ⟨dL_law_420, rfl, trivial⟩⟩ else none
         else
          bif Nat.blt pc 422 then
           if h : pc = 421 then some ⟨(.iconst 1, 422, .inl 1, 0, 0), by subst h; exact ⟨dL_law_421, rfl, ⟨1, rfl, by decide⟩⟩⟩ else none
          else
           if h : pc = 422 then some ⟨(.iadd, 423, .inl 0, 0, 0), by subst h; exact ⟨dL_law_422, rfl, trivial⟩⟩ else none
        else
         bif Nat.blt pc 424 then
          if h : pc = 423 then some ⟨(.iaload, 424, .inl 0, 0, 0), by subst h; exact ⟨dL_law_423, rfl, trivial⟩⟩ else none
         else
          bif Nat.blt pc 427 then
           if h : pc = 424 then some ⟨(.invokevirtual 58, 427, .inl 0, 73, 14), by subst h; exact ⟨dL_law_424, rfl, ⟨by decide, q1772, q1773, q1774, _, rfl, rfl⟩⟩⟩ else none
          else
           if h : pc = 427 then some ⟨(.if_icmp .eq 661, 430, .inl 0, 1088, 0), by subst h; exact ⟨dL_law_427, rfl, (show ((427 : Nat) : Int) + (661) = ((1088 : Nat) : Int) by decide)⟩⟩ else none
      else
       bif Nat.blt pc 436 then
        bif Nat.blt pc 433 then
         bif Nat.blt pc 431 then
          if h : pc = 430 then some ⟨(.iconst 0, 431, .inl 0, 0, 0), by subst h; exact ⟨dL_law_430, rfl, ⟨0, rfl, by decide⟩⟩⟩ else none
         else
          bif Nat.blt pc 432 then
           if h : pc = 431 then some ⟨(.ireturn, 432, .inl 0, 1, 0), by subst h; exact ⟨dL_law_431, rfl, rfl⟩⟩ else none
          else
           if h : pc = 432 then some ⟨(.aload_n 1, 433, .inl 0, 0, 0), by subst h; exact ⟨dL_law_432, rfl, trivial⟩⟩ else none
        else
         bif Nat.blt pc 434 then
          if h : pc = 433 then some ⟨(.aload_n 0, 434, .inl 0, 0, 0), by subst h; exact ⟨dL_law_433, rfl, trivial⟩⟩ else none
         else
          bif Nat.blt pc 435 then
           if h : pc = 434 then some ⟨(.iload_n 3, 435, .inl 0, 0, 0), by subst h; exact ⟨dL_law_434, rfl, trivial⟩⟩ else none
          else
           if h : pc = 435 then some ⟨(.iconst 1, 436, .inl 1, 0, 0), by subst h; exact ⟨dL_law_435, rfl, ⟨1, rfl, by decide⟩⟩⟩ else none
       else
        bif Nat.blt pc 439 then
         bif Nat.blt pc 437 then
          if h : pc = 436 then some ⟨(.iadd, 437, .inl 0, 0, 0), by subst h; exact ⟨dL_law_436, rfl, trivial⟩⟩ else none
         else
          bif Nat.blt pc 438 then
           if h : pc = 437 then some ⟨(.iaload, 438, .inl 0, 0, 0), by subst h; exact ⟨dL_law_437, rfl, trivial⟩⟩ else none
          else
           if h : pc = 438 then some ⟨(.aload_n 0, 439, .inl 0, 0, 0), by subst h; exact ⟨dL_law_438, rfl, trivial⟩⟩ else none
        else
         bif Nat.blt pc 441 then
          bif Nat.blt pc 440 then
           if h : pc = 439 then some ⟨(.iload_n 3, 440, .inl 0, 0, 0), by subst h; exact ⟨dL_law_439, rfl, trivial⟩⟩ else none
          else
           if h : pc = 440 then some ⟨(.iconst 2, 441, .inl 2, 0, 0), by subst h; exact ⟨dL_law_440, rfl, ⟨2, rfl, by decide⟩⟩⟩ else none
         else
          bif Nat.blt pc 442 then
           if h : pc = 441 then some ⟨(.iadd, 442, .inl 0, 0, 0), by subst h; exact ⟨dL_law_441, rfl, trivial⟩⟩ else none
          else
           if h : pc = 442 then some ⟨(.iaload, 443, .inl 0, 0, 0), by subst h; exact ⟨dL_law_442, rfl, trivial⟩⟩ else none
    else
     bif Nat.blt pc 473 then
      bif Nat.blt pc 457 then
       bif Nat.blt pc 451 then
        bif Nat.blt pc 446 then
         bif Nat.blt pc 444 then
          if h : pc = 443 then some ⟨(.aload_n 0, 444, .inl 0, 0, 0), by subst h; exact ⟨dL_law_443, rfl, trivial⟩⟩ else none
         else
          bif Nat.blt pc 445 then
           if h : pc = 444 then some ⟨(.iload_n 3, 445, .inl 0, 0, 0), by subst h; exact ⟨dL_law_444, rfl, trivial⟩⟩ else none
          else
           if h : pc = 445 then some ⟨(.iconst 3, 446, .inl 3, 0, 0), by subst h; exact ⟨dL_law_445, rfl, ⟨3, rfl, by decide⟩⟩⟩ else none
        else
         bif Nat.blt pc 447 then
          if h : pc = 446 then some ⟨(.iadd, 447, .inl 0, 0, 0), by subst h; exact ⟨dL_law_446, rfl, trivial⟩⟩ else none
         else
          bif Nat.blt pc 448 then
           if h : pc = 447 then some ⟨(.iaload, 448, .inl 0, 0, 0), by subst h; exact ⟨dL_law_447, rfl, trivial⟩⟩ else none
          else
           if h : pc = 448 then some ⟨(.invokevirtual 59, 451, .inl 0, 156, 0), by subst h; exact ⟨dL_law_448, rfl, ⟨by decide, q1013, q1014, q1015, _, rfl, rfl⟩⟩⟩ else none
       else
        bif Nat.blt pc 454 then
         bif Nat.blt pc 452 then
          if h : pc = 451 then some ⟨(.aload_n 2, 452, .inl 0, 0, 0), by subst h; exact ⟨dL_law_451, rfl, trivial⟩⟩ else none
         else
          bif Nat.blt pc 453 then
           if h : pc = 452 then some ⟨(.aload_n 0, 453, .inl 0, 0, 0), by subst h; exact ⟨dL_law_452, rfl, trivial⟩⟩ else none
          else
           if h : pc = 453 then some ⟨(.iload_n 3, 454, .inl 0, 0, 0), by subst h; exact ⟨dL_law_453, rfl, trivial⟩⟩ else none
        else
         bif Nat.blt pc 455 then
          if h : pc = 454 then some ⟨(.iconst 1, 455, .inl 1, 0, 0), by subst h; exact ⟨dL_law_454, rfl, ⟨1, rfl, by decide⟩⟩⟩ else none
         else
          bif Nat.blt pc 456 then
           if h : pc = 455 then some ⟨(.iadd, 456, .inl 0, 0, 0), by subst h; exact ⟨dL_law_455, rfl, trivial⟩⟩ else none
          else
           if h : pc = 456 then some ⟨(.iaload, 457, .inl 0, 0, 0), by subst h; exact ⟨dL_law_456, rfl, trivial⟩⟩ else none
      else
       bif Nat.blt pc 463 then
        bif Nat.blt pc 460 then
         bif Nat.blt pc 458 then
          if h : pc = 457 then some ⟨(.aload_n 0, 458, .inl 0, 0, 0), by subst h; exact ⟨dL_law_457, rfl, trivial⟩⟩ else none
         else
          bif Nat.blt pc 459 then
           if h : pc = 458 then some ⟨(.iload_n 3, 459, .inl 0, 0, 0), by subst h; exact ⟨dL_law_458, rfl, trivial⟩⟩ else none
          else
           if h : pc = 459 then some ⟨(.iconst 2, 460, .inl 2, 0, 0), by subst h; exact ⟨dL_law_459, rfl, ⟨2, rfl, by decide⟩⟩⟩ else none
        else
         bif Nat.blt pc 461 then
          if h : pc = 460 then some ⟨(.iadd, 461, .inl 0, 0, 0), by subst h; exact ⟨dL_law_460, rfl, trivial⟩⟩ else none
         else
          bif Nat.blt pc 462 then
           if h : pc = 461 then some ⟨(.iaload, 462, .inl 0, 0, 0), by subst h; exact ⟨dL_law_461, rfl, trivial⟩⟩ else none
          else
           if h : pc = 462 then some ⟨(.aload_n 0, 463, .inl 0, 0, 0), by subst h; exact ⟨dL_law_462, rfl, trivial⟩⟩ else none
       else
        bif Nat.blt pc 466 then
         bif Nat.blt pc 464 then
          if h : pc = 463 then some ⟨(.iload_n 3, 464, .inl 0, 0, 0), by subst h; exact ⟨dL_law_463, rfl, trivial⟩⟩ else none
         else
          bif Nat.blt pc 465 then
           if h : pc = 464 then some ⟨(.iconst 3, 465, .inl 3, 0, 0), by subst h; exact ⟨dL_law_464, rfl, ⟨3, rfl, by decide⟩⟩⟩ else none
          else
           if h : pc = 465 then some ⟨(.iadd, 466, .inl 0, 0, 0), by subst h; exact ⟨dL_law_465, rfl, trivial⟩⟩ else none
        else
         bif Nat.blt pc 467 then
          if h : pc = 466 then some ⟨(.iaload, 467, .inl 0, 0, 0), by subst h; exact ⟨dL_law_466, rfl, trivial⟩⟩ else none
         else
          bif Nat.blt pc 470 then
           if h : pc = 467 then some ⟨(.invokevirtual 62, 470, .inl 0, 74, 14), by subst h; exact ⟨dL_law_467, rfl, ⟨by decide, q1776, q1777, q1778, _, rfl, rfl⟩⟩⟩ else none
          else
           if h : pc = 470 then some ⟨(.if_icmp .eq 618, 473, .inl 0, 1088, 0), by subst h; exact ⟨dL_law_470, rfl, (show ((470 : Nat) : Int) + (618) = ((1088 : Nat) : Int) by decide)⟩⟩ else none
     else
      bif Nat.blt pc 485 then
       bif Nat.blt pc 479 then
        bif Nat.blt pc 476 then
         bif Nat.blt pc 474 then
          if h : pc = 473 then some ⟨(.iconst 0, 474, .inl 0, 0, 0), by subst h; exact ⟨dL_law_473, rfl, ⟨0, rfl, by decide⟩⟩⟩ else none
         else
          bif Nat.blt pc 475 then
           if h : pc = 474 then some ⟨(.ireturn, 475, .inl 0, 1, 0), by subst h; exact ⟨dL_law_474, rfl, rfl⟩⟩ else none
          else
           if h : pc = 475 then some ⟨(.aload_n 1, 476, .inl 0, 0, 0), by subst h; exact ⟨dL_law_475, rfl, trivial⟩⟩ else none
        else
         bif Nat.blt pc 477 then
          if h : pc = 476 then some ⟨(.aload_n 0, 477, .inl 0, 0, 0), by subst h; exact ⟨dL_law_476, rfl, trivial⟩⟩ else none
         else
          bif Nat.blt pc 478 then
           if h : pc = 477 then some ⟨(.iload_n 3, 478, .inl 0, 0, 0), by subst h; exact ⟨dL_law_477, rfl, trivial⟩⟩ else none
          else
           if h : pc = 478 then some ⟨(.iconst 1, 479, .inl 1, 0, 0), by subst h; exact ⟨dL_law_478, rfl, ⟨1, rfl, by decide⟩⟩⟩ else none
       else
        bif Nat.blt pc 482 then
         bif Nat.blt pc 480 then
          if h : pc = 479 then some ⟨(.iadd, 480, .inl 0, 0, 0), by subst h; exact ⟨dL_law_479, rfl, trivial⟩⟩ else none
         else
          bif Nat.blt pc 481 then
           if h : pc = 480 then some ⟨(.iaload, 481, .inl 0, 0, 0), by subst h; exact ⟨dL_law_480, rfl, trivial⟩⟩ else none
          else
           if h : pc = 481 then some ⟨(.aload_n 0, 482, .inl 0, 0, 0), by subst h; exact ⟨dL_law_481, rfl, trivial⟩⟩ else none
        else
         bif Nat.blt pc 483 then
          if h : pc = 482 then some ⟨(.iload_n 3, 483, .inl 0, 0, 0), by subst h; exact ⟨dL_law_482, rfl, trivial⟩⟩ else none
         else
          bif Nat.blt pc 484 then
           if h : pc = 483 then some ⟨(.iconst 2, 484, .inl 2, 0, 0), by subst h; exact ⟨dL_law_483, rfl, ⟨2, rfl, by decide⟩⟩⟩ else none
          else
           if h : pc = 484 then some ⟨(.iadd, 485, .inl 0, 0, 0), by subst h; exact ⟨dL_law_484, rfl, trivial⟩⟩ else none
      else
       bif Nat.blt pc 493 then
        bif Nat.blt pc 490 then
         bif Nat.blt pc 486 then
          if h : pc = 485 then some ⟨(.iaload, 486, .inl 0, 0, 0), by subst h; exact ⟨dL_law_485, rfl, trivial⟩⟩ else none
         else
          bif Nat.blt pc 489 then
           if h : pc = 486 then some ⟨(.invokevirtual 63, 489, .inl 0, 161, 0), by subst h; exact ⟨dL_law_486, rfl, ⟨by decide, q1034, q1035, q1036, _, rfl, rfl⟩⟩⟩ else none
          else
           if h : pc = 489 then some ⟨(.aload_n 2, 490, .inl 0, 0, 0), by subst h; exact ⟨dL_law_489, rfl, trivial⟩⟩ else none
        else
         bif Nat.blt pc 491 then
          if h : pc = 490 then some ⟨(.aload_n 0, 491, .inl 0, 0, 0), by subst h; exact ⟨dL_law_490, rfl, trivial⟩⟩ else none
         else
          bif Nat.blt pc 492 then
           if h : pc = 491 then some ⟨(.iload_n 3, 492, .inl 0, 0, 0), by subst h; exact ⟨dL_law_491, rfl, trivial⟩⟩ else none
          else
           if h : pc = 492 then some ⟨(.iconst 1, 493, .inl 1, 0, 0), by subst h; exact ⟨dL_law_492, rfl, ⟨1, rfl, by decide⟩⟩⟩ else none
       else
        bif Nat.blt pc 496 then
         bif Nat.blt pc 494 then
          if h : pc = 493 then some ⟨(.iadd, 494, .inl 0, 0, 0), by subst h; exact ⟨dL_law_493, rfl, trivial⟩⟩ else none
         else
          bif Nat.blt pc 495 then
           if h : pc = 494 then some ⟨(.iaload, 495, .inl 0, 0, 0), by subst h; exact ⟨dL_law_494, rfl, trivial⟩⟩ else none
          else
           if h : pc = 495 then some ⟨(.aload_n 0, 496, .inl 0, 0, 0), by subst h; exact ⟨dL_law_495, rfl, trivial⟩⟩ else none
        else
         bif Nat.blt pc 498 then
          bif Nat.blt pc 497 then
           if h : pc = 496 then some ⟨(.iload_n 3, 497, .inl 0, 0, 0), by subst h; exact ⟨dL_law_496, rfl, trivial⟩⟩ else none
          else
           if h : pc = 497 then some ⟨(.iconst 2, 498, .inl 2, 0, 0), by subst h; exact ⟨dL_law_497, rfl, ⟨2, rfl, by decide⟩⟩⟩ else none
         else
          bif Nat.blt pc 499 then
           if h : pc = 498 then some ⟨(.iadd, 499, .inl 0, 0, 0), by subst h; exact ⟨dL_law_498, rfl, trivial⟩⟩ else none
          else
           if h : pc = 499 then some ⟨(.iaload, 500, .inl 0, 0, 0), by subst h; exact ⟨dL_law_499, rfl, trivial⟩⟩ else none
   else
    bif Nat.blt pc 565 then
     bif Nat.blt pc 530 then
      bif Nat.blt pc 516 then
       bif Nat.blt pc 510 then
        bif Nat.blt pc 507 then
         bif Nat.blt pc 503 then
          if h : pc = 500 then some ⟨(.invokevirtual 66, 503, .inl 0, 78, 14), by subst h; exact ⟨dL_law_500, rfl, ⟨by decide, q1792, q1793, q1794, _, rfl, rfl⟩⟩⟩ else none
         else
          bif Nat.blt pc 504 then
           if h : pc = 503 then some ⟨(.lcmp, 504, .inl 0, 0, 0), by subst h; exact ⟨dL_law_503, rfl, trivial⟩⟩ else none
          else
           if h : pc = 504 then some ⟨(.ifCond .eq 584, 507, .inl 0, 1088, 0), by subst h; exact ⟨dL_law_504, rfl, (show ((504 : Nat) : Int) + (584) = ((1088 : Nat) : Int) by decide)⟩⟩ else none
        else
         bif Nat.blt pc 508 then
          if h : pc = 507 then some ⟨(.iconst 0, 508, .inl 0, 0, 0), by subst h; exact ⟨dL_law_507, rfl, ⟨0, rfl, by decide⟩⟩⟩ else none
         else
          bif Nat.blt pc 509 then
           if h : pc = 508 then some ⟨(.ireturn, 509, .inl 0, 1, 0), by subst h; exact ⟨dL_law_508, rfl, rfl⟩⟩ else none
          else
           if h : pc = 509 then some ⟨(.aload_n 1, 510, .inl 0, 0, 0), by subst h; exact ⟨dL_law_509, rfl, trivial⟩⟩ else none
       else
        bif Nat.blt pc 513 then
         bif Nat.blt pc 511 then
          if h : pc = 510 then some ⟨(.aload_n 0, 511, .inl 0, 0, 0), by subst h; exact ⟨dL_law_510, rfl, trivial⟩⟩ else none
         else
          bif Nat.blt pc 512 then
           if h : pc = 511 then some ⟨(.iload_n 3, 512, .inl 0, 0, 0), by subst h; exact ⟨dL_law_511, rfl, trivial⟩⟩ else none
          else
           if h : pc = 512 then some ⟨(.iconst 1, 513, .inl 1, 0, 0), by subst h; exact ⟨dL_law_512, rfl, ⟨1, rfl, by decide⟩⟩⟩ else none
        else
         bif Nat.blt pc 514 then
          if h : pc = 513 then some ⟨(.iadd, 514, .inl 0, 0, 0), by subst h; exact ⟨dL_law_513, rfl, trivial⟩⟩ else none
         else
          bif Nat.blt pc 515 then
           if h : pc = 514 then some ⟨(.iaload, 515, .inl 0, 0, 0), by subst h; exact ⟨dL_law_514, rfl, trivial⟩⟩ else none
          else
           if h : pc = 515 then some ⟨(.aload_n 0, 516, .inl 0, 0, 0), by subst h; exact ⟨dL_law_515, rfl, trivial⟩⟩ else none
      else
       bif Nat.blt pc 524 then
        bif Nat.blt pc 519 then
         bif Nat.blt pc 517 then
          if h : pc = 516 then some ⟨(.iload_n 3, 517, .inl 0, 0, 0), by subst h; exact ⟨dL_law_516, rfl, trivial⟩⟩ else none
         else
          bif Nat.blt pc 518 then
           if h : pc = 517 then some ⟨(.iconst 2, 518, .inl 2, 0, 0), by subst h; exact ⟨dL_law_517, rfl, ⟨2, rfl, by decide⟩⟩⟩ else none
          else
           if h : pc = 518 then some ⟨(.iadd, 519, .inl 0, 0, 0), by subst h; exact ⟨dL_law_518, rfl, trivial⟩⟩ else none
        else
         bif Nat.blt pc 520 then
          if h : pc = 519 then some ⟨(.iaload, 520, .inl 0, 0, 0), by subst h; exact ⟨dL_law_519, rfl, trivial⟩⟩ else none
         else
          bif Nat.blt pc 523 then
           if h : pc = 520 then some ⟨(.invokevirtual 67, 523, .inl 0, 162, 0), by subst h; exact ⟨dL_law_520, rfl, ⟨by decide, q1038, q1039, q1040, _, rfl, rfl⟩⟩⟩ else none
          else
           if h : pc = 523 then some ⟨(.aload_n 2, 524, .inl 0, 0, 0), by subst h; exact ⟨dL_law_523, rfl, trivial⟩⟩ else none
       else
        bif Nat.blt pc 527 then
         bif Nat.blt pc 525 then
          if h : pc = 524 then some ⟨(.aload_n 0, 525, .inl 0, 0, 0), by subst h; exact ⟨dL_law_524, rfl, trivial⟩⟩ else none
         else
          bif Nat.blt pc 526 then
           if h : pc = 525 then some ⟨(.iload_n 3, 526, .inl 0, 0, 0), by subst h; exact ⟨dL_law_525, rfl, trivial⟩⟩ else none
          else
           if h : pc = 526 then some ⟨(.iconst 1, 527, .inl 1, 0, 0), by subst h; exact ⟨dL_law_526, rfl, ⟨1, rfl, by decide⟩⟩⟩ else none
        else
         bif Nat.blt pc 528 then
          if h : pc = 527 then some ⟨(.iadd, 528, .inl 0, 0, 0), by subst h; exact ⟨dL_law_527, rfl, trivial⟩⟩ else none
         else
          bif Nat.blt pc 529 then
           if h : pc = 528 then some ⟨(.iaload, 529, .inl 0, 0, 0), by subst h; exact ⟨dL_law_528, rfl, trivial⟩⟩ else none
          else
           if h : pc = 529 then some ⟨(.aload_n 0, 530, .inl 0, 0, 0), by subst h; exact ⟨dL_law_529, rfl, trivial⟩⟩ else none
     else
      bif Nat.blt pc 546 then
       bif Nat.blt pc 540 then
        bif Nat.blt pc 533 then
         bif Nat.blt pc 531 then
          if h : pc = 530 then some ⟨(.iload_n 3, 531, .inl 0, 0, 0), by subst h; exact ⟨dL_law_530, rfl, trivial⟩⟩ else none
         else
          bif Nat.blt pc 532 then
           if h : pc = 531 then some ⟨(.iconst 2, 532, .inl 2, 0, 0), by subst h; exact ⟨dL_law_531, rfl, ⟨2, rfl, by decide⟩⟩⟩ else none
          else
           if h : pc = 532 then some ⟨(.iadd, 533, .inl 0, 0, 0), by subst h; exact ⟨dL_law_532, rfl, trivial⟩⟩ else none
        else
         bif Nat.blt pc 534 then
          if h : pc = 533 then some ⟨(.iaload, 534, .inl 0, 0, 0), by subst h; exact ⟨dL_law_533, rfl, trivial⟩⟩ else none
         else
          bif Nat.blt pc 537 then
           if h : pc = 534 then some ⟨(.invokevirtual 70, 537, .inl 0, 79, 14), by subst h; exact ⟨dL_law_534, rfl, ⟨by decide, q1796, q1797, q1798, _, rfl, rfl⟩⟩⟩ else none
          else
           if h : pc = 537 then some ⟨(.if_icmp .eq 551, 540, .inl 0, 1088, 0), by subst h; exact ⟨dL_law_537, rfl, (show ((537 : Nat) : Int) + (551) = ((1088 : Nat) : Int) by decide)⟩⟩ else none
       else
        bif Nat.blt pc 543 then
         bif Nat.blt pc 541 then
          if h : pc = 540 then some ⟨(.iconst 0, 541, .inl 0, 0, 0), by subst h; exact ⟨dL_law_540, rfl, ⟨0, rfl, by decide⟩⟩⟩ else none
         else
          bif Nat.blt pc 542 then
           if h : pc = 541 then some ⟨(.ireturn, 542, .inl 0, 1, 0), by subst h; exact ⟨dL_law_541, rfl, rfl⟩⟩ else none
          else
           if h : pc = 542 then some ⟨(.aload_n 1, 543, .inl 0, 0, 0), by subst h; exact ⟨dL_law_542, rfl, trivial⟩⟩ else none
        else
         bif Nat.blt pc 544 then
          if h : pc = 543 then some ⟨(.aload_n 0, 544, .inl 0, 0, 0), by subst h; exact ⟨dL_law_543, rfl, trivial⟩⟩ else none
         else
          bif Nat.blt pc 545 then
           if h : pc = 544 then some ⟨(.iload_n 3, 545, .inl 0, 0, 0), by subst h; exact ⟨dL_law_544, rfl, trivial⟩⟩ else none
          else
           if h : pc = 545 then some ⟨(.iconst 1, 546, .inl 1, 0, 0), by subst h; exact ⟨dL_law_545, rfl, ⟨1, rfl, by decide⟩⟩⟩ else none
      else
       bif Nat.blt pc 554 then
        bif Nat.blt pc 551 then
         bif Nat.blt pc 547 then
          if h : pc = 546 then some ⟨(.iadd, 547, .inl 0, 0, 0), by subst h; exact ⟨dL_law_546, rfl, trivial⟩⟩ else none
         else
          bif Nat.blt pc 548 then
           if h : pc = 547 then some ⟨(.iaload, 548, .inl 0, 0, 0), by subst h; exact ⟨dL_law_547, rfl, trivial⟩⟩ else none
          else
           if h : pc = 548 then some ⟨(.invokevirtual 71, 551, .inl 0, 165, 0), by subst h; exact ⟨dL_law_548, rfl, ⟨by decide, q1050, q1051, q1052, _, rfl, rfl⟩⟩⟩ else none
        else
         bif Nat.blt pc 552 then
          if h : pc = 551 then some ⟨(.aload_n 2, 552, .inl 0, 0, 0), by subst h; exact ⟨dL_law_551, rfl, trivial⟩⟩ else none
         else
          bif Nat.blt pc 553 then
           if h : pc = 552 then some ⟨(.aload_n 0, 553, .inl 0, 0, 0), by subst h; exact ⟨dL_law_552, rfl, trivial⟩⟩ else none
          else
           if h : pc = 553 then some ⟨(.iload_n 3, 554, .inl 0, 0, 0), by subst h; exact ⟨dL_law_553, rfl, trivial⟩⟩ else none
       else
        bif Nat.blt pc 557 then
         bif Nat.blt pc 555 then
          if h : pc = 554 then some ⟨(.iconst 1, 555, .inl 1, 0, 0), by subst h; exact ⟨dL_law_554, rfl, ⟨1, rfl, by decide⟩⟩⟩ else none
         else
          bif Nat.blt pc 556 then
           if h : pc = 555 then some ⟨(.iadd, 556, .inl 0, 0, 0), by subst h; exact ⟨dL_law_555, rfl, trivial⟩⟩ else none
          else
           if h : pc = 556 then some ⟨(.iaload, 557, .inl 0, 0, 0), by subst h; exact ⟨dL_law_556, rfl, trivial⟩⟩ else none
        else
         bif Nat.blt pc 563 then
          bif Nat.blt pc 560 then
           if h : pc = 557 then some ⟨(.invokevirtual 74, 560, .inl 0, 80, 14), by subst h; exact ⟨dL_law_557, rfl, ⟨by decide, q1800, q1801, q1802, _, rfl, rfl⟩⟩⟩ else none
          else
           if h : pc = 560 then some ⟨(.if_icmp .eq 528, 563, .inl 0, 1088, 0), by subst h; exact ⟨dL_law_560, rfl, (show ((560 : Nat) : Int) + (528) = ((1088 : Nat) : Int) by decide)⟩⟩ else none
         else
          bif Nat.blt pc 564 then
           if h : pc = 563 then some ⟨(.iconst 0, 564, .inl 0, 0, 0), by subst h; exact ⟨dL_law_563, rfl, ⟨0, rfl, by decide⟩⟩⟩ else none
          else
           if h : pc = 564 then some ⟨(.ireturn, 565, .inl 0, 1, 0), by subst h; exact ⟨dL_law_564, rfl, rfl⟩⟩ else none
    else
     bif Nat.blt pc 592 then
      bif Nat.blt pc 577 then
       bif Nat.blt pc 571 then
        bif Nat.blt pc 568 then
         bif Nat.blt pc 566 then
          if h : pc = 565 then some ⟨(.aload_n 1, 566, .inl 0, 0, 0), by subst h; exact ⟨dL_law_565, rfl, trivial⟩⟩ else none
         else
          bif Nat.blt pc 567 then
           if h : pc = 566 then some ⟨(.aload_n 0, 567, .inl 0, 0, 0), by subst h; exact ⟨dL_law_566, rfl, trivial⟩⟩ else none
          else
           if h : pc = 567 then some ⟨(.iload_n 3, 568, .inl 0, 0, 0), by subst h; exact ⟨dL_law_567, rfl, trivial⟩⟩ else none
        else
         bif Nat.blt pc 569 then
          if h : pc = 568 then some ⟨(.iconst 1, 569, .inl 1, 0, 0), by subst h; exact ⟨dL_law_568, rfl, ⟨1, rfl, by decide⟩⟩⟩ else none
         else
          bif Nat.blt pc 570 then
           if h : pc = 569 then some ⟨(.iadd, 570, .inl 0, 0, 0), by subst h; exact ⟨dL_law_569, rfl, trivial⟩⟩ else none
          else
           if h : pc = 570 then some ⟨(.iaload, 571, .inl 0, 0, 0), by subst h; exact ⟨dL_law_570, rfl, trivial⟩⟩ else none
       else
        bif Nat.blt pc 574 then
         bif Nat.blt pc 572 then
          if h : pc = 571 then some ⟨(.aload_n 0, 572, .inl 0, 0, 0), by subst h; exact ⟨dL_law_571, rfl, trivial⟩⟩ else none
         else
          bif Nat.blt pc 573 then
           if h : pc = 572 then some ⟨(.iload_n 3, 573, .inl 0, 0, 0), by subst h; exact ⟨dL_law_572, rfl, trivial⟩⟩ else none
          else
           if h : pc = 573 then some ⟨(.iconst 2, 574, .inl 2, 0, 0), by subst h; exact ⟨dL_law_573, rfl, ⟨2, rfl, by decide⟩⟩⟩ else none
        else
         bif Nat.blt pc 575 then
          if h : pc = 574 then some ⟨(.iadd, 575, .inl 0, 0, 0), by subst h; exact ⟨dL_law_574, rfl, trivial⟩⟩ else none
         else
          bif Nat.blt pc 576 then
           if h : pc = 575 then some ⟨(.iaload, 576, .inl 0, 0, 0), by subst h; exact ⟨dL_law_575, rfl, trivial⟩⟩ else none
          else
           if h : pc = 576 then some ⟨(.aload_n 0, 577, .inl 0, 0, 0), by subst h; exact ⟨dL_law_576, rfl, trivial⟩⟩ else none
      else
       bif Nat.blt pc 585 then
        bif Nat.blt pc 580 then
         bif Nat.blt pc 578 then
          if h : pc = 577 then some ⟨(.iload_n 3, 578, .inl 0, 0, 0), by subst h; exact ⟨dL_law_577, rfl, trivial⟩⟩ else none
         else
          bif Nat.blt pc 579 then
           if h : pc = 578 then some ⟨(.iconst 3, 579, .inl 3, 0, 0), by subst h; exact ⟨dL_law_578, rfl, ⟨3, rfl, by decide⟩⟩⟩ else none
          else
           if h : pc = 579 then some ⟨(.iadd, 580, .inl 0, 0, 0), by subst h; exact ⟨dL_law_579, rfl, trivial⟩⟩ else none
        else
         bif Nat.blt pc 581 then
          if h : pc = 580 then some ⟨(.iaload, 581, .inl 0, 0, 0), by subst h; exact ⟨dL_law_580, rfl, trivial⟩⟩ else none
         else
          bif Nat.blt pc 584 then
           if h : pc = 581 then some ⟨(.invokevirtual 75, 584, .inl 0, 172, 0), by subst h; exact ⟨dL_law_581, rfl, ⟨by decide, q1091, q1092, q1093, _, rfl, rfl⟩⟩⟩ else none
          else
           if h : pc = 584 then some ⟨(.aload_n 2, 585, .inl 0, 0, 0), by subst h; exact ⟨dL_law_584, rfl, trivial⟩⟩ else none
       else
        bif Nat.blt pc 588 then
         bif Nat.blt pc 586 then
          if h : pc = 585 then some ⟨(.aload_n 0, 586, .inl 0, 0, 0), by subst h; exact ⟨dL_law_585, rfl, trivial⟩⟩ else none
         else
          bif Nat.blt pc 587 then
           if h : pc = 586 then some ⟨(.iload_n 3, 587, .inl 0, 0, 0), by subst h; exact ⟨dL_law_586, rfl, trivial⟩⟩ else none
          else
           if h : pc = 587 then some ⟨(.iconst 1, 588, .inl 1, 0, 0), by subst h; exact ⟨dL_law_587, rfl, ⟨1, rfl, by decide⟩⟩⟩ else none
        else
         bif Nat.blt pc 590 then
          bif Nat.blt pc 589 then
           if h : pc = 588 then some ⟨(.iadd, 589, .inl 0, 0, 0), by subst h; exact ⟨dL_law_588, rfl, trivial⟩⟩ else none
          else
           if h : pc = 589 then some ⟨(.iaload, 590, .inl 0, 0, 0), by subst h; exact ⟨dL_law_589, rfl, trivial⟩⟩ else none
         else
          bif Nat.blt pc 591 then
           if h : pc = 590 then some ⟨(.aload_n 0, 591, .inl 0, 0, 0), by subst h; exact ⟨dL_law_590, rfl, trivial⟩⟩ else none
          else
           if h : pc = 591 then some ⟨(.iload_n 3, 592, .inl 0, 0, 0), by subst h; exact ⟨dL_law_591, rfl, trivial⟩⟩ else none
     else
      bif Nat.blt pc 608 then
       bif Nat.blt pc 598 then
        bif Nat.blt pc 595 then
         bif Nat.blt pc 593 then
          if h : pc = 592 then some ⟨(.iconst 2, 593, .inl 2, 0, 0), by subst h; exact ⟨dL_law_592, rfl, ⟨2, rfl, by decide⟩⟩⟩ else none
         else
          bif Nat.blt pc 594 then
           if h : pc = 593 then some ⟨(.iadd, 594, .inl 0, 0, 0), by subst h; exact ⟨dL_law_593, rfl, trivial⟩⟩ else none
          else
           if h : pc = 594 then some ⟨(.iaload, 595, .inl 0, 0, 0), by subst h; exact ⟨dL_law_594, rfl, trivial⟩⟩ else none
        else
         bif Nat.blt pc 596 then
          if h : pc = 595 then some ⟨(.aload_n 0, 596, .inl 0, 0, 0), by subst h; exact ⟨dL_law_595, rfl, trivial⟩⟩ else none
         else
          bif Nat.blt pc 597 then
           if h : pc = 596 then some ⟨(.iload_n 3, 597, .inl 0, 0, 0), by subst h; exact ⟨dL_law_596, rfl, trivial⟩⟩ else none
          else
           if h : pc = 597 then some ⟨(.iconst 3, 598, .inl 3, 0, 0), by subst h; exact ⟨dL_law_597, rfl, ⟨3, rfl, by decide⟩⟩⟩ else none
       else
        bif Nat.blt pc 603 then
         bif Nat.blt pc 599 then
          if h : pc = 598 then some ⟨(.iadd, 599, .inl 0, 0, 0), by subst h; exact ⟨dL_law_598, rfl, trivial⟩⟩ else none
         else
          bif Nat.blt pc 600 then
           if h : pc = 599 then some ⟨(.iaload, 600, .inl 0, 0, 0), by subst h; exact ⟨dL_law_599, rfl, trivial⟩⟩ else none
          else
           if h : pc = 600 then some ⟨(.invokevirtual 78, 603, .inl 0, 87, 14), by subst h; exact ⟨dL_law_600, rfl, ⟨by decide, q1828, q1829, q1830, _, rfl, rfl⟩⟩⟩ else none
        else
         bif Nat.blt pc 606 then
          if h : pc = 603 then some ⟨(.if_icmp .eq 485, 606, .inl 0, 1088, 0), by subst h; exact ⟨dL_law_603, rfl, (show ((603 : Nat) : Int) + (485) = ((1088 : Nat) : Int) by decide)⟩⟩ else none
         else
          bif Nat.blt pc 607 then
           if h : pc = 606 then some ⟨(.iconst 0, 607, .inl 0, 0, 0), by subst h; exact ⟨dL_law_606, rfl, ⟨0, rfl, by decide⟩⟩⟩ else none
          else
           if h : pc = 607 then some ⟨(.ireturn, 608, .inl 0, 1, 0), by subst h; exact ⟨dL_law_607, rfl, rfl⟩⟩ else none
      else
       bif Nat.blt pc 614 then
        bif Nat.blt pc 611 then
         bif Nat.blt pc 609 then
          if h : pc = 608 then some ⟨(.aload_n 1, 609, .inl 0, 0, 0), by subst h; exact ⟨dL_law_608, rfl, trivial⟩⟩ else none
         else
          bif Nat.blt pc 610 then
           if h : pc = 609 then some ⟨(.aload_n 0, 610, .inl 0, 0, 0), by subst h; exact ⟨dL_law_609, rfl, trivial⟩⟩ else none
          else
           if h : pc = 610 then some ⟨(.iload_n 3, 611, .inl 0, 0, 0), by subst h; exact ⟨dL_law_610, rfl, trivial⟩⟩ else none
        else
         bif Nat.blt pc 612 then
          if h : pc = 611 then some ⟨(.iconst 1, 612, .inl 1, 0, 0), by subst h; exact ⟨dL_law_611, rfl, ⟨1, rfl, by decide⟩⟩⟩ else none
         else
          bif Nat.blt pc 613 then
           if h : pc = 612 then some ⟨(.iadd, 613, .inl 0, 0, 0), by subst h; exact ⟨dL_law_612, rfl, trivial⟩⟩ else none
          else
           if h : pc = 613 then some ⟨(.iaload, 614, .inl 0, 0, 0), by subst h; exact ⟨dL_law_613, rfl, trivial⟩⟩ else none
       else
        bif Nat.blt pc 617 then
         bif Nat.blt pc 615 then
          if h : pc = 614 then some ⟨(.aload_n 0, 615, .inl 0, 0, 0), by subst h; exact ⟨dL_law_614, rfl, trivial⟩⟩ else none
         else
          bif Nat.blt pc 616 then
           if h : pc = 615 then some ⟨(.iload_n 3, 616, .inl 0, 0, 0), by subst h; exact ⟨dL_law_615, rfl, trivial⟩⟩ else none
          else
           if h : pc = 616 then some ⟨(.iconst 2, 617, .inl 2, 0, 0), by subst h; exact ⟨dL_law_616, rfl, ⟨2, rfl, by decide⟩⟩⟩ else none
        else
         bif Nat.blt pc 619 then
          bif Nat.blt pc 618 then
           if h : pc = 617 then some ⟨(.iadd, 618, .inl 0, 0, 0), by subst h; exact ⟨dL_law_617, rfl, trivial⟩⟩ else none
          else
           if h : pc = 618 then some ⟨(.iaload, 619, .inl 0, 0, 0), by subst h; exact ⟨dL_law_618, rfl, trivial⟩⟩ else none
         else
          bif Nat.blt pc 622 then
           if h : pc = 619 then some ⟨(.invokevirtual 79, 622, .inl 0, 174, 0), by subst h; exact ⟨dL_law_619, rfl, ⟨by decide, q1101, q1102, q1103, _, rfl, rfl⟩⟩⟩ else none
          else
           if h : pc = 622 then some ⟨(.aload_n 2, 623, .inl 0, 0, 0), by subst h; exact ⟨dL_law_622, rfl, trivial⟩⟩ else none
 else
  bif Nat.blt pc 865 then
   bif Nat.blt pc 739 then
    bif Nat.blt pc 682 then
     bif Nat.blt pc 651 then
      bif Nat.blt pc 639 then
       bif Nat.blt pc 629 then
        bif Nat.blt pc 626 then
         bif Nat.blt pc 624 then
          if h : pc = 623 then some ⟨(.aload_n 0, 624, .inl 0, 0, 0), by subst h; exact ⟨dL_law_623, rfl, trivial⟩⟩ else none
         else
          bif Nat.blt pc 625 then
           if h : pc = 624 then some ⟨(.iload_n 3, 625, .inl 0, 0, 0), by subst h; exact ⟨dL_law_624, rfl, trivial⟩⟩ else none
          else
           if h : pc = 625 then some ⟨(.iconst 1, 626, .inl 1, 0, 0), by subst h; exact ⟨dL_law_625, rfl, ⟨1, rfl, by decide⟩⟩⟩ else none
        else
         bif Nat.blt pc 627 then
          if h : pc = 626 then some ⟨(.iadd, 627, .inl 0, 0, 0), by subst h; exact ⟨dL_law_626, rfl, trivial⟩⟩ else none
         else
          bif Nat.blt pc 628 then
           if h : pc = 627 then some ⟨(.iaload, 628, .inl 0, 0, 0), by subst h; exact ⟨dL_law_627, rfl, trivial⟩⟩ else none
          else
           if h : pc = 628 then some ⟨(.aload_n 0, 629, .inl 0, 0, 0), by subst h; exact ⟨dL_law_628, rfl, trivial⟩⟩ else none
       else
        bif Nat.blt pc 632 then
         bif Nat.blt pc 630 then
          if h : pc = 629 then some ⟨(.iload_n 3, 630, .inl 0, 0, 0), by subst h; exact ⟨dL_law_629, rfl, trivial⟩⟩ else none
         else
          bif Nat.blt pc 631 then
           if h : pc = 630 then some ⟨(.iconst 2, 631, .inl 2, 0, 0), by subst h; exact ⟨dL_law_630, rfl, ⟨2, rfl, by decide⟩⟩⟩ else none
          else
           if h : pc = 631 then some ⟨(.iadd, 632, .inl 0, 0, 0), by subst h; exact ⟨dL_law_631, rfl, trivial⟩⟩ else none
        else
         bif Nat.blt pc 633 then
          if h : pc = 632 then some ⟨(.iaload, 633, .inl 0, 0, 0), by subst h; exact ⟨dL_law_632, rfl, trivial⟩⟩ else none
         else
          bif Nat.blt pc 636 then
           if h : pc = 633 then some ⟨(.invokevirtual 82, 636, .inl 0, 89, 14), by subst h; exact ⟨dL_law_633, rfl, ⟨by decide, q1838, q1839, q1840, _, rfl, rfl⟩⟩⟩ else none
          else
           if h : pc = 636 then some ⟨(.if_icmp .eq 452, 639, .inl 0, 1088, 0), by subst h; exact ⟨dL_law_636, rfl, (show ((636 : Nat) : Int) + (452) = ((1088 : Nat) : Int) by decide)⟩⟩ else none
      else
       bif Nat.blt pc 645 then
        bif Nat.blt pc 642 then
         bif Nat.blt pc 640 then
          if h : pc = 639 then some ⟨(.iconst 0, 640, .inl 0, 0, 0), by subst h; exact ⟨dL_law_639, rfl, ⟨0, rfl, by decide⟩⟩⟩ else none
         else
          bif Nat.blt pc 641 then
           if h : pc = 640 then some ⟨(.ireturn, 641, .inl 0, 1, 0), by subst h; exact ⟨dL_law_640, rfl, rfl⟩⟩ else none
          else
           if h : pc = 641 then some ⟨(.aload_n 1, 642, .inl 0, 0, 0), by subst h; exact ⟨dL_law_641, rfl, trivial⟩⟩ else none
        else
         bif Nat.blt pc 643 then
          if h : pc = 642 then some ⟨(.aload_n 0, 643, .inl 0, 0, 0), by subst h; exact ⟨dL_law_642, rfl, trivial⟩⟩ else none
         else
          bif Nat.blt pc 644 then
           if h : pc = 643 then some ⟨(.iload_n 3, 644, .inl 0, 0, 0), by subst h; exact ⟨dL_law_643, rfl, trivial⟩⟩ else none
          else
           if h : pc = 644 then some ⟨(.iconst 1, 645, .inl 1, 0, 0), by subst h; exact ⟨dL_law_644, rfl, ⟨1, rfl, by decide⟩⟩⟩ else none
       else
        bif Nat.blt pc 648 then
         bif Nat.blt pc 646 then
          if h : pc = 645 then some ⟨(.iadd, 646, .inl 0, 0, 0), by subst h; exact ⟨dL_law_645, rfl, trivial⟩⟩ else none
         else
          bif Nat.blt pc 647 then
           if h : pc = 646 then some ⟨(.iaload, 647, .inl 0, 0, 0), by subst h; exact ⟨dL_law_646, rfl, trivial⟩⟩ else none
          else
           if h : pc = 647 then some ⟨(.aload_n 0, 648, .inl 0, 0, 0), by subst h; exact ⟨dL_law_647, rfl, trivial⟩⟩ else none
        else
         bif Nat.blt pc 649 then
          if h : pc = 648 then some ⟨(.iload_n 3, 649, .inl 0, 0, 0), by subst h; exact ⟨dL_law_648, rfl, trivial⟩⟩ else none
         else
          bif Nat.blt pc 650 then
           if h : pc = 649 then some ⟨(.iconst 2, 650, .inl 2, 0, 0), by subst h; exact ⟨dL_law_649, rfl, ⟨2, rfl, by decide⟩⟩⟩ else none
          else
           if h : pc = 650 then some ⟨(.iadd, 651, .inl 0, 0, 0), by subst h; exact ⟨dL_law_650, rfl, trivial⟩⟩ else none
     else
      bif Nat.blt pc 665 then
       bif Nat.blt pc 657 then
        bif Nat.blt pc 654 then
         bif Nat.blt pc 652 then
          if h : pc = 651 then some ⟨(.iaload, 652, .inl 0, 0, 0), by subst h; exact ⟨dL_law_651, rfl, trivial⟩⟩ else none
         else
          bif Nat.blt pc 653 then
           if h : pc = 652 then some ⟨(.aload_n 0, 653, .inl 0, 0, 0), by subst h; exact ⟨dL_law_652, rfl, trivial⟩⟩ else none
          else
           if h : pc = 653 then some ⟨(.iload_n 3, 654, .inl 0, 0, 0), by subst h; exact ⟨dL_law_653, rfl, trivial⟩⟩ else none
        else
         bif Nat.blt pc 655 then
          if h : pc = 654 then some ⟨(.iconst 3, 655, .inl 3, 0, 0), by subst h; exact ⟨dL_law_654, rfl, ⟨3, rfl, by decide⟩⟩⟩ else none
         else
          bif Nat.blt pc 656 then
           if h : pc = 655 then some ⟨(.iadd, 656, .inl 0, 0, 0), by subst h; exact ⟨dL_law_655, rfl, trivial⟩⟩ else none
          else
           if h : pc = 656 then some ⟨(.iaload, 657, .inl 0, 0, 0), by subst h; exact ⟨dL_law_656, rfl, trivial⟩⟩ else none
       else
        bif Nat.blt pc 662 then
         bif Nat.blt pc 660 then
          if h : pc = 657 then some ⟨(.invokevirtual 83, 660, .inl 0, 176, 0), by subst h; exact ⟨dL_law_657, rfl, ⟨by decide, q1109, q1110, q1111, _, rfl, rfl⟩⟩⟩ else none
         else
          bif Nat.blt pc 661 then
           if h : pc = 660 then some ⟨(.aload_n 2, 661, .inl 0, 0, 0), by subst h; exact ⟨dL_law_660, rfl, trivial⟩⟩ else none
          else
           if h : pc = 661 then some ⟨(.aload_n 0, 662, .inl 0, 0, 0), by subst h; exact ⟨dL_law_661, rfl, trivial⟩⟩ else none
        else
         bif Nat.blt pc 663 then
          if h : pc = 662 then some ⟨(.iload_n 3, 663, .inl 0, 0, 0), by subst h; exact ⟨dL_law_662, rfl, trivial⟩⟩ else none
         else
          bif Nat.blt pc 664 then
           if h : pc = 663 then some ⟨(.iconst 1, 664, .inl 1, 0, 0), by subst h; exact ⟨dL_law_663, rfl, ⟨1, rfl, by decide⟩⟩⟩ else none
          else
           if h : pc = 664 then some ⟨(.iadd, 665, .inl 0, 0, 0), by subst h; exact ⟨dL_law_664, rfl, trivial⟩⟩ else none
      else
       bif Nat.blt pc 671 then
        bif Nat.blt pc 668 then
         bif Nat.blt pc 666 then
          if h : pc = 665 then some ⟨(.iaload, 666, .inl 0, 0, 0), by subst h; exact ⟨dL_law_665, rfl, trivial⟩⟩ else none
         else
          bif Nat.blt pc 667 then
           if h : pc = 666 then some ⟨(.aload_n 0, 667, .inl 0, 0, 0), by subst h; exact ⟨dL_law_666, rfl, trivial⟩⟩ else none
          else
           if h : pc = 667 then some ⟨(.iload_n 3, 668, .inl 0, 0, 0), by subst h; exact ⟨dL_law_667, rfl, trivial⟩⟩ else none
        else
         bif Nat.blt pc 669 then
          if h : pc = 668 then some ⟨(.iconst 2, 669, .inl 2, 0, 0), by subst h; exact ⟨dL_law_668, rfl, ⟨2, rfl, by decide⟩⟩⟩ else none
         else
          bif Nat.blt pc 670 then
           if h : pc = 669 then some ⟨(.iadd, 670, .inl 0, 0, 0), by subst h; exact ⟨dL_law_669, rfl, trivial⟩⟩ else none
          else
           if h : pc = 670 then some ⟨(.iaload, 671, .inl 0, 0, 0), by subst h; exact ⟨dL_law_670, rfl, trivial⟩⟩ else none
       else
        bif Nat.blt pc 674 then
         bif Nat.blt pc 672 then
          if h : pc = 671 then some ⟨(.aload_n 0, 672, .inl 0, 0, 0), by subst h; exact ⟨dL_law_671, rfl, trivial⟩⟩ else none
         else
          bif Nat.blt pc 673 then
           if h : pc = 672 then some ⟨(.iload_n 3, 673, .inl 0, 0, 0), by subst h; exact ⟨dL_law_672, rfl, trivial⟩⟩ else none
          else
           if h : pc = 673 then some ⟨(.iconst 3, 674, .inl 3, 0, 0), by subst h; exact ⟨dL_law_673, rfl, ⟨3, rfl, by decide⟩⟩⟩ else none
        else
         bif Nat.blt pc 676 then
          bif Nat.blt pc 675 then
           if h : pc = 674 then some ⟨(.iadd, 675, .inl 0, 0, 0), by subst h; exact ⟨dL_law_674, rfl, trivial⟩⟩ else none
          else
           if h : pc = 675 then some ⟨(.iaload, 676, .inl 0, 0, 0), by subst h; exact ⟨dL_law_675, rfl, trivial⟩⟩ else none
         else
          bif Nat.blt pc 679 then
           if h : pc = 676 then some ⟨(.invokevirtual 86, 679, .inl 0, 90, 14), by subst h; exact ⟨dL_law_676, rfl, ⟨by decide, q1842, q1843, q1844, _, rfl, rfl⟩⟩⟩ else none
          else
           if h : pc = 679 then some ⟨(.if_icmp .eq 409, 682, .inl 0, 1088, 0), by subst h; exact ⟨dL_law_679, rfl, (show ((679 : Nat) : Int) + (409) = ((1088 : Nat) : Int) by decide)⟩⟩ else none
    else
     bif Nat.blt pc 708 then
      bif Nat.blt pc 694 then
       bif Nat.blt pc 688 then
        bif Nat.blt pc 685 then
         bif Nat.blt pc 683 then
          if h : pc = 682 then some ⟨(.iconst 0, 683, .inl 0, 0, 0), by subst h; exact ⟨dL_law_682, rfl, ⟨0, rfl, by decide⟩⟩⟩ else none
         else
          bif Nat.blt pc 684 then
           if h : pc = 683 then some ⟨(.ireturn, 684, .inl 0, 1, 0), by subst h; exact ⟨dL_law_683, rfl, rfl⟩⟩ else none
          else
           if h : pc = 684 then some ⟨(.aload_n 1, 685, .inl 0, 0, 0), by subst h; exact ⟨dL_law_684, rfl, trivial⟩⟩ else none
        else
         bif Nat.blt pc 686 then
          if h : pc = 685 then some ⟨(.aload_n 0, 686, .inl 0, 0, 0), by subst h; exact ⟨dL_law_685, rfl, trivial⟩⟩ else none
         else
          bif Nat.blt pc 687 then
           if h : pc = 686 then some ⟨(.iload_n 3, 687, .inl 0, 0, 0), by subst h; exact ⟨dL_law_686, rfl, trivial⟩⟩ else none
          else
           if h : pc = 687 then some ⟨(.iconst 1, 688, .inl 1, 0, 0), by subst h; exact ⟨dL_law_687, rfl, ⟨1, rfl, by decide⟩⟩⟩ else none
       else
        bif Nat.blt pc 691 then
         bif Nat.blt pc 689 then
          if h : pc = 688 then some ⟨(.iadd, 689, .inl 0, 0, 0), by subst h; exact ⟨dL_law_688, rfl, trivial⟩⟩ else none
         else
          bif Nat.blt pc 690 then
           if h : pc = 689 then some ⟨(.iaload, 690, .inl 0, 0, 0), by subst h; exact ⟨dL_law_689, rfl, trivial⟩⟩ else none
          else
           if h : pc = 690 then some ⟨(.aload_n 0, 691, .inl 0, 0, 0), by subst h; exact ⟨dL_law_690, rfl, trivial⟩⟩ else none
        else
         bif Nat.blt pc 692 then
          if h : pc = 691 then some ⟨(.iload_n 3, 692, .inl 0, 0, 0), by subst h; exact ⟨dL_law_691, rfl, trivial⟩⟩ else none
         else
          bif Nat.blt pc 693 then
           if h : pc = 692 then some ⟨(.iconst 2, 693, .inl 2, 0, 0), by subst h; exact ⟨dL_law_692, rfl, ⟨2, rfl, by decide⟩⟩⟩ else none
          else
           if h : pc = 693 then some ⟨(.iadd, 694, .inl 0, 0, 0), by subst h; exact ⟨dL_law_693, rfl, trivial⟩⟩ else none
      else
       bif Nat.blt pc 702 then
        bif Nat.blt pc 699 then
         bif Nat.blt pc 695 then
          if h : pc = 694 then some ⟨(.iaload, 695, .inl 0, 0, 0), by subst h; exact ⟨dL_law_694, rfl, trivial⟩⟩ else none
         else
          bif Nat.blt pc 698 then
           if h : pc = 695 then some ⟨(.invokevirtual 87, 698, .inl 0, 190, 0), by subst h; exact ⟨dL_law_695, rfl, ⟨by decide, q1196, q1197, q1198, _, rfl, rfl⟩⟩⟩ else none
          else
           if h : pc = 698 then some ⟨(.aload_n 2, 699, .inl 0, 0, 0), by subst h; exact ⟨dL_law_698, rfl, trivial⟩⟩ else none
        else
         bif Nat.blt pc 700 then
          if h : pc = 699 then some ⟨(.aload_n 0, 700, .inl 0, 0, 0), by subst h; exact ⟨dL_law_699, rfl, trivial⟩⟩ else none
         else
          bif Nat.blt pc 701 then
           if h : pc = 700 then some ⟨(.iload_n 3, 701, .inl 0, 0, 0), by subst h; exact ⟨dL_law_700, rfl, trivial⟩⟩ else none
          else
           if h : pc = 701 then some ⟨(.iconst 1, 702, .inl 1, 0, 0), by subst h; exact ⟨dL_law_701, rfl, ⟨1, rfl, by decide⟩⟩⟩ else none
       else
        bif Nat.blt pc 705 then
         bif Nat.blt pc 703 then
          if h : pc = 702 then some ⟨(.iadd, 703, .inl 0, 0, 0), by subst h; exact ⟨dL_law_702, rfl, trivial⟩⟩ else none
         else
          bif Nat.blt pc 704 then
           if h : pc = 703 then some ⟨(.iaload, 704, .inl 0, 0, 0), by subst h; exact ⟨dL_law_703, rfl, trivial⟩⟩ else none
          else
           if h : pc = 704 then some ⟨(.aload_n 0, 705, .inl 0, 0, 0), by subst h; exact ⟨dL_law_704, rfl, trivial⟩⟩ else none
        else
         bif Nat.blt pc 706 then
          if h : pc = 705 then some ⟨(.iload_n 3, 706, .inl 0, 0, 0), by subst h; exact ⟨dL_law_705, rfl, trivial⟩⟩ else none
         else
          bif Nat.blt pc 707 then
           if h : pc = 706 then some ⟨(.iconst 2, 707, .inl 2, 0, 0), by subst h; exact ⟨dL_law_706, rfl, ⟨2, rfl, by decide⟩⟩⟩ else none
          else
           if h : pc = 707 then some ⟨(.iadd, 708, .inl 0, 0, 0), by subst h; exact ⟨dL_law_707, rfl, trivial⟩⟩ else none
     else
      bif Nat.blt pc 724 then
       bif Nat.blt pc 718 then
        bif Nat.blt pc 715 then
         bif Nat.blt pc 709 then
          if h : pc = 708 then some ⟨(.iaload, 709, .inl 0, 0, 0), by subst h; exact ⟨dL_law_708, rfl, trivial⟩⟩ else none
         else
          bif Nat.blt pc 712 then
           if h : pc = 709 then some ⟨(.invokevirtual 90, 712, .inl 0, 94, 14), by subst h; exact ⟨dL_law_709, rfl, ⟨by decide, q1858, q1859, q1860, _, rfl, rfl⟩⟩⟩ else none
          else
           if h : pc = 712 then some ⟨(.if_icmp .eq 376, 715, .inl 0, 1088, 0), by subst h; exact ⟨dL_law_712, rfl, (show ((712 : Nat) : Int) + (376) = ((1088 : Nat) : Int) by decide)⟩⟩ else none
        else
         bif Nat.blt pc 716 then
          if h : pc = 715 then some ⟨(.iconst 0, 716, .inl 0, 0, 0), by subst h; exact ⟨dL_law_715, rfl, ⟨0, rfl, by decide⟩⟩⟩ else none
         else
          bif Nat.blt pc 717 then
           if h : pc = 716 then some ⟨(.ireturn, 717, .inl 0, 1, 0), by subst h; exact ⟨dL_law_716, rfl, rfl⟩⟩ else none
          else
           if h : pc = 717 then some ⟨(.aload_n 1, 718, .inl 0, 0, 0), by subst h; exact ⟨dL_law_717, rfl, trivial⟩⟩ else none
       else
        bif Nat.blt pc 721 then
         bif Nat.blt pc 719 then
          if h : pc = 718 then some ⟨(.aload_n 0, 719, .inl 0, 0, 0), by subst h; exact ⟨dL_law_718, rfl, trivial⟩⟩ else none
         else
          bif Nat.blt pc 720 then
           if h : pc = 719 then some ⟨(.iload_n 3, 720, .inl 0, 0, 0), by subst h; exact ⟨dL_law_719, rfl, trivial⟩⟩ else none
          else
           if h : pc = 720 then some ⟨(.iconst 1, 721, .inl 1, 0, 0), by subst h; exact ⟨dL_law_720, rfl, ⟨1, rfl, by decide⟩⟩⟩ else none
        else
         bif Nat.blt pc 722 then
          if h : pc = 721 then some ⟨(.iadd, 722, .inl 0, 0, 0), by subst h; exact ⟨dL_law_721, rfl, trivial⟩⟩ else none
         else
          bif Nat.blt pc 723 then
           if h : pc = 722 then some ⟨(.iaload, 723, .inl 0, 0, 0), by subst h; exact ⟨dL_law_722, rfl, trivial⟩⟩ else none
          else
           if h : pc = 723 then some ⟨(.aload_n 0, 724, .inl 0, 0, 0), by subst h; exact ⟨dL_law_723, rfl, trivial⟩⟩ else none
      else
       bif Nat.blt pc 732 then
        bif Nat.blt pc 727 then
         bif Nat.blt pc 725 then
          if h : pc = 724 then some ⟨(.iload_n 3, 725, .inl 0, 0, 0), by subst h; exact ⟨dL_law_724, rfl, trivial⟩⟩ else none
         else
          bif Nat.blt pc 726 then
           if h : pc = 725 then some ⟨(.iconst 2, 726, .inl 2, 0, 0), by subst h; exact ⟨dL_law_725, rfl, ⟨2, rfl, by decide⟩⟩⟩ else none
          else
           if h : pc = 726 then some ⟨(.iadd, 727, .inl 0, 0, 0), by subst h; exact ⟨dL_law_726, rfl, trivial⟩⟩ else none
        else
         bif Nat.blt pc 728 then
          if h : pc = 727 then some ⟨(.iaload, 728, .inl 0, 0, 0), by subst h; exact ⟨dL_law_727, rfl, trivial⟩⟩ else none
         else
          bif Nat.blt pc 731 then
           if h : pc = 728 then some ⟨(.invokevirtual 91, 731, .inl 0, 195, 0), by subst h; exact ⟨dL_law_728, rfl, ⟨by decide, q1282, q1283, q1284, _, rfl, rfl⟩⟩⟩ else none
          else
           if h : pc = 731 then some ⟨(.aload_n 2, 732, .inl 0, 0, 0), by subst h; exact ⟨dL_law_731, rfl, trivial⟩⟩ else none
       else
        bif Nat.blt pc 735 then
         bif Nat.blt pc 733 then
          if h : pc = 732 then some ⟨(.aload_n 0, 733, .inl 0, 0, 0), by subst h; exact ⟨dL_law_732, rfl, trivial⟩⟩ else none
         else
          bif Nat.blt pc 734 then
           if h : pc = 733 then some ⟨(.iload_n 3, 734, .inl 0, 0, 0), by subst h; exact ⟨dL_law_733, rfl, trivial⟩⟩ else none
          else
           if h : pc = 734 then some ⟨(.iconst 1, 735, .inl 1, 0, 0), by subst h; exact ⟨dL_law_734, rfl, ⟨1, rfl, by decide⟩⟩⟩ else none
        else
         bif Nat.blt pc 737 then
          bif Nat.blt pc 736 then
           if h : pc = 735 then some ⟨(.iadd, 736, .inl 0, 0, 0), by subst h; exact ⟨dL_law_735, rfl, trivial⟩⟩ else none
          else
           if h : pc = 736 then some ⟨(.iaload, 737, .inl 0, 0, 0), by subst h; exact ⟨dL_law_736, rfl, trivial⟩⟩ else none
         else
          bif Nat.blt pc 738 then
           if h : pc = 737 then some ⟨(.aload_n 0, 738, .inl 0, 0, 0), by subst h; exact ⟨dL_law_737, rfl, trivial⟩⟩ else none
          else
           if h : pc = 738 then some ⟨(.iload_n 3, 739, .inl 0, 0, 0), by subst h; exact ⟨dL_law_738, rfl, trivial⟩⟩ else none
   else
    bif Nat.blt pc 794 then
     bif Nat.blt pc 767 then
      bif Nat.blt pc 755 then
       bif Nat.blt pc 749 then
        bif Nat.blt pc 742 then
         bif Nat.blt pc 740 then
          if h : pc = 739 then some ⟨(.iconst 2, 740, .inl 2, 0, 0), by subst h; exact ⟨dL_law_739, rfl, ⟨2, rfl, by decide⟩⟩⟩ else none
         else
          bif Nat.blt pc 741 then
           if h : pc = 740 then some ⟨(.iadd, 741, .inl 0, 0, 0), by subst h; exact ⟨dL_law_740, rfl, trivial⟩⟩ else none
          else
           if h : pc = 741 then some ⟨(.iaload, 742, .inl 0, 0, 0), by subst h; exact ⟨dL_law_741, rfl, trivial⟩⟩ else none
        else
         bif Nat.blt pc 745 then
          if h : pc = 742 then some ⟨(.invokevirtual 94, 745, .inl 0, 96, 14), by subst h; exact ⟨dL_law_742, rfl, ⟨by decide, q1869, q1870, q1871, _, rfl, rfl⟩⟩⟩ else none
         else
          bif Nat.blt pc 748 then
           if h : pc = 745 then some ⟨(.if_icmp .eq 343, 748, .inl 0, 1088, 0), by subst h; exact ⟨dL_law_745, rfl, (show ((745 : Nat) : Int) + (343) = ((1088 : Nat) : Int) by decide)⟩⟩ else none
          else
           if h : pc = 748 then some ⟨(.iconst 0, 749, .inl 0, 0, 0), by subst h; exact ⟨dL_law_748, rfl, ⟨0, rfl, by decide⟩⟩⟩ else none
       else
        bif Nat.blt pc 752 then
         bif Nat.blt pc 750 then
          if h : pc = 749 then some ⟨(.ireturn, 750, .inl 0, 1, 0), by subst h; exact ⟨dL_law_749, rfl, rfl⟩⟩ else none
         else
          bif Nat.blt pc 751 then
           if h : pc = 750 then some ⟨(.aload_n 1, 751, .inl 0, 0, 0), by subst h; exact ⟨dL_law_750, rfl, trivial⟩⟩ else none
          else
           if h : pc = 751 then some ⟨(.aload_n 0, 752, .inl 0, 0, 0), by subst h; exact ⟨dL_law_751, rfl, trivial⟩⟩ else none
        else
         bif Nat.blt pc 753 then
          if h : pc = 752 then some ⟨(.iload_n 3, 753, .inl 0, 0, 0), by subst h; exact ⟨dL_law_752, rfl, trivial⟩⟩ else none
         else
          bif Nat.blt pc 754 then
           if h : pc = 753 then some ⟨(.iconst 1, 754, .inl 1, 0, 0), by subst h; exact ⟨dL_law_753, rfl, ⟨1, rfl, by decide⟩⟩⟩ else none
          else
           if h : pc = 754 then some ⟨(.iadd, 755, .inl 0, 0, 0), by subst h; exact ⟨dL_law_754, rfl, trivial⟩⟩ else none
      else
       bif Nat.blt pc 761 then
        bif Nat.blt pc 758 then
         bif Nat.blt pc 756 then
          if h : pc = 755 then some ⟨(.iaload, 756, .inl 0, 0, 0), by subst h; exact ⟨dL_law_755, rfl, trivial⟩⟩ else none
         else
          bif Nat.blt pc 757 then
           if h : pc = 756 then some ⟨(.aload_n 0, 757, .inl 0, 0, 0), by subst h; exact ⟨dL_law_756, rfl, trivial⟩⟩ else none
          else
           if h : pc = 757 then some ⟨(.iload_n 3, 758, .inl 0, 0, 0), by subst h; exact ⟨dL_law_757, rfl, trivial⟩⟩ else none
        else
         bif Nat.blt pc 759 then
          if h : pc = 758 then some ⟨(.iconst 2, 759, .inl 2, 0, 0), by subst h; exact ⟨dL_law_758, rfl, ⟨2, rfl, by decide⟩⟩⟩ else none
         else
          bif Nat.blt pc 760 then
           if h : pc = 759 then some ⟨(.iadd, 760, .inl 0, 0, 0), by subst h; exact ⟨dL_law_759, rfl, trivial⟩⟩ else none
          else
           if h : pc = 760 then some ⟨(.iaload, 761, .inl 0, 0, 0), by subst h; exact ⟨dL_law_760, rfl, trivial⟩⟩ else none
       else
        bif Nat.blt pc 764 then
         bif Nat.blt pc 762 then
          if h : pc = 761 then some ⟨(.aload_n 0, 762, .inl 0, 0, 0), by subst h; exact ⟨dL_law_761, rfl, trivial⟩⟩ else none
         else
          bif Nat.blt pc 763 then
           if h : pc = 762 then some ⟨(.iload_n 3, 763, .inl 0, 0, 0), by subst h; exact ⟨dL_law_762, rfl, trivial⟩⟩ else none
          else
           if h : pc = 763 then some ⟨(.iconst 3, 764, .inl 3, 0, 0), by subst h; exact ⟨dL_law_763, rfl, ⟨3, rfl, by decide⟩⟩⟩ else none
        else
         bif Nat.blt pc 765 then
          if h : pc = 764 then some ⟨(.iadd, 765, .inl 0, 0, 0), by subst h; exact ⟨dL_law_764, rfl, trivial⟩⟩ else none
         else
          bif Nat.blt pc 766 then
           if h : pc = 765 then some ⟨(.iaload, 766, .inl 0, 0, 0), by subst h; exact ⟨dL_law_765, rfl, trivial⟩⟩ else none
          else
           if h : pc = 766 then some ⟨(.aload_n 0, 767, .inl 0, 0, 0), by subst h; exact ⟨dL_law_766, rfl, trivial⟩⟩ else none
     else
      bif Nat.blt pc 781 then
       bif Nat.blt pc 775 then
        bif Nat.blt pc 770 then
         bif Nat.blt pc 768 then
          if h : pc = 767 then some ⟨(.iload_n 3, 768, .inl 0, 0, 0), by subst h; exact ⟨dL_law_767, rfl, trivial⟩⟩ else none
         else
          bif Nat.blt pc 769 then
           if h : pc = 768 then some ⟨(.iconst 4, 769, .inl 4, 0, 0), by subst h; exact ⟨dL_law_768, rfl, ⟨4, rfl, by decide⟩⟩⟩ else none
          else
           if h : pc = 769 then some ⟨(.iadd, 770, .inl 0, 0, 0), by subst h; exact ⟨dL_law_769, rfl, trivial⟩⟩ else none
        else
         bif Nat.blt pc 771 then
          if h : pc = 770 then some ⟨(.iaload, 771, .inl 0, 0, 0), by subst h; exact ⟨dL_law_770, rfl, trivial⟩⟩ else none
         else
          bif Nat.blt pc 774 then
           if h : pc = 771 then some ⟨(.invokevirtual 95, 774, .inl 0, 197, 0), by subst h; exact ⟨dL_law_771, rfl, ⟨by decide, q1291, q1292, q1293, _, rfl, rfl⟩⟩⟩ else none
          else
           if h : pc = 774 then some ⟨(.aload_n 2, 775, .inl 0, 0, 0), by subst h; exact ⟨dL_law_774, rfl, trivial⟩⟩ else none
       else
        bif Nat.blt pc 778 then
         bif Nat.blt pc 776 then
          if h : pc = 775 then some ⟨(.aload_n 0, 776, .inl 0, 0, 0), by subst h; exact ⟨dL_law_775, rfl, trivial⟩⟩ else none
         else
          bif Nat.blt pc 777 then
           if h : pc = 776 then some ⟨(.iload_n 3, 777, .inl 0, 0, 0), by subst h; exact ⟨dL_law_776, rfl, trivial⟩⟩ else none
          else
           if h : pc = 777 then some ⟨(.iconst 1, 778, .inl 1, 0, 0), by subst h; exact ⟨dL_law_777, rfl, ⟨1, rfl, by decide⟩⟩⟩ else none
        else
         bif Nat.blt pc 779 then
          if h : pc = 778 then some ⟨(.iadd, 779, .inl 0, 0, 0), by subst h; exact ⟨dL_law_778, rfl, trivial⟩⟩ else none
         else
          bif Nat.blt pc 780 then
           if h : pc = 779 then some ⟨(.iaload, 780, .inl 0, 0, 0), by subst h; exact ⟨dL_law_779, rfl, trivial⟩⟩ else none
          else
           if h : pc = 780 then some ⟨(.aload_n 0, 781, .inl 0, 0, 0), by subst h; exact ⟨dL_law_780, rfl, trivial⟩⟩ else none
      else
       bif Nat.blt pc 787 then
        bif Nat.blt pc 784 then
         bif Nat.blt pc 782 then
          if h : pc = 781 then some ⟨(.iload_n 3, 782, .inl 0, 0, 0), by subst h; exact ⟨dL_law_781, rfl, trivial⟩⟩ else none
         else
          bif Nat.blt pc 783 then
           if h : pc = 782 then some ⟨(.iconst 2, 783, .inl 2, 0, 0), by subst h; exact ⟨dL_law_782, rfl, ⟨2, rfl, by decide⟩⟩⟩ else none
          else
           if h : pc = 783 then some ⟨(.iadd, 784, .inl 0, 0, 0), by subst h; exact ⟨dL_law_783, rfl, trivial⟩⟩ else none
        else
         bif Nat.blt pc 785 then
          if h : pc = 784 then some ⟨(.iaload, 785, .inl 0, 0, 0), by subst h; exact ⟨dL_law_784, rfl, trivial⟩⟩ else none
         else
          bif Nat.blt pc 786 then
           if h : pc = 785 then some ⟨(.aload_n 0, 786, .inl 0, 0, 0), by subst h; exact ⟨dL_law_785, rfl, trivial⟩⟩ else none
          else
           if h : pc = 786 then some ⟨(.iload_n 3, 787, .inl 0, 0, 0), by subst h; exact ⟨dL_law_786, rfl, trivial⟩⟩ else none
       else
        bif Nat.blt pc 790 then
         bif Nat.blt pc 788 then
          if h : pc = 787 then some ⟨(.iconst 3, 788, .inl 3, 0, 0), by subst h; exact ⟨dL_law_787, rfl, ⟨3, rfl, by decide⟩⟩⟩ else none
         else
          bif Nat.blt pc 789 then
           if h : pc = 788 then some ⟨(.iadd, 789, .inl 0, 0, 0), by subst h; exact ⟨dL_law_788, rfl, trivial⟩⟩ else none
          else
           if h : pc = 789 then some ⟨(.iaload, 790, .inl 0, 0, 0), by subst h; exact ⟨dL_law_789, rfl, trivial⟩⟩ else none
        else
         bif Nat.blt pc 792 then
          bif Nat.blt pc 791 then
           if h : pc = 790 then some ⟨(.aload_n 0, 791, .inl 0, 0, 0), by subst h; exact ⟨dL_law_790, rfl, trivial⟩⟩ else none
          else
           if h : pc = 791 then some ⟨(.iload_n 3, 792, .inl 0, 0, 0), by subst h; exact ⟨dL_law_791, rfl, trivial⟩⟩ else none
         else
          bif Nat.blt pc 793 then
           if h : pc = 792 then some ⟨(.iconst 4, 793, .inl 4, 0, 0), by subst h; exact ⟨dL_law_792, rfl, ⟨4, rfl, by decide⟩⟩⟩ else none
          else
           if h : pc = 793 then some ⟨(.iadd, 794, .inl 0, 0, 0), by subst h; exact ⟨dL_law_793, rfl, trivial⟩⟩ else none
    else
     bif Nat.blt pc 834 then
      bif Nat.blt pc 816 then
       bif Nat.blt pc 804 then
        bif Nat.blt pc 799 then
         bif Nat.blt pc 795 then
          if h : pc = 794 then some ⟨(.iaload, 795, .inl 0, 0, 0), by subst h; exact ⟨dL_law_794, rfl, trivial⟩⟩ else none
         else
          bif Nat.blt pc 798 then
           if h : pc = 795 then some ⟨(.invokevirtual 99, 798, .inl 0, 98, 14), by subst h; exact ⟨dL_law_795, rfl, ⟨by decide, q1878, q1879, q1880, _, rfl, rfl⟩⟩⟩ else none
          else
           if h : pc = 798 then some ⟨(.lcmp, 799, .inl 0, 0, 0), by subst h; exact ⟨dL_law_798, rfl, trivial⟩⟩ else none
        else
         bif Nat.blt pc 802 then
          if h : pc = 799 then some ⟨(.ifCond .eq 289, 802, .inl 0, 1088, 0), by subst h; exact ⟨dL_law_799, rfl, (show ((799 : Nat) : Int) + (289) = ((1088 : Nat) : Int) by decide)⟩⟩ else none
         else
          bif Nat.blt pc 803 then
           if h : pc = 802 then some ⟨(.iconst 0, 803, .inl 0, 0, 0), by subst h; exact ⟨dL_law_802, rfl, ⟨0, rfl, by decide⟩⟩⟩ else none
          else
           if h : pc = 803 then some ⟨(.ireturn, 804, .inl 0, 1, 0), by subst h; exact ⟨dL_law_803, rfl, rfl⟩⟩ else none
       else
        bif Nat.blt pc 809 then
         bif Nat.blt pc 805 then
          if h : pc = 804 then some ⟨(.aload_n 1, 805, .inl 0, 0, 0), by subst h; exact ⟨dL_law_804, rfl, trivial⟩⟩ else none
         else
          bif Nat.blt pc 808 then
           if h : pc = 805 then some ⟨(.invokevirtual 100, 808, .inl 0, 199, 0), by subst h; exact ⟨dL_law_805, rfl, ⟨by decide, q1298, q1299, q1300, _, rfl, rfl⟩⟩⟩ else none
          else
           if h : pc = 808 then some ⟨(.aload_n 2, 809, .inl 0, 0, 0), by subst h; exact ⟨dL_law_808, rfl, trivial⟩⟩ else none
        else
         bif Nat.blt pc 812 then
          if h : pc = 809 then some ⟨(.invokevirtual 103, 812, .inl 0, 99, 14), by subst h; exact ⟨dL_law_809, rfl, ⟨by decide, q1882, q1883, q1884, _, rfl, rfl⟩⟩⟩ else none
         else
          bif Nat.blt pc 815 then
           if h : pc = 812 then some ⟨(.if_icmp .eq 276, 815, .inl 0, 1088, 0), by subst h; exact ⟨dL_law_812, rfl, (show ((812 : Nat) : Int) + (276) = ((1088 : Nat) : Int) by decide)⟩⟩ else none
          else
           if h : pc = 815 then some ⟨(.iconst 0, 816, .inl 0, 0, 0), by subst h; exact ⟨dL_law_815, rfl, ⟨0, rfl, by decide⟩⟩⟩ else none
      else
       bif Nat.blt pc 828 then
        bif Nat.blt pc 821 then
         bif Nat.blt pc 817 then
          if h : pc = 816 then some ⟨(.ireturn, 817, .inl 0, 1, 0), by subst h; exact ⟨dL_law_816, rfl, rfl⟩⟩ else none
         else
          bif Nat.blt pc 818 then
           if h : pc = 817 then some ⟨(.aload_n 1, 818, .inl 0, 0, 0), by subst h; exact ⟨dL_law_817, rfl, trivial⟩⟩ else none
          else
           if h : pc = 818 then some ⟨(.invokevirtual 104, 821, .inl 0, 200, 0), by subst h; exact ⟨dL_law_818, rfl, ⟨by decide, q1305, q1306, q1307, _, rfl, rfl⟩⟩⟩ else none
        else
         bif Nat.blt pc 822 then
          if h : pc = 821 then some ⟨(.aload_n 2, 822, .inl 0, 0, 0), by subst h; exact ⟨dL_law_821, rfl, trivial⟩⟩ else none
         else
          bif Nat.blt pc 825 then
           if h : pc = 822 then some ⟨(.invokevirtual 107, 825, .inl 0, 100, 14), by subst h; exact ⟨dL_law_822, rfl, ⟨by decide, q1886, q1887, q1888, _, rfl, rfl⟩⟩⟩ else none
          else
           if h : pc = 825 then some ⟨(.if_icmp .eq 263, 828, .inl 0, 1088, 0), by subst h; exact ⟨dL_law_825, rfl, (show ((825 : Nat) : Int) + (263) = ((1088 : Nat) : Int) by decide)⟩⟩ else none
       else
        bif Nat.blt pc 831 then
         bif Nat.blt pc 829 then
          if h : pc = 828 then some ⟨(.iconst 0, 829, .inl 0, 0, 0), by subst h; exact ⟨dL_law_828, rfl, ⟨0, rfl, by decide⟩⟩⟩ else none
         else
          bif Nat.blt pc 830 then
           if h : pc = 829 then some ⟨(.ireturn, 830, .inl 0, 1, 0), by subst h; exact ⟨dL_law_829, rfl, rfl⟩⟩ else none
          else
           if h : pc = 830 then some ⟨(.aload_n 1, 831, .inl 0, 0, 0), by subst h; exact ⟨dL_law_830, rfl, trivial⟩⟩ else none
        else
         bif Nat.blt pc 832 then
          if h : pc = 831 then some ⟨(.aload_n 0, 832, .inl 0, 0, 0), by subst h; exact ⟨dL_law_831, rfl, trivial⟩⟩ else none
         else
          bif Nat.blt pc 833 then
           if h : pc = 832 then some ⟨(.iload_n 3, 833, .inl 0, 0, 0), by subst h; exact ⟨dL_law_832, rfl, trivial⟩⟩ else none
          else
           if h : pc = 833 then some ⟨(.iconst 1, 834, .inl 1, 0, 0), by subst h; exact ⟨dL_law_833, rfl, ⟨1, rfl, by decide⟩⟩⟩ else none
     else
      bif Nat.blt pc 852 then
       bif Nat.blt pc 842 then
        bif Nat.blt pc 839 then
         bif Nat.blt pc 835 then
          if h : pc = 834 then some ⟨(.iadd, 835, .inl 0, 0, 0), by subst h; exact ⟨dL_law_834, rfl, trivial⟩⟩ else none
         else
          bif Nat.blt pc 836 then
           if h : pc = 835 then some ⟨(.iaload, 836, .inl 0, 0, 0), by subst h; exact ⟨dL_law_835, rfl, trivial⟩⟩ else none
          else
           if h : pc = 836 then some ⟨(.invokevirtual 108, 839, .inl 0, 201, 0), by subst h; exact ⟨dL_law_836, rfl, ⟨by decide, q1309, q1310, q1311, _, rfl, rfl⟩⟩⟩ else none
        else
         bif Nat.blt pc 840 then
          if h : pc = 839 then some ⟨(.aload_n 2, 840, .inl 0, 0, 0), by subst h; exact ⟨dL_law_839, rfl, trivial⟩⟩ else none
         else
          bif Nat.blt pc 841 then
           if h : pc = 840 then some ⟨(.aload_n 0, 841, .inl 0, 0, 0), by subst h; exact ⟨dL_law_840, rfl, trivial⟩⟩ else none
          else
           if h : pc = 841 then some ⟨(.iload_n 3, 842, .inl 0, 0, 0), by subst h; exact ⟨dL_law_841, rfl, trivial⟩⟩ else none
       else
        bif Nat.blt pc 845 then
         bif Nat.blt pc 843 then
          if h : pc = 842 then some ⟨(.iconst 1, 843, .inl 1, 0, 0), by subst h; exact ⟨dL_law_842, rfl, ⟨1, rfl, by decide⟩⟩⟩ else none
         else
          bif Nat.blt pc 844 then
           if h : pc = 843 then some ⟨(.iadd, 844, .inl 0, 0, 0), by subst h; exact ⟨dL_law_843, rfl, trivial⟩⟩ else none
          else
           if h : pc = 844 then some ⟨(.iaload, 845, .inl 0, 0, 0), by subst h; exact ⟨dL_law_844, rfl, trivial⟩⟩ else none
        else
         bif Nat.blt pc 848 then
          if h : pc = 845 then some ⟨(.invokevirtual 111, 848, .inl 0, 101, 14), by subst h; exact ⟨dL_law_845, rfl, ⟨by decide, q1890, q1891, q1892, _, rfl, rfl⟩⟩⟩ else none
         else
          bif Nat.blt pc 851 then
           if h : pc = 848 then some ⟨(.if_icmp .eq 240, 851, .inl 0, 1088, 0), by subst h; exact ⟨dL_law_848, rfl, (show ((848 : Nat) : Int) + (240) = ((1088 : Nat) : Int) by decide)⟩⟩ else none
          else
           if h : pc = 851 then some ⟨(.iconst 0, 852, .inl 0, 0, 0), by subst h; exact ⟨dL_law_851, rfl, ⟨0, rfl, by decide⟩⟩⟩ else none
      else
       bif Nat.blt pc 858 then
        bif Nat.blt pc 855 then
         bif Nat.blt pc 853 then
          if h : pc = 852 then some ⟨(.ireturn, 853, .inl 0, 1, 0), by subst h; exact ⟨dL_law_852, rfl, rfl⟩⟩ else none
         else
          bif Nat.blt pc 854 then
           if h : pc = 853 then some ⟨(.aload_n 1, 854, .inl 0, 0, 0), by subst h; exact ⟨dL_law_853, rfl, trivial⟩⟩ else none
          else
           if h : pc = 854 then some ⟨(.aload_n 0, 855, .inl 0, 0, 0), by subst h; exact ⟨dL_law_854, rfl, trivial⟩⟩ else none
        else
         bif Nat.blt pc 856 then
          if h : pc = 855 then some ⟨(.iload_n 3, 856, .inl 0, 0, 0), by subst h; exact ⟨dL_law_855, rfl, trivial⟩⟩ else none
         else
          bif Nat.blt pc 857 then
           if h : pc = 856 then some ⟨(.iconst 1, 857, .inl 1, 0, 0), by subst h; exact ⟨dL_law_856, rfl, ⟨1, rfl, by decide⟩⟩⟩ else none
          else
           if h : pc = 857 then some ⟨(.iadd, 858, .inl 0, 0, 0), by subst h; exact ⟨dL_law_857, rfl, trivial⟩⟩ else none
       else
        bif Nat.blt pc 861 then
         bif Nat.blt pc 859 then
          if h : pc = 858 then some ⟨(.iaload, 859, .inl 0, 0, 0), by subst h; exact ⟨dL_law_858, rfl, trivial⟩⟩ else none
         else
          bif Nat.blt pc 860 then
           if h : pc = 859 then some ⟨(.aload_n 0, 860, .inl 0, 0, 0), by subst h; exact ⟨dL_law_859, rfl, trivial⟩⟩ else none
          else
           if h : pc = 860 then some ⟨(.iload_n 3, 861, .inl 0, 0, 0), by subst h; exact ⟨dL_law_860, rfl, trivial⟩⟩ else none
        else
         bif Nat.blt pc 863 then
          bif Nat.blt pc 862 then
           if h : pc = 861 then some ⟨(.iconst 2, 862, .inl 2, 0, 0), by subst h; exact ⟨dL_law_861, rfl, ⟨2, rfl, by decide⟩⟩⟩ else none
          else
           if h : pc = 862 then some ⟨(.iadd, 863, .inl 0, 0, 0), by subst h; exact ⟨dL_law_862, rfl, trivial⟩⟩ else none
         else
          bif Nat.blt pc 864 then
           if h : pc = 863 then some ⟨(.iaload, 864, .inl 0, 0, 0), by subst h; exact ⟨dL_law_863, rfl, trivial⟩⟩ else none
          else
           if h : pc = 864 then some ⟨(.aload_n 0, 865, .inl 0, 0, 0), by subst h; exact ⟨dL_law_864, rfl, trivial⟩⟩ else none
  else
   bif Nat.blt pc 977 then
    bif Nat.blt pc 922 then
     bif Nat.blt pc 895 then
      bif Nat.blt pc 879 then
       bif Nat.blt pc 873 then
        bif Nat.blt pc 868 then
         bif Nat.blt pc 866 then
          if h : pc = 865 then some ⟨(.iload_n 3, 866, .inl 0, 0, 0), by subst h; exact ⟨dL_law_865, rfl, trivial⟩⟩ else none
         else
          bif Nat.blt pc 867 then
           if h : pc = 866 then some ⟨(.iconst 3, 867, .inl 3, 0, 0), by subst h; exact ⟨dL_law_866, rfl, ⟨3, rfl, by decide⟩⟩⟩ else none
          else
           if h : pc = 867 then some ⟨(.iadd, 868, .inl 0, 0, 0), by subst h; exact ⟨dL_law_867, rfl, trivial⟩⟩ else none
        else
         bif Nat.blt pc 869 then
          if h : pc = 868 then some ⟨(.iaload, 869, .inl 0, 0, 0), by subst h; exact ⟨dL_law_868, rfl, trivial⟩⟩ else none
         else
          bif Nat.blt pc 872 then
           if h : pc = 869 then some ⟨(.invokevirtual 112, 872, .inl 0, 191, 0), by subst h; exact ⟨dL_law_869, rfl, ⟨by decide, q1313, q1202, q1203, _, rfl, rfl⟩⟩⟩ else none
          else
           if h : pc = 872 then some ⟨(.aload_n 2, 873, .inl 0, 0, 0), by subst h; exact ⟨dL_law_872, rfl, trivial⟩⟩ else none
       else
        bif Nat.blt pc 876 then
         bif Nat.blt pc 874 then
          if h : pc = 873 then some ⟨(.aload_n 0, 874, .inl 0, 0, 0), by subst h; exact ⟨dL_law_873, rfl, trivial⟩⟩ else none
         else
          bif Nat.blt pc 875 then
           if h : pc = 874 then some ⟨(.iload_n 3, 875, .inl 0, 0, 0), by subst h; exact ⟨dL_law_874, rfl, trivial⟩⟩ else none
          else
           if h : pc = 875 then some ⟨(.iconst 1, 876, .inl 1, 0, 0), by subst h; exact ⟨dL_law_875, rfl, ⟨1, rfl, by decide⟩⟩⟩ else none
        else
         bif Nat.blt pc 877 then
          if h : pc = 876 then some ⟨(.iadd, 877, .inl 0, 0, 0), by subst h; exact ⟨dL_law_876, rfl, trivial⟩⟩ else none
         else
          bif Nat.blt pc 878 then
           if h : pc = 877 then some ⟨(.iaload, 878, .inl 0, 0, 0), by subst h; exact ⟨dL_law_877, rfl, trivial⟩⟩ else none
          else
           if h : pc = 878 then some ⟨(.aload_n 0, 879, .inl 0, 0, 0), by subst h; exact ⟨dL_law_878, rfl, trivial⟩⟩ else none
      else
       bif Nat.blt pc 885 then
        bif Nat.blt pc 882 then
         bif Nat.blt pc 880 then
          if h : pc = 879 then some ⟨(.iload_n 3, 880, .inl 0, 0, 0), by subst h; exact ⟨dL_law_879, rfl, trivial⟩⟩ else none
         else
          bif Nat.blt pc 881 then
           if h : pc = 880 then some ⟨(.iconst 2, 881, .inl 2, 0, 0), by subst h; exact ⟨dL_law_880, rfl, ⟨2, rfl, by decide⟩⟩⟩ else none
          else
           if h : pc = 881 then some ⟨(.iadd, 882, .inl 0, 0, 0), by subst h; exact ⟨dL_law_881, rfl, trivial⟩⟩ else none
        else
         bif Nat.blt pc 883 then
          if h : pc = 882 then some ⟨(.iaload, 883, .inl 0, 0, 0), by subst h; exact ⟨dL_law_882, rfl, trivial⟩⟩ else none
         else
          bif Nat.blt pc 884 then
           if h : pc = 883 then some ⟨(.aload_n 0, 884, .inl 0, 0, 0), by subst h; exact ⟨dL_law_883, rfl, trivial⟩⟩ else none
          else
           if h : pc = 884 then some ⟨(.iload_n 3, 885, .inl 0, 0, 0), by subst h; exact ⟨dL_law_884, rfl, trivial⟩⟩ else none
       else
        bif Nat.blt pc 888 then
         bif Nat.blt pc 886 then
          if h : pc = 885 then some ⟨(.iconst 3, 886, .inl 3, 0, 0), by subst h; exact ⟨dL_law_885, rfl, ⟨3, rfl, by decide⟩⟩⟩ else none
         else
          bif Nat.blt pc 887 then
           if h : pc = 886 then some ⟨(.iadd, 887, .inl 0, 0, 0), by subst h; exact ⟨dL_law_886, rfl, trivial⟩⟩ else none
          else
           if h : pc = 887 then some ⟨(.iaload, 888, .inl 0, 0, 0), by subst h; exact ⟨dL_law_887, rfl, trivial⟩⟩ else none
        else
         bif Nat.blt pc 891 then
          if h : pc = 888 then some ⟨(.invokevirtual 115, 891, .inl 0, 95, 14), by subst h; exact ⟨dL_law_888, rfl, ⟨by decide, q1894, q1864, q1865, _, rfl, rfl⟩⟩⟩ else none
         else
          bif Nat.blt pc 894 then
           if h : pc = 891 then some ⟨(.if_icmp .eq 197, 894, .inl 0, 1088, 0), by subst h; exact ⟨dL_law_891, rfl, (show ((891 : Nat) : Int) + (197) = ((1088 : Nat) : Int) by decide)⟩⟩ else none
          else
           if h : pc = 894 then some ⟨(.iconst 0, 895, .inl 0, 0, 0), by subst h; exact ⟨dL_law_894, rfl, ⟨0, rfl, by decide⟩⟩⟩ else none
     else
      bif Nat.blt pc 907 then
       bif Nat.blt pc 901 then
        bif Nat.blt pc 898 then
         bif Nat.blt pc 896 then
          if h : pc = 895 then some ⟨(.ireturn, 896, .inl 0, 1, 0), by subst h; exact ⟨dL_law_895, rfl, rfl⟩⟩ else none
         else
          bif Nat.blt pc 897 then
           if h : pc = 896 then some ⟨(.aload_n 1, 897, .inl 0, 0, 0), by subst h; exact ⟨dL_law_896, rfl, trivial⟩⟩ else none
          else
           if h : pc = 897 then some ⟨(.aload_n 0, 898, .inl 0, 0, 0), by subst h; exact ⟨dL_law_897, rfl, trivial⟩⟩ else none
        else
         bif Nat.blt pc 899 then
          if h : pc = 898 then some ⟨(.iload_n 3, 899, .inl 0, 0, 0), by subst h; exact ⟨dL_law_898, rfl, trivial⟩⟩ else none
         else
          bif Nat.blt pc 900 then
           if h : pc = 899 then some ⟨(.iconst 1, 900, .inl 1, 0, 0), by subst h; exact ⟨dL_law_899, rfl, ⟨1, rfl, by decide⟩⟩⟩ else none
          else
           if h : pc = 900 then some ⟨(.iadd, 901, .inl 0, 0, 0), by subst h; exact ⟨dL_law_900, rfl, trivial⟩⟩ else none
       else
        bif Nat.blt pc 904 then
         bif Nat.blt pc 902 then
          if h : pc = 901 then some ⟨(.iaload, 902, .inl 0, 0, 0), by subst h; exact ⟨dL_law_901, rfl, trivial⟩⟩ else none
         else
          bif Nat.blt pc 903 then
           if h : pc = 902 then some ⟨(.aload_n 0, 903, .inl 0, 0, 0), by subst h; exact ⟨dL_law_902, rfl, trivial⟩⟩ else none
          else
           if h : pc = 903 then some ⟨(.iload_n 3, 904, .inl 0, 0, 0), by subst h; exact ⟨dL_law_903, rfl, trivial⟩⟩ else none
        else
         bif Nat.blt pc 905 then
          if h : pc = 904 then some ⟨(.iconst 2, 905, .inl 2, 0, 0), by subst h; exact ⟨dL_law_904, rfl, ⟨2, rfl, by decide⟩⟩⟩ else none
         else
          bif Nat.blt pc 906 then
           if h : pc = 905 then some ⟨(.iadd, 906, .inl 0, 0, 0), by subst h; exact ⟨dL_law_905, rfl, trivial⟩⟩ else none
          else
           if h : pc = 906 then some ⟨(.iaload, 907, .inl 0, 0, 0), by subst h; exact ⟨dL_law_906, rfl, trivial⟩⟩ else none
      else
       bif Nat.blt pc 915 then
        bif Nat.blt pc 910 then
         bif Nat.blt pc 908 then
          if h : pc = 907 then some ⟨(.aload_n 0, 908, .inl 0, 0, 0), by subst h; exact ⟨dL_law_907, rfl, trivial⟩⟩ else none
         else
          bif Nat.blt pc 909 then
           if h : pc = 908 then some ⟨(.iload_n 3, 909, .inl 0, 0, 0), by subst h; exact ⟨dL_law_908, rfl, trivial⟩⟩ else none
          else
           if h : pc = 909 then some ⟨(.iconst 3, 910, .inl 3, 0, 0), by subst h; exact ⟨dL_law_909, rfl, ⟨3, rfl, by decide⟩⟩⟩ else none
        else
         bif Nat.blt pc 911 then
          if h : pc = 910 then some ⟨(.iadd, 911, .inl 0, 0, 0), by subst h; exact ⟨dL_law_910, rfl, trivial⟩⟩ else none
         else
          bif Nat.blt pc 912 then
           if h : pc = 911 then some ⟨(.iaload, 912, .inl 0, 0, 0), by subst h; exact ⟨dL_law_911, rfl, trivial⟩⟩ else none
          else
           if h : pc = 912 then some ⟨(.invokevirtual 116, 915, .inl 0, 193, 0), by subst h; exact ⟨dL_law_912, rfl, ⟨by decide, q1314, q1238, q1239, _, rfl, rfl⟩⟩⟩ else none
       else
        bif Nat.blt pc 918 then
         bif Nat.blt pc 916 then
          if h : pc = 915 then some ⟨(.aload_n 2, 916, .inl 0, 0, 0), by subst h; exact ⟨dL_law_915, rfl, trivial⟩⟩ else none
         else
          bif Nat.blt pc 917 then
           if h : pc = 916 then some ⟨(.aload_n 0, 917, .inl 0, 0, 0), by subst h; exact ⟨dL_law_916, rfl, trivial⟩⟩ else none
          else
           if h : pc = 917 then some ⟨(.iload_n 3, 918, .inl 0, 0, 0), by subst h; exact ⟨dL_law_917, rfl, trivial⟩⟩ else none
        else
         bif Nat.blt pc 920 then
          bif Nat.blt pc 919 then
           if h : pc = 918 then some ⟨(.iconst 1, 919, .inl 1, 0, 0), by subst h; exact ⟨dL_law_918, rfl, ⟨1, rfl, by decide⟩⟩⟩ else none
          else
           if h : pc = 919 then some ⟨(.iadd, 920, .inl 0, 0, 0), by subst h; exact ⟨dL_law_919, rfl, trivial⟩⟩ else none
         else
          bif Nat.blt pc 921 then
           if h : pc = 920 then some ⟨(.iaload, 921, .inl 0, 0, 0), by subst h; exact ⟨dL_law_920, rfl, trivial⟩⟩ else none
          else
           if h : pc = 921 then some ⟨(.aload_n 0, 922, .inl 0, 0, 0), by subst h; exact ⟨dL_law_921, rfl, trivial⟩⟩ else none
    else
     bif Nat.blt pc 950 then
      bif Nat.blt pc 938 then
       bif Nat.blt pc 928 then
        bif Nat.blt pc 925 then
         bif Nat.blt pc 923 then
          if h : pc = 922 then some ⟨(.iload_n 3, 923, .inl 0, 0, 0), by subst h; exact ⟨dL_law_922, rfl, trivial⟩⟩ else none
         else
          bif Nat.blt pc 924 then
           if h : pc = 923 then some ⟨(.iconst 2, 924, .inl 2, 0, 0), by subst h; exact ⟨dL_law_923, rfl, ⟨2, rfl, by decide⟩⟩⟩ else none
          else
           if h : pc = 924 then some ⟨(.iadd, 925, .inl 0, 0, 0), by subst h; exact ⟨dL_law_924, rfl, trivial⟩⟩ else none
        else
         bif Nat.blt pc 926 then
          if h : pc = 925 then some ⟨(.iaload, 926, .inl 0, 0, 0), by subst h; exact ⟨dL_law_925, rfl, trivial⟩⟩ else none
         else
          bif Nat.blt pc 927 then
           if h : pc = 926 then some ⟨(.aload_n 0, 927, .inl 0, 0, 0), by subst h; exact ⟨dL_law_926, rfl, trivial⟩⟩ else none
          else
           if h : pc = 927 then some ⟨(.iload_n 3, 928, .inl 0, 0, 0), by subst h; exact ⟨dL_law_927, rfl, trivial⟩⟩ else none
       else
        bif Nat.blt pc 931 then
         bif Nat.blt pc 929 then
          if h : pc = 928 then some ⟨(.iconst 3, 929, .inl 3, 0, 0), by subst h; exact ⟨dL_law_928, rfl, ⟨3, rfl, by decide⟩⟩⟩ else none
         else
          bif Nat.blt pc 930 then
           if h : pc = 929 then some ⟨(.iadd, 930, .inl 0, 0, 0), by subst h; exact ⟨dL_law_929, rfl, trivial⟩⟩ else none
          else
           if h : pc = 930 then some ⟨(.iaload, 931, .inl 0, 0, 0), by subst h; exact ⟨dL_law_930, rfl, trivial⟩⟩ else none
        else
         bif Nat.blt pc 934 then
          if h : pc = 931 then some ⟨(.invokevirtual 119, 934, .inl 0, 102, 14), by subst h; exact ⟨dL_law_931, rfl, ⟨by decide, q1895, q1896, q1897, _, rfl, rfl⟩⟩⟩ else none
         else
          bif Nat.blt pc 937 then
           if h : pc = 934 then some ⟨(.if_icmp .eq 154, 937, .inl 0, 1088, 0), by subst h; exact ⟨dL_law_934, rfl, (show ((934 : Nat) : Int) + (154) = ((1088 : Nat) : Int) by decide)⟩⟩ else none
          else
           if h : pc = 937 then some ⟨(.iconst 0, 938, .inl 0, 0, 0), by subst h; exact ⟨dL_law_937, rfl, ⟨0, rfl, by decide⟩⟩⟩ else none
      else
       bif Nat.blt pc 944 then
        bif Nat.blt pc 941 then
         bif Nat.blt pc 939 then
          if h : pc = 938 then some ⟨(.ireturn, 939, .inl 0, 1, 0), by subst h; exact ⟨dL_law_938, rfl, rfl⟩⟩ else none
         else
          bif Nat.blt pc 940 then
           if h : pc = 939 then some ⟨(.aload_n 1, 940, .inl 0, 0, 0), by subst h; exact ⟨dL_law_939, rfl, trivial⟩⟩ else none
          else
           if h : pc = 940 then some ⟨(.aload_n 0, 941, .inl 0, 0, 0), by subst h; exact ⟨dL_law_940, rfl, trivial⟩⟩ else none
        else
         bif Nat.blt pc 942 then
          if h : pc = 941 then some ⟨(.iload_n 3, 942, .inl 0, 0, 0), by subst h; exact ⟨dL_law_941, rfl, trivial⟩⟩ else none
         else
          bif Nat.blt pc 943 then
           if h : pc = 942 then some ⟨(.iconst 1, 943, .inl 1, 0, 0), by subst h; exact ⟨dL_law_942, rfl, ⟨1, rfl, by decide⟩⟩⟩ else none
          else
           if h : pc = 943 then some ⟨(.iadd, 944, .inl 0, 0, 0), by subst h; exact ⟨dL_law_943, rfl, trivial⟩⟩ else none
       else
        bif Nat.blt pc 947 then
         bif Nat.blt pc 945 then
          if h : pc = 944 then some ⟨(.iaload, 945, .inl 0, 0, 0), by subst h; exact ⟨dL_law_944, rfl, trivial⟩⟩ else none
         else
          bif Nat.blt pc 946 then
           if h : pc = 945 then some ⟨(.aload_n 0, 946, .inl 0, 0, 0), by subst h; exact ⟨dL_law_945, rfl, trivial⟩⟩ else none
          else
           if h : pc = 946 then some ⟨(.iload_n 3, 947, .inl 0, 0, 0), by subst h; exact ⟨dL_law_946, rfl, trivial⟩⟩ else none
        else
         bif Nat.blt pc 948 then
          if h : pc = 947 then some ⟨(.iconst 2, 948, .inl 2, 0, 0), by subst h; exact ⟨dL_law_947, rfl, ⟨2, rfl, by decide⟩⟩⟩ else none
         else
          bif Nat.blt pc 949 then
           if h : pc = 948 then some ⟨(.iadd, 949, .inl 0, 0, 0), by subst h; exact ⟨dL_law_948, rfl, trivial⟩⟩ else none
          else
           if h : pc = 949 then some ⟨(.iaload, 950, .inl 0, 0, 0), by subst h; exact ⟨dL_law_949, rfl, trivial⟩⟩ else none
     else
      bif Nat.blt pc 962 then
       bif Nat.blt pc 956 then
        bif Nat.blt pc 953 then
         bif Nat.blt pc 951 then
          if h : pc = 950 then some ⟨(.aload_n 0, 951, .inl 0, 0, 0), by subst h; exact ⟨dL_law_950, rfl, trivial⟩⟩ else none
         else
          bif Nat.blt pc 952 then
           if h : pc = 951 then some ⟨(.iload_n 3, 952, .inl 0, 0, 0), by subst h; exact ⟨dL_law_951, rfl, trivial⟩⟩ else none
          else
           if h : pc = 952 then some ⟨(.iconst 3, 953, .inl 3, 0, 0), by subst h; exact ⟨dL_law_952, rfl, ⟨3, rfl, by decide⟩⟩⟩ else none
        else
         bif Nat.blt pc 954 then
          if h : pc = 953 then some ⟨(.iadd, 954, .inl 0, 0, 0), by subst h; exact ⟨dL_law_953, rfl, trivial⟩⟩ else none
         else
          bif Nat.blt pc 955 then
           if h : pc = 954 then some ⟨(.iaload, 955, .inl 0, 0, 0), by subst h; exact ⟨dL_law_954, rfl, trivial⟩⟩ else none
          else
           if h : pc = 955 then some ⟨(.aload_n 0, 956, .inl 0, 0, 0), by subst h; exact ⟨dL_law_955, rfl, trivial⟩⟩ else none
       else
        bif Nat.blt pc 959 then
         bif Nat.blt pc 957 then
          if h : pc = 956 then some ⟨(.iload_n 3, 957, .inl 0, 0, 0), by subst h; exact ⟨dL_law_956, rfl, trivial⟩⟩ else none
         else
          bif Nat.blt pc 958 then
           if h : pc = 957 then some ⟨(.iconst 4, 958, .inl 4, 0, 0), by subst h; exact ⟨dL_law_957, rfl, ⟨4, rfl, by decide⟩⟩⟩ else none
          else
           if h : pc = 958 then some ⟨(.iadd, 959, .inl 0, 0, 0), by subst h; exact ⟨dL_law_958, rfl, trivial⟩⟩ else none
        else
         bif Nat.blt pc 960 then
          if h : pc = 959 then some ⟨(.iaload, 960, .inl 0, 0, 0), by subst h; exact ⟨dL_law_959, rfl, trivial⟩⟩ else none
         else
          bif Nat.blt pc 961 then
           if h : pc = 960 then some ⟨(.aload_n 0, 961, .inl 0, 0, 0), by subst h; exact ⟨dL_law_960, rfl, trivial⟩⟩ else none
          else
           if h : pc = 961 then some ⟨(.iload_n 3, 962, .inl 0, 0, 0), by subst h; exact ⟨dL_law_961, rfl, trivial⟩⟩ else none
      else
       bif Nat.blt pc 970 then
        bif Nat.blt pc 965 then
         bif Nat.blt pc 963 then
          if h : pc = 962 then some ⟨(.iconst 5, 963, .inl 5, 0, 0), by subst h; exact ⟨dL_law_962, rfl, ⟨5, rfl, by decide⟩⟩⟩ else none
         else
          bif Nat.blt pc 964 then
           if h : pc = 963 then some ⟨(.iadd, 964, .inl 0, 0, 0), by subst h; exact ⟨dL_law_963, rfl, trivial⟩⟩ else none
          else
           if h : pc = 964 then some ⟨(.iaload, 965, .inl 0, 0, 0), by subst h; exact ⟨dL_law_964, rfl, trivial⟩⟩ else none
        else
         bif Nat.blt pc 968 then
          if h : pc = 965 then some ⟨(.invokevirtual 120, 968, .inl 0, 202, 0), by subst h; exact ⟨dL_law_965, rfl, ⟨by decide, q1315, q1316, q1317, _, rfl, rfl⟩⟩⟩ else none
         else
          bif Nat.blt pc 969 then
           if h : pc = 968 then some ⟨(.aload_n 2, 969, .inl 0, 0, 0), by subst h; exact ⟨dL_law_968, rfl, trivial⟩⟩ else none
          else
           if h : pc = 969 then some ⟨(.aload_n 0, 970, .inl 0, 0, 0), by subst h; exact ⟨dL_law_969, rfl, trivial⟩⟩ else none
       else
        bif Nat.blt pc 973 then
         bif Nat.blt pc 971 then
          if h : pc = 970 then some ⟨(.iload_n 3, 971, .inl 0, 0, 0), by subst h; exact ⟨dL_law_970, rfl, trivial⟩⟩ else none
         else
          bif Nat.blt pc 972 then
           if h : pc = 971 then some ⟨(.iconst 1, 972, .inl 1, 0, 0), by subst h; exact ⟨dL_law_971, rfl, ⟨1, rfl, by decide⟩⟩⟩ else none
          else
           if h : pc = 972 then some ⟨(.iadd, 973, .inl 0, 0, 0), by subst h; exact ⟨dL_law_972, rfl, trivial⟩⟩ else none
        else
         bif Nat.blt pc 975 then
          bif Nat.blt pc 974 then
           if h : pc = 973 then some ⟨(.iaload, 974, .inl 0, 0, 0), by subst h; exact ⟨dL_law_973, rfl, trivial⟩⟩ else none
          else
           if h : pc = 974 then some ⟨(.aload_n 0, 975, .inl 0, 0, 0), by subst h; exact ⟨dL_law_974, rfl, trivial⟩⟩ else none
         else
          bif Nat.blt pc 976 then
           if h : pc = 975 then some ⟨(.iload_n 3, 976, .inl 0, 0, 0), by subst h; exact ⟨dL_law_975, rfl, trivial⟩⟩ else none
          else
           if h : pc = 976 then some ⟨(.iconst 2, 977, .inl 2, 0, 0), by subst h; exact ⟨dL_law_976, rfl, ⟨2, rfl, by decide⟩⟩⟩ else none
   else
    bif Nat.blt pc 1032 then
     bif Nat.blt pc 1005 then
      bif Nat.blt pc 989 then
       bif Nat.blt pc 983 then
        bif Nat.blt pc 980 then
         bif Nat.blt pc 978 then
          if h : pc = 977 then some ⟨(.iadd, 978, .inl 0, 0, 0), by subst h; exact ⟨dL_law_977, rfl, trivial⟩⟩ else none
         else
          bif Nat.blt pc 979 then
           if h : pc = 978 then some ⟨(.iaload, 979, .inl 0, 0, 0), by subst h; exact ⟨dL_law_978, rfl, trivial⟩⟩ else none
          else
           if h : pc = 979 then some ⟨(.aload_n 0, 980, .inl 0, 0, 0), by subst h; exact ⟨dL_law_979, rfl, trivial⟩⟩ else none
        else
         bif Nat.blt pc 981 then
          if h : pc = 980 then some ⟨(.iload_n 3, 981, .inl 0, 0, 0), by subst h; exact ⟨dL_law_980, rfl, trivial⟩⟩ else none
         else
          bif Nat.blt pc 982 then
           if h : pc = 981 then some ⟨(.iconst 3, 982, .inl 3, 0, 0), by subst h; exact ⟨dL_law_981, rfl, ⟨3, rfl, by decide⟩⟩⟩ else none
          else
           if h : pc = 982 then some ⟨(.iadd, 983, .inl 0, 0, 0), by subst h; exact ⟨dL_law_982, rfl, trivial⟩⟩ else none
       else
        bif Nat.blt pc 986 then
         bif Nat.blt pc 984 then
          if h : pc = 983 then some ⟨(.iaload, 984, .inl 0, 0, 0), by subst h; exact ⟨dL_law_983, rfl, trivial⟩⟩ else none
         else
          bif Nat.blt pc 985 then
           if h : pc = 984 then some ⟨(.aload_n 0, 985, .inl 0, 0, 0), by subst h; exact ⟨dL_law_984, rfl, trivial⟩⟩ else none
          else
           if h : pc = 985 then some ⟨(.iload_n 3, 986, .inl 0, 0, 0), by subst h; exact ⟨dL_law_985, rfl, trivial⟩⟩ else none
        else
         bif Nat.blt pc 987 then
          if h : pc = 986 then some ⟨(.iconst 4, 987, .inl 4, 0, 0), by subst h; exact ⟨dL_law_986, rfl, ⟨4, rfl, by decide⟩⟩⟩ else none
         else
          bif Nat.blt pc 988 then
           if h : pc = 987 then some ⟨(.iadd, 988, .inl 0, 0, 0), by subst h; exact ⟨dL_law_987, rfl, trivial⟩⟩ else none
          else
           if h : pc = 988 then some ⟨(.iaload, 989, .inl 0, 0, 0), by subst h; exact ⟨dL_law_988, rfl, trivial⟩⟩ else none
      else
       bif Nat.blt pc 997 then
        bif Nat.blt pc 992 then
         bif Nat.blt pc 990 then
          if h : pc = 989 then some ⟨(.aload_n 0, 990, .inl 0, 0, 0), by subst h; exact ⟨dL_law_989, rfl, trivial⟩⟩ else none
         else
          bif Nat.blt pc 991 then
           if h : pc = 990 then some ⟨(.iload_n 3, 991, .inl 0, 0, 0), by subst h; exact ⟨dL_law_990, rfl, trivial⟩⟩ else none
          else
           if h : pc = 991 then some ⟨(.iconst 5, 992, .inl 5, 0, 0), by subst h; exact ⟨dL_law_991, rfl, ⟨5, rfl, by decide⟩⟩⟩ else none
        else
         bif Nat.blt pc 993 then
          if h : pc = 992 then some ⟨(.iadd, 993, .inl 0, 0, 0), by subst h; exact ⟨dL_law_992, rfl, trivial⟩⟩ else none
         else
          bif Nat.blt pc 994 then
           if h : pc = 993 then some ⟨(.iaload, 994, .inl 0, 0, 0), by subst h; exact ⟨dL_law_993, rfl, trivial⟩⟩ else none
          else
           if h : pc = 994 then some ⟨(.invokevirtual 124, 997, .inl 0, 103, 14), by subst h; exact ⟨dL_law_994, rfl, ⟨by decide, q1899, q1900, q1901, _, rfl, rfl⟩⟩⟩ else none
       else
        bif Nat.blt pc 1002 then
         bif Nat.blt pc 1000 then
          if h : pc = 997 then some ⟨(.if_icmp .eq 91, 1000, .inl 0, 1088, 0), by subst h; exact ⟨dL_law_997, rfl, (show ((997 : Nat) : Int) + (91) = ((1088 : Nat) : Int) by decide)⟩⟩ else none
         else
          bif Nat.blt pc 1001 then
           if h : pc = 1000 then some ⟨(.iconst 0, 1001, .inl 0, 0, 0), by subst h; exact ⟨dL_law_1000, rfl, ⟨0, rfl, by decide⟩⟩⟩ else none
          else
           if h : pc = 1001 then some ⟨(.ireturn, 1002, .inl 0, 1, 0), by subst h; exact ⟨dL_law_1001, rfl, rfl⟩⟩ else none
        else
         bif Nat.blt pc 1003 then
          if h : pc = 1002 then some ⟨(.aload_n 1, 1003, .inl 0, 0, 0), by subst h; exact ⟨dL_law_1002, rfl, trivial⟩⟩ else none
         else
          bif Nat.blt pc 1004 then
           if h : pc = 1003 then some ⟨(.aload_n 0, 1004, .inl 0, 0, 0), by subst h; exact ⟨dL_law_1003, rfl, trivial⟩⟩ else none
          else
           if h : pc = 1004 then some ⟨(.iload_n 3, 1005, .inl 0, 0, 0), by subst h; exact ⟨dL_law_1004, rfl, trivial⟩⟩ else none
     else
      bif Nat.blt pc 1017 then
       bif Nat.blt pc 1011 then
        bif Nat.blt pc 1008 then
         bif Nat.blt pc 1006 then
          if h : pc = 1005 then some ⟨(.iconst 1, 1006, .inl 1, 0, 0), by subst h; exact ⟨dL_law_1005, rfl, ⟨1, rfl, by decide⟩⟩⟩ else none
         else
          bif Nat.blt pc 1007 then
           if h : pc = 1006 then some ⟨(.iadd, 1007, .inl 0, 0, 0), by subst h; exact ⟨dL_law_1006, rfl, trivial⟩⟩ else none
          else
           if h : pc = 1007 then some ⟨(.iaload, 1008, .inl 0, 0, 0), by subst h; exact ⟨dL_law_1007, rfl, trivial⟩⟩ else none
        else
         bif Nat.blt pc 1009 then
          if h : pc = 1008 then some ⟨(.aload_n 0, 1009, .inl 0, 0, 0), by subst h; exact ⟨dL_law_1008, rfl, trivial⟩⟩ else none
         else
          bif Nat.blt pc 1010 then
           if h : pc = 1009 then some ⟨(.iload_n 3, 1010, .inl 0, 0, 0), by subst h; exact ⟨dL_law_1009, rfl, trivial⟩⟩ else none
          else
           if h : pc = 1010 then some ⟨(.iconst 2, 1011, .inl 2, 0, 0), by subst h; exact ⟨dL_law_1010, rfl, ⟨2, rfl, by decide⟩⟩⟩ else none
       else
        bif Nat.blt pc 1014 then
         bif Nat.blt pc 1012 then
          if h : pc = 1011 then some ⟨(.iadd, 1012, .inl 0, 0, 0), by subst h; exact ⟨dL_law_1011, rfl, trivial⟩⟩ else none
         else
          bif Nat.blt pc 1013 then
           if h : pc = 1012 then some ⟨(.iaload, 1013, .inl 0, 0, 0), by subst h; exact ⟨dL_law_1012, rfl, trivial⟩⟩ else none
          else
           if h : pc = 1013 then some ⟨(.aload_n 0, 1014, .inl 0, 0, 0), by subst h; exact ⟨dL_law_1013, rfl, trivial⟩⟩ else none
        else
         bif Nat.blt pc 1015 then
          if h : pc = 1014 then some ⟨(.iload_n 3, 1015, .inl 0, 0, 0), by subst h; exact ⟨dL_law_1014, rfl, trivial⟩⟩ else none
         else
          bif Nat.blt pc 1016 then
           if h : pc = 1015 then some ⟨(.iconst 3, 1016, .inl 3, 0, 0), by subst h; exact ⟨dL_law_1015, rfl, ⟨3, rfl, by decide⟩⟩⟩ else none
          else
           if h : pc = 1016 then some ⟨(.iadd, 1017, .inl 0, 0, 0), by subst h; exact ⟨dL_law_1016, rfl, trivial⟩⟩ else none
      else
       bif Nat.blt pc 1023 then
        bif Nat.blt pc 1020 then
         bif Nat.blt pc 1018 then
          if h : pc = 1017 then some ⟨(.iaload, 1018, .inl 0, 0, 0), by subst h; exact ⟨dL_law_1017, rfl, trivial⟩⟩ else none
         else
          bif Nat.blt pc 1019 then
           if h : pc = 1018 then some ⟨(.aload_n 0, 1019, .inl 0, 0, 0), by subst h; exact ⟨dL_law_1018, rfl, trivial⟩⟩ else none
          else
           if h : pc = 1019 then some ⟨(.iload_n 3, 1020, .inl 0, 0, 0), by subst h; exact ⟨dL_law_1019, rfl, trivial⟩⟩ else none
        else
         bif Nat.blt pc 1021 then
          if h : pc = 1020 then some ⟨(.iconst 4, 1021, .inl 4, 0, 0), by subst h; exact ⟨dL_law_1020, rfl, ⟨4, rfl, by decide⟩⟩⟩ else none
         else
          bif Nat.blt pc 1022 then
           if h : pc = 1021 then some ⟨(.iadd, 1022, .inl 0, 0, 0), by subst h; exact ⟨dL_law_1021, rfl, trivial⟩⟩ else none
          else
           if h : pc = 1022 then some ⟨(.iaload, 1023, .inl 0, 0, 0), by subst h; exact ⟨dL_law_1022, rfl, trivial⟩⟩ else none
       else
        bif Nat.blt pc 1028 then
         bif Nat.blt pc 1026 then
          if h : pc = 1023 then some ⟨(.invokevirtual 125, 1026, .inl 0, 203, 0), by subst h; exact ⟨dL_law_1023, rfl, ⟨by decide, q1319, q1320, q1321, _, rfl, rfl⟩⟩⟩ else none
         else
          bif Nat.blt pc 1027 then
           if h : pc = 1026 then some ⟨(.aload_n 2, 1027, .inl 0, 0, 0), by subst h; exact ⟨dL_law_1026, rfl, trivial⟩⟩ else none
          else
           if h : pc = 1027 then some ⟨(.aload_n 0, 1028, .inl 0, 0, 0), by subst h; exact ⟨dL_law_1027, rfl, trivial⟩⟩ else none
        else
         bif Nat.blt pc 1030 then
          bif Nat.blt pc 1029 then
           if h : pc = 1028 then some ⟨(.iload_n 3, 1029, .inl 0, 0, 0), by subst h; exact ⟨dL_law_1028, rfl, trivial⟩⟩ else none
          else
           if h : pc = 1029 then some ⟨(.iconst 1, 1030, .inl 1, 0, 0), by subst h; exact ⟨dL_law_1029, rfl, ⟨1, rfl, by decide⟩⟩⟩ else none
         else
          bif Nat.blt pc 1031 then
           if h : pc = 1030 then some ⟨(.iadd, 1031, .inl 0, 0, 0), by subst h; exact ⟨dL_law_1030, rfl, trivial⟩⟩ else none
          else
           if h : pc = 1031 then some ⟨(.iaload, 1032, .inl 0, 0, 0), by subst h; exact ⟨dL_law_1031, rfl, trivial⟩⟩ else none
    else
     bif Nat.blt pc 1061 then
      bif Nat.blt pc 1044 then
       bif Nat.blt pc 1038 then
        bif Nat.blt pc 1035 then
         bif Nat.blt pc 1033 then
          if h : pc = 1032 then some ⟨(.aload_n 0, 1033, .inl 0, 0, 0), by subst h; exact ⟨dL_law_1032, rfl, trivial⟩⟩ else none
         else
          bif Nat.blt pc 1034 then
           if h : pc = 1033 then some ⟨(.iload_n 3, 1034, .inl 0, 0, 0), by subst h; exact ⟨dL_law_1033, rfl, trivial⟩⟩ else none
          else
           if h : pc = 1034 then some ⟨(.iconst 2, 1035, .inl 2, 0, 0), by subst h; exact ⟨dL_law_1034, rfl, ⟨2, rfl, by decide⟩⟩⟩ else none
        else
         bif Nat.blt pc 1036 then
          if h : pc = 1035 then some ⟨(.iadd, 1036, .inl 0, 0, 0), by subst h; exact ⟨dL_law_1035, rfl, trivial⟩⟩ else none
         else
          bif Nat.blt pc 1037 then
           if h : pc = 1036 then some ⟨(.iaload, 1037, .inl 0, 0, 0), by subst h; exact ⟨dL_law_1036, rfl, trivial⟩⟩ else none
          else
           if h : pc = 1037 then some ⟨(.aload_n 0, 1038, .inl 0, 0, 0), by subst h; exact ⟨dL_law_1037, rfl, trivial⟩⟩ else none
       else
        bif Nat.blt pc 1041 then
         bif Nat.blt pc 1039 then
          if h : pc = 1038 then some ⟨(.iload_n 3, 1039, .inl 0, 0, 0), by subst h; exact ⟨dL_law_1038, rfl, trivial⟩⟩ else none
         else
          bif Nat.blt pc 1040 then
           if h : pc = 1039 then some ⟨(.iconst 3, 1040, .inl 3, 0, 0), by subst h; exact ⟨dL_law_1039, rfl, ⟨3, rfl, by decide⟩⟩⟩ else none
          else
           if h : pc = 1040 then some ⟨(.iadd, 1041, .inl 0, 0, 0), by subst h; exact ⟨dL_law_1040, rfl, trivial⟩⟩ else none
        else
         bif Nat.blt pc 1042 then
          if h : pc = 1041 then some ⟨(.iaload, 1042, .inl 0, 0, 0), by subst h; exact ⟨dL_law_1041, rfl, trivial⟩⟩ else none
         else
          bif Nat.blt pc 1043 then
           if h : pc = 1042 then some ⟨(.aload_n 0, 1043, .inl 0, 0, 0), by subst h; exact ⟨dL_law_1042, rfl, trivial⟩⟩ else none
          else
           if h : pc = 1043 then some ⟨(.iload_n 3, 1044, .inl 0, 0, 0), by subst h; exact ⟨dL_law_1043, rfl, trivial⟩⟩ else none
      else
       bif Nat.blt pc 1054 then
        bif Nat.blt pc 1047 then
         bif Nat.blt pc 1045 then
          if h : pc = 1044 then some ⟨(.iconst 4, 1045, .inl 4, 0, 0), by subst h; exact ⟨dL_law_1044, rfl, ⟨4, rfl, by decide⟩⟩⟩ else none
         else
          bif Nat.blt pc 1046 then
           if h : pc = 1045 then some ⟨(.iadd, 1046, .inl 0, 0, 0), by subst h; exact ⟨dL_law_1045, rfl, trivial⟩⟩ else none
          else
           if h : pc = 1046 then some ⟨(.iaload, 1047, .inl 0, 0, 0), by subst h; exact ⟨dL_law_1046, rfl, trivial⟩⟩ else none
        else
         bif Nat.blt pc 1050 then
          if h : pc = 1047 then some ⟨(.invokevirtual 129, 1050, .inl 0, 104, 14), by subst h; exact ⟨dL_law_1047, rfl, ⟨by decide, q1903, q1904, q1905, _, rfl, rfl⟩⟩⟩ else none
         else
          bif Nat.blt pc 1053 then
           if h : pc = 1050 then some ⟨(.if_icmp .eq 38, 1053, .inl 0, 1088, 0), by subst h; exact ⟨dL_law_1050, rfl, (show ((1050 : Nat) : Int) + (38) = ((1088 : Nat) : Int) by decide)⟩⟩ else none
          else
           if h : pc = 1053 then some ⟨(.iconst 0, 1054, .inl 0, 0, 0), by subst h; exact ⟨dL_law_1053, rfl, ⟨0, rfl, by decide⟩⟩⟩ else none
       else
        bif Nat.blt pc 1057 then
         bif Nat.blt pc 1055 then
          if h : pc = 1054 then some ⟨(.ireturn, 1055, .inl 0, 1, 0), by subst h; exact ⟨dL_law_1054, rfl, rfl⟩⟩ else none
         else
          bif Nat.blt pc 1056 then
           if h : pc = 1055 then some ⟨(.aload_n 1, 1056, .inl 0, 0, 0), by subst h; exact ⟨dL_law_1055, rfl, trivial⟩⟩ else none
          else
           if h : pc = 1056 then some ⟨(.aload_n 0, 1057, .inl 0, 0, 0), by subst h; exact ⟨dL_law_1056, rfl, trivial⟩⟩ else none
        else
         bif Nat.blt pc 1059 then
          bif Nat.blt pc 1058 then
           if h : pc = 1057 then some ⟨(.iload_n 3, 1058, .inl 0, 0, 0), by subst h; exact ⟨dL_law_1057, rfl, trivial⟩⟩ else none
          else
           if h : pc = 1058 then some ⟨(.iconst 1, 1059, .inl 1, 0, 0), by subst h; exact ⟨dL_law_1058, rfl, ⟨1, rfl, by decide⟩⟩⟩ else none
         else
          bif Nat.blt pc 1060 then
           if h : pc = 1059 then some ⟨(.iadd, 1060, .inl 0, 0, 0), by subst h; exact ⟨dL_law_1059, rfl, trivial⟩⟩ else none
          else
           if h : pc = 1060 then some ⟨(.iaload, 1061, .inl 0, 0, 0), by subst h; exact ⟨dL_law_1060, rfl, trivial⟩⟩ else none
     else
      bif Nat.blt pc 1075 then
       bif Nat.blt pc 1069 then
        bif Nat.blt pc 1064 then
         bif Nat.blt pc 1062 then
          if h : pc = 1061 then some ⟨(.aload_n 0, 1062, .inl 0, 0, 0), by subst h; exact ⟨dL_law_1061, rfl, trivial⟩⟩ else none
         else
          bif Nat.blt pc 1063 then
           if h : pc = 1062 then some ⟨(.iload_n 3, 1063, .inl 0, 0, 0), by subst h; exact ⟨dL_law_1062, rfl, trivial⟩⟩ else none
          else
           if h : pc = 1063 then some ⟨(.iconst 2, 1064, .inl 2, 0, 0), by subst h; exact ⟨dL_law_1063, rfl, ⟨2, rfl, by decide⟩⟩⟩ else none
        else
         bif Nat.blt pc 1065 then
          if h : pc = 1064 then some ⟨(.iadd, 1065, .inl 0, 0, 0), by subst h; exact ⟨dL_law_1064, rfl, trivial⟩⟩ else none
         else
          bif Nat.blt pc 1066 then
           if h : pc = 1065 then some ⟨(.iaload, 1066, .inl 0, 0, 0), by subst h; exact ⟨dL_law_1065, rfl, trivial⟩⟩ else none
          else
           if h : pc = 1066 then some ⟨(.invokevirtual 130, 1069, .inl 0, 205, 0), by subst h; exact ⟨dL_law_1066, rfl, ⟨by decide, q1342, q1343, q1344, _, rfl, rfl⟩⟩⟩ else none
       else
        bif Nat.blt pc 1072 then
         bif Nat.blt pc 1070 then
          if h : pc = 1069 then some ⟨(.aload_n 2, 1070, .inl 0, 0, 0), by subst h; exact ⟨dL_law_1069, rfl, trivial⟩⟩ else none
         else
          bif Nat.blt pc 1071 then
           if h : pc = 1070 then some ⟨(.aload_n 0, 1071, .inl 0, 0, 0), by subst h; exact ⟨dL_law_1070, rfl, trivial⟩⟩ else none
          else
           if h : pc = 1071 then some ⟨(.iload_n 3, 1072, .inl 0, 0, 0), by subst h; exact ⟨dL_law_1071, rfl, trivial⟩⟩ else none
        else
         bif Nat.blt pc 1073 then
          if h : pc = 1072 then some ⟨(.iconst 1, 1073, .inl 1, 0, 0), by subst h; exact ⟨dL_law_1072, rfl, ⟨1, rfl, by decide⟩⟩⟩ else none
         else
          bif Nat.blt pc 1074 then
           if h : pc = 1073 then some ⟨(.iadd, 1074, .inl 0, 0, 0), by subst h; exact ⟨dL_law_1073, rfl, trivial⟩⟩ else none
          else
           if h : pc = 1074 then some ⟨(.iaload, 1075, .inl 0, 0, 0), by subst h; exact ⟨dL_law_1074, rfl, trivial⟩⟩ else none
      else
       bif Nat.blt pc 1083 then
        bif Nat.blt pc 1078 then
         bif Nat.blt pc 1076 then
          if h : pc = 1075 then some ⟨(.aload_n 0, 1076, .inl 0, 0, 0), by subst h; exact ⟨dL_law_1075, rfl, trivial⟩⟩ else none
         else
          bif Nat.blt pc 1077 then
           if h : pc = 1076 then some ⟨(.iload_n 3, 1077, .inl 0, 0, 0), by subst h; exact ⟨dL_law_1076, rfl, trivial⟩⟩ else none
          else
           if h : pc = 1077 then some ⟨(.iconst 2, 1078, .inl 2, 0, 0), by subst h; exact ⟨dL_law_1077, rfl, ⟨2, rfl, by decide⟩⟩⟩ else none
        else
         bif Nat.blt pc 1079 then
          if h : pc = 1078 then some ⟨(.iadd, 1079, .inl 0, 0, 0), by subst h; exact ⟨dL_law_1078, rfl, trivial⟩⟩ else none
         else
          bif Nat.blt pc 1080 then
           if h : pc = 1079 then some ⟨(.iaload, 1080, .inl 0, 0, 0), by subst h; exact ⟨dL_law_1079, rfl, trivial⟩⟩ else none
          else
           if h : pc = 1080 then some ⟨(.invokevirtual 133, 1083, .inl 0, 105, 14), by subst h; exact ⟨dL_law_1080, rfl, ⟨by decide, q1908, q1909, q1910, _, rfl, rfl⟩⟩⟩ else none
       else
        bif Nat.blt pc 1088 then
         bif Nat.blt pc 1086 then
          if h : pc = 1083 then some ⟨(.if_icmp .eq 5, 1086, .inl 0, 1088, 0), by subst h; exact ⟨dL_law_1083, rfl, (show ((1083 : Nat) : Int) + (5) = ((1088 : Nat) : Int) by decide)⟩⟩ else none
         else
          bif Nat.blt pc 1087 then
           if h : pc = 1086 then some ⟨(.iconst 0, 1087, .inl 0, 0, 0), by subst h; exact ⟨dL_law_1086, rfl, ⟨0, rfl, by decide⟩⟩⟩ else none
          else
           if h : pc = 1087 then some ⟨(.ireturn, 1088, .inl 0, 1, 0), by subst h; exact ⟨dL_law_1087, rfl, rfl⟩⟩ else none
        else
         bif Nat.blt pc 1094 then
          bif Nat.blt pc 1091 then
           if h : pc = 1088 then some ⟨(.iinc 3 6, 1091, .inl 6, 0, 0), by subst h; exact ⟨dL_law_1088, rfl, ⟨(show (3 : Nat) < 4 by decide), 6, rfl, by decide⟩⟩⟩ else none
          else
           if h : pc = 1091 then some ⟨(.goto (-1073), 1094, .inl 0, 18, 0), by subst h; exact ⟨dL_law_1091, rfl, (show ((1091 : Nat) : Int) + ((-1073)) = ((18 : Nat) : Int) by decide)⟩⟩ else none
         else
          bif Nat.blt pc 1095 then
           if h : pc = 1094 then some ⟨(.iconst 1, 1095, .inl 1, 0, 0), by subst h; exact ⟨dL_law_1094, rfl, ⟨1, rfl, by decide⟩⟩⟩ else none
          else
           if h : pc = 1095 then some ⟨(.ireturn, 1096, .inl 0, 1, 0), by subst h; exact ⟨dL_law_1095, rfl, rfl⟩⟩ else none

noncomputable def mdisp (x t : Nat) : Option {k : Nat // k < 900 ∧ Cond.instanceMethod (my k) ∈ lw_all ∧ (parseMethodDescriptor (my k).desc).map (fun d => d.parameters.length) = some (mxp x) ∧ ∃ q : vw_C, mcl[t]? = some q ∧ Cond.selects q.1 (mxs x) (my k) ∈ lw_all} :=
  if h : x = 0 ∧ t = 4 then some ⟨220, by obtain ⟨h1, h2⟩ := h; subst h1; subst h2; exact ⟨by decide, q303, by decide +kernel, _, rfl, q304⟩⟩ else
  if h : x = 0 ∧ t = 5 then some ⟨226, by obtain ⟨h1, h2⟩ := h; subst h1; subst h2; exact ⟨by decide, q316, by decide +kernel, _, rfl, q315⟩⟩ else
  if h : x = 0 ∧ t = 6 then some ⟨231, by obtain ⟨h1, h2⟩ := h; subst h1; subst h2; exact ⟨by decide, q307, by decide +kernel, _, rfl, q306⟩⟩ else
  if h : x = 0 ∧ t = 7 then some ⟨236, by obtain ⟨h1, h2⟩ := h; subst h1; subst h2; exact ⟨by decide, q324, by decide +kernel, _, rfl, q323⟩⟩ else
  if h : x = 0 ∧ t = 8 then some ⟨241, by obtain ⟨h1, h2⟩ := h; subst h1; subst h2; exact ⟨by decide, q320, by decide +kernel, _, rfl, q319⟩⟩ else
  if h : x = 0 ∧ t = 9 then some ⟨246, by obtain ⟨h1, h2⟩ := h; subst h1; subst h2; exact ⟨by decide, q312, by decide +kernel, _, rfl, q311⟩⟩ else
  if h : x = 1 ∧ t = 4 then some ⟨223, by obtain ⟨h1, h2⟩ := h; subst h1; subst h2; exact ⟨by decide, q446, by decide +kernel, _, rfl, q447⟩⟩ else
  if h : x = 1 ∧ t = 5 then some ⟨229, by obtain ⟨h1, h2⟩ := h; subst h1; subst h2; exact ⟨by decide, q466, by decide +kernel, _, rfl, q465⟩⟩ else
  if h : x = 1 ∧ t = 6 then some ⟨234, by obtain ⟨h1, h2⟩ := h; subst h1; subst h2; exact ⟨by decide, q450, by decide +kernel, _, rfl, q449⟩⟩ else
  if h : x = 1 ∧ t = 7 then some ⟨239, by obtain ⟨h1, h2⟩ := h; subst h1; subst h2; exact ⟨by decide, q478, by decide +kernel, _, rfl, q477⟩⟩ else
  if h : x = 1 ∧ t = 8 then some ⟨244, by obtain ⟨h1, h2⟩ := h; subst h1; subst h2; exact ⟨by decide, q472, by decide +kernel, _, rfl, q471⟩⟩ else
  if h : x = 1 ∧ t = 9 then some ⟨249, by obtain ⟨h1, h2⟩ := h; subst h1; subst h2; exact ⟨by decide, q462, by decide +kernel, _, rfl, q461⟩⟩ else
  if h : x = 2 ∧ t = 4 then some ⟨221, by obtain ⟨h1, h2⟩ := h; subst h1; subst h2; exact ⟨by decide, q370, by decide +kernel, _, rfl, q371⟩⟩ else
  if h : x = 2 ∧ t = 5 then some ⟨227, by obtain ⟨h1, h2⟩ := h; subst h1; subst h2; exact ⟨by decide, q383, by decide +kernel, _, rfl, q382⟩⟩ else
  if h : x = 2 ∧ t = 6 then some ⟨232, by obtain ⟨h1, h2⟩ := h; subst h1; subst h2; exact ⟨by decide, q374, by decide +kernel, _, rfl, q373⟩⟩ else
  if h : x = 2 ∧ t = 7 then some ⟨237, by obtain ⟨h1, h2⟩ := h; subst h1; subst h2; exact ⟨by decide, q391, by decide +kernel, _, rfl, q390⟩⟩ else
  if h : x = 2 ∧ t = 8 then some ⟨242, by obtain ⟨h1, h2⟩ := h; subst h1; subst h2; exact ⟨by decide, q387, by decide +kernel, _, rfl, q386⟩⟩ else
  if h : x = 2 ∧ t = 9 then some ⟨247, by obtain ⟨h1, h2⟩ := h; subst h1; subst h2; exact ⟨by decide, q379, by decide +kernel, _, rfl, q378⟩⟩ else
  if h : x = 3 ∧ t = 4 then some ⟨222, by obtain ⟨h1, h2⟩ := h; subst h1; subst h2; exact ⟨by decide, q399, by decide +kernel, _, rfl, q400⟩⟩ else
  if h : x = 3 ∧ t = 5 then some ⟨228, by obtain ⟨h1, h2⟩ := h; subst h1; subst h2; exact ⟨by decide, q412, by decide +kernel, _, rfl, q411⟩⟩ else
  if h : x = 3 ∧ t = 6 then some ⟨233, by obtain ⟨h1, h2⟩ := h; subst h1; subst h2; exact ⟨by decide, q403, by decide +kernel, _, rfl, q402⟩⟩ else
  if h : x = 3 ∧ t = 7 then some ⟨238, by obtain ⟨h1, h2⟩ := h; subst h1; subst h2; exact ⟨by decide, q419, by decide +kernel, _, rfl, q418⟩⟩ else
  if h : x = 3 ∧ t = 8 then some ⟨243, by obtain ⟨h1, h2⟩ := h; subst h1; subst h2; exact ⟨by decide, q415, by decide +kernel, _, rfl, q414⟩⟩ else
  if h : x = 3 ∧ t = 9 then some ⟨248, by obtain ⟨h1, h2⟩ := h; subst h1; subst h2; exact ⟨by decide, q408, by decide +kernel, _, rfl, q407⟩⟩ else
  if h : x = 4 ∧ t = 4 then some ⟨224, by obtain ⟨h1, h2⟩ := h; subst h1; subst h2; exact ⟨by decide, q1167, by decide +kernel, _, rfl, q1168⟩⟩ else
  if h : x = 4 ∧ t = 5 then some ⟨224, by obtain ⟨h1, h2⟩ := h; subst h1; subst h2; exact ⟨by decide, q1167, by decide +kernel, _, rfl, q1172⟩⟩ else
  if h : x = 4 ∧ t = 6 then some ⟨224, by obtain ⟨h1, h2⟩ := h; subst h1; subst h2; exact ⟨by decide, q1167, by decide +kernel, _, rfl, q1170⟩⟩ else
  if h : x = 4 ∧ t = 7 then some ⟨224, by obtain ⟨h1, h2⟩ := h; subst h1; subst h2; exact ⟨by decide, q1167, by decide +kernel, _, rfl, q1174⟩⟩ else
  if h : x = 4 ∧ t = 8 then some ⟨224, by obtain ⟨h1, h2⟩ := h; subst h1; subst h2; exact ⟨by decide, q1167, by decide +kernel, _, rfl, q1173⟩⟩ else
  if h : x = 4 ∧ t = 9 then some ⟨224, by obtain ⟨h1, h2⟩ := h; subst h1; subst h2; exact ⟨by decide, q1167, by decide +kernel, _, rfl, q1171⟩⟩ else
  if h : x = 5 ∧ t = 10 then some ⟨250, by obtain ⟨h1, h2⟩ := h; subst h1; subst h2; exact ⟨by decide, q346, by decide +kernel, _, rfl, q345⟩⟩ else
  if h : x = 5 ∧ t = 11 then some ⟨252, by obtain ⟨h1, h2⟩ := h; subst h1; subst h2; exact ⟨by decide, q339, by decide +kernel, _, rfl, q338⟩⟩ else
  if h : x = 5 ∧ t = 12 then some ⟨254, by obtain ⟨h1, h2⟩ := h; subst h1; subst h2; exact ⟨by decide, q349, by decide +kernel, _, rfl, q348⟩⟩ else
  if h : x = 5 ∧ t = 13 then some ⟨256, by obtain ⟨h1, h2⟩ := h; subst h1; subst h2; exact ⟨by decide, q352, by decide +kernel, _, rfl, q355⟩⟩ else
  none
/-- a method: its code; its locals, answer, parameters; its table; its handlers; what is known of it -/
abbrev mI (k : Nat) : Type := (cc : ByteArray) × {q : ((x : Nat × Option FieldType × Nat) × ((pc : Nat) → Option {e : mE // mOK (my k) cc x.1 x.2.1 pc e})) × List (Nat × Nat × Nat × Nat) × List (Nat × Nat × Nat × Nat × Nat) // k = 900 ∨ mMOK (my k) cc q.1.1 q.2.1 q.2.2}
noncomputable def mm (k : Nat) : Option (mI k) :=
 bif Nat.blt k 138 then
  bif Nat.blt k 69 then
   bif Nat.blt k 34 then
    bif Nat.blt k 17 then
     bif Nat.blt k 8 then
      bif Nat.blt k 4 then
       bif Nat.blt k 2 then
        bif Nat.blt k 1 then
         if h : k = 0 then some ⟨cX9_init, ⟨⟨(2, (Option.none : Option ClassFile.FieldType), 0), fun pc => (mt0 pc).map (fun e => ⟨e.1, by subst h; exact e.2⟩)⟩, [], []⟩, by subst h; exact Or.inr ⟨Or.inl ⟨rfl, q1353⟩, rfl, q147, ⟨by decide, by decide⟩, by decide +kernel, by decide, trivial⟩⟩ else none
        else
         if h : k = 1 then some ⟨cX9_spell, ⟨⟨(10, (Option.none : Option ClassFile.FieldType), 9), fun pc => (mt1 pc).map (fun e => ⟨e.1, by subst h; exact e.2⟩)⟩, [], []⟩, by subst h; exact Or.inr ⟨Or.inl ⟨rfl, q1358⟩, rfl, q147, ⟨by decide, by decide⟩, by decide +kernel, by decide, trivial⟩⟩ else none
       else
        bif Nat.blt k 3 then
         if h : k = 2 then some ⟨cX9_set, ⟨⟨(5, (Option.some ClassFile.FieldType.int), 3), fun pc => (mt2 pc).map (fun e => ⟨e.1, by subst h; exact e.2⟩)⟩, [], []⟩, by subst h; exact Or.inr ⟨Or.inl ⟨rfl, q1480⟩, rfl, q147, ⟨by decide, by decide⟩, by decide +kernel, by decide, trivial⟩⟩ else none
        else
         if h : k = 3 then some ⟨cX9_in, ⟨⟨(6, (Option.some ClassFile.FieldType.boolean), 3), fun pc => (mt3 pc).map (fun e => ⟨e.1, by subst h; exact e.2⟩)⟩, [], []⟩, by subst h; exact Or.inr ⟨Or.inl ⟨rfl, q1484⟩, rfl, q147, ⟨by decide, by decide⟩, by decide +kernel, by decide, trivial⟩⟩ else none
      else
       bif Nat.blt k 6 then
        bif Nat.blt k 5 then
         if h : k = 4 then some ⟨cX9_isOf, ⟨⟨(3, (Option.some ClassFile.FieldType.boolean), 2), fun pc => (mt4 pc).map (fun e => ⟨e.1, by subst h; exact e.2⟩)⟩, [], []⟩, by subst h; exact Or.inr ⟨Or.inl ⟨rfl, q1488⟩, rfl, q147, ⟨by decide, by decide⟩, by decide +kernel, by decide, trivial⟩⟩ else none
        else
         if h : k = 5 then some ⟨cX9_isOne, ⟨⟨(2, (Option.some ClassFile.FieldType.boolean), 1), fun pc => (mt5 pc).map (fun e => ⟨e.1, by subst h; exact e.2⟩)⟩, [], []⟩, by subst h; exact Or.inr ⟨Or.inl ⟨rfl, q1493⟩, rfl, q147, ⟨by decide, by decide⟩, by decide +kernel, by decide, trivial⟩⟩ else none
       else
        bif Nat.blt k 7 then
         if h : k = 6 then some ⟨cX9_mostOf, ⟨⟨(1, (Option.some ClassFile.FieldType.int), 1), fun pc => (mt6 pc).map (fun e => ⟨e.1, by subst h; exact e.2⟩)⟩, [], []⟩, by subst h; exact Or.inr ⟨Or.inl ⟨rfl, q1496⟩, rfl, q147, ⟨by decide, by decide⟩, by decide +kernel, by decide, trivial⟩⟩ else none
        else
         if h : k = 7 then some ⟨cX9_told, ⟨⟨(3, (Option.some ClassFile.FieldType.int), 2), fun pc => (mt7 pc).map (fun e => ⟨e.1, by subst h; exact e.2⟩)⟩, [], []⟩, by subst h; exact Or.inr ⟨Or.inl ⟨rfl, q1500⟩, rfl, q147, ⟨by decide, by decide⟩, by decide +kernel, by decide, trivial⟩⟩ else none
     else
      bif Nat.blt k 12 then
       bif Nat.blt k 10 then
        bif Nat.blt k 9 then
         if h : k = 8 then some ⟨cX9_strongOf, ⟨⟨(6, (Option.some ClassFile.FieldType.int), 1), fun pc => (mt8 pc).map (fun e => ⟨e.1, by subst h; exact e.2⟩)⟩, [], []⟩, by subst h; exact Or.inr ⟨Or.inl ⟨rfl, q1505⟩, rfl, q147, ⟨by decide, by decide⟩, by decide +kernel, by decide, trivial⟩⟩ else none
        else
         if h : k = 9 then some ⟨cX9_says, ⟨⟨(3, (Option.some ClassFile.FieldType.int), 2), fun pc => (mt9 pc).map (fun e => ⟨e.1, by subst h; exact e.2⟩)⟩, [], []⟩, by subst h; exact Or.inr ⟨Or.inl ⟨rfl, q1509⟩, rfl, q147, ⟨by decide, by decide⟩, by decide +kernel, by decide, trivial⟩⟩ else none
       else
        bif Nat.blt k 11 then
         if h : k = 10 then some ⟨cX9_hereMany, ⟨⟨(3, (Option.some ClassFile.FieldType.int), 0), fun pc => (mt10 pc).map (fun e => ⟨e.1, by subst h; exact e.2⟩)⟩, [], []⟩, by subst h; exact Or.inr ⟨Or.inl ⟨rfl, q1513⟩, rfl, q147, ⟨by decide, by decide⟩, by decide +kernel, by decide, trivial⟩⟩ else none
        else
         if h : k = 11 then some ⟨cX9_read, ⟨⟨(6, (Option.some ClassFile.FieldType.int), 2), fun pc => (mt11 pc).map (fun e => ⟨e.1, by subst h; exact e.2⟩)⟩, [], []⟩, by subst h; exact Or.inr ⟨Or.inl ⟨rfl, q1517⟩, rfl, q147, ⟨by decide, by decide⟩, by decide +kernel, by decide, trivial⟩⟩ else none
      else
       bif Nat.blt k 14 then
        bif Nat.blt k 13 then
         if h : k = 12 then some ⟨cX9_next, ⟨⟨(3, (Option.none : Option ClassFile.FieldType), 0), fun pc => (mt12 pc).map (fun e => ⟨e.1, by subst h; exact e.2⟩)⟩, [], []⟩, by subst h; exact Or.inr ⟨Or.inl ⟨rfl, q1521⟩, rfl, q147, ⟨by decide, by decide⟩, by decide +kernel, by decide, trivial⟩⟩ else none
        else
         if h : k = 13 then some ⟨cX9_byteAt, ⟨⟨(2, (Option.some ClassFile.FieldType.int), 1), fun pc => (mt13 pc).map (fun e => ⟨e.1, by subst h; exact e.2⟩)⟩, [], []⟩, by subst h; exact Or.inr ⟨Or.inl ⟨rfl, q1525⟩, rfl, q147, ⟨by decide, by decide⟩, by decide +kernel, by decide, trivial⟩⟩ else none
       else
        bif Nat.blt k 15 then
         if h : k = 14 then some ⟨cX9_isWord, ⟨⟨(9, (Option.some ClassFile.FieldType.boolean), 8), fun pc => (mt14 pc).map (fun e => ⟨e.1, by subst h; exact e.2⟩)⟩, [], []⟩, by subst h; exact Or.inr ⟨Or.inl ⟨rfl, q1533⟩, rfl, q147, ⟨by decide, by decide⟩, by decide +kernel, by decide, trivial⟩⟩ else none
        else
         bif Nat.blt k 16 then
          if h : k = 15 then some ⟨cX9_isLetter, ⟨⟨(3, (Option.some ClassFile.FieldType.boolean), 2), fun pc => (mt15 pc).map (fun e => ⟨e.1, by subst h; exact e.2⟩)⟩, [], []⟩, by subst h; exact Or.inr ⟨Or.inl ⟨rfl, q1537⟩, rfl, q147, ⟨by decide, by decide⟩, by decide +kernel, by decide, trivial⟩⟩ else none
         else
          if h : k = 16 then some ⟨cX9_part, ⟨⟨(3, (Option.some ClassFile.FieldType.int), 1), fun pc => (mt16 pc).map (fun e => ⟨e.1, by subst h; exact e.2⟩)⟩, [], []⟩, by subst h; exact Or.inr ⟨Or.inl ⟨rfl, q1541⟩, rfl, q147, ⟨by decide, by decide⟩, by decide +kernel, by decide, trivial⟩⟩ else none
    else
     bif Nat.blt k 25 then
      bif Nat.blt k 21 then
       bif Nat.blt k 19 then
        bif Nat.blt k 18 then
         if h : k = 17 then some ⟨cX9_fail, ⟨⟨(1, (Option.none : Option ClassFile.FieldType), 0), fun pc => (mt17 pc).map (fun e => ⟨e.1, by subst h; exact e.2⟩)⟩, [], []⟩, by subst h; exact Or.inr ⟨Or.inl ⟨rfl, q1545⟩, rfl, q147, ⟨by decide, by decide⟩, by decide +kernel, by decide, trivial⟩⟩ else none
        else
         if h : k = 18 then some ⟨cX9_either0, ⟨⟨(3, (Option.some ClassFile.FieldType.int), 0), fun pc => (mt18 pc).map (fun e => ⟨e.1, by subst h; exact e.2⟩)⟩, [], []⟩, by subst h; exact Or.inr ⟨Or.inl ⟨rfl, q1549⟩, rfl, q147, ⟨by decide, by decide⟩, by decide +kernel, by decide, trivial⟩⟩ else none
       else
        bif Nat.blt k 20 then
         if h : k = 19 then some ⟨cX9_both0, ⟨⟨(3, (Option.some ClassFile.FieldType.int), 0), fun pc => (mt19 pc).map (fun e => ⟨e.1, by subst h; exact e.2⟩)⟩, [], []⟩, by subst h; exact Or.inr ⟨Or.inl ⟨rfl, q1553⟩, rfl, q147, ⟨by decide, by decide⟩, by decide +kernel, by decide, trivial⟩⟩ else none
        else
         if h : k = 20 then some ⟨cX9_not0, ⟨⟨(4, (Option.some ClassFile.FieldType.int), 0), fun pc => (mt20 pc).map (fun e => ⟨e.1, by subst h; exact e.2⟩)⟩, [], []⟩, by subst h; exact Or.inr ⟨Or.inl ⟨rfl, q1557⟩, rfl, q147, ⟨by decide, by decide⟩, by decide +kernel, by decide, trivial⟩⟩ else none
      else
       bif Nat.blt k 23 then
        bif Nat.blt k 22 then
         if h : k = 21 then some ⟨cX9_opens, ⟨⟨(1, (Option.some ClassFile.FieldType.boolean), 0), fun pc => (mt21 pc).map (fun e => ⟨e.1, by subst h; exact e.2⟩)⟩, [], []⟩, by subst h; exact Or.inr ⟨Or.inl ⟨rfl, q1561⟩, rfl, q147, ⟨by decide, by decide⟩, by decide +kernel, by decide, trivial⟩⟩ else none
        else
         if h : k = 22 then some ⟨cX9_not1, ⟨⟨(4, (Option.some ClassFile.FieldType.int), 0), fun pc => (mt22 pc).map (fun e => ⟨e.1, by subst h; exact e.2⟩)⟩, [], []⟩, by subst h; exact Or.inr ⟨Or.inl ⟨rfl, q1565⟩, rfl, q147, ⟨by decide, by decide⟩, by decide +kernel, by decide, trivial⟩⟩ else none
       else
        bif Nat.blt k 24 then
         if h : k = 23 then some ⟨cX9_not2, ⟨⟨(4, (Option.some ClassFile.FieldType.int), 0), fun pc => (mt23 pc).map (fun e => ⟨e.1, by subst h; exact e.2⟩)⟩, [], []⟩, by subst h; exact Or.inr ⟨Or.inl ⟨rfl, q1569⟩, rfl, q147, ⟨by decide, by decide⟩, by decide +kernel, by decide, trivial⟩⟩ else none
        else
         if h : k = 24 then some ⟨cX9_not3, ⟨⟨(4, (Option.some ClassFile.FieldType.int), 0), fun pc => (mt24 pc).map (fun e => ⟨e.1, by subst h; exact e.2⟩)⟩, [], []⟩, by subst h; exact Or.inr ⟨Or.inl ⟨rfl, q1573⟩, rfl, q147, ⟨by decide, by decide⟩, by decide +kernel, by decide, trivial⟩⟩ else none
     else
      bif Nat.blt k 29 then
       bif Nat.blt k 27 then
        bif Nat.blt k 26 then
         if h : k = 25 then some ⟨cX9_not4, ⟨⟨(4, (Option.some ClassFile.FieldType.int), 0), fun pc => (mt25 pc).map (fun e => ⟨e.1, by subst h; exact e.2⟩)⟩, [], []⟩, by subst h; exact Or.inr ⟨Or.inl ⟨rfl, q1577⟩, rfl, q147, ⟨by decide, by decide⟩, by decide +kernel, by decide, trivial⟩⟩ else none
        else
         if h : k = 26 then some ⟨cX9_not5, ⟨⟨(4, (Option.some ClassFile.FieldType.int), 0), fun pc => (mt26 pc).map (fun e => ⟨e.1, by subst h; exact e.2⟩)⟩, [], []⟩, by subst h; exact Or.inr ⟨Or.inl ⟨rfl, q1581⟩, rfl, q147, ⟨by decide, by decide⟩, by decide +kernel, by decide, trivial⟩⟩ else none
       else
        bif Nat.blt k 28 then
         if h : k = 27 then some ⟨cX9_added5, ⟨⟨(4, (Option.some ClassFile.FieldType.int), 0), fun pc => (mt27 pc).map (fun e => ⟨e.1, by subst h; exact e.2⟩)⟩, [], []⟩, by subst h; exact Or.inr ⟨Or.inl ⟨rfl, q1585⟩, rfl, q147, ⟨by decide, by decide⟩, by decide +kernel, by decide, trivial⟩⟩ else none
        else
         if h : k = 28 then some ⟨cX9_term5, ⟨⟨(2, (Option.some ClassFile.FieldType.int), 0), fun pc => (mt28 pc).map (fun e => ⟨e.1, by subst h; exact e.2⟩)⟩, [], []⟩, by subst h; exact Or.inr ⟨Or.inl ⟨rfl, q1589⟩, rfl, q147, ⟨by decide, by decide⟩, by decide +kernel, by decide, trivial⟩⟩ else none
      else
       bif Nat.blt k 31 then
        bif Nat.blt k 30 then
         if h : k = 29 then some ⟨cX9_atom5, ⟨⟨(2, (Option.some ClassFile.FieldType.int), 0), fun pc => (mt29 pc).map (fun e => ⟨e.1, by subst h; exact e.2⟩)⟩, [], []⟩, by subst h; exact Or.inr ⟨Or.inl ⟨rfl, q1593⟩, rfl, q147, ⟨by decide, by decide⟩, by decide +kernel, by decide, trivial⟩⟩ else none
        else
         if h : k = 30 then some ⟨cX9_isSign, ⟨⟨(2, (Option.some ClassFile.FieldType.boolean), 1), fun pc => (mt30 pc).map (fun e => ⟨e.1, by subst h; exact e.2⟩)⟩, [], []⟩, by subst h; exact Or.inr ⟨Or.inl ⟨rfl, q1597⟩, rfl, q147, ⟨by decide, by decide⟩, by decide +kernel, by decide, trivial⟩⟩ else none
       else
        bif Nat.blt k 32 then
         if h : k = 31 then some ⟨cX9_name, ⟨⟨(1, (Option.some ClassFile.FieldType.int), 0), fun pc => (mt31 pc).map (fun e => ⟨e.1, by subst h; exact e.2⟩)⟩, [], []⟩, by subst h; exact Or.inr ⟨Or.inl ⟨rfl, q1601⟩, rfl, q147, ⟨by decide, by decide⟩, by decide +kernel, by decide, trivial⟩⟩ else none
        else
         bif Nat.blt k 33 then
          if h : k = 32 then some ⟨cX9_added4, ⟨⟨(4, (Option.some ClassFile.FieldType.int), 0), fun pc => (mt32 pc).map (fun e => ⟨e.1, by subst h; exact e.2⟩)⟩, [], []⟩, by subst h; exact Or.inr ⟨Or.inl ⟨rfl, q1607⟩, rfl, q147, ⟨by decide, by decide⟩, by decide +kernel, by decide, trivial⟩⟩ else none
         else
          if h : k = 33 then some ⟨cX9_term4, ⟨⟨(2, (Option.some ClassFile.FieldType.int), 0), fun pc => (mt33 pc).map (fun e => ⟨e.1, by subst h; exact e.2⟩)⟩, [], []⟩, by subst h; exact Or.inr ⟨Or.inl ⟨rfl, q1611⟩, rfl, q147, ⟨by decide, by decide⟩, by decide +kernel, by decide, trivial⟩⟩ else none
   else
    bif Nat.blt k 51 then
     bif Nat.blt k 42 then
      bif Nat.blt k 38 then
       bif Nat.blt k 36 then
        bif Nat.blt k 35 then
         if h : k = 34 then some ⟨cX9_atom4, ⟨⟨(2, (Option.some ClassFile.FieldType.int), 0), fun pc => (mt34 pc).map (fun e => ⟨e.1, by subst h; exact e.2⟩)⟩, [], []⟩, by subst h; exact Or.inr ⟨Or.inl ⟨rfl, q1615⟩, rfl, q147, ⟨by decide, by decide⟩, by decide +kernel, by decide, trivial⟩⟩ else none
        else
         if h : k = 35 then some ⟨cX9_either5, ⟨⟨(3, (Option.some ClassFile.FieldType.int), 0), fun pc => (mt35 pc).map (fun e => ⟨e.1, by subst h; exact e.2⟩)⟩, [], []⟩, by subst h; exact Or.inr ⟨Or.inl ⟨rfl, q1619⟩, rfl, q147, ⟨by decide, by decide⟩, by decide +kernel, by decide, trivial⟩⟩ else none
       else
        bif Nat.blt k 37 then
         if h : k = 36 then some ⟨cX9_both5, ⟨⟨(3, (Option.some ClassFile.FieldType.int), 0), fun pc => (mt36 pc).map (fun e => ⟨e.1, by subst h; exact e.2⟩)⟩, [], []⟩, by subst h; exact Or.inr ⟨Or.inl ⟨rfl, q1623⟩, rfl, q147, ⟨by decide, by decide⟩, by decide +kernel, by decide, trivial⟩⟩ else none
        else
         if h : k = 37 then some ⟨cX9_added3, ⟨⟨(4, (Option.some ClassFile.FieldType.int), 0), fun pc => (mt37 pc).map (fun e => ⟨e.1, by subst h; exact e.2⟩)⟩, [], []⟩, by subst h; exact Or.inr ⟨Or.inl ⟨rfl, q1627⟩, rfl, q147, ⟨by decide, by decide⟩, by decide +kernel, by decide, trivial⟩⟩ else none
      else
       bif Nat.blt k 40 then
        bif Nat.blt k 39 then
         if h : k = 38 then some ⟨cX9_term3, ⟨⟨(2, (Option.some ClassFile.FieldType.int), 0), fun pc => (mt38 pc).map (fun e => ⟨e.1, by subst h; exact e.2⟩)⟩, [], []⟩, by subst h; exact Or.inr ⟨Or.inl ⟨rfl, q1631⟩, rfl, q147, ⟨by decide, by decide⟩, by decide +kernel, by decide, trivial⟩⟩ else none
        else
         if h : k = 39 then some ⟨cX9_atom3, ⟨⟨(2, (Option.some ClassFile.FieldType.int), 0), fun pc => (mt39 pc).map (fun e => ⟨e.1, by subst h; exact e.2⟩)⟩, [], []⟩, by subst h; exact Or.inr ⟨Or.inl ⟨rfl, q1635⟩, rfl, q147, ⟨by decide, by decide⟩, by decide +kernel, by decide, trivial⟩⟩ else none
       else
        bif Nat.blt k 41 then
         if h : k = 40 then some ⟨cX9_either4, ⟨⟨(3, (Option.some ClassFile.FieldType.int), 0), fun pc => (mt40 pc).map (fun e => ⟨e.1, by subst h; exact e.2⟩)⟩, [], []⟩, by subst h; exact Or.inr ⟨Or.inl ⟨rfl, q1639⟩, rfl, q147, ⟨by decide, by decide⟩, by decide +kernel, by decide, trivial⟩⟩ else none
        else
         if h : k = 41 then some ⟨cX9_both4, ⟨⟨(3, (Option.some ClassFile.FieldType.int), 0), fun pc => (mt41 pc).map (fun e => ⟨e.1, by subst h; exact e.2⟩)⟩, [], []⟩, by subst h; exact Or.inr ⟨Or.inl ⟨rfl, q1643⟩, rfl, q147, ⟨by decide, by decide⟩, by decide +kernel, by decide, trivial⟩⟩ else none
     else
      bif Nat.blt k 46 then
       bif Nat.blt k 44 then
        bif Nat.blt k 43 then
         if h : k = 42 then some ⟨cX9_added2, ⟨⟨(4, (Option.some ClassFile.FieldType.int), 0), fun pc => (mt42 pc).map (fun e => ⟨e.1, by subst h; exact e.2⟩)⟩, [], []⟩, by subst h; exact Or.inr ⟨Or.inl ⟨rfl, q1647⟩, rfl, q147, ⟨by decide, by decide⟩, by decide +kernel, by decide, trivial⟩⟩ else none
        else
         if h : k = 43 then some ⟨cX9_term2, ⟨⟨(2, (Option.some ClassFile.FieldType.int), 0), fun pc => (mt43 pc).map (fun e => ⟨e.1, by subst h; exact e.2⟩)⟩, [], []⟩, by subst h; exact Or.inr ⟨Or.inl ⟨rfl, q1651⟩, rfl, q147, ⟨by decide, by decide⟩, by decide +kernel, by decide, trivial⟩⟩ else none
       else
        bif Nat.blt k 45 then
         if h : k = 44 then some ⟨cX9_atom2, ⟨⟨(2, (Option.some ClassFile.FieldType.int), 0), fun pc => (mt44 pc).map (fun e => ⟨e.1, by subst h; exact e.2⟩)⟩, [], []⟩, by subst h; exact Or.inr ⟨Or.inl ⟨rfl, q1655⟩, rfl, q147, ⟨by decide, by decide⟩, by decide +kernel, by decide, trivial⟩⟩ else none
        else
         if h : k = 45 then some ⟨cX9_either3, ⟨⟨(3, (Option.some ClassFile.FieldType.int), 0), fun pc => (mt45 pc).map (fun e => ⟨e.1, by subst h; exact e.2⟩)⟩, [], []⟩, by subst h; exact Or.inr ⟨Or.inl ⟨rfl, q1659⟩, rfl, q147, ⟨by decide, by decide⟩, by decide +kernel, by decide, trivial⟩⟩ else none
      else
       bif Nat.blt k 48 then
        bif Nat.blt k 47 then
         if h : k = 46 then some ⟨cX9_both3, ⟨⟨(3, (Option.some ClassFile.FieldType.int), 0), fun pc => (mt46 pc).map (fun e => ⟨e.1, by subst h; exact e.2⟩)⟩, [], []⟩, by subst h; exact Or.inr ⟨Or.inl ⟨rfl, q1663⟩, rfl, q147, ⟨by decide, by decide⟩, by decide +kernel, by decide, trivial⟩⟩ else none
        else
         if h : k = 47 then some ⟨cX9_added1, ⟨⟨(4, (Option.some ClassFile.FieldType.int), 0), fun pc => (mt47 pc).map (fun e => ⟨e.1, by subst h; exact e.2⟩)⟩, [], []⟩, by subst h; exact Or.inr ⟨Or.inl ⟨rfl, q1667⟩, rfl, q147, ⟨by decide, by decide⟩, by decide +kernel, by decide, trivial⟩⟩ else none
       else
        bif Nat.blt k 49 then
         if h : k = 48 then some ⟨cX9_term1, ⟨⟨(2, (Option.some ClassFile.FieldType.int), 0), fun pc => (mt48 pc).map (fun e => ⟨e.1, by subst h; exact e.2⟩)⟩, [], []⟩, by subst h; exact Or.inr ⟨Or.inl ⟨rfl, q1671⟩, rfl, q147, ⟨by decide, by decide⟩, by decide +kernel, by decide, trivial⟩⟩ else none
        else
         bif Nat.blt k 50 then
          if h : k = 49 then some ⟨cX9_atom1, ⟨⟨(2, (Option.some ClassFile.FieldType.int), 0), fun pc => (mt49 pc).map (fun e => ⟨e.1, by subst h; exact e.2⟩)⟩, [], []⟩, by subst h; exact Or.inr ⟨Or.inl ⟨rfl, q1675⟩, rfl, q147, ⟨by decide, by decide⟩, by decide +kernel, by decide, trivial⟩⟩ else none
         else
          if h : k = 50 then some ⟨cX9_either2, ⟨⟨(3, (Option.some ClassFile.FieldType.int), 0), fun pc => (mt50 pc).map (fun e => ⟨e.1, by subst h; exact e.2⟩)⟩, [], []⟩, by subst h; exact Or.inr ⟨Or.inl ⟨rfl, q1679⟩, rfl, q147, ⟨by decide, by decide⟩, by decide +kernel, by decide, trivial⟩⟩ else none
    else
     bif Nat.blt k 60 then
      bif Nat.blt k 55 then
       bif Nat.blt k 53 then
        bif Nat.blt k 52 then
         if h : k = 51 then some ⟨cX9_both2, ⟨⟨(3, (Option.some ClassFile.FieldType.int), 0), fun pc => (mt51 pc).map (fun e => ⟨e.1, by subst h; exact e.2⟩)⟩, [], []⟩, by subst h; exact Or.inr ⟨Or.inl ⟨rfl, q1683⟩, rfl, q147, ⟨by decide, by decide⟩, by decide +kernel, by decide, trivial⟩⟩ else none
        else
         if h : k = 52 then some ⟨cX9_added0, ⟨⟨(4, (Option.some ClassFile.FieldType.int), 0), fun pc => (mt52 pc).map (fun e => ⟨e.1, by subst h; exact e.2⟩)⟩, [], []⟩, by subst h; exact Or.inr ⟨Or.inl ⟨rfl, q1687⟩, rfl, q147, ⟨by decide, by decide⟩, by decide +kernel, by decide, trivial⟩⟩ else none
       else
        bif Nat.blt k 54 then
         if h : k = 53 then some ⟨cX9_term0, ⟨⟨(2, (Option.some ClassFile.FieldType.int), 0), fun pc => (mt53 pc).map (fun e => ⟨e.1, by subst h; exact e.2⟩)⟩, [], []⟩, by subst h; exact Or.inr ⟨Or.inl ⟨rfl, q1691⟩, rfl, q147, ⟨by decide, by decide⟩, by decide +kernel, by decide, trivial⟩⟩ else none
        else
         if h : k = 54 then some ⟨cX9_atom0, ⟨⟨(2, (Option.some ClassFile.FieldType.int), 0), fun pc => (mt54 pc).map (fun e => ⟨e.1, by subst h; exact e.2⟩)⟩, [], []⟩, by subst h; exact Or.inr ⟨Or.inl ⟨rfl, q1695⟩, rfl, q147, ⟨by decide, by decide⟩, by decide +kernel, by decide, trivial⟩⟩ else none
      else
       bif Nat.blt k 57 then
        bif Nat.blt k 56 then
         if h : k = 55 then some ⟨cX9_either1, ⟨⟨(3, (Option.some ClassFile.FieldType.int), 0), fun pc => (mt55 pc).map (fun e => ⟨e.1, by subst h; exact e.2⟩)⟩, [], []⟩, by subst h; exact Or.inr ⟨Or.inl ⟨rfl, q1699⟩, rfl, q147, ⟨by decide, by decide⟩, by decide +kernel, by decide, trivial⟩⟩ else none
        else
         if h : k = 56 then some ⟨cX9_both1, ⟨⟨(3, (Option.some ClassFile.FieldType.int), 0), fun pc => (mt56 pc).map (fun e => ⟨e.1, by subst h; exact e.2⟩)⟩, [], []⟩, by subst h; exact Or.inr ⟨Or.inl ⟨rfl, q1703⟩, rfl, q147, ⟨by decide, by decide⟩, by decide +kernel, by decide, trivial⟩⟩ else none
       else
        bif Nat.blt k 58 then
         if h : k = 57 then some ⟨cX9_within, ⟨⟨(3, (Option.some ClassFile.FieldType.int), 3), fun pc => (mt57 pc).map (fun e => ⟨e.1, by subst h; exact e.2⟩)⟩, [], []⟩, by subst h; exact Or.inr ⟨Or.inl ⟨rfl, q1706⟩, rfl, q147, ⟨by decide, by decide⟩, by decide +kernel, by decide, trivial⟩⟩ else none
        else
         bif Nat.blt k 59 then
          if h : k = 58 then some ⟨cX9_easedBy, ⟨⟨(4, (Option.some ClassFile.FieldType.int), 1), fun pc => (mt58 pc).map (fun e => ⟨e.1, by subst h; exact e.2⟩)⟩, [], []⟩, by subst h; exact Or.inr ⟨Or.inl ⟨rfl, q1710⟩, rfl, q147, ⟨by decide, by decide⟩, by decide +kernel, by decide, trivial⟩⟩ else none
         else
          if h : k = 59 then some ⟨cX9_canLift, ⟨⟨(2, (Option.some ClassFile.FieldType.boolean), 1), fun pc => (mt59 pc).map (fun e => ⟨e.1, by subst h; exact e.2⟩)⟩, [], []⟩, by subst h; exact Or.inr ⟨Or.inl ⟨rfl, q1714⟩, rfl, q147, ⟨by decide, by decide⟩, by decide +kernel, by decide, trivial⟩⟩ else none
     else
      bif Nat.blt k 64 then
       bif Nat.blt k 62 then
        bif Nat.blt k 61 then
         if h : k = 60 then some ⟨cX9_isHere, ⟨⟨(2, (Option.some ClassFile.FieldType.boolean), 1), fun pc => (mt60 pc).map (fun e => ⟨e.1, by subst h; exact e.2⟩)⟩, [], []⟩, by subst h; exact Or.inr ⟨Or.inl ⟨rfl, q1718⟩, rfl, q147, ⟨by decide, by decide⟩, by decide +kernel, by decide, trivial⟩⟩ else none
        else
         if h : k = 61 then some ⟨cX9_weightNow, ⟨⟨(3, (Option.some ClassFile.FieldType.int), 0), fun pc => (mt61 pc).map (fun e => ⟨e.1, by subst h; exact e.2⟩)⟩, [], []⟩, by subst h; exact Or.inr ⟨Or.inl ⟨rfl, q1722⟩, rfl, q147, ⟨by decide, by decide⟩, by decide +kernel, by decide, trivial⟩⟩ else none
       else
        bif Nat.blt k 63 then
         if h : k = 62 then some ⟨cX9_feelsOf, ⟨⟨(6, (Option.some ClassFile.FieldType.int), 1), fun pc => (mt62 pc).map (fun e => ⟨e.1, by subst h; exact e.2⟩)⟩, [], []⟩, by subst h; exact Or.inr ⟨Or.inl ⟨rfl, q1726⟩, rfl, q147, ⟨by decide, by decide⟩, by decide +kernel, by decide, trivial⟩⟩ else none
        else
         if h : k = 63 then some ⟨cX9_lays, ⟨⟨(4, (Option.none : Option ClassFile.FieldType), 3), fun pc => (mt63 pc).map (fun e => ⟨e.1, by subst h; exact e.2⟩)⟩, [], []⟩, by subst h; exact Or.inr ⟨Or.inl ⟨rfl, q1730⟩, rfl, q147, ⟨by decide, by decide⟩, by decide +kernel, by decide, trivial⟩⟩ else none
      else
       bif Nat.blt k 66 then
        bif Nat.blt k 65 then
         if h : k = 64 then some ⟨cX9_person, ⟨⟨(4, (Option.some ClassFile.FieldType.int), 3), fun pc => (mt64 pc).map (fun e => ⟨e.1, by subst h; exact e.2⟩)⟩, [], []⟩, by subst h; exact Or.inr ⟨Or.inl ⟨rfl, q1734⟩, rfl, q147, ⟨by decide, by decide⟩, by decide +kernel, by decide, trivial⟩⟩ else none
        else
         if h : k = 65 then some ⟨cX9_feed, ⟨⟨(2, (Option.some ClassFile.FieldType.int), 1), fun pc => (mt65 pc).map (fun e => ⟨e.1, by subst h; exact e.2⟩)⟩, [], []⟩, by subst h; exact Or.inr ⟨Or.inl ⟨rfl, q1741⟩, rfl, q147, ⟨by decide, by decide⟩, by decide +kernel, by decide, trivial⟩⟩ else none
       else
        bif Nat.blt k 67 then
         if h : k = 66 then some ⟨cX9_text, ⟨⟨(2, (Option.some ClassFile.FieldType.int), 0), fun pc => (mt66 pc).map (fun e => ⟨e.1, by subst h; exact e.2⟩)⟩, [], []⟩, by subst h; exact Or.inr ⟨Or.inl ⟨rfl, q1746⟩, rfl, q147, ⟨by decide, by decide⟩, by decide +kernel, by decide, trivial⟩⟩ else none
        else
         bif Nat.blt k 68 then
          if h : k = 67 then some ⟨cX9_force, ⟨⟨(3, (Option.some ClassFile.FieldType.int), 1), fun pc => (mt67 pc).map (fun e => ⟨e.1, by subst h; exact e.2⟩)⟩, [], []⟩, by subst h; exact Or.inr ⟨Or.inl ⟨rfl, q1750⟩, rfl, q147, ⟨by decide, by decide⟩, by decide +kernel, by decide, trivial⟩⟩ else none
         else
          if h : k = 68 then some ⟨cX9_feels, ⟨⟨(3, (Option.some ClassFile.FieldType.long), 2), fun pc => (mt68 pc).map (fun e => ⟨e.1, by subst h; exact e.2⟩)⟩, [], []⟩, by subst h; exact Or.inr ⟨Or.inl ⟨rfl, q1754⟩, rfl, q147, ⟨by decide, by decide⟩, by decide +kernel, by decide, trivial⟩⟩ else none
  else
   bif Nat.blt k 103 then
    bif Nat.blt k 86 then
     bif Nat.blt k 77 then
      bif Nat.blt k 73 then
       bif Nat.blt k 71 then
        bif Nat.blt k 70 then
         if h : k = 69 then some ⟨cX9_lowest, ⟨⟨(11, (Option.some ClassFile.FieldType.long), 3), fun pc => (mt69 pc).map (fun e => ⟨e.1, by subst h; exact e.2⟩)⟩, [], []⟩, by subst h; exact Or.inr ⟨Or.inl ⟨rfl, q1758⟩, rfl, q147, ⟨by decide, by decide⟩, by decide +kernel, by decide, trivial⟩⟩ else none
        else
         if h : k = 70 then some ⟨cX9_weight, ⟨⟨(2, (Option.some ClassFile.FieldType.long), 1), fun pc => (mt70 pc).map (fun e => ⟨e.1, by subst h; exact e.2⟩)⟩, [], []⟩, by subst h; exact Or.inr ⟨Or.inl ⟨rfl, q1763⟩, rfl, q147, ⟨by decide, by decide⟩, by decide +kernel, by decide, trivial⟩⟩ else none
       else
        bif Nat.blt k 72 then
         if h : k = 71 then some ⟨cX9_year, ⟨⟨(1, (Option.some ClassFile.FieldType.int), 0), fun pc => (mt71 pc).map (fun e => ⟨e.1, by subst h; exact e.2⟩)⟩, [], []⟩, by subst h; exact Or.inr ⟨Or.inl ⟨rfl, q1767⟩, rfl, q147, ⟨by decide, by decide⟩, by decide +kernel, by decide, trivial⟩⟩ else none
        else
         if h : k = 72 then some ⟨cX9_passes, ⟨⟨(3, (Option.none : Option ClassFile.FieldType), 0), fun pc => (mt72 pc).map (fun e => ⟨e.1, by subst h; exact e.2⟩)⟩, [], []⟩, by subst h; exact Or.inr ⟨Or.inl ⟨rfl, q1771⟩, rfl, q147, ⟨by decide, by decide⟩, by decide +kernel, by decide, trivial⟩⟩ else none
      else
       bif Nat.blt k 75 then
        bif Nat.blt k 74 then
         if h : k = 73 then some ⟨cX9_lift, ⟨⟨(3, (Option.some ClassFile.FieldType.int), 1), fun pc => (mt73 pc).map (fun e => ⟨e.1, by subst h; exact e.2⟩)⟩, [], []⟩, by subst h; exact Or.inr ⟨Or.inl ⟨rfl, q1775⟩, rfl, q147, ⟨by decide, by decide⟩, by decide +kernel, by decide, trivial⟩⟩ else none
        else
         if h : k = 74 then some ⟨cX9_run, ⟨⟨(5, (Option.some ClassFile.FieldType.int), 3), fun pc => (mt74 pc).map (fun e => ⟨e.1, by subst h; exact e.2⟩)⟩, [], []⟩, by subst h; exact Or.inr ⟨Or.inl ⟨rfl, q1779⟩, rfl, q147, ⟨by decide, by decide⟩, by decide +kernel, by decide, trivial⟩⟩ else none
       else
        bif Nat.blt k 76 then
         if h : k = 75 then some ⟨cX9_laysAside, ⟨⟨(2, (Option.none : Option ClassFile.FieldType), 0), fun pc => (mt75 pc).map (fun e => ⟨e.1, by subst h; exact e.2⟩)⟩, [], []⟩, by subst h; exact Or.inr ⟨Or.inl ⟨rfl, q1783⟩, rfl, q147, ⟨by decide, by decide⟩, by decide +kernel, by decide, trivial⟩⟩ else none
        else
         if h : k = 76 then some ⟨cX9_go, ⟨⟨(3, (Option.none : Option ClassFile.FieldType), 1), fun pc => (mt76 pc).map (fun e => ⟨e.1, by subst h; exact e.2⟩)⟩, [], []⟩, by subst h; exact Or.inr ⟨Or.inl ⟨rfl, q1787⟩, rfl, q147, ⟨by decide, by decide⟩, by decide +kernel, by decide, trivial⟩⟩ else none
     else
      bif Nat.blt k 81 then
       bif Nat.blt k 79 then
        bif Nat.blt k 78 then
         if h : k = 77 then some ⟨cX9_laysBack, ⟨⟨(2, (Option.none : Option ClassFile.FieldType), 0), fun pc => (mt77 pc).map (fun e => ⟨e.1, by subst h; exact e.2⟩)⟩, [], []⟩, by subst h; exact Or.inr ⟨Or.inl ⟨rfl, q1791⟩, rfl, q147, ⟨by decide, by decide⟩, by decide +kernel, by decide, trivial⟩⟩ else none
        else
         if h : k = 78 then some ⟨cX9_heavy, ⟨⟨(5, (Option.some ClassFile.FieldType.long), 2), fun pc => (mt78 pc).map (fun e => ⟨e.1, by subst h; exact e.2⟩)⟩, [], []⟩, by subst h; exact Or.inr ⟨Or.inl ⟨rfl, q1795⟩, rfl, q147, ⟨by decide, by decide⟩, by decide +kernel, by decide, trivial⟩⟩ else none
       else
        bif Nat.blt k 80 then
         if h : k = 79 then some ⟨cX9_when, ⟨⟨(4, (Option.some ClassFile.FieldType.int), 2), fun pc => (mt79 pc).map (fun e => ⟨e.1, by subst h; exact e.2⟩)⟩, [], []⟩, by subst h; exact Or.inr ⟨Or.inl ⟨rfl, q1799⟩, rfl, q147, ⟨by decide, by decide⟩, by decide +kernel, by decide, trivial⟩⟩ else none
        else
         if h : k = 80 then some ⟨cX9_best, ⟨⟨(3, (Option.some ClassFile.FieldType.int), 1), fun pc => (mt80 pc).map (fun e => ⟨e.1, by subst h; exact e.2⟩)⟩, [], []⟩, by subst h; exact Or.inr ⟨Or.inl ⟨rfl, q1803⟩, rfl, q147, ⟨by decide, by decide⟩, by decide +kernel, by decide, trivial⟩⟩ else none
      else
       bif Nat.blt k 83 then
        bif Nat.blt k 82 then
         if h : k = 81 then some ⟨cX9_lightest, ⟨⟨(5, (Option.some ClassFile.FieldType.int), 0), fun pc => (mt81 pc).map (fun e => ⟨e.1, by subst h; exact e.2⟩)⟩, [], []⟩, by subst h; exact Or.inr ⟨Or.inl ⟨rfl, q1808⟩, rfl, q147, ⟨by decide, by decide⟩, by decide +kernel, by decide, trivial⟩⟩ else none
        else
         if h : k = 82 then some ⟨cX9_hereSet, ⟨⟨(3, (Option.some ClassFile.FieldType.int), 0), fun pc => (mt82 pc).map (fun e => ⟨e.1, by subst h; exact e.2⟩)⟩, [], []⟩, by subst h; exact Or.inr ⟨Or.inl ⟨rfl, q1812⟩, rfl, q147, ⟨by decide, by decide⟩, by decide +kernel, by decide, trivial⟩⟩ else none
       else
        bif Nat.blt k 84 then
         if h : k = 83 then some ⟨cX9_leaveSet, ⟨⟨(4, (Option.some ClassFile.FieldType.int), 0), fun pc => (mt83 pc).map (fun e => ⟨e.1, by subst h; exact e.2⟩)⟩, [], []⟩, by subst h; exact Or.inr ⟨Or.inl ⟨rfl, q1816⟩, rfl, q147, ⟨by decide, by decide⟩, by decide +kernel, by decide, trivial⟩⟩ else none
        else
         bif Nat.blt k 85 then
          if h : k = 84 then some ⟨cX9_bitsOf, ⟨⟨(3, (Option.some ClassFile.FieldType.int), 1), fun pc => (mt84 pc).map (fun e => ⟨e.1, by subst h; exact e.2⟩)⟩, [], []⟩, by subst h; exact Or.inr ⟨Or.inl ⟨rfl, q1819⟩, rfl, q147, ⟨by decide, by decide⟩, by decide +kernel, by decide, trivial⟩⟩ else none
         else
          if h : k = 85 then some ⟨cX9_hereJust, ⟨⟨(3, (Option.none : Option ClassFile.FieldType), 1), fun pc => (mt85 pc).map (fun e => ⟨e.1, by subst h; exact e.2⟩)⟩, [], []⟩, by subst h; exact Or.inr ⟨Or.inl ⟨rfl, q1823⟩, rfl, q147, ⟨by decide, by decide⟩, by decide +kernel, by decide, trivial⟩⟩ else none
    else
     bif Nat.blt k 94 then
      bif Nat.blt k 90 then
       bif Nat.blt k 88 then
        bif Nat.blt k 87 then
         if h : k = 86 then some ⟨cX9_anyCan, ⟨⟨(3, (Option.some ClassFile.FieldType.boolean), 0), fun pc => (mt86 pc).map (fun e => ⟨e.1, by subst h; exact e.2⟩)⟩, [], []⟩, by subst h; exact Or.inr ⟨Or.inl ⟨rfl, q1827⟩, rfl, q147, ⟨by decide, by decide⟩, by decide +kernel, by decide, trivial⟩⟩ else none
        else
         if h : k = 87 then some ⟨cX9_prop, ⟨⟨(9, (Option.some ClassFile.FieldType.int), 3), fun pc => (mt87 pc).map (fun e => ⟨e.1, by subst h; exact e.2⟩)⟩, [], []⟩, by subst h; exact Or.inr ⟨Or.inl ⟨rfl, q1831⟩, rfl, q147, ⟨by decide, by decide⟩, by decide +kernel, by decide, trivial⟩⟩ else none
       else
        bif Nat.blt k 89 then
         if h : k = 88 then some ⟨cX9_floorBehind, ⟨⟨(3, (Option.some ClassFile.FieldType.int), 1), fun pc => (mt88 pc).map (fun e => ⟨e.1, by subst h; exact e.2⟩)⟩, [], []⟩, by subst h; exact Or.inr ⟨Or.inl ⟨rfl, q1837⟩, rfl, q147, ⟨by decide, by decide⟩, by decide +kernel, by decide, trivial⟩⟩ else none
        else
         if h : k = 89 then some ⟨cX9_sit, ⟨⟨(7, (Option.some ClassFile.FieldType.int), 2), fun pc => (mt89 pc).map (fun e => ⟨e.1, by subst h; exact e.2⟩)⟩, [], []⟩, by subst h; exact Or.inr ⟨Or.inl ⟨rfl, q1841⟩, rfl, q147, ⟨by decide, by decide⟩, by decide +kernel, by decide, trivial⟩⟩ else none
      else
       bif Nat.blt k 92 then
        bif Nat.blt k 91 then
         if h : k = 90 then some ⟨cX9_tells, ⟨⟨(11, (Option.some ClassFile.FieldType.int), 3), fun pc => (mt90 pc).map (fun e => ⟨e.1, by subst h; exact e.2⟩)⟩, [], []⟩, by subst h; exact Or.inr ⟨Or.inl ⟨rfl, q1845⟩, rfl, q147, ⟨by decide, by decide⟩, by decide +kernel, by decide, trivial⟩⟩ else none
        else
         if h : k = 91 then some ⟨cX9_isSheet, ⟨⟨(1, (Option.some ClassFile.FieldType.boolean), 1), fun pc => (mt91 pc).map (fun e => ⟨e.1, by subst h; exact e.2⟩)⟩, [], []⟩, by subst h; exact Or.inr ⟨Or.inl ⟨rfl, q1848⟩, rfl, q147, ⟨by decide, by decide⟩, by decide +kernel, by decide, trivial⟩⟩ else none
       else
        bif Nat.blt k 93 then
         if h : k = 92 then some ⟨cX9_firstOther, ⟨⟨(4, (Option.some ClassFile.FieldType.int), 1), fun pc => (mt92 pc).map (fun e => ⟨e.1, by subst h; exact e.2⟩)⟩, [], []⟩, by subst h; exact Or.inr ⟨Or.inl ⟨rfl, q1853⟩, rfl, q147, ⟨by decide, by decide⟩, by decide +kernel, by decide, trivial⟩⟩ else none
        else
         if h : k = 93 then some ⟨cX9_turnedSet, ⟨⟨(4, (Option.some ClassFile.FieldType.int), 1), fun pc => (mt93 pc).map (fun e => ⟨e.1, by subst h; exact e.2⟩)⟩, [], []⟩, by subst h; exact Or.inr ⟨Or.inl ⟨rfl, q1857⟩, rfl, q147, ⟨by decide, by decide⟩, by decide +kernel, by decide, trivial⟩⟩ else none
     else
      bif Nat.blt k 98 then
       bif Nat.blt k 96 then
        bif Nat.blt k 95 then
         if h : k = 94 then some ⟨cX9_film, ⟨⟨(4, (Option.some ClassFile.FieldType.int), 2), fun pc => (mt94 pc).map (fun e => ⟨e.1, by subst h; exact e.2⟩)⟩, [], []⟩, by subst h; exact Or.inr ⟨Or.inl ⟨rfl, q1861⟩, rfl, q147, ⟨by decide, by decide⟩, by decide +kernel, by decide, trivial⟩⟩ else none
        else
         if h : k = 95 then some ⟨cX9_sheet, ⟨⟨(5, (Option.some ClassFile.FieldType.int), 3), fun pc => (mt95 pc).map (fun e => ⟨e.1, by subst h; exact e.2⟩)⟩, [], []⟩, by subst h; exact Or.inr ⟨Or.inl ⟨rfl, q1866⟩, rfl, q147, ⟨by decide, by decide⟩, by decide +kernel, by decide, trivial⟩⟩ else none
       else
        bif Nat.blt k 97 then
         if h : k = 96 then some ⟨cX9_drawn, ⟨⟨(3, (Option.some ClassFile.FieldType.int), 2), fun pc => (mt96 pc).map (fun e => ⟨e.1, by subst h; exact e.2⟩)⟩, [], []⟩, by subst h; exact Or.inr ⟨Or.inl ⟨rfl, q1872⟩, rfl, q147, ⟨by decide, by decide⟩, by decide +kernel, by decide, trivial⟩⟩ else none
        else
         if h : k = 97 then some ⟨cX9_floorDrawn, ⟨⟨(6, (Option.some ClassFile.FieldType.int), 2), fun pc => (mt97 pc).map (fun e => ⟨e.1, by subst h; exact e.2⟩)⟩, [], []⟩, by subst h; exact Or.inr ⟨Or.inl ⟨rfl, q1876⟩, rfl, q147, ⟨by decide, by decide⟩, by decide +kernel, by decide, trivial⟩⟩ else none
      else
       bif Nat.blt k 100 then
        bif Nat.blt k 99 then
         if h : k = 98 then some ⟨cX9_chance, ⟨⟨(8, (Option.some ClassFile.FieldType.long), 4), fun pc => (mt98 pc).map (fun e => ⟨e.1, by subst h; exact e.2⟩)⟩, [], []⟩, by subst h; exact Or.inr ⟨Or.inl ⟨rfl, q1881⟩, rfl, q147, ⟨by decide, by decide⟩, by decide +kernel, by decide, trivial⟩⟩ else none
        else
         if h : k = 99 then some ⟨cX9_image, ⟨⟨(2, (Option.some ClassFile.FieldType.int), 0), fun pc => (mt99 pc).map (fun e => ⟨e.1, by subst h; exact e.2⟩)⟩, [], []⟩, by subst h; exact Or.inr ⟨Or.inl ⟨rfl, q1885⟩, rfl, q147, ⟨by decide, by decide⟩, by decide +kernel, by decide, trivial⟩⟩ else none
       else
        bif Nat.blt k 101 then
         if h : k = 100 then some ⟨cX9_back, ⟨⟨(2, (Option.some ClassFile.FieldType.int), 0), fun pc => (mt100 pc).map (fun e => ⟨e.1, by subst h; exact e.2⟩)⟩, [], []⟩, by subst h; exact Or.inr ⟨Or.inl ⟨rfl, q1889⟩, rfl, q147, ⟨by decide, by decide⟩, by decide +kernel, by decide, trivial⟩⟩ else none
        else
         bif Nat.blt k 102 then
          if h : k = 101 then some ⟨cX9_count, ⟨⟨(2, (Option.some ClassFile.FieldType.int), 1), fun pc => (mt101 pc).map (fun e => ⟨e.1, by subst h; exact e.2⟩)⟩, [], []⟩, by subst h; exact Or.inr ⟨Or.inl ⟨rfl, q1893⟩, rfl, q147, ⟨by decide, by decide⟩, by decide +kernel, by decide, trivial⟩⟩ else none
         else
          if h : k = 102 then some ⟨cX9_cell, ⟨⟨(4, (Option.some ClassFile.FieldType.int), 3), fun pc => (mt102 pc).map (fun e => ⟨e.1, by subst h; exact e.2⟩)⟩, [], []⟩, by subst h; exact Or.inr ⟨Or.inl ⟨rfl, q1898⟩, rfl, q147, ⟨by decide, by decide⟩, by decide +kernel, by decide, trivial⟩⟩ else none
   else
    bif Nat.blt k 120 then
     bif Nat.blt k 111 then
      bif Nat.blt k 107 then
       bif Nat.blt k 105 then
        bif Nat.blt k 104 then
         if h : k = 103 then some ⟨cX9_copy, ⟨⟨(9, (Option.some ClassFile.FieldType.int), 5), fun pc => (mt103 pc).map (fun e => ⟨e.1, by subst h; exact e.2⟩)⟩, [], []⟩, by subst h; exact Or.inr ⟨Or.inl ⟨rfl, q1902⟩, rfl, q147, ⟨by decide, by decide⟩, by decide +kernel, by decide, trivial⟩⟩ else none
        else
         if h : k = 104 then some ⟨cX9_court, ⟨⟨(8, (Option.some ClassFile.FieldType.int), 4), fun pc => (mt104 pc).map (fun e => ⟨e.1, by subst h; exact e.2⟩)⟩, [], []⟩, by subst h; exact Or.inr ⟨Or.inl ⟨rfl, q1906⟩, rfl, q147, ⟨by decide, by decide⟩, by decide +kernel, by decide, trivial⟩⟩ else none
       else
        bif Nat.blt k 106 then
         if h : k = 105 then some ⟨cX9_taken, ⟨⟨(4, (Option.some ClassFile.FieldType.int), 2), fun pc => (mt105 pc).map (fun e => ⟨e.1, by subst h; exact e.2⟩)⟩, [], []⟩, by subst h; exact Or.inr ⟨Or.inl ⟨rfl, q1911⟩, rfl, q147, ⟨by decide, by decide⟩, by decide +kernel, by decide, trivial⟩⟩ else none
        else
         if h : k = 106 then some ⟨cX9_over, ⟨⟨(1, (Option.some ClassFile.FieldType.int), 1), fun pc => (mt106 pc).map (fun e => ⟨e.1, by subst h; exact e.2⟩)⟩, [], []⟩, by subst h; exact Or.inr ⟨Or.inl ⟨rfl, q1914⟩, rfl, q147, ⟨by decide, by decide⟩, by decide +kernel, by decide, trivial⟩⟩ else none
      else
       bif Nat.blt k 109 then
        bif Nat.blt k 108 then
         if h : k = 107 then some ⟨cX0_person, ⟨⟨(4, (Option.some ClassFile.FieldType.int), 3), fun pc => (mt107 pc).map (fun e => ⟨e.1, by subst h; exact e.2⟩)⟩, [], []⟩, by subst h; exact Or.inr ⟨Or.inl ⟨rfl, q165⟩, rfl, q129, ⟨by decide, by decide⟩, by decide +kernel, by decide, trivial⟩⟩ else none
        else
         if h : k = 108 then some ⟨cX0_in, ⟨⟨(6, (Option.some ClassFile.FieldType.boolean), 3), fun pc => (mt108 pc).map (fun e => ⟨e.1, by subst h; exact e.2⟩)⟩, [], []⟩, by subst h; exact Or.inr ⟨Or.inl ⟨rfl, q169⟩, rfl, q129, ⟨by decide, by decide⟩, by decide +kernel, by decide, trivial⟩⟩ else none
       else
        bif Nat.blt k 110 then
         if h : k = 109 then some ⟨cX0_made, ⟨⟨(3, (Option.some (ClassFile.FieldType.object "NobodyCanLiftIt$Man")), 3), fun pc => (mt109 pc).map (fun e => ⟨e.1, by subst h; exact e.2⟩)⟩, [], []⟩, by subst h; exact Or.inr ⟨Or.inl ⟨rfl, q174⟩, rfl, q129, ⟨by decide, by decide⟩, by decide +kernel, by decide, trivial⟩⟩ else none
        else
         if h : k = 110 then some ⟨cX0_set, ⟨⟨(5, (Option.some ClassFile.FieldType.int), 3), fun pc => (mt110 pc).map (fun e => ⟨e.1, by subst h; exact e.2⟩)⟩, [], []⟩, by subst h; exact Or.inr ⟨Or.inl ⟨rfl, q271⟩, rfl, q129, ⟨by decide, by decide⟩, by decide +kernel, by decide, trivial⟩⟩ else none
     else
      bif Nat.blt k 115 then
       bif Nat.blt k 113 then
        bif Nat.blt k 112 then
         if h : k = 111 then some ⟨cX0_isThere, ⟨⟨(3, (Option.some ClassFile.FieldType.boolean), 2), fun pc => (mt111 pc).map (fun e => ⟨e.1, by subst h; exact e.2⟩)⟩, [], []⟩, by subst h; exact Or.inr ⟨Or.inl ⟨rfl, q277⟩, rfl, q129, ⟨by decide, by decide⟩, by decide +kernel, by decide, trivial⟩⟩ else none
        else
         if h : k = 112 then some ⟨cX0_isFloor, ⟨⟨(1, (Option.some ClassFile.FieldType.boolean), 1), fun pc => (mt112 pc).map (fun e => ⟨e.1, by subst h; exact e.2⟩)⟩, [], []⟩, by subst h; exact Or.inr ⟨Or.inl ⟨rfl, q280⟩, rfl, q129, ⟨by decide, by decide⟩, by decide +kernel, by decide, trivial⟩⟩ else none
       else
        bif Nat.blt k 114 then
         if h : k = 113 then some ⟨cX0_isOne, ⟨⟨(2, (Option.some ClassFile.FieldType.boolean), 1), fun pc => (mt113 pc).map (fun e => ⟨e.1, by subst h; exact e.2⟩)⟩, [], []⟩, by subst h; exact Or.inr ⟨Or.inl ⟨rfl, q284⟩, rfl, q129, ⟨by decide, by decide⟩, by decide +kernel, by decide, trivial⟩⟩ else none
        else
         if h : k = 114 then some ⟨cX0_mostOf, ⟨⟨(1, (Option.some ClassFile.FieldType.int), 1), fun pc => (mt114 pc).map (fun e => ⟨e.1, by subst h; exact e.2⟩)⟩, [], []⟩, by subst h; exact Or.inr ⟨Or.inl ⟨rfl, q287⟩, rfl, q129, ⟨by decide, by decide⟩, by decide +kernel, by decide, trivial⟩⟩ else none
      else
       bif Nat.blt k 117 then
        bif Nat.blt k 116 then
         if h : k = 115 then some ⟨cX0_heldBy, ⟨⟨(3, (Option.some ClassFile.FieldType.int), 2), fun pc => (mt115 pc).map (fun e => ⟨e.1, by subst h; exact e.2⟩)⟩, [], []⟩, by subst h; exact Or.inr ⟨Or.inl ⟨rfl, q291⟩, rfl, q129, ⟨by decide, by decide⟩, by decide +kernel, by decide, trivial⟩⟩ else none
        else
         if h : k = 116 then some ⟨cX0_becomes, ⟨⟨(4, (Option.none : Option ClassFile.FieldType), 3), fun pc => (mt116 pc).map (fun e => ⟨e.1, by subst h; exact e.2⟩)⟩, [], []⟩, by subst h; exact Or.inr ⟨Or.inl ⟨rfl, q295⟩, rfl, q129, ⟨by decide, by decide⟩, by decide +kernel, by decide, trivial⟩⟩ else none
       else
        bif Nat.blt k 118 then
         if h : k = 117 then some ⟨cX0_told, ⟨⟨(3, (Option.some ClassFile.FieldType.int), 2), fun pc => (mt117 pc).map (fun e => ⟨e.1, by subst h; exact e.2⟩)⟩, [], []⟩, by subst h; exact Or.inr ⟨Or.inl ⟨rfl, q299⟩, rfl, q129, ⟨by decide, by decide⟩, by decide +kernel, by decide, trivial⟩⟩ else none
        else
         bif Nat.blt k 119 then
          if h : k = 118 then some ⟨cX0_strongOf, ⟨⟨(2, (Option.some ClassFile.FieldType.int), 1), fun pc => (mt118 pc).map (fun e => ⟨e.1, by subst h; exact e.2⟩)⟩, [], []⟩, by subst h; exact Or.inr ⟨Or.inl ⟨rfl, q330⟩, rfl, q129, ⟨by decide, by decide⟩, by decide +kernel, by decide, trivial⟩⟩ else none
         else
          if h : k = 119 then some ⟨cX0_says, ⟨⟨(3, (Option.some ClassFile.FieldType.int), 2), fun pc => (mt119 pc).map (fun e => ⟨e.1, by subst h; exact e.2⟩)⟩, [], []⟩, by subst h; exact Or.inr ⟨Or.inl ⟨rfl, q334⟩, rfl, q129, ⟨by decide, by decide⟩, by decide +kernel, by decide, trivial⟩⟩ else none
    else
     bif Nat.blt k 129 then
      bif Nat.blt k 124 then
       bif Nat.blt k 122 then
        bif Nat.blt k 121 then
         if h : k = 120 then some ⟨cX0_others, ⟨⟨(4, (Option.some ClassFile.FieldType.int), 1), fun pc => (mt120 pc).map (fun e => ⟨e.1, by subst h; exact e.2⟩)⟩, [], []⟩, by subst h; exact Or.inr ⟨Or.inl ⟨rfl, q344⟩, rfl, q129, ⟨by decide, by decide⟩, by decide +kernel, by decide, trivial⟩⟩ else none
        else
         if h : k = 121 then some ⟨cX0_held, ⟨⟨(3, (Option.some ClassFile.FieldType.int), 3), fun pc => (mt121 pc).map (fun e => ⟨e.1, by subst h; exact e.2⟩)⟩, [], []⟩, by subst h; exact Or.inr ⟨Or.inl ⟨rfl, q358⟩, rfl, q129, ⟨by decide, by decide⟩, by decide +kernel, by decide, trivial⟩⟩ else none
       else
        bif Nat.blt k 123 then
         if h : k = 122 then some ⟨cX0_loadNow, ⟨⟨(1, (Option.some ClassFile.FieldType.int), 0), fun pc => (mt122 pc).map (fun e => ⟨e.1, by subst h; exact e.2⟩)⟩, [], []⟩, by subst h; exact Or.inr ⟨Or.inl ⟨rfl, q368⟩, rfl, q129, ⟨by decide, by decide⟩, by decide +kernel, by decide, trivial⟩⟩ else none
        else
         if h : k = 123 then some ⟨cX0_easedOf, ⟨⟨(2, (Option.some ClassFile.FieldType.int), 1), fun pc => (mt123 pc).map (fun e => ⟨e.1, by subst h; exact e.2⟩)⟩, [], []⟩, by subst h; exact Or.inr ⟨Or.inl ⟨rfl, q397⟩, rfl, q129, ⟨by decide, by decide⟩, by decide +kernel, by decide, trivial⟩⟩ else none
      else
       bif Nat.blt k 126 then
        bif Nat.blt k 125 then
         if h : k = 124 then some ⟨cX0_canLift, ⟨⟨(2, (Option.some ClassFile.FieldType.boolean), 1), fun pc => (mt124 pc).map (fun e => ⟨e.1, by subst h; exact e.2⟩)⟩, [], []⟩, by subst h; exact Or.inr ⟨Or.inl ⟨rfl, q424⟩, rfl, q129, ⟨by decide, by decide⟩, by decide +kernel, by decide, trivial⟩⟩ else none
        else
         if h : k = 125 then some ⟨cX0_tellsWeight, ⟨⟨(2, (Option.none : Option ClassFile.FieldType), 0), fun pc => (mt125 pc).map (fun e => ⟨e.1, by subst h; exact e.2⟩)⟩, [], []⟩, by subst h; exact Or.inr ⟨Or.inl ⟨rfl, q428⟩, rfl, q129, ⟨by decide, by decide⟩, by decide +kernel, by decide, trivial⟩⟩ else none
       else
        bif Nat.blt k 127 then
         if h : k = 126 then some ⟨cX0_tellsFelt, ⟨⟨(2, (Option.none : Option ClassFile.FieldType), 1), fun pc => (mt126 pc).map (fun e => ⟨e.1, by subst h; exact e.2⟩)⟩, [], []⟩, by subst h; exact Or.inr ⟨Or.inl ⟨rfl, q444⟩, rfl, q129, ⟨by decide, by decide⟩, by decide +kernel, by decide, trivial⟩⟩ else none
        else
         bif Nat.blt k 128 then
          if h : k = 127 then some ⟨cX0_feed, ⟨⟨(2, (Option.some ClassFile.FieldType.int), 1), fun pc => (mt127 pc).map (fun e => ⟨e.1, by subst h; exact e.2⟩)⟩, [], []⟩, by subst h; exact Or.inr ⟨Or.inl ⟨rfl, q502⟩, rfl, q129, ⟨by decide, by decide⟩, by decide +kernel, by decide, trivial⟩⟩ else none
         else
          if h : k = 128 then some ⟨cX0_text, ⟨⟨(1, (Option.some ClassFile.FieldType.int), 0), fun pc => (mt128 pc).map (fun e => ⟨e.1, by subst h; exact e.2⟩)⟩, [], []⟩, by subst h; exact Or.inr ⟨Or.inl ⟨rfl, q507⟩, rfl, q129, ⟨by decide, by decide⟩, by decide +kernel, by decide, trivial⟩⟩ else none
     else
      bif Nat.blt k 133 then
       bif Nat.blt k 131 then
        bif Nat.blt k 130 then
         if h : k = 129 then some ⟨cX0_newText, ⟨⟨(3, (Option.some ClassFile.FieldType.int), 0), fun pc => (mt129 pc).map (fun e => ⟨e.1, by subst h; exact e.2⟩)⟩, [(28, 83, 86, 253)], [(28, 83, 87, 2, 0)]⟩, by subst h; exact Or.inr ⟨Or.inr ⟨by decide, q511⟩, rfl, q129, ⟨by decide, by decide⟩, by decide +kernel, by decide, ⟨rfl, rfl, Or.inr ⟨by decide, by decide, q512, by decide, Or.inr ⟨2, rfl, dX0_newText_86, rfl⟩⟩, trivial⟩⟩⟩ else none
        else
         if h : k = 130 then some ⟨cX0_next, ⟨⟨(2, (Option.none : Option ClassFile.FieldType), 0), fun pc => (mt130 pc).map (fun e => ⟨e.1, by subst h; exact e.2⟩)⟩, [], []⟩, by subst h; exact Or.inr ⟨Or.inl ⟨rfl, q518⟩, rfl, q129, ⟨by decide, by decide⟩, by decide +kernel, by decide, trivial⟩⟩ else none
       else
        bif Nat.blt k 132 then
         if h : k = 131 then some ⟨cX0_byteAt, ⟨⟨(2, (Option.some ClassFile.FieldType.int), 1), fun pc => (mt131 pc).map (fun e => ⟨e.1, by subst h; exact e.2⟩)⟩, [], []⟩, by subst h; exact Or.inr ⟨Or.inl ⟨rfl, q522⟩, rfl, q129, ⟨by decide, by decide⟩, by decide +kernel, by decide, trivial⟩⟩ else none
        else
         if h : k = 132 then some ⟨cX0_isLetter, ⟨⟨(1, (Option.some ClassFile.FieldType.boolean), 1), fun pc => (mt132 pc).map (fun e => ⟨e.1, by subst h; exact e.2⟩)⟩, [], []⟩, by subst h; exact Or.inr ⟨Or.inl ⟨rfl, q525⟩, rfl, q129, ⟨by decide, by decide⟩, by decide +kernel, by decide, trivial⟩⟩ else none
      else
       bif Nat.blt k 135 then
        bif Nat.blt k 134 then
         if h : k = 133 then some ⟨cX0_word, ⟨⟨(2, (Option.none : Option ClassFile.FieldType), 0), fun pc => (mt133 pc).map (fun e => ⟨e.1, by subst h; exact e.2⟩)⟩, [], []⟩, by subst h; exact Or.inr ⟨Or.inl ⟨rfl, q531⟩, rfl, q129, ⟨by decide, by decide⟩, by decide +kernel, by decide, trivial⟩⟩ else none
        else
         if h : k = 134 then some ⟨cX0_placeIn, ⟨⟨(5, (Option.some ClassFile.FieldType.int), 1), fun pc => (mt134 pc).map (fun e => ⟨e.1, by subst h; exact e.2⟩)⟩, [], []⟩, by subst h; exact Or.inr ⟨Or.inl ⟨rfl, q535⟩, rfl, q129, ⟨by decide, by decide⟩, by decide +kernel, by decide, trivial⟩⟩ else none
       else
        bif Nat.blt k 136 then
         if h : k = 135 then some ⟨cX0_isDigit, ⟨⟨(1, (Option.some ClassFile.FieldType.boolean), 1), fun pc => (mt135 pc).map (fun e => ⟨e.1, by subst h; exact e.2⟩)⟩, [], []⟩, by subst h; exact Or.inr ⟨Or.inl ⟨rfl, q586⟩, rfl, q129, ⟨by decide, by decide⟩, by decide +kernel, by decide, trivial⟩⟩ else none
        else
         bif Nat.blt k 137 then
          if h : k = 136 then some ⟨cX0_digits, ⟨⟨(1, (Option.none : Option ClassFile.FieldType), 0), fun pc => (mt136 pc).map (fun e => ⟨e.1, by subst h; exact e.2⟩)⟩, [], []⟩, by subst h; exact Or.inr ⟨Or.inl ⟨rfl, q592⟩, rfl, q129, ⟨by decide, by decide⟩, by decide +kernel, by decide, trivial⟩⟩ else none
         else
          if h : k = 137 then some ⟨cX0_isKey, ⟨⟨(2, (Option.some ClassFile.FieldType.boolean), 1), fun pc => (mt137 pc).map (fun e => ⟨e.1, by subst h; exact e.2⟩)⟩, [], []⟩, by subst h; exact Or.inr ⟨Or.inl ⟨rfl, q652⟩, rfl, q129, ⟨by decide, by decide⟩, by decide +kernel, by decide, trivial⟩⟩ else none
 else
  bif Nat.blt k 207 then
   bif Nat.blt k 172 then
    bif Nat.blt k 155 then
     bif Nat.blt k 146 then
      bif Nat.blt k 142 then
       bif Nat.blt k 140 then
        bif Nat.blt k 139 then
         if h : k = 138 then some ⟨cX0_need, ⟨⟨(2, (Option.none : Option ClassFile.FieldType), 1), fun pc => (mt138 pc).map (fun e => ⟨e.1, by subst h; exact e.2⟩)⟩, [], []⟩, by subst h; exact Or.inr ⟨Or.inl ⟨rfl, q656⟩, rfl, q129, ⟨by decide, by decide⟩, by decide +kernel, by decide, trivial⟩⟩ else none
        else
         if h : k = 139 then some ⟨cX0_either, ⟨⟨(2, (Option.some (ClassFile.FieldType.object "NobodyCanLiftIt$Node")), 0), fun pc => (mt139 pc).map (fun e => ⟨e.1, by subst h; exact e.2⟩)⟩, [], []⟩, by subst h; exact Or.inr ⟨Or.inl ⟨rfl, q660⟩, rfl, q129, ⟨by decide, by decide⟩, by decide +kernel, by decide, trivial⟩⟩ else none
       else
        bif Nat.blt k 141 then
         if h : k = 140 then some ⟨cX0_both, ⟨⟨(2, (Option.some (ClassFile.FieldType.object "NobodyCanLiftIt$Node")), 0), fun pc => (mt140 pc).map (fun e => ⟨e.1, by subst h; exact e.2⟩)⟩, [], []⟩, by subst h; exact Or.inr ⟨Or.inl ⟨rfl, q664⟩, rfl, q129, ⟨by decide, by decide⟩, by decide +kernel, by decide, trivial⟩⟩ else none
        else
         if h : k = 141 then some ⟨cX0_not, ⟨⟨(3, (Option.some (ClassFile.FieldType.object "NobodyCanLiftIt$Node")), 0), fun pc => (mt141 pc).map (fun e => ⟨e.1, by subst h; exact e.2⟩)⟩, [], []⟩, by subst h; exact Or.inr ⟨Or.inl ⟨rfl, q668⟩, rfl, q129, ⟨by decide, by decide⟩, by decide +kernel, by decide, trivial⟩⟩ else none
      else
       bif Nat.blt k 144 then
        bif Nat.blt k 143 then
         if h : k = 142 then some ⟨cX0_openOne, ⟨⟨(1, (Option.none : Option ClassFile.FieldType), 0), fun pc => (mt142 pc).map (fun e => ⟨e.1, by subst h; exact e.2⟩)⟩, [], []⟩, by subst h; exact Or.inr ⟨Or.inl ⟨rfl, q672⟩, rfl, q129, ⟨by decide, by decide⟩, by decide +kernel, by decide, trivial⟩⟩ else none
        else
         if h : k = 143 then some ⟨cX0_plus, ⟨⟨(3, (Option.some (ClassFile.FieldType.object "NobodyCanLiftIt$Node")), 0), fun pc => (mt143 pc).map (fun e => ⟨e.1, by subst h; exact e.2⟩)⟩, [], []⟩, by subst h; exact Or.inr ⟨Or.inl ⟨rfl, q693⟩, rfl, q129, ⟨by decide, by decide⟩, by decide +kernel, by decide, trivial⟩⟩ else none
       else
        bif Nat.blt k 145 then
         if h : k = 144 then some ⟨cX0_times, ⟨⟨(2, (Option.some (ClassFile.FieldType.object "NobodyCanLiftIt$Node")), 0), fun pc => (mt144 pc).map (fun e => ⟨e.1, by subst h; exact e.2⟩)⟩, [], []⟩, by subst h; exact Or.inr ⟨Or.inl ⟨rfl, q697⟩, rfl, q129, ⟨by decide, by decide⟩, by decide +kernel, by decide, trivial⟩⟩ else none
        else
         if h : k = 145 then some ⟨cX0_one, ⟨⟨(3, (Option.some (ClassFile.FieldType.object "NobodyCanLiftIt$Node")), 0), fun pc => (mt145 pc).map (fun e => ⟨e.1, by subst h; exact e.2⟩)⟩, [], []⟩, by subst h; exact Or.inr ⟨Or.inl ⟨rfl, q701⟩, rfl, q129, ⟨by decide, by decide⟩, by decide +kernel, by decide, trivial⟩⟩ else none
     else
      bif Nat.blt k 150 then
       bif Nat.blt k 148 then
        bif Nat.blt k 147 then
         if h : k = 146 then some ⟨cX0_isSign, ⟨⟨(2, (Option.some ClassFile.FieldType.boolean), 1), fun pc => (mt146 pc).map (fun e => ⟨e.1, by subst h; exact e.2⟩)⟩, [], []⟩, by subst h; exact Or.inr ⟨Or.inl ⟨rfl, q728⟩, rfl, q129, ⟨by decide, by decide⟩, by decide +kernel, by decide, trivial⟩⟩ else none
        else
         if h : k = 147 then some ⟨cX0_init, ⟨⟨(1, (Option.none : Option ClassFile.FieldType), 0), fun pc => (mt147 pc).map (fun e => ⟨e.1, by subst h; exact e.2⟩)⟩, [], []⟩, by subst h; exact Or.inr ⟨Or.inl ⟨rfl, q748⟩, rfl, q129, ⟨by decide, by decide⟩, by decide +kernel, by decide, trivial⟩⟩ else none
       else
        bif Nat.blt k 149 then
         if h : k = 148 then some ⟨cX0_firstText, ⟨⟨(3, (Option.none : Option ClassFile.FieldType), 1), fun pc => (mt148 pc).map (fun e => ⟨e.1, by subst h; exact e.2⟩)⟩, [], []⟩, by subst h; exact Or.inr ⟨Or.inl ⟨rfl, q878⟩, rfl, q129, ⟨by decide, by decide⟩, by decide +kernel, by decide, trivial⟩⟩ else none
        else
         if h : k = 149 then some ⟨cX0_force, ⟨⟨(3, (Option.some ClassFile.FieldType.int), 1), fun pc => (mt149 pc).map (fun e => ⟨e.1, by subst h; exact e.2⟩)⟩, [], []⟩, by subst h; exact Or.inr ⟨Or.inl ⟨rfl, q983⟩, rfl, q129, ⟨by decide, by decide⟩, by decide +kernel, by decide, trivial⟩⟩ else none
      else
       bif Nat.blt k 152 then
        bif Nat.blt k 151 then
         if h : k = 150 then some ⟨cX0_isText, ⟨⟨(2, (Option.some ClassFile.FieldType.boolean), 1), fun pc => (mt150 pc).map (fun e => ⟨e.1, by subst h; exact e.2⟩)⟩, [], []⟩, by subst h; exact Or.inr ⟨Or.inl ⟨rfl, q987⟩, rfl, q129, ⟨by decide, by decide⟩, by decide +kernel, by decide, trivial⟩⟩ else none
        else
         if h : k = 151 then some ⟨cX0_feels, ⟨⟨(3, (Option.some ClassFile.FieldType.long), 2), fun pc => (mt151 pc).map (fun e => ⟨e.1, by subst h; exact e.2⟩)⟩, [], []⟩, by subst h; exact Or.inr ⟨Or.inl ⟨rfl, q991⟩, rfl, q129, ⟨by decide, by decide⟩, by decide +kernel, by decide, trivial⟩⟩ else none
       else
        bif Nat.blt k 153 then
         if h : k = 152 then some ⟨cX0_weight, ⟨⟨(2, (Option.some ClassFile.FieldType.long), 1), fun pc => (mt152 pc).map (fun e => ⟨e.1, by subst h; exact e.2⟩)⟩, [], []⟩, by subst h; exact Or.inr ⟨Or.inl ⟨rfl, q1000⟩, rfl, q129, ⟨by decide, by decide⟩, by decide +kernel, by decide, trivial⟩⟩ else none
        else
         bif Nat.blt k 154 then
          if h : k = 153 then some ⟨cX0_year, ⟨⟨(1, (Option.some ClassFile.FieldType.int), 0), fun pc => (mt153 pc).map (fun e => ⟨e.1, by subst h; exact e.2⟩)⟩, [], []⟩, by subst h; exact Or.inr ⟨Or.inl ⟨rfl, q1004⟩, rfl, q129, ⟨by decide, by decide⟩, by decide +kernel, by decide, trivial⟩⟩ else none
         else
          if h : k = 154 then some ⟨cX0_passes, ⟨⟨(3, (Option.none : Option ClassFile.FieldType), 0), fun pc => (mt154 pc).map (fun e => ⟨e.1, by subst h; exact e.2⟩)⟩, [], []⟩, by subst h; exact Or.inr ⟨Or.inl ⟨rfl, q1008⟩, rfl, q129, ⟨by decide, by decide⟩, by decide +kernel, by decide, trivial⟩⟩ else none
    else
     bif Nat.blt k 163 then
      bif Nat.blt k 159 then
       bif Nat.blt k 157 then
        bif Nat.blt k 156 then
         if h : k = 155 then some ⟨cX0_lift, ⟨⟨(3, (Option.some ClassFile.FieldType.int), 1), fun pc => (mt155 pc).map (fun e => ⟨e.1, by subst h; exact e.2⟩)⟩, [], []⟩, by subst h; exact Or.inr ⟨Or.inl ⟨rfl, q1012⟩, rfl, q129, ⟨by decide, by decide⟩, by decide +kernel, by decide, trivial⟩⟩ else none
        else
         if h : k = 156 then some ⟨cX0_run, ⟨⟨(4, (Option.some ClassFile.FieldType.int), 3), fun pc => (mt156 pc).map (fun e => ⟨e.1, by subst h; exact e.2⟩)⟩, [], []⟩, by subst h; exact Or.inr ⟨Or.inl ⟨rfl, q1016⟩, rfl, q129, ⟨by decide, by decide⟩, by decide +kernel, by decide, trivial⟩⟩ else none
       else
        bif Nat.blt k 158 then
         if h : k = 157 then some ⟨cX0_onBehind, ⟨⟨(4, (Option.some ClassFile.FieldType.int), 1), fun pc => (mt157 pc).map (fun e => ⟨e.1, by subst h; exact e.2⟩)⟩, [(4, 26, 32, 0)], [(4, 26, 0, 0, 99)]⟩, by subst h; exact Or.inr ⟨Or.inr ⟨by decide, q1021⟩, rfl, q129, ⟨by decide, by decide⟩, by decide +kernel, by decide, ⟨rfl, rfl, Or.inl rfl, trivial⟩⟩⟩ else none
        else
         if h : k = 158 then some ⟨cX0_keeps, ⟨⟨(3, (Option.none : Option ClassFile.FieldType), 0), fun pc => (mt158 pc).map (fun e => ⟨e.1, by subst h; exact e.2⟩)⟩, [], []⟩, by subst h; exact Or.inr ⟨Or.inl ⟨rfl, q1025⟩, rfl, q129, ⟨by decide, by decide⟩, by decide +kernel, by decide, trivial⟩⟩ else none
      else
       bif Nat.blt k 161 then
        bif Nat.blt k 160 then
         if h : k = 159 then some ⟨cX0_laysBack, ⟨⟨(3, (Option.none : Option ClassFile.FieldType), 0), fun pc => (mt159 pc).map (fun e => ⟨e.1, by subst h; exact e.2⟩)⟩, [], []⟩, by subst h; exact Or.inr ⟨Or.inl ⟨rfl, q1029⟩, rfl, q129, ⟨by decide, by decide⟩, by decide +kernel, by decide, trivial⟩⟩ else none
        else
         if h : k = 160 then some ⟨cX0_easeBehind, ⟨⟨(5, (Option.some ClassFile.FieldType.int), 2), fun pc => (mt160 pc).map (fun e => ⟨e.1, by subst h; exact e.2⟩)⟩, [(4, 31, 37, 0), (37, 39, 37, 0)], [(4, 31, 0, 0, 99), (37, 39, 0, 0, 99)]⟩, by subst h; exact Or.inr ⟨Or.inr ⟨by decide, q1033⟩, rfl, q129, ⟨by decide, by decide⟩, by decide +kernel, by decide, ⟨rfl, rfl, Or.inl rfl, ⟨rfl, rfl, Or.inl rfl, trivial⟩⟩⟩⟩ else none
       else
        bif Nat.blt k 162 then
         if h : k = 161 then some ⟨cX0_heavy, ⟨⟨(6, (Option.some ClassFile.FieldType.long), 2), fun pc => (mt161 pc).map (fun e => ⟨e.1, by subst h; exact e.2⟩)⟩, [(30, 60, 66, 0), (66, 68, 66, 0)], [(30, 60, 0, 0, 99), (66, 68, 0, 0, 99)]⟩, by subst h; exact Or.inr ⟨Or.inr ⟨by decide, q1037⟩, rfl, q129, ⟨by decide, by decide⟩, by decide +kernel, by decide, ⟨rfl, rfl, Or.inl rfl, ⟨rfl, rfl, Or.inl rfl, trivial⟩⟩⟩⟩ else none
        else
         if h : k = 162 then some ⟨cX0_when, ⟨⟨(4, (Option.some ClassFile.FieldType.int), 2), fun pc => (mt162 pc).map (fun e => ⟨e.1, by subst h; exact e.2⟩)⟩, [], []⟩, by subst h; exact Or.inr ⟨Or.inl ⟨rfl, q1041⟩, rfl, q129, ⟨by decide, by decide⟩, by decide +kernel, by decide, trivial⟩⟩ else none
     else
      bif Nat.blt k 167 then
       bif Nat.blt k 165 then
        bif Nat.blt k 164 then
         if h : k = 163 then some ⟨cX0_firstTime, ⟨⟨(6, (Option.some ClassFile.FieldType.int), 2), fun pc => (mt163 pc).map (fun e => ⟨e.1, by subst h; exact e.2⟩)⟩, [(4, 24, 49, 0), (31, 43, 49, 0), (49, 51, 49, 0)], [(4, 24, 0, 0, 99), (31, 43, 0, 0, 99), (49, 51, 0, 0, 99)]⟩, by subst h; exact Or.inr ⟨Or.inr ⟨by decide, q1045⟩, rfl, q129, ⟨by decide, by decide⟩, by decide +kernel, by decide, ⟨rfl, rfl, Or.inl rfl, ⟨rfl, rfl, Or.inl rfl, ⟨rfl, rfl, Or.inl rfl, trivial⟩⟩⟩⟩⟩ else none
        else
         if h : k = 164 then some ⟨cX0_isNow, ⟨⟨(3, (Option.some ClassFile.FieldType.boolean), 2), fun pc => (mt164 pc).map (fun e => ⟨e.1, by subst h; exact e.2⟩)⟩, [], []⟩, by subst h; exact Or.inr ⟨Or.inl ⟨rfl, q1049⟩, rfl, q129, ⟨by decide, by decide⟩, by decide +kernel, by decide, trivial⟩⟩ else none
       else
        bif Nat.blt k 166 then
         if h : k = 165 then some ⟨cX0_best, ⟨⟨(3, (Option.some ClassFile.FieldType.int), 1), fun pc => (mt165 pc).map (fun e => ⟨e.1, by subst h; exact e.2⟩)⟩, [], []⟩, by subst h; exact Or.inr ⟨Or.inl ⟨rfl, q1053⟩, rfl, q129, ⟨by decide, by decide⟩, by decide +kernel, by decide, trivial⟩⟩ else none
        else
         if h : k = 166 then some ⟨cX0_leave, ⟨⟨(6, (Option.some ClassFile.FieldType.int), 0), fun pc => (mt166 pc).map (fun e => ⟨e.1, by subst h; exact e.2⟩)⟩, [(7, 86, 94, 0), (94, 96, 94, 0)], [(7, 86, 0, 0, 99), (94, 96, 0, 0, 99)]⟩, by subst h; exact Or.inr ⟨Or.inr ⟨by decide, q1057⟩, rfl, q129, ⟨by decide, by decide⟩, by decide +kernel, by decide, ⟨rfl, rfl, Or.inl rfl, ⟨rfl, rfl, Or.inl rfl, trivial⟩⟩⟩⟩ else none
      else
       bif Nat.blt k 169 then
        bif Nat.blt k 168 then
         if h : k = 167 then some ⟨cX0_hereSet, ⟨⟨(3, (Option.some ClassFile.FieldType.int), 0), fun pc => (mt167 pc).map (fun e => ⟨e.1, by subst h; exact e.2⟩)⟩, [], []⟩, by subst h; exact Or.inr ⟨Or.inl ⟨rfl, q1061⟩, rfl, q129, ⟨by decide, by decide⟩, by decide +kernel, by decide, trivial⟩⟩ else none
        else
         if h : k = 168 then some ⟨cX0_comes, ⟨⟨(3, (Option.none : Option ClassFile.FieldType), 1), fun pc => (mt168 pc).map (fun e => ⟨e.1, by subst h; exact e.2⟩)⟩, [], []⟩, by subst h; exact Or.inr ⟨Or.inl ⟨rfl, q1071⟩, rfl, q129, ⟨by decide, by decide⟩, by decide +kernel, by decide, trivial⟩⟩ else none
       else
        bif Nat.blt k 170 then
         if h : k = 169 then some ⟨cX0_isIn, ⟨⟨(2, (Option.some ClassFile.FieldType.boolean), 2), fun pc => (mt169 pc).map (fun e => ⟨e.1, by subst h; exact e.2⟩)⟩, [], []⟩, by subst h; exact Or.inr ⟨Or.inl ⟨rfl, q1074⟩, rfl, q129, ⟨by decide, by decide⟩, by decide +kernel, by decide, trivial⟩⟩ else none
        else
         bif Nat.blt k 171 then
          if h : k = 170 then some ⟨cX0_anybodyLifts, ⟨⟨(2, (Option.some ClassFile.FieldType.boolean), 0), fun pc => (mt170 pc).map (fun e => ⟨e.1, by subst h; exact e.2⟩)⟩, [], []⟩, by subst h; exact Or.inr ⟨Or.inl ⟨rfl, q1078⟩, rfl, q129, ⟨by decide, by decide⟩, by decide +kernel, by decide, trivial⟩⟩ else none
         else
          if h : k = 171 then some ⟨cX0_lightestOf, ⟨⟨(5, (Option.some ClassFile.FieldType.int), 0), fun pc => (mt171 pc).map (fun e => ⟨e.1, by subst h; exact e.2⟩)⟩, [(7, 81, 89, 0), (89, 91, 89, 0)], [(7, 81, 0, 0, 99), (89, 91, 0, 0, 99)]⟩, by subst h; exact Or.inr ⟨Or.inr ⟨by decide, q1082⟩, rfl, q129, ⟨by decide, by decide⟩, by decide +kernel, by decide, ⟨rfl, rfl, Or.inl rfl, ⟨rfl, rfl, Or.inl rfl, trivial⟩⟩⟩⟩ else none
   else
    bif Nat.blt k 189 then
     bif Nat.blt k 180 then
      bif Nat.blt k 176 then
       bif Nat.blt k 174 then
        bif Nat.blt k 173 then
         if h : k = 172 then some ⟨cX0_prop, ⟨⟨(8, (Option.some ClassFile.FieldType.int), 3), fun pc => (mt172 pc).map (fun e => ⟨e.1, by subst h; exact e.2⟩)⟩, [], []⟩, by subst h; exact Or.inr ⟨Or.inl ⟨rfl, q1094⟩, rfl, q129, ⟨by decide, by decide⟩, by decide +kernel, by decide, trivial⟩⟩ else none
        else
         if h : k = 173 then some ⟨cX0_onPropping, ⟨⟨(7, (Option.some ClassFile.FieldType.int), 3), fun pc => (mt173 pc).map (fun e => ⟨e.1, by subst h; exact e.2⟩)⟩, [(8, 31, 42, 0), (42, 44, 42, 0)], [(8, 31, 0, 0, 99), (42, 44, 0, 0, 99)]⟩, by subst h; exact Or.inr ⟨Or.inr ⟨by decide, q1100⟩, rfl, q129, ⟨by decide, by decide⟩, by decide +kernel, by decide, ⟨rfl, rfl, Or.inl rfl, ⟨rfl, rfl, Or.inl rfl, trivial⟩⟩⟩⟩ else none
       else
        bif Nat.blt k 175 then
         if h : k = 174 then some ⟨cX0_sit, ⟨⟨(8, (Option.some ClassFile.FieldType.int), 2), fun pc => (mt174 pc).map (fun e => ⟨e.1, by subst h; exact e.2⟩)⟩, [], []⟩, by subst h; exact Or.inr ⟨Or.inl ⟨rfl, q1104⟩, rfl, q129, ⟨by decide, by decide⟩, by decide +kernel, by decide, trivial⟩⟩ else none
        else
         if h : k = 175 then some ⟨cX0_onSitting, ⟨⟨(5, (Option.some ClassFile.FieldType.int), 2), fun pc => (mt175 pc).map (fun e => ⟨e.1, by subst h; exact e.2⟩)⟩, [(10, 16, 28, 0), (28, 30, 28, 0)], [(10, 16, 0, 0, 99), (28, 30, 0, 0, 99)]⟩, by subst h; exact Or.inr ⟨Or.inr ⟨by decide, q1108⟩, rfl, q129, ⟨by decide, by decide⟩, by decide +kernel, by decide, ⟨rfl, rfl, Or.inl rfl, ⟨rfl, rfl, Or.inl rfl, trivial⟩⟩⟩⟩ else none
      else
       bif Nat.blt k 178 then
        bif Nat.blt k 177 then
         if h : k = 176 then some ⟨cX0_tells, ⟨⟨(5, (Option.some ClassFile.FieldType.int), 3), fun pc => (mt176 pc).map (fun e => ⟨e.1, by subst h; exact e.2⟩)⟩, [], []⟩, by subst h; exact Or.inr ⟨Or.inl ⟨rfl, q1112⟩, rfl, q129, ⟨by decide, by decide⟩, by decide +kernel, by decide, trivial⟩⟩ else none
        else
         if h : k = 177 then some ⟨cX0_isSheet, ⟨⟨(1, (Option.some ClassFile.FieldType.boolean), 1), fun pc => (mt177 pc).map (fun e => ⟨e.1, by subst h; exact e.2⟩)⟩, [], []⟩, by subst h; exact Or.inr ⟨Or.inl ⟨rfl, q1115⟩, rfl, q129, ⟨by decide, by decide⟩, by decide +kernel, by decide, trivial⟩⟩ else none
       else
        bif Nat.blt k 179 then
         if h : k = 178 then some ⟨cX0_sortOf, ⟨⟨(1, (Option.some ClassFile.FieldType.int), 1), fun pc => (mt178 pc).map (fun e => ⟨e.1, by subst h; exact e.2⟩)⟩, [], []⟩, by subst h; exact Or.inr ⟨Or.inl ⟨rfl, q1120⟩, rfl, q129, ⟨by decide, by decide⟩, by decide +kernel, by decide, trivial⟩⟩ else none
        else
         if h : k = 179 then some ⟨cX0_lengthOf, ⟨⟨(2, (Option.some ClassFile.FieldType.int), 2), fun pc => (mt179 pc).map (fun e => ⟨e.1, by subst h; exact e.2⟩)⟩, [], []⟩, by subst h; exact Or.inr ⟨Or.inl ⟨rfl, q1125⟩, rfl, q129, ⟨by decide, by decide⟩, by decide +kernel, by decide, trivial⟩⟩ else none
     else
      bif Nat.blt k 184 then
       bif Nat.blt k 182 then
        bif Nat.blt k 181 then
         if h : k = 180 then some ⟨cX0_unlike, ⟨⟨(5, (Option.some ClassFile.FieldType.int), 1), fun pc => (mt180 pc).map (fun e => ⟨e.1, by subst h; exact e.2⟩)⟩, [(4, 40, 60, 0), (46, 54, 60, 0), (60, 62, 60, 0)], [(4, 40, 0, 0, 99), (46, 54, 0, 0, 99), (60, 62, 0, 0, 99)]⟩, by subst h; exact Or.inr ⟨Or.inr ⟨by decide, q1130⟩, rfl, q129, ⟨by decide, by decide⟩, by decide +kernel, by decide, ⟨rfl, rfl, Or.inl rfl, ⟨rfl, rfl, Or.inl rfl, ⟨rfl, rfl, Or.inl rfl, trivial⟩⟩⟩⟩⟩ else none
        else
         if h : k = 181 then some ⟨cX0_item, ⟨⟨(3, (Option.some ClassFile.FieldType.int), 3), fun pc => (mt181 pc).map (fun e => ⟨e.1, by subst h; exact e.2⟩)⟩, [], []⟩, by subst h; exact Or.inr ⟨Or.inl ⟨rfl, q1133⟩, rfl, q129, ⟨by decide, by decide⟩, by decide +kernel, by decide, trivial⟩⟩ else none
       else
        bif Nat.blt k 183 then
         if h : k = 182 then some ⟨cX0_asksPlace, ⟨⟨(2, (Option.none : Option ClassFile.FieldType), 2), fun pc => (mt182 pc).map (fun e => ⟨e.1, by subst h; exact e.2⟩)⟩, [], []⟩, by subst h; exact Or.inr ⟨Or.inl ⟨rfl, q1136⟩, rfl, q129, ⟨by decide, by decide⟩, by decide +kernel, by decide, trivial⟩⟩ else none
        else
         if h : k = 183 then some ⟨cX0_kindsOf, ⟨⟨(5, (Option.some ClassFile.FieldType.int), 2), fun pc => (mt183 pc).map (fun e => ⟨e.1, by subst h; exact e.2⟩)⟩, [], []⟩, by subst h; exact Or.inr ⟨Or.inl ⟨rfl, q1161⟩, rfl, q129, ⟨by decide, by decide⟩, by decide +kernel, by decide, trivial⟩⟩ else none
      else
       bif Nat.blt k 186 then
        bif Nat.blt k 185 then
         if h : k = 184 then some ⟨cX0_isSoAs, ⟨⟨(7, (Option.some ClassFile.FieldType.boolean), 3), fun pc => (mt184 pc).map (fun e => ⟨e.1, by subst h; exact e.2⟩)⟩, [(8, 49, 60, 0), (60, 62, 60, 0)], [(8, 49, 0, 0, 99), (60, 62, 0, 0, 99)]⟩, by subst h; exact Or.inr ⟨Or.inr ⟨by decide, q1165⟩, rfl, q129, ⟨by decide, by decide⟩, by decide +kernel, by decide, ⟨rfl, rfl, Or.inl rfl, ⟨rfl, rfl, Or.inl rfl, trivial⟩⟩⟩⟩ else none
        else
         if h : k = 185 then some ⟨cX0_numbersOf, ⟨⟨(5, (Option.some ClassFile.FieldType.int), 2), fun pc => (mt185 pc).map (fun e => ⟨e.1, by subst h; exact e.2⟩)⟩, [], []⟩, by subst h; exact Or.inr ⟨Or.inl ⟨rfl, q1179⟩, rfl, q129, ⟨by decide, by decide⟩, by decide +kernel, by decide, trivial⟩⟩ else none
       else
        bif Nat.blt k 187 then
         if h : k = 186 then some ⟨cX0_isSoBy, ⟨⟨(8, (Option.some ClassFile.FieldType.boolean), 4), fun pc => (mt186 pc).map (fun e => ⟨e.1, by subst h; exact e.2⟩)⟩, [(8, 32, 43, 0), (43, 45, 43, 0)], [(8, 32, 0, 0, 99), (43, 45, 0, 0, 99)]⟩, by subst h; exact Or.inr ⟨Or.inr ⟨by decide, q1183⟩, rfl, q129, ⟨by decide, by decide⟩, by decide +kernel, by decide, ⟨rfl, rfl, Or.inl rfl, ⟨rfl, rfl, Or.inl rfl, trivial⟩⟩⟩⟩ else none
        else
         bif Nat.blt k 188 then
          if h : k = 187 then some ⟨cX0_manyBy, ⟨⟨(7, (Option.some ClassFile.FieldType.int), 4), fun pc => (mt187 pc).map (fun e => ⟨e.1, by subst h; exact e.2⟩)⟩, [], []⟩, by subst h; exact Or.inr ⟨Or.inl ⟨rfl, q1187⟩, rfl, q129, ⟨by decide, by decide⟩, by decide +kernel, by decide, trivial⟩⟩ else none
         else
          if h : k = 188 then some ⟨cX0_textsOf, ⟨⟨(6, (Option.some ClassFile.FieldType.int), 1), fun pc => (mt188 pc).map (fun e => ⟨e.1, by subst h; exact e.2⟩)⟩, [(7, 51, 59, 0), (59, 61, 59, 0)], [(7, 51, 0, 0, 99), (59, 61, 0, 0, 99)]⟩, by subst h; exact Or.inr ⟨Or.inr ⟨by decide, q1191⟩, rfl, q129, ⟨by decide, by decide⟩, by decide +kernel, by decide, ⟨rfl, rfl, Or.inl rfl, ⟨rfl, rfl, Or.inl rfl, trivial⟩⟩⟩⟩ else none
    else
     bif Nat.blt k 198 then
      bif Nat.blt k 193 then
       bif Nat.blt k 191 then
        bif Nat.blt k 190 then
         if h : k = 189 then some ⟨cX0_peopleOf, ⟨⟨(4, (Option.some ClassFile.FieldType.int), 1), fun pc => (mt189 pc).map (fun e => ⟨e.1, by subst h; exact e.2⟩)⟩, [], []⟩, by subst h; exact Or.inr ⟨Or.inl ⟨rfl, q1195⟩, rfl, q129, ⟨by decide, by decide⟩, by decide +kernel, by decide, trivial⟩⟩ else none
        else
         if h : k = 190 then some ⟨cX0_film, ⟨⟨(5, (Option.some ClassFile.FieldType.int), 2), fun pc => (mt190 pc).map (fun e => ⟨e.1, by subst h; exact e.2⟩)⟩, [(34, 62, 69, 0), (69, 71, 69, 0)], [(34, 62, 0, 0, 99), (69, 71, 0, 0, 99)]⟩, by subst h; exact Or.inr ⟨Or.inr ⟨by decide, q1199⟩, rfl, q129, ⟨by decide, by decide⟩, by decide +kernel, by decide, ⟨rfl, rfl, Or.inl rfl, ⟨rfl, rfl, Or.inl rfl, trivial⟩⟩⟩⟩ else none
       else
        bif Nat.blt k 192 then
         if h : k = 191 then some ⟨cX0_sheet, ⟨⟨(5, (Option.some ClassFile.FieldType.int), 3), fun pc => (mt191 pc).map (fun e => ⟨e.1, by subst h; exact e.2⟩)⟩, [(52, 67, 68, 545)], [(52, 67, 70, 4, 4)]⟩, by subst h; exact Or.inr ⟨Or.inr ⟨by decide, q1204⟩, rfl, q129, ⟨by decide, by decide⟩, by decide +kernel, by decide, ⟨rfl, rfl, Or.inr ⟨by decide, by decide, q1205, by decide, Or.inl ⟨dX0_sheet_68, rfl⟩⟩, trivial⟩⟩⟩ else none
        else
         if h : k = 192 then some ⟨cX0_rowOf, ⟨⟨(2, (Option.some (ClassFile.FieldType.object "java/lang/Object")), 2), fun pc => (mt192 pc).map (fun e => ⟨e.1, by subst h; exact e.2⟩)⟩, [], []⟩, by subst h; exact Or.inr ⟨Or.inl ⟨rfl, q1236⟩, rfl, q129, ⟨by decide, by decide⟩, by decide +kernel, by decide, trivial⟩⟩ else none
      else
       bif Nat.blt k 195 then
        bif Nat.blt k 194 then
         if h : k = 193 then some ⟨cX0_cell, ⟨⟨(5, (Option.some ClassFile.FieldType.int), 3), fun pc => (mt193 pc).map (fun e => ⟨e.1, by subst h; exact e.2⟩)⟩, [(10, 24, 25, 557), (10, 24, 30, 559)], [(10, 24, 27, 4, 2), (10, 24, 32, 4, 1)]⟩, by subst h; exact Or.inr ⟨Or.inr ⟨by decide, q1240⟩, rfl, q129, ⟨by decide, by decide⟩, by decide +kernel, by decide, ⟨rfl, rfl, Or.inr ⟨by decide, by decide, q1241, by decide, Or.inl ⟨dX0_cell_25, rfl⟩⟩, ⟨rfl, rfl, Or.inr ⟨by decide, by decide, q1137, by decide, Or.inl ⟨dX0_cell_30, rfl⟩⟩, trivial⟩⟩⟩⟩ else none
        else
         if h : k = 194 then some ⟨cX0_put, ⟨⟨(3, (Option.some ClassFile.FieldType.int), 3), fun pc => (mt194 pc).map (fun e => ⟨e.1, by subst h; exact e.2⟩)⟩, [], []⟩, by subst h; exact Or.inr ⟨Or.inl ⟨rfl, q1280⟩, rfl, q129, ⟨by decide, by decide⟩, by decide +kernel, by decide, trivial⟩⟩ else none
       else
        bif Nat.blt k 196 then
         if h : k = 195 then some ⟨cX0_drawn, ⟨⟨(3, (Option.some ClassFile.FieldType.int), 2), fun pc => (mt195 pc).map (fun e => ⟨e.1, by subst h; exact e.2⟩)⟩, [], []⟩, by subst h; exact Or.inr ⟨Or.inl ⟨rfl, q1285⟩, rfl, q129, ⟨by decide, by decide⟩, by decide +kernel, by decide, trivial⟩⟩ else none
        else
         bif Nat.blt k 197 then
          if h : k = 196 then some ⟨cX0_onDrawn, ⟨⟨(7, (Option.some ClassFile.FieldType.int), 2), fun pc => (mt196 pc).map (fun e => ⟨e.1, by subst h; exact e.2⟩)⟩, [(6, 87, 94, 0), (94, 96, 94, 0)], [(6, 87, 0, 0, 99), (94, 96, 0, 0, 99)]⟩, by subst h; exact Or.inr ⟨Or.inr ⟨by decide, q1289⟩, rfl, q129, ⟨by decide, by decide⟩, by decide +kernel, by decide, ⟨rfl, rfl, Or.inl rfl, ⟨rfl, rfl, Or.inl rfl, trivial⟩⟩⟩⟩ else none
         else
          if h : k = 197 then some ⟨cX0_chance, ⟨⟨(8, (Option.some ClassFile.FieldType.long), 4), fun pc => (mt197 pc).map (fun e => ⟨e.1, by subst h; exact e.2⟩)⟩, [], []⟩, by subst h; exact Or.inr ⟨Or.inl ⟨rfl, q1294⟩, rfl, q129, ⟨by decide, by decide⟩, by decide +kernel, by decide, trivial⟩⟩ else none
     else
      bif Nat.blt k 202 then
       bif Nat.blt k 200 then
        bif Nat.blt k 199 then
         if h : k = 198 then some ⟨cX0_lowest, ⟨⟨(11, (Option.some ClassFile.FieldType.long), 3), fun pc => (mt198 pc).map (fun e => ⟨e.1, by subst h; exact e.2⟩)⟩, [], []⟩, by subst h; exact Or.inr ⟨Or.inl ⟨rfl, q1297⟩, rfl, q129, ⟨by decide, by decide⟩, by decide +kernel, by decide, trivial⟩⟩ else none
        else
         if h : k = 199 then some ⟨cX0_image, ⟨⟨(3, (Option.some ClassFile.FieldType.int), 0), fun pc => (mt199 pc).map (fun e => ⟨e.1, by subst h; exact e.2⟩)⟩, [], []⟩, by subst h; exact Or.inr ⟨Or.inl ⟨rfl, q1301⟩, rfl, q129, ⟨by decide, by decide⟩, by decide +kernel, by decide, trivial⟩⟩ else none
       else
        bif Nat.blt k 201 then
         if h : k = 200 then some ⟨cX0_back, ⟨⟨(3, (Option.some ClassFile.FieldType.int), 0), fun pc => (mt200 pc).map (fun e => ⟨e.1, by subst h; exact e.2⟩)⟩, [], []⟩, by subst h; exact Or.inr ⟨Or.inl ⟨rfl, q1308⟩, rfl, q129, ⟨by decide, by decide⟩, by decide +kernel, by decide, trivial⟩⟩ else none
        else
         if h : k = 201 then some ⟨cX0_count, ⟨⟨(2, (Option.some ClassFile.FieldType.int), 1), fun pc => (mt201 pc).map (fun e => ⟨e.1, by subst h; exact e.2⟩)⟩, [], []⟩, by subst h; exact Or.inr ⟨Or.inl ⟨rfl, q1312⟩, rfl, q129, ⟨by decide, by decide⟩, by decide +kernel, by decide, trivial⟩⟩ else none
      else
       bif Nat.blt k 204 then
        bif Nat.blt k 203 then
         if h : k = 202 then some ⟨cX0_copy, ⟨⟨(10, (Option.some ClassFile.FieldType.int), 5), fun pc => (mt202 pc).map (fun e => ⟨e.1, by subst h; exact e.2⟩)⟩, [], []⟩, by subst h; exact Or.inr ⟨Or.inl ⟨rfl, q1318⟩, rfl, q129, ⟨by decide, by decide⟩, by decide +kernel, by decide, trivial⟩⟩ else none
        else
         if h : k = 203 then some ⟨cX0_court, ⟨⟨(6, (Option.some ClassFile.FieldType.int), 4), fun pc => (mt203 pc).map (fun e => ⟨e.1, by subst h; exact e.2⟩)⟩, [(35, 52, 53, 569), (35, 52, 58, 557), (35, 52, 63, 559)], [(35, 52, 55, 5, 3), (35, 52, 60, 5, 2), (35, 52, 65, 5, 1)]⟩, by subst h; exact Or.inr ⟨Or.inr ⟨by decide, q1322⟩, rfl, q129, ⟨by decide, by decide⟩, by decide +kernel, by decide, ⟨rfl, rfl, Or.inr ⟨by decide, by decide, q1323, by decide, Or.inl ⟨dX0_court_53, rfl⟩⟩, ⟨rfl, rfl, Or.inr ⟨by decide, by decide, q1241, by decide, Or.inl ⟨dX0_court_58, rfl⟩⟩, ⟨rfl, rfl, Or.inr ⟨by decide, by decide, q1137, by decide, Or.inl ⟨dX0_court_63, rfl⟩⟩, trivial⟩⟩⟩⟩⟩ else none
       else
        bif Nat.blt k 205 then
         if h : k = 204 then some ⟨cX0_came, ⟨⟨(10, (Option.some ClassFile.FieldType.int), 4), fun pc => (mt204 pc).map (fun e => ⟨e.1, by subst h; exact e.2⟩)⟩, [], []⟩, by subst h; exact Or.inr ⟨Or.inl ⟨rfl, q1340⟩, rfl, q129, ⟨by decide, by decide⟩, by decide +kernel, by decide, trivial⟩⟩ else none
        else
         bif Nat.blt k 206 then
          if h : k = 205 then some ⟨cX0_taken, ⟨⟨(4, (Option.some ClassFile.FieldType.int), 2), fun pc => (mt205 pc).map (fun e => ⟨e.1, by subst h; exact e.2⟩)⟩, [(15, 40, 41, 557), (15, 40, 45, 569)], [(15, 40, 42, 3, 2), (15, 40, 46, 3, 3)]⟩, by subst h; exact Or.inr ⟨Or.inr ⟨by decide, q1345⟩, rfl, q129, ⟨by decide, by decide⟩, by decide +kernel, by decide, ⟨rfl, rfl, Or.inr ⟨by decide, by decide, q1241, by decide, Or.inr ⟨3, rfl, dX0_taken_41, rfl⟩⟩, ⟨rfl, rfl, Or.inr ⟨by decide, by decide, q1323, by decide, Or.inr ⟨3, rfl, dX0_taken_45, rfl⟩⟩, trivial⟩⟩⟩⟩ else none
         else
          if h : k = 206 then some ⟨cX0_as, ⟨⟨(2, (Option.some (ClassFile.FieldType.object "NobodyCanLiftIt$Man")), 2), fun pc => (mt206 pc).map (fun e => ⟨e.1, by subst h; exact e.2⟩)⟩, [], []⟩, by subst h; exact Or.inr ⟨Or.inl ⟨rfl, q1348⟩, rfl, q129, ⟨by decide, by decide⟩, by decide +kernel, by decide, trivial⟩⟩ else none
  else
   bif Nat.blt k 242 then
    bif Nat.blt k 224 then
     bif Nat.blt k 215 then
      bif Nat.blt k 211 then
       bif Nat.blt k 209 then
        bif Nat.blt k 208 then
         if h : k = 207 then some ⟨cX1_init, ⟨⟨(1, (Option.none : Option ClassFile.FieldType), 0), fun pc => (mt207 pc).map (fun e => ⟨e.1, by subst h; exact e.2⟩)⟩, [], []⟩, by subst h; exact Or.inr ⟨Or.inl ⟨rfl, q809⟩, rfl, q133, ⟨by decide, by decide⟩, by decide +kernel, by decide, trivial⟩⟩ else none
        else
         if h : k = 208 then some ⟨cX2_is, ⟨⟨(5, (Option.none : Option ClassFile.FieldType), 2), fun pc => (mt208 pc).map (fun e => ⟨e.1, by subst h; exact e.2⟩)⟩, [], []⟩, by subst h; exact Or.inr ⟨Or.inl ⟨rfl, q432⟩, rfl, q134, ⟨by decide, by decide⟩, by decide +kernel, by decide, trivial⟩⟩ else none
       else
        bif Nat.blt k 210 then
         if h : k = 209 then some ⟨cX2_lowers, ⟨⟨(7, (Option.none : Option ClassFile.FieldType), 0), fun pc => (mt209 pc).map (fun e => ⟨e.1, by subst h; exact e.2⟩)⟩, [], []⟩, by subst h; exact Or.inr ⟨Or.inl ⟨rfl, q437⟩, rfl, q134, ⟨by decide, by decide⟩, by decide +kernel, by decide, trivial⟩⟩ else none
        else
         if h : k = 210 then some ⟨cX2_by, ⟨⟨(5, (Option.none : Option ClassFile.FieldType), 2), fun pc => (mt210 pc).map (fun e => ⟨e.1, by subst h; exact e.2⟩)⟩, [], []⟩, by subst h; exact Or.inr ⟨Or.inl ⟨rfl, q459⟩, rfl, q134, ⟨by decide, by decide⟩, by decide +kernel, by decide, trivial⟩⟩ else none
      else
       bif Nat.blt k 213 then
        bif Nat.blt k 212 then
         if h : k = 211 then some ⟨cX2_lessens, ⟨⟨(3, (Option.none : Option ClassFile.FieldType), 1), fun pc => (mt211 pc).map (fun e => ⟨e.1, by subst h; exact e.2⟩)⟩, [], []⟩, by subst h; exact Or.inr ⟨Or.inl ⟨rfl, q484⟩, rfl, q134, ⟨by decide, by decide⟩, by decide +kernel, by decide, trivial⟩⟩ else none
        else
         if h : k = 212 then some ⟨cX2_adds, ⟨⟨(2, (Option.none : Option ClassFile.FieldType), 1), fun pc => (mt212 pc).map (fun e => ⟨e.1, by subst h; exact e.2⟩)⟩, [], []⟩, by subst h; exact Or.inr ⟨Or.inl ⟨rfl, q491⟩, rfl, q134, ⟨by decide, by decide⟩, by decide +kernel, by decide, trivial⟩⟩ else none
       else
        bif Nat.blt k 214 then
         if h : k = 213 then some ⟨cX2_against, ⟨⟨(3, (Option.some ClassFile.FieldType.int), 1), fun pc => (mt213 pc).map (fun e => ⟨e.1, by subst h; exact e.2⟩)⟩, [], []⟩, by subst h; exact Or.inr ⟨Or.inl ⟨rfl, q495⟩, rfl, q134, ⟨by decide, by decide⟩, by decide +kernel, by decide, trivial⟩⟩ else none
        else
         if h : k = 214 then some ⟨cX2_init, ⟨⟨(1, (Option.none : Option ClassFile.FieldType), 0), fun pc => (mt214 pc).map (fun e => ⟨e.1, by subst h; exact e.2⟩)⟩, [], []⟩, by subst h; exact Or.inr ⟨Or.inl ⟨rfl, q852⟩, rfl, q134, ⟨by decide, by decide⟩, by decide +kernel, by decide, trivial⟩⟩ else none
     else
      bif Nat.blt k 219 then
       bif Nat.blt k 217 then
        bif Nat.blt k 216 then
         if h : k = 215 then some ⟨cX2_told, ⟨⟨(2, (Option.some ClassFile.FieldType.long), 1), fun pc => (mt215 pc).map (fun e => ⟨e.1, by subst h; exact e.2⟩)⟩, [], []⟩, by subst h; exact Or.inr ⟨Or.inl ⟨rfl, q996⟩, rfl, q134, ⟨by decide, by decide⟩, by decide +kernel, by decide, trivial⟩⟩ else none
        else
         if h : k = 216 then some ⟨cX2_against_2, ⟨⟨(2, (Option.some ClassFile.FieldType.int), 1), fun pc => (mt216 pc).map (fun e => ⟨e.1, by subst h; exact e.2⟩)⟩, [], []⟩, by subst h; exact Or.inr ⟨Or.inl ⟨rfl, q1086⟩, rfl, q134, ⟨by decide, by decide⟩, by decide +kernel, by decide, trivial⟩⟩ else none
       else
        bif Nat.blt k 218 then
         if h : k = 217 then some ⟨cX2_becomes, ⟨⟨(2, (Option.none : Option ClassFile.FieldType), 1), fun pc => (mt217 pc).map (fun e => ⟨e.1, by subst h; exact e.2⟩)⟩, [], []⟩, by subst h; exact Or.inr ⟨Or.inl ⟨rfl, q1090⟩, rfl, q134, ⟨by decide, by decide⟩, by decide +kernel, by decide, trivial⟩⟩ else none
        else
         if h : k = 218 then some ⟨cX3_init, ⟨⟨(1, (Option.none : Option ClassFile.FieldType), 0), fun pc => (mt218 pc).map (fun e => ⟨e.1, by subst h; exact e.2⟩)⟩, [], []⟩, by subst h; exact Or.inr ⟨Or.inl ⟨rfl, q868⟩, rfl, q135, ⟨by decide, by decide⟩, by decide +kernel, by decide, trivial⟩⟩ else none
      else
       bif Nat.blt k 221 then
        bif Nat.blt k 220 then
         if h : k = 219 then some ⟨cX10_init, ⟨⟨(3, (Option.none : Option ClassFile.FieldType), 2), fun pc => (mt219 pc).map (fun e => ⟨e.1, by subst h; exact e.2⟩)⟩, [], []⟩, by subst h; exact Or.inr ⟨Or.inl ⟨rfl, q182⟩, rfl, q148, ⟨by decide, by decide⟩, by decide +kernel, by decide, trivial⟩⟩ else none
        else
         if h : k = 220 then some ⟨cX10_kind, ⟨⟨(1, (Option.some ClassFile.FieldType.int), 0), fun pc => (mt220 pc).map (fun e => ⟨e.1, by subst h; exact e.2⟩)⟩, [], []⟩, by subst h; exact Or.inr ⟨Or.inl ⟨rfl, q310⟩, rfl, q148, ⟨by decide, by decide⟩, by decide +kernel, by decide, trivial⟩⟩ else none
       else
        bif Nat.blt k 222 then
         if h : k = 221 then some ⟨cX10_strong, ⟨⟨(3, (Option.some ClassFile.FieldType.int), 2), fun pc => (mt221 pc).map (fun e => ⟨e.1, by subst h; exact e.2⟩)⟩, [], []⟩, by subst h; exact Or.inr ⟨Or.inl ⟨rfl, q377⟩, rfl, q148, ⟨by decide, by decide⟩, by decide +kernel, by decide, trivial⟩⟩ else none
        else
         bif Nat.blt k 223 then
          if h : k = 222 then some ⟨cX10_eased, ⟨⟨(3, (Option.some ClassFile.FieldType.int), 2), fun pc => (mt222 pc).map (fun e => ⟨e.1, by subst h; exact e.2⟩)⟩, [], []⟩, by subst h; exact Or.inr ⟨Or.inl ⟨rfl, q406⟩, rfl, q148, ⟨by decide, by decide⟩, by decide +kernel, by decide, trivial⟩⟩ else none
         else
          if h : k = 223 then some ⟨cX10_feels, ⟨⟨(3, (Option.none : Option ClassFile.FieldType), 2), fun pc => (mt223 pc).map (fun e => ⟨e.1, by subst h; exact e.2⟩)⟩, [], []⟩, by subst h; exact Or.inr ⟨Or.inl ⟨rfl, q453⟩, rfl, q148, ⟨by decide, by decide⟩, by decide +kernel, by decide, trivial⟩⟩ else none
    else
     bif Nat.blt k 233 then
      bif Nat.blt k 228 then
       bif Nat.blt k 226 then
        bif Nat.blt k 225 then
         if h : k = 224 then some ⟨cX10_like, ⟨⟨(2, (Option.some (ClassFile.FieldType.object "NobodyCanLiftIt$Man")), 1), fun pc => (mt224 pc).map (fun e => ⟨e.1, by subst h; exact e.2⟩)⟩, [], []⟩, by subst h; exact Or.inr ⟨Or.inl ⟨rfl, q1175⟩, rfl, q148, ⟨by decide, by decide⟩, by decide +kernel, by decide, trivial⟩⟩ else none
        else
         if h : k = 225 then some ⟨cX11_init, ⟨⟨(3, (Option.none : Option ClassFile.FieldType), 2), fun pc => (mt225 pc).map (fun e => ⟨e.1, by subst h; exact e.2⟩)⟩, [], []⟩, by subst h; exact Or.inr ⟨Or.inl ⟨rfl, q179⟩, rfl, q149, ⟨by decide, by decide⟩, by decide +kernel, by decide, trivial⟩⟩ else none
       else
        bif Nat.blt k 227 then
         if h : k = 226 then some ⟨cX11_kind, ⟨⟨(1, (Option.some ClassFile.FieldType.int), 0), fun pc => (mt226 pc).map (fun e => ⟨e.1, by subst h; exact e.2⟩)⟩, [], []⟩, by subst h; exact Or.inr ⟨Or.inl ⟨rfl, q317⟩, rfl, q149, ⟨by decide, by decide⟩, by decide +kernel, by decide, trivial⟩⟩ else none
        else
         if h : k = 227 then some ⟨cX11_strong, ⟨⟨(3, (Option.some ClassFile.FieldType.int), 2), fun pc => (mt227 pc).map (fun e => ⟨e.1, by subst h; exact e.2⟩)⟩, [], []⟩, by subst h; exact Or.inr ⟨Or.inl ⟨rfl, q384⟩, rfl, q149, ⟨by decide, by decide⟩, by decide +kernel, by decide, trivial⟩⟩ else none
      else
       bif Nat.blt k 230 then
        bif Nat.blt k 229 then
         if h : k = 228 then some ⟨cX11_eased, ⟨⟨(3, (Option.some ClassFile.FieldType.int), 2), fun pc => (mt228 pc).map (fun e => ⟨e.1, by subst h; exact e.2⟩)⟩, [], []⟩, by subst h; exact Or.inr ⟨Or.inl ⟨rfl, q413⟩, rfl, q149, ⟨by decide, by decide⟩, by decide +kernel, by decide, trivial⟩⟩ else none
        else
         if h : k = 229 then some ⟨cX11_feels, ⟨⟨(3, (Option.none : Option ClassFile.FieldType), 2), fun pc => (mt229 pc).map (fun e => ⟨e.1, by subst h; exact e.2⟩)⟩, [], []⟩, by subst h; exact Or.inr ⟨Or.inl ⟨rfl, q467⟩, rfl, q149, ⟨by decide, by decide⟩, by decide +kernel, by decide, trivial⟩⟩ else none
       else
        bif Nat.blt k 231 then
         if h : k = 230 then some ⟨cX12_init, ⟨⟨(3, (Option.none : Option ClassFile.FieldType), 2), fun pc => (mt230 pc).map (fun e => ⟨e.1, by subst h; exact e.2⟩)⟩, [], []⟩, by subst h; exact Or.inr ⟨Or.inl ⟨rfl, q220⟩, rfl, q150, ⟨by decide, by decide⟩, by decide +kernel, by decide, trivial⟩⟩ else none
        else
         bif Nat.blt k 232 then
          if h : k = 231 then some ⟨cX12_kind, ⟨⟨(1, (Option.some ClassFile.FieldType.int), 0), fun pc => (mt231 pc).map (fun e => ⟨e.1, by subst h; exact e.2⟩)⟩, [], []⟩, by subst h; exact Or.inr ⟨Or.inl ⟨rfl, q308⟩, rfl, q150, ⟨by decide, by decide⟩, by decide +kernel, by decide, trivial⟩⟩ else none
         else
          if h : k = 232 then some ⟨cX12_strong, ⟨⟨(3, (Option.some ClassFile.FieldType.int), 2), fun pc => (mt232 pc).map (fun e => ⟨e.1, by subst h; exact e.2⟩)⟩, [], []⟩, by subst h; exact Or.inr ⟨Or.inl ⟨rfl, q375⟩, rfl, q150, ⟨by decide, by decide⟩, by decide +kernel, by decide, trivial⟩⟩ else none
     else
      bif Nat.blt k 237 then
       bif Nat.blt k 235 then
        bif Nat.blt k 234 then
         if h : k = 233 then some ⟨cX12_eased, ⟨⟨(3, (Option.some ClassFile.FieldType.int), 2), fun pc => (mt233 pc).map (fun e => ⟨e.1, by subst h; exact e.2⟩)⟩, [], []⟩, by subst h; exact Or.inr ⟨Or.inl ⟨rfl, q404⟩, rfl, q150, ⟨by decide, by decide⟩, by decide +kernel, by decide, trivial⟩⟩ else none
        else
         if h : k = 234 then some ⟨cX12_feels, ⟨⟨(3, (Option.none : Option ClassFile.FieldType), 2), fun pc => (mt234 pc).map (fun e => ⟨e.1, by subst h; exact e.2⟩)⟩, [], []⟩, by subst h; exact Or.inr ⟨Or.inl ⟨rfl, q451⟩, rfl, q150, ⟨by decide, by decide⟩, by decide +kernel, by decide, trivial⟩⟩ else none
       else
        bif Nat.blt k 236 then
         if h : k = 235 then some ⟨cX13_init, ⟨⟨(3, (Option.none : Option ClassFile.FieldType), 2), fun pc => (mt235 pc).map (fun e => ⟨e.1, by subst h; exact e.2⟩)⟩, [], []⟩, by subst h; exact Or.inr ⟨Or.inl ⟨rfl, q231⟩, rfl, q151, ⟨by decide, by decide⟩, by decide +kernel, by decide, trivial⟩⟩ else none
        else
         if h : k = 236 then some ⟨cX13_kind, ⟨⟨(1, (Option.some ClassFile.FieldType.int), 0), fun pc => (mt236 pc).map (fun e => ⟨e.1, by subst h; exact e.2⟩)⟩, [], []⟩, by subst h; exact Or.inr ⟨Or.inl ⟨rfl, q325⟩, rfl, q151, ⟨by decide, by decide⟩, by decide +kernel, by decide, trivial⟩⟩ else none
      else
       bif Nat.blt k 239 then
        bif Nat.blt k 238 then
         if h : k = 237 then some ⟨cX13_strong, ⟨⟨(4, (Option.some ClassFile.FieldType.int), 2), fun pc => (mt237 pc).map (fun e => ⟨e.1, by subst h; exact e.2⟩)⟩, [], []⟩, by subst h; exact Or.inr ⟨Or.inl ⟨rfl, q392⟩, rfl, q151, ⟨by decide, by decide⟩, by decide +kernel, by decide, trivial⟩⟩ else none
        else
         if h : k = 238 then some ⟨cX13_eased, ⟨⟨(3, (Option.some ClassFile.FieldType.int), 2), fun pc => (mt238 pc).map (fun e => ⟨e.1, by subst h; exact e.2⟩)⟩, [], []⟩, by subst h; exact Or.inr ⟨Or.inl ⟨rfl, q420⟩, rfl, q151, ⟨by decide, by decide⟩, by decide +kernel, by decide, trivial⟩⟩ else none
       else
        bif Nat.blt k 240 then
         if h : k = 239 then some ⟨cX13_feels, ⟨⟨(3, (Option.none : Option ClassFile.FieldType), 2), fun pc => (mt239 pc).map (fun e => ⟨e.1, by subst h; exact e.2⟩)⟩, [], []⟩, by subst h; exact Or.inr ⟨Or.inl ⟨rfl, q479⟩, rfl, q151, ⟨by decide, by decide⟩, by decide +kernel, by decide, trivial⟩⟩ else none
        else
         bif Nat.blt k 241 then
          if h : k = 240 then some ⟨cX14_init, ⟨⟨(3, (Option.none : Option ClassFile.FieldType), 2), fun pc => (mt240 pc).map (fun e => ⟨e.1, by subst h; exact e.2⟩)⟩, [], []⟩, by subst h; exact Or.inr ⟨Or.inl ⟨rfl, q242⟩, rfl, q152, ⟨by decide, by decide⟩, by decide +kernel, by decide, trivial⟩⟩ else none
         else
          if h : k = 241 then some ⟨cX14_kind, ⟨⟨(1, (Option.some ClassFile.FieldType.int), 0), fun pc => (mt241 pc).map (fun e => ⟨e.1, by subst h; exact e.2⟩)⟩, [], []⟩, by subst h; exact Or.inr ⟨Or.inl ⟨rfl, q321⟩, rfl, q152, ⟨by decide, by decide⟩, by decide +kernel, by decide, trivial⟩⟩ else none
   else
    bif Nat.blt k 259 then
     bif Nat.blt k 250 then
      bif Nat.blt k 246 then
       bif Nat.blt k 244 then
        bif Nat.blt k 243 then
         if h : k = 242 then some ⟨cX14_strong, ⟨⟨(3, (Option.some ClassFile.FieldType.int), 2), fun pc => (mt242 pc).map (fun e => ⟨e.1, by subst h; exact e.2⟩)⟩, [], []⟩, by subst h; exact Or.inr ⟨Or.inl ⟨rfl, q388⟩, rfl, q152, ⟨by decide, by decide⟩, by decide +kernel, by decide, trivial⟩⟩ else none
        else
         if h : k = 243 then some ⟨cX14_eased, ⟨⟨(3, (Option.some ClassFile.FieldType.int), 2), fun pc => (mt243 pc).map (fun e => ⟨e.1, by subst h; exact e.2⟩)⟩, [], []⟩, by subst h; exact Or.inr ⟨Or.inl ⟨rfl, q416⟩, rfl, q152, ⟨by decide, by decide⟩, by decide +kernel, by decide, trivial⟩⟩ else none
       else
        bif Nat.blt k 245 then
         if h : k = 244 then some ⟨cX14_feels, ⟨⟨(3, (Option.none : Option ClassFile.FieldType), 2), fun pc => (mt244 pc).map (fun e => ⟨e.1, by subst h; exact e.2⟩)⟩, [], []⟩, by subst h; exact Or.inr ⟨Or.inl ⟨rfl, q473⟩, rfl, q152, ⟨by decide, by decide⟩, by decide +kernel, by decide, trivial⟩⟩ else none
        else
         if h : k = 245 then some ⟨cX15_init, ⟨⟨(3, (Option.none : Option ClassFile.FieldType), 2), fun pc => (mt245 pc).map (fun e => ⟨e.1, by subst h; exact e.2⟩)⟩, [], []⟩, by subst h; exact Or.inr ⟨Or.inl ⟨rfl, q253⟩, rfl, q153, ⟨by decide, by decide⟩, by decide +kernel, by decide, trivial⟩⟩ else none
      else
       bif Nat.blt k 248 then
        bif Nat.blt k 247 then
         if h : k = 246 then some ⟨cX15_kind, ⟨⟨(1, (Option.some ClassFile.FieldType.int), 0), fun pc => (mt246 pc).map (fun e => ⟨e.1, by subst h; exact e.2⟩)⟩, [], []⟩, by subst h; exact Or.inr ⟨Or.inl ⟨rfl, q313⟩, rfl, q153, ⟨by decide, by decide⟩, by decide +kernel, by decide, trivial⟩⟩ else none
        else
         if h : k = 247 then some ⟨cX15_strong, ⟨⟨(3, (Option.some ClassFile.FieldType.int), 2), fun pc => (mt247 pc).map (fun e => ⟨e.1, by subst h; exact e.2⟩)⟩, [], []⟩, by subst h; exact Or.inr ⟨Or.inl ⟨rfl, q380⟩, rfl, q153, ⟨by decide, by decide⟩, by decide +kernel, by decide, trivial⟩⟩ else none
       else
        bif Nat.blt k 249 then
         if h : k = 248 then some ⟨cX15_eased, ⟨⟨(3, (Option.some ClassFile.FieldType.int), 2), fun pc => (mt248 pc).map (fun e => ⟨e.1, by subst h; exact e.2⟩)⟩, [], []⟩, by subst h; exact Or.inr ⟨Or.inl ⟨rfl, q409⟩, rfl, q153, ⟨by decide, by decide⟩, by decide +kernel, by decide, trivial⟩⟩ else none
        else
         if h : k = 249 then some ⟨cX15_feels, ⟨⟨(3, (Option.none : Option ClassFile.FieldType), 2), fun pc => (mt249 pc).map (fun e => ⟨e.1, by subst h; exact e.2⟩)⟩, [], []⟩, by subst h; exact Or.inr ⟨Or.inl ⟨rfl, q463⟩, rfl, q153, ⟨by decide, by decide⟩, by decide +kernel, by decide, trivial⟩⟩ else none
     else
      bif Nat.blt k 254 then
       bif Nat.blt k 252 then
        bif Nat.blt k 251 then
         if h : k = 250 then some ⟨cX6_worth, ⟨⟨(1, (Option.some ClassFile.FieldType.int), 0), fun pc => (mt250 pc).map (fun e => ⟨e.1, by subst h; exact e.2⟩)⟩, [], []⟩, by subst h; exact Or.inr ⟨Or.inl ⟨rfl, q347⟩, rfl, q144, ⟨by decide, by decide⟩, by decide +kernel, by decide, trivial⟩⟩ else none
        else
         if h : k = 251 then some ⟨cX6_init, ⟨⟨(2, (Option.none : Option ClassFile.FieldType), 1), fun pc => (mt251 pc).map (fun e => ⟨e.1, by subst h; exact e.2⟩)⟩, [], []⟩, by subst h; exact Or.inr ⟨Or.inl ⟨rfl, q706⟩, rfl, q144, ⟨by decide, by decide⟩, by decide +kernel, by decide, trivial⟩⟩ else none
       else
        bif Nat.blt k 253 then
         if h : k = 252 then some ⟨cX7_worth, ⟨⟨(1, (Option.some ClassFile.FieldType.int), 0), fun pc => (mt252 pc).map (fun e => ⟨e.1, by subst h; exact e.2⟩)⟩, [], []⟩, by subst h; exact Or.inr ⟨Or.inl ⟨rfl, q340⟩, rfl, q145, ⟨by decide, by decide⟩, by decide +kernel, by decide, trivial⟩⟩ else none
        else
         if h : k = 253 then some ⟨cX7_init, ⟨⟨(3, (Option.none : Option ClassFile.FieldType), 2), fun pc => (mt253 pc).map (fun e => ⟨e.1, by subst h; exact e.2⟩)⟩, [], []⟩, by subst h; exact Or.inr ⟨Or.inl ⟨rfl, q716⟩, rfl, q145, ⟨by decide, by decide⟩, by decide +kernel, by decide, trivial⟩⟩ else none
      else
       bif Nat.blt k 256 then
        bif Nat.blt k 255 then
         if h : k = 254 then some ⟨cX5_worth, ⟨⟨(2, (Option.some ClassFile.FieldType.int), 0), fun pc => (mt254 pc).map (fun e => ⟨e.1, by subst h; exact e.2⟩)⟩, [], []⟩, by subst h; exact Or.inr ⟨Or.inl ⟨rfl, q350⟩, rfl, q143, ⟨by decide, by decide⟩, by decide +kernel, by decide, trivial⟩⟩ else none
        else
         if h : k = 255 then some ⟨cX5_init, ⟨⟨(3, (Option.none : Option ClassFile.FieldType), 2), fun pc => (mt255 pc).map (fun e => ⟨e.1, by subst h; exact e.2⟩)⟩, [], []⟩, by subst h; exact Or.inr ⟨Or.inl ⟨rfl, q677⟩, rfl, q143, ⟨by decide, by decide⟩, by decide +kernel, by decide, trivial⟩⟩ else none
       else
        bif Nat.blt k 257 then
         if h : k = 256 then some ⟨cX8_worth, ⟨⟨(3, (Option.some ClassFile.FieldType.int), 0), fun pc => (mt256 pc).map (fun e => ⟨e.1, by subst h; exact e.2⟩)⟩, [], []⟩, by subst h; exact Or.inr ⟨Or.inl ⟨rfl, q353⟩, rfl, q146, ⟨by decide, by decide⟩, by decide +kernel, by decide, trivial⟩⟩ else none
        else
         bif Nat.blt k 258 then
          if h : k = 257 then some ⟨cX8_init, ⟨⟨(4, (Option.none : Option ClassFile.FieldType), 3), fun pc => (mt257 pc).map (fun e => ⟨e.1, by subst h; exact e.2⟩)⟩, [], []⟩, by subst h; exact Or.inr ⟨Or.inl ⟨rfl, q733⟩, rfl, q146, ⟨by decide, by decide⟩, by decide +kernel, by decide, trivial⟩⟩ else none
         else
          if h : k = 258 then some ⟨cX4_init, ⟨⟨(1, (Option.none : Option ClassFile.FieldType), 0), fun pc => (mt258 pc).map (fun e => ⟨e.1, by subst h; exact e.2⟩)⟩, [], []⟩, by subst h; exact Or.inr ⟨Or.inl ⟨rfl, q680⟩, rfl, q142, ⟨by decide, by decide⟩, by decide +kernel, by decide, trivial⟩⟩ else none
    else
     bif Nat.blt k 268 then
      bif Nat.blt k 263 then
       bif Nat.blt k 261 then
        bif Nat.blt k 260 then
         if h : k = 259 then some ⟨cJ9_compare, ⟨⟨(4, (Option.some ClassFile.FieldType.int), 2), fun pc => (mt259 pc).map (fun e => ⟨e.1, by subst h; exact e.2⟩)⟩, [], []⟩, by subst h; exact Or.inr ⟨Or.inl ⟨rfl, q498⟩, rfl, q154, ⟨by decide, by decide⟩, by decide +kernel, by decide, trivial⟩⟩ else none
        else
         if h : k = 260 then some ⟨cJ10_bitCount, ⟨⟨(1, (Option.some ClassFile.FieldType.int), 1), fun pc => (mt260 pc).map (fun e => ⟨e.1, by subst h; exact e.2⟩)⟩, [], []⟩, by subst h; exact Or.inr ⟨Or.inl ⟨rfl, q1064⟩, rfl, q155, ⟨by decide, by decide⟩, by decide +kernel, by decide, trivial⟩⟩ else none
       else
        bif Nat.blt k 262 then
         if h : k = 261 then some ⟨cJ0_init_2, ⟨⟨(5, (Option.none : Option ClassFile.FieldType), 4), fun pc => (mt261 pc).map (fun e => ⟨e.1, by subst h; exact e.2⟩)⟩, [], []⟩, by subst h; exact Or.inr ⟨Or.inl ⟨rfl, q818⟩, rfl, q130, ⟨by decide, by decide⟩, by decide +kernel, by decide, trivial⟩⟩ else none
        else
         if h : k = 262 then some ⟨cJ1_init, ⟨⟨(5, (Option.none : Option ClassFile.FieldType), 4), fun pc => (mt262 pc).map (fun e => ⟨e.1, by subst h; exact e.2⟩)⟩, [], []⟩, by subst h; exact Or.inr ⟨Or.inl ⟨rfl, q815⟩, rfl, q131, ⟨by decide, by decide⟩, by decide +kernel, by decide, trivial⟩⟩ else none
      else
       bif Nat.blt k 265 then
        bif Nat.blt k 264 then
         if h : k = 263 then some ⟨cJ2_init, ⟨⟨(5, (Option.none : Option ClassFile.FieldType), 4), fun pc => (mt263 pc).map (fun e => ⟨e.1, by subst h; exact e.2⟩)⟩, [], []⟩, by subst h; exact Or.inr ⟨Or.inl ⟨rfl, q812⟩, rfl, q132, ⟨by decide, by decide⟩, by decide +kernel, by decide, trivial⟩⟩ else none
        else
         if h : k = 264 then some ⟨cJ3_length, ⟨⟨(1, (Option.some ClassFile.FieldType.int), 0), fun pc => (mt264 pc).map (fun e => ⟨e.1, by subst h; exact e.2⟩)⟩, [], []⟩, by subst h; exact Or.inr ⟨Or.inl ⟨rfl, q539⟩, rfl, q136, ⟨by decide, by decide⟩, by decide +kernel, by decide, trivial⟩⟩ else none
       else
        bif Nat.blt k 266 then
         if h : k = 265 then some ⟨cJ3_coder, ⟨⟨(1, (Option.some ClassFile.FieldType.byte), 0), fun pc => (mt265 pc).map (fun e => ⟨e.1, by subst h; exact e.2⟩)⟩, [], []⟩, by subst h; exact Or.inr ⟨Or.inl ⟨rfl, q543⟩, rfl, q136, ⟨by decide, by decide⟩, by decide +kernel, by decide, trivial⟩⟩ else none
        else
         bif Nat.blt k 267 then
          if h : k = 266 then some ⟨cJ3_charAt, ⟨⟨(2, (Option.some ClassFile.FieldType.char), 1), fun pc => (mt266 pc).map (fun e => ⟨e.1, by subst h; exact e.2⟩)⟩, [], []⟩, by subst h; exact Or.inr ⟨Or.inl ⟨rfl, q549⟩, rfl, q136, ⟨by decide, by decide⟩, by decide +kernel, by decide, trivial⟩⟩ else none
         else
          if h : k = 267 then some ⟨cJ3_isLatin1, ⟨⟨(1, (Option.some ClassFile.FieldType.boolean), 0), fun pc => (mt267 pc).map (fun e => ⟨e.1, by subst h; exact e.2⟩)⟩, [], []⟩, by subst h; exact Or.inr ⟨Or.inl ⟨rfl, q553⟩, rfl, q136, ⟨by decide, by decide⟩, by decide +kernel, by decide, trivial⟩⟩ else none
     else
      bif Nat.blt k 272 then
       bif Nat.blt k 270 then
        bif Nat.blt k 269 then
         if h : k = 268 then some ⟨cJ3_checkIndex, ⟨⟨(2, (Option.none : Option ClassFile.FieldType), 2), fun pc => (mt268 pc).map (fun e => ⟨e.1, by subst h; exact e.2⟩)⟩, [], []⟩, by subst h; exact Or.inr ⟨Or.inl ⟨rfl, q559⟩, rfl, q136, ⟨by decide, by decide⟩, by decide +kernel, by decide, trivial⟩⟩ else none
        else
         if h : k = 269 then some ⟨cJ3_indexOf, ⟨⟨(2, (Option.some ClassFile.FieldType.int), 1), fun pc => (mt269 pc).map (fun e => ⟨e.1, by subst h; exact e.2⟩)⟩, [], []⟩, by subst h; exact Or.inr ⟨Or.inl ⟨rfl, q597⟩, rfl, q136, ⟨by decide, by decide⟩, by decide +kernel, by decide, trivial⟩⟩ else none
       else
        bif Nat.blt k 271 then
         if h : k = 270 then some ⟨cJ3_indexOf_2, ⟨⟨(3, (Option.some ClassFile.FieldType.int), 2), fun pc => (mt270 pc).map (fun e => ⟨e.1, by subst h; exact e.2⟩)⟩, [], []⟩, by subst h; exact Or.inr ⟨Or.inl ⟨rfl, q601⟩, rfl, q136, ⟨by decide, by decide⟩, by decide +kernel, by decide, trivial⟩⟩ else none
        else
         if h : k = 271 then some ⟨cJ4_charAt, ⟨⟨(2, (Option.some ClassFile.FieldType.char), 2), fun pc => (mt271 pc).map (fun e => ⟨e.1, by subst h; exact e.2⟩)⟩, [], []⟩, by subst h; exact Or.inr ⟨Or.inl ⟨rfl, q556⟩, rfl, q137, ⟨by decide, by decide⟩, by decide +kernel, by decide, trivial⟩⟩ else none
      else
       bif Nat.blt k 274 then
        bif Nat.blt k 273 then
         if h : k = 272 then some ⟨cJ4_indexOf, ⟨⟨(4, (Option.some ClassFile.FieldType.int), 4), fun pc => (mt272 pc).map (fun e => ⟨e.1, by subst h; exact e.2⟩)⟩, [], []⟩, by subst h; exact Or.inr ⟨Or.inl ⟨rfl, q605⟩, rfl, q137, ⟨by decide, by decide⟩, by decide +kernel, by decide, trivial⟩⟩ else none
        else
         if h : k = 273 then some ⟨cJ4_canEncode, ⟨⟨(1, (Option.some ClassFile.FieldType.boolean), 1), fun pc => (mt273 pc).map (fun e => ⟨e.1, by subst h; exact e.2⟩)⟩, [], []⟩, by subst h; exact Or.inr ⟨Or.inl ⟨rfl, q608⟩, rfl, q137, ⟨by decide, by decide⟩, by decide +kernel, by decide, trivial⟩⟩ else none
       else
        bif Nat.blt k 275 then
         if h : k = 274 then some ⟨cJ4_indexOfChar, ⟨⟨(6, (Option.some ClassFile.FieldType.int), 4), fun pc => (mt274 pc).map (fun e => ⟨e.1, by subst h; exact e.2⟩)⟩, [], []⟩, by subst h; exact Or.inr ⟨Or.inl ⟨rfl, q613⟩, rfl, q137, ⟨by decide, by decide⟩, by decide +kernel, by decide, trivial⟩⟩ else none
        else
         bif Nat.blt k 900 then
          if h : k = 275 then some ⟨cJ5_checkIndex, ⟨⟨(3, (Option.some ClassFile.FieldType.int), 3), fun pc => (mt275 pc).map (fun e => ⟨e.1, by subst h; exact e.2⟩)⟩, [], []⟩, by subst h; exact Or.inr ⟨Or.inl ⟨rfl, q564⟩, rfl, q138, ⟨by decide, by decide⟩, by decide +kernel, by decide, trivial⟩⟩ else none
         else
          if h : k = 900 then some ⟨cL_law, ⟨⟨(4, (Option.some ClassFile.FieldType.boolean), 1), fun pc => (mt900 pc).map (fun e => ⟨e.1, by subst h; exact e.2⟩)⟩, [], []⟩, by subst h; exact Or.inl rfl⟩ else none
