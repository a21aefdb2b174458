set_option maxRecDepth 100000
set_option linter.unusedVariables false
noncomputable def mt0 (pc : Nat) : Option {e : mE // mOK yX9_init cX9_init 2 ((Option.none : Option ClassFile.FieldType)) pc e} :=
 bif Nat.blt pc 128 then
  bif Nat.blt pc 69 then
   bif Nat.blt pc 35 then
    bif Nat.blt pc 16 then
     bif Nat.blt pc 8 then
      bif Nat.blt pc 4 then
       bif Nat.blt pc 1 then
        if h : pc = 0 then some ⟨(.aload_n 0, 1, .inl 0, 0, 0), by subst h; exact ⟨dX9_init_0, rfl, trivial⟩⟩ else none
       else
        if h : pc = 1 then some ⟨(.invokespecial 7, 4, .inl 0, 999, 0), by subst h; exact ⟨dX9_init_1, rfl, ⟨rfl, q1354, q184, q185⟩⟩⟩ else none
      else
       bif Nat.blt pc 5 then
        if h : pc = 4 then some ⟨(.aload_n 0, 5, .inl 0, 0, 0), by subst h; exact ⟨dX9_init_4, rfl, trivial⟩⟩ else none
       else
        if h : pc = 5 then some ⟨(.sipush 960, 8, .inl 960, 0, 0), by subst h; exact ⟨dX9_init_5, rfl, ⟨960, rfl, by decide⟩⟩⟩ else none
     else
      bif Nat.blt pc 13 then
       bif Nat.blt pc 10 then
        if h : pc = 8 then some ⟨(.newarray .int, 10, .inl 0, 0, 1), by subst h; exact ⟨dX9_init_8, rfl, ⟨q832, rfl, by decide, by decide⟩⟩⟩ else none
       else
        if h : pc = 10 then some ⟨(.putfield 13, 13, .inr (.inr none), 1, 14), by subst h; exact ⟨dX9_init_10, rfl, ⟨⟨_, rfl, by decide, _, Or.inl q1359, Or.inl rfl⟩, (show mKd 14 1 = 6 by rfl), by decide, by decide, (fun q h => Or.inr (by cases h; exact ⟨rfl, rfl, rfl, q1359⟩))⟩⟩⟩ else none
      else
       bif Nat.blt pc 14 then
        if h : pc = 13 then some ⟨(.aload_n 0, 14, .inl 0, 0, 0), by subst h; exact ⟨dX9_init_13, rfl, trivial⟩⟩ else none
       else
        if h : pc = 14 then some ⟨(.bipush 6, 16, .inl 6, 0, 0), by subst h; exact ⟨dX9_init_14, rfl, ⟨6, rfl, by decide⟩⟩⟩ else none
    else
     bif Nat.blt pc 25 then
      bif Nat.blt pc 21 then
       bif Nat.blt pc 18 then
        if h : pc = 16 then some ⟨(.newarray .int, 18, .inl 0, 0, 1), by subst h; exact ⟨dX9_init_16, rfl, ⟨q832, rfl, by decide, by decide⟩⟩⟩ else none
       else
        if h : pc = 18 then some ⟨(.putfield 17, 21, .inr (.inr none), 2, 14), by subst h; exact ⟨dX9_init_18, rfl, ⟨⟨_, rfl, by decide, _, Or.inl q1360, Or.inl rfl⟩, (show mKd 14 2 = 6 by rfl), by decide, by decide, (fun q h => Or.inr (by cases h; exact ⟨rfl, rfl, rfl, q1360⟩))⟩⟩⟩ else none
      else
       bif Nat.blt pc 22 then
        if h : pc = 21 then some ⟨(.aload_n 0, 22, .inl 0, 0, 0), by subst h; exact ⟨dX9_init_21, rfl, trivial⟩⟩ else none
       else
        if h : pc = 22 then some ⟨(.sipush 160, 25, .inl 160, 0, 0), by subst h; exact ⟨dX9_init_22, rfl, ⟨160, rfl, by decide⟩⟩⟩ else none
     else
      bif Nat.blt pc 30 then
       bif Nat.blt pc 27 then
        if h : pc = 25 then some ⟨(.newarray .int, 27, .inl 0, 0, 1), by subst h; exact ⟨dX9_init_25, rfl, ⟨q832, rfl, by decide, by decide⟩⟩⟩ else none
       else
        if h : pc = 27 then some ⟨(.putfield 20, 30, .inr (.inr none), 5, 14), by subst h; exact ⟨dX9_init_27, rfl, ⟨⟨_, rfl, by decide, _, Or.inl q1363, Or.inl rfl⟩, (show mKd 14 5 = 6 by rfl), by decide, by decide, (fun q h => Or.inr (by cases h; exact ⟨rfl, rfl, rfl, q1363⟩))⟩⟩⟩ else none
      else
       bif Nat.blt pc 31 then
        if h : pc = 30 then some ⟨(.aload_n 0, 31, .inl 0, 0, 0), by subst h; exact ⟨dX9_init_30, rfl, trivial⟩⟩ else none
       else
        bif Nat.blt pc 33 then
         if h : pc = 31 then some ⟨(.bipush 11, 33, .inl 11, 0, 0), by subst h; exact ⟨dX9_init_31, rfl, ⟨11, rfl, by decide⟩⟩⟩ else none
        else
         if h : pc = 33 then some ⟨(.newarray .int, 35, .inl 0, 0, 1), by subst h; exact ⟨dX9_init_33, rfl, ⟨q832, rfl, by decide, by decide⟩⟩⟩ else none
   else
    bif Nat.blt pc 50 then
     bif Nat.blt pc 43 then
      bif Nat.blt pc 39 then
       bif Nat.blt pc 38 then
        if h : pc = 35 then some ⟨(.putfield 23, 38, .inr (.inr none), 7, 14), by subst h; exact ⟨dX9_init_35, rfl, ⟨⟨_, rfl, by decide, _, Or.inl q1365, Or.inl rfl⟩, (show mKd 14 7 = 6 by rfl), by decide, by decide, (fun q h => Or.inr (by cases h; exact ⟨rfl, rfl, rfl, q1365⟩))⟩⟩⟩ else none
       else
        if h : pc = 38 then some ⟨(.aload_n 0, 39, .inl 0, 0, 0), by subst h; exact ⟨dX9_init_38, rfl, trivial⟩⟩ else none
      else
       bif Nat.blt pc 41 then
        if h : pc = 39 then some ⟨(.bipush 25, 41, .inl 25, 0, 0), by subst h; exact ⟨dX9_init_39, rfl, ⟨25, rfl, by decide⟩⟩⟩ else none
       else
        if h : pc = 41 then some ⟨(.newarray .int, 43, .inl 0, 0, 1), by subst h; exact ⟨dX9_init_41, rfl, ⟨q832, rfl, by decide, by decide⟩⟩⟩ else none
     else
      bif Nat.blt pc 47 then
       bif Nat.blt pc 46 then
        if h : pc = 43 then some ⟨(.putfield 26, 46, .inr (.inr none), 10, 14), by subst h; exact ⟨dX9_init_43, rfl, ⟨⟨_, rfl, by decide, _, Or.inl q1368, Or.inl rfl⟩, (show mKd 14 10 = 6 by rfl), by decide, by decide, (fun q h => Or.inr (by cases h; exact ⟨rfl, rfl, rfl, q1368⟩))⟩⟩⟩ else none
       else
        if h : pc = 46 then some ⟨(.aload_n 0, 47, .inl 0, 0, 0), by subst h; exact ⟨dX9_init_46, rfl, trivial⟩⟩ else none
      else
       bif Nat.blt pc 48 then
        if h : pc = 47 then some ⟨(.iconst 5, 48, .inl 5, 0, 0), by subst h; exact ⟨dX9_init_47, rfl, ⟨5, rfl, by decide⟩⟩⟩ else none
       else
        if h : pc = 48 then some ⟨(.newarray .int, 50, .inl 0, 0, 1), by subst h; exact ⟨dX9_init_48, rfl, ⟨q832, rfl, by decide, by decide⟩⟩⟩ else none
    else
     bif Nat.blt pc 58 then
      bif Nat.blt pc 54 then
       bif Nat.blt pc 53 then
        if h : pc = 50 then some ⟨(.putfield 29, 53, .inr (.inr none), 27, 14), by subst h; exact ⟨dX9_init_50, rfl, ⟨⟨_, rfl, by decide, _, Or.inl q1385, Or.inl rfl⟩, (show mKd 14 27 = 6 by rfl), by decide, by decide, (fun q h => Or.inr (by cases h; exact ⟨rfl, rfl, rfl, q1385⟩))⟩⟩⟩ else none
       else
        if h : pc = 53 then some ⟨(.aload_n 0, 54, .inl 0, 0, 0), by subst h; exact ⟨dX9_init_53, rfl, trivial⟩⟩ else none
      else
       bif Nat.blt pc 56 then
        if h : pc = 54 then some ⟨(.bipush 27, 56, .inl 27, 0, 0), by subst h; exact ⟨dX9_init_54, rfl, ⟨27, rfl, by decide⟩⟩⟩ else none
       else
        if h : pc = 56 then some ⟨(.newarray .int, 58, .inl 0, 0, 1), by subst h; exact ⟨dX9_init_56, rfl, ⟨q832, rfl, by decide, by decide⟩⟩⟩ else none
     else
      bif Nat.blt pc 62 then
       bif Nat.blt pc 61 then
        if h : pc = 58 then some ⟨(.putfield 32, 61, .inr (.inr none), 28, 14), by subst h; exact ⟨dX9_init_58, rfl, ⟨⟨_, rfl, by decide, _, Or.inl q1386, Or.inl rfl⟩, (show mKd 14 28 = 6 by rfl), by decide, by decide, (fun q h => Or.inr (by cases h; exact ⟨rfl, rfl, rfl, q1386⟩))⟩⟩⟩ else none
       else
        if h : pc = 61 then some ⟨(.aload_n 0, 62, .inl 0, 0, 0), by subst h; exact ⟨dX9_init_61, rfl, trivial⟩⟩ else none
      else
       bif Nat.blt pc 64 then
        if h : pc = 62 then some ⟨(.bipush 11, 64, .inl 11, 0, 0), by subst h; exact ⟨dX9_init_62, rfl, ⟨11, rfl, by decide⟩⟩⟩ else none
       else
        bif Nat.blt pc 66 then
         if h : pc = 64 then some ⟨(.newarray .int, 66, .inl 0, 0, 1), by subst h; exact ⟨dX9_init_64, rfl, ⟨q832, rfl, by decide, by decide⟩⟩⟩ else none
        else
         if h : pc = 66 then some ⟨(.putfield 35, 69, .inr (.inr none), 29, 14), by subst h; exact ⟨dX9_init_66, rfl, ⟨⟨_, rfl, by decide, _, Or.inl q1387, Or.inl rfl⟩, (show mKd 14 29 = 6 by rfl), by decide, by decide, (fun q h => Or.inr (by cases h; exact ⟨rfl, rfl, rfl, q1387⟩))⟩⟩⟩ else none
  else
   bif Nat.blt pc 98 then
    bif Nat.blt pc 83 then
     bif Nat.blt pc 77 then
      bif Nat.blt pc 72 then
       bif Nat.blt pc 70 then
        if h : pc = 69 then some ⟨(.aload_n 0, 70, .inl 0, 0, 0), by subst h; exact ⟨dX9_init_69, rfl, trivial⟩⟩ else none
       else
        if h : pc = 70 then some ⟨(.bipush 25, 72, .inl 25, 0, 0), by subst h; exact ⟨dX9_init_70, rfl, ⟨25, rfl, by decide⟩⟩⟩ else none
      else
       bif Nat.blt pc 74 then
        if h : pc = 72 then some ⟨(.newarray .int, 74, .inl 0, 0, 1), by subst h; exact ⟨dX9_init_72, rfl, ⟨q832, rfl, by decide, by decide⟩⟩⟩ else none
       else
        if h : pc = 74 then some ⟨(.putfield 38, 77, .inr (.inr none), 30, 14), by subst h; exact ⟨dX9_init_74, rfl, ⟨⟨_, rfl, by decide, _, Or.inl q1388, Or.inl rfl⟩, (show mKd 14 30 = 6 by rfl), by decide, by decide, (fun q h => Or.inr (by cases h; exact ⟨rfl, rfl, rfl, q1388⟩))⟩⟩⟩ else none
     else
      bif Nat.blt pc 79 then
       bif Nat.blt pc 78 then
        if h : pc = 77 then some ⟨(.aload_n 0, 78, .inl 0, 0, 0), by subst h; exact ⟨dX9_init_77, rfl, trivial⟩⟩ else none
       else
        if h : pc = 78 then some ⟨(.iconst (-1), 79, .inl (-1), 0, 0), by subst h; exact ⟨dX9_init_78, rfl, ⟨(-1), rfl, by decide⟩⟩⟩ else none
      else
       bif Nat.blt pc 82 then
        if h : pc = 79 then some ⟨(.putfield 41, 82, .inl 0, 31, 14), by subst h; exact ⟨dX9_init_79, rfl, ⟨⟨_, rfl, by decide, _, Or.inl q1389, Or.inl rfl⟩, (show mKd 14 31 ≤ 4 by decide), by decide, by decide, (fun q h => Or.inl (by cases h; rfl))⟩⟩⟩ else none
       else
        if h : pc = 82 then some ⟨(.aload_n 0, 83, .inl 0, 0, 0), by subst h; exact ⟨dX9_init_82, rfl, trivial⟩⟩ else none
    else
     bif Nat.blt pc 90 then
      bif Nat.blt pc 86 then
       bif Nat.blt pc 84 then
        if h : pc = 83 then some ⟨(.iconst 4, 84, .inl 4, 0, 0), by subst h; exact ⟨dX9_init_83, rfl, ⟨4, rfl, by decide⟩⟩⟩ else none
       else
        if h : pc = 84 then some ⟨(.newarray .boolean, 86, .inl 0, 3, 1), by subst h; exact ⟨dX9_init_84, rfl, ⟨q1476, rfl, by decide, by decide⟩⟩⟩ else none
      else
       bif Nat.blt pc 89 then
        if h : pc = 86 then some ⟨(.putfield 44, 89, .inr (.inr none), 35, 14), by subst h; exact ⟨dX9_init_86, rfl, ⟨⟨_, rfl, by decide, _, Or.inl q1393, Or.inl rfl⟩, (show mKd 14 35 = 6 by rfl), by decide, by decide, (fun q h => Or.inr (by cases h; exact ⟨rfl, rfl, rfl, q1393⟩))⟩⟩⟩ else none
       else
        if h : pc = 89 then some ⟨(.aload_n 0, 90, .inl 0, 0, 0), by subst h; exact ⟨dX9_init_89, rfl, trivial⟩⟩ else none
     else
      bif Nat.blt pc 93 then
       bif Nat.blt pc 91 then
        if h : pc = 90 then some ⟨(.iconst 4, 91, .inl 4, 0, 0), by subst h; exact ⟨dX9_init_90, rfl, ⟨4, rfl, by decide⟩⟩⟩ else none
       else
        if h : pc = 91 then some ⟨(.newarray .int, 93, .inl 0, 0, 1), by subst h; exact ⟨dX9_init_91, rfl, ⟨q832, rfl, by decide, by decide⟩⟩⟩ else none
      else
       bif Nat.blt pc 96 then
        if h : pc = 93 then some ⟨(.putfield 48, 96, .inr (.inr none), 36, 14), by subst h; exact ⟨dX9_init_93, rfl, ⟨⟨_, rfl, by decide, _, Or.inl q1394, Or.inl rfl⟩, (show mKd 14 36 = 6 by rfl), by decide, by decide, (fun q h => Or.inr (by cases h; exact ⟨rfl, rfl, rfl, q1394⟩))⟩⟩⟩ else none
       else
        bif Nat.blt pc 97 then
         if h : pc = 96 then some ⟨(.aload_n 0, 97, .inl 0, 0, 0), by subst h; exact ⟨dX9_init_96, rfl, trivial⟩⟩ else none
        else
         if h : pc = 97 then some ⟨(.iconst 4, 98, .inl 4, 0, 0), by subst h; exact ⟨dX9_init_97, rfl, ⟨4, rfl, by decide⟩⟩⟩ else none
   else
    bif Nat.blt pc 114 then
     bif Nat.blt pc 107 then
      bif Nat.blt pc 103 then
       bif Nat.blt pc 100 then
        if h : pc = 98 then some ⟨(.newarray .int, 100, .inl 0, 0, 1), by subst h; exact ⟨dX9_init_98, rfl, ⟨q832, rfl, by decide, by decide⟩⟩⟩ else none
       else
        if h : pc = 100 then some ⟨(.putfield 51, 103, .inr (.inr none), 37, 14), by subst h; exact ⟨dX9_init_100, rfl, ⟨⟨_, rfl, by decide, _, Or.inl q1395, Or.inl rfl⟩, (show mKd 14 37 = 6 by rfl), by decide, by decide, (fun q h => Or.inr (by cases h; exact ⟨rfl, rfl, rfl, q1395⟩))⟩⟩⟩ else none
      else
       bif Nat.blt pc 104 then
        if h : pc = 103 then some ⟨(.aload_n 0, 104, .inl 0, 0, 0), by subst h; exact ⟨dX9_init_103, rfl, trivial⟩⟩ else none
       else
        if h : pc = 104 then some ⟨(.sipush 160, 107, .inl 160, 0, 0), by subst h; exact ⟨dX9_init_104, rfl, ⟨160, rfl, by decide⟩⟩⟩ else none
     else
      bif Nat.blt pc 112 then
       bif Nat.blt pc 109 then
        if h : pc = 107 then some ⟨(.newarray .int, 109, .inl 0, 0, 1), by subst h; exact ⟨dX9_init_107, rfl, ⟨q832, rfl, by decide, by decide⟩⟩⟩ else none
       else
        if h : pc = 109 then some ⟨(.putfield 54, 112, .inr (.inr none), 38, 14), by subst h; exact ⟨dX9_init_109, rfl, ⟨⟨_, rfl, by decide, _, Or.inl q1396, Or.inl rfl⟩, (show mKd 14 38 = 6 by rfl), by decide, by decide, (fun q h => Or.inr (by cases h; exact ⟨rfl, rfl, rfl, q1396⟩))⟩⟩⟩ else none
      else
       bif Nat.blt pc 113 then
        if h : pc = 112 then some ⟨(.iconst 0, 113, .inl 0, 0, 0), by subst h; exact ⟨dX9_init_112, rfl, ⟨0, rfl, by decide⟩⟩⟩ else none
       else
        if h : pc = 113 then some ⟨(.istore_n 1, 114, .inl 0, 0, 0), by subst h; exact ⟨dX9_init_113, rfl, (show (1 : Nat) < 2 by decide)⟩⟩ else none
    else
     bif Nat.blt pc 121 then
      bif Nat.blt pc 117 then
       bif Nat.blt pc 115 then
        if h : pc = 114 then some ⟨(.iload_n 1, 115, .inl 0, 0, 0), by subst h; exact ⟨dX9_init_114, rfl, trivial⟩⟩ else none
       else
        if h : pc = 115 then some ⟨(.bipush 10, 117, .inl 10, 0, 0), by subst h; exact ⟨dX9_init_115, rfl, ⟨10, rfl, by decide⟩⟩⟩ else none
      else
       bif Nat.blt pc 120 then
        if h : pc = 117 then some ⟨(.if_icmp .ge 20, 120, .inl 0, 137, 0), by subst h; exact ⟨dX9_init_117, rfl, (show ((117 : Nat) : Int) + (20) = ((137 : Nat) : Int) by decide)⟩⟩ else none
       else
        if h : pc = 120 then some ⟨(.aload_n 0, 121, .inl 0, 0, 0), by subst h; exact ⟨dX9_init_120, rfl, trivial⟩⟩ else none
     else
      bif Nat.blt pc 125 then
       bif Nat.blt pc 124 then
        if h : pc = 121 then some ⟨(.getfield 23, 124, .inr (.inr none), 7, 14), by subst h; exact ⟨dX9_init_121, rfl, ⟨⟨_, rfl, by decide, _, Or.inl q1365, Or.inl rfl⟩, (show mKd 14 7 = 6 by rfl)⟩⟩⟩ else none
       else
        if h : pc = 124 then some ⟨(.iload_n 1, 125, .inl 0, 0, 0), by subst h; exact ⟨dX9_init_124, rfl, trivial⟩⟩ else none
      else
       bif Nat.blt pc 126 then
        if h : pc = 125 then some ⟨(.iconst 5, 126, .inl 5, 0, 0), by subst h; exact ⟨dX9_init_125, rfl, ⟨5, rfl, by decide⟩⟩⟩ else none
       else
        bif Nat.blt pc 127 then
         if h : pc = 126 then some ⟨(.iload_n 1, 127, .inl 0, 0, 0), by subst h; exact ⟨dX9_init_126, rfl, trivial⟩⟩ else none
        else
         if h : pc = 127 then some ⟨(.iconst 1, 128, .inl 1, 0, 0), by subst h; exact ⟨dX9_init_127, rfl, ⟨1, rfl, by decide⟩⟩⟩ else none
 else
  bif Nat.blt pc 193 then
   bif Nat.blt pc 159 then
    bif Nat.blt pc 141 then
     bif Nat.blt pc 134 then
      bif Nat.blt pc 130 then
       bif Nat.blt pc 129 then
        if h : pc = 128 then some ⟨(.iadd, 129, .inl 0, 0, 0), by subst h; exact ⟨dX9_init_128, rfl, trivial⟩⟩ else none
       else
        if h : pc = 129 then some ⟨(.imul, 130, .inl 0, 0, 0), by subst h; exact ⟨dX9_init_129, rfl, trivial⟩⟩ else none
      else
       bif Nat.blt pc 131 then
        if h : pc = 130 then some ⟨(.iastore, 131, .inl 0, 0, 0), by subst h; exact ⟨dX9_init_130, rfl, trivial⟩⟩ else none
       else
        if h : pc = 131 then some ⟨(.iinc 1 1, 134, .inl 1, 0, 0), by subst h; exact ⟨dX9_init_131, rfl, ⟨(show (1 : Nat) < 2 by decide), 1, rfl, by decide⟩⟩⟩ else none
     else
      bif Nat.blt pc 138 then
       bif Nat.blt pc 137 then
        if h : pc = 134 then some ⟨(.goto (-20), 137, .inl 0, 114, 0), by subst h; exact ⟨dX9_init_134, rfl, (show ((134 : Nat) : Int) + ((-20)) = ((114 : Nat) : Int) by decide)⟩⟩ else none
       else
        if h : pc = 137 then some ⟨(.aload_n 0, 138, .inl 0, 0, 0), by subst h; exact ⟨dX9_init_137, rfl, trivial⟩⟩ else none
      else
       bif Nat.blt pc 139 then
        if h : pc = 138 then some ⟨(.iconst 0, 139, .inl 0, 0, 0), by subst h; exact ⟨dX9_init_138, rfl, ⟨0, rfl, by decide⟩⟩⟩ else none
       else
        if h : pc = 139 then some ⟨(.bipush 102, 141, .inl 102, 0, 0), by subst h; exact ⟨dX9_init_139, rfl, ⟨102, rfl, by decide⟩⟩⟩ else none
    else
     bif Nat.blt pc 149 then
      bif Nat.blt pc 145 then
       bif Nat.blt pc 143 then
        if h : pc = 141 then some ⟨(.bipush 101, 143, .inl 101, 0, 0), by subst h; exact ⟨dX9_init_141, rfl, ⟨101, rfl, by decide⟩⟩⟩ else none
       else
        if h : pc = 143 then some ⟨(.bipush 101, 145, .inl 101, 0, 0), by subst h; exact ⟨dX9_init_143, rfl, ⟨101, rfl, by decide⟩⟩⟩ else none
      else
       bif Nat.blt pc 147 then
        if h : pc = 145 then some ⟨(.bipush 108, 147, .inl 108, 0, 0), by subst h; exact ⟨dX9_init_145, rfl, ⟨108, rfl, by decide⟩⟩⟩ else none
       else
        if h : pc = 147 then some ⟨(.bipush 115, 149, .inl 115, 0, 0), by subst h; exact ⟨dX9_init_147, rfl, ⟨115, rfl, by decide⟩⟩⟩ else none
     else
      bif Nat.blt pc 153 then
       bif Nat.blt pc 151 then
        if h : pc = 149 then some ⟨(.bipush 32, 151, .inl 32, 0, 0), by subst h; exact ⟨dX9_init_149, rfl, ⟨32, rfl, by decide⟩⟩⟩ else none
       else
        if h : pc = 151 then some ⟨(.bipush 49, 153, .inl 49, 0, 0), by subst h; exact ⟨dX9_init_151, rfl, ⟨49, rfl, by decide⟩⟩⟩ else none
      else
       bif Nat.blt pc 155 then
        if h : pc = 153 then some ⟨(.bipush 48, 155, .inl 48, 0, 0), by subst h; exact ⟨dX9_init_153, rfl, ⟨48, rfl, by decide⟩⟩⟩ else none
       else
        bif Nat.blt pc 158 then
         if h : pc = 155 then some ⟨(.invokevirtual 57, 158, .inl 0, 1, 14), by subst h; exact ⟨dX9_init_155, rfl, ⟨by decide, q1355, q1357, qs57, _, rfl, rfl⟩⟩⟩ else none
        else
         if h : pc = 158 then some ⟨(.aload_n 0, 159, .inl 0, 0, 0), by subst h; exact ⟨dX9_init_158, rfl, trivial⟩⟩ else none
   else
    bif Nat.blt pc 175 then
     bif Nat.blt pc 167 then
      bif Nat.blt pc 163 then
       bif Nat.blt pc 161 then
        if h : pc = 159 then some ⟨(.bipush 8, 161, .inl 8, 0, 0), by subst h; exact ⟨dX9_init_159, rfl, ⟨8, rfl, by decide⟩⟩⟩ else none
       else
        if h : pc = 161 then some ⟨(.bipush 32, 163, .inl 32, 0, 0), by subst h; exact ⟨dX9_init_161, rfl, ⟨32, rfl, by decide⟩⟩⟩ else none
      else
       bif Nat.blt pc 165 then
        if h : pc = 163 then some ⟨(.bipush 59, 165, .inl 59, 0, 0), by subst h; exact ⟨dX9_init_163, rfl, ⟨59, rfl, by decide⟩⟩⟩ else none
       else
        if h : pc = 165 then some ⟨(.bipush 32, 167, .inl 32, 0, 0), by subst h; exact ⟨dX9_init_165, rfl, ⟨32, rfl, by decide⟩⟩⟩ else none
     else
      bif Nat.blt pc 171 then
       bif Nat.blt pc 169 then
        if h : pc = 167 then some ⟨(.bipush 115, 169, .inl 115, 0, 0), by subst h; exact ⟨dX9_init_167, rfl, ⟨115, rfl, by decide⟩⟩⟩ else none
       else
        if h : pc = 169 then some ⟨(.bipush 116, 171, .inl 116, 0, 0), by subst h; exact ⟨dX9_init_169, rfl, ⟨116, rfl, by decide⟩⟩⟩ else none
      else
       bif Nat.blt pc 173 then
        if h : pc = 171 then some ⟨(.bipush 114, 173, .inl 114, 0, 0), by subst h; exact ⟨dX9_init_171, rfl, ⟨114, rfl, by decide⟩⟩⟩ else none
       else
        if h : pc = 173 then some ⟨(.bipush 111, 175, .inl 111, 0, 0), by subst h; exact ⟨dX9_init_173, rfl, ⟨111, rfl, by decide⟩⟩⟩ else none
    else
     bif Nat.blt pc 183 then
      bif Nat.blt pc 180 then
       bif Nat.blt pc 177 then
        if h : pc = 175 then some ⟨(.bipush 110, 177, .inl 110, 0, 0), by subst h; exact ⟨dX9_init_175, rfl, ⟨110, rfl, by decide⟩⟩⟩ else none
       else
        if h : pc = 177 then some ⟨(.invokevirtual 57, 180, .inl 0, 1, 14), by subst h; exact ⟨dX9_init_177, rfl, ⟨by decide, q1355, q1357, qs57, _, rfl, rfl⟩⟩⟩ else none
      else
       bif Nat.blt pc 181 then
        if h : pc = 180 then some ⟨(.aload_n 0, 181, .inl 0, 0, 0), by subst h; exact ⟨dX9_init_180, rfl, trivial⟩⟩ else none
       else
        if h : pc = 181 then some ⟨(.bipush 16, 183, .inl 16, 0, 0), by subst h; exact ⟨dX9_init_181, rfl, ⟨16, rfl, by decide⟩⟩⟩ else none
     else
      bif Nat.blt pc 187 then
       bif Nat.blt pc 185 then
        if h : pc = 183 then some ⟨(.bipush 103, 185, .inl 103, 0, 0), by subst h; exact ⟨dX9_init_183, rfl, ⟨103, rfl, by decide⟩⟩⟩ else none
       else
        if h : pc = 185 then some ⟨(.bipush 32, 187, .inl 32, 0, 0), by subst h; exact ⟨dX9_init_185, rfl, ⟨32, rfl, by decide⟩⟩⟩ else none
      else
       bif Nat.blt pc 189 then
        if h : pc = 187 then some ⟨(.bipush 97, 189, .inl 97, 0, 0), by subst h; exact ⟨dX9_init_187, rfl, ⟨97, rfl, by decide⟩⟩⟩ else none
       else
        bif Nat.blt pc 191 then
         if h : pc = 189 then some ⟨(.bipush 103, 191, .inl 103, 0, 0), by subst h; exact ⟨dX9_init_189, rfl, ⟨103, rfl, by decide⟩⟩⟩ else none
        else
         if h : pc = 191 then some ⟨(.bipush 101, 193, .inl 101, 0, 0), by subst h; exact ⟨dX9_init_191, rfl, ⟨101, rfl, by decide⟩⟩⟩ else none
  else
   bif Nat.blt pc 227 then
    bif Nat.blt pc 209 then
     bif Nat.blt pc 202 then
      bif Nat.blt pc 197 then
       bif Nat.blt pc 195 then
        if h : pc = 193 then some ⟨(.bipush 32, 195, .inl 32, 0, 0), by subst h; exact ⟨dX9_init_193, rfl, ⟨32, rfl, by decide⟩⟩⟩ else none
       else
        if h : pc = 195 then some ⟨(.bipush 59, 197, .inl 59, 0, 0), by subst h; exact ⟨dX9_init_195, rfl, ⟨59, rfl, by decide⟩⟩⟩ else none
      else
       bif Nat.blt pc 199 then
        if h : pc = 197 then some ⟨(.bipush 32, 199, .inl 32, 0, 0), by subst h; exact ⟨dX9_init_197, rfl, ⟨32, rfl, by decide⟩⟩⟩ else none
       else
        if h : pc = 199 then some ⟨(.invokevirtual 57, 202, .inl 0, 1, 14), by subst h; exact ⟨dX9_init_199, rfl, ⟨by decide, q1355, q1357, qs57, _, rfl, rfl⟩⟩⟩ else none
     else
      bif Nat.blt pc 205 then
       bif Nat.blt pc 203 then
        if h : pc = 202 then some ⟨(.aload_n 0, 203, .inl 0, 0, 0), by subst h; exact ⟨dX9_init_202, rfl, trivial⟩⟩ else none
       else
        if h : pc = 203 then some ⟨(.bipush 24, 205, .inl 24, 0, 0), by subst h; exact ⟨dX9_init_203, rfl, ⟨24, rfl, by decide⟩⟩⟩ else none
      else
       bif Nat.blt pc 207 then
        if h : pc = 205 then some ⟨(.bipush 101, 207, .inl 101, 0, 0), by subst h; exact ⟨dX9_init_205, rfl, ⟨101, rfl, by decide⟩⟩⟩ else none
       else
        if h : pc = 207 then some ⟨(.bipush 97, 209, .inl 97, 0, 0), by subst h; exact ⟨dX9_init_207, rfl, ⟨97, rfl, by decide⟩⟩⟩ else none
    else
     bif Nat.blt pc 217 then
      bif Nat.blt pc 213 then
       bif Nat.blt pc 211 then
        if h : pc = 209 then some ⟨(.bipush 115, 211, .inl 115, 0, 0), by subst h; exact ⟨dX9_init_209, rfl, ⟨115, rfl, by decide⟩⟩⟩ else none
       else
        if h : pc = 211 then some ⟨(.bipush 101, 213, .inl 101, 0, 0), by subst h; exact ⟨dX9_init_211, rfl, ⟨101, rfl, by decide⟩⟩⟩ else none
      else
       bif Nat.blt pc 215 then
        if h : pc = 213 then some ⟨(.bipush 115, 215, .inl 115, 0, 0), by subst h; exact ⟨dX9_init_213, rfl, ⟨115, rfl, by decide⟩⟩⟩ else none
       else
        if h : pc = 215 then some ⟨(.bipush 32, 217, .inl 32, 0, 0), by subst h; exact ⟨dX9_init_215, rfl, ⟨32, rfl, by decide⟩⟩⟩ else none
     else
      bif Nat.blt pc 221 then
       bif Nat.blt pc 219 then
        if h : pc = 217 then some ⟨(.bipush 49, 219, .inl 49, 0, 0), by subst h; exact ⟨dX9_init_217, rfl, ⟨49, rfl, by decide⟩⟩⟩ else none
       else
        if h : pc = 219 then some ⟨(.bipush 32, 221, .inl 32, 0, 0), by subst h; exact ⟨dX9_init_219, rfl, ⟨32, rfl, by decide⟩⟩⟩ else none
      else
       bif Nat.blt pc 224 then
        if h : pc = 221 then some ⟨(.invokevirtual 57, 224, .inl 0, 1, 14), by subst h; exact ⟨dX9_init_221, rfl, ⟨by decide, q1355, q1357, qs57, _, rfl, rfl⟩⟩⟩ else none
       else
        bif Nat.blt pc 225 then
         if h : pc = 224 then some ⟨(.aload_n 0, 225, .inl 0, 0, 0), by subst h; exact ⟨dX9_init_224, rfl, trivial⟩⟩ else none
        else
         if h : pc = 225 then some ⟨(.bipush 32, 227, .inl 32, 0, 0), by subst h; exact ⟨dX9_init_225, rfl, ⟨32, rfl, by decide⟩⟩⟩ else none
   else
    bif Nat.blt pc 246 then
     bif Nat.blt pc 235 then
      bif Nat.blt pc 231 then
       bif Nat.blt pc 229 then
        if h : pc = 227 then some ⟨(.bipush 59, 229, .inl 59, 0, 0), by subst h; exact ⟨dX9_init_227, rfl, ⟨59, rfl, by decide⟩⟩⟩ else none
       else
        if h : pc = 229 then some ⟨(.bipush 32, 231, .inl 32, 0, 0), by subst h; exact ⟨dX9_init_229, rfl, ⟨32, rfl, by decide⟩⟩⟩ else none
      else
       bif Nat.blt pc 233 then
        if h : pc = 231 then some ⟨(.bipush 32, 233, .inl 32, 0, 0), by subst h; exact ⟨dX9_init_231, rfl, ⟨32, rfl, by decide⟩⟩⟩ else none
       else
        if h : pc = 233 then some ⟨(.bipush 32, 235, .inl 32, 0, 0), by subst h; exact ⟨dX9_init_233, rfl, ⟨32, rfl, by decide⟩⟩⟩ else none
     else
      bif Nat.blt pc 239 then
       bif Nat.blt pc 237 then
        if h : pc = 235 then some ⟨(.bipush 32, 237, .inl 32, 0, 0), by subst h; exact ⟨dX9_init_235, rfl, ⟨32, rfl, by decide⟩⟩⟩ else none
       else
        if h : pc = 237 then some ⟨(.bipush 32, 239, .inl 32, 0, 0), by subst h; exact ⟨dX9_init_237, rfl, ⟨32, rfl, by decide⟩⟩⟩ else none
      else
       bif Nat.blt pc 241 then
        if h : pc = 239 then some ⟨(.bipush 32, 241, .inl 32, 0, 0), by subst h; exact ⟨dX9_init_239, rfl, ⟨32, rfl, by decide⟩⟩⟩ else none
       else
        bif Nat.blt pc 243 then
         if h : pc = 241 then some ⟨(.bipush 32, 243, .inl 32, 0, 0), by subst h; exact ⟨dX9_init_241, rfl, ⟨32, rfl, by decide⟩⟩⟩ else none
        else
         if h : pc = 243 then some ⟨(.invokevirtual 57, 246, .inl 0, 1, 14), by subst h; exact ⟨dX9_init_243, rfl, ⟨by decide, q1355, q1357, qs57, _, rfl, rfl⟩⟩⟩ else none
    else
     bif Nat.blt pc 253 then
      bif Nat.blt pc 250 then
       bif Nat.blt pc 247 then
        if h : pc = 246 then some ⟨(.aload_n 0, 247, .inl 0, 0, 0), by subst h; exact ⟨dX9_init_246, rfl, trivial⟩⟩ else none
       else
        if h : pc = 247 then some ⟨(.getfield 17, 250, .inr (.inr none), 2, 14), by subst h; exact ⟨dX9_init_247, rfl, ⟨⟨_, rfl, by decide, _, Or.inl q1360, Or.inl rfl⟩, (show mKd 14 2 = 6 by rfl)⟩⟩⟩ else none
      else
       bif Nat.blt pc 251 then
        if h : pc = 250 then some ⟨(.iconst 0, 251, .inl 0, 0, 0), by subst h; exact ⟨dX9_init_250, rfl, ⟨0, rfl, by decide⟩⟩⟩ else none
       else
        if h : pc = 251 then some ⟨(.bipush 40, 253, .inl 40, 0, 0), by subst h; exact ⟨dX9_init_251, rfl, ⟨40, rfl, by decide⟩⟩⟩ else none
     else
      bif Nat.blt pc 255 then
       bif Nat.blt pc 254 then
        if h : pc = 253 then some ⟨(.iastore, 254, .inl 0, 0, 0), by subst h; exact ⟨dX9_init_253, rfl, trivial⟩⟩ else none
       else
        if h : pc = 254 then some ⟨(.aload_n 0, 255, .inl 0, 0, 0), by subst h; exact ⟨dX9_init_254, rfl, trivial⟩⟩ else none
      else
       bif Nat.blt pc 256 then
        if h : pc = 255 then some ⟨(.iconst 1, 256, .inl 1, 0, 0), by subst h; exact ⟨dX9_init_255, rfl, ⟨1, rfl, by decide⟩⟩⟩ else none
       else
        bif Nat.blt pc 259 then
         if h : pc = 256 then some ⟨(.putfield 61, 259, .inl 0, 3, 14), by subst h; exact ⟨dX9_init_256, rfl, ⟨⟨_, rfl, by decide, _, Or.inl q1361, Or.inl rfl⟩, (show mKd 14 3 ≤ 4 by decide), by decide, by decide, (fun q h => Or.inl (by cases h; rfl))⟩⟩⟩ else none
        else
         if h : pc = 259 then some ⟨(.return_, 260, .inl 0, 0, 0), by subst h; exact ⟨dX9_init_259, rfl, rfl⟩⟩ else none

noncomputable def mt1 (pc : Nat) : Option {e : mE // mOK yX9_spell cX9_spell 10 ((Option.none : Option ClassFile.FieldType)) pc e} :=
 bif Nat.blt pc 37 then
  bif Nat.blt pc 17 then
   bif Nat.blt pc 8 then
    bif Nat.blt pc 5 then
     bif Nat.blt pc 1 then
      if h : pc = 0 then some ⟨(.aload_n 0, 1, .inl 0, 0, 0), by subst h; exact ⟨dX9_spell_0, rfl, trivial⟩⟩ else none
     else
      bif Nat.blt pc 4 then
       if h : pc = 1 then some ⟨(.getfield 13, 4, .inr (.inr none), 1, 14), by subst h; exact ⟨dX9_spell_1, rfl, ⟨⟨_, rfl, by decide, _, Or.inl q1359, Or.inl rfl⟩, (show mKd 14 1 = 6 by rfl)⟩⟩⟩ else none
      else
       if h : pc = 4 then some ⟨(.iload_n 1, 5, .inl 0, 0, 0), by subst h; exact ⟨dX9_spell_4, rfl, trivial⟩⟩ else none
    else
     bif Nat.blt pc 6 then
      if h : pc = 5 then some ⟨(.iload_n 2, 6, .inl 0, 0, 0), by subst h; exact ⟨dX9_spell_5, rfl, trivial⟩⟩ else none
     else
      bif Nat.blt pc 7 then
       if h : pc = 6 then some ⟨(.iastore, 7, .inl 0, 0, 0), by subst h; exact ⟨dX9_spell_6, rfl, trivial⟩⟩ else none
      else
       if h : pc = 7 then some ⟨(.aload_n 0, 8, .inl 0, 0, 0), by subst h; exact ⟨dX9_spell_7, rfl, trivial⟩⟩ else none
   else
    bif Nat.blt pc 13 then
     bif Nat.blt pc 11 then
      if h : pc = 8 then some ⟨(.getfield 13, 11, .inr (.inr none), 1, 14), by subst h; exact ⟨dX9_spell_8, rfl, ⟨⟨_, rfl, by decide, _, Or.inl q1359, Or.inl rfl⟩, (show mKd 14 1 = 6 by rfl)⟩⟩⟩ else none
     else
      bif Nat.blt pc 12 then
       if h : pc = 11 then some ⟨(.iload_n 1, 12, .inl 0, 0, 0), by subst h; exact ⟨dX9_spell_11, rfl, trivial⟩⟩ else none
      else
       if h : pc = 12 then some ⟨(.iconst 1, 13, .inl 1, 0, 0), by subst h; exact ⟨dX9_spell_12, rfl, ⟨1, rfl, by decide⟩⟩⟩ else none
    else
     bif Nat.blt pc 15 then
      bif Nat.blt pc 14 then
       if h : pc = 13 then some ⟨(.iadd, 14, .inl 0, 0, 0), by subst h; exact ⟨dX9_spell_13, rfl, trivial⟩⟩ else none
      else
       if h : pc = 14 then some ⟨(.iload_n 3, 15, .inl 0, 0, 0), by subst h; exact ⟨dX9_spell_14, rfl, trivial⟩⟩ else none
     else
      bif Nat.blt pc 16 then
       if h : pc = 15 then some ⟨(.iastore, 16, .inl 0, 0, 0), by subst h; exact ⟨dX9_spell_15, rfl, trivial⟩⟩ else none
      else
       if h : pc = 16 then some ⟨(.aload_n 0, 17, .inl 0, 0, 0), by subst h; exact ⟨dX9_spell_16, rfl, trivial⟩⟩ else none
  else
   bif Nat.blt pc 27 then
    bif Nat.blt pc 22 then
     bif Nat.blt pc 20 then
      if h : pc = 17 then some ⟨(.getfield 13, 20, .inr (.inr none), 1, 14), by subst h; exact ⟨dX9_spell_17, rfl, ⟨⟨_, rfl, by decide, _, Or.inl q1359, Or.inl rfl⟩, (show mKd 14 1 = 6 by rfl)⟩⟩⟩ else none
     else
      bif Nat.blt pc 21 then
       if h : pc = 20 then some ⟨(.iload_n 1, 21, .inl 0, 0, 0), by subst h; exact ⟨dX9_spell_20, rfl, trivial⟩⟩ else none
      else
       if h : pc = 21 then some ⟨(.iconst 2, 22, .inl 2, 0, 0), by subst h; exact ⟨dX9_spell_21, rfl, ⟨2, rfl, by decide⟩⟩⟩ else none
    else
     bif Nat.blt pc 25 then
      bif Nat.blt pc 23 then
       if h : pc = 22 then some ⟨(.iadd, 23, .inl 0, 0, 0), by subst h; exact ⟨dX9_spell_22, rfl, trivial⟩⟩ else none
      else
       if h : pc = 23 then some ⟨(.iload 4, 25, .inl 0, 0, 0), by subst h; exact ⟨dX9_spell_23, rfl, trivial⟩⟩ else none
     else
      bif Nat.blt pc 26 then
       if h : pc = 25 then some ⟨(.iastore, 26, .inl 0, 0, 0), by subst h; exact ⟨dX9_spell_25, rfl, trivial⟩⟩ else none
      else
       if h : pc = 26 then some ⟨(.aload_n 0, 27, .inl 0, 0, 0), by subst h; exact ⟨dX9_spell_26, rfl, trivial⟩⟩ else none
   else
    bif Nat.blt pc 32 then
     bif Nat.blt pc 30 then
      if h : pc = 27 then some ⟨(.getfield 13, 30, .inr (.inr none), 1, 14), by subst h; exact ⟨dX9_spell_27, rfl, ⟨⟨_, rfl, by decide, _, Or.inl q1359, Or.inl rfl⟩, (show mKd 14 1 = 6 by rfl)⟩⟩⟩ else none
     else
      bif Nat.blt pc 31 then
       if h : pc = 30 then some ⟨(.iload_n 1, 31, .inl 0, 0, 0), by subst h; exact ⟨dX9_spell_30, rfl, trivial⟩⟩ else none
      else
       if h : pc = 31 then some ⟨(.iconst 3, 32, .inl 3, 0, 0), by subst h; exact ⟨dX9_spell_31, rfl, ⟨3, rfl, by decide⟩⟩⟩ else none
    else
     bif Nat.blt pc 35 then
      bif Nat.blt pc 33 then
       if h : pc = 32 then some ⟨(.iadd, 33, .inl 0, 0, 0), by subst h; exact ⟨dX9_spell_32, rfl, trivial⟩⟩ else none
      else
       if h : pc = 33 then some ⟨(.iload 5, 35, .inl 0, 0, 0), by subst h; exact ⟨dX9_spell_33, rfl, trivial⟩⟩ else none
     else
      bif Nat.blt pc 36 then
       if h : pc = 35 then some ⟨(.iastore, 36, .inl 0, 0, 0), by subst h; exact ⟨dX9_spell_35, rfl, trivial⟩⟩ else none
      else
       if h : pc = 36 then some ⟨(.aload_n 0, 37, .inl 0, 0, 0), by subst h; exact ⟨dX9_spell_36, rfl, trivial⟩⟩ else none
 else
  bif Nat.blt pc 57 then
   bif Nat.blt pc 47 then
    bif Nat.blt pc 42 then
     bif Nat.blt pc 40 then
      if h : pc = 37 then some ⟨(.getfield 13, 40, .inr (.inr none), 1, 14), by subst h; exact ⟨dX9_spell_37, rfl, ⟨⟨_, rfl, by decide, _, Or.inl q1359, Or.inl rfl⟩, (show mKd 14 1 = 6 by rfl)⟩⟩⟩ else none
     else
      bif Nat.blt pc 41 then
       if h : pc = 40 then some ⟨(.iload_n 1, 41, .inl 0, 0, 0), by subst h; exact ⟨dX9_spell_40, rfl, trivial⟩⟩ else none
      else
       if h : pc = 41 then some ⟨(.iconst 4, 42, .inl 4, 0, 0), by subst h; exact ⟨dX9_spell_41, rfl, ⟨4, rfl, by decide⟩⟩⟩ else none
    else
     bif Nat.blt pc 45 then
      bif Nat.blt pc 43 then
       if h : pc = 42 then some ⟨(.iadd, 43, .inl 0, 0, 0), by subst h; exact ⟨dX9_spell_42, rfl, trivial⟩⟩ else none
      else
       if h : pc = 43 then some ⟨(.iload 6, 45, .inl 0, 0, 0), by subst h; exact ⟨dX9_spell_43, rfl, trivial⟩⟩ else none
     else
      bif Nat.blt pc 46 then
       if h : pc = 45 then some ⟨(.iastore, 46, .inl 0, 0, 0), by subst h; exact ⟨dX9_spell_45, rfl, trivial⟩⟩ else none
      else
       if h : pc = 46 then some ⟨(.aload_n 0, 47, .inl 0, 0, 0), by subst h; exact ⟨dX9_spell_46, rfl, trivial⟩⟩ else none
   else
    bif Nat.blt pc 52 then
     bif Nat.blt pc 50 then
      if h : pc = 47 then some ⟨(.getfield 13, 50, .inr (.inr none), 1, 14), by subst h; exact ⟨dX9_spell_47, rfl, ⟨⟨_, rfl, by decide, _, Or.inl q1359, Or.inl rfl⟩, (show mKd 14 1 = 6 by rfl)⟩⟩⟩ else none
     else
      bif Nat.blt pc 51 then
       if h : pc = 50 then some ⟨(.iload_n 1, 51, .inl 0, 0, 0), by subst h; exact ⟨dX9_spell_50, rfl, trivial⟩⟩ else none
      else
       if h : pc = 51 then some ⟨(.iconst 5, 52, .inl 5, 0, 0), by subst h; exact ⟨dX9_spell_51, rfl, ⟨5, rfl, by decide⟩⟩⟩ else none
    else
     bif Nat.blt pc 55 then
      bif Nat.blt pc 53 then
       if h : pc = 52 then some ⟨(.iadd, 53, .inl 0, 0, 0), by subst h; exact ⟨dX9_spell_52, rfl, trivial⟩⟩ else none
      else
       if h : pc = 53 then some ⟨(.iload 7, 55, .inl 0, 0, 0), by subst h; exact ⟨dX9_spell_53, rfl, trivial⟩⟩ else none
     else
      bif Nat.blt pc 56 then
       if h : pc = 55 then some ⟨(.iastore, 56, .inl 0, 0, 0), by subst h; exact ⟨dX9_spell_55, rfl, trivial⟩⟩ else none
      else
       if h : pc = 56 then some ⟨(.aload_n 0, 57, .inl 0, 0, 0), by subst h; exact ⟨dX9_spell_56, rfl, trivial⟩⟩ else none
  else
   bif Nat.blt pc 68 then
    bif Nat.blt pc 63 then
     bif Nat.blt pc 60 then
      if h : pc = 57 then some ⟨(.getfield 13, 60, .inr (.inr none), 1, 14), by subst h; exact ⟨dX9_spell_57, rfl, ⟨⟨_, rfl, by decide, _, Or.inl q1359, Or.inl rfl⟩, (show mKd 14 1 = 6 by rfl)⟩⟩⟩ else none
     else
      bif Nat.blt pc 61 then
       if h : pc = 60 then some ⟨(.iload_n 1, 61, .inl 0, 0, 0), by subst h; exact ⟨dX9_spell_60, rfl, trivial⟩⟩ else none
      else
       if h : pc = 61 then some ⟨(.bipush 6, 63, .inl 6, 0, 0), by subst h; exact ⟨dX9_spell_61, rfl, ⟨6, rfl, by decide⟩⟩⟩ else none
    else
     bif Nat.blt pc 66 then
      bif Nat.blt pc 64 then
       if h : pc = 63 then some ⟨(.iadd, 64, .inl 0, 0, 0), by subst h; exact ⟨dX9_spell_63, rfl, trivial⟩⟩ else none
      else
       if h : pc = 64 then some ⟨(.iload 8, 66, .inl 0, 0, 0), by subst h; exact ⟨dX9_spell_64, rfl, trivial⟩⟩ else none
     else
      bif Nat.blt pc 67 then
       if h : pc = 66 then some ⟨(.iastore, 67, .inl 0, 0, 0), by subst h; exact ⟨dX9_spell_66, rfl, trivial⟩⟩ else none
      else
       if h : pc = 67 then some ⟨(.aload_n 0, 68, .inl 0, 0, 0), by subst h; exact ⟨dX9_spell_67, rfl, trivial⟩⟩ else none
   else
    bif Nat.blt pc 74 then
     bif Nat.blt pc 71 then
      if h : pc = 68 then some ⟨(.getfield 13, 71, .inr (.inr none), 1, 14), by subst h; exact ⟨dX9_spell_68, rfl, ⟨⟨_, rfl, by decide, _, Or.inl q1359, Or.inl rfl⟩, (show mKd 14 1 = 6 by rfl)⟩⟩⟩ else none
     else
      bif Nat.blt pc 72 then
       if h : pc = 71 then some ⟨(.iload_n 1, 72, .inl 0, 0, 0), by subst h; exact ⟨dX9_spell_71, rfl, trivial⟩⟩ else none
      else
       if h : pc = 72 then some ⟨(.bipush 7, 74, .inl 7, 0, 0), by subst h; exact ⟨dX9_spell_72, rfl, ⟨7, rfl, by decide⟩⟩⟩ else none
    else
     bif Nat.blt pc 77 then
      bif Nat.blt pc 75 then
       if h : pc = 74 then some ⟨(.iadd, 75, .inl 0, 0, 0), by subst h; exact ⟨dX9_spell_74, rfl, trivial⟩⟩ else none
      else
       if h : pc = 75 then some ⟨(.iload 9, 77, .inl 0, 0, 0), by subst h; exact ⟨dX9_spell_75, rfl, trivial⟩⟩ else none
     else
      bif Nat.blt pc 78 then
       if h : pc = 77 then some ⟨(.iastore, 78, .inl 0, 0, 0), by subst h; exact ⟨dX9_spell_77, rfl, trivial⟩⟩ else none
      else
       if h : pc = 78 then some ⟨(.return_, 79, .inl 0, 0, 0), by subst h; exact ⟨dX9_spell_78, rfl, rfl⟩⟩ else none

noncomputable def mt2 (pc : Nat) : Option {e : mE // mOK yX9_set cX9_set 5 ((Option.some ClassFile.FieldType.int)) pc e} :=
 bif Nat.blt pc 28 then
  bif Nat.blt pc 14 then
   bif Nat.blt pc 6 then
    bif Nat.blt pc 2 then
     bif Nat.blt pc 1 then
      if h : pc = 0 then some ⟨(.iload_n 1, 1, .inl 0, 0, 0), by subst h; exact ⟨dX9_set_0, rfl, trivial⟩⟩ else none
     else
      if h : pc = 1 then some ⟨(.i2l, 2, .inl 0, 0, 0), by subst h; exact ⟨dX9_set_1, rfl, trivial⟩⟩ else none
    else
     bif Nat.blt pc 3 then
      if h : pc = 2 then some ⟨(.lconst 0, 3, .inr (.inl 0), 0, 0), by subst h; exact ⟨dX9_set_2, rfl, ⟨0, rfl, by decide⟩⟩⟩ else none
     else
      if h : pc = 3 then some ⟨(.ldc2_w 77, 6, .inr (.inl 6), 0, 0), by subst h; exact ⟨dX9_set_3, rfl, ⟨_, rfl, q1481⟩⟩⟩ else none
   else
    bif Nat.blt pc 12 then
     bif Nat.blt pc 9 then
      if h : pc = 6 then some ⟨(.invokestatic 67, 9, .inl 0, 3, 0), by subst h; exact ⟨dX9_set_6, rfl, Or.inl ⟨by decide, q1482, q1483⟩⟩⟩ else none
     else
      if h : pc = 9 then some ⟨(.ifCond .eq 26, 12, .inl 0, 35, 0), by subst h; exact ⟨dX9_set_9, rfl, (show ((9 : Nat) : Int) + (26) = ((35 : Nat) : Int) by decide)⟩⟩ else none
    else
     bif Nat.blt pc 13 then
      if h : pc = 12 then some ⟨(.aload_n 0, 13, .inl 0, 0, 0), by subst h; exact ⟨dX9_set_12, rfl, trivial⟩⟩ else none
     else
      if h : pc = 13 then some ⟨(.iload_n 1, 14, .inl 0, 0, 0), by subst h; exact ⟨dX9_set_13, rfl, trivial⟩⟩ else none
  else
   bif Nat.blt pc 22 then
    bif Nat.blt pc 18 then
     bif Nat.blt pc 15 then
      if h : pc = 14 then some ⟨(.iload_n 2, 15, .inl 0, 0, 0), by subst h; exact ⟨dX9_set_14, rfl, trivial⟩⟩ else none
     else
      if h : pc = 15 then some ⟨(.invokevirtual 79, 18, .inl 0, 4, 14), by subst h; exact ⟨dX9_set_15, rfl, ⟨by decide, q1485, q1487, qs58, _, rfl, rfl⟩⟩⟩ else none
    else
     bif Nat.blt pc 21 then
      if h : pc = 18 then some ⟨(.ifCond .eq 17, 21, .inl 0, 35, 0), by subst h; exact ⟨dX9_set_18, rfl, (show ((18 : Nat) : Int) + (17) = ((35 : Nat) : Int) by decide)⟩⟩ else none
     else
      if h : pc = 21 then some ⟨(.iload_n 3, 22, .inl 0, 0, 0), by subst h; exact ⟨dX9_set_21, rfl, trivial⟩⟩ else none
   else
    bif Nat.blt pc 24 then
     bif Nat.blt pc 23 then
      if h : pc = 22 then some ⟨(.i2l, 23, .inl 0, 0, 0), by subst h; exact ⟨dX9_set_22, rfl, trivial⟩⟩ else none
     else
      if h : pc = 23 then some ⟨(.lconst 0, 24, .inr (.inl 0), 0, 0), by subst h; exact ⟨dX9_set_23, rfl, ⟨0, rfl, by decide⟩⟩⟩ else none
    else
     bif Nat.blt pc 25 then
      if h : pc = 24 then some ⟨(.iload_n 1, 25, .inl 0, 0, 0), by subst h; exact ⟨dX9_set_24, rfl, trivial⟩⟩ else none
     else
      if h : pc = 25 then some ⟨(.invokestatic 83, 28, .inl 0, 6, 0), by subst h; exact ⟨dX9_set_25, rfl, Or.inl ⟨by decide, q1494, q1495⟩⟩⟩ else none
 else
  bif Nat.blt pc 41 then
   bif Nat.blt pc 37 then
    bif Nat.blt pc 32 then
     bif Nat.blt pc 29 then
      if h : pc = 28 then some ⟨(.i2l, 29, .inl 0, 0, 0), by subst h; exact ⟨dX9_set_28, rfl, trivial⟩⟩ else none
     else
      if h : pc = 29 then some ⟨(.invokestatic 67, 32, .inl 0, 3, 0), by subst h; exact ⟨dX9_set_29, rfl, Or.inl ⟨by decide, q1482, q1483⟩⟩⟩ else none
    else
     bif Nat.blt pc 35 then
      if h : pc = 32 then some ⟨(.ifCond .ne 6, 35, .inl 0, 38, 0), by subst h; exact ⟨dX9_set_32, rfl, (show ((32 : Nat) : Int) + (6) = ((38 : Nat) : Int) by decide)⟩⟩ else none
     else
      if h : pc = 35 then some ⟨(.bipush (-2), 37, .inl (-2), 0, 0), by subst h; exact ⟨dX9_set_35, rfl, ⟨(-2), rfl, by decide⟩⟩⟩ else none
   else
    bif Nat.blt pc 39 then
     bif Nat.blt pc 38 then
      if h : pc = 37 then some ⟨(.ireturn, 38, .inl 0, 0, 0), by subst h; exact ⟨dX9_set_37, rfl, rfl⟩⟩ else none
     else
      if h : pc = 38 then some ⟨(.aload_n 0, 39, .inl 0, 0, 0), by subst h; exact ⟨dX9_set_38, rfl, trivial⟩⟩ else none
    else
     bif Nat.blt pc 40 then
      if h : pc = 39 then some ⟨(.iload_n 2, 40, .inl 0, 0, 0), by subst h; exact ⟨dX9_set_39, rfl, trivial⟩⟩ else none
     else
      if h : pc = 40 then some ⟨(.iload_n 1, 41, .inl 0, 0, 0), by subst h; exact ⟨dX9_set_40, rfl, trivial⟩⟩ else none
  else
   bif Nat.blt pc 48 then
    bif Nat.blt pc 46 then
     bif Nat.blt pc 44 then
      if h : pc = 41 then some ⟨(.invokevirtual 87, 44, .inl 0, 7, 14), by subst h; exact ⟨dX9_set_41, rfl, ⟨by decide, q1497, q1498, q1499, _, rfl, rfl⟩⟩⟩ else none
     else
      if h : pc = 44 then some ⟨(.istore 4, 46, .inl 0, 0, 0), by subst h; exact ⟨dX9_set_44, rfl, (show (4 : Nat) < 5 by decide)⟩⟩ else none
    else
     bif Nat.blt pc 47 then
      if h : pc = 46 then some ⟨(.aload_n 0, 47, .inl 0, 0, 0), by subst h; exact ⟨dX9_set_46, rfl, trivial⟩⟩ else none
     else
      if h : pc = 47 then some ⟨(.iload_n 1, 48, .inl 0, 0, 0), by subst h; exact ⟨dX9_set_47, rfl, trivial⟩⟩ else none
   else
    bif Nat.blt pc 50 then
     bif Nat.blt pc 49 then
      if h : pc = 48 then some ⟨(.iload_n 2, 49, .inl 0, 0, 0), by subst h; exact ⟨dX9_set_48, rfl, trivial⟩⟩ else none
     else
      if h : pc = 49 then some ⟨(.iload_n 3, 50, .inl 0, 0, 0), by subst h; exact ⟨dX9_set_49, rfl, trivial⟩⟩ else none
    else
     bif Nat.blt pc 53 then
      if h : pc = 50 then some ⟨(.invokevirtual 91, 53, .inl 0, 63, 14), by subst h; exact ⟨dX9_set_50, rfl, ⟨by decide, q1727, q1729, qs114, _, rfl, rfl⟩⟩⟩ else none
     else
      bif Nat.blt pc 55 then
       if h : pc = 53 then some ⟨(.iload 4, 55, .inl 0, 0, 0), by subst h; exact ⟨dX9_set_53, rfl, trivial⟩⟩ else none
      else
       if h : pc = 55 then some ⟨(.ireturn, 56, .inl 0, 0, 0), by subst h; exact ⟨dX9_set_55, rfl, rfl⟩⟩ else none

noncomputable def mt3 (pc : Nat) : Option {e : mE // mOK yX9_in cX9_in 6 ((Option.some ClassFile.FieldType.boolean)) pc e} :=
 bif Nat.blt pc 9 then
  bif Nat.blt pc 3 then
   bif Nat.blt pc 1 then
    if h : pc = 0 then some ⟨(.lload_n 0, 1, .inl 0, 0, 0), by subst h; exact ⟨dX9_in_0, rfl, trivial⟩⟩ else none
   else
    bif Nat.blt pc 2 then
     if h : pc = 1 then some ⟨(.lload_n 2, 2, .inl 0, 0, 0), by subst h; exact ⟨dX9_in_1, rfl, trivial⟩⟩ else none
    else
     if h : pc = 2 then some ⟨(.lcmp, 3, .inl 0, 0, 0), by subst h; exact ⟨dX9_in_2, rfl, trivial⟩⟩ else none
  else
   bif Nat.blt pc 6 then
    if h : pc = 3 then some ⟨(.ifCond .lt 14, 6, .inl 0, 17, 0), by subst h; exact ⟨dX9_in_3, rfl, (show ((3 : Nat) : Int) + (14) = ((17 : Nat) : Int) by decide)⟩⟩ else none
   else
    bif Nat.blt pc 7 then
     if h : pc = 6 then some ⟨(.lload_n 0, 7, .inl 0, 0, 0), by subst h; exact ⟨dX9_in_6, rfl, trivial⟩⟩ else none
    else
     if h : pc = 7 then some ⟨(.lload 4, 9, .inl 0, 0, 0), by subst h; exact ⟨dX9_in_7, rfl, trivial⟩⟩ else none
 else
  bif Nat.blt pc 14 then
   bif Nat.blt pc 10 then
    if h : pc = 9 then some ⟨(.lcmp, 10, .inl 0, 0, 0), by subst h; exact ⟨dX9_in_9, rfl, trivial⟩⟩ else none
   else
    bif Nat.blt pc 13 then
     if h : pc = 10 then some ⟨(.ifCond .gt 7, 13, .inl 0, 17, 0), by subst h; exact ⟨dX9_in_10, rfl, (show ((10 : Nat) : Int) + (7) = ((17 : Nat) : Int) by decide)⟩⟩ else none
    else
     if h : pc = 13 then some ⟨(.iconst 1, 14, .inl 1, 0, 0), by subst h; exact ⟨dX9_in_13, rfl, ⟨1, rfl, by decide⟩⟩⟩ else none
  else
   bif Nat.blt pc 17 then
    if h : pc = 14 then some ⟨(.goto 4, 17, .inl 0, 18, 0), by subst h; exact ⟨dX9_in_14, rfl, (show ((14 : Nat) : Int) + (4) = ((18 : Nat) : Int) by decide)⟩⟩ else none
   else
    bif Nat.blt pc 18 then
     if h : pc = 17 then some ⟨(.iconst 0, 18, .inl 0, 0, 0), by subst h; exact ⟨dX9_in_17, rfl, ⟨0, rfl, by decide⟩⟩⟩ else none
    else
     if h : pc = 18 then some ⟨(.ireturn, 19, .inl 0, 1, 0), by subst h; exact ⟨dX9_in_18, rfl, rfl⟩⟩ else none

noncomputable def mt4 (pc : Nat) : Option {e : mE // mOK yX9_isOf cX9_isOf 3 ((Option.some ClassFile.FieldType.boolean)) pc e} :=
 bif Nat.blt pc 17 then
  bif Nat.blt pc 7 then
   bif Nat.blt pc 2 then
    bif Nat.blt pc 1 then
     if h : pc = 0 then some ⟨(.iload_n 1, 1, .inl 0, 0, 0), by subst h; exact ⟨dX9_isOf_0, rfl, trivial⟩⟩ else none
    else
     if h : pc = 1 then some ⟨(.iconst 1, 2, .inl 1, 0, 0), by subst h; exact ⟨dX9_isOf_1, rfl, ⟨1, rfl, by decide⟩⟩⟩ else none
   else
    bif Nat.blt pc 5 then
     if h : pc = 2 then some ⟨(.if_icmp .eq 35, 5, .inl 0, 37, 0), by subst h; exact ⟨dX9_isOf_2, rfl, (show ((2 : Nat) : Int) + (35) = ((37 : Nat) : Int) by decide)⟩⟩ else none
    else
     bif Nat.blt pc 6 then
      if h : pc = 5 then some ⟨(.iload_n 1, 6, .inl 0, 0, 0), by subst h; exact ⟨dX9_isOf_5, rfl, trivial⟩⟩ else none
     else
      if h : pc = 6 then some ⟨(.iconst 2, 7, .inl 2, 0, 0), by subst h; exact ⟨dX9_isOf_6, rfl, ⟨2, rfl, by decide⟩⟩⟩ else none
  else
   bif Nat.blt pc 14 then
    bif Nat.blt pc 10 then
     if h : pc = 7 then some ⟨(.if_icmp .eq 30, 10, .inl 0, 37, 0), by subst h; exact ⟨dX9_isOf_7, rfl, (show ((7 : Nat) : Int) + (30) = ((37 : Nat) : Int) by decide)⟩⟩ else none
    else
     bif Nat.blt pc 11 then
      if h : pc = 10 then some ⟨(.iload_n 1, 11, .inl 0, 0, 0), by subst h; exact ⟨dX9_isOf_10, rfl, trivial⟩⟩ else none
     else
      if h : pc = 11 then some ⟨(.ifCond .ne 18, 14, .inl 0, 29, 0), by subst h; exact ⟨dX9_isOf_11, rfl, (show ((11 : Nat) : Int) + (18) = ((29 : Nat) : Int) by decide)⟩⟩ else none
   else
    bif Nat.blt pc 15 then
     if h : pc = 14 then some ⟨(.iload_n 2, 15, .inl 0, 0, 0), by subst h; exact ⟨dX9_isOf_14, rfl, trivial⟩⟩ else none
    else
     bif Nat.blt pc 16 then
      if h : pc = 15 then some ⟨(.i2l, 16, .inl 0, 0, 0), by subst h; exact ⟨dX9_isOf_15, rfl, trivial⟩⟩ else none
     else
      if h : pc = 16 then some ⟨(.lconst 0, 17, .inr (.inl 0), 0, 0), by subst h; exact ⟨dX9_isOf_16, rfl, ⟨0, rfl, by decide⟩⟩⟩ else none
 else
  bif Nat.blt pc 31 then
   bif Nat.blt pc 26 then
    bif Nat.blt pc 20 then
     if h : pc = 17 then some ⟨(.ldc2_w 71, 20, .inr (.inl 9), 0, 0), by subst h; exact ⟨dX9_isOf_17, rfl, ⟨_, rfl, q1489⟩⟩⟩ else none
    else
     bif Nat.blt pc 23 then
      if h : pc = 20 then some ⟨(.invokestatic 67, 23, .inl 0, 3, 0), by subst h; exact ⟨dX9_isOf_20, rfl, Or.inl ⟨by decide, q1482, q1483⟩⟩⟩ else none
     else
      if h : pc = 23 then some ⟨(.ifCond .eq 18, 26, .inl 0, 41, 0), by subst h; exact ⟨dX9_isOf_23, rfl, (show ((23 : Nat) : Int) + (18) = ((41 : Nat) : Int) by decide)⟩⟩ else none
   else
    bif Nat.blt pc 29 then
     if h : pc = 26 then some ⟨(.goto 11, 29, .inl 0, 37, 0), by subst h; exact ⟨dX9_isOf_26, rfl, (show ((26 : Nat) : Int) + (11) = ((37 : Nat) : Int) by decide)⟩⟩ else none
    else
     bif Nat.blt pc 30 then
      if h : pc = 29 then some ⟨(.aload_n 0, 30, .inl 0, 0, 0), by subst h; exact ⟨dX9_isOf_29, rfl, trivial⟩⟩ else none
     else
      if h : pc = 30 then some ⟨(.iload_n 2, 31, .inl 0, 0, 0), by subst h; exact ⟨dX9_isOf_30, rfl, trivial⟩⟩ else none
  else
   bif Nat.blt pc 38 then
    bif Nat.blt pc 34 then
     if h : pc = 31 then some ⟨(.invokevirtual 73, 34, .inl 0, 5, 14), by subst h; exact ⟨dX9_isOf_31, rfl, ⟨by decide, q1490, q1492, qs59, _, rfl, rfl⟩⟩⟩ else none
    else
     bif Nat.blt pc 37 then
      if h : pc = 34 then some ⟨(.ifCond .eq 7, 37, .inl 0, 41, 0), by subst h; exact ⟨dX9_isOf_34, rfl, (show ((34 : Nat) : Int) + (7) = ((41 : Nat) : Int) by decide)⟩⟩ else none
     else
      if h : pc = 37 then some ⟨(.iconst 1, 38, .inl 1, 0, 0), by subst h; exact ⟨dX9_isOf_37, rfl, ⟨1, rfl, by decide⟩⟩⟩ else none
   else
    bif Nat.blt pc 41 then
     if h : pc = 38 then some ⟨(.goto 4, 41, .inl 0, 42, 0), by subst h; exact ⟨dX9_isOf_38, rfl, (show ((38 : Nat) : Int) + (4) = ((42 : Nat) : Int) by decide)⟩⟩ else none
    else
     bif Nat.blt pc 42 then
      if h : pc = 41 then some ⟨(.iconst 0, 42, .inl 0, 0, 0), by subst h; exact ⟨dX9_isOf_41, rfl, ⟨0, rfl, by decide⟩⟩⟩ else none
     else
      if h : pc = 42 then some ⟨(.ireturn, 43, .inl 0, 1, 0), by subst h; exact ⟨dX9_isOf_42, rfl, rfl⟩⟩ else none

noncomputable def mt5 (pc : Nat) : Option {e : mE // mOK yX9_isOne cX9_isOne 2 ((Option.some ClassFile.FieldType.boolean)) pc e} :=
 bif Nat.blt pc 7 then
  bif Nat.blt pc 2 then
   bif Nat.blt pc 1 then
    if h : pc = 0 then some ⟨(.iload_n 1, 1, .inl 0, 0, 0), by subst h; exact ⟨dX9_isOne_0, rfl, trivial⟩⟩ else none
   else
    if h : pc = 1 then some ⟨(.i2l, 2, .inl 0, 0, 0), by subst h; exact ⟨dX9_isOne_1, rfl, trivial⟩⟩ else none
  else
   bif Nat.blt pc 3 then
    if h : pc = 2 then some ⟨(.lconst 0, 3, .inr (.inl 0), 0, 0), by subst h; exact ⟨dX9_isOne_2, rfl, ⟨0, rfl, by decide⟩⟩⟩ else none
   else
    bif Nat.blt pc 4 then
     if h : pc = 3 then some ⟨(.aload_n 0, 4, .inl 0, 0, 0), by subst h; exact ⟨dX9_isOne_3, rfl, trivial⟩⟩ else none
    else
     if h : pc = 4 then some ⟨(.getfield 64, 7, .inl 0, 11, 14), by subst h; exact ⟨dX9_isOne_4, rfl, ⟨⟨_, rfl, by decide, _, Or.inl q1369, Or.inl rfl⟩, (show mKd 14 11 ≤ 4 by decide)⟩⟩⟩ else none
 else
  bif Nat.blt pc 9 then
   bif Nat.blt pc 8 then
    if h : pc = 7 then some ⟨(.iconst 1, 8, .inl 1, 0, 0), by subst h; exact ⟨dX9_isOne_7, rfl, ⟨1, rfl, by decide⟩⟩⟩ else none
   else
    if h : pc = 8 then some ⟨(.isub, 9, .inl 0, 0, 0), by subst h; exact ⟨dX9_isOne_8, rfl, trivial⟩⟩ else none
  else
   bif Nat.blt pc 10 then
    if h : pc = 9 then some ⟨(.i2l, 10, .inl 0, 0, 0), by subst h; exact ⟨dX9_isOne_9, rfl, trivial⟩⟩ else none
   else
    bif Nat.blt pc 13 then
     if h : pc = 10 then some ⟨(.invokestatic 67, 13, .inl 0, 3, 0), by subst h; exact ⟨dX9_isOne_10, rfl, Or.inl ⟨by decide, q1482, q1483⟩⟩⟩ else none
    else
     if h : pc = 13 then some ⟨(.ireturn, 14, .inl 0, 1, 0), by subst h; exact ⟨dX9_isOne_13, rfl, rfl⟩⟩ else none

noncomputable def mt6 (pc : Nat) : Option {e : mE // mOK yX9_mostOf cX9_mostOf 1 ((Option.some ClassFile.FieldType.int)) pc e} :=
 bif Nat.blt pc 21 then
  bif Nat.blt pc 10 then
   bif Nat.blt pc 2 then
    bif Nat.blt pc 1 then
     if h : pc = 0 then some ⟨(.iload_n 0, 1, .inl 0, 0, 0), by subst h; exact ⟨dX9_mostOf_0, rfl, trivial⟩⟩ else none
    else
     if h : pc = 1 then some ⟨(.iconst 1, 2, .inl 1, 0, 0), by subst h; exact ⟨dX9_mostOf_1, rfl, ⟨1, rfl, by decide⟩⟩⟩ else none
   else
    bif Nat.blt pc 5 then
     if h : pc = 2 then some ⟨(.if_icmp .ne 8, 5, .inl 0, 10, 0), by subst h; exact ⟨dX9_mostOf_2, rfl, (show ((2 : Nat) : Int) + (8) = ((10 : Nat) : Int) by decide)⟩⟩ else none
    else
     bif Nat.blt pc 7 then
      if h : pc = 5 then some ⟨(.bipush 10, 7, .inl 10, 0, 0), by subst h; exact ⟨dX9_mostOf_5, rfl, ⟨10, rfl, by decide⟩⟩⟩ else none
     else
      if h : pc = 7 then some ⟨(.goto 36, 10, .inl 0, 43, 0), by subst h; exact ⟨dX9_mostOf_7, rfl, (show ((7 : Nat) : Int) + (36) = ((43 : Nat) : Int) by decide)⟩⟩ else none
  else
   bif Nat.blt pc 15 then
    bif Nat.blt pc 11 then
     if h : pc = 10 then some ⟨(.iload_n 0, 11, .inl 0, 0, 0), by subst h; exact ⟨dX9_mostOf_10, rfl, trivial⟩⟩ else none
    else
     bif Nat.blt pc 12 then
      if h : pc = 11 then some ⟨(.iconst 3, 12, .inl 3, 0, 0), by subst h; exact ⟨dX9_mostOf_11, rfl, ⟨3, rfl, by decide⟩⟩⟩ else none
     else
      if h : pc = 12 then some ⟨(.if_icmp .ne 8, 15, .inl 0, 20, 0), by subst h; exact ⟨dX9_mostOf_12, rfl, (show ((12 : Nat) : Int) + (8) = ((20 : Nat) : Int) by decide)⟩⟩ else none
   else
    bif Nat.blt pc 17 then
     if h : pc = 15 then some ⟨(.bipush 9, 17, .inl 9, 0, 0), by subst h; exact ⟨dX9_mostOf_15, rfl, ⟨9, rfl, by decide⟩⟩⟩ else none
    else
     bif Nat.blt pc 20 then
      if h : pc = 17 then some ⟨(.goto 26, 20, .inl 0, 43, 0), by subst h; exact ⟨dX9_mostOf_17, rfl, (show ((17 : Nat) : Int) + (26) = ((43 : Nat) : Int) by decide)⟩⟩ else none
     else
      if h : pc = 20 then some ⟨(.iload_n 0, 21, .inl 0, 0, 0), by subst h; exact ⟨dX9_mostOf_20, rfl, trivial⟩⟩ else none
 else
  bif Nat.blt pc 31 then
   bif Nat.blt pc 25 then
    bif Nat.blt pc 22 then
     if h : pc = 21 then some ⟨(.iconst 5, 22, .inl 5, 0, 0), by subst h; exact ⟨dX9_mostOf_21, rfl, ⟨5, rfl, by decide⟩⟩⟩ else none
    else
     if h : pc = 22 then some ⟨(.if_icmp .ne 8, 25, .inl 0, 30, 0), by subst h; exact ⟨dX9_mostOf_22, rfl, (show ((22 : Nat) : Int) + (8) = ((30 : Nat) : Int) by decide)⟩⟩ else none
   else
    bif Nat.blt pc 27 then
     if h : pc = 25 then some ⟨(.bipush 99, 27, .inl 99, 0, 0), by subst h; exact ⟨dX9_mostOf_25, rfl, ⟨99, rfl, by decide⟩⟩⟩ else none
    else
     bif Nat.blt pc 30 then
      if h : pc = 27 then some ⟨(.goto 16, 30, .inl 0, 43, 0), by subst h; exact ⟨dX9_mostOf_27, rfl, (show ((27 : Nat) : Int) + (16) = ((43 : Nat) : Int) by decide)⟩⟩ else none
     else
      if h : pc = 30 then some ⟨(.iload_n 0, 31, .inl 0, 0, 0), by subst h; exact ⟨dX9_mostOf_30, rfl, trivial⟩⟩ else none
  else
   bif Nat.blt pc 37 then
    bif Nat.blt pc 33 then
     if h : pc = 31 then some ⟨(.bipush 6, 33, .inl 6, 0, 0), by subst h; exact ⟨dX9_mostOf_31, rfl, ⟨6, rfl, by decide⟩⟩⟩ else none
    else
     bif Nat.blt pc 36 then
      if h : pc = 33 then some ⟨(.if_icmp .ne 7, 36, .inl 0, 40, 0), by subst h; exact ⟨dX9_mostOf_33, rfl, (show ((33 : Nat) : Int) + (7) = ((40 : Nat) : Int) by decide)⟩⟩ else none
     else
      if h : pc = 36 then some ⟨(.iconst 1, 37, .inl 1, 0, 0), by subst h; exact ⟨dX9_mostOf_36, rfl, ⟨1, rfl, by decide⟩⟩⟩ else none
   else
    bif Nat.blt pc 40 then
     if h : pc = 37 then some ⟨(.goto 6, 40, .inl 0, 43, 0), by subst h; exact ⟨dX9_mostOf_37, rfl, (show ((37 : Nat) : Int) + (6) = ((43 : Nat) : Int) by decide)⟩⟩ else none
    else
     bif Nat.blt pc 43 then
      if h : pc = 40 then some ⟨(.sipush 999, 43, .inl 999, 0, 0), by subst h; exact ⟨dX9_mostOf_40, rfl, ⟨999, rfl, by decide⟩⟩⟩ else none
     else
      if h : pc = 43 then some ⟨(.ireturn, 44, .inl 0, 0, 0), by subst h; exact ⟨dX9_mostOf_43, rfl, rfl⟩⟩ else none

noncomputable def mt7 (pc : Nat) : Option {e : mE // mOK yX9_told cX9_told 3 ((Option.some ClassFile.FieldType.int)) pc e} :=
 bif Nat.blt pc 62 then
  bif Nat.blt pc 30 then
   bif Nat.blt pc 14 then
    bif Nat.blt pc 6 then
     bif Nat.blt pc 2 then
      bif Nat.blt pc 1 then
       if h : pc = 0 then some ⟨(.iload_n 2, 1, .inl 0, 0, 0), by subst h; exact ⟨dX9_told_0, rfl, trivial⟩⟩ else none
      else
       if h : pc = 1 then some ⟨(.i2l, 2, .inl 0, 0, 0), by subst h; exact ⟨dX9_told_1, rfl, trivial⟩⟩ else none
     else
      bif Nat.blt pc 3 then
       if h : pc = 2 then some ⟨(.lconst 0, 3, .inr (.inl 0), 0, 0), by subst h; exact ⟨dX9_told_2, rfl, ⟨0, rfl, by decide⟩⟩⟩ else none
      else
       if h : pc = 3 then some ⟨(.ldc2_w 108, 6, .inr (.inl 10), 0, 0), by subst h; exact ⟨dX9_told_3, rfl, ⟨_, rfl, q1501⟩⟩⟩ else none
    else
     bif Nat.blt pc 12 then
      bif Nat.blt pc 9 then
       if h : pc = 6 then some ⟨(.invokestatic 67, 9, .inl 0, 3, 0), by subst h; exact ⟨dX9_told_6, rfl, Or.inl ⟨by decide, q1482, q1483⟩⟩⟩ else none
      else
       if h : pc = 9 then some ⟨(.ifCond .eq 12, 12, .inl 0, 21, 0), by subst h; exact ⟨dX9_told_9, rfl, (show ((9 : Nat) : Int) + (12) = ((21 : Nat) : Int) by decide)⟩⟩ else none
     else
      bif Nat.blt pc 13 then
       if h : pc = 12 then some ⟨(.aload_n 0, 13, .inl 0, 0, 0), by subst h; exact ⟨dX9_told_12, rfl, trivial⟩⟩ else none
      else
       if h : pc = 13 then some ⟨(.iload_n 2, 14, .inl 0, 0, 0), by subst h; exact ⟨dX9_told_13, rfl, trivial⟩⟩ else none
   else
    bif Nat.blt pc 23 then
     bif Nat.blt pc 18 then
      bif Nat.blt pc 15 then
       if h : pc = 14 then some ⟨(.iload_n 1, 15, .inl 0, 0, 0), by subst h; exact ⟨dX9_told_14, rfl, trivial⟩⟩ else none
      else
       if h : pc = 15 then some ⟨(.invokevirtual 79, 18, .inl 0, 4, 14), by subst h; exact ⟨dX9_told_15, rfl, ⟨by decide, q1485, q1487, qs58, _, rfl, rfl⟩⟩⟩ else none
     else
      bif Nat.blt pc 21 then
       if h : pc = 18 then some ⟨(.ifCond .ne 6, 21, .inl 0, 24, 0), by subst h; exact ⟨dX9_told_18, rfl, (show ((18 : Nat) : Int) + (6) = ((24 : Nat) : Int) by decide)⟩⟩ else none
      else
       if h : pc = 21 then some ⟨(.bipush (-2), 23, .inl (-2), 0, 0), by subst h; exact ⟨dX9_told_21, rfl, ⟨(-2), rfl, by decide⟩⟩⟩ else none
    else
     bif Nat.blt pc 25 then
      bif Nat.blt pc 24 then
       if h : pc = 23 then some ⟨(.ireturn, 24, .inl 0, 0, 0), by subst h; exact ⟨dX9_told_23, rfl, rfl⟩⟩ else none
      else
       if h : pc = 24 then some ⟨(.iload_n 2, 25, .inl 0, 0, 0), by subst h; exact ⟨dX9_told_24, rfl, trivial⟩⟩ else none
     else
      bif Nat.blt pc 26 then
       if h : pc = 25 then some ⟨(.iconst 3, 26, .inl 3, 0, 0), by subst h; exact ⟨dX9_told_25, rfl, ⟨3, rfl, by decide⟩⟩⟩ else none
      else
       bif Nat.blt pc 29 then
        if h : pc = 26 then some ⟨(.if_icmp .ge 33, 29, .inl 0, 59, 0), by subst h; exact ⟨dX9_told_26, rfl, (show ((26 : Nat) : Int) + (33) = ((59 : Nat) : Int) by decide)⟩⟩ else none
       else
        if h : pc = 29 then some ⟨(.iload_n 2, 30, .inl 0, 0, 0), by subst h; exact ⟨dX9_told_29, rfl, trivial⟩⟩ else none
  else
   bif Nat.blt pc 44 then
    bif Nat.blt pc 38 then
     bif Nat.blt pc 34 then
      bif Nat.blt pc 33 then
       if h : pc = 30 then some ⟨(.ifCond .ne 12, 33, .inl 0, 42, 0), by subst h; exact ⟨dX9_told_30, rfl, (show ((30 : Nat) : Int) + (12) = ((42 : Nat) : Int) by decide)⟩⟩ else none
      else
       if h : pc = 33 then some ⟨(.aload_n 0, 34, .inl 0, 0, 0), by subst h; exact ⟨dX9_told_33, rfl, trivial⟩⟩ else none
     else
      bif Nat.blt pc 37 then
       if h : pc = 34 then some ⟨(.getfield 23, 37, .inr (.inr none), 7, 14), by subst h; exact ⟨dX9_told_34, rfl, ⟨⟨_, rfl, by decide, _, Or.inl q1365, Or.inl rfl⟩, (show mKd 14 7 = 6 by rfl)⟩⟩⟩ else none
      else
       if h : pc = 37 then some ⟨(.iload_n 1, 38, .inl 0, 0, 0), by subst h; exact ⟨dX9_told_37, rfl, trivial⟩⟩ else none
    else
     bif Nat.blt pc 42 then
      bif Nat.blt pc 39 then
       if h : pc = 38 then some ⟨(.iaload, 39, .inl 0, 0, 0), by subst h; exact ⟨dX9_told_38, rfl, trivial⟩⟩ else none
      else
       if h : pc = 39 then some ⟨(.goto 19, 42, .inl 0, 58, 0), by subst h; exact ⟨dX9_told_39, rfl, (show ((39 : Nat) : Int) + (19) = ((58 : Nat) : Int) by decide)⟩⟩ else none
     else
      bif Nat.blt pc 43 then
       if h : pc = 42 then some ⟨(.iload_n 2, 43, .inl 0, 0, 0), by subst h; exact ⟨dX9_told_42, rfl, trivial⟩⟩ else none
      else
       if h : pc = 43 then some ⟨(.iconst 1, 44, .inl 1, 0, 0), by subst h; exact ⟨dX9_told_43, rfl, ⟨1, rfl, by decide⟩⟩⟩ else none
   else
    bif Nat.blt pc 54 then
     bif Nat.blt pc 48 then
      bif Nat.blt pc 47 then
       if h : pc = 44 then some ⟨(.if_icmp .ne 10, 47, .inl 0, 54, 0), by subst h; exact ⟨dX9_told_44, rfl, (show ((44 : Nat) : Int) + (10) = ((54 : Nat) : Int) by decide)⟩⟩ else none
      else
       if h : pc = 47 then some ⟨(.aload_n 0, 48, .inl 0, 0, 0), by subst h; exact ⟨dX9_told_47, rfl, trivial⟩⟩ else none
     else
      bif Nat.blt pc 51 then
       if h : pc = 48 then some ⟨(.getfield 95, 51, .inl 0, 8, 14), by subst h; exact ⟨dX9_told_48, rfl, ⟨⟨_, rfl, by decide, _, Or.inl q1366, Or.inl rfl⟩, (show mKd 14 8 ≤ 4 by decide)⟩⟩⟩ else none
      else
       if h : pc = 51 then some ⟨(.goto 7, 54, .inl 0, 58, 0), by subst h; exact ⟨dX9_told_51, rfl, (show ((51 : Nat) : Int) + (7) = ((58 : Nat) : Int) by decide)⟩⟩ else none
    else
     bif Nat.blt pc 58 then
      bif Nat.blt pc 55 then
       if h : pc = 54 then some ⟨(.aload_n 0, 55, .inl 0, 0, 0), by subst h; exact ⟨dX9_told_54, rfl, trivial⟩⟩ else none
      else
       if h : pc = 55 then some ⟨(.getfield 98, 58, .inl 0, 9, 14), by subst h; exact ⟨dX9_told_55, rfl, ⟨⟨_, rfl, by decide, _, Or.inl q1367, Or.inl rfl⟩, (show mKd 14 9 ≤ 4 by decide)⟩⟩⟩ else none
     else
      bif Nat.blt pc 59 then
       if h : pc = 58 then some ⟨(.ireturn, 59, .inl 0, 0, 0), by subst h; exact ⟨dX9_told_58, rfl, rfl⟩⟩ else none
      else
       bif Nat.blt pc 60 then
        if h : pc = 59 then some ⟨(.iload_n 2, 60, .inl 0, 0, 0), by subst h; exact ⟨dX9_told_59, rfl, trivial⟩⟩ else none
       else
        if h : pc = 60 then some ⟨(.bipush 8, 62, .inl 8, 0, 0), by subst h; exact ⟨dX9_told_60, rfl, ⟨8, rfl, by decide⟩⟩⟩ else none
 else
  bif Nat.blt pc 86 then
   bif Nat.blt pc 74 then
    bif Nat.blt pc 70 then
     bif Nat.blt pc 66 then
      bif Nat.blt pc 65 then
       if h : pc = 62 then some ⟨(.if_icmp .ge 16, 65, .inl 0, 78, 0), by subst h; exact ⟨dX9_told_62, rfl, (show ((62 : Nat) : Int) + (16) = ((78 : Nat) : Int) by decide)⟩⟩ else none
      else
       if h : pc = 65 then some ⟨(.aload_n 0, 66, .inl 0, 0, 0), by subst h; exact ⟨dX9_told_65, rfl, trivial⟩⟩ else none
     else
      bif Nat.blt pc 69 then
       if h : pc = 66 then some ⟨(.getfield 26, 69, .inr (.inr none), 10, 14), by subst h; exact ⟨dX9_told_66, rfl, ⟨⟨_, rfl, by decide, _, Or.inl q1368, Or.inl rfl⟩, (show mKd 14 10 = 6 by rfl)⟩⟩⟩ else none
      else
       if h : pc = 69 then some ⟨(.iconst 5, 70, .inl 5, 0, 0), by subst h; exact ⟨dX9_told_69, rfl, ⟨5, rfl, by decide⟩⟩⟩ else none
    else
     bif Nat.blt pc 72 then
      bif Nat.blt pc 71 then
       if h : pc = 70 then some ⟨(.iload_n 1, 71, .inl 0, 0, 0), by subst h; exact ⟨dX9_told_70, rfl, trivial⟩⟩ else none
      else
       if h : pc = 71 then some ⟨(.imul, 72, .inl 0, 0, 0), by subst h; exact ⟨dX9_told_71, rfl, trivial⟩⟩ else none
     else
      bif Nat.blt pc 73 then
       if h : pc = 72 then some ⟨(.iload_n 2, 73, .inl 0, 0, 0), by subst h; exact ⟨dX9_told_72, rfl, trivial⟩⟩ else none
      else
       if h : pc = 73 then some ⟨(.iadd, 74, .inl 0, 0, 0), by subst h; exact ⟨dX9_told_73, rfl, trivial⟩⟩ else none
   else
    bif Nat.blt pc 78 then
     bif Nat.blt pc 76 then
      bif Nat.blt pc 75 then
       if h : pc = 74 then some ⟨(.iconst 3, 75, .inl 3, 0, 0), by subst h; exact ⟨dX9_told_74, rfl, ⟨3, rfl, by decide⟩⟩⟩ else none
      else
       if h : pc = 75 then some ⟨(.isub, 76, .inl 0, 0, 0), by subst h; exact ⟨dX9_told_75, rfl, trivial⟩⟩ else none
     else
      bif Nat.blt pc 77 then
       if h : pc = 76 then some ⟨(.iaload, 77, .inl 0, 0, 0), by subst h; exact ⟨dX9_told_76, rfl, trivial⟩⟩ else none
      else
       if h : pc = 77 then some ⟨(.ireturn, 78, .inl 0, 0, 0), by subst h; exact ⟨dX9_told_77, rfl, rfl⟩⟩ else none
    else
     bif Nat.blt pc 81 then
      bif Nat.blt pc 79 then
       if h : pc = 78 then some ⟨(.iload_n 2, 79, .inl 0, 0, 0), by subst h; exact ⟨dX9_told_78, rfl, trivial⟩⟩ else none
      else
       if h : pc = 79 then some ⟨(.bipush 8, 81, .inl 8, 0, 0), by subst h; exact ⟨dX9_told_79, rfl, ⟨8, rfl, by decide⟩⟩⟩ else none
     else
      bif Nat.blt pc 84 then
       if h : pc = 81 then some ⟨(.if_icmp .ne 11, 84, .inl 0, 92, 0), by subst h; exact ⟨dX9_told_81, rfl, (show ((81 : Nat) : Int) + (11) = ((92 : Nat) : Int) by decide)⟩⟩ else none
      else
       bif Nat.blt pc 85 then
        if h : pc = 84 then some ⟨(.aload_n 0, 85, .inl 0, 0, 0), by subst h; exact ⟨dX9_told_84, rfl, trivial⟩⟩ else none
       else
        if h : pc = 85 then some ⟨(.iload_n 1, 86, .inl 0, 0, 0), by subst h; exact ⟨dX9_told_85, rfl, trivial⟩⟩ else none
  else
   bif Nat.blt pc 103 then
    bif Nat.blt pc 95 then
     bif Nat.blt pc 92 then
      bif Nat.blt pc 89 then
       if h : pc = 86 then some ⟨(.invokevirtual 110, 89, .inl 0, 8, 14), by subst h; exact ⟨dX9_told_86, rfl, ⟨by decide, q1502, q1504, qs60, _, rfl, rfl⟩⟩⟩ else none
      else
       if h : pc = 89 then some ⟨(.goto 30, 92, .inl 0, 119, 0), by subst h; exact ⟨dX9_told_89, rfl, (show ((89 : Nat) : Int) + (30) = ((119 : Nat) : Int) by decide)⟩⟩ else none
     else
      bif Nat.blt pc 93 then
       if h : pc = 92 then some ⟨(.iload_n 2, 93, .inl 0, 0, 0), by subst h; exact ⟨dX9_told_92, rfl, trivial⟩⟩ else none
      else
       if h : pc = 93 then some ⟨(.bipush 9, 95, .inl 9, 0, 0), by subst h; exact ⟨dX9_told_93, rfl, ⟨9, rfl, by decide⟩⟩⟩ else none
    else
     bif Nat.blt pc 99 then
      bif Nat.blt pc 98 then
       if h : pc = 95 then some ⟨(.if_icmp .ne 11, 98, .inl 0, 106, 0), by subst h; exact ⟨dX9_told_95, rfl, (show ((95 : Nat) : Int) + (11) = ((106 : Nat) : Int) by decide)⟩⟩ else none
      else
       if h : pc = 98 then some ⟨(.aload_n 0, 99, .inl 0, 0, 0), by subst h; exact ⟨dX9_told_98, rfl, trivial⟩⟩ else none
     else
      bif Nat.blt pc 100 then
       if h : pc = 99 then some ⟨(.iload_n 1, 100, .inl 0, 0, 0), by subst h; exact ⟨dX9_told_99, rfl, trivial⟩⟩ else none
      else
       if h : pc = 100 then some ⟨(.invokevirtual 113, 103, .inl 0, 58, 14), by subst h; exact ⟨dX9_told_100, rfl, ⟨by decide, q1707, q1709, qs109, _, rfl, rfl⟩⟩⟩ else none
   else
    bif Nat.blt pc 111 then
     bif Nat.blt pc 107 then
      bif Nat.blt pc 106 then
       if h : pc = 103 then some ⟨(.goto 16, 106, .inl 0, 119, 0), by subst h; exact ⟨dX9_told_103, rfl, (show ((103 : Nat) : Int) + (16) = ((119 : Nat) : Int) by decide)⟩⟩ else none
      else
       if h : pc = 106 then some ⟨(.aload_n 0, 107, .inl 0, 0, 0), by subst h; exact ⟨dX9_told_106, rfl, trivial⟩⟩ else none
     else
      bif Nat.blt pc 108 then
       if h : pc = 107 then some ⟨(.iload_n 1, 108, .inl 0, 0, 0), by subst h; exact ⟨dX9_told_107, rfl, trivial⟩⟩ else none
      else
       if h : pc = 108 then some ⟨(.invokevirtual 116, 111, .inl 0, 59, 14), by subst h; exact ⟨dX9_told_108, rfl, ⟨by decide, q1711, q1713, qs110, _, rfl, rfl⟩⟩⟩ else none
    else
     bif Nat.blt pc 115 then
      bif Nat.blt pc 114 then
       if h : pc = 111 then some ⟨(.ifCond .eq 7, 114, .inl 0, 118, 0), by subst h; exact ⟨dX9_told_111, rfl, (show ((111 : Nat) : Int) + (7) = ((118 : Nat) : Int) by decide)⟩⟩ else none
      else
       if h : pc = 114 then some ⟨(.iconst 1, 115, .inl 1, 0, 0), by subst h; exact ⟨dX9_told_114, rfl, ⟨1, rfl, by decide⟩⟩⟩ else none
     else
      bif Nat.blt pc 118 then
       if h : pc = 115 then some ⟨(.goto 4, 118, .inl 0, 119, 0), by subst h; exact ⟨dX9_told_115, rfl, (show ((115 : Nat) : Int) + (4) = ((119 : Nat) : Int) by decide)⟩⟩ else none
      else
       bif Nat.blt pc 119 then
        if h : pc = 118 then some ⟨(.iconst 0, 119, .inl 0, 0, 0), by subst h; exact ⟨dX9_told_118, rfl, ⟨0, rfl, by decide⟩⟩⟩ else none
       else
        if h : pc = 119 then some ⟨(.ireturn, 120, .inl 0, 0, 0), by subst h; exact ⟨dX9_told_119, rfl, rfl⟩⟩ else none

noncomputable def mt8 (pc : Nat) : Option {e : mE // mOK yX9_strongOf cX9_strongOf 6 ((Option.some ClassFile.FieldType.int)) pc e} :=
 bif Nat.blt pc 58 then
  bif Nat.blt pc 26 then
   bif Nat.blt pc 12 then
    bif Nat.blt pc 7 then
     bif Nat.blt pc 4 then
      bif Nat.blt pc 1 then
       if h : pc = 0 then some ⟨(.aload_n 0, 1, .inl 0, 0, 0), by subst h; exact ⟨dX9_strongOf_0, rfl, trivial⟩⟩ else none
      else
       if h : pc = 1 then some ⟨(.getfield 26, 4, .inr (.inr none), 10, 14), by subst h; exact ⟨dX9_strongOf_1, rfl, ⟨⟨_, rfl, by decide, _, Or.inl q1368, Or.inl rfl⟩, (show mKd 14 10 = 6 by rfl)⟩⟩⟩ else none
     else
      bif Nat.blt pc 5 then
       if h : pc = 4 then some ⟨(.iconst 5, 5, .inl 5, 0, 0), by subst h; exact ⟨dX9_strongOf_4, rfl, ⟨5, rfl, by decide⟩⟩⟩ else none
      else
       bif Nat.blt pc 6 then
        if h : pc = 5 then some ⟨(.iload_n 1, 6, .inl 0, 0, 0), by subst h; exact ⟨dX9_strongOf_5, rfl, trivial⟩⟩ else none
       else
        if h : pc = 6 then some ⟨(.imul, 7, .inl 0, 0, 0), by subst h; exact ⟨dX9_strongOf_6, rfl, trivial⟩⟩ else none
    else
     bif Nat.blt pc 9 then
      bif Nat.blt pc 8 then
       if h : pc = 7 then some ⟨(.iconst 4, 8, .inl 4, 0, 0), by subst h; exact ⟨dX9_strongOf_7, rfl, ⟨4, rfl, by decide⟩⟩⟩ else none
      else
       if h : pc = 8 then some ⟨(.iadd, 9, .inl 0, 0, 0), by subst h; exact ⟨dX9_strongOf_8, rfl, trivial⟩⟩ else none
     else
      bif Nat.blt pc 10 then
       if h : pc = 9 then some ⟨(.iaload, 10, .inl 0, 0, 0), by subst h; exact ⟨dX9_strongOf_9, rfl, trivial⟩⟩ else none
      else
       bif Nat.blt pc 11 then
        if h : pc = 10 then some ⟨(.istore_n 2, 11, .inl 0, 0, 0), by subst h; exact ⟨dX9_strongOf_10, rfl, (show (2 : Nat) < 6 by decide)⟩⟩ else none
       else
        if h : pc = 11 then some ⟨(.aload_n 0, 12, .inl 0, 0, 0), by subst h; exact ⟨dX9_strongOf_11, rfl, trivial⟩⟩ else none
   else
    bif Nat.blt pc 19 then
     bif Nat.blt pc 14 then
      bif Nat.blt pc 13 then
       if h : pc = 12 then some ⟨(.iconst 1, 13, .inl 1, 0, 0), by subst h; exact ⟨dX9_strongOf_12, rfl, ⟨1, rfl, by decide⟩⟩⟩ else none
      else
       if h : pc = 13 then some ⟨(.iload_n 1, 14, .inl 0, 0, 0), by subst h; exact ⟨dX9_strongOf_13, rfl, trivial⟩⟩ else none
     else
      bif Nat.blt pc 17 then
       if h : pc = 14 then some ⟨(.invokevirtual 332, 17, .inl 0, 9, 14), by subst h; exact ⟨dX9_strongOf_14, rfl, ⟨by decide, q1506, q1508, qs61, _, rfl, rfl⟩⟩⟩ else none
      else
       bif Nat.blt pc 18 then
        if h : pc = 17 then some ⟨(.istore_n 3, 18, .inl 0, 0, 0), by subst h; exact ⟨dX9_strongOf_17, rfl, (show (3 : Nat) < 6 by decide)⟩⟩ else none
       else
        if h : pc = 18 then some ⟨(.iload_n 3, 19, .inl 0, 0, 0), by subst h; exact ⟨dX9_strongOf_18, rfl, trivial⟩⟩ else none
    else
     bif Nat.blt pc 23 then
      bif Nat.blt pc 20 then
       if h : pc = 19 then some ⟨(.aload_n 0, 20, .inl 0, 0, 0), by subst h; exact ⟨dX9_strongOf_19, rfl, trivial⟩⟩ else none
      else
       if h : pc = 20 then some ⟨(.getfield 26, 23, .inr (.inr none), 10, 14), by subst h; exact ⟨dX9_strongOf_20, rfl, ⟨⟨_, rfl, by decide, _, Or.inl q1368, Or.inl rfl⟩, (show mKd 14 10 = 6 by rfl)⟩⟩⟩ else none
     else
      bif Nat.blt pc 24 then
       if h : pc = 23 then some ⟨(.iconst 5, 24, .inl 5, 0, 0), by subst h; exact ⟨dX9_strongOf_23, rfl, ⟨5, rfl, by decide⟩⟩⟩ else none
      else
       bif Nat.blt pc 25 then
        if h : pc = 24 then some ⟨(.iload_n 1, 25, .inl 0, 0, 0), by subst h; exact ⟨dX9_strongOf_24, rfl, trivial⟩⟩ else none
       else
        if h : pc = 25 then some ⟨(.imul, 26, .inl 0, 0, 0), by subst h; exact ⟨dX9_strongOf_25, rfl, trivial⟩⟩ else none
  else
   bif Nat.blt pc 41 then
    bif Nat.blt pc 33 then
     bif Nat.blt pc 28 then
      bif Nat.blt pc 27 then
       if h : pc = 26 then some ⟨(.iaload, 27, .inl 0, 0, 0), by subst h; exact ⟨dX9_strongOf_26, rfl, trivial⟩⟩ else none
      else
       if h : pc = 27 then some ⟨(.iadd, 28, .inl 0, 0, 0), by subst h; exact ⟨dX9_strongOf_27, rfl, trivial⟩⟩ else none
     else
      bif Nat.blt pc 30 then
       if h : pc = 28 then some ⟨(.istore 4, 30, .inl 0, 0, 0), by subst h; exact ⟨dX9_strongOf_28, rfl, (show (4 : Nat) < 6 by decide)⟩⟩ else none
      else
       bif Nat.blt pc 31 then
        if h : pc = 30 then some ⟨(.iload_n 3, 31, .inl 0, 0, 0), by subst h; exact ⟨dX9_strongOf_30, rfl, trivial⟩⟩ else none
       else
        if h : pc = 31 then some ⟨(.bipush 10, 33, .inl 10, 0, 0), by subst h; exact ⟨dX9_strongOf_31, rfl, ⟨10, rfl, by decide⟩⟩⟩ else none
    else
     bif Nat.blt pc 36 then
      bif Nat.blt pc 34 then
       if h : pc = 33 then some ⟨(.idiv, 34, .inl 0, 0, 0), by subst h; exact ⟨dX9_strongOf_33, rfl, trivial⟩⟩ else none
      else
       if h : pc = 34 then some ⟨(.istore 5, 36, .inl 0, 0, 0), by subst h; exact ⟨dX9_strongOf_34, rfl, (show (5 : Nat) < 6 by decide)⟩⟩ else none
     else
      bif Nat.blt pc 37 then
       if h : pc = 36 then some ⟨(.iload_n 2, 37, .inl 0, 0, 0), by subst h; exact ⟨dX9_strongOf_36, rfl, trivial⟩⟩ else none
      else
       bif Nat.blt pc 38 then
        if h : pc = 37 then some ⟨(.iconst 1, 38, .inl 1, 0, 0), by subst h; exact ⟨dX9_strongOf_37, rfl, ⟨1, rfl, by decide⟩⟩⟩ else none
       else
        if h : pc = 38 then some ⟨(.if_icmp .eq 8, 41, .inl 0, 46, 0), by subst h; exact ⟨dX9_strongOf_38, rfl, (show ((38 : Nat) : Int) + (8) = ((46 : Nat) : Int) by decide)⟩⟩ else none
   else
    bif Nat.blt pc 48 then
     bif Nat.blt pc 43 then
      bif Nat.blt pc 42 then
       if h : pc = 41 then some ⟨(.iload_n 2, 42, .inl 0, 0, 0), by subst h; exact ⟨dX9_strongOf_41, rfl, trivial⟩⟩ else none
      else
       if h : pc = 42 then some ⟨(.iconst 3, 43, .inl 3, 0, 0), by subst h; exact ⟨dX9_strongOf_42, rfl, ⟨3, rfl, by decide⟩⟩⟩ else none
     else
      bif Nat.blt pc 46 then
       if h : pc = 43 then some ⟨(.if_icmp .ne 33, 46, .inl 0, 76, 0), by subst h; exact ⟨dX9_strongOf_43, rfl, (show ((43 : Nat) : Int) + (33) = ((76 : Nat) : Int) by decide)⟩⟩ else none
      else
       bif Nat.blt pc 47 then
        if h : pc = 46 then some ⟨(.iload_n 2, 47, .inl 0, 0, 0), by subst h; exact ⟨dX9_strongOf_46, rfl, trivial⟩⟩ else none
       else
        if h : pc = 47 then some ⟨(.iconst 3, 48, .inl 3, 0, 0), by subst h; exact ⟨dX9_strongOf_47, rfl, ⟨3, rfl, by decide⟩⟩⟩ else none
    else
     bif Nat.blt pc 55 then
      bif Nat.blt pc 51 then
       if h : pc = 48 then some ⟨(.if_icmp .ne 25, 51, .inl 0, 73, 0), by subst h; exact ⟨dX9_strongOf_48, rfl, (show ((48 : Nat) : Int) + (25) = ((73 : Nat) : Int) by decide)⟩⟩ else none
      else
       bif Nat.blt pc 52 then
        if h : pc = 51 then some ⟨(.aload_n 0, 52, .inl 0, 0, 0), by subst h; exact ⟨dX9_strongOf_51, rfl, trivial⟩⟩ else none
       else
        if h : pc = 52 then some ⟨(.getfield 26, 55, .inr (.inr none), 10, 14), by subst h; exact ⟨dX9_strongOf_52, rfl, ⟨⟨_, rfl, by decide, _, Or.inl q1368, Or.inl rfl⟩, (show mKd 14 10 = 6 by rfl)⟩⟩⟩ else none
     else
      bif Nat.blt pc 56 then
       if h : pc = 55 then some ⟨(.iconst 5, 56, .inl 5, 0, 0), by subst h; exact ⟨dX9_strongOf_55, rfl, ⟨5, rfl, by decide⟩⟩⟩ else none
      else
       bif Nat.blt pc 57 then
        if h : pc = 56 then some ⟨(.iload_n 1, 57, .inl 0, 0, 0), by subst h; exact ⟨dX9_strongOf_56, rfl, trivial⟩⟩ else none
       else
        if h : pc = 57 then some ⟨(.imul, 58, .inl 0, 0, 0), by subst h; exact ⟨dX9_strongOf_57, rfl, trivial⟩⟩ else none
 else
  bif Nat.blt pc 95 then
   bif Nat.blt pc 75 then
    bif Nat.blt pc 66 then
     bif Nat.blt pc 60 then
      bif Nat.blt pc 59 then
       if h : pc = 58 then some ⟨(.iconst 2, 59, .inl 2, 0, 0), by subst h; exact ⟨dX9_strongOf_58, rfl, ⟨2, rfl, by decide⟩⟩⟩ else none
      else
       if h : pc = 59 then some ⟨(.iadd, 60, .inl 0, 0, 0), by subst h; exact ⟨dX9_strongOf_59, rfl, trivial⟩⟩ else none
     else
      bif Nat.blt pc 61 then
       if h : pc = 60 then some ⟨(.iaload, 61, .inl 0, 0, 0), by subst h; exact ⟨dX9_strongOf_60, rfl, trivial⟩⟩ else none
      else
       bif Nat.blt pc 63 then
        if h : pc = 61 then some ⟨(.bipush 49, 63, .inl 49, 0, 0), by subst h; exact ⟨dX9_strongOf_61, rfl, ⟨49, rfl, by decide⟩⟩⟩ else none
       else
        if h : pc = 63 then some ⟨(.if_icmp .le 10, 66, .inl 0, 73, 0), by subst h; exact ⟨dX9_strongOf_63, rfl, (show ((63 : Nat) : Int) + (10) = ((73 : Nat) : Int) by decide)⟩⟩ else none
    else
     bif Nat.blt pc 69 then
      bif Nat.blt pc 67 then
       if h : pc = 66 then some ⟨(.iconst 2, 67, .inl 2, 0, 0), by subst h; exact ⟨dX9_strongOf_66, rfl, ⟨2, rfl, by decide⟩⟩⟩ else none
      else
       if h : pc = 67 then some ⟨(.iload 4, 69, .inl 0, 0, 0), by subst h; exact ⟨dX9_strongOf_67, rfl, trivial⟩⟩ else none
     else
      bif Nat.blt pc 70 then
       if h : pc = 69 then some ⟨(.imul, 70, .inl 0, 0, 0), by subst h; exact ⟨dX9_strongOf_69, rfl, trivial⟩⟩ else none
      else
       bif Nat.blt pc 73 then
        if h : pc = 70 then some ⟨(.goto 5, 73, .inl 0, 75, 0), by subst h; exact ⟨dX9_strongOf_70, rfl, (show ((70 : Nat) : Int) + (5) = ((75 : Nat) : Int) by decide)⟩⟩ else none
       else
        if h : pc = 73 then some ⟨(.iload 4, 75, .inl 0, 0, 0), by subst h; exact ⟨dX9_strongOf_73, rfl, trivial⟩⟩ else none
   else
    bif Nat.blt pc 84 then
     bif Nat.blt pc 77 then
      bif Nat.blt pc 76 then
       if h : pc = 75 then some ⟨(.ireturn, 76, .inl 0, 0, 0), by subst h; exact ⟨dX9_strongOf_75, rfl, rfl⟩⟩ else none
      else
       if h : pc = 76 then some ⟨(.iload_n 2, 77, .inl 0, 0, 0), by subst h; exact ⟨dX9_strongOf_76, rfl, trivial⟩⟩ else none
     else
      bif Nat.blt pc 80 then
       if h : pc = 77 then some ⟨(.ifCond .ne 7, 80, .inl 0, 84, 0), by subst h; exact ⟨dX9_strongOf_77, rfl, (show ((77 : Nat) : Int) + (7) = ((84 : Nat) : Int) by decide)⟩⟩ else none
      else
       bif Nat.blt pc 81 then
        if h : pc = 80 then some ⟨(.iload_n 3, 81, .inl 0, 0, 0), by subst h; exact ⟨dX9_strongOf_80, rfl, trivial⟩⟩ else none
       else
        if h : pc = 81 then some ⟨(.goto 45, 84, .inl 0, 126, 0), by subst h; exact ⟨dX9_strongOf_81, rfl, (show ((81 : Nat) : Int) + (45) = ((126 : Nat) : Int) by decide)⟩⟩ else none
    else
     bif Nat.blt pc 89 then
      bif Nat.blt pc 85 then
       if h : pc = 84 then some ⟨(.iload_n 2, 85, .inl 0, 0, 0), by subst h; exact ⟨dX9_strongOf_84, rfl, trivial⟩⟩ else none
      else
       bif Nat.blt pc 86 then
        if h : pc = 85 then some ⟨(.iconst 2, 86, .inl 2, 0, 0), by subst h; exact ⟨dX9_strongOf_85, rfl, ⟨2, rfl, by decide⟩⟩⟩ else none
       else
        if h : pc = 86 then some ⟨(.if_icmp .ne 8, 89, .inl 0, 94, 0), by subst h; exact ⟨dX9_strongOf_86, rfl, (show ((86 : Nat) : Int) + (8) = ((94 : Nat) : Int) by decide)⟩⟩ else none
     else
      bif Nat.blt pc 91 then
       if h : pc = 89 then some ⟨(.iload 5, 91, .inl 0, 0, 0), by subst h; exact ⟨dX9_strongOf_89, rfl, trivial⟩⟩ else none
      else
       bif Nat.blt pc 94 then
        if h : pc = 91 then some ⟨(.goto 35, 94, .inl 0, 126, 0), by subst h; exact ⟨dX9_strongOf_91, rfl, (show ((91 : Nat) : Int) + (35) = ((126 : Nat) : Int) by decide)⟩⟩ else none
       else
        if h : pc = 94 then some ⟨(.iload_n 2, 95, .inl 0, 0, 0), by subst h; exact ⟨dX9_strongOf_94, rfl, trivial⟩⟩ else none
  else
   bif Nat.blt pc 110 then
    bif Nat.blt pc 105 then
     bif Nat.blt pc 99 then
      bif Nat.blt pc 96 then
       if h : pc = 95 then some ⟨(.iconst 4, 96, .inl 4, 0, 0), by subst h; exact ⟨dX9_strongOf_95, rfl, ⟨4, rfl, by decide⟩⟩⟩ else none
      else
       if h : pc = 96 then some ⟨(.if_icmp .ne 19, 99, .inl 0, 115, 0), by subst h; exact ⟨dX9_strongOf_96, rfl, (show ((96 : Nat) : Int) + (19) = ((115 : Nat) : Int) by decide)⟩⟩ else none
     else
      bif Nat.blt pc 101 then
       if h : pc = 99 then some ⟨(.iload 5, 101, .inl 0, 0, 0), by subst h; exact ⟨dX9_strongOf_99, rfl, trivial⟩⟩ else none
      else
       bif Nat.blt pc 102 then
        if h : pc = 101 then some ⟨(.aload_n 0, 102, .inl 0, 0, 0), by subst h; exact ⟨dX9_strongOf_101, rfl, trivial⟩⟩ else none
       else
        if h : pc = 102 then some ⟨(.getfield 26, 105, .inr (.inr none), 10, 14), by subst h; exact ⟨dX9_strongOf_102, rfl, ⟨⟨_, rfl, by decide, _, Or.inl q1368, Or.inl rfl⟩, (show mKd 14 10 = 6 by rfl)⟩⟩⟩ else none
    else
     bif Nat.blt pc 107 then
      bif Nat.blt pc 106 then
       if h : pc = 105 then some ⟨(.iconst 5, 106, .inl 5, 0, 0), by subst h; exact ⟨dX9_strongOf_105, rfl, ⟨5, rfl, by decide⟩⟩⟩ else none
      else
       if h : pc = 106 then some ⟨(.iload_n 1, 107, .inl 0, 0, 0), by subst h; exact ⟨dX9_strongOf_106, rfl, trivial⟩⟩ else none
     else
      bif Nat.blt pc 108 then
       if h : pc = 107 then some ⟨(.imul, 108, .inl 0, 0, 0), by subst h; exact ⟨dX9_strongOf_107, rfl, trivial⟩⟩ else none
      else
       bif Nat.blt pc 109 then
        if h : pc = 108 then some ⟨(.iconst 2, 109, .inl 2, 0, 0), by subst h; exact ⟨dX9_strongOf_108, rfl, ⟨2, rfl, by decide⟩⟩⟩ else none
       else
        if h : pc = 109 then some ⟨(.iadd, 110, .inl 0, 0, 0), by subst h; exact ⟨dX9_strongOf_109, rfl, trivial⟩⟩ else none
   else
    bif Nat.blt pc 117 then
     bif Nat.blt pc 112 then
      bif Nat.blt pc 111 then
       if h : pc = 110 then some ⟨(.iaload, 111, .inl 0, 0, 0), by subst h; exact ⟨dX9_strongOf_110, rfl, trivial⟩⟩ else none
      else
       if h : pc = 111 then some ⟨(.iadd, 112, .inl 0, 0, 0), by subst h; exact ⟨dX9_strongOf_111, rfl, trivial⟩⟩ else none
     else
      bif Nat.blt pc 115 then
       if h : pc = 112 then some ⟨(.goto 14, 115, .inl 0, 126, 0), by subst h; exact ⟨dX9_strongOf_112, rfl, (show ((112 : Nat) : Int) + (14) = ((126 : Nat) : Int) by decide)⟩⟩ else none
      else
       bif Nat.blt pc 116 then
        if h : pc = 115 then some ⟨(.iload_n 3, 116, .inl 0, 0, 0), by subst h; exact ⟨dX9_strongOf_115, rfl, trivial⟩⟩ else none
       else
        if h : pc = 116 then some ⟨(.aload_n 0, 117, .inl 0, 0, 0), by subst h; exact ⟨dX9_strongOf_116, rfl, trivial⟩⟩ else none
    else
     bif Nat.blt pc 124 then
      bif Nat.blt pc 120 then
       if h : pc = 117 then some ⟨(.getfield 23, 120, .inr (.inr none), 7, 14), by subst h; exact ⟨dX9_strongOf_117, rfl, ⟨⟨_, rfl, by decide, _, Or.inl q1365, Or.inl rfl⟩, (show mKd 14 7 = 6 by rfl)⟩⟩⟩ else none
      else
       bif Nat.blt pc 121 then
        if h : pc = 120 then some ⟨(.aload_n 0, 121, .inl 0, 0, 0), by subst h; exact ⟨dX9_strongOf_120, rfl, trivial⟩⟩ else none
       else
        if h : pc = 121 then some ⟨(.getfield 95, 124, .inl 0, 8, 14), by subst h; exact ⟨dX9_strongOf_121, rfl, ⟨⟨_, rfl, by decide, _, Or.inl q1366, Or.inl rfl⟩, (show mKd 14 8 ≤ 4 by decide)⟩⟩⟩ else none
     else
      bif Nat.blt pc 125 then
       if h : pc = 124 then some ⟨(.iaload, 125, .inl 0, 0, 0), by subst h; exact ⟨dX9_strongOf_124, rfl, trivial⟩⟩ else none
      else
       bif Nat.blt pc 126 then
        if h : pc = 125 then some ⟨(.iadd, 126, .inl 0, 0, 0), by subst h; exact ⟨dX9_strongOf_125, rfl, trivial⟩⟩ else none
       else
        if h : pc = 126 then some ⟨(.ireturn, 127, .inl 0, 0, 0), by subst h; exact ⟨dX9_strongOf_126, rfl, rfl⟩⟩ else none

noncomputable def mt9 (pc : Nat) : Option {e : mE // mOK yX9_says cX9_says 3 ((Option.some ClassFile.FieldType.int)) pc e} :=
 bif Nat.blt pc 47 then
  bif Nat.blt pc 20 then
   bif Nat.blt pc 9 then
    bif Nat.blt pc 5 then
     bif Nat.blt pc 1 then
      if h : pc = 0 then some ⟨(.aload_n 0, 1, .inl 0, 0, 0), by subst h; exact ⟨dX9_says_0, rfl, trivial⟩⟩ else none
     else
      bif Nat.blt pc 2 then
       if h : pc = 1 then some ⟨(.aload_n 0, 2, .inl 0, 0, 0), by subst h; exact ⟨dX9_says_1, rfl, trivial⟩⟩ else none
      else
       if h : pc = 2 then some ⟨(.getfield 26, 5, .inr (.inr none), 10, 14), by subst h; exact ⟨dX9_says_2, rfl, ⟨⟨_, rfl, by decide, _, Or.inl q1368, Or.inl rfl⟩, (show mKd 14 10 = 6 by rfl)⟩⟩⟩ else none
    else
     bif Nat.blt pc 7 then
      bif Nat.blt pc 6 then
       if h : pc = 5 then some ⟨(.iconst 5, 6, .inl 5, 0, 0), by subst h; exact ⟨dX9_says_5, rfl, ⟨5, rfl, by decide⟩⟩⟩ else none
      else
       if h : pc = 6 then some ⟨(.iload_n 2, 7, .inl 0, 0, 0), by subst h; exact ⟨dX9_says_6, rfl, trivial⟩⟩ else none
     else
      bif Nat.blt pc 8 then
       if h : pc = 7 then some ⟨(.imul, 8, .inl 0, 0, 0), by subst h; exact ⟨dX9_says_7, rfl, trivial⟩⟩ else none
      else
       if h : pc = 8 then some ⟨(.iconst 1, 9, .inl 1, 0, 0), by subst h; exact ⟨dX9_says_8, rfl, ⟨1, rfl, by decide⟩⟩⟩ else none
   else
    bif Nat.blt pc 14 then
     bif Nat.blt pc 10 then
      if h : pc = 9 then some ⟨(.iadd, 10, .inl 0, 0, 0), by subst h; exact ⟨dX9_says_9, rfl, trivial⟩⟩ else none
     else
      bif Nat.blt pc 11 then
       if h : pc = 10 then some ⟨(.iaload, 11, .inl 0, 0, 0), by subst h; exact ⟨dX9_says_10, rfl, trivial⟩⟩ else none
      else
       if h : pc = 11 then some ⟨(.putfield 177, 14, .inl 0, 12, 14), by subst h; exact ⟨dX9_says_11, rfl, ⟨⟨_, rfl, by decide, _, Or.inl q1370, Or.inl rfl⟩, (show mKd 14 12 ≤ 4 by decide), by decide, by decide, (fun q h => Or.inl (by cases h; rfl))⟩⟩⟩ else none
    else
     bif Nat.blt pc 16 then
      bif Nat.blt pc 15 then
       if h : pc = 14 then some ⟨(.aload_n 0, 15, .inl 0, 0, 0), by subst h; exact ⟨dX9_says_14, rfl, trivial⟩⟩ else none
      else
       if h : pc = 15 then some ⟨(.aload_n 0, 16, .inl 0, 0, 0), by subst h; exact ⟨dX9_says_15, rfl, trivial⟩⟩ else none
     else
      bif Nat.blt pc 19 then
       if h : pc = 16 then some ⟨(.getfield 26, 19, .inr (.inr none), 10, 14), by subst h; exact ⟨dX9_says_16, rfl, ⟨⟨_, rfl, by decide, _, Or.inl q1368, Or.inl rfl⟩, (show mKd 14 10 = 6 by rfl)⟩⟩⟩ else none
      else
       if h : pc = 19 then some ⟨(.iconst 5, 20, .inl 5, 0, 0), by subst h; exact ⟨dX9_says_19, rfl, ⟨5, rfl, by decide⟩⟩⟩ else none
  else
   bif Nat.blt pc 31 then
    bif Nat.blt pc 23 then
     bif Nat.blt pc 21 then
      if h : pc = 20 then some ⟨(.iload_n 2, 21, .inl 0, 0, 0), by subst h; exact ⟨dX9_says_20, rfl, trivial⟩⟩ else none
     else
      bif Nat.blt pc 22 then
       if h : pc = 21 then some ⟨(.imul, 22, .inl 0, 0, 0), by subst h; exact ⟨dX9_says_21, rfl, trivial⟩⟩ else none
      else
       if h : pc = 22 then some ⟨(.iaload, 23, .inl 0, 0, 0), by subst h; exact ⟨dX9_says_22, rfl, trivial⟩⟩ else none
    else
     bif Nat.blt pc 27 then
      bif Nat.blt pc 26 then
       if h : pc = 23 then some ⟨(.putfield 180, 26, .inl 0, 13, 14), by subst h; exact ⟨dX9_says_23, rfl, ⟨⟨_, rfl, by decide, _, Or.inl q1371, Or.inl rfl⟩, (show mKd 14 13 ≤ 4 by decide), by decide, by decide, (fun q h => Or.inl (by cases h; rfl))⟩⟩⟩ else none
      else
       if h : pc = 26 then some ⟨(.aload_n 0, 27, .inl 0, 0, 0), by subst h; exact ⟨dX9_says_26, rfl, trivial⟩⟩ else none
     else
      bif Nat.blt pc 28 then
       if h : pc = 27 then some ⟨(.aload_n 0, 28, .inl 0, 0, 0), by subst h; exact ⟨dX9_says_27, rfl, trivial⟩⟩ else none
      else
       if h : pc = 28 then some ⟨(.getfield 95, 31, .inl 0, 8, 14), by subst h; exact ⟨dX9_says_28, rfl, ⟨⟨_, rfl, by decide, _, Or.inl q1366, Or.inl rfl⟩, (show mKd 14 8 ≤ 4 by decide)⟩⟩⟩ else none
   else
    bif Nat.blt pc 39 then
     bif Nat.blt pc 35 then
      bif Nat.blt pc 34 then
       if h : pc = 31 then some ⟨(.putfield 183, 34, .inl 0, 14, 14), by subst h; exact ⟨dX9_says_31, rfl, ⟨⟨_, rfl, by decide, _, Or.inl q1372, Or.inl rfl⟩, (show mKd 14 14 ≤ 4 by decide), by decide, by decide, (fun q h => Or.inl (by cases h; rfl))⟩⟩⟩ else none
      else
       if h : pc = 34 then some ⟨(.aload_n 0, 35, .inl 0, 0, 0), by subst h; exact ⟨dX9_says_34, rfl, trivial⟩⟩ else none
     else
      bif Nat.blt pc 36 then
       if h : pc = 35 then some ⟨(.aload_n 0, 36, .inl 0, 0, 0), by subst h; exact ⟨dX9_says_35, rfl, trivial⟩⟩ else none
      else
       if h : pc = 36 then some ⟨(.getfield 98, 39, .inl 0, 9, 14), by subst h; exact ⟨dX9_says_36, rfl, ⟨⟨_, rfl, by decide, _, Or.inl q1367, Or.inl rfl⟩, (show mKd 14 9 ≤ 4 by decide)⟩⟩⟩ else none
    else
     bif Nat.blt pc 43 then
      bif Nat.blt pc 42 then
       if h : pc = 39 then some ⟨(.putfield 186, 42, .inl 0, 15, 14), by subst h; exact ⟨dX9_says_39, rfl, ⟨⟨_, rfl, by decide, _, Or.inl q1373, Or.inl rfl⟩, (show mKd 14 15 ≤ 4 by decide), by decide, by decide, (fun q h => Or.inl (by cases h; rfl))⟩⟩⟩ else none
      else
       if h : pc = 42 then some ⟨(.aload_n 0, 43, .inl 0, 0, 0), by subst h; exact ⟨dX9_says_42, rfl, trivial⟩⟩ else none
     else
      bif Nat.blt pc 44 then
       if h : pc = 43 then some ⟨(.aload_n 0, 44, .inl 0, 0, 0), by subst h; exact ⟨dX9_says_43, rfl, trivial⟩⟩ else none
      else
       if h : pc = 44 then some ⟨(.getfield 26, 47, .inr (.inr none), 10, 14), by subst h; exact ⟨dX9_says_44, rfl, ⟨⟨_, rfl, by decide, _, Or.inl q1368, Or.inl rfl⟩, (show mKd 14 10 = 6 by rfl)⟩⟩⟩ else none
 else
  bif Nat.blt pc 67 then
   bif Nat.blt pc 56 then
    bif Nat.blt pc 50 then
     bif Nat.blt pc 48 then
      if h : pc = 47 then some ⟨(.iconst 5, 48, .inl 5, 0, 0), by subst h; exact ⟨dX9_says_47, rfl, ⟨5, rfl, by decide⟩⟩⟩ else none
     else
      bif Nat.blt pc 49 then
       if h : pc = 48 then some ⟨(.iload_n 2, 49, .inl 0, 0, 0), by subst h; exact ⟨dX9_says_48, rfl, trivial⟩⟩ else none
      else
       if h : pc = 49 then some ⟨(.imul, 50, .inl 0, 0, 0), by subst h; exact ⟨dX9_says_49, rfl, trivial⟩⟩ else none
    else
     bif Nat.blt pc 52 then
      bif Nat.blt pc 51 then
       if h : pc = 50 then some ⟨(.iconst 2, 51, .inl 2, 0, 0), by subst h; exact ⟨dX9_says_50, rfl, ⟨2, rfl, by decide⟩⟩⟩ else none
      else
       if h : pc = 51 then some ⟨(.iadd, 52, .inl 0, 0, 0), by subst h; exact ⟨dX9_says_51, rfl, trivial⟩⟩ else none
     else
      bif Nat.blt pc 53 then
       if h : pc = 52 then some ⟨(.iaload, 53, .inl 0, 0, 0), by subst h; exact ⟨dX9_says_52, rfl, trivial⟩⟩ else none
      else
       if h : pc = 53 then some ⟨(.putfield 189, 56, .inl 0, 16, 14), by subst h; exact ⟨dX9_says_53, rfl, ⟨⟨_, rfl, by decide, _, Or.inl q1374, Or.inl rfl⟩, (show mKd 14 16 ≤ 4 by decide), by decide, by decide, (fun q h => Or.inl (by cases h; rfl))⟩⟩⟩ else none
   else
    bif Nat.blt pc 61 then
     bif Nat.blt pc 57 then
      if h : pc = 56 then some ⟨(.aload_n 0, 57, .inl 0, 0, 0), by subst h; exact ⟨dX9_says_56, rfl, trivial⟩⟩ else none
     else
      bif Nat.blt pc 58 then
       if h : pc = 57 then some ⟨(.aload_n 0, 58, .inl 0, 0, 0), by subst h; exact ⟨dX9_says_57, rfl, trivial⟩⟩ else none
      else
       if h : pc = 58 then some ⟨(.invokevirtual 325, 61, .inl 0, 10, 14), by subst h; exact ⟨dX9_says_58, rfl, ⟨by decide, q1510, q1512, qs62, _, rfl, rfl⟩⟩⟩ else none
    else
     bif Nat.blt pc 65 then
      bif Nat.blt pc 62 then
       if h : pc = 61 then some ⟨(.aload_n 0, 62, .inl 0, 0, 0), by subst h; exact ⟨dX9_says_61, rfl, trivial⟩⟩ else none
      else
       if h : pc = 62 then some ⟨(.getfield 26, 65, .inr (.inr none), 10, 14), by subst h; exact ⟨dX9_says_62, rfl, ⟨⟨_, rfl, by decide, _, Or.inl q1368, Or.inl rfl⟩, (show mKd 14 10 = 6 by rfl)⟩⟩⟩ else none
     else
      bif Nat.blt pc 66 then
       if h : pc = 65 then some ⟨(.iconst 5, 66, .inl 5, 0, 0), by subst h; exact ⟨dX9_says_65, rfl, ⟨5, rfl, by decide⟩⟩⟩ else none
      else
       if h : pc = 66 then some ⟨(.iload_n 2, 67, .inl 0, 0, 0), by subst h; exact ⟨dX9_says_66, rfl, trivial⟩⟩ else none
  else
   bif Nat.blt pc 76 then
    bif Nat.blt pc 70 then
     bif Nat.blt pc 68 then
      if h : pc = 67 then some ⟨(.imul, 68, .inl 0, 0, 0), by subst h; exact ⟨dX9_says_67, rfl, trivial⟩⟩ else none
     else
      bif Nat.blt pc 69 then
       if h : pc = 68 then some ⟨(.iconst 3, 69, .inl 3, 0, 0), by subst h; exact ⟨dX9_says_68, rfl, ⟨3, rfl, by decide⟩⟩⟩ else none
      else
       if h : pc = 69 then some ⟨(.iadd, 70, .inl 0, 0, 0), by subst h; exact ⟨dX9_says_69, rfl, trivial⟩⟩ else none
    else
     bif Nat.blt pc 72 then
      bif Nat.blt pc 71 then
       if h : pc = 70 then some ⟨(.iaload, 71, .inl 0, 0, 0), by subst h; exact ⟨dX9_says_70, rfl, trivial⟩⟩ else none
      else
       if h : pc = 71 then some ⟨(.isub, 72, .inl 0, 0, 0), by subst h; exact ⟨dX9_says_71, rfl, trivial⟩⟩ else none
     else
      bif Nat.blt pc 75 then
       if h : pc = 72 then some ⟨(.putfield 192, 75, .inl 0, 17, 14), by subst h; exact ⟨dX9_says_72, rfl, ⟨⟨_, rfl, by decide, _, Or.inl q1375, Or.inl rfl⟩, (show mKd 14 17 ≤ 4 by decide), by decide, by decide, (fun q h => Or.inl (by cases h; rfl))⟩⟩⟩ else none
      else
       if h : pc = 75 then some ⟨(.aload_n 0, 76, .inl 0, 0, 0), by subst h; exact ⟨dX9_says_75, rfl, trivial⟩⟩ else none
   else
    bif Nat.blt pc 84 then
     bif Nat.blt pc 80 then
      bif Nat.blt pc 77 then
       if h : pc = 76 then some ⟨(.aload_n 0, 77, .inl 0, 0, 0), by subst h; exact ⟨dX9_says_76, rfl, trivial⟩⟩ else none
      else
       if h : pc = 77 then some ⟨(.getfield 101, 80, .inl 0, 4, 14), by subst h; exact ⟨dX9_says_77, rfl, ⟨⟨_, rfl, by decide, _, Or.inl q1362, Or.inl rfl⟩, (show mKd 14 4 ≤ 4 by decide)⟩⟩⟩ else none
     else
      bif Nat.blt pc 81 then
       if h : pc = 80 then some ⟨(.iload_n 1, 81, .inl 0, 0, 0), by subst h; exact ⟨dX9_says_80, rfl, trivial⟩⟩ else none
      else
       if h : pc = 81 then some ⟨(.invokevirtual 322, 84, .inl 0, 11, 14), by subst h; exact ⟨dX9_says_81, rfl, ⟨by decide, q1514, q1516, qs63, _, rfl, rfl⟩⟩⟩ else none
    else
     bif Nat.blt pc 87 then
      bif Nat.blt pc 85 then
       if h : pc = 84 then some ⟨(.iconst 0, 85, .inl 0, 0, 0), by subst h; exact ⟨dX9_says_84, rfl, ⟨0, rfl, by decide⟩⟩⟩ else none
      else
       if h : pc = 85 then some ⟨(.bipush 99, 87, .inl 99, 0, 0), by subst h; exact ⟨dX9_says_85, rfl, ⟨99, rfl, by decide⟩⟩⟩ else none
     else
      bif Nat.blt pc 90 then
       if h : pc = 87 then some ⟨(.invokestatic 328, 90, .inl 0, 57, 0), by subst h; exact ⟨dX9_says_87, rfl, Or.inl ⟨by decide, q1704, q1705⟩⟩⟩ else none
      else
       if h : pc = 90 then some ⟨(.ireturn, 91, .inl 0, 0, 0), by subst h; exact ⟨dX9_says_90, rfl, rfl⟩⟩ else none

noncomputable def mt10 (pc : Nat) : Option {e : mE // mOK yX9_hereMany cX9_hereMany 3 ((Option.some ClassFile.FieldType.int)) pc e} :=
 bif Nat.blt pc 17 then
  bif Nat.blt pc 5 then
   bif Nat.blt pc 2 then
    bif Nat.blt pc 1 then
     if h : pc = 0 then some ⟨(.iconst 0, 1, .inl 0, 0, 0), by subst h; exact ⟨dX9_hereMany_0, rfl, ⟨0, rfl, by decide⟩⟩⟩ else none
    else
     if h : pc = 1 then some ⟨(.istore_n 1, 2, .inl 0, 0, 0), by subst h; exact ⟨dX9_hereMany_1, rfl, (show (1 : Nat) < 3 by decide)⟩⟩ else none
   else
    bif Nat.blt pc 3 then
     if h : pc = 2 then some ⟨(.iconst 0, 3, .inl 0, 0, 0), by subst h; exact ⟨dX9_hereMany_2, rfl, ⟨0, rfl, by decide⟩⟩⟩ else none
    else
     bif Nat.blt pc 4 then
      if h : pc = 3 then some ⟨(.istore_n 2, 4, .inl 0, 0, 0), by subst h; exact ⟨dX9_hereMany_3, rfl, (show (2 : Nat) < 3 by decide)⟩⟩ else none
     else
      if h : pc = 4 then some ⟨(.iload_n 2, 5, .inl 0, 0, 0), by subst h; exact ⟨dX9_hereMany_4, rfl, trivial⟩⟩ else none
  else
   bif Nat.blt pc 12 then
    bif Nat.blt pc 6 then
     if h : pc = 5 then some ⟨(.aload_n 0, 6, .inl 0, 0, 0), by subst h; exact ⟨dX9_hereMany_5, rfl, trivial⟩⟩ else none
    else
     bif Nat.blt pc 9 then
      if h : pc = 6 then some ⟨(.getfield 64, 9, .inl 0, 11, 14), by subst h; exact ⟨dX9_hereMany_6, rfl, ⟨⟨_, rfl, by decide, _, Or.inl q1369, Or.inl rfl⟩, (show mKd 14 11 ≤ 4 by decide)⟩⟩⟩ else none
     else
      if h : pc = 9 then some ⟨(.if_icmp .ge 22, 12, .inl 0, 31, 0), by subst h; exact ⟨dX9_hereMany_9, rfl, (show ((9 : Nat) : Int) + (22) = ((31 : Nat) : Int) by decide)⟩⟩ else none
   else
    bif Nat.blt pc 13 then
     if h : pc = 12 then some ⟨(.iload_n 1, 13, .inl 0, 0, 0), by subst h; exact ⟨dX9_hereMany_12, rfl, trivial⟩⟩ else none
    else
     bif Nat.blt pc 14 then
      if h : pc = 13 then some ⟨(.aload_n 0, 14, .inl 0, 0, 0), by subst h; exact ⟨dX9_hereMany_13, rfl, trivial⟩⟩ else none
     else
      if h : pc = 14 then some ⟨(.getfield 26, 17, .inr (.inr none), 10, 14), by subst h; exact ⟨dX9_hereMany_14, rfl, ⟨⟨_, rfl, by decide, _, Or.inl q1368, Or.inl rfl⟩, (show mKd 14 10 = 6 by rfl)⟩⟩⟩ else none
 else
  bif Nat.blt pc 23 then
   bif Nat.blt pc 20 then
    bif Nat.blt pc 18 then
     if h : pc = 17 then some ⟨(.iconst 5, 18, .inl 5, 0, 0), by subst h; exact ⟨dX9_hereMany_17, rfl, ⟨5, rfl, by decide⟩⟩⟩ else none
    else
     bif Nat.blt pc 19 then
      if h : pc = 18 then some ⟨(.iload_n 2, 19, .inl 0, 0, 0), by subst h; exact ⟨dX9_hereMany_18, rfl, trivial⟩⟩ else none
     else
      if h : pc = 19 then some ⟨(.imul, 20, .inl 0, 0, 0), by subst h; exact ⟨dX9_hereMany_19, rfl, trivial⟩⟩ else none
   else
    bif Nat.blt pc 21 then
     if h : pc = 20 then some ⟨(.iconst 3, 21, .inl 3, 0, 0), by subst h; exact ⟨dX9_hereMany_20, rfl, ⟨3, rfl, by decide⟩⟩⟩ else none
    else
     bif Nat.blt pc 22 then
      if h : pc = 21 then some ⟨(.iadd, 22, .inl 0, 0, 0), by subst h; exact ⟨dX9_hereMany_21, rfl, trivial⟩⟩ else none
     else
      if h : pc = 22 then some ⟨(.iaload, 23, .inl 0, 0, 0), by subst h; exact ⟨dX9_hereMany_22, rfl, trivial⟩⟩ else none
  else
   bif Nat.blt pc 28 then
    bif Nat.blt pc 24 then
     if h : pc = 23 then some ⟨(.iadd, 24, .inl 0, 0, 0), by subst h; exact ⟨dX9_hereMany_23, rfl, trivial⟩⟩ else none
    else
     bif Nat.blt pc 25 then
      if h : pc = 24 then some ⟨(.istore_n 1, 25, .inl 0, 0, 0), by subst h; exact ⟨dX9_hereMany_24, rfl, (show (1 : Nat) < 3 by decide)⟩⟩ else none
     else
      if h : pc = 25 then some ⟨(.iinc 2 1, 28, .inl 1, 0, 0), by subst h; exact ⟨dX9_hereMany_25, rfl, ⟨(show (2 : Nat) < 3 by decide), 1, rfl, by decide⟩⟩⟩ else none
   else
    bif Nat.blt pc 31 then
     if h : pc = 28 then some ⟨(.goto (-24), 31, .inl 0, 4, 0), by subst h; exact ⟨dX9_hereMany_28, rfl, (show ((28 : Nat) : Int) + ((-24)) = ((4 : Nat) : Int) by decide)⟩⟩ else none
    else
     bif Nat.blt pc 32 then
      if h : pc = 31 then some ⟨(.iload_n 1, 32, .inl 0, 0, 0), by subst h; exact ⟨dX9_hereMany_31, rfl, trivial⟩⟩ else none
     else
      if h : pc = 32 then some ⟨(.ireturn, 33, .inl 0, 0, 0), by subst h; exact ⟨dX9_hereMany_32, rfl, rfl⟩⟩ else none

noncomputable def mt11 (pc : Nat) : Option {e : mE // mOK yX9_read cX9_read 6 ((Option.some ClassFile.FieldType.int)) pc e} :=
 bif Nat.blt pc 79 then
  bif Nat.blt pc 38 then
   bif Nat.blt pc 19 then
    bif Nat.blt pc 9 then
     bif Nat.blt pc 4 then
      bif Nat.blt pc 1 then
       if h : pc = 0 then some ⟨(.aload_n 0, 1, .inl 0, 0, 0), by subst h; exact ⟨dX9_read_0, rfl, trivial⟩⟩ else none
      else
       if h : pc = 1 then some ⟨(.sipush 160, 4, .inl 160, 0, 0), by subst h; exact ⟨dX9_read_1, rfl, ⟨160, rfl, by decide⟩⟩⟩ else none
     else
      bif Nat.blt pc 5 then
       if h : pc = 4 then some ⟨(.iload_n 1, 5, .inl 0, 0, 0), by subst h; exact ⟨dX9_read_4, rfl, trivial⟩⟩ else none
      else
       bif Nat.blt pc 6 then
        if h : pc = 5 then some ⟨(.imul, 6, .inl 0, 0, 0), by subst h; exact ⟨dX9_read_5, rfl, trivial⟩⟩ else none
       else
        if h : pc = 6 then some ⟨(.putfield 127, 9, .inl 0, 18, 14), by subst h; exact ⟨dX9_read_6, rfl, ⟨⟨_, rfl, by decide, _, Or.inl q1376, Or.inl rfl⟩, (show mKd 14 18 ≤ 4 by decide), by decide, by decide, (fun q h => Or.inl (by cases h; rfl))⟩⟩⟩ else none
    else
     bif Nat.blt pc 14 then
      bif Nat.blt pc 10 then
       if h : pc = 9 then some ⟨(.aload_n 0, 10, .inl 0, 0, 0), by subst h; exact ⟨dX9_read_9, rfl, trivial⟩⟩ else none
      else
       bif Nat.blt pc 11 then
        if h : pc = 10 then some ⟨(.aload_n 0, 11, .inl 0, 0, 0), by subst h; exact ⟨dX9_read_10, rfl, trivial⟩⟩ else none
       else
        if h : pc = 11 then some ⟨(.getfield 17, 14, .inr (.inr none), 2, 14), by subst h; exact ⟨dX9_read_11, rfl, ⟨⟨_, rfl, by decide, _, Or.inl q1360, Or.inl rfl⟩, (show mKd 14 2 = 6 by rfl)⟩⟩⟩ else none
     else
      bif Nat.blt pc 15 then
       if h : pc = 14 then some ⟨(.iload_n 1, 15, .inl 0, 0, 0), by subst h; exact ⟨dX9_read_14, rfl, trivial⟩⟩ else none
      else
       bif Nat.blt pc 16 then
        if h : pc = 15 then some ⟨(.iaload, 16, .inl 0, 0, 0), by subst h; exact ⟨dX9_read_15, rfl, trivial⟩⟩ else none
       else
        if h : pc = 16 then some ⟨(.putfield 124, 19, .inl 0, 19, 14), by subst h; exact ⟨dX9_read_16, rfl, ⟨⟨_, rfl, by decide, _, Or.inl q1377, Or.inl rfl⟩, (show mKd 14 19 ≤ 4 by decide), by decide, by decide, (fun q h => Or.inl (by cases h; rfl))⟩⟩⟩ else none
   else
    bif Nat.blt pc 26 then
     bif Nat.blt pc 21 then
      bif Nat.blt pc 20 then
       if h : pc = 19 then some ⟨(.aload_n 0, 20, .inl 0, 0, 0), by subst h; exact ⟨dX9_read_19, rfl, trivial⟩⟩ else none
      else
       if h : pc = 20 then some ⟨(.iconst 0, 21, .inl 0, 0, 0), by subst h; exact ⟨dX9_read_20, rfl, ⟨0, rfl, by decide⟩⟩⟩ else none
     else
      bif Nat.blt pc 24 then
       if h : pc = 21 then some ⟨(.putfield 130, 24, .inl 0, 20, 14), by subst h; exact ⟨dX9_read_21, rfl, ⟨⟨_, rfl, by decide, _, Or.inl q1378, Or.inl rfl⟩, (show mKd 14 20 ≤ 4 by decide), by decide, by decide, (fun q h => Or.inl (by cases h; rfl))⟩⟩⟩ else none
      else
       bif Nat.blt pc 25 then
        if h : pc = 24 then some ⟨(.aload_n 0, 25, .inl 0, 0, 0), by subst h; exact ⟨dX9_read_24, rfl, trivial⟩⟩ else none
       else
        if h : pc = 25 then some ⟨(.iconst 0, 26, .inl 0, 0, 0), by subst h; exact ⟨dX9_read_25, rfl, ⟨0, rfl, by decide⟩⟩⟩ else none
    else
     bif Nat.blt pc 31 then
      bif Nat.blt pc 29 then
       if h : pc = 26 then some ⟨(.putfield 164, 29, .inl 0, 24, 14), by subst h; exact ⟨dX9_read_26, rfl, ⟨⟨_, rfl, by decide, _, Or.inl q1382, Or.inl rfl⟩, (show mKd 14 24 ≤ 4 by decide), by decide, by decide, (fun q h => Or.inl (by cases h; rfl))⟩⟩⟩ else none
      else
       bif Nat.blt pc 30 then
        if h : pc = 29 then some ⟨(.aload_n 0, 30, .inl 0, 0, 0), by subst h; exact ⟨dX9_read_29, rfl, trivial⟩⟩ else none
       else
        if h : pc = 30 then some ⟨(.iconst 0, 31, .inl 0, 0, 0), by subst h; exact ⟨dX9_read_30, rfl, ⟨0, rfl, by decide⟩⟩⟩ else none
     else
      bif Nat.blt pc 34 then
       if h : pc = 31 then some ⟨(.putfield 154, 34, .inl 0, 25, 114), by subst h; exact ⟨dX9_read_31, rfl, ⟨⟨_, rfl, by decide, _, Or.inl q1383, Or.inl rfl⟩, (show mKd 14 25 ≤ 4 by decide), by decide, by decide, (fun q h => Or.inl (by cases h; rfl))⟩⟩⟩ else none
      else
       bif Nat.blt pc 35 then
        if h : pc = 34 then some ⟨(.aload_n 0, 35, .inl 0, 0, 0), by subst h; exact ⟨dX9_read_34, rfl, trivial⟩⟩ else none
       else
        if h : pc = 35 then some ⟨(.invokevirtual 170, 38, .inl 0, 12, 14), by subst h; exact ⟨dX9_read_35, rfl, ⟨by decide, q1518, q1520, qs64, _, rfl, rfl⟩⟩⟩ else none
  else
   bif Nat.blt pc 56 then
    bif Nat.blt pc 46 then
     bif Nat.blt pc 40 then
      bif Nat.blt pc 39 then
       if h : pc = 38 then some ⟨(.aload_n 0, 39, .inl 0, 0, 0), by subst h; exact ⟨dX9_read_38, rfl, trivial⟩⟩ else none
      else
       if h : pc = 39 then some ⟨(.aload_n 0, 40, .inl 0, 0, 0), by subst h; exact ⟨dX9_read_39, rfl, trivial⟩⟩ else none
     else
      bif Nat.blt pc 42 then
       if h : pc = 40 then some ⟨(.bipush 102, 42, .inl 102, 0, 0), by subst h; exact ⟨dX9_read_40, rfl, ⟨102, rfl, by decide⟩⟩⟩ else none
      else
       bif Nat.blt pc 44 then
        if h : pc = 42 then some ⟨(.bipush 101, 44, .inl 101, 0, 0), by subst h; exact ⟨dX9_read_42, rfl, ⟨101, rfl, by decide⟩⟩⟩ else none
       else
        if h : pc = 44 then some ⟨(.bipush 101, 46, .inl 101, 0, 0), by subst h; exact ⟨dX9_read_44, rfl, ⟨101, rfl, by decide⟩⟩⟩ else none
    else
     bif Nat.blt pc 51 then
      bif Nat.blt pc 48 then
       if h : pc = 46 then some ⟨(.bipush 108, 48, .inl 108, 0, 0), by subst h; exact ⟨dX9_read_46, rfl, ⟨108, rfl, by decide⟩⟩⟩ else none
      else
       bif Nat.blt pc 50 then
        if h : pc = 48 then some ⟨(.bipush 115, 50, .inl 115, 0, 0), by subst h; exact ⟨dX9_read_48, rfl, ⟨115, rfl, by decide⟩⟩⟩ else none
       else
        if h : pc = 50 then some ⟨(.iconst 0, 51, .inl 0, 0, 0), by subst h; exact ⟨dX9_read_50, rfl, ⟨0, rfl, by decide⟩⟩⟩ else none
     else
      bif Nat.blt pc 52 then
       if h : pc = 51 then some ⟨(.iconst 0, 52, .inl 0, 0, 0), by subst h; exact ⟨dX9_read_51, rfl, ⟨0, rfl, by decide⟩⟩⟩ else none
      else
       bif Nat.blt pc 53 then
        if h : pc = 52 then some ⟨(.iconst 0, 53, .inl 0, 0, 0), by subst h; exact ⟨dX9_read_52, rfl, ⟨0, rfl, by decide⟩⟩⟩ else none
       else
        if h : pc = 53 then some ⟨(.invokevirtual 173, 56, .inl 0, 14, 14), by subst h; exact ⟨dX9_read_53, rfl, ⟨by decide, q1530, q1532, qs66, _, rfl, rfl⟩⟩⟩ else none
   else
    bif Nat.blt pc 68 then
     bif Nat.blt pc 61 then
      bif Nat.blt pc 59 then
       if h : pc = 56 then some ⟨(.invokevirtual 318, 59, .inl 0, 16, 14), by subst h; exact ⟨dX9_read_56, rfl, ⟨by decide, q1538, q1540, qs68, _, rfl, rfl⟩⟩⟩ else none
      else
       bif Nat.blt pc 60 then
        if h : pc = 59 then some ⟨(.istore_n 3, 60, .inl 0, 0, 0), by subst h; exact ⟨dX9_read_59, rfl, (show (3 : Nat) < 6 by decide)⟩⟩ else none
       else
        if h : pc = 60 then some ⟨(.aload_n 0, 61, .inl 0, 0, 0), by subst h; exact ⟨dX9_read_60, rfl, trivial⟩⟩ else none
     else
      bif Nat.blt pc 64 then
       if h : pc = 61 then some ⟨(.getfield 154, 64, .inl 0, 25, 14), by subst h; exact ⟨dX9_read_61, rfl, ⟨⟨_, rfl, by decide, _, Or.inl q1383, Or.inl rfl⟩, (show mKd 14 25 ≤ 4 by decide)⟩⟩⟩ else none
      else
       bif Nat.blt pc 67 then
        if h : pc = 64 then some ⟨(.ifCond .eq 7, 67, .inl 0, 71, 0), by subst h; exact ⟨dX9_read_64, rfl, (show ((64 : Nat) : Int) + (7) = ((71 : Nat) : Int) by decide)⟩⟩ else none
       else
        if h : pc = 67 then some ⟨(.iconst 0, 68, .inl 0, 0, 0), by subst h; exact ⟨dX9_read_67, rfl, ⟨0, rfl, by decide⟩⟩⟩ else none
    else
     bif Nat.blt pc 73 then
      bif Nat.blt pc 71 then
       if h : pc = 68 then some ⟨(.goto 25, 71, .inl 0, 93, 0), by subst h; exact ⟨dX9_read_68, rfl, (show ((68 : Nat) : Int) + (25) = ((93 : Nat) : Int) by decide)⟩⟩ else none
      else
       bif Nat.blt pc 72 then
        if h : pc = 71 then some ⟨(.aload_n 0, 72, .inl 0, 0, 0), by subst h; exact ⟨dX9_read_71, rfl, trivial⟩⟩ else none
       else
        if h : pc = 72 then some ⟨(.aload_n 0, 73, .inl 0, 0, 0), by subst h; exact ⟨dX9_read_72, rfl, trivial⟩⟩ else none
     else
      bif Nat.blt pc 75 then
       if h : pc = 73 then some ⟨(.bipush 115, 75, .inl 115, 0, 0), by subst h; exact ⟨dX9_read_73, rfl, ⟨115, rfl, by decide⟩⟩⟩ else none
      else
       bif Nat.blt pc 77 then
        if h : pc = 75 then some ⟨(.bipush 116, 77, .inl 116, 0, 0), by subst h; exact ⟨dX9_read_75, rfl, ⟨116, rfl, by decide⟩⟩⟩ else none
       else
        if h : pc = 77 then some ⟨(.bipush 114, 79, .inl 114, 0, 0), by subst h; exact ⟨dX9_read_77, rfl, ⟨114, rfl, by decide⟩⟩⟩ else none
 else
  bif Nat.blt pc 120 then
   bif Nat.blt pc 102 then
    bif Nat.blt pc 87 then
     bif Nat.blt pc 83 then
      bif Nat.blt pc 81 then
       if h : pc = 79 then some ⟨(.bipush 111, 81, .inl 111, 0, 0), by subst h; exact ⟨dX9_read_79, rfl, ⟨111, rfl, by decide⟩⟩⟩ else none
      else
       if h : pc = 81 then some ⟨(.bipush 110, 83, .inl 110, 0, 0), by subst h; exact ⟨dX9_read_81, rfl, ⟨110, rfl, by decide⟩⟩⟩ else none
     else
      bif Nat.blt pc 85 then
       if h : pc = 83 then some ⟨(.bipush 103, 85, .inl 103, 0, 0), by subst h; exact ⟨dX9_read_83, rfl, ⟨103, rfl, by decide⟩⟩⟩ else none
      else
       bif Nat.blt pc 86 then
        if h : pc = 85 then some ⟨(.iconst 0, 86, .inl 0, 0, 0), by subst h; exact ⟨dX9_read_85, rfl, ⟨0, rfl, by decide⟩⟩⟩ else none
       else
        if h : pc = 86 then some ⟨(.iconst 0, 87, .inl 0, 0, 0), by subst h; exact ⟨dX9_read_86, rfl, ⟨0, rfl, by decide⟩⟩⟩ else none
    else
     bif Nat.blt pc 95 then
      bif Nat.blt pc 90 then
       if h : pc = 87 then some ⟨(.invokevirtual 173, 90, .inl 0, 14, 14), by subst h; exact ⟨dX9_read_87, rfl, ⟨by decide, q1530, q1532, qs66, _, rfl, rfl⟩⟩⟩ else none
      else
       bif Nat.blt pc 93 then
        if h : pc = 90 then some ⟨(.invokevirtual 318, 93, .inl 0, 16, 14), by subst h; exact ⟨dX9_read_90, rfl, ⟨by decide, q1538, q1540, qs68, _, rfl, rfl⟩⟩⟩ else none
       else
        if h : pc = 93 then some ⟨(.istore 4, 95, .inl 0, 0, 0), by subst h; exact ⟨dX9_read_93, rfl, (show (4 : Nat) < 6 by decide)⟩⟩ else none
     else
      bif Nat.blt pc 96 then
       if h : pc = 95 then some ⟨(.aload_n 0, 96, .inl 0, 0, 0), by subst h; exact ⟨dX9_read_95, rfl, trivial⟩⟩ else none
      else
       bif Nat.blt pc 99 then
        if h : pc = 96 then some ⟨(.getfield 154, 99, .inl 0, 25, 14), by subst h; exact ⟨dX9_read_96, rfl, ⟨⟨_, rfl, by decide, _, Or.inl q1383, Or.inl rfl⟩, (show mKd 14 25 ≤ 4 by decide)⟩⟩⟩ else none
       else
        if h : pc = 99 then some ⟨(.ifCond .eq 7, 102, .inl 0, 106, 0), by subst h; exact ⟨dX9_read_99, rfl, (show ((99 : Nat) : Int) + (7) = ((106 : Nat) : Int) by decide)⟩⟩ else none
   else
    bif Nat.blt pc 110 then
     bif Nat.blt pc 106 then
      bif Nat.blt pc 103 then
       if h : pc = 102 then some ⟨(.iconst 0, 103, .inl 0, 0, 0), by subst h; exact ⟨dX9_read_102, rfl, ⟨0, rfl, by decide⟩⟩⟩ else none
      else
       if h : pc = 103 then some ⟨(.goto 24, 106, .inl 0, 127, 0), by subst h; exact ⟨dX9_read_103, rfl, (show ((103 : Nat) : Int) + (24) = ((127 : Nat) : Int) by decide)⟩⟩ else none
     else
      bif Nat.blt pc 107 then
       if h : pc = 106 then some ⟨(.aload_n 0, 107, .inl 0, 0, 0), by subst h; exact ⟨dX9_read_106, rfl, trivial⟩⟩ else none
      else
       bif Nat.blt pc 108 then
        if h : pc = 107 then some ⟨(.aload_n 0, 108, .inl 0, 0, 0), by subst h; exact ⟨dX9_read_107, rfl, trivial⟩⟩ else none
       else
        if h : pc = 108 then some ⟨(.bipush 101, 110, .inl 101, 0, 0), by subst h; exact ⟨dX9_read_108, rfl, ⟨101, rfl, by decide⟩⟩⟩ else none
    else
     bif Nat.blt pc 116 then
      bif Nat.blt pc 112 then
       if h : pc = 110 then some ⟨(.bipush 97, 112, .inl 97, 0, 0), by subst h; exact ⟨dX9_read_110, rfl, ⟨97, rfl, by decide⟩⟩⟩ else none
      else
       bif Nat.blt pc 114 then
        if h : pc = 112 then some ⟨(.bipush 115, 114, .inl 115, 0, 0), by subst h; exact ⟨dX9_read_112, rfl, ⟨115, rfl, by decide⟩⟩⟩ else none
       else
        if h : pc = 114 then some ⟨(.bipush 101, 116, .inl 101, 0, 0), by subst h; exact ⟨dX9_read_114, rfl, ⟨101, rfl, by decide⟩⟩⟩ else none
     else
      bif Nat.blt pc 118 then
       if h : pc = 116 then some ⟨(.bipush 115, 118, .inl 115, 0, 0), by subst h; exact ⟨dX9_read_116, rfl, ⟨115, rfl, by decide⟩⟩⟩ else none
      else
       bif Nat.blt pc 119 then
        if h : pc = 118 then some ⟨(.iconst 0, 119, .inl 0, 0, 0), by subst h; exact ⟨dX9_read_118, rfl, ⟨0, rfl, by decide⟩⟩⟩ else none
       else
        if h : pc = 119 then some ⟨(.iconst 0, 120, .inl 0, 0, 0), by subst h; exact ⟨dX9_read_119, rfl, ⟨0, rfl, by decide⟩⟩⟩ else none
  else
   bif Nat.blt pc 144 then
    bif Nat.blt pc 130 then
     bif Nat.blt pc 124 then
      bif Nat.blt pc 121 then
       if h : pc = 120 then some ⟨(.iconst 0, 121, .inl 0, 0, 0), by subst h; exact ⟨dX9_read_120, rfl, ⟨0, rfl, by decide⟩⟩⟩ else none
      else
       if h : pc = 121 then some ⟨(.invokevirtual 173, 124, .inl 0, 14, 14), by subst h; exact ⟨dX9_read_121, rfl, ⟨by decide, q1530, q1532, qs66, _, rfl, rfl⟩⟩⟩ else none
     else
      bif Nat.blt pc 127 then
       if h : pc = 124 then some ⟨(.invokevirtual 318, 127, .inl 0, 16, 14), by subst h; exact ⟨dX9_read_124, rfl, ⟨by decide, q1538, q1540, qs68, _, rfl, rfl⟩⟩⟩ else none
      else
       bif Nat.blt pc 129 then
        if h : pc = 127 then some ⟨(.istore 5, 129, .inl 0, 0, 0), by subst h; exact ⟨dX9_read_127, rfl, (show (5 : Nat) < 6 by decide)⟩⟩ else none
       else
        if h : pc = 129 then some ⟨(.aload_n 0, 130, .inl 0, 0, 0), by subst h; exact ⟨dX9_read_129, rfl, trivial⟩⟩ else none
    else
     bif Nat.blt pc 137 then
      bif Nat.blt pc 133 then
       if h : pc = 130 then some ⟨(.getfield 154, 133, .inl 0, 25, 14), by subst h; exact ⟨dX9_read_130, rfl, ⟨⟨_, rfl, by decide, _, Or.inl q1383, Or.inl rfl⟩, (show mKd 14 25 ≤ 4 by decide)⟩⟩⟩ else none
      else
       bif Nat.blt pc 136 then
        if h : pc = 133 then some ⟨(.ifCond .ne 14, 136, .inl 0, 147, 0), by subst h; exact ⟨dX9_read_133, rfl, (show ((133 : Nat) : Int) + (14) = ((147 : Nat) : Int) by decide)⟩⟩ else none
       else
        if h : pc = 136 then some ⟨(.aload_n 0, 137, .inl 0, 0, 0), by subst h; exact ⟨dX9_read_136, rfl, trivial⟩⟩ else none
     else
      bif Nat.blt pc 140 then
       if h : pc = 137 then some ⟨(.getfield 139, 140, .inl 0, 21, 14), by subst h; exact ⟨dX9_read_137, rfl, ⟨⟨_, rfl, by decide, _, Or.inl q1379, Or.inl rfl⟩, (show mKd 14 21 ≤ 4 by decide)⟩⟩⟩ else none
      else
       bif Nat.blt pc 143 then
        if h : pc = 140 then some ⟨(.ifCond .eq 7, 143, .inl 0, 147, 0), by subst h; exact ⟨dX9_read_140, rfl, (show ((140 : Nat) : Int) + (7) = ((147 : Nat) : Int) by decide)⟩⟩ else none
       else
        if h : pc = 143 then some ⟨(.aload_n 0, 144, .inl 0, 0, 0), by subst h; exact ⟨dX9_read_143, rfl, trivial⟩⟩ else none
   else
    bif Nat.blt pc 156 then
     bif Nat.blt pc 151 then
      bif Nat.blt pc 147 then
       if h : pc = 144 then some ⟨(.invokevirtual 167, 147, .inl 0, 17, 14), by subst h; exact ⟨dX9_read_144, rfl, ⟨by decide, q1542, q1544, qs69, _, rfl, rfl⟩⟩⟩ else none
      else
       bif Nat.blt pc 148 then
        if h : pc = 147 then some ⟨(.iload_n 2, 148, .inl 0, 0, 0), by subst h; exact ⟨dX9_read_147, rfl, trivial⟩⟩ else none
       else
        if h : pc = 148 then some ⟨(.ifCond .ne 7, 151, .inl 0, 155, 0), by subst h; exact ⟨dX9_read_148, rfl, (show ((148 : Nat) : Int) + (7) = ((155 : Nat) : Int) by decide)⟩⟩ else none
     else
      bif Nat.blt pc 152 then
       if h : pc = 151 then some ⟨(.iload_n 3, 152, .inl 0, 0, 0), by subst h; exact ⟨dX9_read_151, rfl, trivial⟩⟩ else none
      else
       bif Nat.blt pc 155 then
        if h : pc = 152 then some ⟨(.goto 15, 155, .inl 0, 167, 0), by subst h; exact ⟨dX9_read_152, rfl, (show ((152 : Nat) : Int) + (15) = ((167 : Nat) : Int) by decide)⟩⟩ else none
       else
        if h : pc = 155 then some ⟨(.iload_n 2, 156, .inl 0, 0, 0), by subst h; exact ⟨dX9_read_155, rfl, trivial⟩⟩ else none
    else
     bif Nat.blt pc 162 then
      bif Nat.blt pc 157 then
       if h : pc = 156 then some ⟨(.iconst 1, 157, .inl 1, 0, 0), by subst h; exact ⟨dX9_read_156, rfl, ⟨1, rfl, by decide⟩⟩⟩ else none
      else
       bif Nat.blt pc 160 then
        if h : pc = 157 then some ⟨(.if_icmp .ne 8, 160, .inl 0, 165, 0), by subst h; exact ⟨dX9_read_157, rfl, (show ((157 : Nat) : Int) + (8) = ((165 : Nat) : Int) by decide)⟩⟩ else none
       else
        if h : pc = 160 then some ⟨(.iload 4, 162, .inl 0, 0, 0), by subst h; exact ⟨dX9_read_160, rfl, trivial⟩⟩ else none
     else
      bif Nat.blt pc 165 then
       if h : pc = 162 then some ⟨(.goto 5, 165, .inl 0, 167, 0), by subst h; exact ⟨dX9_read_162, rfl, (show ((162 : Nat) : Int) + (5) = ((167 : Nat) : Int) by decide)⟩⟩ else none
      else
       bif Nat.blt pc 167 then
        if h : pc = 165 then some ⟨(.iload 5, 167, .inl 0, 0, 0), by subst h; exact ⟨dX9_read_165, rfl, trivial⟩⟩ else none
       else
        if h : pc = 167 then some ⟨(.ireturn, 168, .inl 0, 0, 0), by subst h; exact ⟨dX9_read_167, rfl, rfl⟩⟩ else none

noncomputable def mt12 (pc : Nat) : Option {e : mE // mOK yX9_next cX9_next 3 ((Option.none : Option ClassFile.FieldType)) pc e} :=
 bif Nat.blt pc 162 then
  bif Nat.blt pc 81 then
   bif Nat.blt pc 40 then
    bif Nat.blt pc 21 then
     bif Nat.blt pc 10 then
      bif Nat.blt pc 2 then
       bif Nat.blt pc 1 then
        if h : pc = 0 then some ⟨(.aload_n 0, 1, .inl 0, 0, 0), by subst h; exact ⟨dX9_next_0, rfl, trivial⟩⟩ else none
       else
        if h : pc = 1 then some ⟨(.aload_n 0, 2, .inl 0, 0, 0), by subst h; exact ⟨dX9_next_1, rfl, trivial⟩⟩ else none
      else
       bif Nat.blt pc 5 then
        if h : pc = 2 then some ⟨(.getfield 130, 5, .inl 0, 20, 14), by subst h; exact ⟨dX9_next_2, rfl, ⟨⟨_, rfl, by decide, _, Or.inl q1378, Or.inl rfl⟩, (show mKd 14 20 ≤ 4 by decide)⟩⟩⟩ else none
       else
        bif Nat.blt pc 8 then
         if h : pc = 5 then some ⟨(.invokevirtual 133, 8, .inl 0, 13, 14), by subst h; exact ⟨dX9_next_5, rfl, ⟨by decide, q1522, q1524, qs65, _, rfl, rfl⟩⟩⟩ else none
        else
         if h : pc = 8 then some ⟨(.bipush 32, 10, .inl 32, 0, 0), by subst h; exact ⟨dX9_next_8, rfl, ⟨32, rfl, by decide⟩⟩⟩ else none
     else
      bif Nat.blt pc 14 then
       bif Nat.blt pc 13 then
        if h : pc = 10 then some ⟨(.if_icmp .eq 16, 13, .inl 0, 26, 0), by subst h; exact ⟨dX9_next_10, rfl, (show ((10 : Nat) : Int) + (16) = ((26 : Nat) : Int) by decide)⟩⟩ else none
       else
        if h : pc = 13 then some ⟨(.aload_n 0, 14, .inl 0, 0, 0), by subst h; exact ⟨dX9_next_13, rfl, trivial⟩⟩ else none
      else
       bif Nat.blt pc 15 then
        if h : pc = 14 then some ⟨(.aload_n 0, 15, .inl 0, 0, 0), by subst h; exact ⟨dX9_next_14, rfl, trivial⟩⟩ else none
       else
        bif Nat.blt pc 18 then
         if h : pc = 15 then some ⟨(.getfield 130, 18, .inl 0, 20, 14), by subst h; exact ⟨dX9_next_15, rfl, ⟨⟨_, rfl, by decide, _, Or.inl q1378, Or.inl rfl⟩, (show mKd 14 20 ≤ 4 by decide)⟩⟩⟩ else none
        else
         if h : pc = 18 then some ⟨(.invokevirtual 133, 21, .inl 0, 13, 14), by subst h; exact ⟨dX9_next_18, rfl, ⟨by decide, q1522, q1524, qs65, _, rfl, rfl⟩⟩⟩ else none
    else
     bif Nat.blt pc 31 then
      bif Nat.blt pc 26 then
       bif Nat.blt pc 23 then
        if h : pc = 21 then some ⟨(.bipush 10, 23, .inl 10, 0, 0), by subst h; exact ⟨dX9_next_21, rfl, ⟨10, rfl, by decide⟩⟩⟩ else none
       else
        if h : pc = 23 then some ⟨(.if_icmp .ne 16, 26, .inl 0, 39, 0), by subst h; exact ⟨dX9_next_23, rfl, (show ((23 : Nat) : Int) + (16) = ((39 : Nat) : Int) by decide)⟩⟩ else none
      else
       bif Nat.blt pc 27 then
        if h : pc = 26 then some ⟨(.aload_n 0, 27, .inl 0, 0, 0), by subst h; exact ⟨dX9_next_26, rfl, trivial⟩⟩ else none
       else
        bif Nat.blt pc 28 then
         if h : pc = 27 then some ⟨(.dup, 28, .inl 0, 0, 0), by subst h; exact ⟨dX9_next_27, rfl, trivial⟩⟩ else none
        else
         if h : pc = 28 then some ⟨(.getfield 130, 31, .inl 0, 20, 14), by subst h; exact ⟨dX9_next_28, rfl, ⟨⟨_, rfl, by decide, _, Or.inl q1378, Or.inl rfl⟩, (show mKd 14 20 ≤ 4 by decide)⟩⟩⟩ else none
     else
      bif Nat.blt pc 33 then
       bif Nat.blt pc 32 then
        if h : pc = 31 then some ⟨(.iconst 1, 32, .inl 1, 0, 0), by subst h; exact ⟨dX9_next_31, rfl, ⟨1, rfl, by decide⟩⟩⟩ else none
       else
        if h : pc = 32 then some ⟨(.iadd, 33, .inl 0, 0, 0), by subst h; exact ⟨dX9_next_32, rfl, trivial⟩⟩ else none
      else
       bif Nat.blt pc 36 then
        if h : pc = 33 then some ⟨(.putfield 130, 36, .inl 0, 20, 14), by subst h; exact ⟨dX9_next_33, rfl, ⟨⟨_, rfl, by decide, _, Or.inl q1378, Or.inl rfl⟩, (show mKd 14 20 ≤ 4 by decide), by decide, by decide, (fun q h => Or.inl (by cases h; rfl))⟩⟩⟩ else none
       else
        bif Nat.blt pc 39 then
         if h : pc = 36 then some ⟨(.goto (-36), 39, .inl 0, 0, 0), by subst h; exact ⟨dX9_next_36, rfl, (show ((36 : Nat) : Int) + ((-36)) = ((0 : Nat) : Int) by decide)⟩⟩ else none
        else
         if h : pc = 39 then some ⟨(.aload_n 0, 40, .inl 0, 0, 0), by subst h; exact ⟨dX9_next_39, rfl, trivial⟩⟩ else none
   else
    bif Nat.blt pc 58 then
     bif Nat.blt pc 49 then
      bif Nat.blt pc 44 then
       bif Nat.blt pc 41 then
        if h : pc = 40 then some ⟨(.aload_n 0, 41, .inl 0, 0, 0), by subst h; exact ⟨dX9_next_40, rfl, trivial⟩⟩ else none
       else
        if h : pc = 41 then some ⟨(.getfield 130, 44, .inl 0, 20, 14), by subst h; exact ⟨dX9_next_41, rfl, ⟨⟨_, rfl, by decide, _, Or.inl q1378, Or.inl rfl⟩, (show mKd 14 20 ≤ 4 by decide)⟩⟩⟩ else none
      else
       bif Nat.blt pc 47 then
        if h : pc = 44 then some ⟨(.putfield 136, 47, .inl 0, 22, 14), by subst h; exact ⟨dX9_next_44, rfl, ⟨⟨_, rfl, by decide, _, Or.inl q1380, Or.inl rfl⟩, (show mKd 14 22 ≤ 4 by decide), by decide, by decide, (fun q h => Or.inl (by cases h; rfl))⟩⟩⟩ else none
       else
        bif Nat.blt pc 48 then
         if h : pc = 47 then some ⟨(.aload_n 0, 48, .inl 0, 0, 0), by subst h; exact ⟨dX9_next_47, rfl, trivial⟩⟩ else none
        else
         if h : pc = 48 then some ⟨(.aload_n 0, 49, .inl 0, 0, 0), by subst h; exact ⟨dX9_next_48, rfl, trivial⟩⟩ else none
     else
      bif Nat.blt pc 55 then
       bif Nat.blt pc 52 then
        if h : pc = 49 then some ⟨(.getfield 130, 52, .inl 0, 20, 14), by subst h; exact ⟨dX9_next_49, rfl, ⟨⟨_, rfl, by decide, _, Or.inl q1378, Or.inl rfl⟩, (show mKd 14 20 ≤ 4 by decide)⟩⟩⟩ else none
       else
        if h : pc = 52 then some ⟨(.invokevirtual 133, 55, .inl 0, 13, 14), by subst h; exact ⟨dX9_next_52, rfl, ⟨by decide, q1522, q1524, qs65, _, rfl, rfl⟩⟩⟩ else none
      else
       bif Nat.blt pc 56 then
        if h : pc = 55 then some ⟨(.istore_n 1, 56, .inl 0, 0, 0), by subst h; exact ⟨dX9_next_55, rfl, (show (1 : Nat) < 3 by decide)⟩⟩ else none
       else
        bif Nat.blt pc 57 then
         if h : pc = 56 then some ⟨(.aload_n 0, 57, .inl 0, 0, 0), by subst h; exact ⟨dX9_next_56, rfl, trivial⟩⟩ else none
        else
         if h : pc = 57 then some ⟨(.iconst 4, 58, .inl 4, 0, 0), by subst h; exact ⟨dX9_next_57, rfl, ⟨4, rfl, by decide⟩⟩⟩ else none
    else
     bif Nat.blt pc 67 then
      bif Nat.blt pc 62 then
       bif Nat.blt pc 61 then
        if h : pc = 58 then some ⟨(.putfield 139, 61, .inl 0, 21, 14), by subst h; exact ⟨dX9_next_58, rfl, ⟨⟨_, rfl, by decide, _, Or.inl q1379, Or.inl rfl⟩, (show mKd 14 21 ≤ 4 by decide), by decide, by decide, (fun q h => Or.inl (by cases h; rfl))⟩⟩⟩ else none
       else
        if h : pc = 61 then some ⟨(.iload_n 1, 62, .inl 0, 0, 0), by subst h; exact ⟨dX9_next_61, rfl, trivial⟩⟩ else none
      else
       bif Nat.blt pc 65 then
        if h : pc = 62 then some ⟨(.ifCond .ge 19, 65, .inl 0, 81, 0), by subst h; exact ⟨dX9_next_62, rfl, (show ((62 : Nat) : Int) + (19) = ((81 : Nat) : Int) by decide)⟩⟩ else none
       else
        bif Nat.blt pc 66 then
         if h : pc = 65 then some ⟨(.aload_n 0, 66, .inl 0, 0, 0), by subst h; exact ⟨dX9_next_65, rfl, trivial⟩⟩ else none
        else
         if h : pc = 66 then some ⟨(.iconst 0, 67, .inl 0, 0, 0), by subst h; exact ⟨dX9_next_66, rfl, ⟨0, rfl, by decide⟩⟩⟩ else none
     else
      bif Nat.blt pc 72 then
       bif Nat.blt pc 70 then
        if h : pc = 67 then some ⟨(.putfield 139, 70, .inl 0, 21, 14), by subst h; exact ⟨dX9_next_67, rfl, ⟨⟨_, rfl, by decide, _, Or.inl q1379, Or.inl rfl⟩, (show mKd 14 21 ≤ 4 by decide), by decide, by decide, (fun q h => Or.inl (by cases h; rfl))⟩⟩⟩ else none
       else
        bif Nat.blt pc 71 then
         if h : pc = 70 then some ⟨(.aload_n 0, 71, .inl 0, 0, 0), by subst h; exact ⟨dX9_next_70, rfl, trivial⟩⟩ else none
        else
         if h : pc = 71 then some ⟨(.aload_n 0, 72, .inl 0, 0, 0), by subst h; exact ⟨dX9_next_71, rfl, trivial⟩⟩ else none
      else
       bif Nat.blt pc 75 then
        if h : pc = 72 then some ⟨(.getfield 124, 75, .inl 0, 19, 14), by subst h; exact ⟨dX9_next_72, rfl, ⟨⟨_, rfl, by decide, _, Or.inl q1377, Or.inl rfl⟩, (show mKd 14 19 ≤ 4 by decide)⟩⟩⟩ else none
       else
        bif Nat.blt pc 78 then
         if h : pc = 75 then some ⟨(.putfield 136, 78, .inl 0, 22, 14), by subst h; exact ⟨dX9_next_75, rfl, ⟨⟨_, rfl, by decide, _, Or.inl q1380, Or.inl rfl⟩, (show mKd 14 22 ≤ 4 by decide), by decide, by decide, (fun q h => Or.inl (by cases h; rfl))⟩⟩⟩ else none
        else
         if h : pc = 78 then some ⟨(.goto 243, 81, .inl 0, 321, 0), by subst h; exact ⟨dX9_next_78, rfl, (show ((78 : Nat) : Int) + (243) = ((321 : Nat) : Int) by decide)⟩⟩ else none
  else
   bif Nat.blt pc 123 then
    bif Nat.blt pc 101 then
     bif Nat.blt pc 92 then
      bif Nat.blt pc 83 then
       bif Nat.blt pc 82 then
        if h : pc = 81 then some ⟨(.iload_n 1, 82, .inl 0, 0, 0), by subst h; exact ⟨dX9_next_81, rfl, trivial⟩⟩ else none
       else
        if h : pc = 82 then some ⟨(.i2l, 83, .inl 0, 0, 0), by subst h; exact ⟨dX9_next_82, rfl, trivial⟩⟩ else none
      else
       bif Nat.blt pc 86 then
        if h : pc = 83 then some ⟨(.ldc2_w 142, 86, .inr (.inl 97), 0, 0), by subst h; exact ⟨dX9_next_83, rfl, ⟨_, rfl, q1526⟩⟩⟩ else none
       else
        bif Nat.blt pc 89 then
         if h : pc = 86 then some ⟨(.ldc2_w 144, 89, .inr (.inl 122), 0, 0), by subst h; exact ⟨dX9_next_86, rfl, ⟨_, rfl, q1527⟩⟩⟩ else none
        else
         if h : pc = 89 then some ⟨(.invokestatic 67, 92, .inl 0, 3, 0), by subst h; exact ⟨dX9_next_89, rfl, Or.inl ⟨by decide, q1482, q1483⟩⟩⟩ else none
     else
      bif Nat.blt pc 96 then
       bif Nat.blt pc 95 then
        if h : pc = 92 then some ⟨(.ifCond .eq 42, 95, .inl 0, 134, 0), by subst h; exact ⟨dX9_next_92, rfl, (show ((92 : Nat) : Int) + (42) = ((134 : Nat) : Int) by decide)⟩⟩ else none
       else
        if h : pc = 95 then some ⟨(.aload_n 0, 96, .inl 0, 0, 0), by subst h; exact ⟨dX9_next_95, rfl, trivial⟩⟩ else none
      else
       bif Nat.blt pc 97 then
        if h : pc = 96 then some ⟨(.iconst 1, 97, .inl 1, 0, 0), by subst h; exact ⟨dX9_next_96, rfl, ⟨1, rfl, by decide⟩⟩⟩ else none
       else
        bif Nat.blt pc 100 then
         if h : pc = 97 then some ⟨(.putfield 139, 100, .inl 0, 21, 14), by subst h; exact ⟨dX9_next_97, rfl, ⟨⟨_, rfl, by decide, _, Or.inl q1379, Or.inl rfl⟩, (show mKd 14 21 ≤ 4 by decide), by decide, by decide, (fun q h => Or.inl (by cases h; rfl))⟩⟩⟩ else none
        else
         if h : pc = 100 then some ⟨(.aload_n 0, 101, .inl 0, 0, 0), by subst h; exact ⟨dX9_next_100, rfl, trivial⟩⟩ else none
    else
     bif Nat.blt pc 112 then
      bif Nat.blt pc 105 then
       bif Nat.blt pc 102 then
        if h : pc = 101 then some ⟨(.aload_n 0, 102, .inl 0, 0, 0), by subst h; exact ⟨dX9_next_101, rfl, trivial⟩⟩ else none
       else
        if h : pc = 102 then some ⟨(.getfield 130, 105, .inl 0, 20, 14), by subst h; exact ⟨dX9_next_102, rfl, ⟨⟨_, rfl, by decide, _, Or.inl q1378, Or.inl rfl⟩, (show mKd 14 20 ≤ 4 by decide)⟩⟩⟩ else none
      else
       bif Nat.blt pc 108 then
        if h : pc = 105 then some ⟨(.invokevirtual 133, 108, .inl 0, 13, 14), by subst h; exact ⟨dX9_next_105, rfl, ⟨by decide, q1522, q1524, qs65, _, rfl, rfl⟩⟩⟩ else none
       else
        bif Nat.blt pc 109 then
         if h : pc = 108 then some ⟨(.i2l, 109, .inl 0, 0, 0), by subst h; exact ⟨dX9_next_108, rfl, trivial⟩⟩ else none
        else
         if h : pc = 109 then some ⟨(.ldc2_w 142, 112, .inr (.inl 97), 0, 0), by subst h; exact ⟨dX9_next_109, rfl, ⟨_, rfl, q1526⟩⟩⟩ else none
     else
      bif Nat.blt pc 118 then
       bif Nat.blt pc 115 then
        if h : pc = 112 then some ⟨(.ldc2_w 144, 115, .inr (.inl 122), 0, 0), by subst h; exact ⟨dX9_next_112, rfl, ⟨_, rfl, q1527⟩⟩⟩ else none
       else
        if h : pc = 115 then some ⟨(.invokestatic 67, 118, .inl 0, 3, 0), by subst h; exact ⟨dX9_next_115, rfl, Or.inl ⟨by decide, q1482, q1483⟩⟩⟩ else none
      else
       bif Nat.blt pc 121 then
        if h : pc = 118 then some ⟨(.ifCond .eq 203, 121, .inl 0, 321, 0), by subst h; exact ⟨dX9_next_118, rfl, (show ((118 : Nat) : Int) + (203) = ((321 : Nat) : Int) by decide)⟩⟩ else none
       else
        bif Nat.blt pc 122 then
         if h : pc = 121 then some ⟨(.aload_n 0, 122, .inl 0, 0, 0), by subst h; exact ⟨dX9_next_121, rfl, trivial⟩⟩ else none
        else
         if h : pc = 122 then some ⟨(.dup, 123, .inl 0, 0, 0), by subst h; exact ⟨dX9_next_122, rfl, trivial⟩⟩ else none
   else
    bif Nat.blt pc 145 then
     bif Nat.blt pc 134 then
      bif Nat.blt pc 127 then
       bif Nat.blt pc 126 then
        if h : pc = 123 then some ⟨(.getfield 130, 126, .inl 0, 20, 14), by subst h; exact ⟨dX9_next_123, rfl, ⟨⟨_, rfl, by decide, _, Or.inl q1378, Or.inl rfl⟩, (show mKd 14 20 ≤ 4 by decide)⟩⟩⟩ else none
       else
        if h : pc = 126 then some ⟨(.iconst 1, 127, .inl 1, 0, 0), by subst h; exact ⟨dX9_next_126, rfl, ⟨1, rfl, by decide⟩⟩⟩ else none
      else
       bif Nat.blt pc 128 then
        if h : pc = 127 then some ⟨(.iadd, 128, .inl 0, 0, 0), by subst h; exact ⟨dX9_next_127, rfl, trivial⟩⟩ else none
       else
        bif Nat.blt pc 131 then
         if h : pc = 128 then some ⟨(.putfield 130, 131, .inl 0, 20, 14), by subst h; exact ⟨dX9_next_128, rfl, ⟨⟨_, rfl, by decide, _, Or.inl q1378, Or.inl rfl⟩, (show mKd 14 20 ≤ 4 by decide), by decide, by decide, (fun q h => Or.inl (by cases h; rfl))⟩⟩⟩ else none
        else
         if h : pc = 131 then some ⟨(.goto (-31), 134, .inl 0, 100, 0), by subst h; exact ⟨dX9_next_131, rfl, (show ((131 : Nat) : Int) + ((-31)) = ((100 : Nat) : Int) by decide)⟩⟩ else none
     else
      bif Nat.blt pc 136 then
       bif Nat.blt pc 135 then
        if h : pc = 134 then some ⟨(.iload_n 1, 135, .inl 0, 0, 0), by subst h; exact ⟨dX9_next_134, rfl, trivial⟩⟩ else none
       else
        if h : pc = 135 then some ⟨(.i2l, 136, .inl 0, 0, 0), by subst h; exact ⟨dX9_next_135, rfl, trivial⟩⟩ else none
      else
       bif Nat.blt pc 139 then
        if h : pc = 136 then some ⟨(.ldc2_w 146, 139, .inr (.inl 48), 0, 0), by subst h; exact ⟨dX9_next_136, rfl, ⟨_, rfl, q1528⟩⟩⟩ else none
       else
        bif Nat.blt pc 142 then
         if h : pc = 139 then some ⟨(.ldc2_w 148, 142, .inr (.inl 57), 0, 0), by subst h; exact ⟨dX9_next_139, rfl, ⟨_, rfl, q1529⟩⟩⟩ else none
        else
         if h : pc = 142 then some ⟨(.invokestatic 67, 145, .inl 0, 3, 0), by subst h; exact ⟨dX9_next_142, rfl, Or.inl ⟨by decide, q1482, q1483⟩⟩⟩ else none
    else
     bif Nat.blt pc 154 then
      bif Nat.blt pc 149 then
       bif Nat.blt pc 148 then
        if h : pc = 145 then some ⟨(.ifCond .eq 107, 148, .inl 0, 252, 0), by subst h; exact ⟨dX9_next_145, rfl, (show ((145 : Nat) : Int) + (107) = ((252 : Nat) : Int) by decide)⟩⟩ else none
       else
        if h : pc = 148 then some ⟨(.aload_n 0, 149, .inl 0, 0, 0), by subst h; exact ⟨dX9_next_148, rfl, trivial⟩⟩ else none
      else
       bif Nat.blt pc 150 then
        if h : pc = 149 then some ⟨(.iconst 2, 150, .inl 2, 0, 0), by subst h; exact ⟨dX9_next_149, rfl, ⟨2, rfl, by decide⟩⟩⟩ else none
       else
        bif Nat.blt pc 153 then
         if h : pc = 150 then some ⟨(.putfield 139, 153, .inl 0, 21, 14), by subst h; exact ⟨dX9_next_150, rfl, ⟨⟨_, rfl, by decide, _, Or.inl q1379, Or.inl rfl⟩, (show mKd 14 21 ≤ 4 by decide), by decide, by decide, (fun q h => Or.inl (by cases h; rfl))⟩⟩⟩ else none
        else
         if h : pc = 153 then some ⟨(.aload_n 0, 154, .inl 0, 0, 0), by subst h; exact ⟨dX9_next_153, rfl, trivial⟩⟩ else none
     else
      bif Nat.blt pc 159 then
       bif Nat.blt pc 155 then
        if h : pc = 154 then some ⟨(.lconst 0, 155, .inr (.inl 0), 0, 0), by subst h; exact ⟨dX9_next_154, rfl, ⟨0, rfl, by decide⟩⟩⟩ else none
       else
        bif Nat.blt pc 158 then
         if h : pc = 155 then some ⟨(.putfield 150, 158, .inr (.inl 0), 23, 14), by subst h; exact ⟨dX9_next_155, rfl, ⟨⟨_, rfl, by decide, _, Or.inl q1381, Or.inl rfl⟩, (show mKd 14 23 = 5 by rfl), by decide, by decide, (fun q h => Or.inl (by cases h; rfl))⟩⟩⟩ else none
        else
         if h : pc = 158 then some ⟨(.iconst 0, 159, .inl 0, 0, 0), by subst h; exact ⟨dX9_next_158, rfl, ⟨0, rfl, by decide⟩⟩⟩ else none
      else
       bif Nat.blt pc 160 then
        if h : pc = 159 then some ⟨(.istore_n 2, 160, .inl 0, 0, 0), by subst h; exact ⟨dX9_next_159, rfl, (show (2 : Nat) < 3 by decide)⟩⟩ else none
       else
        bif Nat.blt pc 161 then
         if h : pc = 160 then some ⟨(.aload_n 0, 161, .inl 0, 0, 0), by subst h; exact ⟨dX9_next_160, rfl, trivial⟩⟩ else none
        else
         if h : pc = 161 then some ⟨(.aload_n 0, 162, .inl 0, 0, 0), by subst h; exact ⟨dX9_next_161, rfl, trivial⟩⟩ else none
 else
  bif Nat.blt pc 245 then
   bif Nat.blt pc 204 then
    bif Nat.blt pc 184 then
     bif Nat.blt pc 175 then
      bif Nat.blt pc 168 then
       bif Nat.blt pc 165 then
        if h : pc = 162 then some ⟨(.getfield 130, 165, .inl 0, 20, 14), by subst h; exact ⟨dX9_next_162, rfl, ⟨⟨_, rfl, by decide, _, Or.inl q1378, Or.inl rfl⟩, (show mKd 14 20 ≤ 4 by decide)⟩⟩⟩ else none
       else
        if h : pc = 165 then some ⟨(.invokevirtual 133, 168, .inl 0, 13, 14), by subst h; exact ⟨dX9_next_165, rfl, ⟨by decide, q1522, q1524, qs65, _, rfl, rfl⟩⟩⟩ else none
      else
       bif Nat.blt pc 169 then
        if h : pc = 168 then some ⟨(.i2l, 169, .inl 0, 0, 0), by subst h; exact ⟨dX9_next_168, rfl, trivial⟩⟩ else none
       else
        bif Nat.blt pc 172 then
         if h : pc = 169 then some ⟨(.ldc2_w 146, 172, .inr (.inl 48), 0, 0), by subst h; exact ⟨dX9_next_169, rfl, ⟨_, rfl, q1528⟩⟩⟩ else none
        else
         if h : pc = 172 then some ⟨(.ldc2_w 148, 175, .inr (.inl 57), 0, 0), by subst h; exact ⟨dX9_next_172, rfl, ⟨_, rfl, q1529⟩⟩⟩ else none
     else
      bif Nat.blt pc 181 then
       bif Nat.blt pc 178 then
        if h : pc = 175 then some ⟨(.invokestatic 67, 178, .inl 0, 3, 0), by subst h; exact ⟨dX9_next_175, rfl, Or.inl ⟨by decide, q1482, q1483⟩⟩⟩ else none
       else
        if h : pc = 178 then some ⟨(.ifCond .eq 57, 181, .inl 0, 235, 0), by subst h; exact ⟨dX9_next_178, rfl, (show ((178 : Nat) : Int) + (57) = ((235 : Nat) : Int) by decide)⟩⟩ else none
      else
       bif Nat.blt pc 182 then
        if h : pc = 181 then some ⟨(.aload_n 0, 182, .inl 0, 0, 0), by subst h; exact ⟨dX9_next_181, rfl, trivial⟩⟩ else none
       else
        bif Nat.blt pc 183 then
         if h : pc = 182 then some ⟨(.iload_n 2, 183, .inl 0, 0, 0), by subst h; exact ⟨dX9_next_182, rfl, trivial⟩⟩ else none
        else
         if h : pc = 183 then some ⟨(.iconst 4, 184, .inl 4, 0, 0), by subst h; exact ⟨dX9_next_183, rfl, ⟨4, rfl, by decide⟩⟩⟩ else none
    else
     bif Nat.blt pc 195 then
      bif Nat.blt pc 190 then
       bif Nat.blt pc 187 then
        if h : pc = 184 then some ⟨(.if_icmp .ge 28, 187, .inl 0, 212, 0), by subst h; exact ⟨dX9_next_184, rfl, (show ((184 : Nat) : Int) + (28) = ((212 : Nat) : Int) by decide)⟩⟩ else none
       else
        if h : pc = 187 then some ⟨(.ldc2_w 108, 190, .inr (.inl 10), 0, 0), by subst h; exact ⟨dX9_next_187, rfl, ⟨_, rfl, q1501⟩⟩⟩ else none
      else
       bif Nat.blt pc 191 then
        if h : pc = 190 then some ⟨(.aload_n 0, 191, .inl 0, 0, 0), by subst h; exact ⟨dX9_next_190, rfl, trivial⟩⟩ else none
       else
        bif Nat.blt pc 194 then
         if h : pc = 191 then some ⟨(.getfield 150, 194, .inr (.inl 0), 23, 14), by subst h; exact ⟨dX9_next_191, rfl, ⟨⟨_, rfl, by decide, _, Or.inl q1381, Or.inl rfl⟩, (show mKd 14 23 = 5 by rfl)⟩⟩⟩ else none
        else
         if h : pc = 194 then some ⟨(.lmul, 195, .inl 0, 0, 0), by subst h; exact ⟨dX9_next_194, rfl, trivial⟩⟩ else none
     else
      bif Nat.blt pc 197 then
       bif Nat.blt pc 196 then
        if h : pc = 195 then some ⟨(.aload_n 0, 196, .inl 0, 0, 0), by subst h; exact ⟨dX9_next_195, rfl, trivial⟩⟩ else none
       else
        if h : pc = 196 then some ⟨(.aload_n 0, 197, .inl 0, 0, 0), by subst h; exact ⟨dX9_next_196, rfl, trivial⟩⟩ else none
      else
       bif Nat.blt pc 200 then
        if h : pc = 197 then some ⟨(.getfield 130, 200, .inl 0, 20, 14), by subst h; exact ⟨dX9_next_197, rfl, ⟨⟨_, rfl, by decide, _, Or.inl q1378, Or.inl rfl⟩, (show mKd 14 20 ≤ 4 by decide)⟩⟩⟩ else none
       else
        bif Nat.blt pc 203 then
         if h : pc = 200 then some ⟨(.invokevirtual 133, 203, .inl 0, 13, 14), by subst h; exact ⟨dX9_next_200, rfl, ⟨by decide, q1522, q1524, qs65, _, rfl, rfl⟩⟩⟩ else none
        else
         if h : pc = 203 then some ⟨(.i2l, 204, .inl 0, 0, 0), by subst h; exact ⟨dX9_next_203, rfl, trivial⟩⟩ else none
   else
    bif Nat.blt pc 224 then
     bif Nat.blt pc 213 then
      bif Nat.blt pc 208 then
       bif Nat.blt pc 205 then
        if h : pc = 204 then some ⟨(.ladd, 205, .inl 0, 0, 0), by subst h; exact ⟨dX9_next_204, rfl, trivial⟩⟩ else none
       else
        if h : pc = 205 then some ⟨(.ldc2_w 146, 208, .inr (.inl 48), 0, 0), by subst h; exact ⟨dX9_next_205, rfl, ⟨_, rfl, q1528⟩⟩⟩ else none
      else
       bif Nat.blt pc 209 then
        if h : pc = 208 then some ⟨(.lsub, 209, .inl 0, 0, 0), by subst h; exact ⟨dX9_next_208, rfl, trivial⟩⟩ else none
       else
        bif Nat.blt pc 212 then
         if h : pc = 209 then some ⟨(.goto 7, 212, .inl 0, 216, 0), by subst h; exact ⟨dX9_next_209, rfl, (show ((209 : Nat) : Int) + (7) = ((216 : Nat) : Int) by decide)⟩⟩ else none
        else
         if h : pc = 212 then some ⟨(.aload_n 0, 213, .inl 0, 0, 0), by subst h; exact ⟨dX9_next_212, rfl, trivial⟩⟩ else none
     else
      bif Nat.blt pc 219 then
       bif Nat.blt pc 216 then
        if h : pc = 213 then some ⟨(.getfield 150, 216, .inr (.inl 0), 23, 14), by subst h; exact ⟨dX9_next_213, rfl, ⟨⟨_, rfl, by decide, _, Or.inl q1381, Or.inl rfl⟩, (show mKd 14 23 = 5 by rfl)⟩⟩⟩ else none
       else
        if h : pc = 216 then some ⟨(.putfield 150, 219, .inr (.inl 0), 23, 14), by subst h; exact ⟨dX9_next_216, rfl, ⟨⟨_, rfl, by decide, _, Or.inl q1381, Or.inl rfl⟩, (show mKd 14 23 = 5 by rfl), by decide, by decide, (fun q h => Or.inl (by cases h; rfl))⟩⟩⟩ else none
      else
       bif Nat.blt pc 222 then
        if h : pc = 219 then some ⟨(.iinc 2 1, 222, .inl 1, 0, 0), by subst h; exact ⟨dX9_next_219, rfl, ⟨(show (2 : Nat) < 3 by decide), 1, rfl, by decide⟩⟩⟩ else none
       else
        bif Nat.blt pc 223 then
         if h : pc = 222 then some ⟨(.aload_n 0, 223, .inl 0, 0, 0), by subst h; exact ⟨dX9_next_222, rfl, trivial⟩⟩ else none
        else
         if h : pc = 223 then some ⟨(.dup, 224, .inl 0, 0, 0), by subst h; exact ⟨dX9_next_223, rfl, trivial⟩⟩ else none
    else
     bif Nat.blt pc 235 then
      bif Nat.blt pc 228 then
       bif Nat.blt pc 227 then
        if h : pc = 224 then some ⟨(.getfield 130, 227, .inl 0, 20, 14), by subst h; exact ⟨dX9_next_224, rfl, ⟨⟨_, rfl, by decide, _, Or.inl q1378, Or.inl rfl⟩, (show mKd 14 20 ≤ 4 by decide)⟩⟩⟩ else none
       else
        if h : pc = 227 then some ⟨(.iconst 1, 228, .inl 1, 0, 0), by subst h; exact ⟨dX9_next_227, rfl, ⟨1, rfl, by decide⟩⟩⟩ else none
      else
       bif Nat.blt pc 229 then
        if h : pc = 228 then some ⟨(.iadd, 229, .inl 0, 0, 0), by subst h; exact ⟨dX9_next_228, rfl, trivial⟩⟩ else none
       else
        bif Nat.blt pc 232 then
         if h : pc = 229 then some ⟨(.putfield 130, 232, .inl 0, 20, 14), by subst h; exact ⟨dX9_next_229, rfl, ⟨⟨_, rfl, by decide, _, Or.inl q1378, Or.inl rfl⟩, (show mKd 14 20 ≤ 4 by decide), by decide, by decide, (fun q h => Or.inl (by cases h; rfl))⟩⟩⟩ else none
        else
         if h : pc = 232 then some ⟨(.goto (-72), 235, .inl 0, 160, 0), by subst h; exact ⟨dX9_next_232, rfl, (show ((232 : Nat) : Int) + ((-72)) = ((160 : Nat) : Int) by decide)⟩⟩ else none
     else
      bif Nat.blt pc 238 then
       bif Nat.blt pc 236 then
        if h : pc = 235 then some ⟨(.aload_n 0, 236, .inl 0, 0, 0), by subst h; exact ⟨dX9_next_235, rfl, trivial⟩⟩ else none
       else
        bif Nat.blt pc 237 then
         if h : pc = 236 then some ⟨(.iload_n 2, 237, .inl 0, 0, 0), by subst h; exact ⟨dX9_next_236, rfl, trivial⟩⟩ else none
        else
         if h : pc = 237 then some ⟨(.iconst 4, 238, .inl 4, 0, 0), by subst h; exact ⟨dX9_next_237, rfl, ⟨4, rfl, by decide⟩⟩⟩ else none
      else
       bif Nat.blt pc 241 then
        if h : pc = 238 then some ⟨(.if_icmp .le 7, 241, .inl 0, 245, 0), by subst h; exact ⟨dX9_next_238, rfl, (show ((238 : Nat) : Int) + (7) = ((245 : Nat) : Int) by decide)⟩⟩ else none
       else
        bif Nat.blt pc 242 then
         if h : pc = 241 then some ⟨(.iconst 4, 242, .inl 4, 0, 0), by subst h; exact ⟨dX9_next_241, rfl, ⟨4, rfl, by decide⟩⟩⟩ else none
        else
         if h : pc = 242 then some ⟨(.goto 4, 245, .inl 0, 246, 0), by subst h; exact ⟨dX9_next_242, rfl, (show ((242 : Nat) : Int) + (4) = ((246 : Nat) : Int) by decide)⟩⟩ else none
  else
   bif Nat.blt pc 285 then
    bif Nat.blt pc 265 then
     bif Nat.blt pc 255 then
      bif Nat.blt pc 249 then
       bif Nat.blt pc 246 then
        if h : pc = 245 then some ⟨(.iconst 2, 246, .inl 2, 0, 0), by subst h; exact ⟨dX9_next_245, rfl, ⟨2, rfl, by decide⟩⟩⟩ else none
       else
        if h : pc = 246 then some ⟨(.putfield 139, 249, .inl 0, 21, 14), by subst h; exact ⟨dX9_next_246, rfl, ⟨⟨_, rfl, by decide, _, Or.inl q1379, Or.inl rfl⟩, (show mKd 14 21 ≤ 4 by decide), by decide, by decide, (fun q h => Or.inl (by cases h; rfl))⟩⟩⟩ else none
      else
       bif Nat.blt pc 252 then
        if h : pc = 249 then some ⟨(.goto 72, 252, .inl 0, 321, 0), by subst h; exact ⟨dX9_next_249, rfl, (show ((249 : Nat) : Int) + (72) = ((321 : Nat) : Int) by decide)⟩⟩ else none
       else
        bif Nat.blt pc 253 then
         if h : pc = 252 then some ⟨(.iload_n 1, 253, .inl 0, 0, 0), by subst h; exact ⟨dX9_next_252, rfl, trivial⟩⟩ else none
        else
         if h : pc = 253 then some ⟨(.bipush 40, 255, .inl 40, 0, 0), by subst h; exact ⟨dX9_next_253, rfl, ⟨40, rfl, by decide⟩⟩⟩ else none
     else
      bif Nat.blt pc 259 then
       bif Nat.blt pc 258 then
        if h : pc = 255 then some ⟨(.if_icmp .eq 45, 258, .inl 0, 300, 0), by subst h; exact ⟨dX9_next_255, rfl, (show ((255 : Nat) : Int) + (45) = ((300 : Nat) : Int) by decide)⟩⟩ else none
       else
        if h : pc = 258 then some ⟨(.iload_n 1, 259, .inl 0, 0, 0), by subst h; exact ⟨dX9_next_258, rfl, trivial⟩⟩ else none
      else
       bif Nat.blt pc 261 then
        if h : pc = 259 then some ⟨(.bipush 41, 261, .inl 41, 0, 0), by subst h; exact ⟨dX9_next_259, rfl, ⟨41, rfl, by decide⟩⟩⟩ else none
       else
        bif Nat.blt pc 264 then
         if h : pc = 261 then some ⟨(.if_icmp .eq 39, 264, .inl 0, 300, 0), by subst h; exact ⟨dX9_next_261, rfl, (show ((261 : Nat) : Int) + (39) = ((300 : Nat) : Int) by decide)⟩⟩ else none
        else
         if h : pc = 264 then some ⟨(.iload_n 1, 265, .inl 0, 0, 0), by subst h; exact ⟨dX9_next_264, rfl, trivial⟩⟩ else none
    else
     bif Nat.blt pc 276 then
      bif Nat.blt pc 270 then
       bif Nat.blt pc 267 then
        if h : pc = 265 then some ⟨(.bipush 59, 267, .inl 59, 0, 0), by subst h; exact ⟨dX9_next_265, rfl, ⟨59, rfl, by decide⟩⟩⟩ else none
       else
        if h : pc = 267 then some ⟨(.if_icmp .eq 33, 270, .inl 0, 300, 0), by subst h; exact ⟨dX9_next_267, rfl, (show ((267 : Nat) : Int) + (33) = ((300 : Nat) : Int) by decide)⟩⟩ else none
      else
       bif Nat.blt pc 271 then
        if h : pc = 270 then some ⟨(.iload_n 1, 271, .inl 0, 0, 0), by subst h; exact ⟨dX9_next_270, rfl, trivial⟩⟩ else none
       else
        bif Nat.blt pc 273 then
         if h : pc = 271 then some ⟨(.bipush 43, 273, .inl 43, 0, 0), by subst h; exact ⟨dX9_next_271, rfl, ⟨43, rfl, by decide⟩⟩⟩ else none
        else
         if h : pc = 273 then some ⟨(.if_icmp .eq 27, 276, .inl 0, 300, 0), by subst h; exact ⟨dX9_next_273, rfl, (show ((273 : Nat) : Int) + (27) = ((300 : Nat) : Int) by decide)⟩⟩ else none
     else
      bif Nat.blt pc 279 then
       bif Nat.blt pc 277 then
        if h : pc = 276 then some ⟨(.iload_n 1, 277, .inl 0, 0, 0), by subst h; exact ⟨dX9_next_276, rfl, trivial⟩⟩ else none
       else
        if h : pc = 277 then some ⟨(.bipush 45, 279, .inl 45, 0, 0), by subst h; exact ⟨dX9_next_277, rfl, ⟨45, rfl, by decide⟩⟩⟩ else none
      else
       bif Nat.blt pc 282 then
        if h : pc = 279 then some ⟨(.if_icmp .eq 21, 282, .inl 0, 300, 0), by subst h; exact ⟨dX9_next_279, rfl, (show ((279 : Nat) : Int) + (21) = ((300 : Nat) : Int) by decide)⟩⟩ else none
       else
        bif Nat.blt pc 283 then
         if h : pc = 282 then some ⟨(.iload_n 1, 283, .inl 0, 0, 0), by subst h; exact ⟨dX9_next_282, rfl, trivial⟩⟩ else none
        else
         if h : pc = 283 then some ⟨(.bipush 42, 285, .inl 42, 0, 0), by subst h; exact ⟨dX9_next_283, rfl, ⟨42, rfl, by decide⟩⟩⟩ else none
   else
    bif Nat.blt pc 305 then
     bif Nat.blt pc 295 then
      bif Nat.blt pc 289 then
       bif Nat.blt pc 288 then
        if h : pc = 285 then some ⟨(.if_icmp .eq 15, 288, .inl 0, 300, 0), by subst h; exact ⟨dX9_next_285, rfl, (show ((285 : Nat) : Int) + (15) = ((300 : Nat) : Int) by decide)⟩⟩ else none
       else
        if h : pc = 288 then some ⟨(.iload_n 1, 289, .inl 0, 0, 0), by subst h; exact ⟨dX9_next_288, rfl, trivial⟩⟩ else none
      else
       bif Nat.blt pc 291 then
        if h : pc = 289 then some ⟨(.bipush 60, 291, .inl 60, 0, 0), by subst h; exact ⟨dX9_next_289, rfl, ⟨60, rfl, by decide⟩⟩⟩ else none
       else
        bif Nat.blt pc 294 then
         if h : pc = 291 then some ⟨(.if_icmp .eq 9, 294, .inl 0, 300, 0), by subst h; exact ⟨dX9_next_291, rfl, (show ((291 : Nat) : Int) + (9) = ((300 : Nat) : Int) by decide)⟩⟩ else none
        else
         if h : pc = 294 then some ⟨(.iload_n 1, 295, .inl 0, 0, 0), by subst h; exact ⟨dX9_next_294, rfl, trivial⟩⟩ else none
     else
      bif Nat.blt pc 300 then
       bif Nat.blt pc 297 then
        if h : pc = 295 then some ⟨(.bipush 61, 297, .inl 61, 0, 0), by subst h; exact ⟨dX9_next_295, rfl, ⟨61, rfl, by decide⟩⟩⟩ else none
       else
        if h : pc = 297 then some ⟨(.if_icmp .ne 24, 300, .inl 0, 321, 0), by subst h; exact ⟨dX9_next_297, rfl, (show ((297 : Nat) : Int) + (24) = ((321 : Nat) : Int) by decide)⟩⟩ else none
      else
       bif Nat.blt pc 301 then
        if h : pc = 300 then some ⟨(.aload_n 0, 301, .inl 0, 0, 0), by subst h; exact ⟨dX9_next_300, rfl, trivial⟩⟩ else none
       else
        bif Nat.blt pc 302 then
         if h : pc = 301 then some ⟨(.iconst 3, 302, .inl 3, 0, 0), by subst h; exact ⟨dX9_next_301, rfl, ⟨3, rfl, by decide⟩⟩⟩ else none
        else
         if h : pc = 302 then some ⟨(.putfield 139, 305, .inl 0, 21, 14), by subst h; exact ⟨dX9_next_302, rfl, ⟨⟨_, rfl, by decide, _, Or.inl q1379, Or.inl rfl⟩, (show mKd 14 21 ≤ 4 by decide), by decide, by decide, (fun q h => Or.inl (by cases h; rfl))⟩⟩⟩ else none
    else
     bif Nat.blt pc 312 then
      bif Nat.blt pc 307 then
       bif Nat.blt pc 306 then
        if h : pc = 305 then some ⟨(.aload_n 0, 306, .inl 0, 0, 0), by subst h; exact ⟨dX9_next_305, rfl, trivial⟩⟩ else none
       else
        if h : pc = 306 then some ⟨(.iload_n 1, 307, .inl 0, 0, 0), by subst h; exact ⟨dX9_next_306, rfl, trivial⟩⟩ else none
      else
       bif Nat.blt pc 308 then
        if h : pc = 307 then some ⟨(.i2l, 308, .inl 0, 0, 0), by subst h; exact ⟨dX9_next_307, rfl, trivial⟩⟩ else none
       else
        bif Nat.blt pc 311 then
         if h : pc = 308 then some ⟨(.putfield 150, 311, .inr (.inl 0), 23, 14), by subst h; exact ⟨dX9_next_308, rfl, ⟨⟨_, rfl, by decide, _, Or.inl q1381, Or.inl rfl⟩, (show mKd 14 23 = 5 by rfl), by decide, by decide, (fun q h => Or.inl (by cases h; rfl))⟩⟩⟩ else none
        else
         if h : pc = 311 then some ⟨(.aload_n 0, 312, .inl 0, 0, 0), by subst h; exact ⟨dX9_next_311, rfl, trivial⟩⟩ else none
     else
      bif Nat.blt pc 317 then
       bif Nat.blt pc 313 then
        if h : pc = 312 then some ⟨(.dup, 313, .inl 0, 0, 0), by subst h; exact ⟨dX9_next_312, rfl, trivial⟩⟩ else none
       else
        bif Nat.blt pc 316 then
         if h : pc = 313 then some ⟨(.getfield 130, 316, .inl 0, 20, 14), by subst h; exact ⟨dX9_next_313, rfl, ⟨⟨_, rfl, by decide, _, Or.inl q1378, Or.inl rfl⟩, (show mKd 14 20 ≤ 4 by decide)⟩⟩⟩ else none
        else
         if h : pc = 316 then some ⟨(.iconst 1, 317, .inl 1, 0, 0), by subst h; exact ⟨dX9_next_316, rfl, ⟨1, rfl, by decide⟩⟩⟩ else none
      else
       bif Nat.blt pc 318 then
        if h : pc = 317 then some ⟨(.iadd, 318, .inl 0, 0, 0), by subst h; exact ⟨dX9_next_317, rfl, trivial⟩⟩ else none
       else
        bif Nat.blt pc 321 then
         if h : pc = 318 then some ⟨(.putfield 130, 321, .inl 0, 20, 14), by subst h; exact ⟨dX9_next_318, rfl, ⟨⟨_, rfl, by decide, _, Or.inl q1378, Or.inl rfl⟩, (show mKd 14 20 ≤ 4 by decide), by decide, by decide, (fun q h => Or.inl (by cases h; rfl))⟩⟩⟩ else none
        else
         if h : pc = 321 then some ⟨(.return_, 322, .inl 0, 0, 0), by subst h; exact ⟨dX9_next_321, rfl, rfl⟩⟩ else none

noncomputable def mt13 (pc : Nat) : Option {e : mE // mOK yX9_byteAt cX9_byteAt 2 ((Option.some ClassFile.FieldType.int)) pc e} :=
 bif Nat.blt pc 13 then
  bif Nat.blt pc 5 then
   bif Nat.blt pc 1 then
    if h : pc = 0 then some ⟨(.iload_n 1, 1, .inl 0, 0, 0), by subst h; exact ⟨dX9_byteAt_0, rfl, trivial⟩⟩ else none
   else
    bif Nat.blt pc 2 then
     if h : pc = 1 then some ⟨(.aload_n 0, 2, .inl 0, 0, 0), by subst h; exact ⟨dX9_byteAt_1, rfl, trivial⟩⟩ else none
    else
     if h : pc = 2 then some ⟨(.getfield 124, 5, .inl 0, 19, 14), by subst h; exact ⟨dX9_byteAt_2, rfl, ⟨⟨_, rfl, by decide, _, Or.inl q1377, Or.inl rfl⟩, (show mKd 14 19 ≤ 4 by decide)⟩⟩⟩ else none
  else
   bif Nat.blt pc 9 then
    bif Nat.blt pc 8 then
     if h : pc = 5 then some ⟨(.if_icmp .ge 17, 8, .inl 0, 22, 0), by subst h; exact ⟨dX9_byteAt_5, rfl, (show ((5 : Nat) : Int) + (17) = ((22 : Nat) : Int) by decide)⟩⟩ else none
    else
     if h : pc = 8 then some ⟨(.aload_n 0, 9, .inl 0, 0, 0), by subst h; exact ⟨dX9_byteAt_8, rfl, trivial⟩⟩ else none
   else
    bif Nat.blt pc 12 then
     if h : pc = 9 then some ⟨(.getfield 13, 12, .inr (.inr none), 1, 14), by subst h; exact ⟨dX9_byteAt_9, rfl, ⟨⟨_, rfl, by decide, _, Or.inl q1359, Or.inl rfl⟩, (show mKd 14 1 = 6 by rfl)⟩⟩⟩ else none
    else
     if h : pc = 12 then some ⟨(.aload_n 0, 13, .inl 0, 0, 0), by subst h; exact ⟨dX9_byteAt_12, rfl, trivial⟩⟩ else none
 else
  bif Nat.blt pc 18 then
   bif Nat.blt pc 16 then
    if h : pc = 13 then some ⟨(.getfield 127, 16, .inl 0, 18, 14), by subst h; exact ⟨dX9_byteAt_13, rfl, ⟨⟨_, rfl, by decide, _, Or.inl q1376, Or.inl rfl⟩, (show mKd 14 18 ≤ 4 by decide)⟩⟩⟩ else none
   else
    bif Nat.blt pc 17 then
     if h : pc = 16 then some ⟨(.iload_n 1, 17, .inl 0, 0, 0), by subst h; exact ⟨dX9_byteAt_16, rfl, trivial⟩⟩ else none
    else
     if h : pc = 17 then some ⟨(.iadd, 18, .inl 0, 0, 0), by subst h; exact ⟨dX9_byteAt_17, rfl, trivial⟩⟩ else none
  else
   bif Nat.blt pc 22 then
    bif Nat.blt pc 19 then
     if h : pc = 18 then some ⟨(.iaload, 19, .inl 0, 0, 0), by subst h; exact ⟨dX9_byteAt_18, rfl, trivial⟩⟩ else none
    else
     if h : pc = 19 then some ⟨(.goto 4, 22, .inl 0, 23, 0), by subst h; exact ⟨dX9_byteAt_19, rfl, (show ((19 : Nat) : Int) + (4) = ((23 : Nat) : Int) by decide)⟩⟩ else none
   else
    bif Nat.blt pc 23 then
     if h : pc = 22 then some ⟨(.iconst (-1), 23, .inl (-1), 0, 0), by subst h; exact ⟨dX9_byteAt_22, rfl, ⟨(-1), rfl, by decide⟩⟩⟩ else none
    else
     if h : pc = 23 then some ⟨(.ireturn, 24, .inl 0, 0, 0), by subst h; exact ⟨dX9_byteAt_23, rfl, rfl⟩⟩ else none

noncomputable def mt14 (pc : Nat) : Option {e : mE // mOK yX9_isWord cX9_isWord 9 ((Option.some ClassFile.FieldType.boolean)) pc e} :=
 bif Nat.blt pc 56 then
  bif Nat.blt pc 29 then
   bif Nat.blt pc 15 then
    bif Nat.blt pc 7 then
     bif Nat.blt pc 1 then
      if h : pc = 0 then some ⟨(.aload_n 0, 1, .inl 0, 0, 0), by subst h; exact ⟨dX9_isWord_0, rfl, trivial⟩⟩ else none
     else
      bif Nat.blt pc 4 then
       if h : pc = 1 then some ⟨(.getfield 154, 4, .inl 0, 25, 14), by subst h; exact ⟨dX9_isWord_1, rfl, ⟨⟨_, rfl, by decide, _, Or.inl q1383, Or.inl rfl⟩, (show mKd 14 25 ≤ 4 by decide)⟩⟩⟩ else none
      else
       if h : pc = 4 then some ⟨(.ifCond .ne 108, 7, .inl 0, 112, 0), by subst h; exact ⟨dX9_isWord_4, rfl, (show ((4 : Nat) : Int) + (108) = ((112 : Nat) : Int) by decide)⟩⟩ else none
    else
     bif Nat.blt pc 11 then
      bif Nat.blt pc 8 then
       if h : pc = 7 then some ⟨(.aload_n 0, 8, .inl 0, 0, 0), by subst h; exact ⟨dX9_isWord_7, rfl, trivial⟩⟩ else none
      else
       if h : pc = 8 then some ⟨(.getfield 139, 11, .inl 0, 21, 14), by subst h; exact ⟨dX9_isWord_8, rfl, ⟨⟨_, rfl, by decide, _, Or.inl q1379, Or.inl rfl⟩, (show mKd 14 21 ≤ 4 by decide)⟩⟩⟩ else none
     else
      bif Nat.blt pc 12 then
       if h : pc = 11 then some ⟨(.iconst 1, 12, .inl 1, 0, 0), by subst h; exact ⟨dX9_isWord_11, rfl, ⟨1, rfl, by decide⟩⟩⟩ else none
      else
       if h : pc = 12 then some ⟨(.if_icmp .ne 100, 15, .inl 0, 112, 0), by subst h; exact ⟨dX9_isWord_12, rfl, (show ((12 : Nat) : Int) + (100) = ((112 : Nat) : Int) by decide)⟩⟩ else none
   else
    bif Nat.blt pc 20 then
     bif Nat.blt pc 16 then
      if h : pc = 15 then some ⟨(.aload_n 0, 16, .inl 0, 0, 0), by subst h; exact ⟨dX9_isWord_15, rfl, trivial⟩⟩ else none
     else
      bif Nat.blt pc 19 then
       if h : pc = 16 then some ⟨(.getfield 130, 19, .inl 0, 20, 14), by subst h; exact ⟨dX9_isWord_16, rfl, ⟨⟨_, rfl, by decide, _, Or.inl q1378, Or.inl rfl⟩, (show mKd 14 20 ≤ 4 by decide)⟩⟩⟩ else none
      else
       if h : pc = 19 then some ⟨(.aload_n 0, 20, .inl 0, 0, 0), by subst h; exact ⟨dX9_isWord_19, rfl, trivial⟩⟩ else none
    else
     bif Nat.blt pc 25 then
      bif Nat.blt pc 23 then
       if h : pc = 20 then some ⟨(.getfield 136, 23, .inl 0, 22, 14), by subst h; exact ⟨dX9_isWord_20, rfl, ⟨⟨_, rfl, by decide, _, Or.inl q1380, Or.inl rfl⟩, (show mKd 14 22 ≤ 4 by decide)⟩⟩⟩ else none
      else
       if h : pc = 23 then some ⟨(.bipush 8, 25, .inl 8, 0, 0), by subst h; exact ⟨dX9_isWord_23, rfl, ⟨8, rfl, by decide⟩⟩⟩ else none
     else
      bif Nat.blt pc 26 then
       if h : pc = 25 then some ⟨(.iadd, 26, .inl 0, 0, 0), by subst h; exact ⟨dX9_isWord_25, rfl, trivial⟩⟩ else none
      else
       if h : pc = 26 then some ⟨(.if_icmp .gt 86, 29, .inl 0, 112, 0), by subst h; exact ⟨dX9_isWord_26, rfl, (show ((26 : Nat) : Int) + (86) = ((112 : Nat) : Int) by decide)⟩⟩ else none
  else
   bif Nat.blt pc 40 then
    bif Nat.blt pc 32 then
     bif Nat.blt pc 30 then
      if h : pc = 29 then some ⟨(.aload_n 0, 30, .inl 0, 0, 0), by subst h; exact ⟨dX9_isWord_29, rfl, trivial⟩⟩ else none
     else
      bif Nat.blt pc 31 then
       if h : pc = 30 then some ⟨(.iconst 0, 31, .inl 0, 0, 0), by subst h; exact ⟨dX9_isWord_30, rfl, ⟨0, rfl, by decide⟩⟩⟩ else none
      else
       if h : pc = 31 then some ⟨(.iload_n 1, 32, .inl 0, 0, 0), by subst h; exact ⟨dX9_isWord_31, rfl, trivial⟩⟩ else none
    else
     bif Nat.blt pc 38 then
      bif Nat.blt pc 35 then
       if h : pc = 32 then some ⟨(.invokevirtual 161, 35, .inl 0, 15, 14), by subst h; exact ⟨dX9_isWord_32, rfl, ⟨by decide, q1534, q1536, qs67, _, rfl, rfl⟩⟩⟩ else none
      else
       if h : pc = 35 then some ⟨(.ifCond .eq 77, 38, .inl 0, 112, 0), by subst h; exact ⟨dX9_isWord_35, rfl, (show ((35 : Nat) : Int) + (77) = ((112 : Nat) : Int) by decide)⟩⟩ else none
     else
      bif Nat.blt pc 39 then
       if h : pc = 38 then some ⟨(.aload_n 0, 39, .inl 0, 0, 0), by subst h; exact ⟨dX9_isWord_38, rfl, trivial⟩⟩ else none
      else
       if h : pc = 39 then some ⟨(.iconst 1, 40, .inl 1, 0, 0), by subst h; exact ⟨dX9_isWord_39, rfl, ⟨1, rfl, by decide⟩⟩⟩ else none
   else
    bif Nat.blt pc 48 then
     bif Nat.blt pc 44 then
      bif Nat.blt pc 41 then
       if h : pc = 40 then some ⟨(.iload_n 2, 41, .inl 0, 0, 0), by subst h; exact ⟨dX9_isWord_40, rfl, trivial⟩⟩ else none
      else
       if h : pc = 41 then some ⟨(.invokevirtual 161, 44, .inl 0, 15, 14), by subst h; exact ⟨dX9_isWord_41, rfl, ⟨by decide, q1534, q1536, qs67, _, rfl, rfl⟩⟩⟩ else none
     else
      bif Nat.blt pc 47 then
       if h : pc = 44 then some ⟨(.ifCond .eq 68, 47, .inl 0, 112, 0), by subst h; exact ⟨dX9_isWord_44, rfl, (show ((44 : Nat) : Int) + (68) = ((112 : Nat) : Int) by decide)⟩⟩ else none
      else
       if h : pc = 47 then some ⟨(.aload_n 0, 48, .inl 0, 0, 0), by subst h; exact ⟨dX9_isWord_47, rfl, trivial⟩⟩ else none
    else
     bif Nat.blt pc 50 then
      bif Nat.blt pc 49 then
       if h : pc = 48 then some ⟨(.iconst 2, 49, .inl 2, 0, 0), by subst h; exact ⟨dX9_isWord_48, rfl, ⟨2, rfl, by decide⟩⟩⟩ else none
      else
       if h : pc = 49 then some ⟨(.iload_n 3, 50, .inl 0, 0, 0), by subst h; exact ⟨dX9_isWord_49, rfl, trivial⟩⟩ else none
     else
      bif Nat.blt pc 53 then
       if h : pc = 50 then some ⟨(.invokevirtual 161, 53, .inl 0, 15, 14), by subst h; exact ⟨dX9_isWord_50, rfl, ⟨by decide, q1534, q1536, qs67, _, rfl, rfl⟩⟩⟩ else none
      else
       if h : pc = 53 then some ⟨(.ifCond .eq 59, 56, .inl 0, 112, 0), by subst h; exact ⟨dX9_isWord_53, rfl, (show ((53 : Nat) : Int) + (59) = ((112 : Nat) : Int) by decide)⟩⟩ else none
 else
  bif Nat.blt pc 83 then
   bif Nat.blt pc 68 then
    bif Nat.blt pc 60 then
     bif Nat.blt pc 57 then
      if h : pc = 56 then some ⟨(.aload_n 0, 57, .inl 0, 0, 0), by subst h; exact ⟨dX9_isWord_56, rfl, trivial⟩⟩ else none
     else
      bif Nat.blt pc 58 then
       if h : pc = 57 then some ⟨(.iconst 3, 58, .inl 3, 0, 0), by subst h; exact ⟨dX9_isWord_57, rfl, ⟨3, rfl, by decide⟩⟩⟩ else none
      else
       if h : pc = 58 then some ⟨(.iload 4, 60, .inl 0, 0, 0), by subst h; exact ⟨dX9_isWord_58, rfl, trivial⟩⟩ else none
    else
     bif Nat.blt pc 66 then
      bif Nat.blt pc 63 then
       if h : pc = 60 then some ⟨(.invokevirtual 161, 63, .inl 0, 15, 14), by subst h; exact ⟨dX9_isWord_60, rfl, ⟨by decide, q1534, q1536, qs67, _, rfl, rfl⟩⟩⟩ else none
      else
       if h : pc = 63 then some ⟨(.ifCond .eq 49, 66, .inl 0, 112, 0), by subst h; exact ⟨dX9_isWord_63, rfl, (show ((63 : Nat) : Int) + (49) = ((112 : Nat) : Int) by decide)⟩⟩ else none
     else
      bif Nat.blt pc 67 then
       if h : pc = 66 then some ⟨(.aload_n 0, 67, .inl 0, 0, 0), by subst h; exact ⟨dX9_isWord_66, rfl, trivial⟩⟩ else none
      else
       if h : pc = 67 then some ⟨(.iconst 4, 68, .inl 4, 0, 0), by subst h; exact ⟨dX9_isWord_67, rfl, ⟨4, rfl, by decide⟩⟩⟩ else none
   else
    bif Nat.blt pc 76 then
     bif Nat.blt pc 70 then
      if h : pc = 68 then some ⟨(.iload 5, 70, .inl 0, 0, 0), by subst h; exact ⟨dX9_isWord_68, rfl, trivial⟩⟩ else none
     else
      bif Nat.blt pc 73 then
       if h : pc = 70 then some ⟨(.invokevirtual 161, 73, .inl 0, 15, 14), by subst h; exact ⟨dX9_isWord_70, rfl, ⟨by decide, q1534, q1536, qs67, _, rfl, rfl⟩⟩⟩ else none
      else
       if h : pc = 73 then some ⟨(.ifCond .eq 39, 76, .inl 0, 112, 0), by subst h; exact ⟨dX9_isWord_73, rfl, (show ((73 : Nat) : Int) + (39) = ((112 : Nat) : Int) by decide)⟩⟩ else none
    else
     bif Nat.blt pc 78 then
      bif Nat.blt pc 77 then
       if h : pc = 76 then some ⟨(.aload_n 0, 77, .inl 0, 0, 0), by subst h; exact ⟨dX9_isWord_76, rfl, trivial⟩⟩ else none
      else
       if h : pc = 77 then some ⟨(.iconst 5, 78, .inl 5, 0, 0), by subst h; exact ⟨dX9_isWord_77, rfl, ⟨5, rfl, by decide⟩⟩⟩ else none
     else
      bif Nat.blt pc 80 then
       if h : pc = 78 then some ⟨(.iload 6, 80, .inl 0, 0, 0), by subst h; exact ⟨dX9_isWord_78, rfl, trivial⟩⟩ else none
      else
       if h : pc = 80 then some ⟨(.invokevirtual 161, 83, .inl 0, 15, 14), by subst h; exact ⟨dX9_isWord_80, rfl, ⟨by decide, q1534, q1536, qs67, _, rfl, rfl⟩⟩⟩ else none
  else
   bif Nat.blt pc 98 then
    bif Nat.blt pc 89 then
     bif Nat.blt pc 86 then
      if h : pc = 83 then some ⟨(.ifCond .eq 29, 86, .inl 0, 112, 0), by subst h; exact ⟨dX9_isWord_83, rfl, (show ((83 : Nat) : Int) + (29) = ((112 : Nat) : Int) by decide)⟩⟩ else none
     else
      bif Nat.blt pc 87 then
       if h : pc = 86 then some ⟨(.aload_n 0, 87, .inl 0, 0, 0), by subst h; exact ⟨dX9_isWord_86, rfl, trivial⟩⟩ else none
      else
       if h : pc = 87 then some ⟨(.bipush 6, 89, .inl 6, 0, 0), by subst h; exact ⟨dX9_isWord_87, rfl, ⟨6, rfl, by decide⟩⟩⟩ else none
    else
     bif Nat.blt pc 94 then
      bif Nat.blt pc 91 then
       if h : pc = 89 then some ⟨(.iload 7, 91, .inl 0, 0, 0), by subst h; exact ⟨dX9_isWord_89, rfl, trivial⟩⟩ else none
      else
       if h : pc = 91 then some ⟨(.invokevirtual 161, 94, .inl 0, 15, 14), by subst h; exact ⟨dX9_isWord_91, rfl, ⟨by decide, q1534, q1536, qs67, _, rfl, rfl⟩⟩⟩ else none
     else
      bif Nat.blt pc 97 then
       if h : pc = 94 then some ⟨(.ifCond .eq 18, 97, .inl 0, 112, 0), by subst h; exact ⟨dX9_isWord_94, rfl, (show ((94 : Nat) : Int) + (18) = ((112 : Nat) : Int) by decide)⟩⟩ else none
      else
       if h : pc = 97 then some ⟨(.aload_n 0, 98, .inl 0, 0, 0), by subst h; exact ⟨dX9_isWord_97, rfl, trivial⟩⟩ else none
   else
    bif Nat.blt pc 108 then
     bif Nat.blt pc 102 then
      bif Nat.blt pc 100 then
       if h : pc = 98 then some ⟨(.bipush 7, 100, .inl 7, 0, 0), by subst h; exact ⟨dX9_isWord_98, rfl, ⟨7, rfl, by decide⟩⟩⟩ else none
      else
       if h : pc = 100 then some ⟨(.iload 8, 102, .inl 0, 0, 0), by subst h; exact ⟨dX9_isWord_100, rfl, trivial⟩⟩ else none
     else
      bif Nat.blt pc 105 then
       if h : pc = 102 then some ⟨(.invokevirtual 161, 105, .inl 0, 15, 14), by subst h; exact ⟨dX9_isWord_102, rfl, ⟨by decide, q1534, q1536, qs67, _, rfl, rfl⟩⟩⟩ else none
      else
       if h : pc = 105 then some ⟨(.ifCond .eq 7, 108, .inl 0, 112, 0), by subst h; exact ⟨dX9_isWord_105, rfl, (show ((105 : Nat) : Int) + (7) = ((112 : Nat) : Int) by decide)⟩⟩ else none
    else
     bif Nat.blt pc 112 then
      bif Nat.blt pc 109 then
       if h : pc = 108 then some ⟨(.iconst 1, 109, .inl 1, 0, 0), by subst h; exact ⟨dX9_isWord_108, rfl, ⟨1, rfl, by decide⟩⟩⟩ else none
      else
       if h : pc = 109 then some ⟨(.goto 4, 112, .inl 0, 113, 0), by subst h; exact ⟨dX9_isWord_109, rfl, (show ((109 : Nat) : Int) + (4) = ((113 : Nat) : Int) by decide)⟩⟩ else none
     else
      bif Nat.blt pc 113 then
       if h : pc = 112 then some ⟨(.iconst 0, 113, .inl 0, 0, 0), by subst h; exact ⟨dX9_isWord_112, rfl, ⟨0, rfl, by decide⟩⟩⟩ else none
      else
       if h : pc = 113 then some ⟨(.ireturn, 114, .inl 0, 1, 0), by subst h; exact ⟨dX9_isWord_113, rfl, rfl⟩⟩ else none

noncomputable def mt15 (pc : Nat) : Option {e : mE // mOK yX9_isLetter cX9_isLetter 3 ((Option.some ClassFile.FieldType.boolean)) pc e} :=
 bif Nat.blt pc 20 then
  bif Nat.blt pc 10 then
   bif Nat.blt pc 5 then
    bif Nat.blt pc 1 then
     if h : pc = 0 then some ⟨(.aload_n 0, 1, .inl 0, 0, 0), by subst h; exact ⟨dX9_isLetter_0, rfl, trivial⟩⟩ else none
    else
     bif Nat.blt pc 4 then
      if h : pc = 1 then some ⟨(.getfield 136, 4, .inl 0, 22, 14), by subst h; exact ⟨dX9_isLetter_1, rfl, ⟨⟨_, rfl, by decide, _, Or.inl q1380, Or.inl rfl⟩, (show mKd 14 22 ≤ 4 by decide)⟩⟩⟩ else none
     else
      if h : pc = 4 then some ⟨(.iload_n 1, 5, .inl 0, 0, 0), by subst h; exact ⟨dX9_isLetter_4, rfl, trivial⟩⟩ else none
   else
    bif Nat.blt pc 6 then
     if h : pc = 5 then some ⟨(.iadd, 6, .inl 0, 0, 0), by subst h; exact ⟨dX9_isLetter_5, rfl, trivial⟩⟩ else none
    else
     bif Nat.blt pc 7 then
      if h : pc = 6 then some ⟨(.aload_n 0, 7, .inl 0, 0, 0), by subst h; exact ⟨dX9_isLetter_6, rfl, trivial⟩⟩ else none
     else
      if h : pc = 7 then some ⟨(.getfield 130, 10, .inl 0, 20, 14), by subst h; exact ⟨dX9_isLetter_7, rfl, ⟨⟨_, rfl, by decide, _, Or.inl q1378, Or.inl rfl⟩, (show mKd 14 20 ≤ 4 by decide)⟩⟩⟩ else none
  else
   bif Nat.blt pc 15 then
    bif Nat.blt pc 13 then
     if h : pc = 10 then some ⟨(.if_icmp .ge 25, 13, .inl 0, 35, 0), by subst h; exact ⟨dX9_isLetter_10, rfl, (show ((10 : Nat) : Int) + (25) = ((35 : Nat) : Int) by decide)⟩⟩ else none
    else
     bif Nat.blt pc 14 then
      if h : pc = 13 then some ⟨(.aload_n 0, 14, .inl 0, 0, 0), by subst h; exact ⟨dX9_isLetter_13, rfl, trivial⟩⟩ else none
     else
      if h : pc = 14 then some ⟨(.aload_n 0, 15, .inl 0, 0, 0), by subst h; exact ⟨dX9_isLetter_14, rfl, trivial⟩⟩ else none
   else
    bif Nat.blt pc 18 then
     if h : pc = 15 then some ⟨(.getfield 136, 18, .inl 0, 22, 14), by subst h; exact ⟨dX9_isLetter_15, rfl, ⟨⟨_, rfl, by decide, _, Or.inl q1380, Or.inl rfl⟩, (show mKd 14 22 ≤ 4 by decide)⟩⟩⟩ else none
    else
     bif Nat.blt pc 19 then
      if h : pc = 18 then some ⟨(.iload_n 1, 19, .inl 0, 0, 0), by subst h; exact ⟨dX9_isLetter_18, rfl, trivial⟩⟩ else none
     else
      if h : pc = 19 then some ⟨(.iadd, 20, .inl 0, 0, 0), by subst h; exact ⟨dX9_isLetter_19, rfl, trivial⟩⟩ else none
 else
  bif Nat.blt pc 32 then
   bif Nat.blt pc 27 then
    bif Nat.blt pc 23 then
     if h : pc = 20 then some ⟨(.invokevirtual 133, 23, .inl 0, 13, 14), by subst h; exact ⟨dX9_isLetter_20, rfl, ⟨by decide, q1522, q1524, qs65, _, rfl, rfl⟩⟩⟩ else none
    else
     bif Nat.blt pc 24 then
      if h : pc = 23 then some ⟨(.iload_n 2, 24, .inl 0, 0, 0), by subst h; exact ⟨dX9_isLetter_23, rfl, trivial⟩⟩ else none
     else
      if h : pc = 24 then some ⟨(.if_icmp .ne 7, 27, .inl 0, 31, 0), by subst h; exact ⟨dX9_isLetter_24, rfl, (show ((24 : Nat) : Int) + (7) = ((31 : Nat) : Int) by decide)⟩⟩ else none
   else
    bif Nat.blt pc 28 then
     if h : pc = 27 then some ⟨(.iconst 1, 28, .inl 1, 0, 0), by subst h; exact ⟨dX9_isLetter_27, rfl, ⟨1, rfl, by decide⟩⟩⟩ else none
    else
     bif Nat.blt pc 31 then
      if h : pc = 28 then some ⟨(.goto 16, 31, .inl 0, 44, 0), by subst h; exact ⟨dX9_isLetter_28, rfl, (show ((28 : Nat) : Int) + (16) = ((44 : Nat) : Int) by decide)⟩⟩ else none
     else
      if h : pc = 31 then some ⟨(.iconst 0, 32, .inl 0, 0, 0), by subst h; exact ⟨dX9_isLetter_31, rfl, ⟨0, rfl, by decide⟩⟩⟩ else none
  else
   bif Nat.blt pc 39 then
    bif Nat.blt pc 35 then
     if h : pc = 32 then some ⟨(.goto 12, 35, .inl 0, 44, 0), by subst h; exact ⟨dX9_isLetter_32, rfl, (show ((32 : Nat) : Int) + (12) = ((44 : Nat) : Int) by decide)⟩⟩ else none
    else
     bif Nat.blt pc 36 then
      if h : pc = 35 then some ⟨(.iload_n 2, 36, .inl 0, 0, 0), by subst h; exact ⟨dX9_isLetter_35, rfl, trivial⟩⟩ else none
     else
      if h : pc = 36 then some ⟨(.ifCond .ne 7, 39, .inl 0, 43, 0), by subst h; exact ⟨dX9_isLetter_36, rfl, (show ((36 : Nat) : Int) + (7) = ((43 : Nat) : Int) by decide)⟩⟩ else none
   else
    bif Nat.blt pc 43 then
     bif Nat.blt pc 40 then
      if h : pc = 39 then some ⟨(.iconst 1, 40, .inl 1, 0, 0), by subst h; exact ⟨dX9_isLetter_39, rfl, ⟨1, rfl, by decide⟩⟩⟩ else none
     else
      if h : pc = 40 then some ⟨(.goto 4, 43, .inl 0, 44, 0), by subst h; exact ⟨dX9_isLetter_40, rfl, (show ((40 : Nat) : Int) + (4) = ((44 : Nat) : Int) by decide)⟩⟩ else none
    else
     bif Nat.blt pc 44 then
      if h : pc = 43 then some ⟨(.iconst 0, 44, .inl 0, 0, 0), by subst h; exact ⟨dX9_isLetter_43, rfl, ⟨0, rfl, by decide⟩⟩⟩ else none
     else
      if h : pc = 44 then some ⟨(.ireturn, 45, .inl 0, 1, 0), by subst h; exact ⟨dX9_isLetter_44, rfl, rfl⟩⟩ else none

noncomputable def mt16 (pc : Nat) : Option {e : mE // mOK yX9_part cX9_part 3 ((Option.some ClassFile.FieldType.int)) pc e} :=
 bif Nat.blt pc 31 then
  bif Nat.blt pc 15 then
   bif Nat.blt pc 5 then
    bif Nat.blt pc 1 then
     if h : pc = 0 then some ⟨(.iload_n 1, 1, .inl 0, 0, 0), by subst h; exact ⟨dX9_part_0, rfl, trivial⟩⟩ else none
    else
     bif Nat.blt pc 4 then
      if h : pc = 1 then some ⟨(.ifCond .ne 7, 4, .inl 0, 8, 0), by subst h; exact ⟨dX9_part_1, rfl, (show ((1 : Nat) : Int) + (7) = ((8 : Nat) : Int) by decide)⟩⟩ else none
     else
      if h : pc = 4 then some ⟨(.aload_n 0, 5, .inl 0, 0, 0), by subst h; exact ⟨dX9_part_4, rfl, trivial⟩⟩ else none
   else
    bif Nat.blt pc 9 then
     bif Nat.blt pc 8 then
      if h : pc = 5 then some ⟨(.invokevirtual 167, 8, .inl 0, 17, 14), by subst h; exact ⟨dX9_part_5, rfl, ⟨by decide, q1542, q1544, qs69, _, rfl, rfl⟩⟩⟩ else none
     else
      if h : pc = 8 then some ⟨(.aload_n 0, 9, .inl 0, 0, 0), by subst h; exact ⟨dX9_part_8, rfl, trivial⟩⟩ else none
    else
     bif Nat.blt pc 12 then
      if h : pc = 9 then some ⟨(.getfield 154, 12, .inl 0, 25, 14), by subst h; exact ⟨dX9_part_9, rfl, ⟨⟨_, rfl, by decide, _, Or.inl q1383, Or.inl rfl⟩, (show mKd 14 25 ≤ 4 by decide)⟩⟩⟩ else none
     else
      if h : pc = 12 then some ⟨(.ifCond .ne 7, 15, .inl 0, 19, 0), by subst h; exact ⟨dX9_part_12, rfl, (show ((12 : Nat) : Int) + (7) = ((19 : Nat) : Int) by decide)⟩⟩ else none
  else
   bif Nat.blt pc 23 then
    bif Nat.blt pc 19 then
     bif Nat.blt pc 16 then
      if h : pc = 15 then some ⟨(.aload_n 0, 16, .inl 0, 0, 0), by subst h; exact ⟨dX9_part_15, rfl, trivial⟩⟩ else none
     else
      if h : pc = 16 then some ⟨(.invokevirtual 170, 19, .inl 0, 12, 14), by subst h; exact ⟨dX9_part_16, rfl, ⟨by decide, q1518, q1520, qs64, _, rfl, rfl⟩⟩⟩ else none
    else
     bif Nat.blt pc 20 then
      if h : pc = 19 then some ⟨(.aload_n 0, 20, .inl 0, 0, 0), by subst h; exact ⟨dX9_part_19, rfl, trivial⟩⟩ else none
     else
      if h : pc = 20 then some ⟨(.getfield 154, 23, .inl 0, 25, 14), by subst h; exact ⟨dX9_part_20, rfl, ⟨⟨_, rfl, by decide, _, Or.inl q1383, Or.inl rfl⟩, (show mKd 14 25 ≤ 4 by decide)⟩⟩⟩ else none
   else
    bif Nat.blt pc 27 then
     bif Nat.blt pc 26 then
      if h : pc = 23 then some ⟨(.ifCond .eq 7, 26, .inl 0, 30, 0), by subst h; exact ⟨dX9_part_23, rfl, (show ((23 : Nat) : Int) + (7) = ((30 : Nat) : Int) by decide)⟩⟩ else none
     else
      if h : pc = 26 then some ⟨(.iconst 0, 27, .inl 0, 0, 0), by subst h; exact ⟨dX9_part_26, rfl, ⟨0, rfl, by decide⟩⟩⟩ else none
    else
     bif Nat.blt pc 30 then
      if h : pc = 27 then some ⟨(.goto 7, 30, .inl 0, 34, 0), by subst h; exact ⟨dX9_part_27, rfl, (show ((27 : Nat) : Int) + (7) = ((34 : Nat) : Int) by decide)⟩⟩ else none
     else
      if h : pc = 30 then some ⟨(.aload_n 0, 31, .inl 0, 0, 0), by subst h; exact ⟨dX9_part_30, rfl, trivial⟩⟩ else none
 else
  bif Nat.blt pc 45 then
   bif Nat.blt pc 36 then
    bif Nat.blt pc 34 then
     if h : pc = 31 then some ⟨(.invokevirtual 315, 34, .inl 0, 18, 14), by subst h; exact ⟨dX9_part_31, rfl, ⟨by decide, q1546, q1548, qs70, _, rfl, rfl⟩⟩⟩ else none
    else
     bif Nat.blt pc 35 then
      if h : pc = 34 then some ⟨(.istore_n 2, 35, .inl 0, 0, 0), by subst h; exact ⟨dX9_part_34, rfl, (show (2 : Nat) < 3 by decide)⟩⟩ else none
     else
      if h : pc = 35 then some ⟨(.aload_n 0, 36, .inl 0, 0, 0), by subst h; exact ⟨dX9_part_35, rfl, trivial⟩⟩ else none
   else
    bif Nat.blt pc 41 then
     bif Nat.blt pc 38 then
      if h : pc = 36 then some ⟨(.bipush 59, 38, .inl 59, 0, 0), by subst h; exact ⟨dX9_part_36, rfl, ⟨59, rfl, by decide⟩⟩⟩ else none
     else
      if h : pc = 38 then some ⟨(.invokevirtual 195, 41, .inl 0, 30, 14), by subst h; exact ⟨dX9_part_38, rfl, ⟨by decide, q1594, q1596, qs82, _, rfl, rfl⟩⟩⟩ else none
    else
     bif Nat.blt pc 44 then
      if h : pc = 41 then some ⟨(.ifCond .ne 7, 44, .inl 0, 48, 0), by subst h; exact ⟨dX9_part_41, rfl, (show ((41 : Nat) : Int) + (7) = ((48 : Nat) : Int) by decide)⟩⟩ else none
     else
      if h : pc = 44 then some ⟨(.aload_n 0, 45, .inl 0, 0, 0), by subst h; exact ⟨dX9_part_44, rfl, trivial⟩⟩ else none
  else
   bif Nat.blt pc 55 then
    bif Nat.blt pc 49 then
     bif Nat.blt pc 48 then
      if h : pc = 45 then some ⟨(.invokevirtual 167, 48, .inl 0, 17, 14), by subst h; exact ⟨dX9_part_45, rfl, ⟨by decide, q1542, q1544, qs69, _, rfl, rfl⟩⟩⟩ else none
     else
      if h : pc = 48 then some ⟨(.aload_n 0, 49, .inl 0, 0, 0), by subst h; exact ⟨dX9_part_48, rfl, trivial⟩⟩ else none
    else
     bif Nat.blt pc 52 then
      if h : pc = 49 then some ⟨(.getfield 154, 52, .inl 0, 25, 14), by subst h; exact ⟨dX9_part_49, rfl, ⟨⟨_, rfl, by decide, _, Or.inl q1383, Or.inl rfl⟩, (show mKd 14 25 ≤ 4 by decide)⟩⟩⟩ else none
     else
      if h : pc = 52 then some ⟨(.ifCond .ne 7, 55, .inl 0, 59, 0), by subst h; exact ⟨dX9_part_52, rfl, (show ((52 : Nat) : Int) + (7) = ((59 : Nat) : Int) by decide)⟩⟩ else none
   else
    bif Nat.blt pc 59 then
     bif Nat.blt pc 56 then
      if h : pc = 55 then some ⟨(.aload_n 0, 56, .inl 0, 0, 0), by subst h; exact ⟨dX9_part_55, rfl, trivial⟩⟩ else none
     else
      if h : pc = 56 then some ⟨(.invokevirtual 170, 59, .inl 0, 12, 14), by subst h; exact ⟨dX9_part_56, rfl, ⟨by decide, q1518, q1520, qs64, _, rfl, rfl⟩⟩⟩ else none
    else
     bif Nat.blt pc 60 then
      if h : pc = 59 then some ⟨(.iload_n 2, 60, .inl 0, 0, 0), by subst h; exact ⟨dX9_part_59, rfl, trivial⟩⟩ else none
     else
      if h : pc = 60 then some ⟨(.ireturn, 61, .inl 0, 0, 0), by subst h; exact ⟨dX9_part_60, rfl, rfl⟩⟩ else none

noncomputable def mt17 (pc : Nat) : Option {e : mE // mOK yX9_fail cX9_fail 1 ((Option.none : Option ClassFile.FieldType)) pc e} :=
 bif Nat.blt pc 9 then
  bif Nat.blt pc 4 then
   bif Nat.blt pc 1 then
    if h : pc = 0 then some ⟨(.aload_n 0, 1, .inl 0, 0, 0), by subst h; exact ⟨dX9_fail_0, rfl, trivial⟩⟩ else none
   else
    if h : pc = 1 then some ⟨(.getfield 154, 4, .inl 0, 25, 14), by subst h; exact ⟨dX9_fail_1, rfl, ⟨⟨_, rfl, by decide, _, Or.inl q1383, Or.inl rfl⟩, (show mKd 14 25 ≤ 4 by decide)⟩⟩⟩ else none
  else
   bif Nat.blt pc 7 then
    if h : pc = 4 then some ⟨(.ifCond .ne 16, 7, .inl 0, 20, 0), by subst h; exact ⟨dX9_fail_4, rfl, (show ((4 : Nat) : Int) + (16) = ((20 : Nat) : Int) by decide)⟩⟩ else none
   else
    bif Nat.blt pc 8 then
     if h : pc = 7 then some ⟨(.aload_n 0, 8, .inl 0, 0, 0), by subst h; exact ⟨dX9_fail_7, rfl, trivial⟩⟩ else none
    else
     if h : pc = 8 then some ⟨(.iconst 1, 9, .inl 1, 0, 0), by subst h; exact ⟨dX9_fail_8, rfl, ⟨1, rfl, by decide⟩⟩⟩ else none
 else
  bif Nat.blt pc 14 then
   bif Nat.blt pc 12 then
    if h : pc = 9 then some ⟨(.putfield 154, 12, .inl 0, 25, 114), by subst h; exact ⟨dX9_fail_9, rfl, ⟨⟨_, rfl, by decide, _, Or.inl q1383, Or.inl rfl⟩, (show mKd 14 25 ≤ 4 by decide), by decide, by decide, (fun q h => Or.inl (by cases h; rfl))⟩⟩⟩ else none
   else
    bif Nat.blt pc 13 then
     if h : pc = 12 then some ⟨(.aload_n 0, 13, .inl 0, 0, 0), by subst h; exact ⟨dX9_fail_12, rfl, trivial⟩⟩ else none
    else
     if h : pc = 13 then some ⟨(.aload_n 0, 14, .inl 0, 0, 0), by subst h; exact ⟨dX9_fail_13, rfl, trivial⟩⟩ else none
  else
   bif Nat.blt pc 17 then
    if h : pc = 14 then some ⟨(.getfield 136, 17, .inl 0, 22, 14), by subst h; exact ⟨dX9_fail_14, rfl, ⟨⟨_, rfl, by decide, _, Or.inl q1380, Or.inl rfl⟩, (show mKd 14 22 ≤ 4 by decide)⟩⟩⟩ else none
   else
    bif Nat.blt pc 20 then
     if h : pc = 17 then some ⟨(.putfield 158, 20, .inl 0, 26, 14), by subst h; exact ⟨dX9_fail_17, rfl, ⟨⟨_, rfl, by decide, _, Or.inl q1384, Or.inl rfl⟩, (show mKd 14 26 ≤ 4 by decide), by decide, by decide, (fun q h => Or.inl (by cases h; rfl))⟩⟩⟩ else none
    else
     if h : pc = 20 then some ⟨(.return_, 21, .inl 0, 0, 0), by subst h; exact ⟨dX9_fail_20, rfl, rfl⟩⟩ else none

noncomputable def mt18 (pc : Nat) : Option {e : mE // mOK yX9_either0 cX9_either0 3 ((Option.some ClassFile.FieldType.int)) pc e} :=
 bif Nat.blt pc 23 then
  bif Nat.blt pc 11 then
   bif Nat.blt pc 5 then
    bif Nat.blt pc 1 then
     if h : pc = 0 then some ⟨(.aload_n 0, 1, .inl 0, 0, 0), by subst h; exact ⟨dX9_either0_0, rfl, trivial⟩⟩ else none
    else
     bif Nat.blt pc 4 then
      if h : pc = 1 then some ⟨(.invokevirtual 312, 4, .inl 0, 19, 14), by subst h; exact ⟨dX9_either0_1, rfl, ⟨by decide, q1550, q1552, qs71, _, rfl, rfl⟩⟩⟩ else none
     else
      if h : pc = 4 then some ⟨(.istore_n 1, 5, .inl 0, 0, 0), by subst h; exact ⟨dX9_either0_4, rfl, (show (1 : Nat) < 3 by decide)⟩⟩ else none
   else
    bif Nat.blt pc 8 then
     bif Nat.blt pc 6 then
      if h : pc = 5 then some ⟨(.aload_n 0, 6, .inl 0, 0, 0), by subst h; exact ⟨dX9_either0_5, rfl, trivial⟩⟩ else none
     else
      if h : pc = 6 then some ⟨(.bipush 111, 8, .inl 111, 0, 0), by subst h; exact ⟨dX9_either0_6, rfl, ⟨111, rfl, by decide⟩⟩⟩ else none
    else
     bif Nat.blt pc 10 then
      if h : pc = 8 then some ⟨(.bipush 114, 10, .inl 114, 0, 0), by subst h; exact ⟨dX9_either0_8, rfl, ⟨114, rfl, by decide⟩⟩⟩ else none
     else
      if h : pc = 10 then some ⟨(.iconst 0, 11, .inl 0, 0, 0), by subst h; exact ⟨dX9_either0_10, rfl, ⟨0, rfl, by decide⟩⟩⟩ else none
  else
   bif Nat.blt pc 15 then
    bif Nat.blt pc 13 then
     bif Nat.blt pc 12 then
      if h : pc = 11 then some ⟨(.iconst 0, 12, .inl 0, 0, 0), by subst h; exact ⟨dX9_either0_11, rfl, ⟨0, rfl, by decide⟩⟩⟩ else none
     else
      if h : pc = 12 then some ⟨(.iconst 0, 13, .inl 0, 0, 0), by subst h; exact ⟨dX9_either0_12, rfl, ⟨0, rfl, by decide⟩⟩⟩ else none
    else
     bif Nat.blt pc 14 then
      if h : pc = 13 then some ⟨(.iconst 0, 14, .inl 0, 0, 0), by subst h; exact ⟨dX9_either0_13, rfl, ⟨0, rfl, by decide⟩⟩⟩ else none
     else
      if h : pc = 14 then some ⟨(.iconst 0, 15, .inl 0, 0, 0), by subst h; exact ⟨dX9_either0_14, rfl, ⟨0, rfl, by decide⟩⟩⟩ else none
   else
    bif Nat.blt pc 19 then
     bif Nat.blt pc 16 then
      if h : pc = 15 then some ⟨(.iconst 0, 16, .inl 0, 0, 0), by subst h; exact ⟨dX9_either0_15, rfl, ⟨0, rfl, by decide⟩⟩⟩ else none
     else
      if h : pc = 16 then some ⟨(.invokevirtual 173, 19, .inl 0, 14, 14), by subst h; exact ⟨dX9_either0_16, rfl, ⟨by decide, q1530, q1532, qs66, _, rfl, rfl⟩⟩⟩ else none
    else
     bif Nat.blt pc 22 then
      if h : pc = 19 then some ⟨(.ifCond .eq 29, 22, .inl 0, 48, 0), by subst h; exact ⟨dX9_either0_19, rfl, (show ((19 : Nat) : Int) + (29) = ((48 : Nat) : Int) by decide)⟩⟩ else none
     else
      if h : pc = 22 then some ⟨(.aload_n 0, 23, .inl 0, 0, 0), by subst h; exact ⟨dX9_either0_22, rfl, trivial⟩⟩ else none
 else
  bif Nat.blt pc 36 then
   bif Nat.blt pc 30 then
    bif Nat.blt pc 26 then
     if h : pc = 23 then some ⟨(.invokevirtual 170, 26, .inl 0, 12, 14), by subst h; exact ⟨dX9_either0_23, rfl, ⟨by decide, q1518, q1520, qs64, _, rfl, rfl⟩⟩⟩ else none
    else
     bif Nat.blt pc 27 then
      if h : pc = 26 then some ⟨(.aload_n 0, 27, .inl 0, 0, 0), by subst h; exact ⟨dX9_either0_26, rfl, trivial⟩⟩ else none
     else
      if h : pc = 27 then some ⟨(.invokevirtual 312, 30, .inl 0, 19, 14), by subst h; exact ⟨dX9_either0_27, rfl, ⟨by decide, q1550, q1552, qs71, _, rfl, rfl⟩⟩⟩ else none
   else
    bif Nat.blt pc 32 then
     bif Nat.blt pc 31 then
      if h : pc = 30 then some ⟨(.istore_n 2, 31, .inl 0, 0, 0), by subst h; exact ⟨dX9_either0_30, rfl, (show (2 : Nat) < 3 by decide)⟩⟩ else none
     else
      if h : pc = 31 then some ⟨(.iload_n 1, 32, .inl 0, 0, 0), by subst h; exact ⟨dX9_either0_31, rfl, trivial⟩⟩ else none
    else
     bif Nat.blt pc 35 then
      if h : pc = 32 then some ⟨(.ifCond .ne 7, 35, .inl 0, 39, 0), by subst h; exact ⟨dX9_either0_32, rfl, (show ((32 : Nat) : Int) + (7) = ((39 : Nat) : Int) by decide)⟩⟩ else none
     else
      if h : pc = 35 then some ⟨(.iload_n 2, 36, .inl 0, 0, 0), by subst h; exact ⟨dX9_either0_35, rfl, trivial⟩⟩ else none
  else
   bif Nat.blt pc 44 then
    bif Nat.blt pc 40 then
     bif Nat.blt pc 39 then
      if h : pc = 36 then some ⟨(.ifCond .eq 7, 39, .inl 0, 43, 0), by subst h; exact ⟨dX9_either0_36, rfl, (show ((36 : Nat) : Int) + (7) = ((43 : Nat) : Int) by decide)⟩⟩ else none
     else
      if h : pc = 39 then some ⟨(.iconst 1, 40, .inl 1, 0, 0), by subst h; exact ⟨dX9_either0_39, rfl, ⟨1, rfl, by decide⟩⟩⟩ else none
    else
     bif Nat.blt pc 43 then
      if h : pc = 40 then some ⟨(.goto 4, 43, .inl 0, 44, 0), by subst h; exact ⟨dX9_either0_40, rfl, (show ((40 : Nat) : Int) + (4) = ((44 : Nat) : Int) by decide)⟩⟩ else none
     else
      if h : pc = 43 then some ⟨(.iconst 0, 44, .inl 0, 0, 0), by subst h; exact ⟨dX9_either0_43, rfl, ⟨0, rfl, by decide⟩⟩⟩ else none
   else
    bif Nat.blt pc 48 then
     bif Nat.blt pc 45 then
      if h : pc = 44 then some ⟨(.istore_n 1, 45, .inl 0, 0, 0), by subst h; exact ⟨dX9_either0_44, rfl, (show (1 : Nat) < 3 by decide)⟩⟩ else none
     else
      if h : pc = 45 then some ⟨(.goto (-40), 48, .inl 0, 5, 0), by subst h; exact ⟨dX9_either0_45, rfl, (show ((45 : Nat) : Int) + ((-40)) = ((5 : Nat) : Int) by decide)⟩⟩ else none
    else
     bif Nat.blt pc 49 then
      if h : pc = 48 then some ⟨(.iload_n 1, 49, .inl 0, 0, 0), by subst h; exact ⟨dX9_either0_48, rfl, trivial⟩⟩ else none
     else
      if h : pc = 49 then some ⟨(.ireturn, 50, .inl 0, 0, 0), by subst h; exact ⟨dX9_either0_49, rfl, rfl⟩⟩ else none

noncomputable def mt19 (pc : Nat) : Option {e : mE // mOK yX9_both0 cX9_both0 3 ((Option.some ClassFile.FieldType.int)) pc e} :=
 bif Nat.blt pc 24 then
  bif Nat.blt pc 12 then
   bif Nat.blt pc 5 then
    bif Nat.blt pc 1 then
     if h : pc = 0 then some ⟨(.aload_n 0, 1, .inl 0, 0, 0), by subst h; exact ⟨dX9_both0_0, rfl, trivial⟩⟩ else none
    else
     bif Nat.blt pc 4 then
      if h : pc = 1 then some ⟨(.invokevirtual 309, 4, .inl 0, 20, 14), by subst h; exact ⟨dX9_both0_1, rfl, ⟨by decide, q1554, q1556, qs72, _, rfl, rfl⟩⟩⟩ else none
     else
      if h : pc = 4 then some ⟨(.istore_n 1, 5, .inl 0, 0, 0), by subst h; exact ⟨dX9_both0_4, rfl, (show (1 : Nat) < 3 by decide)⟩⟩ else none
   else
    bif Nat.blt pc 8 then
     bif Nat.blt pc 6 then
      if h : pc = 5 then some ⟨(.aload_n 0, 6, .inl 0, 0, 0), by subst h; exact ⟨dX9_both0_5, rfl, trivial⟩⟩ else none
     else
      if h : pc = 6 then some ⟨(.bipush 97, 8, .inl 97, 0, 0), by subst h; exact ⟨dX9_both0_6, rfl, ⟨97, rfl, by decide⟩⟩⟩ else none
    else
     bif Nat.blt pc 10 then
      if h : pc = 8 then some ⟨(.bipush 110, 10, .inl 110, 0, 0), by subst h; exact ⟨dX9_both0_8, rfl, ⟨110, rfl, by decide⟩⟩⟩ else none
     else
      if h : pc = 10 then some ⟨(.bipush 100, 12, .inl 100, 0, 0), by subst h; exact ⟨dX9_both0_10, rfl, ⟨100, rfl, by decide⟩⟩⟩ else none
  else
   bif Nat.blt pc 16 then
    bif Nat.blt pc 14 then
     bif Nat.blt pc 13 then
      if h : pc = 12 then some ⟨(.iconst 0, 13, .inl 0, 0, 0), by subst h; exact ⟨dX9_both0_12, rfl, ⟨0, rfl, by decide⟩⟩⟩ else none
     else
      if h : pc = 13 then some ⟨(.iconst 0, 14, .inl 0, 0, 0), by subst h; exact ⟨dX9_both0_13, rfl, ⟨0, rfl, by decide⟩⟩⟩ else none
    else
     bif Nat.blt pc 15 then
      if h : pc = 14 then some ⟨(.iconst 0, 15, .inl 0, 0, 0), by subst h; exact ⟨dX9_both0_14, rfl, ⟨0, rfl, by decide⟩⟩⟩ else none
     else
      if h : pc = 15 then some ⟨(.iconst 0, 16, .inl 0, 0, 0), by subst h; exact ⟨dX9_both0_15, rfl, ⟨0, rfl, by decide⟩⟩⟩ else none
   else
    bif Nat.blt pc 20 then
     bif Nat.blt pc 17 then
      if h : pc = 16 then some ⟨(.iconst 0, 17, .inl 0, 0, 0), by subst h; exact ⟨dX9_both0_16, rfl, ⟨0, rfl, by decide⟩⟩⟩ else none
     else
      if h : pc = 17 then some ⟨(.invokevirtual 173, 20, .inl 0, 14, 14), by subst h; exact ⟨dX9_both0_17, rfl, ⟨by decide, q1530, q1532, qs66, _, rfl, rfl⟩⟩⟩ else none
    else
     bif Nat.blt pc 23 then
      if h : pc = 20 then some ⟨(.ifCond .eq 29, 23, .inl 0, 49, 0), by subst h; exact ⟨dX9_both0_20, rfl, (show ((20 : Nat) : Int) + (29) = ((49 : Nat) : Int) by decide)⟩⟩ else none
     else
      if h : pc = 23 then some ⟨(.aload_n 0, 24, .inl 0, 0, 0), by subst h; exact ⟨dX9_both0_23, rfl, trivial⟩⟩ else none
 else
  bif Nat.blt pc 37 then
   bif Nat.blt pc 31 then
    bif Nat.blt pc 27 then
     if h : pc = 24 then some ⟨(.invokevirtual 170, 27, .inl 0, 12, 14), by subst h; exact ⟨dX9_both0_24, rfl, ⟨by decide, q1518, q1520, qs64, _, rfl, rfl⟩⟩⟩ else none
    else
     bif Nat.blt pc 28 then
      if h : pc = 27 then some ⟨(.aload_n 0, 28, .inl 0, 0, 0), by subst h; exact ⟨dX9_both0_27, rfl, trivial⟩⟩ else none
     else
      if h : pc = 28 then some ⟨(.invokevirtual 309, 31, .inl 0, 20, 14), by subst h; exact ⟨dX9_both0_28, rfl, ⟨by decide, q1554, q1556, qs72, _, rfl, rfl⟩⟩⟩ else none
   else
    bif Nat.blt pc 33 then
     bif Nat.blt pc 32 then
      if h : pc = 31 then some ⟨(.istore_n 2, 32, .inl 0, 0, 0), by subst h; exact ⟨dX9_both0_31, rfl, (show (2 : Nat) < 3 by decide)⟩⟩ else none
     else
      if h : pc = 32 then some ⟨(.iload_n 1, 33, .inl 0, 0, 0), by subst h; exact ⟨dX9_both0_32, rfl, trivial⟩⟩ else none
    else
     bif Nat.blt pc 36 then
      if h : pc = 33 then some ⟨(.ifCond .eq 11, 36, .inl 0, 44, 0), by subst h; exact ⟨dX9_both0_33, rfl, (show ((33 : Nat) : Int) + (11) = ((44 : Nat) : Int) by decide)⟩⟩ else none
     else
      if h : pc = 36 then some ⟨(.iload_n 2, 37, .inl 0, 0, 0), by subst h; exact ⟨dX9_both0_36, rfl, trivial⟩⟩ else none
  else
   bif Nat.blt pc 45 then
    bif Nat.blt pc 41 then
     bif Nat.blt pc 40 then
      if h : pc = 37 then some ⟨(.ifCond .eq 7, 40, .inl 0, 44, 0), by subst h; exact ⟨dX9_both0_37, rfl, (show ((37 : Nat) : Int) + (7) = ((44 : Nat) : Int) by decide)⟩⟩ else none
     else
      if h : pc = 40 then some ⟨(.iconst 1, 41, .inl 1, 0, 0), by subst h; exact ⟨dX9_both0_40, rfl, ⟨1, rfl, by decide⟩⟩⟩ else none
    else
     bif Nat.blt pc 44 then
      if h : pc = 41 then some ⟨(.goto 4, 44, .inl 0, 45, 0), by subst h; exact ⟨dX9_both0_41, rfl, (show ((41 : Nat) : Int) + (4) = ((45 : Nat) : Int) by decide)⟩⟩ else none
     else
      if h : pc = 44 then some ⟨(.iconst 0, 45, .inl 0, 0, 0), by subst h; exact ⟨dX9_both0_44, rfl, ⟨0, rfl, by decide⟩⟩⟩ else none
   else
    bif Nat.blt pc 49 then
     bif Nat.blt pc 46 then
      if h : pc = 45 then some ⟨(.istore_n 1, 46, .inl 0, 0, 0), by subst h; exact ⟨dX9_both0_45, rfl, (show (1 : Nat) < 3 by decide)⟩⟩ else none
     else
      if h : pc = 46 then some ⟨(.goto (-41), 49, .inl 0, 5, 0), by subst h; exact ⟨dX9_both0_46, rfl, (show ((46 : Nat) : Int) + ((-41)) = ((5 : Nat) : Int) by decide)⟩⟩ else none
    else
     bif Nat.blt pc 50 then
      if h : pc = 49 then some ⟨(.iload_n 1, 50, .inl 0, 0, 0), by subst h; exact ⟨dX9_both0_49, rfl, trivial⟩⟩ else none
     else
      if h : pc = 50 then some ⟨(.ireturn, 51, .inl 0, 0, 0), by subst h; exact ⟨dX9_both0_50, rfl, rfl⟩⟩ else none

noncomputable def mt20 (pc : Nat) : Option {e : mE // mOK yX9_not0 cX9_not0 4 ((Option.some ClassFile.FieldType.int)) pc e} :=
 bif Nat.blt pc 58 then
  bif Nat.blt pc 28 then
   bif Nat.blt pc 11 then
    bif Nat.blt pc 7 then
     bif Nat.blt pc 3 then
      bif Nat.blt pc 1 then
       if h : pc = 0 then some ⟨(.aload_n 0, 1, .inl 0, 0, 0), by subst h; exact ⟨dX9_not0_0, rfl, trivial⟩⟩ else none
      else
       if h : pc = 1 then some ⟨(.bipush 110, 3, .inl 110, 0, 0), by subst h; exact ⟨dX9_not0_1, rfl, ⟨110, rfl, by decide⟩⟩⟩ else none
     else
      bif Nat.blt pc 5 then
       if h : pc = 3 then some ⟨(.bipush 111, 5, .inl 111, 0, 0), by subst h; exact ⟨dX9_not0_3, rfl, ⟨111, rfl, by decide⟩⟩⟩ else none
      else
       if h : pc = 5 then some ⟨(.bipush 116, 7, .inl 116, 0, 0), by subst h; exact ⟨dX9_not0_5, rfl, ⟨116, rfl, by decide⟩⟩⟩ else none
    else
     bif Nat.blt pc 9 then
      bif Nat.blt pc 8 then
       if h : pc = 7 then some ⟨(.iconst 0, 8, .inl 0, 0, 0), by subst h; exact ⟨dX9_not0_7, rfl, ⟨0, rfl, by decide⟩⟩⟩ else none
      else
       if h : pc = 8 then some ⟨(.iconst 0, 9, .inl 0, 0, 0), by subst h; exact ⟨dX9_not0_8, rfl, ⟨0, rfl, by decide⟩⟩⟩ else none
     else
      bif Nat.blt pc 10 then
       if h : pc = 9 then some ⟨(.iconst 0, 10, .inl 0, 0, 0), by subst h; exact ⟨dX9_not0_9, rfl, ⟨0, rfl, by decide⟩⟩⟩ else none
      else
       if h : pc = 10 then some ⟨(.iconst 0, 11, .inl 0, 0, 0), by subst h; exact ⟨dX9_not0_10, rfl, ⟨0, rfl, by decide⟩⟩⟩ else none
   else
    bif Nat.blt pc 19 then
     bif Nat.blt pc 15 then
      bif Nat.blt pc 12 then
       if h : pc = 11 then some ⟨(.iconst 0, 12, .inl 0, 0, 0), by subst h; exact ⟨dX9_not0_11, rfl, ⟨0, rfl, by decide⟩⟩⟩ else none
      else
       if h : pc = 12 then some ⟨(.invokevirtual 173, 15, .inl 0, 14, 14), by subst h; exact ⟨dX9_not0_12, rfl, ⟨by decide, q1530, q1532, qs66, _, rfl, rfl⟩⟩⟩ else none
     else
      bif Nat.blt pc 18 then
       if h : pc = 15 then some ⟨(.ifCond .eq 37, 18, .inl 0, 52, 0), by subst h; exact ⟨dX9_not0_15, rfl, (show ((15 : Nat) : Int) + (37) = ((52 : Nat) : Int) by decide)⟩⟩ else none
      else
       if h : pc = 18 then some ⟨(.aload_n 0, 19, .inl 0, 0, 0), by subst h; exact ⟨dX9_not0_18, rfl, trivial⟩⟩ else none
    else
     bif Nat.blt pc 25 then
      bif Nat.blt pc 22 then
       if h : pc = 19 then some ⟨(.invokevirtual 198, 22, .inl 0, 21, 14), by subst h; exact ⟨dX9_not0_19, rfl, ⟨by decide, q1558, q1560, qs73, _, rfl, rfl⟩⟩⟩ else none
      else
       if h : pc = 22 then some ⟨(.ifCond .ne 5, 25, .inl 0, 27, 0), by subst h; exact ⟨dX9_not0_22, rfl, (show ((22 : Nat) : Int) + (5) = ((27 : Nat) : Int) by decide)⟩⟩ else none
     else
      bif Nat.blt pc 26 then
       if h : pc = 25 then some ⟨(.iconst 0, 26, .inl 0, 0, 0), by subst h; exact ⟨dX9_not0_25, rfl, ⟨0, rfl, by decide⟩⟩⟩ else none
      else
       bif Nat.blt pc 27 then
        if h : pc = 26 then some ⟨(.ireturn, 27, .inl 0, 0, 0), by subst h; exact ⟨dX9_not0_26, rfl, rfl⟩⟩ else none
       else
        if h : pc = 27 then some ⟨(.aload_n 0, 28, .inl 0, 0, 0), by subst h; exact ⟨dX9_not0_27, rfl, trivial⟩⟩ else none
  else
   bif Nat.blt pc 43 then
    bif Nat.blt pc 34 then
     bif Nat.blt pc 32 then
      bif Nat.blt pc 31 then
       if h : pc = 28 then some ⟨(.invokevirtual 291, 31, .inl 0, 22, 14), by subst h; exact ⟨dX9_not0_28, rfl, ⟨by decide, q1562, q1564, qs74, _, rfl, rfl⟩⟩⟩ else none
      else
       if h : pc = 31 then some ⟨(.istore_n 1, 32, .inl 0, 0, 0), by subst h; exact ⟨dX9_not0_31, rfl, (show (1 : Nat) < 4 by decide)⟩⟩ else none
     else
      bif Nat.blt pc 33 then
       if h : pc = 32 then some ⟨(.aload_n 0, 33, .inl 0, 0, 0), by subst h; exact ⟨dX9_not0_32, rfl, trivial⟩⟩ else none
      else
       if h : pc = 33 then some ⟨(.dup, 34, .inl 0, 0, 0), by subst h; exact ⟨dX9_not0_33, rfl, trivial⟩⟩ else none
    else
     bif Nat.blt pc 38 then
      bif Nat.blt pc 37 then
       if h : pc = 34 then some ⟨(.getfield 164, 37, .inl 0, 24, 14), by subst h; exact ⟨dX9_not0_34, rfl, ⟨⟨_, rfl, by decide, _, Or.inl q1382, Or.inl rfl⟩, (show mKd 14 24 ≤ 4 by decide)⟩⟩⟩ else none
      else
       if h : pc = 37 then some ⟨(.iconst 1, 38, .inl 1, 0, 0), by subst h; exact ⟨dX9_not0_37, rfl, ⟨1, rfl, by decide⟩⟩⟩ else none
     else
      bif Nat.blt pc 39 then
       if h : pc = 38 then some ⟨(.isub, 39, .inl 0, 0, 0), by subst h; exact ⟨dX9_not0_38, rfl, trivial⟩⟩ else none
      else
       bif Nat.blt pc 42 then
        if h : pc = 39 then some ⟨(.putfield 164, 42, .inl 0, 24, 14), by subst h; exact ⟨dX9_not0_39, rfl, ⟨⟨_, rfl, by decide, _, Or.inl q1382, Or.inl rfl⟩, (show mKd 14 24 ≤ 4 by decide), by decide, by decide, (fun q h => Or.inl (by cases h; rfl))⟩⟩⟩ else none
       else
        if h : pc = 42 then some ⟨(.iload_n 1, 43, .inl 0, 0, 0), by subst h; exact ⟨dX9_not0_42, rfl, trivial⟩⟩ else none
   else
    bif Nat.blt pc 51 then
     bif Nat.blt pc 47 then
      bif Nat.blt pc 46 then
       if h : pc = 43 then some ⟨(.ifCond .ne 7, 46, .inl 0, 50, 0), by subst h; exact ⟨dX9_not0_43, rfl, (show ((43 : Nat) : Int) + (7) = ((50 : Nat) : Int) by decide)⟩⟩ else none
      else
       if h : pc = 46 then some ⟨(.iconst 1, 47, .inl 1, 0, 0), by subst h; exact ⟨dX9_not0_46, rfl, ⟨1, rfl, by decide⟩⟩⟩ else none
     else
      bif Nat.blt pc 50 then
       if h : pc = 47 then some ⟨(.goto 4, 50, .inl 0, 51, 0), by subst h; exact ⟨dX9_not0_47, rfl, (show ((47 : Nat) : Int) + (4) = ((51 : Nat) : Int) by decide)⟩⟩ else none
      else
       if h : pc = 50 then some ⟨(.iconst 0, 51, .inl 0, 0, 0), by subst h; exact ⟨dX9_not0_50, rfl, ⟨0, rfl, by decide⟩⟩⟩ else none
    else
     bif Nat.blt pc 53 then
      bif Nat.blt pc 52 then
       if h : pc = 51 then some ⟨(.ireturn, 52, .inl 0, 0, 0), by subst h; exact ⟨dX9_not0_51, rfl, rfl⟩⟩ else none
      else
       if h : pc = 52 then some ⟨(.aload_n 0, 53, .inl 0, 0, 0), by subst h; exact ⟨dX9_not0_52, rfl, trivial⟩⟩ else none
     else
      bif Nat.blt pc 56 then
       if h : pc = 53 then some ⟨(.invokevirtual 306, 56, .inl 0, 52, 14), by subst h; exact ⟨dX9_not0_53, rfl, ⟨by decide, q1684, q1686, qs104, _, rfl, rfl⟩⟩⟩ else none
      else
       bif Nat.blt pc 57 then
        if h : pc = 56 then some ⟨(.istore_n 1, 57, .inl 0, 0, 0), by subst h; exact ⟨dX9_not0_56, rfl, (show (1 : Nat) < 4 by decide)⟩⟩ else none
       else
        if h : pc = 57 then some ⟨(.aload_n 0, 58, .inl 0, 0, 0), by subst h; exact ⟨dX9_not0_57, rfl, trivial⟩⟩ else none
 else
  bif Nat.blt pc 94 then
   bif Nat.blt pc 77 then
    bif Nat.blt pc 67 then
     bif Nat.blt pc 63 then
      bif Nat.blt pc 60 then
       if h : pc = 58 then some ⟨(.bipush 60, 60, .inl 60, 0, 0), by subst h; exact ⟨dX9_not0_58, rfl, ⟨60, rfl, by decide⟩⟩⟩ else none
      else
       if h : pc = 60 then some ⟨(.invokevirtual 195, 63, .inl 0, 30, 14), by subst h; exact ⟨dX9_not0_60, rfl, ⟨by decide, q1594, q1596, qs82, _, rfl, rfl⟩⟩⟩ else none
     else
      bif Nat.blt pc 66 then
       if h : pc = 63 then some ⟨(.ifCond .ne 14, 66, .inl 0, 77, 0), by subst h; exact ⟨dX9_not0_63, rfl, (show ((63 : Nat) : Int) + (14) = ((77 : Nat) : Int) by decide)⟩⟩ else none
      else
       if h : pc = 66 then some ⟨(.aload_n 0, 67, .inl 0, 0, 0), by subst h; exact ⟨dX9_not0_66, rfl, trivial⟩⟩ else none
    else
     bif Nat.blt pc 72 then
      bif Nat.blt pc 69 then
       if h : pc = 67 then some ⟨(.bipush 61, 69, .inl 61, 0, 0), by subst h; exact ⟨dX9_not0_67, rfl, ⟨61, rfl, by decide⟩⟩⟩ else none
      else
       if h : pc = 69 then some ⟨(.invokevirtual 195, 72, .inl 0, 30, 14), by subst h; exact ⟨dX9_not0_69, rfl, ⟨by decide, q1594, q1596, qs82, _, rfl, rfl⟩⟩⟩ else none
     else
      bif Nat.blt pc 75 then
       if h : pc = 72 then some ⟨(.ifCond .ne 5, 75, .inl 0, 77, 0), by subst h; exact ⟨dX9_not0_72, rfl, (show ((72 : Nat) : Int) + (5) = ((77 : Nat) : Int) by decide)⟩⟩ else none
      else
       bif Nat.blt pc 76 then
        if h : pc = 75 then some ⟨(.iload_n 1, 76, .inl 0, 0, 0), by subst h; exact ⟨dX9_not0_75, rfl, trivial⟩⟩ else none
       else
        if h : pc = 76 then some ⟨(.ireturn, 77, .inl 0, 0, 0), by subst h; exact ⟨dX9_not0_76, rfl, rfl⟩⟩ else none
   else
    bif Nat.blt pc 85 then
     bif Nat.blt pc 81 then
      bif Nat.blt pc 78 then
       if h : pc = 77 then some ⟨(.aload_n 0, 78, .inl 0, 0, 0), by subst h; exact ⟨dX9_not0_77, rfl, trivial⟩⟩ else none
      else
       if h : pc = 78 then some ⟨(.getfield 150, 81, .inr (.inl 0), 23, 14), by subst h; exact ⟨dX9_not0_78, rfl, ⟨⟨_, rfl, by decide, _, Or.inl q1381, Or.inl rfl⟩, (show mKd 14 23 = 5 by rfl)⟩⟩⟩ else none
     else
      bif Nat.blt pc 84 then
       if h : pc = 81 then some ⟨(.ldc2_w 217, 84, .inr (.inl 60), 0, 0), by subst h; exact ⟨dX9_not0_81, rfl, ⟨_, rfl, q1603⟩⟩⟩ else none
      else
       if h : pc = 84 then some ⟨(.lcmp, 85, .inl 0, 0, 0), by subst h; exact ⟨dX9_not0_84, rfl, trivial⟩⟩ else none
    else
     bif Nat.blt pc 89 then
      bif Nat.blt pc 88 then
       if h : pc = 85 then some ⟨(.ifCond .ne 7, 88, .inl 0, 92, 0), by subst h; exact ⟨dX9_not0_85, rfl, (show ((85 : Nat) : Int) + (7) = ((92 : Nat) : Int) by decide)⟩⟩ else none
      else
       if h : pc = 88 then some ⟨(.iconst 1, 89, .inl 1, 0, 0), by subst h; exact ⟨dX9_not0_88, rfl, ⟨1, rfl, by decide⟩⟩⟩ else none
     else
      bif Nat.blt pc 92 then
       if h : pc = 89 then some ⟨(.goto 4, 92, .inl 0, 93, 0), by subst h; exact ⟨dX9_not0_89, rfl, (show ((89 : Nat) : Int) + (4) = ((93 : Nat) : Int) by decide)⟩⟩ else none
      else
       bif Nat.blt pc 93 then
        if h : pc = 92 then some ⟨(.iconst 0, 93, .inl 0, 0, 0), by subst h; exact ⟨dX9_not0_92, rfl, ⟨0, rfl, by decide⟩⟩⟩ else none
       else
        if h : pc = 93 then some ⟨(.istore_n 2, 94, .inl 0, 0, 0), by subst h; exact ⟨dX9_not0_93, rfl, (show (2 : Nat) < 4 by decide)⟩⟩ else none
  else
   bif Nat.blt pc 109 then
    bif Nat.blt pc 102 then
     bif Nat.blt pc 98 then
      bif Nat.blt pc 95 then
       if h : pc = 94 then some ⟨(.aload_n 0, 95, .inl 0, 0, 0), by subst h; exact ⟨dX9_not0_94, rfl, trivial⟩⟩ else none
      else
       if h : pc = 95 then some ⟨(.invokevirtual 170, 98, .inl 0, 12, 14), by subst h; exact ⟨dX9_not0_95, rfl, ⟨by decide, q1518, q1520, qs64, _, rfl, rfl⟩⟩⟩ else none
     else
      bif Nat.blt pc 99 then
       if h : pc = 98 then some ⟨(.aload_n 0, 99, .inl 0, 0, 0), by subst h; exact ⟨dX9_not0_98, rfl, trivial⟩⟩ else none
      else
       if h : pc = 99 then some ⟨(.invokevirtual 306, 102, .inl 0, 52, 14), by subst h; exact ⟨dX9_not0_99, rfl, ⟨by decide, q1684, q1686, qs104, _, rfl, rfl⟩⟩⟩ else none
    else
     bif Nat.blt pc 104 then
      bif Nat.blt pc 103 then
       if h : pc = 102 then some ⟨(.istore_n 3, 103, .inl 0, 0, 0), by subst h; exact ⟨dX9_not0_102, rfl, (show (3 : Nat) < 4 by decide)⟩⟩ else none
      else
       if h : pc = 103 then some ⟨(.iload_n 2, 104, .inl 0, 0, 0), by subst h; exact ⟨dX9_not0_103, rfl, trivial⟩⟩ else none
     else
      bif Nat.blt pc 107 then
       if h : pc = 104 then some ⟨(.ifCond .eq 11, 107, .inl 0, 115, 0), by subst h; exact ⟨dX9_not0_104, rfl, (show ((104 : Nat) : Int) + (11) = ((115 : Nat) : Int) by decide)⟩⟩ else none
      else
       bif Nat.blt pc 108 then
        if h : pc = 107 then some ⟨(.iload_n 1, 108, .inl 0, 0, 0), by subst h; exact ⟨dX9_not0_107, rfl, trivial⟩⟩ else none
       else
        if h : pc = 108 then some ⟨(.iload_n 3, 109, .inl 0, 0, 0), by subst h; exact ⟨dX9_not0_108, rfl, trivial⟩⟩ else none
   else
    bif Nat.blt pc 117 then
     bif Nat.blt pc 115 then
      bif Nat.blt pc 112 then
       if h : pc = 109 then some ⟨(.if_icmp .ge 15, 112, .inl 0, 124, 0), by subst h; exact ⟨dX9_not0_109, rfl, (show ((109 : Nat) : Int) + (15) = ((124 : Nat) : Int) by decide)⟩⟩ else none
      else
       if h : pc = 112 then some ⟨(.goto 8, 115, .inl 0, 120, 0), by subst h; exact ⟨dX9_not0_112, rfl, (show ((112 : Nat) : Int) + (8) = ((120 : Nat) : Int) by decide)⟩⟩ else none
     else
      bif Nat.blt pc 116 then
       if h : pc = 115 then some ⟨(.iload_n 1, 116, .inl 0, 0, 0), by subst h; exact ⟨dX9_not0_115, rfl, trivial⟩⟩ else none
      else
       if h : pc = 116 then some ⟨(.iload_n 3, 117, .inl 0, 0, 0), by subst h; exact ⟨dX9_not0_116, rfl, trivial⟩⟩ else none
    else
     bif Nat.blt pc 121 then
      bif Nat.blt pc 120 then
       if h : pc = 117 then some ⟨(.if_icmp .ne 7, 120, .inl 0, 124, 0), by subst h; exact ⟨dX9_not0_117, rfl, (show ((117 : Nat) : Int) + (7) = ((124 : Nat) : Int) by decide)⟩⟩ else none
      else
       if h : pc = 120 then some ⟨(.iconst 1, 121, .inl 1, 0, 0), by subst h; exact ⟨dX9_not0_120, rfl, ⟨1, rfl, by decide⟩⟩⟩ else none
     else
      bif Nat.blt pc 124 then
       if h : pc = 121 then some ⟨(.goto 4, 124, .inl 0, 125, 0), by subst h; exact ⟨dX9_not0_121, rfl, (show ((121 : Nat) : Int) + (4) = ((125 : Nat) : Int) by decide)⟩⟩ else none
      else
       bif Nat.blt pc 125 then
        if h : pc = 124 then some ⟨(.iconst 0, 125, .inl 0, 0, 0), by subst h; exact ⟨dX9_not0_124, rfl, ⟨0, rfl, by decide⟩⟩⟩ else none
       else
        if h : pc = 125 then some ⟨(.ireturn, 126, .inl 0, 0, 0), by subst h; exact ⟨dX9_not0_125, rfl, rfl⟩⟩ else none

noncomputable def mt21 (pc : Nat) : Option {e : mE // mOK yX9_opens cX9_opens 1 ((Option.some ClassFile.FieldType.boolean)) pc e} :=
 bif Nat.blt pc 15 then
  bif Nat.blt pc 8 then
   bif Nat.blt pc 4 then
    bif Nat.blt pc 1 then
     if h : pc = 0 then some ⟨(.aload_n 0, 1, .inl 0, 0, 0), by subst h; exact ⟨dX9_opens_0, rfl, trivial⟩⟩ else none
    else
     if h : pc = 1 then some ⟨(.getfield 164, 4, .inl 0, 24, 14), by subst h; exact ⟨dX9_opens_1, rfl, ⟨⟨_, rfl, by decide, _, Or.inl q1382, Or.inl rfl⟩, (show mKd 14 24 ≤ 4 by decide)⟩⟩⟩ else none
   else
    bif Nat.blt pc 5 then
     if h : pc = 4 then some ⟨(.iconst 5, 5, .inl 5, 0, 0), by subst h; exact ⟨dX9_opens_4, rfl, ⟨5, rfl, by decide⟩⟩⟩ else none
    else
     if h : pc = 5 then some ⟨(.if_icmp .ne 9, 8, .inl 0, 14, 0), by subst h; exact ⟨dX9_opens_5, rfl, (show ((5 : Nat) : Int) + (9) = ((14 : Nat) : Int) by decide)⟩⟩ else none
  else
   bif Nat.blt pc 12 then
    bif Nat.blt pc 9 then
     if h : pc = 8 then some ⟨(.aload_n 0, 9, .inl 0, 0, 0), by subst h; exact ⟨dX9_opens_8, rfl, trivial⟩⟩ else none
    else
     if h : pc = 9 then some ⟨(.invokevirtual 167, 12, .inl 0, 17, 14), by subst h; exact ⟨dX9_opens_9, rfl, ⟨by decide, q1542, q1544, qs69, _, rfl, rfl⟩⟩⟩ else none
   else
    bif Nat.blt pc 13 then
     if h : pc = 12 then some ⟨(.iconst 0, 13, .inl 0, 0, 0), by subst h; exact ⟨dX9_opens_12, rfl, ⟨0, rfl, by decide⟩⟩⟩ else none
    else
     bif Nat.blt pc 14 then
      if h : pc = 13 then some ⟨(.ireturn, 14, .inl 0, 1, 0), by subst h; exact ⟨dX9_opens_13, rfl, rfl⟩⟩ else none
     else
      if h : pc = 14 then some ⟨(.aload_n 0, 15, .inl 0, 0, 0), by subst h; exact ⟨dX9_opens_14, rfl, trivial⟩⟩ else none
 else
  bif Nat.blt pc 21 then
   bif Nat.blt pc 19 then
    bif Nat.blt pc 16 then
     if h : pc = 15 then some ⟨(.dup, 16, .inl 0, 0, 0), by subst h; exact ⟨dX9_opens_15, rfl, trivial⟩⟩ else none
    else
     if h : pc = 16 then some ⟨(.getfield 164, 19, .inl 0, 24, 14), by subst h; exact ⟨dX9_opens_16, rfl, ⟨⟨_, rfl, by decide, _, Or.inl q1382, Or.inl rfl⟩, (show mKd 14 24 ≤ 4 by decide)⟩⟩⟩ else none
   else
    bif Nat.blt pc 20 then
     if h : pc = 19 then some ⟨(.iconst 1, 20, .inl 1, 0, 0), by subst h; exact ⟨dX9_opens_19, rfl, ⟨1, rfl, by decide⟩⟩⟩ else none
    else
     if h : pc = 20 then some ⟨(.iadd, 21, .inl 0, 0, 0), by subst h; exact ⟨dX9_opens_20, rfl, trivial⟩⟩ else none
  else
   bif Nat.blt pc 25 then
    bif Nat.blt pc 24 then
     if h : pc = 21 then some ⟨(.putfield 164, 24, .inl 0, 24, 14), by subst h; exact ⟨dX9_opens_21, rfl, ⟨⟨_, rfl, by decide, _, Or.inl q1382, Or.inl rfl⟩, (show mKd 14 24 ≤ 4 by decide), by decide, by decide, (fun q h => Or.inl (by cases h; rfl))⟩⟩⟩ else none
    else
     if h : pc = 24 then some ⟨(.aload_n 0, 25, .inl 0, 0, 0), by subst h; exact ⟨dX9_opens_24, rfl, trivial⟩⟩ else none
   else
    bif Nat.blt pc 28 then
     if h : pc = 25 then some ⟨(.invokevirtual 170, 28, .inl 0, 12, 14), by subst h; exact ⟨dX9_opens_25, rfl, ⟨by decide, q1518, q1520, qs64, _, rfl, rfl⟩⟩⟩ else none
    else
     bif Nat.blt pc 29 then
      if h : pc = 28 then some ⟨(.iconst 1, 29, .inl 1, 0, 0), by subst h; exact ⟨dX9_opens_28, rfl, ⟨1, rfl, by decide⟩⟩⟩ else none
     else
      if h : pc = 29 then some ⟨(.ireturn, 30, .inl 0, 1, 0), by subst h; exact ⟨dX9_opens_29, rfl, rfl⟩⟩ else none

noncomputable def mt22 (pc : Nat) : Option {e : mE // mOK yX9_not1 cX9_not1 4 ((Option.some ClassFile.FieldType.int)) pc e} :=
 bif Nat.blt pc 58 then
  bif Nat.blt pc 28 then
   bif Nat.blt pc 11 then
    bif Nat.blt pc 7 then
     bif Nat.blt pc 3 then
      bif Nat.blt pc 1 then
       if h : pc = 0 then some ⟨(.aload_n 0, 1, .inl 0, 0, 0), by subst h; exact ⟨dX9_not1_0, rfl, trivial⟩⟩ else none
      else
       if h : pc = 1 then some ⟨(.bipush 110, 3, .inl 110, 0, 0), by subst h; exact ⟨dX9_not1_1, rfl, ⟨110, rfl, by decide⟩⟩⟩ else none
     else
      bif Nat.blt pc 5 then
       if h : pc = 3 then some ⟨(.bipush 111, 5, .inl 111, 0, 0), by subst h; exact ⟨dX9_not1_3, rfl, ⟨111, rfl, by decide⟩⟩⟩ else none
      else
       if h : pc = 5 then some ⟨(.bipush 116, 7, .inl 116, 0, 0), by subst h; exact ⟨dX9_not1_5, rfl, ⟨116, rfl, by decide⟩⟩⟩ else none
    else
     bif Nat.blt pc 9 then
      bif Nat.blt pc 8 then
       if h : pc = 7 then some ⟨(.iconst 0, 8, .inl 0, 0, 0), by subst h; exact ⟨dX9_not1_7, rfl, ⟨0, rfl, by decide⟩⟩⟩ else none
      else
       if h : pc = 8 then some ⟨(.iconst 0, 9, .inl 0, 0, 0), by subst h; exact ⟨dX9_not1_8, rfl, ⟨0, rfl, by decide⟩⟩⟩ else none
     else
      bif Nat.blt pc 10 then
       if h : pc = 9 then some ⟨(.iconst 0, 10, .inl 0, 0, 0), by subst h; exact ⟨dX9_not1_9, rfl, ⟨0, rfl, by decide⟩⟩⟩ else none
      else
       if h : pc = 10 then some ⟨(.iconst 0, 11, .inl 0, 0, 0), by subst h; exact ⟨dX9_not1_10, rfl, ⟨0, rfl, by decide⟩⟩⟩ else none
   else
    bif Nat.blt pc 19 then
     bif Nat.blt pc 15 then
      bif Nat.blt pc 12 then
       if h : pc = 11 then some ⟨(.iconst 0, 12, .inl 0, 0, 0), by subst h; exact ⟨dX9_not1_11, rfl, ⟨0, rfl, by decide⟩⟩⟩ else none
      else
       if h : pc = 12 then some ⟨(.invokevirtual 173, 15, .inl 0, 14, 14), by subst h; exact ⟨dX9_not1_12, rfl, ⟨by decide, q1530, q1532, qs66, _, rfl, rfl⟩⟩⟩ else none
     else
      bif Nat.blt pc 18 then
       if h : pc = 15 then some ⟨(.ifCond .eq 37, 18, .inl 0, 52, 0), by subst h; exact ⟨dX9_not1_15, rfl, (show ((15 : Nat) : Int) + (37) = ((52 : Nat) : Int) by decide)⟩⟩ else none
      else
       if h : pc = 18 then some ⟨(.aload_n 0, 19, .inl 0, 0, 0), by subst h; exact ⟨dX9_not1_18, rfl, trivial⟩⟩ else none
    else
     bif Nat.blt pc 25 then
      bif Nat.blt pc 22 then
       if h : pc = 19 then some ⟨(.invokevirtual 198, 22, .inl 0, 21, 14), by subst h; exact ⟨dX9_not1_19, rfl, ⟨by decide, q1558, q1560, qs73, _, rfl, rfl⟩⟩⟩ else none
      else
       if h : pc = 22 then some ⟨(.ifCond .ne 5, 25, .inl 0, 27, 0), by subst h; exact ⟨dX9_not1_22, rfl, (show ((22 : Nat) : Int) + (5) = ((27 : Nat) : Int) by decide)⟩⟩ else none
     else
      bif Nat.blt pc 26 then
       if h : pc = 25 then some ⟨(.iconst 0, 26, .inl 0, 0, 0), by subst h; exact ⟨dX9_not1_25, rfl, ⟨0, rfl, by decide⟩⟩⟩ else none
      else
       bif Nat.blt pc 27 then
        if h : pc = 26 then some ⟨(.ireturn, 27, .inl 0, 0, 0), by subst h; exact ⟨dX9_not1_26, rfl, rfl⟩⟩ else none
       else
        if h : pc = 27 then some ⟨(.aload_n 0, 28, .inl 0, 0, 0), by subst h; exact ⟨dX9_not1_27, rfl, trivial⟩⟩ else none
  else
   bif Nat.blt pc 43 then
    bif Nat.blt pc 34 then
     bif Nat.blt pc 32 then
      bif Nat.blt pc 31 then
       if h : pc = 28 then some ⟨(.invokevirtual 273, 31, .inl 0, 23, 14), by subst h; exact ⟨dX9_not1_28, rfl, ⟨by decide, q1566, q1568, qs75, _, rfl, rfl⟩⟩⟩ else none
      else
       if h : pc = 31 then some ⟨(.istore_n 1, 32, .inl 0, 0, 0), by subst h; exact ⟨dX9_not1_31, rfl, (show (1 : Nat) < 4 by decide)⟩⟩ else none
     else
      bif Nat.blt pc 33 then
       if h : pc = 32 then some ⟨(.aload_n 0, 33, .inl 0, 0, 0), by subst h; exact ⟨dX9_not1_32, rfl, trivial⟩⟩ else none
      else
       if h : pc = 33 then some ⟨(.dup, 34, .inl 0, 0, 0), by subst h; exact ⟨dX9_not1_33, rfl, trivial⟩⟩ else none
    else
     bif Nat.blt pc 38 then
      bif Nat.blt pc 37 then
       if h : pc = 34 then some ⟨(.getfield 164, 37, .inl 0, 24, 14), by subst h; exact ⟨dX9_not1_34, rfl, ⟨⟨_, rfl, by decide, _, Or.inl q1382, Or.inl rfl⟩, (show mKd 14 24 ≤ 4 by decide)⟩⟩⟩ else none
      else
       if h : pc = 37 then some ⟨(.iconst 1, 38, .inl 1, 0, 0), by subst h; exact ⟨dX9_not1_37, rfl, ⟨1, rfl, by decide⟩⟩⟩ else none
     else
      bif Nat.blt pc 39 then
       if h : pc = 38 then some ⟨(.isub, 39, .inl 0, 0, 0), by subst h; exact ⟨dX9_not1_38, rfl, trivial⟩⟩ else none
      else
       bif Nat.blt pc 42 then
        if h : pc = 39 then some ⟨(.putfield 164, 42, .inl 0, 24, 14), by subst h; exact ⟨dX9_not1_39, rfl, ⟨⟨_, rfl, by decide, _, Or.inl q1382, Or.inl rfl⟩, (show mKd 14 24 ≤ 4 by decide), by decide, by decide, (fun q h => Or.inl (by cases h; rfl))⟩⟩⟩ else none
       else
        if h : pc = 42 then some ⟨(.iload_n 1, 43, .inl 0, 0, 0), by subst h; exact ⟨dX9_not1_42, rfl, trivial⟩⟩ else none
   else
    bif Nat.blt pc 51 then
     bif Nat.blt pc 47 then
      bif Nat.blt pc 46 then
       if h : pc = 43 then some ⟨(.ifCond .ne 7, 46, .inl 0, 50, 0), by subst h; exact ⟨dX9_not1_43, rfl, (show ((43 : Nat) : Int) + (7) = ((50 : Nat) : Int) by decide)⟩⟩ else none
      else
       if h : pc = 46 then some ⟨(.iconst 1, 47, .inl 1, 0, 0), by subst h; exact ⟨dX9_not1_46, rfl, ⟨1, rfl, by decide⟩⟩⟩ else none
     else
      bif Nat.blt pc 50 then
       if h : pc = 47 then some ⟨(.goto 4, 50, .inl 0, 51, 0), by subst h; exact ⟨dX9_not1_47, rfl, (show ((47 : Nat) : Int) + (4) = ((51 : Nat) : Int) by decide)⟩⟩ else none
      else
       if h : pc = 50 then some ⟨(.iconst 0, 51, .inl 0, 0, 0), by subst h; exact ⟨dX9_not1_50, rfl, ⟨0, rfl, by decide⟩⟩⟩ else none
    else
     bif Nat.blt pc 53 then
      bif Nat.blt pc 52 then
       if h : pc = 51 then some ⟨(.ireturn, 52, .inl 0, 0, 0), by subst h; exact ⟨dX9_not1_51, rfl, rfl⟩⟩ else none
      else
       if h : pc = 52 then some ⟨(.aload_n 0, 53, .inl 0, 0, 0), by subst h; exact ⟨dX9_not1_52, rfl, trivial⟩⟩ else none
     else
      bif Nat.blt pc 56 then
       if h : pc = 53 then some ⟨(.invokevirtual 288, 56, .inl 0, 47, 14), by subst h; exact ⟨dX9_not1_53, rfl, ⟨by decide, q1664, q1666, qs99, _, rfl, rfl⟩⟩⟩ else none
      else
       bif Nat.blt pc 57 then
        if h : pc = 56 then some ⟨(.istore_n 1, 57, .inl 0, 0, 0), by subst h; exact ⟨dX9_not1_56, rfl, (show (1 : Nat) < 4 by decide)⟩⟩ else none
       else
        if h : pc = 57 then some ⟨(.aload_n 0, 58, .inl 0, 0, 0), by subst h; exact ⟨dX9_not1_57, rfl, trivial⟩⟩ else none
 else
  bif Nat.blt pc 94 then
   bif Nat.blt pc 77 then
    bif Nat.blt pc 67 then
     bif Nat.blt pc 63 then
      bif Nat.blt pc 60 then
       if h : pc = 58 then some ⟨(.bipush 60, 60, .inl 60, 0, 0), by subst h; exact ⟨dX9_not1_58, rfl, ⟨60, rfl, by decide⟩⟩⟩ else none
      else
       if h : pc = 60 then some ⟨(.invokevirtual 195, 63, .inl 0, 30, 14), by subst h; exact ⟨dX9_not1_60, rfl, ⟨by decide, q1594, q1596, qs82, _, rfl, rfl⟩⟩⟩ else none
     else
      bif Nat.blt pc 66 then
       if h : pc = 63 then some ⟨(.ifCond .ne 14, 66, .inl 0, 77, 0), by subst h; exact ⟨dX9_not1_63, rfl, (show ((63 : Nat) : Int) + (14) = ((77 : Nat) : Int) by decide)⟩⟩ else none
      else
       if h : pc = 66 then some ⟨(.aload_n 0, 67, .inl 0, 0, 0), by subst h; exact ⟨dX9_not1_66, rfl, trivial⟩⟩ else none
    else
     bif Nat.blt pc 72 then
      bif Nat.blt pc 69 then
       if h : pc = 67 then some ⟨(.bipush 61, 69, .inl 61, 0, 0), by subst h; exact ⟨dX9_not1_67, rfl, ⟨61, rfl, by decide⟩⟩⟩ else none
      else
       if h : pc = 69 then some ⟨(.invokevirtual 195, 72, .inl 0, 30, 14), by subst h; exact ⟨dX9_not1_69, rfl, ⟨by decide, q1594, q1596, qs82, _, rfl, rfl⟩⟩⟩ else none
     else
      bif Nat.blt pc 75 then
       if h : pc = 72 then some ⟨(.ifCond .ne 5, 75, .inl 0, 77, 0), by subst h; exact ⟨dX9_not1_72, rfl, (show ((72 : Nat) : Int) + (5) = ((77 : Nat) : Int) by decide)⟩⟩ else none
      else
       bif Nat.blt pc 76 then
        if h : pc = 75 then some ⟨(.iload_n 1, 76, .inl 0, 0, 0), by subst h; exact ⟨dX9_not1_75, rfl, trivial⟩⟩ else none
       else
        if h : pc = 76 then some ⟨(.ireturn, 77, .inl 0, 0, 0), by subst h; exact ⟨dX9_not1_76, rfl, rfl⟩⟩ else none
   else
    bif Nat.blt pc 85 then
     bif Nat.blt pc 81 then
      bif Nat.blt pc 78 then
       if h : pc = 77 then some ⟨(.aload_n 0, 78, .inl 0, 0, 0), by subst h; exact ⟨dX9_not1_77, rfl, trivial⟩⟩ else none
      else
       if h : pc = 78 then some ⟨(.getfield 150, 81, .inr (.inl 0), 23, 14), by subst h; exact ⟨dX9_not1_78, rfl, ⟨⟨_, rfl, by decide, _, Or.inl q1381, Or.inl rfl⟩, (show mKd 14 23 = 5 by rfl)⟩⟩⟩ else none
     else
      bif Nat.blt pc 84 then
       if h : pc = 81 then some ⟨(.ldc2_w 217, 84, .inr (.inl 60), 0, 0), by subst h; exact ⟨dX9_not1_81, rfl, ⟨_, rfl, q1603⟩⟩⟩ else none
      else
       if h : pc = 84 then some ⟨(.lcmp, 85, .inl 0, 0, 0), by subst h; exact ⟨dX9_not1_84, rfl, trivial⟩⟩ else none
    else
     bif Nat.blt pc 89 then
      bif Nat.blt pc 88 then
       if h : pc = 85 then some ⟨(.ifCond .ne 7, 88, .inl 0, 92, 0), by subst h; exact ⟨dX9_not1_85, rfl, (show ((85 : Nat) : Int) + (7) = ((92 : Nat) : Int) by decide)⟩⟩ else none
      else
       if h : pc = 88 then some ⟨(.iconst 1, 89, .inl 1, 0, 0), by subst h; exact ⟨dX9_not1_88, rfl, ⟨1, rfl, by decide⟩⟩⟩ else none
     else
      bif Nat.blt pc 92 then
       if h : pc = 89 then some ⟨(.goto 4, 92, .inl 0, 93, 0), by subst h; exact ⟨dX9_not1_89, rfl, (show ((89 : Nat) : Int) + (4) = ((93 : Nat) : Int) by decide)⟩⟩ else none
      else
       bif Nat.blt pc 93 then
        if h : pc = 92 then some ⟨(.iconst 0, 93, .inl 0, 0, 0), by subst h; exact ⟨dX9_not1_92, rfl, ⟨0, rfl, by decide⟩⟩⟩ else none
       else
        if h : pc = 93 then some ⟨(.istore_n 2, 94, .inl 0, 0, 0), by subst h; exact ⟨dX9_not1_93, rfl, (show (2 : Nat) < 4 by decide)⟩⟩ else none
  else
   bif Nat.blt pc 109 then
    bif Nat.blt pc 102 then
     bif Nat.blt pc 98 then
      bif Nat.blt pc 95 then
       if h : pc = 94 then some ⟨(.aload_n 0, 95, .inl 0, 0, 0), by subst h; exact ⟨dX9_not1_94, rfl, trivial⟩⟩ else none
      else
       if h : pc = 95 then some ⟨(.invokevirtual 170, 98, .inl 0, 12, 14), by subst h; exact ⟨dX9_not1_95, rfl, ⟨by decide, q1518, q1520, qs64, _, rfl, rfl⟩⟩⟩ else none
     else
      bif Nat.blt pc 99 then
       if h : pc = 98 then some ⟨(.aload_n 0, 99, .inl 0, 0, 0), by subst h; exact ⟨dX9_not1_98, rfl, trivial⟩⟩ else none
      else
       if h : pc = 99 then some ⟨(.invokevirtual 288, 102, .inl 0, 47, 14), by subst h; exact ⟨dX9_not1_99, rfl, ⟨by decide, q1664, q1666, qs99, _, rfl, rfl⟩⟩⟩ else none
    else
     bif Nat.blt pc 104 then
      bif Nat.blt pc 103 then
       if h : pc = 102 then some ⟨(.istore_n 3, 103, .inl 0, 0, 0), by subst h; exact ⟨dX9_not1_102, rfl, (show (3 : Nat) < 4 by decide)⟩⟩ else none
      else
       if h : pc = 103 then some ⟨(.iload_n 2, 104, .inl 0, 0, 0), by subst h; exact ⟨dX9_not1_103, rfl, trivial⟩⟩ else none
     else
      bif Nat.blt pc 107 then
       if h : pc = 104 then some ⟨(.ifCond .eq 11, 107, .inl 0, 115, 0), by subst h; exact ⟨dX9_not1_104, rfl, (show ((104 : Nat) : Int) + (11) = ((115 : Nat) : Int) by decide)⟩⟩ else none
      else
       bif Nat.blt pc 108 then
        if h : pc = 107 then some ⟨(.iload_n 1, 108, .inl 0, 0, 0), by subst h; exact ⟨dX9_not1_107, rfl, trivial⟩⟩ else none
       else
        if h : pc = 108 then some ⟨(.iload_n 3, 109, .inl 0, 0, 0), by subst h; exact ⟨dX9_not1_108, rfl, trivial⟩⟩ else none
   else
    bif Nat.blt pc 117 then
     bif Nat.blt pc 115 then
      bif Nat.blt pc 112 then
       if h : pc = 109 then some ⟨(.if_icmp .ge 15, 112, .inl 0, 124, 0), by subst h; exact ⟨dX9_not1_109, rfl, (show ((109 : Nat) : Int) + (15) = ((124 : Nat) : Int) by decide)⟩⟩ else none
      else
       if h : pc = 112 then some ⟨(.goto 8, 115, .inl 0, 120, 0), by subst h; exact ⟨dX9_not1_112, rfl, (show ((112 : Nat) : Int) + (8) = ((120 : Nat) : Int) by decide)⟩⟩ else none
     else
      bif Nat.blt pc 116 then
       if h : pc = 115 then some ⟨(.iload_n 1, 116, .inl 0, 0, 0), by subst h; exact ⟨dX9_not1_115, rfl, trivial⟩⟩ else none
      else
       if h : pc = 116 then some ⟨(.iload_n 3, 117, .inl 0, 0, 0), by subst h; exact ⟨dX9_not1_116, rfl, trivial⟩⟩ else none
    else
     bif Nat.blt pc 121 then
      bif Nat.blt pc 120 then
       if h : pc = 117 then some ⟨(.if_icmp .ne 7, 120, .inl 0, 124, 0), by subst h; exact ⟨dX9_not1_117, rfl, (show ((117 : Nat) : Int) + (7) = ((124 : Nat) : Int) by decide)⟩⟩ else none
      else
       if h : pc = 120 then some ⟨(.iconst 1, 121, .inl 1, 0, 0), by subst h; exact ⟨dX9_not1_120, rfl, ⟨1, rfl, by decide⟩⟩⟩ else none
     else
      bif Nat.blt pc 124 then
       if h : pc = 121 then some ⟨(.goto 4, 124, .inl 0, 125, 0), by subst h; exact ⟨dX9_not1_121, rfl, (show ((121 : Nat) : Int) + (4) = ((125 : Nat) : Int) by decide)⟩⟩ else none
      else
       bif Nat.blt pc 125 then
        if h : pc = 124 then some ⟨(.iconst 0, 125, .inl 0, 0, 0), by subst h; exact ⟨dX9_not1_124, rfl, ⟨0, rfl, by decide⟩⟩⟩ else none
       else
        if h : pc = 125 then some ⟨(.ireturn, 126, .inl 0, 0, 0), by subst h; exact ⟨dX9_not1_125, rfl, rfl⟩⟩ else none

noncomputable def mt23 (pc : Nat) : Option {e : mE // mOK yX9_not2 cX9_not2 4 ((Option.some ClassFile.FieldType.int)) pc e} :=
 bif Nat.blt pc 58 then
  bif Nat.blt pc 28 then
   bif Nat.blt pc 11 then
    bif Nat.blt pc 7 then
     bif Nat.blt pc 3 then
      bif Nat.blt pc 1 then
       if h : pc = 0 then some ⟨(.aload_n 0, 1, .inl 0, 0, 0), by subst h; exact ⟨dX9_not2_0, rfl, trivial⟩⟩ else none
      else
       if h : pc = 1 then some ⟨(.bipush 110, 3, .inl 110, 0, 0), by subst h; exact ⟨dX9_not2_1, rfl, ⟨110, rfl, by decide⟩⟩⟩ else none
     else
      bif Nat.blt pc 5 then
       if h : pc = 3 then some ⟨(.bipush 111, 5, .inl 111, 0, 0), by subst h; exact ⟨dX9_not2_3, rfl, ⟨111, rfl, by decide⟩⟩⟩ else none
      else
       if h : pc = 5 then some ⟨(.bipush 116, 7, .inl 116, 0, 0), by subst h; exact ⟨dX9_not2_5, rfl, ⟨116, rfl, by decide⟩⟩⟩ else none
    else
     bif Nat.blt pc 9 then
      bif Nat.blt pc 8 then
       if h : pc = 7 then some ⟨(.iconst 0, 8, .inl 0, 0, 0), by subst h; exact ⟨dX9_not2_7, rfl, ⟨0, rfl, by decide⟩⟩⟩ else none
      else
       if h : pc = 8 then some ⟨(.iconst 0, 9, .inl 0, 0, 0), by subst h; exact ⟨dX9_not2_8, rfl, ⟨0, rfl, by decide⟩⟩⟩ else none
     else
      bif Nat.blt pc 10 then
       if h : pc = 9 then some ⟨(.iconst 0, 10, .inl 0, 0, 0), by subst h; exact ⟨dX9_not2_9, rfl, ⟨0, rfl, by decide⟩⟩⟩ else none
      else
       if h : pc = 10 then some ⟨(.iconst 0, 11, .inl 0, 0, 0), by subst h; exact ⟨dX9_not2_10, rfl, ⟨0, rfl, by decide⟩⟩⟩ else none
   else
    bif Nat.blt pc 19 then
     bif Nat.blt pc 15 then
      bif Nat.blt pc 12 then
       if h : pc = 11 then some ⟨(.iconst 0, 12, .inl 0, 0, 0), by subst h; exact ⟨dX9_not2_11, rfl, ⟨0, rfl, by decide⟩⟩⟩ else none
      else
       if h : pc = 12 then some ⟨(.invokevirtual 173, 15, .inl 0, 14, 14), by subst h; exact ⟨dX9_not2_12, rfl, ⟨by decide, q1530, q1532, qs66, _, rfl, rfl⟩⟩⟩ else none
     else
      bif Nat.blt pc 18 then
       if h : pc = 15 then some ⟨(.ifCond .eq 37, 18, .inl 0, 52, 0), by subst h; exact ⟨dX9_not2_15, rfl, (show ((15 : Nat) : Int) + (37) = ((52 : Nat) : Int) by decide)⟩⟩ else none
      else
       if h : pc = 18 then some ⟨(.aload_n 0, 19, .inl 0, 0, 0), by subst h; exact ⟨dX9_not2_18, rfl, trivial⟩⟩ else none
    else
     bif Nat.blt pc 25 then
      bif Nat.blt pc 22 then
       if h : pc = 19 then some ⟨(.invokevirtual 198, 22, .inl 0, 21, 14), by subst h; exact ⟨dX9_not2_19, rfl, ⟨by decide, q1558, q1560, qs73, _, rfl, rfl⟩⟩⟩ else none
      else
       if h : pc = 22 then some ⟨(.ifCond .ne 5, 25, .inl 0, 27, 0), by subst h; exact ⟨dX9_not2_22, rfl, (show ((22 : Nat) : Int) + (5) = ((27 : Nat) : Int) by decide)⟩⟩ else none
     else
      bif Nat.blt pc 26 then
       if h : pc = 25 then some ⟨(.iconst 0, 26, .inl 0, 0, 0), by subst h; exact ⟨dX9_not2_25, rfl, ⟨0, rfl, by decide⟩⟩⟩ else none
      else
       bif Nat.blt pc 27 then
        if h : pc = 26 then some ⟨(.ireturn, 27, .inl 0, 0, 0), by subst h; exact ⟨dX9_not2_26, rfl, rfl⟩⟩ else none
       else
        if h : pc = 27 then some ⟨(.aload_n 0, 28, .inl 0, 0, 0), by subst h; exact ⟨dX9_not2_27, rfl, trivial⟩⟩ else none
  else
   bif Nat.blt pc 43 then
    bif Nat.blt pc 34 then
     bif Nat.blt pc 32 then
      bif Nat.blt pc 31 then
       if h : pc = 28 then some ⟨(.invokevirtual 255, 31, .inl 0, 24, 14), by subst h; exact ⟨dX9_not2_28, rfl, ⟨by decide, q1570, q1572, qs76, _, rfl, rfl⟩⟩⟩ else none
      else
       if h : pc = 31 then some ⟨(.istore_n 1, 32, .inl 0, 0, 0), by subst h; exact ⟨dX9_not2_31, rfl, (show (1 : Nat) < 4 by decide)⟩⟩ else none
     else
      bif Nat.blt pc 33 then
       if h : pc = 32 then some ⟨(.aload_n 0, 33, .inl 0, 0, 0), by subst h; exact ⟨dX9_not2_32, rfl, trivial⟩⟩ else none
      else
       if h : pc = 33 then some ⟨(.dup, 34, .inl 0, 0, 0), by subst h; exact ⟨dX9_not2_33, rfl, trivial⟩⟩ else none
    else
     bif Nat.blt pc 38 then
      bif Nat.blt pc 37 then
       if h : pc = 34 then some ⟨(.getfield 164, 37, .inl 0, 24, 14), by subst h; exact ⟨dX9_not2_34, rfl, ⟨⟨_, rfl, by decide, _, Or.inl q1382, Or.inl rfl⟩, (show mKd 14 24 ≤ 4 by decide)⟩⟩⟩ else none
      else
       if h : pc = 37 then some ⟨(.iconst 1, 38, .inl 1, 0, 0), by subst h; exact ⟨dX9_not2_37, rfl, ⟨1, rfl, by decide⟩⟩⟩ else none
     else
      bif Nat.blt pc 39 then
       if h : pc = 38 then some ⟨(.isub, 39, .inl 0, 0, 0), by subst h; exact ⟨dX9_not2_38, rfl, trivial⟩⟩ else none
      else
       bif Nat.blt pc 42 then
        if h : pc = 39 then some ⟨(.putfield 164, 42, .inl 0, 24, 14), by subst h; exact ⟨dX9_not2_39, rfl, ⟨⟨_, rfl, by decide, _, Or.inl q1382, Or.inl rfl⟩, (show mKd 14 24 ≤ 4 by decide), by decide, by decide, (fun q h => Or.inl (by cases h; rfl))⟩⟩⟩ else none
       else
        if h : pc = 42 then some ⟨(.iload_n 1, 43, .inl 0, 0, 0), by subst h; exact ⟨dX9_not2_42, rfl, trivial⟩⟩ else none
   else
    bif Nat.blt pc 51 then
     bif Nat.blt pc 47 then
      bif Nat.blt pc 46 then
       if h : pc = 43 then some ⟨(.ifCond .ne 7, 46, .inl 0, 50, 0), by subst h; exact ⟨dX9_not2_43, rfl, (show ((43 : Nat) : Int) + (7) = ((50 : Nat) : Int) by decide)⟩⟩ else none
      else
       if h : pc = 46 then some ⟨(.iconst 1, 47, .inl 1, 0, 0), by subst h; exact ⟨dX9_not2_46, rfl, ⟨1, rfl, by decide⟩⟩⟩ else none
     else
      bif Nat.blt pc 50 then
       if h : pc = 47 then some ⟨(.goto 4, 50, .inl 0, 51, 0), by subst h; exact ⟨dX9_not2_47, rfl, (show ((47 : Nat) : Int) + (4) = ((51 : Nat) : Int) by decide)⟩⟩ else none
      else
       if h : pc = 50 then some ⟨(.iconst 0, 51, .inl 0, 0, 0), by subst h; exact ⟨dX9_not2_50, rfl, ⟨0, rfl, by decide⟩⟩⟩ else none
    else
     bif Nat.blt pc 53 then
      bif Nat.blt pc 52 then
       if h : pc = 51 then some ⟨(.ireturn, 52, .inl 0, 0, 0), by subst h; exact ⟨dX9_not2_51, rfl, rfl⟩⟩ else none
      else
       if h : pc = 52 then some ⟨(.aload_n 0, 53, .inl 0, 0, 0), by subst h; exact ⟨dX9_not2_52, rfl, trivial⟩⟩ else none
     else
      bif Nat.blt pc 56 then
       if h : pc = 53 then some ⟨(.invokevirtual 270, 56, .inl 0, 42, 14), by subst h; exact ⟨dX9_not2_53, rfl, ⟨by decide, q1644, q1646, qs94, _, rfl, rfl⟩⟩⟩ else none
      else
       bif Nat.blt pc 57 then
        if h : pc = 56 then some ⟨(.istore_n 1, 57, .inl 0, 0, 0), by subst h; exact ⟨dX9_not2_56, rfl, (show (1 : Nat) < 4 by decide)⟩⟩ else none
       else
        if h : pc = 57 then some ⟨(.aload_n 0, 58, .inl 0, 0, 0), by subst h; exact ⟨dX9_not2_57, rfl, trivial⟩⟩ else none
 else
  bif Nat.blt pc 94 then
   bif Nat.blt pc 77 then
    bif Nat.blt pc 67 then
     bif Nat.blt pc 63 then
      bif Nat.blt pc 60 then
       if h : pc = 58 then some ⟨(.bipush 60, 60, .inl 60, 0, 0), by subst h; exact ⟨dX9_not2_58, rfl, ⟨60, rfl, by decide⟩⟩⟩ else none
      else
       if h : pc = 60 then some ⟨(.invokevirtual 195, 63, .inl 0, 30, 14), by subst h; exact ⟨dX9_not2_60, rfl, ⟨by decide, q1594, q1596, qs82, _, rfl, rfl⟩⟩⟩ else none
     else
      bif Nat.blt pc 66 then
       if h : pc = 63 then some ⟨(.ifCond .ne 14, 66, .inl 0, 77, 0), by subst h; exact ⟨dX9_not2_63, rfl, (show ((63 : Nat) : Int) + (14) = ((77 : Nat) : Int) by decide)⟩⟩ else none
      else
       if h : pc = 66 then some ⟨(.aload_n 0, 67, .inl 0, 0, 0), by subst h; exact ⟨dX9_not2_66, rfl, trivial⟩⟩ else none
    else
     bif Nat.blt pc 72 then
      bif Nat.blt pc 69 then
       if h : pc = 67 then some ⟨(.bipush 61, 69, .inl 61, 0, 0), by subst h; exact ⟨dX9_not2_67, rfl, ⟨61, rfl, by decide⟩⟩⟩ else none
      else
       if h : pc = 69 then some ⟨(.invokevirtual 195, 72, .inl 0, 30, 14), by subst h; exact ⟨dX9_not2_69, rfl, ⟨by decide, q1594, q1596, qs82, _, rfl, rfl⟩⟩⟩ else none
     else
      bif Nat.blt pc 75 then
       if h : pc = 72 then some ⟨(.ifCond .ne 5, 75, .inl 0, 77, 0), by subst h; exact ⟨dX9_not2_72, rfl, (show ((72 : Nat) : Int) + (5) = ((77 : Nat) : Int) by decide)⟩⟩ else none
      else
       bif Nat.blt pc 76 then
        if h : pc = 75 then some ⟨(.iload_n 1, 76, .inl 0, 0, 0), by subst h; exact ⟨dX9_not2_75, rfl, trivial⟩⟩ else none
       else
        if h : pc = 76 then some ⟨(.ireturn, 77, .inl 0, 0, 0), by subst h; exact ⟨dX9_not2_76, rfl, rfl⟩⟩ else none
   else
    bif Nat.blt pc 85 then
     bif Nat.blt pc 81 then
      bif Nat.blt pc 78 then
       if h : pc = 77 then some ⟨(.aload_n 0, 78, .inl 0, 0, 0), by subst h; exact ⟨dX9_not2_77, rfl, trivial⟩⟩ else none
      else
       if h : pc = 78 then some ⟨(.getfield 150, 81, .inr (.inl 0), 23, 14), by subst h; exact ⟨dX9_not2_78, rfl, ⟨⟨_, rfl, by decide, _, Or.inl q1381, Or.inl rfl⟩, (show mKd 14 23 = 5 by rfl)⟩⟩⟩ else none
     else
      bif Nat.blt pc 84 then
       if h : pc = 81 then some ⟨(.ldc2_w 217, 84, .inr (.inl 60), 0, 0), by subst h; exact ⟨dX9_not2_81, rfl, ⟨_, rfl, q1603⟩⟩⟩ else none
      else
       if h : pc = 84 then some ⟨(.lcmp, 85, .inl 0, 0, 0), by subst h; exact ⟨dX9_not2_84, rfl, trivial⟩⟩ else none
    else
     bif Nat.blt pc 89 then
      bif Nat.blt pc 88 then
       if h : pc = 85 then some ⟨(.ifCond .ne 7, 88, .inl 0, 92, 0), by subst h; exact ⟨dX9_not2_85, rfl, (show ((85 : Nat) : Int) + (7) = ((92 : Nat) : Int) by decide)⟩⟩ else none
      else
       if h : pc = 88 then some ⟨(.iconst 1, 89, .inl 1, 0, 0), by subst h; exact ⟨dX9_not2_88, rfl, ⟨1, rfl, by decide⟩⟩⟩ else none
     else
      bif Nat.blt pc 92 then
       if h : pc = 89 then some ⟨(.goto 4, 92, .inl 0, 93, 0), by subst h; exact ⟨dX9_not2_89, rfl, (show ((89 : Nat) : Int) + (4) = ((93 : Nat) : Int) by decide)⟩⟩ else none
      else
       bif Nat.blt pc 93 then
        if h : pc = 92 then some ⟨(.iconst 0, 93, .inl 0, 0, 0), by subst h; exact ⟨dX9_not2_92, rfl, ⟨0, rfl, by decide⟩⟩⟩ else none
       else
        if h : pc = 93 then some ⟨(.istore_n 2, 94, .inl 0, 0, 0), by subst h; exact ⟨dX9_not2_93, rfl, (show (2 : Nat) < 4 by decide)⟩⟩ else none
  else
   bif Nat.blt pc 109 then
    bif Nat.blt pc 102 then
     bif Nat.blt pc 98 then
      bif Nat.blt pc 95 then
       if h : pc = 94 then some ⟨(.aload_n 0, 95, .inl 0, 0, 0), by subst h; exact ⟨dX9_not2_94, rfl, trivial⟩⟩ else none
      else
       if h : pc = 95 then some ⟨(.invokevirtual 170, 98, .inl 0, 12, 14), by subst h; exact ⟨dX9_not2_95, rfl, ⟨by decide, q1518, q1520, qs64, _, rfl, rfl⟩⟩⟩ else none
     else
      bif Nat.blt pc 99 then
       if h : pc = 98 then some ⟨(.aload_n 0, 99, .inl 0, 0, 0), by subst h; exact ⟨dX9_not2_98, rfl, trivial⟩⟩ else none
      else
       if h : pc = 99 then some ⟨(.invokevirtual 270, 102, .inl 0, 42, 14), by subst h; exact ⟨dX9_not2_99, rfl, ⟨by decide, q1644, q1646, qs94, _, rfl, rfl⟩⟩⟩ else none
    else
     bif Nat.blt pc 104 then
      bif Nat.blt pc 103 then
       if h : pc = 102 then some ⟨(.istore_n 3, 103, .inl 0, 0, 0), by subst h; exact ⟨dX9_not2_102, rfl, (show (3 : Nat) < 4 by decide)⟩⟩ else none
      else
       if h : pc = 103 then some ⟨(.iload_n 2, 104, .inl 0, 0, 0), by subst h; exact ⟨dX9_not2_103, rfl, trivial⟩⟩ else none
     else
      bif Nat.blt pc 107 then
       if h : pc = 104 then some ⟨(.ifCond .eq 11, 107, .inl 0, 115, 0), by subst h; exact ⟨dX9_not2_104, rfl, (show ((104 : Nat) : Int) + (11) = ((115 : Nat) : Int) by decide)⟩⟩ else none
      else
       bif Nat.blt pc 108 then
        if h : pc = 107 then some ⟨(.iload_n 1, 108, .inl 0, 0, 0), by subst h; exact ⟨dX9_not2_107, rfl, trivial⟩⟩ else none
       else
        if h : pc = 108 then some ⟨(.iload_n 3, 109, .inl 0, 0, 0), by subst h; exact ⟨dX9_not2_108, rfl, trivial⟩⟩ else none
   else
    bif Nat.blt pc 117 then
     bif Nat.blt pc 115 then
      bif Nat.blt pc 112 then
       if h : pc = 109 then some ⟨(.if_icmp .ge 15, 112, .inl 0, 124, 0), by subst h; exact ⟨dX9_not2_109, rfl, (show ((109 : Nat) : Int) + (15) = ((124 : Nat) : Int) by decide)⟩⟩ else none
      else
       if h : pc = 112 then some ⟨(.goto 8, 115, .inl 0, 120, 0), by subst h; exact ⟨dX9_not2_112, rfl, (show ((112 : Nat) : Int) + (8) = ((120 : Nat) : Int) by decide)⟩⟩ else none
     else
      bif Nat.blt pc 116 then
       if h : pc = 115 then some ⟨(.iload_n 1, 116, .inl 0, 0, 0), by subst h; exact ⟨dX9_not2_115, rfl, trivial⟩⟩ else none
      else
       if h : pc = 116 then some ⟨(.iload_n 3, 117, .inl 0, 0, 0), by subst h; exact ⟨dX9_not2_116, rfl, trivial⟩⟩ else none
    else
     bif Nat.blt pc 121 then
      bif Nat.blt pc 120 then
       if h : pc = 117 then some ⟨(.if_icmp .ne 7, 120, .inl 0, 124, 0), by subst h; exact ⟨dX9_not2_117, rfl, (show ((117 : Nat) : Int) + (7) = ((124 : Nat) : Int) by decide)⟩⟩ else none
      else
       if h : pc = 120 then some ⟨(.iconst 1, 121, .inl 1, 0, 0), by subst h; exact ⟨dX9_not2_120, rfl, ⟨1, rfl, by decide⟩⟩⟩ else none
     else
      bif Nat.blt pc 124 then
       if h : pc = 121 then some ⟨(.goto 4, 124, .inl 0, 125, 0), by subst h; exact ⟨dX9_not2_121, rfl, (show ((121 : Nat) : Int) + (4) = ((125 : Nat) : Int) by decide)⟩⟩ else none
      else
       bif Nat.blt pc 125 then
        if h : pc = 124 then some ⟨(.iconst 0, 125, .inl 0, 0, 0), by subst h; exact ⟨dX9_not2_124, rfl, ⟨0, rfl, by decide⟩⟩⟩ else none
       else
        if h : pc = 125 then some ⟨(.ireturn, 126, .inl 0, 0, 0), by subst h; exact ⟨dX9_not2_125, rfl, rfl⟩⟩ else none

noncomputable def mt24 (pc : Nat) : Option {e : mE // mOK yX9_not3 cX9_not3 4 ((Option.some ClassFile.FieldType.int)) pc e} :=
 bif Nat.blt pc 58 then
  bif Nat.blt pc 28 then
   bif Nat.blt pc 11 then
    bif Nat.blt pc 7 then
     bif Nat.blt pc 3 then
      bif Nat.blt pc 1 then
       if h : pc = 0 then some ⟨(.aload_n 0, 1, .inl 0, 0, 0), by subst h; exact ⟨dX9_not3_0, rfl, trivial⟩⟩ else none
      else
       if h : pc = 1 then some ⟨(.bipush 110, 3, .inl 110, 0, 0), by subst h; exact ⟨dX9_not3_1, rfl, ⟨110, rfl, by decide⟩⟩⟩ else none
     else
      bif Nat.blt pc 5 then
       if h : pc = 3 then some ⟨(.bipush 111, 5, .inl 111, 0, 0), by subst h; exact ⟨dX9_not3_3, rfl, ⟨111, rfl, by decide⟩⟩⟩ else none
      else
       if h : pc = 5 then some ⟨(.bipush 116, 7, .inl 116, 0, 0), by subst h; exact ⟨dX9_not3_5, rfl, ⟨116, rfl, by decide⟩⟩⟩ else none
    else
     bif Nat.blt pc 9 then
      bif Nat.blt pc 8 then
       if h : pc = 7 then some ⟨(.iconst 0, 8, .inl 0, 0, 0), by subst h; exact ⟨dX9_not3_7, rfl, ⟨0, rfl, by decide⟩⟩⟩ else none
      else
       if h : pc = 8 then some ⟨(.iconst 0, 9, .inl 0, 0, 0), by subst h; exact ⟨dX9_not3_8, rfl, ⟨0, rfl, by decide⟩⟩⟩ else none
     else
      bif Nat.blt pc 10 then
       if h : pc = 9 then some ⟨(.iconst 0, 10, .inl 0, 0, 0), by subst h; exact ⟨dX9_not3_9, rfl, ⟨0, rfl, by decide⟩⟩⟩ else none
      else
       if h : pc = 10 then some ⟨(.iconst 0, 11, .inl 0, 0, 0), by subst h; exact ⟨dX9_not3_10, rfl, ⟨0, rfl, by decide⟩⟩⟩ else none
   else
    bif Nat.blt pc 19 then
     bif Nat.blt pc 15 then
      bif Nat.blt pc 12 then
       if h : pc = 11 then some ⟨(.iconst 0, 12, .inl 0, 0, 0), by subst h; exact ⟨dX9_not3_11, rfl, ⟨0, rfl, by decide⟩⟩⟩ else none
      else
       if h : pc = 12 then some ⟨(.invokevirtual 173, 15, .inl 0, 14, 14), by subst h; exact ⟨dX9_not3_12, rfl, ⟨by decide, q1530, q1532, qs66, _, rfl, rfl⟩⟩⟩ else none
     else
      bif Nat.blt pc 18 then
       if h : pc = 15 then some ⟨(.ifCond .eq 37, 18, .inl 0, 52, 0), by subst h; exact ⟨dX9_not3_15, rfl, (show ((15 : Nat) : Int) + (37) = ((52 : Nat) : Int) by decide)⟩⟩ else none
      else
       if h : pc = 18 then some ⟨(.aload_n 0, 19, .inl 0, 0, 0), by subst h; exact ⟨dX9_not3_18, rfl, trivial⟩⟩ else none
    else
     bif Nat.blt pc 25 then
      bif Nat.blt pc 22 then
       if h : pc = 19 then some ⟨(.invokevirtual 198, 22, .inl 0, 21, 14), by subst h; exact ⟨dX9_not3_19, rfl, ⟨by decide, q1558, q1560, qs73, _, rfl, rfl⟩⟩⟩ else none
      else
       if h : pc = 22 then some ⟨(.ifCond .ne 5, 25, .inl 0, 27, 0), by subst h; exact ⟨dX9_not3_22, rfl, (show ((22 : Nat) : Int) + (5) = ((27 : Nat) : Int) by decide)⟩⟩ else none
     else
      bif Nat.blt pc 26 then
       if h : pc = 25 then some ⟨(.iconst 0, 26, .inl 0, 0, 0), by subst h; exact ⟨dX9_not3_25, rfl, ⟨0, rfl, by decide⟩⟩⟩ else none
      else
       bif Nat.blt pc 27 then
        if h : pc = 26 then some ⟨(.ireturn, 27, .inl 0, 0, 0), by subst h; exact ⟨dX9_not3_26, rfl, rfl⟩⟩ else none
       else
        if h : pc = 27 then some ⟨(.aload_n 0, 28, .inl 0, 0, 0), by subst h; exact ⟨dX9_not3_27, rfl, trivial⟩⟩ else none
  else
   bif Nat.blt pc 43 then
    bif Nat.blt pc 34 then
     bif Nat.blt pc 32 then
      bif Nat.blt pc 31 then
       if h : pc = 28 then some ⟨(.invokevirtual 237, 31, .inl 0, 25, 14), by subst h; exact ⟨dX9_not3_28, rfl, ⟨by decide, q1574, q1576, qs77, _, rfl, rfl⟩⟩⟩ else none
      else
       if h : pc = 31 then some ⟨(.istore_n 1, 32, .inl 0, 0, 0), by subst h; exact ⟨dX9_not3_31, rfl, (show (1 : Nat) < 4 by decide)⟩⟩ else none
     else
      bif Nat.blt pc 33 then
       if h : pc = 32 then some ⟨(.aload_n 0, 33, .inl 0, 0, 0), by subst h; exact ⟨dX9_not3_32, rfl, trivial⟩⟩ else none
      else
       if h : pc = 33 then some ⟨(.dup, 34, .inl 0, 0, 0), by subst h; exact ⟨dX9_not3_33, rfl, trivial⟩⟩ else none
    else
     bif Nat.blt pc 38 then
      bif Nat.blt pc 37 then
       if h : pc = 34 then some ⟨(.getfield 164, 37, .inl 0, 24, 14), by subst h; exact ⟨dX9_not3_34, rfl, ⟨⟨_, rfl, by decide, _, Or.inl q1382, Or.inl rfl⟩, (show mKd 14 24 ≤ 4 by decide)⟩⟩⟩ else none
      else
       if h : pc = 37 then some ⟨(.iconst 1, 38, .inl 1, 0, 0), by subst h; exact ⟨dX9_not3_37, rfl, ⟨1, rfl, by decide⟩⟩⟩ else none
     else
      bif Nat.blt pc 39 then
       if h : pc = 38 then some ⟨(.isub, 39, .inl 0, 0, 0), by subst h; exact ⟨dX9_not3_38, rfl, trivial⟩⟩ else none
      else
       bif Nat.blt pc 42 then
        if h : pc = 39 then some ⟨(.putfield 164, 42, .inl 0, 24, 14), by subst h; exact ⟨dX9_not3_39, rfl, ⟨⟨_, rfl, by decide, _, Or.inl q1382, Or.inl rfl⟩, (show mKd 14 24 ≤ 4 by decide), by decide, by decide, (fun q h => Or.inl (by cases h; rfl))⟩⟩⟩ else none
       else
        if h : pc = 42 then some ⟨(.iload_n 1, 43, .inl 0, 0, 0), by subst h; exact ⟨dX9_not3_42, rfl, trivial⟩⟩ else none
   else
    bif Nat.blt pc 51 then
     bif Nat.blt pc 47 then
      bif Nat.blt pc 46 then
       if h : pc = 43 then some ⟨(.ifCond .ne 7, 46, .inl 0, 50, 0), by subst h; exact ⟨dX9_not3_43, rfl, (show ((43 : Nat) : Int) + (7) = ((50 : Nat) : Int) by decide)⟩⟩ else none
      else
       if h : pc = 46 then some ⟨(.iconst 1, 47, .inl 1, 0, 0), by subst h; exact ⟨dX9_not3_46, rfl, ⟨1, rfl, by decide⟩⟩⟩ else none
     else
      bif Nat.blt pc 50 then
       if h : pc = 47 then some ⟨(.goto 4, 50, .inl 0, 51, 0), by subst h; exact ⟨dX9_not3_47, rfl, (show ((47 : Nat) : Int) + (4) = ((51 : Nat) : Int) by decide)⟩⟩ else none
      else
       if h : pc = 50 then some ⟨(.iconst 0, 51, .inl 0, 0, 0), by subst h; exact ⟨dX9_not3_50, rfl, ⟨0, rfl, by decide⟩⟩⟩ else none
    else
     bif Nat.blt pc 53 then
      bif Nat.blt pc 52 then
       if h : pc = 51 then some ⟨(.ireturn, 52, .inl 0, 0, 0), by subst h; exact ⟨dX9_not3_51, rfl, rfl⟩⟩ else none
      else
       if h : pc = 52 then some ⟨(.aload_n 0, 53, .inl 0, 0, 0), by subst h; exact ⟨dX9_not3_52, rfl, trivial⟩⟩ else none
     else
      bif Nat.blt pc 56 then
       if h : pc = 53 then some ⟨(.invokevirtual 252, 56, .inl 0, 37, 14), by subst h; exact ⟨dX9_not3_53, rfl, ⟨by decide, q1624, q1626, qs89, _, rfl, rfl⟩⟩⟩ else none
      else
       bif Nat.blt pc 57 then
        if h : pc = 56 then some ⟨(.istore_n 1, 57, .inl 0, 0, 0), by subst h; exact ⟨dX9_not3_56, rfl, (show (1 : Nat) < 4 by decide)⟩⟩ else none
       else
        if h : pc = 57 then some ⟨(.aload_n 0, 58, .inl 0, 0, 0), by subst h; exact ⟨dX9_not3_57, rfl, trivial⟩⟩ else none
 else
  bif Nat.blt pc 94 then
   bif Nat.blt pc 77 then
    bif Nat.blt pc 67 then
     bif Nat.blt pc 63 then
      bif Nat.blt pc 60 then
       if h : pc = 58 then some ⟨(.bipush 60, 60, .inl 60, 0, 0), by subst h; exact ⟨dX9_not3_58, rfl, ⟨60, rfl, by decide⟩⟩⟩ else none
      else
       if h : pc = 60 then some ⟨(.invokevirtual 195, 63, .inl 0, 30, 14), by subst h; exact ⟨dX9_not3_60, rfl, ⟨by decide, q1594, q1596, qs82, _, rfl, rfl⟩⟩⟩ else none
     else
      bif Nat.blt pc 66 then
       if h : pc = 63 then some ⟨(.ifCond .ne 14, 66, .inl 0, 77, 0), by subst h; exact ⟨dX9_not3_63, rfl, (show ((63 : Nat) : Int) + (14) = ((77 : Nat) : Int) by decide)⟩⟩ else none
      else
       if h : pc = 66 then some ⟨(.aload_n 0, 67, .inl 0, 0, 0), by subst h; exact ⟨dX9_not3_66, rfl, trivial⟩⟩ else none
    else
     bif Nat.blt pc 72 then
      bif Nat.blt pc 69 then
       if h : pc = 67 then some ⟨(.bipush 61, 69, .inl 61, 0, 0), by subst h; exact ⟨dX9_not3_67, rfl, ⟨61, rfl, by decide⟩⟩⟩ else none
      else
       if h : pc = 69 then some ⟨(.invokevirtual 195, 72, .inl 0, 30, 14), by subst h; exact ⟨dX9_not3_69, rfl, ⟨by decide, q1594, q1596, qs82, _, rfl, rfl⟩⟩⟩ else none
     else
      bif Nat.blt pc 75 then
       if h : pc = 72 then some ⟨(.ifCond .ne 5, 75, .inl 0, 77, 0), by subst h; exact ⟨dX9_not3_72, rfl, (show ((72 : Nat) : Int) + (5) = ((77 : Nat) : Int) by decide)⟩⟩ else none
      else
       bif Nat.blt pc 76 then
        if h : pc = 75 then some ⟨(.iload_n 1, 76, .inl 0, 0, 0), by subst h; exact ⟨dX9_not3_75, rfl, trivial⟩⟩ else none
       else
        if h : pc = 76 then some ⟨(.ireturn, 77, .inl 0, 0, 0), by subst h; exact ⟨dX9_not3_76, rfl, rfl⟩⟩ else none
   else
    bif Nat.blt pc 85 then
     bif Nat.blt pc 81 then
      bif Nat.blt pc 78 then
       if h : pc = 77 then some ⟨(.aload_n 0, 78, .inl 0, 0, 0), by subst h; exact ⟨dX9_not3_77, rfl, trivial⟩⟩ else none
      else
       if h : pc = 78 then some ⟨(.getfield 150, 81, .inr (.inl 0), 23, 14), by subst h; exact ⟨dX9_not3_78, rfl, ⟨⟨_, rfl, by decide, _, Or.inl q1381, Or.inl rfl⟩, (show mKd 14 23 = 5 by rfl)⟩⟩⟩ else none
     else
      bif Nat.blt pc 84 then
       if h : pc = 81 then some ⟨(.ldc2_w 217, 84, .inr (.inl 60), 0, 0), by subst h; exact ⟨dX9_not3_81, rfl, ⟨_, rfl, q1603⟩⟩⟩ else none
      else
       if h : pc = 84 then some ⟨(.lcmp, 85, .inl 0, 0, 0), by subst h; exact ⟨dX9_not3_84, rfl, trivial⟩⟩ else none
    else
     bif Nat.blt pc 89 then
      bif Nat.blt pc 88 then
       if h : pc = 85 then some ⟨(.ifCond .ne 7, 88, .inl 0, 92, 0), by subst h; exact ⟨dX9_not3_85, rfl, (show ((85 : Nat) : Int) + (7) = ((92 : Nat) : Int) by decide)⟩⟩ else none
      else
       if h : pc = 88 then some ⟨(.iconst 1, 89, .inl 1, 0, 0), by subst h; exact ⟨dX9_not3_88, rfl, ⟨1, rfl, by decide⟩⟩⟩ else none
     else
      bif Nat.blt pc 92 then
       if h : pc = 89 then some ⟨(.goto 4, 92, .inl 0, 93, 0), by subst h; exact ⟨dX9_not3_89, rfl, (show ((89 : Nat) : Int) + (4) = ((93 : Nat) : Int) by decide)⟩⟩ else none
      else
       bif Nat.blt pc 93 then
        if h : pc = 92 then some ⟨(.iconst 0, 93, .inl 0, 0, 0), by subst h; exact ⟨dX9_not3_92, rfl, ⟨0, rfl, by decide⟩⟩⟩ else none
       else
        if h : pc = 93 then some ⟨(.istore_n 2, 94, .inl 0, 0, 0), by subst h; exact ⟨dX9_not3_93, rfl, (show (2 : Nat) < 4 by decide)⟩⟩ else none
  else
   bif Nat.blt pc 109 then
    bif Nat.blt pc 102 then
     bif Nat.blt pc 98 then
      bif Nat.blt pc 95 then
       if h : pc = 94 then some ⟨(.aload_n 0, 95, .inl 0, 0, 0), by subst h; exact ⟨dX9_not3_94, rfl, trivial⟩⟩ else none
      else
       if h : pc = 95 then some ⟨(.invokevirtual 170, 98, .inl 0, 12, 14), by subst h; exact ⟨dX9_not3_95, rfl, ⟨by decide, q1518, q1520, qs64, _, rfl, rfl⟩⟩⟩ else none
     else
      bif Nat.blt pc 99 then
       if h : pc = 98 then some ⟨(.aload_n 0, 99, .inl 0, 0, 0), by subst h; exact ⟨dX9_not3_98, rfl, trivial⟩⟩ else none
      else
       if h : pc = 99 then some ⟨(.invokevirtual 252, 102, .inl 0, 37, 14), by subst h; exact ⟨dX9_not3_99, rfl, ⟨by decide, q1624, q1626, qs89, _, rfl, rfl⟩⟩⟩ else none
    else
     bif Nat.blt pc 104 then
      bif Nat.blt pc 103 then
       if h : pc = 102 then some ⟨(.istore_n 3, 103, .inl 0, 0, 0), by subst h; exact ⟨dX9_not3_102, rfl, (show (3 : Nat) < 4 by decide)⟩⟩ else none
      else
       if h : pc = 103 then some ⟨(.iload_n 2, 104, .inl 0, 0, 0), by subst h; exact ⟨dX9_not3_103, rfl, trivial⟩⟩ else none
     else
      bif Nat.blt pc 107 then
       if h : pc = 104 then some ⟨(.ifCond .eq 11, 107, .inl 0, 115, 0), by subst h; exact ⟨dX9_not3_104, rfl, (show ((104 : Nat) : Int) + (11) = ((115 : Nat) : Int) by decide)⟩⟩ else none
      else
       bif Nat.blt pc 108 then
        if h : pc = 107 then some ⟨(.iload_n 1, 108, .inl 0, 0, 0), by subst h; exact ⟨dX9_not3_107, rfl, trivial⟩⟩ else none
       else
        if h : pc = 108 then some ⟨(.iload_n 3, 109, .inl 0, 0, 0), by subst h; exact ⟨dX9_not3_108, rfl, trivial⟩⟩ else none
   else
    bif Nat.blt pc 117 then
     bif Nat.blt pc 115 then
      bif Nat.blt pc 112 then
       if h : pc = 109 then some ⟨(.if_icmp .ge 15, 112, .inl 0, 124, 0), by subst h; exact ⟨dX9_not3_109, rfl, (show ((109 : Nat) : Int) + (15) = ((124 : Nat) : Int) by decide)⟩⟩ else none
      else
       if h : pc = 112 then some ⟨(.goto 8, 115, .inl 0, 120, 0), by subst h; exact ⟨dX9_not3_112, rfl, (show ((112 : Nat) : Int) + (8) = ((120 : Nat) : Int) by decide)⟩⟩ else none
     else
      bif Nat.blt pc 116 then
       if h : pc = 115 then some ⟨(.iload_n 1, 116, .inl 0, 0, 0), by subst h; exact ⟨dX9_not3_115, rfl, trivial⟩⟩ else none
      else
       if h : pc = 116 then some ⟨(.iload_n 3, 117, .inl 0, 0, 0), by subst h; exact ⟨dX9_not3_116, rfl, trivial⟩⟩ else none
    else
     bif Nat.blt pc 121 then
      bif Nat.blt pc 120 then
       if h : pc = 117 then some ⟨(.if_icmp .ne 7, 120, .inl 0, 124, 0), by subst h; exact ⟨dX9_not3_117, rfl, (show ((117 : Nat) : Int) + (7) = ((124 : Nat) : Int) by decide)⟩⟩ else none
      else
       if h : pc = 120 then some ⟨(.iconst 1, 121, .inl 1, 0, 0), by subst h; exact ⟨dX9_not3_120, rfl, ⟨1, rfl, by decide⟩⟩⟩ else none
     else
      bif Nat.blt pc 124 then
       if h : pc = 121 then some ⟨(.goto 4, 124, .inl 0, 125, 0), by subst h; exact ⟨dX9_not3_121, rfl, (show ((121 : Nat) : Int) + (4) = ((125 : Nat) : Int) by decide)⟩⟩ else none
      else
       bif Nat.blt pc 125 then
        if h : pc = 124 then some ⟨(.iconst 0, 125, .inl 0, 0, 0), by subst h; exact ⟨dX9_not3_124, rfl, ⟨0, rfl, by decide⟩⟩⟩ else none
       else
        if h : pc = 125 then some ⟨(.ireturn, 126, .inl 0, 0, 0), by subst h; exact ⟨dX9_not3_125, rfl, rfl⟩⟩ else none

noncomputable def mt25 (pc : Nat) : Option {e : mE // mOK yX9_not4 cX9_not4 4 ((Option.some ClassFile.FieldType.int)) pc e} :=
 bif Nat.blt pc 58 then
  bif Nat.blt pc 28 then
   bif Nat.blt pc 11 then
    bif Nat.blt pc 7 then
     bif Nat.blt pc 3 then
      bif Nat.blt pc 1 then
       if h : pc = 0 then some ⟨(.aload_n 0, 1, .inl 0, 0, 0), by subst h; exact ⟨dX9_not4_0, rfl, trivial⟩⟩ else none
      else
       if h : pc = 1 then some ⟨(.bipush 110, 3, .inl 110, 0, 0), by subst h; exact ⟨dX9_not4_1, rfl, ⟨110, rfl, by decide⟩⟩⟩ else none
     else
      bif Nat.blt pc 5 then
       if h : pc = 3 then some ⟨(.bipush 111, 5, .inl 111, 0, 0), by subst h; exact ⟨dX9_not4_3, rfl, ⟨111, rfl, by decide⟩⟩⟩ else none
      else
       if h : pc = 5 then some ⟨(.bipush 116, 7, .inl 116, 0, 0), by subst h; exact ⟨dX9_not4_5, rfl, ⟨116, rfl, by decide⟩⟩⟩ else none
    else
     bif Nat.blt pc 9 then
      bif Nat.blt pc 8 then
       if h : pc = 7 then some ⟨(.iconst 0, 8, .inl 0, 0, 0), by subst h; exact ⟨dX9_not4_7, rfl, ⟨0, rfl, by decide⟩⟩⟩ else none
      else
       if h : pc = 8 then some ⟨(.iconst 0, 9, .inl 0, 0, 0), by subst h; exact ⟨dX9_not4_8, rfl, ⟨0, rfl, by decide⟩⟩⟩ else none
     else
      bif Nat.blt pc 10 then
       if h : pc = 9 then some ⟨(.iconst 0, 10, .inl 0, 0, 0), by subst h; exact ⟨dX9_not4_9, rfl, ⟨0, rfl, by decide⟩⟩⟩ else none
      else
       if h : pc = 10 then some ⟨(.iconst 0, 11, .inl 0, 0, 0), by subst h; exact ⟨dX9_not4_10, rfl, ⟨0, rfl, by decide⟩⟩⟩ else none
   else
    bif Nat.blt pc 19 then
     bif Nat.blt pc 15 then
      bif Nat.blt pc 12 then
       if h : pc = 11 then some ⟨(.iconst 0, 12, .inl 0, 0, 0), by subst h; exact ⟨dX9_not4_11, rfl, ⟨0, rfl, by decide⟩⟩⟩ else none
      else
       if h : pc = 12 then some ⟨(.invokevirtual 173, 15, .inl 0, 14, 14), by subst h; exact ⟨dX9_not4_12, rfl, ⟨by decide, q1530, q1532, qs66, _, rfl, rfl⟩⟩⟩ else none
     else
      bif Nat.blt pc 18 then
       if h : pc = 15 then some ⟨(.ifCond .eq 37, 18, .inl 0, 52, 0), by subst h; exact ⟨dX9_not4_15, rfl, (show ((15 : Nat) : Int) + (37) = ((52 : Nat) : Int) by decide)⟩⟩ else none
      else
       if h : pc = 18 then some ⟨(.aload_n 0, 19, .inl 0, 0, 0), by subst h; exact ⟨dX9_not4_18, rfl, trivial⟩⟩ else none
    else
     bif Nat.blt pc 25 then
      bif Nat.blt pc 22 then
       if h : pc = 19 then some ⟨(.invokevirtual 198, 22, .inl 0, 21, 14), by subst h; exact ⟨dX9_not4_19, rfl, ⟨by decide, q1558, q1560, qs73, _, rfl, rfl⟩⟩⟩ else none
      else
       if h : pc = 22 then some ⟨(.ifCond .ne 5, 25, .inl 0, 27, 0), by subst h; exact ⟨dX9_not4_22, rfl, (show ((22 : Nat) : Int) + (5) = ((27 : Nat) : Int) by decide)⟩⟩ else none
     else
      bif Nat.blt pc 26 then
       if h : pc = 25 then some ⟨(.iconst 0, 26, .inl 0, 0, 0), by subst h; exact ⟨dX9_not4_25, rfl, ⟨0, rfl, by decide⟩⟩⟩ else none
      else
       bif Nat.blt pc 27 then
        if h : pc = 26 then some ⟨(.ireturn, 27, .inl 0, 0, 0), by subst h; exact ⟨dX9_not4_26, rfl, rfl⟩⟩ else none
       else
        if h : pc = 27 then some ⟨(.aload_n 0, 28, .inl 0, 0, 0), by subst h; exact ⟨dX9_not4_27, rfl, trivial⟩⟩ else none
  else
   bif Nat.blt pc 43 then
    bif Nat.blt pc 34 then
     bif Nat.blt pc 32 then
      bif Nat.blt pc 31 then
       if h : pc = 28 then some ⟨(.invokevirtual 219, 31, .inl 0, 26, 14), by subst h; exact ⟨dX9_not4_28, rfl, ⟨by decide, q1578, q1580, qs78, _, rfl, rfl⟩⟩⟩ else none
      else
       if h : pc = 31 then some ⟨(.istore_n 1, 32, .inl 0, 0, 0), by subst h; exact ⟨dX9_not4_31, rfl, (show (1 : Nat) < 4 by decide)⟩⟩ else none
     else
      bif Nat.blt pc 33 then
       if h : pc = 32 then some ⟨(.aload_n 0, 33, .inl 0, 0, 0), by subst h; exact ⟨dX9_not4_32, rfl, trivial⟩⟩ else none
      else
       if h : pc = 33 then some ⟨(.dup, 34, .inl 0, 0, 0), by subst h; exact ⟨dX9_not4_33, rfl, trivial⟩⟩ else none
    else
     bif Nat.blt pc 38 then
      bif Nat.blt pc 37 then
       if h : pc = 34 then some ⟨(.getfield 164, 37, .inl 0, 24, 14), by subst h; exact ⟨dX9_not4_34, rfl, ⟨⟨_, rfl, by decide, _, Or.inl q1382, Or.inl rfl⟩, (show mKd 14 24 ≤ 4 by decide)⟩⟩⟩ else none
      else
       if h : pc = 37 then some ⟨(.iconst 1, 38, .inl 1, 0, 0), by subst h; exact ⟨dX9_not4_37, rfl, ⟨1, rfl, by decide⟩⟩⟩ else none
     else
      bif Nat.blt pc 39 then
       if h : pc = 38 then some ⟨(.isub, 39, .inl 0, 0, 0), by subst h; exact ⟨dX9_not4_38, rfl, trivial⟩⟩ else none
      else
       bif Nat.blt pc 42 then
        if h : pc = 39 then some ⟨(.putfield 164, 42, .inl 0, 24, 14), by subst h; exact ⟨dX9_not4_39, rfl, ⟨⟨_, rfl, by decide, _, Or.inl q1382, Or.inl rfl⟩, (show mKd 14 24 ≤ 4 by decide), by decide, by decide, (fun q h => Or.inl (by cases h; rfl))⟩⟩⟩ else none
       else
        if h : pc = 42 then some ⟨(.iload_n 1, 43, .inl 0, 0, 0), by subst h; exact ⟨dX9_not4_42, rfl, trivial⟩⟩ else none
   else
    bif Nat.blt pc 51 then
     bif Nat.blt pc 47 then
      bif Nat.blt pc 46 then
       if h : pc = 43 then some ⟨(.ifCond .ne 7, 46, .inl 0, 50, 0), by subst h; exact ⟨dX9_not4_43, rfl, (show ((43 : Nat) : Int) + (7) = ((50 : Nat) : Int) by decide)⟩⟩ else none
      else
       if h : pc = 46 then some ⟨(.iconst 1, 47, .inl 1, 0, 0), by subst h; exact ⟨dX9_not4_46, rfl, ⟨1, rfl, by decide⟩⟩⟩ else none
     else
      bif Nat.blt pc 50 then
       if h : pc = 47 then some ⟨(.goto 4, 50, .inl 0, 51, 0), by subst h; exact ⟨dX9_not4_47, rfl, (show ((47 : Nat) : Int) + (4) = ((51 : Nat) : Int) by decide)⟩⟩ else none
      else
       if h : pc = 50 then some ⟨(.iconst 0, 51, .inl 0, 0, 0), by subst h; exact ⟨dX9_not4_50, rfl, ⟨0, rfl, by decide⟩⟩⟩ else none
    else
     bif Nat.blt pc 53 then
      bif Nat.blt pc 52 then
       if h : pc = 51 then some ⟨(.ireturn, 52, .inl 0, 0, 0), by subst h; exact ⟨dX9_not4_51, rfl, rfl⟩⟩ else none
      else
       if h : pc = 52 then some ⟨(.aload_n 0, 53, .inl 0, 0, 0), by subst h; exact ⟨dX9_not4_52, rfl, trivial⟩⟩ else none
     else
      bif Nat.blt pc 56 then
       if h : pc = 53 then some ⟨(.invokevirtual 234, 56, .inl 0, 32, 14), by subst h; exact ⟨dX9_not4_53, rfl, ⟨by decide, q1604, q1606, qs84, _, rfl, rfl⟩⟩⟩ else none
      else
       bif Nat.blt pc 57 then
        if h : pc = 56 then some ⟨(.istore_n 1, 57, .inl 0, 0, 0), by subst h; exact ⟨dX9_not4_56, rfl, (show (1 : Nat) < 4 by decide)⟩⟩ else none
       else
        if h : pc = 57 then some ⟨(.aload_n 0, 58, .inl 0, 0, 0), by subst h; exact ⟨dX9_not4_57, rfl, trivial⟩⟩ else none
 else
  bif Nat.blt pc 94 then
   bif Nat.blt pc 77 then
    bif Nat.blt pc 67 then
     bif Nat.blt pc 63 then
      bif Nat.blt pc 60 then
       if h : pc = 58 then some ⟨(.bipush 60, 60, .inl 60, 0, 0), by subst h; exact ⟨dX9_not4_58, rfl, ⟨60, rfl, by decide⟩⟩⟩ else none
      else
       if h : pc = 60 then some ⟨(.invokevirtual 195, 63, .inl 0, 30, 14), by subst h; exact ⟨dX9_not4_60, rfl, ⟨by decide, q1594, q1596, qs82, _, rfl, rfl⟩⟩⟩ else none
     else
      bif Nat.blt pc 66 then
       if h : pc = 63 then some ⟨(.ifCond .ne 14, 66, .inl 0, 77, 0), by subst h; exact ⟨dX9_not4_63, rfl, (show ((63 : Nat) : Int) + (14) = ((77 : Nat) : Int) by decide)⟩⟩ else none
      else
       if h : pc = 66 then some ⟨(.aload_n 0, 67, .inl 0, 0, 0), by subst h; exact ⟨dX9_not4_66, rfl, trivial⟩⟩ else none
    else
     bif Nat.blt pc 72 then
      bif Nat.blt pc 69 then
       if h : pc = 67 then some ⟨(.bipush 61, 69, .inl 61, 0, 0), by subst h; exact ⟨dX9_not4_67, rfl, ⟨61, rfl, by decide⟩⟩⟩ else none
      else
       if h : pc = 69 then some ⟨(.invokevirtual 195, 72, .inl 0, 30, 14), by subst h; exact ⟨dX9_not4_69, rfl, ⟨by decide, q1594, q1596, qs82, _, rfl, rfl⟩⟩⟩ else none
     else
      bif Nat.blt pc 75 then
       if h : pc = 72 then some ⟨(.ifCond .ne 5, 75, .inl 0, 77, 0), by subst h; exact ⟨dX9_not4_72, rfl, (show ((72 : Nat) : Int) + (5) = ((77 : Nat) : Int) by decide)⟩⟩ else none
      else
       bif Nat.blt pc 76 then
        if h : pc = 75 then some ⟨(.iload_n 1, 76, .inl 0, 0, 0), by subst h; exact ⟨dX9_not4_75, rfl, trivial⟩⟩ else none
       else
        if h : pc = 76 then some ⟨(.ireturn, 77, .inl 0, 0, 0), by subst h; exact ⟨dX9_not4_76, rfl, rfl⟩⟩ else none
   else
    bif Nat.blt pc 85 then
     bif Nat.blt pc 81 then
      bif Nat.blt pc 78 then
       if h : pc = 77 then some ⟨(.aload_n 0, 78, .inl 0, 0, 0), by subst h; exact ⟨dX9_not4_77, rfl, trivial⟩⟩ else none
      else
       if h : pc = 78 then some ⟨(.getfield 150, 81, .inr (.inl 0), 23, 14), by subst h; exact ⟨dX9_not4_78, rfl, ⟨⟨_, rfl, by decide, _, Or.inl q1381, Or.inl rfl⟩, (show mKd 14 23 = 5 by rfl)⟩⟩⟩ else none
     else
      bif Nat.blt pc 84 then
       if h : pc = 81 then some ⟨(.ldc2_w 217, 84, .inr (.inl 60), 0, 0), by subst h; exact ⟨dX9_not4_81, rfl, ⟨_, rfl, q1603⟩⟩⟩ else none
      else
       if h : pc = 84 then some ⟨(.lcmp, 85, .inl 0, 0, 0), by subst h; exact ⟨dX9_not4_84, rfl, trivial⟩⟩ else none
    else
     bif Nat.blt pc 89 then
      bif Nat.blt pc 88 then
       if h : pc = 85 then some ⟨(.ifCond .ne 7, 88, .inl 0, 92, 0), by subst h; exact ⟨dX9_not4_85, rfl, (show ((85 : Nat) : Int) + (7) = ((92 : Nat) : Int) by decide)⟩⟩ else none
      else
       if h : pc = 88 then some ⟨(.iconst 1, 89, .inl 1, 0, 0), by subst h; exact ⟨dX9_not4_88, rfl, ⟨1, rfl, by decide⟩⟩⟩ else none
     else
      bif Nat.blt pc 92 then
       if h : pc = 89 then some ⟨(.goto 4, 92, .inl 0, 93, 0), by subst h; exact ⟨dX9_not4_89, rfl, (show ((89 : Nat) : Int) + (4) = ((93 : Nat) : Int) by decide)⟩⟩ else none
      else
       bif Nat.blt pc 93 then
        if h : pc = 92 then some ⟨(.iconst 0, 93, .inl 0, 0, 0), by subst h; exact ⟨dX9_not4_92, rfl, ⟨0, rfl, by decide⟩⟩⟩ else none
       else
        if h : pc = 93 then some ⟨(.istore_n 2, 94, .inl 0, 0, 0), by subst h; exact ⟨dX9_not4_93, rfl, (show (2 : Nat) < 4 by decide)⟩⟩ else none
  else
   bif Nat.blt pc 109 then
    bif Nat.blt pc 102 then
     bif Nat.blt pc 98 then
      bif Nat.blt pc 95 then
       if h : pc = 94 then some ⟨(.aload_n 0, 95, .inl 0, 0, 0), by subst h; exact ⟨dX9_not4_94, rfl, trivial⟩⟩ else none
      else
       if h : pc = 95 then some ⟨(.invokevirtual 170, 98, .inl 0, 12, 14), by subst h; exact ⟨dX9_not4_95, rfl, ⟨by decide, q1518, q1520, qs64, _, rfl, rfl⟩⟩⟩ else none
     else
      bif Nat.blt pc 99 then
       if h : pc = 98 then some ⟨(.aload_n 0, 99, .inl 0, 0, 0), by subst h; exact ⟨dX9_not4_98, rfl, trivial⟩⟩ else none
      else
       if h : pc = 99 then some ⟨(.invokevirtual 234, 102, .inl 0, 32, 14), by subst h; exact ⟨dX9_not4_99, rfl, ⟨by decide, q1604, q1606, qs84, _, rfl, rfl⟩⟩⟩ else none
    else
     bif Nat.blt pc 104 then
      bif Nat.blt pc 103 then
       if h : pc = 102 then some ⟨(.istore_n 3, 103, .inl 0, 0, 0), by subst h; exact ⟨dX9_not4_102, rfl, (show (3 : Nat) < 4 by decide)⟩⟩ else none
      else
       if h : pc = 103 then some ⟨(.iload_n 2, 104, .inl 0, 0, 0), by subst h; exact ⟨dX9_not4_103, rfl, trivial⟩⟩ else none
     else
      bif Nat.blt pc 107 then
       if h : pc = 104 then some ⟨(.ifCond .eq 11, 107, .inl 0, 115, 0), by subst h; exact ⟨dX9_not4_104, rfl, (show ((104 : Nat) : Int) + (11) = ((115 : Nat) : Int) by decide)⟩⟩ else none
      else
       bif Nat.blt pc 108 then
        if h : pc = 107 then some ⟨(.iload_n 1, 108, .inl 0, 0, 0), by subst h; exact ⟨dX9_not4_107, rfl, trivial⟩⟩ else none
       else
        if h : pc = 108 then some ⟨(.iload_n 3, 109, .inl 0, 0, 0), by subst h; exact ⟨dX9_not4_108, rfl, trivial⟩⟩ else none
   else
    bif Nat.blt pc 117 then
     bif Nat.blt pc 115 then
      bif Nat.blt pc 112 then
       if h : pc = 109 then some ⟨(.if_icmp .ge 15, 112, .inl 0, 124, 0), by subst h; exact ⟨dX9_not4_109, rfl, (show ((109 : Nat) : Int) + (15) = ((124 : Nat) : Int) by decide)⟩⟩ else none
      else
       if h : pc = 112 then some ⟨(.goto 8, 115, .inl 0, 120, 0), by subst h; exact ⟨dX9_not4_112, rfl, (show ((112 : Nat) : Int) + (8) = ((120 : Nat) : Int) by decide)⟩⟩ else none
     else
      bif Nat.blt pc 116 then
       if h : pc = 115 then some ⟨(.iload_n 1, 116, .inl 0, 0, 0), by subst h; exact ⟨dX9_not4_115, rfl, trivial⟩⟩ else none
      else
       if h : pc = 116 then some ⟨(.iload_n 3, 117, .inl 0, 0, 0), by subst h; exact ⟨dX9_not4_116, rfl, trivial⟩⟩ else none
    else
     bif Nat.blt pc 121 then
      bif Nat.blt pc 120 then
       if h : pc = 117 then some ⟨(.if_icmp .ne 7, 120, .inl 0, 124, 0), by subst h; exact ⟨dX9_not4_117, rfl, (show ((117 : Nat) : Int) + (7) = ((124 : Nat) : Int) by decide)⟩⟩ else none
      else
       if h : pc = 120 then some ⟨(.iconst 1, 121, .inl 1, 0, 0), by subst h; exact ⟨dX9_not4_120, rfl, ⟨1, rfl, by decide⟩⟩⟩ else none
     else
      bif Nat.blt pc 124 then
       if h : pc = 121 then some ⟨(.goto 4, 124, .inl 0, 125, 0), by subst h; exact ⟨dX9_not4_121, rfl, (show ((121 : Nat) : Int) + (4) = ((125 : Nat) : Int) by decide)⟩⟩ else none
      else
       bif Nat.blt pc 125 then
        if h : pc = 124 then some ⟨(.iconst 0, 125, .inl 0, 0, 0), by subst h; exact ⟨dX9_not4_124, rfl, ⟨0, rfl, by decide⟩⟩⟩ else none
       else
        if h : pc = 125 then some ⟨(.ireturn, 126, .inl 0, 0, 0), by subst h; exact ⟨dX9_not4_125, rfl, rfl⟩⟩ else none

noncomputable def mt26 (pc : Nat) : Option {e : mE // mOK yX9_not5 cX9_not5 4 ((Option.some ClassFile.FieldType.int)) pc e} :=
 bif Nat.blt pc 49 then
  bif Nat.blt pc 23 then
   bif Nat.blt pc 10 then
    bif Nat.blt pc 5 then
     bif Nat.blt pc 1 then
      if h : pc = 0 then some ⟨(.aload_n 0, 1, .inl 0, 0, 0), by subst h; exact ⟨dX9_not5_0, rfl, trivial⟩⟩ else none
     else
      bif Nat.blt pc 3 then
       if h : pc = 1 then some ⟨(.bipush 110, 3, .inl 110, 0, 0), by subst h; exact ⟨dX9_not5_1, rfl, ⟨110, rfl, by decide⟩⟩⟩ else none
      else
       if h : pc = 3 then some ⟨(.bipush 111, 5, .inl 111, 0, 0), by subst h; exact ⟨dX9_not5_3, rfl, ⟨111, rfl, by decide⟩⟩⟩ else none
    else
     bif Nat.blt pc 8 then
      bif Nat.blt pc 7 then
       if h : pc = 5 then some ⟨(.bipush 116, 7, .inl 116, 0, 0), by subst h; exact ⟨dX9_not5_5, rfl, ⟨116, rfl, by decide⟩⟩⟩ else none
      else
       if h : pc = 7 then some ⟨(.iconst 0, 8, .inl 0, 0, 0), by subst h; exact ⟨dX9_not5_7, rfl, ⟨0, rfl, by decide⟩⟩⟩ else none
     else
      bif Nat.blt pc 9 then
       if h : pc = 8 then some ⟨(.iconst 0, 9, .inl 0, 0, 0), by subst h; exact ⟨dX9_not5_8, rfl, ⟨0, rfl, by decide⟩⟩⟩ else none
      else
       if h : pc = 9 then some ⟨(.iconst 0, 10, .inl 0, 0, 0), by subst h; exact ⟨dX9_not5_9, rfl, ⟨0, rfl, by decide⟩⟩⟩ else none
   else
    bif Nat.blt pc 15 then
     bif Nat.blt pc 11 then
      if h : pc = 10 then some ⟨(.iconst 0, 11, .inl 0, 0, 0), by subst h; exact ⟨dX9_not5_10, rfl, ⟨0, rfl, by decide⟩⟩⟩ else none
     else
      bif Nat.blt pc 12 then
       if h : pc = 11 then some ⟨(.iconst 0, 12, .inl 0, 0, 0), by subst h; exact ⟨dX9_not5_11, rfl, ⟨0, rfl, by decide⟩⟩⟩ else none
      else
       if h : pc = 12 then some ⟨(.invokevirtual 173, 15, .inl 0, 14, 14), by subst h; exact ⟨dX9_not5_12, rfl, ⟨by decide, q1530, q1532, qs66, _, rfl, rfl⟩⟩⟩ else none
    else
     bif Nat.blt pc 19 then
      bif Nat.blt pc 18 then
       if h : pc = 15 then some ⟨(.ifCond .eq 10, 18, .inl 0, 25, 0), by subst h; exact ⟨dX9_not5_15, rfl, (show ((15 : Nat) : Int) + (10) = ((25 : Nat) : Int) by decide)⟩⟩ else none
      else
       if h : pc = 18 then some ⟨(.aload_n 0, 19, .inl 0, 0, 0), by subst h; exact ⟨dX9_not5_18, rfl, trivial⟩⟩ else none
     else
      bif Nat.blt pc 22 then
       if h : pc = 19 then some ⟨(.invokevirtual 198, 22, .inl 0, 21, 14), by subst h; exact ⟨dX9_not5_19, rfl, ⟨by decide, q1558, q1560, qs73, _, rfl, rfl⟩⟩⟩ else none
      else
       if h : pc = 22 then some ⟨(.pop, 23, .inl 0, 0, 0), by subst h; exact ⟨dX9_not5_22, rfl, trivial⟩⟩ else none
  else
   bif Nat.blt pc 33 then
    bif Nat.blt pc 26 then
     bif Nat.blt pc 24 then
      if h : pc = 23 then some ⟨(.iconst 0, 24, .inl 0, 0, 0), by subst h; exact ⟨dX9_not5_23, rfl, ⟨0, rfl, by decide⟩⟩⟩ else none
     else
      bif Nat.blt pc 25 then
       if h : pc = 24 then some ⟨(.ireturn, 25, .inl 0, 0, 0), by subst h; exact ⟨dX9_not5_24, rfl, rfl⟩⟩ else none
      else
       if h : pc = 25 then some ⟨(.aload_n 0, 26, .inl 0, 0, 0), by subst h; exact ⟨dX9_not5_25, rfl, trivial⟩⟩ else none
    else
     bif Nat.blt pc 30 then
      bif Nat.blt pc 29 then
       if h : pc = 26 then some ⟨(.invokevirtual 214, 29, .inl 0, 27, 14), by subst h; exact ⟨dX9_not5_26, rfl, ⟨by decide, q1582, q1584, qs79, _, rfl, rfl⟩⟩⟩ else none
      else
       if h : pc = 29 then some ⟨(.istore_n 1, 30, .inl 0, 0, 0), by subst h; exact ⟨dX9_not5_29, rfl, (show (1 : Nat) < 4 by decide)⟩⟩ else none
     else
      bif Nat.blt pc 31 then
       if h : pc = 30 then some ⟨(.aload_n 0, 31, .inl 0, 0, 0), by subst h; exact ⟨dX9_not5_30, rfl, trivial⟩⟩ else none
      else
       if h : pc = 31 then some ⟨(.bipush 60, 33, .inl 60, 0, 0), by subst h; exact ⟨dX9_not5_31, rfl, ⟨60, rfl, by decide⟩⟩⟩ else none
   else
    bif Nat.blt pc 40 then
     bif Nat.blt pc 36 then
      if h : pc = 33 then some ⟨(.invokevirtual 195, 36, .inl 0, 30, 14), by subst h; exact ⟨dX9_not5_33, rfl, ⟨by decide, q1594, q1596, qs82, _, rfl, rfl⟩⟩⟩ else none
     else
      bif Nat.blt pc 39 then
       if h : pc = 36 then some ⟨(.ifCond .ne 14, 39, .inl 0, 50, 0), by subst h; exact ⟨dX9_not5_36, rfl, (show ((36 : Nat) : Int) + (14) = ((50 : Nat) : Int) by decide)⟩⟩ else none
      else
       if h : pc = 39 then some ⟨(.aload_n 0, 40, .inl 0, 0, 0), by subst h; exact ⟨dX9_not5_39, rfl, trivial⟩⟩ else none
    else
     bif Nat.blt pc 45 then
      bif Nat.blt pc 42 then
       if h : pc = 40 then some ⟨(.bipush 61, 42, .inl 61, 0, 0), by subst h; exact ⟨dX9_not5_40, rfl, ⟨61, rfl, by decide⟩⟩⟩ else none
      else
       if h : pc = 42 then some ⟨(.invokevirtual 195, 45, .inl 0, 30, 14), by subst h; exact ⟨dX9_not5_42, rfl, ⟨by decide, q1594, q1596, qs82, _, rfl, rfl⟩⟩⟩ else none
     else
      bif Nat.blt pc 48 then
       if h : pc = 45 then some ⟨(.ifCond .ne 5, 48, .inl 0, 50, 0), by subst h; exact ⟨dX9_not5_45, rfl, (show ((45 : Nat) : Int) + (5) = ((50 : Nat) : Int) by decide)⟩⟩ else none
      else
       if h : pc = 48 then some ⟨(.iload_n 1, 49, .inl 0, 0, 0), by subst h; exact ⟨dX9_not5_48, rfl, trivial⟩⟩ else none
 else
  bif Nat.blt pc 75 then
   bif Nat.blt pc 62 then
    bif Nat.blt pc 54 then
     bif Nat.blt pc 50 then
      if h : pc = 49 then some ⟨(.ireturn, 50, .inl 0, 0, 0), by subst h; exact ⟨dX9_not5_49, rfl, rfl⟩⟩ else none
     else
      bif Nat.blt pc 51 then
       if h : pc = 50 then some ⟨(.aload_n 0, 51, .inl 0, 0, 0), by subst h; exact ⟨dX9_not5_50, rfl, trivial⟩⟩ else none
      else
       if h : pc = 51 then some ⟨(.getfield 150, 54, .inr (.inl 0), 23, 14), by subst h; exact ⟨dX9_not5_51, rfl, ⟨⟨_, rfl, by decide, _, Or.inl q1381, Or.inl rfl⟩, (show mKd 14 23 = 5 by rfl)⟩⟩⟩ else none
    else
     bif Nat.blt pc 58 then
      bif Nat.blt pc 57 then
       if h : pc = 54 then some ⟨(.ldc2_w 217, 57, .inr (.inl 60), 0, 0), by subst h; exact ⟨dX9_not5_54, rfl, ⟨_, rfl, q1603⟩⟩⟩ else none
      else
       if h : pc = 57 then some ⟨(.lcmp, 58, .inl 0, 0, 0), by subst h; exact ⟨dX9_not5_57, rfl, trivial⟩⟩ else none
     else
      bif Nat.blt pc 61 then
       if h : pc = 58 then some ⟨(.ifCond .ne 7, 61, .inl 0, 65, 0), by subst h; exact ⟨dX9_not5_58, rfl, (show ((58 : Nat) : Int) + (7) = ((65 : Nat) : Int) by decide)⟩⟩ else none
      else
       if h : pc = 61 then some ⟨(.iconst 1, 62, .inl 1, 0, 0), by subst h; exact ⟨dX9_not5_61, rfl, ⟨1, rfl, by decide⟩⟩⟩ else none
   else
    bif Nat.blt pc 67 then
     bif Nat.blt pc 65 then
      if h : pc = 62 then some ⟨(.goto 4, 65, .inl 0, 66, 0), by subst h; exact ⟨dX9_not5_62, rfl, (show ((62 : Nat) : Int) + (4) = ((66 : Nat) : Int) by decide)⟩⟩ else none
     else
      bif Nat.blt pc 66 then
       if h : pc = 65 then some ⟨(.iconst 0, 66, .inl 0, 0, 0), by subst h; exact ⟨dX9_not5_65, rfl, ⟨0, rfl, by decide⟩⟩⟩ else none
      else
       if h : pc = 66 then some ⟨(.istore_n 2, 67, .inl 0, 0, 0), by subst h; exact ⟨dX9_not5_66, rfl, (show (2 : Nat) < 4 by decide)⟩⟩ else none
    else
     bif Nat.blt pc 71 then
      bif Nat.blt pc 68 then
       if h : pc = 67 then some ⟨(.aload_n 0, 68, .inl 0, 0, 0), by subst h; exact ⟨dX9_not5_67, rfl, trivial⟩⟩ else none
      else
       if h : pc = 68 then some ⟨(.invokevirtual 170, 71, .inl 0, 12, 14), by subst h; exact ⟨dX9_not5_68, rfl, ⟨by decide, q1518, q1520, qs64, _, rfl, rfl⟩⟩⟩ else none
     else
      bif Nat.blt pc 72 then
       if h : pc = 71 then some ⟨(.aload_n 0, 72, .inl 0, 0, 0), by subst h; exact ⟨dX9_not5_71, rfl, trivial⟩⟩ else none
      else
       if h : pc = 72 then some ⟨(.invokevirtual 214, 75, .inl 0, 27, 14), by subst h; exact ⟨dX9_not5_72, rfl, ⟨by decide, q1582, q1584, qs79, _, rfl, rfl⟩⟩⟩ else none
  else
   bif Nat.blt pc 88 then
    bif Nat.blt pc 80 then
     bif Nat.blt pc 76 then
      if h : pc = 75 then some ⟨(.istore_n 3, 76, .inl 0, 0, 0), by subst h; exact ⟨dX9_not5_75, rfl, (show (3 : Nat) < 4 by decide)⟩⟩ else none
     else
      bif Nat.blt pc 77 then
       if h : pc = 76 then some ⟨(.iload_n 2, 77, .inl 0, 0, 0), by subst h; exact ⟨dX9_not5_76, rfl, trivial⟩⟩ else none
      else
       if h : pc = 77 then some ⟨(.ifCond .eq 11, 80, .inl 0, 88, 0), by subst h; exact ⟨dX9_not5_77, rfl, (show ((77 : Nat) : Int) + (11) = ((88 : Nat) : Int) by decide)⟩⟩ else none
    else
     bif Nat.blt pc 82 then
      bif Nat.blt pc 81 then
       if h : pc = 80 then some ⟨(.iload_n 1, 81, .inl 0, 0, 0), by subst h; exact ⟨dX9_not5_80, rfl, trivial⟩⟩ else none
      else
       if h : pc = 81 then some ⟨(.iload_n 3, 82, .inl 0, 0, 0), by subst h; exact ⟨dX9_not5_81, rfl, trivial⟩⟩ else none
     else
      bif Nat.blt pc 85 then
       if h : pc = 82 then some ⟨(.if_icmp .ge 15, 85, .inl 0, 97, 0), by subst h; exact ⟨dX9_not5_82, rfl, (show ((82 : Nat) : Int) + (15) = ((97 : Nat) : Int) by decide)⟩⟩ else none
      else
       if h : pc = 85 then some ⟨(.goto 8, 88, .inl 0, 93, 0), by subst h; exact ⟨dX9_not5_85, rfl, (show ((85 : Nat) : Int) + (8) = ((93 : Nat) : Int) by decide)⟩⟩ else none
   else
    bif Nat.blt pc 93 then
     bif Nat.blt pc 89 then
      if h : pc = 88 then some ⟨(.iload_n 1, 89, .inl 0, 0, 0), by subst h; exact ⟨dX9_not5_88, rfl, trivial⟩⟩ else none
     else
      bif Nat.blt pc 90 then
       if h : pc = 89 then some ⟨(.iload_n 3, 90, .inl 0, 0, 0), by subst h; exact ⟨dX9_not5_89, rfl, trivial⟩⟩ else none
      else
       if h : pc = 90 then some ⟨(.if_icmp .ne 7, 93, .inl 0, 97, 0), by subst h; exact ⟨dX9_not5_90, rfl, (show ((90 : Nat) : Int) + (7) = ((97 : Nat) : Int) by decide)⟩⟩ else none
    else
     bif Nat.blt pc 97 then
      bif Nat.blt pc 94 then
       if h : pc = 93 then some ⟨(.iconst 1, 94, .inl 1, 0, 0), by subst h; exact ⟨dX9_not5_93, rfl, ⟨1, rfl, by decide⟩⟩⟩ else none
      else
       if h : pc = 94 then some ⟨(.goto 4, 97, .inl 0, 98, 0), by subst h; exact ⟨dX9_not5_94, rfl, (show ((94 : Nat) : Int) + (4) = ((98 : Nat) : Int) by decide)⟩⟩ else none
     else
      bif Nat.blt pc 98 then
       if h : pc = 97 then some ⟨(.iconst 0, 98, .inl 0, 0, 0), by subst h; exact ⟨dX9_not5_97, rfl, ⟨0, rfl, by decide⟩⟩⟩ else none
      else
       if h : pc = 98 then some ⟨(.ireturn, 99, .inl 0, 0, 0), by subst h; exact ⟨dX9_not5_98, rfl, rfl⟩⟩ else none

noncomputable def mt27 (pc : Nat) : Option {e : mE // mOK yX9_added5 cX9_added5 4 ((Option.some ClassFile.FieldType.int)) pc e} :=
 bif Nat.blt pc 39 then
  bif Nat.blt pc 17 then
   bif Nat.blt pc 6 then
    bif Nat.blt pc 4 then
     bif Nat.blt pc 1 then
      if h : pc = 0 then some ⟨(.aload_n 0, 1, .inl 0, 0, 0), by subst h; exact ⟨dX9_added5_0, rfl, trivial⟩⟩ else none
     else
      if h : pc = 1 then some ⟨(.invokevirtual 209, 4, .inl 0, 28, 14), by subst h; exact ⟨dX9_added5_1, rfl, ⟨by decide, q1586, q1588, qs80, _, rfl, rfl⟩⟩⟩ else none
    else
     bif Nat.blt pc 5 then
      if h : pc = 4 then some ⟨(.istore_n 1, 5, .inl 0, 0, 0), by subst h; exact ⟨dX9_added5_4, rfl, (show (1 : Nat) < 4 by decide)⟩⟩ else none
     else
      if h : pc = 5 then some ⟨(.aload_n 0, 6, .inl 0, 0, 0), by subst h; exact ⟨dX9_added5_5, rfl, trivial⟩⟩ else none
   else
    bif Nat.blt pc 11 then
     bif Nat.blt pc 8 then
      if h : pc = 6 then some ⟨(.bipush 43, 8, .inl 43, 0, 0), by subst h; exact ⟨dX9_added5_6, rfl, ⟨43, rfl, by decide⟩⟩⟩ else none
     else
      if h : pc = 8 then some ⟨(.invokevirtual 195, 11, .inl 0, 30, 14), by subst h; exact ⟨dX9_added5_8, rfl, ⟨by decide, q1594, q1596, qs82, _, rfl, rfl⟩⟩⟩ else none
    else
     bif Nat.blt pc 14 then
      if h : pc = 11 then some ⟨(.ifCond .ne 12, 14, .inl 0, 23, 0), by subst h; exact ⟨dX9_added5_11, rfl, (show ((11 : Nat) : Int) + (12) = ((23 : Nat) : Int) by decide)⟩⟩ else none
     else
      bif Nat.blt pc 15 then
       if h : pc = 14 then some ⟨(.aload_n 0, 15, .inl 0, 0, 0), by subst h; exact ⟨dX9_added5_14, rfl, trivial⟩⟩ else none
      else
       if h : pc = 15 then some ⟨(.bipush 45, 17, .inl 45, 0, 0), by subst h; exact ⟨dX9_added5_15, rfl, ⟨45, rfl, by decide⟩⟩⟩ else none
  else
   bif Nat.blt pc 30 then
    bif Nat.blt pc 23 then
     bif Nat.blt pc 20 then
      if h : pc = 17 then some ⟨(.invokevirtual 195, 20, .inl 0, 30, 14), by subst h; exact ⟨dX9_added5_17, rfl, ⟨by decide, q1594, q1596, qs82, _, rfl, rfl⟩⟩⟩ else none
     else
      if h : pc = 20 then some ⟨(.ifCond .eq 46, 23, .inl 0, 66, 0), by subst h; exact ⟨dX9_added5_20, rfl, (show ((20 : Nat) : Int) + (46) = ((66 : Nat) : Int) by decide)⟩⟩ else none
    else
     bif Nat.blt pc 24 then
      if h : pc = 23 then some ⟨(.aload_n 0, 24, .inl 0, 0, 0), by subst h; exact ⟨dX9_added5_23, rfl, trivial⟩⟩ else none
     else
      bif Nat.blt pc 27 then
       if h : pc = 24 then some ⟨(.getfield 150, 27, .inr (.inl 0), 23, 14), by subst h; exact ⟨dX9_added5_24, rfl, ⟨⟨_, rfl, by decide, _, Or.inl q1381, Or.inl rfl⟩, (show mKd 14 23 = 5 by rfl)⟩⟩⟩ else none
      else
       if h : pc = 27 then some ⟨(.ldc2_w 212, 30, .inr (.inl 43), 0, 0), by subst h; exact ⟨dX9_added5_27, rfl, ⟨_, rfl, q1602⟩⟩⟩ else none
   else
    bif Nat.blt pc 34 then
     bif Nat.blt pc 31 then
      if h : pc = 30 then some ⟨(.lcmp, 31, .inl 0, 0, 0), by subst h; exact ⟨dX9_added5_30, rfl, trivial⟩⟩ else none
     else
      if h : pc = 31 then some ⟨(.ifCond .ne 7, 34, .inl 0, 38, 0), by subst h; exact ⟨dX9_added5_31, rfl, (show ((31 : Nat) : Int) + (7) = ((38 : Nat) : Int) by decide)⟩⟩ else none
    else
     bif Nat.blt pc 35 then
      if h : pc = 34 then some ⟨(.iconst 1, 35, .inl 1, 0, 0), by subst h; exact ⟨dX9_added5_34, rfl, ⟨1, rfl, by decide⟩⟩⟩ else none
     else
      bif Nat.blt pc 38 then
       if h : pc = 35 then some ⟨(.goto 4, 38, .inl 0, 39, 0), by subst h; exact ⟨dX9_added5_35, rfl, (show ((35 : Nat) : Int) + (4) = ((39 : Nat) : Int) by decide)⟩⟩ else none
      else
       if h : pc = 38 then some ⟨(.iconst 0, 39, .inl 0, 0, 0), by subst h; exact ⟨dX9_added5_38, rfl, ⟨0, rfl, by decide⟩⟩⟩ else none
 else
  bif Nat.blt pc 54 then
   bif Nat.blt pc 45 then
    bif Nat.blt pc 41 then
     bif Nat.blt pc 40 then
      if h : pc = 39 then some ⟨(.istore_n 2, 40, .inl 0, 0, 0), by subst h; exact ⟨dX9_added5_39, rfl, (show (2 : Nat) < 4 by decide)⟩⟩ else none
     else
      if h : pc = 40 then some ⟨(.aload_n 0, 41, .inl 0, 0, 0), by subst h; exact ⟨dX9_added5_40, rfl, trivial⟩⟩ else none
    else
     bif Nat.blt pc 44 then
      if h : pc = 41 then some ⟨(.invokevirtual 170, 44, .inl 0, 12, 14), by subst h; exact ⟨dX9_added5_41, rfl, ⟨by decide, q1518, q1520, qs64, _, rfl, rfl⟩⟩⟩ else none
     else
      if h : pc = 44 then some ⟨(.aload_n 0, 45, .inl 0, 0, 0), by subst h; exact ⟨dX9_added5_44, rfl, trivial⟩⟩ else none
   else
    bif Nat.blt pc 49 then
     bif Nat.blt pc 48 then
      if h : pc = 45 then some ⟨(.invokevirtual 209, 48, .inl 0, 28, 14), by subst h; exact ⟨dX9_added5_45, rfl, ⟨by decide, q1586, q1588, qs80, _, rfl, rfl⟩⟩⟩ else none
     else
      if h : pc = 48 then some ⟨(.istore_n 3, 49, .inl 0, 0, 0), by subst h; exact ⟨dX9_added5_48, rfl, (show (3 : Nat) < 4 by decide)⟩⟩ else none
    else
     bif Nat.blt pc 50 then
      if h : pc = 49 then some ⟨(.iload_n 2, 50, .inl 0, 0, 0), by subst h; exact ⟨dX9_added5_49, rfl, trivial⟩⟩ else none
     else
      bif Nat.blt pc 53 then
       if h : pc = 50 then some ⟨(.ifCond .eq 9, 53, .inl 0, 59, 0), by subst h; exact ⟨dX9_added5_50, rfl, (show ((50 : Nat) : Int) + (9) = ((59 : Nat) : Int) by decide)⟩⟩ else none
      else
       if h : pc = 53 then some ⟨(.iload_n 1, 54, .inl 0, 0, 0), by subst h; exact ⟨dX9_added5_53, rfl, trivial⟩⟩ else none
  else
   bif Nat.blt pc 61 then
    bif Nat.blt pc 56 then
     bif Nat.blt pc 55 then
      if h : pc = 54 then some ⟨(.iload_n 3, 55, .inl 0, 0, 0), by subst h; exact ⟨dX9_added5_54, rfl, trivial⟩⟩ else none
     else
      if h : pc = 55 then some ⟨(.iadd, 56, .inl 0, 0, 0), by subst h; exact ⟨dX9_added5_55, rfl, trivial⟩⟩ else none
    else
     bif Nat.blt pc 59 then
      if h : pc = 56 then some ⟨(.goto 6, 59, .inl 0, 62, 0), by subst h; exact ⟨dX9_added5_56, rfl, (show ((56 : Nat) : Int) + (6) = ((62 : Nat) : Int) by decide)⟩⟩ else none
     else
      bif Nat.blt pc 60 then
       if h : pc = 59 then some ⟨(.iload_n 1, 60, .inl 0, 0, 0), by subst h; exact ⟨dX9_added5_59, rfl, trivial⟩⟩ else none
      else
       if h : pc = 60 then some ⟨(.iload_n 3, 61, .inl 0, 0, 0), by subst h; exact ⟨dX9_added5_60, rfl, trivial⟩⟩ else none
   else
    bif Nat.blt pc 63 then
     bif Nat.blt pc 62 then
      if h : pc = 61 then some ⟨(.isub, 62, .inl 0, 0, 0), by subst h; exact ⟨dX9_added5_61, rfl, trivial⟩⟩ else none
     else
      if h : pc = 62 then some ⟨(.istore_n 1, 63, .inl 0, 0, 0), by subst h; exact ⟨dX9_added5_62, rfl, (show (1 : Nat) < 4 by decide)⟩⟩ else none
    else
     bif Nat.blt pc 66 then
      if h : pc = 63 then some ⟨(.goto (-58), 66, .inl 0, 5, 0), by subst h; exact ⟨dX9_added5_63, rfl, (show ((63 : Nat) : Int) + ((-58)) = ((5 : Nat) : Int) by decide)⟩⟩ else none
     else
      bif Nat.blt pc 67 then
       if h : pc = 66 then some ⟨(.iload_n 1, 67, .inl 0, 0, 0), by subst h; exact ⟨dX9_added5_66, rfl, trivial⟩⟩ else none
      else
       if h : pc = 67 then some ⟨(.ireturn, 68, .inl 0, 0, 0), by subst h; exact ⟨dX9_added5_67, rfl, rfl⟩⟩ else none

noncomputable def mt28 (pc : Nat) : Option {e : mE // mOK yX9_term5 cX9_term5 2 ((Option.some ClassFile.FieldType.int)) pc e} :=
 bif Nat.blt pc 15 then
  bif Nat.blt pc 6 then
   bif Nat.blt pc 4 then
    bif Nat.blt pc 1 then
     if h : pc = 0 then some ⟨(.aload_n 0, 1, .inl 0, 0, 0), by subst h; exact ⟨dX9_term5_0, rfl, trivial⟩⟩ else none
    else
     if h : pc = 1 then some ⟨(.invokevirtual 206, 4, .inl 0, 29, 14), by subst h; exact ⟨dX9_term5_1, rfl, ⟨by decide, q1590, q1592, qs81, _, rfl, rfl⟩⟩⟩ else none
   else
    bif Nat.blt pc 5 then
     if h : pc = 4 then some ⟨(.istore_n 1, 5, .inl 0, 0, 0), by subst h; exact ⟨dX9_term5_4, rfl, (show (1 : Nat) < 2 by decide)⟩⟩ else none
    else
     if h : pc = 5 then some ⟨(.aload_n 0, 6, .inl 0, 0, 0), by subst h; exact ⟨dX9_term5_5, rfl, trivial⟩⟩ else none
  else
   bif Nat.blt pc 11 then
    bif Nat.blt pc 8 then
     if h : pc = 6 then some ⟨(.bipush 42, 8, .inl 42, 0, 0), by subst h; exact ⟨dX9_term5_6, rfl, ⟨42, rfl, by decide⟩⟩⟩ else none
    else
     if h : pc = 8 then some ⟨(.invokevirtual 195, 11, .inl 0, 30, 14), by subst h; exact ⟨dX9_term5_8, rfl, ⟨by decide, q1594, q1596, qs82, _, rfl, rfl⟩⟩⟩ else none
   else
    bif Nat.blt pc 14 then
     if h : pc = 11 then some ⟨(.ifCond .eq 17, 14, .inl 0, 28, 0), by subst h; exact ⟨dX9_term5_11, rfl, (show ((11 : Nat) : Int) + (17) = ((28 : Nat) : Int) by decide)⟩⟩ else none
    else
     if h : pc = 14 then some ⟨(.aload_n 0, 15, .inl 0, 0, 0), by subst h; exact ⟨dX9_term5_14, rfl, trivial⟩⟩ else none
 else
  bif Nat.blt pc 23 then
   bif Nat.blt pc 19 then
    bif Nat.blt pc 18 then
     if h : pc = 15 then some ⟨(.invokevirtual 170, 18, .inl 0, 12, 14), by subst h; exact ⟨dX9_term5_15, rfl, ⟨by decide, q1518, q1520, qs64, _, rfl, rfl⟩⟩⟩ else none
    else
     if h : pc = 18 then some ⟨(.iload_n 1, 19, .inl 0, 0, 0), by subst h; exact ⟨dX9_term5_18, rfl, trivial⟩⟩ else none
   else
    bif Nat.blt pc 20 then
     if h : pc = 19 then some ⟨(.aload_n 0, 20, .inl 0, 0, 0), by subst h; exact ⟨dX9_term5_19, rfl, trivial⟩⟩ else none
    else
     if h : pc = 20 then some ⟨(.invokevirtual 206, 23, .inl 0, 29, 14), by subst h; exact ⟨dX9_term5_20, rfl, ⟨by decide, q1590, q1592, qs81, _, rfl, rfl⟩⟩⟩ else none
  else
   bif Nat.blt pc 25 then
    bif Nat.blt pc 24 then
     if h : pc = 23 then some ⟨(.imul, 24, .inl 0, 0, 0), by subst h; exact ⟨dX9_term5_23, rfl, trivial⟩⟩ else none
    else
     if h : pc = 24 then some ⟨(.istore_n 1, 25, .inl 0, 0, 0), by subst h; exact ⟨dX9_term5_24, rfl, (show (1 : Nat) < 2 by decide)⟩⟩ else none
   else
    bif Nat.blt pc 28 then
     if h : pc = 25 then some ⟨(.goto (-20), 28, .inl 0, 5, 0), by subst h; exact ⟨dX9_term5_25, rfl, (show ((25 : Nat) : Int) + ((-20)) = ((5 : Nat) : Int) by decide)⟩⟩ else none
    else
     bif Nat.blt pc 29 then
      if h : pc = 28 then some ⟨(.iload_n 1, 29, .inl 0, 0, 0), by subst h; exact ⟨dX9_term5_28, rfl, trivial⟩⟩ else none
     else
      if h : pc = 29 then some ⟨(.ireturn, 30, .inl 0, 0, 0), by subst h; exact ⟨dX9_term5_29, rfl, rfl⟩⟩ else none

noncomputable def mt29 (pc : Nat) : Option {e : mE // mOK yX9_atom5 cX9_atom5 2 ((Option.some ClassFile.FieldType.int)) pc e} :=
 bif Nat.blt pc 52 then
  bif Nat.blt pc 25 then
   bif Nat.blt pc 11 then
    bif Nat.blt pc 3 then
     bif Nat.blt pc 1 then
      if h : pc = 0 then some ⟨(.iconst 0, 1, .inl 0, 0, 0), by subst h; exact ⟨dX9_atom5_0, rfl, ⟨0, rfl, by decide⟩⟩⟩ else none
     else
      bif Nat.blt pc 2 then
       if h : pc = 1 then some ⟨(.istore_n 1, 2, .inl 0, 0, 0), by subst h; exact ⟨dX9_atom5_1, rfl, (show (1 : Nat) < 2 by decide)⟩⟩ else none
      else
       if h : pc = 2 then some ⟨(.aload_n 0, 3, .inl 0, 0, 0), by subst h; exact ⟨dX9_atom5_2, rfl, trivial⟩⟩ else none
    else
     bif Nat.blt pc 5 then
      if h : pc = 3 then some ⟨(.bipush 45, 5, .inl 45, 0, 0), by subst h; exact ⟨dX9_atom5_3, rfl, ⟨45, rfl, by decide⟩⟩⟩ else none
     else
      bif Nat.blt pc 8 then
       if h : pc = 5 then some ⟨(.invokevirtual 195, 8, .inl 0, 30, 14), by subst h; exact ⟨dX9_atom5_5, rfl, ⟨by decide, q1594, q1596, qs82, _, rfl, rfl⟩⟩⟩ else none
      else
       if h : pc = 8 then some ⟨(.ifCond .eq 11, 11, .inl 0, 19, 0), by subst h; exact ⟨dX9_atom5_8, rfl, (show ((8 : Nat) : Int) + (11) = ((19 : Nat) : Int) by decide)⟩⟩ else none
   else
    bif Nat.blt pc 16 then
     bif Nat.blt pc 12 then
      if h : pc = 11 then some ⟨(.aload_n 0, 12, .inl 0, 0, 0), by subst h; exact ⟨dX9_atom5_11, rfl, trivial⟩⟩ else none
     else
      bif Nat.blt pc 15 then
       if h : pc = 12 then some ⟨(.invokevirtual 198, 15, .inl 0, 21, 14), by subst h; exact ⟨dX9_atom5_12, rfl, ⟨by decide, q1558, q1560, qs73, _, rfl, rfl⟩⟩⟩ else none
      else
       if h : pc = 15 then some ⟨(.pop, 16, .inl 0, 0, 0), by subst h; exact ⟨dX9_atom5_15, rfl, trivial⟩⟩ else none
    else
     bif Nat.blt pc 20 then
      bif Nat.blt pc 19 then
       if h : pc = 16 then some ⟨(.goto 86, 19, .inl 0, 102, 0), by subst h; exact ⟨dX9_atom5_16, rfl, (show ((16 : Nat) : Int) + (86) = ((102 : Nat) : Int) by decide)⟩⟩ else none
      else
       if h : pc = 19 then some ⟨(.aload_n 0, 20, .inl 0, 0, 0), by subst h; exact ⟨dX9_atom5_19, rfl, trivial⟩⟩ else none
     else
      bif Nat.blt pc 22 then
       if h : pc = 20 then some ⟨(.bipush 40, 22, .inl 40, 0, 0), by subst h; exact ⟨dX9_atom5_20, rfl, ⟨40, rfl, by decide⟩⟩⟩ else none
      else
       if h : pc = 22 then some ⟨(.invokevirtual 195, 25, .inl 0, 30, 14), by subst h; exact ⟨dX9_atom5_22, rfl, ⟨by decide, q1594, q1596, qs82, _, rfl, rfl⟩⟩⟩ else none
  else
   bif Nat.blt pc 37 then
    bif Nat.blt pc 32 then
     bif Nat.blt pc 28 then
      if h : pc = 25 then some ⟨(.ifCond .eq 11, 28, .inl 0, 36, 0), by subst h; exact ⟨dX9_atom5_25, rfl, (show ((25 : Nat) : Int) + (11) = ((36 : Nat) : Int) by decide)⟩⟩ else none
     else
      bif Nat.blt pc 29 then
       if h : pc = 28 then some ⟨(.aload_n 0, 29, .inl 0, 0, 0), by subst h; exact ⟨dX9_atom5_28, rfl, trivial⟩⟩ else none
      else
       if h : pc = 29 then some ⟨(.invokevirtual 198, 32, .inl 0, 21, 14), by subst h; exact ⟨dX9_atom5_29, rfl, ⟨by decide, q1558, q1560, qs73, _, rfl, rfl⟩⟩⟩ else none
    else
     bif Nat.blt pc 33 then
      if h : pc = 32 then some ⟨(.pop, 33, .inl 0, 0, 0), by subst h; exact ⟨dX9_atom5_32, rfl, trivial⟩⟩ else none
     else
      bif Nat.blt pc 36 then
       if h : pc = 33 then some ⟨(.goto 69, 36, .inl 0, 102, 0), by subst h; exact ⟨dX9_atom5_33, rfl, (show ((33 : Nat) : Int) + (69) = ((102 : Nat) : Int) by decide)⟩⟩ else none
      else
       if h : pc = 36 then some ⟨(.aload_n 0, 37, .inl 0, 0, 0), by subst h; exact ⟨dX9_atom5_36, rfl, trivial⟩⟩ else none
   else
    bif Nat.blt pc 44 then
     bif Nat.blt pc 40 then
      if h : pc = 37 then some ⟨(.getfield 154, 40, .inl 0, 25, 14), by subst h; exact ⟨dX9_atom5_37, rfl, ⟨⟨_, rfl, by decide, _, Or.inl q1383, Or.inl rfl⟩, (show mKd 14 25 ≤ 4 by decide)⟩⟩⟩ else none
     else
      bif Nat.blt pc 43 then
       if h : pc = 40 then some ⟨(.ifCond .ne 24, 43, .inl 0, 64, 0), by subst h; exact ⟨dX9_atom5_40, rfl, (show ((40 : Nat) : Int) + (24) = ((64 : Nat) : Int) by decide)⟩⟩ else none
      else
       if h : pc = 43 then some ⟨(.aload_n 0, 44, .inl 0, 0, 0), by subst h; exact ⟨dX9_atom5_43, rfl, trivial⟩⟩ else none
    else
     bif Nat.blt pc 48 then
      bif Nat.blt pc 47 then
       if h : pc = 44 then some ⟨(.getfield 139, 47, .inl 0, 21, 14), by subst h; exact ⟨dX9_atom5_44, rfl, ⟨⟨_, rfl, by decide, _, Or.inl q1379, Or.inl rfl⟩, (show mKd 14 21 ≤ 4 by decide)⟩⟩⟩ else none
      else
       if h : pc = 47 then some ⟨(.iconst 2, 48, .inl 2, 0, 0), by subst h; exact ⟨dX9_atom5_47, rfl, ⟨2, rfl, by decide⟩⟩⟩ else none
     else
      bif Nat.blt pc 51 then
       if h : pc = 48 then some ⟨(.if_icmp .ne 16, 51, .inl 0, 64, 0), by subst h; exact ⟨dX9_atom5_48, rfl, (show ((48 : Nat) : Int) + (16) = ((64 : Nat) : Int) by decide)⟩⟩ else none
      else
       if h : pc = 51 then some ⟨(.aload_n 0, 52, .inl 0, 0, 0), by subst h; exact ⟨dX9_atom5_51, rfl, trivial⟩⟩ else none
 else
  bif Nat.blt pc 79 then
   bif Nat.blt pc 64 then
    bif Nat.blt pc 57 then
     bif Nat.blt pc 55 then
      if h : pc = 52 then some ⟨(.getfield 150, 55, .inr (.inl 0), 23, 14), by subst h; exact ⟨dX9_atom5_52, rfl, ⟨⟨_, rfl, by decide, _, Or.inl q1381, Or.inl rfl⟩, (show mKd 14 23 = 5 by rfl)⟩⟩⟩ else none
     else
      bif Nat.blt pc 56 then
       if h : pc = 55 then some ⟨(.l2i, 56, .inl 0, 0, 0), by subst h; exact ⟨dX9_atom5_55, rfl, trivial⟩⟩ else none
      else
       if h : pc = 56 then some ⟨(.istore_n 1, 57, .inl 0, 0, 0), by subst h; exact ⟨dX9_atom5_56, rfl, (show (1 : Nat) < 2 by decide)⟩⟩ else none
    else
     bif Nat.blt pc 58 then
      if h : pc = 57 then some ⟨(.aload_n 0, 58, .inl 0, 0, 0), by subst h; exact ⟨dX9_atom5_57, rfl, trivial⟩⟩ else none
     else
      bif Nat.blt pc 61 then
       if h : pc = 58 then some ⟨(.invokevirtual 170, 61, .inl 0, 12, 14), by subst h; exact ⟨dX9_atom5_58, rfl, ⟨by decide, q1518, q1520, qs64, _, rfl, rfl⟩⟩⟩ else none
      else
       if h : pc = 61 then some ⟨(.goto 41, 64, .inl 0, 102, 0), by subst h; exact ⟨dX9_atom5_61, rfl, (show ((61 : Nat) : Int) + (41) = ((102 : Nat) : Int) by decide)⟩⟩ else none
   else
    bif Nat.blt pc 71 then
     bif Nat.blt pc 65 then
      if h : pc = 64 then some ⟨(.aload_n 0, 65, .inl 0, 0, 0), by subst h; exact ⟨dX9_atom5_64, rfl, trivial⟩⟩ else none
     else
      bif Nat.blt pc 68 then
       if h : pc = 65 then some ⟨(.getfield 154, 68, .inl 0, 25, 14), by subst h; exact ⟨dX9_atom5_65, rfl, ⟨⟨_, rfl, by decide, _, Or.inl q1383, Or.inl rfl⟩, (show mKd 14 25 ≤ 4 by decide)⟩⟩⟩ else none
      else
       if h : pc = 68 then some ⟨(.ifCond .ne 30, 71, .inl 0, 98, 0), by subst h; exact ⟨dX9_atom5_68, rfl, (show ((68 : Nat) : Int) + (30) = ((98 : Nat) : Int) by decide)⟩⟩ else none
    else
     bif Nat.blt pc 75 then
      bif Nat.blt pc 72 then
       if h : pc = 71 then some ⟨(.aload_n 0, 72, .inl 0, 0, 0), by subst h; exact ⟨dX9_atom5_71, rfl, trivial⟩⟩ else none
      else
       if h : pc = 72 then some ⟨(.getfield 139, 75, .inl 0, 21, 14), by subst h; exact ⟨dX9_atom5_72, rfl, ⟨⟨_, rfl, by decide, _, Or.inl q1379, Or.inl rfl⟩, (show mKd 14 21 ≤ 4 by decide)⟩⟩⟩ else none
     else
      bif Nat.blt pc 76 then
       if h : pc = 75 then some ⟨(.iconst 1, 76, .inl 1, 0, 0), by subst h; exact ⟨dX9_atom5_75, rfl, ⟨1, rfl, by decide⟩⟩⟩ else none
      else
       if h : pc = 76 then some ⟨(.if_icmp .ne 22, 79, .inl 0, 98, 0), by subst h; exact ⟨dX9_atom5_76, rfl, (show ((76 : Nat) : Int) + (22) = ((98 : Nat) : Int) by decide)⟩⟩ else none
  else
   bif Nat.blt pc 91 then
    bif Nat.blt pc 84 then
     bif Nat.blt pc 80 then
      if h : pc = 79 then some ⟨(.aload_n 0, 80, .inl 0, 0, 0), by subst h; exact ⟨dX9_atom5_79, rfl, trivial⟩⟩ else none
     else
      bif Nat.blt pc 83 then
       if h : pc = 80 then some ⟨(.invokevirtual 202, 83, .inl 0, 31, 14), by subst h; exact ⟨dX9_atom5_80, rfl, ⟨by decide, q1598, q1600, qs83, _, rfl, rfl⟩⟩⟩ else none
      else
       if h : pc = 83 then some ⟨(.istore_n 1, 84, .inl 0, 0, 0), by subst h; exact ⟨dX9_atom5_83, rfl, (show (1 : Nat) < 2 by decide)⟩⟩ else none
    else
     bif Nat.blt pc 85 then
      if h : pc = 84 then some ⟨(.aload_n 0, 85, .inl 0, 0, 0), by subst h; exact ⟨dX9_atom5_84, rfl, trivial⟩⟩ else none
     else
      bif Nat.blt pc 88 then
       if h : pc = 85 then some ⟨(.getfield 154, 88, .inl 0, 25, 14), by subst h; exact ⟨dX9_atom5_85, rfl, ⟨⟨_, rfl, by decide, _, Or.inl q1383, Or.inl rfl⟩, (show mKd 14 25 ≤ 4 by decide)⟩⟩⟩ else none
      else
       if h : pc = 88 then some ⟨(.ifCond .ne 14, 91, .inl 0, 102, 0), by subst h; exact ⟨dX9_atom5_88, rfl, (show ((88 : Nat) : Int) + (14) = ((102 : Nat) : Int) by decide)⟩⟩ else none
   else
    bif Nat.blt pc 98 then
     bif Nat.blt pc 92 then
      if h : pc = 91 then some ⟨(.aload_n 0, 92, .inl 0, 0, 0), by subst h; exact ⟨dX9_atom5_91, rfl, trivial⟩⟩ else none
     else
      bif Nat.blt pc 95 then
       if h : pc = 92 then some ⟨(.invokevirtual 170, 95, .inl 0, 12, 14), by subst h; exact ⟨dX9_atom5_92, rfl, ⟨by decide, q1518, q1520, qs64, _, rfl, rfl⟩⟩⟩ else none
      else
       if h : pc = 95 then some ⟨(.goto 7, 98, .inl 0, 102, 0), by subst h; exact ⟨dX9_atom5_95, rfl, (show ((95 : Nat) : Int) + (7) = ((102 : Nat) : Int) by decide)⟩⟩ else none
    else
     bif Nat.blt pc 102 then
      bif Nat.blt pc 99 then
       if h : pc = 98 then some ⟨(.aload_n 0, 99, .inl 0, 0, 0), by subst h; exact ⟨dX9_atom5_98, rfl, trivial⟩⟩ else none
      else
       if h : pc = 99 then some ⟨(.invokevirtual 167, 102, .inl 0, 17, 14), by subst h; exact ⟨dX9_atom5_99, rfl, ⟨by decide, q1542, q1544, qs69, _, rfl, rfl⟩⟩⟩ else none
     else
      bif Nat.blt pc 103 then
       if h : pc = 102 then some ⟨(.iload_n 1, 103, .inl 0, 0, 0), by subst h; exact ⟨dX9_atom5_102, rfl, trivial⟩⟩ else none
      else
       if h : pc = 103 then some ⟨(.ireturn, 104, .inl 0, 0, 0), by subst h; exact ⟨dX9_atom5_103, rfl, rfl⟩⟩ else none

noncomputable def mt30 (pc : Nat) : Option {e : mE // mOK yX9_isSign cX9_isSign 2 ((Option.some ClassFile.FieldType.boolean)) pc e} :=
 bif Nat.blt pc 16 then
  bif Nat.blt pc 8 then
   bif Nat.blt pc 4 then
    bif Nat.blt pc 1 then
     if h : pc = 0 then some ⟨(.aload_n 0, 1, .inl 0, 0, 0), by subst h; exact ⟨dX9_isSign_0, rfl, trivial⟩⟩ else none
    else
     if h : pc = 1 then some ⟨(.getfield 154, 4, .inl 0, 25, 14), by subst h; exact ⟨dX9_isSign_1, rfl, ⟨⟨_, rfl, by decide, _, Or.inl q1383, Or.inl rfl⟩, (show mKd 14 25 ≤ 4 by decide)⟩⟩⟩ else none
   else
    bif Nat.blt pc 7 then
     if h : pc = 4 then some ⟨(.ifCond .ne 25, 7, .inl 0, 29, 0), by subst h; exact ⟨dX9_isSign_4, rfl, (show ((4 : Nat) : Int) + (25) = ((29 : Nat) : Int) by decide)⟩⟩ else none
    else
     if h : pc = 7 then some ⟨(.aload_n 0, 8, .inl 0, 0, 0), by subst h; exact ⟨dX9_isSign_7, rfl, trivial⟩⟩ else none
  else
   bif Nat.blt pc 12 then
    bif Nat.blt pc 11 then
     if h : pc = 8 then some ⟨(.getfield 139, 11, .inl 0, 21, 14), by subst h; exact ⟨dX9_isSign_8, rfl, ⟨⟨_, rfl, by decide, _, Or.inl q1379, Or.inl rfl⟩, (show mKd 14 21 ≤ 4 by decide)⟩⟩⟩ else none
    else
     if h : pc = 11 then some ⟨(.iconst 3, 12, .inl 3, 0, 0), by subst h; exact ⟨dX9_isSign_11, rfl, ⟨3, rfl, by decide⟩⟩⟩ else none
   else
    bif Nat.blt pc 15 then
     if h : pc = 12 then some ⟨(.if_icmp .ne 17, 15, .inl 0, 29, 0), by subst h; exact ⟨dX9_isSign_12, rfl, (show ((12 : Nat) : Int) + (17) = ((29 : Nat) : Int) by decide)⟩⟩ else none
    else
     if h : pc = 15 then some ⟨(.aload_n 0, 16, .inl 0, 0, 0), by subst h; exact ⟨dX9_isSign_15, rfl, trivial⟩⟩ else none
 else
  bif Nat.blt pc 22 then
   bif Nat.blt pc 20 then
    bif Nat.blt pc 19 then
     if h : pc = 16 then some ⟨(.getfield 150, 19, .inr (.inl 0), 23, 14), by subst h; exact ⟨dX9_isSign_16, rfl, ⟨⟨_, rfl, by decide, _, Or.inl q1381, Or.inl rfl⟩, (show mKd 14 23 = 5 by rfl)⟩⟩⟩ else none
    else
     if h : pc = 19 then some ⟨(.iload_n 1, 20, .inl 0, 0, 0), by subst h; exact ⟨dX9_isSign_19, rfl, trivial⟩⟩ else none
   else
    bif Nat.blt pc 21 then
     if h : pc = 20 then some ⟨(.i2l, 21, .inl 0, 0, 0), by subst h; exact ⟨dX9_isSign_20, rfl, trivial⟩⟩ else none
    else
     if h : pc = 21 then some ⟨(.lcmp, 22, .inl 0, 0, 0), by subst h; exact ⟨dX9_isSign_21, rfl, trivial⟩⟩ else none
  else
   bif Nat.blt pc 26 then
    bif Nat.blt pc 25 then
     if h : pc = 22 then some ⟨(.ifCond .ne 7, 25, .inl 0, 29, 0), by subst h; exact ⟨dX9_isSign_22, rfl, (show ((22 : Nat) : Int) + (7) = ((29 : Nat) : Int) by decide)⟩⟩ else none
    else
     if h : pc = 25 then some ⟨(.iconst 1, 26, .inl 1, 0, 0), by subst h; exact ⟨dX9_isSign_25, rfl, ⟨1, rfl, by decide⟩⟩⟩ else none
   else
    bif Nat.blt pc 29 then
     if h : pc = 26 then some ⟨(.goto 4, 29, .inl 0, 30, 0), by subst h; exact ⟨dX9_isSign_26, rfl, (show ((26 : Nat) : Int) + (4) = ((30 : Nat) : Int) by decide)⟩⟩ else none
    else
     bif Nat.blt pc 30 then
      if h : pc = 29 then some ⟨(.iconst 0, 30, .inl 0, 0, 0), by subst h; exact ⟨dX9_isSign_29, rfl, ⟨0, rfl, by decide⟩⟩⟩ else none
     else
      if h : pc = 30 then some ⟨(.ireturn, 31, .inl 0, 1, 0), by subst h; exact ⟨dX9_isSign_30, rfl, rfl⟩⟩ else none

noncomputable def mt31 (pc : Nat) : Option {e : mE // mOK yX9_name cX9_name 1 ((Option.some ClassFile.FieldType.int)) pc e} :=
 bif Nat.blt pc 77 then
  bif Nat.blt pc 37 then
   bif Nat.blt pc 18 then
    bif Nat.blt pc 8 then
     bif Nat.blt pc 3 then
      bif Nat.blt pc 1 then
       if h : pc = 0 then some ⟨(.aload_n 0, 1, .inl 0, 0, 0), by subst h; exact ⟨dX9_name_0, rfl, trivial⟩⟩ else none
      else
       if h : pc = 1 then some ⟨(.bipush 97, 3, .inl 97, 0, 0), by subst h; exact ⟨dX9_name_1, rfl, ⟨97, rfl, by decide⟩⟩⟩ else none
     else
      bif Nat.blt pc 5 then
       if h : pc = 3 then some ⟨(.bipush 103, 5, .inl 103, 0, 0), by subst h; exact ⟨dX9_name_3, rfl, ⟨103, rfl, by decide⟩⟩⟩ else none
      else
       bif Nat.blt pc 7 then
        if h : pc = 5 then some ⟨(.bipush 101, 7, .inl 101, 0, 0), by subst h; exact ⟨dX9_name_5, rfl, ⟨101, rfl, by decide⟩⟩⟩ else none
       else
        if h : pc = 7 then some ⟨(.iconst 0, 8, .inl 0, 0, 0), by subst h; exact ⟨dX9_name_7, rfl, ⟨0, rfl, by decide⟩⟩⟩ else none
    else
     bif Nat.blt pc 11 then
      bif Nat.blt pc 9 then
       if h : pc = 8 then some ⟨(.iconst 0, 9, .inl 0, 0, 0), by subst h; exact ⟨dX9_name_8, rfl, ⟨0, rfl, by decide⟩⟩⟩ else none
      else
       bif Nat.blt pc 10 then
        if h : pc = 9 then some ⟨(.iconst 0, 10, .inl 0, 0, 0), by subst h; exact ⟨dX9_name_9, rfl, ⟨0, rfl, by decide⟩⟩⟩ else none
       else
        if h : pc = 10 then some ⟨(.iconst 0, 11, .inl 0, 0, 0), by subst h; exact ⟨dX9_name_10, rfl, ⟨0, rfl, by decide⟩⟩⟩ else none
     else
      bif Nat.blt pc 12 then
       if h : pc = 11 then some ⟨(.iconst 0, 12, .inl 0, 0, 0), by subst h; exact ⟨dX9_name_11, rfl, ⟨0, rfl, by decide⟩⟩⟩ else none
      else
       bif Nat.blt pc 15 then
        if h : pc = 12 then some ⟨(.invokevirtual 173, 15, .inl 0, 14, 14), by subst h; exact ⟨dX9_name_12, rfl, ⟨by decide, q1530, q1532, qs66, _, rfl, rfl⟩⟩⟩ else none
       else
        if h : pc = 15 then some ⟨(.ifCond .eq 8, 18, .inl 0, 23, 0), by subst h; exact ⟨dX9_name_15, rfl, (show ((15 : Nat) : Int) + (8) = ((23 : Nat) : Int) by decide)⟩⟩ else none
   else
    bif Nat.blt pc 26 then
     bif Nat.blt pc 22 then
      bif Nat.blt pc 19 then
       if h : pc = 18 then some ⟨(.aload_n 0, 19, .inl 0, 0, 0), by subst h; exact ⟨dX9_name_18, rfl, trivial⟩⟩ else none
      else
       if h : pc = 19 then some ⟨(.getfield 177, 22, .inl 0, 12, 14), by subst h; exact ⟨dX9_name_19, rfl, ⟨⟨_, rfl, by decide, _, Or.inl q1370, Or.inl rfl⟩, (show mKd 14 12 ≤ 4 by decide)⟩⟩⟩ else none
     else
      bif Nat.blt pc 23 then
       if h : pc = 22 then some ⟨(.ireturn, 23, .inl 0, 0, 0), by subst h; exact ⟨dX9_name_22, rfl, rfl⟩⟩ else none
      else
       bif Nat.blt pc 24 then
        if h : pc = 23 then some ⟨(.aload_n 0, 24, .inl 0, 0, 0), by subst h; exact ⟨dX9_name_23, rfl, trivial⟩⟩ else none
       else
        if h : pc = 24 then some ⟨(.bipush 110, 26, .inl 110, 0, 0), by subst h; exact ⟨dX9_name_24, rfl, ⟨110, rfl, by decide⟩⟩⟩ else none
    else
     bif Nat.blt pc 32 then
      bif Nat.blt pc 28 then
       if h : pc = 26 then some ⟨(.bipush 117, 28, .inl 117, 0, 0), by subst h; exact ⟨dX9_name_26, rfl, ⟨117, rfl, by decide⟩⟩⟩ else none
      else
       bif Nat.blt pc 30 then
        if h : pc = 28 then some ⟨(.bipush 109, 30, .inl 109, 0, 0), by subst h; exact ⟨dX9_name_28, rfl, ⟨109, rfl, by decide⟩⟩⟩ else none
       else
        if h : pc = 30 then some ⟨(.bipush 98, 32, .inl 98, 0, 0), by subst h; exact ⟨dX9_name_30, rfl, ⟨98, rfl, by decide⟩⟩⟩ else none
     else
      bif Nat.blt pc 34 then
       if h : pc = 32 then some ⟨(.bipush 101, 34, .inl 101, 0, 0), by subst h; exact ⟨dX9_name_32, rfl, ⟨101, rfl, by decide⟩⟩⟩ else none
      else
       bif Nat.blt pc 36 then
        if h : pc = 34 then some ⟨(.bipush 114, 36, .inl 114, 0, 0), by subst h; exact ⟨dX9_name_34, rfl, ⟨114, rfl, by decide⟩⟩⟩ else none
       else
        if h : pc = 36 then some ⟨(.iconst 0, 37, .inl 0, 0, 0), by subst h; exact ⟨dX9_name_36, rfl, ⟨0, rfl, by decide⟩⟩⟩ else none
  else
   bif Nat.blt pc 58 then
    bif Nat.blt pc 48 then
     bif Nat.blt pc 41 then
      bif Nat.blt pc 38 then
       if h : pc = 37 then some ⟨(.iconst 0, 38, .inl 0, 0, 0), by subst h; exact ⟨dX9_name_37, rfl, ⟨0, rfl, by decide⟩⟩⟩ else none
      else
       if h : pc = 38 then some ⟨(.invokevirtual 173, 41, .inl 0, 14, 14), by subst h; exact ⟨dX9_name_38, rfl, ⟨by decide, q1530, q1532, qs66, _, rfl, rfl⟩⟩⟩ else none
     else
      bif Nat.blt pc 44 then
       if h : pc = 41 then some ⟨(.ifCond .eq 8, 44, .inl 0, 49, 0), by subst h; exact ⟨dX9_name_41, rfl, (show ((41 : Nat) : Int) + (8) = ((49 : Nat) : Int) by decide)⟩⟩ else none
      else
       bif Nat.blt pc 45 then
        if h : pc = 44 then some ⟨(.aload_n 0, 45, .inl 0, 0, 0), by subst h; exact ⟨dX9_name_44, rfl, trivial⟩⟩ else none
       else
        if h : pc = 45 then some ⟨(.getfield 180, 48, .inl 0, 13, 14), by subst h; exact ⟨dX9_name_45, rfl, ⟨⟨_, rfl, by decide, _, Or.inl q1371, Or.inl rfl⟩, (show mKd 14 13 ≤ 4 by decide)⟩⟩⟩ else none
    else
     bif Nat.blt pc 52 then
      bif Nat.blt pc 49 then
       if h : pc = 48 then some ⟨(.ireturn, 49, .inl 0, 0, 0), by subst h; exact ⟨dX9_name_48, rfl, rfl⟩⟩ else none
      else
       bif Nat.blt pc 50 then
        if h : pc = 49 then some ⟨(.aload_n 0, 50, .inl 0, 0, 0), by subst h; exact ⟨dX9_name_49, rfl, trivial⟩⟩ else none
       else
        if h : pc = 50 then some ⟨(.bipush 102, 52, .inl 102, 0, 0), by subst h; exact ⟨dX9_name_50, rfl, ⟨102, rfl, by decide⟩⟩⟩ else none
     else
      bif Nat.blt pc 54 then
       if h : pc = 52 then some ⟨(.bipush 108, 54, .inl 108, 0, 0), by subst h; exact ⟨dX9_name_52, rfl, ⟨108, rfl, by decide⟩⟩⟩ else none
      else
       bif Nat.blt pc 56 then
        if h : pc = 54 then some ⟨(.bipush 111, 56, .inl 111, 0, 0), by subst h; exact ⟨dX9_name_54, rfl, ⟨111, rfl, by decide⟩⟩⟩ else none
       else
        if h : pc = 56 then some ⟨(.bipush 111, 58, .inl 111, 0, 0), by subst h; exact ⟨dX9_name_56, rfl, ⟨111, rfl, by decide⟩⟩⟩ else none
   else
    bif Nat.blt pc 66 then
     bif Nat.blt pc 61 then
      bif Nat.blt pc 60 then
       if h : pc = 58 then some ⟨(.bipush 114, 60, .inl 114, 0, 0), by subst h; exact ⟨dX9_name_58, rfl, ⟨114, rfl, by decide⟩⟩⟩ else none
      else
       if h : pc = 60 then some ⟨(.iconst 0, 61, .inl 0, 0, 0), by subst h; exact ⟨dX9_name_60, rfl, ⟨0, rfl, by decide⟩⟩⟩ else none
     else
      bif Nat.blt pc 62 then
       if h : pc = 61 then some ⟨(.iconst 0, 62, .inl 0, 0, 0), by subst h; exact ⟨dX9_name_61, rfl, ⟨0, rfl, by decide⟩⟩⟩ else none
      else
       bif Nat.blt pc 63 then
        if h : pc = 62 then some ⟨(.iconst 0, 63, .inl 0, 0, 0), by subst h; exact ⟨dX9_name_62, rfl, ⟨0, rfl, by decide⟩⟩⟩ else none
       else
        if h : pc = 63 then some ⟨(.invokevirtual 173, 66, .inl 0, 14, 14), by subst h; exact ⟨dX9_name_63, rfl, ⟨by decide, q1530, q1532, qs66, _, rfl, rfl⟩⟩⟩ else none
    else
     bif Nat.blt pc 73 then
      bif Nat.blt pc 69 then
       if h : pc = 66 then some ⟨(.ifCond .eq 8, 69, .inl 0, 74, 0), by subst h; exact ⟨dX9_name_66, rfl, (show ((66 : Nat) : Int) + (8) = ((74 : Nat) : Int) by decide)⟩⟩ else none
      else
       bif Nat.blt pc 70 then
        if h : pc = 69 then some ⟨(.aload_n 0, 70, .inl 0, 0, 0), by subst h; exact ⟨dX9_name_69, rfl, trivial⟩⟩ else none
       else
        if h : pc = 70 then some ⟨(.getfield 183, 73, .inl 0, 14, 14), by subst h; exact ⟨dX9_name_70, rfl, ⟨⟨_, rfl, by decide, _, Or.inl q1372, Or.inl rfl⟩, (show mKd 14 14 ≤ 4 by decide)⟩⟩⟩ else none
     else
      bif Nat.blt pc 74 then
       if h : pc = 73 then some ⟨(.ireturn, 74, .inl 0, 0, 0), by subst h; exact ⟨dX9_name_73, rfl, rfl⟩⟩ else none
      else
       bif Nat.blt pc 75 then
        if h : pc = 74 then some ⟨(.aload_n 0, 75, .inl 0, 0, 0), by subst h; exact ⟨dX9_name_74, rfl, trivial⟩⟩ else none
       else
        if h : pc = 75 then some ⟨(.bipush 121, 77, .inl 121, 0, 0), by subst h; exact ⟨dX9_name_75, rfl, ⟨121, rfl, by decide⟩⟩⟩ else none
 else
  bif Nat.blt pc 114 then
   bif Nat.blt pc 97 then
    bif Nat.blt pc 85 then
     bif Nat.blt pc 81 then
      bif Nat.blt pc 79 then
       if h : pc = 77 then some ⟨(.bipush 101, 79, .inl 101, 0, 0), by subst h; exact ⟨dX9_name_77, rfl, ⟨101, rfl, by decide⟩⟩⟩ else none
      else
       if h : pc = 79 then some ⟨(.bipush 97, 81, .inl 97, 0, 0), by subst h; exact ⟨dX9_name_79, rfl, ⟨97, rfl, by decide⟩⟩⟩ else none
     else
      bif Nat.blt pc 83 then
       if h : pc = 81 then some ⟨(.bipush 114, 83, .inl 114, 0, 0), by subst h; exact ⟨dX9_name_81, rfl, ⟨114, rfl, by decide⟩⟩⟩ else none
      else
       bif Nat.blt pc 84 then
        if h : pc = 83 then some ⟨(.iconst 0, 84, .inl 0, 0, 0), by subst h; exact ⟨dX9_name_83, rfl, ⟨0, rfl, by decide⟩⟩⟩ else none
       else
        if h : pc = 84 then some ⟨(.iconst 0, 85, .inl 0, 0, 0), by subst h; exact ⟨dX9_name_84, rfl, ⟨0, rfl, by decide⟩⟩⟩ else none
    else
     bif Nat.blt pc 90 then
      bif Nat.blt pc 86 then
       if h : pc = 85 then some ⟨(.iconst 0, 86, .inl 0, 0, 0), by subst h; exact ⟨dX9_name_85, rfl, ⟨0, rfl, by decide⟩⟩⟩ else none
      else
       bif Nat.blt pc 87 then
        if h : pc = 86 then some ⟨(.iconst 0, 87, .inl 0, 0, 0), by subst h; exact ⟨dX9_name_86, rfl, ⟨0, rfl, by decide⟩⟩⟩ else none
       else
        if h : pc = 87 then some ⟨(.invokevirtual 173, 90, .inl 0, 14, 14), by subst h; exact ⟨dX9_name_87, rfl, ⟨by decide, q1530, q1532, qs66, _, rfl, rfl⟩⟩⟩ else none
     else
      bif Nat.blt pc 93 then
       if h : pc = 90 then some ⟨(.ifCond .eq 8, 93, .inl 0, 98, 0), by subst h; exact ⟨dX9_name_90, rfl, (show ((90 : Nat) : Int) + (8) = ((98 : Nat) : Int) by decide)⟩⟩ else none
      else
       bif Nat.blt pc 94 then
        if h : pc = 93 then some ⟨(.aload_n 0, 94, .inl 0, 0, 0), by subst h; exact ⟨dX9_name_93, rfl, trivial⟩⟩ else none
       else
        if h : pc = 94 then some ⟨(.getfield 186, 97, .inl 0, 15, 14), by subst h; exact ⟨dX9_name_94, rfl, ⟨⟨_, rfl, by decide, _, Or.inl q1373, Or.inl rfl⟩, (show mKd 14 15 ≤ 4 by decide)⟩⟩⟩ else none
   else
    bif Nat.blt pc 105 then
     bif Nat.blt pc 99 then
      bif Nat.blt pc 98 then
       if h : pc = 97 then some ⟨(.ireturn, 98, .inl 0, 0, 0), by subst h; exact ⟨dX9_name_97, rfl, rfl⟩⟩ else none
      else
       if h : pc = 98 then some ⟨(.aload_n 0, 99, .inl 0, 0, 0), by subst h; exact ⟨dX9_name_98, rfl, trivial⟩⟩ else none
     else
      bif Nat.blt pc 101 then
       if h : pc = 99 then some ⟨(.bipush 101, 101, .inl 101, 0, 0), by subst h; exact ⟨dX9_name_99, rfl, ⟨101, rfl, by decide⟩⟩⟩ else none
      else
       bif Nat.blt pc 103 then
        if h : pc = 101 then some ⟨(.bipush 97, 103, .inl 97, 0, 0), by subst h; exact ⟨dX9_name_101, rfl, ⟨97, rfl, by decide⟩⟩⟩ else none
       else
        if h : pc = 103 then some ⟨(.bipush 115, 105, .inl 115, 0, 0), by subst h; exact ⟨dX9_name_103, rfl, ⟨115, rfl, by decide⟩⟩⟩ else none
    else
     bif Nat.blt pc 109 then
      bif Nat.blt pc 107 then
       if h : pc = 105 then some ⟨(.bipush 101, 107, .inl 101, 0, 0), by subst h; exact ⟨dX9_name_105, rfl, ⟨101, rfl, by decide⟩⟩⟩ else none
      else
       bif Nat.blt pc 108 then
        if h : pc = 107 then some ⟨(.iconst 0, 108, .inl 0, 0, 0), by subst h; exact ⟨dX9_name_107, rfl, ⟨0, rfl, by decide⟩⟩⟩ else none
       else
        if h : pc = 108 then some ⟨(.iconst 0, 109, .inl 0, 0, 0), by subst h; exact ⟨dX9_name_108, rfl, ⟨0, rfl, by decide⟩⟩⟩ else none
     else
      bif Nat.blt pc 110 then
       if h : pc = 109 then some ⟨(.iconst 0, 110, .inl 0, 0, 0), by subst h; exact ⟨dX9_name_109, rfl, ⟨0, rfl, by decide⟩⟩⟩ else none
      else
       bif Nat.blt pc 111 then
        if h : pc = 110 then some ⟨(.iconst 0, 111, .inl 0, 0, 0), by subst h; exact ⟨dX9_name_110, rfl, ⟨0, rfl, by decide⟩⟩⟩ else none
       else
        if h : pc = 111 then some ⟨(.invokevirtual 173, 114, .inl 0, 14, 14), by subst h; exact ⟨dX9_name_111, rfl, ⟨by decide, q1530, q1532, qs66, _, rfl, rfl⟩⟩⟩ else none
  else
   bif Nat.blt pc 135 then
    bif Nat.blt pc 123 then
     bif Nat.blt pc 118 then
      bif Nat.blt pc 117 then
       if h : pc = 114 then some ⟨(.ifCond .eq 8, 117, .inl 0, 122, 0), by subst h; exact ⟨dX9_name_114, rfl, (show ((114 : Nat) : Int) + (8) = ((122 : Nat) : Int) by decide)⟩⟩ else none
      else
       if h : pc = 117 then some ⟨(.aload_n 0, 118, .inl 0, 0, 0), by subst h; exact ⟨dX9_name_117, rfl, trivial⟩⟩ else none
     else
      bif Nat.blt pc 121 then
       if h : pc = 118 then some ⟨(.getfield 189, 121, .inl 0, 16, 14), by subst h; exact ⟨dX9_name_118, rfl, ⟨⟨_, rfl, by decide, _, Or.inl q1374, Or.inl rfl⟩, (show mKd 14 16 ≤ 4 by decide)⟩⟩⟩ else none
      else
       bif Nat.blt pc 122 then
        if h : pc = 121 then some ⟨(.ireturn, 122, .inl 0, 0, 0), by subst h; exact ⟨dX9_name_121, rfl, rfl⟩⟩ else none
       else
        if h : pc = 122 then some ⟨(.aload_n 0, 123, .inl 0, 0, 0), by subst h; exact ⟨dX9_name_122, rfl, trivial⟩⟩ else none
    else
     bif Nat.blt pc 129 then
      bif Nat.blt pc 125 then
       if h : pc = 123 then some ⟨(.bipush 111, 125, .inl 111, 0, 0), by subst h; exact ⟨dX9_name_123, rfl, ⟨111, rfl, by decide⟩⟩⟩ else none
      else
       bif Nat.blt pc 127 then
        if h : pc = 125 then some ⟨(.bipush 116, 127, .inl 116, 0, 0), by subst h; exact ⟨dX9_name_125, rfl, ⟨116, rfl, by decide⟩⟩⟩ else none
       else
        if h : pc = 127 then some ⟨(.bipush 104, 129, .inl 104, 0, 0), by subst h; exact ⟨dX9_name_127, rfl, ⟨104, rfl, by decide⟩⟩⟩ else none
     else
      bif Nat.blt pc 131 then
       if h : pc = 129 then some ⟨(.bipush 101, 131, .inl 101, 0, 0), by subst h; exact ⟨dX9_name_129, rfl, ⟨101, rfl, by decide⟩⟩⟩ else none
      else
       bif Nat.blt pc 133 then
        if h : pc = 131 then some ⟨(.bipush 114, 133, .inl 114, 0, 0), by subst h; exact ⟨dX9_name_131, rfl, ⟨114, rfl, by decide⟩⟩⟩ else none
       else
        if h : pc = 133 then some ⟨(.bipush 115, 135, .inl 115, 0, 0), by subst h; exact ⟨dX9_name_133, rfl, ⟨115, rfl, by decide⟩⟩⟩ else none
   else
    bif Nat.blt pc 144 then
     bif Nat.blt pc 137 then
      bif Nat.blt pc 136 then
       if h : pc = 135 then some ⟨(.iconst 0, 136, .inl 0, 0, 0), by subst h; exact ⟨dX9_name_135, rfl, ⟨0, rfl, by decide⟩⟩⟩ else none
      else
       if h : pc = 136 then some ⟨(.iconst 0, 137, .inl 0, 0, 0), by subst h; exact ⟨dX9_name_136, rfl, ⟨0, rfl, by decide⟩⟩⟩ else none
     else
      bif Nat.blt pc 140 then
       if h : pc = 137 then some ⟨(.invokevirtual 173, 140, .inl 0, 14, 14), by subst h; exact ⟨dX9_name_137, rfl, ⟨by decide, q1530, q1532, qs66, _, rfl, rfl⟩⟩⟩ else none
      else
       bif Nat.blt pc 143 then
        if h : pc = 140 then some ⟨(.ifCond .eq 8, 143, .inl 0, 148, 0), by subst h; exact ⟨dX9_name_140, rfl, (show ((140 : Nat) : Int) + (8) = ((148 : Nat) : Int) by decide)⟩⟩ else none
       else
        if h : pc = 143 then some ⟨(.aload_n 0, 144, .inl 0, 0, 0), by subst h; exact ⟨dX9_name_143, rfl, trivial⟩⟩ else none
    else
     bif Nat.blt pc 149 then
      bif Nat.blt pc 147 then
       if h : pc = 144 then some ⟨(.getfield 192, 147, .inl 0, 17, 14), by subst h; exact ⟨dX9_name_144, rfl, ⟨⟨_, rfl, by decide, _, Or.inl q1375, Or.inl rfl⟩, (show mKd 14 17 ≤ 4 by decide)⟩⟩⟩ else none
      else
       bif Nat.blt pc 148 then
        if h : pc = 147 then some ⟨(.ireturn, 148, .inl 0, 0, 0), by subst h; exact ⟨dX9_name_147, rfl, rfl⟩⟩ else none
       else
        if h : pc = 148 then some ⟨(.aload_n 0, 149, .inl 0, 0, 0), by subst h; exact ⟨dX9_name_148, rfl, trivial⟩⟩ else none
     else
      bif Nat.blt pc 152 then
       if h : pc = 149 then some ⟨(.invokevirtual 167, 152, .inl 0, 17, 14), by subst h; exact ⟨dX9_name_149, rfl, ⟨by decide, q1542, q1544, qs69, _, rfl, rfl⟩⟩⟩ else none
      else
       bif Nat.blt pc 153 then
        if h : pc = 152 then some ⟨(.iconst 0, 153, .inl 0, 0, 0), by subst h; exact ⟨dX9_name_152, rfl, ⟨0, rfl, by decide⟩⟩⟩ else none
       else
        if h : pc = 153 then some ⟨(.ireturn, 154, .inl 0, 0, 0), by subst h; exact ⟨dX9_name_153, rfl, rfl⟩⟩ else none

noncomputable def mt32 (pc : Nat) : Option {e : mE // mOK yX9_added4 cX9_added4 4 ((Option.some ClassFile.FieldType.int)) pc e} :=
 bif Nat.blt pc 39 then
  bif Nat.blt pc 17 then
   bif Nat.blt pc 6 then
    bif Nat.blt pc 4 then
     bif Nat.blt pc 1 then
      if h : pc = 0 then some ⟨(.aload_n 0, 1, .inl 0, 0, 0), by subst h; exact ⟨dX9_added4_0, rfl, trivial⟩⟩ else none
     else
      if h : pc = 1 then some ⟨(.invokevirtual 231, 4, .inl 0, 33, 14), by subst h; exact ⟨dX9_added4_1, rfl, ⟨by decide, q1608, q1610, qs85, _, rfl, rfl⟩⟩⟩ else none
    else
     bif Nat.blt pc 5 then
      if h : pc = 4 then some ⟨(.istore_n 1, 5, .inl 0, 0, 0), by subst h; exact ⟨dX9_added4_4, rfl, (show (1 : Nat) < 4 by decide)⟩⟩ else none
     else
      if h : pc = 5 then some ⟨(.aload_n 0, 6, .inl 0, 0, 0), by subst h; exact ⟨dX9_added4_5, rfl, trivial⟩⟩ else none
   else
    bif Nat.blt pc 11 then
     bif Nat.blt pc 8 then
      if h : pc = 6 then some ⟨(.bipush 43, 8, .inl 43, 0, 0), by subst h; exact ⟨dX9_added4_6, rfl, ⟨43, rfl, by decide⟩⟩⟩ else none
     else
      if h : pc = 8 then some ⟨(.invokevirtual 195, 11, .inl 0, 30, 14), by subst h; exact ⟨dX9_added4_8, rfl, ⟨by decide, q1594, q1596, qs82, _, rfl, rfl⟩⟩⟩ else none
    else
     bif Nat.blt pc 14 then
      if h : pc = 11 then some ⟨(.ifCond .ne 12, 14, .inl 0, 23, 0), by subst h; exact ⟨dX9_added4_11, rfl, (show ((11 : Nat) : Int) + (12) = ((23 : Nat) : Int) by decide)⟩⟩ else none
     else
      bif Nat.blt pc 15 then
       if h : pc = 14 then some ⟨(.aload_n 0, 15, .inl 0, 0, 0), by subst h; exact ⟨dX9_added4_14, rfl, trivial⟩⟩ else none
      else
       if h : pc = 15 then some ⟨(.bipush 45, 17, .inl 45, 0, 0), by subst h; exact ⟨dX9_added4_15, rfl, ⟨45, rfl, by decide⟩⟩⟩ else none
  else
   bif Nat.blt pc 30 then
    bif Nat.blt pc 23 then
     bif Nat.blt pc 20 then
      if h : pc = 17 then some ⟨(.invokevirtual 195, 20, .inl 0, 30, 14), by subst h; exact ⟨dX9_added4_17, rfl, ⟨by decide, q1594, q1596, qs82, _, rfl, rfl⟩⟩⟩ else none
     else
      if h : pc = 20 then some ⟨(.ifCond .eq 46, 23, .inl 0, 66, 0), by subst h; exact ⟨dX9_added4_20, rfl, (show ((20 : Nat) : Int) + (46) = ((66 : Nat) : Int) by decide)⟩⟩ else none
    else
     bif Nat.blt pc 24 then
      if h : pc = 23 then some ⟨(.aload_n 0, 24, .inl 0, 0, 0), by subst h; exact ⟨dX9_added4_23, rfl, trivial⟩⟩ else none
     else
      bif Nat.blt pc 27 then
       if h : pc = 24 then some ⟨(.getfield 150, 27, .inr (.inl 0), 23, 14), by subst h; exact ⟨dX9_added4_24, rfl, ⟨⟨_, rfl, by decide, _, Or.inl q1381, Or.inl rfl⟩, (show mKd 14 23 = 5 by rfl)⟩⟩⟩ else none
      else
       if h : pc = 27 then some ⟨(.ldc2_w 212, 30, .inr (.inl 43), 0, 0), by subst h; exact ⟨dX9_added4_27, rfl, ⟨_, rfl, q1602⟩⟩⟩ else none
   else
    bif Nat.blt pc 34 then
     bif Nat.blt pc 31 then
      if h : pc = 30 then some ⟨(.lcmp, 31, .inl 0, 0, 0), by subst h; exact ⟨dX9_added4_30, rfl, trivial⟩⟩ else none
     else
      if h : pc = 31 then some ⟨(.ifCond .ne 7, 34, .inl 0, 38, 0), by subst h; exact ⟨dX9_added4_31, rfl, (show ((31 : Nat) : Int) + (7) = ((38 : Nat) : Int) by decide)⟩⟩ else none
    else
     bif Nat.blt pc 35 then
      if h : pc = 34 then some ⟨(.iconst 1, 35, .inl 1, 0, 0), by subst h; exact ⟨dX9_added4_34, rfl, ⟨1, rfl, by decide⟩⟩⟩ else none
     else
      bif Nat.blt pc 38 then
       if h : pc = 35 then some ⟨(.goto 4, 38, .inl 0, 39, 0), by subst h; exact ⟨dX9_added4_35, rfl, (show ((35 : Nat) : Int) + (4) = ((39 : Nat) : Int) by decide)⟩⟩ else none
      else
       if h : pc = 38 then some ⟨(.iconst 0, 39, .inl 0, 0, 0), by subst h; exact ⟨dX9_added4_38, rfl, ⟨0, rfl, by decide⟩⟩⟩ else none
 else
  bif Nat.blt pc 54 then
   bif Nat.blt pc 45 then
    bif Nat.blt pc 41 then
     bif Nat.blt pc 40 then
      if h : pc = 39 then some ⟨(.istore_n 2, 40, .inl 0, 0, 0), by subst h; exact ⟨dX9_added4_39, rfl, (show (2 : Nat) < 4 by decide)⟩⟩ else none
     else
      if h : pc = 40 then some ⟨(.aload_n 0, 41, .inl 0, 0, 0), by subst h; exact ⟨dX9_added4_40, rfl, trivial⟩⟩ else none
    else
     bif Nat.blt pc 44 then
      if h : pc = 41 then some ⟨(.invokevirtual 170, 44, .inl 0, 12, 14), by subst h; exact ⟨dX9_added4_41, rfl, ⟨by decide, q1518, q1520, qs64, _, rfl, rfl⟩⟩⟩ else none
     else
      if h : pc = 44 then some ⟨(.aload_n 0, 45, .inl 0, 0, 0), by subst h; exact ⟨dX9_added4_44, rfl, trivial⟩⟩ else none
   else
    bif Nat.blt pc 49 then
     bif Nat.blt pc 48 then
      if h : pc = 45 then some ⟨(.invokevirtual 231, 48, .inl 0, 33, 14), by subst h; exact ⟨dX9_added4_45, rfl, ⟨by decide, q1608, q1610, qs85, _, rfl, rfl⟩⟩⟩ else none
     else
      if h : pc = 48 then some ⟨(.istore_n 3, 49, .inl 0, 0, 0), by subst h; exact ⟨dX9_added4_48, rfl, (show (3 : Nat) < 4 by decide)⟩⟩ else none
    else
     bif Nat.blt pc 50 then
      if h : pc = 49 then some ⟨(.iload_n 2, 50, .inl 0, 0, 0), by subst h; exact ⟨dX9_added4_49, rfl, trivial⟩⟩ else none
     else
      bif Nat.blt pc 53 then
       if h : pc = 50 then some ⟨(.ifCond .eq 9, 53, .inl 0, 59, 0), by subst h; exact ⟨dX9_added4_50, rfl, (show ((50 : Nat) : Int) + (9) = ((59 : Nat) : Int) by decide)⟩⟩ else none
      else
       if h : pc = 53 then some ⟨(.iload_n 1, 54, .inl 0, 0, 0), by subst h; exact ⟨dX9_added4_53, rfl, trivial⟩⟩ else none
  else
   bif Nat.blt pc 61 then
    bif Nat.blt pc 56 then
     bif Nat.blt pc 55 then
      if h : pc = 54 then some ⟨(.iload_n 3, 55, .inl 0, 0, 0), by subst h; exact ⟨dX9_added4_54, rfl, trivial⟩⟩ else none
     else
      if h : pc = 55 then some ⟨(.iadd, 56, .inl 0, 0, 0), by subst h; exact ⟨dX9_added4_55, rfl, trivial⟩⟩ else none
    else
     bif Nat.blt pc 59 then
      if h : pc = 56 then some ⟨(.goto 6, 59, .inl 0, 62, 0), by subst h; exact ⟨dX9_added4_56, rfl, (show ((56 : Nat) : Int) + (6) = ((62 : Nat) : Int) by decide)⟩⟩ else none
     else
      bif Nat.blt pc 60 then
       if h : pc = 59 then some ⟨(.iload_n 1, 60, .inl 0, 0, 0), by subst h; exact ⟨dX9_added4_59, rfl, trivial⟩⟩ else none
      else
       if h : pc = 60 then some ⟨(.iload_n 3, 61, .inl 0, 0, 0), by subst h; exact ⟨dX9_added4_60, rfl, trivial⟩⟩ else none
   else
    bif Nat.blt pc 63 then
     bif Nat.blt pc 62 then
      if h : pc = 61 then some ⟨(.isub, 62, .inl 0, 0, 0), by subst h; exact ⟨dX9_added4_61, rfl, trivial⟩⟩ else none
     else
      if h : pc = 62 then some ⟨(.istore_n 1, 63, .inl 0, 0, 0), by subst h; exact ⟨dX9_added4_62, rfl, (show (1 : Nat) < 4 by decide)⟩⟩ else none
    else
     bif Nat.blt pc 66 then
      if h : pc = 63 then some ⟨(.goto (-58), 66, .inl 0, 5, 0), by subst h; exact ⟨dX9_added4_63, rfl, (show ((63 : Nat) : Int) + ((-58)) = ((5 : Nat) : Int) by decide)⟩⟩ else none
     else
      bif Nat.blt pc 67 then
       if h : pc = 66 then some ⟨(.iload_n 1, 67, .inl 0, 0, 0), by subst h; exact ⟨dX9_added4_66, rfl, trivial⟩⟩ else none
      else
       if h : pc = 67 then some ⟨(.ireturn, 68, .inl 0, 0, 0), by subst h; exact ⟨dX9_added4_67, rfl, rfl⟩⟩ else none

noncomputable def mt33 (pc : Nat) : Option {e : mE // mOK yX9_term4 cX9_term4 2 ((Option.some ClassFile.FieldType.int)) pc e} :=
 bif Nat.blt pc 15 then
  bif Nat.blt pc 6 then
   bif Nat.blt pc 4 then
    bif Nat.blt pc 1 then
     if h : pc = 0 then some ⟨(.aload_n 0, 1, .inl 0, 0, 0), by subst h; exact ⟨dX9_term4_0, rfl, trivial⟩⟩ else none
    else
     if h : pc = 1 then some ⟨(.invokevirtual 228, 4, .inl 0, 34, 14), by subst h; exact ⟨dX9_term4_1, rfl, ⟨by decide, q1612, q1614, qs86, _, rfl, rfl⟩⟩⟩ else none
   else
    bif Nat.blt pc 5 then
     if h : pc = 4 then some ⟨(.istore_n 1, 5, .inl 0, 0, 0), by subst h; exact ⟨dX9_term4_4, rfl, (show (1 : Nat) < 2 by decide)⟩⟩ else none
    else
     if h : pc = 5 then some ⟨(.aload_n 0, 6, .inl 0, 0, 0), by subst h; exact ⟨dX9_term4_5, rfl, trivial⟩⟩ else none
  else
   bif Nat.blt pc 11 then
    bif Nat.blt pc 8 then
     if h : pc = 6 then some ⟨(.bipush 42, 8, .inl 42, 0, 0), by subst h; exact ⟨dX9_term4_6, rfl, ⟨42, rfl, by decide⟩⟩⟩ else none
    else
     if h : pc = 8 then some ⟨(.invokevirtual 195, 11, .inl 0, 30, 14), by subst h; exact ⟨dX9_term4_8, rfl, ⟨by decide, q1594, q1596, qs82, _, rfl, rfl⟩⟩⟩ else none
   else
    bif Nat.blt pc 14 then
     if h : pc = 11 then some ⟨(.ifCond .eq 17, 14, .inl 0, 28, 0), by subst h; exact ⟨dX9_term4_11, rfl, (show ((11 : Nat) : Int) + (17) = ((28 : Nat) : Int) by decide)⟩⟩ else none
    else
     if h : pc = 14 then some ⟨(.aload_n 0, 15, .inl 0, 0, 0), by subst h; exact ⟨dX9_term4_14, rfl, trivial⟩⟩ else none
 else
  bif Nat.blt pc 23 then
   bif Nat.blt pc 19 then
    bif Nat.blt pc 18 then
     if h : pc = 15 then some ⟨(.invokevirtual 170, 18, .inl 0, 12, 14), by subst h; exact ⟨dX9_term4_15, rfl, ⟨by decide, q1518, q1520, qs64, _, rfl, rfl⟩⟩⟩ else none
    else
     if h : pc = 18 then some ⟨(.iload_n 1, 19, .inl 0, 0, 0), by subst h; exact ⟨dX9_term4_18, rfl, trivial⟩⟩ else none
   else
    bif Nat.blt pc 20 then
     if h : pc = 19 then some ⟨(.aload_n 0, 20, .inl 0, 0, 0), by subst h; exact ⟨dX9_term4_19, rfl, trivial⟩⟩ else none
    else
     if h : pc = 20 then some ⟨(.invokevirtual 228, 23, .inl 0, 34, 14), by subst h; exact ⟨dX9_term4_20, rfl, ⟨by decide, q1612, q1614, qs86, _, rfl, rfl⟩⟩⟩ else none
  else
   bif Nat.blt pc 25 then
    bif Nat.blt pc 24 then
     if h : pc = 23 then some ⟨(.imul, 24, .inl 0, 0, 0), by subst h; exact ⟨dX9_term4_23, rfl, trivial⟩⟩ else none
    else
     if h : pc = 24 then some ⟨(.istore_n 1, 25, .inl 0, 0, 0), by subst h; exact ⟨dX9_term4_24, rfl, (show (1 : Nat) < 2 by decide)⟩⟩ else none
   else
    bif Nat.blt pc 28 then
     if h : pc = 25 then some ⟨(.goto (-20), 28, .inl 0, 5, 0), by subst h; exact ⟨dX9_term4_25, rfl, (show ((25 : Nat) : Int) + ((-20)) = ((5 : Nat) : Int) by decide)⟩⟩ else none
    else
     bif Nat.blt pc 29 then
      if h : pc = 28 then some ⟨(.iload_n 1, 29, .inl 0, 0, 0), by subst h; exact ⟨dX9_term4_28, rfl, trivial⟩⟩ else none
     else
      if h : pc = 29 then some ⟨(.ireturn, 30, .inl 0, 0, 0), by subst h; exact ⟨dX9_term4_29, rfl, rfl⟩⟩ else none

noncomputable def mt34 (pc : Nat) : Option {e : mE // mOK yX9_atom4 cX9_atom4 2 ((Option.some ClassFile.FieldType.int)) pc e} :=
 bif Nat.blt pc 78 then
  bif Nat.blt pc 37 then
   bif Nat.blt pc 19 then
    bif Nat.blt pc 8 then
     bif Nat.blt pc 2 then
      bif Nat.blt pc 1 then
       if h : pc = 0 then some ⟨(.iconst 0, 1, .inl 0, 0, 0), by subst h; exact ⟨dX9_atom4_0, rfl, ⟨0, rfl, by decide⟩⟩⟩ else none
      else
       if h : pc = 1 then some ⟨(.istore_n 1, 2, .inl 0, 0, 0), by subst h; exact ⟨dX9_atom4_1, rfl, (show (1 : Nat) < 2 by decide)⟩⟩ else none
     else
      bif Nat.blt pc 3 then
       if h : pc = 2 then some ⟨(.aload_n 0, 3, .inl 0, 0, 0), by subst h; exact ⟨dX9_atom4_2, rfl, trivial⟩⟩ else none
      else
       bif Nat.blt pc 5 then
        if h : pc = 3 then some ⟨(.bipush 45, 5, .inl 45, 0, 0), by subst h; exact ⟨dX9_atom4_3, rfl, ⟨45, rfl, by decide⟩⟩⟩ else none
       else
        if h : pc = 5 then some ⟨(.invokevirtual 195, 8, .inl 0, 30, 14), by subst h; exact ⟨dX9_atom4_5, rfl, ⟨by decide, q1594, q1596, qs82, _, rfl, rfl⟩⟩⟩ else none
    else
     bif Nat.blt pc 12 then
      bif Nat.blt pc 11 then
       if h : pc = 8 then some ⟨(.ifCond .eq 29, 11, .inl 0, 37, 0), by subst h; exact ⟨dX9_atom4_8, rfl, (show ((8 : Nat) : Int) + (29) = ((37 : Nat) : Int) by decide)⟩⟩ else none
      else
       if h : pc = 11 then some ⟨(.aload_n 0, 12, .inl 0, 0, 0), by subst h; exact ⟨dX9_atom4_11, rfl, trivial⟩⟩ else none
     else
      bif Nat.blt pc 15 then
       if h : pc = 12 then some ⟨(.invokevirtual 198, 15, .inl 0, 21, 14), by subst h; exact ⟨dX9_atom4_12, rfl, ⟨by decide, q1558, q1560, qs73, _, rfl, rfl⟩⟩⟩ else none
      else
       bif Nat.blt pc 18 then
        if h : pc = 15 then some ⟨(.ifCond .eq 146, 18, .inl 0, 161, 0), by subst h; exact ⟨dX9_atom4_15, rfl, (show ((15 : Nat) : Int) + (146) = ((161 : Nat) : Int) by decide)⟩⟩ else none
       else
        if h : pc = 18 then some ⟨(.aload_n 0, 19, .inl 0, 0, 0), by subst h; exact ⟨dX9_atom4_18, rfl, trivial⟩⟩ else none
   else
    bif Nat.blt pc 26 then
     bif Nat.blt pc 23 then
      bif Nat.blt pc 22 then
       if h : pc = 19 then some ⟨(.invokevirtual 206, 22, .inl 0, 29, 14), by subst h; exact ⟨dX9_atom4_19, rfl, ⟨by decide, q1590, q1592, qs81, _, rfl, rfl⟩⟩⟩ else none
      else
       if h : pc = 22 then some ⟨(.ineg, 23, .inl 0, 0, 0), by subst h; exact ⟨dX9_atom4_22, rfl, trivial⟩⟩ else none
     else
      bif Nat.blt pc 24 then
       if h : pc = 23 then some ⟨(.istore_n 1, 24, .inl 0, 0, 0), by subst h; exact ⟨dX9_atom4_23, rfl, (show (1 : Nat) < 2 by decide)⟩⟩ else none
      else
       bif Nat.blt pc 25 then
        if h : pc = 24 then some ⟨(.aload_n 0, 25, .inl 0, 0, 0), by subst h; exact ⟨dX9_atom4_24, rfl, trivial⟩⟩ else none
       else
        if h : pc = 25 then some ⟨(.dup, 26, .inl 0, 0, 0), by subst h; exact ⟨dX9_atom4_25, rfl, trivial⟩⟩ else none
    else
     bif Nat.blt pc 30 then
      bif Nat.blt pc 29 then
       if h : pc = 26 then some ⟨(.getfield 164, 29, .inl 0, 24, 14), by subst h; exact ⟨dX9_atom4_26, rfl, ⟨⟨_, rfl, by decide, _, Or.inl q1382, Or.inl rfl⟩, (show mKd 14 24 ≤ 4 by decide)⟩⟩⟩ else none
      else
       if h : pc = 29 then some ⟨(.iconst 1, 30, .inl 1, 0, 0), by subst h; exact ⟨dX9_atom4_29, rfl, ⟨1, rfl, by decide⟩⟩⟩ else none
     else
      bif Nat.blt pc 31 then
       if h : pc = 30 then some ⟨(.isub, 31, .inl 0, 0, 0), by subst h; exact ⟨dX9_atom4_30, rfl, trivial⟩⟩ else none
      else
       bif Nat.blt pc 34 then
        if h : pc = 31 then some ⟨(.putfield 164, 34, .inl 0, 24, 14), by subst h; exact ⟨dX9_atom4_31, rfl, ⟨⟨_, rfl, by decide, _, Or.inl q1382, Or.inl rfl⟩, (show mKd 14 24 ≤ 4 by decide), by decide, by decide, (fun q h => Or.inl (by cases h; rfl))⟩⟩⟩ else none
       else
        if h : pc = 34 then some ⟨(.goto 127, 37, .inl 0, 161, 0), by subst h; exact ⟨dX9_atom4_34, rfl, (show ((34 : Nat) : Int) + (127) = ((161 : Nat) : Int) by decide)⟩⟩ else none
  else
   bif Nat.blt pc 58 then
    bif Nat.blt pc 47 then
     bif Nat.blt pc 40 then
      bif Nat.blt pc 38 then
       if h : pc = 37 then some ⟨(.aload_n 0, 38, .inl 0, 0, 0), by subst h; exact ⟨dX9_atom4_37, rfl, trivial⟩⟩ else none
      else
       if h : pc = 38 then some ⟨(.bipush 40, 40, .inl 40, 0, 0), by subst h; exact ⟨dX9_atom4_38, rfl, ⟨40, rfl, by decide⟩⟩⟩ else none
     else
      bif Nat.blt pc 43 then
       if h : pc = 40 then some ⟨(.invokevirtual 195, 43, .inl 0, 30, 14), by subst h; exact ⟨dX9_atom4_40, rfl, ⟨by decide, q1594, q1596, qs82, _, rfl, rfl⟩⟩⟩ else none
      else
       bif Nat.blt pc 46 then
        if h : pc = 43 then some ⟨(.ifCond .eq 52, 46, .inl 0, 95, 0), by subst h; exact ⟨dX9_atom4_43, rfl, (show ((43 : Nat) : Int) + (52) = ((95 : Nat) : Int) by decide)⟩⟩ else none
       else
        if h : pc = 46 then some ⟨(.aload_n 0, 47, .inl 0, 0, 0), by subst h; exact ⟨dX9_atom4_46, rfl, trivial⟩⟩ else none
    else
     bif Nat.blt pc 53 then
      bif Nat.blt pc 50 then
       if h : pc = 47 then some ⟨(.invokevirtual 198, 50, .inl 0, 21, 14), by subst h; exact ⟨dX9_atom4_47, rfl, ⟨by decide, q1558, q1560, qs73, _, rfl, rfl⟩⟩⟩ else none
      else
       if h : pc = 50 then some ⟨(.ifCond .eq 111, 53, .inl 0, 161, 0), by subst h; exact ⟨dX9_atom4_50, rfl, (show ((50 : Nat) : Int) + (111) = ((161 : Nat) : Int) by decide)⟩⟩ else none
     else
      bif Nat.blt pc 54 then
       if h : pc = 53 then some ⟨(.aload_n 0, 54, .inl 0, 0, 0), by subst h; exact ⟨dX9_atom4_53, rfl, trivial⟩⟩ else none
      else
       bif Nat.blt pc 57 then
        if h : pc = 54 then some ⟨(.invokevirtual 225, 57, .inl 0, 35, 14), by subst h; exact ⟨dX9_atom4_54, rfl, ⟨by decide, q1616, q1618, qs87, _, rfl, rfl⟩⟩⟩ else none
       else
        if h : pc = 57 then some ⟨(.istore_n 1, 58, .inl 0, 0, 0), by subst h; exact ⟨dX9_atom4_57, rfl, (show (1 : Nat) < 2 by decide)⟩⟩ else none
   else
    bif Nat.blt pc 68 then
     bif Nat.blt pc 61 then
      bif Nat.blt pc 59 then
       if h : pc = 58 then some ⟨(.aload_n 0, 59, .inl 0, 0, 0), by subst h; exact ⟨dX9_atom4_58, rfl, trivial⟩⟩ else none
      else
       if h : pc = 59 then some ⟨(.bipush 41, 61, .inl 41, 0, 0), by subst h; exact ⟨dX9_atom4_59, rfl, ⟨41, rfl, by decide⟩⟩⟩ else none
     else
      bif Nat.blt pc 64 then
       if h : pc = 61 then some ⟨(.invokevirtual 195, 64, .inl 0, 30, 14), by subst h; exact ⟨dX9_atom4_61, rfl, ⟨by decide, q1594, q1596, qs82, _, rfl, rfl⟩⟩⟩ else none
      else
       bif Nat.blt pc 67 then
        if h : pc = 64 then some ⟨(.ifCond .ne 7, 67, .inl 0, 71, 0), by subst h; exact ⟨dX9_atom4_64, rfl, (show ((64 : Nat) : Int) + (7) = ((71 : Nat) : Int) by decide)⟩⟩ else none
       else
        if h : pc = 67 then some ⟨(.aload_n 0, 68, .inl 0, 0, 0), by subst h; exact ⟨dX9_atom4_67, rfl, trivial⟩⟩ else none
    else
     bif Nat.blt pc 73 then
      bif Nat.blt pc 71 then
       if h : pc = 68 then some ⟨(.invokevirtual 167, 71, .inl 0, 17, 14), by subst h; exact ⟨dX9_atom4_68, rfl, ⟨by decide, q1542, q1544, qs69, _, rfl, rfl⟩⟩⟩ else none
      else
       bif Nat.blt pc 72 then
        if h : pc = 71 then some ⟨(.aload_n 0, 72, .inl 0, 0, 0), by subst h; exact ⟨dX9_atom4_71, rfl, trivial⟩⟩ else none
       else
        if h : pc = 72 then some ⟨(.dup, 73, .inl 0, 0, 0), by subst h; exact ⟨dX9_atom4_72, rfl, trivial⟩⟩ else none
     else
      bif Nat.blt pc 76 then
       if h : pc = 73 then some ⟨(.getfield 164, 76, .inl 0, 24, 14), by subst h; exact ⟨dX9_atom4_73, rfl, ⟨⟨_, rfl, by decide, _, Or.inl q1382, Or.inl rfl⟩, (show mKd 14 24 ≤ 4 by decide)⟩⟩⟩ else none
      else
       bif Nat.blt pc 77 then
        if h : pc = 76 then some ⟨(.iconst 1, 77, .inl 1, 0, 0), by subst h; exact ⟨dX9_atom4_76, rfl, ⟨1, rfl, by decide⟩⟩⟩ else none
       else
        if h : pc = 77 then some ⟨(.isub, 78, .inl 0, 0, 0), by subst h; exact ⟨dX9_atom4_77, rfl, trivial⟩⟩ else none
 else
  bif Nat.blt pc 120 then
   bif Nat.blt pc 102 then
    bif Nat.blt pc 89 then
     bif Nat.blt pc 82 then
      bif Nat.blt pc 81 then
       if h : pc = 78 then some ⟨(.putfield 164, 81, .inl 0, 24, 14), by subst h; exact ⟨dX9_atom4_78, rfl, ⟨⟨_, rfl, by decide, _, Or.inl q1382, Or.inl rfl⟩, (show mKd 14 24 ≤ 4 by decide), by decide, by decide, (fun q h => Or.inl (by cases h; rfl))⟩⟩⟩ else none
      else
       if h : pc = 81 then some ⟨(.aload_n 0, 82, .inl 0, 0, 0), by subst h; exact ⟨dX9_atom4_81, rfl, trivial⟩⟩ else none
     else
      bif Nat.blt pc 85 then
       if h : pc = 82 then some ⟨(.getfield 154, 85, .inl 0, 25, 14), by subst h; exact ⟨dX9_atom4_82, rfl, ⟨⟨_, rfl, by decide, _, Or.inl q1383, Or.inl rfl⟩, (show mKd 14 25 ≤ 4 by decide)⟩⟩⟩ else none
      else
       bif Nat.blt pc 88 then
        if h : pc = 85 then some ⟨(.ifCond .ne 76, 88, .inl 0, 161, 0), by subst h; exact ⟨dX9_atom4_85, rfl, (show ((85 : Nat) : Int) + (76) = ((161 : Nat) : Int) by decide)⟩⟩ else none
       else
        if h : pc = 88 then some ⟨(.aload_n 0, 89, .inl 0, 0, 0), by subst h; exact ⟨dX9_atom4_88, rfl, trivial⟩⟩ else none
    else
     bif Nat.blt pc 95 then
      bif Nat.blt pc 92 then
       if h : pc = 89 then some ⟨(.invokevirtual 170, 92, .inl 0, 12, 14), by subst h; exact ⟨dX9_atom4_89, rfl, ⟨by decide, q1518, q1520, qs64, _, rfl, rfl⟩⟩⟩ else none
      else
       if h : pc = 92 then some ⟨(.goto 69, 95, .inl 0, 161, 0), by subst h; exact ⟨dX9_atom4_92, rfl, (show ((92 : Nat) : Int) + (69) = ((161 : Nat) : Int) by decide)⟩⟩ else none
     else
      bif Nat.blt pc 96 then
       if h : pc = 95 then some ⟨(.aload_n 0, 96, .inl 0, 0, 0), by subst h; exact ⟨dX9_atom4_95, rfl, trivial⟩⟩ else none
      else
       bif Nat.blt pc 99 then
        if h : pc = 96 then some ⟨(.getfield 154, 99, .inl 0, 25, 14), by subst h; exact ⟨dX9_atom4_96, rfl, ⟨⟨_, rfl, by decide, _, Or.inl q1383, Or.inl rfl⟩, (show mKd 14 25 ≤ 4 by decide)⟩⟩⟩ else none
       else
        if h : pc = 99 then some ⟨(.ifCond .ne 24, 102, .inl 0, 123, 0), by subst h; exact ⟨dX9_atom4_99, rfl, (show ((99 : Nat) : Int) + (24) = ((123 : Nat) : Int) by decide)⟩⟩ else none
   else
    bif Nat.blt pc 111 then
     bif Nat.blt pc 106 then
      bif Nat.blt pc 103 then
       if h : pc = 102 then some ⟨(.aload_n 0, 103, .inl 0, 0, 0), by subst h; exact ⟨dX9_atom4_102, rfl, trivial⟩⟩ else none
      else
       if h : pc = 103 then some ⟨(.getfield 139, 106, .inl 0, 21, 14), by subst h; exact ⟨dX9_atom4_103, rfl, ⟨⟨_, rfl, by decide, _, Or.inl q1379, Or.inl rfl⟩, (show mKd 14 21 ≤ 4 by decide)⟩⟩⟩ else none
     else
      bif Nat.blt pc 107 then
       if h : pc = 106 then some ⟨(.iconst 2, 107, .inl 2, 0, 0), by subst h; exact ⟨dX9_atom4_106, rfl, ⟨2, rfl, by decide⟩⟩⟩ else none
      else
       bif Nat.blt pc 110 then
        if h : pc = 107 then some ⟨(.if_icmp .ne 16, 110, .inl 0, 123, 0), by subst h; exact ⟨dX9_atom4_107, rfl, (show ((107 : Nat) : Int) + (16) = ((123 : Nat) : Int) by decide)⟩⟩ else none
       else
        if h : pc = 110 then some ⟨(.aload_n 0, 111, .inl 0, 0, 0), by subst h; exact ⟨dX9_atom4_110, rfl, trivial⟩⟩ else none
    else
     bif Nat.blt pc 115 then
      bif Nat.blt pc 114 then
       if h : pc = 111 then some ⟨(.getfield 150, 114, .inr (.inl 0), 23, 14), by subst h; exact ⟨dX9_atom4_111, rfl, ⟨⟨_, rfl, by decide, _, Or.inl q1381, Or.inl rfl⟩, (show mKd 14 23 = 5 by rfl)⟩⟩⟩ else none
      else
       if h : pc = 114 then some ⟨(.l2i, 115, .inl 0, 0, 0), by subst h; exact ⟨dX9_atom4_114, rfl, trivial⟩⟩ else none
     else
      bif Nat.blt pc 116 then
       if h : pc = 115 then some ⟨(.istore_n 1, 116, .inl 0, 0, 0), by subst h; exact ⟨dX9_atom4_115, rfl, (show (1 : Nat) < 2 by decide)⟩⟩ else none
      else
       bif Nat.blt pc 117 then
        if h : pc = 116 then some ⟨(.aload_n 0, 117, .inl 0, 0, 0), by subst h; exact ⟨dX9_atom4_116, rfl, trivial⟩⟩ else none
       else
        if h : pc = 117 then some ⟨(.invokevirtual 170, 120, .inl 0, 12, 14), by subst h; exact ⟨dX9_atom4_117, rfl, ⟨by decide, q1518, q1520, qs64, _, rfl, rfl⟩⟩⟩ else none
  else
   bif Nat.blt pc 142 then
    bif Nat.blt pc 131 then
     bif Nat.blt pc 124 then
      bif Nat.blt pc 123 then
       if h : pc = 120 then some ⟨(.goto 41, 123, .inl 0, 161, 0), by subst h; exact ⟨dX9_atom4_120, rfl, (show ((120 : Nat) : Int) + (41) = ((161 : Nat) : Int) by decide)⟩⟩ else none
      else
       if h : pc = 123 then some ⟨(.aload_n 0, 124, .inl 0, 0, 0), by subst h; exact ⟨dX9_atom4_123, rfl, trivial⟩⟩ else none
     else
      bif Nat.blt pc 127 then
       if h : pc = 124 then some ⟨(.getfield 154, 127, .inl 0, 25, 14), by subst h; exact ⟨dX9_atom4_124, rfl, ⟨⟨_, rfl, by decide, _, Or.inl q1383, Or.inl rfl⟩, (show mKd 14 25 ≤ 4 by decide)⟩⟩⟩ else none
      else
       bif Nat.blt pc 130 then
        if h : pc = 127 then some ⟨(.ifCond .ne 30, 130, .inl 0, 157, 0), by subst h; exact ⟨dX9_atom4_127, rfl, (show ((127 : Nat) : Int) + (30) = ((157 : Nat) : Int) by decide)⟩⟩ else none
       else
        if h : pc = 130 then some ⟨(.aload_n 0, 131, .inl 0, 0, 0), by subst h; exact ⟨dX9_atom4_130, rfl, trivial⟩⟩ else none
    else
     bif Nat.blt pc 135 then
      bif Nat.blt pc 134 then
       if h : pc = 131 then some ⟨(.getfield 139, 134, .inl 0, 21, 14), by subst h; exact ⟨dX9_atom4_131, rfl, ⟨⟨_, rfl, by decide, _, Or.inl q1379, Or.inl rfl⟩, (show mKd 14 21 ≤ 4 by decide)⟩⟩⟩ else none
      else
       if h : pc = 134 then some ⟨(.iconst 1, 135, .inl 1, 0, 0), by subst h; exact ⟨dX9_atom4_134, rfl, ⟨1, rfl, by decide⟩⟩⟩ else none
     else
      bif Nat.blt pc 138 then
       if h : pc = 135 then some ⟨(.if_icmp .ne 22, 138, .inl 0, 157, 0), by subst h; exact ⟨dX9_atom4_135, rfl, (show ((135 : Nat) : Int) + (22) = ((157 : Nat) : Int) by decide)⟩⟩ else none
      else
       bif Nat.blt pc 139 then
        if h : pc = 138 then some ⟨(.aload_n 0, 139, .inl 0, 0, 0), by subst h; exact ⟨dX9_atom4_138, rfl, trivial⟩⟩ else none
       else
        if h : pc = 139 then some ⟨(.invokevirtual 202, 142, .inl 0, 31, 14), by subst h; exact ⟨dX9_atom4_139, rfl, ⟨by decide, q1598, q1600, qs83, _, rfl, rfl⟩⟩⟩ else none
   else
    bif Nat.blt pc 151 then
     bif Nat.blt pc 144 then
      bif Nat.blt pc 143 then
       if h : pc = 142 then some ⟨(.istore_n 1, 143, .inl 0, 0, 0), by subst h; exact ⟨dX9_atom4_142, rfl, (show (1 : Nat) < 2 by decide)⟩⟩ else none
      else
       if h : pc = 143 then some ⟨(.aload_n 0, 144, .inl 0, 0, 0), by subst h; exact ⟨dX9_atom4_143, rfl, trivial⟩⟩ else none
     else
      bif Nat.blt pc 147 then
       if h : pc = 144 then some ⟨(.getfield 154, 147, .inl 0, 25, 14), by subst h; exact ⟨dX9_atom4_144, rfl, ⟨⟨_, rfl, by decide, _, Or.inl q1383, Or.inl rfl⟩, (show mKd 14 25 ≤ 4 by decide)⟩⟩⟩ else none
      else
       bif Nat.blt pc 150 then
        if h : pc = 147 then some ⟨(.ifCond .ne 14, 150, .inl 0, 161, 0), by subst h; exact ⟨dX9_atom4_147, rfl, (show ((147 : Nat) : Int) + (14) = ((161 : Nat) : Int) by decide)⟩⟩ else none
       else
        if h : pc = 150 then some ⟨(.aload_n 0, 151, .inl 0, 0, 0), by subst h; exact ⟨dX9_atom4_150, rfl, trivial⟩⟩ else none
    else
     bif Nat.blt pc 158 then
      bif Nat.blt pc 154 then
       if h : pc = 151 then some ⟨(.invokevirtual 170, 154, .inl 0, 12, 14), by subst h; exact ⟨dX9_atom4_151, rfl, ⟨by decide, q1518, q1520, qs64, _, rfl, rfl⟩⟩⟩ else none
      else
       bif Nat.blt pc 157 then
        if h : pc = 154 then some ⟨(.goto 7, 157, .inl 0, 161, 0), by subst h; exact ⟨dX9_atom4_154, rfl, (show ((154 : Nat) : Int) + (7) = ((161 : Nat) : Int) by decide)⟩⟩ else none
       else
        if h : pc = 157 then some ⟨(.aload_n 0, 158, .inl 0, 0, 0), by subst h; exact ⟨dX9_atom4_157, rfl, trivial⟩⟩ else none
     else
      bif Nat.blt pc 161 then
       if h : pc = 158 then some ⟨(.invokevirtual 167, 161, .inl 0, 17, 14), by subst h; exact ⟨dX9_atom4_158, rfl, ⟨by decide, q1542, q1544, qs69, _, rfl, rfl⟩⟩⟩ else none
      else
       bif Nat.blt pc 162 then
        if h : pc = 161 then some ⟨(.iload_n 1, 162, .inl 0, 0, 0), by subst h; exact ⟨dX9_atom4_161, rfl, trivial⟩⟩ else none
       else
        if h : pc = 162 then some ⟨(.ireturn, 163, .inl 0, 0, 0), by subst h; exact ⟨dX9_atom4_162, rfl, rfl⟩⟩ else none

noncomputable def mt35 (pc : Nat) : Option {e : mE // mOK yX9_either5 cX9_either5 3 ((Option.some ClassFile.FieldType.int)) pc e} :=
 bif Nat.blt pc 23 then
  bif Nat.blt pc 11 then
   bif Nat.blt pc 5 then
    bif Nat.blt pc 1 then
     if h : pc = 0 then some ⟨(.aload_n 0, 1, .inl 0, 0, 0), by subst h; exact ⟨dX9_either5_0, rfl, trivial⟩⟩ else none
    else
     bif Nat.blt pc 4 then
      if h : pc = 1 then some ⟨(.invokevirtual 222, 4, .inl 0, 36, 14), by subst h; exact ⟨dX9_either5_1, rfl, ⟨by decide, q1620, q1622, qs88, _, rfl, rfl⟩⟩⟩ else none
     else
      if h : pc = 4 then some ⟨(.istore_n 1, 5, .inl 0, 0, 0), by subst h; exact ⟨dX9_either5_4, rfl, (show (1 : Nat) < 3 by decide)⟩⟩ else none
   else
    bif Nat.blt pc 8 then
     bif Nat.blt pc 6 then
      if h : pc = 5 then some ⟨(.aload_n 0, 6, .inl 0, 0, 0), by subst h; exact ⟨dX9_either5_5, rfl, trivial⟩⟩ else none
     else
      if h : pc = 6 then some ⟨(.bipush 111, 8, .inl 111, 0, 0), by subst h; exact ⟨dX9_either5_6, rfl, ⟨111, rfl, by decide⟩⟩⟩ else none
    else
     bif Nat.blt pc 10 then
      if h : pc = 8 then some ⟨(.bipush 114, 10, .inl 114, 0, 0), by subst h; exact ⟨dX9_either5_8, rfl, ⟨114, rfl, by decide⟩⟩⟩ else none
     else
      if h : pc = 10 then some ⟨(.iconst 0, 11, .inl 0, 0, 0), by subst h; exact ⟨dX9_either5_10, rfl, ⟨0, rfl, by decide⟩⟩⟩ else none
  else
   bif Nat.blt pc 15 then
    bif Nat.blt pc 13 then
     bif Nat.blt pc 12 then
      if h : pc = 11 then some ⟨(.iconst 0, 12, .inl 0, 0, 0), by subst h; exact ⟨dX9_either5_11, rfl, ⟨0, rfl, by decide⟩⟩⟩ else none
     else
      if h : pc = 12 then some ⟨(.iconst 0, 13, .inl 0, 0, 0), by subst h; exact ⟨dX9_either5_12, rfl, ⟨0, rfl, by decide⟩⟩⟩ else none
    else
     bif Nat.blt pc 14 then
      if h : pc = 13 then some ⟨(.iconst 0, 14, .inl 0, 0, 0), by subst h; exact ⟨dX9_either5_13, rfl, ⟨0, rfl, by decide⟩⟩⟩ else none
     else
      if h : pc = 14 then some ⟨(.iconst 0, 15, .inl 0, 0, 0), by subst h; exact ⟨dX9_either5_14, rfl, ⟨0, rfl, by decide⟩⟩⟩ else none
   else
    bif Nat.blt pc 19 then
     bif Nat.blt pc 16 then
      if h : pc = 15 then some ⟨(.iconst 0, 16, .inl 0, 0, 0), by subst h; exact ⟨dX9_either5_15, rfl, ⟨0, rfl, by decide⟩⟩⟩ else none
     else
      if h : pc = 16 then some ⟨(.invokevirtual 173, 19, .inl 0, 14, 14), by subst h; exact ⟨dX9_either5_16, rfl, ⟨by decide, q1530, q1532, qs66, _, rfl, rfl⟩⟩⟩ else none
    else
     bif Nat.blt pc 22 then
      if h : pc = 19 then some ⟨(.ifCond .eq 29, 22, .inl 0, 48, 0), by subst h; exact ⟨dX9_either5_19, rfl, (show ((19 : Nat) : Int) + (29) = ((48 : Nat) : Int) by decide)⟩⟩ else none
     else
      if h : pc = 22 then some ⟨(.aload_n 0, 23, .inl 0, 0, 0), by subst h; exact ⟨dX9_either5_22, rfl, trivial⟩⟩ else none
 else
  bif Nat.blt pc 36 then
   bif Nat.blt pc 30 then
    bif Nat.blt pc 26 then
     if h : pc = 23 then some ⟨(.invokevirtual 170, 26, .inl 0, 12, 14), by subst h; exact ⟨dX9_either5_23, rfl, ⟨by decide, q1518, q1520, qs64, _, rfl, rfl⟩⟩⟩ else none
    else
     bif Nat.blt pc 27 then
      if h : pc = 26 then some ⟨(.aload_n 0, 27, .inl 0, 0, 0), by subst h; exact ⟨dX9_either5_26, rfl, trivial⟩⟩ else none
     else
      if h : pc = 27 then some ⟨(.invokevirtual 222, 30, .inl 0, 36, 14), by subst h; exact ⟨dX9_either5_27, rfl, ⟨by decide, q1620, q1622, qs88, _, rfl, rfl⟩⟩⟩ else none
   else
    bif Nat.blt pc 32 then
     bif Nat.blt pc 31 then
      if h : pc = 30 then some ⟨(.istore_n 2, 31, .inl 0, 0, 0), by subst h; exact ⟨dX9_either5_30, rfl, (show (2 : Nat) < 3 by decide)⟩⟩ else none
     else
      if h : pc = 31 then some ⟨(.iload_n 1, 32, .inl 0, 0, 0), by subst h; exact ⟨dX9_either5_31, rfl, trivial⟩⟩ else none
    else
     bif Nat.blt pc 35 then
      if h : pc = 32 then some ⟨(.ifCond .ne 7, 35, .inl 0, 39, 0), by subst h; exact ⟨dX9_either5_32, rfl, (show ((32 : Nat) : Int) + (7) = ((39 : Nat) : Int) by decide)⟩⟩ else none
     else
      if h : pc = 35 then some ⟨(.iload_n 2, 36, .inl 0, 0, 0), by subst h; exact ⟨dX9_either5_35, rfl, trivial⟩⟩ else none
  else
   bif Nat.blt pc 44 then
    bif Nat.blt pc 40 then
     bif Nat.blt pc 39 then
      if h : pc = 36 then some ⟨(.ifCond .eq 7, 39, .inl 0, 43, 0), by subst h; exact ⟨dX9_either5_36, rfl, (show ((36 : Nat) : Int) + (7) = ((43 : Nat) : Int) by decide)⟩⟩ else none
     else
      if h : pc = 39 then some ⟨(.iconst 1, 40, .inl 1, 0, 0), by subst h; exact ⟨dX9_either5_39, rfl, ⟨1, rfl, by decide⟩⟩⟩ else none
    else
     bif Nat.blt pc 43 then
      if h : pc = 40 then some ⟨(.goto 4, 43, .inl 0, 44, 0), by subst h; exact ⟨dX9_either5_40, rfl, (show ((40 : Nat) : Int) + (4) = ((44 : Nat) : Int) by decide)⟩⟩ else none
     else
      if h : pc = 43 then some ⟨(.iconst 0, 44, .inl 0, 0, 0), by subst h; exact ⟨dX9_either5_43, rfl, ⟨0, rfl, by decide⟩⟩⟩ else none
   else
    bif Nat.blt pc 48 then
     bif Nat.blt pc 45 then
      if h : pc = 44 then some ⟨(.istore_n 1, 45, .inl 0, 0, 0), by subst h; exact ⟨dX9_either5_44, rfl, (show (1 : Nat) < 3 by decide)⟩⟩ else none
     else
      if h : pc = 45 then some ⟨(.goto (-40), 48, .inl 0, 5, 0), by subst h; exact ⟨dX9_either5_45, rfl, (show ((45 : Nat) : Int) + ((-40)) = ((5 : Nat) : Int) by decide)⟩⟩ else none
    else
     bif Nat.blt pc 49 then
      if h : pc = 48 then some ⟨(.iload_n 1, 49, .inl 0, 0, 0), by subst h; exact ⟨dX9_either5_48, rfl, trivial⟩⟩ else none
     else
      if h : pc = 49 then some ⟨(.ireturn, 50, .inl 0, 0, 0), by subst h; exact ⟨dX9_either5_49, rfl, rfl⟩⟩ else none

noncomputable def mt36 (pc : Nat) : Option {e : mE // mOK yX9_both5 cX9_both5 3 ((Option.some ClassFile.FieldType.int)) pc e} :=
 bif Nat.blt pc 24 then
  bif Nat.blt pc 12 then
   bif Nat.blt pc 5 then
    bif Nat.blt pc 1 then
     if h : pc = 0 then some ⟨(.aload_n 0, 1, .inl 0, 0, 0), by subst h; exact ⟨dX9_both5_0, rfl, trivial⟩⟩ else none
    else
     bif Nat.blt pc 4 then
      if h : pc = 1 then some ⟨(.invokevirtual 219, 4, .inl 0, 26, 14), by subst h; exact ⟨dX9_both5_1, rfl, ⟨by decide, q1578, q1580, qs78, _, rfl, rfl⟩⟩⟩ else none
     else
      if h : pc = 4 then some ⟨(.istore_n 1, 5, .inl 0, 0, 0), by subst h; exact ⟨dX9_both5_4, rfl, (show (1 : Nat) < 3 by decide)⟩⟩ else none
   else
    bif Nat.blt pc 8 then
     bif Nat.blt pc 6 then
      if h : pc = 5 then some ⟨(.aload_n 0, 6, .inl 0, 0, 0), by subst h; exact ⟨dX9_both5_5, rfl, trivial⟩⟩ else none
     else
      if h : pc = 6 then some ⟨(.bipush 97, 8, .inl 97, 0, 0), by subst h; exact ⟨dX9_both5_6, rfl, ⟨97, rfl, by decide⟩⟩⟩ else none
    else
     bif Nat.blt pc 10 then
      if h : pc = 8 then some ⟨(.bipush 110, 10, .inl 110, 0, 0), by subst h; exact ⟨dX9_both5_8, rfl, ⟨110, rfl, by decide⟩⟩⟩ else none
     else
      if h : pc = 10 then some ⟨(.bipush 100, 12, .inl 100, 0, 0), by subst h; exact ⟨dX9_both5_10, rfl, ⟨100, rfl, by decide⟩⟩⟩ else none
  else
   bif Nat.blt pc 16 then
    bif Nat.blt pc 14 then
     bif Nat.blt pc 13 then
      if h : pc = 12 then some ⟨(.iconst 0, 13, .inl 0, 0, 0), by subst h; exact ⟨dX9_both5_12, rfl, ⟨0, rfl, by decide⟩⟩⟩ else none
     else
      if h : pc = 13 then some ⟨(.iconst 0, 14, .inl 0, 0, 0), by subst h; exact ⟨dX9_both5_13, rfl, ⟨0, rfl, by decide⟩⟩⟩ else none
    else
     bif Nat.blt pc 15 then
      if h : pc = 14 then some ⟨(.iconst 0, 15, .inl 0, 0, 0), by subst h; exact ⟨dX9_both5_14, rfl, ⟨0, rfl, by decide⟩⟩⟩ else none
     else
      if h : pc = 15 then some ⟨(.iconst 0, 16, .inl 0, 0, 0), by subst h; exact ⟨dX9_both5_15, rfl, ⟨0, rfl, by decide⟩⟩⟩ else none
   else
    bif Nat.blt pc 20 then
     bif Nat.blt pc 17 then
      if h : pc = 16 then some ⟨(.iconst 0, 17, .inl 0, 0, 0), by subst h; exact ⟨dX9_both5_16, rfl, ⟨0, rfl, by decide⟩⟩⟩ else none
     else
      if h : pc = 17 then some ⟨(.invokevirtual 173, 20, .inl 0, 14, 14), by subst h; exact ⟨dX9_both5_17, rfl, ⟨by decide, q1530, q1532, qs66, _, rfl, rfl⟩⟩⟩ else none
    else
     bif Nat.blt pc 23 then
      if h : pc = 20 then some ⟨(.ifCond .eq 29, 23, .inl 0, 49, 0), by subst h; exact ⟨dX9_both5_20, rfl, (show ((20 : Nat) : Int) + (29) = ((49 : Nat) : Int) by decide)⟩⟩ else none
     else
      if h : pc = 23 then some ⟨(.aload_n 0, 24, .inl 0, 0, 0), by subst h; exact ⟨dX9_both5_23, rfl, trivial⟩⟩ else none
 else
  bif Nat.blt pc 37 then
   bif Nat.blt pc 31 then
    bif Nat.blt pc 27 then
     if h : pc = 24 then some ⟨(.invokevirtual 170, 27, .inl 0, 12, 14), by subst h; exact ⟨dX9_both5_24, rfl, ⟨by decide, q1518, q1520, qs64, _, rfl, rfl⟩⟩⟩ else none
    else
     bif Nat.blt pc 28 then
      if h : pc = 27 then some ⟨(.aload_n 0, 28, .inl 0, 0, 0), by subst h; exact ⟨dX9_both5_27, rfl, trivial⟩⟩ else none
     else
      if h : pc = 28 then some ⟨(.invokevirtual 219, 31, .inl 0, 26, 14), by subst h; exact ⟨dX9_both5_28, rfl, ⟨by decide, q1578, q1580, qs78, _, rfl, rfl⟩⟩⟩ else none
   else
    bif Nat.blt pc 33 then
     bif Nat.blt pc 32 then
      if h : pc = 31 then some ⟨(.istore_n 2, 32, .inl 0, 0, 0), by subst h; exact ⟨dX9_both5_31, rfl, (show (2 : Nat) < 3 by decide)⟩⟩ else none
     else
      if h : pc = 32 then some ⟨(.iload_n 1, 33, .inl 0, 0, 0), by subst h; exact ⟨dX9_both5_32, rfl, trivial⟩⟩ else none
    else
     bif Nat.blt pc 36 then
      if h : pc = 33 then some ⟨(.ifCond .eq 11, 36, .inl 0, 44, 0), by subst h; exact ⟨dX9_both5_33, rfl, (show ((33 : Nat) : Int) + (11) = ((44 : Nat) : Int) by decide)⟩⟩ else none
     else
      if h : pc = 36 then some ⟨(.iload_n 2, 37, .inl 0, 0, 0), by subst h; exact ⟨dX9_both5_36, rfl, trivial⟩⟩ else none
  else
   bif Nat.blt pc 45 then
    bif Nat.blt pc 41 then
     bif Nat.blt pc 40 then
      if h : pc = 37 then some ⟨(.ifCond .eq 7, 40, .inl 0, 44, 0), by subst h; exact ⟨dX9_both5_37, rfl, (show ((37 : Nat) : Int) + (7) = ((44 : Nat) : Int) by decide)⟩⟩ else none
     else
      if h : pc = 40 then some ⟨(.iconst 1, 41, .inl 1, 0, 0), by subst h; exact ⟨dX9_both5_40, rfl, ⟨1, rfl, by decide⟩⟩⟩ else none
    else
     bif Nat.blt pc 44 then
      if h : pc = 41 then some ⟨(.goto 4, 44, .inl 0, 45, 0), by subst h; exact ⟨dX9_both5_41, rfl, (show ((41 : Nat) : Int) + (4) = ((45 : Nat) : Int) by decide)⟩⟩ else none
     else
      if h : pc = 44 then some ⟨(.iconst 0, 45, .inl 0, 0, 0), by subst h; exact ⟨dX9_both5_44, rfl, ⟨0, rfl, by decide⟩⟩⟩ else none
   else
    bif Nat.blt pc 49 then
     bif Nat.blt pc 46 then
      if h : pc = 45 then some ⟨(.istore_n 1, 46, .inl 0, 0, 0), by subst h; exact ⟨dX9_both5_45, rfl, (show (1 : Nat) < 3 by decide)⟩⟩ else none
     else
      if h : pc = 46 then some ⟨(.goto (-41), 49, .inl 0, 5, 0), by subst h; exact ⟨dX9_both5_46, rfl, (show ((46 : Nat) : Int) + ((-41)) = ((5 : Nat) : Int) by decide)⟩⟩ else none
    else
     bif Nat.blt pc 50 then
      if h : pc = 49 then some ⟨(.iload_n 1, 50, .inl 0, 0, 0), by subst h; exact ⟨dX9_both5_49, rfl, trivial⟩⟩ else none
     else
      if h : pc = 50 then some ⟨(.ireturn, 51, .inl 0, 0, 0), by subst h; exact ⟨dX9_both5_50, rfl, rfl⟩⟩ else none

noncomputable def mt37 (pc : Nat) : Option {e : mE // mOK yX9_added3 cX9_added3 4 ((Option.some ClassFile.FieldType.int)) pc e} :=
 bif Nat.blt pc 39 then
  bif Nat.blt pc 17 then
   bif Nat.blt pc 6 then
    bif Nat.blt pc 4 then
     bif Nat.blt pc 1 then
      if h : pc = 0 then some ⟨(.aload_n 0, 1, .inl 0, 0, 0), by subst h; exact ⟨dX9_added3_0, rfl, trivial⟩⟩ else none
     else
      if h : pc = 1 then some ⟨(.invokevirtual 249, 4, .inl 0, 38, 14), by subst h; exact ⟨dX9_added3_1, rfl, ⟨by decide, q1628, q1630, qs90, _, rfl, rfl⟩⟩⟩ else none
    else
     bif Nat.blt pc 5 then
      if h : pc = 4 then some ⟨(.istore_n 1, 5, .inl 0, 0, 0), by subst h; exact ⟨dX9_added3_4, rfl, (show (1 : Nat) < 4 by decide)⟩⟩ else none
     else
      if h : pc = 5 then some ⟨(.aload_n 0, 6, .inl 0, 0, 0), by subst h; exact ⟨dX9_added3_5, rfl, trivial⟩⟩ else none
   else
    bif Nat.blt pc 11 then
     bif Nat.blt pc 8 then
      if h : pc = 6 then some ⟨(.bipush 43, 8, .inl 43, 0, 0), by subst h; exact ⟨dX9_added3_6, rfl, ⟨43, rfl, by decide⟩⟩⟩ else none
     else
      if h : pc = 8 then some ⟨(.invokevirtual 195, 11, .inl 0, 30, 14), by subst h; exact ⟨dX9_added3_8, rfl, ⟨by decide, q1594, q1596, qs82, _, rfl, rfl⟩⟩⟩ else none
    else
     bif Nat.blt pc 14 then
      if h : pc = 11 then some ⟨(.ifCond .ne 12, 14, .inl 0, 23, 0), by subst h; exact ⟨dX9_added3_11, rfl, (show ((11 : Nat) : Int) + (12) = ((23 : Nat) : Int) by decide)⟩⟩ else none
     else
      bif Nat.blt pc 15 then
       if h : pc = 14 then some ⟨(.aload_n 0, 15, .inl 0, 0, 0), by subst h; exact ⟨dX9_added3_14, rfl, trivial⟩⟩ else none
      else
       if h : pc = 15 then some ⟨(.bipush 45, 17, .inl 45, 0, 0), by subst h; exact ⟨dX9_added3_15, rfl, ⟨45, rfl, by decide⟩⟩⟩ else none
  else
   bif Nat.blt pc 30 then
    bif Nat.blt pc 23 then
     bif Nat.blt pc 20 then
      if h : pc = 17 then some ⟨(.invokevirtual 195, 20, .inl 0, 30, 14), by subst h; exact ⟨dX9_added3_17, rfl, ⟨by decide, q1594, q1596, qs82, _, rfl, rfl⟩⟩⟩ else none
     else
      if h : pc = 20 then some ⟨(.ifCond .eq 46, 23, .inl 0, 66, 0), by subst h; exact ⟨dX9_added3_20, rfl, (show ((20 : Nat) : Int) + (46) = ((66 : Nat) : Int) by decide)⟩⟩ else none
    else
     bif Nat.blt pc 24 then
      if h : pc = 23 then some ⟨(.aload_n 0, 24, .inl 0, 0, 0), by subst h; exact ⟨dX9_added3_23, rfl, trivial⟩⟩ else none
     else
      bif Nat.blt pc 27 then
       if h : pc = 24 then some ⟨(.getfield 150, 27, .inr (.inl 0), 23, 14), by subst h; exact ⟨dX9_added3_24, rfl, ⟨⟨_, rfl, by decide, _, Or.inl q1381, Or.inl rfl⟩, (show mKd 14 23 = 5 by rfl)⟩⟩⟩ else none
      else
       if h : pc = 27 then some ⟨(.ldc2_w 212, 30, .inr (.inl 43), 0, 0), by subst h; exact ⟨dX9_added3_27, rfl, ⟨_, rfl, q1602⟩⟩⟩ else none
   else
    bif Nat.blt pc 34 then
     bif Nat.blt pc 31 then
      if h : pc = 30 then some ⟨(.lcmp, 31, .inl 0, 0, 0), by subst h; exact ⟨dX9_added3_30, rfl, trivial⟩⟩ else none
     else
      if h : pc = 31 then some ⟨(.ifCond .ne 7, 34, .inl 0, 38, 0), by subst h; exact ⟨dX9_added3_31, rfl, (show ((31 : Nat) : Int) + (7) = ((38 : Nat) : Int) by decide)⟩⟩ else none
    else
     bif Nat.blt pc 35 then
      if h : pc = 34 then some ⟨(.iconst 1, 35, .inl 1, 0, 0), by subst h; exact ⟨dX9_added3_34, rfl, ⟨1, rfl, by decide⟩⟩⟩ else none
     else
      bif Nat.blt pc 38 then
       if h : pc = 35 then some ⟨(.goto 4, 38, .inl 0, 39, 0), by subst h; exact ⟨dX9_added3_35, rfl, (show ((35 : Nat) : Int) + (4) = ((39 : Nat) : Int) by decide)⟩⟩ else none
      else
       if h : pc = 38 then some ⟨(.iconst 0, 39, .inl 0, 0, 0), by subst h; exact ⟨dX9_added3_38, rfl, ⟨0, rfl, by decide⟩⟩⟩ else none
 else
  bif Nat.blt pc 54 then
   bif Nat.blt pc 45 then
    bif Nat.blt pc 41 then
     bif Nat.blt pc 40 then
      if h : pc = 39 then some ⟨(.istore_n 2, 40, .inl 0, 0, 0), by subst h; exact ⟨dX9_added3_39, rfl, (show (2 : Nat) < 4 by decide)⟩⟩ else none
     else
      if h : pc = 40 then some ⟨(.aload_n 0, 41, .inl 0, 0, 0), by subst h; exact ⟨dX9_added3_40, rfl, trivial⟩⟩ else none
    else
     bif Nat.blt pc 44 then
      if h : pc = 41 then some ⟨(.invokevirtual 170, 44, .inl 0, 12, 14), by subst h; exact ⟨dX9_added3_41, rfl, ⟨by decide, q1518, q1520, qs64, _, rfl, rfl⟩⟩⟩ else none
     else
      if h : pc = 44 then some ⟨(.aload_n 0, 45, .inl 0, 0, 0), by subst h; exact ⟨dX9_added3_44, rfl, trivial⟩⟩ else none
   else
    bif Nat.blt pc 49 then
     bif Nat.blt pc 48 then
      if h : pc = 45 then some ⟨(.invokevirtual 249, 48, .inl 0, 38, 14), by subst h; exact ⟨dX9_added3_45, rfl, ⟨by decide, q1628, q1630, qs90, _, rfl, rfl⟩⟩⟩ else none
     else
      if h : pc = 48 then some ⟨(.istore_n 3, 49, .inl 0, 0, 0), by subst h; exact ⟨dX9_added3_48, rfl, (show (3 : Nat) < 4 by decide)⟩⟩ else none
    else
     bif Nat.blt pc 50 then
      if h : pc = 49 then some ⟨(.iload_n 2, 50, .inl 0, 0, 0), by subst h; exact ⟨dX9_added3_49, rfl, trivial⟩⟩ else none
     else
      bif Nat.blt pc 53 then
       if h : pc = 50 then some ⟨(.ifCond .eq 9, 53, .inl 0, 59, 0), by subst h; exact ⟨dX9_added3_50, rfl, (show ((50 : Nat) : Int) + (9) = ((59 : Nat) : Int) by decide)⟩⟩ else none
      else
       if h : pc = 53 then some ⟨(.iload_n 1, 54, .inl 0, 0, 0), by subst h; exact ⟨dX9_added3_53, rfl, trivial⟩⟩ else none
  else
   bif Nat.blt pc 61 then
    bif Nat.blt pc 56 then
     bif Nat.blt pc 55 then
      if h : pc = 54 then some ⟨(.iload_n 3, 55, .inl 0, 0, 0), by subst h; exact ⟨dX9_added3_54, rfl, trivial⟩⟩ else none
     else
      if h : pc = 55 then some ⟨(.iadd, 56, .inl 0, 0, 0), by subst h; exact ⟨dX9_added3_55, rfl, trivial⟩⟩ else none
    else
     bif Nat.blt pc 59 then
      if h : pc = 56 then some ⟨(.goto 6, 59, .inl 0, 62, 0), by subst h; exact ⟨dX9_added3_56, rfl, (show ((56 : Nat) : Int) + (6) = ((62 : Nat) : Int) by decide)⟩⟩ else none
     else
      bif Nat.blt pc 60 then
       if h : pc = 59 then some ⟨(.iload_n 1, 60, .inl 0, 0, 0), by subst h; exact ⟨dX9_added3_59, rfl, trivial⟩⟩ else none
      else
       if h : pc = 60 then some ⟨(.iload_n 3, 61, .inl 0, 0, 0), by subst h; exact ⟨dX9_added3_60, rfl, trivial⟩⟩ else none
   else
    bif Nat.blt pc 63 then
     bif Nat.blt pc 62 then
      if h : pc = 61 then some ⟨(.isub, 62, .inl 0, 0, 0), by subst h; exact ⟨dX9_added3_61, rfl, trivial⟩⟩ else none
     else
      if h : pc = 62 then some ⟨(.istore_n 1, 63, .inl 0, 0, 0), by subst h; exact ⟨dX9_added3_62, rfl, (show (1 : Nat) < 4 by decide)⟩⟩ else none
    else
     bif Nat.blt pc 66 then
      if h : pc = 63 then some ⟨(.goto (-58), 66, .inl 0, 5, 0), by subst h; exact ⟨dX9_added3_63, rfl, (show ((63 : Nat) : Int) + ((-58)) = ((5 : Nat) : Int) by decide)⟩⟩ else none
     else
      bif Nat.blt pc 67 then
       if h : pc = 66 then some ⟨(.iload_n 1, 67, .inl 0, 0, 0), by subst h; exact ⟨dX9_added3_66, rfl, trivial⟩⟩ else none
      else
       if h : pc = 67 then some ⟨(.ireturn, 68, .inl 0, 0, 0), by subst h; exact ⟨dX9_added3_67, rfl, rfl⟩⟩ else none

noncomputable def mt38 (pc : Nat) : Option {e : mE // mOK yX9_term3 cX9_term3 2 ((Option.some ClassFile.FieldType.int)) pc e} :=
 bif Nat.blt pc 15 then
  bif Nat.blt pc 6 then
   bif Nat.blt pc 4 then
    bif Nat.blt pc 1 then
     if h : pc = 0 then some ⟨(.aload_n 0, 1, .inl 0, 0, 0), by subst h; exact ⟨dX9_term3_0, rfl, trivial⟩⟩ else none
    else
     if h : pc = 1 then some ⟨(.invokevirtual 246, 4, .inl 0, 39, 14), by subst h; exact ⟨dX9_term3_1, rfl, ⟨by decide, q1632, q1634, qs91, _, rfl, rfl⟩⟩⟩ else none
   else
    bif Nat.blt pc 5 then
     if h : pc = 4 then some ⟨(.istore_n 1, 5, .inl 0, 0, 0), by subst h; exact ⟨dX9_term3_4, rfl, (show (1 : Nat) < 2 by decide)⟩⟩ else none
    else
     if h : pc = 5 then some ⟨(.aload_n 0, 6, .inl 0, 0, 0), by subst h; exact ⟨dX9_term3_5, rfl, trivial⟩⟩ else none
  else
   bif Nat.blt pc 11 then
    bif Nat.blt pc 8 then
     if h : pc = 6 then some ⟨(.bipush 42, 8, .inl 42, 0, 0), by subst h; exact ⟨dX9_term3_6, rfl, ⟨42, rfl, by decide⟩⟩⟩ else none
    else
     if h : pc = 8 then some ⟨(.invokevirtual 195, 11, .inl 0, 30, 14), by subst h; exact ⟨dX9_term3_8, rfl, ⟨by decide, q1594, q1596, qs82, _, rfl, rfl⟩⟩⟩ else none
   else
    bif Nat.blt pc 14 then
     if h : pc = 11 then some ⟨(.ifCond .eq 17, 14, .inl 0, 28, 0), by subst h; exact ⟨dX9_term3_11, rfl, (show ((11 : Nat) : Int) + (17) = ((28 : Nat) : Int) by decide)⟩⟩ else none
    else
     if h : pc = 14 then some ⟨(.aload_n 0, 15, .inl 0, 0, 0), by subst h; exact ⟨dX9_term3_14, rfl, trivial⟩⟩ else none
 else
  bif Nat.blt pc 23 then
   bif Nat.blt pc 19 then
    bif Nat.blt pc 18 then
     if h : pc = 15 then some ⟨(.invokevirtual 170, 18, .inl 0, 12, 14), by subst h; exact ⟨dX9_term3_15, rfl, ⟨by decide, q1518, q1520, qs64, _, rfl, rfl⟩⟩⟩ else none
    else
     if h : pc = 18 then some ⟨(.iload_n 1, 19, .inl 0, 0, 0), by subst h; exact ⟨dX9_term3_18, rfl, trivial⟩⟩ else none
   else
    bif Nat.blt pc 20 then
     if h : pc = 19 then some ⟨(.aload_n 0, 20, .inl 0, 0, 0), by subst h; exact ⟨dX9_term3_19, rfl, trivial⟩⟩ else none
    else
     if h : pc = 20 then some ⟨(.invokevirtual 246, 23, .inl 0, 39, 14), by subst h; exact ⟨dX9_term3_20, rfl, ⟨by decide, q1632, q1634, qs91, _, rfl, rfl⟩⟩⟩ else none
  else
   bif Nat.blt pc 25 then
    bif Nat.blt pc 24 then
     if h : pc = 23 then some ⟨(.imul, 24, .inl 0, 0, 0), by subst h; exact ⟨dX9_term3_23, rfl, trivial⟩⟩ else none
    else
     if h : pc = 24 then some ⟨(.istore_n 1, 25, .inl 0, 0, 0), by subst h; exact ⟨dX9_term3_24, rfl, (show (1 : Nat) < 2 by decide)⟩⟩ else none
   else
    bif Nat.blt pc 28 then
     if h : pc = 25 then some ⟨(.goto (-20), 28, .inl 0, 5, 0), by subst h; exact ⟨dX9_term3_25, rfl, (show ((25 : Nat) : Int) + ((-20)) = ((5 : Nat) : Int) by decide)⟩⟩ else none
    else
     bif Nat.blt pc 29 then
      if h : pc = 28 then some ⟨(.iload_n 1, 29, .inl 0, 0, 0), by subst h; exact ⟨dX9_term3_28, rfl, trivial⟩⟩ else none
     else
      if h : pc = 29 then some ⟨(.ireturn, 30, .inl 0, 0, 0), by subst h; exact ⟨dX9_term3_29, rfl, rfl⟩⟩ else none

noncomputable def mt39 (pc : Nat) : Option {e : mE // mOK yX9_atom3 cX9_atom3 2 ((Option.some ClassFile.FieldType.int)) pc e} :=
 bif Nat.blt pc 78 then
  bif Nat.blt pc 37 then
   bif Nat.blt pc 19 then
    bif Nat.blt pc 8 then
     bif Nat.blt pc 2 then
      bif Nat.blt pc 1 then
       if h : pc = 0 then some ⟨(.iconst 0, 1, .inl 0, 0, 0), by subst h; exact ⟨dX9_atom3_0, rfl, ⟨0, rfl, by decide⟩⟩⟩ else none
      else
       if h : pc = 1 then some ⟨(.istore_n 1, 2, .inl 0, 0, 0), by subst h; exact ⟨dX9_atom3_1, rfl, (show (1 : Nat) < 2 by decide)⟩⟩ else none
     else
      bif Nat.blt pc 3 then
       if h : pc = 2 then some ⟨(.aload_n 0, 3, .inl 0, 0, 0), by subst h; exact ⟨dX9_atom3_2, rfl, trivial⟩⟩ else none
      else
       bif Nat.blt pc 5 then
        if h : pc = 3 then some ⟨(.bipush 45, 5, .inl 45, 0, 0), by subst h; exact ⟨dX9_atom3_3, rfl, ⟨45, rfl, by decide⟩⟩⟩ else none
       else
        if h : pc = 5 then some ⟨(.invokevirtual 195, 8, .inl 0, 30, 14), by subst h; exact ⟨dX9_atom3_5, rfl, ⟨by decide, q1594, q1596, qs82, _, rfl, rfl⟩⟩⟩ else none
    else
     bif Nat.blt pc 12 then
      bif Nat.blt pc 11 then
       if h : pc = 8 then some ⟨(.ifCond .eq 29, 11, .inl 0, 37, 0), by subst h; exact ⟨dX9_atom3_8, rfl, (show ((8 : Nat) : Int) + (29) = ((37 : Nat) : Int) by decide)⟩⟩ else none
      else
       if h : pc = 11 then some ⟨(.aload_n 0, 12, .inl 0, 0, 0), by subst h; exact ⟨dX9_atom3_11, rfl, trivial⟩⟩ else none
     else
      bif Nat.blt pc 15 then
       if h : pc = 12 then some ⟨(.invokevirtual 198, 15, .inl 0, 21, 14), by subst h; exact ⟨dX9_atom3_12, rfl, ⟨by decide, q1558, q1560, qs73, _, rfl, rfl⟩⟩⟩ else none
      else
       bif Nat.blt pc 18 then
        if h : pc = 15 then some ⟨(.ifCond .eq 146, 18, .inl 0, 161, 0), by subst h; exact ⟨dX9_atom3_15, rfl, (show ((15 : Nat) : Int) + (146) = ((161 : Nat) : Int) by decide)⟩⟩ else none
       else
        if h : pc = 18 then some ⟨(.aload_n 0, 19, .inl 0, 0, 0), by subst h; exact ⟨dX9_atom3_18, rfl, trivial⟩⟩ else none
   else
    bif Nat.blt pc 26 then
     bif Nat.blt pc 23 then
      bif Nat.blt pc 22 then
       if h : pc = 19 then some ⟨(.invokevirtual 228, 22, .inl 0, 34, 14), by subst h; exact ⟨dX9_atom3_19, rfl, ⟨by decide, q1612, q1614, qs86, _, rfl, rfl⟩⟩⟩ else none
      else
       if h : pc = 22 then some ⟨(.ineg, 23, .inl 0, 0, 0), by subst h; exact ⟨dX9_atom3_22, rfl, trivial⟩⟩ else none
     else
      bif Nat.blt pc 24 then
       if h : pc = 23 then some ⟨(.istore_n 1, 24, .inl 0, 0, 0), by subst h; exact ⟨dX9_atom3_23, rfl, (show (1 : Nat) < 2 by decide)⟩⟩ else none
      else
       bif Nat.blt pc 25 then
        if h : pc = 24 then some ⟨(.aload_n 0, 25, .inl 0, 0, 0), by subst h; exact ⟨dX9_atom3_24, rfl, trivial⟩⟩ else none
       else
        if h : pc = 25 then some ⟨(.dup, 26, .inl 0, 0, 0), by subst h; exact ⟨dX9_atom3_25, rfl, trivial⟩⟩ else none
    else
     bif Nat.blt pc 30 then
      bif Nat.blt pc 29 then
       if h : pc = 26 then some ⟨(.getfield 164, 29, .inl 0, 24, 14), by subst h; exact ⟨dX9_atom3_26, rfl, ⟨⟨_, rfl, by decide, _, Or.inl q1382, Or.inl rfl⟩, (show mKd 14 24 ≤ 4 by decide)⟩⟩⟩ else none
      else
       if h : pc = 29 then some ⟨(.iconst 1, 30, .inl 1, 0, 0), by subst h; exact ⟨dX9_atom3_29, rfl, ⟨1, rfl, by decide⟩⟩⟩ else none
     else
      bif Nat.blt pc 31 then
       if h : pc = 30 then some ⟨(.isub, 31, .inl 0, 0, 0), by subst h; exact ⟨dX9_atom3_30, rfl, trivial⟩⟩ else none
      else
       bif Nat.blt pc 34 then
        if h : pc = 31 then some ⟨(.putfield 164, 34, .inl 0, 24, 14), by subst h; exact ⟨dX9_atom3_31, rfl, ⟨⟨_, rfl, by decide, _, Or.inl q1382, Or.inl rfl⟩, (show mKd 14 24 ≤ 4 by decide), by decide, by decide, (fun q h => Or.inl (by cases h; rfl))⟩⟩⟩ else none
       else
        if h : pc = 34 then some ⟨(.goto 127, 37, .inl 0, 161, 0), by subst h; exact ⟨dX9_atom3_34, rfl, (show ((34 : Nat) : Int) + (127) = ((161 : Nat) : Int) by decide)⟩⟩ else none
  else
   bif Nat.blt pc 58 then
    bif Nat.blt pc 47 then
     bif Nat.blt pc 40 then
      bif Nat.blt pc 38 then
       if h : pc = 37 then some ⟨(.aload_n 0, 38, .inl 0, 0, 0), by subst h; exact ⟨dX9_atom3_37, rfl, trivial⟩⟩ else none
      else
       if h : pc = 38 then some ⟨(.bipush 40, 40, .inl 40, 0, 0), by subst h; exact ⟨dX9_atom3_38, rfl, ⟨40, rfl, by decide⟩⟩⟩ else none
     else
      bif Nat.blt pc 43 then
       if h : pc = 40 then some ⟨(.invokevirtual 195, 43, .inl 0, 30, 14), by subst h; exact ⟨dX9_atom3_40, rfl, ⟨by decide, q1594, q1596, qs82, _, rfl, rfl⟩⟩⟩ else none
      else
       bif Nat.blt pc 46 then
        if h : pc = 43 then some ⟨(.ifCond .eq 52, 46, .inl 0, 95, 0), by subst h; exact ⟨dX9_atom3_43, rfl, (show ((43 : Nat) : Int) + (52) = ((95 : Nat) : Int) by decide)⟩⟩ else none
       else
        if h : pc = 46 then some ⟨(.aload_n 0, 47, .inl 0, 0, 0), by subst h; exact ⟨dX9_atom3_46, rfl, trivial⟩⟩ else none
    else
     bif Nat.blt pc 53 then
      bif Nat.blt pc 50 then
       if h : pc = 47 then some ⟨(.invokevirtual 198, 50, .inl 0, 21, 14), by subst h; exact ⟨dX9_atom3_47, rfl, ⟨by decide, q1558, q1560, qs73, _, rfl, rfl⟩⟩⟩ else none
      else
       if h : pc = 50 then some ⟨(.ifCond .eq 111, 53, .inl 0, 161, 0), by subst h; exact ⟨dX9_atom3_50, rfl, (show ((50 : Nat) : Int) + (111) = ((161 : Nat) : Int) by decide)⟩⟩ else none
     else
      bif Nat.blt pc 54 then
       if h : pc = 53 then some ⟨(.aload_n 0, 54, .inl 0, 0, 0), by subst h; exact ⟨dX9_atom3_53, rfl, trivial⟩⟩ else none
      else
       bif Nat.blt pc 57 then
        if h : pc = 54 then some ⟨(.invokevirtual 243, 57, .inl 0, 40, 14), by subst h; exact ⟨dX9_atom3_54, rfl, ⟨by decide, q1636, q1638, qs92, _, rfl, rfl⟩⟩⟩ else none
       else
        if h : pc = 57 then some ⟨(.istore_n 1, 58, .inl 0, 0, 0), by subst h; exact ⟨dX9_atom3_57, rfl, (show (1 : Nat) < 2 by decide)⟩⟩ else none
   else
    bif Nat.blt pc 68 then
     bif Nat.blt pc 61 then
      bif Nat.blt pc 59 then
       if h : pc = 58 then some ⟨(.aload_n 0, 59, .inl 0, 0, 0), by subst h; exact ⟨dX9_atom3_58, rfl, trivial⟩⟩ else none
      else
       if h : pc = 59 then some ⟨(.bipush 41, 61, .inl 41, 0, 0), by subst h; exact ⟨dX9_atom3_59, rfl, ⟨41, rfl, by decide⟩⟩⟩ else none
     else
      bif Nat.blt pc 64 then
       if h : pc = 61 then some ⟨(.invokevirtual 195, 64, .inl 0, 30, 14), by subst h; exact ⟨dX9_atom3_61, rfl, ⟨by decide, q1594, q1596, qs82, _, rfl, rfl⟩⟩⟩ else none
      else
       bif Nat.blt pc 67 then
        if h : pc = 64 then some ⟨(.ifCond .ne 7, 67, .inl 0, 71, 0), by subst h; exact ⟨dX9_atom3_64, rfl, (show ((64 : Nat) : Int) + (7) = ((71 : Nat) : Int) by decide)⟩⟩ else none
       else
        if h : pc = 67 then some ⟨(.aload_n 0, 68, .inl 0, 0, 0), by subst h; exact ⟨dX9_atom3_67, rfl, trivial⟩⟩ else none
    else
     bif Nat.blt pc 73 then
      bif Nat.blt pc 71 then
       if h : pc = 68 then some ⟨(.invokevirtual 167, 71, .inl 0, 17, 14), by subst h; exact ⟨dX9_atom3_68, rfl, ⟨by decide, q1542, q1544, qs69, _, rfl, rfl⟩⟩⟩ else none
      else
       bif Nat.blt pc 72 then
        if h : pc = 71 then some ⟨(.aload_n 0, 72, .inl 0, 0, 0), by subst h; exact ⟨dX9_atom3_71, rfl, trivial⟩⟩ else none
       else
        if h : pc = 72 then some ⟨(.dup, 73, .inl 0, 0, 0), by subst h; exact ⟨dX9_atom3_72, rfl, trivial⟩⟩ else none
     else
      bif Nat.blt pc 76 then
       if h : pc = 73 then some ⟨(.getfield 164, 76, .inl 0, 24, 14), by subst h; exact ⟨dX9_atom3_73, rfl, ⟨⟨_, rfl, by decide, _, Or.inl q1382, Or.inl rfl⟩, (show mKd 14 24 ≤ 4 by decide)⟩⟩⟩ else none
      else
       bif Nat.blt pc 77 then
        if h : pc = 76 then some ⟨(.iconst 1, 77, .inl 1, 0, 0), by subst h; exact ⟨dX9_atom3_76, rfl, ⟨1, rfl, by decide⟩⟩⟩ else none
       else
        if h : pc = 77 then some ⟨(.isub, 78, .inl 0, 0, 0), by subst h; exact ⟨dX9_atom3_77, rfl, trivial⟩⟩ else none
 else
  bif Nat.blt pc 120 then
   bif Nat.blt pc 102 then
    bif Nat.blt pc 89 then
     bif Nat.blt pc 82 then
      bif Nat.blt pc 81 then
       if h : pc = 78 then some ⟨(.putfield 164, 81, .inl 0, 24, 14), by subst h; exact ⟨dX9_atom3_78, rfl, ⟨⟨_, rfl, by decide, _, Or.inl q1382, Or.inl rfl⟩, (show mKd 14 24 ≤ 4 by decide), by decide, by decide, (fun q h => Or.inl (by cases h; rfl))⟩⟩⟩ else none
      else
       if h : pc = 81 then some ⟨(.aload_n 0, 82, .inl 0, 0, 0), by subst h; exact ⟨dX9_atom3_81, rfl, trivial⟩⟩ else none
     else
      bif Nat.blt pc 85 then
       if h : pc = 82 then some ⟨(.getfield 154, 85, .inl 0, 25, 14), by subst h; exact ⟨dX9_atom3_82, rfl, ⟨⟨_, rfl, by decide, _, Or.inl q1383, Or.inl rfl⟩, (show mKd 14 25 ≤ 4 by decide)⟩⟩⟩ else none
      else
       bif Nat.blt pc 88 then
        if h : pc = 85 then some ⟨(.ifCond .ne 76, 88, .inl 0, 161, 0), by subst h; exact ⟨dX9_atom3_85, rfl, (show ((85 : Nat) : Int) + (76) = ((161 : Nat) : Int) by decide)⟩⟩ else none
       else
        if h : pc = 88 then some ⟨(.aload_n 0, 89, .inl 0, 0, 0), by subst h; exact ⟨dX9_atom3_88, rfl, trivial⟩⟩ else none
    else
     bif Nat.blt pc 95 then
      bif Nat.blt pc 92 then
       if h : pc = 89 then some ⟨(.invokevirtual 170, 92, .inl 0, 12, 14), by subst h; exact ⟨dX9_atom3_89, rfl, ⟨by decide, q1518, q1520, qs64, _, rfl, rfl⟩⟩⟩ else none
      else
       if h : pc = 92 then some ⟨(.goto 69, 95, .inl 0, 161, 0), by subst h; exact ⟨dX9_atom3_92, rfl, (show ((92 : Nat) : Int) + (69) = ((161 : Nat) : Int) by decide)⟩⟩ else none
     else
      bif Nat.blt pc 96 then
       if h : pc = 95 then some ⟨(.aload_n 0, 96, .inl 0, 0, 0), by subst h; exact ⟨dX9_atom3_95, rfl, trivial⟩⟩ else none
      else
       bif Nat.blt pc 99 then
        if h : pc = 96 then some ⟨(.getfield 154, 99, .inl 0, 25, 14), by subst h; exact ⟨dX9_atom3_96, rfl, ⟨⟨_, rfl, by decide, _, Or.inl q1383, Or.inl rfl⟩, (show mKd 14 25 ≤ 4 by decide)⟩⟩⟩ else none
       else
        if h : pc = 99 then some ⟨(.ifCond .ne 24, 102, .inl 0, 123, 0), by subst h; exact ⟨dX9_atom3_99, rfl, (show ((99 : Nat) : Int) + (24) = ((123 : Nat) : Int) by decide)⟩⟩ else none
   else
    bif Nat.blt pc 111 then
     bif Nat.blt pc 106 then
      bif Nat.blt pc 103 then
       if h : pc = 102 then some ⟨(.aload_n 0, 103, .inl 0, 0, 0), by subst h; exact ⟨dX9_atom3_102, rfl, trivial⟩⟩ else none
      else
       if h : pc = 103 then some ⟨(.getfield 139, 106, .inl 0, 21, 14), by subst h; exact ⟨dX9_atom3_103, rfl, ⟨⟨_, rfl, by decide, _, Or.inl q1379, Or.inl rfl⟩, (show mKd 14 21 ≤ 4 by decide)⟩⟩⟩ else none
     else
      bif Nat.blt pc 107 then
       if h : pc = 106 then some ⟨(.iconst 2, 107, .inl 2, 0, 0), by subst h; exact ⟨dX9_atom3_106, rfl, ⟨2, rfl, by decide⟩⟩⟩ else none
      else
       bif Nat.blt pc 110 then
        if h : pc = 107 then some ⟨(.if_icmp .ne 16, 110, .inl 0, 123, 0), by subst h; exact ⟨dX9_atom3_107, rfl, (show ((107 : Nat) : Int) + (16) = ((123 : Nat) : Int) by decide)⟩⟩ else none
       else
        if h : pc = 110 then some ⟨(.aload_n 0, 111, .inl 0, 0, 0), by subst h; exact ⟨dX9_atom3_110, rfl, trivial⟩⟩ else none
    else
     bif Nat.blt pc 115 then
      bif Nat.blt pc 114 then
       if h : pc = 111 then some ⟨(.getfield 150, 114, .inr (.inl 0), 23, 14), by subst h; exact ⟨dX9_atom3_111, rfl, ⟨⟨_, rfl, by decide, _, Or.inl q1381, Or.inl rfl⟩, (show mKd 14 23 = 5 by rfl)⟩⟩⟩ else none
      else
       if h : pc = 114 then some ⟨(.l2i, 115, .inl 0, 0, 0), by subst h; exact ⟨dX9_atom3_114, rfl, trivial⟩⟩ else none
     else
      bif Nat.blt pc 116 then
       if h : pc = 115 then some ⟨(.istore_n 1, 116, .inl 0, 0, 0), by subst h; exact ⟨dX9_atom3_115, rfl, (show (1 : Nat) < 2 by decide)⟩⟩ else none
      else
       bif Nat.blt pc 117 then
        if h : pc = 116 then some ⟨(.aload_n 0, 117, .inl 0, 0, 0), by subst h; exact ⟨dX9_atom3_116, rfl, trivial⟩⟩ else none
       else
        if h : pc = 117 then some ⟨(.invokevirtual 170, 120, .inl 0, 12, 14), by subst h; exact ⟨dX9_atom3_117, rfl, ⟨by decide, q1518, q1520, qs64, _, rfl, rfl⟩⟩⟩ else none
  else
   bif Nat.blt pc 142 then
    bif Nat.blt pc 131 then
     bif Nat.blt pc 124 then
      bif Nat.blt pc 123 then
       if h : pc = 120 then some ⟨(.goto 41, 123, .inl 0, 161, 0), by subst h; exact ⟨dX9_atom3_120, rfl, (show ((120 : Nat) : Int) + (41) = ((161 : Nat) : Int) by decide)⟩⟩ else none
      else
       if h : pc = 123 then some ⟨(.aload_n 0, 124, .inl 0, 0, 0), by subst h; exact ⟨dX9_atom3_123, rfl, trivial⟩⟩ else none
     else
      bif Nat.blt pc 127 then
       if h : pc = 124 then some ⟨(.getfield 154, 127, .inl 0, 25, 14), by subst h; exact ⟨dX9_atom3_124, rfl, ⟨⟨_, rfl, by decide, _, Or.inl q1383, Or.inl rfl⟩, (show mKd 14 25 ≤ 4 by decide)⟩⟩⟩ else none
      else
       bif Nat.blt pc 130 then
        if h : pc = 127 then some ⟨(.ifCond .ne 30, 130, .inl 0, 157, 0), by subst h; exact ⟨dX9_atom3_127, rfl, (show ((127 : Nat) : Int) + (30) = ((157 : Nat) : Int) by decide)⟩⟩ else none
       else
        if h : pc = 130 then some ⟨(.aload_n 0, 131, .inl 0, 0, 0), by subst h; exact ⟨dX9_atom3_130, rfl, trivial⟩⟩ else none
    else
     bif Nat.blt pc 135 then
      bif Nat.blt pc 134 then
       if h : pc = 131 then some ⟨(.getfield 139, 134, .inl 0, 21, 14), by subst h; exact ⟨dX9_atom3_131, rfl, ⟨⟨_, rfl, by decide, _, Or.inl q1379, Or.inl rfl⟩, (show mKd 14 21 ≤ 4 by decide)⟩⟩⟩ else none
      else
       if h : pc = 134 then some ⟨(.iconst 1, 135, .inl 1, 0, 0), by subst h; exact ⟨dX9_atom3_134, rfl, ⟨1, rfl, by decide⟩⟩⟩ else none
     else
      bif Nat.blt pc 138 then
       if h : pc = 135 then some ⟨(.if_icmp .ne 22, 138, .inl 0, 157, 0), by subst h; exact ⟨dX9_atom3_135, rfl, (show ((135 : Nat) : Int) + (22) = ((157 : Nat) : Int) by decide)⟩⟩ else none
      else
       bif Nat.blt pc 139 then
        if h : pc = 138 then some ⟨(.aload_n 0, 139, .inl 0, 0, 0), by subst h; exact ⟨dX9_atom3_138, rfl, trivial⟩⟩ else none
       else
        if h : pc = 139 then some ⟨(.invokevirtual 202, 142, .inl 0, 31, 14), by subst h; exact ⟨dX9_atom3_139, rfl, ⟨by decide, q1598, q1600, qs83, _, rfl, rfl⟩⟩⟩ else none
   else
    bif Nat.blt pc 151 then
     bif Nat.blt pc 144 then
      bif Nat.blt pc 143 then
       if h : pc = 142 then some ⟨(.istore_n 1, 143, .inl 0, 0, 0), by subst h; exact ⟨dX9_atom3_142, rfl, (show (1 : Nat) < 2 by decide)⟩⟩ else none
      else
       if h : pc = 143 then some ⟨(.aload_n 0, 144, .inl 0, 0, 0), by subst h; exact ⟨dX9_atom3_143, rfl, trivial⟩⟩ else none
     else
      bif Nat.blt pc 147 then
       if h : pc = 144 then some ⟨(.getfield 154, 147, .inl 0, 25, 14), by subst h; exact ⟨dX9_atom3_144, rfl, ⟨⟨_, rfl, by decide, _, Or.inl q1383, Or.inl rfl⟩, (show mKd 14 25 ≤ 4 by decide)⟩⟩⟩ else none
      else
       bif Nat.blt pc 150 then
        if h : pc = 147 then some ⟨(.ifCond .ne 14, 150, .inl 0, 161, 0), by subst h; exact ⟨dX9_atom3_147, rfl, (show ((147 : Nat) : Int) + (14) = ((161 : Nat) : Int) by decide)⟩⟩ else none
       else
        if h : pc = 150 then some ⟨(.aload_n 0, 151, .inl 0, 0, 0), by subst h; exact ⟨dX9_atom3_150, rfl, trivial⟩⟩ else none
    else
     bif Nat.blt pc 158 then
      bif Nat.blt pc 154 then
       if h : pc = 151 then some ⟨(.invokevirtual 170, 154, .inl 0, 12, 14), by subst h; exact ⟨dX9_atom3_151, rfl, ⟨by decide, q1518, q1520, qs64, _, rfl, rfl⟩⟩⟩ else none
      else
       bif Nat.blt pc 157 then
        if h : pc = 154 then some ⟨(.goto 7, 157, .inl 0, 161, 0), by subst h; exact ⟨dX9_atom3_154, rfl, (show ((154 : Nat) : Int) + (7) = ((161 : Nat) : Int) by decide)⟩⟩ else none
       else
        if h : pc = 157 then some ⟨(.aload_n 0, 158, .inl 0, 0, 0), by subst h; exact ⟨dX9_atom3_157, rfl, trivial⟩⟩ else none
     else
      bif Nat.blt pc 161 then
       if h : pc = 158 then some ⟨(.invokevirtual 167, 161, .inl 0, 17, 14), by subst h; exact ⟨dX9_atom3_158, rfl, ⟨by decide, q1542, q1544, qs69, _, rfl, rfl⟩⟩⟩ else none
      else
       bif Nat.blt pc 162 then
        if h : pc = 161 then some ⟨(.iload_n 1, 162, .inl 0, 0, 0), by subst h; exact ⟨dX9_atom3_161, rfl, trivial⟩⟩ else none
       else
        if h : pc = 162 then some ⟨(.ireturn, 163, .inl 0, 0, 0), by subst h; exact ⟨dX9_atom3_162, rfl, rfl⟩⟩ else none

noncomputable def mt40 (pc : Nat) : Option {e : mE // mOK yX9_either4 cX9_either4 3 ((Option.some ClassFile.FieldType.int)) pc e} :=
 bif Nat.blt pc 23 then
  bif Nat.blt pc 11 then
   bif Nat.blt pc 5 then
    bif Nat.blt pc 1 then
     if h : pc = 0 then some ⟨(.aload_n 0, 1, .inl 0, 0, 0), by subst h; exact ⟨dX9_either4_0, rfl, trivial⟩⟩ else none
    else
     bif Nat.blt pc 4 then
      if h : pc = 1 then some ⟨(.invokevirtual 240, 4, .inl 0, 41, 14), by subst h; exact ⟨dX9_either4_1, rfl, ⟨by decide, q1640, q1642, qs93, _, rfl, rfl⟩⟩⟩ else none
     else
      if h : pc = 4 then some ⟨(.istore_n 1, 5, .inl 0, 0, 0), by subst h; exact ⟨dX9_either4_4, rfl, (show (1 : Nat) < 3 by decide)⟩⟩ else none
   else
    bif Nat.blt pc 8 then
     bif Nat.blt pc 6 then
      if h : pc = 5 then some ⟨(.aload_n 0, 6, .inl 0, 0, 0), by subst h; exact ⟨dX9_either4_5, rfl, trivial⟩⟩ else none
     else
      if h : pc = 6 then some ⟨(.bipush 111, 8, .inl 111, 0, 0), by subst h; exact ⟨dX9_either4_6, rfl, ⟨111, rfl, by decide⟩⟩⟩ else none
    else
     bif Nat.blt pc 10 then
      if h : pc = 8 then some ⟨(.bipush 114, 10, .inl 114, 0, 0), by subst h; exact ⟨dX9_either4_8, rfl, ⟨114, rfl, by decide⟩⟩⟩ else none
     else
      if h : pc = 10 then some ⟨(.iconst 0, 11, .inl 0, 0, 0), by subst h; exact ⟨dX9_either4_10, rfl, ⟨0, rfl, by decide⟩⟩⟩ else none
  else
   bif Nat.blt pc 15 then
    bif Nat.blt pc 13 then
     bif Nat.blt pc 12 then
      if h : pc = 11 then some ⟨(.iconst 0, 12, .inl 0, 0, 0), by subst h; exact ⟨dX9_either4_11, rfl, ⟨0, rfl, by decide⟩⟩⟩ else none
     else
      if h : pc = 12 then some ⟨(.iconst 0, 13, .inl 0, 0, 0), by subst h; exact ⟨dX9_either4_12, rfl, ⟨0, rfl, by decide⟩⟩⟩ else none
    else
     bif Nat.blt pc 14 then
      if h : pc = 13 then some ⟨(.iconst 0, 14, .inl 0, 0, 0), by subst h; exact ⟨dX9_either4_13, rfl, ⟨0, rfl, by decide⟩⟩⟩ else none
     else
      if h : pc = 14 then some ⟨(.iconst 0, 15, .inl 0, 0, 0), by subst h; exact ⟨dX9_either4_14, rfl, ⟨0, rfl, by decide⟩⟩⟩ else none
   else
    bif Nat.blt pc 19 then
     bif Nat.blt pc 16 then
      if h : pc = 15 then some ⟨(.iconst 0, 16, .inl 0, 0, 0), by subst h; exact ⟨dX9_either4_15, rfl, ⟨0, rfl, by decide⟩⟩⟩ else none
     else
      if h : pc = 16 then some ⟨(.invokevirtual 173, 19, .inl 0, 14, 14), by subst h; exact ⟨dX9_either4_16, rfl, ⟨by decide, q1530, q1532, qs66, _, rfl, rfl⟩⟩⟩ else none
    else
     bif Nat.blt pc 22 then
      if h : pc = 19 then some ⟨(.ifCond .eq 29, 22, .inl 0, 48, 0), by subst h; exact ⟨dX9_either4_19, rfl, (show ((19 : Nat) : Int) + (29) = ((48 : Nat) : Int) by decide)⟩⟩ else none
     else
      if h : pc = 22 then some ⟨(.aload_n 0, 23, .inl 0, 0, 0), by subst h; exact ⟨dX9_either4_22, rfl, trivial⟩⟩ else none
 else
  bif Nat.blt pc 36 then
   bif Nat.blt pc 30 then
    bif Nat.blt pc 26 then
     if h : pc = 23 then some ⟨(.invokevirtual 170, 26, .inl 0, 12, 14), by subst h; exact ⟨dX9_either4_23, rfl, ⟨by decide, q1518, q1520, qs64, _, rfl, rfl⟩⟩⟩ else none
    else
     bif Nat.blt pc 27 then
      if h : pc = 26 then some ⟨(.aload_n 0, 27, .inl 0, 0, 0), by subst h; exact ⟨dX9_either4_26, rfl, trivial⟩⟩ else none
     else
      if h : pc = 27 then some ⟨(.invokevirtual 240, 30, .inl 0, 41, 14), by subst h; exact ⟨dX9_either4_27, rfl, ⟨by decide, q1640, q1642, qs93, _, rfl, rfl⟩⟩⟩ else none
   else
    bif Nat.blt pc 32 then
     bif Nat.blt pc 31 then
      if h : pc = 30 then some ⟨(.istore_n 2, 31, .inl 0, 0, 0), by subst h; exact ⟨dX9_either4_30, rfl, (show (2 : Nat) < 3 by decide)⟩⟩ else none
     else
      if h : pc = 31 then some ⟨(.iload_n 1, 32, .inl 0, 0, 0), by subst h; exact ⟨dX9_either4_31, rfl, trivial⟩⟩ else none
    else
     bif Nat.blt pc 35 then
      if h : pc = 32 then some ⟨(.ifCond .ne 7, 35, .inl 0, 39, 0), by subst h; exact ⟨dX9_either4_32, rfl, (show ((32 : Nat) : Int) + (7) = ((39 : Nat) : Int) by decide)⟩⟩ else none
     else
      if h : pc = 35 then some ⟨(.iload_n 2, 36, .inl 0, 0, 0), by subst h; exact ⟨dX9_either4_35, rfl, trivial⟩⟩ else none
  else
   bif Nat.blt pc 44 then
    bif Nat.blt pc 40 then
     bif Nat.blt pc 39 then
      if h : pc = 36 then some ⟨(.ifCond .eq 7, 39, .inl 0, 43, 0), by subst h; exact ⟨dX9_either4_36, rfl, (show ((36 : Nat) : Int) + (7) = ((43 : Nat) : Int) by decide)⟩⟩ else none
     else
      if h : pc = 39 then some ⟨(.iconst 1, 40, .inl 1, 0, 0), by subst h; exact ⟨dX9_either4_39, rfl, ⟨1, rfl, by decide⟩⟩⟩ else none
    else
     bif Nat.blt pc 43 then
      if h : pc = 40 then some ⟨(.goto 4, 43, .inl 0, 44, 0), by subst h; exact ⟨dX9_either4_40, rfl, (show ((40 : Nat) : Int) + (4) = ((44 : Nat) : Int) by decide)⟩⟩ else none
     else
      if h : pc = 43 then some ⟨(.iconst 0, 44, .inl 0, 0, 0), by subst h; exact ⟨dX9_either4_43, rfl, ⟨0, rfl, by decide⟩⟩⟩ else none
   else
    bif Nat.blt pc 48 then
     bif Nat.blt pc 45 then
      if h : pc = 44 then some ⟨(.istore_n 1, 45, .inl 0, 0, 0), by subst h; exact ⟨dX9_either4_44, rfl, (show (1 : Nat) < 3 by decide)⟩⟩ else none
     else
      if h : pc = 45 then some ⟨(.goto (-40), 48, .inl 0, 5, 0), by subst h; exact ⟨dX9_either4_45, rfl, (show ((45 : Nat) : Int) + ((-40)) = ((5 : Nat) : Int) by decide)⟩⟩ else none
    else
     bif Nat.blt pc 49 then
      if h : pc = 48 then some ⟨(.iload_n 1, 49, .inl 0, 0, 0), by subst h; exact ⟨dX9_either4_48, rfl, trivial⟩⟩ else none
     else
      if h : pc = 49 then some ⟨(.ireturn, 50, .inl 0, 0, 0), by subst h; exact ⟨dX9_either4_49, rfl, rfl⟩⟩ else none

noncomputable def mt41 (pc : Nat) : Option {e : mE // mOK yX9_both4 cX9_both4 3 ((Option.some ClassFile.FieldType.int)) pc e} :=
 bif Nat.blt pc 24 then
  bif Nat.blt pc 12 then
   bif Nat.blt pc 5 then
    bif Nat.blt pc 1 then
     if h : pc = 0 then some ⟨(.aload_n 0, 1, .inl 0, 0, 0), by subst h; exact ⟨dX9_both4_0, rfl, trivial⟩⟩ else none
    else
     bif Nat.blt pc 4 then
      if h : pc = 1 then some ⟨(.invokevirtual 237, 4, .inl 0, 25, 14), by subst h; exact ⟨dX9_both4_1, rfl, ⟨by decide, q1574, q1576, qs77, _, rfl, rfl⟩⟩⟩ else none
     else
      if h : pc = 4 then some ⟨(.istore_n 1, 5, .inl 0, 0, 0), by subst h; exact ⟨dX9_both4_4, rfl, (show (1 : Nat) < 3 by decide)⟩⟩ else none
   else
    bif Nat.blt pc 8 then
     bif Nat.blt pc 6 then
      if h : pc = 5 then some ⟨(.aload_n 0, 6, .inl 0, 0, 0), by subst h; exact ⟨dX9_both4_5, rfl, trivial⟩⟩ else none
     else
      if h : pc = 6 then some ⟨(.bipush 97, 8, .inl 97, 0, 0), by subst h; exact ⟨dX9_both4_6, rfl, ⟨97, rfl, by decide⟩⟩⟩ else none
    else
     bif Nat.blt pc 10 then
      if h : pc = 8 then some ⟨(.bipush 110, 10, .inl 110, 0, 0), by subst h; exact ⟨dX9_both4_8, rfl, ⟨110, rfl, by decide⟩⟩⟩ else none
     else
      if h : pc = 10 then some ⟨(.bipush 100, 12, .inl 100, 0, 0), by subst h; exact ⟨dX9_both4_10, rfl, ⟨100, rfl, by decide⟩⟩⟩ else none
  else
   bif Nat.blt pc 16 then
    bif Nat.blt pc 14 then
     bif Nat.blt pc 13 then
      if h : pc = 12 then some ⟨(.iconst 0, 13, .inl 0, 0, 0), by subst h; exact ⟨dX9_both4_12, rfl, ⟨0, rfl, by decide⟩⟩⟩ else none
     else
      if h : pc = 13 then some ⟨(.iconst 0, 14, .inl 0, 0, 0), by subst h; exact ⟨dX9_both4_13, rfl, ⟨0, rfl, by decide⟩⟩⟩ else none
    else
     bif Nat.blt pc 15 then
      if h : pc = 14 then some ⟨(.iconst 0, 15, .inl 0, 0, 0), by subst h; exact ⟨dX9_both4_14, rfl, ⟨0, rfl, by decide⟩⟩⟩ else none
     else
      if h : pc = 15 then some ⟨(.iconst 0, 16, .inl 0, 0, 0), by subst h; exact ⟨dX9_both4_15, rfl, ⟨0, rfl, by decide⟩⟩⟩ else none
   else
    bif Nat.blt pc 20 then
     bif Nat.blt pc 17 then
      if h : pc = 16 then some ⟨(.iconst 0, 17, .inl 0, 0, 0), by subst h; exact ⟨dX9_both4_16, rfl, ⟨0, rfl, by decide⟩⟩⟩ else none
     else
      if h : pc = 17 then some ⟨(.invokevirtual 173, 20, .inl 0, 14, 14), by subst h; exact ⟨dX9_both4_17, rfl, ⟨by decide, q1530, q1532, qs66, _, rfl, rfl⟩⟩⟩ else none
    else
     bif Nat.blt pc 23 then
      if h : pc = 20 then some ⟨(.ifCond .eq 29, 23, .inl 0, 49, 0), by subst h; exact ⟨dX9_both4_20, rfl, (show ((20 : Nat) : Int) + (29) = ((49 : Nat) : Int) by decide)⟩⟩ else none
     else
      if h : pc = 23 then some ⟨(.aload_n 0, 24, .inl 0, 0, 0), by subst h; exact ⟨dX9_both4_23, rfl, trivial⟩⟩ else none
 else
  bif Nat.blt pc 37 then
   bif Nat.blt pc 31 then
    bif Nat.blt pc 27 then
     if h : pc = 24 then some ⟨(.invokevirtual 170, 27, .inl 0, 12, 14), by subst h; exact ⟨dX9_both4_24, rfl, ⟨by decide, q1518, q1520, qs64, _, rfl, rfl⟩⟩⟩ else none
    else
     bif Nat.blt pc 28 then
      if h : pc = 27 then some ⟨(.aload_n 0, 28, .inl 0, 0, 0), by subst h; exact ⟨dX9_both4_27, rfl, trivial⟩⟩ else none
     else
      if h : pc = 28 then some ⟨(.invokevirtual 237, 31, .inl 0, 25, 14), by subst h; exact ⟨dX9_both4_28, rfl, ⟨by decide, q1574, q1576, qs77, _, rfl, rfl⟩⟩⟩ else none
   else
    bif Nat.blt pc 33 then
     bif Nat.blt pc 32 then
      if h : pc = 31 then some ⟨(.istore_n 2, 32, .inl 0, 0, 0), by subst h; exact ⟨dX9_both4_31, rfl, (show (2 : Nat) < 3 by decide)⟩⟩ else none
     else
      if h : pc = 32 then some ⟨(.iload_n 1, 33, .inl 0, 0, 0), by subst h; exact ⟨dX9_both4_32, rfl, trivial⟩⟩ else none
    else
     bif Nat.blt pc 36 then
      if h : pc = 33 then some ⟨(.ifCond .eq 11, 36, .inl 0, 44, 0), by subst h; exact ⟨dX9_both4_33, rfl, (show ((33 : Nat) : Int) + (11) = ((44 : Nat) : Int) by decide)⟩⟩ else none
     else
      if h : pc = 36 then some ⟨(.iload_n 2, 37, .inl 0, 0, 0), by subst h; exact ⟨dX9_both4_36, rfl, trivial⟩⟩ else none
  else
   bif Nat.blt pc 45 then
    bif Nat.blt pc 41 then
     bif Nat.blt pc 40 then
      if h : pc = 37 then some ⟨(.ifCond .eq 7, 40, .inl 0, 44, 0), by subst h; exact ⟨dX9_both4_37, rfl, (show ((37 : Nat) : Int) + (7) = ((44 : Nat) : Int) by decide)⟩⟩ else none
     else
      if h : pc = 40 then some ⟨(.iconst 1, 41, .inl 1, 0, 0), by subst h; exact ⟨dX9_both4_40, rfl, ⟨1, rfl, by decide⟩⟩⟩ else none
    else
     bif Nat.blt pc 44 then
      if h : pc = 41 then some ⟨(.goto 4, 44, .inl 0, 45, 0), by subst h; exact ⟨dX9_both4_41, rfl, (show ((41 : Nat) : Int) + (4) = ((45 : Nat) : Int) by decide)⟩⟩ else none
     else
      if h : pc = 44 then some ⟨(.iconst 0, 45, .inl 0, 0, 0), by subst h; exact ⟨dX9_both4_44, rfl, ⟨0, rfl, by decide⟩⟩⟩ else none
   else
    bif Nat.blt pc 49 then
     bif Nat.blt pc 46 then
      if h : pc = 45 then some ⟨(.istore_n 1, 46, .inl 0, 0, 0), by subst h; exact ⟨dX9_both4_45, rfl, (show (1 : Nat) < 3 by decide)⟩⟩ else none
     else
      if h : pc = 46 then some ⟨(.goto (-41), 49, .inl 0, 5, 0), by subst h; exact ⟨dX9_both4_46, rfl, (show ((46 : Nat) : Int) + ((-41)) = ((5 : Nat) : Int) by decide)⟩⟩ else none
    else
     bif Nat.blt pc 50 then
      if h : pc = 49 then some ⟨(.iload_n 1, 50, .inl 0, 0, 0), by subst h; exact ⟨dX9_both4_49, rfl, trivial⟩⟩ else none
     else
      if h : pc = 50 then some ⟨(.ireturn, 51, .inl 0, 0, 0), by subst h; exact ⟨dX9_both4_50, rfl, rfl⟩⟩ else none

noncomputable def mt42 (pc : Nat) : Option {e : mE // mOK yX9_added2 cX9_added2 4 ((Option.some ClassFile.FieldType.int)) pc e} :=
 bif Nat.blt pc 39 then
  bif Nat.blt pc 17 then
   bif Nat.blt pc 6 then
    bif Nat.blt pc 4 then
     bif Nat.blt pc 1 then
      if h : pc = 0 then some ⟨(.aload_n 0, 1, .inl 0, 0, 0), by subst h; exact ⟨dX9_added2_0, rfl, trivial⟩⟩ else none
     else
      if h : pc = 1 then some ⟨(.invokevirtual 267, 4, .inl 0, 43, 14), by subst h; exact ⟨dX9_added2_1, rfl, ⟨by decide, q1648, q1650, qs95, _, rfl, rfl⟩⟩⟩ else none
    else
     bif Nat.blt pc 5 then
      if h : pc = 4 then some ⟨(.istore_n 1, 5, .inl 0, 0, 0), by subst h; exact ⟨dX9_added2_4, rfl, (show (1 : Nat) < 4 by decide)⟩⟩ else none
     else
      if h : pc = 5 then some ⟨(.aload_n 0, 6, .inl 0, 0, 0), by subst h; exact ⟨dX9_added2_5, rfl, trivial⟩⟩ else none
   else
    bif Nat.blt pc 11 then
     bif Nat.blt pc 8 then
      if h : pc = 6 then some ⟨(.bipush 43, 8, .inl 43, 0, 0), by subst h; exact ⟨dX9_added2_6, rfl, ⟨43, rfl, by decide⟩⟩⟩ else none
     else
      if h : pc = 8 then some ⟨(.invokevirtual 195, 11, .inl 0, 30, 14), by subst h; exact ⟨dX9_added2_8, rfl, ⟨by decide, q1594, q1596, qs82, _, rfl, rfl⟩⟩⟩ else none
    else
     bif Nat.blt pc 14 then
      if h : pc = 11 then some ⟨(.ifCond .ne 12, 14, .inl 0, 23, 0), by subst h; exact ⟨dX9_added2_11, rfl, (show ((11 : Nat) : Int) + (12) = ((23 : Nat) : Int) by decide)⟩⟩ else none
     else
      bif Nat.blt pc 15 then
       if h : pc = 14 then some ⟨(.aload_n 0, 15, .inl 0, 0, 0), by subst h; exact ⟨dX9_added2_14, rfl, trivial⟩⟩ else none
      else
       if h : pc = 15 then some ⟨(.bipush 45, 17, .inl 45, 0, 0), by subst h; exact ⟨dX9_added2_15, rfl, ⟨45, rfl, by decide⟩⟩⟩ else none
  else
   bif Nat.blt pc 30 then
    bif Nat.blt pc 23 then
     bif Nat.blt pc 20 then
      if h : pc = 17 then some ⟨(.invokevirtual 195, 20, .inl 0, 30, 14), by subst h; exact ⟨dX9_added2_17, rfl, ⟨by decide, q1594, q1596, qs82, _, rfl, rfl⟩⟩⟩ else none
     else
      if h : pc = 20 then some ⟨(.ifCond .eq 46, 23, .inl 0, 66, 0), by subst h; exact ⟨dX9_added2_20, rfl, (show ((20 : Nat) : Int) + (46) = ((66 : Nat) : Int) by decide)⟩⟩ else none
    else
     bif Nat.blt pc 24 then
      if h : pc = 23 then some ⟨(.aload_n 0, 24, .inl 0, 0, 0), by subst h; exact ⟨dX9_added2_23, rfl, trivial⟩⟩ else none
     else
      bif Nat.blt pc 27 then
       if h : pc = 24 then some ⟨(.getfield 150, 27, .inr (.inl 0), 23, 14), by subst h; exact ⟨dX9_added2_24, rfl, ⟨⟨_, rfl, by decide, _, Or.inl q1381, Or.inl rfl⟩, (show mKd 14 23 = 5 by rfl)⟩⟩⟩ else none
      else
       if h : pc = 27 then some ⟨(.ldc2_w 212, 30, .inr (.inl 43), 0, 0), by subst h; exact ⟨dX9_added2_27, rfl, ⟨_, rfl, q1602⟩⟩⟩ else none
   else
    bif Nat.blt pc 34 then
     bif Nat.blt pc 31 then
      if h : pc = 30 then some ⟨(.lcmp, 31, .inl 0, 0, 0), by subst h; exact ⟨dX9_added2_30, rfl, trivial⟩⟩ else none
     else
      if h : pc = 31 then some ⟨(.ifCond .ne 7, 34, .inl 0, 38, 0), by subst h; exact ⟨dX9_added2_31, rfl, (show ((31 : Nat) : Int) + (7) = ((38 : Nat) : Int) by decide)⟩⟩ else none
    else
     bif Nat.blt pc 35 then
      if h : pc = 34 then some ⟨(.iconst 1, 35, .inl 1, 0, 0), by subst h; exact ⟨dX9_added2_34, rfl, ⟨1, rfl, by decide⟩⟩⟩ else none
     else
      bif Nat.blt pc 38 then
       if h : pc = 35 then some ⟨(.goto 4, 38, .inl 0, 39, 0), by subst h; exact ⟨dX9_added2_35, rfl, (show ((35 : Nat) : Int) + (4) = ((39 : Nat) : Int) by decide)⟩⟩ else none
      else
       if h : pc = 38 then some ⟨(.iconst 0, 39, .inl 0, 0, 0), by subst h; exact ⟨dX9_added2_38, rfl, ⟨0, rfl, by decide⟩⟩⟩ else none
 else
  bif Nat.blt pc 54 then
   bif Nat.blt pc 45 then
    bif Nat.blt pc 41 then
     bif Nat.blt pc 40 then
      if h : pc = 39 then some ⟨(.istore_n 2, 40, .inl 0, 0, 0), by subst h; exact ⟨dX9_added2_39, rfl, (show (2 : Nat) < 4 by decide)⟩⟩ else none
     else
      if h : pc = 40 then some ⟨(.aload_n 0, 41, .inl 0, 0, 0), by subst h; exact ⟨dX9_added2_40, rfl, trivial⟩⟩ else none
    else
     bif Nat.blt pc 44 then
      if h : pc = 41 then some ⟨(.invokevirtual 170, 44, .inl 0, 12, 14), by subst h; exact ⟨dX9_added2_41, rfl, ⟨by decide, q1518, q1520, qs64, _, rfl, rfl⟩⟩⟩ else none
     else
      if h : pc = 44 then some ⟨(.aload_n 0, 45, .inl 0, 0, 0), by subst h; exact ⟨dX9_added2_44, rfl, trivial⟩⟩ else none
   else
    bif Nat.blt pc 49 then
     bif Nat.blt pc 48 then
      if h : pc = 45 then some ⟨(.invokevirtual 267, 48, .inl 0, 43, 14), by subst h; exact ⟨dX9_added2_45, rfl, ⟨by decide, q1648, q1650, qs95, _, rfl, rfl⟩⟩⟩ else none
     else
      if h : pc = 48 then some ⟨(.istore_n 3, 49, .inl 0, 0, 0), by subst h; exact ⟨dX9_added2_48, rfl, (show (3 : Nat) < 4 by decide)⟩⟩ else none
    else
     bif Nat.blt pc 50 then
      if h : pc = 49 then some ⟨(.iload_n 2, 50, .inl 0, 0, 0), by subst h; exact ⟨dX9_added2_49, rfl, trivial⟩⟩ else none
     else
      bif Nat.blt pc 53 then
       if h : pc = 50 then some ⟨(.ifCond .eq 9, 53, .inl 0, 59, 0), by subst h; exact ⟨dX9_added2_50, rfl, (show ((50 : Nat) : Int) + (9) = ((59 : Nat) : Int) by decide)⟩⟩ else none
      else
       if h : pc = 53 then some ⟨(.iload_n 1, 54, .inl 0, 0, 0), by subst h; exact ⟨dX9_added2_53, rfl, trivial⟩⟩ else none
  else
   bif Nat.blt pc 61 then
    bif Nat.blt pc 56 then
     bif Nat.blt pc 55 then
      if h : pc = 54 then some ⟨(.iload_n 3, 55, .inl 0, 0, 0), by subst h; exact ⟨dX9_added2_54, rfl, trivial⟩⟩ else none
     else
      if h : pc = 55 then some ⟨(.iadd, 56, .inl 0, 0, 0), by subst h; exact ⟨dX9_added2_55, rfl, trivial⟩⟩ else none
    else
     bif Nat.blt pc 59 then
      if h : pc = 56 then some ⟨(.goto 6, 59, .inl 0, 62, 0), by subst h; exact ⟨dX9_added2_56, rfl, (show ((56 : Nat) : Int) + (6) = ((62 : Nat) : Int) by decide)⟩⟩ else none
     else
      bif Nat.blt pc 60 then
       if h : pc = 59 then some ⟨(.iload_n 1, 60, .inl 0, 0, 0), by subst h; exact ⟨dX9_added2_59, rfl, trivial⟩⟩ else none
      else
       if h : pc = 60 then some ⟨(.iload_n 3, 61, .inl 0, 0, 0), by subst h; exact ⟨dX9_added2_60, rfl, trivial⟩⟩ else none
   else
    bif Nat.blt pc 63 then
     bif Nat.blt pc 62 then
      if h : pc = 61 then some ⟨(.isub, 62, .inl 0, 0, 0), by subst h; exact ⟨dX9_added2_61, rfl, trivial⟩⟩ else none
     else
      if h : pc = 62 then some ⟨(.istore_n 1, 63, .inl 0, 0, 0), by subst h; exact ⟨dX9_added2_62, rfl, (show (1 : Nat) < 4 by decide)⟩⟩ else none
    else
     bif Nat.blt pc 66 then
      if h : pc = 63 then some ⟨(.goto (-58), 66, .inl 0, 5, 0), by subst h; exact ⟨dX9_added2_63, rfl, (show ((63 : Nat) : Int) + ((-58)) = ((5 : Nat) : Int) by decide)⟩⟩ else none
     else
      bif Nat.blt pc 67 then
       if h : pc = 66 then some ⟨(.iload_n 1, 67, .inl 0, 0, 0), by subst h; exact ⟨dX9_added2_66, rfl, trivial⟩⟩ else none
      else
       if h : pc = 67 then some ⟨(.ireturn, 68, .inl 0, 0, 0), by subst h; exact ⟨dX9_added2_67, rfl, rfl⟩⟩ else none

noncomputable def mt43 (pc : Nat) : Option {e : mE // mOK yX9_term2 cX9_term2 2 ((Option.some ClassFile.FieldType.int)) pc e} :=
 bif Nat.blt pc 15 then
  bif Nat.blt pc 6 then
   bif Nat.blt pc 4 then
    bif Nat.blt pc 1 then
     if h : pc = 0 then some ⟨(.aload_n 0, 1, .inl 0, 0, 0), by subst h; exact ⟨dX9_term2_0, rfl, trivial⟩⟩ else none
    else
     if h : pc = 1 then some ⟨(.invokevirtual 264, 4, .inl 0, 44, 14), by subst h; exact ⟨dX9_term2_1, rfl, ⟨by decide, q1652, q1654, qs96, _, rfl, rfl⟩⟩⟩ else none
   else
    bif Nat.blt pc 5 then
     if h : pc = 4 then some ⟨(.istore_n 1, 5, .inl 0, 0, 0), by subst h; exact ⟨dX9_term2_4, rfl, (show (1 : Nat) < 2 by decide)⟩⟩ else none
    else
     if h : pc = 5 then some ⟨(.aload_n 0, 6, .inl 0, 0, 0), by subst h; exact ⟨dX9_term2_5, rfl, trivial⟩⟩ else none
  else
   bif Nat.blt pc 11 then
    bif Nat.blt pc 8 then
     if h : pc = 6 then some ⟨(.bipush 42, 8, .inl 42, 0, 0), by subst h; exact ⟨dX9_term2_6, rfl, ⟨42, rfl, by decide⟩⟩⟩ else none
    else
     if h : pc = 8 then some ⟨(.invokevirtual 195, 11, .inl 0, 30, 14), by subst h; exact ⟨dX9_term2_8, rfl, ⟨by decide, q1594, q1596, qs82, _, rfl, rfl⟩⟩⟩ else none
   else
    bif Nat.blt pc 14 then
     if h : pc = 11 then some ⟨(.ifCond .eq 17, 14, .inl 0, 28, 0), by subst h; exact ⟨dX9_term2_11, rfl, (show ((11 : Nat) : Int) + (17) = ((28 : Nat) : Int) by decide)⟩⟩ else none
    else
     if h : pc = 14 then some ⟨(.aload_n 0, 15, .inl 0, 0, 0), by subst h; exact ⟨dX9_term2_14, rfl, trivial⟩⟩ else none
 else
  bif Nat.blt pc 23 then
   bif Nat.blt pc 19 then
    bif Nat.blt pc 18 then
     if h : pc = 15 then some ⟨(.invokevirtual 170, 18, .inl 0, 12, 14), by subst h; exact ⟨dX9_term2_15, rfl, ⟨by decide, q1518, q1520, qs64, _, rfl, rfl⟩⟩⟩ else none
    else
     if h : pc = 18 then some ⟨(.iload_n 1, 19, .inl 0, 0, 0), by subst h; exact ⟨dX9_term2_18, rfl, trivial⟩⟩ else none
   else
    bif Nat.blt pc 20 then
     if h : pc = 19 then some ⟨(.aload_n 0, 20, .inl 0, 0, 0), by subst h; exact ⟨dX9_term2_19, rfl, trivial⟩⟩ else none
    else
     if h : pc = 20 then some ⟨(.invokevirtual 264, 23, .inl 0, 44, 14), by subst h; exact ⟨dX9_term2_20, rfl, ⟨by decide, q1652, q1654, qs96, _, rfl, rfl⟩⟩⟩ else none
  else
   bif Nat.blt pc 25 then
    bif Nat.blt pc 24 then
     if h : pc = 23 then some ⟨(.imul, 24, .inl 0, 0, 0), by subst h; exact ⟨dX9_term2_23, rfl, trivial⟩⟩ else none
    else
     if h : pc = 24 then some ⟨(.istore_n 1, 25, .inl 0, 0, 0), by subst h; exact ⟨dX9_term2_24, rfl, (show (1 : Nat) < 2 by decide)⟩⟩ else none
   else
    bif Nat.blt pc 28 then
     if h : pc = 25 then some ⟨(.goto (-20), 28, .inl 0, 5, 0), by subst h; exact ⟨dX9_term2_25, rfl, (show ((25 : Nat) : Int) + ((-20)) = ((5 : Nat) : Int) by decide)⟩⟩ else none
    else
     bif Nat.blt pc 29 then
      if h : pc = 28 then some ⟨(.iload_n 1, 29, .inl 0, 0, 0), by subst h; exact ⟨dX9_term2_28, rfl, trivial⟩⟩ else none
     else
      if h : pc = 29 then some ⟨(.ireturn, 30, .inl 0, 0, 0), by subst h; exact ⟨dX9_term2_29, rfl, rfl⟩⟩ else none

noncomputable def mt44 (pc : Nat) : Option {e : mE // mOK yX9_atom2 cX9_atom2 2 ((Option.some ClassFile.FieldType.int)) pc e} :=
 bif Nat.blt pc 78 then
  bif Nat.blt pc 37 then
   bif Nat.blt pc 19 then
    bif Nat.blt pc 8 then
     bif Nat.blt pc 2 then
      bif Nat.blt pc 1 then
       if h : pc = 0 then some ⟨(.iconst 0, 1, .inl 0, 0, 0), by subst h; exact ⟨dX9_atom2_0, rfl, ⟨0, rfl, by decide⟩⟩⟩ else none
      else
       if h : pc = 1 then some ⟨(.istore_n 1, 2, .inl 0, 0, 0), by subst h; exact ⟨dX9_atom2_1, rfl, (show (1 : Nat) < 2 by decide)⟩⟩ else none
     else
      bif Nat.blt pc 3 then
       if h : pc = 2 then some ⟨(.aload_n 0, 3, .inl 0, 0, 0), by subst h; exact ⟨dX9_atom2_2, rfl, trivial⟩⟩ else none
      else
       bif Nat.blt pc 5 then
        if h : pc = 3 then some ⟨(.bipush 45, 5, .inl 45, 0, 0), by subst h; exact ⟨dX9_atom2_3, rfl, ⟨45, rfl, by decide⟩⟩⟩ else none
       else
        if h : pc = 5 then some ⟨(.invokevirtual 195, 8, .inl 0, 30, 14), by subst h; exact ⟨dX9_atom2_5, rfl, ⟨by decide, q1594, q1596, qs82, _, rfl, rfl⟩⟩⟩ else none
    else
     bif Nat.blt pc 12 then
      bif Nat.blt pc 11 then
       if h : pc = 8 then some ⟨(.ifCond .eq 29, 11, .inl 0, 37, 0), by subst h; exact ⟨dX9_atom2_8, rfl, (show ((8 : Nat) : Int) + (29) = ((37 : Nat) : Int) by decide)⟩⟩ else none
      else
       if h : pc = 11 then some ⟨(.aload_n 0, 12, .inl 0, 0, 0), by subst h; exact ⟨dX9_atom2_11, rfl, trivial⟩⟩ else none
     else
      bif Nat.blt pc 15 then
       if h : pc = 12 then some ⟨(.invokevirtual 198, 15, .inl 0, 21, 14), by subst h; exact ⟨dX9_atom2_12, rfl, ⟨by decide, q1558, q1560, qs73, _, rfl, rfl⟩⟩⟩ else none
      else
       bif Nat.blt pc 18 then
        if h : pc = 15 then some ⟨(.ifCond .eq 146, 18, .inl 0, 161, 0), by subst h; exact ⟨dX9_atom2_15, rfl, (show ((15 : Nat) : Int) + (146) = ((161 : Nat) : Int) by decide)⟩⟩ else none
       else
        if h : pc = 18 then some ⟨(.aload_n 0, 19, .inl 0, 0, 0), by subst h; exact ⟨dX9_atom2_18, rfl, trivial⟩⟩ else none
   else
    bif Nat.blt pc 26 then
     bif Nat.blt pc 23 then
      bif Nat.blt pc 22 then
       if h : pc = 19 then some ⟨(.invokevirtual 246, 22, .inl 0, 39, 14), by subst h; exact ⟨dX9_atom2_19, rfl, ⟨by decide, q1632, q1634, qs91, _, rfl, rfl⟩⟩⟩ else none
      else
       if h : pc = 22 then some ⟨(.ineg, 23, .inl 0, 0, 0), by subst h; exact ⟨dX9_atom2_22, rfl, trivial⟩⟩ else none
     else
      bif Nat.blt pc 24 then
       if h : pc = 23 then some ⟨(.istore_n 1, 24, .inl 0, 0, 0), by subst h; exact ⟨dX9_atom2_23, rfl, (show (1 : Nat) < 2 by decide)⟩⟩ else none
      else
       bif Nat.blt pc 25 then
        if h : pc = 24 then some ⟨(.aload_n 0, 25, .inl 0, 0, 0), by subst h; exact ⟨dX9_atom2_24, rfl, trivial⟩⟩ else none
       else
        if h : pc = 25 then some ⟨(.dup, 26, .inl 0, 0, 0), by subst h; exact ⟨dX9_atom2_25, rfl, trivial⟩⟩ else none
    else
     bif Nat.blt pc 30 then
      bif Nat.blt pc 29 then
       if h : pc = 26 then some ⟨(.getfield 164, 29, .inl 0, 24, 14), by subst h; exact ⟨dX9_atom2_26, rfl, ⟨⟨_, rfl, by decide, _, Or.inl q1382, Or.inl rfl⟩, (show mKd 14 24 ≤ 4 by decide)⟩⟩⟩ else none
      else
       if h : pc = 29 then some ⟨(.iconst 1, 30, .inl 1, 0, 0), by subst h; exact ⟨dX9_atom2_29, rfl, ⟨1, rfl, by decide⟩⟩⟩ else none
     else
      bif Nat.blt pc 31 then
       if h : pc = 30 then some ⟨(.isub, 31, .inl 0, 0, 0), by subst h; exact ⟨dX9_atom2_30, rfl, trivial⟩⟩ else none
      else
       bif Nat.blt pc 34 then
        if h : pc = 31 then some ⟨(.putfield 164, 34, .inl 0, 24, 14), by subst h; exact ⟨dX9_atom2_31, rfl, ⟨⟨_, rfl, by decide, _, Or.inl q1382, Or.inl rfl⟩, (show mKd 14 24 ≤ 4 by decide), by decide, by decide, (fun q h => Or.inl (by cases h; rfl))⟩⟩⟩ else none
       else
        if h : pc = 34 then some ⟨(.goto 127, 37, .inl 0, 161, 0), by subst h; exact ⟨dX9_atom2_34, rfl, (show ((34 : Nat) : Int) + (127) = ((161 : Nat) : Int) by decide)⟩⟩ else none
  else
   bif Nat.blt pc 58 then
    bif Nat.blt pc 47 then
     bif Nat.blt pc 40 then
      bif Nat.blt pc 38 then
       if h : pc = 37 then some ⟨(.aload_n 0, 38, .inl 0, 0, 0), by subst h; exact ⟨dX9_atom2_37, rfl, trivial⟩⟩ else none
      else
       if h : pc = 38 then some ⟨(.bipush 40, 40, .inl 40, 0, 0), by subst h; exact ⟨dX9_atom2_38, rfl, ⟨40, rfl, by decide⟩⟩⟩ else none
     else
      bif Nat.blt pc 43 then
       if h : pc = 40 then some ⟨(.invokevirtual 195, 43, .inl 0, 30, 14), by subst h; exact ⟨dX9_atom2_40, rfl, ⟨by decide, q1594, q1596, qs82, _, rfl, rfl⟩⟩⟩ else none
      else
       bif Nat.blt pc 46 then
        if h : pc = 43 then some ⟨(.ifCond .eq 52, 46, .inl 0, 95, 0), by subst h; exact ⟨dX9_atom2_43, rfl, (show ((43 : Nat) : Int) + (52) = ((95 : Nat) : Int) by decide)⟩⟩ else none
       else
        if h : pc = 46 then some ⟨(.aload_n 0, 47, .inl 0, 0, 0), by subst h; exact ⟨dX9_atom2_46, rfl, trivial⟩⟩ else none
    else
     bif Nat.blt pc 53 then
      bif Nat.blt pc 50 then
       if h : pc = 47 then some ⟨(.invokevirtual 198, 50, .inl 0, 21, 14), by subst h; exact ⟨dX9_atom2_47, rfl, ⟨by decide, q1558, q1560, qs73, _, rfl, rfl⟩⟩⟩ else none
      else
       if h : pc = 50 then some ⟨(.ifCond .eq 111, 53, .inl 0, 161, 0), by subst h; exact ⟨dX9_atom2_50, rfl, (show ((50 : Nat) : Int) + (111) = ((161 : Nat) : Int) by decide)⟩⟩ else none
     else
      bif Nat.blt pc 54 then
       if h : pc = 53 then some ⟨(.aload_n 0, 54, .inl 0, 0, 0), by subst h; exact ⟨dX9_atom2_53, rfl, trivial⟩⟩ else none
      else
       bif Nat.blt pc 57 then
        if h : pc = 54 then some ⟨(.invokevirtual 261, 57, .inl 0, 45, 14), by subst h; exact ⟨dX9_atom2_54, rfl, ⟨by decide, q1656, q1658, qs97, _, rfl, rfl⟩⟩⟩ else none
       else
        if h : pc = 57 then some ⟨(.istore_n 1, 58, .inl 0, 0, 0), by subst h; exact ⟨dX9_atom2_57, rfl, (show (1 : Nat) < 2 by decide)⟩⟩ else none
   else
    bif Nat.blt pc 68 then
     bif Nat.blt pc 61 then
      bif Nat.blt pc 59 then
       if h : pc = 58 then some ⟨(.aload_n 0, 59, .inl 0, 0, 0), by subst h; exact ⟨dX9_atom2_58, rfl, trivial⟩⟩ else none
      else
       if h : pc = 59 then some ⟨(.bipush 41, 61, .inl 41, 0, 0), by subst h; exact ⟨dX9_atom2_59, rfl, ⟨41, rfl, by decide⟩⟩⟩ else none
     else
      bif Nat.blt pc 64 then
       if h : pc = 61 then some ⟨(.invokevirtual 195, 64, .inl 0, 30, 14), by subst h; exact ⟨dX9_atom2_61, rfl, ⟨by decide, q1594, q1596, qs82, _, rfl, rfl⟩⟩⟩ else none
      else
       bif Nat.blt pc 67 then
        if h : pc = 64 then some ⟨(.ifCond .ne 7, 67, .inl 0, 71, 0), by subst h; exact ⟨dX9_atom2_64, rfl, (show ((64 : Nat) : Int) + (7) = ((71 : Nat) : Int) by decide)⟩⟩ else none
       else
        if h : pc = 67 then some ⟨(.aload_n 0, 68, .inl 0, 0, 0), by subst h; exact ⟨dX9_atom2_67, rfl, trivial⟩⟩ else none
    else
     bif Nat.blt pc 73 then
      bif Nat.blt pc 71 then
       if h : pc = 68 then some ⟨(.invokevirtual 167, 71, .inl 0, 17, 14), by subst h; exact ⟨dX9_atom2_68, rfl, ⟨by decide, q1542, q1544, qs69, _, rfl, rfl⟩⟩⟩ else none
      else
       bif Nat.blt pc 72 then
        if h : pc = 71 then some ⟨(.aload_n 0, 72, .inl 0, 0, 0), by subst h; exact ⟨dX9_atom2_71, rfl, trivial⟩⟩ else none
       else
        if h : pc = 72 then some ⟨(.dup, 73, .inl 0, 0, 0), by subst h; exact ⟨dX9_atom2_72, rfl, trivial⟩⟩ else none
     else
      bif Nat.blt pc 76 then
       if h : pc = 73 then some ⟨(.getfield 164, 76, .inl 0, 24, 14), by subst h; exact ⟨dX9_atom2_73, rfl, ⟨⟨_, rfl, by decide, _, Or.inl q1382, Or.inl rfl⟩, (show mKd 14 24 ≤ 4 by decide)⟩⟩⟩ else none
      else
       bif Nat.blt pc 77 then
        if h : pc = 76 then some ⟨(.iconst 1, 77, .inl 1, 0, 0), by subst h; exact ⟨dX9_atom2_76, rfl, ⟨1, rfl, by decide⟩⟩⟩ else none
       else
        if h : pc = 77 then some ⟨(.isub, 78, .inl 0, 0, 0), by subst h; exact ⟨dX9_atom2_77, rfl, trivial⟩⟩ else none
 else
  bif Nat.blt pc 120 then
   bif Nat.blt pc 102 then
    bif Nat.blt pc 89 then
     bif Nat.blt pc 82 then
      bif Nat.blt pc 81 then
       if h : pc = 78 then some ⟨(.putfield 164, 81, .inl 0, 24, 14), by subst h; exact ⟨dX9_atom2_78, rfl, ⟨⟨_, rfl, by decide, _, Or.inl q1382, Or.inl rfl⟩, (show mKd 14 24 ≤ 4 by decide), by decide, by decide, (fun q h => Or.inl (by cases h; rfl))⟩⟩⟩ else none
      else
       if h : pc = 81 then some ⟨(.aload_n 0, 82, .inl 0, 0, 0), by subst h; exact ⟨dX9_atom2_81, rfl, trivial⟩⟩ else none
     else
      bif Nat.blt pc 85 then
       if h : pc = 82 then some ⟨(.getfield 154, 85, .inl 0, 25, 14), by subst h; exact ⟨dX9_atom2_82, rfl, ⟨⟨_, rfl, by decide, _, Or.inl q1383, Or.inl rfl⟩, (show mKd 14 25 ≤ 4 by decide)⟩⟩⟩ else none
      else
       bif Nat.blt pc 88 then
        if h : pc = 85 then some ⟨(.ifCond .ne 76, 88, .inl 0, 161, 0), by subst h; exact ⟨dX9_atom2_85, rfl, (show ((85 : Nat) : Int) + (76) = ((161 : Nat) : Int) by decide)⟩⟩ else none
       else
        if h : pc = 88 then some ⟨(.aload_n 0, 89, .inl 0, 0, 0), by subst h; exact ⟨dX9_atom2_88, rfl, trivial⟩⟩ else none
    else
     bif Nat.blt pc 95 then
      bif Nat.blt pc 92 then
       if h : pc = 89 then some ⟨(.invokevirtual 170, 92, .inl 0, 12, 14), by subst h; exact ⟨dX9_atom2_89, rfl, ⟨by decide, q1518, q1520, qs64, _, rfl, rfl⟩⟩⟩ else none
      else
       if h : pc = 92 then some ⟨(.goto 69, 95, .inl 0, 161, 0), by subst h; exact ⟨dX9_atom2_92, rfl, (show ((92 : Nat) : Int) + (69) = ((161 : Nat) : Int) by decide)⟩⟩ else none
     else
      bif Nat.blt pc 96 then
       if h : pc = 95 then some ⟨(.aload_n 0, 96, .inl 0, 0, 0), by subst h; exact ⟨dX9_atom2_95, rfl, trivial⟩⟩ else none
      else
       bif Nat.blt pc 99 then
        if h : pc = 96 then some ⟨(.getfield 154, 99, .inl 0, 25, 14), by subst h; exact ⟨dX9_atom2_96, rfl, ⟨⟨_, rfl, by decide, _, Or.inl q1383, Or.inl rfl⟩, (show mKd 14 25 ≤ 4 by decide)⟩⟩⟩ else none
       else
        if h : pc = 99 then some ⟨(.ifCond .ne 24, 102, .inl 0, 123, 0), by subst h; exact ⟨dX9_atom2_99, rfl, (show ((99 : Nat) : Int) + (24) = ((123 : Nat) : Int) by decide)⟩⟩ else none
   else
    bif Nat.blt pc 111 then
     bif Nat.blt pc 106 then
      bif Nat.blt pc 103 then
       if h : pc = 102 then some ⟨(.aload_n 0, 103, .inl 0, 0, 0), by subst h; exact ⟨dX9_atom2_102, rfl, trivial⟩⟩ else none
      else
       if h : pc = 103 then some ⟨(.getfield 139, 106, .inl 0, 21, 14), by subst h; exact ⟨dX9_atom2_103, rfl, ⟨⟨_, rfl, by decide, _, Or.inl q1379, Or.inl rfl⟩, (show mKd 14 21 ≤ 4 by decide)⟩⟩⟩ else none
     else
      bif Nat.blt pc 107 then
       if h : pc = 106 then some ⟨(.iconst 2, 107, .inl 2, 0, 0), by subst h; exact ⟨dX9_atom2_106, rfl, ⟨2, rfl, by decide⟩⟩⟩ else none
      else
       bif Nat.blt pc 110 then
        if h : pc = 107 then some ⟨(.if_icmp .ne 16, 110, .inl 0, 123, 0), by subst h; exact ⟨dX9_atom2_107, rfl, (show ((107 : Nat) : Int) + (16) = ((123 : Nat) : Int) by decide)⟩⟩ else none
       else
        if h : pc = 110 then some ⟨(.aload_n 0, 111, .inl 0, 0, 0), by subst h; exact ⟨dX9_atom2_110, rfl, trivial⟩⟩ else none
    else
     bif Nat.blt pc 115 then
      bif Nat.blt pc 114 then
       if h : pc = 111 then some ⟨(.getfield 150, 114, .inr (.inl 0), 23, 14), by subst h; exact ⟨dX9_atom2_111, rfl, ⟨⟨_, rfl, by decide, _, Or.inl q1381, Or.inl rfl⟩, (show mKd 14 23 = 5 by rfl)⟩⟩⟩ else none
      else
       if h : pc = 114 then some ⟨(.l2i, 115, .inl 0, 0, 0), by subst h; exact ⟨dX9_atom2_114, rfl, trivial⟩⟩ else none
     else
      bif Nat.blt pc 116 then
       if h : pc = 115 then some ⟨(.istore_n 1, 116, .inl 0, 0, 0), by subst h; exact ⟨dX9_atom2_115, rfl, (show (1 : Nat) < 2 by decide)⟩⟩ else none
      else
       bif Nat.blt pc 117 then
        if h : pc = 116 then some ⟨(.aload_n 0, 117, .inl 0, 0, 0), by subst h; exact ⟨dX9_atom2_116, rfl, trivial⟩⟩ else none
       else
        if h : pc = 117 then some ⟨(.invokevirtual 170, 120, .inl 0, 12, 14), by subst h; exact ⟨dX9_atom2_117, rfl, ⟨by decide, q1518, q1520, qs64, _, rfl, rfl⟩⟩⟩ else none
  else
   bif Nat.blt pc 142 then
    bif Nat.blt pc 131 then
     bif Nat.blt pc 124 then
      bif Nat.blt pc 123 then
       if h : pc = 120 then some ⟨(.goto 41, 123, .inl 0, 161, 0), by subst h; exact ⟨dX9_atom2_120, rfl, (show ((120 : Nat) : Int) + (41) = ((161 : Nat) : Int) by decide)⟩⟩ else none
      else
       if h : pc = 123 then some ⟨(.aload_n 0, 124, .inl 0, 0, 0), by subst h; exact ⟨dX9_atom2_123, rfl, trivial⟩⟩ else none
     else
      bif Nat.blt pc 127 then
       if h : pc = 124 then some ⟨(.getfield 154, 127, .inl 0, 25, 14), by subst h; exact ⟨dX9_atom2_124, rfl, ⟨⟨_, rfl, by decide, _, Or.inl q1383, Or.inl rfl⟩, (show mKd 14 25 ≤ 4 by decide)⟩⟩⟩ else none
      else
       bif Nat.blt pc 130 then
        if h : pc = 127 then some ⟨(.ifCond .ne 30, 130, .inl 0, 157, 0), by subst h; exact ⟨dX9_atom2_127, rfl, (show ((127 : Nat) : Int) + (30) = ((157 : Nat) : Int) by decide)⟩⟩ else none
       else
        if h : pc = 130 then some ⟨(.aload_n 0, 131, .inl 0, 0, 0), by subst h; exact ⟨dX9_atom2_130, rfl, trivial⟩⟩ else none
    else
     bif Nat.blt pc 135 then
      bif Nat.blt pc 134 then
       if h : pc = 131 then some ⟨(.getfield 139, 134, .inl 0, 21, 14), by subst h; exact ⟨dX9_atom2_131, rfl, ⟨⟨_, rfl, by decide, _, Or.inl q1379, Or.inl rfl⟩, (show mKd 14 21 ≤ 4 by decide)⟩⟩⟩ else none
      else
       if h : pc = 134 then some ⟨(.iconst 1, 135, .inl 1, 0, 0), by subst h; exact ⟨dX9_atom2_134, rfl, ⟨1, rfl, by decide⟩⟩⟩ else none
     else
      bif Nat.blt pc 138 then
       if h : pc = 135 then some ⟨(.if_icmp .ne 22, 138, .inl 0, 157, 0), by subst h; exact ⟨dX9_atom2_135, rfl, (show ((135 : Nat) : Int) + (22) = ((157 : Nat) : Int) by decide)⟩⟩ else none
      else
       bif Nat.blt pc 139 then
        if h : pc = 138 then some ⟨(.aload_n 0, 139, .inl 0, 0, 0), by subst h; exact ⟨dX9_atom2_138, rfl, trivial⟩⟩ else none
       else
        if h : pc = 139 then some ⟨(.invokevirtual 202, 142, .inl 0, 31, 14), by subst h; exact ⟨dX9_atom2_139, rfl, ⟨by decide, q1598, q1600, qs83, _, rfl, rfl⟩⟩⟩ else none
   else
    bif Nat.blt pc 151 then
     bif Nat.blt pc 144 then
      bif Nat.blt pc 143 then
       if h : pc = 142 then some ⟨(.istore_n 1, 143, .inl 0, 0, 0), by subst h; exact ⟨dX9_atom2_142, rfl, (show (1 : Nat) < 2 by decide)⟩⟩ else none
      else
       if h : pc = 143 then some ⟨(.aload_n 0, 144, .inl 0, 0, 0), by subst h; exact ⟨dX9_atom2_143, rfl, trivial⟩⟩ else none
     else
      bif Nat.blt pc 147 then
       if h : pc = 144 then some ⟨(.getfield 154, 147, .inl 0, 25, 14), by subst h; exact ⟨dX9_atom2_144, rfl, ⟨⟨_, rfl, by decide, _, Or.inl q1383, Or.inl rfl⟩, (show mKd 14 25 ≤ 4 by decide)⟩⟩⟩ else none
      else
       bif Nat.blt pc 150 then
        if h : pc = 147 then some ⟨(.ifCond .ne 14, 150, .inl 0, 161, 0), by subst h; exact ⟨dX9_atom2_147, rfl, (show ((147 : Nat) : Int) + (14) = ((161 : Nat) : Int) by decide)⟩⟩ else none
       else
        if h : pc = 150 then some ⟨(.aload_n 0, 151, .inl 0, 0, 0), by subst h; exact ⟨dX9_atom2_150, rfl, trivial⟩⟩ else none
    else
     bif Nat.blt pc 158 then
      bif Nat.blt pc 154 then
       if h : pc = 151 then some ⟨(.invokevirtual 170, 154, .inl 0, 12, 14), by subst h; exact ⟨dX9_atom2_151, rfl, ⟨by decide, q1518, q1520, qs64, _, rfl, rfl⟩⟩⟩ else none
      else
       bif Nat.blt pc 157 then
        if h : pc = 154 then some ⟨(.goto 7, 157, .inl 0, 161, 0), by subst h; exact ⟨dX9_atom2_154, rfl, (show ((154 : Nat) : Int) + (7) = ((161 : Nat) : Int) by decide)⟩⟩ else none
       else
        if h : pc = 157 then some ⟨(.aload_n 0, 158, .inl 0, 0, 0), by subst h; exact ⟨dX9_atom2_157, rfl, trivial⟩⟩ else none
     else
      bif Nat.blt pc 161 then
       if h : pc = 158 then some ⟨(.invokevirtual 167, 161, .inl 0, 17, 14), by subst h; exact ⟨dX9_atom2_158, rfl, ⟨by decide, q1542, q1544, qs69, _, rfl, rfl⟩⟩⟩ else none
      else
       bif Nat.blt pc 162 then
        if h : pc = 161 then some ⟨(.iload_n 1, 162, .inl 0, 0, 0), by subst h; exact ⟨dX9_atom2_161, rfl, trivial⟩⟩ else none
       else
        if h : pc = 162 then some ⟨(.ireturn, 163, .inl 0, 0, 0), by subst h; exact ⟨dX9_atom2_162, rfl, rfl⟩⟩ else none

noncomputable def mt45 (pc : Nat) : Option {e : mE // mOK yX9_either3 cX9_either3 3 ((Option.some ClassFile.FieldType.int)) pc e} :=
 bif Nat.blt pc 23 then
  bif Nat.blt pc 11 then
   bif Nat.blt pc 5 then
    bif Nat.blt pc 1 then
     if h : pc = 0 then some ⟨(.aload_n 0, 1, .inl 0, 0, 0), by subst h; exact ⟨dX9_either3_0, rfl, trivial⟩⟩ else none
    else
     bif Nat.blt pc 4 then
      if h : pc = 1 then some ⟨(.invokevirtual 258, 4, .inl 0, 46, 14), by subst h; exact ⟨dX9_either3_1, rfl, ⟨by decide, q1660, q1662, qs98, _, rfl, rfl⟩⟩⟩ else none
     else
      if h : pc = 4 then some ⟨(.istore_n 1, 5, .inl 0, 0, 0), by subst h; exact ⟨dX9_either3_4, rfl, (show (1 : Nat) < 3 by decide)⟩⟩ else none
   else
    bif Nat.blt pc 8 then
     bif Nat.blt pc 6 then
      if h : pc = 5 then some ⟨(.aload_n 0, 6, .inl 0, 0, 0), by subst h; exact ⟨dX9_either3_5, rfl, trivial⟩⟩ else none
     else
      if h : pc = 6 then some ⟨(.bipush 111, 8, .inl 111, 0, 0), by subst h; exact ⟨dX9_either3_6, rfl, ⟨111, rfl, by decide⟩⟩⟩ else none
    else
     bif Nat.blt pc 10 then
      if h : pc = 8 then some ⟨(.bipush 114, 10, .inl 114, 0, 0), by subst h; exact ⟨dX9_either3_8, rfl, ⟨114, rfl, by decide⟩⟩⟩ else none
     else
      if h : pc = 10 then some ⟨(.iconst 0, 11, .inl 0, 0, 0), by subst h; exact ⟨dX9_either3_10, rfl, ⟨0, rfl, by decide⟩⟩⟩ else none
  else
   bif Nat.blt pc 15 then
    bif Nat.blt pc 13 then
     bif Nat.blt pc 12 then
      if h : pc = 11 then some ⟨(.iconst 0, 12, .inl 0, 0, 0), by subst h; exact ⟨dX9_either3_11, rfl, ⟨0, rfl, by decide⟩⟩⟩ else none
     else
      if h : pc = 12 then some ⟨(.iconst 0, 13, .inl 0, 0, 0), by subst h; exact ⟨dX9_either3_12, rfl, ⟨0, rfl, by decide⟩⟩⟩ else none
    else
     bif Nat.blt pc 14 then
      if h : pc = 13 then some ⟨(.iconst 0, 14, .inl 0, 0, 0), by subst h; exact ⟨dX9_either3_13, rfl, ⟨0, rfl, by decide⟩⟩⟩ else none
     else
      if h : pc = 14 then some ⟨(.iconst 0, 15, .inl 0, 0, 0), by subst h; exact ⟨dX9_either3_14, rfl, ⟨0, rfl, by decide⟩⟩⟩ else none
   else
    bif Nat.blt pc 19 then
     bif Nat.blt pc 16 then
      if h : pc = 15 then some ⟨(.iconst 0, 16, .inl 0, 0, 0), by subst h; exact ⟨dX9_either3_15, rfl, ⟨0, rfl, by decide⟩⟩⟩ else none
     else
      if h : pc = 16 then some ⟨(.invokevirtual 173, 19, .inl 0, 14, 14), by subst h; exact ⟨dX9_either3_16, rfl, ⟨by decide, q1530, q1532, qs66, _, rfl, rfl⟩⟩⟩ else none
    else
     bif Nat.blt pc 22 then
      if h : pc = 19 then some ⟨(.ifCond .eq 29, 22, .inl 0, 48, 0), by subst h; exact ⟨dX9_either3_19, rfl, (show ((19 : Nat) : Int) + (29) = ((48 : Nat) : Int) by decide)⟩⟩ else none
     else
      if h : pc = 22 then some ⟨(.aload_n 0, 23, .inl 0, 0, 0), by subst h; exact ⟨dX9_either3_22, rfl, trivial⟩⟩ else none
 else
  bif Nat.blt pc 36 then
   bif Nat.blt pc 30 then
    bif Nat.blt pc 26 then
     if h : pc = 23 then some ⟨(.invokevirtual 170, 26, .inl 0, 12, 14), by subst h; exact ⟨dX9_either3_23, rfl, ⟨by decide, q1518, q1520, qs64, _, rfl, rfl⟩⟩⟩ else none
    else
     bif Nat.blt pc 27 then
      if h : pc = 26 then some ⟨(.aload_n 0, 27, .inl 0, 0, 0), by subst h; exact ⟨dX9_either3_26, rfl, trivial⟩⟩ else none
     else
      if h : pc = 27 then some ⟨(.invokevirtual 258, 30, .inl 0, 46, 14), by subst h; exact ⟨dX9_either3_27, rfl, ⟨by decide, q1660, q1662, qs98, _, rfl, rfl⟩⟩⟩ else none
   else
    bif Nat.blt pc 32 then
     bif Nat.blt pc 31 then
      if h : pc = 30 then some ⟨(.istore_n 2, 31, .inl 0, 0, 0), by subst h; exact ⟨dX9_either3_30, rfl, (show (2 : Nat) < 3 by decide)⟩⟩ else none
     else
      if h : pc = 31 then some ⟨(.iload_n 1, 32, .inl 0, 0, 0), by subst h; exact ⟨dX9_either3_31, rfl, trivial⟩⟩ else none
    else
     bif Nat.blt pc 35 then
      if h : pc = 32 then some ⟨(.ifCond .ne 7, 35, .inl 0, 39, 0), by subst h; exact ⟨dX9_either3_32, rfl, (show ((32 : Nat) : Int) + (7) = ((39 : Nat) : Int) by decide)⟩⟩ else none
     else
      if h : pc = 35 then some ⟨(.iload_n 2, 36, .inl 0, 0, 0), by subst h; exact ⟨dX9_either3_35, rfl, trivial⟩⟩ else none
  else
   bif Nat.blt pc 44 then
    bif Nat.blt pc 40 then
     bif Nat.blt pc 39 then
      if h : pc = 36 then some ⟨(.ifCond .eq 7, 39, .inl 0, 43, 0), by subst h; exact ⟨dX9_either3_36, rfl, (show ((36 : Nat) : Int) + (7) = ((43 : Nat) : Int) by decide)⟩⟩ else none
     else
      if h : pc = 39 then some ⟨(.iconst 1, 40, .inl 1, 0, 0), by subst h; exact ⟨dX9_either3_39, rfl, ⟨1, rfl, by decide⟩⟩⟩ else none
    else
     bif Nat.blt pc 43 then
      if h : pc = 40 then some ⟨(.goto 4, 43, .inl 0, 44, 0), by subst h; exact ⟨dX9_either3_40, rfl, (show ((40 : Nat) : Int) + (4) = ((44 : Nat) : Int) by decide)⟩⟩ else none
     else
      if h : pc = 43 then some ⟨(.iconst 0, 44, .inl 0, 0, 0), by subst h; exact ⟨dX9_either3_43, rfl, ⟨0, rfl, by decide⟩⟩⟩ else none
   else
    bif Nat.blt pc 48 then
     bif Nat.blt pc 45 then
      if h : pc = 44 then some ⟨(.istore_n 1, 45, .inl 0, 0, 0), by subst h; exact ⟨dX9_either3_44, rfl, (show (1 : Nat) < 3 by decide)⟩⟩ else none
     else
      if h : pc = 45 then some ⟨(.goto (-40), 48, .inl 0, 5, 0), by subst h; exact ⟨dX9_either3_45, rfl, (show ((45 : Nat) : Int) + ((-40)) = ((5 : Nat) : Int) by decide)⟩⟩ else none
    else
     bif Nat.blt pc 49 then
      if h : pc = 48 then some ⟨(.iload_n 1, 49, .inl 0, 0, 0), by subst h; exact ⟨dX9_either3_48, rfl, trivial⟩⟩ else none
     else
      if h : pc = 49 then some ⟨(.ireturn, 50, .inl 0, 0, 0), by subst h; exact ⟨dX9_either3_49, rfl, rfl⟩⟩ else none

noncomputable def mt46 (pc : Nat) : Option {e : mE // mOK yX9_both3 cX9_both3 3 ((Option.some ClassFile.FieldType.int)) pc e} :=
 bif Nat.blt pc 24 then
  bif Nat.blt pc 12 then
   bif Nat.blt pc 5 then
    bif Nat.blt pc 1 then
     if h : pc = 0 then some ⟨(.aload_n 0, 1, .inl 0, 0, 0), by subst h; exact ⟨dX9_both3_0, rfl, trivial⟩⟩ else none
    else
     bif Nat.blt pc 4 then
      if h : pc = 1 then some ⟨(.invokevirtual 255, 4, .inl 0, 24, 14), by subst h; exact ⟨dX9_both3_1, rfl, ⟨by decide, q1570, q1572, qs76, _, rfl, rfl⟩⟩⟩ else none
     else
      if h : pc = 4 then some ⟨(.istore_n 1, 5, .inl 0, 0, 0), by subst h; exact ⟨dX9_both3_4, rfl, (show (1 : Nat) < 3 by decide)⟩⟩ else none
   else
    bif Nat.blt pc 8 then
     bif Nat.blt pc 6 then
      if h : pc = 5 then some ⟨(.aload_n 0, 6, .inl 0, 0, 0), by subst h; exact ⟨dX9_both3_5, rfl, trivial⟩⟩ else none
     else
      if h : pc = 6 then some ⟨(.bipush 97, 8, .inl 97, 0, 0), by subst h; exact ⟨dX9_both3_6, rfl, ⟨97, rfl, by decide⟩⟩⟩ else none
    else
     bif Nat.blt pc 10 then
      if h : pc = 8 then some ⟨(.bipush 110, 10, .inl 110, 0, 0), by subst h; exact ⟨dX9_both3_8, rfl, ⟨110, rfl, by decide⟩⟩⟩ else none
     else
      if h : pc = 10 then some ⟨(.bipush 100, 12, .inl 100, 0, 0), by subst h; exact ⟨dX9_both3_10, rfl, ⟨100, rfl, by decide⟩⟩⟩ else none
  else
   bif Nat.blt pc 16 then
    bif Nat.blt pc 14 then
     bif Nat.blt pc 13 then
      if h : pc = 12 then some ⟨(.iconst 0, 13, .inl 0, 0, 0), by subst h; exact ⟨dX9_both3_12, rfl, ⟨0, rfl, by decide⟩⟩⟩ else none
     else
      if h : pc = 13 then some ⟨(.iconst 0, 14, .inl 0, 0, 0), by subst h; exact ⟨dX9_both3_13, rfl, ⟨0, rfl, by decide⟩⟩⟩ else none
    else
     bif Nat.blt pc 15 then
      if h : pc = 14 then some ⟨(.iconst 0, 15, .inl 0, 0, 0), by subst h; exact ⟨dX9_both3_14, rfl, ⟨0, rfl, by decide⟩⟩⟩ else none
     else
      if h : pc = 15 then some ⟨(.iconst 0, 16, .inl 0, 0, 0), by subst h; exact ⟨dX9_both3_15, rfl, ⟨0, rfl, by decide⟩⟩⟩ else none
   else
    bif Nat.blt pc 20 then
     bif Nat.blt pc 17 then
      if h : pc = 16 then some ⟨(.iconst 0, 17, .inl 0, 0, 0), by subst h; exact ⟨dX9_both3_16, rfl, ⟨0, rfl, by decide⟩⟩⟩ else none
     else
      if h : pc = 17 then some ⟨(.invokevirtual 173, 20, .inl 0, 14, 14), by subst h; exact ⟨dX9_both3_17, rfl, ⟨by decide, q1530, q1532, qs66, _, rfl, rfl⟩⟩⟩ else none
    else
     bif Nat.blt pc 23 then
      if h : pc = 20 then some ⟨(.ifCond .eq 29, 23, .inl 0, 49, 0), by subst h; exact ⟨dX9_both3_20, rfl, (show ((20 : Nat) : Int) + (29) = ((49 : Nat) : Int) by decide)⟩⟩ else none
     else
      if h : pc = 23 then some ⟨(.aload_n 0, 24, .inl 0, 0, 0), by subst h; exact ⟨dX9_both3_23, rfl, trivial⟩⟩ else none
 else
  bif Nat.blt pc 37 then
   bif Nat.blt pc 31 then
    bif Nat.blt pc 27 then
     if h : pc = 24 then some ⟨(.invokevirtual 170, 27, .inl 0, 12, 14), by subst h; exact ⟨dX9_both3_24, rfl, ⟨by decide, q1518, q1520, qs64, _, rfl, rfl⟩⟩⟩ else none
    else
     bif Nat.blt pc 28 then
      if h : pc = 27 then some ⟨(.aload_n 0, 28, .inl 0, 0, 0), by subst h; exact ⟨dX9_both3_27, rfl, trivial⟩⟩ else none
     else
      if h : pc = 28 then some ⟨(.invokevirtual 255, 31, .inl 0, 24, 14), by subst h; exact ⟨dX9_both3_28, rfl, ⟨by decide, q1570, q1572, qs76, _, rfl, rfl⟩⟩⟩ else none
   else
    bif Nat.blt pc 33 then
     bif Nat.blt pc 32 then
      if h : pc = 31 then some ⟨(.istore_n 2, 32, .inl 0, 0, 0), by subst h; exact ⟨dX9_both3_31, rfl, (show (2 : Nat) < 3 by decide)⟩⟩ else none
     else
      if h : pc = 32 then some ⟨(.iload_n 1, 33, .inl 0, 0, 0), by subst h; exact ⟨dX9_both3_32, rfl, trivial⟩⟩ else none
    else
     bif Nat.blt pc 36 then
      if h : pc = 33 then some ⟨(.ifCond .eq 11, 36, .inl 0, 44, 0), by subst h; exact ⟨dX9_both3_33, rfl, (show ((33 : Nat) : Int) + (11) = ((44 : Nat) : Int) by decide)⟩⟩ else none
     else
      if h : pc = 36 then some ⟨(.iload_n 2, 37, .inl 0, 0, 0), by subst h; exact ⟨dX9_both3_36, rfl, trivial⟩⟩ else none
  else
   bif Nat.blt pc 45 then
    bif Nat.blt pc 41 then
     bif Nat.blt pc 40 then
      if h : pc = 37 then some ⟨(.ifCond .eq 7, 40, .inl 0, 44, 0), by subst h; exact ⟨dX9_both3_37, rfl, (show ((37 : Nat) : Int) + (7) = ((44 : Nat) : Int) by decide)⟩⟩ else none
     else
      if h : pc = 40 then some ⟨(.iconst 1, 41, .inl 1, 0, 0), by subst h; exact ⟨dX9_both3_40, rfl, ⟨1, rfl, by decide⟩⟩⟩ else none
    else
     bif Nat.blt pc 44 then
      if h : pc = 41 then some ⟨(.goto 4, 44, .inl 0, 45, 0), by subst h; exact ⟨dX9_both3_41, rfl, (show ((41 : Nat) : Int) + (4) = ((45 : Nat) : Int) by decide)⟩⟩ else none
     else
      if h : pc = 44 then some ⟨(.iconst 0, 45, .inl 0, 0, 0), by subst h; exact ⟨dX9_both3_44, rfl, ⟨0, rfl, by decide⟩⟩⟩ else none
   else
    bif Nat.blt pc 49 then
     bif Nat.blt pc 46 then
      if h : pc = 45 then some ⟨(.istore_n 1, 46, .inl 0, 0, 0), by subst h; exact ⟨dX9_both3_45, rfl, (show (1 : Nat) < 3 by decide)⟩⟩ else none
     else
      if h : pc = 46 then some ⟨(.goto (-41), 49, .inl 0, 5, 0), by subst h; exact ⟨dX9_both3_46, rfl, (show ((46 : Nat) : Int) + ((-41)) = ((5 : Nat) : Int) by decide)⟩⟩ else none
    else
     bif Nat.blt pc 50 then
      if h : pc = 49 then some ⟨(.iload_n 1, 50, .inl 0, 0, 0), by subst h; exact ⟨dX9_both3_49, rfl, trivial⟩⟩ else none
     else
      if h : pc = 50 then some ⟨(.ireturn, 51, .inl 0, 0, 0), by subst h; exact ⟨dX9_both3_50, rfl, rfl⟩⟩ else none

noncomputable def mt47 (pc : Nat) : Option {e : mE // mOK yX9_added1 cX9_added1 4 ((Option.some ClassFile.FieldType.int)) pc e} :=
 bif Nat.blt pc 39 then
  bif Nat.blt pc 17 then
   bif Nat.blt pc 6 then
    bif Nat.blt pc 4 then
     bif Nat.blt pc 1 then
      if h : pc = 0 then some ⟨(.aload_n 0, 1, .inl 0, 0, 0), by subst h; exact ⟨dX9_added1_0, rfl, trivial⟩⟩ else none
     else
      if h : pc = 1 then some ⟨(.invokevirtual 285, 4, .inl 0, 48, 14), by subst h; exact ⟨dX9_added1_1, rfl, ⟨by decide, q1668, q1670, qs100, _, rfl, rfl⟩⟩⟩ else none
    else
     bif Nat.blt pc 5 then
      if h : pc = 4 then some ⟨(.istore_n 1, 5, .inl 0, 0, 0), by subst h; exact ⟨dX9_added1_4, rfl, (show (1 : Nat) < 4 by decide)⟩⟩ else none
     else
      if h : pc = 5 then some ⟨(.aload_n 0, 6, .inl 0, 0, 0), by subst h; exact ⟨dX9_added1_5, rfl, trivial⟩⟩ else none
   else
    bif Nat.blt pc 11 then
     bif Nat.blt pc 8 then
      if h : pc = 6 then some ⟨(.bipush 43, 8, .inl 43, 0, 0), by subst h; exact ⟨dX9_added1_6, rfl, ⟨43, rfl, by decide⟩⟩⟩ else none
     else
      if h : pc = 8 then some ⟨(.invokevirtual 195, 11, .inl 0, 30, 14), by subst h; exact ⟨dX9_added1_8, rfl, ⟨by decide, q1594, q1596, qs82, _, rfl, rfl⟩⟩⟩ else none
    else
     bif Nat.blt pc 14 then
      if h : pc = 11 then some ⟨(.ifCond .ne 12, 14, .inl 0, 23, 0), by subst h; exact ⟨dX9_added1_11, rfl, (show ((11 : Nat) : Int) + (12) = ((23 : Nat) : Int) by decide)⟩⟩ else none
     else
      bif Nat.blt pc 15 then
       if h : pc = 14 then some ⟨(.aload_n 0, 15, .inl 0, 0, 0), by subst h; exact ⟨dX9_added1_14, rfl, trivial⟩⟩ else none
      else
       if h : pc = 15 then some ⟨(.bipush 45, 17, .inl 45, 0, 0), by subst h; exact ⟨dX9_added1_15, rfl, ⟨45, rfl, by decide⟩⟩⟩ else none
  else
   bif Nat.blt pc 30 then
    bif Nat.blt pc 23 then
     bif Nat.blt pc 20 then
      if h : pc = 17 then some ⟨(.invokevirtual 195, 20, .inl 0, 30, 14), by subst h; exact ⟨dX9_added1_17, rfl, ⟨by decide, q1594, q1596, qs82, _, rfl, rfl⟩⟩⟩ else none
     else
      if h : pc = 20 then some ⟨(.ifCond .eq 46, 23, .inl 0, 66, 0), by subst h; exact ⟨dX9_added1_20, rfl, (show ((20 : Nat) : Int) + (46) = ((66 : Nat) : Int) by decide)⟩⟩ else none
    else
     bif Nat.blt pc 24 then
      if h : pc = 23 then some ⟨(.aload_n 0, 24, .inl 0, 0, 0), by subst h; exact ⟨dX9_added1_23, rfl, trivial⟩⟩ else none
     else
      bif Nat.blt pc 27 then
       if h : pc = 24 then some ⟨(.getfield 150, 27, .inr (.inl 0), 23, 14), by subst h; exact ⟨dX9_added1_24, rfl, ⟨⟨_, rfl, by decide, _, Or.inl q1381, Or.inl rfl⟩, (show mKd 14 23 = 5 by rfl)⟩⟩⟩ else none
      else
       if h : pc = 27 then some ⟨(.ldc2_w 212, 30, .inr (.inl 43), 0, 0), by subst h; exact ⟨dX9_added1_27, rfl, ⟨_, rfl, q1602⟩⟩⟩ else none
   else
    bif Nat.blt pc 34 then
     bif Nat.blt pc 31 then
      if h : pc = 30 then some ⟨(.lcmp, 31, .inl 0, 0, 0), by subst h; exact ⟨dX9_added1_30, rfl, trivial⟩⟩ else none
     else
      if h : pc = 31 then some ⟨(.ifCond .ne 7, 34, .inl 0, 38, 0), by subst h; exact ⟨dX9_added1_31, rfl, (show ((31 : Nat) : Int) + (7) = ((38 : Nat) : Int) by decide)⟩⟩ else none
    else
     bif Nat.blt pc 35 then
      if h : pc = 34 then some ⟨(.iconst 1, 35, .inl 1, 0, 0), by subst h; exact ⟨dX9_added1_34, rfl, ⟨1, rfl, by decide⟩⟩⟩ else none
     else
      bif Nat.blt pc 38 then
       if h : pc = 35 then some ⟨(.goto 4, 38, .inl 0, 39, 0), by subst h; exact ⟨dX9_added1_35, rfl, (show ((35 : Nat) : Int) + (4) = ((39 : Nat) : Int) by decide)⟩⟩ else none
      else
       if h : pc = 38 then some ⟨(.iconst 0, 39, .inl 0, 0, 0), by subst h; exact ⟨dX9_added1_38, rfl, ⟨0, rfl, by decide⟩⟩⟩ else none
 else
  bif Nat.blt pc 54 then
   bif Nat.blt pc 45 then
    bif Nat.blt pc 41 then
     bif Nat.blt pc 40 then
      if h : pc = 39 then some ⟨(.istore_n 2, 40, .inl 0, 0, 0), by subst h; exact ⟨dX9_added1_39, rfl, (show (2 : Nat) < 4 by decide)⟩⟩ else none
     else
      if h : pc = 40 then some ⟨(.aload_n 0, 41, .inl 0, 0, 0), by subst h; exact ⟨dX9_added1_40, rfl, trivial⟩⟩ else none
    else
     bif Nat.blt pc 44 then
      if h : pc = 41 then some ⟨(.invokevirtual 170, 44, .inl 0, 12, 14), by subst h; exact ⟨dX9_added1_41, rfl, ⟨by decide, q1518, q1520, qs64, _, rfl, rfl⟩⟩⟩ else none
     else
      if h : pc = 44 then some ⟨(.aload_n 0, 45, .inl 0, 0, 0), by subst h; exact ⟨dX9_added1_44, rfl, trivial⟩⟩ else none
   else
    bif Nat.blt pc 49 then
     bif Nat.blt pc 48 then
      if h : pc = 45 then some ⟨(.invokevirtual 285, 48, .inl 0, 48, 14), by subst h; exact ⟨dX9_added1_45, rfl, ⟨by decide, q1668, q1670, qs100, _, rfl, rfl⟩⟩⟩ else none
     else
      if h : pc = 48 then some ⟨(.istore_n 3, 49, .inl 0, 0, 0), by subst h; exact ⟨dX9_added1_48, rfl, (show (3 : Nat) < 4 by decide)⟩⟩ else none
    else
     bif Nat.blt pc 50 then
      if h : pc = 49 then some ⟨(.iload_n 2, 50, .inl 0, 0, 0), by subst h; exact ⟨dX9_added1_49, rfl, trivial⟩⟩ else none
     else
      bif Nat.blt pc 53 then
       if h : pc = 50 then some ⟨(.ifCond .eq 9, 53, .inl 0, 59, 0), by subst h; exact ⟨dX9_added1_50, rfl, (show ((50 : Nat) : Int) + (9) = ((59 : Nat) : Int) by decide)⟩⟩ else none
      else
       if h : pc = 53 then some ⟨(.iload_n 1, 54, .inl 0, 0, 0), by subst h; exact ⟨dX9_added1_53, rfl, trivial⟩⟩ else none
  else
   bif Nat.blt pc 61 then
    bif Nat.blt pc 56 then
     bif Nat.blt pc 55 then
      if h : pc = 54 then some ⟨(.iload_n 3, 55, .inl 0, 0, 0), by subst h; exact ⟨dX9_added1_54, rfl, trivial⟩⟩ else none
     else
      if h : pc = 55 then some ⟨(.iadd, 56, .inl 0, 0, 0), by subst h; exact ⟨dX9_added1_55, rfl, trivial⟩⟩ else none
    else
     bif Nat.blt pc 59 then
      if h : pc = 56 then some ⟨(.goto 6, 59, .inl 0, 62, 0), by subst h; exact ⟨dX9_added1_56, rfl, (show ((56 : Nat) : Int) + (6) = ((62 : Nat) : Int) by decide)⟩⟩ else none
     else
      bif Nat.blt pc 60 then
       if h : pc = 59 then some ⟨(.iload_n 1, 60, .inl 0, 0, 0), by subst h; exact ⟨dX9_added1_59, rfl, trivial⟩⟩ else none
      else
       if h : pc = 60 then some ⟨(.iload_n 3, 61, .inl 0, 0, 0), by subst h; exact ⟨dX9_added1_60, rfl, trivial⟩⟩ else none
   else
    bif Nat.blt pc 63 then
     bif Nat.blt pc 62 then
      if h : pc = 61 then some ⟨(.isub, 62, .inl 0, 0, 0), by subst h; exact ⟨dX9_added1_61, rfl, trivial⟩⟩ else none
     else
      if h : pc = 62 then some ⟨(.istore_n 1, 63, .inl 0, 0, 0), by subst h; exact ⟨dX9_added1_62, rfl, (show (1 : Nat) < 4 by decide)⟩⟩ else none
    else
     bif Nat.blt pc 66 then
      if h : pc = 63 then some ⟨(.goto (-58), 66, .inl 0, 5, 0), by subst h; exact ⟨dX9_added1_63, rfl, (show ((63 : Nat) : Int) + ((-58)) = ((5 : Nat) : Int) by decide)⟩⟩ else none
     else
      bif Nat.blt pc 67 then
       if h : pc = 66 then some ⟨(.iload_n 1, 67, .inl 0, 0, 0), by subst h; exact ⟨dX9_added1_66, rfl, trivial⟩⟩ else none
      else
       if h : pc = 67 then some ⟨(.ireturn, 68, .inl 0, 0, 0), by subst h; exact ⟨dX9_added1_67, rfl, rfl⟩⟩ else none

noncomputable def mt48 (pc : Nat) : Option {e : mE // mOK yX9_term1 cX9_term1 2 ((Option.some ClassFile.FieldType.int)) pc e} :=
 bif Nat.blt pc 15 then
  bif Nat.blt pc 6 then
   bif Nat.blt pc 4 then
    bif Nat.blt pc 1 then
     if h : pc = 0 then some ⟨(.aload_n 0, 1, .inl 0, 0, 0), by subst h; exact ⟨dX9_term1_0, rfl, trivial⟩⟩ else none
    else
     if h : pc = 1 then some ⟨(.invokevirtual 282, 4, .inl 0, 49, 14), by subst h; exact ⟨dX9_term1_1, rfl, ⟨by decide, q1672, q1674, qs101, _, rfl, rfl⟩⟩⟩ else none
   else
    bif Nat.blt pc 5 then
     if h : pc = 4 then some ⟨(.istore_n 1, 5, .inl 0, 0, 0), by subst h; exact ⟨dX9_term1_4, rfl, (show (1 : Nat) < 2 by decide)⟩⟩ else none
    else
     if h : pc = 5 then some ⟨(.aload_n 0, 6, .inl 0, 0, 0), by subst h; exact ⟨dX9_term1_5, rfl, trivial⟩⟩ else none
  else
   bif Nat.blt pc 11 then
    bif Nat.blt pc 8 then
     if h : pc = 6 then some ⟨(.bipush 42, 8, .inl 42, 0, 0), by subst h; exact ⟨dX9_term1_6, rfl, ⟨42, rfl, by decide⟩⟩⟩ else none
    else
     if h : pc = 8 then some ⟨(.invokevirtual 195, 11, .inl 0, 30, 14), by subst h; exact ⟨dX9_term1_8, rfl, ⟨by decide, q1594, q1596, qs82, _, rfl, rfl⟩⟩⟩ else none
   else
    bif Nat.blt pc 14 then
     if h : pc = 11 then some ⟨(.ifCond .eq 17, 14, .inl 0, 28, 0), by subst h; exact ⟨dX9_term1_11, rfl, (show ((11 : Nat) : Int) + (17) = ((28 : Nat) : Int) by decide)⟩⟩ else none
    else
     if h : pc = 14 then some ⟨(.aload_n 0, 15, .inl 0, 0, 0), by subst h; exact ⟨dX9_term1_14, rfl, trivial⟩⟩ else none
 else
  bif Nat.blt pc 23 then
   bif Nat.blt pc 19 then
    bif Nat.blt pc 18 then
     if h : pc = 15 then some ⟨(.invokevirtual 170, 18, .inl 0, 12, 14), by subst h; exact ⟨dX9_term1_15, rfl, ⟨by decide, q1518, q1520, qs64, _, rfl, rfl⟩⟩⟩ else none
    else
     if h : pc = 18 then some ⟨(.iload_n 1, 19, .inl 0, 0, 0), by subst h; exact ⟨dX9_term1_18, rfl, trivial⟩⟩ else none
   else
    bif Nat.blt pc 20 then
     if h : pc = 19 then some ⟨(.aload_n 0, 20, .inl 0, 0, 0), by subst h; exact ⟨dX9_term1_19, rfl, trivial⟩⟩ else none
    else
     if h : pc = 20 then some ⟨(.invokevirtual 282, 23, .inl 0, 49, 14), by subst h; exact ⟨dX9_term1_20, rfl, ⟨by decide, q1672, q1674, qs101, _, rfl, rfl⟩⟩⟩ else none
  else
   bif Nat.blt pc 25 then
    bif Nat.blt pc 24 then
     if h : pc = 23 then some ⟨(.imul, 24, .inl 0, 0, 0), by subst h; exact ⟨dX9_term1_23, rfl, trivial⟩⟩ else none
    else
     if h : pc = 24 then some ⟨(.istore_n 1, 25, .inl 0, 0, 0), by subst h; exact ⟨dX9_term1_24, rfl, (show (1 : Nat) < 2 by decide)⟩⟩ else none
   else
    bif Nat.blt pc 28 then
     if h : pc = 25 then some ⟨(.goto (-20), 28, .inl 0, 5, 0), by subst h; exact ⟨dX9_term1_25, rfl, (show ((25 : Nat) : Int) + ((-20)) = ((5 : Nat) : Int) by decide)⟩⟩ else none
    else
     bif Nat.blt pc 29 then
      if h : pc = 28 then some ⟨(.iload_n 1, 29, .inl 0, 0, 0), by subst h; exact ⟨dX9_term1_28, rfl, trivial⟩⟩ else none
     else
      if h : pc = 29 then some ⟨(.ireturn, 30, .inl 0, 0, 0), by subst h; exact ⟨dX9_term1_29, rfl, rfl⟩⟩ else none

noncomputable def mt49 (pc : Nat) : Option {e : mE // mOK yX9_atom1 cX9_atom1 2 ((Option.some ClassFile.FieldType.int)) pc e} :=
 bif Nat.blt pc 78 then
  bif Nat.blt pc 37 then
   bif Nat.blt pc 19 then
    bif Nat.blt pc 8 then
     bif Nat.blt pc 2 then
      bif Nat.blt pc 1 then
       if h : pc = 0 then some ⟨(.iconst 0, 1, .inl 0, 0, 0), by subst h; exact ⟨dX9_atom1_0, rfl, ⟨0, rfl, by decide⟩⟩⟩ else none
      else
       if h : pc = 1 then some ⟨(.istore_n 1, 2, .inl 0, 0, 0), by subst h; exact ⟨dX9_atom1_1, rfl, (show (1 : Nat) < 2 by decide)⟩⟩ else none
     else
      bif Nat.blt pc 3 then
       if h : pc = 2 then some ⟨(.aload_n 0, 3, .inl 0, 0, 0), by subst h; exact ⟨dX9_atom1_2, rfl, trivial⟩⟩ else none
      else
       bif Nat.blt pc 5 then
        if h : pc = 3 then some ⟨(.bipush 45, 5, .inl 45, 0, 0), by subst h; exact ⟨dX9_atom1_3, rfl, ⟨45, rfl, by decide⟩⟩⟩ else none
       else
        if h : pc = 5 then some ⟨(.invokevirtual 195, 8, .inl 0, 30, 14), by subst h; exact ⟨dX9_atom1_5, rfl, ⟨by decide, q1594, q1596, qs82, _, rfl, rfl⟩⟩⟩ else none
    else
     bif Nat.blt pc 12 then
      bif Nat.blt pc 11 then
       if h : pc = 8 then some ⟨(.ifCond .eq 29, 11, .inl 0, 37, 0), by subst h; exact ⟨dX9_atom1_8, rfl, (show ((8 : Nat) : Int) + (29) = ((37 : Nat) : Int) by decide)⟩⟩ else none
      else
       if h : pc = 11 then some ⟨(.aload_n 0, 12, .inl 0, 0, 0), by subst h; exact ⟨dX9_atom1_11, rfl, trivial⟩⟩ else none
     else
      bif Nat.blt pc 15 then
       if h : pc = 12 then some ⟨(.invokevirtual 198, 15, .inl 0, 21, 14), by subst h; exact ⟨dX9_atom1_12, rfl, ⟨by decide, q1558, q1560, qs73, _, rfl, rfl⟩⟩⟩ else none
      else
       bif Nat.blt pc 18 then
        if h : pc = 15 then some ⟨(.ifCond .eq 146, 18, .inl 0, 161, 0), by subst h; exact ⟨dX9_atom1_15, rfl, (show ((15 : Nat) : Int) + (146) = ((161 : Nat) : Int) by decide)⟩⟩ else none
       else
        if h : pc = 18 then some ⟨(.aload_n 0, 19, .inl 0, 0, 0), by subst h; exact ⟨dX9_atom1_18, rfl, trivial⟩⟩ else none
   else
    bif Nat.blt pc 26 then
     bif Nat.blt pc 23 then
      bif Nat.blt pc 22 then
       if h : pc = 19 then some ⟨(.invokevirtual 264, 22, .inl 0, 44, 14), by subst h; exact ⟨dX9_atom1_19, rfl, ⟨by decide, q1652, q1654, qs96, _, rfl, rfl⟩⟩⟩ else none
      else
       if h : pc = 22 then some ⟨(.ineg, 23, .inl 0, 0, 0), by subst h; exact ⟨dX9_atom1_22, rfl, trivial⟩⟩ else none
     else
      bif Nat.blt pc 24 then
       if h : pc = 23 then some ⟨(.istore_n 1, 24, .inl 0, 0, 0), by subst h; exact ⟨dX9_atom1_23, rfl, (show (1 : Nat) < 2 by decide)⟩⟩ else none
      else
       bif Nat.blt pc 25 then
        if h : pc = 24 then some ⟨(.aload_n 0, 25, .inl 0, 0, 0), by subst h; exact ⟨dX9_atom1_24, rfl, trivial⟩⟩ else none
       else
        if h : pc = 25 then some ⟨(.dup, 26, .inl 0, 0, 0), by subst h; exact ⟨dX9_atom1_25, rfl, trivial⟩⟩ else none
    else
     bif Nat.blt pc 30 then
      bif Nat.blt pc 29 then
       if h : pc = 26 then some ⟨(.getfield 164, 29, .inl 0, 24, 14), by subst h; exact ⟨dX9_atom1_26, rfl, ⟨⟨_, rfl, by decide, _, Or.inl q1382, Or.inl rfl⟩, (show mKd 14 24 ≤ 4 by decide)⟩⟩⟩ else none
      else
       if h : pc = 29 then some ⟨(.iconst 1, 30, .inl 1, 0, 0), by subst h; exact ⟨dX9_atom1_29, rfl, ⟨1, rfl, by decide⟩⟩⟩ else none
     else
      bif Nat.blt pc 31 then
       if h : pc = 30 then some ⟨(.isub, 31, .inl 0, 0, 0), by subst h; exact ⟨dX9_atom1_30, rfl, trivial⟩⟩ else none
      else
       bif Nat.blt pc 34 then
        if h : pc = 31 then some ⟨(.putfield 164, 34, .inl 0, 24, 14), by subst h; exact ⟨dX9_atom1_31, rfl, ⟨⟨_, rfl, by decide, _, Or.inl q1382, Or.inl rfl⟩, (show mKd 14 24 ≤ 4 by decide), by decide, by decide, (fun q h => Or.inl (by cases h; rfl))⟩⟩⟩ else none
       else
        if h : pc = 34 then some ⟨(.goto 127, 37, .inl 0, 161, 0), by subst h; exact ⟨dX9_atom1_34, rfl, (show ((34 : Nat) : Int) + (127) = ((161 : Nat) : Int) by decide)⟩⟩ else none
  else
   bif Nat.blt pc 58 then
    bif Nat.blt pc 47 then
     bif Nat.blt pc 40 then
      bif Nat.blt pc 38 then
       if h : pc = 37 then some ⟨(.aload_n 0, 38, .inl 0, 0, 0), by subst h; exact ⟨dX9_atom1_37, rfl, trivial⟩⟩ else none
      else
       if h : pc = 38 then some ⟨(.bipush 40, 40, .inl 40, 0, 0), by subst h; exact ⟨dX9_atom1_38, rfl, ⟨40, rfl, by decide⟩⟩⟩ else none
     else
      bif Nat.blt pc 43 then
       if h : pc = 40 then some ⟨(.invokevirtual 195, 43, .inl 0, 30, 14), by subst h; exact ⟨dX9_atom1_40, rfl, ⟨by decide, q1594, q1596, qs82, _, rfl, rfl⟩⟩⟩ else none
      else
       bif Nat.blt pc 46 then
        if h : pc = 43 then some ⟨(.ifCond .eq 52, 46, .inl 0, 95, 0), by subst h; exact ⟨dX9_atom1_43, rfl, (show ((43 : Nat) : Int) + (52) = ((95 : Nat) : Int) by decide)⟩⟩ else none
       else
        if h : pc = 46 then some ⟨(.aload_n 0, 47, .inl 0, 0, 0), by subst h; exact ⟨dX9_atom1_46, rfl, trivial⟩⟩ else none
    else
     bif Nat.blt pc 53 then
      bif Nat.blt pc 50 then
       if h : pc = 47 then some ⟨(.invokevirtual 198, 50, .inl 0, 21, 14), by subst h; exact ⟨dX9_atom1_47, rfl, ⟨by decide, q1558, q1560, qs73, _, rfl, rfl⟩⟩⟩ else none
      else
       if h : pc = 50 then some ⟨(.ifCond .eq 111, 53, .inl 0, 161, 0), by subst h; exact ⟨dX9_atom1_50, rfl, (show ((50 : Nat) : Int) + (111) = ((161 : Nat) : Int) by decide)⟩⟩ else none
     else
      bif Nat.blt pc 54 then
       if h : pc = 53 then some ⟨(.aload_n 0, 54, .inl 0, 0, 0), by subst h; exact ⟨dX9_atom1_53, rfl, trivial⟩⟩ else none
      else
       bif Nat.blt pc 57 then
        if h : pc = 54 then some ⟨(.invokevirtual 279, 57, .inl 0, 50, 14), by subst h; exact ⟨dX9_atom1_54, rfl, ⟨by decide, q1676, q1678, qs102, _, rfl, rfl⟩⟩⟩ else none
       else
        if h : pc = 57 then some ⟨(.istore_n 1, 58, .inl 0, 0, 0), by subst h; exact ⟨dX9_atom1_57, rfl, (show (1 : Nat) < 2 by decide)⟩⟩ else none
   else
    bif Nat.blt pc 68 then
     bif Nat.blt pc 61 then
      bif Nat.blt pc 59 then
       if h : pc = 58 then some ⟨(.aload_n 0, 59, .inl 0, 0, 0), by subst h; exact ⟨dX9_atom1_58, rfl, trivial⟩⟩ else none
      else
       if h : pc = 59 then some ⟨(.bipush 41, 61, .inl 41, 0, 0), by subst h; exact ⟨dX9_atom1_59, rfl, ⟨41, rfl, by decide⟩⟩⟩ else none
     else
      bif Nat.blt pc 64 then
       if h : pc = 61 then some ⟨(.invokevirtual 195, 64, .inl 0, 30, 14), by subst h; exact ⟨dX9_atom1_61, rfl, ⟨by decide, q1594, q1596, qs82, _, rfl, rfl⟩⟩⟩ else none
      else
       bif Nat.blt pc 67 then
        if h : pc = 64 then some ⟨(.ifCond .ne 7, 67, .inl 0, 71, 0), by subst h; exact ⟨dX9_atom1_64, rfl, (show ((64 : Nat) : Int) + (7) = ((71 : Nat) : Int) by decide)⟩⟩ else none
       else
        if h : pc = 67 then some ⟨(.aload_n 0, 68, .inl 0, 0, 0), by subst h; exact ⟨dX9_atom1_67, rfl, trivial⟩⟩ else none
    else
     bif Nat.blt pc 73 then
      bif Nat.blt pc 71 then
       if h : pc = 68 then some ⟨(.invokevirtual 167, 71, .inl 0, 17, 14), by subst h; exact ⟨dX9_atom1_68, rfl, ⟨by decide, q1542, q1544, qs69, _, rfl, rfl⟩⟩⟩ else none
      else
       bif Nat.blt pc 72 then
        if h : pc = 71 then some ⟨(.aload_n 0, 72, .inl 0, 0, 0), by subst h; exact ⟨dX9_atom1_71, rfl, trivial⟩⟩ else none
       else
        if h : pc = 72 then some ⟨(.dup, 73, .inl 0, 0, 0), by subst h; exact ⟨dX9_atom1_72, rfl, trivial⟩⟩ else none
     else
      bif Nat.blt pc 76 then
       if h : pc = 73 then some ⟨(.getfield 164, 76, .inl 0, 24, 14), by subst h; exact ⟨dX9_atom1_73, rfl, ⟨⟨_, rfl, by decide, _, Or.inl q1382, Or.inl rfl⟩, (show mKd 14 24 ≤ 4 by decide)⟩⟩⟩ else none
      else
       bif Nat.blt pc 77 then
        if h : pc = 76 then some ⟨(.iconst 1, 77, .inl 1, 0, 0), by subst h; exact ⟨dX9_atom1_76, rfl, ⟨1, rfl, by decide⟩⟩⟩ else none
       else
        if h : pc = 77 then some ⟨(.isub, 78, .inl 0, 0, 0), by subst h; exact ⟨dX9_atom1_77, rfl, trivial⟩⟩ else none
 else
  bif Nat.blt pc 120 then
   bif Nat.blt pc 102 then
    bif Nat.blt pc 89 then
     bif Nat.blt pc 82 then
      bif Nat.blt pc 81 then
       if h : pc = 78 then some ⟨(.putfield 164, 81, .inl 0, 24, 14), by subst h; exact ⟨dX9_atom1_78, rfl, ⟨⟨_, rfl, by decide, _, Or.inl q1382, Or.inl rfl⟩, (show mKd 14 24 ≤ 4 by decide), by decide, by decide, (fun q h => Or.inl (by cases h; rfl))⟩⟩⟩ else none
      else
       if h : pc = 81 then some ⟨(.aload_n 0, 82, .inl 0, 0, 0), by subst h; exact ⟨dX9_atom1_81, rfl, trivial⟩⟩ else none
     else
      bif Nat.blt pc 85 then
       if h : pc = 82 then some ⟨(.getfield 154, 85, .inl 0, 25, 14), by subst h; exact ⟨dX9_atom1_82, rfl, ⟨⟨_, rfl, by decide, _, Or.inl q1383, Or.inl rfl⟩, (show mKd 14 25 ≤ 4 by decide)⟩⟩⟩ else none
      else
       bif Nat.blt pc 88 then
        if h : pc = 85 then some ⟨(.ifCond .ne 76, 88, .inl 0, 161, 0), by subst h; exact ⟨dX9_atom1_85, rfl, (show ((85 : Nat) : Int) + (76) = ((161 : Nat) : Int) by decide)⟩⟩ else none
       else
        if h : pc = 88 then some ⟨(.aload_n 0, 89, .inl 0, 0, 0), by subst h; exact ⟨dX9_atom1_88, rfl, trivial⟩⟩ else none
    else
     bif Nat.blt pc 95 then
      bif Nat.blt pc 92 then
       if h : pc = 89 then some ⟨(.invokevirtual 170, 92, .inl 0, 12, 14), by subst h; exact ⟨dX9_atom1_89, rfl, ⟨by decide, q1518, q1520, qs64, _, rfl, rfl⟩⟩⟩ else none
      else
       if h : pc = 92 then some ⟨(.goto 69, 95, .inl 0, 161, 0), by subst h; exact ⟨dX9_atom1_92, rfl, (show ((92 : Nat) : Int) + (69) = ((161 : Nat) : Int) by decide)⟩⟩ else none
     else
      bif Nat.blt pc 96 then
       if h : pc = 95 then some ⟨(.aload_n 0, 96, .inl 0, 0, 0), by subst h; exact ⟨dX9_atom1_95, rfl, trivial⟩⟩ else none
      else
       bif Nat.blt pc 99 then
        if h : pc = 96 then some ⟨(.getfield 154, 99, .inl 0, 25, 14), by subst h; exact ⟨dX9_atom1_96, rfl, ⟨⟨_, rfl, by decide, _, Or.inl q1383, Or.inl rfl⟩, (show mKd 14 25 ≤ 4 by decide)⟩⟩⟩ else none
       else
        if h : pc = 99 then some ⟨(.ifCond .ne 24, 102, .inl 0, 123, 0), by subst h; exact ⟨dX9_atom1_99, rfl, (show ((99 : Nat) : Int) + (24) = ((123 : Nat) : Int) by decide)⟩⟩ else none
   else
    bif Nat.blt pc 111 then
     bif Nat.blt pc 106 then
      bif Nat.blt pc 103 then
       if h : pc = 102 then some ⟨(.aload_n 0, 103, .inl 0, 0, 0), by subst h; exact ⟨dX9_atom1_102, rfl, trivial⟩⟩ else none
      else
       if h : pc = 103 then some ⟨(.getfield 139, 106, .inl 0, 21, 14), by subst h; exact ⟨dX9_atom1_103, rfl, ⟨⟨_, rfl, by decide, _, Or.inl q1379, Or.inl rfl⟩, (show mKd 14 21 ≤ 4 by decide)⟩⟩⟩ else none
     else
      bif Nat.blt pc 107 then
       if h : pc = 106 then some ⟨(.iconst 2, 107, .inl 2, 0, 0), by subst h; exact ⟨dX9_atom1_106, rfl, ⟨2, rfl, by decide⟩⟩⟩ else none
      else
       bif Nat.blt pc 110 then
        if h : pc = 107 then some ⟨(.if_icmp .ne 16, 110, .inl 0, 123, 0), by subst h; exact ⟨dX9_atom1_107, rfl, (show ((107 : Nat) : Int) + (16) = ((123 : Nat) : Int) by decide)⟩⟩ else none
       else
        if h : pc = 110 then some ⟨(.aload_n 0, 111, .inl 0, 0, 0), by subst h; exact ⟨dX9_atom1_110, rfl, trivial⟩⟩ else none
    else
     bif Nat.blt pc 115 then
      bif Nat.blt pc 114 then
       if h : pc = 111 then some ⟨(.getfield 150, 114, .inr (.inl 0), 23, 14), by subst h; exact ⟨dX9_atom1_111, rfl, ⟨⟨_, rfl, by decide, _, Or.inl q1381, Or.inl rfl⟩, (show mKd 14 23 = 5 by rfl)⟩⟩⟩ else none
      else
       if h : pc = 114 then some ⟨(.l2i, 115, .inl 0, 0, 0), by subst h; exact ⟨dX9_atom1_114, rfl, trivial⟩⟩ else none
     else
      bif Nat.blt pc 116 then
       if h : pc = 115 then some ⟨(.istore_n 1, 116, .inl 0, 0, 0), by subst h; exact ⟨dX9_atom1_115, rfl, (show (1 : Nat) < 2 by decide)⟩⟩ else none
      else
       bif Nat.blt pc 117 then
        if h : pc = 116 then some ⟨(.aload_n 0, 117, .inl 0, 0, 0), by subst h; exact ⟨dX9_atom1_116, rfl, trivial⟩⟩ else none
       else
        if h : pc = 117 then some ⟨(.invokevirtual 170, 120, .inl 0, 12, 14), by subst h; exact ⟨dX9_atom1_117, rfl, ⟨by decide, q1518, q1520, qs64, _, rfl, rfl⟩⟩⟩ else none
  else
   bif Nat.blt pc 142 then
    bif Nat.blt pc 131 then
     bif Nat.blt pc 124 then
      bif Nat.blt pc 123 then
       if h : pc = 120 then some ⟨(.goto 41, 123, .inl 0, 161, 0), by subst h; exact ⟨dX9_atom1_120, rfl, (show ((120 : Nat) : Int) + (41) = ((161 : Nat) : Int) by decide)⟩⟩ else none
      else
       if h : pc = 123 then some ⟨(.aload_n 0, 124, .inl 0, 0, 0), by subst h; exact ⟨dX9_atom1_123, rfl, trivial⟩⟩ else none
     else
      bif Nat.blt pc 127 then
       if h : pc = 124 then some ⟨(.getfield 154, 127, .inl 0, 25, 14), by subst h; exact ⟨dX9_atom1_124, rfl, ⟨⟨_, rfl, by decide, _, Or.inl q1383, Or.inl rfl⟩, (show mKd 14 25 ≤ 4 by decide)⟩⟩⟩ else none
      else
       bif Nat.blt pc 130 then
        if h : pc = 127 then some ⟨(.ifCond .ne 30, 130, .inl 0, 157, 0), by subst h; exact ⟨dX9_atom1_127, rfl, (show ((127 : Nat) : Int) + (30) = ((157 : Nat) : Int) by decide)⟩⟩ else none
       else
        if h : pc = 130 then some ⟨(.aload_n 0, 131, .inl 0, 0, 0), by subst h; exact ⟨dX9_atom1_130, rfl, trivial⟩⟩ else none
    else
     bif Nat.blt pc 135 then
      bif Nat.blt pc 134 then
       if h : pc = 131 then some ⟨(.getfield 139, 134, .inl 0, 21, 14), by subst h; exact ⟨dX9_atom1_131, rfl, ⟨⟨_, rfl, by decide, _, Or.inl q1379, Or.inl rfl⟩, (show mKd 14 21 ≤ 4 by decide)⟩⟩⟩ else none
      else
       if h : pc = 134 then some ⟨(.iconst 1, 135, .inl 1, 0, 0), by subst h; exact ⟨dX9_atom1_134, rfl, ⟨1, rfl, by decide⟩⟩⟩ else none
     else
      bif Nat.blt pc 138 then
       if h : pc = 135 then some ⟨(.if_icmp .ne 22, 138, .inl 0, 157, 0), by subst h; exact ⟨dX9_atom1_135, rfl, (show ((135 : Nat) : Int) + (22) = ((157 : Nat) : Int) by decide)⟩⟩ else none
      else
       bif Nat.blt pc 139 then
        if h : pc = 138 then some ⟨(.aload_n 0, 139, .inl 0, 0, 0), by subst h; exact ⟨dX9_atom1_138, rfl, trivial⟩⟩ else none
       else
        if h : pc = 139 then some ⟨(.invokevirtual 202, 142, .inl 0, 31, 14), by subst h; exact ⟨dX9_atom1_139, rfl, ⟨by decide, q1598, q1600, qs83, _, rfl, rfl⟩⟩⟩ else none
   else
    bif Nat.blt pc 151 then
     bif Nat.blt pc 144 then
      bif Nat.blt pc 143 then
       if h : pc = 142 then some ⟨(.istore_n 1, 143, .inl 0, 0, 0), by subst h; exact ⟨dX9_atom1_142, rfl, (show (1 : Nat) < 2 by decide)⟩⟩ else none
      else
       if h : pc = 143 then some ⟨(.aload_n 0, 144, .inl 0, 0, 0), by subst h; exact ⟨dX9_atom1_143, rfl, trivial⟩⟩ else none
     else
      bif Nat.blt pc 147 then
       if h : pc = 144 then some ⟨(.getfield 154, 147, .inl 0, 25, 14), by subst h; exact ⟨dX9_atom1_144, rfl, ⟨⟨_, rfl, by decide, _, Or.inl q1383, Or.inl rfl⟩, (show mKd 14 25 ≤ 4 by decide)⟩⟩⟩ else none
      else
       bif Nat.blt pc 150 then
        if h : pc = 147 then some ⟨(.ifCond .ne 14, 150, .inl 0, 161, 0), by subst h; exact ⟨dX9_atom1_147, rfl, (show ((147 : Nat) : Int) + (14) = ((161 : Nat) : Int) by decide)⟩⟩ else none
       else
        if h : pc = 150 then some ⟨(.aload_n 0, 151, .inl 0, 0, 0), by subst h; exact ⟨dX9_atom1_150, rfl, trivial⟩⟩ else none
    else
     bif Nat.blt pc 158 then
      bif Nat.blt pc 154 then
       if h : pc = 151 then some ⟨(.invokevirtual 170, 154, .inl 0, 12, 14), by subst h; exact ⟨dX9_atom1_151, rfl, ⟨by decide, q1518, q1520, qs64, _, rfl, rfl⟩⟩⟩ else none
      else
       bif Nat.blt pc 157 then
        if h : pc = 154 then some ⟨(.goto 7, 157, .inl 0, 161, 0), by subst h; exact ⟨dX9_atom1_154, rfl, (show ((154 : Nat) : Int) + (7) = ((161 : Nat) : Int) by decide)⟩⟩ else none
       else
        if h : pc = 157 then some ⟨(.aload_n 0, 158, .inl 0, 0, 0), by subst h; exact ⟨dX9_atom1_157, rfl, trivial⟩⟩ else none
     else
      bif Nat.blt pc 161 then
       if h : pc = 158 then some ⟨(.invokevirtual 167, 161, .inl 0, 17, 14), by subst h; exact ⟨dX9_atom1_158, rfl, ⟨by decide, q1542, q1544, qs69, _, rfl, rfl⟩⟩⟩ else none
      else
       bif Nat.blt pc 162 then
        if h : pc = 161 then some ⟨(.iload_n 1, 162, .inl 0, 0, 0), by subst h; exact ⟨dX9_atom1_161, rfl, trivial⟩⟩ else none
       else
        if h : pc = 162 then some ⟨(.ireturn, 163, .inl 0, 0, 0), by subst h; exact ⟨dX9_atom1_162, rfl, rfl⟩⟩ else none

noncomputable def mt50 (pc : Nat) : Option {e : mE // mOK yX9_either2 cX9_either2 3 ((Option.some ClassFile.FieldType.int)) pc e} :=
 bif Nat.blt pc 23 then
  bif Nat.blt pc 11 then
   bif Nat.blt pc 5 then
    bif Nat.blt pc 1 then
     if h : pc = 0 then some ⟨(.aload_n 0, 1, .inl 0, 0, 0), by subst h; exact ⟨dX9_either2_0, rfl, trivial⟩⟩ else none
    else
     bif Nat.blt pc 4 then
      if h : pc = 1 then some ⟨(.invokevirtual 276, 4, .inl 0, 51, 14), by subst h; exact ⟨dX9_either2_1, rfl, ⟨by decide, q1680, q1682, qs103, _, rfl, rfl⟩⟩⟩ else none
     else
      if h : pc = 4 then some ⟨(.istore_n 1, 5, .inl 0, 0, 0), by subst h; exact ⟨dX9_either2_4, rfl, (show (1 : Nat) < 3 by decide)⟩⟩ else none
   else
    bif Nat.blt pc 8 then
     bif Nat.blt pc 6 then
      if h : pc = 5 then some ⟨(.aload_n 0, 6, .inl 0, 0, 0), by subst h; exact ⟨dX9_either2_5, rfl, trivial⟩⟩ else none
     else
      if h : pc = 6 then some ⟨(.bipush 111, 8, .inl 111, 0, 0), by subst h; exact ⟨dX9_either2_6, rfl, ⟨111, rfl, by decide⟩⟩⟩ else none
    else
     bif Nat.blt pc 10 then
      if h : pc = 8 then some ⟨(.bipush 114, 10, .inl 114, 0, 0), by subst h; exact ⟨dX9_either2_8, rfl, ⟨114, rfl, by decide⟩⟩⟩ else none
     else
      if h : pc = 10 then some ⟨(.iconst 0, 11, .inl 0, 0, 0), by subst h; exact ⟨dX9_either2_10, rfl, ⟨0, rfl, by decide⟩⟩⟩ else none
  else
   bif Nat.blt pc 15 then
    bif Nat.blt pc 13 then
     bif Nat.blt pc 12 then
      if h : pc = 11 then some ⟨(.iconst 0, 12, .inl 0, 0, 0), by subst h; exact ⟨dX9_either2_11, rfl, ⟨0, rfl, by decide⟩⟩⟩ else none
     else
      if h : pc = 12 then some ⟨(.iconst 0, 13, .inl 0, 0, 0), by subst h; exact ⟨dX9_either2_12, rfl, ⟨0, rfl, by decide⟩⟩⟩ else none
    else
     bif Nat.blt pc 14 then
      if h : pc = 13 then some ⟨(.iconst 0, 14, .inl 0, 0, 0), by subst h; exact ⟨dX9_either2_13, rfl, ⟨0, rfl, by decide⟩⟩⟩ else none
     else
      if h : pc = 14 then some ⟨(.iconst 0, 15, .inl 0, 0, 0), by subst h; exact ⟨dX9_either2_14, rfl, ⟨0, rfl, by decide⟩⟩⟩ else none
   else
    bif Nat.blt pc 19 then
     bif Nat.blt pc 16 then
      if h : pc = 15 then some ⟨(.iconst 0, 16, .inl 0, 0, 0), by subst h; exact ⟨dX9_either2_15, rfl, ⟨0, rfl, by decide⟩⟩⟩ else none
     else
      if h : pc = 16 then some ⟨(.invokevirtual 173, 19, .inl 0, 14, 14), by subst h; exact ⟨dX9_either2_16, rfl, ⟨by decide, q1530, q1532, qs66, _, rfl, rfl⟩⟩⟩ else none
    else
     bif Nat.blt pc 22 then
      if h : pc = 19 then some ⟨(.ifCond .eq 29, 22, .inl 0, 48, 0), by subst h; exact ⟨dX9_either2_19, rfl, (show ((19 : Nat) : Int) + (29) = ((48 : Nat) : Int) by decide)⟩⟩ else none
     else
      if h : pc = 22 then some ⟨(.aload_n 0, 23, .inl 0, 0, 0), by subst h; exact ⟨dX9_either2_22, rfl, trivial⟩⟩ else none
 else
  bif Nat.blt pc 36 then
   bif Nat.blt pc 30 then
    bif Nat.blt pc 26 then
     if h : pc = 23 then some ⟨(.invokevirtual 170, 26, .inl 0, 12, 14), by subst h; exact ⟨dX9_either2_23, rfl, ⟨by decide, q1518, q1520, qs64, _, rfl, rfl⟩⟩⟩ else none
    else
     bif Nat.blt pc 27 then
      if h : pc = 26 then some ⟨(.aload_n 0, 27, .inl 0, 0, 0), by subst h; exact ⟨dX9_either2_26, rfl, trivial⟩⟩ else none
     else
      if h : pc = 27 then some ⟨(.invokevirtual 276, 30, .inl 0, 51, 14), by subst h; exact ⟨dX9_either2_27, rfl, ⟨by decide, q1680, q1682, qs103, _, rfl, rfl⟩⟩⟩ else none
   else
    bif Nat.blt pc 32 then
     bif Nat.blt pc 31 then
      if h : pc = 30 then some ⟨(.istore_n 2, 31, .inl 0, 0, 0), by subst h; exact ⟨dX9_either2_30, rfl, (show (2 : Nat) < 3 by decide)⟩⟩ else none
     else
      if h : pc = 31 then some ⟨(.iload_n 1, 32, .inl 0, 0, 0), by subst h; exact ⟨dX9_either2_31, rfl, trivial⟩⟩ else none
    else
     bif Nat.blt pc 35 then
      if h : pc = 32 then some ⟨(.ifCond .ne 7, 35, .inl 0, 39, 0), by subst h; exact ⟨dX9_either2_32, rfl, (show ((32 : Nat) : Int) + (7) = ((39 : Nat) : Int) by decide)⟩⟩ else none
     else
      if h : pc = 35 then some ⟨(.iload_n 2, 36, .inl 0, 0, 0), by subst h; exact ⟨dX9_either2_35, rfl, trivial⟩⟩ else none
  else
   bif Nat.blt pc 44 then
    bif Nat.blt pc 40 then
     bif Nat.blt pc 39 then
      if h : pc = 36 then some ⟨(.ifCond .eq 7, 39, .inl 0, 43, 0), by subst h; exact ⟨dX9_either2_36, rfl, (show ((36 : Nat) : Int) + (7) = ((43 : Nat) : Int) by decide)⟩⟩ else none
     else
      if h : pc = 39 then some ⟨(.iconst 1, 40, .inl 1, 0, 0), by subst h; exact ⟨dX9_either2_39, rfl, ⟨1, rfl, by decide⟩⟩⟩ else none
    else
     bif Nat.blt pc 43 then
      if h : pc = 40 then some ⟨(.goto 4, 43, .inl 0, 44, 0), by subst h; exact ⟨dX9_either2_40, rfl, (show ((40 : Nat) : Int) + (4) = ((44 : Nat) : Int) by decide)⟩⟩ else none
     else
      if h : pc = 43 then some ⟨(.iconst 0, 44, .inl 0, 0, 0), by subst h; exact ⟨dX9_either2_43, rfl, ⟨0, rfl, by decide⟩⟩⟩ else none
   else
    bif Nat.blt pc 48 then
     bif Nat.blt pc 45 then
      if h : pc = 44 then some ⟨(.istore_n 1, 45, .inl 0, 0, 0), by subst h; exact ⟨dX9_either2_44, rfl, (show (1 : Nat) < 3 by decide)⟩⟩ else none
     else
      if h : pc = 45 then some ⟨(.goto (-40), 48, .inl 0, 5, 0), by subst h; exact ⟨dX9_either2_45, rfl, (show ((45 : Nat) : Int) + ((-40)) = ((5 : Nat) : Int) by decide)⟩⟩ else none
    else
     bif Nat.blt pc 49 then
      if h : pc = 48 then some ⟨(.iload_n 1, 49, .inl 0, 0, 0), by subst h; exact ⟨dX9_either2_48, rfl, trivial⟩⟩ else none
     else
      if h : pc = 49 then some ⟨(.ireturn, 50, .inl 0, 0, 0), by subst h; exact ⟨dX9_either2_49, rfl, rfl⟩⟩ else none

noncomputable def mt51 (pc : Nat) : Option {e : mE // mOK yX9_both2 cX9_both2 3 ((Option.some ClassFile.FieldType.int)) pc e} :=
 bif Nat.blt pc 24 then
  bif Nat.blt pc 12 then
   bif Nat.blt pc 5 then
    bif Nat.blt pc 1 then
     if h : pc = 0 then some ⟨(.aload_n 0, 1, .inl 0, 0, 0), by subst h; exact ⟨dX9_both2_0, rfl, trivial⟩⟩ else none
    else
     bif Nat.blt pc 4 then
      if h : pc = 1 then some ⟨(.invokevirtual 273, 4, .inl 0, 23, 14), by subst h; exact ⟨dX9_both2_1, rfl, ⟨by decide, q1566, q1568, qs75, _, rfl, rfl⟩⟩⟩ else none
     else
      if h : pc = 4 then some ⟨(.istore_n 1, 5, .inl 0, 0, 0), by subst h; exact ⟨dX9_both2_4, rfl, (show (1 : Nat) < 3 by decide)⟩⟩ else none
   else
    bif Nat.blt pc 8 then
     bif Nat.blt pc 6 then
      if h : pc = 5 then some ⟨(.aload_n 0, 6, .inl 0, 0, 0), by subst h; exact ⟨dX9_both2_5, rfl, trivial⟩⟩ else none
     else
      if h : pc = 6 then some ⟨(.bipush 97, 8, .inl 97, 0, 0), by subst h; exact ⟨dX9_both2_6, rfl, ⟨97, rfl, by decide⟩⟩⟩ else none
    else
     bif Nat.blt pc 10 then
      if h : pc = 8 then some ⟨(.bipush 110, 10, .inl 110, 0, 0), by subst h; exact ⟨dX9_both2_8, rfl, ⟨110, rfl, by decide⟩⟩⟩ else none
     else
      if h : pc = 10 then some ⟨(.bipush 100, 12, .inl 100, 0, 0), by subst h; exact ⟨dX9_both2_10, rfl, ⟨100, rfl, by decide⟩⟩⟩ else none
  else
   bif Nat.blt pc 16 then
    bif Nat.blt pc 14 then
     bif Nat.blt pc 13 then
      if h : pc = 12 then some ⟨(.iconst 0, 13, .inl 0, 0, 0), by subst h; exact ⟨dX9_both2_12, rfl, ⟨0, rfl, by decide⟩⟩⟩ else none
     else
      if h : pc = 13 then some ⟨(.iconst 0, 14, .inl 0, 0, 0), by subst h; exact ⟨dX9_both2_13, rfl, ⟨0, rfl, by decide⟩⟩⟩ else none
    else
     bif Nat.blt pc 15 then
      if h : pc = 14 then some ⟨(.iconst 0, 15, .inl 0, 0, 0), by subst h; exact ⟨dX9_both2_14, rfl, ⟨0, rfl, by decide⟩⟩⟩ else none
     else
      if h : pc = 15 then some ⟨(.iconst 0, 16, .inl 0, 0, 0), by subst h; exact ⟨dX9_both2_15, rfl, ⟨0, rfl, by decide⟩⟩⟩ else none
   else
    bif Nat.blt pc 20 then
     bif Nat.blt pc 17 then
      if h : pc = 16 then some ⟨(.iconst 0, 17, .inl 0, 0, 0), by subst h; exact ⟨dX9_both2_16, rfl, ⟨0, rfl, by decide⟩⟩⟩ else none
     else
      if h : pc = 17 then some ⟨(.invokevirtual 173, 20, .inl 0, 14, 14), by subst h; exact ⟨dX9_both2_17, rfl, ⟨by decide, q1530, q1532, qs66, _, rfl, rfl⟩⟩⟩ else none
    else
     bif Nat.blt pc 23 then
      if h : pc = 20 then some ⟨(.ifCond .eq 29, 23, .inl 0, 49, 0), by subst h; exact ⟨dX9_both2_20, rfl, (show ((20 : Nat) : Int) + (29) = ((49 : Nat) : Int) by decide)⟩⟩ else none
     else
      if h : pc = 23 then some ⟨(.aload_n 0, 24, .inl 0, 0, 0), by subst h; exact ⟨dX9_both2_23, rfl, trivial⟩⟩ else none
 else
  bif Nat.blt pc 37 then
   bif Nat.blt pc 31 then
    bif Nat.blt pc 27 then
     if h : pc = 24 then some ⟨(.invokevirtual 170, 27, .inl 0, 12, 14), by subst h; exact ⟨dX9_both2_24, rfl, ⟨by decide, q1518, q1520, qs64, _, rfl, rfl⟩⟩⟩ else none
    else
     bif Nat.blt pc 28 then
      if h : pc = 27 then some ⟨(.aload_n 0, 28, .inl 0, 0, 0), by subst h; exact ⟨dX9_both2_27, rfl, trivial⟩⟩ else none
     else
      if h : pc = 28 then some ⟨(.invokevirtual 273, 31, .inl 0, 23, 14), by subst h; exact ⟨dX9_both2_28, rfl, ⟨by decide, q1566, q1568, qs75, _, rfl, rfl⟩⟩⟩ else none
   else
    bif Nat.blt pc 33 then
     bif Nat.blt pc 32 then
      if h : pc = 31 then some ⟨(.istore_n 2, 32, .inl 0, 0, 0), by subst h; exact ⟨dX9_both2_31, rfl, (show (2 : Nat) < 3 by decide)⟩⟩ else none
     else
      if h : pc = 32 then some ⟨(.iload_n 1, 33, .inl 0, 0, 0), by subst h; exact ⟨dX9_both2_32, rfl, trivial⟩⟩ else none
    else
     bif Nat.blt pc 36 then
      if h : pc = 33 then some ⟨(.ifCond .eq 11, 36, .inl 0, 44, 0), by subst h; exact ⟨dX9_both2_33, rfl, (show ((33 : Nat) : Int) + (11) = ((44 : Nat) : Int) by decide)⟩⟩ else none
     else
      if h : pc = 36 then some ⟨(.iload_n 2, 37, .inl 0, 0, 0), by subst h; exact ⟨dX9_both2_36, rfl, trivial⟩⟩ else none
  else
   bif Nat.blt pc 45 then
    bif Nat.blt pc 41 then
     bif Nat.blt pc 40 then
      if h : pc = 37 then some ⟨(.ifCond .eq 7, 40, .inl 0, 44, 0), by subst h; exact ⟨dX9_both2_37, rfl, (show ((37 : Nat) : Int) + (7) = ((44 : Nat) : Int) by decide)⟩⟩ else none
     else
      if h : pc = 40 then some ⟨(.iconst 1, 41, .inl 1, 0, 0), by subst h; exact ⟨dX9_both2_40, rfl, ⟨1, rfl, by decide⟩⟩⟩ else none
    else
     bif Nat.blt pc 44 then
      if h : pc = 41 then some ⟨(.goto 4, 44, .inl 0, 45, 0), by subst h; exact ⟨dX9_both2_41, rfl, (show ((41 : Nat) : Int) + (4) = ((45 : Nat) : Int) by decide)⟩⟩ else none
     else
      if h : pc = 44 then some ⟨(.iconst 0, 45, .inl 0, 0, 0), by subst h; exact ⟨dX9_both2_44, rfl, ⟨0, rfl, by decide⟩⟩⟩ else none
   else
    bif Nat.blt pc 49 then
     bif Nat.blt pc 46 then
      if h : pc = 45 then some ⟨(.istore_n 1, 46, .inl 0, 0, 0), by subst h; exact ⟨dX9_both2_45, rfl, (show (1 : Nat) < 3 by decide)⟩⟩ else none
     else
      if h : pc = 46 then some ⟨(.goto (-41), 49, .inl 0, 5, 0), by subst h; exact ⟨dX9_both2_46, rfl, (show ((46 : Nat) : Int) + ((-41)) = ((5 : Nat) : Int) by decide)⟩⟩ else none
    else
     bif Nat.blt pc 50 then
      if h : pc = 49 then some ⟨(.iload_n 1, 50, .inl 0, 0, 0), by subst h; exact ⟨dX9_both2_49, rfl, trivial⟩⟩ else none
     else
      if h : pc = 50 then some ⟨(.ireturn, 51, .inl 0, 0, 0), by subst h; exact ⟨dX9_both2_50, rfl, rfl⟩⟩ else none

noncomputable def mt52 (pc : Nat) : Option {e : mE // mOK yX9_added0 cX9_added0 4 ((Option.some ClassFile.FieldType.int)) pc e} :=
 bif Nat.blt pc 39 then
  bif Nat.blt pc 17 then
   bif Nat.blt pc 6 then
    bif Nat.blt pc 4 then
     bif Nat.blt pc 1 then
      if h : pc = 0 then some ⟨(.aload_n 0, 1, .inl 0, 0, 0), by subst h; exact ⟨dX9_added0_0, rfl, trivial⟩⟩ else none
     else
      if h : pc = 1 then some ⟨(.invokevirtual 303, 4, .inl 0, 53, 14), by subst h; exact ⟨dX9_added0_1, rfl, ⟨by decide, q1688, q1690, qs105, _, rfl, rfl⟩⟩⟩ else none
    else
     bif Nat.blt pc 5 then
      if h : pc = 4 then some ⟨(.istore_n 1, 5, .inl 0, 0, 0), by subst h; exact ⟨dX9_added0_4, rfl, (show (1 : Nat) < 4 by decide)⟩⟩ else none
     else
      if h : pc = 5 then some ⟨(.aload_n 0, 6, .inl 0, 0, 0), by subst h; exact ⟨dX9_added0_5, rfl, trivial⟩⟩ else none
   else
    bif Nat.blt pc 11 then
     bif Nat.blt pc 8 then
      if h : pc = 6 then some ⟨(.bipush 43, 8, .inl 43, 0, 0), by subst h; exact ⟨dX9_added0_6, rfl, ⟨43, rfl, by decide⟩⟩⟩ else none
     else
      if h : pc = 8 then some ⟨(.invokevirtual 195, 11, .inl 0, 30, 14), by subst h; exact ⟨dX9_added0_8, rfl, ⟨by decide, q1594, q1596, qs82, _, rfl, rfl⟩⟩⟩ else none
    else
     bif Nat.blt pc 14 then
      if h : pc = 11 then some ⟨(.ifCond .ne 12, 14, .inl 0, 23, 0), by subst h; exact ⟨dX9_added0_11, rfl, (show ((11 : Nat) : Int) + (12) = ((23 : Nat) : Int) by decide)⟩⟩ else none
     else
      bif Nat.blt pc 15 then
       if h : pc = 14 then some ⟨(.aload_n 0, 15, .inl 0, 0, 0), by subst h; exact ⟨dX9_added0_14, rfl, trivial⟩⟩ else none
      else
       if h : pc = 15 then some ⟨(.bipush 45, 17, .inl 45, 0, 0), by subst h; exact ⟨dX9_added0_15, rfl, ⟨45, rfl, by decide⟩⟩⟩ else none
  else
   bif Nat.blt pc 30 then
    bif Nat.blt pc 23 then
     bif Nat.blt pc 20 then
      if h : pc = 17 then some ⟨(.invokevirtual 195, 20, .inl 0, 30, 14), by subst h; exact ⟨dX9_added0_17, rfl, ⟨by decide, q1594, q1596, qs82, _, rfl, rfl⟩⟩⟩ else none
     else
      if h : pc = 20 then some ⟨(.ifCond .eq 46, 23, .inl 0, 66, 0), by subst h; exact ⟨dX9_added0_20, rfl, (show ((20 : Nat) : Int) + (46) = ((66 : Nat) : Int) by decide)⟩⟩ else none
    else
     bif Nat.blt pc 24 then
      if h : pc = 23 then some ⟨(.aload_n 0, 24, .inl 0, 0, 0), by subst h; exact ⟨dX9_added0_23, rfl, trivial⟩⟩ else none
     else
      bif Nat.blt pc 27 then
       if h : pc = 24 then some ⟨(.getfield 150, 27, .inr (.inl 0), 23, 14), by subst h; exact ⟨dX9_added0_24, rfl, ⟨⟨_, rfl, by decide, _, Or.inl q1381, Or.inl rfl⟩, (show mKd 14 23 = 5 by rfl)⟩⟩⟩ else none
      else
       if h : pc = 27 then some ⟨(.ldc2_w 212, 30, .inr (.inl 43), 0, 0), by subst h; exact ⟨dX9_added0_27, rfl, ⟨_, rfl, q1602⟩⟩⟩ else none
   else
    bif Nat.blt pc 34 then
     bif Nat.blt pc 31 then
      if h : pc = 30 then some ⟨(.lcmp, 31, .inl 0, 0, 0), by subst h; exact ⟨dX9_added0_30, rfl, trivial⟩⟩ else none
     else
      if h : pc = 31 then some ⟨(.ifCond .ne 7, 34, .inl 0, 38, 0), by subst h; exact ⟨dX9_added0_31, rfl, (show ((31 : Nat) : Int) + (7) = ((38 : Nat) : Int) by decide)⟩⟩ else none
    else
     bif Nat.blt pc 35 then
      if h : pc = 34 then some ⟨(.iconst 1, 35, .inl 1, 0, 0), by subst h; exact ⟨dX9_added0_34, rfl, ⟨1, rfl, by decide⟩⟩⟩ else none
     else
      bif Nat.blt pc 38 then
       if h : pc = 35 then some ⟨(.goto 4, 38, .inl 0, 39, 0), by subst h; exact ⟨dX9_added0_35, rfl, (show ((35 : Nat) : Int) + (4) = ((39 : Nat) : Int) by decide)⟩⟩ else none
      else
       if h : pc = 38 then some ⟨(.iconst 0, 39, .inl 0, 0, 0), by subst h; exact ⟨dX9_added0_38, rfl, ⟨0, rfl, by decide⟩⟩⟩ else none
 else
  bif Nat.blt pc 54 then
   bif Nat.blt pc 45 then
    bif Nat.blt pc 41 then
     bif Nat.blt pc 40 then
      if h : pc = 39 then some ⟨(.istore_n 2, 40, .inl 0, 0, 0), by subst h; exact ⟨dX9_added0_39, rfl, (show (2 : Nat) < 4 by decide)⟩⟩ else none
     else
      if h : pc = 40 then some ⟨(.aload_n 0, 41, .inl 0, 0, 0), by subst h; exact ⟨dX9_added0_40, rfl, trivial⟩⟩ else none
    else
     bif Nat.blt pc 44 then
      if h : pc = 41 then some ⟨(.invokevirtual 170, 44, .inl 0, 12, 14), by subst h; exact ⟨dX9_added0_41, rfl, ⟨by decide, q1518, q1520, qs64, _, rfl, rfl⟩⟩⟩ else none
     else
      if h : pc = 44 then some ⟨(.aload_n 0, 45, .inl 0, 0, 0), by subst h; exact ⟨dX9_added0_44, rfl, trivial⟩⟩ else none
   else
    bif Nat.blt pc 49 then
     bif Nat.blt pc 48 then
      if h : pc = 45 then some ⟨(.invokevirtual 303, 48, .inl 0, 53, 14), by subst h; exact ⟨dX9_added0_45, rfl, ⟨by decide, q1688, q1690, qs105, _, rfl, rfl⟩⟩⟩ else none
     else
      if h : pc = 48 then some ⟨(.istore_n 3, 49, .inl 0, 0, 0), by subst h; exact ⟨dX9_added0_48, rfl, (show (3 : Nat) < 4 by decide)⟩⟩ else none
    else
     bif Nat.blt pc 50 then
      if h : pc = 49 then some ⟨(.iload_n 2, 50, .inl 0, 0, 0), by subst h; exact ⟨dX9_added0_49, rfl, trivial⟩⟩ else none
     else
      bif Nat.blt pc 53 then
       if h : pc = 50 then some ⟨(.ifCond .eq 9, 53, .inl 0, 59, 0), by subst h; exact ⟨dX9_added0_50, rfl, (show ((50 : Nat) : Int) + (9) = ((59 : Nat) : Int) by decide)⟩⟩ else none
      else
       if h : pc = 53 then some ⟨(.iload_n 1, 54, .inl 0, 0, 0), by subst h; exact ⟨dX9_added0_53, rfl, trivial⟩⟩ else none
  else
   bif Nat.blt pc 61 then
    bif Nat.blt pc 56 then
     bif Nat.blt pc 55 then
      if h : pc = 54 then some ⟨(.iload_n 3, 55, .inl 0, 0, 0), by subst h; exact ⟨dX9_added0_54, rfl, trivial⟩⟩ else none
     else
      if h : pc = 55 then some ⟨(.iadd, 56, .inl 0, 0, 0), by subst h; exact ⟨dX9_added0_55, rfl, trivial⟩⟩ else none
    else
     bif Nat.blt pc 59 then
      if h : pc = 56 then some ⟨(.goto 6, 59, .inl 0, 62, 0), by subst h; exact ⟨dX9_added0_56, rfl, (show ((56 : Nat) : Int) + (6) = ((62 : Nat) : Int) by decide)⟩⟩ else none
     else
      bif Nat.blt pc 60 then
       if h : pc = 59 then some ⟨(.iload_n 1, 60, .inl 0, 0, 0), by subst h; exact ⟨dX9_added0_59, rfl, trivial⟩⟩ else none
      else
       if h : pc = 60 then some ⟨(.iload_n 3, 61, .inl 0, 0, 0), by subst h; exact ⟨dX9_added0_60, rfl, trivial⟩⟩ else none
   else
    bif Nat.blt pc 63 then
     bif Nat.blt pc 62 then
      if h : pc = 61 then some ⟨(.isub, 62, .inl 0, 0, 0), by subst h; exact ⟨dX9_added0_61, rfl, trivial⟩⟩ else none
     else
      if h : pc = 62 then some ⟨(.istore_n 1, 63, .inl 0, 0, 0), by subst h; exact ⟨dX9_added0_62, rfl, (show (1 : Nat) < 4 by decide)⟩⟩ else none
    else
     bif Nat.blt pc 66 then
      if h : pc = 63 then some ⟨(.goto (-58), 66, .inl 0, 5, 0), by subst h; exact ⟨dX9_added0_63, rfl, (show ((63 : Nat) : Int) + ((-58)) = ((5 : Nat) : Int) by decide)⟩⟩ else none
     else
      bif Nat.blt pc 67 then
       if h : pc = 66 then some ⟨(.iload_n 1, 67, .inl 0, 0, 0), by subst h; exact ⟨dX9_added0_66, rfl, trivial⟩⟩ else none
      else
       if h : pc = 67 then some ⟨(.ireturn, 68, .inl 0, 0, 0), by subst h; exact ⟨dX9_added0_67, rfl, rfl⟩⟩ else none

noncomputable def mt53 (pc : Nat) : Option {e : mE // mOK yX9_term0 cX9_term0 2 ((Option.some ClassFile.FieldType.int)) pc e} :=
 bif Nat.blt pc 15 then
  bif Nat.blt pc 6 then
   bif Nat.blt pc 4 then
    bif Nat.blt pc 1 then
     if h : pc = 0 then some ⟨(.aload_n 0, 1, .inl 0, 0, 0), by subst h; exact ⟨dX9_term0_0, rfl, trivial⟩⟩ else none
    else
     if h : pc = 1 then some ⟨(.invokevirtual 300, 4, .inl 0, 54, 14), by subst h; exact ⟨dX9_term0_1, rfl, ⟨by decide, q1692, q1694, qs106, _, rfl, rfl⟩⟩⟩ else none
   else
    bif Nat.blt pc 5 then
     if h : pc = 4 then some ⟨(.istore_n 1, 5, .inl 0, 0, 0), by subst h; exact ⟨dX9_term0_4, rfl, (show (1 : Nat) < 2 by decide)⟩⟩ else none
    else
     if h : pc = 5 then some ⟨(.aload_n 0, 6, .inl 0, 0, 0), by subst h; exact ⟨dX9_term0_5, rfl, trivial⟩⟩ else none
  else
   bif Nat.blt pc 11 then
    bif Nat.blt pc 8 then
     if h : pc = 6 then some ⟨(.bipush 42, 8, .inl 42, 0, 0), by subst h; exact ⟨dX9_term0_6, rfl, ⟨42, rfl, by decide⟩⟩⟩ else none
    else
     if h : pc = 8 then some ⟨(.invokevirtual 195, 11, .inl 0, 30, 14), by subst h; exact ⟨dX9_term0_8, rfl, ⟨by decide, q1594, q1596, qs82, _, rfl, rfl⟩⟩⟩ else none
   else
    bif Nat.blt pc 14 then
     if h : pc = 11 then some ⟨(.ifCond .eq 17, 14, .inl 0, 28, 0), by subst h; exact ⟨dX9_term0_11, rfl, (show ((11 : Nat) : Int) + (17) = ((28 : Nat) : Int) by decide)⟩⟩ else none
    else
     if h : pc = 14 then some ⟨(.aload_n 0, 15, .inl 0, 0, 0), by subst h; exact ⟨dX9_term0_14, rfl, trivial⟩⟩ else none
 else
  bif Nat.blt pc 23 then
   bif Nat.blt pc 19 then
    bif Nat.blt pc 18 then
     if h : pc = 15 then some ⟨(.invokevirtual 170, 18, .inl 0, 12, 14), by subst h; exact ⟨dX9_term0_15, rfl, ⟨by decide, q1518, q1520, qs64, _, rfl, rfl⟩⟩⟩ else none
    else
     if h : pc = 18 then some ⟨(.iload_n 1, 19, .inl 0, 0, 0), by subst h; exact ⟨dX9_term0_18, rfl, trivial⟩⟩ else none
   else
    bif Nat.blt pc 20 then
     if h : pc = 19 then some ⟨(.aload_n 0, 20, .inl 0, 0, 0), by subst h; exact ⟨dX9_term0_19, rfl, trivial⟩⟩ else none
    else
     if h : pc = 20 then some ⟨(.invokevirtual 300, 23, .inl 0, 54, 14), by subst h; exact ⟨dX9_term0_20, rfl, ⟨by decide, q1692, q1694, qs106, _, rfl, rfl⟩⟩⟩ else none
  else
   bif Nat.blt pc 25 then
    bif Nat.blt pc 24 then
     if h : pc = 23 then some ⟨(.imul, 24, .inl 0, 0, 0), by subst h; exact ⟨dX9_term0_23, rfl, trivial⟩⟩ else none
    else
     if h : pc = 24 then some ⟨(.istore_n 1, 25, .inl 0, 0, 0), by subst h; exact ⟨dX9_term0_24, rfl, (show (1 : Nat) < 2 by decide)⟩⟩ else none
   else
    bif Nat.blt pc 28 then
     if h : pc = 25 then some ⟨(.goto (-20), 28, .inl 0, 5, 0), by subst h; exact ⟨dX9_term0_25, rfl, (show ((25 : Nat) : Int) + ((-20)) = ((5 : Nat) : Int) by decide)⟩⟩ else none
    else
     bif Nat.blt pc 29 then
      if h : pc = 28 then some ⟨(.iload_n 1, 29, .inl 0, 0, 0), by subst h; exact ⟨dX9_term0_28, rfl, trivial⟩⟩ else none
     else
      if h : pc = 29 then some ⟨(.ireturn, 30, .inl 0, 0, 0), by subst h; exact ⟨dX9_term0_29, rfl, rfl⟩⟩ else none

noncomputable def mt54 (pc : Nat) : Option {e : mE // mOK yX9_atom0 cX9_atom0 2 ((Option.some ClassFile.FieldType.int)) pc e} :=
 bif Nat.blt pc 78 then
  bif Nat.blt pc 37 then
   bif Nat.blt pc 19 then
    bif Nat.blt pc 8 then
     bif Nat.blt pc 2 then
      bif Nat.blt pc 1 then
       if h : pc = 0 then some ⟨(.iconst 0, 1, .inl 0, 0, 0), by subst h; exact ⟨dX9_atom0_0, rfl, ⟨0, rfl, by decide⟩⟩⟩ else none
      else
       if h : pc = 1 then some ⟨(.istore_n 1, 2, .inl 0, 0, 0), by subst h; exact ⟨dX9_atom0_1, rfl, (show (1 : Nat) < 2 by decide)⟩⟩ else none
     else
      bif Nat.blt pc 3 then
       if h : pc = 2 then some ⟨(.aload_n 0, 3, .inl 0, 0, 0), by subst h; exact ⟨dX9_atom0_2, rfl, trivial⟩⟩ else none
      else
       bif Nat.blt pc 5 then
        if h : pc = 3 then some ⟨(.bipush 45, 5, .inl 45, 0, 0), by subst h; exact ⟨dX9_atom0_3, rfl, ⟨45, rfl, by decide⟩⟩⟩ else none
       else
        if h : pc = 5 then some ⟨(.invokevirtual 195, 8, .inl 0, 30, 14), by subst h; exact ⟨dX9_atom0_5, rfl, ⟨by decide, q1594, q1596, qs82, _, rfl, rfl⟩⟩⟩ else none
    else
     bif Nat.blt pc 12 then
      bif Nat.blt pc 11 then
       if h : pc = 8 then some ⟨(.ifCond .eq 29, 11, .inl 0, 37, 0), by subst h; exact ⟨dX9_atom0_8, rfl, (show ((8 : Nat) : Int) + (29) = ((37 : Nat) : Int) by decide)⟩⟩ else none
      else
       if h : pc = 11 then some ⟨(.aload_n 0, 12, .inl 0, 0, 0), by subst h; exact ⟨dX9_atom0_11, rfl, trivial⟩⟩ else none
     else
      bif Nat.blt pc 15 then
       if h : pc = 12 then some ⟨(.invokevirtual 198, 15, .inl 0, 21, 14), by subst h; exact ⟨dX9_atom0_12, rfl, ⟨by decide, q1558, q1560, qs73, _, rfl, rfl⟩⟩⟩ else none
      else
       bif Nat.blt pc 18 then
        if h : pc = 15 then some ⟨(.ifCond .eq 146, 18, .inl 0, 161, 0), by subst h; exact ⟨dX9_atom0_15, rfl, (show ((15 : Nat) : Int) + (146) = ((161 : Nat) : Int) by decide)⟩⟩ else none
       else
        if h : pc = 18 then some ⟨(.aload_n 0, 19, .inl 0, 0, 0), by subst h; exact ⟨dX9_atom0_18, rfl, trivial⟩⟩ else none
   else
    bif Nat.blt pc 26 then
     bif Nat.blt pc 23 then
      bif Nat.blt pc 22 then
       if h : pc = 19 then some ⟨(.invokevirtual 282, 22, .inl 0, 49, 14), by subst h; exact ⟨dX9_atom0_19, rfl, ⟨by decide, q1672, q1674, qs101, _, rfl, rfl⟩⟩⟩ else none
      else
       if h : pc = 22 then some ⟨(.ineg, 23, .inl 0, 0, 0), by subst h; exact ⟨dX9_atom0_22, rfl, trivial⟩⟩ else none
     else
      bif Nat.blt pc 24 then
       if h : pc = 23 then some ⟨(.istore_n 1, 24, .inl 0, 0, 0), by subst h; exact ⟨dX9_atom0_23, rfl, (show (1 : Nat) < 2 by decide)⟩⟩ else none
      else
       bif Nat.blt pc 25 then
        if h : pc = 24 then some ⟨(.aload_n 0, 25, .inl 0, 0, 0), by subst h; exact ⟨dX9_atom0_24, rfl, trivial⟩⟩ else none
       else
        if h : pc = 25 then some ⟨(.dup, 26, .inl 0, 0, 0), by subst h; exact ⟨dX9_atom0_25, rfl, trivial⟩⟩ else none
    else
     bif Nat.blt pc 30 then
      bif Nat.blt pc 29 then
       if h : pc = 26 then some ⟨(.getfield 164, 29, .inl 0, 24, 14), by subst h; exact ⟨dX9_atom0_26, rfl, ⟨⟨_, rfl, by decide, _, Or.inl q1382, Or.inl rfl⟩, (show mKd 14 24 ≤ 4 by decide)⟩⟩⟩ else none
      else
       if h : pc = 29 then some ⟨(.iconst 1, 30, .inl 1, 0, 0), by subst h; exact ⟨dX9_atom0_29, rfl, ⟨1, rfl, by decide⟩⟩⟩ else none
     else
      bif Nat.blt pc 31 then
       if h : pc = 30 then some ⟨(.isub, 31, .inl 0, 0, 0), by subst h; exact ⟨dX9_atom0_30, rfl, trivial⟩⟩ else none
      else
       bif Nat.blt pc 34 then
        if h : pc = 31 then some ⟨(.putfield 164, 34, .inl 0, 24, 14), by subst h; exact ⟨dX9_atom0_31, rfl, ⟨⟨_, rfl, by decide, _, Or.inl q1382, Or.inl rfl⟩, (show mKd 14 24 ≤ 4 by decide), by decide, by decide, (fun q h => Or.inl (by cases h; rfl))⟩⟩⟩ else none
       else
        if h : pc = 34 then some ⟨(.goto 127, 37, .inl 0, 161, 0), by subst h; exact ⟨dX9_atom0_34, rfl, (show ((34 : Nat) : Int) + (127) = ((161 : Nat) : Int) by decide)⟩⟩ else none
  else
   bif Nat.blt pc 58 then
    bif Nat.blt pc 47 then
     bif Nat.blt pc 40 then
      bif Nat.blt pc 38 then
       if h : pc = 37 then some ⟨(.aload_n 0, 38, .inl 0, 0, 0), by subst h; exact ⟨dX9_atom0_37, rfl, trivial⟩⟩ else none
      else
       if h : pc = 38 then some ⟨(.bipush 40, 40, .inl 40, 0, 0), by subst h; exact ⟨dX9_atom0_38, rfl, ⟨40, rfl, by decide⟩⟩⟩ else none
     else
      bif Nat.blt pc 43 then
       if h : pc = 40 then some ⟨(.invokevirtual 195, 43, .inl 0, 30, 14), by subst h; exact ⟨dX9_atom0_40, rfl, ⟨by decide, q1594, q1596, qs82, _, rfl, rfl⟩⟩⟩ else none
      else
       bif Nat.blt pc 46 then
        if h : pc = 43 then some ⟨(.ifCond .eq 52, 46, .inl 0, 95, 0), by subst h; exact ⟨dX9_atom0_43, rfl, (show ((43 : Nat) : Int) + (52) = ((95 : Nat) : Int) by decide)⟩⟩ else none
       else
        if h : pc = 46 then some ⟨(.aload_n 0, 47, .inl 0, 0, 0), by subst h; exact ⟨dX9_atom0_46, rfl, trivial⟩⟩ else none
    else
     bif Nat.blt pc 53 then
      bif Nat.blt pc 50 then
       if h : pc = 47 then some ⟨(.invokevirtual 198, 50, .inl 0, 21, 14), by subst h; exact ⟨dX9_atom0_47, rfl, ⟨by decide, q1558, q1560, qs73, _, rfl, rfl⟩⟩⟩ else none
      else
       if h : pc = 50 then some ⟨(.ifCond .eq 111, 53, .inl 0, 161, 0), by subst h; exact ⟨dX9_atom0_50, rfl, (show ((50 : Nat) : Int) + (111) = ((161 : Nat) : Int) by decide)⟩⟩ else none
     else
      bif Nat.blt pc 54 then
       if h : pc = 53 then some ⟨(.aload_n 0, 54, .inl 0, 0, 0), by subst h; exact ⟨dX9_atom0_53, rfl, trivial⟩⟩ else none
      else
       bif Nat.blt pc 57 then
        if h : pc = 54 then some ⟨(.invokevirtual 297, 57, .inl 0, 55, 14), by subst h; exact ⟨dX9_atom0_54, rfl, ⟨by decide, q1696, q1698, qs107, _, rfl, rfl⟩⟩⟩ else none
       else
        if h : pc = 57 then some ⟨(.istore_n 1, 58, .inl 0, 0, 0), by subst h; exact ⟨dX9_atom0_57, rfl, (show (1 : Nat) < 2 by decide)⟩⟩ else none
   else
    bif Nat.blt pc 68 then
     bif Nat.blt pc 61 then
      bif Nat.blt pc 59 then
       if h : pc = 58 then some ⟨(.aload_n 0, 59, .inl 0, 0, 0), by subst h; exact ⟨dX9_atom0_58, rfl, trivial⟩⟩ else none
      else
       if h : pc = 59 then some ⟨(.bipush 41, 61, .inl 41, 0, 0), by subst h; exact ⟨dX9_atom0_59, rfl, ⟨41, rfl, by decide⟩⟩⟩ else none
     else
      bif Nat.blt pc 64 then
       if h : pc = 61 then some ⟨(.invokevirtual 195, 64, .inl 0, 30, 14), by subst h; exact ⟨dX9_atom0_61, rfl, ⟨by decide, q1594, q1596, qs82, _, rfl, rfl⟩⟩⟩ else none
      else
       bif Nat.blt pc 67 then
        if h : pc = 64 then some ⟨(.ifCond .ne 7, 67, .inl 0, 71, 0), by subst h; exact ⟨dX9_atom0_64, rfl, (show ((64 : Nat) : Int) + (7) = ((71 : Nat) : Int) by decide)⟩⟩ else none
       else
        if h : pc = 67 then some ⟨(.aload_n 0, 68, .inl 0, 0, 0), by subst h; exact ⟨dX9_atom0_67, rfl, trivial⟩⟩ else none
    else
     bif Nat.blt pc 73 then
      bif Nat.blt pc 71 then
       if h : pc = 68 then some ⟨(.invokevirtual 167, 71, .inl 0, 17, 14), by subst h; exact ⟨dX9_atom0_68, rfl, ⟨by decide, q1542, q1544, qs69, _, rfl, rfl⟩⟩⟩ else none
      else
       bif Nat.blt pc 72 then
        if h : pc = 71 then some ⟨(.aload_n 0, 72, .inl 0, 0, 0), by subst h; exact ⟨dX9_atom0_71, rfl, trivial⟩⟩ else none
       else
        if h : pc = 72 then some ⟨(.dup, 73, .inl 0, 0, 0), by subst h; exact ⟨dX9_atom0_72, rfl, trivial⟩⟩ else none
     else
      bif Nat.blt pc 76 then
       if h : pc = 73 then some ⟨(.getfield 164, 76, .inl 0, 24, 14), by subst h; exact ⟨dX9_atom0_73, rfl, ⟨⟨_, rfl, by decide, _, Or.inl q1382, Or.inl rfl⟩, (show mKd 14 24 ≤ 4 by decide)⟩⟩⟩ else none
      else
       bif Nat.blt pc 77 then
        if h : pc = 76 then some ⟨(.iconst 1, 77, .inl 1, 0, 0), by subst h; exact ⟨dX9_atom0_76, rfl, ⟨1, rfl, by decide⟩⟩⟩ else none
       else
        if h : pc = 77 then some ⟨(.isub, 78, .inl 0, 0, 0), by subst h; exact ⟨dX9_atom0_77, rfl, trivial⟩⟩ else none
 else
  bif Nat.blt pc 120 then
   bif Nat.blt pc 102 then
    bif Nat.blt pc 89 then
     bif Nat.blt pc 82 then
      bif Nat.blt pc 81 then
       if h : pc = 78 then some ⟨(.putfield 164, 81, .inl 0, 24, 14), by subst h; exact ⟨dX9_atom0_78, rfl, ⟨⟨_, rfl, by decide, _, Or.inl q1382, Or.inl rfl⟩, (show mKd 14 24 ≤ 4 by decide), by decide, by decide, (fun q h => Or.inl (by cases h; rfl))⟩⟩⟩ else none
      else
       if h : pc = 81 then some ⟨(.aload_n 0, 82, .inl 0, 0, 0), by subst h; exact ⟨dX9_atom0_81, rfl, trivial⟩⟩ else none
     else
      bif Nat.blt pc 85 then
       if h : pc = 82 then some ⟨(.getfield 154, 85, .inl 0, 25, 14), by subst h; exact ⟨dX9_atom0_82, rfl, ⟨⟨_, rfl, by decide, _, Or.inl q1383, Or.inl rfl⟩, (show mKd 14 25 ≤ 4 by decide)⟩⟩⟩ else none
      else
       bif Nat.blt pc 88 then
        if h : pc = 85 then some ⟨(.ifCond .ne 76, 88, .inl 0, 161, 0), by subst h; exact ⟨dX9_atom0_85, rfl, (show ((85 : Nat) : Int) + (76) = ((161 : Nat) : Int) by decide)⟩⟩ else none
       else
        if h : pc = 88 then some ⟨(.aload_n 0, 89, .inl 0, 0, 0), by subst h; exact ⟨dX9_atom0_88, rfl, trivial⟩⟩ else none
    else
     bif Nat.blt pc 95 then
      bif Nat.blt pc 92 then
       if h : pc = 89 then some ⟨(.invokevirtual 170, 92, .inl 0, 12, 14), by subst h; exact ⟨dX9_atom0_89, rfl, ⟨by decide, q1518, q1520, qs64, _, rfl, rfl⟩⟩⟩ else none
      else
       if h : pc = 92 then some ⟨(.goto 69, 95, .inl 0, 161, 0), by subst h; exact ⟨dX9_atom0_92, rfl, (show ((92 : Nat) : Int) + (69) = ((161 : Nat) : Int) by decide)⟩⟩ else none
     else
      bif Nat.blt pc 96 then
       if h : pc = 95 then some ⟨(.aload_n 0, 96, .inl 0, 0, 0), by subst h; exact ⟨dX9_atom0_95, rfl, trivial⟩⟩ else none
      else
       bif Nat.blt pc 99 then
        if h : pc = 96 then some ⟨(.getfield 154, 99, .inl 0, 25, 14), by subst h; exact ⟨dX9_atom0_96, rfl, ⟨⟨_, rfl, by decide, _, Or.inl q1383, Or.inl rfl⟩, (show mKd 14 25 ≤ 4 by decide)⟩⟩⟩ else none
       else
        if h : pc = 99 then some ⟨(.ifCond .ne 24, 102, .inl 0, 123, 0), by subst h; exact ⟨dX9_atom0_99, rfl, (show ((99 : Nat) : Int) + (24) = ((123 : Nat) : Int) by decide)⟩⟩ else none
   else
    bif Nat.blt pc 111 then
     bif Nat.blt pc 106 then
      bif Nat.blt pc 103 then
       if h : pc = 102 then some ⟨(.aload_n 0, 103, .inl 0, 0, 0), by subst h; exact ⟨dX9_atom0_102, rfl, trivial⟩⟩ else none
      else
       if h : pc = 103 then some ⟨(.getfield 139, 106, .inl 0, 21, 14), by subst h; exact ⟨dX9_atom0_103, rfl, ⟨⟨_, rfl, by decide, _, Or.inl q1379, Or.inl rfl⟩, (show mKd 14 21 ≤ 4 by decide)⟩⟩⟩ else none
     else
      bif Nat.blt pc 107 then
       if h : pc = 106 then some ⟨(.iconst 2, 107, .inl 2, 0, 0), by subst h; exact ⟨dX9_atom0_106, rfl, ⟨2, rfl, by decide⟩⟩⟩ else none
      else
       bif Nat.blt pc 110 then
        if h : pc = 107 then some ⟨(.if_icmp .ne 16, 110, .inl 0, 123, 0), by subst h; exact ⟨dX9_atom0_107, rfl, (show ((107 : Nat) : Int) + (16) = ((123 : Nat) : Int) by decide)⟩⟩ else none
       else
        if h : pc = 110 then some ⟨(.aload_n 0, 111, .inl 0, 0, 0), by subst h; exact ⟨dX9_atom0_110, rfl, trivial⟩⟩ else none
    else
     bif Nat.blt pc 115 then
      bif Nat.blt pc 114 then
       if h : pc = 111 then some ⟨(.getfield 150, 114, .inr (.inl 0), 23, 14), by subst h; exact ⟨dX9_atom0_111, rfl, ⟨⟨_, rfl, by decide, _, Or.inl q1381, Or.inl rfl⟩, (show mKd 14 23 = 5 by rfl)⟩⟩⟩ else none
      else
       if h : pc = 114 then some ⟨(.l2i, 115, .inl 0, 0, 0), by subst h; exact ⟨dX9_atom0_114, rfl, trivial⟩⟩ else none
     else
      bif Nat.blt pc 116 then
       if h : pc = 115 then some ⟨(.istore_n 1, 116, .inl 0, 0, 0), by subst h; exact ⟨dX9_atom0_115, rfl, (show (1 : Nat) < 2 by decide)⟩⟩ else none
      else
       bif Nat.blt pc 117 then
        if h : pc = 116 then some ⟨(.aload_n 0, 117, .inl 0, 0, 0), by subst h; exact ⟨dX9_atom0_116, rfl, trivial⟩⟩ else none
       else
        if h : pc = 117 then some ⟨(.invokevirtual 170, 120, .inl 0, 12, 14), by subst h; exact ⟨dX9_atom0_117, rfl, ⟨by decide, q1518, q1520, qs64, _, rfl, rfl⟩⟩⟩ else none
  else
   bif Nat.blt pc 142 then
    bif Nat.blt pc 131 then
     bif Nat.blt pc 124 then
      bif Nat.blt pc 123 then
       if h : pc = 120 then some ⟨(.goto 41, 123, .inl 0, 161, 0), by subst h; exact ⟨dX9_atom0_120, rfl, (show ((120 : Nat) : Int) + (41) = ((161 : Nat) : Int) by decide)⟩⟩ else none
      else
       if h : pc = 123 then some ⟨(.aload_n 0, 124, .inl 0, 0, 0), by subst h; exact ⟨dX9_atom0_123, rfl, trivial⟩⟩ else none
     else
      bif Nat.blt pc 127 then
       if h : pc = 124 then some ⟨(.getfield 154, 127, .inl 0, 25, 14), by subst h; exact ⟨dX9_atom0_124, rfl, ⟨⟨_, rfl, by decide, _, Or.inl q1383, Or.inl rfl⟩, (show mKd 14 25 ≤ 4 by decide)⟩⟩⟩ else none
      else
       bif Nat.blt pc 130 then
        if h : pc = 127 then some ⟨(.ifCond .ne 30, 130, .inl 0, 157, 0), by subst h; exact ⟨dX9_atom0_127, rfl, (show ((127 : Nat) : Int) + (30) = ((157 : Nat) : Int) by decide)⟩⟩ else none
       else
        if h : pc = 130 then some ⟨(.aload_n 0, 131, .inl 0, 0, 0), by subst h; exact ⟨dX9_atom0_130, rfl, trivial⟩⟩ else none
    else
     bif Nat.blt pc 135 then
      bif Nat.blt pc 134 then
       if h : pc = 131 then some ⟨(.getfield 139, 134, .inl 0, 21, 14), by subst h; exact ⟨dX9_atom0_131, rfl, ⟨⟨_, rfl, by decide, _, Or.inl q1379, Or.inl rfl⟩, (show mKd 14 21 ≤ 4 by decide)⟩⟩⟩ else none
      else
       if h : pc = 134 then some ⟨(.iconst 1, 135, .inl 1, 0, 0), by subst h; exact ⟨dX9_atom0_134, rfl, ⟨1, rfl, by decide⟩⟩⟩ else none
     else
      bif Nat.blt pc 138 then
       if h : pc = 135 then some ⟨(.if_icmp .ne 22, 138, .inl 0, 157, 0), by subst h; exact ⟨dX9_atom0_135, rfl, (show ((135 : Nat) : Int) + (22) = ((157 : Nat) : Int) by decide)⟩⟩ else none
      else
       bif Nat.blt pc 139 then
        if h : pc = 138 then some ⟨(.aload_n 0, 139, .inl 0, 0, 0), by subst h; exact ⟨dX9_atom0_138, rfl, trivial⟩⟩ else none
       else
        if h : pc = 139 then some ⟨(.invokevirtual 202, 142, .inl 0, 31, 14), by subst h; exact ⟨dX9_atom0_139, rfl, ⟨by decide, q1598, q1600, qs83, _, rfl, rfl⟩⟩⟩ else none
   else
    bif Nat.blt pc 151 then
     bif Nat.blt pc 144 then
      bif Nat.blt pc 143 then
       if h : pc = 142 then some ⟨(.istore_n 1, 143, .inl 0, 0, 0), by subst h; exact ⟨dX9_atom0_142, rfl, (show (1 : Nat) < 2 by decide)⟩⟩ else none
      else
       if h : pc = 143 then some ⟨(.aload_n 0, 144, .inl 0, 0, 0), by subst h; exact ⟨dX9_atom0_143, rfl, trivial⟩⟩ else none
     else
      bif Nat.blt pc 147 then
       if h : pc = 144 then some ⟨(.getfield 154, 147, .inl 0, 25, 14), by subst h; exact ⟨dX9_atom0_144, rfl, ⟨⟨_, rfl, by decide, _, Or.inl q1383, Or.inl rfl⟩, (show mKd 14 25 ≤ 4 by decide)⟩⟩⟩ else none
      else
       bif Nat.blt pc 150 then
        if h : pc = 147 then some ⟨(.ifCond .ne 14, 150, .inl 0, 161, 0), by subst h; exact ⟨dX9_atom0_147, rfl, (show ((147 : Nat) : Int) + (14) = ((161 : Nat) : Int) by decide)⟩⟩ else none
       else
        if h : pc = 150 then some ⟨(.aload_n 0, 151, .inl 0, 0, 0), by subst h; exact ⟨dX9_atom0_150, rfl, trivial⟩⟩ else none
    else
     bif Nat.blt pc 158 then
      bif Nat.blt pc 154 then
       if h : pc = 151 then some ⟨(.invokevirtual 170, 154, .inl 0, 12, 14), by subst h; exact ⟨dX9_atom0_151, rfl, ⟨by decide, q1518, q1520, qs64, _, rfl, rfl⟩⟩⟩ else none
      else
       bif Nat.blt pc 157 then
        if h : pc = 154 then some ⟨(.goto 7, 157, .inl 0, 161, 0), by subst h; exact ⟨dX9_atom0_154, rfl, (show ((154 : Nat) : Int) + (7) = ((161 : Nat) : Int) by decide)⟩⟩ else none
       else
        if h : pc = 157 then some ⟨(.aload_n 0, 158, .inl 0, 0, 0), by subst h; exact ⟨dX9_atom0_157, rfl, trivial⟩⟩ else none
     else
      bif Nat.blt pc 161 then
       if h : pc = 158 then some ⟨(.invokevirtual 167, 161, .inl 0, 17, 14), by subst h; exact ⟨dX9_atom0_158, rfl, ⟨by decide, q1542, q1544, qs69, _, rfl, rfl⟩⟩⟩ else none
      else
       bif Nat.blt pc 162 then
        if h : pc = 161 then some ⟨(.iload_n 1, 162, .inl 0, 0, 0), by subst h; exact ⟨dX9_atom0_161, rfl, trivial⟩⟩ else none
       else
        if h : pc = 162 then some ⟨(.ireturn, 163, .inl 0, 0, 0), by subst h; exact ⟨dX9_atom0_162, rfl, rfl⟩⟩ else none

noncomputable def mt55 (pc : Nat) : Option {e : mE // mOK yX9_either1 cX9_either1 3 ((Option.some ClassFile.FieldType.int)) pc e} :=
 bif Nat.blt pc 23 then
  bif Nat.blt pc 11 then
   bif Nat.blt pc 5 then
    bif Nat.blt pc 1 then
     if h : pc = 0 then some ⟨(.aload_n 0, 1, .inl 0, 0, 0), by subst h; exact ⟨dX9_either1_0, rfl, trivial⟩⟩ else none
    else
     bif Nat.blt pc 4 then
      if h : pc = 1 then some ⟨(.invokevirtual 294, 4, .inl 0, 56, 14), by subst h; exact ⟨dX9_either1_1, rfl, ⟨by decide, q1700, q1702, qs108, _, rfl, rfl⟩⟩⟩ else none
     else
      if h : pc = 4 then some ⟨(.istore_n 1, 5, .inl 0, 0, 0), by subst h; exact ⟨dX9_either1_4, rfl, (show (1 : Nat) < 3 by decide)⟩⟩ else none
   else
    bif Nat.blt pc 8 then
     bif Nat.blt pc 6 then
      if h : pc = 5 then some ⟨(.aload_n 0, 6, .inl 0, 0, 0), by subst h; exact ⟨dX9_either1_5, rfl, trivial⟩⟩ else none
     else
      if h : pc = 6 then some ⟨(.bipush 111, 8, .inl 111, 0, 0), by subst h; exact ⟨dX9_either1_6, rfl, ⟨111, rfl, by decide⟩⟩⟩ else none
    else
     bif Nat.blt pc 10 then
      if h : pc = 8 then some ⟨(.bipush 114, 10, .inl 114, 0, 0), by subst h; exact ⟨dX9_either1_8, rfl, ⟨114, rfl, by decide⟩⟩⟩ else none
     else
      if h : pc = 10 then some ⟨(.iconst 0, 11, .inl 0, 0, 0), by subst h; exact ⟨dX9_either1_10, rfl, ⟨0, rfl, by decide⟩⟩⟩ else none
  else
   bif Nat.blt pc 15 then
    bif Nat.blt pc 13 then
     bif Nat.blt pc 12 then
      if h : pc = 11 then some ⟨(.iconst 0, 12, .inl 0, 0, 0), by subst h; exact ⟨dX9_either1_11, rfl, ⟨0, rfl, by decide⟩⟩⟩ else none
     else
      if h : pc = 12 then some ⟨(.iconst 0, 13, .inl 0, 0, 0), by subst h; exact ⟨dX9_either1_12, rfl, ⟨0, rfl, by decide⟩⟩⟩ else none
    else
     bif Nat.blt pc 14 then
      if h : pc = 13 then some ⟨(.iconst 0, 14, .inl 0, 0, 0), by subst h; exact ⟨dX9_either1_13, rfl, ⟨0, rfl, by decide⟩⟩⟩ else none
     else
      if h : pc = 14 then some ⟨(.iconst 0, 15, .inl 0, 0, 0), by subst h; exact ⟨dX9_either1_14, rfl, ⟨0, rfl, by decide⟩⟩⟩ else none
   else
    bif Nat.blt pc 19 then
     bif Nat.blt pc 16 then
      if h : pc = 15 then some ⟨(.iconst 0, 16, .inl 0, 0, 0), by subst h; exact ⟨dX9_either1_15, rfl, ⟨0, rfl, by decide⟩⟩⟩ else none
     else
      if h : pc = 16 then some ⟨(.invokevirtual 173, 19, .inl 0, 14, 14), by subst h; exact ⟨dX9_either1_16, rfl, ⟨by decide, q1530, q1532, qs66, _, rfl, rfl⟩⟩⟩ else none
    else
     bif Nat.blt pc 22 then
      if h : pc = 19 then some ⟨(.ifCond .eq 29, 22, .inl 0, 48, 0), by subst h; exact ⟨dX9_either1_19, rfl, (show ((19 : Nat) : Int) + (29) = ((48 : Nat) : Int) by decide)⟩⟩ else none
     else
      if h : pc = 22 then some ⟨(.aload_n 0, 23, .inl 0, 0, 0), by subst h; exact ⟨dX9_either1_22, rfl, trivial⟩⟩ else none
 else
  bif Nat.blt pc 36 then
   bif Nat.blt pc 30 then
    bif Nat.blt pc 26 then
     if h : pc = 23 then some ⟨(.invokevirtual 170, 26, .inl 0, 12, 14), by subst h; exact ⟨dX9_either1_23, rfl, ⟨by decide, q1518, q1520, qs64, _, rfl, rfl⟩⟩⟩ else none
    else
     bif Nat.blt pc 27 then
      if h : pc = 26 then some ⟨(.aload_n 0, 27, .inl 0, 0, 0), by subst h; exact ⟨dX9_either1_26, rfl, trivial⟩⟩ else none
     else
      if h : pc = 27 then some ⟨(.invokevirtual 294, 30, .inl 0, 56, 14), by subst h; exact ⟨dX9_either1_27, rfl, ⟨by decide, q1700, q1702, qs108, _, rfl, rfl⟩⟩⟩ else none
   else
    bif Nat.blt pc 32 then
     bif Nat.blt pc 31 then
      if h : pc = 30 then some ⟨(.istore_n 2, 31, .inl 0, 0, 0), by subst h; exact ⟨dX9_either1_30, rfl, (show (2 : Nat) < 3 by decide)⟩⟩ else none
     else
      if h : pc = 31 then some ⟨(.iload_n 1, 32, .inl 0, 0, 0), by subst h; exact ⟨dX9_either1_31, rfl, trivial⟩⟩ else none
    else
     bif Nat.blt pc 35 then
      if h : pc = 32 then some ⟨(.ifCond .ne 7, 35, .inl 0, 39, 0), by subst h; exact ⟨dX9_either1_32, rfl, (show ((32 : Nat) : Int) + (7) = ((39 : Nat) : Int) by decide)⟩⟩ else none
     else
      if h : pc = 35 then some ⟨(.iload_n 2, 36, .inl 0, 0, 0), by subst h; exact ⟨dX9_either1_35, rfl, trivial⟩⟩ else none
  else
   bif Nat.blt pc 44 then
    bif Nat.blt pc 40 then
     bif Nat.blt pc 39 then
      if h : pc = 36 then some ⟨(.ifCond .eq 7, 39, .inl 0, 43, 0), by subst h; exact ⟨dX9_either1_36, rfl, (show ((36 : Nat) : Int) + (7) = ((43 : Nat) : Int) by decide)⟩⟩ else none
     else
      if h : pc = 39 then some ⟨(.iconst 1, 40, .inl 1, 0, 0), by subst h; exact ⟨dX9_either1_39, rfl, ⟨1, rfl, by decide⟩⟩⟩ else none
    else
     bif Nat.blt pc 43 then
      if h : pc = 40 then some ⟨(.goto 4, 43, .inl 0, 44, 0), by subst h; exact ⟨dX9_either1_40, rfl, (show ((40 : Nat) : Int) + (4) = ((44 : Nat) : Int) by decide)⟩⟩ else none
     else
      if h : pc = 43 then some ⟨(.iconst 0, 44, .inl 0, 0, 0), by subst h; exact ⟨dX9_either1_43, rfl, ⟨0, rfl, by decide⟩⟩⟩ else none
   else
    bif Nat.blt pc 48 then
     bif Nat.blt pc 45 then
      if h : pc = 44 then some ⟨(.istore_n 1, 45, .inl 0, 0, 0), by subst h; exact ⟨dX9_either1_44, rfl, (show (1 : Nat) < 3 by decide)⟩⟩ else none
     else
      if h : pc = 45 then some ⟨(.goto (-40), 48, .inl 0, 5, 0), by subst h; exact ⟨dX9_either1_45, rfl, (show ((45 : Nat) : Int) + ((-40)) = ((5 : Nat) : Int) by decide)⟩⟩ else none
    else
     bif Nat.blt pc 49 then
      if h : pc = 48 then some ⟨(.iload_n 1, 49, .inl 0, 0, 0), by subst h; exact ⟨dX9_either1_48, rfl, trivial⟩⟩ else none
     else
      if h : pc = 49 then some ⟨(.ireturn, 50, .inl 0, 0, 0), by subst h; exact ⟨dX9_either1_49, rfl, rfl⟩⟩ else none

noncomputable def mt56 (pc : Nat) : Option {e : mE // mOK yX9_both1 cX9_both1 3 ((Option.some ClassFile.FieldType.int)) pc e} :=
 bif Nat.blt pc 24 then
  bif Nat.blt pc 12 then
   bif Nat.blt pc 5 then
    bif Nat.blt pc 1 then
     if h : pc = 0 then some ⟨(.aload_n 0, 1, .inl 0, 0, 0), by subst h; exact ⟨dX9_both1_0, rfl, trivial⟩⟩ else none
    else
     bif Nat.blt pc 4 then
      if h : pc = 1 then some ⟨(.invokevirtual 291, 4, .inl 0, 22, 14), by subst h; exact ⟨dX9_both1_1, rfl, ⟨by decide, q1562, q1564, qs74, _, rfl, rfl⟩⟩⟩ else none
     else
      if h : pc = 4 then some ⟨(.istore_n 1, 5, .inl 0, 0, 0), by subst h; exact ⟨dX9_both1_4, rfl, (show (1 : Nat) < 3 by decide)⟩⟩ else none
   else
    bif Nat.blt pc 8 then
     bif Nat.blt pc 6 then
      if h : pc = 5 then some ⟨(.aload_n 0, 6, .inl 0, 0, 0), by subst h; exact ⟨dX9_both1_5, rfl, trivial⟩⟩ else none
     else
      if h : pc = 6 then some ⟨(.bipush 97, 8, .inl 97, 0, 0), by subst h; exact ⟨dX9_both1_6, rfl, ⟨97, rfl, by decide⟩⟩⟩ else none
    else
     bif Nat.blt pc 10 then
      if h : pc = 8 then some ⟨(.bipush 110, 10, .inl 110, 0, 0), by subst h; exact ⟨dX9_both1_8, rfl, ⟨110, rfl, by decide⟩⟩⟩ else none
     else
      if h : pc = 10 then some ⟨(.bipush 100, 12, .inl 100, 0, 0), by subst h; exact ⟨dX9_both1_10, rfl, ⟨100, rfl, by decide⟩⟩⟩ else none
  else
   bif Nat.blt pc 16 then
    bif Nat.blt pc 14 then
     bif Nat.blt pc 13 then
      if h : pc = 12 then some ⟨(.iconst 0, 13, .inl 0, 0, 0), by subst h; exact ⟨dX9_both1_12, rfl, ⟨0, rfl, by decide⟩⟩⟩ else none
     else
      if h : pc = 13 then some ⟨(.iconst 0, 14, .inl 0, 0, 0), by subst h; exact ⟨dX9_both1_13, rfl, ⟨0, rfl, by decide⟩⟩⟩ else none
    else
     bif Nat.blt pc 15 then
      if h : pc = 14 then some ⟨(.iconst 0, 15, .inl 0, 0, 0), by subst h; exact ⟨dX9_both1_14, rfl, ⟨0, rfl, by decide⟩⟩⟩ else none
     else
      if h : pc = 15 then some ⟨(.iconst 0, 16, .inl 0, 0, 0), by subst h; exact ⟨dX9_both1_15, rfl, ⟨0, rfl, by decide⟩⟩⟩ else none
   else
    bif Nat.blt pc 20 then
     bif Nat.blt pc 17 then
      if h : pc = 16 then some ⟨(.iconst 0, 17, .inl 0, 0, 0), by subst h; exact ⟨dX9_both1_16, rfl, ⟨0, rfl, by decide⟩⟩⟩ else none
     else
      if h : pc = 17 then some ⟨(.invokevirtual 173, 20, .inl 0, 14, 14), by subst h; exact ⟨dX9_both1_17, rfl, ⟨by decide, q1530, q1532, qs66, _, rfl, rfl⟩⟩⟩ else none
    else
     bif Nat.blt pc 23 then
      if h : pc = 20 then some ⟨(.ifCond .eq 29, 23, .inl 0, 49, 0), by subst h; exact ⟨dX9_both1_20, rfl, (show ((20 : Nat) : Int) + (29) = ((49 : Nat) : Int) by decide)⟩⟩ else none
     else
      if h : pc = 23 then some ⟨(.aload_n 0, 24, .inl 0, 0, 0), by subst h; exact ⟨dX9_both1_23, rfl, trivial⟩⟩ else none
 else
  bif Nat.blt pc 37 then
   bif Nat.blt pc 31 then
    bif Nat.blt pc 27 then
     if h : pc = 24 then some ⟨(.invokevirtual 170, 27, .inl 0, 12, 14), by subst h; exact ⟨dX9_both1_24, rfl, ⟨by decide, q1518, q1520, qs64, _, rfl, rfl⟩⟩⟩ else none
    else
     bif Nat.blt pc 28 then
      if h : pc = 27 then some ⟨(.aload_n 0, 28, .inl 0, 0, 0), by subst h; exact ⟨dX9_both1_27, rfl, trivial⟩⟩ else none
     else
      if h : pc = 28 then some ⟨(.invokevirtual 291, 31, .inl 0, 22, 14), by subst h; exact ⟨dX9_both1_28, rfl, ⟨by decide, q1562, q1564, qs74, _, rfl, rfl⟩⟩⟩ else none
   else
    bif Nat.blt pc 33 then
     bif Nat.blt pc 32 then
      if h : pc = 31 then some ⟨(.istore_n 2, 32, .inl 0, 0, 0), by subst h; exact ⟨dX9_both1_31, rfl, (show (2 : Nat) < 3 by decide)⟩⟩ else none
     else
      if h : pc = 32 then some ⟨(.iload_n 1, 33, .inl 0, 0, 0), by subst h; exact ⟨dX9_both1_32, rfl, trivial⟩⟩ else none
    else
     bif Nat.blt pc 36 then
      if h : pc = 33 then some ⟨(.ifCond .eq 11, 36, .inl 0, 44, 0), by subst h; exact ⟨dX9_both1_33, rfl, (show ((33 : Nat) : Int) + (11) = ((44 : Nat) : Int) by decide)⟩⟩ else none
     else
      if h : pc = 36 then some ⟨(.iload_n 2, 37, .inl 0, 0, 0), by subst h; exact ⟨dX9_both1_36, rfl, trivial⟩⟩ else none
  else
   bif Nat.blt pc 45 then
    bif Nat.blt pc 41 then
     bif Nat.blt pc 40 then
      if h : pc = 37 then some ⟨(.ifCond .eq 7, 40, .inl 0, 44, 0), by subst h; exact ⟨dX9_both1_37, rfl, (show ((37 : Nat) : Int) + (7) = ((44 : Nat) : Int) by decide)⟩⟩ else none
     else
      if h : pc = 40 then some ⟨(.iconst 1, 41, .inl 1, 0, 0), by subst h; exact ⟨dX9_both1_40, rfl, ⟨1, rfl, by decide⟩⟩⟩ else none
    else
     bif Nat.blt pc 44 then
      if h : pc = 41 then some ⟨(.goto 4, 44, .inl 0, 45, 0), by subst h; exact ⟨dX9_both1_41, rfl, (show ((41 : Nat) : Int) + (4) = ((45 : Nat) : Int) by decide)⟩⟩ else none
     else
      if h : pc = 44 then some ⟨(.iconst 0, 45, .inl 0, 0, 0), by subst h; exact ⟨dX9_both1_44, rfl, ⟨0, rfl, by decide⟩⟩⟩ else none
   else
    bif Nat.blt pc 49 then
     bif Nat.blt pc 46 then
      if h : pc = 45 then some ⟨(.istore_n 1, 46, .inl 0, 0, 0), by subst h; exact ⟨dX9_both1_45, rfl, (show (1 : Nat) < 3 by decide)⟩⟩ else none
     else
      if h : pc = 46 then some ⟨(.goto (-41), 49, .inl 0, 5, 0), by subst h; exact ⟨dX9_both1_46, rfl, (show ((46 : Nat) : Int) + ((-41)) = ((5 : Nat) : Int) by decide)⟩⟩ else none
    else
     bif Nat.blt pc 50 then
      if h : pc = 49 then some ⟨(.iload_n 1, 50, .inl 0, 0, 0), by subst h; exact ⟨dX9_both1_49, rfl, trivial⟩⟩ else none
     else
      if h : pc = 50 then some ⟨(.ireturn, 51, .inl 0, 0, 0), by subst h; exact ⟨dX9_both1_50, rfl, rfl⟩⟩ else none

noncomputable def mt57 (pc : Nat) : Option {e : mE // mOK yX9_within cX9_within 3 ((Option.some ClassFile.FieldType.int)) pc e} :=
 bif Nat.blt pc 10 then
  bif Nat.blt pc 5 then
   bif Nat.blt pc 1 then
    if h : pc = 0 then some ⟨(.iload_n 0, 1, .inl 0, 0, 0), by subst h; exact ⟨dX9_within_0, rfl, trivial⟩⟩ else none
   else
    bif Nat.blt pc 2 then
     if h : pc = 1 then some ⟨(.iload_n 1, 2, .inl 0, 0, 0), by subst h; exact ⟨dX9_within_1, rfl, trivial⟩⟩ else none
    else
     if h : pc = 2 then some ⟨(.if_icmp .ge 7, 5, .inl 0, 9, 0), by subst h; exact ⟨dX9_within_2, rfl, (show ((2 : Nat) : Int) + (7) = ((9 : Nat) : Int) by decide)⟩⟩ else none
  else
   bif Nat.blt pc 6 then
    if h : pc = 5 then some ⟨(.iload_n 1, 6, .inl 0, 0, 0), by subst h; exact ⟨dX9_within_5, rfl, trivial⟩⟩ else none
   else
    bif Nat.blt pc 9 then
     if h : pc = 6 then some ⟨(.goto 13, 9, .inl 0, 19, 0), by subst h; exact ⟨dX9_within_6, rfl, (show ((6 : Nat) : Int) + (13) = ((19 : Nat) : Int) by decide)⟩⟩ else none
    else
     if h : pc = 9 then some ⟨(.iload_n 0, 10, .inl 0, 0, 0), by subst h; exact ⟨dX9_within_9, rfl, trivial⟩⟩ else none
 else
  bif Nat.blt pc 15 then
   bif Nat.blt pc 11 then
    if h : pc = 10 then some ⟨(.iload_n 2, 11, .inl 0, 0, 0), by subst h; exact ⟨dX9_within_10, rfl, trivial⟩⟩ else none
   else
    bif Nat.blt pc 14 then
     if h : pc = 11 then some ⟨(.if_icmp .le 7, 14, .inl 0, 18, 0), by subst h; exact ⟨dX9_within_11, rfl, (show ((11 : Nat) : Int) + (7) = ((18 : Nat) : Int) by decide)⟩⟩ else none
    else
     if h : pc = 14 then some ⟨(.iload_n 2, 15, .inl 0, 0, 0), by subst h; exact ⟨dX9_within_14, rfl, trivial⟩⟩ else none
  else
   bif Nat.blt pc 18 then
    if h : pc = 15 then some ⟨(.goto 4, 18, .inl 0, 19, 0), by subst h; exact ⟨dX9_within_15, rfl, (show ((15 : Nat) : Int) + (4) = ((19 : Nat) : Int) by decide)⟩⟩ else none
   else
    bif Nat.blt pc 19 then
     if h : pc = 18 then some ⟨(.iload_n 0, 19, .inl 0, 0, 0), by subst h; exact ⟨dX9_within_18, rfl, trivial⟩⟩ else none
    else
     if h : pc = 19 then some ⟨(.ireturn, 20, .inl 0, 0, 0), by subst h; exact ⟨dX9_within_19, rfl, rfl⟩⟩ else none

noncomputable def mt58 (pc : Nat) : Option {e : mE // mOK yX9_easedBy cX9_easedBy 4 ((Option.some ClassFile.FieldType.int)) pc e} :=
 bif Nat.blt pc 44 then
  bif Nat.blt pc 21 then
   bif Nat.blt pc 9 then
    bif Nat.blt pc 5 then
     bif Nat.blt pc 1 then
      if h : pc = 0 then some ⟨(.aload_n 0, 1, .inl 0, 0, 0), by subst h; exact ⟨dX9_easedBy_0, rfl, trivial⟩⟩ else none
     else
      bif Nat.blt pc 4 then
       if h : pc = 1 then some ⟨(.getfield 26, 4, .inr (.inr none), 10, 14), by subst h; exact ⟨dX9_easedBy_1, rfl, ⟨⟨_, rfl, by decide, _, Or.inl q1368, Or.inl rfl⟩, (show mKd 14 10 = 6 by rfl)⟩⟩⟩ else none
      else
       if h : pc = 4 then some ⟨(.iconst 5, 5, .inl 5, 0, 0), by subst h; exact ⟨dX9_easedBy_4, rfl, ⟨5, rfl, by decide⟩⟩⟩ else none
    else
     bif Nat.blt pc 7 then
      bif Nat.blt pc 6 then
       if h : pc = 5 then some ⟨(.iload_n 1, 6, .inl 0, 0, 0), by subst h; exact ⟨dX9_easedBy_5, rfl, trivial⟩⟩ else none
      else
       if h : pc = 6 then some ⟨(.imul, 7, .inl 0, 0, 0), by subst h; exact ⟨dX9_easedBy_6, rfl, trivial⟩⟩ else none
     else
      bif Nat.blt pc 8 then
       if h : pc = 7 then some ⟨(.iconst 4, 8, .inl 4, 0, 0), by subst h; exact ⟨dX9_easedBy_7, rfl, ⟨4, rfl, by decide⟩⟩⟩ else none
      else
       if h : pc = 8 then some ⟨(.iadd, 9, .inl 0, 0, 0), by subst h; exact ⟨dX9_easedBy_8, rfl, trivial⟩⟩ else none
   else
    bif Nat.blt pc 13 then
     bif Nat.blt pc 11 then
      bif Nat.blt pc 10 then
       if h : pc = 9 then some ⟨(.iaload, 10, .inl 0, 0, 0), by subst h; exact ⟨dX9_easedBy_9, rfl, trivial⟩⟩ else none
      else
       if h : pc = 10 then some ⟨(.istore_n 2, 11, .inl 0, 0, 0), by subst h; exact ⟨dX9_easedBy_10, rfl, (show (2 : Nat) < 4 by decide)⟩⟩ else none
     else
      bif Nat.blt pc 12 then
       if h : pc = 11 then some ⟨(.iload_n 2, 12, .inl 0, 0, 0), by subst h; exact ⟨dX9_easedBy_11, rfl, trivial⟩⟩ else none
      else
       if h : pc = 12 then some ⟨(.iconst 1, 13, .inl 1, 0, 0), by subst h; exact ⟨dX9_easedBy_12, rfl, ⟨1, rfl, by decide⟩⟩⟩ else none
    else
     bif Nat.blt pc 17 then
      bif Nat.blt pc 16 then
       if h : pc = 13 then some ⟨(.if_icmp .eq 8, 16, .inl 0, 21, 0), by subst h; exact ⟨dX9_easedBy_13, rfl, (show ((13 : Nat) : Int) + (8) = ((21 : Nat) : Int) by decide)⟩⟩ else none
      else
       if h : pc = 16 then some ⟨(.iload_n 2, 17, .inl 0, 0, 0), by subst h; exact ⟨dX9_easedBy_16, rfl, trivial⟩⟩ else none
     else
      bif Nat.blt pc 18 then
       if h : pc = 17 then some ⟨(.iconst 3, 18, .inl 3, 0, 0), by subst h; exact ⟨dX9_easedBy_17, rfl, ⟨3, rfl, by decide⟩⟩⟩ else none
      else
       if h : pc = 18 then some ⟨(.if_icmp .ne 21, 21, .inl 0, 39, 0), by subst h; exact ⟨dX9_easedBy_18, rfl, (show ((18 : Nat) : Int) + (21) = ((39 : Nat) : Int) by decide)⟩⟩ else none
  else
   bif Nat.blt pc 32 then
    bif Nat.blt pc 26 then
     bif Nat.blt pc 22 then
      if h : pc = 21 then some ⟨(.iload_n 2, 22, .inl 0, 0, 0), by subst h; exact ⟨dX9_easedBy_21, rfl, trivial⟩⟩ else none
     else
      bif Nat.blt pc 23 then
       if h : pc = 22 then some ⟨(.iconst 3, 23, .inl 3, 0, 0), by subst h; exact ⟨dX9_easedBy_22, rfl, ⟨3, rfl, by decide⟩⟩⟩ else none
      else
       if h : pc = 23 then some ⟨(.if_icmp .ne 14, 26, .inl 0, 37, 0), by subst h; exact ⟨dX9_easedBy_23, rfl, (show ((23 : Nat) : Int) + (14) = ((37 : Nat) : Int) by decide)⟩⟩ else none
    else
     bif Nat.blt pc 30 then
      bif Nat.blt pc 27 then
       if h : pc = 26 then some ⟨(.aload_n 0, 27, .inl 0, 0, 0), by subst h; exact ⟨dX9_easedBy_26, rfl, trivial⟩⟩ else none
      else
       if h : pc = 27 then some ⟨(.getfield 26, 30, .inr (.inr none), 10, 14), by subst h; exact ⟨dX9_easedBy_27, rfl, ⟨⟨_, rfl, by decide, _, Or.inl q1368, Or.inl rfl⟩, (show mKd 14 10 = 6 by rfl)⟩⟩⟩ else none
     else
      bif Nat.blt pc 31 then
       if h : pc = 30 then some ⟨(.iconst 5, 31, .inl 5, 0, 0), by subst h; exact ⟨dX9_easedBy_30, rfl, ⟨5, rfl, by decide⟩⟩⟩ else none
      else
       if h : pc = 31 then some ⟨(.iload_n 1, 32, .inl 0, 0, 0), by subst h; exact ⟨dX9_easedBy_31, rfl, trivial⟩⟩ else none
   else
    bif Nat.blt pc 38 then
     bif Nat.blt pc 34 then
      bif Nat.blt pc 33 then
       if h : pc = 32 then some ⟨(.imul, 33, .inl 0, 0, 0), by subst h; exact ⟨dX9_easedBy_32, rfl, trivial⟩⟩ else none
      else
       if h : pc = 33 then some ⟨(.iaload, 34, .inl 0, 0, 0), by subst h; exact ⟨dX9_easedBy_33, rfl, trivial⟩⟩ else none
     else
      bif Nat.blt pc 37 then
       if h : pc = 34 then some ⟨(.goto 4, 37, .inl 0, 38, 0), by subst h; exact ⟨dX9_easedBy_34, rfl, (show ((34 : Nat) : Int) + (4) = ((38 : Nat) : Int) by decide)⟩⟩ else none
      else
       if h : pc = 37 then some ⟨(.iconst 0, 38, .inl 0, 0, 0), by subst h; exact ⟨dX9_easedBy_37, rfl, ⟨0, rfl, by decide⟩⟩⟩ else none
    else
     bif Nat.blt pc 40 then
      bif Nat.blt pc 39 then
       if h : pc = 38 then some ⟨(.ireturn, 39, .inl 0, 0, 0), by subst h; exact ⟨dX9_easedBy_38, rfl, rfl⟩⟩ else none
      else
       if h : pc = 39 then some ⟨(.iload_n 2, 40, .inl 0, 0, 0), by subst h; exact ⟨dX9_easedBy_39, rfl, trivial⟩⟩ else none
     else
      bif Nat.blt pc 41 then
       if h : pc = 40 then some ⟨(.iconst 5, 41, .inl 5, 0, 0), by subst h; exact ⟨dX9_easedBy_40, rfl, ⟨5, rfl, by decide⟩⟩⟩ else none
      else
       if h : pc = 41 then some ⟨(.if_icmp .ne 15, 44, .inl 0, 56, 0), by subst h; exact ⟨dX9_easedBy_41, rfl, (show ((41 : Nat) : Int) + (15) = ((56 : Nat) : Int) by decide)⟩⟩ else none
 else
  bif Nat.blt pc 65 then
   bif Nat.blt pc 55 then
    bif Nat.blt pc 49 then
     bif Nat.blt pc 45 then
      if h : pc = 44 then some ⟨(.aload_n 0, 45, .inl 0, 0, 0), by subst h; exact ⟨dX9_easedBy_44, rfl, trivial⟩⟩ else none
     else
      bif Nat.blt pc 48 then
       if h : pc = 45 then some ⟨(.getfield 98, 48, .inl 0, 9, 14), by subst h; exact ⟨dX9_easedBy_45, rfl, ⟨⟨_, rfl, by decide, _, Or.inl q1367, Or.inl rfl⟩, (show mKd 14 9 ≤ 4 by decide)⟩⟩⟩ else none
      else
       if h : pc = 48 then some ⟨(.iconst 2, 49, .inl 2, 0, 0), by subst h; exact ⟨dX9_easedBy_48, rfl, ⟨2, rfl, by decide⟩⟩⟩ else none
    else
     bif Nat.blt pc 51 then
      bif Nat.blt pc 50 then
       if h : pc = 49 then some ⟨(.irem, 50, .inl 0, 0, 0), by subst h; exact ⟨dX9_easedBy_49, rfl, trivial⟩⟩ else none
      else
       if h : pc = 50 then some ⟨(.iconst 1, 51, .inl 1, 0, 0), by subst h; exact ⟨dX9_easedBy_50, rfl, ⟨1, rfl, by decide⟩⟩⟩ else none
     else
      bif Nat.blt pc 54 then
       if h : pc = 51 then some ⟨(.if_icmp .ne 5, 54, .inl 0, 56, 0), by subst h; exact ⟨dX9_easedBy_51, rfl, (show ((51 : Nat) : Int) + (5) = ((56 : Nat) : Int) by decide)⟩⟩ else none
      else
       if h : pc = 54 then some ⟨(.iconst 0, 55, .inl 0, 0, 0), by subst h; exact ⟨dX9_easedBy_54, rfl, ⟨0, rfl, by decide⟩⟩⟩ else none
   else
    bif Nat.blt pc 59 then
     bif Nat.blt pc 57 then
      bif Nat.blt pc 56 then
       if h : pc = 55 then some ⟨(.ireturn, 56, .inl 0, 0, 0), by subst h; exact ⟨dX9_easedBy_55, rfl, rfl⟩⟩ else none
      else
       if h : pc = 56 then some ⟨(.aload_n 0, 57, .inl 0, 0, 0), by subst h; exact ⟨dX9_easedBy_56, rfl, trivial⟩⟩ else none
     else
      bif Nat.blt pc 58 then
       if h : pc = 57 then some ⟨(.iconst 2, 58, .inl 2, 0, 0), by subst h; exact ⟨dX9_easedBy_57, rfl, ⟨2, rfl, by decide⟩⟩⟩ else none
      else
       if h : pc = 58 then some ⟨(.iload_n 1, 59, .inl 0, 0, 0), by subst h; exact ⟨dX9_easedBy_58, rfl, trivial⟩⟩ else none
    else
     bif Nat.blt pc 63 then
      bif Nat.blt pc 62 then
       if h : pc = 59 then some ⟨(.invokevirtual 332, 62, .inl 0, 9, 14), by subst h; exact ⟨dX9_easedBy_59, rfl, ⟨by decide, q1506, q1508, qs61, _, rfl, rfl⟩⟩⟩ else none
      else
       if h : pc = 62 then some ⟨(.istore_n 3, 63, .inl 0, 0, 0), by subst h; exact ⟨dX9_easedBy_62, rfl, (show (3 : Nat) < 4 by decide)⟩⟩ else none
     else
      bif Nat.blt pc 64 then
       if h : pc = 63 then some ⟨(.iload_n 2, 64, .inl 0, 0, 0), by subst h; exact ⟨dX9_easedBy_63, rfl, trivial⟩⟩ else none
      else
       if h : pc = 64 then some ⟨(.iconst 2, 65, .inl 2, 0, 0), by subst h; exact ⟨dX9_easedBy_64, rfl, ⟨2, rfl, by decide⟩⟩⟩ else none
  else
   bif Nat.blt pc 79 then
    bif Nat.blt pc 71 then
     bif Nat.blt pc 69 then
      bif Nat.blt pc 68 then
       if h : pc = 65 then some ⟨(.if_icmp .ne 9, 68, .inl 0, 74, 0), by subst h; exact ⟨dX9_easedBy_65, rfl, (show ((65 : Nat) : Int) + (9) = ((74 : Nat) : Int) by decide)⟩⟩ else none
      else
       if h : pc = 68 then some ⟨(.iload_n 3, 69, .inl 0, 0, 0), by subst h; exact ⟨dX9_easedBy_68, rfl, trivial⟩⟩ else none
     else
      bif Nat.blt pc 70 then
       if h : pc = 69 then some ⟨(.iconst 1, 70, .inl 1, 0, 0), by subst h; exact ⟨dX9_easedBy_69, rfl, ⟨1, rfl, by decide⟩⟩⟩ else none
      else
       if h : pc = 70 then some ⟨(.iadd, 71, .inl 0, 0, 0), by subst h; exact ⟨dX9_easedBy_70, rfl, trivial⟩⟩ else none
    else
     bif Nat.blt pc 75 then
      bif Nat.blt pc 74 then
       if h : pc = 71 then some ⟨(.goto 17, 74, .inl 0, 88, 0), by subst h; exact ⟨dX9_easedBy_71, rfl, (show ((71 : Nat) : Int) + (17) = ((88 : Nat) : Int) by decide)⟩⟩ else none
      else
       if h : pc = 74 then some ⟨(.iload_n 2, 75, .inl 0, 0, 0), by subst h; exact ⟨dX9_easedBy_74, rfl, trivial⟩⟩ else none
     else
      bif Nat.blt pc 76 then
       if h : pc = 75 then some ⟨(.iconst 4, 76, .inl 4, 0, 0), by subst h; exact ⟨dX9_easedBy_75, rfl, ⟨4, rfl, by decide⟩⟩⟩ else none
      else
       if h : pc = 76 then some ⟨(.if_icmp .ne 11, 79, .inl 0, 87, 0), by subst h; exact ⟨dX9_easedBy_76, rfl, (show ((76 : Nat) : Int) + (11) = ((87 : Nat) : Int) by decide)⟩⟩ else none
   else
    bif Nat.blt pc 83 then
     bif Nat.blt pc 81 then
      bif Nat.blt pc 80 then
       if h : pc = 79 then some ⟨(.iconst 2, 80, .inl 2, 0, 0), by subst h; exact ⟨dX9_easedBy_79, rfl, ⟨2, rfl, by decide⟩⟩⟩ else none
      else
       if h : pc = 80 then some ⟨(.iload_n 3, 81, .inl 0, 0, 0), by subst h; exact ⟨dX9_easedBy_80, rfl, trivial⟩⟩ else none
     else
      bif Nat.blt pc 82 then
       if h : pc = 81 then some ⟨(.iconst 1, 82, .inl 1, 0, 0), by subst h; exact ⟨dX9_easedBy_81, rfl, ⟨1, rfl, by decide⟩⟩⟩ else none
      else
       if h : pc = 82 then some ⟨(.iadd, 83, .inl 0, 0, 0), by subst h; exact ⟨dX9_easedBy_82, rfl, trivial⟩⟩ else none
    else
     bif Nat.blt pc 87 then
      bif Nat.blt pc 84 then
       if h : pc = 83 then some ⟨(.imul, 84, .inl 0, 0, 0), by subst h; exact ⟨dX9_easedBy_83, rfl, trivial⟩⟩ else none
      else
       if h : pc = 84 then some ⟨(.goto 4, 87, .inl 0, 88, 0), by subst h; exact ⟨dX9_easedBy_84, rfl, (show ((84 : Nat) : Int) + (4) = ((88 : Nat) : Int) by decide)⟩⟩ else none
     else
      bif Nat.blt pc 88 then
       if h : pc = 87 then some ⟨(.iload_n 3, 88, .inl 0, 0, 0), by subst h; exact ⟨dX9_easedBy_87, rfl, trivial⟩⟩ else none
      else
       if h : pc = 88 then some ⟨(.ireturn, 89, .inl 0, 0, 0), by subst h; exact ⟨dX9_easedBy_88, rfl, rfl⟩⟩ else none

noncomputable def mt59 (pc : Nat) : Option {e : mE // mOK yX9_canLift cX9_canLift 2 ((Option.some ClassFile.FieldType.boolean)) pc e} :=
 bif Nat.blt pc 16 then
  bif Nat.blt pc 8 then
   bif Nat.blt pc 2 then
    bif Nat.blt pc 1 then
     if h : pc = 0 then some ⟨(.aload_n 0, 1, .inl 0, 0, 0), by subst h; exact ⟨dX9_canLift_0, rfl, trivial⟩⟩ else none
    else
     if h : pc = 1 then some ⟨(.iload_n 1, 2, .inl 0, 0, 0), by subst h; exact ⟨dX9_canLift_1, rfl, trivial⟩⟩ else none
   else
    bif Nat.blt pc 5 then
     if h : pc = 2 then some ⟨(.invokevirtual 335, 5, .inl 0, 60, 14), by subst h; exact ⟨dX9_canLift_2, rfl, ⟨by decide, q1715, q1717, qs111, _, rfl, rfl⟩⟩⟩ else none
    else
     if h : pc = 5 then some ⟨(.ifCond .eq 23, 8, .inl 0, 28, 0), by subst h; exact ⟨dX9_canLift_5, rfl, (show ((5 : Nat) : Int) + (23) = ((28 : Nat) : Int) by decide)⟩⟩ else none
  else
   bif Nat.blt pc 10 then
    bif Nat.blt pc 9 then
     if h : pc = 8 then some ⟨(.aload_n 0, 9, .inl 0, 0, 0), by subst h; exact ⟨dX9_canLift_8, rfl, trivial⟩⟩ else none
    else
     if h : pc = 9 then some ⟨(.iload_n 1, 10, .inl 0, 0, 0), by subst h; exact ⟨dX9_canLift_9, rfl, trivial⟩⟩ else none
   else
    bif Nat.blt pc 13 then
     if h : pc = 10 then some ⟨(.invokevirtual 110, 13, .inl 0, 8, 14), by subst h; exact ⟨dX9_canLift_10, rfl, ⟨by decide, q1502, q1504, qs60, _, rfl, rfl⟩⟩⟩ else none
    else
     if h : pc = 13 then some ⟨(.sipush 15120, 16, .inl 15120, 0, 0), by subst h; exact ⟨dX9_canLift_13, rfl, ⟨15120, rfl, by decide⟩⟩⟩ else none
 else
  bif Nat.blt pc 24 then
   bif Nat.blt pc 18 then
    bif Nat.blt pc 17 then
     if h : pc = 16 then some ⟨(.imul, 17, .inl 0, 0, 0), by subst h; exact ⟨dX9_canLift_16, rfl, trivial⟩⟩ else none
    else
     if h : pc = 17 then some ⟨(.aload_n 0, 18, .inl 0, 0, 0), by subst h; exact ⟨dX9_canLift_17, rfl, trivial⟩⟩ else none
   else
    bif Nat.blt pc 21 then
     if h : pc = 18 then some ⟨(.invokevirtual 349, 21, .inl 0, 61, 14), by subst h; exact ⟨dX9_canLift_18, rfl, ⟨by decide, q1719, q1721, qs112, _, rfl, rfl⟩⟩⟩ else none
    else
     if h : pc = 21 then some ⟨(.if_icmp .lt 7, 24, .inl 0, 28, 0), by subst h; exact ⟨dX9_canLift_21, rfl, (show ((21 : Nat) : Int) + (7) = ((28 : Nat) : Int) by decide)⟩⟩ else none
  else
   bif Nat.blt pc 28 then
    bif Nat.blt pc 25 then
     if h : pc = 24 then some ⟨(.iconst 1, 25, .inl 1, 0, 0), by subst h; exact ⟨dX9_canLift_24, rfl, ⟨1, rfl, by decide⟩⟩⟩ else none
    else
     if h : pc = 25 then some ⟨(.goto 4, 28, .inl 0, 29, 0), by subst h; exact ⟨dX9_canLift_25, rfl, (show ((25 : Nat) : Int) + (4) = ((29 : Nat) : Int) by decide)⟩⟩ else none
   else
    bif Nat.blt pc 29 then
     if h : pc = 28 then some ⟨(.iconst 0, 29, .inl 0, 0, 0), by subst h; exact ⟨dX9_canLift_28, rfl, ⟨0, rfl, by decide⟩⟩⟩ else none
    else
     if h : pc = 29 then some ⟨(.ireturn, 30, .inl 0, 1, 0), by subst h; exact ⟨dX9_canLift_29, rfl, rfl⟩⟩ else none

noncomputable def mt60 (pc : Nat) : Option {e : mE // mOK yX9_isHere cX9_isHere 2 ((Option.some ClassFile.FieldType.boolean)) pc e} :=
 bif Nat.blt pc 9 then
  bif Nat.blt pc 5 then
   bif Nat.blt pc 1 then
    if h : pc = 0 then some ⟨(.aload_n 0, 1, .inl 0, 0, 0), by subst h; exact ⟨dX9_isHere_0, rfl, trivial⟩⟩ else none
   else
    bif Nat.blt pc 4 then
     if h : pc = 1 then some ⟨(.getfield 26, 4, .inr (.inr none), 10, 14), by subst h; exact ⟨dX9_isHere_1, rfl, ⟨⟨_, rfl, by decide, _, Or.inl q1368, Or.inl rfl⟩, (show mKd 14 10 = 6 by rfl)⟩⟩⟩ else none
    else
     if h : pc = 4 then some ⟨(.iconst 5, 5, .inl 5, 0, 0), by subst h; exact ⟨dX9_isHere_4, rfl, ⟨5, rfl, by decide⟩⟩⟩ else none
  else
   bif Nat.blt pc 7 then
    bif Nat.blt pc 6 then
     if h : pc = 5 then some ⟨(.iload_n 1, 6, .inl 0, 0, 0), by subst h; exact ⟨dX9_isHere_5, rfl, trivial⟩⟩ else none
    else
     if h : pc = 6 then some ⟨(.imul, 7, .inl 0, 0, 0), by subst h; exact ⟨dX9_isHere_6, rfl, trivial⟩⟩ else none
   else
    bif Nat.blt pc 8 then
     if h : pc = 7 then some ⟨(.iconst 3, 8, .inl 3, 0, 0), by subst h; exact ⟨dX9_isHere_7, rfl, ⟨3, rfl, by decide⟩⟩⟩ else none
    else
     if h : pc = 8 then some ⟨(.iadd, 9, .inl 0, 0, 0), by subst h; exact ⟨dX9_isHere_8, rfl, trivial⟩⟩ else none
 else
  bif Nat.blt pc 14 then
   bif Nat.blt pc 10 then
    if h : pc = 9 then some ⟨(.iaload, 10, .inl 0, 0, 0), by subst h; exact ⟨dX9_isHere_9, rfl, trivial⟩⟩ else none
   else
    bif Nat.blt pc 11 then
     if h : pc = 10 then some ⟨(.iconst 1, 11, .inl 1, 0, 0), by subst h; exact ⟨dX9_isHere_10, rfl, ⟨1, rfl, by decide⟩⟩⟩ else none
    else
     if h : pc = 11 then some ⟨(.if_icmp .ne 7, 14, .inl 0, 18, 0), by subst h; exact ⟨dX9_isHere_11, rfl, (show ((11 : Nat) : Int) + (7) = ((18 : Nat) : Int) by decide)⟩⟩ else none
  else
   bif Nat.blt pc 18 then
    bif Nat.blt pc 15 then
     if h : pc = 14 then some ⟨(.iconst 1, 15, .inl 1, 0, 0), by subst h; exact ⟨dX9_isHere_14, rfl, ⟨1, rfl, by decide⟩⟩⟩ else none
    else
     if h : pc = 15 then some ⟨(.goto 4, 18, .inl 0, 19, 0), by subst h; exact ⟨dX9_isHere_15, rfl, (show ((15 : Nat) : Int) + (4) = ((19 : Nat) : Int) by decide)⟩⟩ else none
   else
    bif Nat.blt pc 19 then
     if h : pc = 18 then some ⟨(.iconst 0, 19, .inl 0, 0, 0), by subst h; exact ⟨dX9_isHere_18, rfl, ⟨0, rfl, by decide⟩⟩⟩ else none
    else
     if h : pc = 19 then some ⟨(.ireturn, 20, .inl 0, 1, 0), by subst h; exact ⟨dX9_isHere_19, rfl, rfl⟩⟩ else none

noncomputable def mt61 (pc : Nat) : Option {e : mE // mOK yX9_weightNow cX9_weightNow 3 ((Option.some ClassFile.FieldType.int)) pc e} :=
 bif Nat.blt pc 18 then
  bif Nat.blt pc 6 then
   bif Nat.blt pc 3 then
    bif Nat.blt pc 1 then
     if h : pc = 0 then some ⟨(.iconst 0, 1, .inl 0, 0, 0), by subst h; exact ⟨dX9_weightNow_0, rfl, ⟨0, rfl, by decide⟩⟩⟩ else none
    else
     bif Nat.blt pc 2 then
      if h : pc = 1 then some ⟨(.istore_n 1, 2, .inl 0, 0, 0), by subst h; exact ⟨dX9_weightNow_1, rfl, (show (1 : Nat) < 3 by decide)⟩⟩ else none
     else
      if h : pc = 2 then some ⟨(.iconst 0, 3, .inl 0, 0, 0), by subst h; exact ⟨dX9_weightNow_2, rfl, ⟨0, rfl, by decide⟩⟩⟩ else none
   else
    bif Nat.blt pc 4 then
     if h : pc = 3 then some ⟨(.istore_n 2, 4, .inl 0, 0, 0), by subst h; exact ⟨dX9_weightNow_3, rfl, (show (2 : Nat) < 3 by decide)⟩⟩ else none
    else
     bif Nat.blt pc 5 then
      if h : pc = 4 then some ⟨(.iload_n 2, 5, .inl 0, 0, 0), by subst h; exact ⟨dX9_weightNow_4, rfl, trivial⟩⟩ else none
     else
      if h : pc = 5 then some ⟨(.aload_n 0, 6, .inl 0, 0, 0), by subst h; exact ⟨dX9_weightNow_5, rfl, trivial⟩⟩ else none
  else
   bif Nat.blt pc 13 then
    bif Nat.blt pc 9 then
     if h : pc = 6 then some ⟨(.getfield 64, 9, .inl 0, 11, 14), by subst h; exact ⟨dX9_weightNow_6, rfl, ⟨⟨_, rfl, by decide, _, Or.inl q1369, Or.inl rfl⟩, (show mKd 14 11 ≤ 4 by decide)⟩⟩⟩ else none
    else
     bif Nat.blt pc 12 then
      if h : pc = 9 then some ⟨(.if_icmp .ge 29, 12, .inl 0, 38, 0), by subst h; exact ⟨dX9_weightNow_9, rfl, (show ((9 : Nat) : Int) + (29) = ((38 : Nat) : Int) by decide)⟩⟩ else none
     else
      if h : pc = 12 then some ⟨(.iload_n 1, 13, .inl 0, 0, 0), by subst h; exact ⟨dX9_weightNow_12, rfl, trivial⟩⟩ else none
   else
    bif Nat.blt pc 14 then
     if h : pc = 13 then some ⟨(.aload_n 0, 14, .inl 0, 0, 0), by subst h; exact ⟨dX9_weightNow_13, rfl, trivial⟩⟩ else none
    else
     bif Nat.blt pc 15 then
      if h : pc = 14 then some ⟨(.iload_n 2, 15, .inl 0, 0, 0), by subst h; exact ⟨dX9_weightNow_14, rfl, trivial⟩⟩ else none
     else
      if h : pc = 15 then some ⟨(.invokevirtual 335, 18, .inl 0, 60, 14), by subst h; exact ⟨dX9_weightNow_15, rfl, ⟨by decide, q1715, q1717, qs111, _, rfl, rfl⟩⟩⟩ else none
 else
  bif Nat.blt pc 30 then
   bif Nat.blt pc 23 then
    bif Nat.blt pc 21 then
     if h : pc = 18 then some ⟨(.ifCond .eq 11, 21, .inl 0, 29, 0), by subst h; exact ⟨dX9_weightNow_18, rfl, (show ((18 : Nat) : Int) + (11) = ((29 : Nat) : Int) by decide)⟩⟩ else none
    else
     bif Nat.blt pc 22 then
      if h : pc = 21 then some ⟨(.aload_n 0, 22, .inl 0, 0, 0), by subst h; exact ⟨dX9_weightNow_21, rfl, trivial⟩⟩ else none
     else
      if h : pc = 22 then some ⟨(.iload_n 2, 23, .inl 0, 0, 0), by subst h; exact ⟨dX9_weightNow_22, rfl, trivial⟩⟩ else none
   else
    bif Nat.blt pc 26 then
     if h : pc = 23 then some ⟨(.invokevirtual 338, 26, .inl 0, 62, 14), by subst h; exact ⟨dX9_weightNow_23, rfl, ⟨by decide, q1723, q1725, qs113, _, rfl, rfl⟩⟩⟩ else none
    else
     bif Nat.blt pc 29 then
      if h : pc = 26 then some ⟨(.goto 4, 29, .inl 0, 30, 0), by subst h; exact ⟨dX9_weightNow_26, rfl, (show ((26 : Nat) : Int) + (4) = ((30 : Nat) : Int) by decide)⟩⟩ else none
     else
      if h : pc = 29 then some ⟨(.iconst 0, 30, .inl 0, 0, 0), by subst h; exact ⟨dX9_weightNow_29, rfl, ⟨0, rfl, by decide⟩⟩⟩ else none
  else
   bif Nat.blt pc 35 then
    bif Nat.blt pc 31 then
     if h : pc = 30 then some ⟨(.iadd, 31, .inl 0, 0, 0), by subst h; exact ⟨dX9_weightNow_30, rfl, trivial⟩⟩ else none
    else
     bif Nat.blt pc 32 then
      if h : pc = 31 then some ⟨(.istore_n 1, 32, .inl 0, 0, 0), by subst h; exact ⟨dX9_weightNow_31, rfl, (show (1 : Nat) < 3 by decide)⟩⟩ else none
     else
      if h : pc = 32 then some ⟨(.iinc 2 1, 35, .inl 1, 0, 0), by subst h; exact ⟨dX9_weightNow_32, rfl, ⟨(show (2 : Nat) < 3 by decide), 1, rfl, by decide⟩⟩⟩ else none
   else
    bif Nat.blt pc 38 then
     if h : pc = 35 then some ⟨(.goto (-31), 38, .inl 0, 4, 0), by subst h; exact ⟨dX9_weightNow_35, rfl, (show ((35 : Nat) : Int) + ((-31)) = ((4 : Nat) : Int) by decide)⟩⟩ else none
    else
     bif Nat.blt pc 39 then
      if h : pc = 38 then some ⟨(.iload_n 1, 39, .inl 0, 0, 0), by subst h; exact ⟨dX9_weightNow_38, rfl, trivial⟩⟩ else none
     else
      if h : pc = 39 then some ⟨(.ireturn, 40, .inl 0, 0, 0), by subst h; exact ⟨dX9_weightNow_39, rfl, rfl⟩⟩ else none

noncomputable def mt62 (pc : Nat) : Option {e : mE // mOK yX9_feelsOf cX9_feelsOf 6 ((Option.some ClassFile.FieldType.int)) pc e} :=
 bif Nat.blt pc 68 then
  bif Nat.blt pc 33 then
   bif Nat.blt pc 16 then
    bif Nat.blt pc 8 then
     bif Nat.blt pc 5 then
      bif Nat.blt pc 1 then
       if h : pc = 0 then some ⟨(.aload_n 0, 1, .inl 0, 0, 0), by subst h; exact ⟨dX9_feelsOf_0, rfl, trivial⟩⟩ else none
      else
       bif Nat.blt pc 4 then
        if h : pc = 1 then some ⟨(.getfield 26, 4, .inr (.inr none), 10, 14), by subst h; exact ⟨dX9_feelsOf_1, rfl, ⟨⟨_, rfl, by decide, _, Or.inl q1368, Or.inl rfl⟩, (show mKd 14 10 = 6 by rfl)⟩⟩⟩ else none
       else
        if h : pc = 4 then some ⟨(.iconst 5, 5, .inl 5, 0, 0), by subst h; exact ⟨dX9_feelsOf_4, rfl, ⟨5, rfl, by decide⟩⟩⟩ else none
     else
      bif Nat.blt pc 6 then
       if h : pc = 5 then some ⟨(.iload_n 1, 6, .inl 0, 0, 0), by subst h; exact ⟨dX9_feelsOf_5, rfl, trivial⟩⟩ else none
      else
       bif Nat.blt pc 7 then
        if h : pc = 6 then some ⟨(.imul, 7, .inl 0, 0, 0), by subst h; exact ⟨dX9_feelsOf_6, rfl, trivial⟩⟩ else none
       else
        if h : pc = 7 then some ⟨(.iconst 4, 8, .inl 4, 0, 0), by subst h; exact ⟨dX9_feelsOf_7, rfl, ⟨4, rfl, by decide⟩⟩⟩ else none
    else
     bif Nat.blt pc 11 then
      bif Nat.blt pc 9 then
       if h : pc = 8 then some ⟨(.iadd, 9, .inl 0, 0, 0), by subst h; exact ⟨dX9_feelsOf_8, rfl, trivial⟩⟩ else none
      else
       bif Nat.blt pc 10 then
        if h : pc = 9 then some ⟨(.iaload, 10, .inl 0, 0, 0), by subst h; exact ⟨dX9_feelsOf_9, rfl, trivial⟩⟩ else none
       else
        if h : pc = 10 then some ⟨(.istore_n 2, 11, .inl 0, 0, 0), by subst h; exact ⟨dX9_feelsOf_10, rfl, (show (2 : Nat) < 6 by decide)⟩⟩ else none
     else
      bif Nat.blt pc 12 then
       if h : pc = 11 then some ⟨(.iload_n 2, 12, .inl 0, 0, 0), by subst h; exact ⟨dX9_feelsOf_11, rfl, trivial⟩⟩ else none
      else
       bif Nat.blt pc 13 then
        if h : pc = 12 then some ⟨(.iconst 2, 13, .inl 2, 0, 0), by subst h; exact ⟨dX9_feelsOf_12, rfl, ⟨2, rfl, by decide⟩⟩⟩ else none
       else
        if h : pc = 13 then some ⟨(.if_icmp .eq 8, 16, .inl 0, 21, 0), by subst h; exact ⟨dX9_feelsOf_13, rfl, (show ((13 : Nat) : Int) + (8) = ((21 : Nat) : Int) by decide)⟩⟩ else none
   else
    bif Nat.blt pc 26 then
     bif Nat.blt pc 21 then
      bif Nat.blt pc 17 then
       if h : pc = 16 then some ⟨(.iload_n 2, 17, .inl 0, 0, 0), by subst h; exact ⟨dX9_feelsOf_16, rfl, trivial⟩⟩ else none
      else
       bif Nat.blt pc 18 then
        if h : pc = 17 then some ⟨(.iconst 4, 18, .inl 4, 0, 0), by subst h; exact ⟨dX9_feelsOf_17, rfl, ⟨4, rfl, by decide⟩⟩⟩ else none
       else
        if h : pc = 18 then some ⟨(.if_icmp .ne 20, 21, .inl 0, 38, 0), by subst h; exact ⟨dX9_feelsOf_18, rfl, (show ((18 : Nat) : Int) + (20) = ((38 : Nat) : Int) by decide)⟩⟩ else none
     else
      bif Nat.blt pc 22 then
       if h : pc = 21 then some ⟨(.aload_n 0, 22, .inl 0, 0, 0), by subst h; exact ⟨dX9_feelsOf_21, rfl, trivial⟩⟩ else none
      else
       bif Nat.blt pc 25 then
        if h : pc = 22 then some ⟨(.getfield 26, 25, .inr (.inr none), 10, 14), by subst h; exact ⟨dX9_feelsOf_22, rfl, ⟨⟨_, rfl, by decide, _, Or.inl q1368, Or.inl rfl⟩, (show mKd 14 10 = 6 by rfl)⟩⟩⟩ else none
       else
        if h : pc = 25 then some ⟨(.iconst 5, 26, .inl 5, 0, 0), by subst h; exact ⟨dX9_feelsOf_25, rfl, ⟨5, rfl, by decide⟩⟩⟩ else none
    else
     bif Nat.blt pc 29 then
      bif Nat.blt pc 27 then
       if h : pc = 26 then some ⟨(.iload_n 1, 27, .inl 0, 0, 0), by subst h; exact ⟨dX9_feelsOf_26, rfl, trivial⟩⟩ else none
      else
       bif Nat.blt pc 28 then
        if h : pc = 27 then some ⟨(.imul, 28, .inl 0, 0, 0), by subst h; exact ⟨dX9_feelsOf_27, rfl, trivial⟩⟩ else none
       else
        if h : pc = 28 then some ⟨(.iconst 1, 29, .inl 1, 0, 0), by subst h; exact ⟨dX9_feelsOf_28, rfl, ⟨1, rfl, by decide⟩⟩⟩ else none
     else
      bif Nat.blt pc 30 then
       if h : pc = 29 then some ⟨(.iadd, 30, .inl 0, 0, 0), by subst h; exact ⟨dX9_feelsOf_29, rfl, trivial⟩⟩ else none
      else
       bif Nat.blt pc 31 then
        if h : pc = 30 then some ⟨(.iaload, 31, .inl 0, 0, 0), by subst h; exact ⟨dX9_feelsOf_30, rfl, trivial⟩⟩ else none
       else
        if h : pc = 31 then some ⟨(.bipush 9, 33, .inl 9, 0, 0), by subst h; exact ⟨dX9_feelsOf_31, rfl, ⟨9, rfl, by decide⟩⟩⟩ else none
  else
   bif Nat.blt pc 53 then
    bif Nat.blt pc 41 then
     bif Nat.blt pc 38 then
      bif Nat.blt pc 36 then
       if h : pc = 33 then some ⟨(.if_icmp .ge 5, 36, .inl 0, 38, 0), by subst h; exact ⟨dX9_feelsOf_33, rfl, (show ((33 : Nat) : Int) + (5) = ((38 : Nat) : Int) by decide)⟩⟩ else none
      else
       bif Nat.blt pc 37 then
        if h : pc = 36 then some ⟨(.iconst 0, 37, .inl 0, 0, 0), by subst h; exact ⟨dX9_feelsOf_36, rfl, ⟨0, rfl, by decide⟩⟩⟩ else none
       else
        if h : pc = 37 then some ⟨(.ireturn, 38, .inl 0, 0, 0), by subst h; exact ⟨dX9_feelsOf_37, rfl, rfl⟩⟩ else none
     else
      bif Nat.blt pc 39 then
       if h : pc = 38 then some ⟨(.aload_n 0, 39, .inl 0, 0, 0), by subst h; exact ⟨dX9_feelsOf_38, rfl, trivial⟩⟩ else none
      else
       bif Nat.blt pc 40 then
        if h : pc = 39 then some ⟨(.iconst 0, 40, .inl 0, 0, 0), by subst h; exact ⟨dX9_feelsOf_39, rfl, ⟨0, rfl, by decide⟩⟩⟩ else none
       else
        if h : pc = 40 then some ⟨(.iload_n 1, 41, .inl 0, 0, 0), by subst h; exact ⟨dX9_feelsOf_40, rfl, trivial⟩⟩ else none
    else
     bif Nat.blt pc 46 then
      bif Nat.blt pc 44 then
       if h : pc = 41 then some ⟨(.invokevirtual 332, 44, .inl 0, 9, 14), by subst h; exact ⟨dX9_feelsOf_41, rfl, ⟨by decide, q1506, q1508, qs61, _, rfl, rfl⟩⟩⟩ else none
      else
       bif Nat.blt pc 45 then
        if h : pc = 44 then some ⟨(.istore_n 3, 45, .inl 0, 0, 0), by subst h; exact ⟨dX9_feelsOf_44, rfl, (show (3 : Nat) < 6 by decide)⟩⟩ else none
       else
        if h : pc = 45 then some ⟨(.iload_n 3, 46, .inl 0, 0, 0), by subst h; exact ⟨dX9_feelsOf_45, rfl, trivial⟩⟩ else none
     else
      bif Nat.blt pc 49 then
       if h : pc = 46 then some ⟨(.sipush 15120, 49, .inl 15120, 0, 0), by subst h; exact ⟨dX9_feelsOf_46, rfl, ⟨15120, rfl, by decide⟩⟩⟩ else none
      else
       bif Nat.blt pc 50 then
        if h : pc = 49 then some ⟨(.aload_n 0, 50, .inl 0, 0, 0), by subst h; exact ⟨dX9_feelsOf_49, rfl, trivial⟩⟩ else none
       else
        if h : pc = 50 then some ⟨(.getfield 26, 53, .inr (.inr none), 10, 14), by subst h; exact ⟨dX9_feelsOf_50, rfl, ⟨⟨_, rfl, by decide, _, Or.inl q1368, Or.inl rfl⟩, (show mKd 14 10 = 6 by rfl)⟩⟩⟩ else none
   else
    bif Nat.blt pc 59 then
     bif Nat.blt pc 56 then
      bif Nat.blt pc 54 then
       if h : pc = 53 then some ⟨(.iconst 5, 54, .inl 5, 0, 0), by subst h; exact ⟨dX9_feelsOf_53, rfl, ⟨5, rfl, by decide⟩⟩⟩ else none
      else
       bif Nat.blt pc 55 then
        if h : pc = 54 then some ⟨(.iload_n 1, 55, .inl 0, 0, 0), by subst h; exact ⟨dX9_feelsOf_54, rfl, trivial⟩⟩ else none
       else
        if h : pc = 55 then some ⟨(.imul, 56, .inl 0, 0, 0), by subst h; exact ⟨dX9_feelsOf_55, rfl, trivial⟩⟩ else none
     else
      bif Nat.blt pc 57 then
       if h : pc = 56 then some ⟨(.iaload, 57, .inl 0, 0, 0), by subst h; exact ⟨dX9_feelsOf_56, rfl, trivial⟩⟩ else none
      else
       bif Nat.blt pc 58 then
        if h : pc = 57 then some ⟨(.iconst 1, 58, .inl 1, 0, 0), by subst h; exact ⟨dX9_feelsOf_57, rfl, ⟨1, rfl, by decide⟩⟩⟩ else none
       else
        if h : pc = 58 then some ⟨(.iadd, 59, .inl 0, 0, 0), by subst h; exact ⟨dX9_feelsOf_58, rfl, trivial⟩⟩ else none
    else
     bif Nat.blt pc 63 then
      bif Nat.blt pc 60 then
       if h : pc = 59 then some ⟨(.idiv, 60, .inl 0, 0, 0), by subst h; exact ⟨dX9_feelsOf_59, rfl, trivial⟩⟩ else none
      else
       bif Nat.blt pc 61 then
        if h : pc = 60 then some ⟨(.imul, 61, .inl 0, 0, 0), by subst h; exact ⟨dX9_feelsOf_60, rfl, trivial⟩⟩ else none
       else
        if h : pc = 61 then some ⟨(.istore 4, 63, .inl 0, 0, 0), by subst h; exact ⟨dX9_feelsOf_61, rfl, (show (4 : Nat) < 6 by decide)⟩⟩ else none
     else
      bif Nat.blt pc 66 then
       bif Nat.blt pc 64 then
        if h : pc = 63 then some ⟨(.iconst 2, 64, .inl 2, 0, 0), by subst h; exact ⟨dX9_feelsOf_63, rfl, ⟨2, rfl, by decide⟩⟩⟩ else none
       else
        if h : pc = 64 then some ⟨(.iload 4, 66, .inl 0, 0, 0), by subst h; exact ⟨dX9_feelsOf_64, rfl, trivial⟩⟩ else none
      else
       bif Nat.blt pc 67 then
        if h : pc = 66 then some ⟨(.imul, 67, .inl 0, 0, 0), by subst h; exact ⟨dX9_feelsOf_66, rfl, trivial⟩⟩ else none
       else
        if h : pc = 67 then some ⟨(.aload_n 0, 68, .inl 0, 0, 0), by subst h; exact ⟨dX9_feelsOf_67, rfl, trivial⟩⟩ else none
 else
  bif Nat.blt pc 107 then
   bif Nat.blt pc 85 then
    bif Nat.blt pc 76 then
     bif Nat.blt pc 73 then
      bif Nat.blt pc 71 then
       if h : pc = 68 then some ⟨(.getfield 26, 71, .inr (.inr none), 10, 14), by subst h; exact ⟨dX9_feelsOf_68, rfl, ⟨⟨_, rfl, by decide, _, Or.inl q1368, Or.inl rfl⟩, (show mKd 14 10 = 6 by rfl)⟩⟩⟩ else none
      else
       bif Nat.blt pc 72 then
        if h : pc = 71 then some ⟨(.iconst 5, 72, .inl 5, 0, 0), by subst h; exact ⟨dX9_feelsOf_71, rfl, ⟨5, rfl, by decide⟩⟩⟩ else none
       else
        if h : pc = 72 then some ⟨(.iload_n 1, 73, .inl 0, 0, 0), by subst h; exact ⟨dX9_feelsOf_72, rfl, trivial⟩⟩ else none
     else
      bif Nat.blt pc 74 then
       if h : pc = 73 then some ⟨(.imul, 74, .inl 0, 0, 0), by subst h; exact ⟨dX9_feelsOf_73, rfl, trivial⟩⟩ else none
      else
       bif Nat.blt pc 75 then
        if h : pc = 74 then some ⟨(.iconst 2, 75, .inl 2, 0, 0), by subst h; exact ⟨dX9_feelsOf_74, rfl, ⟨2, rfl, by decide⟩⟩⟩ else none
       else
        if h : pc = 75 then some ⟨(.iadd, 76, .inl 0, 0, 0), by subst h; exact ⟨dX9_feelsOf_75, rfl, trivial⟩⟩ else none
    else
     bif Nat.blt pc 81 then
      bif Nat.blt pc 77 then
       if h : pc = 76 then some ⟨(.iaload, 77, .inl 0, 0, 0), by subst h; exact ⟨dX9_feelsOf_76, rfl, trivial⟩⟩ else none
      else
       bif Nat.blt pc 80 then
        if h : pc = 77 then some ⟨(.sipush 15120, 80, .inl 15120, 0, 0), by subst h; exact ⟨dX9_feelsOf_77, rfl, ⟨15120, rfl, by decide⟩⟩⟩ else none
       else
        if h : pc = 80 then some ⟨(.imul, 81, .inl 0, 0, 0), by subst h; exact ⟨dX9_feelsOf_80, rfl, trivial⟩⟩ else none
     else
      bif Nat.blt pc 82 then
       if h : pc = 81 then some ⟨(.isub, 82, .inl 0, 0, 0), by subst h; exact ⟨dX9_feelsOf_81, rfl, trivial⟩⟩ else none
      else
       bif Nat.blt pc 84 then
        if h : pc = 82 then some ⟨(.istore 5, 84, .inl 0, 0, 0), by subst h; exact ⟨dX9_feelsOf_82, rfl, (show (5 : Nat) < 6 by decide)⟩⟩ else none
       else
        if h : pc = 84 then some ⟨(.iload_n 2, 85, .inl 0, 0, 0), by subst h; exact ⟨dX9_feelsOf_84, rfl, trivial⟩⟩ else none
   else
    bif Nat.blt pc 98 then
     bif Nat.blt pc 93 then
      bif Nat.blt pc 88 then
       if h : pc = 85 then some ⟨(.ifCond .ne 8, 88, .inl 0, 93, 0), by subst h; exact ⟨dX9_feelsOf_85, rfl, (show ((85 : Nat) : Int) + (8) = ((93 : Nat) : Int) by decide)⟩⟩ else none
      else
       bif Nat.blt pc 90 then
        if h : pc = 88 then some ⟨(.iload 4, 90, .inl 0, 0, 0), by subst h; exact ⟨dX9_feelsOf_88, rfl, trivial⟩⟩ else none
       else
        if h : pc = 90 then some ⟨(.goto 64, 93, .inl 0, 154, 0), by subst h; exact ⟨dX9_feelsOf_90, rfl, (show ((90 : Nat) : Int) + (64) = ((154 : Nat) : Int) by decide)⟩⟩ else none
     else
      bif Nat.blt pc 94 then
       if h : pc = 93 then some ⟨(.iload_n 2, 94, .inl 0, 0, 0), by subst h; exact ⟨dX9_feelsOf_93, rfl, trivial⟩⟩ else none
      else
       bif Nat.blt pc 95 then
        if h : pc = 94 then some ⟨(.iconst 1, 95, .inl 1, 0, 0), by subst h; exact ⟨dX9_feelsOf_94, rfl, ⟨1, rfl, by decide⟩⟩⟩ else none
       else
        if h : pc = 95 then some ⟨(.if_icmp .ne 10, 98, .inl 0, 105, 0), by subst h; exact ⟨dX9_feelsOf_95, rfl, (show ((95 : Nat) : Int) + (10) = ((105 : Nat) : Int) by decide)⟩⟩ else none
    else
     bif Nat.blt pc 102 then
      bif Nat.blt pc 99 then
       if h : pc = 98 then some ⟨(.iconst 2, 99, .inl 2, 0, 0), by subst h; exact ⟨dX9_feelsOf_98, rfl, ⟨2, rfl, by decide⟩⟩⟩ else none
      else
       bif Nat.blt pc 101 then
        if h : pc = 99 then some ⟨(.iload 4, 101, .inl 0, 0, 0), by subst h; exact ⟨dX9_feelsOf_99, rfl, trivial⟩⟩ else none
       else
        if h : pc = 101 then some ⟨(.imul, 102, .inl 0, 0, 0), by subst h; exact ⟨dX9_feelsOf_101, rfl, trivial⟩⟩ else none
     else
      bif Nat.blt pc 105 then
       if h : pc = 102 then some ⟨(.goto 52, 105, .inl 0, 154, 0), by subst h; exact ⟨dX9_feelsOf_102, rfl, (show ((102 : Nat) : Int) + (52) = ((154 : Nat) : Int) by decide)⟩⟩ else none
      else
       bif Nat.blt pc 106 then
        if h : pc = 105 then some ⟨(.iload_n 2, 106, .inl 0, 0, 0), by subst h; exact ⟨dX9_feelsOf_105, rfl, trivial⟩⟩ else none
       else
        if h : pc = 106 then some ⟨(.iconst 2, 107, .inl 2, 0, 0), by subst h; exact ⟨dX9_feelsOf_106, rfl, ⟨2, rfl, by decide⟩⟩⟩ else none
  else
   bif Nat.blt pc 130 then
    bif Nat.blt pc 118 then
     bif Nat.blt pc 113 then
      bif Nat.blt pc 110 then
       if h : pc = 107 then some ⟨(.if_icmp .ne 10, 110, .inl 0, 117, 0), by subst h; exact ⟨dX9_feelsOf_107, rfl, (show ((107 : Nat) : Int) + (10) = ((117 : Nat) : Int) by decide)⟩⟩ else none
      else
       bif Nat.blt pc 112 then
        if h : pc = 110 then some ⟨(.iload 4, 112, .inl 0, 0, 0), by subst h; exact ⟨dX9_feelsOf_110, rfl, trivial⟩⟩ else none
       else
        if h : pc = 112 then some ⟨(.iconst 2, 113, .inl 2, 0, 0), by subst h; exact ⟨dX9_feelsOf_112, rfl, ⟨2, rfl, by decide⟩⟩⟩ else none
     else
      bif Nat.blt pc 114 then
       if h : pc = 113 then some ⟨(.idiv, 114, .inl 0, 0, 0), by subst h; exact ⟨dX9_feelsOf_113, rfl, trivial⟩⟩ else none
      else
       bif Nat.blt pc 117 then
        if h : pc = 114 then some ⟨(.goto 40, 117, .inl 0, 154, 0), by subst h; exact ⟨dX9_feelsOf_114, rfl, (show ((114 : Nat) : Int) + (40) = ((154 : Nat) : Int) by decide)⟩⟩ else none
       else
        if h : pc = 117 then some ⟨(.iload_n 2, 118, .inl 0, 0, 0), by subst h; exact ⟨dX9_feelsOf_117, rfl, trivial⟩⟩ else none
    else
     bif Nat.blt pc 124 then
      bif Nat.blt pc 119 then
       if h : pc = 118 then some ⟨(.iconst 4, 119, .inl 4, 0, 0), by subst h; exact ⟨dX9_feelsOf_118, rfl, ⟨4, rfl, by decide⟩⟩⟩ else none
      else
       bif Nat.blt pc 122 then
        if h : pc = 119 then some ⟨(.if_icmp .ne 11, 122, .inl 0, 130, 0), by subst h; exact ⟨dX9_feelsOf_119, rfl, (show ((119 : Nat) : Int) + (11) = ((130 : Nat) : Int) by decide)⟩⟩ else none
       else
        if h : pc = 122 then some ⟨(.iload 4, 124, .inl 0, 0, 0), by subst h; exact ⟨dX9_feelsOf_122, rfl, trivial⟩⟩ else none
     else
      bif Nat.blt pc 126 then
       if h : pc = 124 then some ⟨(.bipush 6, 126, .inl 6, 0, 0), by subst h; exact ⟨dX9_feelsOf_124, rfl, ⟨6, rfl, by decide⟩⟩⟩ else none
      else
       bif Nat.blt pc 127 then
        if h : pc = 126 then some ⟨(.idiv, 127, .inl 0, 0, 0), by subst h; exact ⟨dX9_feelsOf_126, rfl, trivial⟩⟩ else none
       else
        if h : pc = 127 then some ⟨(.goto 27, 130, .inl 0, 154, 0), by subst h; exact ⟨dX9_feelsOf_127, rfl, (show ((127 : Nat) : Int) + (27) = ((154 : Nat) : Int) by decide)⟩⟩ else none
   else
    bif Nat.blt pc 140 then
     bif Nat.blt pc 135 then
      bif Nat.blt pc 131 then
       if h : pc = 130 then some ⟨(.iload_n 2, 131, .inl 0, 0, 0), by subst h; exact ⟨dX9_feelsOf_130, rfl, trivial⟩⟩ else none
      else
       bif Nat.blt pc 132 then
        if h : pc = 131 then some ⟨(.iconst 5, 132, .inl 5, 0, 0), by subst h; exact ⟨dX9_feelsOf_131, rfl, ⟨5, rfl, by decide⟩⟩⟩ else none
       else
        if h : pc = 132 then some ⟨(.if_icmp .ne 11, 135, .inl 0, 143, 0), by subst h; exact ⟨dX9_feelsOf_132, rfl, (show ((132 : Nat) : Int) + (11) = ((143 : Nat) : Int) by decide)⟩⟩ else none
     else
      bif Nat.blt pc 136 then
       if h : pc = 135 then some ⟨(.iload_n 3, 136, .inl 0, 0, 0), by subst h; exact ⟨dX9_feelsOf_135, rfl, trivial⟩⟩ else none
      else
       bif Nat.blt pc 139 then
        if h : pc = 136 then some ⟨(.sipush 15120, 139, .inl 15120, 0, 0), by subst h; exact ⟨dX9_feelsOf_136, rfl, ⟨15120, rfl, by decide⟩⟩⟩ else none
       else
        if h : pc = 139 then some ⟨(.imul, 140, .inl 0, 0, 0), by subst h; exact ⟨dX9_feelsOf_139, rfl, trivial⟩⟩ else none
    else
     bif Nat.blt pc 148 then
      bif Nat.blt pc 143 then
       if h : pc = 140 then some ⟨(.goto 14, 143, .inl 0, 154, 0), by subst h; exact ⟨dX9_feelsOf_140, rfl, (show ((140 : Nat) : Int) + (14) = ((154 : Nat) : Int) by decide)⟩⟩ else none
      else
       bif Nat.blt pc 145 then
        if h : pc = 143 then some ⟨(.iload 5, 145, .inl 0, 0, 0), by subst h; exact ⟨dX9_feelsOf_143, rfl, trivial⟩⟩ else none
       else
        if h : pc = 145 then some ⟨(.ifCond .ge 7, 148, .inl 0, 152, 0), by subst h; exact ⟨dX9_feelsOf_145, rfl, (show ((145 : Nat) : Int) + (7) = ((152 : Nat) : Int) by decide)⟩⟩ else none
     else
      bif Nat.blt pc 152 then
       bif Nat.blt pc 149 then
        if h : pc = 148 then some ⟨(.iconst 0, 149, .inl 0, 0, 0), by subst h; exact ⟨dX9_feelsOf_148, rfl, ⟨0, rfl, by decide⟩⟩⟩ else none
       else
        if h : pc = 149 then some ⟨(.goto 5, 152, .inl 0, 154, 0), by subst h; exact ⟨dX9_feelsOf_149, rfl, (show ((149 : Nat) : Int) + (5) = ((154 : Nat) : Int) by decide)⟩⟩ else none
      else
       bif Nat.blt pc 154 then
        if h : pc = 152 then some ⟨(.iload 5, 154, .inl 0, 0, 0), by subst h; exact ⟨dX9_feelsOf_152, rfl, trivial⟩⟩ else none
       else
        if h : pc = 154 then some ⟨(.ireturn, 155, .inl 0, 0, 0), by subst h; exact ⟨dX9_feelsOf_154, rfl, rfl⟩⟩ else none

noncomputable def mt63 (pc : Nat) : Option {e : mE // mOK yX9_lays cX9_lays 4 ((Option.none : Option ClassFile.FieldType)) pc e} :=
 bif Nat.blt pc 42 then
  bif Nat.blt pc 20 then
   bif Nat.blt pc 10 then
    bif Nat.blt pc 5 then
     bif Nat.blt pc 1 then
      if h : pc = 0 then some ⟨(.iload_n 1, 1, .inl 0, 0, 0), by subst h; exact ⟨dX9_lays_0, rfl, trivial⟩⟩ else none
     else
      bif Nat.blt pc 4 then
       if h : pc = 1 then some ⟨(.ifCond .ne 13, 4, .inl 0, 14, 0), by subst h; exact ⟨dX9_lays_1, rfl, (show ((1 : Nat) : Int) + (13) = ((14 : Nat) : Int) by decide)⟩⟩ else none
      else
       if h : pc = 4 then some ⟨(.aload_n 0, 5, .inl 0, 0, 0), by subst h; exact ⟨dX9_lays_4, rfl, trivial⟩⟩ else none
    else
     bif Nat.blt pc 8 then
      if h : pc = 5 then some ⟨(.getfield 23, 8, .inr (.inr none), 7, 14), by subst h; exact ⟨dX9_lays_5, rfl, ⟨⟨_, rfl, by decide, _, Or.inl q1365, Or.inl rfl⟩, (show mKd 14 7 = 6 by rfl)⟩⟩⟩ else none
     else
      bif Nat.blt pc 9 then
       if h : pc = 8 then some ⟨(.iload_n 2, 9, .inl 0, 0, 0), by subst h; exact ⟨dX9_lays_8, rfl, trivial⟩⟩ else none
      else
       if h : pc = 9 then some ⟨(.iload_n 3, 10, .inl 0, 0, 0), by subst h; exact ⟨dX9_lays_9, rfl, trivial⟩⟩ else none
   else
    bif Nat.blt pc 15 then
     bif Nat.blt pc 11 then
      if h : pc = 10 then some ⟨(.iastore, 11, .inl 0, 0, 0), by subst h; exact ⟨dX9_lays_10, rfl, trivial⟩⟩ else none
     else
      bif Nat.blt pc 14 then
       if h : pc = 11 then some ⟨(.goto 72, 14, .inl 0, 83, 0), by subst h; exact ⟨dX9_lays_11, rfl, (show ((11 : Nat) : Int) + (72) = ((83 : Nat) : Int) by decide)⟩⟩ else none
      else
       if h : pc = 14 then some ⟨(.iload_n 1, 15, .inl 0, 0, 0), by subst h; exact ⟨dX9_lays_14, rfl, trivial⟩⟩ else none
    else
     bif Nat.blt pc 16 then
      if h : pc = 15 then some ⟨(.iconst 3, 16, .inl 3, 0, 0), by subst h; exact ⟨dX9_lays_15, rfl, ⟨3, rfl, by decide⟩⟩⟩ else none
     else
      bif Nat.blt pc 19 then
       if h : pc = 16 then some ⟨(.if_icmp .ge 40, 19, .inl 0, 56, 0), by subst h; exact ⟨dX9_lays_16, rfl, (show ((16 : Nat) : Int) + (40) = ((56 : Nat) : Int) by decide)⟩⟩ else none
      else
       if h : pc = 19 then some ⟨(.aload_n 0, 20, .inl 0, 0, 0), by subst h; exact ⟨dX9_lays_19, rfl, trivial⟩⟩ else none
  else
   bif Nat.blt pc 30 then
    bif Nat.blt pc 25 then
     bif Nat.blt pc 21 then
      if h : pc = 20 then some ⟨(.iload_n 1, 21, .inl 0, 0, 0), by subst h; exact ⟨dX9_lays_20, rfl, trivial⟩⟩ else none
     else
      bif Nat.blt pc 22 then
       if h : pc = 21 then some ⟨(.iconst 1, 22, .inl 1, 0, 0), by subst h; exact ⟨dX9_lays_21, rfl, ⟨1, rfl, by decide⟩⟩⟩ else none
      else
       if h : pc = 22 then some ⟨(.if_icmp .ne 7, 25, .inl 0, 29, 0), by subst h; exact ⟨dX9_lays_22, rfl, (show ((22 : Nat) : Int) + (7) = ((29 : Nat) : Int) by decide)⟩⟩ else none
    else
     bif Nat.blt pc 26 then
      if h : pc = 25 then some ⟨(.iload_n 3, 26, .inl 0, 0, 0), by subst h; exact ⟨dX9_lays_25, rfl, trivial⟩⟩ else none
     else
      bif Nat.blt pc 29 then
       if h : pc = 26 then some ⟨(.goto 7, 29, .inl 0, 33, 0), by subst h; exact ⟨dX9_lays_26, rfl, (show ((26 : Nat) : Int) + (7) = ((33 : Nat) : Int) by decide)⟩⟩ else none
      else
       if h : pc = 29 then some ⟨(.aload_n 0, 30, .inl 0, 0, 0), by subst h; exact ⟨dX9_lays_29, rfl, trivial⟩⟩ else none
   else
    bif Nat.blt pc 37 then
     bif Nat.blt pc 33 then
      if h : pc = 30 then some ⟨(.getfield 95, 33, .inl 0, 8, 14), by subst h; exact ⟨dX9_lays_30, rfl, ⟨⟨_, rfl, by decide, _, Or.inl q1366, Or.inl rfl⟩, (show mKd 14 8 ≤ 4 by decide)⟩⟩⟩ else none
     else
      bif Nat.blt pc 36 then
       if h : pc = 33 then some ⟨(.putfield 95, 36, .inl 0, 8, 14), by subst h; exact ⟨dX9_lays_33, rfl, ⟨⟨_, rfl, by decide, _, Or.inl q1366, Or.inl rfl⟩, (show mKd 14 8 ≤ 4 by decide), by decide, by decide, (fun q h => Or.inl (by cases h; rfl))⟩⟩⟩ else none
      else
       if h : pc = 36 then some ⟨(.aload_n 0, 37, .inl 0, 0, 0), by subst h; exact ⟨dX9_lays_36, rfl, trivial⟩⟩ else none
    else
     bif Nat.blt pc 38 then
      if h : pc = 37 then some ⟨(.iload_n 1, 38, .inl 0, 0, 0), by subst h; exact ⟨dX9_lays_37, rfl, trivial⟩⟩ else none
     else
      bif Nat.blt pc 39 then
       if h : pc = 38 then some ⟨(.iconst 2, 39, .inl 2, 0, 0), by subst h; exact ⟨dX9_lays_38, rfl, ⟨2, rfl, by decide⟩⟩⟩ else none
      else
       if h : pc = 39 then some ⟨(.if_icmp .ne 7, 42, .inl 0, 46, 0), by subst h; exact ⟨dX9_lays_39, rfl, (show ((39 : Nat) : Int) + (7) = ((46 : Nat) : Int) by decide)⟩⟩ else none
 else
  bif Nat.blt pc 67 then
   bif Nat.blt pc 56 then
    bif Nat.blt pc 47 then
     bif Nat.blt pc 43 then
      if h : pc = 42 then some ⟨(.iload_n 3, 43, .inl 0, 0, 0), by subst h; exact ⟨dX9_lays_42, rfl, trivial⟩⟩ else none
     else
      bif Nat.blt pc 46 then
       if h : pc = 43 then some ⟨(.goto 7, 46, .inl 0, 50, 0), by subst h; exact ⟨dX9_lays_43, rfl, (show ((43 : Nat) : Int) + (7) = ((50 : Nat) : Int) by decide)⟩⟩ else none
      else
       if h : pc = 46 then some ⟨(.aload_n 0, 47, .inl 0, 0, 0), by subst h; exact ⟨dX9_lays_46, rfl, trivial⟩⟩ else none
    else
     bif Nat.blt pc 50 then
      if h : pc = 47 then some ⟨(.getfield 98, 50, .inl 0, 9, 14), by subst h; exact ⟨dX9_lays_47, rfl, ⟨⟨_, rfl, by decide, _, Or.inl q1367, Or.inl rfl⟩, (show mKd 14 9 ≤ 4 by decide)⟩⟩⟩ else none
     else
      bif Nat.blt pc 53 then
       if h : pc = 50 then some ⟨(.putfield 98, 53, .inl 0, 9, 14), by subst h; exact ⟨dX9_lays_50, rfl, ⟨⟨_, rfl, by decide, _, Or.inl q1367, Or.inl rfl⟩, (show mKd 14 9 ≤ 4 by decide), by decide, by decide, (fun q h => Or.inl (by cases h; rfl))⟩⟩⟩ else none
      else
       if h : pc = 53 then some ⟨(.goto 30, 56, .inl 0, 83, 0), by subst h; exact ⟨dX9_lays_53, rfl, (show ((53 : Nat) : Int) + (30) = ((83 : Nat) : Int) by decide)⟩⟩ else none
   else
    bif Nat.blt pc 62 then
     bif Nat.blt pc 57 then
      if h : pc = 56 then some ⟨(.iload_n 1, 57, .inl 0, 0, 0), by subst h; exact ⟨dX9_lays_56, rfl, trivial⟩⟩ else none
     else
      bif Nat.blt pc 59 then
       if h : pc = 57 then some ⟨(.bipush 8, 59, .inl 8, 0, 0), by subst h; exact ⟨dX9_lays_57, rfl, ⟨8, rfl, by decide⟩⟩⟩ else none
      else
       if h : pc = 59 then some ⟨(.if_icmp .ge 19, 62, .inl 0, 78, 0), by subst h; exact ⟨dX9_lays_59, rfl, (show ((59 : Nat) : Int) + (19) = ((78 : Nat) : Int) by decide)⟩⟩ else none
    else
     bif Nat.blt pc 63 then
      if h : pc = 62 then some ⟨(.aload_n 0, 63, .inl 0, 0, 0), by subst h; exact ⟨dX9_lays_62, rfl, trivial⟩⟩ else none
     else
      bif Nat.blt pc 66 then
       if h : pc = 63 then some ⟨(.getfield 26, 66, .inr (.inr none), 10, 14), by subst h; exact ⟨dX9_lays_63, rfl, ⟨⟨_, rfl, by decide, _, Or.inl q1368, Or.inl rfl⟩, (show mKd 14 10 = 6 by rfl)⟩⟩⟩ else none
      else
       if h : pc = 66 then some ⟨(.iconst 5, 67, .inl 5, 0, 0), by subst h; exact ⟨dX9_lays_66, rfl, ⟨5, rfl, by decide⟩⟩⟩ else none
  else
   bif Nat.blt pc 73 then
    bif Nat.blt pc 70 then
     bif Nat.blt pc 68 then
      if h : pc = 67 then some ⟨(.iload_n 2, 68, .inl 0, 0, 0), by subst h; exact ⟨dX9_lays_67, rfl, trivial⟩⟩ else none
     else
      bif Nat.blt pc 69 then
       if h : pc = 68 then some ⟨(.imul, 69, .inl 0, 0, 0), by subst h; exact ⟨dX9_lays_68, rfl, trivial⟩⟩ else none
      else
       if h : pc = 69 then some ⟨(.iload_n 1, 70, .inl 0, 0, 0), by subst h; exact ⟨dX9_lays_69, rfl, trivial⟩⟩ else none
    else
     bif Nat.blt pc 71 then
      if h : pc = 70 then some ⟨(.iadd, 71, .inl 0, 0, 0), by subst h; exact ⟨dX9_lays_70, rfl, trivial⟩⟩ else none
     else
      bif Nat.blt pc 72 then
       if h : pc = 71 then some ⟨(.iconst 3, 72, .inl 3, 0, 0), by subst h; exact ⟨dX9_lays_71, rfl, ⟨3, rfl, by decide⟩⟩⟩ else none
      else
       if h : pc = 72 then some ⟨(.isub, 73, .inl 0, 0, 0), by subst h; exact ⟨dX9_lays_72, rfl, trivial⟩⟩ else none
   else
    bif Nat.blt pc 78 then
     bif Nat.blt pc 74 then
      if h : pc = 73 then some ⟨(.iload_n 3, 74, .inl 0, 0, 0), by subst h; exact ⟨dX9_lays_73, rfl, trivial⟩⟩ else none
     else
      bif Nat.blt pc 75 then
       if h : pc = 74 then some ⟨(.iastore, 75, .inl 0, 0, 0), by subst h; exact ⟨dX9_lays_74, rfl, trivial⟩⟩ else none
      else
       if h : pc = 75 then some ⟨(.goto 8, 78, .inl 0, 83, 0), by subst h; exact ⟨dX9_lays_75, rfl, (show ((75 : Nat) : Int) + (8) = ((83 : Nat) : Int) by decide)⟩⟩ else none
    else
     bif Nat.blt pc 80 then
      bif Nat.blt pc 79 then
       if h : pc = 78 then some ⟨(.aload_n 0, 79, .inl 0, 0, 0), by subst h; exact ⟨dX9_lays_78, rfl, trivial⟩⟩ else none
      else
       if h : pc = 79 then some ⟨(.iload_n 3, 80, .inl 0, 0, 0), by subst h; exact ⟨dX9_lays_79, rfl, trivial⟩⟩ else none
     else
      bif Nat.blt pc 83 then
       if h : pc = 80 then some ⟨(.putfield 101, 83, .inl 0, 4, 14), by subst h; exact ⟨dX9_lays_80, rfl, ⟨⟨_, rfl, by decide, _, Or.inl q1362, Or.inl rfl⟩, (show mKd 14 4 ≤ 4 by decide), by decide, by decide, (fun q h => Or.inl (by cases h; rfl))⟩⟩⟩ else none
      else
       if h : pc = 83 then some ⟨(.return_, 84, .inl 0, 0, 0), by subst h; exact ⟨dX9_lays_83, rfl, rfl⟩⟩ else none

noncomputable def mt64 (pc : Nat) : Option {e : mE // mOK yX9_person cX9_person 4 ((Option.some ClassFile.FieldType.int)) pc e} :=
 bif Nat.blt pc 74 then
  bif Nat.blt pc 40 then
   bif Nat.blt pc 18 then
    bif Nat.blt pc 9 then
     bif Nat.blt pc 2 then
      bif Nat.blt pc 1 then
       if h : pc = 0 then some ⟨(.iload_n 1, 1, .inl 0, 0, 0), by subst h; exact ⟨dX9_person_0, rfl, trivial⟩⟩ else none
      else
       if h : pc = 1 then some ⟨(.i2l, 2, .inl 0, 0, 0), by subst h; exact ⟨dX9_person_1, rfl, trivial⟩⟩ else none
     else
      bif Nat.blt pc 3 then
       if h : pc = 2 then some ⟨(.lconst 0, 3, .inr (.inl 0), 0, 0), by subst h; exact ⟨dX9_person_2, rfl, ⟨0, rfl, by decide⟩⟩⟩ else none
      else
       bif Nat.blt pc 6 then
        if h : pc = 3 then some ⟨(.ldc2_w 104, 6, .inr (.inl 5), 0, 0), by subst h; exact ⟨dX9_person_3, rfl, ⟨_, rfl, q1735⟩⟩⟩ else none
       else
        if h : pc = 6 then some ⟨(.invokestatic 67, 9, .inl 0, 3, 0), by subst h; exact ⟨dX9_person_6, rfl, Or.inl ⟨by decide, q1482, q1483⟩⟩⟩ else none
    else
     bif Nat.blt pc 13 then
      bif Nat.blt pc 12 then
       if h : pc = 9 then some ⟨(.ifCond .eq 27, 12, .inl 0, 36, 0), by subst h; exact ⟨dX9_person_9, rfl, (show ((9 : Nat) : Int) + (27) = ((36 : Nat) : Int) by decide)⟩⟩ else none
      else
       if h : pc = 12 then some ⟨(.iload_n 2, 13, .inl 0, 0, 0), by subst h; exact ⟨dX9_person_12, rfl, trivial⟩⟩ else none
     else
      bif Nat.blt pc 14 then
       if h : pc = 13 then some ⟨(.i2l, 14, .inl 0, 0, 0), by subst h; exact ⟨dX9_person_13, rfl, trivial⟩⟩ else none
      else
       bif Nat.blt pc 15 then
        if h : pc = 14 then some ⟨(.lconst 0, 15, .inr (.inl 0), 0, 0), by subst h; exact ⟨dX9_person_14, rfl, ⟨0, rfl, by decide⟩⟩⟩ else none
       else
        if h : pc = 15 then some ⟨(.ldc2_w 71, 18, .inr (.inl 9), 0, 0), by subst h; exact ⟨dX9_person_15, rfl, ⟨_, rfl, q1489⟩⟩⟩ else none
   else
    bif Nat.blt pc 27 then
     bif Nat.blt pc 24 then
      bif Nat.blt pc 21 then
       if h : pc = 18 then some ⟨(.invokestatic 67, 21, .inl 0, 3, 0), by subst h; exact ⟨dX9_person_18, rfl, Or.inl ⟨by decide, q1482, q1483⟩⟩⟩ else none
      else
       if h : pc = 21 then some ⟨(.ifCond .eq 15, 24, .inl 0, 36, 0), by subst h; exact ⟨dX9_person_21, rfl, (show ((21 : Nat) : Int) + (15) = ((36 : Nat) : Int) by decide)⟩⟩ else none
     else
      bif Nat.blt pc 25 then
       if h : pc = 24 then some ⟨(.iload_n 3, 25, .inl 0, 0, 0), by subst h; exact ⟨dX9_person_24, rfl, trivial⟩⟩ else none
      else
       bif Nat.blt pc 26 then
        if h : pc = 25 then some ⟨(.i2l, 26, .inl 0, 0, 0), by subst h; exact ⟨dX9_person_25, rfl, trivial⟩⟩ else none
       else
        if h : pc = 26 then some ⟨(.lconst 0, 27, .inr (.inl 0), 0, 0), by subst h; exact ⟨dX9_person_26, rfl, ⟨0, rfl, by decide⟩⟩⟩ else none
    else
     bif Nat.blt pc 36 then
      bif Nat.blt pc 30 then
       if h : pc = 27 then some ⟨(.ldc2_w 106, 30, .inr (.inl 999), 0, 0), by subst h; exact ⟨dX9_person_27, rfl, ⟨_, rfl, q1736⟩⟩⟩ else none
      else
       bif Nat.blt pc 33 then
        if h : pc = 30 then some ⟨(.invokestatic 67, 33, .inl 0, 3, 0), by subst h; exact ⟨dX9_person_30, rfl, Or.inl ⟨by decide, q1482, q1483⟩⟩⟩ else none
       else
        if h : pc = 33 then some ⟨(.ifCond .ne 6, 36, .inl 0, 39, 0), by subst h; exact ⟨dX9_person_33, rfl, (show ((33 : Nat) : Int) + (6) = ((39 : Nat) : Int) by decide)⟩⟩ else none
     else
      bif Nat.blt pc 38 then
       if h : pc = 36 then some ⟨(.bipush (-2), 38, .inl (-2), 0, 0), by subst h; exact ⟨dX9_person_36, rfl, ⟨(-2), rfl, by decide⟩⟩⟩ else none
      else
       bif Nat.blt pc 39 then
        if h : pc = 38 then some ⟨(.ireturn, 39, .inl 0, 0, 0), by subst h; exact ⟨dX9_person_38, rfl, rfl⟩⟩ else none
       else
        if h : pc = 39 then some ⟨(.aload_n 0, 40, .inl 0, 0, 0), by subst h; exact ⟨dX9_person_39, rfl, trivial⟩⟩ else none
  else
   bif Nat.blt pc 59 then
    bif Nat.blt pc 50 then
     bif Nat.blt pc 44 then
      bif Nat.blt pc 43 then
       if h : pc = 40 then some ⟨(.getfield 64, 43, .inl 0, 11, 14), by subst h; exact ⟨dX9_person_40, rfl, ⟨⟨_, rfl, by decide, _, Or.inl q1369, Or.inl rfl⟩, (show mKd 14 11 ≤ 4 by decide)⟩⟩⟩ else none
      else
       if h : pc = 43 then some ⟨(.iconst 5, 44, .inl 5, 0, 0), by subst h; exact ⟨dX9_person_43, rfl, ⟨5, rfl, by decide⟩⟩⟩ else none
     else
      bif Nat.blt pc 47 then
       if h : pc = 44 then some ⟨(.if_icmp .ne 6, 47, .inl 0, 50, 0), by subst h; exact ⟨dX9_person_44, rfl, (show ((44 : Nat) : Int) + (6) = ((50 : Nat) : Int) by decide)⟩⟩ else none
      else
       bif Nat.blt pc 49 then
        if h : pc = 47 then some ⟨(.bipush (-4), 49, .inl (-4), 0, 0), by subst h; exact ⟨dX9_person_47, rfl, ⟨(-4), rfl, by decide⟩⟩⟩ else none
       else
        if h : pc = 49 then some ⟨(.ireturn, 50, .inl 0, 0, 0), by subst h; exact ⟨dX9_person_49, rfl, rfl⟩⟩ else none
    else
     bif Nat.blt pc 54 then
      bif Nat.blt pc 51 then
       if h : pc = 50 then some ⟨(.aload_n 0, 51, .inl 0, 0, 0), by subst h; exact ⟨dX9_person_50, rfl, trivial⟩⟩ else none
      else
       if h : pc = 51 then some ⟨(.getfield 26, 54, .inr (.inr none), 10, 14), by subst h; exact ⟨dX9_person_51, rfl, ⟨⟨_, rfl, by decide, _, Or.inl q1368, Or.inl rfl⟩, (show mKd 14 10 = 6 by rfl)⟩⟩⟩ else none
     else
      bif Nat.blt pc 55 then
       if h : pc = 54 then some ⟨(.iconst 5, 55, .inl 5, 0, 0), by subst h; exact ⟨dX9_person_54, rfl, ⟨5, rfl, by decide⟩⟩⟩ else none
      else
       bif Nat.blt pc 56 then
        if h : pc = 55 then some ⟨(.aload_n 0, 56, .inl 0, 0, 0), by subst h; exact ⟨dX9_person_55, rfl, trivial⟩⟩ else none
       else
        if h : pc = 56 then some ⟨(.getfield 64, 59, .inl 0, 11, 14), by subst h; exact ⟨dX9_person_56, rfl, ⟨⟨_, rfl, by decide, _, Or.inl q1369, Or.inl rfl⟩, (show mKd 14 11 ≤ 4 by decide)⟩⟩⟩ else none
   else
    bif Nat.blt pc 66 then
     bif Nat.blt pc 61 then
      bif Nat.blt pc 60 then
       if h : pc = 59 then some ⟨(.imul, 60, .inl 0, 0, 0), by subst h; exact ⟨dX9_person_59, rfl, trivial⟩⟩ else none
      else
       if h : pc = 60 then some ⟨(.iload_n 2, 61, .inl 0, 0, 0), by subst h; exact ⟨dX9_person_60, rfl, trivial⟩⟩ else none
     else
      bif Nat.blt pc 62 then
       if h : pc = 61 then some ⟨(.iastore, 62, .inl 0, 0, 0), by subst h; exact ⟨dX9_person_61, rfl, trivial⟩⟩ else none
      else
       bif Nat.blt pc 63 then
        if h : pc = 62 then some ⟨(.aload_n 0, 63, .inl 0, 0, 0), by subst h; exact ⟨dX9_person_62, rfl, trivial⟩⟩ else none
       else
        if h : pc = 63 then some ⟨(.getfield 26, 66, .inr (.inr none), 10, 14), by subst h; exact ⟨dX9_person_63, rfl, ⟨⟨_, rfl, by decide, _, Or.inl q1368, Or.inl rfl⟩, (show mKd 14 10 = 6 by rfl)⟩⟩⟩ else none
    else
     bif Nat.blt pc 71 then
      bif Nat.blt pc 67 then
       if h : pc = 66 then some ⟨(.iconst 5, 67, .inl 5, 0, 0), by subst h; exact ⟨dX9_person_66, rfl, ⟨5, rfl, by decide⟩⟩⟩ else none
      else
       bif Nat.blt pc 68 then
        if h : pc = 67 then some ⟨(.aload_n 0, 68, .inl 0, 0, 0), by subst h; exact ⟨dX9_person_67, rfl, trivial⟩⟩ else none
       else
        if h : pc = 68 then some ⟨(.getfield 64, 71, .inl 0, 11, 14), by subst h; exact ⟨dX9_person_68, rfl, ⟨⟨_, rfl, by decide, _, Or.inl q1369, Or.inl rfl⟩, (show mKd 14 11 ≤ 4 by decide)⟩⟩⟩ else none
     else
      bif Nat.blt pc 72 then
       if h : pc = 71 then some ⟨(.imul, 72, .inl 0, 0, 0), by subst h; exact ⟨dX9_person_71, rfl, trivial⟩⟩ else none
      else
       bif Nat.blt pc 73 then
        if h : pc = 72 then some ⟨(.iconst 1, 73, .inl 1, 0, 0), by subst h; exact ⟨dX9_person_72, rfl, ⟨1, rfl, by decide⟩⟩⟩ else none
       else
        if h : pc = 73 then some ⟨(.iadd, 74, .inl 0, 0, 0), by subst h; exact ⟨dX9_person_73, rfl, trivial⟩⟩ else none
 else
  bif Nat.blt pc 103 then
   bif Nat.blt pc 88 then
    bif Nat.blt pc 81 then
     bif Nat.blt pc 76 then
      bif Nat.blt pc 75 then
       if h : pc = 74 then some ⟨(.iload_n 3, 75, .inl 0, 0, 0), by subst h; exact ⟨dX9_person_74, rfl, trivial⟩⟩ else none
      else
       if h : pc = 75 then some ⟨(.iastore, 76, .inl 0, 0, 0), by subst h; exact ⟨dX9_person_75, rfl, trivial⟩⟩ else none
     else
      bif Nat.blt pc 77 then
       if h : pc = 76 then some ⟨(.aload_n 0, 77, .inl 0, 0, 0), by subst h; exact ⟨dX9_person_76, rfl, trivial⟩⟩ else none
      else
       bif Nat.blt pc 80 then
        if h : pc = 77 then some ⟨(.getfield 26, 80, .inr (.inr none), 10, 14), by subst h; exact ⟨dX9_person_77, rfl, ⟨⟨_, rfl, by decide, _, Or.inl q1368, Or.inl rfl⟩, (show mKd 14 10 = 6 by rfl)⟩⟩⟩ else none
       else
        if h : pc = 80 then some ⟨(.iconst 5, 81, .inl 5, 0, 0), by subst h; exact ⟨dX9_person_80, rfl, ⟨5, rfl, by decide⟩⟩⟩ else none
    else
     bif Nat.blt pc 85 then
      bif Nat.blt pc 82 then
       if h : pc = 81 then some ⟨(.aload_n 0, 82, .inl 0, 0, 0), by subst h; exact ⟨dX9_person_81, rfl, trivial⟩⟩ else none
      else
       if h : pc = 82 then some ⟨(.getfield 64, 85, .inl 0, 11, 14), by subst h; exact ⟨dX9_person_82, rfl, ⟨⟨_, rfl, by decide, _, Or.inl q1369, Or.inl rfl⟩, (show mKd 14 11 ≤ 4 by decide)⟩⟩⟩ else none
     else
      bif Nat.blt pc 86 then
       if h : pc = 85 then some ⟨(.imul, 86, .inl 0, 0, 0), by subst h; exact ⟨dX9_person_85, rfl, trivial⟩⟩ else none
      else
       bif Nat.blt pc 87 then
        if h : pc = 86 then some ⟨(.iconst 2, 87, .inl 2, 0, 0), by subst h; exact ⟨dX9_person_86, rfl, ⟨2, rfl, by decide⟩⟩⟩ else none
       else
        if h : pc = 87 then some ⟨(.iadd, 88, .inl 0, 0, 0), by subst h; exact ⟨dX9_person_87, rfl, trivial⟩⟩ else none
   else
    bif Nat.blt pc 95 then
     bif Nat.blt pc 90 then
      bif Nat.blt pc 89 then
       if h : pc = 88 then some ⟨(.iconst 0, 89, .inl 0, 0, 0), by subst h; exact ⟨dX9_person_88, rfl, ⟨0, rfl, by decide⟩⟩⟩ else none
      else
       if h : pc = 89 then some ⟨(.iastore, 90, .inl 0, 0, 0), by subst h; exact ⟨dX9_person_89, rfl, trivial⟩⟩ else none
     else
      bif Nat.blt pc 91 then
       if h : pc = 90 then some ⟨(.aload_n 0, 91, .inl 0, 0, 0), by subst h; exact ⟨dX9_person_90, rfl, trivial⟩⟩ else none
      else
       bif Nat.blt pc 94 then
        if h : pc = 91 then some ⟨(.getfield 26, 94, .inr (.inr none), 10, 14), by subst h; exact ⟨dX9_person_91, rfl, ⟨⟨_, rfl, by decide, _, Or.inl q1368, Or.inl rfl⟩, (show mKd 14 10 = 6 by rfl)⟩⟩⟩ else none
       else
        if h : pc = 94 then some ⟨(.iconst 5, 95, .inl 5, 0, 0), by subst h; exact ⟨dX9_person_94, rfl, ⟨5, rfl, by decide⟩⟩⟩ else none
    else
     bif Nat.blt pc 100 then
      bif Nat.blt pc 96 then
       if h : pc = 95 then some ⟨(.aload_n 0, 96, .inl 0, 0, 0), by subst h; exact ⟨dX9_person_95, rfl, trivial⟩⟩ else none
      else
       bif Nat.blt pc 99 then
        if h : pc = 96 then some ⟨(.getfield 64, 99, .inl 0, 11, 14), by subst h; exact ⟨dX9_person_96, rfl, ⟨⟨_, rfl, by decide, _, Or.inl q1369, Or.inl rfl⟩, (show mKd 14 11 ≤ 4 by decide)⟩⟩⟩ else none
       else
        if h : pc = 99 then some ⟨(.imul, 100, .inl 0, 0, 0), by subst h; exact ⟨dX9_person_99, rfl, trivial⟩⟩ else none
     else
      bif Nat.blt pc 101 then
       if h : pc = 100 then some ⟨(.iconst 3, 101, .inl 3, 0, 0), by subst h; exact ⟨dX9_person_100, rfl, ⟨3, rfl, by decide⟩⟩⟩ else none
      else
       bif Nat.blt pc 102 then
        if h : pc = 101 then some ⟨(.iadd, 102, .inl 0, 0, 0), by subst h; exact ⟨dX9_person_101, rfl, trivial⟩⟩ else none
       else
        if h : pc = 102 then some ⟨(.iconst 1, 103, .inl 1, 0, 0), by subst h; exact ⟨dX9_person_102, rfl, ⟨1, rfl, by decide⟩⟩⟩ else none
  else
   bif Nat.blt pc 118 then
    bif Nat.blt pc 110 then
     bif Nat.blt pc 105 then
      bif Nat.blt pc 104 then
       if h : pc = 103 then some ⟨(.iastore, 104, .inl 0, 0, 0), by subst h; exact ⟨dX9_person_103, rfl, trivial⟩⟩ else none
      else
       if h : pc = 104 then some ⟨(.aload_n 0, 105, .inl 0, 0, 0), by subst h; exact ⟨dX9_person_104, rfl, trivial⟩⟩ else none
     else
      bif Nat.blt pc 108 then
       if h : pc = 105 then some ⟨(.getfield 26, 108, .inr (.inr none), 10, 14), by subst h; exact ⟨dX9_person_105, rfl, ⟨⟨_, rfl, by decide, _, Or.inl q1368, Or.inl rfl⟩, (show mKd 14 10 = 6 by rfl)⟩⟩⟩ else none
      else
       bif Nat.blt pc 109 then
        if h : pc = 108 then some ⟨(.iconst 5, 109, .inl 5, 0, 0), by subst h; exact ⟨dX9_person_108, rfl, ⟨5, rfl, by decide⟩⟩⟩ else none
       else
        if h : pc = 109 then some ⟨(.aload_n 0, 110, .inl 0, 0, 0), by subst h; exact ⟨dX9_person_109, rfl, trivial⟩⟩ else none
    else
     bif Nat.blt pc 115 then
      bif Nat.blt pc 113 then
       if h : pc = 110 then some ⟨(.getfield 64, 113, .inl 0, 11, 14), by subst h; exact ⟨dX9_person_110, rfl, ⟨⟨_, rfl, by decide, _, Or.inl q1369, Or.inl rfl⟩, (show mKd 14 11 ≤ 4 by decide)⟩⟩⟩ else none
      else
       bif Nat.blt pc 114 then
        if h : pc = 113 then some ⟨(.imul, 114, .inl 0, 0, 0), by subst h; exact ⟨dX9_person_113, rfl, trivial⟩⟩ else none
       else
        if h : pc = 114 then some ⟨(.iconst 4, 115, .inl 4, 0, 0), by subst h; exact ⟨dX9_person_114, rfl, ⟨4, rfl, by decide⟩⟩⟩ else none
     else
      bif Nat.blt pc 116 then
       if h : pc = 115 then some ⟨(.iadd, 116, .inl 0, 0, 0), by subst h; exact ⟨dX9_person_115, rfl, trivial⟩⟩ else none
      else
       bif Nat.blt pc 117 then
        if h : pc = 116 then some ⟨(.iload_n 1, 117, .inl 0, 0, 0), by subst h; exact ⟨dX9_person_116, rfl, trivial⟩⟩ else none
       else
        if h : pc = 117 then some ⟨(.iastore, 118, .inl 0, 0, 0), by subst h; exact ⟨dX9_person_117, rfl, trivial⟩⟩ else none
   else
    bif Nat.blt pc 125 then
     bif Nat.blt pc 120 then
      bif Nat.blt pc 119 then
       if h : pc = 118 then some ⟨(.aload_n 0, 119, .inl 0, 0, 0), by subst h; exact ⟨dX9_person_118, rfl, trivial⟩⟩ else none
      else
       if h : pc = 119 then some ⟨(.dup, 120, .inl 0, 0, 0), by subst h; exact ⟨dX9_person_119, rfl, trivial⟩⟩ else none
     else
      bif Nat.blt pc 123 then
       if h : pc = 120 then some ⟨(.getfield 64, 123, .inl 0, 11, 14), by subst h; exact ⟨dX9_person_120, rfl, ⟨⟨_, rfl, by decide, _, Or.inl q1369, Or.inl rfl⟩, (show mKd 14 11 ≤ 4 by decide)⟩⟩⟩ else none
      else
       bif Nat.blt pc 124 then
        if h : pc = 123 then some ⟨(.iconst 1, 124, .inl 1, 0, 0), by subst h; exact ⟨dX9_person_123, rfl, ⟨1, rfl, by decide⟩⟩⟩ else none
       else
        if h : pc = 124 then some ⟨(.iadd, 125, .inl 0, 0, 0), by subst h; exact ⟨dX9_person_124, rfl, trivial⟩⟩ else none
    else
     bif Nat.blt pc 132 then
      bif Nat.blt pc 128 then
       if h : pc = 125 then some ⟨(.putfield 64, 128, .inl 0, 11, 14), by subst h; exact ⟨dX9_person_125, rfl, ⟨⟨_, rfl, by decide, _, Or.inl q1369, Or.inl rfl⟩, (show mKd 14 11 ≤ 4 by decide), by decide, by decide, (fun q h => Or.inl (by cases h; rfl))⟩⟩⟩ else none
      else
       bif Nat.blt pc 129 then
        if h : pc = 128 then some ⟨(.aload_n 0, 129, .inl 0, 0, 0), by subst h; exact ⟨dX9_person_128, rfl, trivial⟩⟩ else none
       else
        if h : pc = 129 then some ⟨(.getfield 64, 132, .inl 0, 11, 14), by subst h; exact ⟨dX9_person_129, rfl, ⟨⟨_, rfl, by decide, _, Or.inl q1369, Or.inl rfl⟩, (show mKd 14 11 ≤ 4 by decide)⟩⟩⟩ else none
     else
      bif Nat.blt pc 133 then
       if h : pc = 132 then some ⟨(.iconst 1, 133, .inl 1, 0, 0), by subst h; exact ⟨dX9_person_132, rfl, ⟨1, rfl, by decide⟩⟩⟩ else none
      else
       bif Nat.blt pc 134 then
        if h : pc = 133 then some ⟨(.isub, 134, .inl 0, 0, 0), by subst h; exact ⟨dX9_person_133, rfl, trivial⟩⟩ else none
       else
        if h : pc = 134 then some ⟨(.ireturn, 135, .inl 0, 0, 0), by subst h; exact ⟨dX9_person_134, rfl, rfl⟩⟩ else none

noncomputable def mt65 (pc : Nat) : Option {e : mE // mOK yX9_feed cX9_feed 2 ((Option.some ClassFile.FieldType.int)) pc e} :=
 bif Nat.blt pc 28 then
  bif Nat.blt pc 14 then
   bif Nat.blt pc 3 then
    bif Nat.blt pc 1 then
     if h : pc = 0 then some ⟨(.iload_n 1, 1, .inl 0, 0, 0), by subst h; exact ⟨dX9_feed_0, rfl, trivial⟩⟩ else none
    else
     bif Nat.blt pc 2 then
      if h : pc = 1 then some ⟨(.i2l, 2, .inl 0, 0, 0), by subst h; exact ⟨dX9_feed_1, rfl, trivial⟩⟩ else none
     else
      if h : pc = 2 then some ⟨(.lconst 0, 3, .inr (.inl 0), 0, 0), by subst h; exact ⟨dX9_feed_2, rfl, ⟨0, rfl, by decide⟩⟩⟩ else none
   else
    bif Nat.blt pc 9 then
     bif Nat.blt pc 6 then
      if h : pc = 3 then some ⟨(.ldc2_w 119, 6, .inr (.inl 255), 0, 0), by subst h; exact ⟨dX9_feed_3, rfl, ⟨_, rfl, q1742⟩⟩⟩ else none
     else
      if h : pc = 6 then some ⟨(.invokestatic 67, 9, .inl 0, 3, 0), by subst h; exact ⟨dX9_feed_6, rfl, Or.inl ⟨by decide, q1482, q1483⟩⟩⟩ else none
    else
     bif Nat.blt pc 12 then
      if h : pc = 9 then some ⟨(.ifCond .ne 6, 12, .inl 0, 15, 0), by subst h; exact ⟨dX9_feed_9, rfl, (show ((9 : Nat) : Int) + (6) = ((15 : Nat) : Int) by decide)⟩⟩ else none
     else
      if h : pc = 12 then some ⟨(.bipush (-2), 14, .inl (-2), 0, 0), by subst h; exact ⟨dX9_feed_12, rfl, ⟨(-2), rfl, by decide⟩⟩⟩ else none
  else
   bif Nat.blt pc 19 then
    bif Nat.blt pc 15 then
     if h : pc = 14 then some ⟨(.ireturn, 15, .inl 0, 0, 0), by subst h; exact ⟨dX9_feed_14, rfl, rfl⟩⟩ else none
    else
     bif Nat.blt pc 16 then
      if h : pc = 15 then some ⟨(.aload_n 0, 16, .inl 0, 0, 0), by subst h; exact ⟨dX9_feed_15, rfl, trivial⟩⟩ else none
     else
      if h : pc = 16 then some ⟨(.getfield 121, 19, .inl 0, 6, 14), by subst h; exact ⟨dX9_feed_16, rfl, ⟨⟨_, rfl, by decide, _, Or.inl q1364, Or.inl rfl⟩, (show mKd 14 6 ≤ 4 by decide)⟩⟩⟩ else none
   else
    bif Nat.blt pc 25 then
     bif Nat.blt pc 22 then
      if h : pc = 19 then some ⟨(.sipush 160, 22, .inl 160, 0, 0), by subst h; exact ⟨dX9_feed_19, rfl, ⟨160, rfl, by decide⟩⟩⟩ else none
     else
      if h : pc = 22 then some ⟨(.if_icmp .ne 6, 25, .inl 0, 28, 0), by subst h; exact ⟨dX9_feed_22, rfl, (show ((22 : Nat) : Int) + (6) = ((28 : Nat) : Int) by decide)⟩⟩ else none
    else
     bif Nat.blt pc 27 then
      if h : pc = 25 then some ⟨(.bipush (-4), 27, .inl (-4), 0, 0), by subst h; exact ⟨dX9_feed_25, rfl, ⟨(-4), rfl, by decide⟩⟩⟩ else none
     else
      if h : pc = 27 then some ⟨(.ireturn, 28, .inl 0, 0, 0), by subst h; exact ⟨dX9_feed_27, rfl, rfl⟩⟩ else none
 else
  bif Nat.blt pc 39 then
   bif Nat.blt pc 33 then
    bif Nat.blt pc 29 then
     if h : pc = 28 then some ⟨(.aload_n 0, 29, .inl 0, 0, 0), by subst h; exact ⟨dX9_feed_28, rfl, trivial⟩⟩ else none
    else
     bif Nat.blt pc 32 then
      if h : pc = 29 then some ⟨(.getfield 20, 32, .inr (.inr none), 5, 14), by subst h; exact ⟨dX9_feed_29, rfl, ⟨⟨_, rfl, by decide, _, Or.inl q1363, Or.inl rfl⟩, (show mKd 14 5 = 6 by rfl)⟩⟩⟩ else none
     else
      if h : pc = 32 then some ⟨(.aload_n 0, 33, .inl 0, 0, 0), by subst h; exact ⟨dX9_feed_32, rfl, trivial⟩⟩ else none
   else
    bif Nat.blt pc 37 then
     bif Nat.blt pc 36 then
      if h : pc = 33 then some ⟨(.getfield 121, 36, .inl 0, 6, 14), by subst h; exact ⟨dX9_feed_33, rfl, ⟨⟨_, rfl, by decide, _, Or.inl q1364, Or.inl rfl⟩, (show mKd 14 6 ≤ 4 by decide)⟩⟩⟩ else none
     else
      if h : pc = 36 then some ⟨(.iload_n 1, 37, .inl 0, 0, 0), by subst h; exact ⟨dX9_feed_36, rfl, trivial⟩⟩ else none
    else
     bif Nat.blt pc 38 then
      if h : pc = 37 then some ⟨(.iastore, 38, .inl 0, 0, 0), by subst h; exact ⟨dX9_feed_37, rfl, trivial⟩⟩ else none
     else
      if h : pc = 38 then some ⟨(.aload_n 0, 39, .inl 0, 0, 0), by subst h; exact ⟨dX9_feed_38, rfl, trivial⟩⟩ else none
  else
   bif Nat.blt pc 45 then
    bif Nat.blt pc 43 then
     bif Nat.blt pc 40 then
      if h : pc = 39 then some ⟨(.dup, 40, .inl 0, 0, 0), by subst h; exact ⟨dX9_feed_39, rfl, trivial⟩⟩ else none
     else
      if h : pc = 40 then some ⟨(.getfield 121, 43, .inl 0, 6, 14), by subst h; exact ⟨dX9_feed_40, rfl, ⟨⟨_, rfl, by decide, _, Or.inl q1364, Or.inl rfl⟩, (show mKd 14 6 ≤ 4 by decide)⟩⟩⟩ else none
    else
     bif Nat.blt pc 44 then
      if h : pc = 43 then some ⟨(.iconst 1, 44, .inl 1, 0, 0), by subst h; exact ⟨dX9_feed_43, rfl, ⟨1, rfl, by decide⟩⟩⟩ else none
     else
      if h : pc = 44 then some ⟨(.iadd, 45, .inl 0, 0, 0), by subst h; exact ⟨dX9_feed_44, rfl, trivial⟩⟩ else none
   else
    bif Nat.blt pc 49 then
     bif Nat.blt pc 48 then
      if h : pc = 45 then some ⟨(.putfield 121, 48, .inl 0, 6, 14), by subst h; exact ⟨dX9_feed_45, rfl, ⟨⟨_, rfl, by decide, _, Or.inl q1364, Or.inl rfl⟩, (show mKd 14 6 ≤ 4 by decide), by decide, by decide, (fun q h => Or.inl (by cases h; rfl))⟩⟩⟩ else none
     else
      if h : pc = 48 then some ⟨(.aload_n 0, 49, .inl 0, 0, 0), by subst h; exact ⟨dX9_feed_48, rfl, trivial⟩⟩ else none
    else
     bif Nat.blt pc 52 then
      if h : pc = 49 then some ⟨(.getfield 121, 52, .inl 0, 6, 14), by subst h; exact ⟨dX9_feed_49, rfl, ⟨⟨_, rfl, by decide, _, Or.inl q1364, Or.inl rfl⟩, (show mKd 14 6 ≤ 4 by decide)⟩⟩⟩ else none
     else
      if h : pc = 52 then some ⟨(.ireturn, 53, .inl 0, 0, 0), by subst h; exact ⟨dX9_feed_52, rfl, rfl⟩⟩ else none

noncomputable def mt66 (pc : Nat) : Option {e : mE // mOK yX9_text cX9_text 2 ((Option.some ClassFile.FieldType.int)) pc e} :=
 bif Nat.blt pc 57 then
  bif Nat.blt pc 29 then
   bif Nat.blt pc 13 then
    bif Nat.blt pc 6 then
     bif Nat.blt pc 1 then
      if h : pc = 0 then some ⟨(.aload_n 0, 1, .inl 0, 0, 0), by subst h; exact ⟨dX9_text_0, rfl, trivial⟩⟩ else none
     else
      bif Nat.blt pc 4 then
       if h : pc = 1 then some ⟨(.getfield 61, 4, .inl 0, 3, 14), by subst h; exact ⟨dX9_text_1, rfl, ⟨⟨_, rfl, by decide, _, Or.inl q1361, Or.inl rfl⟩, (show mKd 14 3 ≤ 4 by decide)⟩⟩⟩ else none
      else
       if h : pc = 4 then some ⟨(.bipush 6, 6, .inl 6, 0, 0), by subst h; exact ⟨dX9_text_4, rfl, ⟨6, rfl, by decide⟩⟩⟩ else none
    else
     bif Nat.blt pc 11 then
      bif Nat.blt pc 9 then
       if h : pc = 6 then some ⟨(.if_icmp .ne 6, 9, .inl 0, 12, 0), by subst h; exact ⟨dX9_text_6, rfl, (show ((6 : Nat) : Int) + (6) = ((12 : Nat) : Int) by decide)⟩⟩ else none
      else
       if h : pc = 9 then some ⟨(.bipush (-4), 11, .inl (-4), 0, 0), by subst h; exact ⟨dX9_text_9, rfl, ⟨(-4), rfl, by decide⟩⟩⟩ else none
     else
      bif Nat.blt pc 12 then
       if h : pc = 11 then some ⟨(.ireturn, 12, .inl 0, 0, 0), by subst h; exact ⟨dX9_text_11, rfl, rfl⟩⟩ else none
      else
       if h : pc = 12 then some ⟨(.iconst 0, 13, .inl 0, 0, 0), by subst h; exact ⟨dX9_text_12, rfl, ⟨0, rfl, by decide⟩⟩⟩ else none
   else
    bif Nat.blt pc 19 then
     bif Nat.blt pc 15 then
      bif Nat.blt pc 14 then
       if h : pc = 13 then some ⟨(.istore_n 1, 14, .inl 0, 0, 0), by subst h; exact ⟨dX9_text_13, rfl, (show (1 : Nat) < 2 by decide)⟩⟩ else none
      else
       if h : pc = 14 then some ⟨(.iload_n 1, 15, .inl 0, 0, 0), by subst h; exact ⟨dX9_text_14, rfl, trivial⟩⟩ else none
     else
      bif Nat.blt pc 16 then
       if h : pc = 15 then some ⟨(.aload_n 0, 16, .inl 0, 0, 0), by subst h; exact ⟨dX9_text_15, rfl, trivial⟩⟩ else none
      else
       if h : pc = 16 then some ⟨(.getfield 121, 19, .inl 0, 6, 14), by subst h; exact ⟨dX9_text_16, rfl, ⟨⟨_, rfl, by decide, _, Or.inl q1364, Or.inl rfl⟩, (show mKd 14 6 ≤ 4 by decide)⟩⟩⟩ else none
    else
     bif Nat.blt pc 23 then
      bif Nat.blt pc 22 then
       if h : pc = 19 then some ⟨(.if_icmp .ge 30, 22, .inl 0, 49, 0), by subst h; exact ⟨dX9_text_19, rfl, (show ((19 : Nat) : Int) + (30) = ((49 : Nat) : Int) by decide)⟩⟩ else none
      else
       if h : pc = 22 then some ⟨(.aload_n 0, 23, .inl 0, 0, 0), by subst h; exact ⟨dX9_text_22, rfl, trivial⟩⟩ else none
     else
      bif Nat.blt pc 26 then
       if h : pc = 23 then some ⟨(.getfield 13, 26, .inr (.inr none), 1, 14), by subst h; exact ⟨dX9_text_23, rfl, ⟨⟨_, rfl, by decide, _, Or.inl q1359, Or.inl rfl⟩, (show mKd 14 1 = 6 by rfl)⟩⟩⟩ else none
      else
       if h : pc = 26 then some ⟨(.sipush 160, 29, .inl 160, 0, 0), by subst h; exact ⟨dX9_text_26, rfl, ⟨160, rfl, by decide⟩⟩⟩ else none
  else
   bif Nat.blt pc 41 then
    bif Nat.blt pc 35 then
     bif Nat.blt pc 33 then
      bif Nat.blt pc 30 then
       if h : pc = 29 then some ⟨(.aload_n 0, 30, .inl 0, 0, 0), by subst h; exact ⟨dX9_text_29, rfl, trivial⟩⟩ else none
      else
       if h : pc = 30 then some ⟨(.getfield 61, 33, .inl 0, 3, 14), by subst h; exact ⟨dX9_text_30, rfl, ⟨⟨_, rfl, by decide, _, Or.inl q1361, Or.inl rfl⟩, (show mKd 14 3 ≤ 4 by decide)⟩⟩⟩ else none
     else
      bif Nat.blt pc 34 then
       if h : pc = 33 then some ⟨(.imul, 34, .inl 0, 0, 0), by subst h; exact ⟨dX9_text_33, rfl, trivial⟩⟩ else none
      else
       if h : pc = 34 then some ⟨(.iload_n 1, 35, .inl 0, 0, 0), by subst h; exact ⟨dX9_text_34, rfl, trivial⟩⟩ else none
    else
     bif Nat.blt pc 37 then
      bif Nat.blt pc 36 then
       if h : pc = 35 then some ⟨(.iadd, 36, .inl 0, 0, 0), by subst h; exact ⟨dX9_text_35, rfl, trivial⟩⟩ else none
      else
       if h : pc = 36 then some ⟨(.aload_n 0, 37, .inl 0, 0, 0), by subst h; exact ⟨dX9_text_36, rfl, trivial⟩⟩ else none
     else
      bif Nat.blt pc 40 then
       if h : pc = 37 then some ⟨(.getfield 20, 40, .inr (.inr none), 5, 14), by subst h; exact ⟨dX9_text_37, rfl, ⟨⟨_, rfl, by decide, _, Or.inl q1363, Or.inl rfl⟩, (show mKd 14 5 = 6 by rfl)⟩⟩⟩ else none
      else
       if h : pc = 40 then some ⟨(.iload_n 1, 41, .inl 0, 0, 0), by subst h; exact ⟨dX9_text_40, rfl, trivial⟩⟩ else none
   else
    bif Nat.blt pc 49 then
     bif Nat.blt pc 43 then
      bif Nat.blt pc 42 then
       if h : pc = 41 then some ⟨(.iaload, 42, .inl 0, 0, 0), by subst h; exact ⟨dX9_text_41, rfl, trivial⟩⟩ else none
      else
       if h : pc = 42 then some ⟨(.iastore, 43, .inl 0, 0, 0), by subst h; exact ⟨dX9_text_42, rfl, trivial⟩⟩ else none
     else
      bif Nat.blt pc 46 then
       if h : pc = 43 then some ⟨(.iinc 1 1, 46, .inl 1, 0, 0), by subst h; exact ⟨dX9_text_43, rfl, ⟨(show (1 : Nat) < 2 by decide), 1, rfl, by decide⟩⟩⟩ else none
      else
       if h : pc = 46 then some ⟨(.goto (-32), 49, .inl 0, 14, 0), by subst h; exact ⟨dX9_text_46, rfl, (show ((46 : Nat) : Int) + ((-32)) = ((14 : Nat) : Int) by decide)⟩⟩ else none
    else
     bif Nat.blt pc 53 then
      bif Nat.blt pc 50 then
       if h : pc = 49 then some ⟨(.aload_n 0, 50, .inl 0, 0, 0), by subst h; exact ⟨dX9_text_49, rfl, trivial⟩⟩ else none
      else
       if h : pc = 50 then some ⟨(.getfield 17, 53, .inr (.inr none), 2, 14), by subst h; exact ⟨dX9_text_50, rfl, ⟨⟨_, rfl, by decide, _, Or.inl q1360, Or.inl rfl⟩, (show mKd 14 2 = 6 by rfl)⟩⟩⟩ else none
     else
      bif Nat.blt pc 54 then
       if h : pc = 53 then some ⟨(.aload_n 0, 54, .inl 0, 0, 0), by subst h; exact ⟨dX9_text_53, rfl, trivial⟩⟩ else none
      else
       if h : pc = 54 then some ⟨(.getfield 61, 57, .inl 0, 3, 14), by subst h; exact ⟨dX9_text_54, rfl, ⟨⟨_, rfl, by decide, _, Or.inl q1361, Or.inl rfl⟩, (show mKd 14 3 ≤ 4 by decide)⟩⟩⟩ else none
 else
  bif Nat.blt pc 84 then
   bif Nat.blt pc 68 then
    bif Nat.blt pc 62 then
     bif Nat.blt pc 58 then
      if h : pc = 57 then some ⟨(.aload_n 0, 58, .inl 0, 0, 0), by subst h; exact ⟨dX9_text_57, rfl, trivial⟩⟩ else none
     else
      bif Nat.blt pc 61 then
       if h : pc = 58 then some ⟨(.getfield 121, 61, .inl 0, 6, 14), by subst h; exact ⟨dX9_text_58, rfl, ⟨⟨_, rfl, by decide, _, Or.inl q1364, Or.inl rfl⟩, (show mKd 14 6 ≤ 4 by decide)⟩⟩⟩ else none
      else
       if h : pc = 61 then some ⟨(.iastore, 62, .inl 0, 0, 0), by subst h; exact ⟨dX9_text_61, rfl, trivial⟩⟩ else none
    else
     bif Nat.blt pc 64 then
      bif Nat.blt pc 63 then
       if h : pc = 62 then some ⟨(.aload_n 0, 63, .inl 0, 0, 0), by subst h; exact ⟨dX9_text_62, rfl, trivial⟩⟩ else none
      else
       if h : pc = 63 then some ⟨(.iconst 0, 64, .inl 0, 0, 0), by subst h; exact ⟨dX9_text_63, rfl, ⟨0, rfl, by decide⟩⟩⟩ else none
     else
      bif Nat.blt pc 67 then
       if h : pc = 64 then some ⟨(.putfield 121, 67, .inl 0, 6, 14), by subst h; exact ⟨dX9_text_64, rfl, ⟨⟨_, rfl, by decide, _, Or.inl q1364, Or.inl rfl⟩, (show mKd 14 6 ≤ 4 by decide), by decide, by decide, (fun q h => Or.inl (by cases h; rfl))⟩⟩⟩ else none
      else
       if h : pc = 67 then some ⟨(.aload_n 0, 68, .inl 0, 0, 0), by subst h; exact ⟨dX9_text_67, rfl, trivial⟩⟩ else none
   else
    bif Nat.blt pc 76 then
     bif Nat.blt pc 72 then
      bif Nat.blt pc 69 then
       if h : pc = 68 then some ⟨(.aload_n 0, 69, .inl 0, 0, 0), by subst h; exact ⟨dX9_text_68, rfl, trivial⟩⟩ else none
      else
       if h : pc = 69 then some ⟨(.getfield 61, 72, .inl 0, 3, 14), by subst h; exact ⟨dX9_text_69, rfl, ⟨⟨_, rfl, by decide, _, Or.inl q1361, Or.inl rfl⟩, (show mKd 14 3 ≤ 4 by decide)⟩⟩⟩ else none
     else
      bif Nat.blt pc 73 then
       if h : pc = 72 then some ⟨(.iconst 0, 73, .inl 0, 0, 0), by subst h; exact ⟨dX9_text_72, rfl, ⟨0, rfl, by decide⟩⟩⟩ else none
      else
       if h : pc = 73 then some ⟨(.invokevirtual 322, 76, .inl 0, 11, 14), by subst h; exact ⟨dX9_text_73, rfl, ⟨by decide, q1514, q1516, qs63, _, rfl, rfl⟩⟩⟩ else none
    else
     bif Nat.blt pc 78 then
      bif Nat.blt pc 77 then
       if h : pc = 76 then some ⟨(.istore_n 1, 77, .inl 0, 0, 0), by subst h; exact ⟨dX9_text_76, rfl, (show (1 : Nat) < 2 by decide)⟩⟩ else none
      else
       if h : pc = 77 then some ⟨(.aload_n 0, 78, .inl 0, 0, 0), by subst h; exact ⟨dX9_text_77, rfl, trivial⟩⟩ else none
     else
      bif Nat.blt pc 81 then
       if h : pc = 78 then some ⟨(.getfield 154, 81, .inl 0, 25, 14), by subst h; exact ⟨dX9_text_78, rfl, ⟨⟨_, rfl, by decide, _, Or.inl q1383, Or.inl rfl⟩, (show mKd 14 25 ≤ 4 by decide)⟩⟩⟩ else none
      else
       if h : pc = 81 then some ⟨(.ifCond .eq 11, 84, .inl 0, 92, 0), by subst h; exact ⟨dX9_text_81, rfl, (show ((81 : Nat) : Int) + (11) = ((92 : Nat) : Int) by decide)⟩⟩ else none
  else
   bif Nat.blt pc 97 then
    bif Nat.blt pc 91 then
     bif Nat.blt pc 87 then
      bif Nat.blt pc 86 then
       if h : pc = 84 then some ⟨(.bipush (-100), 86, .inl (-100), 0, 0), by subst h; exact ⟨dX9_text_84, rfl, ⟨(-100), rfl, by decide⟩⟩⟩ else none
      else
       if h : pc = 86 then some ⟨(.aload_n 0, 87, .inl 0, 0, 0), by subst h; exact ⟨dX9_text_86, rfl, trivial⟩⟩ else none
     else
      bif Nat.blt pc 90 then
       if h : pc = 87 then some ⟨(.getfield 158, 90, .inl 0, 26, 14), by subst h; exact ⟨dX9_text_87, rfl, ⟨⟨_, rfl, by decide, _, Or.inl q1384, Or.inl rfl⟩, (show mKd 14 26 ≤ 4 by decide)⟩⟩⟩ else none
      else
       if h : pc = 90 then some ⟨(.isub, 91, .inl 0, 0, 0), by subst h; exact ⟨dX9_text_90, rfl, trivial⟩⟩ else none
    else
     bif Nat.blt pc 93 then
      bif Nat.blt pc 92 then
       if h : pc = 91 then some ⟨(.ireturn, 92, .inl 0, 0, 0), by subst h; exact ⟨dX9_text_91, rfl, rfl⟩⟩ else none
      else
       if h : pc = 92 then some ⟨(.aload_n 0, 93, .inl 0, 0, 0), by subst h; exact ⟨dX9_text_92, rfl, trivial⟩⟩ else none
     else
      bif Nat.blt pc 94 then
       if h : pc = 93 then some ⟨(.dup, 94, .inl 0, 0, 0), by subst h; exact ⟨dX9_text_93, rfl, trivial⟩⟩ else none
      else
       if h : pc = 94 then some ⟨(.getfield 61, 97, .inl 0, 3, 14), by subst h; exact ⟨dX9_text_94, rfl, ⟨⟨_, rfl, by decide, _, Or.inl q1361, Or.inl rfl⟩, (show mKd 14 3 ≤ 4 by decide)⟩⟩⟩ else none
   else
    bif Nat.blt pc 103 then
     bif Nat.blt pc 99 then
      bif Nat.blt pc 98 then
       if h : pc = 97 then some ⟨(.iconst 1, 98, .inl 1, 0, 0), by subst h; exact ⟨dX9_text_97, rfl, ⟨1, rfl, by decide⟩⟩⟩ else none
      else
       if h : pc = 98 then some ⟨(.iadd, 99, .inl 0, 0, 0), by subst h; exact ⟨dX9_text_98, rfl, trivial⟩⟩ else none
     else
      bif Nat.blt pc 102 then
       if h : pc = 99 then some ⟨(.putfield 61, 102, .inl 0, 3, 14), by subst h; exact ⟨dX9_text_99, rfl, ⟨⟨_, rfl, by decide, _, Or.inl q1361, Or.inl rfl⟩, (show mKd 14 3 ≤ 4 by decide), by decide, by decide, (fun q h => Or.inl (by cases h; rfl))⟩⟩⟩ else none
      else
       if h : pc = 102 then some ⟨(.aload_n 0, 103, .inl 0, 0, 0), by subst h; exact ⟨dX9_text_102, rfl, trivial⟩⟩ else none
    else
     bif Nat.blt pc 107 then
      bif Nat.blt pc 106 then
       if h : pc = 103 then some ⟨(.getfield 61, 106, .inl 0, 3, 14), by subst h; exact ⟨dX9_text_103, rfl, ⟨⟨_, rfl, by decide, _, Or.inl q1361, Or.inl rfl⟩, (show mKd 14 3 ≤ 4 by decide)⟩⟩⟩ else none
      else
       if h : pc = 106 then some ⟨(.iconst 1, 107, .inl 1, 0, 0), by subst h; exact ⟨dX9_text_106, rfl, ⟨1, rfl, by decide⟩⟩⟩ else none
     else
      bif Nat.blt pc 108 then
       if h : pc = 107 then some ⟨(.isub, 108, .inl 0, 0, 0), by subst h; exact ⟨dX9_text_107, rfl, trivial⟩⟩ else none
      else
       if h : pc = 108 then some ⟨(.ireturn, 109, .inl 0, 0, 0), by subst h; exact ⟨dX9_text_108, rfl, rfl⟩⟩ else none

noncomputable def mt67 (pc : Nat) : Option {e : mE // mOK yX9_force cX9_force 3 ((Option.some ClassFile.FieldType.int)) pc e} :=
 bif Nat.blt pc 16 then
  bif Nat.blt pc 7 then
   bif Nat.blt pc 2 then
    bif Nat.blt pc 1 then
     if h : pc = 0 then some ⟨(.iload_n 1, 1, .inl 0, 0, 0), by subst h; exact ⟨dX9_force_0, rfl, trivial⟩⟩ else none
    else
     if h : pc = 1 then some ⟨(.i2l, 2, .inl 0, 0, 0), by subst h; exact ⟨dX9_force_1, rfl, trivial⟩⟩ else none
   else
    bif Nat.blt pc 3 then
     if h : pc = 2 then some ⟨(.lconst 0, 3, .inr (.inl 0), 0, 0), by subst h; exact ⟨dX9_force_2, rfl, ⟨0, rfl, by decide⟩⟩⟩ else none
    else
     bif Nat.blt pc 4 then
      if h : pc = 3 then some ⟨(.aload_n 0, 4, .inl 0, 0, 0), by subst h; exact ⟨dX9_force_3, rfl, trivial⟩⟩ else none
     else
      if h : pc = 4 then some ⟨(.getfield 61, 7, .inl 0, 3, 14), by subst h; exact ⟨dX9_force_4, rfl, ⟨⟨_, rfl, by decide, _, Or.inl q1361, Or.inl rfl⟩, (show mKd 14 3 ≤ 4 by decide)⟩⟩⟩ else none
  else
   bif Nat.blt pc 9 then
    bif Nat.blt pc 8 then
     if h : pc = 7 then some ⟨(.iconst 1, 8, .inl 1, 0, 0), by subst h; exact ⟨dX9_force_7, rfl, ⟨1, rfl, by decide⟩⟩⟩ else none
    else
     if h : pc = 8 then some ⟨(.isub, 9, .inl 0, 0, 0), by subst h; exact ⟨dX9_force_8, rfl, trivial⟩⟩ else none
   else
    bif Nat.blt pc 10 then
     if h : pc = 9 then some ⟨(.i2l, 10, .inl 0, 0, 0), by subst h; exact ⟨dX9_force_9, rfl, trivial⟩⟩ else none
    else
     bif Nat.blt pc 13 then
      if h : pc = 10 then some ⟨(.invokestatic 67, 13, .inl 0, 3, 0), by subst h; exact ⟨dX9_force_10, rfl, Or.inl ⟨by decide, q1482, q1483⟩⟩⟩ else none
     else
      if h : pc = 13 then some ⟨(.ifCond .ne 6, 16, .inl 0, 19, 0), by subst h; exact ⟨dX9_force_13, rfl, (show ((13 : Nat) : Int) + (6) = ((19 : Nat) : Int) by decide)⟩⟩ else none
 else
  bif Nat.blt pc 24 then
   bif Nat.blt pc 19 then
    bif Nat.blt pc 18 then
     if h : pc = 16 then some ⟨(.bipush (-2), 18, .inl (-2), 0, 0), by subst h; exact ⟨dX9_force_16, rfl, ⟨(-2), rfl, by decide⟩⟩⟩ else none
    else
     if h : pc = 18 then some ⟨(.ireturn, 19, .inl 0, 0, 0), by subst h; exact ⟨dX9_force_18, rfl, rfl⟩⟩ else none
   else
    bif Nat.blt pc 20 then
     if h : pc = 19 then some ⟨(.aload_n 0, 20, .inl 0, 0, 0), by subst h; exact ⟨dX9_force_19, rfl, trivial⟩⟩ else none
    else
     bif Nat.blt pc 23 then
      if h : pc = 20 then some ⟨(.getfield 101, 23, .inl 0, 4, 14), by subst h; exact ⟨dX9_force_20, rfl, ⟨⟨_, rfl, by decide, _, Or.inl q1362, Or.inl rfl⟩, (show mKd 14 4 ≤ 4 by decide)⟩⟩⟩ else none
     else
      if h : pc = 23 then some ⟨(.istore_n 2, 24, .inl 0, 0, 0), by subst h; exact ⟨dX9_force_23, rfl, (show (2 : Nat) < 3 by decide)⟩⟩ else none
  else
   bif Nat.blt pc 26 then
    bif Nat.blt pc 25 then
     if h : pc = 24 then some ⟨(.aload_n 0, 25, .inl 0, 0, 0), by subst h; exact ⟨dX9_force_24, rfl, trivial⟩⟩ else none
    else
     if h : pc = 25 then some ⟨(.iload_n 1, 26, .inl 0, 0, 0), by subst h; exact ⟨dX9_force_25, rfl, trivial⟩⟩ else none
   else
    bif Nat.blt pc 29 then
     if h : pc = 26 then some ⟨(.putfield 101, 29, .inl 0, 4, 14), by subst h; exact ⟨dX9_force_26, rfl, ⟨⟨_, rfl, by decide, _, Or.inl q1362, Or.inl rfl⟩, (show mKd 14 4 ≤ 4 by decide), by decide, by decide, (fun q h => Or.inl (by cases h; rfl))⟩⟩⟩ else none
    else
     bif Nat.blt pc 30 then
      if h : pc = 29 then some ⟨(.iload_n 2, 30, .inl 0, 0, 0), by subst h; exact ⟨dX9_force_29, rfl, trivial⟩⟩ else none
     else
      if h : pc = 30 then some ⟨(.ireturn, 31, .inl 0, 0, 0), by subst h; exact ⟨dX9_force_30, rfl, rfl⟩⟩ else none

noncomputable def mt68 (pc : Nat) : Option {e : mE // mOK yX9_feels cX9_feels 3 ((Option.some ClassFile.FieldType.long)) pc e} :=
 bif Nat.blt pc 18 then
  bif Nat.blt pc 9 then
   bif Nat.blt pc 2 then
    bif Nat.blt pc 1 then
     if h : pc = 0 then some ⟨(.aload_n 0, 1, .inl 0, 0, 0), by subst h; exact ⟨dX9_feels_0, rfl, trivial⟩⟩ else none
    else
     if h : pc = 1 then some ⟨(.iload_n 1, 2, .inl 0, 0, 0), by subst h; exact ⟨dX9_feels_1, rfl, trivial⟩⟩ else none
   else
    bif Nat.blt pc 5 then
     if h : pc = 2 then some ⟨(.invokevirtual 73, 5, .inl 0, 5, 14), by subst h; exact ⟨dX9_feels_2, rfl, ⟨by decide, q1490, q1492, qs59, _, rfl, rfl⟩⟩⟩ else none
    else
     bif Nat.blt pc 8 then
      if h : pc = 5 then some ⟨(.ifCond .eq 29, 8, .inl 0, 34, 0), by subst h; exact ⟨dX9_feels_5, rfl, (show ((5 : Nat) : Int) + (29) = ((34 : Nat) : Int) by decide)⟩⟩ else none
     else
      if h : pc = 8 then some ⟨(.iload_n 2, 9, .inl 0, 0, 0), by subst h; exact ⟨dX9_feels_8, rfl, trivial⟩⟩ else none
  else
   bif Nat.blt pc 11 then
    bif Nat.blt pc 10 then
     if h : pc = 9 then some ⟨(.i2l, 10, .inl 0, 0, 0), by subst h; exact ⟨dX9_feels_9, rfl, trivial⟩⟩ else none
    else
     if h : pc = 10 then some ⟨(.lconst 0, 11, .inr (.inl 0), 0, 0), by subst h; exact ⟨dX9_feels_10, rfl, ⟨0, rfl, by decide⟩⟩⟩ else none
   else
    bif Nat.blt pc 12 then
     if h : pc = 11 then some ⟨(.lconst 1, 12, .inr (.inl 1), 0, 0), by subst h; exact ⟨dX9_feels_11, rfl, ⟨1, rfl, by decide⟩⟩⟩ else none
    else
     bif Nat.blt pc 15 then
      if h : pc = 12 then some ⟨(.invokestatic 67, 15, .inl 0, 3, 0), by subst h; exact ⟨dX9_feels_12, rfl, Or.inl ⟨by decide, q1482, q1483⟩⟩⟩ else none
     else
      if h : pc = 15 then some ⟨(.ifCond .eq 19, 18, .inl 0, 34, 0), by subst h; exact ⟨dX9_feels_15, rfl, (show ((15 : Nat) : Int) + (19) = ((34 : Nat) : Int) by decide)⟩⟩ else none
 else
  bif Nat.blt pc 27 then
   bif Nat.blt pc 20 then
    bif Nat.blt pc 19 then
     if h : pc = 18 then some ⟨(.aload_n 0, 19, .inl 0, 0, 0), by subst h; exact ⟨dX9_feels_18, rfl, trivial⟩⟩ else none
    else
     if h : pc = 19 then some ⟨(.iload_n 1, 20, .inl 0, 0, 0), by subst h; exact ⟨dX9_feels_19, rfl, trivial⟩⟩ else none
   else
    bif Nat.blt pc 23 then
     if h : pc = 20 then some ⟨(.invokevirtual 338, 23, .inl 0, 62, 14), by subst h; exact ⟨dX9_feels_20, rfl, ⟨by decide, q1723, q1725, qs113, _, rfl, rfl⟩⟩⟩ else none
    else
     bif Nat.blt pc 24 then
      if h : pc = 23 then some ⟨(.i2l, 24, .inl 0, 0, 0), by subst h; exact ⟨dX9_feels_23, rfl, trivial⟩⟩ else none
     else
      if h : pc = 24 then some ⟨(.ldc2_w 341, 27, .inr (.inl 15120), 0, 0), by subst h; exact ⟨dX9_feels_24, rfl, ⟨_, rfl, q1755⟩⟩⟩ else none
  else
   bif Nat.blt pc 31 then
    bif Nat.blt pc 28 then
     if h : pc = 27 then some ⟨(.iload_n 2, 28, .inl 0, 0, 0), by subst h; exact ⟨dX9_feels_27, rfl, trivial⟩⟩ else none
    else
     if h : pc = 28 then some ⟨(.invokestatic 343, 31, .inl 0, 69, 0), by subst h; exact ⟨dX9_feels_28, rfl, Or.inl ⟨by decide, q1756, q1757⟩⟩⟩ else none
   else
    bif Nat.blt pc 34 then
     if h : pc = 31 then some ⟨(.goto 6, 34, .inl 0, 37, 0), by subst h; exact ⟨dX9_feels_31, rfl, (show ((31 : Nat) : Int) + (6) = ((37 : Nat) : Int) by decide)⟩⟩ else none
    else
     bif Nat.blt pc 37 then
      if h : pc = 34 then some ⟨(.ldc2_w 347, 37, .inr (.inl (-4611686018427387904)), 0, 0), by subst h; exact ⟨dX9_feels_34, rfl, ⟨_, rfl, q1759⟩⟩⟩ else none
     else
      if h : pc = 37 then some ⟨(.lreturn, 38, .inl 0, 0, 0), by subst h; exact ⟨dX9_feels_37, rfl, rfl⟩⟩ else none

noncomputable def mt69 (pc : Nat) : Option {e : mE // mOK yX9_lowest cX9_lowest 11 ((Option.some ClassFile.FieldType.long)) pc e} :=
 bif Nat.blt pc 22 then
  bif Nat.blt pc 9 then
   bif Nat.blt pc 4 then
    bif Nat.blt pc 1 then
     if h : pc = 0 then some ⟨(.lload_n 0, 1, .inl 0, 0, 0), by subst h; exact ⟨dX9_lowest_0, rfl, trivial⟩⟩ else none
    else
     bif Nat.blt pc 3 then
      if h : pc = 1 then some ⟨(.lstore 5, 3, .inl 0, 0, 0), by subst h; exact ⟨dX9_lowest_1, rfl, (show (5 : Nat) + 1 < 11 by decide)⟩⟩ else none
     else
      if h : pc = 3 then some ⟨(.lload_n 2, 4, .inl 0, 0, 0), by subst h; exact ⟨dX9_lowest_3, rfl, trivial⟩⟩ else none
   else
    bif Nat.blt pc 6 then
     if h : pc = 4 then some ⟨(.lstore 7, 6, .inl 0, 0, 0), by subst h; exact ⟨dX9_lowest_4, rfl, (show (7 : Nat) + 1 < 11 by decide)⟩⟩ else none
    else
     bif Nat.blt pc 8 then
      if h : pc = 6 then some ⟨(.lload 7, 8, .inl 0, 0, 0), by subst h; exact ⟨dX9_lowest_6, rfl, trivial⟩⟩ else none
     else
      if h : pc = 8 then some ⟨(.lconst 0, 9, .inr (.inl 0), 0, 0), by subst h; exact ⟨dX9_lowest_8, rfl, ⟨0, rfl, by decide⟩⟩⟩ else none
  else
   bif Nat.blt pc 15 then
    bif Nat.blt pc 10 then
     if h : pc = 9 then some ⟨(.lcmp, 10, .inl 0, 0, 0), by subst h; exact ⟨dX9_lowest_9, rfl, trivial⟩⟩ else none
    else
     bif Nat.blt pc 13 then
      if h : pc = 10 then some ⟨(.ifCond .eq 21, 13, .inl 0, 31, 0), by subst h; exact ⟨dX9_lowest_10, rfl, (show ((10 : Nat) : Int) + (21) = ((31 : Nat) : Int) by decide)⟩⟩ else none
     else
      if h : pc = 13 then some ⟨(.lload 5, 15, .inl 0, 0, 0), by subst h; exact ⟨dX9_lowest_13, rfl, trivial⟩⟩ else none
   else
    bif Nat.blt pc 18 then
     bif Nat.blt pc 17 then
      if h : pc = 15 then some ⟨(.lload 7, 17, .inl 0, 0, 0), by subst h; exact ⟨dX9_lowest_15, rfl, trivial⟩⟩ else none
     else
      if h : pc = 17 then some ⟨(.lrem, 18, .inl 0, 0, 0), by subst h; exact ⟨dX9_lowest_17, rfl, trivial⟩⟩ else none
    else
     bif Nat.blt pc 20 then
      if h : pc = 18 then some ⟨(.lstore 9, 20, .inl 0, 0, 0), by subst h; exact ⟨dX9_lowest_18, rfl, (show (9 : Nat) + 1 < 11 by decide)⟩⟩ else none
     else
      if h : pc = 20 then some ⟨(.lload 7, 22, .inl 0, 0, 0), by subst h; exact ⟨dX9_lowest_20, rfl, trivial⟩⟩ else none
 else
  bif Nat.blt pc 37 then
   bif Nat.blt pc 28 then
    bif Nat.blt pc 24 then
     if h : pc = 22 then some ⟨(.lstore 5, 24, .inl 0, 0, 0), by subst h; exact ⟨dX9_lowest_22, rfl, (show (5 : Nat) + 1 < 11 by decide)⟩⟩ else none
    else
     bif Nat.blt pc 26 then
      if h : pc = 24 then some ⟨(.lload 9, 26, .inl 0, 0, 0), by subst h; exact ⟨dX9_lowest_24, rfl, trivial⟩⟩ else none
     else
      if h : pc = 26 then some ⟨(.lstore 7, 28, .inl 0, 0, 0), by subst h; exact ⟨dX9_lowest_26, rfl, (show (7 : Nat) + 1 < 11 by decide)⟩⟩ else none
   else
    bif Nat.blt pc 33 then
     bif Nat.blt pc 31 then
      if h : pc = 28 then some ⟨(.goto (-22), 31, .inl 0, 6, 0), by subst h; exact ⟨dX9_lowest_28, rfl, (show ((28 : Nat) : Int) + ((-22)) = ((6 : Nat) : Int) by decide)⟩⟩ else none
     else
      if h : pc = 31 then some ⟨(.iload 4, 33, .inl 0, 0, 0), by subst h; exact ⟨dX9_lowest_31, rfl, trivial⟩⟩ else none
    else
     bif Nat.blt pc 36 then
      if h : pc = 33 then some ⟨(.ifCond .ne 10, 36, .inl 0, 43, 0), by subst h; exact ⟨dX9_lowest_33, rfl, (show ((33 : Nat) : Int) + (10) = ((43 : Nat) : Int) by decide)⟩⟩ else none
     else
      if h : pc = 36 then some ⟨(.lload_n 0, 37, .inl 0, 0, 0), by subst h; exact ⟨dX9_lowest_36, rfl, trivial⟩⟩ else none
  else
   bif Nat.blt pc 43 then
    bif Nat.blt pc 39 then
     if h : pc = 37 then some ⟨(.lload 5, 39, .inl 0, 0, 0), by subst h; exact ⟨dX9_lowest_37, rfl, trivial⟩⟩ else none
    else
     bif Nat.blt pc 40 then
      if h : pc = 39 then some ⟨(.ldiv, 40, .inl 0, 0, 0), by subst h; exact ⟨dX9_lowest_39, rfl, trivial⟩⟩ else none
     else
      if h : pc = 40 then some ⟨(.goto 7, 43, .inl 0, 47, 0), by subst h; exact ⟨dX9_lowest_40, rfl, (show ((40 : Nat) : Int) + (7) = ((47 : Nat) : Int) by decide)⟩⟩ else none
   else
    bif Nat.blt pc 46 then
     bif Nat.blt pc 44 then
      if h : pc = 43 then some ⟨(.lload_n 2, 44, .inl 0, 0, 0), by subst h; exact ⟨dX9_lowest_43, rfl, trivial⟩⟩ else none
     else
      if h : pc = 44 then some ⟨(.lload 5, 46, .inl 0, 0, 0), by subst h; exact ⟨dX9_lowest_44, rfl, trivial⟩⟩ else none
    else
     bif Nat.blt pc 47 then
      if h : pc = 46 then some ⟨(.ldiv, 47, .inl 0, 0, 0), by subst h; exact ⟨dX9_lowest_46, rfl, trivial⟩⟩ else none
     else
      if h : pc = 47 then some ⟨(.lreturn, 48, .inl 0, 0, 0), by subst h; exact ⟨dX9_lowest_47, rfl, rfl⟩⟩ else none

noncomputable def mt70 (pc : Nat) : Option {e : mE // mOK yX9_weight cX9_weight 2 ((Option.some ClassFile.FieldType.long)) pc e} :=
 bif Nat.blt pc 11 then
  bif Nat.blt pc 3 then
   bif Nat.blt pc 1 then
    if h : pc = 0 then some ⟨(.iload_n 1, 1, .inl 0, 0, 0), by subst h; exact ⟨dX9_weight_0, rfl, trivial⟩⟩ else none
   else
    bif Nat.blt pc 2 then
     if h : pc = 1 then some ⟨(.i2l, 2, .inl 0, 0, 0), by subst h; exact ⟨dX9_weight_1, rfl, trivial⟩⟩ else none
    else
     if h : pc = 2 then some ⟨(.lconst 0, 3, .inr (.inl 0), 0, 0), by subst h; exact ⟨dX9_weight_2, rfl, ⟨0, rfl, by decide⟩⟩⟩ else none
  else
   bif Nat.blt pc 7 then
    bif Nat.blt pc 4 then
     if h : pc = 3 then some ⟨(.lconst 1, 4, .inr (.inl 1), 0, 0), by subst h; exact ⟨dX9_weight_3, rfl, ⟨1, rfl, by decide⟩⟩⟩ else none
    else
     if h : pc = 4 then some ⟨(.invokestatic 67, 7, .inl 0, 3, 0), by subst h; exact ⟨dX9_weight_4, rfl, Or.inl ⟨by decide, q1482, q1483⟩⟩⟩ else none
   else
    bif Nat.blt pc 10 then
     if h : pc = 7 then some ⟨(.ifCond .eq 18, 10, .inl 0, 25, 0), by subst h; exact ⟨dX9_weight_7, rfl, (show ((7 : Nat) : Int) + (18) = ((25 : Nat) : Int) by decide)⟩⟩ else none
    else
     if h : pc = 10 then some ⟨(.aload_n 0, 11, .inl 0, 0, 0), by subst h; exact ⟨dX9_weight_10, rfl, trivial⟩⟩ else none
 else
  bif Nat.blt pc 19 then
   bif Nat.blt pc 15 then
    bif Nat.blt pc 14 then
     if h : pc = 11 then some ⟨(.invokevirtual 349, 14, .inl 0, 61, 14), by subst h; exact ⟨dX9_weight_11, rfl, ⟨by decide, q1719, q1721, qs112, _, rfl, rfl⟩⟩⟩ else none
    else
     if h : pc = 14 then some ⟨(.i2l, 15, .inl 0, 0, 0), by subst h; exact ⟨dX9_weight_14, rfl, trivial⟩⟩ else none
   else
    bif Nat.blt pc 18 then
     if h : pc = 15 then some ⟨(.ldc2_w 341, 18, .inr (.inl 15120), 0, 0), by subst h; exact ⟨dX9_weight_15, rfl, ⟨_, rfl, q1755⟩⟩⟩ else none
    else
     if h : pc = 18 then some ⟨(.iload_n 1, 19, .inl 0, 0, 0), by subst h; exact ⟨dX9_weight_18, rfl, trivial⟩⟩ else none
  else
   bif Nat.blt pc 25 then
    bif Nat.blt pc 22 then
     if h : pc = 19 then some ⟨(.invokestatic 343, 22, .inl 0, 69, 0), by subst h; exact ⟨dX9_weight_19, rfl, Or.inl ⟨by decide, q1756, q1757⟩⟩⟩ else none
    else
     if h : pc = 22 then some ⟨(.goto 6, 25, .inl 0, 28, 0), by subst h; exact ⟨dX9_weight_22, rfl, (show ((22 : Nat) : Int) + (6) = ((28 : Nat) : Int) by decide)⟩⟩ else none
   else
    bif Nat.blt pc 28 then
     if h : pc = 25 then some ⟨(.ldc2_w 347, 28, .inr (.inl (-4611686018427387904)), 0, 0), by subst h; exact ⟨dX9_weight_25, rfl, ⟨_, rfl, q1759⟩⟩⟩ else none
    else
     if h : pc = 28 then some ⟨(.lreturn, 29, .inl 0, 0, 0), by subst h; exact ⟨dX9_weight_28, rfl, rfl⟩⟩ else none

noncomputable def mt71 (pc : Nat) : Option {e : mE // mOK yX9_year cX9_year 1 ((Option.some ClassFile.FieldType.int)) pc e} :=
 bif Nat.blt pc 12 then
  bif Nat.blt pc 4 then
   bif Nat.blt pc 1 then
    if h : pc = 0 then some ⟨(.aload_n 0, 1, .inl 0, 0, 0), by subst h; exact ⟨dX9_year_0, rfl, trivial⟩⟩ else none
   else
    if h : pc = 1 then some ⟨(.getfield 98, 4, .inl 0, 9, 14), by subst h; exact ⟨dX9_year_1, rfl, ⟨⟨_, rfl, by decide, _, Or.inl q1367, Or.inl rfl⟩, (show mKd 14 9 ≤ 4 by decide)⟩⟩⟩ else none
  else
   bif Nat.blt pc 7 then
    if h : pc = 4 then some ⟨(.sipush 999, 7, .inl 999, 0, 0), by subst h; exact ⟨dX9_year_4, rfl, ⟨999, rfl, by decide⟩⟩⟩ else none
   else
    bif Nat.blt pc 10 then
     if h : pc = 7 then some ⟨(.if_icmp .ne 6, 10, .inl 0, 13, 0), by subst h; exact ⟨dX9_year_7, rfl, (show ((7 : Nat) : Int) + (6) = ((13 : Nat) : Int) by decide)⟩⟩ else none
    else
     if h : pc = 10 then some ⟨(.bipush (-3), 12, .inl (-3), 0, 0), by subst h; exact ⟨dX9_year_10, rfl, ⟨(-3), rfl, by decide⟩⟩⟩ else none
 else
  bif Nat.blt pc 17 then
   bif Nat.blt pc 13 then
    if h : pc = 12 then some ⟨(.ireturn, 13, .inl 0, 0, 0), by subst h; exact ⟨dX9_year_12, rfl, rfl⟩⟩ else none
   else
    bif Nat.blt pc 14 then
     if h : pc = 13 then some ⟨(.aload_n 0, 14, .inl 0, 0, 0), by subst h; exact ⟨dX9_year_13, rfl, trivial⟩⟩ else none
    else
     if h : pc = 14 then some ⟨(.invokevirtual 352, 17, .inl 0, 72, 14), by subst h; exact ⟨dX9_year_14, rfl, ⟨by decide, q1768, q1770, qs115, _, rfl, rfl⟩⟩⟩ else none
  else
   bif Nat.blt pc 18 then
    if h : pc = 17 then some ⟨(.aload_n 0, 18, .inl 0, 0, 0), by subst h; exact ⟨dX9_year_17, rfl, trivial⟩⟩ else none
   else
    bif Nat.blt pc 21 then
     if h : pc = 18 then some ⟨(.getfield 95, 21, .inl 0, 8, 14), by subst h; exact ⟨dX9_year_18, rfl, ⟨⟨_, rfl, by decide, _, Or.inl q1366, Or.inl rfl⟩, (show mKd 14 8 ≤ 4 by decide)⟩⟩⟩ else none
    else
     if h : pc = 21 then some ⟨(.ireturn, 22, .inl 0, 0, 0), by subst h; exact ⟨dX9_year_21, rfl, rfl⟩⟩ else none

noncomputable def mt72 (pc : Nat) : Option {e : mE // mOK yX9_passes cX9_passes 3 ((Option.none : Option ClassFile.FieldType)) pc e} :=
 bif Nat.blt pc 92 then
  bif Nat.blt pc 49 then
   bif Nat.blt pc 25 then
    bif Nat.blt pc 12 then
     bif Nat.blt pc 5 then
      bif Nat.blt pc 1 then
       if h : pc = 0 then some ⟨(.aload_n 0, 1, .inl 0, 0, 0), by subst h; exact ⟨dX9_passes_0, rfl, trivial⟩⟩ else none
      else
       bif Nat.blt pc 4 then
        if h : pc = 1 then some ⟨(.invokevirtual 349, 4, .inl 0, 61, 14), by subst h; exact ⟨dX9_passes_1, rfl, ⟨by decide, q1719, q1721, qs112, _, rfl, rfl⟩⟩⟩ else none
       else
        if h : pc = 4 then some ⟨(.aload_n 0, 5, .inl 0, 0, 0), by subst h; exact ⟨dX9_passes_4, rfl, trivial⟩⟩ else none
     else
      bif Nat.blt pc 8 then
       if h : pc = 5 then some ⟨(.getfield 23, 8, .inr (.inr none), 7, 14), by subst h; exact ⟨dX9_passes_5, rfl, ⟨⟨_, rfl, by decide, _, Or.inl q1365, Or.inl rfl⟩, (show mKd 14 7 = 6 by rfl)⟩⟩⟩ else none
      else
       bif Nat.blt pc 9 then
        if h : pc = 8 then some ⟨(.aload_n 0, 9, .inl 0, 0, 0), by subst h; exact ⟨dX9_passes_8, rfl, trivial⟩⟩ else none
       else
        if h : pc = 9 then some ⟨(.getfield 95, 12, .inl 0, 8, 14), by subst h; exact ⟨dX9_passes_9, rfl, ⟨⟨_, rfl, by decide, _, Or.inl q1366, Or.inl rfl⟩, (show mKd 14 8 ≤ 4 by decide)⟩⟩⟩ else none
    else
     bif Nat.blt pc 17 then
      bif Nat.blt pc 13 then
       if h : pc = 12 then some ⟨(.iaload, 13, .inl 0, 0, 0), by subst h; exact ⟨dX9_passes_12, rfl, trivial⟩⟩ else none
      else
       bif Nat.blt pc 16 then
        if h : pc = 13 then some ⟨(.sipush 15120, 16, .inl 15120, 0, 0), by subst h; exact ⟨dX9_passes_13, rfl, ⟨15120, rfl, by decide⟩⟩⟩ else none
       else
        if h : pc = 16 then some ⟨(.imul, 17, .inl 0, 0, 0), by subst h; exact ⟨dX9_passes_16, rfl, trivial⟩⟩ else none
     else
      bif Nat.blt pc 21 then
       bif Nat.blt pc 20 then
        if h : pc = 17 then some ⟨(.if_icmp .le 7, 20, .inl 0, 24, 0), by subst h; exact ⟨dX9_passes_17, rfl, (show ((17 : Nat) : Int) + (7) = ((24 : Nat) : Int) by decide)⟩⟩ else none
       else
        if h : pc = 20 then some ⟨(.iconst 1, 21, .inl 1, 0, 0), by subst h; exact ⟨dX9_passes_20, rfl, ⟨1, rfl, by decide⟩⟩⟩ else none
      else
       bif Nat.blt pc 24 then
        if h : pc = 21 then some ⟨(.goto 4, 24, .inl 0, 25, 0), by subst h; exact ⟨dX9_passes_21, rfl, (show ((21 : Nat) : Int) + (4) = ((25 : Nat) : Int) by decide)⟩⟩ else none
       else
        if h : pc = 24 then some ⟨(.iconst 0, 25, .inl 0, 0, 0), by subst h; exact ⟨dX9_passes_24, rfl, ⟨0, rfl, by decide⟩⟩⟩ else none
   else
    bif Nat.blt pc 36 then
     bif Nat.blt pc 28 then
      bif Nat.blt pc 26 then
       if h : pc = 25 then some ⟨(.istore_n 1, 26, .inl 0, 0, 0), by subst h; exact ⟨dX9_passes_25, rfl, (show (1 : Nat) < 3 by decide)⟩⟩ else none
      else
       bif Nat.blt pc 27 then
        if h : pc = 26 then some ⟨(.iconst 0, 27, .inl 0, 0, 0), by subst h; exact ⟨dX9_passes_26, rfl, ⟨0, rfl, by decide⟩⟩⟩ else none
       else
        if h : pc = 27 then some ⟨(.istore_n 2, 28, .inl 0, 0, 0), by subst h; exact ⟨dX9_passes_27, rfl, (show (2 : Nat) < 3 by decide)⟩⟩ else none
     else
      bif Nat.blt pc 30 then
       bif Nat.blt pc 29 then
        if h : pc = 28 then some ⟨(.iload_n 2, 29, .inl 0, 0, 0), by subst h; exact ⟨dX9_passes_28, rfl, trivial⟩⟩ else none
       else
        if h : pc = 29 then some ⟨(.aload_n 0, 30, .inl 0, 0, 0), by subst h; exact ⟨dX9_passes_29, rfl, trivial⟩⟩ else none
      else
       bif Nat.blt pc 33 then
        if h : pc = 30 then some ⟨(.getfield 64, 33, .inl 0, 11, 14), by subst h; exact ⟨dX9_passes_30, rfl, ⟨⟨_, rfl, by decide, _, Or.inl q1369, Or.inl rfl⟩, (show mKd 14 11 ≤ 4 by decide)⟩⟩⟩ else none
       else
        if h : pc = 33 then some ⟨(.if_icmp .ge 32, 36, .inl 0, 65, 0), by subst h; exact ⟨dX9_passes_33, rfl, (show ((33 : Nat) : Int) + (32) = ((65 : Nat) : Int) by decide)⟩⟩ else none
    else
     bif Nat.blt pc 41 then
      bif Nat.blt pc 37 then
       if h : pc = 36 then some ⟨(.aload_n 0, 37, .inl 0, 0, 0), by subst h; exact ⟨dX9_passes_36, rfl, trivial⟩⟩ else none
      else
       bif Nat.blt pc 40 then
        if h : pc = 37 then some ⟨(.getfield 29, 40, .inr (.inr none), 27, 14), by subst h; exact ⟨dX9_passes_37, rfl, ⟨⟨_, rfl, by decide, _, Or.inl q1385, Or.inl rfl⟩, (show mKd 14 27 = 6 by rfl)⟩⟩⟩ else none
       else
        if h : pc = 40 then some ⟨(.iload_n 2, 41, .inl 0, 0, 0), by subst h; exact ⟨dX9_passes_40, rfl, trivial⟩⟩ else none
     else
      bif Nat.blt pc 43 then
       bif Nat.blt pc 42 then
        if h : pc = 41 then some ⟨(.aload_n 0, 42, .inl 0, 0, 0), by subst h; exact ⟨dX9_passes_41, rfl, trivial⟩⟩ else none
       else
        if h : pc = 42 then some ⟨(.iload_n 2, 43, .inl 0, 0, 0), by subst h; exact ⟨dX9_passes_42, rfl, trivial⟩⟩ else none
      else
       bif Nat.blt pc 46 then
        if h : pc = 43 then some ⟨(.invokevirtual 335, 46, .inl 0, 60, 14), by subst h; exact ⟨dX9_passes_43, rfl, ⟨by decide, q1715, q1717, qs111, _, rfl, rfl⟩⟩⟩ else none
       else
        if h : pc = 46 then some ⟨(.ifCond .eq 11, 49, .inl 0, 57, 0), by subst h; exact ⟨dX9_passes_46, rfl, (show ((46 : Nat) : Int) + (11) = ((57 : Nat) : Int) by decide)⟩⟩ else none
  else
   bif Nat.blt pc 72 then
    bif Nat.blt pc 59 then
     bif Nat.blt pc 54 then
      bif Nat.blt pc 50 then
       if h : pc = 49 then some ⟨(.aload_n 0, 50, .inl 0, 0, 0), by subst h; exact ⟨dX9_passes_49, rfl, trivial⟩⟩ else none
      else
       bif Nat.blt pc 51 then
        if h : pc = 50 then some ⟨(.iload_n 2, 51, .inl 0, 0, 0), by subst h; exact ⟨dX9_passes_50, rfl, trivial⟩⟩ else none
       else
        if h : pc = 51 then some ⟨(.invokevirtual 113, 54, .inl 0, 58, 14), by subst h; exact ⟨dX9_passes_51, rfl, ⟨by decide, q1707, q1709, qs109, _, rfl, rfl⟩⟩⟩ else none
     else
      bif Nat.blt pc 57 then
       if h : pc = 54 then some ⟨(.goto 4, 57, .inl 0, 58, 0), by subst h; exact ⟨dX9_passes_54, rfl, (show ((54 : Nat) : Int) + (4) = ((58 : Nat) : Int) by decide)⟩⟩ else none
      else
       bif Nat.blt pc 58 then
        if h : pc = 57 then some ⟨(.iconst 0, 58, .inl 0, 0, 0), by subst h; exact ⟨dX9_passes_57, rfl, ⟨0, rfl, by decide⟩⟩⟩ else none
       else
        if h : pc = 58 then some ⟨(.iastore, 59, .inl 0, 0, 0), by subst h; exact ⟨dX9_passes_58, rfl, trivial⟩⟩ else none
    else
     bif Nat.blt pc 66 then
      bif Nat.blt pc 62 then
       if h : pc = 59 then some ⟨(.iinc 2 1, 62, .inl 1, 0, 0), by subst h; exact ⟨dX9_passes_59, rfl, ⟨(show (2 : Nat) < 3 by decide), 1, rfl, by decide⟩⟩⟩ else none
      else
       bif Nat.blt pc 65 then
        if h : pc = 62 then some ⟨(.goto (-34), 65, .inl 0, 28, 0), by subst h; exact ⟨dX9_passes_62, rfl, (show ((62 : Nat) : Int) + ((-34)) = ((28 : Nat) : Int) by decide)⟩⟩ else none
       else
        if h : pc = 65 then some ⟨(.iconst 0, 66, .inl 0, 0, 0), by subst h; exact ⟨dX9_passes_65, rfl, ⟨0, rfl, by decide⟩⟩⟩ else none
     else
      bif Nat.blt pc 68 then
       bif Nat.blt pc 67 then
        if h : pc = 66 then some ⟨(.istore_n 2, 67, .inl 0, 0, 0), by subst h; exact ⟨dX9_passes_66, rfl, (show (2 : Nat) < 3 by decide)⟩⟩ else none
       else
        if h : pc = 67 then some ⟨(.iload_n 2, 68, .inl 0, 0, 0), by subst h; exact ⟨dX9_passes_67, rfl, trivial⟩⟩ else none
      else
       bif Nat.blt pc 69 then
        if h : pc = 68 then some ⟨(.aload_n 0, 69, .inl 0, 0, 0), by subst h; exact ⟨dX9_passes_68, rfl, trivial⟩⟩ else none
       else
        if h : pc = 69 then some ⟨(.getfield 64, 72, .inl 0, 11, 14), by subst h; exact ⟨dX9_passes_69, rfl, ⟨⟨_, rfl, by decide, _, Or.inl q1369, Or.inl rfl⟩, (show mKd 14 11 ≤ 4 by decide)⟩⟩⟩ else none
   else
    bif Nat.blt pc 83 then
     bif Nat.blt pc 79 then
      bif Nat.blt pc 75 then
       if h : pc = 72 then some ⟨(.if_icmp .ge 71, 75, .inl 0, 143, 0), by subst h; exact ⟨dX9_passes_72, rfl, (show ((72 : Nat) : Int) + (71) = ((143 : Nat) : Int) by decide)⟩⟩ else none
      else
       bif Nat.blt pc 76 then
        if h : pc = 75 then some ⟨(.aload_n 0, 76, .inl 0, 0, 0), by subst h; exact ⟨dX9_passes_75, rfl, trivial⟩⟩ else none
       else
        if h : pc = 76 then some ⟨(.getfield 26, 79, .inr (.inr none), 10, 14), by subst h; exact ⟨dX9_passes_76, rfl, ⟨⟨_, rfl, by decide, _, Or.inl q1368, Or.inl rfl⟩, (show mKd 14 10 = 6 by rfl)⟩⟩⟩ else none
     else
      bif Nat.blt pc 81 then
       bif Nat.blt pc 80 then
        if h : pc = 79 then some ⟨(.iconst 5, 80, .inl 5, 0, 0), by subst h; exact ⟨dX9_passes_79, rfl, ⟨5, rfl, by decide⟩⟩⟩ else none
       else
        if h : pc = 80 then some ⟨(.iload_n 2, 81, .inl 0, 0, 0), by subst h; exact ⟨dX9_passes_80, rfl, trivial⟩⟩ else none
      else
       bif Nat.blt pc 82 then
        if h : pc = 81 then some ⟨(.imul, 82, .inl 0, 0, 0), by subst h; exact ⟨dX9_passes_81, rfl, trivial⟩⟩ else none
       else
        if h : pc = 82 then some ⟨(.iconst 2, 83, .inl 2, 0, 0), by subst h; exact ⟨dX9_passes_82, rfl, ⟨2, rfl, by decide⟩⟩⟩ else none
    else
     bif Nat.blt pc 88 then
      bif Nat.blt pc 84 then
       if h : pc = 83 then some ⟨(.iadd, 84, .inl 0, 0, 0), by subst h; exact ⟨dX9_passes_83, rfl, trivial⟩⟩ else none
      else
       bif Nat.blt pc 85 then
        if h : pc = 84 then some ⟨(.aload_n 0, 85, .inl 0, 0, 0), by subst h; exact ⟨dX9_passes_84, rfl, trivial⟩⟩ else none
       else
        if h : pc = 85 then some ⟨(.getfield 26, 88, .inr (.inr none), 10, 14), by subst h; exact ⟨dX9_passes_85, rfl, ⟨⟨_, rfl, by decide, _, Or.inl q1368, Or.inl rfl⟩, (show mKd 14 10 = 6 by rfl)⟩⟩⟩ else none
     else
      bif Nat.blt pc 90 then
       bif Nat.blt pc 89 then
        if h : pc = 88 then some ⟨(.iconst 5, 89, .inl 5, 0, 0), by subst h; exact ⟨dX9_passes_88, rfl, ⟨5, rfl, by decide⟩⟩⟩ else none
       else
        if h : pc = 89 then some ⟨(.iload_n 2, 90, .inl 0, 0, 0), by subst h; exact ⟨dX9_passes_89, rfl, trivial⟩⟩ else none
      else
       bif Nat.blt pc 91 then
        if h : pc = 90 then some ⟨(.imul, 91, .inl 0, 0, 0), by subst h; exact ⟨dX9_passes_90, rfl, trivial⟩⟩ else none
       else
        if h : pc = 91 then some ⟨(.iconst 2, 92, .inl 2, 0, 0), by subst h; exact ⟨dX9_passes_91, rfl, ⟨2, rfl, by decide⟩⟩⟩ else none
 else
  bif Nat.blt pc 128 then
   bif Nat.blt pc 112 then
    bif Nat.blt pc 100 then
     bif Nat.blt pc 95 then
      bif Nat.blt pc 93 then
       if h : pc = 92 then some ⟨(.iadd, 93, .inl 0, 0, 0), by subst h; exact ⟨dX9_passes_92, rfl, trivial⟩⟩ else none
      else
       bif Nat.blt pc 94 then
        if h : pc = 93 then some ⟨(.iaload, 94, .inl 0, 0, 0), by subst h; exact ⟨dX9_passes_93, rfl, trivial⟩⟩ else none
       else
        if h : pc = 94 then some ⟨(.aload_n 0, 95, .inl 0, 0, 0), by subst h; exact ⟨dX9_passes_94, rfl, trivial⟩⟩ else none
     else
      bif Nat.blt pc 98 then
       if h : pc = 95 then some ⟨(.getfield 29, 98, .inr (.inr none), 27, 14), by subst h; exact ⟨dX9_passes_95, rfl, ⟨⟨_, rfl, by decide, _, Or.inl q1385, Or.inl rfl⟩, (show mKd 14 27 = 6 by rfl)⟩⟩⟩ else none
      else
       bif Nat.blt pc 99 then
        if h : pc = 98 then some ⟨(.iload_n 2, 99, .inl 0, 0, 0), by subst h; exact ⟨dX9_passes_98, rfl, trivial⟩⟩ else none
       else
        if h : pc = 99 then some ⟨(.iaload, 100, .inl 0, 0, 0), by subst h; exact ⟨dX9_passes_99, rfl, trivial⟩⟩ else none
    else
     bif Nat.blt pc 104 then
      bif Nat.blt pc 101 then
       if h : pc = 100 then some ⟨(.iadd, 101, .inl 0, 0, 0), by subst h; exact ⟨dX9_passes_100, rfl, trivial⟩⟩ else none
      else
       bif Nat.blt pc 102 then
        if h : pc = 101 then some ⟨(.iconst 0, 102, .inl 0, 0, 0), by subst h; exact ⟨dX9_passes_101, rfl, ⟨0, rfl, by decide⟩⟩⟩ else none
       else
        if h : pc = 102 then some ⟨(.bipush 99, 104, .inl 99, 0, 0), by subst h; exact ⟨dX9_passes_102, rfl, ⟨99, rfl, by decide⟩⟩⟩ else none
     else
      bif Nat.blt pc 108 then
       bif Nat.blt pc 107 then
        if h : pc = 104 then some ⟨(.invokestatic 328, 107, .inl 0, 57, 0), by subst h; exact ⟨dX9_passes_104, rfl, Or.inl ⟨by decide, q1704, q1705⟩⟩⟩ else none
       else
        if h : pc = 107 then some ⟨(.iastore, 108, .inl 0, 0, 0), by subst h; exact ⟨dX9_passes_107, rfl, trivial⟩⟩ else none
      else
       bif Nat.blt pc 109 then
        if h : pc = 108 then some ⟨(.aload_n 0, 109, .inl 0, 0, 0), by subst h; exact ⟨dX9_passes_108, rfl, trivial⟩⟩ else none
       else
        if h : pc = 109 then some ⟨(.getfield 26, 112, .inr (.inr none), 10, 14), by subst h; exact ⟨dX9_passes_109, rfl, ⟨⟨_, rfl, by decide, _, Or.inl q1368, Or.inl rfl⟩, (show mKd 14 10 = 6 by rfl)⟩⟩⟩ else none
   else
    bif Nat.blt pc 121 then
     bif Nat.blt pc 115 then
      bif Nat.blt pc 113 then
       if h : pc = 112 then some ⟨(.iconst 5, 113, .inl 5, 0, 0), by subst h; exact ⟨dX9_passes_112, rfl, ⟨5, rfl, by decide⟩⟩⟩ else none
      else
       bif Nat.blt pc 114 then
        if h : pc = 113 then some ⟨(.iload_n 2, 114, .inl 0, 0, 0), by subst h; exact ⟨dX9_passes_113, rfl, trivial⟩⟩ else none
       else
        if h : pc = 114 then some ⟨(.imul, 115, .inl 0, 0, 0), by subst h; exact ⟨dX9_passes_114, rfl, trivial⟩⟩ else none
     else
      bif Nat.blt pc 117 then
       bif Nat.blt pc 116 then
        if h : pc = 115 then some ⟨(.iconst 1, 116, .inl 1, 0, 0), by subst h; exact ⟨dX9_passes_115, rfl, ⟨1, rfl, by decide⟩⟩⟩ else none
       else
        if h : pc = 116 then some ⟨(.iadd, 117, .inl 0, 0, 0), by subst h; exact ⟨dX9_passes_116, rfl, trivial⟩⟩ else none
      else
       bif Nat.blt pc 118 then
        if h : pc = 117 then some ⟨(.aload_n 0, 118, .inl 0, 0, 0), by subst h; exact ⟨dX9_passes_117, rfl, trivial⟩⟩ else none
       else
        if h : pc = 118 then some ⟨(.getfield 26, 121, .inr (.inr none), 10, 14), by subst h; exact ⟨dX9_passes_118, rfl, ⟨⟨_, rfl, by decide, _, Or.inl q1368, Or.inl rfl⟩, (show mKd 14 10 = 6 by rfl)⟩⟩⟩ else none
    else
     bif Nat.blt pc 124 then
      bif Nat.blt pc 122 then
       if h : pc = 121 then some ⟨(.iconst 5, 122, .inl 5, 0, 0), by subst h; exact ⟨dX9_passes_121, rfl, ⟨5, rfl, by decide⟩⟩⟩ else none
      else
       bif Nat.blt pc 123 then
        if h : pc = 122 then some ⟨(.iload_n 2, 123, .inl 0, 0, 0), by subst h; exact ⟨dX9_passes_122, rfl, trivial⟩⟩ else none
       else
        if h : pc = 123 then some ⟨(.imul, 124, .inl 0, 0, 0), by subst h; exact ⟨dX9_passes_123, rfl, trivial⟩⟩ else none
     else
      bif Nat.blt pc 126 then
       bif Nat.blt pc 125 then
        if h : pc = 124 then some ⟨(.iconst 1, 125, .inl 1, 0, 0), by subst h; exact ⟨dX9_passes_124, rfl, ⟨1, rfl, by decide⟩⟩⟩ else none
       else
        if h : pc = 125 then some ⟨(.iadd, 126, .inl 0, 0, 0), by subst h; exact ⟨dX9_passes_125, rfl, trivial⟩⟩ else none
      else
       bif Nat.blt pc 127 then
        if h : pc = 126 then some ⟨(.iaload, 127, .inl 0, 0, 0), by subst h; exact ⟨dX9_passes_126, rfl, trivial⟩⟩ else none
       else
        if h : pc = 127 then some ⟨(.iconst 1, 128, .inl 1, 0, 0), by subst h; exact ⟨dX9_passes_127, rfl, ⟨1, rfl, by decide⟩⟩⟩ else none
  else
   bif Nat.blt pc 153 then
    bif Nat.blt pc 140 then
     bif Nat.blt pc 133 then
      bif Nat.blt pc 129 then
       if h : pc = 128 then some ⟨(.iadd, 129, .inl 0, 0, 0), by subst h; exact ⟨dX9_passes_128, rfl, trivial⟩⟩ else none
      else
       bif Nat.blt pc 130 then
        if h : pc = 129 then some ⟨(.iconst 0, 130, .inl 0, 0, 0), by subst h; exact ⟨dX9_passes_129, rfl, ⟨0, rfl, by decide⟩⟩⟩ else none
       else
        if h : pc = 130 then some ⟨(.sipush 999, 133, .inl 999, 0, 0), by subst h; exact ⟨dX9_passes_130, rfl, ⟨999, rfl, by decide⟩⟩⟩ else none
     else
      bif Nat.blt pc 136 then
       if h : pc = 133 then some ⟨(.invokestatic 328, 136, .inl 0, 57, 0), by subst h; exact ⟨dX9_passes_133, rfl, Or.inl ⟨by decide, q1704, q1705⟩⟩⟩ else none
      else
       bif Nat.blt pc 137 then
        if h : pc = 136 then some ⟨(.iastore, 137, .inl 0, 0, 0), by subst h; exact ⟨dX9_passes_136, rfl, trivial⟩⟩ else none
       else
        if h : pc = 137 then some ⟨(.iinc 2 1, 140, .inl 1, 0, 0), by subst h; exact ⟨dX9_passes_137, rfl, ⟨(show (2 : Nat) < 3 by decide), 1, rfl, by decide⟩⟩⟩ else none
    else
     bif Nat.blt pc 145 then
      bif Nat.blt pc 143 then
       if h : pc = 140 then some ⟨(.goto (-73), 143, .inl 0, 67, 0), by subst h; exact ⟨dX9_passes_140, rfl, (show ((140 : Nat) : Int) + ((-73)) = ((67 : Nat) : Int) by decide)⟩⟩ else none
      else
       bif Nat.blt pc 144 then
        if h : pc = 143 then some ⟨(.aload_n 0, 144, .inl 0, 0, 0), by subst h; exact ⟨dX9_passes_143, rfl, trivial⟩⟩ else none
       else
        if h : pc = 144 then some ⟨(.aload_n 0, 145, .inl 0, 0, 0), by subst h; exact ⟨dX9_passes_144, rfl, trivial⟩⟩ else none
     else
      bif Nat.blt pc 149 then
       bif Nat.blt pc 148 then
        if h : pc = 145 then some ⟨(.getfield 95, 148, .inl 0, 8, 14), by subst h; exact ⟨dX9_passes_145, rfl, ⟨⟨_, rfl, by decide, _, Or.inl q1366, Or.inl rfl⟩, (show mKd 14 8 ≤ 4 by decide)⟩⟩⟩ else none
       else
        if h : pc = 148 then some ⟨(.iload_n 1, 149, .inl 0, 0, 0), by subst h; exact ⟨dX9_passes_148, rfl, trivial⟩⟩ else none
      else
       bif Nat.blt pc 152 then
        if h : pc = 149 then some ⟨(.ifCond .eq 7, 152, .inl 0, 156, 0), by subst h; exact ⟨dX9_passes_149, rfl, (show ((149 : Nat) : Int) + (7) = ((156 : Nat) : Int) by decide)⟩⟩ else none
       else
        if h : pc = 152 then some ⟨(.iconst 1, 153, .inl 1, 0, 0), by subst h; exact ⟨dX9_passes_152, rfl, ⟨1, rfl, by decide⟩⟩⟩ else none
   else
    bif Nat.blt pc 167 then
     bif Nat.blt pc 158 then
      bif Nat.blt pc 156 then
       if h : pc = 153 then some ⟨(.goto 4, 156, .inl 0, 157, 0), by subst h; exact ⟨dX9_passes_153, rfl, (show ((153 : Nat) : Int) + (4) = ((157 : Nat) : Int) by decide)⟩⟩ else none
      else
       bif Nat.blt pc 157 then
        if h : pc = 156 then some ⟨(.iconst 0, 157, .inl 0, 0, 0), by subst h; exact ⟨dX9_passes_156, rfl, ⟨0, rfl, by decide⟩⟩⟩ else none
       else
        if h : pc = 157 then some ⟨(.iadd, 158, .inl 0, 0, 0), by subst h; exact ⟨dX9_passes_157, rfl, trivial⟩⟩ else none
     else
      bif Nat.blt pc 161 then
       bif Nat.blt pc 159 then
        if h : pc = 158 then some ⟨(.iconst 0, 159, .inl 0, 0, 0), by subst h; exact ⟨dX9_passes_158, rfl, ⟨0, rfl, by decide⟩⟩⟩ else none
       else
        if h : pc = 159 then some ⟨(.bipush 10, 161, .inl 10, 0, 0), by subst h; exact ⟨dX9_passes_159, rfl, ⟨10, rfl, by decide⟩⟩⟩ else none
      else
       bif Nat.blt pc 164 then
        if h : pc = 161 then some ⟨(.invokestatic 328, 164, .inl 0, 57, 0), by subst h; exact ⟨dX9_passes_161, rfl, Or.inl ⟨by decide, q1704, q1705⟩⟩⟩ else none
       else
        if h : pc = 164 then some ⟨(.putfield 95, 167, .inl 0, 8, 14), by subst h; exact ⟨dX9_passes_164, rfl, ⟨⟨_, rfl, by decide, _, Or.inl q1366, Or.inl rfl⟩, (show mKd 14 8 ≤ 4 by decide), by decide, by decide, (fun q h => Or.inl (by cases h; rfl))⟩⟩⟩ else none
    else
     bif Nat.blt pc 172 then
      bif Nat.blt pc 168 then
       if h : pc = 167 then some ⟨(.aload_n 0, 168, .inl 0, 0, 0), by subst h; exact ⟨dX9_passes_167, rfl, trivial⟩⟩ else none
      else
       bif Nat.blt pc 169 then
        if h : pc = 168 then some ⟨(.dup, 169, .inl 0, 0, 0), by subst h; exact ⟨dX9_passes_168, rfl, trivial⟩⟩ else none
       else
        if h : pc = 169 then some ⟨(.getfield 98, 172, .inl 0, 9, 14), by subst h; exact ⟨dX9_passes_169, rfl, ⟨⟨_, rfl, by decide, _, Or.inl q1367, Or.inl rfl⟩, (show mKd 14 9 ≤ 4 by decide)⟩⟩⟩ else none
     else
      bif Nat.blt pc 174 then
       bif Nat.blt pc 173 then
        if h : pc = 172 then some ⟨(.iconst 1, 173, .inl 1, 0, 0), by subst h; exact ⟨dX9_passes_172, rfl, ⟨1, rfl, by decide⟩⟩⟩ else none
       else
        if h : pc = 173 then some ⟨(.iadd, 174, .inl 0, 0, 0), by subst h; exact ⟨dX9_passes_173, rfl, trivial⟩⟩ else none
      else
       bif Nat.blt pc 177 then
        if h : pc = 174 then some ⟨(.putfield 98, 177, .inl 0, 9, 14), by subst h; exact ⟨dX9_passes_174, rfl, ⟨⟨_, rfl, by decide, _, Or.inl q1367, Or.inl rfl⟩, (show mKd 14 9 ≤ 4 by decide), by decide, by decide, (fun q h => Or.inl (by cases h; rfl))⟩⟩⟩ else none
       else
        if h : pc = 177 then some ⟨(.return_, 178, .inl 0, 0, 0), by subst h; exact ⟨dX9_passes_177, rfl, rfl⟩⟩ else none

noncomputable def mt73 (pc : Nat) : Option {e : mE // mOK yX9_lift cX9_lift 3 ((Option.some ClassFile.FieldType.int)) pc e} :=
 bif Nat.blt pc 19 then
  bif Nat.blt pc 10 then
   bif Nat.blt pc 2 then
    bif Nat.blt pc 1 then
     if h : pc = 0 then some ⟨(.aload_n 0, 1, .inl 0, 0, 0), by subst h; exact ⟨dX9_lift_0, rfl, trivial⟩⟩ else none
    else
     if h : pc = 1 then some ⟨(.iload_n 1, 2, .inl 0, 0, 0), by subst h; exact ⟨dX9_lift_1, rfl, trivial⟩⟩ else none
   else
    bif Nat.blt pc 5 then
     if h : pc = 2 then some ⟨(.invokevirtual 73, 5, .inl 0, 5, 14), by subst h; exact ⟨dX9_lift_2, rfl, ⟨by decide, q1490, q1492, qs59, _, rfl, rfl⟩⟩⟩ else none
    else
     bif Nat.blt pc 8 then
      if h : pc = 5 then some ⟨(.ifCond .ne 6, 8, .inl 0, 11, 0), by subst h; exact ⟨dX9_lift_5, rfl, (show ((5 : Nat) : Int) + (6) = ((11 : Nat) : Int) by decide)⟩⟩ else none
     else
      if h : pc = 8 then some ⟨(.bipush (-2), 10, .inl (-2), 0, 0), by subst h; exact ⟨dX9_lift_8, rfl, ⟨(-2), rfl, by decide⟩⟩⟩ else none
  else
   bif Nat.blt pc 12 then
    bif Nat.blt pc 11 then
     if h : pc = 10 then some ⟨(.ireturn, 11, .inl 0, 0, 0), by subst h; exact ⟨dX9_lift_10, rfl, rfl⟩⟩ else none
    else
     if h : pc = 11 then some ⟨(.aload_n 0, 12, .inl 0, 0, 0), by subst h; exact ⟨dX9_lift_11, rfl, trivial⟩⟩ else none
   else
    bif Nat.blt pc 13 then
     if h : pc = 12 then some ⟨(.iload_n 1, 13, .inl 0, 0, 0), by subst h; exact ⟨dX9_lift_12, rfl, trivial⟩⟩ else none
    else
     bif Nat.blt pc 16 then
      if h : pc = 13 then some ⟨(.invokevirtual 116, 16, .inl 0, 59, 14), by subst h; exact ⟨dX9_lift_13, rfl, ⟨by decide, q1711, q1713, qs110, _, rfl, rfl⟩⟩⟩ else none
     else
      if h : pc = 16 then some ⟨(.ifCond .ne 6, 19, .inl 0, 22, 0), by subst h; exact ⟨dX9_lift_16, rfl, (show ((16 : Nat) : Int) + (6) = ((22 : Nat) : Int) by decide)⟩⟩ else none
 else
  bif Nat.blt pc 27 then
   bif Nat.blt pc 22 then
    bif Nat.blt pc 21 then
     if h : pc = 19 then some ⟨(.bipush (-3), 21, .inl (-3), 0, 0), by subst h; exact ⟨dX9_lift_19, rfl, ⟨(-3), rfl, by decide⟩⟩⟩ else none
    else
     if h : pc = 21 then some ⟨(.ireturn, 22, .inl 0, 0, 0), by subst h; exact ⟨dX9_lift_21, rfl, rfl⟩⟩ else none
   else
    bif Nat.blt pc 23 then
     if h : pc = 22 then some ⟨(.aload_n 0, 23, .inl 0, 0, 0), by subst h; exact ⟨dX9_lift_22, rfl, trivial⟩⟩ else none
    else
     bif Nat.blt pc 26 then
      if h : pc = 23 then some ⟨(.getfield 95, 26, .inl 0, 8, 14), by subst h; exact ⟨dX9_lift_23, rfl, ⟨⟨_, rfl, by decide, _, Or.inl q1366, Or.inl rfl⟩, (show mKd 14 8 ≤ 4 by decide)⟩⟩⟩ else none
     else
      if h : pc = 26 then some ⟨(.istore_n 2, 27, .inl 0, 0, 0), by subst h; exact ⟨dX9_lift_26, rfl, (show (2 : Nat) < 3 by decide)⟩⟩ else none
  else
   bif Nat.blt pc 29 then
    bif Nat.blt pc 28 then
     if h : pc = 27 then some ⟨(.aload_n 0, 28, .inl 0, 0, 0), by subst h; exact ⟨dX9_lift_27, rfl, trivial⟩⟩ else none
    else
     if h : pc = 28 then some ⟨(.iconst 0, 29, .inl 0, 0, 0), by subst h; exact ⟨dX9_lift_28, rfl, ⟨0, rfl, by decide⟩⟩⟩ else none
   else
    bif Nat.blt pc 32 then
     if h : pc = 29 then some ⟨(.putfield 95, 32, .inl 0, 8, 14), by subst h; exact ⟨dX9_lift_29, rfl, ⟨⟨_, rfl, by decide, _, Or.inl q1366, Or.inl rfl⟩, (show mKd 14 8 ≤ 4 by decide), by decide, by decide, (fun q h => Or.inl (by cases h; rfl))⟩⟩⟩ else none
    else
     bif Nat.blt pc 33 then
      if h : pc = 32 then some ⟨(.iload_n 2, 33, .inl 0, 0, 0), by subst h; exact ⟨dX9_lift_32, rfl, trivial⟩⟩ else none
     else
      if h : pc = 33 then some ⟨(.ireturn, 34, .inl 0, 0, 0), by subst h; exact ⟨dX9_lift_33, rfl, rfl⟩⟩ else none

noncomputable def mt74 (pc : Nat) : Option {e : mE // mOK yX9_run cX9_run 5 ((Option.some ClassFile.FieldType.int)) pc e} :=
 bif Nat.blt pc 37 then
  bif Nat.blt pc 20 then
   bif Nat.blt pc 9 then
    bif Nat.blt pc 2 then
     bif Nat.blt pc 1 then
      if h : pc = 0 then some ⟨(.aload_n 0, 1, .inl 0, 0, 0), by subst h; exact ⟨dX9_run_0, rfl, trivial⟩⟩ else none
     else
      if h : pc = 1 then some ⟨(.iload_n 1, 2, .inl 0, 0, 0), by subst h; exact ⟨dX9_run_1, rfl, trivial⟩⟩ else none
    else
     bif Nat.blt pc 5 then
      if h : pc = 2 then some ⟨(.invokevirtual 73, 5, .inl 0, 5, 14), by subst h; exact ⟨dX9_run_2, rfl, ⟨by decide, q1490, q1492, qs59, _, rfl, rfl⟩⟩⟩ else none
     else
      bif Nat.blt pc 8 then
       if h : pc = 5 then some ⟨(.ifCond .eq 25, 8, .inl 0, 30, 0), by subst h; exact ⟨dX9_run_5, rfl, (show ((5 : Nat) : Int) + (25) = ((30 : Nat) : Int) by decide)⟩⟩ else none
      else
       if h : pc = 8 then some ⟨(.iload_n 2, 9, .inl 0, 0, 0), by subst h; exact ⟨dX9_run_8, rfl, trivial⟩⟩ else none
   else
    bif Nat.blt pc 11 then
     bif Nat.blt pc 10 then
      if h : pc = 9 then some ⟨(.i2l, 10, .inl 0, 0, 0), by subst h; exact ⟨dX9_run_9, rfl, trivial⟩⟩ else none
     else
      if h : pc = 10 then some ⟨(.lconst 0, 11, .inr (.inl 0), 0, 0), by subst h; exact ⟨dX9_run_10, rfl, ⟨0, rfl, by decide⟩⟩⟩ else none
    else
     bif Nat.blt pc 14 then
      if h : pc = 11 then some ⟨(.ldc2_w 217, 14, .inr (.inl 60), 0, 0), by subst h; exact ⟨dX9_run_11, rfl, ⟨_, rfl, q1603⟩⟩⟩ else none
     else
      bif Nat.blt pc 17 then
       if h : pc = 14 then some ⟨(.invokestatic 67, 17, .inl 0, 3, 0), by subst h; exact ⟨dX9_run_14, rfl, Or.inl ⟨by decide, q1482, q1483⟩⟩⟩ else none
      else
       if h : pc = 17 then some ⟨(.ifCond .eq 13, 20, .inl 0, 30, 0), by subst h; exact ⟨dX9_run_17, rfl, (show ((17 : Nat) : Int) + (13) = ((30 : Nat) : Int) by decide)⟩⟩ else none
  else
   bif Nat.blt pc 27 then
    bif Nat.blt pc 22 then
     bif Nat.blt pc 21 then
      if h : pc = 20 then some ⟨(.iload_n 3, 21, .inl 0, 0, 0), by subst h; exact ⟨dX9_run_20, rfl, trivial⟩⟩ else none
     else
      if h : pc = 21 then some ⟨(.i2l, 22, .inl 0, 0, 0), by subst h; exact ⟨dX9_run_21, rfl, trivial⟩⟩ else none
    else
     bif Nat.blt pc 23 then
      if h : pc = 22 then some ⟨(.lconst 0, 23, .inr (.inl 0), 0, 0), by subst h; exact ⟨dX9_run_22, rfl, ⟨0, rfl, by decide⟩⟩⟩ else none
     else
      bif Nat.blt pc 24 then
       if h : pc = 23 then some ⟨(.lconst 1, 24, .inr (.inl 1), 0, 0), by subst h; exact ⟨dX9_run_23, rfl, ⟨1, rfl, by decide⟩⟩⟩ else none
      else
       if h : pc = 24 then some ⟨(.invokestatic 67, 27, .inl 0, 3, 0), by subst h; exact ⟨dX9_run_24, rfl, Or.inl ⟨by decide, q1482, q1483⟩⟩⟩ else none
   else
    bif Nat.blt pc 32 then
     bif Nat.blt pc 30 then
      if h : pc = 27 then some ⟨(.ifCond .ne 6, 30, .inl 0, 33, 0), by subst h; exact ⟨dX9_run_27, rfl, (show ((27 : Nat) : Int) + (6) = ((33 : Nat) : Int) by decide)⟩⟩ else none
     else
      if h : pc = 30 then some ⟨(.bipush (-2), 32, .inl (-2), 0, 0), by subst h; exact ⟨dX9_run_30, rfl, ⟨(-2), rfl, by decide⟩⟩⟩ else none
    else
     bif Nat.blt pc 33 then
      if h : pc = 32 then some ⟨(.ireturn, 33, .inl 0, 0, 0), by subst h; exact ⟨dX9_run_32, rfl, rfl⟩⟩ else none
     else
      bif Nat.blt pc 34 then
       if h : pc = 33 then some ⟨(.aload_n 0, 34, .inl 0, 0, 0), by subst h; exact ⟨dX9_run_33, rfl, trivial⟩⟩ else none
      else
       if h : pc = 34 then some ⟨(.invokevirtual 355, 37, .inl 0, 75, 14), by subst h; exact ⟨dX9_run_34, rfl, ⟨by decide, q1780, q1782, qs116, _, rfl, rfl⟩⟩⟩ else none
 else
  bif Nat.blt pc 57 then
   bif Nat.blt pc 46 then
    bif Nat.blt pc 39 then
     bif Nat.blt pc 38 then
      if h : pc = 37 then some ⟨(.aload_n 0, 38, .inl 0, 0, 0), by subst h; exact ⟨dX9_run_37, rfl, trivial⟩⟩ else none
     else
      if h : pc = 38 then some ⟨(.iload_n 2, 39, .inl 0, 0, 0), by subst h; exact ⟨dX9_run_38, rfl, trivial⟩⟩ else none
    else
     bif Nat.blt pc 42 then
      if h : pc = 39 then some ⟨(.invokevirtual 358, 42, .inl 0, 76, 14), by subst h; exact ⟨dX9_run_39, rfl, ⟨by decide, q1784, q1786, qs117, _, rfl, rfl⟩⟩⟩ else none
     else
      bif Nat.blt pc 43 then
       if h : pc = 42 then some ⟨(.iload_n 3, 43, .inl 0, 0, 0), by subst h; exact ⟨dX9_run_42, rfl, trivial⟩⟩ else none
      else
       if h : pc = 43 then some ⟨(.ifCond .ne 10, 46, .inl 0, 53, 0), by subst h; exact ⟨dX9_run_43, rfl, (show ((43 : Nat) : Int) + (10) = ((53 : Nat) : Int) by decide)⟩⟩ else none
   else
    bif Nat.blt pc 50 then
     bif Nat.blt pc 47 then
      if h : pc = 46 then some ⟨(.aload_n 0, 47, .inl 0, 0, 0), by subst h; exact ⟨dX9_run_46, rfl, trivial⟩⟩ else none
     else
      if h : pc = 47 then some ⟨(.getfield 95, 50, .inl 0, 8, 14), by subst h; exact ⟨dX9_run_47, rfl, ⟨⟨_, rfl, by decide, _, Or.inl q1366, Or.inl rfl⟩, (show mKd 14 8 ≤ 4 by decide)⟩⟩⟩ else none
    else
     bif Nat.blt pc 53 then
      if h : pc = 50 then some ⟨(.goto 13, 53, .inl 0, 63, 0), by subst h; exact ⟨dX9_run_50, rfl, (show ((50 : Nat) : Int) + (13) = ((63 : Nat) : Int) by decide)⟩⟩ else none
     else
      bif Nat.blt pc 54 then
       if h : pc = 53 then some ⟨(.aload_n 0, 54, .inl 0, 0, 0), by subst h; exact ⟨dX9_run_53, rfl, trivial⟩⟩ else none
      else
       if h : pc = 54 then some ⟨(.getfield 26, 57, .inr (.inr none), 10, 14), by subst h; exact ⟨dX9_run_54, rfl, ⟨⟨_, rfl, by decide, _, Or.inl q1368, Or.inl rfl⟩, (show mKd 14 10 = 6 by rfl)⟩⟩⟩ else none
  else
   bif Nat.blt pc 62 then
    bif Nat.blt pc 59 then
     bif Nat.blt pc 58 then
      if h : pc = 57 then some ⟨(.iconst 5, 58, .inl 5, 0, 0), by subst h; exact ⟨dX9_run_57, rfl, ⟨5, rfl, by decide⟩⟩⟩ else none
     else
      if h : pc = 58 then some ⟨(.iload_n 1, 59, .inl 0, 0, 0), by subst h; exact ⟨dX9_run_58, rfl, trivial⟩⟩ else none
    else
     bif Nat.blt pc 60 then
      if h : pc = 59 then some ⟨(.imul, 60, .inl 0, 0, 0), by subst h; exact ⟨dX9_run_59, rfl, trivial⟩⟩ else none
     else
      bif Nat.blt pc 61 then
       if h : pc = 60 then some ⟨(.iconst 2, 61, .inl 2, 0, 0), by subst h; exact ⟨dX9_run_60, rfl, ⟨2, rfl, by decide⟩⟩⟩ else none
      else
       if h : pc = 61 then some ⟨(.iadd, 62, .inl 0, 0, 0), by subst h; exact ⟨dX9_run_61, rfl, trivial⟩⟩ else none
   else
    bif Nat.blt pc 66 then
     bif Nat.blt pc 63 then
      if h : pc = 62 then some ⟨(.iaload, 63, .inl 0, 0, 0), by subst h; exact ⟨dX9_run_62, rfl, trivial⟩⟩ else none
     else
      bif Nat.blt pc 65 then
       if h : pc = 63 then some ⟨(.istore 4, 65, .inl 0, 0, 0), by subst h; exact ⟨dX9_run_63, rfl, (show (4 : Nat) < 5 by decide)⟩⟩ else none
      else
       if h : pc = 65 then some ⟨(.aload_n 0, 66, .inl 0, 0, 0), by subst h; exact ⟨dX9_run_65, rfl, trivial⟩⟩ else none
    else
     bif Nat.blt pc 69 then
      if h : pc = 66 then some ⟨(.invokevirtual 362, 69, .inl 0, 77, 14), by subst h; exact ⟨dX9_run_66, rfl, ⟨by decide, q1788, q1790, qs118, _, rfl, rfl⟩⟩⟩ else none
     else
      bif Nat.blt pc 71 then
       if h : pc = 69 then some ⟨(.iload 4, 71, .inl 0, 0, 0), by subst h; exact ⟨dX9_run_69, rfl, trivial⟩⟩ else none
      else
       if h : pc = 71 then some ⟨(.ireturn, 72, .inl 0, 0, 0), by subst h; exact ⟨dX9_run_71, rfl, rfl⟩⟩ else none

noncomputable def mt75 (pc : Nat) : Option {e : mE // mOK yX9_laysAside cX9_laysAside 2 ((Option.none : Option ClassFile.FieldType)) pc e} :=
 bif Nat.blt pc 23 then
  bif Nat.blt pc 12 then
   bif Nat.blt pc 3 then
    bif Nat.blt pc 1 then
     if h : pc = 0 then some ⟨(.iconst 0, 1, .inl 0, 0, 0), by subst h; exact ⟨dX9_laysAside_0, rfl, ⟨0, rfl, by decide⟩⟩⟩ else none
    else
     bif Nat.blt pc 2 then
      if h : pc = 1 then some ⟨(.istore_n 1, 2, .inl 0, 0, 0), by subst h; exact ⟨dX9_laysAside_1, rfl, (show (1 : Nat) < 2 by decide)⟩⟩ else none
     else
      if h : pc = 2 then some ⟨(.iload_n 1, 3, .inl 0, 0, 0), by subst h; exact ⟨dX9_laysAside_2, rfl, trivial⟩⟩ else none
   else
    bif Nat.blt pc 8 then
     bif Nat.blt pc 5 then
      if h : pc = 3 then some ⟨(.bipush 25, 5, .inl 25, 0, 0), by subst h; exact ⟨dX9_laysAside_3, rfl, ⟨25, rfl, by decide⟩⟩⟩ else none
     else
      if h : pc = 5 then some ⟨(.if_icmp .ge 21, 8, .inl 0, 26, 0), by subst h; exact ⟨dX9_laysAside_5, rfl, (show ((5 : Nat) : Int) + (21) = ((26 : Nat) : Int) by decide)⟩⟩ else none
    else
     bif Nat.blt pc 9 then
      if h : pc = 8 then some ⟨(.aload_n 0, 9, .inl 0, 0, 0), by subst h; exact ⟨dX9_laysAside_8, rfl, trivial⟩⟩ else none
     else
      if h : pc = 9 then some ⟨(.getfield 32, 12, .inr (.inr none), 28, 14), by subst h; exact ⟨dX9_laysAside_9, rfl, ⟨⟨_, rfl, by decide, _, Or.inl q1386, Or.inl rfl⟩, (show mKd 14 28 = 6 by rfl)⟩⟩⟩ else none
  else
   bif Nat.blt pc 17 then
    bif Nat.blt pc 13 then
     if h : pc = 12 then some ⟨(.iload_n 1, 13, .inl 0, 0, 0), by subst h; exact ⟨dX9_laysAside_12, rfl, trivial⟩⟩ else none
    else
     bif Nat.blt pc 14 then
      if h : pc = 13 then some ⟨(.aload_n 0, 14, .inl 0, 0, 0), by subst h; exact ⟨dX9_laysAside_13, rfl, trivial⟩⟩ else none
     else
      if h : pc = 14 then some ⟨(.getfield 26, 17, .inr (.inr none), 10, 14), by subst h; exact ⟨dX9_laysAside_14, rfl, ⟨⟨_, rfl, by decide, _, Or.inl q1368, Or.inl rfl⟩, (show mKd 14 10 = 6 by rfl)⟩⟩⟩ else none
   else
    bif Nat.blt pc 19 then
     bif Nat.blt pc 18 then
      if h : pc = 17 then some ⟨(.iload_n 1, 18, .inl 0, 0, 0), by subst h; exact ⟨dX9_laysAside_17, rfl, trivial⟩⟩ else none
     else
      if h : pc = 18 then some ⟨(.iaload, 19, .inl 0, 0, 0), by subst h; exact ⟨dX9_laysAside_18, rfl, trivial⟩⟩ else none
    else
     bif Nat.blt pc 20 then
      if h : pc = 19 then some ⟨(.iastore, 20, .inl 0, 0, 0), by subst h; exact ⟨dX9_laysAside_19, rfl, trivial⟩⟩ else none
     else
      if h : pc = 20 then some ⟨(.iinc 1 1, 23, .inl 1, 0, 0), by subst h; exact ⟨dX9_laysAside_20, rfl, ⟨(show (1 : Nat) < 2 by decide), 1, rfl, by decide⟩⟩⟩ else none
 else
  bif Nat.blt pc 37 then
   bif Nat.blt pc 30 then
    bif Nat.blt pc 26 then
     if h : pc = 23 then some ⟨(.goto (-21), 26, .inl 0, 2, 0), by subst h; exact ⟨dX9_laysAside_23, rfl, (show ((23 : Nat) : Int) + ((-21)) = ((2 : Nat) : Int) by decide)⟩⟩ else none
    else
     bif Nat.blt pc 27 then
      if h : pc = 26 then some ⟨(.aload_n 0, 27, .inl 0, 0, 0), by subst h; exact ⟨dX9_laysAside_26, rfl, trivial⟩⟩ else none
     else
      if h : pc = 27 then some ⟨(.getfield 32, 30, .inr (.inr none), 28, 14), by subst h; exact ⟨dX9_laysAside_27, rfl, ⟨⟨_, rfl, by decide, _, Or.inl q1386, Or.inl rfl⟩, (show mKd 14 28 = 6 by rfl)⟩⟩⟩ else none
   else
    bif Nat.blt pc 33 then
     bif Nat.blt pc 32 then
      if h : pc = 30 then some ⟨(.bipush 25, 32, .inl 25, 0, 0), by subst h; exact ⟨dX9_laysAside_30, rfl, ⟨25, rfl, by decide⟩⟩⟩ else none
     else
      if h : pc = 32 then some ⟨(.aload_n 0, 33, .inl 0, 0, 0), by subst h; exact ⟨dX9_laysAside_32, rfl, trivial⟩⟩ else none
    else
     bif Nat.blt pc 36 then
      if h : pc = 33 then some ⟨(.getfield 95, 36, .inl 0, 8, 14), by subst h; exact ⟨dX9_laysAside_33, rfl, ⟨⟨_, rfl, by decide, _, Or.inl q1366, Or.inl rfl⟩, (show mKd 14 8 ≤ 4 by decide)⟩⟩⟩ else none
     else
      if h : pc = 36 then some ⟨(.iastore, 37, .inl 0, 0, 0), by subst h; exact ⟨dX9_laysAside_36, rfl, trivial⟩⟩ else none
  else
   bif Nat.blt pc 43 then
    bif Nat.blt pc 38 then
     if h : pc = 37 then some ⟨(.aload_n 0, 38, .inl 0, 0, 0), by subst h; exact ⟨dX9_laysAside_37, rfl, trivial⟩⟩ else none
    else
     bif Nat.blt pc 41 then
      if h : pc = 38 then some ⟨(.getfield 32, 41, .inr (.inr none), 28, 14), by subst h; exact ⟨dX9_laysAside_38, rfl, ⟨⟨_, rfl, by decide, _, Or.inl q1386, Or.inl rfl⟩, (show mKd 14 28 = 6 by rfl)⟩⟩⟩ else none
     else
      if h : pc = 41 then some ⟨(.bipush 26, 43, .inl 26, 0, 0), by subst h; exact ⟨dX9_laysAside_41, rfl, ⟨26, rfl, by decide⟩⟩⟩ else none
   else
    bif Nat.blt pc 47 then
     bif Nat.blt pc 44 then
      if h : pc = 43 then some ⟨(.aload_n 0, 44, .inl 0, 0, 0), by subst h; exact ⟨dX9_laysAside_43, rfl, trivial⟩⟩ else none
     else
      if h : pc = 44 then some ⟨(.getfield 98, 47, .inl 0, 9, 14), by subst h; exact ⟨dX9_laysAside_44, rfl, ⟨⟨_, rfl, by decide, _, Or.inl q1367, Or.inl rfl⟩, (show mKd 14 9 ≤ 4 by decide)⟩⟩⟩ else none
    else
     bif Nat.blt pc 48 then
      if h : pc = 47 then some ⟨(.iastore, 48, .inl 0, 0, 0), by subst h; exact ⟨dX9_laysAside_47, rfl, trivial⟩⟩ else none
     else
      if h : pc = 48 then some ⟨(.return_, 49, .inl 0, 0, 0), by subst h; exact ⟨dX9_laysAside_48, rfl, rfl⟩⟩ else none

noncomputable def mt76 (pc : Nat) : Option {e : mE // mOK yX9_go cX9_go 3 ((Option.none : Option ClassFile.FieldType)) pc e} :=
 bif Nat.blt pc 7 then
  bif Nat.blt pc 2 then
   bif Nat.blt pc 1 then
    if h : pc = 0 then some ⟨(.iconst 0, 1, .inl 0, 0, 0), by subst h; exact ⟨dX9_go_0, rfl, ⟨0, rfl, by decide⟩⟩⟩ else none
   else
    if h : pc = 1 then some ⟨(.istore_n 2, 2, .inl 0, 0, 0), by subst h; exact ⟨dX9_go_1, rfl, (show (2 : Nat) < 3 by decide)⟩⟩ else none
  else
   bif Nat.blt pc 3 then
    if h : pc = 2 then some ⟨(.iload_n 2, 3, .inl 0, 0, 0), by subst h; exact ⟨dX9_go_2, rfl, trivial⟩⟩ else none
   else
    bif Nat.blt pc 4 then
     if h : pc = 3 then some ⟨(.iload_n 1, 4, .inl 0, 0, 0), by subst h; exact ⟨dX9_go_3, rfl, trivial⟩⟩ else none
    else
     if h : pc = 4 then some ⟨(.if_icmp .ge 13, 7, .inl 0, 17, 0), by subst h; exact ⟨dX9_go_4, rfl, (show ((4 : Nat) : Int) + (13) = ((17 : Nat) : Int) by decide)⟩⟩ else none
 else
  bif Nat.blt pc 11 then
   bif Nat.blt pc 8 then
    if h : pc = 7 then some ⟨(.aload_n 0, 8, .inl 0, 0, 0), by subst h; exact ⟨dX9_go_7, rfl, trivial⟩⟩ else none
   else
    if h : pc = 8 then some ⟨(.invokevirtual 352, 11, .inl 0, 72, 14), by subst h; exact ⟨dX9_go_8, rfl, ⟨by decide, q1768, q1770, qs115, _, rfl, rfl⟩⟩⟩ else none
  else
   bif Nat.blt pc 14 then
    if h : pc = 11 then some ⟨(.iinc 2 1, 14, .inl 1, 0, 0), by subst h; exact ⟨dX9_go_11, rfl, ⟨(show (2 : Nat) < 3 by decide), 1, rfl, by decide⟩⟩⟩ else none
   else
    bif Nat.blt pc 17 then
     if h : pc = 14 then some ⟨(.goto (-12), 17, .inl 0, 2, 0), by subst h; exact ⟨dX9_go_14, rfl, (show ((14 : Nat) : Int) + ((-12)) = ((2 : Nat) : Int) by decide)⟩⟩ else none
    else
     if h : pc = 17 then some ⟨(.return_, 18, .inl 0, 0, 0), by subst h; exact ⟨dX9_go_17, rfl, rfl⟩⟩ else none

noncomputable def mt77 (pc : Nat) : Option {e : mE // mOK yX9_laysBack cX9_laysBack 2 ((Option.none : Option ClassFile.FieldType)) pc e} :=
 bif Nat.blt pc 23 then
  bif Nat.blt pc 12 then
   bif Nat.blt pc 3 then
    bif Nat.blt pc 1 then
     if h : pc = 0 then some ⟨(.iconst 0, 1, .inl 0, 0, 0), by subst h; exact ⟨dX9_laysBack_0, rfl, ⟨0, rfl, by decide⟩⟩⟩ else none
    else
     bif Nat.blt pc 2 then
      if h : pc = 1 then some ⟨(.istore_n 1, 2, .inl 0, 0, 0), by subst h; exact ⟨dX9_laysBack_1, rfl, (show (1 : Nat) < 2 by decide)⟩⟩ else none
     else
      if h : pc = 2 then some ⟨(.iload_n 1, 3, .inl 0, 0, 0), by subst h; exact ⟨dX9_laysBack_2, rfl, trivial⟩⟩ else none
   else
    bif Nat.blt pc 8 then
     bif Nat.blt pc 5 then
      if h : pc = 3 then some ⟨(.bipush 25, 5, .inl 25, 0, 0), by subst h; exact ⟨dX9_laysBack_3, rfl, ⟨25, rfl, by decide⟩⟩⟩ else none
     else
      if h : pc = 5 then some ⟨(.if_icmp .ge 21, 8, .inl 0, 26, 0), by subst h; exact ⟨dX9_laysBack_5, rfl, (show ((5 : Nat) : Int) + (21) = ((26 : Nat) : Int) by decide)⟩⟩ else none
    else
     bif Nat.blt pc 9 then
      if h : pc = 8 then some ⟨(.aload_n 0, 9, .inl 0, 0, 0), by subst h; exact ⟨dX9_laysBack_8, rfl, trivial⟩⟩ else none
     else
      if h : pc = 9 then some ⟨(.getfield 26, 12, .inr (.inr none), 10, 14), by subst h; exact ⟨dX9_laysBack_9, rfl, ⟨⟨_, rfl, by decide, _, Or.inl q1368, Or.inl rfl⟩, (show mKd 14 10 = 6 by rfl)⟩⟩⟩ else none
  else
   bif Nat.blt pc 17 then
    bif Nat.blt pc 13 then
     if h : pc = 12 then some ⟨(.iload_n 1, 13, .inl 0, 0, 0), by subst h; exact ⟨dX9_laysBack_12, rfl, trivial⟩⟩ else none
    else
     bif Nat.blt pc 14 then
      if h : pc = 13 then some ⟨(.aload_n 0, 14, .inl 0, 0, 0), by subst h; exact ⟨dX9_laysBack_13, rfl, trivial⟩⟩ else none
     else
      if h : pc = 14 then some ⟨(.getfield 32, 17, .inr (.inr none), 28, 14), by subst h; exact ⟨dX9_laysBack_14, rfl, ⟨⟨_, rfl, by decide, _, Or.inl q1386, Or.inl rfl⟩, (show mKd 14 28 = 6 by rfl)⟩⟩⟩ else none
   else
    bif Nat.blt pc 19 then
     bif Nat.blt pc 18 then
      if h : pc = 17 then some ⟨(.iload_n 1, 18, .inl 0, 0, 0), by subst h; exact ⟨dX9_laysBack_17, rfl, trivial⟩⟩ else none
     else
      if h : pc = 18 then some ⟨(.iaload, 19, .inl 0, 0, 0), by subst h; exact ⟨dX9_laysBack_18, rfl, trivial⟩⟩ else none
    else
     bif Nat.blt pc 20 then
      if h : pc = 19 then some ⟨(.iastore, 20, .inl 0, 0, 0), by subst h; exact ⟨dX9_laysBack_19, rfl, trivial⟩⟩ else none
     else
      if h : pc = 20 then some ⟨(.iinc 1 1, 23, .inl 1, 0, 0), by subst h; exact ⟨dX9_laysBack_20, rfl, ⟨(show (1 : Nat) < 2 by decide), 1, rfl, by decide⟩⟩⟩ else none
 else
  bif Nat.blt pc 37 then
   bif Nat.blt pc 28 then
    bif Nat.blt pc 26 then
     if h : pc = 23 then some ⟨(.goto (-21), 26, .inl 0, 2, 0), by subst h; exact ⟨dX9_laysBack_23, rfl, (show ((23 : Nat) : Int) + ((-21)) = ((2 : Nat) : Int) by decide)⟩⟩ else none
    else
     bif Nat.blt pc 27 then
      if h : pc = 26 then some ⟨(.aload_n 0, 27, .inl 0, 0, 0), by subst h; exact ⟨dX9_laysBack_26, rfl, trivial⟩⟩ else none
     else
      if h : pc = 27 then some ⟨(.aload_n 0, 28, .inl 0, 0, 0), by subst h; exact ⟨dX9_laysBack_27, rfl, trivial⟩⟩ else none
   else
    bif Nat.blt pc 33 then
     bif Nat.blt pc 31 then
      if h : pc = 28 then some ⟨(.getfield 32, 31, .inr (.inr none), 28, 14), by subst h; exact ⟨dX9_laysBack_28, rfl, ⟨⟨_, rfl, by decide, _, Or.inl q1386, Or.inl rfl⟩, (show mKd 14 28 = 6 by rfl)⟩⟩⟩ else none
     else
      if h : pc = 31 then some ⟨(.bipush 25, 33, .inl 25, 0, 0), by subst h; exact ⟨dX9_laysBack_31, rfl, ⟨25, rfl, by decide⟩⟩⟩ else none
    else
     bif Nat.blt pc 34 then
      if h : pc = 33 then some ⟨(.iaload, 34, .inl 0, 0, 0), by subst h; exact ⟨dX9_laysBack_33, rfl, trivial⟩⟩ else none
     else
      if h : pc = 34 then some ⟨(.putfield 95, 37, .inl 0, 8, 14), by subst h; exact ⟨dX9_laysBack_34, rfl, ⟨⟨_, rfl, by decide, _, Or.inl q1366, Or.inl rfl⟩, (show mKd 14 8 ≤ 4 by decide), by decide, by decide, (fun q h => Or.inl (by cases h; rfl))⟩⟩⟩ else none
  else
   bif Nat.blt pc 42 then
    bif Nat.blt pc 38 then
     if h : pc = 37 then some ⟨(.aload_n 0, 38, .inl 0, 0, 0), by subst h; exact ⟨dX9_laysBack_37, rfl, trivial⟩⟩ else none
    else
     bif Nat.blt pc 39 then
      if h : pc = 38 then some ⟨(.aload_n 0, 39, .inl 0, 0, 0), by subst h; exact ⟨dX9_laysBack_38, rfl, trivial⟩⟩ else none
     else
      if h : pc = 39 then some ⟨(.getfield 32, 42, .inr (.inr none), 28, 14), by subst h; exact ⟨dX9_laysBack_39, rfl, ⟨⟨_, rfl, by decide, _, Or.inl q1386, Or.inl rfl⟩, (show mKd 14 28 = 6 by rfl)⟩⟩⟩ else none
   else
    bif Nat.blt pc 45 then
     bif Nat.blt pc 44 then
      if h : pc = 42 then some ⟨(.bipush 26, 44, .inl 26, 0, 0), by subst h; exact ⟨dX9_laysBack_42, rfl, ⟨26, rfl, by decide⟩⟩⟩ else none
     else
      if h : pc = 44 then some ⟨(.iaload, 45, .inl 0, 0, 0), by subst h; exact ⟨dX9_laysBack_44, rfl, trivial⟩⟩ else none
    else
     bif Nat.blt pc 48 then
      if h : pc = 45 then some ⟨(.putfield 98, 48, .inl 0, 9, 14), by subst h; exact ⟨dX9_laysBack_45, rfl, ⟨⟨_, rfl, by decide, _, Or.inl q1367, Or.inl rfl⟩, (show mKd 14 9 ≤ 4 by decide), by decide, by decide, (fun q h => Or.inl (by cases h; rfl))⟩⟩⟩ else none
     else
      if h : pc = 48 then some ⟨(.return_, 49, .inl 0, 0, 0), by subst h; exact ⟨dX9_laysBack_48, rfl, rfl⟩⟩ else none

noncomputable def mt78 (pc : Nat) : Option {e : mE // mOK yX9_heavy cX9_heavy 5 ((Option.some ClassFile.FieldType.long)) pc e} :=
 bif Nat.blt pc 27 then
  bif Nat.blt pc 13 then
   bif Nat.blt pc 3 then
    bif Nat.blt pc 1 then
     if h : pc = 0 then some ⟨(.iload_n 1, 1, .inl 0, 0, 0), by subst h; exact ⟨dX9_heavy_0, rfl, trivial⟩⟩ else none
    else
     bif Nat.blt pc 2 then
      if h : pc = 1 then some ⟨(.i2l, 2, .inl 0, 0, 0), by subst h; exact ⟨dX9_heavy_1, rfl, trivial⟩⟩ else none
     else
      if h : pc = 2 then some ⟨(.lconst 0, 3, .inr (.inl 0), 0, 0), by subst h; exact ⟨dX9_heavy_2, rfl, ⟨0, rfl, by decide⟩⟩⟩ else none
   else
    bif Nat.blt pc 9 then
     bif Nat.blt pc 6 then
      if h : pc = 3 then some ⟨(.ldc2_w 217, 6, .inr (.inl 60), 0, 0), by subst h; exact ⟨dX9_heavy_3, rfl, ⟨_, rfl, q1603⟩⟩⟩ else none
     else
      if h : pc = 6 then some ⟨(.invokestatic 67, 9, .inl 0, 3, 0), by subst h; exact ⟨dX9_heavy_6, rfl, Or.inl ⟨by decide, q1482, q1483⟩⟩⟩ else none
    else
     bif Nat.blt pc 12 then
      if h : pc = 9 then some ⟨(.ifCond .eq 13, 12, .inl 0, 22, 0), by subst h; exact ⟨dX9_heavy_9, rfl, (show ((9 : Nat) : Int) + (13) = ((22 : Nat) : Int) by decide)⟩⟩ else none
     else
      if h : pc = 12 then some ⟨(.iload_n 2, 13, .inl 0, 0, 0), by subst h; exact ⟨dX9_heavy_12, rfl, trivial⟩⟩ else none
  else
   bif Nat.blt pc 19 then
    bif Nat.blt pc 15 then
     bif Nat.blt pc 14 then
      if h : pc = 13 then some ⟨(.i2l, 14, .inl 0, 0, 0), by subst h; exact ⟨dX9_heavy_13, rfl, trivial⟩⟩ else none
     else
      if h : pc = 14 then some ⟨(.lconst 0, 15, .inr (.inl 0), 0, 0), by subst h; exact ⟨dX9_heavy_14, rfl, ⟨0, rfl, by decide⟩⟩⟩ else none
    else
     bif Nat.blt pc 16 then
      if h : pc = 15 then some ⟨(.lconst 1, 16, .inr (.inl 1), 0, 0), by subst h; exact ⟨dX9_heavy_15, rfl, ⟨1, rfl, by decide⟩⟩⟩ else none
     else
      if h : pc = 16 then some ⟨(.invokestatic 67, 19, .inl 0, 3, 0), by subst h; exact ⟨dX9_heavy_16, rfl, Or.inl ⟨by decide, q1482, q1483⟩⟩⟩ else none
   else
    bif Nat.blt pc 25 then
     bif Nat.blt pc 22 then
      if h : pc = 19 then some ⟨(.ifCond .ne 7, 22, .inl 0, 26, 0), by subst h; exact ⟨dX9_heavy_19, rfl, (show ((19 : Nat) : Int) + (7) = ((26 : Nat) : Int) by decide)⟩⟩ else none
     else
      if h : pc = 22 then some ⟨(.ldc2_w 347, 25, .inr (.inl (-4611686018427387904)), 0, 0), by subst h; exact ⟨dX9_heavy_22, rfl, ⟨_, rfl, q1759⟩⟩⟩ else none
    else
     bif Nat.blt pc 26 then
      if h : pc = 25 then some ⟨(.lreturn, 26, .inl 0, 0, 0), by subst h; exact ⟨dX9_heavy_25, rfl, rfl⟩⟩ else none
     else
      if h : pc = 26 then some ⟨(.aload_n 0, 27, .inl 0, 0, 0), by subst h; exact ⟨dX9_heavy_26, rfl, trivial⟩⟩ else none
 else
  bif Nat.blt pc 40 then
   bif Nat.blt pc 32 then
    bif Nat.blt pc 30 then
     if h : pc = 27 then some ⟨(.invokevirtual 355, 30, .inl 0, 75, 14), by subst h; exact ⟨dX9_heavy_27, rfl, ⟨by decide, q1780, q1782, qs116, _, rfl, rfl⟩⟩⟩ else none
    else
     bif Nat.blt pc 31 then
      if h : pc = 30 then some ⟨(.aload_n 0, 31, .inl 0, 0, 0), by subst h; exact ⟨dX9_heavy_30, rfl, trivial⟩⟩ else none
     else
      if h : pc = 31 then some ⟨(.iload_n 1, 32, .inl 0, 0, 0), by subst h; exact ⟨dX9_heavy_31, rfl, trivial⟩⟩ else none
   else
    bif Nat.blt pc 36 then
     bif Nat.blt pc 35 then
      if h : pc = 32 then some ⟨(.invokevirtual 358, 35, .inl 0, 76, 14), by subst h; exact ⟨dX9_heavy_32, rfl, ⟨by decide, q1784, q1786, qs117, _, rfl, rfl⟩⟩⟩ else none
     else
      if h : pc = 35 then some ⟨(.aload_n 0, 36, .inl 0, 0, 0), by subst h; exact ⟨dX9_heavy_35, rfl, trivial⟩⟩ else none
    else
     bif Nat.blt pc 39 then
      if h : pc = 36 then some ⟨(.invokevirtual 349, 39, .inl 0, 61, 14), by subst h; exact ⟨dX9_heavy_36, rfl, ⟨by decide, q1719, q1721, qs112, _, rfl, rfl⟩⟩⟩ else none
     else
      if h : pc = 39 then some ⟨(.i2l, 40, .inl 0, 0, 0), by subst h; exact ⟨dX9_heavy_39, rfl, trivial⟩⟩ else none
  else
   bif Nat.blt pc 48 then
    bif Nat.blt pc 44 then
     bif Nat.blt pc 43 then
      if h : pc = 40 then some ⟨(.ldc2_w 341, 43, .inr (.inl 15120), 0, 0), by subst h; exact ⟨dX9_heavy_40, rfl, ⟨_, rfl, q1755⟩⟩⟩ else none
     else
      if h : pc = 43 then some ⟨(.iload_n 2, 44, .inl 0, 0, 0), by subst h; exact ⟨dX9_heavy_43, rfl, trivial⟩⟩ else none
    else
     bif Nat.blt pc 47 then
      if h : pc = 44 then some ⟨(.invokestatic 343, 47, .inl 0, 69, 0), by subst h; exact ⟨dX9_heavy_44, rfl, Or.inl ⟨by decide, q1756, q1757⟩⟩⟩ else none
     else
      if h : pc = 47 then some ⟨(.lstore_n 3, 48, .inl 0, 0, 0), by subst h; exact ⟨dX9_heavy_47, rfl, (show (3 : Nat) + 1 < 5 by decide)⟩⟩ else none
   else
    bif Nat.blt pc 52 then
     bif Nat.blt pc 49 then
      if h : pc = 48 then some ⟨(.aload_n 0, 49, .inl 0, 0, 0), by subst h; exact ⟨dX9_heavy_48, rfl, trivial⟩⟩ else none
     else
      if h : pc = 49 then some ⟨(.invokevirtual 362, 52, .inl 0, 77, 14), by subst h; exact ⟨dX9_heavy_49, rfl, ⟨by decide, q1788, q1790, qs118, _, rfl, rfl⟩⟩⟩ else none
    else
     bif Nat.blt pc 53 then
      if h : pc = 52 then some ⟨(.lload_n 3, 53, .inl 0, 0, 0), by subst h; exact ⟨dX9_heavy_52, rfl, trivial⟩⟩ else none
     else
      if h : pc = 53 then some ⟨(.lreturn, 54, .inl 0, 0, 0), by subst h; exact ⟨dX9_heavy_53, rfl, rfl⟩⟩ else none

noncomputable def mt79 (pc : Nat) : Option {e : mE // mOK yX9_when cX9_when 4 ((Option.some ClassFile.FieldType.int)) pc e} :=
 bif Nat.blt pc 47 then
  bif Nat.blt pc 25 then
   bif Nat.blt pc 10 then
    bif Nat.blt pc 3 then
     bif Nat.blt pc 1 then
      if h : pc = 0 then some ⟨(.iload_n 2, 1, .inl 0, 0, 0), by subst h; exact ⟨dX9_when_0, rfl, trivial⟩⟩ else none
     else
      bif Nat.blt pc 2 then
       if h : pc = 1 then some ⟨(.i2l, 2, .inl 0, 0, 0), by subst h; exact ⟨dX9_when_1, rfl, trivial⟩⟩ else none
      else
       if h : pc = 2 then some ⟨(.lconst 0, 3, .inr (.inl 0), 0, 0), by subst h; exact ⟨dX9_when_2, rfl, ⟨0, rfl, by decide⟩⟩⟩ else none
    else
     bif Nat.blt pc 4 then
      if h : pc = 3 then some ⟨(.lconst 1, 4, .inr (.inl 1), 0, 0), by subst h; exact ⟨dX9_when_3, rfl, ⟨1, rfl, by decide⟩⟩⟩ else none
     else
      bif Nat.blt pc 7 then
       if h : pc = 4 then some ⟨(.invokestatic 67, 7, .inl 0, 3, 0), by subst h; exact ⟨dX9_when_4, rfl, Or.inl ⟨by decide, q1482, q1483⟩⟩⟩ else none
      else
       if h : pc = 7 then some ⟨(.ifCond .eq 30, 10, .inl 0, 37, 0), by subst h; exact ⟨dX9_when_7, rfl, (show ((7 : Nat) : Int) + (30) = ((37 : Nat) : Int) by decide)⟩⟩ else none
   else
    bif Nat.blt pc 15 then
     bif Nat.blt pc 11 then
      if h : pc = 10 then some ⟨(.iload_n 2, 11, .inl 0, 0, 0), by subst h; exact ⟨dX9_when_10, rfl, trivial⟩⟩ else none
     else
      bif Nat.blt pc 14 then
       if h : pc = 11 then some ⟨(.ifCond .ne 14, 14, .inl 0, 25, 0), by subst h; exact ⟨dX9_when_11, rfl, (show ((11 : Nat) : Int) + (14) = ((25 : Nat) : Int) by decide)⟩⟩ else none
      else
       if h : pc = 14 then some ⟨(.aload_n 0, 15, .inl 0, 0, 0), by subst h; exact ⟨dX9_when_14, rfl, trivial⟩⟩ else none
    else
     bif Nat.blt pc 19 then
      bif Nat.blt pc 16 then
       if h : pc = 15 then some ⟨(.iload_n 1, 16, .inl 0, 0, 0), by subst h; exact ⟨dX9_when_15, rfl, trivial⟩⟩ else none
      else
       if h : pc = 16 then some ⟨(.invokevirtual 73, 19, .inl 0, 5, 14), by subst h; exact ⟨dX9_when_16, rfl, ⟨by decide, q1490, q1492, qs59, _, rfl, rfl⟩⟩⟩ else none
     else
      bif Nat.blt pc 22 then
       if h : pc = 19 then some ⟨(.ifCond .ne 21, 22, .inl 0, 40, 0), by subst h; exact ⟨dX9_when_19, rfl, (show ((19 : Nat) : Int) + (21) = ((40 : Nat) : Int) by decide)⟩⟩ else none
      else
       if h : pc = 22 then some ⟨(.goto 15, 25, .inl 0, 37, 0), by subst h; exact ⟨dX9_when_22, rfl, (show ((22 : Nat) : Int) + (15) = ((37 : Nat) : Int) by decide)⟩⟩ else none
  else
   bif Nat.blt pc 37 then
    bif Nat.blt pc 28 then
     bif Nat.blt pc 26 then
      if h : pc = 25 then some ⟨(.iload_n 1, 26, .inl 0, 0, 0), by subst h; exact ⟨dX9_when_25, rfl, trivial⟩⟩ else none
     else
      bif Nat.blt pc 27 then
       if h : pc = 26 then some ⟨(.i2l, 27, .inl 0, 0, 0), by subst h; exact ⟨dX9_when_26, rfl, trivial⟩⟩ else none
      else
       if h : pc = 27 then some ⟨(.lconst 0, 28, .inr (.inl 0), 0, 0), by subst h; exact ⟨dX9_when_27, rfl, ⟨0, rfl, by decide⟩⟩⟩ else none
    else
     bif Nat.blt pc 31 then
      if h : pc = 28 then some ⟨(.ldc2_w 108, 31, .inr (.inl 10), 0, 0), by subst h; exact ⟨dX9_when_28, rfl, ⟨_, rfl, q1501⟩⟩⟩ else none
     else
      bif Nat.blt pc 34 then
       if h : pc = 31 then some ⟨(.invokestatic 67, 34, .inl 0, 3, 0), by subst h; exact ⟨dX9_when_31, rfl, Or.inl ⟨by decide, q1482, q1483⟩⟩⟩ else none
      else
       if h : pc = 34 then some ⟨(.ifCond .ne 6, 37, .inl 0, 40, 0), by subst h; exact ⟨dX9_when_34, rfl, (show ((34 : Nat) : Int) + (6) = ((40 : Nat) : Int) by decide)⟩⟩ else none
   else
    bif Nat.blt pc 41 then
     bif Nat.blt pc 39 then
      if h : pc = 37 then some ⟨(.bipush (-2), 39, .inl (-2), 0, 0), by subst h; exact ⟨dX9_when_37, rfl, ⟨(-2), rfl, by decide⟩⟩⟩ else none
     else
      bif Nat.blt pc 40 then
       if h : pc = 39 then some ⟨(.ireturn, 40, .inl 0, 0, 0), by subst h; exact ⟨dX9_when_39, rfl, rfl⟩⟩ else none
      else
       if h : pc = 40 then some ⟨(.aload_n 0, 41, .inl 0, 0, 0), by subst h; exact ⟨dX9_when_40, rfl, trivial⟩⟩ else none
    else
     bif Nat.blt pc 45 then
      bif Nat.blt pc 44 then
       if h : pc = 41 then some ⟨(.invokevirtual 355, 44, .inl 0, 75, 14), by subst h; exact ⟨dX9_when_41, rfl, ⟨by decide, q1780, q1782, qs116, _, rfl, rfl⟩⟩⟩ else none
      else
       if h : pc = 44 then some ⟨(.iconst 0, 45, .inl 0, 0, 0), by subst h; exact ⟨dX9_when_44, rfl, ⟨0, rfl, by decide⟩⟩⟩ else none
     else
      bif Nat.blt pc 46 then
       if h : pc = 45 then some ⟨(.istore_n 3, 46, .inl 0, 0, 0), by subst h; exact ⟨dX9_when_45, rfl, (show (3 : Nat) < 4 by decide)⟩⟩ else none
      else
       if h : pc = 46 then some ⟨(.iload_n 3, 47, .inl 0, 0, 0), by subst h; exact ⟨dX9_when_46, rfl, trivial⟩⟩ else none
 else
  bif Nat.blt pc 75 then
   bif Nat.blt pc 58 then
    bif Nat.blt pc 53 then
     bif Nat.blt pc 49 then
      if h : pc = 47 then some ⟨(.bipush 60, 49, .inl 60, 0, 0), by subst h; exact ⟨dX9_when_47, rfl, ⟨60, rfl, by decide⟩⟩⟩ else none
     else
      bif Nat.blt pc 52 then
       if h : pc = 49 then some ⟨(.if_icmp .gt 36, 52, .inl 0, 85, 0), by subst h; exact ⟨dX9_when_49, rfl, (show ((49 : Nat) : Int) + (36) = ((85 : Nat) : Int) by decide)⟩⟩ else none
      else
       if h : pc = 52 then some ⟨(.iload_n 2, 53, .inl 0, 0, 0), by subst h; exact ⟨dX9_when_52, rfl, trivial⟩⟩ else none
    else
     bif Nat.blt pc 56 then
      if h : pc = 53 then some ⟨(.ifCond .ne 14, 56, .inl 0, 67, 0), by subst h; exact ⟨dX9_when_53, rfl, (show ((53 : Nat) : Int) + (14) = ((67 : Nat) : Int) by decide)⟩⟩ else none
     else
      bif Nat.blt pc 57 then
       if h : pc = 56 then some ⟨(.aload_n 0, 57, .inl 0, 0, 0), by subst h; exact ⟨dX9_when_56, rfl, trivial⟩⟩ else none
      else
       if h : pc = 57 then some ⟨(.iload_n 1, 58, .inl 0, 0, 0), by subst h; exact ⟨dX9_when_57, rfl, trivial⟩⟩ else none
   else
    bif Nat.blt pc 67 then
     bif Nat.blt pc 61 then
      if h : pc = 58 then some ⟨(.invokevirtual 116, 61, .inl 0, 59, 14), by subst h; exact ⟨dX9_when_58, rfl, ⟨by decide, q1711, q1713, qs110, _, rfl, rfl⟩⟩⟩ else none
     else
      bif Nat.blt pc 64 then
       if h : pc = 61 then some ⟨(.ifCond .eq 14, 64, .inl 0, 75, 0), by subst h; exact ⟨dX9_when_61, rfl, (show ((61 : Nat) : Int) + (14) = ((75 : Nat) : Int) by decide)⟩⟩ else none
      else
       if h : pc = 64 then some ⟨(.goto 21, 67, .inl 0, 85, 0), by subst h; exact ⟨dX9_when_64, rfl, (show ((64 : Nat) : Int) + (21) = ((85 : Nat) : Int) by decide)⟩⟩ else none
    else
     bif Nat.blt pc 71 then
      bif Nat.blt pc 68 then
       if h : pc = 67 then some ⟨(.aload_n 0, 68, .inl 0, 0, 0), by subst h; exact ⟨dX9_when_67, rfl, trivial⟩⟩ else none
      else
       if h : pc = 68 then some ⟨(.getfield 95, 71, .inl 0, 8, 14), by subst h; exact ⟨dX9_when_68, rfl, ⟨⟨_, rfl, by decide, _, Or.inl q1366, Or.inl rfl⟩, (show mKd 14 8 ≤ 4 by decide)⟩⟩⟩ else none
     else
      bif Nat.blt pc 72 then
       if h : pc = 71 then some ⟨(.iload_n 1, 72, .inl 0, 0, 0), by subst h; exact ⟨dX9_when_71, rfl, trivial⟩⟩ else none
      else
       if h : pc = 72 then some ⟨(.if_icmp .ge 13, 75, .inl 0, 85, 0), by subst h; exact ⟨dX9_when_72, rfl, (show ((72 : Nat) : Int) + (13) = ((85 : Nat) : Int) by decide)⟩⟩ else none
  else
   bif Nat.blt pc 89 then
    bif Nat.blt pc 82 then
     bif Nat.blt pc 76 then
      if h : pc = 75 then some ⟨(.aload_n 0, 76, .inl 0, 0, 0), by subst h; exact ⟨dX9_when_75, rfl, trivial⟩⟩ else none
     else
      bif Nat.blt pc 79 then
       if h : pc = 76 then some ⟨(.invokevirtual 352, 79, .inl 0, 72, 14), by subst h; exact ⟨dX9_when_76, rfl, ⟨by decide, q1768, q1770, qs115, _, rfl, rfl⟩⟩⟩ else none
      else
       if h : pc = 79 then some ⟨(.iinc 3 1, 82, .inl 1, 0, 0), by subst h; exact ⟨dX9_when_79, rfl, ⟨(show (3 : Nat) < 4 by decide), 1, rfl, by decide⟩⟩⟩ else none
    else
     bif Nat.blt pc 85 then
      if h : pc = 82 then some ⟨(.goto (-36), 85, .inl 0, 46, 0), by subst h; exact ⟨dX9_when_82, rfl, (show ((82 : Nat) : Int) + ((-36)) = ((46 : Nat) : Int) by decide)⟩⟩ else none
     else
      bif Nat.blt pc 86 then
       if h : pc = 85 then some ⟨(.aload_n 0, 86, .inl 0, 0, 0), by subst h; exact ⟨dX9_when_85, rfl, trivial⟩⟩ else none
      else
       if h : pc = 86 then some ⟨(.invokevirtual 362, 89, .inl 0, 77, 14), by subst h; exact ⟨dX9_when_86, rfl, ⟨by decide, q1788, q1790, qs118, _, rfl, rfl⟩⟩⟩ else none
   else
    bif Nat.blt pc 95 then
     bif Nat.blt pc 90 then
      if h : pc = 89 then some ⟨(.iload_n 3, 90, .inl 0, 0, 0), by subst h; exact ⟨dX9_when_89, rfl, trivial⟩⟩ else none
     else
      bif Nat.blt pc 92 then
       if h : pc = 90 then some ⟨(.bipush 60, 92, .inl 60, 0, 0), by subst h; exact ⟨dX9_when_90, rfl, ⟨60, rfl, by decide⟩⟩⟩ else none
      else
       if h : pc = 92 then some ⟨(.if_icmp .le 7, 95, .inl 0, 99, 0), by subst h; exact ⟨dX9_when_92, rfl, (show ((92 : Nat) : Int) + (7) = ((99 : Nat) : Int) by decide)⟩⟩ else none
    else
     bif Nat.blt pc 99 then
      bif Nat.blt pc 96 then
       if h : pc = 95 then some ⟨(.iconst (-1), 96, .inl (-1), 0, 0), by subst h; exact ⟨dX9_when_95, rfl, ⟨(-1), rfl, by decide⟩⟩⟩ else none
      else
       if h : pc = 96 then some ⟨(.goto 4, 99, .inl 0, 100, 0), by subst h; exact ⟨dX9_when_96, rfl, (show ((96 : Nat) : Int) + (4) = ((100 : Nat) : Int) by decide)⟩⟩ else none
     else
      bif Nat.blt pc 100 then
       if h : pc = 99 then some ⟨(.iload_n 3, 100, .inl 0, 0, 0), by subst h; exact ⟨dX9_when_99, rfl, trivial⟩⟩ else none
      else
       if h : pc = 100 then some ⟨(.ireturn, 101, .inl 0, 0, 0), by subst h; exact ⟨dX9_when_100, rfl, rfl⟩⟩ else none

noncomputable def mt80 (pc : Nat) : Option {e : mE // mOK yX9_best cX9_best 3 ((Option.some ClassFile.FieldType.int)) pc e} :=
 bif Nat.blt pc 29 then
  bif Nat.blt pc 15 then
   bif Nat.blt pc 6 then
    bif Nat.blt pc 2 then
     bif Nat.blt pc 1 then
      if h : pc = 0 then some ⟨(.iload_n 1, 1, .inl 0, 0, 0), by subst h; exact ⟨dX9_best_0, rfl, trivial⟩⟩ else none
     else
      if h : pc = 1 then some ⟨(.i2l, 2, .inl 0, 0, 0), by subst h; exact ⟨dX9_best_1, rfl, trivial⟩⟩ else none
    else
     bif Nat.blt pc 3 then
      if h : pc = 2 then some ⟨(.lconst 0, 3, .inr (.inl 0), 0, 0), by subst h; exact ⟨dX9_best_2, rfl, ⟨0, rfl, by decide⟩⟩⟩ else none
     else
      if h : pc = 3 then some ⟨(.ldc2_w 377, 6, .inr (.inl 3), 0, 0), by subst h; exact ⟨dX9_best_3, rfl, ⟨_, rfl, q1804⟩⟩⟩ else none
   else
    bif Nat.blt pc 12 then
     bif Nat.blt pc 9 then
      if h : pc = 6 then some ⟨(.invokestatic 67, 9, .inl 0, 3, 0), by subst h; exact ⟨dX9_best_6, rfl, Or.inl ⟨by decide, q1482, q1483⟩⟩⟩ else none
     else
      if h : pc = 9 then some ⟨(.ifCond .ne 6, 12, .inl 0, 15, 0), by subst h; exact ⟨dX9_best_9, rfl, (show ((9 : Nat) : Int) + (6) = ((15 : Nat) : Int) by decide)⟩⟩ else none
    else
     bif Nat.blt pc 14 then
      if h : pc = 12 then some ⟨(.bipush (-2), 14, .inl (-2), 0, 0), by subst h; exact ⟨dX9_best_12, rfl, ⟨(-2), rfl, by decide⟩⟩⟩ else none
     else
      if h : pc = 14 then some ⟨(.ireturn, 15, .inl 0, 0, 0), by subst h; exact ⟨dX9_best_14, rfl, rfl⟩⟩ else none
  else
   bif Nat.blt pc 21 then
    bif Nat.blt pc 17 then
     bif Nat.blt pc 16 then
      if h : pc = 15 then some ⟨(.iload_n 1, 16, .inl 0, 0, 0), by subst h; exact ⟨dX9_best_15, rfl, trivial⟩⟩ else none
     else
      if h : pc = 16 then some ⟨(.iconst 1, 17, .inl 1, 0, 0), by subst h; exact ⟨dX9_best_16, rfl, ⟨1, rfl, by decide⟩⟩⟩ else none
    else
     bif Nat.blt pc 20 then
      if h : pc = 17 then some ⟨(.if_icmp .le 20, 20, .inl 0, 37, 0), by subst h; exact ⟨dX9_best_17, rfl, (show ((17 : Nat) : Int) + (20) = ((37 : Nat) : Int) by decide)⟩⟩ else none
     else
      if h : pc = 20 then some ⟨(.iload_n 1, 21, .inl 0, 0, 0), by subst h; exact ⟨dX9_best_20, rfl, trivial⟩⟩ else none
   else
    bif Nat.blt pc 25 then
     bif Nat.blt pc 22 then
      if h : pc = 21 then some ⟨(.iconst 2, 22, .inl 2, 0, 0), by subst h; exact ⟨dX9_best_21, rfl, ⟨2, rfl, by decide⟩⟩⟩ else none
     else
      if h : pc = 22 then some ⟨(.if_icmp .ne 10, 25, .inl 0, 32, 0), by subst h; exact ⟨dX9_best_22, rfl, (show ((22 : Nat) : Int) + (10) = ((32 : Nat) : Int) by decide)⟩⟩ else none
    else
     bif Nat.blt pc 26 then
      if h : pc = 25 then some ⟨(.aload_n 0, 26, .inl 0, 0, 0), by subst h; exact ⟨dX9_best_25, rfl, trivial⟩⟩ else none
     else
      if h : pc = 26 then some ⟨(.invokevirtual 379, 29, .inl 0, 81, 14), by subst h; exact ⟨dX9_best_26, rfl, ⟨by decide, q1805, q1807, qs119, _, rfl, rfl⟩⟩⟩ else none
 else
  bif Nat.blt pc 43 then
   bif Nat.blt pc 37 then
    bif Nat.blt pc 33 then
     bif Nat.blt pc 32 then
      if h : pc = 29 then some ⟨(.goto 7, 32, .inl 0, 36, 0), by subst h; exact ⟨dX9_best_29, rfl, (show ((29 : Nat) : Int) + (7) = ((36 : Nat) : Int) by decide)⟩⟩ else none
     else
      if h : pc = 32 then some ⟨(.aload_n 0, 33, .inl 0, 0, 0), by subst h; exact ⟨dX9_best_32, rfl, trivial⟩⟩ else none
    else
     bif Nat.blt pc 36 then
      if h : pc = 33 then some ⟨(.invokevirtual 365, 36, .inl 0, 82, 14), by subst h; exact ⟨dX9_best_33, rfl, ⟨by decide, q1809, q1811, qs120, _, rfl, rfl⟩⟩⟩ else none
     else
      if h : pc = 36 then some ⟨(.ireturn, 37, .inl 0, 0, 0), by subst h; exact ⟨dX9_best_36, rfl, rfl⟩⟩ else none
   else
    bif Nat.blt pc 41 then
     bif Nat.blt pc 38 then
      if h : pc = 37 then some ⟨(.aload_n 0, 38, .inl 0, 0, 0), by subst h; exact ⟨dX9_best_37, rfl, trivial⟩⟩ else none
     else
      if h : pc = 38 then some ⟨(.invokevirtual 382, 41, .inl 0, 83, 14), by subst h; exact ⟨dX9_best_38, rfl, ⟨by decide, q1813, q1815, qs121, _, rfl, rfl⟩⟩⟩ else none
    else
     bif Nat.blt pc 42 then
      if h : pc = 41 then some ⟨(.istore_n 2, 42, .inl 0, 0, 0), by subst h; exact ⟨dX9_best_41, rfl, (show (2 : Nat) < 3 by decide)⟩⟩ else none
     else
      if h : pc = 42 then some ⟨(.iload_n 1, 43, .inl 0, 0, 0), by subst h; exact ⟨dX9_best_42, rfl, trivial⟩⟩ else none
  else
   bif Nat.blt pc 51 then
    bif Nat.blt pc 47 then
     bif Nat.blt pc 46 then
      if h : pc = 43 then some ⟨(.ifCond .eq 8, 46, .inl 0, 51, 0), by subst h; exact ⟨dX9_best_43, rfl, (show ((43 : Nat) : Int) + (8) = ((51 : Nat) : Int) by decide)⟩⟩ else none
     else
      if h : pc = 46 then some ⟨(.iload_n 2, 47, .inl 0, 0, 0), by subst h; exact ⟨dX9_best_46, rfl, trivial⟩⟩ else none
    else
     bif Nat.blt pc 48 then
      if h : pc = 47 then some ⟨(.iconst (-1), 48, .inl (-1), 0, 0), by subst h; exact ⟨dX9_best_47, rfl, ⟨(-1), rfl, by decide⟩⟩⟩ else none
     else
      if h : pc = 48 then some ⟨(.if_icmp .ne 7, 51, .inl 0, 55, 0), by subst h; exact ⟨dX9_best_48, rfl, (show ((48 : Nat) : Int) + (7) = ((55 : Nat) : Int) by decide)⟩⟩ else none
   else
    bif Nat.blt pc 55 then
     bif Nat.blt pc 52 then
      if h : pc = 51 then some ⟨(.iload_n 2, 52, .inl 0, 0, 0), by subst h; exact ⟨dX9_best_51, rfl, trivial⟩⟩ else none
     else
      if h : pc = 52 then some ⟨(.goto 7, 55, .inl 0, 59, 0), by subst h; exact ⟨dX9_best_52, rfl, (show ((52 : Nat) : Int) + (7) = ((59 : Nat) : Int) by decide)⟩⟩ else none
    else
     bif Nat.blt pc 56 then
      if h : pc = 55 then some ⟨(.iload_n 2, 56, .inl 0, 0, 0), by subst h; exact ⟨dX9_best_55, rfl, trivial⟩⟩ else none
     else
      bif Nat.blt pc 59 then
       if h : pc = 56 then some ⟨(.invokestatic 368, 59, .inl 0, 84, 0), by subst h; exact ⟨dX9_best_56, rfl, Or.inl ⟨by decide, q1817, q1818⟩⟩⟩ else none
      else
       if h : pc = 59 then some ⟨(.ireturn, 60, .inl 0, 0, 0), by subst h; exact ⟨dX9_best_59, rfl, rfl⟩⟩ else none

noncomputable def mt81 (pc : Nat) : Option {e : mE // mOK yX9_lightest cX9_lightest 5 ((Option.some ClassFile.FieldType.int)) pc e} :=
 bif Nat.blt pc 34 then
  bif Nat.blt pc 16 then
   bif Nat.blt pc 6 then
    bif Nat.blt pc 3 then
     bif Nat.blt pc 1 then
      if h : pc = 0 then some ⟨(.iconst (-1), 1, .inl (-1), 0, 0), by subst h; exact ⟨dX9_lightest_0, rfl, ⟨(-1), rfl, by decide⟩⟩⟩ else none
     else
      bif Nat.blt pc 2 then
       if h : pc = 1 then some ⟨(.istore_n 1, 2, .inl 0, 0, 0), by subst h; exact ⟨dX9_lightest_1, rfl, (show (1 : Nat) < 5 by decide)⟩⟩ else none
      else
       if h : pc = 2 then some ⟨(.iconst 0, 3, .inl 0, 0, 0), by subst h; exact ⟨dX9_lightest_2, rfl, ⟨0, rfl, by decide⟩⟩⟩ else none
    else
     bif Nat.blt pc 4 then
      if h : pc = 3 then some ⟨(.istore_n 2, 4, .inl 0, 0, 0), by subst h; exact ⟨dX9_lightest_3, rfl, (show (2 : Nat) < 5 by decide)⟩⟩ else none
     else
      bif Nat.blt pc 5 then
       if h : pc = 4 then some ⟨(.iconst 0, 5, .inl 0, 0, 0), by subst h; exact ⟨dX9_lightest_4, rfl, ⟨0, rfl, by decide⟩⟩⟩ else none
      else
       if h : pc = 5 then some ⟨(.istore_n 3, 6, .inl 0, 0, 0), by subst h; exact ⟨dX9_lightest_5, rfl, (show (3 : Nat) < 5 by decide)⟩⟩ else none
   else
    bif Nat.blt pc 11 then
     bif Nat.blt pc 7 then
      if h : pc = 6 then some ⟨(.iload_n 3, 7, .inl 0, 0, 0), by subst h; exact ⟨dX9_lightest_6, rfl, trivial⟩⟩ else none
     else
      bif Nat.blt pc 8 then
       if h : pc = 7 then some ⟨(.aload_n 0, 8, .inl 0, 0, 0), by subst h; exact ⟨dX9_lightest_7, rfl, trivial⟩⟩ else none
      else
       if h : pc = 8 then some ⟨(.getfield 64, 11, .inl 0, 11, 14), by subst h; exact ⟨dX9_lightest_8, rfl, ⟨⟨_, rfl, by decide, _, Or.inl q1369, Or.inl rfl⟩, (show mKd 14 11 ≤ 4 by decide)⟩⟩⟩ else none
    else
     bif Nat.blt pc 14 then
      if h : pc = 11 then some ⟨(.if_icmp .ge 61, 14, .inl 0, 72, 0), by subst h; exact ⟨dX9_lightest_11, rfl, (show ((11 : Nat) : Int) + (61) = ((72 : Nat) : Int) by decide)⟩⟩ else none
     else
      bif Nat.blt pc 15 then
       if h : pc = 14 then some ⟨(.aload_n 0, 15, .inl 0, 0, 0), by subst h; exact ⟨dX9_lightest_14, rfl, trivial⟩⟩ else none
      else
       if h : pc = 15 then some ⟨(.iload_n 3, 16, .inl 0, 0, 0), by subst h; exact ⟨dX9_lightest_15, rfl, trivial⟩⟩ else none
  else
   bif Nat.blt pc 28 then
    bif Nat.blt pc 23 then
     bif Nat.blt pc 19 then
      if h : pc = 16 then some ⟨(.invokevirtual 335, 19, .inl 0, 60, 14), by subst h; exact ⟨dX9_lightest_16, rfl, ⟨by decide, q1715, q1717, qs111, _, rfl, rfl⟩⟩⟩ else none
     else
      bif Nat.blt pc 22 then
       if h : pc = 19 then some ⟨(.ifCond .eq 47, 22, .inl 0, 66, 0), by subst h; exact ⟨dX9_lightest_19, rfl, (show ((19 : Nat) : Int) + (47) = ((66 : Nat) : Int) by decide)⟩⟩ else none
      else
       if h : pc = 22 then some ⟨(.aload_n 0, 23, .inl 0, 0, 0), by subst h; exact ⟨dX9_lightest_22, rfl, trivial⟩⟩ else none
    else
     bif Nat.blt pc 26 then
      if h : pc = 23 then some ⟨(.getfield 26, 26, .inr (.inr none), 10, 14), by subst h; exact ⟨dX9_lightest_23, rfl, ⟨⟨_, rfl, by decide, _, Or.inl q1368, Or.inl rfl⟩, (show mKd 14 10 = 6 by rfl)⟩⟩⟩ else none
     else
      bif Nat.blt pc 27 then
       if h : pc = 26 then some ⟨(.iconst 5, 27, .inl 5, 0, 0), by subst h; exact ⟨dX9_lightest_26, rfl, ⟨5, rfl, by decide⟩⟩⟩ else none
      else
       if h : pc = 27 then some ⟨(.iload_n 3, 28, .inl 0, 0, 0), by subst h; exact ⟨dX9_lightest_27, rfl, trivial⟩⟩ else none
   else
    bif Nat.blt pc 31 then
     bif Nat.blt pc 29 then
      if h : pc = 28 then some ⟨(.imul, 29, .inl 0, 0, 0), by subst h; exact ⟨dX9_lightest_28, rfl, trivial⟩⟩ else none
     else
      bif Nat.blt pc 30 then
       if h : pc = 29 then some ⟨(.iconst 3, 30, .inl 3, 0, 0), by subst h; exact ⟨dX9_lightest_29, rfl, ⟨3, rfl, by decide⟩⟩⟩ else none
      else
       if h : pc = 30 then some ⟨(.iadd, 31, .inl 0, 0, 0), by subst h; exact ⟨dX9_lightest_30, rfl, trivial⟩⟩ else none
    else
     bif Nat.blt pc 32 then
      if h : pc = 31 then some ⟨(.iconst 0, 32, .inl 0, 0, 0), by subst h; exact ⟨dX9_lightest_31, rfl, ⟨0, rfl, by decide⟩⟩⟩ else none
     else
      bif Nat.blt pc 33 then
       if h : pc = 32 then some ⟨(.iastore, 33, .inl 0, 0, 0), by subst h; exact ⟨dX9_lightest_32, rfl, trivial⟩⟩ else none
      else
       if h : pc = 33 then some ⟨(.aload_n 0, 34, .inl 0, 0, 0), by subst h; exact ⟨dX9_lightest_33, rfl, trivial⟩⟩ else none
 else
  bif Nat.blt pc 51 then
   bif Nat.blt pc 45 then
    bif Nat.blt pc 40 then
     bif Nat.blt pc 37 then
      if h : pc = 34 then some ⟨(.invokevirtual 349, 37, .inl 0, 61, 14), by subst h; exact ⟨dX9_lightest_34, rfl, ⟨by decide, q1719, q1721, qs112, _, rfl, rfl⟩⟩⟩ else none
     else
      bif Nat.blt pc 39 then
       if h : pc = 37 then some ⟨(.istore 4, 39, .inl 0, 0, 0), by subst h; exact ⟨dX9_lightest_37, rfl, (show (4 : Nat) < 5 by decide)⟩⟩ else none
      else
       if h : pc = 39 then some ⟨(.aload_n 0, 40, .inl 0, 0, 0), by subst h; exact ⟨dX9_lightest_39, rfl, trivial⟩⟩ else none
    else
     bif Nat.blt pc 43 then
      if h : pc = 40 then some ⟨(.getfield 26, 43, .inr (.inr none), 10, 14), by subst h; exact ⟨dX9_lightest_40, rfl, ⟨⟨_, rfl, by decide, _, Or.inl q1368, Or.inl rfl⟩, (show mKd 14 10 = 6 by rfl)⟩⟩⟩ else none
     else
      bif Nat.blt pc 44 then
       if h : pc = 43 then some ⟨(.iconst 5, 44, .inl 5, 0, 0), by subst h; exact ⟨dX9_lightest_43, rfl, ⟨5, rfl, by decide⟩⟩⟩ else none
      else
       if h : pc = 44 then some ⟨(.iload_n 3, 45, .inl 0, 0, 0), by subst h; exact ⟨dX9_lightest_44, rfl, trivial⟩⟩ else none
   else
    bif Nat.blt pc 48 then
     bif Nat.blt pc 46 then
      if h : pc = 45 then some ⟨(.imul, 46, .inl 0, 0, 0), by subst h; exact ⟨dX9_lightest_45, rfl, trivial⟩⟩ else none
     else
      bif Nat.blt pc 47 then
       if h : pc = 46 then some ⟨(.iconst 3, 47, .inl 3, 0, 0), by subst h; exact ⟨dX9_lightest_46, rfl, ⟨3, rfl, by decide⟩⟩⟩ else none
      else
       if h : pc = 47 then some ⟨(.iadd, 48, .inl 0, 0, 0), by subst h; exact ⟨dX9_lightest_47, rfl, trivial⟩⟩ else none
    else
     bif Nat.blt pc 49 then
      if h : pc = 48 then some ⟨(.iconst 1, 49, .inl 1, 0, 0), by subst h; exact ⟨dX9_lightest_48, rfl, ⟨1, rfl, by decide⟩⟩⟩ else none
     else
      bif Nat.blt pc 50 then
       if h : pc = 49 then some ⟨(.iastore, 50, .inl 0, 0, 0), by subst h; exact ⟨dX9_lightest_49, rfl, trivial⟩⟩ else none
      else
       if h : pc = 50 then some ⟨(.iload_n 1, 51, .inl 0, 0, 0), by subst h; exact ⟨dX9_lightest_50, rfl, trivial⟩⟩ else none
  else
   bif Nat.blt pc 62 then
    bif Nat.blt pc 57 then
     bif Nat.blt pc 52 then
      if h : pc = 51 then some ⟨(.iconst (-1), 52, .inl (-1), 0, 0), by subst h; exact ⟨dX9_lightest_51, rfl, ⟨(-1), rfl, by decide⟩⟩⟩ else none
     else
      bif Nat.blt pc 55 then
       if h : pc = 52 then some ⟨(.if_icmp .eq 9, 55, .inl 0, 61, 0), by subst h; exact ⟨dX9_lightest_52, rfl, (show ((52 : Nat) : Int) + (9) = ((61 : Nat) : Int) by decide)⟩⟩ else none
      else
       if h : pc = 55 then some ⟨(.iload 4, 57, .inl 0, 0, 0), by subst h; exact ⟨dX9_lightest_55, rfl, trivial⟩⟩ else none
    else
     bif Nat.blt pc 58 then
      if h : pc = 57 then some ⟨(.iload_n 2, 58, .inl 0, 0, 0), by subst h; exact ⟨dX9_lightest_57, rfl, trivial⟩⟩ else none
     else
      bif Nat.blt pc 61 then
       if h : pc = 58 then some ⟨(.if_icmp .ge 8, 61, .inl 0, 66, 0), by subst h; exact ⟨dX9_lightest_58, rfl, (show ((58 : Nat) : Int) + (8) = ((66 : Nat) : Int) by decide)⟩⟩ else none
      else
       if h : pc = 61 then some ⟨(.iload_n 3, 62, .inl 0, 0, 0), by subst h; exact ⟨dX9_lightest_61, rfl, trivial⟩⟩ else none
   else
    bif Nat.blt pc 66 then
     bif Nat.blt pc 63 then
      if h : pc = 62 then some ⟨(.istore_n 1, 63, .inl 0, 0, 0), by subst h; exact ⟨dX9_lightest_62, rfl, (show (1 : Nat) < 5 by decide)⟩⟩ else none
     else
      bif Nat.blt pc 65 then
       if h : pc = 63 then some ⟨(.iload 4, 65, .inl 0, 0, 0), by subst h; exact ⟨dX9_lightest_63, rfl, trivial⟩⟩ else none
      else
       if h : pc = 65 then some ⟨(.istore_n 2, 66, .inl 0, 0, 0), by subst h; exact ⟨dX9_lightest_65, rfl, (show (2 : Nat) < 5 by decide)⟩⟩ else none
    else
     bif Nat.blt pc 72 then
      bif Nat.blt pc 69 then
       if h : pc = 66 then some ⟨(.iinc 3 1, 69, .inl 1, 0, 0), by subst h; exact ⟨dX9_lightest_66, rfl, ⟨(show (3 : Nat) < 5 by decide), 1, rfl, by decide⟩⟩⟩ else none
      else
       if h : pc = 69 then some ⟨(.goto (-63), 72, .inl 0, 6, 0), by subst h; exact ⟨dX9_lightest_69, rfl, (show ((69 : Nat) : Int) + ((-63)) = ((6 : Nat) : Int) by decide)⟩⟩ else none
     else
      bif Nat.blt pc 73 then
       if h : pc = 72 then some ⟨(.iload_n 1, 73, .inl 0, 0, 0), by subst h; exact ⟨dX9_lightest_72, rfl, trivial⟩⟩ else none
      else
       if h : pc = 73 then some ⟨(.ireturn, 74, .inl 0, 0, 0), by subst h; exact ⟨dX9_lightest_73, rfl, rfl⟩⟩ else none

noncomputable def mt82 (pc : Nat) : Option {e : mE // mOK yX9_hereSet cX9_hereSet 3 ((Option.some ClassFile.FieldType.int)) pc e} :=
 bif Nat.blt pc 18 then
  bif Nat.blt pc 6 then
   bif Nat.blt pc 3 then
    bif Nat.blt pc 1 then
     if h : pc = 0 then some ⟨(.iconst 0, 1, .inl 0, 0, 0), by subst h; exact ⟨dX9_hereSet_0, rfl, ⟨0, rfl, by decide⟩⟩⟩ else none
    else
     bif Nat.blt pc 2 then
      if h : pc = 1 then some ⟨(.istore_n 1, 2, .inl 0, 0, 0), by subst h; exact ⟨dX9_hereSet_1, rfl, (show (1 : Nat) < 3 by decide)⟩⟩ else none
     else
      if h : pc = 2 then some ⟨(.iconst 0, 3, .inl 0, 0, 0), by subst h; exact ⟨dX9_hereSet_2, rfl, ⟨0, rfl, by decide⟩⟩⟩ else none
   else
    bif Nat.blt pc 4 then
     if h : pc = 3 then some ⟨(.istore_n 2, 4, .inl 0, 0, 0), by subst h; exact ⟨dX9_hereSet_3, rfl, (show (2 : Nat) < 3 by decide)⟩⟩ else none
    else
     bif Nat.blt pc 5 then
      if h : pc = 4 then some ⟨(.iload_n 2, 5, .inl 0, 0, 0), by subst h; exact ⟨dX9_hereSet_4, rfl, trivial⟩⟩ else none
     else
      if h : pc = 5 then some ⟨(.aload_n 0, 6, .inl 0, 0, 0), by subst h; exact ⟨dX9_hereSet_5, rfl, trivial⟩⟩ else none
  else
   bif Nat.blt pc 13 then
    bif Nat.blt pc 9 then
     if h : pc = 6 then some ⟨(.getfield 64, 9, .inl 0, 11, 14), by subst h; exact ⟨dX9_hereSet_6, rfl, ⟨⟨_, rfl, by decide, _, Or.inl q1369, Or.inl rfl⟩, (show mKd 14 11 ≤ 4 by decide)⟩⟩⟩ else none
    else
     bif Nat.blt pc 12 then
      if h : pc = 9 then some ⟨(.if_icmp .ge 24, 12, .inl 0, 33, 0), by subst h; exact ⟨dX9_hereSet_9, rfl, (show ((9 : Nat) : Int) + (24) = ((33 : Nat) : Int) by decide)⟩⟩ else none
     else
      if h : pc = 12 then some ⟨(.iload_n 1, 13, .inl 0, 0, 0), by subst h; exact ⟨dX9_hereSet_12, rfl, trivial⟩⟩ else none
   else
    bif Nat.blt pc 14 then
     if h : pc = 13 then some ⟨(.aload_n 0, 14, .inl 0, 0, 0), by subst h; exact ⟨dX9_hereSet_13, rfl, trivial⟩⟩ else none
    else
     bif Nat.blt pc 17 then
      if h : pc = 14 then some ⟨(.getfield 26, 17, .inr (.inr none), 10, 14), by subst h; exact ⟨dX9_hereSet_14, rfl, ⟨⟨_, rfl, by decide, _, Or.inl q1368, Or.inl rfl⟩, (show mKd 14 10 = 6 by rfl)⟩⟩⟩ else none
     else
      if h : pc = 17 then some ⟨(.iconst 5, 18, .inl 5, 0, 0), by subst h; exact ⟨dX9_hereSet_17, rfl, ⟨5, rfl, by decide⟩⟩⟩ else none
 else
  bif Nat.blt pc 24 then
   bif Nat.blt pc 21 then
    bif Nat.blt pc 19 then
     if h : pc = 18 then some ⟨(.iload_n 2, 19, .inl 0, 0, 0), by subst h; exact ⟨dX9_hereSet_18, rfl, trivial⟩⟩ else none
    else
     bif Nat.blt pc 20 then
      if h : pc = 19 then some ⟨(.imul, 20, .inl 0, 0, 0), by subst h; exact ⟨dX9_hereSet_19, rfl, trivial⟩⟩ else none
     else
      if h : pc = 20 then some ⟨(.iconst 3, 21, .inl 3, 0, 0), by subst h; exact ⟨dX9_hereSet_20, rfl, ⟨3, rfl, by decide⟩⟩⟩ else none
   else
    bif Nat.blt pc 22 then
     if h : pc = 21 then some ⟨(.iadd, 22, .inl 0, 0, 0), by subst h; exact ⟨dX9_hereSet_21, rfl, trivial⟩⟩ else none
    else
     bif Nat.blt pc 23 then
      if h : pc = 22 then some ⟨(.iaload, 23, .inl 0, 0, 0), by subst h; exact ⟨dX9_hereSet_22, rfl, trivial⟩⟩ else none
     else
      if h : pc = 23 then some ⟨(.iload_n 2, 24, .inl 0, 0, 0), by subst h; exact ⟨dX9_hereSet_23, rfl, trivial⟩⟩ else none
  else
   bif Nat.blt pc 27 then
    bif Nat.blt pc 25 then
     if h : pc = 24 then some ⟨(.ishl, 25, .inl 0, 0, 0), by subst h; exact ⟨dX9_hereSet_24, rfl, trivial⟩⟩ else none
    else
     bif Nat.blt pc 26 then
      if h : pc = 25 then some ⟨(.ior, 26, .inl 0, 0, 0), by subst h; exact ⟨dX9_hereSet_25, rfl, trivial⟩⟩ else none
     else
      if h : pc = 26 then some ⟨(.istore_n 1, 27, .inl 0, 0, 0), by subst h; exact ⟨dX9_hereSet_26, rfl, (show (1 : Nat) < 3 by decide)⟩⟩ else none
   else
    bif Nat.blt pc 33 then
     bif Nat.blt pc 30 then
      if h : pc = 27 then some ⟨(.iinc 2 1, 30, .inl 1, 0, 0), by subst h; exact ⟨dX9_hereSet_27, rfl, ⟨(show (2 : Nat) < 3 by decide), 1, rfl, by decide⟩⟩⟩ else none
     else
      if h : pc = 30 then some ⟨(.goto (-26), 33, .inl 0, 4, 0), by subst h; exact ⟨dX9_hereSet_30, rfl, (show ((30 : Nat) : Int) + ((-26)) = ((4 : Nat) : Int) by decide)⟩⟩ else none
    else
     bif Nat.blt pc 34 then
      if h : pc = 33 then some ⟨(.iload_n 1, 34, .inl 0, 0, 0), by subst h; exact ⟨dX9_hereSet_33, rfl, trivial⟩⟩ else none
     else
      if h : pc = 34 then some ⟨(.ireturn, 35, .inl 0, 0, 0), by subst h; exact ⟨dX9_hereSet_34, rfl, rfl⟩⟩ else none

noncomputable def mt83 (pc : Nat) : Option {e : mE // mOK yX9_leaveSet cX9_leaveSet 4 ((Option.some ClassFile.FieldType.int)) pc e} :=
 bif Nat.blt pc 36 then
  bif Nat.blt pc 16 then
   bif Nat.blt pc 8 then
    bif Nat.blt pc 5 then
     bif Nat.blt pc 1 then
      if h : pc = 0 then some ⟨(.aload_n 0, 1, .inl 0, 0, 0), by subst h; exact ⟨dX9_leaveSet_0, rfl, trivial⟩⟩ else none
     else
      bif Nat.blt pc 4 then
       if h : pc = 1 then some ⟨(.invokevirtual 365, 4, .inl 0, 82, 14), by subst h; exact ⟨dX9_leaveSet_1, rfl, ⟨by decide, q1809, q1811, qs120, _, rfl, rfl⟩⟩⟩ else none
      else
       if h : pc = 4 then some ⟨(.istore_n 1, 5, .inl 0, 0, 0), by subst h; exact ⟨dX9_leaveSet_4, rfl, (show (1 : Nat) < 4 by decide)⟩⟩ else none
    else
     bif Nat.blt pc 6 then
      if h : pc = 5 then some ⟨(.iconst (-1), 6, .inl (-1), 0, 0), by subst h; exact ⟨dX9_leaveSet_5, rfl, ⟨(-1), rfl, by decide⟩⟩⟩ else none
     else
      bif Nat.blt pc 7 then
       if h : pc = 6 then some ⟨(.istore_n 2, 7, .inl 0, 0, 0), by subst h; exact ⟨dX9_leaveSet_6, rfl, (show (2 : Nat) < 4 by decide)⟩⟩ else none
      else
       if h : pc = 7 then some ⟨(.iconst 0, 8, .inl 0, 0, 0), by subst h; exact ⟨dX9_leaveSet_7, rfl, ⟨0, rfl, by decide⟩⟩⟩ else none
   else
    bif Nat.blt pc 11 then
     bif Nat.blt pc 9 then
      if h : pc = 8 then some ⟨(.istore_n 3, 9, .inl 0, 0, 0), by subst h; exact ⟨dX9_leaveSet_8, rfl, (show (3 : Nat) < 4 by decide)⟩⟩ else none
     else
      bif Nat.blt pc 10 then
       if h : pc = 9 then some ⟨(.iload_n 3, 10, .inl 0, 0, 0), by subst h; exact ⟨dX9_leaveSet_9, rfl, trivial⟩⟩ else none
      else
       if h : pc = 10 then some ⟨(.iconst 1, 11, .inl 1, 0, 0), by subst h; exact ⟨dX9_leaveSet_10, rfl, ⟨1, rfl, by decide⟩⟩⟩ else none
    else
     bif Nat.blt pc 12 then
      if h : pc = 11 then some ⟨(.aload_n 0, 12, .inl 0, 0, 0), by subst h; exact ⟨dX9_leaveSet_11, rfl, trivial⟩⟩ else none
     else
      bif Nat.blt pc 15 then
       if h : pc = 12 then some ⟨(.getfield 64, 15, .inl 0, 11, 14), by subst h; exact ⟨dX9_leaveSet_12, rfl, ⟨⟨_, rfl, by decide, _, Or.inl q1369, Or.inl rfl⟩, (show mKd 14 11 ≤ 4 by decide)⟩⟩⟩ else none
      else
       if h : pc = 15 then some ⟨(.ishl, 16, .inl 0, 0, 0), by subst h; exact ⟨dX9_leaveSet_15, rfl, trivial⟩⟩ else none
  else
   bif Nat.blt pc 24 then
    bif Nat.blt pc 21 then
     bif Nat.blt pc 19 then
      if h : pc = 16 then some ⟨(.if_icmp .ge 55, 19, .inl 0, 71, 0), by subst h; exact ⟨dX9_leaveSet_16, rfl, (show ((16 : Nat) : Int) + (55) = ((71 : Nat) : Int) by decide)⟩⟩ else none
     else
      bif Nat.blt pc 20 then
       if h : pc = 19 then some ⟨(.iload_n 3, 20, .inl 0, 0, 0), by subst h; exact ⟨dX9_leaveSet_19, rfl, trivial⟩⟩ else none
      else
       if h : pc = 20 then some ⟨(.iload_n 1, 21, .inl 0, 0, 0), by subst h; exact ⟨dX9_leaveSet_20, rfl, trivial⟩⟩ else none
    else
     bif Nat.blt pc 22 then
      if h : pc = 21 then some ⟨(.iconst (-1), 22, .inl (-1), 0, 0), by subst h; exact ⟨dX9_leaveSet_21, rfl, ⟨(-1), rfl, by decide⟩⟩⟩ else none
     else
      bif Nat.blt pc 23 then
       if h : pc = 22 then some ⟨(.ixor, 23, .inl 0, 0, 0), by subst h; exact ⟨dX9_leaveSet_22, rfl, trivial⟩⟩ else none
      else
       if h : pc = 23 then some ⟨(.iand, 24, .inl 0, 0, 0), by subst h; exact ⟨dX9_leaveSet_23, rfl, trivial⟩⟩ else none
   else
    bif Nat.blt pc 29 then
     bif Nat.blt pc 27 then
      if h : pc = 24 then some ⟨(.ifCond .ne 41, 27, .inl 0, 65, 0), by subst h; exact ⟨dX9_leaveSet_24, rfl, (show ((24 : Nat) : Int) + (41) = ((65 : Nat) : Int) by decide)⟩⟩ else none
     else
      bif Nat.blt pc 28 then
       if h : pc = 27 then some ⟨(.iload_n 2, 28, .inl 0, 0, 0), by subst h; exact ⟨dX9_leaveSet_27, rfl, trivial⟩⟩ else none
      else
       if h : pc = 28 then some ⟨(.iconst (-1), 29, .inl (-1), 0, 0), by subst h; exact ⟨dX9_leaveSet_28, rfl, ⟨(-1), rfl, by decide⟩⟩⟩ else none
    else
     bif Nat.blt pc 32 then
      if h : pc = 29 then some ⟨(.if_icmp .eq 14, 32, .inl 0, 43, 0), by subst h; exact ⟨dX9_leaveSet_29, rfl, (show ((29 : Nat) : Int) + (14) = ((43 : Nat) : Int) by decide)⟩⟩ else none
     else
      bif Nat.blt pc 33 then
       if h : pc = 32 then some ⟨(.iload_n 3, 33, .inl 0, 0, 0), by subst h; exact ⟨dX9_leaveSet_32, rfl, trivial⟩⟩ else none
      else
       if h : pc = 33 then some ⟨(.invokestatic 368, 36, .inl 0, 84, 0), by subst h; exact ⟨dX9_leaveSet_33, rfl, Or.inl ⟨by decide, q1817, q1818⟩⟩⟩ else none
 else
  bif Nat.blt pc 56 then
   bif Nat.blt pc 46 then
    bif Nat.blt pc 43 then
     bif Nat.blt pc 37 then
      if h : pc = 36 then some ⟨(.iload_n 2, 37, .inl 0, 0, 0), by subst h; exact ⟨dX9_leaveSet_36, rfl, trivial⟩⟩ else none
     else
      bif Nat.blt pc 40 then
       if h : pc = 37 then some ⟨(.invokestatic 368, 40, .inl 0, 84, 0), by subst h; exact ⟨dX9_leaveSet_37, rfl, Or.inl ⟨by decide, q1817, q1818⟩⟩⟩ else none
      else
       if h : pc = 40 then some ⟨(.if_icmp .ge 25, 43, .inl 0, 65, 0), by subst h; exact ⟨dX9_leaveSet_40, rfl, (show ((40 : Nat) : Int) + (25) = ((65 : Nat) : Int) by decide)⟩⟩ else none
    else
     bif Nat.blt pc 44 then
      if h : pc = 43 then some ⟨(.aload_n 0, 44, .inl 0, 0, 0), by subst h; exact ⟨dX9_leaveSet_43, rfl, trivial⟩⟩ else none
     else
      bif Nat.blt pc 45 then
       if h : pc = 44 then some ⟨(.iload_n 1, 45, .inl 0, 0, 0), by subst h; exact ⟨dX9_leaveSet_44, rfl, trivial⟩⟩ else none
      else
       if h : pc = 45 then some ⟨(.iload_n 3, 46, .inl 0, 0, 0), by subst h; exact ⟨dX9_leaveSet_45, rfl, trivial⟩⟩ else none
   else
    bif Nat.blt pc 49 then
     bif Nat.blt pc 47 then
      if h : pc = 46 then some ⟨(.iconst (-1), 47, .inl (-1), 0, 0), by subst h; exact ⟨dX9_leaveSet_46, rfl, ⟨(-1), rfl, by decide⟩⟩⟩ else none
     else
      bif Nat.blt pc 48 then
       if h : pc = 47 then some ⟨(.ixor, 48, .inl 0, 0, 0), by subst h; exact ⟨dX9_leaveSet_47, rfl, trivial⟩⟩ else none
      else
       if h : pc = 48 then some ⟨(.iand, 49, .inl 0, 0, 0), by subst h; exact ⟨dX9_leaveSet_48, rfl, trivial⟩⟩ else none
    else
     bif Nat.blt pc 52 then
      if h : pc = 49 then some ⟨(.invokevirtual 371, 52, .inl 0, 85, 14), by subst h; exact ⟨dX9_leaveSet_49, rfl, ⟨by decide, q1820, q1822, qs122, _, rfl, rfl⟩⟩⟩ else none
     else
      bif Nat.blt pc 53 then
       if h : pc = 52 then some ⟨(.aload_n 0, 53, .inl 0, 0, 0), by subst h; exact ⟨dX9_leaveSet_52, rfl, trivial⟩⟩ else none
      else
       if h : pc = 53 then some ⟨(.invokevirtual 374, 56, .inl 0, 86, 14), by subst h; exact ⟨dX9_leaveSet_53, rfl, ⟨by decide, q1824, q1826, qs123, _, rfl, rfl⟩⟩⟩ else none
  else
   bif Nat.blt pc 68 then
    bif Nat.blt pc 63 then
     bif Nat.blt pc 59 then
      if h : pc = 56 then some ⟨(.ifCond .eq 7, 59, .inl 0, 63, 0), by subst h; exact ⟨dX9_leaveSet_56, rfl, (show ((56 : Nat) : Int) + (7) = ((63 : Nat) : Int) by decide)⟩⟩ else none
     else
      bif Nat.blt pc 60 then
       if h : pc = 59 then some ⟨(.iload_n 3, 60, .inl 0, 0, 0), by subst h; exact ⟨dX9_leaveSet_59, rfl, trivial⟩⟩ else none
      else
       if h : pc = 60 then some ⟨(.goto 4, 63, .inl 0, 64, 0), by subst h; exact ⟨dX9_leaveSet_60, rfl, (show ((60 : Nat) : Int) + (4) = ((64 : Nat) : Int) by decide)⟩⟩ else none
    else
     bif Nat.blt pc 64 then
      if h : pc = 63 then some ⟨(.iload_n 2, 64, .inl 0, 0, 0), by subst h; exact ⟨dX9_leaveSet_63, rfl, trivial⟩⟩ else none
     else
      bif Nat.blt pc 65 then
       if h : pc = 64 then some ⟨(.istore_n 2, 65, .inl 0, 0, 0), by subst h; exact ⟨dX9_leaveSet_64, rfl, (show (2 : Nat) < 4 by decide)⟩⟩ else none
      else
       if h : pc = 65 then some ⟨(.iinc 3 1, 68, .inl 1, 0, 0), by subst h; exact ⟨dX9_leaveSet_65, rfl, ⟨(show (3 : Nat) < 4 by decide), 1, rfl, by decide⟩⟩⟩ else none
   else
    bif Nat.blt pc 73 then
     bif Nat.blt pc 71 then
      if h : pc = 68 then some ⟨(.goto (-59), 71, .inl 0, 9, 0), by subst h; exact ⟨dX9_leaveSet_68, rfl, (show ((68 : Nat) : Int) + ((-59)) = ((9 : Nat) : Int) by decide)⟩⟩ else none
     else
      bif Nat.blt pc 72 then
       if h : pc = 71 then some ⟨(.aload_n 0, 72, .inl 0, 0, 0), by subst h; exact ⟨dX9_leaveSet_71, rfl, trivial⟩⟩ else none
      else
       if h : pc = 72 then some ⟨(.iload_n 1, 73, .inl 0, 0, 0), by subst h; exact ⟨dX9_leaveSet_72, rfl, trivial⟩⟩ else none
    else
     bif Nat.blt pc 76 then
      if h : pc = 73 then some ⟨(.invokevirtual 371, 76, .inl 0, 85, 14), by subst h; exact ⟨dX9_leaveSet_73, rfl, ⟨by decide, q1820, q1822, qs122, _, rfl, rfl⟩⟩⟩ else none
     else
      bif Nat.blt pc 77 then
       if h : pc = 76 then some ⟨(.iload_n 2, 77, .inl 0, 0, 0), by subst h; exact ⟨dX9_leaveSet_76, rfl, trivial⟩⟩ else none
      else
       if h : pc = 77 then some ⟨(.ireturn, 78, .inl 0, 0, 0), by subst h; exact ⟨dX9_leaveSet_77, rfl, rfl⟩⟩ else none

noncomputable def mt84 (pc : Nat) : Option {e : mE // mOK yX9_bitsOf cX9_bitsOf 3 ((Option.some ClassFile.FieldType.int)) pc e} :=
 bif Nat.blt pc 12 then
  bif Nat.blt pc 4 then
   bif Nat.blt pc 2 then
    bif Nat.blt pc 1 then
     if h : pc = 0 then some ⟨(.iconst 0, 1, .inl 0, 0, 0), by subst h; exact ⟨dX9_bitsOf_0, rfl, ⟨0, rfl, by decide⟩⟩⟩ else none
    else
     if h : pc = 1 then some ⟨(.istore_n 1, 2, .inl 0, 0, 0), by subst h; exact ⟨dX9_bitsOf_1, rfl, (show (1 : Nat) < 3 by decide)⟩⟩ else none
   else
    bif Nat.blt pc 3 then
     if h : pc = 2 then some ⟨(.iload_n 0, 3, .inl 0, 0, 0), by subst h; exact ⟨dX9_bitsOf_2, rfl, trivial⟩⟩ else none
    else
     if h : pc = 3 then some ⟨(.istore_n 2, 4, .inl 0, 0, 0), by subst h; exact ⟨dX9_bitsOf_3, rfl, (show (2 : Nat) < 3 by decide)⟩⟩ else none
  else
   bif Nat.blt pc 8 then
    bif Nat.blt pc 5 then
     if h : pc = 4 then some ⟨(.iload_n 2, 5, .inl 0, 0, 0), by subst h; exact ⟨dX9_bitsOf_4, rfl, trivial⟩⟩ else none
    else
     if h : pc = 5 then some ⟨(.ifCond .eq 15, 8, .inl 0, 20, 0), by subst h; exact ⟨dX9_bitsOf_5, rfl, (show ((5 : Nat) : Int) + (15) = ((20 : Nat) : Int) by decide)⟩⟩ else none
   else
    bif Nat.blt pc 11 then
     if h : pc = 8 then some ⟨(.iinc 1 1, 11, .inl 1, 0, 0), by subst h; exact ⟨dX9_bitsOf_8, rfl, ⟨(show (1 : Nat) < 3 by decide), 1, rfl, by decide⟩⟩⟩ else none
    else
     if h : pc = 11 then some ⟨(.iload_n 2, 12, .inl 0, 0, 0), by subst h; exact ⟨dX9_bitsOf_11, rfl, trivial⟩⟩ else none
 else
  bif Nat.blt pc 16 then
   bif Nat.blt pc 14 then
    bif Nat.blt pc 13 then
     if h : pc = 12 then some ⟨(.iload_n 2, 13, .inl 0, 0, 0), by subst h; exact ⟨dX9_bitsOf_12, rfl, trivial⟩⟩ else none
    else
     if h : pc = 13 then some ⟨(.iconst 1, 14, .inl 1, 0, 0), by subst h; exact ⟨dX9_bitsOf_13, rfl, ⟨1, rfl, by decide⟩⟩⟩ else none
   else
    bif Nat.blt pc 15 then
     if h : pc = 14 then some ⟨(.isub, 15, .inl 0, 0, 0), by subst h; exact ⟨dX9_bitsOf_14, rfl, trivial⟩⟩ else none
    else
     if h : pc = 15 then some ⟨(.iand, 16, .inl 0, 0, 0), by subst h; exact ⟨dX9_bitsOf_15, rfl, trivial⟩⟩ else none
  else
   bif Nat.blt pc 20 then
    bif Nat.blt pc 17 then
     if h : pc = 16 then some ⟨(.istore_n 2, 17, .inl 0, 0, 0), by subst h; exact ⟨dX9_bitsOf_16, rfl, (show (2 : Nat) < 3 by decide)⟩⟩ else none
    else
     if h : pc = 17 then some ⟨(.goto (-13), 20, .inl 0, 4, 0), by subst h; exact ⟨dX9_bitsOf_17, rfl, (show ((17 : Nat) : Int) + ((-13)) = ((4 : Nat) : Int) by decide)⟩⟩ else none
   else
    bif Nat.blt pc 21 then
     if h : pc = 20 then some ⟨(.iload_n 1, 21, .inl 0, 0, 0), by subst h; exact ⟨dX9_bitsOf_20, rfl, trivial⟩⟩ else none
    else
     if h : pc = 21 then some ⟨(.ireturn, 22, .inl 0, 0, 0), by subst h; exact ⟨dX9_bitsOf_21, rfl, rfl⟩⟩ else none

noncomputable def mt85 (pc : Nat) : Option {e : mE // mOK yX9_hereJust cX9_hereJust 3 ((Option.none : Option ClassFile.FieldType)) pc e} :=
 bif Nat.blt pc 17 then
  bif Nat.blt pc 7 then
   bif Nat.blt pc 2 then
    bif Nat.blt pc 1 then
     if h : pc = 0 then some ⟨(.iconst 0, 1, .inl 0, 0, 0), by subst h; exact ⟨dX9_hereJust_0, rfl, ⟨0, rfl, by decide⟩⟩⟩ else none
    else
     if h : pc = 1 then some ⟨(.istore_n 2, 2, .inl 0, 0, 0), by subst h; exact ⟨dX9_hereJust_1, rfl, (show (2 : Nat) < 3 by decide)⟩⟩ else none
   else
    bif Nat.blt pc 3 then
     if h : pc = 2 then some ⟨(.iload_n 2, 3, .inl 0, 0, 0), by subst h; exact ⟨dX9_hereJust_2, rfl, trivial⟩⟩ else none
    else
     bif Nat.blt pc 4 then
      if h : pc = 3 then some ⟨(.aload_n 0, 4, .inl 0, 0, 0), by subst h; exact ⟨dX9_hereJust_3, rfl, trivial⟩⟩ else none
     else
      if h : pc = 4 then some ⟨(.getfield 64, 7, .inl 0, 11, 14), by subst h; exact ⟨dX9_hereJust_4, rfl, ⟨⟨_, rfl, by decide, _, Or.inl q1369, Or.inl rfl⟩, (show mKd 14 11 ≤ 4 by decide)⟩⟩⟩ else none
  else
   bif Nat.blt pc 14 then
    bif Nat.blt pc 10 then
     if h : pc = 7 then some ⟨(.if_icmp .ge 24, 10, .inl 0, 31, 0), by subst h; exact ⟨dX9_hereJust_7, rfl, (show ((7 : Nat) : Int) + (24) = ((31 : Nat) : Int) by decide)⟩⟩ else none
    else
     bif Nat.blt pc 11 then
      if h : pc = 10 then some ⟨(.aload_n 0, 11, .inl 0, 0, 0), by subst h; exact ⟨dX9_hereJust_10, rfl, trivial⟩⟩ else none
     else
      if h : pc = 11 then some ⟨(.getfield 26, 14, .inr (.inr none), 10, 14), by subst h; exact ⟨dX9_hereJust_11, rfl, ⟨⟨_, rfl, by decide, _, Or.inl q1368, Or.inl rfl⟩, (show mKd 14 10 = 6 by rfl)⟩⟩⟩ else none
   else
    bif Nat.blt pc 15 then
     if h : pc = 14 then some ⟨(.iconst 5, 15, .inl 5, 0, 0), by subst h; exact ⟨dX9_hereJust_14, rfl, ⟨5, rfl, by decide⟩⟩⟩ else none
    else
     bif Nat.blt pc 16 then
      if h : pc = 15 then some ⟨(.iload_n 2, 16, .inl 0, 0, 0), by subst h; exact ⟨dX9_hereJust_15, rfl, trivial⟩⟩ else none
     else
      if h : pc = 16 then some ⟨(.imul, 17, .inl 0, 0, 0), by subst h; exact ⟨dX9_hereJust_16, rfl, trivial⟩⟩ else none
 else
  bif Nat.blt pc 22 then
   bif Nat.blt pc 19 then
    bif Nat.blt pc 18 then
     if h : pc = 17 then some ⟨(.iconst 3, 18, .inl 3, 0, 0), by subst h; exact ⟨dX9_hereJust_17, rfl, ⟨3, rfl, by decide⟩⟩⟩ else none
    else
     if h : pc = 18 then some ⟨(.iadd, 19, .inl 0, 0, 0), by subst h; exact ⟨dX9_hereJust_18, rfl, trivial⟩⟩ else none
   else
    bif Nat.blt pc 20 then
     if h : pc = 19 then some ⟨(.iload_n 1, 20, .inl 0, 0, 0), by subst h; exact ⟨dX9_hereJust_19, rfl, trivial⟩⟩ else none
    else
     bif Nat.blt pc 21 then
      if h : pc = 20 then some ⟨(.iload_n 2, 21, .inl 0, 0, 0), by subst h; exact ⟨dX9_hereJust_20, rfl, trivial⟩⟩ else none
     else
      if h : pc = 21 then some ⟨(.ishr, 22, .inl 0, 0, 0), by subst h; exact ⟨dX9_hereJust_21, rfl, trivial⟩⟩ else none
  else
   bif Nat.blt pc 25 then
    bif Nat.blt pc 23 then
     if h : pc = 22 then some ⟨(.iconst 1, 23, .inl 1, 0, 0), by subst h; exact ⟨dX9_hereJust_22, rfl, ⟨1, rfl, by decide⟩⟩⟩ else none
    else
     bif Nat.blt pc 24 then
      if h : pc = 23 then some ⟨(.iand, 24, .inl 0, 0, 0), by subst h; exact ⟨dX9_hereJust_23, rfl, trivial⟩⟩ else none
     else
      if h : pc = 24 then some ⟨(.iastore, 25, .inl 0, 0, 0), by subst h; exact ⟨dX9_hereJust_24, rfl, trivial⟩⟩ else none
   else
    bif Nat.blt pc 28 then
     if h : pc = 25 then some ⟨(.iinc 2 1, 28, .inl 1, 0, 0), by subst h; exact ⟨dX9_hereJust_25, rfl, ⟨(show (2 : Nat) < 3 by decide), 1, rfl, by decide⟩⟩⟩ else none
    else
     bif Nat.blt pc 31 then
      if h : pc = 28 then some ⟨(.goto (-26), 31, .inl 0, 2, 0), by subst h; exact ⟨dX9_hereJust_28, rfl, (show ((28 : Nat) : Int) + ((-26)) = ((2 : Nat) : Int) by decide)⟩⟩ else none
     else
      if h : pc = 31 then some ⟨(.return_, 32, .inl 0, 0, 0), by subst h; exact ⟨dX9_hereJust_31, rfl, rfl⟩⟩ else none

noncomputable def mt86 (pc : Nat) : Option {e : mE // mOK yX9_anyCan cX9_anyCan 3 ((Option.some ClassFile.FieldType.boolean)) pc e} :=
 bif Nat.blt pc 13 then
  bif Nat.blt pc 4 then
   bif Nat.blt pc 2 then
    bif Nat.blt pc 1 then
     if h : pc = 0 then some ⟨(.iconst 0, 1, .inl 0, 0, 0), by subst h; exact ⟨dX9_anyCan_0, rfl, ⟨0, rfl, by decide⟩⟩⟩ else none
    else
     if h : pc = 1 then some ⟨(.istore_n 1, 2, .inl 0, 0, 0), by subst h; exact ⟨dX9_anyCan_1, rfl, (show (1 : Nat) < 3 by decide)⟩⟩ else none
   else
    bif Nat.blt pc 3 then
     if h : pc = 2 then some ⟨(.iconst 0, 3, .inl 0, 0, 0), by subst h; exact ⟨dX9_anyCan_2, rfl, ⟨0, rfl, by decide⟩⟩⟩ else none
    else
     if h : pc = 3 then some ⟨(.istore_n 2, 4, .inl 0, 0, 0), by subst h; exact ⟨dX9_anyCan_3, rfl, (show (2 : Nat) < 3 by decide)⟩⟩ else none
  else
   bif Nat.blt pc 6 then
    bif Nat.blt pc 5 then
     if h : pc = 4 then some ⟨(.iload_n 2, 5, .inl 0, 0, 0), by subst h; exact ⟨dX9_anyCan_4, rfl, trivial⟩⟩ else none
    else
     if h : pc = 5 then some ⟨(.aload_n 0, 6, .inl 0, 0, 0), by subst h; exact ⟨dX9_anyCan_5, rfl, trivial⟩⟩ else none
   else
    bif Nat.blt pc 9 then
     if h : pc = 6 then some ⟨(.getfield 64, 9, .inl 0, 11, 14), by subst h; exact ⟨dX9_anyCan_6, rfl, ⟨⟨_, rfl, by decide, _, Or.inl q1369, Or.inl rfl⟩, (show mKd 14 11 ≤ 4 by decide)⟩⟩⟩ else none
    else
     bif Nat.blt pc 12 then
      if h : pc = 9 then some ⟨(.if_icmp .ge 19, 12, .inl 0, 28, 0), by subst h; exact ⟨dX9_anyCan_9, rfl, (show ((9 : Nat) : Int) + (19) = ((28 : Nat) : Int) by decide)⟩⟩ else none
     else
      if h : pc = 12 then some ⟨(.iload_n 1, 13, .inl 0, 0, 0), by subst h; exact ⟨dX9_anyCan_12, rfl, trivial⟩⟩ else none
 else
  bif Nat.blt pc 21 then
   bif Nat.blt pc 17 then
    bif Nat.blt pc 16 then
     if h : pc = 13 then some ⟨(.ifCond .ne 15, 16, .inl 0, 28, 0), by subst h; exact ⟨dX9_anyCan_13, rfl, (show ((13 : Nat) : Int) + (15) = ((28 : Nat) : Int) by decide)⟩⟩ else none
    else
     if h : pc = 16 then some ⟨(.aload_n 0, 17, .inl 0, 0, 0), by subst h; exact ⟨dX9_anyCan_16, rfl, trivial⟩⟩ else none
   else
    bif Nat.blt pc 18 then
     if h : pc = 17 then some ⟨(.iload_n 2, 18, .inl 0, 0, 0), by subst h; exact ⟨dX9_anyCan_17, rfl, trivial⟩⟩ else none
    else
     if h : pc = 18 then some ⟨(.invokevirtual 116, 21, .inl 0, 59, 14), by subst h; exact ⟨dX9_anyCan_18, rfl, ⟨by decide, q1711, q1713, qs110, _, rfl, rfl⟩⟩⟩ else none
  else
   bif Nat.blt pc 25 then
    bif Nat.blt pc 22 then
     if h : pc = 21 then some ⟨(.istore_n 1, 22, .inl 0, 0, 0), by subst h; exact ⟨dX9_anyCan_21, rfl, (show (1 : Nat) < 3 by decide)⟩⟩ else none
    else
     if h : pc = 22 then some ⟨(.iinc 2 1, 25, .inl 1, 0, 0), by subst h; exact ⟨dX9_anyCan_22, rfl, ⟨(show (2 : Nat) < 3 by decide), 1, rfl, by decide⟩⟩⟩ else none
   else
    bif Nat.blt pc 28 then
     if h : pc = 25 then some ⟨(.goto (-21), 28, .inl 0, 4, 0), by subst h; exact ⟨dX9_anyCan_25, rfl, (show ((25 : Nat) : Int) + ((-21)) = ((4 : Nat) : Int) by decide)⟩⟩ else none
    else
     bif Nat.blt pc 29 then
      if h : pc = 28 then some ⟨(.iload_n 1, 29, .inl 0, 0, 0), by subst h; exact ⟨dX9_anyCan_28, rfl, trivial⟩⟩ else none
     else
      if h : pc = 29 then some ⟨(.ireturn, 30, .inl 0, 1, 0), by subst h; exact ⟨dX9_anyCan_29, rfl, rfl⟩⟩ else none

noncomputable def mt87 (pc : Nat) : Option {e : mE // mOK yX9_prop cX9_prop 9 ((Option.some ClassFile.FieldType.int)) pc e} :=
 bif Nat.blt pc 64 then
  bif Nat.blt pc 31 then
   bif Nat.blt pc 14 then
    bif Nat.blt pc 6 then
     bif Nat.blt pc 2 then
      bif Nat.blt pc 1 then
       if h : pc = 0 then some ⟨(.iload_n 1, 1, .inl 0, 0, 0), by subst h; exact ⟨dX9_prop_0, rfl, trivial⟩⟩ else none
      else
       if h : pc = 1 then some ⟨(.i2l, 2, .inl 0, 0, 0), by subst h; exact ⟨dX9_prop_1, rfl, trivial⟩⟩ else none
     else
      bif Nat.blt pc 3 then
       if h : pc = 2 then some ⟨(.lconst 0, 3, .inr (.inl 0), 0, 0), by subst h; exact ⟨dX9_prop_2, rfl, ⟨0, rfl, by decide⟩⟩⟩ else none
      else
       if h : pc = 3 then some ⟨(.ldc2_w 385, 6, .inr (.inl 40), 0, 0), by subst h; exact ⟨dX9_prop_3, rfl, ⟨_, rfl, q1832⟩⟩⟩ else none
    else
     bif Nat.blt pc 12 then
      bif Nat.blt pc 9 then
       if h : pc = 6 then some ⟨(.invokestatic 67, 9, .inl 0, 3, 0), by subst h; exact ⟨dX9_prop_6, rfl, Or.inl ⟨by decide, q1482, q1483⟩⟩⟩ else none
      else
       if h : pc = 9 then some ⟨(.ifCond .eq 25, 12, .inl 0, 34, 0), by subst h; exact ⟨dX9_prop_9, rfl, (show ((9 : Nat) : Int) + (25) = ((34 : Nat) : Int) by decide)⟩⟩ else none
     else
      bif Nat.blt pc 13 then
       if h : pc = 12 then some ⟨(.iload_n 2, 13, .inl 0, 0, 0), by subst h; exact ⟨dX9_prop_12, rfl, trivial⟩⟩ else none
      else
       if h : pc = 13 then some ⟨(.i2l, 14, .inl 0, 0, 0), by subst h; exact ⟨dX9_prop_13, rfl, trivial⟩⟩ else none
   else
    bif Nat.blt pc 24 then
     bif Nat.blt pc 18 then
      bif Nat.blt pc 15 then
       if h : pc = 14 then some ⟨(.lconst 1, 15, .inr (.inl 1), 0, 0), by subst h; exact ⟨dX9_prop_14, rfl, ⟨1, rfl, by decide⟩⟩⟩ else none
      else
       if h : pc = 15 then some ⟨(.ldc2_w 387, 18, .inr (.inl 99), 0, 0), by subst h; exact ⟨dX9_prop_15, rfl, ⟨_, rfl, q1833⟩⟩⟩ else none
     else
      bif Nat.blt pc 21 then
       if h : pc = 18 then some ⟨(.invokestatic 67, 21, .inl 0, 3, 0), by subst h; exact ⟨dX9_prop_18, rfl, Or.inl ⟨by decide, q1482, q1483⟩⟩⟩ else none
      else
       if h : pc = 21 then some ⟨(.ifCond .eq 13, 24, .inl 0, 34, 0), by subst h; exact ⟨dX9_prop_21, rfl, (show ((21 : Nat) : Int) + (13) = ((34 : Nat) : Int) by decide)⟩⟩ else none
    else
     bif Nat.blt pc 26 then
      bif Nat.blt pc 25 then
       if h : pc = 24 then some ⟨(.iload_n 3, 25, .inl 0, 0, 0), by subst h; exact ⟨dX9_prop_24, rfl, trivial⟩⟩ else none
      else
       if h : pc = 25 then some ⟨(.i2l, 26, .inl 0, 0, 0), by subst h; exact ⟨dX9_prop_25, rfl, trivial⟩⟩ else none
     else
      bif Nat.blt pc 27 then
       if h : pc = 26 then some ⟨(.lconst 0, 27, .inr (.inl 0), 0, 0), by subst h; exact ⟨dX9_prop_26, rfl, ⟨0, rfl, by decide⟩⟩⟩ else none
      else
       bif Nat.blt pc 28 then
        if h : pc = 27 then some ⟨(.lconst 1, 28, .inr (.inl 1), 0, 0), by subst h; exact ⟨dX9_prop_27, rfl, ⟨1, rfl, by decide⟩⟩⟩ else none
       else
        if h : pc = 28 then some ⟨(.invokestatic 67, 31, .inl 0, 3, 0), by subst h; exact ⟨dX9_prop_28, rfl, Or.inl ⟨by decide, q1482, q1483⟩⟩⟩ else none
  else
   bif Nat.blt pc 47 then
    bif Nat.blt pc 38 then
     bif Nat.blt pc 36 then
      bif Nat.blt pc 34 then
       if h : pc = 31 then some ⟨(.ifCond .ne 6, 34, .inl 0, 37, 0), by subst h; exact ⟨dX9_prop_31, rfl, (show ((31 : Nat) : Int) + (6) = ((37 : Nat) : Int) by decide)⟩⟩ else none
      else
       if h : pc = 34 then some ⟨(.bipush (-2), 36, .inl (-2), 0, 0), by subst h; exact ⟨dX9_prop_34, rfl, ⟨(-2), rfl, by decide⟩⟩⟩ else none
     else
      bif Nat.blt pc 37 then
       if h : pc = 36 then some ⟨(.ireturn, 37, .inl 0, 0, 0), by subst h; exact ⟨dX9_prop_36, rfl, rfl⟩⟩ else none
      else
       if h : pc = 37 then some ⟨(.iconst (-1), 38, .inl (-1), 0, 0), by subst h; exact ⟨dX9_prop_37, rfl, ⟨(-1), rfl, by decide⟩⟩⟩ else none
    else
     bif Nat.blt pc 41 then
      bif Nat.blt pc 40 then
       if h : pc = 38 then some ⟨(.istore 4, 40, .inl 0, 0, 0), by subst h; exact ⟨dX9_prop_38, rfl, (show (4 : Nat) < 9 by decide)⟩⟩ else none
      else
       if h : pc = 40 then some ⟨(.aload_n 0, 41, .inl 0, 0, 0), by subst h; exact ⟨dX9_prop_40, rfl, trivial⟩⟩ else none
     else
      bif Nat.blt pc 42 then
       if h : pc = 41 then some ⟨(.iload_n 1, 42, .inl 0, 0, 0), by subst h; exact ⟨dX9_prop_41, rfl, trivial⟩⟩ else none
      else
       bif Nat.blt pc 45 then
        if h : pc = 42 then some ⟨(.invokevirtual 389, 45, .inl 0, 88, 14), by subst h; exact ⟨dX9_prop_42, rfl, ⟨by decide, q1834, q1836, qs124, _, rfl, rfl⟩⟩⟩ else none
       else
        if h : pc = 45 then some ⟨(.istore 5, 47, .inl 0, 0, 0), by subst h; exact ⟨dX9_prop_45, rfl, (show (5 : Nat) < 9 by decide)⟩⟩ else none
   else
    bif Nat.blt pc 54 then
     bif Nat.blt pc 50 then
      bif Nat.blt pc 48 then
       if h : pc = 47 then some ⟨(.iconst 0, 48, .inl 0, 0, 0), by subst h; exact ⟨dX9_prop_47, rfl, ⟨0, rfl, by decide⟩⟩⟩ else none
      else
       if h : pc = 48 then some ⟨(.istore 6, 50, .inl 0, 0, 0), by subst h; exact ⟨dX9_prop_48, rfl, (show (6 : Nat) < 9 by decide)⟩⟩ else none
     else
      bif Nat.blt pc 52 then
       if h : pc = 50 then some ⟨(.iload 6, 52, .inl 0, 0, 0), by subst h; exact ⟨dX9_prop_50, rfl, trivial⟩⟩ else none
      else
       if h : pc = 52 then some ⟨(.bipush 10, 54, .inl 10, 0, 0), by subst h; exact ⟨dX9_prop_52, rfl, ⟨10, rfl, by decide⟩⟩⟩ else none
    else
     bif Nat.blt pc 58 then
      bif Nat.blt pc 57 then
       if h : pc = 54 then some ⟨(.if_icmp .ge 67, 57, .inl 0, 121, 0), by subst h; exact ⟨dX9_prop_54, rfl, (show ((54 : Nat) : Int) + (67) = ((121 : Nat) : Int) by decide)⟩⟩ else none
      else
       if h : pc = 57 then some ⟨(.aload_n 0, 58, .inl 0, 0, 0), by subst h; exact ⟨dX9_prop_57, rfl, trivial⟩⟩ else none
     else
      bif Nat.blt pc 61 then
       if h : pc = 58 then some ⟨(.getfield 23, 61, .inr (.inr none), 7, 14), by subst h; exact ⟨dX9_prop_58, rfl, ⟨⟨_, rfl, by decide, _, Or.inl q1365, Or.inl rfl⟩, (show mKd 14 7 = 6 by rfl)⟩⟩⟩ else none
      else
       bif Nat.blt pc 63 then
        if h : pc = 61 then some ⟨(.iload 6, 63, .inl 0, 0, 0), by subst h; exact ⟨dX9_prop_61, rfl, trivial⟩⟩ else none
       else
        if h : pc = 63 then some ⟨(.iaload, 64, .inl 0, 0, 0), by subst h; exact ⟨dX9_prop_63, rfl, trivial⟩⟩ else none
 else
  bif Nat.blt pc 95 then
   bif Nat.blt pc 77 then
    bif Nat.blt pc 72 then
     bif Nat.blt pc 67 then
      bif Nat.blt pc 66 then
       if h : pc = 64 then some ⟨(.istore 7, 66, .inl 0, 0, 0), by subst h; exact ⟨dX9_prop_64, rfl, (show (7 : Nat) < 9 by decide)⟩⟩ else none
      else
       if h : pc = 66 then some ⟨(.aload_n 0, 67, .inl 0, 0, 0), by subst h; exact ⟨dX9_prop_66, rfl, trivial⟩⟩ else none
     else
      bif Nat.blt pc 70 then
       if h : pc = 67 then some ⟨(.getfield 23, 70, .inr (.inr none), 7, 14), by subst h; exact ⟨dX9_prop_67, rfl, ⟨⟨_, rfl, by decide, _, Or.inl q1365, Or.inl rfl⟩, (show mKd 14 7 = 6 by rfl)⟩⟩⟩ else none
      else
       if h : pc = 70 then some ⟨(.iload 6, 72, .inl 0, 0, 0), by subst h; exact ⟨dX9_prop_70, rfl, trivial⟩⟩ else none
    else
     bif Nat.blt pc 75 then
      bif Nat.blt pc 74 then
       if h : pc = 72 then some ⟨(.iload 7, 74, .inl 0, 0, 0), by subst h; exact ⟨dX9_prop_72, rfl, trivial⟩⟩ else none
      else
       if h : pc = 74 then some ⟨(.iload_n 2, 75, .inl 0, 0, 0), by subst h; exact ⟨dX9_prop_74, rfl, trivial⟩⟩ else none
     else
      bif Nat.blt pc 76 then
       if h : pc = 75 then some ⟨(.iadd, 76, .inl 0, 0, 0), by subst h; exact ⟨dX9_prop_75, rfl, trivial⟩⟩ else none
      else
       if h : pc = 76 then some ⟨(.iconst 0, 77, .inl 0, 0, 0), by subst h; exact ⟨dX9_prop_76, rfl, ⟨0, rfl, by decide⟩⟩⟩ else none
   else
    bif Nat.blt pc 85 then
     bif Nat.blt pc 83 then
      bif Nat.blt pc 80 then
       if h : pc = 77 then some ⟨(.sipush 999, 80, .inl 999, 0, 0), by subst h; exact ⟨dX9_prop_77, rfl, ⟨999, rfl, by decide⟩⟩⟩ else none
      else
       if h : pc = 80 then some ⟨(.invokestatic 328, 83, .inl 0, 57, 0), by subst h; exact ⟨dX9_prop_80, rfl, Or.inl ⟨by decide, q1704, q1705⟩⟩⟩ else none
     else
      bif Nat.blt pc 84 then
       if h : pc = 83 then some ⟨(.iastore, 84, .inl 0, 0, 0), by subst h; exact ⟨dX9_prop_83, rfl, trivial⟩⟩ else none
      else
       if h : pc = 84 then some ⟨(.aload_n 0, 85, .inl 0, 0, 0), by subst h; exact ⟨dX9_prop_84, rfl, trivial⟩⟩ else none
    else
     bif Nat.blt pc 89 then
      bif Nat.blt pc 86 then
       if h : pc = 85 then some ⟨(.iload_n 1, 86, .inl 0, 0, 0), by subst h; exact ⟨dX9_prop_85, rfl, trivial⟩⟩ else none
      else
       if h : pc = 86 then some ⟨(.invokevirtual 389, 89, .inl 0, 88, 14), by subst h; exact ⟨dX9_prop_86, rfl, ⟨by decide, q1834, q1836, qs124, _, rfl, rfl⟩⟩⟩ else none
     else
      bif Nat.blt pc 91 then
       if h : pc = 89 then some ⟨(.istore 8, 91, .inl 0, 0, 0), by subst h; exact ⟨dX9_prop_89, rfl, (show (8 : Nat) < 9 by decide)⟩⟩ else none
      else
       bif Nat.blt pc 92 then
        if h : pc = 91 then some ⟨(.aload_n 0, 92, .inl 0, 0, 0), by subst h; exact ⟨dX9_prop_91, rfl, trivial⟩⟩ else none
       else
        if h : pc = 92 then some ⟨(.getfield 23, 95, .inr (.inr none), 7, 14), by subst h; exact ⟨dX9_prop_92, rfl, ⟨⟨_, rfl, by decide, _, Or.inl q1365, Or.inl rfl⟩, (show mKd 14 7 = 6 by rfl)⟩⟩⟩ else none
  else
   bif Nat.blt pc 113 then
    bif Nat.blt pc 102 then
     bif Nat.blt pc 99 then
      bif Nat.blt pc 97 then
       if h : pc = 95 then some ⟨(.iload 6, 97, .inl 0, 0, 0), by subst h; exact ⟨dX9_prop_95, rfl, trivial⟩⟩ else none
      else
       if h : pc = 97 then some ⟨(.iload 7, 99, .inl 0, 0, 0), by subst h; exact ⟨dX9_prop_97, rfl, trivial⟩⟩ else none
     else
      bif Nat.blt pc 100 then
       if h : pc = 99 then some ⟨(.iastore, 100, .inl 0, 0, 0), by subst h; exact ⟨dX9_prop_99, rfl, trivial⟩⟩ else none
      else
       if h : pc = 100 then some ⟨(.iload 8, 102, .inl 0, 0, 0), by subst h; exact ⟨dX9_prop_100, rfl, trivial⟩⟩ else none
    else
     bif Nat.blt pc 107 then
      bif Nat.blt pc 104 then
       if h : pc = 102 then some ⟨(.iload 5, 104, .inl 0, 0, 0), by subst h; exact ⟨dX9_prop_102, rfl, trivial⟩⟩ else none
      else
       if h : pc = 104 then some ⟨(.if_icmp .ge 11, 107, .inl 0, 115, 0), by subst h; exact ⟨dX9_prop_104, rfl, (show ((104 : Nat) : Int) + (11) = ((115 : Nat) : Int) by decide)⟩⟩ else none
     else
      bif Nat.blt pc 109 then
       if h : pc = 107 then some ⟨(.iload 6, 109, .inl 0, 0, 0), by subst h; exact ⟨dX9_prop_107, rfl, trivial⟩⟩ else none
      else
       bif Nat.blt pc 111 then
        if h : pc = 109 then some ⟨(.istore 4, 111, .inl 0, 0, 0), by subst h; exact ⟨dX9_prop_109, rfl, (show (4 : Nat) < 9 by decide)⟩⟩ else none
       else
        if h : pc = 111 then some ⟨(.iload 8, 113, .inl 0, 0, 0), by subst h; exact ⟨dX9_prop_111, rfl, trivial⟩⟩ else none
   else
    bif Nat.blt pc 122 then
     bif Nat.blt pc 118 then
      bif Nat.blt pc 115 then
       if h : pc = 113 then some ⟨(.istore 5, 115, .inl 0, 0, 0), by subst h; exact ⟨dX9_prop_113, rfl, (show (5 : Nat) < 9 by decide)⟩⟩ else none
      else
       if h : pc = 115 then some ⟨(.iinc 6 1, 118, .inl 1, 0, 0), by subst h; exact ⟨dX9_prop_115, rfl, ⟨(show (6 : Nat) < 9 by decide), 1, rfl, by decide⟩⟩⟩ else none
     else
      bif Nat.blt pc 121 then
       if h : pc = 118 then some ⟨(.goto (-68), 121, .inl 0, 50, 0), by subst h; exact ⟨dX9_prop_118, rfl, (show ((118 : Nat) : Int) + ((-68)) = ((50 : Nat) : Int) by decide)⟩⟩ else none
      else
       if h : pc = 121 then some ⟨(.iload_n 3, 122, .inl 0, 0, 0), by subst h; exact ⟨dX9_prop_121, rfl, trivial⟩⟩ else none
    else
     bif Nat.blt pc 127 then
      bif Nat.blt pc 125 then
       if h : pc = 122 then some ⟨(.ifCond .ne 8, 125, .inl 0, 130, 0), by subst h; exact ⟨dX9_prop_122, rfl, (show ((122 : Nat) : Int) + (8) = ((130 : Nat) : Int) by decide)⟩⟩ else none
      else
       if h : pc = 125 then some ⟨(.iload 4, 127, .inl 0, 0, 0), by subst h; exact ⟨dX9_prop_125, rfl, trivial⟩⟩ else none
     else
      bif Nat.blt pc 130 then
       if h : pc = 127 then some ⟨(.goto 5, 130, .inl 0, 132, 0), by subst h; exact ⟨dX9_prop_127, rfl, (show ((127 : Nat) : Int) + (5) = ((132 : Nat) : Int) by decide)⟩⟩ else none
      else
       bif Nat.blt pc 132 then
        if h : pc = 130 then some ⟨(.iload 5, 132, .inl 0, 0, 0), by subst h; exact ⟨dX9_prop_130, rfl, trivial⟩⟩ else none
       else
        if h : pc = 132 then some ⟨(.ireturn, 133, .inl 0, 0, 0), by subst h; exact ⟨dX9_prop_132, rfl, rfl⟩⟩ else none

noncomputable def mt88 (pc : Nat) : Option {e : mE // mOK yX9_floorBehind cX9_floorBehind 3 ((Option.some ClassFile.FieldType.int)) pc e} :=
 bif Nat.blt pc 10 then
  bif Nat.blt pc 5 then
   bif Nat.blt pc 1 then
    if h : pc = 0 then some ⟨(.aload_n 0, 1, .inl 0, 0, 0), by subst h; exact ⟨dX9_floorBehind_0, rfl, trivial⟩⟩ else none
   else
    bif Nat.blt pc 4 then
     if h : pc = 1 then some ⟨(.invokevirtual 355, 4, .inl 0, 75, 14), by subst h; exact ⟨dX9_floorBehind_1, rfl, ⟨by decide, q1780, q1782, qs116, _, rfl, rfl⟩⟩⟩ else none
    else
     if h : pc = 4 then some ⟨(.aload_n 0, 5, .inl 0, 0, 0), by subst h; exact ⟨dX9_floorBehind_4, rfl, trivial⟩⟩ else none
  else
   bif Nat.blt pc 6 then
    if h : pc = 5 then some ⟨(.iload_n 1, 6, .inl 0, 0, 0), by subst h; exact ⟨dX9_floorBehind_5, rfl, trivial⟩⟩ else none
   else
    bif Nat.blt pc 9 then
     if h : pc = 6 then some ⟨(.invokevirtual 358, 9, .inl 0, 76, 14), by subst h; exact ⟨dX9_floorBehind_6, rfl, ⟨by decide, q1784, q1786, qs117, _, rfl, rfl⟩⟩⟩ else none
    else
     if h : pc = 9 then some ⟨(.aload_n 0, 10, .inl 0, 0, 0), by subst h; exact ⟨dX9_floorBehind_9, rfl, trivial⟩⟩ else none
 else
  bif Nat.blt pc 15 then
   bif Nat.blt pc 13 then
    if h : pc = 10 then some ⟨(.getfield 95, 13, .inl 0, 8, 14), by subst h; exact ⟨dX9_floorBehind_10, rfl, ⟨⟨_, rfl, by decide, _, Or.inl q1366, Or.inl rfl⟩, (show mKd 14 8 ≤ 4 by decide)⟩⟩⟩ else none
   else
    bif Nat.blt pc 14 then
     if h : pc = 13 then some ⟨(.istore_n 2, 14, .inl 0, 0, 0), by subst h; exact ⟨dX9_floorBehind_13, rfl, (show (2 : Nat) < 3 by decide)⟩⟩ else none
    else
     if h : pc = 14 then some ⟨(.aload_n 0, 15, .inl 0, 0, 0), by subst h; exact ⟨dX9_floorBehind_14, rfl, trivial⟩⟩ else none
  else
   bif Nat.blt pc 18 then
    if h : pc = 15 then some ⟨(.invokevirtual 362, 18, .inl 0, 77, 14), by subst h; exact ⟨dX9_floorBehind_15, rfl, ⟨by decide, q1788, q1790, qs118, _, rfl, rfl⟩⟩⟩ else none
   else
    bif Nat.blt pc 19 then
     if h : pc = 18 then some ⟨(.iload_n 2, 19, .inl 0, 0, 0), by subst h; exact ⟨dX9_floorBehind_18, rfl, trivial⟩⟩ else none
    else
     if h : pc = 19 then some ⟨(.ireturn, 20, .inl 0, 0, 0), by subst h; exact ⟨dX9_floorBehind_19, rfl, rfl⟩⟩ else none

noncomputable def mt89 (pc : Nat) : Option {e : mE // mOK yX9_sit cX9_sit 7 ((Option.some ClassFile.FieldType.int)) pc e} :=
 bif Nat.blt pc 60 then
  bif Nat.blt pc 28 then
   bif Nat.blt pc 14 then
    bif Nat.blt pc 6 then
     bif Nat.blt pc 2 then
      bif Nat.blt pc 1 then
       if h : pc = 0 then some ⟨(.iload_n 1, 1, .inl 0, 0, 0), by subst h; exact ⟨dX9_sit_0, rfl, trivial⟩⟩ else none
      else
       if h : pc = 1 then some ⟨(.i2l, 2, .inl 0, 0, 0), by subst h; exact ⟨dX9_sit_1, rfl, trivial⟩⟩ else none
     else
      bif Nat.blt pc 3 then
       if h : pc = 2 then some ⟨(.lconst 0, 3, .inr (.inl 0), 0, 0), by subst h; exact ⟨dX9_sit_2, rfl, ⟨0, rfl, by decide⟩⟩⟩ else none
      else
       if h : pc = 3 then some ⟨(.ldc2_w 385, 6, .inr (.inl 40), 0, 0), by subst h; exact ⟨dX9_sit_3, rfl, ⟨_, rfl, q1832⟩⟩⟩ else none
    else
     bif Nat.blt pc 12 then
      bif Nat.blt pc 9 then
       if h : pc = 6 then some ⟨(.invokestatic 67, 9, .inl 0, 3, 0), by subst h; exact ⟨dX9_sit_6, rfl, Or.inl ⟨by decide, q1482, q1483⟩⟩⟩ else none
      else
       if h : pc = 9 then some ⟨(.ifCond .eq 13, 12, .inl 0, 22, 0), by subst h; exact ⟨dX9_sit_9, rfl, (show ((9 : Nat) : Int) + (13) = ((22 : Nat) : Int) by decide)⟩⟩ else none
     else
      bif Nat.blt pc 13 then
       if h : pc = 12 then some ⟨(.iload_n 2, 13, .inl 0, 0, 0), by subst h; exact ⟨dX9_sit_12, rfl, trivial⟩⟩ else none
      else
       if h : pc = 13 then some ⟨(.i2l, 14, .inl 0, 0, 0), by subst h; exact ⟨dX9_sit_13, rfl, trivial⟩⟩ else none
   else
    bif Nat.blt pc 22 then
     bif Nat.blt pc 16 then
      bif Nat.blt pc 15 then
       if h : pc = 14 then some ⟨(.lconst 0, 15, .inr (.inl 0), 0, 0), by subst h; exact ⟨dX9_sit_14, rfl, ⟨0, rfl, by decide⟩⟩⟩ else none
      else
       if h : pc = 15 then some ⟨(.lconst 1, 16, .inr (.inl 1), 0, 0), by subst h; exact ⟨dX9_sit_15, rfl, ⟨1, rfl, by decide⟩⟩⟩ else none
     else
      bif Nat.blt pc 19 then
       if h : pc = 16 then some ⟨(.invokestatic 67, 19, .inl 0, 3, 0), by subst h; exact ⟨dX9_sit_16, rfl, Or.inl ⟨by decide, q1482, q1483⟩⟩⟩ else none
      else
       if h : pc = 19 then some ⟨(.ifCond .ne 6, 22, .inl 0, 25, 0), by subst h; exact ⟨dX9_sit_19, rfl, (show ((19 : Nat) : Int) + (6) = ((25 : Nat) : Int) by decide)⟩⟩ else none
    else
     bif Nat.blt pc 25 then
      bif Nat.blt pc 24 then
       if h : pc = 22 then some ⟨(.bipush (-2), 24, .inl (-2), 0, 0), by subst h; exact ⟨dX9_sit_22, rfl, ⟨(-2), rfl, by decide⟩⟩⟩ else none
      else
       if h : pc = 24 then some ⟨(.ireturn, 25, .inl 0, 0, 0), by subst h; exact ⟨dX9_sit_24, rfl, rfl⟩⟩ else none
     else
      bif Nat.blt pc 26 then
       if h : pc = 25 then some ⟨(.iconst (-1), 26, .inl (-1), 0, 0), by subst h; exact ⟨dX9_sit_25, rfl, ⟨(-1), rfl, by decide⟩⟩⟩ else none
      else
       bif Nat.blt pc 27 then
        if h : pc = 26 then some ⟨(.istore_n 3, 27, .inl 0, 0, 0), by subst h; exact ⟨dX9_sit_26, rfl, (show (3 : Nat) < 7 by decide)⟩⟩ else none
       else
        if h : pc = 27 then some ⟨(.iconst (-1), 28, .inl (-1), 0, 0), by subst h; exact ⟨dX9_sit_27, rfl, ⟨(-1), rfl, by decide⟩⟩⟩ else none
  else
   bif Nat.blt pc 43 then
    bif Nat.blt pc 35 then
     bif Nat.blt pc 31 then
      bif Nat.blt pc 30 then
       if h : pc = 28 then some ⟨(.istore 4, 30, .inl 0, 0, 0), by subst h; exact ⟨dX9_sit_28, rfl, (show (4 : Nat) < 7 by decide)⟩⟩ else none
      else
       if h : pc = 30 then some ⟨(.iconst 0, 31, .inl 0, 0, 0), by subst h; exact ⟨dX9_sit_30, rfl, ⟨0, rfl, by decide⟩⟩⟩ else none
     else
      bif Nat.blt pc 33 then
       if h : pc = 31 then some ⟨(.istore 5, 33, .inl 0, 0, 0), by subst h; exact ⟨dX9_sit_31, rfl, (show (5 : Nat) < 7 by decide)⟩⟩ else none
      else
       if h : pc = 33 then some ⟨(.iload 5, 35, .inl 0, 0, 0), by subst h; exact ⟨dX9_sit_33, rfl, trivial⟩⟩ else none
    else
     bif Nat.blt pc 39 then
      bif Nat.blt pc 36 then
       if h : pc = 35 then some ⟨(.aload_n 0, 36, .inl 0, 0, 0), by subst h; exact ⟨dX9_sit_35, rfl, trivial⟩⟩ else none
      else
       if h : pc = 36 then some ⟨(.getfield 64, 39, .inl 0, 11, 14), by subst h; exact ⟨dX9_sit_36, rfl, ⟨⟨_, rfl, by decide, _, Or.inl q1369, Or.inl rfl⟩, (show mKd 14 11 ≤ 4 by decide)⟩⟩⟩ else none
     else
      bif Nat.blt pc 42 then
       if h : pc = 39 then some ⟨(.if_icmp .ge 68, 42, .inl 0, 107, 0), by subst h; exact ⟨dX9_sit_39, rfl, (show ((39 : Nat) : Int) + (68) = ((107 : Nat) : Int) by decide)⟩⟩ else none
      else
       if h : pc = 42 then some ⟨(.aload_n 0, 43, .inl 0, 0, 0), by subst h; exact ⟨dX9_sit_42, rfl, trivial⟩⟩ else none
   else
    bif Nat.blt pc 52 then
     bif Nat.blt pc 48 then
      bif Nat.blt pc 45 then
       if h : pc = 43 then some ⟨(.iload 5, 45, .inl 0, 0, 0), by subst h; exact ⟨dX9_sit_43, rfl, trivial⟩⟩ else none
      else
       if h : pc = 45 then some ⟨(.invokevirtual 335, 48, .inl 0, 60, 14), by subst h; exact ⟨dX9_sit_45, rfl, ⟨by decide, q1715, q1717, qs111, _, rfl, rfl⟩⟩⟩ else none
     else
      bif Nat.blt pc 51 then
       if h : pc = 48 then some ⟨(.ifCond .ne 53, 51, .inl 0, 101, 0), by subst h; exact ⟨dX9_sit_48, rfl, (show ((48 : Nat) : Int) + (53) = ((101 : Nat) : Int) by decide)⟩⟩ else none
      else
       if h : pc = 51 then some ⟨(.aload_n 0, 52, .inl 0, 0, 0), by subst h; exact ⟨dX9_sit_51, rfl, trivial⟩⟩ else none
    else
     bif Nat.blt pc 56 then
      bif Nat.blt pc 55 then
       if h : pc = 52 then some ⟨(.getfield 26, 55, .inr (.inr none), 10, 14), by subst h; exact ⟨dX9_sit_52, rfl, ⟨⟨_, rfl, by decide, _, Or.inl q1368, Or.inl rfl⟩, (show mKd 14 10 = 6 by rfl)⟩⟩⟩ else none
      else
       if h : pc = 55 then some ⟨(.iconst 5, 56, .inl 5, 0, 0), by subst h; exact ⟨dX9_sit_55, rfl, ⟨5, rfl, by decide⟩⟩⟩ else none
     else
      bif Nat.blt pc 58 then
       if h : pc = 56 then some ⟨(.iload 5, 58, .inl 0, 0, 0), by subst h; exact ⟨dX9_sit_56, rfl, trivial⟩⟩ else none
      else
       bif Nat.blt pc 59 then
        if h : pc = 58 then some ⟨(.imul, 59, .inl 0, 0, 0), by subst h; exact ⟨dX9_sit_58, rfl, trivial⟩⟩ else none
       else
        if h : pc = 59 then some ⟨(.iconst 3, 60, .inl 3, 0, 0), by subst h; exact ⟨dX9_sit_59, rfl, ⟨3, rfl, by decide⟩⟩⟩ else none
 else
  bif Nat.blt pc 83 then
   bif Nat.blt pc 71 then
    bif Nat.blt pc 64 then
     bif Nat.blt pc 62 then
      bif Nat.blt pc 61 then
       if h : pc = 60 then some ⟨(.iadd, 61, .inl 0, 0, 0), by subst h; exact ⟨dX9_sit_60, rfl, trivial⟩⟩ else none
      else
       if h : pc = 61 then some ⟨(.iconst 1, 62, .inl 1, 0, 0), by subst h; exact ⟨dX9_sit_61, rfl, ⟨1, rfl, by decide⟩⟩⟩ else none
     else
      bif Nat.blt pc 63 then
       if h : pc = 62 then some ⟨(.iastore, 63, .inl 0, 0, 0), by subst h; exact ⟨dX9_sit_62, rfl, trivial⟩⟩ else none
      else
       if h : pc = 63 then some ⟨(.aload_n 0, 64, .inl 0, 0, 0), by subst h; exact ⟨dX9_sit_63, rfl, trivial⟩⟩ else none
    else
     bif Nat.blt pc 68 then
      bif Nat.blt pc 65 then
       if h : pc = 64 then some ⟨(.iload_n 1, 65, .inl 0, 0, 0), by subst h; exact ⟨dX9_sit_64, rfl, trivial⟩⟩ else none
      else
       if h : pc = 65 then some ⟨(.invokevirtual 389, 68, .inl 0, 88, 14), by subst h; exact ⟨dX9_sit_65, rfl, ⟨by decide, q1834, q1836, qs124, _, rfl, rfl⟩⟩⟩ else none
     else
      bif Nat.blt pc 70 then
       if h : pc = 68 then some ⟨(.istore 6, 70, .inl 0, 0, 0), by subst h; exact ⟨dX9_sit_68, rfl, (show (6 : Nat) < 7 by decide)⟩⟩ else none
      else
       if h : pc = 70 then some ⟨(.aload_n 0, 71, .inl 0, 0, 0), by subst h; exact ⟨dX9_sit_70, rfl, trivial⟩⟩ else none
   else
    bif Nat.blt pc 78 then
     bif Nat.blt pc 75 then
      bif Nat.blt pc 74 then
       if h : pc = 71 then some ⟨(.getfield 26, 74, .inr (.inr none), 10, 14), by subst h; exact ⟨dX9_sit_71, rfl, ⟨⟨_, rfl, by decide, _, Or.inl q1368, Or.inl rfl⟩, (show mKd 14 10 = 6 by rfl)⟩⟩⟩ else none
      else
       if h : pc = 74 then some ⟨(.iconst 5, 75, .inl 5, 0, 0), by subst h; exact ⟨dX9_sit_74, rfl, ⟨5, rfl, by decide⟩⟩⟩ else none
     else
      bif Nat.blt pc 77 then
       if h : pc = 75 then some ⟨(.iload 5, 77, .inl 0, 0, 0), by subst h; exact ⟨dX9_sit_75, rfl, trivial⟩⟩ else none
      else
       if h : pc = 77 then some ⟨(.imul, 78, .inl 0, 0, 0), by subst h; exact ⟨dX9_sit_77, rfl, trivial⟩⟩ else none
    else
     bif Nat.blt pc 80 then
      bif Nat.blt pc 79 then
       if h : pc = 78 then some ⟨(.iconst 3, 79, .inl 3, 0, 0), by subst h; exact ⟨dX9_sit_78, rfl, ⟨3, rfl, by decide⟩⟩⟩ else none
      else
       if h : pc = 79 then some ⟨(.iadd, 80, .inl 0, 0, 0), by subst h; exact ⟨dX9_sit_79, rfl, trivial⟩⟩ else none
     else
      bif Nat.blt pc 81 then
       if h : pc = 80 then some ⟨(.iconst 0, 81, .inl 0, 0, 0), by subst h; exact ⟨dX9_sit_80, rfl, ⟨0, rfl, by decide⟩⟩⟩ else none
      else
       bif Nat.blt pc 82 then
        if h : pc = 81 then some ⟨(.iastore, 82, .inl 0, 0, 0), by subst h; exact ⟨dX9_sit_81, rfl, trivial⟩⟩ else none
       else
        if h : pc = 82 then some ⟨(.iload_n 3, 83, .inl 0, 0, 0), by subst h; exact ⟨dX9_sit_82, rfl, trivial⟩⟩ else none
  else
   bif Nat.blt pc 99 then
    bif Nat.blt pc 91 then
     bif Nat.blt pc 87 then
      bif Nat.blt pc 84 then
       if h : pc = 83 then some ⟨(.iconst (-1), 84, .inl (-1), 0, 0), by subst h; exact ⟨dX9_sit_83, rfl, ⟨(-1), rfl, by decide⟩⟩⟩ else none
      else
       if h : pc = 84 then some ⟨(.if_icmp .eq 10, 87, .inl 0, 94, 0), by subst h; exact ⟨dX9_sit_84, rfl, (show ((84 : Nat) : Int) + (10) = ((94 : Nat) : Int) by decide)⟩⟩ else none
     else
      bif Nat.blt pc 89 then
       if h : pc = 87 then some ⟨(.iload 6, 89, .inl 0, 0, 0), by subst h; exact ⟨dX9_sit_87, rfl, trivial⟩⟩ else none
      else
       if h : pc = 89 then some ⟨(.iload 4, 91, .inl 0, 0, 0), by subst h; exact ⟨dX9_sit_89, rfl, trivial⟩⟩ else none
    else
     bif Nat.blt pc 96 then
      bif Nat.blt pc 94 then
       if h : pc = 91 then some ⟨(.if_icmp .ge 10, 94, .inl 0, 101, 0), by subst h; exact ⟨dX9_sit_91, rfl, (show ((91 : Nat) : Int) + (10) = ((101 : Nat) : Int) by decide)⟩⟩ else none
      else
       if h : pc = 94 then some ⟨(.iload 5, 96, .inl 0, 0, 0), by subst h; exact ⟨dX9_sit_94, rfl, trivial⟩⟩ else none
     else
      bif Nat.blt pc 97 then
       if h : pc = 96 then some ⟨(.istore_n 3, 97, .inl 0, 0, 0), by subst h; exact ⟨dX9_sit_96, rfl, (show (3 : Nat) < 7 by decide)⟩⟩ else none
      else
       if h : pc = 97 then some ⟨(.iload 6, 99, .inl 0, 0, 0), by subst h; exact ⟨dX9_sit_97, rfl, trivial⟩⟩ else none
   else
    bif Nat.blt pc 108 then
     bif Nat.blt pc 104 then
      bif Nat.blt pc 101 then
       if h : pc = 99 then some ⟨(.istore 4, 101, .inl 0, 0, 0), by subst h; exact ⟨dX9_sit_99, rfl, (show (4 : Nat) < 7 by decide)⟩⟩ else none
      else
       if h : pc = 101 then some ⟨(.iinc 5 1, 104, .inl 1, 0, 0), by subst h; exact ⟨dX9_sit_101, rfl, ⟨(show (5 : Nat) < 7 by decide), 1, rfl, by decide⟩⟩⟩ else none
     else
      bif Nat.blt pc 107 then
       if h : pc = 104 then some ⟨(.goto (-71), 107, .inl 0, 33, 0), by subst h; exact ⟨dX9_sit_104, rfl, (show ((104 : Nat) : Int) + ((-71)) = ((33 : Nat) : Int) by decide)⟩⟩ else none
      else
       if h : pc = 107 then some ⟨(.iload_n 2, 108, .inl 0, 0, 0), by subst h; exact ⟨dX9_sit_107, rfl, trivial⟩⟩ else none
    else
     bif Nat.blt pc 112 then
      bif Nat.blt pc 111 then
       if h : pc = 108 then some ⟨(.ifCond .ne 7, 111, .inl 0, 115, 0), by subst h; exact ⟨dX9_sit_108, rfl, (show ((108 : Nat) : Int) + (7) = ((115 : Nat) : Int) by decide)⟩⟩ else none
      else
       if h : pc = 111 then some ⟨(.iload_n 3, 112, .inl 0, 0, 0), by subst h; exact ⟨dX9_sit_111, rfl, trivial⟩⟩ else none
     else
      bif Nat.blt pc 115 then
       if h : pc = 112 then some ⟨(.goto 5, 115, .inl 0, 117, 0), by subst h; exact ⟨dX9_sit_112, rfl, (show ((112 : Nat) : Int) + (5) = ((117 : Nat) : Int) by decide)⟩⟩ else none
      else
       bif Nat.blt pc 117 then
        if h : pc = 115 then some ⟨(.iload 4, 117, .inl 0, 0, 0), by subst h; exact ⟨dX9_sit_115, rfl, trivial⟩⟩ else none
       else
        if h : pc = 117 then some ⟨(.ireturn, 118, .inl 0, 0, 0), by subst h; exact ⟨dX9_sit_117, rfl, rfl⟩⟩ else none

noncomputable def mt90 (pc : Nat) : Option {e : mE // mOK yX9_tells cX9_tells 11 ((Option.some ClassFile.FieldType.int)) pc e} :=
 bif Nat.blt pc 149 then
  bif Nat.blt pc 72 then
   bif Nat.blt pc 36 then
    bif Nat.blt pc 17 then
     bif Nat.blt pc 8 then
      bif Nat.blt pc 4 then
       bif Nat.blt pc 1 then
        if h : pc = 0 then some ⟨(.iload_n 1, 1, .inl 0, 0, 0), by subst h; exact ⟨dX9_tells_0, rfl, trivial⟩⟩ else none
       else
        if h : pc = 1 then some ⟨(.invokestatic 395, 4, .inl 0, 91, 0), by subst h; exact ⟨dX9_tells_1, rfl, Or.inl ⟨by decide, q1846, q1847⟩⟩⟩ else none
      else
       bif Nat.blt pc 7 then
        if h : pc = 4 then some ⟨(.ifCond .eq 23, 7, .inl 0, 27, 0), by subst h; exact ⟨dX9_tells_4, rfl, (show ((4 : Nat) : Int) + (23) = ((27 : Nat) : Int) by decide)⟩⟩ else none
       else
        if h : pc = 7 then some ⟨(.aload_n 0, 8, .inl 0, 0, 0), by subst h; exact ⟨dX9_tells_7, rfl, trivial⟩⟩ else none
     else
      bif Nat.blt pc 12 then
       bif Nat.blt pc 9 then
        if h : pc = 8 then some ⟨(.iload_n 2, 9, .inl 0, 0, 0), by subst h; exact ⟨dX9_tells_8, rfl, trivial⟩⟩ else none
       else
        if h : pc = 9 then some ⟨(.invokevirtual 73, 12, .inl 0, 5, 14), by subst h; exact ⟨dX9_tells_9, rfl, ⟨by decide, q1490, q1492, qs59, _, rfl, rfl⟩⟩⟩ else none
      else
       bif Nat.blt pc 15 then
        if h : pc = 12 then some ⟨(.ifCond .eq 15, 15, .inl 0, 27, 0), by subst h; exact ⟨dX9_tells_12, rfl, (show ((12 : Nat) : Int) + (15) = ((27 : Nat) : Int) by decide)⟩⟩ else none
       else
        bif Nat.blt pc 16 then
         if h : pc = 15 then some ⟨(.iload_n 3, 16, .inl 0, 0, 0), by subst h; exact ⟨dX9_tells_15, rfl, trivial⟩⟩ else none
        else
         if h : pc = 16 then some ⟨(.i2l, 17, .inl 0, 0, 0), by subst h; exact ⟨dX9_tells_16, rfl, trivial⟩⟩ else none
    else
     bif Nat.blt pc 29 then
      bif Nat.blt pc 21 then
       bif Nat.blt pc 18 then
        if h : pc = 17 then some ⟨(.lconst 0, 18, .inr (.inl 0), 0, 0), by subst h; exact ⟨dX9_tells_17, rfl, ⟨0, rfl, by decide⟩⟩⟩ else none
       else
        if h : pc = 18 then some ⟨(.ldc2_w 398, 21, .inr (.inl 8), 0, 0), by subst h; exact ⟨dX9_tells_18, rfl, ⟨_, rfl, q1849⟩⟩⟩ else none
      else
       bif Nat.blt pc 24 then
        if h : pc = 21 then some ⟨(.invokestatic 67, 24, .inl 0, 3, 0), by subst h; exact ⟨dX9_tells_21, rfl, Or.inl ⟨by decide, q1482, q1483⟩⟩⟩ else none
       else
        bif Nat.blt pc 27 then
         if h : pc = 24 then some ⟨(.ifCond .ne 6, 27, .inl 0, 30, 0), by subst h; exact ⟨dX9_tells_24, rfl, (show ((24 : Nat) : Int) + (6) = ((30 : Nat) : Int) by decide)⟩⟩ else none
        else
         if h : pc = 27 then some ⟨(.bipush (-2), 29, .inl (-2), 0, 0), by subst h; exact ⟨dX9_tells_27, rfl, ⟨(-2), rfl, by decide⟩⟩⟩ else none
     else
      bif Nat.blt pc 31 then
       bif Nat.blt pc 30 then
        if h : pc = 29 then some ⟨(.ireturn, 30, .inl 0, 0, 0), by subst h; exact ⟨dX9_tells_29, rfl, rfl⟩⟩ else none
       else
        if h : pc = 30 then some ⟨(.aload_n 0, 31, .inl 0, 0, 0), by subst h; exact ⟨dX9_tells_30, rfl, trivial⟩⟩ else none
      else
       bif Nat.blt pc 34 then
        if h : pc = 31 then some ⟨(.getfield 44, 34, .inr (.inr none), 35, 14), by subst h; exact ⟨dX9_tells_31, rfl, ⟨⟨_, rfl, by decide, _, Or.inl q1393, Or.inl rfl⟩, (show mKd 14 35 = 6 by rfl)⟩⟩⟩ else none
       else
        bif Nat.blt pc 35 then
         if h : pc = 34 then some ⟨(.iload_n 1, 35, .inl 0, 0, 0), by subst h; exact ⟨dX9_tells_34, rfl, trivial⟩⟩ else none
        else
         if h : pc = 35 then some ⟨(.baload, 36, .inl 0, 0, 0), by subst h; exact ⟨dX9_tells_35, rfl, trivial⟩⟩ else none
   else
    bif Nat.blt pc 55 then
     bif Nat.blt pc 46 then
      bif Nat.blt pc 41 then
       bif Nat.blt pc 39 then
        if h : pc = 36 then some ⟨(.ifCond .ne 6, 39, .inl 0, 42, 0), by subst h; exact ⟨dX9_tells_36, rfl, (show ((36 : Nat) : Int) + (6) = ((42 : Nat) : Int) by decide)⟩⟩ else none
       else
        if h : pc = 39 then some ⟨(.bipush (-11), 41, .inl (-11), 0, 0), by subst h; exact ⟨dX9_tells_39, rfl, ⟨(-11), rfl, by decide⟩⟩⟩ else none
      else
       bif Nat.blt pc 42 then
        if h : pc = 41 then some ⟨(.ireturn, 42, .inl 0, 0, 0), by subst h; exact ⟨dX9_tells_41, rfl, rfl⟩⟩ else none
       else
        bif Nat.blt pc 43 then
         if h : pc = 42 then some ⟨(.aload_n 0, 43, .inl 0, 0, 0), by subst h; exact ⟨dX9_tells_42, rfl, trivial⟩⟩ else none
        else
         if h : pc = 43 then some ⟨(.getfield 51, 46, .inr (.inr none), 37, 14), by subst h; exact ⟨dX9_tells_43, rfl, ⟨⟨_, rfl, by decide, _, Or.inl q1395, Or.inl rfl⟩, (show mKd 14 37 = 6 by rfl)⟩⟩⟩ else none
     else
      bif Nat.blt pc 48 then
       bif Nat.blt pc 47 then
        if h : pc = 46 then some ⟨(.iload_n 1, 47, .inl 0, 0, 0), by subst h; exact ⟨dX9_tells_46, rfl, trivial⟩⟩ else none
       else
        if h : pc = 47 then some ⟨(.iaload, 48, .inl 0, 0, 0), by subst h; exact ⟨dX9_tells_47, rfl, trivial⟩⟩ else none
      else
       bif Nat.blt pc 50 then
        if h : pc = 48 then some ⟨(.bipush 20, 50, .inl 20, 0, 0), by subst h; exact ⟨dX9_tells_48, rfl, ⟨20, rfl, by decide⟩⟩⟩ else none
       else
        bif Nat.blt pc 53 then
         if h : pc = 50 then some ⟨(.if_icmp .le 6, 53, .inl 0, 56, 0), by subst h; exact ⟨dX9_tells_50, rfl, (show ((50 : Nat) : Int) + (6) = ((56 : Nat) : Int) by decide)⟩⟩ else none
        else
         if h : pc = 53 then some ⟨(.bipush (-2), 55, .inl (-2), 0, 0), by subst h; exact ⟨dX9_tells_53, rfl, ⟨(-2), rfl, by decide⟩⟩⟩ else none
    else
     bif Nat.blt pc 63 then
      bif Nat.blt pc 57 then
       bif Nat.blt pc 56 then
        if h : pc = 55 then some ⟨(.ireturn, 56, .inl 0, 0, 0), by subst h; exact ⟨dX9_tells_55, rfl, rfl⟩⟩ else none
       else
        if h : pc = 56 then some ⟨(.iload_n 3, 57, .inl 0, 0, 0), by subst h; exact ⟨dX9_tells_56, rfl, trivial⟩⟩ else none
      else
       bif Nat.blt pc 60 then
        if h : pc = 57 then some ⟨(.ifCond .eq 9, 60, .inl 0, 66, 0), by subst h; exact ⟨dX9_tells_57, rfl, (show ((57 : Nat) : Int) + (9) = ((66 : Nat) : Int) by decide)⟩⟩ else none
       else
        bif Nat.blt pc 61 then
         if h : pc = 60 then some ⟨(.iload_n 3, 61, .inl 0, 0, 0), by subst h; exact ⟨dX9_tells_60, rfl, trivial⟩⟩ else none
        else
         if h : pc = 61 then some ⟨(.bipush 8, 63, .inl 8, 0, 0), by subst h; exact ⟨dX9_tells_61, rfl, ⟨8, rfl, by decide⟩⟩⟩ else none
     else
      bif Nat.blt pc 67 then
       bif Nat.blt pc 66 then
        if h : pc = 63 then some ⟨(.if_icmp .ne 21, 66, .inl 0, 84, 0), by subst h; exact ⟨dX9_tells_63, rfl, (show ((63 : Nat) : Int) + (21) = ((84 : Nat) : Int) by decide)⟩⟩ else none
       else
        if h : pc = 66 then some ⟨(.iload_n 3, 67, .inl 0, 0, 0), by subst h; exact ⟨dX9_tells_66, rfl, trivial⟩⟩ else none
      else
       bif Nat.blt pc 70 then
        if h : pc = 67 then some ⟨(.ifCond .ne 11, 70, .inl 0, 78, 0), by subst h; exact ⟨dX9_tells_67, rfl, (show ((67 : Nat) : Int) + (11) = ((78 : Nat) : Int) by decide)⟩⟩ else none
       else
        bif Nat.blt pc 71 then
         if h : pc = 70 then some ⟨(.aload_n 0, 71, .inl 0, 0, 0), by subst h; exact ⟨dX9_tells_70, rfl, trivial⟩⟩ else none
        else
         if h : pc = 71 then some ⟨(.iload_n 1, 72, .inl 0, 0, 0), by subst h; exact ⟨dX9_tells_71, rfl, trivial⟩⟩ else none
  else
   bif Nat.blt pc 108 then
    bif Nat.blt pc 89 then
     bif Nat.blt pc 80 then
      bif Nat.blt pc 78 then
       bif Nat.blt pc 75 then
        if h : pc = 72 then some ⟨(.invokevirtual 392, 75, .inl 0, 92, 14), by subst h; exact ⟨dX9_tells_72, rfl, ⟨by decide, q1850, q1852, qs125, _, rfl, rfl⟩⟩⟩ else none
       else
        if h : pc = 75 then some ⟨(.goto 8, 78, .inl 0, 83, 0), by subst h; exact ⟨dX9_tells_75, rfl, (show ((75 : Nat) : Int) + (8) = ((83 : Nat) : Int) by decide)⟩⟩ else none
      else
       bif Nat.blt pc 79 then
        if h : pc = 78 then some ⟨(.aload_n 0, 79, .inl 0, 0, 0), by subst h; exact ⟨dX9_tells_78, rfl, trivial⟩⟩ else none
       else
        if h : pc = 79 then some ⟨(.iload_n 1, 80, .inl 0, 0, 0), by subst h; exact ⟨dX9_tells_79, rfl, trivial⟩⟩ else none
     else
      bif Nat.blt pc 84 then
       bif Nat.blt pc 83 then
        if h : pc = 80 then some ⟨(.invokevirtual 400, 83, .inl 0, 93, 14), by subst h; exact ⟨dX9_tells_80, rfl, ⟨by decide, q1854, q1856, qs126, _, rfl, rfl⟩⟩⟩ else none
       else
        if h : pc = 83 then some ⟨(.ireturn, 84, .inl 0, 0, 0), by subst h; exact ⟨dX9_tells_83, rfl, rfl⟩⟩ else none
      else
       bif Nat.blt pc 85 then
        if h : pc = 84 then some ⟨(.iload_n 3, 85, .inl 0, 0, 0), by subst h; exact ⟨dX9_tells_84, rfl, trivial⟩⟩ else none
       else
        bif Nat.blt pc 86 then
         if h : pc = 85 then some ⟨(.iconst 1, 86, .inl 1, 0, 0), by subst h; exact ⟨dX9_tells_85, rfl, ⟨1, rfl, by decide⟩⟩⟩ else none
        else
         if h : pc = 86 then some ⟨(.if_icmp .ne 8, 89, .inl 0, 94, 0), by subst h; exact ⟨dX9_tells_86, rfl, (show ((86 : Nat) : Int) + (8) = ((94 : Nat) : Int) by decide)⟩⟩ else none
    else
     bif Nat.blt pc 99 then
      bif Nat.blt pc 94 then
       bif Nat.blt pc 91 then
        if h : pc = 89 then some ⟨(.bipush 7, 91, .inl 7, 0, 0), by subst h; exact ⟨dX9_tells_89, rfl, ⟨7, rfl, by decide⟩⟩⟩ else none
       else
        if h : pc = 91 then some ⟨(.goto 33, 94, .inl 0, 124, 0), by subst h; exact ⟨dX9_tells_91, rfl, (show ((91 : Nat) : Int) + (33) = ((124 : Nat) : Int) by decide)⟩⟩ else none
      else
       bif Nat.blt pc 95 then
        if h : pc = 94 then some ⟨(.iload_n 3, 95, .inl 0, 0, 0), by subst h; exact ⟨dX9_tells_94, rfl, trivial⟩⟩ else none
       else
        bif Nat.blt pc 96 then
         if h : pc = 95 then some ⟨(.iconst 2, 96, .inl 2, 0, 0), by subst h; exact ⟨dX9_tells_95, rfl, ⟨2, rfl, by decide⟩⟩⟩ else none
        else
         if h : pc = 96 then some ⟨(.if_icmp .ne 7, 99, .inl 0, 103, 0), by subst h; exact ⟨dX9_tells_96, rfl, (show ((96 : Nat) : Int) + (7) = ((103 : Nat) : Int) by decide)⟩⟩ else none
     else
      bif Nat.blt pc 103 then
       bif Nat.blt pc 100 then
        if h : pc = 99 then some ⟨(.iconst 3, 100, .inl 3, 0, 0), by subst h; exact ⟨dX9_tells_99, rfl, ⟨3, rfl, by decide⟩⟩⟩ else none
       else
        if h : pc = 100 then some ⟨(.goto 24, 103, .inl 0, 124, 0), by subst h; exact ⟨dX9_tells_100, rfl, (show ((100 : Nat) : Int) + (24) = ((124 : Nat) : Int) by decide)⟩⟩ else none
      else
       bif Nat.blt pc 104 then
        if h : pc = 103 then some ⟨(.iload_n 3, 104, .inl 0, 0, 0), by subst h; exact ⟨dX9_tells_103, rfl, trivial⟩⟩ else none
       else
        bif Nat.blt pc 105 then
         if h : pc = 104 then some ⟨(.iconst 5, 105, .inl 5, 0, 0), by subst h; exact ⟨dX9_tells_104, rfl, ⟨5, rfl, by decide⟩⟩⟩ else none
        else
         if h : pc = 105 then some ⟨(.if_icmp .ge 7, 108, .inl 0, 112, 0), by subst h; exact ⟨dX9_tells_105, rfl, (show ((105 : Nat) : Int) + (7) = ((112 : Nat) : Int) by decide)⟩⟩ else none
   else
    bif Nat.blt pc 128 then
     bif Nat.blt pc 118 then
      bif Nat.blt pc 112 then
       bif Nat.blt pc 109 then
        if h : pc = 108 then some ⟨(.iconst 4, 109, .inl 4, 0, 0), by subst h; exact ⟨dX9_tells_108, rfl, ⟨4, rfl, by decide⟩⟩⟩ else none
       else
        if h : pc = 109 then some ⟨(.goto 15, 112, .inl 0, 124, 0), by subst h; exact ⟨dX9_tells_109, rfl, (show ((109 : Nat) : Int) + (15) = ((124 : Nat) : Int) by decide)⟩⟩ else none
      else
       bif Nat.blt pc 113 then
        if h : pc = 112 then some ⟨(.iload_n 3, 113, .inl 0, 0, 0), by subst h; exact ⟨dX9_tells_112, rfl, trivial⟩⟩ else none
       else
        bif Nat.blt pc 115 then
         if h : pc = 113 then some ⟨(.bipush 7, 115, .inl 7, 0, 0), by subst h; exact ⟨dX9_tells_113, rfl, ⟨7, rfl, by decide⟩⟩⟩ else none
        else
         if h : pc = 115 then some ⟨(.if_icmp .ge 7, 118, .inl 0, 122, 0), by subst h; exact ⟨dX9_tells_115, rfl, (show ((115 : Nat) : Int) + (7) = ((122 : Nat) : Int) by decide)⟩⟩ else none
     else
      bif Nat.blt pc 122 then
       bif Nat.blt pc 119 then
        if h : pc = 118 then some ⟨(.iconst 5, 119, .inl 5, 0, 0), by subst h; exact ⟨dX9_tells_118, rfl, ⟨5, rfl, by decide⟩⟩⟩ else none
       else
        if h : pc = 119 then some ⟨(.goto 5, 122, .inl 0, 124, 0), by subst h; exact ⟨dX9_tells_119, rfl, (show ((119 : Nat) : Int) + (5) = ((124 : Nat) : Int) by decide)⟩⟩ else none
      else
       bif Nat.blt pc 124 then
        if h : pc = 122 then some ⟨(.bipush 8, 124, .inl 8, 0, 0), by subst h; exact ⟨dX9_tells_122, rfl, ⟨8, rfl, by decide⟩⟩⟩ else none
       else
        bif Nat.blt pc 126 then
         if h : pc = 124 then some ⟨(.istore 4, 126, .inl 0, 0, 0), by subst h; exact ⟨dX9_tells_124, rfl, (show (4 : Nat) < 11 by decide)⟩⟩ else none
        else
         if h : pc = 126 then some ⟨(.iload 4, 128, .inl 0, 0, 0), by subst h; exact ⟨dX9_tells_126, rfl, trivial⟩⟩ else none
    else
     bif Nat.blt pc 140 then
      bif Nat.blt pc 133 then
       bif Nat.blt pc 130 then
        if h : pc = 128 then some ⟨(.bipush 8, 130, .inl 8, 0, 0), by subst h; exact ⟨dX9_tells_128, rfl, ⟨8, rfl, by decide⟩⟩⟩ else none
       else
        if h : pc = 130 then some ⟨(.if_icmp .ne 10, 133, .inl 0, 140, 0), by subst h; exact ⟨dX9_tells_130, rfl, (show ((130 : Nat) : Int) + (10) = ((140 : Nat) : Int) by decide)⟩⟩ else none
      else
       bif Nat.blt pc 134 then
        if h : pc = 133 then some ⟨(.aload_n 0, 134, .inl 0, 0, 0), by subst h; exact ⟨dX9_tells_133, rfl, trivial⟩⟩ else none
       else
        bif Nat.blt pc 137 then
         if h : pc = 134 then some ⟨(.getfield 101, 137, .inl 0, 4, 14), by subst h; exact ⟨dX9_tells_134, rfl, ⟨⟨_, rfl, by decide, _, Or.inl q1362, Or.inl rfl⟩, (show mKd 14 4 ≤ 4 by decide)⟩⟩⟩ else none
        else
         if h : pc = 137 then some ⟨(.goto 10, 140, .inl 0, 147, 0), by subst h; exact ⟨dX9_tells_137, rfl, (show ((137 : Nat) : Int) + (10) = ((147 : Nat) : Int) by decide)⟩⟩ else none
     else
      bif Nat.blt pc 142 then
       bif Nat.blt pc 141 then
        if h : pc = 140 then some ⟨(.aload_n 0, 141, .inl 0, 0, 0), by subst h; exact ⟨dX9_tells_140, rfl, trivial⟩⟩ else none
       else
        if h : pc = 141 then some ⟨(.iload_n 2, 142, .inl 0, 0, 0), by subst h; exact ⟨dX9_tells_141, rfl, trivial⟩⟩ else none
      else
       bif Nat.blt pc 144 then
        if h : pc = 142 then some ⟨(.iload 4, 144, .inl 0, 0, 0), by subst h; exact ⟨dX9_tells_142, rfl, trivial⟩⟩ else none
       else
        bif Nat.blt pc 147 then
         if h : pc = 144 then some ⟨(.invokevirtual 87, 147, .inl 0, 7, 14), by subst h; exact ⟨dX9_tells_144, rfl, ⟨by decide, q1497, q1498, q1499, _, rfl, rfl⟩⟩⟩ else none
        else
         if h : pc = 147 then some ⟨(.istore 5, 149, .inl 0, 0, 0), by subst h; exact ⟨dX9_tells_147, rfl, (show (5 : Nat) < 11 by decide)⟩⟩ else none
 else
  bif Nat.blt pc 224 then
   bif Nat.blt pc 189 then
    bif Nat.blt pc 167 then
     bif Nat.blt pc 157 then
      bif Nat.blt pc 153 then
       bif Nat.blt pc 151 then
        if h : pc = 149 then some ⟨(.iload 4, 151, .inl 0, 0, 0), by subst h; exact ⟨dX9_tells_149, rfl, trivial⟩⟩ else none
       else
        if h : pc = 151 then some ⟨(.bipush 8, 153, .inl 8, 0, 0), by subst h; exact ⟨dX9_tells_151, rfl, ⟨8, rfl, by decide⟩⟩⟩ else none
      else
       bif Nat.blt pc 156 then
        if h : pc = 153 then some ⟨(.if_icmp .ne 12, 156, .inl 0, 165, 0), by subst h; exact ⟨dX9_tells_153, rfl, (show ((153 : Nat) : Int) + (12) = ((165 : Nat) : Int) by decide)⟩⟩ else none
       else
        if h : pc = 156 then some ⟨(.aload_n 0, 157, .inl 0, 0, 0), by subst h; exact ⟨dX9_tells_156, rfl, trivial⟩⟩ else none
     else
      bif Nat.blt pc 161 then
       bif Nat.blt pc 160 then
        if h : pc = 157 then some ⟨(.getfield 61, 160, .inl 0, 3, 14), by subst h; exact ⟨dX9_tells_157, rfl, ⟨⟨_, rfl, by decide, _, Or.inl q1361, Or.inl rfl⟩, (show mKd 14 3 ≤ 4 by decide)⟩⟩⟩ else none
       else
        if h : pc = 160 then some ⟨(.iconst 1, 161, .inl 1, 0, 0), by subst h; exact ⟨dX9_tells_160, rfl, ⟨1, rfl, by decide⟩⟩⟩ else none
      else
       bif Nat.blt pc 162 then
        if h : pc = 161 then some ⟨(.isub, 162, .inl 0, 0, 0), by subst h; exact ⟨dX9_tells_161, rfl, trivial⟩⟩ else none
       else
        bif Nat.blt pc 165 then
         if h : pc = 162 then some ⟨(.goto 27, 165, .inl 0, 189, 0), by subst h; exact ⟨dX9_tells_162, rfl, (show ((162 : Nat) : Int) + (27) = ((189 : Nat) : Int) by decide)⟩⟩ else none
        else
         if h : pc = 165 then some ⟨(.iload 4, 167, .inl 0, 0, 0), by subst h; exact ⟨dX9_tells_165, rfl, trivial⟩⟩ else none
    else
     bif Nat.blt pc 178 then
      bif Nat.blt pc 172 then
       bif Nat.blt pc 169 then
        if h : pc = 167 then some ⟨(.bipush 7, 169, .inl 7, 0, 0), by subst h; exact ⟨dX9_tells_167, rfl, ⟨7, rfl, by decide⟩⟩⟩ else none
       else
        if h : pc = 169 then some ⟨(.if_icmp .ne 7, 172, .inl 0, 176, 0), by subst h; exact ⟨dX9_tells_169, rfl, (show ((169 : Nat) : Int) + (7) = ((176 : Nat) : Int) by decide)⟩⟩ else none
      else
       bif Nat.blt pc 173 then
        if h : pc = 172 then some ⟨(.iconst 5, 173, .inl 5, 0, 0), by subst h; exact ⟨dX9_tells_172, rfl, ⟨5, rfl, by decide⟩⟩⟩ else none
       else
        bif Nat.blt pc 176 then
         if h : pc = 173 then some ⟨(.goto 16, 176, .inl 0, 189, 0), by subst h; exact ⟨dX9_tells_173, rfl, (show ((173 : Nat) : Int) + (16) = ((189 : Nat) : Int) by decide)⟩⟩ else none
        else
         if h : pc = 176 then some ⟨(.iload 4, 178, .inl 0, 0, 0), by subst h; exact ⟨dX9_tells_176, rfl, trivial⟩⟩ else none
     else
      bif Nat.blt pc 182 then
       bif Nat.blt pc 179 then
        if h : pc = 178 then some ⟨(.iconst 3, 179, .inl 3, 0, 0), by subst h; exact ⟨dX9_tells_178, rfl, ⟨3, rfl, by decide⟩⟩⟩ else none
       else
        if h : pc = 179 then some ⟨(.if_icmp .ne 8, 182, .inl 0, 187, 0), by subst h; exact ⟨dX9_tells_179, rfl, (show ((179 : Nat) : Int) + (8) = ((187 : Nat) : Int) by decide)⟩⟩ else none
      else
       bif Nat.blt pc 184 then
        if h : pc = 182 then some ⟨(.bipush 9, 184, .inl 9, 0, 0), by subst h; exact ⟨dX9_tells_182, rfl, ⟨9, rfl, by decide⟩⟩⟩ else none
       else
        bif Nat.blt pc 187 then
         if h : pc = 184 then some ⟨(.goto 5, 187, .inl 0, 189, 0), by subst h; exact ⟨dX9_tells_184, rfl, (show ((184 : Nat) : Int) + (5) = ((189 : Nat) : Int) by decide)⟩⟩ else none
        else
         if h : pc = 187 then some ⟨(.bipush 99, 189, .inl 99, 0, 0), by subst h; exact ⟨dX9_tells_187, rfl, ⟨99, rfl, by decide⟩⟩⟩ else none
   else
    bif Nat.blt pc 206 then
     bif Nat.blt pc 197 then
      bif Nat.blt pc 192 then
       bif Nat.blt pc 191 then
        if h : pc = 189 then some ⟨(.istore 6, 191, .inl 0, 0, 0), by subst h; exact ⟨dX9_tells_189, rfl, (show (6 : Nat) < 11 by decide)⟩⟩ else none
       else
        if h : pc = 191 then some ⟨(.iconst 0, 192, .inl 0, 0, 0), by subst h; exact ⟨dX9_tells_191, rfl, ⟨0, rfl, by decide⟩⟩⟩ else none
      else
       bif Nat.blt pc 194 then
        if h : pc = 192 then some ⟨(.istore 7, 194, .inl 0, 0, 0), by subst h; exact ⟨dX9_tells_192, rfl, (show (7 : Nat) < 11 by decide)⟩⟩ else none
       else
        bif Nat.blt pc 195 then
         if h : pc = 194 then some ⟨(.iconst 0, 195, .inl 0, 0, 0), by subst h; exact ⟨dX9_tells_194, rfl, ⟨0, rfl, by decide⟩⟩⟩ else none
        else
         if h : pc = 195 then some ⟨(.istore 8, 197, .inl 0, 0, 0), by subst h; exact ⟨dX9_tells_195, rfl, (show (8 : Nat) < 11 by decide)⟩⟩ else none
     else
      bif Nat.blt pc 200 then
       bif Nat.blt pc 198 then
        if h : pc = 197 then some ⟨(.iconst (-1), 198, .inl (-1), 0, 0), by subst h; exact ⟨dX9_tells_197, rfl, ⟨(-1), rfl, by decide⟩⟩⟩ else none
       else
        if h : pc = 198 then some ⟨(.istore 9, 200, .inl 0, 0, 0), by subst h; exact ⟨dX9_tells_198, rfl, (show (9 : Nat) < 11 by decide)⟩⟩ else none
      else
       bif Nat.blt pc 202 then
        if h : pc = 200 then some ⟨(.iload 6, 202, .inl 0, 0, 0), by subst h; exact ⟨dX9_tells_200, rfl, trivial⟩⟩ else none
       else
        bif Nat.blt pc 204 then
         if h : pc = 202 then some ⟨(.istore 10, 204, .inl 0, 0, 0), by subst h; exact ⟨dX9_tells_202, rfl, (show (10 : Nat) < 11 by decide)⟩⟩ else none
        else
         if h : pc = 204 then some ⟨(.iload 10, 206, .inl 0, 0, 0), by subst h; exact ⟨dX9_tells_204, rfl, trivial⟩⟩ else none
    else
     bif Nat.blt pc 215 then
      bif Nat.blt pc 210 then
       bif Nat.blt pc 209 then
        if h : pc = 206 then some ⟨(.ifCond .lt 54, 209, .inl 0, 260, 0), by subst h; exact ⟨dX9_tells_206, rfl, (show ((206 : Nat) : Int) + (54) = ((260 : Nat) : Int) by decide)⟩⟩ else none
       else
        if h : pc = 209 then some ⟨(.aload_n 0, 210, .inl 0, 0, 0), by subst h; exact ⟨dX9_tells_209, rfl, trivial⟩⟩ else none
      else
       bif Nat.blt pc 212 then
        if h : pc = 210 then some ⟨(.iload 4, 212, .inl 0, 0, 0), by subst h; exact ⟨dX9_tells_210, rfl, trivial⟩⟩ else none
       else
        bif Nat.blt pc 213 then
         if h : pc = 212 then some ⟨(.iload_n 2, 213, .inl 0, 0, 0), by subst h; exact ⟨dX9_tells_212, rfl, trivial⟩⟩ else none
        else
         if h : pc = 213 then some ⟨(.iload 10, 215, .inl 0, 0, 0), by subst h; exact ⟨dX9_tells_213, rfl, trivial⟩⟩ else none
     else
      bif Nat.blt pc 219 then
       bif Nat.blt pc 218 then
        if h : pc = 215 then some ⟨(.invokevirtual 91, 218, .inl 0, 63, 14), by subst h; exact ⟨dX9_tells_215, rfl, ⟨by decide, q1727, q1729, qs114, _, rfl, rfl⟩⟩⟩ else none
       else
        if h : pc = 218 then some ⟨(.aload_n 0, 219, .inl 0, 0, 0), by subst h; exact ⟨dX9_tells_218, rfl, trivial⟩⟩ else none
      else
       bif Nat.blt pc 220 then
        if h : pc = 219 then some ⟨(.iload_n 1, 220, .inl 0, 0, 0), by subst h; exact ⟨dX9_tells_219, rfl, trivial⟩⟩ else none
       else
        bif Nat.blt pc 223 then
         if h : pc = 220 then some ⟨(.invokevirtual 392, 223, .inl 0, 92, 14), by subst h; exact ⟨dX9_tells_220, rfl, ⟨by decide, q1850, q1852, qs125, _, rfl, rfl⟩⟩⟩ else none
        else
         if h : pc = 223 then some ⟨(.iconst (-1), 224, .inl (-1), 0, 0), by subst h; exact ⟨dX9_tells_223, rfl, ⟨(-1), rfl, by decide⟩⟩⟩ else none
  else
   bif Nat.blt pc 264 then
    bif Nat.blt pc 244 then
     bif Nat.blt pc 236 then
      bif Nat.blt pc 229 then
       bif Nat.blt pc 227 then
        if h : pc = 224 then some ⟨(.if_icmp .ne 30, 227, .inl 0, 254, 0), by subst h; exact ⟨dX9_tells_224, rfl, (show ((224 : Nat) : Int) + (30) = ((254 : Nat) : Int) by decide)⟩⟩ else none
       else
        if h : pc = 227 then some ⟨(.iload 7, 229, .inl 0, 0, 0), by subst h; exact ⟨dX9_tells_227, rfl, trivial⟩⟩ else none
      else
       bif Nat.blt pc 231 then
        if h : pc = 229 then some ⟨(.iload 10, 231, .inl 0, 0, 0), by subst h; exact ⟨dX9_tells_229, rfl, trivial⟩⟩ else none
       else
        bif Nat.blt pc 233 then
         if h : pc = 231 then some ⟨(.bipush 10, 233, .inl 10, 0, 0), by subst h; exact ⟨dX9_tells_231, rfl, ⟨10, rfl, by decide⟩⟩⟩ else none
        else
         if h : pc = 233 then some ⟨(.if_icmp .ge 10, 236, .inl 0, 243, 0), by subst h; exact ⟨dX9_tells_233, rfl, (show ((233 : Nat) : Int) + (10) = ((243 : Nat) : Int) by decide)⟩⟩ else none
     else
      bif Nat.blt pc 239 then
       bif Nat.blt pc 237 then
        if h : pc = 236 then some ⟨(.iconst 1, 237, .inl 1, 0, 0), by subst h; exact ⟨dX9_tells_236, rfl, ⟨1, rfl, by decide⟩⟩⟩ else none
       else
        if h : pc = 237 then some ⟨(.iload 10, 239, .inl 0, 0, 0), by subst h; exact ⟨dX9_tells_237, rfl, trivial⟩⟩ else none
      else
       bif Nat.blt pc 240 then
        if h : pc = 239 then some ⟨(.ishl, 240, .inl 0, 0, 0), by subst h; exact ⟨dX9_tells_239, rfl, trivial⟩⟩ else none
       else
        bif Nat.blt pc 243 then
         if h : pc = 240 then some ⟨(.goto 4, 243, .inl 0, 244, 0), by subst h; exact ⟨dX9_tells_240, rfl, (show ((240 : Nat) : Int) + (4) = ((244 : Nat) : Int) by decide)⟩⟩ else none
        else
         if h : pc = 243 then some ⟨(.iconst 0, 244, .inl 0, 0, 0), by subst h; exact ⟨dX9_tells_243, rfl, ⟨0, rfl, by decide⟩⟩⟩ else none
    else
     bif Nat.blt pc 254 then
      bif Nat.blt pc 247 then
       bif Nat.blt pc 245 then
        if h : pc = 244 then some ⟨(.ior, 245, .inl 0, 0, 0), by subst h; exact ⟨dX9_tells_244, rfl, trivial⟩⟩ else none
       else
        if h : pc = 245 then some ⟨(.istore 7, 247, .inl 0, 0, 0), by subst h; exact ⟨dX9_tells_245, rfl, (show (7 : Nat) < 11 by decide)⟩⟩ else none
      else
       bif Nat.blt pc 250 then
        if h : pc = 247 then some ⟨(.iinc 8 1, 250, .inl 1, 0, 0), by subst h; exact ⟨dX9_tells_247, rfl, ⟨(show (8 : Nat) < 11 by decide), 1, rfl, by decide⟩⟩⟩ else none
       else
        bif Nat.blt pc 252 then
         if h : pc = 250 then some ⟨(.iload 10, 252, .inl 0, 0, 0), by subst h; exact ⟨dX9_tells_250, rfl, trivial⟩⟩ else none
        else
         if h : pc = 252 then some ⟨(.istore 9, 254, .inl 0, 0, 0), by subst h; exact ⟨dX9_tells_252, rfl, (show (9 : Nat) < 11 by decide)⟩⟩ else none
     else
      bif Nat.blt pc 260 then
       bif Nat.blt pc 257 then
        if h : pc = 254 then some ⟨(.iinc 10 (-1), 257, .inl (-1), 0, 0), by subst h; exact ⟨dX9_tells_254, rfl, ⟨(show (10 : Nat) < 11 by decide), (-1), rfl, by decide⟩⟩⟩ else none
       else
        if h : pc = 257 then some ⟨(.goto (-53), 260, .inl 0, 204, 0), by subst h; exact ⟨dX9_tells_257, rfl, (show ((257 : Nat) : Int) + ((-53)) = ((204 : Nat) : Int) by decide)⟩⟩ else none
      else
       bif Nat.blt pc 261 then
        if h : pc = 260 then some ⟨(.aload_n 0, 261, .inl 0, 0, 0), by subst h; exact ⟨dX9_tells_260, rfl, trivial⟩⟩ else none
       else
        bif Nat.blt pc 263 then
         if h : pc = 261 then some ⟨(.iload 4, 263, .inl 0, 0, 0), by subst h; exact ⟨dX9_tells_261, rfl, trivial⟩⟩ else none
        else
         if h : pc = 263 then some ⟨(.iload_n 2, 264, .inl 0, 0, 0), by subst h; exact ⟨dX9_tells_263, rfl, trivial⟩⟩ else none
   else
    bif Nat.blt pc 284 then
     bif Nat.blt pc 274 then
      bif Nat.blt pc 269 then
       bif Nat.blt pc 266 then
        if h : pc = 264 then some ⟨(.iload 5, 266, .inl 0, 0, 0), by subst h; exact ⟨dX9_tells_264, rfl, trivial⟩⟩ else none
       else
        if h : pc = 266 then some ⟨(.invokevirtual 91, 269, .inl 0, 63, 14), by subst h; exact ⟨dX9_tells_266, rfl, ⟨by decide, q1727, q1729, qs114, _, rfl, rfl⟩⟩⟩ else none
      else
       bif Nat.blt pc 270 then
        if h : pc = 269 then some ⟨(.iload_n 3, 270, .inl 0, 0, 0), by subst h; exact ⟨dX9_tells_269, rfl, trivial⟩⟩ else none
       else
        bif Nat.blt pc 271 then
         if h : pc = 270 then some ⟨(.iconst 3, 271, .inl 3, 0, 0), by subst h; exact ⟨dX9_tells_270, rfl, ⟨3, rfl, by decide⟩⟩⟩ else none
        else
         if h : pc = 271 then some ⟨(.if_icmp .eq 8, 274, .inl 0, 279, 0), by subst h; exact ⟨dX9_tells_271, rfl, (show ((271 : Nat) : Int) + (8) = ((279 : Nat) : Int) by decide)⟩⟩ else none
     else
      bif Nat.blt pc 276 then
       bif Nat.blt pc 275 then
        if h : pc = 274 then some ⟨(.iload_n 3, 275, .inl 0, 0, 0), by subst h; exact ⟨dX9_tells_274, rfl, trivial⟩⟩ else none
       else
        if h : pc = 275 then some ⟨(.iconst 5, 276, .inl 5, 0, 0), by subst h; exact ⟨dX9_tells_275, rfl, ⟨5, rfl, by decide⟩⟩⟩ else none
      else
       bif Nat.blt pc 279 then
        if h : pc = 276 then some ⟨(.if_icmp .ne 8, 279, .inl 0, 284, 0), by subst h; exact ⟨dX9_tells_276, rfl, (show ((276 : Nat) : Int) + (8) = ((284 : Nat) : Int) by decide)⟩⟩ else none
       else
        bif Nat.blt pc 281 then
         if h : pc = 279 then some ⟨(.iload 8, 281, .inl 0, 0, 0), by subst h; exact ⟨dX9_tells_279, rfl, trivial⟩⟩ else none
        else
         if h : pc = 281 then some ⟨(.goto 21, 284, .inl 0, 302, 0), by subst h; exact ⟨dX9_tells_281, rfl, (show ((281 : Nat) : Int) + (21) = ((302 : Nat) : Int) by decide)⟩⟩ else none
    else
     bif Nat.blt pc 292 then
      bif Nat.blt pc 286 then
       bif Nat.blt pc 285 then
        if h : pc = 284 then some ⟨(.iload_n 3, 285, .inl 0, 0, 0), by subst h; exact ⟨dX9_tells_284, rfl, trivial⟩⟩ else none
       else
        if h : pc = 285 then some ⟨(.iconst 4, 286, .inl 4, 0, 0), by subst h; exact ⟨dX9_tells_285, rfl, ⟨4, rfl, by decide⟩⟩⟩ else none
      else
       bif Nat.blt pc 289 then
        if h : pc = 286 then some ⟨(.if_icmp .eq 9, 289, .inl 0, 295, 0), by subst h; exact ⟨dX9_tells_286, rfl, (show ((286 : Nat) : Int) + (9) = ((295 : Nat) : Int) by decide)⟩⟩ else none
       else
        bif Nat.blt pc 290 then
         if h : pc = 289 then some ⟨(.iload_n 3, 290, .inl 0, 0, 0), by subst h; exact ⟨dX9_tells_289, rfl, trivial⟩⟩ else none
        else
         if h : pc = 290 then some ⟨(.bipush 6, 292, .inl 6, 0, 0), by subst h; exact ⟨dX9_tells_290, rfl, ⟨6, rfl, by decide⟩⟩⟩ else none
     else
      bif Nat.blt pc 297 then
       bif Nat.blt pc 295 then
        if h : pc = 292 then some ⟨(.if_icmp .ne 8, 295, .inl 0, 300, 0), by subst h; exact ⟨dX9_tells_292, rfl, (show ((292 : Nat) : Int) + (8) = ((300 : Nat) : Int) by decide)⟩⟩ else none
       else
        if h : pc = 295 then some ⟨(.iload 9, 297, .inl 0, 0, 0), by subst h; exact ⟨dX9_tells_295, rfl, trivial⟩⟩ else none
      else
       bif Nat.blt pc 300 then
        if h : pc = 297 then some ⟨(.goto 5, 300, .inl 0, 302, 0), by subst h; exact ⟨dX9_tells_297, rfl, (show ((297 : Nat) : Int) + (5) = ((302 : Nat) : Int) by decide)⟩⟩ else none
       else
        bif Nat.blt pc 302 then
         if h : pc = 300 then some ⟨(.iload 7, 302, .inl 0, 0, 0), by subst h; exact ⟨dX9_tells_300, rfl, trivial⟩⟩ else none
        else
         if h : pc = 302 then some ⟨(.ireturn, 303, .inl 0, 0, 0), by subst h; exact ⟨dX9_tells_302, rfl, rfl⟩⟩ else none

noncomputable def mt91 (pc : Nat) : Option {e : mE // mOK yX9_isSheet cX9_isSheet 1 ((Option.some ClassFile.FieldType.boolean)) pc e} :=
 bif Nat.blt pc 3 then
  bif Nat.blt pc 1 then
   if h : pc = 0 then some ⟨(.iload_n 0, 1, .inl 0, 0, 0), by subst h; exact ⟨dX9_isSheet_0, rfl, trivial⟩⟩ else none
  else
   bif Nat.blt pc 2 then
    if h : pc = 1 then some ⟨(.i2l, 2, .inl 0, 0, 0), by subst h; exact ⟨dX9_isSheet_1, rfl, trivial⟩⟩ else none
   else
    if h : pc = 2 then some ⟨(.lconst 0, 3, .inr (.inl 0), 0, 0), by subst h; exact ⟨dX9_isSheet_2, rfl, ⟨0, rfl, by decide⟩⟩⟩ else none
 else
  bif Nat.blt pc 6 then
   if h : pc = 3 then some ⟨(.ldc2_w 377, 6, .inr (.inl 3), 0, 0), by subst h; exact ⟨dX9_isSheet_3, rfl, ⟨_, rfl, q1804⟩⟩⟩ else none
  else
   bif Nat.blt pc 9 then
    if h : pc = 6 then some ⟨(.invokestatic 67, 9, .inl 0, 3, 0), by subst h; exact ⟨dX9_isSheet_6, rfl, Or.inl ⟨by decide, q1482, q1483⟩⟩⟩ else none
   else
    if h : pc = 9 then some ⟨(.ireturn, 10, .inl 0, 1, 0), by subst h; exact ⟨dX9_isSheet_9, rfl, rfl⟩⟩ else none

noncomputable def mt92 (pc : Nat) : Option {e : mE // mOK yX9_firstOther cX9_firstOther 4 ((Option.some ClassFile.FieldType.int)) pc e} :=
 bif Nat.blt pc 31 then
  bif Nat.blt pc 13 then
   bif Nat.blt pc 6 then
    bif Nat.blt pc 4 then
     bif Nat.blt pc 1 then
      if h : pc = 0 then some ⟨(.aload_n 0, 1, .inl 0, 0, 0), by subst h; exact ⟨dX9_firstOther_0, rfl, trivial⟩⟩ else none
     else
      if h : pc = 1 then some ⟨(.invokevirtual 355, 4, .inl 0, 75, 14), by subst h; exact ⟨dX9_firstOther_1, rfl, ⟨by decide, q1780, q1782, qs116, _, rfl, rfl⟩⟩⟩ else none
    else
     bif Nat.blt pc 5 then
      if h : pc = 4 then some ⟨(.iconst (-1), 5, .inl (-1), 0, 0), by subst h; exact ⟨dX9_firstOther_4, rfl, ⟨(-1), rfl, by decide⟩⟩⟩ else none
     else
      if h : pc = 5 then some ⟨(.istore_n 2, 6, .inl 0, 0, 0), by subst h; exact ⟨dX9_firstOther_5, rfl, (show (2 : Nat) < 4 by decide)⟩⟩ else none
   else
    bif Nat.blt pc 8 then
     bif Nat.blt pc 7 then
      if h : pc = 6 then some ⟨(.iconst 0, 7, .inl 0, 0, 0), by subst h; exact ⟨dX9_firstOther_6, rfl, ⟨0, rfl, by decide⟩⟩⟩ else none
     else
      if h : pc = 7 then some ⟨(.istore_n 3, 8, .inl 0, 0, 0), by subst h; exact ⟨dX9_firstOther_7, rfl, (show (3 : Nat) < 4 by decide)⟩⟩ else none
    else
     bif Nat.blt pc 9 then
      if h : pc = 8 then some ⟨(.iload_n 3, 9, .inl 0, 0, 0), by subst h; exact ⟨dX9_firstOther_8, rfl, trivial⟩⟩ else none
     else
      bif Nat.blt pc 10 then
       if h : pc = 9 then some ⟨(.aload_n 0, 10, .inl 0, 0, 0), by subst h; exact ⟨dX9_firstOther_9, rfl, trivial⟩⟩ else none
      else
       if h : pc = 10 then some ⟨(.getfield 51, 13, .inr (.inr none), 37, 14), by subst h; exact ⟨dX9_firstOther_10, rfl, ⟨⟨_, rfl, by decide, _, Or.inl q1395, Or.inl rfl⟩, (show mKd 14 37 = 6 by rfl)⟩⟩⟩ else none
  else
   bif Nat.blt pc 20 then
    bif Nat.blt pc 15 then
     bif Nat.blt pc 14 then
      if h : pc = 13 then some ⟨(.iload_n 1, 14, .inl 0, 0, 0), by subst h; exact ⟨dX9_firstOther_13, rfl, trivial⟩⟩ else none
     else
      if h : pc = 14 then some ⟨(.iaload, 15, .inl 0, 0, 0), by subst h; exact ⟨dX9_firstOther_14, rfl, trivial⟩⟩ else none
    else
     bif Nat.blt pc 18 then
      if h : pc = 15 then some ⟨(.if_icmp .ge 42, 18, .inl 0, 57, 0), by subst h; exact ⟨dX9_firstOther_15, rfl, (show ((15 : Nat) : Int) + (42) = ((57 : Nat) : Int) by decide)⟩⟩ else none
     else
      bif Nat.blt pc 19 then
       if h : pc = 18 then some ⟨(.iload_n 2, 19, .inl 0, 0, 0), by subst h; exact ⟨dX9_firstOther_18, rfl, trivial⟩⟩ else none
      else
       if h : pc = 19 then some ⟨(.iconst (-1), 20, .inl (-1), 0, 0), by subst h; exact ⟨dX9_firstOther_19, rfl, ⟨(-1), rfl, by decide⟩⟩⟩ else none
   else
    bif Nat.blt pc 24 then
     bif Nat.blt pc 23 then
      if h : pc = 20 then some ⟨(.if_icmp .ne 37, 23, .inl 0, 57, 0), by subst h; exact ⟨dX9_firstOther_20, rfl, (show ((20 : Nat) : Int) + (37) = ((57 : Nat) : Int) by decide)⟩⟩ else none
     else
      if h : pc = 23 then some ⟨(.aload_n 0, 24, .inl 0, 0, 0), by subst h; exact ⟨dX9_firstOther_23, rfl, trivial⟩⟩ else none
    else
     bif Nat.blt pc 27 then
      if h : pc = 24 then some ⟨(.invokevirtual 352, 27, .inl 0, 72, 14), by subst h; exact ⟨dX9_firstOther_24, rfl, ⟨by decide, q1768, q1770, qs115, _, rfl, rfl⟩⟩⟩ else none
     else
      bif Nat.blt pc 28 then
       if h : pc = 27 then some ⟨(.aload_n 0, 28, .inl 0, 0, 0), by subst h; exact ⟨dX9_firstOther_27, rfl, trivial⟩⟩ else none
      else
       if h : pc = 28 then some ⟨(.getfield 95, 31, .inl 0, 8, 14), by subst h; exact ⟨dX9_firstOther_28, rfl, ⟨⟨_, rfl, by decide, _, Or.inl q1366, Or.inl rfl⟩, (show mKd 14 8 ≤ 4 by decide)⟩⟩⟩ else none
 else
  bif Nat.blt pc 45 then
   bif Nat.blt pc 38 then
    bif Nat.blt pc 35 then
     bif Nat.blt pc 32 then
      if h : pc = 31 then some ⟨(.aload_n 0, 32, .inl 0, 0, 0), by subst h; exact ⟨dX9_firstOther_31, rfl, trivial⟩⟩ else none
     else
      if h : pc = 32 then some ⟨(.getfield 54, 35, .inr (.inr none), 38, 14), by subst h; exact ⟨dX9_firstOther_32, rfl, ⟨⟨_, rfl, by decide, _, Or.inl q1396, Or.inl rfl⟩, (show mKd 14 38 = 6 by rfl)⟩⟩⟩ else none
    else
     bif Nat.blt pc 37 then
      if h : pc = 35 then some ⟨(.bipush 40, 37, .inl 40, 0, 0), by subst h; exact ⟨dX9_firstOther_35, rfl, ⟨40, rfl, by decide⟩⟩⟩ else none
     else
      if h : pc = 37 then some ⟨(.iload_n 1, 38, .inl 0, 0, 0), by subst h; exact ⟨dX9_firstOther_37, rfl, trivial⟩⟩ else none
   else
    bif Nat.blt pc 40 then
     bif Nat.blt pc 39 then
      if h : pc = 38 then some ⟨(.imul, 39, .inl 0, 0, 0), by subst h; exact ⟨dX9_firstOther_38, rfl, trivial⟩⟩ else none
     else
      if h : pc = 39 then some ⟨(.iload_n 3, 40, .inl 0, 0, 0), by subst h; exact ⟨dX9_firstOther_39, rfl, trivial⟩⟩ else none
    else
     bif Nat.blt pc 41 then
      if h : pc = 40 then some ⟨(.iadd, 41, .inl 0, 0, 0), by subst h; exact ⟨dX9_firstOther_40, rfl, trivial⟩⟩ else none
     else
      bif Nat.blt pc 42 then
       if h : pc = 41 then some ⟨(.iaload, 42, .inl 0, 0, 0), by subst h; exact ⟨dX9_firstOther_41, rfl, trivial⟩⟩ else none
      else
       if h : pc = 42 then some ⟨(.if_icmp .ne 7, 45, .inl 0, 49, 0), by subst h; exact ⟨dX9_firstOther_42, rfl, (show ((42 : Nat) : Int) + (7) = ((49 : Nat) : Int) by decide)⟩⟩ else none
  else
   bif Nat.blt pc 54 then
    bif Nat.blt pc 49 then
     bif Nat.blt pc 46 then
      if h : pc = 45 then some ⟨(.iconst (-1), 46, .inl (-1), 0, 0), by subst h; exact ⟨dX9_firstOther_45, rfl, ⟨(-1), rfl, by decide⟩⟩⟩ else none
     else
      if h : pc = 46 then some ⟨(.goto 4, 49, .inl 0, 50, 0), by subst h; exact ⟨dX9_firstOther_46, rfl, (show ((46 : Nat) : Int) + (4) = ((50 : Nat) : Int) by decide)⟩⟩ else none
    else
     bif Nat.blt pc 50 then
      if h : pc = 49 then some ⟨(.iload_n 3, 50, .inl 0, 0, 0), by subst h; exact ⟨dX9_firstOther_49, rfl, trivial⟩⟩ else none
     else
      bif Nat.blt pc 51 then
       if h : pc = 50 then some ⟨(.istore_n 2, 51, .inl 0, 0, 0), by subst h; exact ⟨dX9_firstOther_50, rfl, (show (2 : Nat) < 4 by decide)⟩⟩ else none
      else
       if h : pc = 51 then some ⟨(.iinc 3 1, 54, .inl 1, 0, 0), by subst h; exact ⟨dX9_firstOther_51, rfl, ⟨(show (3 : Nat) < 4 by decide), 1, rfl, by decide⟩⟩⟩ else none
   else
    bif Nat.blt pc 58 then
     bif Nat.blt pc 57 then
      if h : pc = 54 then some ⟨(.goto (-46), 57, .inl 0, 8, 0), by subst h; exact ⟨dX9_firstOther_54, rfl, (show ((54 : Nat) : Int) + ((-46)) = ((8 : Nat) : Int) by decide)⟩⟩ else none
     else
      if h : pc = 57 then some ⟨(.aload_n 0, 58, .inl 0, 0, 0), by subst h; exact ⟨dX9_firstOther_57, rfl, trivial⟩⟩ else none
    else
     bif Nat.blt pc 61 then
      if h : pc = 58 then some ⟨(.invokevirtual 362, 61, .inl 0, 77, 14), by subst h; exact ⟨dX9_firstOther_58, rfl, ⟨by decide, q1788, q1790, qs118, _, rfl, rfl⟩⟩⟩ else none
     else
      bif Nat.blt pc 62 then
       if h : pc = 61 then some ⟨(.iload_n 2, 62, .inl 0, 0, 0), by subst h; exact ⟨dX9_firstOther_61, rfl, trivial⟩⟩ else none
      else
       if h : pc = 62 then some ⟨(.ireturn, 63, .inl 0, 0, 0), by subst h; exact ⟨dX9_firstOther_62, rfl, rfl⟩⟩ else none

noncomputable def mt93 (pc : Nat) : Option {e : mE // mOK yX9_turnedSet cX9_turnedSet 4 ((Option.some ClassFile.FieldType.int)) pc e} :=
 bif Nat.blt pc 32 then
  bif Nat.blt pc 18 then
   bif Nat.blt pc 6 then
    bif Nat.blt pc 3 then
     bif Nat.blt pc 1 then
      if h : pc = 0 then some ⟨(.iconst 0, 1, .inl 0, 0, 0), by subst h; exact ⟨dX9_turnedSet_0, rfl, ⟨0, rfl, by decide⟩⟩⟩ else none
     else
      bif Nat.blt pc 2 then
       if h : pc = 1 then some ⟨(.istore_n 2, 2, .inl 0, 0, 0), by subst h; exact ⟨dX9_turnedSet_1, rfl, (show (2 : Nat) < 4 by decide)⟩⟩ else none
      else
       if h : pc = 2 then some ⟨(.iconst 0, 3, .inl 0, 0, 0), by subst h; exact ⟨dX9_turnedSet_2, rfl, ⟨0, rfl, by decide⟩⟩⟩ else none
    else
     bif Nat.blt pc 4 then
      if h : pc = 3 then some ⟨(.istore_n 3, 4, .inl 0, 0, 0), by subst h; exact ⟨dX9_turnedSet_3, rfl, (show (3 : Nat) < 4 by decide)⟩⟩ else none
     else
      bif Nat.blt pc 5 then
       if h : pc = 4 then some ⟨(.iload_n 3, 5, .inl 0, 0, 0), by subst h; exact ⟨dX9_turnedSet_4, rfl, trivial⟩⟩ else none
      else
       if h : pc = 5 then some ⟨(.aload_n 0, 6, .inl 0, 0, 0), by subst h; exact ⟨dX9_turnedSet_5, rfl, trivial⟩⟩ else none
   else
    bif Nat.blt pc 13 then
     bif Nat.blt pc 9 then
      if h : pc = 6 then some ⟨(.getfield 64, 9, .inl 0, 11, 14), by subst h; exact ⟨dX9_turnedSet_6, rfl, ⟨⟨_, rfl, by decide, _, Or.inl q1369, Or.inl rfl⟩, (show mKd 14 11 ≤ 4 by decide)⟩⟩⟩ else none
     else
      bif Nat.blt pc 12 then
       if h : pc = 9 then some ⟨(.if_icmp .ge 56, 12, .inl 0, 65, 0), by subst h; exact ⟨dX9_turnedSet_9, rfl, (show ((9 : Nat) : Int) + (56) = ((65 : Nat) : Int) by decide)⟩⟩ else none
      else
       if h : pc = 12 then some ⟨(.aload_n 0, 13, .inl 0, 0, 0), by subst h; exact ⟨dX9_turnedSet_12, rfl, trivial⟩⟩ else none
    else
     bif Nat.blt pc 16 then
      if h : pc = 13 then some ⟨(.getfield 26, 16, .inr (.inr none), 10, 14), by subst h; exact ⟨dX9_turnedSet_13, rfl, ⟨⟨_, rfl, by decide, _, Or.inl q1368, Or.inl rfl⟩, (show mKd 14 10 = 6 by rfl)⟩⟩⟩ else none
     else
      bif Nat.blt pc 17 then
       if h : pc = 16 then some ⟨(.iconst 5, 17, .inl 5, 0, 0), by subst h; exact ⟨dX9_turnedSet_16, rfl, ⟨5, rfl, by decide⟩⟩⟩ else none
      else
       if h : pc = 17 then some ⟨(.iload_n 3, 18, .inl 0, 0, 0), by subst h; exact ⟨dX9_turnedSet_17, rfl, trivial⟩⟩ else none
  else
   bif Nat.blt pc 24 then
    bif Nat.blt pc 21 then
     bif Nat.blt pc 19 then
      if h : pc = 18 then some ⟨(.imul, 19, .inl 0, 0, 0), by subst h; exact ⟨dX9_turnedSet_18, rfl, trivial⟩⟩ else none
     else
      bif Nat.blt pc 20 then
       if h : pc = 19 then some ⟨(.iconst 3, 20, .inl 3, 0, 0), by subst h; exact ⟨dX9_turnedSet_19, rfl, ⟨3, rfl, by decide⟩⟩⟩ else none
      else
       if h : pc = 20 then some ⟨(.iadd, 21, .inl 0, 0, 0), by subst h; exact ⟨dX9_turnedSet_20, rfl, trivial⟩⟩ else none
    else
     bif Nat.blt pc 22 then
      if h : pc = 21 then some ⟨(.dup2, 22, .inl 0, 0, 0), by subst h; exact ⟨dX9_turnedSet_21, rfl, trivial⟩⟩ else none
     else
      bif Nat.blt pc 23 then
       if h : pc = 22 then some ⟨(.iaload, 23, .inl 0, 0, 0), by subst h; exact ⟨dX9_turnedSet_22, rfl, trivial⟩⟩ else none
      else
       if h : pc = 23 then some ⟨(.iconst 1, 24, .inl 1, 0, 0), by subst h; exact ⟨dX9_turnedSet_23, rfl, ⟨1, rfl, by decide⟩⟩⟩ else none
   else
    bif Nat.blt pc 27 then
     bif Nat.blt pc 25 then
      if h : pc = 24 then some ⟨(.ixor, 25, .inl 0, 0, 0), by subst h; exact ⟨dX9_turnedSet_24, rfl, trivial⟩⟩ else none
     else
      bif Nat.blt pc 26 then
       if h : pc = 25 then some ⟨(.iastore, 26, .inl 0, 0, 0), by subst h; exact ⟨dX9_turnedSet_25, rfl, trivial⟩⟩ else none
      else
       if h : pc = 26 then some ⟨(.iload_n 2, 27, .inl 0, 0, 0), by subst h; exact ⟨dX9_turnedSet_26, rfl, trivial⟩⟩ else none
    else
     bif Nat.blt pc 28 then
      if h : pc = 27 then some ⟨(.aload_n 0, 28, .inl 0, 0, 0), by subst h; exact ⟨dX9_turnedSet_27, rfl, trivial⟩⟩ else none
     else
      bif Nat.blt pc 29 then
       if h : pc = 28 then some ⟨(.iload_n 1, 29, .inl 0, 0, 0), by subst h; exact ⟨dX9_turnedSet_28, rfl, trivial⟩⟩ else none
      else
       if h : pc = 29 then some ⟨(.invokevirtual 392, 32, .inl 0, 92, 14), by subst h; exact ⟨dX9_turnedSet_29, rfl, ⟨by decide, q1850, q1852, qs125, _, rfl, rfl⟩⟩⟩ else none
 else
  bif Nat.blt pc 50 then
   bif Nat.blt pc 42 then
    bif Nat.blt pc 37 then
     bif Nat.blt pc 33 then
      if h : pc = 32 then some ⟨(.iconst (-1), 33, .inl (-1), 0, 0), by subst h; exact ⟨dX9_turnedSet_32, rfl, ⟨(-1), rfl, by decide⟩⟩⟩ else none
     else
      bif Nat.blt pc 36 then
       if h : pc = 33 then some ⟨(.if_icmp .ne 7, 36, .inl 0, 40, 0), by subst h; exact ⟨dX9_turnedSet_33, rfl, (show ((33 : Nat) : Int) + (7) = ((40 : Nat) : Int) by decide)⟩⟩ else none
      else
       if h : pc = 36 then some ⟨(.iconst 1, 37, .inl 1, 0, 0), by subst h; exact ⟨dX9_turnedSet_36, rfl, ⟨1, rfl, by decide⟩⟩⟩ else none
    else
     bif Nat.blt pc 40 then
      if h : pc = 37 then some ⟨(.goto 4, 40, .inl 0, 41, 0), by subst h; exact ⟨dX9_turnedSet_37, rfl, (show ((37 : Nat) : Int) + (4) = ((41 : Nat) : Int) by decide)⟩⟩ else none
     else
      bif Nat.blt pc 41 then
       if h : pc = 40 then some ⟨(.iconst 0, 41, .inl 0, 0, 0), by subst h; exact ⟨dX9_turnedSet_40, rfl, ⟨0, rfl, by decide⟩⟩⟩ else none
      else
       if h : pc = 41 then some ⟨(.iload_n 3, 42, .inl 0, 0, 0), by subst h; exact ⟨dX9_turnedSet_41, rfl, trivial⟩⟩ else none
   else
    bif Nat.blt pc 45 then
     bif Nat.blt pc 43 then
      if h : pc = 42 then some ⟨(.ishl, 43, .inl 0, 0, 0), by subst h; exact ⟨dX9_turnedSet_42, rfl, trivial⟩⟩ else none
     else
      bif Nat.blt pc 44 then
       if h : pc = 43 then some ⟨(.ior, 44, .inl 0, 0, 0), by subst h; exact ⟨dX9_turnedSet_43, rfl, trivial⟩⟩ else none
      else
       if h : pc = 44 then some ⟨(.istore_n 2, 45, .inl 0, 0, 0), by subst h; exact ⟨dX9_turnedSet_44, rfl, (show (2 : Nat) < 4 by decide)⟩⟩ else none
    else
     bif Nat.blt pc 46 then
      if h : pc = 45 then some ⟨(.aload_n 0, 46, .inl 0, 0, 0), by subst h; exact ⟨dX9_turnedSet_45, rfl, trivial⟩⟩ else none
     else
      bif Nat.blt pc 49 then
       if h : pc = 46 then some ⟨(.getfield 26, 49, .inr (.inr none), 10, 14), by subst h; exact ⟨dX9_turnedSet_46, rfl, ⟨⟨_, rfl, by decide, _, Or.inl q1368, Or.inl rfl⟩, (show mKd 14 10 = 6 by rfl)⟩⟩⟩ else none
      else
       if h : pc = 49 then some ⟨(.iconst 5, 50, .inl 5, 0, 0), by subst h; exact ⟨dX9_turnedSet_49, rfl, ⟨5, rfl, by decide⟩⟩⟩ else none
  else
   bif Nat.blt pc 56 then
    bif Nat.blt pc 53 then
     bif Nat.blt pc 51 then
      if h : pc = 50 then some ⟨(.iload_n 3, 51, .inl 0, 0, 0), by subst h; exact ⟨dX9_turnedSet_50, rfl, trivial⟩⟩ else none
     else
      bif Nat.blt pc 52 then
       if h : pc = 51 then some ⟨(.imul, 52, .inl 0, 0, 0), by subst h; exact ⟨dX9_turnedSet_51, rfl, trivial⟩⟩ else none
      else
       if h : pc = 52 then some ⟨(.iconst 3, 53, .inl 3, 0, 0), by subst h; exact ⟨dX9_turnedSet_52, rfl, ⟨3, rfl, by decide⟩⟩⟩ else none
    else
     bif Nat.blt pc 54 then
      if h : pc = 53 then some ⟨(.iadd, 54, .inl 0, 0, 0), by subst h; exact ⟨dX9_turnedSet_53, rfl, trivial⟩⟩ else none
     else
      bif Nat.blt pc 55 then
       if h : pc = 54 then some ⟨(.dup2, 55, .inl 0, 0, 0), by subst h; exact ⟨dX9_turnedSet_54, rfl, trivial⟩⟩ else none
      else
       if h : pc = 55 then some ⟨(.iaload, 56, .inl 0, 0, 0), by subst h; exact ⟨dX9_turnedSet_55, rfl, trivial⟩⟩ else none
   else
    bif Nat.blt pc 59 then
     bif Nat.blt pc 57 then
      if h : pc = 56 then some ⟨(.iconst 1, 57, .inl 1, 0, 0), by subst h; exact ⟨dX9_turnedSet_56, rfl, ⟨1, rfl, by decide⟩⟩⟩ else none
     else
      bif Nat.blt pc 58 then
       if h : pc = 57 then some ⟨(.ixor, 58, .inl 0, 0, 0), by subst h; exact ⟨dX9_turnedSet_57, rfl, trivial⟩⟩ else none
      else
       if h : pc = 58 then some ⟨(.iastore, 59, .inl 0, 0, 0), by subst h; exact ⟨dX9_turnedSet_58, rfl, trivial⟩⟩ else none
    else
     bif Nat.blt pc 65 then
      bif Nat.blt pc 62 then
       if h : pc = 59 then some ⟨(.iinc 3 1, 62, .inl 1, 0, 0), by subst h; exact ⟨dX9_turnedSet_59, rfl, ⟨(show (3 : Nat) < 4 by decide), 1, rfl, by decide⟩⟩⟩ else none
      else
       if h : pc = 62 then some ⟨(.goto (-58), 65, .inl 0, 4, 0), by subst h; exact ⟨dX9_turnedSet_62, rfl, (show ((62 : Nat) : Int) + ((-58)) = ((4 : Nat) : Int) by decide)⟩⟩ else none
     else
      bif Nat.blt pc 66 then
       if h : pc = 65 then some ⟨(.iload_n 2, 66, .inl 0, 0, 0), by subst h; exact ⟨dX9_turnedSet_65, rfl, trivial⟩⟩ else none
      else
       if h : pc = 66 then some ⟨(.ireturn, 67, .inl 0, 0, 0), by subst h; exact ⟨dX9_turnedSet_66, rfl, rfl⟩⟩ else none

noncomputable def mt94 (pc : Nat) : Option {e : mE // mOK yX9_film cX9_film 4 ((Option.some ClassFile.FieldType.int)) pc e} :=
 bif Nat.blt pc 36 then
  bif Nat.blt pc 21 then
   bif Nat.blt pc 9 then
    bif Nat.blt pc 4 then
     bif Nat.blt pc 1 then
      if h : pc = 0 then some ⟨(.iload_n 1, 1, .inl 0, 0, 0), by subst h; exact ⟨dX9_film_0, rfl, trivial⟩⟩ else none
     else
      if h : pc = 1 then some ⟨(.invokestatic 395, 4, .inl 0, 91, 0), by subst h; exact ⟨dX9_film_1, rfl, Or.inl ⟨by decide, q1846, q1847⟩⟩⟩ else none
    else
     bif Nat.blt pc 7 then
      if h : pc = 4 then some ⟨(.ifCond .eq 15, 7, .inl 0, 19, 0), by subst h; exact ⟨dX9_film_4, rfl, (show ((4 : Nat) : Int) + (15) = ((19 : Nat) : Int) by decide)⟩⟩ else none
     else
      bif Nat.blt pc 8 then
       if h : pc = 7 then some ⟨(.iload_n 2, 8, .inl 0, 0, 0), by subst h; exact ⟨dX9_film_7, rfl, trivial⟩⟩ else none
      else
       if h : pc = 8 then some ⟨(.i2l, 9, .inl 0, 0, 0), by subst h; exact ⟨dX9_film_8, rfl, trivial⟩⟩ else none
   else
    bif Nat.blt pc 13 then
     bif Nat.blt pc 10 then
      if h : pc = 9 then some ⟨(.lconst 0, 10, .inr (.inl 0), 0, 0), by subst h; exact ⟨dX9_film_9, rfl, ⟨0, rfl, by decide⟩⟩⟩ else none
     else
      if h : pc = 10 then some ⟨(.ldc2_w 403, 13, .inr (.inl 20), 0, 0), by subst h; exact ⟨dX9_film_10, rfl, ⟨_, rfl, q1862⟩⟩⟩ else none
    else
     bif Nat.blt pc 16 then
      if h : pc = 13 then some ⟨(.invokestatic 67, 16, .inl 0, 3, 0), by subst h; exact ⟨dX9_film_13, rfl, Or.inl ⟨by decide, q1482, q1483⟩⟩⟩ else none
     else
      bif Nat.blt pc 19 then
       if h : pc = 16 then some ⟨(.ifCond .ne 6, 19, .inl 0, 22, 0), by subst h; exact ⟨dX9_film_16, rfl, (show ((16 : Nat) : Int) + (6) = ((22 : Nat) : Int) by decide)⟩⟩ else none
      else
       if h : pc = 19 then some ⟨(.bipush (-2), 21, .inl (-2), 0, 0), by subst h; exact ⟨dX9_film_19, rfl, ⟨(-2), rfl, by decide⟩⟩⟩ else none
  else
   bif Nat.blt pc 26 then
    bif Nat.blt pc 23 then
     bif Nat.blt pc 22 then
      if h : pc = 21 then some ⟨(.ireturn, 22, .inl 0, 0, 0), by subst h; exact ⟨dX9_film_21, rfl, rfl⟩⟩ else none
     else
      if h : pc = 22 then some ⟨(.aload_n 0, 23, .inl 0, 0, 0), by subst h; exact ⟨dX9_film_22, rfl, trivial⟩⟩ else none
    else
     bif Nat.blt pc 24 then
      if h : pc = 23 then some ⟨(.iload_n 1, 24, .inl 0, 0, 0), by subst h; exact ⟨dX9_film_23, rfl, trivial⟩⟩ else none
     else
      bif Nat.blt pc 25 then
       if h : pc = 24 then some ⟨(.iconst 0, 25, .inl 0, 0, 0), by subst h; exact ⟨dX9_film_24, rfl, ⟨0, rfl, by decide⟩⟩⟩ else none
      else
       if h : pc = 25 then some ⟨(.iload_n 2, 26, .inl 0, 0, 0), by subst h; exact ⟨dX9_film_25, rfl, trivial⟩⟩ else none
   else
    bif Nat.blt pc 31 then
     bif Nat.blt pc 29 then
      if h : pc = 26 then some ⟨(.invokevirtual 405, 29, .inl 0, 95, 14), by subst h; exact ⟨dX9_film_26, rfl, ⟨by decide, q1863, q1864, q1865, _, rfl, rfl⟩⟩⟩ else none
     else
      bif Nat.blt pc 30 then
       if h : pc = 29 then some ⟨(.pop, 30, .inl 0, 0, 0), by subst h; exact ⟨dX9_film_29, rfl, trivial⟩⟩ else none
      else
       if h : pc = 30 then some ⟨(.aload_n 0, 31, .inl 0, 0, 0), by subst h; exact ⟨dX9_film_30, rfl, trivial⟩⟩ else none
    else
     bif Nat.blt pc 34 then
      if h : pc = 31 then some ⟨(.invokevirtual 355, 34, .inl 0, 75, 14), by subst h; exact ⟨dX9_film_31, rfl, ⟨by decide, q1780, q1782, qs116, _, rfl, rfl⟩⟩⟩ else none
     else
      bif Nat.blt pc 35 then
       if h : pc = 34 then some ⟨(.iconst 0, 35, .inl 0, 0, 0), by subst h; exact ⟨dX9_film_34, rfl, ⟨0, rfl, by decide⟩⟩⟩ else none
      else
       if h : pc = 35 then some ⟨(.istore_n 3, 36, .inl 0, 0, 0), by subst h; exact ⟨dX9_film_35, rfl, (show (3 : Nat) < 4 by decide)⟩⟩ else none
 else
  bif Nat.blt pc 53 then
   bif Nat.blt pc 45 then
    bif Nat.blt pc 38 then
     bif Nat.blt pc 37 then
      if h : pc = 36 then some ⟨(.iload_n 3, 37, .inl 0, 0, 0), by subst h; exact ⟨dX9_film_36, rfl, trivial⟩⟩ else none
     else
      if h : pc = 37 then some ⟨(.iload_n 2, 38, .inl 0, 0, 0), by subst h; exact ⟨dX9_film_37, rfl, trivial⟩⟩ else none
    else
     bif Nat.blt pc 41 then
      if h : pc = 38 then some ⟨(.if_icmp .ge 28, 41, .inl 0, 66, 0), by subst h; exact ⟨dX9_film_38, rfl, (show ((38 : Nat) : Int) + (28) = ((66 : Nat) : Int) by decide)⟩⟩ else none
     else
      bif Nat.blt pc 42 then
       if h : pc = 41 then some ⟨(.aload_n 0, 42, .inl 0, 0, 0), by subst h; exact ⟨dX9_film_41, rfl, trivial⟩⟩ else none
      else
       if h : pc = 42 then some ⟨(.invokevirtual 352, 45, .inl 0, 72, 14), by subst h; exact ⟨dX9_film_42, rfl, ⟨by decide, q1768, q1770, qs115, _, rfl, rfl⟩⟩⟩ else none
   else
    bif Nat.blt pc 49 then
     bif Nat.blt pc 46 then
      if h : pc = 45 then some ⟨(.aload_n 0, 46, .inl 0, 0, 0), by subst h; exact ⟨dX9_film_45, rfl, trivial⟩⟩ else none
     else
      if h : pc = 46 then some ⟨(.getfield 54, 49, .inr (.inr none), 38, 14), by subst h; exact ⟨dX9_film_46, rfl, ⟨⟨_, rfl, by decide, _, Or.inl q1396, Or.inl rfl⟩, (show mKd 14 38 = 6 by rfl)⟩⟩⟩ else none
    else
     bif Nat.blt pc 51 then
      if h : pc = 49 then some ⟨(.bipush 40, 51, .inl 40, 0, 0), by subst h; exact ⟨dX9_film_49, rfl, ⟨40, rfl, by decide⟩⟩⟩ else none
     else
      bif Nat.blt pc 52 then
       if h : pc = 51 then some ⟨(.iload_n 1, 52, .inl 0, 0, 0), by subst h; exact ⟨dX9_film_51, rfl, trivial⟩⟩ else none
      else
       if h : pc = 52 then some ⟨(.imul, 53, .inl 0, 0, 0), by subst h; exact ⟨dX9_film_52, rfl, trivial⟩⟩ else none
  else
   bif Nat.blt pc 60 then
    bif Nat.blt pc 55 then
     bif Nat.blt pc 54 then
      if h : pc = 53 then some ⟨(.iload_n 3, 54, .inl 0, 0, 0), by subst h; exact ⟨dX9_film_53, rfl, trivial⟩⟩ else none
     else
      if h : pc = 54 then some ⟨(.iadd, 55, .inl 0, 0, 0), by subst h; exact ⟨dX9_film_54, rfl, trivial⟩⟩ else none
    else
     bif Nat.blt pc 56 then
      if h : pc = 55 then some ⟨(.aload_n 0, 56, .inl 0, 0, 0), by subst h; exact ⟨dX9_film_55, rfl, trivial⟩⟩ else none
     else
      bif Nat.blt pc 59 then
       if h : pc = 56 then some ⟨(.getfield 95, 59, .inl 0, 8, 14), by subst h; exact ⟨dX9_film_56, rfl, ⟨⟨_, rfl, by decide, _, Or.inl q1366, Or.inl rfl⟩, (show mKd 14 8 ≤ 4 by decide)⟩⟩⟩ else none
      else
       if h : pc = 59 then some ⟨(.iastore, 60, .inl 0, 0, 0), by subst h; exact ⟨dX9_film_59, rfl, trivial⟩⟩ else none
   else
    bif Nat.blt pc 67 then
     bif Nat.blt pc 63 then
      if h : pc = 60 then some ⟨(.iinc 3 1, 63, .inl 1, 0, 0), by subst h; exact ⟨dX9_film_60, rfl, ⟨(show (3 : Nat) < 4 by decide), 1, rfl, by decide⟩⟩⟩ else none
     else
      bif Nat.blt pc 66 then
       if h : pc = 63 then some ⟨(.goto (-27), 66, .inl 0, 36, 0), by subst h; exact ⟨dX9_film_63, rfl, (show ((63 : Nat) : Int) + ((-27)) = ((36 : Nat) : Int) by decide)⟩⟩ else none
      else
       if h : pc = 66 then some ⟨(.aload_n 0, 67, .inl 0, 0, 0), by subst h; exact ⟨dX9_film_66, rfl, trivial⟩⟩ else none
    else
     bif Nat.blt pc 70 then
      if h : pc = 67 then some ⟨(.invokevirtual 362, 70, .inl 0, 77, 14), by subst h; exact ⟨dX9_film_67, rfl, ⟨by decide, q1788, q1790, qs118, _, rfl, rfl⟩⟩⟩ else none
     else
      bif Nat.blt pc 71 then
       if h : pc = 70 then some ⟨(.iload_n 2, 71, .inl 0, 0, 0), by subst h; exact ⟨dX9_film_70, rfl, trivial⟩⟩ else none
      else
       if h : pc = 71 then some ⟨(.ireturn, 72, .inl 0, 0, 0), by subst h; exact ⟨dX9_film_71, rfl, rfl⟩⟩ else none

noncomputable def mt95 (pc : Nat) : Option {e : mE // mOK yX9_sheet cX9_sheet 5 ((Option.some ClassFile.FieldType.int)) pc e} :=
 bif Nat.blt pc 59 then
  bif Nat.blt pc 33 then
   bif Nat.blt pc 15 then
    bif Nat.blt pc 7 then
     bif Nat.blt pc 1 then
      if h : pc = 0 then some ⟨(.iload_n 1, 1, .inl 0, 0, 0), by subst h; exact ⟨dX9_sheet_0, rfl, trivial⟩⟩ else none
     else
      bif Nat.blt pc 4 then
       if h : pc = 1 then some ⟨(.invokestatic 395, 4, .inl 0, 91, 0), by subst h; exact ⟨dX9_sheet_1, rfl, Or.inl ⟨by decide, q1846, q1847⟩⟩⟩ else none
      else
       if h : pc = 4 then some ⟨(.ifCond .eq 27, 7, .inl 0, 31, 0), by subst h; exact ⟨dX9_sheet_4, rfl, (show ((4 : Nat) : Int) + (27) = ((31 : Nat) : Int) by decide)⟩⟩ else none
    else
     bif Nat.blt pc 9 then
      bif Nat.blt pc 8 then
       if h : pc = 7 then some ⟨(.iload_n 2, 8, .inl 0, 0, 0), by subst h; exact ⟨dX9_sheet_7, rfl, trivial⟩⟩ else none
      else
       if h : pc = 8 then some ⟨(.i2l, 9, .inl 0, 0, 0), by subst h; exact ⟨dX9_sheet_8, rfl, trivial⟩⟩ else none
     else
      bif Nat.blt pc 12 then
       if h : pc = 9 then some ⟨(.ldc2_w 421, 12, .inr (.inl (-1)), 0, 0), by subst h; exact ⟨dX9_sheet_9, rfl, ⟨_, rfl, q1867⟩⟩⟩ else none
      else
       if h : pc = 12 then some ⟨(.ldc2_w 423, 15, .inr (.inl 2), 0, 0), by subst h; exact ⟨dX9_sheet_12, rfl, ⟨_, rfl, q1868⟩⟩⟩ else none
   else
    bif Nat.blt pc 25 then
     bif Nat.blt pc 21 then
      bif Nat.blt pc 18 then
       if h : pc = 15 then some ⟨(.invokestatic 67, 18, .inl 0, 3, 0), by subst h; exact ⟨dX9_sheet_15, rfl, Or.inl ⟨by decide, q1482, q1483⟩⟩⟩ else none
      else
       if h : pc = 18 then some ⟨(.ifCond .eq 13, 21, .inl 0, 31, 0), by subst h; exact ⟨dX9_sheet_18, rfl, (show ((18 : Nat) : Int) + (13) = ((31 : Nat) : Int) by decide)⟩⟩ else none
     else
      bif Nat.blt pc 22 then
       if h : pc = 21 then some ⟨(.iload_n 2, 22, .inl 0, 0, 0), by subst h; exact ⟨dX9_sheet_21, rfl, trivial⟩⟩ else none
      else
       if h : pc = 22 then some ⟨(.ifCond .lt 12, 25, .inl 0, 34, 0), by subst h; exact ⟨dX9_sheet_22, rfl, (show ((22 : Nat) : Int) + (12) = ((34 : Nat) : Int) by decide)⟩⟩ else none
    else
     bif Nat.blt pc 28 then
      bif Nat.blt pc 26 then
       if h : pc = 25 then some ⟨(.iload_n 3, 26, .inl 0, 0, 0), by subst h; exact ⟨dX9_sheet_25, rfl, trivial⟩⟩ else none
      else
       if h : pc = 26 then some ⟨(.bipush 40, 28, .inl 40, 0, 0), by subst h; exact ⟨dX9_sheet_26, rfl, ⟨40, rfl, by decide⟩⟩⟩ else none
     else
      bif Nat.blt pc 31 then
       if h : pc = 28 then some ⟨(.if_icmp .le 6, 31, .inl 0, 34, 0), by subst h; exact ⟨dX9_sheet_28, rfl, (show ((28 : Nat) : Int) + (6) = ((34 : Nat) : Int) by decide)⟩⟩ else none
      else
       if h : pc = 31 then some ⟨(.bipush (-2), 33, .inl (-2), 0, 0), by subst h; exact ⟨dX9_sheet_31, rfl, ⟨(-2), rfl, by decide⟩⟩⟩ else none
  else
   bif Nat.blt pc 45 then
    bif Nat.blt pc 38 then
     bif Nat.blt pc 34 then
      if h : pc = 33 then some ⟨(.ireturn, 34, .inl 0, 0, 0), by subst h; exact ⟨dX9_sheet_33, rfl, rfl⟩⟩ else none
     else
      bif Nat.blt pc 35 then
       if h : pc = 34 then some ⟨(.iload_n 2, 35, .inl 0, 0, 0), by subst h; exact ⟨dX9_sheet_34, rfl, trivial⟩⟩ else none
      else
       if h : pc = 35 then some ⟨(.ifCond .lt 10, 38, .inl 0, 45, 0), by subst h; exact ⟨dX9_sheet_35, rfl, (show ((35 : Nat) : Int) + (10) = ((45 : Nat) : Int) by decide)⟩⟩ else none
    else
     bif Nat.blt pc 42 then
      bif Nat.blt pc 39 then
       if h : pc = 38 then some ⟨(.iload_n 3, 39, .inl 0, 0, 0), by subst h; exact ⟨dX9_sheet_38, rfl, trivial⟩⟩ else none
      else
       if h : pc = 39 then some ⟨(.ifCond .ge 6, 42, .inl 0, 45, 0), by subst h; exact ⟨dX9_sheet_39, rfl, (show ((39 : Nat) : Int) + (6) = ((45 : Nat) : Int) by decide)⟩⟩ else none
     else
      bif Nat.blt pc 44 then
       if h : pc = 42 then some ⟨(.bipush (-14), 44, .inl (-14), 0, 0), by subst h; exact ⟨dX9_sheet_42, rfl, ⟨(-14), rfl, by decide⟩⟩⟩ else none
      else
       if h : pc = 44 then some ⟨(.ireturn, 45, .inl 0, 0, 0), by subst h; exact ⟨dX9_sheet_44, rfl, rfl⟩⟩ else none
   else
    bif Nat.blt pc 51 then
     bif Nat.blt pc 49 then
      bif Nat.blt pc 46 then
       if h : pc = 45 then some ⟨(.aload_n 0, 46, .inl 0, 0, 0), by subst h; exact ⟨dX9_sheet_45, rfl, trivial⟩⟩ else none
      else
       if h : pc = 46 then some ⟨(.getfield 44, 49, .inr (.inr none), 35, 14), by subst h; exact ⟨dX9_sheet_46, rfl, ⟨⟨_, rfl, by decide, _, Or.inl q1393, Or.inl rfl⟩, (show mKd 14 35 = 6 by rfl)⟩⟩⟩ else none
     else
      bif Nat.blt pc 50 then
       if h : pc = 49 then some ⟨(.iload_n 1, 50, .inl 0, 0, 0), by subst h; exact ⟨dX9_sheet_49, rfl, trivial⟩⟩ else none
      else
       if h : pc = 50 then some ⟨(.iload_n 2, 51, .inl 0, 0, 0), by subst h; exact ⟨dX9_sheet_50, rfl, trivial⟩⟩ else none
    else
     bif Nat.blt pc 55 then
      bif Nat.blt pc 54 then
       if h : pc = 51 then some ⟨(.ifCond .lt 7, 54, .inl 0, 58, 0), by subst h; exact ⟨dX9_sheet_51, rfl, (show ((51 : Nat) : Int) + (7) = ((58 : Nat) : Int) by decide)⟩⟩ else none
      else
       if h : pc = 54 then some ⟨(.iconst 1, 55, .inl 1, 0, 0), by subst h; exact ⟨dX9_sheet_54, rfl, ⟨1, rfl, by decide⟩⟩⟩ else none
     else
      bif Nat.blt pc 58 then
       if h : pc = 55 then some ⟨(.goto 4, 58, .inl 0, 59, 0), by subst h; exact ⟨dX9_sheet_55, rfl, (show ((55 : Nat) : Int) + (4) = ((59 : Nat) : Int) by decide)⟩⟩ else none
      else
       if h : pc = 58 then some ⟨(.iconst 0, 59, .inl 0, 0, 0), by subst h; exact ⟨dX9_sheet_58, rfl, ⟨0, rfl, by decide⟩⟩⟩ else none
 else
  bif Nat.blt pc 80 then
   bif Nat.blt pc 68 then
    bif Nat.blt pc 64 then
     bif Nat.blt pc 60 then
      if h : pc = 59 then some ⟨(.bastore, 60, .inl 0, 0, 0), by subst h; exact ⟨dX9_sheet_59, rfl, trivial⟩⟩ else none
     else
      bif Nat.blt pc 61 then
       if h : pc = 60 then some ⟨(.aload_n 0, 61, .inl 0, 0, 0), by subst h; exact ⟨dX9_sheet_60, rfl, trivial⟩⟩ else none
      else
       if h : pc = 61 then some ⟨(.getfield 48, 64, .inr (.inr none), 36, 14), by subst h; exact ⟨dX9_sheet_61, rfl, ⟨⟨_, rfl, by decide, _, Or.inl q1394, Or.inl rfl⟩, (show mKd 14 36 = 6 by rfl)⟩⟩⟩ else none
    else
     bif Nat.blt pc 66 then
      bif Nat.blt pc 65 then
       if h : pc = 64 then some ⟨(.iload_n 1, 65, .inl 0, 0, 0), by subst h; exact ⟨dX9_sheet_64, rfl, trivial⟩⟩ else none
      else
       if h : pc = 65 then some ⟨(.iload_n 2, 66, .inl 0, 0, 0), by subst h; exact ⟨dX9_sheet_65, rfl, trivial⟩⟩ else none
     else
      bif Nat.blt pc 67 then
       if h : pc = 66 then some ⟨(.iastore, 67, .inl 0, 0, 0), by subst h; exact ⟨dX9_sheet_66, rfl, trivial⟩⟩ else none
      else
       if h : pc = 67 then some ⟨(.aload_n 0, 68, .inl 0, 0, 0), by subst h; exact ⟨dX9_sheet_67, rfl, trivial⟩⟩ else none
   else
    bif Nat.blt pc 74 then
     bif Nat.blt pc 72 then
      bif Nat.blt pc 71 then
       if h : pc = 68 then some ⟨(.getfield 51, 71, .inr (.inr none), 37, 14), by subst h; exact ⟨dX9_sheet_68, rfl, ⟨⟨_, rfl, by decide, _, Or.inl q1395, Or.inl rfl⟩, (show mKd 14 37 = 6 by rfl)⟩⟩⟩ else none
      else
       if h : pc = 71 then some ⟨(.iload_n 1, 72, .inl 0, 0, 0), by subst h; exact ⟨dX9_sheet_71, rfl, trivial⟩⟩ else none
     else
      bif Nat.blt pc 73 then
       if h : pc = 72 then some ⟨(.iload_n 3, 73, .inl 0, 0, 0), by subst h; exact ⟨dX9_sheet_72, rfl, trivial⟩⟩ else none
      else
       if h : pc = 73 then some ⟨(.iastore, 74, .inl 0, 0, 0), by subst h; exact ⟨dX9_sheet_73, rfl, trivial⟩⟩ else none
    else
     bif Nat.blt pc 77 then
      bif Nat.blt pc 75 then
       if h : pc = 74 then some ⟨(.iconst 0, 75, .inl 0, 0, 0), by subst h; exact ⟨dX9_sheet_74, rfl, ⟨0, rfl, by decide⟩⟩⟩ else none
      else
       if h : pc = 75 then some ⟨(.istore 4, 77, .inl 0, 0, 0), by subst h; exact ⟨dX9_sheet_75, rfl, (show (4 : Nat) < 5 by decide)⟩⟩ else none
     else
      bif Nat.blt pc 79 then
       if h : pc = 77 then some ⟨(.iload 4, 79, .inl 0, 0, 0), by subst h; exact ⟨dX9_sheet_77, rfl, trivial⟩⟩ else none
      else
       if h : pc = 79 then some ⟨(.iload_n 3, 80, .inl 0, 0, 0), by subst h; exact ⟨dX9_sheet_79, rfl, trivial⟩⟩ else none
  else
   bif Nat.blt pc 95 then
    bif Nat.blt pc 88 then
     bif Nat.blt pc 84 then
      bif Nat.blt pc 83 then
       if h : pc = 80 then some ⟨(.if_icmp .ge 26, 83, .inl 0, 106, 0), by subst h; exact ⟨dX9_sheet_80, rfl, (show ((80 : Nat) : Int) + (26) = ((106 : Nat) : Int) by decide)⟩⟩ else none
      else
       if h : pc = 83 then some ⟨(.iload_n 2, 84, .inl 0, 0, 0), by subst h; exact ⟨dX9_sheet_83, rfl, trivial⟩⟩ else none
     else
      bif Nat.blt pc 87 then
       if h : pc = 84 then some ⟨(.ifCond .lt 22, 87, .inl 0, 106, 0), by subst h; exact ⟨dX9_sheet_84, rfl, (show ((84 : Nat) : Int) + (22) = ((106 : Nat) : Int) by decide)⟩⟩ else none
      else
       if h : pc = 87 then some ⟨(.aload_n 0, 88, .inl 0, 0, 0), by subst h; exact ⟨dX9_sheet_87, rfl, trivial⟩⟩ else none
    else
     bif Nat.blt pc 93 then
      bif Nat.blt pc 91 then
       if h : pc = 88 then some ⟨(.getfield 54, 91, .inr (.inr none), 38, 14), by subst h; exact ⟨dX9_sheet_88, rfl, ⟨⟨_, rfl, by decide, _, Or.inl q1396, Or.inl rfl⟩, (show mKd 14 38 = 6 by rfl)⟩⟩⟩ else none
      else
       if h : pc = 91 then some ⟨(.bipush 40, 93, .inl 40, 0, 0), by subst h; exact ⟨dX9_sheet_91, rfl, ⟨40, rfl, by decide⟩⟩⟩ else none
     else
      bif Nat.blt pc 94 then
       if h : pc = 93 then some ⟨(.iload_n 1, 94, .inl 0, 0, 0), by subst h; exact ⟨dX9_sheet_93, rfl, trivial⟩⟩ else none
      else
       if h : pc = 94 then some ⟨(.imul, 95, .inl 0, 0, 0), by subst h; exact ⟨dX9_sheet_94, rfl, trivial⟩⟩ else none
   else
    bif Nat.blt pc 100 then
     bif Nat.blt pc 98 then
      bif Nat.blt pc 97 then
       if h : pc = 95 then some ⟨(.iload 4, 97, .inl 0, 0, 0), by subst h; exact ⟨dX9_sheet_95, rfl, trivial⟩⟩ else none
      else
       if h : pc = 97 then some ⟨(.iadd, 98, .inl 0, 0, 0), by subst h; exact ⟨dX9_sheet_97, rfl, trivial⟩⟩ else none
     else
      bif Nat.blt pc 99 then
       if h : pc = 98 then some ⟨(.iconst 0, 99, .inl 0, 0, 0), by subst h; exact ⟨dX9_sheet_98, rfl, ⟨0, rfl, by decide⟩⟩⟩ else none
      else
       if h : pc = 99 then some ⟨(.iastore, 100, .inl 0, 0, 0), by subst h; exact ⟨dX9_sheet_99, rfl, trivial⟩⟩ else none
    else
     bif Nat.blt pc 106 then
      bif Nat.blt pc 103 then
       if h : pc = 100 then some ⟨(.iinc 4 1, 103, .inl 1, 0, 0), by subst h; exact ⟨dX9_sheet_100, rfl, ⟨(show (4 : Nat) < 5 by decide), 1, rfl, by decide⟩⟩⟩ else none
      else
       if h : pc = 103 then some ⟨(.goto (-26), 106, .inl 0, 77, 0), by subst h; exact ⟨dX9_sheet_103, rfl, (show ((103 : Nat) : Int) + ((-26)) = ((77 : Nat) : Int) by decide)⟩⟩ else none
     else
      bif Nat.blt pc 107 then
       if h : pc = 106 then some ⟨(.iconst 1, 107, .inl 1, 0, 0), by subst h; exact ⟨dX9_sheet_106, rfl, ⟨1, rfl, by decide⟩⟩⟩ else none
      else
       if h : pc = 107 then some ⟨(.ireturn, 108, .inl 0, 0, 0), by subst h; exact ⟨dX9_sheet_107, rfl, rfl⟩⟩ else none

noncomputable def mt96 (pc : Nat) : Option {e : mE // mOK yX9_drawn cX9_drawn 3 ((Option.some ClassFile.FieldType.int)) pc e} :=
 bif Nat.blt pc 12 then
  bif Nat.blt pc 3 then
   bif Nat.blt pc 1 then
    if h : pc = 0 then some ⟨(.iload_n 2, 1, .inl 0, 0, 0), by subst h; exact ⟨dX9_drawn_0, rfl, trivial⟩⟩ else none
   else
    bif Nat.blt pc 2 then
     if h : pc = 1 then some ⟨(.i2l, 2, .inl 0, 0, 0), by subst h; exact ⟨dX9_drawn_1, rfl, trivial⟩⟩ else none
    else
     if h : pc = 2 then some ⟨(.lconst 0, 3, .inr (.inl 0), 0, 0), by subst h; exact ⟨dX9_drawn_2, rfl, ⟨0, rfl, by decide⟩⟩⟩ else none
  else
   bif Nat.blt pc 6 then
    if h : pc = 3 then some ⟨(.ldc2_w 385, 6, .inr (.inl 40), 0, 0), by subst h; exact ⟨dX9_drawn_3, rfl, ⟨_, rfl, q1832⟩⟩⟩ else none
   else
    bif Nat.blt pc 9 then
     if h : pc = 6 then some ⟨(.invokestatic 67, 9, .inl 0, 3, 0), by subst h; exact ⟨dX9_drawn_6, rfl, Or.inl ⟨by decide, q1482, q1483⟩⟩⟩ else none
    else
     if h : pc = 9 then some ⟨(.ifCond .eq 12, 12, .inl 0, 21, 0), by subst h; exact ⟨dX9_drawn_9, rfl, (show ((9 : Nat) : Int) + (12) = ((21 : Nat) : Int) by decide)⟩⟩ else none
 else
  bif Nat.blt pc 15 then
   bif Nat.blt pc 13 then
    if h : pc = 12 then some ⟨(.aload_n 0, 13, .inl 0, 0, 0), by subst h; exact ⟨dX9_drawn_12, rfl, trivial⟩⟩ else none
   else
    bif Nat.blt pc 14 then
     if h : pc = 13 then some ⟨(.iload_n 1, 14, .inl 0, 0, 0), by subst h; exact ⟨dX9_drawn_13, rfl, trivial⟩⟩ else none
    else
     if h : pc = 14 then some ⟨(.iload_n 2, 15, .inl 0, 0, 0), by subst h; exact ⟨dX9_drawn_14, rfl, trivial⟩⟩ else none
  else
   bif Nat.blt pc 21 then
    bif Nat.blt pc 18 then
     if h : pc = 15 then some ⟨(.invokevirtual 409, 18, .inl 0, 97, 14), by subst h; exact ⟨dX9_drawn_15, rfl, ⟨by decide, q1873, q1875, qs127, _, rfl, rfl⟩⟩⟩ else none
    else
     if h : pc = 18 then some ⟨(.goto 5, 21, .inl 0, 23, 0), by subst h; exact ⟨dX9_drawn_18, rfl, (show ((18 : Nat) : Int) + (5) = ((23 : Nat) : Int) by decide)⟩⟩ else none
   else
    bif Nat.blt pc 23 then
     if h : pc = 21 then some ⟨(.bipush (-2), 23, .inl (-2), 0, 0), by subst h; exact ⟨dX9_drawn_21, rfl, ⟨(-2), rfl, by decide⟩⟩⟩ else none
    else
     if h : pc = 23 then some ⟨(.ireturn, 24, .inl 0, 0, 0), by subst h; exact ⟨dX9_drawn_23, rfl, rfl⟩⟩ else none

noncomputable def mt97 (pc : Nat) : Option {e : mE // mOK yX9_floorDrawn cX9_floorDrawn 6 ((Option.some ClassFile.FieldType.int)) pc e} :=
 bif Nat.blt pc 40 then
  bif Nat.blt pc 20 then
   bif Nat.blt pc 9 then
    bif Nat.blt pc 5 then
     bif Nat.blt pc 1 then
      if h : pc = 0 then some ⟨(.aload_n 0, 1, .inl 0, 0, 0), by subst h; exact ⟨dX9_floorDrawn_0, rfl, trivial⟩⟩ else none
     else
      bif Nat.blt pc 4 then
       if h : pc = 1 then some ⟨(.invokevirtual 355, 4, .inl 0, 75, 14), by subst h; exact ⟨dX9_floorDrawn_1, rfl, ⟨by decide, q1780, q1782, qs116, _, rfl, rfl⟩⟩⟩ else none
      else
       if h : pc = 4 then some ⟨(.iload_n 1, 5, .inl 0, 0, 0), by subst h; exact ⟨dX9_floorDrawn_4, rfl, trivial⟩⟩ else none
    else
     bif Nat.blt pc 6 then
      if h : pc = 5 then some ⟨(.istore_n 3, 6, .inl 0, 0, 0), by subst h; exact ⟨dX9_floorDrawn_5, rfl, (show (3 : Nat) < 6 by decide)⟩⟩ else none
     else
      bif Nat.blt pc 7 then
       if h : pc = 6 then some ⟨(.iconst 0, 7, .inl 0, 0, 0), by subst h; exact ⟨dX9_floorDrawn_6, rfl, ⟨0, rfl, by decide⟩⟩⟩ else none
      else
       if h : pc = 7 then some ⟨(.istore 4, 9, .inl 0, 0, 0), by subst h; exact ⟨dX9_floorDrawn_7, rfl, (show (4 : Nat) < 6 by decide)⟩⟩ else none
   else
    bif Nat.blt pc 15 then
     bif Nat.blt pc 11 then
      if h : pc = 9 then some ⟨(.iload 4, 11, .inl 0, 0, 0), by subst h; exact ⟨dX9_floorDrawn_9, rfl, trivial⟩⟩ else none
     else
      bif Nat.blt pc 12 then
       if h : pc = 11 then some ⟨(.iload_n 2, 12, .inl 0, 0, 0), by subst h; exact ⟨dX9_floorDrawn_11, rfl, trivial⟩⟩ else none
      else
       if h : pc = 12 then some ⟨(.if_icmp .ge 56, 15, .inl 0, 68, 0), by subst h; exact ⟨dX9_floorDrawn_12, rfl, (show ((12 : Nat) : Int) + (56) = ((68 : Nat) : Int) by decide)⟩⟩ else none
    else
     bif Nat.blt pc 16 then
      if h : pc = 15 then some ⟨(.iload_n 3, 16, .inl 0, 0, 0), by subst h; exact ⟨dX9_floorDrawn_15, rfl, trivial⟩⟩ else none
     else
      bif Nat.blt pc 19 then
       if h : pc = 16 then some ⟨(.ldc_w 408, 19, .inl 1103515245, 0, 0), by subst h; exact ⟨dX9_floorDrawn_16, rfl, Or.inl ⟨_, rfl, q1877⟩⟩⟩ else none
      else
       if h : pc = 19 then some ⟨(.imul, 20, .inl 0, 0, 0), by subst h; exact ⟨dX9_floorDrawn_19, rfl, trivial⟩⟩ else none
  else
   bif Nat.blt pc 29 then
    bif Nat.blt pc 25 then
     bif Nat.blt pc 23 then
      if h : pc = 20 then some ⟨(.sipush 12345, 23, .inl 12345, 0, 0), by subst h; exact ⟨dX9_floorDrawn_20, rfl, ⟨12345, rfl, by decide⟩⟩⟩ else none
     else
      bif Nat.blt pc 24 then
       if h : pc = 23 then some ⟨(.iadd, 24, .inl 0, 0, 0), by subst h; exact ⟨dX9_floorDrawn_23, rfl, trivial⟩⟩ else none
      else
       if h : pc = 24 then some ⟨(.istore_n 3, 25, .inl 0, 0, 0), by subst h; exact ⟨dX9_floorDrawn_24, rfl, (show (3 : Nat) < 6 by decide)⟩⟩ else none
    else
     bif Nat.blt pc 26 then
      if h : pc = 25 then some ⟨(.iload_n 3, 26, .inl 0, 0, 0), by subst h; exact ⟨dX9_floorDrawn_25, rfl, trivial⟩⟩ else none
     else
      bif Nat.blt pc 28 then
       if h : pc = 26 then some ⟨(.bipush 9, 28, .inl 9, 0, 0), by subst h; exact ⟨dX9_floorDrawn_26, rfl, ⟨9, rfl, by decide⟩⟩⟩ else none
      else
       if h : pc = 28 then some ⟨(.iushr, 29, .inl 0, 0, 0), by subst h; exact ⟨dX9_floorDrawn_28, rfl, trivial⟩⟩ else none
   else
    bif Nat.blt pc 34 then
     bif Nat.blt pc 31 then
      if h : pc = 29 then some ⟨(.bipush 8, 31, .inl 8, 0, 0), by subst h; exact ⟨dX9_floorDrawn_29, rfl, ⟨8, rfl, by decide⟩⟩⟩ else none
     else
      bif Nat.blt pc 32 then
       if h : pc = 31 then some ⟨(.irem, 32, .inl 0, 0, 0), by subst h; exact ⟨dX9_floorDrawn_31, rfl, trivial⟩⟩ else none
      else
       if h : pc = 32 then some ⟨(.istore 5, 34, .inl 0, 0, 0), by subst h; exact ⟨dX9_floorDrawn_32, rfl, (show (5 : Nat) < 6 by decide)⟩⟩ else none
    else
     bif Nat.blt pc 35 then
      if h : pc = 34 then some ⟨(.aload_n 0, 35, .inl 0, 0, 0), by subst h; exact ⟨dX9_floorDrawn_34, rfl, trivial⟩⟩ else none
     else
      bif Nat.blt pc 37 then
       if h : pc = 35 then some ⟨(.iload 5, 37, .inl 0, 0, 0), by subst h; exact ⟨dX9_floorDrawn_35, rfl, trivial⟩⟩ else none
      else
       if h : pc = 37 then some ⟨(.invokevirtual 73, 40, .inl 0, 5, 14), by subst h; exact ⟨dX9_floorDrawn_37, rfl, ⟨by decide, q1490, q1492, qs59, _, rfl, rfl⟩⟩⟩ else none
 else
  bif Nat.blt pc 57 then
   bif Nat.blt pc 51 then
    bif Nat.blt pc 47 then
     bif Nat.blt pc 43 then
      if h : pc = 40 then some ⟨(.ifCond .eq 18, 43, .inl 0, 58, 0), by subst h; exact ⟨dX9_floorDrawn_40, rfl, (show ((40 : Nat) : Int) + (18) = ((58 : Nat) : Int) by decide)⟩⟩ else none
     else
      bif Nat.blt pc 44 then
       if h : pc = 43 then some ⟨(.aload_n 0, 44, .inl 0, 0, 0), by subst h; exact ⟨dX9_floorDrawn_43, rfl, trivial⟩⟩ else none
      else
       if h : pc = 44 then some ⟨(.getfield 26, 47, .inr (.inr none), 10, 14), by subst h; exact ⟨dX9_floorDrawn_44, rfl, ⟨⟨_, rfl, by decide, _, Or.inl q1368, Or.inl rfl⟩, (show mKd 14 10 = 6 by rfl)⟩⟩⟩ else none
    else
     bif Nat.blt pc 48 then
      if h : pc = 47 then some ⟨(.iconst 5, 48, .inl 5, 0, 0), by subst h; exact ⟨dX9_floorDrawn_47, rfl, ⟨5, rfl, by decide⟩⟩⟩ else none
     else
      bif Nat.blt pc 50 then
       if h : pc = 48 then some ⟨(.iload 5, 50, .inl 0, 0, 0), by subst h; exact ⟨dX9_floorDrawn_48, rfl, trivial⟩⟩ else none
      else
       if h : pc = 50 then some ⟨(.imul, 51, .inl 0, 0, 0), by subst h; exact ⟨dX9_floorDrawn_50, rfl, trivial⟩⟩ else none
   else
    bif Nat.blt pc 54 then
     bif Nat.blt pc 52 then
      if h : pc = 51 then some ⟨(.iconst 3, 52, .inl 3, 0, 0), by subst h; exact ⟨dX9_floorDrawn_51, rfl, ⟨3, rfl, by decide⟩⟩⟩ else none
     else
      bif Nat.blt pc 53 then
       if h : pc = 52 then some ⟨(.iadd, 53, .inl 0, 0, 0), by subst h; exact ⟨dX9_floorDrawn_52, rfl, trivial⟩⟩ else none
      else
       if h : pc = 53 then some ⟨(.dup2, 54, .inl 0, 0, 0), by subst h; exact ⟨dX9_floorDrawn_53, rfl, trivial⟩⟩ else none
    else
     bif Nat.blt pc 55 then
      if h : pc = 54 then some ⟨(.iaload, 55, .inl 0, 0, 0), by subst h; exact ⟨dX9_floorDrawn_54, rfl, trivial⟩⟩ else none
     else
      bif Nat.blt pc 56 then
       if h : pc = 55 then some ⟨(.iconst 1, 56, .inl 1, 0, 0), by subst h; exact ⟨dX9_floorDrawn_55, rfl, ⟨1, rfl, by decide⟩⟩⟩ else none
      else
       if h : pc = 56 then some ⟨(.ixor, 57, .inl 0, 0, 0), by subst h; exact ⟨dX9_floorDrawn_56, rfl, trivial⟩⟩ else none
  else
   bif Nat.blt pc 69 then
    bif Nat.blt pc 62 then
     bif Nat.blt pc 58 then
      if h : pc = 57 then some ⟨(.iastore, 58, .inl 0, 0, 0), by subst h; exact ⟨dX9_floorDrawn_57, rfl, trivial⟩⟩ else none
     else
      bif Nat.blt pc 59 then
       if h : pc = 58 then some ⟨(.aload_n 0, 59, .inl 0, 0, 0), by subst h; exact ⟨dX9_floorDrawn_58, rfl, trivial⟩⟩ else none
      else
       if h : pc = 59 then some ⟨(.invokevirtual 352, 62, .inl 0, 72, 14), by subst h; exact ⟨dX9_floorDrawn_59, rfl, ⟨by decide, q1768, q1770, qs115, _, rfl, rfl⟩⟩⟩ else none
    else
     bif Nat.blt pc 65 then
      if h : pc = 62 then some ⟨(.iinc 4 1, 65, .inl 1, 0, 0), by subst h; exact ⟨dX9_floorDrawn_62, rfl, ⟨(show (4 : Nat) < 6 by decide), 1, rfl, by decide⟩⟩⟩ else none
     else
      bif Nat.blt pc 68 then
       if h : pc = 65 then some ⟨(.goto (-56), 68, .inl 0, 9, 0), by subst h; exact ⟨dX9_floorDrawn_65, rfl, (show ((65 : Nat) : Int) + ((-56)) = ((9 : Nat) : Int) by decide)⟩⟩ else none
      else
       if h : pc = 68 then some ⟨(.aload_n 0, 69, .inl 0, 0, 0), by subst h; exact ⟨dX9_floorDrawn_68, rfl, trivial⟩⟩ else none
   else
    bif Nat.blt pc 75 then
     bif Nat.blt pc 72 then
      if h : pc = 69 then some ⟨(.getfield 95, 72, .inl 0, 8, 14), by subst h; exact ⟨dX9_floorDrawn_69, rfl, ⟨⟨_, rfl, by decide, _, Or.inl q1366, Or.inl rfl⟩, (show mKd 14 8 ≤ 4 by decide)⟩⟩⟩ else none
     else
      bif Nat.blt pc 74 then
       if h : pc = 72 then some ⟨(.istore 4, 74, .inl 0, 0, 0), by subst h; exact ⟨dX9_floorDrawn_72, rfl, (show (4 : Nat) < 6 by decide)⟩⟩ else none
      else
       if h : pc = 74 then some ⟨(.aload_n 0, 75, .inl 0, 0, 0), by subst h; exact ⟨dX9_floorDrawn_74, rfl, trivial⟩⟩ else none
    else
     bif Nat.blt pc 78 then
      if h : pc = 75 then some ⟨(.invokevirtual 362, 78, .inl 0, 77, 14), by subst h; exact ⟨dX9_floorDrawn_75, rfl, ⟨by decide, q1788, q1790, qs118, _, rfl, rfl⟩⟩⟩ else none
     else
      bif Nat.blt pc 80 then
       if h : pc = 78 then some ⟨(.iload 4, 80, .inl 0, 0, 0), by subst h; exact ⟨dX9_floorDrawn_78, rfl, trivial⟩⟩ else none
      else
       if h : pc = 80 then some ⟨(.ireturn, 81, .inl 0, 0, 0), by subst h; exact ⟨dX9_floorDrawn_80, rfl, rfl⟩⟩ else none

noncomputable def mt98 (pc : Nat) : Option {e : mE // mOK yX9_chance cX9_chance 8 ((Option.some ClassFile.FieldType.long)) pc e} :=
 bif Nat.blt pc 45 then
  bif Nat.blt pc 24 then
   bif Nat.blt pc 12 then
    bif Nat.blt pc 3 then
     bif Nat.blt pc 1 then
      if h : pc = 0 then some ⟨(.iload_n 2, 1, .inl 0, 0, 0), by subst h; exact ⟨dX9_chance_0, rfl, trivial⟩⟩ else none
     else
      bif Nat.blt pc 2 then
       if h : pc = 1 then some ⟨(.i2l, 2, .inl 0, 0, 0), by subst h; exact ⟨dX9_chance_1, rfl, trivial⟩⟩ else none
      else
       if h : pc = 2 then some ⟨(.lconst 1, 3, .inr (.inl 1), 0, 0), by subst h; exact ⟨dX9_chance_2, rfl, ⟨1, rfl, by decide⟩⟩⟩ else none
    else
     bif Nat.blt pc 6 then
      if h : pc = 3 then some ⟨(.ldc2_w 403, 6, .inr (.inl 20), 0, 0), by subst h; exact ⟨dX9_chance_3, rfl, ⟨_, rfl, q1862⟩⟩⟩ else none
     else
      bif Nat.blt pc 9 then
       if h : pc = 6 then some ⟨(.invokestatic 67, 9, .inl 0, 3, 0), by subst h; exact ⟨dX9_chance_6, rfl, Or.inl ⟨by decide, q1482, q1483⟩⟩⟩ else none
      else
       if h : pc = 9 then some ⟨(.ifCond .eq 26, 12, .inl 0, 35, 0), by subst h; exact ⟨dX9_chance_9, rfl, (show ((9 : Nat) : Int) + (26) = ((35 : Nat) : Int) by decide)⟩⟩ else none
   else
    bif Nat.blt pc 15 then
     bif Nat.blt pc 13 then
      if h : pc = 12 then some ⟨(.iload_n 3, 13, .inl 0, 0, 0), by subst h; exact ⟨dX9_chance_12, rfl, trivial⟩⟩ else none
     else
      bif Nat.blt pc 14 then
       if h : pc = 13 then some ⟨(.i2l, 14, .inl 0, 0, 0), by subst h; exact ⟨dX9_chance_13, rfl, trivial⟩⟩ else none
      else
       if h : pc = 14 then some ⟨(.lconst 0, 15, .inr (.inl 0), 0, 0), by subst h; exact ⟨dX9_chance_14, rfl, ⟨0, rfl, by decide⟩⟩⟩ else none
    else
     bif Nat.blt pc 18 then
      if h : pc = 15 then some ⟨(.ldc2_w 108, 18, .inr (.inl 10), 0, 0), by subst h; exact ⟨dX9_chance_15, rfl, ⟨_, rfl, q1501⟩⟩⟩ else none
     else
      bif Nat.blt pc 21 then
       if h : pc = 18 then some ⟨(.invokestatic 67, 21, .inl 0, 3, 0), by subst h; exact ⟨dX9_chance_18, rfl, Or.inl ⟨by decide, q1482, q1483⟩⟩⟩ else none
      else
       if h : pc = 21 then some ⟨(.ifCond .eq 14, 24, .inl 0, 35, 0), by subst h; exact ⟨dX9_chance_21, rfl, (show ((21 : Nat) : Int) + (14) = ((35 : Nat) : Int) by decide)⟩⟩ else none
  else
   bif Nat.blt pc 35 then
    bif Nat.blt pc 28 then
     bif Nat.blt pc 26 then
      if h : pc = 24 then some ⟨(.iload 4, 26, .inl 0, 0, 0), by subst h; exact ⟨dX9_chance_24, rfl, trivial⟩⟩ else none
     else
      bif Nat.blt pc 27 then
       if h : pc = 26 then some ⟨(.i2l, 27, .inl 0, 0, 0), by subst h; exact ⟨dX9_chance_26, rfl, trivial⟩⟩ else none
      else
       if h : pc = 27 then some ⟨(.lconst 0, 28, .inr (.inl 0), 0, 0), by subst h; exact ⟨dX9_chance_27, rfl, ⟨0, rfl, by decide⟩⟩⟩ else none
    else
     bif Nat.blt pc 29 then
      if h : pc = 28 then some ⟨(.lconst 1, 29, .inr (.inl 1), 0, 0), by subst h; exact ⟨dX9_chance_28, rfl, ⟨1, rfl, by decide⟩⟩⟩ else none
     else
      bif Nat.blt pc 32 then
       if h : pc = 29 then some ⟨(.invokestatic 67, 32, .inl 0, 3, 0), by subst h; exact ⟨dX9_chance_29, rfl, Or.inl ⟨by decide, q1482, q1483⟩⟩⟩ else none
      else
       if h : pc = 32 then some ⟨(.ifCond .ne 7, 35, .inl 0, 39, 0), by subst h; exact ⟨dX9_chance_32, rfl, (show ((32 : Nat) : Int) + (7) = ((39 : Nat) : Int) by decide)⟩⟩ else none
   else
    bif Nat.blt pc 40 then
     bif Nat.blt pc 38 then
      if h : pc = 35 then some ⟨(.ldc2_w 347, 38, .inr (.inl (-4611686018427387904)), 0, 0), by subst h; exact ⟨dX9_chance_35, rfl, ⟨_, rfl, q1759⟩⟩⟩ else none
     else
      bif Nat.blt pc 39 then
       if h : pc = 38 then some ⟨(.lreturn, 39, .inl 0, 0, 0), by subst h; exact ⟨dX9_chance_38, rfl, rfl⟩⟩ else none
      else
       if h : pc = 39 then some ⟨(.lconst 0, 40, .inr (.inl 0), 0, 0), by subst h; exact ⟨dX9_chance_39, rfl, ⟨0, rfl, by decide⟩⟩⟩ else none
    else
     bif Nat.blt pc 42 then
      if h : pc = 40 then some ⟨(.lstore 5, 42, .inl 0, 0, 0), by subst h; exact ⟨dX9_chance_40, rfl, (show (5 : Nat) + 1 < 8 by decide)⟩⟩ else none
     else
      bif Nat.blt pc 43 then
       if h : pc = 42 then some ⟨(.iconst 0, 43, .inl 0, 0, 0), by subst h; exact ⟨dX9_chance_42, rfl, ⟨0, rfl, by decide⟩⟩⟩ else none
      else
       if h : pc = 43 then some ⟨(.istore 7, 45, .inl 0, 0, 0), by subst h; exact ⟨dX9_chance_43, rfl, (show (7 : Nat) < 8 by decide)⟩⟩ else none
 else
  bif Nat.blt pc 67 then
   bif Nat.blt pc 55 then
    bif Nat.blt pc 51 then
     bif Nat.blt pc 47 then
      if h : pc = 45 then some ⟨(.iload 7, 47, .inl 0, 0, 0), by subst h; exact ⟨dX9_chance_45, rfl, trivial⟩⟩ else none
     else
      bif Nat.blt pc 48 then
       if h : pc = 47 then some ⟨(.iload_n 2, 48, .inl 0, 0, 0), by subst h; exact ⟨dX9_chance_47, rfl, trivial⟩⟩ else none
      else
       if h : pc = 48 then some ⟨(.if_icmp .ge 33, 51, .inl 0, 81, 0), by subst h; exact ⟨dX9_chance_48, rfl, (show ((48 : Nat) : Int) + (33) = ((81 : Nat) : Int) by decide)⟩⟩ else none
    else
     bif Nat.blt pc 53 then
      if h : pc = 51 then some ⟨(.lload 5, 53, .inl 0, 0, 0), by subst h; exact ⟨dX9_chance_51, rfl, trivial⟩⟩ else none
     else
      bif Nat.blt pc 54 then
       if h : pc = 53 then some ⟨(.aload_n 0, 54, .inl 0, 0, 0), by subst h; exact ⟨dX9_chance_53, rfl, trivial⟩⟩ else none
      else
       if h : pc = 54 then some ⟨(.iload_n 1, 55, .inl 0, 0, 0), by subst h; exact ⟨dX9_chance_54, rfl, trivial⟩⟩ else none
   else
    bif Nat.blt pc 60 then
     bif Nat.blt pc 57 then
      if h : pc = 55 then some ⟨(.iload 7, 57, .inl 0, 0, 0), by subst h; exact ⟨dX9_chance_55, rfl, trivial⟩⟩ else none
     else
      bif Nat.blt pc 58 then
       if h : pc = 57 then some ⟨(.iadd, 58, .inl 0, 0, 0), by subst h; exact ⟨dX9_chance_57, rfl, trivial⟩⟩ else none
      else
       if h : pc = 58 then some ⟨(.bipush 10, 60, .inl 10, 0, 0), by subst h; exact ⟨dX9_chance_58, rfl, ⟨10, rfl, by decide⟩⟩⟩ else none
    else
     bif Nat.blt pc 63 then
      if h : pc = 60 then some ⟨(.invokevirtual 409, 63, .inl 0, 97, 14), by subst h; exact ⟨dX9_chance_60, rfl, ⟨by decide, q1873, q1875, qs127, _, rfl, rfl⟩⟩⟩ else none
     else
      bif Nat.blt pc 64 then
       if h : pc = 63 then some ⟨(.iload_n 3, 64, .inl 0, 0, 0), by subst h; exact ⟨dX9_chance_63, rfl, trivial⟩⟩ else none
      else
       if h : pc = 64 then some ⟨(.if_icmp .lt 7, 67, .inl 0, 71, 0), by subst h; exact ⟨dX9_chance_64, rfl, (show ((64 : Nat) : Int) + (7) = ((71 : Nat) : Int) by decide)⟩⟩ else none
  else
   bif Nat.blt pc 78 then
    bif Nat.blt pc 72 then
     bif Nat.blt pc 68 then
      if h : pc = 67 then some ⟨(.lconst 1, 68, .inr (.inl 1), 0, 0), by subst h; exact ⟨dX9_chance_67, rfl, ⟨1, rfl, by decide⟩⟩⟩ else none
     else
      bif Nat.blt pc 71 then
       if h : pc = 68 then some ⟨(.goto 4, 71, .inl 0, 72, 0), by subst h; exact ⟨dX9_chance_68, rfl, (show ((68 : Nat) : Int) + (4) = ((72 : Nat) : Int) by decide)⟩⟩ else none
      else
       if h : pc = 71 then some ⟨(.lconst 0, 72, .inr (.inl 0), 0, 0), by subst h; exact ⟨dX9_chance_71, rfl, ⟨0, rfl, by decide⟩⟩⟩ else none
    else
     bif Nat.blt pc 73 then
      if h : pc = 72 then some ⟨(.ladd, 73, .inl 0, 0, 0), by subst h; exact ⟨dX9_chance_72, rfl, trivial⟩⟩ else none
     else
      bif Nat.blt pc 75 then
       if h : pc = 73 then some ⟨(.lstore 5, 75, .inl 0, 0, 0), by subst h; exact ⟨dX9_chance_73, rfl, (show (5 : Nat) + 1 < 8 by decide)⟩⟩ else none
      else
       if h : pc = 75 then some ⟨(.iinc 7 1, 78, .inl 1, 0, 0), by subst h; exact ⟨dX9_chance_75, rfl, ⟨(show (7 : Nat) < 8 by decide), 1, rfl, by decide⟩⟩⟩ else none
   else
    bif Nat.blt pc 84 then
     bif Nat.blt pc 81 then
      if h : pc = 78 then some ⟨(.goto (-33), 81, .inl 0, 45, 0), by subst h; exact ⟨dX9_chance_78, rfl, (show ((78 : Nat) : Int) + ((-33)) = ((45 : Nat) : Int) by decide)⟩⟩ else none
     else
      bif Nat.blt pc 83 then
       if h : pc = 81 then some ⟨(.lload 5, 83, .inl 0, 0, 0), by subst h; exact ⟨dX9_chance_81, rfl, trivial⟩⟩ else none
      else
       if h : pc = 83 then some ⟨(.iload_n 2, 84, .inl 0, 0, 0), by subst h; exact ⟨dX9_chance_83, rfl, trivial⟩⟩ else none
    else
     bif Nat.blt pc 87 then
      bif Nat.blt pc 85 then
       if h : pc = 84 then some ⟨(.i2l, 85, .inl 0, 0, 0), by subst h; exact ⟨dX9_chance_84, rfl, trivial⟩⟩ else none
      else
       if h : pc = 85 then some ⟨(.iload 4, 87, .inl 0, 0, 0), by subst h; exact ⟨dX9_chance_85, rfl, trivial⟩⟩ else none
     else
      bif Nat.blt pc 90 then
       if h : pc = 87 then some ⟨(.invokestatic 343, 90, .inl 0, 69, 0), by subst h; exact ⟨dX9_chance_87, rfl, Or.inl ⟨by decide, q1756, q1757⟩⟩⟩ else none
      else
       if h : pc = 90 then some ⟨(.lreturn, 91, .inl 0, 0, 0), by subst h; exact ⟨dX9_chance_90, rfl, rfl⟩⟩ else none

noncomputable def mt99 (pc : Nat) : Option {e : mE // mOK yX9_image cX9_image 2 ((Option.some ClassFile.FieldType.int)) pc e} :=
 bif Nat.blt pc 40 then
  bif Nat.blt pc 19 then
   bif Nat.blt pc 9 then
    bif Nat.blt pc 3 then
     bif Nat.blt pc 1 then
      if h : pc = 0 then some ⟨(.iconst 0, 1, .inl 0, 0, 0), by subst h; exact ⟨dX9_image_0, rfl, ⟨0, rfl, by decide⟩⟩⟩ else none
     else
      bif Nat.blt pc 2 then
       if h : pc = 1 then some ⟨(.istore_n 1, 2, .inl 0, 0, 0), by subst h; exact ⟨dX9_image_1, rfl, (show (1 : Nat) < 2 by decide)⟩⟩ else none
      else
       if h : pc = 2 then some ⟨(.iload_n 1, 3, .inl 0, 0, 0), by subst h; exact ⟨dX9_image_2, rfl, trivial⟩⟩ else none
    else
     bif Nat.blt pc 5 then
      if h : pc = 3 then some ⟨(.bipush 10, 5, .inl 10, 0, 0), by subst h; exact ⟨dX9_image_3, rfl, ⟨10, rfl, by decide⟩⟩⟩ else none
     else
      bif Nat.blt pc 8 then
       if h : pc = 5 then some ⟨(.if_icmp .ge 21, 8, .inl 0, 26, 0), by subst h; exact ⟨dX9_image_5, rfl, (show ((5 : Nat) : Int) + (21) = ((26 : Nat) : Int) by decide)⟩⟩ else none
      else
       if h : pc = 8 then some ⟨(.aload_n 0, 9, .inl 0, 0, 0), by subst h; exact ⟨dX9_image_8, rfl, trivial⟩⟩ else none
   else
    bif Nat.blt pc 14 then
     bif Nat.blt pc 12 then
      if h : pc = 9 then some ⟨(.getfield 35, 12, .inr (.inr none), 29, 14), by subst h; exact ⟨dX9_image_9, rfl, ⟨⟨_, rfl, by decide, _, Or.inl q1387, Or.inl rfl⟩, (show mKd 14 29 = 6 by rfl)⟩⟩⟩ else none
     else
      bif Nat.blt pc 13 then
       if h : pc = 12 then some ⟨(.iload_n 1, 13, .inl 0, 0, 0), by subst h; exact ⟨dX9_image_12, rfl, trivial⟩⟩ else none
      else
       if h : pc = 13 then some ⟨(.aload_n 0, 14, .inl 0, 0, 0), by subst h; exact ⟨dX9_image_13, rfl, trivial⟩⟩ else none
    else
     bif Nat.blt pc 17 then
      if h : pc = 14 then some ⟨(.getfield 23, 17, .inr (.inr none), 7, 14), by subst h; exact ⟨dX9_image_14, rfl, ⟨⟨_, rfl, by decide, _, Or.inl q1365, Or.inl rfl⟩, (show mKd 14 7 = 6 by rfl)⟩⟩⟩ else none
     else
      bif Nat.blt pc 18 then
       if h : pc = 17 then some ⟨(.iload_n 1, 18, .inl 0, 0, 0), by subst h; exact ⟨dX9_image_17, rfl, trivial⟩⟩ else none
      else
       if h : pc = 18 then some ⟨(.iaload, 19, .inl 0, 0, 0), by subst h; exact ⟨dX9_image_18, rfl, trivial⟩⟩ else none
  else
   bif Nat.blt pc 29 then
    bif Nat.blt pc 26 then
     bif Nat.blt pc 20 then
      if h : pc = 19 then some ⟨(.iastore, 20, .inl 0, 0, 0), by subst h; exact ⟨dX9_image_19, rfl, trivial⟩⟩ else none
     else
      bif Nat.blt pc 23 then
       if h : pc = 20 then some ⟨(.iinc 1 1, 23, .inl 1, 0, 0), by subst h; exact ⟨dX9_image_20, rfl, ⟨(show (1 : Nat) < 2 by decide), 1, rfl, by decide⟩⟩⟩ else none
      else
       if h : pc = 23 then some ⟨(.goto (-21), 26, .inl 0, 2, 0), by subst h; exact ⟨dX9_image_23, rfl, (show ((23 : Nat) : Int) + ((-21)) = ((2 : Nat) : Int) by decide)⟩⟩ else none
    else
     bif Nat.blt pc 27 then
      if h : pc = 26 then some ⟨(.iconst 0, 27, .inl 0, 0, 0), by subst h; exact ⟨dX9_image_26, rfl, ⟨0, rfl, by decide⟩⟩⟩ else none
     else
      bif Nat.blt pc 28 then
       if h : pc = 27 then some ⟨(.istore_n 1, 28, .inl 0, 0, 0), by subst h; exact ⟨dX9_image_27, rfl, (show (1 : Nat) < 2 by decide)⟩⟩ else none
      else
       if h : pc = 28 then some ⟨(.iload_n 1, 29, .inl 0, 0, 0), by subst h; exact ⟨dX9_image_28, rfl, trivial⟩⟩ else none
   else
    bif Nat.blt pc 35 then
     bif Nat.blt pc 31 then
      if h : pc = 29 then some ⟨(.bipush 25, 31, .inl 25, 0, 0), by subst h; exact ⟨dX9_image_29, rfl, ⟨25, rfl, by decide⟩⟩⟩ else none
     else
      bif Nat.blt pc 34 then
       if h : pc = 31 then some ⟨(.if_icmp .ge 21, 34, .inl 0, 52, 0), by subst h; exact ⟨dX9_image_31, rfl, (show ((31 : Nat) : Int) + (21) = ((52 : Nat) : Int) by decide)⟩⟩ else none
      else
       if h : pc = 34 then some ⟨(.aload_n 0, 35, .inl 0, 0, 0), by subst h; exact ⟨dX9_image_34, rfl, trivial⟩⟩ else none
    else
     bif Nat.blt pc 38 then
      if h : pc = 35 then some ⟨(.getfield 38, 38, .inr (.inr none), 30, 14), by subst h; exact ⟨dX9_image_35, rfl, ⟨⟨_, rfl, by decide, _, Or.inl q1388, Or.inl rfl⟩, (show mKd 14 30 = 6 by rfl)⟩⟩⟩ else none
     else
      bif Nat.blt pc 39 then
       if h : pc = 38 then some ⟨(.iload_n 1, 39, .inl 0, 0, 0), by subst h; exact ⟨dX9_image_38, rfl, trivial⟩⟩ else none
      else
       if h : pc = 39 then some ⟨(.aload_n 0, 40, .inl 0, 0, 0), by subst h; exact ⟨dX9_image_39, rfl, trivial⟩⟩ else none
 else
  bif Nat.blt pc 62 then
   bif Nat.blt pc 52 then
    bif Nat.blt pc 45 then
     bif Nat.blt pc 43 then
      if h : pc = 40 then some ⟨(.getfield 26, 43, .inr (.inr none), 10, 14), by subst h; exact ⟨dX9_image_40, rfl, ⟨⟨_, rfl, by decide, _, Or.inl q1368, Or.inl rfl⟩, (show mKd 14 10 = 6 by rfl)⟩⟩⟩ else none
     else
      bif Nat.blt pc 44 then
       if h : pc = 43 then some ⟨(.iload_n 1, 44, .inl 0, 0, 0), by subst h; exact ⟨dX9_image_43, rfl, trivial⟩⟩ else none
      else
       if h : pc = 44 then some ⟨(.iaload, 45, .inl 0, 0, 0), by subst h; exact ⟨dX9_image_44, rfl, trivial⟩⟩ else none
    else
     bif Nat.blt pc 46 then
      if h : pc = 45 then some ⟨(.iastore, 46, .inl 0, 0, 0), by subst h; exact ⟨dX9_image_45, rfl, trivial⟩⟩ else none
     else
      bif Nat.blt pc 49 then
       if h : pc = 46 then some ⟨(.iinc 1 1, 49, .inl 1, 0, 0), by subst h; exact ⟨dX9_image_46, rfl, ⟨(show (1 : Nat) < 2 by decide), 1, rfl, by decide⟩⟩⟩ else none
      else
       if h : pc = 49 then some ⟨(.goto (-21), 52, .inl 0, 28, 0), by subst h; exact ⟨dX9_image_49, rfl, (show ((49 : Nat) : Int) + ((-21)) = ((28 : Nat) : Int) by decide)⟩⟩ else none
   else
    bif Nat.blt pc 57 then
     bif Nat.blt pc 53 then
      if h : pc = 52 then some ⟨(.aload_n 0, 53, .inl 0, 0, 0), by subst h; exact ⟨dX9_image_52, rfl, trivial⟩⟩ else none
     else
      bif Nat.blt pc 54 then
       if h : pc = 53 then some ⟨(.aload_n 0, 54, .inl 0, 0, 0), by subst h; exact ⟨dX9_image_53, rfl, trivial⟩⟩ else none
      else
       if h : pc = 54 then some ⟨(.getfield 64, 57, .inl 0, 11, 14), by subst h; exact ⟨dX9_image_54, rfl, ⟨⟨_, rfl, by decide, _, Or.inl q1369, Or.inl rfl⟩, (show mKd 14 11 ≤ 4 by decide)⟩⟩⟩ else none
    else
     bif Nat.blt pc 60 then
      if h : pc = 57 then some ⟨(.putfield 41, 60, .inl 0, 31, 14), by subst h; exact ⟨dX9_image_57, rfl, ⟨⟨_, rfl, by decide, _, Or.inl q1389, Or.inl rfl⟩, (show mKd 14 31 ≤ 4 by decide), by decide, by decide, (fun q h => Or.inl (by cases h; rfl))⟩⟩⟩ else none
     else
      bif Nat.blt pc 61 then
       if h : pc = 60 then some ⟨(.aload_n 0, 61, .inl 0, 0, 0), by subst h; exact ⟨dX9_image_60, rfl, trivial⟩⟩ else none
      else
       if h : pc = 61 then some ⟨(.aload_n 0, 62, .inl 0, 0, 0), by subst h; exact ⟨dX9_image_61, rfl, trivial⟩⟩ else none
  else
   bif Nat.blt pc 76 then
    bif Nat.blt pc 69 then
     bif Nat.blt pc 65 then
      if h : pc = 62 then some ⟨(.getfield 95, 65, .inl 0, 8, 14), by subst h; exact ⟨dX9_image_62, rfl, ⟨⟨_, rfl, by decide, _, Or.inl q1366, Or.inl rfl⟩, (show mKd 14 8 ≤ 4 by decide)⟩⟩⟩ else none
     else
      bif Nat.blt pc 68 then
       if h : pc = 65 then some ⟨(.putfield 412, 68, .inl 0, 32, 14), by subst h; exact ⟨dX9_image_65, rfl, ⟨⟨_, rfl, by decide, _, Or.inl q1390, Or.inl rfl⟩, (show mKd 14 32 ≤ 4 by decide), by decide, by decide, (fun q h => Or.inl (by cases h; rfl))⟩⟩⟩ else none
      else
       if h : pc = 68 then some ⟨(.aload_n 0, 69, .inl 0, 0, 0), by subst h; exact ⟨dX9_image_68, rfl, trivial⟩⟩ else none
    else
     bif Nat.blt pc 70 then
      if h : pc = 69 then some ⟨(.aload_n 0, 70, .inl 0, 0, 0), by subst h; exact ⟨dX9_image_69, rfl, trivial⟩⟩ else none
     else
      bif Nat.blt pc 73 then
       if h : pc = 70 then some ⟨(.getfield 98, 73, .inl 0, 9, 14), by subst h; exact ⟨dX9_image_70, rfl, ⟨⟨_, rfl, by decide, _, Or.inl q1367, Or.inl rfl⟩, (show mKd 14 9 ≤ 4 by decide)⟩⟩⟩ else none
      else
       if h : pc = 73 then some ⟨(.putfield 415, 76, .inl 0, 33, 14), by subst h; exact ⟨dX9_image_73, rfl, ⟨⟨_, rfl, by decide, _, Or.inl q1391, Or.inl rfl⟩, (show mKd 14 33 ≤ 4 by decide), by decide, by decide, (fun q h => Or.inl (by cases h; rfl))⟩⟩⟩ else none
   else
    bif Nat.blt pc 81 then
     bif Nat.blt pc 77 then
      if h : pc = 76 then some ⟨(.aload_n 0, 77, .inl 0, 0, 0), by subst h; exact ⟨dX9_image_76, rfl, trivial⟩⟩ else none
     else
      bif Nat.blt pc 78 then
       if h : pc = 77 then some ⟨(.aload_n 0, 78, .inl 0, 0, 0), by subst h; exact ⟨dX9_image_77, rfl, trivial⟩⟩ else none
      else
       if h : pc = 78 then some ⟨(.getfield 101, 81, .inl 0, 4, 14), by subst h; exact ⟨dX9_image_78, rfl, ⟨⟨_, rfl, by decide, _, Or.inl q1362, Or.inl rfl⟩, (show mKd 14 4 ≤ 4 by decide)⟩⟩⟩ else none
    else
     bif Nat.blt pc 85 then
      bif Nat.blt pc 84 then
       if h : pc = 81 then some ⟨(.putfield 418, 84, .inl 0, 34, 14), by subst h; exact ⟨dX9_image_81, rfl, ⟨⟨_, rfl, by decide, _, Or.inl q1392, Or.inl rfl⟩, (show mKd 14 34 ≤ 4 by decide), by decide, by decide, (fun q h => Or.inl (by cases h; rfl))⟩⟩⟩ else none
      else
       if h : pc = 84 then some ⟨(.aload_n 0, 85, .inl 0, 0, 0), by subst h; exact ⟨dX9_image_84, rfl, trivial⟩⟩ else none
     else
      bif Nat.blt pc 88 then
       if h : pc = 85 then some ⟨(.getfield 64, 88, .inl 0, 11, 14), by subst h; exact ⟨dX9_image_85, rfl, ⟨⟨_, rfl, by decide, _, Or.inl q1369, Or.inl rfl⟩, (show mKd 14 11 ≤ 4 by decide)⟩⟩⟩ else none
      else
       if h : pc = 88 then some ⟨(.ireturn, 89, .inl 0, 0, 0), by subst h; exact ⟨dX9_image_88, rfl, rfl⟩⟩ else none

noncomputable def mt100 (pc : Nat) : Option {e : mE // mOK yX9_back cX9_back 2 ((Option.some ClassFile.FieldType.int)) pc e} :=
 bif Nat.blt pc 46 then
  bif Nat.blt pc 23 then
   bif Nat.blt pc 11 then
    bif Nat.blt pc 5 then
     bif Nat.blt pc 1 then
      if h : pc = 0 then some ⟨(.aload_n 0, 1, .inl 0, 0, 0), by subst h; exact ⟨dX9_back_0, rfl, trivial⟩⟩ else none
     else
      bif Nat.blt pc 4 then
       if h : pc = 1 then some ⟨(.getfield 41, 4, .inl 0, 31, 14), by subst h; exact ⟨dX9_back_1, rfl, ⟨⟨_, rfl, by decide, _, Or.inl q1389, Or.inl rfl⟩, (show mKd 14 31 ≤ 4 by decide)⟩⟩⟩ else none
      else
       if h : pc = 4 then some ⟨(.iconst (-1), 5, .inl (-1), 0, 0), by subst h; exact ⟨dX9_back_4, rfl, ⟨(-1), rfl, by decide⟩⟩⟩ else none
    else
     bif Nat.blt pc 8 then
      if h : pc = 5 then some ⟨(.if_icmp .ne 6, 8, .inl 0, 11, 0), by subst h; exact ⟨dX9_back_5, rfl, (show ((5 : Nat) : Int) + (6) = ((11 : Nat) : Int) by decide)⟩⟩ else none
     else
      bif Nat.blt pc 10 then
       if h : pc = 8 then some ⟨(.bipush (-3), 10, .inl (-3), 0, 0), by subst h; exact ⟨dX9_back_8, rfl, ⟨(-3), rfl, by decide⟩⟩⟩ else none
      else
       if h : pc = 10 then some ⟨(.ireturn, 11, .inl 0, 0, 0), by subst h; exact ⟨dX9_back_10, rfl, rfl⟩⟩ else none
   else
    bif Nat.blt pc 14 then
     bif Nat.blt pc 12 then
      if h : pc = 11 then some ⟨(.iconst 0, 12, .inl 0, 0, 0), by subst h; exact ⟨dX9_back_11, rfl, ⟨0, rfl, by decide⟩⟩⟩ else none
     else
      bif Nat.blt pc 13 then
       if h : pc = 12 then some ⟨(.istore_n 1, 13, .inl 0, 0, 0), by subst h; exact ⟨dX9_back_12, rfl, (show (1 : Nat) < 2 by decide)⟩⟩ else none
      else
       if h : pc = 13 then some ⟨(.iload_n 1, 14, .inl 0, 0, 0), by subst h; exact ⟨dX9_back_13, rfl, trivial⟩⟩ else none
    else
     bif Nat.blt pc 19 then
      bif Nat.blt pc 16 then
       if h : pc = 14 then some ⟨(.bipush 10, 16, .inl 10, 0, 0), by subst h; exact ⟨dX9_back_14, rfl, ⟨10, rfl, by decide⟩⟩⟩ else none
      else
       if h : pc = 16 then some ⟨(.if_icmp .ge 21, 19, .inl 0, 37, 0), by subst h; exact ⟨dX9_back_16, rfl, (show ((16 : Nat) : Int) + (21) = ((37 : Nat) : Int) by decide)⟩⟩ else none
     else
      bif Nat.blt pc 20 then
       if h : pc = 19 then some ⟨(.aload_n 0, 20, .inl 0, 0, 0), by subst h; exact ⟨dX9_back_19, rfl, trivial⟩⟩ else none
      else
       if h : pc = 20 then some ⟨(.getfield 23, 23, .inr (.inr none), 7, 14), by subst h; exact ⟨dX9_back_20, rfl, ⟨⟨_, rfl, by decide, _, Or.inl q1365, Or.inl rfl⟩, (show mKd 14 7 = 6 by rfl)⟩⟩⟩ else none
  else
   bif Nat.blt pc 34 then
    bif Nat.blt pc 28 then
     bif Nat.blt pc 24 then
      if h : pc = 23 then some ⟨(.iload_n 1, 24, .inl 0, 0, 0), by subst h; exact ⟨dX9_back_23, rfl, trivial⟩⟩ else none
     else
      bif Nat.blt pc 25 then
       if h : pc = 24 then some ⟨(.aload_n 0, 25, .inl 0, 0, 0), by subst h; exact ⟨dX9_back_24, rfl, trivial⟩⟩ else none
      else
       if h : pc = 25 then some ⟨(.getfield 35, 28, .inr (.inr none), 29, 14), by subst h; exact ⟨dX9_back_25, rfl, ⟨⟨_, rfl, by decide, _, Or.inl q1387, Or.inl rfl⟩, (show mKd 14 29 = 6 by rfl)⟩⟩⟩ else none
    else
     bif Nat.blt pc 30 then
      bif Nat.blt pc 29 then
       if h : pc = 28 then some ⟨(.iload_n 1, 29, .inl 0, 0, 0), by subst h; exact ⟨dX9_back_28, rfl, trivial⟩⟩ else none
      else
       if h : pc = 29 then some ⟨(.iaload, 30, .inl 0, 0, 0), by subst h; exact ⟨dX9_back_29, rfl, trivial⟩⟩ else none
     else
      bif Nat.blt pc 31 then
       if h : pc = 30 then some ⟨(.iastore, 31, .inl 0, 0, 0), by subst h; exact ⟨dX9_back_30, rfl, trivial⟩⟩ else none
      else
       if h : pc = 31 then some ⟨(.iinc 1 1, 34, .inl 1, 0, 0), by subst h; exact ⟨dX9_back_31, rfl, ⟨(show (1 : Nat) < 2 by decide), 1, rfl, by decide⟩⟩⟩ else none
   else
    bif Nat.blt pc 39 then
     bif Nat.blt pc 37 then
      if h : pc = 34 then some ⟨(.goto (-21), 37, .inl 0, 13, 0), by subst h; exact ⟨dX9_back_34, rfl, (show ((34 : Nat) : Int) + ((-21)) = ((13 : Nat) : Int) by decide)⟩⟩ else none
     else
      bif Nat.blt pc 38 then
       if h : pc = 37 then some ⟨(.iconst 0, 38, .inl 0, 0, 0), by subst h; exact ⟨dX9_back_37, rfl, ⟨0, rfl, by decide⟩⟩⟩ else none
      else
       if h : pc = 38 then some ⟨(.istore_n 1, 39, .inl 0, 0, 0), by subst h; exact ⟨dX9_back_38, rfl, (show (1 : Nat) < 2 by decide)⟩⟩ else none
    else
     bif Nat.blt pc 42 then
      bif Nat.blt pc 40 then
       if h : pc = 39 then some ⟨(.iload_n 1, 40, .inl 0, 0, 0), by subst h; exact ⟨dX9_back_39, rfl, trivial⟩⟩ else none
      else
       if h : pc = 40 then some ⟨(.bipush 25, 42, .inl 25, 0, 0), by subst h; exact ⟨dX9_back_40, rfl, ⟨25, rfl, by decide⟩⟩⟩ else none
     else
      bif Nat.blt pc 45 then
       if h : pc = 42 then some ⟨(.if_icmp .ge 21, 45, .inl 0, 63, 0), by subst h; exact ⟨dX9_back_42, rfl, (show ((42 : Nat) : Int) + (21) = ((63 : Nat) : Int) by decide)⟩⟩ else none
      else
       if h : pc = 45 then some ⟨(.aload_n 0, 46, .inl 0, 0, 0), by subst h; exact ⟨dX9_back_45, rfl, trivial⟩⟩ else none
 else
  bif Nat.blt pc 72 then
   bif Nat.blt pc 57 then
    bif Nat.blt pc 51 then
     bif Nat.blt pc 49 then
      if h : pc = 46 then some ⟨(.getfield 26, 49, .inr (.inr none), 10, 14), by subst h; exact ⟨dX9_back_46, rfl, ⟨⟨_, rfl, by decide, _, Or.inl q1368, Or.inl rfl⟩, (show mKd 14 10 = 6 by rfl)⟩⟩⟩ else none
     else
      bif Nat.blt pc 50 then
       if h : pc = 49 then some ⟨(.iload_n 1, 50, .inl 0, 0, 0), by subst h; exact ⟨dX9_back_49, rfl, trivial⟩⟩ else none
      else
       if h : pc = 50 then some ⟨(.aload_n 0, 51, .inl 0, 0, 0), by subst h; exact ⟨dX9_back_50, rfl, trivial⟩⟩ else none
    else
     bif Nat.blt pc 55 then
      bif Nat.blt pc 54 then
       if h : pc = 51 then some ⟨(.getfield 38, 54, .inr (.inr none), 30, 14), by subst h; exact ⟨dX9_back_51, rfl, ⟨⟨_, rfl, by decide, _, Or.inl q1388, Or.inl rfl⟩, (show mKd 14 30 = 6 by rfl)⟩⟩⟩ else none
      else
       if h : pc = 54 then some ⟨(.iload_n 1, 55, .inl 0, 0, 0), by subst h; exact ⟨dX9_back_54, rfl, trivial⟩⟩ else none
     else
      bif Nat.blt pc 56 then
       if h : pc = 55 then some ⟨(.iaload, 56, .inl 0, 0, 0), by subst h; exact ⟨dX9_back_55, rfl, trivial⟩⟩ else none
      else
       if h : pc = 56 then some ⟨(.iastore, 57, .inl 0, 0, 0), by subst h; exact ⟨dX9_back_56, rfl, trivial⟩⟩ else none
   else
    bif Nat.blt pc 64 then
     bif Nat.blt pc 60 then
      if h : pc = 57 then some ⟨(.iinc 1 1, 60, .inl 1, 0, 0), by subst h; exact ⟨dX9_back_57, rfl, ⟨(show (1 : Nat) < 2 by decide), 1, rfl, by decide⟩⟩⟩ else none
     else
      bif Nat.blt pc 63 then
       if h : pc = 60 then some ⟨(.goto (-21), 63, .inl 0, 39, 0), by subst h; exact ⟨dX9_back_60, rfl, (show ((60 : Nat) : Int) + ((-21)) = ((39 : Nat) : Int) by decide)⟩⟩ else none
      else
       if h : pc = 63 then some ⟨(.aload_n 0, 64, .inl 0, 0, 0), by subst h; exact ⟨dX9_back_63, rfl, trivial⟩⟩ else none
    else
     bif Nat.blt pc 68 then
      bif Nat.blt pc 65 then
       if h : pc = 64 then some ⟨(.aload_n 0, 65, .inl 0, 0, 0), by subst h; exact ⟨dX9_back_64, rfl, trivial⟩⟩ else none
      else
       if h : pc = 65 then some ⟨(.getfield 41, 68, .inl 0, 31, 14), by subst h; exact ⟨dX9_back_65, rfl, ⟨⟨_, rfl, by decide, _, Or.inl q1389, Or.inl rfl⟩, (show mKd 14 31 ≤ 4 by decide)⟩⟩⟩ else none
     else
      bif Nat.blt pc 71 then
       if h : pc = 68 then some ⟨(.putfield 64, 71, .inl 0, 11, 14), by subst h; exact ⟨dX9_back_68, rfl, ⟨⟨_, rfl, by decide, _, Or.inl q1369, Or.inl rfl⟩, (show mKd 14 11 ≤ 4 by decide), by decide, by decide, (fun q h => Or.inl (by cases h; rfl))⟩⟩⟩ else none
      else
       if h : pc = 71 then some ⟨(.aload_n 0, 72, .inl 0, 0, 0), by subst h; exact ⟨dX9_back_71, rfl, trivial⟩⟩ else none
  else
   bif Nat.blt pc 87 then
    bif Nat.blt pc 79 then
     bif Nat.blt pc 73 then
      if h : pc = 72 then some ⟨(.aload_n 0, 73, .inl 0, 0, 0), by subst h; exact ⟨dX9_back_72, rfl, trivial⟩⟩ else none
     else
      bif Nat.blt pc 76 then
       if h : pc = 73 then some ⟨(.getfield 412, 76, .inl 0, 32, 14), by subst h; exact ⟨dX9_back_73, rfl, ⟨⟨_, rfl, by decide, _, Or.inl q1390, Or.inl rfl⟩, (show mKd 14 32 ≤ 4 by decide)⟩⟩⟩ else none
      else
       if h : pc = 76 then some ⟨(.putfield 95, 79, .inl 0, 8, 14), by subst h; exact ⟨dX9_back_76, rfl, ⟨⟨_, rfl, by decide, _, Or.inl q1366, Or.inl rfl⟩, (show mKd 14 8 ≤ 4 by decide), by decide, by decide, (fun q h => Or.inl (by cases h; rfl))⟩⟩⟩ else none
    else
     bif Nat.blt pc 81 then
      bif Nat.blt pc 80 then
       if h : pc = 79 then some ⟨(.aload_n 0, 80, .inl 0, 0, 0), by subst h; exact ⟨dX9_back_79, rfl, trivial⟩⟩ else none
      else
       if h : pc = 80 then some ⟨(.aload_n 0, 81, .inl 0, 0, 0), by subst h; exact ⟨dX9_back_80, rfl, trivial⟩⟩ else none
     else
      bif Nat.blt pc 84 then
       if h : pc = 81 then some ⟨(.getfield 415, 84, .inl 0, 33, 14), by subst h; exact ⟨dX9_back_81, rfl, ⟨⟨_, rfl, by decide, _, Or.inl q1391, Or.inl rfl⟩, (show mKd 14 33 ≤ 4 by decide)⟩⟩⟩ else none
      else
       if h : pc = 84 then some ⟨(.putfield 98, 87, .inl 0, 9, 14), by subst h; exact ⟨dX9_back_84, rfl, ⟨⟨_, rfl, by decide, _, Or.inl q1367, Or.inl rfl⟩, (show mKd 14 9 ≤ 4 by decide), by decide, by decide, (fun q h => Or.inl (by cases h; rfl))⟩⟩⟩ else none
   else
    bif Nat.blt pc 92 then
     bif Nat.blt pc 88 then
      if h : pc = 87 then some ⟨(.aload_n 0, 88, .inl 0, 0, 0), by subst h; exact ⟨dX9_back_87, rfl, trivial⟩⟩ else none
     else
      bif Nat.blt pc 89 then
       if h : pc = 88 then some ⟨(.aload_n 0, 89, .inl 0, 0, 0), by subst h; exact ⟨dX9_back_88, rfl, trivial⟩⟩ else none
      else
       if h : pc = 89 then some ⟨(.getfield 418, 92, .inl 0, 34, 14), by subst h; exact ⟨dX9_back_89, rfl, ⟨⟨_, rfl, by decide, _, Or.inl q1392, Or.inl rfl⟩, (show mKd 14 34 ≤ 4 by decide)⟩⟩⟩ else none
    else
     bif Nat.blt pc 96 then
      bif Nat.blt pc 95 then
       if h : pc = 92 then some ⟨(.putfield 101, 95, .inl 0, 4, 14), by subst h; exact ⟨dX9_back_92, rfl, ⟨⟨_, rfl, by decide, _, Or.inl q1362, Or.inl rfl⟩, (show mKd 14 4 ≤ 4 by decide), by decide, by decide, (fun q h => Or.inl (by cases h; rfl))⟩⟩⟩ else none
      else
       if h : pc = 95 then some ⟨(.aload_n 0, 96, .inl 0, 0, 0), by subst h; exact ⟨dX9_back_95, rfl, trivial⟩⟩ else none
     else
      bif Nat.blt pc 99 then
       if h : pc = 96 then some ⟨(.getfield 64, 99, .inl 0, 11, 14), by subst h; exact ⟨dX9_back_96, rfl, ⟨⟨_, rfl, by decide, _, Or.inl q1369, Or.inl rfl⟩, (show mKd 14 11 ≤ 4 by decide)⟩⟩⟩ else none
      else
       if h : pc = 99 then some ⟨(.ireturn, 100, .inl 0, 0, 0), by subst h; exact ⟨dX9_back_99, rfl, rfl⟩⟩ else none

noncomputable def mt101 (pc : Nat) : Option {e : mE // mOK yX9_count cX9_count 2 ((Option.some ClassFile.FieldType.int)) pc e} :=
 bif Nat.blt pc 39 then
  bif Nat.blt pc 19 then
   bif Nat.blt pc 9 then
    bif Nat.blt pc 2 then
     bif Nat.blt pc 1 then
      if h : pc = 0 then some ⟨(.iload_n 1, 1, .inl 0, 0, 0), by subst h; exact ⟨dX9_count_0, rfl, trivial⟩⟩ else none
     else
      if h : pc = 1 then some ⟨(.i2l, 2, .inl 0, 0, 0), by subst h; exact ⟨dX9_count_1, rfl, trivial⟩⟩ else none
    else
     bif Nat.blt pc 3 then
      if h : pc = 2 then some ⟨(.lconst 0, 3, .inr (.inl 0), 0, 0), by subst h; exact ⟨dX9_count_2, rfl, ⟨0, rfl, by decide⟩⟩⟩ else none
     else
      bif Nat.blt pc 6 then
       if h : pc = 3 then some ⟨(.ldc2_w 104, 6, .inr (.inl 5), 0, 0), by subst h; exact ⟨dX9_count_3, rfl, ⟨_, rfl, q1735⟩⟩⟩ else none
      else
       if h : pc = 6 then some ⟨(.invokestatic 67, 9, .inl 0, 3, 0), by subst h; exact ⟨dX9_count_6, rfl, Or.inl ⟨by decide, q1482, q1483⟩⟩⟩ else none
   else
    bif Nat.blt pc 14 then
     bif Nat.blt pc 12 then
      if h : pc = 9 then some ⟨(.ifCond .ne 6, 12, .inl 0, 15, 0), by subst h; exact ⟨dX9_count_9, rfl, (show ((9 : Nat) : Int) + (6) = ((15 : Nat) : Int) by decide)⟩⟩ else none
     else
      if h : pc = 12 then some ⟨(.bipush (-2), 14, .inl (-2), 0, 0), by subst h; exact ⟨dX9_count_12, rfl, ⟨(-2), rfl, by decide⟩⟩⟩ else none
    else
     bif Nat.blt pc 15 then
      if h : pc = 14 then some ⟨(.ireturn, 15, .inl 0, 0, 0), by subst h; exact ⟨dX9_count_14, rfl, rfl⟩⟩ else none
     else
      bif Nat.blt pc 16 then
       if h : pc = 15 then some ⟨(.iload_n 1, 16, .inl 0, 0, 0), by subst h; exact ⟨dX9_count_15, rfl, trivial⟩⟩ else none
      else
       if h : pc = 16 then some ⟨(.ifCond .ne 10, 19, .inl 0, 26, 0), by subst h; exact ⟨dX9_count_16, rfl, (show ((16 : Nat) : Int) + (10) = ((26 : Nat) : Int) by decide)⟩⟩ else none
  else
   bif Nat.blt pc 28 then
    bif Nat.blt pc 23 then
     bif Nat.blt pc 20 then
      if h : pc = 19 then some ⟨(.aload_n 0, 20, .inl 0, 0, 0), by subst h; exact ⟨dX9_count_19, rfl, trivial⟩⟩ else none
     else
      if h : pc = 20 then some ⟨(.getfield 64, 23, .inl 0, 11, 14), by subst h; exact ⟨dX9_count_20, rfl, ⟨⟨_, rfl, by decide, _, Or.inl q1369, Or.inl rfl⟩, (show mKd 14 11 ≤ 4 by decide)⟩⟩⟩ else none
    else
     bif Nat.blt pc 26 then
      if h : pc = 23 then some ⟨(.goto 55, 26, .inl 0, 78, 0), by subst h; exact ⟨dX9_count_23, rfl, (show ((23 : Nat) : Int) + (55) = ((78 : Nat) : Int) by decide)⟩⟩ else none
     else
      bif Nat.blt pc 27 then
       if h : pc = 26 then some ⟨(.iload_n 1, 27, .inl 0, 0, 0), by subst h; exact ⟨dX9_count_26, rfl, trivial⟩⟩ else none
      else
       if h : pc = 27 then some ⟨(.iconst 1, 28, .inl 1, 0, 0), by subst h; exact ⟨dX9_count_27, rfl, ⟨1, rfl, by decide⟩⟩⟩ else none
   else
    bif Nat.blt pc 32 then
     bif Nat.blt pc 31 then
      if h : pc = 28 then some ⟨(.if_icmp .ne 10, 31, .inl 0, 38, 0), by subst h; exact ⟨dX9_count_28, rfl, (show ((28 : Nat) : Int) + (10) = ((38 : Nat) : Int) by decide)⟩⟩ else none
     else
      if h : pc = 31 then some ⟨(.aload_n 0, 32, .inl 0, 0, 0), by subst h; exact ⟨dX9_count_31, rfl, trivial⟩⟩ else none
    else
     bif Nat.blt pc 35 then
      if h : pc = 32 then some ⟨(.invokevirtual 325, 35, .inl 0, 10, 14), by subst h; exact ⟨dX9_count_32, rfl, ⟨by decide, q1510, q1512, qs62, _, rfl, rfl⟩⟩⟩ else none
     else
      bif Nat.blt pc 38 then
       if h : pc = 35 then some ⟨(.goto 43, 38, .inl 0, 78, 0), by subst h; exact ⟨dX9_count_35, rfl, (show ((35 : Nat) : Int) + (43) = ((78 : Nat) : Int) by decide)⟩⟩ else none
      else
       if h : pc = 38 then some ⟨(.iload_n 1, 39, .inl 0, 0, 0), by subst h; exact ⟨dX9_count_38, rfl, trivial⟩⟩ else none
 else
  bif Nat.blt pc 59 then
   bif Nat.blt pc 50 then
    bif Nat.blt pc 43 then
     bif Nat.blt pc 40 then
      if h : pc = 39 then some ⟨(.iconst 2, 40, .inl 2, 0, 0), by subst h; exact ⟨dX9_count_39, rfl, ⟨2, rfl, by decide⟩⟩⟩ else none
     else
      if h : pc = 40 then some ⟨(.if_icmp .ne 10, 43, .inl 0, 50, 0), by subst h; exact ⟨dX9_count_40, rfl, (show ((40 : Nat) : Int) + (10) = ((50 : Nat) : Int) by decide)⟩⟩ else none
    else
     bif Nat.blt pc 44 then
      if h : pc = 43 then some ⟨(.aload_n 0, 44, .inl 0, 0, 0), by subst h; exact ⟨dX9_count_43, rfl, trivial⟩⟩ else none
     else
      bif Nat.blt pc 47 then
       if h : pc = 44 then some ⟨(.getfield 98, 47, .inl 0, 9, 14), by subst h; exact ⟨dX9_count_44, rfl, ⟨⟨_, rfl, by decide, _, Or.inl q1367, Or.inl rfl⟩, (show mKd 14 9 ≤ 4 by decide)⟩⟩⟩ else none
      else
       if h : pc = 47 then some ⟨(.goto 31, 50, .inl 0, 78, 0), by subst h; exact ⟨dX9_count_47, rfl, (show ((47 : Nat) : Int) + (31) = ((78 : Nat) : Int) by decide)⟩⟩ else none
   else
    bif Nat.blt pc 52 then
     bif Nat.blt pc 51 then
      if h : pc = 50 then some ⟨(.iload_n 1, 51, .inl 0, 0, 0), by subst h; exact ⟨dX9_count_50, rfl, trivial⟩⟩ else none
     else
      if h : pc = 51 then some ⟨(.iconst 3, 52, .inl 3, 0, 0), by subst h; exact ⟨dX9_count_51, rfl, ⟨3, rfl, by decide⟩⟩⟩ else none
    else
     bif Nat.blt pc 55 then
      if h : pc = 52 then some ⟨(.if_icmp .ne 10, 55, .inl 0, 62, 0), by subst h; exact ⟨dX9_count_52, rfl, (show ((52 : Nat) : Int) + (10) = ((62 : Nat) : Int) by decide)⟩⟩ else none
     else
      bif Nat.blt pc 56 then
       if h : pc = 55 then some ⟨(.aload_n 0, 56, .inl 0, 0, 0), by subst h; exact ⟨dX9_count_55, rfl, trivial⟩⟩ else none
      else
       if h : pc = 56 then some ⟨(.getfield 61, 59, .inl 0, 3, 14), by subst h; exact ⟨dX9_count_56, rfl, ⟨⟨_, rfl, by decide, _, Or.inl q1361, Or.inl rfl⟩, (show mKd 14 3 ≤ 4 by decide)⟩⟩⟩ else none
  else
   bif Nat.blt pc 68 then
    bif Nat.blt pc 63 then
     bif Nat.blt pc 62 then
      if h : pc = 59 then some ⟨(.goto 19, 62, .inl 0, 78, 0), by subst h; exact ⟨dX9_count_59, rfl, (show ((59 : Nat) : Int) + (19) = ((78 : Nat) : Int) by decide)⟩⟩ else none
     else
      if h : pc = 62 then some ⟨(.iload_n 1, 63, .inl 0, 0, 0), by subst h; exact ⟨dX9_count_62, rfl, trivial⟩⟩ else none
    else
     bif Nat.blt pc 64 then
      if h : pc = 63 then some ⟨(.iconst 4, 64, .inl 4, 0, 0), by subst h; exact ⟨dX9_count_63, rfl, ⟨4, rfl, by decide⟩⟩⟩ else none
     else
      bif Nat.blt pc 67 then
       if h : pc = 64 then some ⟨(.if_icmp .ne 10, 67, .inl 0, 74, 0), by subst h; exact ⟨dX9_count_64, rfl, (show ((64 : Nat) : Int) + (10) = ((74 : Nat) : Int) by decide)⟩⟩ else none
      else
       if h : pc = 67 then some ⟨(.aload_n 0, 68, .inl 0, 0, 0), by subst h; exact ⟨dX9_count_67, rfl, trivial⟩⟩ else none
   else
    bif Nat.blt pc 74 then
     bif Nat.blt pc 71 then
      if h : pc = 68 then some ⟨(.getfield 121, 71, .inl 0, 6, 14), by subst h; exact ⟨dX9_count_68, rfl, ⟨⟨_, rfl, by decide, _, Or.inl q1364, Or.inl rfl⟩, (show mKd 14 6 ≤ 4 by decide)⟩⟩⟩ else none
     else
      if h : pc = 71 then some ⟨(.goto 7, 74, .inl 0, 78, 0), by subst h; exact ⟨dX9_count_71, rfl, (show ((71 : Nat) : Int) + (7) = ((78 : Nat) : Int) by decide)⟩⟩ else none
    else
     bif Nat.blt pc 75 then
      if h : pc = 74 then some ⟨(.aload_n 0, 75, .inl 0, 0, 0), by subst h; exact ⟨dX9_count_74, rfl, trivial⟩⟩ else none
     else
      bif Nat.blt pc 78 then
       if h : pc = 75 then some ⟨(.getfield 101, 78, .inl 0, 4, 14), by subst h; exact ⟨dX9_count_75, rfl, ⟨⟨_, rfl, by decide, _, Or.inl q1362, Or.inl rfl⟩, (show mKd 14 4 ≤ 4 by decide)⟩⟩⟩ else none
      else
       if h : pc = 78 then some ⟨(.ireturn, 79, .inl 0, 0, 0), by subst h; exact ⟨dX9_count_78, rfl, rfl⟩⟩ else none

noncomputable def mt102 (pc : Nat) : Option {e : mE // mOK yX9_cell cX9_cell 4 ((Option.some ClassFile.FieldType.int)) pc e} :=
 bif Nat.blt pc 44 then
  bif Nat.blt pc 23 then
   bif Nat.blt pc 11 then
    bif Nat.blt pc 7 then
     bif Nat.blt pc 1 then
      if h : pc = 0 then some ⟨(.iload_n 1, 1, .inl 0, 0, 0), by subst h; exact ⟨dX9_cell_0, rfl, trivial⟩⟩ else none
     else
      bif Nat.blt pc 4 then
       if h : pc = 1 then some ⟨(.invokestatic 395, 4, .inl 0, 91, 0), by subst h; exact ⟨dX9_cell_1, rfl, Or.inl ⟨by decide, q1846, q1847⟩⟩⟩ else none
      else
       if h : pc = 4 then some ⟨(.ifCond .ne 6, 7, .inl 0, 10, 0), by subst h; exact ⟨dX9_cell_4, rfl, (show ((4 : Nat) : Int) + (6) = ((10 : Nat) : Int) by decide)⟩⟩ else none
    else
     bif Nat.blt pc 9 then
      if h : pc = 7 then some ⟨(.bipush (-2), 9, .inl (-2), 0, 0), by subst h; exact ⟨dX9_cell_7, rfl, ⟨(-2), rfl, by decide⟩⟩⟩ else none
     else
      bif Nat.blt pc 10 then
       if h : pc = 9 then some ⟨(.ireturn, 10, .inl 0, 0, 0), by subst h; exact ⟨dX9_cell_9, rfl, rfl⟩⟩ else none
      else
       if h : pc = 10 then some ⟨(.aload_n 0, 11, .inl 0, 0, 0), by subst h; exact ⟨dX9_cell_10, rfl, trivial⟩⟩ else none
   else
    bif Nat.blt pc 16 then
     bif Nat.blt pc 14 then
      if h : pc = 11 then some ⟨(.getfield 44, 14, .inr (.inr none), 35, 14), by subst h; exact ⟨dX9_cell_11, rfl, ⟨⟨_, rfl, by decide, _, Or.inl q1393, Or.inl rfl⟩, (show mKd 14 35 = 6 by rfl)⟩⟩⟩ else none
     else
      bif Nat.blt pc 15 then
       if h : pc = 14 then some ⟨(.iload_n 1, 15, .inl 0, 0, 0), by subst h; exact ⟨dX9_cell_14, rfl, trivial⟩⟩ else none
      else
       if h : pc = 15 then some ⟨(.baload, 16, .inl 0, 0, 0), by subst h; exact ⟨dX9_cell_15, rfl, trivial⟩⟩ else none
    else
     bif Nat.blt pc 21 then
      bif Nat.blt pc 19 then
       if h : pc = 16 then some ⟨(.ifCond .ne 6, 19, .inl 0, 22, 0), by subst h; exact ⟨dX9_cell_16, rfl, (show ((16 : Nat) : Int) + (6) = ((22 : Nat) : Int) by decide)⟩⟩ else none
      else
       if h : pc = 19 then some ⟨(.bipush (-11), 21, .inl (-11), 0, 0), by subst h; exact ⟨dX9_cell_19, rfl, ⟨(-11), rfl, by decide⟩⟩⟩ else none
     else
      bif Nat.blt pc 22 then
       if h : pc = 21 then some ⟨(.ireturn, 22, .inl 0, 0, 0), by subst h; exact ⟨dX9_cell_21, rfl, rfl⟩⟩ else none
      else
       if h : pc = 22 then some ⟨(.iload_n 2, 23, .inl 0, 0, 0), by subst h; exact ⟨dX9_cell_22, rfl, trivial⟩⟩ else none
  else
   bif Nat.blt pc 32 then
    bif Nat.blt pc 26 then
     bif Nat.blt pc 24 then
      if h : pc = 23 then some ⟨(.i2l, 24, .inl 0, 0, 0), by subst h; exact ⟨dX9_cell_23, rfl, trivial⟩⟩ else none
     else
      bif Nat.blt pc 25 then
       if h : pc = 24 then some ⟨(.lconst 0, 25, .inr (.inl 0), 0, 0), by subst h; exact ⟨dX9_cell_24, rfl, ⟨0, rfl, by decide⟩⟩⟩ else none
      else
       if h : pc = 25 then some ⟨(.aload_n 0, 26, .inl 0, 0, 0), by subst h; exact ⟨dX9_cell_25, rfl, trivial⟩⟩ else none
    else
     bif Nat.blt pc 30 then
      bif Nat.blt pc 29 then
       if h : pc = 26 then some ⟨(.getfield 51, 29, .inr (.inr none), 37, 14), by subst h; exact ⟨dX9_cell_26, rfl, ⟨⟨_, rfl, by decide, _, Or.inl q1395, Or.inl rfl⟩, (show mKd 14 37 = 6 by rfl)⟩⟩⟩ else none
      else
       if h : pc = 29 then some ⟨(.iload_n 1, 30, .inl 0, 0, 0), by subst h; exact ⟨dX9_cell_29, rfl, trivial⟩⟩ else none
     else
      bif Nat.blt pc 31 then
       if h : pc = 30 then some ⟨(.iaload, 31, .inl 0, 0, 0), by subst h; exact ⟨dX9_cell_30, rfl, trivial⟩⟩ else none
      else
       if h : pc = 31 then some ⟨(.iconst 1, 32, .inl 1, 0, 0), by subst h; exact ⟨dX9_cell_31, rfl, ⟨1, rfl, by decide⟩⟩⟩ else none
   else
    bif Nat.blt pc 37 then
     bif Nat.blt pc 33 then
      if h : pc = 32 then some ⟨(.isub, 33, .inl 0, 0, 0), by subst h; exact ⟨dX9_cell_32, rfl, trivial⟩⟩ else none
     else
      bif Nat.blt pc 34 then
       if h : pc = 33 then some ⟨(.i2l, 34, .inl 0, 0, 0), by subst h; exact ⟨dX9_cell_33, rfl, trivial⟩⟩ else none
      else
       if h : pc = 34 then some ⟨(.invokestatic 67, 37, .inl 0, 3, 0), by subst h; exact ⟨dX9_cell_34, rfl, Or.inl ⟨by decide, q1482, q1483⟩⟩⟩ else none
    else
     bif Nat.blt pc 42 then
      bif Nat.blt pc 40 then
       if h : pc = 37 then some ⟨(.ifCond .ne 6, 40, .inl 0, 43, 0), by subst h; exact ⟨dX9_cell_37, rfl, (show ((37 : Nat) : Int) + (6) = ((43 : Nat) : Int) by decide)⟩⟩ else none
      else
       if h : pc = 40 then some ⟨(.bipush (-12), 42, .inl (-12), 0, 0), by subst h; exact ⟨dX9_cell_40, rfl, ⟨(-12), rfl, by decide⟩⟩⟩ else none
     else
      bif Nat.blt pc 43 then
       if h : pc = 42 then some ⟨(.ireturn, 43, .inl 0, 0, 0), by subst h; exact ⟨dX9_cell_42, rfl, rfl⟩⟩ else none
      else
       if h : pc = 43 then some ⟨(.aload_n 0, 44, .inl 0, 0, 0), by subst h; exact ⟨dX9_cell_43, rfl, trivial⟩⟩ else none
 else
  bif Nat.blt pc 64 then
   bif Nat.blt pc 53 then
    bif Nat.blt pc 50 then
     bif Nat.blt pc 47 then
      if h : pc = 44 then some ⟨(.getfield 54, 47, .inr (.inr none), 38, 14), by subst h; exact ⟨dX9_cell_44, rfl, ⟨⟨_, rfl, by decide, _, Or.inl q1396, Or.inl rfl⟩, (show mKd 14 38 = 6 by rfl)⟩⟩⟩ else none
     else
      bif Nat.blt pc 49 then
       if h : pc = 47 then some ⟨(.bipush 40, 49, .inl 40, 0, 0), by subst h; exact ⟨dX9_cell_47, rfl, ⟨40, rfl, by decide⟩⟩⟩ else none
      else
       if h : pc = 49 then some ⟨(.iload_n 1, 50, .inl 0, 0, 0), by subst h; exact ⟨dX9_cell_49, rfl, trivial⟩⟩ else none
    else
     bif Nat.blt pc 51 then
      if h : pc = 50 then some ⟨(.imul, 51, .inl 0, 0, 0), by subst h; exact ⟨dX9_cell_50, rfl, trivial⟩⟩ else none
     else
      bif Nat.blt pc 52 then
       if h : pc = 51 then some ⟨(.iload_n 2, 52, .inl 0, 0, 0), by subst h; exact ⟨dX9_cell_51, rfl, trivial⟩⟩ else none
      else
       if h : pc = 52 then some ⟨(.iadd, 53, .inl 0, 0, 0), by subst h; exact ⟨dX9_cell_52, rfl, trivial⟩⟩ else none
   else
    bif Nat.blt pc 58 then
     bif Nat.blt pc 54 then
      if h : pc = 53 then some ⟨(.aload_n 0, 54, .inl 0, 0, 0), by subst h; exact ⟨dX9_cell_53, rfl, trivial⟩⟩ else none
     else
      bif Nat.blt pc 57 then
       if h : pc = 54 then some ⟨(.getfield 48, 57, .inr (.inr none), 36, 14), by subst h; exact ⟨dX9_cell_54, rfl, ⟨⟨_, rfl, by decide, _, Or.inl q1394, Or.inl rfl⟩, (show mKd 14 36 = 6 by rfl)⟩⟩⟩ else none
      else
       if h : pc = 57 then some ⟨(.iload_n 1, 58, .inl 0, 0, 0), by subst h; exact ⟨dX9_cell_57, rfl, trivial⟩⟩ else none
    else
     bif Nat.blt pc 62 then
      bif Nat.blt pc 59 then
       if h : pc = 58 then some ⟨(.iaload, 59, .inl 0, 0, 0), by subst h; exact ⟨dX9_cell_58, rfl, trivial⟩⟩ else none
      else
       if h : pc = 59 then some ⟨(.ifCond .ne 8, 62, .inl 0, 67, 0), by subst h; exact ⟨dX9_cell_59, rfl, (show ((59 : Nat) : Int) + (8) = ((67 : Nat) : Int) by decide)⟩⟩ else none
     else
      bif Nat.blt pc 63 then
       if h : pc = 62 then some ⟨(.iload_n 3, 63, .inl 0, 0, 0), by subst h; exact ⟨dX9_cell_62, rfl, trivial⟩⟩ else none
      else
       if h : pc = 63 then some ⟨(.i2b, 64, .inl 0, 0, 0), by subst h; exact ⟨dX9_cell_63, rfl, trivial⟩⟩ else none
  else
   bif Nat.blt pc 77 then
    bif Nat.blt pc 71 then
     bif Nat.blt pc 67 then
      if h : pc = 64 then some ⟨(.goto 19, 67, .inl 0, 83, 0), by subst h; exact ⟨dX9_cell_64, rfl, (show ((64 : Nat) : Int) + (19) = ((83 : Nat) : Int) by decide)⟩⟩ else none
     else
      bif Nat.blt pc 68 then
       if h : pc = 67 then some ⟨(.aload_n 0, 68, .inl 0, 0, 0), by subst h; exact ⟨dX9_cell_67, rfl, trivial⟩⟩ else none
      else
       if h : pc = 68 then some ⟨(.getfield 48, 71, .inr (.inr none), 36, 14), by subst h; exact ⟨dX9_cell_68, rfl, ⟨⟨_, rfl, by decide, _, Or.inl q1394, Or.inl rfl⟩, (show mKd 14 36 = 6 by rfl)⟩⟩⟩ else none
    else
     bif Nat.blt pc 73 then
      bif Nat.blt pc 72 then
       if h : pc = 71 then some ⟨(.iload_n 1, 72, .inl 0, 0, 0), by subst h; exact ⟨dX9_cell_71, rfl, trivial⟩⟩ else none
      else
       if h : pc = 72 then some ⟨(.iaload, 73, .inl 0, 0, 0), by subst h; exact ⟨dX9_cell_72, rfl, trivial⟩⟩ else none
     else
      bif Nat.blt pc 74 then
       if h : pc = 73 then some ⟨(.iconst 1, 74, .inl 1, 0, 0), by subst h; exact ⟨dX9_cell_73, rfl, ⟨1, rfl, by decide⟩⟩⟩ else none
      else
       if h : pc = 74 then some ⟨(.if_icmp .ne 8, 77, .inl 0, 82, 0), by subst h; exact ⟨dX9_cell_74, rfl, (show ((74 : Nat) : Int) + (8) = ((82 : Nat) : Int) by decide)⟩⟩ else none
   else
    bif Nat.blt pc 82 then
     bif Nat.blt pc 78 then
      if h : pc = 77 then some ⟨(.iload_n 3, 78, .inl 0, 0, 0), by subst h; exact ⟨dX9_cell_77, rfl, trivial⟩⟩ else none
     else
      bif Nat.blt pc 79 then
       if h : pc = 78 then some ⟨(.i2s, 79, .inl 0, 0, 0), by subst h; exact ⟨dX9_cell_78, rfl, trivial⟩⟩ else none
      else
       if h : pc = 79 then some ⟨(.goto 4, 82, .inl 0, 83, 0), by subst h; exact ⟨dX9_cell_79, rfl, (show ((79 : Nat) : Int) + (4) = ((83 : Nat) : Int) by decide)⟩⟩ else none
    else
     bif Nat.blt pc 84 then
      bif Nat.blt pc 83 then
       if h : pc = 82 then some ⟨(.iload_n 3, 83, .inl 0, 0, 0), by subst h; exact ⟨dX9_cell_82, rfl, trivial⟩⟩ else none
      else
       if h : pc = 83 then some ⟨(.iastore, 84, .inl 0, 0, 0), by subst h; exact ⟨dX9_cell_83, rfl, trivial⟩⟩ else none
     else
      bif Nat.blt pc 85 then
       if h : pc = 84 then some ⟨(.iconst 1, 85, .inl 1, 0, 0), by subst h; exact ⟨dX9_cell_84, rfl, ⟨1, rfl, by decide⟩⟩⟩ else none
      else
       if h : pc = 85 then some ⟨(.ireturn, 86, .inl 0, 0, 0), by subst h; exact ⟨dX9_cell_85, rfl, rfl⟩⟩ else none

noncomputable def mt103 (pc : Nat) : Option {e : mE // mOK yX9_copy cX9_copy 9 ((Option.some ClassFile.FieldType.int)) pc e} :=
 bif Nat.blt pc 94 then
  bif Nat.blt pc 48 then
   bif Nat.blt pc 26 then
    bif Nat.blt pc 14 then
     bif Nat.blt pc 7 then
      bif Nat.blt pc 1 then
       if h : pc = 0 then some ⟨(.iload_n 1, 1, .inl 0, 0, 0), by subst h; exact ⟨dX9_copy_0, rfl, trivial⟩⟩ else none
      else
       bif Nat.blt pc 4 then
        if h : pc = 1 then some ⟨(.invokestatic 395, 4, .inl 0, 91, 0), by subst h; exact ⟨dX9_copy_1, rfl, Or.inl ⟨by decide, q1846, q1847⟩⟩⟩ else none
       else
        if h : pc = 4 then some ⟨(.ifCond .eq 10, 7, .inl 0, 14, 0), by subst h; exact ⟨dX9_copy_4, rfl, (show ((4 : Nat) : Int) + (10) = ((14 : Nat) : Int) by decide)⟩⟩ else none
     else
      bif Nat.blt pc 8 then
       if h : pc = 7 then some ⟨(.iload_n 3, 8, .inl 0, 0, 0), by subst h; exact ⟨dX9_copy_7, rfl, trivial⟩⟩ else none
      else
       bif Nat.blt pc 11 then
        if h : pc = 8 then some ⟨(.invokestatic 395, 11, .inl 0, 91, 0), by subst h; exact ⟨dX9_copy_8, rfl, Or.inl ⟨by decide, q1846, q1847⟩⟩⟩ else none
       else
        if h : pc = 11 then some ⟨(.ifCond .ne 6, 14, .inl 0, 17, 0), by subst h; exact ⟨dX9_copy_11, rfl, (show ((11 : Nat) : Int) + (6) = ((17 : Nat) : Int) by decide)⟩⟩ else none
    else
     bif Nat.blt pc 18 then
      bif Nat.blt pc 16 then
       if h : pc = 14 then some ⟨(.bipush (-2), 16, .inl (-2), 0, 0), by subst h; exact ⟨dX9_copy_14, rfl, ⟨(-2), rfl, by decide⟩⟩⟩ else none
      else
       bif Nat.blt pc 17 then
        if h : pc = 16 then some ⟨(.ireturn, 17, .inl 0, 0, 0), by subst h; exact ⟨dX9_copy_16, rfl, rfl⟩⟩ else none
       else
        if h : pc = 17 then some ⟨(.aload_n 0, 18, .inl 0, 0, 0), by subst h; exact ⟨dX9_copy_17, rfl, trivial⟩⟩ else none
     else
      bif Nat.blt pc 22 then
       bif Nat.blt pc 21 then
        if h : pc = 18 then some ⟨(.getfield 44, 21, .inr (.inr none), 35, 14), by subst h; exact ⟨dX9_copy_18, rfl, ⟨⟨_, rfl, by decide, _, Or.inl q1393, Or.inl rfl⟩, (show mKd 14 35 = 6 by rfl)⟩⟩⟩ else none
       else
        if h : pc = 21 then some ⟨(.iload_n 1, 22, .inl 0, 0, 0), by subst h; exact ⟨dX9_copy_21, rfl, trivial⟩⟩ else none
      else
       bif Nat.blt pc 23 then
        if h : pc = 22 then some ⟨(.baload, 23, .inl 0, 0, 0), by subst h; exact ⟨dX9_copy_22, rfl, trivial⟩⟩ else none
       else
        if h : pc = 23 then some ⟨(.ifCond .eq 12, 26, .inl 0, 35, 0), by subst h; exact ⟨dX9_copy_23, rfl, (show ((23 : Nat) : Int) + (12) = ((35 : Nat) : Int) by decide)⟩⟩ else none
   else
    bif Nat.blt pc 37 then
     bif Nat.blt pc 31 then
      bif Nat.blt pc 27 then
       if h : pc = 26 then some ⟨(.aload_n 0, 27, .inl 0, 0, 0), by subst h; exact ⟨dX9_copy_26, rfl, trivial⟩⟩ else none
      else
       bif Nat.blt pc 30 then
        if h : pc = 27 then some ⟨(.getfield 44, 30, .inr (.inr none), 35, 14), by subst h; exact ⟨dX9_copy_27, rfl, ⟨⟨_, rfl, by decide, _, Or.inl q1393, Or.inl rfl⟩, (show mKd 14 35 = 6 by rfl)⟩⟩⟩ else none
       else
        if h : pc = 30 then some ⟨(.iload_n 3, 31, .inl 0, 0, 0), by subst h; exact ⟨dX9_copy_30, rfl, trivial⟩⟩ else none
     else
      bif Nat.blt pc 32 then
       if h : pc = 31 then some ⟨(.baload, 32, .inl 0, 0, 0), by subst h; exact ⟨dX9_copy_31, rfl, trivial⟩⟩ else none
      else
       bif Nat.blt pc 35 then
        if h : pc = 32 then some ⟨(.ifCond .ne 6, 35, .inl 0, 38, 0), by subst h; exact ⟨dX9_copy_32, rfl, (show ((32 : Nat) : Int) + (6) = ((38 : Nat) : Int) by decide)⟩⟩ else none
       else
        if h : pc = 35 then some ⟨(.bipush (-11), 37, .inl (-11), 0, 0), by subst h; exact ⟨dX9_copy_35, rfl, ⟨(-11), rfl, by decide⟩⟩⟩ else none
    else
     bif Nat.blt pc 42 then
      bif Nat.blt pc 38 then
       if h : pc = 37 then some ⟨(.ireturn, 38, .inl 0, 0, 0), by subst h; exact ⟨dX9_copy_37, rfl, rfl⟩⟩ else none
      else
       bif Nat.blt pc 39 then
        if h : pc = 38 then some ⟨(.aload_n 0, 39, .inl 0, 0, 0), by subst h; exact ⟨dX9_copy_38, rfl, trivial⟩⟩ else none
       else
        if h : pc = 39 then some ⟨(.getfield 48, 42, .inr (.inr none), 36, 14), by subst h; exact ⟨dX9_copy_39, rfl, ⟨⟨_, rfl, by decide, _, Or.inl q1394, Or.inl rfl⟩, (show mKd 14 36 = 6 by rfl)⟩⟩⟩ else none
     else
      bif Nat.blt pc 44 then
       bif Nat.blt pc 43 then
        if h : pc = 42 then some ⟨(.iload_n 1, 43, .inl 0, 0, 0), by subst h; exact ⟨dX9_copy_42, rfl, trivial⟩⟩ else none
       else
        if h : pc = 43 then some ⟨(.iaload, 44, .inl 0, 0, 0), by subst h; exact ⟨dX9_copy_43, rfl, trivial⟩⟩ else none
      else
       bif Nat.blt pc 45 then
        if h : pc = 44 then some ⟨(.aload_n 0, 45, .inl 0, 0, 0), by subst h; exact ⟨dX9_copy_44, rfl, trivial⟩⟩ else none
       else
        if h : pc = 45 then some ⟨(.getfield 48, 48, .inr (.inr none), 36, 14), by subst h; exact ⟨dX9_copy_45, rfl, ⟨⟨_, rfl, by decide, _, Or.inl q1394, Or.inl rfl⟩, (show mKd 14 36 = 6 by rfl)⟩⟩⟩ else none
  else
   bif Nat.blt pc 72 then
    bif Nat.blt pc 58 then
     bif Nat.blt pc 53 then
      bif Nat.blt pc 49 then
       if h : pc = 48 then some ⟨(.iload_n 3, 49, .inl 0, 0, 0), by subst h; exact ⟨dX9_copy_48, rfl, trivial⟩⟩ else none
      else
       bif Nat.blt pc 50 then
        if h : pc = 49 then some ⟨(.iaload, 50, .inl 0, 0, 0), by subst h; exact ⟨dX9_copy_49, rfl, trivial⟩⟩ else none
       else
        if h : pc = 50 then some ⟨(.if_icmp .eq 6, 53, .inl 0, 56, 0), by subst h; exact ⟨dX9_copy_50, rfl, (show ((50 : Nat) : Int) + (6) = ((56 : Nat) : Int) by decide)⟩⟩ else none
     else
      bif Nat.blt pc 55 then
       if h : pc = 53 then some ⟨(.bipush (-13), 55, .inl (-13), 0, 0), by subst h; exact ⟨dX9_copy_53, rfl, ⟨(-13), rfl, by decide⟩⟩⟩ else none
      else
       bif Nat.blt pc 56 then
        if h : pc = 55 then some ⟨(.ireturn, 56, .inl 0, 0, 0), by subst h; exact ⟨dX9_copy_55, rfl, rfl⟩⟩ else none
       else
        if h : pc = 56 then some ⟨(.iload 5, 58, .inl 0, 0, 0), by subst h; exact ⟨dX9_copy_56, rfl, trivial⟩⟩ else none
    else
     bif Nat.blt pc 65 then
      bif Nat.blt pc 61 then
       if h : pc = 58 then some ⟨(.ifCond .lt 39, 61, .inl 0, 97, 0), by subst h; exact ⟨dX9_copy_58, rfl, (show ((58 : Nat) : Int) + (39) = ((97 : Nat) : Int) by decide)⟩⟩ else none
      else
       bif Nat.blt pc 62 then
        if h : pc = 61 then some ⟨(.iload_n 2, 62, .inl 0, 0, 0), by subst h; exact ⟨dX9_copy_61, rfl, trivial⟩⟩ else none
       else
        if h : pc = 62 then some ⟨(.ifCond .lt 35, 65, .inl 0, 97, 0), by subst h; exact ⟨dX9_copy_62, rfl, (show ((62 : Nat) : Int) + (35) = ((97 : Nat) : Int) by decide)⟩⟩ else none
     else
      bif Nat.blt pc 70 then
       bif Nat.blt pc 67 then
        if h : pc = 65 then some ⟨(.iload 4, 67, .inl 0, 0, 0), by subst h; exact ⟨dX9_copy_65, rfl, trivial⟩⟩ else none
       else
        if h : pc = 67 then some ⟨(.ifCond .lt 30, 70, .inl 0, 97, 0), by subst h; exact ⟨dX9_copy_67, rfl, (show ((67 : Nat) : Int) + (30) = ((97 : Nat) : Int) by decide)⟩⟩ else none
      else
       bif Nat.blt pc 71 then
        if h : pc = 70 then some ⟨(.iload_n 2, 71, .inl 0, 0, 0), by subst h; exact ⟨dX9_copy_70, rfl, trivial⟩⟩ else none
       else
        if h : pc = 71 then some ⟨(.aload_n 0, 72, .inl 0, 0, 0), by subst h; exact ⟨dX9_copy_71, rfl, trivial⟩⟩ else none
   else
    bif Nat.blt pc 83 then
     bif Nat.blt pc 77 then
      bif Nat.blt pc 75 then
       if h : pc = 72 then some ⟨(.getfield 51, 75, .inr (.inr none), 37, 14), by subst h; exact ⟨dX9_copy_72, rfl, ⟨⟨_, rfl, by decide, _, Or.inl q1395, Or.inl rfl⟩, (show mKd 14 37 = 6 by rfl)⟩⟩⟩ else none
      else
       bif Nat.blt pc 76 then
        if h : pc = 75 then some ⟨(.iload_n 1, 76, .inl 0, 0, 0), by subst h; exact ⟨dX9_copy_75, rfl, trivial⟩⟩ else none
       else
        if h : pc = 76 then some ⟨(.iaload, 77, .inl 0, 0, 0), by subst h; exact ⟨dX9_copy_76, rfl, trivial⟩⟩ else none
     else
      bif Nat.blt pc 79 then
       if h : pc = 77 then some ⟨(.iload 5, 79, .inl 0, 0, 0), by subst h; exact ⟨dX9_copy_77, rfl, trivial⟩⟩ else none
      else
       bif Nat.blt pc 80 then
        if h : pc = 79 then some ⟨(.isub, 80, .inl 0, 0, 0), by subst h; exact ⟨dX9_copy_79, rfl, trivial⟩⟩ else none
       else
        if h : pc = 80 then some ⟨(.if_icmp .gt 17, 83, .inl 0, 97, 0), by subst h; exact ⟨dX9_copy_80, rfl, (show ((80 : Nat) : Int) + (17) = ((97 : Nat) : Int) by decide)⟩⟩ else none
    else
     bif Nat.blt pc 89 then
      bif Nat.blt pc 85 then
       if h : pc = 83 then some ⟨(.iload 4, 85, .inl 0, 0, 0), by subst h; exact ⟨dX9_copy_83, rfl, trivial⟩⟩ else none
      else
       bif Nat.blt pc 86 then
        if h : pc = 85 then some ⟨(.aload_n 0, 86, .inl 0, 0, 0), by subst h; exact ⟨dX9_copy_85, rfl, trivial⟩⟩ else none
       else
        if h : pc = 86 then some ⟨(.getfield 51, 89, .inr (.inr none), 37, 14), by subst h; exact ⟨dX9_copy_86, rfl, ⟨⟨_, rfl, by decide, _, Or.inl q1395, Or.inl rfl⟩, (show mKd 14 37 = 6 by rfl)⟩⟩⟩ else none
     else
      bif Nat.blt pc 91 then
       bif Nat.blt pc 90 then
        if h : pc = 89 then some ⟨(.iload_n 3, 90, .inl 0, 0, 0), by subst h; exact ⟨dX9_copy_89, rfl, trivial⟩⟩ else none
       else
        if h : pc = 90 then some ⟨(.iaload, 91, .inl 0, 0, 0), by subst h; exact ⟨dX9_copy_90, rfl, trivial⟩⟩ else none
      else
       bif Nat.blt pc 93 then
        if h : pc = 91 then some ⟨(.iload 5, 93, .inl 0, 0, 0), by subst h; exact ⟨dX9_copy_91, rfl, trivial⟩⟩ else none
       else
        if h : pc = 93 then some ⟨(.isub, 94, .inl 0, 0, 0), by subst h; exact ⟨dX9_copy_93, rfl, trivial⟩⟩ else none
 else
  bif Nat.blt pc 143 then
   bif Nat.blt pc 118 then
    bif Nat.blt pc 105 then
     bif Nat.blt pc 100 then
      bif Nat.blt pc 97 then
       if h : pc = 94 then some ⟨(.if_icmp .le 6, 97, .inl 0, 100, 0), by subst h; exact ⟨dX9_copy_94, rfl, (show ((94 : Nat) : Int) + (6) = ((100 : Nat) : Int) by decide)⟩⟩ else none
      else
       bif Nat.blt pc 99 then
        if h : pc = 97 then some ⟨(.bipush (-12), 99, .inl (-12), 0, 0), by subst h; exact ⟨dX9_copy_97, rfl, ⟨(-12), rfl, by decide⟩⟩⟩ else none
       else
        if h : pc = 99 then some ⟨(.ireturn, 100, .inl 0, 0, 0), by subst h; exact ⟨dX9_copy_99, rfl, rfl⟩⟩ else none
     else
      bif Nat.blt pc 101 then
       if h : pc = 100 then some ⟨(.iload_n 1, 101, .inl 0, 0, 0), by subst h; exact ⟨dX9_copy_100, rfl, trivial⟩⟩ else none
      else
       bif Nat.blt pc 102 then
        if h : pc = 101 then some ⟨(.iload_n 3, 102, .inl 0, 0, 0), by subst h; exact ⟨dX9_copy_101, rfl, trivial⟩⟩ else none
       else
        if h : pc = 102 then some ⟨(.if_icmp .ne 13, 105, .inl 0, 115, 0), by subst h; exact ⟨dX9_copy_102, rfl, (show ((102 : Nat) : Int) + (13) = ((115 : Nat) : Int) by decide)⟩⟩ else none
    else
     bif Nat.blt pc 111 then
      bif Nat.blt pc 106 then
       if h : pc = 105 then some ⟨(.iload_n 2, 106, .inl 0, 0, 0), by subst h; exact ⟨dX9_copy_105, rfl, trivial⟩⟩ else none
      else
       bif Nat.blt pc 108 then
        if h : pc = 106 then some ⟨(.iload 4, 108, .inl 0, 0, 0), by subst h; exact ⟨dX9_copy_106, rfl, trivial⟩⟩ else none
       else
        if h : pc = 108 then some ⟨(.if_icmp .ge 7, 111, .inl 0, 115, 0), by subst h; exact ⟨dX9_copy_108, rfl, (show ((108 : Nat) : Int) + (7) = ((115 : Nat) : Int) by decide)⟩⟩ else none
     else
      bif Nat.blt pc 115 then
       bif Nat.blt pc 112 then
        if h : pc = 111 then some ⟨(.iconst 1, 112, .inl 1, 0, 0), by subst h; exact ⟨dX9_copy_111, rfl, ⟨1, rfl, by decide⟩⟩⟩ else none
       else
        if h : pc = 112 then some ⟨(.goto 4, 115, .inl 0, 116, 0), by subst h; exact ⟨dX9_copy_112, rfl, (show ((112 : Nat) : Int) + (4) = ((116 : Nat) : Int) by decide)⟩⟩ else none
      else
       bif Nat.blt pc 116 then
        if h : pc = 115 then some ⟨(.iconst 0, 116, .inl 0, 0, 0), by subst h; exact ⟨dX9_copy_115, rfl, ⟨0, rfl, by decide⟩⟩⟩ else none
       else
        if h : pc = 116 then some ⟨(.istore 6, 118, .inl 0, 0, 0), by subst h; exact ⟨dX9_copy_116, rfl, (show (6 : Nat) < 9 by decide)⟩⟩ else none
   else
    bif Nat.blt pc 130 then
     bif Nat.blt pc 123 then
      bif Nat.blt pc 119 then
       if h : pc = 118 then some ⟨(.iconst 0, 119, .inl 0, 0, 0), by subst h; exact ⟨dX9_copy_118, rfl, ⟨0, rfl, by decide⟩⟩⟩ else none
      else
       bif Nat.blt pc 121 then
        if h : pc = 119 then some ⟨(.istore 7, 121, .inl 0, 0, 0), by subst h; exact ⟨dX9_copy_119, rfl, (show (7 : Nat) < 9 by decide)⟩⟩ else none
       else
        if h : pc = 121 then some ⟨(.iload 7, 123, .inl 0, 0, 0), by subst h; exact ⟨dX9_copy_121, rfl, trivial⟩⟩ else none
     else
      bif Nat.blt pc 125 then
       if h : pc = 123 then some ⟨(.iload 5, 125, .inl 0, 0, 0), by subst h; exact ⟨dX9_copy_123, rfl, trivial⟩⟩ else none
      else
       bif Nat.blt pc 128 then
        if h : pc = 125 then some ⟨(.if_icmp .ge 57, 128, .inl 0, 182, 0), by subst h; exact ⟨dX9_copy_125, rfl, (show ((125 : Nat) : Int) + (57) = ((182 : Nat) : Int) by decide)⟩⟩ else none
       else
        if h : pc = 128 then some ⟨(.iload 6, 130, .inl 0, 0, 0), by subst h; exact ⟨dX9_copy_128, rfl, trivial⟩⟩ else none
    else
     bif Nat.blt pc 136 then
      bif Nat.blt pc 133 then
       if h : pc = 130 then some ⟨(.ifCond .eq 13, 133, .inl 0, 143, 0), by subst h; exact ⟨dX9_copy_130, rfl, (show ((130 : Nat) : Int) + (13) = ((143 : Nat) : Int) by decide)⟩⟩ else none
      else
       bif Nat.blt pc 135 then
        if h : pc = 133 then some ⟨(.iload 5, 135, .inl 0, 0, 0), by subst h; exact ⟨dX9_copy_133, rfl, trivial⟩⟩ else none
       else
        if h : pc = 135 then some ⟨(.iconst 1, 136, .inl 1, 0, 0), by subst h; exact ⟨dX9_copy_135, rfl, ⟨1, rfl, by decide⟩⟩⟩ else none
     else
      bif Nat.blt pc 139 then
       bif Nat.blt pc 137 then
        if h : pc = 136 then some ⟨(.isub, 137, .inl 0, 0, 0), by subst h; exact ⟨dX9_copy_136, rfl, trivial⟩⟩ else none
       else
        if h : pc = 137 then some ⟨(.iload 7, 139, .inl 0, 0, 0), by subst h; exact ⟨dX9_copy_137, rfl, trivial⟩⟩ else none
      else
       bif Nat.blt pc 140 then
        if h : pc = 139 then some ⟨(.isub, 140, .inl 0, 0, 0), by subst h; exact ⟨dX9_copy_139, rfl, trivial⟩⟩ else none
       else
        if h : pc = 140 then some ⟨(.goto 5, 143, .inl 0, 145, 0), by subst h; exact ⟨dX9_copy_140, rfl, (show ((140 : Nat) : Int) + (5) = ((145 : Nat) : Int) by decide)⟩⟩ else none
  else
   bif Nat.blt pc 165 then
    bif Nat.blt pc 154 then
     bif Nat.blt pc 148 then
      bif Nat.blt pc 145 then
       if h : pc = 143 then some ⟨(.iload 7, 145, .inl 0, 0, 0), by subst h; exact ⟨dX9_copy_143, rfl, trivial⟩⟩ else none
      else
       bif Nat.blt pc 147 then
        if h : pc = 145 then some ⟨(.istore 8, 147, .inl 0, 0, 0), by subst h; exact ⟨dX9_copy_145, rfl, (show (8 : Nat) < 9 by decide)⟩⟩ else none
       else
        if h : pc = 147 then some ⟨(.aload_n 0, 148, .inl 0, 0, 0), by subst h; exact ⟨dX9_copy_147, rfl, trivial⟩⟩ else none
     else
      bif Nat.blt pc 151 then
       if h : pc = 148 then some ⟨(.getfield 54, 151, .inr (.inr none), 38, 14), by subst h; exact ⟨dX9_copy_148, rfl, ⟨⟨_, rfl, by decide, _, Or.inl q1396, Or.inl rfl⟩, (show mKd 14 38 = 6 by rfl)⟩⟩⟩ else none
      else
       bif Nat.blt pc 153 then
        if h : pc = 151 then some ⟨(.bipush 40, 153, .inl 40, 0, 0), by subst h; exact ⟨dX9_copy_151, rfl, ⟨40, rfl, by decide⟩⟩⟩ else none
       else
        if h : pc = 153 then some ⟨(.iload_n 3, 154, .inl 0, 0, 0), by subst h; exact ⟨dX9_copy_153, rfl, trivial⟩⟩ else none
    else
     bif Nat.blt pc 158 then
      bif Nat.blt pc 155 then
       if h : pc = 154 then some ⟨(.imul, 155, .inl 0, 0, 0), by subst h; exact ⟨dX9_copy_154, rfl, trivial⟩⟩ else none
      else
       bif Nat.blt pc 157 then
        if h : pc = 155 then some ⟨(.iload 4, 157, .inl 0, 0, 0), by subst h; exact ⟨dX9_copy_155, rfl, trivial⟩⟩ else none
       else
        if h : pc = 157 then some ⟨(.iadd, 158, .inl 0, 0, 0), by subst h; exact ⟨dX9_copy_157, rfl, trivial⟩⟩ else none
     else
      bif Nat.blt pc 161 then
       bif Nat.blt pc 160 then
        if h : pc = 158 then some ⟨(.iload 8, 160, .inl 0, 0, 0), by subst h; exact ⟨dX9_copy_158, rfl, trivial⟩⟩ else none
       else
        if h : pc = 160 then some ⟨(.iadd, 161, .inl 0, 0, 0), by subst h; exact ⟨dX9_copy_160, rfl, trivial⟩⟩ else none
      else
       bif Nat.blt pc 162 then
        if h : pc = 161 then some ⟨(.aload_n 0, 162, .inl 0, 0, 0), by subst h; exact ⟨dX9_copy_161, rfl, trivial⟩⟩ else none
       else
        if h : pc = 162 then some ⟨(.getfield 54, 165, .inr (.inr none), 38, 14), by subst h; exact ⟨dX9_copy_162, rfl, ⟨⟨_, rfl, by decide, _, Or.inl q1396, Or.inl rfl⟩, (show mKd 14 38 = 6 by rfl)⟩⟩⟩ else none
   else
    bif Nat.blt pc 173 then
     bif Nat.blt pc 169 then
      bif Nat.blt pc 167 then
       if h : pc = 165 then some ⟨(.bipush 40, 167, .inl 40, 0, 0), by subst h; exact ⟨dX9_copy_165, rfl, ⟨40, rfl, by decide⟩⟩⟩ else none
      else
       bif Nat.blt pc 168 then
        if h : pc = 167 then some ⟨(.iload_n 1, 168, .inl 0, 0, 0), by subst h; exact ⟨dX9_copy_167, rfl, trivial⟩⟩ else none
       else
        if h : pc = 168 then some ⟨(.imul, 169, .inl 0, 0, 0), by subst h; exact ⟨dX9_copy_168, rfl, trivial⟩⟩ else none
     else
      bif Nat.blt pc 170 then
       if h : pc = 169 then some ⟨(.iload_n 2, 170, .inl 0, 0, 0), by subst h; exact ⟨dX9_copy_169, rfl, trivial⟩⟩ else none
      else
       bif Nat.blt pc 171 then
        if h : pc = 170 then some ⟨(.iadd, 171, .inl 0, 0, 0), by subst h; exact ⟨dX9_copy_170, rfl, trivial⟩⟩ else none
       else
        if h : pc = 171 then some ⟨(.iload 8, 173, .inl 0, 0, 0), by subst h; exact ⟨dX9_copy_171, rfl, trivial⟩⟩ else none
    else
     bif Nat.blt pc 176 then
      bif Nat.blt pc 174 then
       if h : pc = 173 then some ⟨(.iadd, 174, .inl 0, 0, 0), by subst h; exact ⟨dX9_copy_173, rfl, trivial⟩⟩ else none
      else
       bif Nat.blt pc 175 then
        if h : pc = 174 then some ⟨(.iaload, 175, .inl 0, 0, 0), by subst h; exact ⟨dX9_copy_174, rfl, trivial⟩⟩ else none
       else
        if h : pc = 175 then some ⟨(.iastore, 176, .inl 0, 0, 0), by subst h; exact ⟨dX9_copy_175, rfl, trivial⟩⟩ else none
     else
      bif Nat.blt pc 182 then
       bif Nat.blt pc 179 then
        if h : pc = 176 then some ⟨(.iinc 7 1, 179, .inl 1, 0, 0), by subst h; exact ⟨dX9_copy_176, rfl, ⟨(show (7 : Nat) < 9 by decide), 1, rfl, by decide⟩⟩⟩ else none
       else
        if h : pc = 179 then some ⟨(.goto (-58), 182, .inl 0, 121, 0), by subst h; exact ⟨dX9_copy_179, rfl, (show ((179 : Nat) : Int) + ((-58)) = ((121 : Nat) : Int) by decide)⟩⟩ else none
      else
       bif Nat.blt pc 184 then
        if h : pc = 182 then some ⟨(.iload 5, 184, .inl 0, 0, 0), by subst h; exact ⟨dX9_copy_182, rfl, trivial⟩⟩ else none
       else
        if h : pc = 184 then some ⟨(.ireturn, 185, .inl 0, 0, 0), by subst h; exact ⟨dX9_copy_184, rfl, rfl⟩⟩ else none

noncomputable def mt104 (pc : Nat) : Option {e : mE // mOK yX9_court cX9_court 8 ((Option.some ClassFile.FieldType.int)) pc e} :=
 bif Nat.blt pc 91 then
  bif Nat.blt pc 48 then
   bif Nat.blt pc 23 then
    bif Nat.blt pc 10 then
     bif Nat.blt pc 7 then
      bif Nat.blt pc 1 then
       if h : pc = 0 then some ⟨(.iload_n 1, 1, .inl 0, 0, 0), by subst h; exact ⟨dX9_court_0, rfl, trivial⟩⟩ else none
      else
       bif Nat.blt pc 4 then
        if h : pc = 1 then some ⟨(.invokestatic 395, 4, .inl 0, 91, 0), by subst h; exact ⟨dX9_court_1, rfl, Or.inl ⟨by decide, q1846, q1847⟩⟩⟩ else none
       else
        if h : pc = 4 then some ⟨(.ifCond .eq 28, 7, .inl 0, 32, 0), by subst h; exact ⟨dX9_court_4, rfl, (show ((4 : Nat) : Int) + (28) = ((32 : Nat) : Int) by decide)⟩⟩ else none
     else
      bif Nat.blt pc 8 then
       if h : pc = 7 then some ⟨(.iload_n 2, 8, .inl 0, 0, 0), by subst h; exact ⟨dX9_court_7, rfl, trivial⟩⟩ else none
      else
       bif Nat.blt pc 9 then
        if h : pc = 8 then some ⟨(.i2l, 9, .inl 0, 0, 0), by subst h; exact ⟨dX9_court_8, rfl, trivial⟩⟩ else none
       else
        if h : pc = 9 then some ⟨(.lconst 0, 10, .inr (.inl 0), 0, 0), by subst h; exact ⟨dX9_court_9, rfl, ⟨0, rfl, by decide⟩⟩⟩ else none
    else
     bif Nat.blt pc 19 then
      bif Nat.blt pc 13 then
       if h : pc = 10 then some ⟨(.ldc2_w 423, 13, .inr (.inl 2), 0, 0), by subst h; exact ⟨dX9_court_10, rfl, ⟨_, rfl, q1868⟩⟩⟩ else none
      else
       bif Nat.blt pc 16 then
        if h : pc = 13 then some ⟨(.invokestatic 67, 16, .inl 0, 3, 0), by subst h; exact ⟨dX9_court_13, rfl, Or.inl ⟨by decide, q1482, q1483⟩⟩⟩ else none
       else
        if h : pc = 16 then some ⟨(.ifCond .eq 16, 19, .inl 0, 32, 0), by subst h; exact ⟨dX9_court_16, rfl, (show ((16 : Nat) : Int) + (16) = ((32 : Nat) : Int) by decide)⟩⟩ else none
     else
      bif Nat.blt pc 21 then
       if h : pc = 19 then some ⟨(.iload 4, 21, .inl 0, 0, 0), by subst h; exact ⟨dX9_court_19, rfl, trivial⟩⟩ else none
      else
       bif Nat.blt pc 22 then
        if h : pc = 21 then some ⟨(.i2l, 22, .inl 0, 0, 0), by subst h; exact ⟨dX9_court_21, rfl, trivial⟩⟩ else none
       else
        if h : pc = 22 then some ⟨(.lconst 0, 23, .inr (.inl 0), 0, 0), by subst h; exact ⟨dX9_court_22, rfl, ⟨0, rfl, by decide⟩⟩⟩ else none
   else
    bif Nat.blt pc 36 then
     bif Nat.blt pc 32 then
      bif Nat.blt pc 26 then
       if h : pc = 23 then some ⟨(.ldc2_w 104, 26, .inr (.inl 5), 0, 0), by subst h; exact ⟨dX9_court_23, rfl, ⟨_, rfl, q1735⟩⟩⟩ else none
      else
       bif Nat.blt pc 29 then
        if h : pc = 26 then some ⟨(.invokestatic 67, 29, .inl 0, 3, 0), by subst h; exact ⟨dX9_court_26, rfl, Or.inl ⟨by decide, q1482, q1483⟩⟩⟩ else none
       else
        if h : pc = 29 then some ⟨(.ifCond .ne 6, 32, .inl 0, 35, 0), by subst h; exact ⟨dX9_court_29, rfl, (show ((29 : Nat) : Int) + (6) = ((35 : Nat) : Int) by decide)⟩⟩ else none
     else
      bif Nat.blt pc 34 then
       if h : pc = 32 then some ⟨(.bipush (-2), 34, .inl (-2), 0, 0), by subst h; exact ⟨dX9_court_32, rfl, ⟨(-2), rfl, by decide⟩⟩⟩ else none
      else
       bif Nat.blt pc 35 then
        if h : pc = 34 then some ⟨(.ireturn, 35, .inl 0, 0, 0), by subst h; exact ⟨dX9_court_34, rfl, rfl⟩⟩ else none
       else
        if h : pc = 35 then some ⟨(.aload_n 0, 36, .inl 0, 0, 0), by subst h; exact ⟨dX9_court_35, rfl, trivial⟩⟩ else none
    else
     bif Nat.blt pc 41 then
      bif Nat.blt pc 39 then
       if h : pc = 36 then some ⟨(.getfield 44, 39, .inr (.inr none), 35, 14), by subst h; exact ⟨dX9_court_36, rfl, ⟨⟨_, rfl, by decide, _, Or.inl q1393, Or.inl rfl⟩, (show mKd 14 35 = 6 by rfl)⟩⟩⟩ else none
      else
       bif Nat.blt pc 40 then
        if h : pc = 39 then some ⟨(.iload_n 1, 40, .inl 0, 0, 0), by subst h; exact ⟨dX9_court_39, rfl, trivial⟩⟩ else none
       else
        if h : pc = 40 then some ⟨(.baload, 41, .inl 0, 0, 0), by subst h; exact ⟨dX9_court_40, rfl, trivial⟩⟩ else none
     else
      bif Nat.blt pc 44 then
       if h : pc = 41 then some ⟨(.ifCond .eq 16, 44, .inl 0, 57, 0), by subst h; exact ⟨dX9_court_41, rfl, (show ((41 : Nat) : Int) + (16) = ((57 : Nat) : Int) by decide)⟩⟩ else none
      else
       bif Nat.blt pc 45 then
        if h : pc = 44 then some ⟨(.aload_n 0, 45, .inl 0, 0, 0), by subst h; exact ⟨dX9_court_44, rfl, trivial⟩⟩ else none
       else
        if h : pc = 45 then some ⟨(.getfield 48, 48, .inr (.inr none), 36, 14), by subst h; exact ⟨dX9_court_45, rfl, ⟨⟨_, rfl, by decide, _, Or.inl q1394, Or.inl rfl⟩, (show mKd 14 36 = 6 by rfl)⟩⟩⟩ else none
  else
   bif Nat.blt pc 68 then
    bif Nat.blt pc 57 then
     bif Nat.blt pc 51 then
      bif Nat.blt pc 49 then
       if h : pc = 48 then some ⟨(.iload_n 1, 49, .inl 0, 0, 0), by subst h; exact ⟨dX9_court_48, rfl, trivial⟩⟩ else none
      else
       bif Nat.blt pc 50 then
        if h : pc = 49 then some ⟨(.iaload, 50, .inl 0, 0, 0), by subst h; exact ⟨dX9_court_49, rfl, trivial⟩⟩ else none
       else
        if h : pc = 50 then some ⟨(.iload_n 2, 51, .inl 0, 0, 0), by subst h; exact ⟨dX9_court_50, rfl, trivial⟩⟩ else none
     else
      bif Nat.blt pc 54 then
       if h : pc = 51 then some ⟨(.if_icmp .eq 6, 54, .inl 0, 57, 0), by subst h; exact ⟨dX9_court_51, rfl, (show ((51 : Nat) : Int) + (6) = ((57 : Nat) : Int) by decide)⟩⟩ else none
      else
       bif Nat.blt pc 56 then
        if h : pc = 54 then some ⟨(.bipush (-13), 56, .inl (-13), 0, 0), by subst h; exact ⟨dX9_court_54, rfl, ⟨(-13), rfl, by decide⟩⟩⟩ else none
       else
        if h : pc = 56 then some ⟨(.ireturn, 57, .inl 0, 0, 0), by subst h; exact ⟨dX9_court_56, rfl, rfl⟩⟩ else none
    else
     bif Nat.blt pc 62 then
      bif Nat.blt pc 58 then
       if h : pc = 57 then some ⟨(.aload_n 0, 58, .inl 0, 0, 0), by subst h; exact ⟨dX9_court_57, rfl, trivial⟩⟩ else none
      else
       bif Nat.blt pc 61 then
        if h : pc = 58 then some ⟨(.getfield 44, 61, .inr (.inr none), 35, 14), by subst h; exact ⟨dX9_court_58, rfl, ⟨⟨_, rfl, by decide, _, Or.inl q1393, Or.inl rfl⟩, (show mKd 14 35 = 6 by rfl)⟩⟩⟩ else none
       else
        if h : pc = 61 then some ⟨(.iload_n 1, 62, .inl 0, 0, 0), by subst h; exact ⟨dX9_court_61, rfl, trivial⟩⟩ else none
     else
      bif Nat.blt pc 63 then
       if h : pc = 62 then some ⟨(.baload, 63, .inl 0, 0, 0), by subst h; exact ⟨dX9_court_62, rfl, trivial⟩⟩ else none
      else
       bif Nat.blt pc 66 then
        if h : pc = 63 then some ⟨(.ifCond .ne 6, 66, .inl 0, 69, 0), by subst h; exact ⟨dX9_court_63, rfl, (show ((63 : Nat) : Int) + (6) = ((69 : Nat) : Int) by decide)⟩⟩ else none
       else
        if h : pc = 66 then some ⟨(.bipush (-11), 68, .inl (-11), 0, 0), by subst h; exact ⟨dX9_court_66, rfl, ⟨(-11), rfl, by decide⟩⟩⟩ else none
   else
    bif Nat.blt pc 77 then
     bif Nat.blt pc 72 then
      bif Nat.blt pc 69 then
       if h : pc = 68 then some ⟨(.ireturn, 69, .inl 0, 0, 0), by subst h; exact ⟨dX9_court_68, rfl, rfl⟩⟩ else none
      else
       bif Nat.blt pc 70 then
        if h : pc = 69 then some ⟨(.iconst 0, 70, .inl 0, 0, 0), by subst h; exact ⟨dX9_court_69, rfl, ⟨0, rfl, by decide⟩⟩⟩ else none
       else
        if h : pc = 70 then some ⟨(.istore 5, 72, .inl 0, 0, 0), by subst h; exact ⟨dX9_court_70, rfl, (show (5 : Nat) < 8 by decide)⟩⟩ else none
     else
      bif Nat.blt pc 73 then
       if h : pc = 72 then some ⟨(.iconst 0, 73, .inl 0, 0, 0), by subst h; exact ⟨dX9_court_72, rfl, ⟨0, rfl, by decide⟩⟩⟩ else none
      else
       bif Nat.blt pc 75 then
        if h : pc = 73 then some ⟨(.istore 6, 75, .inl 0, 0, 0), by subst h; exact ⟨dX9_court_73, rfl, (show (6 : Nat) < 8 by decide)⟩⟩ else none
       else
        if h : pc = 75 then some ⟨(.iload 6, 77, .inl 0, 0, 0), by subst h; exact ⟨dX9_court_75, rfl, trivial⟩⟩ else none
    else
     bif Nat.blt pc 83 then
      bif Nat.blt pc 79 then
       if h : pc = 77 then some ⟨(.iload 4, 79, .inl 0, 0, 0), by subst h; exact ⟨dX9_court_77, rfl, trivial⟩⟩ else none
      else
       bif Nat.blt pc 82 then
        if h : pc = 79 then some ⟨(.if_icmp .ge 88, 82, .inl 0, 167, 0), by subst h; exact ⟨dX9_court_79, rfl, (show ((79 : Nat) : Int) + (88) = ((167 : Nat) : Int) by decide)⟩⟩ else none
       else
        if h : pc = 82 then some ⟨(.iload_n 3, 83, .inl 0, 0, 0), by subst h; exact ⟨dX9_court_82, rfl, trivial⟩⟩ else none
     else
      bif Nat.blt pc 87 then
       bif Nat.blt pc 86 then
        if h : pc = 83 then some ⟨(.ifCond .lt 20, 86, .inl 0, 103, 0), by subst h; exact ⟨dX9_court_83, rfl, (show ((83 : Nat) : Int) + (20) = ((103 : Nat) : Int) by decide)⟩⟩ else none
       else
        if h : pc = 86 then some ⟨(.iload_n 3, 87, .inl 0, 0, 0), by subst h; exact ⟨dX9_court_86, rfl, trivial⟩⟩ else none
      else
       bif Nat.blt pc 88 then
        if h : pc = 87 then some ⟨(.aload_n 0, 88, .inl 0, 0, 0), by subst h; exact ⟨dX9_court_87, rfl, trivial⟩⟩ else none
       else
        if h : pc = 88 then some ⟨(.getfield 51, 91, .inr (.inr none), 37, 14), by subst h; exact ⟨dX9_court_88, rfl, ⟨⟨_, rfl, by decide, _, Or.inl q1395, Or.inl rfl⟩, (show mKd 14 37 = 6 by rfl)⟩⟩⟩ else none
 else
  bif Nat.blt pc 126 then
   bif Nat.blt pc 108 then
    bif Nat.blt pc 98 then
     bif Nat.blt pc 94 then
      bif Nat.blt pc 92 then
       if h : pc = 91 then some ⟨(.iload_n 1, 92, .inl 0, 0, 0), by subst h; exact ⟨dX9_court_91, rfl, trivial⟩⟩ else none
      else
       bif Nat.blt pc 93 then
        if h : pc = 92 then some ⟨(.iaload, 93, .inl 0, 0, 0), by subst h; exact ⟨dX9_court_92, rfl, trivial⟩⟩ else none
       else
        if h : pc = 93 then some ⟨(.iconst 3, 94, .inl 3, 0, 0), by subst h; exact ⟨dX9_court_93, rfl, ⟨3, rfl, by decide⟩⟩⟩ else none
     else
      bif Nat.blt pc 96 then
       if h : pc = 94 then some ⟨(.iload 6, 96, .inl 0, 0, 0), by subst h; exact ⟨dX9_court_94, rfl, trivial⟩⟩ else none
      else
       bif Nat.blt pc 97 then
        if h : pc = 96 then some ⟨(.imul, 97, .inl 0, 0, 0), by subst h; exact ⟨dX9_court_96, rfl, trivial⟩⟩ else none
       else
        if h : pc = 97 then some ⟨(.isub, 98, .inl 0, 0, 0), by subst h; exact ⟨dX9_court_97, rfl, trivial⟩⟩ else none
    else
     bif Nat.blt pc 103 then
      bif Nat.blt pc 99 then
       if h : pc = 98 then some ⟨(.iconst 3, 99, .inl 3, 0, 0), by subst h; exact ⟨dX9_court_98, rfl, ⟨3, rfl, by decide⟩⟩⟩ else none
      else
       bif Nat.blt pc 100 then
        if h : pc = 99 then some ⟨(.isub, 100, .inl 0, 0, 0), by subst h; exact ⟨dX9_court_99, rfl, trivial⟩⟩ else none
       else
        if h : pc = 100 then some ⟨(.if_icmp .le 6, 103, .inl 0, 106, 0), by subst h; exact ⟨dX9_court_100, rfl, (show ((100 : Nat) : Int) + (6) = ((106 : Nat) : Int) by decide)⟩⟩ else none
     else
      bif Nat.blt pc 105 then
       if h : pc = 103 then some ⟨(.bipush (-12), 105, .inl (-12), 0, 0), by subst h; exact ⟨dX9_court_103, rfl, ⟨(-12), rfl, by decide⟩⟩⟩ else none
      else
       bif Nat.blt pc 106 then
        if h : pc = 105 then some ⟨(.ireturn, 106, .inl 0, 0, 0), by subst h; exact ⟨dX9_court_105, rfl, rfl⟩⟩ else none
       else
        if h : pc = 106 then some ⟨(.bipush 40, 108, .inl 40, 0, 0), by subst h; exact ⟨dX9_court_106, rfl, ⟨40, rfl, by decide⟩⟩⟩ else none
   else
    bif Nat.blt pc 115 then
     bif Nat.blt pc 111 then
      bif Nat.blt pc 109 then
       if h : pc = 108 then some ⟨(.iload_n 1, 109, .inl 0, 0, 0), by subst h; exact ⟨dX9_court_108, rfl, trivial⟩⟩ else none
      else
       bif Nat.blt pc 110 then
        if h : pc = 109 then some ⟨(.imul, 110, .inl 0, 0, 0), by subst h; exact ⟨dX9_court_109, rfl, trivial⟩⟩ else none
       else
        if h : pc = 110 then some ⟨(.iload_n 3, 111, .inl 0, 0, 0), by subst h; exact ⟨dX9_court_110, rfl, trivial⟩⟩ else none
     else
      bif Nat.blt pc 112 then
       if h : pc = 111 then some ⟨(.iadd, 112, .inl 0, 0, 0), by subst h; exact ⟨dX9_court_111, rfl, trivial⟩⟩ else none
      else
       bif Nat.blt pc 113 then
        if h : pc = 112 then some ⟨(.iconst 3, 113, .inl 3, 0, 0), by subst h; exact ⟨dX9_court_112, rfl, ⟨3, rfl, by decide⟩⟩⟩ else none
       else
        if h : pc = 113 then some ⟨(.iload 6, 115, .inl 0, 0, 0), by subst h; exact ⟨dX9_court_113, rfl, trivial⟩⟩ else none
    else
     bif Nat.blt pc 119 then
      bif Nat.blt pc 116 then
       if h : pc = 115 then some ⟨(.imul, 116, .inl 0, 0, 0), by subst h; exact ⟨dX9_court_115, rfl, trivial⟩⟩ else none
      else
       bif Nat.blt pc 117 then
        if h : pc = 116 then some ⟨(.iadd, 117, .inl 0, 0, 0), by subst h; exact ⟨dX9_court_116, rfl, trivial⟩⟩ else none
       else
        if h : pc = 117 then some ⟨(.istore 7, 119, .inl 0, 0, 0), by subst h; exact ⟨dX9_court_117, rfl, (show (7 : Nat) < 8 by decide)⟩⟩ else none
     else
      bif Nat.blt pc 122 then
       bif Nat.blt pc 121 then
        if h : pc = 119 then some ⟨(.iload 5, 121, .inl 0, 0, 0), by subst h; exact ⟨dX9_court_119, rfl, trivial⟩⟩ else none
       else
        if h : pc = 121 then some ⟨(.aload_n 0, 122, .inl 0, 0, 0), by subst h; exact ⟨dX9_court_121, rfl, trivial⟩⟩ else none
      else
       bif Nat.blt pc 123 then
        if h : pc = 122 then some ⟨(.aload_n 0, 123, .inl 0, 0, 0), by subst h; exact ⟨dX9_court_122, rfl, trivial⟩⟩ else none
       else
        if h : pc = 123 then some ⟨(.getfield 54, 126, .inr (.inr none), 38, 14), by subst h; exact ⟨dX9_court_123, rfl, ⟨⟨_, rfl, by decide, _, Or.inl q1396, Or.inl rfl⟩, (show mKd 14 38 = 6 by rfl)⟩⟩⟩ else none
  else
   bif Nat.blt pc 145 then
    bif Nat.blt pc 136 then
     bif Nat.blt pc 130 then
      bif Nat.blt pc 128 then
       if h : pc = 126 then some ⟨(.iload 7, 128, .inl 0, 0, 0), by subst h; exact ⟨dX9_court_126, rfl, trivial⟩⟩ else none
      else
       bif Nat.blt pc 129 then
        if h : pc = 128 then some ⟨(.iaload, 129, .inl 0, 0, 0), by subst h; exact ⟨dX9_court_128, rfl, trivial⟩⟩ else none
       else
        if h : pc = 129 then some ⟨(.aload_n 0, 130, .inl 0, 0, 0), by subst h; exact ⟨dX9_court_129, rfl, trivial⟩⟩ else none
     else
      bif Nat.blt pc 133 then
       if h : pc = 130 then some ⟨(.getfield 54, 133, .inr (.inr none), 38, 14), by subst h; exact ⟨dX9_court_130, rfl, ⟨⟨_, rfl, by decide, _, Or.inl q1396, Or.inl rfl⟩, (show mKd 14 38 = 6 by rfl)⟩⟩⟩ else none
      else
       bif Nat.blt pc 135 then
        if h : pc = 133 then some ⟨(.iload 7, 135, .inl 0, 0, 0), by subst h; exact ⟨dX9_court_133, rfl, trivial⟩⟩ else none
       else
        if h : pc = 135 then some ⟨(.iconst 1, 136, .inl 1, 0, 0), by subst h; exact ⟨dX9_court_135, rfl, ⟨1, rfl, by decide⟩⟩⟩ else none
    else
     bif Nat.blt pc 139 then
      bif Nat.blt pc 137 then
       if h : pc = 136 then some ⟨(.iadd, 137, .inl 0, 0, 0), by subst h; exact ⟨dX9_court_136, rfl, trivial⟩⟩ else none
      else
       bif Nat.blt pc 138 then
        if h : pc = 137 then some ⟨(.iaload, 138, .inl 0, 0, 0), by subst h; exact ⟨dX9_court_137, rfl, trivial⟩⟩ else none
       else
        if h : pc = 138 then some ⟨(.aload_n 0, 139, .inl 0, 0, 0), by subst h; exact ⟨dX9_court_138, rfl, trivial⟩⟩ else none
     else
      bif Nat.blt pc 142 then
       if h : pc = 139 then some ⟨(.getfield 54, 142, .inr (.inr none), 38, 14), by subst h; exact ⟨dX9_court_139, rfl, ⟨⟨_, rfl, by decide, _, Or.inl q1396, Or.inl rfl⟩, (show mKd 14 38 = 6 by rfl)⟩⟩⟩ else none
      else
       bif Nat.blt pc 144 then
        if h : pc = 142 then some ⟨(.iload 7, 144, .inl 0, 0, 0), by subst h; exact ⟨dX9_court_142, rfl, trivial⟩⟩ else none
       else
        if h : pc = 144 then some ⟨(.iconst 2, 145, .inl 2, 0, 0), by subst h; exact ⟨dX9_court_144, rfl, ⟨2, rfl, by decide⟩⟩⟩ else none
   else
    bif Nat.blt pc 157 then
     bif Nat.blt pc 150 then
      bif Nat.blt pc 146 then
       if h : pc = 145 then some ⟨(.iadd, 146, .inl 0, 0, 0), by subst h; exact ⟨dX9_court_145, rfl, trivial⟩⟩ else none
      else
       bif Nat.blt pc 147 then
        if h : pc = 146 then some ⟨(.iaload, 147, .inl 0, 0, 0), by subst h; exact ⟨dX9_court_146, rfl, trivial⟩⟩ else none
       else
        if h : pc = 147 then some ⟨(.invokevirtual 425, 150, .inl 0, 64, 14), by subst h; exact ⟨dX9_court_147, rfl, ⟨by decide, q1907, q1732, q1733, _, rfl, rfl⟩⟩⟩ else none
     else
      bif Nat.blt pc 153 then
       if h : pc = 150 then some ⟨(.ifCond .lt 7, 153, .inl 0, 157, 0), by subst h; exact ⟨dX9_court_150, rfl, (show ((150 : Nat) : Int) + (7) = ((157 : Nat) : Int) by decide)⟩⟩ else none
      else
       bif Nat.blt pc 154 then
        if h : pc = 153 then some ⟨(.iconst 1, 154, .inl 1, 0, 0), by subst h; exact ⟨dX9_court_153, rfl, ⟨1, rfl, by decide⟩⟩⟩ else none
       else
        if h : pc = 154 then some ⟨(.goto 4, 157, .inl 0, 158, 0), by subst h; exact ⟨dX9_court_154, rfl, (show ((154 : Nat) : Int) + (4) = ((158 : Nat) : Int) by decide)⟩⟩ else none
    else
     bif Nat.blt pc 161 then
      bif Nat.blt pc 158 then
       if h : pc = 157 then some ⟨(.iconst 0, 158, .inl 0, 0, 0), by subst h; exact ⟨dX9_court_157, rfl, ⟨0, rfl, by decide⟩⟩⟩ else none
      else
       bif Nat.blt pc 159 then
        if h : pc = 158 then some ⟨(.iadd, 159, .inl 0, 0, 0), by subst h; exact ⟨dX9_court_158, rfl, trivial⟩⟩ else none
       else
        if h : pc = 159 then some ⟨(.istore 5, 161, .inl 0, 0, 0), by subst h; exact ⟨dX9_court_159, rfl, (show (5 : Nat) < 8 by decide)⟩⟩ else none
     else
      bif Nat.blt pc 167 then
       bif Nat.blt pc 164 then
        if h : pc = 161 then some ⟨(.iinc 6 1, 164, .inl 1, 0, 0), by subst h; exact ⟨dX9_court_161, rfl, ⟨(show (6 : Nat) < 8 by decide), 1, rfl, by decide⟩⟩⟩ else none
       else
        if h : pc = 164 then some ⟨(.goto (-89), 167, .inl 0, 75, 0), by subst h; exact ⟨dX9_court_164, rfl, (show ((164 : Nat) : Int) + ((-89)) = ((75 : Nat) : Int) by decide)⟩⟩ else none
      else
       bif Nat.blt pc 169 then
        if h : pc = 167 then some ⟨(.iload 5, 169, .inl 0, 0, 0), by subst h; exact ⟨dX9_court_167, rfl, trivial⟩⟩ else none
       else
        if h : pc = 169 then some ⟨(.ireturn, 170, .inl 0, 0, 0), by subst h; exact ⟨dX9_court_169, rfl, rfl⟩⟩ else none

noncomputable def mt105 (pc : Nat) : Option {e : mE // mOK yX9_taken cX9_taken 4 ((Option.some ClassFile.FieldType.int)) pc e} :=
 bif Nat.blt pc 36 then
  bif Nat.blt pc 20 then
   bif Nat.blt pc 9 then
    bif Nat.blt pc 2 then
     bif Nat.blt pc 1 then
      if h : pc = 0 then some ⟨(.iload_n 2, 1, .inl 0, 0, 0), by subst h; exact ⟨dX9_taken_0, rfl, trivial⟩⟩ else none
     else
      if h : pc = 1 then some ⟨(.i2l, 2, .inl 0, 0, 0), by subst h; exact ⟨dX9_taken_1, rfl, trivial⟩⟩ else none
    else
     bif Nat.blt pc 3 then
      if h : pc = 2 then some ⟨(.lconst 0, 3, .inr (.inl 0), 0, 0), by subst h; exact ⟨dX9_taken_2, rfl, ⟨0, rfl, by decide⟩⟩⟩ else none
     else
      bif Nat.blt pc 6 then
       if h : pc = 3 then some ⟨(.ldc2_w 104, 6, .inr (.inl 5), 0, 0), by subst h; exact ⟨dX9_taken_3, rfl, ⟨_, rfl, q1735⟩⟩⟩ else none
      else
       if h : pc = 6 then some ⟨(.invokestatic 67, 9, .inl 0, 3, 0), by subst h; exact ⟨dX9_taken_6, rfl, Or.inl ⟨by decide, q1482, q1483⟩⟩⟩ else none
   else
    bif Nat.blt pc 15 then
     bif Nat.blt pc 12 then
      if h : pc = 9 then some ⟨(.ifCond .ne 6, 12, .inl 0, 15, 0), by subst h; exact ⟨dX9_taken_9, rfl, (show ((9 : Nat) : Int) + (6) = ((15 : Nat) : Int) by decide)⟩⟩ else none
     else
      bif Nat.blt pc 14 then
       if h : pc = 12 then some ⟨(.bipush (-2), 14, .inl (-2), 0, 0), by subst h; exact ⟨dX9_taken_12, rfl, ⟨(-2), rfl, by decide⟩⟩⟩ else none
      else
       if h : pc = 14 then some ⟨(.ireturn, 15, .inl 0, 0, 0), by subst h; exact ⟨dX9_taken_14, rfl, rfl⟩⟩ else none
    else
     bif Nat.blt pc 16 then
      if h : pc = 15 then some ⟨(.aload_n 0, 16, .inl 0, 0, 0), by subst h; exact ⟨dX9_taken_15, rfl, trivial⟩⟩ else none
     else
      bif Nat.blt pc 17 then
       if h : pc = 16 then some ⟨(.iload_n 1, 17, .inl 0, 0, 0), by subst h; exact ⟨dX9_taken_16, rfl, trivial⟩⟩ else none
      else
       if h : pc = 17 then some ⟨(.invokevirtual 73, 20, .inl 0, 5, 14), by subst h; exact ⟨dX9_taken_17, rfl, ⟨by decide, q1490, q1492, qs59, _, rfl, rfl⟩⟩⟩ else none
  else
   bif Nat.blt pc 30 then
    bif Nat.blt pc 25 then
     bif Nat.blt pc 23 then
      if h : pc = 20 then some ⟨(.ifCond .ne 6, 23, .inl 0, 26, 0), by subst h; exact ⟨dX9_taken_20, rfl, (show ((20 : Nat) : Int) + (6) = ((26 : Nat) : Int) by decide)⟩⟩ else none
     else
      if h : pc = 23 then some ⟨(.bipush (-11), 25, .inl (-11), 0, 0), by subst h; exact ⟨dX9_taken_23, rfl, ⟨(-11), rfl, by decide⟩⟩⟩ else none
    else
     bif Nat.blt pc 26 then
      if h : pc = 25 then some ⟨(.ireturn, 26, .inl 0, 0, 0), by subst h; exact ⟨dX9_taken_25, rfl, rfl⟩⟩ else none
     else
      bif Nat.blt pc 27 then
       if h : pc = 26 then some ⟨(.aload_n 0, 27, .inl 0, 0, 0), by subst h; exact ⟨dX9_taken_26, rfl, trivial⟩⟩ else none
      else
       if h : pc = 27 then some ⟨(.getfield 26, 30, .inr (.inr none), 10, 14), by subst h; exact ⟨dX9_taken_27, rfl, ⟨⟨_, rfl, by decide, _, Or.inl q1368, Or.inl rfl⟩, (show mKd 14 10 = 6 by rfl)⟩⟩⟩ else none
   else
    bif Nat.blt pc 33 then
     bif Nat.blt pc 31 then
      if h : pc = 30 then some ⟨(.iconst 5, 31, .inl 5, 0, 0), by subst h; exact ⟨dX9_taken_30, rfl, ⟨5, rfl, by decide⟩⟩⟩ else none
     else
      bif Nat.blt pc 32 then
       if h : pc = 31 then some ⟨(.iload_n 1, 32, .inl 0, 0, 0), by subst h; exact ⟨dX9_taken_31, rfl, trivial⟩⟩ else none
      else
       if h : pc = 32 then some ⟨(.imul, 33, .inl 0, 0, 0), by subst h; exact ⟨dX9_taken_32, rfl, trivial⟩⟩ else none
    else
     bif Nat.blt pc 34 then
      if h : pc = 33 then some ⟨(.iconst 4, 34, .inl 4, 0, 0), by subst h; exact ⟨dX9_taken_33, rfl, ⟨4, rfl, by decide⟩⟩⟩ else none
     else
      bif Nat.blt pc 35 then
       if h : pc = 34 then some ⟨(.iadd, 35, .inl 0, 0, 0), by subst h; exact ⟨dX9_taken_34, rfl, trivial⟩⟩ else none
      else
       if h : pc = 35 then some ⟨(.iaload, 36, .inl 0, 0, 0), by subst h; exact ⟨dX9_taken_35, rfl, trivial⟩⟩ else none
 else
  bif Nat.blt pc 55 then
   bif Nat.blt pc 43 then
    bif Nat.blt pc 38 then
     bif Nat.blt pc 37 then
      if h : pc = 36 then some ⟨(.istore_n 3, 37, .inl 0, 0, 0), by subst h; exact ⟨dX9_taken_36, rfl, (show (3 : Nat) < 4 by decide)⟩⟩ else none
     else
      if h : pc = 37 then some ⟨(.iload_n 3, 38, .inl 0, 0, 0), by subst h; exact ⟨dX9_taken_37, rfl, trivial⟩⟩ else none
    else
     bif Nat.blt pc 39 then
      if h : pc = 38 then some ⟨(.iconst (-1), 39, .inl (-1), 0, 0), by subst h; exact ⟨dX9_taken_38, rfl, ⟨(-1), rfl, by decide⟩⟩⟩ else none
     else
      bif Nat.blt pc 42 then
       if h : pc = 39 then some ⟨(.if_icmp .eq 16, 42, .inl 0, 55, 0), by subst h; exact ⟨dX9_taken_39, rfl, (show ((39 : Nat) : Int) + (16) = ((55 : Nat) : Int) by decide)⟩⟩ else none
      else
       if h : pc = 42 then some ⟨(.iload_n 3, 43, .inl 0, 0, 0), by subst h; exact ⟨dX9_taken_42, rfl, trivial⟩⟩ else none
   else
    bif Nat.blt pc 48 then
     bif Nat.blt pc 44 then
      if h : pc = 43 then some ⟨(.iload_n 2, 44, .inl 0, 0, 0), by subst h; exact ⟨dX9_taken_43, rfl, trivial⟩⟩ else none
     else
      bif Nat.blt pc 47 then
       if h : pc = 44 then some ⟨(.if_icmp .eq 11, 47, .inl 0, 55, 0), by subst h; exact ⟨dX9_taken_44, rfl, (show ((44 : Nat) : Int) + (11) = ((55 : Nat) : Int) by decide)⟩⟩ else none
      else
       if h : pc = 47 then some ⟨(.iload_n 3, 48, .inl 0, 0, 0), by subst h; exact ⟨dX9_taken_47, rfl, trivial⟩⟩ else none
    else
     bif Nat.blt pc 51 then
      if h : pc = 48 then some ⟨(.invokestatic 428, 51, .inl 0, 106, 0), by subst h; exact ⟨dX9_taken_48, rfl, Or.inl ⟨by decide, q1912, q1913⟩⟩⟩ else none
     else
      bif Nat.blt pc 52 then
       if h : pc = 51 then some ⟨(.istore_n 3, 52, .inl 0, 0, 0), by subst h; exact ⟨dX9_taken_51, rfl, (show (3 : Nat) < 4 by decide)⟩⟩ else none
      else
       if h : pc = 52 then some ⟨(.goto (-15), 55, .inl 0, 37, 0), by subst h; exact ⟨dX9_taken_52, rfl, (show ((52 : Nat) : Int) + ((-15)) = ((37 : Nat) : Int) by decide)⟩⟩ else none
  else
   bif Nat.blt pc 65 then
    bif Nat.blt pc 60 then
     bif Nat.blt pc 56 then
      if h : pc = 55 then some ⟨(.iload_n 3, 56, .inl 0, 0, 0), by subst h; exact ⟨dX9_taken_55, rfl, trivial⟩⟩ else none
     else
      bif Nat.blt pc 57 then
       if h : pc = 56 then some ⟨(.iload_n 2, 57, .inl 0, 0, 0), by subst h; exact ⟨dX9_taken_56, rfl, trivial⟩⟩ else none
      else
       if h : pc = 57 then some ⟨(.if_icmp .ne 14, 60, .inl 0, 71, 0), by subst h; exact ⟨dX9_taken_57, rfl, (show ((57 : Nat) : Int) + (14) = ((71 : Nat) : Int) by decide)⟩⟩ else none
    else
     bif Nat.blt pc 61 then
      if h : pc = 60 then some ⟨(.aload_n 0, 61, .inl 0, 0, 0), by subst h; exact ⟨dX9_taken_60, rfl, trivial⟩⟩ else none
     else
      bif Nat.blt pc 64 then
       if h : pc = 61 then some ⟨(.getfield 26, 64, .inr (.inr none), 10, 14), by subst h; exact ⟨dX9_taken_61, rfl, ⟨⟨_, rfl, by decide, _, Or.inl q1368, Or.inl rfl⟩, (show mKd 14 10 = 6 by rfl)⟩⟩⟩ else none
      else
       if h : pc = 64 then some ⟨(.iconst 5, 65, .inl 5, 0, 0), by subst h; exact ⟨dX9_taken_64, rfl, ⟨5, rfl, by decide⟩⟩⟩ else none
   else
    bif Nat.blt pc 68 then
     bif Nat.blt pc 66 then
      if h : pc = 65 then some ⟨(.iload_n 1, 66, .inl 0, 0, 0), by subst h; exact ⟨dX9_taken_65, rfl, trivial⟩⟩ else none
     else
      bif Nat.blt pc 67 then
       if h : pc = 66 then some ⟨(.imul, 67, .inl 0, 0, 0), by subst h; exact ⟨dX9_taken_66, rfl, trivial⟩⟩ else none
      else
       if h : pc = 67 then some ⟨(.iaload, 68, .inl 0, 0, 0), by subst h; exact ⟨dX9_taken_67, rfl, trivial⟩⟩ else none
    else
     bif Nat.blt pc 71 then
      if h : pc = 68 then some ⟨(.goto 5, 71, .inl 0, 73, 0), by subst h; exact ⟨dX9_taken_68, rfl, (show ((68 : Nat) : Int) + (5) = ((73 : Nat) : Int) by decide)⟩⟩ else none
     else
      bif Nat.blt pc 73 then
       if h : pc = 71 then some ⟨(.bipush (-13), 73, .inl (-13), 0, 0), by subst h; exact ⟨dX9_taken_71, rfl, ⟨(-13), rfl, by decide⟩⟩⟩ else none
      else
       if h : pc = 73 then some ⟨(.ireturn, 74, .inl 0, 0, 0), by subst h; exact ⟨dX9_taken_73, rfl, rfl⟩⟩ else none

noncomputable def mt106 (pc : Nat) : Option {e : mE // mOK yX9_over cX9_over 1 ((Option.some ClassFile.FieldType.int)) pc e} :=
 bif Nat.blt pc 14 then
  bif Nat.blt pc 8 then
   bif Nat.blt pc 4 then
    bif Nat.blt pc 1 then
     if h : pc = 0 then some ⟨(.iload_n 0, 1, .inl 0, 0, 0), by subst h; exact ⟨dX9_over_0, rfl, trivial⟩⟩ else none
    else
     if h : pc = 1 then some ⟨(.ifCond .ne 7, 4, .inl 0, 8, 0), by subst h; exact ⟨dX9_over_1, rfl, (show ((1 : Nat) : Int) + (7) = ((8 : Nat) : Int) by decide)⟩⟩ else none
   else
    bif Nat.blt pc 5 then
     if h : pc = 4 then some ⟨(.iconst (-1), 5, .inl (-1), 0, 0), by subst h; exact ⟨dX9_over_4, rfl, ⟨(-1), rfl, by decide⟩⟩⟩ else none
    else
     if h : pc = 5 then some ⟨(.goto 22, 8, .inl 0, 27, 0), by subst h; exact ⟨dX9_over_5, rfl, (show ((5 : Nat) : Int) + (22) = ((27 : Nat) : Int) by decide)⟩⟩ else none
  else
   bif Nat.blt pc 10 then
    bif Nat.blt pc 9 then
     if h : pc = 8 then some ⟨(.iload_n 0, 9, .inl 0, 0, 0), by subst h; exact ⟨dX9_over_8, rfl, trivial⟩⟩ else none
    else
     if h : pc = 9 then some ⟨(.iconst 3, 10, .inl 3, 0, 0), by subst h; exact ⟨dX9_over_9, rfl, ⟨3, rfl, by decide⟩⟩⟩ else none
   else
    bif Nat.blt pc 13 then
     if h : pc = 10 then some ⟨(.if_icmp .ne 7, 13, .inl 0, 17, 0), by subst h; exact ⟨dX9_over_10, rfl, (show ((10 : Nat) : Int) + (7) = ((17 : Nat) : Int) by decide)⟩⟩ else none
    else
     if h : pc = 13 then some ⟨(.iconst 1, 14, .inl 1, 0, 0), by subst h; exact ⟨dX9_over_13, rfl, ⟨1, rfl, by decide⟩⟩⟩ else none
 else
  bif Nat.blt pc 22 then
   bif Nat.blt pc 18 then
    bif Nat.blt pc 17 then
     if h : pc = 14 then some ⟨(.goto 13, 17, .inl 0, 27, 0), by subst h; exact ⟨dX9_over_14, rfl, (show ((14 : Nat) : Int) + (13) = ((27 : Nat) : Int) by decide)⟩⟩ else none
    else
     if h : pc = 17 then some ⟨(.iload_n 0, 18, .inl 0, 0, 0), by subst h; exact ⟨dX9_over_17, rfl, trivial⟩⟩ else none
   else
    bif Nat.blt pc 19 then
     if h : pc = 18 then some ⟨(.iconst 4, 19, .inl 4, 0, 0), by subst h; exact ⟨dX9_over_18, rfl, ⟨4, rfl, by decide⟩⟩⟩ else none
    else
     if h : pc = 19 then some ⟨(.if_icmp .ne 7, 22, .inl 0, 26, 0), by subst h; exact ⟨dX9_over_19, rfl, (show ((19 : Nat) : Int) + (7) = ((26 : Nat) : Int) by decide)⟩⟩ else none
  else
   bif Nat.blt pc 26 then
    bif Nat.blt pc 23 then
     if h : pc = 22 then some ⟨(.iconst 2, 23, .inl 2, 0, 0), by subst h; exact ⟨dX9_over_22, rfl, ⟨2, rfl, by decide⟩⟩⟩ else none
    else
     if h : pc = 23 then some ⟨(.goto 4, 26, .inl 0, 27, 0), by subst h; exact ⟨dX9_over_23, rfl, (show ((23 : Nat) : Int) + (4) = ((27 : Nat) : Int) by decide)⟩⟩ else none
   else
    bif Nat.blt pc 27 then
     if h : pc = 26 then some ⟨(.iconst 0, 27, .inl 0, 0, 0), by subst h; exact ⟨dX9_over_26, rfl, ⟨0, rfl, by decide⟩⟩⟩ else none
    else
     if h : pc = 27 then some ⟨(.ireturn, 28, .inl 0, 0, 0), by subst h; exact ⟨dX9_over_27, rfl, rfl⟩⟩ else none

