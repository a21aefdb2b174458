/-! THE SMALL MACHINE, 9: every throw of it is a throw of the machine -/
set_option maxRecDepth 100000
set_option linter.unusedVariables false
section
variable {p : Program} {l : Launch} {e : Env} {R : Room} {s : State} {m : MethodId} {args : Array Value} {below : List Frame} {meth : Method} {c : Code} {H : Heap} {locs : List Loc} {Q : State → Prop}
variable {D : va_G} {dA : Nat → ClassId} {A : Nat → Prop} {ad : Nat → Nat → Nat} {S : mS} {L : List (Option mV)} {rls : Array Slot} {st : List mV} {ml : Nat} {c0 s0 : Nat} {y : MethodName} {cc : ByteArray} {pc : Nat}
set_option maxHeartbeats 2000000 in
theorem mth_ok {rt : Option FieldType} {ee : mE} {E : Nat} {S' : mS} (X : mCx p s m meth c args y cc ml) (hM : mX D dA s) (hZ : mZx A s s.heap) (hlt : l.stackTraces = false) (hlk : meth.locks = false) (hok : mOK y cc ml rt pc ee) (h : mth ee st S = some (E, S')) (I : mInv D dA A ad S H L rls st ml s.heap locs c0 s0)
    (hRc : S'.2.2.2.1 - c0 ≤ R.cells) (hRs : S'.2.2.2.2 - s0 ≤ R.slots) (hRf : 10 ≤ R.frames) (hRl : 10400 ≤ R.locals)
    (kk : ∀ (H' : Heap) (q : Addr) (ce : Cell) (rest : List Value), mInv D dA A ad S' H' L rls [] ml s.heap locs c0 s0 → H'[q]? = some ce → ce.vm = .none → s.vm.findClass (mxn E) = some ce.cls → vx_W p l e R s m args below meth c H' locs (S'.2.2.2.1 - c0) (S'.2.2.2.2 - s0) Q (F0 m (pc + mof ee) rls rest) q) :
    W p l e R s m args below meth c H locs (S.2.2.2.1 - c0) (S.2.2.2.2 - s0) Q (F0 m pc rls (st.map (mcv ad))) := by
  obtain ⟨i, nx, v, a, b⟩ := ee
  obtain ⟨hd, hnx, hox⟩ := hok
  have hX := X
  obtain ⟨hx, hb, hml, hown, hts, hnm⟩ := X
  dsimp only at hd hnx
  subst hnx
  have hsz : rls.size = c.maxLocals := I.2.2.1.2.1.trans hml.symm
  have i1 := I.2.2.2.2.1
  have i2 := I.2.2.2.2.2
  have hMc := hM.2.2.2.2.2.2.2.2.2.2.2.1
  have hMd := hM.2.2.2.2.2.2.2.2.2.2.2.2
  -- NullPointerException
  have npe : ∀ (rest : List Value), (rest.map fun v => v.category).sum ≤ 8 → S' = mco S 1 8 → E = 2 → mof (i, pc + mW i, v, a, b) = 0 → vx_NoteN p l e R s m args below meth c H locs (S.2.2.2.1 - c0) (S.2.2.2.2 - s0) Q (F0 m pc rls rest) := by
    intro rest hr hS hE h0
    subst hS hE
    rw [h0] at kk
    refine vx_npe hx hlt (nb := 8) (mw_at (b := 1) mwx1_in mwx1_ng hts hMc hMd) (fun w hw => List.all_eq_true.mp mwx1_ot w hw) hZ.1 hZ.2 I.2.1 hsz (by omega) (by omega) ?_ ?_ hlk (fun H1 q9 ce g1 g2 g3 g4 g5 g6 => ?_)
    · have : (mco S 1 8).2.2.2.1 = S.2.2.2.1 + 1 := rfl
      omega
    · have : (mco S 1 8).2.2.2.2 = S.2.2.2.2 + 8 := rfl
      omega
    · have e1 : (mco S 1 8).2.2.2.1 = S.2.2.2.1 + 1 := rfl
      have e2 : (mco S 1 8).2.2.2.2 = S.2.2.2.2 + 8 := rfl
      exact vx_widen (by omega) (by omega) (kk H1 q9 ce rest (I.ex g2 g3) g4 g5 g6)
  cases i
  case athrow =>
    dsimp only [mth] at h
    split at h
    · rename_i r i st
      cases ht : Nat.beq (mTg (mG S r) i) 1 with
      | false => rw [ht] at h; cases h
      | true =>
        rw [ht] at h
        cases h
        obtain ⟨hr, hi⟩ := I.top
        obtain ⟨ce, c1, c2, c3⟩ := (I.1.at hr hi).cls hM (by rw [beq_t ht]; decide)
        rw [beq_t ht] at c3
        exact vx_athrow hx hb hd (kk H (ad r i) ce (st.map (mcv ad)) ⟨I.1, I.2.1, I.2.2.1, fun w q => absurd q List.not_mem_nil, I.2.2.2.2⟩ c1 c2 c3)
    · cases h
  case arraylength =>
    dsimp only [mth] at h
    split at h
    · rename_i st
      cases ht : Nat.ble (mCat st) 8 with
      | false => rw [ht] at h; cases h
      | true =>
        rw [ht] at h
        cases h
        exact vx_arraylengthN hx hb hd (npe _ (mCat_le (ad := ad) (Nat.le_of_ble_eq_true ht)) rfl rfl rfl)
    · cases h
  case getfield idx =>
    dsimp only [mth] at h
    split at h
    · rename_i st
      cases ht : Nat.ble (mCat st) 8 with
      | false => rw [ht] at h; cases h
      | true =>
        rw [ht] at h
        cases h
        obtain ⟨⟨q, hq, ha, ref, hlink, hsame⟩, -⟩ := hox
        have hsame' : ∀ x, s.fieldFound? (q.2.1 a).1 (q.2.1 a).2.1 (q.2.1 a).2.2.1 = some x → s.fieldFound? ref (q.2.1 a).2.1 (q.2.1 a).2.2.1 = some x := by
          intro x hx9
          rcases hsame with h9 | h9
          · rw [h9]; exact hx9
          · exact u_same (hts _ h9) _ hx9
        have hn := npe _ (mCat_le (ad := ad) (Nat.le_of_ble_eq_true ht)) rfl rfl rfl
        rcases hlink with hlink | ⟨host, hlink⟩
        · exact vx_getfN hx hb hts (mcl_in b q hq) hown hM.1 hq a ha (hts _ hlink) hsame' hd hn
        · exact vx_getfNN hx hb hts (mcl_in b q hq) hown hM.1 hq a ha (va_Nw.use rfl (hM.2.2.1 _ hlink)) hsame' hd hn
    · cases h
  case newarray aty =>
    dsimp only [mth] at h
    split at h
    · rename_i n st
      cases ht : Nat.ble (mCat st) 8 with
      | false => rw [ht] at h; cases h
      | true =>
        rw [ht] at h
        dsimp only [cond] at h
        split at h
        · rename_i hneg
          cases h
          have hn0 : n < 0 := by rw [Int32.lt_iff_toInt_lt]; exact hneg
          have hr := mCat_le (ad := ad) (Nat.le_of_ble_eq_true ht)
          have e1 : (mco S 3 54).2.2.2.1 = S.2.2.2.1 + 3 := rfl
          have e2 : (mco S 3 54).2.2.2.2 = S.2.2.2.2 + 54 := rfl
          refine vx_newarrayZ hx hb hn0 hd (fun tx htx => ?_)
          subst htx
          refine vx_vm hx hlt (cls := "java/lang/NegativeArraySizeException") (names := mwup) (nb := 44) (by decide +kernel) (by decide +kernel) (by decide) (by decide) (mw_at (b := 3) mwx3_in mwx3_ng hts hMc hMd) (fun w hw => List.all_eq_true.mp mwx3_ot w hw) hZ.1 hZ.2 I.2.1 hsz (negative_text_modelled hn0) (negative_text_bytes n) (by decide) (by show 2 + 4 < _; omega) (by omega) (by decide) (by omega) (by omega) hlk (fun H1 q9 ce g1 g2 g3 g4 g5 g6 => ?_)
          exact vx_widen (by omega) (by omega) (kk H1 q9 ce _ (I.ex g2 g3) g4 g5 g6)
        · cases h
    · cases h
  case checkcast idx =>
    dsimp only [mth] at h
    split at h
    · rename_i r i st
      cases ht : mCc (mTg (mG S r) i) a && Nat.ble (mCat st) 7 with
      | false => rw [ht] at h; cases h
      | true =>
        rw [ht] at h
        cases h
        obtain ⟨hr, hi⟩ := I.top
        obtain ⟨t1, t2⟩ := Bool.and_eq_true_iff.mp ht
        have t2 := Nat.le_of_ble_eq_true t2
        have e1 : (mco S 3 930).2.2.2.1 = S.2.2.2.1 + 3 := rfl
        have e2 : (mco S 3 930).2.2.2.2 = S.2.2.2.2 + 930 := rfl
        have hlink : Cond.classLink y.cls idx (mcn a) ∈ lw_all := by
          rcases hox with ⟨o1, o2, o3⟩ | ⟨q, hq, o3⟩
          · unfold mcn
            rw [List.getElem?_eq_none (show mcl.length ≤ a from Nat.le_trans (by decide : mcl.length ≤ 50) o1)]
            exact o3
          · unfold mcn
            dsimp only at hq
            rw [hq]
            exact o3
        have hb60 : mTg (mG S r) i < 60 ∧ va_Nc (mcn (mTg (mG S r) i)) (mcn a) s := by
          unfold mCc at t1
          rcases Bool.or_eq_true_iff.mp t1 with g | g
          · obtain ⟨g, gn⟩ := Bool.and_eq_true_iff.mp g
            obtain ⟨g, g'⟩ := Bool.and_eq_true_iff.mp g
            obtain ⟨g1, g2⟩ := Bool.and_eq_true_iff.mp g
            obtain ⟨g3, g4⟩ := Bool.and_eq_true_iff.mp g'
            have g1 := blt_t g1
            have g2 := blt_t g2
            have g3 := blt_t g3
            have g4 := blt_t g4
            have hne : mTg (mG S r) i ≠ a := fun q => by rw [q, Nat.beq_refl] at gn; cases gn
            have n1 : mcn (mTg (mG S r) i) = "[" ++ (mta (mTg (mG S r) i - 50)).toString := by
              unfold mcn
              rw [List.getElem?_eq_none (show mcl.length ≤ mTg (mG S r) i from Nat.le_trans (by decide : mcl.length ≤ 50) g1)]
            have n2 : mcn a = "[" ++ (mta (a - 50)).toString := by
              unfold mcn
              rw [List.getElem?_eq_none (show mcl.length ≤ a from Nat.le_trans (by decide : mcl.length ≤ 50) g3)]
            rw [n1, n2]
            exact ⟨by omega, hM.2.2.2.2.2.2.2.1 _ _ (by omega) (by omega) (by omega)⟩
          · obtain ⟨g, gn⟩ := Bool.and_eq_true_iff.mp g
            obtain ⟨g, g'⟩ := Bool.and_eq_true_iff.mp g
            obtain ⟨g1, g2⟩ := Bool.and_eq_true_iff.mp g
            obtain ⟨g3, g4⟩ := Bool.and_eq_true_iff.mp g'
            have g2 := blt_t g2
            have g4 := blt_t g4
            exact ⟨by omega, hM.2.2.2.2.2.2.2.2.2.1 _ _ (Nat.le_of_ble_eq_true g1) g2 (Nat.le_of_ble_eq_true g3) g4 (by simpa using gn)⟩
        obtain ⟨ce, c1, c2, c3⟩ := (I.1.at hr hi).cls hM hb60.1
        obtain ⟨f0, f9, f1, f2, f3⟩ := hb60.2
        cases c3.symm.trans f1
        obtain ⟨ks, hks, -⟩ := Vm.findClass_spec c3
        intro T hT XT
        obtain ⟨vm', ks', kt', X', hW', k1, k2, step⟩ := mcastNo XT hx hown (hts _ hlink) (a := ad r i) (cell := ce) (by rw [hT]; exact c1) c2 hks f2 f3 (g := F0 m pc rls ((mV_ref r i :: st).map (mcv ad))) rfl rfl (by rw [hb]; exact hd)
        obtain ⟨n1, d1, l1⟩ := mfc (by rw [hW'.alike.findClass]; exact c3) k1
        obtain ⟨n2, d2, l2⟩ := mfc (by rw [hW'.alike.findClass]; exact f2) k2
        obtain ⟨q1, q2⟩ := mmsg_eq hW'.alike hM.2.2.2.2.2.2.2.2.2.2.1 t1 n1 n2 d1 d2 l1 l2
        have hsum := mCat_le (ad := ad) (show mCat (mV_ref r i :: st) ≤ 8 by show mCat st + 1 ≤ 8; omega)
        have note : vx_Note p l e R s m args below meth c H locs (S.2.2.2.1 - c0) (S.2.2.2.2 - s0) Q (F0 m pc rls ((mV_ref r i :: st).map (mcv ad))) "java/lang/ClassCastException" (Op.checkcast.message vm' ks' kt') := by
          refine vx_vm hx hlt (names := mwup) (nb := 920) (by decide +kernel) (by decide +kernel) (by decide) (by decide) (mw_at (b := 2) mwx2_in mwx2_ng hts hMc hMd) (fun w hw => List.all_eq_true.mp mwx2_ot w hw) hZ.1 hZ.2 I.2.1 hsz q2 q1 (by decide) (by show 2 + 4 < _; omega) (by omega) (by decide) (by omega) (by omega) hlk (fun H1 q9 ce g1 g2 g3 g4 g5 g6 => ?_)
          exact vx_widen (by omega) (by omega) (kk H1 q9 ce _ (I.ex g2 g3) g4 g5 g6)
        obtain ⟨t, a1, b1⟩ := note (T.setVm vm') hT X'
        exact ⟨t, step t a1, b1⟩
    · cases h
  case new idx =>
    dsimp only [mth] at h
    cases ht : Nat.beq a 901 && Nat.ble (mCat st) 8 with
    | false => rw [ht] at h; cases h
    | true =>
      rw [ht] at h
      cases h
      obtain ⟨t1, t2⟩ := Bool.and_eq_true_iff.mp ht
      have hr := mCat_le (ad := ad) (Nat.le_of_ble_eq_true t2)
      have e1 : (mco S 1 6).2.2.2.1 = S.2.2.2.1 + 1 := rfl
      have e2 : (mco S 1 6).2.2.2.2 = S.2.2.2.2 + 6 := rfl
      rcases hox with ⟨-, o2, o3, o4, d3, d4, d7⟩ | ⟨q, hq, -⟩
      · rw [o4] at hown o2
        refine mthrow0 hx hb hlt (names := mwup) hown (by decide +kernel) (by decide +kernel) (hts _ o2) (hts _ o3) (mw_at (b := 0) mwx0_in mwx0_ng hts hMc hMd) (fun w hw => ?_) hZ.1 hZ.2 I.2.1 hsz hd d3 d4 (by show 2 + 3 < _; omega) (by show _ + (13 * (2 + 1) + 42) ≤ _; omega) (by omega) (by omega) (fun q ce H1 g2 g3 g4 g5 g6 => ?_)
        · rcases List.mem_cons.mp hw with e9 | hw
          · rw [e9]; rfl
          · rcases List.mem_cons.mp hw with e9 | hw
            · rw [e9]; rfl
            · exact List.all_eq_true.mp mwx0_ot w hw
        · exact vx_athrow hx hb d7 (vx_widen (by omega) (by omega) (kk H1 q ce _ (I.ex g2 g3) g4 g5 g6))
      · have := mcl_lt hq
        have := beq_t t1
        dsimp only at *
        omega
  all_goals exact absurd h (by simp [mth])
end
