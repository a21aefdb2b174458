/-! THE SMALL MACHINE, 8: throws -/
set_option maxRecDepth 100000
set_option linter.unusedVariables false
def mZx (A : Nat → Prop) (U : State) (H : Heap) : Prop := vx_Zq Bundle.tN "UNASSIGNED_STACK" Bundle.steD A U H ∧ vx_Zq Bundle.tN "SUPPRESSED_SENTINEL" Bundle.listD A U H
theorem mRel.ex {D : va_G} {dA : Nat → ClassId} {A : Nat → Prop} {ad : Nat → Nat → Nat} {S S' : mS} {H H1 : Heap} (h : mRel D dA A ad S H) (hS : ∀ r, mG S' r = mG S r) (hz : ∀ q : Nat, q < H.size → H1[q]? = H[q]?) : mRel D dA A ad S' H1 := by
  obtain ⟨a1, a2, a3, a4, a5⟩ := h
  refine ⟨fun r i hr hi => ?_, fun r i r' i' h1 h2 h3 h4 h5 => ?_, fun r i h1 h2 => ?_, fun r i k x h1 h2 h3 => ?_, ?_⟩
  · rw [hS] at hi ⊢
    exact (a1 r i hr hi).to rfl rfl rfl rfl rfl (fun _ _ _ => rfl) (hz _ (a1 r i hr hi).lt)
  · rw [hS] at h2 h4
    exact a2 r i r' i' h1 h2 h3 h4 h5
  · rw [hS] at h2
    exact a3 r i h1 h2
  · rw [hS] at h2 h3 ⊢
    exact a4 r i k x h1 h2 h3
  · rw [hS]
    exact a5
section
variable {p : Program} {l : Launch} {e : Env} {R : Room} {s : State} {m : MethodId} {args : Array Value} {below : List Frame} {meth : Method} {c : Code} {H : Heap} {locs : List Loc} {cells slots : Nat} {Q : State → Prop}
variable {D : va_G} {dA : Nat → ClassId} {A : Nat → Prop} {ad : Nat → Nat → Nat} {S : mS} {L : List (Option mV)} {rls : Array Slot} {st : List mV} {ml : Nat} {H0 : Heap} {c0 s0 : Nat} {y : MethodName} {cc : ByteArray} {pc : Nat}
theorem mInv.ex {H1 : Heap} {k n : Nat} (I : mInv D dA A ad S H L rls st ml H0 locs c0 s0) (hz : ∀ q : Nat, q < H.size → H1[q]? = H[q]?) (hS : va_S A H0 H1 locs) : mInv D dA A ad (mco S k n) H1 L rls [] ml H0 locs c0 s0 :=
  ⟨I.1.ex (mG_mco S k n) hz, hS, I.2.2.1.mv mExt.rf (fun r => by rw [mG_mco]; exact Nat.le_refl _), fun v q => absurd q List.not_mem_nil, Nat.le_trans I.2.2.2.2.1 (Nat.le_add_right _ _), Nat.le_trans I.2.2.2.2.2 (Nat.le_add_right _ _)⟩
theorem mthrow0 (hexec : p.tables.exec = Jvm.exec) (hb : c.code = cc) (hl : l.stackTraces = false) {own cls : String} {names : List String} {ik ic : Nat}
    (hown : s.vm.findClass own = some m.cls) (hcls : Bundle.fit cls = true) (hnames : ∀ n ∈ names, Bundle.fit n = true)
    (hk : (Cond.classLink own ik cls).before args s = true) (hini : (Cond.initialized cls).before args s = true) (hat : ∀ w ∈ vx_at0 own ic cls names, w.before args s = true)
    (hgood : ∀ w ∈ Cond.classLink own ik cls :: Cond.initialized cls :: vx_at0 own ic cls names, vx_ot w = true)
    (hU : vx_Zq Bundle.tN "UNASSIGNED_STACK" Bundle.steD A s s.heap) (hN : vx_Zq Bundle.tN "SUPPRESSED_SENTINEL" Bundle.listD A s s.heap) (hS : va_S A s.heap H locs) {rest : List Value} (hsize : rls.size = c.maxLocals)
    (d0 : decode cc pc = .ok (.new ik, 3)) (d3 : decode cc (pc + 3) = .ok (.dup, 1)) (d4 : decode cc (pc + 4) = .ok (.invokespecial ic, 3))
    (hRframes : names.length + 3 < R.frames) (hRlocals : (rest.map fun v => v.category).sum + (13 * (names.length + 1) + 42) ≤ R.locals) (hRcells : cells + 1 ≤ R.cells) (hRslots : slots + 6 ≤ R.slots)
    (kk : ∀ (q : Nat) (ce : Cell) (H1 : Heap), (∀ q : Nat, q < H.size → H1[q]? = H[q]?) → va_S A s.heap H1 locs → H1[q]? = some ce → ce.vm = .none → s.vm.findClass cls = some ce.cls → W p l e R s m args below meth c H1 locs (cells + 1) (slots + 6) Q (F0 m (pc + 7) rls (.ref q :: rest))) :
    W p l e R s m args below meth c H locs cells slots Q (F0 m pc rls rest) := by
  intro T hT X
  subst hT
  have htr : e.platform.stackTraces = false := (show e.platform.stackTraces = l.stackTraces by rw [X.admits.platform]).trans hl
  have Y := vx_rebase X (R' := { frames := R.frames, locals := R.locals, cells := 1, slots := 6 }) (Nat.le_refl _) (Nat.le_refl _) hRcells hRslots
  obtain ⟨s', hA'⟩ : ∃ z, z = (T.setVm s.vm).setFrames (.invoking m args :: below) := ⟨_, rfl⟩
  rw [← hA'] at Y
  have hvm : s'.vm = s.vm := by rw [hA']; rfl
  have hhp : s'.heap = T.heap := by rw [hA']; rfl
  have hW0 : s.WarmedH s'.vm := by rw [hvm]; exact State.WarmedH.refl s
  have hat' : ∀ w ∈ vx_at0 own ic cls names, w.before args s' = true := fun w hw => vx_ot_at hW0 hvm.symm (hgood w (List.mem_cons_of_mem _ (List.mem_cons_of_mem _ hw))) (hat w hw)
  have hk' : (Cond.classLink own ik cls).before args s' = true := vx_ot_at hW0 hvm.symm (hgood _ List.mem_cons_self) hk
  have hini' : (Cond.initialized cls).before args s' = true := vx_ot_at hW0 hvm.symm (hgood _ (List.mem_cons_of_mem _ List.mem_cons_self)) hini
  have hU' : vx_Zq Bundle.tN "UNASSIGNED_STACK" Bundle.steD A s' s'.heap := by rw [hhp]; exact vx_Zq.moved hW0.alike (hU.kept hS.2.1)
  have hN' : vx_Zq Bundle.tN "SUPPRESSED_SENTINEL" Bundle.listD A s' s'.heap := by rw [hhp]; exact vx_Zq.moved hW0.alike (hN.kept hS.2.1)
  have h : ∀ w ∈ Bundle.ownAtoms0 own ic cls names, w.before args s' = true := vx_own hat' (vx_isRefq hU'.1) (vx_isRefq hN'.1) hU'.2.word hN'.2.word
  have hown' : s'.vm.findClass own = some m.cls := by rw [hvm]; exact hown
  have hins : (Cond.instantiable cls 6).before args s' = true := h _ (by simp [Bundle.ownAtoms0])
  obtain ⟨vm₁, cX, kX, hfX, hkX, -, -, X₁, st1⟩ := Y.newCold hexec (own := own) (C := cls) (index := ik) (n := 6) hown' hk' hins hini'
    (g := F0 m pc rls rest) rfl (by rw [hb]; exact d0) (Nat.le_refl _) (Nat.le_refl _)
  generalize hT1 : (T.setVm vm₁).pushCell { cls := cX, slots := kX.instanceTypes.map defaultValue, vm := .none } = T1 at X₁ st1
  have hcat : (Value.ref T.heap.size).category = 1 := rfl
  have hcellA : T1.heap[T.heap.size]? = some (freshCell cX kX) := by rw [← hT1]; exact State.heap_pushCell_size _ _
  have d3' : decode c.code (pc + 3) = .ok (.dup, 1) := by rw [hb]; exact d3
  obtain ⟨V, ce, L, Z, hL, hlt, hcl9, hvm9, st⟩ := vx_ctorMade0 X₁ hexec htr (own := own) (cls := cls) (names := names) (ic := ic) hown' hcls hnames h (fun x hx => nomatch hx) hfX hkX hcellA (by rw [hhp]; exact Nat.le_refl _)
    (g := { method := m, pc := pc + 4, locals := rls, stack := .ref T.heap.size :: .ref T.heap.size :: rest, locked := none }) rfl hsize (rest := rest) rfl
    (by rw [hb]; exact d4) hRframes (by simp only [List.map_cons, List.sum_cons, hcat]; omega)
  have Z0 := Stand.forget (locs := []) Z (fun y hy => by rw [hL y hy, hhp]; exact Nat.le_refl _)
  obtain ⟨f1, f2⟩ := vx_frame Z0.same
  rw [hhp] at f1 f2
  have hcid : s.vm.findClass cls = some ce.cls := by
    rw [hcl9]
    rw [hvm] at hfX
    exact hfX
  have hh : (V.setCell T.heap.size ce).heap[T.heap.size]? = some ce := heapAt_setCell_self (s := V) ce hlt
  subst hA'
  have X5 := vx_back9 X Y Z0
  have X6 : Stand p l e R s m args below meth c (V.setCell T.heap.size ce) locs (cells + 1) (slots + 6) := { X5 with same := X5.same.mono (by omega) (by omega) }
  obtain ⟨t, a1, b1⟩ := kk T.heap.size ce (V.setCell T.heap.size ce).heap (fun q hq => f2 q hq (fun z hz => nomatch hz)) ⟨Nat.le_trans hS.1 f1, fun q h1 h2 => (f2 q (Nat.lt_of_lt_of_le h1 hS.1) (fun z hz => nomatch hz)).trans (hS.2.1 q h1 h2), hS.2.2⟩ hh hvm9 hcid _ rfl X6
  refine ⟨t, st1 _ ?_, b1⟩
  show Steps p.tables e below (T1.setTop { method := m, pc := pc + 3, locals := rls, stack := .ref T.heap.size :: rest, locked := none }) _
  jvm_step X₁.here [X₁.here.top, hexec, d3', Value.category]
  exact st _ a1
/-- a cast that fails -/
theorem mcastNo {T : State} (X : Stand p l e R s m args below meth c T locs cells slots) (hexec : p.tables.exec = Jvm.exec)
    {own name : String} {index : Nat} (hown : s.vm.findClass own = some m.cls) (hlink : (Cond.classLink own index name).before args s = true)
    {a : Addr} {cell : Cell} {cT : ClassId} {ks : Class} (hcell : T.heap[a]? = some cell) (hobj : cell.vm = .none) (hks : s.vm.classes[cell.cls]? = some ks) (hcT : s.vm.findClass name = some cT) (hasg : s.vm.assignable cell.cls cT = false)
    {g : JFrame} (hg : g.method = m) {rest : List Value} (hstack : g.stack = .ref a :: rest) (hdg : decode c.code g.pc = .ok (.checkcast index, 3)) :
    ∃ (vm' : Vm) (ks' kt' : Class), Stand p l e R s m args below meth c (T.setVm vm') locs cells slots ∧ s.WarmedH vm' ∧ vm'.classes[cell.cls]? = some ks' ∧ vm'.classes[cT]? = some kt' ∧
      ∀ target, Steps p.tables e below (((T.setVm vm').setTop g).pushFrame (.throwNew "java/lang/ClassCastException" (some (Op.checkcast.message vm' ks' kt')) none)) target → Steps p.tables e below (T.setTop g) target := by
  have hpl : e.platform.magicAccessors = ({} : Platform).magicAccessors := by rw [X.admits.platform]
  obtain ⟨c', hc', hcl⟩ := Cond.classLink_spec hown hlink e.platform hpl
  cases hcT.symm.trans hc'
  obtain ⟨dk, _, _, kt, hd, _, _, _, _, hkt, _, hopen⟩ := hcl.here
  have hcl₀ := X.warmed.classLinks hcl
  have hW' : s.WarmedH (T.vm.noted m.cls index (.cls cT)) := X.warmed.noted hd hopen (State.rightAt_cls hcl)
  obtain ⟨ks', hks', -⟩ := hW'.alike.2.2 _ _ hks
  obtain ⟨kt', hkt', -⟩ := hW'.alike.2.2 _ _ hkt
  refine ⟨_, ks', kt', X.noted hW', hW', hks', hkt', fun target hrest => ?_⟩
  subst hg
  jvm_step X.here [hexec, hdg, checkcast.wp_cold (e := e) (s := T) (f := g) X.here.top hstack (resolveClass_links e.toSetting hcl₀) hcl₀.ready,
    checkcast.wp_ready (e := e) (s := T.setVm (T.vm.noted g.method.cls index (.cls cT))) (f := g) X.here.top hcl₀.ready hstack]
  refine ⟨cell, hcell, (by rw [hobj]; exact fun k q => nomatch q), ks', hks', kt', hkt', ?_⟩
  rw [if_neg (by rw [hW'.alike.assignable, hasg]; decide)]
  exact hrest
end
/-! the text of a ClassCastException -/
def mmsg (C T h1 h2 : String) (same : Bool) : String := toString "class " ++ toString (dotted C) ++ toString " cannot be cast to class " ++ toString (dotted T) ++ toString " (" ++ toString (if same = true then (toString (dotted C) ++ toString " and " ++ toString (dotted T) ++ toString " are in " ++ toString h1 : String) else (toString (dotted C) ++ toString " is in " ++ toString h1 ++ toString "; " ++ toString (dotted T) ++ toString " is in " ++ toString h2 : String)) ++ toString ")"
def mhs : List String := ["module java.base of loader 'bootstrap'", "unnamed module of loader 'bootstrap'"]
theorem mdot_ok : ((List.range 54).all fun i => !((Nat.ble 4 i && Nat.blt i 10) || Nat.blt 49 i) || decide ((dotted (mcn i)).toList.length ≤ 25)) = true := by decide +kernel
theorem mhs_ok : (mhs.all fun h => decide (h.toList.length ≤ 40)) = true := by decide +kernel
theorem mmsg_len {C T h1 h2 : String} {b : Bool} (a1 : (dotted C).toList.length ≤ 25) (a2 : (dotted T).toList.length ≤ 25) (a3 : h1.toList.length ≤ 40) (a4 : h2.toList.length ≤ 40) : (mmsg C T h1 h2 b).toList.length ≤ 230 := by
  have t1 : (toString "class ").toList.length = 6 := by decide
  have t2 : (toString " cannot be cast to class ").toList.length = 25 := by decide
  have t3 : (toString " (").toList.length = 2 := by decide
  have t4 : (toString ")").toList.length = 1 := by decide
  have t5 : (toString " and ").toList.length = 5 := by decide
  have t6 : (toString " are in ").toList.length = 8 := by decide
  have t7 : (toString " is in ").toList.length = 7 := by decide
  have t8 : (toString "; ").toList.length = 2 := by decide
  have s1 : ∀ x : String, toString x = x := fun _ => rfl
  unfold mmsg
  cases b
  · rw [if_neg (by decide)]
    simp only [String.toList_append, List.length_append, t1, t2, t3, t4, t5, t6, t7, t8]
    simp only [s1] at *
    simp only [String.toList_append, List.length_append, t1, t2, t3, t4, t5, t6, t7, t8]
    omega
  · rw [if_pos rfl]
    simp only [String.toList_append, List.length_append, t1, t2, t3, t4, t5, t6, t7, t8]
    simp only [s1] at *
    simp only [String.toList_append, List.length_append, t1, t2, t3, t4, t5, t6, t7, t8]
    omega
theorem mmsg_nm {C T k1 k2 : String} {b : Bool} : (mmsg C T k1 k2 b == notModelled) = false := by
  rw [beq_eq_false_iff_ne]
  intro h
  have h2 := congrArg String.toList h
  have h3 : ∃ r, (mmsg C T k1 k2 b).toList = 'c' :: r := by
    unfold mmsg
    simp only [String.toList_append, List.append_assoc]
    exact ⟨_, rfl⟩
  obtain ⟨r, hr⟩ := h3
  rw [hr] at h2
  have h4 : notModelled.toList = '\u0000' :: " a message that is not modelled".toList := by decide
  rw [h4] at h2
  simp at h2
theorem mpack_ok : ((List.range 54).all fun i => !((Nat.ble 4 i && Nat.blt i 10) || Nat.blt 49 i) || packageOf (mcn i) == "") = true := by decide +kernel
theorem mfc {vm : Vm} {C : String} {c : ClassId} {k : Class} (h : vm.findClass C = some c) (hk : vm.classes[c]? = some k) : k.name = C ∧ k.hidden = none ∧ k.loader = none := by
  unfold Vm.findClass at h
  obtain ⟨hlt, hp, _⟩ := Array.findIdx?_eq_some_iff_getElem.mp h
  have e : vm.classes[c] = k := by
    rw [Array.getElem?_eq_getElem hlt] at hk
    exact Option.some.inj hk
  rw [e] at hp
  simp only [Bool.and_eq_true, beq_iff_eq, Option.isNone_iff_eq_none] at hp
  exact ⟨hp.1.1.1, hp.1.1.2, hp.2⟩
theorem mhome {s : State} {vm : Vm} (hal : s.vm.Alike vm) (hR : modulesRight_1 s = true) {k : Class} (hp : packageOf k.name = "") (hl : k.loader = none) : vm.home k ∈ mhs := by
  have hm : vm.modules = s.vm.modules := by rw [hal.1]
  unfold modulesRight_1 at hR
  rw [← hm] at hR
  have key : ∀ m, vm.moduleOf k = some m → m.name = "java.base" := by
    intro m h
    unfold Vm.moduleOf at h
    split at h
    · have := List.find?_some h
      simpa using this
    · have h1 := List.find?_some h
      have h2 := List.mem_of_find?_eq_some h
      have h3 := List.all_eq_true.mp hR m h2
      rw [hp, hl] at h1
      simp only [Bool.and_eq_true, beq_iff_eq] at h1
      simp only [Bool.or_eq_true, beq_iff_eq, Bool.not_eq_true', h1.1, Option.isSome_none, Bool.false_eq_true, false_or] at h3
      rcases h3 with h3 | h3
      · exact h3
      · have h4 : (castPackages_1.any fun p => m.packages.contains p) = true := by
          unfold castPackages_1
          rw [List.any_cons, h1.2, Bool.true_or]
        rw [h4] at h3
        cases h3
  unfold Vm.home
  rw [hl]
  cases h : vm.moduleOf k with
  | none => exact List.mem_cons_of_mem _ List.mem_cons_self
  | some m =>
    dsimp only
    rw [key m h]
    exact List.mem_cons_self
theorem mmsg_eq {s : State} {vm : Vm} (hal : s.vm.Alike vm) (hR : modulesRight_1 s = true) {i j : Nat} (hc : mCc i j = true) {ks kt : Class} (n1 : ks.name = mcn i) (n2 : kt.name = mcn j) (d1 : ks.hidden = none) (d2 : kt.hidden = none) (l1 : ks.loader = none) (l2 : kt.loader = none) :
    (stringBytes (stringToUtf16 (Op.checkcast.message vm ks kt))).size ≤ 920 ∧ (Op.checkcast.message vm ks kt == notModelled) = false := by
  have hij : i < 54 ∧ j < 54 ∧ ((Nat.ble 4 i && Nat.blt i 10) || Nat.blt 49 i) = true ∧ ((Nat.ble 4 j && Nat.blt j 10) || Nat.blt 49 j) = true := by
    unfold mCc at hc
    rcases Bool.or_eq_true_iff.mp hc with h | h
    · obtain ⟨h, -⟩ := Bool.and_eq_true_iff.mp h
      obtain ⟨h, h'⟩ := Bool.and_eq_true_iff.mp h
      obtain ⟨g1, g2⟩ := Bool.and_eq_true_iff.mp h
      obtain ⟨g3, g4⟩ := Bool.and_eq_true_iff.mp h'
      exact ⟨blt_t g2, blt_t g4, by rw [g1, Bool.or_true], by rw [g3, Bool.or_true]⟩
    · obtain ⟨h, -⟩ := Bool.and_eq_true_iff.mp h
      obtain ⟨h, h'⟩ := Bool.and_eq_true_iff.mp h
      obtain ⟨g1, g2⟩ := Bool.and_eq_true_iff.mp h
      obtain ⟨g3, g4⟩ := Bool.and_eq_true_iff.mp h'
      have q1 := blt_t g2
      have q2 := blt_t g4
      have q3 := Nat.le_of_ble_eq_true g3
      exact ⟨by omega, by omega, by rw [g1, g2]; rfl, by rw [Nat.ble_eq_true_of_le (show 4 ≤ j by omega), g4]; rfl⟩
  obtain ⟨hi, hj, ti, tj⟩ := hij
  have p1 := List.all_eq_true.mp mpack_ok i (List.mem_range.mpr hi)
  have p2 := List.all_eq_true.mp mpack_ok j (List.mem_range.mpr hj)
  rw [ti] at p1
  rw [tj] at p2
  have p1 : packageOf (mcn i) = "" := by simpa using p1
  have p2 : packageOf (mcn j) = "" := by simpa using p2
  have h1 := mhome hal hR (by rw [n1]; exact p1) l1
  have h2 := mhome hal hR (by rw [n2]; exact p2) l2
  have e : ∃ b, Op.checkcast.message vm ks kt = mmsg (mcn i) (mcn j) (vm.home ks) (vm.home kt) b := by
    refine ⟨vm.sameModule ks kt, ?_⟩
    have s1 : ks.shown = dotted (mcn i) := by unfold Class.shown; rw [d1, n1]
    have s2 : kt.shown = dotted (mcn j) := by unfold Class.shown; rw [d2, n2]
    unfold Op.checkcast.message mmsg Vm.homes
    rw [s1, s2]
  obtain ⟨b, e⟩ := e
  have u1 := List.all_eq_true.mp mdot_ok i (List.mem_range.mpr hi)
  have u2 := List.all_eq_true.mp mdot_ok j (List.mem_range.mpr hj)
  rw [ti] at u1
  rw [tj] at u2
  have u1 : (dotted (mcn i)).toList.length ≤ 25 := of_decide_eq_true u1
  have u2 : (dotted (mcn j)).toList.length ≤ 25 := of_decide_eq_true u2
  have u3 := of_decide_eq_true (List.all_eq_true.mp mhs_ok _ h1)
  have u4 := of_decide_eq_true (List.all_eq_true.mp mhs_ok _ h2)
  have g1 := mmsg_len (b := b) u1 u2 u3 u4
  rw [e]
  have b1 := stringBytes_size_le (stringToUtf16 (mmsg (mcn i) (mcn j) (vm.home ks) (vm.home kt) b))
  have b2 := utf16_size_le (mmsg (mcn i) (mcn j) (vm.home ks) (vm.home kt) b)
  exact ⟨by omega, mmsg_nm⟩
