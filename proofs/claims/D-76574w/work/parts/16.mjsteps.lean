/-! THE SMALL MACHINE, 6: every step of it is a step of the machine -/
set_option maxRecDepth 100000
set_option linter.unusedVariables false
section
variable {p : Program} {l : Launch} {e : Env} {R : Room} {s : State} {m : MethodId} {args : Array Value} {below : List Frame} {meth : Method} {c : Code} {H : Heap} {locs : List Loc} {Q : State → Prop}
variable {D : va_G} {dA : Nat → ClassId} {A : Nat → Prop} {ad : Nat → Nat → Nat} {S : mS} {L : List (Option mV)} {rls : Array Slot} {st : List mV} {ml : Nat} {H0 : Heap} {c0 s0 : Nat} {y : MethodName} {cc : ByteArray} {pc : Nat}
theorem mKd_nar {b a : Nat} {x : Int32} (h : mKd b a ≤ 1) (h1 : mKd b a = 1 → x = 0 ∨ x = 1) : narrow (mty b a) (.int x) = .int x ∧ fits (mty b a) (.int x) = true := by
  unfold mKd at h h1
  cases hm : mty b a <;> rw [hm] at h h1 <;> dsimp only at h h1 <;> try omega
  · exact ⟨rfl, rfl⟩
  · rcases h1 rfl with e | e <;> subst e <;> exact ⟨by decide +kernel, by decide +kernel⟩
theorem mKd_narL {b a : Nat} {x : Int64} (h : mKd b a = 5) : narrow (mty b a) (.long x) = .long x ∧ fits (mty b a) (.long x) = true := by
  unfold mKd at h
  cases hm : mty b a <;> rw [hm] at h <;> dsimp only at h <;> try omega
  exact ⟨rfl, rfl⟩
theorem mKd_narR {b a : Nat} {x : Option (Nat × Nat)} (h : mKd b a = 6) : narrow (mty b a) (mcv ad (.inr (.inr x))) = mcv ad (.inr (.inr x)) ∧ fits (mty b a) (mcv ad (.inr (.inr x))) = true := by
  unfold mKd at h
  cases hm : mty b a <;> rw [hm] at h <;> dsimp only at h <;> try omega
  all_goals (cases x <;> exact ⟨rfl, rfl⟩)
theorem mFv_i {R : mR} {i t k : Nat} (h : mKd t k ≤ 4) : mFv ad R i t k = .int (mIv R i k) := by unfold mFv; rw [if_pos h]
theorem mFv_l {R : mR} {i t k : Nat} (h : mKd t k = 5) : mFv ad R i t k = .long (mLv R i k) := by unfold mFv; rw [if_neg (by omega), if_pos h]
theorem mFv_r {R : mR} {i t k : Nat} (h : mKd t k = 6) : mFv ad R i t k = mcv ad (.inr (.inr (mRv R i k))) := by unfold mFv; rw [if_neg (by omega), if_neg (by omega), if_pos h]

/-- the statics at the method's start -/
def mSw (dA : Nat → ClassId) (a : Nat) : Value := if dA (200 + a) = 0 then .null else .ref (dA (130 + a))
def mZs (dA : Nat → ClassId) (A : Nat → Prop) (U : State) (H : Heap) : Prop := va_Z (msn 0).1 (msn 0).2.1 (msn 0).2.2 (.int 1) A U H ∧ ∀ a, 1 ≤ a → a < 4 → va_Z (msn a).1 (msn a).2.1 (msn a).2.2 (mSw dA a) A U H
theorem mIs_kd {own : String} {idx a b t : Nat} (h : mIs t b = true) (hf : mFld own idx a b) : mKd t a = mKd b a := by
  obtain ⟨q, hq, ha, -⟩ := hf
  have h50 := mIs_lt h (mcl_lt hq)
  by_cases e : t = b
  · rw [e]
  · have h1 : 4 ≤ t ∧ t ≤ 9 ∧ 4 ≤ b ∧ b ≤ 9 := by
      unfold mIs at h
      rcases Bool.or_eq_true_iff.mp h with h | h
      · rcases Bool.or_eq_true_iff.mp h with h | h
        · rcases Bool.or_eq_true_iff.mp h with h | h
          · exact absurd (Nat.eq_of_beq_eq_true h) e
          · obtain ⟨p1, p2⟩ := Bool.and_eq_true_iff.mp h
            obtain ⟨p2, p3⟩ := Bool.and_eq_true_iff.mp p2
            have := Nat.eq_of_beq_eq_true p1
            have := Nat.le_of_ble_eq_true p2
            have := Nat.le_of_ble_eq_true p3
            omega
        · obtain ⟨p1, p2⟩ := Bool.and_eq_true_iff.mp h
          have := Nat.eq_of_beq_eq_true p1
          have := Nat.eq_of_beq_eq_true p2
          omega
      · obtain ⟨p1, p2⟩ := Bool.and_eq_true_iff.mp h
        have := Nat.eq_of_beq_eq_true p1
        have := Nat.eq_of_beq_eq_true p2
        omega
    have h2 : ∀ t', 4 ≤ t' → t' ≤ 9 → mKd t' a = mKd 4 a := by
      intro t' g1 g2
      match t', g1, g2 with
      | 4, _, _ => rfl
      | 5, _, _ => rfl
      | 6, _, _ => rfl
      | 7, _, _ => rfl
      | 8, _, _ => rfl
      | 9, _, _ => rfl
    rw [h2 t h1.1 h1.2.1, h2 b h1.2.2.1 h1.2.2.2]
theorem mta_ref {j : Nat} (h : 4 ≤ j) : (mta j).isReference = true := by
  match j, h with
  | 4, _ => rfl
  | 5, _ => rfl
  | 6, _ => rfl
  | 7, _ => rfl
  | 8, _ => rfl
  | j + 9, _ => rfl
theorem mta_over {j : Nat} (h : 4 ≤ j) (h2 : j < 10) : mta j ∈ mxA := by
  match j, h, h2 with
  | 4, _, _ => exact List.mem_of_getElem? (i := 0) rfl
  | 5, _, _ => exact List.mem_of_getElem? (i := 1) rfl
  | 6, _, _ => exact List.mem_of_getElem? (i := 2) rfl
  | 7, _, _ => exact List.mem_of_getElem? (i := 3) rfl
  | 8, _, _ => exact List.mem_of_getElem? (i := 4) rfl
  | 9, _, _ => exact List.mem_of_getElem? (i := 5) rfl
theorem va_RA_fc {s : State} {cA : ClassId} {t : FieldType} (hR : va_RA s cA t) : s.vm.findClass ("[" ++ t.toString) = some cA := by
  cases t with
  | object C =>
    obtain ⟨_, _, _, _, _, h⟩ := hR
    exact h
  | _ => exact hR
theorem mta_RA {s : State} {cA : ClassId} {j : Nat} (h : 4 ≤ j) (h2 : j < 10) (hR : va_RA s cA (mta j)) : s.vm.findClass ("[" ++ (mta j).toString) = some cA := va_RA_fc hR
theorem mKd_7 : ∀ a, a < 16 → ∀ k, k < 40 → mKd a k ≠ 7 := by decide +kernel
theorem mcl_N : ∀ (t : Nat) (q : vw_C), mcl[t]? = some q → t < 16 ∧ q.2.2 < 40 := by
  intro t q hq
  have h1 : t < 16 := (List.getElem?_eq_some_iff.mp hq).1
  refine ⟨h1, ?_⟩
  match t, h1, hq with
  | 0, _, hq => cases hq; decide
  | 1, _, hq => cases hq; decide
  | 2, _, hq => cases hq; decide
  | 3, _, hq => cases hq; decide
  | 4, _, hq => cases hq; decide
  | 5, _, hq => cases hq; decide
  | 6, _, hq => cases hq; decide
  | 7, _, hq => cases hq; decide
  | 8, _, hq => cases hq; decide
  | 9, _, hq => cases hq; decide
  | 10, _, hq => cases hq; decide
  | 11, _, hq => cases hq; decide
  | 12, _, hq => cases hq; decide
  | 13, _, hq => cases hq; decide
  | 14, _, hq => cases hq; decide
  | 15, _, hq => cases hq; decide
theorem mdef_ok {a k : Nat} (h7 : mKd a k ≠ 7) : defaultValue (mty a k) = (if mKd a k ≤ 4 then Value.int 0 else if mKd a k = 5 then .long 0 else if mKd a k = 6 then mcv (fun _ _ => 0) (.inr (.inr none)) else .null) := by
  unfold mKd at h7 ⊢
  cases hm : mty a k <;> rw [hm] at h7 <;> first | rfl | exact absurd rfl h7
theorem mldcw_ok {index q : Nat} {own tx : String} (hexec : p.tables.exec = Jvm.exec) (hb : c.code = cc) (hown : s.vm.findClass own = some m.cls) (hZ : vk_R own index tx q s) (hdg : decode cc pc = .ok (.ldc_w index, 3)) {cells slots : Nat} {rest : List Value}
    (k : W p l e R s m args below meth c H locs cells slots Q (F0 m (pc + 3) rls (.ref q :: rest))) : W p l e R s m args below meth c H locs cells slots Q (F0 m pc rls rest) := by
  intro T hT X
  obtain ⟨t, a1, b1⟩ := k T hT X
  exact ⟨t, X.ldcStringW hexec hown (text := tx) (a := q) hZ.1 hZ.2 (g := F0 m pc rls rest) rfl (by rw [hb]; exact hdg) t a1, b1⟩
theorem fc_some {vm : Vm} {n : String} {c : ClassId} (h : vm.findClass n = some c) : ∃ k, vm.classes[c]? = some k := by
  obtain ⟨hlt, -, -⟩ := Array.findIdx?_eq_some_iff_getElem.mp h
  exact ⟨_, Array.getElem?_eq_getElem hlt⟩
/-- a kind's class, by name -/
theorem mAt.cls {R : mR} {a i : Nat} (hM : mX D dA s) (h : mAt D dA ad R a i H) (h60 : mTg R i < 60) : ∃ cell : Cell, H[a]? = some cell ∧ cell.vm = .none ∧ s.vm.findClass (mcn (mTg R i)) = some cell.cls := by
  by_cases h50 : mTg R i < 50
  · obtain ⟨q, hq, cell, q1, q2, q3, -⟩ := h.obj rfl h50
    refine ⟨cell, q1, q3, ?_⟩
    unfold mcn
    rw [hq, q2]
    exact (hM.1.1 _ q hq).2.1
  · have g := h.arr rfl (by omega) h60
    refine ⟨_, g, ?_, ?_⟩
    · unfold mArr; split <;> rfl
    · have hn : mcl[mTg R i]? = none := List.getElem?_eq_none (by show 16 ≤ mTg R i; omega)
      unfold mcn
      rw [hn]
      have e : (vp_cell (dA (mTg R i - 50)) (mArr ad R i (mTg R i - 50))).cls = dA (mTg R i - 50) := by unfold mArr; split <;> rfl
      rw [e]
      exact va_RA_fc (hM.1.2 (mTg R i - 50) _ (mtys_at dA (by omega))).2
theorem mcast (hM : mX D dA s) {C T : String} (h : (C, T) ∈ mxC) : ∃ c t, s.vm.findClass C = some c ∧ s.vm.findClass T = some t ∧ s.vm.assignable c t = true := Cond.castable_spec (hM.2.2.2.1 _ h)
theorem mFi_ok (hM : mX D dA s) {t u : Nat} (h : mFi t u = true) : 53 < t ∧ t < 60 ∧ u < 60 ∧ ∃ (k : Class) (comp : ClassId) (ty : FieldType), s.vm.classes[dA (t - 50)]? = some k ∧ k.kind = .array comp ty ∧ ty.isReference = true ∧ (∃ kc, s.vm.classes[comp]? = some kc) ∧ ∀ c, s.vm.findClass (mcn u) = some c → s.vm.assignable c comp = true := by
  have obj : ∀ (j : Nat) (C : String), j < 10 → mta j = .object C → (∀ comp, s.vm.findClass C = some comp → ∀ c, s.vm.findClass (mcn u) = some c → s.vm.assignable c comp = true) → ∃ (k : Class) (comp : ClassId) (ty : FieldType), s.vm.classes[dA j]? = some k ∧ k.kind = .array comp ty ∧ ty.isReference = true ∧ (∃ kc, s.vm.classes[comp]? = some kc) ∧ ∀ c, s.vm.findClass (mcn u) = some c → s.vm.assignable c comp = true := by
    intro j C hj hC hass
    have hR := (hM.1.2 j _ (mtys_at dA hj)).2
    dsimp only at hR
    rw [hC] at hR
    obtain ⟨kA, comp, h1, h2, h3, -⟩ := hR
    exact ⟨kA, comp, _, h1, h2, rfl, fc_some h3, hass comp h3⟩
  have same : ∀ C : String, mcn u = C → ∀ comp, s.vm.findClass C = some comp → ∀ c, s.vm.findClass (mcn u) = some c → s.vm.assignable c comp = true := by
    intro C e comp h1 c h2
    rw [e] at h2
    cases h1.symm.trans h2
    exact va_asg _ _
  have below : ∀ C : String, (mcn u, C) ∈ mxC → ∀ comp, s.vm.findClass C = some comp → ∀ c, s.vm.findClass (mcn u) = some c → s.vm.assignable c comp = true := by
    intro C hm comp h1 c h2
    obtain ⟨c', t', g1, g2, g3⟩ := mcast hM hm
    cases h2.symm.trans g1
    cases h1.symm.trans g2
    exact g3
  unfold mFi at h
  rcases Bool.or_eq_true_iff.mp h with h | h
  · rcases Bool.or_eq_true_iff.mp h with h | h
    · rcases Bool.or_eq_true_iff.mp h with h | h
      · rcases Bool.or_eq_true_iff.mp h with h | h
        · obtain ⟨p1, p2⟩ := Bool.and_eq_true_iff.mp h
          obtain ⟨p2, p3⟩ := Bool.and_eq_true_iff.mp p2
          have e1 := Nat.eq_of_beq_eq_true p1
          have e2 := Nat.le_of_ble_eq_true p2
          have e3 := Nat.le_of_ble_eq_true p3
          subst e1
          refine ⟨by decide, by decide, by omega, obj 4 _ (by decide) rfl ?_⟩
          match u, e2, e3, same, below with
          | 4, _, _, same, _ => exact same _ rfl
          | 5, _, _, _, below => exact below _ (by decide +kernel)
          | 6, _, _, _, below => exact below _ (by decide +kernel)
          | 7, _, _, _, below => exact below _ (by decide +kernel)
          | 8, _, _, _, below => exact below _ (by decide +kernel)
          | 9, _, _, _, below => exact below _ (by decide +kernel)
        · obtain ⟨p1, p2⟩ := Bool.and_eq_true_iff.mp h
          obtain ⟨p2, p3⟩ := Bool.and_eq_true_iff.mp p2
          have e1 := Nat.eq_of_beq_eq_true p1
          have e2 := Nat.le_of_ble_eq_true p2
          have e3 := Nat.le_of_ble_eq_true p3
          subst e1
          refine ⟨by decide, by decide, by omega, obj 5 _ (by decide) rfl ?_⟩
          match u, e2, e3, below with
          | 10, _, _, below => exact below _ (by decide +kernel)
          | 11, _, _, below => exact below _ (by decide +kernel)
          | 12, _, _, below => exact below _ (by decide +kernel)
          | 13, _, _, below => exact below _ (by decide +kernel)
      · obtain ⟨p1, p2⟩ := Bool.and_eq_true_iff.mp h
        have e1 := Nat.eq_of_beq_eq_true p1
        have e2 := Nat.eq_of_beq_eq_true p2
        subst e1
        subst e2
        obtain ⟨comp, c, k, h1, h2, h3, h4⟩ := Cond.arrayOver_specA (hM.2.2.2.2.2.1 (.array (.object "NobodyCanLiftIt$Node")) (List.mem_of_getElem? (i := 2) rfl))
        have h5 := va_RA_fc (hM.1.2 6 _ (mtys_at dA (by decide))).2
        have e : c = dA 6 := Option.some.inj (h4.symm.trans h5)
        subst e
        refine ⟨by decide, by decide, by decide, k, comp, _, h2, h3, rfl, fc_some h1, fun c hc => ?_⟩
        cases h1.symm.trans hc
        exact va_asg _ _
    · obtain ⟨p1, p2⟩ := Bool.and_eq_true_iff.mp h
      have e1 := Nat.eq_of_beq_eq_true p1
      have e2 := Nat.eq_of_beq_eq_true p2
      subst e1
      subst e2
      exact ⟨by decide, by decide, by decide, obj 7 _ (by decide) rfl (same _ rfl)⟩
  · obtain ⟨p1, p2⟩ := Bool.and_eq_true_iff.mp h
    have e1 := Nat.eq_of_beq_eq_true p1
    have e2 := Nat.eq_of_beq_eq_true p2
    subst e1
    subst e2
    exact ⟨by decide, by decide, by decide, obj 9 _ (by decide) rfl (same _ rfl)⟩
theorem mIs_as (hM : mX D dA s) {t b : Nat} (h : mIs t b = true) {c : ClassId} (hc : s.vm.findClass (mcn t) = some c) : ∃ c', s.vm.findClass (mcn b) = some c' ∧ s.vm.assignable c c' = true := by
  have below : (mcn t, mcn b) ∈ mxC → ∃ c', s.vm.findClass (mcn b) = some c' ∧ s.vm.assignable c c' = true := by
    intro hm
    obtain ⟨c', t', g1, g2, g3⟩ := mcast hM hm
    cases hc.symm.trans g1
    exact ⟨t', g2, g3⟩
  unfold mIs at h
  rcases Bool.or_eq_true_iff.mp h with h | h
  · rcases Bool.or_eq_true_iff.mp h with h | h
    · rcases Bool.or_eq_true_iff.mp h with h | h
      · have e := Nat.eq_of_beq_eq_true h
        subst e
        exact ⟨c, hc, va_asg _ _⟩
      · obtain ⟨p1, p2⟩ := Bool.and_eq_true_iff.mp h
        obtain ⟨p2, p3⟩ := Bool.and_eq_true_iff.mp p2
        have e1 := Nat.eq_of_beq_eq_true p1
        have e2 := Nat.le_of_ble_eq_true p2
        have e3 := Nat.le_of_ble_eq_true p3
        subst e1
        match t, e2, e3, below with
        | 5, _, _, below => exact below (by decide +kernel)
        | 6, _, _, below => exact below (by decide +kernel)
        | 7, _, _, below => exact below (by decide +kernel)
        | 8, _, _, below => exact below (by decide +kernel)
        | 9, _, _, below => exact below (by decide +kernel)
    · obtain ⟨p1, p2⟩ := Bool.and_eq_true_iff.mp h
      have e1 := Nat.eq_of_beq_eq_true p1
      have e2 := Nat.eq_of_beq_eq_true p2
      subst e1
      subst e2
      exact below (by decide +kernel)
  · obtain ⟨p1, p2⟩ := Bool.and_eq_true_iff.mp h
    have e1 := Nat.eq_of_beq_eq_true p1
    have e2 := Nat.eq_of_beq_eq_true p2
    subst e1
    subst e2
    exact below (by decide +kernel)
theorem mU_cc (S : mS) (r : Nat) (R : mR) : (mU S r R).2.2.2.1 = S.2.2.2.1 ∧ (mU S r R).2.2.2.2 = S.2.2.2.2 := by
  match r with
  | 0 => exact ⟨rfl, rfl⟩
  | 1 => exact ⟨rfl, rfl⟩
  | r + 2 => exact ⟨rfl, rfl⟩
theorem beq_t {a b : Nat} (h : Nat.beq a b = true) : a = b := Nat.eq_of_beq_eq_true h
theorem blt_t {a b : Nat} (h : Nat.blt a b = true) : a < b := Nat.le_of_ble_eq_true h
theorem mW_eq {k n k' n' : Nat} {g : JFrame} (h1 : k = k') (h2 : n = n') (h : W p l e R s m args below meth c H locs k' n' Q g) : W p l e R s m args below meth c H locs k n Q g := by rw [h1, h2]; exact h
theorem macp_ok (X : mCx p s m meth c args y cc ml) (hM : mX D dA s) {idx : Nat} (hlink : (Cond.methodLink y.cls idx arraycopyName).before args s = true) (hnat : (Cond.native arraycopyName).before args s = true) (hstat : (Cond.static arraycopyName).before args s = true) (hini : (Cond.initialized "java/lang/System").before args s = true)
    {a0 a j n0 n1 : Nat} {f g : Nat → Int32} (hj : j < 4) (hc0 : H[a0]? = some (arrV (dA j) n0 (fun k => .int (f k)))) (hc1 : H[a]? = some (arrV (dA j) n1 (fun k => .int (g k)))) (hml' : c.maxLocals = rls.size)
    {sp dp n : Int32} (h1 : ¬ sp < 0) (h2 : ¬ dp < 0) (h3 : ¬ n < 0) (h4 : sp.toNatClampNeg + n.toNatClampNeg ≤ n0) (h5 : dp.toNatClampNeg + n.toNatClampNeg ≤ n1) (hfit : ∀ i, i < n.toNatClampNeg → fits (mta j) (.int (f (sp.toNatClampNeg + i))) = true) {rest : List Value} {cells slots : Nat}
    (hframes : 1 ≤ R.frames) (hlocals : (rest.map fun v => v.category).sum + 30 ≤ R.locals) (hdg : decode cc pc = .ok (.invokestatic idx, 3)) (hS : va_S A H0 H locs) (hAa : A a)
    (kk : ∀ (H1 : Heap) (locs1 : List Loc), H1[a]? = some (arrV (dA j) n1 (fun k => .int (va_cpy f g sp.toNatClampNeg dp.toNatClampNeg n.toNatClampNeg k))) → H1.size = H.size → (∀ q : Nat, q ≠ a → H1[q]? = H[q]?) → va_S A H0 H1 locs1 → W p l e R s m args below meth c H1 locs1 cells slots Q (F0 m (pc + 3) rls rest)) : W p l e R s m args below meth c H locs cells slots Q (F0 m pc rls (.int n :: .int dp :: .ref a :: .int sp :: .ref a0 :: rest)) := by
  have nn : ∀ z : Int32, ¬ z < 0 → z.toInt = (z.toNatClampNeg : Int) := by
    intro z hz
    have hz0 : (0 : Int) ≤ z.toInt := by
      have := Int32.not_lt.mp hz
      simpa using Int32.le_iff_toInt_le.mp this
    show z.toInt = ((z.toInt.toNat : Nat) : Int)
    omega
  obtain ⟨hexec, hb, hml, hown, hts, hnm⟩ := X
  have hK := hM.1
  intro T hT X
  have hTy := mtys_at dA (show j < 10 by omega)
  obtain ⟨-, k0, hk0, cm0, hkk0⟩ := (hK.2 j _ hTy).1 n0 (fun j => .int (f j))
  obtain ⟨-, k1, hk1, cm1, hkk1⟩ := (hK.2 j _ hTy).1 n1 (fun j => .int (g j))
  have hprim : refKind (mta j) = false := by
    match j, hj with
    | 0, _ => rfl
    | 1, _ => rfl
    | 2, _ => rfl
    | 3, _ => rfl
  obtain ⟨vm', X', step⟩ := X.arraycopy hexec hown hlink hnat hstat hini (src := a0) (dst := a) (cs := arrV (dA j) n0 (fun k => .int (f k))) (cd := arrV (dA j) n1 (fun k => .int (g k))) (srcPos := sp) (destPos := dp) (n := n) (by rw [hT]; exact hc0) (by rw [hT]; exact hc1)
    (fun _ h => by cases h) (fun _ h => by cases h) (fun h => by cases h) (fun h => by cases h) hk0 hk1 hkk0 hkk1 (by simp [hprim]) h1 h2 h3
    (by rw [nn sp h1, nn n h3]; show ¬ _ > ((arrV (dA j) n0 (fun j => .int (f j))).slots.size : Int); rw [arrV_size]; omega)
    (by rw [nn dp h2, nn n h3]; show ¬ _ > ((arrV (dA j) n1 (fun j => .int (g j))).slots.size : Int); rw [arrV_size]; omega)
    (fun vm₁ _ i hi => by
      have e : (arrV (dA j) n0 (fun k => .int (f k))).slots.getD (sp.toNatClampNeg + i) .null = .int (f (sp.toNatClampNeg + i)) := by
        rw [Array.getD_eq_getD_getElem?, arrV_read _ _ (by omega)]
        rfl
      refine ⟨?_, ?_⟩
      · rw [e]
        exact hfit i hi
      · rw [e]
        exact trivial)
    (g := F0 m pc rls (.int n :: .int dp :: .ref a :: .int sp :: .ref a0 :: rest)) rfl (by rw [hml']) (rest := rest) rfl (by rw [hb]; exact hdg) hframes (by
      have e18 : nativeFrameWords "java/lang/System" "arraycopy" 5 = 7 := by decide +kernel
      show 2 * 0 + _ + (nativeFrameWords "java/lang/System" "arraycopy" 5 + 11) ≤ _
      rw [e18]
      omega)
  have e1 : copied (arrV (dA j) n0 (fun k => .int (f k))) (arrV (dA j) n1 (fun k => .int (g k))) sp dp n = arrV (dA j) n1 (fun k => .int (va_cpy f g sp.toNatClampNeg dp.toNatClampNeg n.toNatClampNeg k)) := va_copied (fun z => .int z) (dA j) (dA j) f g h4
  rw [e1] at X' step
  have hl : a < H.size := (Array.getElem?_eq_some_iff.mp hc1).1
  have hheap : ((T.setVm vm').setCell a (arrV (dA j) n1 (fun k => .int (va_cpy f g sp.toNatClampNeg dp.toNatClampNeg n.toNatClampNeg k)))).heap = H.setIfInBounds a (arrV (dA j) n1 (fun k => .int (va_cpy f g sp.toNatClampNeg dp.toNatClampNeg n.toNatClampNeg k))) := by rw [← hT]; rfl
  have oq : ∀ q : Nat, q ≠ a → (H.setIfInBounds a (arrV (dA j) n1 (fun k => .int (va_cpy f g sp.toNatClampNeg dp.toNatClampNeg n.toNatClampNeg k))))[q]? = H[q]? := fun q hq => by simp [Array.getElem?_setIfInBounds, Ne.symm hq]
  obtain ⟨t, a1, b1⟩ := kk _ _ (show (H.setIfInBounds a _)[a]? = some _ by simp [Array.getElem?_setIfInBounds, hl]) (by simp) oq ⟨by simp; exact hS.1, fun q g1 g2 => by
      rw [oq q (fun e => g2 (by rw [e]; exact hAa))]
      exact hS.2.1 q g1 g2, fun q hq => by
      rcases List.mem_append.mp hq with h | h
      · exact hS.2.2 q h
      · obtain ⟨z, -, hz⟩ := List.mem_map.mp h
        rw [← hz]
        exact hAa⟩ _ hheap X'
  exact ⟨t, step t a1, b1⟩
def mAd (ad : Nat → Nat → Nat) (b i0 a0 : Nat) : Nat → Nat → Nat := fun r i => if r = b ∧ i = i0 then a0 else ad r i
theorem mG_mAl {S : mS} {b t n sl r : Nat} (hb : b < 2) : mG (mAl S b t n sl) r = if r = b then mNew (mG S b) t n else mG S r := by
  match b, hb with
  | 0, _ => match r with
    | 0 => rfl
    | 1 => rfl
    | n + 2 => rfl
  | 1, _ => match r with
    | 0 => rfl
    | 1 => rfl
    | n + 2 => rw [if_neg (by omega)]; rfl
theorem mTg_new {S : mS} {b t n sl : Nat} (hb : b < 2) : mTg (mG (mAl S b t n sl) b) (mG S b).1 = t := by
  rw [mG_mAl hb, if_pos rfl]
  show (if _ = _ then _ else _) = _
  rw [if_pos rfl]
theorem mLn_new {S : mS} {b t n sl : Nat} (hb : b < 2) : mLn (mG (mAl S b t n sl) b) (mG S b).1 = n := by
  rw [mG_mAl hb, if_pos rfl]
  show (if _ = _ then _ else _) = _
  rw [if_pos rfl]
theorem mIv_new {S : mS} {b t n sl k : Nat} (hb : b < 2) : mIv (mG (mAl S b t n sl) b) (mG S b).1 k = 0 := by
  rw [mG_mAl hb, if_pos rfl]
  show (if _ = _ then _ else _) = _
  rw [if_pos rfl]
theorem mLv_new {S : mS} {b t n sl k : Nat} (hb : b < 2) : mLv (mG (mAl S b t n sl) b) (mG S b).1 k = 0 := by
  rw [mG_mAl hb, if_pos rfl]
  show (if _ = _ then _ else _) = _
  rw [if_pos rfl]
theorem mRv_new {S : mS} {b t n sl k : Nat} (hb : b < 2) : mRv (mG (mAl S b t n sl) b) (mG S b).1 k = none := by
  rw [mG_mAl hb, if_pos rfl]
  show (if _ = _ then _ else _) = _
  rw [if_pos rfl]
theorem mNew_o {R : mR} {t n : Nat} : ∀ j, j < R.1 → mTg (mNew R t n) j = mTg R j ∧ mLn (mNew R t n) j = mLn R j ∧ mIv (mNew R t n) j = mIv R j ∧ mLv (mNew R t n) j = mLv R j ∧ mRv (mNew R t n) j = mRv R j := by
  intro j h
  have hne : ¬ j = R.1 := by omega
  refine ⟨?_, ?_, ?_, ?_, ?_⟩
  · show (if _ = _ then _ else _) = _
    rw [if_neg hne]; rfl
  · show (if _ = _ then _ else _) = _
    rw [if_neg hne]; rfl
  · funext k
    show (if _ = _ then _ else _) = _
    rw [if_neg hne]; rfl
  · funext k
    show (if _ = _ then _ else _) = _
    rw [if_neg hne]; rfl
  · funext k
    show (if _ = _ then _ else _) = _
    rw [if_neg hne]; rfl
theorem mGr.al {S : mS} {b t n sl : Nat} (hb : b < 2) : mGr S (mAl S b t n sl) := by
  intro r
  rw [mG_mAl hb]
  by_cases e : r = b
  · rw [if_pos e, e]; exact Nat.le_succ _
  · rw [if_neg e]; exact Nat.le_refl _
theorem mInv.al {D : va_G} {dA : Nat → ClassId} {A : Nat → Prop} {ad : Nat → Nat → Nat} {S : mS} {H H1 : Heap} {L : List (Option mV)} {rls : Array Slot} {st : List mV} {ml : Nat} {H0 : Heap} {locs : List Loc} {c0 s0 b t n sl : Nat} (I : mInv D dA A ad S H L rls st ml H0 locs c0 s0) (hb : b < 2) (hA : A H.size) (o1 : ∀ q, q < H.size → H1[q]? = H[q]?) (hz : H.size ≤ H1.size)
    (hc : ∀ ad', mAt D dA ad' (mG (mAl S b t n sl) b) H.size (mG S b).1 H1) : mExt S ad (mAd ad b (mG S b).1 H.size) ∧ mInv D dA A (mAd ad b (mG S b).1 H.size) (mAl S b t n sl) H1 L rls (mV_ref b (mG S b).1 :: st) ml H0 locs c0 s0 := by
  obtain ⟨⟨a1, a2, a3, a4, a5⟩, hS, hL, hst, i1, i2⟩ := I
  have h2r : mG (mAl S b t n sl) 2 = mG S 2 := by rw [mG_mAl hb, if_neg (by omega)]
  have hE : mExt S ad (mAd ad b (mG S b).1 H.size) := by
    intro r i hr hi
    unfold mAd
    rw [if_neg]
    rintro ⟨e1, e2⟩
    subst e1
    omega
  have hg : mGr S (mAl S b t n sl) := mGr.al hb
  have key : ∀ r i, i < (mG (mAl S b t n sl) r).1 → i < (mG S r).1 ∨ (r = b ∧ i = (mG S b).1) := by
    intro r i h
    rw [mG_mAl hb] at h
    by_cases e : r = b
    · rw [if_pos e] at h
      have h : i < (mG S b).1 + 1 := h
      by_cases e2 : i = (mG S b).1
      · exact Or.inr ⟨e, e2⟩
      · subst e
        exact Or.inl (by omega)
    · rw [if_neg e] at h
      exact Or.inl h
  have hold : ∀ r i, r < 3 → i < (mG S r).1 → ad r i < H.size := fun r i hr hi => (a1 r i hr hi).lt
  have hnew : mAd ad b (mG S b).1 H.size b (mG S b).1 = H.size := by unfold mAd; rw [if_pos ⟨rfl, rfl⟩]
  have hagree : ∀ r j, j < (mG S r).1 → mTg (mG (mAl S b t n sl) r) j = mTg (mG S r) j ∧ mLn (mG (mAl S b t n sl) r) j = mLn (mG S r) j ∧ mIv (mG (mAl S b t n sl) r) j = mIv (mG S r) j ∧ mLv (mG (mAl S b t n sl) r) j = mLv (mG S r) j ∧ mRv (mG (mAl S b t n sl) r) j = mRv (mG S r) j := by
    intro r j hj
    rw [mG_mAl hb]
    by_cases e : r = b
    · subst e
      rw [if_pos rfl]
      exact mNew_o j hj
    · rw [if_neg e]
      exact ⟨rfl, rfl, rfl, rfl, rfl⟩
  refine ⟨hE, ⟨fun r i hr hi => ?_, fun r i r' i' hr hi hr' hi' h => ?_, fun r i hr hi => ?_, fun r i k x hr hi h => ?_, ?_⟩, ⟨Nat.le_trans hS.1 hz, fun q h1 h2 => ?_, hS.2.2⟩, hL.mv hE hg, fun v hv => ?_, ?_, ?_⟩
  · rcases key r i hi with h | ⟨e1, e2⟩
    · obtain ⟨b1, b2, b3, b4, b5⟩ := hagree r i h
      rw [hE r i hr h]
      exact (a1 r i hr h).to b1 b2 b3 b4 b5 (fun k x hx => hE _ _ (a4 r i k x hr h hx).1 (a4 r i k x hr h hx).2) (o1 _ (hold r i hr h))
    · subst e1
      subst e2
      rw [hnew]
      exact hc _
  · rcases key r i hi with g1 | ⟨e1, e2⟩ <;> rcases key r' i' hi' with g2 | ⟨e3, e4⟩
    · rw [hE r i hr g1, hE r' i' hr' g2] at h
      exact a2 r i r' i' hr g1 hr' g2 h
    · subst e3; subst e4
      rw [hE r i hr g1, hnew] at h
      have := hold r i hr g1
      omega
    · subst e1; subst e2
      rw [hE r' i' hr' g2, hnew] at h
      have := hold r' i' hr' g2
      omega
    · exact ⟨e1.trans e3.symm, e2.trans e4.symm⟩
  · rcases key r i hi with g1 | ⟨e1, e2⟩
    · rw [hE r i (by omega) g1]
      exact a3 r i hr g1
    · subst e1; subst e2
      rw [hnew]
      exact hA
  · rcases key r i hi with g1 | ⟨e1, e2⟩
    · rw [(hagree r i g1).2.2.2.2] at h
      have := a4 r i k x hr g1 h
      exact ⟨this.1, Nat.lt_of_lt_of_le this.2 (hg x.1)⟩
    · subst e1; subst e2
      rw [mRv_new hb] at h
      cases h
  · rw [h2r]
    refine ⟨a5.1, fun i hi => ?_, a5.2.2⟩
    rw [hE 2 i (by decide) hi]
    exact a5.2.1 i hi
  · exact (o1 q (Nat.lt_of_lt_of_le h1 hS.1)).trans (hS.2.1 q h1 h2)
  · rcases List.mem_cons.mp hv with e | e
    · rw [e]
      refine ⟨by show b < 3; omega, ?_⟩
      show (mG S b).1 < (mG (mAl S b t n sl) b).1
      rw [mG_mAl hb, if_pos rfl]
      exact Nat.lt_succ_self _
    · exact (hst v e).gr hg
  · match b, hb with
    | 0, _ => exact Nat.le_succ_of_le i1
    | 1, _ => exact Nat.le_succ_of_le i1
  · match b, hb with
    | 0, _ => exact Nat.le_trans i2 (Nat.le_add_right _ _)
    | 1, _ => exact Nat.le_trans i2 (Nat.le_add_right _ _)
theorem mCat_le {ad : Nat → Nat → Nat} {n : Nat} : ∀ {st : List mV}, mCat st ≤ n → ((st.map (mcv ad)).map fun v => v.category).sum ≤ n := by
  have key : ∀ (st : List mV), ((st.map (mcv ad)).map fun v => v.category).sum = mCat st := by
    intro st
    induction st with
    | nil => rfl
    | cons v t ih =>
      rw [List.map_cons, List.map_cons, List.sum_cons, ih]
      match v with
      | .inl _ => show 1 + _ = mCat t + 1; omega
      | .inr (.inl _) => show 2 + _ = mCat t + 2; omega
      | .inr (.inr none) => show 1 + _ = mCat t + 1; omega
      | .inr (.inr (some q)) => show 1 + _ = mCat t + 1; omega
  intro st h
  rw [key]
  exact h
set_option maxHeartbeats 3000000 in
theorem mstp_ok {rt : Option FieldType} {ee : mE} {S' : mS} {L' : List (Option mV)} {st' : List mV} (X : mCx p s m meth c args y cc ml) (hM : mX D dA s) (hH0 : H0 = s.heap) (hZ : mZs dA A s s.heap) (hok : mOK y cc ml rt pc ee) (h : mstp ee L st S = some (L', st', S')) (I : mInv D dA A ad S H L rls st ml H0 locs c0 s0) (hA : ∀ q, H0.size ≤ q → A q)
    (hRc : S'.2.2.2.1 - c0 ≤ R.cells) (hRs : S'.2.2.2.2 - s0 ≤ R.slots) (hRf : 1 ≤ R.frames) (hRl : 64 ≤ R.locals)
    (kk : ∀ (ad' : Nat → Nat → Nat) (H' : Heap) (locs' : List Loc) (rls' : Array Slot), mExt S ad ad' → mInv D dA A ad' S' H' L' rls' st' ml H0 locs' c0 s0 → W p l e R s m args below meth c H' locs' (S'.2.2.2.1 - c0) (S'.2.2.2.2 - s0) Q (F0 m ee.2.1 rls' (st'.map (mcv ad')))) :
    W p l e R s m args below meth c H locs (S.2.2.2.1 - c0) (S.2.2.2.2 - s0) Q (F0 m pc rls (st.map (mcv ad))) := by
  obtain ⟨i, nx, v, a, b⟩ := ee
  obtain ⟨hd, hnx, hox⟩ := hok
  have hX := X
  have hK := hM.1
  obtain ⟨hx, hb, hml, hown, hts, hnm⟩ := X
  dsimp only at hd hnx
  subst hnx
  cases i
  case iconst n =>
    obtain ⟨x, h1, h2⟩ := hox
    dsimp only at h1
    subst h1
    cases h
    exact lv_iconst hx hb hd h2 (kk ad H locs rls mExt.rf (I.psh trivial))
  case bipush n =>
    obtain ⟨x, h1, h2⟩ := hox
    dsimp only at h1
    subst h1
    cases h
    exact lv_bipush hx hb hd h2 (kk ad H locs rls mExt.rf (I.psh trivial))
  case sipush n =>
    obtain ⟨x, h1, h2⟩ := hox
    dsimp only at h1
    subst h1
    cases h
    exact lv_sipush hx hb hd h2 (kk ad H locs rls mExt.rf (I.psh trivial))
  case lconst n =>
    obtain ⟨x, h1, h2⟩ := hox
    dsimp only at h1
    subst h1
    cases h
    exact lv_lconst hx hb hd h2 (kk ad H locs rls mExt.rf (I.psh trivial))
  case ldc n =>
    rcases hox with ⟨x, h1, h2⟩ | ⟨j, tx, h1, h2, h3⟩
    · dsimp only at h1
      subst h1
      cases h
      exact lv_ldc hx hb hown (hts _ h2) hd (kk ad H locs rls mExt.rf (I.psh trivial))
    · dsimp only at h1
      subst h1
      cases h
      have hj : j < 14 := (List.getElem?_eq_some_iff.mp h3).1
      have hn2 := I.1.2.2.2.2.1
      have hvk := hM.2.2.2.2.2.2.2.2.1 j n tx h3
      rw [← h2, ← show ad 2 (2 + j) = dA (102 + j) from (I.1.2.2.2.2.2.1 (2 + j) (by omega)).trans (by rw [show 100 + (2 + j) = 102 + j by omega])] at hvk
      exact va_ldcS hx hb hown hvk hd (kk ad H locs rls mExt.rf (I.psh (v := mV_ref 2 (2 + j)) ⟨(show 2 < 3 by decide), by show 2 + j < (mG S 2).1; omega⟩))
  case ldc_w n =>
    rcases hox with ⟨x, h1, h2⟩ | ⟨j, tx, h1, h2, h3⟩
    · dsimp only at h1
      subst h1
      cases h
      exact lv_ldcw hx hb hown (hts _ h2) hd (kk ad H locs rls mExt.rf (I.psh trivial))
    · dsimp only at h1
      subst h1
      cases h
      have hj : j < 14 := (List.getElem?_eq_some_iff.mp h3).1
      have hn2 := I.1.2.2.2.2.1
      have hvk := hM.2.2.2.2.2.2.2.2.1 j n tx h3
      rw [← h2, ← show ad 2 (2 + j) = dA (102 + j) from (I.1.2.2.2.2.2.1 (2 + j) (by omega)).trans (by rw [show 100 + (2 + j) = 102 + j by omega])] at hvk
      exact mldcw_ok hx hb hown hvk hd (kk ad H locs rls mExt.rf (I.psh (v := mV_ref 2 (2 + j)) ⟨(show 2 < 3 by decide), by show 2 + j < (mG S 2).1; omega⟩))
  case ldc2_w n =>
    obtain ⟨x, h1, h2⟩ := hox
    dsimp only at h1
    subst h1
    cases h
    exact lv_ldc2 hx hb hown (hts _ h2) hd (kk ad H locs rls mExt.rf (I.psh trivial))
  case iload j =>
    dsimp only [mstp] at h
    split at h
    · rename_i x hl
      cases h
      exact lv_iload hx hb hd (I.at hl).1 (kk ad H locs rls mExt.rf (I.psh (I.at hl).2))
    · cases h
  case iload_n j =>
    dsimp only [mstp] at h
    split at h
    · rename_i x hl
      cases h
      exact lv_iload_n hx hb hd rfl (I.at hl).1 (kk ad H locs rls mExt.rf (I.psh (I.at hl).2))
    · cases h
  case lload j =>
    dsimp only [mstp] at h
    split at h
    · rename_i x hl
      cases h
      exact lv_lload hx hb hd (I.at hl).1 (kk ad H locs rls mExt.rf (I.psh (I.at hl).2))
    · cases h
  case lload_n j =>
    dsimp only [mstp] at h
    split at h
    · rename_i x hl
      cases h
      exact lv_lload_n hx hb hd rfl (I.at hl).1 (kk ad H locs rls mExt.rf (I.psh (I.at hl).2))
    · cases h
  case aload j =>
    dsimp only [mstp] at h
    split at h
    · rename_i x hl
      cases h
      have hk := kk ad H locs rls mExt.rf (I.psh (I.at hl).2)
      have hv := (I.at hl).1
      cases x with
      | some x => exact lv_aload hx hb hd hv hk
      | none => exact lv_aloadN hx hb hd hv hk
    · cases h
  case aload_n j =>
    dsimp only [mstp] at h
    split at h
    · rename_i x hl
      cases h
      have hk := kk ad H locs rls mExt.rf (I.psh (I.at hl).2)
      have hv := (I.at hl).1
      cases x with
      | some x => exact lv_aload_n hx hb hd rfl hv hk
      | none => exact lv_aload_nN hx hb hd rfl hv hk
    · cases h
  case aconst_null =>
    cases h
    exact lv_null hx hb hd (kk ad H locs rls mExt.rf (I.psh (v := .inr (.inr none)) trivial))
  case istore j =>
    dsimp only [mstp] at h
    split at h
    · rename_i x st
      cases h
      exact lv_istore hx hb hd I.2.2.1.has hox rfl (fun rls' hl => kk ad H locs rls' mExt.rf (I.pop.lc (I.2.2.1.st1 hox I.top hl)))
    · cases h
  case istore_n j =>
    dsimp only [mstp] at h
    split at h
    · rename_i x st
      cases h
      exact lv_istore_n hx hb hd rfl I.2.2.1.has hox rfl (fun rls' hl => kk ad H locs rls' mExt.rf (I.pop.lc (I.2.2.1.st1 hox I.top hl)))
    · cases h
  case lstore j =>
    dsimp only [mstp] at h
    split at h
    · rename_i x st
      cases h
      exact lv_lstore hx hb hd I.2.2.1.has hox rfl (fun rls' hl => kk ad H locs rls' mExt.rf (I.pop.lc (I.2.2.1.st2 hox I.top hl)))
    · cases h
  case lstore_n j =>
    dsimp only [mstp] at h
    split at h
    · rename_i x st
      cases h
      exact lv_lstore_n hx hb hd rfl I.2.2.1.has hox rfl (fun rls' hl => kk ad H locs rls' mExt.rf (I.pop.lc (I.2.2.1.st2 hox I.top hl)))
    · cases h
  case astore j =>
    dsimp only [mstp] at h
    split at h
    · rename_i x st
      cases h
      have hk : ∀ rls', lv_has rls' ml _ → _ := fun rls' hl => kk ad H locs rls' mExt.rf (I.pop.lc (I.2.2.1.st1 hox I.top hl))
      cases x with
      | some x => exact lv_astore hx hb hd I.2.2.1.has hox rfl hk
      | none => exact lv_astoreN hx hb hd I.2.2.1.has hox rfl hk
    · cases h
  case astore_n j =>
    dsimp only [mstp] at h
    split at h
    · rename_i x st
      cases h
      have hk : ∀ rls', lv_has rls' ml _ → _ := fun rls' hl => kk ad H locs rls' mExt.rf (I.pop.lc (I.2.2.1.st1 hox I.top hl))
      cases x with
      | some x => exact lv_astore_n hx hb hd rfl I.2.2.1.has hox rfl hk
      | none => exact lv_astore_nN hx hb hd rfl I.2.2.1.has hox rfl hk
    · cases h
  case iinc j n =>
    obtain ⟨hj, x, h1, h2⟩ := hox
    dsimp only at h1
    subst h1
    dsimp only [mstp] at h
    split at h
    · rename_i x0 hl
      cases h
      obtain ⟨q, hq⟩ := List.getElem?_of_mem ((mLl_mem (ad := ad) L 0 (j, .int x0)).mpr ⟨j, .inl x0, hl, by rw [Nat.zero_add]; rfl⟩)
      exact lv_iinc hx hb hd I.2.2.1.has hq (by rw [h2]) hj rfl (fun rls' hl => kk ad H locs rls' mExt.rf (I.lc (I.2.2.1.st1 (v := .inl (x0 + x)) hj trivial hl)))
    · cases h
  case iadd =>
    dsimp only [mstp] at h
    split at h
    · rename_i y x st
      cases h
      exact lv_iadd hx hb hd (kk ad H locs rls mExt.rf (I.pop.pop.psh trivial))
    · cases h
  case isub =>
    dsimp only [mstp] at h
    split at h
    · rename_i y x st
      cases h
      exact lv_isub hx hb hd (kk ad H locs rls mExt.rf (I.pop.pop.psh trivial))
    · cases h
  case imul =>
    dsimp only [mstp] at h
    split at h
    · rename_i y x st
      cases h
      exact lv_imul hx hb hd (kk ad H locs rls mExt.rf (I.pop.pop.psh trivial))
    · cases h
  case iand =>
    dsimp only [mstp] at h
    split at h
    · rename_i y x st
      cases h
      exact lv_iand hx hb hd (kk ad H locs rls mExt.rf (I.pop.pop.psh trivial))
    · cases h
  case ior =>
    dsimp only [mstp] at h
    split at h
    · rename_i y x st
      cases h
      exact lv_ior hx hb hd (kk ad H locs rls mExt.rf (I.pop.pop.psh trivial))
    · cases h
  case ixor =>
    dsimp only [mstp] at h
    split at h
    · rename_i y x st
      cases h
      exact lv_ixor hx hb hd (kk ad H locs rls mExt.rf (I.pop.pop.psh trivial))
    · cases h
  case ishl =>
    dsimp only [mstp] at h
    split at h
    · rename_i y x st
      cases h
      exact lv_ishl hx hb hd (kk ad H locs rls mExt.rf (I.pop.pop.psh trivial))
    · cases h
  case ishr =>
    dsimp only [mstp] at h
    split at h
    · rename_i y x st
      cases h
      exact lv_ishr hx hb hd (kk ad H locs rls mExt.rf (I.pop.pop.psh trivial))
    · cases h
  case ladd =>
    dsimp only [mstp] at h
    split at h
    · rename_i y x st
      cases h
      exact lv_ladd hx hb hd (kk ad H locs rls mExt.rf (I.pop.pop.psh trivial))
    · cases h
  case lsub =>
    dsimp only [mstp] at h
    split at h
    · rename_i y x st
      cases h
      exact lv_lsub hx hb hd (kk ad H locs rls mExt.rf (I.pop.pop.psh trivial))
    · cases h
  case lmul =>
    dsimp only [mstp] at h
    split at h
    · rename_i y x st
      cases h
      exact lv_lmul hx hb hd (kk ad H locs rls mExt.rf (I.pop.pop.psh trivial))
    · cases h
  case idiv =>
    dsimp only [mstp] at h
    split at h
    · rename_i y x st
      split at h
      · rename_i h0
        cases h
        exact lv_idiv hx hb hd h0 (kk ad H locs rls mExt.rf (I.pop.pop.psh trivial))
      · cases h
    · cases h
  case irem =>
    dsimp only [mstp] at h
    split at h
    · rename_i y x st
      split at h
      · rename_i h0
        cases h
        exact lv_irem hx hb hd h0 (kk ad H locs rls mExt.rf (I.pop.pop.psh trivial))
      · cases h
    · cases h
  case ldiv =>
    dsimp only [mstp] at h
    split at h
    · rename_i y x st
      split at h
      · rename_i h0
        cases h
        exact lv_ldiv hx hb hd h0 (kk ad H locs rls mExt.rf (I.pop.pop.psh trivial))
      · cases h
    · cases h
  case lrem =>
    dsimp only [mstp] at h
    split at h
    · rename_i y x st
      split at h
      · rename_i h0
        cases h
        exact lv_lrem hx hb hd h0 (kk ad H locs rls mExt.rf (I.pop.pop.psh trivial))
      · cases h
    · cases h
  case iushr =>
    dsimp only [mstp] at h
    split at h
    · rename_i y x st
      cases h
      exact lv_iushr hx hb hd rfl (kk ad H locs rls mExt.rf (I.pop.pop.psh trivial))
    · cases h
  case lcmp =>
    dsimp only [mstp] at h
    split at h
    · rename_i y x st
      cases h
      exact W.lcmp hx hb hd (kk ad H locs rls mExt.rf (I.pop.pop.psh trivial))
    · cases h
  case ineg =>
    dsimp only [mstp] at h
    split at h
    · rename_i x st
      cases h
      exact lv_ineg hx hb hd (kk ad H locs rls mExt.rf (I.pop.psh trivial))
    · cases h
  case lneg =>
    dsimp only [mstp] at h
    split at h
    · rename_i x st
      cases h
      exact lv_lneg hx hb hd (kk ad H locs rls mExt.rf (I.pop.psh trivial))
    · cases h
  case i2l =>
    dsimp only [mstp] at h
    split at h
    · rename_i x st
      cases h
      exact lv_i2l hx hb hd rfl (kk ad H locs rls mExt.rf (I.pop.psh trivial))
    · cases h
  case l2i =>
    dsimp only [mstp] at h
    split at h
    · rename_i x st
      cases h
      exact lv_l2i hx hb hd rfl (kk ad H locs rls mExt.rf (I.pop.psh trivial))
    · cases h
  case i2b =>
    dsimp only [mstp] at h
    split at h
    · rename_i x st
      cases h
      exact lv_i2b hx hb hd rfl (kk ad H locs rls mExt.rf (I.pop.psh trivial))
    · cases h
  case i2s =>
    dsimp only [mstp] at h
    split at h
    · rename_i x st
      cases h
      exact lv_i2s hx hb hd rfl (kk ad H locs rls mExt.rf (I.pop.psh trivial))
    · cases h
  case i2c =>
    dsimp only [mstp] at h
    split at h
    · rename_i x st
      cases h
      exact lv_i2c hx hb hd rfl (kk ad H locs rls mExt.rf (I.pop.psh trivial))
    · cases h
  case dup =>
    dsimp only [mstp] at h
    split at h
    · rename_i x st
      cases h
      exact lv_dup hx hb hd rfl (kk ad H locs rls mExt.rf (I.psh trivial))
    · rename_i x st
      cases h
      exact lv_dup hx hb hd (by cases x <;> rfl) (kk ad H locs rls mExt.rf (I.psh I.top))
    · cases h
  case dup2 =>
    dsimp only [mstp] at h
    split at h
    · rename_i y x st
      cases h
      exact lv_dup2_11 hx hb hd rfl (by cases x <;> rfl) (kk ad H locs rls mExt.rf ((I.psh I.pop.top).psh trivial))
    · cases h
  case pop =>
    dsimp only [mstp] at h
    split at h
    · rename_i x st
      cases h
      exact lv_pop hx hb hd rfl (kk ad H locs rls mExt.rf I.pop)
    · rename_i x st
      cases h
      exact lv_pop hx hb hd (by cases x <;> rfl) (kk ad H locs rls mExt.rf I.pop)
    · cases h
  case getfield idx =>
    dsimp only [mstp] at h
    split at h
    · rename_i r i st
      obtain ⟨hr, hi⟩ := I.top
      dsimp only at hr hi
      cases ht : mIs (mTg (mG S r) i) b with
      | false => rw [ht] at h; cases h
      | true =>
        rw [ht] at h
        dsimp only [cond] at h
        obtain ⟨hf, hsh⟩ := hox
        dsimp only at hf hsh
        refine mget_ok (b := b) (a := a) hX hM I.1 hf hr hi ht hd ?_
        have hkd := mIs_kd ht hf
        rw [← hkd] at hsh
        match v, hsh, h with
        | .inl _, hsh, h =>
          cases h
          rw [mFv_i hsh]
          exact kk ad H locs rls mExt.rf (I.pop.psh trivial)
        | .inr (.inl _), hsh, h =>
          cases h
          rw [mFv_l hsh]
          exact kk ad H locs rls mExt.rf (I.pop.psh trivial)
        | .inr (.inr _), hsh, h =>
          cases h
          rw [mFv_r hsh]
          refine kk ad H locs rls mExt.rf (I.pop.psh ?_)
          cases hq : mRv (mG S r) i a with
          | none => trivial
          | some x => exact I.1.2.2.2.1 r i a x hr hi hq
    · cases h
  case putfield idx =>
    dsimp only [mstp] at h
    split at h
    · rename_i w r i st
      obtain ⟨hr3, hi⟩ := I.pop.top
      dsimp only at hr3 hi
      cases ht : mIs (mTg (mG S r) i) (b % 100) && Nat.blt r 2 with
      | false => rw [ht] at h; cases h
      | true =>
        rw [ht] at h
        dsimp only [cond] at h
        obtain ⟨ht1, ht2⟩ := Bool.and_eq_true_iff.mp ht
        have hr := blt_t ht2
        obtain ⟨hf, hsh, h41, hnb, hfin⟩ := hox
        dsimp only at hf hsh h41 hnb hfin
        have hkd := mIs_kd ht1 hf
        generalize htt : mTg (mG S r) i = t0 at ht1 hkd
        have hst : ∀ v ∈ st, mVok S v := fun v q => I.pop.pop.2.2.2.1 v q
        match v, w, hsh, h, I with
        | .inl _, .inl x, hsh, h, I =>
          have hsh4 : mKd t0 a ≤ 4 := by rw [hkd]; exact hsh
          have hsh : mKd (b % 100) a ≤ 1 := h41 hsh
          have h2 : (mKd (b % 100) a = 1 → x = 0 ∨ x = 1) ∧ some (L, st, mU S r (mSi (mG S r) i a x)) = some (L', st', S') := by
            dsimp only at h
            split at h
            · rename_i hb0
              exact ⟨fun q => absurd q (hnb hb0), h⟩
            · split at h
              · rename_i h01
                exact ⟨fun _ => h01, h⟩
              · cases h
          obtain ⟨h01, h⟩ := h2
          cases h
          obtain ⟨n1, n2⟩ := mKd_nar hsh h01
          refine mput_ok (b := b % 100) (a := a) (r := r) (i := i) hX hM I.1 hf hfin hr3 hi htt ht1 hd n1 n2 (fun H1 k0 e2 e3 hc => ?_)
          have I2 := I.pop.pop.wr (k0 := k0) (R' := mSi (mG S r) i a x) hr hi rfl mSi_o (hc _ htt (fun k hk => ?_) ?_) e2 e3 (fun k z q => I.1.2.2.2.1 r i k z hr3 hi q) hst
          · exact mW_eq (by rw [(mU_cc S r _).1]) (by rw [(mU_cc S r _).2]) (kk ad H1 _ rls mExt.rf I2)
          · unfold mFv
            rw [mIv_mSi, if_neg hk]
            rfl
          · rw [mFv_i hsh4, mIv_mSi, if_pos rfl]; rfl
        | .inr (.inl _), .inr (.inl x), hsh, h, I =>
          have hsh : mKd (b % 100) a = 5 := hsh
          cases h
          obtain ⟨n1, n2⟩ := mKd_narL (x := x) hsh
          refine mput_ok (b := b % 100) (a := a) (r := r) (i := i) hX hM I.1 hf hfin hr3 hi htt ht1 hd n1 n2 (fun H1 k0 e2 e3 hc => ?_)
          have I2 := I.pop.pop.wr (k0 := k0) (R' := mSl (mG S r) i a x) hr hi rfl mSl_o (hc _ htt (fun k hk => ?_) ?_) e2 e3 (fun k z q => I.1.2.2.2.1 r i k z hr3 hi q) hst
          · exact mW_eq (by rw [(mU_cc S r _).1]) (by rw [(mU_cc S r _).2]) (kk ad H1 _ rls mExt.rf I2)
          · unfold mFv
            rw [mLv_mSl, if_neg hk]
            rfl
          · rw [mFv_l (hkd.trans hsh), mLv_mSl, if_pos rfl]; rfl
        | .inr (.inr _), .inr (.inr x), hsh, h, I =>
          have hsh : mKd (b % 100) a = 6 := hsh
          cases h
          obtain ⟨n1, n2⟩ := mKd_narR (ad := ad) (x := x) hsh
          refine mput_ok (b := b % 100) (a := a) (r := r) (i := i) hX hM I.1 hf hfin hr3 hi htt ht1 hd n1 n2 (fun H1 k0 e2 e3 hc => ?_)
          have I2 := I.pop.pop.wr (k0 := k0) (R' := mSr (mG S r) i a x) hr hi rfl mSr_o (hc _ htt (fun k hk => ?_) ?_) e2 e3 (fun k z q => ?_) hst
          · exact mW_eq (by rw [(mU_cc S r _).1]) (by rw [(mU_cc S r _).2]) (kk ad H1 _ rls mExt.rf I2)
          · unfold mFv
            rw [mRv_mSr, if_neg hk]
            rfl
          · rw [mFv_r (hkd.trans hsh), mRv_mSr, if_pos rfl]
          · rw [mRv_mSr] at q
            by_cases e : k = a
            · rw [if_pos e] at q
              have hv := I.top
              subst q
              exact hv
            · rw [if_neg e] at q
              exact I.1.2.2.2.1 r i k z hr3 hi q
        | .inl _, .inr _, hsh, h, I => cases h
        | .inr (.inl _), .inl _, hsh, h, I => cases h
        | .inr (.inl _), .inr (.inr _), hsh, h, I => cases h
        | .inr (.inr _), .inl _, hsh, h, I => cases h
        | .inr (.inr _), .inr (.inl _), hsh, h, I => cases h
    · cases h
  case arraylength =>
    dsimp only [mstp] at h
    split at h
    · rename_i r i st
      obtain ⟨hr, hi⟩ := I.top
      dsimp only at hr hi
      cases ht : Nat.blt 49 (mTg (mG S r) i) && Nat.blt (mTg (mG S r) i) 60 with
      | false => rw [ht] at h; cases h
      | true =>
        rw [ht] at h
        cases h
        obtain ⟨ht1, ht2⟩ := Bool.and_eq_true_iff.mp ht
        have h1 := blt_t ht1
        have h2 := blt_t ht2
        have g1 := (I.1.at hr hi).arr rfl h1 h2
        have hT := (hK.2 (mTg (mG S r) i - 50) _ (mtys_at dA (by omega))).1
        have hsz : (vp_cell (dA (mTg (mG S r) i - 50)) (mArr ad (mG S r) i (mTg (mG S r) i - 50))).slots.size = mLn (mG S r) i ∧ s.isArrayOf (vp_cell (dA (mTg (mG S r) i - 50)) (mArr ad (mG S r) i (mTg (mG S r) i - 50))) (mta (mTg (mG S r) i - 50)) := by
          unfold mArr
          split
          · exact ⟨arrV_size _ _ _, hT _ _⟩
          · exact ⟨arrV_size _ _ _, hT _ _⟩
        refine W.alen (n := Int32.ofNat (mLn (mG S r) i)) hx hb g1 hsz.2 ?_ rfl rfl hd (kk ad H locs rls mExt.rf (I.pop.psh trivial))
        rw [hsz.1]
    · cases h
  case iaload =>
    dsimp only [mstp] at h
    split at h
    · rename_i j r i st
      obtain ⟨hr, hi⟩ := I.pop.top
      dsimp only at hr hi
      cases ht : Nat.beq (mTg (mG S r) i) 50 with
      | false => rw [ht] at h; cases h
      | true =>
        rw [ht] at h
        dsimp only [cond] at h
        split at h
        · rename_i hin
          cases h
          have g1 := (I.1.at hr hi).prim (j := 0) (beq_t ht) (by decide)
          exact W.iald (v := .int (mIv (mG S r) i j.toNatClampNeg)) hx hb g1 ((hK.2 0 _ (mtys_at dA (by decide))).1 _ _) (fun q => by cases q) (by rw [arrV_size]; exact mIn_vp hin) (arrV_read _ _ (mIn_cl hin)) rfl rfl hd (kk ad H locs rls mExt.rf (I.pop.pop.psh trivial))
        · cases h
    · cases h
  case baload =>
    dsimp only [mstp] at h
    split at h
    · rename_i j r i st
      obtain ⟨hr, hi⟩ := I.pop.top
      dsimp only at hr hi
      cases ht : Nat.beq (mTg (mG S r) i) 51 || Nat.beq (mTg (mG S r) i) 53 with
      | false => rw [ht] at h; cases h
      | true =>
        rw [ht] at h
        dsimp only [cond] at h
        split at h
        · rename_i hin
          cases h
          rcases Bool.or_eq_true_iff.mp ht with ht | ht
          · have g1 := (I.1.at hr hi).prim (j := 1) (beq_t ht) (by decide)
            exact W.bald (v := .int (mIv (mG S r) i j.toNatClampNeg)) hx hb g1 ((hK.2 1 _ (mtys_at dA (by decide))).1 _ _) (fun q => by cases q) (by rw [arrV_size]; exact mIn_vp hin) (arrV_read _ _ (mIn_cl hin)) rfl rfl hd (kk ad H locs rls mExt.rf (I.pop.pop.psh trivial))
          · have g1 := (I.1.at hr hi).prim (j := 3) (beq_t ht) (by decide)
            exact W.zald (v := .int (mIv (mG S r) i j.toNatClampNeg)) hx hb g1 ((hK.2 3 _ (mtys_at dA (by decide))).1 _ _) (fun q => by cases q) (by rw [arrV_size]; exact mIn_vp hin) (arrV_read _ _ (mIn_cl hin)) rfl rfl hd (kk ad H locs rls mExt.rf (I.pop.pop.psh trivial))
        · cases h
    · cases h
  case saload =>
    dsimp only [mstp] at h
    split at h
    · rename_i j r i st
      obtain ⟨hr, hi⟩ := I.pop.top
      dsimp only at hr hi
      cases ht : Nat.beq (mTg (mG S r) i) 52 with
      | false => rw [ht] at h; cases h
      | true =>
        rw [ht] at h
        dsimp only [cond] at h
        split at h
        · rename_i hin
          cases h
          have g1 := (I.1.at hr hi).prim (j := 2) (beq_t ht) (by decide)
          exact W.sald (v := .int (mIv (mG S r) i j.toNatClampNeg)) hx hb g1 ((hK.2 2 _ (mtys_at dA (by decide))).1 _ _) (fun q => by cases q) (by rw [arrV_size]; exact mIn_vp hin) (arrV_read _ _ (mIn_cl hin)) rfl rfl hd (kk ad H locs rls mExt.rf (I.pop.pop.psh trivial))
        · cases h
    · cases h
  case iastore =>
    dsimp only [mstp] at h
    split at h
    · rename_i x j r i st
      obtain ⟨hr3, hi⟩ := I.pop.pop.top
      dsimp only at hr3 hi
      cases ht : Nat.beq (mTg (mG S r) i) 50 && Nat.blt r 2 with
      | false => rw [ht] at h; cases h
      | true =>
        rw [ht] at h
        dsimp only [cond] at h
        obtain ⟨ht1, ht2⟩ := Bool.and_eq_true_iff.mp ht
        have hr := blt_t ht2
        split at h
        · rename_i hin
          cases h
          have g1 := (I.1.at hr3 hi).prim (j := 0) (beq_t ht1) (by decide)
          refine W.iast hx hb g1 ((hK.2 0 _ (mtys_at dA (by decide))).1 _ _) (fun q => by cases q) (by rw [arrV_size]; exact mIn_vp hin) rfl rfl hd fun H1 e1 e2 e3 => ?_
          have I2 := I.pop.pop.pop.wr (k0 := j.toNatClampNeg) (R' := mSi (mG S r) i j.toNatClampNeg x) hr hi rfl mSi_o (mAt.store (j := 0) (by rw [e1]) (beq_t ht1) (by decide)) e2 e3 (fun k z q => I.1.2.2.2.1 r i k z hr3 hi q) (fun v q => I.pop.pop.pop.2.2.2.1 v q)
          exact mW_eq (by rw [(mU_cc S r _).1]) (by rw [(mU_cc S r _).2]) (kk ad H1 _ rls mExt.rf I2)
        · cases h
    · cases h
  case bastore =>
    dsimp only [mstp] at h
    split at h
    · rename_i x j r i st
      obtain ⟨hr3, hi⟩ := I.pop.pop.top
      dsimp only at hr3 hi
      cases ht2 : Nat.blt r 2 with
      | false => rw [ht2] at h; cases h
      | true =>
        rw [ht2] at h
        dsimp only [cond] at h
        have hr := blt_t ht2
        cases ht1 : Nat.beq (mTg (mG S r) i) 51 with
        | true =>
          rw [ht1] at h
          dsimp only [cond] at h
          split at h
          · rename_i hin
            cases h
            have g1 := (I.1.at hr3 hi).prim (j := 1) (beq_t ht1) (by decide)
            refine W.bast hx hb g1 ((hK.2 1 _ (mtys_at dA (by decide))).1 _ _) (fun q => by cases q) (by rw [arrV_size]; exact mIn_vp hin) rfl rfl hd fun H1 e1 e2 e3 => ?_
            have I2 := I.pop.pop.pop.wr (k0 := j.toNatClampNeg) (R' := mSi (mG S r) i j.toNatClampNeg x.toInt8.toInt32) hr hi rfl mSi_o (mAt.store (j := 1) (by rw [e1]; rfl) (beq_t ht1) (by decide)) e2 e3 (fun k z q => I.1.2.2.2.1 r i k z hr3 hi q) (fun v q => I.pop.pop.pop.2.2.2.1 v q)
            exact mW_eq (by rw [(mU_cc S r _).1]) (by rw [(mU_cc S r _).2]) (kk ad H1 _ rls mExt.rf I2)
          · cases h
        | false =>
          rw [ht1] at h
          dsimp only [cond] at h
          cases ht4 : Nat.beq (mTg (mG S r) i) 53 with
          | false => rw [ht4] at h; cases h
          | true =>
            rw [ht4] at h
            dsimp only [cond] at h
            split at h
            · rename_i hin
              obtain ⟨hin, h01⟩ := hin
              cases h
              have g1 := (I.1.at hr3 hi).prim (j := 3) (beq_t ht4) (by decide)
              refine W.zast hx hb g1 ((hK.2 3 _ (mtys_at dA (by decide))).1 _ _) (fun q => by cases q) (by rw [arrV_size]; exact mIn_vp hin) rfl rfl hd fun H1 e1 e2 e3 => ?_
              have e9 : narrow .boolean (.int x) = .int x := by rcases h01 with e | e <;> subst e <;> decide +kernel
              have I2 := I.pop.pop.pop.wr (k0 := j.toNatClampNeg) (R' := mSi (mG S r) i j.toNatClampNeg x) hr hi rfl mSi_o (mAt.store (j := 3) (by rw [e1]; try rw [e9]) (beq_t ht4) (by decide)) e2 e3 (fun k z q => I.1.2.2.2.1 r i k z hr3 hi q) (fun v q => I.pop.pop.pop.2.2.2.1 v q)
              exact mW_eq (by rw [(mU_cc S r _).1]) (by rw [(mU_cc S r _).2]) (kk ad H1 _ rls mExt.rf I2)
            · cases h
    · cases h
  case newarray aty =>
    dsimp only [mstp] at h
    split at h
    · rename_i n st
      obtain ⟨hac, hty, ha4, hb2⟩ := hox
      dsimp only at hty ha4 hb2
      split at h
      · rename_i hn
        cases h
        have hn0 : ¬ n < 0 := by rw [Int32.lt_iff_toInt_lt]; show ¬ n.toInt < 0; omega
        have hN : n.toNatClampNeg ≤ 1000 := by show n.toInt.toNat ≤ 1000; omega
        have hcc : (mAl S b (50 + a) n.toNatClampNeg n.toNatClampNeg).2.2.2.1 = S.2.2.2.1 + 1 ∧ (mAl S b (50 + a) n.toNatClampNeg n.toNatClampNeg).2.2.2.2 = S.2.2.2.2 + n.toNatClampNeg := by
          match b, hb2 with
          | 0, _ => exact ⟨rfl, rfl⟩
          | 1, _ => exact ⟨rfl, rfl⟩
        have i1 := I.2.2.2.2.1
        have i2 := I.2.2.2.2.2
        rw [hcc.1] at hRc
        rw [hcc.2] at hRs
        refine va_newaK hx hb (hts _ hac) rfl hd rfl hn0 rfl (by have : componentBytes (newarray.typeOf aty) ≤ 8 := by cases aty <;> decide
                                                                 exact Nat.le_trans (Nat.mul_le_mul hN this) (by decide)) (by omega) (by omega) rfl fun H1 cA e1 z1 o1 hAr hNm => ?_
        have hcA : cA = dA a := by
          have h9 := (hK.2 a _ (mtys_at dA (by omega))).2
          rw [hty] at hNm
          have h8 : s.vm.findClass ("[" ++ (mta a).toString) = some (dA a) := by
            match a, ha4, h9 with
            | 0, _, h9 => exact h9
            | 1, _, h9 => exact h9
            | 2, _, h9 => exact h9
            | 3, _, h9 => exact h9
          exact Option.some.inj (hNm.symm.trans h8)
        have hc0 : H1[H.size]? = some (arrV (dA a) n.toNatClampNeg (fun _ => .int 0)) := by
          rw [e1, hcA]
          have : defaultValue (newarray.typeOf aty) = .int 0 := by
            rw [hty]
            match a, ha4 with
            | 0, _ => rfl
            | 1, _ => rfl
            | 2, _ => rfl
            | 3, _ => rfl
          rw [this]
        have I2 := I.pop.al (t := 50 + a) (n := n.toNatClampNeg) (sl := n.toNatClampNeg) hb2 (hA _ I.2.1.1) o1 (by omega) (fun ad' => Or.inr (Or.inl ⟨by rw [mTg_new hb2]; omega, by rw [mTg_new hb2]; omega, by
          rw [mTg_new hb2, show 50 + a - 50 = a by omega, hc0]
          unfold mArr
          rw [if_pos ha4, vp_cell_i, mLn_new hb2]
          congr 2
          funext q
          rw [mIv_new hb2]⟩))
        have hk := kk _ H1 locs rls I2.1 I2.2
        refine mW_eq ?_ ?_ ?_ (k' := (mAl S b (50 + a) n.toNatClampNeg n.toNatClampNeg).2.2.2.1 - c0) (n' := (mAl S b (50 + a) n.toNatClampNeg n.toNatClampNeg).2.2.2.2 - s0)
        · rw [hcc.1]; omega
        · rw [hcc.2]; omega
        · have e5 : (Value.ref H.size :: st.map (mcv ad)) = (mV_ref b (mG S b).1 :: st).map (mcv (mAd ad b (mG S b).1 H.size)) := by
            rw [List.map_cons, mcv_exts I2.1 I.pop.2.2.2.1]
            show _ = Value.ref (if b = b ∧ (mG S b).1 = (mG S b).1 then H.size else ad b (mG S b).1) :: _
            rw [if_pos ⟨rfl, rfl⟩]
          show W p l e R s m args below meth c H1 locs _ _ Q (F0 m (pc + 2) rls (Value.ref H.size :: st.map (mcv ad)))
          rw [e5]
          exact hk
      · cases h
    · cases h
  case getstatic idx =>
    obtain ⟨hl, hv⟩ := hox
    dsimp only at hl hv
    rcases hv with ⟨h1, h2⟩ | ⟨h1, h2, h3⟩
    · subst h1
      subst h2
      cases h
      exact va_gets (C := (msn 0).1) (n := (msn 0).2.1) (d := (msn 0).2.2) hx hb hZ.1 (hH0 ▸ I.2.1) hown (hts _ hl) (fun _ q => q) hd (kk ad H locs rls mExt.rf (I.psh trivial))
    · subst h3
      cases h
      have e1 := I.1.2.2.2.2.2.2 a h1 h2
      have hv : mSw dA a = mcv ad (.inr (.inr (mRv (mG S 2) 0 a))) := by
        rw [e1]
        unfold mSv mSw
        split
        · rfl
        · show Value.ref _ = Value.ref (ad 2 (30 + a))
          rw [I.1.2.2.2.2.2.1 (30 + a) (by have := I.1.2.2.2.2.1; omega), show 100 + (30 + a) = 130 + a by omega]
      have hz := hZ.2 a h1 h2
      rw [hv] at hz
      refine va_gets (C := (msn a).1) (n := (msn a).2.1) (d := (msn a).2.2) hx hb hz (hH0 ▸ I.2.1) hown (hts _ hl) (fun _ q => q) hd (kk ad H locs rls mExt.rf (I.psh (v := .inr (.inr (mRv (mG S 2) 0 a))) ?_))
      rw [e1]
      unfold mSv
      split
      · trivial
      · exact ⟨(show 2 < 3 by decide), by show 30 + a < (mG S 2).1; have := I.1.2.2.2.2.1; omega⟩
  case aaload =>
    dsimp only [mstp] at h
    split at h
    · rename_i j r i st
      obtain ⟨hr, hi⟩ := I.pop.top
      dsimp only at hr hi
      cases ht : Nat.blt 53 (mTg (mG S r) i) && Nat.blt (mTg (mG S r) i) 60 with
      | false => rw [ht] at h; cases h
      | true =>
        rw [ht] at h
        dsimp only [cond] at h
        split at h
        · rename_i hin
          cases h
          obtain ⟨ht1, ht2⟩ := Bool.and_eq_true_iff.mp ht
          have h1 := blt_t ht1
          have h2 := blt_t ht2
          have g1 := (I.1.at hr hi).arr rfl (by omega) h2
          have g2 : H[ad r i]? = some (arrV (dA (mTg (mG S r) i - 50)) (mLn (mG S r) i) (fun q => mcv ad (.inr (.inr (mRv (mG S r) i q))))) := by
            rw [g1]
            unfold mArr
            rw [if_neg (by omega), vp_cell_q]
            congr 2
            funext q
            cases mRv (mG S r) i q <;> rfl
          have hT := (hK.2 (mTg (mG S r) i - 50) _ (mtys_at dA (by omega))).1
          refine W.aald (v := mcv ad (.inr (.inr (mRv (mG S r) i j.toNatClampNeg)))) hx hb g2 (hT _ _) (mta_ref (by omega)) (fun q => by cases q) (by rw [arrV_size]; exact mIn_vp hin) (arrV_read _ _ (mIn_cl hin)) rfl rfl hd (kk ad H locs rls mExt.rf (I.pop.pop.psh (v := .inr (.inr (mRv (mG S r) i j.toNatClampNeg))) ?_))
          cases hq : mRv (mG S r) i j.toNatClampNeg with
          | none => trivial
          | some x => exact I.1.2.2.2.1 r i _ x hr hi hq
        · cases h
    · cases h
  case aastore =>
    dsimp only [mstp] at h
    split at h
    · rename_i r1 i1 j r i st
      obtain ⟨hr3, hi⟩ := I.pop.pop.top
      obtain ⟨hr1, hi1⟩ := I.top
      dsimp only at hr3 hi hr1 hi1
      cases ht : mFi (mTg (mG S r) i) (mTg (mG S r1) i1) && Nat.blt r 2 with
      | false => rw [ht] at h; cases h
      | true =>
        rw [ht] at h
        dsimp only [cond] at h
        obtain ⟨ht1, ht2⟩ := Bool.and_eq_true_iff.mp ht
        have hr := blt_t ht2
        split at h
        · rename_i hin
          cases h
          obtain ⟨g53, g60, gu, k, comp, ty, k1, k2, k3, ⟨kc, k4⟩, k5⟩ := mFi_ok hM ht1
          have g1 := (I.1.at hr3 hi).arr rfl (by omega) g60
          have g2 : H[ad r i]? = some (arrV (dA (mTg (mG S r) i - 50)) (mLn (mG S r) i) (fun q => mcv ad (.inr (.inr (mRv (mG S r) i q))))) := by
            rw [g1]
            unfold mArr
            rw [if_neg (by omega), vp_cell_q]
            congr 2
            funext q
            cases mRv (mG S r) i q <;> rfl
          obtain ⟨cv, c1, c2, c3⟩ := (I.1.at hr1 hi1).cls hM gu
          obtain ⟨kv, hkv⟩ := fc_some c3
          have hlt := mIn_cl hin
          refine W.aast hx hb g2 (fun q z => by cases z) (fun z => by cases z) k1 k2 k3 k4 ⟨by rw [Int32.lt_iff_toInt_lt]; show ¬ j.toInt < 0; have := hin.1; omega, by rw [arrV_size]; exact hlt⟩ c1 (fun q z => by rw [c2] at z; cases z) hkv (k5 _ c3) rfl rfl hd fun H1 e1 e2 e3 => ?_
          have I2 := I.pop.pop.pop.wr (k0 := j.toNatClampNeg) (R' := mSr (mG S r) i j.toNatClampNeg (some (r1, i1))) hr hi rfl mSr_o (Or.inr (Or.inl ⟨by show 50 ≤ mTg (mG S r) i; omega, g60, ?_⟩)) e2 e3 (fun k z q => ?_) (fun v q => I.pop.pop.pop.2.2.2.1 v q)
          · exact mW_eq (by rw [(mU_cc S r _).1]) (by rw [(mU_cc S r _).2]) (kk ad H1 _ rls mExt.rf I2)
          · show H1[ad r i]? = some (vp_cell (dA (mTg (mG S r) i - 50)) (mArr ad (mSr (mG S r) i j.toNatClampNeg (some (r1, i1))) i (mTg (mG S r) i - 50)))
            rw [e1, arrV_store]
            unfold mArr
            rw [if_neg (by omega), vp_cell_q]
            congr 2
            funext q
            rw [mRv_mSr]
            unfold updV
            by_cases e : q = j.toNatClampNeg
            · rw [if_pos e, if_pos e]; rfl
            · rw [if_neg e, if_neg e]
              have e9 : ∀ o : Option (Nat × Nat), mcv ad (.inr (.inr o)) = va_rf (o.map (fun p => ad p.1 p.2)) := by intro o; cases o <;> rfl
              exact e9 _
          · rw [mRv_mSr] at q
            by_cases e : k = j.toNatClampNeg
            · rw [if_pos e] at q
              cases q
              exact ⟨hr1, hi1⟩
            · rw [if_neg e] at q
              exact I.1.2.2.2.1 r i k z hr3 hi q
        · cases h
    · cases h
  case anewarray idx =>
    dsimp only [mstp] at h
    split at h
    · rename_i n st
      obtain ⟨ha4, ha10, hb2, hcl⟩ := hox
      dsimp only at ha4 ha10 hb2 hcl
      split at h
      · rename_i hn
        cases h
        have hn0 : ¬ n < 0 := by rw [Int32.lt_iff_toInt_lt]; show ¬ n.toInt < 0; omega
        have hN : n.toNatClampNeg ≤ 1000 := by show n.toInt.toNat ≤ 1000; omega
        have hcc : (mAl S b (50 + a) n.toNatClampNeg n.toNatClampNeg).2.2.2.1 = S.2.2.2.1 + 1 ∧ (mAl S b (50 + a) n.toNatClampNeg n.toNatClampNeg).2.2.2.2 = S.2.2.2.2 + n.toNatClampNeg := by
          match b, hb2 with
          | 0, _ => exact ⟨rfl, rfl⟩
          | 1, _ => exact ⟨rfl, rfl⟩
        have i1 := I.2.2.2.2.1
        have i2 := I.2.2.2.2.2
        rw [hcc.1] at hRc
        rw [hcc.2] at hRs
        have hover := hM.2.2.2.2.2.1 (mta a) (mta_over ha4 ha10)
        have go : ∀ (cA : ClassId), s.vm.findClass ("[" ++ (mta a).toString) = some cA → W p l e R s m args below meth c (H.push { cls := cA, slots := Array.replicate n.toNatClampNeg .null, vm := .none }) locs (S.2.2.2.1 - c0 + 1) (S.2.2.2.2 - s0 + n.toNatClampNeg) Q (F0 m (pc + 3) rls (Value.ref H.size :: st.map (mcv ad))) := by
          intro cA hNm
          have hcA : cA = dA a := Option.some.inj (hNm.symm.trans (mta_RA ha4 ha10 ((hK.2 a _ (mtys_at dA ha10)).2)))
          subst hcA
          have o1 : ∀ q, q < H.size → (H.push { cls := dA a, slots := Array.replicate n.toNatClampNeg .null, vm := .none })[q]? = H[q]? := fun q hq => by rw [Array.getElem?_push, if_neg (Nat.ne_of_lt hq)]
          have e0 : (H.push { cls := dA a, slots := Array.replicate n.toNatClampNeg .null, vm := .none })[H.size]? = some (arrV (dA a) n.toNatClampNeg (fun _ => .null)) := by rw [← arrV_new]; simp
          have I2 := I.pop.al (t := 50 + a) (n := n.toNatClampNeg) (sl := n.toNatClampNeg) hb2 (hA _ I.2.1.1) o1 (by simp) (fun ad' => Or.inr (Or.inl ⟨by rw [mTg_new hb2]; omega, by rw [mTg_new hb2]; omega, by
            rw [mTg_new hb2, show 50 + a - 50 = a by omega, e0]
            unfold mArr
            rw [if_neg (by omega), vp_cell_q, mLn_new hb2]
            congr 2
            funext q
            rw [mRv_new hb2]
            rfl⟩))
          have hk := kk _ _ locs rls I2.1 I2.2
          refine mW_eq ?_ ?_ ?_ (k' := (mAl S b (50 + a) n.toNatClampNeg n.toNatClampNeg).2.2.2.1 - c0) (n' := (mAl S b (50 + a) n.toNatClampNeg n.toNatClampNeg).2.2.2.2 - s0)
          · rw [hcc.1]; omega
          · rw [hcc.2]; omega
          · have e5 : (Value.ref H.size :: st.map (mcv ad)) = (mV_ref b (mG S b).1 :: st).map (mcv (mAd ad b (mG S b).1 H.size)) := by
              rw [List.map_cons, mcv_exts I2.1 I.pop.2.2.2.1]
              show _ = Value.ref (if b = b ∧ (mG S b).1 = (mG S b).1 then H.size else ad b (mG S b).1) :: _
              rw [if_pos ⟨rfl, rfl⟩]
            rw [e5]
            exact hk
        rcases hcl with ⟨C, hC, hcl⟩ | ⟨t, hC, hcl⟩
        · rw [hC] at hover go
          exact W.anew hx hb hown (hts _ hcl) hover rfl hd rfl hn0 (by omega) (by omega) (by omega) (fun cA kA comp q1 q2 q3 q4 => go cA q1)
        · rw [hC] at hover go
          exact W.anewA hx hb hown (hts _ hcl) hover rfl hd rfl hn0 (by omega) (by omega) (by omega) (fun cA kA comp q1 q2 q3 q4 => go cA q1)
      · cases h
    · cases h
  case new idx =>
    dsimp only [mstp] at h
    cases ha50 : Nat.blt a 50 with
    | false => rw [ha50] at h; cases h
    | true =>
      rw [ha50] at h
      cases h
      have ha := blt_t ha50
      rcases hox with ⟨h1, -⟩ | ⟨q, hq, hcl, hins, hini, hb2⟩
      · dsimp only at h1
        omega
      · dsimp only at hq hb2
        have hNf : mNf a = q.2.2 := by unfold mNf; rw [hq]
        have hcc : (mAl S b a 0 (mNf a)).2.2.2.1 = S.2.2.2.1 + 1 ∧ (mAl S b a 0 (mNf a)).2.2.2.2 = S.2.2.2.2 + mNf a := by
          match b, hb2 with
          | 0, _ => exact ⟨rfl, rfl⟩
          | 1, _ => exact ⟨rfl, rfl⟩
        have i1 := I.2.2.2.2.1
        have i2 := I.2.2.2.2.2
        rw [hcc.1] at hRc
        rw [hcc.2, hNf] at hRs
        have hKn := hK.1 a q hq
        refine W.newcK hx hb hown (hts _ hcl) (hts _ hins) (hts _ hini) rfl hd (by omega) (by omega) hKn.2.1 rfl fun H1 kC hkC e1 z1 o1 => ?_
        have I2 := I.al (t := a) (n := 0) (sl := mNf a) hb2 (hA _ I.2.1.1) o1 (by omega) (fun ad' => Or.inl ⟨by rw [mTg_new hb2]; exact ha, q, by rw [mTg_new hb2]; exact hq, by
          rw [mTg_new hb2]
          refine (u_born (mty a) hts (mcl_in a q hq) hKn hkC e1 (mcl_ty a q hq)).to (fun k hk => ?_)
          unfold mFv
          rw [mIv_new hb2, mLv_new hb2, mRv_new hb2]
          exact mdef_ok (mKd_7 a (mcl_N a q hq).1 k (Nat.lt_trans hk (mcl_N a q hq).2))⟩)
        have hk := kk _ _ locs rls I2.1 I2.2
        refine mW_eq ?_ ?_ ?_ (k' := (mAl S b a 0 (mNf a)).2.2.2.1 - c0) (n' := (mAl S b a 0 (mNf a)).2.2.2.2 - s0)
        · rw [hcc.1]; omega
        · rw [hcc.2, hNf]; omega
        · have e5 : (Value.ref H.size :: st.map (mcv ad)) = (mV_ref b (mG S b).1 :: st).map (mcv (mAd ad b (mG S b).1 H.size)) := by
            rw [List.map_cons, mcv_exts I2.1 I.2.2.2.1]
            show _ = Value.ref (if b = b ∧ (mG S b).1 = (mG S b).1 then H.size else ad b (mG S b).1) :: _
            rw [if_pos ⟨rfl, rfl⟩]
          show W p l e R s m args below meth c H1 locs _ _ Q (F0 m (pc + 3) rls (Value.ref H.size :: st.map (mcv ad)))
          rw [e5]
          exact hk
  case checkcast idx =>
    dsimp only [mstp] at h
    have hnm : Cond.classLink y.cls idx (mcn a) ∈ lw_all ∧ a < 60 := by
      rcases hox with ⟨o1, o2, o3⟩ | ⟨q, o1, o2⟩
      · dsimp only at o1 o2 o3
        have hn : mcl[a]? = none := List.getElem?_eq_none (by show 16 ≤ a; omega)
        unfold mcn
        rw [hn]
        exact ⟨o3, by omega⟩
      · dsimp only at o1
        have := (mcl_N a q o1).1
        unfold mcn
        rw [o1]
        exact ⟨o2, by omega⟩
    split at h
    · cases h
      intro T hT X2
      obtain ⟨t, a1, b1⟩ := kk ad H locs rls mExt.rf I T hT X2
      exact ⟨t, X2.checkcastNull hx (g := F0 m pc rls _) rfl rfl (by rw [hb]; exact hd) t a1, b1⟩
    · rename_i r i st
      obtain ⟨hr, hi⟩ := I.top
      dsimp only at hr hi
      cases ht : mIs (mTg (mG S r) i) a with
      | false => rw [ht] at h; cases h
      | true =>
        rw [ht] at h
        cases h
        have ht60 : mTg (mG S r) i < 60 := by
          by_cases h50 : a < 50
          · have := mIs_lt ht h50; omega
          · unfold mIs at ht
            rcases Bool.or_eq_true_iff.mp ht with q | q
            · rcases Bool.or_eq_true_iff.mp q with q | q
              · rcases Bool.or_eq_true_iff.mp q with q | q
                · have := Nat.eq_of_beq_eq_true q; omega
                · have := Nat.eq_of_beq_eq_true (Bool.and_eq_true_iff.mp q).1; omega
              · have := Nat.eq_of_beq_eq_true (Bool.and_eq_true_iff.mp q).1; omega
            · have := Nat.eq_of_beq_eq_true (Bool.and_eq_true_iff.mp q).1; omega
        obtain ⟨cell, c1, c2, c3⟩ := (I.1.at hr hi).cls hM ht60
        obtain ⟨c', g1, g2⟩ := mIs_as hM ht c3
        intro T hT X2
        obtain ⟨vm', X', st2⟩ := X2.checkcastYes hx hown (hts _ hnm.1) (by rw [hT]; exact c1) (by rw [c2]; rfl) g1 g2 (g := F0 m pc rls _) rfl rfl (by rw [hb]; exact hd)
        obtain ⟨t, a1, b1⟩ := kk ad H locs rls mExt.rf I (T.setVm vm') hT X'
        exact ⟨t, st2 t a1, b1⟩
    · cases h
  case instanceof idx =>
    dsimp only [mstp] at h
    obtain ⟨o1, o2, o3⟩ := hox
    dsimp only at o1 o2 o3
    split at h
    · cases h
      intro T hT X2
      obtain ⟨t, a1, b1⟩ := kk ad H locs rls mExt.rf (I.pop.psh trivial) T hT X2
      exact ⟨t, X2.instanceofNull hx (g := F0 m pc rls _) rfl rfl (by rw [hb]; exact hd) t a1, b1⟩
    · rename_i r i st
      obtain ⟨hr, hi⟩ := I.top
      dsimp only at hr hi
      cases ht : Nat.beq (mTg (mG S r) i) a with
      | true =>
        rw [ht] at h
        cases h
        have e := beq_t ht
        obtain ⟨cell, c1, c2, c3⟩ := (I.1.at hr hi).cls hM (by omega)
        have hn : mcl[a]? = none := List.getElem?_eq_none (by show 16 ≤ a; omega)
        rw [e] at c3
        unfold mcn at c3
        rw [hn] at c3
        exact va_instE hx hb hown (hts _ o3) ⟨cell, c1, by rw [c2]; rfl, c3⟩ hd (kk ad H locs rls mExt.rf (I.pop.psh trivial))
      | false =>
        rw [ht] at h
        dsimp only [cond] at h
        cases ht2 : Nat.blt 49 (mTg (mG S r) i) && Nat.blt (mTg (mG S r) i) 54 with
        | false => rw [ht2] at h; cases h
        | true =>
          rw [ht2] at h
          cases h
          obtain ⟨p1, p2⟩ := Bool.and_eq_true_iff.mp ht2
          have p1 := blt_t p1
          have p2 := blt_t p2
          have hne : mTg (mG S r) i ≠ a := fun q => by rw [q] at ht; rw [Nat.beq_refl] at ht; cases ht
          obtain ⟨cell, c1, c2, c3⟩ := (I.1.at hr hi).cls hM (by omega)
          have hn : mcl[mTg (mG S r) i]? = none := List.getElem?_eq_none (by show 16 ≤ mTg (mG S r) i; omega)
          unfold mcn at c3
          rw [hn] at c3
          exact va_instNo hx hb hown (hts _ o3) (hM.2.2.2.2.2.2.2.1 (mTg (mG S r) i - 50) (a - 50) (by omega) (by omega) (by omega)) ⟨cell, c1, by rw [c2]; rfl, c3⟩ hd (kk ad H locs rls mExt.rf (I.pop.psh trivial))
    · cases h
  case invokestatic idx =>
    dsimp only [mstp] at h
    have hsz : c.maxLocals = rls.size := hml.trans I.2.2.1.2.1.symm
    have hm : 990 < a → a < 995 → mMth y.cls idx a := by
      intro q1 q2
      rcases hox with ⟨o1, -⟩ | o | ⟨o1, -⟩
      · dsimp only at o1; omega
      · exact o
      · dsimp only at o1; omega
    cases h1 : Nat.beq a 991 with
    | true =>
      rw [h1] at h
      have e := beq_t h1
      subst e
      obtain ⟨-, o1, o2, -⟩ := hm (by decide) (by decide)
      obtain ⟨o2, o3, o4⟩ := o2 rfl
      dsimp only [cond] at h
      split at h
      · rename_i y1 x1 st
        cases h8 : Nat.ble (mCat st) 8 with
        | false => rw [h8] at h; cases h
        | true =>
          rw [h8] at h
          cases h
          have hc8 := mCat_le (ad := ad) (Nat.le_of_ble_eq_true h8)
          exact va_mmin hx hb hsz hown (hts _ o2) (hts _ o3) (hts _ o1) (hts _ o4) hRf (by omega) hRc hRs hd (kk ad H locs rls mExt.rf (I.pop.pop.psh trivial))
      · cases h
    | false =>
      rw [h1] at h
      dsimp only [cond] at h
      cases h2 : Nat.beq a 992 with
      | true =>
        rw [h2] at h
        have e := beq_t h2
        subst e
        obtain ⟨-, o1, -, o2, -⟩ := hm (by decide) (by decide)
        obtain ⟨o2, o3, o4⟩ := o2 rfl
        dsimp only [cond] at h
        split at h
        · rename_i y1 x1 st
          cases h8 : Nat.ble (mCat st) 8 with
          | false => rw [h8] at h; cases h
          | true =>
            rw [h8] at h
            cases h
            have hc8 := mCat_le (ad := ad) (Nat.le_of_ble_eq_true h8)
            exact va_mmax hx hb hsz hown (hts _ o2) (hts _ o3) (hts _ o1) (hts _ o4) hRf (by omega) hRc hRs hd (kk ad H locs rls mExt.rf (I.pop.pop.psh trivial))
        · cases h
      | false =>
        rw [h2] at h
        dsimp only [cond] at h
        cases h3 : Nat.beq a 993 with
        | true =>
          rw [h3] at h
          have e := beq_t h3
          subst e
          obtain ⟨-, o1, -, -, o2, -⟩ := hm (by decide) (by decide)
          obtain ⟨o2, o3, o4⟩ := o2 rfl
          dsimp only [cond] at h
          split at h
          · rename_i x1 st
            cases h8 : Nat.ble (mCat st) 8 with
            | false => rw [h8] at h; cases h
            | true =>
              rw [h8] at h
              cases h
              have hc8 := mCat_le (ad := ad) (Nat.le_of_ble_eq_true h8)
              exact va_mabs_long hx hb hsz hown (hts _ o2) (hts _ o3) (hts _ o1) (hts _ o4) hRf (by omega) hRc hRs hd (kk ad H locs rls mExt.rf (I.pop.psh trivial))
          · cases h
        | false =>
          rw [h3] at h
          dsimp only [cond] at h
          cases h4 : Nat.beq a 994 with
          | true =>
            rw [h4] at h
            have e := beq_t h4
            subst e
            obtain ⟨-, o1, -, -, -, o2⟩ := hm (by decide) (by decide)
            obtain ⟨o2, o3, o4⟩ := o2 rfl
            dsimp only [cond] at h
            split at h
            · rename_i y1 x1 st
              cases h8 : Nat.ble (mCat st) 8 with
              | false => rw [h8] at h; cases h
              | true =>
                rw [h8] at h
                cases h
                have hc8 := mCat_le (ad := ad) (Nat.le_of_ble_eq_true h8)
                exact va_mmax_long hx hb hsz hown (hts _ o2) (hts _ o3) (hts _ o1) (hts _ o4) hRf (by omega) hRc hRs hd (kk ad H locs rls mExt.rf (I.pop.pop.psh trivial))
            · cases h
          | false =>
            rw [h4] at h
            dsimp only [cond] at h
            cases h5 : Nat.beq a 998 with
            | false => rw [h5] at h; cases h
            | true =>
              have e := beq_t h5
              subst e
              rw [h5] at h
              dsimp only [cond] at h
              obtain ⟨o1, o2, o3, o4⟩ : Cond.methodLink y.cls idx arraycopyName ∈ lw_all ∧ Cond.native arraycopyName ∈ lw_all ∧ Cond.static arraycopyName ∈ lw_all ∧ Cond.initialized "java/lang/System" ∈ lw_all := by
                rcases hox with ⟨o1, -⟩ | o | ⟨-, o1⟩
                · dsimp only at o1; omega
                · exact absurd o.1.2 (Nat.lt_irrefl _)
                · exact o1
              split at h
              · rename_i n dp r1 i1 sp r i st
                cases h8 : Nat.beq (mTg (mG S r) i) (mTg (mG S r1) i1) && (Nat.blt 49 (mTg (mG S r) i) && (Nat.blt (mTg (mG S r) i) 54 && (Nat.blt r1 2 && Nat.ble (mCat st) 8))) with
                | false => rw [h8] at h; cases h
                | true =>
                  rw [h8] at h
                  dsimp only [cond] at h
                  obtain ⟨o1', o2'⟩ := Bool.and_eq_true_iff.mp h8
                  obtain ⟨o3', o4'⟩ := Bool.and_eq_true_iff.mp o2'
                  obtain ⟨o5', o6'⟩ := Bool.and_eq_true_iff.mp o4'
                  obtain ⟨o7', p5⟩ := Bool.and_eq_true_iff.mp o6'
                  have p1 := beq_t o1'
                  have p2 := blt_t o3'
                  have p3 := blt_t o5'
                  have p4 := blt_t o7'
                  have hc8 := mCat_le (ad := ad) (Nat.le_of_ble_eq_true p5)
                  split at h
                  · rename_i hin
                    cases h
                    obtain ⟨q1, q2, q3, q4, q5, q6⟩ := hin
                    obtain ⟨hr, hi⟩ := I.pop.pop.pop.pop.top
                    obtain ⟨hr1, hi1⟩ := I.pop.pop.top
                    dsimp only at hr hi hr1 hi1
                    have n3 : ∀ z : Int32, 0 ≤ z.toInt → ¬ z < 0 := fun z hz => by rw [Int32.lt_iff_toInt_lt]; show ¬ z.toInt < 0; omega
                    have n4 : ∀ z : Int32, 0 ≤ z.toInt → z.toInt = (z.toNatClampNeg : Int) := fun z hz => by show z.toInt = ((z.toInt.toNat : Nat) : Int); omega
                    have w1 := n4 _ q1
                    have w2 := n4 _ q2
                    have w3 := n4 _ q3
                    have g0 := (I.1.at hr hi).prim (j := mTg (mG S r) i - 50) (by omega) (by omega)
                    have g1 := (I.1.at hr1 hi1).prim (j := mTg (mG S r) i - 50) (by omega) (by omega)
                    refine macp_ok hX hM (hts _ o1) (hts _ o2) (hts _ o3) (hts _ o4) (by omega) g0 g1 hsz (n3 _ q1) (n3 _ q2) (n3 _ q3) (by omega) (by omega) q6 hRf (by omega) hd I.2.1 (I.1.2.2.1 r1 i1 p4 hi1) (fun H1 locs1 e1 e2 e3 e4 => ?_)
                    have hg := mGr.mU (S := S) (r := r1) (R := mSa (mG S r1) i1 (va_cpy (mIv (mG S r) i) (mIv (mG S r1) i1) sp.toNatClampNeg dp.toNatClampNeg n.toNatClampNeg)) p4 rfl
                    have I5 := I.pop.pop.pop.pop.pop
                    have hrel := I5.1.set (R' := mSa (mG S r1) i1 (va_cpy (mIv (mG S r) i) (mIv (mG S r1) i1) sp.toNatClampNeg dp.toNatClampNeg n.toNatClampNeg)) p4 hi1 rfl mSa_o (Or.inr (Or.inl ⟨by show 50 ≤ mTg (mG S r1) i1; omega, by show mTg (mG S r1) i1 < 60; omega, by
                      show H1[ad r1 i1]? = some (vp_cell (dA (mTg (mG S r1) i1 - 50)) (mArr ad (mSa (mG S r1) i1 _) i1 (mTg (mG S r1) i1 - 50)))
                      rw [e1, ← p1]
                      unfold mArr
                      rw [if_pos (by omega), vp_cell_i]
                      congr 2
                      funext k
                      rw [show mIv (mSa (mG S r1) i1 (va_cpy (mIv (mG S r) i) (mIv (mG S r1) i1) sp.toNatClampNeg dp.toNatClampNeg n.toNatClampNeg)) i1 k = (if i1 = i1 then va_cpy (mIv (mG S r) i) (mIv (mG S r1) i1) sp.toNatClampNeg dp.toNatClampNeg n.toNatClampNeg else mIv (mG S r1) i1) k from rfl, if_pos rfl]⟩)) e3 (fun k z q => I5.1.2.2.2.1 r1 i1 k z hr1 hi1 q)
                    refine mW_eq (by rw [(mU_cc S r1 _).1]) (by rw [(mU_cc S r1 _).2]) (kk ad H1 locs1 rls mExt.rf ⟨hrel, e4, I5.2.2.1.mv mExt.rf hg, fun v q => (I5.2.2.2.1 v q).gr hg, ?_⟩)
                    rw [(mU_cc S r1 _).1, (mU_cc S r1 _).2]
                    exact I5.2.2.2.2
                  · cases h
              · cases h
  case invokespecial idx =>
    dsimp only [mstp] at h
    split at h
    · rename_i x st
      cases ht : Nat.beq a 999 && Nat.ble (mCat st) 8 with
      | false => rw [ht] at h; cases h
      | true =>
        rw [ht] at h
        cases h
        obtain ⟨ht1, ht2⟩ := Bool.and_eq_true_iff.mp ht
        have hox : a = 999 → Cond.methodLink y.cls idx Lib.objectInit ∈ lw_all ∧ Cond.instanceMethod Lib.objectInit ∈ lw_all ∧ Cond.code Lib.objectInit ⟨#[0xb1]⟩ 1 none ∈ lw_all := by
          intro h9
          unfold mOKx at hox
          dsimp only at hox
          split at hox
          · exact hox.2
          · omega
          · omega
          · omega
        obtain ⟨h1, h2, h3⟩ := hox (beq_t ht1)
        have hc8 := mCat_le (ad := ad) (Nat.le_of_ble_eq_true ht2)
        exact W.objInit hx hb hown (hts _ h1) (hts _ h2) (hts _ h3) rfl (by rw [hml]; exact I.2.2.1.2.1) rfl hd hRf (Nat.le_trans (Nat.add_le_add_right (lv_room (m := m) (pc := pc) hc8) 12) (by omega)) (kk ad H locs rls mExt.rf I.pop)
    · cases h
  all_goals exact absurd h (by simp [mstp])
end
