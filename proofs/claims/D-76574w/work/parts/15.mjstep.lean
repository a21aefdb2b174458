/-! THE SMALL MACHINE, 5: one step of it is a step of the machine -/
set_option maxRecDepth 100000
set_option linter.unusedVariables false
abbrev mV_ref (r i : Nat) : mV := .inr (.inr (some (r, i)))
def mCx (p : Program) (s : State) (m : MethodId) (meth : Method) (c : Code) (args : Array Value) (y : MethodName) (cc : ByteArray) (ml : Nat) : Prop :=
  p.tables.exec = Jvm.exec ∧ c.code = cc ∧ c.maxLocals = ml ∧ s.vm.findClass y.cls = some m.cls ∧ (∀ w ∈ lw_all, w.before args s = true) ∧ meth.name = y.name
/-- a tag's class's name -/
def mcn (t : Nat) : String := match mcl[t]? with
  | some q => q.1
  | none => "[" ++ (mta (t - 50)).toString
theorem mRight_al {s U : State} (h : s.vm.Alike U.vm) (hm : modulesRight_1 s = true) : modulesRight_1 U = true := by
  unfold modulesRight_1 at hm ⊢
  rw [h.1]
  exact hm
/-- what the tables say all through a run, beside the lists -/
def mX (D : va_G) (dA : Nat → ClassId) (U : State) : Prop := va_K D mcl (mtys dA) U ∧
  (∀ q ∈ mxM, va_Nw (.methodLinkNest q.1 q.2.1 q.2.2.1 q.2.2.2) U) ∧
  (∀ q ∈ mxF, va_Nw (.fieldLinkNest q.1 q.2.1 q.2.2.1 q.2.2.2.1 q.2.2.2.2.1 q.2.2.2.2.2) U) ∧
  (∀ q ∈ mxC, va_Nw (.castable q.1 q.2) U) ∧ va_Nw (.declares (mxs 5)) U ∧
  (∀ t ∈ mxA, (Cond.arrayOver t).before #[] U = true) ∧
  (∀ i j, i < 5 → j < 5 → i ≠ j → va_Nc (mxn i) (mxn j) U) ∧
  (∀ i j, i < 4 → j < 4 → i ≠ j → va_Nc ("[" ++ (mta i).toString) ("[" ++ (mta j).toString) U) ∧
  (∀ (j idx : Nat) (tx : String), mtx0[j]? = some (idx, tx) → vk_R RX0 idx tx (dA (102 + j)) U) ∧
  (∀ i j, 4 ≤ i → i < 10 → 5 ≤ j → j < 10 → mIs i j = false → va_Nc (mcn i) (mcn j) U) ∧ modulesRight_1 U = true ∧ (∀ q ∈ mwc, va_Nw (.castable q.1 q.2) U) ∧ (∀ q ∈ mwd, va_Nw (.declares q) U)
theorem mX.warm {D : va_G} {dA : Nat → ClassId} {s U : State} (hW : s.WarmedH U.vm) (h : mX D dA s) : mX D dA U := by
  obtain ⟨h1, h2, h3, h4, h5, h6, h7, h8, h9, h10, h11, h12, h13⟩ := h
  refine ⟨va_K.moved hW.alike h1, fun q hq => va_Nw.warmM hW (h2 q hq), fun q hq => va_Nw.warmF hW (h3 q hq), fun q hq => va_Nw.warmC hW (h4 q hq), va_Nw.warmD hW h5, fun t ht => ?_, fun i j a b c => (h7 i j a b c).moved hW.alike, fun i j a b c => (h8 i j a b c).moved hW.alike, fun j idx tx q => (h9 j idx tx q).warm hW, fun i j a b c d e => (h10 i j a b c d e).moved hW.alike, mRight_al hW.alike h11, fun q hq => va_Nw.warmC hW (h12 q hq), fun q hq => va_Nw.warmD hW (h13 q hq)⟩
  have e : (Cond.arrayOver t).before #[] (s.setVm U.vm) = true := by rw [Cond.arrayOver_setVmC hW.alike]; exact h6 t ht
  exact e
theorem mX.same {D : va_G} {dA : Nat → ClassId} {s U : State} (hv : U.vm = s.vm) (h : mX D dA s) : mX D dA U := by
  obtain ⟨h1, h2, h3, h4, h5, h6, h7, h8, h9, h10, h11, h12, h13⟩ := h
  have ha : s.vm.Alike U.vm := by rw [hv]; exact Vm.Alike.refl _
  refine ⟨va_K.moved ha h1, fun q hq => va_Nw.same rfl hv.symm (h2 q hq), fun q hq => va_Nw.same rfl hv.symm (h3 q hq), fun q hq => va_Nw.same rfl hv.symm (h4 q hq), va_Nw.same rfl hv.symm h5, fun t ht => ?_, fun i j a b c => (h7 i j a b c).moved ha, fun i j a b c => (h8 i j a b c).moved ha, fun j idx tx q => (h9 j idx tx q).same hv, fun i j a b c d e => (h10 i j a b c d e).moved ha, mRight_al ha h11, fun q hq => va_Nw.same rfl hv.symm (h12 q hq), fun q hq => va_Nw.same rfl hv.symm (h13 q hq)⟩
  have e : (Cond.arrayOver t).before #[] (s.setVm U.vm) = true := by rw [hv]; exact h6 t ht
  exact e
def mInv (D : va_G) (dA : Nat → ClassId) (A : Nat → Prop) (ad : Nat → Nat → Nat) (S : mS) (H : Heap) (L : List (Option mV)) (rls : Array Slot) (st : List mV) (ml : Nat) (H0 : Heap) (locs : List Loc) (c0 s0 : Nat) : Prop :=
  mRel D dA A ad S H ∧ va_S A H0 H locs ∧ mLoc ad S L rls ml ∧ (∀ v ∈ st, mVok S v) ∧ c0 ≤ S.2.2.2.1 ∧ s0 ≤ S.2.2.2.2
section
variable {D : va_G} {dA : Nat → ClassId} {A : Nat → Prop} {ad : Nat → Nat → Nat} {S : mS} {H : Heap} {L : List (Option mV)} {rls : Array Slot} {st : List mV} {ml : Nat} {H0 : Heap} {locs : List Loc} {c0 s0 : Nat}
theorem mInv.pop {v : mV} (h : mInv D dA A ad S H L rls (v :: st) ml H0 locs c0 s0) : mInv D dA A ad S H L rls st ml H0 locs c0 s0 := ⟨h.1, h.2.1, h.2.2.1, fun w q => h.2.2.2.1 w (List.mem_cons_of_mem _ q), h.2.2.2.2⟩
theorem mInv.psh {v : mV} (h : mInv D dA A ad S H L rls st ml H0 locs c0 s0) (hv : mVok S v) : mInv D dA A ad S H L rls (v :: st) ml H0 locs c0 s0 := ⟨h.1, h.2.1, h.2.2.1, fun w q => by
  rcases List.mem_cons.mp q with e | e
  · rw [e]; exact hv
  · exact h.2.2.2.1 w e, h.2.2.2.2⟩
theorem mInv.top {v : mV} (h : mInv D dA A ad S H L rls (v :: st) ml H0 locs c0 s0) : mVok S v := h.2.2.2.1 v List.mem_cons_self
theorem mInv.lc {L' : List (Option mV)} {rls' : Array Slot} (h : mInv D dA A ad S H L rls st ml H0 locs c0 s0) (hl : mLoc ad S L' rls' ml) : mInv D dA A ad S H L' rls' st ml H0 locs c0 s0 := ⟨h.1, h.2.1, hl, h.2.2.2⟩
theorem mInv.at {j : Nat} {v : mV} (h : mInv D dA A ad S H L rls st ml H0 locs c0 s0) (hv : mget L j = some v) : rls[j]? = some (.val (mcv ad v)) ∧ mVok S v := h.2.2.1.2.2.2 j v hv
/-- a cell written -/
theorem mInv.wr {H1 : Heap} {r i k0 : Nat} {R' : mR} {st' : List mV} (h : mInv D dA A ad S H L rls st ml H0 locs c0 s0) (hr : r < 2) (hi : i < (mG S r).1) (hn : R'.1 = (mG S r).1)
    (ho : ∀ j, j ≠ i → mTg R' j = mTg (mG S r) j ∧ mLn R' j = mLn (mG S r) j ∧ mIv R' j = mIv (mG S r) j ∧ mLv R' j = mLv (mG S r) j ∧ mRv R' j = mRv (mG S r) j)
    (hc : mAt D dA ad R' (ad r i) i H1) (hz : H1.size = H.size) (hH : ∀ q : Nat, q ≠ ad r i → H1[q]? = H[q]?) (hw : ∀ k x, mRv R' i k = some x → x.1 < 3 ∧ x.2 < (mG S x.1).1) (hst : ∀ v ∈ st', mVok S v) : mInv D dA A ad (mU S r R') H1 L rls st' ml H0 (locs ++ [⟨ad r i, k0⟩]) c0 s0 := by
  have hg := mGr.mU (S := S) hr hn
  refine ⟨h.1.set hr hi hn ho hc hH hw, h.2.1.put hz hH (h.1.2.2.1 r i hr hi), h.2.2.1.mv mExt.rf hg, fun v q => (hst v q).gr hg, ?_⟩
  match r, hr with
  | 0, _ => exact h.2.2.2.2
  | 1, _ => exact h.2.2.2.2
end
theorem mRel.at {D : va_G} {dA : Nat → ClassId} {A : Nat → Prop} {ad : Nat → Nat → Nat} {S : mS} {H : Heap} (h : mRel D dA A ad S H) {r i : Nat} (hr : r < 3) (hi : i < (mG S r).1) : mAt D dA ad (mG S r) (ad r i) i H := h.1 r i hr hi
theorem mAt.obj {D : va_G} {dA : Nat → ClassId} {ad : Nat → Nat → Nat} {R : mR} {a i t : Nat} {H : Heap} (h : mAt D dA ad R a i H) (ht : mTg R i = t) (h50 : t < 50) : ∃ q : vw_C, mcl[t]? = some q ∧ t_OB a (D.1 t) q.2.2 (D.2 t) H (mFv ad R i t) := by
  subst ht
  rcases h with ⟨-, h⟩ | ⟨h, -⟩ | ⟨h, -⟩
  · exact h
  · omega
  · omega
theorem mAt.arr {D : va_G} {dA : Nat → ClassId} {ad : Nat → Nat → Nat} {R : mR} {a i t : Nat} {H : Heap} (h : mAt D dA ad R a i H) (ht : mTg R i = t) (h50 : 50 ≤ t) (h60 : t < 60) : H[a]? = some (vp_cell (dA (t - 50)) (mArr ad R i (t - 50))) := by
  subst ht
  rcases h with ⟨h, -⟩ | ⟨-, h2, h⟩ | ⟨h, -⟩
  · omega
  · exact h
  · omega
theorem mcl_lt {t : Nat} {q : vw_C} (h : mcl[t]? = some q) : t < 50 := by
  have h1 := (List.getElem?_eq_some_iff.mp h).1
  have h2 : mcl.length = 16 := rfl
  omega
theorem mIs_lt {t b : Nat} (h : mIs t b = true) (hb : b < 50) : t < 50 := by
  unfold mIs at h
  rcases Bool.or_eq_true_iff.mp h with h | h
  · rcases Bool.or_eq_true_iff.mp h with h | h
    · rcases Bool.or_eq_true_iff.mp h with h | h
      · have := Nat.eq_of_beq_eq_true h; omega
      · obtain ⟨p1, p2⟩ := Bool.and_eq_true_iff.mp h
        have := Nat.le_of_ble_eq_true (Bool.and_eq_true_iff.mp p2).2
        omega
    · have := Nat.eq_of_beq_eq_true (Bool.and_eq_true_iff.mp h).2; omega
  · have := Nat.eq_of_beq_eq_true (Bool.and_eq_true_iff.mp h).2; omega
/-- a primitive array of that kind -/
theorem mAt.prim {D : va_G} {dA : Nat → ClassId} {ad : Nat → Nat → Nat} {R : mR} {a i j : Nat} {H : Heap} (h : mAt D dA ad R a i H) (ht : mTg R i = 50 + j) (hj : j < 4) : H[a]? = some (arrV (dA j) (mLn R i) (fun q => .int (mIv R i q))) := by
  have h1 := h.arr ht (by omega) (by omega)
  rw [show 50 + j - 50 = j by omega] at h1
  rw [h1]
  unfold mArr
  rw [if_pos hj]
  rfl
theorem mIn_cl {i : Int32} {n : Nat} (h : mIn i n) : i.toNatClampNeg < n := Nat.not_le.mp fun q => mIn_vp h (Or.inr q)
section
variable {p : Program} {l : Launch} {e : Env} {R : Room} {s : State} {m : MethodId} {args : Array Value} {below : List Frame} {meth : Method} {c : Code} {H : Heap} {locs : List Loc} {cells slots : Nat} {Q : State → Prop}
variable {D : va_G} {dA : Nat → ClassId} {A : Nat → Prop} {ad : Nat → Nat → Nat} {S : mS} {L : List (Option mV)} {rls : Array Slot} {st : List mV} {ml : Nat} {H0 : Heap} {c0 s0 : Nat} {y : MethodName} {cc : ByteArray} {pc : Nat}
/-- getfield -/
theorem mget_ok (X : mCx p s m meth c args y cc ml) (hM : mX D dA s) (hR : mRel D dA A ad S H) {idx a b r i : Nat} (hf : mFld y.cls idx a b) (hr : r < 3) (hi : i < (mG S r).1) (ht : mIs (mTg (mG S r) i) b = true) (hdg : decode cc pc = .ok (.getfield idx, 3)) {rest : List Value}
    (kk : W p l e R s m args below meth c H locs cells slots Q (F0 m (pc + 3) rls (mFv ad (mG S r) i (mTg (mG S r) i) a :: rest))) : W p l e R s m args below meth c H locs cells slots Q (F0 m pc rls (.ref (ad r i) :: rest)) := by
  obtain ⟨hx, hb, hml, hown, hts, -⟩ := X
  obtain ⟨hK, hMM, hMF, -⟩ := hM
  obtain ⟨q, hq, ha, ref, hlink, hsame⟩ := hf
  have h50 : mTg (mG S r) i < 50 := mIs_lt ht (mcl_lt hq)
  obtain ⟨q', hq', cell, q1, q2, q3, q4⟩ := (hR.at hr hi).obj rfl h50
  obtain ⟨hN, hT⟩ := mIs_ok _ _ q' q ht hq' hq
  have ha' : a < q'.2.2 := Nat.lt_of_lt_of_le ha hN
  have hTa := hT a ha
  obtain ⟨hS, hfc, kC, hkC, hkind⟩ := hK.1 _ q' hq'
  obtain ⟨cf, kf, fi, f, hi2, hsl⟩ := hS a ha'
  have hsm : s.fieldFound? ref (q.2.1 a).2.1 (q.2.1 a).2.2.1 = some (cf, kf, fi, f) := by
    rw [hTa] at hi2
    rcases hsame with h | h
    · rw [h]; exact hi2
    · exact u_same (hts _ h) _ hi2
  have hst := (u_facts hfc hkC (u_lays hts (mcl_in _ q' hq') ha') hi2).1
  have hsl2 : cell.slots[f.slot]? = some (mFv ad (mG S r) i (mTg (mG S r) i) a) := by rw [hsl, q4 a ha']
  rcases hlink with hlink | ⟨host, hlink⟩
  · exact W.getf hx hb hown (hts _ hlink) hsm hst q1 (by rw [q3]; exact fun h => by cases h) hsl2 rfl rfl hdg kk
  · exact va_Wgetf hx hb hown (va_Nw.use rfl (hMF _ hlink)) hsm hst q1 (by rw [q3]; exact fun h => by cases h) hsl2 rfl rfl hdg kk
/-- putfield -/
theorem mput_ok (X : mCx p s m meth c args y cc ml) (hM : mX D dA s) (hR : mRel D dA A ad S H) {idx a b r i t : Nat} (hf : mFld y.cls idx a b) (hfin : mFin y idx a b) (hr : r < 3) (hi : i < (mG S r).1) (ht0 : mTg (mG S r) i = t) (ht : mIs t b = true) (hdg : decode cc pc = .ok (.putfield idx, 3)) {rest : List Value} {v : Value} (hn : narrow (mty b a) v = v) (hfit : fits (mty b a) v = true)
    (kk : ∀ (H1 : Heap) (k0 : Nat), H1.size = H.size → (∀ q : Nat, q ≠ ad r i → H1[q]? = H[q]?) → (∀ R' : mR, mTg R' i = t → (∀ k, k ≠ a → mFv ad R' i t k = mFv ad (mG S r) i t k) → mFv ad R' i t a = v → mAt D dA ad R' (ad r i) i H1) → W p l e R s m args below meth c H1 (locs ++ [⟨ad r i, k0⟩]) cells slots Q (F0 m (pc + 3) rls rest)) : W p l e R s m args below meth c H locs cells slots Q (F0 m pc rls (v :: .ref (ad r i) :: rest)) := by
  obtain ⟨hx, hb, hml, hown, hts, hnm⟩ := X
  obtain ⟨hK, hMM, hMF, -⟩ := hM
  obtain ⟨q, hq, ha, ref, hlink, hsame⟩ := hf
  have h50 : t < 50 := mIs_lt ht (mcl_lt hq)
  obtain ⟨q', hq', cell, q1, q2, q3, q4⟩ := (hR.at hr hi).obj ht0 h50
  obtain ⟨hN, hT⟩ := mIs_ok _ _ q' q ht hq' hq
  have ha' : a < q'.2.2 := Nat.lt_of_lt_of_le ha hN
  have hTa := hT a ha
  have hin := mcl_in t q' hq'
  have hap := va_apart (own := y.cls) (D := D) (cl := mcl) (tys := mtys dA) hts hin (mty t) (mcl_ty t q' hq') (mcl_nm t q' hq') hK hq'
  obtain ⟨hS, hfc, kC, hkC, hkind⟩ := hK.1 t q' hq'
  obtain ⟨cf, kf, fi, f, hi2, hsl⟩ := hS a ha'
  have hsm : s.fieldFound? ref (q.2.1 a).2.1 (q.2.1 a).2.2.1 = some (cf, kf, fi, f) := by
    have hi3 := hi2
    rw [hTa] at hi3
    rcases hsame with h | h
    · rw [h]; exact hi3
    · exact u_same (hts _ h) _ hi3
  have hst := (u_facts hfc hkC (u_lays hts hin ha') hi2).1
  have hd : parseFieldDescriptor (q'.2.1 a).2.2.1 = some (mty b a) := by rw [hTa]; exact mcl_ty b q hq a ha
  have hslot : f.slot < cell.slots.size := by rw [hsl]; exact k2_hasslot (q4 a ha')
  have kk' : ∀ (H' : Heap) (e1 : H'[ad r i]? = some (cell.setSlot f.slot v)) (e2 : H'.size = H.size) (e3 : ∀ q : Nat, q ≠ ad r i → H'[q]? = H[q]?), W p l e R s m args below meth c H' (locs ++ [⟨ad r i, f.slot⟩]) cells slots Q (F0 m (pc + 3) rls rest) := by
    intro H' e1 e2 e3
    rw [hsl] at e1
    refine kk H' f.slot e2 e3 (fun R' g1 g2 g3 => Or.inl ⟨by rw [g1]; exact h50, q', by rw [g1]; exact hq', ?_⟩)
    rw [g1]
    refine t_OB.to (V := updV (mFv ad (mG S r) i t) a v) ⟨_, e1, q2, q3, t_set q4 hap ha' v⟩ (fun k hk => ?_)
    unfold updV
    by_cases e : k = a
    · rw [if_pos e, e, g3]
    · rw [if_neg e, g2 k e]
  rcases hfin q hq with h9 | ⟨h9, h10, h11, h12⟩
  · have hlay := hts _ (hin _ (u_in_lay ha'))
    unfold u_lay at hlay
    rw [hTa, if_neg (by rw [h9]; decide), ← hTa] at hlay
    have h6 := u_store hfc hkC hkind hlay hi2 hd hn hfit
    rcases hlink with hlink | ⟨host, hlink⟩
    · exact W.putK hx hb (f := f) ⟨hown, hts _ hlink, ⟨_, _, _, hsm⟩, hst⟩ (by rw [q2]; exact h6) q1 q3 hslot rfl rfl hdg kk'
    · exact va_WputK hx hb (f := f) hown (va_Nw.use rfl (hMF _ hlink)) hsm hst (by rw [q2]; exact h6) q1 q3 hslot rfl rfl hdg kk'
  · have hlay := hts _ (hin _ (u_in_lay ha'))
    unfold u_lay at hlay
    rw [hTa, if_pos h9, ← hTa] at hlay
    have hcf : m.cls = cf := by
      obtain ⟨_, _, c', _, _, _, -, -, hf', -, -, -, hown2, -⟩ := Cond.laysFinal_spec hlay
      have e1 : c' = cf := by have := hi2.symm.trans hf'; simp at this; exact this.1.symm
      rw [hTa, h10] at hown2
      rw [← e1]; exact Option.some.inj (hown.symm.trans hown2)
    have h6 := u_fits hfc hkC hkind (Or.inr hlay) hi2 hd hn hfit
    rw [hTa] at hi2
    exact W.putFinK hx hb hown (hts _ h12) hi2 hst hcf (hnm.trans h11) (by rw [q2]; exact h6) q1 q3 hslot rfl rfl hdg kk'
/-- a store to a primitive array of kind j -/
theorem mAt.store {Rr : mR} {a i j k : Nat} {x : Int32} {H1 : Heap} (h1 : H1[a]? = some ((arrV (dA j) (mLn Rr i) (fun q => .int (mIv Rr i q))).setSlot k (.int x))) (ht : mTg Rr i = 50 + j) (hj : j < 4) : mAt D dA ad (mSi Rr i k x) a i H1 := by
  refine Or.inr (Or.inl ⟨by show 50 ≤ mTg Rr i; omega, by show mTg Rr i < 60; omega, ?_⟩)
  show H1[a]? = some (vp_cell (dA (mTg Rr i - 50)) (mArr ad (mSi Rr i k x) i (mTg Rr i - 50)))
  rw [ht, show 50 + j - 50 = j by omega, h1, arrV_store]
  unfold mArr
  rw [if_pos hj, vp_cell_i]
  congr 2
  funext q
  rw [mIv_mSi]
  unfold updV
  by_cases e : q = k
  · rw [if_pos e, if_pos e]
  · rw [if_neg e, if_neg e]
end
