/-! THE SMALL MACHINE, 4: what it says of the machine's heap and frames -/
set_option maxRecDepth 100000
set_option linter.unusedVariables false
def mcv (ad : Nat → Nat → Nat) : mV → Value
  | .inl x => .int x
  | .inr (.inl x) => .long x
  | .inr (.inr none) => .null
  | .inr (.inr (some q)) => .ref (ad q.1 q.2)
/-- a field's value -/
def mFv (ad : Nat → Nat → Nat) (R : mR) (i t k : Nat) : Value := if mKd t k ≤ 4 then .int (mIv R i k) else if mKd t k = 5 then .long (mLv R i k) else if mKd t k = 6 then mcv ad (.inr (.inr (mRv R i k))) else .null
def mtys (dA : Nat → ClassId) : List (ClassId × FieldType) := (List.range 10).map fun j => (dA j, mta j)
theorem mtys_at (dA : Nat → ClassId) {j : Nat} (h : j < 10) : (mtys dA)[j]? = some (dA j, mta j) := by
  unfold mtys
  rw [List.getElem?_map, List.getElem?_range h]
  rfl
def mArr (ad : Nat → Nat → Nat) (R : mR) (i j : Nat) : vp_A := if j < 4 then (mLn R i, .inl (mIv R i)) else (mLn R i, .inr (.inr (.inr (.inr (fun q => (mRv R i q).map (fun p => ad p.1 p.2))))))
def mAt (D : va_G) (dA : Nat → ClassId) (ad : Nat → Nat → Nat) (R : mR) (a i : Nat) (H : Heap) : Prop :=
  (mTg R i < 50 ∧ ∃ q : vw_C, mcl[mTg R i]? = some q ∧ t_OB a (D.1 (mTg R i)) q.2.2 (D.2 (mTg R i)) H (mFv ad R i (mTg R i))) ∨ (50 ≤ mTg R i ∧ mTg R i < 60 ∧ H[a]? = some (vp_cell (dA (mTg R i - 50)) (mArr ad R i (mTg R i - 50)))) ∨ (60 ≤ mTg R i ∧ a < H.size)
theorem mAt.lt {D : va_G} {dA : Nat → ClassId} {ad : Nat → Nat → Nat} {R : mR} {a i : Nat} {H : Heap} (h : mAt D dA ad R a i H) : a < H.size := by
  rcases h with ⟨-, q, -, cell, h, -⟩ | ⟨-, -, h⟩ | ⟨-, h⟩
  · exact (Array.getElem?_eq_some_iff.mp h).1
  · exact (Array.getElem?_eq_some_iff.mp h).1
  · exact h
theorem mAt.to {D : va_G} {dA : Nat → ClassId} {ad ad' : Nat → Nat → Nat} {R R' : mR} {a i : Nat} {H H' : Heap} (h : mAt D dA ad R a i H) (h1 : mTg R' i = mTg R i) (h2 : mLn R' i = mLn R i) (h3 : mIv R' i = mIv R i) (h4 : mLv R' i = mLv R i) (h5 : mRv R' i = mRv R i) (h6 : ∀ k x, mRv R i k = some x → ad' x.1 x.2 = ad x.1 x.2) (hH : H'[a]? = H[a]?) : mAt D dA ad' R' a i H' := by
  have hr : ∀ k, mcv ad' (.inr (.inr (mRv R i k))) = mcv ad (.inr (.inr (mRv R i k))) := by
    intro k
    cases hq : mRv R i k with
    | none => rfl
    | some x => show Value.ref _ = Value.ref _; rw [h6 k x hq]
  rcases h with ⟨a1, q, a2, a3⟩ | ⟨a1, a2, a3⟩ | ⟨a1, a2⟩
  · refine Or.inl ⟨by rw [h1]; exact a1, q, by rw [h1]; exact a2, ?_⟩
    rw [h1]
    refine (a3.kept hH).to (fun k hk => ?_)
    unfold mFv
    rw [h3, h4, h5, hr]
  · refine Or.inr (Or.inl ⟨by rw [h1]; exact a1, by rw [h1]; exact a2, ?_⟩)
    rw [h1, hH, a3]
    have e : mArr ad R i (mTg R i - 50) = mArr ad' R' i (mTg R i - 50) := by
      have e2 : (fun q => (mRv R i q).map (fun p => ad p.1 p.2)) = fun q => (mRv R i q).map (fun p => ad' p.1 p.2) := by
        funext k
        cases hq : mRv R i k with
        | none => rfl
        | some x => show some (ad x.1 x.2) = some (ad' x.1 x.2); rw [h6 k x hq]
      unfold mArr
      rw [h2, h3, h5, e2]
    rw [e]
  · refine Or.inr (Or.inr ⟨by rw [h1]; exact a1, ?_⟩)
    have h9 : H[a]? = some H[a] := Array.getElem?_eq_getElem a2
    rw [← hH] at h9
    exact (Array.getElem?_eq_some_iff.mp h9).1
/-- the statics' values (references): null, or the cell 30 + a of the third region -/
def mSv (dA : Nat → ClassId) (a : Nat) : Option (Nat × Nat) := if dA (200 + a) = 0 then none else some (2, 30 + a)
def mRel (D : va_G) (dA : Nat → ClassId) (A : Nat → Prop) (ad : Nat → Nat → Nat) (S : mS) (H : Heap) : Prop :=
  (∀ r i, r < 3 → i < (mG S r).1 → mAt D dA ad (mG S r) (ad r i) i H) ∧
  (∀ r i r' i', r < 3 → i < (mG S r).1 → r' < 3 → i' < (mG S r').1 → ad r i = ad r' i' → r = r' ∧ i = i') ∧
  (∀ r i, r < 2 → i < (mG S r).1 → A (ad r i)) ∧
  (∀ r i k x, r < 3 → i < (mG S r).1 → mRv (mG S r) i k = some x → x.1 < 3 ∧ x.2 < (mG S x.1).1) ∧
  (34 ≤ (mG S 2).1 ∧ (∀ i, i < (mG S 2).1 → ad 2 i = dA (100 + i)) ∧ ∀ a, 1 ≤ a → a < 4 → mRv (mG S 2) 0 a = mSv dA a)
def mVok (S : mS) (v : mV) : Prop := match v with
  | .inr (.inr (some q)) => q.1 < 3 ∧ q.2 < (mG S q.1).1
  | _ => True
theorem mG_mU {S : mS} {r r' : Nat} {R : mR} (hr : r < 2) : mG (mU S r R) r' = if r' = r then R else mG S r' := by
  match r, hr with
  | 0, _ => match r' with
    | 0 => rfl
    | 1 => rfl
    | n + 2 => rfl
  | 1, _ => match r' with
    | 0 => rfl
    | 1 => rfl
    | n + 2 => rw [if_neg (by omega)]; rfl
/-- one cell rewritten -/
theorem mRel.set {D : va_G} {dA : Nat → ClassId} {A : Nat → Prop} {ad : Nat → Nat → Nat} {S : mS} {H H' : Heap} {r i : Nat} {R' : mR} (h : mRel D dA A ad S H) (hr : r < 2) (hi : i < (mG S r).1) (hn : R'.1 = (mG S r).1)
    (ho : ∀ j, j ≠ i → mTg R' j = mTg (mG S r) j ∧ mLn R' j = mLn (mG S r) j ∧ mIv R' j = mIv (mG S r) j ∧ mLv R' j = mLv (mG S r) j ∧ mRv R' j = mRv (mG S r) j)
    (hc : mAt D dA ad R' (ad r i) i H') (hH : ∀ q : Nat, q ≠ ad r i → H'[q]? = H[q]?) (hw : ∀ k x, mRv R' i k = some x → x.1 < 3 ∧ x.2 < (mG S x.1).1) : mRel D dA A ad (mU S r R') H' := by
  obtain ⟨a1, a2, a3, a4, a5⟩ := h
  have h2r : mG (mU S r R') 2 = mG S 2 := by rw [mG_mU hr, if_neg (by omega)]
  have hn2 : ∀ r', (mG (mU S r R') r').1 = (mG S r').1 := by
    intro r'
    rw [mG_mU hr]
    by_cases e : r' = r
    · rw [if_pos e, e]; exact hn
    · rw [if_neg e]
  refine ⟨fun r' j h1 h2 => ?_, fun r1 i1 r2 i2 h1 h2 h3 h4 h5 => ?_, fun r' j h1 h2 => ?_, fun r' j k x h1 h2 h3 => ?_, by rw [h2r]; exact a5⟩
  · rw [hn2] at h2
    rw [mG_mU hr]
    by_cases e : r' = r
    · subst e
      rw [if_pos rfl]
      by_cases e2 : j = i
      · subst e2; exact hc
      · obtain ⟨b1, b2, b3, b4, b5⟩ := ho j e2
        exact (a1 r' j h1 h2).to b1 b2 b3 b4 b5 (fun _ _ _ => rfl) (hH _ (fun z => e2 (a2 r' j r' i h1 h2 h1 hi z).2))
    · rw [if_neg e]
      exact (a1 r' j h1 h2).to rfl rfl rfl rfl rfl (fun _ _ _ => rfl) (hH _ (fun z => e (a2 r' j r i h1 h2 (by omega) hi z).1))
  · rw [hn2] at h2 h4
    exact a2 r1 i1 r2 i2 h1 h2 h3 h4 h5
  · rw [hn2] at h2
    exact a3 r' j h1 h2
  · rw [hn2] at h2 ⊢
    rw [mG_mU hr] at h3
    by_cases e : r' = r
    · subst e
      rw [if_pos rfl] at h3
      by_cases e2 : j = i
      · subst e2; exact hw k x h3
      · rw [(ho j e2).2.2.2.2] at h3
        exact a4 r' j k x h1 h2 h3
    · rw [if_neg e] at h3
      exact a4 r' j k x h1 h2 h3
theorem mSi_o {R : mR} {i k : Nat} {x : Int32} : ∀ j, j ≠ i → mTg (mSi R i k x) j = mTg R j ∧ mLn (mSi R i k x) j = mLn R j ∧ mIv (mSi R i k x) j = mIv R j ∧ mLv (mSi R i k x) j = mLv R j ∧ mRv (mSi R i k x) j = mRv R j :=
  fun j h => ⟨rfl, rfl, by funext l; show u2 _ _ _ _ _ _ = _; unfold u2; rw [if_neg h]; rfl, rfl, rfl⟩
theorem mSl_o {R : mR} {i k : Nat} {x : Int64} : ∀ j, j ≠ i → mTg (mSl R i k x) j = mTg R j ∧ mLn (mSl R i k x) j = mLn R j ∧ mIv (mSl R i k x) j = mIv R j ∧ mLv (mSl R i k x) j = mLv R j ∧ mRv (mSl R i k x) j = mRv R j :=
  fun j h => ⟨rfl, rfl, rfl, by funext l; show u2 _ _ _ _ _ _ = _; unfold u2; rw [if_neg h]; rfl, rfl⟩
theorem mSr_o {R : mR} {i k : Nat} {x : Option (Nat × Nat)} : ∀ j, j ≠ i → mTg (mSr R i k x) j = mTg R j ∧ mLn (mSr R i k x) j = mLn R j ∧ mIv (mSr R i k x) j = mIv R j ∧ mLv (mSr R i k x) j = mLv R j ∧ mRv (mSr R i k x) j = mRv R j :=
  fun j h => ⟨rfl, rfl, rfl, rfl, by funext l; show u2 _ _ _ _ _ _ = _; unfold u2; rw [if_neg h]; rfl⟩
theorem mSa_o {R : mR} {i : Nat} {f : Nat → Int32} : ∀ j, j ≠ i → mTg (mSa R i f) j = mTg R j ∧ mLn (mSa R i f) j = mLn R j ∧ mIv (mSa R i f) j = mIv R j ∧ mLv (mSa R i f) j = mLv R j ∧ mRv (mSa R i f) j = mRv R j :=
  fun j h => ⟨rfl, rfl, by show (if _ = _ then _ else _) = _; rw [if_neg h]; rfl, rfl, rfl⟩
theorem mIv_mSi {R : mR} {i k : Nat} {x : Int32} (l : Nat) : mIv (mSi R i k x) i l = if l = k then x else mIv R i l := by
  show u2 _ _ _ _ _ _ = _; unfold u2; rw [if_pos rfl]; rfl
theorem mLv_mSl {R : mR} {i k : Nat} {x : Int64} (l : Nat) : mLv (mSl R i k x) i l = if l = k then x else mLv R i l := by
  show u2 _ _ _ _ _ _ = _; unfold u2; rw [if_pos rfl]; rfl
theorem mRv_mSr {R : mR} {i k : Nat} {x : Option (Nat × Nat)} (l : Nat) : mRv (mSr R i k x) i l = if l = k then x else mRv R i l := by
  show u2 _ _ _ _ _ _ = _; unfold u2; rw [if_pos rfl]; rfl
def mExt (S : mS) (ad ad' : Nat → Nat → Nat) : Prop := ∀ r i, r < 3 → i < (mG S r).1 → ad' r i = ad r i
theorem mExt.rf {S : mS} {ad : Nat → Nat → Nat} : mExt S ad ad := fun _ _ _ _ => rfl
theorem mcv_ext {S : mS} {ad ad' : Nat → Nat → Nat} (h : mExt S ad ad') {v : mV} (hv : mVok S v) : mcv ad' v = mcv ad v := by
  match v, hv with
  | .inl _, _ => rfl
  | .inr (.inl _), _ => rfl
  | .inr (.inr none), _ => rfl
  | .inr (.inr (some q)), hv => show Value.ref _ = Value.ref _; rw [h q.1 q.2 hv.1 hv.2]
theorem mcv_exts {S : mS} {ad ad' : Nat → Nat → Nat} (h : mExt S ad ad') {st : List mV} (hv : ∀ v ∈ st, mVok S v) : st.map (mcv ad') = st.map (mcv ad) := List.map_congr_left fun v q => mcv_ext h (hv v q)
/-- the regions only grow -/
def mGr (S S' : mS) : Prop := ∀ r, (mG S r).1 ≤ (mG S' r).1
theorem mVok.gr {S S' : mS} (h : mGr S S') {v : mV} (hv : mVok S v) : mVok S' v := by
  match v, hv with
  | .inl _, _ => trivial
  | .inr (.inl _), _ => trivial
  | .inr (.inr none), _ => trivial
  | .inr (.inr (some q)), hv => exact ⟨hv.1, Nat.lt_of_lt_of_le hv.2 (h q.1)⟩
theorem mGr.rf {S : mS} : mGr S S := fun _ => Nat.le_refl _
theorem mGr.mU {S : mS} {r : Nat} {R : mR} (hr : r < 2) (hn : R.1 = (mG S r).1) : mGr S (mU S r R) := by
  intro r'
  rw [mG_mU hr]
  by_cases e : r' = r
  · rw [if_pos e, e, hn]; exact Nat.le_refl _
  · rw [if_neg e]; exact Nat.le_refl _
/-! the locals -/
theorem mget_mset {x : Option mV} : ∀ (L : List (Option mV)) (i j : Nat), mget (mset L i x) j = if j = i then (if i < L.length then x else none) else mget L j := by
  intro L
  induction L with
  | nil => intro i j; by_cases e : j = i <;> simp [mset, mget, e]
  | cons o t ih =>
    intro i j
    match i, j with
    | 0, 0 => simp [mset, mget]
    | 0, j + 1 => simp [mset, mget]
    | i + 1, 0 => simp [mset, mget]
    | i + 1, j + 1 => simp [mset, mget, ih i j]
theorem mset_len {x : Option mV} : ∀ (L : List (Option mV)) (i : Nat), (mset L i x).length = L.length := by
  intro L
  induction L with
  | nil => intro i; rfl
  | cons o t ih =>
    intro i
    match i with
    | 0 => rfl
    | i + 1 => simp [mset, ih i]
theorem mclr_len (L : List (Option mV)) (i : Nat) : (mclr L i).length = L.length := by
  unfold mclr
  split
  · rfl
  · rename_i j
    cases mLg (mget L j)
    · rfl
    · exact mset_len _ _
theorem mget_mclr {L : List (Option mV)} {i j : Nat} {v : mV} (h : mget (mclr L i) j = some v) : mget L j = some v ∧ ¬ (j + 1 = i ∧ mLg (some v) = true) := by
  unfold mclr at h
  split at h
  · exact ⟨h, by omega⟩
  · rename_i i'
    cases hg : mLg (mget L i') with
    | false =>
      rw [hg] at h
      refine ⟨h, fun q => ?_⟩
      have e : j = i' := by omega
      subst e
      have h : mget L j = some v := h
      rw [h] at hg
      rw [hg] at q
      exact absurd q.2 (by decide)
    | true =>
      rw [hg] at h
      have h : mget (mset L i' none) j = some v := h
      rw [mget_mset] at h
      by_cases e : j = i'
      · rw [if_pos e] at h
        split at h <;> cases h
      · rw [if_neg e] at h
        exact ⟨h, fun q => e (by omega)⟩
def mLoc (ad : Nat → Nat → Nat) (S : mS) (L : List (Option mV)) (rls : Array Slot) (n : Nat) : Prop := L.length = n ∧ rls.size = n ∧ lv_wf rls ∧ ∀ j v, mget L j = some v → rls[j]? = some (.val (mcv ad v)) ∧ mVok S v
def mLl (ad : Nat → Nat → Nat) : List (Option mV) → Nat → List (Nat × Value)
  | [], _ => []
  | none :: t, j => mLl ad t (j + 1)
  | some v :: t, j => (j, mcv ad v) :: mLl ad t (j + 1)
theorem mLl_mem {ad : Nat → Nat → Nat} : ∀ (L : List (Option mV)) (j0 : Nat) (q : Nat × Value), q ∈ mLl ad L j0 ↔ ∃ j v, mget L j = some v ∧ q = (j0 + j, mcv ad v) := by
  intro L
  induction L with
  | nil => intro j0 q; simp [mLl, mget]
  | cons o t ih =>
    intro j0 q
    cases o with
    | none =>
      rw [mLl, ih]
      constructor
      · rintro ⟨j, v, h1, h2⟩
        exact ⟨j + 1, v, h1, by rw [h2]; congr 1; omega⟩
      · rintro ⟨j, v, h1, h2⟩
        match j, h1 with
        | 0, h1 => cases h1
        | j + 1, h1 => exact ⟨j, v, h1, by rw [h2]; congr 1; omega⟩
    | some w =>
      rw [mLl, List.mem_cons, ih]
      constructor
      · rintro (h | ⟨j, v, h1, h2⟩)
        · exact ⟨0, w, rfl, h⟩
        · exact ⟨j + 1, v, h1, by rw [h2]; congr 1; omega⟩
      · rintro ⟨j, v, h1, h2⟩
        match j, h1 with
        | 0, h1 => cases h1; exact Or.inl h2
        | j + 1, h1 => exact Or.inr ⟨j, v, h1, by rw [h2]; congr 1; omega⟩
theorem mLoc.has {ad : Nat → Nat → Nat} {S : mS} {L : List (Option mV)} {rls : Array Slot} {n : Nat} (h : mLoc ad S L rls n) : lv_has rls n (mLl ad L 0) := by
  refine ⟨h.2.1, h.2.2.1, fun q hq => ?_⟩
  obtain ⟨j, v, h1, h2⟩ := (mLl_mem L 0 q).mp hq
  rw [h2]
  show rls[0 + j]? = _
  rw [Nat.zero_add]
  exact (h.2.2.2 j v h1).1
theorem mcv_cat {ad : Nat → Nat → Nat} {v : mV} : (mcv ad v).category = if mLg (some v) = true then 2 else 1 := by
  match v with
  | .inl _ => rfl
  | .inr (.inl _) => rfl
  | .inr (.inr none) => rfl
  | .inr (.inr (some q)) => rfl
theorem mLoc.st1 {ad : Nat → Nat → Nat} {S : mS} {L : List (Option mV)} {rls rls' : Array Slot} {n i : Nat} {v : mV} (h : mLoc ad S L rls n) (hi : i < n) (hv : mVok S v) (h' : lv_has rls' n ((i, mcv ad v) :: (mLl ad L 0).filter (fun q => !(q.1 == i) && !(q.1 + 1 == i && q.2.category == 2)))) : mLoc ad S (mst1 L i v) rls' n := by
  refine ⟨by rw [mst1, mset_len, mclr_len]; exact h.1, h'.1, h'.2.1, fun j w hw => ?_⟩
  rw [mst1, mget_mset, mclr_len, h.1, if_pos hi] at hw
  by_cases e : j = i
  · rw [if_pos e] at hw
    cases hw
    rw [e]
    exact ⟨h'.2.2 _ List.mem_cons_self, hv⟩
  · rw [if_neg e] at hw
    obtain ⟨g1, g2⟩ := mget_mclr hw
    refine ⟨?_, (h.2.2.2 j w g1).2⟩
    refine h'.2.2 (j, mcv ad w) (List.mem_cons_of_mem _ (List.mem_filter.mpr ⟨(mLl_mem L 0 _).mpr ⟨j, w, g1, by rw [Nat.zero_add]⟩, ?_⟩))
    rw [mcv_cat]
    have e1 : (j == i) = false := by simpa using e
    show (!(j == i) && !(j + 1 == i && _ == 2)) = true
    rw [e1]
    cases hl : mLg (some w) with
    | false => simp
    | true =>
      have e2 : ¬ j + 1 = i := fun q => g2 ⟨q, hl⟩
      simp [e2]
theorem mLoc.st2 {ad : Nat → Nat → Nat} {S : mS} {L : List (Option mV)} {rls rls' : Array Slot} {n i : Nat} {v : mV} (h : mLoc ad S L rls n) (hi : i + 1 < n) (hv : mVok S v) (h' : lv_has rls' n ((i, mcv ad v) :: (mLl ad L 0).filter (fun q => !(q.1 == i) && (!(q.1 == i + 1) && !(q.1 + 1 == i && q.2.category == 2))))) : mLoc ad S (mst2 L i v) rls' n := by
  refine ⟨by rw [mst2, mset_len, mset_len, mclr_len]; exact h.1, h'.1, h'.2.1, fun j w hw => ?_⟩
  rw [mst2, mget_mset, mset_len, mclr_len, h.1, if_pos hi, mget_mset, mclr_len, h.1, if_pos (by omega : i < n)] at hw
  by_cases e0 : j = i + 1
  · rw [if_pos e0] at hw
    cases hw
  rw [if_neg e0] at hw
  by_cases e : j = i
  · rw [if_pos e] at hw
    cases hw
    rw [e]
    exact ⟨h'.2.2 _ List.mem_cons_self, hv⟩
  · rw [if_neg e] at hw
    obtain ⟨g1, g2⟩ := mget_mclr hw
    refine ⟨?_, (h.2.2.2 j w g1).2⟩
    refine h'.2.2 (j, mcv ad w) (List.mem_cons_of_mem _ (List.mem_filter.mpr ⟨(mLl_mem L 0 _).mpr ⟨j, w, g1, by rw [Nat.zero_add]⟩, ?_⟩))
    rw [mcv_cat]
    have e1 : (j == i) = false := by simpa using e
    have e3 : (j == i + 1) = false := by simpa using e0
    show (!(j == i) && (!(j == i + 1) && !(j + 1 == i && _ == 2))) = true
    rw [e1, e3]
    cases hl : mLg (some w) with
    | false => simp
    | true =>
      have e2 : ¬ j + 1 = i := fun q => g2 ⟨q, hl⟩
      simp [e2]
theorem mLoc.mv {ad ad' : Nat → Nat → Nat} {S S' : mS} {L : List (Option mV)} {rls : Array Slot} {n : Nat} (h : mLoc ad S L rls n) (he : mExt S ad ad') (hg : mGr S S') : mLoc ad' S' L rls n :=
  ⟨h.1, h.2.1, h.2.2.1, fun j v hv => ⟨by rw [mcv_ext he (h.2.2.2 j v hv).2]; exact (h.2.2.2 j v hv).1, (h.2.2.2 j v hv).2.gr hg⟩⟩
