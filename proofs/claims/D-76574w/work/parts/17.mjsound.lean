/-! THE SMALL MACHINE, 7: soundness, its pieces -/
set_option maxRecDepth 100000
set_option linter.unusedVariables false
noncomputable def mcc (k : Nat) : ByteArray := match mm k with
  | some ⟨cc, _⟩ => cc
  | none => ⟨#[]⟩
noncomputable def mrtt (k : Nat) : Option FieldType := match mm k with
  | some ⟨_, ⟨⟨⟨x, _⟩, _⟩, _⟩⟩ => x.2.1
  | none => none
noncomputable def mhh (k : Nat) : List (Nat × Nat × Nat × Nat) := match mm k with
  | some ⟨_, ⟨⟨_, hh, _⟩, _⟩⟩ => hh
  | none => []
theorem mins_ok {k pc : Nat} {ee : mE} (h : mins k pc = some ee) : mOK (my k) (mcc k) (mml k) (mrtt k) pc ee := by
  unfold mins at h
  unfold mcc mml mrtt
  cases hk : mm k with
  | none => rw [hk] at h; cases h
  | some q =>
    rw [hk] at h
    obtain ⟨cc, ⟨⟨⟨x, tb⟩, hh, gg⟩, hM⟩⟩ := q
    dsimp only at h ⊢
    cases he : tb pc with
    | none => rw [he] at h; cases h
    | some e2 => rw [he] at h; cases h; exact e2.2
theorem mins_met {k pc : Nat} {ee : mE} (h : mins k pc = some ee) : k = 900 ∨ mMOK (my k) (mcc k) (mml k, mrtt k, mnp k) (mhh k) (mgg k) := by
  unfold mins at h
  unfold mcc mml mrtt mnp mhh mgg
  cases hk : mm k with
  | none => rw [hk] at h; cases h
  | some q =>
    obtain ⟨cc, ⟨⟨⟨x, tb⟩, hh, gg⟩, hM⟩⟩ := q
    exact hM
theorem mG_mco (S : mS) (k n r : Nat) : mG (mco S k n) r = mG S r := by
  match r with
  | 0 => rfl
  | 1 => rfl
  | r + 2 => rfl
theorem mstp_cc {ee : mE} {L L' : List (Option mV)} {st st' : List mV} {S S' : mS} (h : mstp ee L st S = some (L', st', S')) : S.2.2.2.1 ≤ S'.2.2.2.1 ∧ S.2.2.2.2 ≤ S'.2.2.2.2 ∧ mGr S S' := by
  have hU : ∀ (r : Nat) (R : mR), r < 2 → R.1 = (mG S r).1 → S.2.2.2.1 ≤ (mU S r R).2.2.2.1 ∧ S.2.2.2.2 ≤ (mU S r R).2.2.2.2 ∧ mGr S (mU S r R) := by
    intro r R hr hn
    have hg := mGr.mU (S := S) hr hn
    match r, hr, hg with
    | 0, _, hg => exact ⟨Nat.le_refl _, Nat.le_refl _, hg⟩
    | 1, _, hg => exact ⟨Nat.le_refl _, Nat.le_refl _, hg⟩
  have hA : ∀ (r t n sl : Nat), S.2.2.2.1 ≤ (mAl S r t n sl).2.2.2.1 ∧ S.2.2.2.2 ≤ (mAl S r t n sl).2.2.2.2 ∧ mGr S (mAl S r t n sl) := by
    intro r t n sl
    match r with
    | 0 => exact ⟨Nat.le_succ _, Nat.le_add_right _ _, mGr.al (by decide)⟩
    | 1 => exact ⟨Nat.le_succ _, Nat.le_add_right _ _, mGr.al (by decide)⟩
    | r + 2 => exact ⟨Nat.le_succ _, Nat.le_add_right _ _, mGr.al (b := 1) (by decide)⟩
  obtain ⟨i, nx, v, a, b⟩ := ee
  cases i
  all_goals
    dsimp only [mstp] at h
    try simp only [cond_eq_ite] at h
    repeat' (split at h)
    all_goals first
      | cases h; exact ⟨Nat.le_refl _, Nat.le_refl _, mGr.rf⟩
      | cases h; exact hA _ _ _ _
      | cases h; exact hU _ _ (by simp_all [Nat.blt_eq]) rfl
      | cases h
theorem mth_cc {ee : mE} {st : List mV} {S S' : mS} {E : Nat} (h : mth ee st S = some (E, S')) : S.2.2.2.1 ≤ S'.2.2.2.1 ∧ S.2.2.2.2 ≤ S'.2.2.2.2 ∧ mGr S S' := by
  have hc : ∀ k n, S.2.2.2.1 ≤ (mco S k n).2.2.2.1 ∧ S.2.2.2.2 ≤ (mco S k n).2.2.2.2 ∧ mGr S (mco S k n) := fun k n => ⟨Nat.le_add_right _ _, Nat.le_add_right _ _, fun r => by rw [mG_mco]; exact Nat.le_refl _⟩
  obtain ⟨i, nx, v, a, b⟩ := ee
  cases i
  all_goals
    dsimp only [mth] at h
    try simp only [cond_eq_ite] at h
    repeat' (split at h)
    all_goals first
      | cases h; exact ⟨Nat.le_refl _, Nat.le_refl _, mGr.rf⟩
      | cases h; exact hc _ _
      | cases h
theorem mgo_cc : ∀ (f d k pc : Nat) (L : List (Option mV)) (st : List mV) (S S' : mS) (v : Option mV ⊕ Nat), mgo f d k pc L st S = some (S', v) → S.2.2.2.1 ≤ S'.2.2.2.1 ∧ S.2.2.2.2 ≤ S'.2.2.2.2 := by
  intro f
  induction f with
  | zero => intro d k pc L st S S' v h; simp [mgo] at h
  | succ f ih =>
    intro d k pc L st S S' v h
    unfold mgo at h
    cases hi : mins k pc with
    | none => rw [hi] at h; cases h
    | some e =>
      rw [hi] at h
      dsimp only at h
      split at h
      · split at h
        · rename_i L1 st1 S1 hs
          have h1 := mstp_cc hs
          have h2 := ih _ _ _ _ _ _ _ _ h
          exact ⟨Nat.le_trans h1.1 h2.1, Nat.le_trans h1.2.1 h2.2⟩
        · split at h
          · cases h
          · rename_i E S1 hs
            have h1 := mth_cc hs
            split at h
            · cases h
            · cases h
              exact ⟨h1.1, h1.2.1⟩
            · have h2 := ih _ _ _ _ _ _ _ _ h
              exact ⟨Nat.le_trans h1.1 h2.1, Nat.le_trans h1.2.1 h2.2⟩
      · split at h
        · cases h
        · exact ih _ _ _ _ _ _ _ _ h
      · split at h
        · cases h
        · exact ih _ _ _ _ _ _ _ _ h
      · split at h
        · cases h
        · split at h
          · cases h
          · split at h
            · cases h
            · rename_i S1 v1 hs
              have h1 := ih _ _ _ _ _ _ _ _ hs
              have h2 := ih _ _ _ _ _ _ _ _ h
              exact ⟨Nat.le_trans h1.1 h2.1, Nat.le_trans h1.2 h2.2⟩
            · rename_i S1 E hs
              have h1 := ih _ _ _ _ _ _ _ _ hs
              split at h
              · cases h
              · cases h
                exact h1
              · have h2 := ih _ _ _ _ _ _ _ _ h
                exact ⟨Nat.le_trans h1.1 h2.1, Nat.le_trans h1.2 h2.2⟩
      · split at h
        · cases h
        · cases h
          exact ⟨Nat.le_refl _, Nat.le_refl _⟩
/-- who catches -/
def mPass (y : MethodName) (pc E : Nat) (z : Nat × Nat × Nat × Nat) : Prop := ¬ (z.1 ≤ pc ∧ pc < z.2.1) ∨ (z.2.2.2 ≠ 0 ∧ ∃ i, i < 5 ∧ i ≠ E ∧ Cond.classLink y.cls z.2.2.2 (mxn i) ∈ lw_all)
def mCau (y : MethodName) (cc : ByteArray) (ml pc E n j : Nat) (hh : List (Nat × Nat × Nat × Nat)) : Prop := ∃ pre x suf, hh = pre ++ x :: suf ∧ (∀ z ∈ pre, mPass y pc E z) ∧ (x.1 ≤ pc ∧ pc < x.2.1) ∧ x.2.2.2 ≠ 0 ∧ E < 5 ∧ Cond.classLink y.cls x.2.2.2 (mxn E) ∈ lw_all ∧ j < ml ∧ ((decode cc x.2.2.1 = .ok (.astore j, 2) ∧ n = x.2.2.1 + 2) ∨ ∃ q : Fin 4, q.val = j ∧ decode cc x.2.2.1 = .ok (.astore_n q, 1) ∧ n = x.2.2.1 + 1)
theorem mhd_some {y : MethodName} {cc : ByteArray} {ml pc E n j : Nat} : ∀ (hh : List (Nat × Nat × Nat × Nat)) (gg : List (Nat × Nat × Nat × Nat × Nat)), mHok y cc ml hh gg → mhd gg pc E = some (some (n, j)) → mCau y cc ml pc E n j hh := by
  intro hh
  induction hh with
  | nil =>
    intro gg hok h
    match gg, hok, h with
    | [], _, h => cases h
    | _ :: _, hok, _ => exact absurd hok (by simp [mHok])
  | cons x hs ih =>
    intro gg hok h
    match gg, hok, h with
    | [], hok, _ => exact absurd hok (by simp [mHok])
    | (a, b, n', j', c) :: gs, hok, h =>
      obtain ⟨e1, e2, hor, hrest⟩ := hok
      dsimp only at e1 e2 hor
      unfold mhd at h
      have go : mPass y pc E x → mhd gs pc E = some (some (n, j)) → mCau y cc ml pc E n j (x :: hs) := fun hp h => by
        obtain ⟨pre, z, suf, p1, p2, p3⟩ := ih gs hrest h
        exact ⟨x :: pre, z, suf, by rw [p1]; rfl, fun w hw => by
          rcases List.mem_cons.mp hw with e | e
          · rw [e]; exact hp
          · exact p2 w e, p3⟩
      cases hb : Nat.ble a pc && Nat.blt pc b with
      | false =>
        rw [hb] at h
        refine go (Or.inl (fun q => ?_)) h
        rw [e1, e2] at q
        have e9 : (Nat.ble a pc && Nat.blt pc b) = true := Bool.and_eq_true_iff.mpr ⟨Nat.ble_eq_true_of_le q.1, Nat.ble_eq_true_of_le q.2⟩
        rw [e9] at hb
        cases hb
      | true =>
        rw [hb] at h
        dsimp only [cond] at h
        obtain ⟨b1, b2⟩ := Bool.and_eq_true_iff.mp hb
        have b1 := Nat.le_of_ble_eq_true b1
        have b2 := blt_t b2
        cases h99 : Nat.beq c 99 with
        | true => rw [h99] at h; cases h
        | false =>
          rw [h99] at h
          dsimp only [cond] at h
          have hc9 : c ≠ 99 := fun q => by rw [q] at h99; cases h99
          rcases hor with hor | ⟨c5, c0, cl, cj, cd⟩
          · exact absurd hor hc9
          cases hE : Nat.beq c E with
          | true =>
            rw [hE] at h
            cases h
            have e := beq_t hE
            subst e
            exact ⟨[], x, hs, rfl, fun w hw => absurd hw List.not_mem_nil, ⟨by rw [e1]; exact b1, by rw [e2]; exact b2⟩, c0, c5, cl, cj, cd⟩
          | false =>
            rw [hE] at h
            exact go (Or.inr ⟨c0, c, c5, (fun q => by rw [q, Nat.beq_refl] at hE; cases hE), cl⟩) h
theorem mhd_none {y : MethodName} {cc : ByteArray} {ml pc E : Nat} : ∀ (hh : List (Nat × Nat × Nat × Nat)) (gg : List (Nat × Nat × Nat × Nat × Nat)), mHok y cc ml hh gg → mhd gg pc E = some none → ∀ z ∈ hh, mPass y pc E z := by
  intro hh
  induction hh with
  | nil => intro gg _ _ z hz; cases hz
  | cons x hs ih =>
    intro gg hok h
    match gg, hok, h with
    | [], hok, _ => exact absurd hok (by simp [mHok])
    | (a, b, n', j', c) :: gs, hok, h =>
      obtain ⟨e1, e2, hor, hrest⟩ := hok
      dsimp only at e1 e2 hor
      unfold mhd at h
      have go : mPass y pc E x → mhd gs pc E = some none → ∀ z ∈ x :: hs, mPass y pc E z := fun hp h w hw => by
        rcases List.mem_cons.mp hw with e | e
        · rw [e]; exact hp
        · exact ih gs hrest h w e
      cases hb : Nat.ble a pc && Nat.blt pc b with
      | false =>
        rw [hb] at h
        refine go (Or.inl (fun q => ?_)) h
        rw [e1, e2] at q
        have e9 : (Nat.ble a pc && Nat.blt pc b) = true := Bool.and_eq_true_iff.mpr ⟨Nat.ble_eq_true_of_le q.1, Nat.ble_eq_true_of_le q.2⟩
        rw [e9] at hb
        cases hb
      | true =>
        rw [hb] at h
        dsimp only [cond] at h
        cases h99 : Nat.beq c 99 with
        | true => rw [h99] at h; cases h
        | false =>
          rw [h99] at h
          dsimp only [cond] at h
          have hc9 : c ≠ 99 := fun q => by rw [q] at h99; cases h99
          rcases hor with hor | ⟨c5, c0, cl, cj, cd⟩
          · exact absurd hor hc9
          cases hE : Nat.beq c E with
          | true => rw [hE] at h; cases h
          | false =>
            rw [hE] at h
            exact go (Or.inr ⟨c0, c, c5, (fun q => by rw [q, Nat.beq_refl] at hE; cases hE), cl⟩) h
/-- a local forgotten behind a store of whatever -/
theorem mLoc.stN {ad : Nat → Nat → Nat} {S : mS} {L : List (Option mV)} {rls rls' : Array Slot} {n i : Nat} {w : Value} (h : mLoc ad S L rls n) (hi : i < n) (h' : lv_has rls' n ((i, w) :: (mLl ad L 0).filter (fun q => !(q.1 == i) && !(q.1 + 1 == i && q.2.category == 2)))) : mLoc ad S (mset (mclr L i) i none) rls' n := by
  refine ⟨by rw [mset_len, mclr_len]; exact h.1, h'.1, h'.2.1, fun j w hw => ?_⟩
  rw [mget_mset, mclr_len, h.1, if_pos hi] at hw
  by_cases e : j = i
  · rw [if_pos e] at hw
    cases hw
  · rw [if_neg e] at hw
    obtain ⟨g1, g2⟩ := mget_mclr hw
    refine ⟨?_, (h.2.2.2 j w g1).2⟩
    refine h'.2.2 (j, mcv ad w) (List.mem_cons_of_mem _ (List.mem_filter.mpr ⟨(mLl_mem L 0 _).mpr ⟨j, w, g1, by rw [Nat.zero_add]⟩, ?_⟩))
    rw [mcv_cat]
    have e1 : (j == i) = false := by simpa using e
    show (!(j == i) && !(j + 1 == i && _ == 2)) = true
    rw [e1]
    cases hl : mLg (some w) with
    | false => simp
    | true =>
      have e2 : ¬ j + 1 = i := fun q => g2 ⟨q, hl⟩
      simp [e2]
section
variable {p : Program} {l : Launch} {e : Env} {R : Room} {s : State} {m : MethodId} {args : Array Value} {below : List Frame} {meth : Method} {c : Code} {H : Heap} {locs : List Loc} {cells slots : Nat} {Q : State → Prop}
variable {D : va_G} {dA : Nat → ClassId} {A : Nat → Prop} {ad : Nat → Nat → Nat} {S : mS} {L : List (Option mV)} {rls : Array Slot} {st : List mV} {ml : Nat} {H0 : Heap} {c0 s0 : Nat} {y : MethodName} {cc : ByteArray} {pc : Nat}
set_option maxHeartbeats 4000000 in
theorem mbr_ok {rt : Option FieldType} {ee : mE} {b : Bool} {st' : List mV} (X : mCx p s m meth c args y cc ml) (hok : mOK y cc ml rt pc ee) (h : mbr ee st = some (b, st'))
    (kk : (∃ pre, st = pre ++ st') → W p l e R s m args below meth c H locs cells slots Q (F0 m (bif b then ee.2.2.2.1 else ee.2.1) rls (st'.map (mcv ad)))) :
    W p l e R s m args below meth c H locs cells slots Q (F0 m pc rls (st.map (mcv ad))) := by
  obtain ⟨i, nx, v, a, b0⟩ := ee
  obtain ⟨hd, hnx, hox⟩ := hok
  obtain ⟨hx, hb, hml, hown, hts, hnm⟩ := X
  dsimp only at hd hnx
  subst hnx
  cases i
  case goto off =>
    cases h
    exact lv_goto hx hb hd hox (kk ⟨[], rfl⟩)
  case ifCond q off =>
    cases q <;> dsimp only [mbr] at h <;> split at h <;> cases h <;> rename_i x
    · exact lv_if_eq hx hb hd hox (fun hc => by rw [decide_eq_true hc] at kk; exact kk ⟨[_], rfl⟩) (fun hc => by rw [decide_eq_false hc] at kk; exact kk ⟨[_], rfl⟩)
    · exact lv_if_ne hx hb hd hox (fun hc => by rw [decide_eq_true hc] at kk; exact kk ⟨[_], rfl⟩) (fun hc => by rw [decide_eq_false (not_not_intro hc)] at kk; exact kk ⟨[_], rfl⟩)
    · exact lv_if_lt hx hb hd hox (fun hc => by rw [decide_eq_true hc] at kk; exact kk ⟨[_], rfl⟩) (fun hc => by rw [decide_eq_false hc] at kk; exact kk ⟨[_], rfl⟩)
    · exact lv_if_ge hx hb hd hox (fun hc => by rw [decide_eq_true hc] at kk; exact kk ⟨[_], rfl⟩) (fun hc => by rw [decide_eq_false hc] at kk; exact kk ⟨[_], rfl⟩)
    · exact lv_if_gt hx hb hd hox (fun hc => by rw [decide_eq_true hc] at kk; exact kk ⟨[_], rfl⟩) (fun hc => by rw [decide_eq_false hc] at kk; exact kk ⟨[_], rfl⟩)
    · exact lv_if_le hx hb hd hox (fun hc => by rw [decide_eq_true hc] at kk; exact kk ⟨[_], rfl⟩) (fun hc => by rw [decide_eq_false hc] at kk; exact kk ⟨[_], rfl⟩)
  case if_icmp q off =>
    cases q <;> dsimp only [mbr] at h <;> split at h <;> cases h <;> rename_i y1 x1
    · exact lv_icmp_eq hx hb hd hox (fun hc => by rw [decide_eq_true hc] at kk; exact kk ⟨[_, _], rfl⟩) (fun hc => by rw [decide_eq_false hc] at kk; exact kk ⟨[_, _], rfl⟩)
    · exact lv_icmp_ne hx hb hd hox (fun hc => by rw [decide_eq_true hc] at kk; exact kk ⟨[_, _], rfl⟩) (fun hc => by rw [decide_eq_false (not_not_intro hc)] at kk; exact kk ⟨[_, _], rfl⟩)
    · exact lv_icmp_lt hx hb hd hox (fun hc => by rw [decide_eq_true hc] at kk; exact kk ⟨[_, _], rfl⟩) (fun hc => by rw [decide_eq_false hc] at kk; exact kk ⟨[_, _], rfl⟩)
    · exact lv_icmp_ge hx hb hd hox (fun hc => by rw [decide_eq_true hc] at kk; exact kk ⟨[_, _], rfl⟩) (fun hc => by rw [decide_eq_false hc] at kk; exact kk ⟨[_, _], rfl⟩)
    · exact lv_icmp_gt hx hb hd hox (fun hc => by rw [decide_eq_true hc] at kk; exact kk ⟨[_, _], rfl⟩) (fun hc => by rw [decide_eq_false hc] at kk; exact kk ⟨[_, _], rfl⟩)
    · exact lv_icmp_le hx hb hd hox (fun hc => by rw [decide_eq_true hc] at kk; exact kk ⟨[_, _], rfl⟩) (fun hc => by rw [decide_eq_false hc] at kk; exact kk ⟨[_, _], rfl⟩)
  case ifnull off =>
    dsimp only [mbr] at h
    split at h
    · cases h
      exact lv_ifnullN hx hb hd hox (kk ⟨[_], rfl⟩)
    · cases h
      exact lv_ifnull hx hb hd (kk ⟨[_], rfl⟩)
    · cases h
  case ifnonnull off =>
    dsimp only [mbr] at h
    split at h
    · cases h
      exact lv_ifnonnullN hx hb hd (kk ⟨[_], rfl⟩)
    · cases h
      exact lv_ifnonnull hx hb hd hox (kk ⟨[_], rfl⟩)
    · cases h
  all_goals exact absurd h (by simp [mbr])
/-- a switch -/
theorem msw_ok {rt : Option FieldType} {ee : mE} {n : Nat} {st' : List mV} (X : mCx p s m meth c args y cc ml) (hok : mOK y cc ml rt pc ee) (h : msw ee st = some (n, st'))
    (kk : (∃ pre, st = pre ++ st') → W p l e R s m args below meth c H locs cells slots Q (F0 m n rls (st'.map (mcv ad)))) :
    W p l e R s m args below meth c H locs cells slots Q (F0 m pc rls (st.map (mcv ad))) := by
  obtain ⟨i, nx, v, a, b0⟩ := ee
  obtain ⟨hd, hnx, hox⟩ := hok
  obtain ⟨hx, hb, hml, hown, hts, hnm⟩ := X
  dsimp only at hd hnx
  subst hnx
  have tn : ∀ z : Int, 0 ≤ z → z = ((z.toNat : Nat) : Int) := fun z hz => by omega
  cases i
  case tableswitch dflt lo hi offs =>
    obtain ⟨o1, o2, o3⟩ := hox
    try dsimp only at o1
    try dsimp only at o2
    try dsimp only at o3
    have e0 : ((pc + mW (.tableswitch dflt lo hi offs) : Nat) : Int) = (pc : Int) := rfl
    dsimp only [msw] at h
    rw [e0] at h
    split at h
    · rename_i x st
      cases hb2 : decide (x.toInt < lo ∨ hi < x.toInt) with
      | true =>
        rw [hb2] at h
        cases h
        exact lv_tableOut hx hb hd (of_decide_eq_true hb2) (tn _ o1) (kk ⟨[_], rfl⟩)
      | false =>
        rw [hb2] at h
        have hn := of_decide_eq_false hb2
        dsimp only at h
        split at h
        · rename_i o ho
          cases h
          have h2 := List.all_eq_true.mp o2 o (by rw [← Array.getElem?_toList] at ho; exact List.mem_of_getElem? ho)
          exact lv_tableIn hx hb hd (fun q => hn (Or.inl q)) (fun q => hn (Or.inr q)) ho (tn _ (of_decide_eq_true h2)) (kk ⟨[_], rfl⟩)
        · cases h
    · cases h
  case lookupswitch dflt ps =>
    obtain ⟨o1, o2, o3⟩ := hox
    try dsimp only at o1
    try dsimp only at o2
    try dsimp only at o3
    have e0 : ((pc + mW (.lookupswitch dflt ps) : Nat) : Int) = (pc : Int) := rfl
    dsimp only [msw] at h
    rw [e0] at h
    split at h
    · rename_i x st
      cases h
      have key : ∀ (l : List (Int × Int)), (l.all fun o => decide (0 ≤ (pc : Int) + o.2)) = true → 0 ≤ (pc : Int) + Op.lookupswitch.offset l dflt x.toInt := by
        intro l
        induction l with
        | nil => intro _; exact o2
        | cons q r ih =>
          intro hl
          rw [List.all_cons] at hl
          obtain ⟨g1, g2⟩ := Bool.and_eq_true_iff.mp hl
          obtain ⟨a9, b9⟩ := q
          unfold Op.lookupswitch.offset
          by_cases e9 : a9 = x.toInt
          · rw [if_pos e9]; exact of_decide_eq_true g1
          · rw [if_neg e9]; exact ih g2
      exact lv_lookup hx hb hd o1 rfl (tn _ (key _ o3)) (kk ⟨[_], rfl⟩)
    · cases h
  all_goals exact absurd h (by simp [msw])
/-- caught -/
theorem mcatch_ok (X : mCx p s m meth c args y cc ml) (hM : mX D dA s) {hh : List (Nat × Nat × Nat × Nat)} {gg : List (Nat × Nat × Nat × Nat × Nat)} (hT : c.exceptionTable.toList = tableOf hh) (hok : mHok y cc ml hh gg) {E n j : Nat} (h : mhd gg pc E = some (some (n, j))) {ce : Cell} {q : Addr} (hcell : H[q]? = some ce) (hv : ce.vm = .none) (hcl : s.vm.findClass (mxn E) = some ce.cls) (hL : mLoc ad S L rls ml) {rest : List Value}
    (kk : ∀ rls', mLoc ad S (mset (mclr L j) j none) rls' ml → W p l e R s m args below meth c H locs cells slots Q (F0 m n rls' [])) : vx_W p l e R s m args below meth c H locs cells slots Q (F0 m pc rls rest) q := by
  obtain ⟨hx, hb, hml, hown, hts, hnm⟩ := X
  obtain ⟨pre, x, suf, h1, h2, h3, h4, h5, h6, h7, h8⟩ := mhd_some _ _ hok h
  have ee : ∀ z : Nat × Nat × Nat × Nat, covers (⟨z.1, z.2.1, z.2.2.1, z.2.2.2⟩ : ExceptionTableEntry) pc = (decide (z.1 ≤ pc) && decide (pc < z.2.1)) := fun z => rfl
  refine vx_catch hown (tableOf pre) ⟨x.1, x.2.1, x.2.2.1, x.2.2.2⟩ (tableOf suf) (by rw [hT, h1]; unfold tableOf; rw [List.map_append, List.map_cons]) (fun z hz => ?_) (by rw [ee x, decide_eq_true h3.1, decide_eq_true h3.2]; rfl) h4 (hts _ h6) (va_Nw.use rfl (hM.2.2.2.1 (mxn E, mxn E) ?_)) hcell hv hcl ?_
  · unfold tableOf at hz
    obtain ⟨z', hz', rfl⟩ := List.mem_map.mp hz
    rcases h2 z' hz' with g | ⟨g, i, g1, g2, g3⟩
    · refine Or.inl ?_
      rw [ee z']
      by_cases q1 : z'.1 ≤ pc
      · by_cases q2 : pc < z'.2.1
        · exact absurd ⟨q1, q2⟩ g
        · rw [decide_eq_false q2, Bool.and_false]
      · rw [decide_eq_false q1, Bool.false_and]
    · exact Or.inr ⟨g, mxn i, hts _ g3, hM.2.2.2.2.2.2.1 E i h5 g1 (Ne.symm g2)⟩
  · match E, h5 with
    | 0, _ => decide
    | 1, _ => decide
    | 2, _ => decide
    | 3, _ => decide
    | 4, _ => decide
  · rcases h8 with ⟨d1, d2⟩ | ⟨q4, d0, d1, d2⟩
    · rw [d2] at kk
      exact lv_astore hx hb d1 hL.has h7 rfl (fun rls' hl => kk rls' (hL.stN h7 hl))
    · rw [d2] at kk
      exact lv_astore_n hx hb d1 d0 hL.has h7 rfl (fun rls' hl => kk rls' (hL.stN h7 hl))
end
