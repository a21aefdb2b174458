/-! THE SMALL MACHINE, 3: runs without fuel -/
set_option maxRecDepth 100000
set_option linter.unusedVariables false
theorem mgo_s : ∀ (f d k pc : Nat) (L : List (Option mV)) (st : List mV) (S : mS) (r : mS × (Option mV ⊕ Nat)), mgo f d k pc L st S = some r → mgo (f + 1) d k pc L st S = some r := by
  intro f
  induction f with
  | zero => intro d k pc L st S r h; simp [mgo] at h
  | succ f ih =>
    intro d k pc L st S r h
    unfold mgo at h ⊢
    cases hi : mins k pc with
    | none => rw [hi] at h; exact h
    | some e =>
      rw [hi] at h
      dsimp only at h ⊢
      split at h
      · split at h
        · exact ih _ _ _ _ _ _ _ h
        · split at h
          · exact h
          · split at h
            · exact h
            · exact h
            · exact ih _ _ _ _ _ _ _ h
      · split at h
        · exact h
        · exact ih _ _ _ _ _ _ _ h
      · split at h
        · exact h
        · exact ih _ _ _ _ _ _ _ h
      · split at h
        · exact h
        · split at h
          · exact h
          · rename_i k' As L0 rest hc
            cases hq : mgo f _ k' 0 L0 [] S with
            | none => rw [hq] at h; cases h
            | some w =>
              rw [hq] at h
              rw [ih _ _ _ _ _ _ _ hq]
              obtain ⟨S1, w⟩ := w
              cases w with
              | inl v => exact ih _ _ _ _ _ _ _ h
              | inr E =>
                dsimp only at h ⊢
                split at h
                · exact h
                · exact h
                · exact ih _ _ _ _ _ _ _ h
      · exact h
theorem mgo_le {f g d k pc : Nat} {L : List (Option mV)} {st : List mV} {S : mS} {r : mS × (Option mV ⊕ Nat)} (h : mgo f d k pc L st S = some r) (hg : f ≤ g) : mgo g d k pc L st S = some r := by
  induction hg with
  | refl => exact h
  | step _ ih => exact mgo_s _ _ _ _ _ _ _ _ ih
def Ev (d k pc : Nat) (L : List (Option mV)) (st : List mV) (S : mS) (r : mS × (Option mV ⊕ Nat)) : Prop := ∃ f, mgo f d k pc L st S = some r
/-- a whole method -/
def Run (d k : Nat) (As : List mV) (S : mS) (S1 : mS) (v : Option mV) : Prop := Ev d k 0 (mEnt As (mml k)) [] S (S1, .inl v)
/-- a whole method that throws -/
def RunX (d k : Nat) (As : List mV) (S : mS) (S1 : mS) (E : Nat) : Prop := Ev d k 0 (mEnt As (mml k)) [] S (S1, .inr E)
noncomputable def mi0 (k pc : Nat) : Option mE := match mins k pc with
  | some (i, nx, v, a, b) => (match mkn (i, nx, v, a, b) with
    | (false, false, _) => some (i, nx, v, a, b)
    | _ => none)
  | none => none
noncomputable def mnx (k pc : Nat) (L : List (Option mV)) (st : List mV) (S : mS) : Option (Nat × List (Option mV) × List mV × mS) := match mins k pc with
  | some (i, nx, v, a, b) => (match mkn (i, nx, v, a, b) with
    | (false, false, _) => (match mstp (i, nx, v, a, b) L st S with
      | some (L', st', S') => some (nx, L', st', S')
      | none => none)
    | (false, true, false) => (match mbr (i, nx, v, a, b) st with
      | some (true, st') => some (a, L, st', S)
      | some (false, st') => some (nx, L, st', S)
      | none => none)
    | (false, true, true) => (match msw (i, nx, v, a, b) st with
      | some (n, st') => some (n, L, st', S)
      | none => none)
    | _ => none)
  | none => none
noncomputable def mbx (k pc : Nat) (st : List mV) : Option (Bool × Nat × Nat × List mV) := match mins k pc with
  | some (i, nx, v, a, b) => (match mkn (i, nx, v, a, b) with
    | (false, true, false) => (match mbr (i, nx, v, a, b) st with
      | some (c, st') => some (c, a, nx, st')
      | none => none)
    | _ => none)
  | none => none
noncomputable def mcx (k pc : Nat) (st : List mV) (S : mS) : Option (Nat × List mV × List mV × Nat) := match mins k pc with
  | some (i, nx, v, a, b) => (match mkn (i, nx, v, a, b) with
    | (true, false, _) => (match mcal (i, nx, v, a, b) st S with
      | some (k', As, _, rest) => some (k', As, rest, nx)
      | none => none)
    | _ => none)
  | none => none
noncomputable def mrx (k pc : Nat) (st : List mV) : Option (Option mV) := match mins k pc with
  | some (i, nx, v, a, b) => (match mkn (i, nx, v, a, b) with
    | (true, true, _) => mrt (i, nx, v, a, b) st
    | _ => none)
  | none => none
noncomputable def mtx (k pc : Nat) (L : List (Option mV)) (st : List mV) (S : mS) : Option (Nat × Nat × mS) := match mins k pc with
  | some (i, nx, v, a, b) => (match mkn (i, nx, v, a, b) with
    | (false, false, _) => (match mstp (i, nx, v, a, b) L st S with
      | some _ => none
      | none => (match mth (i, nx, v, a, b) st S with
        | none => none
        | some (E, S1) => some (pc + mof (i, nx, v, a, b), E, S1)))
    | _ => none)
  | none => none
section
variable {d k pc : Nat} {L : List (Option mV)} {st : List mV} {S : mS} {r : mS × (Option mV ⊕ Nat)}
theorem Ev.step {pc' : Nat} {L' : List (Option mV)} {st' : List mV} {S' : mS} (h : mnx k pc L st S = some (pc', L', st', S')) (H : Ev d k pc' L' st' S' r) : Ev d k pc L st S r := by
  obtain ⟨f, hf⟩ := H
  refine ⟨f + 1, ?_⟩
  unfold mnx at h
  unfold mgo
  cases hi : mins k pc with
  | none => rw [hi] at h; cases h
  | some e =>
    obtain ⟨i, nx, v, a, b⟩ := e
    rw [hi] at h
    dsimp only at h ⊢
    split at h
    · rename_i hk
      rw [hk]
      dsimp only
      split at h
      · rename_i hs
        rw [hs]
        cases h
        exact hf
      · cases h
    · rename_i hk
      rw [hk]
      dsimp only
      split at h
      · rename_i hs
        rw [hs]
        cases h
        exact hf
      · rename_i hs
        rw [hs]
        cases h
        exact hf
      · cases h
    · rename_i hk
      rw [hk]
      dsimp only
      split at h
      · rename_i hs
        rw [hs]
        cases h
        exact hf
      · cases h
    · cases h
theorem Ev.stepc {i : Instr} {nx a b : Nat} {v : mV} {p : Prop} {hp : Decidable p} {L' : List (Option mV)} {st' : List mV} {S' : mS} (h0 : mi0 k pc = some (i, nx, v, a, b)) (h : mstp (i, nx, v, a, b) L st S = if p then some (L', st', S') else none) (hq : p) (H : Ev d k nx L' st' S' r) : Ev d k pc L st S r := by
  obtain ⟨f, hf⟩ := H
  refine ⟨f + 1, ?_⟩
  rw [if_pos hq] at h
  unfold mi0 at h0
  unfold mgo
  cases hi : mins k pc with
  | none => rw [hi] at h0; cases h0
  | some e =>
    obtain ⟨i, nx, v, a, b⟩ := e
    rw [hi] at h0
    dsimp only at h0 ⊢
    split at h0
    · rename_i hk
      cases h0
      rw [hk]
      dsimp only
      rw [h]
      exact hf
    · cases h0
/-- a step whose outcome is shown by other means than by computing -/
theorem Ev.stepe {i : Instr} {nx a b : Nat} {v : mV} {L' : List (Option mV)} {st' : List mV} {S' : mS} (h0 : mi0 k pc = some (i, nx, v, a, b)) (h : mstp (i, nx, v, a, b) L st S = some (L', st', S')) (H : Ev d k nx L' st' S' r) : Ev d k pc L st S r :=
  Ev.stepc (p := True) (hp := instDecidableTrue) h0 (h.trans (if_pos trivial).symm) trivial H
theorem Ev.br {c : Prop} {hc : Decidable c} {t n : Nat} {st' : List mV} (h : mbx k pc st = some (@decide c hc, t, n, st')) (ht : c → Ev d k t L st' S r) (hf : ¬ c → Ev d k n L st' S r) : Ev d k pc L st S r := by
  have key : ∀ (b : Bool), mbx k pc st = some (b, t, n, st') → Ev d k (bif b then t else n) L st' S r → Ev d k pc L st S r := by
    intro b h H
    obtain ⟨f, hf⟩ := H
    refine ⟨f + 1, ?_⟩
    unfold mbx at h
    unfold mgo
    cases hi : mins k pc with
    | none => rw [hi] at h; cases h
    | some e =>
      obtain ⟨i, nx, v, a, b⟩ := e
      rw [hi] at h
      dsimp only at h ⊢
      split at h
      · rename_i hk
        rw [hk]
        dsimp only
        split at h
        · rename_i hb
          cases h
          rw [hb]
          exact hf
        · cases h
      · cases h
  refine key _ h ?_
  by_cases q : c
  · rw [decide_eq_true q]; exact ht q
  · rw [decide_eq_false q]; exact hf q
theorem mcal_ent {e : mE} {k' : Nat} {As rest : List mV} {L0 : List (Option mV)} (h : mcal e st S = some (k', As, L0, rest)) : L0 = mEnt As (mml k') := by
  obtain ⟨i, nx, v, a, b⟩ := e
  unfold mcal at h
  dsimp only at h
  repeat' (split at h)
  all_goals first | cases h | (simp only [cond_eq_ite] at h; split at h <;> cases h <;> rfl)
theorem Ev.call {k' nx : Nat} {As rest : List mV} {S1 : mS} {v : Option mV} (h : mcx k pc st S = some (k', As, rest, nx)) (H1 : Run d k' As S S1 v) (H : Ev (d + 1) k nx L (mpush v rest) S1 r) : Ev (d + 1) k pc L st S r := by
  obtain ⟨f, hf⟩ := H
  obtain ⟨g, hg⟩ := H1
  refine ⟨max f g + 1, ?_⟩
  unfold mcx at h
  unfold mgo
  cases hi : mins k pc with
  | none => rw [hi] at h; cases h
  | some e =>
    obtain ⟨i, nx, v, a, b⟩ := e
    rw [hi] at h
    dsimp only at h ⊢
    split at h
    · rename_i hk
      rw [hk]
      dsimp only
      split at h
      · rename_i hc
        cases h
        have hL := mcal_ent hc
        subst hL
        rw [hc]
        dsimp only
        rw [mgo_le hg (Nat.le_max_right f g)]
        exact mgo_le hf (Nat.le_max_left f g)
      · cases h
    · cases h
/-- a call that throws: on to the caller, or caught here -/
theorem Ev.callx {k' nx E : Nat} {As rest : List mV} {S1 : mS} (h : mcx k pc st S = some (k', As, rest, nx)) (H1 : RunX d k' As S S1 E) (hh : mhd (mgg k) pc E = some none) : Ev (d + 1) k pc L st S (S1, .inr E) := by
  obtain ⟨g, hg⟩ := H1
  refine ⟨g + 1, ?_⟩
  unfold mcx at h
  unfold mgo
  cases hi : mins k pc with
  | none => rw [hi] at h; cases h
  | some e =>
    obtain ⟨i, nx, v, a, b⟩ := e
    rw [hi] at h
    dsimp only at h ⊢
    split at h
    · rename_i hk
      rw [hk]
      dsimp only
      split at h
      · rename_i hc
        cases h
        have hL := mcal_ent hc
        subst hL
        rw [hc]
        dsimp only
        rw [hg]
        dsimp only
        rw [hh]
      · cases h
    · cases h
theorem Ev.callc {k' nx E n j : Nat} {As rest : List mV} {S1 : mS} (h : mcx k pc st S = some (k', As, rest, nx)) (H1 : RunX d k' As S S1 E) (hh : mhd (mgg k) pc E = some (some (n, j))) (H : Ev (d + 1) k n (mset (mclr L j) j none) [] S1 r) : Ev (d + 1) k pc L st S r := by
  obtain ⟨g, hg⟩ := H1
  obtain ⟨f, hf⟩ := H
  refine ⟨max f g + 1, ?_⟩
  unfold mcx at h
  unfold mgo
  cases hi : mins k pc with
  | none => rw [hi] at h; cases h
  | some e =>
    obtain ⟨i, nx, v, a, b⟩ := e
    rw [hi] at h
    dsimp only at h ⊢
    split at h
    · rename_i hk
      rw [hk]
      dsimp only
      split at h
      · rename_i hc
        cases h
        have hL := mcal_ent hc
        subst hL
        rw [hc]
        dsimp only
        rw [mgo_le hg (Nat.le_max_right f g)]
        dsimp only
        rw [hh]
        exact mgo_le hf (Nat.le_max_left f g)
      · cases h
    · cases h
/-- a throw that this method doesn't catch; one that it does -/
theorem Ev.thr {p2 E : Nat} {S1 : mS} (h : mtx k pc L st S = some (p2, E, S1)) (hh : mhd (mgg k) p2 E = some none) : Ev d k pc L st S (S1, .inr E) := by
  refine ⟨1, ?_⟩
  unfold mtx at h
  unfold mgo
  cases hi : mins k pc with
  | none => rw [hi] at h; cases h
  | some e =>
    obtain ⟨i, nx, v, a, b⟩ := e
    rw [hi] at h
    dsimp only at h ⊢
    split at h
    · rename_i hk
      rw [hk]
      dsimp only
      split at h
      · cases h
      · rename_i hs
        split at h
        · cases h
        · rename_i ht
          cases h
          rw [hs, ht]
          dsimp only
          rw [hh]
    · cases h
theorem Ev.thc {p2 E n j : Nat} {S1 : mS} (h : mtx k pc L st S = some (p2, E, S1)) (hh : mhd (mgg k) p2 E = some (some (n, j))) (H : Ev d k n (mset (mclr L j) j none) [] S1 r) : Ev d k pc L st S r := by
  obtain ⟨f, hf⟩ := H
  refine ⟨f + 1, ?_⟩
  unfold mtx at h
  unfold mgo
  cases hi : mins k pc with
  | none => rw [hi] at h; cases h
  | some e =>
    obtain ⟨i, nx, v, a, b⟩ := e
    rw [hi] at h
    dsimp only at h ⊢
    split at h
    · rename_i hk
      rw [hk]
      dsimp only
      split at h
      · cases h
      · rename_i hs
        split at h
        · cases h
        · rename_i ht
          cases h
          rw [hs, ht]
          dsimp only
          rw [hh]
          exact hf
    · cases h
theorem Ev.ret {v : Option mV} (h : mrx k pc st = some v) : Ev d k pc L st S (S, .inl v) := by
  refine ⟨1, ?_⟩
  unfold mrx at h
  unfold mgo
  cases hi : mins k pc with
  | none => rw [hi] at h; cases h
  | some e =>
    obtain ⟨i, nx, v, a, b⟩ := e
    rw [hi] at h
    dsimp only at h ⊢
    split at h
    · rename_i hk
      rw [hk]
      dsimp only
      rw [h]
    · cases h
end
/-- the reference's cells, behind its constructor: its object is 0, its arrays 1 .. 13 -/
def rTg (i : Nat) : Nat := match i with
  | 0 => 14
  | 10 => 53
  | _ => 50
def rLn (i : Nat) : Nat := match i with
  | 0 => 0
  | 1 => 960
  | 2 => 6
  | 3 => 160
  | 4 => 11
  | 5 => 25
  | 6 => 5
  | 7 => 27
  | 8 => 11
  | 9 => 25
  | 10 => 4
  | 11 => 4
  | 12 => 4
  | _ => 160
def rRv (i k : Nat) : Option (Nat × Nat) := match i with
  | 0 => (match k with
    | 1 => some (1, 1)
    | 2 => some (1, 2)
    | 5 => some (1, 3)
    | 7 => some (1, 4)
    | 10 => some (1, 5)
    | 27 => some (1, 6)
    | 28 => some (1, 7)
    | 29 => some (1, 8)
    | 30 => some (1, 9)
    | 35 => some (1, 10)
    | 36 => some (1, 11)
    | 37 => some (1, 12)
    | 38 => some (1, 13)
    | _ => none)
  | _ => none
abbrev rS (C : mR) (iv : Nat → Nat → Int32) (lv : Nat → Nat → Int64) (T : mR) (c n : Nat) : mS := (C, (14, rTg, rLn, iv, lv, rRv), T, c, n)
