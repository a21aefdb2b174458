/-! THE SMALL MACHINE, 0: the words of the throws -/
set_option maxRecDepth 100000
set_option linter.unusedVariables false
def mwup : List String := ["java/lang/RuntimeException", "java/lang/Exception"]
def mwx (b : Nat) : List Cond := match b with
  | 0 => vx_at0 RX0 561 "java/lang/IndexOutOfBoundsException" mwup
  | 1 => vx_atN 8
  | 2 => vx_atM "java/lang/ClassCastException" mwup
  | _ => vx_atM "java/lang/NegativeArraySizeException" mwup
theorem mwx0_ot : (mwx 0).all vx_ot = true := by decide +kernel
theorem mwx1_ot : (mwx 1).all vx_ot = true := by decide +kernel
theorem mwx2_ot : (mwx 2).all vx_ot = true := by decide +kernel
theorem mwx3_ot : (mwx 3).all vx_ot = true := by decide +kernel
theorem mwx0_in : ((mwx 0).filter goodWord).all (fun w => lw_tbl.contains w) = true := by decide +kernel
theorem mwx1_in : ((mwx 1).filter goodWord).all (fun w => lw_tbl.contains w) = true := by decide +kernel
theorem mwx2_in : ((mwx 2).filter goodWord).all (fun w => lw_tbl.contains w) = true := by decide +kernel
theorem mwx3_in : ((mwx 3).filter goodWord).all (fun w => lw_tbl.contains w) = true := by decide +kernel
/-- the castables among them -/
def mwc : List (String × String) := [("java/lang/IndexOutOfBoundsException", "java/lang/IndexOutOfBoundsException"), ("java/lang/NegativeArraySizeException", "java/lang/NegativeArraySizeException"), ("java/lang/NullPointerException", "java/lang/NullPointerException"), ("java/lang/ClassCastException", "java/lang/ClassCastException"), ("java/lang/RuntimeException", "java/lang/Throwable")]
def mwd : List MethodName := [⟨"java/lang/RuntimeException", "<init>", "()V"⟩, ⟨"java/lang/Exception", "<init>", "()V"⟩, ⟨"java/lang/Throwable", "<init>", "()V"⟩, ⟨"java/lang/RuntimeException", "<init>", "(Ljava/lang/String;)V"⟩, ⟨"java/lang/Exception", "<init>", "(Ljava/lang/String;)V"⟩, ⟨"java/lang/Throwable", "<init>", "(Ljava/lang/String;)V"⟩]
def mwB : List Cond := mwc.map (fun q => Cond.castable q.1 q.2) ++ mwd.map Cond.declares
theorem mwB_in : mwB.all (fun w => lw_tbl.contains w) = true := by decide +kernel
theorem mwx0_ng : ((mwx 0).filter (fun w => !goodWord w)).all (fun w => mwB.contains w) = true := by decide +kernel
theorem mwx1_ng : ((mwx 1).filter (fun w => !goodWord w)).all (fun w => mwB.contains w) = true := by decide +kernel
theorem mwx2_ng : ((mwx 2).filter (fun w => !goodWord w)).all (fun w => mwB.contains w) = true := by decide +kernel
theorem mwx3_ng : ((mwx 3).filter (fun w => !goodWord w)).all (fun w => mwB.contains w) = true := by decide +kernel
theorem mw_mem {L B : List Cond} (h : L.all (fun w => B.contains w) = true) : ∀ w ∈ L, w ∈ B := fun w hw => List.contains_iff_mem.mp (List.all_eq_true.mp h w hw)
/-- all of a throw's words hold -/
theorem mw_at {args : Array Value} {s : State} {b : Nat} (h1 : ((mwx b).filter goodWord).all (fun w => lw_tbl.contains w) = true) (h2 : ((mwx b).filter (fun w => !goodWord w)).all (fun w => mwB.contains w) = true) (hts : ∀ w ∈ lw_all, w.before args s = true) (hC : ∀ q ∈ mwc, va_Nw (.castable q.1 q.2) s) (hD : ∀ q ∈ mwd, va_Nw (.declares q) s) : ∀ w ∈ mwx b, w.before args s = true := by
  refine vx_hat (B := mwB) (fun w hw => hts w (lw_g (mw_mem h1 w hw) (List.mem_filter.mp hw).2)) (mw_mem h2) (fun w hw => ?_)
  rcases List.mem_append.mp hw with hw | hw
  · obtain ⟨q, hq, rfl⟩ := List.mem_map.mp hw
    exact va_Nw.use rfl (hC q hq)
  · obtain ⟨q, hq, rfl⟩ := List.mem_map.mp hw
    exact va_Nw.use rfl (hD q hq)
