/-! NR: what every contract carries beside the steady words -/
set_option maxRecDepth 100000
def nwL : List Cond := [(Jvm.Cond.methodLinkNest "HadForVoice" (39 : Nat) ({ cls := "HadForVoice$Fault", name := "<init>", desc := "()V" } : Jvm.MethodName) "HadForVoice"), (Jvm.Cond.methodLinkNest "HadForVoice" (46 : Nat) ({ cls := "HadForVoice$Town", name := "<init>", desc := "()V" } : Jvm.MethodName) "HadForVoice"), (Jvm.Cond.methodLinkNest "HadForVoice" (141 : Nat) ({ cls := "HadForVoice$Trace", name := "<init>", desc := "()V" } : Jvm.MethodName) "HadForVoice"), (Jvm.Cond.fieldLinkNest "HadForVoice" (598 : Nat) "HadForVoice$Trace" "bodies" "[I" "HadForVoice"), (Jvm.Cond.fieldLinkNest "HadForVoice" (578 : Nat) "HadForVoice$Trace" "many" "I" "HadForVoice"), (Jvm.Cond.methodLinkNest "HadForVoice" (146 : Nat) ({ cls := "HadForVoice$Shelf", name := "<init>", desc := "()V" } : Jvm.MethodName) "HadForVoice"), (Jvm.Cond.fieldLinkNest "HadForVoice" (522 : Nat) "HadForVoice$Shelf" "held" "Ljava/lang/Object;" "HadForVoice"), (Jvm.Cond.fieldLinkNest "HadForVoice" (564 : Nat) "HadForVoice$Ticket" "number" "I" "HadForVoice"), (Jvm.Cond.castable "HadForVoice$Refusal" "HadForVoice$Refusal"), (Jvm.Cond.declares ({ cls := "HadForVoice$Refusal", name := "<init>", desc := "()V" } : Jvm.MethodName)), (Jvm.Cond.declares ({ cls := "HadForVoice$Refusal", name := "of", desc := "(I)LHadForVoice$Refusal;" } : Jvm.MethodName)), (Jvm.Cond.castable "HadForVoice$Fault" "HadForVoice$Fault"), (Jvm.Cond.castable "HadForVoice$Fault" "HadForVoice$Refusal"), (Jvm.Cond.declares ({ cls := "HadForVoice$Person", name := "number", desc := "()I" } : Jvm.MethodName)), (Jvm.Cond.declares ({ cls := "HadForVoice$Person", name := "needs", desc := "()I" } : Jvm.MethodName)), (Jvm.Cond.castable "HadForVoice$Maid" "HadForVoice$Gives"), (Jvm.Cond.castable "HadForVoice$Maid" "HadForVoice$Owes"), (Jvm.Cond.castable "HadForVoice$Maid" "HadForVoice$Takes"), (Jvm.Cond.castable "HadForVoice$Maid" "HadForVoice$Halves"), (Jvm.Cond.castable "HadForVoice$Maid" "HadForVoice$Person"), (Jvm.Cond.castable "HadForVoice$Miser" "HadForVoice$Gives"), (Jvm.Cond.castable "HadForVoice$Miser" "HadForVoice$Owes"), (Jvm.Cond.castable "HadForVoice$Miser" "HadForVoice$Takes"), (Jvm.Cond.castable "HadForVoice$Miser" "HadForVoice$Halves"), (Jvm.Cond.castable "HadForVoice$Miser" "HadForVoice$Person"), (Jvm.Cond.castable "HadForVoice$Widow" "HadForVoice$Gives"), (Jvm.Cond.castable "HadForVoice$Widow" "HadForVoice$Owes"), (Jvm.Cond.castable "HadForVoice$Widow" "HadForVoice$Takes"), (Jvm.Cond.castable "HadForVoice$Widow" "HadForVoice$Halves"), (Jvm.Cond.castable "HadForVoice$Widow" "HadForVoice$Person"), (Jvm.Cond.castable "HadForVoice$Widow" "HadForVoice$Miser"), (Jvm.Cond.castable "HadForVoice$Prince" "HadForVoice$Gives"), (Jvm.Cond.castable "HadForVoice$Prince" "HadForVoice$Owes"), (Jvm.Cond.castable "HadForVoice$Prince" "HadForVoice$Takes"), (Jvm.Cond.castable "HadForVoice$Prince" "HadForVoice$Halves"), (Jvm.Cond.castable "HadForVoice$Prince" "HadForVoice$Person"), (Jvm.Cond.castable "HadForVoice$Beast" "HadForVoice$Owes"), (Jvm.Cond.castable "HadForVoice$Beast" "HadForVoice$Gives"), (Jvm.Cond.castable "HadForVoice$Beast" "HadForVoice$Takes"), (Jvm.Cond.castable "HadForVoice$Beast" "HadForVoice$Halves"), (Jvm.Cond.castable "HadForVoice$Beast" "HadForVoice$Person"), (Jvm.Cond.castable "HadForVoice$Beast" "HadForVoice$Prince"), (Jvm.Cond.declares ({ cls := "HadForVoice$Cond", name := "holds", desc := "([I)Z" } : Jvm.MethodName)), (Jvm.Cond.methodLinkNest "HadForVoice$Not" (1 : Nat) ({ cls := "HadForVoice$Cond", name := "<init>", desc := "()V" } : Jvm.MethodName) "HadForVoice"), (Jvm.Cond.methodLinkNest "HadForVoice$Asks" (1 : Nat) ({ cls := "HadForVoice$Cond", name := "<init>", desc := "()V" } : Jvm.MethodName) "HadForVoice"), (Jvm.Cond.methodLinkNest "HadForVoice$All" (1 : Nat) ({ cls := "HadForVoice$Cond", name := "<init>", desc := "()V" } : Jvm.MethodName) "HadForVoice"), (Jvm.Cond.methodLinkNest "HadForVoice$Rule" (25 : Nat) ({ cls := "HadForVoice", name := "isOf", desc := "(II)Z" } : Jvm.MethodName) "HadForVoice"), (Jvm.Cond.declares ({ cls := "HadForVoice$Gives", name := "gives", desc := "(ILHadForVoice$Trace;)I" } : Jvm.MethodName)), (Jvm.Cond.declares ({ cls := "HadForVoice$Gives", name := "needs", desc := "()I" } : Jvm.MethodName)), (Jvm.Cond.declares ({ cls := "HadForVoice$Gives", name := "number", desc := "()I" } : Jvm.MethodName)), (Jvm.Cond.declares ({ cls := "HadForVoice$Takes", name := "takes", desc := "(ILHadForVoice$Trace;)I" } : Jvm.MethodName)), (Jvm.Cond.declares ({ cls := "HadForVoice$Halves", name := "halves", desc := "(ILHadForVoice$Trace;)I" } : Jvm.MethodName)), (Jvm.Cond.declares ({ cls := "HadForVoice$Owes", name := "owes", desc := "(ILHadForVoice$Trace;)I" } : Jvm.MethodName)), (Jvm.Cond.declares ({ cls := "java/lang/Throwable", name := "<init>", desc := "()V" } : Jvm.MethodName)), (Jvm.Cond.declares ({ cls := "java/lang/Throwable", name := "<init>", desc := "(Ljava/lang/String;)V" } : Jvm.MethodName)), (Jvm.Cond.declares ({ cls := "java/lang/Throwable", name := "fillInStackTrace", desc := "()Ljava/lang/Throwable;" } : Jvm.MethodName)), (Jvm.Cond.declares ({ cls := "java/lang/Exception", name := "<init>", desc := "()V" } : Jvm.MethodName)), (Jvm.Cond.declares ({ cls := "java/lang/Exception", name := "<init>", desc := "(Ljava/lang/String;)V" } : Jvm.MethodName)), (Jvm.Cond.declares ({ cls := "java/lang/RuntimeException", name := "<init>", desc := "()V" } : Jvm.MethodName)), (Jvm.Cond.declares ({ cls := "java/lang/RuntimeException", name := "<init>", desc := "(Ljava/lang/String;)V" } : Jvm.MethodName)), (Jvm.Cond.castable "java/lang/RuntimeException" "java/lang/Throwable"), (Jvm.Cond.castable "java/lang/NegativeArraySizeException" "java/lang/NegativeArraySizeException"), (Jvm.Cond.castable "java/lang/ClassCastException" "java/lang/ClassCastException"), (Jvm.Cond.castable "java/lang/NullPointerException" "java/lang/NullPointerException"), (Jvm.Cond.castable "java/lang/ArithmeticException" "java/lang/ArithmeticException")]
def nwK (w : Cond) : Prop := (∃ a i b n d h, w = .fieldLinkNest a i b n d h) ∨ (∃ a i x h, w = .methodLinkNest a i x h) ∨ (∃ x, w = .declares x) ∨ ∃ C T, w = .castable C T
theorem nwL_K : ∀ w ∈ nwL, nwK w := by
  intro w hw
  unfold nwL at hw
  rcases List.mem_cons.mp hw with rfl | hw
  · exact Or.inr (Or.inl ⟨_, _, _, _, rfl⟩)
  rcases List.mem_cons.mp hw with rfl | hw
  · exact Or.inr (Or.inl ⟨_, _, _, _, rfl⟩)
  rcases List.mem_cons.mp hw with rfl | hw
  · exact Or.inr (Or.inl ⟨_, _, _, _, rfl⟩)
  rcases List.mem_cons.mp hw with rfl | hw
  · exact Or.inl ⟨_, _, _, _, _, _, rfl⟩
  rcases List.mem_cons.mp hw with rfl | hw
  · exact Or.inl ⟨_, _, _, _, _, _, rfl⟩
  rcases List.mem_cons.mp hw with rfl | hw
  · exact Or.inr (Or.inl ⟨_, _, _, _, rfl⟩)
  rcases List.mem_cons.mp hw with rfl | hw
  · exact Or.inl ⟨_, _, _, _, _, _, rfl⟩
  rcases List.mem_cons.mp hw with rfl | hw
  · exact Or.inl ⟨_, _, _, _, _, _, rfl⟩
  rcases List.mem_cons.mp hw with rfl | hw
  · exact Or.inr (Or.inr (Or.inr ⟨_, _, rfl⟩))
  rcases List.mem_cons.mp hw with rfl | hw
  · exact Or.inr (Or.inr (Or.inl ⟨_, rfl⟩))
  rcases List.mem_cons.mp hw with rfl | hw
  · exact Or.inr (Or.inr (Or.inl ⟨_, rfl⟩))
  rcases List.mem_cons.mp hw with rfl | hw
  · exact Or.inr (Or.inr (Or.inr ⟨_, _, rfl⟩))
  rcases List.mem_cons.mp hw with rfl | hw
  · exact Or.inr (Or.inr (Or.inr ⟨_, _, rfl⟩))
  rcases List.mem_cons.mp hw with rfl | hw
  · exact Or.inr (Or.inr (Or.inl ⟨_, rfl⟩))
  rcases List.mem_cons.mp hw with rfl | hw
  · exact Or.inr (Or.inr (Or.inl ⟨_, rfl⟩))
  rcases List.mem_cons.mp hw with rfl | hw
  · exact Or.inr (Or.inr (Or.inr ⟨_, _, rfl⟩))
  rcases List.mem_cons.mp hw with rfl | hw
  · exact Or.inr (Or.inr (Or.inr ⟨_, _, rfl⟩))
  rcases List.mem_cons.mp hw with rfl | hw
  · exact Or.inr (Or.inr (Or.inr ⟨_, _, rfl⟩))
  rcases List.mem_cons.mp hw with rfl | hw
  · exact Or.inr (Or.inr (Or.inr ⟨_, _, rfl⟩))
  rcases List.mem_cons.mp hw with rfl | hw
  · exact Or.inr (Or.inr (Or.inr ⟨_, _, rfl⟩))
  rcases List.mem_cons.mp hw with rfl | hw
  · exact Or.inr (Or.inr (Or.inr ⟨_, _, rfl⟩))
  rcases List.mem_cons.mp hw with rfl | hw
  · exact Or.inr (Or.inr (Or.inr ⟨_, _, rfl⟩))
  rcases List.mem_cons.mp hw with rfl | hw
  · exact Or.inr (Or.inr (Or.inr ⟨_, _, rfl⟩))
  rcases List.mem_cons.mp hw with rfl | hw
  · exact Or.inr (Or.inr (Or.inr ⟨_, _, rfl⟩))
  rcases List.mem_cons.mp hw with rfl | hw
  · exact Or.inr (Or.inr (Or.inr ⟨_, _, rfl⟩))
  rcases List.mem_cons.mp hw with rfl | hw
  · exact Or.inr (Or.inr (Or.inr ⟨_, _, rfl⟩))
  rcases List.mem_cons.mp hw with rfl | hw
  · exact Or.inr (Or.inr (Or.inr ⟨_, _, rfl⟩))
  rcases List.mem_cons.mp hw with rfl | hw
  · exact Or.inr (Or.inr (Or.inr ⟨_, _, rfl⟩))
  rcases List.mem_cons.mp hw with rfl | hw
  · exact Or.inr (Or.inr (Or.inr ⟨_, _, rfl⟩))
  rcases List.mem_cons.mp hw with rfl | hw
  · exact Or.inr (Or.inr (Or.inr ⟨_, _, rfl⟩))
  rcases List.mem_cons.mp hw with rfl | hw
  · exact Or.inr (Or.inr (Or.inr ⟨_, _, rfl⟩))
  rcases List.mem_cons.mp hw with rfl | hw
  · exact Or.inr (Or.inr (Or.inr ⟨_, _, rfl⟩))
  rcases List.mem_cons.mp hw with rfl | hw
  · exact Or.inr (Or.inr (Or.inr ⟨_, _, rfl⟩))
  rcases List.mem_cons.mp hw with rfl | hw
  · exact Or.inr (Or.inr (Or.inr ⟨_, _, rfl⟩))
  rcases List.mem_cons.mp hw with rfl | hw
  · exact Or.inr (Or.inr (Or.inr ⟨_, _, rfl⟩))
  rcases List.mem_cons.mp hw with rfl | hw
  · exact Or.inr (Or.inr (Or.inr ⟨_, _, rfl⟩))
  rcases List.mem_cons.mp hw with rfl | hw
  · exact Or.inr (Or.inr (Or.inr ⟨_, _, rfl⟩))
  rcases List.mem_cons.mp hw with rfl | hw
  · exact Or.inr (Or.inr (Or.inr ⟨_, _, rfl⟩))
  rcases List.mem_cons.mp hw with rfl | hw
  · exact Or.inr (Or.inr (Or.inr ⟨_, _, rfl⟩))
  rcases List.mem_cons.mp hw with rfl | hw
  · exact Or.inr (Or.inr (Or.inr ⟨_, _, rfl⟩))
  rcases List.mem_cons.mp hw with rfl | hw
  · exact Or.inr (Or.inr (Or.inr ⟨_, _, rfl⟩))
  rcases List.mem_cons.mp hw with rfl | hw
  · exact Or.inr (Or.inr (Or.inr ⟨_, _, rfl⟩))
  rcases List.mem_cons.mp hw with rfl | hw
  · exact Or.inr (Or.inr (Or.inl ⟨_, rfl⟩))
  rcases List.mem_cons.mp hw with rfl | hw
  · exact Or.inr (Or.inl ⟨_, _, _, _, rfl⟩)
  rcases List.mem_cons.mp hw with rfl | hw
  · exact Or.inr (Or.inl ⟨_, _, _, _, rfl⟩)
  rcases List.mem_cons.mp hw with rfl | hw
  · exact Or.inr (Or.inl ⟨_, _, _, _, rfl⟩)
  rcases List.mem_cons.mp hw with rfl | hw
  · exact Or.inr (Or.inl ⟨_, _, _, _, rfl⟩)
  rcases List.mem_cons.mp hw with rfl | hw
  · exact Or.inr (Or.inr (Or.inl ⟨_, rfl⟩))
  rcases List.mem_cons.mp hw with rfl | hw
  · exact Or.inr (Or.inr (Or.inl ⟨_, rfl⟩))
  rcases List.mem_cons.mp hw with rfl | hw
  · exact Or.inr (Or.inr (Or.inl ⟨_, rfl⟩))
  rcases List.mem_cons.mp hw with rfl | hw
  · exact Or.inr (Or.inr (Or.inl ⟨_, rfl⟩))
  rcases List.mem_cons.mp hw with rfl | hw
  · exact Or.inr (Or.inr (Or.inl ⟨_, rfl⟩))
  rcases List.mem_cons.mp hw with rfl | hw
  · exact Or.inr (Or.inr (Or.inl ⟨_, rfl⟩))
  rcases List.mem_cons.mp hw with rfl | hw
  · exact Or.inr (Or.inr (Or.inl ⟨_, rfl⟩))
  rcases List.mem_cons.mp hw with rfl | hw
  · exact Or.inr (Or.inr (Or.inl ⟨_, rfl⟩))
  rcases List.mem_cons.mp hw with rfl | hw
  · exact Or.inr (Or.inr (Or.inl ⟨_, rfl⟩))
  rcases List.mem_cons.mp hw with rfl | hw
  · exact Or.inr (Or.inr (Or.inl ⟨_, rfl⟩))
  rcases List.mem_cons.mp hw with rfl | hw
  · exact Or.inr (Or.inr (Or.inl ⟨_, rfl⟩))
  rcases List.mem_cons.mp hw with rfl | hw
  · exact Or.inr (Or.inr (Or.inl ⟨_, rfl⟩))
  rcases List.mem_cons.mp hw with rfl | hw
  · exact Or.inr (Or.inr (Or.inl ⟨_, rfl⟩))
  rcases List.mem_cons.mp hw with rfl | hw
  · exact Or.inr (Or.inr (Or.inr ⟨_, _, rfl⟩))
  rcases List.mem_cons.mp hw with rfl | hw
  · exact Or.inr (Or.inr (Or.inr ⟨_, _, rfl⟩))
  rcases List.mem_cons.mp hw with rfl | hw
  · exact Or.inr (Or.inr (Or.inr ⟨_, _, rfl⟩))
  rcases List.mem_cons.mp hw with rfl | hw
  · exact Or.inr (Or.inr (Or.inr ⟨_, _, rfl⟩))
  rcases List.mem_cons.mp hw with rfl | hw
  · exact Or.inr (Or.inr (Or.inr ⟨_, _, rfl⟩))
  cases hw
theorem nwK.warm {w : Cond} (h : nwK w) {s U : State} (hW : s.WarmedH U.vm) (hZ : va_Nw w s) : va_Nw w U := by
  rcases h with ⟨a, i, b, n, d, h, rfl⟩ | ⟨a, i, x, h, rfl⟩ | ⟨x, rfl⟩ | ⟨C, T, rfl⟩
  · exact va_Nw.warmF hW hZ
  · exact va_Nw.warmM hW hZ
  · exact va_Nw.warmD hW hZ
  · exact va_Nw.warmC hW hZ
theorem nwK.on {w : Cond} (h : nwK w) : w.onTables = true := by
  rcases h with ⟨a, i, b, n, d, h, rfl⟩ | ⟨a, i, x, h, rfl⟩ | ⟨x, rfl⟩ | ⟨C, T, rfl⟩ <;> rfl
def NW (U : State) : Prop := ∀ w ∈ nwL, va_Nw w U
def AOs (U : State) : Prop := va_AO "HadForVoice$Rule" U ∧ va_AO "HadForVoice$Person" U ∧ va_AO "java/lang/String" U ∧ va_AO "HadForVoice$Shelf" U
theorem AOs.moved {u U : State} (hvm : u.vm.Alike U.vm) (h : AOs u) : AOs U := by
  obtain ⟨h0, h1, h2, h3⟩ := h
  exact ⟨va_AO.moved hvm h0, va_AO.moved hvm h1, va_AO.moved hvm h2, va_AO.moved hvm h3⟩
/-- all of it; A: the cells that may change -/
def NR (A : Nat → Prop) (U : State) : Prop := NW U ∧ AOs U
theorem NR.step {A : Nat → Prop} {s U : State} {H : Heap} {locs : List Loc} (h : NR A s) (hS : va_S A s.heap H locs) (hU : U.heap = H) (hW : s.WarmedH U.vm) : NR A U := ⟨fun w hw => (nwL_K w hw).warm hW (h.1 w hw), h.2.moved hW.alike⟩
theorem NR.calling {A : Nat → Prop} {U : State} {g : JFrame} {mk : MethodId} {a : Array Value} (h : NR A U) : NR A (U.calling g mk a) := ⟨fun w hw => va_Nw.same (nwL_K w hw).on (u := U) rfl (h.1 w hw), h.2.moved (Vm.Alike.refl U.vm)⟩
theorem nq257 : (Jvm.Cond.methodLinkNest "HadForVoice" (39 : Nat) ({ cls := "HadForVoice$Fault", name := "<init>", desc := "()V" } : Jvm.MethodName) "HadForVoice") ∈ nwL := List.mem_of_getElem? (i := 0) rfl
theorem nq266 : (Jvm.Cond.methodLinkNest "HadForVoice" (46 : Nat) ({ cls := "HadForVoice$Town", name := "<init>", desc := "()V" } : Jvm.MethodName) "HadForVoice") ∈ nwL := List.mem_of_getElem? (i := 1) rfl
theorem nq372 : (Jvm.Cond.methodLinkNest "HadForVoice" (141 : Nat) ({ cls := "HadForVoice$Trace", name := "<init>", desc := "()V" } : Jvm.MethodName) "HadForVoice") ∈ nwL := List.mem_of_getElem? (i := 2) rfl
theorem nq377 : (Jvm.Cond.fieldLinkNest "HadForVoice" (598 : Nat) "HadForVoice$Trace" "bodies" "[I" "HadForVoice") ∈ nwL := List.mem_of_getElem? (i := 3) rfl
theorem nq379 : (Jvm.Cond.fieldLinkNest "HadForVoice" (578 : Nat) "HadForVoice$Trace" "many" "I" "HadForVoice") ∈ nwL := List.mem_of_getElem? (i := 4) rfl
theorem nq387 : (Jvm.Cond.methodLinkNest "HadForVoice" (146 : Nat) ({ cls := "HadForVoice$Shelf", name := "<init>", desc := "()V" } : Jvm.MethodName) "HadForVoice") ∈ nwL := List.mem_of_getElem? (i := 5) rfl
theorem nq391 : (Jvm.Cond.fieldLinkNest "HadForVoice" (522 : Nat) "HadForVoice$Shelf" "held" "Ljava/lang/Object;" "HadForVoice") ∈ nwL := List.mem_of_getElem? (i := 6) rfl
theorem nq1291 : (Jvm.Cond.fieldLinkNest "HadForVoice" (564 : Nat) "HadForVoice$Ticket" "number" "I" "HadForVoice") ∈ nwL := List.mem_of_getElem? (i := 7) rfl
theorem nq161 : (Jvm.Cond.castable "HadForVoice$Refusal" "HadForVoice$Refusal") ∈ nwL := List.mem_of_getElem? (i := 8) rfl
theorem nq250 : (Jvm.Cond.declares ({ cls := "HadForVoice$Refusal", name := "<init>", desc := "()V" } : Jvm.MethodName)) ∈ nwL := List.mem_of_getElem? (i := 9) rfl
theorem nq731 : (Jvm.Cond.declares ({ cls := "HadForVoice$Refusal", name := "of", desc := "(I)LHadForVoice$Refusal;" } : Jvm.MethodName)) ∈ nwL := List.mem_of_getElem? (i := 10) rfl
theorem nq249 : (Jvm.Cond.castable "HadForVoice$Fault" "HadForVoice$Fault") ∈ nwL := List.mem_of_getElem? (i := 11) rfl
theorem nq2216 : (Jvm.Cond.castable "HadForVoice$Fault" "HadForVoice$Refusal") ∈ nwL := List.mem_of_getElem? (i := 12) rfl
theorem nq1429 : (Jvm.Cond.declares ({ cls := "HadForVoice$Person", name := "number", desc := "()I" } : Jvm.MethodName)) ∈ nwL := List.mem_of_getElem? (i := 13) rfl
theorem nq1487 : (Jvm.Cond.declares ({ cls := "HadForVoice$Person", name := "needs", desc := "()I" } : Jvm.MethodName)) ∈ nwL := List.mem_of_getElem? (i := 14) rfl
theorem nq1358 : (Jvm.Cond.castable "HadForVoice$Maid" "HadForVoice$Gives") ∈ nwL := List.mem_of_getElem? (i := 15) rfl
theorem nq1370 : (Jvm.Cond.castable "HadForVoice$Maid" "HadForVoice$Owes") ∈ nwL := List.mem_of_getElem? (i := 16) rfl
theorem nq1402 : (Jvm.Cond.castable "HadForVoice$Maid" "HadForVoice$Takes") ∈ nwL := List.mem_of_getElem? (i := 17) rfl
theorem nq1451 : (Jvm.Cond.castable "HadForVoice$Maid" "HadForVoice$Halves") ∈ nwL := List.mem_of_getElem? (i := 18) rfl
theorem nq2218 : (Jvm.Cond.castable "HadForVoice$Maid" "HadForVoice$Person") ∈ nwL := List.mem_of_getElem? (i := 19) rfl
theorem nq1361 : (Jvm.Cond.castable "HadForVoice$Miser" "HadForVoice$Gives") ∈ nwL := List.mem_of_getElem? (i := 20) rfl
theorem nq1378 : (Jvm.Cond.castable "HadForVoice$Miser" "HadForVoice$Owes") ∈ nwL := List.mem_of_getElem? (i := 21) rfl
theorem nq1403 : (Jvm.Cond.castable "HadForVoice$Miser" "HadForVoice$Takes") ∈ nwL := List.mem_of_getElem? (i := 22) rfl
theorem nq1452 : (Jvm.Cond.castable "HadForVoice$Miser" "HadForVoice$Halves") ∈ nwL := List.mem_of_getElem? (i := 23) rfl
theorem nq2219 : (Jvm.Cond.castable "HadForVoice$Miser" "HadForVoice$Person") ∈ nwL := List.mem_of_getElem? (i := 24) rfl
theorem nq1367 : (Jvm.Cond.castable "HadForVoice$Widow" "HadForVoice$Gives") ∈ nwL := List.mem_of_getElem? (i := 25) rfl
theorem nq1382 : (Jvm.Cond.castable "HadForVoice$Widow" "HadForVoice$Owes") ∈ nwL := List.mem_of_getElem? (i := 26) rfl
theorem nq1405 : (Jvm.Cond.castable "HadForVoice$Widow" "HadForVoice$Takes") ∈ nwL := List.mem_of_getElem? (i := 27) rfl
theorem nq1454 : (Jvm.Cond.castable "HadForVoice$Widow" "HadForVoice$Halves") ∈ nwL := List.mem_of_getElem? (i := 28) rfl
theorem nq2221 : (Jvm.Cond.castable "HadForVoice$Widow" "HadForVoice$Person") ∈ nwL := List.mem_of_getElem? (i := 29) rfl
theorem nq2222 : (Jvm.Cond.castable "HadForVoice$Widow" "HadForVoice$Miser") ∈ nwL := List.mem_of_getElem? (i := 30) rfl
theorem nq1364 : (Jvm.Cond.castable "HadForVoice$Prince" "HadForVoice$Gives") ∈ nwL := List.mem_of_getElem? (i := 31) rfl
theorem nq1380 : (Jvm.Cond.castable "HadForVoice$Prince" "HadForVoice$Owes") ∈ nwL := List.mem_of_getElem? (i := 32) rfl
theorem nq1404 : (Jvm.Cond.castable "HadForVoice$Prince" "HadForVoice$Takes") ∈ nwL := List.mem_of_getElem? (i := 33) rfl
theorem nq1453 : (Jvm.Cond.castable "HadForVoice$Prince" "HadForVoice$Halves") ∈ nwL := List.mem_of_getElem? (i := 34) rfl
theorem nq2220 : (Jvm.Cond.castable "HadForVoice$Prince" "HadForVoice$Person") ∈ nwL := List.mem_of_getElem? (i := 35) rfl
theorem nq1339 : (Jvm.Cond.castable "HadForVoice$Beast" "HadForVoice$Owes") ∈ nwL := List.mem_of_getElem? (i := 36) rfl
theorem nq1352 : (Jvm.Cond.castable "HadForVoice$Beast" "HadForVoice$Gives") ∈ nwL := List.mem_of_getElem? (i := 37) rfl
theorem nq1401 : (Jvm.Cond.castable "HadForVoice$Beast" "HadForVoice$Takes") ∈ nwL := List.mem_of_getElem? (i := 38) rfl
theorem nq1450 : (Jvm.Cond.castable "HadForVoice$Beast" "HadForVoice$Halves") ∈ nwL := List.mem_of_getElem? (i := 39) rfl
theorem nq2217 : (Jvm.Cond.castable "HadForVoice$Beast" "HadForVoice$Person") ∈ nwL := List.mem_of_getElem? (i := 40) rfl
theorem nq2223 : (Jvm.Cond.castable "HadForVoice$Beast" "HadForVoice$Prince") ∈ nwL := List.mem_of_getElem? (i := 41) rfl
theorem nq608 : (Jvm.Cond.declares ({ cls := "HadForVoice$Cond", name := "holds", desc := "([I)Z" } : Jvm.MethodName)) ∈ nwL := List.mem_of_getElem? (i := 42) rfl
theorem nq818 : (Jvm.Cond.methodLinkNest "HadForVoice$Not" (1 : Nat) ({ cls := "HadForVoice$Cond", name := "<init>", desc := "()V" } : Jvm.MethodName) "HadForVoice") ∈ nwL := List.mem_of_getElem? (i := 43) rfl
theorem nq858 : (Jvm.Cond.methodLinkNest "HadForVoice$Asks" (1 : Nat) ({ cls := "HadForVoice$Cond", name := "<init>", desc := "()V" } : Jvm.MethodName) "HadForVoice") ∈ nwL := List.mem_of_getElem? (i := 44) rfl
theorem nq875 : (Jvm.Cond.methodLinkNest "HadForVoice$All" (1 : Nat) ({ cls := "HadForVoice$Cond", name := "<init>", desc := "()V" } : Jvm.MethodName) "HadForVoice") ∈ nwL := List.mem_of_getElem? (i := 45) rfl
theorem nq604 : (Jvm.Cond.methodLinkNest "HadForVoice$Rule" (25 : Nat) ({ cls := "HadForVoice", name := "isOf", desc := "(II)Z" } : Jvm.MethodName) "HadForVoice") ∈ nwL := List.mem_of_getElem? (i := 46) rfl
theorem nq1338 : (Jvm.Cond.declares ({ cls := "HadForVoice$Gives", name := "gives", desc := "(ILHadForVoice$Trace;)I" } : Jvm.MethodName)) ∈ nwL := List.mem_of_getElem? (i := 47) rfl
theorem nq1351 : (Jvm.Cond.declares ({ cls := "HadForVoice$Gives", name := "needs", desc := "()I" } : Jvm.MethodName)) ∈ nwL := List.mem_of_getElem? (i := 48) rfl
theorem nq1407 : (Jvm.Cond.declares ({ cls := "HadForVoice$Gives", name := "number", desc := "()I" } : Jvm.MethodName)) ∈ nwL := List.mem_of_getElem? (i := 49) rfl
theorem nq1390 : (Jvm.Cond.declares ({ cls := "HadForVoice$Takes", name := "takes", desc := "(ILHadForVoice$Trace;)I" } : Jvm.MethodName)) ∈ nwL := List.mem_of_getElem? (i := 50) rfl
theorem nq1436 : (Jvm.Cond.declares ({ cls := "HadForVoice$Halves", name := "halves", desc := "(ILHadForVoice$Trace;)I" } : Jvm.MethodName)) ∈ nwL := List.mem_of_getElem? (i := 51) rfl
theorem nq1469 : (Jvm.Cond.declares ({ cls := "HadForVoice$Owes", name := "owes", desc := "(ILHadForVoice$Trace;)I" } : Jvm.MethodName)) ∈ nwL := List.mem_of_getElem? (i := 52) rfl
theorem nq166 : (Jvm.Cond.declares ({ cls := "java/lang/Throwable", name := "<init>", desc := "()V" } : Jvm.MethodName)) ∈ nwL := List.mem_of_getElem? (i := 53) rfl
theorem nq167 : (Jvm.Cond.declares ({ cls := "java/lang/Throwable", name := "<init>", desc := "(Ljava/lang/String;)V" } : Jvm.MethodName)) ∈ nwL := List.mem_of_getElem? (i := 54) rfl
theorem nq206 : (Jvm.Cond.declares ({ cls := "java/lang/Throwable", name := "fillInStackTrace", desc := "()Ljava/lang/Throwable;" } : Jvm.MethodName)) ∈ nwL := List.mem_of_getElem? (i := 55) rfl
theorem nq164 : (Jvm.Cond.declares ({ cls := "java/lang/Exception", name := "<init>", desc := "()V" } : Jvm.MethodName)) ∈ nwL := List.mem_of_getElem? (i := 56) rfl
theorem nq165 : (Jvm.Cond.declares ({ cls := "java/lang/Exception", name := "<init>", desc := "(Ljava/lang/String;)V" } : Jvm.MethodName)) ∈ nwL := List.mem_of_getElem? (i := 57) rfl
theorem nq162 : (Jvm.Cond.declares ({ cls := "java/lang/RuntimeException", name := "<init>", desc := "()V" } : Jvm.MethodName)) ∈ nwL := List.mem_of_getElem? (i := 58) rfl
theorem nq163 : (Jvm.Cond.declares ({ cls := "java/lang/RuntimeException", name := "<init>", desc := "(Ljava/lang/String;)V" } : Jvm.MethodName)) ∈ nwL := List.mem_of_getElem? (i := 59) rfl
theorem nq1264 : (Jvm.Cond.castable "java/lang/RuntimeException" "java/lang/Throwable") ∈ nwL := List.mem_of_getElem? (i := 60) rfl
theorem nq1186 : (Jvm.Cond.castable "java/lang/NegativeArraySizeException" "java/lang/NegativeArraySizeException") ∈ nwL := List.mem_of_getElem? (i := 61) rfl
theorem nq1238 : (Jvm.Cond.castable "java/lang/ClassCastException" "java/lang/ClassCastException") ∈ nwL := List.mem_of_getElem? (i := 62) rfl
theorem nq1262 : (Jvm.Cond.castable "java/lang/NullPointerException" "java/lang/NullPointerException") ∈ nwL := List.mem_of_getElem? (i := 63) rfl
theorem nq1334 : (Jvm.Cond.castable "java/lang/ArithmeticException" "java/lang/ArithmeticException") ∈ nwL := List.mem_of_getElem? (i := 64) rfl
