/-! READERS: contracts of methods that read the heap and change nothing; rows over any world; what else is known of the tables (castable pairs, interfaces, array classes) -/
set_option maxRecDepth 100000
def cxw : List Cond := [.castable "ShaveOfAnother$Wrong" "ShaveOfAnother$Wrong", .castable "ShaveOfAnother$After" "ShaveOfAnother$Sum", .castable "ShaveOfAnother$Chain" "ShaveOfAnother$Sum", .castable "ShaveOfAnother$If" "ShaveOfAnother$Sum", .castable "ShaveOfAnother$All" "ShaveOfAnother$Asked", .castable "ShaveOfAnother$Compared" "ShaveOfAnother$Asked", .castable "ShaveOfAnother$Minus" "ShaveOfAnother$Sum", .castable "ShaveOfAnother$Name" "ShaveOfAnother$Sum", .castable "ShaveOfAnother$Plain" "ShaveOfAnother$Sum", .castable "ShaveOfAnother$Not" "ShaveOfAnother$Asked", .castable "ShaveOfAnother$Text" "java/lang/Object", .castable "ShaveOfAnother$Sum" "java/lang/Object", .castable "java/lang/String" "java/lang/Object", .castable "ShaveOfAnother" "java/lang/Object", .castable "ShaveOfAnother$State" "java/lang/Object", .castable "ShaveOfAnotherModel" "java/lang/Object", .castable "ShaveOfAnother$Tokens" "java/lang/Object", .castable "java/util/ArrayList" "java/lang/Object", .castable "ShaveOfAnother$Wrong" "java/lang/Object", .castable "ShaveOfAnother$Chain" "java/lang/Object", .castable "ShaveOfAnother$Plain" "java/lang/Object", .castable "ShaveOfAnother$Not" "java/lang/Object", .castable "ShaveOfAnother$Compared" "java/lang/Object", .castable "ShaveOfAnother$All" "java/lang/Object", .castable "ShaveOfAnother$If" "java/lang/Object", .castable "ShaveOfAnother$After" "java/lang/Object", .castable "ShaveOfAnother$Name" "java/lang/Object", .castable "ShaveOfAnother$Minus" "java/lang/Object", .castable "java/lang/Integer" "java/lang/Object", .castable "ShaveOfAnother$Doing" "java/lang/Object", .castable "java/lang/Throwable" "java/lang/Object", .castable "[[I" "java/lang/Object", .castable "[LShaveOfAnother$Text;" "java/lang/Object", .castable "[I" "java/lang/Object", .castable "[B" "java/lang/Object", .castable "[LShaveOfAnother$Sum;" "java/lang/Object", .castable "[Ljava/lang/Object;" "java/lang/Object", .castable "[J" "java/lang/Object", .castable "[Z" "java/lang/Object", .castable "[Ljava/lang/String;" "java/lang/Object"]
theorem cxw_tbl : ∀ w ∈ cxw, w ∈ lw_tbl := List.forall_mem_cons.mpr ⟨q485, List.forall_mem_cons.mpr ⟨q907, List.forall_mem_cons.mpr ⟨q915, List.forall_mem_cons.mpr ⟨q923, List.forall_mem_cons.mpr ⟨q933, List.forall_mem_cons.mpr ⟨q944, List.forall_mem_cons.mpr ⟨q952, List.forall_mem_cons.mpr ⟨q960, List.forall_mem_cons.mpr ⟨q966, List.forall_mem_cons.mpr ⟨q972, List.forall_mem_cons.mpr ⟨q2045, List.forall_mem_cons.mpr ⟨q2046, List.forall_mem_cons.mpr ⟨q2047, List.forall_mem_cons.mpr ⟨q2048, List.forall_mem_cons.mpr ⟨q2049, List.forall_mem_cons.mpr ⟨q2050, List.forall_mem_cons.mpr ⟨q2051, List.forall_mem_cons.mpr ⟨q2052, List.forall_mem_cons.mpr ⟨q2053, List.forall_mem_cons.mpr ⟨q2054, List.forall_mem_cons.mpr ⟨q2055, List.forall_mem_cons.mpr ⟨q2056, List.forall_mem_cons.mpr ⟨q2057, List.forall_mem_cons.mpr ⟨q2058, List.forall_mem_cons.mpr ⟨q2059, List.forall_mem_cons.mpr ⟨q2060, List.forall_mem_cons.mpr ⟨q2061, List.forall_mem_cons.mpr ⟨q2062, List.forall_mem_cons.mpr ⟨q2063, List.forall_mem_cons.mpr ⟨q2064, List.forall_mem_cons.mpr ⟨q2065, List.forall_mem_cons.mpr ⟨q2069, List.forall_mem_cons.mpr ⟨q2070, List.forall_mem_cons.mpr ⟨q2071, List.forall_mem_cons.mpr ⟨q2072, List.forall_mem_cons.mpr ⟨q2073, List.forall_mem_cons.mpr ⟨q2074, List.forall_mem_cons.mpr ⟨q2075, List.forall_mem_cons.mpr ⟨q2076, List.forall_mem_cons.mpr ⟨q2077, fun _ h => absurd h List.not_mem_nil⟩⟩⟩⟩⟩⟩⟩⟩⟩⟩⟩⟩⟩⟩⟩⟩⟩⟩⟩⟩⟩⟩⟩⟩⟩⟩⟩⟩⟩⟩⟩⟩⟩⟩⟩⟩⟩⟩⟩⟩
theorem cxw_warm {s U : State} : ∀ w ∈ cxw, s.WarmedH U.vm → va_Nw w s → va_Nw w U := List.forall_mem_cons.mpr ⟨fun hW h => va_Nw.warmC hW h, List.forall_mem_cons.mpr ⟨fun hW h => va_Nw.warmC hW h, List.forall_mem_cons.mpr ⟨fun hW h => va_Nw.warmC hW h, List.forall_mem_cons.mpr ⟨fun hW h => va_Nw.warmC hW h, List.forall_mem_cons.mpr ⟨fun hW h => va_Nw.warmC hW h, List.forall_mem_cons.mpr ⟨fun hW h => va_Nw.warmC hW h, List.forall_mem_cons.mpr ⟨fun hW h => va_Nw.warmC hW h, List.forall_mem_cons.mpr ⟨fun hW h => va_Nw.warmC hW h, List.forall_mem_cons.mpr ⟨fun hW h => va_Nw.warmC hW h, List.forall_mem_cons.mpr ⟨fun hW h => va_Nw.warmC hW h, List.forall_mem_cons.mpr ⟨fun hW h => va_Nw.warmC hW h, List.forall_mem_cons.mpr ⟨fun hW h => va_Nw.warmC hW h, List.forall_mem_cons.mpr ⟨fun hW h => va_Nw.warmC hW h, List.forall_mem_cons.mpr ⟨fun hW h => va_Nw.warmC hW h, List.forall_mem_cons.mpr ⟨fun hW h => va_Nw.warmC hW h, List.forall_mem_cons.mpr ⟨fun hW h => va_Nw.warmC hW h, List.forall_mem_cons.mpr ⟨fun hW h => va_Nw.warmC hW h, List.forall_mem_cons.mpr ⟨fun hW h => va_Nw.warmC hW h, List.forall_mem_cons.mpr ⟨fun hW h => va_Nw.warmC hW h, List.forall_mem_cons.mpr ⟨fun hW h => va_Nw.warmC hW h, List.forall_mem_cons.mpr ⟨fun hW h => va_Nw.warmC hW h, List.forall_mem_cons.mpr ⟨fun hW h => va_Nw.warmC hW h, List.forall_mem_cons.mpr ⟨fun hW h => va_Nw.warmC hW h, List.forall_mem_cons.mpr ⟨fun hW h => va_Nw.warmC hW h, List.forall_mem_cons.mpr ⟨fun hW h => va_Nw.warmC hW h, List.forall_mem_cons.mpr ⟨fun hW h => va_Nw.warmC hW h, List.forall_mem_cons.mpr ⟨fun hW h => va_Nw.warmC hW h, List.forall_mem_cons.mpr ⟨fun hW h => va_Nw.warmC hW h, List.forall_mem_cons.mpr ⟨fun hW h => va_Nw.warmC hW h, List.forall_mem_cons.mpr ⟨fun hW h => va_Nw.warmC hW h, List.forall_mem_cons.mpr ⟨fun hW h => va_Nw.warmC hW h, List.forall_mem_cons.mpr ⟨fun hW h => va_Nw.warmC hW h, List.forall_mem_cons.mpr ⟨fun hW h => va_Nw.warmC hW h, List.forall_mem_cons.mpr ⟨fun hW h => va_Nw.warmC hW h, List.forall_mem_cons.mpr ⟨fun hW h => va_Nw.warmC hW h, List.forall_mem_cons.mpr ⟨fun hW h => va_Nw.warmC hW h, List.forall_mem_cons.mpr ⟨fun hW h => va_Nw.warmC hW h, List.forall_mem_cons.mpr ⟨fun hW h => va_Nw.warmC hW h, List.forall_mem_cons.mpr ⟨fun hW h => va_Nw.warmC hW h, List.forall_mem_cons.mpr ⟨fun hW h => va_Nw.warmC hW h, fun _ h => absurd h List.not_mem_nil⟩⟩⟩⟩⟩⟩⟩⟩⟩⟩⟩⟩⟩⟩⟩⟩⟩⟩⟩⟩⟩⟩⟩⟩⟩⟩⟩⟩⟩⟩⟩⟩⟩⟩⟩⟩⟩⟩⟩⟩
theorem cx_485 : Cond.castable "ShaveOfAnother$Wrong" "ShaveOfAnother$Wrong" ∈ cxw := List.mem_of_getElem? (i := 0) rfl
theorem cx_907 : Cond.castable "ShaveOfAnother$After" "ShaveOfAnother$Sum" ∈ cxw := List.mem_of_getElem? (i := 1) rfl
theorem cx_915 : Cond.castable "ShaveOfAnother$Chain" "ShaveOfAnother$Sum" ∈ cxw := List.mem_of_getElem? (i := 2) rfl
theorem cx_923 : Cond.castable "ShaveOfAnother$If" "ShaveOfAnother$Sum" ∈ cxw := List.mem_of_getElem? (i := 3) rfl
theorem cx_933 : Cond.castable "ShaveOfAnother$All" "ShaveOfAnother$Asked" ∈ cxw := List.mem_of_getElem? (i := 4) rfl
theorem cx_944 : Cond.castable "ShaveOfAnother$Compared" "ShaveOfAnother$Asked" ∈ cxw := List.mem_of_getElem? (i := 5) rfl
theorem cx_952 : Cond.castable "ShaveOfAnother$Minus" "ShaveOfAnother$Sum" ∈ cxw := List.mem_of_getElem? (i := 6) rfl
theorem cx_960 : Cond.castable "ShaveOfAnother$Name" "ShaveOfAnother$Sum" ∈ cxw := List.mem_of_getElem? (i := 7) rfl
theorem cx_966 : Cond.castable "ShaveOfAnother$Plain" "ShaveOfAnother$Sum" ∈ cxw := List.mem_of_getElem? (i := 8) rfl
theorem cx_972 : Cond.castable "ShaveOfAnother$Not" "ShaveOfAnother$Asked" ∈ cxw := List.mem_of_getElem? (i := 9) rfl
theorem cx_2045 : Cond.castable "ShaveOfAnother$Text" "java/lang/Object" ∈ cxw := List.mem_of_getElem? (i := 10) rfl
theorem cx_2046 : Cond.castable "ShaveOfAnother$Sum" "java/lang/Object" ∈ cxw := List.mem_of_getElem? (i := 11) rfl
theorem cx_2047 : Cond.castable "java/lang/String" "java/lang/Object" ∈ cxw := List.mem_of_getElem? (i := 12) rfl
theorem cx_2048 : Cond.castable "ShaveOfAnother" "java/lang/Object" ∈ cxw := List.mem_of_getElem? (i := 13) rfl
theorem cx_2049 : Cond.castable "ShaveOfAnother$State" "java/lang/Object" ∈ cxw := List.mem_of_getElem? (i := 14) rfl
theorem cx_2050 : Cond.castable "ShaveOfAnotherModel" "java/lang/Object" ∈ cxw := List.mem_of_getElem? (i := 15) rfl
theorem cx_2051 : Cond.castable "ShaveOfAnother$Tokens" "java/lang/Object" ∈ cxw := List.mem_of_getElem? (i := 16) rfl
theorem cx_2052 : Cond.castable "java/util/ArrayList" "java/lang/Object" ∈ cxw := List.mem_of_getElem? (i := 17) rfl
theorem cx_2053 : Cond.castable "ShaveOfAnother$Wrong" "java/lang/Object" ∈ cxw := List.mem_of_getElem? (i := 18) rfl
theorem cx_2054 : Cond.castable "ShaveOfAnother$Chain" "java/lang/Object" ∈ cxw := List.mem_of_getElem? (i := 19) rfl
theorem cx_2055 : Cond.castable "ShaveOfAnother$Plain" "java/lang/Object" ∈ cxw := List.mem_of_getElem? (i := 20) rfl
theorem cx_2056 : Cond.castable "ShaveOfAnother$Not" "java/lang/Object" ∈ cxw := List.mem_of_getElem? (i := 21) rfl
theorem cx_2057 : Cond.castable "ShaveOfAnother$Compared" "java/lang/Object" ∈ cxw := List.mem_of_getElem? (i := 22) rfl
theorem cx_2058 : Cond.castable "ShaveOfAnother$All" "java/lang/Object" ∈ cxw := List.mem_of_getElem? (i := 23) rfl
theorem cx_2059 : Cond.castable "ShaveOfAnother$If" "java/lang/Object" ∈ cxw := List.mem_of_getElem? (i := 24) rfl
theorem cx_2060 : Cond.castable "ShaveOfAnother$After" "java/lang/Object" ∈ cxw := List.mem_of_getElem? (i := 25) rfl
theorem cx_2061 : Cond.castable "ShaveOfAnother$Name" "java/lang/Object" ∈ cxw := List.mem_of_getElem? (i := 26) rfl
theorem cx_2062 : Cond.castable "ShaveOfAnother$Minus" "java/lang/Object" ∈ cxw := List.mem_of_getElem? (i := 27) rfl
theorem cx_2063 : Cond.castable "java/lang/Integer" "java/lang/Object" ∈ cxw := List.mem_of_getElem? (i := 28) rfl
theorem cx_2064 : Cond.castable "ShaveOfAnother$Doing" "java/lang/Object" ∈ cxw := List.mem_of_getElem? (i := 29) rfl
theorem cx_2065 : Cond.castable "java/lang/Throwable" "java/lang/Object" ∈ cxw := List.mem_of_getElem? (i := 30) rfl
theorem cx_2069 : Cond.castable "[[I" "java/lang/Object" ∈ cxw := List.mem_of_getElem? (i := 31) rfl
theorem cx_2070 : Cond.castable "[LShaveOfAnother$Text;" "java/lang/Object" ∈ cxw := List.mem_of_getElem? (i := 32) rfl
theorem cx_2071 : Cond.castable "[I" "java/lang/Object" ∈ cxw := List.mem_of_getElem? (i := 33) rfl
theorem cx_2072 : Cond.castable "[B" "java/lang/Object" ∈ cxw := List.mem_of_getElem? (i := 34) rfl
theorem cx_2073 : Cond.castable "[LShaveOfAnother$Sum;" "java/lang/Object" ∈ cxw := List.mem_of_getElem? (i := 35) rfl
theorem cx_2074 : Cond.castable "[Ljava/lang/Object;" "java/lang/Object" ∈ cxw := List.mem_of_getElem? (i := 36) rfl
theorem cx_2075 : Cond.castable "[J" "java/lang/Object" ∈ cxw := List.mem_of_getElem? (i := 37) rfl
theorem cx_2076 : Cond.castable "[Z" "java/lang/Object" ∈ cxw := List.mem_of_getElem? (i := 38) rfl
theorem cx_2077 : Cond.castable "[Ljava/lang/String;" "java/lang/Object" ∈ cxw := List.mem_of_getElem? (i := 39) rfl
/-- an interface's method, and whose it is -/
def mSum : MethodName := ⟨"ShaveOfAnother$Sum", "of", "([I)J"⟩
def mAsk : MethodName := ⟨"ShaveOfAnother$Asked", "is", "([I)Z"⟩
def cfaces : List (String × MethodName × MethodName) := [("ShaveOfAnother$Plain", mSum, ⟨"ShaveOfAnother$Plain", "of", "([I)J"⟩), ("ShaveOfAnother$Name", mSum, ⟨"ShaveOfAnother$Name", "of", "([I)J"⟩), ("ShaveOfAnother$Minus", mSum, ⟨"ShaveOfAnother$Minus", "of", "([I)J"⟩), ("ShaveOfAnother$Chain", mSum, ⟨"ShaveOfAnother$Chain", "of", "([I)J"⟩), ("ShaveOfAnother$After", mSum, ⟨"ShaveOfAnother$After", "of", "([I)J"⟩), ("ShaveOfAnother$If", mSum, ⟨"ShaveOfAnother$If", "of", "([I)J"⟩), ("ShaveOfAnother$All", mAsk, ⟨"ShaveOfAnother$All", "is", "([I)Z"⟩), ("ShaveOfAnother$Compared", mAsk, ⟨"ShaveOfAnother$Compared", "is", "([I)Z"⟩), ("ShaveOfAnother$Not", mAsk, ⟨"ShaveOfAnother$Not", "is", "([I)Z"⟩)]
theorem cfaces_of {U : State} {A : Array Value} (ht : ∀ w ∈ lw_tbl, w.before A U = true) : ∀ f ∈ cfaces, va_Fw f.1 f.2.1 f.2.2 U := List.forall_mem_cons.mpr ⟨va_Fw.of (ht _ q906) (ht _ q905) (ht _ q970) (ht _ q968) (ht _ q966), List.forall_mem_cons.mpr ⟨va_Fw.of (ht _ q906) (ht _ q905) (ht _ q964) (ht _ q962) (ht _ q960), List.forall_mem_cons.mpr ⟨va_Fw.of (ht _ q906) (ht _ q905) (ht _ q956) (ht _ q954) (ht _ q952), List.forall_mem_cons.mpr ⟨va_Fw.of (ht _ q906) (ht _ q905) (ht _ q919) (ht _ q917) (ht _ q915), List.forall_mem_cons.mpr ⟨va_Fw.of (ht _ q906) (ht _ q905) (ht _ q911) (ht _ q909) (ht _ q907), List.forall_mem_cons.mpr ⟨va_Fw.of (ht _ q906) (ht _ q905) (ht _ q927) (ht _ q925) (ht _ q923), List.forall_mem_cons.mpr ⟨va_Fw.of (ht _ q932) (ht _ q931) (ht _ q937) (ht _ q935) (ht _ q933), List.forall_mem_cons.mpr ⟨va_Fw.of (ht _ q932) (ht _ q931) (ht _ q948) (ht _ q946) (ht _ q944), List.forall_mem_cons.mpr ⟨va_Fw.of (ht _ q932) (ht _ q931) (ht _ q976) (ht _ q974) (ht _ q972), fun _ h => absurd h List.not_mem_nil⟩⟩⟩⟩⟩⟩⟩⟩⟩
theorem cfaces_moved {u U : State} (hvm : u.vm.Alike U.vm) : ∀ f ∈ cfaces, va_Fw f.1 f.2.1 f.2.2 u → va_Fw f.1 f.2.1 f.2.2 U := List.forall_mem_cons.mpr ⟨fun h => va_Fw.moved (by decide) hvm h, List.forall_mem_cons.mpr ⟨fun h => va_Fw.moved (by decide) hvm h, List.forall_mem_cons.mpr ⟨fun h => va_Fw.moved (by decide) hvm h, List.forall_mem_cons.mpr ⟨fun h => va_Fw.moved (by decide) hvm h, List.forall_mem_cons.mpr ⟨fun h => va_Fw.moved (by decide) hvm h, List.forall_mem_cons.mpr ⟨fun h => va_Fw.moved (by decide) hvm h, List.forall_mem_cons.mpr ⟨fun h => va_Fw.moved (by decide) hvm h, List.forall_mem_cons.mpr ⟨fun h => va_Fw.moved (by decide) hvm h, List.forall_mem_cons.mpr ⟨fun h => va_Fw.moved (by decide) hvm h, fun _ h => absurd h List.not_mem_nil⟩⟩⟩⟩⟩⟩⟩⟩⟩
theorem face_Plain : ("ShaveOfAnother$Plain", mSum, (⟨"ShaveOfAnother$Plain", "of", "([I)J"⟩ : MethodName)) ∈ cfaces := List.mem_of_getElem? (i := 0) rfl
theorem face_Name : ("ShaveOfAnother$Name", mSum, (⟨"ShaveOfAnother$Name", "of", "([I)J"⟩ : MethodName)) ∈ cfaces := List.mem_of_getElem? (i := 1) rfl
theorem face_Minus : ("ShaveOfAnother$Minus", mSum, (⟨"ShaveOfAnother$Minus", "of", "([I)J"⟩ : MethodName)) ∈ cfaces := List.mem_of_getElem? (i := 2) rfl
theorem face_Chain : ("ShaveOfAnother$Chain", mSum, (⟨"ShaveOfAnother$Chain", "of", "([I)J"⟩ : MethodName)) ∈ cfaces := List.mem_of_getElem? (i := 3) rfl
theorem face_After : ("ShaveOfAnother$After", mSum, (⟨"ShaveOfAnother$After", "of", "([I)J"⟩ : MethodName)) ∈ cfaces := List.mem_of_getElem? (i := 4) rfl
theorem face_If : ("ShaveOfAnother$If", mSum, (⟨"ShaveOfAnother$If", "of", "([I)J"⟩ : MethodName)) ∈ cfaces := List.mem_of_getElem? (i := 5) rfl
theorem face_All : ("ShaveOfAnother$All", mAsk, (⟨"ShaveOfAnother$All", "is", "([I)Z"⟩ : MethodName)) ∈ cfaces := List.mem_of_getElem? (i := 6) rfl
theorem face_Compared : ("ShaveOfAnother$Compared", mAsk, (⟨"ShaveOfAnother$Compared", "is", "([I)Z"⟩ : MethodName)) ∈ cfaces := List.mem_of_getElem? (i := 7) rfl
theorem face_Not : ("ShaveOfAnother$Not", mAsk, (⟨"ShaveOfAnother$Not", "is", "([I)Z"⟩ : MethodName)) ∈ cfaces := List.mem_of_getElem? (i := 8) rfl
/-- what else is known of the tables -/
def XK (U : State) : Prop := (∀ w ∈ cxw, va_Nw w U) ∧ (∀ f ∈ cfaces, va_Fw f.1 f.2.1 f.2.2 U) ∧ va_AO "ShaveOfAnother$Sum" U ∧ va_AO "java/lang/Object" U ∧ (∃ mi, va_Mi "[Ljava/lang/Object;" mi U) ∧ va_Dc U ∧ va_Nw (.declares (Bundle.init0 "java/lang/Throwable")) U
theorem XK.warm {s U : State} (hW : s.WarmedH U.vm) (h : XK s) : XK U := by
  obtain ⟨h1, h2, h3, h4, ⟨mi, h5⟩, h6, h7⟩ := h
  exact ⟨fun w hw => cxw_warm w hw hW (h1 w hw), fun f hf => cfaces_moved hW.alike f hf (h2 f hf), va_AO.moved hW.alike h3, va_AO.moved hW.alike h4, ⟨mi, va_Mi.moved hW.alike h5⟩, va_Dc.moved hW.alike h6, va_Nw.warmD hW h7⟩
/-- the heap at the method's start is H0 -/
theorem rd {K : KT} {H0 : Heap} (hH : (kS K).heap = H0) {P : Heap → Prop} (h : P H0) : ∀ H locs, pI K H locs → P H := fun H locs i => by rw [i.1, hH]; exact h
/-- a reader's contract: in the heap H0 it answers v and changes nothing -/
def RMet (Γ : CG) (tx : TXs Tx) (y : MethodName) (bytes : ByteArray) (maxL : Nat) (ret : Option FieldType) (rm : Room) (av : List Value) (H0 : Heap) (v : Option Value) : Prop :=
  ∀ l : Launch, Met l y (ws_ y bytes maxL ret) rm (va_Pc av (fun U => (U.heap = H0 ∧ gE Γ tx U H0) ∧ CK Γ U)) (pQc v) 0 0 (fun _ => False)
theorem RMet_blind {Γ : CG} {tx : TXs Tx} {av : List Value} {H0 : Heap} : FrameBlind (va_Pc av (fun U => (U.heap = H0 ∧ gE Γ tx U H0) ∧ CK Γ U)) := fun a U g mk q => by
  obtain ⟨q0, q1, qK⟩ := q
  have hW : U.WarmedH (U.calling g mk a).vm := State.WarmedH.refl U
  exact ⟨q0, ⟨q1.1, qK.2.2.2.2.2.1 _ _ _ _ hW.alike q1.2⟩, qK.warm hW⟩
theorem r_met {ρ : Type} {Γ : CG} {tx : TXs Tx} {y : MethodName} {bytes : ByteArray} {maxL : Nat} {ret : Option FieldType} {rm : Room} {av : List Value} {H0 : Heap} {comp : Option ρ} {view : ρ → Option Value} {ls0 : List (Nat × Value)} {own : String} (hc : y.cls = own) (hpl : plainName own = true) (hl : Nat.ble (lg_sl av).length maxL = true) (hls : lv_args 0 av = ls0)
    (body : ∀ K : KT, KOK K bytes maxL own rm ret → CK Γ (kS K) → (kS K).heap = H0 → gE Γ tx (kS K) H0 → GGo K (pQ K view) comp maxL (pI K) 0 0 0 ls0 []) (r : ρ) (hr : comp = some r) : RMet Γ tx y bytes maxL ret rm av H0 (view r) := by
  intro l
  subst hls
  refine Met.ofW (cc := bytes) (maxL := maxL) (ret := ret) (by rw [hc]; exact hpl) rfl ?_
  intro p e s m args below meth c s₁ B hml hv
  obtain ⟨rfl, ⟨hH, hE⟩, hKK⟩ := hv
  have hts := atoms_spec (ws := ws_ y bytes maxL ret) B.pre
  have hown : s.vm.findClass y.cls = some m.cls := findClass_of_methodNamed B.named
  rw [hc] at hown
  rw [lg_entry_eq]
  exact body (p, l, e, (headSpec (ws_ y bytes maxL ret) rm).room, s, m, av.toArray, below, meth, c) ⟨B.exec, B.bytes, hml, hown, fun w h => hts w (List.mem_cons_of_mem _ h), B.notSynchronized, B.returns, rfl⟩ hKK hH hE r hr s.heap [] _ ⟨rfl, rfl⟩ (lv_entry av (Nat.le_of_ble_eq_true hl))
section XR
variable {ρ : Type} {K : KT} {Q : ρ → State → Prop} {comp A B : Option ρ} {nL : Nat} {I : Heap → List Loc → Prop} {cs sl pc : Nat} {ls : List (Nat × Value)} {st : List Value} {cc : ByteArray} {rm : Room} {ret : Option FieldType} {Γ : CG} {own : String}
theorem x_get (hk : KOK K cc nL own rm ret) (hK : CK Γ (kS K)) {ci N idx : Nat} {C ref : String} {T : u_T} {fs : List Value} {a : Nat} {v : Value} (hc : ccl[ci]? = some (C, T, N)) (hin : ∀ w ∈ u_ws C T N, w ∈ lw_all) (ha : ∀ H locs, I H locs → va_at (gD Γ) ccl (a, .inr (ci, fs)) H) (k : Nat) (hkN : k < N) (hl : Cond.fieldLink own idx ref (T k).2.1 (T k).2.2.1 ∈ lw_all) (hs : (T k).1 = ref ∨ Cond.sameField ref (T k).1 (T k).2.1 (T k).2.2.1 ∈ lw_all) (hv : fs[k]? = some v) (hd : decode cc pc = .ok (.getfield idx, 3)) (kk : GGo K Q comp nL I cs sl (pc + 3) ls (v :: st)) : GGo K Q comp nL I cs sl pc ls (.ref a :: st) :=
  fun r hr H locs lsA hI hh => va_get (D := gD Γ) (ci := ci) (C := C) (T := T) (N := N) hk.1 hk.2.1 hk.2.2.2.2.1 hin hk.2.2.2.1 hK.1 (va_P1 (ha H locs hI)) 0 rfl hc k hkN (hk.2.2.2.2.1 _ hl) (fun x h9 => by
    rcases hs with h | h
    · rw [← h]; exact h9
    · exact u_same (hk.2.2.2.2.1 _ h) x h9) hv hd (kk r hr H locs lsA hI hh)
theorem x_getN (hk : KOK K cc nL own rm ret) (hK : CK Γ (kS K)) {ci N idx : Nat} {C host : String} {T : u_T} {fs : List Value} {a : Nat} {v : Value} (hc : ccl[ci]? = some (C, T, N)) (hin : ∀ w ∈ u_ws C T N, w ∈ lw_all) (ha : ∀ H locs, I H locs → va_at (gD Γ) ccl (a, .inr (ci, fs)) H) (k : Nat) (hkN : k < N) (hl : Cond.fieldLinkNest own idx C (T k).2.1 (T k).2.2.1 host ∈ cnw) (hs : (T k).1 = C) (hv : fs[k]? = some v) (hd : decode cc pc = .ok (.getfield idx, 3)) (kk : GGo K Q comp nL I cs sl (pc + 3) ls (v :: st)) : GGo K Q comp nL I cs sl pc ls (.ref a :: st) :=
  fun r hr H locs lsA hI hh => va_getN (D := gD Γ) (ci := ci) (C := C) (T := T) (N := N) hk.1 hk.2.1 hk.2.2.2.2.1 hin hk.2.2.2.1 hK.1 (va_P1 (ha H locs hI)) 0 rfl hc k hkN (hK.nest hl rfl) (fun x h9 => by rw [← hs]; exact h9) hv hd (kk r hr H locs lsA hI hh)
/-- an element of an array of references -/
theorem x_aald (hk : KOK K cc nL own rm ret) {cA : ClassId} {n a : Nat} {fv : Nat → Value} {ty : FieldType} {i : Int32} (hcell : ∀ H locs, I H locs → H[a]? = some (arrV cA n fv)) (hty : ArrOfT (kS K) cA ty) (href : ty.isReference = true) (hin : inb i n = true) (hd : decode cc pc = .ok (.aaload, 1)) (kk : GGo K Q A nL I cs sl (pc + 1) ls (fv i.toNatClampNeg :: st)) : GGo K Q A nL I cs sl pc ls (.int i :: .ref a :: st) := by
  intro r hr H locs lsA hI hh
  have hv := inb_vp hin
  exact W.aald (v := fv i.toNatClampNeg) (ty := ty) hk.1 hk.2.1 (hcell H locs hI) (hty _ _) href (fun q => by cases q) (by rw [arrV_size]; exact hv) (by rw [arrV_read _ _ (inb_lt hin)]) rfl rfl hd (kk r hr H locs lsA hI hh)
theorem x_alen (hk : KOK K cc nL own rm ret) {cA : ClassId} {n a : Nat} {fv : Nat → Value} {ty : FieldType} {v : Int32} (hcell : ∀ H locs, I H locs → H[a]? = some (arrV cA n fv)) (hty : ArrOfT (kS K) cA ty) (hv : Int32.ofNat n = v) (hd : decode cc pc = .ok (.arraylength, 1)) (kk : GGo K Q A nL I cs sl (pc + 1) ls (.int v :: st)) : GGo K Q A nL I cs sl pc ls (.ref a :: st) := by
  intro r hr H locs lsA hI hh
  exact W.alen hk.1 hk.2.1 (hcell H locs hI) (hty _ _) (by rw [arrV_size]; exact hv) rfl rfl hd (kk r hr H locs lsA hI hh)
theorem x_iald (hk : KOK K cc nL own rm ret) {cA : ClassId} {n a : Nat} {f : Nat → Int32} {i : Int32} (hcell : ∀ H locs, I H locs → H[a]? = some (arrV cA n (fun j => .int (f j)))) (hty : ArrOfT (kS K) cA .int) (hin : inb i n = true) (hd : decode cc pc = .ok (.iaload, 1)) (kk : GGo K Q A nL I cs sl (pc + 1) ls (.int (f i.toNatClampNeg) :: st)) : GGo K Q A nL I cs sl pc ls (.int i :: .ref a :: st) := by
  intro r hr H locs lsA hI hh
  have hv := inb_vp hin
  exact W.iald (v := .int (f i.toNatClampNeg)) hk.1 hk.2.1 (hcell H locs hI) (hty _ _) (fun q => by cases q) (by rw [arrV_size]; exact hv) (by rw [arrV_read _ _ (inb_lt hin)]) rfl rfl hd (kk r hr H locs lsA hI hh)
theorem x_checkcast (hk : KOK K cc nL own rm ret) (hX : XK (kS K)) {a idx : Nat} {C nm : String} (hl : Cond.classLink own idx nm ∈ lw_all) (hc : Cond.castable C nm ∈ cxw) (hr : ∀ H locs, I H locs → ∃ cell : Cell, H[a]? = some cell ∧ cell.vm.isStatics = false ∧ (kS K).vm.findClass C = some cell.cls) (hd : decode cc pc = .ok (.checkcast idx, 3)) (kk : GGo K Q comp nL I cs sl (pc + 3) ls (.ref a :: st)) : GGo K Q comp nL I cs sl pc ls (.ref a :: st) :=
  fun r hr9 H locs lsA hI hh => va_castY hk.1 hk.2.1 hk.2.2.2.1 (hk.2.2.2.2.1 _ hl) (hX.1 _ hc) (hr H locs hI) hd (kk r hr9 H locs lsA hI hh)
theorem x_aconst_null (hk : KOK K cc nL own rm ret) (hd : decode cc pc = .ok (.aconst_null, 1)) (kk : GGo K Q comp nL I cs sl (pc + 1) ls (.null :: st)) : GGo K Q comp nL I cs sl pc ls st :=
  fun r hr H locs lsA hI hh => lv_null hk.1 hk.2.1 hd (kk r hr H locs lsA hI hh)
theorem p_aret {view : ρ → Option Value} {x : Nat} {r0 : ρ} {rt : FieldType} (hk : KOK K cc nL own rm (some rt)) (hrt : (∃ n, rt = .object n) ∨ ∃ t, rt = .array t) (hv : view r0 = some (.ref x)) (hd : decode cc pc = .ok (.areturn, 1)) : GGo K (pQ K view) (some r0) nL (pI K) 0 0 pc ls [.ref x] := by
  intro r hr H locs lsA hI hh
  cases hr
  obtain ⟨rfl, rfl⟩ := hI
  refine W.aret hk.1 hk.2.1 hk.2.2.2.2.2.2.1 hrt (Or.inr ⟨x, rfl⟩) (fun t ht hW => ?_) (fun _ h => by cases h) hd hk.2.2.2.2.2.1
  rw [hv]
  exact ⟨rfl, ht⟩
theorem x_callV (hk : KOK K cc nL own rm ret) (hK : CK Γ (kS K)) {tx : TXs Tx} (hE : ∀ H locs, I H locs → gE Γ tx (kS K) H) {y : MethodName} {bytes : ByteArray} {maxL n idx : Nat} {retY : Option FieldType} {rmY : Room} {v : Option Value} {stk st2 : List Value} {C : String} {a0 : Nat} (hrec : ∀ H locs, I H locs → ∃ cell : Cell, H[a0]? = some cell ∧ cell.vm.isStatics = false ∧ (kS K).vm.findClass C = some cell.cls) (As : List Value) (st : List Value) (hM : ∀ H locs, I H locs → RMet Γ tx y bytes maxL retY rmY (.ref a0 :: As) H v) (hG : GoodIn lw_all (wsV own idx C y (ws_ y bytes maxL retY))) (hy : y.cls = C ∧ y.cls ≠ "java/lang/invoke/MethodHandle" ∧ y.cls ≠ "java/lang/invoke/VarHandle" ∧ (parseMethodDescriptor y.desc).map (fun d => d.parameters.length) = some n) (hrm : rmFit maxL rmY rm = true) (hc0 : rmY.cells = 0 ∧ rmY.slots = 0) (hn : As.length = n) (hs : Nat.ble ((st.map fun v => v.category).sum) 8 = true) (hd : decode cc pc = .ok (.invokevirtual idx, 3)) (hstk : stk = As.reverse ++ .ref a0 :: st) (hst2 : v.toList ++ st = st2) (hcs : cs ≤ rm.cells ∧ sl ≤ rm.slots) (kk : GGo K Q comp nL I cs sl (pc + 3) ls st2) : GGo K Q comp nL I cs sl pc ls stk := by
  subst hst2
  intro r hr H locs lsA hI hh T hT X
  obtain ⟨v', st₀, t, T', L, h0, X', hL, e1, e2, ⟨hv, hz⟩, stp⟩ := va_runV (g := F0 (kM K) pc lsA stk) (As := As) (rest := st) (cc := cc) (nL := nL) (own := own) (Ts := lw_all) ⟨hk.1, hk.2.1, hk.2.2.1, hk.2.2.2.1, hk.2.2.2.2.1⟩ (hM H locs hI K.2.1) (cwV n hk.2.2.2.2.1 hG rfl hc0.1 hc0.2 hy (rmFit_ok hrm hk.2.2.2.2.2.2.2)) ⟨RMet_blind, hrec H locs hI, fun U hU hW => ⟨rfl, ⟨hU, hK.2.2.2.2.2.1 _ _ _ _ hW.alike (hE H locs hI)⟩, hK.warm hW⟩⟩ rfl hn hh.1 hstk (lv_room (Nat.le_of_ble_eq_true hs)) hd ⟨(by show cs + 0 ≤ (kR K).cells; rw [hk.2.2.2.2.2.2.2]; exact hcs.1), (by show sl + 0 ≤ (kR K).slots; rw [hk.2.2.2.2.2.2.2]; exact hcs.2)⟩ T hT X
  cases hv
  have hL0 : L = [] := by
    cases L with
    | nil => rfl
    | cons a t => exact absurd (hL a List.mem_cons_self) id
  subst hL0
  rw [List.append_nil] at X'
  have e3 : T'.heap = H := by rw [e1, hz, h0]
  obtain ⟨t2, a1, b1⟩ := kk r hr H locs lsA hI hh T' e3 X'
  exact ⟨t2, stp t2 a1, b1⟩
theorem x_callS (hk : KOK K cc nL own rm ret) (hK : CK Γ (kS K)) {tx : TXs Tx} (hE : ∀ H locs, I H locs → gE Γ tx (kS K) H) {y : MethodName} {bytes : ByteArray} {maxL n idx : Nat} {retY : Option FieldType} {rmY : Room} {v : Option Value} {stk st2 : List Value} (As : List Value) (st : List Value) (hM : ∀ H locs, I H locs → RMet Γ tx y bytes maxL retY rmY As H v) (hG : GoodIn lw_all (va_wsS own idx y (ws_ y bytes maxL retY))) (hy : y.cls ≠ "java/lang/invoke/MethodHandle" ∧ y.cls ≠ "java/lang/invoke/VarHandle" ∧ (parseMethodDescriptor y.desc).map (fun d => d.parameters.length) = some n) (hrm : rmFit maxL rmY rm = true) (hc0 : rmY.cells = 0 ∧ rmY.slots = 0) (hn : As.length = n) (hs : Nat.ble ((st.map fun v => v.category).sum) 8 = true) (hd : decode cc pc = .ok (.invokestatic idx, 3)) (hstk : stk = As.reverse ++ st) (hst2 : v.toList ++ st = st2) (hcs : cs ≤ rm.cells ∧ sl ≤ rm.slots) (kk : GGo K Q comp nL I cs sl (pc + 3) ls st2) : GGo K Q comp nL I cs sl pc ls stk := by
  subst hst2
  intro r hr H locs lsA hI hh T hT X
  obtain ⟨v', st₀, t, T', L, h0, X', hL, e1, e2, ⟨hv, hz⟩, stp⟩ := va_runS (g := F0 (kM K) pc lsA stk) (As := As) (rest := st) (cc := cc) (nL := nL) (own := own) (Ts := lw_all) ⟨hk.1, hk.2.1, hk.2.2.1, hk.2.2.2.1, hk.2.2.2.2.1⟩ (hM H locs hI K.2.1) (va_cwS n hk.2.2.2.2.1 hG rfl hc0.1 hc0.2 hy (rmFit_ok hrm hk.2.2.2.2.2.2.2)) ⟨RMet_blind, fun U hU hW => ⟨rfl, ⟨hU, hK.2.2.2.2.2.1 _ _ _ _ hW.alike (hE H locs hI)⟩, hK.warm hW⟩⟩ rfl hn hh.1 hstk (lv_room (Nat.le_of_ble_eq_true hs)) hd ⟨(by show cs + 0 ≤ (kR K).cells; rw [hk.2.2.2.2.2.2.2]; exact hcs.1), (by show sl + 0 ≤ (kR K).slots; rw [hk.2.2.2.2.2.2.2]; exact hcs.2)⟩ T hT X
  cases hv
  have hL0 : L = [] := by
    cases L with
    | nil => rfl
    | cons a t => exact absurd (hL a List.mem_cons_self) id
  subst hL0
  rw [List.append_nil] at X'
  have e3 : T'.heap = H := by rw [e1, hz, h0]
  obtain ⟨t2, a1, b1⟩ := kk r hr H locs lsA hI hh T' e3 X'
  exact ⟨t2, stp t2 a1, b1⟩
theorem x_callF (hk : KOK K cc nL own rm ret) (hK : CK Γ (kS K)) {tx : TXs Tx} (hE : ∀ H locs, I H locs → gE Γ tx (kS K) H) {y : MethodName} {bytes : ByteArray} {maxL n idx : Nat} {retY : Option FieldType} {rmY : Room} {v : Option Value} {stk st2 : List Value} {C : String} {a0 : Nat} (hrec : ∀ H locs, I H locs → ∃ cell : Cell, H[a0]? = some cell ∧ cell.vm.isStatics = false ∧ (kS K).vm.findClass C = some cell.cls) (As : List Value) (st : List Value) (hM : ∀ H locs, I H locs → RMet Γ tx y bytes maxL retY rmY (.ref a0 :: As) H v) {x : MethodName} {count : Nat} {cC : ClassId} (hat : ClassAt (kS K) C cC) (hF : va_Fw C x y (kS K)) (hG : GoodIn lw_all (va_wsF own idx C x y (ws_ y bytes maxL retY))) (hy : x.cls ≠ "java/lang/invoke/MethodHandle" ∧ x.cls ≠ "java/lang/invoke/VarHandle" ∧ (parseMethodDescriptor x.desc).map (fun d => d.parameters.length) = some n) (hrm : rmFit maxL rmY rm = true) (hc0 : rmY.cells = 0 ∧ rmY.slots = 0) (hn : As.length = n) (hs : Nat.ble ((st.map fun v => v.category).sum) 8 = true) (hd : decode cc pc = .ok (.invokeinterface idx count, 5)) (hstk : stk = As.reverse ++ .ref a0 :: st) (hst2 : v.toList ++ st = st2) (hcs : cs ≤ rm.cells ∧ sl ≤ rm.slots) (kk : GGo K Q comp nL I cs sl (pc + 5) ls st2) : GGo K Q comp nL I cs sl pc ls stk := by
  subst hst2
  intro r hr H locs lsA hI hh T hT X
  obtain ⟨v', st₀, t, T', L, h0, X', hL, e1, e2, ⟨hv, hz⟩, stp⟩ := va_runF hat (g := F0 (kM K) pc lsA stk) (As := As) (rest := st) (cc := cc) (nL := nL) (own := own) (Ts := lw_all) ⟨hk.1, hk.2.1, hk.2.2.1, hk.2.2.2.1, hk.2.2.2.2.1⟩ (hM H locs hI K.2.1) (va_cwF n hk.2.2.2.2.1 hG rfl hc0.1 hc0.2 hF hy (rmFit_ok hrm hk.2.2.2.2.2.2.2)) ⟨RMet_blind, hrec H locs hI, fun U hU hW => ⟨rfl, ⟨hU, hK.2.2.2.2.2.1 _ _ _ _ hW.alike (hE H locs hI)⟩, hK.warm hW⟩⟩ rfl hn hh.1 hstk (lv_room (Nat.le_of_ble_eq_true hs)) hd ⟨(by show cs + 0 ≤ (kR K).cells; rw [hk.2.2.2.2.2.2.2]; exact hcs.1), (by show sl + 0 ≤ (kR K).slots; rw [hk.2.2.2.2.2.2.2]; exact hcs.2)⟩ T hT X
  cases hv
  have hL0 : L = [] := by
    cases L with
    | nil => rfl
    | cons a t => exact absurd (hL a List.mem_cons_self) id
  subst hL0
  rw [List.append_nil] at X'
  have e3 : T'.heap = H := by rw [e1, hz, h0]
  obtain ⟨t2, a1, b1⟩ := kk r hr H locs lsA hI hh T' e3 X'
  exact ⟨t2, stp t2 a1, b1⟩
theorem x_rec (hK : CK Γ (kS K)) {a ci N : Nat} {fs : List Value} {C : String} {T : u_T} (hc : ccl[ci]? = some (C, T, N)) (ha : ∀ H locs, I H locs → va_at (gD Γ) ccl (a, .inr (ci, fs)) H) : ∀ H locs, I H locs → ∃ cell : Cell, H[a]? = some cell ∧ cell.vm.isStatics = false ∧ (kS K).vm.findClass C = some cell.cls := fun H locs hI => va_recv (q0 := 0) (ci := ci) hK.1 (va_P1 (ha H locs hI)) hc rfl
end XR

/-! LISTS read; sums and askings in the heap: what they denote; what they answer -/
set_option maxRecDepth 100000
def rmK (k : Nat) : Room := { frames := k, cells := 0, slots := 0, locals := 60 * k }
/-- a list: its elements' addresses; all that is read lies in Rg -/
def ListAt (Γ : CG) (Rg : Nat → Prop) (H : Heap) (l : Nat) (es : List Nat) : Prop :=
  Rg l ∧ ∃ (m : Int32) (a cap : Nat), va_at (gD Γ) ccl (l, .inr (15, [.int m, .ref a, .int (nI es.length)])) H ∧ es.length ≤ cap ∧ cap < 2 ^ 30 ∧ (es ≠ [] → Rg a ∧ H[a]? = some (arrV (gC Γ 5) cap (fun i => va_rf es[i]?)))
theorem ListAt.kept {Γ : CG} {Rg R2 : Nat → Prop} {H H1 : Heap} {l : Nat} {es : List Nat} (h : ListAt Γ Rg H l es) (hq : ∀ q, q < H.size → Rg q → R2 q ∧ H1[q]? = H[q]?) : ListAt Γ R2 H1 l es := by
  obtain ⟨h0, m, a, cap, h1, h2, h3, h4⟩ := h
  have z := hq l h1.lt h0
  refine ⟨z.1, m, a, cap, h1.kept z.2, h2, h3, fun hne => ?_⟩
  have w := hq a (Array.getElem?_eq_some_iff.mp (h4 hne).2).1 (h4 hne).1
  exact ⟨w.1, by rw [w.2]; exact (h4 hne).2⟩
theorem l_size {Γ : CG} {tx : TXs Tx} {Rg : Nat → Prop} {H0 : Heap} {l : Nat} {es : List Nat} (hL : ListAt Γ Rg H0 l es) : RMet Γ tx yJ3_size cJ3_size 1 (some .int) (rmK 1) [.ref l] H0 (some (.int (nI es.length))) := by
  obtain ⟨-, m, a, cap, h1, -⟩ := hL
  refine r_met (view := fun r : Int32 => some (.int r)) (comp := some (nI es.length)) (own := RJ3) rfl (by decide) rfl (ls0 := [(0, .ref l)]) rfl (fun K hk hK hH hE => ?_) _ rfl
  refine g_aload_n (pc := 0) hk dJ3_size_0 rfl ?_
  refine x_get (pc := 1) hk hK (ci := 15) rfl in_J3 (rd hH h1) 2 (by decide) q385 (Or.inl rfl) rfl dJ3_size_1 ?_
  exact p_iret (pc := 4) hk rfl dJ3_size_4
theorem l_isEmpty {Γ : CG} {tx : TXs Tx} {Rg : Nat → Prop} {H0 : Heap} {l : Nat} {es : List Nat} (hL : ListAt Γ Rg H0 l es) : RMet Γ tx yJ3_isEmpty cJ3_isEmpty 1 (some .boolean) (rmK 1) [.ref l] H0 (some (.int (if es.length = 0 then 1 else 0))) := by
  obtain ⟨-, m, a, cap, h1, h2, h3, -⟩ := hL
  have hs : es.length < 2 ^ 31 := by omega
  refine r_met (view := fun r : Int32 => some (.int r)) (comp := if nI es.length = 0 then some 1 else some 0) (own := RJ3) rfl (by decide) rfl (ls0 := [(0, .ref l)]) rfl (fun K hk hK hH hE => ?_) (if es.length = 0 then 1 else 0) ?_
  · refine g_aload_n (pc := 0) hk dJ3_isEmpty_0 rfl ?_
    refine x_get (pc := 1) hk hK (ci := 15) rfl in_J3 (rd hH h1) 2 (by decide) q385 (Or.inl rfl) rfl dJ3_isEmpty_1 ?_
    refine g_if_ne (pc := 4) (tgt := 11) hk dJ3_isEmpty_4 rfl ?_ ?_
    · refine g_iconst (pc := 11) (v := 0) hk dJ3_isEmpty_11 rfl ?_
      exact p_zret (pc := 12) hk rfl rfl dJ3_isEmpty_12
    · refine g_iconst (pc := 7) (v := 1) hk dJ3_isEmpty_7 rfl ?_
      refine g_goto (pc := 8) (tgt := 12) hk dJ3_isEmpty_8 rfl ?_
      exact p_zret (pc := 12) hk rfl rfl dJ3_isEmpty_12
  · by_cases h : es.length = 0
    · rw [h, if_pos rfl, if_pos nI_0]
    · rw [if_neg h, if_neg (nI_ne0 (Nat.pos_of_ne_zero h) hs)]
theorem inb_nI {i n : Nat} (h : i < n) (hn : n < 2 ^ 31) : inb (nI i) n = true := by
  unfold inb
  rw [nI_toInt (by omega), Bool.and_eq_true, decide_eq_true_eq, decide_eq_true_eq]
  omega
theorem l_elem {Γ : CG} {tx : TXs Tx} {Rg : Nat → Prop} {H0 : Heap} {l : Nat} {es : List Nat} (hL : ListAt Γ Rg H0 l es) {i q : Nat} (hi : es[i]? = some q) : RMet Γ tx yJ3_elementData cJ3_elementData 2 (some (.object "java/lang/Object")) (rmK 1) [.ref l, .int (nI i)] H0 (some (.ref q)) := by
  obtain ⟨-, m, a, cap, h1, h2, h3, h4⟩ := hL
  have hlt := (List.getElem?_eq_some_iff.mp hi).1
  have hne : es ≠ [] := fun e => by rw [e] at hlt; cases hlt
  refine r_met (view := fun r : Nat => some (.ref r)) (comp := some q) (own := RJ3) rfl (by decide) rfl (ls0 := [(0, .ref l), (1, .int (nI i))]) rfl (fun K hk hK hH hE => ?_) _ rfl
  refine g_aload_n (pc := 0) hk dJ3_elementData_0 rfl ?_
  refine x_get (pc := 1) hk hK (ci := 15) rfl in_J3 (rd hH h1) 1 (by decide) q384 (Or.inl rfl) rfl dJ3_elementData_1 ?_
  refine g_iload_n (pc := 4) hk dJ3_elementData_4 rfl ?_
  refine x_aald (pc := 5) hk (rd hH (h4 hne).2) ((hK.1.2 5 _ rfl).1) rfl (inb_nI (Nat.lt_of_lt_of_le hlt h2) (by omega)) dJ3_elementData_5 ?_
  rw [nI_clamp (by omega), hi]
  exact p_aret (pc := 6) hk (Or.inl ⟨_, rfl⟩) rfl dJ3_elementData_6
theorem hs_j6_checkIndex : yJ6_checkIndex.cls ≠ "java/lang/invoke/MethodHandle" ∧ yJ6_checkIndex.cls ≠ "java/lang/invoke/VarHandle" ∧ (parseMethodDescriptor yJ6_checkIndex.desc).map (fun d => d.parameters.length) = some 3 := by decide +kernel
theorem hs_j13_checkIndex : yJ13_checkIndex.cls ≠ "java/lang/invoke/MethodHandle" ∧ yJ13_checkIndex.cls ≠ "java/lang/invoke/VarHandle" ∧ (parseMethodDescriptor yJ13_checkIndex.desc).map (fun d => d.parameters.length) = some 2 := by decide +kernel
theorem hv_j3_elementData : yJ3_elementData.cls = RJ3 ∧ yJ3_elementData.cls ≠ "java/lang/invoke/MethodHandle" ∧ yJ3_elementData.cls ≠ "java/lang/invoke/VarHandle" ∧ (parseMethodDescriptor yJ3_elementData.desc).map (fun d => d.parameters.length) = some 1 := by decide +kernel
theorem p_checkIndex6 {i n : Int32} (h0 : ¬ i < 0) (h1 : i < n) : PMet yJ6_checkIndex cJ6_checkIndex 3 (some .int) (rmK 1) [.int i, .int n, .null] (some (.int i)) := by
  refine p_met (view := fun r : Int32 => some (.int r)) (comp := if i < 0 then none else if i < n then some i else none) (own := RJ6) rfl (by decide) rfl (ls0 := [(0, .int i), (1, .int n), (2, .null)]) rfl (fun K hk => ?_) _ (by rw [if_neg h0, if_pos h1])
  refine g_iload_n (pc := 0) hk dJ6_checkIndex_0 rfl ?_
  refine g_if_lt (pc := 1) (tgt := 9) hk dJ6_checkIndex_1 rfl g_none ?_
  refine g_iload_n (pc := 4) hk dJ6_checkIndex_4 rfl ?_
  refine g_iload_n (pc := 5) hk dJ6_checkIndex_5 rfl ?_
  refine g_icmp_lt (pc := 6) (tgt := 16) hk dJ6_checkIndex_6 rfl ?_ g_none
  refine g_iload_n (pc := 16) hk dJ6_checkIndex_16 rfl ?_
  exact p_iret (pc := 17) hk rfl dJ6_checkIndex_17
theorem p_checkIndex {i n : Int32} (h0 : ¬ i < 0) (h1 : i < n) : PMet yJ13_checkIndex cJ13_checkIndex 2 (some .int) (rmK 2) [.int i, .int n] (some (.int i)) := by
  refine p_met (view := fun r : Int32 => some (.int r)) (comp := some i) (own := RJ13) rfl (by decide) rfl (ls0 := [(0, .int i), (1, .int n)]) rfl (fun K hk => ?_) _ rfl
  refine g_iload_n (pc := 0) hk dJ13_checkIndex_0 rfl ?_
  refine g_iload_n (pc := 1) hk dJ13_checkIndex_1 rfl ?_
  refine x_aconst_null (pc := 2) hk dJ13_checkIndex_2 ?_
  refine g_callP (pc := 3) hk [.int i, .int n, .null] [] (p_checkIndex6 h0 h1) (lw_S q702 q450 q136 q451) hs_j6_checkIndex rfl ⟨rfl, rfl⟩ rfl rfl dJ13_checkIndex_3 rfl rfl ⟨rfl, rfl⟩ ?_
  exact p_iret (pc := 6) hk rfl dJ13_checkIndex_6
theorem l_get {Γ : CG} {tx : TXs Tx} {Rg : Nat → Prop} {H0 : Heap} {l : Nat} {es : List Nat} (hL : ListAt Γ Rg H0 l es) {i q : Nat} (hi : es[i]? = some q) : RMet Γ tx yJ3_get cJ3_get 2 (some (.object "java/lang/Object")) (rmK 3) [.ref l, .int (nI i)] H0 (some (.ref q)) := by
  have hL' := hL
  obtain ⟨-, m, a, cap, h1, h2, h3, h4⟩ := hL
  have hlt := (List.getElem?_eq_some_iff.mp hi).1
  refine r_met (view := fun r : Nat => some (.ref r)) (comp := some q) (own := RJ3) rfl (by decide) rfl (ls0 := [(0, .ref l), (1, .int (nI i))]) rfl (fun K hk hK hH hE => ?_) _ rfl
  refine g_iload_n (pc := 0) hk dJ3_get_0 rfl ?_
  refine g_aload_n (pc := 1) hk dJ3_get_1 rfl ?_
  refine x_get (pc := 2) hk hK (ci := 15) rfl in_J3 (rd hH h1) 2 (by decide) q385 (Or.inl rfl) rfl dJ3_get_2 ?_
  refine g_callP (pc := 5) hk [.int (nI i), .int (nI es.length)] [] (p_checkIndex (nI_pos (by omega)) (nI_lt hlt (by omega))) (lw_S q699 q700 q148 q701) hs_j13_checkIndex rfl ⟨rfl, rfl⟩ rfl rfl dJ3_get_5 rfl rfl ⟨rfl, rfl⟩ ?_
  refine g_pop (pc := 8) hk dJ3_get_8 rfl ?_
  refine g_aload_n (pc := 9) hk dJ3_get_9 rfl ?_
  refine g_iload_n (pc := 10) hk dJ3_get_10 rfl ?_
  refine x_callV (pc := 11) (tx := tx) hk hK (rd hH hE) (x_rec hK (ci := 15) rfl (rd hH h1)) [.int (nI i)] [] (rd hH (l_elem hL' hi)) (lw_V q703 q704 q705 q133 q706) hv_j3_elementData rfl ⟨rfl, rfl⟩ rfl rfl dJ3_get_11 rfl rfl ⟨Nat.zero_le _, Nat.zero_le _⟩ ?_
  exact p_aret (pc := 14) hk (Or.inl ⟨_, rfl⟩) rfl dJ3_get_14

/-! SUMS AND ASKINGS in the heap: what they are, what they answer -/
set_option maxRecDepth 100000
/-! what they answer -/
def cl6 (x : Int64) : Int64 := l_max (-1000000) (l_min 1000000 x)
def ev2 (s : Int32) (a b : Int64) : Option Int64 :=
  if s = 43 then some (cl6 (a + b)) else if s = 45 then some (cl6 (a - b)) else if s = 42 then some (cl6 (a * b)) else if s = 94 then ob1 (C_powered a b) (fun r => some (cl6 r)) else if b = 0 then some (cl6 0) else some (cl6 (a / b))
def cmpV (s : Int32) (d : Int64) : Option Int32 :=
  if s = 35 then (if d = 0 then some 0 else some 1) else if s = 60 then (if d < 0 then some 1 else some 0) else if s = 61 then (if d = 0 then some 1 else some 0) else if s = 62 then (if 0 < d then some 1 else some 0) else if s = 303 then (if 0 < d then some 0 else some 1) else (if d < 0 then some 0 else some 1)
def afL (v : Nat → Int32) : Nat → Int64 → Int32 → Option Int64
  | 0, _, _ => none
  | n + 1, left, at0 => if 0 < left then (if inb (7 + at0) 15 = true then afL v n (left - 1) (v (7 + at0).toNatClampNeg) else none) else some at0.toInt64
def evAf (v : Nat → Int32) (x y : Int64) : Option Int64 :=
  if x < 0 then some 0 else if x < 8 then ob1 (C_shortOf y) (fun t => afL v FU t x.toInt32) else some 0
def evT (c : Bool) (x y : Int32) : Int32 := match c with
  | true => if x = 0 then 0 else if y = 0 then 0 else 1
  | false => if x = 0 then (if y = 0 then 0 else 1) else 1
def dPlain (n : Int32) : Den := fun _ => some n.toInt64
def dName (k : Int32) : Den := fun v => if inb k 15 = true then some (v k.toNatClampNeg).toInt64 else none
def dMinus (x : Den) : Den := fun v => ob1 (x v) (fun a => some (-a))
def dBin (s : Int32) (a b : Den) : Den := fun v => ob1 (a v) (fun x => ob1 (b v) (fun y => ev2 s x y))
def dAfter (c b : Den) : Den := fun v => ob1 (c v) (fun x => ob1 (b v) (fun y => evAf v x y))
def dIte (q : ADen) (a b : Den) : Den := fun v => ob1 (q v) (fun t => if t = 0 then b v else a v)
def aCmp (s : Int32) (a b : Den) : ADen := fun v => ob1 (a v) (fun x => ob1 (b v) (fun y => cmpV s (x - y)))
def aNot (x : ADen) : ADen := fun v => ob1 (x v) (fun t => if t = 0 then some 1 else some 0)
def aTwo (c : Bool) (a b : ADen) : ADen := fun v => ob1 (a v) (fun x => ob1 (b v) (fun y => some (evT c x y)))
theorem ob1_some {α ρ : Type} {c : Option α} {k : α → Option ρ} {r : ρ} (h : ob1 c k = some r) : ∃ a, c = some a ∧ k a = some r := by
  cases c with
  | none => cases h
  | some a => exact ⟨a, rfl, h⟩
/-- a sum (left) or an asking (right) lies at q; all of it in Rg; d bounds how deep it goes -/
def DAt (Γ : CG) (Rg : Nat → Prop) (H : Heap) : Nat → (Den ⊕ ADen) → Nat → Prop
  | 0, e, q => Rg q ∧ ((∃ n, e = .inl (dPlain n) ∧ va_at (gD Γ) ccl (q, .inr (6, [.int n])) H) ∨ (∃ k, e = .inl (dName k) ∧ va_at (gD Γ) ccl (q, .inr (12, [.int k])) H))
  | d + 1, e, q => DAt Γ Rg H d e q ∨ (Rg q ∧ (
      (∃ x qx, e = .inl (dMinus x) ∧ va_at (gD Γ) ccl (q, .inr (13, [.ref qx])) H ∧ DAt Γ Rg H d (.inl x) qx) ∨
      (∃ (x : Den) (qf lm lg : Nat) (items : List (Nat × Den × Nat)), e = .inl (items.foldl (fun a i => dBin (vb_c i.1) a i.2.1) x) ∧ va_at (gD Γ) ccl (q, .inr (5, [.ref qf, .ref lm, .ref lg])) H ∧ DAt Γ Rg H d (.inl x) qf ∧ ListAt Γ Rg H lm (items.map (fun i => i.2.2)) ∧ ListAt Γ Rg H lg (items.map (fun i => gA Γ (1000 + i.1))) ∧ (∀ i ∈ items, i.1 < 256 ∧ DAt Γ Rg H d (.inl i.2.1) i.2.2) ∧ items.length < 2 ^ 30) ∨
      (∃ c b qc qb, e = .inl (dAfter c b) ∧ va_at (gD Γ) ccl (q, .inr (11, [.ref qc, .ref qb])) H ∧ DAt Γ Rg H d (.inl c) qc ∧ DAt Γ Rg H d (.inl b) qb) ∨
      (∃ a y n qq qy qn, e = .inl (dIte a y n) ∧ va_at (gD Γ) ccl (q, .inr (10, [.ref qq, .ref qy, .ref qn])) H ∧ DAt Γ Rg H d (.inr a) qq ∧ DAt Γ Rg H d (.inl y) qy ∧ DAt Γ Rg H d (.inl n) qn) ∨
      (∃ s a b qa qb, e = .inr (aCmp s a b) ∧ va_at (gD Γ) ccl (q, .inr (8, [.int s, .ref qa, .ref qb])) H ∧ DAt Γ Rg H d (.inl a) qa ∧ DAt Γ Rg H d (.inl b) qb) ∨
      (∃ x qx, e = .inr (aNot x) ∧ va_at (gD Γ) ccl (q, .inr (7, [.ref qx])) H ∧ DAt Γ Rg H d (.inr x) qx) ∨
      (∃ (c : Bool) (x : ADen) (l q0 : Nat) (items : List (ADen × Nat)), e = .inr (items.foldl (fun a i => aTwo c a i.1) x) ∧ va_at (gD Γ) ccl (q, .inr (9, [.int (if c then 1 else 0), .ref l])) H ∧ DAt Γ Rg H d (.inr x) q0 ∧ ListAt Γ Rg H l (q0 :: items.map (fun i => i.2)) ∧ (∀ i ∈ items, DAt Γ Rg H d (.inr i.1) i.2) ∧ items ≠ [] ∧ items.length < 2 ^ 30)))
theorem DAt.kept {Γ : CG} {Rg R2 : Nat → Prop} {H H1 : Heap} {d : Nat} (hq : ∀ a, a < H.size → Rg a → R2 a ∧ H1[a]? = H[a]?) : ∀ {q : Nat} {e : Den ⊕ ADen}, DAt Γ Rg H d e q → DAt Γ R2 H1 d e q := by
  induction d with
  | zero =>
    intro q e h
    obtain ⟨h0, h | h⟩ := h
    · obtain ⟨n, he, h1⟩ := h; exact ⟨(hq _ h1.lt h0).1, Or.inl ⟨n, he, h1.kept (hq _ h1.lt h0).2⟩⟩
    · obtain ⟨n, he, h1⟩ := h; exact ⟨(hq _ h1.lt h0).1, Or.inr ⟨n, he, h1.kept (hq _ h1.lt h0).2⟩⟩
  | succ d ih =>
    intro q e h
    rcases h with h | ⟨h0, h⟩
    · exact Or.inl (ih h)
    rcases h with h | h | h | h | h | h | h
    · obtain ⟨x, qx, he, h1, h2⟩ := h; exact Or.inr ⟨(hq _ h1.lt h0).1, Or.inl ⟨x, qx, he, h1.kept (hq _ h1.lt h0).2, ih h2⟩⟩
    · obtain ⟨x, qf, lm, lg, items, he, h1, h2, h3, h4, h5, h6⟩ := h; exact Or.inr ⟨(hq _ h1.lt h0).1, Or.inr (Or.inl ⟨x, qf, lm, lg, items, he, h1.kept (hq _ h1.lt h0).2, ih h2, h3.kept hq, h4.kept hq, fun i hi => ⟨(h5 i hi).1, ih (h5 i hi).2⟩, h6⟩)⟩
    · obtain ⟨c, b, qc, qb, he, h1, h2, h3⟩ := h; exact Or.inr ⟨(hq _ h1.lt h0).1, Or.inr (Or.inr (Or.inl ⟨c, b, qc, qb, he, h1.kept (hq _ h1.lt h0).2, ih h2, ih h3⟩))⟩
    · obtain ⟨a, y, n, qq, qy, qn, he, h1, h2, h3, h4⟩ := h; exact Or.inr ⟨(hq _ h1.lt h0).1, Or.inr (Or.inr (Or.inr (Or.inl ⟨a, y, n, qq, qy, qn, he, h1.kept (hq _ h1.lt h0).2, ih h2, ih h3, ih h4⟩)))⟩
    · obtain ⟨s, a, b, qa, qb, he, h1, h2, h3⟩ := h; exact Or.inr ⟨(hq _ h1.lt h0).1, Or.inr (Or.inr (Or.inr (Or.inr (Or.inl ⟨s, a, b, qa, qb, he, h1.kept (hq _ h1.lt h0).2, ih h2, ih h3⟩))))⟩
    · obtain ⟨x, qx, he, h1, h2⟩ := h; exact Or.inr ⟨(hq _ h1.lt h0).1, Or.inr (Or.inr (Or.inr (Or.inr (Or.inr (Or.inl ⟨x, qx, he, h1.kept (hq _ h1.lt h0).2, ih h2⟩)))))⟩
    · obtain ⟨c, x, l, q0, items, he, h1, h2, h3, h4, h5, h6⟩ := h; exact Or.inr ⟨(hq _ h1.lt h0).1, Or.inr (Or.inr (Or.inr (Or.inr (Or.inr (Or.inr ⟨c, x, l, q0, items, he, h1.kept (hq _ h1.lt h0).2, ih h2, h3.kept hq, fun i hi => ih (h4 i hi), h5, h6⟩)))))⟩
theorem DAt.up {Γ : CG} {Rg : Nat → Prop} {H : Heap} {d d' q : Nat} {e : Den ⊕ ADen} (h : DAt Γ Rg H d e q) (hd : d ≤ d') : DAt Γ Rg H d' e q := by
  induction hd with
  | refl => exact h
  | step _ ih => exact Or.inl ih
/-- an asking answers 0 or 1 -/
theorem aDen_01 {Γ : CG} {Rg : Nat → Prop} {H : Heap} {d : Nat} {v : Nat → Int32} : ∀ {q : Nat} {x : ADen} {t : Int32}, DAt Γ Rg H d (.inr x) q → x v = some t → t = 0 ∨ t = 1 := by
  have two : ∀ {c : Bool} {x y : Int32}, evT c x y = 0 ∨ evT c x y = 1 := by
    intro c x y
    unfold evT
    repeat' split
    all_goals (first | exact Or.inl rfl | exact Or.inr rfl)
  induction d with
  | zero =>
    intro q x t h
    obtain ⟨h0, h | h⟩ := h
    · obtain ⟨n, he, -⟩ := h; cases he
    · obtain ⟨n, he, -⟩ := h; cases he
  | succ d ih =>
    intro q x t h hx
    rcases h with h | ⟨h0, h⟩
    · exact ih h hx
    rcases h with h | h | h | h | h | h | h
    · obtain ⟨_, _, he, _⟩ := h; cases he
    · obtain ⟨_, _, _, _, _, he, _⟩ := h; cases he
    · obtain ⟨_, _, _, _, he, _⟩ := h; cases he
    · obtain ⟨_, _, _, _, _, _, he, _⟩ := h; cases he
    · obtain ⟨s, a, b, qa, qb, he, h1, h2, h3⟩ := h
      cases he
      obtain ⟨x, -, hx⟩ := ob1_some hx
      obtain ⟨y, -, hx⟩ := ob1_some hx
      unfold cmpV at hx
      repeat' split at hx
      all_goals (first | (cases hx; exact Or.inl rfl) | (cases hx; exact Or.inr rfl))
    · obtain ⟨y, qx, he, h1, h2⟩ := h
      cases he
      obtain ⟨z, -, hx⟩ := ob1_some hx
      split at hx <;> (first | (cases hx; exact Or.inl rfl) | (cases hx; exact Or.inr rfl))
    · obtain ⟨c, y, l, q0, items, he, h1, h2, h3, h4, h5, h6⟩ := h
      cases he
      obtain ⟨items, i, rfl⟩ : ∃ l i, items = l ++ [i] := ⟨items.dropLast, items.getLast h5, (List.dropLast_concat_getLast h5).symm⟩
      rw [List.foldl_append] at hx
      obtain ⟨z, -, hx⟩ := ob1_some hx
      obtain ⟨w, -, hx⟩ := ob1_some hx
      cases hx
      exact two
