/-! words that do not ride in the lists: nest mates, castable, interfaces; a contract carries them in gK -/
def gNF : List (String × Nat × String × String × String × String) := [("NineGraves", 71, "NineGraves$State", "n", "[I", "NineGraves"), ("NineGraves", 81, "NineGraves$State", "x", "[I", "NineGraves"), ("NineGraves", 90, "NineGraves$State", "y", "[I", "NineGraves"), ("NineGraves", 78, "NineGraves$State", "row", "[I", "NineGraves"), ("NineGraves", 101, "NineGraves$State", "step", "[[I", "NineGraves"), ("NineGraves", 289, "NineGraves$State", "seen", "[[I", "NineGraves"), ("NineGraves", 127, "NineGraves$State", "text", "[LNineGraves$Text;", "NineGraves"), ("NineGraves", 174, "NineGraves$Text", "worn", "LNineGraves$Sum;", "NineGraves"), ("NineGraves", 246, "NineGraves$Text", "holy", "LNineGraves$Asked;", "NineGraves"), ("NineGraves", 259, "NineGraves$Text", "unlike", "LNineGraves$Asked;", "NineGraves"), ("NineGraves", 262, "NineGraves$Text", "many", "[I", "NineGraves"), ("NineGraves", 222, "NineGraves$Text", "doings", "Ljava/util/ArrayList;", "NineGraves"), ("NineGraves", 142, "NineGraves$Wrong", "fault", "I", "NineGraves"), ("NineGraves", 143, "NineGraves$Wrong", "place", "I", "NineGraves"), ("NineGraves$Tokens", 86, "NineGraves$Text", "worn", "LNineGraves$Sum;", "NineGraves"), ("NineGraves$Tokens", 90, "NineGraves$Text", "holy", "LNineGraves$Asked;", "NineGraves"), ("NineGraves$Tokens", 94, "NineGraves$Text", "unlike", "LNineGraves$Asked;", "NineGraves"), ("NineGraves$Tokens", 132, "NineGraves$Text", "many", "[I", "NineGraves"), ("NineGraves$Tokens", 118, "NineGraves$Text", "doings", "Ljava/util/ArrayList;", "NineGraves"), ("NineGraves$Tokens", 97, "NineGraves$Text", "clauses", "I", "NineGraves")]
def gNM : List (String × Nat × MethodName × String) := [("NineGraves", 242, (⟨"NineGraves$State", "copy", "([I[I)V"⟩ : MethodName), "NineGraves"), ("NineGraves$Tokens", 82, (⟨"NineGraves$Text", "<init>", "()V"⟩ : MethodName), "NineGraves"), ("NineGraves$Tokens", 195, (⟨"NineGraves$Plain", "<init>", "(I)V"⟩ : MethodName), "NineGraves"), ("NineGraves$Tokens", 199, (⟨"NineGraves$Name", "<init>", "(I)V"⟩ : MethodName), "NineGraves"), ("NineGraves$Tokens", 202, (⟨"NineGraves$Minus", "<init>", "(LNineGraves$Sum;)V"⟩ : MethodName), "NineGraves"), ("NineGraves$Tokens", 168, (⟨"NineGraves$Not", "<init>", "(LNineGraves$Asked;)V"⟩ : MethodName), "NineGraves"), ("NineGraves$Tokens", 173, (⟨"NineGraves$Compared", "<init>", "(ILNineGraves$Sum;LNineGraves$Sum;)V"⟩ : MethodName), "NineGraves"), ("NineGraves$Tokens", 157, (⟨"NineGraves$All", "<init>", "(ZLjava/util/ArrayList;)V"⟩ : MethodName), "NineGraves"), ("NineGraves$Tokens", 140, (⟨"NineGraves$Doing", "<init>", "(IIIII)V"⟩ : MethodName), "NineGraves")]
def gNC : List (String × String) := [("java/lang/Integer", "java/lang/Object"), ("java/util/ArrayList", "java/lang/Object"), ("java/lang/String", "java/lang/Object"), ("java/lang/Throwable", "java/lang/Object"), ("NineGraves", "java/lang/Object"), ("NineGraves$State", "java/lang/Object"), ("NineGraves$Not", "NineGraves$Asked"), ("NineGraves$Not", "java/lang/Object"), ("NineGraves$Compared", "NineGraves$Asked"), ("NineGraves$Compared", "java/lang/Object"), ("NineGraves$All", "NineGraves$Asked"), ("NineGraves$All", "java/lang/Object"), ("NineGraves$Doing", "java/lang/Object"), ("NineGravesModel", "java/lang/Object"), ("NineGraves$Tokens", "java/lang/Object"), ("NineGraves$Text", "java/lang/Object"), ("NineGraves$Wrong", "NineGraves$Wrong"), ("NineGraves$Wrong", "java/lang/Object"), ("NineGraves$Chain", "NineGraves$Sum"), ("NineGraves$Chain", "java/lang/Object"), ("NineGraves$Plain", "NineGraves$Sum"), ("NineGraves$Plain", "java/lang/Object"), ("NineGraves$Name", "NineGraves$Sum"), ("NineGraves$Name", "java/lang/Object"), ("NineGraves$Minus", "NineGraves$Sum"), ("NineGraves$Minus", "java/lang/Object"), ("[B", "java/lang/Object"), ("[I", "java/lang/Object"), ("[J", "java/lang/Object"), ("[LNineGraves$Text;", "java/lang/Object"), ("[Ljava/lang/Object;", "java/lang/Object"), ("[Ljava/lang/String;", "java/lang/Object"), ("[Z", "java/lang/Object"), ("[[I", "java/lang/Object"), ("[[J", "java/lang/Object"), ("[[Z", "java/lang/Object")]
def gFW : List (String × MethodName × MethodName) := [("NineGraves$Plain", (⟨"NineGraves$Sum", "of", "([I)J"⟩ : MethodName), (⟨"NineGraves$Plain", "of", "([I)J"⟩ : MethodName)), ("NineGraves$Name", (⟨"NineGraves$Sum", "of", "([I)J"⟩ : MethodName), (⟨"NineGraves$Name", "of", "([I)J"⟩ : MethodName)), ("NineGraves$Minus", (⟨"NineGraves$Sum", "of", "([I)J"⟩ : MethodName), (⟨"NineGraves$Minus", "of", "([I)J"⟩ : MethodName)), ("NineGraves$Chain", (⟨"NineGraves$Sum", "of", "([I)J"⟩ : MethodName), (⟨"NineGraves$Chain", "of", "([I)J"⟩ : MethodName)), ("NineGraves$Compared", (⟨"NineGraves$Asked", "is", "([I)Z"⟩ : MethodName), (⟨"NineGraves$Compared", "is", "([I)Z"⟩ : MethodName)), ("NineGraves$Not", (⟨"NineGraves$Asked", "is", "([I)Z"⟩ : MethodName), (⟨"NineGraves$Not", "is", "([I)Z"⟩ : MethodName)), ("NineGraves$All", (⟨"NineGraves$Asked", "is", "([I)Z"⟩ : MethodName), (⟨"NineGraves$All", "is", "([I)Z"⟩ : MethodName))]
def gAO : List (String) := ["NineGraves$Text", "java/lang/Object", "java/lang/String"]
def nW (U : State) : Prop := (∀ q ∈ gNF, va_Nw (.fieldLinkNest q.1 q.2.1 q.2.2.1 q.2.2.2.1 q.2.2.2.2.1 q.2.2.2.2.2) U) ∧ (∀ q ∈ gNM, va_Nw (.methodLinkNest q.1 q.2.1 q.2.2.1 q.2.2.2) U) ∧ (∀ q ∈ gNC, va_Nw (.castable q.1 q.2) U) ∧ (∀ q ∈ gFW, va_Fw q.1 q.2.1 q.2.2 U) ∧ ∀ q ∈ gAO, va_AO q U
theorem gFW_ok : ∀ q ∈ gFW, q.2.1.cls ≠ "java/lang/invoke/MethodHandle" ∧ q.2.1.cls ≠ "java/lang/invoke/VarHandle" := by decide +kernel
theorem nW.warm {s U : State} (hW : s.WarmedH U.vm) (h : nW s) : nW U :=
  ⟨fun q hq => va_Nw.warmF hW (h.1 q hq), fun q hq => va_Nw.warmM hW (h.2.1 q hq), fun q hq => va_Nw.warmC hW (h.2.2.1 q hq), fun q hq => va_Fw.moved (gFW_ok q hq) hW.alike (h.2.2.2.1 q hq), fun q hq => va_AO.moved hW.alike (h.2.2.2.2 q hq)⟩
def gT (dA : Nat → ClassId) : List (ClassId × FieldType) := [(dA 0, .int), (dA 1, .long), (dA 2, .boolean), (dA 3, .byte), (dA 4, .array .int), (dA 5, .array .boolean), (dA 6, .array .long), (dA 7, .object "NineGraves$Text"), (dA 8, .object "java/lang/Object"), (dA 9, .object "java/lang/String")]
def gK (D : va_G) (dA : Nat → ClassId) (U : State) : Prop := va_K D vwCl (gT dA) U ∧ nW U
theorem gK.warm {D : va_G} {dA : Nat → ClassId} {s U : State} (hW : s.WarmedH U.vm) (h : gK D dA s) : gK D dA U := ⟨va_K.moved hW.alike h.1, h.2.warm hW⟩
theorem gK.calling {D : va_G} {dA : Nat → ClassId} {U : State} {g : JFrame} {mk : MethodId} {a : Array Value} (h : gK D dA U) : gK D dA (U.calling g mk a) := gK.warm (s := U) (U := U.calling g mk a) (State.WarmedH.refl U) h

theorem nFl_0 {U : State} (h : nW U) : va_Nw (.fieldLinkNest "NineGraves" 71 "NineGraves$State" "n" "[I" "NineGraves") U := h.1 ("NineGraves", 71, "NineGraves$State", "n", "[I", "NineGraves") (List.mem_of_getElem? (i := 0) rfl)
theorem nFl_1 {U : State} (h : nW U) : va_Nw (.fieldLinkNest "NineGraves" 81 "NineGraves$State" "x" "[I" "NineGraves") U := h.1 ("NineGraves", 81, "NineGraves$State", "x", "[I", "NineGraves") (List.mem_of_getElem? (i := 1) rfl)
theorem nFl_2 {U : State} (h : nW U) : va_Nw (.fieldLinkNest "NineGraves" 90 "NineGraves$State" "y" "[I" "NineGraves") U := h.1 ("NineGraves", 90, "NineGraves$State", "y", "[I", "NineGraves") (List.mem_of_getElem? (i := 2) rfl)
theorem nFl_3 {U : State} (h : nW U) : va_Nw (.fieldLinkNest "NineGraves" 78 "NineGraves$State" "row" "[I" "NineGraves") U := h.1 ("NineGraves", 78, "NineGraves$State", "row", "[I", "NineGraves") (List.mem_of_getElem? (i := 3) rfl)
theorem nFl_4 {U : State} (h : nW U) : va_Nw (.fieldLinkNest "NineGraves" 101 "NineGraves$State" "step" "[[I" "NineGraves") U := h.1 ("NineGraves", 101, "NineGraves$State", "step", "[[I", "NineGraves") (List.mem_of_getElem? (i := 4) rfl)
theorem nFl_5 {U : State} (h : nW U) : va_Nw (.fieldLinkNest "NineGraves" 289 "NineGraves$State" "seen" "[[I" "NineGraves") U := h.1 ("NineGraves", 289, "NineGraves$State", "seen", "[[I", "NineGraves") (List.mem_of_getElem? (i := 5) rfl)
theorem nFl_6 {U : State} (h : nW U) : va_Nw (.fieldLinkNest "NineGraves" 127 "NineGraves$State" "text" "[LNineGraves$Text;" "NineGraves") U := h.1 ("NineGraves", 127, "NineGraves$State", "text", "[LNineGraves$Text;", "NineGraves") (List.mem_of_getElem? (i := 6) rfl)
theorem nFl_7 {U : State} (h : nW U) : va_Nw (.fieldLinkNest "NineGraves" 174 "NineGraves$Text" "worn" "LNineGraves$Sum;" "NineGraves") U := h.1 ("NineGraves", 174, "NineGraves$Text", "worn", "LNineGraves$Sum;", "NineGraves") (List.mem_of_getElem? (i := 7) rfl)
theorem nFl_8 {U : State} (h : nW U) : va_Nw (.fieldLinkNest "NineGraves" 246 "NineGraves$Text" "holy" "LNineGraves$Asked;" "NineGraves") U := h.1 ("NineGraves", 246, "NineGraves$Text", "holy", "LNineGraves$Asked;", "NineGraves") (List.mem_of_getElem? (i := 8) rfl)
theorem nFl_9 {U : State} (h : nW U) : va_Nw (.fieldLinkNest "NineGraves" 259 "NineGraves$Text" "unlike" "LNineGraves$Asked;" "NineGraves") U := h.1 ("NineGraves", 259, "NineGraves$Text", "unlike", "LNineGraves$Asked;", "NineGraves") (List.mem_of_getElem? (i := 9) rfl)
theorem nFl_10 {U : State} (h : nW U) : va_Nw (.fieldLinkNest "NineGraves" 262 "NineGraves$Text" "many" "[I" "NineGraves") U := h.1 ("NineGraves", 262, "NineGraves$Text", "many", "[I", "NineGraves") (List.mem_of_getElem? (i := 10) rfl)
theorem nFl_11 {U : State} (h : nW U) : va_Nw (.fieldLinkNest "NineGraves" 222 "NineGraves$Text" "doings" "Ljava/util/ArrayList;" "NineGraves") U := h.1 ("NineGraves", 222, "NineGraves$Text", "doings", "Ljava/util/ArrayList;", "NineGraves") (List.mem_of_getElem? (i := 11) rfl)
theorem nFl_12 {U : State} (h : nW U) : va_Nw (.fieldLinkNest "NineGraves" 142 "NineGraves$Wrong" "fault" "I" "NineGraves") U := h.1 ("NineGraves", 142, "NineGraves$Wrong", "fault", "I", "NineGraves") (List.mem_of_getElem? (i := 12) rfl)
theorem nFl_13 {U : State} (h : nW U) : va_Nw (.fieldLinkNest "NineGraves" 143 "NineGraves$Wrong" "place" "I" "NineGraves") U := h.1 ("NineGraves", 143, "NineGraves$Wrong", "place", "I", "NineGraves") (List.mem_of_getElem? (i := 13) rfl)
theorem nFl_14 {U : State} (h : nW U) : va_Nw (.fieldLinkNest "NineGraves$Tokens" 86 "NineGraves$Text" "worn" "LNineGraves$Sum;" "NineGraves") U := h.1 ("NineGraves$Tokens", 86, "NineGraves$Text", "worn", "LNineGraves$Sum;", "NineGraves") (List.mem_of_getElem? (i := 14) rfl)
theorem nFl_15 {U : State} (h : nW U) : va_Nw (.fieldLinkNest "NineGraves$Tokens" 90 "NineGraves$Text" "holy" "LNineGraves$Asked;" "NineGraves") U := h.1 ("NineGraves$Tokens", 90, "NineGraves$Text", "holy", "LNineGraves$Asked;", "NineGraves") (List.mem_of_getElem? (i := 15) rfl)
theorem nFl_16 {U : State} (h : nW U) : va_Nw (.fieldLinkNest "NineGraves$Tokens" 94 "NineGraves$Text" "unlike" "LNineGraves$Asked;" "NineGraves") U := h.1 ("NineGraves$Tokens", 94, "NineGraves$Text", "unlike", "LNineGraves$Asked;", "NineGraves") (List.mem_of_getElem? (i := 16) rfl)
theorem nFl_17 {U : State} (h : nW U) : va_Nw (.fieldLinkNest "NineGraves$Tokens" 132 "NineGraves$Text" "many" "[I" "NineGraves") U := h.1 ("NineGraves$Tokens", 132, "NineGraves$Text", "many", "[I", "NineGraves") (List.mem_of_getElem? (i := 17) rfl)
theorem nFl_18 {U : State} (h : nW U) : va_Nw (.fieldLinkNest "NineGraves$Tokens" 118 "NineGraves$Text" "doings" "Ljava/util/ArrayList;" "NineGraves") U := h.1 ("NineGraves$Tokens", 118, "NineGraves$Text", "doings", "Ljava/util/ArrayList;", "NineGraves") (List.mem_of_getElem? (i := 18) rfl)
theorem nFl_19 {U : State} (h : nW U) : va_Nw (.fieldLinkNest "NineGraves$Tokens" 97 "NineGraves$Text" "clauses" "I" "NineGraves") U := h.1 ("NineGraves$Tokens", 97, "NineGraves$Text", "clauses", "I", "NineGraves") (List.mem_of_getElem? (i := 19) rfl)
theorem nMl_0 {U : State} (h : nW U) : va_Nw (.methodLinkNest "NineGraves" 242 (⟨"NineGraves$State", "copy", "([I[I)V"⟩ : MethodName) "NineGraves") U := h.2.1 ("NineGraves", 242, (⟨"NineGraves$State", "copy", "([I[I)V"⟩ : MethodName), "NineGraves") (List.mem_of_getElem? (i := 0) rfl)
theorem nMl_1 {U : State} (h : nW U) : va_Nw (.methodLinkNest "NineGraves$Tokens" 82 (⟨"NineGraves$Text", "<init>", "()V"⟩ : MethodName) "NineGraves") U := h.2.1 ("NineGraves$Tokens", 82, (⟨"NineGraves$Text", "<init>", "()V"⟩ : MethodName), "NineGraves") (List.mem_of_getElem? (i := 1) rfl)
theorem nMl_2 {U : State} (h : nW U) : va_Nw (.methodLinkNest "NineGraves$Tokens" 195 (⟨"NineGraves$Plain", "<init>", "(I)V"⟩ : MethodName) "NineGraves") U := h.2.1 ("NineGraves$Tokens", 195, (⟨"NineGraves$Plain", "<init>", "(I)V"⟩ : MethodName), "NineGraves") (List.mem_of_getElem? (i := 2) rfl)
theorem nMl_3 {U : State} (h : nW U) : va_Nw (.methodLinkNest "NineGraves$Tokens" 199 (⟨"NineGraves$Name", "<init>", "(I)V"⟩ : MethodName) "NineGraves") U := h.2.1 ("NineGraves$Tokens", 199, (⟨"NineGraves$Name", "<init>", "(I)V"⟩ : MethodName), "NineGraves") (List.mem_of_getElem? (i := 3) rfl)
theorem nMl_4 {U : State} (h : nW U) : va_Nw (.methodLinkNest "NineGraves$Tokens" 202 (⟨"NineGraves$Minus", "<init>", "(LNineGraves$Sum;)V"⟩ : MethodName) "NineGraves") U := h.2.1 ("NineGraves$Tokens", 202, (⟨"NineGraves$Minus", "<init>", "(LNineGraves$Sum;)V"⟩ : MethodName), "NineGraves") (List.mem_of_getElem? (i := 4) rfl)
theorem nMl_5 {U : State} (h : nW U) : va_Nw (.methodLinkNest "NineGraves$Tokens" 168 (⟨"NineGraves$Not", "<init>", "(LNineGraves$Asked;)V"⟩ : MethodName) "NineGraves") U := h.2.1 ("NineGraves$Tokens", 168, (⟨"NineGraves$Not", "<init>", "(LNineGraves$Asked;)V"⟩ : MethodName), "NineGraves") (List.mem_of_getElem? (i := 5) rfl)
theorem nMl_6 {U : State} (h : nW U) : va_Nw (.methodLinkNest "NineGraves$Tokens" 173 (⟨"NineGraves$Compared", "<init>", "(ILNineGraves$Sum;LNineGraves$Sum;)V"⟩ : MethodName) "NineGraves") U := h.2.1 ("NineGraves$Tokens", 173, (⟨"NineGraves$Compared", "<init>", "(ILNineGraves$Sum;LNineGraves$Sum;)V"⟩ : MethodName), "NineGraves") (List.mem_of_getElem? (i := 6) rfl)
theorem nMl_7 {U : State} (h : nW U) : va_Nw (.methodLinkNest "NineGraves$Tokens" 157 (⟨"NineGraves$All", "<init>", "(ZLjava/util/ArrayList;)V"⟩ : MethodName) "NineGraves") U := h.2.1 ("NineGraves$Tokens", 157, (⟨"NineGraves$All", "<init>", "(ZLjava/util/ArrayList;)V"⟩ : MethodName), "NineGraves") (List.mem_of_getElem? (i := 7) rfl)
theorem nMl_8 {U : State} (h : nW U) : va_Nw (.methodLinkNest "NineGraves$Tokens" 140 (⟨"NineGraves$Doing", "<init>", "(IIIII)V"⟩ : MethodName) "NineGraves") U := h.2.1 ("NineGraves$Tokens", 140, (⟨"NineGraves$Doing", "<init>", "(IIIII)V"⟩ : MethodName), "NineGraves") (List.mem_of_getElem? (i := 8) rfl)
theorem nCs_0 {U : State} (h : nW U) : va_Nw (.castable "java/lang/Integer" "java/lang/Object") U := h.2.2.1 ("java/lang/Integer", "java/lang/Object") (List.mem_of_getElem? (i := 0) rfl)
theorem nCs_1 {U : State} (h : nW U) : va_Nw (.castable "java/util/ArrayList" "java/lang/Object") U := h.2.2.1 ("java/util/ArrayList", "java/lang/Object") (List.mem_of_getElem? (i := 1) rfl)
theorem nCs_2 {U : State} (h : nW U) : va_Nw (.castable "java/lang/String" "java/lang/Object") U := h.2.2.1 ("java/lang/String", "java/lang/Object") (List.mem_of_getElem? (i := 2) rfl)
theorem nCs_3 {U : State} (h : nW U) : va_Nw (.castable "java/lang/Throwable" "java/lang/Object") U := h.2.2.1 ("java/lang/Throwable", "java/lang/Object") (List.mem_of_getElem? (i := 3) rfl)
theorem nCs_4 {U : State} (h : nW U) : va_Nw (.castable "NineGraves" "java/lang/Object") U := h.2.2.1 ("NineGraves", "java/lang/Object") (List.mem_of_getElem? (i := 4) rfl)
theorem nCs_5 {U : State} (h : nW U) : va_Nw (.castable "NineGraves$State" "java/lang/Object") U := h.2.2.1 ("NineGraves$State", "java/lang/Object") (List.mem_of_getElem? (i := 5) rfl)
theorem nCs_6 {U : State} (h : nW U) : va_Nw (.castable "NineGraves$Not" "NineGraves$Asked") U := h.2.2.1 ("NineGraves$Not", "NineGraves$Asked") (List.mem_of_getElem? (i := 6) rfl)
theorem nCs_7 {U : State} (h : nW U) : va_Nw (.castable "NineGraves$Not" "java/lang/Object") U := h.2.2.1 ("NineGraves$Not", "java/lang/Object") (List.mem_of_getElem? (i := 7) rfl)
theorem nCs_8 {U : State} (h : nW U) : va_Nw (.castable "NineGraves$Compared" "NineGraves$Asked") U := h.2.2.1 ("NineGraves$Compared", "NineGraves$Asked") (List.mem_of_getElem? (i := 8) rfl)
theorem nCs_9 {U : State} (h : nW U) : va_Nw (.castable "NineGraves$Compared" "java/lang/Object") U := h.2.2.1 ("NineGraves$Compared", "java/lang/Object") (List.mem_of_getElem? (i := 9) rfl)
theorem nCs_10 {U : State} (h : nW U) : va_Nw (.castable "NineGraves$All" "NineGraves$Asked") U := h.2.2.1 ("NineGraves$All", "NineGraves$Asked") (List.mem_of_getElem? (i := 10) rfl)
theorem nCs_11 {U : State} (h : nW U) : va_Nw (.castable "NineGraves$All" "java/lang/Object") U := h.2.2.1 ("NineGraves$All", "java/lang/Object") (List.mem_of_getElem? (i := 11) rfl)
theorem nCs_12 {U : State} (h : nW U) : va_Nw (.castable "NineGraves$Doing" "java/lang/Object") U := h.2.2.1 ("NineGraves$Doing", "java/lang/Object") (List.mem_of_getElem? (i := 12) rfl)
theorem nCs_13 {U : State} (h : nW U) : va_Nw (.castable "NineGravesModel" "java/lang/Object") U := h.2.2.1 ("NineGravesModel", "java/lang/Object") (List.mem_of_getElem? (i := 13) rfl)
theorem nCs_14 {U : State} (h : nW U) : va_Nw (.castable "NineGraves$Tokens" "java/lang/Object") U := h.2.2.1 ("NineGraves$Tokens", "java/lang/Object") (List.mem_of_getElem? (i := 14) rfl)
theorem nCs_15 {U : State} (h : nW U) : va_Nw (.castable "NineGraves$Text" "java/lang/Object") U := h.2.2.1 ("NineGraves$Text", "java/lang/Object") (List.mem_of_getElem? (i := 15) rfl)
theorem nCs_16 {U : State} (h : nW U) : va_Nw (.castable "NineGraves$Wrong" "NineGraves$Wrong") U := h.2.2.1 ("NineGraves$Wrong", "NineGraves$Wrong") (List.mem_of_getElem? (i := 16) rfl)
theorem nCs_17 {U : State} (h : nW U) : va_Nw (.castable "NineGraves$Wrong" "java/lang/Object") U := h.2.2.1 ("NineGraves$Wrong", "java/lang/Object") (List.mem_of_getElem? (i := 17) rfl)
theorem nCs_18 {U : State} (h : nW U) : va_Nw (.castable "NineGraves$Chain" "NineGraves$Sum") U := h.2.2.1 ("NineGraves$Chain", "NineGraves$Sum") (List.mem_of_getElem? (i := 18) rfl)
theorem nCs_19 {U : State} (h : nW U) : va_Nw (.castable "NineGraves$Chain" "java/lang/Object") U := h.2.2.1 ("NineGraves$Chain", "java/lang/Object") (List.mem_of_getElem? (i := 19) rfl)
theorem nCs_20 {U : State} (h : nW U) : va_Nw (.castable "NineGraves$Plain" "NineGraves$Sum") U := h.2.2.1 ("NineGraves$Plain", "NineGraves$Sum") (List.mem_of_getElem? (i := 20) rfl)
theorem nCs_21 {U : State} (h : nW U) : va_Nw (.castable "NineGraves$Plain" "java/lang/Object") U := h.2.2.1 ("NineGraves$Plain", "java/lang/Object") (List.mem_of_getElem? (i := 21) rfl)
theorem nCs_22 {U : State} (h : nW U) : va_Nw (.castable "NineGraves$Name" "NineGraves$Sum") U := h.2.2.1 ("NineGraves$Name", "NineGraves$Sum") (List.mem_of_getElem? (i := 22) rfl)
theorem nCs_23 {U : State} (h : nW U) : va_Nw (.castable "NineGraves$Name" "java/lang/Object") U := h.2.2.1 ("NineGraves$Name", "java/lang/Object") (List.mem_of_getElem? (i := 23) rfl)
theorem nCs_24 {U : State} (h : nW U) : va_Nw (.castable "NineGraves$Minus" "NineGraves$Sum") U := h.2.2.1 ("NineGraves$Minus", "NineGraves$Sum") (List.mem_of_getElem? (i := 24) rfl)
theorem nCs_25 {U : State} (h : nW U) : va_Nw (.castable "NineGraves$Minus" "java/lang/Object") U := h.2.2.1 ("NineGraves$Minus", "java/lang/Object") (List.mem_of_getElem? (i := 25) rfl)
theorem nCs_26 {U : State} (h : nW U) : va_Nw (.castable "[B" "java/lang/Object") U := h.2.2.1 ("[B", "java/lang/Object") (List.mem_of_getElem? (i := 26) rfl)
theorem nCs_27 {U : State} (h : nW U) : va_Nw (.castable "[I" "java/lang/Object") U := h.2.2.1 ("[I", "java/lang/Object") (List.mem_of_getElem? (i := 27) rfl)
theorem nCs_28 {U : State} (h : nW U) : va_Nw (.castable "[J" "java/lang/Object") U := h.2.2.1 ("[J", "java/lang/Object") (List.mem_of_getElem? (i := 28) rfl)
theorem nCs_29 {U : State} (h : nW U) : va_Nw (.castable "[LNineGraves$Text;" "java/lang/Object") U := h.2.2.1 ("[LNineGraves$Text;", "java/lang/Object") (List.mem_of_getElem? (i := 29) rfl)
theorem nCs_30 {U : State} (h : nW U) : va_Nw (.castable "[Ljava/lang/Object;" "java/lang/Object") U := h.2.2.1 ("[Ljava/lang/Object;", "java/lang/Object") (List.mem_of_getElem? (i := 30) rfl)
theorem nCs_31 {U : State} (h : nW U) : va_Nw (.castable "[Ljava/lang/String;" "java/lang/Object") U := h.2.2.1 ("[Ljava/lang/String;", "java/lang/Object") (List.mem_of_getElem? (i := 31) rfl)
theorem nCs_32 {U : State} (h : nW U) : va_Nw (.castable "[Z" "java/lang/Object") U := h.2.2.1 ("[Z", "java/lang/Object") (List.mem_of_getElem? (i := 32) rfl)
theorem nCs_33 {U : State} (h : nW U) : va_Nw (.castable "[[I" "java/lang/Object") U := h.2.2.1 ("[[I", "java/lang/Object") (List.mem_of_getElem? (i := 33) rfl)
theorem nCs_34 {U : State} (h : nW U) : va_Nw (.castable "[[J" "java/lang/Object") U := h.2.2.1 ("[[J", "java/lang/Object") (List.mem_of_getElem? (i := 34) rfl)
theorem nCs_35 {U : State} (h : nW U) : va_Nw (.castable "[[Z" "java/lang/Object") U := h.2.2.1 ("[[Z", "java/lang/Object") (List.mem_of_getElem? (i := 35) rfl)
theorem nFw_0 {U : State} (h : nW U) : va_Fw "NineGraves$Plain" (⟨"NineGraves$Sum", "of", "([I)J"⟩ : MethodName) (⟨"NineGraves$Plain", "of", "([I)J"⟩ : MethodName) U := h.2.2.2.1 ("NineGraves$Plain", (⟨"NineGraves$Sum", "of", "([I)J"⟩ : MethodName), (⟨"NineGraves$Plain", "of", "([I)J"⟩ : MethodName)) (List.mem_of_getElem? (i := 0) rfl)
theorem nFw_1 {U : State} (h : nW U) : va_Fw "NineGraves$Name" (⟨"NineGraves$Sum", "of", "([I)J"⟩ : MethodName) (⟨"NineGraves$Name", "of", "([I)J"⟩ : MethodName) U := h.2.2.2.1 ("NineGraves$Name", (⟨"NineGraves$Sum", "of", "([I)J"⟩ : MethodName), (⟨"NineGraves$Name", "of", "([I)J"⟩ : MethodName)) (List.mem_of_getElem? (i := 1) rfl)
theorem nFw_2 {U : State} (h : nW U) : va_Fw "NineGraves$Minus" (⟨"NineGraves$Sum", "of", "([I)J"⟩ : MethodName) (⟨"NineGraves$Minus", "of", "([I)J"⟩ : MethodName) U := h.2.2.2.1 ("NineGraves$Minus", (⟨"NineGraves$Sum", "of", "([I)J"⟩ : MethodName), (⟨"NineGraves$Minus", "of", "([I)J"⟩ : MethodName)) (List.mem_of_getElem? (i := 2) rfl)
theorem nFw_3 {U : State} (h : nW U) : va_Fw "NineGraves$Chain" (⟨"NineGraves$Sum", "of", "([I)J"⟩ : MethodName) (⟨"NineGraves$Chain", "of", "([I)J"⟩ : MethodName) U := h.2.2.2.1 ("NineGraves$Chain", (⟨"NineGraves$Sum", "of", "([I)J"⟩ : MethodName), (⟨"NineGraves$Chain", "of", "([I)J"⟩ : MethodName)) (List.mem_of_getElem? (i := 3) rfl)
theorem nFw_4 {U : State} (h : nW U) : va_Fw "NineGraves$Compared" (⟨"NineGraves$Asked", "is", "([I)Z"⟩ : MethodName) (⟨"NineGraves$Compared", "is", "([I)Z"⟩ : MethodName) U := h.2.2.2.1 ("NineGraves$Compared", (⟨"NineGraves$Asked", "is", "([I)Z"⟩ : MethodName), (⟨"NineGraves$Compared", "is", "([I)Z"⟩ : MethodName)) (List.mem_of_getElem? (i := 4) rfl)
theorem nFw_5 {U : State} (h : nW U) : va_Fw "NineGraves$Not" (⟨"NineGraves$Asked", "is", "([I)Z"⟩ : MethodName) (⟨"NineGraves$Not", "is", "([I)Z"⟩ : MethodName) U := h.2.2.2.1 ("NineGraves$Not", (⟨"NineGraves$Asked", "is", "([I)Z"⟩ : MethodName), (⟨"NineGraves$Not", "is", "([I)Z"⟩ : MethodName)) (List.mem_of_getElem? (i := 5) rfl)
theorem nFw_6 {U : State} (h : nW U) : va_Fw "NineGraves$All" (⟨"NineGraves$Asked", "is", "([I)Z"⟩ : MethodName) (⟨"NineGraves$All", "is", "([I)Z"⟩ : MethodName) U := h.2.2.2.1 ("NineGraves$All", (⟨"NineGraves$Asked", "is", "([I)Z"⟩ : MethodName), (⟨"NineGraves$All", "is", "([I)Z"⟩ : MethodName)) (List.mem_of_getElem? (i := 6) rfl)/-! THE WORLD: static cells at ad 0 .. ad (M-1), by descriptors; and a pool of other cells -/
/-- a cell of the pool: an array of numbers (kind, length, contents); an object (class's place, fields: int, long, reference); an array of references (class's place, length, contents) -/
abbrev PV : Type := Int ⊕ Int ⊕ Option Nat
abbrev PE : Type := (Nat × Nat × (Int → Int)) ⊕ (Nat × List PV) ⊕ (Nat × Nat × (Int → Option Nat))
abbrev St : Type := (Nat → Int) × (Nat → Int → Int) × (Nat → Int → Option Nat) × (Nat → Option PE)
def fI (S : St) (k : Nat) : Int := S.1 k
def aI (S : St) (j : Nat) (i : Int) : Int := S.2.1 j i
def rI (S : St) (j : Nat) (i : Int) : Option Nat := S.2.2.1 j i
def gI (S : St) (a : Nat) : Option PE := S.2.2.2 a
def fset (S : St) (k : Nat) (v : Int) : St := (fun x => if x = k then v else S.1 x, S.2)
def aset (S : St) (j : Nat) (i v : Int) : St := (S.1, fun x y => if x = j ∧ y = i then v else S.2.1 x y, S.2.2)
def rset (S : St) (j : Nat) (i : Int) (v : Option Nat) : St := (S.1, S.2.1, fun x y => if x = j ∧ y = i then v else S.2.2.1 x y, S.2.2.2)
def gset (S : St) (a : Nat) (e : PE) : St := (S.1, S.2.1, S.2.2.1, fun x => if x = a then some e else S.2.2.2 x)
theorem fI_fset (S : St) (k x : Nat) (v : Int) : fI (fset S k v) x = if x = k then v else fI S x := rfl
theorem fI_fset_s (S : St) (k : Nat) (v : Int) : fI (fset S k v) k = v := by simp [fI_fset]
theorem fI_fset_n {S : St} {k x : Nat} {v : Int} (h : x ≠ k) : fI (fset S k v) x = fI S x := by simp [fI_fset, h]
theorem aI_fset (S : St) (k : Nat) (v : Int) : aI (fset S k v) = aI S := rfl
theorem rI_fset (S : St) (k : Nat) (v : Int) : rI (fset S k v) = rI S := rfl
theorem gI_fset (S : St) (k : Nat) (v : Int) : gI (fset S k v) = gI S := rfl
theorem fI_aset (S : St) (j : Nat) (i v : Int) : fI (aset S j i v) = fI S := rfl
theorem aI_aset (S : St) (j x : Nat) (i v y : Int) : aI (aset S j i v) x y = if x = j ∧ y = i then v else aI S x y := rfl
theorem aI_aset_s (S : St) (j : Nat) (i v : Int) : aI (aset S j i v) j i = v := by simp [aI_aset]
theorem aI_aset_j {S : St} {j x : Nat} {i v y : Int} (h : x ≠ j) : aI (aset S j i v) x y = aI S x y := by simp [aI_aset, h]
theorem aI_aset_i {S : St} {j x : Nat} {i v y : Int} (h : y ≠ i) : aI (aset S j i v) x y = aI S x y := by simp [aI_aset, h]
theorem rI_aset (S : St) (j : Nat) (i v : Int) : rI (aset S j i v) = rI S := rfl
theorem gI_aset (S : St) (j : Nat) (i v : Int) : gI (aset S j i v) = gI S := rfl
theorem fI_rset (S : St) (j : Nat) (i : Int) (v : Option Nat) : fI (rset S j i v) = fI S := rfl
theorem aI_rset (S : St) (j : Nat) (i : Int) (v : Option Nat) : aI (rset S j i v) = aI S := rfl
theorem rI_rset (S : St) (j x : Nat) (i y : Int) (v : Option Nat) : rI (rset S j i v) x y = if x = j ∧ y = i then v else rI S x y := rfl
theorem gI_rset (S : St) (j : Nat) (i : Int) (v : Option Nat) : gI (rset S j i v) = gI S := rfl
theorem fI_gset (S : St) (a : Nat) (e : PE) : fI (gset S a e) = fI S := rfl
theorem aI_gset (S : St) (a : Nat) (e : PE) : aI (gset S a e) = aI S := rfl
theorem rI_gset (S : St) (a : Nat) (e : PE) : rI (gset S a e) = rI S := rfl
theorem gI_gset (S : St) (a x : Nat) (e : PE) : gI (gset S a e) x = if x = a then some e else gI S x := rfl
/-- a static cell: an array (kind, length); an object (class's place, fields; a field is a link to a static cell, or a number (kind, which)); an array of links (class's place, length, from which cell on); an array of references (class's place, length) -/
abbrev Cd : Type := (Nat × Nat) ⊕ (Nat × Nat × (Nat → Nat ⊕ Nat × Nat)) ⊕ (Nat × Nat × Nat) ⊕ (Nat × Nat)
/-- how many cells; what each is; the kinds of the numbers -/
abbrev Wd : Type := Nat × (Nat → Cd) × (Nat → Nat)
/-- kinds: 0 int, 1 long, 2 boolean, 3 byte -/
def kdP (k : Nat) (x : Int) : Prop := match k with
  | 1 => InL x
  | 2 => x = 0 ∨ x = 1
  | 3 => -128 ≤ x ∧ x ≤ 127
  | _ => InR x
theorem kdP_R {k : Nat} {x : Int} (h : k ≠ 1) (hk : kdP k x) : InR x := by
  unfold kdP at hk
  split at hk
  · exact absurd rfl h
  · rcases hk with rfl | rfl <;> decide
  · constructor <;> omega
  · exact hk
def vN (kd : Nat) (x : Int) : Value := if kd = 1 then jV x else iV x
def arrE (dA : Nat → ClassId) (kd len : Nat) (f : Int → Int) : va_E := if kd = 1 then .inl (dA 1, len, .inr (.inl fun j : Nat => Int64.ofInt (f j))) else .inl (dA kd, len, .inl fun j : Nat => Int32.ofInt (f j))
def ofE (ad : Nat → Nat) (S : St) (t : Nat ⊕ Nat × Nat) : Value := match t with
  | .inl t => .ref (ad t)
  | .inr q => vN q.1 (fI S q.2)
def cE (dA : Nat → ClassId) (ad : Nat → Nat) (S : St) (k : Nat) (d : Cd) : va_E := match d with
  | .inl q => arrE dA q.1 q.2 (aI S k)
  | .inr (.inl q) => .inr (q.1, (List.range q.2.1).map (fun i => ofE ad S (q.2.2 i)))
  | .inr (.inr (.inl q)) => .inl (dA q.1, q.2.1, .inr (.inr (.inr (.inr (fun i => some (ad (q.2.2 + i)))))))
  | .inr (.inr (.inr q)) => .inl (dA q.1, q.2, .inr (.inr (.inr (.inr (fun i : Nat => rI S k i)))))
def pV (v : PV) : Value := match v with
  | .inl n => iV n
  | .inr (.inl n) => jV n
  | .inr (.inr r) => va_rf r
def peE (dA : Nat → ClassId) (e : PE) : va_E := match e with
  | .inl q => arrE dA q.1 q.2.1 q.2.2
  | .inr (.inl q) => .inr (q.1, q.2.map pV)
  | .inr (.inr q) => .inl (dA q.1, q.2.1, .inr (.inr (.inr (.inr (fun i : Nat => q.2.2 i)))))
def pvP (v : PV) : Prop := match v with
  | .inl n => InR n
  | .inr (.inl n) => InL n
  | .inr (.inr _) => True
def peP (e : PE) : Prop := match e with
  | .inl q => q.2.1 ≤ 100000 ∧ ∀ i, kdP q.1 (q.2.2 i)
  | .inr (.inl q) => ∀ v ∈ q.2, pvP v
  | .inr (.inr q) => q.2.1 ≤ 1000000
def nrm (w : Wd) (S : St) : Prop := (∀ x, kdP (w.2.2 x) (fI S x)) ∧ ∀ k kd len, w.2.1 k = .inl (kd, len) → ∀ i, kdP kd (aI S k i)
/-- constants of the component's pool (world wX): old cells that nobody writes: ad 1000 the empty array of a list, ad (1001 + k) the box of k - 128; in the state they stand as rI S 500 -/
def cN (w : Wd) : Nat := if w.1 = 142 then 257 else 0
def cPE (k : Nat) : PE := if k = 0 then .inr (.inr (8, 0, fun _ => none)) else .inr (.inl (15, [.inl ((k : Int) - 129)]))
def isC (w : Wd) (ad : Nat → Nat) (q : Nat) : Prop := ∃ k, k < cN w ∧ q = ad (1000 + k)
def cst (w : Wd) (ad : Nat → Nat) (S : St) : Prop := (∀ k, k < cN w → gI S (ad (1000 + k)) = some (cPE k)) ∧ (0 < cN w → rI S 500 0 = some (ad 1000) ∧ rI S 500 1 = some (ad 8))
theorem cPE_ni (k : Nat) (x : Nat × Nat × (Int → Int)) : cPE k ≠ .inl x := by
  unfold cPE
  split <;> (intro h; cases h)
theorem cPE_no {k ci : Nat} {fs : List PV} (h : cPE k = .inr (.inl (ci, fs))) : ci = 15 := by
  unfold cPE at h
  split at h
  · cases h
  · cases h; rfl
theorem cPE_na {k ci n : Nat} {f : Int → Option Nat} (h : cPE k = .inr (.inr (ci, n, f))) : n = 0 := by
  unfold cPE at h
  split at h
  · cases h; rfl
  · cases h
/-- a cell that stands as one of its kind, whatever its monitor, its hash and what else it bears (the constants are such) -/
def kat (D : va_G) (q : Nat × va_E) (H : Heap) : Prop := ∃ cell : Cell, H[q.1]? = some cell ∧ cell.vm ≠ .unknown ∧ cell.vm.isStatics = false ∧ (match q.2 with
  | .inl a => cell.cls = a.1 ∧ cell.slots = (vp_cell a.1 a.2).slots
  | .inr o => ∃ r : vw_C, vwCl[o.1]? = some r ∧ cell.cls = D.1 o.1 ∧ ∀ k, k < r.2.2 → cell.slots[D.2 o.1 k]? = some (vp_V o.2 k))
theorem vp_cell_cls (c : ClassId) (a : vp_A) : (vp_cell c a).cls = c ∧ (vp_cell c a).vm = .none := by
  obtain ⟨n, f | f | f | f | f⟩ := a <;> exact ⟨rfl, rfl⟩
theorem kat.of {D : va_G} {q : Nat × va_E} {H : Heap} (h : va_at D vwCl q H) : kat D q H := by
  obtain ⟨q, a | o⟩ := q
  · have h1 : H[q]? = some (vp_cell a.1 a.2) := h
    obtain ⟨h2, h3⟩ := vp_cell_cls a.1 a.2
    exact ⟨_, h1, by rw [h3]; exact fun z => (by cases z), by rw [h3]; rfl, h2, rfl⟩
  · obtain ⟨r, h1, cell, q1, q2, q3, q4⟩ := h
    exact ⟨cell, q1, by rw [q3]; exact fun z => (by cases z), by rw [q3]; rfl, r, h1, q2, q4⟩
theorem kat.kept {D : va_G} {q : Nat × va_E} {H H1 : Heap} (h : kat D q H) (hq : H1[q.1]? = H[q.1]?) : kat D q H1 := by
  obtain ⟨cell, h1, h2⟩ := h
  exact ⟨cell, by rw [hq]; exact h1, h2⟩
theorem kat.lt {D : va_G} {q : Nat × va_E} {H : Heap} (h : kat D q H) : q.1 < H.size := by
  obtain ⟨cell, h1, -⟩ := h
  exact (Array.getElem?_eq_some_iff.mp h1).1
/-- a cell of the pool -/
def pAt (D : va_G) (w : Wd) (ad : Nat → Nat) (q : Nat × va_E) (H : Heap) : Prop := kat D q H ∧ (¬ isC w ad q.1 → va_at D vwCl q H)
theorem pAt.of {D : va_G} {w : Wd} {ad : Nat → Nat} {q : Nat × va_E} {H : Heap} (h : va_at D vwCl q H) : pAt D w ad q H := ⟨kat.of h, fun _ => h⟩
theorem pAt.kept {D : va_G} {w : Wd} {ad : Nat → Nat} {q : Nat × va_E} {H H1 : Heap} (h : pAt D w ad q H) (hq : H1[q.1]? = H[q.1]?) : pAt D w ad q H1 := ⟨h.1.kept hq, fun hn => (h.2 hn).kept hq⟩
theorem pAt.lt {D : va_G} {w : Wd} {ad : Nat → Nat} {q : Nat × va_E} {H : Heap} (h : pAt D w ad q H) : q.1 < H.size := h.1.lt
def sC (D : va_G) (dA : Nat → ClassId) (w : Wd) (ad : Nat → Nat) (A : Nat → Prop) (S : St) (H : Heap) : Prop :=
  (∀ k, k < w.1 → va_at D vwCl (ad k, cE dA ad S k (w.2.1 k)) H) ∧ (∀ i j, i < w.1 → j < w.1 → ad i = ad j → i = j) ∧ (∀ k, k < w.1 → A (ad k)) ∧ nrm w S ∧ (∀ a e, gI S a = some e → pAt D w ad (a, peE dA e) H ∧ (A a ∨ isC w ad a) ∧ (∀ k, k < w.1 → a ≠ ad k) ∧ peP e) ∧ cst w ad S
def sI (D : va_G) (dA : Nat → ClassId) (w : Wd) (ad : Nat → Nat) (A : Nat → Prop) (H0 : Heap) (S : St) (H : Heap) (locs : List Loc) : Prop :=
  sC D dA w ad A S H ∧ va_S A H0 H locs ∧ (∀ q, H0.size ≤ q → A q) ∧ ∀ q, isC w ad q → ¬ A q
/-- which cells a method may change: the world's, and new ones -/
def wA (w : Wd) (ad : Nat → Nat) (S : St) (sz : Nat) : Nat → Prop := fun q => (∃ k, k < w.1 ∧ q = ad k) ∨ (gI S q ≠ none ∧ ¬ isC w ad q) ∨ sz ≤ q
def sPre (D : va_G) (dA : Nat → ClassId) (w : Wd) (ad : Nat → Nat) (S : St) (sz : Nat) : State → Prop := fun U => U.heap.size = sz ∧ gK D dA U ∧ sC D dA w ad (wA w ad S sz) S U.heap
def sPost (D : va_G) (dA : Nat → ClassId) (w : Wd) (ad : Nat → Nat) (A : Nat → Prop) : St → State → Prop := fun S t => sC D dA w ad A S t.heap
def rmD (d mc ms : Nat) : Room := { frames := d + 1, cells := mc, slots := ms, locals := 64 * d + 64 }
abbrev vwP1 (D : va_G) (a : Nat) (e : va_E) : va_W := [(a, e)]
theorem va_P1 {D : va_G} {a : Nat} {e : va_E} {H : Heap} (h : va_at D vwCl (a, e) H) : va_P D vwCl [(a, e)] H := by
  intro k q hk
  match k, hk with
  | 0, hk => cases hk; exact h
  | k + 1, hk => simp at hk
theorem sC.mono {D : va_G} {dA : Nat → ClassId} {w : Wd} {ad : Nat → Nat} {A B : Nat → Prop} {S : St} {H : Heap} (h : sC D dA w ad A S H) (hAB : ∀ q, A q → B q) : sC D dA w ad B S H :=
  ⟨h.1, h.2.1, fun k hk => hAB _ (h.2.2.1 k hk), h.2.2.2.1, fun a e he => ⟨(h.2.2.2.2.1 a e he).1, (h.2.2.2.2.1 a e he).2.1.imp_left (hAB a), (h.2.2.2.2.1 a e he).2.2⟩, h.2.2.2.2.2⟩
theorem sC.self {D : va_G} {dA : Nat → ClassId} {w : Wd} {ad : Nat → Nat} {A : Nat → Prop} {S : St} {H : Heap} {sz : Nat} (h : sC D dA w ad A S H) : sC D dA w ad (wA w ad S sz) S H :=
  ⟨h.1, h.2.1, fun k hk => Or.inl ⟨k, hk, rfl⟩, h.2.2.2.1, fun a e he => ⟨(h.2.2.2.2.1 a e he).1, (by
    by_cases hc : isC w ad a
    · exact Or.inr hc
    · exact Or.inl (Or.inr (Or.inl ⟨by rw [he]; simp, hc⟩))), (h.2.2.2.2.1 a e he).2.2⟩, h.2.2.2.2.2⟩
/-- a method's start -/
theorem sC.start {D : va_G} {dA : Nat → ClassId} {w : Wd} {ad : Nat → Nat} {S : St} {H : Heap} (h : sC D dA w ad (wA w ad S H.size) S H) : sI D dA w ad (wA w ad S H.size) H S H [] := by
  refine ⟨h, va_S.rf, fun q hq => Or.inr (Or.inr hq), fun q hq hA => ?_⟩
  obtain ⟨k, hk, rfl⟩ := hq
  have h1 := h.2.2.2.2.2.1 k hk
  obtain ⟨h2, -, h3, -⟩ := h.2.2.2.2.1 _ _ h1
  rcases hA with ⟨j, hj, e⟩ | ⟨-, hn⟩ | hz
  · exact h3 j hj e
  · exact hn ⟨k, hk, rfl⟩
  · have h4 : ad (1000 + k) < H.size := h2.lt
    omega
theorem sI.sub {D : va_G} {dA : Nat → ClassId} {w : Wd} {ad : Nat → Nat} {A : Nat → Prop} {H0 : Heap} {S : St} {H : Heap} {locs : List Loc} (h : sI D dA w ad A H0 S H locs) : ∀ q, wA w ad S H.size q → A q := by
  obtain ⟨⟨h1, h2, h3, h4, h5, h6⟩, hS, hA, -⟩ := h
  intro q hq
  rcases hq with ⟨k, hk, rfl⟩ | ⟨hq, hn⟩ | hq
  · exact h3 k hk
  · cases hg : gI S q with
    | none => exact absurd hg hq
    | some e => exact (h5 q e hg).2.1.elim id (fun hc => absurd hc hn)
  · exact hA q (Nat.le_trans hS.1 hq)
/-- a cell of the pool that is no constant is its own -/
theorem sI.own {D : va_G} {dA : Nat → ClassId} {w : Wd} {ad : Nat → Nat} {A : Nat → Prop} {H0 : Heap} {S : St} {H : Heap} {locs : List Loc} (h : sI D dA w ad A H0 S H locs) {q : Nat} {e : PE} (hg : gI S q = some e) (hn : ∀ k, cPE k ≠ e) : A q := by
  rcases (h.1.2.2.2.2.1 q e hg).2.1 with hA | ⟨k, hk, rfl⟩
  · exact hA
  · have h1 := h.1.2.2.2.2.2.1 k hk
    rw [hg] at h1
    exact absurd (Option.some.inj h1).symm (hn k)
theorem sI.ownI {D : va_G} {dA : Nat → ClassId} {w : Wd} {ad : Nat → Nat} {A : Nat → Prop} {H0 : Heap} {S : St} {H : Heap} {locs : List Loc} (h : sI D dA w ad A H0 S H locs) {q : Nat} {x : Nat × Nat × (Int → Int)} (hg : gI S q = some (.inl x)) : A q := h.own hg (fun k => cPE_ni k x)
theorem sI.ownO {D : va_G} {dA : Nat → ClassId} {w : Wd} {ad : Nat → Nat} {A : Nat → Prop} {H0 : Heap} {S : St} {H : Heap} {locs : List Loc} (h : sI D dA w ad A H0 S H locs) {q ci : Nat} {fs : List PV} (hg : gI S q = some (.inr (.inl (ci, fs)))) (hc : ci ≠ 15) : A q := h.own hg (fun k e => hc (cPE_no e))
theorem sI.ownA {D : va_G} {dA : Nat → ClassId} {w : Wd} {ad : Nat → Nat} {A : Nat → Prop} {H0 : Heap} {S : St} {H : Heap} {locs : List Loc} (h : sI D dA w ad A H0 S H locs) {q ci n : Nat} {f : Int → Option Nat} (hg : gI S q = some (.inr (.inr (ci, n, f)))) (hn : n ≠ 0) : A q := h.own hg (fun k e => hn (cPE_na e))
/-- other heap, all old cells as they were -/
theorem sC.kept {D : va_G} {dA : Nat → ClassId} {w : Wd} {ad : Nat → Nat} {A : Nat → Prop} {S : St} {H H1 : Heap} (h : sC D dA w ad A S H) (hq : ∀ q : Nat, q < H.size → H1[q]? = H[q]?) : sC D dA w ad A S H1 :=
  ⟨fun k hk => (h.1 k hk).kept (hq _ (h.1 k hk).lt), h.2.1, h.2.2.1, h.2.2.2.1, fun a e he => ⟨(h.2.2.2.2.1 a e he).1.kept (hq _ (h.2.2.2.2.1 a e he).1.lt), (h.2.2.2.2.1 a e he).2⟩, h.2.2.2.2.2⟩
/-- one static cell changed -/
theorem sC.set {D : va_G} {dA : Nat → ClassId} {w : Wd} {ad : Nat → Nat} {A : Nat → Prop} {S S' : St} {H H1 : Heap} (h : sC D dA w ad A S H) (k : Nat) (hk : k < w.1)
    (ho : ∀ j, j < w.1 → j ≠ k → cE dA ad S' j (w.2.1 j) = cE dA ad S j (w.2.1 j)) (hG : gI S' = gI S) (hR5 : rI S' 500 = rI S 500) (hn : nrm w S') (hat : va_at D vwCl (ad k, cE dA ad S' k (w.2.1 k)) H1) (oq : ∀ q : Nat, q ≠ ad k → H1[q]? = H[q]?) : sC D dA w ad A S' H1 := by
  obtain ⟨h1, h2, h3, h4, h5, h6⟩ := h
  refine ⟨fun j hj => ?_, h2, h3, hn, fun a e he => ?_, ⟨fun j hj => ?_, fun hj => ?_⟩⟩
  · by_cases hjk : j = k
    · subst hjk; exact hat
    · rw [ho j hj hjk]
      exact (h1 j hj).kept (oq _ (fun z => hjk (h2 j k hj hk z)))
  · rw [hG] at he
    obtain ⟨q1, q2, q3⟩ := h5 a e he
    exact ⟨q1.kept (oq a (q3.1 k hk)), q2, q3⟩
  · rw [hG]; exact h6.1 j hj
  · rw [hR5]; exact h6.2 hj
/-- one cell of the pool changed, or put there -/
theorem sC.gset {D : va_G} {dA : Nat → ClassId} {w : Wd} {ad : Nat → Nat} {A : Nat → Prop} {S : St} {H H1 : Heap} (h : sC D dA w ad A S H) (hN : ∀ q, isC w ad q → ¬ A q) (a : Nat) (e : PE) (hA : A a) (hd : ∀ k, k < w.1 → a ≠ ad k) (hat : va_at D vwCl (a, peE dA e) H1) (he : peP e) (oq : ∀ q : Nat, q < H.size → q ≠ a → H1[q]? = H[q]?) : sC D dA w ad A (gset S a e) H1 := by
  obtain ⟨h1, h2, h3, h4, h5, h6⟩ := h
  refine ⟨fun j hj => ?_, h2, h3, h4, fun b f hf => ?_, ⟨fun j hj => ?_, h6.2⟩⟩
  · exact (h1 j hj).kept (oq _ (h1 j hj).lt (fun z => hd j hj z.symm))
  · rw [gI_gset] at hf
    by_cases hb : b = a
    · rw [if_pos hb] at hf
      cases hf
      subst hb
      exact ⟨pAt.of hat, Or.inl hA, hd, he⟩
    · rw [if_neg hb] at hf
      obtain ⟨q1, q2, q3⟩ := h5 b f hf
      exact ⟨q1.kept (oq b q1.lt hb), q2, q3⟩
  · rw [gI_gset, if_neg (fun z => hN _ ⟨j, hj, rfl⟩ (by rw [z]; exact hA))]
    exact h6.1 j hj
theorem cE_aset {dA : Nat → ClassId} {ad : Nat → Nat} {S : St} {j k : Nat} {i v : Int} (h : j ≠ k) (d : Cd) : cE dA ad (aset S k i v) j d = cE dA ad S j d := by
  obtain q | q | q | q := d
  · show arrE _ _ _ _ = arrE _ _ _ _
    have e : aI (aset S k i v) j = aI S j := by funext y; exact aI_aset_j h
    rw [e]
  · rfl
  · rfl
  · rfl
theorem nrm_aset {w : Wd} {S : St} {k kd len : Nat} {i v : Int} (h : nrm w S) (hd : w.2.1 k = .inl (kd, len)) (hv : kdP kd v) : nrm w (aset S k i v) := by
  refine ⟨h.1, fun k' kd' len' hd' j => ?_⟩
  rw [aI_aset]
  by_cases hj : k' = k ∧ j = i
  · rw [if_pos hj]
    obtain ⟨rfl, -⟩ := hj
    rw [hd] at hd'
    cases hd'
    exact hv
  · rw [if_neg hj]
    exact h.2 k' kd' len' hd' j
theorem arr_set_i {f g : Int → Int} {i v : Int} (hi : 0 ≤ i) (hg : ∀ y, g y = if y = i then v else f y) : updV (fun j : Nat => Value.int (Int32.ofInt (f j))) i.toNat (iV v) = fun j : Nat => Value.int (Int32.ofInt (g j)) := by
  funext j
  unfold updV
  by_cases h : j = i.toNat
  · rw [if_pos h, hg, if_pos (by omega)]
  · rw [if_neg h, hg, if_neg (by omega)]
theorem arr_set_j {f g : Int → Int} {i v : Int} (hi : 0 ≤ i) (hg : ∀ y, g y = if y = i then v else f y) : updV (fun j : Nat => Value.long (Int64.ofInt (f j))) i.toNat (jV v) = fun j : Nat => Value.long (Int64.ofInt (g j)) := by
  funext j
  unfold updV
  by_cases h : j = i.toNat
  · rw [if_pos h, hg, if_pos (by omega)]
  · rw [if_neg h, hg, if_neg (by omega)]
theorem nar_z {v : Int} (h : kdP 2 v) : narrow .boolean (.int (Int32.ofInt v)) = iV v := by
  rcases h with rfl | rfl <;> rfl
theorem nar_b {v : Int} (h : kdP 3 v) : narrow .byte (.int (Int32.ofInt v)) = iV v := by
  show Value.int (Int32.ofInt v).toInt8.toInt32 = iV v
  rw [ni_2b]
  have e : v.bmod 256 = v := by
    have h : -128 ≤ v ∧ v ≤ 127 := h
    rw [Int.bmod_def]; split <;> omega
  rw [e]
theorem fit_z {v : Int} (h : v = 0 ∨ v = 1) : fits .boolean (iV v) = true := by
  rcases h with rfl | rfl <;> rfl
/-- a run of f laid into array k, from place dp on, n long -/
def pcpy (S : St) (f : Int → Int) (sp : Int) (k : Nat) (dp n : Int) : St := (S.1, fun x y => if x = k ∧ dp ≤ y ∧ y < dp + n then f (sp + (y - dp)) else S.2.1 x y, S.2.2)
def rcpy (S : St) (j k : Nat) (n : Int) : St := (S.1, S.2.1, fun x y => if x = k ∧ 0 ≤ y ∧ y < n then S.2.2.1 j y else S.2.2.1 x y, S.2.2.2)
theorem fI_pcpy (S : St) (f : Int → Int) (sp : Int) (k : Nat) (dp n : Int) : fI (pcpy S f sp k dp n) = fI S := rfl
theorem aI_pcpy (S : St) (f : Int → Int) (sp : Int) (k x : Nat) (dp n y : Int) : aI (pcpy S f sp k dp n) x y = if x = k ∧ dp ≤ y ∧ y < dp + n then f (sp + (y - dp)) else aI S x y := rfl
theorem rI_pcpy (S : St) (f : Int → Int) (sp : Int) (k : Nat) (dp n : Int) : rI (pcpy S f sp k dp n) = rI S := rfl
theorem gI_pcpy (S : St) (f : Int → Int) (sp : Int) (k : Nat) (dp n : Int) : gI (pcpy S f sp k dp n) = gI S := rfl
theorem fI_rcpy (S : St) (j k : Nat) (n : Int) : fI (rcpy S j k n) = fI S := rfl
theorem aI_rcpy (S : St) (j k : Nat) (n : Int) : aI (rcpy S j k n) = aI S := rfl
theorem rI_rcpy (S : St) (j k x : Nat) (n y : Int) : rI (rcpy S j k n) x y = if x = k ∧ 0 ≤ y ∧ y < n then rI S j y else rI S x y := rfl
theorem gI_rcpy (S : St) (j k : Nat) (n : Int) : gI (rcpy S j k n) = gI S := rfl
section SROWS
variable {p : Program} {l : Launch} {e : Env} {R : Room} {s : State} {m : MethodId} {args : Array Value} {below : List Frame} {meth : Method} {c : Code} {H : Heap} {locs : List Loc} {cells slots : Nat} {Q : State → Prop}
variable {cc : ByteArray} {pc : Nat} {ls : Array Slot} {rest : List Value} {D : va_G} {dA : Nat → ClassId} {w : Wd} {ad : Nat → Nat} {A : Nat → Prop} {H0 : Heap} {S : St}
theorem s_obj {ci n : Nat} {ft : Nat → Nat ⊕ Nat × Nat} (hI : sI D dA w ad A H0 S H locs) (k : Nat) (hk : k < w.1) (hd : w.2.1 k = .inr (.inl (ci, n, ft))) : va_at D vwCl (ad k, .inr (ci, (List.range n).map (fun i => ofE ad S (ft i)))) H := by
  have h := hI.1.1 k hk
  rw [hd] at h
  exact h
theorem s_fld {n i : Nat} {ft : Nat → Nat ⊕ Nat × Nat} {t : Nat ⊕ Nat × Nat} (hi : i < n) (hf : ft i = t) : ((List.range n).map (fun i => ofE ad S (ft i)))[i]? = some (ofE ad S t) := by
  rw [List.getElem?_map, List.getElem?_range hi, ← hf]; rfl
theorem s_getr (hexec : p.tables.exec = Jvm.exec) (hb : c.code = cc) {own ref C : String} {T : u_T} {n ci index : Nat} {ft : Nat → Nat ⊕ Nat × Nat} (hts : ∀ w ∈ lw_all, w.before args s = true) (hown : s.vm.findClass own = some m.cls) (hK : gK D dA s) (hI : sI D dA w ad A H0 S H locs) (k : Nat) (hk : k < w.1) (hd : w.2.1 k = .inr (.inl (ci, n, ft))) (hc : vwCl[ci]? = some (C, T, n)) (hin : ∀ x ∈ u_ws C T n, x ∈ lw_all) (i : Nat) (hi : i < n) (hlink : Cond.fieldLink own index ref (T i).2.1 (T i).2.2.1 ∈ lw_all) (href : ref = (T i).1) (t : Nat) (hf : ft i = .inl t) (hdg : decode cc pc = .ok (.getfield index, 3)) (kk : W p l e R s m args below meth c H locs cells slots Q (F0 m (pc + 3) ls (.ref (ad t) :: rest))) : W p l e R s m args below meth c H locs cells slots Q (F0 m (pc) ls (.ref (ad k) :: rest)) := by
  subst href
  exact va_get hexec hb hts hin hown hK.1 (va_P1 (s_obj hI k hk hd)) 0 rfl hc i hi (hts _ hlink) (fun x hx => hx) (s_fld hi hf) hdg kk
theorem s_geti (hexec : p.tables.exec = Jvm.exec) (hb : c.code = cc) {own ref C : String} {T : u_T} {n ci index : Nat} {ft : Nat → Nat ⊕ Nat × Nat} (hts : ∀ w ∈ lw_all, w.before args s = true) (hown : s.vm.findClass own = some m.cls) (hK : gK D dA s) (hI : sI D dA w ad A H0 S H locs) (k : Nat) (hk : k < w.1) (hd : w.2.1 k = .inr (.inl (ci, n, ft))) (hc : vwCl[ci]? = some (C, T, n)) (hin : ∀ x ∈ u_ws C T n, x ∈ lw_all) (i : Nat) (hi : i < n) (hlink : Cond.fieldLink own index ref (T i).2.1 (T i).2.2.1 ∈ lw_all) (href : ref = (T i).1) (kd x : Nat) (hf : ft i = .inr (kd, x)) (h1 : ¬ kd = 1) (hdg : decode cc pc = .ok (.getfield index, 3)) (kk : W p l e R s m args below meth c H locs cells slots Q (F0 m (pc + 3) ls (iV (fI S x) :: rest))) : W p l e R s m args below meth c H locs cells slots Q (F0 m (pc) ls (.ref (ad k) :: rest)) := by
  subst href
  have hf2 := s_fld (ad := ad) (S := S) hi hf
  have e : ofE ad S (.inr (kd, x)) = iV (fI S x) := by simp [ofE, vN, h1]
  rw [e] at hf2
  exact va_get hexec hb hts hin hown hK.1 (va_P1 (s_obj hI k hk hd)) 0 rfl hc i hi (hts _ hlink) (fun x hx => hx) hf2 hdg kk
theorem s_getj (hexec : p.tables.exec = Jvm.exec) (hb : c.code = cc) {own ref C : String} {T : u_T} {n ci index : Nat} {ft : Nat → Nat ⊕ Nat × Nat} (hts : ∀ w ∈ lw_all, w.before args s = true) (hown : s.vm.findClass own = some m.cls) (hK : gK D dA s) (hI : sI D dA w ad A H0 S H locs) (k : Nat) (hk : k < w.1) (hd : w.2.1 k = .inr (.inl (ci, n, ft))) (hc : vwCl[ci]? = some (C, T, n)) (hin : ∀ x ∈ u_ws C T n, x ∈ lw_all) (i : Nat) (hi : i < n) (hlink : Cond.fieldLink own index ref (T i).2.1 (T i).2.2.1 ∈ lw_all) (href : ref = (T i).1) (x : Nat) (hf : ft i = .inr (1, x)) (hdg : decode cc pc = .ok (.getfield index, 3)) (kk : W p l e R s m args below meth c H locs cells slots Q (F0 m (pc + 3) ls (jV (fI S x) :: rest))) : W p l e R s m args below meth c H locs cells slots Q (F0 m (pc) ls (.ref (ad k) :: rest)) := by
  subst href
  exact va_get hexec hb hts hin hown hK.1 (va_P1 (s_obj hI k hk hd)) 0 rfl hc i hi (hts _ hlink) (fun x hx => hx) (s_fld (ad := ad) (S := S) hi hf) hdg kk
/-- a number is one field's alone -/
def wU (w : Wd) : Prop := ∀ k k' : Nat, ∀ q q' : Nat × Nat × (Nat → Nat ⊕ Nat × Nat), w.2.1 k = .inr (.inl q) → w.2.1 k' = .inr (.inl q') → ∀ i i', i < q.2.1 → i' < q'.2.1 → ∀ y y' : Nat × Nat, q.2.2 i = .inr y → q'.2.2 i' = .inr y' → y.2 = y'.2 → k = k' ∧ i = i' ∧ y.1 = w.2.2 y.2
theorem ofE_fset {ad : Nat → Nat} {S : St} {x : Nat} {v : Int} (t : Nat ⊕ Nat × Nat) (h : ∀ y, t = .inr y → y.2 ≠ x) : ofE ad (fset S x v) t = ofE ad S t := by
  cases t with
  | inl t => rfl
  | inr y => show vN y.1 (fI (fset S x v) y.2) = vN y.1 (fI S y.2); rw [fI_fset_n (h y rfl)]
theorem cE_fset {dA : Nat → ClassId} {w : Wd} {ad : Nat → Nat} {S : St} {x : Nat} {v : Int} {j : Nat} (h : ∀ q : Nat × Nat × (Nat → Nat ⊕ Nat × Nat), w.2.1 j = .inr (.inl q) → ∀ i, i < q.2.1 → ∀ y, q.2.2 i = .inr y → y.2 ≠ x) : cE dA ad (fset S x v) j (w.2.1 j) = cE dA ad S j (w.2.1 j) := by
  cases hq : w.2.1 j with
  | inl q => rfl
  | inr q =>
    cases q with
    | inl q =>
      show Sum.inr _ = Sum.inr _
      congr 2
      apply List.map_congr_left
      intro i hi
      exact ofE_fset _ (fun y hy => h q hq i (List.mem_range.mp hi) y hy)
    | inr q => cases q <;> rfl
theorem nrm_fset {w : Wd} {S : St} {x : Nat} {v : Int} (h : nrm w S) (hv : kdP (w.2.2 x) v) : nrm w (fset S x v) := by
  refine ⟨fun y => ?_, h.2⟩
  rw [fI_fset]
  by_cases hy : y = x
  · rw [if_pos hy, hy]; exact hv
  · rw [if_neg hy]; exact h.1 y
theorem s_put (hexec : p.tables.exec = Jvm.exec) (hb : c.code = cc) {own ref C : String} {T : u_T} {n ci index : Nat} {ft : Nat → Nat ⊕ Nat × Nat} (hU : wU w) (ty0 : Nat → FieldType) (hty : ∀ k, k < n → parseFieldDescriptor (T k).2.2.1 = some (ty0 k)) (hnm : ∀ a, a < n → ∀ b, b < n → a ≠ b → (T a).2.1 ≠ (T b).2.1) (hts : ∀ w ∈ lw_all, w.before args s = true) (hown : s.vm.findClass own = some m.cls) (hK : gK D dA s) (hI : sI D dA w ad A H0 S H locs) (k : Nat) (hk : k < w.1) (hd : w.2.1 k = .inr (.inl (ci, n, ft))) (hc : vwCl[ci]? = some (C, T, n)) (hin : ∀ x ∈ u_ws C T n, x ∈ lw_all) (i : Nat) (hi : i < n) (hlink : Cond.fieldLink own index ref (T i).2.1 (T i).2.2.1 ∈ lw_all) (href : ref = (T i).1) (kd x : Nat) (hf : ft i = .inr (kd, x)) {v : Int} (hv : kdP (w.2.2 x) v) (hfin : (T i).2.2.2 = false) (hn : narrow (ty0 i) (vN kd v) = vN kd v) (hfit : fits (ty0 i) (vN kd v) = true) (hdg : decode cc pc = .ok (.putfield index, 3)) (kk : ∀ (H1 : Heap) (locs1 : List Loc), sI D dA w ad A H0 (fset S x v) H1 locs1 → W p l e R s m args below meth c H1 locs1 cells slots Q (F0 m (pc + 3) ls (rest))) : W p l e R s m args below meth c H locs cells slots Q (F0 m (pc) ls (vN kd v :: .ref (ad k) :: rest)) := by
  subst href
  obtain ⟨hC, hS, hA⟩ := hI
  have hobj := s_obj ⟨hC, hS, hA⟩ k hk hd
  obtain ⟨r, h1, cell, q1, q2, q3, q4⟩ := hobj
  have hr : r = (C, T, n) := Option.some.inj (h1.symm.trans hc)
  subst hr
  have hap := va_apart (own := own) hts hin ty0 hty hnm hK.1 hc
  obtain ⟨hS1, hfc, kC, hkC, hkind⟩ := hK.1.1 ci _ hc
  obtain ⟨cf, kf, fi, f, hi2, hsl⟩ := hS1 i hi
  have hlay := hts _ (hin _ (u_in_lay hi))
  unfold u_lay at hlay
  rw [if_neg (by rw [hfin]; decide)] at hlay
  have hst := (u_facts hfc hkC (u_lays hts hin hi) hi2).1
  have h6 := u_store hfc hkC hkind hlay hi2 (hty i hi) hn hfit
  refine W.putK hexec hb (f := f) ⟨hown, hts _ hlink, ⟨_, _, _, hi2⟩, hst⟩ (by rw [q2]; exact h6) q1 q3 (by rw [hsl]; exact k2_hasslot (q4 i hi)) rfl rfl hdg fun H' e1 e2 e3 => ?_
  rw [hsl] at e1 ⊢
  refine kk H' _ ⟨?_, hS.put e2 e3 (hC.2.2.1 k hk), hA⟩
  have hyk : kd = w.2.2 x := (hU k k _ _ hd hd i i hi hi _ _ hf hf rfl).2.2
  refine hC.set k hk (fun j hj hjk => cE_fset fun q hq i' hi' y hy hyx => hjk (hU j k _ _ hq hd i' i hi' hi y _ hy hf hyx).1) rfl rfl (nrm_fset hC.2.2.2.1 hv) ?_ e3
  rw [hd]
  show va_at D vwCl (ad k, .inr (ci, (List.range n).map (fun i => ofE ad (fset S x v) (ft i)))) H'
  refine ⟨_, hc, t_OB.to (V := updV (vp_V ((List.range n).map (fun i => ofE ad S (ft i)))) i (vN kd v)) ⟨_, e1, q2, q3, t_set q4 hap hi _⟩ (fun j hj => ?_)⟩
  unfold updV vp_V
  rw [List.getD_eq_getElem?_getD, List.getD_eq_getElem?_getD, s_fld hj rfl, s_fld hj rfl]
  by_cases hji : j = i
  · rw [if_pos hji, hji, hf]
    show vN kd v = vN kd (fI (fset S x v) x)
    rw [fI_fset_s]
  · rw [if_neg hji]
    show ofE ad S (ft j) = ofE ad (fset S x v) (ft j)
    rw [ofE_fset]
    intro y hy hyx
    exact hji (hU k k _ _ hd hd j i hj hi y _ hy hf hyx).2.1
theorem s_arr {kd len : Nat} (hI : sI D dA w ad A H0 S H locs) (k : Nat) (hk : k < w.1) (hd : w.2.1 k = .inl (kd, len)) : va_at D vwCl (ad k, arrE dA kd len (aI S k)) H := by
  have h := hI.1.1 k hk
  rw [hd] at h
  exact h
theorem arrE_i {dA : Nat → ClassId} {kd len : Nat} {f : Int → Int} (h : ¬ kd = 1) : arrE dA kd len f = .inl (dA kd, len, .inl fun j : Nat => Int32.ofInt (f j)) := by unfold arrE; rw [if_neg h]
theorem arrE_j {dA : Nat → ClassId} {len : Nat} {f : Int → Int} : arrE dA 1 len f = .inl (dA 1, len, .inr (.inl fun j : Nat => Int64.ofInt (f j))) := rfl
theorem s_iald (hexec : p.tables.exec = Jvm.exec) (hb : c.code = cc) (hK : gK D dA s) (hI : sI D dA w ad A H0 S H locs) (k : Nat) (hk : k < w.1) {len : Nat} (hd : w.2.1 k = .inl (0, len)) {i : Int} (hr : InR i) (hin : 0 ≤ i ∧ i < (len : Int)) (hdg : decode cc pc = .ok (.iaload, 1)) (kk : InR (aI S k i) → W p l e R s m args below meth c H locs cells slots Q (F0 m (pc + 1) ls (iV (aI S k i) :: rest))) : W p l e R s m args below meth c H locs cells slots Q (F0 m (pc) ls (iV i :: .ref (ad k) :: rest)) := by
  have h := s_arr hI k hk hd
  rw [arrE_i (by decide)] at h
  refine va_iald hexec hb hK.1 (va_P1 h) 0 0 rfl rfl (ni_in hr hin) hdg ?_
  have e : ((i.toNat : Nat) : Int) = i := Int.toNat_of_nonneg hin.1
  rw [ni_N hr, e]
  exact kk (hI.1.2.2.2.1.2 k _ _ hd i)
theorem s_zald (hexec : p.tables.exec = Jvm.exec) (hb : c.code = cc) (hK : gK D dA s) (hI : sI D dA w ad A H0 S H locs) (k : Nat) (hk : k < w.1) {len : Nat} (hd : w.2.1 k = .inl (2, len)) {i : Int} (hr : InR i) (hin : 0 ≤ i ∧ i < (len : Int)) (hdg : decode cc pc = .ok (.baload, 1)) (kk : InR (aI S k i) → kdP 2 (aI S k i) → W p l e R s m args below meth c H locs cells slots Q (F0 m (pc + 1) ls (iV (aI S k i) :: rest))) : W p l e R s m args below meth c H locs cells slots Q (F0 m (pc) ls (iV i :: .ref (ad k) :: rest)) := by
  have h := s_arr hI k hk hd
  rw [arrE_i (by decide)] at h
  refine va_zald hexec hb hK.1 (va_P1 h) 0 2 rfl rfl (ni_in hr hin) hdg ?_
  have e : ((i.toNat : Nat) : Int) = i := Int.toNat_of_nonneg hin.1
  rw [ni_N hr, e]
  exact kk (kdP_R (k := 2) (by decide) (hI.1.2.2.2.1.2 k _ _ hd i)) (hI.1.2.2.2.1.2 k _ _ hd i)
theorem s_bald (hexec : p.tables.exec = Jvm.exec) (hb : c.code = cc) (hK : gK D dA s) (hI : sI D dA w ad A H0 S H locs) (k : Nat) (hk : k < w.1) {len : Nat} (hd : w.2.1 k = .inl (3, len)) {i : Int} (hr : InR i) (hin : 0 ≤ i ∧ i < (len : Int)) (hdg : decode cc pc = .ok (.baload, 1)) (kk : InR (aI S k i) → kdP 3 (aI S k i) → W p l e R s m args below meth c H locs cells slots Q (F0 m (pc + 1) ls (iV (aI S k i) :: rest))) : W p l e R s m args below meth c H locs cells slots Q (F0 m (pc) ls (iV i :: .ref (ad k) :: rest)) := by
  have h := s_arr hI k hk hd
  rw [arrE_i (by decide)] at h
  refine va_bald hexec hb hK.1 (va_P1 h) 0 3 rfl rfl (ni_in hr hin) hdg ?_
  have e : ((i.toNat : Nat) : Int) = i := Int.toNat_of_nonneg hin.1
  rw [ni_N hr, e]
  exact kk (kdP_R (k := 3) (by decide) (hI.1.2.2.2.1.2 k _ _ hd i)) (hI.1.2.2.2.1.2 k _ _ hd i)
theorem s_lald (hexec : p.tables.exec = Jvm.exec) (hb : c.code = cc) (hK : gK D dA s) (hI : sI D dA w ad A H0 S H locs) (k : Nat) (hk : k < w.1) {len : Nat} (hd : w.2.1 k = .inl (1, len)) {i : Int} (hr : InR i) (hin : 0 ≤ i ∧ i < (len : Int)) (hdg : decode cc pc = .ok (.laload, 1)) (kk : InL (aI S k i) → W p l e R s m args below meth c H locs cells slots Q (F0 m (pc + 1) ls (jV (aI S k i) :: rest))) : W p l e R s m args below meth c H locs cells slots Q (F0 m (pc) ls (iV i :: .ref (ad k) :: rest)) := by
  have h := s_arr hI k hk hd
  rw [arrE_j] at h
  refine va_lald hexec hb hK.1 (va_P1 h) 0 1 rfl rfl (ni_in hr hin) hdg ?_
  have e : ((i.toNat : Nat) : Int) = i := Int.toNat_of_nonneg hin.1
  rw [ni_N hr, e]
  exact kk (hI.1.2.2.2.1.2 k _ _ hd i)
theorem s_iast (hexec : p.tables.exec = Jvm.exec) (hb : c.code = cc) (hK : gK D dA s) (hI : sI D dA w ad A H0 S H locs) (k : Nat) (hk : k < w.1) {len : Nat} (hd : w.2.1 k = .inl (0, len)) {i v : Int} (hr : InR i) (hin : 0 ≤ i ∧ i < (len : Int)) (hv : kdP 0 v) (hdg : decode cc pc = .ok (.iastore, 1)) (kk : ∀ (S1 : St) (H1 : Heap) (locs1 : List Loc), S1 = aset S k i v → sI D dA w ad A H0 S1 H1 locs1 → W p l e R s m args below meth c H1 locs1 cells slots Q (F0 m (pc + 1) ls (rest))) : W p l e R s m args below meth c H locs cells slots Q (F0 m (pc) ls (iV v :: iV i :: .ref (ad k) :: rest)) := by
  have h := s_arr hI k hk hd
  rw [arrE_i (by decide)] at h
  obtain ⟨hC, hS, hA⟩ := hI
  refine W.iast hexec hb h ((hK.1.2 0 _ rfl).1 len (fun j : Nat => .int (Int32.ofInt (aI S k j)))) (fun q => by cases q) (by show ¬ (Int32.ofInt i < 0 ∨ (arrV _ _ _).slots.size ≤ _); rw [arrV_size]; exact ni_in hr hin) rfl rfl hdg fun H1 e z oq => ?_
  refine kk _ H1 _ rfl ⟨?_, hS.put z oq (hC.2.2.1 k hk), hA⟩
  refine hC.set k hk (fun j _ hjk => cE_aset hjk _) rfl rfl (nrm_aset hC.2.2.2.1 hd hv) ?_ oq
  rw [hd]
  show va_at D vwCl (ad k, arrE dA 0 len (aI (aset S k i v) k)) H1
  rw [arrE_i (by decide)]
  show H1[ad k]? = some (vp_cell _ _)
  rw [e, vp_cell_i, vp_cell_i, arrV_store, ni_N hr, arr_set_i hin.1 (g := aI (aset S k i v) k) (fun y => by rw [aI_aset]; simp)]
theorem s_zast (hexec : p.tables.exec = Jvm.exec) (hb : c.code = cc) (hK : gK D dA s) (hI : sI D dA w ad A H0 S H locs) (k : Nat) (hk : k < w.1) {len : Nat} (hd : w.2.1 k = .inl (2, len)) {i v : Int} (hr : InR i) (hin : 0 ≤ i ∧ i < (len : Int)) (hv : kdP 2 v) (hdg : decode cc pc = .ok (.bastore, 1)) (kk : ∀ (S1 : St) (H1 : Heap) (locs1 : List Loc), S1 = aset S k i v → sI D dA w ad A H0 S1 H1 locs1 → W p l e R s m args below meth c H1 locs1 cells slots Q (F0 m (pc + 1) ls (rest))) : W p l e R s m args below meth c H locs cells slots Q (F0 m (pc) ls (iV v :: iV i :: .ref (ad k) :: rest)) := by
  have h := s_arr hI k hk hd
  rw [arrE_i (by decide)] at h
  obtain ⟨hC, hS, hA⟩ := hI
  refine W.zast hexec hb h ((hK.1.2 2 _ rfl).1 len (fun j : Nat => .int (Int32.ofInt (aI S k j)))) (fun q => by cases q) (by show ¬ (Int32.ofInt i < 0 ∨ (arrV _ _ _).slots.size ≤ _); rw [arrV_size]; exact ni_in hr hin) rfl rfl hdg fun H1 e z oq => ?_
  refine kk _ H1 _ rfl ⟨?_, hS.put z oq (hC.2.2.1 k hk), hA⟩
  refine hC.set k hk (fun j _ hjk => cE_aset hjk _) rfl rfl (nrm_aset hC.2.2.2.1 hd hv) ?_ oq
  rw [hd]
  show va_at D vwCl (ad k, arrE dA 2 len (aI (aset S k i v) k)) H1
  rw [arrE_i (by decide)]
  show H1[ad k]? = some (vp_cell _ _)
  rw [nar_z hv] at e
  rw [e, vp_cell_i, vp_cell_i, arrV_store, ni_N hr, arr_set_i hin.1 (g := aI (aset S k i v) k) (fun y => by rw [aI_aset]; simp)]
theorem s_bast (hexec : p.tables.exec = Jvm.exec) (hb : c.code = cc) (hK : gK D dA s) (hI : sI D dA w ad A H0 S H locs) (k : Nat) (hk : k < w.1) {len : Nat} (hd : w.2.1 k = .inl (3, len)) {i v : Int} (hr : InR i) (hin : 0 ≤ i ∧ i < (len : Int)) (hv : kdP 3 v) (hdg : decode cc pc = .ok (.bastore, 1)) (kk : ∀ (S1 : St) (H1 : Heap) (locs1 : List Loc), S1 = aset S k i v → sI D dA w ad A H0 S1 H1 locs1 → W p l e R s m args below meth c H1 locs1 cells slots Q (F0 m (pc + 1) ls (rest))) : W p l e R s m args below meth c H locs cells slots Q (F0 m (pc) ls (iV v :: iV i :: .ref (ad k) :: rest)) := by
  have h := s_arr hI k hk hd
  rw [arrE_i (by decide)] at h
  obtain ⟨hC, hS, hA⟩ := hI
  refine W.bast hexec hb h ((hK.1.2 3 _ rfl).1 len (fun j : Nat => .int (Int32.ofInt (aI S k j)))) (fun q => by cases q) (by show ¬ (Int32.ofInt i < 0 ∨ (arrV _ _ _).slots.size ≤ _); rw [arrV_size]; exact ni_in hr hin) rfl rfl hdg fun H1 e z oq => ?_
  refine kk _ H1 _ rfl ⟨?_, hS.put z oq (hC.2.2.1 k hk), hA⟩
  refine hC.set k hk (fun j _ hjk => cE_aset hjk _) rfl rfl (nrm_aset hC.2.2.2.1 hd hv) ?_ oq
  rw [hd]
  show va_at D vwCl (ad k, arrE dA 3 len (aI (aset S k i v) k)) H1
  rw [arrE_i (by decide)]
  show H1[ad k]? = some (vp_cell _ _)
  rw [nar_b hv] at e
  rw [e, vp_cell_i, vp_cell_i, arrV_store, ni_N hr, arr_set_i hin.1 (g := aI (aset S k i v) k) (fun y => by rw [aI_aset]; simp)]
theorem s_last (hexec : p.tables.exec = Jvm.exec) (hb : c.code = cc) (hK : gK D dA s) (hI : sI D dA w ad A H0 S H locs) (k : Nat) (hk : k < w.1) {len : Nat} (hd : w.2.1 k = .inl (1, len)) {i v : Int} (hr : InR i) (hin : 0 ≤ i ∧ i < (len : Int)) (hv : kdP 1 v) (hdg : decode cc pc = .ok (.lastore, 1)) (kk : ∀ (S1 : St) (H1 : Heap) (locs1 : List Loc), S1 = aset S k i v → sI D dA w ad A H0 S1 H1 locs1 → W p l e R s m args below meth c H1 locs1 cells slots Q (F0 m (pc + 1) ls (rest))) : W p l e R s m args below meth c H locs cells slots Q (F0 m (pc) ls (jV v :: iV i :: .ref (ad k) :: rest)) := by
  have h := s_arr hI k hk hd
  rw [arrE_j] at h
  obtain ⟨hC, hS, hA⟩ := hI
  refine W.last hexec hb h ((hK.1.2 1 _ rfl).1 len (fun j : Nat => .long (Int64.ofInt (aI S k j)))) (fun q => by cases q) (by show ¬ (Int32.ofInt i < 0 ∨ (arrV _ _ _).slots.size ≤ _); rw [arrV_size]; exact ni_in hr hin) rfl rfl hdg fun H1 e z oq => ?_
  refine kk _ H1 _ rfl ⟨?_, hS.put z oq (hC.2.2.1 k hk), hA⟩
  refine hC.set k hk (fun j _ hjk => cE_aset hjk _) rfl rfl (nrm_aset hC.2.2.2.1 hd hv) ?_ oq
  rw [hd]
  show va_at D vwCl (ad k, arrE dA 1 len (aI (aset S k i v) k)) H1
  rw [arrE_j]
  show H1[ad k]? = some (vp_cell _ _)
  rw [e, vp_cell_l, vp_cell_l, arrV_store, ni_N hr, arr_set_j hin.1 (g := aI (aset S k i v) k) (fun y => by rw [aI_aset]; simp)]
theorem s_alen (hexec : p.tables.exec = Jvm.exec) (hb : c.code = cc) (hK : gK D dA s) (hI : sI D dA w ad A H0 S H locs) (k : Nat) (hk : k < w.1) {kd len : Nat} (hkd : kd < 4) (hd : w.2.1 k = .inl (kd, len)) (hdg : decode cc pc = .ok (.arraylength, 1)) (kk : W p l e R s m args below meth c H locs cells slots Q (F0 m (pc + 1) ls (iV (len : Int) :: rest))) : W p l e R s m args below meth c H locs cells slots Q (F0 m (pc) ls (.ref (ad k) :: rest)) := by
  have h := s_arr hI k hk hd
  have hkd : kd = 0 ∨ kd = 1 ∨ kd = 2 ∨ kd = 3 := by omega
  have e : Int32.ofNat len = Int32.ofInt (len : Int) := Int32.ofInt_eq_ofNat.symm
  rcases hkd with rfl | rfl | rfl | rfl
  · exact va_alen hexec hb hK.1 (va_P1 h) 0 0 rfl rfl e hdg kk
  · exact va_alen hexec hb hK.1 (va_P1 h) 0 1 rfl rfl e hdg kk
  · exact va_alen hexec hb hK.1 (va_P1 h) 0 2 rfl rfl e hdg kk
  · exact va_alen hexec hb hK.1 (va_P1 h) 0 3 rfl rfl e hdg kk
theorem s_iret (hexec : p.tables.exec = Jvm.exec) (hb : c.code = cc) (hr : meth.sig.returnType = some .int) (hlocks : meth.locks = false) {K : Int → St → Prop} {v : Int} (hI : sI D dA w ad A s.heap S H locs) (rv : InR v) (hK : K v S) (hdg : decode cc pc = .ok (.ireturn, 1)) : W p l e R s m args below meth c H locs cells slots (MQ below (va_Qi (fun r S' => K r.toInt S') (sPost D dA w ad A) A) args s cells slots A) (F0 m pc ls [iV v]) :=
  W.iret hexec hb hr (fun t ht _ => ⟨⟨Int32.ofInt v, S, rfl, by dsimp only; rw [ni_T rv]; exact hK, by show sC _ _ _ _ _ _ t.heap; rw [ht]; exact hI.1⟩, hI.2.1.F ht⟩) hI.2.1.2.2 hdg hlocks
theorem s_lret (hexec : p.tables.exec = Jvm.exec) (hb : c.code = cc) (hr : meth.sig.returnType = some .long) (hlocks : meth.locks = false) {K : Int → St → Prop} {v : Int} (hI : sI D dA w ad A s.heap S H locs) (rv : InL v) (hK : K v S) (hdg : decode cc pc = .ok (.lreturn, 1)) : W p l e R s m args below meth c H locs cells slots (MQ below (va_Ql (fun r S' => K r.toInt S') (sPost D dA w ad A) A) args s cells slots A) (F0 m pc ls [jV v]) :=
  W.lret hexec hb hr (fun t ht _ => ⟨⟨Int64.ofInt v, S, rfl, by dsimp only; rw [nj_T rv]; exact hK, by show sC _ _ _ _ _ _ t.heap; rw [ht]; exact hI.1⟩, hI.2.1.F ht⟩) hI.2.1.2.2 hdg hlocks
theorem s_zret (hexec : p.tables.exec = Jvm.exec) (hb : c.code = cc) (hr : meth.sig.returnType = some .boolean) (hlocks : meth.locks = false) {K : Int → St → Prop} {v : Int} (hI : sI D dA w ad A s.heap S H locs) (hv : v = 0 ∨ v = 1) (hK : K v S) (hdg : decode cc pc = .ok (.ireturn, 1)) : W p l e R s m args below meth c H locs cells slots (MQ below (va_Qi (fun r S' => (r.toInt = 0 ∨ r.toInt = 1) ∧ K r.toInt S') (sPost D dA w ad A) A) args s cells slots A) (F0 m pc ls [iV v]) := by
  have rv : InR v := kdP_R (k := 2) (by decide) hv
  exact W.zret hexec hb hr (nar_z hv) (fun t ht _ => ⟨⟨Int32.ofInt v, S, rfl, by dsimp only; rw [ni_T rv]; exact ⟨hv, hK⟩, by show sC _ _ _ _ _ _ t.heap; rw [ht]; exact hI.1⟩, hI.2.1.F ht⟩) hI.2.1.2.2 hdg hlocks
theorem s_vret (hexec : p.tables.exec = Jvm.exec) (hb : c.code = cc) (hr : meth.sig.returnType = none) (hlocks : meth.locks = false) {K : St → Prop} (hI : sI D dA w ad A s.heap S H locs) (hK : K S) (hdg : decode cc pc = .ok (.return_, 1)) : W p l e R s m args below meth c H locs cells slots (MQ below (va_Qv (fun S' => K S') (sPost D dA w ad A) A) args s cells slots A) (F0 m pc ls []) :=
  W.vret hexec hb hr (fun t ht _ => ⟨⟨S, rfl, hK, by show sC _ _ _ _ _ _ t.heap; rw [ht]; exact hI.1⟩, hI.2.1.F ht⟩) hI.2.1.2.2 hdg hlocks
theorem p_iret (hexec : p.tables.exec = Jvm.exec) (hb : c.code = cc) (hr : meth.sig.returnType = some .int) (hlocks : meth.locks = false) {K : Int → Prop} {v : Int} (hS : va_S (fun _ => False) s.heap H locs) (rv : InR v) (hK : K v) (hdg : decode cc pc = .ok (.ireturn, 1)) : W p l e R s m args below meth c H locs cells slots (MQ below (va_Qi (fun r (_ : Unit) => K r.toInt) (fun _ _ => True) (fun _ => False)) args s cells slots (fun _ => False)) (F0 m pc ls [iV v]) :=
  W.iret hexec hb hr (fun t ht _ => ⟨⟨Int32.ofInt v, (), rfl, by dsimp only; rw [ni_T rv]; exact hK, trivial⟩, hS.F ht⟩) hS.2.2 hdg hlocks
theorem p_zret (hexec : p.tables.exec = Jvm.exec) (hb : c.code = cc) (hr : meth.sig.returnType = some .boolean) (hlocks : meth.locks = false) {K : Int → Prop} {v : Int} (hS : va_S (fun _ => False) s.heap H locs) (hv : v = 0 ∨ v = 1) (hK : K v) (hdg : decode cc pc = .ok (.ireturn, 1)) : W p l e R s m args below meth c H locs cells slots (MQ below (va_Qi (fun r (_ : Unit) => (r.toInt = 0 ∨ r.toInt = 1) ∧ K r.toInt) (fun _ _ => True) (fun _ => False)) args s cells slots (fun _ => False)) (F0 m pc ls [iV v]) := by
  have rv : InR v := kdP_R (k := 2) (by decide) hv
  exact W.zret hexec hb hr (nar_z hv) (fun t ht _ => ⟨⟨Int32.ofInt v, (), rfl, by dsimp only; rw [ni_T rv]; exact ⟨hv, hK⟩, trivial⟩, hS.F ht⟩) hS.2.2 hdg hlocks
theorem p_lret (hexec : p.tables.exec = Jvm.exec) (hb : c.code = cc) (hr : meth.sig.returnType = some .long) (hlocks : meth.locks = false) {K : Int → Prop} {v : Int} (hS : va_S (fun _ => False) s.heap H locs) (rv : InL v) (hK : K v) (hdg : decode cc pc = .ok (.lreturn, 1)) : W p l e R s m args below meth c H locs cells slots (MQ below (va_Ql (fun r (_ : Unit) => K r.toInt) (fun _ _ => True) (fun _ => False)) args s cells slots (fun _ => False)) (F0 m pc ls [jV v]) :=
  W.lret hexec hb hr (fun t ht _ => ⟨⟨Int64.ofInt v, (), rfl, by dsimp only; rw [nj_T rv]; exact hK, trivial⟩, hS.F ht⟩) hS.2.2 hdg hlocks
theorem s_blind {av : List Value} {sz : Nat} : FrameBlind (va_Pc av (sPre D dA w ad S sz)) := by
  intro a U g mk q
  obtain ⟨q0, q1, qK, qC⟩ := q
  exact ⟨q0, q1, gK.calling qK, qC⟩
theorem s_pre {av : List Value} (hK : gK D dA s) (hI : sI D dA w ad A H0 S H locs) : ∀ U : State, U.heap = H → s.WarmedH U.vm → va_Pc av (sPre D dA w ad S H.size) av.toArray U := fun U hU hW => ⟨rfl, by rw [hU], hK.warm hW, by rw [hU]; exact hI.1.self⟩
theorem s_recv {ci n : Nat} {ft : Nat → Nat ⊕ Nat × Nat} {C : String} {T : u_T} (hK : gK D dA s) (hI : sI D dA w ad A H0 S H locs) (k : Nat) (hk : k < w.1) (hd : w.2.1 k = .inr (.inl (ci, n, ft))) (hc : vwCl[ci]? = some (C, T, n)) : ∃ cell : Cell, H[ad k]? = some cell ∧ cell.vm.isStatics = false ∧ s.vm.findClass C = some cell.cls := va_recv hK.1 (va_P1 (s_obj hI k hk hd)) hc (q0 := 0) rfl
theorem sI.after {S1 : St} {H1 : Heap} {locs1 : List Loc} (hI : sI D dA w ad A H0 S H locs) (hS1 : va_S A H0 H1 locs1) (hB : sC D dA w ad (wA w ad S H.size) S1 H1) : sI D dA w ad A H0 S1 H1 locs1 := ⟨hB.mono hI.sub, hS1, hI.2.2⟩
theorem sI.keptF {H1 : Heap} {locs1 : List Loc} (hI : sI D dA w ad A H0 S H locs) (hS1 : va_S A H0 H1 locs1) (hq : ∀ q : Nat, q < H.size → ¬ False → H1[q]? = H[q]?) : sI D dA w ad A H0 S H1 locs1 := ⟨hI.1.kept (fun q h => hq q h (fun z => z)), hS1, hI.2.2⟩
theorem s_callVi {y : MethodName} {ycc : ByteArray} {yL nL mc ms n index : Nat} {ws : List Cond} {rm : Room} {own : String} {As : List Value} {st0 : List Value} {C : String} {b : Addr} {K : Int → St → Prop} (hF : CallFix p m c cc nL s args lw_all own) (hM : Met l y ws rm (va_Pc (.ref b :: As) (sPre D dA w ad S H.size)) (va_Qi (fun r S' => K r.toInt S') (sPost D dA w ad (wA w ad S H.size)) (wA w ad S H.size)) mc ms (wA w ad S H.size)) (hC : (∃ cell : Cell, H[b]? = some cell ∧ cell.vm.isStatics = false ∧ s.vm.findClass C = some cell.cls)) (cw : CallW R s args own C index y ycc yL (some .int) ws rm mc ms n) (hK : gK D dA s) (hI : sI D dA w ad A H0 S H locs) (hn : As.length = n) (hls : ls.size = nL) (hst : st0 = As.reverse ++ .ref b :: rest) (hW : (rest.map fun v => v.category).sum ≤ 8) (hdg : decode cc pc = .ok (.invokevirtual index, 3)) (hf : cells + mc ≤ R.cells ∧ slots + ms ≤ R.slots) (kk : ∀ (r : Int) (S1 : St) (H1 : Heap) (locs1 : List Loc), InR r → K r S1 → sI D dA w ad A H0 S1 H1 locs1 → W p l e R s m args below meth c H1 locs1 (cells + mc) (slots + ms) Q (F0 m (pc + 3) ls (iV r :: rest))) : W p l e R s m args below meth c H locs cells slots Q (F0 m (pc) ls (st0)) := by
  refine va_calli (va_runV (As := As) (rest := rest) hF hM cw ⟨s_blind, hC, s_pre hK hI⟩ rfl hn hls hst (lv_room hW) hdg hf) hI.2.1 (fun q _ h => hI.sub q h) (fun q h => hI.sub q h) (fun r S1 t H1 locs1 ht hvm hp hB hz hk1 hS1 => by
    rw [ni_V]
    exact kk r.toInt S1 H1 locs1 (ni_R r) hp (hI.after hS1 (by have hB' : sC D dA w ad (wA w ad S H.size) S1 t.heap := hB; rw [ht] at hB'; exact hB')))
theorem s_callSi {y : MethodName} {ycc : ByteArray} {yL nL mc ms n index : Nat} {ws : List Cond} {rm : Room} {own : String} {As : List Value} {st0 : List Value} {K : Int → St → Prop} (hF : CallFix p m c cc nL s args lw_all own) (hM : Met l y ws rm (va_Pc As (sPre D dA w ad S H.size)) (va_Qi (fun r S' => K r.toInt S') (sPost D dA w ad (wA w ad S H.size)) (wA w ad S H.size)) mc ms (wA w ad S H.size)) (cw : CallB R s args own index y ycc yL (some .int) ws rm mc ms n ∧ (Cond.static y).before args s = true) (hK : gK D dA s) (hI : sI D dA w ad A H0 S H locs) (hn : As.length = n) (hls : ls.size = nL) (hst : st0 = As.reverse ++ rest) (hW : (rest.map fun v => v.category).sum ≤ 8) (hdg : decode cc pc = .ok (.invokestatic index, 3)) (hf : cells + mc ≤ R.cells ∧ slots + ms ≤ R.slots) (kk : ∀ (r : Int) (S1 : St) (H1 : Heap) (locs1 : List Loc), InR r → K r S1 → sI D dA w ad A H0 S1 H1 locs1 → W p l e R s m args below meth c H1 locs1 (cells + mc) (slots + ms) Q (F0 m (pc + 3) ls (iV r :: rest))) : W p l e R s m args below meth c H locs cells slots Q (F0 m (pc) ls (st0)) := by
  refine va_calli (va_runS (As := As) (rest := rest) hF hM cw ⟨s_blind, s_pre hK hI⟩ rfl hn hls hst (lv_room hW) hdg hf) hI.2.1 (fun q _ h => hI.sub q h) (fun q h => hI.sub q h) (fun r S1 t H1 locs1 ht hvm hp hB hz hk1 hS1 => by
    rw [ni_V]
    exact kk r.toInt S1 H1 locs1 (ni_R r) hp (hI.after hS1 (by have hB' : sC D dA w ad (wA w ad S H.size) S1 t.heap := hB; rw [ht] at hB'; exact hB')))
theorem s_callVz {y : MethodName} {ycc : ByteArray} {yL nL mc ms n index : Nat} {ws : List Cond} {rm : Room} {own : String} {As : List Value} {st0 : List Value} {C : String} {b : Addr} {K : Int → St → Prop} (hF : CallFix p m c cc nL s args lw_all own) (hM : Met l y ws rm (va_Pc (.ref b :: As) (sPre D dA w ad S H.size)) (va_Qi (fun r S' => (r.toInt = 0 ∨ r.toInt = 1) ∧ K r.toInt S') (sPost D dA w ad (wA w ad S H.size)) (wA w ad S H.size)) mc ms (wA w ad S H.size)) (hC : (∃ cell : Cell, H[b]? = some cell ∧ cell.vm.isStatics = false ∧ s.vm.findClass C = some cell.cls)) (cw : CallW R s args own C index y ycc yL (some .boolean) ws rm mc ms n) (hK : gK D dA s) (hI : sI D dA w ad A H0 S H locs) (hn : As.length = n) (hls : ls.size = nL) (hst : st0 = As.reverse ++ .ref b :: rest) (hW : (rest.map fun v => v.category).sum ≤ 8) (hdg : decode cc pc = .ok (.invokevirtual index, 3)) (hf : cells + mc ≤ R.cells ∧ slots + ms ≤ R.slots) (kk : ∀ (r : Int) (S1 : St) (H1 : Heap) (locs1 : List Loc), (r = 0 ∨ r = 1) → K r S1 → sI D dA w ad A H0 S1 H1 locs1 → W p l e R s m args below meth c H1 locs1 (cells + mc) (slots + ms) Q (F0 m (pc + 3) ls (iV r :: rest))) : W p l e R s m args below meth c H locs cells slots Q (F0 m (pc) ls (st0)) := by
  refine va_calli (va_runV (As := As) (rest := rest) hF hM cw ⟨s_blind, hC, s_pre hK hI⟩ rfl hn hls hst (lv_room hW) hdg hf) hI.2.1 (fun q _ h => hI.sub q h) (fun q h => hI.sub q h) (fun r S1 t H1 locs1 ht hvm hp hB hz hk1 hS1 => by
    rw [ni_V]
    exact kk r.toInt S1 H1 locs1 hp.1 hp.2 (hI.after hS1 (by have hB' : sC D dA w ad (wA w ad S H.size) S1 t.heap := hB; rw [ht] at hB'; exact hB')))
theorem s_callSz {y : MethodName} {ycc : ByteArray} {yL nL mc ms n index : Nat} {ws : List Cond} {rm : Room} {own : String} {As : List Value} {st0 : List Value} {K : Int → St → Prop} (hF : CallFix p m c cc nL s args lw_all own) (hM : Met l y ws rm (va_Pc As (sPre D dA w ad S H.size)) (va_Qi (fun r S' => (r.toInt = 0 ∨ r.toInt = 1) ∧ K r.toInt S') (sPost D dA w ad (wA w ad S H.size)) (wA w ad S H.size)) mc ms (wA w ad S H.size)) (cw : CallB R s args own index y ycc yL (some .boolean) ws rm mc ms n ∧ (Cond.static y).before args s = true) (hK : gK D dA s) (hI : sI D dA w ad A H0 S H locs) (hn : As.length = n) (hls : ls.size = nL) (hst : st0 = As.reverse ++ rest) (hW : (rest.map fun v => v.category).sum ≤ 8) (hdg : decode cc pc = .ok (.invokestatic index, 3)) (hf : cells + mc ≤ R.cells ∧ slots + ms ≤ R.slots) (kk : ∀ (r : Int) (S1 : St) (H1 : Heap) (locs1 : List Loc), (r = 0 ∨ r = 1) → K r S1 → sI D dA w ad A H0 S1 H1 locs1 → W p l e R s m args below meth c H1 locs1 (cells + mc) (slots + ms) Q (F0 m (pc + 3) ls (iV r :: rest))) : W p l e R s m args below meth c H locs cells slots Q (F0 m (pc) ls (st0)) := by
  refine va_calli (va_runS (As := As) (rest := rest) hF hM cw ⟨s_blind, s_pre hK hI⟩ rfl hn hls hst (lv_room hW) hdg hf) hI.2.1 (fun q _ h => hI.sub q h) (fun q h => hI.sub q h) (fun r S1 t H1 locs1 ht hvm hp hB hz hk1 hS1 => by
    rw [ni_V]
    exact kk r.toInt S1 H1 locs1 hp.1 hp.2 (hI.after hS1 (by have hB' : sC D dA w ad (wA w ad S H.size) S1 t.heap := hB; rw [ht] at hB'; exact hB')))
theorem s_callVl {y : MethodName} {ycc : ByteArray} {yL nL mc ms n index : Nat} {ws : List Cond} {rm : Room} {own : String} {As : List Value} {st0 : List Value} {C : String} {b : Addr} {K : Int → St → Prop} (hF : CallFix p m c cc nL s args lw_all own) (hM : Met l y ws rm (va_Pc (.ref b :: As) (sPre D dA w ad S H.size)) (va_Ql (fun r S' => K r.toInt S') (sPost D dA w ad (wA w ad S H.size)) (wA w ad S H.size)) mc ms (wA w ad S H.size)) (hC : (∃ cell : Cell, H[b]? = some cell ∧ cell.vm.isStatics = false ∧ s.vm.findClass C = some cell.cls)) (cw : CallW R s args own C index y ycc yL (some .long) ws rm mc ms n) (hK : gK D dA s) (hI : sI D dA w ad A H0 S H locs) (hn : As.length = n) (hls : ls.size = nL) (hst : st0 = As.reverse ++ .ref b :: rest) (hW : (rest.map fun v => v.category).sum ≤ 8) (hdg : decode cc pc = .ok (.invokevirtual index, 3)) (hf : cells + mc ≤ R.cells ∧ slots + ms ≤ R.slots) (kk : ∀ (r : Int) (S1 : St) (H1 : Heap) (locs1 : List Loc), InL r → K r S1 → sI D dA w ad A H0 S1 H1 locs1 → W p l e R s m args below meth c H1 locs1 (cells + mc) (slots + ms) Q (F0 m (pc + 3) ls (jV r :: rest))) : W p l e R s m args below meth c H locs cells slots Q (F0 m (pc) ls (st0)) := by
  refine va_calll (va_runV (As := As) (rest := rest) hF hM cw ⟨s_blind, hC, s_pre hK hI⟩ rfl hn hls hst (lv_room hW) hdg hf) hI.2.1 (fun q _ h => hI.sub q h) (fun q h => hI.sub q h) (fun r S1 t H1 locs1 ht hvm hp hB hz hk1 hS1 => by
    rw [nj_V]
    exact kk r.toInt S1 H1 locs1 (nj_R r) hp (hI.after hS1 (by have hB' : sC D dA w ad (wA w ad S H.size) S1 t.heap := hB; rw [ht] at hB'; exact hB')))
theorem s_callSl {y : MethodName} {ycc : ByteArray} {yL nL mc ms n index : Nat} {ws : List Cond} {rm : Room} {own : String} {As : List Value} {st0 : List Value} {K : Int → St → Prop} (hF : CallFix p m c cc nL s args lw_all own) (hM : Met l y ws rm (va_Pc As (sPre D dA w ad S H.size)) (va_Ql (fun r S' => K r.toInt S') (sPost D dA w ad (wA w ad S H.size)) (wA w ad S H.size)) mc ms (wA w ad S H.size)) (cw : CallB R s args own index y ycc yL (some .long) ws rm mc ms n ∧ (Cond.static y).before args s = true) (hK : gK D dA s) (hI : sI D dA w ad A H0 S H locs) (hn : As.length = n) (hls : ls.size = nL) (hst : st0 = As.reverse ++ rest) (hW : (rest.map fun v => v.category).sum ≤ 8) (hdg : decode cc pc = .ok (.invokestatic index, 3)) (hf : cells + mc ≤ R.cells ∧ slots + ms ≤ R.slots) (kk : ∀ (r : Int) (S1 : St) (H1 : Heap) (locs1 : List Loc), InL r → K r S1 → sI D dA w ad A H0 S1 H1 locs1 → W p l e R s m args below meth c H1 locs1 (cells + mc) (slots + ms) Q (F0 m (pc + 3) ls (jV r :: rest))) : W p l e R s m args below meth c H locs cells slots Q (F0 m (pc) ls (st0)) := by
  refine va_calll (va_runS (As := As) (rest := rest) hF hM cw ⟨s_blind, s_pre hK hI⟩ rfl hn hls hst (lv_room hW) hdg hf) hI.2.1 (fun q _ h => hI.sub q h) (fun q h => hI.sub q h) (fun r S1 t H1 locs1 ht hvm hp hB hz hk1 hS1 => by
    rw [nj_V]
    exact kk r.toInt S1 H1 locs1 (nj_R r) hp (hI.after hS1 (by have hB' : sC D dA w ad (wA w ad S H.size) S1 t.heap := hB; rw [ht] at hB'; exact hB')))
theorem s_callVv {y : MethodName} {ycc : ByteArray} {yL nL mc ms n index : Nat} {ws : List Cond} {rm : Room} {own : String} {As : List Value} {st0 : List Value} {C : String} {b : Addr} {K : St → Prop} (hF : CallFix p m c cc nL s args lw_all own) (hM : Met l y ws rm (va_Pc (.ref b :: As) (sPre D dA w ad S H.size)) (va_Qv (fun S' => K S') (sPost D dA w ad (wA w ad S H.size)) (wA w ad S H.size)) mc ms (wA w ad S H.size)) (hC : (∃ cell : Cell, H[b]? = some cell ∧ cell.vm.isStatics = false ∧ s.vm.findClass C = some cell.cls)) (cw : CallW R s args own C index y ycc yL (none) ws rm mc ms n) (hK : gK D dA s) (hI : sI D dA w ad A H0 S H locs) (hn : As.length = n) (hls : ls.size = nL) (hst : st0 = As.reverse ++ .ref b :: rest) (hW : (rest.map fun v => v.category).sum ≤ 8) (hdg : decode cc pc = .ok (.invokevirtual index, 3)) (hf : cells + mc ≤ R.cells ∧ slots + ms ≤ R.slots) (kk : ∀ (S1 : St) (H1 : Heap) (locs1 : List Loc), K S1 → sI D dA w ad A H0 S1 H1 locs1 → W p l e R s m args below meth c H1 locs1 (cells + mc) (slots + ms) Q (F0 m (pc + 3) ls (rest))) : W p l e R s m args below meth c H locs cells slots Q (F0 m (pc) ls (st0)) := by
  refine va_callv (va_runV (As := As) (rest := rest) hF hM cw ⟨s_blind, hC, s_pre hK hI⟩ rfl hn hls hst (lv_room hW) hdg hf) hI.2.1 (fun q _ h => hI.sub q h) (fun q h => hI.sub q h) (fun S1 t H1 locs1 ht hvm hp hB hz hk1 hS1 => by
    exact kk S1 H1 locs1 hp (hI.after hS1 (by have hB' : sC D dA w ad (wA w ad S H.size) S1 t.heap := hB; rw [ht] at hB'; exact hB')))
theorem s_callSv {y : MethodName} {ycc : ByteArray} {yL nL mc ms n index : Nat} {ws : List Cond} {rm : Room} {own : String} {As : List Value} {st0 : List Value} {K : St → Prop} (hF : CallFix p m c cc nL s args lw_all own) (hM : Met l y ws rm (va_Pc As (sPre D dA w ad S H.size)) (va_Qv (fun S' => K S') (sPost D dA w ad (wA w ad S H.size)) (wA w ad S H.size)) mc ms (wA w ad S H.size)) (cw : CallB R s args own index y ycc yL (none) ws rm mc ms n ∧ (Cond.static y).before args s = true) (hK : gK D dA s) (hI : sI D dA w ad A H0 S H locs) (hn : As.length = n) (hls : ls.size = nL) (hst : st0 = As.reverse ++ rest) (hW : (rest.map fun v => v.category).sum ≤ 8) (hdg : decode cc pc = .ok (.invokestatic index, 3)) (hf : cells + mc ≤ R.cells ∧ slots + ms ≤ R.slots) (kk : ∀ (S1 : St) (H1 : Heap) (locs1 : List Loc), K S1 → sI D dA w ad A H0 S1 H1 locs1 → W p l e R s m args below meth c H1 locs1 (cells + mc) (slots + ms) Q (F0 m (pc + 3) ls (rest))) : W p l e R s m args below meth c H locs cells slots Q (F0 m (pc) ls (st0)) := by
  refine va_callv (va_runS (As := As) (rest := rest) hF hM cw ⟨s_blind, s_pre hK hI⟩ rfl hn hls hst (lv_room hW) hdg hf) hI.2.1 (fun q _ h => hI.sub q h) (fun q h => hI.sub q h) (fun S1 t H1 locs1 ht hvm hp hB hz hk1 hS1 => by
    exact kk S1 H1 locs1 hp (hI.after hS1 (by have hB' : sC D dA w ad (wA w ad S H.size) S1 t.heap := hB; rw [ht] at hB'; exact hB')))
theorem s_callPi {y : MethodName} {ycc : ByteArray} {yL nL n index : Nat} {ws : List Cond} {rm : Room} {own : String} {As : List Value} {st0 : List Value} {K : Int → Prop} (hF : CallFix p m c cc nL s args lw_all own) (hM : Met l y ws rm (va_Pc As (fun _ => True)) (va_Qi (fun r (_ : Unit) => K r.toInt) (fun _ _ => True) (fun _ => False)) 0 0 (fun _ => False)) (cw : CallB R s args own index y ycc yL (some .int) ws rm 0 0 n ∧ (Cond.static y).before args s = true) (hI : sI D dA w ad A H0 S H locs) (hn : As.length = n) (hls : ls.size = nL) (hst : st0 = As.reverse ++ rest) (hW : (rest.map fun v => v.category).sum ≤ 8) (hdg : decode cc pc = .ok (.invokestatic index, 3)) (hf : cells + 0 ≤ R.cells ∧ slots + 0 ≤ R.slots) (kk : ∀ (r : Int) (H1 : Heap) (locs1 : List Loc), InR r → K r → sI D dA w ad A H0 S H1 locs1 → W p l e R s m args below meth c H1 locs1 cells slots Q (F0 m (pc + 3) ls (iV r :: rest))) : W p l e R s m args below meth c H locs cells slots Q (F0 m (pc) ls (st0)) := by
  refine va_calli (va_runS (As := As) (rest := rest) hF hM cw ⟨fun a U g mk q => q, fun U _ _ => ⟨rfl, trivial⟩⟩ rfl hn hls hst (lv_room hW) hdg hf) hI.2.1 (fun q _ h => h.elim) (fun q h => h.elim) (fun r u t H1 locs1 ht hvm hp hB hz hk1 hS1 => by
    rw [ni_V]
    exact kk r.toInt H1 locs1 (ni_R r) hp (hI.keptF hS1 hk1))
theorem p_callPi {y : MethodName} {ycc : ByteArray} {yL nL n index : Nat} {ws : List Cond} {rm : Room} {own : String} {As : List Value} {st0 : List Value} {K : Int → Prop} (hF : CallFix p m c cc nL s args lw_all own) (hM : Met l y ws rm (va_Pc As (fun _ => True)) (va_Qi (fun r (_ : Unit) => K r.toInt) (fun _ _ => True) (fun _ => False)) 0 0 (fun _ => False)) (cw : CallB R s args own index y ycc yL (some .int) ws rm 0 0 n ∧ (Cond.static y).before args s = true) (hS : va_S A H0 H locs) (hn : As.length = n) (hls : ls.size = nL) (hst : st0 = As.reverse ++ rest) (hW : (rest.map fun v => v.category).sum ≤ 8) (hdg : decode cc pc = .ok (.invokestatic index, 3)) (hf : cells + 0 ≤ R.cells ∧ slots + 0 ≤ R.slots) (kk : ∀ (r : Int) (H1 : Heap) (locs1 : List Loc), InR r → K r → va_S A H0 H1 locs1 → W p l e R s m args below meth c H1 locs1 cells slots Q (F0 m (pc + 3) ls (iV r :: rest))) : W p l e R s m args below meth c H locs cells slots Q (F0 m (pc) ls (st0)) := by
  refine va_calli (va_runS (As := As) (rest := rest) hF hM cw ⟨fun a U g mk q => q, fun U _ _ => ⟨rfl, trivial⟩⟩ rfl hn hls hst (lv_room hW) hdg hf) hS (fun q _ h => h.elim) (fun q h => h.elim) (fun r u t H1 locs1 ht hvm hp hB hz hk1 hS1 => by
    rw [ni_V]
    exact kk r.toInt H1 locs1 (ni_R r) hp hS1)
theorem s_callPz {y : MethodName} {ycc : ByteArray} {yL nL n index : Nat} {ws : List Cond} {rm : Room} {own : String} {As : List Value} {st0 : List Value} {K : Int → Prop} (hF : CallFix p m c cc nL s args lw_all own) (hM : Met l y ws rm (va_Pc As (fun _ => True)) (va_Qi (fun r (_ : Unit) => (r.toInt = 0 ∨ r.toInt = 1) ∧ K r.toInt) (fun _ _ => True) (fun _ => False)) 0 0 (fun _ => False)) (cw : CallB R s args own index y ycc yL (some .boolean) ws rm 0 0 n ∧ (Cond.static y).before args s = true) (hI : sI D dA w ad A H0 S H locs) (hn : As.length = n) (hls : ls.size = nL) (hst : st0 = As.reverse ++ rest) (hW : (rest.map fun v => v.category).sum ≤ 8) (hdg : decode cc pc = .ok (.invokestatic index, 3)) (hf : cells + 0 ≤ R.cells ∧ slots + 0 ≤ R.slots) (kk : ∀ (r : Int) (H1 : Heap) (locs1 : List Loc), (r = 0 ∨ r = 1) → K r → sI D dA w ad A H0 S H1 locs1 → W p l e R s m args below meth c H1 locs1 cells slots Q (F0 m (pc + 3) ls (iV r :: rest))) : W p l e R s m args below meth c H locs cells slots Q (F0 m (pc) ls (st0)) := by
  refine va_calli (va_runS (As := As) (rest := rest) hF hM cw ⟨fun a U g mk q => q, fun U _ _ => ⟨rfl, trivial⟩⟩ rfl hn hls hst (lv_room hW) hdg hf) hI.2.1 (fun q _ h => h.elim) (fun q h => h.elim) (fun r u t H1 locs1 ht hvm hp hB hz hk1 hS1 => by
    rw [ni_V]
    exact kk r.toInt H1 locs1 hp.1 hp.2 (hI.keptF hS1 hk1))
theorem p_callPz {y : MethodName} {ycc : ByteArray} {yL nL n index : Nat} {ws : List Cond} {rm : Room} {own : String} {As : List Value} {st0 : List Value} {K : Int → Prop} (hF : CallFix p m c cc nL s args lw_all own) (hM : Met l y ws rm (va_Pc As (fun _ => True)) (va_Qi (fun r (_ : Unit) => (r.toInt = 0 ∨ r.toInt = 1) ∧ K r.toInt) (fun _ _ => True) (fun _ => False)) 0 0 (fun _ => False)) (cw : CallB R s args own index y ycc yL (some .boolean) ws rm 0 0 n ∧ (Cond.static y).before args s = true) (hS : va_S A H0 H locs) (hn : As.length = n) (hls : ls.size = nL) (hst : st0 = As.reverse ++ rest) (hW : (rest.map fun v => v.category).sum ≤ 8) (hdg : decode cc pc = .ok (.invokestatic index, 3)) (hf : cells + 0 ≤ R.cells ∧ slots + 0 ≤ R.slots) (kk : ∀ (r : Int) (H1 : Heap) (locs1 : List Loc), (r = 0 ∨ r = 1) → K r → va_S A H0 H1 locs1 → W p l e R s m args below meth c H1 locs1 cells slots Q (F0 m (pc + 3) ls (iV r :: rest))) : W p l e R s m args below meth c H locs cells slots Q (F0 m (pc) ls (st0)) := by
  refine va_calli (va_runS (As := As) (rest := rest) hF hM cw ⟨fun a U g mk q => q, fun U _ _ => ⟨rfl, trivial⟩⟩ rfl hn hls hst (lv_room hW) hdg hf) hS (fun q _ h => h.elim) (fun q h => h.elim) (fun r u t H1 locs1 ht hvm hp hB hz hk1 hS1 => by
    rw [ni_V]
    exact kk r.toInt H1 locs1 hp.1 hp.2 hS1)
theorem s_callPl {y : MethodName} {ycc : ByteArray} {yL nL n index : Nat} {ws : List Cond} {rm : Room} {own : String} {As : List Value} {st0 : List Value} {K : Int → Prop} (hF : CallFix p m c cc nL s args lw_all own) (hM : Met l y ws rm (va_Pc As (fun _ => True)) (va_Ql (fun r (_ : Unit) => K r.toInt) (fun _ _ => True) (fun _ => False)) 0 0 (fun _ => False)) (cw : CallB R s args own index y ycc yL (some .long) ws rm 0 0 n ∧ (Cond.static y).before args s = true) (hI : sI D dA w ad A H0 S H locs) (hn : As.length = n) (hls : ls.size = nL) (hst : st0 = As.reverse ++ rest) (hW : (rest.map fun v => v.category).sum ≤ 8) (hdg : decode cc pc = .ok (.invokestatic index, 3)) (hf : cells + 0 ≤ R.cells ∧ slots + 0 ≤ R.slots) (kk : ∀ (r : Int) (H1 : Heap) (locs1 : List Loc), InL r → K r → sI D dA w ad A H0 S H1 locs1 → W p l e R s m args below meth c H1 locs1 cells slots Q (F0 m (pc + 3) ls (jV r :: rest))) : W p l e R s m args below meth c H locs cells slots Q (F0 m (pc) ls (st0)) := by
  refine va_calll (va_runS (As := As) (rest := rest) hF hM cw ⟨fun a U g mk q => q, fun U _ _ => ⟨rfl, trivial⟩⟩ rfl hn hls hst (lv_room hW) hdg hf) hI.2.1 (fun q _ h => h.elim) (fun q h => h.elim) (fun r u t H1 locs1 ht hvm hp hB hz hk1 hS1 => by
    rw [nj_V]
    exact kk r.toInt H1 locs1 (nj_R r) hp (hI.keptF hS1 hk1))
theorem p_callPl {y : MethodName} {ycc : ByteArray} {yL nL n index : Nat} {ws : List Cond} {rm : Room} {own : String} {As : List Value} {st0 : List Value} {K : Int → Prop} (hF : CallFix p m c cc nL s args lw_all own) (hM : Met l y ws rm (va_Pc As (fun _ => True)) (va_Ql (fun r (_ : Unit) => K r.toInt) (fun _ _ => True) (fun _ => False)) 0 0 (fun _ => False)) (cw : CallB R s args own index y ycc yL (some .long) ws rm 0 0 n ∧ (Cond.static y).before args s = true) (hS : va_S A H0 H locs) (hn : As.length = n) (hls : ls.size = nL) (hst : st0 = As.reverse ++ rest) (hW : (rest.map fun v => v.category).sum ≤ 8) (hdg : decode cc pc = .ok (.invokestatic index, 3)) (hf : cells + 0 ≤ R.cells ∧ slots + 0 ≤ R.slots) (kk : ∀ (r : Int) (H1 : Heap) (locs1 : List Loc), InL r → K r → va_S A H0 H1 locs1 → W p l e R s m args below meth c H1 locs1 cells slots Q (F0 m (pc + 3) ls (jV r :: rest))) : W p l e R s m args below meth c H locs cells slots Q (F0 m (pc) ls (st0)) := by
  refine va_calll (va_runS (As := As) (rest := rest) hF hM cw ⟨fun a U g mk q => q, fun U _ _ => ⟨rfl, trivial⟩⟩ rfl hn hls hst (lv_room hW) hdg hf) hS (fun q _ h => h.elim) (fun q h => h.elim) (fun r u t H1 locs1 ht hvm hp hB hz hk1 hS1 => by
    rw [nj_V]
    exact kk r.toInt H1 locs1 (nj_R r) hp hS1)
end SROWS
section SROWS2
variable {p : Program} {l : Launch} {e : Env} {R : Room} {s : State} {m : MethodId} {args : Array Value} {below : List Frame} {meth : Method} {c : Code} {H : Heap} {locs : List Loc} {cells slots : Nat} {Q : State → Prop}
variable {cc : ByteArray} {pc : Nat} {ls : Array Slot} {rest : List Value} {D : va_G} {dA : Nat → ClassId} {w : Wd} {ad : Nat → Nat} {A : Nat → Prop} {H0 : Heap} {S : St}
theorem s_getrN (hexec : p.tables.exec = Jvm.exec) (hb : c.code = cc) {own ref C host : String} {T : u_T} {n ci index : Nat} {ft : Nat → Nat ⊕ Nat × Nat} (hts : ∀ w ∈ lw_all, w.before args s = true) (hown : s.vm.findClass own = some m.cls) (hK : gK D dA s) (hI : sI D dA w ad A H0 S H locs) (k : Nat) (hk : k < w.1) (hd : w.2.1 k = .inr (.inl (ci, n, ft))) (hc : vwCl[ci]? = some (C, T, n)) (hin : ∀ x ∈ u_ws C T n, x ∈ lw_all) (i : Nat) (hi : i < n) (hlink : va_Nw (Cond.fieldLinkNest own index ref (T i).2.1 (T i).2.2.1 host) s) (href : ref = (T i).1) (t : Nat) (hf : ft i = .inl t) (hdg : decode cc pc = .ok (.getfield index, 3)) (kk : W p l e R s m args below meth c H locs cells slots Q (F0 m (pc + 3) ls (.ref (ad t) :: rest))) : W p l e R s m args below meth c H locs cells slots Q (F0 m (pc) ls (.ref (ad k) :: rest)) := by
  subst href
  exact va_getN hexec hb hts hin hown hK.1 (va_P1 (s_obj hI k hk hd)) 0 rfl hc i hi (va_Nw.use rfl hlink) (fun x hx => hx) (s_fld hi hf) hdg kk
theorem s_lnk {cp cnt base : Nat} (hI : sI D dA w ad A H0 S H locs) (k : Nat) (hk : k < w.1) (hd : w.2.1 k = .inr (.inr (.inl (cp, cnt, base)))) : va_at D vwCl (ad k, .inl (dA cp, cnt, .inr (.inr (.inr (.inr (fun i => some (ad (base + i)))))))) H := by
  have h := hI.1.1 k hk
  rw [hd] at h
  exact h
theorem s_aald (hexec : p.tables.exec = Jvm.exec) (hb : c.code = cc) (hK : gK D dA s) (hI : sI D dA w ad A H0 S H locs) (k : Nat) (hk : k < w.1) {cp cnt base : Nat} (hd : w.2.1 k = .inr (.inr (.inl (cp, cnt, base)))) {ty : FieldType} (ht : (gT dA)[cp]? = some (dA cp, ty) ∧ ty.isReference = true) {i : Int} (hr : InR i) (hin : 0 ≤ i ∧ i < (cnt : Int)) (hdg : decode cc pc = .ok (.aaload, 1)) (kk : W p l e R s m args below meth c H locs cells slots Q (F0 m (pc + 1) ls (.ref (ad (base + Int.toNat i)) :: rest))) : W p l e R s m args below meth c H locs cells slots Q (F0 m (pc) ls (iV i :: .ref (ad k) :: rest)) := by
  have h := s_lnk hI k hk hd
  have hlt : (Int32.ofInt i).toNatClampNeg < cnt := by rw [ni_N hr]; omega
  refine W.aald (v := .ref (ad (base + Int.toNat i))) (ty := ty) hexec hb h ((hK.1.2 cp _ ht.1).1 cnt (fun j => va_rf (some (ad (base + j))))) ht.2 (fun q => by cases q) (by show ¬ (Int32.ofInt i < 0 ∨ (arrV _ _ _).slots.size ≤ _); rw [arrV_size]; exact ni_in hr hin) (by show (arrV _ _ _).slots[_]? = _; rw [arrV_read _ _ hlt, ni_N hr]; rfl) rfl rfl hdg kk
theorem s_olen (hexec : p.tables.exec = Jvm.exec) (hb : c.code = cc) (hK : gK D dA s) (hI : sI D dA w ad A H0 S H locs) (k : Nat) (hk : k < w.1) {cp cnt base : Nat} (hd : w.2.1 k = .inr (.inr (.inl (cp, cnt, base)))) {ty : FieldType} (ht : (gT dA)[cp]? = some (dA cp, ty)) {v : Int} (hv : (cnt : Int) = v) (hdg : decode cc pc = .ok (.arraylength, 1)) (kk : W p l e R s m args below meth c H locs cells slots Q (F0 m (pc + 1) ls (iV v :: rest))) : W p l e R s m args below meth c H locs cells slots Q (F0 m (pc) ls (.ref (ad k) :: rest)) := by
  subst hv
  exact va_alen hexec hb hK.1 (va_P1 (s_lnk hI k hk hd)) 0 cp rfl ht Int32.ofInt_eq_ofNat.symm hdg kk
theorem s_callSNi {y : MethodName} {ycc : ByteArray} {yL nL mc ms n index : Nat} {ws : List Cond} {rm : Room} {own : String} {As : List Value} {st0 : List Value} {host : String} {K : Int → St → Prop} (hF : CallFix p m c cc nL s args lw_all own) (hM : Met l y ws rm (va_Pc As (sPre D dA w ad S H.size)) (va_Qi (fun r S' => K r.toInt S') (sPost D dA w ad (wA w ad S H.size)) (wA w ad S H.size)) mc ms (wA w ad S H.size)) (cw : va_CN R s args own index y host ycc yL (some .int) ws rm mc ms n ∧ (Cond.static y).before args s = true ∧ True) (hK : gK D dA s) (hI : sI D dA w ad A H0 S H locs) (hn : As.length = n) (hls : ls.size = nL) (hst : st0 = As.reverse ++ rest) (hW : (rest.map fun v => v.category).sum ≤ 8) (hdg : decode cc pc = .ok (.invokestatic index, 3)) (hf : cells + mc ≤ R.cells ∧ slots + ms ≤ R.slots) (kk : ∀ (r : Int) (S1 : St) (H1 : Heap) (locs1 : List Loc), InR r → K r S1 → sI D dA w ad A H0 S1 H1 locs1 → W p l e R s m args below meth c H1 locs1 (cells + mc) (slots + ms) Q (F0 m (pc + 3) ls (iV r :: rest))) : W p l e R s m args below meth c H locs cells slots Q (F0 m (pc) ls (st0)) := by
  refine va_calli (va_runSN (As := As) (rest := rest) hF hM cw ⟨s_blind, s_pre hK hI⟩ rfl hn hls hst (lv_room hW) hdg hf) hI.2.1 (fun q _ h => hI.sub q h) (fun q h => hI.sub q h) (fun r S1 t H1 locs1 ht hvm hp hB hz hk1 hS1 => by
    rw [ni_V]
    exact kk r.toInt S1 H1 locs1 (ni_R r) hp (hI.after hS1 (by have hB' : sC D dA w ad (wA w ad S H.size) S1 t.heap := hB; rw [ht] at hB'; exact hB')))
theorem s_callSNv {y : MethodName} {ycc : ByteArray} {yL nL mc ms n index : Nat} {ws : List Cond} {rm : Room} {own : String} {As : List Value} {st0 : List Value} {host : String} {K : St → Prop} (hF : CallFix p m c cc nL s args lw_all own) (hM : Met l y ws rm (va_Pc As (sPre D dA w ad S H.size)) (va_Qv (fun S' => K S') (sPost D dA w ad (wA w ad S H.size)) (wA w ad S H.size)) mc ms (wA w ad S H.size)) (cw : va_CN R s args own index y host ycc yL (none) ws rm mc ms n ∧ (Cond.static y).before args s = true ∧ True) (hK : gK D dA s) (hI : sI D dA w ad A H0 S H locs) (hn : As.length = n) (hls : ls.size = nL) (hst : st0 = As.reverse ++ rest) (hW : (rest.map fun v => v.category).sum ≤ 8) (hdg : decode cc pc = .ok (.invokestatic index, 3)) (hf : cells + mc ≤ R.cells ∧ slots + ms ≤ R.slots) (kk : ∀ (S1 : St) (H1 : Heap) (locs1 : List Loc), K S1 → sI D dA w ad A H0 S1 H1 locs1 → W p l e R s m args below meth c H1 locs1 (cells + mc) (slots + ms) Q (F0 m (pc + 3) ls (rest))) : W p l e R s m args below meth c H locs cells slots Q (F0 m (pc) ls (st0)) := by
  refine va_callv (va_runSN (As := As) (rest := rest) hF hM cw ⟨s_blind, s_pre hK hI⟩ rfl hn hls hst (lv_room hW) hdg hf) hI.2.1 (fun q _ h => hI.sub q h) (fun q h => hI.sub q h) (fun S1 t H1 locs1 ht hvm hp hB hz hk1 hS1 => by
    exact kk S1 H1 locs1 hp (hI.after hS1 (by have hB' : sC D dA w ad (wA w ad S H.size) S1 t.heap := hB; rw [ht] at hB'; exact hB')))
theorem sz_i {v : Nat} (hv : v ≤ 100000) : v * componentBytes .int ≤ 536870912 := by
  have h : componentBytes .int = 4 := rfl
  rw [h]; omega
theorem s_poolN {q : Nat} {e : PE} (hI : sI D dA w ad A H0 S H locs) (hg : gI S q = some e) (hn : ∀ k, cPE k ≠ e) : va_at D vwCl (q, peE dA e) H := by
  refine (hI.1.2.2.2.2.1 q e hg).1.2 (fun hc => ?_)
  obtain ⟨k, hk, e1⟩ := hc
  have e1 : q = ad (1000 + k) := e1
  subst e1
  have h1 := hI.1.2.2.2.2.2.1 k hk
  rw [hg] at h1
  exact hn k (Option.some.inj h1).symm
theorem s_poolK {q : Nat} {e : PE} (hI : sI D dA w ad A H0 S H locs) (hg : gI S q = some e) : kat D (q, peE dA e) H := (hI.1.2.2.2.2.1 q e hg).1.1
theorem s_pool {q : Nat} {x : Nat × Nat × (Int → Int)} (hI : sI D dA w ad A H0 S H locs) (hg : gI S q = some (.inl x)) : va_at D vwCl (q, peE dA (.inl x)) H := s_poolN hI hg (fun k => cPE_ni k x)
theorem s_poolO {q ci : Nat} {fs : List PV} (hI : sI D dA w ad A H0 S H locs) (hg : gI S q = some (.inr (.inl (ci, fs)))) (hc : ci ≠ 15) : va_at D vwCl (q, peE dA (.inr (.inl (ci, fs)))) H := s_poolN hI hg (fun k e => hc (cPE_no e))
theorem s_poolA {q ci n : Nat} {f : Int → Option Nat} (hI : sI D dA w ad A H0 S H locs) (hg : gI S q = some (.inr (.inr (ci, n, f)))) (hn : n ≠ 0) : va_at D vwCl (q, peE dA (.inr (.inr (ci, n, f)))) H := s_poolN hI hg (fun k e => hn (cPE_na e))
theorem s_newi (hexec : p.tables.exec = Jvm.exec) (hb : c.code = cc) (harr : (Cond.arrayClass .int).before args s = true) (hK : gK D dA s) (hI : sI D dA w ad A H0 S H locs) {v : Nat} (hv : v ≤ 100000) (hr : InR (v : Int)) (hcells : cells + 1 ≤ R.cells) (hslots : slots + v ≤ R.slots) (hdg : decode cc pc = .ok (.newarray .int, 2)) (kk : ∀ (q : Nat) (S1 : St) (H1 : Heap), gI S q = none → S1 = gset S q (.inl (0, v, fun _ => 0)) → sI D dA w ad A H0 S1 H1 locs → W p l e R s m args below meth c H1 locs (cells + 1) (slots + v) Q (F0 m (pc + 2) ls (.ref q :: rest))) : W p l e R s m args below meth c H locs cells slots Q (F0 m (pc) ls (iV (v : Int) :: rest)) := by
  obtain ⟨hC, hS, hA⟩ := hI
  have hcl : (Int32.ofInt (v : Int)).toNatClampNeg = v := by rw [ni_N hr]; rfl
  refine va_newaK (atype := .int) (n := Int32.ofInt (v : Int)) (N := v) (h := H.size) hexec hb harr rfl hdg rfl (by rw [ni_0, ni_lt hr ni_r0]; omega) hcl (sz_i hv) hcells hslots rfl fun H1 cA e1 z1 o1 hAr hNm => ?_
  have hcA : cA = dA 0 := by
    have h1 := (hK.1.2 0 _ rfl).2
    have h2 : s.vm.findClass ("[" ++ FieldType.int.toString) = some (dA 0) := h1
    have h3 : s.vm.findClass ("[" ++ FieldType.int.toString) = some cA := hNm
    exact Option.some.inj (h3.symm.trans h2)
  subst hcA
  have hq : ∀ e, gI S H.size ≠ some e := fun e he => absurd (hC.2.2.2.2.1 _ e he).1.lt (Nat.lt_irrefl _)
  have hq0 : gI S H.size = none := by
    cases hg : gI S H.size with
    | none => rfl
    | some e => exact absurd hg (hq e)
  refine kk H.size _ H1 hq0 rfl ⟨hC.gset hA.2 H.size _ (hA.1 _ hS.1) (fun k hk z => ?_) ?_ ⟨hv, fun _ => ni_r0⟩ (fun q h1 _ => o1 q h1), ⟨Nat.le_trans hS.1 (by omega), fun x h1 h2 => (o1 x (Nat.lt_of_lt_of_le h1 hS.1)).trans (hS.2.1 x h1 h2), hS.2.2⟩, hA⟩
  · have h := (hC.1 k hk).lt
    have z2 : ad k = H.size := z.symm
    omega
  · show H1[H.size]? = some (arrV (dA 0) v (fun _ => Value.int (Int32.ofInt 0)))
    have e2 : (fun _ : Nat => defaultValue FieldType.int) = fun _ : Nat => Value.int (Int32.ofInt 0) := by
      funext _
      show Value.int 0 = _
      rw [ni_0]
    rw [e1, ← e2]
    rfl
theorem s_pald (hexec : p.tables.exec = Jvm.exec) (hb : c.code = cc) (hK : gK D dA s) (hI : sI D dA w ad A H0 S H locs) {q n : Nat} {f : Int → Int} (hg : gI S q = some (.inl (0, n, f))) {i : Int} (hr : InR i) (hin : 0 ≤ i ∧ i < (n : Int)) (hdg : decode cc pc = .ok (.iaload, 1)) (kk : InR (f i) → W p l e R s m args below meth c H locs cells slots Q (F0 m (pc + 1) ls (iV (f i) :: rest))) : W p l e R s m args below meth c H locs cells slots Q (F0 m (pc) ls (iV i :: .ref q :: rest)) := by
  have h := s_pool hI hg
  refine va_iald hexec hb hK.1 (va_P1 h) 0 0 rfl rfl (ni_in hr hin) hdg ?_
  have e : ((i.toNat : Nat) : Int) = i := Int.toNat_of_nonneg hin.1
  rw [ni_N hr, e]
  exact kk ((hI.1.2.2.2.2.1 q _ hg).2.2.2.2 i)
theorem s_plen (hexec : p.tables.exec = Jvm.exec) (hb : c.code = cc) (hK : gK D dA s) (hI : sI D dA w ad A H0 S H locs) {q n : Nat} {f : Int → Int} (hg : gI S q = some (.inl (0, n, f))) (hdg : decode cc pc = .ok (.arraylength, 1)) (kk : InR (n : Int) → W p l e R s m args below meth c H locs cells slots Q (F0 m (pc + 1) ls (iV (n : Int) :: rest))) : W p l e R s m args below meth c H locs cells slots Q (F0 m (pc) ls (.ref q :: rest)) :=
  va_alen hexec hb hK.1 (va_P1 (s_pool hI hg)) 0 0 rfl rfl Int32.ofInt_eq_ofNat.symm hdg (kk (by have h := (hI.1.2.2.2.2.1 q _ hg).2.2.2.1; have h2 : n ≤ 100000 := h; constructor <;> omega))
theorem s_past (hexec : p.tables.exec = Jvm.exec) (hb : c.code = cc) (hK : gK D dA s) (hI : sI D dA w ad A H0 S H locs) {q n : Nat} {f : Int → Int} (hg : gI S q = some (.inl (0, n, f))) {i v : Int} (hr : InR i) (hin : 0 ≤ i ∧ i < (n : Int)) (hv : InR v) (hdg : decode cc pc = .ok (.iastore, 1)) (kk : ∀ (S1 : St) (H1 : Heap) (locs1 : List Loc), S1 = gset S q (.inl (0, n, fun y => if y = i then v else f y)) → sI D dA w ad A H0 S1 H1 locs1 → W p l e R s m args below meth c H1 locs1 cells slots Q (F0 m (pc + 1) ls (rest))) : W p l e R s m args below meth c H locs cells slots Q (F0 m (pc) ls (iV v :: iV i :: .ref q :: rest)) := by
  have h := s_pool hI hg
  have h2 := hI.ownI hg
  obtain ⟨hC, hS, hA⟩ := hI
  obtain ⟨h1, -, h3, h4⟩ := hC.2.2.2.2.1 q _ hg
  refine W.iast hexec hb h ((hK.1.2 0 _ rfl).1 n (fun j : Nat => .int (Int32.ofInt (f j)))) (fun q => by cases q) (by show ¬ (Int32.ofInt i < 0 ∨ (arrV _ _ _).slots.size ≤ _); rw [arrV_size]; exact ni_in hr hin) rfl rfl hdg fun H1 e z oq => ?_
  refine kk _ H1 _ rfl ⟨?_, hS.put z oq h2, hA⟩
  refine hC.gset hA.2 q _ h2 h3 ?_ ⟨h4.1, fun y => ?_⟩ (fun x _ hx => oq x hx)
  · show H1[q]? = some (vp_cell _ _)
    have e2 : H1[q]? = some ((arrV (dA 0) n (fun j : Nat => .int (Int32.ofInt (f j)))).setSlot (Int32.ofInt i).toNatClampNeg (.int (Int32.ofInt v))) := e
    rw [e2, vp_cell_i, arrV_store, ni_N hr, arr_set_i hin.1 (g := fun y => if y = i then v else f y) (fun y => rfl)]
  · show kdP 0 (if y = i then v else f y)
    split
    · exact hv
    · exact h4.2 y
theorem acpy_loc : nativeFrameWords "java/lang/System" "arraycopy" 5 + 11 ≤ 90 := by decide +kernel
theorem W.acpy {cc : ByteArray} (hexec : p.tables.exec = Jvm.exec) (hb : c.code = cc) (hml : c.maxLocals = ls.size) {own : String} {index : Nat} (hown : s.vm.findClass own = some m.cls) (hlink : (Cond.methodLink own index arraycopyName).before args s = true) (hnat : (Cond.native arraycopyName).before args s = true) (hstat : (Cond.static arraycopyName).before args s = true) (hini : (Cond.initialized "java/lang/System").before args s = true)
    {a0 a : Nat} {c0 : ClassId} {n0 n1 : Nat} {f g : Nat → Int32} (hc0 : H[a0]? = some (vp_cell c0 (n0, .inl f))) (hc1 : H[a]? = some (vp_cell c0 (n1, .inl g))) (ht : ArrOfT s c0 .int)
    {sp dp n : Int32} (h1 : ¬ sp < 0) (h2 : ¬ dp < 0) (h3 : ¬ n < 0) (h4 : sp.toNatClampNeg + n.toNatClampNeg ≤ n0) (h5 : dp.toNatClampNeg + n.toNatClampNeg ≤ n1)
    (hframes : 1 ≤ R.frames) (hlocals : (rest.map fun v => v.category).sum + (nativeFrameWords "java/lang/System" "arraycopy" 5 + 11) ≤ R.locals) (hdg : decode cc pc = .ok (.invokestatic index, 3))
    (kk : ∀ (H1 : Heap) (L : List Loc), H1[a]? = some (vp_cell c0 (n1, .inl (va_cpy f g sp.toNatClampNeg dp.toNatClampNeg n.toNatClampNeg))) → H1.size = H.size → (∀ q : Nat, q ≠ a → H1[q]? = H[q]?) → (∀ x ∈ L, x.base = a) → W p l e R s m args below meth c H1 (locs ++ L) cells slots Q (F0 m (pc + 3) ls rest)) : W p l e R s m args below meth c H locs cells slots Q (F0 m pc ls (.int n :: .int dp :: .ref a :: .int sp :: .ref a0 :: rest)) := by
  have nn : ∀ z : Int32, ¬ z < 0 → z.toInt = (z.toNatClampNeg : Int) := by
    intro z hz
    have hz0 : (0 : Int) ≤ z.toInt := by
      have := Int32.not_lt.mp hz
      simpa using Int32.le_iff_toInt_le.mp this
    show z.toInt = ((z.toInt.toNat : Nat) : Int)
    omega
  intro T hT X
  obtain ⟨-, k0, hk0, cm0, hkk0⟩ := ht n0 (fun j => .int (f j))
  obtain ⟨-, k1, hk1, cm1, hkk1⟩ := ht n1 (fun j => .int (g j))
  obtain ⟨vm', X', step⟩ := X.arraycopy hexec hown hlink hnat hstat hini (src := a0) (dst := a) (cs := vp_cell c0 (n0, .inl f)) (cd := vp_cell c0 (n1, .inl g)) (srcPos := sp) (destPos := dp) (n := n) (by rw [hT]; exact hc0) (by rw [hT]; exact hc1)
    (fun _ h => by cases h) (fun _ h => by cases h) (fun h => by cases h) (fun h => by cases h) hk0 hk1 hkk0 hkk1 (by simp [refKind]) h1 h2 h3
    (by rw [nn sp h1, nn n h3]; show ¬ _ > ((arrV c0 n0 (fun j => .int (f j))).slots.size : Int); rw [arrV_size]; omega)
    (by rw [nn dp h2, nn n h3]; show ¬ _ > ((arrV c0 n1 (fun j => .int (g j))).slots.size : Int); rw [arrV_size]; omega)
    (fun vm₁ _ i hi => by
      have e : (vp_cell c0 (n0, .inl f)).slots.getD (sp.toNatClampNeg + i) .null = .int (f (sp.toNatClampNeg + i)) := by
        show (arrV c0 n0 (fun j => .int (f j))).slots.getD _ _ = _
        rw [Array.getD_eq_getD_getElem?, arrV_read _ _ (by omega)]
        rfl
      refine ⟨?_, ?_⟩
      · rw [e]
        rfl
      · rw [e]
        exact trivial)
    (g := F0 m pc ls (.int n :: .int dp :: .ref a :: .int sp :: .ref a0 :: rest)) rfl (by rw [hml]) (rest := rest) rfl (by rw [hb]; exact hdg) hframes (by show 2 * 0 + _ + _ ≤ _; omega)
  have e1 : copied (vp_cell c0 (n0, .inl f)) (vp_cell c0 (n1, .inl g)) sp dp n = vp_cell c0 (n1, .inl (va_cpy f g sp.toNatClampNeg dp.toNatClampNeg n.toNatClampNeg)) := va_copied (fun z => .int z) c0 c0 f g h4
  rw [e1] at X' step
  have hl : a < H.size := (Array.getElem?_eq_some_iff.mp hc1).1
  have hheap : ((T.setVm vm').setCell a (vp_cell c0 (n1, .inl (va_cpy f g sp.toNatClampNeg dp.toNatClampNeg n.toNatClampNeg)))).heap = H.setIfInBounds a (vp_cell c0 (n1, .inl (va_cpy f g sp.toNatClampNeg dp.toNatClampNeg n.toNatClampNeg))) := by rw [← hT]; rfl
  obtain ⟨t, a1, b1⟩ := kk _ _ (by simp [Array.getElem?_setIfInBounds, hl]) (by simp) (fun q hq => by simp [Array.getElem?_setIfInBounds, Ne.symm hq]) (fun x hx => by
      obtain ⟨z, -, hz⟩ := List.mem_map.mp hx
      rw [← hz]) _ hheap X'
  exact ⟨t, step t a1, b1⟩
theorem cpy_eq {f g h : Int → Int} {sp dp n : Int} (h1 : 0 ≤ sp) (h2 : 0 ≤ dp) (h3 : 0 ≤ n) (hh : ∀ y, h y = if dp ≤ y ∧ y < dp + n then f (sp + (y - dp)) else g y) : va_cpy (fun j : Nat => Int32.ofInt (f j)) (fun j : Nat => Int32.ofInt (g j)) sp.toNat dp.toNat n.toNat = fun j : Nat => Int32.ofInt (h j) := by
  funext k
  unfold va_cpy
  rw [hh]
  by_cases hk : dp.toNat ≤ k ∧ k < dp.toNat + n.toNat
  · rw [if_pos hk, if_pos (by omega)]
    show Int32.ofInt (f (((sp.toNat + (k - dp.toNat) : Nat) : Int))) = _
    have e : ((sp.toNat + (k - dp.toNat) : Nat) : Int) = sp + ((k : Int) - dp) := by omega
    rw [e]
  · rw [if_neg hk, if_neg (by omega)]
theorem s_acpy (hexec : p.tables.exec = Jvm.exec) (hb : c.code = cc) (hls : ls.size = c.maxLocals) {own : String} {index : Nat} (hown : s.vm.findClass own = some m.cls) (hts : ∀ w ∈ lw_all, w.before args s = true) (hlink : Cond.methodLink own index arraycopyName ∈ lw_all) (hK : gK D dA s) (hI : sI D dA w ad A H0 S H locs) (k0 : Nat) (hk0 : k0 < w.1) {len0 : Nat} (hd0 : w.2.1 k0 = .inl (0, len0)) (k1 : Nat) (hk1 : k1 < w.1) {len1 : Nat} (hd1 : w.2.1 k1 = .inl (0, len1)) {sp dp z : Int} (r1 : InR sp) (r2 : InR dp) (r3 : InR z) (hbd : (0 ≤ sp ∧ 0 ≤ dp ∧ 0 ≤ z ∧ sp + z ≤ (len0 : Int) ∧ dp + z ≤ (len1 : Int))) (hR : 1 ≤ R.frames ∧ 100 ≤ R.locals) (hW : (rest.map fun v => v.category).sum ≤ 8) (hdg : decode cc pc = .ok (.invokestatic index, 3)) (kk : ∀ (S1 : St) (H1 : Heap) (locs1 : List Loc), S1 = pcpy S (aI S k0) sp k1 dp z → sI D dA w ad A H0 S1 H1 locs1 → W p l e R s m args below meth c H1 locs1 cells slots Q (F0 m (pc + 3) ls (rest))) : W p l e R s m args below meth c H locs cells slots Q (F0 m (pc) ls (iV z :: iV dp :: .ref (ad k1) :: iV sp :: .ref (ad k0) :: rest)) := by
  have hb0 := s_arr hI k0 hk0 hd0
  rw [arrE_i (by decide)] at hb0
  have hb1 := s_arr hI k1 hk1 hd1
  rw [arrE_i (by decide)] at hb1
  obtain ⟨hC, hS, hA⟩ := hI
  obtain ⟨b1, b2, b3, b4, b5⟩ := hbd
  have n1 := ni_N r1
  have n2 := ni_N r2
  have n3 := ni_N r3
  have nl : ∀ {x : Int}, InR x → 0 ≤ x → ¬ Int32.ofInt x < 0 := fun hx h0 h => by rw [ni_0, ni_lt hx ni_r0] at h; omega
  refine W.acpy hexec hb hls.symm hown (hts _ hlink) (hts _ q200) (hts _ q199) (hts _ q108) hb0 hb1 (hK.1.2 0 _ rfl).1 (nl r1 b1) (nl r2 b2) (nl r3 b3) (by rw [n1, n3]; omega) (by rw [n2, n3]; omega) hR.1 (by have h := acpy_loc; have h2 := hR.2; omega) hdg fun H1 L e z1 oq hL => ?_
  refine kk _ H1 _ rfl ⟨?_, ⟨by rw [z1]; exact hS.1, fun x h1 h2 => by
      rw [oq x (fun z => h2 (by rw [z]; exact hC.2.2.1 k1 hk1))]
      exact hS.2.1 x h1 h2, fun x hx => by
      rcases List.mem_append.mp hx with h | h
      · exact hS.2.2 x h
      · rw [hL x h]; exact hC.2.2.1 k1 hk1⟩, hA⟩
  have hna : nrm w (pcpy S (aI S k0) sp k1 dp z) := by
    refine ⟨hC.2.2.2.1.1, fun k kd len hd y => ?_⟩
    rw [aI_pcpy]
    split
    · rename_i hy
      obtain ⟨rfl, -, -⟩ := hy
      rw [hd1] at hd
      cases hd
      exact hC.2.2.2.1.2 k0 _ _ hd0 _
    · exact hC.2.2.2.1.2 k kd len hd y
  refine hC.set k1 hk1 (fun j _ hj => ?_) rfl rfl hna ?_ oq
  · have e2 : aI (pcpy S (aI S k0) sp k1 dp z) j = aI S j := by funext y; rw [aI_pcpy, if_neg (fun h => hj h.1)]
    obtain q | q | q | q := w.2.1 j
    · show arrE _ _ _ _ = arrE _ _ _ _
      rw [e2]
    · rfl
    · rfl
    · rfl
  · rw [hd1]
    show va_at D vwCl (ad k1, arrE dA 0 len1 (aI (pcpy S (aI S k0) sp k1 dp z) k1)) H1
    rw [arrE_i (by decide)]
    show H1[ad k1]? = some (vp_cell _ _)
    rw [e, n1, n2, n3, cpy_eq b1 b2 b3 (h := aI (pcpy S (aI S k0) sp k1 dp z) k1) (fun y => by rw [aI_pcpy]; simp)]
theorem s_pcpy (hexec : p.tables.exec = Jvm.exec) (hb : c.code = cc) (hls : ls.size = c.maxLocals) {own : String} {index : Nat} (hown : s.vm.findClass own = some m.cls) (hts : ∀ w ∈ lw_all, w.before args s = true) (hlink : Cond.methodLink own index arraycopyName ∈ lw_all) (hK : gK D dA s) (hI : sI D dA w ad A H0 S H locs) {q pn : Nat} {pf : Int → Int} (hg : gI S q = some (.inl (0, pn, pf))) (k1 : Nat) (hk1 : k1 < w.1) {len1 : Nat} (hd1 : w.2.1 k1 = .inl (0, len1)) {sp dp z : Int} (r1 : InR sp) (r2 : InR dp) (r3 : InR z) (hbd : (0 ≤ sp ∧ 0 ≤ dp ∧ 0 ≤ z ∧ sp + z ≤ (pn : Int) ∧ dp + z ≤ (len1 : Int))) (hR : 1 ≤ R.frames ∧ 100 ≤ R.locals) (hW : (rest.map fun v => v.category).sum ≤ 8) (hdg : decode cc pc = .ok (.invokestatic index, 3)) (kk : ∀ (S1 : St) (H1 : Heap) (locs1 : List Loc), S1 = pcpy S pf sp k1 dp z → sI D dA w ad A H0 S1 H1 locs1 → W p l e R s m args below meth c H1 locs1 cells slots Q (F0 m (pc + 3) ls (rest))) : W p l e R s m args below meth c H locs cells slots Q (F0 m (pc) ls (iV z :: iV dp :: .ref (ad k1) :: iV sp :: .ref q :: rest)) := by
  have hb0 : H[q]? = some (vp_cell (dA 0) (pn, .inl fun j : Nat => Int32.ofInt (pf j))) := s_pool hI hg
  have hb1 := s_arr hI k1 hk1 hd1
  rw [arrE_i (by decide)] at hb1
  obtain ⟨hC, hS, hA⟩ := hI
  obtain ⟨b1, b2, b3, b4, b5⟩ := hbd
  have n1 := ni_N r1
  have n2 := ni_N r2
  have n3 := ni_N r3
  have nl : ∀ {x : Int}, InR x → 0 ≤ x → ¬ Int32.ofInt x < 0 := fun hx h0 h => by rw [ni_0, ni_lt hx ni_r0] at h; omega
  refine W.acpy hexec hb hls.symm hown (hts _ hlink) (hts _ q200) (hts _ q199) (hts _ q108) hb0 hb1 (hK.1.2 0 _ rfl).1 (nl r1 b1) (nl r2 b2) (nl r3 b3) (by rw [n1, n3]; omega) (by rw [n2, n3]; omega) hR.1 (by have h := acpy_loc; have h2 := hR.2; omega) hdg fun H1 L e z1 oq hL => ?_
  refine kk _ H1 _ rfl ⟨?_, ⟨by rw [z1]; exact hS.1, fun x h1 h2 => by
      rw [oq x (fun z => h2 (by rw [z]; exact hC.2.2.1 k1 hk1))]
      exact hS.2.1 x h1 h2, fun x hx => by
      rcases List.mem_append.mp hx with h | h
      · exact hS.2.2 x h
      · rw [hL x h]; exact hC.2.2.1 k1 hk1⟩, hA⟩
  have hna : nrm w (pcpy S pf sp k1 dp z) := by
    refine ⟨hC.2.2.2.1.1, fun k kd len hd y => ?_⟩
    rw [aI_pcpy]
    split
    · rename_i hy
      obtain ⟨rfl, -, -⟩ := hy
      rw [hd1] at hd
      cases hd
      exact (hC.2.2.2.2.1 q _ hg).2.2.2.2 _
    · exact hC.2.2.2.1.2 k kd len hd y
  refine hC.set k1 hk1 (fun j _ hj => ?_) rfl rfl hna ?_ oq
  · have e2 : aI (pcpy S pf sp k1 dp z) j = aI S j := by funext y; rw [aI_pcpy, if_neg (fun h => hj h.1)]
    obtain q | q | q | q := w.2.1 j
    · show arrE _ _ _ _ = arrE _ _ _ _
      rw [e2]
    · rfl
    · rfl
    · rfl
  · rw [hd1]
    show va_at D vwCl (ad k1, arrE dA 0 len1 (aI (pcpy S pf sp k1 dp z) k1)) H1
    rw [arrE_i (by decide)]
    show H1[ad k1]? = some (vp_cell _ _)
    rw [e, n1, n2, n3, cpy_eq b1 b2 b3 (h := aI (pcpy S pf sp k1 dp z) k1) (fun y => by rw [aI_pcpy]; simp)]
theorem s_max (hexec : p.tables.exec = Jvm.exec) (hb : c.code = cc) (hls : ls.size = c.maxLocals) {own : String} {index : Nat} (hown : s.vm.findClass own = some m.cls) (hts : ∀ w ∈ lw_all, w.before args s = true) (hlink : Cond.methodLink own index Lib.Math.max.name ∈ lw_all) (hstat : Cond.static Lib.Math.max.name ∈ lw_all) (hini : Cond.initialized "java/lang/Math" ∈ lw_all) (hcode : Cond.code Lib.Math.max.name Lib.Math.max.code 2 (some .int) ∈ lw_all) (hR : 1 ≤ R.frames ∧ 100 ≤ R.locals) (hf : cells ≤ R.cells ∧ slots ≤ R.slots) (hW : (rest.map fun v => v.category).sum ≤ 8) {a b : Int} (ra : InR a) (rb : InR b) (hdg : decode cc pc = .ok (.invokestatic index, 3)) (kk : W p l e R s m args below meth c H locs cells slots Q (F0 m (pc + 3) ls (iV (max a b) :: rest))) : W p l e R s m args below meth c H locs cells slots Q (F0 m (pc) ls (iV b :: iV a :: rest)) := by
  refine va_mmax hexec hb hls.symm hown (hts _ hlink) (hts _ hstat) (hts _ hini) (hts _ hcode) hR.1 (by have h := hR.2; omega) hf.1 hf.2 hdg ?_
  have e : (if Int32.ofInt a < Int32.ofInt b then Int32.ofInt b else Int32.ofInt a) = Int32.ofInt (max a b) := by
    split
    · rename_i h
      rw [ni_lt ra rb] at h
      congr 1
      omega
    · rename_i h
      rw [ni_lt ra rb] at h
      congr 1
      omega
  rw [e]
  exact kk
theorem s_min (hexec : p.tables.exec = Jvm.exec) (hb : c.code = cc) (hls : ls.size = c.maxLocals) {own : String} {index : Nat} (hown : s.vm.findClass own = some m.cls) (hts : ∀ w ∈ lw_all, w.before args s = true) (hlink : Cond.methodLink own index Lib.Math.min.name ∈ lw_all) (hstat : Cond.static Lib.Math.min.name ∈ lw_all) (hini : Cond.initialized "java/lang/Math" ∈ lw_all) (hcode : Cond.code Lib.Math.min.name Lib.Math.min.code 2 (some .int) ∈ lw_all) (hR : 1 ≤ R.frames ∧ 100 ≤ R.locals) (hf : cells ≤ R.cells ∧ slots ≤ R.slots) (hW : (rest.map fun v => v.category).sum ≤ 8) {a b : Int} (ra : InR a) (rb : InR b) (hdg : decode cc pc = .ok (.invokestatic index, 3)) (kk : W p l e R s m args below meth c H locs cells slots Q (F0 m (pc + 3) ls (iV (min a b) :: rest))) : W p l e R s m args below meth c H locs cells slots Q (F0 m (pc) ls (iV b :: iV a :: rest)) := by
  refine va_mmin hexec hb hls.symm hown (hts _ hlink) (hts _ hstat) (hts _ hini) (hts _ hcode) hR.1 (by have h := hR.2; omega) hf.1 hf.2 hdg ?_
  have e : (if Int32.ofInt b < Int32.ofInt a then Int32.ofInt b else Int32.ofInt a) = Int32.ofInt (min a b) := by
    split
    · rename_i h
      rw [ni_lt rb ra] at h
      congr 1
      omega
    · rename_i h
      rw [ni_lt rb ra] at h
      congr 1
      omega
  rw [e]
  exact kk
theorem s_maxl (hexec : p.tables.exec = Jvm.exec) (hb : c.code = cc) (hls : ls.size = c.maxLocals) {own : String} {index : Nat} (hown : s.vm.findClass own = some m.cls) (hts : ∀ w ∈ lw_all, w.before args s = true) (hlink : Cond.methodLink own index Lib.MathLoose.max_long.x ∈ lw_all) (hstat : Cond.static Lib.MathLoose.max_long.x ∈ lw_all) (hini : Cond.initialized "java/lang/Math" ∈ lw_all) (hcode : Cond.code Lib.MathLoose.max_long.x Lib.MathLoose.max_long.code 4 (some .long) ∈ lw_all) (hR : 1 ≤ R.frames ∧ 100 ≤ R.locals) (hf : cells ≤ R.cells ∧ slots ≤ R.slots) (hW : (rest.map fun v => v.category).sum ≤ 8) {a b : Int} (ra : InL a) (rb : InL b) (hdg : decode cc pc = .ok (.invokestatic index, 3)) (kk : W p l e R s m args below meth c H locs cells slots Q (F0 m (pc + 3) ls (jV (max a b) :: rest))) : W p l e R s m args below meth c H locs cells slots Q (F0 m (pc) ls (jV b :: jV a :: rest)) := by
  refine va_mmax_long hexec hb hls.symm hown (hts _ hlink) (hts _ hstat) (hts _ hini) (hts _ hcode) hR.1 (by have h := hR.2; omega) hf.1 hf.2 hdg ?_
  have e : (if Int64.ofInt b < Int64.ofInt a then Int64.ofInt a else Int64.ofInt b) = Int64.ofInt (max a b) := by
    split
    · rename_i h
      rw [nj_lt rb ra] at h
      congr 1
      omega
    · rename_i h
      rw [nj_lt rb ra] at h
      congr 1
      omega
  rw [e]
  exact kk
theorem s_minl (hexec : p.tables.exec = Jvm.exec) (hb : c.code = cc) (hls : ls.size = c.maxLocals) {own : String} {index : Nat} (hown : s.vm.findClass own = some m.cls) (hts : ∀ w ∈ lw_all, w.before args s = true) (hlink : Cond.methodLink own index Lib.MathLoose.min_long.x ∈ lw_all) (hstat : Cond.static Lib.MathLoose.min_long.x ∈ lw_all) (hini : Cond.initialized "java/lang/Math" ∈ lw_all) (hcode : Cond.code Lib.MathLoose.min_long.x Lib.MathLoose.min_long.code 4 (some .long) ∈ lw_all) (hR : 1 ≤ R.frames ∧ 100 ≤ R.locals) (hf : cells ≤ R.cells ∧ slots ≤ R.slots) (hW : (rest.map fun v => v.category).sum ≤ 8) {a b : Int} (ra : InL a) (rb : InL b) (hdg : decode cc pc = .ok (.invokestatic index, 3)) (kk : W p l e R s m args below meth c H locs cells slots Q (F0 m (pc + 3) ls (jV (min a b) :: rest))) : W p l e R s m args below meth c H locs cells slots Q (F0 m (pc) ls (jV b :: jV a :: rest)) := by
  refine va_mmin_long hexec hb hls.symm hown (hts _ hlink) (hts _ hstat) (hts _ hini) (hts _ hcode) hR.1 (by have h := hR.2; omega) hf.1 hf.2 hdg ?_
  have e : (if Int64.ofInt b < Int64.ofInt a then Int64.ofInt b else Int64.ofInt a) = Int64.ofInt (min a b) := by
    split
    · rename_i h
      rw [nj_lt rb ra] at h
      congr 1
      omega
    · rename_i h
      rw [nj_lt rb ra] at h
      congr 1
      omega
  rw [e]
  exact kk
theorem s_abs (hexec : p.tables.exec = Jvm.exec) (hb : c.code = cc) (hls : ls.size = c.maxLocals) {own : String} {index : Nat} (hown : s.vm.findClass own = some m.cls) (hts : ∀ w ∈ lw_all, w.before args s = true) (hlink : Cond.methodLink own index Lib.Math.abs.name ∈ lw_all) (hstat : Cond.static Lib.Math.abs.name ∈ lw_all) (hini : Cond.initialized "java/lang/Math" ∈ lw_all) (hcode : Cond.code Lib.Math.abs.name Lib.Math.abs.code 1 (some .int) ∈ lw_all) (hR : 1 ≤ R.frames ∧ 100 ≤ R.locals) (hf : cells ≤ R.cells ∧ slots ≤ R.slots) (hW : (rest.map fun v => v.category).sum ≤ 8) {a : Int} (ra : InR a) (rb : InR (-a)) (hdg : decode cc pc = .ok (.invokestatic index, 3)) (kk : W p l e R s m args below meth c H locs cells slots Q (F0 m (pc + 3) ls (iV (max a (-a)) :: rest))) : W p l e R s m args below meth c H locs cells slots Q (F0 m (pc) ls (iV a :: rest)) := by
  refine va_mabs hexec hb hls.symm hown (hts _ hlink) (hts _ hstat) (hts _ hini) (hts _ hcode) hR.1 (by have h := hR.2; omega) hf.1 hf.2 hdg ?_
  have e : (if 0 ≤ Int32.ofInt a then Int32.ofInt a else 0 - Int32.ofInt a) = Int32.ofInt (max a (-a)) := by
    split
    · rename_i h
      rw [ni_0, ni_le ni_r0 ra] at h
      congr 1
      omega
    · rename_i h
      rw [ni_0, ni_le ni_r0 ra] at h
      rw [ni_0, ← Int32.ofInt_sub]
      congr 1
      omega
  rw [e]
  exact kk
end SROWS2
