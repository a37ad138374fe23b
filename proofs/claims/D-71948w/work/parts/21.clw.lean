/-! what the tables say and no list of words carries: nest mates' links, what is castable, what is declared, arrays over classes; calls through interfaces -/
def cl_nws : List Cond := [(Jvm.Cond.methodLinkNest "DatedContacts$Walk" (34 : Nat) ({ cls := "DatedContacts", name := "has", desc := "(II)Z" } : Jvm.MethodName) "DatedContacts"),
  (Jvm.Cond.methodLinkNest "DatedContacts$Chains" (30 : Nat) ({ cls := "DatedContacts", name := "has", desc := "(II)Z" } : Jvm.MethodName) "DatedContacts"),
  (Jvm.Cond.methodLinkNest "DatedContacts$Reader" (44 : Nat) ({ cls := "DatedContacts", name := "isIn", desc := "(JJJ)Z" } : Jvm.MethodName) "DatedContacts"),
  (Jvm.Cond.methodLinkNest "DatedContacts$Reader" (125 : Nat) ({ cls := "DatedContacts", name := "personBy", desc := "(II)LDatedContacts$Person;" } : Jvm.MethodName) "DatedContacts"),
  (Jvm.Cond.castable "DatedContacts$Fault" "DatedContacts$Fault"),
  (Jvm.Cond.declares ({ cls := "DatedContacts$Marked", name := "size", desc := "(LDatedContacts$Trail;LDatedContacts$Held;)I" } : Jvm.MethodName)),
  (Jvm.Cond.declares ({ cls := "DatedContacts$Marked", name := "mark", desc := "(LDatedContacts$Trail;LDatedContacts$Held;)I" } : Jvm.MethodName)),
  (Jvm.Cond.declares ({ cls := "DatedContacts$Marked", name := "number", desc := "()I" } : Jvm.MethodName)),
  (Jvm.Cond.declares ({ cls := "DatedContacts$Person", name := "window", desc := "(LDatedContacts$Window;)LDatedContacts$Window;" } : Jvm.MethodName)),
  (Jvm.Cond.declares ({ cls := "DatedContacts$Person", name := "kind", desc := "()I" } : Jvm.MethodName)),
  (Jvm.Cond.declares ({ cls := "DatedContacts$Person", name := "catches", desc := "()Z" } : Jvm.MethodName)),
  (Jvm.Cond.castable "DatedContacts$Open" "DatedContacts$Marked"),
  (Jvm.Cond.castable "DatedContacts$Open" "DatedContacts$Person"),
  (Jvm.Cond.castable "DatedContacts$Late" "DatedContacts$Marked"),
  (Jvm.Cond.castable "DatedContacts$Late" "DatedContacts$Person"),
  (Jvm.Cond.castable "DatedContacts$Late" "DatedContacts$Open"),
  (Jvm.Cond.castable "DatedContacts$Brief" "DatedContacts$Marked"),
  (Jvm.Cond.castable "DatedContacts$Brief" "DatedContacts$Person"),
  (Jvm.Cond.castable "DatedContacts$Brief" "DatedContacts$Open"),
  (Jvm.Cond.castable "DatedContacts$Ward" "DatedContacts$Marked"),
  (Jvm.Cond.castable "DatedContacts$Ward" "DatedContacts$Person"),
  (Jvm.Cond.castable "DatedContacts$Safe" "DatedContacts$Marked"),
  (Jvm.Cond.castable "DatedContacts$Safe" "DatedContacts$Person"),
  (Jvm.Cond.castable "DatedContacts$Safe" "DatedContacts$Ward"),
  (Jvm.Cond.castable "DatedContacts$Told" "DatedContacts$Window"),
  (Jvm.Cond.declares ({ cls := "DatedContacts$Window", name := "least", desc := "()I" } : Jvm.MethodName)),
  (Jvm.Cond.declares ({ cls := "DatedContacts$Window", name := "most", desc := "()I" } : Jvm.MethodName)),
  (Jvm.Cond.declares ({ cls := "DatedContacts$Window", name := "ahead", desc := "(I)I" } : Jvm.MethodName)),
  (Jvm.Cond.castable "DatedContacts$Has" "DatedContacts$Held"),
  (Jvm.Cond.declares ({ cls := "DatedContacts$Held", name := "contacts", desc := "()I" } : Jvm.MethodName)),
  (Jvm.Cond.declares ({ cls := "DatedContacts$Held", name := "ill", desc := "()I" } : Jvm.MethodName)),
  (Jvm.Cond.declares ({ cls := "java/lang/CharSequence", name := "length", desc := "()I" } : Jvm.MethodName)),
  (Jvm.Cond.declares ({ cls := "java/lang/CharSequence", name := "charAt", desc := "(I)C" } : Jvm.MethodName)),
  (Jvm.Cond.methodLinkNest "DatedContacts" (36 : Nat) ({ cls := "DatedContacts$Shelf", name := "<init>", desc := "()V" } : Jvm.MethodName) "DatedContacts"),
  (Jvm.Cond.fieldLinkNest "DatedContacts" (114 : Nat) "DatedContacts$Shelf" "held" "Ljava/lang/Object;" "DatedContacts"),
  (Jvm.Cond.methodLinkNest "DatedContacts" (66 : Nat) ({ cls := "DatedContacts$Walk", name := "<init>", desc := "()V" } : Jvm.MethodName) "DatedContacts"),
  (Jvm.Cond.methodLinkNest "DatedContacts" (73 : Nat) ({ cls := "DatedContacts$Chains", name := "<init>", desc := "()V" } : Jvm.MethodName) "DatedContacts"),
  (Jvm.Cond.methodLinkNest "DatedContacts" (87 : Nat) ({ cls := "DatedContacts$Trail", name := "<init>", desc := "()V" } : Jvm.MethodName) "DatedContacts"),
  (Jvm.Cond.fieldLinkNest "DatedContacts" (399 : Nat) "DatedContacts$Trail" "body" "[I" "DatedContacts"),
  (Jvm.Cond.fieldLinkNest "DatedContacts" (397 : Nat) "DatedContacts$Trail" "many" "I" "DatedContacts"),
  (Jvm.Cond.methodLinkNest "DatedContacts" (127 : Nat) ({ cls := "DatedContacts$Shelf", name := "put", desc := "(II)I" } : Jvm.MethodName) "DatedContacts"),
  (Jvm.Cond.methodLinkNest "DatedContacts" (145 : Nat) ({ cls := "DatedContacts$Shelf", name := "many", desc := "()I" } : Jvm.MethodName) "DatedContacts"),
  (Jvm.Cond.methodLinkNest "DatedContacts" (149 : Nat) ({ cls := "DatedContacts$Shelf", name := "at", desc := "(I)I" } : Jvm.MethodName) "DatedContacts"),
  (Jvm.Cond.declares ({ cls := "java/lang/Throwable", name := "fillInStackTrace", desc := "()Ljava/lang/Throwable;" } : Jvm.MethodName)),
  (Jvm.Cond.declares ({ cls := "java/lang/Throwable", name := "<init>", desc := "()V" } : Jvm.MethodName)),
  (Jvm.Cond.declares ({ cls := "java/lang/Throwable", name := "<init>", desc := "(Ljava/lang/String;)V" } : Jvm.MethodName)),
  (Jvm.Cond.declares ({ cls := "java/lang/Exception", name := "<init>", desc := "()V" } : Jvm.MethodName)),
  (Jvm.Cond.declares ({ cls := "java/lang/Exception", name := "<init>", desc := "(Ljava/lang/String;)V" } : Jvm.MethodName)),
  (Jvm.Cond.declares ({ cls := "java/lang/RuntimeException", name := "<init>", desc := "()V" } : Jvm.MethodName)),
  (Jvm.Cond.declares ({ cls := "java/lang/RuntimeException", name := "<init>", desc := "(Ljava/lang/String;)V" } : Jvm.MethodName)),
  (Jvm.Cond.castable "java/lang/RuntimeException" "java/lang/Throwable"),
  (Jvm.Cond.castable "java/lang/NegativeArraySizeException" "java/lang/NegativeArraySizeException"),
  (Jvm.Cond.castable "java/lang/String" "java/lang/CharSequence"),
  (Jvm.Cond.castable "java/lang/NullPointerException" "java/lang/NullPointerException"),
  (Jvm.Cond.declares ({ cls := "java/lang/IndexOutOfBoundsException", name := "<init>", desc := "()V" } : Jvm.MethodName)),
  (Jvm.Cond.declares ({ cls := "java/lang/IndexOutOfBoundsException", name := "<init>", desc := "(Ljava/lang/String;)V" } : Jvm.MethodName)),
  (Jvm.Cond.castable "java/lang/ArrayIndexOutOfBoundsException" "java/lang/ArrayIndexOutOfBoundsException"),
  (Jvm.Cond.castable "java/lang/ArrayIndexOutOfBoundsException" "java/lang/IndexOutOfBoundsException"),
  (Jvm.Cond.castable "java/lang/ArrayStoreException" "java/lang/ArrayStoreException"),
  (Jvm.Cond.castable "java/lang/StringBuilder" "java/lang/CharSequence"),
  (Jvm.Cond.castable "java/lang/ClassCastException" "java/lang/ClassCastException")]
theorem cl_nws_tbl : ∀ w ∈ cl_nws, w ∈ lw_tbl := List.forall_mem_cons.mpr ⟨q1159, List.forall_mem_cons.mpr ⟨q1224, List.forall_mem_cons.mpr ⟨q566, List.forall_mem_cons.mpr ⟨q925, List.forall_mem_cons.mpr ⟨q579, List.forall_mem_cons.mpr ⟨q1498, List.forall_mem_cons.mpr ⟨q1534, List.forall_mem_cons.mpr ⟨q1540, List.forall_mem_cons.mpr ⟨q1007, List.forall_mem_cons.mpr ⟨q1104, List.forall_mem_cons.mpr ⟨q1186, List.forall_mem_cons.mpr ⟨q1548, List.forall_mem_cons.mpr ⟨q2072, List.forall_mem_cons.mpr ⟨q1545, List.forall_mem_cons.mpr ⟨q2071, List.forall_mem_cons.mpr ⟨q2076, List.forall_mem_cons.mpr ⟨q1541, List.forall_mem_cons.mpr ⟨q2070, List.forall_mem_cons.mpr ⟨q2075, List.forall_mem_cons.mpr ⟨q1554, List.forall_mem_cons.mpr ⟨q2074, List.forall_mem_cons.mpr ⟨q1551, List.forall_mem_cons.mpr ⟨q2073, List.forall_mem_cons.mpr ⟨q2077, List.forall_mem_cons.mpr ⟨q1013, List.forall_mem_cons.mpr ⟨q1012, List.forall_mem_cons.mpr ⟨q1022, List.forall_mem_cons.mpr ⟨q1192, List.forall_mem_cons.mpr ⟨q1513, List.forall_mem_cons.mpr ⟨q1512, List.forall_mem_cons.mpr ⟨q1560, List.forall_mem_cons.mpr ⟨q1289, List.forall_mem_cons.mpr ⟨q1301, List.forall_mem_cons.mpr ⟨q131, List.forall_mem_cons.mpr ⟨q136, List.forall_mem_cons.mpr ⟨q210, List.forall_mem_cons.mpr ⟨q221, List.forall_mem_cons.mpr ⟨q255, List.forall_mem_cons.mpr ⟨q260, List.forall_mem_cons.mpr ⟨q262, List.forall_mem_cons.mpr ⟨q468, List.forall_mem_cons.mpr ⟨q505, List.forall_mem_cons.mpr ⟨q1389, List.forall_mem_cons.mpr ⟨q348, List.forall_mem_cons.mpr ⟨q381, List.forall_mem_cons.mpr ⟨q382, List.forall_mem_cons.mpr ⟨q379, List.forall_mem_cons.mpr ⟨q380, List.forall_mem_cons.mpr ⟨q377, List.forall_mem_cons.mpr ⟨q378, List.forall_mem_cons.mpr ⟨q448, List.forall_mem_cons.mpr ⟨q376, List.forall_mem_cons.mpr ⟨q1290, List.forall_mem_cons.mpr ⟨q446, List.forall_mem_cons.mpr ⟨q465, List.forall_mem_cons.mpr ⟨q466, List.forall_mem_cons.mpr ⟨q464, List.forall_mem_cons.mpr ⟨q2069, List.forall_mem_cons.mpr ⟨q495, List.forall_mem_cons.mpr ⟨q1294, List.forall_mem_cons.mpr ⟨q1464, fun _ h => absurd h List.not_mem_nil⟩⟩⟩⟩⟩⟩⟩⟩⟩⟩⟩⟩⟩⟩⟩⟩⟩⟩⟩⟩⟩⟩⟩⟩⟩⟩⟩⟩⟩⟩⟩⟩⟩⟩⟩⟩⟩⟩⟩⟩⟩⟩⟩⟩⟩⟩⟩⟩⟩⟩⟩⟩⟩⟩⟩⟩⟩⟩⟩⟩⟩
theorem cn_q1159 : (Jvm.Cond.methodLinkNest "DatedContacts$Walk" (34 : Nat) ({ cls := "DatedContacts", name := "has", desc := "(II)Z" } : Jvm.MethodName) "DatedContacts") ∈ cl_nws := List.mem_of_getElem? (i := 0) rfl
theorem cn_q1224 : (Jvm.Cond.methodLinkNest "DatedContacts$Chains" (30 : Nat) ({ cls := "DatedContacts", name := "has", desc := "(II)Z" } : Jvm.MethodName) "DatedContacts") ∈ cl_nws := List.mem_of_getElem? (i := 1) rfl
theorem cn_q566 : (Jvm.Cond.methodLinkNest "DatedContacts$Reader" (44 : Nat) ({ cls := "DatedContacts", name := "isIn", desc := "(JJJ)Z" } : Jvm.MethodName) "DatedContacts") ∈ cl_nws := List.mem_of_getElem? (i := 2) rfl
theorem cn_q925 : (Jvm.Cond.methodLinkNest "DatedContacts$Reader" (125 : Nat) ({ cls := "DatedContacts", name := "personBy", desc := "(II)LDatedContacts$Person;" } : Jvm.MethodName) "DatedContacts") ∈ cl_nws := List.mem_of_getElem? (i := 3) rfl
theorem cn_q579 : (Jvm.Cond.castable "DatedContacts$Fault" "DatedContacts$Fault") ∈ cl_nws := List.mem_of_getElem? (i := 4) rfl
theorem cn_q1498 : (Jvm.Cond.declares ({ cls := "DatedContacts$Marked", name := "size", desc := "(LDatedContacts$Trail;LDatedContacts$Held;)I" } : Jvm.MethodName)) ∈ cl_nws := List.mem_of_getElem? (i := 5) rfl
theorem cn_q1534 : (Jvm.Cond.declares ({ cls := "DatedContacts$Marked", name := "mark", desc := "(LDatedContacts$Trail;LDatedContacts$Held;)I" } : Jvm.MethodName)) ∈ cl_nws := List.mem_of_getElem? (i := 6) rfl
theorem cn_q1540 : (Jvm.Cond.declares ({ cls := "DatedContacts$Marked", name := "number", desc := "()I" } : Jvm.MethodName)) ∈ cl_nws := List.mem_of_getElem? (i := 7) rfl
theorem cn_q1007 : (Jvm.Cond.declares ({ cls := "DatedContacts$Person", name := "window", desc := "(LDatedContacts$Window;)LDatedContacts$Window;" } : Jvm.MethodName)) ∈ cl_nws := List.mem_of_getElem? (i := 8) rfl
theorem cn_q1104 : (Jvm.Cond.declares ({ cls := "DatedContacts$Person", name := "kind", desc := "()I" } : Jvm.MethodName)) ∈ cl_nws := List.mem_of_getElem? (i := 9) rfl
theorem cn_q1186 : (Jvm.Cond.declares ({ cls := "DatedContacts$Person", name := "catches", desc := "()Z" } : Jvm.MethodName)) ∈ cl_nws := List.mem_of_getElem? (i := 10) rfl
theorem cn_q1548 : (Jvm.Cond.castable "DatedContacts$Open" "DatedContacts$Marked") ∈ cl_nws := List.mem_of_getElem? (i := 11) rfl
theorem cn_q2072 : (Jvm.Cond.castable "DatedContacts$Open" "DatedContacts$Person") ∈ cl_nws := List.mem_of_getElem? (i := 12) rfl
theorem cn_q1545 : (Jvm.Cond.castable "DatedContacts$Late" "DatedContacts$Marked") ∈ cl_nws := List.mem_of_getElem? (i := 13) rfl
theorem cn_q2071 : (Jvm.Cond.castable "DatedContacts$Late" "DatedContacts$Person") ∈ cl_nws := List.mem_of_getElem? (i := 14) rfl
theorem cn_q2076 : (Jvm.Cond.castable "DatedContacts$Late" "DatedContacts$Open") ∈ cl_nws := List.mem_of_getElem? (i := 15) rfl
theorem cn_q1541 : (Jvm.Cond.castable "DatedContacts$Brief" "DatedContacts$Marked") ∈ cl_nws := List.mem_of_getElem? (i := 16) rfl
theorem cn_q2070 : (Jvm.Cond.castable "DatedContacts$Brief" "DatedContacts$Person") ∈ cl_nws := List.mem_of_getElem? (i := 17) rfl
theorem cn_q2075 : (Jvm.Cond.castable "DatedContacts$Brief" "DatedContacts$Open") ∈ cl_nws := List.mem_of_getElem? (i := 18) rfl
theorem cn_q1554 : (Jvm.Cond.castable "DatedContacts$Ward" "DatedContacts$Marked") ∈ cl_nws := List.mem_of_getElem? (i := 19) rfl
theorem cn_q2074 : (Jvm.Cond.castable "DatedContacts$Ward" "DatedContacts$Person") ∈ cl_nws := List.mem_of_getElem? (i := 20) rfl
theorem cn_q1551 : (Jvm.Cond.castable "DatedContacts$Safe" "DatedContacts$Marked") ∈ cl_nws := List.mem_of_getElem? (i := 21) rfl
theorem cn_q2073 : (Jvm.Cond.castable "DatedContacts$Safe" "DatedContacts$Person") ∈ cl_nws := List.mem_of_getElem? (i := 22) rfl
theorem cn_q2077 : (Jvm.Cond.castable "DatedContacts$Safe" "DatedContacts$Ward") ∈ cl_nws := List.mem_of_getElem? (i := 23) rfl
theorem cn_q1013 : (Jvm.Cond.castable "DatedContacts$Told" "DatedContacts$Window") ∈ cl_nws := List.mem_of_getElem? (i := 24) rfl
theorem cn_q1012 : (Jvm.Cond.declares ({ cls := "DatedContacts$Window", name := "least", desc := "()I" } : Jvm.MethodName)) ∈ cl_nws := List.mem_of_getElem? (i := 25) rfl
theorem cn_q1022 : (Jvm.Cond.declares ({ cls := "DatedContacts$Window", name := "most", desc := "()I" } : Jvm.MethodName)) ∈ cl_nws := List.mem_of_getElem? (i := 26) rfl
theorem cn_q1192 : (Jvm.Cond.declares ({ cls := "DatedContacts$Window", name := "ahead", desc := "(I)I" } : Jvm.MethodName)) ∈ cl_nws := List.mem_of_getElem? (i := 27) rfl
theorem cn_q1513 : (Jvm.Cond.castable "DatedContacts$Has" "DatedContacts$Held") ∈ cl_nws := List.mem_of_getElem? (i := 28) rfl
theorem cn_q1512 : (Jvm.Cond.declares ({ cls := "DatedContacts$Held", name := "contacts", desc := "()I" } : Jvm.MethodName)) ∈ cl_nws := List.mem_of_getElem? (i := 29) rfl
theorem cn_q1560 : (Jvm.Cond.declares ({ cls := "DatedContacts$Held", name := "ill", desc := "()I" } : Jvm.MethodName)) ∈ cl_nws := List.mem_of_getElem? (i := 30) rfl
theorem cn_q1289 : (Jvm.Cond.declares ({ cls := "java/lang/CharSequence", name := "length", desc := "()I" } : Jvm.MethodName)) ∈ cl_nws := List.mem_of_getElem? (i := 31) rfl
theorem cn_q1301 : (Jvm.Cond.declares ({ cls := "java/lang/CharSequence", name := "charAt", desc := "(I)C" } : Jvm.MethodName)) ∈ cl_nws := List.mem_of_getElem? (i := 32) rfl
theorem cn_q131 : (Jvm.Cond.methodLinkNest "DatedContacts" (36 : Nat) ({ cls := "DatedContacts$Shelf", name := "<init>", desc := "()V" } : Jvm.MethodName) "DatedContacts") ∈ cl_nws := List.mem_of_getElem? (i := 33) rfl
theorem cn_q136 : (Jvm.Cond.fieldLinkNest "DatedContacts" (114 : Nat) "DatedContacts$Shelf" "held" "Ljava/lang/Object;" "DatedContacts") ∈ cl_nws := List.mem_of_getElem? (i := 34) rfl
theorem cn_q210 : (Jvm.Cond.methodLinkNest "DatedContacts" (66 : Nat) ({ cls := "DatedContacts$Walk", name := "<init>", desc := "()V" } : Jvm.MethodName) "DatedContacts") ∈ cl_nws := List.mem_of_getElem? (i := 35) rfl
theorem cn_q221 : (Jvm.Cond.methodLinkNest "DatedContacts" (73 : Nat) ({ cls := "DatedContacts$Chains", name := "<init>", desc := "()V" } : Jvm.MethodName) "DatedContacts") ∈ cl_nws := List.mem_of_getElem? (i := 36) rfl
theorem cn_q255 : (Jvm.Cond.methodLinkNest "DatedContacts" (87 : Nat) ({ cls := "DatedContacts$Trail", name := "<init>", desc := "()V" } : Jvm.MethodName) "DatedContacts") ∈ cl_nws := List.mem_of_getElem? (i := 37) rfl
theorem cn_q260 : (Jvm.Cond.fieldLinkNest "DatedContacts" (399 : Nat) "DatedContacts$Trail" "body" "[I" "DatedContacts") ∈ cl_nws := List.mem_of_getElem? (i := 38) rfl
theorem cn_q262 : (Jvm.Cond.fieldLinkNest "DatedContacts" (397 : Nat) "DatedContacts$Trail" "many" "I" "DatedContacts") ∈ cl_nws := List.mem_of_getElem? (i := 39) rfl
theorem cn_q468 : (Jvm.Cond.methodLinkNest "DatedContacts" (127 : Nat) ({ cls := "DatedContacts$Shelf", name := "put", desc := "(II)I" } : Jvm.MethodName) "DatedContacts") ∈ cl_nws := List.mem_of_getElem? (i := 40) rfl
theorem cn_q505 : (Jvm.Cond.methodLinkNest "DatedContacts" (145 : Nat) ({ cls := "DatedContacts$Shelf", name := "many", desc := "()I" } : Jvm.MethodName) "DatedContacts") ∈ cl_nws := List.mem_of_getElem? (i := 41) rfl
theorem cn_q1389 : (Jvm.Cond.methodLinkNest "DatedContacts" (149 : Nat) ({ cls := "DatedContacts$Shelf", name := "at", desc := "(I)I" } : Jvm.MethodName) "DatedContacts") ∈ cl_nws := List.mem_of_getElem? (i := 42) rfl
theorem cn_q348 : (Jvm.Cond.declares ({ cls := "java/lang/Throwable", name := "fillInStackTrace", desc := "()Ljava/lang/Throwable;" } : Jvm.MethodName)) ∈ cl_nws := List.mem_of_getElem? (i := 43) rfl
theorem cn_q381 : (Jvm.Cond.declares ({ cls := "java/lang/Throwable", name := "<init>", desc := "()V" } : Jvm.MethodName)) ∈ cl_nws := List.mem_of_getElem? (i := 44) rfl
theorem cn_q382 : (Jvm.Cond.declares ({ cls := "java/lang/Throwable", name := "<init>", desc := "(Ljava/lang/String;)V" } : Jvm.MethodName)) ∈ cl_nws := List.mem_of_getElem? (i := 45) rfl
theorem cn_q379 : (Jvm.Cond.declares ({ cls := "java/lang/Exception", name := "<init>", desc := "()V" } : Jvm.MethodName)) ∈ cl_nws := List.mem_of_getElem? (i := 46) rfl
theorem cn_q380 : (Jvm.Cond.declares ({ cls := "java/lang/Exception", name := "<init>", desc := "(Ljava/lang/String;)V" } : Jvm.MethodName)) ∈ cl_nws := List.mem_of_getElem? (i := 47) rfl
theorem cn_q377 : (Jvm.Cond.declares ({ cls := "java/lang/RuntimeException", name := "<init>", desc := "()V" } : Jvm.MethodName)) ∈ cl_nws := List.mem_of_getElem? (i := 48) rfl
theorem cn_q378 : (Jvm.Cond.declares ({ cls := "java/lang/RuntimeException", name := "<init>", desc := "(Ljava/lang/String;)V" } : Jvm.MethodName)) ∈ cl_nws := List.mem_of_getElem? (i := 49) rfl
theorem cn_q448 : (Jvm.Cond.castable "java/lang/RuntimeException" "java/lang/Throwable") ∈ cl_nws := List.mem_of_getElem? (i := 50) rfl
theorem cn_q376 : (Jvm.Cond.castable "java/lang/NegativeArraySizeException" "java/lang/NegativeArraySizeException") ∈ cl_nws := List.mem_of_getElem? (i := 51) rfl
theorem cn_q1290 : (Jvm.Cond.castable "java/lang/String" "java/lang/CharSequence") ∈ cl_nws := List.mem_of_getElem? (i := 52) rfl
theorem cn_q446 : (Jvm.Cond.castable "java/lang/NullPointerException" "java/lang/NullPointerException") ∈ cl_nws := List.mem_of_getElem? (i := 53) rfl
theorem cn_q465 : (Jvm.Cond.declares ({ cls := "java/lang/IndexOutOfBoundsException", name := "<init>", desc := "()V" } : Jvm.MethodName)) ∈ cl_nws := List.mem_of_getElem? (i := 54) rfl
theorem cn_q466 : (Jvm.Cond.declares ({ cls := "java/lang/IndexOutOfBoundsException", name := "<init>", desc := "(Ljava/lang/String;)V" } : Jvm.MethodName)) ∈ cl_nws := List.mem_of_getElem? (i := 55) rfl
theorem cn_q464 : (Jvm.Cond.castable "java/lang/ArrayIndexOutOfBoundsException" "java/lang/ArrayIndexOutOfBoundsException") ∈ cl_nws := List.mem_of_getElem? (i := 56) rfl
theorem cn_q2069 : (Jvm.Cond.castable "java/lang/ArrayIndexOutOfBoundsException" "java/lang/IndexOutOfBoundsException") ∈ cl_nws := List.mem_of_getElem? (i := 57) rfl
theorem cn_q495 : (Jvm.Cond.castable "java/lang/ArrayStoreException" "java/lang/ArrayStoreException") ∈ cl_nws := List.mem_of_getElem? (i := 58) rfl
theorem cn_q1294 : (Jvm.Cond.castable "java/lang/StringBuilder" "java/lang/CharSequence") ∈ cl_nws := List.mem_of_getElem? (i := 59) rfl
theorem cn_q1464 : (Jvm.Cond.castable "java/lang/ClassCastException" "java/lang/ClassCastException") ∈ cl_nws := List.mem_of_getElem? (i := 60) rfl
def cl_fws : List (String × MethodName × MethodName) := [("DatedContacts$Told", ⟨"DatedContacts$Window", "least", "()I"⟩, ⟨"DatedContacts$Told", "least", "()I"⟩), ("DatedContacts$Told", ⟨"DatedContacts$Window", "most", "()I"⟩, ⟨"DatedContacts$Told", "most", "()I"⟩), ("DatedContacts$Told", ⟨"DatedContacts$Window", "ahead", "(I)I"⟩, ⟨"DatedContacts$Window", "ahead", "(I)I"⟩), ("DatedContacts$Has", ⟨"DatedContacts$Held", "contacts", "()I"⟩, ⟨"DatedContacts$Has", "contacts", "()I"⟩), ("DatedContacts$Has", ⟨"DatedContacts$Held", "ill", "()I"⟩, ⟨"DatedContacts$Has", "ill", "()I"⟩), ("java/lang/StringBuilder", ⟨"java/lang/CharSequence", "length", "()I"⟩, ⟨"java/lang/StringBuilder", "length", "()I"⟩), ("java/lang/StringBuilder", ⟨"java/lang/CharSequence", "charAt", "(I)C"⟩, ⟨"java/lang/StringBuilder", "charAt", "(I)C"⟩), ("DatedContacts$Open", ⟨"DatedContacts$Marked", "number", "()I"⟩, ⟨"DatedContacts$Person", "number", "()I"⟩), ("DatedContacts$Late", ⟨"DatedContacts$Marked", "number", "()I"⟩, ⟨"DatedContacts$Person", "number", "()I"⟩), ("DatedContacts$Brief", ⟨"DatedContacts$Marked", "number", "()I"⟩, ⟨"DatedContacts$Person", "number", "()I"⟩), ("DatedContacts$Ward", ⟨"DatedContacts$Marked", "number", "()I"⟩, ⟨"DatedContacts$Person", "number", "()I"⟩), ("DatedContacts$Safe", ⟨"DatedContacts$Marked", "number", "()I"⟩, ⟨"DatedContacts$Person", "number", "()I"⟩)]
theorem cl_fws_of {A : Array Value} {s : State} (ht : ∀ w ∈ lw_tbl, w.before A s = true) : ∀ t ∈ cl_fws, va_Fw t.1 t.2.1 t.2.2 s := List.forall_mem_cons.mpr ⟨va_Fw.of (ht _ q1012) (ht _ q1011) (ht _ q1017) (ht _ q1015) (ht _ q1013), List.forall_mem_cons.mpr ⟨va_Fw.of (ht _ q1022) (ht _ q1021) (ht _ q1026) (ht _ q1024) (ht _ q1013), List.forall_mem_cons.mpr ⟨va_Fw.of (ht _ q1192) (ht _ q1191) (ht _ q1195) (ht _ q1193) (ht _ q1013), List.forall_mem_cons.mpr ⟨va_Fw.of (ht _ q1512) (ht _ q1511) (ht _ q1517) (ht _ q1515) (ht _ q1513), List.forall_mem_cons.mpr ⟨va_Fw.of (ht _ q1560) (ht _ q1559) (ht _ q1564) (ht _ q1562) (ht _ q1513), List.forall_mem_cons.mpr ⟨va_Fw.of (ht _ q1289) (ht _ q1288) (ht _ q1297) (ht _ q1296) (ht _ q1294), List.forall_mem_cons.mpr ⟨va_Fw.of (ht _ q1301) (ht _ q1300) (ht _ q1317) (ht _ q1315) (ht _ q1294), List.forall_mem_cons.mpr ⟨va_Fw.of (ht _ q1540) (ht _ q1539) (ht _ q1544) (ht _ q1550) (ht _ q1548), List.forall_mem_cons.mpr ⟨va_Fw.of (ht _ q1540) (ht _ q1539) (ht _ q1544) (ht _ q1547) (ht _ q1545), List.forall_mem_cons.mpr ⟨va_Fw.of (ht _ q1540) (ht _ q1539) (ht _ q1544) (ht _ q1543) (ht _ q1541), List.forall_mem_cons.mpr ⟨va_Fw.of (ht _ q1540) (ht _ q1539) (ht _ q1544) (ht _ q1556) (ht _ q1554), List.forall_mem_cons.mpr ⟨va_Fw.of (ht _ q1540) (ht _ q1539) (ht _ q1544) (ht _ q1553) (ht _ q1551), fun _ h => absurd h List.not_mem_nil⟩⟩⟩⟩⟩⟩⟩⟩⟩⟩⟩⟩
theorem cf_Told_least : ("DatedContacts$Told", ⟨"DatedContacts$Window", "least", "()I"⟩, ⟨"DatedContacts$Told", "least", "()I"⟩) ∈ cl_fws := List.mem_of_getElem? (i := 0) rfl
theorem cf_Told_most : ("DatedContacts$Told", ⟨"DatedContacts$Window", "most", "()I"⟩, ⟨"DatedContacts$Told", "most", "()I"⟩) ∈ cl_fws := List.mem_of_getElem? (i := 1) rfl
theorem cf_Told_ahead : ("DatedContacts$Told", ⟨"DatedContacts$Window", "ahead", "(I)I"⟩, ⟨"DatedContacts$Window", "ahead", "(I)I"⟩) ∈ cl_fws := List.mem_of_getElem? (i := 2) rfl
theorem cf_Has_contacts : ("DatedContacts$Has", ⟨"DatedContacts$Held", "contacts", "()I"⟩, ⟨"DatedContacts$Has", "contacts", "()I"⟩) ∈ cl_fws := List.mem_of_getElem? (i := 3) rfl
theorem cf_Has_ill : ("DatedContacts$Has", ⟨"DatedContacts$Held", "ill", "()I"⟩, ⟨"DatedContacts$Has", "ill", "()I"⟩) ∈ cl_fws := List.mem_of_getElem? (i := 4) rfl
theorem cf_StringBuilder_length : ("java/lang/StringBuilder", ⟨"java/lang/CharSequence", "length", "()I"⟩, ⟨"java/lang/StringBuilder", "length", "()I"⟩) ∈ cl_fws := List.mem_of_getElem? (i := 5) rfl
theorem cf_StringBuilder_charAt : ("java/lang/StringBuilder", ⟨"java/lang/CharSequence", "charAt", "(I)C"⟩, ⟨"java/lang/StringBuilder", "charAt", "(I)C"⟩) ∈ cl_fws := List.mem_of_getElem? (i := 6) rfl
theorem cf_Open_number : ("DatedContacts$Open", ⟨"DatedContacts$Marked", "number", "()I"⟩, ⟨"DatedContacts$Person", "number", "()I"⟩) ∈ cl_fws := List.mem_of_getElem? (i := 7) rfl
theorem cf_Late_number : ("DatedContacts$Late", ⟨"DatedContacts$Marked", "number", "()I"⟩, ⟨"DatedContacts$Person", "number", "()I"⟩) ∈ cl_fws := List.mem_of_getElem? (i := 8) rfl
theorem cf_Brief_number : ("DatedContacts$Brief", ⟨"DatedContacts$Marked", "number", "()I"⟩, ⟨"DatedContacts$Person", "number", "()I"⟩) ∈ cl_fws := List.mem_of_getElem? (i := 9) rfl
theorem cf_Ward_number : ("DatedContacts$Ward", ⟨"DatedContacts$Marked", "number", "()I"⟩, ⟨"DatedContacts$Person", "number", "()I"⟩) ∈ cl_fws := List.mem_of_getElem? (i := 10) rfl
theorem cf_Safe_number : ("DatedContacts$Safe", ⟨"DatedContacts$Marked", "number", "()I"⟩, ⟨"DatedContacts$Person", "number", "()I"⟩) ∈ cl_fws := List.mem_of_getElem? (i := 11) rfl
theorem cl_fws_mh : ∀ t ∈ cl_fws, t.2.1.cls ≠ "java/lang/invoke/MethodHandle" ∧ t.2.1.cls ≠ "java/lang/invoke/VarHandle" := by decide +kernel
/-- for an object of class C a call that names x goes to y (whatever y's class is) -/
def cl_sel (C : String) (x y : MethodName) (s : State) : Prop := ∃ c r m, s.vm.findClass C = some c ∧ s.methodNamed? x = some r ∧ s.methodNamed? y = some m ∧ selectMethod {} s.vm c r = .method m
theorem cl_sel.moved {C : String} {x y : MethodName} {s U : State} (h : s.vm.Alike U.vm) (hs : cl_sel C x y s) : cl_sel C x y U := by
  obtain ⟨c, r, m, h1, h2, h3, h4⟩ := hs
  have e1 : ∀ z : MethodName, U.methodNamed? z = s.methodNamed? z := fun z => State.methodNamed?_setVm (s := s) h z
  exact ⟨c, r, m, by rw [h.findClass]; exact h1, by rw [e1]; exact h2, by rw [e1]; exact h3, by rw [h.selectMethod]; exact h4⟩
def cl_okw (w : Cond) : Bool := match w with
  | .methodLinkNest .. => true
  | .fieldLinkNest .. => true
  | .castable .. => true
  | .declares .. => true
  | _ => false
theorem cl_okw_tbl {w : Cond} (h : cl_okw w = true) : w.onTables = true := by
  cases w <;> first | rfl | (cases h; done)
theorem cl_okw_warm {w : Cond} (h : cl_okw w = true) {s U : State} (hW : s.WarmedH U.vm) (hZ : va_Nw w s) : va_Nw w U := by
  cases w with
  | methodLinkNest a i x h => exact va_Nw.warmM hW hZ
  | fieldLinkNest a i b n d h => exact va_Nw.warmF hW hZ
  | castable a b => exact va_Nw.warmC hW hZ
  | declares x => exact va_Nw.warmD hW hZ
  | _ => cases h
theorem cl_nws_ok : ∀ w ∈ cl_nws, cl_okw w = true := by decide +kernel
/-- the constants in a heap: b1 says where they lie -/
def cl_CF (b1 : Nat → Nat) (A : Nat → Prop) (s : State) (H : Heap) : Prop :=
  (∀ i, 1 ≤ i → i ≤ 8 → va_O "java/lang/String" (b1 i) A s H ∧ va_OF "java/lang/String" "coder" "B" (.int 0) (b1 i) A s H ∧ va_OF "java/lang/String" "value" "[B" (.ref (b1 (i + 8))) (b1 i) A s H) ∧
  (∀ i, 9 ≤ i → i ≤ 18 → va_T .byte (b1 i) (cl_c0l i) (fun j => .int (cl_c0i i j)) A s H)
def cl_ST (b1 : Nat → Nat) (A : Nat → Prop) (s : State) (H : Heap) : Prop :=
  va_Z "java/lang/String" "COMPACT_STRINGS" "Z" (.int 1) A s H ∧ va_Z "java/lang/Integer" "DigitOnes" "[B" (.ref (b1 17)) A s H ∧ va_Z "java/lang/Integer" "DigitTens" "[B" (.ref (b1 18)) A s H ∧
  vx_Zq Bundle.tN "UNASSIGNED_STACK" Bundle.steD A s H ∧ vx_Zq Bundle.tN "SUPPRESSED_SENTINEL" Bundle.listD A s H ∧ va_Zq "jdk/internal/util/Preconditions" "SIOOBE_FORMATTER" "Ljava/util/function/BiFunction;" A s H
def cl_SR (b1 : Nat → Nat) (s : State) : Prop :=
  vk_R "DatedContacts$Chains" 67 "" (b1 1) s ∧ vk_R "DatedContacts$Reader" 100 "" (b1 1) s ∧ vk_R "DatedContacts$Chains" 89 "@" (b1 2) s ∧ vk_R "DatedContacts$Chains" 91 ":" (b1 3) s ∧
  vk_R "DatedContacts$Marked" 25 "o" (b1 4) s ∧ vk_R "DatedContacts$Marked" 31 "l" (b1 5) s ∧ vk_R "DatedContacts$Marked" 33 "h" (b1 6) s ∧ vk_R "DatedContacts$Marked" 35 "d" (b1 7) s ∧ vk_R "DatedContacts$Marked" 37 "s" (b1 8) s
/-- words of the defaults' linking, and of AbstractStringBuilder's private methods, of a StringBuilder -/
def cl_pws : List Cond := [(Cond.selects "java/lang/StringBuilder" ⟨"java/lang/AbstractStringBuilder", "ensureCapacityInternal", "(I)V"⟩ ⟨"java/lang/AbstractStringBuilder", "ensureCapacityInternal", "(I)V"⟩), (Cond.selects "java/lang/StringBuilder" ⟨"java/lang/AbstractStringBuilder", "newCapacity", "(I)I"⟩ ⟨"java/lang/AbstractStringBuilder", "newCapacity", "(I)I"⟩), (Cond.selects "java/lang/StringBuilder" ⟨"java/lang/AbstractStringBuilder", "putStringAt", "(ILjava/lang/String;)V"⟩ ⟨"java/lang/AbstractStringBuilder", "putStringAt", "(ILjava/lang/String;)V"⟩), (Cond.selects "java/lang/StringBuilder" ⟨"java/lang/AbstractStringBuilder", "inflateIfNeededFor", "(Ljava/lang/String;)V"⟩ ⟨"java/lang/AbstractStringBuilder", "inflateIfNeededFor", "(Ljava/lang/String;)V"⟩)]
def cl_dws : List Cond := defaultWords_1 ++ cl_pws
theorem cl_dws_ok : ∀ w ∈ cl_dws, goodWord w = true ∧ w.onTables = true := by decide +kernel
/-- super.size, super.mark right below Person run Marked's own -/
def cl_lsp (n d : String) (s : State) : Prop := ∃ c m, s.vm.findClass RX10 = some c ∧ s.methodNamed? ⟨RX9, n, d⟩ = some m ∧ lookupSpecial s.vm c n d = .method m
theorem cl_lsp.moved {n d : String} {s U : State} (h : s.vm.Alike U.vm) (hs : cl_lsp n d s) : cl_lsp n d U := by
  obtain ⟨c, m, h1, h2, h3⟩ := hs
  have e1 : ∀ z : MethodName, U.methodNamed? z = s.methodNamed? z := fun z => State.methodNamed?_setVm (s := s) h z
  exact ⟨c, m, by rw [h.findClass]; exact h1, by rw [e1]; exact h2, by rw [h.lookupSpecial]; exact h3⟩
theorem cl_mod_moved {s U : State} (h : s.vm.Alike U.vm) (hs : modulesRight_1 s = true) : modulesRight_1 U = true := by
  have e : U.vm.modules = s.vm.modules := by rw [h.1]
  unfold modulesRight_1
  rw [e]
  exact hs
/-- pairs of classes that are not castable -/
def cl_ncs : List (String × String) := [("[S", "[B"), ("[I", "[B"), ("[I", "[S"), ("java/lang/ArrayIndexOutOfBoundsException", "java/lang/NullPointerException"), ("java/lang/ArrayStoreException", "java/lang/NullPointerException"), ("java/lang/ArrayIndexOutOfBoundsException", "java/lang/ArrayStoreException"), ("DatedContacts$Open", "DatedContacts$Late"), ("DatedContacts$Open", "DatedContacts$Brief"), ("DatedContacts$Open", "DatedContacts$Ward"), ("DatedContacts$Open", "DatedContacts$Safe"), ("DatedContacts$Late", "DatedContacts$Brief"), ("DatedContacts$Late", "DatedContacts$Ward"), ("DatedContacts$Late", "DatedContacts$Safe"), ("DatedContacts$Brief", "DatedContacts$Late"), ("DatedContacts$Brief", "DatedContacts$Ward"), ("DatedContacts$Brief", "DatedContacts$Safe"), ("DatedContacts$Ward", "DatedContacts$Open"), ("DatedContacts$Ward", "DatedContacts$Late"), ("DatedContacts$Ward", "DatedContacts$Brief"), ("DatedContacts$Ward", "DatedContacts$Safe"), ("DatedContacts$Safe", "DatedContacts$Open"), ("DatedContacts$Safe", "DatedContacts$Late"), ("DatedContacts$Safe", "DatedContacts$Brief")]
def cl_DF (s : State) : Prop := (∀ w ∈ cl_dws, va_Nw w s) ∧ cl_sel RX16 ⟨RX17, "ahead", "(I)I"⟩ ⟨RX17, "ahead", "(I)I"⟩ s ∧ (∀ t ∈ cl_ncs, va_Nc t.1 t.2 s) ∧ modulesRight_1 s = true ∧ cl_lsp "size" "(LDatedContacts$Trail;LDatedContacts$Held;)I" s ∧ cl_lsp "mark" "(LDatedContacts$Trail;LDatedContacts$Held;)I" s
theorem cl_DF.warm {s U : State} (hW : s.WarmedH U.vm) (h : cl_DF s) : cl_DF U := ⟨fun w hw => va_Nw.of (cl_dws_ok w hw).2 (word_at (args := #[]) (a' := #[]) hW (good_of_word (cl_dws_ok w hw).1) (va_Nw.use (A := #[]) (cl_dws_ok w hw).2 (h.1 w hw))), h.2.1.moved hW.alike, fun t ht => (h.2.2.1 t ht).moved hW.alike, cl_mod_moved hW.alike h.2.2.2.1, h.2.2.2.2.1.moved hW.alike, h.2.2.2.2.2.moved hW.alike⟩
theorem cl_DF.same {s U : State} (he : s.vm = U.vm) (h : cl_DF s) : cl_DF U := ⟨fun w hw => va_Nw.same (cl_dws_ok w hw).2 he (h.1 w hw), h.2.1.moved (by rw [he]; exact Vm.Alike.refl U.vm), fun t ht => (h.2.2.1 t ht).moved (by rw [he]; exact Vm.Alike.refl U.vm), cl_mod_moved (by rw [he]; exact Vm.Alike.refl U.vm) h.2.2.2.1, h.2.2.2.2.1.moved (by rw [he]; exact Vm.Alike.refl U.vm), h.2.2.2.2.2.moved (by rw [he]; exact Vm.Alike.refl U.vm)⟩
/-- the tables' part -/
def cl_N0 (s : State) : Prop := (∀ w ∈ cl_nws, va_Nw w s) ∧ (∀ t ∈ cl_fws, va_Fw t.1 t.2.1 t.2.2 s) ∧ va_AO RX1 s ∧ va_AO RX10 s ∧ va_AO RX17 s ∧ va_AO RX2 s ∧ cl_DF s
theorem cl_N0.of {A : Array Value} {s : State} (ht : ∀ w ∈ lw_tbl, w.before A s = true) (hsel : cl_DF s) : cl_N0 s := ⟨fun w h => va_Nw.of (cl_okw_tbl (cl_nws_ok w h)) (ht _ (cl_nws_tbl w h)), cl_fws_of ht, va_AO.of (ht _ q129), va_AO.of (ht _ q147), va_AO.of (ht _ q149), va_AO.of (ht _ q252), hsel⟩
theorem cl_N0.warm {s U : State} (hW : s.WarmedH U.vm) (h : cl_N0 s) : cl_N0 U := ⟨fun w hw => cl_okw_warm (cl_nws_ok w hw) hW (h.1 w hw), fun t ht => va_Fw.moved (cl_fws_mh t ht) hW.alike (h.2.1 t ht), h.2.2.1.moved hW.alike, h.2.2.2.1.moved hW.alike, h.2.2.2.2.1.moved hW.alike, h.2.2.2.2.2.1.moved hW.alike, h.2.2.2.2.2.2.warm hW⟩
theorem cl_N0.same {s U : State} (he : s.vm = U.vm) (h : cl_N0 s) : cl_N0 U := ⟨fun w hw => va_Nw.same (cl_okw_tbl (cl_nws_ok w hw)) he (h.1 w hw), fun t ht => va_Fw.moved (cl_fws_mh t ht) (by rw [he]; exact Vm.Alike.refl U.vm) (h.2.1 t ht), h.2.2.1.moved (by rw [he]; exact Vm.Alike.refl U.vm), h.2.2.2.1.moved (by rw [he]; exact Vm.Alike.refl U.vm), h.2.2.2.2.1.moved (by rw [he]; exact Vm.Alike.refl U.vm), h.2.2.2.2.2.1.moved (by rw [he]; exact Vm.Alike.refl U.vm), h.2.2.2.2.2.2.same he⟩
theorem cl_CF.moved {b1 : Nat → Nat} {A : Nat → Prop} {s U : State} {H : Heap} (hvm : s.vm.Alike U.vm) (h : cl_CF b1 A s H) : cl_CF b1 A U H := ⟨fun i h1 h2 => ⟨va_O.moved hvm (h.1 i h1 h2).1, va_OF.moved hvm (h.1 i h1 h2).2.1, va_OF.moved hvm (h.1 i h1 h2).2.2⟩, fun i h1 h2 => va_T.moved hvm (h.2 i h1 h2)⟩
theorem cl_CF.kept {b1 : Nat → Nat} {A : Nat → Prop} {s : State} {H H1 : Heap} (h : cl_CF b1 A s H) (hq : ∀ a : Nat, a < H.size → ¬ A a → H1[a]? = H[a]?) : cl_CF b1 A s H1 := ⟨fun i h1 h2 => ⟨(h.1 i h1 h2).1.kept hq, (h.1 i h1 h2).2.1.kept hq, (h.1 i h1 h2).2.2.kept hq⟩, fun i h1 h2 => (h.2 i h1 h2).kept hq⟩
theorem cl_CF.ad {b1 b2 : Nat → Nat} {A : Nat → Prop} {s : State} {H : Heap} (h : cl_CF b1 A s H) (he : ∀ i, i ≤ cl_K → b2 i = b1 i) : cl_CF b2 A s H := ⟨fun i h1 h2 => by rw [he i (Nat.le_trans h2 (by decide)), he (i + 8) (by show i + 8 ≤ 18; omega)]; exact h.1 i h1 h2, fun i h1 h2 => by rw [he i h2]; exact h.2 i h1 h2⟩
theorem cl_ST.moved {b1 : Nat → Nat} {A : Nat → Prop} {s U : State} {H : Heap} (hvm : s.vm.Alike U.vm) (h : cl_ST b1 A s H) : cl_ST b1 A U H := ⟨va_Z.moved hvm h.1, va_Z.moved hvm h.2.1, va_Z.moved hvm h.2.2.1, vx_Zq.moved hvm h.2.2.2.1, vx_Zq.moved hvm h.2.2.2.2.1, va_Zq.moved hvm h.2.2.2.2.2⟩
theorem cl_ST.kept {b1 : Nat → Nat} {A : Nat → Prop} {s : State} {H H1 : Heap} (h : cl_ST b1 A s H) (hq : ∀ a : Nat, a < H.size → ¬ A a → H1[a]? = H[a]?) : cl_ST b1 A s H1 := ⟨va_Z.kept h.1 hq, va_Z.kept h.2.1 hq, va_Z.kept h.2.2.1 hq, vx_Zq.kept h.2.2.2.1 hq, vx_Zq.kept h.2.2.2.2.1 hq, va_Zq.kept h.2.2.2.2.2 hq⟩
theorem cl_ST.ad {b1 b2 : Nat → Nat} {A : Nat → Prop} {s : State} {H : Heap} (h : cl_ST b1 A s H) (he : ∀ i, i ≤ cl_K → b2 i = b1 i) : cl_ST b2 A s H := ⟨h.1, by rw [he 17 (by decide)]; exact h.2.1, by rw [he 18 (by decide)]; exact h.2.2.1, h.2.2.2⟩
theorem cl_SR.warm {b1 : Nat → Nat} {s U : State} (hW : s.WarmedH U.vm) (h : cl_SR b1 s) : cl_SR b1 U := ⟨h.1.warm hW, h.2.1.warm hW, h.2.2.1.warm hW, h.2.2.2.1.warm hW, h.2.2.2.2.1.warm hW, h.2.2.2.2.2.1.warm hW, h.2.2.2.2.2.2.1.warm hW, h.2.2.2.2.2.2.2.1.warm hW, h.2.2.2.2.2.2.2.2.warm hW⟩
theorem cl_SR.same {b1 : Nat → Nat} {s U : State} (he : s.vm = U.vm) (h : cl_SR b1 s) : cl_SR b1 U := ⟨h.1.same he.symm, h.2.1.same he.symm, h.2.2.1.same he.symm, h.2.2.2.1.same he.symm, h.2.2.2.2.1.same he.symm, h.2.2.2.2.2.1.same he.symm, h.2.2.2.2.2.2.1.same he.symm, h.2.2.2.2.2.2.2.1.same he.symm, h.2.2.2.2.2.2.2.2.same he.symm⟩
theorem cl_SR.ad {b1 b2 : Nat → Nat} {s : State} (h : cl_SR b1 s) (he : ∀ i, i ≤ cl_K → b2 i = b1 i) : cl_SR b2 s := by
  unfold cl_SR
  rw [he 1 (by decide), he 2 (by decide), he 3 (by decide), he 4 (by decide), he 5 (by decide), he 6 (by decide), he 7 (by decide), he 8 (by decide)]
  exact h
/-- all that a contract's start says beside the world: B = (where the ids lie, how many they are), H0 the heap there -/
def cl_N (B : (Nat → Nat) × Nat) (A : Nat → Prop) (H0 : Heap) (s : State) : Prop := (∀ w ∈ cl_nws, va_Nw w s) ∧ (∀ t ∈ cl_fws, va_Fw t.1 t.2.1 t.2.2 s) ∧ va_AO RX1 s ∧ va_AO RX10 s ∧ va_AO RX17 s ∧ va_AO RX2 s ∧ cl_DF s ∧ cl_K ≤ B.2 ∧ cl_CF B.1 A s H0 ∧ cl_ST B.1 A s H0 ∧ cl_SR B.1 s
theorem cl_N.t {B : (Nat → Nat) × Nat} {A : Nat → Prop} {H0 : Heap} {s : State} (h : cl_N B A H0 s) : cl_N0 s := ⟨h.1, h.2.1, h.2.2.1, h.2.2.2.1, h.2.2.2.2.1, h.2.2.2.2.2.1, h.2.2.2.2.2.2.1⟩
theorem cl_N.mk {B : (Nat → Nat) × Nat} {A : Nat → Prop} {H0 : Heap} {s : State} (h : cl_N0 s) (h2 : cl_K ≤ B.2 ∧ cl_CF B.1 A s H0 ∧ cl_ST B.1 A s H0 ∧ cl_SR B.1 s) : cl_N B A H0 s := ⟨h.1, h.2.1, h.2.2.1, h.2.2.2.1, h.2.2.2.2.1, h.2.2.2.2.2.1, h.2.2.2.2.2.2, h2⟩
theorem cl_N.x {B : (Nat → Nat) × Nat} {A : Nat → Prop} {H0 : Heap} {s : State} (h : cl_N B A H0 s) : cl_K ≤ B.2 ∧ cl_CF B.1 A s H0 ∧ cl_ST B.1 A s H0 ∧ cl_SR B.1 s := h.2.2.2.2.2.2.2
/-- at a call: the callee's start -/
theorem cl_N.call {B : (Nat → Nat) × Nat} {A : Nat → Prop} {H0 H1 : Heap} {s U : State} {ad : Nat → Nat} {n : Nat} (h : cl_N B A H0 s) (hW : s.WarmedH U.vm) (hn : B.2 ≤ n) (had : ∀ o, o ≤ B.2 → ad o = B.1 o) (hq : ∀ a : Nat, a < H0.size → ¬ A a → H1[a]? = H0[a]?) : cl_N (ad, n) A H1 U :=
  have he : ∀ i, i ≤ cl_K → ad i = B.1 i := fun i hi => had i (Nat.le_trans hi h.x.1)
  .mk (h.t.warm hW) ⟨Nat.le_trans h.x.1 hn, ((h.x.2.1.kept hq).ad he).moved hW.alike, ((h.x.2.2.1.kept hq).ad he).moved hW.alike, (h.x.2.2.2.ad he).warm hW⟩
theorem cl_N.same {B : (Nat → Nat) × Nat} {A : Nat → Prop} {H0 : Heap} {s U : State} (he : s.vm = U.vm) (h : cl_N B A H0 s) : cl_N B A H0 U :=
  .mk (h.t.same he) ⟨h.x.1, h.x.2.1.moved (by rw [he]; exact Vm.Alike.refl U.vm), h.x.2.2.1.moved (by rw [he]; exact Vm.Alike.refl U.vm), h.x.2.2.2.same he⟩
theorem nc_0 : ("[S", "[B") ∈ cl_ncs := List.mem_of_getElem? (i := 0) rfl
theorem nc_1 : ("[I", "[B") ∈ cl_ncs := List.mem_of_getElem? (i := 1) rfl
theorem nc_2 : ("[I", "[S") ∈ cl_ncs := List.mem_of_getElem? (i := 2) rfl
theorem nc_3 : ("java/lang/ArrayIndexOutOfBoundsException", "java/lang/NullPointerException") ∈ cl_ncs := List.mem_of_getElem? (i := 3) rfl
theorem nc_4 : ("java/lang/ArrayStoreException", "java/lang/NullPointerException") ∈ cl_ncs := List.mem_of_getElem? (i := 4) rfl
theorem nc_5 : ("java/lang/ArrayIndexOutOfBoundsException", "java/lang/ArrayStoreException") ∈ cl_ncs := List.mem_of_getElem? (i := 5) rfl
theorem nc_6 : ("DatedContacts$Open", "DatedContacts$Late") ∈ cl_ncs := List.mem_of_getElem? (i := 6) rfl
theorem nc_7 : ("DatedContacts$Open", "DatedContacts$Brief") ∈ cl_ncs := List.mem_of_getElem? (i := 7) rfl
theorem nc_8 : ("DatedContacts$Open", "DatedContacts$Ward") ∈ cl_ncs := List.mem_of_getElem? (i := 8) rfl
theorem nc_9 : ("DatedContacts$Open", "DatedContacts$Safe") ∈ cl_ncs := List.mem_of_getElem? (i := 9) rfl
theorem nc_10 : ("DatedContacts$Late", "DatedContacts$Brief") ∈ cl_ncs := List.mem_of_getElem? (i := 10) rfl
theorem nc_11 : ("DatedContacts$Late", "DatedContacts$Ward") ∈ cl_ncs := List.mem_of_getElem? (i := 11) rfl
theorem nc_12 : ("DatedContacts$Late", "DatedContacts$Safe") ∈ cl_ncs := List.mem_of_getElem? (i := 12) rfl
theorem nc_13 : ("DatedContacts$Brief", "DatedContacts$Late") ∈ cl_ncs := List.mem_of_getElem? (i := 13) rfl
theorem nc_14 : ("DatedContacts$Brief", "DatedContacts$Ward") ∈ cl_ncs := List.mem_of_getElem? (i := 14) rfl
theorem nc_15 : ("DatedContacts$Brief", "DatedContacts$Safe") ∈ cl_ncs := List.mem_of_getElem? (i := 15) rfl
theorem nc_16 : ("DatedContacts$Ward", "DatedContacts$Open") ∈ cl_ncs := List.mem_of_getElem? (i := 16) rfl
theorem nc_17 : ("DatedContacts$Ward", "DatedContacts$Late") ∈ cl_ncs := List.mem_of_getElem? (i := 17) rfl
theorem nc_18 : ("DatedContacts$Ward", "DatedContacts$Brief") ∈ cl_ncs := List.mem_of_getElem? (i := 18) rfl
theorem nc_19 : ("DatedContacts$Ward", "DatedContacts$Safe") ∈ cl_ncs := List.mem_of_getElem? (i := 19) rfl
theorem nc_20 : ("DatedContacts$Safe", "DatedContacts$Open") ∈ cl_ncs := List.mem_of_getElem? (i := 20) rfl
theorem nc_21 : ("DatedContacts$Safe", "DatedContacts$Late") ∈ cl_ncs := List.mem_of_getElem? (i := 21) rfl
theorem nc_22 : ("DatedContacts$Safe", "DatedContacts$Brief") ∈ cl_ncs := List.mem_of_getElem? (i := 22) rfl
