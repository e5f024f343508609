/-! what walks of the system need beside the class tables (by program) -/
def nws : List Cond := [(Jvm.Cond.fieldLinkNest "PromiseTries" (45 : Nat) "PromiseTries$Reader" "promises" "[LPromiseTries$Promise;" "PromiseTries"), (Jvm.Cond.fieldLinkNest "PromiseTries" (50 : Nat) "PromiseTries$Reader" "many" "I" "PromiseTries"), (Jvm.Cond.fieldLinkNest "PromiseTries" (67 : Nat) "PromiseTries$Fault" "code" "I" "PromiseTries"), (Jvm.Cond.fieldLinkNest "PromiseTries" (70 : Nat) "PromiseTries$Fault" "place" "I" "PromiseTries"), (Jvm.Cond.fieldLinkNest "PromiseTries" (76 : Nat) "PromiseTries$Side" "machine" "LPromiseTries$Machine;" "PromiseTries"), (Jvm.Cond.fieldLinkNest "PromiseTries" (82 : Nat) "PromiseTries$Machine" "first" "J" "PromiseTries"), (Jvm.Cond.fieldLinkNest "PromiseTries" (96 : Nat) "PromiseTries$Side" "runs" "[[J" "PromiseTries"), (Jvm.Cond.fieldLinkNest "PromiseTries" (127 : Nat) "PromiseTries$Promise" "sides" "[LPromiseTries$Side;" "PromiseTries"), (Jvm.Cond.fieldLinkNest "PromiseTries" (139 : Nat) "PromiseTries$Promise" "off" "LPromiseTries$Holds;" "PromiseTries"), (Jvm.Cond.fieldLinkNest "PromiseTries" (192 : Nat) "PromiseTries$Promise" "kind" "I" "PromiseTries"), (Jvm.Cond.fieldLinkNest "PromiseTries" (194 : Nat) "PromiseTries$Side" "many" "I" "PromiseTries"), (Jvm.Cond.fieldLinkNest "PromiseTries" (195 : Nat) "PromiseTries$Side" "node" "LPromiseTries$Node;" "PromiseTries"), (Jvm.Cond.fieldLinkNest "PromiseTries" (213 : Nat) "PromiseTries$Side" "conditions" "[LPromiseTries$Holds;" "PromiseTries"), (Jvm.Cond.fieldLinkNest "PromiseTries" (295 : Nat) "PromiseTries$Sheet" "row" "Ljava/lang/Object;" "PromiseTries"), (Jvm.Cond.fieldLinkNest "PromiseTries" (299 : Nat) "PromiseTries$Sheet" "size" "I" "PromiseTries"), (Jvm.Cond.fieldLinkNest "PromiseTries$Either" (50 : Nat) "PromiseTries$Part" "isNone" "Z" "PromiseTries"), (Jvm.Cond.fieldLinkNest "PromiseTries$Either" (54 : Nat) "PromiseTries$Part" "first" "J" "PromiseTries"), (Jvm.Cond.fieldLinkNest "PromiseTries$Either" (58 : Nat) "PromiseTries$Part" "last" "J" "PromiseTries"), (Jvm.Cond.fieldLinkNest "PromiseTries$Machine" (30 : Nat) "PromiseTries$Part" "last" "J" "PromiseTries"), (Jvm.Cond.fieldLinkNest "PromiseTries$Machine" (34 : Nat) "PromiseTries$Part" "first" "J" "PromiseTries"), (Jvm.Cond.fieldLinkNest "PromiseTries$Machine" (37 : Nat) "PromiseTries$Part" "isNone" "Z" "PromiseTries"), (Jvm.Cond.fieldLinkNest "PromiseTries$Reader" (113 : Nat) "PromiseTries$Side" "many" "I" "PromiseTries"), (Jvm.Cond.fieldLinkNest "PromiseTries$Reader" (118 : Nat) "PromiseTries$Side" "conditions" "[LPromiseTries$Holds;" "PromiseTries"), (Jvm.Cond.fieldLinkNest "PromiseTries$Reader" (158 : Nat) "PromiseTries$Side" "node" "LPromiseTries$Node;" "PromiseTries"), (Jvm.Cond.fieldLinkNest "PromiseTries$Reader" (164 : Nat) "PromiseTries$Promise" "sides" "[LPromiseTries$Side;" "PromiseTries"), (Jvm.Cond.fieldLinkNest "PromiseTries$Reader" (171 : Nat) "PromiseTries$Promise" "kind" "I" "PromiseTries"), (Jvm.Cond.fieldLinkNest "PromiseTries$Reader" (172 : Nat) "PromiseTries$Promise" "off" "LPromiseTries$Holds;" "PromiseTries"), (Jvm.Cond.fieldLinkNest "PromiseTries$Reader" (188 : Nat) "PromiseTries$Side" "machine" "LPromiseTries$Machine;" "PromiseTries"), (Jvm.Cond.methodLinkNest "PromiseTries" (269 : Nat) ({ cls := "PromiseTries$Sheet", name := "<init>", desc := "()V" } : Jvm.MethodName) "PromiseTries"), (Jvm.Cond.methodLinkNest "PromiseTries$Atom" (1 : Nat) ({ cls := "PromiseTries$Node", name := "<init>", desc := "()V" } : Jvm.MethodName) "PromiseTries"), (Jvm.Cond.methodLinkNest "PromiseTries$Either" (23 : Nat) ({ cls := "PromiseTries", name := "capped", desc := "(I)I" } : Jvm.MethodName) "PromiseTries"), (Jvm.Cond.methodLinkNest "PromiseTries$Machine" (47 : Nat) ({ cls := "PromiseTries", name := "fulfilling", desc := "(LPromiseTries$Holds;)I" } : Jvm.MethodName) "PromiseTries"), (Jvm.Cond.methodLinkNest "PromiseTries$Promise" (9 : Nat) ({ cls := "PromiseTries$Side", name := "<init>", desc := "()V" } : Jvm.MethodName) "PromiseTries"), (Jvm.Cond.methodLinkNest "PromiseTries$Reader" (50 : Nat) ({ cls := "PromiseTries", name := "isIn", desc := "(JJJ)Z" } : Jvm.MethodName) "PromiseTries"), (Jvm.Cond.methodLinkNest "PromiseTries$Reader" (163 : Nat) ({ cls := "PromiseTries$Promise", name := "<init>", desc := "()V" } : Jvm.MethodName) "PromiseTries"), (Jvm.Cond.methodLinkNest "PromiseTries$Reader" (187 : Nat) ({ cls := "PromiseTries$Machine", name := "<init>", desc := "()V" } : Jvm.MethodName) "PromiseTries"), (Jvm.Cond.methodLinkNest "PromiseTries$Then" (23 : Nat) ({ cls := "PromiseTries", name := "capped", desc := "(I)I" } : Jvm.MethodName) "PromiseTries"), (Jvm.Cond.methodLinkNest "PromiseTries$Times" (1 : Nat) ({ cls := "PromiseTries$Node", name := "<init>", desc := "()V" } : Jvm.MethodName) "PromiseTries"), (Jvm.Cond.methodLinkNest "PromiseTries$Times" (24 : Nat) ({ cls := "PromiseTries", name := "capped", desc := "(I)I" } : Jvm.MethodName) "PromiseTries"), (Jvm.Cond.methodLinkNest "PromiseTries$Two" (1 : Nat) ({ cls := "PromiseTries$Node", name := "<init>", desc := "()V" } : Jvm.MethodName) "PromiseTries"), (Jvm.Cond.declares ({ cls := "java/lang/Throwable", name := "<init>", desc := "()V" } : Jvm.MethodName)), (Jvm.Cond.declares ({ cls := "java/lang/Throwable", name := "<init>", desc := "(Ljava/lang/String;)V" } : Jvm.MethodName)), (Jvm.Cond.declares ({ cls := "java/lang/Exception", name := "<init>", desc := "()V" } : Jvm.MethodName)), (Jvm.Cond.declares ({ cls := "java/lang/Exception", name := "<init>", desc := "(Ljava/lang/String;)V" } : Jvm.MethodName)), (Jvm.Cond.declares ({ cls := "java/lang/RuntimeException", name := "<init>", desc := "()V" } : Jvm.MethodName)), (Jvm.Cond.declares ({ cls := "java/lang/RuntimeException", name := "<init>", desc := "(Ljava/lang/String;)V" } : Jvm.MethodName)), (Jvm.Cond.castable "java/lang/RuntimeException" "java/lang/Throwable"), (Jvm.Cond.castable "java/lang/NegativeArraySizeException" "java/lang/NegativeArraySizeException"), (Jvm.Cond.castable "java/lang/NullPointerException" "java/lang/NullPointerException"), (Jvm.Cond.declares ({ cls := "java/lang/IndexOutOfBoundsException", name := "<init>", desc := "()V" } : Jvm.MethodName)), (Jvm.Cond.declares ({ cls := "java/lang/IndexOutOfBoundsException", name := "<init>", desc := "(Ljava/lang/String;)V" } : Jvm.MethodName)), (Jvm.Cond.castable "java/lang/ArrayIndexOutOfBoundsException" "java/lang/ArrayIndexOutOfBoundsException"), (Jvm.Cond.castable "java/lang/ClassCastException" "java/lang/ClassCastException"), (Jvm.Cond.castable "PromiseTries$Fault" "PromiseTries$Fault"), (Jvm.Cond.declares ({ cls := "PromiseTries$Node", name := "least", desc := "()I" } : Jvm.MethodName)), (Jvm.Cond.declares ({ cls := "PromiseTries$Node", name := "weight", desc := "()I" } : Jvm.MethodName)), (Jvm.Cond.declares ({ cls := "PromiseTries$Node", name := "built", desc := "(LPromiseTries$Machine;)LPromiseTries$Part;" } : Jvm.MethodName)), (Jvm.Cond.declares ({ cls := "PromiseTries$Node", name := "most", desc := "()I" } : Jvm.MethodName)), (Jvm.Cond.declares ({ cls := "PromiseTries$Cells", name := "at", desc := "(Ljava/lang/Object;I)I" } : Jvm.MethodName)), (Jvm.Cond.declares ({ cls := "PromiseTries$Holds", name := "at", desc := "(I)Z" } : Jvm.MethodName)), (Jvm.Cond.declares ({ cls := "PromiseTries$Kind", name := "begin", desc := "(I)I" } : Jvm.MethodName))]
theorem nq264 : (Jvm.Cond.fieldLinkNest "PromiseTries" (45 : Nat) "PromiseTries$Reader" "promises" "[LPromiseTries$Promise;" "PromiseTries") ∈ nws := List.mem_of_getElem? (i := 0) rfl
theorem nq265 : (Jvm.Cond.fieldLinkNest "PromiseTries" (50 : Nat) "PromiseTries$Reader" "many" "I" "PromiseTries") ∈ nws := List.mem_of_getElem? (i := 1) rfl
theorem nq238 : (Jvm.Cond.fieldLinkNest "PromiseTries" (67 : Nat) "PromiseTries$Fault" "code" "I" "PromiseTries") ∈ nws := List.mem_of_getElem? (i := 2) rfl
theorem nq240 : (Jvm.Cond.fieldLinkNest "PromiseTries" (70 : Nat) "PromiseTries$Fault" "place" "I" "PromiseTries") ∈ nws := List.mem_of_getElem? (i := 3) rfl
theorem nq327 : (Jvm.Cond.fieldLinkNest "PromiseTries" (76 : Nat) "PromiseTries$Side" "machine" "LPromiseTries$Machine;" "PromiseTries") ∈ nws := List.mem_of_getElem? (i := 4) rfl
theorem nq552 : (Jvm.Cond.fieldLinkNest "PromiseTries" (82 : Nat) "PromiseTries$Machine" "first" "J" "PromiseTries") ∈ nws := List.mem_of_getElem? (i := 5) rfl
theorem nq330 : (Jvm.Cond.fieldLinkNest "PromiseTries" (96 : Nat) "PromiseTries$Side" "runs" "[[J" "PromiseTries") ∈ nws := List.mem_of_getElem? (i := 6) rfl
theorem nq344 : (Jvm.Cond.fieldLinkNest "PromiseTries" (127 : Nat) "PromiseTries$Promise" "sides" "[LPromiseTries$Side;" "PromiseTries") ∈ nws := List.mem_of_getElem? (i := 7) rfl
theorem nq349 : (Jvm.Cond.fieldLinkNest "PromiseTries" (139 : Nat) "PromiseTries$Promise" "off" "LPromiseTries$Holds;" "PromiseTries") ∈ nws := List.mem_of_getElem? (i := 8) rfl
theorem nq348 : (Jvm.Cond.fieldLinkNest "PromiseTries" (192 : Nat) "PromiseTries$Promise" "kind" "I" "PromiseTries") ∈ nws := List.mem_of_getElem? (i := 9) rfl
theorem nq324 : (Jvm.Cond.fieldLinkNest "PromiseTries" (194 : Nat) "PromiseTries$Side" "many" "I" "PromiseTries") ∈ nws := List.mem_of_getElem? (i := 10) rfl
theorem nq326 : (Jvm.Cond.fieldLinkNest "PromiseTries" (195 : Nat) "PromiseTries$Side" "node" "LPromiseTries$Node;" "PromiseTries") ∈ nws := List.mem_of_getElem? (i := 11) rfl
theorem nq322 : (Jvm.Cond.fieldLinkNest "PromiseTries" (213 : Nat) "PromiseTries$Side" "conditions" "[LPromiseTries$Holds;" "PromiseTries") ∈ nws := List.mem_of_getElem? (i := 12) rfl
theorem nq891 : (Jvm.Cond.fieldLinkNest "PromiseTries" (295 : Nat) "PromiseTries$Sheet" "row" "Ljava/lang/Object;" "PromiseTries") ∈ nws := List.mem_of_getElem? (i := 13) rfl
theorem nq892 : (Jvm.Cond.fieldLinkNest "PromiseTries" (299 : Nat) "PromiseTries$Sheet" "size" "I" "PromiseTries") ∈ nws := List.mem_of_getElem? (i := 14) rfl
theorem nq590 : (Jvm.Cond.fieldLinkNest "PromiseTries$Either" (50 : Nat) "PromiseTries$Part" "isNone" "Z" "PromiseTries") ∈ nws := List.mem_of_getElem? (i := 15) rfl
theorem nq593 : (Jvm.Cond.fieldLinkNest "PromiseTries$Either" (54 : Nat) "PromiseTries$Part" "first" "J" "PromiseTries") ∈ nws := List.mem_of_getElem? (i := 16) rfl
theorem nq596 : (Jvm.Cond.fieldLinkNest "PromiseTries$Either" (58 : Nat) "PromiseTries$Part" "last" "J" "PromiseTries") ∈ nws := List.mem_of_getElem? (i := 17) rfl
theorem nq595 : (Jvm.Cond.fieldLinkNest "PromiseTries$Machine" (30 : Nat) "PromiseTries$Part" "last" "J" "PromiseTries") ∈ nws := List.mem_of_getElem? (i := 18) rfl
theorem nq592 : (Jvm.Cond.fieldLinkNest "PromiseTries$Machine" (34 : Nat) "PromiseTries$Part" "first" "J" "PromiseTries") ∈ nws := List.mem_of_getElem? (i := 19) rfl
theorem nq589 : (Jvm.Cond.fieldLinkNest "PromiseTries$Machine" (37 : Nat) "PromiseTries$Part" "isNone" "Z" "PromiseTries") ∈ nws := List.mem_of_getElem? (i := 20) rfl
theorem nq323 : (Jvm.Cond.fieldLinkNest "PromiseTries$Reader" (113 : Nat) "PromiseTries$Side" "many" "I" "PromiseTries") ∈ nws := List.mem_of_getElem? (i := 21) rfl
theorem nq321 : (Jvm.Cond.fieldLinkNest "PromiseTries$Reader" (118 : Nat) "PromiseTries$Side" "conditions" "[LPromiseTries$Holds;" "PromiseTries") ∈ nws := List.mem_of_getElem? (i := 22) rfl
theorem nq325 : (Jvm.Cond.fieldLinkNest "PromiseTries$Reader" (158 : Nat) "PromiseTries$Side" "node" "LPromiseTries$Node;" "PromiseTries") ∈ nws := List.mem_of_getElem? (i := 23) rfl
theorem nq345 : (Jvm.Cond.fieldLinkNest "PromiseTries$Reader" (164 : Nat) "PromiseTries$Promise" "sides" "[LPromiseTries$Side;" "PromiseTries") ∈ nws := List.mem_of_getElem? (i := 24) rfl
theorem nq347 : (Jvm.Cond.fieldLinkNest "PromiseTries$Reader" (171 : Nat) "PromiseTries$Promise" "kind" "I" "PromiseTries") ∈ nws := List.mem_of_getElem? (i := 25) rfl
theorem nq350 : (Jvm.Cond.fieldLinkNest "PromiseTries$Reader" (172 : Nat) "PromiseTries$Promise" "off" "LPromiseTries$Holds;" "PromiseTries") ∈ nws := List.mem_of_getElem? (i := 26) rfl
theorem nq328 : (Jvm.Cond.fieldLinkNest "PromiseTries$Reader" (188 : Nat) "PromiseTries$Side" "machine" "LPromiseTries$Machine;" "PromiseTries") ∈ nws := List.mem_of_getElem? (i := 27) rfl
theorem nq887 : (Jvm.Cond.methodLinkNest "PromiseTries" (269 : Nat) ({ cls := "PromiseTries$Sheet", name := "<init>", desc := "()V" } : Jvm.MethodName) "PromiseTries") ∈ nws := List.mem_of_getElem? (i := 28) rfl
theorem nq423 : (Jvm.Cond.methodLinkNest "PromiseTries$Atom" (1 : Nat) ({ cls := "PromiseTries$Node", name := "<init>", desc := "()V" } : Jvm.MethodName) "PromiseTries") ∈ nws := List.mem_of_getElem? (i := 29) rfl
theorem nq538 : (Jvm.Cond.methodLinkNest "PromiseTries$Either" (23 : Nat) ({ cls := "PromiseTries", name := "capped", desc := "(I)I" } : Jvm.MethodName) "PromiseTries") ∈ nws := List.mem_of_getElem? (i := 30) rfl
theorem nq629 : (Jvm.Cond.methodLinkNest "PromiseTries$Machine" (47 : Nat) ({ cls := "PromiseTries", name := "fulfilling", desc := "(LPromiseTries$Holds;)I" } : Jvm.MethodName) "PromiseTries") ∈ nws := List.mem_of_getElem? (i := 31) rfl
theorem nq312 : (Jvm.Cond.methodLinkNest "PromiseTries$Promise" (9 : Nat) ({ cls := "PromiseTries$Side", name := "<init>", desc := "()V" } : Jvm.MethodName) "PromiseTries") ∈ nws := List.mem_of_getElem? (i := 32) rfl
theorem nq162 : (Jvm.Cond.methodLinkNest "PromiseTries$Reader" (50 : Nat) ({ cls := "PromiseTries", name := "isIn", desc := "(JJJ)Z" } : Jvm.MethodName) "PromiseTries") ∈ nws := List.mem_of_getElem? (i := 33) rfl
theorem nq305 : (Jvm.Cond.methodLinkNest "PromiseTries$Reader" (163 : Nat) ({ cls := "PromiseTries$Promise", name := "<init>", desc := "()V" } : Jvm.MethodName) "PromiseTries") ∈ nws := List.mem_of_getElem? (i := 34) rfl
theorem nq543 : (Jvm.Cond.methodLinkNest "PromiseTries$Reader" (187 : Nat) ({ cls := "PromiseTries$Machine", name := "<init>", desc := "()V" } : Jvm.MethodName) "PromiseTries") ∈ nws := List.mem_of_getElem? (i := 35) rfl
theorem nq512 : (Jvm.Cond.methodLinkNest "PromiseTries$Then" (23 : Nat) ({ cls := "PromiseTries", name := "capped", desc := "(I)I" } : Jvm.MethodName) "PromiseTries") ∈ nws := List.mem_of_getElem? (i := 36) rfl
theorem nq446 : (Jvm.Cond.methodLinkNest "PromiseTries$Times" (1 : Nat) ({ cls := "PromiseTries$Node", name := "<init>", desc := "()V" } : Jvm.MethodName) "PromiseTries") ∈ nws := List.mem_of_getElem? (i := 37) rfl
theorem nq506 : (Jvm.Cond.methodLinkNest "PromiseTries$Times" (24 : Nat) ({ cls := "PromiseTries", name := "capped", desc := "(I)I" } : Jvm.MethodName) "PromiseTries") ∈ nws := List.mem_of_getElem? (i := 38) rfl
theorem nq465 : (Jvm.Cond.methodLinkNest "PromiseTries$Two" (1 : Nat) ({ cls := "PromiseTries$Node", name := "<init>", desc := "()V" } : Jvm.MethodName) "PromiseTries") ∈ nws := List.mem_of_getElem? (i := 39) rfl
theorem nq176 : (Jvm.Cond.declares ({ cls := "java/lang/Throwable", name := "<init>", desc := "()V" } : Jvm.MethodName)) ∈ nws := List.mem_of_getElem? (i := 40) rfl
theorem nq177 : (Jvm.Cond.declares ({ cls := "java/lang/Throwable", name := "<init>", desc := "(Ljava/lang/String;)V" } : Jvm.MethodName)) ∈ nws := List.mem_of_getElem? (i := 41) rfl
theorem nq174 : (Jvm.Cond.declares ({ cls := "java/lang/Exception", name := "<init>", desc := "()V" } : Jvm.MethodName)) ∈ nws := List.mem_of_getElem? (i := 42) rfl
theorem nq175 : (Jvm.Cond.declares ({ cls := "java/lang/Exception", name := "<init>", desc := "(Ljava/lang/String;)V" } : Jvm.MethodName)) ∈ nws := List.mem_of_getElem? (i := 43) rfl
theorem nq172 : (Jvm.Cond.declares ({ cls := "java/lang/RuntimeException", name := "<init>", desc := "()V" } : Jvm.MethodName)) ∈ nws := List.mem_of_getElem? (i := 44) rfl
theorem nq173 : (Jvm.Cond.declares ({ cls := "java/lang/RuntimeException", name := "<init>", desc := "(Ljava/lang/String;)V" } : Jvm.MethodName)) ∈ nws := List.mem_of_getElem? (i := 45) rfl
theorem nq1024 : (Jvm.Cond.castable "java/lang/RuntimeException" "java/lang/Throwable") ∈ nws := List.mem_of_getElem? (i := 46) rfl
theorem nq981 : (Jvm.Cond.castable "java/lang/NegativeArraySizeException" "java/lang/NegativeArraySizeException") ∈ nws := List.mem_of_getElem? (i := 47) rfl
theorem nq1022 : (Jvm.Cond.castable "java/lang/NullPointerException" "java/lang/NullPointerException") ∈ nws := List.mem_of_getElem? (i := 48) rfl
theorem nq1041 : (Jvm.Cond.declares ({ cls := "java/lang/IndexOutOfBoundsException", name := "<init>", desc := "()V" } : Jvm.MethodName)) ∈ nws := List.mem_of_getElem? (i := 49) rfl
theorem nq1042 : (Jvm.Cond.declares ({ cls := "java/lang/IndexOutOfBoundsException", name := "<init>", desc := "(Ljava/lang/String;)V" } : Jvm.MethodName)) ∈ nws := List.mem_of_getElem? (i := 50) rfl
theorem nq1040 : (Jvm.Cond.castable "java/lang/ArrayIndexOutOfBoundsException" "java/lang/ArrayIndexOutOfBoundsException") ∈ nws := List.mem_of_getElem? (i := 51) rfl
theorem nq1064 : (Jvm.Cond.castable "java/lang/ClassCastException" "java/lang/ClassCastException") ∈ nws := List.mem_of_getElem? (i := 52) rfl
theorem nq171 : (Jvm.Cond.castable "PromiseTries$Fault" "PromiseTries$Fault") ∈ nws := List.mem_of_getElem? (i := 53) rfl
theorem nq491 : (Jvm.Cond.declares ({ cls := "PromiseTries$Node", name := "least", desc := "()I" } : Jvm.MethodName)) ∈ nws := List.mem_of_getElem? (i := 54) rfl
theorem nq527 : (Jvm.Cond.declares ({ cls := "PromiseTries$Node", name := "weight", desc := "()I" } : Jvm.MethodName)) ∈ nws := List.mem_of_getElem? (i := 55) rfl
theorem nq573 : (Jvm.Cond.declares ({ cls := "PromiseTries$Node", name := "built", desc := "(LPromiseTries$Machine;)LPromiseTries$Part;" } : Jvm.MethodName)) ∈ nws := List.mem_of_getElem? (i := 56) rfl
theorem nq750 : (Jvm.Cond.declares ({ cls := "PromiseTries$Node", name := "most", desc := "()I" } : Jvm.MethodName)) ∈ nws := List.mem_of_getElem? (i := 57) rfl
theorem nq1069 : (Jvm.Cond.declares ({ cls := "PromiseTries$Cells", name := "at", desc := "(Ljava/lang/Object;I)I" } : Jvm.MethodName)) ∈ nws := List.mem_of_getElem? (i := 58) rfl
theorem nq413 : (Jvm.Cond.declares ({ cls := "PromiseTries$Holds", name := "at", desc := "(I)Z" } : Jvm.MethodName)) ∈ nws := List.mem_of_getElem? (i := 59) rfl
theorem nq691 : (Jvm.Cond.declares ({ cls := "PromiseTries$Kind", name := "begin", desc := "(I)I" } : Jvm.MethodName)) ∈ nws := List.mem_of_getElem? (i := 60) rfl
def nwR (w : Cond) : Bool := match w with
  | .fieldLinkNest _ _ _ _ _ _ => true
  | .methodLinkNest _ _ _ _ => true
  | .declares _ => true
  | .castable _ _ => true
  | _ => false
theorem nwR_warm {w : Cond} (hw : nwR w = true) {s U : State} (hW : s.WarmedH U.vm) (h : va_Nw w s) : va_Nw w U := by
  cases w <;> first | exact va_Nw.warmF hW h | exact va_Nw.warmM hW h | exact va_Nw.warmD hW h | exact va_Nw.warmC hW h | exact absurd (show (false : Bool) = true from hw) (by decide)
theorem nws_R : nws.all nwR = true := by decide +kernel
def KWn (U : State) : Prop := ∀ w ∈ nws, va_Nw w U
theorem KWn.warm {s U : State} (hW : s.WarmedH U.vm) (h : KWn s) : KWn U := fun w hw => nwR_warm (List.all_eq_true.mp nws_R w hw) hW (h w hw)
/-- arrays of the classes may be made -/
def KWa (U : State) : Prop := (va_AO "PromiseTries$Holds" U ∧ va_AO "PromiseTries$Side" U ∧ va_AO "PromiseTries$Promise" U ∧ va_AO "PromiseTries$Sheet" U ∧ va_AO "PromiseTries$Cells" U) ∧ (Cond.arrayOver (.array .int)).before #[] U = true ∧ (Cond.arrayOver (.array .long)).before #[] U = true
theorem aoA_moved {t : FieldType} {A : Array Value} {u U : State} (hvm : u.vm.Alike U.vm) (h : (Cond.arrayOver (.array t)).before A u = true) : (Cond.arrayOver (.array t)).before A U = true := by
  obtain ⟨comp, c, k, h1, h2, h3, h4, h5⟩ := arrayOverA_spec h
  obtain ⟨k', hk', he⟩ := hvm.2.2 _ _ h3
  have hi : (U.vm.classes.findIdx? fun (x : Class) => match x.kind with | .array component _ => component == comp | _ => false) = some c := by
    rw [hvm.findIdx?_eq _ (fun _ => rfl)]
    exact h2
  have hkind : k'.kind = .array comp (.array t) := by rw [he]; exact h4
  have f1 : U.vm.findClass (FieldType.array t).toString = some comp := by rw [hvm.findClass]; exact h1
  have f2 : U.vm.findClass ("[" ++ (FieldType.array t).toString) = some c := by rw [hvm.findClass]; exact h5
  unfold Cond.before Cond.holds
  simp only [Cond.value]
  rw [f1, Option.bind_some]
  refine (congrArg (fun o : Option Nat => (o.bind (fun c => (U.vm.classes[c]?).map fun (k : Class) => match k.kind with | .array _ ty => decide (ty = FieldType.array t) && decide (U.vm.findClass ("[" ++ (FieldType.array t).toString) = some c) | _ => false) == some true)) hi).trans ?_
  simp [hk', hkind, f2]
theorem KWa.warm {s U : State} (hW : s.WarmedH U.vm) (h : KWa s) : KWa U := ⟨⟨h.1.1.moved hW.alike, h.1.2.1.moved hW.alike, h.1.2.2.1.moved hW.alike, h.1.2.2.2.1.moved hW.alike, h.1.2.2.2.2.moved hW.alike⟩, aoA_moved hW.alike h.2.1, aoA_moved hW.alike h.2.2⟩
/-- statics that nobody writes -/
def gA (G : Gt) : Nat → Prop := fun q => (gH G).size ≤ q
def KWk (G : Gt) (U : State) : Prop := va_Z "PromiseTries$Kind" "HERE" "LPromiseTries$Kind;" (va_rf (gK G 0)) (gA G) U (gH G) ∧ va_Z "PromiseTries$Kind" "NEXT" "LPromiseTries$Kind;" (va_rf (gK G 1)) (gA G) U (gH G) ∧ va_Z "java/lang/Throwable" "UNASSIGNED_STACK" "[Ljava/lang/StackTraceElement;" (va_rf (gK G 5)) (gA G) U (gH G) ∧ va_Z "java/lang/Throwable" "SUPPRESSED_SENTINEL" "Ljava/util/List;" (va_rf (gK G 6)) (gA G) U (gH G) ∧ U.vm.findClass "PromiseTries$Kind$1" = some (gL G 300) ∧ U.vm.findClass "PromiseTries$Kind$2" = some (gL G 301)
theorem KWk.warm {G : Gt} {s U : State} (hW : s.WarmedH U.vm) (h : KWk G s) : KWk G U := ⟨h.1.moved hW.alike, h.2.1.moved hW.alike, h.2.2.1.moved hW.alike, h.2.2.2.1.moved hW.alike, by rw [hW.alike.findClass]; exact h.2.2.2.2.1, by rw [hW.alike.findClass]; exact h.2.2.2.2.2⟩
/-! the seven sites of lambdas -/
def lmS0 : Lambda.Shape := { iface := "PromiseTries$Holds", name := "at", sam := ⟨[.int], some .boolean⟩, captured := [.int], kind := 6, implClass := "PromiseTries$Reader", implName := "lambda$wire$0", implDesc := ⟨[.int, .int], some .boolean⟩, implItf := false, inst := ⟨[.int], some .boolean⟩ }
def lmX0 : MethodName := ⟨"PromiseTries$Reader", "wire", "()LPromiseTries$Holds;"⟩
theorem lm_site0 : siteWord_1_1 = Cond.lambdaSite lmX0 13 66 lmS0 := rfl
def lmS1 : Lambda.Shape := { iface := "PromiseTries$Holds", name := "at", sam := ⟨[.int], some .boolean⟩, captured := [.object "PromiseTries$Holds"], kind := 6, implClass := "PromiseTries$Reader", implName := "lambda$condition$1", implDesc := ⟨[.object "PromiseTries$Holds", .int], some .boolean⟩, implItf := false, inst := ⟨[.int], some .boolean⟩ }
def lmX1 : MethodName := ⟨"PromiseTries$Reader", "condition", "()LPromiseTries$Holds;"⟩
theorem lm_site1 : siteWord_1_4 = Cond.lambdaSite lmX1 80 79 lmS1 := rfl
def lmS2 : Lambda.Shape := { iface := "PromiseTries$Holds", name := "at", sam := ⟨[.int], some .boolean⟩, captured := [.object "PromiseTries$Holds", .object "PromiseTries$Holds"], kind := 6, implClass := "PromiseTries$Reader", implName := "lambda$ors$2", implDesc := ⟨[.object "PromiseTries$Holds", .object "PromiseTries$Holds", .int], some .boolean⟩, implItf := false, inst := ⟨[.int], some .boolean⟩ }
def lmX2 : MethodName := ⟨"PromiseTries$Reader", "ors", "()LPromiseTries$Holds;"⟩
theorem lm_site2 : siteWord_1_3 = Cond.lambdaSite lmX2 27 98 lmS2 := rfl
def lmS3 : Lambda.Shape := { iface := "PromiseTries$Holds", name := "at", sam := ⟨[.int], some .boolean⟩, captured := [.object "PromiseTries$Holds", .object "PromiseTries$Holds"], kind := 6, implClass := "PromiseTries$Reader", implName := "lambda$ands$3", implDesc := ⟨[.object "PromiseTries$Holds", .object "PromiseTries$Holds", .int], some .boolean⟩, implItf := false, inst := ⟨[.int], some .boolean⟩ }
def lmX3 : MethodName := ⟨"PromiseTries$Reader", "ands", "()LPromiseTries$Holds;"⟩
theorem lm_site3 : siteWord_1_2 = Cond.lambdaSite lmX3 27 104 lmS3 := rfl
def lmS4 : Lambda.Shape := { iface := "PromiseTries$Cells", name := "at", sam := ⟨[.object "java/lang/Object", .int], some .int⟩, captured := [], kind := 6, implClass := "PromiseTries", implName := "lambda$new$0", implDesc := ⟨[.object "java/lang/Object", .int], some .int⟩, implItf := false, inst := ⟨[.object "java/lang/Object", .int], some .int⟩ }
def lmX4 : MethodName := ⟨"PromiseTries", "<init>", "()V"⟩
theorem lm_site4 : siteWord_1_5 = Cond.lambdaSite lmX4 122 276 lmS4 := rfl
def lmS5 : Lambda.Shape := { iface := "PromiseTries$Cells", name := "at", sam := ⟨[.object "java/lang/Object", .int], some .int⟩, captured := [], kind := 6, implClass := "PromiseTries", implName := "lambda$new$1", implDesc := ⟨[.object "java/lang/Object", .int], some .int⟩, implItf := false, inst := ⟨[.object "java/lang/Object", .int], some .int⟩ }
def lmX5 : MethodName := ⟨"PromiseTries", "<init>", "()V"⟩
theorem lm_site5 : siteWord_1_6 = Cond.lambdaSite lmX5 130 279 lmS5 := rfl
def lmS6 : Lambda.Shape := { iface := "PromiseTries$Cells", name := "at", sam := ⟨[.object "java/lang/Object", .int], some .int⟩, captured := [], kind := 6, implClass := "PromiseTries", implName := "lambda$new$2", implDesc := ⟨[.object "java/lang/Object", .int], some .int⟩, implItf := false, inst := ⟨[.object "java/lang/Object", .int], some .int⟩ }
def lmX6 : MethodName := ⟨"PromiseTries", "<init>", "()V"⟩
theorem lm_site6 : siteWord_1_7 = Cond.lambdaSite lmX6 138 280 lmS6 := rfl
/-- what holds of a site, class names and made class's number told -/
def LamAt (G : Gt) (U : State) (x : MethodName) (pc index : Nat) (σ : Lambda.Shape) (nm : String) (t : Nat) (one : Option Nat) : Prop :=
  ∃ (m : MethodId) (k : Class) (cf : ClassFile) (i0 p0 : Nat), U.methodNamed? x = some m ∧ U.vm.classes[m.cls]? = some k ∧ k.cf = some cf ∧ k.name = nm ∧ Lambda.shapeOf? cf index = some σ ∧
    (k.callSites.find? fun y => y.1 == m.idx && y.2.1 == pc) = some (i0, p0, match one with | none => Linked.makes (gL G t) | some a => Linked.constant a) ∧ Lambda.isMade { classPath := fun _ => none } U.vm m.cls σ (gL G t) = true ∧ U.lambdaCallable σ (gL G t) = true
theorem LamAt.warm {G : Gt} {s U : State} {x : MethodName} {pc index : Nat} {σ : Lambda.Shape} {nm : String} {t : Nat} {one : Option Nat} (hW : s.WarmedH U.vm) (h : LamAt G s x pc index σ nm t one) : LamAt G U x pc index σ nm t one := by
  obtain ⟨m, k, cf, i0, p0, hm, hk, hcf, hn, hsh, hf, hmade, hcall⟩ := h
  obtain ⟨k', hk', he⟩ := hW.alike.2.2 _ _ hk
  have hm' : U.methodNamed? x = some m := by
    have := State.methodNamed?_setVm (s := s) hW.alike x
    rw [hm] at this
    exact this
  have hcall' : U.lambdaCallable σ (gL G t) = true := by
    have hA := hW.alike
    simp only [State.lambdaCallable, hA.findClass, hA.assignable, hA.superclasses, hA.declaredIn] at hcall ⊢
    exact hcall
  exact ⟨m, k', cf, i0, p0, hm', hk', by rw [he]; exact hcf, by rw [he]; exact hn, hsh, by rw [he]; exact hf, Lambda.isMade_warmer hW hmade, hcall'⟩
def KWl (G : Gt) (U : State) : Prop := LamAt G U lmX0 13 66 lmS0 "PromiseTries$Reader" 200 none ∧ LamAt G U lmX1 80 79 lmS1 "PromiseTries$Reader" 201 none ∧ LamAt G U lmX2 27 98 lmS2 "PromiseTries$Reader" 202 none ∧ LamAt G U lmX3 27 104 lmS3 "PromiseTries$Reader" 203 none ∧ LamAt G U lmX4 122 276 lmS4 "PromiseTries" 304 (gK G 2) ∧ LamAt G U lmX5 130 279 lmS5 "PromiseTries" 305 (gK G 3) ∧ LamAt G U lmX6 138 280 lmS6 "PromiseTries" 306 (gK G 4) ∧ gK G 2 ≠ none ∧ gK G 3 ≠ none ∧ gK G 4 ≠ none
theorem KWl.warm {G : Gt} {s U : State} (hW : s.WarmedH U.vm) (h : KWl G s) : KWl G U := ⟨h.1.warm hW, h.2.1.warm hW, h.2.2.1.warm hW, h.2.2.2.1.warm hW, h.2.2.2.2.1.warm hW, h.2.2.2.2.2.1.warm hW, h.2.2.2.2.2.2.1.warm hW, h.2.2.2.2.2.2.2⟩
def KW1 (G : Gt) (U : State) : Prop := KWn U ∧ KWa U ∧ KWk G U ∧ KWl G U
theorem KW1.warm {G : Gt} {s U : State} (hW : s.WarmedH U.vm) (h : KW1 G s) : KW1 G U := ⟨h.1.warm hW, h.2.1.warm hW, h.2.2.1.warm hW, h.2.2.2.warm hW⟩
/-- the interfaces' methods; the statics that Throwable's constructor reads -/
def KWi (G : Gt) (U : State) : Prop := va_Nw (.interfaceMethod "PromiseTries$Holds" "PromiseTries$Holds" "at" "(I)Z") U ∧ va_Nw (.interfaceMethod "PromiseTries$Cells" "PromiseTries$Cells" "at" "(Ljava/lang/Object;I)I") U ∧ vx_Zq Bundle.tN "UNASSIGNED_STACK" Bundle.steD (gA G) U (gH G) ∧ vx_Zq Bundle.tN "SUPPRESSED_SENTINEL" Bundle.listD (gA G) U (gH G)
theorem warmI {C n d : String} (hx : C ≠ "java/lang/invoke/MethodHandle" ∧ C ≠ "java/lang/invoke/VarHandle") {s U : State} (hW : s.WarmedH U.vm) (hd : va_Nw (.declares ⟨C, n, d⟩) s) (h : va_Nw (.interfaceMethod C C n d) s) : va_Nw (.interfaceMethod C C n d) U := by
  obtain ⟨r, meth, hn, -⟩ := Cond.declares_spec hd
  exact va_tabs rfl (rfl : (s.setVm U.vm).vm = U.vm) (by rw [Cond.interfaceMethod_setVm hW.alike (r := r) hn hx]; exact h)
theorem KWi.warm {G : Gt} {s U : State} (hW : s.WarmedH U.vm) (hn : KWn s) (h : KWi G s) : KWi G U := ⟨warmI (by decide) hW (hn _ nq413) h.1, warmI (by decide) hW (hn _ nq1069) h.2.1, vx_Zq.moved hW.alike h.2.2.1, vx_Zq.moved hW.alike h.2.2.2⟩
/-- what can't be cast -/
def ncs : List (String × String) := [("java/lang/ClassCastException", "java/lang/NullPointerException"), ("java/lang/ArrayIndexOutOfBoundsException", "java/lang/NullPointerException"), ("java/lang/ArrayIndexOutOfBoundsException", "java/lang/ClassCastException"), ("[B", "[C"), ("[B", "[I"), ("[C", "[B"), ("[C", "[I"), ("[I", "[B"), ("[I", "[C")]
def KWc (U : State) : Prop := ∀ q ∈ ncs, va_Nc q.1 q.2 U
theorem KWc.warm {s U : State} (hW : s.WarmedH U.vm) (h : KWc s) : KWc U := fun q hq => (h q hq).moved hW.alike
/-- the hypothesis of walks of the system -/
def XG (G : Gt) : Prop := ∀ U, gW G U → KW1 G U ∧ KWi G U ∧ KWc U
theorem XG.k {G : Gt} (h : XG G) {s : State} (hK : KK G s) : KW1 G s := (h s hK.2.1).1
theorem XG.i {G : Gt} (h : XG G) {s : State} (hK : KK G s) : KWi G s := (h s hK.2.1).2.1
theorem XG.c {G : Gt} (h : XG G) {s : State} (hK : KK G s) : KWc s := (h s hK.2.1).2.2
theorem XG.nw {G : Gt} (h : XG G) {s : State} (hK : KK G s) {w : Cond} (hw : w ∈ nws) : va_Nw w s := (h.k hK).1 w hw
