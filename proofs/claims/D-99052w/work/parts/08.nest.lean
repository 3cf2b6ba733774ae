/-! words that do not ride in lw_all (printed by tools/gen_nest.py) -/
set_option maxRecDepth 100000
def tb_nest : List Jvm.Cond := [(Jvm.Cond.methodLinkNest "TreesBeforeMen" (31 : Nat) ({ cls := "TreesBeforeMen$Plain", name := "<init>", desc := "(LTreesBeforeMen;)V" } : Jvm.MethodName) "TreesBeforeMen"),
  (Jvm.Cond.methodLinkNest "TreesBeforeMen$Plain" (7 : Nat) ({ cls := "TreesBeforeMen$Kind", name := "<init>", desc := "(LTreesBeforeMen;)V" } : Jvm.MethodName) "TreesBeforeMen"),
  (Jvm.Cond.methodLinkNest "TreesBeforeMen" (36 : Nat) ({ cls := "TreesBeforeMen$Forced", name := "<init>", desc := "(LTreesBeforeMen;)V" } : Jvm.MethodName) "TreesBeforeMen"),
  (Jvm.Cond.methodLinkNest "TreesBeforeMen$Forced" (7 : Nat) ({ cls := "TreesBeforeMen$Kind", name := "<init>", desc := "(LTreesBeforeMen;)V" } : Jvm.MethodName) "TreesBeforeMen"),
  (Jvm.Cond.methodLinkNest "TreesBeforeMen" (39 : Nat) ({ cls := "TreesBeforeMen$Asleep", name := "<init>", desc := "(LTreesBeforeMen;)V" } : Jvm.MethodName) "TreesBeforeMen"),
  (Jvm.Cond.methodLinkNest "TreesBeforeMen$Asleep" (7 : Nat) ({ cls := "TreesBeforeMen$Kind", name := "<init>", desc := "(LTreesBeforeMen;)V" } : Jvm.MethodName) "TreesBeforeMen"),
  (Jvm.Cond.methodLinkNest "TreesBeforeMen" (42 : Nat) ({ cls := "TreesBeforeMen$Friend", name := "<init>", desc := "(LTreesBeforeMen;)V" } : Jvm.MethodName) "TreesBeforeMen"),
  (Jvm.Cond.methodLinkNest "TreesBeforeMen$Friend" (7 : Nat) ({ cls := "TreesBeforeMen$Plain", name := "<init>", desc := "(LTreesBeforeMen;)V" } : Jvm.MethodName) "TreesBeforeMen"),
  (Jvm.Cond.methodLinkNest "TreesBeforeMen" (45 : Nat) ({ cls := "TreesBeforeMen$Botanist", name := "<init>", desc := "(LTreesBeforeMen;)V" } : Jvm.MethodName) "TreesBeforeMen"),
  (Jvm.Cond.methodLinkNest "TreesBeforeMen$Botanist" (7 : Nat) ({ cls := "TreesBeforeMen$Plain", name := "<init>", desc := "(LTreesBeforeMen;)V" } : Jvm.MethodName) "TreesBeforeMen"),
  (Jvm.Cond.methodLinkNest "TreesBeforeMen" (48 : Nat) ({ cls := "TreesBeforeMen$Voyage", name := "<init>", desc := "()V" } : Jvm.MethodName) "TreesBeforeMen"),
  (Jvm.Cond.fieldLinkNest "TreesBeforeMen$Page" (29 : Nat) "TreesBeforeMen" "now" "LTreesBeforeMen$Voyage;" "TreesBeforeMen"),
  (Jvm.Cond.fieldLinkNest "TreesBeforeMen$Plain" (19 : Nat) "TreesBeforeMen" "temper" "[I" "TreesBeforeMen"),
  (Jvm.Cond.fieldLinkNest "TreesBeforeMen$Kind" (13 : Nat) "TreesBeforeMen" "need" "[I" "TreesBeforeMen"),
  (Jvm.Cond.fieldLinkNest "TreesBeforeMen$Page" (20 : Nat) "TreesBeforeMen" "came" "I" "TreesBeforeMen"),
  (Jvm.Cond.castable "TreesBeforeMen$Fault" "TreesBeforeMen$Fault"),
  (Jvm.Cond.declares ({ cls := "java/lang/Exception", name := "<init>", desc := "()V" } : Jvm.MethodName)),
  (Jvm.Cond.declares ({ cls := "java/lang/Exception", name := "<init>", desc := "(Ljava/lang/String;)V" } : Jvm.MethodName)),
  (Jvm.Cond.declares ({ cls := "java/lang/Throwable", name := "<init>", desc := "()V" } : Jvm.MethodName)),
  (Jvm.Cond.declares ({ cls := "java/lang/Throwable", name := "<init>", desc := "(Ljava/lang/String;)V" } : Jvm.MethodName)),
  (Jvm.Cond.fieldLinkNest "TreesBeforeMen" (166 : Nat) "TreesBeforeMen$Fault" "at" "I" "TreesBeforeMen"),
  (Jvm.Cond.methodLinkNest "TreesBeforeMen$Words" (44 : Nat) ({ cls := "TreesBeforeMen", name := "in", desc := "(JJJ)Z" } : Jvm.MethodName) "TreesBeforeMen"),
  (Jvm.Cond.castable "[B" "java/lang/Cloneable"),
  (Jvm.Cond.declares ({ cls := "TreesBeforeMen$Words", name := "passes", desc := "(C)Z" } : Jvm.MethodName)),
  (Jvm.Cond.declares ({ cls := "TreesBeforeMen$Words", name := "here", desc := "()I" } : Jvm.MethodName)),
  (Jvm.Cond.declares ({ cls := "TreesBeforeMen$Words", name := "need", desc := "(Z)V" } : Jvm.MethodName)),
  (Jvm.Cond.methodLinkNest "TreesBeforeMen$Rule" (61 : Nat) ({ cls := "TreesBeforeMen", name := "in", desc := "(JJJ)Z" } : Jvm.MethodName) "TreesBeforeMen"),
  (Jvm.Cond.declares ({ cls := "TreesBeforeMen$Words", name := "number", desc := "(I)I" } : Jvm.MethodName)),
  (Jvm.Cond.methodLinkNest "TreesBeforeMen$Rule" (86 : Nat) ({ cls := "TreesBeforeMen", name := "skyOf", desc := "(I)I" } : Jvm.MethodName) "TreesBeforeMen"),
  (Jvm.Cond.declares ({ cls := "TreesBeforeMen$Words", name := "needEnd", desc := "()V" } : Jvm.MethodName)),
  (Jvm.Cond.castable "java/lang/NegativeArraySizeException" "java/lang/NegativeArraySizeException"),
  (Jvm.Cond.declares ({ cls := "java/lang/RuntimeException", name := "<init>", desc := "()V" } : Jvm.MethodName)),
  (Jvm.Cond.declares ({ cls := "java/lang/RuntimeException", name := "<init>", desc := "(Ljava/lang/String;)V" } : Jvm.MethodName)),
  (Jvm.Cond.declares ({ cls := "TreesBeforeMen$Kind", name := "doesRise", desc := "(LTreesBeforeMen$Voyage;II)Z" } : Jvm.MethodName)),
  (Jvm.Cond.declares ({ cls := "TreesBeforeMen$Kind", name := "isDrawn", desc := "(II)Z" } : Jvm.MethodName)),
  (Jvm.Cond.declares ({ cls := "TreesBeforeMen$Words", name := "one", desc := "(CI)I" } : Jvm.MethodName)),
  (Jvm.Cond.methodLinkNest "TreesBeforeMen$Page" (15 : Nat) ({ cls := "TreesBeforeMen$Voyage", name := "<init>", desc := "()V" } : Jvm.MethodName) "TreesBeforeMen"),
  (Jvm.Cond.fieldLinkNest "TreesBeforeMen" (483 : Nat) "TreesBeforeMen$Page" "was" "LTreesBeforeMen$Voyage;" "TreesBeforeMen"),
  (Jvm.Cond.fieldLinkNest "TreesBeforeMen" (480 : Nat) "TreesBeforeMen$Page" "since" "I" "TreesBeforeMen"),
  (Jvm.Cond.castable "java/util/NoSuchElementException" "java/util/NoSuchElementException"),
  (Jvm.Cond.castable "TreesBeforeMen" "java/lang/Object"),
  (Jvm.Cond.castable "TreesBeforeMen$Plain" "java/lang/Object"),
  (Jvm.Cond.castable "TreesBeforeMen$Forced" "java/lang/Object"),
  (Jvm.Cond.castable "TreesBeforeMen$Asleep" "java/lang/Object"),
  (Jvm.Cond.castable "TreesBeforeMen$Friend" "java/lang/Object"),
  (Jvm.Cond.castable "TreesBeforeMen$Botanist" "java/lang/Object"),
  (Jvm.Cond.castable "TreesBeforeMen$Voyage" "java/lang/Object"),
  (Jvm.Cond.castable "TreesBeforeMenModel" "java/lang/Object"),
  (Jvm.Cond.castable "TreesBeforeMen$Words" "java/lang/Object"),
  (Jvm.Cond.castable "TreesBeforeMen$Fault" "java/lang/Object"),
  (Jvm.Cond.castable "TreesBeforeMen$Rule" "java/lang/Object"),
  (Jvm.Cond.castable "java/util/NoSuchElementException" "java/lang/Object"),
  (Jvm.Cond.castable "java/lang/NegativeArraySizeException" "java/lang/Object"),
  (Jvm.Cond.castable "TreesBeforeMen$Order" "java/lang/Object"),
  (Jvm.Cond.castable "TreesBeforeMen$Page" "java/lang/Object"),
  (Jvm.Cond.castable "java/lang/Throwable" "java/lang/Object"),
  (Jvm.Cond.castable "java/lang/String" "java/lang/Object")]
theorem tbn129 : (Jvm.Cond.methodLinkNest "TreesBeforeMen" (31 : Nat) ({ cls := "TreesBeforeMen$Plain", name := "<init>", desc := "(LTreesBeforeMen;)V" } : Jvm.MethodName) "TreesBeforeMen") ∈ tb_nest := List.mem_of_getElem? (i := 0) rfl
theorem tbn132 : (Jvm.Cond.methodLinkNest "TreesBeforeMen$Plain" (7 : Nat) ({ cls := "TreesBeforeMen$Kind", name := "<init>", desc := "(LTreesBeforeMen;)V" } : Jvm.MethodName) "TreesBeforeMen") ∈ tb_nest := List.mem_of_getElem? (i := 1) rfl
theorem tbn145 : (Jvm.Cond.methodLinkNest "TreesBeforeMen" (36 : Nat) ({ cls := "TreesBeforeMen$Forced", name := "<init>", desc := "(LTreesBeforeMen;)V" } : Jvm.MethodName) "TreesBeforeMen") ∈ tb_nest := List.mem_of_getElem? (i := 2) rfl
theorem tbn148 : (Jvm.Cond.methodLinkNest "TreesBeforeMen$Forced" (7 : Nat) ({ cls := "TreesBeforeMen$Kind", name := "<init>", desc := "(LTreesBeforeMen;)V" } : Jvm.MethodName) "TreesBeforeMen") ∈ tb_nest := List.mem_of_getElem? (i := 3) rfl
theorem tbn156 : (Jvm.Cond.methodLinkNest "TreesBeforeMen" (39 : Nat) ({ cls := "TreesBeforeMen$Asleep", name := "<init>", desc := "(LTreesBeforeMen;)V" } : Jvm.MethodName) "TreesBeforeMen") ∈ tb_nest := List.mem_of_getElem? (i := 4) rfl
theorem tbn159 : (Jvm.Cond.methodLinkNest "TreesBeforeMen$Asleep" (7 : Nat) ({ cls := "TreesBeforeMen$Kind", name := "<init>", desc := "(LTreesBeforeMen;)V" } : Jvm.MethodName) "TreesBeforeMen") ∈ tb_nest := List.mem_of_getElem? (i := 5) rfl
theorem tbn167 : (Jvm.Cond.methodLinkNest "TreesBeforeMen" (42 : Nat) ({ cls := "TreesBeforeMen$Friend", name := "<init>", desc := "(LTreesBeforeMen;)V" } : Jvm.MethodName) "TreesBeforeMen") ∈ tb_nest := List.mem_of_getElem? (i := 6) rfl
theorem tbn170 : (Jvm.Cond.methodLinkNest "TreesBeforeMen$Friend" (7 : Nat) ({ cls := "TreesBeforeMen$Plain", name := "<init>", desc := "(LTreesBeforeMen;)V" } : Jvm.MethodName) "TreesBeforeMen") ∈ tb_nest := List.mem_of_getElem? (i := 7) rfl
theorem tbn179 : (Jvm.Cond.methodLinkNest "TreesBeforeMen" (45 : Nat) ({ cls := "TreesBeforeMen$Botanist", name := "<init>", desc := "(LTreesBeforeMen;)V" } : Jvm.MethodName) "TreesBeforeMen") ∈ tb_nest := List.mem_of_getElem? (i := 8) rfl
theorem tbn182 : (Jvm.Cond.methodLinkNest "TreesBeforeMen$Botanist" (7 : Nat) ({ cls := "TreesBeforeMen$Plain", name := "<init>", desc := "(LTreesBeforeMen;)V" } : Jvm.MethodName) "TreesBeforeMen") ∈ tb_nest := List.mem_of_getElem? (i := 9) rfl
theorem tbn191 : (Jvm.Cond.methodLinkNest "TreesBeforeMen" (48 : Nat) ({ cls := "TreesBeforeMen$Voyage", name := "<init>", desc := "()V" } : Jvm.MethodName) "TreesBeforeMen") ∈ tb_nest := List.mem_of_getElem? (i := 10) rfl
theorem tbn237 : (Jvm.Cond.fieldLinkNest "TreesBeforeMen$Page" (29 : Nat) "TreesBeforeMen" "now" "LTreesBeforeMen$Voyage;" "TreesBeforeMen") ∈ tb_nest := List.mem_of_getElem? (i := 11) rfl
theorem tbn244 : (Jvm.Cond.fieldLinkNest "TreesBeforeMen$Plain" (19 : Nat) "TreesBeforeMen" "temper" "[I" "TreesBeforeMen") ∈ tb_nest := List.mem_of_getElem? (i := 12) rfl
theorem tbn246 : (Jvm.Cond.fieldLinkNest "TreesBeforeMen$Kind" (13 : Nat) "TreesBeforeMen" "need" "[I" "TreesBeforeMen") ∈ tb_nest := List.mem_of_getElem? (i := 13) rfl
theorem tbn256 : (Jvm.Cond.fieldLinkNest "TreesBeforeMen$Page" (20 : Nat) "TreesBeforeMen" "came" "I" "TreesBeforeMen") ∈ tb_nest := List.mem_of_getElem? (i := 14) rfl
theorem tbn420 : (Jvm.Cond.castable "TreesBeforeMen$Fault" "TreesBeforeMen$Fault") ∈ tb_nest := List.mem_of_getElem? (i := 15) rfl
theorem tbn421 : (Jvm.Cond.declares ({ cls := "java/lang/Exception", name := "<init>", desc := "()V" } : Jvm.MethodName)) ∈ tb_nest := List.mem_of_getElem? (i := 16) rfl
theorem tbn422 : (Jvm.Cond.declares ({ cls := "java/lang/Exception", name := "<init>", desc := "(Ljava/lang/String;)V" } : Jvm.MethodName)) ∈ tb_nest := List.mem_of_getElem? (i := 17) rfl
theorem tbn423 : (Jvm.Cond.declares ({ cls := "java/lang/Throwable", name := "<init>", desc := "()V" } : Jvm.MethodName)) ∈ tb_nest := List.mem_of_getElem? (i := 18) rfl
theorem tbn424 : (Jvm.Cond.declares ({ cls := "java/lang/Throwable", name := "<init>", desc := "(Ljava/lang/String;)V" } : Jvm.MethodName)) ∈ tb_nest := List.mem_of_getElem? (i := 19) rfl
theorem tbn465 : (Jvm.Cond.fieldLinkNest "TreesBeforeMen" (166 : Nat) "TreesBeforeMen$Fault" "at" "I" "TreesBeforeMen") ∈ tb_nest := List.mem_of_getElem? (i := 20) rfl
theorem tbn495 : (Jvm.Cond.methodLinkNest "TreesBeforeMen$Words" (44 : Nat) ({ cls := "TreesBeforeMen", name := "in", desc := "(JJJ)Z" } : Jvm.MethodName) "TreesBeforeMen") ∈ tb_nest := List.mem_of_getElem? (i := 21) rfl
theorem tbn542 : (Jvm.Cond.castable "[B" "java/lang/Cloneable") ∈ tb_nest := List.mem_of_getElem? (i := 22) rfl
theorem tbn586 : (Jvm.Cond.declares ({ cls := "TreesBeforeMen$Words", name := "passes", desc := "(C)Z" } : Jvm.MethodName)) ∈ tb_nest := List.mem_of_getElem? (i := 23) rfl
theorem tbn590 : (Jvm.Cond.declares ({ cls := "TreesBeforeMen$Words", name := "here", desc := "()I" } : Jvm.MethodName)) ∈ tb_nest := List.mem_of_getElem? (i := 24) rfl
theorem tbn594 : (Jvm.Cond.declares ({ cls := "TreesBeforeMen$Words", name := "need", desc := "(Z)V" } : Jvm.MethodName)) ∈ tb_nest := List.mem_of_getElem? (i := 25) rfl
theorem tbn598 : (Jvm.Cond.methodLinkNest "TreesBeforeMen$Rule" (61 : Nat) ({ cls := "TreesBeforeMen", name := "in", desc := "(JJJ)Z" } : Jvm.MethodName) "TreesBeforeMen") ∈ tb_nest := List.mem_of_getElem? (i := 26) rfl
theorem tbn601 : (Jvm.Cond.declares ({ cls := "TreesBeforeMen$Words", name := "number", desc := "(I)I" } : Jvm.MethodName)) ∈ tb_nest := List.mem_of_getElem? (i := 27) rfl
theorem tbn692 : (Jvm.Cond.methodLinkNest "TreesBeforeMen$Rule" (86 : Nat) ({ cls := "TreesBeforeMen", name := "skyOf", desc := "(I)I" } : Jvm.MethodName) "TreesBeforeMen") ∈ tb_nest := List.mem_of_getElem? (i := 28) rfl
theorem tbn698 : (Jvm.Cond.declares ({ cls := "TreesBeforeMen$Words", name := "needEnd", desc := "()V" } : Jvm.MethodName)) ∈ tb_nest := List.mem_of_getElem? (i := 29) rfl
theorem tbn741 : (Jvm.Cond.castable "java/lang/NegativeArraySizeException" "java/lang/NegativeArraySizeException") ∈ tb_nest := List.mem_of_getElem? (i := 30) rfl
theorem tbn742 : (Jvm.Cond.declares ({ cls := "java/lang/RuntimeException", name := "<init>", desc := "()V" } : Jvm.MethodName)) ∈ tb_nest := List.mem_of_getElem? (i := 31) rfl
theorem tbn743 : (Jvm.Cond.declares ({ cls := "java/lang/RuntimeException", name := "<init>", desc := "(Ljava/lang/String;)V" } : Jvm.MethodName)) ∈ tb_nest := List.mem_of_getElem? (i := 32) rfl
theorem tbn831 : (Jvm.Cond.declares ({ cls := "TreesBeforeMen$Kind", name := "doesRise", desc := "(LTreesBeforeMen$Voyage;II)Z" } : Jvm.MethodName)) ∈ tb_nest := List.mem_of_getElem? (i := 33) rfl
theorem tbn844 : (Jvm.Cond.declares ({ cls := "TreesBeforeMen$Kind", name := "isDrawn", desc := "(II)Z" } : Jvm.MethodName)) ∈ tb_nest := List.mem_of_getElem? (i := 34) rfl
theorem tbn963 : (Jvm.Cond.declares ({ cls := "TreesBeforeMen$Words", name := "one", desc := "(CI)I" } : Jvm.MethodName)) ∈ tb_nest := List.mem_of_getElem? (i := 35) rfl
theorem tbn1162 : (Jvm.Cond.methodLinkNest "TreesBeforeMen$Page" (15 : Nat) ({ cls := "TreesBeforeMen$Voyage", name := "<init>", desc := "()V" } : Jvm.MethodName) "TreesBeforeMen") ∈ tb_nest := List.mem_of_getElem? (i := 36) rfl
theorem tbn1165 : (Jvm.Cond.fieldLinkNest "TreesBeforeMen" (483 : Nat) "TreesBeforeMen$Page" "was" "LTreesBeforeMen$Voyage;" "TreesBeforeMen") ∈ tb_nest := List.mem_of_getElem? (i := 37) rfl
theorem tbn1167 : (Jvm.Cond.fieldLinkNest "TreesBeforeMen" (480 : Nat) "TreesBeforeMen$Page" "since" "I" "TreesBeforeMen") ∈ tb_nest := List.mem_of_getElem? (i := 38) rfl
theorem tbn1194 : (Jvm.Cond.castable "java/util/NoSuchElementException" "java/util/NoSuchElementException") ∈ tb_nest := List.mem_of_getElem? (i := 39) rfl
theorem tbn1880 : (Jvm.Cond.castable "TreesBeforeMen" "java/lang/Object") ∈ tb_nest := List.mem_of_getElem? (i := 40) rfl
theorem tbn1881 : (Jvm.Cond.castable "TreesBeforeMen$Plain" "java/lang/Object") ∈ tb_nest := List.mem_of_getElem? (i := 41) rfl
theorem tbn1882 : (Jvm.Cond.castable "TreesBeforeMen$Forced" "java/lang/Object") ∈ tb_nest := List.mem_of_getElem? (i := 42) rfl
theorem tbn1883 : (Jvm.Cond.castable "TreesBeforeMen$Asleep" "java/lang/Object") ∈ tb_nest := List.mem_of_getElem? (i := 43) rfl
theorem tbn1884 : (Jvm.Cond.castable "TreesBeforeMen$Friend" "java/lang/Object") ∈ tb_nest := List.mem_of_getElem? (i := 44) rfl
theorem tbn1885 : (Jvm.Cond.castable "TreesBeforeMen$Botanist" "java/lang/Object") ∈ tb_nest := List.mem_of_getElem? (i := 45) rfl
theorem tbn1886 : (Jvm.Cond.castable "TreesBeforeMen$Voyage" "java/lang/Object") ∈ tb_nest := List.mem_of_getElem? (i := 46) rfl
theorem tbn1887 : (Jvm.Cond.castable "TreesBeforeMenModel" "java/lang/Object") ∈ tb_nest := List.mem_of_getElem? (i := 47) rfl
theorem tbn1888 : (Jvm.Cond.castable "TreesBeforeMen$Words" "java/lang/Object") ∈ tb_nest := List.mem_of_getElem? (i := 48) rfl
theorem tbn1889 : (Jvm.Cond.castable "TreesBeforeMen$Fault" "java/lang/Object") ∈ tb_nest := List.mem_of_getElem? (i := 49) rfl
theorem tbn1890 : (Jvm.Cond.castable "TreesBeforeMen$Rule" "java/lang/Object") ∈ tb_nest := List.mem_of_getElem? (i := 50) rfl
theorem tbn1891 : (Jvm.Cond.castable "java/util/NoSuchElementException" "java/lang/Object") ∈ tb_nest := List.mem_of_getElem? (i := 51) rfl
theorem tbn1892 : (Jvm.Cond.castable "java/lang/NegativeArraySizeException" "java/lang/Object") ∈ tb_nest := List.mem_of_getElem? (i := 52) rfl
theorem tbn1893 : (Jvm.Cond.castable "TreesBeforeMen$Order" "java/lang/Object") ∈ tb_nest := List.mem_of_getElem? (i := 53) rfl
theorem tbn1894 : (Jvm.Cond.castable "TreesBeforeMen$Page" "java/lang/Object") ∈ tb_nest := List.mem_of_getElem? (i := 54) rfl
theorem tbn1895 : (Jvm.Cond.castable "java/lang/Throwable" "java/lang/Object") ∈ tb_nest := List.mem_of_getElem? (i := 55) rfl
theorem tbn1896 : (Jvm.Cond.castable "java/lang/String" "java/lang/Object") ∈ tb_nest := List.mem_of_getElem? (i := 56) rfl
theorem tb_nest_moved {s U : State} (hW : s.WarmedH U.vm) (h : ∀ w ∈ tb_nest, va_Nw w s) : ∀ w ∈ tb_nest, va_Nw w U := by
  have g : ∀ w ∈ tb_nest, va_Nw w s → va_Nw w U := by
    unfold tb_nest
    refine List.forall_mem_cons.mpr ⟨fun h => va_Nw.warmM hW h, List.forall_mem_cons.mpr ⟨fun h => va_Nw.warmM hW h, List.forall_mem_cons.mpr ⟨fun h => va_Nw.warmM hW h, List.forall_mem_cons.mpr ⟨fun h => va_Nw.warmM hW h, List.forall_mem_cons.mpr ⟨fun h => va_Nw.warmM hW h, List.forall_mem_cons.mpr ⟨fun h => va_Nw.warmM hW h, List.forall_mem_cons.mpr ⟨fun h => va_Nw.warmM hW h, List.forall_mem_cons.mpr ⟨fun h => va_Nw.warmM hW h, List.forall_mem_cons.mpr ⟨fun h => va_Nw.warmM hW h, List.forall_mem_cons.mpr ⟨fun h => va_Nw.warmM hW h, List.forall_mem_cons.mpr ⟨fun h => va_Nw.warmM hW h, List.forall_mem_cons.mpr ⟨fun h => va_Nw.warmF hW h, List.forall_mem_cons.mpr ⟨fun h => va_Nw.warmF hW h, List.forall_mem_cons.mpr ⟨fun h => va_Nw.warmF hW h, List.forall_mem_cons.mpr ⟨fun h => va_Nw.warmF hW h, List.forall_mem_cons.mpr ⟨fun h => va_Nw.warmC hW h, List.forall_mem_cons.mpr ⟨fun h => va_Nw.warmD hW h, List.forall_mem_cons.mpr ⟨fun h => va_Nw.warmD hW h, List.forall_mem_cons.mpr ⟨fun h => va_Nw.warmD hW h, List.forall_mem_cons.mpr ⟨fun h => va_Nw.warmD hW h, List.forall_mem_cons.mpr ⟨fun h => va_Nw.warmF hW h, List.forall_mem_cons.mpr ⟨fun h => va_Nw.warmM hW h, List.forall_mem_cons.mpr ⟨fun h => va_Nw.warmC hW h, List.forall_mem_cons.mpr ⟨fun h => va_Nw.warmD hW h, List.forall_mem_cons.mpr ⟨fun h => va_Nw.warmD hW h, List.forall_mem_cons.mpr ⟨fun h => va_Nw.warmD hW h, List.forall_mem_cons.mpr ⟨fun h => va_Nw.warmM hW h, List.forall_mem_cons.mpr ⟨fun h => va_Nw.warmD hW h, List.forall_mem_cons.mpr ⟨fun h => va_Nw.warmM hW h, List.forall_mem_cons.mpr ⟨fun h => va_Nw.warmD hW h, List.forall_mem_cons.mpr ⟨fun h => va_Nw.warmC hW h, List.forall_mem_cons.mpr ⟨fun h => va_Nw.warmD hW h, List.forall_mem_cons.mpr ⟨fun h => va_Nw.warmD hW h, List.forall_mem_cons.mpr ⟨fun h => va_Nw.warmD hW h, List.forall_mem_cons.mpr ⟨fun h => va_Nw.warmD hW h, List.forall_mem_cons.mpr ⟨fun h => va_Nw.warmD hW h, List.forall_mem_cons.mpr ⟨fun h => va_Nw.warmM hW h, List.forall_mem_cons.mpr ⟨fun h => va_Nw.warmF hW h, List.forall_mem_cons.mpr ⟨fun h => va_Nw.warmF hW h, List.forall_mem_cons.mpr ⟨fun h => va_Nw.warmC hW h, List.forall_mem_cons.mpr ⟨fun h => va_Nw.warmC hW h, List.forall_mem_cons.mpr ⟨fun h => va_Nw.warmC hW h, List.forall_mem_cons.mpr ⟨fun h => va_Nw.warmC hW h, List.forall_mem_cons.mpr ⟨fun h => va_Nw.warmC hW h, List.forall_mem_cons.mpr ⟨fun h => va_Nw.warmC hW h, List.forall_mem_cons.mpr ⟨fun h => va_Nw.warmC hW h, List.forall_mem_cons.mpr ⟨fun h => va_Nw.warmC hW h, List.forall_mem_cons.mpr ⟨fun h => va_Nw.warmC hW h, List.forall_mem_cons.mpr ⟨fun h => va_Nw.warmC hW h, List.forall_mem_cons.mpr ⟨fun h => va_Nw.warmC hW h, List.forall_mem_cons.mpr ⟨fun h => va_Nw.warmC hW h, List.forall_mem_cons.mpr ⟨fun h => va_Nw.warmC hW h, List.forall_mem_cons.mpr ⟨fun h => va_Nw.warmC hW h, List.forall_mem_cons.mpr ⟨fun h => va_Nw.warmC hW h, List.forall_mem_cons.mpr ⟨fun h => va_Nw.warmC hW h, List.forall_mem_cons.mpr ⟨fun h => va_Nw.warmC hW h, List.forall_mem_cons.mpr ⟨fun h => va_Nw.warmC hW h, fun _ h => absurd h List.not_mem_nil⟩⟩⟩⟩⟩⟩⟩⟩⟩⟩⟩⟩⟩⟩⟩⟩⟩⟩⟩⟩⟩⟩⟩⟩⟩⟩⟩⟩⟩⟩⟩⟩⟩⟩⟩⟩⟩⟩⟩⟩⟩⟩⟩⟩⟩⟩⟩⟩⟩⟩⟩⟩⟩⟩⟩⟩⟩
  exact fun w hw => g w hw (h w hw)
theorem tb_nest_of {s : State} {A : Array Value} (h : ∀ w ∈ lw_tbl, w.before A s = true) : ∀ w ∈ tb_nest, va_Nw w s := by
  unfold tb_nest
  exact List.forall_mem_cons.mpr ⟨va_Nw.of rfl (h _ q129), List.forall_mem_cons.mpr ⟨va_Nw.of rfl (h _ q132), List.forall_mem_cons.mpr ⟨va_Nw.of rfl (h _ q145), List.forall_mem_cons.mpr ⟨va_Nw.of rfl (h _ q148), List.forall_mem_cons.mpr ⟨va_Nw.of rfl (h _ q156), List.forall_mem_cons.mpr ⟨va_Nw.of rfl (h _ q159), List.forall_mem_cons.mpr ⟨va_Nw.of rfl (h _ q167), List.forall_mem_cons.mpr ⟨va_Nw.of rfl (h _ q170), List.forall_mem_cons.mpr ⟨va_Nw.of rfl (h _ q179), List.forall_mem_cons.mpr ⟨va_Nw.of rfl (h _ q182), List.forall_mem_cons.mpr ⟨va_Nw.of rfl (h _ q191), List.forall_mem_cons.mpr ⟨va_Nw.of rfl (h _ q237), List.forall_mem_cons.mpr ⟨va_Nw.of rfl (h _ q244), List.forall_mem_cons.mpr ⟨va_Nw.of rfl (h _ q246), List.forall_mem_cons.mpr ⟨va_Nw.of rfl (h _ q256), List.forall_mem_cons.mpr ⟨va_Nw.of rfl (h _ q420), List.forall_mem_cons.mpr ⟨va_Nw.of rfl (h _ q421), List.forall_mem_cons.mpr ⟨va_Nw.of rfl (h _ q422), List.forall_mem_cons.mpr ⟨va_Nw.of rfl (h _ q423), List.forall_mem_cons.mpr ⟨va_Nw.of rfl (h _ q424), List.forall_mem_cons.mpr ⟨va_Nw.of rfl (h _ q465), List.forall_mem_cons.mpr ⟨va_Nw.of rfl (h _ q495), List.forall_mem_cons.mpr ⟨va_Nw.of rfl (h _ q542), List.forall_mem_cons.mpr ⟨va_Nw.of rfl (h _ q586), List.forall_mem_cons.mpr ⟨va_Nw.of rfl (h _ q590), List.forall_mem_cons.mpr ⟨va_Nw.of rfl (h _ q594), List.forall_mem_cons.mpr ⟨va_Nw.of rfl (h _ q598), List.forall_mem_cons.mpr ⟨va_Nw.of rfl (h _ q601), List.forall_mem_cons.mpr ⟨va_Nw.of rfl (h _ q692), List.forall_mem_cons.mpr ⟨va_Nw.of rfl (h _ q698), List.forall_mem_cons.mpr ⟨va_Nw.of rfl (h _ q741), List.forall_mem_cons.mpr ⟨va_Nw.of rfl (h _ q742), List.forall_mem_cons.mpr ⟨va_Nw.of rfl (h _ q743), List.forall_mem_cons.mpr ⟨va_Nw.of rfl (h _ q831), List.forall_mem_cons.mpr ⟨va_Nw.of rfl (h _ q844), List.forall_mem_cons.mpr ⟨va_Nw.of rfl (h _ q963), List.forall_mem_cons.mpr ⟨va_Nw.of rfl (h _ q1162), List.forall_mem_cons.mpr ⟨va_Nw.of rfl (h _ q1165), List.forall_mem_cons.mpr ⟨va_Nw.of rfl (h _ q1167), List.forall_mem_cons.mpr ⟨va_Nw.of rfl (h _ q1194), List.forall_mem_cons.mpr ⟨va_Nw.of rfl (h _ q1880), List.forall_mem_cons.mpr ⟨va_Nw.of rfl (h _ q1881), List.forall_mem_cons.mpr ⟨va_Nw.of rfl (h _ q1882), List.forall_mem_cons.mpr ⟨va_Nw.of rfl (h _ q1883), List.forall_mem_cons.mpr ⟨va_Nw.of rfl (h _ q1884), List.forall_mem_cons.mpr ⟨va_Nw.of rfl (h _ q1885), List.forall_mem_cons.mpr ⟨va_Nw.of rfl (h _ q1886), List.forall_mem_cons.mpr ⟨va_Nw.of rfl (h _ q1887), List.forall_mem_cons.mpr ⟨va_Nw.of rfl (h _ q1888), List.forall_mem_cons.mpr ⟨va_Nw.of rfl (h _ q1889), List.forall_mem_cons.mpr ⟨va_Nw.of rfl (h _ q1890), List.forall_mem_cons.mpr ⟨va_Nw.of rfl (h _ q1891), List.forall_mem_cons.mpr ⟨va_Nw.of rfl (h _ q1892), List.forall_mem_cons.mpr ⟨va_Nw.of rfl (h _ q1893), List.forall_mem_cons.mpr ⟨va_Nw.of rfl (h _ q1894), List.forall_mem_cons.mpr ⟨va_Nw.of rfl (h _ q1895), List.forall_mem_cons.mpr ⟨va_Nw.of rfl (h _ q1896), fun _ h => absurd h List.not_mem_nil⟩⟩⟩⟩⟩⟩⟩⟩⟩⟩⟩⟩⟩⟩⟩⟩⟩⟩⟩⟩⟩⟩⟩⟩⟩⟩⟩⟩⟩⟩⟩⟩⟩⟩⟩⟩⟩⟩⟩⟩⟩⟩⟩⟩⟩⟩⟩⟩⟩⟩⟩⟩⟩⟩⟩⟩⟩
