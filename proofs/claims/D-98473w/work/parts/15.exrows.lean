/-! ROWS of what throws: gT, a thing thrown over the frame; contracts that return or throw (the thing thrown, its class, the world) -/
set_option maxRecDepth 100000
def excB : List Jvm.Cond := [
  Jvm.Cond.initialized "java/lang/Throwable",
  Jvm.Cond.declares ({ cls := "java/lang/Throwable", name := "<init>", desc := "()V" } : Jvm.MethodName),
  Jvm.Cond.declares ({ cls := "java/lang/Throwable", name := "<init>", desc := "(Ljava/lang/String;)V" } : Jvm.MethodName),
  Jvm.Cond.lays "java/lang/Throwable" "java/lang/Throwable" "cause" "Ljava/lang/Throwable;",
  Jvm.Cond.lays "java/lang/Throwable" "java/lang/Throwable" "stackTrace" "[Ljava/lang/StackTraceElement;",
  Jvm.Cond.lays "java/lang/Throwable" "java/lang/Throwable" "suppressedExceptions" "Ljava/util/List;",
  Jvm.Cond.lays "java/lang/Throwable" "java/lang/Throwable" "detailMessage" "Ljava/lang/String;",
  Jvm.Cond.lays "java/lang/Throwable" "java/lang/Throwable" "backtrace" "Ljava/lang/Object;",
  Jvm.Cond.fieldLink "java/lang/Throwable" (198 : Nat) "java/lang/Throwable" "backtrace" "Ljava/lang/Object;",
  Jvm.Cond.superclass "java/lang/Throwable" "java/lang/Object",
  Jvm.Cond.instanceMethod ({ cls := "java/lang/Throwable", name := "<init>", desc := "()V" } : Jvm.MethodName),
  Jvm.Cond.code ({ cls := "java/lang/Throwable", name := "<init>", desc := "()V" } : Jvm.MethodName) prog_40_method_1_code (1 : Nat) (Option.none : Option Jvm.ClassFile.FieldType),
  Jvm.Cond.methodLink "java/lang/Throwable" (1 : Nat) ({ cls := "java/lang/Object", name := "<init>", desc := "()V" } : Jvm.MethodName),
  Jvm.Cond.fieldLink "java/lang/Throwable" (13 : Nat) "java/lang/Throwable" "UNASSIGNED_STACK" "[Ljava/lang/StackTraceElement;",
  Jvm.Cond.laysStatic "java/lang/Throwable" "UNASSIGNED_STACK" "[Ljava/lang/StackTraceElement;",
  Jvm.Cond.fieldLink "java/lang/Throwable" (20 : Nat) "java/lang/Throwable" "SUPPRESSED_SENTINEL" "Ljava/util/List;",
  Jvm.Cond.laysStatic "java/lang/Throwable" "SUPPRESSED_SENTINEL" "Ljava/util/List;",
  Jvm.Cond.methodLink "java/lang/Throwable" (27 : Nat) ({ cls := "java/lang/Throwable", name := "fillInStackTrace", desc := "()Ljava/lang/Throwable;" } : Jvm.MethodName),
  Jvm.Cond.instanceMethod ({ cls := "java/lang/Throwable", name := "fillInStackTrace", desc := "()Ljava/lang/Throwable;" } : Jvm.MethodName),
  Jvm.Cond.sameMethod "java/lang/Throwable" "java/lang/Throwable" "fillInStackTrace" "()Ljava/lang/Throwable;",
  Jvm.Cond.codeSync ({ cls := "java/lang/Throwable", name := "fillInStackTrace", desc := "()Ljava/lang/Throwable;" } : Jvm.MethodName) prog_40_method_18_code (1 : Nat) (Option.some (Jvm.ClassFile.FieldType.object "java/lang/Throwable")),
  Jvm.Cond.methodLink "java/lang/Throwable" (202 : Nat) ({ cls := "java/lang/Throwable", name := "fillInStackTrace", desc := "(I)Ljava/lang/Throwable;" } : Jvm.MethodName),
  Jvm.Cond.privateMethod ({ cls := "java/lang/Throwable", name := "fillInStackTrace", desc := "(I)Ljava/lang/Throwable;" } : Jvm.MethodName),
  Jvm.Cond.instanceMethod ({ cls := "java/lang/Throwable", name := "fillInStackTrace", desc := "(I)Ljava/lang/Throwable;" } : Jvm.MethodName),
  Jvm.Cond.instantiable "java/lang/Throwable" (6 : Nat),
  Jvm.Cond.native ({ cls := "java/lang/Throwable", name := "fillInStackTrace", desc := "(I)Ljava/lang/Throwable;" } : Jvm.MethodName),
  Jvm.Cond.instanceMethod ({ cls := "java/lang/Throwable", name := "<init>", desc := "(Ljava/lang/String;)V" } : Jvm.MethodName),
  Jvm.Cond.code ({ cls := "java/lang/Throwable", name := "<init>", desc := "(Ljava/lang/String;)V" } : Jvm.MethodName) prog_40_method_2_code (2 : Nat) (Option.none : Option Jvm.ClassFile.FieldType),
  Jvm.Cond.fieldLink "java/lang/Throwable" (198 : Nat) "java/lang/Throwable" "backtrace" "Ljava/lang/Object;",
  Jvm.Cond.fieldLink "java/lang/Throwable" (31 : Nat) "java/lang/Throwable" "detailMessage" "Ljava/lang/String;",
  Jvm.Cond.fieldLink "java/lang/Throwable" (7 : Nat) "java/lang/Throwable" "cause" "Ljava/lang/Throwable;",
  Jvm.Cond.fieldLink "java/lang/Throwable" (17 : Nat) "java/lang/Throwable" "stackTrace" "[Ljava/lang/StackTraceElement;",
  Jvm.Cond.fieldLink "java/lang/Throwable" (24 : Nat) "java/lang/Throwable" "suppressedExceptions" "Ljava/util/List;",
  Jvm.Cond.soleField "java/lang/Throwable" "backtrace",
  Jvm.Cond.soleField "java/lang/Throwable" "detailMessage",
  Jvm.Cond.soleField "java/lang/Throwable" "cause",
  Jvm.Cond.soleField "java/lang/Throwable" "stackTrace",
  Jvm.Cond.soleField "java/lang/Throwable" "depth",
  Jvm.Cond.soleField "java/lang/Throwable" "suppressedExceptions",
  Jvm.Cond.sameMethod "java/lang/Throwable" "java/lang/Throwable" "fillInStackTrace" "(I)Ljava/lang/Throwable;",
  Jvm.Cond.castable "java/lang/Throwable" "java/lang/Object",
  Jvm.Cond.initialized "java/lang/Exception",
  Jvm.Cond.declares ({ cls := "java/lang/Exception", name := "<init>", desc := "()V" } : Jvm.MethodName),
  Jvm.Cond.declares ({ cls := "java/lang/Exception", name := "<init>", desc := "(Ljava/lang/String;)V" } : Jvm.MethodName),
  Jvm.Cond.instanceMethod ({ cls := "java/lang/Exception", name := "<init>", desc := "(Ljava/lang/String;)V" } : Jvm.MethodName),
  Jvm.Cond.code ({ cls := "java/lang/Exception", name := "<init>", desc := "(Ljava/lang/String;)V" } : Jvm.MethodName) prog_28_method_2_code (2 : Nat) (Option.none : Option Jvm.ClassFile.FieldType),
  Jvm.Cond.methodLink "java/lang/Exception" (7 : Nat) ({ cls := "java/lang/Throwable", name := "<init>", desc := "(Ljava/lang/String;)V" } : Jvm.MethodName),
  Jvm.Cond.instanceMethod ({ cls := "java/lang/Exception", name := "<init>", desc := "()V" } : Jvm.MethodName),
  Jvm.Cond.code ({ cls := "java/lang/Exception", name := "<init>", desc := "()V" } : Jvm.MethodName) prog_28_method_1_code (1 : Nat) (Option.none : Option Jvm.ClassFile.FieldType),
  Jvm.Cond.methodLink "java/lang/Exception" (1 : Nat) ({ cls := "java/lang/Throwable", name := "<init>", desc := "()V" } : Jvm.MethodName),
  Jvm.Cond.initialized "java/lang/RuntimeException",
  Jvm.Cond.declares ({ cls := "java/lang/RuntimeException", name := "<init>", desc := "()V" } : Jvm.MethodName),
  Jvm.Cond.declares ({ cls := "java/lang/RuntimeException", name := "<init>", desc := "(Ljava/lang/String;)V" } : Jvm.MethodName),
  Jvm.Cond.instanceMethod ({ cls := "java/lang/RuntimeException", name := "<init>", desc := "(Ljava/lang/String;)V" } : Jvm.MethodName),
  Jvm.Cond.code ({ cls := "java/lang/RuntimeException", name := "<init>", desc := "(Ljava/lang/String;)V" } : Jvm.MethodName) prog_34_method_2_code (2 : Nat) (Option.none : Option Jvm.ClassFile.FieldType),
  Jvm.Cond.methodLink "java/lang/RuntimeException" (7 : Nat) ({ cls := "java/lang/Exception", name := "<init>", desc := "(Ljava/lang/String;)V" } : Jvm.MethodName),
  Jvm.Cond.instanceMethod ({ cls := "java/lang/RuntimeException", name := "<init>", desc := "()V" } : Jvm.MethodName),
  Jvm.Cond.code ({ cls := "java/lang/RuntimeException", name := "<init>", desc := "()V" } : Jvm.MethodName) prog_34_method_1_code (1 : Nat) (Option.none : Option Jvm.ClassFile.FieldType),
  Jvm.Cond.methodLink "java/lang/RuntimeException" (1 : Nat) ({ cls := "java/lang/Exception", name := "<init>", desc := "()V" } : Jvm.MethodName),
  Jvm.Cond.initialized "java/lang/IllegalArgumentException",
  Jvm.Cond.instantiable "java/lang/IllegalArgumentException" (6 : Nat),
  Jvm.Cond.castable "java/lang/IllegalArgumentException" "java/lang/IllegalArgumentException",
  Jvm.Cond.selects "java/lang/IllegalArgumentException" ({ cls := "java/lang/Throwable", name := "fillInStackTrace", desc := "(I)Ljava/lang/Throwable;" } : Jvm.MethodName) ({ cls := "java/lang/Throwable", name := "fillInStackTrace", desc := "(I)Ljava/lang/Throwable;" } : Jvm.MethodName),
  Jvm.Cond.selects "java/lang/IllegalArgumentException" ({ cls := "java/lang/Throwable", name := "fillInStackTrace", desc := "()Ljava/lang/Throwable;" } : Jvm.MethodName) ({ cls := "java/lang/Throwable", name := "fillInStackTrace", desc := "()Ljava/lang/Throwable;" } : Jvm.MethodName),
  Jvm.Cond.lays "java/lang/IllegalArgumentException" "java/lang/Throwable" "cause" "Ljava/lang/Throwable;",
  Jvm.Cond.lays "java/lang/IllegalArgumentException" "java/lang/Throwable" "stackTrace" "[Ljava/lang/StackTraceElement;",
  Jvm.Cond.lays "java/lang/IllegalArgumentException" "java/lang/Throwable" "suppressedExceptions" "Ljava/util/List;",
  Jvm.Cond.lays "java/lang/IllegalArgumentException" "java/lang/Throwable" "detailMessage" "Ljava/lang/String;",
  Jvm.Cond.lays "java/lang/IllegalArgumentException" "java/lang/Throwable" "backtrace" "Ljava/lang/Object;",
  Jvm.Cond.instanceMethod ({ cls := "java/lang/IllegalArgumentException", name := "<init>", desc := "(Ljava/lang/String;)V" } : Jvm.MethodName),
  Jvm.Cond.code ({ cls := "java/lang/IllegalArgumentException", name := "<init>", desc := "(Ljava/lang/String;)V" } : Jvm.MethodName) prog_29_method_2_code (2 : Nat) (Option.none : Option Jvm.ClassFile.FieldType),
  Jvm.Cond.methodLink "java/lang/IllegalArgumentException" (7 : Nat) ({ cls := "java/lang/RuntimeException", name := "<init>", desc := "(Ljava/lang/String;)V" } : Jvm.MethodName),
  Jvm.Cond.lays "java/lang/IllegalArgumentException" "java/lang/Throwable" "depth" "I",
  Jvm.Cond.superclass "java/lang/IllegalArgumentException" "java/lang/RuntimeException",
  Jvm.Cond.selects "java/lang/IllegalArgumentException" ({ cls := "java/lang/Object", name := "getClass", desc := "()Ljava/lang/Class;" } : Jvm.MethodName) ({ cls := "java/lang/Object", name := "getClass", desc := "()Ljava/lang/Class;" } : Jvm.MethodName),
  Jvm.Cond.instanceMethod ({ cls := "java/lang/IllegalArgumentException", name := "<init>", desc := "()V" } : Jvm.MethodName),
  Jvm.Cond.code ({ cls := "java/lang/IllegalArgumentException", name := "<init>", desc := "()V" } : Jvm.MethodName) prog_29_method_1_code (1 : Nat) (Option.none : Option Jvm.ClassFile.FieldType),
  Jvm.Cond.methodLink "java/lang/IllegalArgumentException" (1 : Nat) ({ cls := "java/lang/RuntimeException", name := "<init>", desc := "()V" } : Jvm.MethodName),
  Jvm.Cond.castable "java/lang/IllegalArgumentException" "java/lang/Object",
  Jvm.Cond.initialized "java/util/NoSuchElementException",
  Jvm.Cond.selects "java/util/NoSuchElementException" ({ cls := "java/lang/Throwable", name := "fillInStackTrace", desc := "()Ljava/lang/Throwable;" } : Jvm.MethodName) ({ cls := "java/lang/Throwable", name := "fillInStackTrace", desc := "()Ljava/lang/Throwable;" } : Jvm.MethodName),
  Jvm.Cond.selects "java/util/NoSuchElementException" ({ cls := "java/lang/Object", name := "getClass", desc := "()Ljava/lang/Class;" } : Jvm.MethodName) ({ cls := "java/lang/Object", name := "getClass", desc := "()Ljava/lang/Class;" } : Jvm.MethodName),
  Jvm.Cond.instantiable "java/util/NoSuchElementException" (6 : Nat),
  Jvm.Cond.castable "java/util/NoSuchElementException" "java/util/NoSuchElementException",
  Jvm.Cond.selects "java/util/NoSuchElementException" ({ cls := "java/lang/Throwable", name := "fillInStackTrace", desc := "(I)Ljava/lang/Throwable;" } : Jvm.MethodName) ({ cls := "java/lang/Throwable", name := "fillInStackTrace", desc := "(I)Ljava/lang/Throwable;" } : Jvm.MethodName),
  Jvm.Cond.lays "java/util/NoSuchElementException" "java/lang/Throwable" "cause" "Ljava/lang/Throwable;",
  Jvm.Cond.lays "java/util/NoSuchElementException" "java/lang/Throwable" "stackTrace" "[Ljava/lang/StackTraceElement;",
  Jvm.Cond.lays "java/util/NoSuchElementException" "java/lang/Throwable" "suppressedExceptions" "Ljava/util/List;",
  Jvm.Cond.lays "java/util/NoSuchElementException" "java/lang/Throwable" "detailMessage" "Ljava/lang/String;",
  Jvm.Cond.lays "java/util/NoSuchElementException" "java/lang/Throwable" "backtrace" "Ljava/lang/Object;",
  Jvm.Cond.instanceMethod ({ cls := "java/util/NoSuchElementException", name := "<init>", desc := "()V" } : Jvm.MethodName),
  Jvm.Cond.code ({ cls := "java/util/NoSuchElementException", name := "<init>", desc := "()V" } : Jvm.MethodName) prog_49_method_1_code (1 : Nat) (Option.none : Option Jvm.ClassFile.FieldType),
  Jvm.Cond.methodLink "java/util/NoSuchElementException" (1 : Nat) ({ cls := "java/lang/RuntimeException", name := "<init>", desc := "()V" } : Jvm.MethodName),
  Jvm.Cond.lays "java/util/NoSuchElementException" "java/lang/Throwable" "depth" "I",
  Jvm.Cond.superclass "java/util/NoSuchElementException" "java/lang/RuntimeException",
  Jvm.Cond.castable "java/util/NoSuchElementException" "java/lang/Object",
  Jvm.Cond.instanceMethod ({ cls := "java/lang/Object", name := "<init>", desc := "()V" } : Jvm.MethodName),
  Jvm.Cond.code ({ cls := "java/lang/Object", name := "<init>", desc := "()V" } : Jvm.MethodName) object_method_1_code (1 : Nat) (Option.none : Option Jvm.ClassFile.FieldType),
  Jvm.Cond.native ({ cls := "java/lang/Object", name := "clone", desc := "()Ljava/lang/Object;" } : Jvm.MethodName),
  Jvm.Cond.instanceMethod ({ cls := "java/lang/Object", name := "clone", desc := "()Ljava/lang/Object;" } : Jvm.MethodName),
  Jvm.Cond.instanceMethod ({ cls := "java/lang/Object", name := "getClass", desc := "()Ljava/lang/Class;" } : Jvm.MethodName),
  Jvm.Cond.sameMethod "java/lang/Object" "java/lang/Object" "getClass" "()Ljava/lang/Class;",
  Jvm.Cond.native ({ cls := "java/lang/Object", name := "getClass", desc := "()Ljava/lang/Class;" } : Jvm.MethodName),
  Jvm.Cond.initialized "java/lang/Object",
  Jvm.Cond.declares ({ cls := "java/lang/Object", name := "getClass", desc := "()Ljava/lang/Class;" } : Jvm.MethodName),
  Jvm.Cond.classLink "ApartBench" (61 : Nat) "java/lang/IllegalArgumentException",
  Jvm.Cond.methodLink "ApartBench" (63 : Nat) ({ cls := "java/lang/IllegalArgumentException", name := "<init>", desc := "()V" } : Jvm.MethodName),
  Jvm.Cond.classLink "ApartBench" (64 : Nat) "java/util/NoSuchElementException",
  Jvm.Cond.methodLink "ApartBench" (66 : Nat) ({ cls := "java/util/NoSuchElementException", name := "<init>", desc := "()V" } : Jvm.MethodName)]
theorem excB_tbl : ∀ w ∈ excB, w ∈ lw_tbl := List.forall_mem_cons.mpr ⟨lw_all_tbl q111, List.forall_mem_cons.mpr ⟨q184, List.forall_mem_cons.mpr ⟨q185, List.forall_mem_cons.mpr ⟨lw_all_tbl q189, List.forall_mem_cons.mpr ⟨lw_all_tbl q191, List.forall_mem_cons.mpr ⟨lw_all_tbl q193, List.forall_mem_cons.mpr ⟨lw_all_tbl q195, List.forall_mem_cons.mpr ⟨lw_all_tbl q197, List.forall_mem_cons.mpr ⟨lw_all_tbl q198, List.forall_mem_cons.mpr ⟨lw_all_tbl q199, List.forall_mem_cons.mpr ⟨lw_all_tbl q200, List.forall_mem_cons.mpr ⟨lw_all_tbl q201, List.forall_mem_cons.mpr ⟨lw_all_tbl q202, List.forall_mem_cons.mpr ⟨lw_all_tbl q203, List.forall_mem_cons.mpr ⟨q204, List.forall_mem_cons.mpr ⟨lw_all_tbl q205, List.forall_mem_cons.mpr ⟨q206, List.forall_mem_cons.mpr ⟨lw_all_tbl q207, List.forall_mem_cons.mpr ⟨lw_all_tbl q208, List.forall_mem_cons.mpr ⟨lw_all_tbl q209, List.forall_mem_cons.mpr ⟨lw_all_tbl q212, List.forall_mem_cons.mpr ⟨lw_all_tbl q213, List.forall_mem_cons.mpr ⟨q214, List.forall_mem_cons.mpr ⟨lw_all_tbl q215, List.forall_mem_cons.mpr ⟨lw_all_tbl q216, List.forall_mem_cons.mpr ⟨lw_all_tbl q217, List.forall_mem_cons.mpr ⟨lw_all_tbl q450, List.forall_mem_cons.mpr ⟨lw_all_tbl q451, List.forall_mem_cons.mpr ⟨lw_all_tbl q452, List.forall_mem_cons.mpr ⟨lw_all_tbl q453, List.forall_mem_cons.mpr ⟨lw_all_tbl q454, List.forall_mem_cons.mpr ⟨lw_all_tbl q455, List.forall_mem_cons.mpr ⟨lw_all_tbl q456, List.forall_mem_cons.mpr ⟨lw_all_tbl q457, List.forall_mem_cons.mpr ⟨lw_all_tbl q458, List.forall_mem_cons.mpr ⟨lw_all_tbl q459, List.forall_mem_cons.mpr ⟨lw_all_tbl q460, List.forall_mem_cons.mpr ⟨lw_all_tbl q462, List.forall_mem_cons.mpr ⟨lw_all_tbl q463, List.forall_mem_cons.mpr ⟨lw_all_tbl q2333, List.forall_mem_cons.mpr ⟨q2370, List.forall_mem_cons.mpr ⟨lw_all_tbl q112, List.forall_mem_cons.mpr ⟨q182, List.forall_mem_cons.mpr ⟨q183, List.forall_mem_cons.mpr ⟨lw_all_tbl q447, List.forall_mem_cons.mpr ⟨lw_all_tbl q448, List.forall_mem_cons.mpr ⟨lw_all_tbl q449, List.forall_mem_cons.mpr ⟨lw_all_tbl q905, List.forall_mem_cons.mpr ⟨lw_all_tbl q906, List.forall_mem_cons.mpr ⟨lw_all_tbl q907, List.forall_mem_cons.mpr ⟨lw_all_tbl q113, List.forall_mem_cons.mpr ⟨q180, List.forall_mem_cons.mpr ⟨q181, List.forall_mem_cons.mpr ⟨lw_all_tbl q444, List.forall_mem_cons.mpr ⟨lw_all_tbl q445, List.forall_mem_cons.mpr ⟨lw_all_tbl q446, List.forall_mem_cons.mpr ⟨lw_all_tbl q902, List.forall_mem_cons.mpr ⟨lw_all_tbl q903, List.forall_mem_cons.mpr ⟨lw_all_tbl q904, List.forall_mem_cons.mpr ⟨lw_all_tbl q114, List.forall_mem_cons.mpr ⟨lw_all_tbl q178, List.forall_mem_cons.mpr ⟨q179, List.forall_mem_cons.mpr ⟨lw_all_tbl q186, List.forall_mem_cons.mpr ⟨lw_all_tbl q187, List.forall_mem_cons.mpr ⟨lw_all_tbl q188, List.forall_mem_cons.mpr ⟨lw_all_tbl q190, List.forall_mem_cons.mpr ⟨lw_all_tbl q192, List.forall_mem_cons.mpr ⟨lw_all_tbl q194, List.forall_mem_cons.mpr ⟨lw_all_tbl q196, List.forall_mem_cons.mpr ⟨lw_all_tbl q441, List.forall_mem_cons.mpr ⟨lw_all_tbl q442, List.forall_mem_cons.mpr ⟨lw_all_tbl q443, List.forall_mem_cons.mpr ⟨lw_all_tbl q461, List.forall_mem_cons.mpr ⟨lw_all_tbl q464, List.forall_mem_cons.mpr ⟨lw_all_tbl q685, List.forall_mem_cons.mpr ⟨lw_all_tbl q899, List.forall_mem_cons.mpr ⟨lw_all_tbl q900, List.forall_mem_cons.mpr ⟨lw_all_tbl q901, List.forall_mem_cons.mpr ⟨q2352, List.forall_mem_cons.mpr ⟨lw_all_tbl q146, List.forall_mem_cons.mpr ⟨lw_all_tbl q211, List.forall_mem_cons.mpr ⟨lw_all_tbl q689, List.forall_mem_cons.mpr ⟨lw_all_tbl q1266, List.forall_mem_cons.mpr ⟨q1267, List.forall_mem_cons.mpr ⟨lw_all_tbl q1268, List.forall_mem_cons.mpr ⟨lw_all_tbl q1269, List.forall_mem_cons.mpr ⟨lw_all_tbl q1270, List.forall_mem_cons.mpr ⟨lw_all_tbl q1271, List.forall_mem_cons.mpr ⟨lw_all_tbl q1272, List.forall_mem_cons.mpr ⟨lw_all_tbl q1273, List.forall_mem_cons.mpr ⟨lw_all_tbl q1275, List.forall_mem_cons.mpr ⟨lw_all_tbl q1276, List.forall_mem_cons.mpr ⟨lw_all_tbl q1277, List.forall_mem_cons.mpr ⟨lw_all_tbl q1278, List.forall_mem_cons.mpr ⟨lw_all_tbl q1279, List.forall_mem_cons.mpr ⟨q2369, List.forall_mem_cons.mpr ⟨lw_all_tbl q153, List.forall_mem_cons.mpr ⟨lw_all_tbl q154, List.forall_mem_cons.mpr ⟨lw_all_tbl q287, List.forall_mem_cons.mpr ⟨lw_all_tbl q288, List.forall_mem_cons.mpr ⟨lw_all_tbl q665, List.forall_mem_cons.mpr ⟨lw_all_tbl q666, List.forall_mem_cons.mpr ⟨lw_all_tbl q690, List.forall_mem_cons.mpr ⟨lw_all_tbl q2344, List.forall_mem_cons.mpr ⟨q2373, List.forall_mem_cons.mpr ⟨lw_all_tbl q897, List.forall_mem_cons.mpr ⟨lw_all_tbl q898, List.forall_mem_cons.mpr ⟨lw_all_tbl q1265, List.forall_mem_cons.mpr ⟨lw_all_tbl q1274, fun _ h => absurd h List.not_mem_nil⟩⟩⟩⟩⟩⟩⟩⟩⟩⟩⟩⟩⟩⟩⟩⟩⟩⟩⟩⟩⟩⟩⟩⟩⟩⟩⟩⟩⟩⟩⟩⟩⟩⟩⟩⟩⟩⟩⟩⟩⟩⟩⟩⟩⟩⟩⟩⟩⟩⟩⟩⟩⟩⟩⟩⟩⟩⟩⟩⟩⟩⟩⟩⟩⟩⟩⟩⟩⟩⟩⟩⟩⟩⟩⟩⟩⟩⟩⟩⟩⟩⟩⟩⟩⟩⟩⟩⟩⟩⟩⟩⟩⟩⟩⟩⟩⟩⟩⟩⟩⟩⟩⟩⟩⟩⟩⟩⟩⟩
abbrev cNSE : String := "java/util/NoSuchElementException"
abbrev cIAE : String := "java/lang/IllegalArgumentException"
theorem exc_nse : ∀ w ∈ vx_at0 RX1 66 cNSE ["java/lang/RuntimeException", "java/lang/Exception"], w ∈ excB := by decide +kernel
theorem exc_iae : ∀ w ∈ vx_at0 RX1 63 cIAE ["java/lang/RuntimeException", "java/lang/Exception"], w ∈ excB := by decide +kernel
/-- words that stay, though not among goodWord's -/
def xface : Cond → Bool
  | .declares _ => true
  | .castable _ _ => true
  | .privateMethod _ => true
  | _ => false
theorem kenv.face {E : w_E} {U : State} {A : Array Value} {w : Cond} (hw : xface w = true) (q : w ∈ lw_tbl) (hk : kenv E U) : w.before A U = true := by
  cases w <;> first
    | exact va_Nw.use rfl (hk.nD q)
    | exact va_Nw.use rfl (hk.nC q)
    | (rename_i x
       exact va_tabs rfl (rfl : (E.1.setVm U.vm).vm = U.vm) ((Cond.privateMethod_setVm (args := E.2.1) hk.2.1.alike x).trans (hk.1.2.1 _ q)))
    | (exact absurd hw (by intro h; cases h))
theorem exc_g1 : ∀ w ∈ (vx_at0 RX1 66 cNSE ["java/lang/RuntimeException", "java/lang/Exception"]).filter (fun w => !goodWord w), xface w = true := by decide +kernel
theorem exc_g2 : ∀ w ∈ (vx_at0 RX1 63 cIAE ["java/lang/RuntimeException", "java/lang/Exception"]).filter (fun w => !goodWord w), xface w = true := by decide +kernel
theorem exc_o1 : ∀ w ∈ Cond.classLink RX1 64 cNSE :: Cond.initialized cNSE :: vx_at0 RX1 66 cNSE ["java/lang/RuntimeException", "java/lang/Exception"], vx_ot w = true := by decide +kernel
theorem exc_o2 : ∀ w ∈ Cond.classLink RX1 61 cIAE :: Cond.initialized cIAE :: vx_at0 RX1 63 cIAE ["java/lang/RuntimeException", "java/lang/Exception"], vx_ot w = true := by decide +kernel
theorem flat_of_E {E : w_E} (h : E0ok E) {w : Cond} (hw : w ∈ flatC (Jvm.Cond.and given_1 narrow_1)) : w.before E.2.1 E.1 = true := flat_of_before _ h.1 w hw
theorem exc_U : Cond.isRef (.static Bundle.tN "UNASSIGNED_STACK" Bundle.steD) ∈ flatC (Jvm.Cond.and given_1 narrow_1) := by decide +kernel
theorem exc_N : Cond.isRef (.static Bundle.tN "SUPPRESSED_SENTINEL" Bundle.listD) ∈ flatC (Jvm.Cond.and given_1 narrow_1) := by decide +kernel
theorem w_A_lt {E : w_E} : ∀ a : Nat, a < E.1.heap.size → ¬ w_A E a := fun a h => Nat.not_le.mpr h
theorem kenv.zq {E : w_E} {s : State} {C n d : String} (h : kenv E s) (hl : Cond.laysStatic C n d ∈ lw_tbl) (hi : Cond.initialized C ∈ lw_tbl) (hf : Cond.isRef (.static C n d) ∈ flatC (Jvm.Cond.and given_1 narrow_1)) : vx_Zq C n d (w_A E) s s.heap := vx_Zq.kept (vx_Zq.moved h.2.1.alike (vx_Zqof (h.1.2.1 _ hl) (h.1.2.1 _ hi) (flat_of_E h.1 hf) w_A_lt)) (fun a h1 h2 => h.2.2.2 a h1)
theorem wd.grow {E : w_E} {z z2 : Nat} {T L : Nat → Nat} {V : w_V} {P : w_P} {H H1 : Heap} (h : wd E z T L V P H) (hz : H1.size = z2) (hle : H.size ≤ H1.size) (ho : ∀ q : Nat, q < H.size → H1[q]? = H[q]?) : wd E z2 T L V P H1 := by
  obtain ⟨w1, w2, w3, w4, w5, w6, w7, w8, w9⟩ := h
  have hk : ∀ (q : Nat × va_E), va_at E.2.2.1 acl q H → va_at E.2.2.1 acl q H1 := fun q hq => va_at.kept hq (ho _ hq.lt)
  refine ⟨hz, fun a ha => w2 a (by omega), by omega, w4, fun a c ha hc => ⟨hk _ (w5 a c ha hc).1, fun j f hj hf => ⟨((w5 a c ha hc).2 j f hj hf).1, hk _ ((w5 a c ha hc).2 j f hj hf).2⟩⟩, fun a t ha ht => hk _ (w6 a t ha ht), fun a t ha ht => hk _ (w7 a t ha ht), fun a ha => hk _ (w8 a ha), fun a ha => (w9 a ha).kept (ho _ (w9 a ha).lt)⟩
def gT (X : Cx) (k n z : Nat) (T L : Nat → Nat) (V : w_V) (P : w_P) (pc : Nat) (lv : List (Option Value)) (q : Nat) (En : String) : Prop :=
  ∀ (H : Heap) (locs : List Loc) (ls : Array Slot) (ce : Cell) (rest : List Value), wd (cxE X) z T L V P H → va_S (w_A (cxE X)) (cxs X).heap H locs → lv_has ls lv.length (lvp 0 lv) → H[q]? = some ce → ce.vm = .none → (cxs X).vm.findClass En = some ce.cls →
    vx_W (cxP X) (cxL X) (cxe X) (cxR X) (cxs X) (cxm X) (cxa X) (cxb X) (cxM X) (cxc X) H locs k n (cxQ X) (F0 (cxm X) pc ls rest) q
/-- what is thrown: the thing, its class, the world -/
abbrev w_X : Type := Nat → String → w_W → Prop
abbrev xcX (E : w_E) (xp : w_X) : Addr → String → State → State → Prop := vx_X xp (fun (u : w_W) t => wdW E u t.heap) (w_A E)
def cxMX (X : Cx) (Qc : Array Value → State → Outcome → State → Prop) (xp : w_X) (mc ms : Nat) : Prop := cxQ X = vx_MQ (cxb X) Qc (xcX (cxE X) xp) (cxa X) (cxs X) mc ms (w_A (cxE X))
def noTab (X : Cx) : Prop := ∀ x ∈ (cxc X).exceptionTable.toList, False
theorem g_startX {l : Launch} {y : MethodName} {cc : ByteArray} {own : String} {nL mc ms : Nat} {ret : Option FieldType} {rm : Room} {E : w_E} {av : List Value} {w : w_W} {Qc : Array Value → State → Outcome → State → Prop} {xp : w_X} (hfl : l.flags = flags0) (hy : plainName y.cls = true) (ho : y.cls = own) (lv : List (Option Value)) (hlen : lv.length = nL) (hlv : ∀ q ∈ lvp 0 lv, q ∈ lv_args 0 av) (hav : (lg_sl av).length ≤ nL)
    (body : ∀ X : Cx, cxL X = l → cxR X = rm → cxE X = E → Okc X cc own nL ret → noTab X → cxMX X Qc xp mc ms → gW X 0 0 w.1 w.2.1 w.2.2.1 w.2.2.2.1 w.2.2.2.2 0 lv []) : vx_Met l y (ws_ y cc nL ret) rm (va_Pc av (fun U => kenv E U ∧ wdW E w U.heap)) Qc (xcX E xp) mc ms (w_A E) := by
  subst ho
  refine vx_ofW (cc := cc) (maxL := nL) (ret := ret) hy rfl ?_
  intro p e s m args below meth c s₁ B hml htab hv
  obtain ⟨rfl, hk, hw⟩ := hv
  have hts := atoms_spec (ws := ws_ y cc nL ret) B.pre
  have hts : ∀ w ∈ lw_all, w.before av.toArray s = true := fun w h => hts w (List.mem_cons_of_mem _ h)
  have hown : s.vm.findClass y.cls = some m.cls := findClass_of_methodNamed B.named
  have hlocks := B.notSynchronized
  have hl := lv_entry av (n := nL) hav
  rw [lg_entry_eq]
  generalize (lg_sl av ++ List.replicate (nL - (lg_sl av).length) Slot.unset).toArray = ls at hl ⊢
  have hb := body (p, l, e, rm, s, m, av.toArray, below, meth, c, E, vx_MQ below Qc (xcX E xp) av.toArray s mc ms (w_A E)) rfl rfl rfl ⟨B.exec, B.bytes, hml, hown, hts, hk, B.returns, hlocks, hfl⟩ htab rfl
  exact hb s.heap [] ls hw va_S.rf ⟨by rw [hl.1, hlen], hl.2.1, fun q hq => hl.2.2 q (hlv q hq)⟩
section GT
variable {X : Cx} {cc : ByteArray} {own : String} {nL : Nat} {ret : Option FieldType} {k n z : Nat} {T L : Nat → Nat} {V : w_V} {P : w_P} {pc : Nat} {lv : List (Option Value)} {st rest : List Value} {S : Type} {f : S → w_W} {mc ms : Nat} {xp : w_X} {R0 : Room} {a : Array Value}
theorem gt_iret {ty : FieldType} {post : Int32 → S → Prop} {x : Int32} {u : S} (O : Okc X cc own nL (some ty)) (hQ : cxMX X (va_Qi post (fun u t => wdW (cxE X) (f u) t.heap) (w_A (cxE X))) xp mc ms) (hm : k ≤ mc ∧ n ≤ ms) (hn : narrow ty (.int x) = .int x) (hf : f u = (z, T, L, V, P)) (hp : post x u) (d : decode cc pc = .ok (.ireturn, 1)) : gW X k n z T L V P pc lv [.int x] := by
  intro H locs ls hw hS h
  unfold cxW
  rw [show cxQ X = _ from hQ]
  exact vx_ret (W.widen hm.1 hm.2 (W.zret O.1 O.2.1 O.2.2.2.2.2.2.1 hn (fun t ht hW => ⟨⟨x, u, rfl, hp, by show wdW (cxE X) (f u) t.heap; rw [ht, hf]; exact hw⟩, hS.F ht⟩) hS.2.2 d O.2.2.2.2.2.2.2.1))
theorem gt_vret {post : S → Prop} {u : S} (O : Okc X cc own nL none) (hQ : cxMX X (va_Qv post (fun u t => wdW (cxE X) (f u) t.heap) (w_A (cxE X))) xp mc ms) (hm : k ≤ mc ∧ n ≤ ms) (hf : f u = (z, T, L, V, P)) (hp : post u) (d : decode cc pc = .ok (.return_, 1)) : gW X k n z T L V P pc lv [] := by
  intro H locs ls hw hS h
  unfold cxW
  rw [show cxQ X = _ from hQ]
  exact vx_ret (W.widen hm.1 hm.2 (W.vret O.1 O.2.1 O.2.2.2.2.2.2.1 (fun t ht hW => ⟨⟨u, rfl, hp, by show wdW (cxE X) (f u) t.heap; rw [ht, hf]; exact hw⟩, hS.F ht⟩) hS.2.2 d O.2.2.2.2.2.2.2.1))
theorem gt_aret {ty : FieldType} {post : Option Nat → S → Prop} {r : Option Nat} {u : S} (O : Okc X cc own nL (some ty)) (hQ : cxMX X (va_Qq post (fun u t => wdW (cxE X) (f u) t.heap) (w_A (cxE X))) xp mc ms) (hm : k ≤ mc ∧ n ≤ ms) (hty : (∃ n, ty = .object n) ∨ ∃ t, ty = .array t) (hf : f u = (z, T, L, V, P)) (hp : post r u) (d : decode cc pc = .ok (.areturn, 1)) : gW X k n z T L V P pc lv [va_rf r] := by
  intro H locs ls hw hS h
  unfold cxW
  rw [show cxQ X = _ from hQ]
  exact vx_ret (W.widen hm.1 hm.2 (W.aret O.1 O.2.1 O.2.2.2.2.2.2.1 hty (by cases r with | none => exact Or.inl rfl | some a => exact Or.inr ⟨a, rfl⟩) (fun t ht hW => ⟨⟨r, u, rfl, hp, by show wdW (cxE X) (f u) t.heap; rw [ht, hf]; exact hw⟩, hS.F ht⟩) hS.2.2 d O.2.2.2.2.2.2.2.1))
/-- it leaves the method -/
theorem gt_out {Qc : Array Value → State → Outcome → State → Prop} {q : Nat} {En : String} (O : Okc X cc own nL ret) (hN : noTab X) (hQ : cxMX X Qc xp mc ms) (hm : k ≤ mc ∧ n ≤ ms) (hp : xp q En (z, T, L, V, P)) : gT X k n z T L V P pc lv q En := by
  intro H locs ls ce rest hw hS h hce hcv hcl
  rw [show cxQ X = _ from hQ]
  exact vx_out (fun x hx => (hN x hx).elim) O.2.2.2.2.2.2.2.1 hce hcv hcl (fun t ht hW => ⟨(z, T, L, V, P), hp, by show wdW (cxE X) (z, T, L, V, P) t.heap; rw [ht]; exact hw, hS.F ht⟩) hS.2.2 hm.1 hm.2
theorem gt_throw {Qc : Array Value → State → Outcome → State → Prop} {cls : String} {names : List String} {ik ic : Nat} (O : Okc X cc own nL ret) (hN : noTab X) (hQ : cxMX X Qc xp mc ms) (hRm : cxR X = R0) (hcls : Bundle.fit cls = true) (hnames : ∀ n ∈ names, Bundle.fit n = true) (hk : Cond.classLink own ik cls ∈ lw_all) (hini : Cond.initialized cls ∈ lw_all) (hB : ∀ w ∈ vx_at0 own ic cls names, w ∈ excB) (hg : ∀ w ∈ (vx_at0 own ic cls names).filter (fun w => !goodWord w), xface w = true) (ho : ∀ w ∈ Cond.classLink own ik cls :: Cond.initialized cls :: vx_at0 own ic cls names, vx_ot w = true)
    (d0 : decode cc pc = .ok (.new ik, 3)) (d3 : decode cc (pc + 3) = .ok (.dup, 1)) (d4 : decode cc (pc + 4) = .ok (.invokespecial ic, 3)) (d7 : decode cc (pc + 7) = .ok (.athrow, 1)) (hnl : lv.length = nL)
    (hf : names.length + 3 < R0.frames) (hl : (st.map fun v => v.category).sum + (13 * (names.length + 1) + 42) ≤ R0.locals) (hcells : k + 1 ≤ R0.cells) (hslots : n + 6 ≤ R0.slots) (hm : k + 1 ≤ mc ∧ n + 6 ≤ ms) (w : ∀ z2, z ≤ z2 → xp z cls (z2, T, L, V, P)) : gW X k n z T L V P pc lv st := by
  intro H locs ls hw hS h
  unfold cxW
  have hst : (cxL X).stackTraces = false := by unfold Launch.stackTraces; rw [O.2.2.2.2.2.2.2.2]; decide +kernel
  rw [show cxQ X = _ from hQ]
  have hke := O.2.2.2.2.2.1
  refine vx_throw0 (own := own) (names := names) (ik := ik) (ic := ic) (A := w_A (cxE X)) O.1 O.2.1 hst O.2.2.2.1 hcls hnames (O.2.2.2.2.1 _ hk) (O.2.2.2.2.1 _ hini) (vx_hat (B := (vx_at0 own ic cls names).filter (fun w => !goodWord w)) (fun w hw => ?_) (fun w hw => hw) (fun w hw => ?_)) ho (hke.zq q204 (lw_all_tbl q111) exc_U) (hke.zq q206 (lw_all_tbl q111) exc_N) hS (by rw [O.2.2.1, h.1, hnl]) d0 d3 d4 d7 (fun x hx => (hN x hx).elim) (by rw [hRm]; exact hf) (by rw [hRm]; exact hl) (by rw [hRm]; exact hcells) (by rw [hRm]; exact hslots) O.2.2.2.2.2.2.2.1 (fun t hW hz hq => ⟨(t.heap.size, T, L, V, P), ?_, hw.grow rfl hz hq, Nat.le_trans hS.1 hz, fun q h1 h2 => (hq q (Nat.lt_of_lt_of_le h1 hS.1)).trans (hS.2.1 q h1 h2)⟩) hS.2.2 hm.1 hm.2
  · obtain ⟨h1, h2⟩ := List.mem_filter.mp hw
    exact O.2.2.2.2.1 _ (lw_g (excB_tbl w (hB w h1)) h2)
  · exact hke.face (hg w hw) (excB_tbl w (hB w (List.mem_filter.mp hw).1))
  · have := w t.heap.size (by rw [← hw.1]; exact hz)
    rw [hw.1]
    exact this
end GT
