/-! names of the classes, their fields; the words by their places (out of claim/names by tools/names.py) -/
set_option maxRecDepth 100000
def RJ0 : String := "java/lang/Throwable"
def TJ0 : u_T := fun k => match k with
  | 0 => ("java/lang/Throwable", "cause", "Ljava/lang/Throwable;", false)
  | 1 => ("java/lang/Throwable", "stackTrace", "[Ljava/lang/StackTraceElement;", false)
  | 2 => ("java/lang/Throwable", "suppressedExceptions", "Ljava/util/List;", false)
  | 3 => ("java/lang/Throwable", "detailMessage", "Ljava/lang/String;", false)
  | _ => ("java/lang/Throwable", "backtrace", "Ljava/lang/Object;", false)
def tyJ0 : Nat → FieldType := fun k => match k with
  | 0 => .object "java/lang/Throwable"
  | 1 => .array (.object "java/lang/StackTraceElement")
  | 2 => .object "java/util/List"
  | 3 => .object "java/lang/String"
  | _ => .object "java/lang/Object"
abbrev wsJ00 : List Cond := u_ws RJ0 TJ0 5
theorem nmJ0 : ∀ a, a < 5 → ∀ b, b < 5 → a ≠ b → (TJ0 a).2.1 ≠ (TJ0 b).2.1 := by decide +kernel
theorem tyJ0_ok : ∀ k, k < 5 → parseFieldDescriptor (TJ0 k).2.2.1 = some (tyJ0 k) := by decide +kernel
theorem q202 : (Jvm.Cond.initialized "java/lang/Throwable") ∈ lw_all := lw_g (lw_at lw_m1 3 rfl) rfl
theorem q252 : (Jvm.Cond.declares ({ cls := "java/lang/Throwable", name := "<init>", desc := "()V" } : Jvm.MethodName)) ∈ lw_tbl := lw_at lw_m1 53 rfl
theorem q253 : (Jvm.Cond.declares ({ cls := "java/lang/Throwable", name := "<init>", desc := "(Ljava/lang/String;)V" } : Jvm.MethodName)) ∈ lw_tbl := lw_at lw_m1 54 rfl
theorem q257 : (Jvm.Cond.lays "java/lang/Throwable" "java/lang/Throwable" "cause" "Ljava/lang/Throwable;") ∈ lw_all := lw_g (lw_at lw_m1 58 rfl) rfl
theorem q259 : (Jvm.Cond.lays "java/lang/Throwable" "java/lang/Throwable" "stackTrace" "[Ljava/lang/StackTraceElement;") ∈ lw_all := lw_g (lw_at lw_m1 60 rfl) rfl
theorem q261 : (Jvm.Cond.lays "java/lang/Throwable" "java/lang/Throwable" "suppressedExceptions" "Ljava/util/List;") ∈ lw_all := lw_g (lw_at lw_m1 62 rfl) rfl
theorem q263 : (Jvm.Cond.lays "java/lang/Throwable" "java/lang/Throwable" "detailMessage" "Ljava/lang/String;") ∈ lw_all := lw_g (lw_at lw_m1 64 rfl) rfl
theorem q265 : (Jvm.Cond.lays "java/lang/Throwable" "java/lang/Throwable" "backtrace" "Ljava/lang/Object;") ∈ lw_all := lw_g (lw_at lw_m1 66 rfl) rfl
theorem q266 : (Jvm.Cond.fieldLink "java/lang/Throwable" (198 : Nat) "java/lang/Throwable" "backtrace" "Ljava/lang/Object;") ∈ lw_all := lw_g (lw_at lw_m1 67 rfl) rfl
theorem q267 : (Jvm.Cond.superclass "java/lang/Throwable" "java/lang/Object") ∈ lw_all := lw_g (lw_at lw_m1 68 rfl) rfl
theorem q268 : (Jvm.Cond.instanceMethod ({ cls := "java/lang/Throwable", name := "<init>", desc := "()V" } : Jvm.MethodName)) ∈ lw_all := lw_g (lw_at lw_m1 69 rfl) rfl
theorem q269 : (Jvm.Cond.code ({ cls := "java/lang/Throwable", name := "<init>", desc := "()V" } : Jvm.MethodName) prog_27_method_1_code (1 : Nat) (Option.none : Option Jvm.ClassFile.FieldType)) ∈ lw_all := lw_g (lw_at lw_m1 70 rfl) rfl
theorem q270 : (Jvm.Cond.methodLink "java/lang/Throwable" (1 : Nat) ({ cls := "java/lang/Object", name := "<init>", desc := "()V" } : Jvm.MethodName)) ∈ lw_all := lw_g (lw_at lw_m1 71 rfl) rfl
theorem q271 : (Jvm.Cond.fieldLink "java/lang/Throwable" (13 : Nat) "java/lang/Throwable" "UNASSIGNED_STACK" "[Ljava/lang/StackTraceElement;") ∈ lw_all := lw_g (lw_at lw_m1 72 rfl) rfl
theorem q272 : (Jvm.Cond.laysStatic "java/lang/Throwable" "UNASSIGNED_STACK" "[Ljava/lang/StackTraceElement;") ∈ lw_tbl := lw_at lw_m1 73 rfl
theorem q273 : (Jvm.Cond.fieldLink "java/lang/Throwable" (20 : Nat) "java/lang/Throwable" "SUPPRESSED_SENTINEL" "Ljava/util/List;") ∈ lw_all := lw_g (lw_at lw_m1 74 rfl) rfl
theorem q274 : (Jvm.Cond.laysStatic "java/lang/Throwable" "SUPPRESSED_SENTINEL" "Ljava/util/List;") ∈ lw_tbl := lw_at lw_m1 75 rfl
theorem q275 : (Jvm.Cond.methodLink "java/lang/Throwable" (27 : Nat) ({ cls := "java/lang/Throwable", name := "fillInStackTrace", desc := "()Ljava/lang/Throwable;" } : Jvm.MethodName)) ∈ lw_all := lw_g (lw_at lw_m1 76 rfl) rfl
theorem q276 : (Jvm.Cond.instanceMethod ({ cls := "java/lang/Throwable", name := "fillInStackTrace", desc := "()Ljava/lang/Throwable;" } : Jvm.MethodName)) ∈ lw_all := lw_g (lw_at lw_m1 77 rfl) rfl
theorem q277 : (Jvm.Cond.sameMethod "java/lang/Throwable" "java/lang/Throwable" "fillInStackTrace" "()Ljava/lang/Throwable;") ∈ lw_all := lw_g (lw_at lw_m1 78 rfl) rfl
theorem q280 : (Jvm.Cond.codeSync ({ cls := "java/lang/Throwable", name := "fillInStackTrace", desc := "()Ljava/lang/Throwable;" } : Jvm.MethodName) prog_27_method_18_code (1 : Nat) (Option.some (Jvm.ClassFile.FieldType.object "java/lang/Throwable"))) ∈ lw_all := lw_g (lw_at lw_m1 81 rfl) rfl
theorem q281 : (Jvm.Cond.methodLink "java/lang/Throwable" (202 : Nat) ({ cls := "java/lang/Throwable", name := "fillInStackTrace", desc := "(I)Ljava/lang/Throwable;" } : Jvm.MethodName)) ∈ lw_all := lw_g (lw_at lw_m1 82 rfl) rfl
theorem q282 : (Jvm.Cond.privateMethod ({ cls := "java/lang/Throwable", name := "fillInStackTrace", desc := "(I)Ljava/lang/Throwable;" } : Jvm.MethodName)) ∈ lw_tbl := lw_at lw_m1 83 rfl
theorem q283 : (Jvm.Cond.instanceMethod ({ cls := "java/lang/Throwable", name := "fillInStackTrace", desc := "(I)Ljava/lang/Throwable;" } : Jvm.MethodName)) ∈ lw_all := lw_g (lw_at lw_m1 84 rfl) rfl
theorem q284 : (Jvm.Cond.instantiable "java/lang/Throwable" (6 : Nat)) ∈ lw_all := lw_g (lw_at lw_m1 85 rfl) rfl
theorem q285 : (Jvm.Cond.native ({ cls := "java/lang/Throwable", name := "fillInStackTrace", desc := "(I)Ljava/lang/Throwable;" } : Jvm.MethodName)) ∈ lw_all := lw_g (lw_at lw_m1 86 rfl) rfl
theorem q298 : (Jvm.Cond.fieldLink "java/lang/Throwable" (198 : Nat) "java/lang/Throwable" "backtrace" "Ljava/lang/Object;") ∈ lw_all := lw_g (lw_at lw_m1 99 rfl) rfl
theorem q299 : (Jvm.Cond.fieldLink "java/lang/Throwable" (7 : Nat) "java/lang/Throwable" "cause" "Ljava/lang/Throwable;") ∈ lw_all := lw_g (lw_at lw_m1 100 rfl) rfl
theorem q300 : (Jvm.Cond.fieldLink "java/lang/Throwable" (17 : Nat) "java/lang/Throwable" "stackTrace" "[Ljava/lang/StackTraceElement;") ∈ lw_all := lw_g (lw_at lw_m1 101 rfl) rfl
theorem q301 : (Jvm.Cond.fieldLink "java/lang/Throwable" (24 : Nat) "java/lang/Throwable" "suppressedExceptions" "Ljava/util/List;") ∈ lw_all := lw_g (lw_at lw_m1 102 rfl) rfl
theorem q304 : (Jvm.Cond.soleField "java/lang/Throwable" "backtrace") ∈ lw_all := lw_g (lw_at lw_m1 105 rfl) rfl
theorem q305 : (Jvm.Cond.soleField "java/lang/Throwable" "detailMessage") ∈ lw_all := lw_g (lw_at lw_m1 106 rfl) rfl
theorem q306 : (Jvm.Cond.soleField "java/lang/Throwable" "cause") ∈ lw_all := lw_g (lw_at lw_m1 107 rfl) rfl
theorem q307 : (Jvm.Cond.soleField "java/lang/Throwable" "stackTrace") ∈ lw_all := lw_g (lw_at lw_m1 108 rfl) rfl
theorem q309 : (Jvm.Cond.soleField "java/lang/Throwable" "depth") ∈ lw_all := lw_g (lw_at lw_m1 110 rfl) rfl
theorem q310 : (Jvm.Cond.soleField "java/lang/Throwable" "suppressedExceptions") ∈ lw_all := lw_g (lw_at lw_m1 111 rfl) rfl
theorem q2328 : (Jvm.Cond.sameMethod "java/lang/Throwable" "java/lang/Throwable" "fillInStackTrace" "(I)Ljava/lang/Throwable;") ∈ lw_all := lw_g (lw_at lw_m9 209 rfl) rfl
theorem q2344 : (Jvm.Cond.castable "java/lang/Throwable" "java/lang/Object") ∈ lw_tbl := lw_at lw_m9 225 rfl
theorem in_J0 : ∀ w ∈ wsJ00, w ∈ lw_all := lw_in wsJ00 [257, 259, 261, 263, 265] (by decide +kernel) (by decide +kernel)

def RJ1 : String := "java/lang/Exception"
theorem q203 : (Jvm.Cond.initialized "java/lang/Exception") ∈ lw_all := lw_g (lw_at lw_m1 4 rfl) rfl
theorem q250 : (Jvm.Cond.declares ({ cls := "java/lang/Exception", name := "<init>", desc := "()V" } : Jvm.MethodName)) ∈ lw_tbl := lw_at lw_m1 51 rfl
theorem q251 : (Jvm.Cond.declares ({ cls := "java/lang/Exception", name := "<init>", desc := "(Ljava/lang/String;)V" } : Jvm.MethodName)) ∈ lw_tbl := lw_at lw_m1 52 rfl
theorem q293 : (Jvm.Cond.instanceMethod ({ cls := "java/lang/Exception", name := "<init>", desc := "()V" } : Jvm.MethodName)) ∈ lw_all := lw_g (lw_at lw_m1 94 rfl) rfl
theorem q294 : (Jvm.Cond.code ({ cls := "java/lang/Exception", name := "<init>", desc := "()V" } : Jvm.MethodName) prog_19_method_1_code (1 : Nat) (Option.none : Option Jvm.ClassFile.FieldType)) ∈ lw_all := lw_g (lw_at lw_m1 95 rfl) rfl
theorem q295 : (Jvm.Cond.methodLink "java/lang/Exception" (1 : Nat) ({ cls := "java/lang/Throwable", name := "<init>", desc := "()V" } : Jvm.MethodName)) ∈ lw_all := lw_g (lw_at lw_m1 96 rfl) rfl

def RJ10 : String := "java/util/Objects"
theorem q217 : (Jvm.Cond.initialized "java/util/Objects") ∈ lw_all := lw_g (lw_at lw_m1 18 rfl) rfl
theorem q616 : (Jvm.Cond.static ({ cls := "java/util/Objects", name := "checkIndex", desc := "(II)I" } : Jvm.MethodName)) ∈ lw_all := lw_g (lw_at lw_m2 177 rfl) rfl
theorem q617 : (Jvm.Cond.code ({ cls := "java/util/Objects", name := "checkIndex", desc := "(II)I" } : Jvm.MethodName) prog_36_method_17_code (2 : Nat) (Option.some Jvm.ClassFile.FieldType.int)) ∈ lw_all := lw_g (lw_at lw_m2 178 rfl) rfl
theorem q618 : (Jvm.Cond.methodLink "java/util/Objects" (105 : Nat) ({ cls := "jdk/internal/util/Preconditions", name := "checkIndex", desc := "(IILjava/util/function/BiFunction;)I" } : Jvm.MethodName)) ∈ lw_all := lw_g (lw_at lw_m2 179 rfl) rfl

def RJ11 : String := "jdk/internal/util/ArraysSupport"
theorem q219 : (Jvm.Cond.initialized "jdk/internal/util/ArraysSupport") ∈ lw_all := lw_g (lw_at lw_m1 20 rfl) rfl
theorem q647 : (Jvm.Cond.static ({ cls := "jdk/internal/util/ArraysSupport", name := "newLength", desc := "(III)I" } : Jvm.MethodName)) ∈ lw_all := lw_g (lw_at lw_m2 208 rfl) rfl
theorem q648 : (Jvm.Cond.code ({ cls := "jdk/internal/util/ArraysSupport", name := "newLength", desc := "(III)I" } : Jvm.MethodName) prog_39_method_27_code (4 : Nat) (Option.some Jvm.ClassFile.FieldType.int)) ∈ lw_all := lw_g (lw_at lw_m2 209 rfl) rfl
theorem q649 : (Jvm.Cond.methodLink "jdk/internal/util/ArraysSupport" (194 : Nat) ({ cls := "java/lang/Math", name := "max", desc := "(II)I" } : Jvm.MethodName)) ∈ lw_all := lw_g (lw_at lw_m2 210 rfl) rfl
theorem q652 : (Jvm.Cond.constant "jdk/internal/util/ArraysSupport" (200 : Nat) (2147483639 : Int32)) ∈ lw_all := lw_g (lw_at lw_m2 213 rfl) rfl
theorem q653 : (Jvm.Cond.methodLink "jdk/internal/util/ArraysSupport" (201 : Nat) ({ cls := "jdk/internal/util/ArraysSupport", name := "hugeLength", desc := "(II)I" } : Jvm.MethodName)) ∈ lw_all := lw_g (lw_at lw_m2 214 rfl) rfl
theorem q654 : (Jvm.Cond.static ({ cls := "jdk/internal/util/ArraysSupport", name := "hugeLength", desc := "(II)I" } : Jvm.MethodName)) ∈ lw_all := lw_g (lw_at lw_m2 215 rfl) rfl
theorem q655 : (Jvm.Cond.code ({ cls := "jdk/internal/util/ArraysSupport", name := "hugeLength", desc := "(II)I" } : Jvm.MethodName) prog_39_method_28_code (3 : Nat) (Option.some Jvm.ClassFile.FieldType.int)) ∈ lw_all := lw_g (lw_at lw_m2 216 rfl) rfl

def RJ12 : String := "java/lang/Math"
theorem q220 : (Jvm.Cond.initialized "java/lang/Math") ∈ lw_all := lw_g (lw_at lw_m1 21 rfl) rfl
theorem q650 : (Jvm.Cond.static ({ cls := "java/lang/Math", name := "max", desc := "(II)I" } : Jvm.MethodName)) ∈ lw_all := lw_g (lw_at lw_m2 211 rfl) rfl
theorem q651 : (Jvm.Cond.code ({ cls := "java/lang/Math", name := "max", desc := "(II)I" } : Jvm.MethodName) prog_21_method_65_code (2 : Nat) (Option.some Jvm.ClassFile.FieldType.int)) ∈ lw_all := lw_g (lw_at lw_m2 212 rfl) rfl
theorem q684 : (Jvm.Cond.static ({ cls := "java/lang/Math", name := "min", desc := "(II)I" } : Jvm.MethodName)) ∈ lw_all := lw_g (lw_at lw_m3 5 rfl) rfl
theorem q685 : (Jvm.Cond.code ({ cls := "java/lang/Math", name := "min", desc := "(II)I" } : Jvm.MethodName) prog_21_method_69_code (2 : Nat) (Option.some Jvm.ClassFile.FieldType.int)) ∈ lw_all := lw_g (lw_at lw_m3 6 rfl) rfl

def RJ13 : String := "java/util/Arrays"
theorem q221 : (Jvm.Cond.initialized "java/util/Arrays") ∈ lw_all := lw_g (lw_at lw_m1 22 rfl) rfl
theorem q657 : (Jvm.Cond.static ({ cls := "java/util/Arrays", name := "copyOf", desc := "([Ljava/lang/Object;I)[Ljava/lang/Object;" } : Jvm.MethodName)) ∈ lw_all := lw_g (lw_at lw_m2 218 rfl) rfl
theorem q658 : (Jvm.Cond.code ({ cls := "java/util/Arrays", name := "copyOf", desc := "([Ljava/lang/Object;I)[Ljava/lang/Object;" } : Jvm.MethodName) prog_33_method_119_code (2 : Nat) (Option.some (Jvm.ClassFile.FieldType.array (Jvm.ClassFile.FieldType.object "java/lang/Object")))) ∈ lw_all := lw_g (lw_at lw_m2 219 rfl) rfl
theorem q659 : (Jvm.Cond.methodLink "java/util/Arrays" (86 : Nat) ({ cls := "java/lang/Object", name := "getClass", desc := "()Ljava/lang/Class;" } : Jvm.MethodName)) ∈ lw_all := lw_g (lw_at lw_m2 220 rfl) rfl
theorem q677 : (Jvm.Cond.methodLink "java/util/Arrays" (300 : Nat) ({ cls := "java/util/Arrays", name := "copyOf", desc := "([Ljava/lang/Object;ILjava/lang/Class;)[Ljava/lang/Object;" } : Jvm.MethodName)) ∈ lw_all := lw_g (lw_at lw_m2 238 rfl) rfl
theorem q678 : (Jvm.Cond.static ({ cls := "java/util/Arrays", name := "copyOf", desc := "([Ljava/lang/Object;ILjava/lang/Class;)[Ljava/lang/Object;" } : Jvm.MethodName)) ∈ lw_all := lw_g (lw_at lw_m2 239 rfl) rfl
theorem q679 : (Jvm.Cond.code ({ cls := "java/util/Arrays", name := "copyOf", desc := "([Ljava/lang/Object;ILjava/lang/Class;)[Ljava/lang/Object;" } : Jvm.MethodName) prog_33_method_120_code (4 : Nat) (Option.some (Jvm.ClassFile.FieldType.array (Jvm.ClassFile.FieldType.object "java/lang/Object")))) ∈ lw_all := lw_g (lw_at lw_m3 0 rfl) rfl
theorem q680 : (Jvm.Cond.classLink "java/util/Arrays" (110 : Nat) "[Ljava/lang/Object;") ∈ lw_all := lw_g (lw_at lw_m3 1 rfl) rfl
theorem q682 : (Jvm.Cond.classLink "java/util/Arrays" (2 : Nat) "java/lang/Object") ∈ lw_all := lw_g (lw_at lw_m3 3 rfl) rfl
theorem q683 : (Jvm.Cond.methodLink "java/util/Arrays" (304 : Nat) ({ cls := "java/lang/Math", name := "min", desc := "(II)I" } : Jvm.MethodName)) ∈ lw_all := lw_g (lw_at lw_m3 4 rfl) rfl
theorem q686 : (Jvm.Cond.methodLink "java/util/Arrays" (150 : Nat) ({ cls := "java/lang/System", name := "arraycopy", desc := "(Ljava/lang/Object;ILjava/lang/Object;II)V" } : Jvm.MethodName)) ∈ lw_all := lw_g (lw_at lw_m3 7 rfl) rfl

def RJ14 : String := "java/lang/Object"
theorem q234 : (Jvm.Cond.instanceMethod ({ cls := "java/lang/Object", name := "<init>", desc := "()V" } : Jvm.MethodName)) ∈ lw_all := lw_g (lw_at lw_m1 35 rfl) rfl
theorem q235 : (Jvm.Cond.code ({ cls := "java/lang/Object", name := "<init>", desc := "()V" } : Jvm.MethodName) object_method_1_code (1 : Nat) (Option.none : Option Jvm.ClassFile.FieldType)) ∈ lw_all := lw_g (lw_at lw_m1 36 rfl) rfl
theorem q660 : (Jvm.Cond.instanceMethod ({ cls := "java/lang/Object", name := "getClass", desc := "()Ljava/lang/Class;" } : Jvm.MethodName)) ∈ lw_all := lw_g (lw_at lw_m2 221 rfl) rfl
theorem q661 : (Jvm.Cond.sameMethod "java/lang/Object" "java/lang/Object" "getClass" "()Ljava/lang/Class;") ∈ lw_all := lw_g (lw_at lw_m2 222 rfl) rfl
theorem q676 : (Jvm.Cond.native ({ cls := "java/lang/Object", name := "getClass", desc := "()Ljava/lang/Class;" } : Jvm.MethodName)) ∈ lw_all := lw_g (lw_at lw_m2 237 rfl) rfl
theorem q2347 : (Jvm.Cond.declares ({ cls := "java/lang/Object", name := "getClass", desc := "()Ljava/lang/Class;" } : Jvm.MethodName)) ∈ lw_tbl := lw_at lw_m9 228 rfl

def RJ2 : String := "java/lang/RuntimeException"
theorem q204 : (Jvm.Cond.initialized "java/lang/RuntimeException") ∈ lw_all := lw_g (lw_at lw_m1 5 rfl) rfl
theorem q248 : (Jvm.Cond.declares ({ cls := "java/lang/RuntimeException", name := "<init>", desc := "()V" } : Jvm.MethodName)) ∈ lw_tbl := lw_at lw_m1 49 rfl
theorem q249 : (Jvm.Cond.declares ({ cls := "java/lang/RuntimeException", name := "<init>", desc := "(Ljava/lang/String;)V" } : Jvm.MethodName)) ∈ lw_tbl := lw_at lw_m1 50 rfl
theorem q290 : (Jvm.Cond.instanceMethod ({ cls := "java/lang/RuntimeException", name := "<init>", desc := "()V" } : Jvm.MethodName)) ∈ lw_all := lw_g (lw_at lw_m1 91 rfl) rfl
theorem q291 : (Jvm.Cond.code ({ cls := "java/lang/RuntimeException", name := "<init>", desc := "()V" } : Jvm.MethodName) prog_22_method_1_code (1 : Nat) (Option.none : Option Jvm.ClassFile.FieldType)) ∈ lw_all := lw_g (lw_at lw_m1 92 rfl) rfl
theorem q292 : (Jvm.Cond.methodLink "java/lang/RuntimeException" (1 : Nat) ({ cls := "java/lang/Exception", name := "<init>", desc := "()V" } : Jvm.MethodName)) ∈ lw_all := lw_g (lw_at lw_m1 93 rfl) rfl

def RJ3 : String := "java/util/AbstractCollection"
theorem q208 : (Jvm.Cond.initialized "java/util/AbstractCollection") ∈ lw_all := lw_g (lw_at lw_m1 9 rfl) rfl
theorem q447 : (Jvm.Cond.instanceMethod ({ cls := "java/util/AbstractCollection", name := "<init>", desc := "()V" } : Jvm.MethodName)) ∈ lw_all := lw_g (lw_at lw_m2 8 rfl) rfl
theorem q448 : (Jvm.Cond.code ({ cls := "java/util/AbstractCollection", name := "<init>", desc := "()V" } : Jvm.MethodName) prog_30_method_1_code (1 : Nat) (Option.none : Option Jvm.ClassFile.FieldType)) ∈ lw_all := lw_g (lw_at lw_m2 9 rfl) rfl
theorem q449 : (Jvm.Cond.methodLink "java/util/AbstractCollection" (1 : Nat) ({ cls := "java/lang/Object", name := "<init>", desc := "()V" } : Jvm.MethodName)) ∈ lw_all := lw_g (lw_at lw_m2 10 rfl) rfl

def RJ4 : String := "java/util/AbstractList"
theorem q209 : (Jvm.Cond.initialized "java/util/AbstractList") ∈ lw_all := lw_g (lw_at lw_m1 10 rfl) rfl
theorem q444 : (Jvm.Cond.instanceMethod ({ cls := "java/util/AbstractList", name := "<init>", desc := "()V" } : Jvm.MethodName)) ∈ lw_all := lw_g (lw_at lw_m2 5 rfl) rfl
theorem q445 : (Jvm.Cond.code ({ cls := "java/util/AbstractList", name := "<init>", desc := "()V" } : Jvm.MethodName) prog_31_method_1_code (1 : Nat) (Option.none : Option Jvm.ClassFile.FieldType)) ∈ lw_all := lw_g (lw_at lw_m2 6 rfl) rfl
theorem q446 : (Jvm.Cond.methodLink "java/util/AbstractList" (1 : Nat) ({ cls := "java/util/AbstractCollection", name := "<init>", desc := "()V" } : Jvm.MethodName)) ∈ lw_all := lw_g (lw_at lw_m2 7 rfl) rfl
theorem q454 : (Jvm.Cond.fieldLink "java/util/AbstractList" (7 : Nat) "java/util/AbstractList" "modCount" "I") ∈ lw_all := lw_g (lw_at lw_m2 15 rfl) rfl
theorem q462 : (Jvm.Cond.soleField "java/util/AbstractList" "modCount") ∈ lw_all := lw_g (lw_at lw_m2 23 rfl) rfl

def RJ5 : String := "java/util/ArrayList"
def TJ5 : u_T := fun k => match k with
  | 0 => ("java/util/AbstractList", "modCount", "I", false)
  | 1 => ("java/util/ArrayList", "elementData", "[Ljava/lang/Object;", false)
  | _ => ("java/util/ArrayList", "size", "I", false)
def tyJ5 : Nat → FieldType := fun k => match k with
  | 0 => .int
  | 1 => .array (.object "java/lang/Object")
  | _ => .int
abbrev wsJ50 : List Cond := u_ws RJ5 TJ5 3
theorem nmJ5 : ∀ a, a < 3 → ∀ b, b < 3 → a ≠ b → (TJ5 a).2.1 ≠ (TJ5 b).2.1 := by decide +kernel
theorem tyJ5_ok : ∀ k, k < 3 → parseFieldDescriptor (TJ5 k).2.2.1 = some (tyJ5 k) := by decide +kernel
theorem q210 : (Jvm.Cond.initialized "java/util/ArrayList") ∈ lw_all := lw_g (lw_at lw_m1 11 rfl) rfl
theorem q439 : (Jvm.Cond.instantiable "java/util/ArrayList" (3 : Nat)) ∈ lw_all := lw_g (lw_at lw_m2 0 rfl) rfl
theorem q441 : (Jvm.Cond.instanceMethod ({ cls := "java/util/ArrayList", name := "<init>", desc := "()V" } : Jvm.MethodName)) ∈ lw_all := lw_g (lw_at lw_m2 2 rfl) rfl
theorem q442 : (Jvm.Cond.code ({ cls := "java/util/ArrayList", name := "<init>", desc := "()V" } : Jvm.MethodName) prog_32_method_2_code (1 : Nat) (Option.none : Option Jvm.ClassFile.FieldType)) ∈ lw_all := lw_g (lw_at lw_m2 3 rfl) rfl
theorem q443 : (Jvm.Cond.methodLink "java/util/ArrayList" (1 : Nat) ({ cls := "java/util/AbstractList", name := "<init>", desc := "()V" } : Jvm.MethodName)) ∈ lw_all := lw_g (lw_at lw_m2 4 rfl) rfl
theorem q450 : (Jvm.Cond.fieldLink "java/util/ArrayList" (39 : Nat) "java/util/ArrayList" "DEFAULTCAPACITY_EMPTY_ELEMENTDATA" "[Ljava/lang/Object;") ∈ lw_all := lw_g (lw_at lw_m2 11 rfl) rfl
theorem q451 : (Jvm.Cond.laysStatic "java/util/ArrayList" "DEFAULTCAPACITY_EMPTY_ELEMENTDATA" "[Ljava/lang/Object;") ∈ lw_tbl := lw_at lw_m2 12 rfl
theorem q452 : (Jvm.Cond.fieldLink "java/util/ArrayList" (9 : Nat) "java/util/ArrayList" "elementData" "[Ljava/lang/Object;") ∈ lw_all := lw_g (lw_at lw_m2 13 rfl) rfl
theorem q453 : (Jvm.Cond.fieldLink "java/util/ArrayList" (48 : Nat) "java/util/ArrayList" "size" "I") ∈ lw_all := lw_g (lw_at lw_m2 14 rfl) rfl
theorem q455 : (Jvm.Cond.fieldLink "java/util/ArrayList" (63 : Nat) "java/util/ArrayList" "modCount" "I") ∈ lw_all := lw_g (lw_at lw_m2 16 rfl) rfl
theorem q456 : (Jvm.Cond.sameField "java/util/ArrayList" "java/util/AbstractList" "modCount" "I") ∈ lw_all := lw_g (lw_at lw_m2 17 rfl) rfl
theorem q457 : (Jvm.Cond.lays "java/util/ArrayList" "java/util/ArrayList" "elementData" "[Ljava/lang/Object;") ∈ lw_all := lw_g (lw_at lw_m2 18 rfl) rfl
theorem q458 : (Jvm.Cond.soleField "java/util/ArrayList" "elementData") ∈ lw_all := lw_g (lw_at lw_m2 19 rfl) rfl
theorem q459 : (Jvm.Cond.lays "java/util/ArrayList" "java/util/ArrayList" "size" "I") ∈ lw_all := lw_g (lw_at lw_m2 20 rfl) rfl
theorem q460 : (Jvm.Cond.soleField "java/util/ArrayList" "size") ∈ lw_all := lw_g (lw_at lw_m2 21 rfl) rfl
theorem q461 : (Jvm.Cond.lays "java/util/ArrayList" "java/util/AbstractList" "modCount" "I") ∈ lw_all := lw_g (lw_at lw_m2 22 rfl) rfl
theorem q463 : (Jvm.Cond.superclass "java/util/ArrayList" "java/util/AbstractList") ∈ lw_all := lw_g (lw_at lw_m2 24 rfl) rfl
theorem q608 : (Jvm.Cond.instanceMethod ({ cls := "java/util/ArrayList", name := "size", desc := "()I" } : Jvm.MethodName)) ∈ lw_all := lw_g (lw_at lw_m2 169 rfl) rfl
theorem q609 : (Jvm.Cond.selects "java/util/ArrayList" ({ cls := "java/util/ArrayList", name := "size", desc := "()I" } : Jvm.MethodName) ({ cls := "java/util/ArrayList", name := "size", desc := "()I" } : Jvm.MethodName)) ∈ lw_all := lw_g (lw_at lw_m2 170 rfl) rfl
theorem q610 : (Jvm.Cond.code ({ cls := "java/util/ArrayList", name := "size", desc := "()I" } : Jvm.MethodName) prog_32_method_8_code (1 : Nat) (Option.some Jvm.ClassFile.FieldType.int)) ∈ lw_all := lw_g (lw_at lw_m2 171 rfl) rfl
theorem q612 : (Jvm.Cond.instanceMethod ({ cls := "java/util/ArrayList", name := "get", desc := "(I)Ljava/lang/Object;" } : Jvm.MethodName)) ∈ lw_all := lw_g (lw_at lw_m2 173 rfl) rfl
theorem q613 : (Jvm.Cond.selects "java/util/ArrayList" ({ cls := "java/util/ArrayList", name := "get", desc := "(I)Ljava/lang/Object;" } : Jvm.MethodName) ({ cls := "java/util/ArrayList", name := "get", desc := "(I)Ljava/lang/Object;" } : Jvm.MethodName)) ∈ lw_all := lw_g (lw_at lw_m2 174 rfl) rfl
theorem q614 : (Jvm.Cond.code ({ cls := "java/util/ArrayList", name := "get", desc := "(I)Ljava/lang/Object;" } : Jvm.MethodName) prog_32_method_20_code (2 : Nat) (Option.some (Jvm.ClassFile.FieldType.object "java/lang/Object"))) ∈ lw_all := lw_g (lw_at lw_m2 175 rfl) rfl
theorem q615 : (Jvm.Cond.methodLink "java/util/ArrayList" (118 : Nat) ({ cls := "java/util/Objects", name := "checkIndex", desc := "(II)I" } : Jvm.MethodName)) ∈ lw_all := lw_g (lw_at lw_m2 176 rfl) rfl
theorem q619 : (Jvm.Cond.methodLink "java/util/ArrayList" (123 : Nat) ({ cls := "java/util/ArrayList", name := "elementData", desc := "(I)Ljava/lang/Object;" } : Jvm.MethodName)) ∈ lw_all := lw_g (lw_at lw_m2 180 rfl) rfl
theorem q620 : (Jvm.Cond.instanceMethod ({ cls := "java/util/ArrayList", name := "elementData", desc := "(I)Ljava/lang/Object;" } : Jvm.MethodName)) ∈ lw_all := lw_g (lw_at lw_m2 181 rfl) rfl
theorem q621 : (Jvm.Cond.selects "java/util/ArrayList" ({ cls := "java/util/ArrayList", name := "elementData", desc := "(I)Ljava/lang/Object;" } : Jvm.MethodName) ({ cls := "java/util/ArrayList", name := "elementData", desc := "(I)Ljava/lang/Object;" } : Jvm.MethodName)) ∈ lw_all := lw_g (lw_at lw_m2 182 rfl) rfl
theorem q622 : (Jvm.Cond.code ({ cls := "java/util/ArrayList", name := "elementData", desc := "(I)Ljava/lang/Object;" } : Jvm.MethodName) prog_32_method_18_code (2 : Nat) (Option.some (Jvm.ClassFile.FieldType.object "java/lang/Object"))) ∈ lw_all := lw_g (lw_at lw_m2 183 rfl) rfl
theorem q631 : (Jvm.Cond.instanceMethod ({ cls := "java/util/ArrayList", name := "add", desc := "(Ljava/lang/Object;)Z" } : Jvm.MethodName)) ∈ lw_all := lw_g (lw_at lw_m2 192 rfl) rfl
theorem q632 : (Jvm.Cond.selects "java/util/ArrayList" ({ cls := "java/util/ArrayList", name := "add", desc := "(Ljava/lang/Object;)Z" } : Jvm.MethodName) ({ cls := "java/util/ArrayList", name := "add", desc := "(Ljava/lang/Object;)Z" } : Jvm.MethodName)) ∈ lw_all := lw_g (lw_at lw_m2 193 rfl) rfl
theorem q633 : (Jvm.Cond.code ({ cls := "java/util/ArrayList", name := "add", desc := "(Ljava/lang/Object;)Z" } : Jvm.MethodName) prog_32_method_25_code (2 : Nat) (Option.some Jvm.ClassFile.FieldType.boolean)) ∈ lw_all := lw_g (lw_at lw_m2 194 rfl) rfl
theorem q634 : (Jvm.Cond.methodLink "java/util/ArrayList" (131 : Nat) ({ cls := "java/util/ArrayList", name := "add", desc := "(Ljava/lang/Object;[Ljava/lang/Object;I)V" } : Jvm.MethodName)) ∈ lw_all := lw_g (lw_at lw_m2 195 rfl) rfl
theorem q635 : (Jvm.Cond.privateMethod ({ cls := "java/util/ArrayList", name := "add", desc := "(Ljava/lang/Object;[Ljava/lang/Object;I)V" } : Jvm.MethodName)) ∈ lw_tbl := lw_at lw_m2 196 rfl
theorem q636 : (Jvm.Cond.instanceMethod ({ cls := "java/util/ArrayList", name := "add", desc := "(Ljava/lang/Object;[Ljava/lang/Object;I)V" } : Jvm.MethodName)) ∈ lw_all := lw_g (lw_at lw_m2 197 rfl) rfl
theorem q637 : (Jvm.Cond.code ({ cls := "java/util/ArrayList", name := "add", desc := "(Ljava/lang/Object;[Ljava/lang/Object;I)V" } : Jvm.MethodName) prog_32_method_24_code (4 : Nat) (Option.none : Option Jvm.ClassFile.FieldType)) ∈ lw_all := lw_g (lw_at lw_m2 198 rfl) rfl
theorem q638 : (Jvm.Cond.methodLink "java/util/ArrayList" (129 : Nat) ({ cls := "java/util/ArrayList", name := "grow", desc := "()[Ljava/lang/Object;" } : Jvm.MethodName)) ∈ lw_all := lw_g (lw_at lw_m2 199 rfl) rfl
theorem q639 : (Jvm.Cond.privateMethod ({ cls := "java/util/ArrayList", name := "grow", desc := "()[Ljava/lang/Object;" } : Jvm.MethodName)) ∈ lw_tbl := lw_at lw_m2 200 rfl
theorem q640 : (Jvm.Cond.instanceMethod ({ cls := "java/util/ArrayList", name := "grow", desc := "()[Ljava/lang/Object;" } : Jvm.MethodName)) ∈ lw_all := lw_g (lw_at lw_m2 201 rfl) rfl
theorem q641 : (Jvm.Cond.code ({ cls := "java/util/ArrayList", name := "grow", desc := "()[Ljava/lang/Object;" } : Jvm.MethodName) prog_32_method_7_code (1 : Nat) (Option.some (Jvm.ClassFile.FieldType.array (Jvm.ClassFile.FieldType.object "java/lang/Object")))) ∈ lw_all := lw_g (lw_at lw_m2 202 rfl) rfl
theorem q642 : (Jvm.Cond.methodLink "java/util/ArrayList" (69 : Nat) ({ cls := "java/util/ArrayList", name := "grow", desc := "(I)[Ljava/lang/Object;" } : Jvm.MethodName)) ∈ lw_all := lw_g (lw_at lw_m2 203 rfl) rfl
theorem q643 : (Jvm.Cond.privateMethod ({ cls := "java/util/ArrayList", name := "grow", desc := "(I)[Ljava/lang/Object;" } : Jvm.MethodName)) ∈ lw_tbl := lw_at lw_m2 204 rfl
theorem q644 : (Jvm.Cond.instanceMethod ({ cls := "java/util/ArrayList", name := "grow", desc := "(I)[Ljava/lang/Object;" } : Jvm.MethodName)) ∈ lw_all := lw_g (lw_at lw_m2 205 rfl) rfl
theorem q645 : (Jvm.Cond.code ({ cls := "java/util/ArrayList", name := "grow", desc := "(I)[Ljava/lang/Object;" } : Jvm.MethodName) prog_32_method_6_code (4 : Nat) (Option.some (Jvm.ClassFile.FieldType.array (Jvm.ClassFile.FieldType.object "java/lang/Object")))) ∈ lw_all := lw_g (lw_at lw_m2 206 rfl) rfl
theorem q646 : (Jvm.Cond.methodLink "java/util/ArrayList" (73 : Nat) ({ cls := "jdk/internal/util/ArraysSupport", name := "newLength", desc := "(III)I" } : Jvm.MethodName)) ∈ lw_all := lw_g (lw_at lw_m2 207 rfl) rfl
theorem q656 : (Jvm.Cond.methodLink "java/util/ArrayList" (66 : Nat) ({ cls := "java/util/Arrays", name := "copyOf", desc := "([Ljava/lang/Object;I)[Ljava/lang/Object;" } : Jvm.MethodName)) ∈ lw_all := lw_g (lw_at lw_m2 217 rfl) rfl
theorem q675 : (Jvm.Cond.selects "java/util/ArrayList" ({ cls := "java/lang/Object", name := "getClass", desc := "()Ljava/lang/Class;" } : Jvm.MethodName) ({ cls := "java/lang/Object", name := "getClass", desc := "()Ljava/lang/Class;" } : Jvm.MethodName)) ∈ lw_all := lw_g (lw_at lw_m2 236 rfl) rfl
theorem q687 : (Jvm.Cond.methodLink "java/util/ArrayList" (79 : Nat) ({ cls := "java/lang/Math", name := "max", desc := "(II)I" } : Jvm.MethodName)) ∈ lw_all := lw_g (lw_at lw_m3 8 rfl) rfl
theorem q688 : (Jvm.Cond.classLink "java/util/ArrayList" (7 : Nat) "java/lang/Object") ∈ lw_all := lw_g (lw_at lw_m3 9 rfl) rfl
theorem q983 : (Jvm.Cond.instanceMethod ({ cls := "java/util/ArrayList", name := "isEmpty", desc := "()Z" } : Jvm.MethodName)) ∈ lw_all := lw_g (lw_at lw_m4 64 rfl) rfl
theorem q984 : (Jvm.Cond.selects "java/util/ArrayList" ({ cls := "java/util/ArrayList", name := "isEmpty", desc := "()Z" } : Jvm.MethodName) ({ cls := "java/util/ArrayList", name := "isEmpty", desc := "()Z" } : Jvm.MethodName)) ∈ lw_all := lw_g (lw_at lw_m4 65 rfl) rfl
theorem q985 : (Jvm.Cond.code ({ cls := "java/util/ArrayList", name := "isEmpty", desc := "()Z" } : Jvm.MethodName) prog_32_method_9_code (1 : Nat) (Option.some Jvm.ClassFile.FieldType.boolean)) ∈ lw_all := lw_g (lw_at lw_m4 66 rfl) rfl
theorem q1243 : (Jvm.Cond.instanceMethod ({ cls := "java/util/ArrayList", name := "remove", desc := "(I)Ljava/lang/Object;" } : Jvm.MethodName)) ∈ lw_all := lw_g (lw_at lw_m5 84 rfl) rfl
theorem q1244 : (Jvm.Cond.selects "java/util/ArrayList" ({ cls := "java/util/ArrayList", name := "remove", desc := "(I)Ljava/lang/Object;" } : Jvm.MethodName) ({ cls := "java/util/ArrayList", name := "remove", desc := "(I)Ljava/lang/Object;" } : Jvm.MethodName)) ∈ lw_all := lw_g (lw_at lw_m5 85 rfl) rfl
theorem q1245 : (Jvm.Cond.code ({ cls := "java/util/ArrayList", name := "remove", desc := "(I)Ljava/lang/Object;" } : Jvm.MethodName) prog_32_method_29_code (4 : Nat) (Option.some (Jvm.ClassFile.FieldType.object "java/lang/Object"))) ∈ lw_all := lw_g (lw_at lw_m5 86 rfl) rfl
theorem q1246 : (Jvm.Cond.methodLink "java/util/ArrayList" (144 : Nat) ({ cls := "java/util/ArrayList", name := "fastRemove", desc := "([Ljava/lang/Object;I)V" } : Jvm.MethodName)) ∈ lw_all := lw_g (lw_at lw_m5 87 rfl) rfl
theorem q1247 : (Jvm.Cond.privateMethod ({ cls := "java/util/ArrayList", name := "fastRemove", desc := "([Ljava/lang/Object;I)V" } : Jvm.MethodName)) ∈ lw_tbl := lw_at lw_m5 88 rfl
theorem q1248 : (Jvm.Cond.instanceMethod ({ cls := "java/util/ArrayList", name := "fastRemove", desc := "([Ljava/lang/Object;I)V" } : Jvm.MethodName)) ∈ lw_all := lw_g (lw_at lw_m5 89 rfl) rfl
theorem q1249 : (Jvm.Cond.code ({ cls := "java/util/ArrayList", name := "fastRemove", desc := "([Ljava/lang/Object;I)V" } : Jvm.MethodName) prog_32_method_39_code (4 : Nat) (Option.none : Option Jvm.ClassFile.FieldType)) ∈ lw_all := lw_g (lw_at lw_m5 90 rfl) rfl
theorem q1250 : (Jvm.Cond.methodLink "java/util/ArrayList" (112 : Nat) ({ cls := "java/lang/System", name := "arraycopy", desc := "(Ljava/lang/Object;ILjava/lang/Object;II)V" } : Jvm.MethodName)) ∈ lw_all := lw_g (lw_at lw_m5 91 rfl) rfl
theorem q2339 : (Jvm.Cond.castable "java/util/ArrayList" "java/lang/Object") ∈ lw_tbl := lw_at lw_m9 220 rfl
theorem in_J5 : ∀ w ∈ wsJ50, w ∈ lw_all := lw_in wsJ50 [461, 457, 459] (by decide +kernel) (by decide +kernel)

def RJ6 : String := "java/lang/String"
theorem q211 : (Jvm.Cond.initialized "java/lang/String") ∈ lw_all := lw_g (lw_at lw_m1 12 rfl) rfl
theorem q514 : (Jvm.Cond.instanceMethod ({ cls := "java/lang/String", name := "length", desc := "()I" } : Jvm.MethodName)) ∈ lw_all := lw_g (lw_at lw_m2 75 rfl) rfl
theorem q515 : (Jvm.Cond.selects "java/lang/String" ({ cls := "java/lang/String", name := "length", desc := "()I" } : Jvm.MethodName) ({ cls := "java/lang/String", name := "length", desc := "()I" } : Jvm.MethodName)) ∈ lw_all := lw_g (lw_at lw_m2 76 rfl) rfl
theorem q516 : (Jvm.Cond.code ({ cls := "java/lang/String", name := "length", desc := "()I" } : Jvm.MethodName) prog_23_method_54_code (1 : Nat) (Option.some Jvm.ClassFile.FieldType.int)) ∈ lw_all := lw_g (lw_at lw_m2 77 rfl) rfl
theorem q517 : (Jvm.Cond.methodLink "java/lang/String" (335 : Nat) ({ cls := "java/lang/String", name := "coder", desc := "()B" } : Jvm.MethodName)) ∈ lw_all := lw_g (lw_at lw_m2 78 rfl) rfl
theorem q518 : (Jvm.Cond.instanceMethod ({ cls := "java/lang/String", name := "coder", desc := "()B" } : Jvm.MethodName)) ∈ lw_all := lw_g (lw_at lw_m2 79 rfl) rfl
theorem q519 : (Jvm.Cond.selects "java/lang/String" ({ cls := "java/lang/String", name := "coder", desc := "()B" } : Jvm.MethodName) ({ cls := "java/lang/String", name := "coder", desc := "()B" } : Jvm.MethodName)) ∈ lw_all := lw_g (lw_at lw_m2 80 rfl) rfl
theorem q520 : (Jvm.Cond.code ({ cls := "java/lang/String", name := "coder", desc := "()B" } : Jvm.MethodName) prog_23_method_152_code (1 : Nat) (Option.some Jvm.ClassFile.FieldType.byte)) ∈ lw_all := lw_g (lw_at lw_m2 81 rfl) rfl
theorem q521 : (Jvm.Cond.fieldLink "java/lang/String" (38 : Nat) "java/lang/String" "COMPACT_STRINGS" "Z") ∈ lw_all := lw_g (lw_at lw_m2 82 rfl) rfl
theorem q522 : (Jvm.Cond.laysStatic "java/lang/String" "COMPACT_STRINGS" "Z") ∈ lw_tbl := lw_at lw_m2 83 rfl
theorem q524 : (Jvm.Cond.instanceMethod ({ cls := "java/lang/String", name := "charAt", desc := "(I)C" } : Jvm.MethodName)) ∈ lw_all := lw_g (lw_at lw_m2 85 rfl) rfl
theorem q525 : (Jvm.Cond.selects "java/lang/String" ({ cls := "java/lang/String", name := "charAt", desc := "(I)C" } : Jvm.MethodName) ({ cls := "java/lang/String", name := "charAt", desc := "(I)C" } : Jvm.MethodName)) ∈ lw_all := lw_g (lw_at lw_m2 86 rfl) rfl
theorem q526 : (Jvm.Cond.code ({ cls := "java/lang/String", name := "charAt", desc := "(I)C" } : Jvm.MethodName) prog_23_method_56_code (2 : Nat) (Option.some Jvm.ClassFile.FieldType.char)) ∈ lw_all := lw_g (lw_at lw_m2 87 rfl) rfl
theorem q527 : (Jvm.Cond.methodLink "java/lang/String" (492 : Nat) ({ cls := "java/lang/String", name := "isLatin1", desc := "()Z" } : Jvm.MethodName)) ∈ lw_all := lw_g (lw_at lw_m2 88 rfl) rfl
theorem q528 : (Jvm.Cond.instanceMethod ({ cls := "java/lang/String", name := "isLatin1", desc := "()Z" } : Jvm.MethodName)) ∈ lw_all := lw_g (lw_at lw_m2 89 rfl) rfl
theorem q529 : (Jvm.Cond.selects "java/lang/String" ({ cls := "java/lang/String", name := "isLatin1", desc := "()Z" } : Jvm.MethodName) ({ cls := "java/lang/String", name := "isLatin1", desc := "()Z" } : Jvm.MethodName)) ∈ lw_all := lw_g (lw_at lw_m2 90 rfl) rfl
theorem q530 : (Jvm.Cond.code ({ cls := "java/lang/String", name := "isLatin1", desc := "()Z" } : Jvm.MethodName) prog_23_method_154_code (1 : Nat) (Option.some Jvm.ClassFile.FieldType.boolean)) ∈ lw_all := lw_g (lw_at lw_m2 91 rfl) rfl
theorem q531 : (Jvm.Cond.methodLink "java/lang/String" (495 : Nat) ({ cls := "java/lang/StringLatin1", name := "charAt", desc := "([BI)C" } : Jvm.MethodName)) ∈ lw_all := lw_g (lw_at lw_m2 92 rfl) rfl
theorem q535 : (Jvm.Cond.static ({ cls := "java/lang/String", name := "checkIndex", desc := "(II)V" } : Jvm.MethodName)) ∈ lw_all := lw_g (lw_at lw_m2 96 rfl) rfl
theorem q536 : (Jvm.Cond.code ({ cls := "java/lang/String", name := "checkIndex", desc := "(II)V" } : Jvm.MethodName) prog_23_method_155_code (2 : Nat) (Option.none : Option Jvm.ClassFile.FieldType)) ∈ lw_all := lw_g (lw_at lw_m2 97 rfl) rfl
theorem q537 : (Jvm.Cond.fieldLink "java/lang/String" (1053 : Nat) "jdk/internal/util/Preconditions" "SIOOBE_FORMATTER" "Ljava/util/function/BiFunction;") ∈ lw_all := lw_g (lw_at lw_m2 98 rfl) rfl
theorem q539 : (Jvm.Cond.methodLink "java/lang/String" (1059 : Nat) ({ cls := "jdk/internal/util/Preconditions", name := "checkIndex", desc := "(IILjava/util/function/BiFunction;)I" } : Jvm.MethodName)) ∈ lw_all := lw_g (lw_at lw_m2 100 rfl) rfl
theorem q542 : (Jvm.Cond.methodLink "java/lang/String" (498 : Nat) ({ cls := "java/lang/StringUTF16", name := "charAt", desc := "([BI)C" } : Jvm.MethodName)) ∈ lw_all := lw_g (lw_at lw_m2 103 rfl) rfl
theorem q2332 : (Jvm.Cond.castable "java/lang/String" "java/lang/Object") ∈ lw_tbl := lw_at lw_m9 213 rfl
theorem q2358 : (Jvm.Cond.fieldLink "java/lang/String" (9 : Nat) "java/lang/String" "value" "[B") ∈ lw_all := lw_g (lw_at lw_m9 239 rfl) rfl
theorem q2359 : (Jvm.Cond.fieldLink "java/lang/String" (15 : Nat) "java/lang/String" "coder" "B") ∈ lw_all := lw_g (lw_at lw_m10 0 rfl) rfl

def RJ7 : String := "java/lang/StringLatin1"
theorem q212 : (Jvm.Cond.initialized "java/lang/StringLatin1") ∈ lw_all := lw_g (lw_at lw_m1 13 rfl) rfl
theorem q532 : (Jvm.Cond.static ({ cls := "java/lang/StringLatin1", name := "charAt", desc := "([BI)C" } : Jvm.MethodName)) ∈ lw_all := lw_g (lw_at lw_m2 93 rfl) rfl
theorem q533 : (Jvm.Cond.code ({ cls := "java/lang/StringLatin1", name := "charAt", desc := "([BI)C" } : Jvm.MethodName) prog_24_method_2_code (2 : Nat) (Option.some Jvm.ClassFile.FieldType.char)) ∈ lw_all := lw_g (lw_at lw_m2 94 rfl) rfl
theorem q534 : (Jvm.Cond.methodLink "java/lang/StringLatin1" (9 : Nat) ({ cls := "java/lang/String", name := "checkIndex", desc := "(II)V" } : Jvm.MethodName)) ∈ lw_all := lw_g (lw_at lw_m2 95 rfl) rfl

def RJ8 : String := "jdk/internal/util/Preconditions"
theorem q213 : (Jvm.Cond.initialized "jdk/internal/util/Preconditions") ∈ lw_all := lw_g (lw_at lw_m1 14 rfl) rfl
theorem q538 : (Jvm.Cond.laysStatic "jdk/internal/util/Preconditions" "SIOOBE_FORMATTER" "Ljava/util/function/BiFunction;") ∈ lw_tbl := lw_at lw_m2 99 rfl
theorem q540 : (Jvm.Cond.static ({ cls := "jdk/internal/util/Preconditions", name := "checkIndex", desc := "(IILjava/util/function/BiFunction;)I" } : Jvm.MethodName)) ∈ lw_all := lw_g (lw_at lw_m2 101 rfl) rfl
theorem q541 : (Jvm.Cond.code ({ cls := "jdk/internal/util/Preconditions", name := "checkIndex", desc := "(IILjava/util/function/BiFunction;)I" } : Jvm.MethodName) prog_40_method_11_code (3 : Nat) (Option.some Jvm.ClassFile.FieldType.int)) ∈ lw_all := lw_g (lw_at lw_m2 102 rfl) rfl

def RJ9 : String := "java/lang/StringUTF16"
theorem q214 : (Jvm.Cond.initialized "java/lang/StringUTF16") ∈ lw_all := lw_g (lw_at lw_m1 15 rfl) rfl
theorem q543 : (Jvm.Cond.static ({ cls := "java/lang/StringUTF16", name := "charAt", desc := "([BI)C" } : Jvm.MethodName)) ∈ lw_all := lw_g (lw_at lw_m2 104 rfl) rfl
theorem q544 : (Jvm.Cond.code ({ cls := "java/lang/StringUTF16", name := "charAt", desc := "([BI)C" } : Jvm.MethodName) prog_25_method_83_code (2 : Nat) (Option.some Jvm.ClassFile.FieldType.char)) ∈ lw_all := lw_g (lw_at lw_m2 105 rfl) rfl
theorem q545 : (Jvm.Cond.methodLink "java/lang/StringUTF16" (67 : Nat) ({ cls := "java/lang/StringUTF16", name := "checkIndex", desc := "(I[B)V" } : Jvm.MethodName)) ∈ lw_all := lw_g (lw_at lw_m2 106 rfl) rfl
theorem q546 : (Jvm.Cond.static ({ cls := "java/lang/StringUTF16", name := "checkIndex", desc := "(I[B)V" } : Jvm.MethodName)) ∈ lw_all := lw_g (lw_at lw_m2 107 rfl) rfl
theorem q547 : (Jvm.Cond.code ({ cls := "java/lang/StringUTF16", name := "checkIndex", desc := "(I[B)V" } : Jvm.MethodName) prog_25_method_91_code (2 : Nat) (Option.none : Option Jvm.ClassFile.FieldType)) ∈ lw_all := lw_g (lw_at lw_m2 108 rfl) rfl
theorem q548 : (Jvm.Cond.methodLink "java/lang/StringUTF16" (48 : Nat) ({ cls := "java/lang/StringUTF16", name := "length", desc := "([B)I" } : Jvm.MethodName)) ∈ lw_all := lw_g (lw_at lw_m2 109 rfl) rfl
theorem q549 : (Jvm.Cond.static ({ cls := "java/lang/StringUTF16", name := "length", desc := "([B)I" } : Jvm.MethodName)) ∈ lw_all := lw_g (lw_at lw_m2 110 rfl) rfl
theorem q550 : (Jvm.Cond.code ({ cls := "java/lang/StringUTF16", name := "length", desc := "([B)I" } : Jvm.MethodName) prog_25_method_6_code (1 : Nat) (Option.some Jvm.ClassFile.FieldType.int)) ∈ lw_all := lw_g (lw_at lw_m2 111 rfl) rfl
theorem q551 : (Jvm.Cond.methodLink "java/lang/StringUTF16" (414 : Nat) ({ cls := "java/lang/String", name := "checkIndex", desc := "(II)V" } : Jvm.MethodName)) ∈ lw_all := lw_g (lw_at lw_m2 112 rfl) rfl
theorem q552 : (Jvm.Cond.methodLink "java/lang/StringUTF16" (71 : Nat) ({ cls := "java/lang/StringUTF16", name := "getChar", desc := "([BI)C" } : Jvm.MethodName)) ∈ lw_all := lw_g (lw_at lw_m2 113 rfl) rfl
theorem q553 : (Jvm.Cond.static ({ cls := "java/lang/StringUTF16", name := "getChar", desc := "([BI)C" } : Jvm.MethodName)) ∈ lw_all := lw_g (lw_at lw_m2 114 rfl) rfl
theorem q554 : (Jvm.Cond.code ({ cls := "java/lang/StringUTF16", name := "getChar", desc := "([BI)C" } : Jvm.MethodName) prog_25_method_5_code (2 : Nat) (Option.some Jvm.ClassFile.FieldType.char)) ∈ lw_all := lw_g (lw_at lw_m2 115 rfl) rfl
theorem q555 : (Jvm.Cond.fieldLink "java/lang/StringUTF16" (44 : Nat) "java/lang/StringUTF16" "$assertionsDisabled" "Z") ∈ lw_all := lw_g (lw_at lw_m2 116 rfl) rfl
theorem q556 : (Jvm.Cond.laysStatic "java/lang/StringUTF16" "$assertionsDisabled" "Z") ∈ lw_tbl := lw_at lw_m2 117 rfl
theorem q557 : (Jvm.Cond.fieldLink "java/lang/StringUTF16" (59 : Nat) "java/lang/StringUTF16" "HI_BYTE_SHIFT" "I") ∈ lw_all := lw_g (lw_at lw_m2 118 rfl) rfl
theorem q558 : (Jvm.Cond.laysStatic "java/lang/StringUTF16" "HI_BYTE_SHIFT" "I") ∈ lw_tbl := lw_at lw_m2 119 rfl
theorem q559 : (Jvm.Cond.fieldLink "java/lang/StringUTF16" (63 : Nat) "java/lang/StringUTF16" "LO_BYTE_SHIFT" "I") ∈ lw_all := lw_g (lw_at lw_m2 120 rfl) rfl
theorem q560 : (Jvm.Cond.laysStatic "java/lang/StringUTF16" "LO_BYTE_SHIFT" "I") ∈ lw_tbl := lw_at lw_m2 121 rfl

def RX0 : String := "ClassHouse"
def TX0 : u_T := fun k => match k with
  | 0 => ("ClassHouse", "tape", "[B", true)
  | 1 => ("ClassHouse", "fed", "I", false)
  | 2 => ("ClassHouse", "program", "LClassHouse$Checker;", false)
  | 3 => ("ClassHouse", "kinds", "[LClassHouse$Kind;", false)
  | 4 => ("ClassHouse", "cells", "I", false)
  | 5 => ("ClassHouse", "machine", "LClassHouse$Machine;", true)
  | _ => ("ClassHouse", "isBegun", "Z", false)
def tyX0 : Nat → FieldType := fun k => match k with
  | 0 => .array .byte
  | 1 => .int
  | 2 => .object "ClassHouse$Checker"
  | 3 => .array (.object "ClassHouse$Kind")
  | 4 => .int
  | 5 => .object "ClassHouse$Machine"
  | _ => .boolean
abbrev wsX00 : List Cond := u_ws RX0 TX0 7
theorem nmX0 : ∀ a, a < 7 → ∀ b, b < 7 → a ≠ b → (TX0 a).2.1 ≠ (TX0 b).2.1 := by decide +kernel
theorem tyX0_ok : ∀ k, k < 7 → parseFieldDescriptor (TX0 k).2.2.1 = some (tyX0 k) := by decide +kernel
theorem q200 : (Jvm.Cond.initialized "ClassHouse") ∈ lw_all := lw_g (lw_at lw_m1 1 rfl) rfl
theorem q229 : (Jvm.Cond.instantiable "ClassHouse" (7 : Nat)) ∈ lw_all := lw_g (lw_at lw_m1 30 rfl) rfl
theorem q231 : (Jvm.Cond.instanceMethod ({ cls := "ClassHouse", name := "<init>", desc := "()V" } : Jvm.MethodName)) ∈ lw_all := lw_g (lw_at lw_m1 32 rfl) rfl
theorem q232 : (Jvm.Cond.code ({ cls := "ClassHouse", name := "<init>", desc := "()V" } : Jvm.MethodName) prog_1_method_6_code (1 : Nat) (Option.none : Option Jvm.ClassFile.FieldType)) ∈ lw_all := lw_g (lw_at lw_m1 33 rfl) rfl
theorem q233 : (Jvm.Cond.methodLink "ClassHouse" (1 : Nat) ({ cls := "java/lang/Object", name := "<init>", desc := "()V" } : Jvm.MethodName)) ∈ lw_all := lw_g (lw_at lw_m1 34 rfl) rfl
theorem q236 : (Jvm.Cond.classLink "ClassHouse" (17 : Nat) "ClassHouse$Machine") ∈ lw_all := lw_g (lw_at lw_m1 37 rfl) rfl
theorem q238 : (Jvm.Cond.methodLinkNest "ClassHouse" (19 : Nat) ({ cls := "ClassHouse$Machine", name := "<init>", desc := "()V" } : Jvm.MethodName) "ClassHouse") ∈ lw_tbl := lw_at lw_m1 39 rfl
theorem q326 : (Jvm.Cond.fieldLinkNest "ClassHouse" (131 : Nat) "ClassHouse$Machine" "open" "I" "ClassHouse") ∈ lw_tbl := lw_at lw_m1 127 rfl
theorem q328 : (Jvm.Cond.fieldLinkNest "ClassHouse" (84 : Nat) "ClassHouse$Machine" "given" "[I" "ClassHouse") ∈ lw_tbl := lw_at lw_m1 129 rfl
theorem q329 : (Jvm.Cond.fieldLinkNest "ClassHouse" (88 : Nat) "ClassHouse$Machine" "givenFirst" "I" "ClassHouse") ∈ lw_tbl := lw_at lw_m1 130 rfl
theorem q331 : (Jvm.Cond.fieldLinkNest "ClassHouse" (78 : Nat) "ClassHouse$Machine" "givenMany" "I" "ClassHouse") ∈ lw_tbl := lw_at lw_m1 132 rfl
theorem q334 : (Jvm.Cond.fieldLinkNest "ClassHouse" (116 : Nat) "ClassHouse$Machine" "outputs" "[I" "ClassHouse") ∈ lw_tbl := lw_at lw_m1 135 rfl
theorem q336 : (Jvm.Cond.fieldLinkNest "ClassHouse" (113 : Nat) "ClassHouse$Machine" "printed" "I" "ClassHouse") ∈ lw_tbl := lw_at lw_m1 137 rfl
theorem q338 : (Jvm.Cond.fieldLinkNest "ClassHouse" (122 : Nat) "ClassHouse$Machine" "steps" "I" "ClassHouse") ∈ lw_tbl := lw_at lw_m1 139 rfl
theorem q340 : (Jvm.Cond.fieldLinkNest "ClassHouse" (125 : Nat) "ClassHouse$Machine" "made" "I" "ClassHouse") ∈ lw_tbl := lw_at lw_m1 141 rfl
theorem q342 : (Jvm.Cond.fieldLinkNest "ClassHouse" (134 : Nat) "ClassHouse$Machine" "thrown" "I" "ClassHouse") ∈ lw_tbl := lw_at lw_m1 143 rfl
theorem q344 : (Jvm.Cond.fieldLinkNest "ClassHouse" (107 : Nat) "ClassHouse$Machine" "ended" "I" "ClassHouse") ∈ lw_tbl := lw_at lw_m1 145 rfl
theorem q346 : (Jvm.Cond.fieldLinkNest "ClassHouse" (110 : Nat) "ClassHouse$Machine" "result" "I" "ClassHouse") ∈ lw_tbl := lw_at lw_m1 147 rfl
theorem q393 : (Jvm.Cond.fieldLink "ClassHouse" (9 : Nat) "ClassHouse" "tape" "[B") ∈ lw_all := lw_g (lw_at lw_m1 194 rfl) rfl
theorem q394 : (Jvm.Cond.fieldLink "ClassHouse" (24 : Nat) "ClassHouse" "fed" "I") ∈ lw_all := lw_g (lw_at lw_m1 195 rfl) rfl
theorem q395 : (Jvm.Cond.fieldLink "ClassHouse" (31 : Nat) "ClassHouse" "program" "LClassHouse$Checker;") ∈ lw_all := lw_g (lw_at lw_m1 196 rfl) rfl
theorem q396 : (Jvm.Cond.fieldLink "ClassHouse" (71 : Nat) "ClassHouse" "kinds" "[LClassHouse$Kind;") ∈ lw_all := lw_g (lw_at lw_m1 197 rfl) rfl
theorem q397 : (Jvm.Cond.fieldLink "ClassHouse" (13 : Nat) "ClassHouse" "cells" "I") ∈ lw_all := lw_g (lw_at lw_m1 198 rfl) rfl
theorem q398 : (Jvm.Cond.fieldLink "ClassHouse" (20 : Nat) "ClassHouse" "machine" "LClassHouse$Machine;") ∈ lw_all := lw_g (lw_at lw_m1 199 rfl) rfl
theorem q399 : (Jvm.Cond.fieldLink "ClassHouse" (35 : Nat) "ClassHouse" "isBegun" "Z") ∈ lw_all := lw_g (lw_at lw_m1 200 rfl) rfl
theorem q400 : (Jvm.Cond.laysFinal "ClassHouse" "ClassHouse" "tape" "[B") ∈ lw_all := lw_g (lw_at lw_m1 201 rfl) rfl
theorem q401 : (Jvm.Cond.soleField "ClassHouse" "tape") ∈ lw_all := lw_g (lw_at lw_m1 202 rfl) rfl
theorem q402 : (Jvm.Cond.lays "ClassHouse" "ClassHouse" "fed" "I") ∈ lw_all := lw_g (lw_at lw_m1 203 rfl) rfl
theorem q403 : (Jvm.Cond.soleField "ClassHouse" "fed") ∈ lw_all := lw_g (lw_at lw_m1 204 rfl) rfl
theorem q404 : (Jvm.Cond.lays "ClassHouse" "ClassHouse" "program" "LClassHouse$Checker;") ∈ lw_all := lw_g (lw_at lw_m1 205 rfl) rfl
theorem q405 : (Jvm.Cond.soleField "ClassHouse" "program") ∈ lw_all := lw_g (lw_at lw_m1 206 rfl) rfl
theorem q406 : (Jvm.Cond.lays "ClassHouse" "ClassHouse" "kinds" "[LClassHouse$Kind;") ∈ lw_all := lw_g (lw_at lw_m1 207 rfl) rfl
theorem q407 : (Jvm.Cond.soleField "ClassHouse" "kinds") ∈ lw_all := lw_g (lw_at lw_m1 208 rfl) rfl
theorem q408 : (Jvm.Cond.lays "ClassHouse" "ClassHouse" "cells" "I") ∈ lw_all := lw_g (lw_at lw_m1 209 rfl) rfl
theorem q409 : (Jvm.Cond.soleField "ClassHouse" "cells") ∈ lw_all := lw_g (lw_at lw_m1 210 rfl) rfl
theorem q410 : (Jvm.Cond.laysFinal "ClassHouse" "ClassHouse" "machine" "LClassHouse$Machine;") ∈ lw_all := lw_g (lw_at lw_m1 211 rfl) rfl
theorem q411 : (Jvm.Cond.soleField "ClassHouse" "machine") ∈ lw_all := lw_g (lw_at lw_m1 212 rfl) rfl
theorem q412 : (Jvm.Cond.lays "ClassHouse" "ClassHouse" "isBegun" "Z") ∈ lw_all := lw_g (lw_at lw_m1 213 rfl) rfl
theorem q413 : (Jvm.Cond.soleField "ClassHouse" "isBegun") ∈ lw_all := lw_g (lw_at lw_m1 214 rfl) rfl
theorem q414 : (Jvm.Cond.superclass "ClassHouse" "java/lang/Object") ∈ lw_all := lw_g (lw_at lw_m1 215 rfl) rfl
theorem q416 : (Jvm.Cond.instanceMethod ({ cls := "ClassHouse", name := "feed", desc := "(IIIII)I" } : Jvm.MethodName)) ∈ lw_all := lw_g (lw_at lw_m1 217 rfl) rfl
theorem q417 : (Jvm.Cond.selects "ClassHouse" ({ cls := "ClassHouse", name := "feed", desc := "(IIIII)I" } : Jvm.MethodName) ({ cls := "ClassHouse", name := "feed", desc := "(IIIII)I" } : Jvm.MethodName)) ∈ lw_all := lw_g (lw_at lw_m1 218 rfl) rfl
theorem q418 : (Jvm.Cond.code ({ cls := "ClassHouse", name := "feed", desc := "(IIIII)I" } : Jvm.MethodName) prog_1_method_7_code (6 : Nat) (Option.some Jvm.ClassFile.FieldType.int)) ∈ lw_all := lw_g (lw_at lw_m1 219 rfl) rfl
theorem q419 : (Jvm.Cond.methodLink "ClassHouse" (27 : Nat) ({ cls := "ClassHouse", name := "put", desc := "(I)V" } : Jvm.MethodName)) ∈ lw_all := lw_g (lw_at lw_m1 220 rfl) rfl
theorem q420 : (Jvm.Cond.privateMethod ({ cls := "ClassHouse", name := "put", desc := "(I)V" } : Jvm.MethodName)) ∈ lw_tbl := lw_at lw_m1 221 rfl
theorem q421 : (Jvm.Cond.instanceMethod ({ cls := "ClassHouse", name := "put", desc := "(I)V" } : Jvm.MethodName)) ∈ lw_all := lw_g (lw_at lw_m1 222 rfl) rfl
theorem q422 : (Jvm.Cond.code ({ cls := "ClassHouse", name := "put", desc := "(I)V" } : Jvm.MethodName) prog_1_method_8_code (3 : Nat) (Option.none : Option Jvm.ClassFile.FieldType)) ∈ lw_all := lw_g (lw_at lw_m1 223 rfl) rfl
theorem q424 : (Jvm.Cond.instanceMethod ({ cls := "ClassHouse", name := "end", desc := "(I)I" } : Jvm.MethodName)) ∈ lw_all := lw_g (lw_at lw_m1 225 rfl) rfl
theorem q425 : (Jvm.Cond.selects "ClassHouse" ({ cls := "ClassHouse", name := "end", desc := "(I)I" } : Jvm.MethodName) ({ cls := "ClassHouse", name := "end", desc := "(I)I" } : Jvm.MethodName)) ∈ lw_all := lw_g (lw_at lw_m1 226 rfl) rfl
theorem q426 : (Jvm.Cond.code ({ cls := "ClassHouse", name := "end", desc := "(I)I" } : Jvm.MethodName) prog_1_method_9_code (2 : Nat) (Option.some Jvm.ClassFile.FieldType.int)) ∈ lw_all := lw_g (lw_at lw_m1 227 rfl) rfl
theorem q428 : (Jvm.Cond.instanceMethod ({ cls := "ClassHouse", name := "program", desc := "()I" } : Jvm.MethodName)) ∈ lw_all := lw_g (lw_at lw_m1 229 rfl) rfl
theorem q429 : (Jvm.Cond.selects "ClassHouse" ({ cls := "ClassHouse", name := "program", desc := "()I" } : Jvm.MethodName) ({ cls := "ClassHouse", name := "program", desc := "()I" } : Jvm.MethodName)) ∈ lw_all := lw_g (lw_at lw_m1 230 rfl) rfl
theorem q430 : (Jvm.Cond.codeWith ({ cls := "ClassHouse", name := "program", desc := "()I" } : Jvm.MethodName) prog_1_method_10_code (5 : Nat) (Option.some Jvm.ClassFile.FieldType.int) [((33 : Nat), (51 : Nat), (54 : Nat), (54 : Nat))]) ∈ lw_all := lw_g (lw_at lw_m1 231 rfl) rfl
theorem q431 : (Jvm.Cond.classLink "ClassHouse" (54 : Nat) "ClassHouse$Refused") ∈ lw_all := lw_g (lw_at lw_m1 232 rfl) rfl
theorem q432 : (Jvm.Cond.classLink "ClassHouse" (39 : Nat) "ClassHouse$Reader") ∈ lw_all := lw_g (lw_at lw_m1 233 rfl) rfl
theorem q434 : (Jvm.Cond.methodLink "ClassHouse" (41 : Nat) ({ cls := "ClassHouse$Reader", name := "<init>", desc := "([BI)V" } : Jvm.MethodName)) ∈ lw_all := lw_g (lw_at lw_m1 235 rfl) rfl
theorem q493 : (Jvm.Cond.methodLink "ClassHouse" (44 : Nat) ({ cls := "ClassHouse$Reader", name := "program", desc := "()V" } : Jvm.MethodName)) ∈ lw_all := lw_g (lw_at lw_m2 54 rfl) rfl
theorem q508 : (Jvm.Cond.laysStatic "ClassHouse" "WORDS" "[Ljava/lang/String;") ∈ lw_tbl := lw_at lw_m2 69 rfl
theorem q579 : (Jvm.Cond.fieldLinkNest "ClassHouse" (56 : Nat) "ClassHouse$Refused" "answer" "I" "ClassHouse") ∈ lw_tbl := lw_at lw_m2 140 rfl
theorem q662 : (Jvm.Cond.selects "ClassHouse" ({ cls := "java/lang/Object", name := "getClass", desc := "()Ljava/lang/Class;" } : Jvm.MethodName) ({ cls := "java/lang/Object", name := "getClass", desc := "()Ljava/lang/Class;" } : Jvm.MethodName)) ∈ lw_all := lw_g (lw_at lw_m2 223 rfl) rfl
theorem q1037 : (Jvm.Cond.classLink "ClassHouse" (46 : Nat) "ClassHouse$Checker") ∈ lw_all := lw_g (lw_at lw_m4 118 rfl) rfl
theorem q1039 : (Jvm.Cond.methodLink "ClassHouse" (48 : Nat) ({ cls := "ClassHouse$Checker", name := "<init>", desc := "(LClassHouse$Reader;)V" } : Jvm.MethodName)) ∈ lw_all := lw_g (lw_at lw_m4 120 rfl) rfl
theorem q1066 : (Jvm.Cond.fieldLinkNest "ClassHouse" (59 : Nat) "ClassHouse$Checker" "kinds" "Ljava/util/ArrayList;" "ClassHouse") ∈ lw_tbl := lw_at lw_m4 147 rfl
theorem q1078 : (Jvm.Cond.fieldLinkNest "ClassHouse" (91 : Nat) "ClassHouse$Checker" "mainClass" "LClassHouse$Kind;" "ClassHouse") ∈ lw_tbl := lw_at lw_m4 159 rfl
theorem q1080 : (Jvm.Cond.fieldLinkNest "ClassHouse" (95 : Nat) "ClassHouse$Checker" "main" "LClassHouse$Member;" "ClassHouse") ∈ lw_tbl := lw_at lw_m4 161 rfl
theorem q1111 : (Jvm.Cond.methodLink "ClassHouse" (51 : Nat) ({ cls := "ClassHouse$Checker", name := "check", desc := "(I)V" } : Jvm.MethodName)) ∈ lw_all := lw_g (lw_at lw_m4 192 rfl) rfl
theorem q1294 : (Jvm.Cond.methodLink "ClassHouse" (63 : Nat) ({ cls := "java/util/ArrayList", name := "size", desc := "()I" } : Jvm.MethodName)) ∈ lw_all := lw_g (lw_at lw_m5 135 rfl) rfl
theorem q1295 : (Jvm.Cond.classLink "ClassHouse" (69 : Nat) "ClassHouse$Kind") ∈ lw_all := lw_g (lw_at lw_m5 136 rfl) rfl
theorem q1297 : (Jvm.Cond.methodLink "ClassHouse" (74 : Nat) ({ cls := "java/util/ArrayList", name := "get", desc := "(I)Ljava/lang/Object;" } : Jvm.MethodName)) ∈ lw_all := lw_g (lw_at lw_m5 138 rfl) rfl
theorem q1299 : (Jvm.Cond.instanceMethod ({ cls := "ClassHouse", name := "heap", desc := "(I)I" } : Jvm.MethodName)) ∈ lw_all := lw_g (lw_at lw_m5 140 rfl) rfl
theorem q1300 : (Jvm.Cond.selects "ClassHouse" ({ cls := "ClassHouse", name := "heap", desc := "(I)I" } : Jvm.MethodName) ({ cls := "ClassHouse", name := "heap", desc := "(I)I" } : Jvm.MethodName)) ∈ lw_all := lw_g (lw_at lw_m5 141 rfl) rfl
theorem q1301 : (Jvm.Cond.code ({ cls := "ClassHouse", name := "heap", desc := "(I)I" } : Jvm.MethodName) prog_1_method_11_code (2 : Nat) (Option.some Jvm.ClassFile.FieldType.int)) ∈ lw_all := lw_g (lw_at lw_m5 142 rfl) rfl
theorem q1303 : (Jvm.Cond.instanceMethod ({ cls := "ClassHouse", name := "input", desc := "(III)I" } : Jvm.MethodName)) ∈ lw_all := lw_g (lw_at lw_m5 144 rfl) rfl
theorem q1304 : (Jvm.Cond.selects "ClassHouse" ({ cls := "ClassHouse", name := "input", desc := "(III)I" } : Jvm.MethodName) ({ cls := "ClassHouse", name := "input", desc := "(III)I" } : Jvm.MethodName)) ∈ lw_all := lw_g (lw_at lw_m5 145 rfl) rfl
theorem q1305 : (Jvm.Cond.code ({ cls := "ClassHouse", name := "input", desc := "(III)I" } : Jvm.MethodName) prog_1_method_12_code (4 : Nat) (Option.some Jvm.ClassFile.FieldType.int)) ∈ lw_all := lw_g (lw_at lw_m5 146 rfl) rfl
theorem q1306 : (Jvm.Cond.methodLink "ClassHouse" (81 : Nat) ({ cls := "ClassHouse", name := "give", desc := "(I)V" } : Jvm.MethodName)) ∈ lw_all := lw_g (lw_at lw_m5 147 rfl) rfl
theorem q1307 : (Jvm.Cond.privateMethod ({ cls := "ClassHouse", name := "give", desc := "(I)V" } : Jvm.MethodName)) ∈ lw_tbl := lw_at lw_m5 148 rfl
theorem q1308 : (Jvm.Cond.instanceMethod ({ cls := "ClassHouse", name := "give", desc := "(I)V" } : Jvm.MethodName)) ∈ lw_all := lw_g (lw_at lw_m5 149 rfl) rfl
theorem q1309 : (Jvm.Cond.code ({ cls := "ClassHouse", name := "give", desc := "(I)V" } : Jvm.MethodName) prog_1_method_13_code (2 : Nat) (Option.none : Option Jvm.ClassFile.FieldType)) ∈ lw_all := lw_g (lw_at lw_m5 150 rfl) rfl
theorem q1311 : (Jvm.Cond.instanceMethod ({ cls := "ClassHouse", name := "start", desc := "()I" } : Jvm.MethodName)) ∈ lw_all := lw_g (lw_at lw_m5 152 rfl) rfl
theorem q1312 : (Jvm.Cond.selects "ClassHouse" ({ cls := "ClassHouse", name := "start", desc := "()I" } : Jvm.MethodName) ({ cls := "ClassHouse", name := "start", desc := "()I" } : Jvm.MethodName)) ∈ lw_all := lw_g (lw_at lw_m5 153 rfl) rfl
theorem q1313 : (Jvm.Cond.code ({ cls := "ClassHouse", name := "start", desc := "()I" } : Jvm.MethodName) prog_1_method_14_code (1 : Nat) (Option.some Jvm.ClassFile.FieldType.int)) ∈ lw_all := lw_g (lw_at lw_m5 154 rfl) rfl
theorem q1314 : (Jvm.Cond.methodLink "ClassHouse" (99 : Nat) ({ cls := "ClassHouse$Machine", name := "begin", desc := "([LClassHouse$Kind;LClassHouse$Kind;LClassHouse$Member;I)V" } : Jvm.MethodName)) ∈ lw_all := lw_g (lw_at lw_m5 155 rfl) rfl
theorem q1336 : (Jvm.Cond.static ({ cls := "ClassHouse", name := "isPlace", desc := "(J)Z" } : Jvm.MethodName)) ∈ lw_all := lw_g (lw_at lw_m5 177 rfl) rfl
theorem q1337 : (Jvm.Cond.code ({ cls := "ClassHouse", name := "isPlace", desc := "(J)Z" } : Jvm.MethodName) prog_1_method_2_code (2 : Nat) (Option.some Jvm.ClassFile.FieldType.boolean)) ∈ lw_all := lw_g (lw_at lw_m5 178 rfl) rfl
theorem q1339 : (Jvm.Cond.static ({ cls := "ClassHouse", name := "placeOf", desc := "(J)I" } : Jvm.MethodName)) ∈ lw_all := lw_g (lw_at lw_m5 180 rfl) rfl
theorem q1340 : (Jvm.Cond.code ({ cls := "ClassHouse", name := "placeOf", desc := "(J)I" } : Jvm.MethodName) prog_1_method_3_code (2 : Nat) (Option.some Jvm.ClassFile.FieldType.int)) ∈ lw_all := lw_g (lw_at lw_m5 181 rfl) rfl
theorem q1344 : (Jvm.Cond.static ({ cls := "ClassHouse", name := "placeWord", desc := "(I)J" } : Jvm.MethodName)) ∈ lw_all := lw_g (lw_at lw_m5 185 rfl) rfl
theorem q1345 : (Jvm.Cond.code ({ cls := "ClassHouse", name := "placeWord", desc := "(I)J" } : Jvm.MethodName) prog_1_method_1_code (1 : Nat) (Option.some Jvm.ClassFile.FieldType.long)) ∈ lw_all := lw_g (lw_at lw_m5 186 rfl) rfl
theorem q1407 : (Jvm.Cond.instanceMethod ({ cls := "ClassHouse", name := "step", desc := "(I)I" } : Jvm.MethodName)) ∈ lw_all := lw_g (lw_at lw_m6 8 rfl) rfl
theorem q1408 : (Jvm.Cond.selects "ClassHouse" ({ cls := "ClassHouse", name := "step", desc := "(I)I" } : Jvm.MethodName) ({ cls := "ClassHouse", name := "step", desc := "(I)I" } : Jvm.MethodName)) ∈ lw_all := lw_g (lw_at lw_m6 9 rfl) rfl
theorem q1409 : (Jvm.Cond.code ({ cls := "ClassHouse", name := "step", desc := "(I)I" } : Jvm.MethodName) prog_1_method_15_code (2 : Nat) (Option.some Jvm.ClassFile.FieldType.int)) ∈ lw_all := lw_g (lw_at lw_m6 10 rfl) rfl
theorem q1410 : (Jvm.Cond.methodLink "ClassHouse" (103 : Nat) ({ cls := "ClassHouse$Machine", name := "step", desc := "(I)I" } : Jvm.MethodName)) ∈ lw_all := lw_g (lw_at lw_m6 11 rfl) rfl
theorem q1419 : (Jvm.Cond.static ({ cls := "ClassHouse", name := "numberWord", desc := "(I)J" } : Jvm.MethodName)) ∈ lw_all := lw_g (lw_at lw_m6 20 rfl) rfl
theorem q1420 : (Jvm.Cond.code ({ cls := "ClassHouse", name := "numberWord", desc := "(I)J" } : Jvm.MethodName) prog_1_method_4_code (1 : Nat) (Option.some Jvm.ClassFile.FieldType.long)) ∈ lw_all := lw_g (lw_at lw_m6 21 rfl) rfl
theorem q1450 : (Jvm.Cond.static ({ cls := "ClassHouse", name := "numberOf", desc := "(J)I" } : Jvm.MethodName)) ∈ lw_all := lw_g (lw_at lw_m6 51 rfl) rfl
theorem q1451 : (Jvm.Cond.code ({ cls := "ClassHouse", name := "numberOf", desc := "(J)I" } : Jvm.MethodName) prog_1_method_5_code (2 : Nat) (Option.some Jvm.ClassFile.FieldType.int)) ∈ lw_all := lw_g (lw_at lw_m6 52 rfl) rfl
theorem q1515 : (Jvm.Cond.instanceMethod ({ cls := "ClassHouse", name := "result", desc := "()I" } : Jvm.MethodName)) ∈ lw_all := lw_g (lw_at lw_m6 116 rfl) rfl
theorem q1516 : (Jvm.Cond.selects "ClassHouse" ({ cls := "ClassHouse", name := "result", desc := "()I" } : Jvm.MethodName) ({ cls := "ClassHouse", name := "result", desc := "()I" } : Jvm.MethodName)) ∈ lw_all := lw_g (lw_at lw_m6 117 rfl) rfl
theorem q1517 : (Jvm.Cond.code ({ cls := "ClassHouse", name := "result", desc := "()I" } : Jvm.MethodName) prog_1_method_16_code (1 : Nat) (Option.some Jvm.ClassFile.FieldType.int)) ∈ lw_all := lw_g (lw_at lw_m6 118 rfl) rfl
theorem q1519 : (Jvm.Cond.instanceMethod ({ cls := "ClassHouse", name := "output", desc := "(I)I" } : Jvm.MethodName)) ∈ lw_all := lw_g (lw_at lw_m6 120 rfl) rfl
theorem q1520 : (Jvm.Cond.selects "ClassHouse" ({ cls := "ClassHouse", name := "output", desc := "(I)I" } : Jvm.MethodName) ({ cls := "ClassHouse", name := "output", desc := "(I)I" } : Jvm.MethodName)) ∈ lw_all := lw_g (lw_at lw_m6 121 rfl) rfl
theorem q1521 : (Jvm.Cond.code ({ cls := "ClassHouse", name := "output", desc := "(I)I" } : Jvm.MethodName) prog_1_method_17_code (2 : Nat) (Option.some Jvm.ClassFile.FieldType.int)) ∈ lw_all := lw_g (lw_at lw_m6 122 rfl) rfl
theorem q1523 : (Jvm.Cond.instanceMethod ({ cls := "ClassHouse", name := "count", desc := "(I)I" } : Jvm.MethodName)) ∈ lw_all := lw_g (lw_at lw_m6 124 rfl) rfl
theorem q1524 : (Jvm.Cond.selects "ClassHouse" ({ cls := "ClassHouse", name := "count", desc := "(I)I" } : Jvm.MethodName) ({ cls := "ClassHouse", name := "count", desc := "(I)I" } : Jvm.MethodName)) ∈ lw_all := lw_g (lw_at lw_m6 125 rfl) rfl
theorem q1525 : (Jvm.Cond.code ({ cls := "ClassHouse", name := "count", desc := "(I)I" } : Jvm.MethodName) prog_1_method_18_code (2 : Nat) (Option.some Jvm.ClassFile.FieldType.int)) ∈ lw_all := lw_g (lw_at lw_m6 126 rfl) rfl
theorem q1526 : (Jvm.Cond.methodLink "ClassHouse" (119 : Nat) ({ cls := "ClassHouse", name := "counted", desc := "(I)I" } : Jvm.MethodName)) ∈ lw_all := lw_g (lw_at lw_m6 127 rfl) rfl
theorem q1527 : (Jvm.Cond.privateMethod ({ cls := "ClassHouse", name := "counted", desc := "(I)I" } : Jvm.MethodName)) ∈ lw_tbl := lw_at lw_m6 128 rfl
theorem q1528 : (Jvm.Cond.instanceMethod ({ cls := "ClassHouse", name := "counted", desc := "(I)I" } : Jvm.MethodName)) ∈ lw_all := lw_g (lw_at lw_m6 129 rfl) rfl
theorem q1529 : (Jvm.Cond.code ({ cls := "ClassHouse", name := "counted", desc := "(I)I" } : Jvm.MethodName) prog_1_method_19_code (2 : Nat) (Option.some Jvm.ClassFile.FieldType.int)) ∈ lw_all := lw_g (lw_at lw_m6 130 rfl) rfl
theorem q1530 : (Jvm.Cond.methodLink "ClassHouse" (128 : Nat) ({ cls := "ClassHouse$Machine", name := "reached", desc := "()I" } : Jvm.MethodName)) ∈ lw_all := lw_g (lw_at lw_m6 131 rfl) rfl
theorem q2334 : (Jvm.Cond.castable "ClassHouse" "java/lang/Object") ∈ lw_tbl := lw_at lw_m9 215 rfl
theorem q2360 : (Jvm.Cond.stringRef "ClassHouse" (139 : Nat) "class") ∈ lw_tbl := lw_at lw_m10 1 rfl
theorem q2361 : (Jvm.Cond.stringRef "ClassHouse" (141 : Nat) "int") ∈ lw_tbl := lw_at lw_m10 2 rfl
theorem q2362 : (Jvm.Cond.stringRef "ClassHouse" (143 : Nat) "bool") ∈ lw_tbl := lw_at lw_m10 3 rfl
theorem q2363 : (Jvm.Cond.stringRef "ClassHouse" (145 : Nat) "ints") ∈ lw_tbl := lw_at lw_m10 4 rfl
theorem q2364 : (Jvm.Cond.stringRef "ClassHouse" (147 : Nat) "void") ∈ lw_tbl := lw_at lw_m10 5 rfl
theorem q2365 : (Jvm.Cond.stringRef "ClassHouse" (149 : Nat) "if") ∈ lw_tbl := lw_at lw_m10 6 rfl
theorem q2366 : (Jvm.Cond.stringRef "ClassHouse" (151 : Nat) "else") ∈ lw_tbl := lw_at lw_m10 7 rfl
theorem q2367 : (Jvm.Cond.stringRef "ClassHouse" (153 : Nat) "while") ∈ lw_tbl := lw_at lw_m10 8 rfl
theorem q2368 : (Jvm.Cond.stringRef "ClassHouse" (155 : Nat) "return") ∈ lw_tbl := lw_at lw_m10 9 rfl
theorem q2369 : (Jvm.Cond.stringRef "ClassHouse" (157 : Nat) "throw") ∈ lw_tbl := lw_at lw_m10 10 rfl
theorem q2370 : (Jvm.Cond.stringRef "ClassHouse" (159 : Nat) "try") ∈ lw_tbl := lw_at lw_m10 11 rfl
theorem q2371 : (Jvm.Cond.stringRef "ClassHouse" (161 : Nat) "catch") ∈ lw_tbl := lw_at lw_m10 12 rfl
theorem q2372 : (Jvm.Cond.stringRef "ClassHouse" (163 : Nat) "print") ∈ lw_tbl := lw_at lw_m10 13 rfl
theorem q2373 : (Jvm.Cond.stringRef "ClassHouse" (165 : Nat) "new") ∈ lw_tbl := lw_at lw_m10 14 rfl
theorem q2374 : (Jvm.Cond.stringRef "ClassHouse" (167 : Nat) "null") ∈ lw_tbl := lw_at lw_m10 15 rfl
theorem q2375 : (Jvm.Cond.stringRef "ClassHouse" (169 : Nat) "true") ∈ lw_tbl := lw_at lw_m10 16 rfl
theorem q2376 : (Jvm.Cond.stringRef "ClassHouse" (171 : Nat) "false") ∈ lw_tbl := lw_at lw_m10 17 rfl
theorem q2377 : (Jvm.Cond.stringRef "ClassHouse" (173 : Nat) "this") ∈ lw_tbl := lw_at lw_m10 18 rfl
theorem q2378 : (Jvm.Cond.stringRef "ClassHouse" (175 : Nat) "read") ∈ lw_tbl := lw_at lw_m10 19 rfl
theorem q2379 : (Jvm.Cond.stringRef "ClassHouse" (177 : Nat) "as") ∈ lw_tbl := lw_at lw_m10 20 rfl
theorem q2380 : (Jvm.Cond.stringRef "ClassHouse" (179 : Nat) "is") ∈ lw_tbl := lw_at lw_m10 21 rfl
theorem in_X0 : ∀ w ∈ wsX00, w ∈ lw_all := lw_in wsX00 [400, 402, 404, 406, 408, 410, 412] (by decide +kernel) (by decide +kernel)

def RX1 : String := "ClassHouse$Machine"
def TX1 : u_T := fun k => match k with
  | 0 => ("ClassHouse$Machine", "kinds", "[LClassHouse$Kind;", false)
  | 1 => ("ClassHouse$Machine", "size", "I", false)
  | 2 => ("ClassHouse$Machine", "heap", "[J", false)
  | 3 => ("ClassHouse$Machine", "other", "[J", false)
  | 4 => ("ClassHouse$Machine", "used", "I", false)
  | 5 => ("ClassHouse$Machine", "pile", "[J", true)
  | 6 => ("ClassHouse$Machine", "top", "I", false)
  | 7 => ("ClassHouse$Machine", "methods", "[LClassHouse$Member;", true)
  | 8 => ("ClassHouse$Machine", "places", "[I", true)
  | 9 => ("ClassHouse$Machine", "bases", "[I", true)
  | 10 => ("ClassHouse$Machine", "open", "I", false)
  | 11 => ("ClassHouse$Machine", "given", "[I", true)
  | 12 => ("ClassHouse$Machine", "givenFirst", "I", false)
  | 13 => ("ClassHouse$Machine", "givenMany", "I", false)
  | 14 => ("ClassHouse$Machine", "outputs", "[I", true)
  | 15 => ("ClassHouse$Machine", "printed", "I", false)
  | 16 => ("ClassHouse$Machine", "steps", "I", false)
  | 17 => ("ClassHouse$Machine", "made", "I", false)
  | 18 => ("ClassHouse$Machine", "thrown", "I", false)
  | 19 => ("ClassHouse$Machine", "ended", "I", false)
  | 20 => ("ClassHouse$Machine", "result", "I", false)
  | _ => ("ClassHouse$Machine", "flying", "LClassHouse$Thrown;", true)
def tyX1 : Nat → FieldType := fun k => match k with
  | 0 => .array (.object "ClassHouse$Kind")
  | 1 => .int
  | 2 => .array .long
  | 3 => .array .long
  | 4 => .int
  | 5 => .array .long
  | 6 => .int
  | 7 => .array (.object "ClassHouse$Member")
  | 8 => .array .int
  | 9 => .array .int
  | 10 => .int
  | 11 => .array .int
  | 12 => .int
  | 13 => .int
  | 14 => .array .int
  | 15 => .int
  | 16 => .int
  | 17 => .int
  | 18 => .int
  | 19 => .int
  | 20 => .int
  | _ => .object "ClassHouse$Thrown"
abbrev wsX10 : List Cond := u_ws RX1 TX1 22
theorem nmX1 : ∀ a, a < 22 → ∀ b, b < 22 → a ≠ b → (TX1 a).2.1 ≠ (TX1 b).2.1 := by decide +kernel
theorem tyX1_ok : ∀ k, k < 22 → parseFieldDescriptor (TX1 k).2.2.1 = some (tyX1 k) := by decide +kernel
theorem q201 : (Jvm.Cond.initialized "ClassHouse$Machine") ∈ lw_all := lw_g (lw_at lw_m1 2 rfl) rfl
theorem q237 : (Jvm.Cond.instantiable "ClassHouse$Machine" (22 : Nat)) ∈ lw_all := lw_g (lw_at lw_m1 38 rfl) rfl
theorem q239 : (Jvm.Cond.instanceMethod ({ cls := "ClassHouse$Machine", name := "<init>", desc := "()V" } : Jvm.MethodName)) ∈ lw_all := lw_g (lw_at lw_m1 40 rfl) rfl
theorem q240 : (Jvm.Cond.code ({ cls := "ClassHouse$Machine", name := "<init>", desc := "()V" } : Jvm.MethodName) prog_5_method_1_code (1 : Nat) (Option.none : Option Jvm.ClassFile.FieldType)) ∈ lw_all := lw_g (lw_at lw_m1 41 rfl) rfl
theorem q241 : (Jvm.Cond.methodLink "ClassHouse$Machine" (3 : Nat) ({ cls := "java/lang/Object", name := "<init>", desc := "()V" } : Jvm.MethodName)) ∈ lw_all := lw_g (lw_at lw_m1 42 rfl) rfl
theorem q242 : (Jvm.Cond.constant "ClassHouse$Machine" (18 : Nat) (160000 : Int32)) ∈ lw_all := lw_g (lw_at lw_m1 43 rfl) rfl
theorem q243 : (Jvm.Cond.classLink "ClassHouse$Machine" (22 : Nat) "ClassHouse$Member") ∈ lw_all := lw_g (lw_at lw_m1 44 rfl) rfl
theorem q245 : (Jvm.Cond.classLink "ClassHouse$Machine" (41 : Nat) "ClassHouse$Thrown") ∈ lw_all := lw_g (lw_at lw_m1 46 rfl) rfl
theorem q286 : (Jvm.Cond.methodLinkNest "ClassHouse$Machine" (43 : Nat) ({ cls := "ClassHouse$Thrown", name := "<init>", desc := "()V" } : Jvm.MethodName) "ClassHouse") ∈ lw_tbl := lw_at lw_m1 87 rfl
theorem q297 : (Jvm.Cond.fieldLinkNest "ClassHouse$Machine" (211 : Nat) "ClassHouse$Thrown" "word" "J" "ClassHouse") ∈ lw_tbl := lw_at lw_m1 98 rfl
theorem q315 : (Jvm.Cond.fieldLink "ClassHouse$Machine" (56 : Nat) "ClassHouse$Machine" "kinds" "[LClassHouse$Kind;") ∈ lw_all := lw_g (lw_at lw_m1 116 rfl) rfl
theorem q316 : (Jvm.Cond.fieldLink "ClassHouse$Machine" (72 : Nat) "ClassHouse$Machine" "size" "I") ∈ lw_all := lw_g (lw_at lw_m1 117 rfl) rfl
theorem q317 : (Jvm.Cond.fieldLink "ClassHouse$Machine" (9 : Nat) "ClassHouse$Machine" "heap" "[J") ∈ lw_all := lw_g (lw_at lw_m1 118 rfl) rfl
theorem q318 : (Jvm.Cond.fieldLink "ClassHouse$Machine" (15 : Nat) "ClassHouse$Machine" "other" "[J") ∈ lw_all := lw_g (lw_at lw_m1 119 rfl) rfl
theorem q319 : (Jvm.Cond.fieldLink "ClassHouse$Machine" (75 : Nat) "ClassHouse$Machine" "used" "I") ∈ lw_all := lw_g (lw_at lw_m1 120 rfl) rfl
theorem q320 : (Jvm.Cond.fieldLink "ClassHouse$Machine" (19 : Nat) "ClassHouse$Machine" "pile" "[J") ∈ lw_all := lw_g (lw_at lw_m1 121 rfl) rfl
theorem q321 : (Jvm.Cond.fieldLink "ClassHouse$Machine" (78 : Nat) "ClassHouse$Machine" "top" "I") ∈ lw_all := lw_g (lw_at lw_m1 122 rfl) rfl
theorem q322 : (Jvm.Cond.fieldLink "ClassHouse$Machine" (24 : Nat) "ClassHouse$Machine" "methods" "[LClassHouse$Member;") ∈ lw_all := lw_g (lw_at lw_m1 123 rfl) rfl
theorem q323 : (Jvm.Cond.fieldLink "ClassHouse$Machine" (28 : Nat) "ClassHouse$Machine" "places" "[I") ∈ lw_all := lw_g (lw_at lw_m1 124 rfl) rfl
theorem q324 : (Jvm.Cond.fieldLink "ClassHouse$Machine" (32 : Nat) "ClassHouse$Machine" "bases" "[I") ∈ lw_all := lw_g (lw_at lw_m1 125 rfl) rfl
theorem q325 : (Jvm.Cond.fieldLink "ClassHouse$Machine" (81 : Nat) "ClassHouse$Machine" "open" "I") ∈ lw_all := lw_g (lw_at lw_m1 126 rfl) rfl
theorem q327 : (Jvm.Cond.fieldLink "ClassHouse$Machine" (35 : Nat) "ClassHouse$Machine" "given" "[I") ∈ lw_all := lw_g (lw_at lw_m1 128 rfl) rfl
theorem q330 : (Jvm.Cond.fieldLink "ClassHouse$Machine" (298 : Nat) "ClassHouse$Machine" "givenFirst" "I") ∈ lw_all := lw_g (lw_at lw_m1 131 rfl) rfl
theorem q332 : (Jvm.Cond.fieldLink "ClassHouse$Machine" (295 : Nat) "ClassHouse$Machine" "givenMany" "I") ∈ lw_all := lw_g (lw_at lw_m1 133 rfl) rfl
theorem q333 : (Jvm.Cond.fieldLink "ClassHouse$Machine" (38 : Nat) "ClassHouse$Machine" "outputs" "[I") ∈ lw_all := lw_g (lw_at lw_m1 134 rfl) rfl
theorem q335 : (Jvm.Cond.fieldLink "ClassHouse$Machine" (84 : Nat) "ClassHouse$Machine" "printed" "I") ∈ lw_all := lw_g (lw_at lw_m1 136 rfl) rfl
theorem q337 : (Jvm.Cond.fieldLink "ClassHouse$Machine" (87 : Nat) "ClassHouse$Machine" "steps" "I") ∈ lw_all := lw_g (lw_at lw_m1 138 rfl) rfl
theorem q339 : (Jvm.Cond.fieldLink "ClassHouse$Machine" (90 : Nat) "ClassHouse$Machine" "made" "I") ∈ lw_all := lw_g (lw_at lw_m1 140 rfl) rfl
theorem q341 : (Jvm.Cond.fieldLink "ClassHouse$Machine" (93 : Nat) "ClassHouse$Machine" "thrown" "I") ∈ lw_all := lw_g (lw_at lw_m1 142 rfl) rfl
theorem q343 : (Jvm.Cond.fieldLink "ClassHouse$Machine" (96 : Nat) "ClassHouse$Machine" "ended" "I") ∈ lw_all := lw_g (lw_at lw_m1 144 rfl) rfl
theorem q345 : (Jvm.Cond.fieldLink "ClassHouse$Machine" (99 : Nat) "ClassHouse$Machine" "result" "I") ∈ lw_all := lw_g (lw_at lw_m1 146 rfl) rfl
theorem q347 : (Jvm.Cond.fieldLink "ClassHouse$Machine" (44 : Nat) "ClassHouse$Machine" "flying" "LClassHouse$Thrown;") ∈ lw_all := lw_g (lw_at lw_m1 148 rfl) rfl
theorem q348 : (Jvm.Cond.lays "ClassHouse$Machine" "ClassHouse$Machine" "kinds" "[LClassHouse$Kind;") ∈ lw_all := lw_g (lw_at lw_m1 149 rfl) rfl
theorem q349 : (Jvm.Cond.soleField "ClassHouse$Machine" "kinds") ∈ lw_all := lw_g (lw_at lw_m1 150 rfl) rfl
theorem q350 : (Jvm.Cond.lays "ClassHouse$Machine" "ClassHouse$Machine" "size" "I") ∈ lw_all := lw_g (lw_at lw_m1 151 rfl) rfl
theorem q351 : (Jvm.Cond.soleField "ClassHouse$Machine" "size") ∈ lw_all := lw_g (lw_at lw_m1 152 rfl) rfl
theorem q352 : (Jvm.Cond.lays "ClassHouse$Machine" "ClassHouse$Machine" "heap" "[J") ∈ lw_all := lw_g (lw_at lw_m1 153 rfl) rfl
theorem q353 : (Jvm.Cond.soleField "ClassHouse$Machine" "heap") ∈ lw_all := lw_g (lw_at lw_m1 154 rfl) rfl
theorem q354 : (Jvm.Cond.lays "ClassHouse$Machine" "ClassHouse$Machine" "other" "[J") ∈ lw_all := lw_g (lw_at lw_m1 155 rfl) rfl
theorem q355 : (Jvm.Cond.soleField "ClassHouse$Machine" "other") ∈ lw_all := lw_g (lw_at lw_m1 156 rfl) rfl
theorem q356 : (Jvm.Cond.lays "ClassHouse$Machine" "ClassHouse$Machine" "used" "I") ∈ lw_all := lw_g (lw_at lw_m1 157 rfl) rfl
theorem q357 : (Jvm.Cond.soleField "ClassHouse$Machine" "used") ∈ lw_all := lw_g (lw_at lw_m1 158 rfl) rfl
theorem q358 : (Jvm.Cond.laysFinal "ClassHouse$Machine" "ClassHouse$Machine" "pile" "[J") ∈ lw_all := lw_g (lw_at lw_m1 159 rfl) rfl
theorem q359 : (Jvm.Cond.soleField "ClassHouse$Machine" "pile") ∈ lw_all := lw_g (lw_at lw_m1 160 rfl) rfl
theorem q360 : (Jvm.Cond.lays "ClassHouse$Machine" "ClassHouse$Machine" "top" "I") ∈ lw_all := lw_g (lw_at lw_m1 161 rfl) rfl
theorem q361 : (Jvm.Cond.soleField "ClassHouse$Machine" "top") ∈ lw_all := lw_g (lw_at lw_m1 162 rfl) rfl
theorem q362 : (Jvm.Cond.laysFinal "ClassHouse$Machine" "ClassHouse$Machine" "methods" "[LClassHouse$Member;") ∈ lw_all := lw_g (lw_at lw_m1 163 rfl) rfl
theorem q363 : (Jvm.Cond.soleField "ClassHouse$Machine" "methods") ∈ lw_all := lw_g (lw_at lw_m1 164 rfl) rfl
theorem q364 : (Jvm.Cond.laysFinal "ClassHouse$Machine" "ClassHouse$Machine" "places" "[I") ∈ lw_all := lw_g (lw_at lw_m1 165 rfl) rfl
theorem q365 : (Jvm.Cond.soleField "ClassHouse$Machine" "places") ∈ lw_all := lw_g (lw_at lw_m1 166 rfl) rfl
theorem q366 : (Jvm.Cond.laysFinal "ClassHouse$Machine" "ClassHouse$Machine" "bases" "[I") ∈ lw_all := lw_g (lw_at lw_m1 167 rfl) rfl
theorem q367 : (Jvm.Cond.soleField "ClassHouse$Machine" "bases") ∈ lw_all := lw_g (lw_at lw_m1 168 rfl) rfl
theorem q368 : (Jvm.Cond.lays "ClassHouse$Machine" "ClassHouse$Machine" "open" "I") ∈ lw_all := lw_g (lw_at lw_m1 169 rfl) rfl
theorem q369 : (Jvm.Cond.soleField "ClassHouse$Machine" "open") ∈ lw_all := lw_g (lw_at lw_m1 170 rfl) rfl
theorem q370 : (Jvm.Cond.laysFinal "ClassHouse$Machine" "ClassHouse$Machine" "given" "[I") ∈ lw_all := lw_g (lw_at lw_m1 171 rfl) rfl
theorem q371 : (Jvm.Cond.soleField "ClassHouse$Machine" "given") ∈ lw_all := lw_g (lw_at lw_m1 172 rfl) rfl
theorem q372 : (Jvm.Cond.lays "ClassHouse$Machine" "ClassHouse$Machine" "givenFirst" "I") ∈ lw_all := lw_g (lw_at lw_m1 173 rfl) rfl
theorem q373 : (Jvm.Cond.soleField "ClassHouse$Machine" "givenFirst") ∈ lw_all := lw_g (lw_at lw_m1 174 rfl) rfl
theorem q374 : (Jvm.Cond.lays "ClassHouse$Machine" "ClassHouse$Machine" "givenMany" "I") ∈ lw_all := lw_g (lw_at lw_m1 175 rfl) rfl
theorem q375 : (Jvm.Cond.soleField "ClassHouse$Machine" "givenMany") ∈ lw_all := lw_g (lw_at lw_m1 176 rfl) rfl
theorem q376 : (Jvm.Cond.laysFinal "ClassHouse$Machine" "ClassHouse$Machine" "outputs" "[I") ∈ lw_all := lw_g (lw_at lw_m1 177 rfl) rfl
theorem q377 : (Jvm.Cond.soleField "ClassHouse$Machine" "outputs") ∈ lw_all := lw_g (lw_at lw_m1 178 rfl) rfl
theorem q378 : (Jvm.Cond.lays "ClassHouse$Machine" "ClassHouse$Machine" "printed" "I") ∈ lw_all := lw_g (lw_at lw_m1 179 rfl) rfl
theorem q379 : (Jvm.Cond.soleField "ClassHouse$Machine" "printed") ∈ lw_all := lw_g (lw_at lw_m1 180 rfl) rfl
theorem q380 : (Jvm.Cond.lays "ClassHouse$Machine" "ClassHouse$Machine" "steps" "I") ∈ lw_all := lw_g (lw_at lw_m1 181 rfl) rfl
theorem q381 : (Jvm.Cond.soleField "ClassHouse$Machine" "steps") ∈ lw_all := lw_g (lw_at lw_m1 182 rfl) rfl
theorem q382 : (Jvm.Cond.lays "ClassHouse$Machine" "ClassHouse$Machine" "made" "I") ∈ lw_all := lw_g (lw_at lw_m1 183 rfl) rfl
theorem q383 : (Jvm.Cond.soleField "ClassHouse$Machine" "made") ∈ lw_all := lw_g (lw_at lw_m1 184 rfl) rfl
theorem q384 : (Jvm.Cond.lays "ClassHouse$Machine" "ClassHouse$Machine" "thrown" "I") ∈ lw_all := lw_g (lw_at lw_m1 185 rfl) rfl
theorem q385 : (Jvm.Cond.soleField "ClassHouse$Machine" "thrown") ∈ lw_all := lw_g (lw_at lw_m1 186 rfl) rfl
theorem q386 : (Jvm.Cond.lays "ClassHouse$Machine" "ClassHouse$Machine" "ended" "I") ∈ lw_all := lw_g (lw_at lw_m1 187 rfl) rfl
theorem q387 : (Jvm.Cond.soleField "ClassHouse$Machine" "ended") ∈ lw_all := lw_g (lw_at lw_m1 188 rfl) rfl
theorem q388 : (Jvm.Cond.lays "ClassHouse$Machine" "ClassHouse$Machine" "result" "I") ∈ lw_all := lw_g (lw_at lw_m1 189 rfl) rfl
theorem q389 : (Jvm.Cond.soleField "ClassHouse$Machine" "result") ∈ lw_all := lw_g (lw_at lw_m1 190 rfl) rfl
theorem q390 : (Jvm.Cond.laysFinal "ClassHouse$Machine" "ClassHouse$Machine" "flying" "LClassHouse$Thrown;") ∈ lw_all := lw_g (lw_at lw_m1 191 rfl) rfl
theorem q391 : (Jvm.Cond.soleField "ClassHouse$Machine" "flying") ∈ lw_all := lw_g (lw_at lw_m1 192 rfl) rfl
theorem q392 : (Jvm.Cond.superclass "ClassHouse$Machine" "java/lang/Object") ∈ lw_all := lw_g (lw_at lw_m1 193 rfl) rfl
theorem q666 : (Jvm.Cond.selects "ClassHouse$Machine" ({ cls := "java/lang/Object", name := "getClass", desc := "()Ljava/lang/Class;" } : Jvm.MethodName) ({ cls := "java/lang/Object", name := "getClass", desc := "()Ljava/lang/Class;" } : Jvm.MethodName)) ∈ lw_all := lw_g (lw_at lw_m2 227 rfl) rfl
theorem q703 : (Jvm.Cond.fieldLinkNest "ClassHouse$Machine" (137 : Nat) "ClassHouse$Kind" "parent" "LClassHouse$Kind;" "ClassHouse") ∈ lw_tbl := lw_at lw_m3 24 rfl
theorem q706 : (Jvm.Cond.fieldLinkNest "ClassHouse$Machine" (102 : Nat) "ClassHouse$Kind" "number" "I" "ClassHouse") ∈ lw_tbl := lw_at lw_m3 27 rfl
theorem q708 : (Jvm.Cond.fieldLinkNest "ClassHouse$Machine" (144 : Nat) "ClassHouse$Kind" "members" "Ljava/util/ArrayList;" "ClassHouse") ∈ lw_tbl := lw_at lw_m3 29 rfl
theorem q712 : (Jvm.Cond.fieldLinkNest "ClassHouse$Machine" (141 : Nat) "ClassHouse$Kind" "before" "I" "ClassHouse") ∈ lw_tbl := lw_at lw_m3 33 rfl
theorem q714 : (Jvm.Cond.fieldLinkNest "ClassHouse$Machine" (60 : Nat) "ClassHouse$Kind" "fields" "I" "ClassHouse") ∈ lw_tbl := lw_at lw_m3 35 rfl
theorem q778 : (Jvm.Cond.fieldLinkNest "ClassHouse$Machine" (228 : Nat) "ClassHouse$Row" "size" "I" "ClassHouse") ∈ lw_tbl := lw_at lw_m3 99 rfl
theorem q786 : (Jvm.Cond.fieldLinkNest "ClassHouse$Machine" (157 : Nat) "ClassHouse$Member" "isMethod" "Z" "ClassHouse") ∈ lw_tbl := lw_at lw_m3 107 rfl
theorem q806 : (Jvm.Cond.fieldLinkNest "ClassHouse$Machine" (240 : Nat) "ClassHouse$Member" "code" "LClassHouse$Row;" "ClassHouse") ∈ lw_tbl := lw_at lw_m3 127 rfl
theorem q807 : (Jvm.Cond.fieldLinkNest "ClassHouse$Machine" (197 : Nat) "ClassHouse$Member" "slots" "I" "ClassHouse") ∈ lw_tbl := lw_at lw_m3 128 rfl
theorem q810 : (Jvm.Cond.fieldLinkNest "ClassHouse$Machine" (224 : Nat) "ClassHouse$Member" "catches" "LClassHouse$Row;" "ClassHouse") ∈ lw_tbl := lw_at lw_m3 131 rfl
theorem q812 : (Jvm.Cond.fieldLinkNest "ClassHouse$Machine" (161 : Nat) "ClassHouse$Member" "result" "I" "ClassHouse") ∈ lw_tbl := lw_at lw_m3 133 rfl
theorem q1315 : (Jvm.Cond.instanceMethod ({ cls := "ClassHouse$Machine", name := "begin", desc := "([LClassHouse$Kind;LClassHouse$Kind;LClassHouse$Member;I)V" } : Jvm.MethodName)) ∈ lw_all := lw_g (lw_at lw_m5 156 rfl) rfl
theorem q1316 : (Jvm.Cond.selects "ClassHouse$Machine" ({ cls := "ClassHouse$Machine", name := "begin", desc := "([LClassHouse$Kind;LClassHouse$Kind;LClassHouse$Member;I)V" } : Jvm.MethodName) ({ cls := "ClassHouse$Machine", name := "begin", desc := "([LClassHouse$Kind;LClassHouse$Kind;LClassHouse$Member;I)V" } : Jvm.MethodName)) ∈ lw_all := lw_g (lw_at lw_m5 157 rfl) rfl
theorem q1317 : (Jvm.Cond.code ({ cls := "ClassHouse$Machine", name := "begin", desc := "([LClassHouse$Kind;LClassHouse$Kind;LClassHouse$Member;I)V" } : Jvm.MethodName) prog_5_method_3_code (5 : Nat) (Option.none : Option Jvm.ClassFile.FieldType)) ∈ lw_all := lw_g (lw_at lw_m5 158 rfl) rfl
theorem q1318 : (Jvm.Cond.methodLink "ClassHouse$Machine" (66 : Nat) ({ cls := "java/lang/Math", name := "max", desc := "(II)I" } : Jvm.MethodName)) ∈ lw_all := lw_g (lw_at lw_m5 159 rfl) rfl
theorem q1319 : (Jvm.Cond.methodLink "ClassHouse$Machine" (105 : Nat) ({ cls := "ClassHouse$Machine", name := "newObject", desc := "(I)J" } : Jvm.MethodName)) ∈ lw_all := lw_g (lw_at lw_m5 160 rfl) rfl
theorem q1320 : (Jvm.Cond.privateMethod ({ cls := "ClassHouse$Machine", name := "newObject", desc := "(I)J" } : Jvm.MethodName)) ∈ lw_tbl := lw_at lw_m5 161 rfl
theorem q1321 : (Jvm.Cond.instanceMethod ({ cls := "ClassHouse$Machine", name := "newObject", desc := "(I)J" } : Jvm.MethodName)) ∈ lw_all := lw_g (lw_at lw_m5 162 rfl) rfl
theorem q1322 : (Jvm.Cond.code ({ cls := "ClassHouse$Machine", name := "newObject", desc := "(I)J" } : Jvm.MethodName) prog_5_method_6_code (5 : Nat) (Option.some Jvm.ClassFile.FieldType.long)) ∈ lw_all := lw_g (lw_at lw_m5 163 rfl) rfl
theorem q1323 : (Jvm.Cond.methodLink "ClassHouse$Machine" (127 : Nat) ({ cls := "ClassHouse$Machine", name := "room", desc := "(I)V" } : Jvm.MethodName)) ∈ lw_all := lw_g (lw_at lw_m5 164 rfl) rfl
theorem q1324 : (Jvm.Cond.privateMethod ({ cls := "ClassHouse$Machine", name := "room", desc := "(I)V" } : Jvm.MethodName)) ∈ lw_tbl := lw_at lw_m5 165 rfl
theorem q1325 : (Jvm.Cond.instanceMethod ({ cls := "ClassHouse$Machine", name := "room", desc := "(I)V" } : Jvm.MethodName)) ∈ lw_all := lw_g (lw_at lw_m5 166 rfl) rfl
theorem q1326 : (Jvm.Cond.code ({ cls := "ClassHouse$Machine", name := "room", desc := "(I)V" } : Jvm.MethodName) prog_5_method_5_code (2 : Nat) (Option.none : Option Jvm.ClassFile.FieldType)) ∈ lw_all := lw_g (lw_at lw_m5 167 rfl) rfl
theorem q1327 : (Jvm.Cond.methodLink "ClassHouse$Machine" (119 : Nat) ({ cls := "ClassHouse$Machine", name := "collect", desc := "()V" } : Jvm.MethodName)) ∈ lw_all := lw_g (lw_at lw_m5 168 rfl) rfl
theorem q1328 : (Jvm.Cond.privateMethod ({ cls := "ClassHouse$Machine", name := "collect", desc := "()V" } : Jvm.MethodName)) ∈ lw_tbl := lw_at lw_m5 169 rfl
theorem q1329 : (Jvm.Cond.instanceMethod ({ cls := "ClassHouse$Machine", name := "collect", desc := "()V" } : Jvm.MethodName)) ∈ lw_all := lw_g (lw_at lw_m5 170 rfl) rfl
theorem q1330 : (Jvm.Cond.code ({ cls := "ClassHouse$Machine", name := "collect", desc := "()V" } : Jvm.MethodName) prog_5_method_10_code (4 : Nat) (Option.none : Option Jvm.ClassFile.FieldType)) ∈ lw_all := lw_g (lw_at lw_m5 171 rfl) rfl
theorem q1331 : (Jvm.Cond.methodLink "ClassHouse$Machine" (186 : Nat) ({ cls := "ClassHouse$Machine", name := "moved", desc := "(J)J" } : Jvm.MethodName)) ∈ lw_all := lw_g (lw_at lw_m5 172 rfl) rfl
theorem q1332 : (Jvm.Cond.privateMethod ({ cls := "ClassHouse$Machine", name := "moved", desc := "(J)J" } : Jvm.MethodName)) ∈ lw_tbl := lw_at lw_m5 173 rfl
theorem q1333 : (Jvm.Cond.instanceMethod ({ cls := "ClassHouse$Machine", name := "moved", desc := "(J)J" } : Jvm.MethodName)) ∈ lw_all := lw_g (lw_at lw_m5 174 rfl) rfl
theorem q1334 : (Jvm.Cond.code ({ cls := "ClassHouse$Machine", name := "moved", desc := "(J)J" } : Jvm.MethodName) prog_5_method_9_code (5 : Nat) (Option.some Jvm.ClassFile.FieldType.long)) ∈ lw_all := lw_g (lw_at lw_m5 175 rfl) rfl
theorem q1335 : (Jvm.Cond.methodLinkNest "ClassHouse$Machine" (168 : Nat) ({ cls := "ClassHouse", name := "isPlace", desc := "(J)Z" } : Jvm.MethodName) "ClassHouse") ∈ lw_tbl := lw_at lw_m5 176 rfl
theorem q1338 : (Jvm.Cond.methodLinkNest "ClassHouse$Machine" (172 : Nat) ({ cls := "ClassHouse", name := "placeOf", desc := "(J)I" } : Jvm.MethodName) "ClassHouse") ∈ lw_tbl := lw_at lw_m5 179 rfl
theorem q1341 : (Jvm.Cond.constantLong "ClassHouse$Machine" (176 : Nat) (3 : Int64)) ∈ lw_all := lw_g (lw_at lw_m5 182 rfl) rfl
theorem q1342 : (Jvm.Cond.constantLong "ClassHouse$Machine" (178 : Nat) (2 : Int64)) ∈ lw_all := lw_g (lw_at lw_m5 183 rfl) rfl
theorem q1343 : (Jvm.Cond.methodLinkNest "ClassHouse$Machine" (48 : Nat) ({ cls := "ClassHouse", name := "placeWord", desc := "(I)J" } : Jvm.MethodName) "ClassHouse") ∈ lw_tbl := lw_at lw_m5 184 rfl
theorem q1346 : (Jvm.Cond.methodLink "ClassHouse$Machine" (180 : Nat) ({ cls := "java/lang/System", name := "arraycopy", desc := "(Ljava/lang/Object;ILjava/lang/Object;II)V" } : Jvm.MethodName)) ∈ lw_all := lw_g (lw_at lw_m5 187 rfl) rfl
theorem q1347 : (Jvm.Cond.classLink "ClassHouse$Machine" (122 : Nat) "ClassHouse$Ended") ∈ lw_all := lw_g (lw_at lw_m5 188 rfl) rfl
theorem q1356 : (Jvm.Cond.methodLink "ClassHouse$Machine" (124 : Nat) ({ cls := "ClassHouse$Ended", name := "<init>", desc := "(I)V" } : Jvm.MethodName)) ∈ lw_all := lw_g (lw_at lw_m5 197 rfl) rfl
theorem q1361 : (Jvm.Cond.fieldLinkNest "ClassHouse$Machine" (218 : Nat) "ClassHouse$Ended" "how" "I" "ClassHouse") ∈ lw_tbl := lw_at lw_m5 202 rfl
theorem q1366 : (Jvm.Cond.methodLink "ClassHouse$Machine" (130 : Nat) ({ cls := "ClassHouse$Machine", name := "make", desc := "(II)I" } : Jvm.MethodName)) ∈ lw_all := lw_g (lw_at lw_m5 207 rfl) rfl
theorem q1367 : (Jvm.Cond.privateMethod ({ cls := "ClassHouse$Machine", name := "make", desc := "(II)I" } : Jvm.MethodName)) ∈ lw_tbl := lw_at lw_m5 208 rfl
theorem q1368 : (Jvm.Cond.instanceMethod ({ cls := "ClassHouse$Machine", name := "make", desc := "(II)I" } : Jvm.MethodName)) ∈ lw_all := lw_g (lw_at lw_m5 209 rfl) rfl
theorem q1369 : (Jvm.Cond.code ({ cls := "ClassHouse$Machine", name := "make", desc := "(II)I" } : Jvm.MethodName) prog_5_method_4_code (4 : Nat) (Option.some Jvm.ClassFile.FieldType.int)) ∈ lw_all := lw_g (lw_at lw_m5 210 rfl) rfl
theorem q1370 : (Jvm.Cond.methodLink "ClassHouse$Machine" (133 : Nat) ({ cls := "ClassHouse$Machine", name := "fill", desc := "(ILClassHouse$Kind;)V" } : Jvm.MethodName)) ∈ lw_all := lw_g (lw_at lw_m5 211 rfl) rfl
theorem q1371 : (Jvm.Cond.privateMethod ({ cls := "ClassHouse$Machine", name := "fill", desc := "(ILClassHouse$Kind;)V" } : Jvm.MethodName)) ∈ lw_tbl := lw_at lw_m5 212 rfl
theorem q1372 : (Jvm.Cond.instanceMethod ({ cls := "ClassHouse$Machine", name := "fill", desc := "(ILClassHouse$Kind;)V" } : Jvm.MethodName)) ∈ lw_all := lw_g (lw_at lw_m5 213 rfl) rfl
theorem q1373 : (Jvm.Cond.code ({ cls := "ClassHouse$Machine", name := "fill", desc := "(ILClassHouse$Kind;)V" } : Jvm.MethodName) prog_5_method_7_code (6 : Nat) (Option.none : Option Jvm.ClassFile.FieldType)) ∈ lw_all := lw_g (lw_at lw_m5 214 rfl) rfl
theorem q1374 : (Jvm.Cond.methodLink "ClassHouse$Machine" (148 : Nat) ({ cls := "java/util/ArrayList", name := "size", desc := "()I" } : Jvm.MethodName)) ∈ lw_all := lw_g (lw_at lw_m5 215 rfl) rfl
theorem q1375 : (Jvm.Cond.methodLink "ClassHouse$Machine" (153 : Nat) ({ cls := "java/util/ArrayList", name := "get", desc := "(I)Ljava/lang/Object;" } : Jvm.MethodName)) ∈ lw_all := lw_g (lw_at lw_m5 216 rfl) rfl
theorem q1376 : (Jvm.Cond.constantLong "ClassHouse$Machine" (162 : Nat) (-1 : Int64)) ∈ lw_all := lw_g (lw_at lw_m5 217 rfl) rfl
theorem q1377 : (Jvm.Cond.methodLink "ClassHouse$Machine" (108 : Nat) ({ cls := "ClassHouse$Machine", name := "push", desc := "(J)V" } : Jvm.MethodName)) ∈ lw_all := lw_g (lw_at lw_m5 218 rfl) rfl
theorem q1378 : (Jvm.Cond.privateMethod ({ cls := "ClassHouse$Machine", name := "push", desc := "(J)V" } : Jvm.MethodName)) ∈ lw_tbl := lw_at lw_m5 219 rfl
theorem q1379 : (Jvm.Cond.instanceMethod ({ cls := "ClassHouse$Machine", name := "push", desc := "(J)V" } : Jvm.MethodName)) ∈ lw_all := lw_g (lw_at lw_m5 220 rfl) rfl
theorem q1380 : (Jvm.Cond.code ({ cls := "ClassHouse$Machine", name := "push", desc := "(J)V" } : Jvm.MethodName) prog_5_method_12_code (3 : Nat) (Option.none : Option Jvm.ClassFile.FieldType)) ∈ lw_all := lw_g (lw_at lw_m5 221 rfl) rfl
theorem q1381 : (Jvm.Cond.methodLink "ClassHouse$Machine" (112 : Nat) ({ cls := "ClassHouse$Machine", name := "enter", desc := "(LClassHouse$Member;I)V" } : Jvm.MethodName)) ∈ lw_all := lw_g (lw_at lw_m5 222 rfl) rfl
theorem q1382 : (Jvm.Cond.privateMethod ({ cls := "ClassHouse$Machine", name := "enter", desc := "(LClassHouse$Member;I)V" } : Jvm.MethodName)) ∈ lw_tbl := lw_at lw_m5 223 rfl
theorem q1383 : (Jvm.Cond.instanceMethod ({ cls := "ClassHouse$Machine", name := "enter", desc := "(LClassHouse$Member;I)V" } : Jvm.MethodName)) ∈ lw_all := lw_g (lw_at lw_m5 224 rfl) rfl
theorem q1384 : (Jvm.Cond.code ({ cls := "ClassHouse$Machine", name := "enter", desc := "(LClassHouse$Member;I)V" } : Jvm.MethodName) prog_5_method_15_code (4 : Nat) (Option.none : Option Jvm.ClassFile.FieldType)) ∈ lw_all := lw_g (lw_at lw_m5 225 rfl) rfl
theorem q1385 : (Jvm.Cond.methodLink "ClassHouse$Machine" (116 : Nat) ({ cls := "ClassHouse$Machine", name := "settle", desc := "()V" } : Jvm.MethodName)) ∈ lw_all := lw_g (lw_at lw_m5 226 rfl) rfl
theorem q1386 : (Jvm.Cond.privateMethod ({ cls := "ClassHouse$Machine", name := "settle", desc := "()V" } : Jvm.MethodName)) ∈ lw_tbl := lw_at lw_m5 227 rfl
theorem q1387 : (Jvm.Cond.instanceMethod ({ cls := "ClassHouse$Machine", name := "settle", desc := "()V" } : Jvm.MethodName)) ∈ lw_all := lw_g (lw_at lw_m5 228 rfl) rfl
theorem q1388 : (Jvm.Cond.code ({ cls := "ClassHouse$Machine", name := "settle", desc := "()V" } : Jvm.MethodName) prog_5_method_23_code (4 : Nat) (Option.none : Option Jvm.ClassFile.FieldType)) ∈ lw_all := lw_g (lw_at lw_m5 229 rfl) rfl
theorem q1389 : (Jvm.Cond.methodLink "ClassHouse$Machine" (231 : Nat) ({ cls := "ClassHouse$Row", name := "get", desc := "(I)I" } : Jvm.MethodName)) ∈ lw_all := lw_g (lw_at lw_m5 230 rfl) rfl
theorem q1390 : (Jvm.Cond.methodLink "ClassHouse$Machine" (243 : Nat) ({ cls := "ClassHouse$Machine", name := "free", desc := "(LClassHouse$Row;I)V" } : Jvm.MethodName)) ∈ lw_all := lw_g (lw_at lw_m5 231 rfl) rfl
theorem q1391 : (Jvm.Cond.privateMethod ({ cls := "ClassHouse$Machine", name := "free", desc := "(LClassHouse$Row;I)V" } : Jvm.MethodName)) ∈ lw_tbl := lw_at lw_m5 232 rfl
theorem q1392 : (Jvm.Cond.instanceMethod ({ cls := "ClassHouse$Machine", name := "free", desc := "(LClassHouse$Row;I)V" } : Jvm.MethodName)) ∈ lw_all := lw_g (lw_at lw_m5 233 rfl) rfl
theorem q1393 : (Jvm.Cond.code ({ cls := "ClassHouse$Machine", name := "free", desc := "(LClassHouse$Row;I)V" } : Jvm.MethodName) prog_5_method_24_code (4 : Nat) (Option.none : Option Jvm.ClassFile.FieldType)) ∈ lw_all := lw_g (lw_at lw_m5 234 rfl) rfl
theorem q1394 : (Jvm.Cond.methodLink "ClassHouse$Machine" (237 : Nat) ({ cls := "ClassHouse$Machine", name := "leave", desc := "()V" } : Jvm.MethodName)) ∈ lw_all := lw_g (lw_at lw_m5 235 rfl) rfl
theorem q1395 : (Jvm.Cond.privateMethod ({ cls := "ClassHouse$Machine", name := "leave", desc := "()V" } : Jvm.MethodName)) ∈ lw_tbl := lw_at lw_m5 236 rfl
theorem q1396 : (Jvm.Cond.instanceMethod ({ cls := "ClassHouse$Machine", name := "leave", desc := "()V" } : Jvm.MethodName)) ∈ lw_all := lw_g (lw_at lw_m5 237 rfl) rfl
theorem q1397 : (Jvm.Cond.code ({ cls := "ClassHouse$Machine", name := "leave", desc := "()V" } : Jvm.MethodName) prog_5_method_16_code (1 : Nat) (Option.none : Option Jvm.ClassFile.FieldType)) ∈ lw_all := lw_g (lw_at lw_m5 238 rfl) rfl
theorem q1398 : (Jvm.Cond.methodLink "ClassHouse$Machine" (247 : Nat) ({ cls := "ClassHouse$Machine", name := "goOn", desc := "()V" } : Jvm.MethodName)) ∈ lw_all := lw_g (lw_at lw_m5 239 rfl) rfl
theorem q1399 : (Jvm.Cond.privateMethod ({ cls := "ClassHouse$Machine", name := "goOn", desc := "()V" } : Jvm.MethodName)) ∈ lw_tbl := lw_at lw_m6 0 rfl
theorem q1400 : (Jvm.Cond.instanceMethod ({ cls := "ClassHouse$Machine", name := "goOn", desc := "()V" } : Jvm.MethodName)) ∈ lw_all := lw_g (lw_at lw_m6 1 rfl) rfl
theorem q1401 : (Jvm.Cond.code ({ cls := "ClassHouse$Machine", name := "goOn", desc := "()V" } : Jvm.MethodName) prog_5_method_25_code (1 : Nat) (Option.none : Option Jvm.ClassFile.FieldType)) ∈ lw_all := lw_g (lw_at lw_m6 2 rfl) rfl
theorem q1402 : (Jvm.Cond.methodLink "ClassHouse$Machine" (250 : Nat) ({ cls := "ClassHouse$Machine", name := "local", desc := "(I)J" } : Jvm.MethodName)) ∈ lw_all := lw_g (lw_at lw_m6 3 rfl) rfl
theorem q1403 : (Jvm.Cond.privateMethod ({ cls := "ClassHouse$Machine", name := "local", desc := "(I)J" } : Jvm.MethodName)) ∈ lw_tbl := lw_at lw_m6 4 rfl
theorem q1404 : (Jvm.Cond.instanceMethod ({ cls := "ClassHouse$Machine", name := "local", desc := "(I)J" } : Jvm.MethodName)) ∈ lw_all := lw_g (lw_at lw_m6 5 rfl) rfl
theorem q1405 : (Jvm.Cond.code ({ cls := "ClassHouse$Machine", name := "local", desc := "(I)J" } : Jvm.MethodName) prog_5_method_17_code (2 : Nat) (Option.some Jvm.ClassFile.FieldType.long)) ∈ lw_all := lw_g (lw_at lw_m6 6 rfl) rfl
theorem q1411 : (Jvm.Cond.instanceMethod ({ cls := "ClassHouse$Machine", name := "step", desc := "(I)I" } : Jvm.MethodName)) ∈ lw_all := lw_g (lw_at lw_m6 12 rfl) rfl
theorem q1412 : (Jvm.Cond.selects "ClassHouse$Machine" ({ cls := "ClassHouse$Machine", name := "step", desc := "(I)I" } : Jvm.MethodName) ({ cls := "ClassHouse$Machine", name := "step", desc := "(I)I" } : Jvm.MethodName)) ∈ lw_all := lw_g (lw_at lw_m6 13 rfl) rfl
theorem q1413 : (Jvm.Cond.codeWith ({ cls := "ClassHouse$Machine", name := "step", desc := "(I)I" } : Jvm.MethodName) prog_5_method_20_code (4 : Nat) (Option.some Jvm.ClassFile.FieldType.int) [((24 : Nat), (32 : Nat), (35 : Nat), (41 : Nat)), ((24 : Nat), (32 : Nat), (61 : Nat), (122 : Nat))]) ∈ lw_all := lw_g (lw_at lw_m6 14 rfl) rfl
theorem q1414 : (Jvm.Cond.methodLink "ClassHouse$Machine" (208 : Nat) ({ cls := "ClassHouse$Machine", name := "does", desc := "()V" } : Jvm.MethodName)) ∈ lw_all := lw_g (lw_at lw_m6 15 rfl) rfl
theorem q1415 : (Jvm.Cond.privateMethod ({ cls := "ClassHouse$Machine", name := "does", desc := "()V" } : Jvm.MethodName)) ∈ lw_tbl := lw_at lw_m6 16 rfl
theorem q1416 : (Jvm.Cond.instanceMethod ({ cls := "ClassHouse$Machine", name := "does", desc := "()V" } : Jvm.MethodName)) ∈ lw_all := lw_g (lw_at lw_m6 17 rfl) rfl
theorem q1417 : (Jvm.Cond.code ({ cls := "ClassHouse$Machine", name := "does", desc := "()V" } : Jvm.MethodName) prog_5_method_26_code (5 : Nat) (Option.none : Option Jvm.ClassFile.FieldType)) ∈ lw_all := lw_g (lw_at lw_m6 18 rfl) rfl
theorem q1418 : (Jvm.Cond.methodLinkNest "ClassHouse$Machine" (253 : Nat) ({ cls := "ClassHouse", name := "numberWord", desc := "(I)J" } : Jvm.MethodName) "ClassHouse") ∈ lw_tbl := lw_at lw_m6 19 rfl
theorem q1421 : (Jvm.Cond.methodLink "ClassHouse$Machine" (256 : Nat) ({ cls := "ClassHouse$Machine", name := "take", desc := "()I" } : Jvm.MethodName)) ∈ lw_all := lw_g (lw_at lw_m6 22 rfl) rfl
theorem q1422 : (Jvm.Cond.privateMethod ({ cls := "ClassHouse$Machine", name := "take", desc := "()I" } : Jvm.MethodName)) ∈ lw_tbl := lw_at lw_m6 23 rfl
theorem q1423 : (Jvm.Cond.instanceMethod ({ cls := "ClassHouse$Machine", name := "take", desc := "()I" } : Jvm.MethodName)) ∈ lw_all := lw_g (lw_at lw_m6 24 rfl) rfl
theorem q1424 : (Jvm.Cond.code ({ cls := "ClassHouse$Machine", name := "take", desc := "()I" } : Jvm.MethodName) prog_5_method_28_code (2 : Nat) (Option.some Jvm.ClassFile.FieldType.int)) ∈ lw_all := lw_g (lw_at lw_m6 25 rfl) rfl
theorem q1425 : (Jvm.Cond.methodLink "ClassHouse$Machine" (190 : Nat) ({ cls := "ClassHouse$Machine", name := "pop", desc := "()J" } : Jvm.MethodName)) ∈ lw_all := lw_g (lw_at lw_m6 26 rfl) rfl
theorem q1426 : (Jvm.Cond.privateMethod ({ cls := "ClassHouse$Machine", name := "pop", desc := "()J" } : Jvm.MethodName)) ∈ lw_tbl := lw_at lw_m6 27 rfl
theorem q1427 : (Jvm.Cond.instanceMethod ({ cls := "ClassHouse$Machine", name := "pop", desc := "()J" } : Jvm.MethodName)) ∈ lw_all := lw_g (lw_at lw_m6 28 rfl) rfl
theorem q1428 : (Jvm.Cond.code ({ cls := "ClassHouse$Machine", name := "pop", desc := "()J" } : Jvm.MethodName) prog_5_method_13_code (1 : Nat) (Option.some Jvm.ClassFile.FieldType.long)) ∈ lw_all := lw_g (lw_at lw_m6 29 rfl) rfl
theorem q1429 : (Jvm.Cond.methodLink "ClassHouse$Machine" (259 : Nat) ({ cls := "ClassHouse$Machine", name := "object", desc := "(J)I" } : Jvm.MethodName)) ∈ lw_all := lw_g (lw_at lw_m6 30 rfl) rfl
theorem q1430 : (Jvm.Cond.privateMethod ({ cls := "ClassHouse$Machine", name := "object", desc := "(J)I" } : Jvm.MethodName)) ∈ lw_tbl := lw_at lw_m6 31 rfl
theorem q1431 : (Jvm.Cond.instanceMethod ({ cls := "ClassHouse$Machine", name := "object", desc := "(J)I" } : Jvm.MethodName)) ∈ lw_all := lw_g (lw_at lw_m6 32 rfl) rfl
theorem q1432 : (Jvm.Cond.code ({ cls := "ClassHouse$Machine", name := "object", desc := "(J)I" } : Jvm.MethodName) prog_5_method_30_code (3 : Nat) (Option.some Jvm.ClassFile.FieldType.int)) ∈ lw_all := lw_g (lw_at lw_m6 33 rfl) rfl
theorem q1433 : (Jvm.Cond.methodLink "ClassHouse$Machine" (164 : Nat) ({ cls := "ClassHouse$Machine", name := "fault", desc := "(I)LClassHouse$Thrown;" } : Jvm.MethodName)) ∈ lw_all := lw_g (lw_at lw_m6 34 rfl) rfl
theorem q1434 : (Jvm.Cond.privateMethod ({ cls := "ClassHouse$Machine", name := "fault", desc := "(I)LClassHouse$Thrown;" } : Jvm.MethodName)) ∈ lw_tbl := lw_at lw_m6 35 rfl
theorem q1435 : (Jvm.Cond.instanceMethod ({ cls := "ClassHouse$Machine", name := "fault", desc := "(I)LClassHouse$Thrown;" } : Jvm.MethodName)) ∈ lw_all := lw_g (lw_at lw_m6 36 rfl) rfl
theorem q1436 : (Jvm.Cond.code ({ cls := "ClassHouse$Machine", name := "fault", desc := "(I)LClassHouse$Thrown;" } : Jvm.MethodName) prog_5_method_2_code (2 : Nat) (Option.some (Jvm.ClassFile.FieldType.object "ClassHouse$Thrown"))) ∈ lw_all := lw_g (lw_at lw_m6 37 rfl) rfl
theorem q1437 : (Jvm.Cond.methodLinkNest "ClassHouse$Machine" (52 : Nat) ({ cls := "ClassHouse$Thrown", name := "of", desc := "(J)LClassHouse$Thrown;" } : Jvm.MethodName) "ClassHouse") ∈ lw_tbl := lw_at lw_m6 38 rfl
theorem q1441 : (Jvm.Cond.methodLink "ClassHouse$Machine" (262 : Nat) ({ cls := "ClassHouse$Machine", name := "element", desc := "()V" } : Jvm.MethodName)) ∈ lw_all := lw_g (lw_at lw_m6 42 rfl) rfl
theorem q1442 : (Jvm.Cond.privateMethod ({ cls := "ClassHouse$Machine", name := "element", desc := "()V" } : Jvm.MethodName)) ∈ lw_tbl := lw_at lw_m6 43 rfl
theorem q1443 : (Jvm.Cond.instanceMethod ({ cls := "ClassHouse$Machine", name := "element", desc := "()V" } : Jvm.MethodName)) ∈ lw_all := lw_g (lw_at lw_m6 44 rfl) rfl
theorem q1444 : (Jvm.Cond.code ({ cls := "ClassHouse$Machine", name := "element", desc := "()V" } : Jvm.MethodName) prog_5_method_32_code (2 : Nat) (Option.none : Option Jvm.ClassFile.FieldType)) ∈ lw_all := lw_g (lw_at lw_m6 45 rfl) rfl
theorem q1445 : (Jvm.Cond.methodLink "ClassHouse$Machine" (271 : Nat) ({ cls := "ClassHouse$Machine", name := "popNumber", desc := "()I" } : Jvm.MethodName)) ∈ lw_all := lw_g (lw_at lw_m6 46 rfl) rfl
theorem q1446 : (Jvm.Cond.privateMethod ({ cls := "ClassHouse$Machine", name := "popNumber", desc := "()I" } : Jvm.MethodName)) ∈ lw_tbl := lw_at lw_m6 47 rfl
theorem q1447 : (Jvm.Cond.instanceMethod ({ cls := "ClassHouse$Machine", name := "popNumber", desc := "()I" } : Jvm.MethodName)) ∈ lw_all := lw_g (lw_at lw_m6 48 rfl) rfl
theorem q1448 : (Jvm.Cond.code ({ cls := "ClassHouse$Machine", name := "popNumber", desc := "()I" } : Jvm.MethodName) prog_5_method_14_code (1 : Nat) (Option.some Jvm.ClassFile.FieldType.int)) ∈ lw_all := lw_g (lw_at lw_m6 49 rfl) rfl
theorem q1449 : (Jvm.Cond.methodLinkNest "ClassHouse$Machine" (194 : Nat) ({ cls := "ClassHouse", name := "numberOf", desc := "(J)I" } : Jvm.MethodName) "ClassHouse") ∈ lw_tbl := lw_at lw_m6 50 rfl
theorem q1452 : (Jvm.Cond.methodLink "ClassHouse$Machine" (301 : Nat) ({ cls := "ClassHouse$Machine", name := "elementAt", desc := "(JI)I" } : Jvm.MethodName)) ∈ lw_all := lw_g (lw_at lw_m6 53 rfl) rfl
theorem q1453 : (Jvm.Cond.privateMethod ({ cls := "ClassHouse$Machine", name := "elementAt", desc := "(JI)I" } : Jvm.MethodName)) ∈ lw_tbl := lw_at lw_m6 54 rfl
theorem q1454 : (Jvm.Cond.instanceMethod ({ cls := "ClassHouse$Machine", name := "elementAt", desc := "(JI)I" } : Jvm.MethodName)) ∈ lw_all := lw_g (lw_at lw_m6 55 rfl) rfl
theorem q1455 : (Jvm.Cond.code ({ cls := "ClassHouse$Machine", name := "elementAt", desc := "(JI)I" } : Jvm.MethodName) prog_5_method_31_code (5 : Nat) (Option.some Jvm.ClassFile.FieldType.int)) ∈ lw_all := lw_g (lw_at lw_m6 56 rfl) rfl
theorem q1456 : (Jvm.Cond.methodLink "ClassHouse$Machine" (265 : Nat) ({ cls := "ClassHouse$Machine", name := "newRow", desc := "()V" } : Jvm.MethodName)) ∈ lw_all := lw_g (lw_at lw_m6 57 rfl) rfl
theorem q1457 : (Jvm.Cond.privateMethod ({ cls := "ClassHouse$Machine", name := "newRow", desc := "()V" } : Jvm.MethodName)) ∈ lw_tbl := lw_at lw_m6 58 rfl
theorem q1458 : (Jvm.Cond.instanceMethod ({ cls := "ClassHouse$Machine", name := "newRow", desc := "()V" } : Jvm.MethodName)) ∈ lw_all := lw_g (lw_at lw_m6 59 rfl) rfl
theorem q1459 : (Jvm.Cond.code ({ cls := "ClassHouse$Machine", name := "newRow", desc := "()V" } : Jvm.MethodName) prog_5_method_34_code (3 : Nat) (Option.none : Option Jvm.ClassFile.FieldType)) ∈ lw_all := lw_g (lw_at lw_m6 60 rfl) rfl
theorem q1460 : (Jvm.Cond.methodLink "ClassHouse$Machine" (305 : Nat) ({ cls := "ClassHouse$Machine", name := "newInts", desc := "(I)J" } : Jvm.MethodName)) ∈ lw_all := lw_g (lw_at lw_m6 61 rfl) rfl
theorem q1461 : (Jvm.Cond.privateMethod ({ cls := "ClassHouse$Machine", name := "newInts", desc := "(I)J" } : Jvm.MethodName)) ∈ lw_tbl := lw_at lw_m6 62 rfl
theorem q1462 : (Jvm.Cond.instanceMethod ({ cls := "ClassHouse$Machine", name := "newInts", desc := "(I)J" } : Jvm.MethodName)) ∈ lw_all := lw_g (lw_at lw_m6 63 rfl) rfl
theorem q1463 : (Jvm.Cond.code ({ cls := "ClassHouse$Machine", name := "newInts", desc := "(I)J" } : Jvm.MethodName) prog_5_method_8_code (4 : Nat) (Option.some Jvm.ClassFile.FieldType.long)) ∈ lw_all := lw_g (lw_at lw_m6 64 rfl) rfl
theorem q1464 : (Jvm.Cond.methodLink "ClassHouse$Machine" (268 : Nat) ({ cls := "ClassHouse$Machine", name := "cast", desc := "(I)V" } : Jvm.MethodName)) ∈ lw_all := lw_g (lw_at lw_m6 65 rfl) rfl
theorem q1465 : (Jvm.Cond.privateMethod ({ cls := "ClassHouse$Machine", name := "cast", desc := "(I)V" } : Jvm.MethodName)) ∈ lw_tbl := lw_at lw_m6 66 rfl
theorem q1466 : (Jvm.Cond.instanceMethod ({ cls := "ClassHouse$Machine", name := "cast", desc := "(I)V" } : Jvm.MethodName)) ∈ lw_all := lw_g (lw_at lw_m6 67 rfl) rfl
theorem q1467 : (Jvm.Cond.code ({ cls := "ClassHouse$Machine", name := "cast", desc := "(I)V" } : Jvm.MethodName) prog_5_method_35_code (4 : Nat) (Option.none : Option Jvm.ClassFile.FieldType)) ∈ lw_all := lw_g (lw_at lw_m6 68 rfl) rfl
theorem q1468 : (Jvm.Cond.methodLink "ClassHouse$Machine" (233 : Nat) ({ cls := "ClassHouse$Machine", name := "isOf", desc := "(JI)Z" } : Jvm.MethodName)) ∈ lw_all := lw_g (lw_at lw_m6 69 rfl) rfl
theorem q1469 : (Jvm.Cond.privateMethod ({ cls := "ClassHouse$Machine", name := "isOf", desc := "(JI)Z" } : Jvm.MethodName)) ∈ lw_tbl := lw_at lw_m6 70 rfl
theorem q1470 : (Jvm.Cond.instanceMethod ({ cls := "ClassHouse$Machine", name := "isOf", desc := "(JI)Z" } : Jvm.MethodName)) ∈ lw_all := lw_g (lw_at lw_m6 71 rfl) rfl
theorem q1471 : (Jvm.Cond.code ({ cls := "ClassHouse$Machine", name := "isOf", desc := "(JI)Z" } : Jvm.MethodName) prog_5_method_19_code (5 : Nat) (Option.some Jvm.ClassFile.FieldType.boolean)) ∈ lw_all := lw_g (lw_at lw_m6 72 rfl) rfl
theorem q1472 : (Jvm.Cond.methodLink "ClassHouse$Machine" (200 : Nat) ({ cls := "ClassHouse$Machine", name := "classOf", desc := "(I)I" } : Jvm.MethodName)) ∈ lw_all := lw_g (lw_at lw_m6 73 rfl) rfl
theorem q1473 : (Jvm.Cond.privateMethod ({ cls := "ClassHouse$Machine", name := "classOf", desc := "(I)I" } : Jvm.MethodName)) ∈ lw_tbl := lw_at lw_m6 74 rfl
theorem q1474 : (Jvm.Cond.instanceMethod ({ cls := "ClassHouse$Machine", name := "classOf", desc := "(I)I" } : Jvm.MethodName)) ∈ lw_all := lw_g (lw_at lw_m6 75 rfl) rfl
theorem q1475 : (Jvm.Cond.code ({ cls := "ClassHouse$Machine", name := "classOf", desc := "(I)I" } : Jvm.MethodName) prog_5_method_18_code (2 : Nat) (Option.some Jvm.ClassFile.FieldType.int)) ∈ lw_all := lw_g (lw_at lw_m6 76 rfl) rfl
theorem q1476 : (Jvm.Cond.methodLink "ClassHouse$Machine" (204 : Nat) ({ cls := "ClassHouse$Kind", name := "isSub", desc := "(LClassHouse$Kind;)Z" } : Jvm.MethodName)) ∈ lw_all := lw_g (lw_at lw_m6 77 rfl) rfl
theorem q1477 : (Jvm.Cond.methodLink "ClassHouse$Machine" (274 : Nat) ({ cls := "ClassHouse$Machine", name := "join", desc := "(I)V" } : Jvm.MethodName)) ∈ lw_all := lw_g (lw_at lw_m6 78 rfl) rfl
theorem q1478 : (Jvm.Cond.privateMethod ({ cls := "ClassHouse$Machine", name := "join", desc := "(I)V" } : Jvm.MethodName)) ∈ lw_tbl := lw_at lw_m6 79 rfl
theorem q1479 : (Jvm.Cond.instanceMethod ({ cls := "ClassHouse$Machine", name := "join", desc := "(I)V" } : Jvm.MethodName)) ∈ lw_all := lw_g (lw_at lw_m6 80 rfl) rfl
theorem q1480 : (Jvm.Cond.code ({ cls := "ClassHouse$Machine", name := "join", desc := "(I)V" } : Jvm.MethodName) prog_5_method_36_code (6 : Nat) (Option.none : Option Jvm.ClassFile.FieldType)) ∈ lw_all := lw_g (lw_at lw_m6 81 rfl) rfl
theorem q1481 : (Jvm.Cond.methodLink "ClassHouse$Machine" (308 : Nat) ({ cls := "ClassHouse$Machine", name := "joined", desc := "(III)I" } : Jvm.MethodName)) ∈ lw_all := lw_g (lw_at lw_m6 82 rfl) rfl
theorem q1482 : (Jvm.Cond.privateMethod ({ cls := "ClassHouse$Machine", name := "joined", desc := "(III)I" } : Jvm.MethodName)) ∈ lw_tbl := lw_at lw_m6 83 rfl
theorem q1483 : (Jvm.Cond.instanceMethod ({ cls := "ClassHouse$Machine", name := "joined", desc := "(III)I" } : Jvm.MethodName)) ∈ lw_all := lw_g (lw_at lw_m6 84 rfl) rfl
theorem q1484 : (Jvm.Cond.code ({ cls := "ClassHouse$Machine", name := "joined", desc := "(III)I" } : Jvm.MethodName) prog_5_method_37_code (4 : Nat) (Option.some Jvm.ClassFile.FieldType.int)) ∈ lw_all := lw_g (lw_at lw_m6 85 rfl) rfl
theorem q1485 : (Jvm.Cond.methodLink "ClassHouse$Machine" (277 : Nat) ({ cls := "ClassHouse$Machine", name := "goes", desc := "(LClassHouse$Row;II)V" } : Jvm.MethodName)) ∈ lw_all := lw_g (lw_at lw_m6 86 rfl) rfl
theorem q1486 : (Jvm.Cond.privateMethod ({ cls := "ClassHouse$Machine", name := "goes", desc := "(LClassHouse$Row;II)V" } : Jvm.MethodName)) ∈ lw_tbl := lw_at lw_m6 87 rfl
theorem q1487 : (Jvm.Cond.instanceMethod ({ cls := "ClassHouse$Machine", name := "goes", desc := "(LClassHouse$Row;II)V" } : Jvm.MethodName)) ∈ lw_all := lw_g (lw_at lw_m6 88 rfl) rfl
theorem q1488 : (Jvm.Cond.code ({ cls := "ClassHouse$Machine", name := "goes", desc := "(LClassHouse$Row;II)V" } : Jvm.MethodName) prog_5_method_27_code (10 : Nat) (Option.none : Option Jvm.ClassFile.FieldType)) ∈ lw_all := lw_g (lw_at lw_m6 89 rfl) rfl
theorem q1489 : (Jvm.Cond.methodLink "ClassHouse$Machine" (281 : Nat) ({ cls := "ClassHouse$Machine", name := "putElement", desc := "()V" } : Jvm.MethodName)) ∈ lw_all := lw_g (lw_at lw_m6 90 rfl) rfl
theorem q1490 : (Jvm.Cond.privateMethod ({ cls := "ClassHouse$Machine", name := "putElement", desc := "()V" } : Jvm.MethodName)) ∈ lw_tbl := lw_at lw_m6 91 rfl
theorem q1491 : (Jvm.Cond.instanceMethod ({ cls := "ClassHouse$Machine", name := "putElement", desc := "()V" } : Jvm.MethodName)) ∈ lw_all := lw_g (lw_at lw_m6 92 rfl) rfl
theorem q1492 : (Jvm.Cond.code ({ cls := "ClassHouse$Machine", name := "putElement", desc := "()V" } : Jvm.MethodName) prog_5_method_33_code (3 : Nat) (Option.none : Option Jvm.ClassFile.FieldType)) ∈ lw_all := lw_g (lw_at lw_m6 93 rfl) rfl
theorem q1493 : (Jvm.Cond.methodLink "ClassHouse$Machine" (284 : Nat) ({ cls := "ClassHouse$Machine", name := "show", desc := "(I)V" } : Jvm.MethodName)) ∈ lw_all := lw_g (lw_at lw_m6 94 rfl) rfl
theorem q1494 : (Jvm.Cond.privateMethod ({ cls := "ClassHouse$Machine", name := "show", desc := "(I)V" } : Jvm.MethodName)) ∈ lw_tbl := lw_at lw_m6 95 rfl
theorem q1495 : (Jvm.Cond.instanceMethod ({ cls := "ClassHouse$Machine", name := "show", desc := "(I)V" } : Jvm.MethodName)) ∈ lw_all := lw_g (lw_at lw_m6 96 rfl) rfl
theorem q1496 : (Jvm.Cond.code ({ cls := "ClassHouse$Machine", name := "show", desc := "(I)V" } : Jvm.MethodName) prog_5_method_29_code (2 : Nat) (Option.none : Option Jvm.ClassFile.FieldType)) ∈ lw_all := lw_g (lw_at lw_m6 97 rfl) rfl
theorem q1497 : (Jvm.Cond.methodLink "ClassHouse$Machine" (287 : Nat) ({ cls := "ClassHouse$Machine", name := "invoke", desc := "(II)V" } : Jvm.MethodName)) ∈ lw_all := lw_g (lw_at lw_m6 98 rfl) rfl
theorem q1498 : (Jvm.Cond.privateMethod ({ cls := "ClassHouse$Machine", name := "invoke", desc := "(II)V" } : Jvm.MethodName)) ∈ lw_tbl := lw_at lw_m6 99 rfl
theorem q1499 : (Jvm.Cond.instanceMethod ({ cls := "ClassHouse$Machine", name := "invoke", desc := "(II)V" } : Jvm.MethodName)) ∈ lw_all := lw_g (lw_at lw_m6 100 rfl) rfl
theorem q1500 : (Jvm.Cond.code ({ cls := "ClassHouse$Machine", name := "invoke", desc := "(II)V" } : Jvm.MethodName) prog_5_method_38_code (6 : Nat) (Option.none : Option Jvm.ClassFile.FieldType)) ∈ lw_all := lw_g (lw_at lw_m6 101 rfl) rfl
theorem q1501 : (Jvm.Cond.methodLink "ClassHouse$Machine" (312 : Nat) ({ cls := "ClassHouse$Kind", name := "method", desc := "(I)LClassHouse$Member;" } : Jvm.MethodName)) ∈ lw_all := lw_g (lw_at lw_m6 102 rfl) rfl
theorem q1502 : (Jvm.Cond.methodLink "ClassHouse$Machine" (291 : Nat) ({ cls := "ClassHouse$Machine", name := "gives", desc := "(Z)V" } : Jvm.MethodName)) ∈ lw_all := lw_g (lw_at lw_m6 103 rfl) rfl
theorem q1503 : (Jvm.Cond.privateMethod ({ cls := "ClassHouse$Machine", name := "gives", desc := "(Z)V" } : Jvm.MethodName)) ∈ lw_tbl := lw_at lw_m6 104 rfl
theorem q1504 : (Jvm.Cond.instanceMethod ({ cls := "ClassHouse$Machine", name := "gives", desc := "(Z)V" } : Jvm.MethodName)) ∈ lw_all := lw_g (lw_at lw_m6 105 rfl) rfl
theorem q1505 : (Jvm.Cond.code ({ cls := "ClassHouse$Machine", name := "gives", desc := "(Z)V" } : Jvm.MethodName) prog_5_method_39_code (4 : Nat) (Option.none : Option Jvm.ClassFile.FieldType)) ∈ lw_all := lw_g (lw_at lw_m6 106 rfl) rfl
theorem q1506 : (Jvm.Cond.methodLink "ClassHouse$Machine" (221 : Nat) ({ cls := "ClassHouse$Machine", name := "end", desc := "(I)V" } : Jvm.MethodName)) ∈ lw_all := lw_g (lw_at lw_m6 107 rfl) rfl
theorem q1507 : (Jvm.Cond.privateMethod ({ cls := "ClassHouse$Machine", name := "end", desc := "(I)V" } : Jvm.MethodName)) ∈ lw_tbl := lw_at lw_m6 108 rfl
theorem q1508 : (Jvm.Cond.instanceMethod ({ cls := "ClassHouse$Machine", name := "end", desc := "(I)V" } : Jvm.MethodName)) ∈ lw_all := lw_g (lw_at lw_m6 109 rfl) rfl
theorem q1509 : (Jvm.Cond.code ({ cls := "ClassHouse$Machine", name := "end", desc := "(I)V" } : Jvm.MethodName) prog_5_method_21_code (2 : Nat) (Option.none : Option Jvm.ClassFile.FieldType)) ∈ lw_all := lw_g (lw_at lw_m6 110 rfl) rfl
theorem q1510 : (Jvm.Cond.methodLink "ClassHouse$Machine" (215 : Nat) ({ cls := "ClassHouse$Machine", name := "lands", desc := "(J)V" } : Jvm.MethodName)) ∈ lw_all := lw_g (lw_at lw_m6 111 rfl) rfl
theorem q1511 : (Jvm.Cond.privateMethod ({ cls := "ClassHouse$Machine", name := "lands", desc := "(J)V" } : Jvm.MethodName)) ∈ lw_tbl := lw_at lw_m6 112 rfl
theorem q1512 : (Jvm.Cond.instanceMethod ({ cls := "ClassHouse$Machine", name := "lands", desc := "(J)V" } : Jvm.MethodName)) ∈ lw_all := lw_g (lw_at lw_m6 113 rfl) rfl
theorem q1513 : (Jvm.Cond.code ({ cls := "ClassHouse$Machine", name := "lands", desc := "(J)V" } : Jvm.MethodName) prog_5_method_22_code (10 : Nat) (Option.none : Option Jvm.ClassFile.FieldType)) ∈ lw_all := lw_g (lw_at lw_m6 114 rfl) rfl
theorem q1531 : (Jvm.Cond.instanceMethod ({ cls := "ClassHouse$Machine", name := "reached", desc := "()I" } : Jvm.MethodName)) ∈ lw_all := lw_g (lw_at lw_m6 132 rfl) rfl
theorem q1532 : (Jvm.Cond.selects "ClassHouse$Machine" ({ cls := "ClassHouse$Machine", name := "reached", desc := "()I" } : Jvm.MethodName) ({ cls := "ClassHouse$Machine", name := "reached", desc := "()I" } : Jvm.MethodName)) ∈ lw_all := lw_g (lw_at lw_m6 133 rfl) rfl
theorem q1533 : (Jvm.Cond.code ({ cls := "ClassHouse$Machine", name := "reached", desc := "()I" } : Jvm.MethodName) prog_5_method_11_code (1 : Nat) (Option.some Jvm.ClassFile.FieldType.int)) ∈ lw_all := lw_g (lw_at lw_m6 134 rfl) rfl
theorem q2335 : (Jvm.Cond.castable "ClassHouse$Machine" "java/lang/Object") ∈ lw_tbl := lw_at lw_m9 216 rfl
theorem in_X1 : ∀ w ∈ wsX10, w ∈ lw_all := lw_in wsX10 [348, 350, 352, 354, 356, 358, 360, 362, 364, 366, 368, 370, 372, 374, 376, 378, 380, 382, 384, 386, 388, 390] (by decide +kernel) (by decide +kernel)

def RX10 : String := "ClassHouse$Value"
def TX10 : u_T := fun k => match k with
  | 0 => ("ClassHouse$Value", "kind", "I", true)
  | 1 => ("ClassHouse$Value", "left", "LClassHouse$Value;", false)
  | 2 => ("ClassHouse$Value", "right", "LClassHouse$Value;", false)
  | 3 => ("ClassHouse$Value", "arguments", "[LClassHouse$Value;", false)
  | 4 => ("ClassHouse$Value", "what", "I", false)
  | _ => ("ClassHouse$Value", "type", "I", false)
def tyX10 : Nat → FieldType := fun k => match k with
  | 0 => .int
  | 1 => .object "ClassHouse$Value"
  | 2 => .object "ClassHouse$Value"
  | 3 => .array (.object "ClassHouse$Value")
  | 4 => .int
  | _ => .int
abbrev wsX100 : List Cond := u_ws RX10 TX10 6
theorem nmX10 : ∀ a, a < 6 → ∀ b, b < 6 → a ≠ b → (TX10 a).2.1 ≠ (TX10 b).2.1 := by decide +kernel
theorem tyX10_ok : ∀ k, k < 6 → parseFieldDescriptor (TX10 k).2.2.1 = some (tyX10 k) := by decide +kernel
theorem q225 : (Jvm.Cond.initialized "ClassHouse$Value") ∈ lw_all := lw_g (lw_at lw_m1 26 rfl) rfl
theorem q673 : (Jvm.Cond.selects "ClassHouse$Value" ({ cls := "java/lang/Object", name := "getClass", desc := "()Ljava/lang/Class;" } : Jvm.MethodName) ({ cls := "java/lang/Object", name := "getClass", desc := "()Ljava/lang/Class;" } : Jvm.MethodName)) ∈ lw_all := lw_g (lw_at lw_m2 234 rfl) rfl
theorem q939 : (Jvm.Cond.instantiable "ClassHouse$Value" (6 : Nat)) ∈ lw_all := lw_g (lw_at lw_m4 20 rfl) rfl
theorem q941 : (Jvm.Cond.instanceMethod ({ cls := "ClassHouse$Value", name := "<init>", desc := "(II)V" } : Jvm.MethodName)) ∈ lw_all := lw_g (lw_at lw_m4 22 rfl) rfl
theorem q942 : (Jvm.Cond.code ({ cls := "ClassHouse$Value", name := "<init>", desc := "(II)V" } : Jvm.MethodName) prog_12_method_1_code (3 : Nat) (Option.none : Option Jvm.ClassFile.FieldType)) ∈ lw_all := lw_g (lw_at lw_m4 23 rfl) rfl
theorem q943 : (Jvm.Cond.methodLink "ClassHouse$Value" (3 : Nat) ({ cls := "java/lang/Object", name := "<init>", desc := "()V" } : Jvm.MethodName)) ∈ lw_all := lw_g (lw_at lw_m4 24 rfl) rfl
theorem q944 : (Jvm.Cond.fieldLink "ClassHouse$Value" (15 : Nat) "ClassHouse$Value" "kind" "I") ∈ lw_all := lw_g (lw_at lw_m4 25 rfl) rfl
theorem q952 : (Jvm.Cond.fieldLink "ClassHouse$Value" (18 : Nat) "ClassHouse$Value" "what" "I") ∈ lw_all := lw_g (lw_at lw_m4 33 rfl) rfl
theorem q955 : (Jvm.Cond.fieldLink "ClassHouse$Value" (9 : Nat) "ClassHouse$Value" "type" "I") ∈ lw_all := lw_g (lw_at lw_m4 36 rfl) rfl
theorem q958 : (Jvm.Cond.laysFinal "ClassHouse$Value" "ClassHouse$Value" "kind" "I") ∈ lw_all := lw_g (lw_at lw_m4 39 rfl) rfl
theorem q959 : (Jvm.Cond.soleField "ClassHouse$Value" "kind") ∈ lw_all := lw_g (lw_at lw_m4 40 rfl) rfl
theorem q960 : (Jvm.Cond.lays "ClassHouse$Value" "ClassHouse$Value" "left" "LClassHouse$Value;") ∈ lw_all := lw_g (lw_at lw_m4 41 rfl) rfl
theorem q961 : (Jvm.Cond.soleField "ClassHouse$Value" "left") ∈ lw_all := lw_g (lw_at lw_m4 42 rfl) rfl
theorem q962 : (Jvm.Cond.lays "ClassHouse$Value" "ClassHouse$Value" "right" "LClassHouse$Value;") ∈ lw_all := lw_g (lw_at lw_m4 43 rfl) rfl
theorem q963 : (Jvm.Cond.soleField "ClassHouse$Value" "right") ∈ lw_all := lw_g (lw_at lw_m4 44 rfl) rfl
theorem q964 : (Jvm.Cond.lays "ClassHouse$Value" "ClassHouse$Value" "arguments" "[LClassHouse$Value;") ∈ lw_all := lw_g (lw_at lw_m4 45 rfl) rfl
theorem q965 : (Jvm.Cond.soleField "ClassHouse$Value" "arguments") ∈ lw_all := lw_g (lw_at lw_m4 46 rfl) rfl
theorem q966 : (Jvm.Cond.lays "ClassHouse$Value" "ClassHouse$Value" "what" "I") ∈ lw_all := lw_g (lw_at lw_m4 47 rfl) rfl
theorem q967 : (Jvm.Cond.soleField "ClassHouse$Value" "what") ∈ lw_all := lw_g (lw_at lw_m4 48 rfl) rfl
theorem q968 : (Jvm.Cond.lays "ClassHouse$Value" "ClassHouse$Value" "type" "I") ∈ lw_all := lw_g (lw_at lw_m4 49 rfl) rfl
theorem q969 : (Jvm.Cond.soleField "ClassHouse$Value" "type") ∈ lw_all := lw_g (lw_at lw_m4 50 rfl) rfl
theorem q970 : (Jvm.Cond.superclass "ClassHouse$Value" "java/lang/Object") ∈ lw_all := lw_g (lw_at lw_m4 51 rfl) rfl
theorem q1029 : (Jvm.Cond.instanceMethod ({ cls := "ClassHouse$Value", name := "isPlace", desc := "()Z" } : Jvm.MethodName)) ∈ lw_all := lw_g (lw_at lw_m4 110 rfl) rfl
theorem q1030 : (Jvm.Cond.selects "ClassHouse$Value" ({ cls := "ClassHouse$Value", name := "isPlace", desc := "()Z" } : Jvm.MethodName) ({ cls := "ClassHouse$Value", name := "isPlace", desc := "()Z" } : Jvm.MethodName)) ∈ lw_all := lw_g (lw_at lw_m4 111 rfl) rfl
theorem q1031 : (Jvm.Cond.code ({ cls := "ClassHouse$Value", name := "isPlace", desc := "()Z" } : Jvm.MethodName) prog_12_method_2_code (1 : Nat) (Option.some Jvm.ClassFile.FieldType.boolean)) ∈ lw_all := lw_g (lw_at lw_m4 112 rfl) rfl
theorem q1033 : (Jvm.Cond.instanceMethod ({ cls := "ClassHouse$Value", name := "isCall", desc := "()Z" } : Jvm.MethodName)) ∈ lw_all := lw_g (lw_at lw_m4 114 rfl) rfl
theorem q1034 : (Jvm.Cond.selects "ClassHouse$Value" ({ cls := "ClassHouse$Value", name := "isCall", desc := "()Z" } : Jvm.MethodName) ({ cls := "ClassHouse$Value", name := "isCall", desc := "()Z" } : Jvm.MethodName)) ∈ lw_all := lw_g (lw_at lw_m4 115 rfl) rfl
theorem q1035 : (Jvm.Cond.code ({ cls := "ClassHouse$Value", name := "isCall", desc := "()Z" } : Jvm.MethodName) prog_12_method_3_code (1 : Nat) (Option.some Jvm.ClassFile.FieldType.boolean)) ∈ lw_all := lw_g (lw_at lw_m4 116 rfl) rfl
theorem q2330 : (Jvm.Cond.castable "ClassHouse$Value" "java/lang/Object") ∈ lw_tbl := lw_at lw_m9 211 rfl
theorem in_X10 : ∀ w ∈ wsX100, w ∈ lw_all := lw_in wsX100 [958, 960, 962, 964, 966, 968] (by decide +kernel) (by decide +kernel)

def RX11 : String := "ClassHouse$Checker"
def TX11 : u_T := fun k => match k with
  | 0 => ("ClassHouse$Checker", "reader", "LClassHouse$Reader;", true)
  | 1 => ("ClassHouse$Checker", "kinds", "Ljava/util/ArrayList;", true)
  | 2 => ("ClassHouse$Checker", "sizeName", "I", true)
  | 3 => ("ClassHouse$Checker", "own", "LClassHouse$Kind;", false)
  | 4 => ("ClassHouse$Checker", "method", "LClassHouse$Member;", false)
  | 5 => ("ClassHouse$Checker", "code", "LClassHouse$Row;", false)
  | 6 => ("ClassHouse$Checker", "here", "I", false)
  | 7 => ("ClassHouse$Checker", "names", "LClassHouse$Row;", true)
  | 8 => ("ClassHouse$Checker", "types", "LClassHouse$Row;", true)
  | 9 => ("ClassHouse$Checker", "set", "[Z", false)
  | 10 => ("ClassHouse$Checker", "isDead", "Z", false)
  | 11 => ("ClassHouse$Checker", "spine", "Ljava/util/ArrayList;", true)
  | 12 => ("ClassHouse$Checker", "mainClass", "LClassHouse$Kind;", false)
  | _ => ("ClassHouse$Checker", "main", "LClassHouse$Member;", false)
def tyX11 : Nat → FieldType := fun k => match k with
  | 0 => .object "ClassHouse$Reader"
  | 1 => .object "java/util/ArrayList"
  | 2 => .int
  | 3 => .object "ClassHouse$Kind"
  | 4 => .object "ClassHouse$Member"
  | 5 => .object "ClassHouse$Row"
  | 6 => .int
  | 7 => .object "ClassHouse$Row"
  | 8 => .object "ClassHouse$Row"
  | 9 => .array .boolean
  | 10 => .boolean
  | 11 => .object "java/util/ArrayList"
  | 12 => .object "ClassHouse$Kind"
  | _ => .object "ClassHouse$Member"
abbrev wsX110 : List Cond := u_ws RX11 TX11 14
theorem nmX11 : ∀ a, a < 14 → ∀ b, b < 14 → a ≠ b → (TX11 a).2.1 ≠ (TX11 b).2.1 := by decide +kernel
theorem tyX11_ok : ∀ k, k < 14 → parseFieldDescriptor (TX11 k).2.2.1 = some (tyX11 k) := by decide +kernel
theorem q226 : (Jvm.Cond.initialized "ClassHouse$Checker") ∈ lw_all := lw_g (lw_at lw_m1 27 rfl) rfl
theorem q472 : (Jvm.Cond.fieldLinkNest "ClassHouse$Checker" (66 : Nat) "ClassHouse$Reader" "kinds" "Ljava/util/ArrayList;" "ClassHouse") ∈ lw_tbl := lw_at lw_m2 33 rfl
theorem q663 : (Jvm.Cond.selects "ClassHouse$Checker" ({ cls := "java/lang/Object", name := "getClass", desc := "()Ljava/lang/Class;" } : Jvm.MethodName) ({ cls := "java/lang/Object", name := "getClass", desc := "()Ljava/lang/Class;" } : Jvm.MethodName)) ∈ lw_all := lw_g (lw_at lw_m2 224 rfl) rfl
theorem q696 : (Jvm.Cond.fieldLinkNest "ClassHouse$Checker" (95 : Nat) "ClassHouse$Kind" "name" "I" "ClassHouse") ∈ lw_tbl := lw_at lw_m3 17 rfl
theorem q698 : (Jvm.Cond.fieldLinkNest "ClassHouse$Checker" (136 : Nat) "ClassHouse$Kind" "place" "I" "ClassHouse") ∈ lw_tbl := lw_at lw_m3 19 rfl
theorem q700 : (Jvm.Cond.fieldLinkNest "ClassHouse$Checker" (129 : Nat) "ClassHouse$Kind" "parentName" "I" "ClassHouse") ∈ lw_tbl := lw_at lw_m3 21 rfl
theorem q704 : (Jvm.Cond.fieldLinkNest "ClassHouse$Checker" (132 : Nat) "ClassHouse$Kind" "parent" "LClassHouse$Kind;" "ClassHouse") ∈ lw_tbl := lw_at lw_m3 25 rfl
theorem q705 : (Jvm.Cond.fieldLinkNest "ClassHouse$Checker" (75 : Nat) "ClassHouse$Kind" "number" "I" "ClassHouse") ∈ lw_tbl := lw_at lw_m3 26 rfl
theorem q709 : (Jvm.Cond.fieldLinkNest "ClassHouse$Checker" (116 : Nat) "ClassHouse$Kind" "members" "Ljava/util/ArrayList;" "ClassHouse") ∈ lw_tbl := lw_at lw_m3 30 rfl
theorem q713 : (Jvm.Cond.fieldLinkNest "ClassHouse$Checker" (143 : Nat) "ClassHouse$Kind" "before" "I" "ClassHouse") ∈ lw_tbl := lw_at lw_m3 34 rfl
theorem q715 : (Jvm.Cond.fieldLinkNest "ClassHouse$Checker" (146 : Nat) "ClassHouse$Kind" "fields" "I" "ClassHouse") ∈ lw_tbl := lw_at lw_m3 36 rfl
theorem q774 : (Jvm.Cond.fieldLinkNest "ClassHouse$Checker" (318 : Nat) "ClassHouse$Row" "all" "[I" "ClassHouse") ∈ lw_tbl := lw_at lw_m3 95 rfl
theorem q776 : (Jvm.Cond.fieldLinkNest "ClassHouse$Checker" (173 : Nat) "ClassHouse$Row" "size" "I" "ClassHouse") ∈ lw_tbl := lw_at lw_m3 97 rfl
theorem q787 : (Jvm.Cond.fieldLinkNest "ClassHouse$Checker" (121 : Nat) "ClassHouse$Member" "isMethod" "Z" "ClassHouse") ∈ lw_tbl := lw_at lw_m3 108 rfl
theorem q789 : (Jvm.Cond.fieldLinkNest "ClassHouse$Checker" (149 : Nat) "ClassHouse$Member" "type" "I" "ClassHouse") ∈ lw_tbl := lw_at lw_m3 110 rfl
theorem q792 : (Jvm.Cond.fieldLinkNest "ClassHouse$Checker" (159 : Nat) "ClassHouse$Member" "name" "I" "ClassHouse") ∈ lw_tbl := lw_at lw_m3 113 rfl
theorem q794 : (Jvm.Cond.fieldLinkNest "ClassHouse$Checker" (164 : Nat) "ClassHouse$Member" "place" "I" "ClassHouse") ∈ lw_tbl := lw_at lw_m3 115 rfl
theorem q796 : (Jvm.Cond.fieldLinkNest "ClassHouse$Checker" (172 : Nat) "ClassHouse$Member" "types" "LClassHouse$Row;" "ClassHouse") ∈ lw_tbl := lw_at lw_m3 117 rfl
theorem q799 : (Jvm.Cond.fieldLinkNest "ClassHouse$Checker" (177 : Nat) "ClassHouse$Member" "names" "LClassHouse$Row;" "ClassHouse") ∈ lw_tbl := lw_at lw_m3 120 rfl
theorem q801 : (Jvm.Cond.fieldLinkNest "ClassHouse$Checker" (211 : Nat) "ClassHouse$Member" "block" "[LClassHouse$Statement;" "ClassHouse") ∈ lw_tbl := lw_at lw_m3 122 rfl
theorem q803 : (Jvm.Cond.fieldLinkNest "ClassHouse$Checker" (218 : Nat) "ClassHouse$Member" "closing" "I" "ClassHouse") ∈ lw_tbl := lw_at lw_m3 124 rfl
theorem q805 : (Jvm.Cond.fieldLinkNest "ClassHouse$Checker" (203 : Nat) "ClassHouse$Member" "code" "LClassHouse$Row;" "ClassHouse") ∈ lw_tbl := lw_at lw_m3 126 rfl
theorem q808 : (Jvm.Cond.fieldLinkNest "ClassHouse$Checker" (228 : Nat) "ClassHouse$Member" "slots" "I" "ClassHouse") ∈ lw_tbl := lw_at lw_m3 129 rfl
theorem q811 : (Jvm.Cond.fieldLinkNest "ClassHouse$Checker" (326 : Nat) "ClassHouse$Member" "catches" "LClassHouse$Row;" "ClassHouse") ∈ lw_tbl := lw_at lw_m3 132 rfl
theorem q813 : (Jvm.Cond.fieldLinkNest "ClassHouse$Checker" (156 : Nat) "ClassHouse$Member" "result" "I" "ClassHouse") ∈ lw_tbl := lw_at lw_m3 134 rfl
theorem q874 : (Jvm.Cond.fieldLinkNest "ClassHouse$Checker" (249 : Nat) "ClassHouse$Statement" "kind" "I" "ClassHouse") ∈ lw_tbl := lw_at lw_m3 195 rfl
theorem q877 : (Jvm.Cond.fieldLinkNest "ClassHouse$Checker" (237 : Nat) "ClassHouse$Statement" "place" "I" "ClassHouse") ∈ lw_tbl := lw_at lw_m3 198 rfl
theorem q878 : (Jvm.Cond.fieldLinkNest "ClassHouse$Checker" (284 : Nat) "ClassHouse$Statement" "type" "I" "ClassHouse") ∈ lw_tbl := lw_at lw_m3 199 rfl
theorem q880 : (Jvm.Cond.fieldLinkNest "ClassHouse$Checker" (285 : Nat) "ClassHouse$Statement" "name" "I" "ClassHouse") ∈ lw_tbl := lw_at lw_m3 201 rfl
theorem q882 : (Jvm.Cond.fieldLinkNest "ClassHouse$Checker" (289 : Nat) "ClassHouse$Statement" "place0" "LClassHouse$Value;" "ClassHouse") ∈ lw_tbl := lw_at lw_m3 203 rfl
theorem q884 : (Jvm.Cond.fieldLinkNest "ClassHouse$Checker" (258 : Nat) "ClassHouse$Statement" "value" "LClassHouse$Value;" "ClassHouse") ∈ lw_tbl := lw_at lw_m3 205 rfl
theorem q887 : (Jvm.Cond.fieldLinkNest "ClassHouse$Checker" (312 : Nat) "ClassHouse$Statement" "first" "[LClassHouse$Statement;" "ClassHouse") ∈ lw_tbl := lw_at lw_m3 208 rfl
theorem q888 : (Jvm.Cond.fieldLinkNest "ClassHouse$Checker" (315 : Nat) "ClassHouse$Statement" "second" "[LClassHouse$Statement;" "ClassHouse") ∈ lw_tbl := lw_at lw_m3 209 rfl
theorem q945 : (Jvm.Cond.fieldLinkNest "ClassHouse$Checker" (292 : Nat) "ClassHouse$Value" "kind" "I" "ClassHouse") ∈ lw_tbl := lw_at lw_m4 26 rfl
theorem q946 : (Jvm.Cond.fieldLinkNest "ClassHouse$Checker" (298 : Nat) "ClassHouse$Value" "left" "LClassHouse$Value;" "ClassHouse") ∈ lw_tbl := lw_at lw_m4 27 rfl
theorem q948 : (Jvm.Cond.fieldLinkNest "ClassHouse$Checker" (301 : Nat) "ClassHouse$Value" "right" "LClassHouse$Value;" "ClassHouse") ∈ lw_tbl := lw_at lw_m4 29 rfl
theorem q950 : (Jvm.Cond.fieldLinkNest "ClassHouse$Checker" (346 : Nat) "ClassHouse$Value" "arguments" "[LClassHouse$Value;" "ClassHouse") ∈ lw_tbl := lw_at lw_m4 31 rfl
theorem q953 : (Jvm.Cond.fieldLinkNest "ClassHouse$Checker" (295 : Nat) "ClassHouse$Value" "what" "I" "ClassHouse") ∈ lw_tbl := lw_at lw_m4 34 rfl
theorem q956 : (Jvm.Cond.fieldLinkNest "ClassHouse$Checker" (338 : Nat) "ClassHouse$Value" "type" "I" "ClassHouse") ∈ lw_tbl := lw_at lw_m4 37 rfl
theorem q1038 : (Jvm.Cond.instantiable "ClassHouse$Checker" (14 : Nat)) ∈ lw_all := lw_g (lw_at lw_m4 119 rfl) rfl
theorem q1040 : (Jvm.Cond.instanceMethod ({ cls := "ClassHouse$Checker", name := "<init>", desc := "(LClassHouse$Reader;)V" } : Jvm.MethodName)) ∈ lw_all := lw_g (lw_at lw_m4 121 rfl) rfl
theorem q1041 : (Jvm.Cond.code ({ cls := "ClassHouse$Checker", name := "<init>", desc := "(LClassHouse$Reader;)V" } : Jvm.MethodName) prog_2_method_1_code (4 : Nat) (Option.none : Option Jvm.ClassFile.FieldType)) ∈ lw_all := lw_g (lw_at lw_m4 122 rfl) rfl
theorem q1042 : (Jvm.Cond.methodLink "ClassHouse$Checker" (3 : Nat) ({ cls := "java/lang/Object", name := "<init>", desc := "()V" } : Jvm.MethodName)) ∈ lw_all := lw_g (lw_at lw_m4 123 rfl) rfl
theorem q1043 : (Jvm.Cond.classLink "ClassHouse$Checker" (9 : Nat) "java/util/ArrayList") ∈ lw_all := lw_g (lw_at lw_m4 124 rfl) rfl
theorem q1044 : (Jvm.Cond.methodLink "ClassHouse$Checker" (11 : Nat) ({ cls := "java/util/ArrayList", name := "<init>", desc := "()V" } : Jvm.MethodName)) ∈ lw_all := lw_g (lw_at lw_m4 125 rfl) rfl
theorem q1045 : (Jvm.Cond.classLink "ClassHouse$Checker" (18 : Nat) "ClassHouse$Row") ∈ lw_all := lw_g (lw_at lw_m4 126 rfl) rfl
theorem q1046 : (Jvm.Cond.methodLinkNest "ClassHouse$Checker" (20 : Nat) ({ cls := "ClassHouse$Row", name := "<init>", desc := "()V" } : Jvm.MethodName) "ClassHouse") ∈ lw_tbl := lw_at lw_m4 127 rfl
theorem q1047 : (Jvm.Cond.classLink "ClassHouse$Checker" (39 : Nat) "java/lang/String") ∈ lw_all := lw_g (lw_at lw_m4 128 rfl) rfl
theorem q1049 : (Jvm.Cond.stringRef "ClassHouse$Checker" (41 : Nat) "Null") ∈ lw_tbl := lw_at lw_m4 130 rfl
theorem q1050 : (Jvm.Cond.stringRef "ClassHouse$Checker" (43 : Nat) "Bounds") ∈ lw_tbl := lw_at lw_m4 131 rfl
theorem q1051 : (Jvm.Cond.stringRef "ClassHouse$Checker" (45 : Nat) "Zero") ∈ lw_tbl := lw_at lw_m4 132 rfl
theorem q1052 : (Jvm.Cond.stringRef "ClassHouse$Checker" (47 : Nat) "Cast") ∈ lw_tbl := lw_at lw_m4 133 rfl
theorem q1053 : (Jvm.Cond.stringRef "ClassHouse$Checker" (49 : Nat) "Size") ∈ lw_tbl := lw_at lw_m4 134 rfl
theorem q1054 : (Jvm.Cond.classLink "ClassHouse$Checker" (51 : Nat) "ClassHouse$Kind") ∈ lw_all := lw_g (lw_at lw_m4 135 rfl) rfl
theorem q1055 : (Jvm.Cond.methodLink "ClassHouse$Checker" (53 : Nat) ({ cls := "ClassHouse$Reader", name := "nameOf", desc := "(Ljava/lang/String;)I" } : Jvm.MethodName)) ∈ lw_all := lw_g (lw_at lw_m4 136 rfl) rfl
theorem q1059 : (Jvm.Cond.methodLink "ClassHouse$Checker" (59 : Nat) ({ cls := "ClassHouse$Kind", name := "<init>", desc := "(II)V" } : Jvm.MethodName)) ∈ lw_all := lw_g (lw_at lw_m4 140 rfl) rfl
theorem q1060 : (Jvm.Cond.methodLink "ClassHouse$Checker" (62 : Nat) ({ cls := "java/util/ArrayList", name := "add", desc := "(Ljava/lang/Object;)Z" } : Jvm.MethodName)) ∈ lw_all := lw_g (lw_at lw_m4 141 rfl) rfl
theorem q1061 : (Jvm.Cond.methodLink "ClassHouse$Checker" (67 : Nat) ({ cls := "java/util/ArrayList", name := "size", desc := "()I" } : Jvm.MethodName)) ∈ lw_all := lw_g (lw_at lw_m4 142 rfl) rfl
theorem q1062 : (Jvm.Cond.methodLink "ClassHouse$Checker" (71 : Nat) ({ cls := "java/util/ArrayList", name := "get", desc := "(I)Ljava/lang/Object;" } : Jvm.MethodName)) ∈ lw_all := lw_g (lw_at lw_m4 143 rfl) rfl
theorem q1063 : (Jvm.Cond.stringRef "ClassHouse$Checker" (79 : Nat) "size") ∈ lw_tbl := lw_at lw_m4 144 rfl
theorem q1064 : (Jvm.Cond.fieldLink "ClassHouse$Checker" (35 : Nat) "ClassHouse$Checker" "reader" "LClassHouse$Reader;") ∈ lw_all := lw_g (lw_at lw_m4 145 rfl) rfl
theorem q1065 : (Jvm.Cond.fieldLink "ClassHouse$Checker" (12 : Nat) "ClassHouse$Checker" "kinds" "Ljava/util/ArrayList;") ∈ lw_all := lw_g (lw_at lw_m4 146 rfl) rfl
theorem q1067 : (Jvm.Cond.fieldLink "ClassHouse$Checker" (80 : Nat) "ClassHouse$Checker" "sizeName" "I") ∈ lw_all := lw_g (lw_at lw_m4 148 rfl) rfl
theorem q1068 : (Jvm.Cond.fieldLink "ClassHouse$Checker" (199 : Nat) "ClassHouse$Checker" "own" "LClassHouse$Kind;") ∈ lw_all := lw_g (lw_at lw_m4 149 rfl) rfl
theorem q1069 : (Jvm.Cond.fieldLink "ClassHouse$Checker" (201 : Nat) "ClassHouse$Checker" "method" "LClassHouse$Member;") ∈ lw_all := lw_g (lw_at lw_m4 150 rfl) rfl
theorem q1070 : (Jvm.Cond.fieldLink "ClassHouse$Checker" (194 : Nat) "ClassHouse$Checker" "code" "LClassHouse$Row;") ∈ lw_all := lw_g (lw_at lw_m4 151 rfl) rfl
theorem q1071 : (Jvm.Cond.fieldLink "ClassHouse$Checker" (88 : Nat) "ClassHouse$Checker" "here" "I") ∈ lw_all := lw_g (lw_at lw_m4 152 rfl) rfl
theorem q1072 : (Jvm.Cond.fieldLink "ClassHouse$Checker" (21 : Nat) "ClassHouse$Checker" "names" "LClassHouse$Row;") ∈ lw_all := lw_g (lw_at lw_m4 153 rfl) rfl
theorem q1073 : (Jvm.Cond.fieldLink "ClassHouse$Checker" (25 : Nat) "ClassHouse$Checker" "types" "LClassHouse$Row;") ∈ lw_all := lw_g (lw_at lw_m4 154 rfl) rfl
theorem q1074 : (Jvm.Cond.fieldLink "ClassHouse$Checker" (28 : Nat) "ClassHouse$Checker" "set" "[Z") ∈ lw_all := lw_g (lw_at lw_m4 155 rfl) rfl
theorem q1075 : (Jvm.Cond.fieldLink "ClassHouse$Checker" (204 : Nat) "ClassHouse$Checker" "isDead" "Z") ∈ lw_all := lw_g (lw_at lw_m4 156 rfl) rfl
theorem q1076 : (Jvm.Cond.fieldLink "ClassHouse$Checker" (32 : Nat) "ClassHouse$Checker" "spine" "Ljava/util/ArrayList;") ∈ lw_all := lw_g (lw_at lw_m4 157 rfl) rfl
theorem q1077 : (Jvm.Cond.fieldLink "ClassHouse$Checker" (186 : Nat) "ClassHouse$Checker" "mainClass" "LClassHouse$Kind;") ∈ lw_all := lw_g (lw_at lw_m4 158 rfl) rfl
theorem q1079 : (Jvm.Cond.fieldLink "ClassHouse$Checker" (191 : Nat) "ClassHouse$Checker" "main" "LClassHouse$Member;") ∈ lw_all := lw_g (lw_at lw_m4 160 rfl) rfl
theorem q1081 : (Jvm.Cond.laysFinal "ClassHouse$Checker" "ClassHouse$Checker" "reader" "LClassHouse$Reader;") ∈ lw_all := lw_g (lw_at lw_m4 162 rfl) rfl
theorem q1082 : (Jvm.Cond.soleField "ClassHouse$Checker" "reader") ∈ lw_all := lw_g (lw_at lw_m4 163 rfl) rfl
theorem q1083 : (Jvm.Cond.laysFinal "ClassHouse$Checker" "ClassHouse$Checker" "kinds" "Ljava/util/ArrayList;") ∈ lw_all := lw_g (lw_at lw_m4 164 rfl) rfl
theorem q1084 : (Jvm.Cond.soleField "ClassHouse$Checker" "kinds") ∈ lw_all := lw_g (lw_at lw_m4 165 rfl) rfl
theorem q1085 : (Jvm.Cond.laysFinal "ClassHouse$Checker" "ClassHouse$Checker" "sizeName" "I") ∈ lw_all := lw_g (lw_at lw_m4 166 rfl) rfl
theorem q1086 : (Jvm.Cond.soleField "ClassHouse$Checker" "sizeName") ∈ lw_all := lw_g (lw_at lw_m4 167 rfl) rfl
theorem q1087 : (Jvm.Cond.lays "ClassHouse$Checker" "ClassHouse$Checker" "own" "LClassHouse$Kind;") ∈ lw_all := lw_g (lw_at lw_m4 168 rfl) rfl
theorem q1088 : (Jvm.Cond.soleField "ClassHouse$Checker" "own") ∈ lw_all := lw_g (lw_at lw_m4 169 rfl) rfl
theorem q1089 : (Jvm.Cond.lays "ClassHouse$Checker" "ClassHouse$Checker" "method" "LClassHouse$Member;") ∈ lw_all := lw_g (lw_at lw_m4 170 rfl) rfl
theorem q1090 : (Jvm.Cond.soleField "ClassHouse$Checker" "method") ∈ lw_all := lw_g (lw_at lw_m4 171 rfl) rfl
theorem q1091 : (Jvm.Cond.lays "ClassHouse$Checker" "ClassHouse$Checker" "code" "LClassHouse$Row;") ∈ lw_all := lw_g (lw_at lw_m4 172 rfl) rfl
theorem q1092 : (Jvm.Cond.soleField "ClassHouse$Checker" "code") ∈ lw_all := lw_g (lw_at lw_m4 173 rfl) rfl
theorem q1093 : (Jvm.Cond.lays "ClassHouse$Checker" "ClassHouse$Checker" "here" "I") ∈ lw_all := lw_g (lw_at lw_m4 174 rfl) rfl
theorem q1094 : (Jvm.Cond.soleField "ClassHouse$Checker" "here") ∈ lw_all := lw_g (lw_at lw_m4 175 rfl) rfl
theorem q1095 : (Jvm.Cond.laysFinal "ClassHouse$Checker" "ClassHouse$Checker" "names" "LClassHouse$Row;") ∈ lw_all := lw_g (lw_at lw_m4 176 rfl) rfl
theorem q1096 : (Jvm.Cond.soleField "ClassHouse$Checker" "names") ∈ lw_all := lw_g (lw_at lw_m4 177 rfl) rfl
theorem q1097 : (Jvm.Cond.laysFinal "ClassHouse$Checker" "ClassHouse$Checker" "types" "LClassHouse$Row;") ∈ lw_all := lw_g (lw_at lw_m4 178 rfl) rfl
theorem q1098 : (Jvm.Cond.soleField "ClassHouse$Checker" "types") ∈ lw_all := lw_g (lw_at lw_m4 179 rfl) rfl
theorem q1099 : (Jvm.Cond.lays "ClassHouse$Checker" "ClassHouse$Checker" "set" "[Z") ∈ lw_all := lw_g (lw_at lw_m4 180 rfl) rfl
theorem q1100 : (Jvm.Cond.soleField "ClassHouse$Checker" "set") ∈ lw_all := lw_g (lw_at lw_m4 181 rfl) rfl
theorem q1101 : (Jvm.Cond.lays "ClassHouse$Checker" "ClassHouse$Checker" "isDead" "Z") ∈ lw_all := lw_g (lw_at lw_m4 182 rfl) rfl
theorem q1102 : (Jvm.Cond.soleField "ClassHouse$Checker" "isDead") ∈ lw_all := lw_g (lw_at lw_m4 183 rfl) rfl
theorem q1103 : (Jvm.Cond.laysFinal "ClassHouse$Checker" "ClassHouse$Checker" "spine" "Ljava/util/ArrayList;") ∈ lw_all := lw_g (lw_at lw_m4 184 rfl) rfl
theorem q1104 : (Jvm.Cond.soleField "ClassHouse$Checker" "spine") ∈ lw_all := lw_g (lw_at lw_m4 185 rfl) rfl
theorem q1105 : (Jvm.Cond.lays "ClassHouse$Checker" "ClassHouse$Checker" "mainClass" "LClassHouse$Kind;") ∈ lw_all := lw_g (lw_at lw_m4 186 rfl) rfl
theorem q1106 : (Jvm.Cond.soleField "ClassHouse$Checker" "mainClass") ∈ lw_all := lw_g (lw_at lw_m4 187 rfl) rfl
theorem q1107 : (Jvm.Cond.lays "ClassHouse$Checker" "ClassHouse$Checker" "main" "LClassHouse$Member;") ∈ lw_all := lw_g (lw_at lw_m4 188 rfl) rfl
theorem q1108 : (Jvm.Cond.soleField "ClassHouse$Checker" "main") ∈ lw_all := lw_g (lw_at lw_m4 189 rfl) rfl
theorem q1109 : (Jvm.Cond.superclass "ClassHouse$Checker" "java/lang/Object") ∈ lw_all := lw_g (lw_at lw_m4 190 rfl) rfl
theorem q1112 : (Jvm.Cond.instanceMethod ({ cls := "ClassHouse$Checker", name := "check", desc := "(I)V" } : Jvm.MethodName)) ∈ lw_all := lw_g (lw_at lw_m4 193 rfl) rfl
theorem q1113 : (Jvm.Cond.selects "ClassHouse$Checker" ({ cls := "ClassHouse$Checker", name := "check", desc := "(I)V" } : Jvm.MethodName) ({ cls := "ClassHouse$Checker", name := "check", desc := "(I)V" } : Jvm.MethodName)) ∈ lw_all := lw_g (lw_at lw_m4 194 rfl) rfl
theorem q1114 : (Jvm.Cond.code ({ cls := "ClassHouse$Checker", name := "check", desc := "(I)V" } : Jvm.MethodName) prog_2_method_7_code (5 : Nat) (Option.none : Option Jvm.ClassFile.FieldType)) ∈ lw_all := lw_g (lw_at lw_m4 195 rfl) rfl
theorem q1115 : (Jvm.Cond.methodLink "ClassHouse$Checker" (106 : Nat) ({ cls := "ClassHouse$Checker", name := "checkClasses", desc := "()V" } : Jvm.MethodName)) ∈ lw_all := lw_g (lw_at lw_m4 196 rfl) rfl
theorem q1116 : (Jvm.Cond.privateMethod ({ cls := "ClassHouse$Checker", name := "checkClasses", desc := "()V" } : Jvm.MethodName)) ∈ lw_tbl := lw_at lw_m4 197 rfl
theorem q1117 : (Jvm.Cond.instanceMethod ({ cls := "ClassHouse$Checker", name := "checkClasses", desc := "()V" } : Jvm.MethodName)) ∈ lw_all := lw_g (lw_at lw_m4 198 rfl) rfl
theorem q1118 : (Jvm.Cond.code ({ cls := "ClassHouse$Checker", name := "checkClasses", desc := "()V" } : Jvm.MethodName) prog_2_method_8_code (5 : Nat) (Option.none : Option Jvm.ClassFile.FieldType)) ∈ lw_all := lw_g (lw_at lw_m4 199 rfl) rfl
theorem q1119 : (Jvm.Cond.methodLink "ClassHouse$Checker" (98 : Nat) ({ cls := "ClassHouse$Checker", name := "kindOf", desc := "(I)LClassHouse$Kind;" } : Jvm.MethodName)) ∈ lw_all := lw_g (lw_at lw_m4 200 rfl) rfl
theorem q1120 : (Jvm.Cond.privateMethod ({ cls := "ClassHouse$Checker", name := "kindOf", desc := "(I)LClassHouse$Kind;" } : Jvm.MethodName)) ∈ lw_tbl := lw_at lw_m4 201 rfl
theorem q1121 : (Jvm.Cond.instanceMethod ({ cls := "ClassHouse$Checker", name := "kindOf", desc := "(I)LClassHouse$Kind;" } : Jvm.MethodName)) ∈ lw_all := lw_g (lw_at lw_m4 202 rfl) rfl
theorem q1122 : (Jvm.Cond.code ({ cls := "ClassHouse$Checker", name := "kindOf", desc := "(I)LClassHouse$Kind;" } : Jvm.MethodName) prog_2_method_4_code (3 : Nat) (Option.some (Jvm.ClassFile.FieldType.object "ClassHouse$Kind"))) ∈ lw_all := lw_g (lw_at lw_m4 203 rfl) rfl
theorem q1123 : (Jvm.Cond.methodLink "ClassHouse$Checker" (91 : Nat) ({ cls := "ClassHouse$Checker", name := "must", desc := "(ZI)V" } : Jvm.MethodName)) ∈ lw_all := lw_g (lw_at lw_m4 204 rfl) rfl
theorem q1124 : (Jvm.Cond.static ({ cls := "ClassHouse$Checker", name := "must", desc := "(ZI)V" } : Jvm.MethodName)) ∈ lw_all := lw_g (lw_at lw_m4 205 rfl) rfl
theorem q1125 : (Jvm.Cond.code ({ cls := "ClassHouse$Checker", name := "must", desc := "(ZI)V" } : Jvm.MethodName) prog_2_method_2_code (2 : Nat) (Option.none : Option Jvm.ClassFile.FieldType)) ∈ lw_all := lw_g (lw_at lw_m4 206 rfl) rfl
theorem q1126 : (Jvm.Cond.classLink "ClassHouse$Checker" (83 : Nat) "ClassHouse$Refused") ∈ lw_all := lw_g (lw_at lw_m4 207 rfl) rfl
theorem q1127 : (Jvm.Cond.methodLink "ClassHouse$Checker" (85 : Nat) ({ cls := "ClassHouse$Refused", name := "<init>", desc := "(I)V" } : Jvm.MethodName)) ∈ lw_all := lw_g (lw_at lw_m4 208 rfl) rfl
theorem q1128 : (Jvm.Cond.methodLink "ClassHouse$Checker" (139 : Nat) ({ cls := "ClassHouse$Checker", name := "fieldsOf", desc := "(LClassHouse$Kind;)I" } : Jvm.MethodName)) ∈ lw_all := lw_g (lw_at lw_m4 209 rfl) rfl
theorem q1129 : (Jvm.Cond.static ({ cls := "ClassHouse$Checker", name := "fieldsOf", desc := "(LClassHouse$Kind;)I" } : Jvm.MethodName)) ∈ lw_all := lw_g (lw_at lw_m4 210 rfl) rfl
theorem q1130 : (Jvm.Cond.code ({ cls := "ClassHouse$Checker", name := "fieldsOf", desc := "(LClassHouse$Kind;)I" } : Jvm.MethodName) prog_2_method_9_code (3 : Nat) (Option.some Jvm.ClassFile.FieldType.int)) ∈ lw_all := lw_g (lw_at lw_m4 211 rfl) rfl
theorem q1131 : (Jvm.Cond.classLink "ClassHouse$Checker" (119 : Nat) "ClassHouse$Member") ∈ lw_all := lw_g (lw_at lw_m4 212 rfl) rfl
theorem q1132 : (Jvm.Cond.methodLink "ClassHouse$Checker" (109 : Nat) ({ cls := "ClassHouse$Checker", name := "checkMembers", desc := "(LClassHouse$Kind;)V" } : Jvm.MethodName)) ∈ lw_all := lw_g (lw_at lw_m4 213 rfl) rfl
theorem q1133 : (Jvm.Cond.privateMethod ({ cls := "ClassHouse$Checker", name := "checkMembers", desc := "(LClassHouse$Kind;)V" } : Jvm.MethodName)) ∈ lw_tbl := lw_at lw_m4 214 rfl
theorem q1134 : (Jvm.Cond.instanceMethod ({ cls := "ClassHouse$Checker", name := "checkMembers", desc := "(LClassHouse$Kind;)V" } : Jvm.MethodName)) ∈ lw_all := lw_g (lw_at lw_m4 215 rfl) rfl
theorem q1135 : (Jvm.Cond.code ({ cls := "ClassHouse$Checker", name := "checkMembers", desc := "(LClassHouse$Kind;)V" } : Jvm.MethodName) prog_2_method_10_code (4 : Nat) (Option.none : Option Jvm.ClassFile.FieldType)) ∈ lw_all := lw_g (lw_at lw_m4 216 rfl) rfl
theorem q1136 : (Jvm.Cond.methodLink "ClassHouse$Checker" (152 : Nat) ({ cls := "ClassHouse$Checker", name := "typeOf", desc := "(I)I" } : Jvm.MethodName)) ∈ lw_all := lw_g (lw_at lw_m4 217 rfl) rfl
theorem q1137 : (Jvm.Cond.privateMethod ({ cls := "ClassHouse$Checker", name := "typeOf", desc := "(I)I" } : Jvm.MethodName)) ∈ lw_tbl := lw_at lw_m4 218 rfl
theorem q1138 : (Jvm.Cond.instanceMethod ({ cls := "ClassHouse$Checker", name := "typeOf", desc := "(I)I" } : Jvm.MethodName)) ∈ lw_all := lw_g (lw_at lw_m4 219 rfl) rfl
theorem q1139 : (Jvm.Cond.code ({ cls := "ClassHouse$Checker", name := "typeOf", desc := "(I)I" } : Jvm.MethodName) prog_2_method_5_code (3 : Nat) (Option.some Jvm.ClassFile.FieldType.int)) ∈ lw_all := lw_g (lw_at lw_m4 220 rfl) rfl
theorem q1140 : (Jvm.Cond.methodLinkNest "ClassHouse$Checker" (160 : Nat) ({ cls := "ClassHouse$Kind", name := "own", desc := "(ZI)LClassHouse$Member;" } : Jvm.MethodName) "ClassHouse") ∈ lw_tbl := lw_at lw_m4 221 rfl
theorem q1147 : (Jvm.Cond.methodLink "ClassHouse$Checker" (165 : Nat) ({ cls := "ClassHouse$Checker", name := "checkSignature", desc := "(LClassHouse$Kind;LClassHouse$Member;)V" } : Jvm.MethodName)) ∈ lw_all := lw_g (lw_at lw_m4 228 rfl) rfl
theorem q1148 : (Jvm.Cond.privateMethod ({ cls := "ClassHouse$Checker", name := "checkSignature", desc := "(LClassHouse$Kind;LClassHouse$Member;)V" } : Jvm.MethodName)) ∈ lw_tbl := lw_at lw_m4 229 rfl
theorem q1149 : (Jvm.Cond.instanceMethod ({ cls := "ClassHouse$Checker", name := "checkSignature", desc := "(LClassHouse$Kind;LClassHouse$Member;)V" } : Jvm.MethodName)) ∈ lw_all := lw_g (lw_at lw_m4 230 rfl) rfl
theorem q1150 : (Jvm.Cond.code ({ cls := "ClassHouse$Checker", name := "checkSignature", desc := "(LClassHouse$Kind;LClassHouse$Member;)V" } : Jvm.MethodName) prog_2_method_11_code (6 : Nat) (Option.none : Option Jvm.ClassFile.FieldType)) ∈ lw_all := lw_g (lw_at lw_m4 231 rfl) rfl
theorem q1151 : (Jvm.Cond.methodLink "ClassHouse$Checker" (175 : Nat) ({ cls := "ClassHouse$Row", name := "get", desc := "(I)I" } : Jvm.MethodName)) ∈ lw_all := lw_g (lw_at lw_m4 232 rfl) rfl
theorem q1155 : (Jvm.Cond.methodLink "ClassHouse$Checker" (178 : Nat) ({ cls := "ClassHouse$Row", name := "find", desc := "(I)I" } : Jvm.MethodName)) ∈ lw_all := lw_g (lw_at lw_m4 236 rfl) rfl
theorem q1159 : (Jvm.Cond.methodLink "ClassHouse$Checker" (181 : Nat) ({ cls := "ClassHouse$Kind", name := "method", desc := "(I)LClassHouse$Member;" } : Jvm.MethodName)) ∈ lw_all := lw_g (lw_at lw_m5 0 rfl) rfl
theorem q1164 : (Jvm.Cond.methodLink "ClassHouse$Checker" (168 : Nat) ({ cls := "ClassHouse$Kind", name := "field", desc := "(I)LClassHouse$Member;" } : Jvm.MethodName)) ∈ lw_all := lw_g (lw_at lw_m5 5 rfl) rfl
theorem q1168 : (Jvm.Cond.methodLink "ClassHouse$Checker" (113 : Nat) ({ cls := "ClassHouse$Checker", name := "checkMain", desc := "(I)V" } : Jvm.MethodName)) ∈ lw_all := lw_g (lw_at lw_m5 9 rfl) rfl
theorem q1169 : (Jvm.Cond.privateMethod ({ cls := "ClassHouse$Checker", name := "checkMain", desc := "(I)V" } : Jvm.MethodName)) ∈ lw_tbl := lw_at lw_m5 10 rfl
theorem q1170 : (Jvm.Cond.instanceMethod ({ cls := "ClassHouse$Checker", name := "checkMain", desc := "(I)V" } : Jvm.MethodName)) ∈ lw_all := lw_g (lw_at lw_m5 11 rfl) rfl
theorem q1171 : (Jvm.Cond.code ({ cls := "ClassHouse$Checker", name := "checkMain", desc := "(I)V" } : Jvm.MethodName) prog_2_method_12_code (2 : Nat) (Option.none : Option Jvm.ClassFile.FieldType)) ∈ lw_all := lw_g (lw_at lw_m5 12 rfl) rfl
theorem q1172 : (Jvm.Cond.stringRef "ClassHouse$Checker" (184 : Nat) "Main") ∈ lw_tbl := lw_at lw_m5 13 rfl
theorem q1173 : (Jvm.Cond.stringRef "ClassHouse$Checker" (189 : Nat) "main") ∈ lw_tbl := lw_at lw_m5 14 rfl
theorem q1174 : (Jvm.Cond.methodLink "ClassHouse$Checker" (125 : Nat) ({ cls := "ClassHouse$Checker", name := "checkMethod", desc := "(LClassHouse$Kind;LClassHouse$Member;)V" } : Jvm.MethodName)) ∈ lw_all := lw_g (lw_at lw_m5 15 rfl) rfl
theorem q1175 : (Jvm.Cond.privateMethod ({ cls := "ClassHouse$Checker", name := "checkMethod", desc := "(LClassHouse$Kind;LClassHouse$Member;)V" } : Jvm.MethodName)) ∈ lw_tbl := lw_at lw_m5 16 rfl
theorem q1176 : (Jvm.Cond.instanceMethod ({ cls := "ClassHouse$Checker", name := "checkMethod", desc := "(LClassHouse$Kind;LClassHouse$Member;)V" } : Jvm.MethodName)) ∈ lw_all := lw_g (lw_at lw_m5 17 rfl) rfl
theorem q1177 : (Jvm.Cond.code ({ cls := "ClassHouse$Checker", name := "checkMethod", desc := "(LClassHouse$Kind;LClassHouse$Member;)V" } : Jvm.MethodName) prog_2_method_15_code (4 : Nat) (Option.none : Option Jvm.ClassFile.FieldType)) ∈ lw_all := lw_g (lw_at lw_m5 18 rfl) rfl
theorem q1178 : (Jvm.Cond.methodLink "ClassHouse$Checker" (207 : Nat) ({ cls := "ClassHouse$Checker", name := "declare", desc := "(IIZ)V" } : Jvm.MethodName)) ∈ lw_all := lw_g (lw_at lw_m5 19 rfl) rfl
theorem q1179 : (Jvm.Cond.privateMethod ({ cls := "ClassHouse$Checker", name := "declare", desc := "(IIZ)V" } : Jvm.MethodName)) ∈ lw_tbl := lw_at lw_m5 20 rfl
theorem q1180 : (Jvm.Cond.instanceMethod ({ cls := "ClassHouse$Checker", name := "declare", desc := "(IIZ)V" } : Jvm.MethodName)) ∈ lw_all := lw_g (lw_at lw_m5 21 rfl) rfl
theorem q1181 : (Jvm.Cond.code ({ cls := "ClassHouse$Checker", name := "declare", desc := "(IIZ)V" } : Jvm.MethodName) prog_2_method_16_code (5 : Nat) (Option.none : Option Jvm.ClassFile.FieldType)) ∈ lw_all := lw_g (lw_at lw_m5 22 rfl) rfl
theorem q1182 : (Jvm.Cond.methodLink "ClassHouse$Checker" (197 : Nat) ({ cls := "ClassHouse$Row", name := "add", desc := "(I)V" } : Jvm.MethodName)) ∈ lw_all := lw_g (lw_at lw_m5 23 rfl) rfl
theorem q1183 : (Jvm.Cond.methodLink "ClassHouse$Checker" (222 : Nat) ({ cls := "java/lang/System", name := "arraycopy", desc := "(Ljava/lang/Object;ILjava/lang/Object;II)V" } : Jvm.MethodName)) ∈ lw_all := lw_g (lw_at lw_m5 24 rfl) rfl
theorem q1184 : (Jvm.Cond.methodLink "ClassHouse$Checker" (231 : Nat) ({ cls := "java/lang/Math", name := "max", desc := "(II)I" } : Jvm.MethodName)) ∈ lw_all := lw_g (lw_at lw_m5 25 rfl) rfl
theorem q1185 : (Jvm.Cond.methodLink "ClassHouse$Checker" (215 : Nat) ({ cls := "ClassHouse$Checker", name := "block", desc := "([LClassHouse$Statement;)V" } : Jvm.MethodName)) ∈ lw_all := lw_g (lw_at lw_m5 26 rfl) rfl
theorem q1186 : (Jvm.Cond.privateMethod ({ cls := "ClassHouse$Checker", name := "block", desc := "([LClassHouse$Statement;)V" } : Jvm.MethodName)) ∈ lw_tbl := lw_at lw_m5 27 rfl
theorem q1187 : (Jvm.Cond.instanceMethod ({ cls := "ClassHouse$Checker", name := "block", desc := "([LClassHouse$Statement;)V" } : Jvm.MethodName)) ∈ lw_all := lw_g (lw_at lw_m5 28 rfl) rfl
theorem q1188 : (Jvm.Cond.code ({ cls := "ClassHouse$Checker", name := "block", desc := "([LClassHouse$Statement;)V" } : Jvm.MethodName) prog_2_method_17_code (4 : Nat) (Option.none : Option Jvm.ClassFile.FieldType)) ∈ lw_all := lw_g (lw_at lw_m5 29 rfl) rfl
theorem q1189 : (Jvm.Cond.methodLink "ClassHouse$Checker" (240 : Nat) ({ cls := "ClassHouse$Checker", name := "statement", desc := "(LClassHouse$Statement;)V" } : Jvm.MethodName)) ∈ lw_all := lw_g (lw_at lw_m5 30 rfl) rfl
theorem q1190 : (Jvm.Cond.privateMethod ({ cls := "ClassHouse$Checker", name := "statement", desc := "(LClassHouse$Statement;)V" } : Jvm.MethodName)) ∈ lw_tbl := lw_at lw_m5 31 rfl
theorem q1191 : (Jvm.Cond.instanceMethod ({ cls := "ClassHouse$Checker", name := "statement", desc := "(LClassHouse$Statement;)V" } : Jvm.MethodName)) ∈ lw_all := lw_g (lw_at lw_m5 32 rfl) rfl
theorem q1192 : (Jvm.Cond.code ({ cls := "ClassHouse$Checker", name := "statement", desc := "(LClassHouse$Statement;)V" } : Jvm.MethodName) prog_2_method_19_code (3 : Nat) (Option.none : Option Jvm.ClassFile.FieldType)) ∈ lw_all := lw_g (lw_at lw_m5 33 rfl) rfl
theorem q1193 : (Jvm.Cond.methodLink "ClassHouse$Checker" (252 : Nat) ({ cls := "ClassHouse$Checker", name := "tell", desc := "(LClassHouse$Statement;)V" } : Jvm.MethodName)) ∈ lw_all := lw_g (lw_at lw_m5 34 rfl) rfl
theorem q1194 : (Jvm.Cond.privateMethod ({ cls := "ClassHouse$Checker", name := "tell", desc := "(LClassHouse$Statement;)V" } : Jvm.MethodName)) ∈ lw_tbl := lw_at lw_m5 35 rfl
theorem q1195 : (Jvm.Cond.instanceMethod ({ cls := "ClassHouse$Checker", name := "tell", desc := "(LClassHouse$Statement;)V" } : Jvm.MethodName)) ∈ lw_all := lw_g (lw_at lw_m5 36 rfl) rfl
theorem q1196 : (Jvm.Cond.code ({ cls := "ClassHouse$Checker", name := "tell", desc := "(LClassHouse$Statement;)V" } : Jvm.MethodName) prog_2_method_21_code (3 : Nat) (Option.none : Option Jvm.ClassFile.FieldType)) ∈ lw_all := lw_g (lw_at lw_m5 37 rfl) rfl
theorem q1197 : (Jvm.Cond.methodLink "ClassHouse$Checker" (286 : Nat) ({ cls := "ClassHouse$Row", name := "has", desc := "(I)Z" } : Jvm.MethodName)) ∈ lw_all := lw_g (lw_at lw_m5 38 rfl) rfl
theorem q1202 : (Jvm.Cond.methodLink "ClassHouse$Checker" (274 : Nat) ({ cls := "ClassHouse$Checker", name := "must", desc := "(Z)V" } : Jvm.MethodName)) ∈ lw_all := lw_g (lw_at lw_m5 43 rfl) rfl
theorem q1203 : (Jvm.Cond.privateMethod ({ cls := "ClassHouse$Checker", name := "must", desc := "(Z)V" } : Jvm.MethodName)) ∈ lw_tbl := lw_at lw_m5 44 rfl
theorem q1204 : (Jvm.Cond.instanceMethod ({ cls := "ClassHouse$Checker", name := "must", desc := "(Z)V" } : Jvm.MethodName)) ∈ lw_all := lw_g (lw_at lw_m5 45 rfl) rfl
theorem q1205 : (Jvm.Cond.code ({ cls := "ClassHouse$Checker", name := "must", desc := "(Z)V" } : Jvm.MethodName) prog_2_method_3_code (2 : Nat) (Option.none : Option Jvm.ClassFile.FieldType)) ∈ lw_all := lw_g (lw_at lw_m5 46 rfl) rfl
theorem q1206 : (Jvm.Cond.methodLink "ClassHouse$Checker" (262 : Nat) ({ cls := "ClassHouse$Checker", name := "value", desc := "(LClassHouse$Value;)I" } : Jvm.MethodName)) ∈ lw_all := lw_g (lw_at lw_m5 47 rfl) rfl
theorem q1207 : (Jvm.Cond.privateMethod ({ cls := "ClassHouse$Checker", name := "value", desc := "(LClassHouse$Value;)I" } : Jvm.MethodName)) ∈ lw_tbl := lw_at lw_m5 48 rfl
theorem q1208 : (Jvm.Cond.instanceMethod ({ cls := "ClassHouse$Checker", name := "value", desc := "(LClassHouse$Value;)I" } : Jvm.MethodName)) ∈ lw_all := lw_g (lw_at lw_m5 49 rfl) rfl
theorem q1209 : (Jvm.Cond.code ({ cls := "ClassHouse$Checker", name := "value", desc := "(LClassHouse$Value;)I" } : Jvm.MethodName) prog_2_method_28_code (5 : Nat) (Option.some Jvm.ClassFile.FieldType.int)) ∈ lw_all := lw_g (lw_at lw_m5 50 rfl) rfl
theorem q1210 : (Jvm.Cond.methodLink "ClassHouse$Checker" (329 : Nat) ({ cls := "ClassHouse$Checker", name := "first", desc := "(LClassHouse$Value;)I" } : Jvm.MethodName)) ∈ lw_all := lw_g (lw_at lw_m5 51 rfl) rfl
theorem q1211 : (Jvm.Cond.privateMethod ({ cls := "ClassHouse$Checker", name := "first", desc := "(LClassHouse$Value;)I" } : Jvm.MethodName)) ∈ lw_tbl := lw_at lw_m5 52 rfl
theorem q1212 : (Jvm.Cond.instanceMethod ({ cls := "ClassHouse$Checker", name := "first", desc := "(LClassHouse$Value;)I" } : Jvm.MethodName)) ∈ lw_all := lw_g (lw_at lw_m5 53 rfl) rfl
theorem q1213 : (Jvm.Cond.code ({ cls := "ClassHouse$Checker", name := "first", desc := "(LClassHouse$Value;)I" } : Jvm.MethodName) prog_2_method_29_code (4 : Nat) (Option.some Jvm.ClassFile.FieldType.int)) ∈ lw_all := lw_g (lw_at lw_m5 54 rfl) rfl
theorem q1214 : (Jvm.Cond.methodLink "ClassHouse$Checker" (247 : Nat) ({ cls := "ClassHouse$Checker", name := "add", desc := "(II)V" } : Jvm.MethodName)) ∈ lw_all := lw_g (lw_at lw_m5 55 rfl) rfl
theorem q1215 : (Jvm.Cond.privateMethod ({ cls := "ClassHouse$Checker", name := "add", desc := "(II)V" } : Jvm.MethodName)) ∈ lw_tbl := lw_at lw_m5 56 rfl
theorem q1216 : (Jvm.Cond.instanceMethod ({ cls := "ClassHouse$Checker", name := "add", desc := "(II)V" } : Jvm.MethodName)) ∈ lw_all := lw_g (lw_at lw_m5 57 rfl) rfl
theorem q1217 : (Jvm.Cond.code ({ cls := "ClassHouse$Checker", name := "add", desc := "(II)V" } : Jvm.MethodName) prog_2_method_14_code (3 : Nat) (Option.none : Option Jvm.ClassFile.FieldType)) ∈ lw_all := lw_g (lw_at lw_m5 58 rfl) rfl
theorem q1218 : (Jvm.Cond.methodLink "ClassHouse$Checker" (221 : Nat) ({ cls := "ClassHouse$Checker", name := "add", desc := "(I)V" } : Jvm.MethodName)) ∈ lw_all := lw_g (lw_at lw_m5 59 rfl) rfl
theorem q1219 : (Jvm.Cond.privateMethod ({ cls := "ClassHouse$Checker", name := "add", desc := "(I)V" } : Jvm.MethodName)) ∈ lw_tbl := lw_at lw_m5 60 rfl
theorem q1220 : (Jvm.Cond.instanceMethod ({ cls := "ClassHouse$Checker", name := "add", desc := "(I)V" } : Jvm.MethodName)) ∈ lw_all := lw_g (lw_at lw_m5 61 rfl) rfl
theorem q1221 : (Jvm.Cond.code ({ cls := "ClassHouse$Checker", name := "add", desc := "(I)V" } : Jvm.MethodName) prog_2_method_13_code (2 : Nat) (Option.none : Option Jvm.ClassFile.FieldType)) ∈ lw_all := lw_g (lw_at lw_m5 62 rfl) rfl
theorem q1222 : (Jvm.Cond.methodLink "ClassHouse$Checker" (339 : Nat) ({ cls := "ClassHouse$Checker", name := "named", desc := "(I)I" } : Jvm.MethodName)) ∈ lw_all := lw_g (lw_at lw_m5 63 rfl) rfl
theorem q1223 : (Jvm.Cond.privateMethod ({ cls := "ClassHouse$Checker", name := "named", desc := "(I)I" } : Jvm.MethodName)) ∈ lw_tbl := lw_at lw_m5 64 rfl
theorem q1224 : (Jvm.Cond.instanceMethod ({ cls := "ClassHouse$Checker", name := "named", desc := "(I)I" } : Jvm.MethodName)) ∈ lw_all := lw_g (lw_at lw_m5 65 rfl) rfl
theorem q1225 : (Jvm.Cond.code ({ cls := "ClassHouse$Checker", name := "named", desc := "(I)I" } : Jvm.MethodName) prog_2_method_30_code (4 : Nat) (Option.some Jvm.ClassFile.FieldType.int)) ∈ lw_all := lw_g (lw_at lw_m5 66 rfl) rfl
theorem q1226 : (Jvm.Cond.methodLink "ClassHouse$Checker" (304 : Nat) ({ cls := "ClassHouse$Kind", name := "fieldAt", desc := "(LClassHouse$Member;)I" } : Jvm.MethodName)) ∈ lw_all := lw_g (lw_at lw_m5 67 rfl) rfl
theorem q1230 : (Jvm.Cond.methodLink "ClassHouse$Checker" (342 : Nat) ({ cls := "ClassHouse$Checker", name := "called", desc := "(LClassHouse$Kind;LClassHouse$Value;)I" } : Jvm.MethodName)) ∈ lw_all := lw_g (lw_at lw_m5 71 rfl) rfl
theorem q1231 : (Jvm.Cond.privateMethod ({ cls := "ClassHouse$Checker", name := "called", desc := "(LClassHouse$Kind;LClassHouse$Value;)I" } : Jvm.MethodName)) ∈ lw_tbl := lw_at lw_m5 72 rfl
theorem q1232 : (Jvm.Cond.instanceMethod ({ cls := "ClassHouse$Checker", name := "called", desc := "(LClassHouse$Kind;LClassHouse$Value;)I" } : Jvm.MethodName)) ∈ lw_all := lw_g (lw_at lw_m5 73 rfl) rfl
theorem q1233 : (Jvm.Cond.code ({ cls := "ClassHouse$Checker", name := "called", desc := "(LClassHouse$Kind;LClassHouse$Value;)I" } : Jvm.MethodName) prog_2_method_31_code (5 : Nat) (Option.some Jvm.ClassFile.FieldType.int)) ∈ lw_all := lw_g (lw_at lw_m5 74 rfl) rfl
theorem q1234 : (Jvm.Cond.methodLink "ClassHouse$Checker" (271 : Nat) ({ cls := "ClassHouse$Checker", name := "isSub", desc := "(II)Z" } : Jvm.MethodName)) ∈ lw_all := lw_g (lw_at lw_m5 75 rfl) rfl
theorem q1235 : (Jvm.Cond.privateMethod ({ cls := "ClassHouse$Checker", name := "isSub", desc := "(II)Z" } : Jvm.MethodName)) ∈ lw_tbl := lw_at lw_m5 76 rfl
theorem q1236 : (Jvm.Cond.instanceMethod ({ cls := "ClassHouse$Checker", name := "isSub", desc := "(II)Z" } : Jvm.MethodName)) ∈ lw_all := lw_g (lw_at lw_m5 77 rfl) rfl
theorem q1237 : (Jvm.Cond.code ({ cls := "ClassHouse$Checker", name := "isSub", desc := "(II)Z" } : Jvm.MethodName) prog_2_method_6_code (3 : Nat) (Option.some Jvm.ClassFile.FieldType.boolean)) ∈ lw_all := lw_g (lw_at lw_m5 78 rfl) rfl
theorem q1238 : (Jvm.Cond.methodLink "ClassHouse$Checker" (102 : Nat) ({ cls := "ClassHouse$Kind", name := "isSub", desc := "(LClassHouse$Kind;)Z" } : Jvm.MethodName)) ∈ lw_all := lw_g (lw_at lw_m5 79 rfl) rfl
theorem q1242 : (Jvm.Cond.methodLink "ClassHouse$Checker" (331 : Nat) ({ cls := "java/util/ArrayList", name := "remove", desc := "(I)Ljava/lang/Object;" } : Jvm.MethodName)) ∈ lw_all := lw_g (lw_at lw_m5 83 rfl) rfl
theorem q1251 : (Jvm.Cond.classLink "ClassHouse$Checker" (293 : Nat) "ClassHouse$Value") ∈ lw_all := lw_g (lw_at lw_m5 92 rfl) rfl
theorem q1252 : (Jvm.Cond.methodLink "ClassHouse$Checker" (334 : Nat) ({ cls := "ClassHouse$Checker", name := "behind", desc := "(LClassHouse$Value;I)I" } : Jvm.MethodName)) ∈ lw_all := lw_g (lw_at lw_m5 93 rfl) rfl
theorem q1253 : (Jvm.Cond.privateMethod ({ cls := "ClassHouse$Checker", name := "behind", desc := "(LClassHouse$Value;I)I" } : Jvm.MethodName)) ∈ lw_tbl := lw_at lw_m5 94 rfl
theorem q1254 : (Jvm.Cond.instanceMethod ({ cls := "ClassHouse$Checker", name := "behind", desc := "(LClassHouse$Value;I)I" } : Jvm.MethodName)) ∈ lw_all := lw_g (lw_at lw_m5 95 rfl) rfl
theorem q1255 : (Jvm.Cond.code ({ cls := "ClassHouse$Checker", name := "behind", desc := "(LClassHouse$Value;I)I" } : Jvm.MethodName) prog_2_method_32_code (6 : Nat) (Option.some Jvm.ClassFile.FieldType.int)) ∈ lw_all := lw_g (lw_at lw_m5 96 rfl) rfl
theorem q1256 : (Jvm.Cond.methodLink "ClassHouse$Checker" (350 : Nat) ({ cls := "ClassHouse$Checker", name := "signed", desc := "(LClassHouse$Value;I)I" } : Jvm.MethodName)) ∈ lw_all := lw_g (lw_at lw_m5 97 rfl) rfl
theorem q1257 : (Jvm.Cond.privateMethod ({ cls := "ClassHouse$Checker", name := "signed", desc := "(LClassHouse$Value;I)I" } : Jvm.MethodName)) ∈ lw_tbl := lw_at lw_m5 98 rfl
theorem q1258 : (Jvm.Cond.instanceMethod ({ cls := "ClassHouse$Checker", name := "signed", desc := "(LClassHouse$Value;I)I" } : Jvm.MethodName)) ∈ lw_all := lw_g (lw_at lw_m5 99 rfl) rfl
theorem q1259 : (Jvm.Cond.code ({ cls := "ClassHouse$Checker", name := "signed", desc := "(LClassHouse$Value;I)I" } : Jvm.MethodName) prog_2_method_34_code (5 : Nat) (Option.some Jvm.ClassFile.FieldType.int)) ∈ lw_all := lw_g (lw_at lw_m5 100 rfl) rfl
theorem q1260 : (Jvm.Cond.methodLink "ClassHouse$Checker" (353 : Nat) ({ cls := "ClassHouse$Checker", name := "isReference", desc := "(I)Z" } : Jvm.MethodName)) ∈ lw_all := lw_g (lw_at lw_m5 101 rfl) rfl
theorem q1261 : (Jvm.Cond.static ({ cls := "ClassHouse$Checker", name := "isReference", desc := "(I)Z" } : Jvm.MethodName)) ∈ lw_all := lw_g (lw_at lw_m5 102 rfl) rfl
theorem q1262 : (Jvm.Cond.code ({ cls := "ClassHouse$Checker", name := "isReference", desc := "(I)Z" } : Jvm.MethodName) prog_2_method_33_code (1 : Nat) (Option.some Jvm.ClassFile.FieldType.boolean)) ∈ lw_all := lw_g (lw_at lw_m5 103 rfl) rfl
theorem q1263 : (Jvm.Cond.methodLink "ClassHouse$Checker" (255 : Nat) ({ cls := "ClassHouse$Checker", name := "put", desc := "(LClassHouse$Statement;)V" } : Jvm.MethodName)) ∈ lw_all := lw_g (lw_at lw_m5 104 rfl) rfl
theorem q1264 : (Jvm.Cond.privateMethod ({ cls := "ClassHouse$Checker", name := "put", desc := "(LClassHouse$Statement;)V" } : Jvm.MethodName)) ∈ lw_tbl := lw_at lw_m5 105 rfl
theorem q1265 : (Jvm.Cond.instanceMethod ({ cls := "ClassHouse$Checker", name := "put", desc := "(LClassHouse$Statement;)V" } : Jvm.MethodName)) ∈ lw_all := lw_g (lw_at lw_m5 106 rfl) rfl
theorem q1266 : (Jvm.Cond.code ({ cls := "ClassHouse$Checker", name := "put", desc := "(LClassHouse$Statement;)V" } : Jvm.MethodName) prog_2_method_22_code (8 : Nat) (Option.none : Option Jvm.ClassFile.FieldType)) ∈ lw_all := lw_g (lw_at lw_m5 107 rfl) rfl
theorem q1267 : (Jvm.Cond.methodLink "ClassHouse$Checker" (265 : Nat) ({ cls := "ClassHouse$Checker", name := "either", desc := "(LClassHouse$Statement;)V" } : Jvm.MethodName)) ∈ lw_all := lw_g (lw_at lw_m5 108 rfl) rfl
theorem q1268 : (Jvm.Cond.privateMethod ({ cls := "ClassHouse$Checker", name := "either", desc := "(LClassHouse$Statement;)V" } : Jvm.MethodName)) ∈ lw_tbl := lw_at lw_m5 109 rfl
theorem q1269 : (Jvm.Cond.instanceMethod ({ cls := "ClassHouse$Checker", name := "either", desc := "(LClassHouse$Statement;)V" } : Jvm.MethodName)) ∈ lw_all := lw_g (lw_at lw_m5 110 rfl) rfl
theorem q1270 : (Jvm.Cond.code ({ cls := "ClassHouse$Checker", name := "either", desc := "(LClassHouse$Statement;)V" } : Jvm.MethodName) prog_2_method_25_code (8 : Nat) (Option.none : Option Jvm.ClassFile.FieldType)) ∈ lw_all := lw_g (lw_at lw_m5 111 rfl) rfl
theorem q1271 : (Jvm.Cond.methodLink "ClassHouse$Checker" (308 : Nat) ({ cls := "ClassHouse$Checker", name := "held", desc := "()[Z" } : Jvm.MethodName)) ∈ lw_all := lw_g (lw_at lw_m5 112 rfl) rfl
theorem q1272 : (Jvm.Cond.privateMethod ({ cls := "ClassHouse$Checker", name := "held", desc := "()[Z" } : Jvm.MethodName)) ∈ lw_tbl := lw_at lw_m5 113 rfl
theorem q1273 : (Jvm.Cond.instanceMethod ({ cls := "ClassHouse$Checker", name := "held", desc := "()[Z" } : Jvm.MethodName)) ∈ lw_all := lw_g (lw_at lw_m5 114 rfl) rfl
theorem q1274 : (Jvm.Cond.code ({ cls := "ClassHouse$Checker", name := "held", desc := "()[Z" } : Jvm.MethodName) prog_2_method_23_code (2 : Nat) (Option.some (Jvm.ClassFile.FieldType.array Jvm.ClassFile.FieldType.boolean))) ∈ lw_all := lw_g (lw_at lw_m5 115 rfl) rfl
theorem q1275 : (Jvm.Cond.methodLink "ClassHouse$Checker" (322 : Nat) ({ cls := "ClassHouse$Checker", name := "join", desc := "([ZZ)V" } : Jvm.MethodName)) ∈ lw_all := lw_g (lw_at lw_m5 116 rfl) rfl
theorem q1276 : (Jvm.Cond.privateMethod ({ cls := "ClassHouse$Checker", name := "join", desc := "([ZZ)V" } : Jvm.MethodName)) ∈ lw_tbl := lw_at lw_m5 117 rfl
theorem q1277 : (Jvm.Cond.instanceMethod ({ cls := "ClassHouse$Checker", name := "join", desc := "([ZZ)V" } : Jvm.MethodName)) ∈ lw_all := lw_g (lw_at lw_m5 118 rfl) rfl
theorem q1278 : (Jvm.Cond.code ({ cls := "ClassHouse$Checker", name := "join", desc := "([ZZ)V" } : Jvm.MethodName) prog_2_method_24_code (4 : Nat) (Option.none : Option Jvm.ClassFile.FieldType)) ∈ lw_all := lw_g (lw_at lw_m5 119 rfl) rfl
theorem q1279 : (Jvm.Cond.methodLink "ClassHouse$Checker" (268 : Nat) ({ cls := "ClassHouse$Checker", name := "loop", desc := "(LClassHouse$Statement;)V" } : Jvm.MethodName)) ∈ lw_all := lw_g (lw_at lw_m5 120 rfl) rfl
theorem q1280 : (Jvm.Cond.privateMethod ({ cls := "ClassHouse$Checker", name := "loop", desc := "(LClassHouse$Statement;)V" } : Jvm.MethodName)) ∈ lw_tbl := lw_at lw_m5 121 rfl
theorem q1281 : (Jvm.Cond.instanceMethod ({ cls := "ClassHouse$Checker", name := "loop", desc := "(LClassHouse$Statement;)V" } : Jvm.MethodName)) ∈ lw_all := lw_g (lw_at lw_m5 122 rfl) rfl
theorem q1282 : (Jvm.Cond.code ({ cls := "ClassHouse$Checker", name := "loop", desc := "(LClassHouse$Statement;)V" } : Jvm.MethodName) prog_2_method_26_code (6 : Nat) (Option.none : Option Jvm.ClassFile.FieldType)) ∈ lw_all := lw_g (lw_at lw_m5 123 rfl) rfl
theorem q1283 : (Jvm.Cond.methodLink "ClassHouse$Checker" (277 : Nat) ({ cls := "ClassHouse$Checker", name := "isObject", desc := "(I)Z" } : Jvm.MethodName)) ∈ lw_all := lw_g (lw_at lw_m5 124 rfl) rfl
theorem q1284 : (Jvm.Cond.static ({ cls := "ClassHouse$Checker", name := "isObject", desc := "(I)Z" } : Jvm.MethodName)) ∈ lw_all := lw_g (lw_at lw_m5 125 rfl) rfl
theorem q1285 : (Jvm.Cond.code ({ cls := "ClassHouse$Checker", name := "isObject", desc := "(I)Z" } : Jvm.MethodName) prog_2_method_20_code (1 : Nat) (Option.some Jvm.ClassFile.FieldType.boolean)) ∈ lw_all := lw_g (lw_at lw_m5 126 rfl) rfl
theorem q1286 : (Jvm.Cond.methodLink "ClassHouse$Checker" (281 : Nat) ({ cls := "ClassHouse$Checker", name := "tries", desc := "(LClassHouse$Statement;)V" } : Jvm.MethodName)) ∈ lw_all := lw_g (lw_at lw_m5 127 rfl) rfl
theorem q1287 : (Jvm.Cond.privateMethod ({ cls := "ClassHouse$Checker", name := "tries", desc := "(LClassHouse$Statement;)V" } : Jvm.MethodName)) ∈ lw_tbl := lw_at lw_m5 128 rfl
theorem q1288 : (Jvm.Cond.instanceMethod ({ cls := "ClassHouse$Checker", name := "tries", desc := "(LClassHouse$Statement;)V" } : Jvm.MethodName)) ∈ lw_all := lw_g (lw_at lw_m5 129 rfl) rfl
theorem q1289 : (Jvm.Cond.code ({ cls := "ClassHouse$Checker", name := "tries", desc := "(LClassHouse$Statement;)V" } : Jvm.MethodName) prog_2_method_27_code (13 : Nat) (Option.none : Option Jvm.ClassFile.FieldType)) ∈ lw_all := lw_g (lw_at lw_m5 130 rfl) rfl
theorem q1290 : (Jvm.Cond.methodLink "ClassHouse$Checker" (244 : Nat) ({ cls := "ClassHouse$Checker", name := "drop", desc := "(I)V" } : Jvm.MethodName)) ∈ lw_all := lw_g (lw_at lw_m5 131 rfl) rfl
theorem q1291 : (Jvm.Cond.privateMethod ({ cls := "ClassHouse$Checker", name := "drop", desc := "(I)V" } : Jvm.MethodName)) ∈ lw_tbl := lw_at lw_m5 132 rfl
theorem q1292 : (Jvm.Cond.instanceMethod ({ cls := "ClassHouse$Checker", name := "drop", desc := "(I)V" } : Jvm.MethodName)) ∈ lw_all := lw_g (lw_at lw_m5 133 rfl) rfl
theorem q1293 : (Jvm.Cond.code ({ cls := "ClassHouse$Checker", name := "drop", desc := "(I)V" } : Jvm.MethodName) prog_2_method_18_code (2 : Nat) (Option.none : Option Jvm.ClassFile.FieldType)) ∈ lw_all := lw_g (lw_at lw_m5 134 rfl) rfl
theorem q2342 : (Jvm.Cond.castable "ClassHouse$Checker" "java/lang/Object") ∈ lw_tbl := lw_at lw_m9 223 rfl
theorem in_X11 : ∀ w ∈ wsX110, w ∈ lw_all := lw_in wsX110 [1081, 1083, 1085, 1087, 1089, 1091, 1093, 1095, 1097, 1099, 1101, 1103, 1105, 1107] (by decide +kernel) (by decide +kernel)

def RX12 : String := "ClassHouse$Ended"
def TX12 : u_T := fun k => match k with
  | 0 => ("java/lang/Throwable", "cause", "Ljava/lang/Throwable;", false)
  | 1 => ("java/lang/Throwable", "stackTrace", "[Ljava/lang/StackTraceElement;", false)
  | 2 => ("java/lang/Throwable", "suppressedExceptions", "Ljava/util/List;", false)
  | 3 => ("java/lang/Throwable", "detailMessage", "Ljava/lang/String;", false)
  | 4 => ("java/lang/Throwable", "backtrace", "Ljava/lang/Object;", false)
  | 5 => ("java/lang/Throwable", "depth", "I", false)
  | _ => ("ClassHouse$Ended", "how", "I", true)
def tyX12 : Nat → FieldType := fun k => match k with
  | 0 => .object "java/lang/Throwable"
  | 1 => .array (.object "java/lang/StackTraceElement")
  | 2 => .object "java/util/List"
  | 3 => .object "java/lang/String"
  | 4 => .object "java/lang/Object"
  | 5 => .int
  | _ => .int
abbrev wsX120 : List Cond := u_ws RX12 TX12 7
theorem nmX12 : ∀ a, a < 7 → ∀ b, b < 7 → a ≠ b → (TX12 a).2.1 ≠ (TX12 b).2.1 := by decide +kernel
theorem tyX12_ok : ∀ k, k < 7 → parseFieldDescriptor (TX12 k).2.2.1 = some (tyX12 k) := by decide +kernel
theorem q227 : (Jvm.Cond.initialized "ClassHouse$Ended") ∈ lw_all := lw_g (lw_at lw_m1 28 rfl) rfl
theorem q278 : (Jvm.Cond.selects "ClassHouse$Ended" ({ cls := "java/lang/Throwable", name := "fillInStackTrace", desc := "()Ljava/lang/Throwable;" } : Jvm.MethodName) ({ cls := "java/lang/Throwable", name := "fillInStackTrace", desc := "()Ljava/lang/Throwable;" } : Jvm.MethodName)) ∈ lw_all := lw_g (lw_at lw_m1 79 rfl) rfl
theorem q664 : (Jvm.Cond.selects "ClassHouse$Ended" ({ cls := "java/lang/Object", name := "getClass", desc := "()Ljava/lang/Class;" } : Jvm.MethodName) ({ cls := "java/lang/Object", name := "getClass", desc := "()Ljava/lang/Class;" } : Jvm.MethodName)) ∈ lw_all := lw_g (lw_at lw_m2 225 rfl) rfl
theorem q1348 : (Jvm.Cond.instantiable "ClassHouse$Ended" (7 : Nat)) ∈ lw_all := lw_g (lw_at lw_m5 189 rfl) rfl
theorem q1349 : (Jvm.Cond.castable "ClassHouse$Ended" "ClassHouse$Ended") ∈ lw_tbl := lw_at lw_m5 190 rfl
theorem q1350 : (Jvm.Cond.selects "ClassHouse$Ended" ({ cls := "java/lang/Throwable", name := "fillInStackTrace", desc := "(I)Ljava/lang/Throwable;" } : Jvm.MethodName) ({ cls := "java/lang/Throwable", name := "fillInStackTrace", desc := "(I)Ljava/lang/Throwable;" } : Jvm.MethodName)) ∈ lw_all := lw_g (lw_at lw_m5 191 rfl) rfl
theorem q1351 : (Jvm.Cond.lays "ClassHouse$Ended" "java/lang/Throwable" "cause" "Ljava/lang/Throwable;") ∈ lw_all := lw_g (lw_at lw_m5 192 rfl) rfl
theorem q1352 : (Jvm.Cond.lays "ClassHouse$Ended" "java/lang/Throwable" "stackTrace" "[Ljava/lang/StackTraceElement;") ∈ lw_all := lw_g (lw_at lw_m5 193 rfl) rfl
theorem q1353 : (Jvm.Cond.lays "ClassHouse$Ended" "java/lang/Throwable" "suppressedExceptions" "Ljava/util/List;") ∈ lw_all := lw_g (lw_at lw_m5 194 rfl) rfl
theorem q1354 : (Jvm.Cond.lays "ClassHouse$Ended" "java/lang/Throwable" "detailMessage" "Ljava/lang/String;") ∈ lw_all := lw_g (lw_at lw_m5 195 rfl) rfl
theorem q1355 : (Jvm.Cond.lays "ClassHouse$Ended" "java/lang/Throwable" "backtrace" "Ljava/lang/Object;") ∈ lw_all := lw_g (lw_at lw_m5 196 rfl) rfl
theorem q1357 : (Jvm.Cond.instanceMethod ({ cls := "ClassHouse$Ended", name := "<init>", desc := "(I)V" } : Jvm.MethodName)) ∈ lw_all := lw_g (lw_at lw_m5 198 rfl) rfl
theorem q1358 : (Jvm.Cond.code ({ cls := "ClassHouse$Ended", name := "<init>", desc := "(I)V" } : Jvm.MethodName) prog_3_method_1_code (2 : Nat) (Option.none : Option Jvm.ClassFile.FieldType)) ∈ lw_all := lw_g (lw_at lw_m5 199 rfl) rfl
theorem q1359 : (Jvm.Cond.methodLink "ClassHouse$Ended" (1 : Nat) ({ cls := "java/lang/RuntimeException", name := "<init>", desc := "()V" } : Jvm.MethodName)) ∈ lw_all := lw_g (lw_at lw_m5 200 rfl) rfl
theorem q1360 : (Jvm.Cond.fieldLink "ClassHouse$Ended" (7 : Nat) "ClassHouse$Ended" "how" "I") ∈ lw_all := lw_g (lw_at lw_m5 201 rfl) rfl
theorem q1362 : (Jvm.Cond.laysFinal "ClassHouse$Ended" "ClassHouse$Ended" "how" "I") ∈ lw_all := lw_g (lw_at lw_m5 203 rfl) rfl
theorem q1363 : (Jvm.Cond.soleField "ClassHouse$Ended" "how") ∈ lw_all := lw_g (lw_at lw_m5 204 rfl) rfl
theorem q1364 : (Jvm.Cond.lays "ClassHouse$Ended" "java/lang/Throwable" "depth" "I") ∈ lw_all := lw_g (lw_at lw_m5 205 rfl) rfl
theorem q1365 : (Jvm.Cond.superclass "ClassHouse$Ended" "java/lang/RuntimeException") ∈ lw_all := lw_g (lw_at lw_m5 206 rfl) rfl
theorem q2343 : (Jvm.Cond.castable "ClassHouse$Ended" "java/lang/Object") ∈ lw_tbl := lw_at lw_m9 224 rfl
theorem in_X12 : ∀ w ∈ wsX120, w ∈ lw_all := lw_in wsX120 [1351, 1352, 1353, 1354, 1355, 1364, 1362] (by decide +kernel) (by decide +kernel)

def RX2 : String := "ClassHouse$Thrown"
def TX2 : u_T := fun k => match k with
  | 0 => ("java/lang/Throwable", "cause", "Ljava/lang/Throwable;", false)
  | 1 => ("java/lang/Throwable", "stackTrace", "[Ljava/lang/StackTraceElement;", false)
  | 2 => ("java/lang/Throwable", "suppressedExceptions", "Ljava/util/List;", false)
  | 3 => ("java/lang/Throwable", "detailMessage", "Ljava/lang/String;", false)
  | 4 => ("java/lang/Throwable", "backtrace", "Ljava/lang/Object;", false)
  | 5 => ("java/lang/Throwable", "depth", "I", false)
  | _ => ("ClassHouse$Thrown", "word", "J", false)
def tyX2 : Nat → FieldType := fun k => match k with
  | 0 => .object "java/lang/Throwable"
  | 1 => .array (.object "java/lang/StackTraceElement")
  | 2 => .object "java/util/List"
  | 3 => .object "java/lang/String"
  | 4 => .object "java/lang/Object"
  | 5 => .int
  | _ => .long
abbrev wsX20 : List Cond := u_ws RX2 TX2 7
theorem nmX2 : ∀ a, a < 7 → ∀ b, b < 7 → a ≠ b → (TX2 a).2.1 ≠ (TX2 b).2.1 := by decide +kernel
theorem tyX2_ok : ∀ k, k < 7 → parseFieldDescriptor (TX2 k).2.2.1 = some (tyX2 k) := by decide +kernel
theorem q205 : (Jvm.Cond.initialized "ClassHouse$Thrown") ∈ lw_all := lw_g (lw_at lw_m1 6 rfl) rfl
theorem q246 : (Jvm.Cond.instantiable "ClassHouse$Thrown" (7 : Nat)) ∈ lw_all := lw_g (lw_at lw_m1 47 rfl) rfl
theorem q247 : (Jvm.Cond.castable "ClassHouse$Thrown" "ClassHouse$Thrown") ∈ lw_tbl := lw_at lw_m1 48 rfl
theorem q254 : (Jvm.Cond.selects "ClassHouse$Thrown" ({ cls := "java/lang/Throwable", name := "fillInStackTrace", desc := "(I)Ljava/lang/Throwable;" } : Jvm.MethodName) ({ cls := "java/lang/Throwable", name := "fillInStackTrace", desc := "(I)Ljava/lang/Throwable;" } : Jvm.MethodName)) ∈ lw_all := lw_g (lw_at lw_m1 55 rfl) rfl
theorem q255 : (Jvm.Cond.selects "ClassHouse$Thrown" ({ cls := "java/lang/Throwable", name := "fillInStackTrace", desc := "()Ljava/lang/Throwable;" } : Jvm.MethodName) ({ cls := "java/lang/Throwable", name := "fillInStackTrace", desc := "()Ljava/lang/Throwable;" } : Jvm.MethodName)) ∈ lw_all := lw_g (lw_at lw_m1 56 rfl) rfl
theorem q256 : (Jvm.Cond.lays "ClassHouse$Thrown" "java/lang/Throwable" "cause" "Ljava/lang/Throwable;") ∈ lw_all := lw_g (lw_at lw_m1 57 rfl) rfl
theorem q258 : (Jvm.Cond.lays "ClassHouse$Thrown" "java/lang/Throwable" "stackTrace" "[Ljava/lang/StackTraceElement;") ∈ lw_all := lw_g (lw_at lw_m1 59 rfl) rfl
theorem q260 : (Jvm.Cond.lays "ClassHouse$Thrown" "java/lang/Throwable" "suppressedExceptions" "Ljava/util/List;") ∈ lw_all := lw_g (lw_at lw_m1 61 rfl) rfl
theorem q262 : (Jvm.Cond.lays "ClassHouse$Thrown" "java/lang/Throwable" "detailMessage" "Ljava/lang/String;") ∈ lw_all := lw_g (lw_at lw_m1 63 rfl) rfl
theorem q264 : (Jvm.Cond.lays "ClassHouse$Thrown" "java/lang/Throwable" "backtrace" "Ljava/lang/Object;") ∈ lw_all := lw_g (lw_at lw_m1 65 rfl) rfl
theorem q287 : (Jvm.Cond.instanceMethod ({ cls := "ClassHouse$Thrown", name := "<init>", desc := "()V" } : Jvm.MethodName)) ∈ lw_all := lw_g (lw_at lw_m1 88 rfl) rfl
theorem q288 : (Jvm.Cond.code ({ cls := "ClassHouse$Thrown", name := "<init>", desc := "()V" } : Jvm.MethodName) prog_11_method_1_code (1 : Nat) (Option.none : Option Jvm.ClassFile.FieldType)) ∈ lw_all := lw_g (lw_at lw_m1 89 rfl) rfl
theorem q289 : (Jvm.Cond.methodLink "ClassHouse$Thrown" (1 : Nat) ({ cls := "java/lang/RuntimeException", name := "<init>", desc := "()V" } : Jvm.MethodName)) ∈ lw_all := lw_g (lw_at lw_m1 90 rfl) rfl
theorem q296 : (Jvm.Cond.fieldLink "ClassHouse$Thrown" (7 : Nat) "ClassHouse$Thrown" "word" "J") ∈ lw_all := lw_g (lw_at lw_m1 97 rfl) rfl
theorem q302 : (Jvm.Cond.lays "ClassHouse$Thrown" "ClassHouse$Thrown" "word" "J") ∈ lw_all := lw_g (lw_at lw_m1 103 rfl) rfl
theorem q303 : (Jvm.Cond.soleField "ClassHouse$Thrown" "word") ∈ lw_all := lw_g (lw_at lw_m1 104 rfl) rfl
theorem q308 : (Jvm.Cond.lays "ClassHouse$Thrown" "java/lang/Throwable" "depth" "I") ∈ lw_all := lw_g (lw_at lw_m1 109 rfl) rfl
theorem q311 : (Jvm.Cond.superclass "ClassHouse$Thrown" "java/lang/RuntimeException") ∈ lw_all := lw_g (lw_at lw_m1 112 rfl) rfl
theorem q672 : (Jvm.Cond.selects "ClassHouse$Thrown" ({ cls := "java/lang/Object", name := "getClass", desc := "()Ljava/lang/Class;" } : Jvm.MethodName) ({ cls := "java/lang/Object", name := "getClass", desc := "()Ljava/lang/Class;" } : Jvm.MethodName)) ∈ lw_all := lw_g (lw_at lw_m2 233 rfl) rfl
theorem q1438 : (Jvm.Cond.privateMethod ({ cls := "ClassHouse$Thrown", name := "of", desc := "(J)LClassHouse$Thrown;" } : Jvm.MethodName)) ∈ lw_tbl := lw_at lw_m6 39 rfl
theorem q1439 : (Jvm.Cond.instanceMethod ({ cls := "ClassHouse$Thrown", name := "of", desc := "(J)LClassHouse$Thrown;" } : Jvm.MethodName)) ∈ lw_all := lw_g (lw_at lw_m6 40 rfl) rfl
theorem q1440 : (Jvm.Cond.code ({ cls := "ClassHouse$Thrown", name := "of", desc := "(J)LClassHouse$Thrown;" } : Jvm.MethodName) prog_11_method_2_code (3 : Nat) (Option.some (Jvm.ClassFile.FieldType.object "ClassHouse$Thrown"))) ∈ lw_all := lw_g (lw_at lw_m6 41 rfl) rfl
theorem q2336 : (Jvm.Cond.castable "ClassHouse$Thrown" "java/lang/Object") ∈ lw_tbl := lw_at lw_m9 217 rfl
theorem in_X2 : ∀ w ∈ wsX20, w ∈ lw_all := lw_in wsX20 [256, 258, 260, 262, 264, 308, 302] (by decide +kernel) (by decide +kernel)

def RX3 : String := "ClassHouseModel"
def TX3 : u_T := fun k => match k with
  | 0 => ("ClassHouseModel", "tape", "[I", true)
  | 1 => ("ClassHouseModel", "taped", "I", false)
  | 2 => ("ClassHouseModel", "source", "[I", true)
  | 3 => ("ClassHouseModel", "length", "I", false)
  | 4 => ("ClassHouseModel", "at", "I", false)
  | 5 => ("ClassHouseModel", "word", "I", false)
  | 6 => ("ClassHouseModel", "wordFrom", "I", false)
  | 7 => ("ClassHouseModel", "wordLong", "I", false)
  | 8 => ("ClassHouseModel", "wordValue", "I", false)
  | 9 => ("ClassHouseModel", "wrong", "I", false)
  | 10 => ("ClassHouseModel", "deep", "I", false)
  | 11 => ("ClassHouseModel", "names", "I", false)
  | 12 => ("ClassHouseModel", "nameFrom", "[I", true)
  | 13 => ("ClassHouseModel", "nameLong", "[I", true)
  | 14 => ("ClassHouseModel", "known", "[I", true)
  | 15 => ("ClassHouseModel", "nodes", "I", false)
  | 16 => ("ClassHouseModel", "is", "[I", true)
  | 17 => ("ClassHouseModel", "one", "[I", true)
  | 18 => ("ClassHouseModel", "two", "[I", true)
  | 19 => ("ClassHouseModel", "of", "[I", true)
  | 20 => ("ClassHouseModel", "typeOf", "[I", true)
  | 21 => ("ClassHouseModel", "listed", "I", false)
  | 22 => ("ClassHouseModel", "list", "[I", true)
  | 23 => ("ClassHouseModel", "held", "I", false)
  | 24 => ("ClassHouseModel", "hold", "[I", true)
  | 25 => ("ClassHouseModel", "statements", "I", false)
  | 26 => ("ClassHouseModel", "statementIs", "[I", true)
  | 27 => ("ClassHouseModel", "place", "[I", true)
  | 28 => ("ClassHouseModel", "nodesFrom", "[I", true)
  | 29 => ("ClassHouseModel", "value", "[I", true)
  | 30 => ("ClassHouseModel", "target", "[I", true)
  | 31 => ("ClassHouseModel", "toldType", "[I", true)
  | 32 => ("ClassHouseModel", "toldName", "[I", true)
  | 33 => ("ClassHouseModel", "variable", "[I", true)
  | 34 => ("ClassHouseModel", "inner", "[I", true)
  | 35 => ("ClassHouseModel", "other", "[I", true)
  | 36 => ("ClassHouseModel", "nextOf", "[I", true)
  | 37 => ("ClassHouseModel", "classes", "I", false)
  | 38 => ("ClassHouseModel", "classId", "[I", true)
  | 39 => ("ClassHouseModel", "classAt", "[I", true)
  | 40 => ("ClassHouseModel", "parentId", "[I", true)
  | 41 => ("ClassHouseModel", "parent", "[I", true)
  | 42 => ("ClassHouseModel", "fieldMany", "[I", true)
  | 43 => ("ClassHouseModel", "memberFrom", "[I", true)
  | 44 => ("ClassHouseModel", "members", "I", false)
  | 45 => ("ClassHouseModel", "memberId", "[I", true)
  | 46 => ("ClassHouseModel", "memberAt", "[I", true)
  | 47 => ("ClassHouseModel", "memberType", "[I", true)
  | 48 => ("ClassHouseModel", "isMethod", "[Z", true)
  | 49 => ("ClassHouseModel", "parameterFrom", "[I", true)
  | 50 => ("ClassHouseModel", "body", "[I", true)
  | 51 => ("ClassHouseModel", "closeAt", "[I", true)
  | 52 => ("ClassHouseModel", "slot", "[I", true)
  | 53 => ("ClassHouseModel", "parameters", "I", false)
  | 54 => ("ClassHouseModel", "parameterType", "[I", true)
  | 55 => ("ClassHouseModel", "parameterId", "[I", true)
  | 56 => ("ClassHouseModel", "hasProgram", "Z", false)
  | 57 => ("ClassHouseModel", "blockEnd", "I", false)
  | 58 => ("ClassHouseModel", "bad", "I", false)
  | 59 => ("ClassHouseModel", "mainClass", "I", false)
  | 60 => ("ClassHouseModel", "here", "I", false)
  | 61 => ("ClassHouseModel", "method", "I", false)
  | 62 => ("ClassHouseModel", "variables", "I", false)
  | 63 => ("ClassHouseModel", "variableId", "[I", true)
  | 64 => ("ClassHouseModel", "variableType", "[I", true)
  | 65 => ("ClassHouseModel", "isSet", "[Z", true)
  | 66 => ("ClassHouseModel", "dead", "Z", false)
  | 67 => ("ClassHouseModel", "sets", "[Z", true)
  | 68 => ("ClassHouseModel", "manyOf", "[I", true)
  | 69 => ("ClassHouseModel", "hasRun", "Z", false)
  | 70 => ("ClassHouseModel", "over", "I", false)
  | 71 => ("ClassHouseModel", "heapNext", "I", false)
  | 72 => ("ClassHouseModel", "heap", "I", false)
  | 73 => ("ClassHouseModel", "bound", "I", false)
  | 74 => ("ClassHouseModel", "made", "I", false)
  | 75 => ("ClassHouseModel", "steps", "I", false)
  | 76 => ("ClassHouseModel", "thrown", "I", false)
  | 77 => ("ClassHouseModel", "ended", "I", false)
  | 78 => ("ClassHouseModel", "printed", "I", false)
  | 79 => ("ClassHouseModel", "output", "[I", true)
  | 80 => ("ClassHouseModel", "inputs", "I", false)
  | 81 => ("ClassHouseModel", "input", "[I", true)
  | 82 => ("ClassHouseModel", "objects", "I", false)
  | 83 => ("ClassHouseModel", "classOfObject", "[I", true)
  | 84 => ("ClassHouseModel", "wordsFrom", "[I", true)
  | 85 => ("ClassHouseModel", "wordsMany", "[I", true)
  | 86 => ("ClassHouseModel", "isReached", "[Z", true)
  | 87 => ("ClassHouseModel", "newPlace", "[I", true)
  | 88 => ("ClassHouseModel", "waits", "[I", true)
  | 89 => ("ClassHouseModel", "waiting", "I", false)
  | 90 => ("ClassHouseModel", "worded", "I", false)
  | 91 => ("ClassHouseModel", "words", "[I", true)
  | 92 => ("ClassHouseModel", "isObject", "[Z", true)
  | 93 => ("ClassHouseModel", "open", "I", false)
  | 94 => ("ClassHouseModel", "openThis", "[I", true)
  | 95 => ("ClassHouseModel", "openFrom", "[I", true)
  | 96 => ("ClassHouseModel", "openMany", "[I", true)
  | 97 => ("ClassHouseModel", "openPile", "[I", true)
  | 98 => ("ClassHouseModel", "local", "[I", true)
  | 99 => ("ClassHouseModel", "isLocalObject", "[Z", true)
  | 100 => ("ClassHouseModel", "piled", "I", false)
  | 101 => ("ClassHouseModel", "pile", "[I", true)
  | 102 => ("ClassHouseModel", "isPileObject", "[Z", true)
  | 103 => ("ClassHouseModel", "todo", "I", false)
  | 104 => ("ClassHouseModel", "todoIs", "[I", true)
  | 105 => ("ClassHouseModel", "todoOf", "[I", true)
  | 106 => ("ClassHouseModel", "tries", "I", false)
  | 107 => ("ClassHouseModel", "tryPile", "[I", true)
  | _ => ("ClassHouseModel", "tryMany", "[I", true)
def tyX3 : Nat → FieldType := fun k => match k with
  | 0 => .array .int
  | 1 => .int
  | 2 => .array .int
  | 3 => .int
  | 4 => .int
  | 5 => .int
  | 6 => .int
  | 7 => .int
  | 8 => .int
  | 9 => .int
  | 10 => .int
  | 11 => .int
  | 12 => .array .int
  | 13 => .array .int
  | 14 => .array .int
  | 15 => .int
  | 16 => .array .int
  | 17 => .array .int
  | 18 => .array .int
  | 19 => .array .int
  | 20 => .array .int
  | 21 => .int
  | 22 => .array .int
  | 23 => .int
  | 24 => .array .int
  | 25 => .int
  | 26 => .array .int
  | 27 => .array .int
  | 28 => .array .int
  | 29 => .array .int
  | 30 => .array .int
  | 31 => .array .int
  | 32 => .array .int
  | 33 => .array .int
  | 34 => .array .int
  | 35 => .array .int
  | 36 => .array .int
  | 37 => .int
  | 38 => .array .int
  | 39 => .array .int
  | 40 => .array .int
  | 41 => .array .int
  | 42 => .array .int
  | 43 => .array .int
  | 44 => .int
  | 45 => .array .int
  | 46 => .array .int
  | 47 => .array .int
  | 48 => .array .boolean
  | 49 => .array .int
  | 50 => .array .int
  | 51 => .array .int
  | 52 => .array .int
  | 53 => .int
  | 54 => .array .int
  | 55 => .array .int
  | 56 => .boolean
  | 57 => .int
  | 58 => .int
  | 59 => .int
  | 60 => .int
  | 61 => .int
  | 62 => .int
  | 63 => .array .int
  | 64 => .array .int
  | 65 => .array .boolean
  | 66 => .boolean
  | 67 => .array .boolean
  | 68 => .array .int
  | 69 => .boolean
  | 70 => .int
  | 71 => .int
  | 72 => .int
  | 73 => .int
  | 74 => .int
  | 75 => .int
  | 76 => .int
  | 77 => .int
  | 78 => .int
  | 79 => .array .int
  | 80 => .int
  | 81 => .array .int
  | 82 => .int
  | 83 => .array .int
  | 84 => .array .int
  | 85 => .array .int
  | 86 => .array .boolean
  | 87 => .array .int
  | 88 => .array .int
  | 89 => .int
  | 90 => .int
  | 91 => .array .int
  | 92 => .array .boolean
  | 93 => .int
  | 94 => .array .int
  | 95 => .array .int
  | 96 => .array .int
  | 97 => .array .int
  | 98 => .array .int
  | 99 => .array .boolean
  | 100 => .int
  | 101 => .array .int
  | 102 => .array .boolean
  | 103 => .int
  | 104 => .array .int
  | 105 => .array .int
  | 106 => .int
  | 107 => .array .int
  | _ => .array .int
abbrev wsX30 : List Cond := u_ws RX3 TX3 109
theorem nmX3 : ∀ a, a < 109 → ∀ b, b < 109 → a ≠ b → (TX3 a).2.1 ≠ (TX3 b).2.1 := by decide +kernel
theorem tyX3_ok : ∀ k, k < 109 → parseFieldDescriptor (TX3 k).2.2.1 = some (tyX3 k) := by decide +kernel
theorem q206 : (Jvm.Cond.initialized "ClassHouseModel") ∈ lw_all := lw_g (lw_at lw_m1 7 rfl) rfl
theorem q674 : (Jvm.Cond.selects "ClassHouseModel" ({ cls := "java/lang/Object", name := "getClass", desc := "()Ljava/lang/Class;" } : Jvm.MethodName) ({ cls := "java/lang/Object", name := "getClass", desc := "()Ljava/lang/Class;" } : Jvm.MethodName)) ∈ lw_all := lw_g (lw_at lw_m2 235 rfl) rfl
theorem q1535 : (Jvm.Cond.instantiable "ClassHouseModel" (109 : Nat)) ∈ lw_all := lw_g (lw_at lw_m6 136 rfl) rfl
theorem q1537 : (Jvm.Cond.instanceMethod ({ cls := "ClassHouseModel", name := "<init>", desc := "()V" } : Jvm.MethodName)) ∈ lw_all := lw_g (lw_at lw_m6 138 rfl) rfl
theorem q1538 : (Jvm.Cond.code ({ cls := "ClassHouseModel", name := "<init>", desc := "()V" } : Jvm.MethodName) prog_14_method_1_code (1 : Nat) (Option.none : Option Jvm.ClassFile.FieldType)) ∈ lw_all := lw_g (lw_at lw_m6 139 rfl) rfl
theorem q1539 : (Jvm.Cond.methodLink "ClassHouseModel" (1 : Nat) ({ cls := "java/lang/Object", name := "<init>", desc := "()V" } : Jvm.MethodName)) ∈ lw_all := lw_g (lw_at lw_m6 140 rfl) rfl
theorem q1540 : (Jvm.Cond.constant "ClassHouseModel" (137 : Nat) (100000 : Int32)) ∈ lw_all := lw_g (lw_at lw_m6 141 rfl) rfl
theorem q1541 : (Jvm.Cond.constant "ClassHouseModel" (190 : Nat) (90000 : Int32)) ∈ lw_all := lw_g (lw_at lw_m6 142 rfl) rfl
theorem q1542 : (Jvm.Cond.constant "ClassHouseModel" (197 : Nat) (200000 : Int32)) ∈ lw_all := lw_g (lw_at lw_m6 143 rfl) rfl
theorem q1543 : (Jvm.Cond.constant "ClassHouseModel" (204 : Nat) (400000 : Int32)) ∈ lw_all := lw_g (lw_at lw_m6 144 rfl) rfl
theorem q1544 : (Jvm.Cond.methodLink "ClassHouseModel" (217 : Nat) ({ cls := "ClassHouseModel", name := "text", desc := "(IIIIIII)V" } : Jvm.MethodName)) ∈ lw_all := lw_g (lw_at lw_m6 145 rfl) rfl
theorem q1545 : (Jvm.Cond.privateMethod ({ cls := "ClassHouseModel", name := "text", desc := "(IIIIIII)V" } : Jvm.MethodName)) ∈ lw_tbl := lw_at lw_m6 146 rfl
theorem q1546 : (Jvm.Cond.instanceMethod ({ cls := "ClassHouseModel", name := "text", desc := "(IIIIIII)V" } : Jvm.MethodName)) ∈ lw_all := lw_g (lw_at lw_m6 147 rfl) rfl
theorem q1547 : (Jvm.Cond.code ({ cls := "ClassHouseModel", name := "text", desc := "(IIIIIII)V" } : Jvm.MethodName) prog_14_method_2_code (8 : Nat) (Option.none : Option Jvm.ClassFile.FieldType)) ∈ lw_all := lw_g (lw_at lw_m6 148 rfl) rfl
theorem q1548 : (Jvm.Cond.fieldLink "ClassHouseModel" (7 : Nat) "ClassHouseModel" "tape" "[I") ∈ lw_all := lw_g (lw_at lw_m6 149 rfl) rfl
theorem q1549 : (Jvm.Cond.fieldLink "ClassHouseModel" (435 : Nat) "ClassHouseModel" "taped" "I") ∈ lw_all := lw_g (lw_at lw_m6 150 rfl) rfl
theorem q1550 : (Jvm.Cond.fieldLink "ClassHouseModel" (13 : Nat) "ClassHouseModel" "source" "[I") ∈ lw_all := lw_g (lw_at lw_m6 151 rfl) rfl
theorem q1551 : (Jvm.Cond.fieldLink "ClassHouseModel" (240 : Nat) "ClassHouseModel" "length" "I") ∈ lw_all := lw_g (lw_at lw_m6 152 rfl) rfl
theorem q1552 : (Jvm.Cond.fieldLink "ClassHouseModel" (253 : Nat) "ClassHouseModel" "at" "I") ∈ lw_all := lw_g (lw_at lw_m6 153 rfl) rfl
theorem q1553 : (Jvm.Cond.fieldLink "ClassHouseModel" (263 : Nat) "ClassHouseModel" "word" "I") ∈ lw_all := lw_g (lw_at lw_m6 154 rfl) rfl
theorem q1554 : (Jvm.Cond.fieldLink "ClassHouseModel" (246 : Nat) "ClassHouseModel" "wordFrom" "I") ∈ lw_all := lw_g (lw_at lw_m6 155 rfl) rfl
theorem q1555 : (Jvm.Cond.fieldLink "ClassHouseModel" (243 : Nat) "ClassHouseModel" "wordLong" "I") ∈ lw_all := lw_g (lw_at lw_m6 156 rfl) rfl
theorem q1556 : (Jvm.Cond.fieldLink "ClassHouseModel" (256 : Nat) "ClassHouseModel" "wordValue" "I") ∈ lw_all := lw_g (lw_at lw_m6 157 rfl) rfl
theorem q1557 : (Jvm.Cond.fieldLink "ClassHouseModel" (283 : Nat) "ClassHouseModel" "wrong" "I") ∈ lw_all := lw_g (lw_at lw_m6 158 rfl) rfl
theorem q1558 : (Jvm.Cond.fieldLink "ClassHouseModel" (292 : Nat) "ClassHouseModel" "deep" "I") ∈ lw_all := lw_g (lw_at lw_m6 159 rfl) rfl
theorem q1559 : (Jvm.Cond.fieldLink "ClassHouseModel" (221 : Nat) "ClassHouseModel" "names" "I") ∈ lw_all := lw_g (lw_at lw_m6 160 rfl) rfl
theorem q1560 : (Jvm.Cond.fieldLink "ClassHouseModel" (16 : Nat) "ClassHouseModel" "nameFrom" "[I") ∈ lw_all := lw_g (lw_at lw_m6 161 rfl) rfl
theorem q1561 : (Jvm.Cond.fieldLink "ClassHouseModel" (19 : Nat) "ClassHouseModel" "nameLong" "[I") ∈ lw_all := lw_g (lw_at lw_m6 162 rfl) rfl
theorem q1562 : (Jvm.Cond.fieldLink "ClassHouseModel" (22 : Nat) "ClassHouseModel" "known" "[I") ∈ lw_all := lw_g (lw_at lw_m6 163 rfl) rfl
theorem q1563 : (Jvm.Cond.fieldLink "ClassHouseModel" (302 : Nat) "ClassHouseModel" "nodes" "I") ∈ lw_all := lw_g (lw_at lw_m6 164 rfl) rfl
theorem q1564 : (Jvm.Cond.fieldLink "ClassHouseModel" (25 : Nat) "ClassHouseModel" "is" "[I") ∈ lw_all := lw_g (lw_at lw_m6 165 rfl) rfl
theorem q1565 : (Jvm.Cond.fieldLink "ClassHouseModel" (28 : Nat) "ClassHouseModel" "one" "[I") ∈ lw_all := lw_g (lw_at lw_m6 166 rfl) rfl
theorem q1566 : (Jvm.Cond.fieldLink "ClassHouseModel" (31 : Nat) "ClassHouseModel" "two" "[I") ∈ lw_all := lw_g (lw_at lw_m6 167 rfl) rfl
theorem q1567 : (Jvm.Cond.fieldLink "ClassHouseModel" (34 : Nat) "ClassHouseModel" "of" "[I") ∈ lw_all := lw_g (lw_at lw_m6 168 rfl) rfl
theorem q1568 : (Jvm.Cond.fieldLink "ClassHouseModel" (37 : Nat) "ClassHouseModel" "typeOf" "[I") ∈ lw_all := lw_g (lw_at lw_m6 169 rfl) rfl
theorem q1569 : (Jvm.Cond.fieldLink "ClassHouseModel" (359 : Nat) "ClassHouseModel" "listed" "I") ∈ lw_all := lw_g (lw_at lw_m6 170 rfl) rfl
theorem q1570 : (Jvm.Cond.fieldLink "ClassHouseModel" (40 : Nat) "ClassHouseModel" "list" "[I") ∈ lw_all := lw_g (lw_at lw_m6 171 rfl) rfl
theorem q1571 : (Jvm.Cond.fieldLink "ClassHouseModel" (356 : Nat) "ClassHouseModel" "held" "I") ∈ lw_all := lw_g (lw_at lw_m6 172 rfl) rfl
theorem q1572 : (Jvm.Cond.fieldLink "ClassHouseModel" (43 : Nat) "ClassHouseModel" "hold" "[I") ∈ lw_all := lw_g (lw_at lw_m6 173 rfl) rfl
theorem q1573 : (Jvm.Cond.fieldLink "ClassHouseModel" (366 : Nat) "ClassHouseModel" "statements" "I") ∈ lw_all := lw_g (lw_at lw_m6 174 rfl) rfl
theorem q1574 : (Jvm.Cond.fieldLink "ClassHouseModel" (46 : Nat) "ClassHouseModel" "statementIs" "[I") ∈ lw_all := lw_g (lw_at lw_m6 175 rfl) rfl
theorem q1575 : (Jvm.Cond.fieldLink "ClassHouseModel" (49 : Nat) "ClassHouseModel" "place" "[I") ∈ lw_all := lw_g (lw_at lw_m6 176 rfl) rfl
theorem q1576 : (Jvm.Cond.fieldLink "ClassHouseModel" (52 : Nat) "ClassHouseModel" "nodesFrom" "[I") ∈ lw_all := lw_g (lw_at lw_m6 177 rfl) rfl
theorem q1577 : (Jvm.Cond.fieldLink "ClassHouseModel" (55 : Nat) "ClassHouseModel" "value" "[I") ∈ lw_all := lw_g (lw_at lw_m6 178 rfl) rfl
theorem q1578 : (Jvm.Cond.fieldLink "ClassHouseModel" (58 : Nat) "ClassHouseModel" "target" "[I") ∈ lw_all := lw_g (lw_at lw_m6 179 rfl) rfl
theorem q1579 : (Jvm.Cond.fieldLink "ClassHouseModel" (61 : Nat) "ClassHouseModel" "toldType" "[I") ∈ lw_all := lw_g (lw_at lw_m6 180 rfl) rfl
theorem q1580 : (Jvm.Cond.fieldLink "ClassHouseModel" (64 : Nat) "ClassHouseModel" "toldName" "[I") ∈ lw_all := lw_g (lw_at lw_m6 181 rfl) rfl
theorem q1581 : (Jvm.Cond.fieldLink "ClassHouseModel" (67 : Nat) "ClassHouseModel" "variable" "[I") ∈ lw_all := lw_g (lw_at lw_m6 182 rfl) rfl
theorem q1582 : (Jvm.Cond.fieldLink "ClassHouseModel" (70 : Nat) "ClassHouseModel" "inner" "[I") ∈ lw_all := lw_g (lw_at lw_m6 183 rfl) rfl
theorem q1583 : (Jvm.Cond.fieldLink "ClassHouseModel" (73 : Nat) "ClassHouseModel" "other" "[I") ∈ lw_all := lw_g (lw_at lw_m6 184 rfl) rfl
theorem q1584 : (Jvm.Cond.fieldLink "ClassHouseModel" (76 : Nat) "ClassHouseModel" "nextOf" "[I") ∈ lw_all := lw_g (lw_at lw_m6 185 rfl) rfl
theorem q1585 : (Jvm.Cond.fieldLink "ClassHouseModel" (397 : Nat) "ClassHouseModel" "classes" "I") ∈ lw_all := lw_g (lw_at lw_m6 186 rfl) rfl
theorem q1586 : (Jvm.Cond.fieldLink "ClassHouseModel" (79 : Nat) "ClassHouseModel" "classId" "[I") ∈ lw_all := lw_g (lw_at lw_m6 187 rfl) rfl
theorem q1587 : (Jvm.Cond.fieldLink "ClassHouseModel" (82 : Nat) "ClassHouseModel" "classAt" "[I") ∈ lw_all := lw_g (lw_at lw_m6 188 rfl) rfl
theorem q1588 : (Jvm.Cond.fieldLink "ClassHouseModel" (85 : Nat) "ClassHouseModel" "parentId" "[I") ∈ lw_all := lw_g (lw_at lw_m6 189 rfl) rfl
theorem q1589 : (Jvm.Cond.fieldLink "ClassHouseModel" (88 : Nat) "ClassHouseModel" "parent" "[I") ∈ lw_all := lw_g (lw_at lw_m6 190 rfl) rfl
theorem q1590 : (Jvm.Cond.fieldLink "ClassHouseModel" (91 : Nat) "ClassHouseModel" "fieldMany" "[I") ∈ lw_all := lw_g (lw_at lw_m6 191 rfl) rfl
theorem q1591 : (Jvm.Cond.fieldLink "ClassHouseModel" (94 : Nat) "ClassHouseModel" "memberFrom" "[I") ∈ lw_all := lw_g (lw_at lw_m6 192 rfl) rfl
theorem q1592 : (Jvm.Cond.fieldLink "ClassHouseModel" (403 : Nat) "ClassHouseModel" "members" "I") ∈ lw_all := lw_g (lw_at lw_m6 193 rfl) rfl
theorem q1593 : (Jvm.Cond.fieldLink "ClassHouseModel" (97 : Nat) "ClassHouseModel" "memberId" "[I") ∈ lw_all := lw_g (lw_at lw_m6 194 rfl) rfl
theorem q1594 : (Jvm.Cond.fieldLink "ClassHouseModel" (100 : Nat) "ClassHouseModel" "memberAt" "[I") ∈ lw_all := lw_g (lw_at lw_m6 195 rfl) rfl
theorem q1595 : (Jvm.Cond.fieldLink "ClassHouseModel" (103 : Nat) "ClassHouseModel" "memberType" "[I") ∈ lw_all := lw_g (lw_at lw_m6 196 rfl) rfl
theorem q1596 : (Jvm.Cond.fieldLink "ClassHouseModel" (106 : Nat) "ClassHouseModel" "isMethod" "[Z") ∈ lw_all := lw_g (lw_at lw_m6 197 rfl) rfl
theorem q1597 : (Jvm.Cond.fieldLink "ClassHouseModel" (110 : Nat) "ClassHouseModel" "parameterFrom" "[I") ∈ lw_all := lw_g (lw_at lw_m6 198 rfl) rfl
theorem q1598 : (Jvm.Cond.fieldLink "ClassHouseModel" (113 : Nat) "ClassHouseModel" "body" "[I") ∈ lw_all := lw_g (lw_at lw_m6 199 rfl) rfl
theorem q1599 : (Jvm.Cond.fieldLink "ClassHouseModel" (116 : Nat) "ClassHouseModel" "closeAt" "[I") ∈ lw_all := lw_g (lw_at lw_m6 200 rfl) rfl
theorem q1600 : (Jvm.Cond.fieldLink "ClassHouseModel" (119 : Nat) "ClassHouseModel" "slot" "[I") ∈ lw_all := lw_g (lw_at lw_m6 201 rfl) rfl
theorem q1601 : (Jvm.Cond.fieldLink "ClassHouseModel" (406 : Nat) "ClassHouseModel" "parameters" "I") ∈ lw_all := lw_g (lw_at lw_m6 202 rfl) rfl
theorem q1602 : (Jvm.Cond.fieldLink "ClassHouseModel" (122 : Nat) "ClassHouseModel" "parameterType" "[I") ∈ lw_all := lw_g (lw_at lw_m6 203 rfl) rfl
theorem q1603 : (Jvm.Cond.fieldLink "ClassHouseModel" (125 : Nat) "ClassHouseModel" "parameterId" "[I") ∈ lw_all := lw_g (lw_at lw_m6 204 rfl) rfl
theorem q1604 : (Jvm.Cond.fieldLink "ClassHouseModel" (438 : Nat) "ClassHouseModel" "hasProgram" "Z") ∈ lw_all := lw_g (lw_at lw_m6 205 rfl) rfl
theorem q1605 : (Jvm.Cond.fieldLink "ClassHouseModel" (372 : Nat) "ClassHouseModel" "blockEnd" "I") ∈ lw_all := lw_g (lw_at lw_m6 206 rfl) rfl
theorem q1606 : (Jvm.Cond.fieldLink "ClassHouseModel" (409 : Nat) "ClassHouseModel" "bad" "I") ∈ lw_all := lw_g (lw_at lw_m6 207 rfl) rfl
theorem q1607 : (Jvm.Cond.fieldLink "ClassHouseModel" (457 : Nat) "ClassHouseModel" "mainClass" "I") ∈ lw_all := lw_g (lw_at lw_m6 208 rfl) rfl
theorem q1608 : (Jvm.Cond.fieldLink "ClassHouseModel" (470 : Nat) "ClassHouseModel" "here" "I") ∈ lw_all := lw_g (lw_at lw_m6 209 rfl) rfl
theorem q1609 : (Jvm.Cond.fieldLink "ClassHouseModel" (473 : Nat) "ClassHouseModel" "method" "I") ∈ lw_all := lw_g (lw_at lw_m6 210 rfl) rfl
theorem q1610 : (Jvm.Cond.fieldLink "ClassHouseModel" (467 : Nat) "ClassHouseModel" "variables" "I") ∈ lw_all := lw_g (lw_at lw_m6 211 rfl) rfl
theorem q1611 : (Jvm.Cond.fieldLink "ClassHouseModel" (128 : Nat) "ClassHouseModel" "variableId" "[I") ∈ lw_all := lw_g (lw_at lw_m6 212 rfl) rfl
theorem q1612 : (Jvm.Cond.fieldLink "ClassHouseModel" (131 : Nat) "ClassHouseModel" "variableType" "[I") ∈ lw_all := lw_g (lw_at lw_m6 213 rfl) rfl
theorem q1613 : (Jvm.Cond.fieldLink "ClassHouseModel" (134 : Nat) "ClassHouseModel" "isSet" "[Z") ∈ lw_all := lw_g (lw_at lw_m6 214 rfl) rfl
theorem q1614 : (Jvm.Cond.fieldLink "ClassHouseModel" (476 : Nat) "ClassHouseModel" "dead" "Z") ∈ lw_all := lw_g (lw_at lw_m6 215 rfl) rfl
theorem q1615 : (Jvm.Cond.fieldLink "ClassHouseModel" (138 : Nat) "ClassHouseModel" "sets" "[Z") ∈ lw_all := lw_g (lw_at lw_m6 216 rfl) rfl
theorem q1616 : (Jvm.Cond.fieldLink "ClassHouseModel" (141 : Nat) "ClassHouseModel" "manyOf" "[I") ∈ lw_all := lw_g (lw_at lw_m6 217 rfl) rfl
theorem q1617 : (Jvm.Cond.fieldLink "ClassHouseModel" (442 : Nat) "ClassHouseModel" "hasRun" "Z") ∈ lw_all := lw_g (lw_at lw_m6 218 rfl) rfl
theorem q1618 : (Jvm.Cond.fieldLink "ClassHouseModel" (587 : Nat) "ClassHouseModel" "over" "I") ∈ lw_all := lw_g (lw_at lw_m6 219 rfl) rfl
theorem q1619 : (Jvm.Cond.fieldLink "ClassHouseModel" (144 : Nat) "ClassHouseModel" "heapNext" "I") ∈ lw_all := lw_g (lw_at lw_m6 220 rfl) rfl
theorem q1620 : (Jvm.Cond.fieldLink "ClassHouseModel" (569 : Nat) "ClassHouseModel" "heap" "I") ∈ lw_all := lw_g (lw_at lw_m6 221 rfl) rfl
theorem q1621 : (Jvm.Cond.fieldLink "ClassHouseModel" (572 : Nat) "ClassHouseModel" "bound" "I") ∈ lw_all := lw_g (lw_at lw_m6 222 rfl) rfl
theorem q1622 : (Jvm.Cond.fieldLink "ClassHouseModel" (581 : Nat) "ClassHouseModel" "made" "I") ∈ lw_all := lw_g (lw_at lw_m6 223 rfl) rfl
theorem q1623 : (Jvm.Cond.fieldLink "ClassHouseModel" (662 : Nat) "ClassHouseModel" "steps" "I") ∈ lw_all := lw_g (lw_at lw_m6 224 rfl) rfl
theorem q1624 : (Jvm.Cond.fieldLink "ClassHouseModel" (590 : Nat) "ClassHouseModel" "thrown" "I") ∈ lw_all := lw_g (lw_at lw_m6 225 rfl) rfl
theorem q1625 : (Jvm.Cond.fieldLink "ClassHouseModel" (602 : Nat) "ClassHouseModel" "ended" "I") ∈ lw_all := lw_g (lw_at lw_m6 226 rfl) rfl
theorem q1626 : (Jvm.Cond.fieldLink "ClassHouseModel" (657 : Nat) "ClassHouseModel" "printed" "I") ∈ lw_all := lw_g (lw_at lw_m6 227 rfl) rfl
theorem q1627 : (Jvm.Cond.fieldLink "ClassHouseModel" (148 : Nat) "ClassHouseModel" "output" "[I") ∈ lw_all := lw_g (lw_at lw_m6 228 rfl) rfl
theorem q1628 : (Jvm.Cond.fieldLink "ClassHouseModel" (635 : Nat) "ClassHouseModel" "inputs" "I") ∈ lw_all := lw_g (lw_at lw_m6 229 rfl) rfl
theorem q1629 : (Jvm.Cond.fieldLink "ClassHouseModel" (151 : Nat) "ClassHouseModel" "input" "[I") ∈ lw_all := lw_g (lw_at lw_m6 230 rfl) rfl
theorem q1630 : (Jvm.Cond.fieldLink "ClassHouseModel" (551 : Nat) "ClassHouseModel" "objects" "I") ∈ lw_all := lw_g (lw_at lw_m6 231 rfl) rfl
theorem q1631 : (Jvm.Cond.fieldLink "ClassHouseModel" (154 : Nat) "ClassHouseModel" "classOfObject" "[I") ∈ lw_all := lw_g (lw_at lw_m6 232 rfl) rfl
theorem q1632 : (Jvm.Cond.fieldLink "ClassHouseModel" (157 : Nat) "ClassHouseModel" "wordsFrom" "[I") ∈ lw_all := lw_g (lw_at lw_m6 233 rfl) rfl
theorem q1633 : (Jvm.Cond.fieldLink "ClassHouseModel" (160 : Nat) "ClassHouseModel" "wordsMany" "[I") ∈ lw_all := lw_g (lw_at lw_m6 234 rfl) rfl
theorem q1634 : (Jvm.Cond.fieldLink "ClassHouseModel" (163 : Nat) "ClassHouseModel" "isReached" "[Z") ∈ lw_all := lw_g (lw_at lw_m6 235 rfl) rfl
theorem q1635 : (Jvm.Cond.fieldLink "ClassHouseModel" (166 : Nat) "ClassHouseModel" "newPlace" "[I") ∈ lw_all := lw_g (lw_at lw_m6 236 rfl) rfl
theorem q1636 : (Jvm.Cond.fieldLink "ClassHouseModel" (169 : Nat) "ClassHouseModel" "waits" "[I") ∈ lw_all := lw_g (lw_at lw_m6 237 rfl) rfl
theorem q1637 : (Jvm.Cond.fieldLink "ClassHouseModel" (548 : Nat) "ClassHouseModel" "waiting" "I") ∈ lw_all := lw_g (lw_at lw_m6 238 rfl) rfl
theorem q1638 : (Jvm.Cond.fieldLink "ClassHouseModel" (566 : Nat) "ClassHouseModel" "worded" "I") ∈ lw_all := lw_g (lw_at lw_m6 239 rfl) rfl
theorem q1639 : (Jvm.Cond.fieldLink "ClassHouseModel" (172 : Nat) "ClassHouseModel" "words" "[I") ∈ lw_all := lw_g (lw_at lw_m7 0 rfl) rfl
theorem q1640 : (Jvm.Cond.fieldLink "ClassHouseModel" (175 : Nat) "ClassHouseModel" "isObject" "[Z") ∈ lw_all := lw_g (lw_at lw_m7 1 rfl) rfl
theorem q1641 : (Jvm.Cond.fieldLink "ClassHouseModel" (554 : Nat) "ClassHouseModel" "open" "I") ∈ lw_all := lw_g (lw_at lw_m7 2 rfl) rfl
theorem q1642 : (Jvm.Cond.fieldLink "ClassHouseModel" (178 : Nat) "ClassHouseModel" "openThis" "[I") ∈ lw_all := lw_g (lw_at lw_m7 3 rfl) rfl
theorem q1643 : (Jvm.Cond.fieldLink "ClassHouseModel" (181 : Nat) "ClassHouseModel" "openFrom" "[I") ∈ lw_all := lw_g (lw_at lw_m7 4 rfl) rfl
theorem q1644 : (Jvm.Cond.fieldLink "ClassHouseModel" (184 : Nat) "ClassHouseModel" "openMany" "[I") ∈ lw_all := lw_g (lw_at lw_m7 5 rfl) rfl
theorem q1645 : (Jvm.Cond.fieldLink "ClassHouseModel" (187 : Nat) "ClassHouseModel" "openPile" "[I") ∈ lw_all := lw_g (lw_at lw_m7 6 rfl) rfl
theorem q1646 : (Jvm.Cond.fieldLink "ClassHouseModel" (191 : Nat) "ClassHouseModel" "local" "[I") ∈ lw_all := lw_g (lw_at lw_m7 7 rfl) rfl
theorem q1647 : (Jvm.Cond.fieldLink "ClassHouseModel" (194 : Nat) "ClassHouseModel" "isLocalObject" "[Z") ∈ lw_all := lw_g (lw_at lw_m7 8 rfl) rfl
theorem q1648 : (Jvm.Cond.fieldLink "ClassHouseModel" (560 : Nat) "ClassHouseModel" "piled" "I") ∈ lw_all := lw_g (lw_at lw_m7 9 rfl) rfl
theorem q1649 : (Jvm.Cond.fieldLink "ClassHouseModel" (198 : Nat) "ClassHouseModel" "pile" "[I") ∈ lw_all := lw_g (lw_at lw_m7 10 rfl) rfl
theorem q1650 : (Jvm.Cond.fieldLink "ClassHouseModel" (201 : Nat) "ClassHouseModel" "isPileObject" "[Z") ∈ lw_all := lw_g (lw_at lw_m7 11 rfl) rfl
theorem q1651 : (Jvm.Cond.fieldLink "ClassHouseModel" (584 : Nat) "ClassHouseModel" "todo" "I") ∈ lw_all := lw_g (lw_at lw_m7 12 rfl) rfl
theorem q1652 : (Jvm.Cond.fieldLink "ClassHouseModel" (205 : Nat) "ClassHouseModel" "todoIs" "[I") ∈ lw_all := lw_g (lw_at lw_m7 13 rfl) rfl
theorem q1653 : (Jvm.Cond.fieldLink "ClassHouseModel" (208 : Nat) "ClassHouseModel" "todoOf" "[I") ∈ lw_all := lw_g (lw_at lw_m7 14 rfl) rfl
theorem q1654 : (Jvm.Cond.fieldLink "ClassHouseModel" (593 : Nat) "ClassHouseModel" "tries" "I") ∈ lw_all := lw_g (lw_at lw_m7 15 rfl) rfl
theorem q1655 : (Jvm.Cond.fieldLink "ClassHouseModel" (211 : Nat) "ClassHouseModel" "tryPile" "[I") ∈ lw_all := lw_g (lw_at lw_m7 16 rfl) rfl
theorem q1656 : (Jvm.Cond.fieldLink "ClassHouseModel" (214 : Nat) "ClassHouseModel" "tryMany" "[I") ∈ lw_all := lw_g (lw_at lw_m7 17 rfl) rfl
theorem q1657 : (Jvm.Cond.laysFinal "ClassHouseModel" "ClassHouseModel" "tape" "[I") ∈ lw_all := lw_g (lw_at lw_m7 18 rfl) rfl
theorem q1658 : (Jvm.Cond.soleField "ClassHouseModel" "tape") ∈ lw_all := lw_g (lw_at lw_m7 19 rfl) rfl
theorem q1659 : (Jvm.Cond.lays "ClassHouseModel" "ClassHouseModel" "taped" "I") ∈ lw_all := lw_g (lw_at lw_m7 20 rfl) rfl
theorem q1660 : (Jvm.Cond.soleField "ClassHouseModel" "taped") ∈ lw_all := lw_g (lw_at lw_m7 21 rfl) rfl
theorem q1661 : (Jvm.Cond.laysFinal "ClassHouseModel" "ClassHouseModel" "source" "[I") ∈ lw_all := lw_g (lw_at lw_m7 22 rfl) rfl
theorem q1662 : (Jvm.Cond.soleField "ClassHouseModel" "source") ∈ lw_all := lw_g (lw_at lw_m7 23 rfl) rfl
theorem q1663 : (Jvm.Cond.lays "ClassHouseModel" "ClassHouseModel" "length" "I") ∈ lw_all := lw_g (lw_at lw_m7 24 rfl) rfl
theorem q1664 : (Jvm.Cond.soleField "ClassHouseModel" "length") ∈ lw_all := lw_g (lw_at lw_m7 25 rfl) rfl
theorem q1665 : (Jvm.Cond.lays "ClassHouseModel" "ClassHouseModel" "at" "I") ∈ lw_all := lw_g (lw_at lw_m7 26 rfl) rfl
theorem q1666 : (Jvm.Cond.soleField "ClassHouseModel" "at") ∈ lw_all := lw_g (lw_at lw_m7 27 rfl) rfl
theorem q1667 : (Jvm.Cond.lays "ClassHouseModel" "ClassHouseModel" "word" "I") ∈ lw_all := lw_g (lw_at lw_m7 28 rfl) rfl
theorem q1668 : (Jvm.Cond.soleField "ClassHouseModel" "word") ∈ lw_all := lw_g (lw_at lw_m7 29 rfl) rfl
theorem q1669 : (Jvm.Cond.lays "ClassHouseModel" "ClassHouseModel" "wordFrom" "I") ∈ lw_all := lw_g (lw_at lw_m7 30 rfl) rfl
theorem q1670 : (Jvm.Cond.soleField "ClassHouseModel" "wordFrom") ∈ lw_all := lw_g (lw_at lw_m7 31 rfl) rfl
theorem q1671 : (Jvm.Cond.lays "ClassHouseModel" "ClassHouseModel" "wordLong" "I") ∈ lw_all := lw_g (lw_at lw_m7 32 rfl) rfl
theorem q1672 : (Jvm.Cond.soleField "ClassHouseModel" "wordLong") ∈ lw_all := lw_g (lw_at lw_m7 33 rfl) rfl
theorem q1673 : (Jvm.Cond.lays "ClassHouseModel" "ClassHouseModel" "wordValue" "I") ∈ lw_all := lw_g (lw_at lw_m7 34 rfl) rfl
theorem q1674 : (Jvm.Cond.soleField "ClassHouseModel" "wordValue") ∈ lw_all := lw_g (lw_at lw_m7 35 rfl) rfl
theorem q1675 : (Jvm.Cond.lays "ClassHouseModel" "ClassHouseModel" "wrong" "I") ∈ lw_all := lw_g (lw_at lw_m7 36 rfl) rfl
theorem q1676 : (Jvm.Cond.soleField "ClassHouseModel" "wrong") ∈ lw_all := lw_g (lw_at lw_m7 37 rfl) rfl
theorem q1677 : (Jvm.Cond.lays "ClassHouseModel" "ClassHouseModel" "deep" "I") ∈ lw_all := lw_g (lw_at lw_m7 38 rfl) rfl
theorem q1678 : (Jvm.Cond.soleField "ClassHouseModel" "deep") ∈ lw_all := lw_g (lw_at lw_m7 39 rfl) rfl
theorem q1679 : (Jvm.Cond.lays "ClassHouseModel" "ClassHouseModel" "names" "I") ∈ lw_all := lw_g (lw_at lw_m7 40 rfl) rfl
theorem q1680 : (Jvm.Cond.soleField "ClassHouseModel" "names") ∈ lw_all := lw_g (lw_at lw_m7 41 rfl) rfl
theorem q1681 : (Jvm.Cond.laysFinal "ClassHouseModel" "ClassHouseModel" "nameFrom" "[I") ∈ lw_all := lw_g (lw_at lw_m7 42 rfl) rfl
theorem q1682 : (Jvm.Cond.soleField "ClassHouseModel" "nameFrom") ∈ lw_all := lw_g (lw_at lw_m7 43 rfl) rfl
theorem q1683 : (Jvm.Cond.laysFinal "ClassHouseModel" "ClassHouseModel" "nameLong" "[I") ∈ lw_all := lw_g (lw_at lw_m7 44 rfl) rfl
theorem q1684 : (Jvm.Cond.soleField "ClassHouseModel" "nameLong") ∈ lw_all := lw_g (lw_at lw_m7 45 rfl) rfl
theorem q1685 : (Jvm.Cond.laysFinal "ClassHouseModel" "ClassHouseModel" "known" "[I") ∈ lw_all := lw_g (lw_at lw_m7 46 rfl) rfl
theorem q1686 : (Jvm.Cond.soleField "ClassHouseModel" "known") ∈ lw_all := lw_g (lw_at lw_m7 47 rfl) rfl
theorem q1687 : (Jvm.Cond.lays "ClassHouseModel" "ClassHouseModel" "nodes" "I") ∈ lw_all := lw_g (lw_at lw_m7 48 rfl) rfl
theorem q1688 : (Jvm.Cond.soleField "ClassHouseModel" "nodes") ∈ lw_all := lw_g (lw_at lw_m7 49 rfl) rfl
theorem q1689 : (Jvm.Cond.laysFinal "ClassHouseModel" "ClassHouseModel" "is" "[I") ∈ lw_all := lw_g (lw_at lw_m7 50 rfl) rfl
theorem q1690 : (Jvm.Cond.soleField "ClassHouseModel" "is") ∈ lw_all := lw_g (lw_at lw_m7 51 rfl) rfl
theorem q1691 : (Jvm.Cond.laysFinal "ClassHouseModel" "ClassHouseModel" "one" "[I") ∈ lw_all := lw_g (lw_at lw_m7 52 rfl) rfl
theorem q1692 : (Jvm.Cond.soleField "ClassHouseModel" "one") ∈ lw_all := lw_g (lw_at lw_m7 53 rfl) rfl
theorem q1693 : (Jvm.Cond.laysFinal "ClassHouseModel" "ClassHouseModel" "two" "[I") ∈ lw_all := lw_g (lw_at lw_m7 54 rfl) rfl
theorem q1694 : (Jvm.Cond.soleField "ClassHouseModel" "two") ∈ lw_all := lw_g (lw_at lw_m7 55 rfl) rfl
theorem q1695 : (Jvm.Cond.laysFinal "ClassHouseModel" "ClassHouseModel" "of" "[I") ∈ lw_all := lw_g (lw_at lw_m7 56 rfl) rfl
theorem q1696 : (Jvm.Cond.soleField "ClassHouseModel" "of") ∈ lw_all := lw_g (lw_at lw_m7 57 rfl) rfl
theorem q1697 : (Jvm.Cond.laysFinal "ClassHouseModel" "ClassHouseModel" "typeOf" "[I") ∈ lw_all := lw_g (lw_at lw_m7 58 rfl) rfl
theorem q1698 : (Jvm.Cond.soleField "ClassHouseModel" "typeOf") ∈ lw_all := lw_g (lw_at lw_m7 59 rfl) rfl
theorem q1699 : (Jvm.Cond.lays "ClassHouseModel" "ClassHouseModel" "listed" "I") ∈ lw_all := lw_g (lw_at lw_m7 60 rfl) rfl
theorem q1700 : (Jvm.Cond.soleField "ClassHouseModel" "listed") ∈ lw_all := lw_g (lw_at lw_m7 61 rfl) rfl
theorem q1701 : (Jvm.Cond.laysFinal "ClassHouseModel" "ClassHouseModel" "list" "[I") ∈ lw_all := lw_g (lw_at lw_m7 62 rfl) rfl
theorem q1702 : (Jvm.Cond.soleField "ClassHouseModel" "list") ∈ lw_all := lw_g (lw_at lw_m7 63 rfl) rfl
theorem q1703 : (Jvm.Cond.lays "ClassHouseModel" "ClassHouseModel" "held" "I") ∈ lw_all := lw_g (lw_at lw_m7 64 rfl) rfl
theorem q1704 : (Jvm.Cond.soleField "ClassHouseModel" "held") ∈ lw_all := lw_g (lw_at lw_m7 65 rfl) rfl
theorem q1705 : (Jvm.Cond.laysFinal "ClassHouseModel" "ClassHouseModel" "hold" "[I") ∈ lw_all := lw_g (lw_at lw_m7 66 rfl) rfl
theorem q1706 : (Jvm.Cond.soleField "ClassHouseModel" "hold") ∈ lw_all := lw_g (lw_at lw_m7 67 rfl) rfl
theorem q1707 : (Jvm.Cond.lays "ClassHouseModel" "ClassHouseModel" "statements" "I") ∈ lw_all := lw_g (lw_at lw_m7 68 rfl) rfl
theorem q1708 : (Jvm.Cond.soleField "ClassHouseModel" "statements") ∈ lw_all := lw_g (lw_at lw_m7 69 rfl) rfl
theorem q1709 : (Jvm.Cond.laysFinal "ClassHouseModel" "ClassHouseModel" "statementIs" "[I") ∈ lw_all := lw_g (lw_at lw_m7 70 rfl) rfl
theorem q1710 : (Jvm.Cond.soleField "ClassHouseModel" "statementIs") ∈ lw_all := lw_g (lw_at lw_m7 71 rfl) rfl
theorem q1711 : (Jvm.Cond.laysFinal "ClassHouseModel" "ClassHouseModel" "place" "[I") ∈ lw_all := lw_g (lw_at lw_m7 72 rfl) rfl
theorem q1712 : (Jvm.Cond.soleField "ClassHouseModel" "place") ∈ lw_all := lw_g (lw_at lw_m7 73 rfl) rfl
theorem q1713 : (Jvm.Cond.laysFinal "ClassHouseModel" "ClassHouseModel" "nodesFrom" "[I") ∈ lw_all := lw_g (lw_at lw_m7 74 rfl) rfl
theorem q1714 : (Jvm.Cond.soleField "ClassHouseModel" "nodesFrom") ∈ lw_all := lw_g (lw_at lw_m7 75 rfl) rfl
theorem q1715 : (Jvm.Cond.laysFinal "ClassHouseModel" "ClassHouseModel" "value" "[I") ∈ lw_all := lw_g (lw_at lw_m7 76 rfl) rfl
theorem q1716 : (Jvm.Cond.soleField "ClassHouseModel" "value") ∈ lw_all := lw_g (lw_at lw_m7 77 rfl) rfl
theorem q1717 : (Jvm.Cond.laysFinal "ClassHouseModel" "ClassHouseModel" "target" "[I") ∈ lw_all := lw_g (lw_at lw_m7 78 rfl) rfl
theorem q1718 : (Jvm.Cond.soleField "ClassHouseModel" "target") ∈ lw_all := lw_g (lw_at lw_m7 79 rfl) rfl
theorem q1719 : (Jvm.Cond.laysFinal "ClassHouseModel" "ClassHouseModel" "toldType" "[I") ∈ lw_all := lw_g (lw_at lw_m7 80 rfl) rfl
theorem q1720 : (Jvm.Cond.soleField "ClassHouseModel" "toldType") ∈ lw_all := lw_g (lw_at lw_m7 81 rfl) rfl
theorem q1721 : (Jvm.Cond.laysFinal "ClassHouseModel" "ClassHouseModel" "toldName" "[I") ∈ lw_all := lw_g (lw_at lw_m7 82 rfl) rfl
theorem q1722 : (Jvm.Cond.soleField "ClassHouseModel" "toldName") ∈ lw_all := lw_g (lw_at lw_m7 83 rfl) rfl
theorem q1723 : (Jvm.Cond.laysFinal "ClassHouseModel" "ClassHouseModel" "variable" "[I") ∈ lw_all := lw_g (lw_at lw_m7 84 rfl) rfl
theorem q1724 : (Jvm.Cond.soleField "ClassHouseModel" "variable") ∈ lw_all := lw_g (lw_at lw_m7 85 rfl) rfl
theorem q1725 : (Jvm.Cond.laysFinal "ClassHouseModel" "ClassHouseModel" "inner" "[I") ∈ lw_all := lw_g (lw_at lw_m7 86 rfl) rfl
theorem q1726 : (Jvm.Cond.soleField "ClassHouseModel" "inner") ∈ lw_all := lw_g (lw_at lw_m7 87 rfl) rfl
theorem q1727 : (Jvm.Cond.laysFinal "ClassHouseModel" "ClassHouseModel" "other" "[I") ∈ lw_all := lw_g (lw_at lw_m7 88 rfl) rfl
theorem q1728 : (Jvm.Cond.soleField "ClassHouseModel" "other") ∈ lw_all := lw_g (lw_at lw_m7 89 rfl) rfl
theorem q1729 : (Jvm.Cond.laysFinal "ClassHouseModel" "ClassHouseModel" "nextOf" "[I") ∈ lw_all := lw_g (lw_at lw_m7 90 rfl) rfl
theorem q1730 : (Jvm.Cond.soleField "ClassHouseModel" "nextOf") ∈ lw_all := lw_g (lw_at lw_m7 91 rfl) rfl
theorem q1731 : (Jvm.Cond.lays "ClassHouseModel" "ClassHouseModel" "classes" "I") ∈ lw_all := lw_g (lw_at lw_m7 92 rfl) rfl
theorem q1732 : (Jvm.Cond.soleField "ClassHouseModel" "classes") ∈ lw_all := lw_g (lw_at lw_m7 93 rfl) rfl
theorem q1733 : (Jvm.Cond.laysFinal "ClassHouseModel" "ClassHouseModel" "classId" "[I") ∈ lw_all := lw_g (lw_at lw_m7 94 rfl) rfl
theorem q1734 : (Jvm.Cond.soleField "ClassHouseModel" "classId") ∈ lw_all := lw_g (lw_at lw_m7 95 rfl) rfl
theorem q1735 : (Jvm.Cond.laysFinal "ClassHouseModel" "ClassHouseModel" "classAt" "[I") ∈ lw_all := lw_g (lw_at lw_m7 96 rfl) rfl
theorem q1736 : (Jvm.Cond.soleField "ClassHouseModel" "classAt") ∈ lw_all := lw_g (lw_at lw_m7 97 rfl) rfl
theorem q1737 : (Jvm.Cond.laysFinal "ClassHouseModel" "ClassHouseModel" "parentId" "[I") ∈ lw_all := lw_g (lw_at lw_m7 98 rfl) rfl
theorem q1738 : (Jvm.Cond.soleField "ClassHouseModel" "parentId") ∈ lw_all := lw_g (lw_at lw_m7 99 rfl) rfl
theorem q1739 : (Jvm.Cond.laysFinal "ClassHouseModel" "ClassHouseModel" "parent" "[I") ∈ lw_all := lw_g (lw_at lw_m7 100 rfl) rfl
theorem q1740 : (Jvm.Cond.soleField "ClassHouseModel" "parent") ∈ lw_all := lw_g (lw_at lw_m7 101 rfl) rfl
theorem q1741 : (Jvm.Cond.laysFinal "ClassHouseModel" "ClassHouseModel" "fieldMany" "[I") ∈ lw_all := lw_g (lw_at lw_m7 102 rfl) rfl
theorem q1742 : (Jvm.Cond.soleField "ClassHouseModel" "fieldMany") ∈ lw_all := lw_g (lw_at lw_m7 103 rfl) rfl
theorem q1743 : (Jvm.Cond.laysFinal "ClassHouseModel" "ClassHouseModel" "memberFrom" "[I") ∈ lw_all := lw_g (lw_at lw_m7 104 rfl) rfl
theorem q1744 : (Jvm.Cond.soleField "ClassHouseModel" "memberFrom") ∈ lw_all := lw_g (lw_at lw_m7 105 rfl) rfl
theorem q1745 : (Jvm.Cond.lays "ClassHouseModel" "ClassHouseModel" "members" "I") ∈ lw_all := lw_g (lw_at lw_m7 106 rfl) rfl
theorem q1746 : (Jvm.Cond.soleField "ClassHouseModel" "members") ∈ lw_all := lw_g (lw_at lw_m7 107 rfl) rfl
theorem q1747 : (Jvm.Cond.laysFinal "ClassHouseModel" "ClassHouseModel" "memberId" "[I") ∈ lw_all := lw_g (lw_at lw_m7 108 rfl) rfl
theorem q1748 : (Jvm.Cond.soleField "ClassHouseModel" "memberId") ∈ lw_all := lw_g (lw_at lw_m7 109 rfl) rfl
theorem q1749 : (Jvm.Cond.laysFinal "ClassHouseModel" "ClassHouseModel" "memberAt" "[I") ∈ lw_all := lw_g (lw_at lw_m7 110 rfl) rfl
theorem q1750 : (Jvm.Cond.soleField "ClassHouseModel" "memberAt") ∈ lw_all := lw_g (lw_at lw_m7 111 rfl) rfl
theorem q1751 : (Jvm.Cond.laysFinal "ClassHouseModel" "ClassHouseModel" "memberType" "[I") ∈ lw_all := lw_g (lw_at lw_m7 112 rfl) rfl
theorem q1752 : (Jvm.Cond.soleField "ClassHouseModel" "memberType") ∈ lw_all := lw_g (lw_at lw_m7 113 rfl) rfl
theorem q1753 : (Jvm.Cond.laysFinal "ClassHouseModel" "ClassHouseModel" "isMethod" "[Z") ∈ lw_all := lw_g (lw_at lw_m7 114 rfl) rfl
theorem q1754 : (Jvm.Cond.soleField "ClassHouseModel" "isMethod") ∈ lw_all := lw_g (lw_at lw_m7 115 rfl) rfl
theorem q1755 : (Jvm.Cond.laysFinal "ClassHouseModel" "ClassHouseModel" "parameterFrom" "[I") ∈ lw_all := lw_g (lw_at lw_m7 116 rfl) rfl
theorem q1756 : (Jvm.Cond.soleField "ClassHouseModel" "parameterFrom") ∈ lw_all := lw_g (lw_at lw_m7 117 rfl) rfl
theorem q1757 : (Jvm.Cond.laysFinal "ClassHouseModel" "ClassHouseModel" "body" "[I") ∈ lw_all := lw_g (lw_at lw_m7 118 rfl) rfl
theorem q1758 : (Jvm.Cond.soleField "ClassHouseModel" "body") ∈ lw_all := lw_g (lw_at lw_m7 119 rfl) rfl
theorem q1759 : (Jvm.Cond.laysFinal "ClassHouseModel" "ClassHouseModel" "closeAt" "[I") ∈ lw_all := lw_g (lw_at lw_m7 120 rfl) rfl
theorem q1760 : (Jvm.Cond.soleField "ClassHouseModel" "closeAt") ∈ lw_all := lw_g (lw_at lw_m7 121 rfl) rfl
theorem q1761 : (Jvm.Cond.laysFinal "ClassHouseModel" "ClassHouseModel" "slot" "[I") ∈ lw_all := lw_g (lw_at lw_m7 122 rfl) rfl
theorem q1762 : (Jvm.Cond.soleField "ClassHouseModel" "slot") ∈ lw_all := lw_g (lw_at lw_m7 123 rfl) rfl
theorem q1763 : (Jvm.Cond.lays "ClassHouseModel" "ClassHouseModel" "parameters" "I") ∈ lw_all := lw_g (lw_at lw_m7 124 rfl) rfl
theorem q1764 : (Jvm.Cond.soleField "ClassHouseModel" "parameters") ∈ lw_all := lw_g (lw_at lw_m7 125 rfl) rfl
theorem q1765 : (Jvm.Cond.laysFinal "ClassHouseModel" "ClassHouseModel" "parameterType" "[I") ∈ lw_all := lw_g (lw_at lw_m7 126 rfl) rfl
theorem q1766 : (Jvm.Cond.soleField "ClassHouseModel" "parameterType") ∈ lw_all := lw_g (lw_at lw_m7 127 rfl) rfl
theorem q1767 : (Jvm.Cond.laysFinal "ClassHouseModel" "ClassHouseModel" "parameterId" "[I") ∈ lw_all := lw_g (lw_at lw_m7 128 rfl) rfl
theorem q1768 : (Jvm.Cond.soleField "ClassHouseModel" "parameterId") ∈ lw_all := lw_g (lw_at lw_m7 129 rfl) rfl
theorem q1769 : (Jvm.Cond.lays "ClassHouseModel" "ClassHouseModel" "hasProgram" "Z") ∈ lw_all := lw_g (lw_at lw_m7 130 rfl) rfl
theorem q1770 : (Jvm.Cond.soleField "ClassHouseModel" "hasProgram") ∈ lw_all := lw_g (lw_at lw_m7 131 rfl) rfl
theorem q1771 : (Jvm.Cond.lays "ClassHouseModel" "ClassHouseModel" "blockEnd" "I") ∈ lw_all := lw_g (lw_at lw_m7 132 rfl) rfl
theorem q1772 : (Jvm.Cond.soleField "ClassHouseModel" "blockEnd") ∈ lw_all := lw_g (lw_at lw_m7 133 rfl) rfl
theorem q1773 : (Jvm.Cond.lays "ClassHouseModel" "ClassHouseModel" "bad" "I") ∈ lw_all := lw_g (lw_at lw_m7 134 rfl) rfl
theorem q1774 : (Jvm.Cond.soleField "ClassHouseModel" "bad") ∈ lw_all := lw_g (lw_at lw_m7 135 rfl) rfl
theorem q1775 : (Jvm.Cond.lays "ClassHouseModel" "ClassHouseModel" "mainClass" "I") ∈ lw_all := lw_g (lw_at lw_m7 136 rfl) rfl
theorem q1776 : (Jvm.Cond.soleField "ClassHouseModel" "mainClass") ∈ lw_all := lw_g (lw_at lw_m7 137 rfl) rfl
theorem q1777 : (Jvm.Cond.lays "ClassHouseModel" "ClassHouseModel" "here" "I") ∈ lw_all := lw_g (lw_at lw_m7 138 rfl) rfl
theorem q1778 : (Jvm.Cond.soleField "ClassHouseModel" "here") ∈ lw_all := lw_g (lw_at lw_m7 139 rfl) rfl
theorem q1779 : (Jvm.Cond.lays "ClassHouseModel" "ClassHouseModel" "method" "I") ∈ lw_all := lw_g (lw_at lw_m7 140 rfl) rfl
theorem q1780 : (Jvm.Cond.soleField "ClassHouseModel" "method") ∈ lw_all := lw_g (lw_at lw_m7 141 rfl) rfl
theorem q1781 : (Jvm.Cond.lays "ClassHouseModel" "ClassHouseModel" "variables" "I") ∈ lw_all := lw_g (lw_at lw_m7 142 rfl) rfl
theorem q1782 : (Jvm.Cond.soleField "ClassHouseModel" "variables") ∈ lw_all := lw_g (lw_at lw_m7 143 rfl) rfl
theorem q1783 : (Jvm.Cond.laysFinal "ClassHouseModel" "ClassHouseModel" "variableId" "[I") ∈ lw_all := lw_g (lw_at lw_m7 144 rfl) rfl
theorem q1784 : (Jvm.Cond.soleField "ClassHouseModel" "variableId") ∈ lw_all := lw_g (lw_at lw_m7 145 rfl) rfl
theorem q1785 : (Jvm.Cond.laysFinal "ClassHouseModel" "ClassHouseModel" "variableType" "[I") ∈ lw_all := lw_g (lw_at lw_m7 146 rfl) rfl
theorem q1786 : (Jvm.Cond.soleField "ClassHouseModel" "variableType") ∈ lw_all := lw_g (lw_at lw_m7 147 rfl) rfl
theorem q1787 : (Jvm.Cond.laysFinal "ClassHouseModel" "ClassHouseModel" "isSet" "[Z") ∈ lw_all := lw_g (lw_at lw_m7 148 rfl) rfl
theorem q1788 : (Jvm.Cond.soleField "ClassHouseModel" "isSet") ∈ lw_all := lw_g (lw_at lw_m7 149 rfl) rfl
theorem q1789 : (Jvm.Cond.lays "ClassHouseModel" "ClassHouseModel" "dead" "Z") ∈ lw_all := lw_g (lw_at lw_m7 150 rfl) rfl
theorem q1790 : (Jvm.Cond.soleField "ClassHouseModel" "dead") ∈ lw_all := lw_g (lw_at lw_m7 151 rfl) rfl
theorem q1791 : (Jvm.Cond.laysFinal "ClassHouseModel" "ClassHouseModel" "sets" "[Z") ∈ lw_all := lw_g (lw_at lw_m7 152 rfl) rfl
theorem q1792 : (Jvm.Cond.soleField "ClassHouseModel" "sets") ∈ lw_all := lw_g (lw_at lw_m7 153 rfl) rfl
theorem q1793 : (Jvm.Cond.laysFinal "ClassHouseModel" "ClassHouseModel" "manyOf" "[I") ∈ lw_all := lw_g (lw_at lw_m7 154 rfl) rfl
theorem q1794 : (Jvm.Cond.soleField "ClassHouseModel" "manyOf") ∈ lw_all := lw_g (lw_at lw_m7 155 rfl) rfl
theorem q1795 : (Jvm.Cond.lays "ClassHouseModel" "ClassHouseModel" "hasRun" "Z") ∈ lw_all := lw_g (lw_at lw_m7 156 rfl) rfl
theorem q1796 : (Jvm.Cond.soleField "ClassHouseModel" "hasRun") ∈ lw_all := lw_g (lw_at lw_m7 157 rfl) rfl
theorem q1797 : (Jvm.Cond.lays "ClassHouseModel" "ClassHouseModel" "over" "I") ∈ lw_all := lw_g (lw_at lw_m7 158 rfl) rfl
theorem q1798 : (Jvm.Cond.soleField "ClassHouseModel" "over") ∈ lw_all := lw_g (lw_at lw_m7 159 rfl) rfl
theorem q1799 : (Jvm.Cond.lays "ClassHouseModel" "ClassHouseModel" "heapNext" "I") ∈ lw_all := lw_g (lw_at lw_m7 160 rfl) rfl
theorem q1800 : (Jvm.Cond.soleField "ClassHouseModel" "heapNext") ∈ lw_all := lw_g (lw_at lw_m7 161 rfl) rfl
theorem q1801 : (Jvm.Cond.lays "ClassHouseModel" "ClassHouseModel" "heap" "I") ∈ lw_all := lw_g (lw_at lw_m7 162 rfl) rfl
theorem q1802 : (Jvm.Cond.soleField "ClassHouseModel" "heap") ∈ lw_all := lw_g (lw_at lw_m7 163 rfl) rfl
theorem q1803 : (Jvm.Cond.lays "ClassHouseModel" "ClassHouseModel" "bound" "I") ∈ lw_all := lw_g (lw_at lw_m7 164 rfl) rfl
theorem q1804 : (Jvm.Cond.soleField "ClassHouseModel" "bound") ∈ lw_all := lw_g (lw_at lw_m7 165 rfl) rfl
theorem q1805 : (Jvm.Cond.lays "ClassHouseModel" "ClassHouseModel" "made" "I") ∈ lw_all := lw_g (lw_at lw_m7 166 rfl) rfl
theorem q1806 : (Jvm.Cond.soleField "ClassHouseModel" "made") ∈ lw_all := lw_g (lw_at lw_m7 167 rfl) rfl
theorem q1807 : (Jvm.Cond.lays "ClassHouseModel" "ClassHouseModel" "steps" "I") ∈ lw_all := lw_g (lw_at lw_m7 168 rfl) rfl
theorem q1808 : (Jvm.Cond.soleField "ClassHouseModel" "steps") ∈ lw_all := lw_g (lw_at lw_m7 169 rfl) rfl
theorem q1809 : (Jvm.Cond.lays "ClassHouseModel" "ClassHouseModel" "thrown" "I") ∈ lw_all := lw_g (lw_at lw_m7 170 rfl) rfl
theorem q1810 : (Jvm.Cond.soleField "ClassHouseModel" "thrown") ∈ lw_all := lw_g (lw_at lw_m7 171 rfl) rfl
theorem q1811 : (Jvm.Cond.lays "ClassHouseModel" "ClassHouseModel" "ended" "I") ∈ lw_all := lw_g (lw_at lw_m7 172 rfl) rfl
theorem q1812 : (Jvm.Cond.soleField "ClassHouseModel" "ended") ∈ lw_all := lw_g (lw_at lw_m7 173 rfl) rfl
theorem q1813 : (Jvm.Cond.lays "ClassHouseModel" "ClassHouseModel" "printed" "I") ∈ lw_all := lw_g (lw_at lw_m7 174 rfl) rfl
theorem q1814 : (Jvm.Cond.soleField "ClassHouseModel" "printed") ∈ lw_all := lw_g (lw_at lw_m7 175 rfl) rfl
theorem q1815 : (Jvm.Cond.laysFinal "ClassHouseModel" "ClassHouseModel" "output" "[I") ∈ lw_all := lw_g (lw_at lw_m7 176 rfl) rfl
theorem q1816 : (Jvm.Cond.soleField "ClassHouseModel" "output") ∈ lw_all := lw_g (lw_at lw_m7 177 rfl) rfl
theorem q1817 : (Jvm.Cond.lays "ClassHouseModel" "ClassHouseModel" "inputs" "I") ∈ lw_all := lw_g (lw_at lw_m7 178 rfl) rfl
theorem q1818 : (Jvm.Cond.soleField "ClassHouseModel" "inputs") ∈ lw_all := lw_g (lw_at lw_m7 179 rfl) rfl
theorem q1819 : (Jvm.Cond.laysFinal "ClassHouseModel" "ClassHouseModel" "input" "[I") ∈ lw_all := lw_g (lw_at lw_m7 180 rfl) rfl
theorem q1820 : (Jvm.Cond.soleField "ClassHouseModel" "input") ∈ lw_all := lw_g (lw_at lw_m7 181 rfl) rfl
theorem q1821 : (Jvm.Cond.lays "ClassHouseModel" "ClassHouseModel" "objects" "I") ∈ lw_all := lw_g (lw_at lw_m7 182 rfl) rfl
theorem q1822 : (Jvm.Cond.soleField "ClassHouseModel" "objects") ∈ lw_all := lw_g (lw_at lw_m7 183 rfl) rfl
theorem q1823 : (Jvm.Cond.laysFinal "ClassHouseModel" "ClassHouseModel" "classOfObject" "[I") ∈ lw_all := lw_g (lw_at lw_m7 184 rfl) rfl
theorem q1824 : (Jvm.Cond.soleField "ClassHouseModel" "classOfObject") ∈ lw_all := lw_g (lw_at lw_m7 185 rfl) rfl
theorem q1825 : (Jvm.Cond.laysFinal "ClassHouseModel" "ClassHouseModel" "wordsFrom" "[I") ∈ lw_all := lw_g (lw_at lw_m7 186 rfl) rfl
theorem q1826 : (Jvm.Cond.soleField "ClassHouseModel" "wordsFrom") ∈ lw_all := lw_g (lw_at lw_m7 187 rfl) rfl
theorem q1827 : (Jvm.Cond.laysFinal "ClassHouseModel" "ClassHouseModel" "wordsMany" "[I") ∈ lw_all := lw_g (lw_at lw_m7 188 rfl) rfl
theorem q1828 : (Jvm.Cond.soleField "ClassHouseModel" "wordsMany") ∈ lw_all := lw_g (lw_at lw_m7 189 rfl) rfl
theorem q1829 : (Jvm.Cond.laysFinal "ClassHouseModel" "ClassHouseModel" "isReached" "[Z") ∈ lw_all := lw_g (lw_at lw_m7 190 rfl) rfl
theorem q1830 : (Jvm.Cond.soleField "ClassHouseModel" "isReached") ∈ lw_all := lw_g (lw_at lw_m7 191 rfl) rfl
theorem q1831 : (Jvm.Cond.laysFinal "ClassHouseModel" "ClassHouseModel" "newPlace" "[I") ∈ lw_all := lw_g (lw_at lw_m7 192 rfl) rfl
theorem q1832 : (Jvm.Cond.soleField "ClassHouseModel" "newPlace") ∈ lw_all := lw_g (lw_at lw_m7 193 rfl) rfl
theorem q1833 : (Jvm.Cond.laysFinal "ClassHouseModel" "ClassHouseModel" "waits" "[I") ∈ lw_all := lw_g (lw_at lw_m7 194 rfl) rfl
theorem q1834 : (Jvm.Cond.soleField "ClassHouseModel" "waits") ∈ lw_all := lw_g (lw_at lw_m7 195 rfl) rfl
theorem q1835 : (Jvm.Cond.lays "ClassHouseModel" "ClassHouseModel" "waiting" "I") ∈ lw_all := lw_g (lw_at lw_m7 196 rfl) rfl
theorem q1836 : (Jvm.Cond.soleField "ClassHouseModel" "waiting") ∈ lw_all := lw_g (lw_at lw_m7 197 rfl) rfl
theorem q1837 : (Jvm.Cond.lays "ClassHouseModel" "ClassHouseModel" "worded" "I") ∈ lw_all := lw_g (lw_at lw_m7 198 rfl) rfl
theorem q1838 : (Jvm.Cond.soleField "ClassHouseModel" "worded") ∈ lw_all := lw_g (lw_at lw_m7 199 rfl) rfl
theorem q1839 : (Jvm.Cond.laysFinal "ClassHouseModel" "ClassHouseModel" "words" "[I") ∈ lw_all := lw_g (lw_at lw_m7 200 rfl) rfl
theorem q1840 : (Jvm.Cond.soleField "ClassHouseModel" "words") ∈ lw_all := lw_g (lw_at lw_m7 201 rfl) rfl
theorem q1841 : (Jvm.Cond.laysFinal "ClassHouseModel" "ClassHouseModel" "isObject" "[Z") ∈ lw_all := lw_g (lw_at lw_m7 202 rfl) rfl
theorem q1842 : (Jvm.Cond.soleField "ClassHouseModel" "isObject") ∈ lw_all := lw_g (lw_at lw_m7 203 rfl) rfl
theorem q1843 : (Jvm.Cond.lays "ClassHouseModel" "ClassHouseModel" "open" "I") ∈ lw_all := lw_g (lw_at lw_m7 204 rfl) rfl
theorem q1844 : (Jvm.Cond.soleField "ClassHouseModel" "open") ∈ lw_all := lw_g (lw_at lw_m7 205 rfl) rfl
theorem q1845 : (Jvm.Cond.laysFinal "ClassHouseModel" "ClassHouseModel" "openThis" "[I") ∈ lw_all := lw_g (lw_at lw_m7 206 rfl) rfl
theorem q1846 : (Jvm.Cond.soleField "ClassHouseModel" "openThis") ∈ lw_all := lw_g (lw_at lw_m7 207 rfl) rfl
theorem q1847 : (Jvm.Cond.laysFinal "ClassHouseModel" "ClassHouseModel" "openFrom" "[I") ∈ lw_all := lw_g (lw_at lw_m7 208 rfl) rfl
theorem q1848 : (Jvm.Cond.soleField "ClassHouseModel" "openFrom") ∈ lw_all := lw_g (lw_at lw_m7 209 rfl) rfl
theorem q1849 : (Jvm.Cond.laysFinal "ClassHouseModel" "ClassHouseModel" "openMany" "[I") ∈ lw_all := lw_g (lw_at lw_m7 210 rfl) rfl
theorem q1850 : (Jvm.Cond.soleField "ClassHouseModel" "openMany") ∈ lw_all := lw_g (lw_at lw_m7 211 rfl) rfl
theorem q1851 : (Jvm.Cond.laysFinal "ClassHouseModel" "ClassHouseModel" "openPile" "[I") ∈ lw_all := lw_g (lw_at lw_m7 212 rfl) rfl
theorem q1852 : (Jvm.Cond.soleField "ClassHouseModel" "openPile") ∈ lw_all := lw_g (lw_at lw_m7 213 rfl) rfl
theorem q1853 : (Jvm.Cond.laysFinal "ClassHouseModel" "ClassHouseModel" "local" "[I") ∈ lw_all := lw_g (lw_at lw_m7 214 rfl) rfl
theorem q1854 : (Jvm.Cond.soleField "ClassHouseModel" "local") ∈ lw_all := lw_g (lw_at lw_m7 215 rfl) rfl
theorem q1855 : (Jvm.Cond.laysFinal "ClassHouseModel" "ClassHouseModel" "isLocalObject" "[Z") ∈ lw_all := lw_g (lw_at lw_m7 216 rfl) rfl
theorem q1856 : (Jvm.Cond.soleField "ClassHouseModel" "isLocalObject") ∈ lw_all := lw_g (lw_at lw_m7 217 rfl) rfl
theorem q1857 : (Jvm.Cond.lays "ClassHouseModel" "ClassHouseModel" "piled" "I") ∈ lw_all := lw_g (lw_at lw_m7 218 rfl) rfl
theorem q1858 : (Jvm.Cond.soleField "ClassHouseModel" "piled") ∈ lw_all := lw_g (lw_at lw_m7 219 rfl) rfl
theorem q1859 : (Jvm.Cond.laysFinal "ClassHouseModel" "ClassHouseModel" "pile" "[I") ∈ lw_all := lw_g (lw_at lw_m7 220 rfl) rfl
theorem q1860 : (Jvm.Cond.soleField "ClassHouseModel" "pile") ∈ lw_all := lw_g (lw_at lw_m7 221 rfl) rfl
theorem q1861 : (Jvm.Cond.laysFinal "ClassHouseModel" "ClassHouseModel" "isPileObject" "[Z") ∈ lw_all := lw_g (lw_at lw_m7 222 rfl) rfl
theorem q1862 : (Jvm.Cond.soleField "ClassHouseModel" "isPileObject") ∈ lw_all := lw_g (lw_at lw_m7 223 rfl) rfl
theorem q1863 : (Jvm.Cond.lays "ClassHouseModel" "ClassHouseModel" "todo" "I") ∈ lw_all := lw_g (lw_at lw_m7 224 rfl) rfl
theorem q1864 : (Jvm.Cond.soleField "ClassHouseModel" "todo") ∈ lw_all := lw_g (lw_at lw_m7 225 rfl) rfl
theorem q1865 : (Jvm.Cond.laysFinal "ClassHouseModel" "ClassHouseModel" "todoIs" "[I") ∈ lw_all := lw_g (lw_at lw_m7 226 rfl) rfl
theorem q1866 : (Jvm.Cond.soleField "ClassHouseModel" "todoIs") ∈ lw_all := lw_g (lw_at lw_m7 227 rfl) rfl
theorem q1867 : (Jvm.Cond.laysFinal "ClassHouseModel" "ClassHouseModel" "todoOf" "[I") ∈ lw_all := lw_g (lw_at lw_m7 228 rfl) rfl
theorem q1868 : (Jvm.Cond.soleField "ClassHouseModel" "todoOf") ∈ lw_all := lw_g (lw_at lw_m7 229 rfl) rfl
theorem q1869 : (Jvm.Cond.lays "ClassHouseModel" "ClassHouseModel" "tries" "I") ∈ lw_all := lw_g (lw_at lw_m7 230 rfl) rfl
theorem q1870 : (Jvm.Cond.soleField "ClassHouseModel" "tries") ∈ lw_all := lw_g (lw_at lw_m7 231 rfl) rfl
theorem q1871 : (Jvm.Cond.laysFinal "ClassHouseModel" "ClassHouseModel" "tryPile" "[I") ∈ lw_all := lw_g (lw_at lw_m7 232 rfl) rfl
theorem q1872 : (Jvm.Cond.soleField "ClassHouseModel" "tryPile") ∈ lw_all := lw_g (lw_at lw_m7 233 rfl) rfl
theorem q1873 : (Jvm.Cond.laysFinal "ClassHouseModel" "ClassHouseModel" "tryMany" "[I") ∈ lw_all := lw_g (lw_at lw_m7 234 rfl) rfl
theorem q1874 : (Jvm.Cond.soleField "ClassHouseModel" "tryMany") ∈ lw_all := lw_g (lw_at lw_m7 235 rfl) rfl
theorem q1875 : (Jvm.Cond.superclass "ClassHouseModel" "java/lang/Object") ∈ lw_all := lw_g (lw_at lw_m7 236 rfl) rfl
theorem q1877 : (Jvm.Cond.instanceMethod ({ cls := "ClassHouseModel", name := "program", desc := "()I" } : Jvm.MethodName)) ∈ lw_all := lw_g (lw_at lw_m7 238 rfl) rfl
theorem q1878 : (Jvm.Cond.selects "ClassHouseModel" ({ cls := "ClassHouseModel", name := "program", desc := "()I" } : Jvm.MethodName) ({ cls := "ClassHouseModel", name := "program", desc := "()I" } : Jvm.MethodName)) ∈ lw_all := lw_g (lw_at lw_m7 239 rfl) rfl
theorem q1879 : (Jvm.Cond.code ({ cls := "ClassHouseModel", name := "program", desc := "()I" } : Jvm.MethodName) prog_14_method_53_code (5 : Nat) (Option.some Jvm.ClassFile.FieldType.int)) ∈ lw_all := lw_g (lw_at lw_m8 0 rfl) rfl
theorem q1880 : (Jvm.Cond.methodLink "ClassHouseModel" (445 : Nat) ({ cls := "ClassHouseModel", name := "knownNames", desc := "()V" } : Jvm.MethodName)) ∈ lw_all := lw_g (lw_at lw_m8 1 rfl) rfl
theorem q1881 : (Jvm.Cond.privateMethod ({ cls := "ClassHouseModel", name := "knownNames", desc := "()V" } : Jvm.MethodName)) ∈ lw_tbl := lw_at lw_m8 2 rfl
theorem q1882 : (Jvm.Cond.instanceMethod ({ cls := "ClassHouseModel", name := "knownNames", desc := "()V" } : Jvm.MethodName)) ∈ lw_all := lw_g (lw_at lw_m8 3 rfl) rfl
theorem q1883 : (Jvm.Cond.code ({ cls := "ClassHouseModel", name := "knownNames", desc := "()V" } : Jvm.MethodName) prog_14_method_3_code (5 : Nat) (Option.none : Option Jvm.ClassFile.FieldType)) ∈ lw_all := lw_g (lw_at lw_m8 4 rfl) rfl
theorem q1884 : (Jvm.Cond.methodLink "ClassHouseModel" (289 : Nat) ({ cls := "ClassHouseModel", name := "next", desc := "()V" } : Jvm.MethodName)) ∈ lw_all := lw_g (lw_at lw_m8 5 rfl) rfl
theorem q1885 : (Jvm.Cond.privateMethod ({ cls := "ClassHouseModel", name := "next", desc := "()V" } : Jvm.MethodName)) ∈ lw_tbl := lw_at lw_m8 6 rfl
theorem q1886 : (Jvm.Cond.instanceMethod ({ cls := "ClassHouseModel", name := "next", desc := "()V" } : Jvm.MethodName)) ∈ lw_all := lw_g (lw_at lw_m8 7 rfl) rfl
theorem q1887 : (Jvm.Cond.code ({ cls := "ClassHouseModel", name := "next", desc := "()V" } : Jvm.MethodName) prog_14_method_12_code (4 : Nat) (Option.none : Option Jvm.ClassFile.FieldType)) ∈ lw_all := lw_g (lw_at lw_m8 8 rfl) rfl
theorem q1888 : (Jvm.Cond.methodLink "ClassHouseModel" (259 : Nat) ({ cls := "ClassHouseModel", name := "byteAt", desc := "(I)I" } : Jvm.MethodName)) ∈ lw_all := lw_g (lw_at lw_m8 9 rfl) rfl
theorem q1889 : (Jvm.Cond.privateMethod ({ cls := "ClassHouseModel", name := "byteAt", desc := "(I)I" } : Jvm.MethodName)) ∈ lw_tbl := lw_at lw_m8 10 rfl
theorem q1890 : (Jvm.Cond.instanceMethod ({ cls := "ClassHouseModel", name := "byteAt", desc := "(I)I" } : Jvm.MethodName)) ∈ lw_all := lw_g (lw_at lw_m8 11 rfl) rfl
theorem q1891 : (Jvm.Cond.code ({ cls := "ClassHouseModel", name := "byteAt", desc := "(I)I" } : Jvm.MethodName) prog_14_method_7_code (2 : Nat) (Option.some Jvm.ClassFile.FieldType.int)) ∈ lw_all := lw_g (lw_at lw_m8 12 rfl) rfl
theorem q1892 : (Jvm.Cond.methodLink "ClassHouseModel" (266 : Nat) ({ cls := "ClassHouseModel", name := "isLetter", desc := "(I)Z" } : Jvm.MethodName)) ∈ lw_all := lw_g (lw_at lw_m8 13 rfl) rfl
theorem q1893 : (Jvm.Cond.static ({ cls := "ClassHouseModel", name := "isLetter", desc := "(I)Z" } : Jvm.MethodName)) ∈ lw_all := lw_g (lw_at lw_m8 14 rfl) rfl
theorem q1894 : (Jvm.Cond.code ({ cls := "ClassHouseModel", name := "isLetter", desc := "(I)Z" } : Jvm.MethodName) prog_14_method_6_code (1 : Nat) (Option.some Jvm.ClassFile.FieldType.boolean)) ∈ lw_all := lw_g (lw_at lw_m8 15 rfl) rfl
theorem q1895 : (Jvm.Cond.constantLong "ClassHouseModel" (232 : Nat) (97 : Int64)) ∈ lw_all := lw_g (lw_at lw_m8 16 rfl) rfl
theorem q1896 : (Jvm.Cond.constantLong "ClassHouseModel" (234 : Nat) (122 : Int64)) ∈ lw_all := lw_g (lw_at lw_m8 17 rfl) rfl
theorem q1897 : (Jvm.Cond.methodLink "ClassHouseModel" (228 : Nat) ({ cls := "ClassHouseModel", name := "isIn", desc := "(JJJ)Z" } : Jvm.MethodName)) ∈ lw_all := lw_g (lw_at lw_m8 18 rfl) rfl
theorem q1898 : (Jvm.Cond.static ({ cls := "ClassHouseModel", name := "isIn", desc := "(JJJ)Z" } : Jvm.MethodName)) ∈ lw_all := lw_g (lw_at lw_m8 19 rfl) rfl
theorem q1899 : (Jvm.Cond.code ({ cls := "ClassHouseModel", name := "isIn", desc := "(JJJ)Z" } : Jvm.MethodName) prog_14_method_4_code (6 : Nat) (Option.some Jvm.ClassFile.FieldType.boolean)) ∈ lw_all := lw_g (lw_at lw_m8 20 rfl) rfl
theorem q1900 : (Jvm.Cond.constantLong "ClassHouseModel" (236 : Nat) (65 : Int64)) ∈ lw_all := lw_g (lw_at lw_m8 21 rfl) rfl
theorem q1901 : (Jvm.Cond.constantLong "ClassHouseModel" (238 : Nat) (90 : Int64)) ∈ lw_all := lw_g (lw_at lw_m8 22 rfl) rfl
theorem q1902 : (Jvm.Cond.methodLink "ClassHouseModel" (270 : Nat) ({ cls := "ClassHouseModel", name := "isDigit", desc := "(I)Z" } : Jvm.MethodName)) ∈ lw_all := lw_g (lw_at lw_m8 23 rfl) rfl
theorem q1903 : (Jvm.Cond.static ({ cls := "ClassHouseModel", name := "isDigit", desc := "(I)Z" } : Jvm.MethodName)) ∈ lw_all := lw_g (lw_at lw_m8 24 rfl) rfl
theorem q1904 : (Jvm.Cond.code ({ cls := "ClassHouseModel", name := "isDigit", desc := "(I)Z" } : Jvm.MethodName) prog_14_method_5_code (1 : Nat) (Option.some Jvm.ClassFile.FieldType.boolean)) ∈ lw_all := lw_g (lw_at lw_m8 25 rfl) rfl
theorem q1905 : (Jvm.Cond.constantLong "ClassHouseModel" (224 : Nat) (48 : Int64)) ∈ lw_all := lw_g (lw_at lw_m8 26 rfl) rfl
theorem q1906 : (Jvm.Cond.constantLong "ClassHouseModel" (226 : Nat) (57 : Int64)) ∈ lw_all := lw_g (lw_at lw_m8 27 rfl) rfl
theorem q1907 : (Jvm.Cond.methodLink "ClassHouseModel" (273 : Nat) ({ cls := "ClassHouseModel", name := "keyOf", desc := "()I" } : Jvm.MethodName)) ∈ lw_all := lw_g (lw_at lw_m8 28 rfl) rfl
theorem q1908 : (Jvm.Cond.privateMethod ({ cls := "ClassHouseModel", name := "keyOf", desc := "()I" } : Jvm.MethodName)) ∈ lw_tbl := lw_at lw_m8 29 rfl
theorem q1909 : (Jvm.Cond.instanceMethod ({ cls := "ClassHouseModel", name := "keyOf", desc := "()I" } : Jvm.MethodName)) ∈ lw_all := lw_g (lw_at lw_m8 30 rfl) rfl
theorem q1910 : (Jvm.Cond.code ({ cls := "ClassHouseModel", name := "keyOf", desc := "()I" } : Jvm.MethodName) prog_14_method_9_code (1 : Nat) (Option.some Jvm.ClassFile.FieldType.int)) ∈ lw_all := lw_g (lw_at lw_m8 31 rfl) rfl
theorem q1911 : (Jvm.Cond.methodLink "ClassHouseModel" (249 : Nat) ({ cls := "ClassHouseModel", name := "isText", desc := "(IIIIII)Z" } : Jvm.MethodName)) ∈ lw_all := lw_g (lw_at lw_m8 32 rfl) rfl
theorem q1912 : (Jvm.Cond.privateMethod ({ cls := "ClassHouseModel", name := "isText", desc := "(IIIIII)Z" } : Jvm.MethodName)) ∈ lw_tbl := lw_at lw_m8 33 rfl
theorem q1913 : (Jvm.Cond.instanceMethod ({ cls := "ClassHouseModel", name := "isText", desc := "(IIIIII)Z" } : Jvm.MethodName)) ∈ lw_all := lw_g (lw_at lw_m8 34 rfl) rfl
theorem q1914 : (Jvm.Cond.code ({ cls := "ClassHouseModel", name := "isText", desc := "(IIIIII)Z" } : Jvm.MethodName) prog_14_method_8_code (9 : Nat) (Option.some Jvm.ClassFile.FieldType.boolean)) ∈ lw_all := lw_g (lw_at lw_m8 35 rfl) rfl
theorem q1915 : (Jvm.Cond.methodLink "ClassHouseModel" (277 : Nat) ({ cls := "ClassHouseModel", name := "nameOf", desc := "()I" } : Jvm.MethodName)) ∈ lw_all := lw_g (lw_at lw_m8 36 rfl) rfl
theorem q1916 : (Jvm.Cond.privateMethod ({ cls := "ClassHouseModel", name := "nameOf", desc := "()I" } : Jvm.MethodName)) ∈ lw_tbl := lw_at lw_m8 37 rfl
theorem q1917 : (Jvm.Cond.instanceMethod ({ cls := "ClassHouseModel", name := "nameOf", desc := "()I" } : Jvm.MethodName)) ∈ lw_all := lw_g (lw_at lw_m8 38 rfl) rfl
theorem q1918 : (Jvm.Cond.code ({ cls := "ClassHouseModel", name := "nameOf", desc := "()I" } : Jvm.MethodName) prog_14_method_10_code (4 : Nat) (Option.some Jvm.ClassFile.FieldType.int)) ∈ lw_all := lw_g (lw_at lw_m8 39 rfl) rfl
theorem q1919 : (Jvm.Cond.methodLink "ClassHouseModel" (280 : Nat) ({ cls := "ClassHouseModel", name := "isSignByte", desc := "(I)Z" } : Jvm.MethodName)) ∈ lw_all := lw_g (lw_at lw_m8 40 rfl) rfl
theorem q1920 : (Jvm.Cond.static ({ cls := "ClassHouseModel", name := "isSignByte", desc := "(I)Z" } : Jvm.MethodName)) ∈ lw_all := lw_g (lw_at lw_m8 41 rfl) rfl
theorem q1921 : (Jvm.Cond.code ({ cls := "ClassHouseModel", name := "isSignByte", desc := "(I)Z" } : Jvm.MethodName) prog_14_method_11_code (1 : Nat) (Option.some Jvm.ClassFile.FieldType.boolean)) ∈ lw_all := lw_g (lw_at lw_m8 42 rfl) rfl
theorem q1922 : (Jvm.Cond.methodLink "ClassHouseModel" (330 : Nat) ({ cls := "ClassHouseModel", name := "isKey", desc := "(I)Z" } : Jvm.MethodName)) ∈ lw_all := lw_g (lw_at lw_m8 43 rfl) rfl
theorem q1923 : (Jvm.Cond.privateMethod ({ cls := "ClassHouseModel", name := "isKey", desc := "(I)Z" } : Jvm.MethodName)) ∈ lw_tbl := lw_at lw_m8 44 rfl
theorem q1924 : (Jvm.Cond.instanceMethod ({ cls := "ClassHouseModel", name := "isKey", desc := "(I)Z" } : Jvm.MethodName)) ∈ lw_all := lw_g (lw_at lw_m8 45 rfl) rfl
theorem q1925 : (Jvm.Cond.code ({ cls := "ClassHouseModel", name := "isKey", desc := "(I)Z" } : Jvm.MethodName) prog_14_method_15_code (2 : Nat) (Option.some Jvm.ClassFile.FieldType.boolean)) ∈ lw_all := lw_g (lw_at lw_m8 46 rfl) rfl
theorem q1926 : (Jvm.Cond.methodLink "ClassHouseModel" (298 : Nat) ({ cls := "ClassHouseModel", name := "passes", desc := "(Z)Z" } : Jvm.MethodName)) ∈ lw_all := lw_g (lw_at lw_m8 47 rfl) rfl
theorem q1927 : (Jvm.Cond.privateMethod ({ cls := "ClassHouseModel", name := "passes", desc := "(Z)Z" } : Jvm.MethodName)) ∈ lw_tbl := lw_at lw_m8 48 rfl
theorem q1928 : (Jvm.Cond.instanceMethod ({ cls := "ClassHouseModel", name := "passes", desc := "(Z)Z" } : Jvm.MethodName)) ∈ lw_all := lw_g (lw_at lw_m8 49 rfl) rfl
theorem q1929 : (Jvm.Cond.code ({ cls := "ClassHouseModel", name := "passes", desc := "(Z)Z" } : Jvm.MethodName) prog_14_method_16_code (3 : Nat) (Option.some Jvm.ClassFile.FieldType.boolean)) ∈ lw_all := lw_g (lw_at lw_m8 50 rfl) rfl
theorem q1930 : (Jvm.Cond.methodLink "ClassHouseModel" (286 : Nat) ({ cls := "ClassHouseModel", name := "fails", desc := "(I)I" } : Jvm.MethodName)) ∈ lw_all := lw_g (lw_at lw_m8 51 rfl) rfl
theorem q1931 : (Jvm.Cond.privateMethod ({ cls := "ClassHouseModel", name := "fails", desc := "(I)I" } : Jvm.MethodName)) ∈ lw_tbl := lw_at lw_m8 52 rfl
theorem q1932 : (Jvm.Cond.instanceMethod ({ cls := "ClassHouseModel", name := "fails", desc := "(I)I" } : Jvm.MethodName)) ∈ lw_all := lw_g (lw_at lw_m8 53 rfl) rfl
theorem q1933 : (Jvm.Cond.code ({ cls := "ClassHouseModel", name := "fails", desc := "(I)I" } : Jvm.MethodName) prog_14_method_13_code (2 : Nat) (Option.some Jvm.ClassFile.FieldType.int)) ∈ lw_all := lw_g (lw_at lw_m8 54 rfl) rfl
theorem q1934 : (Jvm.Cond.methodLink "ClassHouseModel" (448 : Nat) ({ cls := "ClassHouseModel", name := "readClass", desc := "()V" } : Jvm.MethodName)) ∈ lw_all := lw_g (lw_at lw_m8 55 rfl) rfl
theorem q1935 : (Jvm.Cond.privateMethod ({ cls := "ClassHouseModel", name := "readClass", desc := "()V" } : Jvm.MethodName)) ∈ lw_tbl := lw_at lw_m8 56 rfl
theorem q1936 : (Jvm.Cond.instanceMethod ({ cls := "ClassHouseModel", name := "readClass", desc := "()V" } : Jvm.MethodName)) ∈ lw_all := lw_g (lw_at lw_m8 57 rfl) rfl
theorem q1937 : (Jvm.Cond.code ({ cls := "ClassHouseModel", name := "readClass", desc := "()V" } : Jvm.MethodName) prog_14_method_40_code (2 : Nat) (Option.none : Option Jvm.ClassFile.FieldType)) ∈ lw_all := lw_g (lw_at lw_m8 58 rfl) rfl
theorem q1938 : (Jvm.Cond.methodLink "ClassHouseModel" (333 : Nat) ({ cls := "ClassHouseModel", name := "name", desc := "()I" } : Jvm.MethodName)) ∈ lw_all := lw_g (lw_at lw_m8 59 rfl) rfl
theorem q1939 : (Jvm.Cond.privateMethod ({ cls := "ClassHouseModel", name := "name", desc := "()I" } : Jvm.MethodName)) ∈ lw_tbl := lw_at lw_m8 60 rfl
theorem q1940 : (Jvm.Cond.instanceMethod ({ cls := "ClassHouseModel", name := "name", desc := "()I" } : Jvm.MethodName)) ∈ lw_all := lw_g (lw_at lw_m8 61 rfl) rfl
theorem q1941 : (Jvm.Cond.code ({ cls := "ClassHouseModel", name := "name", desc := "()I" } : Jvm.MethodName) prog_14_method_19_code (2 : Nat) (Option.some Jvm.ClassFile.FieldType.int)) ∈ lw_all := lw_g (lw_at lw_m8 62 rfl) rfl
theorem q1942 : (Jvm.Cond.methodLink "ClassHouseModel" (295 : Nat) ({ cls := "ClassHouseModel", name := "isSign", desc := "(I)Z" } : Jvm.MethodName)) ∈ lw_all := lw_g (lw_at lw_m8 63 rfl) rfl
theorem q1943 : (Jvm.Cond.privateMethod ({ cls := "ClassHouseModel", name := "isSign", desc := "(I)Z" } : Jvm.MethodName)) ∈ lw_tbl := lw_at lw_m8 64 rfl
theorem q1944 : (Jvm.Cond.instanceMethod ({ cls := "ClassHouseModel", name := "isSign", desc := "(I)Z" } : Jvm.MethodName)) ∈ lw_all := lw_g (lw_at lw_m8 65 rfl) rfl
theorem q1945 : (Jvm.Cond.code ({ cls := "ClassHouseModel", name := "isSign", desc := "(I)Z" } : Jvm.MethodName) prog_14_method_14_code (2 : Nat) (Option.some Jvm.ClassFile.FieldType.boolean)) ∈ lw_all := lw_g (lw_at lw_m8 66 rfl) rfl
theorem q1946 : (Jvm.Cond.methodLink "ClassHouseModel" (339 : Nat) ({ cls := "ClassHouseModel", name := "opens", desc := "(Z)Z" } : Jvm.MethodName)) ∈ lw_all := lw_g (lw_at lw_m8 67 rfl) rfl
theorem q1947 : (Jvm.Cond.privateMethod ({ cls := "ClassHouseModel", name := "opens", desc := "(Z)Z" } : Jvm.MethodName)) ∈ lw_tbl := lw_at lw_m8 68 rfl
theorem q1948 : (Jvm.Cond.instanceMethod ({ cls := "ClassHouseModel", name := "opens", desc := "(Z)Z" } : Jvm.MethodName)) ∈ lw_all := lw_g (lw_at lw_m8 69 rfl) rfl
theorem q1949 : (Jvm.Cond.code ({ cls := "ClassHouseModel", name := "opens", desc := "(Z)Z" } : Jvm.MethodName) prog_14_method_17_code (3 : Nat) (Option.some Jvm.ClassFile.FieldType.boolean)) ∈ lw_all := lw_g (lw_at lw_m8 70 rfl) rfl
theorem q1950 : (Jvm.Cond.methodLink "ClassHouseModel" (400 : Nat) ({ cls := "ClassHouseModel", name := "member", desc := "()V" } : Jvm.MethodName)) ∈ lw_all := lw_g (lw_at lw_m8 71 rfl) rfl
theorem q1951 : (Jvm.Cond.privateMethod ({ cls := "ClassHouseModel", name := "member", desc := "()V" } : Jvm.MethodName)) ∈ lw_tbl := lw_at lw_m8 72 rfl
theorem q1952 : (Jvm.Cond.instanceMethod ({ cls := "ClassHouseModel", name := "member", desc := "()V" } : Jvm.MethodName)) ∈ lw_all := lw_g (lw_at lw_m8 73 rfl) rfl
theorem q1953 : (Jvm.Cond.code ({ cls := "ClassHouseModel", name := "member", desc := "()V" } : Jvm.MethodName) prog_14_method_41_code (4 : Nat) (Option.none : Option Jvm.ClassFile.FieldType)) ∈ lw_all := lw_g (lw_at lw_m8 74 rfl) rfl
theorem q1954 : (Jvm.Cond.methodLink "ClassHouseModel" (385 : Nat) ({ cls := "ClassHouseModel", name := "type", desc := "()I" } : Jvm.MethodName)) ∈ lw_all := lw_g (lw_at lw_m8 75 rfl) rfl
theorem q1955 : (Jvm.Cond.privateMethod ({ cls := "ClassHouseModel", name := "type", desc := "()I" } : Jvm.MethodName)) ∈ lw_tbl := lw_at lw_m8 76 rfl
theorem q1956 : (Jvm.Cond.instanceMethod ({ cls := "ClassHouseModel", name := "type", desc := "()I" } : Jvm.MethodName)) ∈ lw_all := lw_g (lw_at lw_m8 77 rfl) rfl
theorem q1957 : (Jvm.Cond.code ({ cls := "ClassHouseModel", name := "type", desc := "()I" } : Jvm.MethodName) prog_14_method_35_code (3 : Nat) (Option.some Jvm.ClassFile.FieldType.int)) ∈ lw_all := lw_g (lw_at lw_m8 78 rfl) rfl
theorem q1958 : (Jvm.Cond.methodLink "ClassHouseModel" (375 : Nat) ({ cls := "ClassHouseModel", name := "isType", desc := "()Z" } : Jvm.MethodName)) ∈ lw_all := lw_g (lw_at lw_m8 79 rfl) rfl
theorem q1959 : (Jvm.Cond.privateMethod ({ cls := "ClassHouseModel", name := "isType", desc := "()Z" } : Jvm.MethodName)) ∈ lw_tbl := lw_at lw_m8 80 rfl
theorem q1960 : (Jvm.Cond.instanceMethod ({ cls := "ClassHouseModel", name := "isType", desc := "()Z" } : Jvm.MethodName)) ∈ lw_all := lw_g (lw_at lw_m8 81 rfl) rfl
theorem q1961 : (Jvm.Cond.code ({ cls := "ClassHouseModel", name := "isType", desc := "()Z" } : Jvm.MethodName) prog_14_method_34_code (1 : Nat) (Option.some Jvm.ClassFile.FieldType.boolean)) ∈ lw_all := lw_g (lw_at lw_m8 82 rfl) rfl
theorem q1962 : (Jvm.Cond.methodLink "ClassHouseModel" (352 : Nat) ({ cls := "ClassHouseModel", name := "closes", desc := "(I)V" } : Jvm.MethodName)) ∈ lw_all := lw_g (lw_at lw_m8 83 rfl) rfl
theorem q1963 : (Jvm.Cond.privateMethod ({ cls := "ClassHouseModel", name := "closes", desc := "(I)V" } : Jvm.MethodName)) ∈ lw_tbl := lw_at lw_m8 84 rfl
theorem q1964 : (Jvm.Cond.instanceMethod ({ cls := "ClassHouseModel", name := "closes", desc := "(I)V" } : Jvm.MethodName)) ∈ lw_all := lw_g (lw_at lw_m8 85 rfl) rfl
theorem q1965 : (Jvm.Cond.code ({ cls := "ClassHouseModel", name := "closes", desc := "(I)V" } : Jvm.MethodName) prog_14_method_18_code (2 : Nat) (Option.none : Option Jvm.ClassFile.FieldType)) ∈ lw_all := lw_g (lw_at lw_m8 86 rfl) rfl
theorem q1966 : (Jvm.Cond.methodLink "ClassHouseModel" (391 : Nat) ({ cls := "ClassHouseModel", name := "block", desc := "()I" } : Jvm.MethodName)) ∈ lw_all := lw_g (lw_at lw_m8 87 rfl) rfl
theorem q1967 : (Jvm.Cond.privateMethod ({ cls := "ClassHouseModel", name := "block", desc := "()I" } : Jvm.MethodName)) ∈ lw_tbl := lw_at lw_m8 88 rfl
theorem q1968 : (Jvm.Cond.instanceMethod ({ cls := "ClassHouseModel", name := "block", desc := "()I" } : Jvm.MethodName)) ∈ lw_all := lw_g (lw_at lw_m8 89 rfl) rfl
theorem q1969 : (Jvm.Cond.code ({ cls := "ClassHouseModel", name := "block", desc := "()I" } : Jvm.MethodName) prog_14_method_33_code (4 : Nat) (Option.some Jvm.ClassFile.FieldType.int)) ∈ lw_all := lw_g (lw_at lw_m8 90 rfl) rfl
theorem q1970 : (Jvm.Cond.methodLink "ClassHouseModel" (369 : Nat) ({ cls := "ClassHouseModel", name := "statement", desc := "()I" } : Jvm.MethodName)) ∈ lw_all := lw_g (lw_at lw_m8 91 rfl) rfl
theorem q1971 : (Jvm.Cond.privateMethod ({ cls := "ClassHouseModel", name := "statement", desc := "()I" } : Jvm.MethodName)) ∈ lw_tbl := lw_at lw_m8 92 rfl
theorem q1972 : (Jvm.Cond.instanceMethod ({ cls := "ClassHouseModel", name := "statement", desc := "()I" } : Jvm.MethodName)) ∈ lw_all := lw_g (lw_at lw_m8 93 rfl) rfl
theorem q1973 : (Jvm.Cond.code ({ cls := "ClassHouseModel", name := "statement", desc := "()I" } : Jvm.MethodName) prog_14_method_38_code (4 : Nat) (Option.some Jvm.ClassFile.FieldType.int)) ∈ lw_all := lw_g (lw_at lw_m8 94 rfl) rfl
theorem q1974 : (Jvm.Cond.methodLink "ClassHouseModel" (379 : Nat) ({ cls := "ClassHouseModel", name := "isNameAhead", desc := "()Z" } : Jvm.MethodName)) ∈ lw_all := lw_g (lw_at lw_m8 95 rfl) rfl
theorem q1975 : (Jvm.Cond.privateMethod ({ cls := "ClassHouseModel", name := "isNameAhead", desc := "()Z" } : Jvm.MethodName)) ∈ lw_tbl := lw_at lw_m8 96 rfl
theorem q1976 : (Jvm.Cond.instanceMethod ({ cls := "ClassHouseModel", name := "isNameAhead", desc := "()Z" } : Jvm.MethodName)) ∈ lw_all := lw_g (lw_at lw_m8 97 rfl) rfl
theorem q1977 : (Jvm.Cond.code ({ cls := "ClassHouseModel", name := "isNameAhead", desc := "()Z" } : Jvm.MethodName) prog_14_method_37_code (8 : Nat) (Option.some Jvm.ClassFile.FieldType.boolean)) ∈ lw_all := lw_g (lw_at lw_m8 98 rfl) rfl
theorem q1978 : (Jvm.Cond.methodLink "ClassHouseModel" (382 : Nat) ({ cls := "ClassHouseModel", name := "begun", desc := "(I)I" } : Jvm.MethodName)) ∈ lw_all := lw_g (lw_at lw_m8 99 rfl) rfl
theorem q1979 : (Jvm.Cond.privateMethod ({ cls := "ClassHouseModel", name := "begun", desc := "(I)I" } : Jvm.MethodName)) ∈ lw_tbl := lw_at lw_m8 100 rfl
theorem q1980 : (Jvm.Cond.instanceMethod ({ cls := "ClassHouseModel", name := "begun", desc := "(I)I" } : Jvm.MethodName)) ∈ lw_all := lw_g (lw_at lw_m8 101 rfl) rfl
theorem q1981 : (Jvm.Cond.code ({ cls := "ClassHouseModel", name := "begun", desc := "(I)I" } : Jvm.MethodName) prog_14_method_32_code (3 : Nat) (Option.some Jvm.ClassFile.FieldType.int)) ∈ lw_all := lw_g (lw_at lw_m8 102 rfl) rfl
theorem q1982 : (Jvm.Cond.methodLink "ClassHouseModel" (349 : Nat) ({ cls := "ClassHouseModel", name := "expression", desc := "()I" } : Jvm.MethodName)) ∈ lw_all := lw_g (lw_at lw_m8 103 rfl) rfl
theorem q1983 : (Jvm.Cond.privateMethod ({ cls := "ClassHouseModel", name := "expression", desc := "()I" } : Jvm.MethodName)) ∈ lw_tbl := lw_at lw_m8 104 rfl
theorem q1984 : (Jvm.Cond.instanceMethod ({ cls := "ClassHouseModel", name := "expression", desc := "()I" } : Jvm.MethodName)) ∈ lw_all := lw_g (lw_at lw_m8 105 rfl) rfl
theorem q1985 : (Jvm.Cond.code ({ cls := "ClassHouseModel", name := "expression", desc := "()I" } : Jvm.MethodName) prog_14_method_21_code (3 : Nat) (Option.some Jvm.ClassFile.FieldType.int)) ∈ lw_all := lw_g (lw_at lw_m8 106 rfl) rfl
theorem q1986 : (Jvm.Cond.methodLink "ClassHouseModel" (305 : Nat) ({ cls := "ClassHouseModel", name := "both", desc := "()I" } : Jvm.MethodName)) ∈ lw_all := lw_g (lw_at lw_m8 107 rfl) rfl
theorem q1987 : (Jvm.Cond.privateMethod ({ cls := "ClassHouseModel", name := "both", desc := "()I" } : Jvm.MethodName)) ∈ lw_tbl := lw_at lw_m8 108 rfl
theorem q1988 : (Jvm.Cond.instanceMethod ({ cls := "ClassHouseModel", name := "both", desc := "()I" } : Jvm.MethodName)) ∈ lw_all := lw_g (lw_at lw_m8 109 rfl) rfl
theorem q1989 : (Jvm.Cond.code ({ cls := "ClassHouseModel", name := "both", desc := "()I" } : Jvm.MethodName) prog_14_method_22_code (3 : Nat) (Option.some Jvm.ClassFile.FieldType.int)) ∈ lw_all := lw_g (lw_at lw_m8 110 rfl) rfl
theorem q1990 : (Jvm.Cond.methodLink "ClassHouseModel" (312 : Nat) ({ cls := "ClassHouseModel", name := "equal", desc := "()I" } : Jvm.MethodName)) ∈ lw_all := lw_g (lw_at lw_m8 111 rfl) rfl
theorem q1991 : (Jvm.Cond.privateMethod ({ cls := "ClassHouseModel", name := "equal", desc := "()I" } : Jvm.MethodName)) ∈ lw_tbl := lw_at lw_m8 112 rfl
theorem q1992 : (Jvm.Cond.instanceMethod ({ cls := "ClassHouseModel", name := "equal", desc := "()I" } : Jvm.MethodName)) ∈ lw_all := lw_g (lw_at lw_m8 113 rfl) rfl
theorem q1993 : (Jvm.Cond.code ({ cls := "ClassHouseModel", name := "equal", desc := "()I" } : Jvm.MethodName) prog_14_method_24_code (2 : Nat) (Option.some Jvm.ClassFile.FieldType.int)) ∈ lw_all := lw_g (lw_at lw_m8 114 rfl) rfl
theorem q1994 : (Jvm.Cond.methodLink "ClassHouseModel" (315 : Nat) ({ cls := "ClassHouseModel", name := "related", desc := "()I" } : Jvm.MethodName)) ∈ lw_all := lw_g (lw_at lw_m8 115 rfl) rfl
theorem q1995 : (Jvm.Cond.privateMethod ({ cls := "ClassHouseModel", name := "related", desc := "()I" } : Jvm.MethodName)) ∈ lw_tbl := lw_at lw_m8 116 rfl
theorem q1996 : (Jvm.Cond.instanceMethod ({ cls := "ClassHouseModel", name := "related", desc := "()I" } : Jvm.MethodName)) ∈ lw_all := lw_g (lw_at lw_m8 117 rfl) rfl
theorem q1997 : (Jvm.Cond.code ({ cls := "ClassHouseModel", name := "related", desc := "()I" } : Jvm.MethodName) prog_14_method_25_code (3 : Nat) (Option.some Jvm.ClassFile.FieldType.int)) ∈ lw_all := lw_g (lw_at lw_m8 118 rfl) rfl
theorem q1998 : (Jvm.Cond.methodLink "ClassHouseModel" (318 : Nat) ({ cls := "ClassHouseModel", name := "sum", desc := "()I" } : Jvm.MethodName)) ∈ lw_all := lw_g (lw_at lw_m8 119 rfl) rfl
theorem q1999 : (Jvm.Cond.privateMethod ({ cls := "ClassHouseModel", name := "sum", desc := "()I" } : Jvm.MethodName)) ∈ lw_tbl := lw_at lw_m8 120 rfl
theorem q2000 : (Jvm.Cond.instanceMethod ({ cls := "ClassHouseModel", name := "sum", desc := "()I" } : Jvm.MethodName)) ∈ lw_all := lw_g (lw_at lw_m8 121 rfl) rfl
theorem q2001 : (Jvm.Cond.code ({ cls := "ClassHouseModel", name := "sum", desc := "()I" } : Jvm.MethodName) prog_14_method_26_code (2 : Nat) (Option.some Jvm.ClassFile.FieldType.int)) ∈ lw_all := lw_g (lw_at lw_m8 122 rfl) rfl
theorem q2002 : (Jvm.Cond.methodLink "ClassHouseModel" (321 : Nat) ({ cls := "ClassHouseModel", name := "product", desc := "()I" } : Jvm.MethodName)) ∈ lw_all := lw_g (lw_at lw_m8 123 rfl) rfl
theorem q2003 : (Jvm.Cond.privateMethod ({ cls := "ClassHouseModel", name := "product", desc := "()I" } : Jvm.MethodName)) ∈ lw_tbl := lw_at lw_m8 124 rfl
theorem q2004 : (Jvm.Cond.instanceMethod ({ cls := "ClassHouseModel", name := "product", desc := "()I" } : Jvm.MethodName)) ∈ lw_all := lw_g (lw_at lw_m8 125 rfl) rfl
theorem q2005 : (Jvm.Cond.code ({ cls := "ClassHouseModel", name := "product", desc := "()I" } : Jvm.MethodName) prog_14_method_27_code (2 : Nat) (Option.some Jvm.ClassFile.FieldType.int)) ∈ lw_all := lw_g (lw_at lw_m8 126 rfl) rfl
theorem q2006 : (Jvm.Cond.methodLink "ClassHouseModel" (324 : Nat) ({ cls := "ClassHouseModel", name := "single", desc := "()I" } : Jvm.MethodName)) ∈ lw_all := lw_g (lw_at lw_m8 127 rfl) rfl
theorem q2007 : (Jvm.Cond.privateMethod ({ cls := "ClassHouseModel", name := "single", desc := "()I" } : Jvm.MethodName)) ∈ lw_tbl := lw_at lw_m8 128 rfl
theorem q2008 : (Jvm.Cond.instanceMethod ({ cls := "ClassHouseModel", name := "single", desc := "()I" } : Jvm.MethodName)) ∈ lw_all := lw_g (lw_at lw_m8 129 rfl) rfl
theorem q2009 : (Jvm.Cond.code ({ cls := "ClassHouseModel", name := "single", desc := "()I" } : Jvm.MethodName) prog_14_method_28_code (3 : Nat) (Option.some Jvm.ClassFile.FieldType.int)) ∈ lw_all := lw_g (lw_at lw_m8 130 rfl) rfl
theorem q2010 : (Jvm.Cond.methodLink "ClassHouseModel" (336 : Nat) ({ cls := "ClassHouseModel", name := "chain", desc := "()I" } : Jvm.MethodName)) ∈ lw_all := lw_g (lw_at lw_m8 131 rfl) rfl
theorem q2011 : (Jvm.Cond.privateMethod ({ cls := "ClassHouseModel", name := "chain", desc := "()I" } : Jvm.MethodName)) ∈ lw_tbl := lw_at lw_m8 132 rfl
theorem q2012 : (Jvm.Cond.instanceMethod ({ cls := "ClassHouseModel", name := "chain", desc := "()I" } : Jvm.MethodName)) ∈ lw_all := lw_g (lw_at lw_m8 133 rfl) rfl
theorem q2013 : (Jvm.Cond.code ({ cls := "ClassHouseModel", name := "chain", desc := "()I" } : Jvm.MethodName) prog_14_method_29_code (4 : Nat) (Option.some Jvm.ClassFile.FieldType.int)) ∈ lw_all := lw_g (lw_at lw_m8 134 rfl) rfl
theorem q2014 : (Jvm.Cond.methodLink "ClassHouseModel" (342 : Nat) ({ cls := "ClassHouseModel", name := "first", desc := "()I" } : Jvm.MethodName)) ∈ lw_all := lw_g (lw_at lw_m8 135 rfl) rfl
theorem q2015 : (Jvm.Cond.privateMethod ({ cls := "ClassHouseModel", name := "first", desc := "()I" } : Jvm.MethodName)) ∈ lw_tbl := lw_at lw_m8 136 rfl
theorem q2016 : (Jvm.Cond.instanceMethod ({ cls := "ClassHouseModel", name := "first", desc := "()I" } : Jvm.MethodName)) ∈ lw_all := lw_g (lw_at lw_m8 137 rfl) rfl
theorem q2017 : (Jvm.Cond.code ({ cls := "ClassHouseModel", name := "first", desc := "()I" } : Jvm.MethodName) prog_14_method_31_code (3 : Nat) (Option.some Jvm.ClassFile.FieldType.int)) ∈ lw_all := lw_g (lw_at lw_m8 138 rfl) rfl
theorem q2018 : (Jvm.Cond.methodLink "ClassHouseModel" (308 : Nat) ({ cls := "ClassHouseModel", name := "node", desc := "(IIII)I" } : Jvm.MethodName)) ∈ lw_all := lw_g (lw_at lw_m8 139 rfl) rfl
theorem q2019 : (Jvm.Cond.privateMethod ({ cls := "ClassHouseModel", name := "node", desc := "(IIII)I" } : Jvm.MethodName)) ∈ lw_tbl := lw_at lw_m8 140 rfl
theorem q2020 : (Jvm.Cond.instanceMethod ({ cls := "ClassHouseModel", name := "node", desc := "(IIII)I" } : Jvm.MethodName)) ∈ lw_all := lw_g (lw_at lw_m8 141 rfl) rfl
theorem q2021 : (Jvm.Cond.code ({ cls := "ClassHouseModel", name := "node", desc := "(IIII)I" } : Jvm.MethodName) prog_14_method_20_code (5 : Nat) (Option.some Jvm.ClassFile.FieldType.int)) ∈ lw_all := lw_g (lw_at lw_m8 142 rfl) rfl
theorem q2022 : (Jvm.Cond.methodLink "ClassHouseModel" (345 : Nat) ({ cls := "ClassHouseModel", name := "called", desc := "(III)I" } : Jvm.MethodName)) ∈ lw_all := lw_g (lw_at lw_m8 143 rfl) rfl
theorem q2023 : (Jvm.Cond.privateMethod ({ cls := "ClassHouseModel", name := "called", desc := "(III)I" } : Jvm.MethodName)) ∈ lw_tbl := lw_at lw_m8 144 rfl
theorem q2024 : (Jvm.Cond.instanceMethod ({ cls := "ClassHouseModel", name := "called", desc := "(III)I" } : Jvm.MethodName)) ∈ lw_all := lw_g (lw_at lw_m8 145 rfl) rfl
theorem q2025 : (Jvm.Cond.code ({ cls := "ClassHouseModel", name := "called", desc := "(III)I" } : Jvm.MethodName) prog_14_method_30_code (9 : Nat) (Option.some Jvm.ClassFile.FieldType.int)) ∈ lw_all := lw_g (lw_at lw_m8 146 rfl) rfl
theorem q2026 : (Jvm.Cond.constantLong "ClassHouseModel" (362 : Nat) (14 : Int64)) ∈ lw_all := lw_g (lw_at lw_m8 147 rfl) rfl
theorem q2027 : (Jvm.Cond.constantLong "ClassHouseModel" (364 : Nat) (19 : Int64)) ∈ lw_all := lw_g (lw_at lw_m8 148 rfl) rfl
theorem q2028 : (Jvm.Cond.methodLink "ClassHouseModel" (327 : Nat) ({ cls := "ClassHouseModel", name := "signed", desc := "(I)I" } : Jvm.MethodName)) ∈ lw_all := lw_g (lw_at lw_m8 149 rfl) rfl
theorem q2029 : (Jvm.Cond.privateMethod ({ cls := "ClassHouseModel", name := "signed", desc := "(I)I" } : Jvm.MethodName)) ∈ lw_tbl := lw_at lw_m8 150 rfl
theorem q2030 : (Jvm.Cond.instanceMethod ({ cls := "ClassHouseModel", name := "signed", desc := "(I)I" } : Jvm.MethodName)) ∈ lw_all := lw_g (lw_at lw_m8 151 rfl) rfl
theorem q2031 : (Jvm.Cond.code ({ cls := "ClassHouseModel", name := "signed", desc := "(I)I" } : Jvm.MethodName) prog_14_method_23_code (4 : Nat) (Option.some Jvm.ClassFile.FieldType.int)) ∈ lw_all := lw_g (lw_at lw_m8 152 rfl) rfl
theorem q2032 : (Jvm.Cond.methodLink "ClassHouseModel" (388 : Nat) ({ cls := "ClassHouseModel", name := "inParentheses", desc := "()I" } : Jvm.MethodName)) ∈ lw_all := lw_g (lw_at lw_m8 153 rfl) rfl
theorem q2033 : (Jvm.Cond.privateMethod ({ cls := "ClassHouseModel", name := "inParentheses", desc := "()I" } : Jvm.MethodName)) ∈ lw_tbl := lw_at lw_m8 154 rfl
theorem q2034 : (Jvm.Cond.instanceMethod ({ cls := "ClassHouseModel", name := "inParentheses", desc := "()I" } : Jvm.MethodName)) ∈ lw_all := lw_g (lw_at lw_m8 155 rfl) rfl
theorem q2035 : (Jvm.Cond.code ({ cls := "ClassHouseModel", name := "inParentheses", desc := "()I" } : Jvm.MethodName) prog_14_method_36_code (2 : Nat) (Option.some Jvm.ClassFile.FieldType.int)) ∈ lw_all := lw_g (lw_at lw_m8 156 rfl) rfl
theorem q2036 : (Jvm.Cond.methodLink "ClassHouseModel" (394 : Nat) ({ cls := "ClassHouseModel", name := "placed", desc := "()I" } : Jvm.MethodName)) ∈ lw_all := lw_g (lw_at lw_m8 157 rfl) rfl
theorem q2037 : (Jvm.Cond.privateMethod ({ cls := "ClassHouseModel", name := "placed", desc := "()I" } : Jvm.MethodName)) ∈ lw_tbl := lw_at lw_m8 158 rfl
theorem q2038 : (Jvm.Cond.instanceMethod ({ cls := "ClassHouseModel", name := "placed", desc := "()I" } : Jvm.MethodName)) ∈ lw_all := lw_g (lw_at lw_m8 159 rfl) rfl
theorem q2039 : (Jvm.Cond.code ({ cls := "ClassHouseModel", name := "placed", desc := "()I" } : Jvm.MethodName) prog_14_method_39_code (4 : Nat) (Option.some Jvm.ClassFile.FieldType.int)) ∈ lw_all := lw_g (lw_at lw_m8 160 rfl) rfl
theorem q2040 : (Jvm.Cond.methodLink "ClassHouseModel" (451 : Nat) ({ cls := "ClassHouseModel", name := "checkClasses", desc := "()V" } : Jvm.MethodName)) ∈ lw_all := lw_g (lw_at lw_m8 161 rfl) rfl
theorem q2041 : (Jvm.Cond.privateMethod ({ cls := "ClassHouseModel", name := "checkClasses", desc := "()V" } : Jvm.MethodName)) ∈ lw_tbl := lw_at lw_m8 162 rfl
theorem q2042 : (Jvm.Cond.instanceMethod ({ cls := "ClassHouseModel", name := "checkClasses", desc := "()V" } : Jvm.MethodName)) ∈ lw_all := lw_g (lw_at lw_m8 163 rfl) rfl
theorem q2043 : (Jvm.Cond.code ({ cls := "ClassHouseModel", name := "checkClasses", desc := "()V" } : Jvm.MethodName) prog_14_method_48_code (4 : Nat) (Option.none : Option Jvm.ClassFile.FieldType)) ∈ lw_all := lw_g (lw_at lw_m8 164 rfl) rfl
theorem q2044 : (Jvm.Cond.methodLink "ClassHouseModel" (412 : Nat) ({ cls := "ClassHouseModel", name := "classOf", desc := "(I)I" } : Jvm.MethodName)) ∈ lw_all := lw_g (lw_at lw_m8 165 rfl) rfl
theorem q2045 : (Jvm.Cond.privateMethod ({ cls := "ClassHouseModel", name := "classOf", desc := "(I)I" } : Jvm.MethodName)) ∈ lw_tbl := lw_at lw_m8 166 rfl
theorem q2046 : (Jvm.Cond.instanceMethod ({ cls := "ClassHouseModel", name := "classOf", desc := "(I)I" } : Jvm.MethodName)) ∈ lw_all := lw_g (lw_at lw_m8 167 rfl) rfl
theorem q2047 : (Jvm.Cond.code ({ cls := "ClassHouseModel", name := "classOf", desc := "(I)I" } : Jvm.MethodName) prog_14_method_43_code (3 : Nat) (Option.some Jvm.ClassFile.FieldType.int)) ∈ lw_all := lw_g (lw_at lw_m8 168 rfl) rfl
theorem q2048 : (Jvm.Cond.methodLink "ClassHouseModel" (419 : Nat) ({ cls := "ClassHouseModel", name := "isBad", desc := "(I)V" } : Jvm.MethodName)) ∈ lw_all := lw_g (lw_at lw_m8 169 rfl) rfl
theorem q2049 : (Jvm.Cond.privateMethod ({ cls := "ClassHouseModel", name := "isBad", desc := "(I)V" } : Jvm.MethodName)) ∈ lw_tbl := lw_at lw_m8 170 rfl
theorem q2050 : (Jvm.Cond.instanceMethod ({ cls := "ClassHouseModel", name := "isBad", desc := "(I)V" } : Jvm.MethodName)) ∈ lw_all := lw_g (lw_at lw_m8 171 rfl) rfl
theorem q2051 : (Jvm.Cond.code ({ cls := "ClassHouseModel", name := "isBad", desc := "(I)V" } : Jvm.MethodName) prog_14_method_42_code (2 : Nat) (Option.none : Option Jvm.ClassFile.FieldType)) ∈ lw_all := lw_g (lw_at lw_m8 172 rfl) rfl
theorem q2052 : (Jvm.Cond.methodLink "ClassHouseModel" (454 : Nat) ({ cls := "ClassHouseModel", name := "checkMembers", desc := "()V" } : Jvm.MethodName)) ∈ lw_all := lw_g (lw_at lw_m8 173 rfl) rfl
theorem q2053 : (Jvm.Cond.privateMethod ({ cls := "ClassHouseModel", name := "checkMembers", desc := "()V" } : Jvm.MethodName)) ∈ lw_tbl := lw_at lw_m8 174 rfl
theorem q2054 : (Jvm.Cond.instanceMethod ({ cls := "ClassHouseModel", name := "checkMembers", desc := "()V" } : Jvm.MethodName)) ∈ lw_all := lw_g (lw_at lw_m8 175 rfl) rfl
theorem q2055 : (Jvm.Cond.code ({ cls := "ClassHouseModel", name := "checkMembers", desc := "()V" } : Jvm.MethodName) prog_14_method_51_code (4 : Nat) (Option.none : Option Jvm.ClassFile.FieldType)) ∈ lw_all := lw_g (lw_at lw_m8 176 rfl) rfl
theorem q2056 : (Jvm.Cond.methodLink "ClassHouseModel" (426 : Nat) ({ cls := "ClassHouseModel", name := "meant", desc := "(I)I" } : Jvm.MethodName)) ∈ lw_all := lw_g (lw_at lw_m8 177 rfl) rfl
theorem q2057 : (Jvm.Cond.privateMethod ({ cls := "ClassHouseModel", name := "meant", desc := "(I)I" } : Jvm.MethodName)) ∈ lw_tbl := lw_at lw_m8 178 rfl
theorem q2058 : (Jvm.Cond.instanceMethod ({ cls := "ClassHouseModel", name := "meant", desc := "(I)I" } : Jvm.MethodName)) ∈ lw_all := lw_g (lw_at lw_m8 179 rfl) rfl
theorem q2059 : (Jvm.Cond.code ({ cls := "ClassHouseModel", name := "meant", desc := "(I)I" } : Jvm.MethodName) prog_14_method_44_code (3 : Nat) (Option.some Jvm.ClassFile.FieldType.int)) ∈ lw_all := lw_g (lw_at lw_m8 180 rfl) rfl
theorem q2060 : (Jvm.Cond.methodLink "ClassHouseModel" (429 : Nat) ({ cls := "ClassHouseModel", name := "isRightMethod", desc := "(II)Z" } : Jvm.MethodName)) ∈ lw_all := lw_g (lw_at lw_m8 181 rfl) rfl
theorem q2061 : (Jvm.Cond.privateMethod ({ cls := "ClassHouseModel", name := "isRightMethod", desc := "(II)Z" } : Jvm.MethodName)) ∈ lw_tbl := lw_at lw_m8 182 rfl
theorem q2062 : (Jvm.Cond.instanceMethod ({ cls := "ClassHouseModel", name := "isRightMethod", desc := "(II)Z" } : Jvm.MethodName)) ∈ lw_all := lw_g (lw_at lw_m8 183 rfl) rfl
theorem q2063 : (Jvm.Cond.code ({ cls := "ClassHouseModel", name := "isRightMethod", desc := "(II)Z" } : Jvm.MethodName) prog_14_method_50_code (7 : Nat) (Option.some Jvm.ClassFile.FieldType.boolean)) ∈ lw_all := lw_g (lw_at lw_m8 184 rfl) rfl
theorem q2064 : (Jvm.Cond.methodLink "ClassHouseModel" (422 : Nat) ({ cls := "ClassHouseModel", name := "memberOf", desc := "(IIZ)I" } : Jvm.MethodName)) ∈ lw_all := lw_g (lw_at lw_m8 185 rfl) rfl
theorem q2065 : (Jvm.Cond.privateMethod ({ cls := "ClassHouseModel", name := "memberOf", desc := "(IIZ)I" } : Jvm.MethodName)) ∈ lw_tbl := lw_at lw_m8 186 rfl
theorem q2066 : (Jvm.Cond.instanceMethod ({ cls := "ClassHouseModel", name := "memberOf", desc := "(IIZ)I" } : Jvm.MethodName)) ∈ lw_all := lw_g (lw_at lw_m8 187 rfl) rfl
theorem q2067 : (Jvm.Cond.code ({ cls := "ClassHouseModel", name := "memberOf", desc := "(IIZ)I" } : Jvm.MethodName) prog_14_method_47_code (6 : Nat) (Option.some Jvm.ClassFile.FieldType.int)) ∈ lw_all := lw_g (lw_at lw_m8 188 rfl) rfl
theorem q2068 : (Jvm.Cond.methodLink "ClassHouseModel" (432 : Nat) ({ cls := "ClassHouseModel", name := "isField", desc := "(II)Z" } : Jvm.MethodName)) ∈ lw_all := lw_g (lw_at lw_m8 189 rfl) rfl
theorem q2069 : (Jvm.Cond.privateMethod ({ cls := "ClassHouseModel", name := "isField", desc := "(II)Z" } : Jvm.MethodName)) ∈ lw_tbl := lw_at lw_m8 190 rfl
theorem q2070 : (Jvm.Cond.instanceMethod ({ cls := "ClassHouseModel", name := "isField", desc := "(II)Z" } : Jvm.MethodName)) ∈ lw_all := lw_g (lw_at lw_m8 191 rfl) rfl
theorem q2071 : (Jvm.Cond.code ({ cls := "ClassHouseModel", name := "isField", desc := "(II)Z" } : Jvm.MethodName) prog_14_method_49_code (4 : Nat) (Option.some Jvm.ClassFile.FieldType.boolean)) ∈ lw_all := lw_g (lw_at lw_m8 192 rfl) rfl
theorem q2072 : (Jvm.Cond.methodLink "ClassHouseModel" (460 : Nat) ({ cls := "ClassHouseModel", name := "setSlots", desc := "(I)I" } : Jvm.MethodName)) ∈ lw_all := lw_g (lw_at lw_m8 193 rfl) rfl
theorem q2073 : (Jvm.Cond.privateMethod ({ cls := "ClassHouseModel", name := "setSlots", desc := "(I)I" } : Jvm.MethodName)) ∈ lw_tbl := lw_at lw_m8 194 rfl
theorem q2074 : (Jvm.Cond.instanceMethod ({ cls := "ClassHouseModel", name := "setSlots", desc := "(I)I" } : Jvm.MethodName)) ∈ lw_all := lw_g (lw_at lw_m8 195 rfl) rfl
theorem q2075 : (Jvm.Cond.code ({ cls := "ClassHouseModel", name := "setSlots", desc := "(I)I" } : Jvm.MethodName) prog_14_method_52_code (5 : Nat) (Option.some Jvm.ClassFile.FieldType.int)) ∈ lw_all := lw_g (lw_at lw_m8 196 rfl) rfl
theorem q2076 : (Jvm.Cond.methodLink "ClassHouseModel" (463 : Nat) ({ cls := "ClassHouseModel", name := "checkMethod", desc := "(II)V" } : Jvm.MethodName)) ∈ lw_all := lw_g (lw_at lw_m8 197 rfl) rfl
theorem q2077 : (Jvm.Cond.privateMethod ({ cls := "ClassHouseModel", name := "checkMethod", desc := "(II)V" } : Jvm.MethodName)) ∈ lw_tbl := lw_at lw_m8 198 rfl
theorem q2078 : (Jvm.Cond.instanceMethod ({ cls := "ClassHouseModel", name := "checkMethod", desc := "(II)V" } : Jvm.MethodName)) ∈ lw_all := lw_g (lw_at lw_m8 199 rfl) rfl
theorem q2079 : (Jvm.Cond.code ({ cls := "ClassHouseModel", name := "checkMethod", desc := "(II)V" } : Jvm.MethodName) prog_14_method_56_code (4 : Nat) (Option.none : Option Jvm.ClassFile.FieldType)) ∈ lw_all := lw_g (lw_at lw_m8 200 rfl) rfl
theorem q2080 : (Jvm.Cond.methodLink "ClassHouseModel" (479 : Nat) ({ cls := "ClassHouseModel", name := "addVariable", desc := "(IIZ)V" } : Jvm.MethodName)) ∈ lw_all := lw_g (lw_at lw_m8 201 rfl) rfl
theorem q2081 : (Jvm.Cond.privateMethod ({ cls := "ClassHouseModel", name := "addVariable", desc := "(IIZ)V" } : Jvm.MethodName)) ∈ lw_tbl := lw_at lw_m8 202 rfl
theorem q2082 : (Jvm.Cond.instanceMethod ({ cls := "ClassHouseModel", name := "addVariable", desc := "(IIZ)V" } : Jvm.MethodName)) ∈ lw_all := lw_g (lw_at lw_m8 203 rfl) rfl
theorem q2083 : (Jvm.Cond.code ({ cls := "ClassHouseModel", name := "addVariable", desc := "(IIZ)V" } : Jvm.MethodName) prog_14_method_55_code (4 : Nat) (Option.none : Option Jvm.ClassFile.FieldType)) ∈ lw_all := lw_g (lw_at lw_m8 204 rfl) rfl
theorem q2084 : (Jvm.Cond.methodLink "ClassHouseModel" (483 : Nat) ({ cls := "ClassHouseModel", name := "checkBlock", desc := "(II)V" } : Jvm.MethodName)) ∈ lw_all := lw_g (lw_at lw_m8 205 rfl) rfl
theorem q2085 : (Jvm.Cond.privateMethod ({ cls := "ClassHouseModel", name := "checkBlock", desc := "(II)V" } : Jvm.MethodName)) ∈ lw_tbl := lw_at lw_m8 206 rfl
theorem q2086 : (Jvm.Cond.instanceMethod ({ cls := "ClassHouseModel", name := "checkBlock", desc := "(II)V" } : Jvm.MethodName)) ∈ lw_all := lw_g (lw_at lw_m8 207 rfl) rfl
theorem q2087 : (Jvm.Cond.code ({ cls := "ClassHouseModel", name := "checkBlock", desc := "(II)V" } : Jvm.MethodName) prog_14_method_57_code (5 : Nat) (Option.none : Option Jvm.ClassFile.FieldType)) ∈ lw_all := lw_g (lw_at lw_m8 208 rfl) rfl
theorem q2088 : (Jvm.Cond.methodLink "ClassHouseModel" (486 : Nat) ({ cls := "ClassHouseModel", name := "checkOne", desc := "(II)V" } : Jvm.MethodName)) ∈ lw_all := lw_g (lw_at lw_m8 209 rfl) rfl
theorem q2089 : (Jvm.Cond.privateMethod ({ cls := "ClassHouseModel", name := "checkOne", desc := "(II)V" } : Jvm.MethodName)) ∈ lw_tbl := lw_at lw_m8 210 rfl
theorem q2090 : (Jvm.Cond.instanceMethod ({ cls := "ClassHouseModel", name := "checkOne", desc := "(II)V" } : Jvm.MethodName)) ∈ lw_all := lw_g (lw_at lw_m8 211 rfl) rfl
theorem q2091 : (Jvm.Cond.code ({ cls := "ClassHouseModel", name := "checkOne", desc := "(II)V" } : Jvm.MethodName) prog_14_method_63_code (8 : Nat) (Option.none : Option Jvm.ClassFile.FieldType)) ∈ lw_all := lw_g (lw_at lw_m8 212 rfl) rfl
theorem q2092 : (Jvm.Cond.methodLink "ClassHouseModel" (489 : Nat) ({ cls := "ClassHouseModel", name := "checkNodes", desc := "(III)Z" } : Jvm.MethodName)) ∈ lw_all := lw_g (lw_at lw_m8 213 rfl) rfl
theorem q2093 : (Jvm.Cond.privateMethod ({ cls := "ClassHouseModel", name := "checkNodes", desc := "(III)Z" } : Jvm.MethodName)) ∈ lw_tbl := lw_at lw_m8 214 rfl
theorem q2094 : (Jvm.Cond.instanceMethod ({ cls := "ClassHouseModel", name := "checkNodes", desc := "(III)Z" } : Jvm.MethodName)) ∈ lw_all := lw_g (lw_at lw_m8 215 rfl) rfl
theorem q2095 : (Jvm.Cond.code ({ cls := "ClassHouseModel", name := "checkNodes", desc := "(III)Z" } : Jvm.MethodName) prog_14_method_68_code (6 : Nat) (Option.some Jvm.ClassFile.FieldType.boolean)) ∈ lw_all := lw_g (lw_at lw_m8 216 rfl) rfl
theorem q2096 : (Jvm.Cond.methodLink "ClassHouseModel" (527 : Nat) ({ cls := "ClassHouseModel", name := "checkNode", desc := "(II)Z" } : Jvm.MethodName)) ∈ lw_all := lw_g (lw_at lw_m8 217 rfl) rfl
theorem q2097 : (Jvm.Cond.privateMethod ({ cls := "ClassHouseModel", name := "checkNode", desc := "(II)Z" } : Jvm.MethodName)) ∈ lw_tbl := lw_at lw_m8 218 rfl
theorem q2098 : (Jvm.Cond.instanceMethod ({ cls := "ClassHouseModel", name := "checkNode", desc := "(II)Z" } : Jvm.MethodName)) ∈ lw_all := lw_g (lw_at lw_m8 219 rfl) rfl
theorem q2099 : (Jvm.Cond.code ({ cls := "ClassHouseModel", name := "checkNode", desc := "(II)Z" } : Jvm.MethodName) prog_14_method_69_code (8 : Nat) (Option.some Jvm.ClassFile.FieldType.boolean)) ∈ lw_all := lw_g (lw_at lw_m8 220 rfl) rfl
theorem q2100 : (Jvm.Cond.methodLink "ClassHouseModel" (530 : Nat) ({ cls := "ClassHouseModel", name := "named", desc := "(II)I" } : Jvm.MethodName)) ∈ lw_all := lw_g (lw_at lw_m8 221 rfl) rfl
theorem q2101 : (Jvm.Cond.privateMethod ({ cls := "ClassHouseModel", name := "named", desc := "(II)I" } : Jvm.MethodName)) ∈ lw_tbl := lw_at lw_m8 222 rfl
theorem q2102 : (Jvm.Cond.instanceMethod ({ cls := "ClassHouseModel", name := "named", desc := "(II)I" } : Jvm.MethodName)) ∈ lw_all := lw_g (lw_at lw_m8 223 rfl) rfl
theorem q2103 : (Jvm.Cond.code ({ cls := "ClassHouseModel", name := "named", desc := "(II)I" } : Jvm.MethodName) prog_14_method_73_code (5 : Nat) (Option.some Jvm.ClassFile.FieldType.int)) ∈ lw_all := lw_g (lw_at lw_m8 224 rfl) rfl
theorem q2104 : (Jvm.Cond.methodLink "ClassHouseModel" (496 : Nat) ({ cls := "ClassHouseModel", name := "variableOf", desc := "(I)I" } : Jvm.MethodName)) ∈ lw_all := lw_g (lw_at lw_m8 225 rfl) rfl
theorem q2105 : (Jvm.Cond.privateMethod ({ cls := "ClassHouseModel", name := "variableOf", desc := "(I)I" } : Jvm.MethodName)) ∈ lw_tbl := lw_at lw_m8 226 rfl
theorem q2106 : (Jvm.Cond.instanceMethod ({ cls := "ClassHouseModel", name := "variableOf", desc := "(I)I" } : Jvm.MethodName)) ∈ lw_all := lw_g (lw_at lw_m8 227 rfl) rfl
theorem q2107 : (Jvm.Cond.code ({ cls := "ClassHouseModel", name := "variableOf", desc := "(I)I" } : Jvm.MethodName) prog_14_method_54_code (3 : Nat) (Option.some Jvm.ClassFile.FieldType.int)) ∈ lw_all := lw_g (lw_at lw_m8 228 rfl) rfl
theorem q2108 : (Jvm.Cond.methodLink "ClassHouseModel" (534 : Nat) ({ cls := "ClassHouseModel", name := "meantClass", desc := "(I)I" } : Jvm.MethodName)) ∈ lw_all := lw_g (lw_at lw_m8 229 rfl) rfl
theorem q2109 : (Jvm.Cond.privateMethod ({ cls := "ClassHouseModel", name := "meantClass", desc := "(I)I" } : Jvm.MethodName)) ∈ lw_tbl := lw_at lw_m8 230 rfl
theorem q2110 : (Jvm.Cond.instanceMethod ({ cls := "ClassHouseModel", name := "meantClass", desc := "(I)I" } : Jvm.MethodName)) ∈ lw_all := lw_g (lw_at lw_m8 231 rfl) rfl
theorem q2111 : (Jvm.Cond.code ({ cls := "ClassHouseModel", name := "meantClass", desc := "(I)I" } : Jvm.MethodName) prog_14_method_70_code (3 : Nat) (Option.some Jvm.ClassFile.FieldType.int)) ∈ lw_all := lw_g (lw_at lw_m8 232 rfl) rfl
theorem q2112 : (Jvm.Cond.methodLink "ClassHouseModel" (537 : Nat) ({ cls := "ClassHouseModel", name := "field", desc := "(II)I" } : Jvm.MethodName)) ∈ lw_all := lw_g (lw_at lw_m8 233 rfl) rfl
theorem q2113 : (Jvm.Cond.privateMethod ({ cls := "ClassHouseModel", name := "field", desc := "(II)I" } : Jvm.MethodName)) ∈ lw_tbl := lw_at lw_m8 234 rfl
theorem q2114 : (Jvm.Cond.instanceMethod ({ cls := "ClassHouseModel", name := "field", desc := "(II)I" } : Jvm.MethodName)) ∈ lw_all := lw_g (lw_at lw_m8 235 rfl) rfl
theorem q2115 : (Jvm.Cond.code ({ cls := "ClassHouseModel", name := "field", desc := "(II)I" } : Jvm.MethodName) prog_14_method_74_code (5 : Nat) (Option.some Jvm.ClassFile.FieldType.int)) ∈ lw_all := lw_g (lw_at lw_m8 236 rfl) rfl
theorem q2116 : (Jvm.Cond.methodLink "ClassHouseModel" (540 : Nat) ({ cls := "ClassHouseModel", name := "call", desc := "(II)I" } : Jvm.MethodName)) ∈ lw_all := lw_g (lw_at lw_m8 237 rfl) rfl
theorem q2117 : (Jvm.Cond.privateMethod ({ cls := "ClassHouseModel", name := "call", desc := "(II)I" } : Jvm.MethodName)) ∈ lw_tbl := lw_at lw_m8 238 rfl
theorem q2118 : (Jvm.Cond.instanceMethod ({ cls := "ClassHouseModel", name := "call", desc := "(II)I" } : Jvm.MethodName)) ∈ lw_all := lw_g (lw_at lw_m8 239 rfl) rfl
theorem q2119 : (Jvm.Cond.code ({ cls := "ClassHouseModel", name := "call", desc := "(II)I" } : Jvm.MethodName) prog_14_method_75_code (8 : Nat) (Option.some Jvm.ClassFile.FieldType.int)) ∈ lw_all := lw_g (lw_at lw_m9 0 rfl) rfl
theorem q2120 : (Jvm.Cond.methodLink "ClassHouseModel" (499 : Nat) ({ cls := "ClassHouseModel", name := "isSub", desc := "(II)Z" } : Jvm.MethodName)) ∈ lw_all := lw_g (lw_at lw_m9 1 rfl) rfl
theorem q2121 : (Jvm.Cond.privateMethod ({ cls := "ClassHouseModel", name := "isSub", desc := "(II)Z" } : Jvm.MethodName)) ∈ lw_tbl := lw_at lw_m9 2 rfl
theorem q2122 : (Jvm.Cond.instanceMethod ({ cls := "ClassHouseModel", name := "isSub", desc := "(II)Z" } : Jvm.MethodName)) ∈ lw_all := lw_g (lw_at lw_m9 3 rfl) rfl
theorem q2123 : (Jvm.Cond.code ({ cls := "ClassHouseModel", name := "isSub", desc := "(II)Z" } : Jvm.MethodName) prog_14_method_46_code (3 : Nat) (Option.some Jvm.ClassFile.FieldType.boolean)) ∈ lw_all := lw_g (lw_at lw_m9 4 rfl) rfl
theorem q2124 : (Jvm.Cond.methodLink "ClassHouseModel" (415 : Nat) ({ cls := "ClassHouseModel", name := "isUnder", desc := "(II)Z" } : Jvm.MethodName)) ∈ lw_all := lw_g (lw_at lw_m9 5 rfl) rfl
theorem q2125 : (Jvm.Cond.privateMethod ({ cls := "ClassHouseModel", name := "isUnder", desc := "(II)Z" } : Jvm.MethodName)) ∈ lw_tbl := lw_at lw_m9 6 rfl
theorem q2126 : (Jvm.Cond.instanceMethod ({ cls := "ClassHouseModel", name := "isUnder", desc := "(II)Z" } : Jvm.MethodName)) ∈ lw_all := lw_g (lw_at lw_m9 7 rfl) rfl
theorem q2127 : (Jvm.Cond.code ({ cls := "ClassHouseModel", name := "isUnder", desc := "(II)Z" } : Jvm.MethodName) prog_14_method_45_code (4 : Nat) (Option.some Jvm.ClassFile.FieldType.boolean)) ∈ lw_all := lw_g (lw_at lw_m9 8 rfl) rfl
theorem q2128 : (Jvm.Cond.methodLink "ClassHouseModel" (543 : Nat) ({ cls := "ClassHouseModel", name := "compared", desc := "(III)I" } : Jvm.MethodName)) ∈ lw_all := lw_g (lw_at lw_m9 9 rfl) rfl
theorem q2129 : (Jvm.Cond.privateMethod ({ cls := "ClassHouseModel", name := "compared", desc := "(III)I" } : Jvm.MethodName)) ∈ lw_tbl := lw_at lw_m9 10 rfl
theorem q2130 : (Jvm.Cond.instanceMethod ({ cls := "ClassHouseModel", name := "compared", desc := "(III)I" } : Jvm.MethodName)) ∈ lw_all := lw_g (lw_at lw_m9 11 rfl) rfl
theorem q2131 : (Jvm.Cond.code ({ cls := "ClassHouseModel", name := "compared", desc := "(III)I" } : Jvm.MethodName) prog_14_method_72_code (5 : Nat) (Option.some Jvm.ClassFile.FieldType.int)) ∈ lw_all := lw_g (lw_at lw_m9 12 rfl) rfl
theorem q2132 : (Jvm.Cond.methodLink "ClassHouseModel" (546 : Nat) ({ cls := "ClassHouseModel", name := "isObject", desc := "(I)Z" } : Jvm.MethodName)) ∈ lw_all := lw_g (lw_at lw_m9 13 rfl) rfl
theorem q2133 : (Jvm.Cond.static ({ cls := "ClassHouseModel", name := "isObject", desc := "(I)Z" } : Jvm.MethodName)) ∈ lw_all := lw_g (lw_at lw_m9 14 rfl) rfl
theorem q2134 : (Jvm.Cond.code ({ cls := "ClassHouseModel", name := "isObject", desc := "(I)Z" } : Jvm.MethodName) prog_14_method_71_code (1 : Nat) (Option.some Jvm.ClassFile.FieldType.boolean)) ∈ lw_all := lw_g (lw_at lw_m9 15 rfl) rfl
theorem q2135 : (Jvm.Cond.methodLink "ClassHouseModel" (493 : Nat) ({ cls := "ClassHouseModel", name := "typeOfValue", desc := "(I)I" } : Jvm.MethodName)) ∈ lw_all := lw_g (lw_at lw_m9 16 rfl) rfl
theorem q2136 : (Jvm.Cond.privateMethod ({ cls := "ClassHouseModel", name := "typeOfValue", desc := "(I)I" } : Jvm.MethodName)) ∈ lw_tbl := lw_at lw_m9 17 rfl
theorem q2137 : (Jvm.Cond.instanceMethod ({ cls := "ClassHouseModel", name := "typeOfValue", desc := "(I)I" } : Jvm.MethodName)) ∈ lw_all := lw_g (lw_at lw_m9 18 rfl) rfl
theorem q2138 : (Jvm.Cond.code ({ cls := "ClassHouseModel", name := "typeOfValue", desc := "(I)I" } : Jvm.MethodName) prog_14_method_61_code (2 : Nat) (Option.some Jvm.ClassFile.FieldType.int)) ∈ lw_all := lw_g (lw_at lw_m9 19 rfl) rfl
theorem q2139 : (Jvm.Cond.methodLink "ClassHouseModel" (502 : Nat) ({ cls := "ClassHouseModel", name := "isPlain", desc := "(I)Z" } : Jvm.MethodName)) ∈ lw_all := lw_g (lw_at lw_m9 20 rfl) rfl
theorem q2140 : (Jvm.Cond.privateMethod ({ cls := "ClassHouseModel", name := "isPlain", desc := "(I)Z" } : Jvm.MethodName)) ∈ lw_tbl := lw_at lw_m9 21 rfl
theorem q2141 : (Jvm.Cond.instanceMethod ({ cls := "ClassHouseModel", name := "isPlain", desc := "(I)Z" } : Jvm.MethodName)) ∈ lw_all := lw_g (lw_at lw_m9 22 rfl) rfl
theorem q2142 : (Jvm.Cond.code ({ cls := "ClassHouseModel", name := "isPlain", desc := "(I)Z" } : Jvm.MethodName) prog_14_method_62_code (2 : Nat) (Option.some Jvm.ClassFile.FieldType.boolean)) ∈ lw_all := lw_g (lw_at lw_m9 23 rfl) rfl
theorem q2143 : (Jvm.Cond.methodLink "ClassHouseModel" (505 : Nat) ({ cls := "ClassHouseModel", name := "checkPlace", desc := "(II)Z" } : Jvm.MethodName)) ∈ lw_all := lw_g (lw_at lw_m9 24 rfl) rfl
theorem q2144 : (Jvm.Cond.privateMethod ({ cls := "ClassHouseModel", name := "checkPlace", desc := "(II)Z" } : Jvm.MethodName)) ∈ lw_tbl := lw_at lw_m9 25 rfl
theorem q2145 : (Jvm.Cond.instanceMethod ({ cls := "ClassHouseModel", name := "checkPlace", desc := "(II)Z" } : Jvm.MethodName)) ∈ lw_all := lw_g (lw_at lw_m9 26 rfl) rfl
theorem q2146 : (Jvm.Cond.code ({ cls := "ClassHouseModel", name := "checkPlace", desc := "(II)Z" } : Jvm.MethodName) prog_14_method_64_code (4 : Nat) (Option.some Jvm.ClassFile.FieldType.boolean)) ∈ lw_all := lw_g (lw_at lw_m9 27 rfl) rfl
theorem q2147 : (Jvm.Cond.methodLink "ClassHouseModel" (508 : Nat) ({ cls := "ClassHouseModel", name := "checkIf", desc := "(II)V" } : Jvm.MethodName)) ∈ lw_all := lw_g (lw_at lw_m9 28 rfl) rfl
theorem q2148 : (Jvm.Cond.privateMethod ({ cls := "ClassHouseModel", name := "checkIf", desc := "(II)V" } : Jvm.MethodName)) ∈ lw_tbl := lw_at lw_m9 29 rfl
theorem q2149 : (Jvm.Cond.instanceMethod ({ cls := "ClassHouseModel", name := "checkIf", desc := "(II)V" } : Jvm.MethodName)) ∈ lw_all := lw_g (lw_at lw_m9 30 rfl) rfl
theorem q2150 : (Jvm.Cond.code ({ cls := "ClassHouseModel", name := "checkIf", desc := "(II)V" } : Jvm.MethodName) prog_14_method_65_code (5 : Nat) (Option.none : Option Jvm.ClassFile.FieldType)) ∈ lw_all := lw_g (lw_at lw_m9 31 rfl) rfl
theorem q2151 : (Jvm.Cond.methodLink "ClassHouseModel" (517 : Nat) ({ cls := "ClassHouseModel", name := "keepSets", desc := "(I)V" } : Jvm.MethodName)) ∈ lw_all := lw_g (lw_at lw_m9 32 rfl) rfl
theorem q2152 : (Jvm.Cond.privateMethod ({ cls := "ClassHouseModel", name := "keepSets", desc := "(I)V" } : Jvm.MethodName)) ∈ lw_tbl := lw_at lw_m9 33 rfl
theorem q2153 : (Jvm.Cond.instanceMethod ({ cls := "ClassHouseModel", name := "keepSets", desc := "(I)V" } : Jvm.MethodName)) ∈ lw_all := lw_g (lw_at lw_m9 34 rfl) rfl
theorem q2154 : (Jvm.Cond.code ({ cls := "ClassHouseModel", name := "keepSets", desc := "(I)V" } : Jvm.MethodName) prog_14_method_58_code (3 : Nat) (Option.none : Option Jvm.ClassFile.FieldType)) ∈ lw_all := lw_g (lw_at lw_m9 35 rfl) rfl
theorem q2155 : (Jvm.Cond.methodLink "ClassHouseModel" (520 : Nat) ({ cls := "ClassHouseModel", name := "backSets", desc := "(I)V" } : Jvm.MethodName)) ∈ lw_all := lw_g (lw_at lw_m9 36 rfl) rfl
theorem q2156 : (Jvm.Cond.privateMethod ({ cls := "ClassHouseModel", name := "backSets", desc := "(I)V" } : Jvm.MethodName)) ∈ lw_tbl := lw_at lw_m9 37 rfl
theorem q2157 : (Jvm.Cond.instanceMethod ({ cls := "ClassHouseModel", name := "backSets", desc := "(I)V" } : Jvm.MethodName)) ∈ lw_all := lw_g (lw_at lw_m9 38 rfl) rfl
theorem q2158 : (Jvm.Cond.code ({ cls := "ClassHouseModel", name := "backSets", desc := "(I)V" } : Jvm.MethodName) prog_14_method_59_code (3 : Nat) (Option.none : Option Jvm.ClassFile.FieldType)) ∈ lw_all := lw_g (lw_at lw_m9 39 rfl) rfl
theorem q2159 : (Jvm.Cond.methodLink "ClassHouseModel" (523 : Nat) ({ cls := "ClassHouseModel", name := "joinSets", desc := "(IZ)V" } : Jvm.MethodName)) ∈ lw_all := lw_g (lw_at lw_m9 40 rfl) rfl
theorem q2160 : (Jvm.Cond.privateMethod ({ cls := "ClassHouseModel", name := "joinSets", desc := "(IZ)V" } : Jvm.MethodName)) ∈ lw_tbl := lw_at lw_m9 41 rfl
theorem q2161 : (Jvm.Cond.instanceMethod ({ cls := "ClassHouseModel", name := "joinSets", desc := "(IZ)V" } : Jvm.MethodName)) ∈ lw_all := lw_g (lw_at lw_m9 42 rfl) rfl
theorem q2162 : (Jvm.Cond.code ({ cls := "ClassHouseModel", name := "joinSets", desc := "(IZ)V" } : Jvm.MethodName) prog_14_method_60_code (4 : Nat) (Option.none : Option Jvm.ClassFile.FieldType)) ∈ lw_all := lw_g (lw_at lw_m9 43 rfl) rfl
theorem q2163 : (Jvm.Cond.methodLink "ClassHouseModel" (511 : Nat) ({ cls := "ClassHouseModel", name := "checkWhile", desc := "(II)V" } : Jvm.MethodName)) ∈ lw_all := lw_g (lw_at lw_m9 44 rfl) rfl
theorem q2164 : (Jvm.Cond.privateMethod ({ cls := "ClassHouseModel", name := "checkWhile", desc := "(II)V" } : Jvm.MethodName)) ∈ lw_tbl := lw_at lw_m9 45 rfl
theorem q2165 : (Jvm.Cond.instanceMethod ({ cls := "ClassHouseModel", name := "checkWhile", desc := "(II)V" } : Jvm.MethodName)) ∈ lw_all := lw_g (lw_at lw_m9 46 rfl) rfl
theorem q2166 : (Jvm.Cond.code ({ cls := "ClassHouseModel", name := "checkWhile", desc := "(II)V" } : Jvm.MethodName) prog_14_method_66_code (4 : Nat) (Option.none : Option Jvm.ClassFile.FieldType)) ∈ lw_all := lw_g (lw_at lw_m9 47 rfl) rfl
theorem q2167 : (Jvm.Cond.methodLink "ClassHouseModel" (514 : Nat) ({ cls := "ClassHouseModel", name := "checkTry", desc := "(II)V" } : Jvm.MethodName)) ∈ lw_all := lw_g (lw_at lw_m9 48 rfl) rfl
theorem q2168 : (Jvm.Cond.privateMethod ({ cls := "ClassHouseModel", name := "checkTry", desc := "(II)V" } : Jvm.MethodName)) ∈ lw_tbl := lw_at lw_m9 49 rfl
theorem q2169 : (Jvm.Cond.instanceMethod ({ cls := "ClassHouseModel", name := "checkTry", desc := "(II)V" } : Jvm.MethodName)) ∈ lw_all := lw_g (lw_at lw_m9 50 rfl) rfl
theorem q2170 : (Jvm.Cond.code ({ cls := "ClassHouseModel", name := "checkTry", desc := "(II)V" } : Jvm.MethodName) prog_14_method_67_code (6 : Nat) (Option.none : Option Jvm.ClassFile.FieldType)) ∈ lw_all := lw_g (lw_at lw_m9 51 rfl) rfl
theorem q2172 : (Jvm.Cond.instanceMethod ({ cls := "ClassHouseModel", name := "feed", desc := "(IIIII)I" } : Jvm.MethodName)) ∈ lw_all := lw_g (lw_at lw_m9 53 rfl) rfl
theorem q2173 : (Jvm.Cond.selects "ClassHouseModel" ({ cls := "ClassHouseModel", name := "feed", desc := "(IIIII)I" } : Jvm.MethodName) ({ cls := "ClassHouseModel", name := "feed", desc := "(IIIII)I" } : Jvm.MethodName)) ∈ lw_all := lw_g (lw_at lw_m9 54 rfl) rfl
theorem q2174 : (Jvm.Cond.code ({ cls := "ClassHouseModel", name := "feed", desc := "(IIIII)I" } : Jvm.MethodName) prog_14_method_105_code (8 : Nat) (Option.some Jvm.ClassFile.FieldType.int)) ∈ lw_all := lw_g (lw_at lw_m9 55 rfl) rfl
theorem q2176 : (Jvm.Cond.instanceMethod ({ cls := "ClassHouseModel", name := "end", desc := "(I)I" } : Jvm.MethodName)) ∈ lw_all := lw_g (lw_at lw_m9 57 rfl) rfl
theorem q2177 : (Jvm.Cond.selects "ClassHouseModel" ({ cls := "ClassHouseModel", name := "end", desc := "(I)I" } : Jvm.MethodName) ({ cls := "ClassHouseModel", name := "end", desc := "(I)I" } : Jvm.MethodName)) ∈ lw_all := lw_g (lw_at lw_m9 58 rfl) rfl
theorem q2178 : (Jvm.Cond.code ({ cls := "ClassHouseModel", name := "end", desc := "(I)I" } : Jvm.MethodName) prog_14_method_106_code (2 : Nat) (Option.some Jvm.ClassFile.FieldType.int)) ∈ lw_all := lw_g (lw_at lw_m9 59 rfl) rfl
theorem q2180 : (Jvm.Cond.instanceMethod ({ cls := "ClassHouseModel", name := "heap", desc := "(I)I" } : Jvm.MethodName)) ∈ lw_all := lw_g (lw_at lw_m9 61 rfl) rfl
theorem q2181 : (Jvm.Cond.selects "ClassHouseModel" ({ cls := "ClassHouseModel", name := "heap", desc := "(I)I" } : Jvm.MethodName) ({ cls := "ClassHouseModel", name := "heap", desc := "(I)I" } : Jvm.MethodName)) ∈ lw_all := lw_g (lw_at lw_m9 62 rfl) rfl
theorem q2182 : (Jvm.Cond.code ({ cls := "ClassHouseModel", name := "heap", desc := "(I)I" } : Jvm.MethodName) prog_14_method_107_code (2 : Nat) (Option.some Jvm.ClassFile.FieldType.int)) ∈ lw_all := lw_g (lw_at lw_m9 63 rfl) rfl
theorem q2183 : (Jvm.Cond.constantLong "ClassHouseModel" (680 : Nat) (10 : Int64)) ∈ lw_all := lw_g (lw_at lw_m9 64 rfl) rfl
theorem q2184 : (Jvm.Cond.constantLong "ClassHouseModel" (682 : Nat) (10000 : Int64)) ∈ lw_all := lw_g (lw_at lw_m9 65 rfl) rfl
theorem q2186 : (Jvm.Cond.instanceMethod ({ cls := "ClassHouseModel", name := "input", desc := "(III)I" } : Jvm.MethodName)) ∈ lw_all := lw_g (lw_at lw_m9 67 rfl) rfl
theorem q2187 : (Jvm.Cond.selects "ClassHouseModel" ({ cls := "ClassHouseModel", name := "input", desc := "(III)I" } : Jvm.MethodName) ({ cls := "ClassHouseModel", name := "input", desc := "(III)I" } : Jvm.MethodName)) ∈ lw_all := lw_g (lw_at lw_m9 68 rfl) rfl
theorem q2188 : (Jvm.Cond.code ({ cls := "ClassHouseModel", name := "input", desc := "(III)I" } : Jvm.MethodName) prog_14_method_108_code (4 : Nat) (Option.some Jvm.ClassFile.FieldType.int)) ∈ lw_all := lw_g (lw_at lw_m9 69 rfl) rfl
theorem q2190 : (Jvm.Cond.instanceMethod ({ cls := "ClassHouseModel", name := "start", desc := "()I" } : Jvm.MethodName)) ∈ lw_all := lw_g (lw_at lw_m9 71 rfl) rfl
theorem q2191 : (Jvm.Cond.selects "ClassHouseModel" ({ cls := "ClassHouseModel", name := "start", desc := "()I" } : Jvm.MethodName) ({ cls := "ClassHouseModel", name := "start", desc := "()I" } : Jvm.MethodName)) ∈ lw_all := lw_g (lw_at lw_m9 72 rfl) rfl
theorem q2192 : (Jvm.Cond.code ({ cls := "ClassHouseModel", name := "start", desc := "()I" } : Jvm.MethodName) prog_14_method_109_code (3 : Nat) (Option.some Jvm.ClassFile.FieldType.int)) ∈ lw_all := lw_g (lw_at lw_m9 73 rfl) rfl
theorem q2193 : (Jvm.Cond.methodLink "ClassHouseModel" (684 : Nat) ({ cls := "java/lang/Math", name := "max", desc := "(II)I" } : Jvm.MethodName)) ∈ lw_all := lw_g (lw_at lw_m9 74 rfl) rfl
theorem q2194 : (Jvm.Cond.methodLink "ClassHouseModel" (632 : Nat) ({ cls := "ClassHouseModel", name := "object", desc := "(II)I" } : Jvm.MethodName)) ∈ lw_all := lw_g (lw_at lw_m9 75 rfl) rfl
theorem q2195 : (Jvm.Cond.privateMethod ({ cls := "ClassHouseModel", name := "object", desc := "(II)I" } : Jvm.MethodName)) ∈ lw_tbl := lw_at lw_m9 76 rfl
theorem q2196 : (Jvm.Cond.instanceMethod ({ cls := "ClassHouseModel", name := "object", desc := "(II)I" } : Jvm.MethodName)) ∈ lw_all := lw_g (lw_at lw_m9 77 rfl) rfl
theorem q2197 : (Jvm.Cond.code ({ cls := "ClassHouseModel", name := "object", desc := "(II)I" } : Jvm.MethodName) prog_14_method_81_code (6 : Nat) (Option.some Jvm.ClassFile.FieldType.int)) ∈ lw_all := lw_g (lw_at lw_m9 78 rfl) rfl
theorem q2198 : (Jvm.Cond.methodLink "ClassHouseModel" (650 : Nat) ({ cls := "ClassHouseModel", name := "begin", desc := "(IIII)V" } : Jvm.MethodName)) ∈ lw_all := lw_g (lw_at lw_m9 79 rfl) rfl
theorem q2199 : (Jvm.Cond.privateMethod ({ cls := "ClassHouseModel", name := "begin", desc := "(IIII)V" } : Jvm.MethodName)) ∈ lw_tbl := lw_at lw_m9 80 rfl
theorem q2200 : (Jvm.Cond.instanceMethod ({ cls := "ClassHouseModel", name := "begin", desc := "(IIII)V" } : Jvm.MethodName)) ∈ lw_all := lw_g (lw_at lw_m9 81 rfl) rfl
theorem q2201 : (Jvm.Cond.code ({ cls := "ClassHouseModel", name := "begin", desc := "(IIII)V" } : Jvm.MethodName) prog_14_method_99_code (7 : Nat) (Option.none : Option Jvm.ClassFile.FieldType)) ∈ lw_all := lw_g (lw_at lw_m9 82 rfl) rfl
theorem q2202 : (Jvm.Cond.methodLink "ClassHouseModel" (598 : Nat) ({ cls := "ClassHouseModel", name := "setLocal", desc := "(IIIZ)V" } : Jvm.MethodName)) ∈ lw_all := lw_g (lw_at lw_m9 83 rfl) rfl
theorem q2203 : (Jvm.Cond.privateMethod ({ cls := "ClassHouseModel", name := "setLocal", desc := "(IIIZ)V" } : Jvm.MethodName)) ∈ lw_tbl := lw_at lw_m9 84 rfl
theorem q2204 : (Jvm.Cond.instanceMethod ({ cls := "ClassHouseModel", name := "setLocal", desc := "(IIIZ)V" } : Jvm.MethodName)) ∈ lw_all := lw_g (lw_at lw_m9 85 rfl) rfl
theorem q2205 : (Jvm.Cond.code ({ cls := "ClassHouseModel", name := "setLocal", desc := "(IIIZ)V" } : Jvm.MethodName) prog_14_method_87_code (5 : Nat) (Option.none : Option Jvm.ClassFile.FieldType)) ∈ lw_all := lw_g (lw_at lw_m9 86 rfl) rfl
theorem q2206 : (Jvm.Cond.methodLink "ClassHouseModel" (596 : Nat) ({ cls := "ClassHouseModel", name := "todo", desc := "(II)V" } : Jvm.MethodName)) ∈ lw_all := lw_g (lw_at lw_m9 87 rfl) rfl
theorem q2207 : (Jvm.Cond.privateMethod ({ cls := "ClassHouseModel", name := "todo", desc := "(II)V" } : Jvm.MethodName)) ∈ lw_tbl := lw_at lw_m9 88 rfl
theorem q2208 : (Jvm.Cond.instanceMethod ({ cls := "ClassHouseModel", name := "todo", desc := "(II)V" } : Jvm.MethodName)) ∈ lw_all := lw_g (lw_at lw_m9 89 rfl) rfl
theorem q2209 : (Jvm.Cond.code ({ cls := "ClassHouseModel", name := "todo", desc := "(II)V" } : Jvm.MethodName) prog_14_method_83_code (3 : Nat) (Option.none : Option Jvm.ClassFile.FieldType)) ∈ lw_all := lw_g (lw_at lw_m9 90 rfl) rfl
theorem q2210 : (Jvm.Cond.methodLink "ClassHouseModel" (677 : Nat) ({ cls := "ClassHouseModel", name := "settle", desc := "()V" } : Jvm.MethodName)) ∈ lw_all := lw_g (lw_at lw_m9 91 rfl) rfl
theorem q2211 : (Jvm.Cond.privateMethod ({ cls := "ClassHouseModel", name := "settle", desc := "()V" } : Jvm.MethodName)) ∈ lw_tbl := lw_at lw_m9 92 rfl
theorem q2212 : (Jvm.Cond.instanceMethod ({ cls := "ClassHouseModel", name := "settle", desc := "()V" } : Jvm.MethodName)) ∈ lw_all := lw_g (lw_at lw_m9 93 rfl) rfl
theorem q2213 : (Jvm.Cond.code ({ cls := "ClassHouseModel", name := "settle", desc := "()V" } : Jvm.MethodName) prog_14_method_88_code (2 : Nat) (Option.none : Option Jvm.ClassFile.FieldType)) ∈ lw_all := lw_g (lw_at lw_m9 94 rfl) rfl
theorem q2214 : (Jvm.Cond.methodLink "ClassHouseModel" (611 : Nat) ({ cls := "ClassHouseModel", name := "isStep", desc := "()Z" } : Jvm.MethodName)) ∈ lw_all := lw_g (lw_at lw_m9 95 rfl) rfl
theorem q2215 : (Jvm.Cond.privateMethod ({ cls := "ClassHouseModel", name := "isStep", desc := "()Z" } : Jvm.MethodName)) ∈ lw_tbl := lw_at lw_m9 96 rfl
theorem q2216 : (Jvm.Cond.instanceMethod ({ cls := "ClassHouseModel", name := "isStep", desc := "()Z" } : Jvm.MethodName)) ∈ lw_all := lw_g (lw_at lw_m9 97 rfl) rfl
theorem q2217 : (Jvm.Cond.code ({ cls := "ClassHouseModel", name := "isStep", desc := "()Z" } : Jvm.MethodName) prog_14_method_90_code (2 : Nat) (Option.some Jvm.ClassFile.FieldType.boolean)) ∈ lw_all := lw_g (lw_at lw_m9 98 rfl) rfl
theorem q2218 : (Jvm.Cond.methodLink "ClassHouseModel" (620 : Nat) ({ cls := "ClassHouseModel", name := "isLeaf", desc := "(I)Z" } : Jvm.MethodName)) ∈ lw_all := lw_g (lw_at lw_m9 99 rfl) rfl
theorem q2219 : (Jvm.Cond.privateMethod ({ cls := "ClassHouseModel", name := "isLeaf", desc := "(I)Z" } : Jvm.MethodName)) ∈ lw_tbl := lw_at lw_m9 100 rfl
theorem q2220 : (Jvm.Cond.instanceMethod ({ cls := "ClassHouseModel", name := "isLeaf", desc := "(I)Z" } : Jvm.MethodName)) ∈ lw_all := lw_g (lw_at lw_m9 101 rfl) rfl
theorem q2221 : (Jvm.Cond.code ({ cls := "ClassHouseModel", name := "isLeaf", desc := "(I)Z" } : Jvm.MethodName) prog_14_method_89_code (2 : Nat) (Option.some Jvm.ClassFile.FieldType.boolean)) ∈ lw_all := lw_g (lw_at lw_m9 102 rfl) rfl
theorem q2222 : (Jvm.Cond.methodLink "ClassHouseModel" (614 : Nat) ({ cls := "ClassHouseModel", name := "unfold", desc := "(I)V" } : Jvm.MethodName)) ∈ lw_all := lw_g (lw_at lw_m9 103 rfl) rfl
theorem q2223 : (Jvm.Cond.privateMethod ({ cls := "ClassHouseModel", name := "unfold", desc := "(I)V" } : Jvm.MethodName)) ∈ lw_tbl := lw_at lw_m9 104 rfl
theorem q2224 : (Jvm.Cond.instanceMethod ({ cls := "ClassHouseModel", name := "unfold", desc := "(I)V" } : Jvm.MethodName)) ∈ lw_all := lw_g (lw_at lw_m9 105 rfl) rfl
theorem q2225 : (Jvm.Cond.code ({ cls := "ClassHouseModel", name := "unfold", desc := "(I)V" } : Jvm.MethodName) prog_14_method_91_code (4 : Nat) (Option.none : Option Jvm.ClassFile.FieldType)) ∈ lw_all := lw_g (lw_at lw_m9 106 rfl) rfl
theorem q2226 : (Jvm.Cond.methodLink "ClassHouseModel" (617 : Nat) ({ cls := "ClassHouseModel", name := "begins", desc := "(I)V" } : Jvm.MethodName)) ∈ lw_all := lw_g (lw_at lw_m9 107 rfl) rfl
theorem q2227 : (Jvm.Cond.privateMethod ({ cls := "ClassHouseModel", name := "begins", desc := "(I)V" } : Jvm.MethodName)) ∈ lw_tbl := lw_at lw_m9 108 rfl
theorem q2228 : (Jvm.Cond.instanceMethod ({ cls := "ClassHouseModel", name := "begins", desc := "(I)V" } : Jvm.MethodName)) ∈ lw_all := lw_g (lw_at lw_m9 109 rfl) rfl
theorem q2229 : (Jvm.Cond.code ({ cls := "ClassHouseModel", name := "begins", desc := "(I)V" } : Jvm.MethodName) prog_14_method_92_code (4 : Nat) (Option.none : Option Jvm.ClassFile.FieldType)) ∈ lw_all := lw_g (lw_at lw_m9 110 rfl) rfl
theorem q2231 : (Jvm.Cond.instanceMethod ({ cls := "ClassHouseModel", name := "step", desc := "(I)I" } : Jvm.MethodName)) ∈ lw_all := lw_g (lw_at lw_m9 112 rfl) rfl
theorem q2232 : (Jvm.Cond.selects "ClassHouseModel" ({ cls := "ClassHouseModel", name := "step", desc := "(I)I" } : Jvm.MethodName) ({ cls := "ClassHouseModel", name := "step", desc := "(I)I" } : Jvm.MethodName)) ∈ lw_all := lw_g (lw_at lw_m9 113 rfl) rfl
theorem q2233 : (Jvm.Cond.code ({ cls := "ClassHouseModel", name := "step", desc := "(I)I" } : Jvm.MethodName) prog_14_method_110_code (3 : Nat) (Option.some Jvm.ClassFile.FieldType.int)) ∈ lw_all := lw_g (lw_at lw_m9 114 rfl) rfl
theorem q2234 : (Jvm.Cond.constantLong "ClassHouseModel" (689 : Nat) (20000 : Int64)) ∈ lw_all := lw_g (lw_at lw_m9 115 rfl) rfl
theorem q2235 : (Jvm.Cond.methodLink "ClassHouseModel" (691 : Nat) ({ cls := "ClassHouseModel", name := "stepOnce", desc := "()V" } : Jvm.MethodName)) ∈ lw_all := lw_g (lw_at lw_m9 116 rfl) rfl
theorem q2236 : (Jvm.Cond.privateMethod ({ cls := "ClassHouseModel", name := "stepOnce", desc := "()V" } : Jvm.MethodName)) ∈ lw_tbl := lw_at lw_m9 117 rfl
theorem q2237 : (Jvm.Cond.instanceMethod ({ cls := "ClassHouseModel", name := "stepOnce", desc := "()V" } : Jvm.MethodName)) ∈ lw_all := lw_g (lw_at lw_m9 118 rfl) rfl
theorem q2238 : (Jvm.Cond.code ({ cls := "ClassHouseModel", name := "stepOnce", desc := "()V" } : Jvm.MethodName) prog_14_method_104_code (2 : Nat) (Option.none : Option Jvm.ClassFile.FieldType)) ∈ lw_all := lw_g (lw_at lw_m9 119 rfl) rfl
theorem q2239 : (Jvm.Cond.methodLink "ClassHouseModel" (665 : Nat) ({ cls := "ClassHouseModel", name := "leaf", desc := "(I)V" } : Jvm.MethodName)) ∈ lw_all := lw_g (lw_at lw_m9 120 rfl) rfl
theorem q2240 : (Jvm.Cond.privateMethod ({ cls := "ClassHouseModel", name := "leaf", desc := "(I)V" } : Jvm.MethodName)) ∈ lw_tbl := lw_at lw_m9 121 rfl
theorem q2241 : (Jvm.Cond.instanceMethod ({ cls := "ClassHouseModel", name := "leaf", desc := "(I)V" } : Jvm.MethodName)) ∈ lw_all := lw_g (lw_at lw_m9 122 rfl) rfl
theorem q2242 : (Jvm.Cond.code ({ cls := "ClassHouseModel", name := "leaf", desc := "(I)V" } : Jvm.MethodName) prog_14_method_93_code (4 : Nat) (Option.none : Option Jvm.ClassFile.FieldType)) ∈ lw_all := lw_g (lw_at lw_m9 123 rfl) rfl
theorem q2243 : (Jvm.Cond.methodLink "ClassHouseModel" (623 : Nat) ({ cls := "ClassHouseModel", name := "push", desc := "(IZ)V" } : Jvm.MethodName)) ∈ lw_all := lw_g (lw_at lw_m9 124 rfl) rfl
theorem q2244 : (Jvm.Cond.privateMethod ({ cls := "ClassHouseModel", name := "push", desc := "(IZ)V" } : Jvm.MethodName)) ∈ lw_tbl := lw_at lw_m9 125 rfl
theorem q2245 : (Jvm.Cond.instanceMethod ({ cls := "ClassHouseModel", name := "push", desc := "(IZ)V" } : Jvm.MethodName)) ∈ lw_all := lw_g (lw_at lw_m9 126 rfl) rfl
theorem q2246 : (Jvm.Cond.code ({ cls := "ClassHouseModel", name := "push", desc := "(IZ)V" } : Jvm.MethodName) prog_14_method_82_code (3 : Nat) (Option.none : Option Jvm.ClassFile.FieldType)) ∈ lw_all := lw_g (lw_at lw_m9 127 rfl) rfl
theorem q2247 : (Jvm.Cond.methodLink "ClassHouseModel" (626 : Nat) ({ cls := "ClassHouseModel", name := "nextInput", desc := "()I" } : Jvm.MethodName)) ∈ lw_all := lw_g (lw_at lw_m9 128 rfl) rfl
theorem q2248 : (Jvm.Cond.privateMethod ({ cls := "ClassHouseModel", name := "nextInput", desc := "()I" } : Jvm.MethodName)) ∈ lw_tbl := lw_at lw_m9 129 rfl
theorem q2249 : (Jvm.Cond.instanceMethod ({ cls := "ClassHouseModel", name := "nextInput", desc := "()I" } : Jvm.MethodName)) ∈ lw_all := lw_g (lw_at lw_m9 130 rfl) rfl
theorem q2250 : (Jvm.Cond.code ({ cls := "ClassHouseModel", name := "nextInput", desc := "()I" } : Jvm.MethodName) prog_14_method_94_code (3 : Nat) (Option.some Jvm.ClassFile.FieldType.int)) ∈ lw_all := lw_g (lw_at lw_m9 131 rfl) rfl
theorem q2251 : (Jvm.Cond.methodLink "ClassHouseModel" (629 : Nat) ({ cls := "ClassHouseModel", name := "hasRoom", desc := "(I)Z" } : Jvm.MethodName)) ∈ lw_all := lw_g (lw_at lw_m9 132 rfl) rfl
theorem q2252 : (Jvm.Cond.privateMethod ({ cls := "ClassHouseModel", name := "hasRoom", desc := "(I)Z" } : Jvm.MethodName)) ∈ lw_tbl := lw_at lw_m9 133 rfl
theorem q2253 : (Jvm.Cond.instanceMethod ({ cls := "ClassHouseModel", name := "hasRoom", desc := "(I)Z" } : Jvm.MethodName)) ∈ lw_all := lw_g (lw_at lw_m9 134 rfl) rfl
theorem q2254 : (Jvm.Cond.code ({ cls := "ClassHouseModel", name := "hasRoom", desc := "(I)Z" } : Jvm.MethodName) prog_14_method_80_code (2 : Nat) (Option.some Jvm.ClassFile.FieldType.boolean)) ∈ lw_all := lw_g (lw_at lw_m9 135 rfl) rfl
theorem q2255 : (Jvm.Cond.methodLink "ClassHouseModel" (575 : Nat) ({ cls := "ClassHouseModel", name := "marked", desc := "()I" } : Jvm.MethodName)) ∈ lw_all := lw_g (lw_at lw_m9 136 rfl) rfl
theorem q2256 : (Jvm.Cond.privateMethod ({ cls := "ClassHouseModel", name := "marked", desc := "()I" } : Jvm.MethodName)) ∈ lw_tbl := lw_at lw_m9 137 rfl
theorem q2257 : (Jvm.Cond.instanceMethod ({ cls := "ClassHouseModel", name := "marked", desc := "()I" } : Jvm.MethodName)) ∈ lw_all := lw_g (lw_at lw_m9 138 rfl) rfl
theorem q2258 : (Jvm.Cond.code ({ cls := "ClassHouseModel", name := "marked", desc := "()I" } : Jvm.MethodName) prog_14_method_77_code (4 : Nat) (Option.some Jvm.ClassFile.FieldType.int)) ∈ lw_all := lw_g (lw_at lw_m9 139 rfl) rfl
theorem q2259 : (Jvm.Cond.methodLink "ClassHouseModel" (557 : Nat) ({ cls := "ClassHouseModel", name := "reach", desc := "(I)V" } : Jvm.MethodName)) ∈ lw_all := lw_g (lw_at lw_m9 140 rfl) rfl
theorem q2260 : (Jvm.Cond.privateMethod ({ cls := "ClassHouseModel", name := "reach", desc := "(I)V" } : Jvm.MethodName)) ∈ lw_tbl := lw_at lw_m9 141 rfl
theorem q2261 : (Jvm.Cond.instanceMethod ({ cls := "ClassHouseModel", name := "reach", desc := "(I)V" } : Jvm.MethodName)) ∈ lw_all := lw_g (lw_at lw_m9 142 rfl) rfl
theorem q2262 : (Jvm.Cond.code ({ cls := "ClassHouseModel", name := "reach", desc := "(I)V" } : Jvm.MethodName) prog_14_method_76_code (2 : Nat) (Option.none : Option Jvm.ClassFile.FieldType)) ∈ lw_all := lw_g (lw_at lw_m9 143 rfl) rfl
theorem q2263 : (Jvm.Cond.methodLink "ClassHouseModel" (578 : Nat) ({ cls := "ClassHouseModel", name := "sweep", desc := "()V" } : Jvm.MethodName)) ∈ lw_all := lw_g (lw_at lw_m9 144 rfl) rfl
theorem q2264 : (Jvm.Cond.privateMethod ({ cls := "ClassHouseModel", name := "sweep", desc := "()V" } : Jvm.MethodName)) ∈ lw_tbl := lw_at lw_m9 145 rfl
theorem q2265 : (Jvm.Cond.instanceMethod ({ cls := "ClassHouseModel", name := "sweep", desc := "()V" } : Jvm.MethodName)) ∈ lw_all := lw_g (lw_at lw_m9 146 rfl) rfl
theorem q2266 : (Jvm.Cond.code ({ cls := "ClassHouseModel", name := "sweep", desc := "()V" } : Jvm.MethodName) prog_14_method_79_code (8 : Nat) (Option.none : Option Jvm.ClassFile.FieldType)) ∈ lw_all := lw_g (lw_at lw_m9 147 rfl) rfl
theorem q2267 : (Jvm.Cond.methodLink "ClassHouseModel" (563 : Nat) ({ cls := "ClassHouseModel", name := "moved", desc := "(I)I" } : Jvm.MethodName)) ∈ lw_all := lw_g (lw_at lw_m9 148 rfl) rfl
theorem q2268 : (Jvm.Cond.privateMethod ({ cls := "ClassHouseModel", name := "moved", desc := "(I)I" } : Jvm.MethodName)) ∈ lw_tbl := lw_at lw_m9 149 rfl
theorem q2269 : (Jvm.Cond.instanceMethod ({ cls := "ClassHouseModel", name := "moved", desc := "(I)I" } : Jvm.MethodName)) ∈ lw_all := lw_g (lw_at lw_m9 150 rfl) rfl
theorem q2270 : (Jvm.Cond.code ({ cls := "ClassHouseModel", name := "moved", desc := "(I)I" } : Jvm.MethodName) prog_14_method_78_code (2 : Nat) (Option.some Jvm.ClassFile.FieldType.int)) ∈ lw_all := lw_g (lw_at lw_m9 151 rfl) rfl
theorem q2271 : (Jvm.Cond.methodLink "ClassHouseModel" (605 : Nat) ({ cls := "ClassHouseModel", name := "ends", desc := "(I)V" } : Jvm.MethodName)) ∈ lw_all := lw_g (lw_at lw_m9 152 rfl) rfl
theorem q2272 : (Jvm.Cond.privateMethod ({ cls := "ClassHouseModel", name := "ends", desc := "(I)V" } : Jvm.MethodName)) ∈ lw_tbl := lw_at lw_m9 153 rfl
theorem q2273 : (Jvm.Cond.instanceMethod ({ cls := "ClassHouseModel", name := "ends", desc := "(I)V" } : Jvm.MethodName)) ∈ lw_all := lw_g (lw_at lw_m9 154 rfl) rfl
theorem q2274 : (Jvm.Cond.code ({ cls := "ClassHouseModel", name := "ends", desc := "(I)V" } : Jvm.MethodName) prog_14_method_84_code (2 : Nat) (Option.none : Option Jvm.ClassFile.FieldType)) ∈ lw_all := lw_g (lw_at lw_m9 155 rfl) rfl
theorem q2275 : (Jvm.Cond.methodLink "ClassHouseModel" (668 : Nat) ({ cls := "ClassHouseModel", name := "work", desc := "(I)V" } : Jvm.MethodName)) ∈ lw_all := lw_g (lw_at lw_m9 156 rfl) rfl
theorem q2276 : (Jvm.Cond.privateMethod ({ cls := "ClassHouseModel", name := "work", desc := "(I)V" } : Jvm.MethodName)) ∈ lw_tbl := lw_at lw_m9 157 rfl
theorem q2277 : (Jvm.Cond.instanceMethod ({ cls := "ClassHouseModel", name := "work", desc := "(I)V" } : Jvm.MethodName)) ∈ lw_all := lw_g (lw_at lw_m9 158 rfl) rfl
theorem q2278 : (Jvm.Cond.code ({ cls := "ClassHouseModel", name := "work", desc := "(I)V" } : Jvm.MethodName) prog_14_method_95_code (5 : Nat) (Option.none : Option Jvm.ClassFile.FieldType)) ∈ lw_all := lw_g (lw_at lw_m9 159 rfl) rfl
theorem q2279 : (Jvm.Cond.methodLink "ClassHouseModel" (638 : Nat) ({ cls := "ClassHouseModel", name := "faults", desc := "(I)V" } : Jvm.MethodName)) ∈ lw_all := lw_g (lw_at lw_m9 160 rfl) rfl
theorem q2280 : (Jvm.Cond.privateMethod ({ cls := "ClassHouseModel", name := "faults", desc := "(I)V" } : Jvm.MethodName)) ∈ lw_tbl := lw_at lw_m9 161 rfl
theorem q2281 : (Jvm.Cond.instanceMethod ({ cls := "ClassHouseModel", name := "faults", desc := "(I)V" } : Jvm.MethodName)) ∈ lw_all := lw_g (lw_at lw_m9 162 rfl) rfl
theorem q2282 : (Jvm.Cond.code ({ cls := "ClassHouseModel", name := "faults", desc := "(I)V" } : Jvm.MethodName) prog_14_method_86_code (2 : Nat) (Option.none : Option Jvm.ClassFile.FieldType)) ∈ lw_all := lw_g (lw_at lw_m9 163 rfl) rfl
theorem q2283 : (Jvm.Cond.methodLink "ClassHouseModel" (608 : Nat) ({ cls := "ClassHouseModel", name := "throwsObject", desc := "(I)V" } : Jvm.MethodName)) ∈ lw_all := lw_g (lw_at lw_m9 164 rfl) rfl
theorem q2284 : (Jvm.Cond.privateMethod ({ cls := "ClassHouseModel", name := "throwsObject", desc := "(I)V" } : Jvm.MethodName)) ∈ lw_tbl := lw_at lw_m9 165 rfl
theorem q2285 : (Jvm.Cond.instanceMethod ({ cls := "ClassHouseModel", name := "throwsObject", desc := "(I)V" } : Jvm.MethodName)) ∈ lw_all := lw_g (lw_at lw_m9 166 rfl) rfl
theorem q2286 : (Jvm.Cond.code ({ cls := "ClassHouseModel", name := "throwsObject", desc := "(I)V" } : Jvm.MethodName) prog_14_method_85_code (5 : Nat) (Option.none : Option Jvm.ClassFile.FieldType)) ∈ lw_all := lw_g (lw_at lw_m9 167 rfl) rfl
theorem q2287 : (Jvm.Cond.methodLink "ClassHouseModel" (641 : Nat) ({ cls := "ClassHouseModel", name := "isPlace", desc := "(II)Z" } : Jvm.MethodName)) ∈ lw_all := lw_g (lw_at lw_m9 168 rfl) rfl
theorem q2288 : (Jvm.Cond.privateMethod ({ cls := "ClassHouseModel", name := "isPlace", desc := "(II)Z" } : Jvm.MethodName)) ∈ lw_tbl := lw_at lw_m9 169 rfl
theorem q2289 : (Jvm.Cond.instanceMethod ({ cls := "ClassHouseModel", name := "isPlace", desc := "(II)Z" } : Jvm.MethodName)) ∈ lw_all := lw_g (lw_at lw_m9 170 rfl) rfl
theorem q2290 : (Jvm.Cond.code ({ cls := "ClassHouseModel", name := "isPlace", desc := "(II)Z" } : Jvm.MethodName) prog_14_method_96_code (3 : Nat) (Option.some Jvm.ClassFile.FieldType.boolean)) ∈ lw_all := lw_g (lw_at lw_m9 171 rfl) rfl
theorem q2291 : (Jvm.Cond.methodLink "ClassHouseModel" (644 : Nat) ({ cls := "ClassHouseModel", name := "calls", desc := "(I)V" } : Jvm.MethodName)) ∈ lw_all := lw_g (lw_at lw_m9 172 rfl) rfl
theorem q2292 : (Jvm.Cond.privateMethod ({ cls := "ClassHouseModel", name := "calls", desc := "(I)V" } : Jvm.MethodName)) ∈ lw_tbl := lw_at lw_m9 173 rfl
theorem q2293 : (Jvm.Cond.instanceMethod ({ cls := "ClassHouseModel", name := "calls", desc := "(I)V" } : Jvm.MethodName)) ∈ lw_all := lw_g (lw_at lw_m9 174 rfl) rfl
theorem q2294 : (Jvm.Cond.code ({ cls := "ClassHouseModel", name := "calls", desc := "(I)V" } : Jvm.MethodName) prog_14_method_98_code (7 : Nat) (Option.none : Option Jvm.ClassFile.FieldType)) ∈ lw_all := lw_g (lw_at lw_m9 175 rfl) rfl
theorem q2295 : (Jvm.Cond.methodLink "ClassHouseModel" (647 : Nat) ({ cls := "ClassHouseModel", name := "worked", desc := "(III)I" } : Jvm.MethodName)) ∈ lw_all := lw_g (lw_at lw_m9 176 rfl) rfl
theorem q2296 : (Jvm.Cond.static ({ cls := "ClassHouseModel", name := "worked", desc := "(III)I" } : Jvm.MethodName)) ∈ lw_all := lw_g (lw_at lw_m9 177 rfl) rfl
theorem q2297 : (Jvm.Cond.code ({ cls := "ClassHouseModel", name := "worked", desc := "(III)I" } : Jvm.MethodName) prog_14_method_97_code (3 : Nat) (Option.some Jvm.ClassFile.FieldType.int)) ∈ lw_all := lw_g (lw_at lw_m9 178 rfl) rfl
theorem q2298 : (Jvm.Cond.methodLink "ClassHouseModel" (671 : Nat) ({ cls := "ClassHouseModel", name := "half", desc := "(I)V" } : Jvm.MethodName)) ∈ lw_all := lw_g (lw_at lw_m9 179 rfl) rfl
theorem q2299 : (Jvm.Cond.privateMethod ({ cls := "ClassHouseModel", name := "half", desc := "(I)V" } : Jvm.MethodName)) ∈ lw_tbl := lw_at lw_m9 180 rfl
theorem q2300 : (Jvm.Cond.instanceMethod ({ cls := "ClassHouseModel", name := "half", desc := "(I)V" } : Jvm.MethodName)) ∈ lw_all := lw_g (lw_at lw_m9 181 rfl) rfl
theorem q2301 : (Jvm.Cond.code ({ cls := "ClassHouseModel", name := "half", desc := "(I)V" } : Jvm.MethodName) prog_14_method_100_code (3 : Nat) (Option.none : Option Jvm.ClassFile.FieldType)) ∈ lw_all := lw_g (lw_at lw_m9 182 rfl) rfl
theorem q2302 : (Jvm.Cond.methodLink "ClassHouseModel" (674 : Nat) ({ cls := "ClassHouseModel", name := "done", desc := "(I)V" } : Jvm.MethodName)) ∈ lw_all := lw_g (lw_at lw_m9 183 rfl) rfl
theorem q2303 : (Jvm.Cond.privateMethod ({ cls := "ClassHouseModel", name := "done", desc := "(I)V" } : Jvm.MethodName)) ∈ lw_tbl := lw_at lw_m9 184 rfl
theorem q2304 : (Jvm.Cond.instanceMethod ({ cls := "ClassHouseModel", name := "done", desc := "(I)V" } : Jvm.MethodName)) ∈ lw_all := lw_g (lw_at lw_m9 185 rfl) rfl
theorem q2305 : (Jvm.Cond.code ({ cls := "ClassHouseModel", name := "done", desc := "(I)V" } : Jvm.MethodName) prog_14_method_101_code (4 : Nat) (Option.none : Option Jvm.ClassFile.FieldType)) ∈ lw_all := lw_g (lw_at lw_m9 186 rfl) rfl
theorem q2306 : (Jvm.Cond.methodLink "ClassHouseModel" (654 : Nat) ({ cls := "ClassHouseModel", name := "returns", desc := "(I)V" } : Jvm.MethodName)) ∈ lw_all := lw_g (lw_at lw_m9 187 rfl) rfl
theorem q2307 : (Jvm.Cond.privateMethod ({ cls := "ClassHouseModel", name := "returns", desc := "(I)V" } : Jvm.MethodName)) ∈ lw_tbl := lw_at lw_m9 188 rfl
theorem q2308 : (Jvm.Cond.instanceMethod ({ cls := "ClassHouseModel", name := "returns", desc := "(I)V" } : Jvm.MethodName)) ∈ lw_all := lw_g (lw_at lw_m9 189 rfl) rfl
theorem q2309 : (Jvm.Cond.code ({ cls := "ClassHouseModel", name := "returns", desc := "(I)V" } : Jvm.MethodName) prog_14_method_102_code (5 : Nat) (Option.none : Option Jvm.ClassFile.FieldType)) ∈ lw_all := lw_g (lw_at lw_m9 190 rfl) rfl
theorem q2310 : (Jvm.Cond.methodLink "ClassHouseModel" (660 : Nat) ({ cls := "ClassHouseModel", name := "sets", desc := "(I)V" } : Jvm.MethodName)) ∈ lw_all := lw_g (lw_at lw_m9 191 rfl) rfl
theorem q2311 : (Jvm.Cond.privateMethod ({ cls := "ClassHouseModel", name := "sets", desc := "(I)V" } : Jvm.MethodName)) ∈ lw_tbl := lw_at lw_m9 192 rfl
theorem q2312 : (Jvm.Cond.instanceMethod ({ cls := "ClassHouseModel", name := "sets", desc := "(I)V" } : Jvm.MethodName)) ∈ lw_all := lw_g (lw_at lw_m9 193 rfl) rfl
theorem q2313 : (Jvm.Cond.code ({ cls := "ClassHouseModel", name := "sets", desc := "(I)V" } : Jvm.MethodName) prog_14_method_103_code (8 : Nat) (Option.none : Option Jvm.ClassFile.FieldType)) ∈ lw_all := lw_g (lw_at lw_m9 194 rfl) rfl
theorem q2315 : (Jvm.Cond.instanceMethod ({ cls := "ClassHouseModel", name := "result", desc := "()I" } : Jvm.MethodName)) ∈ lw_all := lw_g (lw_at lw_m9 196 rfl) rfl
theorem q2316 : (Jvm.Cond.selects "ClassHouseModel" ({ cls := "ClassHouseModel", name := "result", desc := "()I" } : Jvm.MethodName) ({ cls := "ClassHouseModel", name := "result", desc := "()I" } : Jvm.MethodName)) ∈ lw_all := lw_g (lw_at lw_m9 197 rfl) rfl
theorem q2317 : (Jvm.Cond.code ({ cls := "ClassHouseModel", name := "result", desc := "()I" } : Jvm.MethodName) prog_14_method_111_code (1 : Nat) (Option.some Jvm.ClassFile.FieldType.int)) ∈ lw_all := lw_g (lw_at lw_m9 198 rfl) rfl
theorem q2319 : (Jvm.Cond.instanceMethod ({ cls := "ClassHouseModel", name := "output", desc := "(I)I" } : Jvm.MethodName)) ∈ lw_all := lw_g (lw_at lw_m9 200 rfl) rfl
theorem q2320 : (Jvm.Cond.selects "ClassHouseModel" ({ cls := "ClassHouseModel", name := "output", desc := "(I)I" } : Jvm.MethodName) ({ cls := "ClassHouseModel", name := "output", desc := "(I)I" } : Jvm.MethodName)) ∈ lw_all := lw_g (lw_at lw_m9 201 rfl) rfl
theorem q2321 : (Jvm.Cond.code ({ cls := "ClassHouseModel", name := "output", desc := "(I)I" } : Jvm.MethodName) prog_14_method_112_code (2 : Nat) (Option.some Jvm.ClassFile.FieldType.int)) ∈ lw_all := lw_g (lw_at lw_m9 202 rfl) rfl
theorem q2322 : (Jvm.Cond.methodLink "ClassHouseModel" (694 : Nat) ({ cls := "java/lang/Math", name := "min", desc := "(II)I" } : Jvm.MethodName)) ∈ lw_all := lw_g (lw_at lw_m9 203 rfl) rfl
theorem q2324 : (Jvm.Cond.instanceMethod ({ cls := "ClassHouseModel", name := "count", desc := "(I)I" } : Jvm.MethodName)) ∈ lw_all := lw_g (lw_at lw_m9 205 rfl) rfl
theorem q2325 : (Jvm.Cond.selects "ClassHouseModel" ({ cls := "ClassHouseModel", name := "count", desc := "(I)I" } : Jvm.MethodName) ({ cls := "ClassHouseModel", name := "count", desc := "(I)I" } : Jvm.MethodName)) ∈ lw_all := lw_g (lw_at lw_m9 206 rfl) rfl
theorem q2326 : (Jvm.Cond.code ({ cls := "ClassHouseModel", name := "count", desc := "(I)I" } : Jvm.MethodName) prog_14_method_113_code (2 : Nat) (Option.some Jvm.ClassFile.FieldType.int)) ∈ lw_all := lw_g (lw_at lw_m9 207 rfl) rfl
theorem q2327 : (Jvm.Cond.constantLong "ClassHouseModel" (697 : Nat) (5 : Int64)) ∈ lw_all := lw_g (lw_at lw_m9 208 rfl) rfl
theorem q2337 : (Jvm.Cond.castable "ClassHouseModel" "java/lang/Object") ∈ lw_tbl := lw_at lw_m9 218 rfl
theorem in_X3 : ∀ w ∈ wsX30, w ∈ lw_all := lw_in wsX30 [1657, 1659, 1661, 1663, 1665, 1667, 1669, 1671, 1673, 1675, 1677, 1679, 1681, 1683, 1685, 1687, 1689, 1691, 1693, 1695, 1697, 1699, 1701, 1703, 1705, 1707, 1709, 1711, 1713, 1715, 1717, 1719, 1721, 1723, 1725, 1727, 1729, 1731, 1733, 1735, 1737, 1739, 1741, 1743, 1745, 1747, 1749, 1751, 1753, 1755, 1757, 1759, 1761, 1763, 1765, 1767, 1769, 1771, 1773, 1775, 1777, 1779, 1781, 1783, 1785, 1787, 1789, 1791, 1793, 1795, 1797, 1799, 1801, 1803, 1805, 1807, 1809, 1811, 1813, 1815, 1817, 1819, 1821, 1823, 1825, 1827, 1829, 1831, 1833, 1835, 1837, 1839, 1841, 1843, 1845, 1847, 1849, 1851, 1853, 1855, 1857, 1859, 1861, 1863, 1865, 1867, 1869, 1871, 1873] (by decide +kernel) (by decide +kernel)

def RX4 : String := "ClassHouse$Reader"
def TX4 : u_T := fun k => match k with
  | 0 => ("ClassHouse$Reader", "s", "[B", true)
  | 1 => ("ClassHouse$Reader", "end", "I", true)
  | 2 => ("ClassHouse$Reader", "kind", "I", false)
  | 3 => ("ClassHouse$Reader", "from", "I", false)
  | 4 => ("ClassHouse$Reader", "to", "I", false)
  | 5 => ("ClassHouse$Reader", "open", "I", false)
  | 6 => ("ClassHouse$Reader", "names", "Ljava/util/ArrayList;", true)
  | 7 => ("ClassHouse$Reader", "kinds", "Ljava/util/ArrayList;", true)
  | _ => ("ClassHouse$Reader", "closing", "I", false)
def tyX4 : Nat → FieldType := fun k => match k with
  | 0 => .array .byte
  | 1 => .int
  | 2 => .int
  | 3 => .int
  | 4 => .int
  | 5 => .int
  | 6 => .object "java/util/ArrayList"
  | 7 => .object "java/util/ArrayList"
  | _ => .int
abbrev wsX40 : List Cond := u_ws RX4 TX4 9
theorem nmX4 : ∀ a, a < 9 → ∀ b, b < 9 → a ≠ b → (TX4 a).2.1 ≠ (TX4 b).2.1 := by decide +kernel
theorem tyX4_ok : ∀ k, k < 9 → parseFieldDescriptor (TX4 k).2.2.1 = some (tyX4 k) := by decide +kernel
theorem q207 : (Jvm.Cond.initialized "ClassHouse$Reader") ∈ lw_all := lw_g (lw_at lw_m1 8 rfl) rfl
theorem q433 : (Jvm.Cond.instantiable "ClassHouse$Reader" (9 : Nat)) ∈ lw_all := lw_g (lw_at lw_m1 234 rfl) rfl
theorem q435 : (Jvm.Cond.instanceMethod ({ cls := "ClassHouse$Reader", name := "<init>", desc := "([BI)V" } : Jvm.MethodName)) ∈ lw_all := lw_g (lw_at lw_m1 236 rfl) rfl
theorem q436 : (Jvm.Cond.code ({ cls := "ClassHouse$Reader", name := "<init>", desc := "([BI)V" } : Jvm.MethodName) prog_7_method_1_code (3 : Nat) (Option.none : Option Jvm.ClassFile.FieldType)) ∈ lw_all := lw_g (lw_at lw_m1 237 rfl) rfl
theorem q437 : (Jvm.Cond.methodLink "ClassHouse$Reader" (3 : Nat) ({ cls := "java/lang/Object", name := "<init>", desc := "()V" } : Jvm.MethodName)) ∈ lw_all := lw_g (lw_at lw_m1 238 rfl) rfl
theorem q438 : (Jvm.Cond.classLink "ClassHouse$Reader" (9 : Nat) "java/util/ArrayList") ∈ lw_all := lw_g (lw_at lw_m1 239 rfl) rfl
theorem q440 : (Jvm.Cond.methodLink "ClassHouse$Reader" (11 : Nat) ({ cls := "java/util/ArrayList", name := "<init>", desc := "()V" } : Jvm.MethodName)) ∈ lw_all := lw_g (lw_at lw_m2 1 rfl) rfl
theorem q464 : (Jvm.Cond.fieldLink "ClassHouse$Reader" (21 : Nat) "ClassHouse$Reader" "s" "[B") ∈ lw_all := lw_g (lw_at lw_m2 25 rfl) rfl
theorem q465 : (Jvm.Cond.fieldLink "ClassHouse$Reader" (25 : Nat) "ClassHouse$Reader" "end" "I") ∈ lw_all := lw_g (lw_at lw_m2 26 rfl) rfl
theorem q466 : (Jvm.Cond.fieldLink "ClassHouse$Reader" (40 : Nat) "ClassHouse$Reader" "kind" "I") ∈ lw_all := lw_g (lw_at lw_m2 27 rfl) rfl
theorem q467 : (Jvm.Cond.fieldLink "ClassHouse$Reader" (31 : Nat) "ClassHouse$Reader" "from" "I") ∈ lw_all := lw_g (lw_at lw_m2 28 rfl) rfl
theorem q468 : (Jvm.Cond.fieldLink "ClassHouse$Reader" (37 : Nat) "ClassHouse$Reader" "to" "I") ∈ lw_all := lw_g (lw_at lw_m2 29 rfl) rfl
theorem q469 : (Jvm.Cond.fieldLink "ClassHouse$Reader" (82 : Nat) "ClassHouse$Reader" "open" "I") ∈ lw_all := lw_g (lw_at lw_m2 30 rfl) rfl
theorem q470 : (Jvm.Cond.fieldLink "ClassHouse$Reader" (12 : Nat) "ClassHouse$Reader" "names" "Ljava/util/ArrayList;") ∈ lw_all := lw_g (lw_at lw_m2 31 rfl) rfl
theorem q471 : (Jvm.Cond.fieldLink "ClassHouse$Reader" (18 : Nat) "ClassHouse$Reader" "kinds" "Ljava/util/ArrayList;") ∈ lw_all := lw_g (lw_at lw_m2 32 rfl) rfl
theorem q473 : (Jvm.Cond.fieldLink "ClassHouse$Reader" (196 : Nat) "ClassHouse$Reader" "closing" "I") ∈ lw_all := lw_g (lw_at lw_m2 34 rfl) rfl
theorem q474 : (Jvm.Cond.laysFinal "ClassHouse$Reader" "ClassHouse$Reader" "s" "[B") ∈ lw_all := lw_g (lw_at lw_m2 35 rfl) rfl
theorem q475 : (Jvm.Cond.soleField "ClassHouse$Reader" "s") ∈ lw_all := lw_g (lw_at lw_m2 36 rfl) rfl
theorem q476 : (Jvm.Cond.laysFinal "ClassHouse$Reader" "ClassHouse$Reader" "end" "I") ∈ lw_all := lw_g (lw_at lw_m2 37 rfl) rfl
theorem q477 : (Jvm.Cond.soleField "ClassHouse$Reader" "end") ∈ lw_all := lw_g (lw_at lw_m2 38 rfl) rfl
theorem q478 : (Jvm.Cond.lays "ClassHouse$Reader" "ClassHouse$Reader" "kind" "I") ∈ lw_all := lw_g (lw_at lw_m2 39 rfl) rfl
theorem q479 : (Jvm.Cond.soleField "ClassHouse$Reader" "kind") ∈ lw_all := lw_g (lw_at lw_m2 40 rfl) rfl
theorem q480 : (Jvm.Cond.lays "ClassHouse$Reader" "ClassHouse$Reader" "from" "I") ∈ lw_all := lw_g (lw_at lw_m2 41 rfl) rfl
theorem q481 : (Jvm.Cond.soleField "ClassHouse$Reader" "from") ∈ lw_all := lw_g (lw_at lw_m2 42 rfl) rfl
theorem q482 : (Jvm.Cond.lays "ClassHouse$Reader" "ClassHouse$Reader" "to" "I") ∈ lw_all := lw_g (lw_at lw_m2 43 rfl) rfl
theorem q483 : (Jvm.Cond.soleField "ClassHouse$Reader" "to") ∈ lw_all := lw_g (lw_at lw_m2 44 rfl) rfl
theorem q484 : (Jvm.Cond.lays "ClassHouse$Reader" "ClassHouse$Reader" "open" "I") ∈ lw_all := lw_g (lw_at lw_m2 45 rfl) rfl
theorem q485 : (Jvm.Cond.soleField "ClassHouse$Reader" "open") ∈ lw_all := lw_g (lw_at lw_m2 46 rfl) rfl
theorem q486 : (Jvm.Cond.laysFinal "ClassHouse$Reader" "ClassHouse$Reader" "names" "Ljava/util/ArrayList;") ∈ lw_all := lw_g (lw_at lw_m2 47 rfl) rfl
theorem q487 : (Jvm.Cond.soleField "ClassHouse$Reader" "names") ∈ lw_all := lw_g (lw_at lw_m2 48 rfl) rfl
theorem q488 : (Jvm.Cond.laysFinal "ClassHouse$Reader" "ClassHouse$Reader" "kinds" "Ljava/util/ArrayList;") ∈ lw_all := lw_g (lw_at lw_m2 49 rfl) rfl
theorem q489 : (Jvm.Cond.soleField "ClassHouse$Reader" "kinds") ∈ lw_all := lw_g (lw_at lw_m2 50 rfl) rfl
theorem q490 : (Jvm.Cond.lays "ClassHouse$Reader" "ClassHouse$Reader" "closing" "I") ∈ lw_all := lw_g (lw_at lw_m2 51 rfl) rfl
theorem q491 : (Jvm.Cond.soleField "ClassHouse$Reader" "closing") ∈ lw_all := lw_g (lw_at lw_m2 52 rfl) rfl
theorem q492 : (Jvm.Cond.superclass "ClassHouse$Reader" "java/lang/Object") ∈ lw_all := lw_g (lw_at lw_m2 53 rfl) rfl
theorem q494 : (Jvm.Cond.instanceMethod ({ cls := "ClassHouse$Reader", name := "program", desc := "()V" } : Jvm.MethodName)) ∈ lw_all := lw_g (lw_at lw_m2 55 rfl) rfl
theorem q495 : (Jvm.Cond.selects "ClassHouse$Reader" ({ cls := "ClassHouse$Reader", name := "program", desc := "()V" } : Jvm.MethodName) ({ cls := "ClassHouse$Reader", name := "program", desc := "()V" } : Jvm.MethodName)) ∈ lw_all := lw_g (lw_at lw_m2 56 rfl) rfl
theorem q496 : (Jvm.Cond.code ({ cls := "ClassHouse$Reader", name := "program", desc := "()V" } : Jvm.MethodName) prog_7_method_17_code (2 : Nat) (Option.none : Option Jvm.ClassFile.FieldType)) ∈ lw_all := lw_g (lw_at lw_m2 57 rfl) rfl
theorem q497 : (Jvm.Cond.methodLink "ClassHouse$Reader" (79 : Nat) ({ cls := "ClassHouse$Reader", name := "next", desc := "()V" } : Jvm.MethodName)) ∈ lw_all := lw_g (lw_at lw_m2 58 rfl) rfl
theorem q498 : (Jvm.Cond.privateMethod ({ cls := "ClassHouse$Reader", name := "next", desc := "()V" } : Jvm.MethodName)) ∈ lw_tbl := lw_at lw_m2 59 rfl
theorem q499 : (Jvm.Cond.instanceMethod ({ cls := "ClassHouse$Reader", name := "next", desc := "()V" } : Jvm.MethodName)) ∈ lw_all := lw_g (lw_at lw_m2 60 rfl) rfl
theorem q500 : (Jvm.Cond.code ({ cls := "ClassHouse$Reader", name := "next", desc := "()V" } : Jvm.MethodName) prog_7_method_5_code (3 : Nat) (Option.none : Option Jvm.ClassFile.FieldType)) ∈ lw_all := lw_g (lw_at lw_m2 61 rfl) rfl
theorem q501 : (Jvm.Cond.methodLink "ClassHouse$Reader" (43 : Nat) ({ cls := "ClassHouse$Reader", name := "isLetter", desc := "(I)Z" } : Jvm.MethodName)) ∈ lw_all := lw_g (lw_at lw_m2 62 rfl) rfl
theorem q502 : (Jvm.Cond.static ({ cls := "ClassHouse$Reader", name := "isLetter", desc := "(I)Z" } : Jvm.MethodName)) ∈ lw_all := lw_g (lw_at lw_m2 63 rfl) rfl
theorem q503 : (Jvm.Cond.code ({ cls := "ClassHouse$Reader", name := "isLetter", desc := "(I)Z" } : Jvm.MethodName) prog_7_method_3_code (1 : Nat) (Option.some Jvm.ClassFile.FieldType.boolean)) ∈ lw_all := lw_g (lw_at lw_m2 64 rfl) rfl
theorem q504 : (Jvm.Cond.methodLink "ClassHouse$Reader" (47 : Nat) ({ cls := "ClassHouse$Reader", name := "isDigit", desc := "(I)Z" } : Jvm.MethodName)) ∈ lw_all := lw_g (lw_at lw_m2 65 rfl) rfl
theorem q505 : (Jvm.Cond.static ({ cls := "ClassHouse$Reader", name := "isDigit", desc := "(I)Z" } : Jvm.MethodName)) ∈ lw_all := lw_g (lw_at lw_m2 66 rfl) rfl
theorem q506 : (Jvm.Cond.code ({ cls := "ClassHouse$Reader", name := "isDigit", desc := "(I)Z" } : Jvm.MethodName) prog_7_method_4_code (1 : Nat) (Option.some Jvm.ClassFile.FieldType.boolean)) ∈ lw_all := lw_g (lw_at lw_m2 67 rfl) rfl
theorem q507 : (Jvm.Cond.fieldLinkNest "ClassHouse$Reader" (50 : Nat) "ClassHouse" "WORDS" "[Ljava/lang/String;" "ClassHouse") ∈ lw_tbl := lw_at lw_m2 68 rfl
theorem q509 : (Jvm.Cond.methodLink "ClassHouse$Reader" (54 : Nat) ({ cls := "ClassHouse$Reader", name := "is", desc := "(Ljava/lang/String;)Z" } : Jvm.MethodName)) ∈ lw_all := lw_g (lw_at lw_m2 70 rfl) rfl
theorem q510 : (Jvm.Cond.privateMethod ({ cls := "ClassHouse$Reader", name := "is", desc := "(Ljava/lang/String;)Z" } : Jvm.MethodName)) ∈ lw_tbl := lw_at lw_m2 71 rfl
theorem q511 : (Jvm.Cond.instanceMethod ({ cls := "ClassHouse$Reader", name := "is", desc := "(Ljava/lang/String;)Z" } : Jvm.MethodName)) ∈ lw_all := lw_g (lw_at lw_m2 72 rfl) rfl
theorem q512 : (Jvm.Cond.code ({ cls := "ClassHouse$Reader", name := "is", desc := "(Ljava/lang/String;)Z" } : Jvm.MethodName) prog_7_method_7_code (4 : Nat) (Option.some Jvm.ClassFile.FieldType.boolean)) ∈ lw_all := lw_g (lw_at lw_m2 73 rfl) rfl
theorem q513 : (Jvm.Cond.methodLink "ClassHouse$Reader" (66 : Nat) ({ cls := "java/lang/String", name := "length", desc := "()I" } : Jvm.MethodName)) ∈ lw_all := lw_g (lw_at lw_m2 74 rfl) rfl
theorem q523 : (Jvm.Cond.methodLink "ClassHouse$Reader" (72 : Nat) ({ cls := "java/lang/String", name := "charAt", desc := "(I)C" } : Jvm.MethodName)) ∈ lw_all := lw_g (lw_at lw_m2 84 rfl) rfl
theorem q561 : (Jvm.Cond.methodLink "ClassHouse$Reader" (58 : Nat) ({ cls := "ClassHouse$Reader", name := "must", desc := "(Z)V" } : Jvm.MethodName)) ∈ lw_all := lw_g (lw_at lw_m2 122 rfl) rfl
theorem q562 : (Jvm.Cond.privateMethod ({ cls := "ClassHouse$Reader", name := "must", desc := "(Z)V" } : Jvm.MethodName)) ∈ lw_tbl := lw_at lw_m2 123 rfl
theorem q563 : (Jvm.Cond.instanceMethod ({ cls := "ClassHouse$Reader", name := "must", desc := "(Z)V" } : Jvm.MethodName)) ∈ lw_all := lw_g (lw_at lw_m2 124 rfl) rfl
theorem q564 : (Jvm.Cond.code ({ cls := "ClassHouse$Reader", name := "must", desc := "(Z)V" } : Jvm.MethodName) prog_7_method_2_code (2 : Nat) (Option.none : Option Jvm.ClassFile.FieldType)) ∈ lw_all := lw_g (lw_at lw_m2 125 rfl) rfl
theorem q565 : (Jvm.Cond.classLink "ClassHouse$Reader" (29 : Nat) "ClassHouse$Refused") ∈ lw_all := lw_g (lw_at lw_m2 126 rfl) rfl
theorem q574 : (Jvm.Cond.methodLink "ClassHouse$Reader" (34 : Nat) ({ cls := "ClassHouse$Refused", name := "<init>", desc := "(I)V" } : Jvm.MethodName)) ∈ lw_all := lw_g (lw_at lw_m2 135 rfl) rfl
theorem q584 : (Jvm.Cond.methodLink "ClassHouse$Reader" (62 : Nat) ({ cls := "ClassHouse$Reader", name := "sign", desc := "(II)V" } : Jvm.MethodName)) ∈ lw_all := lw_g (lw_at lw_m2 145 rfl) rfl
theorem q585 : (Jvm.Cond.privateMethod ({ cls := "ClassHouse$Reader", name := "sign", desc := "(II)V" } : Jvm.MethodName)) ∈ lw_tbl := lw_at lw_m2 146 rfl
theorem q586 : (Jvm.Cond.instanceMethod ({ cls := "ClassHouse$Reader", name := "sign", desc := "(II)V" } : Jvm.MethodName)) ∈ lw_all := lw_g (lw_at lw_m2 147 rfl) rfl
theorem q587 : (Jvm.Cond.code ({ cls := "ClassHouse$Reader", name := "sign", desc := "(II)V" } : Jvm.MethodName) prog_7_method_6_code (5 : Nat) (Option.none : Option Jvm.ClassFile.FieldType)) ∈ lw_all := lw_g (lw_at lw_m2 148 rfl) rfl
theorem q588 : (Jvm.Cond.stringRef "ClassHouse$Reader" (114 : Nat) "class") ∈ lw_tbl := lw_at lw_m2 149 rfl
theorem q589 : (Jvm.Cond.methodLink "ClassHouse$Reader" (116 : Nat) ({ cls := "ClassHouse$Reader", name := "want", desc := "(Ljava/lang/String;)V" } : Jvm.MethodName)) ∈ lw_all := lw_g (lw_at lw_m2 150 rfl) rfl
theorem q590 : (Jvm.Cond.privateMethod ({ cls := "ClassHouse$Reader", name := "want", desc := "(Ljava/lang/String;)V" } : Jvm.MethodName)) ∈ lw_tbl := lw_at lw_m2 151 rfl
theorem q591 : (Jvm.Cond.instanceMethod ({ cls := "ClassHouse$Reader", name := "want", desc := "(Ljava/lang/String;)V" } : Jvm.MethodName)) ∈ lw_all := lw_g (lw_at lw_m2 152 rfl) rfl
theorem q592 : (Jvm.Cond.code ({ cls := "ClassHouse$Reader", name := "want", desc := "(Ljava/lang/String;)V" } : Jvm.MethodName) prog_7_method_9_code (2 : Nat) (Option.none : Option Jvm.ClassFile.FieldType)) ∈ lw_all := lw_g (lw_at lw_m2 153 rfl) rfl
theorem q593 : (Jvm.Cond.methodLink "ClassHouse$Reader" (76 : Nat) ({ cls := "ClassHouse$Reader", name := "isThe", desc := "(Ljava/lang/String;)Z" } : Jvm.MethodName)) ∈ lw_all := lw_g (lw_at lw_m2 154 rfl) rfl
theorem q594 : (Jvm.Cond.privateMethod ({ cls := "ClassHouse$Reader", name := "isThe", desc := "(Ljava/lang/String;)Z" } : Jvm.MethodName)) ∈ lw_tbl := lw_at lw_m2 155 rfl
theorem q595 : (Jvm.Cond.instanceMethod ({ cls := "ClassHouse$Reader", name := "isThe", desc := "(Ljava/lang/String;)Z" } : Jvm.MethodName)) ∈ lw_all := lw_g (lw_at lw_m2 156 rfl) rfl
theorem q596 : (Jvm.Cond.code ({ cls := "ClassHouse$Reader", name := "isThe", desc := "(Ljava/lang/String;)Z" } : Jvm.MethodName) prog_7_method_8_code (2 : Nat) (Option.some Jvm.ClassFile.FieldType.boolean)) ∈ lw_all := lw_g (lw_at lw_m2 157 rfl) rfl
theorem q597 : (Jvm.Cond.classLink "ClassHouse$Reader" (120 : Nat) "ClassHouse$Kind") ∈ lw_all := lw_g (lw_at lw_m2 158 rfl) rfl
theorem q599 : (Jvm.Cond.methodLink "ClassHouse$Reader" (111 : Nat) ({ cls := "ClassHouse$Reader", name := "name", desc := "()I" } : Jvm.MethodName)) ∈ lw_all := lw_g (lw_at lw_m2 160 rfl) rfl
theorem q600 : (Jvm.Cond.privateMethod ({ cls := "ClassHouse$Reader", name := "name", desc := "()I" } : Jvm.MethodName)) ∈ lw_tbl := lw_at lw_m2 161 rfl
theorem q601 : (Jvm.Cond.instanceMethod ({ cls := "ClassHouse$Reader", name := "name", desc := "()I" } : Jvm.MethodName)) ∈ lw_all := lw_g (lw_at lw_m2 162 rfl) rfl
theorem q602 : (Jvm.Cond.code ({ cls := "ClassHouse$Reader", name := "name", desc := "()I" } : Jvm.MethodName) prog_7_method_15_code (1 : Nat) (Option.some Jvm.ClassFile.FieldType.int)) ∈ lw_all := lw_g (lw_at lw_m2 163 rfl) rfl
theorem q603 : (Jvm.Cond.methodLink "ClassHouse$Reader" (85 : Nat) ({ cls := "ClassHouse$Reader", name := "numberOf", desc := "([BII)I" } : Jvm.MethodName)) ∈ lw_all := lw_g (lw_at lw_m2 164 rfl) rfl
theorem q604 : (Jvm.Cond.privateMethod ({ cls := "ClassHouse$Reader", name := "numberOf", desc := "([BII)I" } : Jvm.MethodName)) ∈ lw_tbl := lw_at lw_m2 165 rfl
theorem q605 : (Jvm.Cond.instanceMethod ({ cls := "ClassHouse$Reader", name := "numberOf", desc := "([BII)I" } : Jvm.MethodName)) ∈ lw_all := lw_g (lw_at lw_m2 166 rfl) rfl
theorem q606 : (Jvm.Cond.code ({ cls := "ClassHouse$Reader", name := "numberOf", desc := "([BII)I" } : Jvm.MethodName) prog_7_method_13_code (6 : Nat) (Option.some Jvm.ClassFile.FieldType.int)) ∈ lw_all := lw_g (lw_at lw_m2 167 rfl) rfl
theorem q607 : (Jvm.Cond.methodLink "ClassHouse$Reader" (89 : Nat) ({ cls := "java/util/ArrayList", name := "size", desc := "()I" } : Jvm.MethodName)) ∈ lw_all := lw_g (lw_at lw_m2 168 rfl) rfl
theorem q611 : (Jvm.Cond.methodLink "ClassHouse$Reader" (92 : Nat) ({ cls := "java/util/ArrayList", name := "get", desc := "(I)Ljava/lang/Object;" } : Jvm.MethodName)) ∈ lw_all := lw_g (lw_at lw_m2 172 rfl) rfl
theorem q623 : (Jvm.Cond.classLink "ClassHouse$Reader" (96 : Nat) "[B") ∈ lw_all := lw_g (lw_at lw_m2 184 rfl) rfl
theorem q624 : (Jvm.Cond.methodLink "ClassHouse$Reader" (97 : Nat) ({ cls := "ClassHouse$Reader", name := "isAt", desc := "([B[BII)Z" } : Jvm.MethodName)) ∈ lw_all := lw_g (lw_at lw_m2 185 rfl) rfl
theorem q625 : (Jvm.Cond.static ({ cls := "ClassHouse$Reader", name := "isAt", desc := "([B[BII)Z" } : Jvm.MethodName)) ∈ lw_all := lw_g (lw_at lw_m2 186 rfl) rfl
theorem q626 : (Jvm.Cond.code ({ cls := "ClassHouse$Reader", name := "isAt", desc := "([B[BII)Z" } : Jvm.MethodName) prog_7_method_14_code (6 : Nat) (Option.some Jvm.ClassFile.FieldType.boolean)) ∈ lw_all := lw_g (lw_at lw_m2 187 rfl) rfl
theorem q627 : (Jvm.Cond.methodLink "ClassHouse$Reader" (101 : Nat) ({ cls := "java/lang/System", name := "arraycopy", desc := "(Ljava/lang/Object;ILjava/lang/Object;II)V" } : Jvm.MethodName)) ∈ lw_all := lw_g (lw_at lw_m2 188 rfl) rfl
theorem q630 : (Jvm.Cond.methodLink "ClassHouse$Reader" (107 : Nat) ({ cls := "java/util/ArrayList", name := "add", desc := "(Ljava/lang/Object;)Z" } : Jvm.MethodName)) ∈ lw_all := lw_g (lw_at lw_m2 191 rfl) rfl
theorem q668 : (Jvm.Cond.selects "ClassHouse$Reader" ({ cls := "java/lang/Object", name := "getClass", desc := "()Ljava/lang/Class;" } : Jvm.MethodName) ({ cls := "java/lang/Object", name := "getClass", desc := "()Ljava/lang/Class;" } : Jvm.MethodName)) ∈ lw_all := lw_g (lw_at lw_m2 229 rfl) rfl
theorem q689 : (Jvm.Cond.methodLink "ClassHouse$Reader" (122 : Nat) ({ cls := "ClassHouse$Kind", name := "<init>", desc := "(II)V" } : Jvm.MethodName)) ∈ lw_all := lw_g (lw_at lw_m3 10 rfl) rfl
theorem q701 : (Jvm.Cond.fieldLinkNest "ClassHouse$Reader" (129 : Nat) "ClassHouse$Kind" "parentName" "I" "ClassHouse") ∈ lw_tbl := lw_at lw_m3 22 rfl
theorem q710 : (Jvm.Cond.fieldLinkNest "ClassHouse$Reader" (139 : Nat) "ClassHouse$Kind" "members" "Ljava/util/ArrayList;" "ClassHouse") ∈ lw_tbl := lw_at lw_m3 31 rfl
theorem q733 : (Jvm.Cond.stringRef "ClassHouse$Reader" (124 : Nat) ":") ∈ lw_tbl := lw_at lw_m3 54 rfl
theorem q734 : (Jvm.Cond.methodLink "ClassHouse$Reader" (126 : Nat) ({ cls := "ClassHouse$Reader", name := "nextName", desc := "()I" } : Jvm.MethodName)) ∈ lw_all := lw_g (lw_at lw_m3 55 rfl) rfl
theorem q735 : (Jvm.Cond.privateMethod ({ cls := "ClassHouse$Reader", name := "nextName", desc := "()I" } : Jvm.MethodName)) ∈ lw_tbl := lw_at lw_m3 56 rfl
theorem q736 : (Jvm.Cond.instanceMethod ({ cls := "ClassHouse$Reader", name := "nextName", desc := "()I" } : Jvm.MethodName)) ∈ lw_all := lw_g (lw_at lw_m3 57 rfl) rfl
theorem q737 : (Jvm.Cond.code ({ cls := "ClassHouse$Reader", name := "nextName", desc := "()I" } : Jvm.MethodName) prog_7_method_16_code (2 : Nat) (Option.some Jvm.ClassFile.FieldType.int)) ∈ lw_all := lw_g (lw_at lw_m3 58 rfl) rfl
theorem q738 : (Jvm.Cond.stringRef "ClassHouse$Reader" (132 : Nat) "{") ∈ lw_tbl := lw_at lw_m3 59 rfl
theorem q739 : (Jvm.Cond.methodLink "ClassHouse$Reader" (134 : Nat) ({ cls := "ClassHouse$Reader", name := "opens", desc := "(Ljava/lang/String;)V" } : Jvm.MethodName)) ∈ lw_all := lw_g (lw_at lw_m3 60 rfl) rfl
theorem q740 : (Jvm.Cond.privateMethod ({ cls := "ClassHouse$Reader", name := "opens", desc := "(Ljava/lang/String;)V" } : Jvm.MethodName)) ∈ lw_tbl := lw_at lw_m3 61 rfl
theorem q741 : (Jvm.Cond.instanceMethod ({ cls := "ClassHouse$Reader", name := "opens", desc := "(Ljava/lang/String;)V" } : Jvm.MethodName)) ∈ lw_all := lw_g (lw_at lw_m3 62 rfl) rfl
theorem q742 : (Jvm.Cond.code ({ cls := "ClassHouse$Reader", name := "opens", desc := "(Ljava/lang/String;)V" } : Jvm.MethodName) prog_7_method_10_code (2 : Nat) (Option.none : Option Jvm.ClassFile.FieldType)) ∈ lw_all := lw_g (lw_at lw_m3 63 rfl) rfl
theorem q743 : (Jvm.Cond.stringRef "ClassHouse$Reader" (137 : Nat) "}") ∈ lw_tbl := lw_at lw_m3 64 rfl
theorem q744 : (Jvm.Cond.methodLink "ClassHouse$Reader" (142 : Nat) ({ cls := "ClassHouse$Reader", name := "member", desc := "()LClassHouse$Member;" } : Jvm.MethodName)) ∈ lw_all := lw_g (lw_at lw_m3 65 rfl) rfl
theorem q745 : (Jvm.Cond.privateMethod ({ cls := "ClassHouse$Reader", name := "member", desc := "()LClassHouse$Member;" } : Jvm.MethodName)) ∈ lw_tbl := lw_at lw_m3 66 rfl
theorem q746 : (Jvm.Cond.instanceMethod ({ cls := "ClassHouse$Reader", name := "member", desc := "()LClassHouse$Member;" } : Jvm.MethodName)) ∈ lw_all := lw_g (lw_at lw_m3 67 rfl) rfl
theorem q747 : (Jvm.Cond.code ({ cls := "ClassHouse$Reader", name := "member", desc := "()LClassHouse$Member;" } : Jvm.MethodName) prog_7_method_20_code (6 : Nat) (Option.some (Jvm.ClassFile.FieldType.object "ClassHouse$Member"))) ∈ lw_all := lw_g (lw_at lw_m3 68 rfl) rfl
theorem q748 : (Jvm.Cond.stringRef "ClassHouse$Reader" (159 : Nat) "void") ∈ lw_tbl := lw_at lw_m3 69 rfl
theorem q749 : (Jvm.Cond.methodLink "ClassHouse$Reader" (161 : Nat) ({ cls := "ClassHouse$Reader", name := "type", desc := "()I" } : Jvm.MethodName)) ∈ lw_all := lw_g (lw_at lw_m3 70 rfl) rfl
theorem q750 : (Jvm.Cond.privateMethod ({ cls := "ClassHouse$Reader", name := "type", desc := "()I" } : Jvm.MethodName)) ∈ lw_tbl := lw_at lw_m3 71 rfl
theorem q751 : (Jvm.Cond.instanceMethod ({ cls := "ClassHouse$Reader", name := "type", desc := "()I" } : Jvm.MethodName)) ∈ lw_all := lw_g (lw_at lw_m3 72 rfl) rfl
theorem q752 : (Jvm.Cond.code ({ cls := "ClassHouse$Reader", name := "type", desc := "()I" } : Jvm.MethodName) prog_7_method_19_code (2 : Nat) (Option.some Jvm.ClassFile.FieldType.int)) ∈ lw_all := lw_g (lw_at lw_m3 73 rfl) rfl
theorem q753 : (Jvm.Cond.methodLink "ClassHouse$Reader" (155 : Nat) ({ cls := "ClassHouse$Reader", name := "isType", desc := "()Z" } : Jvm.MethodName)) ∈ lw_all := lw_g (lw_at lw_m3 74 rfl) rfl
theorem q754 : (Jvm.Cond.privateMethod ({ cls := "ClassHouse$Reader", name := "isType", desc := "()Z" } : Jvm.MethodName)) ∈ lw_tbl := lw_at lw_m3 75 rfl
theorem q755 : (Jvm.Cond.instanceMethod ({ cls := "ClassHouse$Reader", name := "isType", desc := "()Z" } : Jvm.MethodName)) ∈ lw_all := lw_g (lw_at lw_m3 76 rfl) rfl
theorem q756 : (Jvm.Cond.code ({ cls := "ClassHouse$Reader", name := "isType", desc := "()Z" } : Jvm.MethodName) prog_7_method_18_code (1 : Nat) (Option.some Jvm.ClassFile.FieldType.boolean)) ∈ lw_all := lw_g (lw_at lw_m3 77 rfl) rfl
theorem q757 : (Jvm.Cond.stringRef "ClassHouse$Reader" (149 : Nat) "int") ∈ lw_tbl := lw_at lw_m3 78 rfl
theorem q758 : (Jvm.Cond.stringRef "ClassHouse$Reader" (151 : Nat) "bool") ∈ lw_tbl := lw_at lw_m3 79 rfl
theorem q759 : (Jvm.Cond.stringRef "ClassHouse$Reader" (153 : Nat) "ints") ∈ lw_tbl := lw_at lw_m3 80 rfl
theorem q760 : (Jvm.Cond.stringRef "ClassHouse$Reader" (164 : Nat) ";") ∈ lw_tbl := lw_at lw_m3 81 rfl
theorem q761 : (Jvm.Cond.classLink "ClassHouse$Reader" (166 : Nat) "ClassHouse$Member") ∈ lw_all := lw_g (lw_at lw_m3 82 rfl) rfl
theorem q763 : (Jvm.Cond.methodLink "ClassHouse$Reader" (168 : Nat) ({ cls := "ClassHouse$Member", name := "<init>", desc := "(ZIII)V" } : Jvm.MethodName)) ∈ lw_all := lw_g (lw_at lw_m3 84 rfl) rfl
theorem q777 : (Jvm.Cond.fieldLinkNest "ClassHouse$Reader" (178 : Nat) "ClassHouse$Row" "size" "I" "ClassHouse") ∈ lw_tbl := lw_at lw_m3 98 rfl
theorem q797 : (Jvm.Cond.fieldLinkNest "ClassHouse$Reader" (184 : Nat) "ClassHouse$Member" "types" "LClassHouse$Row;" "ClassHouse") ∈ lw_tbl := lw_at lw_m3 118 rfl
theorem q800 : (Jvm.Cond.fieldLinkNest "ClassHouse$Reader" (175 : Nat) "ClassHouse$Member" "names" "LClassHouse$Row;" "ClassHouse") ∈ lw_tbl := lw_at lw_m3 121 rfl
theorem q802 : (Jvm.Cond.fieldLinkNest "ClassHouse$Reader" (193 : Nat) "ClassHouse$Member" "block" "[LClassHouse$Statement;" "ClassHouse") ∈ lw_tbl := lw_at lw_m3 123 rfl
theorem q804 : (Jvm.Cond.fieldLinkNest "ClassHouse$Reader" (199 : Nat) "ClassHouse$Member" "closing" "I" "ClassHouse") ∈ lw_tbl := lw_at lw_m3 125 rfl
theorem q839 : (Jvm.Cond.stringRef "ClassHouse$Reader" (171 : Nat) "(") ∈ lw_tbl := lw_at lw_m3 160 rfl
theorem q840 : (Jvm.Cond.stringRef "ClassHouse$Reader" (173 : Nat) ")") ∈ lw_tbl := lw_at lw_m3 161 rfl
theorem q841 : (Jvm.Cond.stringRef "ClassHouse$Reader" (182 : Nat) ",") ∈ lw_tbl := lw_at lw_m3 162 rfl
theorem q842 : (Jvm.Cond.methodLink "ClassHouse$Reader" (187 : Nat) ({ cls := "ClassHouse$Row", name := "add", desc := "(I)V" } : Jvm.MethodName)) ∈ lw_all := lw_g (lw_at lw_m3 163 rfl) rfl
theorem q847 : (Jvm.Cond.methodLink "ClassHouse$Reader" (146 : Nat) ({ cls := "ClassHouse$Reader", name := "closes", desc := "(Ljava/lang/String;)V" } : Jvm.MethodName)) ∈ lw_all := lw_g (lw_at lw_m3 168 rfl) rfl
theorem q848 : (Jvm.Cond.privateMethod ({ cls := "ClassHouse$Reader", name := "closes", desc := "(Ljava/lang/String;)V" } : Jvm.MethodName)) ∈ lw_tbl := lw_at lw_m3 169 rfl
theorem q849 : (Jvm.Cond.instanceMethod ({ cls := "ClassHouse$Reader", name := "closes", desc := "(Ljava/lang/String;)V" } : Jvm.MethodName)) ∈ lw_all := lw_g (lw_at lw_m3 170 rfl) rfl
theorem q850 : (Jvm.Cond.code ({ cls := "ClassHouse$Reader", name := "closes", desc := "(Ljava/lang/String;)V" } : Jvm.MethodName) prog_7_method_11_code (2 : Nat) (Option.none : Option Jvm.ClassFile.FieldType)) ∈ lw_all := lw_g (lw_at lw_m3 171 rfl) rfl
theorem q851 : (Jvm.Cond.methodLink "ClassHouse$Reader" (189 : Nat) ({ cls := "ClassHouse$Reader", name := "block", desc := "()[LClassHouse$Statement;" } : Jvm.MethodName)) ∈ lw_all := lw_g (lw_at lw_m3 172 rfl) rfl
theorem q852 : (Jvm.Cond.privateMethod ({ cls := "ClassHouse$Reader", name := "block", desc := "()[LClassHouse$Statement;" } : Jvm.MethodName)) ∈ lw_tbl := lw_at lw_m3 173 rfl
theorem q853 : (Jvm.Cond.instanceMethod ({ cls := "ClassHouse$Reader", name := "block", desc := "()[LClassHouse$Statement;" } : Jvm.MethodName)) ∈ lw_all := lw_g (lw_at lw_m3 174 rfl) rfl
theorem q854 : (Jvm.Cond.code ({ cls := "ClassHouse$Reader", name := "block", desc := "()[LClassHouse$Statement;" } : Jvm.MethodName) prog_7_method_21_code (4 : Nat) (Option.some (Jvm.ClassFile.FieldType.array (Jvm.ClassFile.FieldType.object "ClassHouse$Statement")))) ∈ lw_all := lw_g (lw_at lw_m3 175 rfl) rfl
theorem q855 : (Jvm.Cond.methodLink "ClassHouse$Reader" (200 : Nat) ({ cls := "ClassHouse$Reader", name := "statement", desc := "()LClassHouse$Statement;" } : Jvm.MethodName)) ∈ lw_all := lw_g (lw_at lw_m3 176 rfl) rfl
theorem q856 : (Jvm.Cond.privateMethod ({ cls := "ClassHouse$Reader", name := "statement", desc := "()LClassHouse$Statement;" } : Jvm.MethodName)) ∈ lw_tbl := lw_at lw_m3 177 rfl
theorem q857 : (Jvm.Cond.instanceMethod ({ cls := "ClassHouse$Reader", name := "statement", desc := "()LClassHouse$Statement;" } : Jvm.MethodName)) ∈ lw_all := lw_g (lw_at lw_m3 178 rfl) rfl
theorem q858 : (Jvm.Cond.code ({ cls := "ClassHouse$Reader", name := "statement", desc := "()LClassHouse$Statement;" } : Jvm.MethodName) prog_7_method_23_code (4 : Nat) (Option.some (Jvm.ClassFile.FieldType.object "ClassHouse$Statement"))) ∈ lw_all := lw_g (lw_at lw_m3 179 rfl) rfl
theorem q859 : (Jvm.Cond.methodLink "ClassHouse$Reader" (206 : Nat) ({ cls := "ClassHouse$Reader", name := "isNameBehind", desc := "()Z" } : Jvm.MethodName)) ∈ lw_all := lw_g (lw_at lw_m3 180 rfl) rfl
theorem q860 : (Jvm.Cond.privateMethod ({ cls := "ClassHouse$Reader", name := "isNameBehind", desc := "()Z" } : Jvm.MethodName)) ∈ lw_tbl := lw_at lw_m3 181 rfl
theorem q861 : (Jvm.Cond.instanceMethod ({ cls := "ClassHouse$Reader", name := "isNameBehind", desc := "()Z" } : Jvm.MethodName)) ∈ lw_all := lw_g (lw_at lw_m3 182 rfl) rfl
theorem q862 : (Jvm.Cond.code ({ cls := "ClassHouse$Reader", name := "isNameBehind", desc := "()Z" } : Jvm.MethodName) prog_7_method_22_code (6 : Nat) (Option.some Jvm.ClassFile.FieldType.boolean)) ∈ lw_all := lw_g (lw_at lw_m3 183 rfl) rfl
theorem q863 : (Jvm.Cond.methodLink "ClassHouse$Reader" (209 : Nat) ({ cls := "ClassHouse$Reader", name := "told", desc := "(I)LClassHouse$Statement;" } : Jvm.MethodName)) ∈ lw_all := lw_g (lw_at lw_m3 184 rfl) rfl
theorem q864 : (Jvm.Cond.privateMethod ({ cls := "ClassHouse$Reader", name := "told", desc := "(I)LClassHouse$Statement;" } : Jvm.MethodName)) ∈ lw_tbl := lw_at lw_m3 185 rfl
theorem q865 : (Jvm.Cond.instanceMethod ({ cls := "ClassHouse$Reader", name := "told", desc := "(I)LClassHouse$Statement;" } : Jvm.MethodName)) ∈ lw_all := lw_g (lw_at lw_m3 186 rfl) rfl
theorem q866 : (Jvm.Cond.code ({ cls := "ClassHouse$Reader", name := "told", desc := "(I)LClassHouse$Statement;" } : Jvm.MethodName) prog_7_method_24_code (3 : Nat) (Option.some (Jvm.ClassFile.FieldType.object "ClassHouse$Statement"))) ∈ lw_all := lw_g (lw_at lw_m3 187 rfl) rfl
theorem q867 : (Jvm.Cond.classLink "ClassHouse$Reader" (204 : Nat) "ClassHouse$Statement") ∈ lw_all := lw_g (lw_at lw_m3 188 rfl) rfl
theorem q869 : (Jvm.Cond.methodLink "ClassHouse$Reader" (231 : Nat) ({ cls := "ClassHouse$Statement", name := "<init>", desc := "(II)V" } : Jvm.MethodName)) ∈ lw_all := lw_g (lw_at lw_m3 190 rfl) rfl
theorem q875 : (Jvm.Cond.fieldLinkNest "ClassHouse$Reader" (232 : Nat) "ClassHouse$Statement" "kind" "I" "ClassHouse") ∈ lw_tbl := lw_at lw_m3 196 rfl
theorem q879 : (Jvm.Cond.fieldLinkNest "ClassHouse$Reader" (253 : Nat) "ClassHouse$Statement" "type" "I" "ClassHouse") ∈ lw_tbl := lw_at lw_m3 200 rfl
theorem q881 : (Jvm.Cond.fieldLinkNest "ClassHouse$Reader" (255 : Nat) "ClassHouse$Statement" "name" "I" "ClassHouse") ∈ lw_tbl := lw_at lw_m3 202 rfl
theorem q883 : (Jvm.Cond.fieldLinkNest "ClassHouse$Reader" (247 : Nat) "ClassHouse$Statement" "place0" "LClassHouse$Value;" "ClassHouse") ∈ lw_tbl := lw_at lw_m3 204 rfl
theorem q885 : (Jvm.Cond.fieldLinkNest "ClassHouse$Reader" (237 : Nat) "ClassHouse$Statement" "value" "LClassHouse$Value;" "ClassHouse") ∈ lw_tbl := lw_at lw_m3 206 rfl
theorem q886 : (Jvm.Cond.fieldLinkNest "ClassHouse$Reader" (257 : Nat) "ClassHouse$Statement" "first" "[LClassHouse$Statement;" "ClassHouse") ∈ lw_tbl := lw_at lw_m3 207 rfl
theorem q889 : (Jvm.Cond.fieldLinkNest "ClassHouse$Reader" (262 : Nat) "ClassHouse$Statement" "second" "[LClassHouse$Statement;" "ClassHouse") ∈ lw_tbl := lw_at lw_m3 210 rfl
theorem q907 : (Jvm.Cond.stringRef "ClassHouse$Reader" (240 : Nat) "=") ∈ lw_tbl := lw_at lw_m3 228 rfl
theorem q908 : (Jvm.Cond.methodLink "ClassHouse$Reader" (233 : Nat) ({ cls := "ClassHouse$Reader", name := "value", desc := "()LClassHouse$Value;" } : Jvm.MethodName)) ∈ lw_all := lw_g (lw_at lw_m3 229 rfl) rfl
theorem q909 : (Jvm.Cond.privateMethod ({ cls := "ClassHouse$Reader", name := "value", desc := "()LClassHouse$Value;" } : Jvm.MethodName)) ∈ lw_tbl := lw_at lw_m3 230 rfl
theorem q910 : (Jvm.Cond.instanceMethod ({ cls := "ClassHouse$Reader", name := "value", desc := "()LClassHouse$Value;" } : Jvm.MethodName)) ∈ lw_all := lw_g (lw_at lw_m3 231 rfl) rfl
theorem q911 : (Jvm.Cond.code ({ cls := "ClassHouse$Reader", name := "value", desc := "()LClassHouse$Value;" } : Jvm.MethodName) prog_7_method_28_code (2 : Nat) (Option.some (Jvm.ClassFile.FieldType.object "ClassHouse$Value"))) ∈ lw_all := lw_g (lw_at lw_m3 232 rfl) rfl
theorem q912 : (Jvm.Cond.methodLink "ClassHouse$Reader" (274 : Nat) ({ cls := "ClassHouse$Reader", name := "anded", desc := "()LClassHouse$Value;" } : Jvm.MethodName)) ∈ lw_all := lw_g (lw_at lw_m3 233 rfl) rfl
theorem q913 : (Jvm.Cond.privateMethod ({ cls := "ClassHouse$Reader", name := "anded", desc := "()LClassHouse$Value;" } : Jvm.MethodName)) ∈ lw_tbl := lw_at lw_m3 234 rfl
theorem q914 : (Jvm.Cond.instanceMethod ({ cls := "ClassHouse$Reader", name := "anded", desc := "()LClassHouse$Value;" } : Jvm.MethodName)) ∈ lw_all := lw_g (lw_at lw_m3 235 rfl) rfl
theorem q915 : (Jvm.Cond.code ({ cls := "ClassHouse$Reader", name := "anded", desc := "()LClassHouse$Value;" } : Jvm.MethodName) prog_7_method_29_code (2 : Nat) (Option.some (Jvm.ClassFile.FieldType.object "ClassHouse$Value"))) ∈ lw_all := lw_g (lw_at lw_m3 236 rfl) rfl
theorem q916 : (Jvm.Cond.methodLink "ClassHouse$Reader" (283 : Nat) ({ cls := "ClassHouse$Reader", name := "equaled", desc := "()LClassHouse$Value;" } : Jvm.MethodName)) ∈ lw_all := lw_g (lw_at lw_m3 237 rfl) rfl
theorem q917 : (Jvm.Cond.privateMethod ({ cls := "ClassHouse$Reader", name := "equaled", desc := "()LClassHouse$Value;" } : Jvm.MethodName)) ∈ lw_tbl := lw_at lw_m3 238 rfl
theorem q918 : (Jvm.Cond.instanceMethod ({ cls := "ClassHouse$Reader", name := "equaled", desc := "()LClassHouse$Value;" } : Jvm.MethodName)) ∈ lw_all := lw_g (lw_at lw_m3 239 rfl) rfl
theorem q919 : (Jvm.Cond.code ({ cls := "ClassHouse$Reader", name := "equaled", desc := "()LClassHouse$Value;" } : Jvm.MethodName) prog_7_method_30_code (3 : Nat) (Option.some (Jvm.ClassFile.FieldType.object "ClassHouse$Value"))) ∈ lw_all := lw_g (lw_at lw_m4 0 rfl) rfl
theorem q920 : (Jvm.Cond.methodLink "ClassHouse$Reader" (288 : Nat) ({ cls := "ClassHouse$Reader", name := "related", desc := "()LClassHouse$Value;" } : Jvm.MethodName)) ∈ lw_all := lw_g (lw_at lw_m4 1 rfl) rfl
theorem q921 : (Jvm.Cond.privateMethod ({ cls := "ClassHouse$Reader", name := "related", desc := "()LClassHouse$Value;" } : Jvm.MethodName)) ∈ lw_tbl := lw_at lw_m4 2 rfl
theorem q922 : (Jvm.Cond.instanceMethod ({ cls := "ClassHouse$Reader", name := "related", desc := "()LClassHouse$Value;" } : Jvm.MethodName)) ∈ lw_all := lw_g (lw_at lw_m4 3 rfl) rfl
theorem q923 : (Jvm.Cond.code ({ cls := "ClassHouse$Reader", name := "related", desc := "()LClassHouse$Value;" } : Jvm.MethodName) prog_7_method_31_code (3 : Nat) (Option.some (Jvm.ClassFile.FieldType.object "ClassHouse$Value"))) ∈ lw_all := lw_g (lw_at lw_m4 4 rfl) rfl
theorem q924 : (Jvm.Cond.methodLink "ClassHouse$Reader" (295 : Nat) ({ cls := "ClassHouse$Reader", name := "sum", desc := "()LClassHouse$Value;" } : Jvm.MethodName)) ∈ lw_all := lw_g (lw_at lw_m4 5 rfl) rfl
theorem q925 : (Jvm.Cond.privateMethod ({ cls := "ClassHouse$Reader", name := "sum", desc := "()LClassHouse$Value;" } : Jvm.MethodName)) ∈ lw_tbl := lw_at lw_m4 6 rfl
theorem q926 : (Jvm.Cond.instanceMethod ({ cls := "ClassHouse$Reader", name := "sum", desc := "()LClassHouse$Value;" } : Jvm.MethodName)) ∈ lw_all := lw_g (lw_at lw_m4 7 rfl) rfl
theorem q927 : (Jvm.Cond.code ({ cls := "ClassHouse$Reader", name := "sum", desc := "()LClassHouse$Value;" } : Jvm.MethodName) prog_7_method_32_code (3 : Nat) (Option.some (Jvm.ClassFile.FieldType.object "ClassHouse$Value"))) ∈ lw_all := lw_g (lw_at lw_m4 8 rfl) rfl
theorem q928 : (Jvm.Cond.methodLink "ClassHouse$Reader" (303 : Nat) ({ cls := "ClassHouse$Reader", name := "product", desc := "()LClassHouse$Value;" } : Jvm.MethodName)) ∈ lw_all := lw_g (lw_at lw_m4 9 rfl) rfl
theorem q929 : (Jvm.Cond.privateMethod ({ cls := "ClassHouse$Reader", name := "product", desc := "()LClassHouse$Value;" } : Jvm.MethodName)) ∈ lw_tbl := lw_at lw_m4 10 rfl
theorem q930 : (Jvm.Cond.instanceMethod ({ cls := "ClassHouse$Reader", name := "product", desc := "()LClassHouse$Value;" } : Jvm.MethodName)) ∈ lw_all := lw_g (lw_at lw_m4 11 rfl) rfl
theorem q931 : (Jvm.Cond.code ({ cls := "ClassHouse$Reader", name := "product", desc := "()LClassHouse$Value;" } : Jvm.MethodName) prog_7_method_33_code (3 : Nat) (Option.some (Jvm.ClassFile.FieldType.object "ClassHouse$Value"))) ∈ lw_all := lw_g (lw_at lw_m4 12 rfl) rfl
theorem q932 : (Jvm.Cond.methodLink "ClassHouse$Reader" (310 : Nat) ({ cls := "ClassHouse$Reader", name := "one", desc := "()LClassHouse$Value;" } : Jvm.MethodName)) ∈ lw_all := lw_g (lw_at lw_m4 13 rfl) rfl
theorem q933 : (Jvm.Cond.privateMethod ({ cls := "ClassHouse$Reader", name := "one", desc := "()LClassHouse$Value;" } : Jvm.MethodName)) ∈ lw_tbl := lw_at lw_m4 14 rfl
theorem q934 : (Jvm.Cond.instanceMethod ({ cls := "ClassHouse$Reader", name := "one", desc := "()LClassHouse$Value;" } : Jvm.MethodName)) ∈ lw_all := lw_g (lw_at lw_m4 15 rfl) rfl
theorem q935 : (Jvm.Cond.code ({ cls := "ClassHouse$Reader", name := "one", desc := "()LClassHouse$Value;" } : Jvm.MethodName) prog_7_method_34_code (4 : Nat) (Option.some (Jvm.ClassFile.FieldType.object "ClassHouse$Value"))) ∈ lw_all := lw_g (lw_at lw_m4 16 rfl) rfl
theorem q936 : (Jvm.Cond.stringRef "ClassHouse$Reader" (308 : Nat) "-") ∈ lw_tbl := lw_at lw_m4 17 rfl
theorem q937 : (Jvm.Cond.stringRef "ClassHouse$Reader" (319 : Nat) "!") ∈ lw_tbl := lw_at lw_m4 18 rfl
theorem q938 : (Jvm.Cond.classLink "ClassHouse$Reader" (243 : Nat) "ClassHouse$Value") ∈ lw_all := lw_g (lw_at lw_m4 19 rfl) rfl
theorem q940 : (Jvm.Cond.methodLink "ClassHouse$Reader" (267 : Nat) ({ cls := "ClassHouse$Value", name := "<init>", desc := "(II)V" } : Jvm.MethodName)) ∈ lw_all := lw_g (lw_at lw_m4 21 rfl) rfl
theorem q947 : (Jvm.Cond.fieldLinkNest "ClassHouse$Reader" (268 : Nat) "ClassHouse$Value" "left" "LClassHouse$Value;" "ClassHouse") ∈ lw_tbl := lw_at lw_m4 28 rfl
theorem q949 : (Jvm.Cond.fieldLinkNest "ClassHouse$Reader" (271 : Nat) "ClassHouse$Value" "right" "LClassHouse$Value;" "ClassHouse") ∈ lw_tbl := lw_at lw_m4 30 rfl
theorem q951 : (Jvm.Cond.fieldLinkNest "ClassHouse$Reader" (332 : Nat) "ClassHouse$Value" "arguments" "[LClassHouse$Value;" "ClassHouse") ∈ lw_tbl := lw_at lw_m4 32 rfl
theorem q954 : (Jvm.Cond.fieldLinkNest "ClassHouse$Reader" (325 : Nat) "ClassHouse$Value" "what" "I" "ClassHouse") ∈ lw_tbl := lw_at lw_m4 35 rfl
theorem q957 : (Jvm.Cond.fieldLinkNest "ClassHouse$Reader" (359 : Nat) "ClassHouse$Value" "type" "I" "ClassHouse") ∈ lw_tbl := lw_at lw_m4 38 rfl
theorem q971 : (Jvm.Cond.methodLink "ClassHouse$Reader" (321 : Nat) ({ cls := "ClassHouse$Reader", name := "first", desc := "()LClassHouse$Value;" } : Jvm.MethodName)) ∈ lw_all := lw_g (lw_at lw_m4 52 rfl) rfl
theorem q972 : (Jvm.Cond.privateMethod ({ cls := "ClassHouse$Reader", name := "first", desc := "()LClassHouse$Value;" } : Jvm.MethodName)) ∈ lw_tbl := lw_at lw_m4 53 rfl
theorem q973 : (Jvm.Cond.instanceMethod ({ cls := "ClassHouse$Reader", name := "first", desc := "()LClassHouse$Value;" } : Jvm.MethodName)) ∈ lw_all := lw_g (lw_at lw_m4 54 rfl) rfl
theorem q974 : (Jvm.Cond.code ({ cls := "ClassHouse$Reader", name := "first", desc := "()LClassHouse$Value;" } : Jvm.MethodName) prog_7_method_36_code (3 : Nat) (Option.some (Jvm.ClassFile.FieldType.object "ClassHouse$Value"))) ∈ lw_all := lw_g (lw_at lw_m4 55 rfl) rfl
theorem q975 : (Jvm.Cond.stringRef "ClassHouse$Reader" (344 : Nat) "new") ∈ lw_tbl := lw_at lw_m4 56 rfl
theorem q976 : (Jvm.Cond.stringRef "ClassHouse$Reader" (335 : Nat) "[") ∈ lw_tbl := lw_at lw_m4 57 rfl
theorem q977 : (Jvm.Cond.stringRef "ClassHouse$Reader" (337 : Nat) "]") ∈ lw_tbl := lw_at lw_m4 58 rfl
theorem q978 : (Jvm.Cond.methodLink "ClassHouse$Reader" (328 : Nat) ({ cls := "ClassHouse$Reader", name := "arguments", desc := "()[LClassHouse$Value;" } : Jvm.MethodName)) ∈ lw_all := lw_g (lw_at lw_m4 59 rfl) rfl
theorem q979 : (Jvm.Cond.privateMethod ({ cls := "ClassHouse$Reader", name := "arguments", desc := "()[LClassHouse$Value;" } : Jvm.MethodName)) ∈ lw_tbl := lw_at lw_m4 60 rfl
theorem q980 : (Jvm.Cond.instanceMethod ({ cls := "ClassHouse$Reader", name := "arguments", desc := "()[LClassHouse$Value;" } : Jvm.MethodName)) ∈ lw_all := lw_g (lw_at lw_m4 61 rfl) rfl
theorem q981 : (Jvm.Cond.code ({ cls := "ClassHouse$Reader", name := "arguments", desc := "()[LClassHouse$Value;" } : Jvm.MethodName) prog_7_method_35_code (4 : Nat) (Option.some (Jvm.ClassFile.FieldType.array (Jvm.ClassFile.FieldType.object "ClassHouse$Value")))) ∈ lw_all := lw_g (lw_at lw_m4 62 rfl) rfl
theorem q982 : (Jvm.Cond.methodLink "ClassHouse$Reader" (341 : Nat) ({ cls := "java/util/ArrayList", name := "isEmpty", desc := "()Z" } : Jvm.MethodName)) ∈ lw_all := lw_g (lw_at lw_m4 63 rfl) rfl
theorem q987 : (Jvm.Cond.methodLink "ClassHouse$Reader" (346 : Nat) ({ cls := "ClassHouse$Reader", name := "simple", desc := "()LClassHouse$Value;" } : Jvm.MethodName)) ∈ lw_all := lw_g (lw_at lw_m4 68 rfl) rfl
theorem q988 : (Jvm.Cond.privateMethod ({ cls := "ClassHouse$Reader", name := "simple", desc := "()LClassHouse$Value;" } : Jvm.MethodName)) ∈ lw_tbl := lw_at lw_m4 69 rfl
theorem q989 : (Jvm.Cond.instanceMethod ({ cls := "ClassHouse$Reader", name := "simple", desc := "()LClassHouse$Value;" } : Jvm.MethodName)) ∈ lw_all := lw_g (lw_at lw_m4 70 rfl) rfl
theorem q990 : (Jvm.Cond.code ({ cls := "ClassHouse$Reader", name := "simple", desc := "()LClassHouse$Value;" } : Jvm.MethodName) prog_7_method_37_code (4 : Nat) (Option.some (Jvm.ClassFile.FieldType.object "ClassHouse$Value"))) ∈ lw_all := lw_g (lw_at lw_m4 71 rfl) rfl
theorem q991 : (Jvm.Cond.stringRef "ClassHouse$Reader" (349 : Nat) "true") ∈ lw_tbl := lw_at lw_m4 72 rfl
theorem q992 : (Jvm.Cond.stringRef "ClassHouse$Reader" (351 : Nat) "false") ∈ lw_tbl := lw_at lw_m4 73 rfl
theorem q993 : (Jvm.Cond.stringRef "ClassHouse$Reader" (353 : Nat) "null") ∈ lw_tbl := lw_at lw_m4 74 rfl
theorem q994 : (Jvm.Cond.stringRef "ClassHouse$Reader" (355 : Nat) "this") ∈ lw_tbl := lw_at lw_m4 75 rfl
theorem q995 : (Jvm.Cond.stringRef "ClassHouse$Reader" (357 : Nat) "read") ∈ lw_tbl := lw_at lw_m4 76 rfl
theorem q996 : (Jvm.Cond.stringRef "ClassHouse$Reader" (323 : Nat) ".") ∈ lw_tbl := lw_at lw_m4 77 rfl
theorem q997 : (Jvm.Cond.methodLink "ClassHouse$Reader" (279 : Nat) ({ cls := "ClassHouse$Reader", name := "joined", desc := "(IILClassHouse$Value;LClassHouse$Value;)LClassHouse$Value;" } : Jvm.MethodName)) ∈ lw_all := lw_g (lw_at lw_m4 78 rfl) rfl
theorem q998 : (Jvm.Cond.static ({ cls := "ClassHouse$Reader", name := "joined", desc := "(IILClassHouse$Value;LClassHouse$Value;)LClassHouse$Value;" } : Jvm.MethodName)) ∈ lw_all := lw_g (lw_at lw_m4 79 rfl) rfl
theorem q999 : (Jvm.Cond.code ({ cls := "ClassHouse$Reader", name := "joined", desc := "(IILClassHouse$Value;LClassHouse$Value;)LClassHouse$Value;" } : Jvm.MethodName) prog_7_method_27_code (5 : Nat) (Option.some (Jvm.ClassFile.FieldType.object "ClassHouse$Value"))) ∈ lw_all := lw_g (lw_at lw_m4 80 rfl) rfl
theorem q1000 : (Jvm.Cond.stringRef "ClassHouse$Reader" (339 : Nat) "as") ∈ lw_tbl := lw_at lw_m4 81 rfl
theorem q1001 : (Jvm.Cond.stringRef "ClassHouse$Reader" (313 : Nat) "*") ∈ lw_tbl := lw_at lw_m4 82 rfl
theorem q1002 : (Jvm.Cond.stringRef "ClassHouse$Reader" (315 : Nat) "/") ∈ lw_tbl := lw_at lw_m4 83 rfl
theorem q1003 : (Jvm.Cond.stringRef "ClassHouse$Reader" (317 : Nat) "%") ∈ lw_tbl := lw_at lw_m4 84 rfl
theorem q1004 : (Jvm.Cond.stringRef "ClassHouse$Reader" (306 : Nat) "+") ∈ lw_tbl := lw_at lw_m4 85 rfl
theorem q1005 : (Jvm.Cond.stringRef "ClassHouse$Reader" (298 : Nat) "<") ∈ lw_tbl := lw_at lw_m4 86 rfl
theorem q1006 : (Jvm.Cond.stringRef "ClassHouse$Reader" (300 : Nat) "<=") ∈ lw_tbl := lw_at lw_m4 87 rfl
theorem q1007 : (Jvm.Cond.stringRef "ClassHouse$Reader" (302 : Nat) "is") ∈ lw_tbl := lw_at lw_m4 88 rfl
theorem q1008 : (Jvm.Cond.stringRef "ClassHouse$Reader" (291 : Nat) "==") ∈ lw_tbl := lw_at lw_m4 89 rfl
theorem q1009 : (Jvm.Cond.stringRef "ClassHouse$Reader" (293 : Nat) "!=") ∈ lw_tbl := lw_at lw_m4 90 rfl
theorem q1010 : (Jvm.Cond.stringRef "ClassHouse$Reader" (286 : Nat) "&&") ∈ lw_tbl := lw_at lw_m4 91 rfl
theorem q1011 : (Jvm.Cond.stringRef "ClassHouse$Reader" (277 : Nat) "||") ∈ lw_tbl := lw_at lw_m4 92 rfl
theorem q1012 : (Jvm.Cond.stringRef "ClassHouse$Reader" (213 : Nat) "if") ∈ lw_tbl := lw_at lw_m4 93 rfl
theorem q1013 : (Jvm.Cond.stringRef "ClassHouse$Reader" (215 : Nat) "while") ∈ lw_tbl := lw_at lw_m4 94 rfl
theorem q1014 : (Jvm.Cond.methodLink "ClassHouse$Reader" (217 : Nat) ({ cls := "ClassHouse$Reader", name := "conditional", desc := "(I)LClassHouse$Statement;" } : Jvm.MethodName)) ∈ lw_all := lw_g (lw_at lw_m4 95 rfl) rfl
theorem q1015 : (Jvm.Cond.privateMethod ({ cls := "ClassHouse$Reader", name := "conditional", desc := "(I)LClassHouse$Statement;" } : Jvm.MethodName)) ∈ lw_tbl := lw_at lw_m4 96 rfl
theorem q1016 : (Jvm.Cond.instanceMethod ({ cls := "ClassHouse$Reader", name := "conditional", desc := "(I)LClassHouse$Statement;" } : Jvm.MethodName)) ∈ lw_all := lw_g (lw_at lw_m4 97 rfl) rfl
theorem q1017 : (Jvm.Cond.code ({ cls := "ClassHouse$Reader", name := "conditional", desc := "(I)LClassHouse$Statement;" } : Jvm.MethodName) prog_7_method_25_code (3 : Nat) (Option.some (Jvm.ClassFile.FieldType.object "ClassHouse$Statement"))) ∈ lw_all := lw_g (lw_at lw_m4 98 rfl) rfl
theorem q1018 : (Jvm.Cond.stringRef "ClassHouse$Reader" (260 : Nat) "else") ∈ lw_tbl := lw_at lw_m4 99 rfl
theorem q1019 : (Jvm.Cond.stringRef "ClassHouse$Reader" (220 : Nat) "try") ∈ lw_tbl := lw_at lw_m4 100 rfl
theorem q1020 : (Jvm.Cond.methodLink "ClassHouse$Reader" (222 : Nat) ({ cls := "ClassHouse$Reader", name := "tried", desc := "(I)LClassHouse$Statement;" } : Jvm.MethodName)) ∈ lw_all := lw_g (lw_at lw_m4 101 rfl) rfl
theorem q1021 : (Jvm.Cond.privateMethod ({ cls := "ClassHouse$Reader", name := "tried", desc := "(I)LClassHouse$Statement;" } : Jvm.MethodName)) ∈ lw_tbl := lw_at lw_m4 102 rfl
theorem q1022 : (Jvm.Cond.instanceMethod ({ cls := "ClassHouse$Reader", name := "tried", desc := "(I)LClassHouse$Statement;" } : Jvm.MethodName)) ∈ lw_all := lw_g (lw_at lw_m4 103 rfl) rfl
theorem q1023 : (Jvm.Cond.code ({ cls := "ClassHouse$Reader", name := "tried", desc := "(I)LClassHouse$Statement;" } : Jvm.MethodName) prog_7_method_26_code (3 : Nat) (Option.some (Jvm.ClassFile.FieldType.object "ClassHouse$Statement"))) ∈ lw_all := lw_g (lw_at lw_m4 104 rfl) rfl
theorem q1024 : (Jvm.Cond.stringRef "ClassHouse$Reader" (265 : Nat) "catch") ∈ lw_tbl := lw_at lw_m4 105 rfl
theorem q1025 : (Jvm.Cond.stringRef "ClassHouse$Reader" (225 : Nat) "return") ∈ lw_tbl := lw_at lw_m4 106 rfl
theorem q1026 : (Jvm.Cond.stringRef "ClassHouse$Reader" (227 : Nat) "throw") ∈ lw_tbl := lw_at lw_m4 107 rfl
theorem q1027 : (Jvm.Cond.stringRef "ClassHouse$Reader" (229 : Nat) "print") ∈ lw_tbl := lw_at lw_m4 108 rfl
theorem q1028 : (Jvm.Cond.methodLink "ClassHouse$Reader" (242 : Nat) ({ cls := "ClassHouse$Value", name := "isPlace", desc := "()Z" } : Jvm.MethodName)) ∈ lw_all := lw_g (lw_at lw_m4 109 rfl) rfl
theorem q1032 : (Jvm.Cond.methodLink "ClassHouse$Reader" (250 : Nat) ({ cls := "ClassHouse$Value", name := "isCall", desc := "()Z" } : Jvm.MethodName)) ∈ lw_all := lw_g (lw_at lw_m4 113 rfl) rfl
theorem q1056 : (Jvm.Cond.instanceMethod ({ cls := "ClassHouse$Reader", name := "nameOf", desc := "(Ljava/lang/String;)I" } : Jvm.MethodName)) ∈ lw_all := lw_g (lw_at lw_m4 137 rfl) rfl
theorem q1057 : (Jvm.Cond.selects "ClassHouse$Reader" ({ cls := "ClassHouse$Reader", name := "nameOf", desc := "(Ljava/lang/String;)I" } : Jvm.MethodName) ({ cls := "ClassHouse$Reader", name := "nameOf", desc := "(Ljava/lang/String;)I" } : Jvm.MethodName)) ∈ lw_all := lw_g (lw_at lw_m4 138 rfl) rfl
theorem q1058 : (Jvm.Cond.code ({ cls := "ClassHouse$Reader", name := "nameOf", desc := "(Ljava/lang/String;)I" } : Jvm.MethodName) prog_7_method_12_code (4 : Nat) (Option.some Jvm.ClassFile.FieldType.int)) ∈ lw_all := lw_g (lw_at lw_m4 139 rfl) rfl
theorem q2338 : (Jvm.Cond.castable "ClassHouse$Reader" "java/lang/Object") ∈ lw_tbl := lw_at lw_m9 219 rfl
theorem in_X4 : ∀ w ∈ wsX40, w ∈ lw_all := lw_in wsX40 [474, 476, 478, 480, 482, 484, 486, 488, 490] (by decide +kernel) (by decide +kernel)

def RX5 : String := "ClassHouse$Refused"
def TX5 : u_T := fun k => match k with
  | 0 => ("java/lang/Throwable", "cause", "Ljava/lang/Throwable;", false)
  | 1 => ("java/lang/Throwable", "stackTrace", "[Ljava/lang/StackTraceElement;", false)
  | 2 => ("java/lang/Throwable", "suppressedExceptions", "Ljava/util/List;", false)
  | 3 => ("java/lang/Throwable", "detailMessage", "Ljava/lang/String;", false)
  | 4 => ("java/lang/Throwable", "backtrace", "Ljava/lang/Object;", false)
  | 5 => ("java/lang/Throwable", "depth", "I", false)
  | _ => ("ClassHouse$Refused", "answer", "I", true)
def tyX5 : Nat → FieldType := fun k => match k with
  | 0 => .object "java/lang/Throwable"
  | 1 => .array (.object "java/lang/StackTraceElement")
  | 2 => .object "java/util/List"
  | 3 => .object "java/lang/String"
  | 4 => .object "java/lang/Object"
  | 5 => .int
  | _ => .int
abbrev wsX50 : List Cond := u_ws RX5 TX5 7
theorem nmX5 : ∀ a, a < 7 → ∀ b, b < 7 → a ≠ b → (TX5 a).2.1 ≠ (TX5 b).2.1 := by decide +kernel
theorem tyX5_ok : ∀ k, k < 7 → parseFieldDescriptor (TX5 k).2.2.1 = some (tyX5 k) := by decide +kernel
theorem q215 : (Jvm.Cond.initialized "ClassHouse$Refused") ∈ lw_all := lw_g (lw_at lw_m1 16 rfl) rfl
theorem q279 : (Jvm.Cond.selects "ClassHouse$Refused" ({ cls := "java/lang/Throwable", name := "fillInStackTrace", desc := "()Ljava/lang/Throwable;" } : Jvm.MethodName) ({ cls := "java/lang/Throwable", name := "fillInStackTrace", desc := "()Ljava/lang/Throwable;" } : Jvm.MethodName)) ∈ lw_all := lw_g (lw_at lw_m1 80 rfl) rfl
theorem q566 : (Jvm.Cond.instantiable "ClassHouse$Refused" (7 : Nat)) ∈ lw_all := lw_g (lw_at lw_m2 127 rfl) rfl
theorem q567 : (Jvm.Cond.castable "ClassHouse$Refused" "ClassHouse$Refused") ∈ lw_tbl := lw_at lw_m2 128 rfl
theorem q568 : (Jvm.Cond.selects "ClassHouse$Refused" ({ cls := "java/lang/Throwable", name := "fillInStackTrace", desc := "(I)Ljava/lang/Throwable;" } : Jvm.MethodName) ({ cls := "java/lang/Throwable", name := "fillInStackTrace", desc := "(I)Ljava/lang/Throwable;" } : Jvm.MethodName)) ∈ lw_all := lw_g (lw_at lw_m2 129 rfl) rfl
theorem q569 : (Jvm.Cond.lays "ClassHouse$Refused" "java/lang/Throwable" "cause" "Ljava/lang/Throwable;") ∈ lw_all := lw_g (lw_at lw_m2 130 rfl) rfl
theorem q570 : (Jvm.Cond.lays "ClassHouse$Refused" "java/lang/Throwable" "stackTrace" "[Ljava/lang/StackTraceElement;") ∈ lw_all := lw_g (lw_at lw_m2 131 rfl) rfl
theorem q571 : (Jvm.Cond.lays "ClassHouse$Refused" "java/lang/Throwable" "suppressedExceptions" "Ljava/util/List;") ∈ lw_all := lw_g (lw_at lw_m2 132 rfl) rfl
theorem q572 : (Jvm.Cond.lays "ClassHouse$Refused" "java/lang/Throwable" "detailMessage" "Ljava/lang/String;") ∈ lw_all := lw_g (lw_at lw_m2 133 rfl) rfl
theorem q573 : (Jvm.Cond.lays "ClassHouse$Refused" "java/lang/Throwable" "backtrace" "Ljava/lang/Object;") ∈ lw_all := lw_g (lw_at lw_m2 134 rfl) rfl
theorem q575 : (Jvm.Cond.instanceMethod ({ cls := "ClassHouse$Refused", name := "<init>", desc := "(I)V" } : Jvm.MethodName)) ∈ lw_all := lw_g (lw_at lw_m2 136 rfl) rfl
theorem q576 : (Jvm.Cond.code ({ cls := "ClassHouse$Refused", name := "<init>", desc := "(I)V" } : Jvm.MethodName) prog_8_method_1_code (2 : Nat) (Option.none : Option Jvm.ClassFile.FieldType)) ∈ lw_all := lw_g (lw_at lw_m2 137 rfl) rfl
theorem q577 : (Jvm.Cond.methodLink "ClassHouse$Refused" (1 : Nat) ({ cls := "java/lang/RuntimeException", name := "<init>", desc := "()V" } : Jvm.MethodName)) ∈ lw_all := lw_g (lw_at lw_m2 138 rfl) rfl
theorem q578 : (Jvm.Cond.fieldLink "ClassHouse$Refused" (7 : Nat) "ClassHouse$Refused" "answer" "I") ∈ lw_all := lw_g (lw_at lw_m2 139 rfl) rfl
theorem q580 : (Jvm.Cond.laysFinal "ClassHouse$Refused" "ClassHouse$Refused" "answer" "I") ∈ lw_all := lw_g (lw_at lw_m2 141 rfl) rfl
theorem q581 : (Jvm.Cond.soleField "ClassHouse$Refused" "answer") ∈ lw_all := lw_g (lw_at lw_m2 142 rfl) rfl
theorem q582 : (Jvm.Cond.lays "ClassHouse$Refused" "java/lang/Throwable" "depth" "I") ∈ lw_all := lw_g (lw_at lw_m2 143 rfl) rfl
theorem q583 : (Jvm.Cond.superclass "ClassHouse$Refused" "java/lang/RuntimeException") ∈ lw_all := lw_g (lw_at lw_m2 144 rfl) rfl
theorem q669 : (Jvm.Cond.selects "ClassHouse$Refused" ({ cls := "java/lang/Object", name := "getClass", desc := "()Ljava/lang/Class;" } : Jvm.MethodName) ({ cls := "java/lang/Object", name := "getClass", desc := "()Ljava/lang/Class;" } : Jvm.MethodName)) ∈ lw_all := lw_g (lw_at lw_m2 230 rfl) rfl
theorem q2340 : (Jvm.Cond.castable "ClassHouse$Refused" "java/lang/Object") ∈ lw_tbl := lw_at lw_m9 221 rfl
theorem in_X5 : ∀ w ∈ wsX50, w ∈ lw_all := lw_in wsX50 [569, 570, 571, 572, 573, 582, 580] (by decide +kernel) (by decide +kernel)

def RX6 : String := "ClassHouse$Kind"
def TX6 : u_T := fun k => match k with
  | 0 => ("ClassHouse$Kind", "name", "I", true)
  | 1 => ("ClassHouse$Kind", "place", "I", true)
  | 2 => ("ClassHouse$Kind", "parentName", "I", false)
  | 3 => ("ClassHouse$Kind", "parent", "LClassHouse$Kind;", false)
  | 4 => ("ClassHouse$Kind", "number", "I", false)
  | 5 => ("ClassHouse$Kind", "members", "Ljava/util/ArrayList;", true)
  | 6 => ("ClassHouse$Kind", "before", "I", false)
  | _ => ("ClassHouse$Kind", "fields", "I", false)
def tyX6 : Nat → FieldType := fun k => match k with
  | 0 => .int
  | 1 => .int
  | 2 => .int
  | 3 => .object "ClassHouse$Kind"
  | 4 => .int
  | 5 => .object "java/util/ArrayList"
  | 6 => .int
  | _ => .int
abbrev wsX60 : List Cond := u_ws RX6 TX6 8
theorem nmX6 : ∀ a, a < 8 → ∀ b, b < 8 → a ≠ b → (TX6 a).2.1 ≠ (TX6 b).2.1 := by decide +kernel
theorem tyX6_ok : ∀ k, k < 8 → parseFieldDescriptor (TX6 k).2.2.1 = some (tyX6 k) := by decide +kernel
theorem q216 : (Jvm.Cond.initialized "ClassHouse$Kind") ∈ lw_all := lw_g (lw_at lw_m1 17 rfl) rfl
theorem q598 : (Jvm.Cond.instantiable "ClassHouse$Kind" (8 : Nat)) ∈ lw_all := lw_g (lw_at lw_m2 159 rfl) rfl
theorem q665 : (Jvm.Cond.selects "ClassHouse$Kind" ({ cls := "java/lang/Object", name := "getClass", desc := "()Ljava/lang/Class;" } : Jvm.MethodName) ({ cls := "java/lang/Object", name := "getClass", desc := "()Ljava/lang/Class;" } : Jvm.MethodName)) ∈ lw_all := lw_g (lw_at lw_m2 226 rfl) rfl
theorem q690 : (Jvm.Cond.instanceMethod ({ cls := "ClassHouse$Kind", name := "<init>", desc := "(II)V" } : Jvm.MethodName)) ∈ lw_all := lw_g (lw_at lw_m3 11 rfl) rfl
theorem q691 : (Jvm.Cond.code ({ cls := "ClassHouse$Kind", name := "<init>", desc := "(II)V" } : Jvm.MethodName) prog_4_method_1_code (3 : Nat) (Option.none : Option Jvm.ClassFile.FieldType)) ∈ lw_all := lw_g (lw_at lw_m3 12 rfl) rfl
theorem q692 : (Jvm.Cond.methodLink "ClassHouse$Kind" (1 : Nat) ({ cls := "java/lang/Object", name := "<init>", desc := "()V" } : Jvm.MethodName)) ∈ lw_all := lw_g (lw_at lw_m3 13 rfl) rfl
theorem q693 : (Jvm.Cond.classLink "ClassHouse$Kind" (13 : Nat) "java/util/ArrayList") ∈ lw_all := lw_g (lw_at lw_m3 14 rfl) rfl
theorem q694 : (Jvm.Cond.methodLink "ClassHouse$Kind" (15 : Nat) ({ cls := "java/util/ArrayList", name := "<init>", desc := "()V" } : Jvm.MethodName)) ∈ lw_all := lw_g (lw_at lw_m3 15 rfl) rfl
theorem q695 : (Jvm.Cond.fieldLink "ClassHouse$Kind" (20 : Nat) "ClassHouse$Kind" "name" "I") ∈ lw_all := lw_g (lw_at lw_m3 16 rfl) rfl
theorem q697 : (Jvm.Cond.fieldLink "ClassHouse$Kind" (23 : Nat) "ClassHouse$Kind" "place" "I") ∈ lw_all := lw_g (lw_at lw_m3 18 rfl) rfl
theorem q699 : (Jvm.Cond.fieldLink "ClassHouse$Kind" (7 : Nat) "ClassHouse$Kind" "parentName" "I") ∈ lw_all := lw_g (lw_at lw_m3 20 rfl) rfl
theorem q702 : (Jvm.Cond.fieldLink "ClassHouse$Kind" (45 : Nat) "ClassHouse$Kind" "parent" "LClassHouse$Kind;") ∈ lw_all := lw_g (lw_at lw_m3 23 rfl) rfl
theorem q707 : (Jvm.Cond.fieldLink "ClassHouse$Kind" (16 : Nat) "ClassHouse$Kind" "members" "Ljava/util/ArrayList;") ∈ lw_all := lw_g (lw_at lw_m3 28 rfl) rfl
theorem q711 : (Jvm.Cond.fieldLink "ClassHouse$Kind" (49 : Nat) "ClassHouse$Kind" "before" "I") ∈ lw_all := lw_g (lw_at lw_m3 32 rfl) rfl
theorem q716 : (Jvm.Cond.laysFinal "ClassHouse$Kind" "ClassHouse$Kind" "name" "I") ∈ lw_all := lw_g (lw_at lw_m3 37 rfl) rfl
theorem q717 : (Jvm.Cond.soleField "ClassHouse$Kind" "name") ∈ lw_all := lw_g (lw_at lw_m3 38 rfl) rfl
theorem q718 : (Jvm.Cond.laysFinal "ClassHouse$Kind" "ClassHouse$Kind" "place" "I") ∈ lw_all := lw_g (lw_at lw_m3 39 rfl) rfl
theorem q719 : (Jvm.Cond.soleField "ClassHouse$Kind" "place") ∈ lw_all := lw_g (lw_at lw_m3 40 rfl) rfl
theorem q720 : (Jvm.Cond.lays "ClassHouse$Kind" "ClassHouse$Kind" "parentName" "I") ∈ lw_all := lw_g (lw_at lw_m3 41 rfl) rfl
theorem q721 : (Jvm.Cond.soleField "ClassHouse$Kind" "parentName") ∈ lw_all := lw_g (lw_at lw_m3 42 rfl) rfl
theorem q722 : (Jvm.Cond.lays "ClassHouse$Kind" "ClassHouse$Kind" "parent" "LClassHouse$Kind;") ∈ lw_all := lw_g (lw_at lw_m3 43 rfl) rfl
theorem q723 : (Jvm.Cond.soleField "ClassHouse$Kind" "parent") ∈ lw_all := lw_g (lw_at lw_m3 44 rfl) rfl
theorem q724 : (Jvm.Cond.lays "ClassHouse$Kind" "ClassHouse$Kind" "number" "I") ∈ lw_all := lw_g (lw_at lw_m3 45 rfl) rfl
theorem q725 : (Jvm.Cond.soleField "ClassHouse$Kind" "number") ∈ lw_all := lw_g (lw_at lw_m3 46 rfl) rfl
theorem q726 : (Jvm.Cond.laysFinal "ClassHouse$Kind" "ClassHouse$Kind" "members" "Ljava/util/ArrayList;") ∈ lw_all := lw_g (lw_at lw_m3 47 rfl) rfl
theorem q727 : (Jvm.Cond.soleField "ClassHouse$Kind" "members") ∈ lw_all := lw_g (lw_at lw_m3 48 rfl) rfl
theorem q728 : (Jvm.Cond.lays "ClassHouse$Kind" "ClassHouse$Kind" "before" "I") ∈ lw_all := lw_g (lw_at lw_m3 49 rfl) rfl
theorem q729 : (Jvm.Cond.soleField "ClassHouse$Kind" "before") ∈ lw_all := lw_g (lw_at lw_m3 50 rfl) rfl
theorem q730 : (Jvm.Cond.lays "ClassHouse$Kind" "ClassHouse$Kind" "fields" "I") ∈ lw_all := lw_g (lw_at lw_m3 51 rfl) rfl
theorem q731 : (Jvm.Cond.soleField "ClassHouse$Kind" "fields") ∈ lw_all := lw_g (lw_at lw_m3 52 rfl) rfl
theorem q732 : (Jvm.Cond.superclass "ClassHouse$Kind" "java/lang/Object") ∈ lw_all := lw_g (lw_at lw_m3 53 rfl) rfl
theorem q785 : (Jvm.Cond.fieldLinkNest "ClassHouse$Kind" (36 : Nat) "ClassHouse$Member" "isMethod" "Z" "ClassHouse") ∈ lw_tbl := lw_at lw_m3 106 rfl
theorem q791 : (Jvm.Cond.fieldLinkNest "ClassHouse$Kind" (40 : Nat) "ClassHouse$Member" "name" "I" "ClassHouse") ∈ lw_tbl := lw_at lw_m3 112 rfl
theorem q1141 : (Jvm.Cond.privateMethod ({ cls := "ClassHouse$Kind", name := "own", desc := "(ZI)LClassHouse$Member;" } : Jvm.MethodName)) ∈ lw_tbl := lw_at lw_m4 222 rfl
theorem q1142 : (Jvm.Cond.instanceMethod ({ cls := "ClassHouse$Kind", name := "own", desc := "(ZI)LClassHouse$Member;" } : Jvm.MethodName)) ∈ lw_all := lw_g (lw_at lw_m4 223 rfl) rfl
theorem q1143 : (Jvm.Cond.code ({ cls := "ClassHouse$Kind", name := "own", desc := "(ZI)LClassHouse$Member;" } : Jvm.MethodName) prog_4_method_2_code (5 : Nat) (Option.some (Jvm.ClassFile.FieldType.object "ClassHouse$Member"))) ∈ lw_all := lw_g (lw_at lw_m4 224 rfl) rfl
theorem q1144 : (Jvm.Cond.methodLink "ClassHouse$Kind" (26 : Nat) ({ cls := "java/util/ArrayList", name := "size", desc := "()I" } : Jvm.MethodName)) ∈ lw_all := lw_g (lw_at lw_m4 225 rfl) rfl
theorem q1145 : (Jvm.Cond.methodLink "ClassHouse$Kind" (30 : Nat) ({ cls := "java/util/ArrayList", name := "get", desc := "(I)Ljava/lang/Object;" } : Jvm.MethodName)) ∈ lw_all := lw_g (lw_at lw_m4 226 rfl) rfl
theorem q1146 : (Jvm.Cond.classLink "ClassHouse$Kind" (34 : Nat) "ClassHouse$Member") ∈ lw_all := lw_g (lw_at lw_m4 227 rfl) rfl
theorem q1160 : (Jvm.Cond.instanceMethod ({ cls := "ClassHouse$Kind", name := "method", desc := "(I)LClassHouse$Member;" } : Jvm.MethodName)) ∈ lw_all := lw_g (lw_at lw_m5 1 rfl) rfl
theorem q1161 : (Jvm.Cond.selects "ClassHouse$Kind" ({ cls := "ClassHouse$Kind", name := "method", desc := "(I)LClassHouse$Member;" } : Jvm.MethodName) ({ cls := "ClassHouse$Kind", name := "method", desc := "(I)LClassHouse$Member;" } : Jvm.MethodName)) ∈ lw_all := lw_g (lw_at lw_m5 2 rfl) rfl
theorem q1162 : (Jvm.Cond.code ({ cls := "ClassHouse$Kind", name := "method", desc := "(I)LClassHouse$Member;" } : Jvm.MethodName) prog_4_method_3_code (4 : Nat) (Option.some (Jvm.ClassFile.FieldType.object "ClassHouse$Member"))) ∈ lw_all := lw_g (lw_at lw_m5 3 rfl) rfl
theorem q1163 : (Jvm.Cond.methodLink "ClassHouse$Kind" (41 : Nat) ({ cls := "ClassHouse$Kind", name := "own", desc := "(ZI)LClassHouse$Member;" } : Jvm.MethodName)) ∈ lw_all := lw_g (lw_at lw_m5 4 rfl) rfl
theorem q1165 : (Jvm.Cond.instanceMethod ({ cls := "ClassHouse$Kind", name := "field", desc := "(I)LClassHouse$Member;" } : Jvm.MethodName)) ∈ lw_all := lw_g (lw_at lw_m5 6 rfl) rfl
theorem q1166 : (Jvm.Cond.selects "ClassHouse$Kind" ({ cls := "ClassHouse$Kind", name := "field", desc := "(I)LClassHouse$Member;" } : Jvm.MethodName) ({ cls := "ClassHouse$Kind", name := "field", desc := "(I)LClassHouse$Member;" } : Jvm.MethodName)) ∈ lw_all := lw_g (lw_at lw_m5 7 rfl) rfl
theorem q1167 : (Jvm.Cond.code ({ cls := "ClassHouse$Kind", name := "field", desc := "(I)LClassHouse$Member;" } : Jvm.MethodName) prog_4_method_4_code (4 : Nat) (Option.some (Jvm.ClassFile.FieldType.object "ClassHouse$Member"))) ∈ lw_all := lw_g (lw_at lw_m5 8 rfl) rfl
theorem q1227 : (Jvm.Cond.instanceMethod ({ cls := "ClassHouse$Kind", name := "fieldAt", desc := "(LClassHouse$Member;)I" } : Jvm.MethodName)) ∈ lw_all := lw_g (lw_at lw_m5 68 rfl) rfl
theorem q1228 : (Jvm.Cond.selects "ClassHouse$Kind" ({ cls := "ClassHouse$Kind", name := "fieldAt", desc := "(LClassHouse$Member;)I" } : Jvm.MethodName) ({ cls := "ClassHouse$Kind", name := "fieldAt", desc := "(LClassHouse$Member;)I" } : Jvm.MethodName)) ∈ lw_all := lw_g (lw_at lw_m5 69 rfl) rfl
theorem q1229 : (Jvm.Cond.code ({ cls := "ClassHouse$Kind", name := "fieldAt", desc := "(LClassHouse$Member;)I" } : Jvm.MethodName) prog_4_method_5_code (5 : Nat) (Option.some Jvm.ClassFile.FieldType.int)) ∈ lw_all := lw_g (lw_at lw_m5 70 rfl) rfl
theorem q1239 : (Jvm.Cond.instanceMethod ({ cls := "ClassHouse$Kind", name := "isSub", desc := "(LClassHouse$Kind;)Z" } : Jvm.MethodName)) ∈ lw_all := lw_g (lw_at lw_m5 80 rfl) rfl
theorem q1240 : (Jvm.Cond.selects "ClassHouse$Kind" ({ cls := "ClassHouse$Kind", name := "isSub", desc := "(LClassHouse$Kind;)Z" } : Jvm.MethodName) ({ cls := "ClassHouse$Kind", name := "isSub", desc := "(LClassHouse$Kind;)Z" } : Jvm.MethodName)) ∈ lw_all := lw_g (lw_at lw_m5 81 rfl) rfl
theorem q1241 : (Jvm.Cond.code ({ cls := "ClassHouse$Kind", name := "isSub", desc := "(LClassHouse$Kind;)Z" } : Jvm.MethodName) prog_4_method_6_code (3 : Nat) (Option.some Jvm.ClassFile.FieldType.boolean)) ∈ lw_all := lw_g (lw_at lw_m5 82 rfl) rfl
theorem q2333 : (Jvm.Cond.castable "ClassHouse$Kind" "java/lang/Object") ∈ lw_tbl := lw_at lw_m9 214 rfl
theorem in_X6 : ∀ w ∈ wsX60, w ∈ lw_all := lw_in wsX60 [716, 718, 720, 722, 724, 726, 728, 730] (by decide +kernel) (by decide +kernel)

def RX7 : String := "ClassHouse$Member"
def TX7 : u_T := fun k => match k with
  | 0 => ("ClassHouse$Member", "isMethod", "Z", true)
  | 1 => ("ClassHouse$Member", "type", "I", true)
  | 2 => ("ClassHouse$Member", "name", "I", true)
  | 3 => ("ClassHouse$Member", "place", "I", true)
  | 4 => ("ClassHouse$Member", "types", "LClassHouse$Row;", true)
  | 5 => ("ClassHouse$Member", "names", "LClassHouse$Row;", true)
  | 6 => ("ClassHouse$Member", "block", "[LClassHouse$Statement;", false)
  | 7 => ("ClassHouse$Member", "closing", "I", false)
  | 8 => ("ClassHouse$Member", "code", "LClassHouse$Row;", false)
  | 9 => ("ClassHouse$Member", "slots", "I", false)
  | 10 => ("ClassHouse$Member", "catches", "LClassHouse$Row;", true)
  | _ => ("ClassHouse$Member", "result", "I", false)
def tyX7 : Nat → FieldType := fun k => match k with
  | 0 => .boolean
  | 1 => .int
  | 2 => .int
  | 3 => .int
  | 4 => .object "ClassHouse$Row"
  | 5 => .object "ClassHouse$Row"
  | 6 => .array (.object "ClassHouse$Statement")
  | 7 => .int
  | 8 => .object "ClassHouse$Row"
  | 9 => .int
  | 10 => .object "ClassHouse$Row"
  | _ => .int
abbrev wsX70 : List Cond := u_ws RX7 TX7 12
theorem nmX7 : ∀ a, a < 12 → ∀ b, b < 12 → a ≠ b → (TX7 a).2.1 ≠ (TX7 b).2.1 := by decide +kernel
theorem tyX7_ok : ∀ k, k < 12 → parseFieldDescriptor (TX7 k).2.2.1 = some (tyX7 k) := by decide +kernel
theorem q222 : (Jvm.Cond.initialized "ClassHouse$Member") ∈ lw_all := lw_g (lw_at lw_m1 23 rfl) rfl
theorem q667 : (Jvm.Cond.selects "ClassHouse$Member" ({ cls := "java/lang/Object", name := "getClass", desc := "()Ljava/lang/Class;" } : Jvm.MethodName) ({ cls := "java/lang/Object", name := "getClass", desc := "()Ljava/lang/Class;" } : Jvm.MethodName)) ∈ lw_all := lw_g (lw_at lw_m2 228 rfl) rfl
theorem q762 : (Jvm.Cond.instantiable "ClassHouse$Member" (12 : Nat)) ∈ lw_all := lw_g (lw_at lw_m3 83 rfl) rfl
theorem q764 : (Jvm.Cond.instanceMethod ({ cls := "ClassHouse$Member", name := "<init>", desc := "(ZIII)V" } : Jvm.MethodName)) ∈ lw_all := lw_g (lw_at lw_m3 85 rfl) rfl
theorem q765 : (Jvm.Cond.code ({ cls := "ClassHouse$Member", name := "<init>", desc := "(ZIII)V" } : Jvm.MethodName) prog_6_method_1_code (5 : Nat) (Option.none : Option Jvm.ClassFile.FieldType)) ∈ lw_all := lw_g (lw_at lw_m3 86 rfl) rfl
theorem q766 : (Jvm.Cond.methodLink "ClassHouse$Member" (1 : Nat) ({ cls := "java/lang/Object", name := "<init>", desc := "()V" } : Jvm.MethodName)) ∈ lw_all := lw_g (lw_at lw_m3 87 rfl) rfl
theorem q767 : (Jvm.Cond.classLink "ClassHouse$Member" (7 : Nat) "ClassHouse$Row") ∈ lw_all := lw_g (lw_at lw_m3 88 rfl) rfl
theorem q769 : (Jvm.Cond.methodLinkNest "ClassHouse$Member" (9 : Nat) ({ cls := "ClassHouse$Row", name := "<init>", desc := "()V" } : Jvm.MethodName) "ClassHouse") ∈ lw_tbl := lw_at lw_m3 90 rfl
theorem q784 : (Jvm.Cond.fieldLink "ClassHouse$Member" (22 : Nat) "ClassHouse$Member" "isMethod" "Z") ∈ lw_all := lw_g (lw_at lw_m3 105 rfl) rfl
theorem q788 : (Jvm.Cond.fieldLink "ClassHouse$Member" (26 : Nat) "ClassHouse$Member" "type" "I") ∈ lw_all := lw_g (lw_at lw_m3 109 rfl) rfl
theorem q790 : (Jvm.Cond.fieldLink "ClassHouse$Member" (30 : Nat) "ClassHouse$Member" "name" "I") ∈ lw_all := lw_g (lw_at lw_m3 111 rfl) rfl
theorem q793 : (Jvm.Cond.fieldLink "ClassHouse$Member" (33 : Nat) "ClassHouse$Member" "place" "I") ∈ lw_all := lw_g (lw_at lw_m3 114 rfl) rfl
theorem q795 : (Jvm.Cond.fieldLink "ClassHouse$Member" (10 : Nat) "ClassHouse$Member" "types" "LClassHouse$Row;") ∈ lw_all := lw_g (lw_at lw_m3 116 rfl) rfl
theorem q798 : (Jvm.Cond.fieldLink "ClassHouse$Member" (16 : Nat) "ClassHouse$Member" "names" "LClassHouse$Row;") ∈ lw_all := lw_g (lw_at lw_m3 119 rfl) rfl
theorem q809 : (Jvm.Cond.fieldLink "ClassHouse$Member" (19 : Nat) "ClassHouse$Member" "catches" "LClassHouse$Row;") ∈ lw_all := lw_g (lw_at lw_m3 130 rfl) rfl
theorem q814 : (Jvm.Cond.laysFinal "ClassHouse$Member" "ClassHouse$Member" "isMethod" "Z") ∈ lw_all := lw_g (lw_at lw_m3 135 rfl) rfl
theorem q815 : (Jvm.Cond.soleField "ClassHouse$Member" "isMethod") ∈ lw_all := lw_g (lw_at lw_m3 136 rfl) rfl
theorem q816 : (Jvm.Cond.laysFinal "ClassHouse$Member" "ClassHouse$Member" "type" "I") ∈ lw_all := lw_g (lw_at lw_m3 137 rfl) rfl
theorem q817 : (Jvm.Cond.soleField "ClassHouse$Member" "type") ∈ lw_all := lw_g (lw_at lw_m3 138 rfl) rfl
theorem q818 : (Jvm.Cond.laysFinal "ClassHouse$Member" "ClassHouse$Member" "name" "I") ∈ lw_all := lw_g (lw_at lw_m3 139 rfl) rfl
theorem q819 : (Jvm.Cond.soleField "ClassHouse$Member" "name") ∈ lw_all := lw_g (lw_at lw_m3 140 rfl) rfl
theorem q820 : (Jvm.Cond.laysFinal "ClassHouse$Member" "ClassHouse$Member" "place" "I") ∈ lw_all := lw_g (lw_at lw_m3 141 rfl) rfl
theorem q821 : (Jvm.Cond.soleField "ClassHouse$Member" "place") ∈ lw_all := lw_g (lw_at lw_m3 142 rfl) rfl
theorem q822 : (Jvm.Cond.laysFinal "ClassHouse$Member" "ClassHouse$Member" "types" "LClassHouse$Row;") ∈ lw_all := lw_g (lw_at lw_m3 143 rfl) rfl
theorem q823 : (Jvm.Cond.soleField "ClassHouse$Member" "types") ∈ lw_all := lw_g (lw_at lw_m3 144 rfl) rfl
theorem q824 : (Jvm.Cond.laysFinal "ClassHouse$Member" "ClassHouse$Member" "names" "LClassHouse$Row;") ∈ lw_all := lw_g (lw_at lw_m3 145 rfl) rfl
theorem q825 : (Jvm.Cond.soleField "ClassHouse$Member" "names") ∈ lw_all := lw_g (lw_at lw_m3 146 rfl) rfl
theorem q826 : (Jvm.Cond.lays "ClassHouse$Member" "ClassHouse$Member" "block" "[LClassHouse$Statement;") ∈ lw_all := lw_g (lw_at lw_m3 147 rfl) rfl
theorem q827 : (Jvm.Cond.soleField "ClassHouse$Member" "block") ∈ lw_all := lw_g (lw_at lw_m3 148 rfl) rfl
theorem q828 : (Jvm.Cond.lays "ClassHouse$Member" "ClassHouse$Member" "closing" "I") ∈ lw_all := lw_g (lw_at lw_m3 149 rfl) rfl
theorem q829 : (Jvm.Cond.soleField "ClassHouse$Member" "closing") ∈ lw_all := lw_g (lw_at lw_m3 150 rfl) rfl
theorem q830 : (Jvm.Cond.lays "ClassHouse$Member" "ClassHouse$Member" "code" "LClassHouse$Row;") ∈ lw_all := lw_g (lw_at lw_m3 151 rfl) rfl
theorem q831 : (Jvm.Cond.soleField "ClassHouse$Member" "code") ∈ lw_all := lw_g (lw_at lw_m3 152 rfl) rfl
theorem q832 : (Jvm.Cond.lays "ClassHouse$Member" "ClassHouse$Member" "slots" "I") ∈ lw_all := lw_g (lw_at lw_m3 153 rfl) rfl
theorem q833 : (Jvm.Cond.soleField "ClassHouse$Member" "slots") ∈ lw_all := lw_g (lw_at lw_m3 154 rfl) rfl
theorem q834 : (Jvm.Cond.laysFinal "ClassHouse$Member" "ClassHouse$Member" "catches" "LClassHouse$Row;") ∈ lw_all := lw_g (lw_at lw_m3 155 rfl) rfl
theorem q835 : (Jvm.Cond.soleField "ClassHouse$Member" "catches") ∈ lw_all := lw_g (lw_at lw_m3 156 rfl) rfl
theorem q836 : (Jvm.Cond.lays "ClassHouse$Member" "ClassHouse$Member" "result" "I") ∈ lw_all := lw_g (lw_at lw_m3 157 rfl) rfl
theorem q837 : (Jvm.Cond.soleField "ClassHouse$Member" "result") ∈ lw_all := lw_g (lw_at lw_m3 158 rfl) rfl
theorem q838 : (Jvm.Cond.superclass "ClassHouse$Member" "java/lang/Object") ∈ lw_all := lw_g (lw_at lw_m3 159 rfl) rfl
theorem q2329 : (Jvm.Cond.castable "ClassHouse$Member" "java/lang/Object") ∈ lw_tbl := lw_at lw_m9 210 rfl
theorem in_X7 : ∀ w ∈ wsX70, w ∈ lw_all := lw_in wsX70 [814, 816, 818, 820, 822, 824, 826, 828, 830, 832, 834, 836] (by decide +kernel) (by decide +kernel)

def RX8 : String := "ClassHouse$Row"
def TX8 : u_T := fun k => match k with
  | 0 => ("ClassHouse$Row", "all", "[I", false)
  | _ => ("ClassHouse$Row", "size", "I", false)
def tyX8 : Nat → FieldType := fun k => match k with
  | 0 => .array .int
  | _ => .int
abbrev wsX80 : List Cond := u_ws RX8 TX8 2
theorem nmX8 : ∀ a, a < 2 → ∀ b, b < 2 → a ≠ b → (TX8 a).2.1 ≠ (TX8 b).2.1 := by decide +kernel
theorem tyX8_ok : ∀ k, k < 2 → parseFieldDescriptor (TX8 k).2.2.1 = some (tyX8 k) := by decide +kernel
theorem q223 : (Jvm.Cond.initialized "ClassHouse$Row") ∈ lw_all := lw_g (lw_at lw_m1 24 rfl) rfl
theorem q670 : (Jvm.Cond.selects "ClassHouse$Row" ({ cls := "java/lang/Object", name := "getClass", desc := "()Ljava/lang/Class;" } : Jvm.MethodName) ({ cls := "java/lang/Object", name := "getClass", desc := "()Ljava/lang/Class;" } : Jvm.MethodName)) ∈ lw_all := lw_g (lw_at lw_m2 231 rfl) rfl
theorem q768 : (Jvm.Cond.instantiable "ClassHouse$Row" (2 : Nat)) ∈ lw_all := lw_g (lw_at lw_m3 89 rfl) rfl
theorem q770 : (Jvm.Cond.instanceMethod ({ cls := "ClassHouse$Row", name := "<init>", desc := "()V" } : Jvm.MethodName)) ∈ lw_all := lw_g (lw_at lw_m3 91 rfl) rfl
theorem q771 : (Jvm.Cond.code ({ cls := "ClassHouse$Row", name := "<init>", desc := "()V" } : Jvm.MethodName) prog_9_method_1_code (1 : Nat) (Option.none : Option Jvm.ClassFile.FieldType)) ∈ lw_all := lw_g (lw_at lw_m3 92 rfl) rfl
theorem q772 : (Jvm.Cond.methodLink "ClassHouse$Row" (1 : Nat) ({ cls := "java/lang/Object", name := "<init>", desc := "()V" } : Jvm.MethodName)) ∈ lw_all := lw_g (lw_at lw_m3 93 rfl) rfl
theorem q773 : (Jvm.Cond.fieldLink "ClassHouse$Row" (7 : Nat) "ClassHouse$Row" "all" "[I") ∈ lw_all := lw_g (lw_at lw_m3 94 rfl) rfl
theorem q775 : (Jvm.Cond.fieldLink "ClassHouse$Row" (13 : Nat) "ClassHouse$Row" "size" "I") ∈ lw_all := lw_g (lw_at lw_m3 96 rfl) rfl
theorem q779 : (Jvm.Cond.lays "ClassHouse$Row" "ClassHouse$Row" "all" "[I") ∈ lw_all := lw_g (lw_at lw_m3 100 rfl) rfl
theorem q780 : (Jvm.Cond.soleField "ClassHouse$Row" "all") ∈ lw_all := lw_g (lw_at lw_m3 101 rfl) rfl
theorem q781 : (Jvm.Cond.lays "ClassHouse$Row" "ClassHouse$Row" "size" "I") ∈ lw_all := lw_g (lw_at lw_m3 102 rfl) rfl
theorem q782 : (Jvm.Cond.soleField "ClassHouse$Row" "size") ∈ lw_all := lw_g (lw_at lw_m3 103 rfl) rfl
theorem q783 : (Jvm.Cond.superclass "ClassHouse$Row" "java/lang/Object") ∈ lw_all := lw_g (lw_at lw_m3 104 rfl) rfl
theorem q843 : (Jvm.Cond.instanceMethod ({ cls := "ClassHouse$Row", name := "add", desc := "(I)V" } : Jvm.MethodName)) ∈ lw_all := lw_g (lw_at lw_m3 164 rfl) rfl
theorem q844 : (Jvm.Cond.selects "ClassHouse$Row" ({ cls := "ClassHouse$Row", name := "add", desc := "(I)V" } : Jvm.MethodName) ({ cls := "ClassHouse$Row", name := "add", desc := "(I)V" } : Jvm.MethodName)) ∈ lw_all := lw_g (lw_at lw_m3 165 rfl) rfl
theorem q845 : (Jvm.Cond.code ({ cls := "ClassHouse$Row", name := "add", desc := "(I)V" } : Jvm.MethodName) prog_9_method_2_code (3 : Nat) (Option.none : Option Jvm.ClassFile.FieldType)) ∈ lw_all := lw_g (lw_at lw_m3 166 rfl) rfl
theorem q846 : (Jvm.Cond.methodLink "ClassHouse$Row" (17 : Nat) ({ cls := "java/lang/System", name := "arraycopy", desc := "(Ljava/lang/Object;ILjava/lang/Object;II)V" } : Jvm.MethodName)) ∈ lw_all := lw_g (lw_at lw_m3 167 rfl) rfl
theorem q1152 : (Jvm.Cond.instanceMethod ({ cls := "ClassHouse$Row", name := "get", desc := "(I)I" } : Jvm.MethodName)) ∈ lw_all := lw_g (lw_at lw_m4 233 rfl) rfl
theorem q1153 : (Jvm.Cond.selects "ClassHouse$Row" ({ cls := "ClassHouse$Row", name := "get", desc := "(I)I" } : Jvm.MethodName) ({ cls := "ClassHouse$Row", name := "get", desc := "(I)I" } : Jvm.MethodName)) ∈ lw_all := lw_g (lw_at lw_m4 234 rfl) rfl
theorem q1154 : (Jvm.Cond.code ({ cls := "ClassHouse$Row", name := "get", desc := "(I)I" } : Jvm.MethodName) prog_9_method_3_code (2 : Nat) (Option.some Jvm.ClassFile.FieldType.int)) ∈ lw_all := lw_g (lw_at lw_m4 235 rfl) rfl
theorem q1156 : (Jvm.Cond.instanceMethod ({ cls := "ClassHouse$Row", name := "find", desc := "(I)I" } : Jvm.MethodName)) ∈ lw_all := lw_g (lw_at lw_m4 237 rfl) rfl
theorem q1157 : (Jvm.Cond.selects "ClassHouse$Row" ({ cls := "ClassHouse$Row", name := "find", desc := "(I)I" } : Jvm.MethodName) ({ cls := "ClassHouse$Row", name := "find", desc := "(I)I" } : Jvm.MethodName)) ∈ lw_all := lw_g (lw_at lw_m4 238 rfl) rfl
theorem q1158 : (Jvm.Cond.code ({ cls := "ClassHouse$Row", name := "find", desc := "(I)I" } : Jvm.MethodName) prog_9_method_4_code (3 : Nat) (Option.some Jvm.ClassFile.FieldType.int)) ∈ lw_all := lw_g (lw_at lw_m4 239 rfl) rfl
theorem q1198 : (Jvm.Cond.instanceMethod ({ cls := "ClassHouse$Row", name := "has", desc := "(I)Z" } : Jvm.MethodName)) ∈ lw_all := lw_g (lw_at lw_m5 39 rfl) rfl
theorem q1199 : (Jvm.Cond.selects "ClassHouse$Row" ({ cls := "ClassHouse$Row", name := "has", desc := "(I)Z" } : Jvm.MethodName) ({ cls := "ClassHouse$Row", name := "has", desc := "(I)Z" } : Jvm.MethodName)) ∈ lw_all := lw_g (lw_at lw_m5 40 rfl) rfl
theorem q1200 : (Jvm.Cond.code ({ cls := "ClassHouse$Row", name := "has", desc := "(I)Z" } : Jvm.MethodName) prog_9_method_5_code (2 : Nat) (Option.some Jvm.ClassFile.FieldType.boolean)) ∈ lw_all := lw_g (lw_at lw_m5 41 rfl) rfl
theorem q1201 : (Jvm.Cond.methodLink "ClassHouse$Row" (23 : Nat) ({ cls := "ClassHouse$Row", name := "find", desc := "(I)I" } : Jvm.MethodName)) ∈ lw_all := lw_g (lw_at lw_m5 42 rfl) rfl
theorem q2341 : (Jvm.Cond.castable "ClassHouse$Row" "java/lang/Object") ∈ lw_tbl := lw_at lw_m9 222 rfl
theorem in_X8 : ∀ w ∈ wsX80, w ∈ lw_all := lw_in wsX80 [779, 781] (by decide +kernel) (by decide +kernel)

def RX9 : String := "ClassHouse$Statement"
def TX9 : u_T := fun k => match k with
  | 0 => ("ClassHouse$Statement", "kind", "I", true)
  | 1 => ("ClassHouse$Statement", "place", "I", true)
  | 2 => ("ClassHouse$Statement", "type", "I", false)
  | 3 => ("ClassHouse$Statement", "name", "I", false)
  | 4 => ("ClassHouse$Statement", "place0", "LClassHouse$Value;", false)
  | 5 => ("ClassHouse$Statement", "value", "LClassHouse$Value;", false)
  | 6 => ("ClassHouse$Statement", "first", "[LClassHouse$Statement;", false)
  | _ => ("ClassHouse$Statement", "second", "[LClassHouse$Statement;", false)
def tyX9 : Nat → FieldType := fun k => match k with
  | 0 => .int
  | 1 => .int
  | 2 => .int
  | 3 => .int
  | 4 => .object "ClassHouse$Value"
  | 5 => .object "ClassHouse$Value"
  | 6 => .array (.object "ClassHouse$Statement")
  | _ => .array (.object "ClassHouse$Statement")
abbrev wsX90 : List Cond := u_ws RX9 TX9 8
theorem nmX9 : ∀ a, a < 8 → ∀ b, b < 8 → a ≠ b → (TX9 a).2.1 ≠ (TX9 b).2.1 := by decide +kernel
theorem tyX9_ok : ∀ k, k < 8 → parseFieldDescriptor (TX9 k).2.2.1 = some (tyX9 k) := by decide +kernel
theorem q224 : (Jvm.Cond.initialized "ClassHouse$Statement") ∈ lw_all := lw_g (lw_at lw_m1 25 rfl) rfl
theorem q671 : (Jvm.Cond.selects "ClassHouse$Statement" ({ cls := "java/lang/Object", name := "getClass", desc := "()Ljava/lang/Class;" } : Jvm.MethodName) ({ cls := "java/lang/Object", name := "getClass", desc := "()Ljava/lang/Class;" } : Jvm.MethodName)) ∈ lw_all := lw_g (lw_at lw_m2 232 rfl) rfl
theorem q868 : (Jvm.Cond.instantiable "ClassHouse$Statement" (8 : Nat)) ∈ lw_all := lw_g (lw_at lw_m3 189 rfl) rfl
theorem q870 : (Jvm.Cond.instanceMethod ({ cls := "ClassHouse$Statement", name := "<init>", desc := "(II)V" } : Jvm.MethodName)) ∈ lw_all := lw_g (lw_at lw_m3 191 rfl) rfl
theorem q871 : (Jvm.Cond.code ({ cls := "ClassHouse$Statement", name := "<init>", desc := "(II)V" } : Jvm.MethodName) prog_10_method_1_code (3 : Nat) (Option.none : Option Jvm.ClassFile.FieldType)) ∈ lw_all := lw_g (lw_at lw_m3 192 rfl) rfl
theorem q872 : (Jvm.Cond.methodLink "ClassHouse$Statement" (1 : Nat) ({ cls := "java/lang/Object", name := "<init>", desc := "()V" } : Jvm.MethodName)) ∈ lw_all := lw_g (lw_at lw_m3 193 rfl) rfl
theorem q873 : (Jvm.Cond.fieldLink "ClassHouse$Statement" (7 : Nat) "ClassHouse$Statement" "kind" "I") ∈ lw_all := lw_g (lw_at lw_m3 194 rfl) rfl
theorem q876 : (Jvm.Cond.fieldLink "ClassHouse$Statement" (13 : Nat) "ClassHouse$Statement" "place" "I") ∈ lw_all := lw_g (lw_at lw_m3 197 rfl) rfl
theorem q890 : (Jvm.Cond.laysFinal "ClassHouse$Statement" "ClassHouse$Statement" "kind" "I") ∈ lw_all := lw_g (lw_at lw_m3 211 rfl) rfl
theorem q891 : (Jvm.Cond.soleField "ClassHouse$Statement" "kind") ∈ lw_all := lw_g (lw_at lw_m3 212 rfl) rfl
theorem q892 : (Jvm.Cond.laysFinal "ClassHouse$Statement" "ClassHouse$Statement" "place" "I") ∈ lw_all := lw_g (lw_at lw_m3 213 rfl) rfl
theorem q893 : (Jvm.Cond.soleField "ClassHouse$Statement" "place") ∈ lw_all := lw_g (lw_at lw_m3 214 rfl) rfl
theorem q894 : (Jvm.Cond.lays "ClassHouse$Statement" "ClassHouse$Statement" "type" "I") ∈ lw_all := lw_g (lw_at lw_m3 215 rfl) rfl
theorem q895 : (Jvm.Cond.soleField "ClassHouse$Statement" "type") ∈ lw_all := lw_g (lw_at lw_m3 216 rfl) rfl
theorem q896 : (Jvm.Cond.lays "ClassHouse$Statement" "ClassHouse$Statement" "name" "I") ∈ lw_all := lw_g (lw_at lw_m3 217 rfl) rfl
theorem q897 : (Jvm.Cond.soleField "ClassHouse$Statement" "name") ∈ lw_all := lw_g (lw_at lw_m3 218 rfl) rfl
theorem q898 : (Jvm.Cond.lays "ClassHouse$Statement" "ClassHouse$Statement" "place0" "LClassHouse$Value;") ∈ lw_all := lw_g (lw_at lw_m3 219 rfl) rfl
theorem q899 : (Jvm.Cond.soleField "ClassHouse$Statement" "place0") ∈ lw_all := lw_g (lw_at lw_m3 220 rfl) rfl
theorem q900 : (Jvm.Cond.lays "ClassHouse$Statement" "ClassHouse$Statement" "value" "LClassHouse$Value;") ∈ lw_all := lw_g (lw_at lw_m3 221 rfl) rfl
theorem q901 : (Jvm.Cond.soleField "ClassHouse$Statement" "value") ∈ lw_all := lw_g (lw_at lw_m3 222 rfl) rfl
theorem q902 : (Jvm.Cond.lays "ClassHouse$Statement" "ClassHouse$Statement" "first" "[LClassHouse$Statement;") ∈ lw_all := lw_g (lw_at lw_m3 223 rfl) rfl
theorem q903 : (Jvm.Cond.soleField "ClassHouse$Statement" "first") ∈ lw_all := lw_g (lw_at lw_m3 224 rfl) rfl
theorem q904 : (Jvm.Cond.lays "ClassHouse$Statement" "ClassHouse$Statement" "second" "[LClassHouse$Statement;") ∈ lw_all := lw_g (lw_at lw_m3 225 rfl) rfl
theorem q905 : (Jvm.Cond.soleField "ClassHouse$Statement" "second") ∈ lw_all := lw_g (lw_at lw_m3 226 rfl) rfl
theorem q906 : (Jvm.Cond.superclass "ClassHouse$Statement" "java/lang/Object") ∈ lw_all := lw_g (lw_at lw_m3 227 rfl) rfl
theorem q2331 : (Jvm.Cond.castable "ClassHouse$Statement" "java/lang/Object") ∈ lw_tbl := lw_at lw_m9 212 rfl
theorem in_X9 : ∀ w ∈ wsX90, w ∈ lw_all := lw_in wsX90 [890, 892, 894, 896, 898, 900, 902, 904] (by decide +kernel) (by decide +kernel)

theorem q199 : (Jvm.Cond.initialized "ClassHouseLaw") ∈ lw_all := lw_g (lw_at lw_m1 0 rfl) rfl
theorem q228 : (Jvm.Cond.classLink "ClassHouseLaw" (7 : Nat) "ClassHouse") ∈ lw_all := lw_g (lw_at lw_m1 29 rfl) rfl
theorem q230 : (Jvm.Cond.methodLink "ClassHouseLaw" (9 : Nat) ({ cls := "ClassHouse", name := "<init>", desc := "()V" } : Jvm.MethodName)) ∈ lw_all := lw_g (lw_at lw_m1 31 rfl) rfl
theorem q415 : (Jvm.Cond.methodLink "ClassHouseLaw" (13 : Nat) ({ cls := "ClassHouse", name := "feed", desc := "(IIIII)I" } : Jvm.MethodName)) ∈ lw_all := lw_g (lw_at lw_m1 216 rfl) rfl
theorem q423 : (Jvm.Cond.methodLink "ClassHouseLaw" (18 : Nat) ({ cls := "ClassHouse", name := "end", desc := "(I)I" } : Jvm.MethodName)) ∈ lw_all := lw_g (lw_at lw_m1 224 rfl) rfl
theorem q427 : (Jvm.Cond.methodLink "ClassHouseLaw" (23 : Nat) ({ cls := "ClassHouse", name := "program", desc := "()I" } : Jvm.MethodName)) ∈ lw_all := lw_g (lw_at lw_m1 228 rfl) rfl
theorem q1298 : (Jvm.Cond.methodLink "ClassHouseLaw" (28 : Nat) ({ cls := "ClassHouse", name := "heap", desc := "(I)I" } : Jvm.MethodName)) ∈ lw_all := lw_g (lw_at lw_m5 139 rfl) rfl
theorem q1302 : (Jvm.Cond.methodLink "ClassHouseLaw" (32 : Nat) ({ cls := "ClassHouse", name := "input", desc := "(III)I" } : Jvm.MethodName)) ∈ lw_all := lw_g (lw_at lw_m5 143 rfl) rfl
theorem q1310 : (Jvm.Cond.methodLink "ClassHouseLaw" (37 : Nat) ({ cls := "ClassHouse", name := "start", desc := "()I" } : Jvm.MethodName)) ∈ lw_all := lw_g (lw_at lw_m5 151 rfl) rfl
theorem q1406 : (Jvm.Cond.methodLink "ClassHouseLaw" (41 : Nat) ({ cls := "ClassHouse", name := "step", desc := "(I)I" } : Jvm.MethodName)) ∈ lw_all := lw_g (lw_at lw_m6 7 rfl) rfl
theorem q1514 : (Jvm.Cond.methodLink "ClassHouseLaw" (45 : Nat) ({ cls := "ClassHouse", name := "result", desc := "()I" } : Jvm.MethodName)) ∈ lw_all := lw_g (lw_at lw_m6 115 rfl) rfl
theorem q1518 : (Jvm.Cond.methodLink "ClassHouseLaw" (49 : Nat) ({ cls := "ClassHouse", name := "output", desc := "(I)I" } : Jvm.MethodName)) ∈ lw_all := lw_g (lw_at lw_m6 119 rfl) rfl
theorem q1522 : (Jvm.Cond.methodLink "ClassHouseLaw" (53 : Nat) ({ cls := "ClassHouse", name := "count", desc := "(I)I" } : Jvm.MethodName)) ∈ lw_all := lw_g (lw_at lw_m6 123 rfl) rfl
theorem q1534 : (Jvm.Cond.classLink "ClassHouseLaw" (10 : Nat) "ClassHouseModel") ∈ lw_all := lw_g (lw_at lw_m6 135 rfl) rfl
theorem q1536 : (Jvm.Cond.methodLink "ClassHouseLaw" (12 : Nat) ({ cls := "ClassHouseModel", name := "<init>", desc := "()V" } : Jvm.MethodName)) ∈ lw_all := lw_g (lw_at lw_m6 137 rfl) rfl
theorem q1876 : (Jvm.Cond.methodLink "ClassHouseLaw" (27 : Nat) ({ cls := "ClassHouseModel", name := "program", desc := "()I" } : Jvm.MethodName)) ∈ lw_all := lw_g (lw_at lw_m7 237 rfl) rfl
theorem q2171 : (Jvm.Cond.methodLink "ClassHouseLaw" (17 : Nat) ({ cls := "ClassHouseModel", name := "feed", desc := "(IIIII)I" } : Jvm.MethodName)) ∈ lw_all := lw_g (lw_at lw_m9 52 rfl) rfl
theorem q2175 : (Jvm.Cond.methodLink "ClassHouseLaw" (22 : Nat) ({ cls := "ClassHouseModel", name := "end", desc := "(I)I" } : Jvm.MethodName)) ∈ lw_all := lw_g (lw_at lw_m9 56 rfl) rfl
theorem q2179 : (Jvm.Cond.methodLink "ClassHouseLaw" (31 : Nat) ({ cls := "ClassHouseModel", name := "heap", desc := "(I)I" } : Jvm.MethodName)) ∈ lw_all := lw_g (lw_at lw_m9 60 rfl) rfl
theorem q2185 : (Jvm.Cond.methodLink "ClassHouseLaw" (36 : Nat) ({ cls := "ClassHouseModel", name := "input", desc := "(III)I" } : Jvm.MethodName)) ∈ lw_all := lw_g (lw_at lw_m9 66 rfl) rfl
theorem q2189 : (Jvm.Cond.methodLink "ClassHouseLaw" (40 : Nat) ({ cls := "ClassHouseModel", name := "start", desc := "()I" } : Jvm.MethodName)) ∈ lw_all := lw_g (lw_at lw_m9 70 rfl) rfl
theorem q2230 : (Jvm.Cond.methodLink "ClassHouseLaw" (44 : Nat) ({ cls := "ClassHouseModel", name := "step", desc := "(I)I" } : Jvm.MethodName)) ∈ lw_all := lw_g (lw_at lw_m9 111 rfl) rfl
theorem q2314 : (Jvm.Cond.methodLink "ClassHouseLaw" (48 : Nat) ({ cls := "ClassHouseModel", name := "result", desc := "()I" } : Jvm.MethodName)) ∈ lw_all := lw_g (lw_at lw_m9 195 rfl) rfl
theorem q2318 : (Jvm.Cond.methodLink "ClassHouseLaw" (52 : Nat) ({ cls := "ClassHouseModel", name := "output", desc := "(I)I" } : Jvm.MethodName)) ∈ lw_all := lw_g (lw_at lw_m9 199 rfl) rfl
theorem q2323 : (Jvm.Cond.methodLink "ClassHouseLaw" (56 : Nat) ({ cls := "ClassHouseModel", name := "count", desc := "(I)I" } : Jvm.MethodName)) ∈ lw_all := lw_g (lw_at lw_m9 204 rfl) rfl

theorem q2349 : (Jvm.Cond.castable "[B" "java/lang/Object") ∈ lw_tbl := lw_at lw_m9 230 rfl

theorem q2351 : (Jvm.Cond.castable "[I" "java/lang/Object") ∈ lw_tbl := lw_at lw_m9 232 rfl

theorem q2350 : (Jvm.Cond.castable "[J" "java/lang/Object") ∈ lw_tbl := lw_at lw_m9 231 rfl

theorem q2357 : (Jvm.Cond.castable "[LClassHouse$Kind;" "java/lang/Object") ∈ lw_tbl := lw_at lw_m9 238 rfl

theorem q2348 : (Jvm.Cond.castable "[LClassHouse$Member;" "java/lang/Object") ∈ lw_tbl := lw_at lw_m9 229 rfl

theorem q2354 : (Jvm.Cond.castable "[LClassHouse$Statement;" "java/lang/Object") ∈ lw_tbl := lw_at lw_m9 235 rfl

theorem q2353 : (Jvm.Cond.castable "[LClassHouse$Value;" "java/lang/Object") ∈ lw_tbl := lw_at lw_m9 234 rfl

theorem q2345 : (Jvm.Cond.sameMethod "[Ljava/lang/Object;" "java/lang/Object" "getClass" "()Ljava/lang/Class;") ∈ lw_all := lw_g (lw_at lw_m9 226 rfl) rfl
theorem q2346 : (Jvm.Cond.selects "[Ljava/lang/Object;" ({ cls := "java/lang/Object", name := "getClass", desc := "()Ljava/lang/Class;" } : Jvm.MethodName) ({ cls := "java/lang/Object", name := "getClass", desc := "()Ljava/lang/Class;" } : Jvm.MethodName)) ∈ lw_all := lw_g (lw_at lw_m9 227 rfl) rfl
theorem q2352 : (Jvm.Cond.castable "[Ljava/lang/Object;" "java/lang/Object") ∈ lw_tbl := lw_at lw_m9 233 rfl

theorem q2355 : (Jvm.Cond.castable "[Ljava/lang/String;" "java/lang/Object") ∈ lw_tbl := lw_at lw_m9 236 rfl

theorem q2356 : (Jvm.Cond.castable "[Z" "java/lang/Object") ∈ lw_tbl := lw_at lw_m9 237 rfl

theorem q218 : (Jvm.Cond.initialized "java/lang/System") ∈ lw_all := lw_g (lw_at lw_m1 19 rfl) rfl
theorem q628 : (Jvm.Cond.static ({ cls := "java/lang/System", name := "arraycopy", desc := "(Ljava/lang/Object;ILjava/lang/Object;II)V" } : Jvm.MethodName)) ∈ lw_all := lw_g (lw_at lw_m2 189 rfl) rfl
theorem q629 : (Jvm.Cond.native ({ cls := "java/lang/System", name := "arraycopy", desc := "(Ljava/lang/Object;ILjava/lang/Object;II)V" } : Jvm.MethodName)) ∈ lw_all := lw_g (lw_at lw_m2 190 rfl) rfl

theorem q244 : (Jvm.Cond.arrayOver (Jvm.ClassFile.FieldType.object "ClassHouse$Member")) ∈ lw_tbl := lw_at lw_m1 45 rfl
theorem q312 : (Jvm.Cond.arrayClass Jvm.ClassFile.FieldType.byte) ∈ lw_all := lw_g (lw_at lw_m1 113 rfl) rfl
theorem q313 : (Jvm.Cond.arrayClass Jvm.ClassFile.FieldType.long) ∈ lw_all := lw_g (lw_at lw_m1 114 rfl) rfl
theorem q314 : (Jvm.Cond.arrayClass Jvm.ClassFile.FieldType.int) ∈ lw_all := lw_g (lw_at lw_m1 115 rfl) rfl
theorem q681 : (Jvm.Cond.arrayOver (Jvm.ClassFile.FieldType.object "java/lang/Object")) ∈ lw_tbl := lw_at lw_m3 2 rfl
theorem q986 : (Jvm.Cond.arrayOver (Jvm.ClassFile.FieldType.object "ClassHouse$Value")) ∈ lw_tbl := lw_at lw_m4 67 rfl
theorem q1036 : (Jvm.Cond.arrayOver (Jvm.ClassFile.FieldType.object "ClassHouse$Statement")) ∈ lw_tbl := lw_at lw_m4 117 rfl
theorem q1048 : (Jvm.Cond.arrayOver (Jvm.ClassFile.FieldType.object "java/lang/String")) ∈ lw_tbl := lw_at lw_m4 129 rfl
theorem q1110 : (Jvm.Cond.arrayClass Jvm.ClassFile.FieldType.boolean) ∈ lw_all := lw_g (lw_at lw_m4 191 rfl) rfl
theorem q1296 : (Jvm.Cond.arrayOver (Jvm.ClassFile.FieldType.object "ClassHouse$Kind")) ∈ lw_tbl := lw_at lw_m5 137 rfl

def ch_cl : List vw_C := [(RX0, TX0, 7), (RX1, TX1, 22), (RX2, TX2, 7), (RX3, TX3, 109), (RX4, TX4, 9), (RX5, TX5, 7), (RX6, TX6, 8), (RX7, TX7, 12), (RX8, TX8, 2), (RX9, TX9, 8), (RX10, TX10, 6), (RX11, TX11, 14), (RX12, TX12, 7), (RJ5, TJ5, 3)]
def ch_ft (ci k : Nat) : FieldType := match ci with
  | 0 => tyX0 k
  | 1 => tyX1 k
  | 2 => tyX2 k
  | 3 => tyX3 k
  | 4 => tyX4 k
  | 5 => tyX5 k
  | 6 => tyX6 k
  | 7 => tyX7 k
  | 8 => tyX8 k
  | 9 => tyX9 k
  | 10 => tyX10 k
  | 11 => tyX11 k
  | 12 => tyX12 k
  | _ => tyJ5 k
def ch_ty : List FieldType := [.int, .byte, .boolean, .long, .object "java/lang/Object", .object "ClassHouse$Member", .object "ClassHouse$Value", .object "ClassHouse$Statement", .object "ClassHouse$Kind", .object "java/lang/String"]
