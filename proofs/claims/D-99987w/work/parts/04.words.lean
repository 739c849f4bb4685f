set_option maxRecDepth 100000
theorem q122 : (Jvm.Cond.initialized "java/util/AbstractCollection") ∈ lw_all := lw_g (lw_at lw_m1 3 rfl) rfl
theorem q187 : (Jvm.Cond.instanceMethod ({ cls := "java/util/AbstractCollection", name := "<init>", desc := "()V" } : Jvm.MethodName)) ∈ lw_all := lw_g (lw_at lw_m1 68 rfl) rfl
theorem q188 : (Jvm.Cond.code ({ cls := "java/util/AbstractCollection", name := "<init>", desc := "()V" } : Jvm.MethodName) prog_46_method_1_code (1 : Nat) (Option.none : Option Jvm.ClassFile.FieldType)) ∈ lw_all := lw_g (lw_at lw_m1 69 rfl) rfl
theorem q189 : (Jvm.Cond.methodLink "java/util/AbstractCollection" (1 : Nat) ({ cls := "java/lang/Object", name := "<init>", desc := "()V" } : Jvm.MethodName)) ∈ lw_all := lw_g (lw_at lw_m1 70 rfl) rfl

theorem q123 : (Jvm.Cond.initialized "java/util/AbstractList") ∈ lw_all := lw_g (lw_at lw_m1 4 rfl) rfl
theorem q184 : (Jvm.Cond.instanceMethod ({ cls := "java/util/AbstractList", name := "<init>", desc := "()V" } : Jvm.MethodName)) ∈ lw_all := lw_g (lw_at lw_m1 65 rfl) rfl
theorem q185 : (Jvm.Cond.code ({ cls := "java/util/AbstractList", name := "<init>", desc := "()V" } : Jvm.MethodName) prog_47_method_1_code (1 : Nat) (Option.none : Option Jvm.ClassFile.FieldType)) ∈ lw_all := lw_g (lw_at lw_m1 66 rfl) rfl
theorem q186 : (Jvm.Cond.methodLink "java/util/AbstractList" (1 : Nat) ({ cls := "java/util/AbstractCollection", name := "<init>", desc := "()V" } : Jvm.MethodName)) ∈ lw_all := lw_g (lw_at lw_m1 67 rfl) rfl
theorem q194 : (Jvm.Cond.fieldLink "java/util/AbstractList" (7 : Nat) "java/util/AbstractList" "modCount" "I") ∈ lw_all := lw_g (lw_at lw_m1 75 rfl) rfl
theorem q202 : (Jvm.Cond.soleField "java/util/AbstractList" "modCount") ∈ lw_all := lw_g (lw_at lw_m1 83 rfl) rfl

theorem q138 : (Jvm.Cond.initialized "jdk/internal/util/ArraysSupport") ∈ lw_all := lw_g (lw_at lw_m1 19 rfl) rfl
theorem q580 : (Jvm.Cond.static ({ cls := "jdk/internal/util/ArraysSupport", name := "newLength", desc := "(III)I" } : Jvm.MethodName)) ∈ lw_all := lw_g (lw_at lw_m2 221 rfl) rfl
theorem q581 : (Jvm.Cond.code ({ cls := "jdk/internal/util/ArraysSupport", name := "newLength", desc := "(III)I" } : Jvm.MethodName) prog_56_method_27_code (4 : Nat) (Option.some Jvm.ClassFile.FieldType.int)) ∈ lw_all := lw_g (lw_at lw_m2 222 rfl) rfl
theorem q582 : (Jvm.Cond.methodLink "jdk/internal/util/ArraysSupport" (194 : Nat) ({ cls := "java/lang/Math", name := "max", desc := "(II)I" } : Jvm.MethodName)) ∈ lw_all := lw_g (lw_at lw_m2 223 rfl) rfl
theorem q585 : (Jvm.Cond.constant "jdk/internal/util/ArraysSupport" (200 : Nat) (2147483639 : Int32)) ∈ lw_all := lw_g (lw_at lw_m2 226 rfl) rfl
theorem q586 : (Jvm.Cond.methodLink "jdk/internal/util/ArraysSupport" (201 : Nat) ({ cls := "jdk/internal/util/ArraysSupport", name := "hugeLength", desc := "(II)I" } : Jvm.MethodName)) ∈ lw_all := lw_g (lw_at lw_m2 227 rfl) rfl
theorem q587 : (Jvm.Cond.static ({ cls := "jdk/internal/util/ArraysSupport", name := "hugeLength", desc := "(II)I" } : Jvm.MethodName)) ∈ lw_all := lw_g (lw_at lw_m2 228 rfl) rfl
theorem q588 : (Jvm.Cond.code ({ cls := "jdk/internal/util/ArraysSupport", name := "hugeLength", desc := "(II)I" } : Jvm.MethodName) prog_56_method_28_code (3 : Nat) (Option.some Jvm.ClassFile.FieldType.int)) ∈ lw_all := lw_g (lw_at lw_m2 229 rfl) rfl

theorem q139 : (Jvm.Cond.initialized "java/lang/Math") ∈ lw_all := lw_g (lw_at lw_m1 20 rfl) rfl
theorem q583 : (Jvm.Cond.static ({ cls := "java/lang/Math", name := "max", desc := "(II)I" } : Jvm.MethodName)) ∈ lw_all := lw_g (lw_at lw_m2 224 rfl) rfl
theorem q584 : (Jvm.Cond.code ({ cls := "java/lang/Math", name := "max", desc := "(II)I" } : Jvm.MethodName) prog_36_method_65_code (2 : Nat) (Option.some Jvm.ClassFile.FieldType.int)) ∈ lw_all := lw_g (lw_at lw_m2 225 rfl) rfl
theorem q601 : (Jvm.Cond.static ({ cls := "java/lang/Math", name := "min", desc := "(II)I" } : Jvm.MethodName)) ∈ lw_all := lw_g (lw_at lw_m3 2 rfl) rfl
theorem q602 : (Jvm.Cond.code ({ cls := "java/lang/Math", name := "min", desc := "(II)I" } : Jvm.MethodName) prog_36_method_69_code (2 : Nat) (Option.some Jvm.ClassFile.FieldType.int)) ∈ lw_all := lw_g (lw_at lw_m3 3 rfl) rfl

theorem q140 : (Jvm.Cond.initialized "java/lang/StringLatin1") ∈ lw_all := lw_g (lw_at lw_m1 21 rfl) rfl
theorem q610 : (Jvm.Cond.static ({ cls := "java/lang/StringLatin1", name := "canEncode", desc := "(C)Z" } : Jvm.MethodName)) ∈ lw_all := lw_g (lw_at lw_m3 11 rfl) rfl
theorem q611 : (Jvm.Cond.code ({ cls := "java/lang/StringLatin1", name := "canEncode", desc := "(C)Z" } : Jvm.MethodName) prog_40_method_3_code (1 : Nat) (Option.some Jvm.ClassFile.FieldType.boolean)) ∈ lw_all := lw_g (lw_at lw_m3 12 rfl) rfl
theorem q617 : (Jvm.Cond.static ({ cls := "java/lang/StringLatin1", name := "inflate", desc := "([BI[BII)V" } : Jvm.MethodName)) ∈ lw_all := lw_g (lw_at lw_m3 18 rfl) rfl
theorem q618 : (Jvm.Cond.code ({ cls := "java/lang/StringLatin1", name := "inflate", desc := "([BI[BII)V" } : Jvm.MethodName) prog_40_method_50_code (5 : Nat) (Option.none : Option Jvm.ClassFile.FieldType)) ∈ lw_all := lw_g (lw_at lw_m3 19 rfl) rfl
theorem q619 : (Jvm.Cond.methodLink "java/lang/StringLatin1" (240 : Nat) ({ cls := "java/lang/StringUTF16", name := "inflate", desc := "([BI[BII)V" } : Jvm.MethodName)) ∈ lw_all := lw_g (lw_at lw_m3 20 rfl) rfl
theorem q733 : (Jvm.Cond.static ({ cls := "java/lang/StringLatin1", name := "equals", desc := "([B[B)Z" } : Jvm.MethodName)) ∈ lw_all := lw_g (lw_at lw_m3 134 rfl) rfl
theorem q734 : (Jvm.Cond.code ({ cls := "java/lang/StringLatin1", name := "equals", desc := "([B[B)Z" } : Jvm.MethodName) prog_40_method_13_code (3 : Nat) (Option.some Jvm.ClassFile.FieldType.boolean)) ∈ lw_all := lw_g (lw_at lw_m3 135 rfl) rfl
theorem q885 : (Jvm.Cond.static ({ cls := "java/lang/StringLatin1", name := "indexOf", desc := "([B[B)I" } : Jvm.MethodName)) ∈ lw_all := lw_g (lw_at lw_m4 46 rfl) rfl
theorem q886 : (Jvm.Cond.code ({ cls := "java/lang/StringLatin1", name := "indexOf", desc := "([B[B)I" } : Jvm.MethodName) prog_40_method_24_code (2 : Nat) (Option.some Jvm.ClassFile.FieldType.int)) ∈ lw_all := lw_g (lw_at lw_m4 47 rfl) rfl
theorem q887 : (Jvm.Cond.methodLink "java/lang/StringLatin1" (99 : Nat) ({ cls := "java/lang/StringLatin1", name := "indexOf", desc := "([BI[BII)I" } : Jvm.MethodName)) ∈ lw_all := lw_g (lw_at lw_m4 48 rfl) rfl
theorem q888 : (Jvm.Cond.static ({ cls := "java/lang/StringLatin1", name := "indexOf", desc := "([BI[BII)I" } : Jvm.MethodName)) ∈ lw_all := lw_g (lw_at lw_m4 49 rfl) rfl
theorem q889 : (Jvm.Cond.code ({ cls := "java/lang/StringLatin1", name := "indexOf", desc := "([BI[BII)I" } : Jvm.MethodName) prog_40_method_25_code (11 : Nat) (Option.some Jvm.ClassFile.FieldType.int)) ∈ lw_all := lw_g (lw_at lw_m4 50 rfl) rfl
theorem q1501 : (Jvm.Cond.static ({ cls := "java/lang/StringLatin1", name := "charAt", desc := "([BI)C" } : Jvm.MethodName)) ∈ lw_all := lw_g (lw_at lw_m6 182 rfl) rfl
theorem q1502 : (Jvm.Cond.code ({ cls := "java/lang/StringLatin1", name := "charAt", desc := "([BI)C" } : Jvm.MethodName) prog_40_method_2_code (2 : Nat) (Option.some Jvm.ClassFile.FieldType.char)) ∈ lw_all := lw_g (lw_at lw_m6 183 rfl) rfl
theorem q1503 : (Jvm.Cond.methodLink "java/lang/StringLatin1" (9 : Nat) ({ cls := "java/lang/String", name := "checkIndex", desc := "(II)V" } : Jvm.MethodName)) ∈ lw_all := lw_g (lw_at lw_m6 184 rfl) rfl

theorem q141 : (Jvm.Cond.initialized "java/lang/Throwable") ∈ lw_all := lw_g (lw_at lw_m1 22 rfl) rfl
theorem q755 : (Jvm.Cond.declares ({ cls := "java/lang/Throwable", name := "<init>", desc := "()V" } : Jvm.MethodName)) ∈ lw_tbl := lw_at lw_m3 156 rfl
theorem q756 : (Jvm.Cond.declares ({ cls := "java/lang/Throwable", name := "<init>", desc := "(Ljava/lang/String;)V" } : Jvm.MethodName)) ∈ lw_tbl := lw_at lw_m3 157 rfl
theorem q760 : (Jvm.Cond.lays "java/lang/Throwable" "java/lang/Throwable" "cause" "Ljava/lang/Throwable;") ∈ lw_all := lw_g (lw_at lw_m3 161 rfl) rfl
theorem q762 : (Jvm.Cond.lays "java/lang/Throwable" "java/lang/Throwable" "stackTrace" "[Ljava/lang/StackTraceElement;") ∈ lw_all := lw_g (lw_at lw_m3 163 rfl) rfl
theorem q764 : (Jvm.Cond.lays "java/lang/Throwable" "java/lang/Throwable" "suppressedExceptions" "Ljava/util/List;") ∈ lw_all := lw_g (lw_at lw_m3 165 rfl) rfl
theorem q766 : (Jvm.Cond.lays "java/lang/Throwable" "java/lang/Throwable" "detailMessage" "Ljava/lang/String;") ∈ lw_all := lw_g (lw_at lw_m3 167 rfl) rfl
theorem q768 : (Jvm.Cond.lays "java/lang/Throwable" "java/lang/Throwable" "backtrace" "Ljava/lang/Object;") ∈ lw_all := lw_g (lw_at lw_m3 169 rfl) rfl
theorem q769 : (Jvm.Cond.fieldLink "java/lang/Throwable" (198 : Nat) "java/lang/Throwable" "backtrace" "Ljava/lang/Object;") ∈ lw_all := lw_g (lw_at lw_m3 170 rfl) rfl
theorem q770 : (Jvm.Cond.superclass "java/lang/Throwable" "java/lang/Object") ∈ lw_all := lw_g (lw_at lw_m3 171 rfl) rfl
theorem q771 : (Jvm.Cond.instanceMethod ({ cls := "java/lang/Throwable", name := "<init>", desc := "()V" } : Jvm.MethodName)) ∈ lw_all := lw_g (lw_at lw_m3 172 rfl) rfl
theorem q772 : (Jvm.Cond.code ({ cls := "java/lang/Throwable", name := "<init>", desc := "()V" } : Jvm.MethodName) prog_43_method_1_code (1 : Nat) (Option.none : Option Jvm.ClassFile.FieldType)) ∈ lw_all := lw_g (lw_at lw_m3 173 rfl) rfl
theorem q773 : (Jvm.Cond.methodLink "java/lang/Throwable" (1 : Nat) ({ cls := "java/lang/Object", name := "<init>", desc := "()V" } : Jvm.MethodName)) ∈ lw_all := lw_g (lw_at lw_m3 174 rfl) rfl
theorem q774 : (Jvm.Cond.fieldLink "java/lang/Throwable" (13 : Nat) "java/lang/Throwable" "UNASSIGNED_STACK" "[Ljava/lang/StackTraceElement;") ∈ lw_all := lw_g (lw_at lw_m3 175 rfl) rfl
theorem q775 : (Jvm.Cond.laysStatic "java/lang/Throwable" "UNASSIGNED_STACK" "[Ljava/lang/StackTraceElement;") ∈ lw_tbl := lw_at lw_m3 176 rfl
theorem q776 : (Jvm.Cond.fieldLink "java/lang/Throwable" (20 : Nat) "java/lang/Throwable" "SUPPRESSED_SENTINEL" "Ljava/util/List;") ∈ lw_all := lw_g (lw_at lw_m3 177 rfl) rfl
theorem q777 : (Jvm.Cond.laysStatic "java/lang/Throwable" "SUPPRESSED_SENTINEL" "Ljava/util/List;") ∈ lw_tbl := lw_at lw_m3 178 rfl
theorem q778 : (Jvm.Cond.methodLink "java/lang/Throwable" (27 : Nat) ({ cls := "java/lang/Throwable", name := "fillInStackTrace", desc := "()Ljava/lang/Throwable;" } : Jvm.MethodName)) ∈ lw_all := lw_g (lw_at lw_m3 179 rfl) rfl
theorem q779 : (Jvm.Cond.instanceMethod ({ cls := "java/lang/Throwable", name := "fillInStackTrace", desc := "()Ljava/lang/Throwable;" } : Jvm.MethodName)) ∈ lw_all := lw_g (lw_at lw_m3 180 rfl) rfl
theorem q780 : (Jvm.Cond.sameMethod "java/lang/Throwable" "java/lang/Throwable" "fillInStackTrace" "()Ljava/lang/Throwable;") ∈ lw_all := lw_g (lw_at lw_m3 181 rfl) rfl
theorem q782 : (Jvm.Cond.codeSync ({ cls := "java/lang/Throwable", name := "fillInStackTrace", desc := "()Ljava/lang/Throwable;" } : Jvm.MethodName) prog_43_method_18_code (1 : Nat) (Option.some (Jvm.ClassFile.FieldType.object "java/lang/Throwable"))) ∈ lw_all := lw_g (lw_at lw_m3 183 rfl) rfl
theorem q783 : (Jvm.Cond.methodLink "java/lang/Throwable" (202 : Nat) ({ cls := "java/lang/Throwable", name := "fillInStackTrace", desc := "(I)Ljava/lang/Throwable;" } : Jvm.MethodName)) ∈ lw_all := lw_g (lw_at lw_m3 184 rfl) rfl
theorem q784 : (Jvm.Cond.privateMethod ({ cls := "java/lang/Throwable", name := "fillInStackTrace", desc := "(I)Ljava/lang/Throwable;" } : Jvm.MethodName)) ∈ lw_tbl := lw_at lw_m3 185 rfl
theorem q785 : (Jvm.Cond.instanceMethod ({ cls := "java/lang/Throwable", name := "fillInStackTrace", desc := "(I)Ljava/lang/Throwable;" } : Jvm.MethodName)) ∈ lw_all := lw_g (lw_at lw_m3 186 rfl) rfl
theorem q786 : (Jvm.Cond.instantiable "java/lang/Throwable" (6 : Nat)) ∈ lw_all := lw_g (lw_at lw_m3 187 rfl) rfl
theorem q787 : (Jvm.Cond.native ({ cls := "java/lang/Throwable", name := "fillInStackTrace", desc := "(I)Ljava/lang/Throwable;" } : Jvm.MethodName)) ∈ lw_all := lw_g (lw_at lw_m3 188 rfl) rfl
theorem q795 : (Jvm.Cond.instanceMethod ({ cls := "java/lang/Throwable", name := "<init>", desc := "(Ljava/lang/String;Ljava/lang/Throwable;ZZ)V" } : Jvm.MethodName)) ∈ lw_all := lw_g (lw_at lw_m3 196 rfl) rfl
theorem q796 : (Jvm.Cond.code ({ cls := "java/lang/Throwable", name := "<init>", desc := "(Ljava/lang/String;Ljava/lang/Throwable;ZZ)V" } : Jvm.MethodName) prog_43_method_5_code (5 : Nat) (Option.none : Option Jvm.ClassFile.FieldType)) ∈ lw_all := lw_g (lw_at lw_m3 197 rfl) rfl
theorem q801 : (Jvm.Cond.fieldLink "java/lang/Throwable" (198 : Nat) "java/lang/Throwable" "backtrace" "Ljava/lang/Object;") ∈ lw_all := lw_g (lw_at lw_m3 202 rfl) rfl
theorem q802 : (Jvm.Cond.fieldLink "java/lang/Throwable" (31 : Nat) "java/lang/Throwable" "detailMessage" "Ljava/lang/String;") ∈ lw_all := lw_g (lw_at lw_m3 203 rfl) rfl
theorem q803 : (Jvm.Cond.fieldLink "java/lang/Throwable" (7 : Nat) "java/lang/Throwable" "cause" "Ljava/lang/Throwable;") ∈ lw_all := lw_g (lw_at lw_m3 204 rfl) rfl
theorem q804 : (Jvm.Cond.fieldLink "java/lang/Throwable" (17 : Nat) "java/lang/Throwable" "stackTrace" "[Ljava/lang/StackTraceElement;") ∈ lw_all := lw_g (lw_at lw_m3 205 rfl) rfl
theorem q805 : (Jvm.Cond.fieldLink "java/lang/Throwable" (24 : Nat) "java/lang/Throwable" "suppressedExceptions" "Ljava/util/List;") ∈ lw_all := lw_g (lw_at lw_m3 206 rfl) rfl
theorem q810 : (Jvm.Cond.soleField "java/lang/Throwable" "backtrace") ∈ lw_all := lw_g (lw_at lw_m3 211 rfl) rfl
theorem q811 : (Jvm.Cond.soleField "java/lang/Throwable" "detailMessage") ∈ lw_all := lw_g (lw_at lw_m3 212 rfl) rfl
theorem q812 : (Jvm.Cond.soleField "java/lang/Throwable" "cause") ∈ lw_all := lw_g (lw_at lw_m3 213 rfl) rfl
theorem q813 : (Jvm.Cond.soleField "java/lang/Throwable" "stackTrace") ∈ lw_all := lw_g (lw_at lw_m3 214 rfl) rfl
theorem q815 : (Jvm.Cond.soleField "java/lang/Throwable" "depth") ∈ lw_all := lw_g (lw_at lw_m3 216 rfl) rfl
theorem q816 : (Jvm.Cond.soleField "java/lang/Throwable" "suppressedExceptions") ∈ lw_all := lw_g (lw_at lw_m3 217 rfl) rfl
theorem q2530 : (Jvm.Cond.sameMethod "java/lang/Throwable" "java/lang/Throwable" "fillInStackTrace" "(I)Ljava/lang/Throwable;") ∈ lw_all := lw_g (lw_at lw_m11 11 rfl) rfl
theorem q2584 : (Jvm.Cond.castable "java/lang/Throwable" "java/lang/Object") ∈ lw_tbl := lw_at lw_m11 65 rfl
theorem q142 : (Jvm.Cond.initialized "java/lang/Exception") ∈ lw_all := lw_g (lw_at lw_m1 23 rfl) rfl
theorem q753 : (Jvm.Cond.declares ({ cls := "java/lang/Exception", name := "<init>", desc := "()V" } : Jvm.MethodName)) ∈ lw_tbl := lw_at lw_m3 154 rfl
theorem q754 : (Jvm.Cond.declares ({ cls := "java/lang/Exception", name := "<init>", desc := "(Ljava/lang/String;)V" } : Jvm.MethodName)) ∈ lw_tbl := lw_at lw_m3 155 rfl
theorem q792 : (Jvm.Cond.instanceMethod ({ cls := "java/lang/Exception", name := "<init>", desc := "(Ljava/lang/String;Ljava/lang/Throwable;ZZ)V" } : Jvm.MethodName)) ∈ lw_all := lw_g (lw_at lw_m3 193 rfl) rfl
theorem q793 : (Jvm.Cond.code ({ cls := "java/lang/Exception", name := "<init>", desc := "(Ljava/lang/String;Ljava/lang/Throwable;ZZ)V" } : Jvm.MethodName) prog_33_method_5_code (5 : Nat) (Option.none : Option Jvm.ClassFile.FieldType)) ∈ lw_all := lw_g (lw_at lw_m3 194 rfl) rfl
theorem q794 : (Jvm.Cond.methodLink "java/lang/Exception" (16 : Nat) ({ cls := "java/lang/Throwable", name := "<init>", desc := "(Ljava/lang/String;Ljava/lang/Throwable;ZZ)V" } : Jvm.MethodName)) ∈ lw_all := lw_g (lw_at lw_m3 195 rfl) rfl
theorem q1878 : (Jvm.Cond.instanceMethod ({ cls := "java/lang/Exception", name := "<init>", desc := "()V" } : Jvm.MethodName)) ∈ lw_all := lw_g (lw_at lw_m8 79 rfl) rfl
theorem q1879 : (Jvm.Cond.code ({ cls := "java/lang/Exception", name := "<init>", desc := "()V" } : Jvm.MethodName) prog_33_method_1_code (1 : Nat) (Option.none : Option Jvm.ClassFile.FieldType)) ∈ lw_all := lw_g (lw_at lw_m8 80 rfl) rfl
theorem q1880 : (Jvm.Cond.methodLink "java/lang/Exception" (1 : Nat) ({ cls := "java/lang/Throwable", name := "<init>", desc := "()V" } : Jvm.MethodName)) ∈ lw_all := lw_g (lw_at lw_m8 81 rfl) rfl

theorem q146 : (Jvm.Cond.initialized "java/lang/RuntimeException") ∈ lw_all := lw_g (lw_at lw_m1 27 rfl) rfl
theorem q1863 : (Jvm.Cond.declares ({ cls := "java/lang/RuntimeException", name := "<init>", desc := "()V" } : Jvm.MethodName)) ∈ lw_tbl := lw_at lw_m8 64 rfl
theorem q1864 : (Jvm.Cond.declares ({ cls := "java/lang/RuntimeException", name := "<init>", desc := "(Ljava/lang/String;)V" } : Jvm.MethodName)) ∈ lw_tbl := lw_at lw_m8 65 rfl
theorem q1875 : (Jvm.Cond.instanceMethod ({ cls := "java/lang/RuntimeException", name := "<init>", desc := "()V" } : Jvm.MethodName)) ∈ lw_all := lw_g (lw_at lw_m8 76 rfl) rfl
theorem q1876 : (Jvm.Cond.code ({ cls := "java/lang/RuntimeException", name := "<init>", desc := "()V" } : Jvm.MethodName) prog_37_method_1_code (1 : Nat) (Option.none : Option Jvm.ClassFile.FieldType)) ∈ lw_all := lw_g (lw_at lw_m8 77 rfl) rfl
theorem q1877 : (Jvm.Cond.methodLink "java/lang/RuntimeException" (1 : Nat) ({ cls := "java/lang/Exception", name := "<init>", desc := "()V" } : Jvm.MethodName)) ∈ lw_all := lw_g (lw_at lw_m8 78 rfl) rfl

theorem q147 : (Jvm.Cond.initialized "java/util/NoSuchElementException") ∈ lw_all := lw_g (lw_at lw_m1 28 rfl) rfl
theorem q781 : (Jvm.Cond.selects "java/util/NoSuchElementException" ({ cls := "java/lang/Throwable", name := "fillInStackTrace", desc := "()Ljava/lang/Throwable;" } : Jvm.MethodName) ({ cls := "java/lang/Throwable", name := "fillInStackTrace", desc := "()Ljava/lang/Throwable;" } : Jvm.MethodName)) ∈ lw_all := lw_g (lw_at lw_m3 182 rfl) rfl
theorem q1016 : (Jvm.Cond.selects "java/util/NoSuchElementException" ({ cls := "java/lang/Object", name := "getClass", desc := "()Ljava/lang/Class;" } : Jvm.MethodName) ({ cls := "java/lang/Object", name := "getClass", desc := "()Ljava/lang/Class;" } : Jvm.MethodName)) ∈ lw_all := lw_g (lw_at lw_m4 177 rfl) rfl
theorem q1861 : (Jvm.Cond.instantiable "java/util/NoSuchElementException" (6 : Nat)) ∈ lw_all := lw_g (lw_at lw_m8 62 rfl) rfl
theorem q1862 : (Jvm.Cond.castable "java/util/NoSuchElementException" "java/util/NoSuchElementException") ∈ lw_tbl := lw_at lw_m8 63 rfl
theorem q1865 : (Jvm.Cond.selects "java/util/NoSuchElementException" ({ cls := "java/lang/Throwable", name := "fillInStackTrace", desc := "(I)Ljava/lang/Throwable;" } : Jvm.MethodName) ({ cls := "java/lang/Throwable", name := "fillInStackTrace", desc := "(I)Ljava/lang/Throwable;" } : Jvm.MethodName)) ∈ lw_all := lw_g (lw_at lw_m8 66 rfl) rfl
theorem q1866 : (Jvm.Cond.lays "java/util/NoSuchElementException" "java/lang/Throwable" "cause" "Ljava/lang/Throwable;") ∈ lw_all := lw_g (lw_at lw_m8 67 rfl) rfl
theorem q1867 : (Jvm.Cond.lays "java/util/NoSuchElementException" "java/lang/Throwable" "stackTrace" "[Ljava/lang/StackTraceElement;") ∈ lw_all := lw_g (lw_at lw_m8 68 rfl) rfl
theorem q1868 : (Jvm.Cond.lays "java/util/NoSuchElementException" "java/lang/Throwable" "suppressedExceptions" "Ljava/util/List;") ∈ lw_all := lw_g (lw_at lw_m8 69 rfl) rfl
theorem q1869 : (Jvm.Cond.lays "java/util/NoSuchElementException" "java/lang/Throwable" "detailMessage" "Ljava/lang/String;") ∈ lw_all := lw_g (lw_at lw_m8 70 rfl) rfl
theorem q1870 : (Jvm.Cond.lays "java/util/NoSuchElementException" "java/lang/Throwable" "backtrace" "Ljava/lang/Object;") ∈ lw_all := lw_g (lw_at lw_m8 71 rfl) rfl
theorem q1872 : (Jvm.Cond.instanceMethod ({ cls := "java/util/NoSuchElementException", name := "<init>", desc := "()V" } : Jvm.MethodName)) ∈ lw_all := lw_g (lw_at lw_m8 73 rfl) rfl
theorem q1873 : (Jvm.Cond.code ({ cls := "java/util/NoSuchElementException", name := "<init>", desc := "()V" } : Jvm.MethodName) prog_52_method_1_code (1 : Nat) (Option.none : Option Jvm.ClassFile.FieldType)) ∈ lw_all := lw_g (lw_at lw_m8 74 rfl) rfl
theorem q1874 : (Jvm.Cond.methodLink "java/util/NoSuchElementException" (1 : Nat) ({ cls := "java/lang/RuntimeException", name := "<init>", desc := "()V" } : Jvm.MethodName)) ∈ lw_all := lw_g (lw_at lw_m8 75 rfl) rfl
theorem q1881 : (Jvm.Cond.lays "java/util/NoSuchElementException" "java/lang/Throwable" "depth" "I") ∈ lw_all := lw_g (lw_at lw_m8 82 rfl) rfl
theorem q1882 : (Jvm.Cond.superclass "java/util/NoSuchElementException" "java/lang/RuntimeException") ∈ lw_all := lw_g (lw_at lw_m8 83 rfl) rfl
theorem q2571 : (Jvm.Cond.castable "java/util/NoSuchElementException" "java/lang/Object") ∈ lw_tbl := lw_at lw_m11 52 rfl
theorem q148 : (Jvm.Cond.initialized "java/lang/Integer") ∈ lw_all := lw_g (lw_at lw_m1 29 rfl) rfl
theorem q1157 : (Jvm.Cond.static ({ cls := "java/lang/Integer", name := "bitCount", desc := "(I)I" } : Jvm.MethodName)) ∈ lw_all := lw_g (lw_at lw_m5 78 rfl) rfl
theorem q1158 : (Jvm.Cond.code ({ cls := "java/lang/Integer", name := "bitCount", desc := "(I)I" } : Jvm.MethodName) prog_34_method_49_code (1 : Nat) (Option.some Jvm.ClassFile.FieldType.int)) ∈ lw_all := lw_g (lw_at lw_m5 79 rfl) rfl
theorem q1159 : (Jvm.Cond.constant "java/lang/Integer" (265 : Nat) (1431655765 : Int32)) ∈ lw_all := lw_g (lw_at lw_m5 80 rfl) rfl
theorem q1160 : (Jvm.Cond.constant "java/lang/Integer" (266 : Nat) (858993459 : Int32)) ∈ lw_all := lw_g (lw_at lw_m5 81 rfl) rfl
theorem q1161 : (Jvm.Cond.constant "java/lang/Integer" (267 : Nat) (252645135 : Int32)) ∈ lw_all := lw_g (lw_at lw_m5 82 rfl) rfl

theorem q170 : (Jvm.Cond.instanceMethod ({ cls := "java/lang/Object", name := "<init>", desc := "()V" } : Jvm.MethodName)) ∈ lw_all := lw_g (lw_at lw_m1 51 rfl) rfl
theorem q171 : (Jvm.Cond.code ({ cls := "java/lang/Object", name := "<init>", desc := "()V" } : Jvm.MethodName) object_method_1_code (1 : Nat) (Option.none : Option Jvm.ClassFile.FieldType)) ∈ lw_all := lw_g (lw_at lw_m1 52 rfl) rfl
theorem q595 : (Jvm.Cond.native ({ cls := "java/lang/Object", name := "clone", desc := "()Ljava/lang/Object;" } : Jvm.MethodName)) ∈ lw_all := lw_g (lw_at lw_m2 236 rfl) rfl
theorem q596 : (Jvm.Cond.instanceMethod ({ cls := "java/lang/Object", name := "clone", desc := "()Ljava/lang/Object;" } : Jvm.MethodName)) ∈ lw_all := lw_g (lw_at lw_m2 237 rfl) rfl
theorem q990 : (Jvm.Cond.instanceMethod ({ cls := "java/lang/Object", name := "getClass", desc := "()Ljava/lang/Class;" } : Jvm.MethodName)) ∈ lw_all := lw_g (lw_at lw_m4 151 rfl) rfl
theorem q991 : (Jvm.Cond.sameMethod "java/lang/Object" "java/lang/Object" "getClass" "()Ljava/lang/Class;") ∈ lw_all := lw_g (lw_at lw_m4 152 rfl) rfl
theorem q1017 : (Jvm.Cond.native ({ cls := "java/lang/Object", name := "getClass", desc := "()Ljava/lang/Class;" } : Jvm.MethodName)) ∈ lw_all := lw_g (lw_at lw_m4 178 rfl) rfl
theorem q2552 : (Jvm.Cond.initialized "java/lang/Object") ∈ lw_all := lw_g (lw_at lw_m11 33 rfl) rfl
theorem q2587 : (Jvm.Cond.declares ({ cls := "java/lang/Object", name := "getClass", desc := "()Ljava/lang/Class;" } : Jvm.MethodName)) ∈ lw_tbl := lw_at lw_m11 68 rfl

theorem q124 : (Jvm.Cond.initialized "java/util/ArrayList") ∈ lw_all := lw_g (lw_at lw_m1 5 rfl) rfl
theorem q179 : (Jvm.Cond.instantiable "java/util/ArrayList" (3 : Nat)) ∈ lw_all := lw_g (lw_at lw_m1 60 rfl) rfl
theorem q181 : (Jvm.Cond.instanceMethod ({ cls := "java/util/ArrayList", name := "<init>", desc := "()V" } : Jvm.MethodName)) ∈ lw_all := lw_g (lw_at lw_m1 62 rfl) rfl
theorem q182 : (Jvm.Cond.code ({ cls := "java/util/ArrayList", name := "<init>", desc := "()V" } : Jvm.MethodName) prog_48_method_2_code (1 : Nat) (Option.none : Option Jvm.ClassFile.FieldType)) ∈ lw_all := lw_g (lw_at lw_m1 63 rfl) rfl
theorem q183 : (Jvm.Cond.methodLink "java/util/ArrayList" (1 : Nat) ({ cls := "java/util/AbstractList", name := "<init>", desc := "()V" } : Jvm.MethodName)) ∈ lw_all := lw_g (lw_at lw_m1 64 rfl) rfl
theorem q190 : (Jvm.Cond.fieldLink "java/util/ArrayList" (39 : Nat) "java/util/ArrayList" "DEFAULTCAPACITY_EMPTY_ELEMENTDATA" "[Ljava/lang/Object;") ∈ lw_all := lw_g (lw_at lw_m1 71 rfl) rfl
theorem q191 : (Jvm.Cond.laysStatic "java/util/ArrayList" "DEFAULTCAPACITY_EMPTY_ELEMENTDATA" "[Ljava/lang/Object;") ∈ lw_tbl := lw_at lw_m1 72 rfl
theorem q192 : (Jvm.Cond.fieldLink "java/util/ArrayList" (9 : Nat) "java/util/ArrayList" "elementData" "[Ljava/lang/Object;") ∈ lw_all := lw_g (lw_at lw_m1 73 rfl) rfl
theorem q193 : (Jvm.Cond.fieldLink "java/util/ArrayList" (48 : Nat) "java/util/ArrayList" "size" "I") ∈ lw_all := lw_g (lw_at lw_m1 74 rfl) rfl
theorem q195 : (Jvm.Cond.fieldLink "java/util/ArrayList" (63 : Nat) "java/util/ArrayList" "modCount" "I") ∈ lw_all := lw_g (lw_at lw_m1 76 rfl) rfl
theorem q196 : (Jvm.Cond.sameField "java/util/ArrayList" "java/util/AbstractList" "modCount" "I") ∈ lw_all := lw_g (lw_at lw_m1 77 rfl) rfl
theorem q197 : (Jvm.Cond.lays "java/util/ArrayList" "java/util/ArrayList" "elementData" "[Ljava/lang/Object;") ∈ lw_all := lw_g (lw_at lw_m1 78 rfl) rfl
theorem q198 : (Jvm.Cond.soleField "java/util/ArrayList" "elementData") ∈ lw_all := lw_g (lw_at lw_m1 79 rfl) rfl
theorem q199 : (Jvm.Cond.lays "java/util/ArrayList" "java/util/ArrayList" "size" "I") ∈ lw_all := lw_g (lw_at lw_m1 80 rfl) rfl
theorem q200 : (Jvm.Cond.soleField "java/util/ArrayList" "size") ∈ lw_all := lw_g (lw_at lw_m1 81 rfl) rfl
theorem q201 : (Jvm.Cond.lays "java/util/ArrayList" "java/util/AbstractList" "modCount" "I") ∈ lw_all := lw_g (lw_at lw_m1 82 rfl) rfl
theorem q203 : (Jvm.Cond.superclass "java/util/ArrayList" "java/util/AbstractList") ∈ lw_all := lw_g (lw_at lw_m1 84 rfl) rfl
theorem q317 : (Jvm.Cond.instanceMethod ({ cls := "java/util/ArrayList", name := "size", desc := "()I" } : Jvm.MethodName)) ∈ lw_all := lw_g (lw_at lw_m1 198 rfl) rfl
theorem q318 : (Jvm.Cond.selects "java/util/ArrayList" ({ cls := "java/util/ArrayList", name := "size", desc := "()I" } : Jvm.MethodName) ({ cls := "java/util/ArrayList", name := "size", desc := "()I" } : Jvm.MethodName)) ∈ lw_all := lw_g (lw_at lw_m1 199 rfl) rfl
theorem q319 : (Jvm.Cond.code ({ cls := "java/util/ArrayList", name := "size", desc := "()I" } : Jvm.MethodName) prog_48_method_8_code (1 : Nat) (Option.some Jvm.ClassFile.FieldType.int)) ∈ lw_all := lw_g (lw_at lw_m1 200 rfl) rfl
theorem q325 : (Jvm.Cond.instanceMethod ({ cls := "java/util/ArrayList", name := "get", desc := "(I)Ljava/lang/Object;" } : Jvm.MethodName)) ∈ lw_all := lw_g (lw_at lw_m1 206 rfl) rfl
theorem q326 : (Jvm.Cond.selects "java/util/ArrayList" ({ cls := "java/util/ArrayList", name := "get", desc := "(I)Ljava/lang/Object;" } : Jvm.MethodName) ({ cls := "java/util/ArrayList", name := "get", desc := "(I)Ljava/lang/Object;" } : Jvm.MethodName)) ∈ lw_all := lw_g (lw_at lw_m1 207 rfl) rfl
theorem q327 : (Jvm.Cond.code ({ cls := "java/util/ArrayList", name := "get", desc := "(I)Ljava/lang/Object;" } : Jvm.MethodName) prog_48_method_20_code (2 : Nat) (Option.some (Jvm.ClassFile.FieldType.object "java/lang/Object"))) ∈ lw_all := lw_g (lw_at lw_m1 208 rfl) rfl
theorem q328 : (Jvm.Cond.methodLink "java/util/ArrayList" (118 : Nat) ({ cls := "java/util/Objects", name := "checkIndex", desc := "(II)I" } : Jvm.MethodName)) ∈ lw_all := lw_g (lw_at lw_m1 209 rfl) rfl
theorem q334 : (Jvm.Cond.methodLink "java/util/ArrayList" (123 : Nat) ({ cls := "java/util/ArrayList", name := "elementData", desc := "(I)Ljava/lang/Object;" } : Jvm.MethodName)) ∈ lw_all := lw_g (lw_at lw_m1 215 rfl) rfl
theorem q335 : (Jvm.Cond.instanceMethod ({ cls := "java/util/ArrayList", name := "elementData", desc := "(I)Ljava/lang/Object;" } : Jvm.MethodName)) ∈ lw_all := lw_g (lw_at lw_m1 216 rfl) rfl
theorem q336 : (Jvm.Cond.selects "java/util/ArrayList" ({ cls := "java/util/ArrayList", name := "elementData", desc := "(I)Ljava/lang/Object;" } : Jvm.MethodName) ({ cls := "java/util/ArrayList", name := "elementData", desc := "(I)Ljava/lang/Object;" } : Jvm.MethodName)) ∈ lw_all := lw_g (lw_at lw_m1 217 rfl) rfl
theorem q337 : (Jvm.Cond.code ({ cls := "java/util/ArrayList", name := "elementData", desc := "(I)Ljava/lang/Object;" } : Jvm.MethodName) prog_48_method_18_code (2 : Nat) (Option.some (Jvm.ClassFile.FieldType.object "java/lang/Object"))) ∈ lw_all := lw_g (lw_at lw_m1 218 rfl) rfl
theorem q970 : (Jvm.Cond.instanceMethod ({ cls := "java/util/ArrayList", name := "add", desc := "(Ljava/lang/Object;)Z" } : Jvm.MethodName)) ∈ lw_all := lw_g (lw_at lw_m4 131 rfl) rfl
theorem q971 : (Jvm.Cond.selects "java/util/ArrayList" ({ cls := "java/util/ArrayList", name := "add", desc := "(Ljava/lang/Object;)Z" } : Jvm.MethodName) ({ cls := "java/util/ArrayList", name := "add", desc := "(Ljava/lang/Object;)Z" } : Jvm.MethodName)) ∈ lw_all := lw_g (lw_at lw_m4 132 rfl) rfl
theorem q972 : (Jvm.Cond.code ({ cls := "java/util/ArrayList", name := "add", desc := "(Ljava/lang/Object;)Z" } : Jvm.MethodName) prog_48_method_25_code (2 : Nat) (Option.some Jvm.ClassFile.FieldType.boolean)) ∈ lw_all := lw_g (lw_at lw_m4 133 rfl) rfl
theorem q973 : (Jvm.Cond.methodLink "java/util/ArrayList" (131 : Nat) ({ cls := "java/util/ArrayList", name := "add", desc := "(Ljava/lang/Object;[Ljava/lang/Object;I)V" } : Jvm.MethodName)) ∈ lw_all := lw_g (lw_at lw_m4 134 rfl) rfl
theorem q974 : (Jvm.Cond.privateMethod ({ cls := "java/util/ArrayList", name := "add", desc := "(Ljava/lang/Object;[Ljava/lang/Object;I)V" } : Jvm.MethodName)) ∈ lw_tbl := lw_at lw_m4 135 rfl
theorem q975 : (Jvm.Cond.instanceMethod ({ cls := "java/util/ArrayList", name := "add", desc := "(Ljava/lang/Object;[Ljava/lang/Object;I)V" } : Jvm.MethodName)) ∈ lw_all := lw_g (lw_at lw_m4 136 rfl) rfl
theorem q976 : (Jvm.Cond.code ({ cls := "java/util/ArrayList", name := "add", desc := "(Ljava/lang/Object;[Ljava/lang/Object;I)V" } : Jvm.MethodName) prog_48_method_24_code (4 : Nat) (Option.none : Option Jvm.ClassFile.FieldType)) ∈ lw_all := lw_g (lw_at lw_m4 137 rfl) rfl
theorem q977 : (Jvm.Cond.methodLink "java/util/ArrayList" (129 : Nat) ({ cls := "java/util/ArrayList", name := "grow", desc := "()[Ljava/lang/Object;" } : Jvm.MethodName)) ∈ lw_all := lw_g (lw_at lw_m4 138 rfl) rfl
theorem q978 : (Jvm.Cond.privateMethod ({ cls := "java/util/ArrayList", name := "grow", desc := "()[Ljava/lang/Object;" } : Jvm.MethodName)) ∈ lw_tbl := lw_at lw_m4 139 rfl
theorem q979 : (Jvm.Cond.instanceMethod ({ cls := "java/util/ArrayList", name := "grow", desc := "()[Ljava/lang/Object;" } : Jvm.MethodName)) ∈ lw_all := lw_g (lw_at lw_m4 140 rfl) rfl
theorem q980 : (Jvm.Cond.code ({ cls := "java/util/ArrayList", name := "grow", desc := "()[Ljava/lang/Object;" } : Jvm.MethodName) prog_48_method_7_code (1 : Nat) (Option.some (Jvm.ClassFile.FieldType.array (Jvm.ClassFile.FieldType.object "java/lang/Object")))) ∈ lw_all := lw_g (lw_at lw_m4 141 rfl) rfl
theorem q981 : (Jvm.Cond.methodLink "java/util/ArrayList" (69 : Nat) ({ cls := "java/util/ArrayList", name := "grow", desc := "(I)[Ljava/lang/Object;" } : Jvm.MethodName)) ∈ lw_all := lw_g (lw_at lw_m4 142 rfl) rfl
theorem q982 : (Jvm.Cond.privateMethod ({ cls := "java/util/ArrayList", name := "grow", desc := "(I)[Ljava/lang/Object;" } : Jvm.MethodName)) ∈ lw_tbl := lw_at lw_m4 143 rfl
theorem q983 : (Jvm.Cond.instanceMethod ({ cls := "java/util/ArrayList", name := "grow", desc := "(I)[Ljava/lang/Object;" } : Jvm.MethodName)) ∈ lw_all := lw_g (lw_at lw_m4 144 rfl) rfl
theorem q984 : (Jvm.Cond.code ({ cls := "java/util/ArrayList", name := "grow", desc := "(I)[Ljava/lang/Object;" } : Jvm.MethodName) prog_48_method_6_code (4 : Nat) (Option.some (Jvm.ClassFile.FieldType.array (Jvm.ClassFile.FieldType.object "java/lang/Object")))) ∈ lw_all := lw_g (lw_at lw_m4 145 rfl) rfl
theorem q985 : (Jvm.Cond.methodLink "java/util/ArrayList" (73 : Nat) ({ cls := "jdk/internal/util/ArraysSupport", name := "newLength", desc := "(III)I" } : Jvm.MethodName)) ∈ lw_all := lw_g (lw_at lw_m4 146 rfl) rfl
theorem q986 : (Jvm.Cond.methodLink "java/util/ArrayList" (66 : Nat) ({ cls := "java/util/Arrays", name := "copyOf", desc := "([Ljava/lang/Object;I)[Ljava/lang/Object;" } : Jvm.MethodName)) ∈ lw_all := lw_g (lw_at lw_m4 147 rfl) rfl
theorem q1015 : (Jvm.Cond.selects "java/util/ArrayList" ({ cls := "java/lang/Object", name := "getClass", desc := "()Ljava/lang/Class;" } : Jvm.MethodName) ({ cls := "java/lang/Object", name := "getClass", desc := "()Ljava/lang/Class;" } : Jvm.MethodName)) ∈ lw_all := lw_g (lw_at lw_m4 176 rfl) rfl
theorem q1024 : (Jvm.Cond.methodLink "java/util/ArrayList" (79 : Nat) ({ cls := "java/lang/Math", name := "max", desc := "(II)I" } : Jvm.MethodName)) ∈ lw_all := lw_g (lw_at lw_m4 185 rfl) rfl
theorem q1025 : (Jvm.Cond.classLink "java/util/ArrayList" (7 : Nat) "java/lang/Object") ∈ lw_all := lw_g (lw_at lw_m4 186 rfl) rfl
theorem q2563 : (Jvm.Cond.castable "java/util/ArrayList" "java/lang/Object") ∈ lw_tbl := lw_at lw_m11 44 rfl
theorem q126 : (Jvm.Cond.initialized "java/util/Arrays") ∈ lw_all := lw_g (lw_at lw_m1 7 rfl) rfl
theorem q310 : (Jvm.Cond.static ({ cls := "java/util/Arrays", name := "fill", desc := "([II)V" } : Jvm.MethodName)) ∈ lw_all := lw_g (lw_at lw_m1 191 rfl) rfl
theorem q311 : (Jvm.Cond.code ({ cls := "java/util/Arrays", name := "fill", desc := "([II)V" } : Jvm.MethodName) prog_49_method_103_code (4 : Nat) (Option.none : Option Jvm.ClassFile.FieldType)) ∈ lw_all := lw_g (lw_at lw_m1 192 rfl) rfl
theorem q591 : (Jvm.Cond.static ({ cls := "java/util/Arrays", name := "copyOf", desc := "([BI)[B" } : Jvm.MethodName)) ∈ lw_all := lw_g (lw_at lw_m2 232 rfl) rfl
theorem q592 : (Jvm.Cond.code ({ cls := "java/util/Arrays", name := "copyOf", desc := "([BI)[B" } : Jvm.MethodName) prog_49_method_121_code (3 : Nat) (Option.some (Jvm.ClassFile.FieldType.array Jvm.ClassFile.FieldType.byte))) ∈ lw_all := lw_g (lw_at lw_m2 233 rfl) rfl
theorem q593 : (Jvm.Cond.methodLink "java/util/Arrays" (310 : Nat) ({ cls := "[B", name := "clone", desc := "()Ljava/lang/Object;" } : Jvm.MethodName)) ∈ lw_all := lw_g (lw_at lw_m2 234 rfl) rfl
theorem q599 : (Jvm.Cond.classLink "java/util/Arrays" (311 : Nat) "[B") ∈ lw_all := lw_g (lw_at lw_m3 0 rfl) rfl
theorem q600 : (Jvm.Cond.methodLink "java/util/Arrays" (304 : Nat) ({ cls := "java/lang/Math", name := "min", desc := "(II)I" } : Jvm.MethodName)) ∈ lw_all := lw_g (lw_at lw_m3 1 rfl) rfl
theorem q603 : (Jvm.Cond.methodLink "java/util/Arrays" (150 : Nat) ({ cls := "java/lang/System", name := "arraycopy", desc := "(Ljava/lang/Object;ILjava/lang/Object;II)V" } : Jvm.MethodName)) ∈ lw_all := lw_g (lw_at lw_m3 4 rfl) rfl
theorem q683 : (Jvm.Cond.static ({ cls := "java/util/Arrays", name := "copyOfRange", desc := "([BII)[B" } : Jvm.MethodName)) ∈ lw_all := lw_g (lw_at lw_m3 84 rfl) rfl
theorem q684 : (Jvm.Cond.code ({ cls := "java/util/Arrays", name := "copyOfRange", desc := "([BII)[B" } : Jvm.MethodName) prog_49_method_132_code (3 : Nat) (Option.some (Jvm.ClassFile.FieldType.array Jvm.ClassFile.FieldType.byte))) ∈ lw_all := lw_g (lw_at lw_m3 85 rfl) rfl
theorem q685 : (Jvm.Cond.methodLink "java/util/Arrays" (339 : Nat) ({ cls := "java/util/Arrays", name := "copyOfRangeByte", desc := "([BII)[B" } : Jvm.MethodName)) ∈ lw_all := lw_g (lw_at lw_m3 86 rfl) rfl
theorem q686 : (Jvm.Cond.static ({ cls := "java/util/Arrays", name := "copyOfRangeByte", desc := "([BII)[B" } : Jvm.MethodName)) ∈ lw_all := lw_g (lw_at lw_m3 87 rfl) rfl
theorem q687 : (Jvm.Cond.code ({ cls := "java/util/Arrays", name := "copyOfRangeByte", desc := "([BII)[B" } : Jvm.MethodName) prog_49_method_133_code (5 : Nat) (Option.some (Jvm.ClassFile.FieldType.array Jvm.ClassFile.FieldType.byte))) ∈ lw_all := lw_g (lw_at lw_m3 88 rfl) rfl
theorem q688 : (Jvm.Cond.methodLink "java/util/Arrays" (343 : Nat) ({ cls := "java/util/Arrays", name := "checkLength", desc := "(II)V" } : Jvm.MethodName)) ∈ lw_all := lw_g (lw_at lw_m3 89 rfl) rfl
theorem q689 : (Jvm.Cond.static ({ cls := "java/util/Arrays", name := "checkLength", desc := "(II)V" } : Jvm.MethodName)) ∈ lw_all := lw_g (lw_at lw_m3 90 rfl) rfl
theorem q690 : (Jvm.Cond.code ({ cls := "java/util/Arrays", name := "checkLength", desc := "(II)V" } : Jvm.MethodName) prog_49_method_131_code (2 : Nat) (Option.none : Option Jvm.ClassFile.FieldType)) ∈ lw_all := lw_g (lw_at lw_m3 91 rfl) rfl
theorem q987 : (Jvm.Cond.static ({ cls := "java/util/Arrays", name := "copyOf", desc := "([Ljava/lang/Object;I)[Ljava/lang/Object;" } : Jvm.MethodName)) ∈ lw_all := lw_g (lw_at lw_m4 148 rfl) rfl
theorem q988 : (Jvm.Cond.code ({ cls := "java/util/Arrays", name := "copyOf", desc := "([Ljava/lang/Object;I)[Ljava/lang/Object;" } : Jvm.MethodName) prog_49_method_119_code (2 : Nat) (Option.some (Jvm.ClassFile.FieldType.array (Jvm.ClassFile.FieldType.object "java/lang/Object")))) ∈ lw_all := lw_g (lw_at lw_m4 149 rfl) rfl
theorem q989 : (Jvm.Cond.methodLink "java/util/Arrays" (86 : Nat) ({ cls := "java/lang/Object", name := "getClass", desc := "()Ljava/lang/Class;" } : Jvm.MethodName)) ∈ lw_all := lw_g (lw_at lw_m4 150 rfl) rfl
theorem q1018 : (Jvm.Cond.methodLink "java/util/Arrays" (300 : Nat) ({ cls := "java/util/Arrays", name := "copyOf", desc := "([Ljava/lang/Object;ILjava/lang/Class;)[Ljava/lang/Object;" } : Jvm.MethodName)) ∈ lw_all := lw_g (lw_at lw_m4 179 rfl) rfl
theorem q1019 : (Jvm.Cond.static ({ cls := "java/util/Arrays", name := "copyOf", desc := "([Ljava/lang/Object;ILjava/lang/Class;)[Ljava/lang/Object;" } : Jvm.MethodName)) ∈ lw_all := lw_g (lw_at lw_m4 180 rfl) rfl
theorem q1020 : (Jvm.Cond.code ({ cls := "java/util/Arrays", name := "copyOf", desc := "([Ljava/lang/Object;ILjava/lang/Class;)[Ljava/lang/Object;" } : Jvm.MethodName) prog_49_method_120_code (4 : Nat) (Option.some (Jvm.ClassFile.FieldType.array (Jvm.ClassFile.FieldType.object "java/lang/Object")))) ∈ lw_all := lw_g (lw_at lw_m4 181 rfl) rfl
theorem q1021 : (Jvm.Cond.classLink "java/util/Arrays" (110 : Nat) "[Ljava/lang/Object;") ∈ lw_all := lw_g (lw_at lw_m4 182 rfl) rfl
theorem q1023 : (Jvm.Cond.classLink "java/util/Arrays" (2 : Nat) "java/lang/Object") ∈ lw_all := lw_g (lw_at lw_m4 184 rfl) rfl

theorem q127 : (Jvm.Cond.initialized "java/util/Objects") ∈ lw_all := lw_g (lw_at lw_m1 8 rfl) rfl
theorem q329 : (Jvm.Cond.static ({ cls := "java/util/Objects", name := "checkIndex", desc := "(II)I" } : Jvm.MethodName)) ∈ lw_all := lw_g (lw_at lw_m1 210 rfl) rfl
theorem q330 : (Jvm.Cond.code ({ cls := "java/util/Objects", name := "checkIndex", desc := "(II)I" } : Jvm.MethodName) prog_53_method_17_code (2 : Nat) (Option.some Jvm.ClassFile.FieldType.int)) ∈ lw_all := lw_g (lw_at lw_m1 211 rfl) rfl
theorem q331 : (Jvm.Cond.methodLink "java/util/Objects" (105 : Nat) ({ cls := "jdk/internal/util/Preconditions", name := "checkIndex", desc := "(IILjava/util/function/BiFunction;)I" } : Jvm.MethodName)) ∈ lw_all := lw_g (lw_at lw_m1 212 rfl) rfl

theorem q128 : (Jvm.Cond.initialized "jdk/internal/util/Preconditions") ∈ lw_all := lw_g (lw_at lw_m1 9 rfl) rfl
theorem q332 : (Jvm.Cond.static ({ cls := "jdk/internal/util/Preconditions", name := "checkIndex", desc := "(IILjava/util/function/BiFunction;)I" } : Jvm.MethodName)) ∈ lw_all := lw_g (lw_at lw_m1 213 rfl) rfl
theorem q333 : (Jvm.Cond.code ({ cls := "jdk/internal/util/Preconditions", name := "checkIndex", desc := "(IILjava/util/function/BiFunction;)I" } : Jvm.MethodName) prog_57_method_11_code (3 : Nat) (Option.some Jvm.ClassFile.FieldType.int)) ∈ lw_all := lw_g (lw_at lw_m1 214 rfl) rfl
theorem q632 : (Jvm.Cond.laysStatic "jdk/internal/util/Preconditions" "SIOOBE_FORMATTER" "Ljava/util/function/BiFunction;") ∈ lw_tbl := lw_at lw_m3 33 rfl
theorem q634 : (Jvm.Cond.static ({ cls := "jdk/internal/util/Preconditions", name := "checkFromIndexSize", desc := "(IIILjava/util/function/BiFunction;)I" } : Jvm.MethodName)) ∈ lw_all := lw_g (lw_at lw_m3 35 rfl) rfl
theorem q635 : (Jvm.Cond.code ({ cls := "jdk/internal/util/Preconditions", name := "checkFromIndexSize", desc := "(IIILjava/util/function/BiFunction;)I" } : Jvm.MethodName) prog_57_method_13_code (4 : Nat) (Option.some Jvm.ClassFile.FieldType.int)) ∈ lw_all := lw_g (lw_at lw_m3 36 rfl) rfl
theorem q851 : (Jvm.Cond.static ({ cls := "jdk/internal/util/Preconditions", name := "checkFromToIndex", desc := "(IIILjava/util/function/BiFunction;)I" } : Jvm.MethodName)) ∈ lw_all := lw_g (lw_at lw_m4 12 rfl) rfl
theorem q852 : (Jvm.Cond.code ({ cls := "jdk/internal/util/Preconditions", name := "checkFromToIndex", desc := "(IIILjava/util/function/BiFunction;)I" } : Jvm.MethodName) prog_57_method_12_code (4 : Nat) (Option.some Jvm.ClassFile.FieldType.int)) ∈ lw_all := lw_g (lw_at lw_m4 13 rfl) rfl

theorem q134 : (Jvm.Cond.initialized "java/lang/AbstractStringBuilder") ∈ lw_all := lw_g (lw_at lw_m1 15 rfl) rfl
theorem q539 : (Jvm.Cond.instanceMethod ({ cls := "java/lang/AbstractStringBuilder", name := "<init>", desc := "(I)V" } : Jvm.MethodName)) ∈ lw_all := lw_g (lw_at lw_m2 180 rfl) rfl
theorem q540 : (Jvm.Cond.code ({ cls := "java/lang/AbstractStringBuilder", name := "<init>", desc := "(I)V" } : Jvm.MethodName) prog_28_method_2_code (2 : Nat) (Option.none : Option Jvm.ClassFile.FieldType)) ∈ lw_all := lw_g (lw_at lw_m2 181 rfl) rfl
theorem q541 : (Jvm.Cond.methodLink "java/lang/AbstractStringBuilder" (3 : Nat) ({ cls := "java/lang/Object", name := "<init>", desc := "()V" } : Jvm.MethodName)) ∈ lw_all := lw_g (lw_at lw_m2 182 rfl) rfl
theorem q542 : (Jvm.Cond.fieldLink "java/lang/AbstractStringBuilder" (18 : Nat) "java/lang/String" "COMPACT_STRINGS" "Z") ∈ lw_all := lw_g (lw_at lw_m2 183 rfl) rfl
theorem q544 : (Jvm.Cond.methodLink "java/lang/AbstractStringBuilder" (26 : Nat) ({ cls := "java/lang/StringUTF16", name := "newBytesFor", desc := "(I)[B" } : Jvm.MethodName)) ∈ lw_all := lw_g (lw_at lw_m2 185 rfl) rfl
theorem q551 : (Jvm.Cond.fieldLink "java/lang/AbstractStringBuilder" (15 : Nat) "java/lang/AbstractStringBuilder" "value" "[B") ∈ lw_all := lw_g (lw_at lw_m2 192 rfl) rfl
theorem q552 : (Jvm.Cond.fieldLink "java/lang/AbstractStringBuilder" (22 : Nat) "java/lang/AbstractStringBuilder" "coder" "B") ∈ lw_all := lw_g (lw_at lw_m2 193 rfl) rfl
theorem q554 : (Jvm.Cond.fieldLink "java/lang/AbstractStringBuilder" (79 : Nat) "java/lang/AbstractStringBuilder" "count" "I") ∈ lw_all := lw_g (lw_at lw_m2 195 rfl) rfl
theorem q556 : (Jvm.Cond.soleField "java/lang/AbstractStringBuilder" "value") ∈ lw_all := lw_g (lw_at lw_m2 197 rfl) rfl
theorem q558 : (Jvm.Cond.soleField "java/lang/AbstractStringBuilder" "coder") ∈ lw_all := lw_g (lw_at lw_m2 199 rfl) rfl
theorem q560 : (Jvm.Cond.soleField "java/lang/AbstractStringBuilder" "maybeLatin1") ∈ lw_all := lw_g (lw_at lw_m2 201 rfl) rfl
theorem q562 : (Jvm.Cond.soleField "java/lang/AbstractStringBuilder" "count") ∈ lw_all := lw_g (lw_at lw_m2 203 rfl) rfl
theorem q569 : (Jvm.Cond.instanceMethod ({ cls := "java/lang/AbstractStringBuilder", name := "append", desc := "(C)Ljava/lang/AbstractStringBuilder;" } : Jvm.MethodName)) ∈ lw_all := lw_g (lw_at lw_m2 210 rfl) rfl
theorem q570 : (Jvm.Cond.code ({ cls := "java/lang/AbstractStringBuilder", name := "append", desc := "(C)Ljava/lang/AbstractStringBuilder;" } : Jvm.MethodName) prog_28_method_31_code (2 : Nat) (Option.some (Jvm.ClassFile.FieldType.object "java/lang/AbstractStringBuilder"))) ∈ lw_all := lw_g (lw_at lw_m2 211 rfl) rfl
theorem q571 : (Jvm.Cond.methodLink "java/lang/AbstractStringBuilder" (100 : Nat) ({ cls := "java/lang/AbstractStringBuilder", name := "ensureCapacityInternal", desc := "(I)V" } : Jvm.MethodName)) ∈ lw_all := lw_g (lw_at lw_m2 212 rfl) rfl
theorem q572 : (Jvm.Cond.privateMethod ({ cls := "java/lang/AbstractStringBuilder", name := "ensureCapacityInternal", desc := "(I)V" } : Jvm.MethodName)) ∈ lw_tbl := lw_at lw_m2 213 rfl
theorem q573 : (Jvm.Cond.instanceMethod ({ cls := "java/lang/AbstractStringBuilder", name := "ensureCapacityInternal", desc := "(I)V" } : Jvm.MethodName)) ∈ lw_all := lw_g (lw_at lw_m2 214 rfl) rfl
theorem q574 : (Jvm.Cond.code ({ cls := "java/lang/AbstractStringBuilder", name := "ensureCapacityInternal", desc := "(I)V" } : Jvm.MethodName) prog_28_method_9_code (3 : Nat) (Option.none : Option Jvm.ClassFile.FieldType)) ∈ lw_all := lw_g (lw_at lw_m2 215 rfl) rfl
theorem q575 : (Jvm.Cond.methodLink "java/lang/AbstractStringBuilder" (104 : Nat) ({ cls := "java/lang/AbstractStringBuilder", name := "newCapacity", desc := "(I)I" } : Jvm.MethodName)) ∈ lw_all := lw_g (lw_at lw_m2 216 rfl) rfl
theorem q576 : (Jvm.Cond.privateMethod ({ cls := "java/lang/AbstractStringBuilder", name := "newCapacity", desc := "(I)I" } : Jvm.MethodName)) ∈ lw_tbl := lw_at lw_m2 217 rfl
theorem q577 : (Jvm.Cond.instanceMethod ({ cls := "java/lang/AbstractStringBuilder", name := "newCapacity", desc := "(I)I" } : Jvm.MethodName)) ∈ lw_all := lw_g (lw_at lw_m2 218 rfl) rfl
theorem q578 : (Jvm.Cond.code ({ cls := "java/lang/AbstractStringBuilder", name := "newCapacity", desc := "(I)I" } : Jvm.MethodName) prog_28_method_10_code (6 : Nat) (Option.some Jvm.ClassFile.FieldType.int)) ∈ lw_all := lw_g (lw_at lw_m2 219 rfl) rfl
theorem q579 : (Jvm.Cond.methodLink "java/lang/AbstractStringBuilder" (114 : Nat) ({ cls := "jdk/internal/util/ArraysSupport", name := "newLength", desc := "(III)I" } : Jvm.MethodName)) ∈ lw_all := lw_g (lw_at lw_m2 220 rfl) rfl
theorem q589 : (Jvm.Cond.constant "java/lang/AbstractStringBuilder" (39 : Nat) (2147483647 : Int32)) ∈ lw_all := lw_g (lw_at lw_m2 230 rfl) rfl
theorem q590 : (Jvm.Cond.methodLink "java/lang/AbstractStringBuilder" (108 : Nat) ({ cls := "java/util/Arrays", name := "copyOf", desc := "([BI)[B" } : Jvm.MethodName)) ∈ lw_all := lw_g (lw_at lw_m2 231 rfl) rfl
theorem q604 : (Jvm.Cond.methodLink "java/lang/AbstractStringBuilder" (83 : Nat) ({ cls := "java/lang/AbstractStringBuilder", name := "isLatin1", desc := "()Z" } : Jvm.MethodName)) ∈ lw_all := lw_g (lw_at lw_m3 5 rfl) rfl
theorem q605 : (Jvm.Cond.instanceMethod ({ cls := "java/lang/AbstractStringBuilder", name := "isLatin1", desc := "()Z" } : Jvm.MethodName)) ∈ lw_all := lw_g (lw_at lw_m3 6 rfl) rfl
theorem q606 : (Jvm.Cond.sameMethod "java/lang/AbstractStringBuilder" "java/lang/AbstractStringBuilder" "isLatin1" "()Z") ∈ lw_all := lw_g (lw_at lw_m3 7 rfl) rfl
theorem q608 : (Jvm.Cond.code ({ cls := "java/lang/AbstractStringBuilder", name := "isLatin1", desc := "()Z" } : Jvm.MethodName) prog_28_method_68_code (1 : Nat) (Option.some Jvm.ClassFile.FieldType.boolean)) ∈ lw_all := lw_g (lw_at lw_m3 9 rfl) rfl
theorem q609 : (Jvm.Cond.methodLink "java/lang/AbstractStringBuilder" (191 : Nat) ({ cls := "java/lang/StringLatin1", name := "canEncode", desc := "(C)Z" } : Jvm.MethodName)) ∈ lw_all := lw_g (lw_at lw_m3 10 rfl) rfl
theorem q612 : (Jvm.Cond.methodLink "java/lang/AbstractStringBuilder" (195 : Nat) ({ cls := "java/lang/AbstractStringBuilder", name := "inflate", desc := "()V" } : Jvm.MethodName)) ∈ lw_all := lw_g (lw_at lw_m3 13 rfl) rfl
theorem q613 : (Jvm.Cond.privateMethod ({ cls := "java/lang/AbstractStringBuilder", name := "inflate", desc := "()V" } : Jvm.MethodName)) ∈ lw_tbl := lw_at lw_m3 14 rfl
theorem q614 : (Jvm.Cond.instanceMethod ({ cls := "java/lang/AbstractStringBuilder", name := "inflate", desc := "()V" } : Jvm.MethodName)) ∈ lw_all := lw_g (lw_at lw_m3 15 rfl) rfl
theorem q615 : (Jvm.Cond.code ({ cls := "java/lang/AbstractStringBuilder", name := "inflate", desc := "()V" } : Jvm.MethodName) prog_28_method_11_code (2 : Nat) (Option.none : Option Jvm.ClassFile.FieldType)) ∈ lw_all := lw_g (lw_at lw_m3 16 rfl) rfl
theorem q616 : (Jvm.Cond.methodLink "java/lang/AbstractStringBuilder" (125 : Nat) ({ cls := "java/lang/StringLatin1", name := "inflate", desc := "([BI[BII)V" } : Jvm.MethodName)) ∈ lw_all := lw_g (lw_at lw_m3 17 rfl) rfl
theorem q645 : (Jvm.Cond.methodLink "java/lang/AbstractStringBuilder" (197 : Nat) ({ cls := "java/lang/StringUTF16", name := "putCharSB", desc := "([BII)V" } : Jvm.MethodName)) ∈ lw_all := lw_g (lw_at lw_m3 46 rfl) rfl
theorem q669 : (Jvm.Cond.instanceMethod ({ cls := "java/lang/AbstractStringBuilder", name := "getValue", desc := "()[B" } : Jvm.MethodName)) ∈ lw_all := lw_g (lw_at lw_m3 70 rfl) rfl
theorem q670 : (Jvm.Cond.sameMethod "java/lang/AbstractStringBuilder" "java/lang/AbstractStringBuilder" "getValue" "()[B") ∈ lw_all := lw_g (lw_at lw_m3 71 rfl) rfl
theorem q672 : (Jvm.Cond.code ({ cls := "java/lang/AbstractStringBuilder", name := "getValue", desc := "()[B" } : Jvm.MethodName) prog_28_method_64_code (1 : Nat) (Option.some (Jvm.ClassFile.FieldType.array Jvm.ClassFile.FieldType.byte))) ∈ lw_all := lw_g (lw_at lw_m3 73 rfl) rfl
theorem q674 : (Jvm.Cond.instanceMethod ({ cls := "java/lang/AbstractStringBuilder", name := "length", desc := "()I" } : Jvm.MethodName)) ∈ lw_all := lw_g (lw_at lw_m3 75 rfl) rfl
theorem q675 : (Jvm.Cond.sameMethod "java/lang/AbstractStringBuilder" "java/lang/AbstractStringBuilder" "length" "()I") ∈ lw_all := lw_g (lw_at lw_m3 76 rfl) rfl
theorem q680 : (Jvm.Cond.code ({ cls := "java/lang/AbstractStringBuilder", name := "length", desc := "()I" } : Jvm.MethodName) prog_28_method_6_code (1 : Nat) (Option.some Jvm.ClassFile.FieldType.int)) ∈ lw_all := lw_g (lw_at lw_m3 81 rfl) rfl
theorem q835 : (Jvm.Cond.instanceMethod ({ cls := "java/lang/AbstractStringBuilder", name := "append", desc := "(Ljava/lang/String;)Ljava/lang/AbstractStringBuilder;" } : Jvm.MethodName)) ∈ lw_all := lw_g (lw_at lw_m3 236 rfl) rfl
theorem q836 : (Jvm.Cond.code ({ cls := "java/lang/AbstractStringBuilder", name := "append", desc := "(Ljava/lang/String;)Ljava/lang/AbstractStringBuilder;" } : Jvm.MethodName) prog_28_method_22_code (3 : Nat) (Option.some (Jvm.ClassFile.FieldType.object "java/lang/AbstractStringBuilder"))) ∈ lw_all := lw_g (lw_at lw_m3 237 rfl) rfl
theorem q837 : (Jvm.Cond.methodLink "java/lang/AbstractStringBuilder" (204 : Nat) ({ cls := "java/lang/AbstractStringBuilder", name := "appendNull", desc := "()Ljava/lang/AbstractStringBuilder;" } : Jvm.MethodName)) ∈ lw_all := lw_g (lw_at lw_m3 238 rfl) rfl
theorem q838 : (Jvm.Cond.privateMethod ({ cls := "java/lang/AbstractStringBuilder", name := "appendNull", desc := "()Ljava/lang/AbstractStringBuilder;" } : Jvm.MethodName)) ∈ lw_tbl := lw_at lw_m3 239 rfl
theorem q839 : (Jvm.Cond.instanceMethod ({ cls := "java/lang/AbstractStringBuilder", name := "appendNull", desc := "()Ljava/lang/AbstractStringBuilder;" } : Jvm.MethodName)) ∈ lw_all := lw_g (lw_at lw_m4 0 rfl) rfl
theorem q840 : (Jvm.Cond.code ({ cls := "java/lang/AbstractStringBuilder", name := "appendNull", desc := "()Ljava/lang/AbstractStringBuilder;" } : Jvm.MethodName) prog_28_method_26_code (3 : Nat) (Option.some (Jvm.ClassFile.FieldType.object "java/lang/AbstractStringBuilder"))) ∈ lw_all := lw_g (lw_at lw_m4 1 rfl) rfl
theorem q841 : (Jvm.Cond.methodLink "java/lang/AbstractStringBuilder" (226 : Nat) ({ cls := "java/lang/StringUTF16", name := "putCharsAt", desc := "([BICCCC)I" } : Jvm.MethodName)) ∈ lw_all := lw_g (lw_at lw_m4 2 rfl) rfl
theorem q853 : (Jvm.Cond.methodLink "java/lang/AbstractStringBuilder" (32 : Nat) ({ cls := "java/lang/String", name := "length", desc := "()I" } : Jvm.MethodName)) ∈ lw_all := lw_g (lw_at lw_m4 14 rfl) rfl
theorem q861 : (Jvm.Cond.methodLink "java/lang/AbstractStringBuilder" (208 : Nat) ({ cls := "java/lang/AbstractStringBuilder", name := "putStringAt", desc := "(ILjava/lang/String;)V" } : Jvm.MethodName)) ∈ lw_all := lw_g (lw_at lw_m4 22 rfl) rfl
theorem q862 : (Jvm.Cond.privateMethod ({ cls := "java/lang/AbstractStringBuilder", name := "putStringAt", desc := "(ILjava/lang/String;)V" } : Jvm.MethodName)) ∈ lw_tbl := lw_at lw_m4 23 rfl
theorem q863 : (Jvm.Cond.instanceMethod ({ cls := "java/lang/AbstractStringBuilder", name := "putStringAt", desc := "(ILjava/lang/String;)V" } : Jvm.MethodName)) ∈ lw_all := lw_g (lw_at lw_m4 24 rfl) rfl
theorem q864 : (Jvm.Cond.code ({ cls := "java/lang/AbstractStringBuilder", name := "putStringAt", desc := "(ILjava/lang/String;)V" } : Jvm.MethodName) prog_28_method_73_code (3 : Nat) (Option.none : Option Jvm.ClassFile.FieldType)) ∈ lw_all := lw_g (lw_at lw_m4 25 rfl) rfl
theorem q865 : (Jvm.Cond.methodLink "java/lang/AbstractStringBuilder" (397 : Nat) ({ cls := "java/lang/AbstractStringBuilder", name := "inflateIfNeededFor", desc := "(Ljava/lang/String;)V" } : Jvm.MethodName)) ∈ lw_all := lw_g (lw_at lw_m4 26 rfl) rfl
theorem q866 : (Jvm.Cond.privateMethod ({ cls := "java/lang/AbstractStringBuilder", name := "inflateIfNeededFor", desc := "(Ljava/lang/String;)V" } : Jvm.MethodName)) ∈ lw_tbl := lw_at lw_m4 27 rfl
theorem q867 : (Jvm.Cond.instanceMethod ({ cls := "java/lang/AbstractStringBuilder", name := "inflateIfNeededFor", desc := "(Ljava/lang/String;)V" } : Jvm.MethodName)) ∈ lw_all := lw_g (lw_at lw_m4 28 rfl) rfl
theorem q868 : (Jvm.Cond.code ({ cls := "java/lang/AbstractStringBuilder", name := "inflateIfNeededFor", desc := "(Ljava/lang/String;)V" } : Jvm.MethodName) prog_28_method_71_code (2 : Nat) (Option.none : Option Jvm.ClassFile.FieldType)) ∈ lw_all := lw_g (lw_at lw_m4 29 rfl) rfl
theorem q869 : (Jvm.Cond.methodLink "java/lang/AbstractStringBuilder" (40 : Nat) ({ cls := "java/lang/String", name := "coder", desc := "()B" } : Jvm.MethodName)) ∈ lw_all := lw_g (lw_at lw_m4 30 rfl) rfl
theorem q870 : (Jvm.Cond.methodLink "java/lang/AbstractStringBuilder" (399 : Nat) ({ cls := "java/lang/String", name := "getBytes", desc := "([BIB)V" } : Jvm.MethodName)) ∈ lw_all := lw_g (lw_at lw_m4 31 rfl) rfl
theorem q1475 : (Jvm.Cond.instanceMethod ({ cls := "java/lang/AbstractStringBuilder", name := "<init>", desc := "(Ljava/lang/String;)V" } : Jvm.MethodName)) ∈ lw_all := lw_g (lw_at lw_m6 156 rfl) rfl
theorem q1476 : (Jvm.Cond.code ({ cls := "java/lang/AbstractStringBuilder", name := "<init>", desc := "(Ljava/lang/String;)V" } : Jvm.MethodName) prog_28_method_3_code (5 : Nat) (Option.none : Option Jvm.ClassFile.FieldType)) ∈ lw_all := lw_g (lw_at lw_m6 157 rfl) rfl
theorem q1477 : (Jvm.Cond.constant "java/lang/AbstractStringBuilder" (38 : Nat) (2147483631 : Int32)) ∈ lw_all := lw_g (lw_at lw_m6 158 rfl) rfl
theorem q1478 : (Jvm.Cond.methodLink "java/lang/AbstractStringBuilder" (43 : Nat) ({ cls := "java/lang/AbstractStringBuilder", name := "append", desc := "(Ljava/lang/String;)Ljava/lang/AbstractStringBuilder;" } : Jvm.MethodName)) ∈ lw_all := lw_g (lw_at lw_m6 159 rfl) rfl
theorem q2526 : (Jvm.Cond.sameMethod "java/lang/AbstractStringBuilder" "java/lang/AbstractStringBuilder" "append" "(C)Ljava/lang/AbstractStringBuilder;") ∈ lw_all := lw_g (lw_at lw_m11 7 rfl) rfl
theorem q2527 : (Jvm.Cond.sameMethod "java/lang/AbstractStringBuilder" "java/lang/AbstractStringBuilder" "ensureCapacityInternal" "(I)V") ∈ lw_all := lw_g (lw_at lw_m11 8 rfl) rfl
theorem q2528 : (Jvm.Cond.sameMethod "java/lang/AbstractStringBuilder" "java/lang/AbstractStringBuilder" "newCapacity" "(I)I") ∈ lw_all := lw_g (lw_at lw_m11 9 rfl) rfl
theorem q2529 : (Jvm.Cond.sameMethod "java/lang/AbstractStringBuilder" "java/lang/AbstractStringBuilder" "inflate" "()V") ∈ lw_all := lw_g (lw_at lw_m11 10 rfl) rfl
theorem q2531 : (Jvm.Cond.sameMethod "java/lang/AbstractStringBuilder" "java/lang/AbstractStringBuilder" "append" "(Ljava/lang/String;)Ljava/lang/AbstractStringBuilder;") ∈ lw_all := lw_g (lw_at lw_m11 12 rfl) rfl
theorem q2532 : (Jvm.Cond.sameMethod "java/lang/AbstractStringBuilder" "java/lang/AbstractStringBuilder" "appendNull" "()Ljava/lang/AbstractStringBuilder;") ∈ lw_all := lw_g (lw_at lw_m11 13 rfl) rfl
theorem q2533 : (Jvm.Cond.sameMethod "java/lang/AbstractStringBuilder" "java/lang/AbstractStringBuilder" "putStringAt" "(ILjava/lang/String;)V") ∈ lw_all := lw_g (lw_at lw_m11 14 rfl) rfl
theorem q2534 : (Jvm.Cond.sameMethod "java/lang/AbstractStringBuilder" "java/lang/AbstractStringBuilder" "inflateIfNeededFor" "(Ljava/lang/String;)V") ∈ lw_all := lw_g (lw_at lw_m11 15 rfl) rfl

theorem q135 : (Jvm.Cond.initialized "java/lang/StringBuilder") ∈ lw_all := lw_g (lw_at lw_m1 16 rfl) rfl
theorem q534 : (Jvm.Cond.instantiable "java/lang/StringBuilder" (4 : Nat)) ∈ lw_all := lw_g (lw_at lw_m2 175 rfl) rfl
theorem q536 : (Jvm.Cond.instanceMethod ({ cls := "java/lang/StringBuilder", name := "<init>", desc := "()V" } : Jvm.MethodName)) ∈ lw_all := lw_g (lw_at lw_m2 177 rfl) rfl
theorem q537 : (Jvm.Cond.code ({ cls := "java/lang/StringBuilder", name := "<init>", desc := "()V" } : Jvm.MethodName) prog_39_method_1_code (1 : Nat) (Option.none : Option Jvm.ClassFile.FieldType)) ∈ lw_all := lw_g (lw_at lw_m2 178 rfl) rfl
theorem q538 : (Jvm.Cond.methodLink "java/lang/StringBuilder" (1 : Nat) ({ cls := "java/lang/AbstractStringBuilder", name := "<init>", desc := "(I)V" } : Jvm.MethodName)) ∈ lw_all := lw_g (lw_at lw_m2 179 rfl) rfl
theorem q555 : (Jvm.Cond.lays "java/lang/StringBuilder" "java/lang/AbstractStringBuilder" "value" "[B") ∈ lw_all := lw_g (lw_at lw_m2 196 rfl) rfl
theorem q557 : (Jvm.Cond.lays "java/lang/StringBuilder" "java/lang/AbstractStringBuilder" "coder" "B") ∈ lw_all := lw_g (lw_at lw_m2 198 rfl) rfl
theorem q559 : (Jvm.Cond.lays "java/lang/StringBuilder" "java/lang/AbstractStringBuilder" "maybeLatin1" "Z") ∈ lw_all := lw_g (lw_at lw_m2 200 rfl) rfl
theorem q561 : (Jvm.Cond.lays "java/lang/StringBuilder" "java/lang/AbstractStringBuilder" "count" "I") ∈ lw_all := lw_g (lw_at lw_m2 202 rfl) rfl
theorem q563 : (Jvm.Cond.superclass "java/lang/StringBuilder" "java/lang/AbstractStringBuilder") ∈ lw_all := lw_g (lw_at lw_m2 204 rfl) rfl
theorem q565 : (Jvm.Cond.instanceMethod ({ cls := "java/lang/StringBuilder", name := "append", desc := "(C)Ljava/lang/StringBuilder;" } : Jvm.MethodName)) ∈ lw_all := lw_g (lw_at lw_m2 206 rfl) rfl
theorem q566 : (Jvm.Cond.selects "java/lang/StringBuilder" ({ cls := "java/lang/StringBuilder", name := "append", desc := "(C)Ljava/lang/StringBuilder;" } : Jvm.MethodName) ({ cls := "java/lang/StringBuilder", name := "append", desc := "(C)Ljava/lang/StringBuilder;" } : Jvm.MethodName)) ∈ lw_all := lw_g (lw_at lw_m2 207 rfl) rfl
theorem q567 : (Jvm.Cond.code ({ cls := "java/lang/StringBuilder", name := "append", desc := "(C)Ljava/lang/StringBuilder;" } : Jvm.MethodName) prog_39_method_14_code (2 : Nat) (Option.some (Jvm.ClassFile.FieldType.object "java/lang/StringBuilder"))) ∈ lw_all := lw_g (lw_at lw_m2 208 rfl) rfl
theorem q568 : (Jvm.Cond.methodLink "java/lang/StringBuilder" (50 : Nat) ({ cls := "java/lang/AbstractStringBuilder", name := "append", desc := "(C)Ljava/lang/AbstractStringBuilder;" } : Jvm.MethodName)) ∈ lw_all := lw_g (lw_at lw_m2 209 rfl) rfl
theorem q607 : (Jvm.Cond.selects "java/lang/StringBuilder" ({ cls := "java/lang/AbstractStringBuilder", name := "isLatin1", desc := "()Z" } : Jvm.MethodName) ({ cls := "java/lang/AbstractStringBuilder", name := "isLatin1", desc := "()Z" } : Jvm.MethodName)) ∈ lw_all := lw_g (lw_at lw_m3 8 rfl) rfl
theorem q656 : (Jvm.Cond.instanceMethod ({ cls := "java/lang/StringBuilder", name := "toString", desc := "()Ljava/lang/String;" } : Jvm.MethodName)) ∈ lw_all := lw_g (lw_at lw_m3 57 rfl) rfl
theorem q657 : (Jvm.Cond.selects "java/lang/StringBuilder" ({ cls := "java/lang/StringBuilder", name := "toString", desc := "()Ljava/lang/String;" } : Jvm.MethodName) ({ cls := "java/lang/StringBuilder", name := "toString", desc := "()Ljava/lang/String;" } : Jvm.MethodName)) ∈ lw_all := lw_g (lw_at lw_m3 58 rfl) rfl
theorem q658 : (Jvm.Cond.code ({ cls := "java/lang/StringBuilder", name := "toString", desc := "()Ljava/lang/String;" } : Jvm.MethodName) prog_39_method_42_code (1 : Nat) (Option.some (Jvm.ClassFile.FieldType.object "java/lang/String"))) ∈ lw_all := lw_g (lw_at lw_m3 59 rfl) rfl
theorem q659 : (Jvm.Cond.classLink "java/lang/StringBuilder" (18 : Nat) "java/lang/String") ∈ lw_all := lw_g (lw_at lw_m3 60 rfl) rfl
theorem q661 : (Jvm.Cond.methodLink "java/lang/StringBuilder" (137 : Nat) ({ cls := "java/lang/String", name := "<init>", desc := "(Ljava/lang/StringBuilder;)V" } : Jvm.MethodName)) ∈ lw_all := lw_g (lw_at lw_m3 62 rfl) rfl
theorem q671 : (Jvm.Cond.selects "java/lang/StringBuilder" ({ cls := "java/lang/AbstractStringBuilder", name := "getValue", desc := "()[B" } : Jvm.MethodName) ({ cls := "java/lang/AbstractStringBuilder", name := "getValue", desc := "()[B" } : Jvm.MethodName)) ∈ lw_all := lw_g (lw_at lw_m3 72 rfl) rfl
theorem q676 : (Jvm.Cond.selects "java/lang/StringBuilder" ({ cls := "java/lang/AbstractStringBuilder", name := "length", desc := "()I" } : Jvm.MethodName) ({ cls := "java/lang/StringBuilder", name := "length", desc := "()I" } : Jvm.MethodName)) ∈ lw_all := lw_g (lw_at lw_m3 77 rfl) rfl
theorem q677 : (Jvm.Cond.instanceMethod ({ cls := "java/lang/StringBuilder", name := "length", desc := "()I" } : Jvm.MethodName)) ∈ lw_all := lw_g (lw_at lw_m3 78 rfl) rfl
theorem q678 : (Jvm.Cond.code ({ cls := "java/lang/StringBuilder", name := "length", desc := "()I" } : Jvm.MethodName) prog_39_method_93_code (1 : Nat) (Option.some Jvm.ClassFile.FieldType.int)) ∈ lw_all := lw_g (lw_at lw_m3 79 rfl) rfl
theorem q679 : (Jvm.Cond.methodLink "java/lang/StringBuilder" (343 : Nat) ({ cls := "java/lang/AbstractStringBuilder", name := "length", desc := "()I" } : Jvm.MethodName)) ∈ lw_all := lw_g (lw_at lw_m3 80 rfl) rfl
theorem q831 : (Jvm.Cond.instanceMethod ({ cls := "java/lang/StringBuilder", name := "append", desc := "(Ljava/lang/String;)Ljava/lang/StringBuilder;" } : Jvm.MethodName)) ∈ lw_all := lw_g (lw_at lw_m3 232 rfl) rfl
theorem q832 : (Jvm.Cond.selects "java/lang/StringBuilder" ({ cls := "java/lang/StringBuilder", name := "append", desc := "(Ljava/lang/String;)Ljava/lang/StringBuilder;" } : Jvm.MethodName) ({ cls := "java/lang/StringBuilder", name := "append", desc := "(Ljava/lang/String;)Ljava/lang/StringBuilder;" } : Jvm.MethodName)) ∈ lw_all := lw_g (lw_at lw_m3 233 rfl) rfl
theorem q833 : (Jvm.Cond.code ({ cls := "java/lang/StringBuilder", name := "append", desc := "(Ljava/lang/String;)Ljava/lang/StringBuilder;" } : Jvm.MethodName) prog_39_method_7_code (2 : Nat) (Option.some (Jvm.ClassFile.FieldType.object "java/lang/StringBuilder"))) ∈ lw_all := lw_g (lw_at lw_m3 234 rfl) rfl
theorem q834 : (Jvm.Cond.methodLink "java/lang/StringBuilder" (29 : Nat) ({ cls := "java/lang/AbstractStringBuilder", name := "append", desc := "(Ljava/lang/String;)Ljava/lang/AbstractStringBuilder;" } : Jvm.MethodName)) ∈ lw_all := lw_g (lw_at lw_m3 235 rfl) rfl
theorem q1014 : (Jvm.Cond.selects "java/lang/StringBuilder" ({ cls := "java/lang/Object", name := "getClass", desc := "()Ljava/lang/Class;" } : Jvm.MethodName) ({ cls := "java/lang/Object", name := "getClass", desc := "()Ljava/lang/Class;" } : Jvm.MethodName)) ∈ lw_all := lw_g (lw_at lw_m4 175 rfl) rfl
theorem q1472 : (Jvm.Cond.instanceMethod ({ cls := "java/lang/StringBuilder", name := "<init>", desc := "(Ljava/lang/String;)V" } : Jvm.MethodName)) ∈ lw_all := lw_g (lw_at lw_m6 153 rfl) rfl
theorem q1473 : (Jvm.Cond.code ({ cls := "java/lang/StringBuilder", name := "<init>", desc := "(Ljava/lang/String;)V" } : Jvm.MethodName) prog_39_method_3_code (2 : Nat) (Option.none : Option Jvm.ClassFile.FieldType)) ∈ lw_all := lw_g (lw_at lw_m6 154 rfl) rfl
theorem q1474 : (Jvm.Cond.methodLink "java/lang/StringBuilder" (7 : Nat) ({ cls := "java/lang/AbstractStringBuilder", name := "<init>", desc := "(Ljava/lang/String;)V" } : Jvm.MethodName)) ∈ lw_all := lw_g (lw_at lw_m6 155 rfl) rfl
theorem q1479 : (Jvm.Cond.instanceMethod ({ cls := "java/lang/StringBuilder", name := "append", desc := "(Ljava/lang/String;)Ljava/lang/AbstractStringBuilder;" } : Jvm.MethodName)) ∈ lw_all := lw_g (lw_at lw_m6 160 rfl) rfl
theorem q1480 : (Jvm.Cond.code ({ cls := "java/lang/StringBuilder", name := "append", desc := "(Ljava/lang/String;)Ljava/lang/AbstractStringBuilder;" } : Jvm.MethodName) prog_39_method_80_code (2 : Nat) (Option.some (Jvm.ClassFile.FieldType.object "java/lang/AbstractStringBuilder"))) ∈ lw_all := lw_g (lw_at lw_m6 161 rfl) rfl
theorem q1481 : (Jvm.Cond.methodLink "java/lang/StringBuilder" (23 : Nat) ({ cls := "java/lang/StringBuilder", name := "append", desc := "(Ljava/lang/String;)Ljava/lang/StringBuilder;" } : Jvm.MethodName)) ∈ lw_all := lw_g (lw_at lw_m6 162 rfl) rfl
theorem q2551 : (Jvm.Cond.selects "java/lang/StringBuilder" ({ cls := "java/lang/AbstractStringBuilder", name := "append", desc := "(Ljava/lang/String;)Ljava/lang/AbstractStringBuilder;" } : Jvm.MethodName) ({ cls := "java/lang/StringBuilder", name := "append", desc := "(Ljava/lang/String;)Ljava/lang/AbstractStringBuilder;" } : Jvm.MethodName)) ∈ lw_all := lw_g (lw_at lw_m11 32 rfl) rfl
theorem q2566 : (Jvm.Cond.castable "java/lang/StringBuilder" "java/lang/Object") ∈ lw_tbl := lw_at lw_m11 47 rfl
theorem q136 : (Jvm.Cond.initialized "java/lang/String") ∈ lw_all := lw_g (lw_at lw_m1 17 rfl) rfl
theorem q543 : (Jvm.Cond.laysStatic "java/lang/String" "COMPACT_STRINGS" "Z") ∈ lw_tbl := lw_at lw_m2 184 rfl
theorem q553 : (Jvm.Cond.fieldLink "java/lang/String" (1048 : Nat) "java/lang/AbstractStringBuilder" "maybeLatin1" "Z") ∈ lw_all := lw_g (lw_at lw_m2 194 rfl) rfl
theorem q629 : (Jvm.Cond.static ({ cls := "java/lang/String", name := "checkBoundsOffCount", desc := "(III)I" } : Jvm.MethodName)) ∈ lw_all := lw_g (lw_at lw_m3 30 rfl) rfl
theorem q630 : (Jvm.Cond.code ({ cls := "java/lang/String", name := "checkBoundsOffCount", desc := "(III)I" } : Jvm.MethodName) prog_38_method_157_code (3 : Nat) (Option.some Jvm.ClassFile.FieldType.int)) ∈ lw_all := lw_g (lw_at lw_m3 31 rfl) rfl
theorem q631 : (Jvm.Cond.fieldLink "java/lang/String" (1053 : Nat) "jdk/internal/util/Preconditions" "SIOOBE_FORMATTER" "Ljava/util/function/BiFunction;") ∈ lw_all := lw_g (lw_at lw_m3 32 rfl) rfl
theorem q633 : (Jvm.Cond.methodLink "java/lang/String" (1065 : Nat) ({ cls := "jdk/internal/util/Preconditions", name := "checkFromIndexSize", desc := "(IIILjava/util/function/BiFunction;)I" } : Jvm.MethodName)) ∈ lw_all := lw_g (lw_at lw_m3 34 rfl) rfl
theorem q652 : (Jvm.Cond.static ({ cls := "java/lang/String", name := "checkIndex", desc := "(II)V" } : Jvm.MethodName)) ∈ lw_all := lw_g (lw_at lw_m3 53 rfl) rfl
theorem q653 : (Jvm.Cond.code ({ cls := "java/lang/String", name := "checkIndex", desc := "(II)V" } : Jvm.MethodName) prog_38_method_155_code (2 : Nat) (Option.none : Option Jvm.ClassFile.FieldType)) ∈ lw_all := lw_g (lw_at lw_m3 54 rfl) rfl
theorem q654 : (Jvm.Cond.methodLink "java/lang/String" (1059 : Nat) ({ cls := "jdk/internal/util/Preconditions", name := "checkIndex", desc := "(IILjava/util/function/BiFunction;)I" } : Jvm.MethodName)) ∈ lw_all := lw_g (lw_at lw_m3 55 rfl) rfl
theorem q660 : (Jvm.Cond.instantiable "java/lang/String" (4 : Nat)) ∈ lw_all := lw_g (lw_at lw_m3 61 rfl) rfl
theorem q662 : (Jvm.Cond.instanceMethod ({ cls := "java/lang/String", name := "<init>", desc := "(Ljava/lang/StringBuilder;)V" } : Jvm.MethodName)) ∈ lw_all := lw_g (lw_at lw_m3 63 rfl) rfl
theorem q663 : (Jvm.Cond.code ({ cls := "java/lang/String", name := "<init>", desc := "(Ljava/lang/StringBuilder;)V" } : Jvm.MethodName) prog_38_method_53_code (2 : Nat) (Option.none : Option Jvm.ClassFile.FieldType)) ∈ lw_all := lw_g (lw_at lw_m3 64 rfl) rfl
theorem q664 : (Jvm.Cond.methodLink "java/lang/String" (489 : Nat) ({ cls := "java/lang/String", name := "<init>", desc := "(Ljava/lang/AbstractStringBuilder;Ljava/lang/Void;)V" } : Jvm.MethodName)) ∈ lw_all := lw_g (lw_at lw_m3 65 rfl) rfl
theorem q665 : (Jvm.Cond.instanceMethod ({ cls := "java/lang/String", name := "<init>", desc := "(Ljava/lang/AbstractStringBuilder;Ljava/lang/Void;)V" } : Jvm.MethodName)) ∈ lw_all := lw_g (lw_at lw_m3 66 rfl) rfl
theorem q666 : (Jvm.Cond.code ({ cls := "java/lang/String", name := "<init>", desc := "(Ljava/lang/AbstractStringBuilder;Ljava/lang/Void;)V" } : Jvm.MethodName) prog_38_method_150_code (5 : Nat) (Option.none : Option Jvm.ClassFile.FieldType)) ∈ lw_all := lw_g (lw_at lw_m3 67 rfl) rfl
theorem q667 : (Jvm.Cond.methodLink "java/lang/String" (1 : Nat) ({ cls := "java/lang/Object", name := "<init>", desc := "()V" } : Jvm.MethodName)) ∈ lw_all := lw_g (lw_at lw_m3 68 rfl) rfl
theorem q668 : (Jvm.Cond.methodLink "java/lang/String" (552 : Nat) ({ cls := "java/lang/AbstractStringBuilder", name := "getValue", desc := "()[B" } : Jvm.MethodName)) ∈ lw_all := lw_g (lw_at lw_m3 69 rfl) rfl
theorem q673 : (Jvm.Cond.methodLink "java/lang/String" (549 : Nat) ({ cls := "java/lang/AbstractStringBuilder", name := "length", desc := "()I" } : Jvm.MethodName)) ∈ lw_all := lw_g (lw_at lw_m3 74 rfl) rfl
theorem q681 : (Jvm.Cond.methodLink "java/lang/String" (1047 : Nat) ({ cls := "java/lang/AbstractStringBuilder", name := "isLatin1", desc := "()Z" } : Jvm.MethodName)) ∈ lw_all := lw_g (lw_at lw_m3 82 rfl) rfl
theorem q682 : (Jvm.Cond.methodLink "java/lang/String" (54 : Nat) ({ cls := "java/util/Arrays", name := "copyOfRange", desc := "([BII)[B" } : Jvm.MethodName)) ∈ lw_all := lw_g (lw_at lw_m3 83 rfl) rfl
theorem q691 : (Jvm.Cond.fieldLink "java/lang/String" (38 : Nat) "java/lang/String" "COMPACT_STRINGS" "Z") ∈ lw_all := lw_g (lw_at lw_m3 92 rfl) rfl
theorem q692 : (Jvm.Cond.methodLink "java/lang/String" (1051 : Nat) ({ cls := "java/lang/StringUTF16", name := "compress", desc := "([BII)[B" } : Jvm.MethodName)) ∈ lw_all := lw_g (lw_at lw_m3 93 rfl) rfl
theorem q702 : (Jvm.Cond.methodLink "java/lang/String" (47 : Nat) ({ cls := "java/lang/StringUTF16", name := "coderFromArrayLen", desc := "([BI)B" } : Jvm.MethodName)) ∈ lw_all := lw_g (lw_at lw_m3 103 rfl) rfl
theorem q705 : (Jvm.Cond.fieldLink "java/lang/String" (9 : Nat) "java/lang/String" "value" "[B") ∈ lw_all := lw_g (lw_at lw_m3 106 rfl) rfl
theorem q706 : (Jvm.Cond.fieldLink "java/lang/String" (15 : Nat) "java/lang/String" "coder" "B") ∈ lw_all := lw_g (lw_at lw_m3 107 rfl) rfl
theorem q707 : (Jvm.Cond.laysFinal "java/lang/String" "java/lang/String" "value" "[B") ∈ lw_all := lw_g (lw_at lw_m3 108 rfl) rfl
theorem q708 : (Jvm.Cond.soleField "java/lang/String" "value") ∈ lw_all := lw_g (lw_at lw_m3 109 rfl) rfl
theorem q709 : (Jvm.Cond.laysFinal "java/lang/String" "java/lang/String" "coder" "B") ∈ lw_all := lw_g (lw_at lw_m3 110 rfl) rfl
theorem q710 : (Jvm.Cond.soleField "java/lang/String" "coder") ∈ lw_all := lw_g (lw_at lw_m3 111 rfl) rfl
theorem q711 : (Jvm.Cond.lays "java/lang/String" "java/lang/String" "hash" "I") ∈ lw_all := lw_g (lw_at lw_m3 112 rfl) rfl
theorem q712 : (Jvm.Cond.soleField "java/lang/String" "hash") ∈ lw_all := lw_g (lw_at lw_m3 113 rfl) rfl
theorem q713 : (Jvm.Cond.lays "java/lang/String" "java/lang/String" "hashIsZero" "Z") ∈ lw_all := lw_g (lw_at lw_m3 114 rfl) rfl
theorem q714 : (Jvm.Cond.soleField "java/lang/String" "hashIsZero") ∈ lw_all := lw_g (lw_at lw_m3 115 rfl) rfl
theorem q715 : (Jvm.Cond.superclass "java/lang/String" "java/lang/Object") ∈ lw_all := lw_g (lw_at lw_m3 116 rfl) rfl
theorem q728 : (Jvm.Cond.instanceMethod ({ cls := "java/lang/String", name := "equals", desc := "(Ljava/lang/Object;)Z" } : Jvm.MethodName)) ∈ lw_all := lw_g (lw_at lw_m3 129 rfl) rfl
theorem q729 : (Jvm.Cond.selects "java/lang/String" ({ cls := "java/lang/String", name := "equals", desc := "(Ljava/lang/Object;)Z" } : Jvm.MethodName) ({ cls := "java/lang/String", name := "equals", desc := "(Ljava/lang/Object;)Z" } : Jvm.MethodName)) ∈ lw_all := lw_g (lw_at lw_m3 130 rfl) rfl
theorem q730 : (Jvm.Cond.code ({ cls := "java/lang/String", name := "equals", desc := "(Ljava/lang/Object;)Z" } : Jvm.MethodName) prog_38_method_66_code (3 : Nat) (Option.some Jvm.ClassFile.FieldType.boolean)) ∈ lw_all := lw_g (lw_at lw_m3 131 rfl) rfl
theorem q731 : (Jvm.Cond.classLink "java/lang/String" (10 : Nat) "java/lang/String") ∈ lw_all := lw_g (lw_at lw_m3 132 rfl) rfl
theorem q732 : (Jvm.Cond.methodLink "java/lang/String" (541 : Nat) ({ cls := "java/lang/StringLatin1", name := "equals", desc := "([B[B)Z" } : Jvm.MethodName)) ∈ lw_all := lw_g (lw_at lw_m3 133 rfl) rfl
theorem q848 : (Jvm.Cond.static ({ cls := "java/lang/String", name := "checkBoundsBeginEnd", desc := "(III)V" } : Jvm.MethodName)) ∈ lw_all := lw_g (lw_at lw_m4 9 rfl) rfl
theorem q849 : (Jvm.Cond.code ({ cls := "java/lang/String", name := "checkBoundsBeginEnd", desc := "(III)V" } : Jvm.MethodName) prog_38_method_158_code (3 : Nat) (Option.none : Option Jvm.ClassFile.FieldType)) ∈ lw_all := lw_g (lw_at lw_m4 10 rfl) rfl
theorem q850 : (Jvm.Cond.methodLink "java/lang/String" (1062 : Nat) ({ cls := "jdk/internal/util/Preconditions", name := "checkFromToIndex", desc := "(IIILjava/util/function/BiFunction;)I" } : Jvm.MethodName)) ∈ lw_all := lw_g (lw_at lw_m4 11 rfl) rfl
theorem q854 : (Jvm.Cond.instanceMethod ({ cls := "java/lang/String", name := "length", desc := "()I" } : Jvm.MethodName)) ∈ lw_all := lw_g (lw_at lw_m4 15 rfl) rfl
theorem q855 : (Jvm.Cond.selects "java/lang/String" ({ cls := "java/lang/String", name := "length", desc := "()I" } : Jvm.MethodName) ({ cls := "java/lang/String", name := "length", desc := "()I" } : Jvm.MethodName)) ∈ lw_all := lw_g (lw_at lw_m4 16 rfl) rfl
theorem q856 : (Jvm.Cond.code ({ cls := "java/lang/String", name := "length", desc := "()I" } : Jvm.MethodName) prog_38_method_54_code (1 : Nat) (Option.some Jvm.ClassFile.FieldType.int)) ∈ lw_all := lw_g (lw_at lw_m4 17 rfl) rfl
theorem q857 : (Jvm.Cond.methodLink "java/lang/String" (335 : Nat) ({ cls := "java/lang/String", name := "coder", desc := "()B" } : Jvm.MethodName)) ∈ lw_all := lw_g (lw_at lw_m4 18 rfl) rfl
theorem q858 : (Jvm.Cond.instanceMethod ({ cls := "java/lang/String", name := "coder", desc := "()B" } : Jvm.MethodName)) ∈ lw_all := lw_g (lw_at lw_m4 19 rfl) rfl
theorem q859 : (Jvm.Cond.selects "java/lang/String" ({ cls := "java/lang/String", name := "coder", desc := "()B" } : Jvm.MethodName) ({ cls := "java/lang/String", name := "coder", desc := "()B" } : Jvm.MethodName)) ∈ lw_all := lw_g (lw_at lw_m4 20 rfl) rfl
theorem q860 : (Jvm.Cond.code ({ cls := "java/lang/String", name := "coder", desc := "()B" } : Jvm.MethodName) prog_38_method_152_code (1 : Nat) (Option.some Jvm.ClassFile.FieldType.byte)) ∈ lw_all := lw_g (lw_at lw_m4 21 rfl) rfl
theorem q871 : (Jvm.Cond.instanceMethod ({ cls := "java/lang/String", name := "getBytes", desc := "([BIB)V" } : Jvm.MethodName)) ∈ lw_all := lw_g (lw_at lw_m4 32 rfl) rfl
theorem q872 : (Jvm.Cond.selects "java/lang/String" ({ cls := "java/lang/String", name := "getBytes", desc := "([BIB)V" } : Jvm.MethodName) ({ cls := "java/lang/String", name := "getBytes", desc := "([BIB)V" } : Jvm.MethodName)) ∈ lw_all := lw_g (lw_at lw_m4 33 rfl) rfl
theorem q873 : (Jvm.Cond.code ({ cls := "java/lang/String", name := "getBytes", desc := "([BIB)V" } : Jvm.MethodName) prog_38_method_147_code (4 : Nat) (Option.none : Option Jvm.ClassFile.FieldType)) ∈ lw_all := lw_g (lw_at lw_m4 34 rfl) rfl
theorem q874 : (Jvm.Cond.methodLink "java/lang/String" (212 : Nat) ({ cls := "java/lang/System", name := "arraycopy", desc := "(Ljava/lang/Object;ILjava/lang/Object;II)V" } : Jvm.MethodName)) ∈ lw_all := lw_g (lw_at lw_m4 35 rfl) rfl
theorem q875 : (Jvm.Cond.methodLink "java/lang/String" (106 : Nat) ({ cls := "java/lang/StringLatin1", name := "inflate", desc := "([BI[BII)V" } : Jvm.MethodName)) ∈ lw_all := lw_g (lw_at lw_m4 36 rfl) rfl
theorem q877 : (Jvm.Cond.instanceMethod ({ cls := "java/lang/String", name := "indexOf", desc := "(Ljava/lang/String;)I" } : Jvm.MethodName)) ∈ lw_all := lw_g (lw_at lw_m4 38 rfl) rfl
theorem q878 : (Jvm.Cond.selects "java/lang/String" ({ cls := "java/lang/String", name := "indexOf", desc := "(Ljava/lang/String;)I" } : Jvm.MethodName) ({ cls := "java/lang/String", name := "indexOf", desc := "(Ljava/lang/String;)I" } : Jvm.MethodName)) ∈ lw_all := lw_g (lw_at lw_m4 39 rfl) rfl
theorem q879 : (Jvm.Cond.code ({ cls := "java/lang/String", name := "indexOf", desc := "(Ljava/lang/String;)I" } : Jvm.MethodName) prog_38_method_84_code (3 : Nat) (Option.some Jvm.ClassFile.FieldType.int)) ∈ lw_all := lw_g (lw_at lw_m4 40 rfl) rfl
theorem q880 : (Jvm.Cond.methodLink "java/lang/String" (492 : Nat) ({ cls := "java/lang/String", name := "isLatin1", desc := "()Z" } : Jvm.MethodName)) ∈ lw_all := lw_g (lw_at lw_m4 41 rfl) rfl
theorem q881 : (Jvm.Cond.instanceMethod ({ cls := "java/lang/String", name := "isLatin1", desc := "()Z" } : Jvm.MethodName)) ∈ lw_all := lw_g (lw_at lw_m4 42 rfl) rfl
theorem q882 : (Jvm.Cond.selects "java/lang/String" ({ cls := "java/lang/String", name := "isLatin1", desc := "()Z" } : Jvm.MethodName) ({ cls := "java/lang/String", name := "isLatin1", desc := "()Z" } : Jvm.MethodName)) ∈ lw_all := lw_g (lw_at lw_m4 43 rfl) rfl
theorem q883 : (Jvm.Cond.code ({ cls := "java/lang/String", name := "isLatin1", desc := "()Z" } : Jvm.MethodName) prog_38_method_154_code (1 : Nat) (Option.some Jvm.ClassFile.FieldType.boolean)) ∈ lw_all := lw_g (lw_at lw_m4 44 rfl) rfl
theorem q884 : (Jvm.Cond.methodLink "java/lang/String" (647 : Nat) ({ cls := "java/lang/StringLatin1", name := "indexOf", desc := "([B[B)I" } : Jvm.MethodName)) ∈ lw_all := lw_g (lw_at lw_m4 45 rfl) rfl
theorem q890 : (Jvm.Cond.methodLink "java/lang/String" (649 : Nat) ({ cls := "java/lang/StringUTF16", name := "indexOf", desc := "([B[B)I" } : Jvm.MethodName)) ∈ lw_all := lw_g (lw_at lw_m4 51 rfl) rfl
theorem q896 : (Jvm.Cond.methodLink "java/lang/String" (650 : Nat) ({ cls := "java/lang/StringUTF16", name := "indexOfLatin1", desc := "([B[B)I" } : Jvm.MethodName)) ∈ lw_all := lw_g (lw_at lw_m4 57 rfl) rfl
theorem q1013 : (Jvm.Cond.selects "java/lang/String" ({ cls := "java/lang/Object", name := "getClass", desc := "()Ljava/lang/Class;" } : Jvm.MethodName) ({ cls := "java/lang/Object", name := "getClass", desc := "()Ljava/lang/Class;" } : Jvm.MethodName)) ∈ lw_all := lw_g (lw_at lw_m4 174 rfl) rfl
theorem q1497 : (Jvm.Cond.instanceMethod ({ cls := "java/lang/String", name := "charAt", desc := "(I)C" } : Jvm.MethodName)) ∈ lw_all := lw_g (lw_at lw_m6 178 rfl) rfl
theorem q1498 : (Jvm.Cond.selects "java/lang/String" ({ cls := "java/lang/String", name := "charAt", desc := "(I)C" } : Jvm.MethodName) ({ cls := "java/lang/String", name := "charAt", desc := "(I)C" } : Jvm.MethodName)) ∈ lw_all := lw_g (lw_at lw_m6 179 rfl) rfl
theorem q1499 : (Jvm.Cond.code ({ cls := "java/lang/String", name := "charAt", desc := "(I)C" } : Jvm.MethodName) prog_38_method_56_code (2 : Nat) (Option.some Jvm.ClassFile.FieldType.char)) ∈ lw_all := lw_g (lw_at lw_m6 180 rfl) rfl
theorem q1500 : (Jvm.Cond.methodLink "java/lang/String" (495 : Nat) ({ cls := "java/lang/StringLatin1", name := "charAt", desc := "([BI)C" } : Jvm.MethodName)) ∈ lw_all := lw_g (lw_at lw_m6 181 rfl) rfl
theorem q1504 : (Jvm.Cond.methodLink "java/lang/String" (498 : Nat) ({ cls := "java/lang/StringUTF16", name := "charAt", desc := "([BI)C" } : Jvm.MethodName)) ∈ lw_all := lw_g (lw_at lw_m6 185 rfl) rfl
theorem q2567 : (Jvm.Cond.castable "java/lang/String" "java/lang/Object") ∈ lw_tbl := lw_at lw_m11 48 rfl
theorem q137 : (Jvm.Cond.initialized "java/lang/StringUTF16") ∈ lw_all := lw_g (lw_at lw_m1 18 rfl) rfl
theorem q545 : (Jvm.Cond.static ({ cls := "java/lang/StringUTF16", name := "newBytesFor", desc := "(I)[B" } : Jvm.MethodName)) ∈ lw_all := lw_g (lw_at lw_m2 186 rfl) rfl
theorem q546 : (Jvm.Cond.code ({ cls := "java/lang/StringUTF16", name := "newBytesFor", desc := "(I)[B" } : Jvm.MethodName) prog_41_method_2_code (1 : Nat) (Option.some (Jvm.ClassFile.FieldType.array Jvm.ClassFile.FieldType.byte))) ∈ lw_all := lw_g (lw_at lw_m2 187 rfl) rfl
theorem q547 : (Jvm.Cond.methodLink "java/lang/StringUTF16" (11 : Nat) ({ cls := "java/lang/StringUTF16", name := "newBytesLength", desc := "(I)I" } : Jvm.MethodName)) ∈ lw_all := lw_g (lw_at lw_m2 188 rfl) rfl
theorem q548 : (Jvm.Cond.static ({ cls := "java/lang/StringUTF16", name := "newBytesLength", desc := "(I)I" } : Jvm.MethodName)) ∈ lw_all := lw_g (lw_at lw_m2 189 rfl) rfl
theorem q549 : (Jvm.Cond.code ({ cls := "java/lang/StringUTF16", name := "newBytesLength", desc := "(I)I" } : Jvm.MethodName) prog_41_method_3_code (1 : Nat) (Option.some Jvm.ClassFile.FieldType.int)) ∈ lw_all := lw_g (lw_at lw_m2 190 rfl) rfl
theorem q550 : (Jvm.Cond.constant "java/lang/StringUTF16" (20 : Nat) (1073741823 : Int32)) ∈ lw_all := lw_g (lw_at lw_m2 191 rfl) rfl
theorem q620 : (Jvm.Cond.static ({ cls := "java/lang/StringUTF16", name := "inflate", desc := "([BI[BII)V" } : Jvm.MethodName)) ∈ lw_all := lw_g (lw_at lw_m3 21 rfl) rfl
theorem q621 : (Jvm.Cond.code ({ cls := "java/lang/StringUTF16", name := "inflate", desc := "([BI[BII)V" } : Jvm.MethodName) prog_41_method_86_code (6 : Nat) (Option.none : Option Jvm.ClassFile.FieldType)) ∈ lw_all := lw_g (lw_at lw_m3 22 rfl) rfl
theorem q622 : (Jvm.Cond.methodLink "java/lang/StringUTF16" (173 : Nat) ({ cls := "java/lang/StringUTF16", name := "checkBoundsOffCount", desc := "(II[B)V" } : Jvm.MethodName)) ∈ lw_all := lw_g (lw_at lw_m3 23 rfl) rfl
theorem q623 : (Jvm.Cond.static ({ cls := "java/lang/StringUTF16", name := "checkBoundsOffCount", desc := "(II[B)V" } : Jvm.MethodName)) ∈ lw_all := lw_g (lw_at lw_m3 24 rfl) rfl
theorem q624 : (Jvm.Cond.code ({ cls := "java/lang/StringUTF16", name := "checkBoundsOffCount", desc := "(II[B)V" } : Jvm.MethodName) prog_41_method_94_code (3 : Nat) (Option.none : Option Jvm.ClassFile.FieldType)) ∈ lw_all := lw_g (lw_at lw_m3 25 rfl) rfl
theorem q625 : (Jvm.Cond.methodLink "java/lang/StringUTF16" (48 : Nat) ({ cls := "java/lang/StringUTF16", name := "length", desc := "([B)I" } : Jvm.MethodName)) ∈ lw_all := lw_g (lw_at lw_m3 26 rfl) rfl
theorem q626 : (Jvm.Cond.static ({ cls := "java/lang/StringUTF16", name := "length", desc := "([B)I" } : Jvm.MethodName)) ∈ lw_all := lw_g (lw_at lw_m3 27 rfl) rfl
theorem q627 : (Jvm.Cond.code ({ cls := "java/lang/StringUTF16", name := "length", desc := "([B)I" } : Jvm.MethodName) prog_41_method_6_code (1 : Nat) (Option.some Jvm.ClassFile.FieldType.int)) ∈ lw_all := lw_g (lw_at lw_m3 28 rfl) rfl
theorem q628 : (Jvm.Cond.methodLink "java/lang/StringUTF16" (419 : Nat) ({ cls := "java/lang/String", name := "checkBoundsOffCount", desc := "(III)I" } : Jvm.MethodName)) ∈ lw_all := lw_g (lw_at lw_m3 29 rfl) rfl
theorem q636 : (Jvm.Cond.methodLink "java/lang/StringUTF16" (111 : Nat) ({ cls := "java/lang/StringUTF16", name := "putChar", desc := "([BII)V" } : Jvm.MethodName)) ∈ lw_all := lw_g (lw_at lw_m3 37 rfl) rfl
theorem q637 : (Jvm.Cond.static ({ cls := "java/lang/StringUTF16", name := "putChar", desc := "([BII)V" } : Jvm.MethodName)) ∈ lw_all := lw_g (lw_at lw_m3 38 rfl) rfl
theorem q638 : (Jvm.Cond.code ({ cls := "java/lang/StringUTF16", name := "putChar", desc := "([BII)V" } : Jvm.MethodName) prog_41_method_4_code (3 : Nat) (Option.none : Option Jvm.ClassFile.FieldType)) ∈ lw_all := lw_g (lw_at lw_m3 39 rfl) rfl
theorem q639 : (Jvm.Cond.fieldLink "java/lang/StringUTF16" (44 : Nat) "java/lang/StringUTF16" "$assertionsDisabled" "Z") ∈ lw_all := lw_g (lw_at lw_m3 40 rfl) rfl
theorem q640 : (Jvm.Cond.laysStatic "java/lang/StringUTF16" "$assertionsDisabled" "Z") ∈ lw_tbl := lw_at lw_m3 41 rfl
theorem q641 : (Jvm.Cond.fieldLink "java/lang/StringUTF16" (59 : Nat) "java/lang/StringUTF16" "HI_BYTE_SHIFT" "I") ∈ lw_all := lw_g (lw_at lw_m3 42 rfl) rfl
theorem q642 : (Jvm.Cond.laysStatic "java/lang/StringUTF16" "HI_BYTE_SHIFT" "I") ∈ lw_tbl := lw_at lw_m3 43 rfl
theorem q643 : (Jvm.Cond.fieldLink "java/lang/StringUTF16" (63 : Nat) "java/lang/StringUTF16" "LO_BYTE_SHIFT" "I") ∈ lw_all := lw_g (lw_at lw_m3 44 rfl) rfl
theorem q644 : (Jvm.Cond.laysStatic "java/lang/StringUTF16" "LO_BYTE_SHIFT" "I") ∈ lw_tbl := lw_at lw_m3 45 rfl
theorem q646 : (Jvm.Cond.static ({ cls := "java/lang/StringUTF16", name := "putCharSB", desc := "([BII)V" } : Jvm.MethodName)) ∈ lw_all := lw_g (lw_at lw_m3 47 rfl) rfl
theorem q647 : (Jvm.Cond.code ({ cls := "java/lang/StringUTF16", name := "putCharSB", desc := "([BII)V" } : Jvm.MethodName) prog_41_method_71_code (3 : Nat) (Option.none : Option Jvm.ClassFile.FieldType)) ∈ lw_all := lw_g (lw_at lw_m3 48 rfl) rfl
theorem q648 : (Jvm.Cond.methodLink "java/lang/StringUTF16" (67 : Nat) ({ cls := "java/lang/StringUTF16", name := "checkIndex", desc := "(I[B)V" } : Jvm.MethodName)) ∈ lw_all := lw_g (lw_at lw_m3 49 rfl) rfl
theorem q649 : (Jvm.Cond.static ({ cls := "java/lang/StringUTF16", name := "checkIndex", desc := "(I[B)V" } : Jvm.MethodName)) ∈ lw_all := lw_g (lw_at lw_m3 50 rfl) rfl
theorem q650 : (Jvm.Cond.code ({ cls := "java/lang/StringUTF16", name := "checkIndex", desc := "(I[B)V" } : Jvm.MethodName) prog_41_method_91_code (2 : Nat) (Option.none : Option Jvm.ClassFile.FieldType)) ∈ lw_all := lw_g (lw_at lw_m3 51 rfl) rfl
theorem q651 : (Jvm.Cond.methodLink "java/lang/StringUTF16" (414 : Nat) ({ cls := "java/lang/String", name := "checkIndex", desc := "(II)V" } : Jvm.MethodName)) ∈ lw_all := lw_g (lw_at lw_m3 52 rfl) rfl
theorem q693 : (Jvm.Cond.static ({ cls := "java/lang/StringUTF16", name := "compress", desc := "([BII)[B" } : Jvm.MethodName)) ∈ lw_all := lw_g (lw_at lw_m3 94 rfl) rfl
theorem q694 : (Jvm.Cond.code ({ cls := "java/lang/StringUTF16", name := "compress", desc := "([BII)[B" } : Jvm.MethodName) prog_41_method_17_code (6 : Nat) (Option.some (Jvm.ClassFile.FieldType.array Jvm.ClassFile.FieldType.byte))) ∈ lw_all := lw_g (lw_at lw_m3 95 rfl) rfl
theorem q695 : (Jvm.Cond.methodLink "java/lang/StringUTF16" (123 : Nat) ({ cls := "java/lang/StringUTF16", name := "compress", desc := "([BI[BII)I" } : Jvm.MethodName)) ∈ lw_all := lw_g (lw_at lw_m3 96 rfl) rfl
theorem q696 : (Jvm.Cond.static ({ cls := "java/lang/StringUTF16", name := "compress", desc := "([BI[BII)I" } : Jvm.MethodName)) ∈ lw_all := lw_g (lw_at lw_m3 97 rfl) rfl
theorem q697 : (Jvm.Cond.code ({ cls := "java/lang/StringUTF16", name := "compress", desc := "([BI[BII)I" } : Jvm.MethodName) prog_41_method_22_code (7 : Nat) (Option.some Jvm.ClassFile.FieldType.int)) ∈ lw_all := lw_g (lw_at lw_m3 98 rfl) rfl
theorem q698 : (Jvm.Cond.methodLink "java/lang/StringUTF16" (71 : Nat) ({ cls := "java/lang/StringUTF16", name := "getChar", desc := "([BI)C" } : Jvm.MethodName)) ∈ lw_all := lw_g (lw_at lw_m3 99 rfl) rfl
theorem q699 : (Jvm.Cond.static ({ cls := "java/lang/StringUTF16", name := "getChar", desc := "([BI)C" } : Jvm.MethodName)) ∈ lw_all := lw_g (lw_at lw_m3 100 rfl) rfl
theorem q700 : (Jvm.Cond.code ({ cls := "java/lang/StringUTF16", name := "getChar", desc := "([BI)C" } : Jvm.MethodName) prog_41_method_5_code (2 : Nat) (Option.some Jvm.ClassFile.FieldType.char)) ∈ lw_all := lw_g (lw_at lw_m3 101 rfl) rfl
theorem q701 : (Jvm.Cond.methodLink "java/lang/StringUTF16" (126 : Nat) ({ cls := "java/util/Arrays", name := "copyOfRange", desc := "([BII)[B" } : Jvm.MethodName)) ∈ lw_all := lw_g (lw_at lw_m3 102 rfl) rfl
theorem q703 : (Jvm.Cond.static ({ cls := "java/lang/StringUTF16", name := "coderFromArrayLen", desc := "([BI)B" } : Jvm.MethodName)) ∈ lw_all := lw_g (lw_at lw_m3 104 rfl) rfl
theorem q704 : (Jvm.Cond.code ({ cls := "java/lang/StringUTF16", name := "coderFromArrayLen", desc := "([BI)B" } : Jvm.MethodName) prog_41_method_15_code (2 : Nat) (Option.some Jvm.ClassFile.FieldType.byte)) ∈ lw_all := lw_g (lw_at lw_m3 105 rfl) rfl
theorem q842 : (Jvm.Cond.static ({ cls := "java/lang/StringUTF16", name := "putCharsAt", desc := "([BICCCC)I" } : Jvm.MethodName)) ∈ lw_all := lw_g (lw_at lw_m4 3 rfl) rfl
theorem q843 : (Jvm.Cond.code ({ cls := "java/lang/StringUTF16", name := "putCharsAt", desc := "([BICCCC)I" } : Jvm.MethodName) prog_41_method_81_code (7 : Nat) (Option.some Jvm.ClassFile.FieldType.int)) ∈ lw_all := lw_g (lw_at lw_m4 4 rfl) rfl
theorem q844 : (Jvm.Cond.methodLink "java/lang/StringUTF16" (96 : Nat) ({ cls := "java/lang/StringUTF16", name := "checkBoundsBeginEnd", desc := "(II[B)V" } : Jvm.MethodName)) ∈ lw_all := lw_g (lw_at lw_m4 5 rfl) rfl
theorem q845 : (Jvm.Cond.static ({ cls := "java/lang/StringUTF16", name := "checkBoundsBeginEnd", desc := "(II[B)V" } : Jvm.MethodName)) ∈ lw_all := lw_g (lw_at lw_m4 6 rfl) rfl
theorem q846 : (Jvm.Cond.code ({ cls := "java/lang/StringUTF16", name := "checkBoundsBeginEnd", desc := "(II[B)V" } : Jvm.MethodName) prog_41_method_93_code (3 : Nat) (Option.none : Option Jvm.ClassFile.FieldType)) ∈ lw_all := lw_g (lw_at lw_m4 7 rfl) rfl
theorem q847 : (Jvm.Cond.methodLink "java/lang/StringUTF16" (241 : Nat) ({ cls := "java/lang/String", name := "checkBoundsBeginEnd", desc := "(III)V" } : Jvm.MethodName)) ∈ lw_all := lw_g (lw_at lw_m4 8 rfl) rfl
theorem q891 : (Jvm.Cond.static ({ cls := "java/lang/StringUTF16", name := "indexOf", desc := "([B[B)I" } : Jvm.MethodName)) ∈ lw_all := lw_g (lw_at lw_m4 52 rfl) rfl
theorem q892 : (Jvm.Cond.code ({ cls := "java/lang/StringUTF16", name := "indexOf", desc := "([B[B)I" } : Jvm.MethodName) prog_41_method_41_code (2 : Nat) (Option.some Jvm.ClassFile.FieldType.int)) ∈ lw_all := lw_g (lw_at lw_m4 53 rfl) rfl
theorem q893 : (Jvm.Cond.methodLink "java/lang/StringUTF16" (235 : Nat) ({ cls := "java/lang/StringUTF16", name := "indexOfUnsafe", desc := "([BI[BII)I" } : Jvm.MethodName)) ∈ lw_all := lw_g (lw_at lw_m4 54 rfl) rfl
theorem q894 : (Jvm.Cond.static ({ cls := "java/lang/StringUTF16", name := "indexOfUnsafe", desc := "([BI[BII)I" } : Jvm.MethodName)) ∈ lw_all := lw_g (lw_at lw_m4 55 rfl) rfl
theorem q895 : (Jvm.Cond.code ({ cls := "java/lang/StringUTF16", name := "indexOfUnsafe", desc := "([BI[BII)I" } : Jvm.MethodName) prog_41_method_43_code (11 : Nat) (Option.some Jvm.ClassFile.FieldType.int)) ∈ lw_all := lw_g (lw_at lw_m4 56 rfl) rfl
theorem q897 : (Jvm.Cond.static ({ cls := "java/lang/StringUTF16", name := "indexOfLatin1", desc := "([B[B)I" } : Jvm.MethodName)) ∈ lw_all := lw_g (lw_at lw_m4 58 rfl) rfl
theorem q898 : (Jvm.Cond.code ({ cls := "java/lang/StringUTF16", name := "indexOfLatin1", desc := "([B[B)I" } : Jvm.MethodName) prog_41_method_44_code (2 : Nat) (Option.some Jvm.ClassFile.FieldType.int)) ∈ lw_all := lw_g (lw_at lw_m4 59 rfl) rfl
theorem q899 : (Jvm.Cond.methodLink "java/lang/StringUTF16" (238 : Nat) ({ cls := "java/lang/StringUTF16", name := "indexOfLatin1Unsafe", desc := "([BI[BII)I" } : Jvm.MethodName)) ∈ lw_all := lw_g (lw_at lw_m4 60 rfl) rfl
theorem q900 : (Jvm.Cond.static ({ cls := "java/lang/StringUTF16", name := "indexOfLatin1Unsafe", desc := "([BI[BII)I" } : Jvm.MethodName)) ∈ lw_all := lw_g (lw_at lw_m4 61 rfl) rfl
theorem q901 : (Jvm.Cond.code ({ cls := "java/lang/StringUTF16", name := "indexOfLatin1Unsafe", desc := "([BI[BII)I" } : Jvm.MethodName) prog_41_method_46_code (11 : Nat) (Option.some Jvm.ClassFile.FieldType.int)) ∈ lw_all := lw_g (lw_at lw_m4 62 rfl) rfl
theorem q1505 : (Jvm.Cond.static ({ cls := "java/lang/StringUTF16", name := "charAt", desc := "([BI)C" } : Jvm.MethodName)) ∈ lw_all := lw_g (lw_at lw_m6 186 rfl) rfl
theorem q1506 : (Jvm.Cond.code ({ cls := "java/lang/StringUTF16", name := "charAt", desc := "([BI)C" } : Jvm.MethodName) prog_41_method_83_code (2 : Nat) (Option.some Jvm.ClassFile.FieldType.char)) ∈ lw_all := lw_g (lw_at lw_m6 187 rfl) rfl

theorem q119 : (Jvm.Cond.initialized "StrangerMarketLaw") ∈ lw_all := lw_g (lw_at lw_m1 0 rfl) rfl
theorem q164 : (Jvm.Cond.classLink "StrangerMarketLaw" (8 : Nat) "StrangerMarket") ∈ lw_all := lw_g (lw_at lw_m1 45 rfl) rfl
theorem q166 : (Jvm.Cond.methodLink "StrangerMarketLaw" (15 : Nat) ({ cls := "StrangerMarket", name := "<init>", desc := "()V" } : Jvm.MethodName)) ∈ lw_all := lw_g (lw_at lw_m1 47 rfl) rfl
theorem q436 : (Jvm.Cond.methodLink "StrangerMarketLaw" (19 : Nat) ({ cls := "StrangerMarket", name := "feed", desc := "(IIIII)I" } : Jvm.MethodName)) ∈ lw_all := lw_g (lw_at lw_m2 77 rfl) rfl
theorem q444 : (Jvm.Cond.methodLink "StrangerMarketLaw" (24 : Nat) ({ cls := "StrangerMarket", name := "end", desc := "(I)Z" } : Jvm.MethodName)) ∈ lw_all := lw_g (lw_at lw_m2 85 rfl) rfl
theorem q448 : (Jvm.Cond.methodLink "StrangerMarketLaw" (29 : Nat) ({ cls := "StrangerMarket", name := "county", desc := "()I" } : Jvm.MethodName)) ∈ lw_all := lw_g (lw_at lw_m2 89 rfl) rfl
theorem q1100 : (Jvm.Cond.methodLink "StrangerMarketLaw" (34 : Nat) ({ cls := "StrangerMarket", name := "fault", desc := "()I" } : Jvm.MethodName)) ∈ lw_all := lw_g (lw_at lw_m5 21 rfl) rfl
theorem q1104 : (Jvm.Cond.methodLink "StrangerMarketLaw" (47 : Nat) ({ cls := "StrangerMarket", name := "good", desc := "(III)I" } : Jvm.MethodName)) ∈ lw_all := lw_g (lw_at lw_m5 25 rfl) rfl
theorem q1128 : (Jvm.Cond.methodLink "StrangerMarketLaw" (52 : Nat) ({ cls := "StrangerMarket", name := "deals", desc := "(II)I" } : Jvm.MethodName)) ∈ lw_all := lw_g (lw_at lw_m5 49 rfl) rfl
theorem q1132 : (Jvm.Cond.methodLink "StrangerMarketLaw" (56 : Nat) ({ cls := "StrangerMarket", name := "now", desc := "(I)I" } : Jvm.MethodName)) ∈ lw_all := lw_g (lw_at lw_m5 53 rfl) rfl
theorem q1165 : (Jvm.Cond.methodLink "StrangerMarketLaw" (61 : Nat) ({ cls := "StrangerMarket", name := "buy", desc := "(III)I" } : Jvm.MethodName)) ∈ lw_all := lw_g (lw_at lw_m5 86 rfl) rfl
theorem q1318 : (Jvm.Cond.methodLink "StrangerMarketLaw" (65 : Nat) ({ cls := "StrangerMarket", name := "nod", desc := "(II)I" } : Jvm.MethodName)) ∈ lw_all := lw_g (lw_at lw_m5 239 rfl) rfl
theorem q1331 : (Jvm.Cond.methodLink "StrangerMarketLaw" (69 : Nat) ({ cls := "StrangerMarket", name := "veil", desc := "(I)I" } : Jvm.MethodName)) ∈ lw_all := lw_g (lw_at lw_m6 12 rfl) rfl
theorem q1343 : (Jvm.Cond.methodLink "StrangerMarketLaw" (73 : Nat) ({ cls := "StrangerMarket", name := "tell", desc := "(III)I" } : Jvm.MethodName)) ∈ lw_all := lw_g (lw_at lw_m6 24 rfl) rfl
theorem q1359 : (Jvm.Cond.methodLink "StrangerMarketLaw" (77 : Nat) ({ cls := "StrangerMarket", name := "days", desc := "(I)I" } : Jvm.MethodName)) ∈ lw_all := lw_g (lw_at lw_m6 40 rfl) rfl
theorem q1365 : (Jvm.Cond.methodLink "StrangerMarketLaw" (81 : Nat) ({ cls := "StrangerMarket", name := "undo", desc := "()I" } : Jvm.MethodName)) ∈ lw_all := lw_g (lw_at lw_m6 46 rfl) rfl
theorem q1369 : (Jvm.Cond.methodLink "StrangerMarketLaw" (85 : Nat) ({ cls := "StrangerMarket", name := "most", desc := "(I)I" } : Jvm.MethodName)) ∈ lw_all := lw_g (lw_at lw_m6 50 rfl) rfl
theorem q1385 : (Jvm.Cond.methodLink "StrangerMarketLaw" (89 : Nat) ({ cls := "StrangerMarket", name := "who", desc := "()I" } : Jvm.MethodName)) ∈ lw_all := lw_g (lw_at lw_m6 66 rfl) rfl
theorem q1406 : (Jvm.Cond.methodLink "StrangerMarketLaw" (93 : Nat) ({ cls := "StrangerMarket", name := "ask", desc := "()I" } : Jvm.MethodName)) ∈ lw_all := lw_g (lw_at lw_m6 87 rfl) rfl
theorem q1410 : (Jvm.Cond.methodLink "StrangerMarketLaw" (97 : Nat) ({ cls := "StrangerMarket", name := "serve", desc := "(I)I" } : Jvm.MethodName)) ∈ lw_all := lw_g (lw_at lw_m6 91 rfl) rfl
theorem q1419 : (Jvm.Cond.methodLink "StrangerMarketLaw" (101 : Nat) ({ cls := "StrangerMarket", name := "serving", desc := "()I" } : Jvm.MethodName)) ∈ lw_all := lw_g (lw_at lw_m6 100 rfl) rfl
theorem q1423 : (Jvm.Cond.methodLink "StrangerMarketLaw" (105 : Nat) ({ cls := "StrangerMarket", name := "chain", desc := "(II)I" } : Jvm.MethodName)) ∈ lw_all := lw_g (lw_at lw_m6 104 rfl) rfl
theorem q1432 : (Jvm.Cond.methodLink "StrangerMarketLaw" (109 : Nat) ({ cls := "StrangerMarket", name := "chainAt", desc := "(I)I" } : Jvm.MethodName)) ∈ lw_all := lw_g (lw_at lw_m6 113 rfl) rfl
theorem q1436 : (Jvm.Cond.methodLink "StrangerMarketLaw" (113 : Nat) ({ cls := "StrangerMarket", name := "out", desc := "(I)I" } : Jvm.MethodName)) ∈ lw_all := lw_g (lw_at lw_m6 117 rfl) rfl
theorem q1449 : (Jvm.Cond.methodLink "StrangerMarketLaw" (117 : Nat) ({ cls := "StrangerMarket", name := "apart", desc := "(II)I" } : Jvm.MethodName)) ∈ lw_all := lw_g (lw_at lw_m6 130 rfl) rfl
theorem q1458 : (Jvm.Cond.methodLink "StrangerMarketLaw" (121 : Nat) ({ cls := "StrangerMarket", name := "parting", desc := "()I" } : Jvm.MethodName)) ∈ lw_all := lw_g (lw_at lw_m6 139 rfl) rfl
theorem q1462 : (Jvm.Cond.methodLink "StrangerMarketLaw" (125 : Nat) ({ cls := "StrangerMarket", name := "recluse", desc := "()I" } : Jvm.MethodName)) ∈ lw_all := lw_g (lw_at lw_m6 143 rfl) rfl
theorem q1466 : (Jvm.Cond.methodLink "StrangerMarketLaw" (129 : Nat) ({ cls := "StrangerMarket", name := "face", desc := "(I)I" } : Jvm.MethodName)) ∈ lw_all := lw_g (lw_at lw_m6 147 rfl) rfl
theorem q1492 : (Jvm.Cond.methodLink "StrangerMarketLaw" (133 : Nat) ({ cls := "StrangerMarket", name := "byteAt", desc := "(I)I" } : Jvm.MethodName)) ∈ lw_all := lw_g (lw_at lw_m6 173 rfl) rfl
theorem q1507 : (Jvm.Cond.methodLink "StrangerMarketLaw" (137 : Nat) ({ cls := "StrangerMarket", name := "drawn", desc := "(II)I" } : Jvm.MethodName)) ∈ lw_all := lw_g (lw_at lw_m6 188 rfl) rfl
theorem q1534 : (Jvm.Cond.methodLink "StrangerMarketLaw" (141 : Nat) ({ cls := "StrangerMarket", name := "odds", desc := "(III)I" } : Jvm.MethodName)) ∈ lw_all := lw_g (lw_at lw_m6 215 rfl) rfl
theorem q1538 : (Jvm.Cond.methodLink "StrangerMarketLaw" (145 : Nat) ({ cls := "StrangerMarket", name := "book", desc := "(I)I" } : Jvm.MethodName)) ∈ lw_all := lw_g (lw_at lw_m6 219 rfl) rfl
theorem q1635 : (Jvm.Cond.methodLink "StrangerMarketLaw" (149 : Nat) ({ cls := "StrangerMarket", name := "told", desc := "(I)I" } : Jvm.MethodName)) ∈ lw_all := lw_g (lw_at lw_m7 76 rfl) rfl
theorem q1639 : (Jvm.Cond.methodLink "StrangerMarketLaw" (153 : Nat) ({ cls := "StrangerMarket", name := "sentence", desc := "()I" } : Jvm.MethodName)) ∈ lw_all := lw_g (lw_at lw_m7 80 rfl) rfl
theorem q1797 : (Jvm.Cond.methodLink "StrangerMarketLaw" (157 : Nat) ({ cls := "StrangerMarket", name := "said", desc := "(I)I" } : Jvm.MethodName)) ∈ lw_all := lw_g (lw_at lw_m7 238 rfl) rfl
theorem q1837 : (Jvm.Cond.methodLink "StrangerMarketLaw" (161 : Nat) ({ cls := "StrangerMarket", name := "image", desc := "(I)Z" } : Jvm.MethodName)) ∈ lw_all := lw_g (lw_at lw_m8 38 rfl) rfl
theorem q1841 : (Jvm.Cond.methodLink "StrangerMarketLaw" (165 : Nat) ({ cls := "StrangerMarket", name := "restore", desc := "(I)Z" } : Jvm.MethodName)) ∈ lw_all := lw_g (lw_at lw_m8 42 rfl) rfl
theorem q1845 : (Jvm.Cond.methodLink "StrangerMarketLaw" (169 : Nat) ({ cls := "StrangerMarket", name := "count", desc := "(I)I" } : Jvm.MethodName)) ∈ lw_all := lw_g (lw_at lw_m8 46 rfl) rfl
theorem q1849 : (Jvm.Cond.methodLink "StrangerMarketLaw" (38 : Nat) ({ cls := "StrangerMarketLaw", name := "person", desc := "(LStrangerMarket;II[J)I" } : Jvm.MethodName)) ∈ lw_all := lw_g (lw_at lw_m8 50 rfl) rfl
theorem q1850 : (Jvm.Cond.static ({ cls := "StrangerMarketLaw", name := "person", desc := "(LStrangerMarket;II[J)I" } : Jvm.MethodName)) ∈ lw_all := lw_g (lw_at lw_m8 51 rfl) rfl
theorem q1851 : (Jvm.Cond.codeWith ({ cls := "StrangerMarketLaw", name := "person", desc := "(LStrangerMarket;II[J)I" } : Jvm.MethodName) method_3_code (5 : Nat) (Option.some Jvm.ClassFile.FieldType.int) [((0 : Nat), (10 : Nat), (13 : Nat), (13 : Nat))]) ∈ lw_all := lw_g (lw_at lw_m8 52 rfl) rfl
theorem q1852 : (Jvm.Cond.classLink "StrangerMarketLaw" (13 : Nat) "java/util/NoSuchElementException") ∈ lw_all := lw_g (lw_at lw_m8 53 rfl) rfl
theorem q1853 : (Jvm.Cond.methodLink "StrangerMarketLaw" (7 : Nat) ({ cls := "StrangerMarket", name := "person", desc := "(II)I" } : Jvm.MethodName)) ∈ lw_all := lw_g (lw_at lw_m8 54 rfl) rfl
theorem q1883 : (Jvm.Cond.methodLink "StrangerMarketLaw" (44 : Nat) ({ cls := "StrangerMarketModel", name := "thrown", desc := "()I" } : Jvm.MethodName)) ∈ lw_all := lw_g (lw_at lw_m8 84 rfl) rfl
theorem q1887 : (Jvm.Cond.methodLink "StrangerMarketLaw" (23 : Nat) ({ cls := "StrangerMarketModel", name := "feed", desc := "(IIIII)I" } : Jvm.MethodName)) ∈ lw_all := lw_g (lw_at lw_m8 88 rfl) rfl
theorem q1896 : (Jvm.Cond.methodLink "StrangerMarketLaw" (28 : Nat) ({ cls := "StrangerMarketModel", name := "end", desc := "(I)Z" } : Jvm.MethodName)) ∈ lw_all := lw_g (lw_at lw_m8 97 rfl) rfl
theorem q1900 : (Jvm.Cond.classLink "StrangerMarketLaw" (16 : Nat) "StrangerMarketModel") ∈ lw_all := lw_g (lw_at lw_m8 101 rfl) rfl
theorem q1901 : (Jvm.Cond.methodLink "StrangerMarketLaw" (18 : Nat) ({ cls := "StrangerMarketModel", name := "<init>", desc := "()V" } : Jvm.MethodName)) ∈ lw_all := lw_g (lw_at lw_m8 102 rfl) rfl
theorem q2092 : (Jvm.Cond.methodLink "StrangerMarketLaw" (33 : Nat) ({ cls := "StrangerMarketModel", name := "county", desc := "()I" } : Jvm.MethodName)) ∈ lw_all := lw_g (lw_at lw_m9 53 rfl) rfl
theorem q2192 : (Jvm.Cond.methodLink "StrangerMarketLaw" (37 : Nat) ({ cls := "StrangerMarketModel", name := "fault", desc := "()I" } : Jvm.MethodName)) ∈ lw_all := lw_g (lw_at lw_m9 153 rfl) rfl
theorem q2196 : (Jvm.Cond.methodLink "StrangerMarketLaw" (43 : Nat) ({ cls := "StrangerMarketModel", name := "person", desc := "(II)I" } : Jvm.MethodName)) ∈ lw_all := lw_g (lw_at lw_m9 157 rfl) rfl
theorem q2220 : (Jvm.Cond.methodLink "StrangerMarketLaw" (51 : Nat) ({ cls := "StrangerMarketModel", name := "good", desc := "(III)I" } : Jvm.MethodName)) ∈ lw_all := lw_g (lw_at lw_m9 181 rfl) rfl
theorem q2228 : (Jvm.Cond.methodLink "StrangerMarketLaw" (55 : Nat) ({ cls := "StrangerMarketModel", name := "deals", desc := "(II)I" } : Jvm.MethodName)) ∈ lw_all := lw_g (lw_at lw_m9 189 rfl) rfl
theorem q2232 : (Jvm.Cond.methodLink "StrangerMarketLaw" (60 : Nat) ({ cls := "StrangerMarketModel", name := "now", desc := "(I)I" } : Jvm.MethodName)) ∈ lw_all := lw_g (lw_at lw_m9 193 rfl) rfl
theorem q2243 : (Jvm.Cond.methodLink "StrangerMarketLaw" (64 : Nat) ({ cls := "StrangerMarketModel", name := "buy", desc := "(III)I" } : Jvm.MethodName)) ∈ lw_all := lw_g (lw_at lw_m9 204 rfl) rfl
theorem q2271 : (Jvm.Cond.methodLink "StrangerMarketLaw" (68 : Nat) ({ cls := "StrangerMarketModel", name := "nod", desc := "(II)I" } : Jvm.MethodName)) ∈ lw_all := lw_g (lw_at lw_m9 232 rfl) rfl
theorem q2283 : (Jvm.Cond.methodLink "StrangerMarketLaw" (72 : Nat) ({ cls := "StrangerMarketModel", name := "veil", desc := "(I)I" } : Jvm.MethodName)) ∈ lw_all := lw_g (lw_at lw_m10 4 rfl) rfl
theorem q2295 : (Jvm.Cond.methodLink "StrangerMarketLaw" (76 : Nat) ({ cls := "StrangerMarketModel", name := "tell", desc := "(III)I" } : Jvm.MethodName)) ∈ lw_all := lw_g (lw_at lw_m10 16 rfl) rfl
theorem q2303 : (Jvm.Cond.methodLink "StrangerMarketLaw" (80 : Nat) ({ cls := "StrangerMarketModel", name := "days", desc := "(I)I" } : Jvm.MethodName)) ∈ lw_all := lw_g (lw_at lw_m10 24 rfl) rfl
theorem q2318 : (Jvm.Cond.methodLink "StrangerMarketLaw" (84 : Nat) ({ cls := "StrangerMarketModel", name := "undo", desc := "()I" } : Jvm.MethodName)) ∈ lw_all := lw_g (lw_at lw_m10 39 rfl) rfl
theorem q2322 : (Jvm.Cond.methodLink "StrangerMarketLaw" (88 : Nat) ({ cls := "StrangerMarketModel", name := "most", desc := "(I)I" } : Jvm.MethodName)) ∈ lw_all := lw_g (lw_at lw_m10 43 rfl) rfl
theorem q2338 : (Jvm.Cond.methodLink "StrangerMarketLaw" (92 : Nat) ({ cls := "StrangerMarketModel", name := "who", desc := "()I" } : Jvm.MethodName)) ∈ lw_all := lw_g (lw_at lw_m10 59 rfl) rfl
theorem q2350 : (Jvm.Cond.methodLink "StrangerMarketLaw" (96 : Nat) ({ cls := "StrangerMarketModel", name := "ask", desc := "()I" } : Jvm.MethodName)) ∈ lw_all := lw_g (lw_at lw_m10 71 rfl) rfl
theorem q2354 : (Jvm.Cond.methodLink "StrangerMarketLaw" (100 : Nat) ({ cls := "StrangerMarketModel", name := "serve", desc := "(I)I" } : Jvm.MethodName)) ∈ lw_all := lw_g (lw_at lw_m10 75 rfl) rfl
theorem q2362 : (Jvm.Cond.methodLink "StrangerMarketLaw" (104 : Nat) ({ cls := "StrangerMarketModel", name := "serving", desc := "()I" } : Jvm.MethodName)) ∈ lw_all := lw_g (lw_at lw_m10 83 rfl) rfl
theorem q2366 : (Jvm.Cond.methodLink "StrangerMarketLaw" (108 : Nat) ({ cls := "StrangerMarketModel", name := "chain", desc := "(II)I" } : Jvm.MethodName)) ∈ lw_all := lw_g (lw_at lw_m10 87 rfl) rfl
theorem q2374 : (Jvm.Cond.methodLink "StrangerMarketLaw" (112 : Nat) ({ cls := "StrangerMarketModel", name := "chainAt", desc := "(I)I" } : Jvm.MethodName)) ∈ lw_all := lw_g (lw_at lw_m10 95 rfl) rfl
theorem q2378 : (Jvm.Cond.methodLink "StrangerMarketLaw" (116 : Nat) ({ cls := "StrangerMarketModel", name := "out", desc := "(I)I" } : Jvm.MethodName)) ∈ lw_all := lw_g (lw_at lw_m10 99 rfl) rfl
theorem q2386 : (Jvm.Cond.methodLink "StrangerMarketLaw" (120 : Nat) ({ cls := "StrangerMarketModel", name := "apart", desc := "(II)I" } : Jvm.MethodName)) ∈ lw_all := lw_g (lw_at lw_m10 107 rfl) rfl
theorem q2394 : (Jvm.Cond.methodLink "StrangerMarketLaw" (124 : Nat) ({ cls := "StrangerMarketModel", name := "parting", desc := "()I" } : Jvm.MethodName)) ∈ lw_all := lw_g (lw_at lw_m10 115 rfl) rfl
theorem q2398 : (Jvm.Cond.methodLink "StrangerMarketLaw" (128 : Nat) ({ cls := "StrangerMarketModel", name := "recluse", desc := "()I" } : Jvm.MethodName)) ∈ lw_all := lw_g (lw_at lw_m10 119 rfl) rfl
theorem q2402 : (Jvm.Cond.methodLink "StrangerMarketLaw" (132 : Nat) ({ cls := "StrangerMarketModel", name := "face", desc := "(I)I" } : Jvm.MethodName)) ∈ lw_all := lw_g (lw_at lw_m10 123 rfl) rfl
theorem q2420 : (Jvm.Cond.methodLink "StrangerMarketLaw" (136 : Nat) ({ cls := "StrangerMarketModel", name := "byteAt", desc := "(I)I" } : Jvm.MethodName)) ∈ lw_all := lw_g (lw_at lw_m10 141 rfl) rfl
theorem q2424 : (Jvm.Cond.methodLink "StrangerMarketLaw" (140 : Nat) ({ cls := "StrangerMarketModel", name := "drawn", desc := "(II)I" } : Jvm.MethodName)) ∈ lw_all := lw_g (lw_at lw_m10 145 rfl) rfl
theorem q2441 : (Jvm.Cond.methodLink "StrangerMarketLaw" (144 : Nat) ({ cls := "StrangerMarketModel", name := "odds", desc := "(III)I" } : Jvm.MethodName)) ∈ lw_all := lw_g (lw_at lw_m10 162 rfl) rfl
theorem q2453 : (Jvm.Cond.methodLink "StrangerMarketLaw" (148 : Nat) ({ cls := "StrangerMarketModel", name := "book", desc := "(I)I" } : Jvm.MethodName)) ∈ lw_all := lw_g (lw_at lw_m10 174 rfl) rfl
theorem q2465 : (Jvm.Cond.methodLink "StrangerMarketLaw" (152 : Nat) ({ cls := "StrangerMarketModel", name := "told", desc := "(I)I" } : Jvm.MethodName)) ∈ lw_all := lw_g (lw_at lw_m10 186 rfl) rfl
theorem q2469 : (Jvm.Cond.methodLink "StrangerMarketLaw" (156 : Nat) ({ cls := "StrangerMarketModel", name := "sentence", desc := "()I" } : Jvm.MethodName)) ∈ lw_all := lw_g (lw_at lw_m10 190 rfl) rfl
theorem q2497 : (Jvm.Cond.methodLink "StrangerMarketLaw" (160 : Nat) ({ cls := "StrangerMarketModel", name := "said", desc := "(I)I" } : Jvm.MethodName)) ∈ lw_all := lw_g (lw_at lw_m10 218 rfl) rfl
theorem q2513 : (Jvm.Cond.methodLink "StrangerMarketLaw" (164 : Nat) ({ cls := "StrangerMarketModel", name := "image", desc := "(I)Z" } : Jvm.MethodName)) ∈ lw_all := lw_g (lw_at lw_m10 234 rfl) rfl
theorem q2517 : (Jvm.Cond.methodLink "StrangerMarketLaw" (168 : Nat) ({ cls := "StrangerMarketModel", name := "restore", desc := "(I)Z" } : Jvm.MethodName)) ∈ lw_all := lw_g (lw_at lw_m10 238 rfl) rfl
theorem q2521 : (Jvm.Cond.methodLink "StrangerMarketLaw" (172 : Nat) ({ cls := "StrangerMarketModel", name := "count", desc := "(I)I" } : Jvm.MethodName)) ∈ lw_all := lw_g (lw_at lw_m11 2 rfl) rfl

theorem q120 : (Jvm.Cond.initialized "StrangerMarket") ∈ lw_all := lw_g (lw_at lw_m1 1 rfl) rfl
theorem q165 : (Jvm.Cond.instantiable "StrangerMarket" (21 : Nat)) ∈ lw_all := lw_g (lw_at lw_m1 46 rfl) rfl
theorem q167 : (Jvm.Cond.instanceMethod ({ cls := "StrangerMarket", name := "<init>", desc := "()V" } : Jvm.MethodName)) ∈ lw_all := lw_g (lw_at lw_m1 48 rfl) rfl
theorem q168 : (Jvm.Cond.code ({ cls := "StrangerMarket", name := "<init>", desc := "()V" } : Jvm.MethodName) prog_1_method_5_code (2 : Nat) (Option.none : Option Jvm.ClassFile.FieldType)) ∈ lw_all := lw_g (lw_at lw_m1 49 rfl) rfl
theorem q169 : (Jvm.Cond.methodLink "StrangerMarket" (13 : Nat) ({ cls := "java/lang/Object", name := "<init>", desc := "()V" } : Jvm.MethodName)) ∈ lw_all := lw_g (lw_at lw_m1 50 rfl) rfl
theorem q172 : (Jvm.Cond.classLink "StrangerMarket" (22 : Nat) "StrangerMarket$County") ∈ lw_all := lw_g (lw_at lw_m1 53 rfl) rfl
theorem q174 : (Jvm.Cond.methodLinkNest "StrangerMarket" (24 : Nat) ({ cls := "StrangerMarket$County", name := "<init>", desc := "()V" } : Jvm.MethodName) "StrangerMarket") ∈ lw_tbl := lw_at lw_m1 55 rfl
theorem q206 : (Jvm.Cond.fieldLinkNest "StrangerMarket" (116 : Nat) "StrangerMarket$County" "lines" "I" "StrangerMarket") ∈ lw_tbl := lw_at lw_m1 87 rfl
theorem q210 : (Jvm.Cond.fieldLinkNest "StrangerMarket" (266 : Nat) "StrangerMarket$County" "deals" "I" "StrangerMarket") ∈ lw_tbl := lw_at lw_m1 91 rfl
theorem q214 : (Jvm.Cond.fieldLinkNest "StrangerMarket" (417 : Nat) "StrangerMarket$County" "veils" "I" "StrangerMarket") ∈ lw_tbl := lw_at lw_m1 95 rfl
theorem q217 : (Jvm.Cond.fieldLinkNest "StrangerMarket" (418 : Nat) "StrangerMarket$County" "bell" "I" "StrangerMarket") ∈ lw_tbl := lw_at lw_m1 98 rfl
theorem q223 : (Jvm.Cond.fieldLinkNest "StrangerMarket" (134 : Nat) "StrangerMarket$County" "persons" "Ljava/util/ArrayList;" "StrangerMarket") ∈ lw_tbl := lw_at lw_m1 104 rfl
theorem q229 : (Jvm.Cond.fieldLinkNest "StrangerMarket" (414 : Nat) "StrangerMarket$County" "goods" "Ljava/util/ArrayList;" "StrangerMarket") ∈ lw_tbl := lw_at lw_m1 110 rfl
theorem q243 : (Jvm.Cond.classLink "StrangerMarket" (29 : Nat) "StrangerMarket$Market") ∈ lw_all := lw_g (lw_at lw_m1 124 rfl) rfl
theorem q245 : (Jvm.Cond.methodLinkNest "StrangerMarket" (31 : Nat) ({ cls := "StrangerMarket$Market", name := "<init>", desc := "()V" } : Jvm.MethodName) "StrangerMarket") ∈ lw_tbl := lw_at lw_m1 126 rfl
theorem q252 : (Jvm.Cond.fieldLinkNest "StrangerMarket" (197 : Nat) "StrangerMarket$Market" "day" "I" "StrangerMarket") ∈ lw_tbl := lw_at lw_m1 133 rfl
theorem q254 : (Jvm.Cond.fieldLinkNest "StrangerMarket" (207 : Nat) "StrangerMarket$Market" "bought" "I" "StrangerMarket") ∈ lw_tbl := lw_at lw_m1 135 rfl
theorem q256 : (Jvm.Cond.fieldLinkNest "StrangerMarket" (204 : Nat) "StrangerMarket$Market" "veils" "I" "StrangerMarket") ∈ lw_tbl := lw_at lw_m1 137 rfl
theorem q258 : (Jvm.Cond.fieldLinkNest "StrangerMarket" (172 : Nat) "StrangerMarket$Market" "home" "I" "StrangerMarket") ∈ lw_tbl := lw_at lw_m1 139 rfl
theorem q260 : (Jvm.Cond.fieldLinkNest "StrangerMarket" (175 : Nat) "StrangerMarket$Market" "veiled" "I" "StrangerMarket") ∈ lw_tbl := lw_at lw_m1 141 rfl
theorem q263 : (Jvm.Cond.fieldLinkNest "StrangerMarket" (154 : Nat) "StrangerMarket$Market" "coins" "[I" "StrangerMarket") ∈ lw_tbl := lw_at lw_m1 144 rfl
theorem q266 : (Jvm.Cond.fieldLinkNest "StrangerMarket" (178 : Nat) "StrangerMarket$Market" "hunger" "[I" "StrangerMarket") ∈ lw_tbl := lw_at lw_m1 147 rfl
theorem q268 : (Jvm.Cond.fieldLinkNest "StrangerMarket" (210 : Nat) "StrangerMarket$Market" "met" "[I" "StrangerMarket") ∈ lw_tbl := lw_at lw_m1 149 rfl
theorem q270 : (Jvm.Cond.fieldLinkNest "StrangerMarket" (194 : Nat) "StrangerMarket$Market" "deals" "[I" "StrangerMarket") ∈ lw_tbl := lw_at lw_m1 151 rfl
theorem q272 : (Jvm.Cond.fieldLinkNest "StrangerMarket" (185 : Nat) "StrangerMarket$Market" "stock" "[I" "StrangerMarket") ∈ lw_tbl := lw_at lw_m1 153 rfl
theorem q275 : (Jvm.Cond.fieldLinkNest "StrangerMarket" (188 : Nat) "StrangerMarket$Market" "want" "[I" "StrangerMarket") ∈ lw_tbl := lw_at lw_m1 156 rfl
theorem q305 : (Jvm.Cond.methodLink "StrangerMarket" (32 : Nat) ({ cls := "StrangerMarket$Market", name := "begin", desc := "(LStrangerMarket$County;)LStrangerMarket$Market;" } : Jvm.MethodName)) ∈ lw_all := lw_g (lw_at lw_m1 186 rfl) rfl
theorem q351 : (Jvm.Cond.stringRef "StrangerMarket" (70 : Nat) "") ∈ lw_tbl := lw_at lw_m1 232 rfl
theorem q352 : (Jvm.Cond.classLink "StrangerMarket" (79 : Nat) "StrangerMarket$Kept") ∈ lw_all := lw_g (lw_at lw_m1 233 rfl) rfl
theorem q355 : (Jvm.Cond.methodLinkNest "StrangerMarket" (81 : Nat) ({ cls := "StrangerMarket$Kept", name := "<init>", desc := "()V" } : Jvm.MethodName) "StrangerMarket") ∈ lw_tbl := lw_at lw_m1 236 rfl
theorem q361 : (Jvm.Cond.fieldLinkNest "StrangerMarket" (409 : Nat) "StrangerMarket$Kept" "county" "LStrangerMarket$County;" "StrangerMarket") ∈ lw_tbl := lw_at lw_m2 2 rfl
theorem q362 : (Jvm.Cond.fieldLinkNest "StrangerMarket" (410 : Nat) "StrangerMarket$Kept" "sentence" "LStrangerMarket$Cond;" "StrangerMarket") ∈ lw_tbl := lw_at lw_m2 3 rfl
theorem q364 : (Jvm.Cond.fieldLinkNest "StrangerMarket" (411 : Nat) "StrangerMarket$Kept" "market" "LStrangerMarket$Market;" "StrangerMarket") ∈ lw_tbl := lw_at lw_m2 5 rfl
theorem q372 : (Jvm.Cond.fieldLink "StrangerMarket" (18 : Nat) "StrangerMarket" "tape" "[B") ∈ lw_all := lw_g (lw_at lw_m2 13 rfl) rfl
theorem q373 : (Jvm.Cond.fieldLink "StrangerMarket" (86 : Nat) "StrangerMarket" "taped" "I") ∈ lw_all := lw_g (lw_at lw_m2 14 rfl) rfl
theorem q374 : (Jvm.Cond.fieldLink "StrangerMarket" (97 : Nat) "StrangerMarket" "fault" "I") ∈ lw_all := lw_g (lw_at lw_m2 15 rfl) rfl
theorem q375 : (Jvm.Cond.fieldLink "StrangerMarket" (25 : Nat) "StrangerMarket" "county" "LStrangerMarket$County;") ∈ lw_all := lw_g (lw_at lw_m2 16 rfl) rfl
theorem q376 : (Jvm.Cond.fieldLink "StrangerMarket" (36 : Nat) "StrangerMarket" "now" "LStrangerMarket$Market;") ∈ lw_all := lw_g (lw_at lw_m2 17 rfl) rfl
theorem q377 : (Jvm.Cond.fieldLink "StrangerMarket" (40 : Nat) "StrangerMarket" "trial" "LStrangerMarket$Market;") ∈ lw_all := lw_g (lw_at lw_m2 18 rfl) rfl
theorem q378 : (Jvm.Cond.fieldLink "StrangerMarket" (109 : Nat) "StrangerMarket" "sentence" "LStrangerMarket$Cond;") ∈ lw_all := lw_g (lw_at lw_m2 19 rfl) rfl
theorem q379 : (Jvm.Cond.fieldLink "StrangerMarket" (43 : Nat) "StrangerMarket" "before" "[LStrangerMarket$Market;") ∈ lw_all := lw_g (lw_at lw_m2 20 rfl) rfl
theorem q380 : (Jvm.Cond.fieldLink "StrangerMarket" (113 : Nat) "StrangerMarket" "befores" "I") ∈ lw_all := lw_g (lw_at lw_m2 21 rfl) rfl
theorem q381 : (Jvm.Cond.fieldLink "StrangerMarket" (47 : Nat) "StrangerMarket" "flow" "[I") ∈ lw_all := lw_g (lw_at lw_m2 22 rfl) rfl
theorem q382 : (Jvm.Cond.fieldLink "StrangerMarket" (51 : Nat) "StrangerMarket" "left" "[I") ∈ lw_all := lw_g (lw_at lw_m2 23 rfl) rfl
theorem q383 : (Jvm.Cond.fieldLink "StrangerMarket" (268 : Nat) "StrangerMarket" "asked" "I") ∈ lw_all := lw_g (lw_at lw_m2 24 rfl) rfl
theorem q384 : (Jvm.Cond.fieldLink "StrangerMarket" (54 : Nat) "StrangerMarket" "ask" "I") ∈ lw_all := lw_g (lw_at lw_m2 25 rfl) rfl
theorem q385 : (Jvm.Cond.fieldLink "StrangerMarket" (58 : Nat) "StrangerMarket" "serving" "I") ∈ lw_all := lw_g (lw_at lw_m2 26 rfl) rfl
theorem q386 : (Jvm.Cond.fieldLink "StrangerMarket" (61 : Nat) "StrangerMarket" "row" "[I") ∈ lw_all := lw_g (lw_at lw_m2 27 rfl) rfl
theorem q387 : (Jvm.Cond.fieldLink "StrangerMarket" (64 : Nat) "StrangerMarket" "chain" "[I") ∈ lw_all := lw_g (lw_at lw_m2 28 rfl) rfl
theorem q388 : (Jvm.Cond.fieldLink "StrangerMarket" (318 : Nat) "StrangerMarket" "chains" "I") ∈ lw_all := lw_g (lw_at lw_m2 29 rfl) rfl
theorem q389 : (Jvm.Cond.fieldLink "StrangerMarket" (67 : Nat) "StrangerMarket" "parting" "I") ∈ lw_all := lw_g (lw_at lw_m2 30 rfl) rfl
theorem q390 : (Jvm.Cond.fieldLink "StrangerMarket" (72 : Nat) "StrangerMarket" "face" "Ljava/lang/String;") ∈ lw_all := lw_g (lw_at lw_m2 31 rfl) rfl
theorem q391 : (Jvm.Cond.fieldLink "StrangerMarket" (76 : Nat) "StrangerMarket" "told" "[I") ∈ lw_all := lw_g (lw_at lw_m2 32 rfl) rfl
theorem q392 : (Jvm.Cond.fieldLink "StrangerMarket" (82 : Nat) "StrangerMarket" "kept" "[LStrangerMarket$Kept;") ∈ lw_all := lw_g (lw_at lw_m2 33 rfl) rfl
theorem q393 : (Jvm.Cond.laysFinal "StrangerMarket" "StrangerMarket" "tape" "[B") ∈ lw_all := lw_g (lw_at lw_m2 34 rfl) rfl
theorem q394 : (Jvm.Cond.soleField "StrangerMarket" "tape") ∈ lw_all := lw_g (lw_at lw_m2 35 rfl) rfl
theorem q395 : (Jvm.Cond.lays "StrangerMarket" "StrangerMarket" "taped" "I") ∈ lw_all := lw_g (lw_at lw_m2 36 rfl) rfl
theorem q396 : (Jvm.Cond.soleField "StrangerMarket" "taped") ∈ lw_all := lw_g (lw_at lw_m2 37 rfl) rfl
theorem q397 : (Jvm.Cond.lays "StrangerMarket" "StrangerMarket" "fault" "I") ∈ lw_all := lw_g (lw_at lw_m2 38 rfl) rfl
theorem q398 : (Jvm.Cond.soleField "StrangerMarket" "fault") ∈ lw_all := lw_g (lw_at lw_m2 39 rfl) rfl
theorem q399 : (Jvm.Cond.lays "StrangerMarket" "StrangerMarket" "county" "LStrangerMarket$County;") ∈ lw_all := lw_g (lw_at lw_m2 40 rfl) rfl
theorem q400 : (Jvm.Cond.soleField "StrangerMarket" "county") ∈ lw_all := lw_g (lw_at lw_m2 41 rfl) rfl
theorem q401 : (Jvm.Cond.laysFinal "StrangerMarket" "StrangerMarket" "now" "LStrangerMarket$Market;") ∈ lw_all := lw_g (lw_at lw_m2 42 rfl) rfl
theorem q402 : (Jvm.Cond.soleField "StrangerMarket" "now") ∈ lw_all := lw_g (lw_at lw_m2 43 rfl) rfl
theorem q403 : (Jvm.Cond.laysFinal "StrangerMarket" "StrangerMarket" "trial" "LStrangerMarket$Market;") ∈ lw_all := lw_g (lw_at lw_m2 44 rfl) rfl
theorem q404 : (Jvm.Cond.soleField "StrangerMarket" "trial") ∈ lw_all := lw_g (lw_at lw_m2 45 rfl) rfl
theorem q405 : (Jvm.Cond.lays "StrangerMarket" "StrangerMarket" "sentence" "LStrangerMarket$Cond;") ∈ lw_all := lw_g (lw_at lw_m2 46 rfl) rfl
theorem q406 : (Jvm.Cond.soleField "StrangerMarket" "sentence") ∈ lw_all := lw_g (lw_at lw_m2 47 rfl) rfl
theorem q407 : (Jvm.Cond.laysFinal "StrangerMarket" "StrangerMarket" "before" "[LStrangerMarket$Market;") ∈ lw_all := lw_g (lw_at lw_m2 48 rfl) rfl
theorem q408 : (Jvm.Cond.soleField "StrangerMarket" "before") ∈ lw_all := lw_g (lw_at lw_m2 49 rfl) rfl
theorem q409 : (Jvm.Cond.lays "StrangerMarket" "StrangerMarket" "befores" "I") ∈ lw_all := lw_g (lw_at lw_m2 50 rfl) rfl
theorem q410 : (Jvm.Cond.soleField "StrangerMarket" "befores") ∈ lw_all := lw_g (lw_at lw_m2 51 rfl) rfl
theorem q411 : (Jvm.Cond.laysFinal "StrangerMarket" "StrangerMarket" "flow" "[I") ∈ lw_all := lw_g (lw_at lw_m2 52 rfl) rfl
theorem q412 : (Jvm.Cond.soleField "StrangerMarket" "flow") ∈ lw_all := lw_g (lw_at lw_m2 53 rfl) rfl
theorem q413 : (Jvm.Cond.laysFinal "StrangerMarket" "StrangerMarket" "left" "[I") ∈ lw_all := lw_g (lw_at lw_m2 54 rfl) rfl
theorem q414 : (Jvm.Cond.soleField "StrangerMarket" "left") ∈ lw_all := lw_g (lw_at lw_m2 55 rfl) rfl
theorem q415 : (Jvm.Cond.lays "StrangerMarket" "StrangerMarket" "asked" "I") ∈ lw_all := lw_g (lw_at lw_m2 56 rfl) rfl
theorem q416 : (Jvm.Cond.soleField "StrangerMarket" "asked") ∈ lw_all := lw_g (lw_at lw_m2 57 rfl) rfl
theorem q417 : (Jvm.Cond.lays "StrangerMarket" "StrangerMarket" "ask" "I") ∈ lw_all := lw_g (lw_at lw_m2 58 rfl) rfl
theorem q418 : (Jvm.Cond.soleField "StrangerMarket" "ask") ∈ lw_all := lw_g (lw_at lw_m2 59 rfl) rfl
theorem q419 : (Jvm.Cond.lays "StrangerMarket" "StrangerMarket" "serving" "I") ∈ lw_all := lw_g (lw_at lw_m2 60 rfl) rfl
theorem q420 : (Jvm.Cond.soleField "StrangerMarket" "serving") ∈ lw_all := lw_g (lw_at lw_m2 61 rfl) rfl
theorem q421 : (Jvm.Cond.laysFinal "StrangerMarket" "StrangerMarket" "row" "[I") ∈ lw_all := lw_g (lw_at lw_m2 62 rfl) rfl
theorem q422 : (Jvm.Cond.soleField "StrangerMarket" "row") ∈ lw_all := lw_g (lw_at lw_m2 63 rfl) rfl
theorem q423 : (Jvm.Cond.laysFinal "StrangerMarket" "StrangerMarket" "chain" "[I") ∈ lw_all := lw_g (lw_at lw_m2 64 rfl) rfl
theorem q424 : (Jvm.Cond.soleField "StrangerMarket" "chain") ∈ lw_all := lw_g (lw_at lw_m2 65 rfl) rfl
theorem q425 : (Jvm.Cond.lays "StrangerMarket" "StrangerMarket" "chains" "I") ∈ lw_all := lw_g (lw_at lw_m2 66 rfl) rfl
theorem q426 : (Jvm.Cond.soleField "StrangerMarket" "chains") ∈ lw_all := lw_g (lw_at lw_m2 67 rfl) rfl
theorem q427 : (Jvm.Cond.lays "StrangerMarket" "StrangerMarket" "parting" "I") ∈ lw_all := lw_g (lw_at lw_m2 68 rfl) rfl
theorem q428 : (Jvm.Cond.soleField "StrangerMarket" "parting") ∈ lw_all := lw_g (lw_at lw_m2 69 rfl) rfl
theorem q429 : (Jvm.Cond.lays "StrangerMarket" "StrangerMarket" "face" "Ljava/lang/String;") ∈ lw_all := lw_g (lw_at lw_m2 70 rfl) rfl
theorem q430 : (Jvm.Cond.soleField "StrangerMarket" "face") ∈ lw_all := lw_g (lw_at lw_m2 71 rfl) rfl
theorem q431 : (Jvm.Cond.laysFinal "StrangerMarket" "StrangerMarket" "told" "[I") ∈ lw_all := lw_g (lw_at lw_m2 72 rfl) rfl
theorem q432 : (Jvm.Cond.soleField "StrangerMarket" "told") ∈ lw_all := lw_g (lw_at lw_m2 73 rfl) rfl
theorem q433 : (Jvm.Cond.laysFinal "StrangerMarket" "StrangerMarket" "kept" "[LStrangerMarket$Kept;") ∈ lw_all := lw_g (lw_at lw_m2 74 rfl) rfl
theorem q434 : (Jvm.Cond.soleField "StrangerMarket" "kept") ∈ lw_all := lw_g (lw_at lw_m2 75 rfl) rfl
theorem q435 : (Jvm.Cond.superclass "StrangerMarket" "java/lang/Object") ∈ lw_all := lw_g (lw_at lw_m2 76 rfl) rfl
theorem q437 : (Jvm.Cond.instanceMethod ({ cls := "StrangerMarket", name := "feed", desc := "(IIIII)I" } : Jvm.MethodName)) ∈ lw_all := lw_g (lw_at lw_m2 78 rfl) rfl
theorem q438 : (Jvm.Cond.selects "StrangerMarket" ({ cls := "StrangerMarket", name := "feed", desc := "(IIIII)I" } : Jvm.MethodName) ({ cls := "StrangerMarket", name := "feed", desc := "(IIIII)I" } : Jvm.MethodName)) ∈ lw_all := lw_g (lw_at lw_m2 79 rfl) rfl
theorem q439 : (Jvm.Cond.code ({ cls := "StrangerMarket", name := "feed", desc := "(IIIII)I" } : Jvm.MethodName) prog_1_method_7_code (6 : Nat) (Option.some Jvm.ClassFile.FieldType.int)) ∈ lw_all := lw_g (lw_at lw_m2 80 rfl) rfl
theorem q440 : (Jvm.Cond.methodLink "StrangerMarket" (89 : Nat) ({ cls := "StrangerMarket", name := "come", desc := "(I)V" } : Jvm.MethodName)) ∈ lw_all := lw_g (lw_at lw_m2 81 rfl) rfl
theorem q441 : (Jvm.Cond.privateMethod ({ cls := "StrangerMarket", name := "come", desc := "(I)V" } : Jvm.MethodName)) ∈ lw_tbl := lw_at lw_m2 82 rfl
theorem q442 : (Jvm.Cond.instanceMethod ({ cls := "StrangerMarket", name := "come", desc := "(I)V" } : Jvm.MethodName)) ∈ lw_all := lw_g (lw_at lw_m2 83 rfl) rfl
theorem q443 : (Jvm.Cond.code ({ cls := "StrangerMarket", name := "come", desc := "(I)V" } : Jvm.MethodName) prog_1_method_6_code (3 : Nat) (Option.none : Option Jvm.ClassFile.FieldType)) ∈ lw_all := lw_g (lw_at lw_m2 84 rfl) rfl
theorem q445 : (Jvm.Cond.instanceMethod ({ cls := "StrangerMarket", name := "end", desc := "(I)Z" } : Jvm.MethodName)) ∈ lw_all := lw_g (lw_at lw_m2 86 rfl) rfl
theorem q446 : (Jvm.Cond.selects "StrangerMarket" ({ cls := "StrangerMarket", name := "end", desc := "(I)Z" } : Jvm.MethodName) ({ cls := "StrangerMarket", name := "end", desc := "(I)Z" } : Jvm.MethodName)) ∈ lw_all := lw_g (lw_at lw_m2 87 rfl) rfl
theorem q447 : (Jvm.Cond.code ({ cls := "StrangerMarket", name := "end", desc := "(I)Z" } : Jvm.MethodName) prog_1_method_8_code (2 : Nat) (Option.some Jvm.ClassFile.FieldType.boolean)) ∈ lw_all := lw_g (lw_at lw_m2 88 rfl) rfl
theorem q449 : (Jvm.Cond.instanceMethod ({ cls := "StrangerMarket", name := "county", desc := "()I" } : Jvm.MethodName)) ∈ lw_all := lw_g (lw_at lw_m2 90 rfl) rfl
theorem q450 : (Jvm.Cond.selects "StrangerMarket" ({ cls := "StrangerMarket", name := "county", desc := "()I" } : Jvm.MethodName) ({ cls := "StrangerMarket", name := "county", desc := "()I" } : Jvm.MethodName)) ∈ lw_all := lw_g (lw_at lw_m2 91 rfl) rfl
theorem q451 : (Jvm.Cond.codeWith ({ cls := "StrangerMarket", name := "county", desc := "()I" } : Jvm.MethodName) prog_1_method_11_code (3 : Nat) (Option.some Jvm.ClassFile.FieldType.int) [((10 : Nat), (58 : Nat), (59 : Nat), (119 : Nat))]) ∈ lw_all := lw_g (lw_at lw_m2 92 rfl) rfl
theorem q452 : (Jvm.Cond.classLink "StrangerMarket" (119 : Nat) "StrangerMarket$Fault") ∈ lw_all := lw_g (lw_at lw_m2 93 rfl) rfl
theorem q453 : (Jvm.Cond.methodLink "StrangerMarket" (93 : Nat) ({ cls := "StrangerMarket", name := "take", desc := "()I" } : Jvm.MethodName)) ∈ lw_all := lw_g (lw_at lw_m2 94 rfl) rfl
theorem q454 : (Jvm.Cond.privateMethod ({ cls := "StrangerMarket", name := "take", desc := "()I" } : Jvm.MethodName)) ∈ lw_tbl := lw_at lw_m2 95 rfl
theorem q455 : (Jvm.Cond.instanceMethod ({ cls := "StrangerMarket", name := "take", desc := "()I" } : Jvm.MethodName)) ∈ lw_all := lw_g (lw_at lw_m2 96 rfl) rfl
theorem q456 : (Jvm.Cond.code ({ cls := "StrangerMarket", name := "take", desc := "()I" } : Jvm.MethodName) prog_1_method_9_code (2 : Nat) (Option.some Jvm.ClassFile.FieldType.int)) ∈ lw_all := lw_g (lw_at lw_m2 97 rfl) rfl
theorem q457 : (Jvm.Cond.classLink "StrangerMarket" (100 : Nat) "StrangerMarket$CountyReader") ∈ lw_all := lw_g (lw_at lw_m2 98 rfl) rfl
theorem q459 : (Jvm.Cond.methodLink "StrangerMarket" (102 : Nat) ({ cls := "StrangerMarket$CountyReader", name := "<init>", desc := "([BI)V" } : Jvm.MethodName)) ∈ lw_all := lw_g (lw_at lw_m2 100 rfl) rfl
theorem q513 : (Jvm.Cond.methodLink "StrangerMarket" (105 : Nat) ({ cls := "StrangerMarket$CountyReader", name := "read", desc := "()LStrangerMarket$County;" } : Jvm.MethodName)) ∈ lw_all := lw_g (lw_at lw_m2 154 rfl) rfl
theorem q798 : (Jvm.Cond.fieldLinkNest "StrangerMarket" (121 : Nat) "StrangerMarket$Fault" "kind" "I" "StrangerMarket") ∈ lw_tbl := lw_at lw_m3 199 rfl
theorem q800 : (Jvm.Cond.fieldLinkNest "StrangerMarket" (124 : Nat) "StrangerMarket$Fault" "place" "I" "StrangerMarket") ∈ lw_tbl := lw_at lw_m3 201 rfl
theorem q921 : (Jvm.Cond.static ({ cls := "StrangerMarket", name := "isIn", desc := "(III)Z" } : Jvm.MethodName)) ∈ lw_all := lw_g (lw_at lw_m4 82 rfl) rfl
theorem q922 : (Jvm.Cond.code ({ cls := "StrangerMarket", name := "isIn", desc := "(III)Z" } : Jvm.MethodName) prog_1_method_1_code (3 : Nat) (Option.some Jvm.ClassFile.FieldType.boolean)) ∈ lw_all := lw_g (lw_at lw_m4 83 rfl) rfl
theorem q938 : (Jvm.Cond.fieldLinkNest "StrangerMarket" (164 : Nat) "StrangerMarket$Person" "foes" "I" "StrangerMarket") ∈ lw_tbl := lw_at lw_m4 99 rfl
theorem q944 : (Jvm.Cond.fieldLinkNest "StrangerMarket" (191 : Nat) "StrangerMarket$Person" "price" "[I" "StrangerMarket") ∈ lw_tbl := lw_at lw_m4 105 rfl
theorem q949 : (Jvm.Cond.fieldLinkNest "StrangerMarket" (301 : Nat) "StrangerMarket$Person" "want" "[I" "StrangerMarket") ∈ lw_tbl := lw_at lw_m4 110 rfl
theorem q952 : (Jvm.Cond.fieldLink "StrangerMarket" (335 : Nat) "StrangerMarket$Person" "name" "Ljava/lang/String;") ∈ lw_all := lw_g (lw_at lw_m4 113 rfl) rfl
theorem q992 : (Jvm.Cond.selects "StrangerMarket" ({ cls := "java/lang/Object", name := "getClass", desc := "()Ljava/lang/Class;" } : Jvm.MethodName) ({ cls := "java/lang/Object", name := "getClass", desc := "()Ljava/lang/Class;" } : Jvm.MethodName)) ∈ lw_all := lw_g (lw_at lw_m4 153 rfl) rfl
theorem q1080 : (Jvm.Cond.static ({ cls := "StrangerMarket", name := "isOf", desc := "(II)Z" } : Jvm.MethodName)) ∈ lw_all := lw_g (lw_at lw_m5 1 rfl) rfl
theorem q1081 : (Jvm.Cond.code ({ cls := "StrangerMarket", name := "isOf", desc := "(II)Z" } : Jvm.MethodName) prog_1_method_2_code (2 : Nat) (Option.some Jvm.ClassFile.FieldType.boolean)) ∈ lw_all := lw_g (lw_at lw_m5 2 rfl) rfl
theorem q1101 : (Jvm.Cond.instanceMethod ({ cls := "StrangerMarket", name := "fault", desc := "()I" } : Jvm.MethodName)) ∈ lw_all := lw_g (lw_at lw_m5 22 rfl) rfl
theorem q1102 : (Jvm.Cond.selects "StrangerMarket" ({ cls := "StrangerMarket", name := "fault", desc := "()I" } : Jvm.MethodName) ({ cls := "StrangerMarket", name := "fault", desc := "()I" } : Jvm.MethodName)) ∈ lw_all := lw_g (lw_at lw_m5 23 rfl) rfl
theorem q1103 : (Jvm.Cond.code ({ cls := "StrangerMarket", name := "fault", desc := "()I" } : Jvm.MethodName) prog_1_method_12_code (1 : Nat) (Option.some Jvm.ClassFile.FieldType.int)) ∈ lw_all := lw_g (lw_at lw_m5 24 rfl) rfl
theorem q1105 : (Jvm.Cond.instanceMethod ({ cls := "StrangerMarket", name := "good", desc := "(III)I" } : Jvm.MethodName)) ∈ lw_all := lw_g (lw_at lw_m5 26 rfl) rfl
theorem q1106 : (Jvm.Cond.selects "StrangerMarket" ({ cls := "StrangerMarket", name := "good", desc := "(III)I" } : Jvm.MethodName) ({ cls := "StrangerMarket", name := "good", desc := "(III)I" } : Jvm.MethodName)) ∈ lw_all := lw_g (lw_at lw_m5 27 rfl) rfl
theorem q1107 : (Jvm.Cond.code ({ cls := "StrangerMarket", name := "good", desc := "(III)I" } : Jvm.MethodName) prog_1_method_18_code (4 : Nat) (Option.some Jvm.ClassFile.FieldType.int)) ∈ lw_all := lw_g (lw_at lw_m5 28 rfl) rfl
theorem q1108 : (Jvm.Cond.methodLink "StrangerMarket" (145 : Nat) ({ cls := "StrangerMarket", name := "isPerson", desc := "(I)Z" } : Jvm.MethodName)) ∈ lw_all := lw_g (lw_at lw_m5 29 rfl) rfl
theorem q1109 : (Jvm.Cond.privateMethod ({ cls := "StrangerMarket", name := "isPerson", desc := "(I)Z" } : Jvm.MethodName)) ∈ lw_tbl := lw_at lw_m5 30 rfl
theorem q1110 : (Jvm.Cond.instanceMethod ({ cls := "StrangerMarket", name := "isPerson", desc := "(I)Z" } : Jvm.MethodName)) ∈ lw_all := lw_g (lw_at lw_m5 31 rfl) rfl
theorem q1111 : (Jvm.Cond.code ({ cls := "StrangerMarket", name := "isPerson", desc := "(I)Z" } : Jvm.MethodName) prog_1_method_13_code (2 : Nat) (Option.some Jvm.ClassFile.FieldType.boolean)) ∈ lw_all := lw_g (lw_at lw_m5 32 rfl) rfl
theorem q1112 : (Jvm.Cond.methodLink "StrangerMarket" (127 : Nat) ({ cls := "StrangerMarket$County", name := "isPerson", desc := "(I)Z" } : Jvm.MethodName)) ∈ lw_all := lw_g (lw_at lw_m5 33 rfl) rfl
theorem q1118 : (Jvm.Cond.methodLink "StrangerMarket" (184 : Nat) ({ cls := "StrangerMarket", name := "isGood", desc := "(I)Z" } : Jvm.MethodName)) ∈ lw_all := lw_g (lw_at lw_m5 39 rfl) rfl
theorem q1119 : (Jvm.Cond.privateMethod ({ cls := "StrangerMarket", name := "isGood", desc := "(I)Z" } : Jvm.MethodName)) ∈ lw_tbl := lw_at lw_m5 40 rfl
theorem q1120 : (Jvm.Cond.instanceMethod ({ cls := "StrangerMarket", name := "isGood", desc := "(I)Z" } : Jvm.MethodName)) ∈ lw_all := lw_g (lw_at lw_m5 41 rfl) rfl
theorem q1121 : (Jvm.Cond.code ({ cls := "StrangerMarket", name := "isGood", desc := "(I)Z" } : Jvm.MethodName) prog_1_method_14_code (2 : Nat) (Option.some Jvm.ClassFile.FieldType.boolean)) ∈ lw_all := lw_g (lw_at lw_m5 42 rfl) rfl
theorem q1122 : (Jvm.Cond.methodLink "StrangerMarket" (131 : Nat) ({ cls := "StrangerMarket$County", name := "isGood", desc := "(I)Z" } : Jvm.MethodName)) ∈ lw_all := lw_g (lw_at lw_m5 43 rfl) rfl
theorem q1126 : (Jvm.Cond.methodLink "StrangerMarket" (146 : Nat) ({ cls := "StrangerMarket", name := "isIn", desc := "(III)Z" } : Jvm.MethodName)) ∈ lw_all := lw_g (lw_at lw_m5 47 rfl) rfl
theorem q1127 : (Jvm.Cond.methodLink "StrangerMarket" (160 : Nat) ({ cls := "StrangerMarket$Market", name := "person", desc := "(I)LStrangerMarket$Person;" } : Jvm.MethodName)) ∈ lw_all := lw_g (lw_at lw_m5 48 rfl) rfl
theorem q1129 : (Jvm.Cond.instanceMethod ({ cls := "StrangerMarket", name := "deals", desc := "(II)I" } : Jvm.MethodName)) ∈ lw_all := lw_g (lw_at lw_m5 50 rfl) rfl
theorem q1130 : (Jvm.Cond.selects "StrangerMarket" ({ cls := "StrangerMarket", name := "deals", desc := "(II)I" } : Jvm.MethodName) ({ cls := "StrangerMarket", name := "deals", desc := "(II)I" } : Jvm.MethodName)) ∈ lw_all := lw_g (lw_at lw_m5 51 rfl) rfl
theorem q1131 : (Jvm.Cond.code ({ cls := "StrangerMarket", name := "deals", desc := "(II)I" } : Jvm.MethodName) prog_1_method_19_code (3 : Nat) (Option.some Jvm.ClassFile.FieldType.int)) ∈ lw_all := lw_g (lw_at lw_m5 52 rfl) rfl
theorem q1133 : (Jvm.Cond.instanceMethod ({ cls := "StrangerMarket", name := "now", desc := "(I)I" } : Jvm.MethodName)) ∈ lw_all := lw_g (lw_at lw_m5 54 rfl) rfl
theorem q1134 : (Jvm.Cond.selects "StrangerMarket" ({ cls := "StrangerMarket", name := "now", desc := "(I)I" } : Jvm.MethodName) ({ cls := "StrangerMarket", name := "now", desc := "(I)I" } : Jvm.MethodName)) ∈ lw_all := lw_g (lw_at lw_m5 55 rfl) rfl
theorem q1135 : (Jvm.Cond.code ({ cls := "StrangerMarket", name := "now", desc := "(I)I" } : Jvm.MethodName) prog_1_method_22_code (7 : Nat) (Option.some Jvm.ClassFile.FieldType.int)) ∈ lw_all := lw_g (lw_at lw_m5 56 rfl) rfl
theorem q1136 : (Jvm.Cond.methodLink "StrangerMarket" (200 : Nat) ({ cls := "StrangerMarket", name := "fed", desc := "(LStrangerMarket$Market;)I" } : Jvm.MethodName)) ∈ lw_all := lw_g (lw_at lw_m5 57 rfl) rfl
theorem q1137 : (Jvm.Cond.privateMethod ({ cls := "StrangerMarket", name := "fed", desc := "(LStrangerMarket$Market;)I" } : Jvm.MethodName)) ∈ lw_tbl := lw_at lw_m5 58 rfl
theorem q1138 : (Jvm.Cond.instanceMethod ({ cls := "StrangerMarket", name := "fed", desc := "(LStrangerMarket$Market;)I" } : Jvm.MethodName)) ∈ lw_all := lw_g (lw_at lw_m5 59 rfl) rfl
theorem q1139 : (Jvm.Cond.code ({ cls := "StrangerMarket", name := "fed", desc := "(LStrangerMarket$Market;)I" } : Jvm.MethodName) prog_1_method_21_code (4 : Nat) (Option.some Jvm.ClassFile.FieldType.int)) ∈ lw_all := lw_g (lw_at lw_m5 60 rfl) rfl
theorem q1140 : (Jvm.Cond.methodLink "StrangerMarket" (143 : Nat) ({ cls := "StrangerMarket", name := "persons", desc := "()I" } : Jvm.MethodName)) ∈ lw_all := lw_g (lw_at lw_m5 61 rfl) rfl
theorem q1141 : (Jvm.Cond.privateMethod ({ cls := "StrangerMarket", name := "persons", desc := "()I" } : Jvm.MethodName)) ∈ lw_tbl := lw_at lw_m5 62 rfl
theorem q1142 : (Jvm.Cond.instanceMethod ({ cls := "StrangerMarket", name := "persons", desc := "()I" } : Jvm.MethodName)) ∈ lw_all := lw_g (lw_at lw_m5 63 rfl) rfl
theorem q1143 : (Jvm.Cond.code ({ cls := "StrangerMarket", name := "persons", desc := "()I" } : Jvm.MethodName) prog_1_method_15_code (1 : Nat) (Option.some Jvm.ClassFile.FieldType.int)) ∈ lw_all := lw_g (lw_at lw_m5 64 rfl) rfl
theorem q1144 : (Jvm.Cond.methodLink "StrangerMarket" (138 : Nat) ({ cls := "java/util/ArrayList", name := "size", desc := "()I" } : Jvm.MethodName)) ∈ lw_all := lw_g (lw_at lw_m5 65 rfl) rfl
theorem q1145 : (Jvm.Cond.methodLink "StrangerMarket" (181 : Nat) ({ cls := "StrangerMarket$Market", name := "wanted", desc := "(I)I" } : Jvm.MethodName)) ∈ lw_all := lw_g (lw_at lw_m5 66 rfl) rfl
theorem q1153 : (Jvm.Cond.methodLink "StrangerMarket" (213 : Nat) ({ cls := "StrangerMarket", name := "many", desc := "(I)I" } : Jvm.MethodName)) ∈ lw_all := lw_g (lw_at lw_m5 74 rfl) rfl
theorem q1154 : (Jvm.Cond.static ({ cls := "StrangerMarket", name := "many", desc := "(I)I" } : Jvm.MethodName)) ∈ lw_all := lw_g (lw_at lw_m5 75 rfl) rfl
theorem q1155 : (Jvm.Cond.code ({ cls := "StrangerMarket", name := "many", desc := "(I)I" } : Jvm.MethodName) prog_1_method_3_code (1 : Nat) (Option.some Jvm.ClassFile.FieldType.int)) ∈ lw_all := lw_g (lw_at lw_m5 76 rfl) rfl
theorem q1156 : (Jvm.Cond.methodLink "StrangerMarket" (1 : Nat) ({ cls := "java/lang/Integer", name := "bitCount", desc := "(I)I" } : Jvm.MethodName)) ∈ lw_all := lw_g (lw_at lw_m5 77 rfl) rfl
theorem q1162 : (Jvm.Cond.methodLink "StrangerMarket" (216 : Nat) ({ cls := "StrangerMarket", name := "sum", desc := "([I)I" } : Jvm.MethodName)) ∈ lw_all := lw_g (lw_at lw_m5 83 rfl) rfl
theorem q1163 : (Jvm.Cond.static ({ cls := "StrangerMarket", name := "sum", desc := "([I)I" } : Jvm.MethodName)) ∈ lw_all := lw_g (lw_at lw_m5 84 rfl) rfl
theorem q1164 : (Jvm.Cond.code ({ cls := "StrangerMarket", name := "sum", desc := "([I)I" } : Jvm.MethodName) prog_1_method_20_code (6 : Nat) (Option.some Jvm.ClassFile.FieldType.int)) ∈ lw_all := lw_g (lw_at lw_m5 85 rfl) rfl
theorem q1166 : (Jvm.Cond.instanceMethod ({ cls := "StrangerMarket", name := "buy", desc := "(III)I" } : Jvm.MethodName)) ∈ lw_all := lw_g (lw_at lw_m5 87 rfl) rfl
theorem q1167 : (Jvm.Cond.selects "StrangerMarket" ({ cls := "StrangerMarket", name := "buy", desc := "(III)I" } : Jvm.MethodName) ({ cls := "StrangerMarket", name := "buy", desc := "(III)I" } : Jvm.MethodName)) ∈ lw_all := lw_g (lw_at lw_m5 88 rfl) rfl
theorem q1168 : (Jvm.Cond.code ({ cls := "StrangerMarket", name := "buy", desc := "(III)I" } : Jvm.MethodName) prog_1_method_25_code (4 : Nat) (Option.some Jvm.ClassFile.FieldType.int)) ∈ lw_all := lw_g (lw_at lw_m5 89 rfl) rfl
theorem q1169 : (Jvm.Cond.classLink "StrangerMarket" (232 : Nat) "StrangerMarket$Buys") ∈ lw_all := lw_g (lw_at lw_m5 90 rfl) rfl
theorem q1171 : (Jvm.Cond.methodLink "StrangerMarket" (234 : Nat) ({ cls := "StrangerMarket$Buys", name := "<init>", desc := "(III)V" } : Jvm.MethodName)) ∈ lw_all := lw_g (lw_at lw_m5 92 rfl) rfl
theorem q1205 : (Jvm.Cond.methodLink "StrangerMarket" (237 : Nat) ({ cls := "StrangerMarket", name := "does", desc := "(LStrangerMarket$Act;)I" } : Jvm.MethodName)) ∈ lw_all := lw_g (lw_at lw_m5 126 rfl) rfl
theorem q1206 : (Jvm.Cond.privateMethod ({ cls := "StrangerMarket", name := "does", desc := "(LStrangerMarket$Act;)I" } : Jvm.MethodName)) ∈ lw_tbl := lw_at lw_m5 127 rfl
theorem q1207 : (Jvm.Cond.instanceMethod ({ cls := "StrangerMarket", name := "does", desc := "(LStrangerMarket$Act;)I" } : Jvm.MethodName)) ∈ lw_all := lw_g (lw_at lw_m5 128 rfl) rfl
theorem q1208 : (Jvm.Cond.code ({ cls := "StrangerMarket", name := "does", desc := "(LStrangerMarket$Act;)I" } : Jvm.MethodName) prog_1_method_24_code (3 : Nat) (Option.some Jvm.ClassFile.FieldType.int)) ∈ lw_all := lw_g (lw_at lw_m5 129 rfl) rfl
theorem q1209 : (Jvm.Cond.methodLink "StrangerMarket" (220 : Nat) ({ cls := "StrangerMarket$Market", name := "as", desc := "(LStrangerMarket$Market;)LStrangerMarket$Market;" } : Jvm.MethodName)) ∈ lw_all := lw_g (lw_at lw_m5 130 rfl) rfl
theorem q1216 : (Jvm.Cond.methodLink "StrangerMarket" (224 : Nat) ({ cls := "StrangerMarket$Act", name := "does", desc := "(LStrangerMarket$Market;)I" } : Jvm.MethodName)) ∈ lw_all := lw_g (lw_at lw_m5 137 rfl) rfl
theorem q1314 : (Jvm.Cond.methodLink "StrangerMarket" (229 : Nat) ({ cls := "StrangerMarket", name := "snap", desc := "()V" } : Jvm.MethodName)) ∈ lw_all := lw_g (lw_at lw_m5 235 rfl) rfl
theorem q1315 : (Jvm.Cond.privateMethod ({ cls := "StrangerMarket", name := "snap", desc := "()V" } : Jvm.MethodName)) ∈ lw_tbl := lw_at lw_m5 236 rfl
theorem q1316 : (Jvm.Cond.instanceMethod ({ cls := "StrangerMarket", name := "snap", desc := "()V" } : Jvm.MethodName)) ∈ lw_all := lw_g (lw_at lw_m5 237 rfl) rfl
theorem q1317 : (Jvm.Cond.code ({ cls := "StrangerMarket", name := "snap", desc := "()V" } : Jvm.MethodName) prog_1_method_23_code (3 : Nat) (Option.none : Option Jvm.ClassFile.FieldType)) ∈ lw_all := lw_g (lw_at lw_m5 238 rfl) rfl
theorem q1319 : (Jvm.Cond.instanceMethod ({ cls := "StrangerMarket", name := "nod", desc := "(II)I" } : Jvm.MethodName)) ∈ lw_all := lw_g (lw_at lw_m6 0 rfl) rfl
theorem q1320 : (Jvm.Cond.selects "StrangerMarket" ({ cls := "StrangerMarket", name := "nod", desc := "(II)I" } : Jvm.MethodName) ({ cls := "StrangerMarket", name := "nod", desc := "(II)I" } : Jvm.MethodName)) ∈ lw_all := lw_g (lw_at lw_m6 1 rfl) rfl
theorem q1321 : (Jvm.Cond.code ({ cls := "StrangerMarket", name := "nod", desc := "(II)I" } : Jvm.MethodName) prog_1_method_26_code (3 : Nat) (Option.some Jvm.ClassFile.FieldType.int)) ∈ lw_all := lw_g (lw_at lw_m6 2 rfl) rfl
theorem q1322 : (Jvm.Cond.classLink "StrangerMarket" (240 : Nat) "StrangerMarket$Nods") ∈ lw_all := lw_g (lw_at lw_m6 3 rfl) rfl
theorem q1324 : (Jvm.Cond.methodLink "StrangerMarket" (242 : Nat) ({ cls := "StrangerMarket$Nods", name := "<init>", desc := "(II)V" } : Jvm.MethodName)) ∈ lw_all := lw_g (lw_at lw_m6 5 rfl) rfl
theorem q1332 : (Jvm.Cond.instanceMethod ({ cls := "StrangerMarket", name := "veil", desc := "(I)I" } : Jvm.MethodName)) ∈ lw_all := lw_g (lw_at lw_m6 13 rfl) rfl
theorem q1333 : (Jvm.Cond.selects "StrangerMarket" ({ cls := "StrangerMarket", name := "veil", desc := "(I)I" } : Jvm.MethodName) ({ cls := "StrangerMarket", name := "veil", desc := "(I)I" } : Jvm.MethodName)) ∈ lw_all := lw_g (lw_at lw_m6 14 rfl) rfl
theorem q1334 : (Jvm.Cond.code ({ cls := "StrangerMarket", name := "veil", desc := "(I)I" } : Jvm.MethodName) prog_1_method_27_code (2 : Nat) (Option.some Jvm.ClassFile.FieldType.int)) ∈ lw_all := lw_g (lw_at lw_m6 15 rfl) rfl
theorem q1335 : (Jvm.Cond.classLink "StrangerMarket" (245 : Nat) "StrangerMarket$Veils") ∈ lw_all := lw_g (lw_at lw_m6 16 rfl) rfl
theorem q1337 : (Jvm.Cond.methodLink "StrangerMarket" (247 : Nat) ({ cls := "StrangerMarket$Veils", name := "<init>", desc := "(I)V" } : Jvm.MethodName)) ∈ lw_all := lw_g (lw_at lw_m6 18 rfl) rfl
theorem q1344 : (Jvm.Cond.instanceMethod ({ cls := "StrangerMarket", name := "tell", desc := "(III)I" } : Jvm.MethodName)) ∈ lw_all := lw_g (lw_at lw_m6 25 rfl) rfl
theorem q1345 : (Jvm.Cond.selects "StrangerMarket" ({ cls := "StrangerMarket", name := "tell", desc := "(III)I" } : Jvm.MethodName) ({ cls := "StrangerMarket", name := "tell", desc := "(III)I" } : Jvm.MethodName)) ∈ lw_all := lw_g (lw_at lw_m6 26 rfl) rfl
theorem q1346 : (Jvm.Cond.code ({ cls := "StrangerMarket", name := "tell", desc := "(III)I" } : Jvm.MethodName) prog_1_method_28_code (4 : Nat) (Option.some Jvm.ClassFile.FieldType.int)) ∈ lw_all := lw_g (lw_at lw_m6 27 rfl) rfl
theorem q1347 : (Jvm.Cond.classLink "StrangerMarket" (249 : Nat) "StrangerMarket$Tells") ∈ lw_all := lw_g (lw_at lw_m6 28 rfl) rfl
theorem q1349 : (Jvm.Cond.methodLink "StrangerMarket" (251 : Nat) ({ cls := "StrangerMarket$Tells", name := "<init>", desc := "(III)V" } : Jvm.MethodName)) ∈ lw_all := lw_g (lw_at lw_m6 30 rfl) rfl
theorem q1360 : (Jvm.Cond.instanceMethod ({ cls := "StrangerMarket", name := "days", desc := "(I)I" } : Jvm.MethodName)) ∈ lw_all := lw_g (lw_at lw_m6 41 rfl) rfl
theorem q1361 : (Jvm.Cond.selects "StrangerMarket" ({ cls := "StrangerMarket", name := "days", desc := "(I)I" } : Jvm.MethodName) ({ cls := "StrangerMarket", name := "days", desc := "(I)I" } : Jvm.MethodName)) ∈ lw_all := lw_g (lw_at lw_m6 42 rfl) rfl
theorem q1362 : (Jvm.Cond.code ({ cls := "StrangerMarket", name := "days", desc := "(I)I" } : Jvm.MethodName) prog_1_method_29_code (2 : Nat) (Option.some Jvm.ClassFile.FieldType.int)) ∈ lw_all := lw_g (lw_at lw_m6 43 rfl) rfl
theorem q1363 : (Jvm.Cond.methodLink "StrangerMarket" (252 : Nat) ({ cls := "StrangerMarket$Market", name := "isOver", desc := "()Z" } : Jvm.MethodName)) ∈ lw_all := lw_g (lw_at lw_m6 44 rfl) rfl
theorem q1364 : (Jvm.Cond.methodLink "StrangerMarket" (256 : Nat) ({ cls := "StrangerMarket$Market", name := "passAll", desc := "(I)I" } : Jvm.MethodName)) ∈ lw_all := lw_g (lw_at lw_m6 45 rfl) rfl
theorem q1366 : (Jvm.Cond.instanceMethod ({ cls := "StrangerMarket", name := "undo", desc := "()I" } : Jvm.MethodName)) ∈ lw_all := lw_g (lw_at lw_m6 47 rfl) rfl
theorem q1367 : (Jvm.Cond.selects "StrangerMarket" ({ cls := "StrangerMarket", name := "undo", desc := "()I" } : Jvm.MethodName) ({ cls := "StrangerMarket", name := "undo", desc := "()I" } : Jvm.MethodName)) ∈ lw_all := lw_g (lw_at lw_m6 48 rfl) rfl
theorem q1368 : (Jvm.Cond.code ({ cls := "StrangerMarket", name := "undo", desc := "()I" } : Jvm.MethodName) prog_1_method_30_code (1 : Nat) (Option.some Jvm.ClassFile.FieldType.int)) ∈ lw_all := lw_g (lw_at lw_m6 49 rfl) rfl
theorem q1370 : (Jvm.Cond.instanceMethod ({ cls := "StrangerMarket", name := "most", desc := "(I)I" } : Jvm.MethodName)) ∈ lw_all := lw_g (lw_at lw_m6 51 rfl) rfl
theorem q1371 : (Jvm.Cond.selects "StrangerMarket" ({ cls := "StrangerMarket", name := "most", desc := "(I)I" } : Jvm.MethodName) ({ cls := "StrangerMarket", name := "most", desc := "(I)I" } : Jvm.MethodName)) ∈ lw_all := lw_g (lw_at lw_m6 52 rfl) rfl
theorem q1372 : (Jvm.Cond.code ({ cls := "StrangerMarket", name := "most", desc := "(I)I" } : Jvm.MethodName) prog_1_method_33_code (5 : Nat) (Option.some Jvm.ClassFile.FieldType.int)) ∈ lw_all := lw_g (lw_at lw_m6 53 rfl) rfl
theorem q1373 : (Jvm.Cond.methodLink "StrangerMarket" (281 : Nat) ({ cls := "java/util/Arrays", name := "fill", desc := "([II)V" } : Jvm.MethodName)) ∈ lw_all := lw_g (lw_at lw_m6 54 rfl) rfl
theorem q1374 : (Jvm.Cond.methodLink "StrangerMarket" (278 : Nat) ({ cls := "StrangerMarket", name := "comes", desc := "(I)Z" } : Jvm.MethodName)) ∈ lw_all := lw_g (lw_at lw_m6 55 rfl) rfl
theorem q1375 : (Jvm.Cond.privateMethod ({ cls := "StrangerMarket", name := "comes", desc := "(I)Z" } : Jvm.MethodName)) ∈ lw_tbl := lw_at lw_m6 56 rfl
theorem q1376 : (Jvm.Cond.instanceMethod ({ cls := "StrangerMarket", name := "comes", desc := "(I)Z" } : Jvm.MethodName)) ∈ lw_all := lw_g (lw_at lw_m6 57 rfl) rfl
theorem q1377 : (Jvm.Cond.code ({ cls := "StrangerMarket", name := "comes", desc := "(I)Z" } : Jvm.MethodName) prog_1_method_32_code (4 : Nat) (Option.some Jvm.ClassFile.FieldType.boolean)) ∈ lw_all := lw_g (lw_at lw_m6 58 rfl) rfl
theorem q1378 : (Jvm.Cond.methodLink "StrangerMarket" (271 : Nat) ({ cls := "StrangerMarket", name := "isOf", desc := "(II)Z" } : Jvm.MethodName)) ∈ lw_all := lw_g (lw_at lw_m6 59 rfl) rfl
theorem q1379 : (Jvm.Cond.methodLink "StrangerMarket" (274 : Nat) ({ cls := "StrangerMarket", name := "room", desc := "(II)I" } : Jvm.MethodName)) ∈ lw_all := lw_g (lw_at lw_m6 60 rfl) rfl
theorem q1380 : (Jvm.Cond.privateMethod ({ cls := "StrangerMarket", name := "room", desc := "(II)I" } : Jvm.MethodName)) ∈ lw_tbl := lw_at lw_m6 61 rfl
theorem q1381 : (Jvm.Cond.instanceMethod ({ cls := "StrangerMarket", name := "room", desc := "(II)I" } : Jvm.MethodName)) ∈ lw_all := lw_g (lw_at lw_m6 62 rfl) rfl
theorem q1382 : (Jvm.Cond.code ({ cls := "StrangerMarket", name := "room", desc := "(II)I" } : Jvm.MethodName) prog_1_method_31_code (3 : Nat) (Option.some Jvm.ClassFile.FieldType.int)) ∈ lw_all := lw_g (lw_at lw_m6 63 rfl) rfl
theorem q1383 : (Jvm.Cond.methodLink "StrangerMarket" (259 : Nat) ({ cls := "StrangerMarket$Market", name := "may", desc := "(II)Z" } : Jvm.MethodName)) ∈ lw_all := lw_g (lw_at lw_m6 64 rfl) rfl
theorem q1384 : (Jvm.Cond.methodLink "StrangerMarket" (263 : Nat) ({ cls := "StrangerMarket$Market", name := "areFoes", desc := "(II)Z" } : Jvm.MethodName)) ∈ lw_all := lw_g (lw_at lw_m6 65 rfl) rfl
theorem q1386 : (Jvm.Cond.instanceMethod ({ cls := "StrangerMarket", name := "who", desc := "()I" } : Jvm.MethodName)) ∈ lw_all := lw_g (lw_at lw_m6 67 rfl) rfl
theorem q1387 : (Jvm.Cond.selects "StrangerMarket" ({ cls := "StrangerMarket", name := "who", desc := "()I" } : Jvm.MethodName) ({ cls := "StrangerMarket", name := "who", desc := "()I" } : Jvm.MethodName)) ∈ lw_all := lw_g (lw_at lw_m6 68 rfl) rfl
theorem q1388 : (Jvm.Cond.code ({ cls := "StrangerMarket", name := "who", desc := "()I" } : Jvm.MethodName) prog_1_method_36_code (4 : Nat) (Option.some Jvm.ClassFile.FieldType.int)) ∈ lw_all := lw_g (lw_at lw_m6 69 rfl) rfl
theorem q1389 : (Jvm.Cond.methodLink "StrangerMarket" (287 : Nat) ({ cls := "StrangerMarket", name := "onTape", desc := "(I)I" } : Jvm.MethodName)) ∈ lw_all := lw_g (lw_at lw_m6 70 rfl) rfl
theorem q1390 : (Jvm.Cond.privateMethod ({ cls := "StrangerMarket", name := "onTape", desc := "(I)I" } : Jvm.MethodName)) ∈ lw_tbl := lw_at lw_m6 71 rfl
theorem q1391 : (Jvm.Cond.instanceMethod ({ cls := "StrangerMarket", name := "onTape", desc := "(I)I" } : Jvm.MethodName)) ∈ lw_all := lw_g (lw_at lw_m6 72 rfl) rfl
theorem q1392 : (Jvm.Cond.code ({ cls := "StrangerMarket", name := "onTape", desc := "(I)I" } : Jvm.MethodName) prog_1_method_10_code (2 : Nat) (Option.some Jvm.ClassFile.FieldType.int)) ∈ lw_all := lw_g (lw_at lw_m6 73 rfl) rfl
theorem q1393 : (Jvm.Cond.methodLink "StrangerMarket" (295 : Nat) ({ cls := "StrangerMarket", name := "isMasked", desc := "(II)Z" } : Jvm.MethodName)) ∈ lw_all := lw_g (lw_at lw_m6 74 rfl) rfl
theorem q1394 : (Jvm.Cond.privateMethod ({ cls := "StrangerMarket", name := "isMasked", desc := "(II)Z" } : Jvm.MethodName)) ∈ lw_tbl := lw_at lw_m6 75 rfl
theorem q1395 : (Jvm.Cond.instanceMethod ({ cls := "StrangerMarket", name := "isMasked", desc := "(II)Z" } : Jvm.MethodName)) ∈ lw_all := lw_g (lw_at lw_m6 76 rfl) rfl
theorem q1396 : (Jvm.Cond.code ({ cls := "StrangerMarket", name := "isMasked", desc := "(II)Z" } : Jvm.MethodName) prog_1_method_34_code (4 : Nat) (Option.some Jvm.ClassFile.FieldType.boolean)) ∈ lw_all := lw_g (lw_at lw_m6 77 rfl) rfl
theorem q1397 : (Jvm.Cond.methodLink "StrangerMarket" (298 : Nat) ({ cls := "StrangerMarket", name := "leftBy", desc := "(II)I" } : Jvm.MethodName)) ∈ lw_all := lw_g (lw_at lw_m6 78 rfl) rfl
theorem q1398 : (Jvm.Cond.privateMethod ({ cls := "StrangerMarket", name := "leftBy", desc := "(II)I" } : Jvm.MethodName)) ∈ lw_tbl := lw_at lw_m6 79 rfl
theorem q1399 : (Jvm.Cond.instanceMethod ({ cls := "StrangerMarket", name := "leftBy", desc := "(II)I" } : Jvm.MethodName)) ∈ lw_all := lw_g (lw_at lw_m6 80 rfl) rfl
theorem q1400 : (Jvm.Cond.code ({ cls := "StrangerMarket", name := "leftBy", desc := "(II)I" } : Jvm.MethodName) prog_1_method_35_code (4 : Nat) (Option.some Jvm.ClassFile.FieldType.int)) ∈ lw_all := lw_g (lw_at lw_m6 81 rfl) rfl
theorem q1401 : (Jvm.Cond.methodLink "StrangerMarket" (169 : Nat) ({ cls := "StrangerMarket$Market", name := "mays", desc := "(I)I" } : Jvm.MethodName)) ∈ lw_all := lw_g (lw_at lw_m6 82 rfl) rfl
theorem q1405 : (Jvm.Cond.methodLink "StrangerMarket" (290 : Nat) ({ cls := "java/lang/Math", name := "max", desc := "(II)I" } : Jvm.MethodName)) ∈ lw_all := lw_g (lw_at lw_m6 86 rfl) rfl
theorem q1407 : (Jvm.Cond.instanceMethod ({ cls := "StrangerMarket", name := "ask", desc := "()I" } : Jvm.MethodName)) ∈ lw_all := lw_g (lw_at lw_m6 88 rfl) rfl
theorem q1408 : (Jvm.Cond.selects "StrangerMarket" ({ cls := "StrangerMarket", name := "ask", desc := "()I" } : Jvm.MethodName) ({ cls := "StrangerMarket", name := "ask", desc := "()I" } : Jvm.MethodName)) ∈ lw_all := lw_g (lw_at lw_m6 89 rfl) rfl
theorem q1409 : (Jvm.Cond.code ({ cls := "StrangerMarket", name := "ask", desc := "()I" } : Jvm.MethodName) prog_1_method_37_code (1 : Nat) (Option.some Jvm.ClassFile.FieldType.int)) ∈ lw_all := lw_g (lw_at lw_m6 90 rfl) rfl
theorem q1411 : (Jvm.Cond.instanceMethod ({ cls := "StrangerMarket", name := "serve", desc := "(I)I" } : Jvm.MethodName)) ∈ lw_all := lw_g (lw_at lw_m6 92 rfl) rfl
theorem q1412 : (Jvm.Cond.selects "StrangerMarket" ({ cls := "StrangerMarket", name := "serve", desc := "(I)I" } : Jvm.MethodName) ({ cls := "StrangerMarket", name := "serve", desc := "(I)I" } : Jvm.MethodName)) ∈ lw_all := lw_g (lw_at lw_m6 93 rfl) rfl
theorem q1413 : (Jvm.Cond.code ({ cls := "StrangerMarket", name := "serve", desc := "(I)I" } : Jvm.MethodName) prog_1_method_39_code (5 : Nat) (Option.some Jvm.ClassFile.FieldType.int)) ∈ lw_all := lw_g (lw_at lw_m6 94 rfl) rfl
theorem q1414 : (Jvm.Cond.methodLink "StrangerMarket" (302 : Nat) ({ cls := "StrangerMarket$Person", name := "sells", desc := "(I)Z" } : Jvm.MethodName)) ∈ lw_all := lw_g (lw_at lw_m6 95 rfl) rfl
theorem q1415 : (Jvm.Cond.methodLink "StrangerMarket" (305 : Nat) ({ cls := "StrangerMarket", name := "isServed", desc := "(II)Z" } : Jvm.MethodName)) ∈ lw_all := lw_g (lw_at lw_m6 96 rfl) rfl
theorem q1416 : (Jvm.Cond.privateMethod ({ cls := "StrangerMarket", name := "isServed", desc := "(II)Z" } : Jvm.MethodName)) ∈ lw_tbl := lw_at lw_m6 97 rfl
theorem q1417 : (Jvm.Cond.instanceMethod ({ cls := "StrangerMarket", name := "isServed", desc := "(II)Z" } : Jvm.MethodName)) ∈ lw_all := lw_g (lw_at lw_m6 98 rfl) rfl
theorem q1418 : (Jvm.Cond.code ({ cls := "StrangerMarket", name := "isServed", desc := "(II)Z" } : Jvm.MethodName) prog_1_method_38_code (4 : Nat) (Option.some Jvm.ClassFile.FieldType.boolean)) ∈ lw_all := lw_g (lw_at lw_m6 99 rfl) rfl
theorem q1420 : (Jvm.Cond.instanceMethod ({ cls := "StrangerMarket", name := "serving", desc := "()I" } : Jvm.MethodName)) ∈ lw_all := lw_g (lw_at lw_m6 101 rfl) rfl
theorem q1421 : (Jvm.Cond.selects "StrangerMarket" ({ cls := "StrangerMarket", name := "serving", desc := "()I" } : Jvm.MethodName) ({ cls := "StrangerMarket", name := "serving", desc := "()I" } : Jvm.MethodName)) ∈ lw_all := lw_g (lw_at lw_m6 102 rfl) rfl
theorem q1422 : (Jvm.Cond.code ({ cls := "StrangerMarket", name := "serving", desc := "()I" } : Jvm.MethodName) prog_1_method_40_code (1 : Nat) (Option.some Jvm.ClassFile.FieldType.int)) ∈ lw_all := lw_g (lw_at lw_m6 103 rfl) rfl
theorem q1424 : (Jvm.Cond.instanceMethod ({ cls := "StrangerMarket", name := "chain", desc := "(II)I" } : Jvm.MethodName)) ∈ lw_all := lw_g (lw_at lw_m6 105 rfl) rfl
theorem q1425 : (Jvm.Cond.selects "StrangerMarket" ({ cls := "StrangerMarket", name := "chain", desc := "(II)I" } : Jvm.MethodName) ({ cls := "StrangerMarket", name := "chain", desc := "(II)I" } : Jvm.MethodName)) ∈ lw_all := lw_g (lw_at lw_m6 106 rfl) rfl
theorem q1426 : (Jvm.Cond.code ({ cls := "StrangerMarket", name := "chain", desc := "(II)I" } : Jvm.MethodName) prog_1_method_42_code (4 : Nat) (Option.some Jvm.ClassFile.FieldType.int)) ∈ lw_all := lw_g (lw_at lw_m6 107 rfl) rfl
theorem q1427 : (Jvm.Cond.methodLink "StrangerMarket" (308 : Nat) ({ cls := "StrangerMarket", name := "leads", desc := "(IIIII)Z" } : Jvm.MethodName)) ∈ lw_all := lw_g (lw_at lw_m6 108 rfl) rfl
theorem q1428 : (Jvm.Cond.privateMethod ({ cls := "StrangerMarket", name := "leads", desc := "(IIIII)Z" } : Jvm.MethodName)) ∈ lw_tbl := lw_at lw_m6 109 rfl
theorem q1429 : (Jvm.Cond.instanceMethod ({ cls := "StrangerMarket", name := "leads", desc := "(IIIII)Z" } : Jvm.MethodName)) ∈ lw_all := lw_g (lw_at lw_m6 110 rfl) rfl
theorem q1430 : (Jvm.Cond.code ({ cls := "StrangerMarket", name := "leads", desc := "(IIIII)Z" } : Jvm.MethodName) prog_1_method_41_code (7 : Nat) (Option.some Jvm.ClassFile.FieldType.boolean)) ∈ lw_all := lw_g (lw_at lw_m6 111 rfl) rfl
theorem q1431 : (Jvm.Cond.methodLink "StrangerMarket" (312 : Nat) ({ cls := "java/lang/System", name := "arraycopy", desc := "(Ljava/lang/Object;ILjava/lang/Object;II)V" } : Jvm.MethodName)) ∈ lw_all := lw_g (lw_at lw_m6 112 rfl) rfl
theorem q1433 : (Jvm.Cond.instanceMethod ({ cls := "StrangerMarket", name := "chainAt", desc := "(I)I" } : Jvm.MethodName)) ∈ lw_all := lw_g (lw_at lw_m6 114 rfl) rfl
theorem q1434 : (Jvm.Cond.selects "StrangerMarket" ({ cls := "StrangerMarket", name := "chainAt", desc := "(I)I" } : Jvm.MethodName) ({ cls := "StrangerMarket", name := "chainAt", desc := "(I)I" } : Jvm.MethodName)) ∈ lw_all := lw_g (lw_at lw_m6 115 rfl) rfl
theorem q1435 : (Jvm.Cond.code ({ cls := "StrangerMarket", name := "chainAt", desc := "(I)I" } : Jvm.MethodName) prog_1_method_43_code (2 : Nat) (Option.some Jvm.ClassFile.FieldType.int)) ∈ lw_all := lw_g (lw_at lw_m6 116 rfl) rfl
theorem q1437 : (Jvm.Cond.instanceMethod ({ cls := "StrangerMarket", name := "out", desc := "(I)I" } : Jvm.MethodName)) ∈ lw_all := lw_g (lw_at lw_m6 118 rfl) rfl
theorem q1438 : (Jvm.Cond.selects "StrangerMarket" ({ cls := "StrangerMarket", name := "out", desc := "(I)I" } : Jvm.MethodName) ({ cls := "StrangerMarket", name := "out", desc := "(I)I" } : Jvm.MethodName)) ∈ lw_all := lw_g (lw_at lw_m6 119 rfl) rfl
theorem q1439 : (Jvm.Cond.code ({ cls := "StrangerMarket", name := "out", desc := "(I)I" } : Jvm.MethodName) prog_1_method_45_code (4 : Nat) (Option.some Jvm.ClassFile.FieldType.int)) ∈ lw_all := lw_g (lw_at lw_m6 120 rfl) rfl
theorem q1440 : (Jvm.Cond.methodLink "StrangerMarket" (321 : Nat) ({ cls := "StrangerMarket", name := "all", desc := "()I" } : Jvm.MethodName)) ∈ lw_all := lw_g (lw_at lw_m6 121 rfl) rfl
theorem q1441 : (Jvm.Cond.privateMethod ({ cls := "StrangerMarket", name := "all", desc := "()I" } : Jvm.MethodName)) ∈ lw_tbl := lw_at lw_m6 122 rfl
theorem q1442 : (Jvm.Cond.instanceMethod ({ cls := "StrangerMarket", name := "all", desc := "()I" } : Jvm.MethodName)) ∈ lw_all := lw_g (lw_at lw_m6 123 rfl) rfl
theorem q1443 : (Jvm.Cond.code ({ cls := "StrangerMarket", name := "all", desc := "()I" } : Jvm.MethodName) prog_1_method_16_code (1 : Nat) (Option.some Jvm.ClassFile.FieldType.int)) ∈ lw_all := lw_g (lw_at lw_m6 124 rfl) rfl
theorem q1444 : (Jvm.Cond.methodLink "StrangerMarket" (324 : Nat) ({ cls := "StrangerMarket", name := "tellsOn", desc := "(II)I" } : Jvm.MethodName)) ∈ lw_all := lw_g (lw_at lw_m6 125 rfl) rfl
theorem q1445 : (Jvm.Cond.privateMethod ({ cls := "StrangerMarket", name := "tellsOn", desc := "(II)I" } : Jvm.MethodName)) ∈ lw_tbl := lw_at lw_m6 126 rfl
theorem q1446 : (Jvm.Cond.instanceMethod ({ cls := "StrangerMarket", name := "tellsOn", desc := "(II)I" } : Jvm.MethodName)) ∈ lw_all := lw_g (lw_at lw_m6 127 rfl) rfl
theorem q1447 : (Jvm.Cond.code ({ cls := "StrangerMarket", name := "tellsOn", desc := "(II)I" } : Jvm.MethodName) prog_1_method_44_code (5 : Nat) (Option.some Jvm.ClassFile.FieldType.int)) ∈ lw_all := lw_g (lw_at lw_m6 128 rfl) rfl
theorem q1448 : (Jvm.Cond.methodLink "StrangerMarket" (157 : Nat) ({ cls := "StrangerMarket$Market", name := "known", desc := "(I)I" } : Jvm.MethodName)) ∈ lw_all := lw_g (lw_at lw_m6 129 rfl) rfl
theorem q1450 : (Jvm.Cond.instanceMethod ({ cls := "StrangerMarket", name := "apart", desc := "(II)I" } : Jvm.MethodName)) ∈ lw_all := lw_g (lw_at lw_m6 131 rfl) rfl
theorem q1451 : (Jvm.Cond.selects "StrangerMarket" ({ cls := "StrangerMarket", name := "apart", desc := "(II)I" } : Jvm.MethodName) ({ cls := "StrangerMarket", name := "apart", desc := "(II)I" } : Jvm.MethodName)) ∈ lw_all := lw_g (lw_at lw_m6 132 rfl) rfl
theorem q1452 : (Jvm.Cond.code ({ cls := "StrangerMarket", name := "apart", desc := "(II)I" } : Jvm.MethodName) prog_1_method_47_code (6 : Nat) (Option.some Jvm.ClassFile.FieldType.int)) ∈ lw_all := lw_g (lw_at lw_m6 133 rfl) rfl
theorem q1453 : (Jvm.Cond.methodLink "StrangerMarket" (327 : Nat) ({ cls := "StrangerMarket$Market", name := "know", desc := "(II)Z" } : Jvm.MethodName)) ∈ lw_all := lw_g (lw_at lw_m6 134 rfl) rfl
theorem q1454 : (Jvm.Cond.methodLink "StrangerMarket" (330 : Nat) ({ cls := "StrangerMarket", name := "comesTo", desc := "(III)Z" } : Jvm.MethodName)) ∈ lw_all := lw_g (lw_at lw_m6 135 rfl) rfl
theorem q1455 : (Jvm.Cond.privateMethod ({ cls := "StrangerMarket", name := "comesTo", desc := "(III)Z" } : Jvm.MethodName)) ∈ lw_tbl := lw_at lw_m6 136 rfl
theorem q1456 : (Jvm.Cond.instanceMethod ({ cls := "StrangerMarket", name := "comesTo", desc := "(III)Z" } : Jvm.MethodName)) ∈ lw_all := lw_g (lw_at lw_m6 137 rfl) rfl
theorem q1457 : (Jvm.Cond.code ({ cls := "StrangerMarket", name := "comesTo", desc := "(III)Z" } : Jvm.MethodName) prog_1_method_46_code (6 : Nat) (Option.some Jvm.ClassFile.FieldType.boolean)) ∈ lw_all := lw_g (lw_at lw_m6 138 rfl) rfl
theorem q1459 : (Jvm.Cond.instanceMethod ({ cls := "StrangerMarket", name := "parting", desc := "()I" } : Jvm.MethodName)) ∈ lw_all := lw_g (lw_at lw_m6 140 rfl) rfl
theorem q1460 : (Jvm.Cond.selects "StrangerMarket" ({ cls := "StrangerMarket", name := "parting", desc := "()I" } : Jvm.MethodName) ({ cls := "StrangerMarket", name := "parting", desc := "()I" } : Jvm.MethodName)) ∈ lw_all := lw_g (lw_at lw_m6 141 rfl) rfl
theorem q1461 : (Jvm.Cond.code ({ cls := "StrangerMarket", name := "parting", desc := "()I" } : Jvm.MethodName) prog_1_method_48_code (1 : Nat) (Option.some Jvm.ClassFile.FieldType.int)) ∈ lw_all := lw_g (lw_at lw_m6 142 rfl) rfl
theorem q1463 : (Jvm.Cond.instanceMethod ({ cls := "StrangerMarket", name := "recluse", desc := "()I" } : Jvm.MethodName)) ∈ lw_all := lw_g (lw_at lw_m6 144 rfl) rfl
theorem q1464 : (Jvm.Cond.selects "StrangerMarket" ({ cls := "StrangerMarket", name := "recluse", desc := "()I" } : Jvm.MethodName) ({ cls := "StrangerMarket", name := "recluse", desc := "()I" } : Jvm.MethodName)) ∈ lw_all := lw_g (lw_at lw_m6 145 rfl) rfl
theorem q1465 : (Jvm.Cond.code ({ cls := "StrangerMarket", name := "recluse", desc := "()I" } : Jvm.MethodName) prog_1_method_49_code (3 : Nat) (Option.some Jvm.ClassFile.FieldType.int)) ∈ lw_all := lw_g (lw_at lw_m6 146 rfl) rfl
theorem q1467 : (Jvm.Cond.instanceMethod ({ cls := "StrangerMarket", name := "face", desc := "(I)I" } : Jvm.MethodName)) ∈ lw_all := lw_g (lw_at lw_m6 148 rfl) rfl
theorem q1468 : (Jvm.Cond.selects "StrangerMarket" ({ cls := "StrangerMarket", name := "face", desc := "(I)I" } : Jvm.MethodName) ({ cls := "StrangerMarket", name := "face", desc := "(I)I" } : Jvm.MethodName)) ∈ lw_all := lw_g (lw_at lw_m6 149 rfl) rfl
theorem q1469 : (Jvm.Cond.code ({ cls := "StrangerMarket", name := "face", desc := "(I)I" } : Jvm.MethodName) prog_1_method_50_code (4 : Nat) (Option.some Jvm.ClassFile.FieldType.int)) ∈ lw_all := lw_g (lw_at lw_m6 150 rfl) rfl
theorem q1470 : (Jvm.Cond.classLink "StrangerMarket" (333 : Nat) "java/lang/StringBuilder") ∈ lw_all := lw_g (lw_at lw_m6 151 rfl) rfl
theorem q1471 : (Jvm.Cond.methodLink "StrangerMarket" (338 : Nat) ({ cls := "java/lang/StringBuilder", name := "<init>", desc := "(Ljava/lang/String;)V" } : Jvm.MethodName)) ∈ lw_all := lw_g (lw_at lw_m6 152 rfl) rfl
theorem q1482 : (Jvm.Cond.stringRef "StrangerMarket" (341 : Nat) " knows") ∈ lw_tbl := lw_at lw_m6 163 rfl
theorem q1483 : (Jvm.Cond.methodLink "StrangerMarket" (343 : Nat) ({ cls := "java/lang/StringBuilder", name := "append", desc := "(Ljava/lang/String;)Ljava/lang/StringBuilder;" } : Jvm.MethodName)) ∈ lw_all := lw_g (lw_at lw_m6 164 rfl) rfl
theorem q1484 : (Jvm.Cond.methodLink "StrangerMarket" (347 : Nat) ({ cls := "java/lang/StringBuilder", name := "append", desc := "(C)Ljava/lang/StringBuilder;" } : Jvm.MethodName)) ∈ lw_all := lw_g (lw_at lw_m6 165 rfl) rfl
theorem q1485 : (Jvm.Cond.stringRef "StrangerMarket" (350 : Nat) " nobody") ∈ lw_tbl := lw_at lw_m6 166 rfl
theorem q1486 : (Jvm.Cond.methodLink "StrangerMarket" (352 : Nat) ({ cls := "StrangerMarket$Market", name := "isVeiled", desc := "(I)Z" } : Jvm.MethodName)) ∈ lw_all := lw_g (lw_at lw_m6 167 rfl) rfl
theorem q1487 : (Jvm.Cond.stringRef "StrangerMarket" (355 : Nat) " veiled") ∈ lw_tbl := lw_at lw_m6 168 rfl
theorem q1488 : (Jvm.Cond.methodLink "StrangerMarket" (357 : Nat) ({ cls := "StrangerMarket$Market", name := "isHome", desc := "(I)Z" } : Jvm.MethodName)) ∈ lw_all := lw_g (lw_at lw_m6 169 rfl) rfl
theorem q1489 : (Jvm.Cond.stringRef "StrangerMarket" (360 : Nat) " home") ∈ lw_tbl := lw_at lw_m6 170 rfl
theorem q1490 : (Jvm.Cond.methodLink "StrangerMarket" (362 : Nat) ({ cls := "java/lang/StringBuilder", name := "toString", desc := "()Ljava/lang/String;" } : Jvm.MethodName)) ∈ lw_all := lw_g (lw_at lw_m6 171 rfl) rfl
theorem q1491 : (Jvm.Cond.methodLink "StrangerMarket" (366 : Nat) ({ cls := "java/lang/String", name := "length", desc := "()I" } : Jvm.MethodName)) ∈ lw_all := lw_g (lw_at lw_m6 172 rfl) rfl
theorem q1493 : (Jvm.Cond.instanceMethod ({ cls := "StrangerMarket", name := "byteAt", desc := "(I)I" } : Jvm.MethodName)) ∈ lw_all := lw_g (lw_at lw_m6 174 rfl) rfl
theorem q1494 : (Jvm.Cond.selects "StrangerMarket" ({ cls := "StrangerMarket", name := "byteAt", desc := "(I)I" } : Jvm.MethodName) ({ cls := "StrangerMarket", name := "byteAt", desc := "(I)I" } : Jvm.MethodName)) ∈ lw_all := lw_g (lw_at lw_m6 175 rfl) rfl
theorem q1495 : (Jvm.Cond.code ({ cls := "StrangerMarket", name := "byteAt", desc := "(I)I" } : Jvm.MethodName) prog_1_method_51_code (2 : Nat) (Option.some Jvm.ClassFile.FieldType.int)) ∈ lw_all := lw_g (lw_at lw_m6 176 rfl) rfl
theorem q1496 : (Jvm.Cond.methodLink "StrangerMarket" (371 : Nat) ({ cls := "java/lang/String", name := "charAt", desc := "(I)C" } : Jvm.MethodName)) ∈ lw_all := lw_g (lw_at lw_m6 177 rfl) rfl
theorem q1508 : (Jvm.Cond.instanceMethod ({ cls := "StrangerMarket", name := "drawn", desc := "(II)I" } : Jvm.MethodName)) ∈ lw_all := lw_g (lw_at lw_m6 189 rfl) rfl
theorem q1509 : (Jvm.Cond.selects "StrangerMarket" ({ cls := "StrangerMarket", name := "drawn", desc := "(II)I" } : Jvm.MethodName) ({ cls := "StrangerMarket", name := "drawn", desc := "(II)I" } : Jvm.MethodName)) ∈ lw_all := lw_g (lw_at lw_m6 190 rfl) rfl
theorem q1510 : (Jvm.Cond.code ({ cls := "StrangerMarket", name := "drawn", desc := "(II)I" } : Jvm.MethodName) prog_1_method_52_code (3 : Nat) (Option.some Jvm.ClassFile.FieldType.int)) ∈ lw_all := lw_g (lw_at lw_m6 191 rfl) rfl
theorem q1511 : (Jvm.Cond.methodLink "StrangerMarket" (375 : Nat) ({ cls := "StrangerMarket$Market", name := "drawn", desc := "(II)I" } : Jvm.MethodName)) ∈ lw_all := lw_g (lw_at lw_m6 192 rfl) rfl
theorem q1535 : (Jvm.Cond.instanceMethod ({ cls := "StrangerMarket", name := "odds", desc := "(III)I" } : Jvm.MethodName)) ∈ lw_all := lw_g (lw_at lw_m6 216 rfl) rfl
theorem q1536 : (Jvm.Cond.selects "StrangerMarket" ({ cls := "StrangerMarket", name := "odds", desc := "(III)I" } : Jvm.MethodName) ({ cls := "StrangerMarket", name := "odds", desc := "(III)I" } : Jvm.MethodName)) ∈ lw_all := lw_g (lw_at lw_m6 217 rfl) rfl
theorem q1537 : (Jvm.Cond.code ({ cls := "StrangerMarket", name := "odds", desc := "(III)I" } : Jvm.MethodName) prog_1_method_53_code (6 : Nat) (Option.some Jvm.ClassFile.FieldType.int)) ∈ lw_all := lw_g (lw_at lw_m6 218 rfl) rfl
theorem q1539 : (Jvm.Cond.instanceMethod ({ cls := "StrangerMarket", name := "book", desc := "(I)I" } : Jvm.MethodName)) ∈ lw_all := lw_g (lw_at lw_m6 220 rfl) rfl
theorem q1540 : (Jvm.Cond.selects "StrangerMarket" ({ cls := "StrangerMarket", name := "book", desc := "(I)I" } : Jvm.MethodName) ({ cls := "StrangerMarket", name := "book", desc := "(I)I" } : Jvm.MethodName)) ∈ lw_all := lw_g (lw_at lw_m6 221 rfl) rfl
theorem q1541 : (Jvm.Cond.codeWith ({ cls := "StrangerMarket", name := "book", desc := "(I)I" } : Jvm.MethodName) prog_1_method_54_code (4 : Nat) (Option.some Jvm.ClassFile.FieldType.int) [((23 : Nat), (56 : Nat), (57 : Nat), (119 : Nat))]) ∈ lw_all := lw_g (lw_at lw_m6 222 rfl) rfl
theorem q1542 : (Jvm.Cond.classLink "StrangerMarket" (378 : Nat) "StrangerMarket$BookReader") ∈ lw_all := lw_g (lw_at lw_m6 223 rfl) rfl
theorem q1544 : (Jvm.Cond.methodLink "StrangerMarket" (380 : Nat) ({ cls := "StrangerMarket$BookReader", name := "<init>", desc := "([BILStrangerMarket$County;)V" } : Jvm.MethodName)) ∈ lw_all := lw_g (lw_at lw_m6 225 rfl) rfl
theorem q1566 : (Jvm.Cond.methodLink "StrangerMarket" (383 : Nat) ({ cls := "StrangerMarket$BookReader", name := "read", desc := "()Ljava/util/ArrayList;" } : Jvm.MethodName)) ∈ lw_all := lw_g (lw_at lw_m7 7 rfl) rfl
theorem q1629 : (Jvm.Cond.methodLink "StrangerMarket" (386 : Nat) ({ cls := "StrangerMarket", name := "lived", desc := "(Ljava/util/ArrayList;Z)I" } : Jvm.MethodName)) ∈ lw_all := lw_g (lw_at lw_m7 70 rfl) rfl
theorem q1630 : (Jvm.Cond.privateMethod ({ cls := "StrangerMarket", name := "lived", desc := "(Ljava/util/ArrayList;Z)I" } : Jvm.MethodName)) ∈ lw_tbl := lw_at lw_m7 71 rfl
theorem q1631 : (Jvm.Cond.instanceMethod ({ cls := "StrangerMarket", name := "lived", desc := "(Ljava/util/ArrayList;Z)I" } : Jvm.MethodName)) ∈ lw_all := lw_g (lw_at lw_m7 72 rfl) rfl
theorem q1632 : (Jvm.Cond.code ({ cls := "StrangerMarket", name := "lived", desc := "(Ljava/util/ArrayList;Z)I" } : Jvm.MethodName) prog_1_method_55_code (5 : Nat) (Option.some Jvm.ClassFile.FieldType.int)) ∈ lw_all := lw_g (lw_at lw_m7 73 rfl) rfl
theorem q1633 : (Jvm.Cond.methodLink "StrangerMarket" (390 : Nat) ({ cls := "java/util/ArrayList", name := "get", desc := "(I)Ljava/lang/Object;" } : Jvm.MethodName)) ∈ lw_all := lw_g (lw_at lw_m7 74 rfl) rfl
theorem q1634 : (Jvm.Cond.classLink "StrangerMarket" (225 : Nat) "StrangerMarket$Act") ∈ lw_all := lw_g (lw_at lw_m7 75 rfl) rfl
theorem q1636 : (Jvm.Cond.instanceMethod ({ cls := "StrangerMarket", name := "told", desc := "(I)I" } : Jvm.MethodName)) ∈ lw_all := lw_g (lw_at lw_m7 77 rfl) rfl
theorem q1637 : (Jvm.Cond.selects "StrangerMarket" ({ cls := "StrangerMarket", name := "told", desc := "(I)I" } : Jvm.MethodName) ({ cls := "StrangerMarket", name := "told", desc := "(I)I" } : Jvm.MethodName)) ∈ lw_all := lw_g (lw_at lw_m7 78 rfl) rfl
theorem q1638 : (Jvm.Cond.code ({ cls := "StrangerMarket", name := "told", desc := "(I)I" } : Jvm.MethodName) prog_1_method_56_code (2 : Nat) (Option.some Jvm.ClassFile.FieldType.int)) ∈ lw_all := lw_g (lw_at lw_m7 79 rfl) rfl
theorem q1640 : (Jvm.Cond.instanceMethod ({ cls := "StrangerMarket", name := "sentence", desc := "()I" } : Jvm.MethodName)) ∈ lw_all := lw_g (lw_at lw_m7 81 rfl) rfl
theorem q1641 : (Jvm.Cond.selects "StrangerMarket" ({ cls := "StrangerMarket", name := "sentence", desc := "()I" } : Jvm.MethodName) ({ cls := "StrangerMarket", name := "sentence", desc := "()I" } : Jvm.MethodName)) ∈ lw_all := lw_g (lw_at lw_m7 82 rfl) rfl
theorem q1642 : (Jvm.Cond.codeWith ({ cls := "StrangerMarket", name := "sentence", desc := "()I" } : Jvm.MethodName) prog_1_method_57_code (3 : Nat) (Option.some Jvm.ClassFile.FieldType.int) [((10 : Nat), (39 : Nat), (40 : Nat), (119 : Nat))]) ∈ lw_all := lw_g (lw_at lw_m7 83 rfl) rfl
theorem q1643 : (Jvm.Cond.classLink "StrangerMarket" (394 : Nat) "StrangerMarket$SentenceReader") ∈ lw_all := lw_g (lw_at lw_m7 84 rfl) rfl
theorem q1645 : (Jvm.Cond.methodLink "StrangerMarket" (396 : Nat) ({ cls := "StrangerMarket$SentenceReader", name := "<init>", desc := "([BILStrangerMarket$County;)V" } : Jvm.MethodName)) ∈ lw_all := lw_g (lw_at lw_m7 86 rfl) rfl
theorem q1651 : (Jvm.Cond.fieldLinkNest "StrangerMarket" (400 : Nat) "StrangerMarket$SentenceReader" "ones" "I" "StrangerMarket") ∈ lw_tbl := lw_at lw_m7 92 rfl
theorem q1669 : (Jvm.Cond.methodLink "StrangerMarket" (397 : Nat) ({ cls := "StrangerMarket$SentenceReader", name := "read", desc := "()LStrangerMarket$Cond;" } : Jvm.MethodName)) ∈ lw_all := lw_g (lw_at lw_m7 110 rfl) rfl
theorem q1798 : (Jvm.Cond.instanceMethod ({ cls := "StrangerMarket", name := "said", desc := "(I)I" } : Jvm.MethodName)) ∈ lw_all := lw_g (lw_at lw_m7 239 rfl) rfl
theorem q1799 : (Jvm.Cond.selects "StrangerMarket" ({ cls := "StrangerMarket", name := "said", desc := "(I)I" } : Jvm.MethodName) ({ cls := "StrangerMarket", name := "said", desc := "(I)I" } : Jvm.MethodName)) ∈ lw_all := lw_g (lw_at lw_m8 0 rfl) rfl
theorem q1800 : (Jvm.Cond.code ({ cls := "StrangerMarket", name := "said", desc := "(I)I" } : Jvm.MethodName) prog_1_method_58_code (4 : Nat) (Option.some Jvm.ClassFile.FieldType.int)) ∈ lw_all := lw_g (lw_at lw_m8 1 rfl) rfl
theorem q1801 : (Jvm.Cond.methodLink "StrangerMarket" (403 : Nat) ({ cls := "StrangerMarket$Cond", name := "holds", desc := "(LStrangerMarket$Market;I)Z" } : Jvm.MethodName)) ∈ lw_all := lw_g (lw_at lw_m8 2 rfl) rfl
theorem q1838 : (Jvm.Cond.instanceMethod ({ cls := "StrangerMarket", name := "image", desc := "(I)Z" } : Jvm.MethodName)) ∈ lw_all := lw_g (lw_at lw_m8 39 rfl) rfl
theorem q1839 : (Jvm.Cond.selects "StrangerMarket" ({ cls := "StrangerMarket", name := "image", desc := "(I)Z" } : Jvm.MethodName) ({ cls := "StrangerMarket", name := "image", desc := "(I)Z" } : Jvm.MethodName)) ∈ lw_all := lw_g (lw_at lw_m8 40 rfl) rfl
theorem q1840 : (Jvm.Cond.code ({ cls := "StrangerMarket", name := "image", desc := "(I)Z" } : Jvm.MethodName) prog_1_method_59_code (2 : Nat) (Option.some Jvm.ClassFile.FieldType.boolean)) ∈ lw_all := lw_g (lw_at lw_m8 41 rfl) rfl
theorem q1842 : (Jvm.Cond.instanceMethod ({ cls := "StrangerMarket", name := "restore", desc := "(I)Z" } : Jvm.MethodName)) ∈ lw_all := lw_g (lw_at lw_m8 43 rfl) rfl
theorem q1843 : (Jvm.Cond.selects "StrangerMarket" ({ cls := "StrangerMarket", name := "restore", desc := "(I)Z" } : Jvm.MethodName) ({ cls := "StrangerMarket", name := "restore", desc := "(I)Z" } : Jvm.MethodName)) ∈ lw_all := lw_g (lw_at lw_m8 44 rfl) rfl
theorem q1844 : (Jvm.Cond.code ({ cls := "StrangerMarket", name := "restore", desc := "(I)Z" } : Jvm.MethodName) prog_1_method_60_code (2 : Nat) (Option.some Jvm.ClassFile.FieldType.boolean)) ∈ lw_all := lw_g (lw_at lw_m8 45 rfl) rfl
theorem q1846 : (Jvm.Cond.instanceMethod ({ cls := "StrangerMarket", name := "count", desc := "(I)I" } : Jvm.MethodName)) ∈ lw_all := lw_g (lw_at lw_m8 47 rfl) rfl
theorem q1847 : (Jvm.Cond.selects "StrangerMarket" ({ cls := "StrangerMarket", name := "count", desc := "(I)I" } : Jvm.MethodName) ({ cls := "StrangerMarket", name := "count", desc := "(I)I" } : Jvm.MethodName)) ∈ lw_all := lw_g (lw_at lw_m8 48 rfl) rfl
theorem q1848 : (Jvm.Cond.code ({ cls := "StrangerMarket", name := "count", desc := "(I)I" } : Jvm.MethodName) prog_1_method_61_code (2 : Nat) (Option.some Jvm.ClassFile.FieldType.int)) ∈ lw_all := lw_g (lw_at lw_m8 49 rfl) rfl
theorem q1854 : (Jvm.Cond.instanceMethod ({ cls := "StrangerMarket", name := "person", desc := "(II)I" } : Jvm.MethodName)) ∈ lw_all := lw_g (lw_at lw_m8 55 rfl) rfl
theorem q1855 : (Jvm.Cond.selects "StrangerMarket" ({ cls := "StrangerMarket", name := "person", desc := "(II)I" } : Jvm.MethodName) ({ cls := "StrangerMarket", name := "person", desc := "(II)I" } : Jvm.MethodName)) ∈ lw_all := lw_g (lw_at lw_m8 56 rfl) rfl
theorem q1856 : (Jvm.Cond.code ({ cls := "StrangerMarket", name := "person", desc := "(II)I" } : Jvm.MethodName) prog_1_method_17_code (3 : Nat) (Option.some Jvm.ClassFile.FieldType.int)) ∈ lw_all := lw_g (lw_at lw_m8 57 rfl) rfl
theorem q1857 : (Jvm.Cond.methodLink "StrangerMarket" (150 : Nat) ({ cls := "StrangerMarket", name := "need", desc := "(Z)V" } : Jvm.MethodName)) ∈ lw_all := lw_g (lw_at lw_m8 58 rfl) rfl
theorem q1858 : (Jvm.Cond.static ({ cls := "StrangerMarket", name := "need", desc := "(Z)V" } : Jvm.MethodName)) ∈ lw_all := lw_g (lw_at lw_m8 59 rfl) rfl
theorem q1859 : (Jvm.Cond.code ({ cls := "StrangerMarket", name := "need", desc := "(Z)V" } : Jvm.MethodName) prog_1_method_4_code (1 : Nat) (Option.none : Option Jvm.ClassFile.FieldType)) ∈ lw_all := lw_g (lw_at lw_m8 60 rfl) rfl
theorem q1860 : (Jvm.Cond.classLink "StrangerMarket" (7 : Nat) "java/util/NoSuchElementException") ∈ lw_all := lw_g (lw_at lw_m8 61 rfl) rfl
theorem q1871 : (Jvm.Cond.methodLink "StrangerMarket" (9 : Nat) ({ cls := "java/util/NoSuchElementException", name := "<init>", desc := "()V" } : Jvm.MethodName)) ∈ lw_all := lw_g (lw_at lw_m8 72 rfl) rfl
theorem q2561 : (Jvm.Cond.castable "StrangerMarket" "java/lang/Object") ∈ lw_tbl := lw_at lw_m11 42 rfl
theorem q145 : (Jvm.Cond.initialized "StrangerMarket$Person") ∈ lw_all := lw_g (lw_at lw_m1 26 rfl) rfl
theorem q912 : (Jvm.Cond.instantiable "StrangerMarket$Person" (7 : Nat)) ∈ lw_all := lw_g (lw_at lw_m4 73 rfl) rfl
theorem q925 : (Jvm.Cond.instanceMethod ({ cls := "StrangerMarket$Person", name := "<init>", desc := "(Ljava/lang/String;I)V" } : Jvm.MethodName)) ∈ lw_all := lw_g (lw_at lw_m4 86 rfl) rfl
theorem q926 : (Jvm.Cond.code ({ cls := "StrangerMarket$Person", name := "<init>", desc := "(Ljava/lang/String;I)V" } : Jvm.MethodName) prog_17_method_1_code (3 : Nat) (Option.none : Option Jvm.ClassFile.FieldType)) ∈ lw_all := lw_g (lw_at lw_m4 87 rfl) rfl
theorem q927 : (Jvm.Cond.methodLink "StrangerMarket$Person" (3 : Nat) ({ cls := "StrangerMarket$Named", name := "<init>", desc := "(Ljava/lang/String;)V" } : Jvm.MethodName)) ∈ lw_all := lw_g (lw_at lw_m4 88 rfl) rfl
theorem q931 : (Jvm.Cond.methodLink "StrangerMarket$Person" (25 : Nat) ({ cls := "java/util/Arrays", name := "fill", desc := "([II)V" } : Jvm.MethodName)) ∈ lw_all := lw_g (lw_at lw_m4 92 rfl) rfl
theorem q932 : (Jvm.Cond.fieldLink "StrangerMarket$Person" (21 : Nat) "StrangerMarket$Person" "coins" "I") ∈ lw_all := lw_g (lw_at lw_m4 93 rfl) rfl
theorem q939 : (Jvm.Cond.fieldLink "StrangerMarket$Person" (9 : Nat) "StrangerMarket$Person" "stock" "[I") ∈ lw_all := lw_g (lw_at lw_m4 100 rfl) rfl
theorem q942 : (Jvm.Cond.fieldLink "StrangerMarket$Person" (15 : Nat) "StrangerMarket$Person" "price" "[I") ∈ lw_all := lw_g (lw_at lw_m4 103 rfl) rfl
theorem q946 : (Jvm.Cond.fieldLink "StrangerMarket$Person" (18 : Nat) "StrangerMarket$Person" "want" "[I") ∈ lw_all := lw_g (lw_at lw_m4 107 rfl) rfl
theorem q953 : (Jvm.Cond.sameField "StrangerMarket$Person" "StrangerMarket$Named" "name" "Ljava/lang/String;") ∈ lw_all := lw_g (lw_at lw_m4 114 rfl) rfl
theorem q954 : (Jvm.Cond.laysFinal "StrangerMarket$Person" "StrangerMarket$Person" "coins" "I") ∈ lw_all := lw_g (lw_at lw_m4 115 rfl) rfl
theorem q955 : (Jvm.Cond.soleField "StrangerMarket$Person" "coins") ∈ lw_all := lw_g (lw_at lw_m4 116 rfl) rfl
theorem q956 : (Jvm.Cond.lays "StrangerMarket$Person" "StrangerMarket$Person" "knows" "I") ∈ lw_all := lw_g (lw_at lw_m4 117 rfl) rfl
theorem q957 : (Jvm.Cond.soleField "StrangerMarket$Person" "knows") ∈ lw_all := lw_g (lw_at lw_m4 118 rfl) rfl
theorem q958 : (Jvm.Cond.lays "StrangerMarket$Person" "StrangerMarket$Person" "foes" "I") ∈ lw_all := lw_g (lw_at lw_m4 119 rfl) rfl
theorem q959 : (Jvm.Cond.soleField "StrangerMarket$Person" "foes") ∈ lw_all := lw_g (lw_at lw_m4 120 rfl) rfl
theorem q960 : (Jvm.Cond.laysFinal "StrangerMarket$Person" "StrangerMarket$Person" "stock" "[I") ∈ lw_all := lw_g (lw_at lw_m4 121 rfl) rfl
theorem q961 : (Jvm.Cond.soleField "StrangerMarket$Person" "stock") ∈ lw_all := lw_g (lw_at lw_m4 122 rfl) rfl
theorem q962 : (Jvm.Cond.laysFinal "StrangerMarket$Person" "StrangerMarket$Person" "price" "[I") ∈ lw_all := lw_g (lw_at lw_m4 123 rfl) rfl
theorem q963 : (Jvm.Cond.soleField "StrangerMarket$Person" "price") ∈ lw_all := lw_g (lw_at lw_m4 124 rfl) rfl
theorem q964 : (Jvm.Cond.laysFinal "StrangerMarket$Person" "StrangerMarket$Person" "want" "[I") ∈ lw_all := lw_g (lw_at lw_m4 125 rfl) rfl
theorem q965 : (Jvm.Cond.soleField "StrangerMarket$Person" "want") ∈ lw_all := lw_g (lw_at lw_m4 126 rfl) rfl
theorem q966 : (Jvm.Cond.laysFinal "StrangerMarket$Person" "StrangerMarket$Named" "name" "Ljava/lang/String;") ∈ lw_all := lw_g (lw_at lw_m4 127 rfl) rfl
theorem q968 : (Jvm.Cond.superclass "StrangerMarket$Person" "StrangerMarket$Named") ∈ lw_all := lw_g (lw_at lw_m4 129 rfl) rfl
theorem q1006 : (Jvm.Cond.selects "StrangerMarket$Person" ({ cls := "java/lang/Object", name := "getClass", desc := "()Ljava/lang/Class;" } : Jvm.MethodName) ({ cls := "java/lang/Object", name := "getClass", desc := "()Ljava/lang/Class;" } : Jvm.MethodName)) ∈ lw_all := lw_g (lw_at lw_m4 167 rfl) rfl
theorem q1066 : (Jvm.Cond.instanceMethod ({ cls := "StrangerMarket$Person", name := "sells", desc := "(I)Z" } : Jvm.MethodName)) ∈ lw_all := lw_g (lw_at lw_m4 227 rfl) rfl
theorem q1067 : (Jvm.Cond.selects "StrangerMarket$Person" ({ cls := "StrangerMarket$Person", name := "sells", desc := "(I)Z" } : Jvm.MethodName) ({ cls := "StrangerMarket$Person", name := "sells", desc := "(I)Z" } : Jvm.MethodName)) ∈ lw_all := lw_g (lw_at lw_m4 228 rfl) rfl
theorem q1068 : (Jvm.Cond.code ({ cls := "StrangerMarket$Person", name := "sells", desc := "(I)Z" } : Jvm.MethodName) prog_17_method_2_code (2 : Nat) (Option.some Jvm.ClassFile.FieldType.boolean)) ∈ lw_all := lw_g (lw_at lw_m4 229 rfl) rfl
theorem q2553 : (Jvm.Cond.castable "StrangerMarket$Person" "StrangerMarket$Named") ∈ lw_tbl := lw_at lw_m11 34 rfl
theorem q2569 : (Jvm.Cond.castable "StrangerMarket$Person" "java/lang/Object") ∈ lw_tbl := lw_at lw_m11 50 rfl
theorem q149 : (Jvm.Cond.initialized "StrangerMarket$Act") ∈ lw_all := lw_g (lw_at lw_m1 30 rfl) rfl
theorem q1178 : (Jvm.Cond.instanceMethod ({ cls := "StrangerMarket$Act", name := "<init>", desc := "(I)V" } : Jvm.MethodName)) ∈ lw_all := lw_g (lw_at lw_m5 99 rfl) rfl
theorem q1179 : (Jvm.Cond.code ({ cls := "StrangerMarket$Act", name := "<init>", desc := "(I)V" } : Jvm.MethodName) prog_2_method_1_code (2 : Nat) (Option.none : Option Jvm.ClassFile.FieldType)) ∈ lw_all := lw_g (lw_at lw_m5 100 rfl) rfl
theorem q1180 : (Jvm.Cond.methodLink "StrangerMarket$Act" (1 : Nat) ({ cls := "java/lang/Object", name := "<init>", desc := "()V" } : Jvm.MethodName)) ∈ lw_all := lw_g (lw_at lw_m5 101 rfl) rfl
theorem q1189 : (Jvm.Cond.fieldLink "StrangerMarket$Act" (7 : Nat) "StrangerMarket$Act" "person" "I") ∈ lw_all := lw_g (lw_at lw_m5 110 rfl) rfl
theorem q1203 : (Jvm.Cond.soleField "StrangerMarket$Act" "person") ∈ lw_all := lw_g (lw_at lw_m5 124 rfl) rfl
theorem q1217 : (Jvm.Cond.declares ({ cls := "StrangerMarket$Act", name := "does", desc := "(LStrangerMarket$Market;)I" } : Jvm.MethodName)) ∈ lw_tbl := lw_at lw_m5 138 rfl
theorem q1218 : (Jvm.Cond.sameMethod "StrangerMarket$Act" "StrangerMarket$Act" "does" "(LStrangerMarket$Market;)I") ∈ lw_all := lw_g (lw_at lw_m5 139 rfl) rfl
theorem q1272 : (Jvm.Cond.static ({ cls := "StrangerMarket$Act", name := "told", desc := "(II)I" } : Jvm.MethodName)) ∈ lw_all := lw_g (lw_at lw_m5 193 rfl) rfl
theorem q1273 : (Jvm.Cond.code ({ cls := "StrangerMarket$Act", name := "told", desc := "(II)I" } : Jvm.MethodName) prog_2_method_3_code (2 : Nat) (Option.some Jvm.ClassFile.FieldType.int)) ∈ lw_all := lw_g (lw_at lw_m5 194 rfl) rfl

theorem q150 : (Jvm.Cond.initialized "StrangerMarket$WithOther") ∈ lw_all := lw_g (lw_at lw_m1 31 rfl) rfl
theorem q1175 : (Jvm.Cond.instanceMethod ({ cls := "StrangerMarket$WithOther", name := "<init>", desc := "(II)V" } : Jvm.MethodName)) ∈ lw_all := lw_g (lw_at lw_m5 96 rfl) rfl
theorem q1176 : (Jvm.Cond.code ({ cls := "StrangerMarket$WithOther", name := "<init>", desc := "(II)V" } : Jvm.MethodName) prog_24_method_1_code (3 : Nat) (Option.none : Option Jvm.ClassFile.FieldType)) ∈ lw_all := lw_g (lw_at lw_m5 97 rfl) rfl
theorem q1177 : (Jvm.Cond.methodLink "StrangerMarket$WithOther" (1 : Nat) ({ cls := "StrangerMarket$Act", name := "<init>", desc := "(I)V" } : Jvm.MethodName)) ∈ lw_all := lw_g (lw_at lw_m5 98 rfl) rfl
theorem q1182 : (Jvm.Cond.fieldLink "StrangerMarket$WithOther" (7 : Nat) "StrangerMarket$WithOther" "other" "I") ∈ lw_all := lw_g (lw_at lw_m5 103 rfl) rfl
theorem q1201 : (Jvm.Cond.soleField "StrangerMarket$WithOther" "other") ∈ lw_all := lw_g (lw_at lw_m5 122 rfl) rfl

theorem q151 : (Jvm.Cond.initialized "StrangerMarket$Buys") ∈ lw_all := lw_g (lw_at lw_m1 32 rfl) rfl
theorem q994 : (Jvm.Cond.selects "StrangerMarket$Buys" ({ cls := "java/lang/Object", name := "getClass", desc := "()Ljava/lang/Class;" } : Jvm.MethodName) ({ cls := "java/lang/Object", name := "getClass", desc := "()Ljava/lang/Class;" } : Jvm.MethodName)) ∈ lw_all := lw_g (lw_at lw_m4 155 rfl) rfl
theorem q1170 : (Jvm.Cond.instantiable "StrangerMarket$Buys" (3 : Nat)) ∈ lw_all := lw_g (lw_at lw_m5 91 rfl) rfl
theorem q1172 : (Jvm.Cond.instanceMethod ({ cls := "StrangerMarket$Buys", name := "<init>", desc := "(III)V" } : Jvm.MethodName)) ∈ lw_all := lw_g (lw_at lw_m5 93 rfl) rfl
theorem q1173 : (Jvm.Cond.code ({ cls := "StrangerMarket$Buys", name := "<init>", desc := "(III)V" } : Jvm.MethodName) prog_4_method_1_code (4 : Nat) (Option.none : Option Jvm.ClassFile.FieldType)) ∈ lw_all := lw_g (lw_at lw_m5 94 rfl) rfl
theorem q1174 : (Jvm.Cond.methodLink "StrangerMarket$Buys" (1 : Nat) ({ cls := "StrangerMarket$WithOther", name := "<init>", desc := "(II)V" } : Jvm.MethodName)) ∈ lw_all := lw_g (lw_at lw_m5 95 rfl) rfl
theorem q1181 : (Jvm.Cond.fieldLink "StrangerMarket$Buys" (7 : Nat) "StrangerMarket$Buys" "good" "I") ∈ lw_all := lw_g (lw_at lw_m5 102 rfl) rfl
theorem q1187 : (Jvm.Cond.fieldLink "StrangerMarket$Buys" (16 : Nat) "StrangerMarket$Buys" "other" "I") ∈ lw_all := lw_g (lw_at lw_m5 108 rfl) rfl
theorem q1188 : (Jvm.Cond.sameField "StrangerMarket$Buys" "StrangerMarket$WithOther" "other" "I") ∈ lw_all := lw_g (lw_at lw_m5 109 rfl) rfl
theorem q1190 : (Jvm.Cond.fieldLink "StrangerMarket$Buys" (13 : Nat) "StrangerMarket$Buys" "person" "I") ∈ lw_all := lw_g (lw_at lw_m5 111 rfl) rfl
theorem q1191 : (Jvm.Cond.sameField "StrangerMarket$Buys" "StrangerMarket$Act" "person" "I") ∈ lw_all := lw_g (lw_at lw_m5 112 rfl) rfl
theorem q1198 : (Jvm.Cond.laysFinal "StrangerMarket$Buys" "StrangerMarket$Buys" "good" "I") ∈ lw_all := lw_g (lw_at lw_m5 119 rfl) rfl
theorem q1199 : (Jvm.Cond.soleField "StrangerMarket$Buys" "good") ∈ lw_all := lw_g (lw_at lw_m5 120 rfl) rfl
theorem q1200 : (Jvm.Cond.laysFinal "StrangerMarket$Buys" "StrangerMarket$WithOther" "other" "I") ∈ lw_all := lw_g (lw_at lw_m5 121 rfl) rfl
theorem q1202 : (Jvm.Cond.laysFinal "StrangerMarket$Buys" "StrangerMarket$Act" "person" "I") ∈ lw_all := lw_g (lw_at lw_m5 123 rfl) rfl
theorem q1204 : (Jvm.Cond.superclass "StrangerMarket$Buys" "StrangerMarket$WithOther") ∈ lw_all := lw_g (lw_at lw_m5 125 rfl) rfl
theorem q1219 : (Jvm.Cond.selects "StrangerMarket$Buys" ({ cls := "StrangerMarket$Act", name := "does", desc := "(LStrangerMarket$Market;)I" } : Jvm.MethodName) ({ cls := "StrangerMarket$Buys", name := "does", desc := "(LStrangerMarket$Market;)I" } : Jvm.MethodName)) ∈ lw_all := lw_g (lw_at lw_m5 140 rfl) rfl
theorem q1220 : (Jvm.Cond.instanceMethod ({ cls := "StrangerMarket$Buys", name := "does", desc := "(LStrangerMarket$Market;)I" } : Jvm.MethodName)) ∈ lw_all := lw_g (lw_at lw_m5 141 rfl) rfl
theorem q1221 : (Jvm.Cond.code ({ cls := "StrangerMarket$Buys", name := "does", desc := "(LStrangerMarket$Market;)I" } : Jvm.MethodName) prog_4_method_2_code (3 : Nat) (Option.some Jvm.ClassFile.FieldType.int)) ∈ lw_all := lw_g (lw_at lw_m5 142 rfl) rfl
theorem q1222 : (Jvm.Cond.methodLink "StrangerMarket$Buys" (19 : Nat) ({ cls := "StrangerMarket$Market", name := "whyBuy", desc := "(III)I" } : Jvm.MethodName)) ∈ lw_all := lw_g (lw_at lw_m5 143 rfl) rfl
theorem q1251 : (Jvm.Cond.methodLink "StrangerMarket$Buys" (25 : Nat) ({ cls := "StrangerMarket$Market", name := "buy", desc := "(III)V" } : Jvm.MethodName)) ∈ lw_all := lw_g (lw_at lw_m5 172 rfl) rfl
theorem q2554 : (Jvm.Cond.castable "StrangerMarket$Buys" "StrangerMarket$Act") ∈ lw_tbl := lw_at lw_m11 35 rfl
theorem q2572 : (Jvm.Cond.castable "StrangerMarket$Buys" "java/lang/Object") ∈ lw_tbl := lw_at lw_m11 53 rfl
theorem q152 : (Jvm.Cond.initialized "StrangerMarket$Nods") ∈ lw_all := lw_g (lw_at lw_m1 33 rfl) rfl
theorem q1002 : (Jvm.Cond.selects "StrangerMarket$Nods" ({ cls := "java/lang/Object", name := "getClass", desc := "()Ljava/lang/Class;" } : Jvm.MethodName) ({ cls := "java/lang/Object", name := "getClass", desc := "()Ljava/lang/Class;" } : Jvm.MethodName)) ∈ lw_all := lw_g (lw_at lw_m4 163 rfl) rfl
theorem q1183 : (Jvm.Cond.fieldLink "StrangerMarket$Nods" (13 : Nat) "StrangerMarket$Nods" "other" "I") ∈ lw_all := lw_g (lw_at lw_m5 104 rfl) rfl
theorem q1184 : (Jvm.Cond.sameField "StrangerMarket$Nods" "StrangerMarket$WithOther" "other" "I") ∈ lw_all := lw_g (lw_at lw_m5 105 rfl) rfl
theorem q1192 : (Jvm.Cond.fieldLink "StrangerMarket$Nods" (7 : Nat) "StrangerMarket$Nods" "person" "I") ∈ lw_all := lw_g (lw_at lw_m5 113 rfl) rfl
theorem q1193 : (Jvm.Cond.sameField "StrangerMarket$Nods" "StrangerMarket$Act" "person" "I") ∈ lw_all := lw_g (lw_at lw_m5 114 rfl) rfl
theorem q1259 : (Jvm.Cond.selects "StrangerMarket$Nods" ({ cls := "StrangerMarket$Act", name := "does", desc := "(LStrangerMarket$Market;)I" } : Jvm.MethodName) ({ cls := "StrangerMarket$Nods", name := "does", desc := "(LStrangerMarket$Market;)I" } : Jvm.MethodName)) ∈ lw_all := lw_g (lw_at lw_m5 180 rfl) rfl
theorem q1260 : (Jvm.Cond.instanceMethod ({ cls := "StrangerMarket$Nods", name := "does", desc := "(LStrangerMarket$Market;)I" } : Jvm.MethodName)) ∈ lw_all := lw_g (lw_at lw_m5 181 rfl) rfl
theorem q1261 : (Jvm.Cond.code ({ cls := "StrangerMarket$Nods", name := "does", desc := "(LStrangerMarket$Market;)I" } : Jvm.MethodName) prog_13_method_2_code (3 : Nat) (Option.some Jvm.ClassFile.FieldType.int)) ∈ lw_all := lw_g (lw_at lw_m5 182 rfl) rfl
theorem q1262 : (Jvm.Cond.methodLink "StrangerMarket$Nods" (16 : Nat) ({ cls := "StrangerMarket$Market", name := "whyNod", desc := "(II)I" } : Jvm.MethodName)) ∈ lw_all := lw_g (lw_at lw_m5 183 rfl) rfl
theorem q1266 : (Jvm.Cond.methodLink "StrangerMarket$Nods" (22 : Nat) ({ cls := "StrangerMarket$Market", name := "nod", desc := "(II)V" } : Jvm.MethodName)) ∈ lw_all := lw_g (lw_at lw_m5 187 rfl) rfl
theorem q1270 : (Jvm.Cond.methodLink "StrangerMarket$Nods" (25 : Nat) ({ cls := "StrangerMarket$Nods", name := "told", desc := "(II)I" } : Jvm.MethodName)) ∈ lw_all := lw_g (lw_at lw_m5 191 rfl) rfl
theorem q1271 : (Jvm.Cond.sameMethod "StrangerMarket$Nods" "StrangerMarket$Act" "told" "(II)I") ∈ lw_all := lw_g (lw_at lw_m5 192 rfl) rfl
theorem q1323 : (Jvm.Cond.instantiable "StrangerMarket$Nods" (2 : Nat)) ∈ lw_all := lw_g (lw_at lw_m6 4 rfl) rfl
theorem q1325 : (Jvm.Cond.instanceMethod ({ cls := "StrangerMarket$Nods", name := "<init>", desc := "(II)V" } : Jvm.MethodName)) ∈ lw_all := lw_g (lw_at lw_m6 6 rfl) rfl
theorem q1326 : (Jvm.Cond.code ({ cls := "StrangerMarket$Nods", name := "<init>", desc := "(II)V" } : Jvm.MethodName) prog_13_method_1_code (3 : Nat) (Option.none : Option Jvm.ClassFile.FieldType)) ∈ lw_all := lw_g (lw_at lw_m6 7 rfl) rfl
theorem q1327 : (Jvm.Cond.methodLink "StrangerMarket$Nods" (1 : Nat) ({ cls := "StrangerMarket$WithOther", name := "<init>", desc := "(II)V" } : Jvm.MethodName)) ∈ lw_all := lw_g (lw_at lw_m6 8 rfl) rfl
theorem q1328 : (Jvm.Cond.laysFinal "StrangerMarket$Nods" "StrangerMarket$WithOther" "other" "I") ∈ lw_all := lw_g (lw_at lw_m6 9 rfl) rfl
theorem q1329 : (Jvm.Cond.laysFinal "StrangerMarket$Nods" "StrangerMarket$Act" "person" "I") ∈ lw_all := lw_g (lw_at lw_m6 10 rfl) rfl
theorem q1330 : (Jvm.Cond.superclass "StrangerMarket$Nods" "StrangerMarket$WithOther") ∈ lw_all := lw_g (lw_at lw_m6 11 rfl) rfl
theorem q2555 : (Jvm.Cond.castable "StrangerMarket$Nods" "StrangerMarket$Act") ∈ lw_tbl := lw_at lw_m11 36 rfl
theorem q2573 : (Jvm.Cond.castable "StrangerMarket$Nods" "java/lang/Object") ∈ lw_tbl := lw_at lw_m11 54 rfl
theorem q153 : (Jvm.Cond.initialized "StrangerMarket$Tells") ∈ lw_all := lw_g (lw_at lw_m1 34 rfl) rfl
theorem q1008 : (Jvm.Cond.selects "StrangerMarket$Tells" ({ cls := "java/lang/Object", name := "getClass", desc := "()Ljava/lang/Class;" } : Jvm.MethodName) ({ cls := "java/lang/Object", name := "getClass", desc := "()Ljava/lang/Class;" } : Jvm.MethodName)) ∈ lw_all := lw_g (lw_at lw_m4 169 rfl) rfl
theorem q1185 : (Jvm.Cond.fieldLink "StrangerMarket$Tells" (16 : Nat) "StrangerMarket$Tells" "other" "I") ∈ lw_all := lw_g (lw_at lw_m5 106 rfl) rfl
theorem q1186 : (Jvm.Cond.sameField "StrangerMarket$Tells" "StrangerMarket$WithOther" "other" "I") ∈ lw_all := lw_g (lw_at lw_m5 107 rfl) rfl
theorem q1194 : (Jvm.Cond.fieldLink "StrangerMarket$Tells" (13 : Nat) "StrangerMarket$Tells" "person" "I") ∈ lw_all := lw_g (lw_at lw_m5 115 rfl) rfl
theorem q1195 : (Jvm.Cond.sameField "StrangerMarket$Tells" "StrangerMarket$Act" "person" "I") ∈ lw_all := lw_g (lw_at lw_m5 116 rfl) rfl
theorem q1291 : (Jvm.Cond.selects "StrangerMarket$Tells" ({ cls := "StrangerMarket$Act", name := "does", desc := "(LStrangerMarket$Market;)I" } : Jvm.MethodName) ({ cls := "StrangerMarket$Tells", name := "does", desc := "(LStrangerMarket$Market;)I" } : Jvm.MethodName)) ∈ lw_all := lw_g (lw_at lw_m5 212 rfl) rfl
theorem q1292 : (Jvm.Cond.instanceMethod ({ cls := "StrangerMarket$Tells", name := "does", desc := "(LStrangerMarket$Market;)I" } : Jvm.MethodName)) ∈ lw_all := lw_g (lw_at lw_m5 213 rfl) rfl
theorem q1293 : (Jvm.Cond.code ({ cls := "StrangerMarket$Tells", name := "does", desc := "(LStrangerMarket$Market;)I" } : Jvm.MethodName) prog_20_method_2_code (3 : Nat) (Option.some Jvm.ClassFile.FieldType.int)) ∈ lw_all := lw_g (lw_at lw_m5 214 rfl) rfl
theorem q1294 : (Jvm.Cond.methodLink "StrangerMarket$Tells" (19 : Nat) ({ cls := "StrangerMarket$Market", name := "whyTell", desc := "(III)I" } : Jvm.MethodName)) ∈ lw_all := lw_g (lw_at lw_m5 215 rfl) rfl
theorem q1298 : (Jvm.Cond.methodLink "StrangerMarket$Tells" (25 : Nat) ({ cls := "StrangerMarket$Market", name := "meet", desc := "(II)V" } : Jvm.MethodName)) ∈ lw_all := lw_g (lw_at lw_m5 219 rfl) rfl
theorem q1299 : (Jvm.Cond.methodLink "StrangerMarket$Tells" (28 : Nat) ({ cls := "StrangerMarket$Tells", name := "told", desc := "(II)I" } : Jvm.MethodName)) ∈ lw_all := lw_g (lw_at lw_m5 220 rfl) rfl
theorem q1300 : (Jvm.Cond.sameMethod "StrangerMarket$Tells" "StrangerMarket$Act" "told" "(II)I") ∈ lw_all := lw_g (lw_at lw_m5 221 rfl) rfl
theorem q1348 : (Jvm.Cond.instantiable "StrangerMarket$Tells" (3 : Nat)) ∈ lw_all := lw_g (lw_at lw_m6 29 rfl) rfl
theorem q1350 : (Jvm.Cond.instanceMethod ({ cls := "StrangerMarket$Tells", name := "<init>", desc := "(III)V" } : Jvm.MethodName)) ∈ lw_all := lw_g (lw_at lw_m6 31 rfl) rfl
theorem q1351 : (Jvm.Cond.code ({ cls := "StrangerMarket$Tells", name := "<init>", desc := "(III)V" } : Jvm.MethodName) prog_20_method_1_code (4 : Nat) (Option.none : Option Jvm.ClassFile.FieldType)) ∈ lw_all := lw_g (lw_at lw_m6 32 rfl) rfl
theorem q1352 : (Jvm.Cond.methodLink "StrangerMarket$Tells" (1 : Nat) ({ cls := "StrangerMarket$WithOther", name := "<init>", desc := "(II)V" } : Jvm.MethodName)) ∈ lw_all := lw_g (lw_at lw_m6 33 rfl) rfl
theorem q1353 : (Jvm.Cond.fieldLink "StrangerMarket$Tells" (7 : Nat) "StrangerMarket$Tells" "third" "I") ∈ lw_all := lw_g (lw_at lw_m6 34 rfl) rfl
theorem q1354 : (Jvm.Cond.laysFinal "StrangerMarket$Tells" "StrangerMarket$Tells" "third" "I") ∈ lw_all := lw_g (lw_at lw_m6 35 rfl) rfl
theorem q1355 : (Jvm.Cond.soleField "StrangerMarket$Tells" "third") ∈ lw_all := lw_g (lw_at lw_m6 36 rfl) rfl
theorem q1356 : (Jvm.Cond.laysFinal "StrangerMarket$Tells" "StrangerMarket$WithOther" "other" "I") ∈ lw_all := lw_g (lw_at lw_m6 37 rfl) rfl
theorem q1357 : (Jvm.Cond.laysFinal "StrangerMarket$Tells" "StrangerMarket$Act" "person" "I") ∈ lw_all := lw_g (lw_at lw_m6 38 rfl) rfl
theorem q1358 : (Jvm.Cond.superclass "StrangerMarket$Tells" "StrangerMarket$WithOther") ∈ lw_all := lw_g (lw_at lw_m6 39 rfl) rfl
theorem q2557 : (Jvm.Cond.castable "StrangerMarket$Tells" "StrangerMarket$Act") ∈ lw_tbl := lw_at lw_m11 38 rfl
theorem q2575 : (Jvm.Cond.castable "StrangerMarket$Tells" "java/lang/Object") ∈ lw_tbl := lw_at lw_m11 56 rfl
theorem q154 : (Jvm.Cond.initialized "StrangerMarket$Veils") ∈ lw_all := lw_g (lw_at lw_m1 35 rfl) rfl
theorem q1011 : (Jvm.Cond.selects "StrangerMarket$Veils" ({ cls := "java/lang/Object", name := "getClass", desc := "()Ljava/lang/Class;" } : Jvm.MethodName) ({ cls := "java/lang/Object", name := "getClass", desc := "()Ljava/lang/Class;" } : Jvm.MethodName)) ∈ lw_all := lw_g (lw_at lw_m4 172 rfl) rfl
theorem q1196 : (Jvm.Cond.fieldLink "StrangerMarket$Veils" (7 : Nat) "StrangerMarket$Veils" "person" "I") ∈ lw_all := lw_g (lw_at lw_m5 117 rfl) rfl
theorem q1197 : (Jvm.Cond.sameField "StrangerMarket$Veils" "StrangerMarket$Act" "person" "I") ∈ lw_all := lw_g (lw_at lw_m5 118 rfl) rfl
theorem q1301 : (Jvm.Cond.selects "StrangerMarket$Veils" ({ cls := "StrangerMarket$Act", name := "does", desc := "(LStrangerMarket$Market;)I" } : Jvm.MethodName) ({ cls := "StrangerMarket$Veils", name := "does", desc := "(LStrangerMarket$Market;)I" } : Jvm.MethodName)) ∈ lw_all := lw_g (lw_at lw_m5 222 rfl) rfl
theorem q1302 : (Jvm.Cond.instanceMethod ({ cls := "StrangerMarket$Veils", name := "does", desc := "(LStrangerMarket$Market;)I" } : Jvm.MethodName)) ∈ lw_all := lw_g (lw_at lw_m5 223 rfl) rfl
theorem q1303 : (Jvm.Cond.code ({ cls := "StrangerMarket$Veils", name := "does", desc := "(LStrangerMarket$Market;)I" } : Jvm.MethodName) prog_23_method_2_code (3 : Nat) (Option.some Jvm.ClassFile.FieldType.int)) ∈ lw_all := lw_g (lw_at lw_m5 224 rfl) rfl
theorem q1304 : (Jvm.Cond.methodLink "StrangerMarket$Veils" (13 : Nat) ({ cls := "StrangerMarket$Market", name := "whyVeil", desc := "(I)I" } : Jvm.MethodName)) ∈ lw_all := lw_g (lw_at lw_m5 225 rfl) rfl
theorem q1308 : (Jvm.Cond.methodLink "StrangerMarket$Veils" (19 : Nat) ({ cls := "StrangerMarket$Market", name := "veil", desc := "(I)V" } : Jvm.MethodName)) ∈ lw_all := lw_g (lw_at lw_m5 229 rfl) rfl
theorem q1312 : (Jvm.Cond.methodLink "StrangerMarket$Veils" (22 : Nat) ({ cls := "StrangerMarket$Veils", name := "told", desc := "(II)I" } : Jvm.MethodName)) ∈ lw_all := lw_g (lw_at lw_m5 233 rfl) rfl
theorem q1313 : (Jvm.Cond.sameMethod "StrangerMarket$Veils" "StrangerMarket$Act" "told" "(II)I") ∈ lw_all := lw_g (lw_at lw_m5 234 rfl) rfl
theorem q1336 : (Jvm.Cond.instantiable "StrangerMarket$Veils" (1 : Nat)) ∈ lw_all := lw_g (lw_at lw_m6 17 rfl) rfl
theorem q1338 : (Jvm.Cond.instanceMethod ({ cls := "StrangerMarket$Veils", name := "<init>", desc := "(I)V" } : Jvm.MethodName)) ∈ lw_all := lw_g (lw_at lw_m6 19 rfl) rfl
theorem q1339 : (Jvm.Cond.code ({ cls := "StrangerMarket$Veils", name := "<init>", desc := "(I)V" } : Jvm.MethodName) prog_23_method_1_code (2 : Nat) (Option.none : Option Jvm.ClassFile.FieldType)) ∈ lw_all := lw_g (lw_at lw_m6 20 rfl) rfl
theorem q1340 : (Jvm.Cond.methodLink "StrangerMarket$Veils" (1 : Nat) ({ cls := "StrangerMarket$Act", name := "<init>", desc := "(I)V" } : Jvm.MethodName)) ∈ lw_all := lw_g (lw_at lw_m6 21 rfl) rfl
theorem q1341 : (Jvm.Cond.laysFinal "StrangerMarket$Veils" "StrangerMarket$Act" "person" "I") ∈ lw_all := lw_g (lw_at lw_m6 22 rfl) rfl
theorem q1342 : (Jvm.Cond.superclass "StrangerMarket$Veils" "StrangerMarket$Act") ∈ lw_all := lw_g (lw_at lw_m6 23 rfl) rfl
theorem q2558 : (Jvm.Cond.castable "StrangerMarket$Veils" "StrangerMarket$Act") ∈ lw_tbl := lw_at lw_m11 39 rfl
theorem q2574 : (Jvm.Cond.castable "StrangerMarket$Veils" "java/lang/Object") ∈ lw_tbl := lw_at lw_m11 55 rfl
theorem q155 : (Jvm.Cond.initialized "StrangerMarket$BookReader") ∈ lw_all := lw_g (lw_at lw_m1 36 rfl) rfl
theorem q219 : (Jvm.Cond.fieldLinkNest "StrangerMarket$BookReader" (48 : Nat) "StrangerMarket$County" "persons" "Ljava/util/ArrayList;" "StrangerMarket") ∈ lw_tbl := lw_at lw_m1 100 rfl
theorem q225 : (Jvm.Cond.fieldLinkNest "StrangerMarket$BookReader" (104 : Nat) "StrangerMarket$County" "goods" "Ljava/util/ArrayList;" "StrangerMarket") ∈ lw_tbl := lw_at lw_m1 106 rfl
theorem q477 : (Jvm.Cond.fieldLink "StrangerMarket$BookReader" (27 : Nat) "StrangerMarket$BookReader" "kind" "I") ∈ lw_all := lw_g (lw_at lw_m2 118 rfl) rfl
theorem q478 : (Jvm.Cond.sameField "StrangerMarket$BookReader" "StrangerMarket$Reader" "kind" "I") ∈ lw_all := lw_g (lw_at lw_m2 119 rfl) rfl
theorem q993 : (Jvm.Cond.selects "StrangerMarket$BookReader" ({ cls := "java/lang/Object", name := "getClass", desc := "()Ljava/lang/Class;" } : Jvm.MethodName) ({ cls := "java/lang/Object", name := "getClass", desc := "()Ljava/lang/Class;" } : Jvm.MethodName)) ∈ lw_all := lw_g (lw_at lw_m4 154 rfl) rfl
theorem q1050 : (Jvm.Cond.selects "StrangerMarket$BookReader" ({ cls := "StrangerMarket$Reader", name := "hold", desc := "(Ljava/util/ArrayList;)I" } : Jvm.MethodName) ({ cls := "StrangerMarket$Reader", name := "hold", desc := "(Ljava/util/ArrayList;)I" } : Jvm.MethodName)) ∈ lw_all := lw_g (lw_at lw_m4 211 rfl) rfl
theorem q1543 : (Jvm.Cond.instantiable "StrangerMarket$BookReader" (11 : Nat)) ∈ lw_all := lw_g (lw_at lw_m6 224 rfl) rfl
theorem q1545 : (Jvm.Cond.instanceMethod ({ cls := "StrangerMarket$BookReader", name := "<init>", desc := "([BILStrangerMarket$County;)V" } : Jvm.MethodName)) ∈ lw_all := lw_g (lw_at lw_m6 226 rfl) rfl
theorem q1546 : (Jvm.Cond.code ({ cls := "StrangerMarket$BookReader", name := "<init>", desc := "([BILStrangerMarket$County;)V" } : Jvm.MethodName) prog_3_method_1_code (4 : Nat) (Option.none : Option Jvm.ClassFile.FieldType)) ∈ lw_all := lw_g (lw_at lw_m6 227 rfl) rfl
theorem q1547 : (Jvm.Cond.methodLink "StrangerMarket$BookReader" (3 : Nat) ({ cls := "StrangerMarket$Reader", name := "<init>", desc := "([BII)V" } : Jvm.MethodName)) ∈ lw_all := lw_g (lw_at lw_m6 228 rfl) rfl
theorem q1548 : (Jvm.Cond.classLink "StrangerMarket$BookReader" (9 : Nat) "java/util/ArrayList") ∈ lw_all := lw_g (lw_at lw_m6 229 rfl) rfl
theorem q1549 : (Jvm.Cond.methodLink "StrangerMarket$BookReader" (11 : Nat) ({ cls := "java/util/ArrayList", name := "<init>", desc := "()V" } : Jvm.MethodName)) ∈ lw_all := lw_g (lw_at lw_m6 230 rfl) rfl
theorem q1550 : (Jvm.Cond.fieldLink "StrangerMarket$BookReader" (20 : Nat) "StrangerMarket$BookReader" "c" "LStrangerMarket$County;") ∈ lw_all := lw_g (lw_at lw_m6 231 rfl) rfl
theorem q1551 : (Jvm.Cond.fieldLink "StrangerMarket$BookReader" (14 : Nat) "StrangerMarket$BookReader" "acts" "Ljava/util/ArrayList;") ∈ lw_all := lw_g (lw_at lw_m6 232 rfl) rfl
theorem q1552 : (Jvm.Cond.laysFinal "StrangerMarket$BookReader" "StrangerMarket$BookReader" "c" "LStrangerMarket$County;") ∈ lw_all := lw_g (lw_at lw_m6 233 rfl) rfl
theorem q1553 : (Jvm.Cond.soleField "StrangerMarket$BookReader" "c") ∈ lw_all := lw_g (lw_at lw_m6 234 rfl) rfl
theorem q1554 : (Jvm.Cond.laysFinal "StrangerMarket$BookReader" "StrangerMarket$BookReader" "acts" "Ljava/util/ArrayList;") ∈ lw_all := lw_g (lw_at lw_m6 235 rfl) rfl
theorem q1555 : (Jvm.Cond.soleField "StrangerMarket$BookReader" "acts") ∈ lw_all := lw_g (lw_at lw_m6 236 rfl) rfl
theorem q1556 : (Jvm.Cond.laysFinal "StrangerMarket$BookReader" "StrangerMarket$Reader" "tape" "[B") ∈ lw_all := lw_g (lw_at lw_m6 237 rfl) rfl
theorem q1557 : (Jvm.Cond.laysFinal "StrangerMarket$BookReader" "StrangerMarket$Reader" "size" "I") ∈ lw_all := lw_g (lw_at lw_m6 238 rfl) rfl
theorem q1558 : (Jvm.Cond.laysFinal "StrangerMarket$BookReader" "StrangerMarket$Reader" "limit" "I") ∈ lw_all := lw_g (lw_at lw_m6 239 rfl) rfl
theorem q1559 : (Jvm.Cond.lays "StrangerMarket$BookReader" "StrangerMarket$Reader" "to" "I") ∈ lw_all := lw_g (lw_at lw_m7 0 rfl) rfl
theorem q1560 : (Jvm.Cond.lays "StrangerMarket$BookReader" "StrangerMarket$Reader" "kind" "I") ∈ lw_all := lw_g (lw_at lw_m7 1 rfl) rfl
theorem q1561 : (Jvm.Cond.lays "StrangerMarket$BookReader" "StrangerMarket$Reader" "from" "I") ∈ lw_all := lw_g (lw_at lw_m7 2 rfl) rfl
theorem q1562 : (Jvm.Cond.lays "StrangerMarket$BookReader" "StrangerMarket$Reader" "number" "I") ∈ lw_all := lw_g (lw_at lw_m7 3 rfl) rfl
theorem q1563 : (Jvm.Cond.lays "StrangerMarket$BookReader" "StrangerMarket$Reader" "sign" "I") ∈ lw_all := lw_g (lw_at lw_m7 4 rfl) rfl
theorem q1564 : (Jvm.Cond.lays "StrangerMarket$BookReader" "StrangerMarket$Reader" "word" "Ljava/lang/String;") ∈ lw_all := lw_g (lw_at lw_m7 5 rfl) rfl
theorem q1565 : (Jvm.Cond.superclass "StrangerMarket$BookReader" "StrangerMarket$Reader") ∈ lw_all := lw_g (lw_at lw_m7 6 rfl) rfl
theorem q1567 : (Jvm.Cond.instanceMethod ({ cls := "StrangerMarket$BookReader", name := "read", desc := "()Ljava/util/ArrayList;" } : Jvm.MethodName)) ∈ lw_all := lw_g (lw_at lw_m7 8 rfl) rfl
theorem q1568 : (Jvm.Cond.selects "StrangerMarket$BookReader" ({ cls := "StrangerMarket$BookReader", name := "read", desc := "()Ljava/util/ArrayList;" } : Jvm.MethodName) ({ cls := "StrangerMarket$BookReader", name := "read", desc := "()Ljava/util/ArrayList;" } : Jvm.MethodName)) ∈ lw_all := lw_g (lw_at lw_m7 9 rfl) rfl
theorem q1569 : (Jvm.Cond.code ({ cls := "StrangerMarket$BookReader", name := "read", desc := "()Ljava/util/ArrayList;" } : Jvm.MethodName) prog_3_method_2_code (1 : Nat) (Option.some (Jvm.ClassFile.FieldType.object "java/util/ArrayList"))) ∈ lw_all := lw_g (lw_at lw_m7 10 rfl) rfl
theorem q1570 : (Jvm.Cond.methodLink "StrangerMarket$BookReader" (24 : Nat) ({ cls := "StrangerMarket$BookReader", name := "go", desc := "()V" } : Jvm.MethodName)) ∈ lw_all := lw_g (lw_at lw_m7 11 rfl) rfl
theorem q1571 : (Jvm.Cond.sameMethod "StrangerMarket$BookReader" "StrangerMarket$Reader" "go" "()V") ∈ lw_all := lw_g (lw_at lw_m7 12 rfl) rfl
theorem q1572 : (Jvm.Cond.selects "StrangerMarket$BookReader" ({ cls := "StrangerMarket$BookReader", name := "go", desc := "()V" } : Jvm.MethodName) ({ cls := "StrangerMarket$Reader", name := "go", desc := "()V" } : Jvm.MethodName)) ∈ lw_all := lw_g (lw_at lw_m7 13 rfl) rfl
theorem q1573 : (Jvm.Cond.methodLink "StrangerMarket$BookReader" (31 : Nat) ({ cls := "StrangerMarket$BookReader", name := "act", desc := "()LStrangerMarket$Act;" } : Jvm.MethodName)) ∈ lw_all := lw_g (lw_at lw_m7 14 rfl) rfl
theorem q1574 : (Jvm.Cond.privateMethod ({ cls := "StrangerMarket$BookReader", name := "act", desc := "()LStrangerMarket$Act;" } : Jvm.MethodName)) ∈ lw_tbl := lw_at lw_m7 15 rfl
theorem q1575 : (Jvm.Cond.instanceMethod ({ cls := "StrangerMarket$BookReader", name := "act", desc := "()LStrangerMarket$Act;" } : Jvm.MethodName)) ∈ lw_all := lw_g (lw_at lw_m7 16 rfl) rfl
theorem q1576 : (Jvm.Cond.code ({ cls := "StrangerMarket$BookReader", name := "act", desc := "()LStrangerMarket$Act;" } : Jvm.MethodName) prog_3_method_3_code (2 : Nat) (Option.some (Jvm.ClassFile.FieldType.object "StrangerMarket$Act"))) ∈ lw_all := lw_g (lw_at lw_m7 17 rfl) rfl
theorem q1577 : (Jvm.Cond.stringRef "StrangerMarket$BookReader" (42 : Nat) "day") ∈ lw_tbl := lw_at lw_m7 18 rfl
theorem q1578 : (Jvm.Cond.methodLink "StrangerMarket$BookReader" (44 : Nat) ({ cls := "StrangerMarket$BookReader", name := "is", desc := "(Ljava/lang/String;)Z" } : Jvm.MethodName)) ∈ lw_all := lw_g (lw_at lw_m7 19 rfl) rfl
theorem q1579 : (Jvm.Cond.sameMethod "StrangerMarket$BookReader" "StrangerMarket$Reader" "is" "(Ljava/lang/String;)Z") ∈ lw_all := lw_g (lw_at lw_m7 20 rfl) rfl
theorem q1580 : (Jvm.Cond.selects "StrangerMarket$BookReader" ({ cls := "StrangerMarket$BookReader", name := "is", desc := "(Ljava/lang/String;)Z" } : Jvm.MethodName) ({ cls := "StrangerMarket$Reader", name := "is", desc := "(Ljava/lang/String;)Z" } : Jvm.MethodName)) ∈ lw_all := lw_g (lw_at lw_m7 21 rfl) rfl
theorem q1581 : (Jvm.Cond.methodLink "StrangerMarket$BookReader" (53 : Nat) ({ cls := "StrangerMarket$BookReader", name := "hold", desc := "(Ljava/util/ArrayList;)I" } : Jvm.MethodName)) ∈ lw_all := lw_g (lw_at lw_m7 22 rfl) rfl
theorem q1582 : (Jvm.Cond.sameMethod "StrangerMarket$BookReader" "StrangerMarket$Reader" "hold" "(Ljava/util/ArrayList;)I") ∈ lw_all := lw_g (lw_at lw_m7 23 rfl) rfl
theorem q1583 : (Jvm.Cond.selects "StrangerMarket$BookReader" ({ cls := "StrangerMarket$BookReader", name := "hold", desc := "(Ljava/util/ArrayList;)I" } : Jvm.MethodName) ({ cls := "StrangerMarket$Reader", name := "hold", desc := "(Ljava/util/ArrayList;)I" } : Jvm.MethodName)) ∈ lw_all := lw_g (lw_at lw_m7 24 rfl) rfl
theorem q1584 : (Jvm.Cond.methodLink "StrangerMarket$BookReader" (57 : Nat) ({ cls := "java/util/ArrayList", name := "size", desc := "()I" } : Jvm.MethodName)) ∈ lw_all := lw_g (lw_at lw_m7 25 rfl) rfl
theorem q1585 : (Jvm.Cond.methodLink "StrangerMarket$BookReader" (61 : Nat) ({ cls := "StrangerMarket$BookReader", name := "need", desc := "(ZI)V" } : Jvm.MethodName)) ∈ lw_all := lw_g (lw_at lw_m7 26 rfl) rfl
theorem q1586 : (Jvm.Cond.sameMethod "StrangerMarket$BookReader" "StrangerMarket$Reader" "need" "(ZI)V") ∈ lw_all := lw_g (lw_at lw_m7 27 rfl) rfl
theorem q1587 : (Jvm.Cond.selects "StrangerMarket$BookReader" ({ cls := "StrangerMarket$BookReader", name := "need", desc := "(ZI)V" } : Jvm.MethodName) ({ cls := "StrangerMarket$Reader", name := "need", desc := "(ZI)V" } : Jvm.MethodName)) ∈ lw_all := lw_g (lw_at lw_m7 28 rfl) rfl
theorem q1588 : (Jvm.Cond.methodLink "StrangerMarket$BookReader" (65 : Nat) ({ cls := "StrangerMarket$BookReader", name := "one", desc := "(Ljava/util/ArrayList;)I" } : Jvm.MethodName)) ∈ lw_all := lw_g (lw_at lw_m7 29 rfl) rfl
theorem q1589 : (Jvm.Cond.sameMethod "StrangerMarket$BookReader" "StrangerMarket$Reader" "one" "(Ljava/util/ArrayList;)I") ∈ lw_all := lw_g (lw_at lw_m7 30 rfl) rfl
theorem q1590 : (Jvm.Cond.selects "StrangerMarket$BookReader" ({ cls := "StrangerMarket$BookReader", name := "one", desc := "(Ljava/util/ArrayList;)I" } : Jvm.MethodName) ({ cls := "StrangerMarket$Reader", name := "one", desc := "(Ljava/util/ArrayList;)I" } : Jvm.MethodName)) ∈ lw_all := lw_g (lw_at lw_m7 31 rfl) rfl
theorem q1591 : (Jvm.Cond.methodLink "StrangerMarket$BookReader" (68 : Nat) ({ cls := "StrangerMarket$BookReader", name := "does", desc := "(I)LStrangerMarket$Act;" } : Jvm.MethodName)) ∈ lw_all := lw_g (lw_at lw_m7 32 rfl) rfl
theorem q1592 : (Jvm.Cond.privateMethod ({ cls := "StrangerMarket$BookReader", name := "does", desc := "(I)LStrangerMarket$Act;" } : Jvm.MethodName)) ∈ lw_tbl := lw_at lw_m7 33 rfl
theorem q1593 : (Jvm.Cond.instanceMethod ({ cls := "StrangerMarket$BookReader", name := "does", desc := "(I)LStrangerMarket$Act;" } : Jvm.MethodName)) ∈ lw_all := lw_g (lw_at lw_m7 34 rfl) rfl
theorem q1594 : (Jvm.Cond.code ({ cls := "StrangerMarket$BookReader", name := "does", desc := "(I)LStrangerMarket$Act;" } : Jvm.MethodName) prog_3_method_4_code (6 : Nat) (Option.some (Jvm.ClassFile.FieldType.object "StrangerMarket$Act"))) ∈ lw_all := lw_g (lw_at lw_m7 35 rfl) rfl
theorem q1595 : (Jvm.Cond.stringRef "StrangerMarket$BookReader" (81 : Nat) "buys") ∈ lw_tbl := lw_at lw_m7 36 rfl
theorem q1596 : (Jvm.Cond.stringRef "StrangerMarket$BookReader" (83 : Nat) "nods") ∈ lw_tbl := lw_at lw_m7 37 rfl
theorem q1597 : (Jvm.Cond.stringRef "StrangerMarket$BookReader" (85 : Nat) "veils") ∈ lw_tbl := lw_at lw_m7 38 rfl
theorem q1598 : (Jvm.Cond.stringRef "StrangerMarket$BookReader" (87 : Nat) "tells") ∈ lw_tbl := lw_at lw_m7 39 rfl
theorem q1599 : (Jvm.Cond.methodLink "StrangerMarket$BookReader" (89 : Nat) ({ cls := "StrangerMarket$BookReader", name := "buys", desc := "(I)LStrangerMarket$Act;" } : Jvm.MethodName)) ∈ lw_all := lw_g (lw_at lw_m7 40 rfl) rfl
theorem q1600 : (Jvm.Cond.privateMethod ({ cls := "StrangerMarket$BookReader", name := "buys", desc := "(I)LStrangerMarket$Act;" } : Jvm.MethodName)) ∈ lw_tbl := lw_at lw_m7 41 rfl
theorem q1601 : (Jvm.Cond.instanceMethod ({ cls := "StrangerMarket$BookReader", name := "buys", desc := "(I)LStrangerMarket$Act;" } : Jvm.MethodName)) ∈ lw_all := lw_g (lw_at lw_m7 42 rfl) rfl
theorem q1602 : (Jvm.Cond.code ({ cls := "StrangerMarket$BookReader", name := "buys", desc := "(I)LStrangerMarket$Act;" } : Jvm.MethodName) prog_3_method_5_code (3 : Nat) (Option.some (Jvm.ClassFile.FieldType.object "StrangerMarket$Act"))) ∈ lw_all := lw_g (lw_at lw_m7 43 rfl) rfl
theorem q1603 : (Jvm.Cond.classLink "StrangerMarket$BookReader" (107 : Nat) "StrangerMarket$Buys") ∈ lw_all := lw_g (lw_at lw_m7 44 rfl) rfl
theorem q1604 : (Jvm.Cond.methodLink "StrangerMarket$BookReader" (109 : Nat) ({ cls := "StrangerMarket$Buys", name := "<init>", desc := "(III)V" } : Jvm.MethodName)) ∈ lw_all := lw_g (lw_at lw_m7 45 rfl) rfl
theorem q1605 : (Jvm.Cond.classLink "StrangerMarket$BookReader" (91 : Nat) "StrangerMarket$Veils") ∈ lw_all := lw_g (lw_at lw_m7 46 rfl) rfl
theorem q1606 : (Jvm.Cond.methodLink "StrangerMarket$BookReader" (93 : Nat) ({ cls := "StrangerMarket$Veils", name := "<init>", desc := "(I)V" } : Jvm.MethodName)) ∈ lw_all := lw_g (lw_at lw_m7 47 rfl) rfl
theorem q1607 : (Jvm.Cond.classLink "StrangerMarket$BookReader" (94 : Nat) "StrangerMarket$Nods") ∈ lw_all := lw_g (lw_at lw_m7 48 rfl) rfl
theorem q1608 : (Jvm.Cond.methodLink "StrangerMarket$BookReader" (96 : Nat) ({ cls := "StrangerMarket$Nods", name := "<init>", desc := "(II)V" } : Jvm.MethodName)) ∈ lw_all := lw_g (lw_at lw_m7 49 rfl) rfl
theorem q1609 : (Jvm.Cond.classLink "StrangerMarket$BookReader" (99 : Nat) "StrangerMarket$Tells") ∈ lw_all := lw_g (lw_at lw_m7 50 rfl) rfl
theorem q1610 : (Jvm.Cond.methodLink "StrangerMarket$BookReader" (101 : Nat) ({ cls := "StrangerMarket$Tells", name := "<init>", desc := "(III)V" } : Jvm.MethodName)) ∈ lw_all := lw_g (lw_at lw_m7 51 rfl) rfl
theorem q1611 : (Jvm.Cond.classLink "StrangerMarket$BookReader" (72 : Nat) "StrangerMarket$Passes") ∈ lw_all := lw_g (lw_at lw_m7 52 rfl) rfl
theorem q1613 : (Jvm.Cond.methodLink "StrangerMarket$BookReader" (74 : Nat) ({ cls := "StrangerMarket$BookReader", name := "number", desc := "(II)I" } : Jvm.MethodName)) ∈ lw_all := lw_g (lw_at lw_m7 54 rfl) rfl
theorem q1614 : (Jvm.Cond.sameMethod "StrangerMarket$BookReader" "StrangerMarket$Reader" "number" "(II)I") ∈ lw_all := lw_g (lw_at lw_m7 55 rfl) rfl
theorem q1615 : (Jvm.Cond.selects "StrangerMarket$BookReader" ({ cls := "StrangerMarket$BookReader", name := "number", desc := "(II)I" } : Jvm.MethodName) ({ cls := "StrangerMarket$Reader", name := "number", desc := "(II)I" } : Jvm.MethodName)) ∈ lw_all := lw_g (lw_at lw_m7 56 rfl) rfl
theorem q1616 : (Jvm.Cond.methodLink "StrangerMarket$BookReader" (78 : Nat) ({ cls := "StrangerMarket$Passes", name := "<init>", desc := "(I)V" } : Jvm.MethodName)) ∈ lw_all := lw_g (lw_at lw_m7 57 rfl) rfl
theorem q1625 : (Jvm.Cond.methodLink "StrangerMarket$BookReader" (35 : Nat) ({ cls := "java/util/ArrayList", name := "add", desc := "(Ljava/lang/Object;)Z" } : Jvm.MethodName)) ∈ lw_all := lw_g (lw_at lw_m7 66 rfl) rfl
theorem q1626 : (Jvm.Cond.methodLink "StrangerMarket$BookReader" (39 : Nat) ({ cls := "StrangerMarket$BookReader", name := "end", desc := "()V" } : Jvm.MethodName)) ∈ lw_all := lw_g (lw_at lw_m7 67 rfl) rfl
theorem q1627 : (Jvm.Cond.sameMethod "StrangerMarket$BookReader" "StrangerMarket$Reader" "end" "()V") ∈ lw_all := lw_g (lw_at lw_m7 68 rfl) rfl
theorem q1628 : (Jvm.Cond.selects "StrangerMarket$BookReader" ({ cls := "StrangerMarket$BookReader", name := "end", desc := "()V" } : Jvm.MethodName) ({ cls := "StrangerMarket$Reader", name := "end", desc := "()V" } : Jvm.MethodName)) ∈ lw_all := lw_g (lw_at lw_m7 69 rfl) rfl
theorem q2536 : (Jvm.Cond.selects "StrangerMarket$BookReader" ({ cls := "StrangerMarket$Reader", name := "need", desc := "(ZI)V" } : Jvm.MethodName) ({ cls := "StrangerMarket$Reader", name := "need", desc := "(ZI)V" } : Jvm.MethodName)) ∈ lw_all := lw_g (lw_at lw_m11 17 rfl) rfl
theorem q2540 : (Jvm.Cond.selects "StrangerMarket$BookReader" ({ cls := "StrangerMarket$Reader", name := "go", desc := "()V" } : Jvm.MethodName) ({ cls := "StrangerMarket$Reader", name := "go", desc := "()V" } : Jvm.MethodName)) ∈ lw_all := lw_g (lw_at lw_m11 21 rfl) rfl
theorem q2544 : (Jvm.Cond.selects "StrangerMarket$BookReader" ({ cls := "StrangerMarket$Reader", name := "isName", desc := "()Z" } : Jvm.MethodName) ({ cls := "StrangerMarket$Reader", name := "isName", desc := "()Z" } : Jvm.MethodName)) ∈ lw_all := lw_g (lw_at lw_m11 25 rfl) rfl
theorem q2548 : (Jvm.Cond.selects "StrangerMarket$BookReader" ({ cls := "StrangerMarket$Reader", name := "find", desc := "(Ljava/util/ArrayList;)I" } : Jvm.MethodName) ({ cls := "StrangerMarket$Reader", name := "find", desc := "(Ljava/util/ArrayList;)I" } : Jvm.MethodName)) ∈ lw_all := lw_g (lw_at lw_m11 29 rfl) rfl
theorem q2576 : (Jvm.Cond.castable "StrangerMarket$BookReader" "java/lang/Object") ∈ lw_tbl := lw_at lw_m11 57 rfl
theorem q156 : (Jvm.Cond.initialized "StrangerMarket$Passes") ∈ lw_all := lw_g (lw_at lw_m1 37 rfl) rfl
theorem q250 : (Jvm.Cond.fieldLinkNest "StrangerMarket$Passes" (15 : Nat) "StrangerMarket$Market" "day" "I" "StrangerMarket") ∈ lw_tbl := lw_at lw_m1 131 rfl
theorem q1005 : (Jvm.Cond.selects "StrangerMarket$Passes" ({ cls := "java/lang/Object", name := "getClass", desc := "()Ljava/lang/Class;" } : Jvm.MethodName) ({ cls := "java/lang/Object", name := "getClass", desc := "()Ljava/lang/Class;" } : Jvm.MethodName)) ∈ lw_all := lw_g (lw_at lw_m4 166 rfl) rfl
theorem q1274 : (Jvm.Cond.selects "StrangerMarket$Passes" ({ cls := "StrangerMarket$Act", name := "does", desc := "(LStrangerMarket$Market;)I" } : Jvm.MethodName) ({ cls := "StrangerMarket$Passes", name := "does", desc := "(LStrangerMarket$Market;)I" } : Jvm.MethodName)) ∈ lw_all := lw_g (lw_at lw_m5 195 rfl) rfl
theorem q1275 : (Jvm.Cond.instanceMethod ({ cls := "StrangerMarket$Passes", name := "does", desc := "(LStrangerMarket$Market;)I" } : Jvm.MethodName)) ∈ lw_all := lw_g (lw_at lw_m5 196 rfl) rfl
theorem q1276 : (Jvm.Cond.code ({ cls := "StrangerMarket$Passes", name := "does", desc := "(LStrangerMarket$Market;)I" } : Jvm.MethodName) prog_16_method_2_code (2 : Nat) (Option.some Jvm.ClassFile.FieldType.int)) ∈ lw_all := lw_g (lw_at lw_m5 197 rfl) rfl
theorem q1277 : (Jvm.Cond.methodLink "StrangerMarket$Passes" (20 : Nat) ({ cls := "StrangerMarket$Market", name := "passAll", desc := "(I)I" } : Jvm.MethodName)) ∈ lw_all := lw_g (lw_at lw_m5 198 rfl) rfl
theorem q1612 : (Jvm.Cond.instantiable "StrangerMarket$Passes" (2 : Nat)) ∈ lw_all := lw_g (lw_at lw_m7 53 rfl) rfl
theorem q1617 : (Jvm.Cond.instanceMethod ({ cls := "StrangerMarket$Passes", name := "<init>", desc := "(I)V" } : Jvm.MethodName)) ∈ lw_all := lw_g (lw_at lw_m7 58 rfl) rfl
theorem q1618 : (Jvm.Cond.code ({ cls := "StrangerMarket$Passes", name := "<init>", desc := "(I)V" } : Jvm.MethodName) prog_16_method_1_code (2 : Nat) (Option.none : Option Jvm.ClassFile.FieldType)) ∈ lw_all := lw_g (lw_at lw_m7 59 rfl) rfl
theorem q1619 : (Jvm.Cond.methodLink "StrangerMarket$Passes" (3 : Nat) ({ cls := "StrangerMarket$Act", name := "<init>", desc := "(I)V" } : Jvm.MethodName)) ∈ lw_all := lw_g (lw_at lw_m7 60 rfl) rfl
theorem q1620 : (Jvm.Cond.fieldLink "StrangerMarket$Passes" (9 : Nat) "StrangerMarket$Passes" "many" "I") ∈ lw_all := lw_g (lw_at lw_m7 61 rfl) rfl
theorem q1621 : (Jvm.Cond.laysFinal "StrangerMarket$Passes" "StrangerMarket$Passes" "many" "I") ∈ lw_all := lw_g (lw_at lw_m7 62 rfl) rfl
theorem q1622 : (Jvm.Cond.soleField "StrangerMarket$Passes" "many") ∈ lw_all := lw_g (lw_at lw_m7 63 rfl) rfl
theorem q1623 : (Jvm.Cond.laysFinal "StrangerMarket$Passes" "StrangerMarket$Act" "person" "I") ∈ lw_all := lw_g (lw_at lw_m7 64 rfl) rfl
theorem q1624 : (Jvm.Cond.superclass "StrangerMarket$Passes" "StrangerMarket$Act") ∈ lw_all := lw_g (lw_at lw_m7 65 rfl) rfl
theorem q2556 : (Jvm.Cond.castable "StrangerMarket$Passes" "StrangerMarket$Act") ∈ lw_tbl := lw_at lw_m11 37 rfl
theorem q2577 : (Jvm.Cond.castable "StrangerMarket$Passes" "java/lang/Object") ∈ lw_tbl := lw_at lw_m11 58 rfl
theorem q157 : (Jvm.Cond.initialized "StrangerMarket$SentenceReader") ∈ lw_all := lw_g (lw_at lw_m1 38 rfl) rfl
theorem q222 : (Jvm.Cond.fieldLinkNest "StrangerMarket$SentenceReader" (96 : Nat) "StrangerMarket$County" "persons" "Ljava/util/ArrayList;" "StrangerMarket") ∈ lw_tbl := lw_at lw_m1 103 rfl
theorem q228 : (Jvm.Cond.fieldLinkNest "StrangerMarket$SentenceReader" (106 : Nat) "StrangerMarket$County" "goods" "Ljava/util/ArrayList;" "StrangerMarket") ∈ lw_tbl := lw_at lw_m1 109 rfl
theorem q479 : (Jvm.Cond.fieldLink "StrangerMarket$SentenceReader" (23 : Nat) "StrangerMarket$SentenceReader" "kind" "I") ∈ lw_all := lw_g (lw_at lw_m2 120 rfl) rfl
theorem q480 : (Jvm.Cond.sameField "StrangerMarket$SentenceReader" "StrangerMarket$Reader" "kind" "I") ∈ lw_all := lw_g (lw_at lw_m2 121 rfl) rfl
theorem q485 : (Jvm.Cond.fieldLink "StrangerMarket$SentenceReader" (64 : Nat) "StrangerMarket$SentenceReader" "sign" "I") ∈ lw_all := lw_g (lw_at lw_m2 126 rfl) rfl
theorem q486 : (Jvm.Cond.sameField "StrangerMarket$SentenceReader" "StrangerMarket$Reader" "sign" "I") ∈ lw_all := lw_g (lw_at lw_m2 127 rfl) rfl
theorem q1007 : (Jvm.Cond.selects "StrangerMarket$SentenceReader" ({ cls := "java/lang/Object", name := "getClass", desc := "()Ljava/lang/Class;" } : Jvm.MethodName) ({ cls := "java/lang/Object", name := "getClass", desc := "()Ljava/lang/Class;" } : Jvm.MethodName)) ∈ lw_all := lw_g (lw_at lw_m4 168 rfl) rfl
theorem q1052 : (Jvm.Cond.selects "StrangerMarket$SentenceReader" ({ cls := "StrangerMarket$Reader", name := "hold", desc := "(Ljava/util/ArrayList;)I" } : Jvm.MethodName) ({ cls := "StrangerMarket$Reader", name := "hold", desc := "(Ljava/util/ArrayList;)I" } : Jvm.MethodName)) ∈ lw_all := lw_g (lw_at lw_m4 213 rfl) rfl
theorem q1644 : (Jvm.Cond.instantiable "StrangerMarket$SentenceReader" (12 : Nat)) ∈ lw_all := lw_g (lw_at lw_m7 85 rfl) rfl
theorem q1646 : (Jvm.Cond.instanceMethod ({ cls := "StrangerMarket$SentenceReader", name := "<init>", desc := "([BILStrangerMarket$County;)V" } : Jvm.MethodName)) ∈ lw_all := lw_g (lw_at lw_m7 87 rfl) rfl
theorem q1647 : (Jvm.Cond.code ({ cls := "StrangerMarket$SentenceReader", name := "<init>", desc := "([BILStrangerMarket$County;)V" } : Jvm.MethodName) prog_19_method_1_code (4 : Nat) (Option.none : Option Jvm.ClassFile.FieldType)) ∈ lw_all := lw_g (lw_at lw_m7 88 rfl) rfl
theorem q1648 : (Jvm.Cond.methodLink "StrangerMarket$SentenceReader" (3 : Nat) ({ cls := "StrangerMarket$Reader", name := "<init>", desc := "([BII)V" } : Jvm.MethodName)) ∈ lw_all := lw_g (lw_at lw_m7 89 rfl) rfl
theorem q1649 : (Jvm.Cond.fieldLink "StrangerMarket$SentenceReader" (9 : Nat) "StrangerMarket$SentenceReader" "c" "LStrangerMarket$County;") ∈ lw_all := lw_g (lw_at lw_m7 90 rfl) rfl
theorem q1650 : (Jvm.Cond.fieldLink "StrangerMarket$SentenceReader" (80 : Nat) "StrangerMarket$SentenceReader" "ones" "I") ∈ lw_all := lw_g (lw_at lw_m7 91 rfl) rfl
theorem q1652 : (Jvm.Cond.fieldLink "StrangerMarket$SentenceReader" (83 : Nat) "StrangerMarket$SentenceReader" "within" "I") ∈ lw_all := lw_g (lw_at lw_m7 93 rfl) rfl
theorem q1653 : (Jvm.Cond.laysFinal "StrangerMarket$SentenceReader" "StrangerMarket$SentenceReader" "c" "LStrangerMarket$County;") ∈ lw_all := lw_g (lw_at lw_m7 94 rfl) rfl
theorem q1654 : (Jvm.Cond.soleField "StrangerMarket$SentenceReader" "c") ∈ lw_all := lw_g (lw_at lw_m7 95 rfl) rfl
theorem q1655 : (Jvm.Cond.lays "StrangerMarket$SentenceReader" "StrangerMarket$SentenceReader" "ones" "I") ∈ lw_all := lw_g (lw_at lw_m7 96 rfl) rfl
theorem q1656 : (Jvm.Cond.soleField "StrangerMarket$SentenceReader" "ones") ∈ lw_all := lw_g (lw_at lw_m7 97 rfl) rfl
theorem q1657 : (Jvm.Cond.lays "StrangerMarket$SentenceReader" "StrangerMarket$SentenceReader" "within" "I") ∈ lw_all := lw_g (lw_at lw_m7 98 rfl) rfl
theorem q1658 : (Jvm.Cond.soleField "StrangerMarket$SentenceReader" "within") ∈ lw_all := lw_g (lw_at lw_m7 99 rfl) rfl
theorem q1659 : (Jvm.Cond.laysFinal "StrangerMarket$SentenceReader" "StrangerMarket$Reader" "tape" "[B") ∈ lw_all := lw_g (lw_at lw_m7 100 rfl) rfl
theorem q1660 : (Jvm.Cond.laysFinal "StrangerMarket$SentenceReader" "StrangerMarket$Reader" "size" "I") ∈ lw_all := lw_g (lw_at lw_m7 101 rfl) rfl
theorem q1661 : (Jvm.Cond.laysFinal "StrangerMarket$SentenceReader" "StrangerMarket$Reader" "limit" "I") ∈ lw_all := lw_g (lw_at lw_m7 102 rfl) rfl
theorem q1662 : (Jvm.Cond.lays "StrangerMarket$SentenceReader" "StrangerMarket$Reader" "to" "I") ∈ lw_all := lw_g (lw_at lw_m7 103 rfl) rfl
theorem q1663 : (Jvm.Cond.lays "StrangerMarket$SentenceReader" "StrangerMarket$Reader" "kind" "I") ∈ lw_all := lw_g (lw_at lw_m7 104 rfl) rfl
theorem q1664 : (Jvm.Cond.lays "StrangerMarket$SentenceReader" "StrangerMarket$Reader" "from" "I") ∈ lw_all := lw_g (lw_at lw_m7 105 rfl) rfl
theorem q1665 : (Jvm.Cond.lays "StrangerMarket$SentenceReader" "StrangerMarket$Reader" "number" "I") ∈ lw_all := lw_g (lw_at lw_m7 106 rfl) rfl
theorem q1666 : (Jvm.Cond.lays "StrangerMarket$SentenceReader" "StrangerMarket$Reader" "sign" "I") ∈ lw_all := lw_g (lw_at lw_m7 107 rfl) rfl
theorem q1667 : (Jvm.Cond.lays "StrangerMarket$SentenceReader" "StrangerMarket$Reader" "word" "Ljava/lang/String;") ∈ lw_all := lw_g (lw_at lw_m7 108 rfl) rfl
theorem q1668 : (Jvm.Cond.superclass "StrangerMarket$SentenceReader" "StrangerMarket$Reader") ∈ lw_all := lw_g (lw_at lw_m7 109 rfl) rfl
theorem q1670 : (Jvm.Cond.instanceMethod ({ cls := "StrangerMarket$SentenceReader", name := "read", desc := "()LStrangerMarket$Cond;" } : Jvm.MethodName)) ∈ lw_all := lw_g (lw_at lw_m7 111 rfl) rfl
theorem q1671 : (Jvm.Cond.selects "StrangerMarket$SentenceReader" ({ cls := "StrangerMarket$SentenceReader", name := "read", desc := "()LStrangerMarket$Cond;" } : Jvm.MethodName) ({ cls := "StrangerMarket$SentenceReader", name := "read", desc := "()LStrangerMarket$Cond;" } : Jvm.MethodName)) ∈ lw_all := lw_g (lw_at lw_m7 112 rfl) rfl
theorem q1672 : (Jvm.Cond.code ({ cls := "StrangerMarket$SentenceReader", name := "read", desc := "()LStrangerMarket$Cond;" } : Jvm.MethodName) prog_19_method_2_code (2 : Nat) (Option.some (Jvm.ClassFile.FieldType.object "StrangerMarket$Cond"))) ∈ lw_all := lw_g (lw_at lw_m7 113 rfl) rfl
theorem q1673 : (Jvm.Cond.methodLink "StrangerMarket$SentenceReader" (15 : Nat) ({ cls := "StrangerMarket$SentenceReader", name := "go", desc := "()V" } : Jvm.MethodName)) ∈ lw_all := lw_g (lw_at lw_m7 114 rfl) rfl
theorem q1674 : (Jvm.Cond.sameMethod "StrangerMarket$SentenceReader" "StrangerMarket$Reader" "go" "()V") ∈ lw_all := lw_g (lw_at lw_m7 115 rfl) rfl
theorem q1675 : (Jvm.Cond.selects "StrangerMarket$SentenceReader" ({ cls := "StrangerMarket$SentenceReader", name := "go", desc := "()V" } : Jvm.MethodName) ({ cls := "StrangerMarket$Reader", name := "go", desc := "()V" } : Jvm.MethodName)) ∈ lw_all := lw_g (lw_at lw_m7 116 rfl) rfl
theorem q1676 : (Jvm.Cond.methodLink "StrangerMarket$SentenceReader" (19 : Nat) ({ cls := "StrangerMarket$SentenceReader", name := "or", desc := "()LStrangerMarket$Cond;" } : Jvm.MethodName)) ∈ lw_all := lw_g (lw_at lw_m7 117 rfl) rfl
theorem q1677 : (Jvm.Cond.privateMethod ({ cls := "StrangerMarket$SentenceReader", name := "or", desc := "()LStrangerMarket$Cond;" } : Jvm.MethodName)) ∈ lw_tbl := lw_at lw_m7 118 rfl
theorem q1678 : (Jvm.Cond.instanceMethod ({ cls := "StrangerMarket$SentenceReader", name := "or", desc := "()LStrangerMarket$Cond;" } : Jvm.MethodName)) ∈ lw_all := lw_g (lw_at lw_m7 119 rfl) rfl
theorem q1679 : (Jvm.Cond.code ({ cls := "StrangerMarket$SentenceReader", name := "or", desc := "()LStrangerMarket$Cond;" } : Jvm.MethodName) prog_19_method_3_code (2 : Nat) (Option.some (Jvm.ClassFile.FieldType.object "StrangerMarket$Cond"))) ∈ lw_all := lw_g (lw_at lw_m7 120 rfl) rfl
theorem q1680 : (Jvm.Cond.methodLink "StrangerMarket$SentenceReader" (31 : Nat) ({ cls := "StrangerMarket$SentenceReader", name := "and", desc := "()LStrangerMarket$Cond;" } : Jvm.MethodName)) ∈ lw_all := lw_g (lw_at lw_m7 121 rfl) rfl
theorem q1681 : (Jvm.Cond.privateMethod ({ cls := "StrangerMarket$SentenceReader", name := "and", desc := "()LStrangerMarket$Cond;" } : Jvm.MethodName)) ∈ lw_tbl := lw_at lw_m7 122 rfl
theorem q1682 : (Jvm.Cond.instanceMethod ({ cls := "StrangerMarket$SentenceReader", name := "and", desc := "()LStrangerMarket$Cond;" } : Jvm.MethodName)) ∈ lw_all := lw_g (lw_at lw_m7 123 rfl) rfl
theorem q1683 : (Jvm.Cond.code ({ cls := "StrangerMarket$SentenceReader", name := "and", desc := "()LStrangerMarket$Cond;" } : Jvm.MethodName) prog_19_method_4_code (2 : Nat) (Option.some (Jvm.ClassFile.FieldType.object "StrangerMarket$Cond"))) ∈ lw_all := lw_g (lw_at lw_m7 124 rfl) rfl
theorem q1684 : (Jvm.Cond.methodLink "StrangerMarket$SentenceReader" (44 : Nat) ({ cls := "StrangerMarket$SentenceReader", name := "says", desc := "()LStrangerMarket$Cond;" } : Jvm.MethodName)) ∈ lw_all := lw_g (lw_at lw_m7 125 rfl) rfl
theorem q1685 : (Jvm.Cond.privateMethod ({ cls := "StrangerMarket$SentenceReader", name := "says", desc := "()LStrangerMarket$Cond;" } : Jvm.MethodName)) ∈ lw_tbl := lw_at lw_m7 126 rfl
theorem q1686 : (Jvm.Cond.instanceMethod ({ cls := "StrangerMarket$SentenceReader", name := "says", desc := "()LStrangerMarket$Cond;" } : Jvm.MethodName)) ∈ lw_all := lw_g (lw_at lw_m7 127 rfl) rfl
theorem q1687 : (Jvm.Cond.code ({ cls := "StrangerMarket$SentenceReader", name := "says", desc := "()LStrangerMarket$Cond;" } : Jvm.MethodName) prog_19_method_7_code (8 : Nat) (Option.some (Jvm.ClassFile.FieldType.object "StrangerMarket$Cond"))) ∈ lw_all := lw_g (lw_at lw_m7 128 rfl) rfl
theorem q1688 : (Jvm.Cond.stringRef "StrangerMarket$SentenceReader" (67 : Nat) "not") ∈ lw_tbl := lw_at lw_m7 129 rfl
theorem q1689 : (Jvm.Cond.methodLink "StrangerMarket$SentenceReader" (35 : Nat) ({ cls := "StrangerMarket$SentenceReader", name := "is", desc := "(Ljava/lang/String;)Z" } : Jvm.MethodName)) ∈ lw_all := lw_g (lw_at lw_m7 130 rfl) rfl
theorem q1690 : (Jvm.Cond.sameMethod "StrangerMarket$SentenceReader" "StrangerMarket$Reader" "is" "(Ljava/lang/String;)Z") ∈ lw_all := lw_g (lw_at lw_m7 131 rfl) rfl
theorem q1691 : (Jvm.Cond.selects "StrangerMarket$SentenceReader" ({ cls := "StrangerMarket$SentenceReader", name := "is", desc := "(Ljava/lang/String;)Z" } : Jvm.MethodName) ({ cls := "StrangerMarket$Reader", name := "is", desc := "(Ljava/lang/String;)Z" } : Jvm.MethodName)) ∈ lw_all := lw_g (lw_at lw_m7 132 rfl) rfl
theorem q1692 : (Jvm.Cond.stringRef "StrangerMarket$SentenceReader" (69 : Nat) "knows") ∈ lw_tbl := lw_at lw_m7 133 rfl
theorem q1693 : (Jvm.Cond.stringRef "StrangerMarket$SentenceReader" (71 : Nat) "wants") ∈ lw_tbl := lw_at lw_m7 134 rfl
theorem q1694 : (Jvm.Cond.methodLink "StrangerMarket$SentenceReader" (73 : Nat) ({ cls := "StrangerMarket$SentenceReader", name := "plain", desc := "()I" } : Jvm.MethodName)) ∈ lw_all := lw_g (lw_at lw_m7 135 rfl) rfl
theorem q1695 : (Jvm.Cond.privateMethod ({ cls := "StrangerMarket$SentenceReader", name := "plain", desc := "()I" } : Jvm.MethodName)) ∈ lw_tbl := lw_at lw_m7 136 rfl
theorem q1696 : (Jvm.Cond.instanceMethod ({ cls := "StrangerMarket$SentenceReader", name := "plain", desc := "()I" } : Jvm.MethodName)) ∈ lw_all := lw_g (lw_at lw_m7 137 rfl) rfl
theorem q1697 : (Jvm.Cond.code ({ cls := "StrangerMarket$SentenceReader", name := "plain", desc := "()I" } : Jvm.MethodName) prog_19_method_5_code (1 : Nat) (Option.some Jvm.ClassFile.FieldType.int)) ∈ lw_all := lw_g (lw_at lw_m7 138 rfl) rfl
theorem q1698 : (Jvm.Cond.stringRef "StrangerMarket$SentenceReader" (48 : Nat) "home") ∈ lw_tbl := lw_at lw_m7 139 rfl
theorem q1699 : (Jvm.Cond.stringRef "StrangerMarket$SentenceReader" (50 : Nat) "veiled") ∈ lw_tbl := lw_at lw_m7 140 rfl
theorem q1700 : (Jvm.Cond.stringRef "StrangerMarket$SentenceReader" (52 : Nat) "fed") ∈ lw_tbl := lw_at lw_m7 141 rfl
theorem q1701 : (Jvm.Cond.stringRef "StrangerMarket$SentenceReader" (54 : Nat) "sold") ∈ lw_tbl := lw_at lw_m7 142 rfl
theorem q1702 : (Jvm.Cond.methodLink "StrangerMarket$SentenceReader" (77 : Nat) ({ cls := "StrangerMarket$SentenceReader", name := "numbered", desc := "()I" } : Jvm.MethodName)) ∈ lw_all := lw_g (lw_at lw_m7 143 rfl) rfl
theorem q1703 : (Jvm.Cond.privateMethod ({ cls := "StrangerMarket$SentenceReader", name := "numbered", desc := "()I" } : Jvm.MethodName)) ∈ lw_tbl := lw_at lw_m7 144 rfl
theorem q1704 : (Jvm.Cond.instanceMethod ({ cls := "StrangerMarket$SentenceReader", name := "numbered", desc := "()I" } : Jvm.MethodName)) ∈ lw_all := lw_g (lw_at lw_m7 145 rfl) rfl
theorem q1705 : (Jvm.Cond.code ({ cls := "StrangerMarket$SentenceReader", name := "numbered", desc := "()I" } : Jvm.MethodName) prog_19_method_6_code (1 : Nat) (Option.some Jvm.ClassFile.FieldType.int)) ∈ lw_all := lw_g (lw_at lw_m7 146 rfl) rfl
theorem q1706 : (Jvm.Cond.stringRef "StrangerMarket$SentenceReader" (56 : Nat) "coins") ∈ lw_tbl := lw_at lw_m7 147 rfl
theorem q1707 : (Jvm.Cond.stringRef "StrangerMarket$SentenceReader" (58 : Nat) "friends") ∈ lw_tbl := lw_at lw_m7 148 rfl
theorem q1708 : (Jvm.Cond.stringRef "StrangerMarket$SentenceReader" (60 : Nat) "hunger") ∈ lw_tbl := lw_at lw_m7 149 rfl
theorem q1709 : (Jvm.Cond.stringRef "StrangerMarket$SentenceReader" (62 : Nat) "number") ∈ lw_tbl := lw_at lw_m7 150 rfl
theorem q1710 : (Jvm.Cond.methodLink "StrangerMarket$SentenceReader" (27 : Nat) ({ cls := "StrangerMarket$SentenceReader", name := "need", desc := "(ZI)V" } : Jvm.MethodName)) ∈ lw_all := lw_g (lw_at lw_m7 151 rfl) rfl
theorem q1711 : (Jvm.Cond.sameMethod "StrangerMarket$SentenceReader" "StrangerMarket$Reader" "need" "(ZI)V") ∈ lw_all := lw_g (lw_at lw_m7 152 rfl) rfl
theorem q1712 : (Jvm.Cond.selects "StrangerMarket$SentenceReader" ({ cls := "StrangerMarket$SentenceReader", name := "need", desc := "(ZI)V" } : Jvm.MethodName) ({ cls := "StrangerMarket$Reader", name := "need", desc := "(ZI)V" } : Jvm.MethodName)) ∈ lw_all := lw_g (lw_at lw_m7 153 rfl) rfl
theorem q1713 : (Jvm.Cond.methodLink "StrangerMarket$SentenceReader" (86 : Nat) ({ cls := "StrangerMarket$SentenceReader", name := "bracket", desc := "()LStrangerMarket$Cond;" } : Jvm.MethodName)) ∈ lw_all := lw_g (lw_at lw_m7 154 rfl) rfl
theorem q1714 : (Jvm.Cond.privateMethod ({ cls := "StrangerMarket$SentenceReader", name := "bracket", desc := "()LStrangerMarket$Cond;" } : Jvm.MethodName)) ∈ lw_tbl := lw_at lw_m7 155 rfl
theorem q1715 : (Jvm.Cond.instanceMethod ({ cls := "StrangerMarket$SentenceReader", name := "bracket", desc := "()LStrangerMarket$Cond;" } : Jvm.MethodName)) ∈ lw_all := lw_g (lw_at lw_m7 156 rfl) rfl
theorem q1716 : (Jvm.Cond.code ({ cls := "StrangerMarket$SentenceReader", name := "bracket", desc := "()LStrangerMarket$Cond;" } : Jvm.MethodName) prog_19_method_8_code (2 : Nat) (Option.some (Jvm.ClassFile.FieldType.object "StrangerMarket$Cond"))) ∈ lw_all := lw_g (lw_at lw_m7 157 rfl) rfl
theorem q1717 : (Jvm.Cond.classLink "StrangerMarket$SentenceReader" (89 : Nat) "StrangerMarket$Not") ∈ lw_all := lw_g (lw_at lw_m7 158 rfl) rfl
theorem q1719 : (Jvm.Cond.methodLink "StrangerMarket$SentenceReader" (91 : Nat) ({ cls := "StrangerMarket$Not", name := "<init>", desc := "(LStrangerMarket$Cond;)V" } : Jvm.MethodName)) ∈ lw_all := lw_g (lw_at lw_m7 160 rfl) rfl
theorem q1730 : (Jvm.Cond.classLink "StrangerMarket$SentenceReader" (94 : Nat) "StrangerMarket$Of") ∈ lw_all := lw_g (lw_at lw_m7 171 rfl) rfl
theorem q1732 : (Jvm.Cond.methodLink "StrangerMarket$SentenceReader" (102 : Nat) ({ cls := "StrangerMarket$SentenceReader", name := "one", desc := "(Ljava/util/ArrayList;)I" } : Jvm.MethodName)) ∈ lw_all := lw_g (lw_at lw_m7 173 rfl) rfl
theorem q1733 : (Jvm.Cond.sameMethod "StrangerMarket$SentenceReader" "StrangerMarket$Reader" "one" "(Ljava/util/ArrayList;)I") ∈ lw_all := lw_g (lw_at lw_m7 174 rfl) rfl
theorem q1734 : (Jvm.Cond.selects "StrangerMarket$SentenceReader" ({ cls := "StrangerMarket$SentenceReader", name := "one", desc := "(Ljava/util/ArrayList;)I" } : Jvm.MethodName) ({ cls := "StrangerMarket$Reader", name := "one", desc := "(Ljava/util/ArrayList;)I" } : Jvm.MethodName)) ∈ lw_all := lw_g (lw_at lw_m7 175 rfl) rfl
theorem q1735 : (Jvm.Cond.methodLink "StrangerMarket$SentenceReader" (109 : Nat) ({ cls := "StrangerMarket$Of", name := "<init>", desc := "(ZI)V" } : Jvm.MethodName)) ∈ lw_all := lw_g (lw_at lw_m7 176 rfl) rfl
theorem q1746 : (Jvm.Cond.classLink "StrangerMarket$SentenceReader" (111 : Nat) "StrangerMarket$IsSo") ∈ lw_all := lw_g (lw_at lw_m7 187 rfl) rfl
theorem q1748 : (Jvm.Cond.methodLink "StrangerMarket$SentenceReader" (113 : Nat) ({ cls := "StrangerMarket$IsSo", name := "<init>", desc := "(I)V" } : Jvm.MethodName)) ∈ lw_all := lw_g (lw_at lw_m7 189 rfl) rfl
theorem q1756 : (Jvm.Cond.methodLink "StrangerMarket$SentenceReader" (116 : Nat) ({ cls := "StrangerMarket$SentenceReader", name := "than", desc := "(I)LStrangerMarket$Cond;" } : Jvm.MethodName)) ∈ lw_all := lw_g (lw_at lw_m7 197 rfl) rfl
theorem q1757 : (Jvm.Cond.privateMethod ({ cls := "StrangerMarket$SentenceReader", name := "than", desc := "(I)LStrangerMarket$Cond;" } : Jvm.MethodName)) ∈ lw_tbl := lw_at lw_m7 198 rfl
theorem q1758 : (Jvm.Cond.instanceMethod ({ cls := "StrangerMarket$SentenceReader", name := "than", desc := "(I)LStrangerMarket$Cond;" } : Jvm.MethodName)) ∈ lw_all := lw_g (lw_at lw_m7 199 rfl) rfl
theorem q1759 : (Jvm.Cond.code ({ cls := "StrangerMarket$SentenceReader", name := "than", desc := "(I)LStrangerMarket$Cond;" } : Jvm.MethodName) prog_19_method_9_code (3 : Nat) (Option.some (Jvm.ClassFile.FieldType.object "StrangerMarket$Cond"))) ∈ lw_all := lw_g (lw_at lw_m7 200 rfl) rfl
theorem q1760 : (Jvm.Cond.classLink "StrangerMarket$SentenceReader" (120 : Nat) "StrangerMarket$Than") ∈ lw_all := lw_g (lw_at lw_m7 201 rfl) rfl
theorem q1762 : (Jvm.Cond.methodLink "StrangerMarket$SentenceReader" (122 : Nat) ({ cls := "StrangerMarket$SentenceReader", name := "number", desc := "(II)I" } : Jvm.MethodName)) ∈ lw_all := lw_g (lw_at lw_m7 203 rfl) rfl
theorem q1763 : (Jvm.Cond.sameMethod "StrangerMarket$SentenceReader" "StrangerMarket$Reader" "number" "(II)I") ∈ lw_all := lw_g (lw_at lw_m7 204 rfl) rfl
theorem q1764 : (Jvm.Cond.selects "StrangerMarket$SentenceReader" ({ cls := "StrangerMarket$SentenceReader", name := "number", desc := "(II)I" } : Jvm.MethodName) ({ cls := "StrangerMarket$Reader", name := "number", desc := "(II)I" } : Jvm.MethodName)) ∈ lw_all := lw_g (lw_at lw_m7 205 rfl) rfl
theorem q1765 : (Jvm.Cond.methodLink "StrangerMarket$SentenceReader" (125 : Nat) ({ cls := "StrangerMarket$Than", name := "<init>", desc := "(III)V" } : Jvm.MethodName)) ∈ lw_all := lw_g (lw_at lw_m7 206 rfl) rfl
theorem q1779 : (Jvm.Cond.stringRef "StrangerMarket$SentenceReader" (47 : Nat) "and") ∈ lw_tbl := lw_at lw_m7 220 rfl
theorem q1780 : (Jvm.Cond.classLink "StrangerMarket$SentenceReader" (39 : Nat) "StrangerMarket$Two") ∈ lw_all := lw_g (lw_at lw_m7 221 rfl) rfl
theorem q1782 : (Jvm.Cond.methodLink "StrangerMarket$SentenceReader" (41 : Nat) ({ cls := "StrangerMarket$Two", name := "<init>", desc := "(LStrangerMarket$Cond;LStrangerMarket$Cond;Z)V" } : Jvm.MethodName)) ∈ lw_all := lw_g (lw_at lw_m7 223 rfl) rfl
theorem q1796 : (Jvm.Cond.stringRef "StrangerMarket$SentenceReader" (34 : Nat) "or") ∈ lw_tbl := lw_at lw_m7 237 rfl
theorem q2538 : (Jvm.Cond.selects "StrangerMarket$SentenceReader" ({ cls := "StrangerMarket$Reader", name := "need", desc := "(ZI)V" } : Jvm.MethodName) ({ cls := "StrangerMarket$Reader", name := "need", desc := "(ZI)V" } : Jvm.MethodName)) ∈ lw_all := lw_g (lw_at lw_m11 19 rfl) rfl
theorem q2542 : (Jvm.Cond.selects "StrangerMarket$SentenceReader" ({ cls := "StrangerMarket$Reader", name := "go", desc := "()V" } : Jvm.MethodName) ({ cls := "StrangerMarket$Reader", name := "go", desc := "()V" } : Jvm.MethodName)) ∈ lw_all := lw_g (lw_at lw_m11 23 rfl) rfl
theorem q2546 : (Jvm.Cond.selects "StrangerMarket$SentenceReader" ({ cls := "StrangerMarket$Reader", name := "isName", desc := "()Z" } : Jvm.MethodName) ({ cls := "StrangerMarket$Reader", name := "isName", desc := "()Z" } : Jvm.MethodName)) ∈ lw_all := lw_g (lw_at lw_m11 27 rfl) rfl
theorem q2550 : (Jvm.Cond.selects "StrangerMarket$SentenceReader" ({ cls := "StrangerMarket$Reader", name := "find", desc := "(Ljava/util/ArrayList;)I" } : Jvm.MethodName) ({ cls := "StrangerMarket$Reader", name := "find", desc := "(Ljava/util/ArrayList;)I" } : Jvm.MethodName)) ∈ lw_all := lw_g (lw_at lw_m11 31 rfl) rfl
theorem q2578 : (Jvm.Cond.castable "StrangerMarket$SentenceReader" "java/lang/Object") ∈ lw_tbl := lw_at lw_m11 59 rfl
theorem q121 : (Jvm.Cond.initialized "StrangerMarket$County") ∈ lw_all := lw_g (lw_at lw_m1 2 rfl) rfl
theorem q173 : (Jvm.Cond.instantiable "StrangerMarket$County" (6 : Nat)) ∈ lw_all := lw_g (lw_at lw_m1 54 rfl) rfl
theorem q175 : (Jvm.Cond.instanceMethod ({ cls := "StrangerMarket$County", name := "<init>", desc := "()V" } : Jvm.MethodName)) ∈ lw_all := lw_g (lw_at lw_m1 56 rfl) rfl
theorem q176 : (Jvm.Cond.code ({ cls := "StrangerMarket$County", name := "<init>", desc := "()V" } : Jvm.MethodName) prog_6_method_1_code (1 : Nat) (Option.none : Option Jvm.ClassFile.FieldType)) ∈ lw_all := lw_g (lw_at lw_m1 57 rfl) rfl
theorem q177 : (Jvm.Cond.methodLink "StrangerMarket$County" (1 : Nat) ({ cls := "java/lang/Object", name := "<init>", desc := "()V" } : Jvm.MethodName)) ∈ lw_all := lw_g (lw_at lw_m1 58 rfl) rfl
theorem q178 : (Jvm.Cond.classLink "StrangerMarket$County" (16 : Nat) "java/util/ArrayList") ∈ lw_all := lw_g (lw_at lw_m1 59 rfl) rfl
theorem q180 : (Jvm.Cond.methodLink "StrangerMarket$County" (18 : Nat) ({ cls := "java/util/ArrayList", name := "<init>", desc := "()V" } : Jvm.MethodName)) ∈ lw_all := lw_g (lw_at lw_m1 61 rfl) rfl
theorem q207 : (Jvm.Cond.fieldLink "StrangerMarket$County" (7 : Nat) "StrangerMarket$County" "deals" "I") ∈ lw_all := lw_g (lw_at lw_m1 88 rfl) rfl
theorem q211 : (Jvm.Cond.fieldLink "StrangerMarket$County" (13 : Nat) "StrangerMarket$County" "veils" "I") ∈ lw_all := lw_g (lw_at lw_m1 92 rfl) rfl
theorem q218 : (Jvm.Cond.fieldLink "StrangerMarket$County" (19 : Nat) "StrangerMarket$County" "persons" "Ljava/util/ArrayList;") ∈ lw_all := lw_g (lw_at lw_m1 99 rfl) rfl
theorem q224 : (Jvm.Cond.fieldLink "StrangerMarket$County" (23 : Nat) "StrangerMarket$County" "goods" "Ljava/util/ArrayList;") ∈ lw_all := lw_g (lw_at lw_m1 105 rfl) rfl
theorem q230 : (Jvm.Cond.lays "StrangerMarket$County" "StrangerMarket$County" "lines" "I") ∈ lw_all := lw_g (lw_at lw_m1 111 rfl) rfl
theorem q231 : (Jvm.Cond.soleField "StrangerMarket$County" "lines") ∈ lw_all := lw_g (lw_at lw_m1 112 rfl) rfl
theorem q232 : (Jvm.Cond.lays "StrangerMarket$County" "StrangerMarket$County" "deals" "I") ∈ lw_all := lw_g (lw_at lw_m1 113 rfl) rfl
theorem q233 : (Jvm.Cond.soleField "StrangerMarket$County" "deals") ∈ lw_all := lw_g (lw_at lw_m1 114 rfl) rfl
theorem q234 : (Jvm.Cond.lays "StrangerMarket$County" "StrangerMarket$County" "veils" "I") ∈ lw_all := lw_g (lw_at lw_m1 115 rfl) rfl
theorem q235 : (Jvm.Cond.soleField "StrangerMarket$County" "veils") ∈ lw_all := lw_g (lw_at lw_m1 116 rfl) rfl
theorem q236 : (Jvm.Cond.lays "StrangerMarket$County" "StrangerMarket$County" "bell" "I") ∈ lw_all := lw_g (lw_at lw_m1 117 rfl) rfl
theorem q237 : (Jvm.Cond.soleField "StrangerMarket$County" "bell") ∈ lw_all := lw_g (lw_at lw_m1 118 rfl) rfl
theorem q238 : (Jvm.Cond.laysFinal "StrangerMarket$County" "StrangerMarket$County" "persons" "Ljava/util/ArrayList;") ∈ lw_all := lw_g (lw_at lw_m1 119 rfl) rfl
theorem q239 : (Jvm.Cond.soleField "StrangerMarket$County" "persons") ∈ lw_all := lw_g (lw_at lw_m1 120 rfl) rfl
theorem q240 : (Jvm.Cond.laysFinal "StrangerMarket$County" "StrangerMarket$County" "goods" "Ljava/util/ArrayList;") ∈ lw_all := lw_g (lw_at lw_m1 121 rfl) rfl
theorem q241 : (Jvm.Cond.soleField "StrangerMarket$County" "goods") ∈ lw_all := lw_g (lw_at lw_m1 122 rfl) rfl
theorem q242 : (Jvm.Cond.superclass "StrangerMarket$County" "java/lang/Object") ∈ lw_all := lw_g (lw_at lw_m1 123 rfl) rfl
theorem q995 : (Jvm.Cond.selects "StrangerMarket$County" ({ cls := "java/lang/Object", name := "getClass", desc := "()Ljava/lang/Class;" } : Jvm.MethodName) ({ cls := "java/lang/Object", name := "getClass", desc := "()Ljava/lang/Class;" } : Jvm.MethodName)) ∈ lw_all := lw_g (lw_at lw_m4 156 rfl) rfl
theorem q1113 : (Jvm.Cond.instanceMethod ({ cls := "StrangerMarket$County", name := "isPerson", desc := "(I)Z" } : Jvm.MethodName)) ∈ lw_all := lw_g (lw_at lw_m5 34 rfl) rfl
theorem q1114 : (Jvm.Cond.selects "StrangerMarket$County" ({ cls := "StrangerMarket$County", name := "isPerson", desc := "(I)Z" } : Jvm.MethodName) ({ cls := "StrangerMarket$County", name := "isPerson", desc := "(I)Z" } : Jvm.MethodName)) ∈ lw_all := lw_g (lw_at lw_m5 35 rfl) rfl
theorem q1115 : (Jvm.Cond.code ({ cls := "StrangerMarket$County", name := "isPerson", desc := "(I)Z" } : Jvm.MethodName) prog_6_method_2_code (2 : Nat) (Option.some Jvm.ClassFile.FieldType.boolean)) ∈ lw_all := lw_g (lw_at lw_m5 36 rfl) rfl
theorem q1116 : (Jvm.Cond.methodLink "StrangerMarket$County" (26 : Nat) ({ cls := "java/util/ArrayList", name := "size", desc := "()I" } : Jvm.MethodName)) ∈ lw_all := lw_g (lw_at lw_m5 37 rfl) rfl
theorem q1117 : (Jvm.Cond.methodLinkNest "StrangerMarket$County" (30 : Nat) ({ cls := "StrangerMarket", name := "isIn", desc := "(III)Z" } : Jvm.MethodName) "StrangerMarket") ∈ lw_tbl := lw_at lw_m5 38 rfl
theorem q1123 : (Jvm.Cond.instanceMethod ({ cls := "StrangerMarket$County", name := "isGood", desc := "(I)Z" } : Jvm.MethodName)) ∈ lw_all := lw_g (lw_at lw_m5 44 rfl) rfl
theorem q1124 : (Jvm.Cond.selects "StrangerMarket$County" ({ cls := "StrangerMarket$County", name := "isGood", desc := "(I)Z" } : Jvm.MethodName) ({ cls := "StrangerMarket$County", name := "isGood", desc := "(I)Z" } : Jvm.MethodName)) ∈ lw_all := lw_g (lw_at lw_m5 45 rfl) rfl
theorem q1125 : (Jvm.Cond.code ({ cls := "StrangerMarket$County", name := "isGood", desc := "(I)Z" } : Jvm.MethodName) prog_6_method_3_code (2 : Nat) (Option.some Jvm.ClassFile.FieldType.boolean)) ∈ lw_all := lw_g (lw_at lw_m5 46 rfl) rfl
theorem q2562 : (Jvm.Cond.castable "StrangerMarket$County" "java/lang/Object") ∈ lw_tbl := lw_at lw_m11 43 rfl
theorem q158 : (Jvm.Cond.initialized "StrangerMarket$Cond") ∈ lw_all := lw_g (lw_at lw_m1 39 rfl) rfl
theorem q1723 : (Jvm.Cond.instanceMethod ({ cls := "StrangerMarket$Cond", name := "<init>", desc := "()V" } : Jvm.MethodName)) ∈ lw_all := lw_g (lw_at lw_m7 164 rfl) rfl
theorem q1724 : (Jvm.Cond.code ({ cls := "StrangerMarket$Cond", name := "<init>", desc := "()V" } : Jvm.MethodName) prog_5_method_1_code (1 : Nat) (Option.none : Option Jvm.ClassFile.FieldType)) ∈ lw_all := lw_g (lw_at lw_m7 165 rfl) rfl
theorem q1725 : (Jvm.Cond.methodLink "StrangerMarket$Cond" (1 : Nat) ({ cls := "java/lang/Object", name := "<init>", desc := "()V" } : Jvm.MethodName)) ∈ lw_all := lw_g (lw_at lw_m7 166 rfl) rfl
theorem q1802 : (Jvm.Cond.declares ({ cls := "StrangerMarket$Cond", name := "holds", desc := "(LStrangerMarket$Market;I)Z" } : Jvm.MethodName)) ∈ lw_tbl := lw_at lw_m8 3 rfl
theorem q1803 : (Jvm.Cond.sameMethod "StrangerMarket$Cond" "StrangerMarket$Cond" "holds" "(LStrangerMarket$Market;I)Z") ∈ lw_all := lw_g (lw_at lw_m8 4 rfl) rfl

theorem q159 : (Jvm.Cond.initialized "StrangerMarket$Not") ∈ lw_all := lw_g (lw_at lw_m1 40 rfl) rfl
theorem q1003 : (Jvm.Cond.selects "StrangerMarket$Not" ({ cls := "java/lang/Object", name := "getClass", desc := "()Ljava/lang/Class;" } : Jvm.MethodName) ({ cls := "java/lang/Object", name := "getClass", desc := "()Ljava/lang/Class;" } : Jvm.MethodName)) ∈ lw_all := lw_g (lw_at lw_m4 164 rfl) rfl
theorem q1718 : (Jvm.Cond.instantiable "StrangerMarket$Not" (1 : Nat)) ∈ lw_all := lw_g (lw_at lw_m7 159 rfl) rfl
theorem q1720 : (Jvm.Cond.instanceMethod ({ cls := "StrangerMarket$Not", name := "<init>", desc := "(LStrangerMarket$Cond;)V" } : Jvm.MethodName)) ∈ lw_all := lw_g (lw_at lw_m7 161 rfl) rfl
theorem q1721 : (Jvm.Cond.code ({ cls := "StrangerMarket$Not", name := "<init>", desc := "(LStrangerMarket$Cond;)V" } : Jvm.MethodName) prog_14_method_1_code (2 : Nat) (Option.none : Option Jvm.ClassFile.FieldType)) ∈ lw_all := lw_g (lw_at lw_m7 162 rfl) rfl
theorem q1722 : (Jvm.Cond.methodLinkNest "StrangerMarket$Not" (1 : Nat) ({ cls := "StrangerMarket$Cond", name := "<init>", desc := "()V" } : Jvm.MethodName) "StrangerMarket") ∈ lw_tbl := lw_at lw_m7 163 rfl
theorem q1726 : (Jvm.Cond.fieldLink "StrangerMarket$Not" (7 : Nat) "StrangerMarket$Not" "c" "LStrangerMarket$Cond;") ∈ lw_all := lw_g (lw_at lw_m7 167 rfl) rfl
theorem q1727 : (Jvm.Cond.laysFinal "StrangerMarket$Not" "StrangerMarket$Not" "c" "LStrangerMarket$Cond;") ∈ lw_all := lw_g (lw_at lw_m7 168 rfl) rfl
theorem q1728 : (Jvm.Cond.soleField "StrangerMarket$Not" "c") ∈ lw_all := lw_g (lw_at lw_m7 169 rfl) rfl
theorem q1729 : (Jvm.Cond.superclass "StrangerMarket$Not" "StrangerMarket$Cond") ∈ lw_all := lw_g (lw_at lw_m7 170 rfl) rfl
theorem q1820 : (Jvm.Cond.selects "StrangerMarket$Not" ({ cls := "StrangerMarket$Cond", name := "holds", desc := "(LStrangerMarket$Market;I)Z" } : Jvm.MethodName) ({ cls := "StrangerMarket$Not", name := "holds", desc := "(LStrangerMarket$Market;I)Z" } : Jvm.MethodName)) ∈ lw_all := lw_g (lw_at lw_m8 21 rfl) rfl
theorem q1821 : (Jvm.Cond.instanceMethod ({ cls := "StrangerMarket$Not", name := "holds", desc := "(LStrangerMarket$Market;I)Z" } : Jvm.MethodName)) ∈ lw_all := lw_g (lw_at lw_m8 22 rfl) rfl
theorem q1822 : (Jvm.Cond.code ({ cls := "StrangerMarket$Not", name := "holds", desc := "(LStrangerMarket$Market;I)Z" } : Jvm.MethodName) prog_14_method_2_code (3 : Nat) (Option.some Jvm.ClassFile.FieldType.boolean)) ∈ lw_all := lw_g (lw_at lw_m8 23 rfl) rfl
theorem q1823 : (Jvm.Cond.methodLink "StrangerMarket$Not" (13 : Nat) ({ cls := "StrangerMarket$Cond", name := "holds", desc := "(LStrangerMarket$Market;I)Z" } : Jvm.MethodName)) ∈ lw_all := lw_g (lw_at lw_m8 24 rfl) rfl
theorem q2579 : (Jvm.Cond.castable "StrangerMarket$Not" "java/lang/Object") ∈ lw_tbl := lw_at lw_m11 60 rfl
theorem q160 : (Jvm.Cond.initialized "StrangerMarket$Of") ∈ lw_all := lw_g (lw_at lw_m1 41 rfl) rfl
theorem q274 : (Jvm.Cond.fieldLinkNest "StrangerMarket$Of" (25 : Nat) "StrangerMarket$Market" "want" "[I" "StrangerMarket") ∈ lw_tbl := lw_at lw_m1 155 rfl
theorem q1004 : (Jvm.Cond.selects "StrangerMarket$Of" ({ cls := "java/lang/Object", name := "getClass", desc := "()Ljava/lang/Class;" } : Jvm.MethodName) ({ cls := "java/lang/Object", name := "getClass", desc := "()Ljava/lang/Class;" } : Jvm.MethodName)) ∈ lw_all := lw_g (lw_at lw_m4 165 rfl) rfl
theorem q1731 : (Jvm.Cond.instantiable "StrangerMarket$Of" (2 : Nat)) ∈ lw_all := lw_g (lw_at lw_m7 172 rfl) rfl
theorem q1736 : (Jvm.Cond.instanceMethod ({ cls := "StrangerMarket$Of", name := "<init>", desc := "(ZI)V" } : Jvm.MethodName)) ∈ lw_all := lw_g (lw_at lw_m7 177 rfl) rfl
theorem q1737 : (Jvm.Cond.code ({ cls := "StrangerMarket$Of", name := "<init>", desc := "(ZI)V" } : Jvm.MethodName) prog_15_method_1_code (3 : Nat) (Option.none : Option Jvm.ClassFile.FieldType)) ∈ lw_all := lw_g (lw_at lw_m7 178 rfl) rfl
theorem q1738 : (Jvm.Cond.methodLinkNest "StrangerMarket$Of" (3 : Nat) ({ cls := "StrangerMarket$Cond", name := "<init>", desc := "()V" } : Jvm.MethodName) "StrangerMarket") ∈ lw_tbl := lw_at lw_m7 179 rfl
theorem q1739 : (Jvm.Cond.fieldLink "StrangerMarket$Of" (9 : Nat) "StrangerMarket$Of" "knows" "Z") ∈ lw_all := lw_g (lw_at lw_m7 180 rfl) rfl
theorem q1740 : (Jvm.Cond.fieldLink "StrangerMarket$Of" (15 : Nat) "StrangerMarket$Of" "which" "I") ∈ lw_all := lw_g (lw_at lw_m7 181 rfl) rfl
theorem q1741 : (Jvm.Cond.laysFinal "StrangerMarket$Of" "StrangerMarket$Of" "knows" "Z") ∈ lw_all := lw_g (lw_at lw_m7 182 rfl) rfl
theorem q1742 : (Jvm.Cond.soleField "StrangerMarket$Of" "knows") ∈ lw_all := lw_g (lw_at lw_m7 183 rfl) rfl
theorem q1743 : (Jvm.Cond.laysFinal "StrangerMarket$Of" "StrangerMarket$Of" "which" "I") ∈ lw_all := lw_g (lw_at lw_m7 184 rfl) rfl
theorem q1744 : (Jvm.Cond.soleField "StrangerMarket$Of" "which") ∈ lw_all := lw_g (lw_at lw_m7 185 rfl) rfl
theorem q1745 : (Jvm.Cond.superclass "StrangerMarket$Of" "StrangerMarket$Cond") ∈ lw_all := lw_g (lw_at lw_m7 186 rfl) rfl
theorem q1824 : (Jvm.Cond.instanceMethod ({ cls := "StrangerMarket$Of", name := "holds", desc := "(LStrangerMarket$Market;I)Z" } : Jvm.MethodName)) ∈ lw_all := lw_g (lw_at lw_m8 25 rfl) rfl
theorem q1825 : (Jvm.Cond.code ({ cls := "StrangerMarket$Of", name := "holds", desc := "(LStrangerMarket$Market;I)Z" } : Jvm.MethodName) prog_15_method_2_code (3 : Nat) (Option.some Jvm.ClassFile.FieldType.boolean)) ∈ lw_all := lw_g (lw_at lw_m8 26 rfl) rfl
theorem q1826 : (Jvm.Cond.methodLink "StrangerMarket$Of" (19 : Nat) ({ cls := "StrangerMarket$Market", name := "know", desc := "(II)Z" } : Jvm.MethodName)) ∈ lw_all := lw_g (lw_at lw_m8 27 rfl) rfl
theorem q1834 : (Jvm.Cond.selects "StrangerMarket$Of" ({ cls := "StrangerMarket$Cond", name := "holds", desc := "(LStrangerMarket$Market;I)Z" } : Jvm.MethodName) ({ cls := "StrangerMarket$Of", name := "holds", desc := "(LStrangerMarket$Market;I)Z" } : Jvm.MethodName)) ∈ lw_all := lw_g (lw_at lw_m8 35 rfl) rfl
theorem q2580 : (Jvm.Cond.castable "StrangerMarket$Of" "java/lang/Object") ∈ lw_tbl := lw_at lw_m11 61 rfl
theorem q161 : (Jvm.Cond.initialized "StrangerMarket$IsSo") ∈ lw_all := lw_g (lw_at lw_m1 42 rfl) rfl
theorem q998 : (Jvm.Cond.selects "StrangerMarket$IsSo" ({ cls := "java/lang/Object", name := "getClass", desc := "()Ljava/lang/Class;" } : Jvm.MethodName) ({ cls := "java/lang/Object", name := "getClass", desc := "()Ljava/lang/Class;" } : Jvm.MethodName)) ∈ lw_all := lw_g (lw_at lw_m4 159 rfl) rfl
theorem q1747 : (Jvm.Cond.instantiable "StrangerMarket$IsSo" (1 : Nat)) ∈ lw_all := lw_g (lw_at lw_m7 188 rfl) rfl
theorem q1749 : (Jvm.Cond.instanceMethod ({ cls := "StrangerMarket$IsSo", name := "<init>", desc := "(I)V" } : Jvm.MethodName)) ∈ lw_all := lw_g (lw_at lw_m7 190 rfl) rfl
theorem q1750 : (Jvm.Cond.code ({ cls := "StrangerMarket$IsSo", name := "<init>", desc := "(I)V" } : Jvm.MethodName) prog_9_method_1_code (2 : Nat) (Option.none : Option Jvm.ClassFile.FieldType)) ∈ lw_all := lw_g (lw_at lw_m7 191 rfl) rfl
theorem q1751 : (Jvm.Cond.methodLinkNest "StrangerMarket$IsSo" (1 : Nat) ({ cls := "StrangerMarket$Cond", name := "<init>", desc := "()V" } : Jvm.MethodName) "StrangerMarket") ∈ lw_tbl := lw_at lw_m7 192 rfl
theorem q1752 : (Jvm.Cond.fieldLink "StrangerMarket$IsSo" (7 : Nat) "StrangerMarket$IsSo" "what" "I") ∈ lw_all := lw_g (lw_at lw_m7 193 rfl) rfl
theorem q1753 : (Jvm.Cond.laysFinal "StrangerMarket$IsSo" "StrangerMarket$IsSo" "what" "I") ∈ lw_all := lw_g (lw_at lw_m7 194 rfl) rfl
theorem q1754 : (Jvm.Cond.soleField "StrangerMarket$IsSo" "what") ∈ lw_all := lw_g (lw_at lw_m7 195 rfl) rfl
theorem q1755 : (Jvm.Cond.superclass "StrangerMarket$IsSo" "StrangerMarket$Cond") ∈ lw_all := lw_g (lw_at lw_m7 196 rfl) rfl
theorem q1804 : (Jvm.Cond.selects "StrangerMarket$IsSo" ({ cls := "StrangerMarket$Cond", name := "holds", desc := "(LStrangerMarket$Market;I)Z" } : Jvm.MethodName) ({ cls := "StrangerMarket$IsSo", name := "holds", desc := "(LStrangerMarket$Market;I)Z" } : Jvm.MethodName)) ∈ lw_all := lw_g (lw_at lw_m8 5 rfl) rfl
theorem q1805 : (Jvm.Cond.instanceMethod ({ cls := "StrangerMarket$IsSo", name := "holds", desc := "(LStrangerMarket$Market;I)Z" } : Jvm.MethodName)) ∈ lw_all := lw_g (lw_at lw_m8 6 rfl) rfl
theorem q1806 : (Jvm.Cond.code ({ cls := "StrangerMarket$IsSo", name := "holds", desc := "(LStrangerMarket$Market;I)Z" } : Jvm.MethodName) prog_9_method_3_code (3 : Nat) (Option.some Jvm.ClassFile.FieldType.boolean)) ∈ lw_all := lw_g (lw_at lw_m8 7 rfl) rfl
theorem q1807 : (Jvm.Cond.methodLink "StrangerMarket$IsSo" (33 : Nat) ({ cls := "StrangerMarket$Market", name := "isHome", desc := "(I)Z" } : Jvm.MethodName)) ∈ lw_all := lw_g (lw_at lw_m8 8 rfl) rfl
theorem q1808 : (Jvm.Cond.methodLink "StrangerMarket$IsSo" (36 : Nat) ({ cls := "StrangerMarket$Market", name := "isVeiled", desc := "(I)Z" } : Jvm.MethodName)) ∈ lw_all := lw_g (lw_at lw_m8 9 rfl) rfl
theorem q1809 : (Jvm.Cond.methodLink "StrangerMarket$IsSo" (39 : Nat) ({ cls := "StrangerMarket$Market", name := "wanted", desc := "(I)I" } : Jvm.MethodName)) ∈ lw_all := lw_g (lw_at lw_m8 10 rfl) rfl
theorem q1810 : (Jvm.Cond.methodLink "StrangerMarket$IsSo" (42 : Nat) ({ cls := "StrangerMarket$IsSo", name := "isSold", desc := "(LStrangerMarket$Market;I)Z" } : Jvm.MethodName)) ∈ lw_all := lw_g (lw_at lw_m8 11 rfl) rfl
theorem q1811 : (Jvm.Cond.static ({ cls := "StrangerMarket$IsSo", name := "isSold", desc := "(LStrangerMarket$Market;I)Z" } : Jvm.MethodName)) ∈ lw_all := lw_g (lw_at lw_m8 12 rfl) rfl
theorem q1812 : (Jvm.Cond.code ({ cls := "StrangerMarket$IsSo", name := "isSold", desc := "(LStrangerMarket$Market;I)Z" } : Jvm.MethodName) prog_9_method_2_code (4 : Nat) (Option.some Jvm.ClassFile.FieldType.boolean)) ∈ lw_all := lw_g (lw_at lw_m8 13 rfl) rfl
theorem q1813 : (Jvm.Cond.methodLink "StrangerMarket$IsSo" (13 : Nat) ({ cls := "StrangerMarket$Market", name := "goods", desc := "()I" } : Jvm.MethodName)) ∈ lw_all := lw_g (lw_at lw_m8 14 rfl) rfl
theorem q1814 : (Jvm.Cond.methodLink "StrangerMarket$IsSo" (19 : Nat) ({ cls := "StrangerMarket$Market", name := "person", desc := "(I)LStrangerMarket$Person;" } : Jvm.MethodName)) ∈ lw_all := lw_g (lw_at lw_m8 15 rfl) rfl
theorem q1815 : (Jvm.Cond.methodLink "StrangerMarket$IsSo" (23 : Nat) ({ cls := "StrangerMarket$Person", name := "sells", desc := "(I)Z" } : Jvm.MethodName)) ∈ lw_all := lw_g (lw_at lw_m8 16 rfl) rfl
theorem q1816 : (Jvm.Cond.methodLink "StrangerMarket$IsSo" (29 : Nat) ({ cls := "StrangerMarket$Market", name := "left", desc := "(I)I" } : Jvm.MethodName)) ∈ lw_all := lw_g (lw_at lw_m8 17 rfl) rfl
theorem q2581 : (Jvm.Cond.castable "StrangerMarket$IsSo" "java/lang/Object") ∈ lw_tbl := lw_at lw_m11 62 rfl
theorem q162 : (Jvm.Cond.initialized "StrangerMarket$Than") ∈ lw_all := lw_g (lw_at lw_m1 43 rfl) rfl
theorem q262 : (Jvm.Cond.fieldLinkNest "StrangerMarket$Than" (19 : Nat) "StrangerMarket$Market" "coins" "[I" "StrangerMarket") ∈ lw_tbl := lw_at lw_m1 143 rfl
theorem q265 : (Jvm.Cond.fieldLinkNest "StrangerMarket$Than" (34 : Nat) "StrangerMarket$Market" "hunger" "[I" "StrangerMarket") ∈ lw_tbl := lw_at lw_m1 146 rfl
theorem q1009 : (Jvm.Cond.selects "StrangerMarket$Than" ({ cls := "java/lang/Object", name := "getClass", desc := "()Ljava/lang/Class;" } : Jvm.MethodName) ({ cls := "java/lang/Object", name := "getClass", desc := "()Ljava/lang/Class;" } : Jvm.MethodName)) ∈ lw_all := lw_g (lw_at lw_m4 170 rfl) rfl
theorem q1761 : (Jvm.Cond.instantiable "StrangerMarket$Than" (3 : Nat)) ∈ lw_all := lw_g (lw_at lw_m7 202 rfl) rfl
theorem q1766 : (Jvm.Cond.instanceMethod ({ cls := "StrangerMarket$Than", name := "<init>", desc := "(III)V" } : Jvm.MethodName)) ∈ lw_all := lw_g (lw_at lw_m7 207 rfl) rfl
theorem q1767 : (Jvm.Cond.code ({ cls := "StrangerMarket$Than", name := "<init>", desc := "(III)V" } : Jvm.MethodName) prog_21_method_1_code (4 : Nat) (Option.none : Option Jvm.ClassFile.FieldType)) ∈ lw_all := lw_g (lw_at lw_m7 208 rfl) rfl
theorem q1768 : (Jvm.Cond.methodLinkNest "StrangerMarket$Than" (1 : Nat) ({ cls := "StrangerMarket$Cond", name := "<init>", desc := "()V" } : Jvm.MethodName) "StrangerMarket") ∈ lw_tbl := lw_at lw_m7 209 rfl
theorem q1769 : (Jvm.Cond.fieldLink "StrangerMarket$Than" (7 : Nat) "StrangerMarket$Than" "what" "I") ∈ lw_all := lw_g (lw_at lw_m7 210 rfl) rfl
theorem q1770 : (Jvm.Cond.fieldLink "StrangerMarket$Than" (13 : Nat) "StrangerMarket$Than" "sign" "I") ∈ lw_all := lw_g (lw_at lw_m7 211 rfl) rfl
theorem q1771 : (Jvm.Cond.fieldLink "StrangerMarket$Than" (16 : Nat) "StrangerMarket$Than" "number" "I") ∈ lw_all := lw_g (lw_at lw_m7 212 rfl) rfl
theorem q1772 : (Jvm.Cond.laysFinal "StrangerMarket$Than" "StrangerMarket$Than" "what" "I") ∈ lw_all := lw_g (lw_at lw_m7 213 rfl) rfl
theorem q1773 : (Jvm.Cond.soleField "StrangerMarket$Than" "what") ∈ lw_all := lw_g (lw_at lw_m7 214 rfl) rfl
theorem q1774 : (Jvm.Cond.laysFinal "StrangerMarket$Than" "StrangerMarket$Than" "sign" "I") ∈ lw_all := lw_g (lw_at lw_m7 215 rfl) rfl
theorem q1775 : (Jvm.Cond.soleField "StrangerMarket$Than" "sign") ∈ lw_all := lw_g (lw_at lw_m7 216 rfl) rfl
theorem q1776 : (Jvm.Cond.laysFinal "StrangerMarket$Than" "StrangerMarket$Than" "number" "I") ∈ lw_all := lw_g (lw_at lw_m7 217 rfl) rfl
theorem q1777 : (Jvm.Cond.soleField "StrangerMarket$Than" "number") ∈ lw_all := lw_g (lw_at lw_m7 218 rfl) rfl
theorem q1778 : (Jvm.Cond.superclass "StrangerMarket$Than" "StrangerMarket$Cond") ∈ lw_all := lw_g (lw_at lw_m7 219 rfl) rfl
theorem q1827 : (Jvm.Cond.instanceMethod ({ cls := "StrangerMarket$Than", name := "holds", desc := "(LStrangerMarket$Market;I)Z" } : Jvm.MethodName)) ∈ lw_all := lw_g (lw_at lw_m8 28 rfl) rfl
theorem q1828 : (Jvm.Cond.code ({ cls := "StrangerMarket$Than", name := "holds", desc := "(LStrangerMarket$Market;I)Z" } : Jvm.MethodName) prog_21_method_2_code (4 : Nat) (Option.some Jvm.ClassFile.FieldType.boolean)) ∈ lw_all := lw_g (lw_at lw_m8 29 rfl) rfl
theorem q1829 : (Jvm.Cond.methodLink "StrangerMarket$Than" (25 : Nat) ({ cls := "StrangerMarket$Market", name := "known", desc := "(I)I" } : Jvm.MethodName)) ∈ lw_all := lw_g (lw_at lw_m8 30 rfl) rfl
theorem q1830 : (Jvm.Cond.methodLinkNest "StrangerMarket$Than" (29 : Nat) ({ cls := "StrangerMarket", name := "many", desc := "(I)I" } : Jvm.MethodName) "StrangerMarket") ∈ lw_tbl := lw_at lw_m8 31 rfl
theorem q1835 : (Jvm.Cond.selects "StrangerMarket$Than" ({ cls := "StrangerMarket$Cond", name := "holds", desc := "(LStrangerMarket$Market;I)Z" } : Jvm.MethodName) ({ cls := "StrangerMarket$Than", name := "holds", desc := "(LStrangerMarket$Market;I)Z" } : Jvm.MethodName)) ∈ lw_all := lw_g (lw_at lw_m8 36 rfl) rfl
theorem q2582 : (Jvm.Cond.castable "StrangerMarket$Than" "java/lang/Object") ∈ lw_tbl := lw_at lw_m11 63 rfl
theorem q163 : (Jvm.Cond.initialized "StrangerMarket$Two") ∈ lw_all := lw_g (lw_at lw_m1 44 rfl) rfl
theorem q1010 : (Jvm.Cond.selects "StrangerMarket$Two" ({ cls := "java/lang/Object", name := "getClass", desc := "()Ljava/lang/Class;" } : Jvm.MethodName) ({ cls := "java/lang/Object", name := "getClass", desc := "()Ljava/lang/Class;" } : Jvm.MethodName)) ∈ lw_all := lw_g (lw_at lw_m4 171 rfl) rfl
theorem q1781 : (Jvm.Cond.instantiable "StrangerMarket$Two" (3 : Nat)) ∈ lw_all := lw_g (lw_at lw_m7 222 rfl) rfl
theorem q1783 : (Jvm.Cond.instanceMethod ({ cls := "StrangerMarket$Two", name := "<init>", desc := "(LStrangerMarket$Cond;LStrangerMarket$Cond;Z)V" } : Jvm.MethodName)) ∈ lw_all := lw_g (lw_at lw_m7 224 rfl) rfl
theorem q1784 : (Jvm.Cond.code ({ cls := "StrangerMarket$Two", name := "<init>", desc := "(LStrangerMarket$Cond;LStrangerMarket$Cond;Z)V" } : Jvm.MethodName) prog_22_method_1_code (4 : Nat) (Option.none : Option Jvm.ClassFile.FieldType)) ∈ lw_all := lw_g (lw_at lw_m7 225 rfl) rfl
theorem q1785 : (Jvm.Cond.methodLinkNest "StrangerMarket$Two" (1 : Nat) ({ cls := "StrangerMarket$Cond", name := "<init>", desc := "()V" } : Jvm.MethodName) "StrangerMarket") ∈ lw_tbl := lw_at lw_m7 226 rfl
theorem q1786 : (Jvm.Cond.fieldLink "StrangerMarket$Two" (7 : Nat) "StrangerMarket$Two" "one" "LStrangerMarket$Cond;") ∈ lw_all := lw_g (lw_at lw_m7 227 rfl) rfl
theorem q1787 : (Jvm.Cond.fieldLink "StrangerMarket$Two" (13 : Nat) "StrangerMarket$Two" "other" "LStrangerMarket$Cond;") ∈ lw_all := lw_g (lw_at lw_m7 228 rfl) rfl
theorem q1788 : (Jvm.Cond.fieldLink "StrangerMarket$Two" (16 : Nat) "StrangerMarket$Two" "both" "Z") ∈ lw_all := lw_g (lw_at lw_m7 229 rfl) rfl
theorem q1789 : (Jvm.Cond.laysFinal "StrangerMarket$Two" "StrangerMarket$Two" "one" "LStrangerMarket$Cond;") ∈ lw_all := lw_g (lw_at lw_m7 230 rfl) rfl
theorem q1790 : (Jvm.Cond.soleField "StrangerMarket$Two" "one") ∈ lw_all := lw_g (lw_at lw_m7 231 rfl) rfl
theorem q1791 : (Jvm.Cond.laysFinal "StrangerMarket$Two" "StrangerMarket$Two" "other" "LStrangerMarket$Cond;") ∈ lw_all := lw_g (lw_at lw_m7 232 rfl) rfl
theorem q1792 : (Jvm.Cond.soleField "StrangerMarket$Two" "other") ∈ lw_all := lw_g (lw_at lw_m7 233 rfl) rfl
theorem q1793 : (Jvm.Cond.laysFinal "StrangerMarket$Two" "StrangerMarket$Two" "both" "Z") ∈ lw_all := lw_g (lw_at lw_m7 234 rfl) rfl
theorem q1794 : (Jvm.Cond.soleField "StrangerMarket$Two" "both") ∈ lw_all := lw_g (lw_at lw_m7 235 rfl) rfl
theorem q1795 : (Jvm.Cond.superclass "StrangerMarket$Two" "StrangerMarket$Cond") ∈ lw_all := lw_g (lw_at lw_m7 236 rfl) rfl
theorem q1831 : (Jvm.Cond.instanceMethod ({ cls := "StrangerMarket$Two", name := "holds", desc := "(LStrangerMarket$Market;I)Z" } : Jvm.MethodName)) ∈ lw_all := lw_g (lw_at lw_m8 32 rfl) rfl
theorem q1832 : (Jvm.Cond.code ({ cls := "StrangerMarket$Two", name := "holds", desc := "(LStrangerMarket$Market;I)Z" } : Jvm.MethodName) prog_22_method_2_code (3 : Nat) (Option.some Jvm.ClassFile.FieldType.boolean)) ∈ lw_all := lw_g (lw_at lw_m8 33 rfl) rfl
theorem q1833 : (Jvm.Cond.methodLink "StrangerMarket$Two" (20 : Nat) ({ cls := "StrangerMarket$Cond", name := "holds", desc := "(LStrangerMarket$Market;I)Z" } : Jvm.MethodName)) ∈ lw_all := lw_g (lw_at lw_m8 34 rfl) rfl
theorem q1836 : (Jvm.Cond.selects "StrangerMarket$Two" ({ cls := "StrangerMarket$Cond", name := "holds", desc := "(LStrangerMarket$Market;I)Z" } : Jvm.MethodName) ({ cls := "StrangerMarket$Two", name := "holds", desc := "(LStrangerMarket$Market;I)Z" } : Jvm.MethodName)) ∈ lw_all := lw_g (lw_at lw_m8 37 rfl) rfl
theorem q2583 : (Jvm.Cond.castable "StrangerMarket$Two" "java/lang/Object") ∈ lw_tbl := lw_at lw_m11 64 rfl
theorem q125 : (Jvm.Cond.initialized "StrangerMarket$Market") ∈ lw_all := lw_g (lw_at lw_m1 6 rfl) rfl
theorem q209 : (Jvm.Cond.fieldLinkNest "StrangerMarket$Market" (141 : Nat) "StrangerMarket$County" "deals" "I" "StrangerMarket") ∈ lw_tbl := lw_at lw_m1 90 rfl
theorem q213 : (Jvm.Cond.fieldLinkNest "StrangerMarket$Market" (101 : Nat) "StrangerMarket$County" "veils" "I" "StrangerMarket") ∈ lw_tbl := lw_at lw_m1 94 rfl
theorem q216 : (Jvm.Cond.fieldLinkNest "StrangerMarket$Market" (156 : Nat) "StrangerMarket$County" "bell" "I" "StrangerMarket") ∈ lw_tbl := lw_at lw_m1 97 rfl
theorem q220 : (Jvm.Cond.fieldLinkNest "StrangerMarket$Market" (84 : Nat) "StrangerMarket$County" "persons" "Ljava/util/ArrayList;" "StrangerMarket") ∈ lw_tbl := lw_at lw_m1 101 rfl
theorem q226 : (Jvm.Cond.fieldLinkNest "StrangerMarket$Market" (94 : Nat) "StrangerMarket$County" "goods" "Ljava/util/ArrayList;" "StrangerMarket") ∈ lw_tbl := lw_at lw_m1 107 rfl
theorem q244 : (Jvm.Cond.instantiable "StrangerMarket$Market" (13 : Nat)) ∈ lw_all := lw_g (lw_at lw_m1 125 rfl) rfl
theorem q246 : (Jvm.Cond.instanceMethod ({ cls := "StrangerMarket$Market", name := "<init>", desc := "()V" } : Jvm.MethodName)) ∈ lw_all := lw_g (lw_at lw_m1 127 rfl) rfl
theorem q247 : (Jvm.Cond.code ({ cls := "StrangerMarket$Market", name := "<init>", desc := "()V" } : Jvm.MethodName) prog_11_method_1_code (1 : Nat) (Option.none : Option Jvm.ClassFile.FieldType)) ∈ lw_all := lw_g (lw_at lw_m1 128 rfl) rfl
theorem q248 : (Jvm.Cond.methodLink "StrangerMarket$Market" (3 : Nat) ({ cls := "java/lang/Object", name := "<init>", desc := "()V" } : Jvm.MethodName)) ∈ lw_all := lw_g (lw_at lw_m1 129 rfl) rfl
theorem q249 : (Jvm.Cond.fieldLink "StrangerMarket$Market" (30 : Nat) "StrangerMarket$Market" "c" "LStrangerMarket$County;") ∈ lw_all := lw_g (lw_at lw_m1 130 rfl) rfl
theorem q251 : (Jvm.Cond.fieldLink "StrangerMarket$Market" (34 : Nat) "StrangerMarket$Market" "day" "I") ∈ lw_all := lw_g (lw_at lw_m1 132 rfl) rfl
theorem q253 : (Jvm.Cond.fieldLink "StrangerMarket$Market" (38 : Nat) "StrangerMarket$Market" "bought" "I") ∈ lw_all := lw_g (lw_at lw_m1 134 rfl) rfl
theorem q255 : (Jvm.Cond.fieldLink "StrangerMarket$Market" (65 : Nat) "StrangerMarket$Market" "veils" "I") ∈ lw_all := lw_g (lw_at lw_m1 136 rfl) rfl
theorem q257 : (Jvm.Cond.fieldLink "StrangerMarket$Market" (68 : Nat) "StrangerMarket$Market" "home" "I") ∈ lw_all := lw_g (lw_at lw_m1 138 rfl) rfl
theorem q259 : (Jvm.Cond.fieldLink "StrangerMarket$Market" (71 : Nat) "StrangerMarket$Market" "veiled" "I") ∈ lw_all := lw_g (lw_at lw_m1 140 rfl) rfl
theorem q261 : (Jvm.Cond.fieldLink "StrangerMarket$Market" (9 : Nat) "StrangerMarket$Market" "coins" "[I") ∈ lw_all := lw_g (lw_at lw_m1 142 rfl) rfl
theorem q264 : (Jvm.Cond.fieldLink "StrangerMarket$Market" (15 : Nat) "StrangerMarket$Market" "hunger" "[I") ∈ lw_all := lw_g (lw_at lw_m1 145 rfl) rfl
theorem q267 : (Jvm.Cond.fieldLink "StrangerMarket$Market" (18 : Nat) "StrangerMarket$Market" "met" "[I") ∈ lw_all := lw_g (lw_at lw_m1 148 rfl) rfl
theorem q269 : (Jvm.Cond.fieldLink "StrangerMarket$Market" (21 : Nat) "StrangerMarket$Market" "deals" "[I") ∈ lw_all := lw_g (lw_at lw_m1 150 rfl) rfl
theorem q271 : (Jvm.Cond.fieldLink "StrangerMarket$Market" (24 : Nat) "StrangerMarket$Market" "stock" "[I") ∈ lw_all := lw_g (lw_at lw_m1 152 rfl) rfl
theorem q273 : (Jvm.Cond.fieldLink "StrangerMarket$Market" (27 : Nat) "StrangerMarket$Market" "want" "[I") ∈ lw_all := lw_g (lw_at lw_m1 154 rfl) rfl
theorem q276 : (Jvm.Cond.fieldLink "StrangerMarket$Market" (166 : Nat) "StrangerMarket$Market" "seed" "I") ∈ lw_all := lw_g (lw_at lw_m1 157 rfl) rfl
theorem q277 : (Jvm.Cond.lays "StrangerMarket$Market" "StrangerMarket$Market" "c" "LStrangerMarket$County;") ∈ lw_all := lw_g (lw_at lw_m1 158 rfl) rfl
theorem q278 : (Jvm.Cond.soleField "StrangerMarket$Market" "c") ∈ lw_all := lw_g (lw_at lw_m1 159 rfl) rfl
theorem q279 : (Jvm.Cond.lays "StrangerMarket$Market" "StrangerMarket$Market" "day" "I") ∈ lw_all := lw_g (lw_at lw_m1 160 rfl) rfl
theorem q280 : (Jvm.Cond.soleField "StrangerMarket$Market" "day") ∈ lw_all := lw_g (lw_at lw_m1 161 rfl) rfl
theorem q281 : (Jvm.Cond.lays "StrangerMarket$Market" "StrangerMarket$Market" "bought" "I") ∈ lw_all := lw_g (lw_at lw_m1 162 rfl) rfl
theorem q282 : (Jvm.Cond.soleField "StrangerMarket$Market" "bought") ∈ lw_all := lw_g (lw_at lw_m1 163 rfl) rfl
theorem q283 : (Jvm.Cond.lays "StrangerMarket$Market" "StrangerMarket$Market" "veils" "I") ∈ lw_all := lw_g (lw_at lw_m1 164 rfl) rfl
theorem q284 : (Jvm.Cond.soleField "StrangerMarket$Market" "veils") ∈ lw_all := lw_g (lw_at lw_m1 165 rfl) rfl
theorem q285 : (Jvm.Cond.lays "StrangerMarket$Market" "StrangerMarket$Market" "home" "I") ∈ lw_all := lw_g (lw_at lw_m1 166 rfl) rfl
theorem q286 : (Jvm.Cond.soleField "StrangerMarket$Market" "home") ∈ lw_all := lw_g (lw_at lw_m1 167 rfl) rfl
theorem q287 : (Jvm.Cond.lays "StrangerMarket$Market" "StrangerMarket$Market" "veiled" "I") ∈ lw_all := lw_g (lw_at lw_m1 168 rfl) rfl
theorem q288 : (Jvm.Cond.soleField "StrangerMarket$Market" "veiled") ∈ lw_all := lw_g (lw_at lw_m1 169 rfl) rfl
theorem q289 : (Jvm.Cond.laysFinal "StrangerMarket$Market" "StrangerMarket$Market" "coins" "[I") ∈ lw_all := lw_g (lw_at lw_m1 170 rfl) rfl
theorem q290 : (Jvm.Cond.soleField "StrangerMarket$Market" "coins") ∈ lw_all := lw_g (lw_at lw_m1 171 rfl) rfl
theorem q291 : (Jvm.Cond.laysFinal "StrangerMarket$Market" "StrangerMarket$Market" "hunger" "[I") ∈ lw_all := lw_g (lw_at lw_m1 172 rfl) rfl
theorem q292 : (Jvm.Cond.soleField "StrangerMarket$Market" "hunger") ∈ lw_all := lw_g (lw_at lw_m1 173 rfl) rfl
theorem q293 : (Jvm.Cond.laysFinal "StrangerMarket$Market" "StrangerMarket$Market" "met" "[I") ∈ lw_all := lw_g (lw_at lw_m1 174 rfl) rfl
theorem q294 : (Jvm.Cond.soleField "StrangerMarket$Market" "met") ∈ lw_all := lw_g (lw_at lw_m1 175 rfl) rfl
theorem q295 : (Jvm.Cond.laysFinal "StrangerMarket$Market" "StrangerMarket$Market" "deals" "[I") ∈ lw_all := lw_g (lw_at lw_m1 176 rfl) rfl
theorem q296 : (Jvm.Cond.soleField "StrangerMarket$Market" "deals") ∈ lw_all := lw_g (lw_at lw_m1 177 rfl) rfl
theorem q297 : (Jvm.Cond.laysFinal "StrangerMarket$Market" "StrangerMarket$Market" "stock" "[I") ∈ lw_all := lw_g (lw_at lw_m1 178 rfl) rfl
theorem q298 : (Jvm.Cond.soleField "StrangerMarket$Market" "stock") ∈ lw_all := lw_g (lw_at lw_m1 179 rfl) rfl
theorem q299 : (Jvm.Cond.laysFinal "StrangerMarket$Market" "StrangerMarket$Market" "want" "[I") ∈ lw_all := lw_g (lw_at lw_m1 180 rfl) rfl
theorem q300 : (Jvm.Cond.soleField "StrangerMarket$Market" "want") ∈ lw_all := lw_g (lw_at lw_m1 181 rfl) rfl
theorem q301 : (Jvm.Cond.lays "StrangerMarket$Market" "StrangerMarket$Market" "seed" "I") ∈ lw_all := lw_g (lw_at lw_m1 182 rfl) rfl
theorem q302 : (Jvm.Cond.soleField "StrangerMarket$Market" "seed") ∈ lw_all := lw_g (lw_at lw_m1 183 rfl) rfl
theorem q303 : (Jvm.Cond.superclass "StrangerMarket$Market" "java/lang/Object") ∈ lw_all := lw_g (lw_at lw_m1 184 rfl) rfl
theorem q306 : (Jvm.Cond.instanceMethod ({ cls := "StrangerMarket$Market", name := "begin", desc := "(LStrangerMarket$County;)LStrangerMarket$Market;" } : Jvm.MethodName)) ∈ lw_all := lw_g (lw_at lw_m1 187 rfl) rfl
theorem q307 : (Jvm.Cond.selects "StrangerMarket$Market" ({ cls := "StrangerMarket$Market", name := "begin", desc := "(LStrangerMarket$County;)LStrangerMarket$Market;" } : Jvm.MethodName) ({ cls := "StrangerMarket$Market", name := "begin", desc := "(LStrangerMarket$County;)LStrangerMarket$Market;" } : Jvm.MethodName)) ∈ lw_all := lw_g (lw_at lw_m1 188 rfl) rfl
theorem q308 : (Jvm.Cond.code ({ cls := "StrangerMarket$Market", name := "begin", desc := "(LStrangerMarket$County;)LStrangerMarket$Market;" } : Jvm.MethodName) prog_11_method_2_code (3 : Nat) (Option.some (Jvm.ClassFile.FieldType.object "StrangerMarket$Market"))) ∈ lw_all := lw_g (lw_at lw_m1 189 rfl) rfl
theorem q309 : (Jvm.Cond.methodLink "StrangerMarket$Market" (41 : Nat) ({ cls := "java/util/Arrays", name := "fill", desc := "([II)V" } : Jvm.MethodName)) ∈ lw_all := lw_g (lw_at lw_m1 190 rfl) rfl
theorem q312 : (Jvm.Cond.methodLink "StrangerMarket$Market" (47 : Nat) ({ cls := "StrangerMarket$Market", name := "persons", desc := "()I" } : Jvm.MethodName)) ∈ lw_all := lw_g (lw_at lw_m1 193 rfl) rfl
theorem q313 : (Jvm.Cond.instanceMethod ({ cls := "StrangerMarket$Market", name := "persons", desc := "()I" } : Jvm.MethodName)) ∈ lw_all := lw_g (lw_at lw_m1 194 rfl) rfl
theorem q314 : (Jvm.Cond.selects "StrangerMarket$Market" ({ cls := "StrangerMarket$Market", name := "persons", desc := "()I" } : Jvm.MethodName) ({ cls := "StrangerMarket$Market", name := "persons", desc := "()I" } : Jvm.MethodName)) ∈ lw_all := lw_g (lw_at lw_m1 195 rfl) rfl
theorem q315 : (Jvm.Cond.code ({ cls := "StrangerMarket$Market", name := "persons", desc := "()I" } : Jvm.MethodName) prog_11_method_6_code (1 : Nat) (Option.some Jvm.ClassFile.FieldType.int)) ∈ lw_all := lw_g (lw_at lw_m1 196 rfl) rfl
theorem q316 : (Jvm.Cond.methodLink "StrangerMarket$Market" (89 : Nat) ({ cls := "java/util/ArrayList", name := "size", desc := "()I" } : Jvm.MethodName)) ∈ lw_all := lw_g (lw_at lw_m1 197 rfl) rfl
theorem q320 : (Jvm.Cond.methodLink "StrangerMarket$Market" (51 : Nat) ({ cls := "StrangerMarket$Market", name := "person", desc := "(I)LStrangerMarket$Person;" } : Jvm.MethodName)) ∈ lw_all := lw_g (lw_at lw_m1 201 rfl) rfl
theorem q321 : (Jvm.Cond.instanceMethod ({ cls := "StrangerMarket$Market", name := "person", desc := "(I)LStrangerMarket$Person;" } : Jvm.MethodName)) ∈ lw_all := lw_g (lw_at lw_m1 202 rfl) rfl
theorem q322 : (Jvm.Cond.selects "StrangerMarket$Market" ({ cls := "StrangerMarket$Market", name := "person", desc := "(I)LStrangerMarket$Person;" } : Jvm.MethodName) ({ cls := "StrangerMarket$Market", name := "person", desc := "(I)LStrangerMarket$Person;" } : Jvm.MethodName)) ∈ lw_all := lw_g (lw_at lw_m1 203 rfl) rfl
theorem q323 : (Jvm.Cond.code ({ cls := "StrangerMarket$Market", name := "person", desc := "(I)LStrangerMarket$Person;" } : Jvm.MethodName) prog_11_method_8_code (2 : Nat) (Option.some (Jvm.ClassFile.FieldType.object "StrangerMarket$Person"))) ∈ lw_all := lw_g (lw_at lw_m1 204 rfl) rfl
theorem q324 : (Jvm.Cond.methodLink "StrangerMarket$Market" (97 : Nat) ({ cls := "java/util/ArrayList", name := "get", desc := "(I)Ljava/lang/Object;" } : Jvm.MethodName)) ∈ lw_all := lw_g (lw_at lw_m1 205 rfl) rfl
theorem q338 : (Jvm.Cond.classLink "StrangerMarket$Market" (56 : Nat) "StrangerMarket$Person") ∈ lw_all := lw_g (lw_at lw_m1 219 rfl) rfl
theorem q339 : (Jvm.Cond.methodLink "StrangerMarket$Market" (59 : Nat) ({ cls := "StrangerMarket$Market", name := "forget", desc := "()V" } : Jvm.MethodName)) ∈ lw_all := lw_g (lw_at lw_m1 220 rfl) rfl
theorem q340 : (Jvm.Cond.privateMethod ({ cls := "StrangerMarket$Market", name := "forget", desc := "()V" } : Jvm.MethodName)) ∈ lw_tbl := lw_at lw_m1 221 rfl
theorem q341 : (Jvm.Cond.instanceMethod ({ cls := "StrangerMarket$Market", name := "forget", desc := "()V" } : Jvm.MethodName)) ∈ lw_all := lw_g (lw_at lw_m1 222 rfl) rfl
theorem q342 : (Jvm.Cond.code ({ cls := "StrangerMarket$Market", name := "forget", desc := "()V" } : Jvm.MethodName) prog_11_method_9_code (1 : Nat) (Option.none : Option Jvm.ClassFile.FieldType)) ∈ lw_all := lw_g (lw_at lw_m1 223 rfl) rfl
theorem q343 : (Jvm.Cond.methodLink "StrangerMarket$Market" (62 : Nat) ({ cls := "StrangerMarket$Market", name := "open", desc := "()V" } : Jvm.MethodName)) ∈ lw_all := lw_g (lw_at lw_m1 224 rfl) rfl
theorem q344 : (Jvm.Cond.privateMethod ({ cls := "StrangerMarket$Market", name := "open", desc := "()V" } : Jvm.MethodName)) ∈ lw_tbl := lw_at lw_m1 225 rfl
theorem q345 : (Jvm.Cond.instanceMethod ({ cls := "StrangerMarket$Market", name := "open", desc := "()V" } : Jvm.MethodName)) ∈ lw_all := lw_g (lw_at lw_m1 226 rfl) rfl
theorem q346 : (Jvm.Cond.code ({ cls := "StrangerMarket$Market", name := "open", desc := "()V" } : Jvm.MethodName) prog_11_method_10_code (2 : Nat) (Option.none : Option Jvm.ClassFile.FieldType)) ∈ lw_all := lw_g (lw_at lw_m1 227 rfl) rfl
theorem q347 : (Jvm.Cond.methodLink "StrangerMarket$Market" (78 : Nat) ({ cls := "java/lang/System", name := "arraycopy", desc := "(Ljava/lang/Object;ILjava/lang/Object;II)V" } : Jvm.MethodName)) ∈ lw_all := lw_g (lw_at lw_m1 228 rfl) rfl
theorem q933 : (Jvm.Cond.fieldLinkNest "StrangerMarket$Market" (55 : Nat) "StrangerMarket$Person" "coins" "I" "StrangerMarket") ∈ lw_tbl := lw_at lw_m4 94 rfl
theorem q934 : (Jvm.Cond.fieldLinkNest "StrangerMarket$Market" (104 : Nat) "StrangerMarket$Person" "knows" "I" "StrangerMarket") ∈ lw_tbl := lw_at lw_m4 95 rfl
theorem q936 : (Jvm.Cond.fieldLinkNest "StrangerMarket$Market" (115 : Nat) "StrangerMarket$Person" "foes" "I" "StrangerMarket") ∈ lw_tbl := lw_at lw_m4 97 rfl
theorem q940 : (Jvm.Cond.fieldLinkNest "StrangerMarket$Market" (102 : Nat) "StrangerMarket$Person" "stock" "[I" "StrangerMarket") ∈ lw_tbl := lw_at lw_m4 101 rfl
theorem q945 : (Jvm.Cond.fieldLinkNest "StrangerMarket$Market" (138 : Nat) "StrangerMarket$Person" "price" "[I" "StrangerMarket") ∈ lw_tbl := lw_at lw_m4 106 rfl
theorem q948 : (Jvm.Cond.fieldLinkNest "StrangerMarket$Market" (103 : Nat) "StrangerMarket$Person" "want" "[I" "StrangerMarket") ∈ lw_tbl := lw_at lw_m4 109 rfl
theorem q1000 : (Jvm.Cond.selects "StrangerMarket$Market" ({ cls := "java/lang/Object", name := "getClass", desc := "()Ljava/lang/Class;" } : Jvm.MethodName) ({ cls := "java/lang/Object", name := "getClass", desc := "()Ljava/lang/Class;" } : Jvm.MethodName)) ∈ lw_all := lw_g (lw_at lw_m4 161 rfl) rfl
theorem q1146 : (Jvm.Cond.instanceMethod ({ cls := "StrangerMarket$Market", name := "wanted", desc := "(I)I" } : Jvm.MethodName)) ∈ lw_all := lw_g (lw_at lw_m5 67 rfl) rfl
theorem q1147 : (Jvm.Cond.selects "StrangerMarket$Market" ({ cls := "StrangerMarket$Market", name := "wanted", desc := "(I)I" } : Jvm.MethodName) ({ cls := "StrangerMarket$Market", name := "wanted", desc := "(I)I" } : Jvm.MethodName)) ∈ lw_all := lw_g (lw_at lw_m5 68 rfl) rfl
theorem q1148 : (Jvm.Cond.code ({ cls := "StrangerMarket$Market", name := "wanted", desc := "(I)I" } : Jvm.MethodName) prog_11_method_19_code (2 : Nat) (Option.some Jvm.ClassFile.FieldType.int)) ∈ lw_all := lw_g (lw_at lw_m5 69 rfl) rfl
theorem q1149 : (Jvm.Cond.methodLink "StrangerMarket$Market" (127 : Nat) ({ cls := "StrangerMarket$Market", name := "sum", desc := "([II)I" } : Jvm.MethodName)) ∈ lw_all := lw_g (lw_at lw_m5 70 rfl) rfl
theorem q1150 : (Jvm.Cond.privateMethod ({ cls := "StrangerMarket$Market", name := "sum", desc := "([II)I" } : Jvm.MethodName)) ∈ lw_tbl := lw_at lw_m5 71 rfl
theorem q1151 : (Jvm.Cond.instanceMethod ({ cls := "StrangerMarket$Market", name := "sum", desc := "([II)I" } : Jvm.MethodName)) ∈ lw_all := lw_g (lw_at lw_m5 72 rfl) rfl
theorem q1152 : (Jvm.Cond.code ({ cls := "StrangerMarket$Market", name := "sum", desc := "([II)I" } : Jvm.MethodName) prog_11_method_18_code (5 : Nat) (Option.some Jvm.ClassFile.FieldType.int)) ∈ lw_all := lw_g (lw_at lw_m5 73 rfl) rfl
theorem q1210 : (Jvm.Cond.instanceMethod ({ cls := "StrangerMarket$Market", name := "as", desc := "(LStrangerMarket$Market;)LStrangerMarket$Market;" } : Jvm.MethodName)) ∈ lw_all := lw_g (lw_at lw_m5 131 rfl) rfl
theorem q1211 : (Jvm.Cond.selects "StrangerMarket$Market" ({ cls := "StrangerMarket$Market", name := "as", desc := "(LStrangerMarket$Market;)LStrangerMarket$Market;" } : Jvm.MethodName) ({ cls := "StrangerMarket$Market", name := "as", desc := "(LStrangerMarket$Market;)LStrangerMarket$Market;" } : Jvm.MethodName)) ∈ lw_all := lw_g (lw_at lw_m5 132 rfl) rfl
theorem q1212 : (Jvm.Cond.code ({ cls := "StrangerMarket$Market", name := "as", desc := "(LStrangerMarket$Market;)LStrangerMarket$Market;" } : Jvm.MethodName) prog_11_method_3_code (2 : Nat) (Option.some (Jvm.ClassFile.FieldType.object "StrangerMarket$Market"))) ∈ lw_all := lw_g (lw_at lw_m5 133 rfl) rfl
theorem q1213 : (Jvm.Cond.methodLink "StrangerMarket$Market" (74 : Nat) ({ cls := "StrangerMarket$Market", name := "copy", desc := "([I[I)V" } : Jvm.MethodName)) ∈ lw_all := lw_g (lw_at lw_m5 134 rfl) rfl
theorem q1214 : (Jvm.Cond.static ({ cls := "StrangerMarket$Market", name := "copy", desc := "([I[I)V" } : Jvm.MethodName)) ∈ lw_all := lw_g (lw_at lw_m5 135 rfl) rfl
theorem q1215 : (Jvm.Cond.code ({ cls := "StrangerMarket$Market", name := "copy", desc := "([I[I)V" } : Jvm.MethodName) prog_11_method_4_code (2 : Nat) (Option.none : Option Jvm.ClassFile.FieldType)) ∈ lw_all := lw_g (lw_at lw_m5 136 rfl) rfl
theorem q1223 : (Jvm.Cond.instanceMethod ({ cls := "StrangerMarket$Market", name := "whyBuy", desc := "(III)I" } : Jvm.MethodName)) ∈ lw_all := lw_g (lw_at lw_m5 144 rfl) rfl
theorem q1224 : (Jvm.Cond.selects "StrangerMarket$Market" ({ cls := "StrangerMarket$Market", name := "whyBuy", desc := "(III)I" } : Jvm.MethodName) ({ cls := "StrangerMarket$Market", name := "whyBuy", desc := "(III)I" } : Jvm.MethodName)) ∈ lw_all := lw_g (lw_at lw_m5 145 rfl) rfl
theorem q1225 : (Jvm.Cond.code ({ cls := "StrangerMarket$Market", name := "whyBuy", desc := "(III)I" } : Jvm.MethodName) prog_11_method_21_code (4 : Nat) (Option.some Jvm.ClassFile.FieldType.int)) ∈ lw_all := lw_g (lw_at lw_m5 146 rfl) rfl
theorem q1226 : (Jvm.Cond.methodLink "StrangerMarket$Market" (131 : Nat) ({ cls := "StrangerMarket$Market", name := "isHome", desc := "(I)Z" } : Jvm.MethodName)) ∈ lw_all := lw_g (lw_at lw_m5 147 rfl) rfl
theorem q1227 : (Jvm.Cond.instanceMethod ({ cls := "StrangerMarket$Market", name := "isHome", desc := "(I)Z" } : Jvm.MethodName)) ∈ lw_all := lw_g (lw_at lw_m5 148 rfl) rfl
theorem q1228 : (Jvm.Cond.selects "StrangerMarket$Market" ({ cls := "StrangerMarket$Market", name := "isHome", desc := "(I)Z" } : Jvm.MethodName) ({ cls := "StrangerMarket$Market", name := "isHome", desc := "(I)Z" } : Jvm.MethodName)) ∈ lw_all := lw_g (lw_at lw_m5 149 rfl) rfl
theorem q1229 : (Jvm.Cond.code ({ cls := "StrangerMarket$Market", name := "isHome", desc := "(I)Z" } : Jvm.MethodName) prog_11_method_16_code (2 : Nat) (Option.some Jvm.ClassFile.FieldType.boolean)) ∈ lw_all := lw_g (lw_at lw_m5 150 rfl) rfl
theorem q1230 : (Jvm.Cond.methodLinkNest "StrangerMarket$Market" (111 : Nat) ({ cls := "StrangerMarket", name := "isOf", desc := "(II)Z" } : Jvm.MethodName) "StrangerMarket") ∈ lw_tbl := lw_at lw_m5 151 rfl
theorem q1231 : (Jvm.Cond.methodLink "StrangerMarket$Market" (124 : Nat) ({ cls := "StrangerMarket$Market", name := "may", desc := "(II)Z" } : Jvm.MethodName)) ∈ lw_all := lw_g (lw_at lw_m5 152 rfl) rfl
theorem q1232 : (Jvm.Cond.instanceMethod ({ cls := "StrangerMarket$Market", name := "may", desc := "(II)Z" } : Jvm.MethodName)) ∈ lw_all := lw_g (lw_at lw_m5 153 rfl) rfl
theorem q1233 : (Jvm.Cond.selects "StrangerMarket$Market" ({ cls := "StrangerMarket$Market", name := "may", desc := "(II)Z" } : Jvm.MethodName) ({ cls := "StrangerMarket$Market", name := "may", desc := "(II)Z" } : Jvm.MethodName)) ∈ lw_all := lw_g (lw_at lw_m5 154 rfl) rfl
theorem q1234 : (Jvm.Cond.code ({ cls := "StrangerMarket$Market", name := "may", desc := "(II)Z" } : Jvm.MethodName) prog_11_method_14_code (3 : Nat) (Option.some Jvm.ClassFile.FieldType.boolean)) ∈ lw_all := lw_g (lw_at lw_m5 155 rfl) rfl
theorem q1235 : (Jvm.Cond.methodLink "StrangerMarket$Market" (118 : Nat) ({ cls := "StrangerMarket$Market", name := "know", desc := "(II)Z" } : Jvm.MethodName)) ∈ lw_all := lw_g (lw_at lw_m5 156 rfl) rfl
theorem q1236 : (Jvm.Cond.instanceMethod ({ cls := "StrangerMarket$Market", name := "know", desc := "(II)Z" } : Jvm.MethodName)) ∈ lw_all := lw_g (lw_at lw_m5 157 rfl) rfl
theorem q1237 : (Jvm.Cond.selects "StrangerMarket$Market" ({ cls := "StrangerMarket$Market", name := "know", desc := "(II)Z" } : Jvm.MethodName) ({ cls := "StrangerMarket$Market", name := "know", desc := "(II)Z" } : Jvm.MethodName)) ∈ lw_all := lw_g (lw_at lw_m5 158 rfl) rfl
theorem q1238 : (Jvm.Cond.code ({ cls := "StrangerMarket$Market", name := "know", desc := "(II)Z" } : Jvm.MethodName) prog_11_method_12_code (3 : Nat) (Option.some Jvm.ClassFile.FieldType.boolean)) ∈ lw_all := lw_g (lw_at lw_m5 159 rfl) rfl
theorem q1239 : (Jvm.Cond.methodLink "StrangerMarket$Market" (107 : Nat) ({ cls := "StrangerMarket$Market", name := "known", desc := "(I)I" } : Jvm.MethodName)) ∈ lw_all := lw_g (lw_at lw_m5 160 rfl) rfl
theorem q1240 : (Jvm.Cond.instanceMethod ({ cls := "StrangerMarket$Market", name := "known", desc := "(I)I" } : Jvm.MethodName)) ∈ lw_all := lw_g (lw_at lw_m5 161 rfl) rfl
theorem q1241 : (Jvm.Cond.selects "StrangerMarket$Market" ({ cls := "StrangerMarket$Market", name := "known", desc := "(I)I" } : Jvm.MethodName) ({ cls := "StrangerMarket$Market", name := "known", desc := "(I)I" } : Jvm.MethodName)) ∈ lw_all := lw_g (lw_at lw_m5 162 rfl) rfl
theorem q1242 : (Jvm.Cond.code ({ cls := "StrangerMarket$Market", name := "known", desc := "(I)I" } : Jvm.MethodName) prog_11_method_11_code (2 : Nat) (Option.some Jvm.ClassFile.FieldType.int)) ∈ lw_all := lw_g (lw_at lw_m5 163 rfl) rfl
theorem q1243 : (Jvm.Cond.methodLink "StrangerMarket$Market" (121 : Nat) ({ cls := "StrangerMarket$Market", name := "areFoes", desc := "(II)Z" } : Jvm.MethodName)) ∈ lw_all := lw_g (lw_at lw_m5 164 rfl) rfl
theorem q1244 : (Jvm.Cond.instanceMethod ({ cls := "StrangerMarket$Market", name := "areFoes", desc := "(II)Z" } : Jvm.MethodName)) ∈ lw_all := lw_g (lw_at lw_m5 165 rfl) rfl
theorem q1245 : (Jvm.Cond.selects "StrangerMarket$Market" ({ cls := "StrangerMarket$Market", name := "areFoes", desc := "(II)Z" } : Jvm.MethodName) ({ cls := "StrangerMarket$Market", name := "areFoes", desc := "(II)Z" } : Jvm.MethodName)) ∈ lw_all := lw_g (lw_at lw_m5 166 rfl) rfl
theorem q1246 : (Jvm.Cond.code ({ cls := "StrangerMarket$Market", name := "areFoes", desc := "(II)Z" } : Jvm.MethodName) prog_11_method_13_code (3 : Nat) (Option.some Jvm.ClassFile.FieldType.boolean)) ∈ lw_all := lw_g (lw_at lw_m5 167 rfl) rfl
theorem q1247 : (Jvm.Cond.methodLink "StrangerMarket$Market" (135 : Nat) ({ cls := "StrangerMarket$Market", name := "isVeiled", desc := "(I)Z" } : Jvm.MethodName)) ∈ lw_all := lw_g (lw_at lw_m5 168 rfl) rfl
theorem q1248 : (Jvm.Cond.instanceMethod ({ cls := "StrangerMarket$Market", name := "isVeiled", desc := "(I)Z" } : Jvm.MethodName)) ∈ lw_all := lw_g (lw_at lw_m5 169 rfl) rfl
theorem q1249 : (Jvm.Cond.selects "StrangerMarket$Market" ({ cls := "StrangerMarket$Market", name := "isVeiled", desc := "(I)Z" } : Jvm.MethodName) ({ cls := "StrangerMarket$Market", name := "isVeiled", desc := "(I)Z" } : Jvm.MethodName)) ∈ lw_all := lw_g (lw_at lw_m5 170 rfl) rfl
theorem q1250 : (Jvm.Cond.code ({ cls := "StrangerMarket$Market", name := "isVeiled", desc := "(I)Z" } : Jvm.MethodName) prog_11_method_17_code (2 : Nat) (Option.some Jvm.ClassFile.FieldType.boolean)) ∈ lw_all := lw_g (lw_at lw_m5 171 rfl) rfl
theorem q1252 : (Jvm.Cond.instanceMethod ({ cls := "StrangerMarket$Market", name := "buy", desc := "(III)V" } : Jvm.MethodName)) ∈ lw_all := lw_g (lw_at lw_m5 173 rfl) rfl
theorem q1253 : (Jvm.Cond.selects "StrangerMarket$Market" ({ cls := "StrangerMarket$Market", name := "buy", desc := "(III)V" } : Jvm.MethodName) ({ cls := "StrangerMarket$Market", name := "buy", desc := "(III)V" } : Jvm.MethodName)) ∈ lw_all := lw_g (lw_at lw_m5 174 rfl) rfl
theorem q1254 : (Jvm.Cond.code ({ cls := "StrangerMarket$Market", name := "buy", desc := "(III)V" } : Jvm.MethodName) prog_11_method_22_code (4 : Nat) (Option.none : Option Jvm.ClassFile.FieldType)) ∈ lw_all := lw_g (lw_at lw_m5 175 rfl) rfl
theorem q1255 : (Jvm.Cond.methodLink "StrangerMarket$Market" (143 : Nat) ({ cls := "StrangerMarket$Market", name := "meet", desc := "(II)V" } : Jvm.MethodName)) ∈ lw_all := lw_g (lw_at lw_m5 176 rfl) rfl
theorem q1256 : (Jvm.Cond.instanceMethod ({ cls := "StrangerMarket$Market", name := "meet", desc := "(II)V" } : Jvm.MethodName)) ∈ lw_all := lw_g (lw_at lw_m5 177 rfl) rfl
theorem q1257 : (Jvm.Cond.selects "StrangerMarket$Market" ({ cls := "StrangerMarket$Market", name := "meet", desc := "(II)V" } : Jvm.MethodName) ({ cls := "StrangerMarket$Market", name := "meet", desc := "(II)V" } : Jvm.MethodName)) ∈ lw_all := lw_g (lw_at lw_m5 178 rfl) rfl
theorem q1258 : (Jvm.Cond.code ({ cls := "StrangerMarket$Market", name := "meet", desc := "(II)V" } : Jvm.MethodName) prog_11_method_23_code (3 : Nat) (Option.none : Option Jvm.ClassFile.FieldType)) ∈ lw_all := lw_g (lw_at lw_m5 179 rfl) rfl
theorem q1263 : (Jvm.Cond.instanceMethod ({ cls := "StrangerMarket$Market", name := "whyNod", desc := "(II)I" } : Jvm.MethodName)) ∈ lw_all := lw_g (lw_at lw_m5 184 rfl) rfl
theorem q1264 : (Jvm.Cond.selects "StrangerMarket$Market" ({ cls := "StrangerMarket$Market", name := "whyNod", desc := "(II)I" } : Jvm.MethodName) ({ cls := "StrangerMarket$Market", name := "whyNod", desc := "(II)I" } : Jvm.MethodName)) ∈ lw_all := lw_g (lw_at lw_m5 185 rfl) rfl
theorem q1265 : (Jvm.Cond.code ({ cls := "StrangerMarket$Market", name := "whyNod", desc := "(II)I" } : Jvm.MethodName) prog_11_method_24_code (3 : Nat) (Option.some Jvm.ClassFile.FieldType.int)) ∈ lw_all := lw_g (lw_at lw_m5 186 rfl) rfl
theorem q1267 : (Jvm.Cond.instanceMethod ({ cls := "StrangerMarket$Market", name := "nod", desc := "(II)V" } : Jvm.MethodName)) ∈ lw_all := lw_g (lw_at lw_m5 188 rfl) rfl
theorem q1268 : (Jvm.Cond.selects "StrangerMarket$Market" ({ cls := "StrangerMarket$Market", name := "nod", desc := "(II)V" } : Jvm.MethodName) ({ cls := "StrangerMarket$Market", name := "nod", desc := "(II)V" } : Jvm.MethodName)) ∈ lw_all := lw_g (lw_at lw_m5 189 rfl) rfl
theorem q1269 : (Jvm.Cond.code ({ cls := "StrangerMarket$Market", name := "nod", desc := "(II)V" } : Jvm.MethodName) prog_11_method_25_code (3 : Nat) (Option.none : Option Jvm.ClassFile.FieldType)) ∈ lw_all := lw_g (lw_at lw_m5 190 rfl) rfl
theorem q1278 : (Jvm.Cond.instanceMethod ({ cls := "StrangerMarket$Market", name := "passAll", desc := "(I)I" } : Jvm.MethodName)) ∈ lw_all := lw_g (lw_at lw_m5 199 rfl) rfl
theorem q1279 : (Jvm.Cond.selects "StrangerMarket$Market" ({ cls := "StrangerMarket$Market", name := "passAll", desc := "(I)I" } : Jvm.MethodName) ({ cls := "StrangerMarket$Market", name := "passAll", desc := "(I)I" } : Jvm.MethodName)) ∈ lw_all := lw_g (lw_at lw_m5 200 rfl) rfl
theorem q1280 : (Jvm.Cond.code ({ cls := "StrangerMarket$Market", name := "passAll", desc := "(I)I" } : Jvm.MethodName) prog_11_method_30_code (3 : Nat) (Option.some Jvm.ClassFile.FieldType.int)) ∈ lw_all := lw_g (lw_at lw_m5 201 rfl) rfl
theorem q1281 : (Jvm.Cond.methodLink "StrangerMarket$Market" (159 : Nat) ({ cls := "StrangerMarket$Market", name := "isOver", desc := "()Z" } : Jvm.MethodName)) ∈ lw_all := lw_g (lw_at lw_m5 202 rfl) rfl
theorem q1282 : (Jvm.Cond.instanceMethod ({ cls := "StrangerMarket$Market", name := "isOver", desc := "()Z" } : Jvm.MethodName)) ∈ lw_all := lw_g (lw_at lw_m5 203 rfl) rfl
theorem q1283 : (Jvm.Cond.selects "StrangerMarket$Market" ({ cls := "StrangerMarket$Market", name := "isOver", desc := "()Z" } : Jvm.MethodName) ({ cls := "StrangerMarket$Market", name := "isOver", desc := "()Z" } : Jvm.MethodName)) ∈ lw_all := lw_g (lw_at lw_m5 204 rfl) rfl
theorem q1284 : (Jvm.Cond.code ({ cls := "StrangerMarket$Market", name := "isOver", desc := "()Z" } : Jvm.MethodName) prog_11_method_5_code (1 : Nat) (Option.some Jvm.ClassFile.FieldType.boolean)) ∈ lw_all := lw_g (lw_at lw_m5 205 rfl) rfl
theorem q1285 : (Jvm.Cond.methodLink "StrangerMarket$Market" (163 : Nat) ({ cls := "StrangerMarket$Market", name := "pass", desc := "()V" } : Jvm.MethodName)) ∈ lw_all := lw_g (lw_at lw_m5 206 rfl) rfl
theorem q1286 : (Jvm.Cond.instanceMethod ({ cls := "StrangerMarket$Market", name := "pass", desc := "()V" } : Jvm.MethodName)) ∈ lw_all := lw_g (lw_at lw_m5 207 rfl) rfl
theorem q1287 : (Jvm.Cond.selects "StrangerMarket$Market" ({ cls := "StrangerMarket$Market", name := "pass", desc := "()V" } : Jvm.MethodName) ({ cls := "StrangerMarket$Market", name := "pass", desc := "()V" } : Jvm.MethodName)) ∈ lw_all := lw_g (lw_at lw_m5 208 rfl) rfl
theorem q1288 : (Jvm.Cond.code ({ cls := "StrangerMarket$Market", name := "pass", desc := "()V" } : Jvm.MethodName) prog_11_method_29_code (2 : Nat) (Option.none : Option Jvm.ClassFile.FieldType)) ∈ lw_all := lw_g (lw_at lw_m5 209 rfl) rfl
theorem q1289 : (Jvm.Cond.methodLink "StrangerMarket$Market" (147 : Nat) ({ cls := "StrangerMarket$Market", name := "wanted", desc := "(I)I" } : Jvm.MethodName)) ∈ lw_all := lw_g (lw_at lw_m5 210 rfl) rfl
theorem q1290 : (Jvm.Cond.methodLink "StrangerMarket$Market" (150 : Nat) ({ cls := "java/lang/Math", name := "min", desc := "(II)I" } : Jvm.MethodName)) ∈ lw_all := lw_g (lw_at lw_m5 211 rfl) rfl
theorem q1295 : (Jvm.Cond.instanceMethod ({ cls := "StrangerMarket$Market", name := "whyTell", desc := "(III)I" } : Jvm.MethodName)) ∈ lw_all := lw_g (lw_at lw_m5 216 rfl) rfl
theorem q1296 : (Jvm.Cond.selects "StrangerMarket$Market" ({ cls := "StrangerMarket$Market", name := "whyTell", desc := "(III)I" } : Jvm.MethodName) ({ cls := "StrangerMarket$Market", name := "whyTell", desc := "(III)I" } : Jvm.MethodName)) ∈ lw_all := lw_g (lw_at lw_m5 217 rfl) rfl
theorem q1297 : (Jvm.Cond.code ({ cls := "StrangerMarket$Market", name := "whyTell", desc := "(III)I" } : Jvm.MethodName) prog_11_method_28_code (4 : Nat) (Option.some Jvm.ClassFile.FieldType.int)) ∈ lw_all := lw_g (lw_at lw_m5 218 rfl) rfl
theorem q1305 : (Jvm.Cond.instanceMethod ({ cls := "StrangerMarket$Market", name := "whyVeil", desc := "(I)I" } : Jvm.MethodName)) ∈ lw_all := lw_g (lw_at lw_m5 226 rfl) rfl
theorem q1306 : (Jvm.Cond.selects "StrangerMarket$Market" ({ cls := "StrangerMarket$Market", name := "whyVeil", desc := "(I)I" } : Jvm.MethodName) ({ cls := "StrangerMarket$Market", name := "whyVeil", desc := "(I)I" } : Jvm.MethodName)) ∈ lw_all := lw_g (lw_at lw_m5 227 rfl) rfl
theorem q1307 : (Jvm.Cond.code ({ cls := "StrangerMarket$Market", name := "whyVeil", desc := "(I)I" } : Jvm.MethodName) prog_11_method_26_code (2 : Nat) (Option.some Jvm.ClassFile.FieldType.int)) ∈ lw_all := lw_g (lw_at lw_m5 228 rfl) rfl
theorem q1309 : (Jvm.Cond.instanceMethod ({ cls := "StrangerMarket$Market", name := "veil", desc := "(I)V" } : Jvm.MethodName)) ∈ lw_all := lw_g (lw_at lw_m5 230 rfl) rfl
theorem q1310 : (Jvm.Cond.selects "StrangerMarket$Market" ({ cls := "StrangerMarket$Market", name := "veil", desc := "(I)V" } : Jvm.MethodName) ({ cls := "StrangerMarket$Market", name := "veil", desc := "(I)V" } : Jvm.MethodName)) ∈ lw_all := lw_g (lw_at lw_m5 231 rfl) rfl
theorem q1311 : (Jvm.Cond.code ({ cls := "StrangerMarket$Market", name := "veil", desc := "(I)V" } : Jvm.MethodName) prog_11_method_27_code (2 : Nat) (Option.none : Option Jvm.ClassFile.FieldType)) ∈ lw_all := lw_g (lw_at lw_m5 232 rfl) rfl
theorem q1402 : (Jvm.Cond.instanceMethod ({ cls := "StrangerMarket$Market", name := "mays", desc := "(I)I" } : Jvm.MethodName)) ∈ lw_all := lw_g (lw_at lw_m6 83 rfl) rfl
theorem q1403 : (Jvm.Cond.selects "StrangerMarket$Market" ({ cls := "StrangerMarket$Market", name := "mays", desc := "(I)I" } : Jvm.MethodName) ({ cls := "StrangerMarket$Market", name := "mays", desc := "(I)I" } : Jvm.MethodName)) ∈ lw_all := lw_g (lw_at lw_m6 84 rfl) rfl
theorem q1404 : (Jvm.Cond.code ({ cls := "StrangerMarket$Market", name := "mays", desc := "(I)I" } : Jvm.MethodName) prog_11_method_15_code (4 : Nat) (Option.some Jvm.ClassFile.FieldType.int)) ∈ lw_all := lw_g (lw_at lw_m6 85 rfl) rfl
theorem q1512 : (Jvm.Cond.instanceMethod ({ cls := "StrangerMarket$Market", name := "drawn", desc := "(II)I" } : Jvm.MethodName)) ∈ lw_all := lw_g (lw_at lw_m6 193 rfl) rfl
theorem q1513 : (Jvm.Cond.selects "StrangerMarket$Market" ({ cls := "StrangerMarket$Market", name := "drawn", desc := "(II)I" } : Jvm.MethodName) ({ cls := "StrangerMarket$Market", name := "drawn", desc := "(II)I" } : Jvm.MethodName)) ∈ lw_all := lw_g (lw_at lw_m6 194 rfl) rfl
theorem q1514 : (Jvm.Cond.code ({ cls := "StrangerMarket$Market", name := "drawn", desc := "(II)I" } : Jvm.MethodName) prog_11_method_33_code (5 : Nat) (Option.some Jvm.ClassFile.FieldType.int)) ∈ lw_all := lw_g (lw_at lw_m6 195 rfl) rfl
theorem q1515 : (Jvm.Cond.methodLink "StrangerMarket$Market" (196 : Nat) ({ cls := "StrangerMarket$Market", name := "drawsFor", desc := "(I)V" } : Jvm.MethodName)) ∈ lw_all := lw_g (lw_at lw_m6 196 rfl) rfl
theorem q1516 : (Jvm.Cond.privateMethod ({ cls := "StrangerMarket$Market", name := "drawsFor", desc := "(I)V" } : Jvm.MethodName)) ∈ lw_tbl := lw_at lw_m6 197 rfl
theorem q1517 : (Jvm.Cond.instanceMethod ({ cls := "StrangerMarket$Market", name := "drawsFor", desc := "(I)V" } : Jvm.MethodName)) ∈ lw_all := lw_g (lw_at lw_m6 198 rfl) rfl
theorem q1518 : (Jvm.Cond.code ({ cls := "StrangerMarket$Market", name := "drawsFor", desc := "(I)V" } : Jvm.MethodName) prog_11_method_32_code (5 : Nat) (Option.none : Option Jvm.ClassFile.FieldType)) ∈ lw_all := lw_g (lw_at lw_m6 199 rfl) rfl
theorem q1519 : (Jvm.Cond.methodLink "StrangerMarket$Market" (170 : Nat) ({ cls := "StrangerMarket$Market", name := "draw", desc := "(I)I" } : Jvm.MethodName)) ∈ lw_all := lw_g (lw_at lw_m6 200 rfl) rfl
theorem q1520 : (Jvm.Cond.privateMethod ({ cls := "StrangerMarket$Market", name := "draw", desc := "(I)I" } : Jvm.MethodName)) ∈ lw_tbl := lw_at lw_m6 201 rfl
theorem q1521 : (Jvm.Cond.instanceMethod ({ cls := "StrangerMarket$Market", name := "draw", desc := "(I)I" } : Jvm.MethodName)) ∈ lw_all := lw_g (lw_at lw_m6 202 rfl) rfl
theorem q1522 : (Jvm.Cond.code ({ cls := "StrangerMarket$Market", name := "draw", desc := "(I)I" } : Jvm.MethodName) prog_11_method_31_code (2 : Nat) (Option.some Jvm.ClassFile.FieldType.int)) ∈ lw_all := lw_g (lw_at lw_m6 203 rfl) rfl
theorem q1523 : (Jvm.Cond.constant "StrangerMarket$Market" (169 : Nat) (1103515245 : Int32)) ∈ lw_all := lw_g (lw_at lw_m6 204 rfl) rfl
theorem q1524 : (Jvm.Cond.methodLink "StrangerMarket$Market" (173 : Nat) ({ cls := "StrangerMarket$Market", name := "goods", desc := "()I" } : Jvm.MethodName)) ∈ lw_all := lw_g (lw_at lw_m6 205 rfl) rfl
theorem q1525 : (Jvm.Cond.instanceMethod ({ cls := "StrangerMarket$Market", name := "goods", desc := "()I" } : Jvm.MethodName)) ∈ lw_all := lw_g (lw_at lw_m6 206 rfl) rfl
theorem q1526 : (Jvm.Cond.selects "StrangerMarket$Market" ({ cls := "StrangerMarket$Market", name := "goods", desc := "()I" } : Jvm.MethodName) ({ cls := "StrangerMarket$Market", name := "goods", desc := "()I" } : Jvm.MethodName)) ∈ lw_all := lw_g (lw_at lw_m6 207 rfl) rfl
theorem q1527 : (Jvm.Cond.code ({ cls := "StrangerMarket$Market", name := "goods", desc := "()I" } : Jvm.MethodName) prog_11_method_7_code (1 : Nat) (Option.some Jvm.ClassFile.FieldType.int)) ∈ lw_all := lw_g (lw_at lw_m6 208 rfl) rfl
theorem q1528 : (Jvm.Cond.methodLink "StrangerMarket$Market" (175 : Nat) ({ cls := "StrangerMarket$Market", name := "whyBuy", desc := "(III)I" } : Jvm.MethodName)) ∈ lw_all := lw_g (lw_at lw_m6 209 rfl) rfl
theorem q1529 : (Jvm.Cond.methodLink "StrangerMarket$Market" (179 : Nat) ({ cls := "StrangerMarket$Market", name := "buy", desc := "(III)V" } : Jvm.MethodName)) ∈ lw_all := lw_g (lw_at lw_m6 210 rfl) rfl
theorem q1530 : (Jvm.Cond.methodLink "StrangerMarket$Market" (183 : Nat) ({ cls := "StrangerMarket$Market", name := "whyNod", desc := "(II)I" } : Jvm.MethodName)) ∈ lw_all := lw_g (lw_at lw_m6 211 rfl) rfl
theorem q1531 : (Jvm.Cond.methodLink "StrangerMarket$Market" (186 : Nat) ({ cls := "StrangerMarket$Market", name := "nod", desc := "(II)V" } : Jvm.MethodName)) ∈ lw_all := lw_g (lw_at lw_m6 212 rfl) rfl
theorem q1532 : (Jvm.Cond.methodLink "StrangerMarket$Market" (189 : Nat) ({ cls := "StrangerMarket$Market", name := "whyVeil", desc := "(I)I" } : Jvm.MethodName)) ∈ lw_all := lw_g (lw_at lw_m6 213 rfl) rfl
theorem q1533 : (Jvm.Cond.methodLink "StrangerMarket$Market" (192 : Nat) ({ cls := "StrangerMarket$Market", name := "veil", desc := "(I)V" } : Jvm.MethodName)) ∈ lw_all := lw_g (lw_at lw_m6 214 rfl) rfl
theorem q1817 : (Jvm.Cond.instanceMethod ({ cls := "StrangerMarket$Market", name := "left", desc := "(I)I" } : Jvm.MethodName)) ∈ lw_all := lw_g (lw_at lw_m8 18 rfl) rfl
theorem q1818 : (Jvm.Cond.selects "StrangerMarket$Market" ({ cls := "StrangerMarket$Market", name := "left", desc := "(I)I" } : Jvm.MethodName) ({ cls := "StrangerMarket$Market", name := "left", desc := "(I)I" } : Jvm.MethodName)) ∈ lw_all := lw_g (lw_at lw_m8 19 rfl) rfl
theorem q1819 : (Jvm.Cond.code ({ cls := "StrangerMarket$Market", name := "left", desc := "(I)I" } : Jvm.MethodName) prog_11_method_20_code (2 : Nat) (Option.some Jvm.ClassFile.FieldType.int)) ∈ lw_all := lw_g (lw_at lw_m8 20 rfl) rfl
theorem q2559 : (Jvm.Cond.castable "StrangerMarket$Market" "java/lang/Object") ∈ lw_tbl := lw_at lw_m11 40 rfl
theorem q130 : (Jvm.Cond.initialized "StrangerMarket$Kept") ∈ lw_all := lw_g (lw_at lw_m1 11 rfl) rfl
theorem q354 : (Jvm.Cond.instantiable "StrangerMarket$Kept" (3 : Nat)) ∈ lw_all := lw_g (lw_at lw_m1 235 rfl) rfl
theorem q356 : (Jvm.Cond.instanceMethod ({ cls := "StrangerMarket$Kept", name := "<init>", desc := "()V" } : Jvm.MethodName)) ∈ lw_all := lw_g (lw_at lw_m1 237 rfl) rfl
theorem q357 : (Jvm.Cond.code ({ cls := "StrangerMarket$Kept", name := "<init>", desc := "()V" } : Jvm.MethodName) prog_10_method_1_code (1 : Nat) (Option.none : Option Jvm.ClassFile.FieldType)) ∈ lw_all := lw_g (lw_at lw_m1 238 rfl) rfl
theorem q358 : (Jvm.Cond.methodLink "StrangerMarket$Kept" (1 : Nat) ({ cls := "java/lang/Object", name := "<init>", desc := "()V" } : Jvm.MethodName)) ∈ lw_all := lw_g (lw_at lw_m1 239 rfl) rfl
theorem q359 : (Jvm.Cond.classLink "StrangerMarket$Kept" (7 : Nat) "StrangerMarket$Market") ∈ lw_all := lw_g (lw_at lw_m2 0 rfl) rfl
theorem q360 : (Jvm.Cond.methodLinkNest "StrangerMarket$Kept" (9 : Nat) ({ cls := "StrangerMarket$Market", name := "<init>", desc := "()V" } : Jvm.MethodName) "StrangerMarket") ∈ lw_tbl := lw_at lw_m2 1 rfl
theorem q363 : (Jvm.Cond.fieldLink "StrangerMarket$Kept" (10 : Nat) "StrangerMarket$Kept" "market" "LStrangerMarket$Market;") ∈ lw_all := lw_g (lw_at lw_m2 4 rfl) rfl
theorem q365 : (Jvm.Cond.lays "StrangerMarket$Kept" "StrangerMarket$Kept" "county" "LStrangerMarket$County;") ∈ lw_all := lw_g (lw_at lw_m2 6 rfl) rfl
theorem q366 : (Jvm.Cond.soleField "StrangerMarket$Kept" "county") ∈ lw_all := lw_g (lw_at lw_m2 7 rfl) rfl
theorem q367 : (Jvm.Cond.lays "StrangerMarket$Kept" "StrangerMarket$Kept" "sentence" "LStrangerMarket$Cond;") ∈ lw_all := lw_g (lw_at lw_m2 8 rfl) rfl
theorem q368 : (Jvm.Cond.soleField "StrangerMarket$Kept" "sentence") ∈ lw_all := lw_g (lw_at lw_m2 9 rfl) rfl
theorem q369 : (Jvm.Cond.laysFinal "StrangerMarket$Kept" "StrangerMarket$Kept" "market" "LStrangerMarket$Market;") ∈ lw_all := lw_g (lw_at lw_m2 10 rfl) rfl
theorem q370 : (Jvm.Cond.soleField "StrangerMarket$Kept" "market") ∈ lw_all := lw_g (lw_at lw_m2 11 rfl) rfl
theorem q371 : (Jvm.Cond.superclass "StrangerMarket$Kept" "java/lang/Object") ∈ lw_all := lw_g (lw_at lw_m2 12 rfl) rfl
theorem q999 : (Jvm.Cond.selects "StrangerMarket$Kept" ({ cls := "java/lang/Object", name := "getClass", desc := "()Ljava/lang/Class;" } : Jvm.MethodName) ({ cls := "java/lang/Object", name := "getClass", desc := "()Ljava/lang/Class;" } : Jvm.MethodName)) ∈ lw_all := lw_g (lw_at lw_m4 160 rfl) rfl
theorem q2560 : (Jvm.Cond.castable "StrangerMarket$Kept" "java/lang/Object") ∈ lw_tbl := lw_at lw_m11 41 rfl
theorem q131 : (Jvm.Cond.initialized "StrangerMarketModel") ∈ lw_all := lw_g (lw_at lw_m1 12 rfl) rfl
theorem q1012 : (Jvm.Cond.selects "StrangerMarketModel" ({ cls := "java/lang/Object", name := "getClass", desc := "()Ljava/lang/Class;" } : Jvm.MethodName) ({ cls := "java/lang/Object", name := "getClass", desc := "()Ljava/lang/Class;" } : Jvm.MethodName)) ∈ lw_all := lw_g (lw_at lw_m4 173 rfl) rfl
theorem q1884 : (Jvm.Cond.instanceMethod ({ cls := "StrangerMarketModel", name := "thrown", desc := "()I" } : Jvm.MethodName)) ∈ lw_all := lw_g (lw_at lw_m8 85 rfl) rfl
theorem q1885 : (Jvm.Cond.selects "StrangerMarketModel" ({ cls := "StrangerMarketModel", name := "thrown", desc := "()I" } : Jvm.MethodName) ({ cls := "StrangerMarketModel", name := "thrown", desc := "()I" } : Jvm.MethodName)) ∈ lw_all := lw_g (lw_at lw_m8 86 rfl) rfl
theorem q1886 : (Jvm.Cond.code ({ cls := "StrangerMarketModel", name := "thrown", desc := "()I" } : Jvm.MethodName) prog_26_method_1_code (1 : Nat) (Option.some Jvm.ClassFile.FieldType.int)) ∈ lw_all := lw_g (lw_at lw_m8 87 rfl) rfl
theorem q1888 : (Jvm.Cond.instanceMethod ({ cls := "StrangerMarketModel", name := "feed", desc := "(IIIII)I" } : Jvm.MethodName)) ∈ lw_all := lw_g (lw_at lw_m8 89 rfl) rfl
theorem q1889 : (Jvm.Cond.selects "StrangerMarketModel" ({ cls := "StrangerMarketModel", name := "feed", desc := "(IIIII)I" } : Jvm.MethodName) ({ cls := "StrangerMarketModel", name := "feed", desc := "(IIIII)I" } : Jvm.MethodName)) ∈ lw_all := lw_g (lw_at lw_m8 90 rfl) rfl
theorem q1890 : (Jvm.Cond.code ({ cls := "StrangerMarketModel", name := "feed", desc := "(IIIII)I" } : Jvm.MethodName) prog_26_method_3_code (6 : Nat) (Option.some Jvm.ClassFile.FieldType.int)) ∈ lw_all := lw_g (lw_at lw_m8 91 rfl) rfl
theorem q1891 : (Jvm.Cond.methodLink "StrangerMarketModel" (10 : Nat) ({ cls := "StrangerMarketModel", name := "four", desc := "(I)V" } : Jvm.MethodName)) ∈ lw_all := lw_g (lw_at lw_m8 92 rfl) rfl
theorem q1892 : (Jvm.Cond.privateMethod ({ cls := "StrangerMarketModel", name := "four", desc := "(I)V" } : Jvm.MethodName)) ∈ lw_tbl := lw_at lw_m8 93 rfl
theorem q1893 : (Jvm.Cond.instanceMethod ({ cls := "StrangerMarketModel", name := "four", desc := "(I)V" } : Jvm.MethodName)) ∈ lw_all := lw_g (lw_at lw_m8 94 rfl) rfl
theorem q1894 : (Jvm.Cond.instantiable "StrangerMarketModel" (52 : Nat)) ∈ lw_all := lw_g (lw_at lw_m8 95 rfl) rfl
theorem q1895 : (Jvm.Cond.code ({ cls := "StrangerMarketModel", name := "four", desc := "(I)V" } : Jvm.MethodName) prog_26_method_4_code (3 : Nat) (Option.none : Option Jvm.ClassFile.FieldType)) ∈ lw_all := lw_g (lw_at lw_m8 96 rfl) rfl
theorem q1897 : (Jvm.Cond.instanceMethod ({ cls := "StrangerMarketModel", name := "end", desc := "(I)Z" } : Jvm.MethodName)) ∈ lw_all := lw_g (lw_at lw_m8 98 rfl) rfl
theorem q1898 : (Jvm.Cond.selects "StrangerMarketModel" ({ cls := "StrangerMarketModel", name := "end", desc := "(I)Z" } : Jvm.MethodName) ({ cls := "StrangerMarketModel", name := "end", desc := "(I)Z" } : Jvm.MethodName)) ∈ lw_all := lw_g (lw_at lw_m8 99 rfl) rfl
theorem q1899 : (Jvm.Cond.code ({ cls := "StrangerMarketModel", name := "end", desc := "(I)Z" } : Jvm.MethodName) prog_26_method_5_code (2 : Nat) (Option.some Jvm.ClassFile.FieldType.boolean)) ∈ lw_all := lw_g (lw_at lw_m8 100 rfl) rfl
theorem q1902 : (Jvm.Cond.instanceMethod ({ cls := "StrangerMarketModel", name := "<init>", desc := "()V" } : Jvm.MethodName)) ∈ lw_all := lw_g (lw_at lw_m8 103 rfl) rfl
theorem q1903 : (Jvm.Cond.code ({ cls := "StrangerMarketModel", name := "<init>", desc := "()V" } : Jvm.MethodName) prog_26_method_13_code (2 : Nat) (Option.none : Option Jvm.ClassFile.FieldType)) ∈ lw_all := lw_g (lw_at lw_m8 104 rfl) rfl
theorem q1904 : (Jvm.Cond.methodLink "StrangerMarketModel" (27 : Nat) ({ cls := "java/lang/Object", name := "<init>", desc := "()V" } : Jvm.MethodName)) ∈ lw_all := lw_g (lw_at lw_m8 105 rfl) rfl
theorem q1905 : (Jvm.Cond.constantLong "StrangerMarketModel" (96 : Nat) (123581014175598 : Int64)) ∈ lw_all := lw_g (lw_at lw_m8 106 rfl) rfl
theorem q1906 : (Jvm.Cond.constantLong "StrangerMarketModel" (98 : Nat) (1735356260 : Int64)) ∈ lw_all := lw_g (lw_at lw_m8 107 rfl) rfl
theorem q1907 : (Jvm.Cond.constantLong "StrangerMarketModel" (100 : Nat) (495622843507 : Int64)) ∈ lw_all := lw_g (lw_at lw_m8 108 rfl) rfl
theorem q1908 : (Jvm.Cond.constantLong "StrangerMarketModel" (102 : Nat) (512735736947 : Int64)) ∈ lw_all := lw_g (lw_at lw_m8 109 rfl) rfl
theorem q1909 : (Jvm.Cond.constantLong "StrangerMarketModel" (104 : Nat) (461414299507 : Int64)) ∈ lw_all := lw_g (lw_at lw_m8 110 rfl) rfl
theorem q1910 : (Jvm.Cond.constantLong "StrangerMarketModel" (106 : Nat) (1718576499 : Int64)) ∈ lw_all := lw_g (lw_at lw_m8 111 rfl) rfl
theorem q1911 : (Jvm.Cond.constantLong "StrangerMarketModel" (108 : Nat) (431197613171 : Int64)) ∈ lw_all := lw_g (lw_at lw_m8 112 rfl) rfl
theorem q1912 : (Jvm.Cond.constantLong "StrangerMarketModel" (110 : Nat) (508507548787 : Int64)) ∈ lw_all := lw_g (lw_at lw_m8 113 rfl) rfl
theorem q1913 : (Jvm.Cond.constantLong "StrangerMarketModel" (112 : Nat) (1650814060 : Int64)) ∈ lw_all := lw_g (lw_at lw_m8 114 rfl) rfl
theorem q1914 : (Jvm.Cond.constantLong "StrangerMarketModel" (114 : Nat) (1651865971 : Int64)) ∈ lw_all := lw_g (lw_at lw_m8 115 rfl) rfl
theorem q1915 : (Jvm.Cond.constantLong "StrangerMarketModel" (116 : Nat) (1852793971 : Int64)) ∈ lw_all := lw_g (lw_at lw_m8 116 rfl) rfl
theorem q1916 : (Jvm.Cond.constantLong "StrangerMarketModel" (118 : Nat) (499917810803 : Int64)) ∈ lw_all := lw_g (lw_at lw_m8 117 rfl) rfl
theorem q1917 : (Jvm.Cond.constantLong "StrangerMarketModel" (120 : Nat) (6578553 : Int64)) ∈ lw_all := lw_g (lw_at lw_m8 118 rfl) rfl
theorem q1918 : (Jvm.Cond.constantLong "StrangerMarketModel" (122 : Nat) (28530 : Int64)) ∈ lw_all := lw_g (lw_at lw_m8 119 rfl) rfl
theorem q1919 : (Jvm.Cond.constantLong "StrangerMarketModel" (124 : Nat) (6385252 : Int64)) ∈ lw_all := lw_g (lw_at lw_m8 120 rfl) rfl
theorem q1920 : (Jvm.Cond.constantLong "StrangerMarketModel" (126 : Nat) (7237492 : Int64)) ∈ lw_all := lw_g (lw_at lw_m8 121 rfl) rfl
theorem q1921 : (Jvm.Cond.constantLong "StrangerMarketModel" (128 : Nat) (1752132965 : Int64)) ∈ lw_all := lw_g (lw_at lw_m8 122 rfl) rfl
theorem q1922 : (Jvm.Cond.constantLong "StrangerMarketModel" (130 : Nat) (130177932485988 : Int64)) ∈ lw_all := lw_g (lw_at lw_m8 123 rfl) rfl
theorem q1923 : (Jvm.Cond.constantLong "StrangerMarketModel" (132 : Nat) (6710628 : Int64)) ∈ lw_all := lw_g (lw_at lw_m8 124 rfl) rfl
theorem q1924 : (Jvm.Cond.constantLong "StrangerMarketModel" (134 : Nat) (1936682084 : Int64)) ∈ lw_all := lw_g (lw_at lw_m8 125 rfl) rfl
theorem q1925 : (Jvm.Cond.constantLong "StrangerMarketModel" (136 : Nat) (427070942835 : Int64)) ∈ lw_all := lw_g (lw_at lw_m8 126 rfl) rfl
theorem q1926 : (Jvm.Cond.constantLong "StrangerMarketModel" (138 : Nat) (28836244623352947 : Int64)) ∈ lw_all := lw_g (lw_at lw_m8 127 rfl) rfl
theorem q1927 : (Jvm.Cond.constantLong "StrangerMarketModel" (140 : Nat) (114853572732274 : Int64)) ∈ lw_all := lw_g (lw_at lw_m8 128 rfl) rfl
theorem q1928 : (Jvm.Cond.constantLong "StrangerMarketModel" (142 : Nat) (121450625394034 : Int64)) ∈ lw_all := lw_g (lw_at lw_m8 129 rfl) rfl
theorem q1929 : (Jvm.Cond.methodLink "StrangerMarketModel" (144 : Nat) ({ cls := "StrangerMarketModel", name := "clears", desc := "()V" } : Jvm.MethodName)) ∈ lw_all := lw_g (lw_at lw_m8 130 rfl) rfl
theorem q1930 : (Jvm.Cond.privateMethod ({ cls := "StrangerMarketModel", name := "clears", desc := "()V" } : Jvm.MethodName)) ∈ lw_tbl := lw_at lw_m8 131 rfl
theorem q1931 : (Jvm.Cond.instanceMethod ({ cls := "StrangerMarketModel", name := "clears", desc := "()V" } : Jvm.MethodName)) ∈ lw_all := lw_g (lw_at lw_m8 132 rfl) rfl
theorem q1932 : (Jvm.Cond.code ({ cls := "StrangerMarketModel", name := "clears", desc := "()V" } : Jvm.MethodName) prog_26_method_14_code (2 : Nat) (Option.none : Option Jvm.ClassFile.FieldType)) ∈ lw_all := lw_g (lw_at lw_m8 133 rfl) rfl
theorem q1933 : (Jvm.Cond.fieldLink "StrangerMarketModel" (1 : Nat) "StrangerMarketModel" "thrown" "I") ∈ lw_all := lw_g (lw_at lw_m8 134 rfl) rfl
theorem q1934 : (Jvm.Cond.fieldLink "StrangerMarketModel" (14 : Nat) "StrangerMarketModel" "tape" "[B") ∈ lw_all := lw_g (lw_at lw_m8 135 rfl) rfl
theorem q1935 : (Jvm.Cond.fieldLink "StrangerMarketModel" (7 : Nat) "StrangerMarketModel" "length" "I") ∈ lw_all := lw_g (lw_at lw_m8 136 rfl) rfl
theorem q1936 : (Jvm.Cond.fieldLink "StrangerMarketModel" (18 : Nat) "StrangerMarketModel" "size" "I") ∈ lw_all := lw_g (lw_at lw_m8 137 rfl) rfl
theorem q1937 : (Jvm.Cond.fieldLink "StrangerMarketModel" (21 : Nat) "StrangerMarketModel" "p" "I") ∈ lw_all := lw_g (lw_at lw_m8 138 rfl) rfl
theorem q1938 : (Jvm.Cond.fieldLink "StrangerMarketModel" (24 : Nat) "StrangerMarketModel" "limit" "I") ∈ lw_all := lw_g (lw_at lw_m8 139 rfl) rfl
theorem q1939 : (Jvm.Cond.fieldLink "StrangerMarketModel" (33 : Nat) "StrangerMarketModel" "s" "[I") ∈ lw_all := lw_g (lw_at lw_m8 140 rfl) rfl
theorem q1940 : (Jvm.Cond.fieldLink "StrangerMarketModel" (37 : Nat) "StrangerMarketModel" "h" "[I") ∈ lw_all := lw_g (lw_at lw_m8 141 rfl) rfl
theorem q1941 : (Jvm.Cond.fieldLink "StrangerMarketModel" (40 : Nat) "StrangerMarketModel" "read" "[I") ∈ lw_all := lw_g (lw_at lw_m8 142 rfl) rfl
theorem q1942 : (Jvm.Cond.fieldLink "StrangerMarketModel" (43 : Nat) "StrangerMarketModel" "names" "[J") ∈ lw_all := lw_g (lw_at lw_m8 143 rfl) rfl
theorem q1943 : (Jvm.Cond.fieldLink "StrangerMarketModel" (47 : Nat) "StrangerMarketModel" "reserved" "[J") ∈ lw_all := lw_g (lw_at lw_m8 144 rfl) rfl
theorem q1944 : (Jvm.Cond.fieldLink "StrangerMarketModel" (157 : Nat) "StrangerMarketModel" "token" "I") ∈ lw_all := lw_g (lw_at lw_m8 145 rfl) rfl
theorem q1945 : (Jvm.Cond.fieldLink "StrangerMarketModel" (151 : Nat) "StrangerMarketModel" "at" "I") ∈ lw_all := lw_g (lw_at lw_m8 146 rfl) rfl
theorem q1946 : (Jvm.Cond.fieldLink "StrangerMarketModel" (154 : Nat) "StrangerMarketModel" "span" "I") ∈ lw_all := lw_g (lw_at lw_m8 147 rfl) rfl
theorem q1947 : (Jvm.Cond.fieldLink "StrangerMarketModel" (167 : Nat) "StrangerMarketModel" "number" "I") ∈ lw_all := lw_g (lw_at lw_m8 148 rfl) rfl
theorem q1948 : (Jvm.Cond.fieldLink "StrangerMarketModel" (174 : Nat) "StrangerMarketModel" "fault" "I") ∈ lw_all := lw_g (lw_at lw_m8 149 rfl) rfl
theorem q1949 : (Jvm.Cond.fieldLink "StrangerMarketModel" (177 : Nat) "StrangerMarketModel" "faultAt" "I") ∈ lw_all := lw_g (lw_at lw_m8 150 rfl) rfl
theorem q1950 : (Jvm.Cond.fieldLink "StrangerMarketModel" (170 : Nat) "StrangerMarketModel" "word" "J") ∈ lw_all := lw_g (lw_at lw_m8 151 rfl) rfl
theorem q1951 : (Jvm.Cond.fieldLink "StrangerMarketModel" (193 : Nat) "StrangerMarketModel" "got" "I") ∈ lw_all := lw_g (lw_at lw_m8 152 rfl) rfl
theorem q1952 : (Jvm.Cond.fieldLink "StrangerMarketModel" (250 : Nat) "StrangerMarketModel" "lines" "I") ∈ lw_all := lw_g (lw_at lw_m8 153 rfl) rfl
theorem q1953 : (Jvm.Cond.fieldLink "StrangerMarketModel" (211 : Nat) "StrangerMarketModel" "onces" "I") ∈ lw_all := lw_g (lw_at lw_m8 154 rfl) rfl
theorem q1954 : (Jvm.Cond.fieldLink "StrangerMarketModel" (50 : Nat) "StrangerMarketModel" "undone" "[I") ∈ lw_all := lw_g (lw_at lw_m8 155 rfl) rfl
theorem q1955 : (Jvm.Cond.fieldLink "StrangerMarketModel" (53 : Nat) "StrangerMarketModel" "before" "[I") ∈ lw_all := lw_g (lw_at lw_m8 156 rfl) rfl
theorem q1956 : (Jvm.Cond.fieldLink "StrangerMarketModel" (262 : Nat) "StrangerMarketModel" "undoMany" "I") ∈ lw_all := lw_g (lw_at lw_m8 157 rfl) rfl
theorem q1957 : (Jvm.Cond.fieldLink "StrangerMarketModel" (56 : Nat) "StrangerMarketModel" "room" "[I") ∈ lw_all := lw_g (lw_at lw_m8 158 rfl) rfl
theorem q1958 : (Jvm.Cond.fieldLink "StrangerMarketModel" (59 : Nat) "StrangerMarketModel" "came" "[I") ∈ lw_all := lw_g (lw_at lw_m8 159 rfl) rfl
theorem q1959 : (Jvm.Cond.fieldLink "StrangerMarketModel" (62 : Nat) "StrangerMarketModel" "queue" "[I") ∈ lw_all := lw_g (lw_at lw_m8 160 rfl) rfl
theorem q1960 : (Jvm.Cond.fieldLink "StrangerMarketModel" (355 : Nat) "StrangerMarketModel" "askPerson" "I") ∈ lw_all := lw_g (lw_at lw_m8 161 rfl) rfl
theorem q1961 : (Jvm.Cond.fieldLink "StrangerMarketModel" (351 : Nat) "StrangerMarketModel" "hasWho" "Z") ∈ lw_all := lw_g (lw_at lw_m8 162 rfl) rfl
theorem q1962 : (Jvm.Cond.fieldLink "StrangerMarketModel" (364 : Nat) "StrangerMarketModel" "serveSet" "I") ∈ lw_all := lw_g (lw_at lw_m8 163 rfl) rfl
theorem q1963 : (Jvm.Cond.fieldLink "StrangerMarketModel" (361 : Nat) "StrangerMarketModel" "hasServe" "Z") ∈ lw_all := lw_g (lw_at lw_m8 164 rfl) rfl
theorem q1964 : (Jvm.Cond.fieldLink "StrangerMarketModel" (65 : Nat) "StrangerMarketModel" "steps" "[I") ∈ lw_all := lw_g (lw_at lw_m8 165 rfl) rfl
theorem q1965 : (Jvm.Cond.fieldLink "StrangerMarketModel" (68 : Nat) "StrangerMarketModel" "chainRow" "[I") ∈ lw_all := lw_g (lw_at lw_m8 166 rfl) rfl
theorem q1966 : (Jvm.Cond.fieldLink "StrangerMarketModel" (71 : Nat) "StrangerMarketModel" "chainMany" "I") ∈ lw_all := lw_g (lw_at lw_m8 167 rfl) rfl
theorem q1967 : (Jvm.Cond.fieldLink "StrangerMarketModel" (379 : Nat) "StrangerMarketModel" "partSet" "I") ∈ lw_all := lw_g (lw_at lw_m8 168 rfl) rfl
theorem q1968 : (Jvm.Cond.fieldLink "StrangerMarketModel" (376 : Nat) "StrangerMarketModel" "hasPart" "Z") ∈ lw_all := lw_g (lw_at lw_m8 169 rfl) rfl
theorem q1969 : (Jvm.Cond.fieldLink "StrangerMarketModel" (74 : Nat) "StrangerMarketModel" "text" "[B") ∈ lw_all := lw_g (lw_at lw_m8 170 rfl) rfl
theorem q1970 : (Jvm.Cond.fieldLink "StrangerMarketModel" (382 : Nat) "StrangerMarketModel" "textMany" "I") ∈ lw_all := lw_g (lw_at lw_m8 171 rfl) rfl
theorem q1971 : (Jvm.Cond.fieldLink "StrangerMarketModel" (399 : Nat) "StrangerMarketModel" "seed" "I") ∈ lw_all := lw_g (lw_at lw_m8 172 rfl) rfl
theorem q1972 : (Jvm.Cond.fieldLink "StrangerMarketModel" (418 : Nat) "StrangerMarketModel" "toldMany" "I") ∈ lw_all := lw_g (lw_at lw_m8 173 rfl) rfl
theorem q1973 : (Jvm.Cond.fieldLink "StrangerMarketModel" (77 : Nat) "StrangerMarketModel" "toldAt" "[I") ∈ lw_all := lw_g (lw_at lw_m8 174 rfl) rfl
theorem q1974 : (Jvm.Cond.fieldLink "StrangerMarketModel" (428 : Nat) "StrangerMarketModel" "hasTold" "Z") ∈ lw_all := lw_g (lw_at lw_m8 175 rfl) rfl
theorem q1975 : (Jvm.Cond.fieldLink "StrangerMarketModel" (80 : Nat) "StrangerMarketModel" "stack" "[I") ∈ lw_all := lw_g (lw_at lw_m8 176 rfl) rfl
theorem q1976 : (Jvm.Cond.fieldLink "StrangerMarketModel" (431 : Nat) "StrangerMarketModel" "codes" "I") ∈ lw_all := lw_g (lw_at lw_m8 177 rfl) rfl
theorem q1977 : (Jvm.Cond.fieldLink "StrangerMarketModel" (446 : Nat) "StrangerMarketModel" "ones" "I") ∈ lw_all := lw_g (lw_at lw_m8 178 rfl) rfl
theorem q1978 : (Jvm.Cond.fieldLink "StrangerMarketModel" (434 : Nat) "StrangerMarketModel" "top" "I") ∈ lw_all := lw_g (lw_at lw_m8 179 rfl) rfl
theorem q1979 : (Jvm.Cond.fieldLink "StrangerMarketModel" (440 : Nat) "StrangerMarketModel" "deep" "I") ∈ lw_all := lw_g (lw_at lw_m8 180 rfl) rfl
theorem q1980 : (Jvm.Cond.fieldLink "StrangerMarketModel" (449 : Nat) "StrangerMarketModel" "isWhole" "Z") ∈ lw_all := lw_g (lw_at lw_m8 181 rfl) rfl
theorem q1981 : (Jvm.Cond.fieldLink "StrangerMarketModel" (83 : Nat) "StrangerMarketModel" "truths" "[Z") ∈ lw_all := lw_g (lw_at lw_m8 182 rfl) rfl
theorem q1982 : (Jvm.Cond.fieldLink "StrangerMarketModel" (87 : Nat) "StrangerMarketModel" "imaged" "[I") ∈ lw_all := lw_g (lw_at lw_m8 183 rfl) rfl
theorem q1983 : (Jvm.Cond.fieldLink "StrangerMarketModel" (90 : Nat) "StrangerMarketModel" "namesKept" "[J") ∈ lw_all := lw_g (lw_at lw_m8 184 rfl) rfl
theorem q1984 : (Jvm.Cond.fieldLink "StrangerMarketModel" (93 : Nat) "StrangerMarketModel" "areKept" "[Z") ∈ lw_all := lw_g (lw_at lw_m8 185 rfl) rfl
theorem q1985 : (Jvm.Cond.lays "StrangerMarketModel" "StrangerMarketModel" "thrown" "I") ∈ lw_all := lw_g (lw_at lw_m8 186 rfl) rfl
theorem q1986 : (Jvm.Cond.soleField "StrangerMarketModel" "thrown") ∈ lw_all := lw_g (lw_at lw_m8 187 rfl) rfl
theorem q1987 : (Jvm.Cond.laysFinal "StrangerMarketModel" "StrangerMarketModel" "tape" "[B") ∈ lw_all := lw_g (lw_at lw_m8 188 rfl) rfl
theorem q1988 : (Jvm.Cond.soleField "StrangerMarketModel" "tape") ∈ lw_all := lw_g (lw_at lw_m8 189 rfl) rfl
theorem q1989 : (Jvm.Cond.lays "StrangerMarketModel" "StrangerMarketModel" "length" "I") ∈ lw_all := lw_g (lw_at lw_m8 190 rfl) rfl
theorem q1990 : (Jvm.Cond.soleField "StrangerMarketModel" "length") ∈ lw_all := lw_g (lw_at lw_m8 191 rfl) rfl
theorem q1991 : (Jvm.Cond.lays "StrangerMarketModel" "StrangerMarketModel" "size" "I") ∈ lw_all := lw_g (lw_at lw_m8 192 rfl) rfl
theorem q1992 : (Jvm.Cond.soleField "StrangerMarketModel" "size") ∈ lw_all := lw_g (lw_at lw_m8 193 rfl) rfl
theorem q1993 : (Jvm.Cond.lays "StrangerMarketModel" "StrangerMarketModel" "p" "I") ∈ lw_all := lw_g (lw_at lw_m8 194 rfl) rfl
theorem q1994 : (Jvm.Cond.soleField "StrangerMarketModel" "p") ∈ lw_all := lw_g (lw_at lw_m8 195 rfl) rfl
theorem q1995 : (Jvm.Cond.lays "StrangerMarketModel" "StrangerMarketModel" "limit" "I") ∈ lw_all := lw_g (lw_at lw_m8 196 rfl) rfl
theorem q1996 : (Jvm.Cond.soleField "StrangerMarketModel" "limit") ∈ lw_all := lw_g (lw_at lw_m8 197 rfl) rfl
theorem q1997 : (Jvm.Cond.laysFinal "StrangerMarketModel" "StrangerMarketModel" "s" "[I") ∈ lw_all := lw_g (lw_at lw_m8 198 rfl) rfl
theorem q1998 : (Jvm.Cond.soleField "StrangerMarketModel" "s") ∈ lw_all := lw_g (lw_at lw_m8 199 rfl) rfl
theorem q1999 : (Jvm.Cond.laysFinal "StrangerMarketModel" "StrangerMarketModel" "h" "[I") ∈ lw_all := lw_g (lw_at lw_m8 200 rfl) rfl
theorem q2000 : (Jvm.Cond.soleField "StrangerMarketModel" "h") ∈ lw_all := lw_g (lw_at lw_m8 201 rfl) rfl
theorem q2001 : (Jvm.Cond.laysFinal "StrangerMarketModel" "StrangerMarketModel" "read" "[I") ∈ lw_all := lw_g (lw_at lw_m8 202 rfl) rfl
theorem q2002 : (Jvm.Cond.soleField "StrangerMarketModel" "read") ∈ lw_all := lw_g (lw_at lw_m8 203 rfl) rfl
theorem q2003 : (Jvm.Cond.laysFinal "StrangerMarketModel" "StrangerMarketModel" "names" "[J") ∈ lw_all := lw_g (lw_at lw_m8 204 rfl) rfl
theorem q2004 : (Jvm.Cond.soleField "StrangerMarketModel" "names") ∈ lw_all := lw_g (lw_at lw_m8 205 rfl) rfl
theorem q2005 : (Jvm.Cond.laysFinal "StrangerMarketModel" "StrangerMarketModel" "reserved" "[J") ∈ lw_all := lw_g (lw_at lw_m8 206 rfl) rfl
theorem q2006 : (Jvm.Cond.soleField "StrangerMarketModel" "reserved") ∈ lw_all := lw_g (lw_at lw_m8 207 rfl) rfl
theorem q2007 : (Jvm.Cond.lays "StrangerMarketModel" "StrangerMarketModel" "token" "I") ∈ lw_all := lw_g (lw_at lw_m8 208 rfl) rfl
theorem q2008 : (Jvm.Cond.soleField "StrangerMarketModel" "token") ∈ lw_all := lw_g (lw_at lw_m8 209 rfl) rfl
theorem q2009 : (Jvm.Cond.lays "StrangerMarketModel" "StrangerMarketModel" "at" "I") ∈ lw_all := lw_g (lw_at lw_m8 210 rfl) rfl
theorem q2010 : (Jvm.Cond.soleField "StrangerMarketModel" "at") ∈ lw_all := lw_g (lw_at lw_m8 211 rfl) rfl
theorem q2011 : (Jvm.Cond.lays "StrangerMarketModel" "StrangerMarketModel" "span" "I") ∈ lw_all := lw_g (lw_at lw_m8 212 rfl) rfl
theorem q2012 : (Jvm.Cond.soleField "StrangerMarketModel" "span") ∈ lw_all := lw_g (lw_at lw_m8 213 rfl) rfl
theorem q2013 : (Jvm.Cond.lays "StrangerMarketModel" "StrangerMarketModel" "number" "I") ∈ lw_all := lw_g (lw_at lw_m8 214 rfl) rfl
theorem q2014 : (Jvm.Cond.soleField "StrangerMarketModel" "number") ∈ lw_all := lw_g (lw_at lw_m8 215 rfl) rfl
theorem q2015 : (Jvm.Cond.lays "StrangerMarketModel" "StrangerMarketModel" "fault" "I") ∈ lw_all := lw_g (lw_at lw_m8 216 rfl) rfl
theorem q2016 : (Jvm.Cond.soleField "StrangerMarketModel" "fault") ∈ lw_all := lw_g (lw_at lw_m8 217 rfl) rfl
theorem q2017 : (Jvm.Cond.lays "StrangerMarketModel" "StrangerMarketModel" "faultAt" "I") ∈ lw_all := lw_g (lw_at lw_m8 218 rfl) rfl
theorem q2018 : (Jvm.Cond.soleField "StrangerMarketModel" "faultAt") ∈ lw_all := lw_g (lw_at lw_m8 219 rfl) rfl
theorem q2019 : (Jvm.Cond.lays "StrangerMarketModel" "StrangerMarketModel" "word" "J") ∈ lw_all := lw_g (lw_at lw_m8 220 rfl) rfl
theorem q2020 : (Jvm.Cond.soleField "StrangerMarketModel" "word") ∈ lw_all := lw_g (lw_at lw_m8 221 rfl) rfl
theorem q2021 : (Jvm.Cond.lays "StrangerMarketModel" "StrangerMarketModel" "got" "I") ∈ lw_all := lw_g (lw_at lw_m8 222 rfl) rfl
theorem q2022 : (Jvm.Cond.soleField "StrangerMarketModel" "got") ∈ lw_all := lw_g (lw_at lw_m8 223 rfl) rfl
theorem q2023 : (Jvm.Cond.lays "StrangerMarketModel" "StrangerMarketModel" "lines" "I") ∈ lw_all := lw_g (lw_at lw_m8 224 rfl) rfl
theorem q2024 : (Jvm.Cond.soleField "StrangerMarketModel" "lines") ∈ lw_all := lw_g (lw_at lw_m8 225 rfl) rfl
theorem q2025 : (Jvm.Cond.lays "StrangerMarketModel" "StrangerMarketModel" "onces" "I") ∈ lw_all := lw_g (lw_at lw_m8 226 rfl) rfl
theorem q2026 : (Jvm.Cond.soleField "StrangerMarketModel" "onces") ∈ lw_all := lw_g (lw_at lw_m8 227 rfl) rfl
theorem q2027 : (Jvm.Cond.laysFinal "StrangerMarketModel" "StrangerMarketModel" "undone" "[I") ∈ lw_all := lw_g (lw_at lw_m8 228 rfl) rfl
theorem q2028 : (Jvm.Cond.soleField "StrangerMarketModel" "undone") ∈ lw_all := lw_g (lw_at lw_m8 229 rfl) rfl
theorem q2029 : (Jvm.Cond.laysFinal "StrangerMarketModel" "StrangerMarketModel" "before" "[I") ∈ lw_all := lw_g (lw_at lw_m8 230 rfl) rfl
theorem q2030 : (Jvm.Cond.soleField "StrangerMarketModel" "before") ∈ lw_all := lw_g (lw_at lw_m8 231 rfl) rfl
theorem q2031 : (Jvm.Cond.lays "StrangerMarketModel" "StrangerMarketModel" "undoMany" "I") ∈ lw_all := lw_g (lw_at lw_m8 232 rfl) rfl
theorem q2032 : (Jvm.Cond.soleField "StrangerMarketModel" "undoMany") ∈ lw_all := lw_g (lw_at lw_m8 233 rfl) rfl
theorem q2033 : (Jvm.Cond.laysFinal "StrangerMarketModel" "StrangerMarketModel" "room" "[I") ∈ lw_all := lw_g (lw_at lw_m8 234 rfl) rfl
theorem q2034 : (Jvm.Cond.soleField "StrangerMarketModel" "room") ∈ lw_all := lw_g (lw_at lw_m8 235 rfl) rfl
theorem q2035 : (Jvm.Cond.laysFinal "StrangerMarketModel" "StrangerMarketModel" "came" "[I") ∈ lw_all := lw_g (lw_at lw_m8 236 rfl) rfl
theorem q2036 : (Jvm.Cond.soleField "StrangerMarketModel" "came") ∈ lw_all := lw_g (lw_at lw_m8 237 rfl) rfl
theorem q2037 : (Jvm.Cond.laysFinal "StrangerMarketModel" "StrangerMarketModel" "queue" "[I") ∈ lw_all := lw_g (lw_at lw_m8 238 rfl) rfl
theorem q2038 : (Jvm.Cond.soleField "StrangerMarketModel" "queue") ∈ lw_all := lw_g (lw_at lw_m8 239 rfl) rfl
theorem q2039 : (Jvm.Cond.lays "StrangerMarketModel" "StrangerMarketModel" "askPerson" "I") ∈ lw_all := lw_g (lw_at lw_m9 0 rfl) rfl
theorem q2040 : (Jvm.Cond.soleField "StrangerMarketModel" "askPerson") ∈ lw_all := lw_g (lw_at lw_m9 1 rfl) rfl
theorem q2041 : (Jvm.Cond.lays "StrangerMarketModel" "StrangerMarketModel" "hasWho" "Z") ∈ lw_all := lw_g (lw_at lw_m9 2 rfl) rfl
theorem q2042 : (Jvm.Cond.soleField "StrangerMarketModel" "hasWho") ∈ lw_all := lw_g (lw_at lw_m9 3 rfl) rfl
theorem q2043 : (Jvm.Cond.lays "StrangerMarketModel" "StrangerMarketModel" "serveSet" "I") ∈ lw_all := lw_g (lw_at lw_m9 4 rfl) rfl
theorem q2044 : (Jvm.Cond.soleField "StrangerMarketModel" "serveSet") ∈ lw_all := lw_g (lw_at lw_m9 5 rfl) rfl
theorem q2045 : (Jvm.Cond.lays "StrangerMarketModel" "StrangerMarketModel" "hasServe" "Z") ∈ lw_all := lw_g (lw_at lw_m9 6 rfl) rfl
theorem q2046 : (Jvm.Cond.soleField "StrangerMarketModel" "hasServe") ∈ lw_all := lw_g (lw_at lw_m9 7 rfl) rfl
theorem q2047 : (Jvm.Cond.laysFinal "StrangerMarketModel" "StrangerMarketModel" "steps" "[I") ∈ lw_all := lw_g (lw_at lw_m9 8 rfl) rfl
theorem q2048 : (Jvm.Cond.soleField "StrangerMarketModel" "steps") ∈ lw_all := lw_g (lw_at lw_m9 9 rfl) rfl
theorem q2049 : (Jvm.Cond.laysFinal "StrangerMarketModel" "StrangerMarketModel" "chainRow" "[I") ∈ lw_all := lw_g (lw_at lw_m9 10 rfl) rfl
theorem q2050 : (Jvm.Cond.soleField "StrangerMarketModel" "chainRow") ∈ lw_all := lw_g (lw_at lw_m9 11 rfl) rfl
theorem q2051 : (Jvm.Cond.lays "StrangerMarketModel" "StrangerMarketModel" "chainMany" "I") ∈ lw_all := lw_g (lw_at lw_m9 12 rfl) rfl
theorem q2052 : (Jvm.Cond.soleField "StrangerMarketModel" "chainMany") ∈ lw_all := lw_g (lw_at lw_m9 13 rfl) rfl
theorem q2053 : (Jvm.Cond.lays "StrangerMarketModel" "StrangerMarketModel" "partSet" "I") ∈ lw_all := lw_g (lw_at lw_m9 14 rfl) rfl
theorem q2054 : (Jvm.Cond.soleField "StrangerMarketModel" "partSet") ∈ lw_all := lw_g (lw_at lw_m9 15 rfl) rfl
theorem q2055 : (Jvm.Cond.lays "StrangerMarketModel" "StrangerMarketModel" "hasPart" "Z") ∈ lw_all := lw_g (lw_at lw_m9 16 rfl) rfl
theorem q2056 : (Jvm.Cond.soleField "StrangerMarketModel" "hasPart") ∈ lw_all := lw_g (lw_at lw_m9 17 rfl) rfl
theorem q2057 : (Jvm.Cond.laysFinal "StrangerMarketModel" "StrangerMarketModel" "text" "[B") ∈ lw_all := lw_g (lw_at lw_m9 18 rfl) rfl
theorem q2058 : (Jvm.Cond.soleField "StrangerMarketModel" "text") ∈ lw_all := lw_g (lw_at lw_m9 19 rfl) rfl
theorem q2059 : (Jvm.Cond.lays "StrangerMarketModel" "StrangerMarketModel" "textMany" "I") ∈ lw_all := lw_g (lw_at lw_m9 20 rfl) rfl
theorem q2060 : (Jvm.Cond.soleField "StrangerMarketModel" "textMany") ∈ lw_all := lw_g (lw_at lw_m9 21 rfl) rfl
theorem q2061 : (Jvm.Cond.lays "StrangerMarketModel" "StrangerMarketModel" "seed" "I") ∈ lw_all := lw_g (lw_at lw_m9 22 rfl) rfl
theorem q2062 : (Jvm.Cond.soleField "StrangerMarketModel" "seed") ∈ lw_all := lw_g (lw_at lw_m9 23 rfl) rfl
theorem q2063 : (Jvm.Cond.lays "StrangerMarketModel" "StrangerMarketModel" "toldMany" "I") ∈ lw_all := lw_g (lw_at lw_m9 24 rfl) rfl
theorem q2064 : (Jvm.Cond.soleField "StrangerMarketModel" "toldMany") ∈ lw_all := lw_g (lw_at lw_m9 25 rfl) rfl
theorem q2065 : (Jvm.Cond.laysFinal "StrangerMarketModel" "StrangerMarketModel" "toldAt" "[I") ∈ lw_all := lw_g (lw_at lw_m9 26 rfl) rfl
theorem q2066 : (Jvm.Cond.soleField "StrangerMarketModel" "toldAt") ∈ lw_all := lw_g (lw_at lw_m9 27 rfl) rfl
theorem q2067 : (Jvm.Cond.lays "StrangerMarketModel" "StrangerMarketModel" "hasTold" "Z") ∈ lw_all := lw_g (lw_at lw_m9 28 rfl) rfl
theorem q2068 : (Jvm.Cond.soleField "StrangerMarketModel" "hasTold") ∈ lw_all := lw_g (lw_at lw_m9 29 rfl) rfl
theorem q2069 : (Jvm.Cond.laysFinal "StrangerMarketModel" "StrangerMarketModel" "stack" "[I") ∈ lw_all := lw_g (lw_at lw_m9 30 rfl) rfl
theorem q2070 : (Jvm.Cond.soleField "StrangerMarketModel" "stack") ∈ lw_all := lw_g (lw_at lw_m9 31 rfl) rfl
theorem q2071 : (Jvm.Cond.lays "StrangerMarketModel" "StrangerMarketModel" "codes" "I") ∈ lw_all := lw_g (lw_at lw_m9 32 rfl) rfl
theorem q2072 : (Jvm.Cond.soleField "StrangerMarketModel" "codes") ∈ lw_all := lw_g (lw_at lw_m9 33 rfl) rfl
theorem q2073 : (Jvm.Cond.lays "StrangerMarketModel" "StrangerMarketModel" "ones" "I") ∈ lw_all := lw_g (lw_at lw_m9 34 rfl) rfl
theorem q2074 : (Jvm.Cond.soleField "StrangerMarketModel" "ones") ∈ lw_all := lw_g (lw_at lw_m9 35 rfl) rfl
theorem q2075 : (Jvm.Cond.lays "StrangerMarketModel" "StrangerMarketModel" "top" "I") ∈ lw_all := lw_g (lw_at lw_m9 36 rfl) rfl
theorem q2076 : (Jvm.Cond.soleField "StrangerMarketModel" "top") ∈ lw_all := lw_g (lw_at lw_m9 37 rfl) rfl
theorem q2077 : (Jvm.Cond.lays "StrangerMarketModel" "StrangerMarketModel" "deep" "I") ∈ lw_all := lw_g (lw_at lw_m9 38 rfl) rfl
theorem q2078 : (Jvm.Cond.soleField "StrangerMarketModel" "deep") ∈ lw_all := lw_g (lw_at lw_m9 39 rfl) rfl
theorem q2079 : (Jvm.Cond.lays "StrangerMarketModel" "StrangerMarketModel" "isWhole" "Z") ∈ lw_all := lw_g (lw_at lw_m9 40 rfl) rfl
theorem q2080 : (Jvm.Cond.soleField "StrangerMarketModel" "isWhole") ∈ lw_all := lw_g (lw_at lw_m9 41 rfl) rfl
theorem q2081 : (Jvm.Cond.laysFinal "StrangerMarketModel" "StrangerMarketModel" "truths" "[Z") ∈ lw_all := lw_g (lw_at lw_m9 42 rfl) rfl
theorem q2082 : (Jvm.Cond.soleField "StrangerMarketModel" "truths") ∈ lw_all := lw_g (lw_at lw_m9 43 rfl) rfl
theorem q2083 : (Jvm.Cond.laysFinal "StrangerMarketModel" "StrangerMarketModel" "imaged" "[I") ∈ lw_all := lw_g (lw_at lw_m9 44 rfl) rfl
theorem q2084 : (Jvm.Cond.soleField "StrangerMarketModel" "imaged") ∈ lw_all := lw_g (lw_at lw_m9 45 rfl) rfl
theorem q2085 : (Jvm.Cond.laysFinal "StrangerMarketModel" "StrangerMarketModel" "namesKept" "[J") ∈ lw_all := lw_g (lw_at lw_m9 46 rfl) rfl
theorem q2086 : (Jvm.Cond.soleField "StrangerMarketModel" "namesKept") ∈ lw_all := lw_g (lw_at lw_m9 47 rfl) rfl
theorem q2087 : (Jvm.Cond.laysFinal "StrangerMarketModel" "StrangerMarketModel" "areKept" "[Z") ∈ lw_all := lw_g (lw_at lw_m9 48 rfl) rfl
theorem q2088 : (Jvm.Cond.soleField "StrangerMarketModel" "areKept") ∈ lw_all := lw_g (lw_at lw_m9 49 rfl) rfl
theorem q2089 : (Jvm.Cond.superclass "StrangerMarketModel" "java/lang/Object") ∈ lw_all := lw_g (lw_at lw_m9 50 rfl) rfl
theorem q2093 : (Jvm.Cond.instanceMethod ({ cls := "StrangerMarketModel", name := "county", desc := "()I" } : Jvm.MethodName)) ∈ lw_all := lw_g (lw_at lw_m9 54 rfl) rfl
theorem q2094 : (Jvm.Cond.selects "StrangerMarketModel" ({ cls := "StrangerMarketModel", name := "county", desc := "()I" } : Jvm.MethodName) ({ cls := "StrangerMarketModel", name := "county", desc := "()I" } : Jvm.MethodName)) ∈ lw_all := lw_g (lw_at lw_m9 55 rfl) rfl
theorem q2095 : (Jvm.Cond.code ({ cls := "StrangerMarketModel", name := "county", desc := "()I" } : Jvm.MethodName) prog_26_method_36_code (2 : Nat) (Option.some Jvm.ClassFile.FieldType.int)) ∈ lw_all := lw_g (lw_at lw_m9 56 rfl) rfl
theorem q2096 : (Jvm.Cond.methodLink "StrangerMarketModel" (247 : Nat) ({ cls := "StrangerMarketModel", name := "taken", desc := "(I)V" } : Jvm.MethodName)) ∈ lw_all := lw_g (lw_at lw_m9 57 rfl) rfl
theorem q2097 : (Jvm.Cond.privateMethod ({ cls := "StrangerMarketModel", name := "taken", desc := "(I)V" } : Jvm.MethodName)) ∈ lw_tbl := lw_at lw_m9 58 rfl
theorem q2098 : (Jvm.Cond.instanceMethod ({ cls := "StrangerMarketModel", name := "taken", desc := "(I)V" } : Jvm.MethodName)) ∈ lw_all := lw_g (lw_at lw_m9 59 rfl) rfl
theorem q2099 : (Jvm.Cond.code ({ cls := "StrangerMarketModel", name := "taken", desc := "(I)V" } : Jvm.MethodName) prog_26_method_6_code (2 : Nat) (Option.none : Option Jvm.ClassFile.FieldType)) ∈ lw_all := lw_g (lw_at lw_m9 60 rfl) rfl
theorem q2100 : (Jvm.Cond.methodLink "StrangerMarketModel" (186 : Nat) ({ cls := "StrangerMarketModel", name := "next", desc := "()V" } : Jvm.MethodName)) ∈ lw_all := lw_g (lw_at lw_m9 61 rfl) rfl
theorem q2101 : (Jvm.Cond.privateMethod ({ cls := "StrangerMarketModel", name := "next", desc := "()V" } : Jvm.MethodName)) ∈ lw_tbl := lw_at lw_m9 62 rfl
theorem q2102 : (Jvm.Cond.instanceMethod ({ cls := "StrangerMarketModel", name := "next", desc := "()V" } : Jvm.MethodName)) ∈ lw_all := lw_g (lw_at lw_m9 63 rfl) rfl
theorem q2103 : (Jvm.Cond.code ({ cls := "StrangerMarketModel", name := "next", desc := "()V" } : Jvm.MethodName) prog_26_method_18_code (4 : Nat) (Option.none : Option Jvm.ClassFile.FieldType)) ∈ lw_all := lw_g (lw_at lw_m9 64 rfl) rfl
theorem q2104 : (Jvm.Cond.methodLink "StrangerMarketModel" (147 : Nat) ({ cls := "StrangerMarketModel", name := "peek", desc := "()I" } : Jvm.MethodName)) ∈ lw_all := lw_g (lw_at lw_m9 65 rfl) rfl
theorem q2105 : (Jvm.Cond.privateMethod ({ cls := "StrangerMarketModel", name := "peek", desc := "()I" } : Jvm.MethodName)) ∈ lw_tbl := lw_at lw_m9 66 rfl
theorem q2106 : (Jvm.Cond.instanceMethod ({ cls := "StrangerMarketModel", name := "peek", desc := "()I" } : Jvm.MethodName)) ∈ lw_all := lw_g (lw_at lw_m9 67 rfl) rfl
theorem q2107 : (Jvm.Cond.code ({ cls := "StrangerMarketModel", name := "peek", desc := "()I" } : Jvm.MethodName) prog_26_method_15_code (1 : Nat) (Option.some Jvm.ClassFile.FieldType.int)) ∈ lw_all := lw_g (lw_at lw_m9 68 rfl) rfl
theorem q2108 : (Jvm.Cond.methodLink "StrangerMarketModel" (160 : Nat) ({ cls := "StrangerMarketModel", name := "isSmall", desc := "(I)Z" } : Jvm.MethodName)) ∈ lw_all := lw_g (lw_at lw_m9 69 rfl) rfl
theorem q2109 : (Jvm.Cond.static ({ cls := "StrangerMarketModel", name := "isSmall", desc := "(I)Z" } : Jvm.MethodName)) ∈ lw_all := lw_g (lw_at lw_m9 70 rfl) rfl
theorem q2110 : (Jvm.Cond.code ({ cls := "StrangerMarketModel", name := "isSmall", desc := "(I)Z" } : Jvm.MethodName) prog_26_method_16_code (1 : Nat) (Option.some Jvm.ClassFile.FieldType.boolean)) ∈ lw_all := lw_g (lw_at lw_m9 71 rfl) rfl
theorem q2111 : (Jvm.Cond.methodLink "StrangerMarketModel" (164 : Nat) ({ cls := "StrangerMarketModel", name := "isDigit", desc := "(I)Z" } : Jvm.MethodName)) ∈ lw_all := lw_g (lw_at lw_m9 72 rfl) rfl
theorem q2112 : (Jvm.Cond.static ({ cls := "StrangerMarketModel", name := "isDigit", desc := "(I)Z" } : Jvm.MethodName)) ∈ lw_all := lw_g (lw_at lw_m9 73 rfl) rfl
theorem q2113 : (Jvm.Cond.code ({ cls := "StrangerMarketModel", name := "isDigit", desc := "(I)Z" } : Jvm.MethodName) prog_26_method_17_code (1 : Nat) (Option.some Jvm.ClassFile.FieldType.boolean)) ∈ lw_all := lw_g (lw_at lw_m9 74 rfl) rfl
theorem q2114 : (Jvm.Cond.methodLink "StrangerMarketModel" (253 : Nat) ({ cls := "StrangerMarketModel", name := "line", desc := "()Z" } : Jvm.MethodName)) ∈ lw_all := lw_g (lw_at lw_m9 75 rfl) rfl
theorem q2115 : (Jvm.Cond.privateMethod ({ cls := "StrangerMarketModel", name := "line", desc := "()Z" } : Jvm.MethodName)) ∈ lw_tbl := lw_at lw_m9 76 rfl
theorem q2116 : (Jvm.Cond.instanceMethod ({ cls := "StrangerMarketModel", name := "line", desc := "()Z" } : Jvm.MethodName)) ∈ lw_all := lw_g (lw_at lw_m9 77 rfl) rfl
theorem q2117 : (Jvm.Cond.code ({ cls := "StrangerMarketModel", name := "line", desc := "()Z" } : Jvm.MethodName) prog_26_method_31_code (1 : Nat) (Option.some Jvm.ClassFile.FieldType.boolean)) ∈ lw_all := lw_g (lw_at lw_m9 78 rfl) rfl
theorem q2118 : (Jvm.Cond.methodLink "StrangerMarketModel" (220 : Nat) ({ cls := "StrangerMarketModel", name := "isWord", desc := "(J)Z" } : Jvm.MethodName)) ∈ lw_all := lw_g (lw_at lw_m9 79 rfl) rfl
theorem q2119 : (Jvm.Cond.privateMethod ({ cls := "StrangerMarketModel", name := "isWord", desc := "(J)Z" } : Jvm.MethodName)) ∈ lw_tbl := lw_at lw_m9 80 rfl
theorem q2120 : (Jvm.Cond.instanceMethod ({ cls := "StrangerMarketModel", name := "isWord", desc := "(J)Z" } : Jvm.MethodName)) ∈ lw_all := lw_g (lw_at lw_m9 81 rfl) rfl
theorem q2121 : (Jvm.Cond.code ({ cls := "StrangerMarketModel", name := "isWord", desc := "(J)Z" } : Jvm.MethodName) prog_26_method_20_code (3 : Nat) (Option.some Jvm.ClassFile.FieldType.boolean)) ∈ lw_all := lw_g (lw_at lw_m9 82 rfl) rfl
theorem q2122 : (Jvm.Cond.methodLink "StrangerMarketModel" (224 : Nat) ({ cls := "StrangerMarketModel", name := "readPerson", desc := "()Z" } : Jvm.MethodName)) ∈ lw_all := lw_g (lw_at lw_m9 83 rfl) rfl
theorem q2123 : (Jvm.Cond.privateMethod ({ cls := "StrangerMarketModel", name := "readPerson", desc := "()Z" } : Jvm.MethodName)) ∈ lw_tbl := lw_at lw_m9 84 rfl
theorem q2124 : (Jvm.Cond.instanceMethod ({ cls := "StrangerMarketModel", name := "readPerson", desc := "()Z" } : Jvm.MethodName)) ∈ lw_all := lw_g (lw_at lw_m9 85 rfl) rfl
theorem q2125 : (Jvm.Cond.code ({ cls := "StrangerMarketModel", name := "readPerson", desc := "()Z" } : Jvm.MethodName) prog_26_method_32_code (2 : Nat) (Option.some Jvm.ClassFile.FieldType.boolean)) ∈ lw_all := lw_g (lw_at lw_m9 86 rfl) rfl
theorem q2126 : (Jvm.Cond.methodLink "StrangerMarketModel" (183 : Nat) ({ cls := "StrangerMarketModel", name := "bad", desc := "(I)Z" } : Jvm.MethodName)) ∈ lw_all := lw_g (lw_at lw_m9 87 rfl) rfl
theorem q2127 : (Jvm.Cond.privateMethod ({ cls := "StrangerMarketModel", name := "bad", desc := "(I)Z" } : Jvm.MethodName)) ∈ lw_tbl := lw_at lw_m9 88 rfl
theorem q2128 : (Jvm.Cond.instanceMethod ({ cls := "StrangerMarketModel", name := "bad", desc := "(I)Z" } : Jvm.MethodName)) ∈ lw_all := lw_g (lw_at lw_m9 89 rfl) rfl
theorem q2129 : (Jvm.Cond.code ({ cls := "StrangerMarketModel", name := "bad", desc := "(I)Z" } : Jvm.MethodName) prog_26_method_19_code (2 : Nat) (Option.some Jvm.ClassFile.FieldType.boolean)) ∈ lw_all := lw_g (lw_at lw_m9 90 rfl) rfl
theorem q2130 : (Jvm.Cond.methodLink "StrangerMarketModel" (241 : Nat) ({ cls := "StrangerMarketModel", name := "fresh", desc := "(I)Z" } : Jvm.MethodName)) ∈ lw_all := lw_g (lw_at lw_m9 91 rfl) rfl
theorem q2131 : (Jvm.Cond.privateMethod ({ cls := "StrangerMarketModel", name := "fresh", desc := "(I)Z" } : Jvm.MethodName)) ∈ lw_tbl := lw_at lw_m9 92 rfl
theorem q2132 : (Jvm.Cond.instanceMethod ({ cls := "StrangerMarketModel", name := "fresh", desc := "(I)Z" } : Jvm.MethodName)) ∈ lw_all := lw_g (lw_at lw_m9 93 rfl) rfl
theorem q2133 : (Jvm.Cond.code ({ cls := "StrangerMarketModel", name := "fresh", desc := "(I)Z" } : Jvm.MethodName) prog_26_method_27_code (2 : Nat) (Option.some Jvm.ClassFile.FieldType.boolean)) ∈ lw_all := lw_g (lw_at lw_m9 94 rfl) rfl
theorem q2134 : (Jvm.Cond.methodLink "StrangerMarketModel" (200 : Nat) ({ cls := "StrangerMarketModel", name := "isName", desc := "()Z" } : Jvm.MethodName)) ∈ lw_all := lw_g (lw_at lw_m9 95 rfl) rfl
theorem q2135 : (Jvm.Cond.privateMethod ({ cls := "StrangerMarketModel", name := "isName", desc := "()Z" } : Jvm.MethodName)) ∈ lw_tbl := lw_at lw_m9 96 rfl
theorem q2136 : (Jvm.Cond.instanceMethod ({ cls := "StrangerMarketModel", name := "isName", desc := "()Z" } : Jvm.MethodName)) ∈ lw_all := lw_g (lw_at lw_m9 97 rfl) rfl
theorem q2137 : (Jvm.Cond.code ({ cls := "StrangerMarketModel", name := "isName", desc := "()Z" } : Jvm.MethodName) prog_26_method_23_code (3 : Nat) (Option.some Jvm.ClassFile.FieldType.boolean)) ∈ lw_all := lw_g (lw_at lw_m9 98 rfl) rfl
theorem q2138 : (Jvm.Cond.methodLink "StrangerMarketModel" (204 : Nat) ({ cls := "StrangerMarketModel", name := "seek", desc := "(II)I" } : Jvm.MethodName)) ∈ lw_all := lw_g (lw_at lw_m9 99 rfl) rfl
theorem q2139 : (Jvm.Cond.privateMethod ({ cls := "StrangerMarketModel", name := "seek", desc := "(II)I" } : Jvm.MethodName)) ∈ lw_tbl := lw_at lw_m9 100 rfl
theorem q2140 : (Jvm.Cond.instanceMethod ({ cls := "StrangerMarketModel", name := "seek", desc := "(II)I" } : Jvm.MethodName)) ∈ lw_all := lw_g (lw_at lw_m9 101 rfl) rfl
theorem q2141 : (Jvm.Cond.code ({ cls := "StrangerMarketModel", name := "seek", desc := "(II)I" } : Jvm.MethodName) prog_26_method_26_code (4 : Nat) (Option.some Jvm.ClassFile.FieldType.int)) ∈ lw_all := lw_g (lw_at lw_m9 102 rfl) rfl
theorem q2142 : (Jvm.Cond.methodLink "StrangerMarketModel" (217 : Nat) ({ cls := "StrangerMarketModel", name := "puts", desc := "(III)Z" } : Jvm.MethodName)) ∈ lw_all := lw_g (lw_at lw_m9 103 rfl) rfl
theorem q2143 : (Jvm.Cond.privateMethod ({ cls := "StrangerMarketModel", name := "puts", desc := "(III)Z" } : Jvm.MethodName)) ∈ lw_tbl := lw_at lw_m9 104 rfl
theorem q2144 : (Jvm.Cond.instanceMethod ({ cls := "StrangerMarketModel", name := "puts", desc := "(III)Z" } : Jvm.MethodName)) ∈ lw_all := lw_g (lw_at lw_m9 105 rfl) rfl
theorem q2145 : (Jvm.Cond.code ({ cls := "StrangerMarketModel", name := "puts", desc := "(III)Z" } : Jvm.MethodName) prog_26_method_25_code (4 : Nat) (Option.some Jvm.ClassFile.FieldType.boolean)) ∈ lw_all := lw_g (lw_at lw_m9 106 rfl) rfl
theorem q2146 : (Jvm.Cond.methodLink "StrangerMarketModel" (196 : Nat) ({ cls := "StrangerMarketModel", name := "takes", desc := "(II)Z" } : Jvm.MethodName)) ∈ lw_all := lw_g (lw_at lw_m9 107 rfl) rfl
theorem q2147 : (Jvm.Cond.privateMethod ({ cls := "StrangerMarketModel", name := "takes", desc := "(II)Z" } : Jvm.MethodName)) ∈ lw_tbl := lw_at lw_m9 108 rfl
theorem q2148 : (Jvm.Cond.instanceMethod ({ cls := "StrangerMarketModel", name := "takes", desc := "(II)Z" } : Jvm.MethodName)) ∈ lw_all := lw_g (lw_at lw_m9 109 rfl) rfl
theorem q2149 : (Jvm.Cond.code ({ cls := "StrangerMarketModel", name := "takes", desc := "(II)Z" } : Jvm.MethodName) prog_26_method_24_code (3 : Nat) (Option.some Jvm.ClassFile.FieldType.boolean)) ∈ lw_all := lw_g (lw_at lw_m9 110 rfl) rfl
theorem q2150 : (Jvm.Cond.methodLink "StrangerMarketModel" (189 : Nat) ({ cls := "StrangerMarketModel", name := "isIn", desc := "(III)Z" } : Jvm.MethodName)) ∈ lw_all := lw_g (lw_at lw_m9 111 rfl) rfl
theorem q2151 : (Jvm.Cond.static ({ cls := "StrangerMarketModel", name := "isIn", desc := "(III)Z" } : Jvm.MethodName)) ∈ lw_all := lw_g (lw_at lw_m9 112 rfl) rfl
theorem q2152 : (Jvm.Cond.code ({ cls := "StrangerMarketModel", name := "isIn", desc := "(III)Z" } : Jvm.MethodName) prog_26_method_7_code (3 : Nat) (Option.some Jvm.ClassFile.FieldType.boolean)) ∈ lw_all := lw_g (lw_at lw_m9 113 rfl) rfl
theorem q2153 : (Jvm.Cond.methodLink "StrangerMarketModel" (227 : Nat) ({ cls := "StrangerMarketModel", name := "readGood", desc := "()Z" } : Jvm.MethodName)) ∈ lw_all := lw_g (lw_at lw_m9 114 rfl) rfl
theorem q2154 : (Jvm.Cond.privateMethod ({ cls := "StrangerMarketModel", name := "readGood", desc := "()Z" } : Jvm.MethodName)) ∈ lw_tbl := lw_at lw_m9 115 rfl
theorem q2155 : (Jvm.Cond.instanceMethod ({ cls := "StrangerMarketModel", name := "readGood", desc := "()Z" } : Jvm.MethodName)) ∈ lw_all := lw_g (lw_at lw_m9 116 rfl) rfl
theorem q2156 : (Jvm.Cond.code ({ cls := "StrangerMarketModel", name := "readGood", desc := "()Z" } : Jvm.MethodName) prog_26_method_33_code (2 : Nat) (Option.some Jvm.ClassFile.FieldType.boolean)) ∈ lw_all := lw_g (lw_at lw_m9 117 rfl) rfl
theorem q2157 : (Jvm.Cond.methodLink "StrangerMarketModel" (230 : Nat) ({ cls := "StrangerMarketModel", name := "readTrade", desc := "(Z)Z" } : Jvm.MethodName)) ∈ lw_all := lw_g (lw_at lw_m9 118 rfl) rfl
theorem q2158 : (Jvm.Cond.privateMethod ({ cls := "StrangerMarketModel", name := "readTrade", desc := "(Z)Z" } : Jvm.MethodName)) ∈ lw_tbl := lw_at lw_m9 119 rfl
theorem q2159 : (Jvm.Cond.instanceMethod ({ cls := "StrangerMarketModel", name := "readTrade", desc := "(Z)Z" } : Jvm.MethodName)) ∈ lw_all := lw_g (lw_at lw_m9 120 rfl) rfl
theorem q2160 : (Jvm.Cond.code ({ cls := "StrangerMarketModel", name := "readTrade", desc := "(Z)Z" } : Jvm.MethodName) prog_26_method_34_code (3 : Nat) (Option.some Jvm.ClassFile.FieldType.boolean)) ∈ lw_all := lw_g (lw_at lw_m9 121 rfl) rfl
theorem q2161 : (Jvm.Cond.methodLink "StrangerMarketModel" (244 : Nat) ({ cls := "StrangerMarketModel", name := "takesName", desc := "(II)Z" } : Jvm.MethodName)) ∈ lw_all := lw_g (lw_at lw_m9 122 rfl) rfl
theorem q2162 : (Jvm.Cond.privateMethod ({ cls := "StrangerMarketModel", name := "takesName", desc := "(II)Z" } : Jvm.MethodName)) ∈ lw_tbl := lw_at lw_m9 123 rfl
theorem q2163 : (Jvm.Cond.instanceMethod ({ cls := "StrangerMarketModel", name := "takesName", desc := "(II)Z" } : Jvm.MethodName)) ∈ lw_all := lw_g (lw_at lw_m9 124 rfl) rfl
theorem q2164 : (Jvm.Cond.code ({ cls := "StrangerMarketModel", name := "takesName", desc := "(II)Z" } : Jvm.MethodName) prog_26_method_29_code (3 : Nat) (Option.some Jvm.ClassFile.FieldType.boolean)) ∈ lw_all := lw_g (lw_at lw_m9 125 rfl) rfl
theorem q2165 : (Jvm.Cond.methodLink "StrangerMarketModel" (208 : Nat) ({ cls := "StrangerMarketModel", name := "looksAt", desc := "(II)Z" } : Jvm.MethodName)) ∈ lw_all := lw_g (lw_at lw_m9 126 rfl) rfl
theorem q2166 : (Jvm.Cond.privateMethod ({ cls := "StrangerMarketModel", name := "looksAt", desc := "(II)Z" } : Jvm.MethodName)) ∈ lw_tbl := lw_at lw_m9 127 rfl
theorem q2167 : (Jvm.Cond.instanceMethod ({ cls := "StrangerMarketModel", name := "looksAt", desc := "(II)Z" } : Jvm.MethodName)) ∈ lw_all := lw_g (lw_at lw_m9 128 rfl) rfl
theorem q2168 : (Jvm.Cond.code ({ cls := "StrangerMarketModel", name := "looksAt", desc := "(II)Z" } : Jvm.MethodName) prog_26_method_28_code (3 : Nat) (Option.some Jvm.ClassFile.FieldType.boolean)) ∈ lw_all := lw_g (lw_at lw_m9 129 rfl) rfl
theorem q2169 : (Jvm.Cond.methodLink "StrangerMarketModel" (234 : Nat) ({ cls := "StrangerMarketModel", name := "readPair", desc := "(I)Z" } : Jvm.MethodName)) ∈ lw_all := lw_g (lw_at lw_m9 130 rfl) rfl
theorem q2170 : (Jvm.Cond.privateMethod ({ cls := "StrangerMarketModel", name := "readPair", desc := "(I)Z" } : Jvm.MethodName)) ∈ lw_tbl := lw_at lw_m9 131 rfl
theorem q2171 : (Jvm.Cond.instanceMethod ({ cls := "StrangerMarketModel", name := "readPair", desc := "(I)Z" } : Jvm.MethodName)) ∈ lw_all := lw_g (lw_at lw_m9 132 rfl) rfl
theorem q2172 : (Jvm.Cond.code ({ cls := "StrangerMarketModel", name := "readPair", desc := "(I)Z" } : Jvm.MethodName) prog_26_method_35_code (3 : Nat) (Option.some Jvm.ClassFile.FieldType.boolean)) ∈ lw_all := lw_g (lw_at lw_m9 133 rfl) rfl
theorem q2173 : (Jvm.Cond.methodLink "StrangerMarketModel" (214 : Nat) ({ cls := "StrangerMarketModel", name := "bitOf", desc := "(II)Z" } : Jvm.MethodName)) ∈ lw_all := lw_g (lw_at lw_m9 134 rfl) rfl
theorem q2174 : (Jvm.Cond.static ({ cls := "StrangerMarketModel", name := "bitOf", desc := "(II)Z" } : Jvm.MethodName)) ∈ lw_all := lw_g (lw_at lw_m9 135 rfl) rfl
theorem q2175 : (Jvm.Cond.code ({ cls := "StrangerMarketModel", name := "bitOf", desc := "(II)Z" } : Jvm.MethodName) prog_26_method_8_code (2 : Nat) (Option.some Jvm.ClassFile.FieldType.boolean)) ∈ lw_all := lw_g (lw_at lw_m9 136 rfl) rfl
theorem q2176 : (Jvm.Cond.methodLink "StrangerMarketModel" (237 : Nat) ({ cls := "StrangerMarketModel", name := "once", desc := "(IIII)Z" } : Jvm.MethodName)) ∈ lw_all := lw_g (lw_at lw_m9 137 rfl) rfl
theorem q2177 : (Jvm.Cond.privateMethod ({ cls := "StrangerMarketModel", name := "once", desc := "(IIII)Z" } : Jvm.MethodName)) ∈ lw_tbl := lw_at lw_m9 138 rfl
theorem q2178 : (Jvm.Cond.instanceMethod ({ cls := "StrangerMarketModel", name := "once", desc := "(IIII)Z" } : Jvm.MethodName)) ∈ lw_all := lw_g (lw_at lw_m9 139 rfl) rfl
theorem q2179 : (Jvm.Cond.code ({ cls := "StrangerMarketModel", name := "once", desc := "(IIII)Z" } : Jvm.MethodName) prog_26_method_30_code (5 : Nat) (Option.some Jvm.ClassFile.FieldType.boolean)) ∈ lw_all := lw_g (lw_at lw_m9 140 rfl) rfl
theorem q2180 : (Jvm.Cond.methodLink "StrangerMarketModel" (256 : Nat) ({ cls := "StrangerMarketModel", name := "sign", desc := "(I)Z" } : Jvm.MethodName)) ∈ lw_all := lw_g (lw_at lw_m9 141 rfl) rfl
theorem q2181 : (Jvm.Cond.privateMethod ({ cls := "StrangerMarketModel", name := "sign", desc := "(I)Z" } : Jvm.MethodName)) ∈ lw_tbl := lw_at lw_m9 142 rfl
theorem q2182 : (Jvm.Cond.instanceMethod ({ cls := "StrangerMarketModel", name := "sign", desc := "(I)Z" } : Jvm.MethodName)) ∈ lw_all := lw_g (lw_at lw_m9 143 rfl) rfl
theorem q2183 : (Jvm.Cond.code ({ cls := "StrangerMarketModel", name := "sign", desc := "(I)Z" } : Jvm.MethodName) prog_26_method_22_code (2 : Nat) (Option.some Jvm.ClassFile.FieldType.boolean)) ∈ lw_all := lw_g (lw_at lw_m9 144 rfl) rfl
theorem q2184 : (Jvm.Cond.methodLink "StrangerMarketModel" (180 : Nat) ({ cls := "StrangerMarketModel", name := "isSign", desc := "(I)Z" } : Jvm.MethodName)) ∈ lw_all := lw_g (lw_at lw_m9 145 rfl) rfl
theorem q2185 : (Jvm.Cond.privateMethod ({ cls := "StrangerMarketModel", name := "isSign", desc := "(I)Z" } : Jvm.MethodName)) ∈ lw_tbl := lw_at lw_m9 146 rfl
theorem q2186 : (Jvm.Cond.instanceMethod ({ cls := "StrangerMarketModel", name := "isSign", desc := "(I)Z" } : Jvm.MethodName)) ∈ lw_all := lw_g (lw_at lw_m9 147 rfl) rfl
theorem q2187 : (Jvm.Cond.code ({ cls := "StrangerMarketModel", name := "isSign", desc := "(I)Z" } : Jvm.MethodName) prog_26_method_21_code (2 : Nat) (Option.some Jvm.ClassFile.FieldType.boolean)) ∈ lw_all := lw_g (lw_at lw_m9 148 rfl) rfl
theorem q2188 : (Jvm.Cond.methodLink "StrangerMarketModel" (259 : Nat) ({ cls := "StrangerMarketModel", name := "morning", desc := "()V" } : Jvm.MethodName)) ∈ lw_all := lw_g (lw_at lw_m9 149 rfl) rfl
theorem q2189 : (Jvm.Cond.privateMethod ({ cls := "StrangerMarketModel", name := "morning", desc := "()V" } : Jvm.MethodName)) ∈ lw_tbl := lw_at lw_m9 150 rfl
theorem q2190 : (Jvm.Cond.instanceMethod ({ cls := "StrangerMarketModel", name := "morning", desc := "()V" } : Jvm.MethodName)) ∈ lw_all := lw_g (lw_at lw_m9 151 rfl) rfl
theorem q2191 : (Jvm.Cond.code ({ cls := "StrangerMarketModel", name := "morning", desc := "()V" } : Jvm.MethodName) prog_26_method_58_code (2 : Nat) (Option.none : Option Jvm.ClassFile.FieldType)) ∈ lw_all := lw_g (lw_at lw_m9 152 rfl) rfl
theorem q2193 : (Jvm.Cond.instanceMethod ({ cls := "StrangerMarketModel", name := "fault", desc := "()I" } : Jvm.MethodName)) ∈ lw_all := lw_g (lw_at lw_m9 154 rfl) rfl
theorem q2194 : (Jvm.Cond.selects "StrangerMarketModel" ({ cls := "StrangerMarketModel", name := "fault", desc := "()I" } : Jvm.MethodName) ({ cls := "StrangerMarketModel", name := "fault", desc := "()I" } : Jvm.MethodName)) ∈ lw_all := lw_g (lw_at lw_m9 155 rfl) rfl
theorem q2195 : (Jvm.Cond.code ({ cls := "StrangerMarketModel", name := "fault", desc := "()I" } : Jvm.MethodName) prog_26_method_37_code (1 : Nat) (Option.some Jvm.ClassFile.FieldType.int)) ∈ lw_all := lw_g (lw_at lw_m9 156 rfl) rfl
theorem q2197 : (Jvm.Cond.instanceMethod ({ cls := "StrangerMarketModel", name := "person", desc := "(II)I" } : Jvm.MethodName)) ∈ lw_all := lw_g (lw_at lw_m9 158 rfl) rfl
theorem q2198 : (Jvm.Cond.selects "StrangerMarketModel" ({ cls := "StrangerMarketModel", name := "person", desc := "(II)I" } : Jvm.MethodName) ({ cls := "StrangerMarketModel", name := "person", desc := "(II)I" } : Jvm.MethodName)) ∈ lw_all := lw_g (lw_at lw_m9 159 rfl) rfl
theorem q2199 : (Jvm.Cond.code ({ cls := "StrangerMarketModel", name := "person", desc := "(II)I" } : Jvm.MethodName) prog_26_method_46_code (3 : Nat) (Option.some Jvm.ClassFile.FieldType.int)) ∈ lw_all := lw_g (lw_at lw_m9 160 rfl) rfl
theorem q2200 : (Jvm.Cond.methodLink "StrangerMarketModel" (272 : Nat) ({ cls := "StrangerMarketModel", name := "isPerson", desc := "(I)Z" } : Jvm.MethodName)) ∈ lw_all := lw_g (lw_at lw_m9 161 rfl) rfl
theorem q2201 : (Jvm.Cond.privateMethod ({ cls := "StrangerMarketModel", name := "isPerson", desc := "(I)Z" } : Jvm.MethodName)) ∈ lw_tbl := lw_at lw_m9 162 rfl
theorem q2202 : (Jvm.Cond.instanceMethod ({ cls := "StrangerMarketModel", name := "isPerson", desc := "(I)Z" } : Jvm.MethodName)) ∈ lw_all := lw_g (lw_at lw_m9 163 rfl) rfl
theorem q2203 : (Jvm.Cond.code ({ cls := "StrangerMarketModel", name := "isPerson", desc := "(I)Z" } : Jvm.MethodName) prog_26_method_38_code (2 : Nat) (Option.some Jvm.ClassFile.FieldType.boolean)) ∈ lw_all := lw_g (lw_at lw_m9 164 rfl) rfl
theorem q2204 : (Jvm.Cond.methodLink "StrangerMarketModel" (275 : Nat) ({ cls := "StrangerMarketModel", name := "throwsIf", desc := "(Z)Z" } : Jvm.MethodName)) ∈ lw_all := lw_g (lw_at lw_m9 165 rfl) rfl
theorem q2205 : (Jvm.Cond.privateMethod ({ cls := "StrangerMarketModel", name := "throwsIf", desc := "(Z)Z" } : Jvm.MethodName)) ∈ lw_tbl := lw_at lw_m9 166 rfl
theorem q2206 : (Jvm.Cond.instanceMethod ({ cls := "StrangerMarketModel", name := "throwsIf", desc := "(Z)Z" } : Jvm.MethodName)) ∈ lw_all := lw_g (lw_at lw_m9 167 rfl) rfl
theorem q2207 : (Jvm.Cond.code ({ cls := "StrangerMarketModel", name := "throwsIf", desc := "(Z)Z" } : Jvm.MethodName) prog_26_method_2_code (2 : Nat) (Option.some Jvm.ClassFile.FieldType.boolean)) ∈ lw_all := lw_g (lw_at lw_m9 168 rfl) rfl
theorem q2208 : (Jvm.Cond.methodLink "StrangerMarketModel" (265 : Nat) ({ cls := "StrangerMarketModel", name := "knownBy", desc := "(I)I" } : Jvm.MethodName)) ∈ lw_all := lw_g (lw_at lw_m9 169 rfl) rfl
theorem q2209 : (Jvm.Cond.privateMethod ({ cls := "StrangerMarketModel", name := "knownBy", desc := "(I)I" } : Jvm.MethodName)) ∈ lw_tbl := lw_at lw_m9 170 rfl
theorem q2210 : (Jvm.Cond.instanceMethod ({ cls := "StrangerMarketModel", name := "knownBy", desc := "(I)I" } : Jvm.MethodName)) ∈ lw_all := lw_g (lw_at lw_m9 171 rfl) rfl
theorem q2211 : (Jvm.Cond.code ({ cls := "StrangerMarketModel", name := "knownBy", desc := "(I)I" } : Jvm.MethodName) prog_26_method_40_code (2 : Nat) (Option.some Jvm.ClassFile.FieldType.int)) ∈ lw_all := lw_g (lw_at lw_m9 172 rfl) rfl
theorem q2212 : (Jvm.Cond.methodLink "StrangerMarketModel" (278 : Nat) ({ cls := "StrangerMarketModel", name := "mayBy", desc := "(I)I" } : Jvm.MethodName)) ∈ lw_all := lw_g (lw_at lw_m9 173 rfl) rfl
theorem q2213 : (Jvm.Cond.privateMethod ({ cls := "StrangerMarketModel", name := "mayBy", desc := "(I)I" } : Jvm.MethodName)) ∈ lw_tbl := lw_at lw_m9 174 rfl
theorem q2214 : (Jvm.Cond.instanceMethod ({ cls := "StrangerMarketModel", name := "mayBy", desc := "(I)I" } : Jvm.MethodName)) ∈ lw_all := lw_g (lw_at lw_m9 175 rfl) rfl
theorem q2215 : (Jvm.Cond.code ({ cls := "StrangerMarketModel", name := "mayBy", desc := "(I)I" } : Jvm.MethodName) prog_26_method_41_code (2 : Nat) (Option.some Jvm.ClassFile.FieldType.int)) ∈ lw_all := lw_g (lw_at lw_m9 176 rfl) rfl
theorem q2216 : (Jvm.Cond.methodLink "StrangerMarketModel" (269 : Nat) ({ cls := "StrangerMarketModel", name := "wantsOf", desc := "(I)I" } : Jvm.MethodName)) ∈ lw_all := lw_g (lw_at lw_m9 177 rfl) rfl
theorem q2217 : (Jvm.Cond.privateMethod ({ cls := "StrangerMarketModel", name := "wantsOf", desc := "(I)I" } : Jvm.MethodName)) ∈ lw_tbl := lw_at lw_m9 178 rfl
theorem q2218 : (Jvm.Cond.instanceMethod ({ cls := "StrangerMarketModel", name := "wantsOf", desc := "(I)I" } : Jvm.MethodName)) ∈ lw_all := lw_g (lw_at lw_m9 179 rfl) rfl
theorem q2219 : (Jvm.Cond.code ({ cls := "StrangerMarketModel", name := "wantsOf", desc := "(I)I" } : Jvm.MethodName) prog_26_method_44_code (4 : Nat) (Option.some Jvm.ClassFile.FieldType.int)) ∈ lw_all := lw_g (lw_at lw_m9 180 rfl) rfl
theorem q2221 : (Jvm.Cond.instanceMethod ({ cls := "StrangerMarketModel", name := "good", desc := "(III)I" } : Jvm.MethodName)) ∈ lw_all := lw_g (lw_at lw_m9 182 rfl) rfl
theorem q2222 : (Jvm.Cond.selects "StrangerMarketModel" ({ cls := "StrangerMarketModel", name := "good", desc := "(III)I" } : Jvm.MethodName) ({ cls := "StrangerMarketModel", name := "good", desc := "(III)I" } : Jvm.MethodName)) ∈ lw_all := lw_g (lw_at lw_m9 183 rfl) rfl
theorem q2223 : (Jvm.Cond.code ({ cls := "StrangerMarketModel", name := "good", desc := "(III)I" } : Jvm.MethodName) prog_26_method_47_code (5 : Nat) (Option.some Jvm.ClassFile.FieldType.int)) ∈ lw_all := lw_g (lw_at lw_m9 184 rfl) rfl
theorem q2224 : (Jvm.Cond.methodLink "StrangerMarketModel" (281 : Nat) ({ cls := "StrangerMarketModel", name := "isGood", desc := "(I)Z" } : Jvm.MethodName)) ∈ lw_all := lw_g (lw_at lw_m9 185 rfl) rfl
theorem q2225 : (Jvm.Cond.privateMethod ({ cls := "StrangerMarketModel", name := "isGood", desc := "(I)Z" } : Jvm.MethodName)) ∈ lw_tbl := lw_at lw_m9 186 rfl
theorem q2226 : (Jvm.Cond.instanceMethod ({ cls := "StrangerMarketModel", name := "isGood", desc := "(I)Z" } : Jvm.MethodName)) ∈ lw_all := lw_g (lw_at lw_m9 187 rfl) rfl
theorem q2227 : (Jvm.Cond.code ({ cls := "StrangerMarketModel", name := "isGood", desc := "(I)Z" } : Jvm.MethodName) prog_26_method_39_code (2 : Nat) (Option.some Jvm.ClassFile.FieldType.boolean)) ∈ lw_all := lw_g (lw_at lw_m9 188 rfl) rfl
theorem q2229 : (Jvm.Cond.instanceMethod ({ cls := "StrangerMarketModel", name := "deals", desc := "(II)I" } : Jvm.MethodName)) ∈ lw_all := lw_g (lw_at lw_m9 190 rfl) rfl
theorem q2230 : (Jvm.Cond.selects "StrangerMarketModel" ({ cls := "StrangerMarketModel", name := "deals", desc := "(II)I" } : Jvm.MethodName) ({ cls := "StrangerMarketModel", name := "deals", desc := "(II)I" } : Jvm.MethodName)) ∈ lw_all := lw_g (lw_at lw_m9 191 rfl) rfl
theorem q2231 : (Jvm.Cond.code ({ cls := "StrangerMarketModel", name := "deals", desc := "(II)I" } : Jvm.MethodName) prog_26_method_48_code (3 : Nat) (Option.some Jvm.ClassFile.FieldType.int)) ∈ lw_all := lw_g (lw_at lw_m9 192 rfl) rfl
theorem q2233 : (Jvm.Cond.instanceMethod ({ cls := "StrangerMarketModel", name := "now", desc := "(I)I" } : Jvm.MethodName)) ∈ lw_all := lw_g (lw_at lw_m9 194 rfl) rfl
theorem q2234 : (Jvm.Cond.selects "StrangerMarketModel" ({ cls := "StrangerMarketModel", name := "now", desc := "(I)I" } : Jvm.MethodName) ({ cls := "StrangerMarketModel", name := "now", desc := "(I)I" } : Jvm.MethodName)) ∈ lw_all := lw_g (lw_at lw_m9 195 rfl) rfl
theorem q2235 : (Jvm.Cond.code ({ cls := "StrangerMarketModel", name := "now", desc := "(I)I" } : Jvm.MethodName) prog_26_method_49_code (5 : Nat) (Option.some Jvm.ClassFile.FieldType.int)) ∈ lw_all := lw_g (lw_at lw_m9 196 rfl) rfl
theorem q2236 : (Jvm.Cond.methodLink "StrangerMarketModel" (284 : Nat) ({ cls := "StrangerMarketModel", name := "bits", desc := "(I)I" } : Jvm.MethodName)) ∈ lw_all := lw_g (lw_at lw_m9 197 rfl) rfl
theorem q2237 : (Jvm.Cond.static ({ cls := "StrangerMarketModel", name := "bits", desc := "(I)I" } : Jvm.MethodName)) ∈ lw_all := lw_g (lw_at lw_m9 198 rfl) rfl
theorem q2238 : (Jvm.Cond.code ({ cls := "StrangerMarketModel", name := "bits", desc := "(I)I" } : Jvm.MethodName) prog_26_method_11_code (3 : Nat) (Option.some Jvm.ClassFile.FieldType.int)) ∈ lw_all := lw_g (lw_at lw_m9 199 rfl) rfl
theorem q2239 : (Jvm.Cond.methodLink "StrangerMarketModel" (287 : Nat) ({ cls := "StrangerMarketModel", name := "fed", desc := "()I" } : Jvm.MethodName)) ∈ lw_all := lw_g (lw_at lw_m9 200 rfl) rfl
theorem q2240 : (Jvm.Cond.privateMethod ({ cls := "StrangerMarketModel", name := "fed", desc := "()I" } : Jvm.MethodName)) ∈ lw_tbl := lw_at lw_m9 201 rfl
theorem q2241 : (Jvm.Cond.instanceMethod ({ cls := "StrangerMarketModel", name := "fed", desc := "()I" } : Jvm.MethodName)) ∈ lw_all := lw_g (lw_at lw_m9 202 rfl) rfl
theorem q2242 : (Jvm.Cond.code ({ cls := "StrangerMarketModel", name := "fed", desc := "()I" } : Jvm.MethodName) prog_26_method_45_code (3 : Nat) (Option.some Jvm.ClassFile.FieldType.int)) ∈ lw_all := lw_g (lw_at lw_m9 203 rfl) rfl
theorem q2244 : (Jvm.Cond.instanceMethod ({ cls := "StrangerMarketModel", name := "buy", desc := "(III)I" } : Jvm.MethodName)) ∈ lw_all := lw_g (lw_at lw_m9 205 rfl) rfl
theorem q2245 : (Jvm.Cond.selects "StrangerMarketModel" ({ cls := "StrangerMarketModel", name := "buy", desc := "(III)I" } : Jvm.MethodName) ({ cls := "StrangerMarketModel", name := "buy", desc := "(III)I" } : Jvm.MethodName)) ∈ lw_all := lw_g (lw_at lw_m9 206 rfl) rfl
theorem q2246 : (Jvm.Cond.code ({ cls := "StrangerMarketModel", name := "buy", desc := "(III)I" } : Jvm.MethodName) prog_26_method_61_code (5 : Nat) (Option.some Jvm.ClassFile.FieldType.int)) ∈ lw_all := lw_g (lw_at lw_m9 207 rfl) rfl
theorem q2247 : (Jvm.Cond.methodLink "StrangerMarketModel" (306 : Nat) ({ cls := "StrangerMarketModel", name := "whyBuy", desc := "(III)I" } : Jvm.MethodName)) ∈ lw_all := lw_g (lw_at lw_m9 208 rfl) rfl
theorem q2248 : (Jvm.Cond.privateMethod ({ cls := "StrangerMarketModel", name := "whyBuy", desc := "(III)I" } : Jvm.MethodName)) ∈ lw_tbl := lw_at lw_m9 209 rfl
theorem q2249 : (Jvm.Cond.instanceMethod ({ cls := "StrangerMarketModel", name := "whyBuy", desc := "(III)I" } : Jvm.MethodName)) ∈ lw_all := lw_g (lw_at lw_m9 210 rfl) rfl
theorem q2250 : (Jvm.Cond.code ({ cls := "StrangerMarketModel", name := "whyBuy", desc := "(III)I" } : Jvm.MethodName) prog_26_method_51_code (5 : Nat) (Option.some Jvm.ClassFile.FieldType.int)) ∈ lw_all := lw_g (lw_at lw_m9 211 rfl) rfl
theorem q2251 : (Jvm.Cond.methodLink "StrangerMarketModel" (290 : Nat) ({ cls := "StrangerMarketModel", name := "isHome", desc := "(I)Z" } : Jvm.MethodName)) ∈ lw_all := lw_g (lw_at lw_m9 212 rfl) rfl
theorem q2252 : (Jvm.Cond.privateMethod ({ cls := "StrangerMarketModel", name := "isHome", desc := "(I)Z" } : Jvm.MethodName)) ∈ lw_tbl := lw_at lw_m9 213 rfl
theorem q2253 : (Jvm.Cond.instanceMethod ({ cls := "StrangerMarketModel", name := "isHome", desc := "(I)Z" } : Jvm.MethodName)) ∈ lw_all := lw_g (lw_at lw_m9 214 rfl) rfl
theorem q2254 : (Jvm.Cond.code ({ cls := "StrangerMarketModel", name := "isHome", desc := "(I)Z" } : Jvm.MethodName) prog_26_method_42_code (2 : Nat) (Option.some Jvm.ClassFile.FieldType.boolean)) ∈ lw_all := lw_g (lw_at lw_m9 215 rfl) rfl
theorem q2255 : (Jvm.Cond.methodLink "StrangerMarketModel" (293 : Nat) ({ cls := "StrangerMarketModel", name := "isVeiled", desc := "(I)Z" } : Jvm.MethodName)) ∈ lw_all := lw_g (lw_at lw_m9 216 rfl) rfl
theorem q2256 : (Jvm.Cond.privateMethod ({ cls := "StrangerMarketModel", name := "isVeiled", desc := "(I)Z" } : Jvm.MethodName)) ∈ lw_tbl := lw_at lw_m9 217 rfl
theorem q2257 : (Jvm.Cond.instanceMethod ({ cls := "StrangerMarketModel", name := "isVeiled", desc := "(I)Z" } : Jvm.MethodName)) ∈ lw_all := lw_g (lw_at lw_m9 218 rfl) rfl
theorem q2258 : (Jvm.Cond.code ({ cls := "StrangerMarketModel", name := "isVeiled", desc := "(I)Z" } : Jvm.MethodName) prog_26_method_43_code (2 : Nat) (Option.some Jvm.ClassFile.FieldType.boolean)) ∈ lw_all := lw_g (lw_at lw_m9 219 rfl) rfl
theorem q2259 : (Jvm.Cond.methodLink "StrangerMarketModel" (310 : Nat) ({ cls := "StrangerMarketModel", name := "keep", desc := "()V" } : Jvm.MethodName)) ∈ lw_all := lw_g (lw_at lw_m9 220 rfl) rfl
theorem q2260 : (Jvm.Cond.privateMethod ({ cls := "StrangerMarketModel", name := "keep", desc := "()V" } : Jvm.MethodName)) ∈ lw_tbl := lw_at lw_m9 221 rfl
theorem q2261 : (Jvm.Cond.instanceMethod ({ cls := "StrangerMarketModel", name := "keep", desc := "()V" } : Jvm.MethodName)) ∈ lw_all := lw_g (lw_at lw_m9 222 rfl) rfl
theorem q2262 : (Jvm.Cond.code ({ cls := "StrangerMarketModel", name := "keep", desc := "()V" } : Jvm.MethodName) prog_26_method_66_code (2 : Nat) (Option.none : Option Jvm.ClassFile.FieldType)) ∈ lw_all := lw_g (lw_at lw_m9 223 rfl) rfl
theorem q2263 : (Jvm.Cond.methodLink "StrangerMarketModel" (313 : Nat) ({ cls := "StrangerMarketModel", name := "buys", desc := "(III)V" } : Jvm.MethodName)) ∈ lw_all := lw_g (lw_at lw_m9 224 rfl) rfl
theorem q2264 : (Jvm.Cond.privateMethod ({ cls := "StrangerMarketModel", name := "buys", desc := "(III)V" } : Jvm.MethodName)) ∈ lw_tbl := lw_at lw_m9 225 rfl
theorem q2265 : (Jvm.Cond.instanceMethod ({ cls := "StrangerMarketModel", name := "buys", desc := "(III)V" } : Jvm.MethodName)) ∈ lw_all := lw_g (lw_at lw_m9 226 rfl) rfl
theorem q2266 : (Jvm.Cond.code ({ cls := "StrangerMarketModel", name := "buys", desc := "(III)V" } : Jvm.MethodName) prog_26_method_52_code (5 : Nat) (Option.none : Option Jvm.ClassFile.FieldType)) ∈ lw_all := lw_g (lw_at lw_m9 227 rfl) rfl
theorem q2267 : (Jvm.Cond.methodLink "StrangerMarketModel" (296 : Nat) ({ cls := "StrangerMarketModel", name := "meets", desc := "(II)V" } : Jvm.MethodName)) ∈ lw_all := lw_g (lw_at lw_m9 228 rfl) rfl
theorem q2268 : (Jvm.Cond.privateMethod ({ cls := "StrangerMarketModel", name := "meets", desc := "(II)V" } : Jvm.MethodName)) ∈ lw_tbl := lw_at lw_m9 229 rfl
theorem q2269 : (Jvm.Cond.instanceMethod ({ cls := "StrangerMarketModel", name := "meets", desc := "(II)V" } : Jvm.MethodName)) ∈ lw_all := lw_g (lw_at lw_m9 230 rfl) rfl
theorem q2270 : (Jvm.Cond.code ({ cls := "StrangerMarketModel", name := "meets", desc := "(II)V" } : Jvm.MethodName) prog_26_method_50_code (3 : Nat) (Option.none : Option Jvm.ClassFile.FieldType)) ∈ lw_all := lw_g (lw_at lw_m9 231 rfl) rfl
theorem q2272 : (Jvm.Cond.instanceMethod ({ cls := "StrangerMarketModel", name := "nod", desc := "(II)I" } : Jvm.MethodName)) ∈ lw_all := lw_g (lw_at lw_m9 233 rfl) rfl
theorem q2273 : (Jvm.Cond.selects "StrangerMarketModel" ({ cls := "StrangerMarketModel", name := "nod", desc := "(II)I" } : Jvm.MethodName) ({ cls := "StrangerMarketModel", name := "nod", desc := "(II)I" } : Jvm.MethodName)) ∈ lw_all := lw_g (lw_at lw_m9 234 rfl) rfl
theorem q2274 : (Jvm.Cond.code ({ cls := "StrangerMarketModel", name := "nod", desc := "(II)I" } : Jvm.MethodName) prog_26_method_62_code (4 : Nat) (Option.some Jvm.ClassFile.FieldType.int)) ∈ lw_all := lw_g (lw_at lw_m9 235 rfl) rfl
theorem q2275 : (Jvm.Cond.methodLink "StrangerMarketModel" (317 : Nat) ({ cls := "StrangerMarketModel", name := "whyNod", desc := "(II)I" } : Jvm.MethodName)) ∈ lw_all := lw_g (lw_at lw_m9 236 rfl) rfl
theorem q2276 : (Jvm.Cond.privateMethod ({ cls := "StrangerMarketModel", name := "whyNod", desc := "(II)I" } : Jvm.MethodName)) ∈ lw_tbl := lw_at lw_m9 237 rfl
theorem q2277 : (Jvm.Cond.instanceMethod ({ cls := "StrangerMarketModel", name := "whyNod", desc := "(II)I" } : Jvm.MethodName)) ∈ lw_all := lw_g (lw_at lw_m9 238 rfl) rfl
theorem q2278 : (Jvm.Cond.code ({ cls := "StrangerMarketModel", name := "whyNod", desc := "(II)I" } : Jvm.MethodName) prog_26_method_53_code (3 : Nat) (Option.some Jvm.ClassFile.FieldType.int)) ∈ lw_all := lw_g (lw_at lw_m9 239 rfl) rfl
theorem q2279 : (Jvm.Cond.methodLink "StrangerMarketModel" (320 : Nat) ({ cls := "StrangerMarketModel", name := "nods", desc := "(II)V" } : Jvm.MethodName)) ∈ lw_all := lw_g (lw_at lw_m10 0 rfl) rfl
theorem q2280 : (Jvm.Cond.privateMethod ({ cls := "StrangerMarketModel", name := "nods", desc := "(II)V" } : Jvm.MethodName)) ∈ lw_tbl := lw_at lw_m10 1 rfl
theorem q2281 : (Jvm.Cond.instanceMethod ({ cls := "StrangerMarketModel", name := "nods", desc := "(II)V" } : Jvm.MethodName)) ∈ lw_all := lw_g (lw_at lw_m10 2 rfl) rfl
theorem q2282 : (Jvm.Cond.code ({ cls := "StrangerMarketModel", name := "nods", desc := "(II)V" } : Jvm.MethodName) prog_26_method_54_code (3 : Nat) (Option.none : Option Jvm.ClassFile.FieldType)) ∈ lw_all := lw_g (lw_at lw_m10 3 rfl) rfl
theorem q2284 : (Jvm.Cond.instanceMethod ({ cls := "StrangerMarketModel", name := "veil", desc := "(I)I" } : Jvm.MethodName)) ∈ lw_all := lw_g (lw_at lw_m10 5 rfl) rfl
theorem q2285 : (Jvm.Cond.selects "StrangerMarketModel" ({ cls := "StrangerMarketModel", name := "veil", desc := "(I)I" } : Jvm.MethodName) ({ cls := "StrangerMarketModel", name := "veil", desc := "(I)I" } : Jvm.MethodName)) ∈ lw_all := lw_g (lw_at lw_m10 6 rfl) rfl
theorem q2286 : (Jvm.Cond.code ({ cls := "StrangerMarketModel", name := "veil", desc := "(I)I" } : Jvm.MethodName) prog_26_method_63_code (3 : Nat) (Option.some Jvm.ClassFile.FieldType.int)) ∈ lw_all := lw_g (lw_at lw_m10 7 rfl) rfl
theorem q2287 : (Jvm.Cond.methodLink "StrangerMarketModel" (323 : Nat) ({ cls := "StrangerMarketModel", name := "whyVeil", desc := "(I)I" } : Jvm.MethodName)) ∈ lw_all := lw_g (lw_at lw_m10 8 rfl) rfl
theorem q2288 : (Jvm.Cond.privateMethod ({ cls := "StrangerMarketModel", name := "whyVeil", desc := "(I)I" } : Jvm.MethodName)) ∈ lw_tbl := lw_at lw_m10 9 rfl
theorem q2289 : (Jvm.Cond.instanceMethod ({ cls := "StrangerMarketModel", name := "whyVeil", desc := "(I)I" } : Jvm.MethodName)) ∈ lw_all := lw_g (lw_at lw_m10 10 rfl) rfl
theorem q2290 : (Jvm.Cond.code ({ cls := "StrangerMarketModel", name := "whyVeil", desc := "(I)I" } : Jvm.MethodName) prog_26_method_55_code (2 : Nat) (Option.some Jvm.ClassFile.FieldType.int)) ∈ lw_all := lw_g (lw_at lw_m10 11 rfl) rfl
theorem q2291 : (Jvm.Cond.methodLink "StrangerMarketModel" (326 : Nat) ({ cls := "StrangerMarketModel", name := "veils", desc := "(I)V" } : Jvm.MethodName)) ∈ lw_all := lw_g (lw_at lw_m10 12 rfl) rfl
theorem q2292 : (Jvm.Cond.privateMethod ({ cls := "StrangerMarketModel", name := "veils", desc := "(I)V" } : Jvm.MethodName)) ∈ lw_tbl := lw_at lw_m10 13 rfl
theorem q2293 : (Jvm.Cond.instanceMethod ({ cls := "StrangerMarketModel", name := "veils", desc := "(I)V" } : Jvm.MethodName)) ∈ lw_all := lw_g (lw_at lw_m10 14 rfl) rfl
theorem q2294 : (Jvm.Cond.code ({ cls := "StrangerMarketModel", name := "veils", desc := "(I)V" } : Jvm.MethodName) prog_26_method_56_code (2 : Nat) (Option.none : Option Jvm.ClassFile.FieldType)) ∈ lw_all := lw_g (lw_at lw_m10 15 rfl) rfl
theorem q2296 : (Jvm.Cond.instanceMethod ({ cls := "StrangerMarketModel", name := "tell", desc := "(III)I" } : Jvm.MethodName)) ∈ lw_all := lw_g (lw_at lw_m10 17 rfl) rfl
theorem q2297 : (Jvm.Cond.selects "StrangerMarketModel" ({ cls := "StrangerMarketModel", name := "tell", desc := "(III)I" } : Jvm.MethodName) ({ cls := "StrangerMarketModel", name := "tell", desc := "(III)I" } : Jvm.MethodName)) ∈ lw_all := lw_g (lw_at lw_m10 18 rfl) rfl
theorem q2298 : (Jvm.Cond.code ({ cls := "StrangerMarketModel", name := "tell", desc := "(III)I" } : Jvm.MethodName) prog_26_method_64_code (5 : Nat) (Option.some Jvm.ClassFile.FieldType.int)) ∈ lw_all := lw_g (lw_at lw_m10 19 rfl) rfl
theorem q2299 : (Jvm.Cond.methodLink "StrangerMarketModel" (329 : Nat) ({ cls := "StrangerMarketModel", name := "whyTell", desc := "(III)I" } : Jvm.MethodName)) ∈ lw_all := lw_g (lw_at lw_m10 20 rfl) rfl
theorem q2300 : (Jvm.Cond.privateMethod ({ cls := "StrangerMarketModel", name := "whyTell", desc := "(III)I" } : Jvm.MethodName)) ∈ lw_tbl := lw_at lw_m10 21 rfl
theorem q2301 : (Jvm.Cond.instanceMethod ({ cls := "StrangerMarketModel", name := "whyTell", desc := "(III)I" } : Jvm.MethodName)) ∈ lw_all := lw_g (lw_at lw_m10 22 rfl) rfl
theorem q2302 : (Jvm.Cond.code ({ cls := "StrangerMarketModel", name := "whyTell", desc := "(III)I" } : Jvm.MethodName) prog_26_method_57_code (4 : Nat) (Option.some Jvm.ClassFile.FieldType.int)) ∈ lw_all := lw_g (lw_at lw_m10 23 rfl) rfl
theorem q2304 : (Jvm.Cond.instanceMethod ({ cls := "StrangerMarketModel", name := "days", desc := "(I)I" } : Jvm.MethodName)) ∈ lw_all := lw_g (lw_at lw_m10 25 rfl) rfl
theorem q2305 : (Jvm.Cond.selects "StrangerMarketModel" ({ cls := "StrangerMarketModel", name := "days", desc := "(I)I" } : Jvm.MethodName) ({ cls := "StrangerMarketModel", name := "days", desc := "(I)I" } : Jvm.MethodName)) ∈ lw_all := lw_g (lw_at lw_m10 26 rfl) rfl
theorem q2306 : (Jvm.Cond.code ({ cls := "StrangerMarketModel", name := "days", desc := "(I)I" } : Jvm.MethodName) prog_26_method_65_code (2 : Nat) (Option.some Jvm.ClassFile.FieldType.int)) ∈ lw_all := lw_g (lw_at lw_m10 27 rfl) rfl
theorem q2307 : (Jvm.Cond.methodLink "StrangerMarketModel" (332 : Nat) ({ cls := "StrangerMarketModel", name := "goesOn", desc := "(I)I" } : Jvm.MethodName)) ∈ lw_all := lw_g (lw_at lw_m10 28 rfl) rfl
theorem q2308 : (Jvm.Cond.privateMethod ({ cls := "StrangerMarketModel", name := "goesOn", desc := "(I)I" } : Jvm.MethodName)) ∈ lw_tbl := lw_at lw_m10 29 rfl
theorem q2309 : (Jvm.Cond.instanceMethod ({ cls := "StrangerMarketModel", name := "goesOn", desc := "(I)I" } : Jvm.MethodName)) ∈ lw_all := lw_g (lw_at lw_m10 30 rfl) rfl
theorem q2310 : (Jvm.Cond.code ({ cls := "StrangerMarketModel", name := "goesOn", desc := "(I)I" } : Jvm.MethodName) prog_26_method_60_code (3 : Nat) (Option.some Jvm.ClassFile.FieldType.int)) ∈ lw_all := lw_g (lw_at lw_m10 31 rfl) rfl
theorem q2311 : (Jvm.Cond.methodLink "StrangerMarketModel" (303 : Nat) ({ cls := "StrangerMarketModel", name := "day", desc := "()V" } : Jvm.MethodName)) ∈ lw_all := lw_g (lw_at lw_m10 32 rfl) rfl
theorem q2312 : (Jvm.Cond.privateMethod ({ cls := "StrangerMarketModel", name := "day", desc := "()V" } : Jvm.MethodName)) ∈ lw_tbl := lw_at lw_m10 33 rfl
theorem q2313 : (Jvm.Cond.instanceMethod ({ cls := "StrangerMarketModel", name := "day", desc := "()V" } : Jvm.MethodName)) ∈ lw_all := lw_g (lw_at lw_m10 34 rfl) rfl
theorem q2314 : (Jvm.Cond.code ({ cls := "StrangerMarketModel", name := "day", desc := "()V" } : Jvm.MethodName) prog_26_method_59_code (2 : Nat) (Option.none : Option Jvm.ClassFile.FieldType)) ∈ lw_all := lw_g (lw_at lw_m10 35 rfl) rfl
theorem q2315 : (Jvm.Cond.methodLink "StrangerMarketModel" (300 : Nat) ({ cls := "StrangerMarketModel", name := "lesser", desc := "(II)I" } : Jvm.MethodName)) ∈ lw_all := lw_g (lw_at lw_m10 36 rfl) rfl
theorem q2316 : (Jvm.Cond.static ({ cls := "StrangerMarketModel", name := "lesser", desc := "(II)I" } : Jvm.MethodName)) ∈ lw_all := lw_g (lw_at lw_m10 37 rfl) rfl
theorem q2317 : (Jvm.Cond.code ({ cls := "StrangerMarketModel", name := "lesser", desc := "(II)I" } : Jvm.MethodName) prog_26_method_9_code (2 : Nat) (Option.some Jvm.ClassFile.FieldType.int)) ∈ lw_all := lw_g (lw_at lw_m10 38 rfl) rfl
theorem q2319 : (Jvm.Cond.instanceMethod ({ cls := "StrangerMarketModel", name := "undo", desc := "()I" } : Jvm.MethodName)) ∈ lw_all := lw_g (lw_at lw_m10 40 rfl) rfl
theorem q2320 : (Jvm.Cond.selects "StrangerMarketModel" ({ cls := "StrangerMarketModel", name := "undo", desc := "()I" } : Jvm.MethodName) ({ cls := "StrangerMarketModel", name := "undo", desc := "()I" } : Jvm.MethodName)) ∈ lw_all := lw_g (lw_at lw_m10 41 rfl) rfl
theorem q2321 : (Jvm.Cond.code ({ cls := "StrangerMarketModel", name := "undo", desc := "()I" } : Jvm.MethodName) prog_26_method_67_code (2 : Nat) (Option.some Jvm.ClassFile.FieldType.int)) ∈ lw_all := lw_g (lw_at lw_m10 42 rfl) rfl
theorem q2323 : (Jvm.Cond.instanceMethod ({ cls := "StrangerMarketModel", name := "most", desc := "(I)I" } : Jvm.MethodName)) ∈ lw_all := lw_g (lw_at lw_m10 44 rfl) rfl
theorem q2324 : (Jvm.Cond.selects "StrangerMarketModel" ({ cls := "StrangerMarketModel", name := "most", desc := "(I)I" } : Jvm.MethodName) ({ cls := "StrangerMarketModel", name := "most", desc := "(I)I" } : Jvm.MethodName)) ∈ lw_all := lw_g (lw_at lw_m10 45 rfl) rfl
theorem q2325 : (Jvm.Cond.code ({ cls := "StrangerMarketModel", name := "most", desc := "(I)I" } : Jvm.MethodName) prog_26_method_72_code (5 : Nat) (Option.some Jvm.ClassFile.FieldType.int)) ∈ lw_all := lw_g (lw_at lw_m10 46 rfl) rfl
theorem q2326 : (Jvm.Cond.methodLink "StrangerMarketModel" (339 : Nat) ({ cls := "StrangerMarketModel", name := "dealsLeft", desc := "(II)I" } : Jvm.MethodName)) ∈ lw_all := lw_g (lw_at lw_m10 47 rfl) rfl
theorem q2327 : (Jvm.Cond.privateMethod ({ cls := "StrangerMarketModel", name := "dealsLeft", desc := "(II)I" } : Jvm.MethodName)) ∈ lw_tbl := lw_at lw_m10 48 rfl
theorem q2328 : (Jvm.Cond.instanceMethod ({ cls := "StrangerMarketModel", name := "dealsLeft", desc := "(II)I" } : Jvm.MethodName)) ∈ lw_all := lw_g (lw_at lw_m10 49 rfl) rfl
theorem q2329 : (Jvm.Cond.code ({ cls := "StrangerMarketModel", name := "dealsLeft", desc := "(II)I" } : Jvm.MethodName) prog_26_method_71_code (3 : Nat) (Option.some Jvm.ClassFile.FieldType.int)) ∈ lw_all := lw_g (lw_at lw_m10 50 rfl) rfl
theorem q2330 : (Jvm.Cond.constant "StrangerMarketModel" (335 : Nat) (1000000 : Int32)) ∈ lw_all := lw_g (lw_at lw_m10 51 rfl) rfl
theorem q2331 : (Jvm.Cond.methodLink "StrangerMarketModel" (336 : Nat) ({ cls := "StrangerMarketModel", name := "greater", desc := "(II)I" } : Jvm.MethodName)) ∈ lw_all := lw_g (lw_at lw_m10 52 rfl) rfl
theorem q2332 : (Jvm.Cond.static ({ cls := "StrangerMarketModel", name := "greater", desc := "(II)I" } : Jvm.MethodName)) ∈ lw_all := lw_g (lw_at lw_m10 53 rfl) rfl
theorem q2333 : (Jvm.Cond.code ({ cls := "StrangerMarketModel", name := "greater", desc := "(II)I" } : Jvm.MethodName) prog_26_method_10_code (2 : Nat) (Option.some Jvm.ClassFile.FieldType.int)) ∈ lw_all := lw_g (lw_at lw_m10 54 rfl) rfl
theorem q2334 : (Jvm.Cond.methodLink "StrangerMarketModel" (342 : Nat) ({ cls := "StrangerMarketModel", name := "finds", desc := "()Z" } : Jvm.MethodName)) ∈ lw_all := lw_g (lw_at lw_m10 55 rfl) rfl
theorem q2335 : (Jvm.Cond.privateMethod ({ cls := "StrangerMarketModel", name := "finds", desc := "()Z" } : Jvm.MethodName)) ∈ lw_tbl := lw_at lw_m10 56 rfl
theorem q2336 : (Jvm.Cond.instanceMethod ({ cls := "StrangerMarketModel", name := "finds", desc := "()Z" } : Jvm.MethodName)) ∈ lw_all := lw_g (lw_at lw_m10 57 rfl) rfl
theorem q2337 : (Jvm.Cond.code ({ cls := "StrangerMarketModel", name := "finds", desc := "()Z" } : Jvm.MethodName) prog_26_method_70_code (4 : Nat) (Option.some Jvm.ClassFile.FieldType.boolean)) ∈ lw_all := lw_g (lw_at lw_m10 58 rfl) rfl
theorem q2339 : (Jvm.Cond.instanceMethod ({ cls := "StrangerMarketModel", name := "who", desc := "()I" } : Jvm.MethodName)) ∈ lw_all := lw_g (lw_at lw_m10 60 rfl) rfl
theorem q2340 : (Jvm.Cond.selects "StrangerMarketModel" ({ cls := "StrangerMarketModel", name := "who", desc := "()I" } : Jvm.MethodName) ({ cls := "StrangerMarketModel", name := "who", desc := "()I" } : Jvm.MethodName)) ∈ lw_all := lw_g (lw_at lw_m10 61 rfl) rfl
theorem q2341 : (Jvm.Cond.code ({ cls := "StrangerMarketModel", name := "who", desc := "()I" } : Jvm.MethodName) prog_26_method_74_code (6 : Nat) (Option.some Jvm.ClassFile.FieldType.int)) ∈ lw_all := lw_g (lw_at lw_m10 62 rfl) rfl
theorem q2342 : (Jvm.Cond.methodLink "StrangerMarketModel" (345 : Nat) ({ cls := "StrangerMarketModel", name := "octet", desc := "(I)I" } : Jvm.MethodName)) ∈ lw_all := lw_g (lw_at lw_m10 63 rfl) rfl
theorem q2343 : (Jvm.Cond.privateMethod ({ cls := "StrangerMarketModel", name := "octet", desc := "(I)I" } : Jvm.MethodName)) ∈ lw_tbl := lw_at lw_m10 64 rfl
theorem q2344 : (Jvm.Cond.instanceMethod ({ cls := "StrangerMarketModel", name := "octet", desc := "(I)I" } : Jvm.MethodName)) ∈ lw_all := lw_g (lw_at lw_m10 65 rfl) rfl
theorem q2345 : (Jvm.Cond.code ({ cls := "StrangerMarketModel", name := "octet", desc := "(I)I" } : Jvm.MethodName) prog_26_method_12_code (2 : Nat) (Option.some Jvm.ClassFile.FieldType.int)) ∈ lw_all := lw_g (lw_at lw_m10 66 rfl) rfl
theorem q2346 : (Jvm.Cond.methodLink "StrangerMarketModel" (348 : Nat) ({ cls := "StrangerMarketModel", name := "isMask", desc := "(I)Z" } : Jvm.MethodName)) ∈ lw_all := lw_g (lw_at lw_m10 67 rfl) rfl
theorem q2347 : (Jvm.Cond.privateMethod ({ cls := "StrangerMarketModel", name := "isMask", desc := "(I)Z" } : Jvm.MethodName)) ∈ lw_tbl := lw_at lw_m10 68 rfl
theorem q2348 : (Jvm.Cond.instanceMethod ({ cls := "StrangerMarketModel", name := "isMask", desc := "(I)Z" } : Jvm.MethodName)) ∈ lw_all := lw_g (lw_at lw_m10 69 rfl) rfl
theorem q2349 : (Jvm.Cond.code ({ cls := "StrangerMarketModel", name := "isMask", desc := "(I)Z" } : Jvm.MethodName) prog_26_method_73_code (4 : Nat) (Option.some Jvm.ClassFile.FieldType.boolean)) ∈ lw_all := lw_g (lw_at lw_m10 70 rfl) rfl
theorem q2351 : (Jvm.Cond.instanceMethod ({ cls := "StrangerMarketModel", name := "ask", desc := "()I" } : Jvm.MethodName)) ∈ lw_all := lw_g (lw_at lw_m10 72 rfl) rfl
theorem q2352 : (Jvm.Cond.selects "StrangerMarketModel" ({ cls := "StrangerMarketModel", name := "ask", desc := "()I" } : Jvm.MethodName) ({ cls := "StrangerMarketModel", name := "ask", desc := "()I" } : Jvm.MethodName)) ∈ lw_all := lw_g (lw_at lw_m10 73 rfl) rfl
theorem q2353 : (Jvm.Cond.code ({ cls := "StrangerMarketModel", name := "ask", desc := "()I" } : Jvm.MethodName) prog_26_method_75_code (1 : Nat) (Option.some Jvm.ClassFile.FieldType.int)) ∈ lw_all := lw_g (lw_at lw_m10 74 rfl) rfl
theorem q2355 : (Jvm.Cond.instanceMethod ({ cls := "StrangerMarketModel", name := "serve", desc := "(I)I" } : Jvm.MethodName)) ∈ lw_all := lw_g (lw_at lw_m10 76 rfl) rfl
theorem q2356 : (Jvm.Cond.selects "StrangerMarketModel" ({ cls := "StrangerMarketModel", name := "serve", desc := "(I)I" } : Jvm.MethodName) ({ cls := "StrangerMarketModel", name := "serve", desc := "(I)I" } : Jvm.MethodName)) ∈ lw_all := lw_g (lw_at lw_m10 77 rfl) rfl
theorem q2357 : (Jvm.Cond.code ({ cls := "StrangerMarketModel", name := "serve", desc := "(I)I" } : Jvm.MethodName) prog_26_method_77_code (5 : Nat) (Option.some Jvm.ClassFile.FieldType.int)) ∈ lw_all := lw_g (lw_at lw_m10 78 rfl) rfl
theorem q2358 : (Jvm.Cond.methodLink "StrangerMarketModel" (358 : Nat) ({ cls := "StrangerMarketModel", name := "isServed", desc := "(II)Z" } : Jvm.MethodName)) ∈ lw_all := lw_g (lw_at lw_m10 79 rfl) rfl
theorem q2359 : (Jvm.Cond.privateMethod ({ cls := "StrangerMarketModel", name := "isServed", desc := "(II)Z" } : Jvm.MethodName)) ∈ lw_tbl := lw_at lw_m10 80 rfl
theorem q2360 : (Jvm.Cond.instanceMethod ({ cls := "StrangerMarketModel", name := "isServed", desc := "(II)Z" } : Jvm.MethodName)) ∈ lw_all := lw_g (lw_at lw_m10 81 rfl) rfl
theorem q2361 : (Jvm.Cond.code ({ cls := "StrangerMarketModel", name := "isServed", desc := "(II)Z" } : Jvm.MethodName) prog_26_method_76_code (5 : Nat) (Option.some Jvm.ClassFile.FieldType.boolean)) ∈ lw_all := lw_g (lw_at lw_m10 82 rfl) rfl
theorem q2363 : (Jvm.Cond.instanceMethod ({ cls := "StrangerMarketModel", name := "serving", desc := "()I" } : Jvm.MethodName)) ∈ lw_all := lw_g (lw_at lw_m10 84 rfl) rfl
theorem q2364 : (Jvm.Cond.selects "StrangerMarketModel" ({ cls := "StrangerMarketModel", name := "serving", desc := "()I" } : Jvm.MethodName) ({ cls := "StrangerMarketModel", name := "serving", desc := "()I" } : Jvm.MethodName)) ∈ lw_all := lw_g (lw_at lw_m10 85 rfl) rfl
theorem q2365 : (Jvm.Cond.code ({ cls := "StrangerMarketModel", name := "serving", desc := "()I" } : Jvm.MethodName) prog_26_method_78_code (1 : Nat) (Option.some Jvm.ClassFile.FieldType.int)) ∈ lw_all := lw_g (lw_at lw_m10 86 rfl) rfl
theorem q2367 : (Jvm.Cond.instanceMethod ({ cls := "StrangerMarketModel", name := "chain", desc := "(II)I" } : Jvm.MethodName)) ∈ lw_all := lw_g (lw_at lw_m10 88 rfl) rfl
theorem q2368 : (Jvm.Cond.selects "StrangerMarketModel" ({ cls := "StrangerMarketModel", name := "chain", desc := "(II)I" } : Jvm.MethodName) ({ cls := "StrangerMarketModel", name := "chain", desc := "(II)I" } : Jvm.MethodName)) ∈ lw_all := lw_g (lw_at lw_m10 89 rfl) rfl
theorem q2369 : (Jvm.Cond.code ({ cls := "StrangerMarketModel", name := "chain", desc := "(II)I" } : Jvm.MethodName) prog_26_method_80_code (6 : Nat) (Option.some Jvm.ClassFile.FieldType.int)) ∈ lw_all := lw_g (lw_at lw_m10 90 rfl) rfl
theorem q2370 : (Jvm.Cond.methodLink "StrangerMarketModel" (367 : Nat) ({ cls := "StrangerMarketModel", name := "laysSteps", desc := "(I)V" } : Jvm.MethodName)) ∈ lw_all := lw_g (lw_at lw_m10 91 rfl) rfl
theorem q2371 : (Jvm.Cond.privateMethod ({ cls := "StrangerMarketModel", name := "laysSteps", desc := "(I)V" } : Jvm.MethodName)) ∈ lw_tbl := lw_at lw_m10 92 rfl
theorem q2372 : (Jvm.Cond.instanceMethod ({ cls := "StrangerMarketModel", name := "laysSteps", desc := "(I)V" } : Jvm.MethodName)) ∈ lw_all := lw_g (lw_at lw_m10 93 rfl) rfl
theorem q2373 : (Jvm.Cond.code ({ cls := "StrangerMarketModel", name := "laysSteps", desc := "(I)V" } : Jvm.MethodName) prog_26_method_79_code (6 : Nat) (Option.none : Option Jvm.ClassFile.FieldType)) ∈ lw_all := lw_g (lw_at lw_m10 94 rfl) rfl
theorem q2375 : (Jvm.Cond.instanceMethod ({ cls := "StrangerMarketModel", name := "chainAt", desc := "(I)I" } : Jvm.MethodName)) ∈ lw_all := lw_g (lw_at lw_m10 96 rfl) rfl
theorem q2376 : (Jvm.Cond.selects "StrangerMarketModel" ({ cls := "StrangerMarketModel", name := "chainAt", desc := "(I)I" } : Jvm.MethodName) ({ cls := "StrangerMarketModel", name := "chainAt", desc := "(I)I" } : Jvm.MethodName)) ∈ lw_all := lw_g (lw_at lw_m10 97 rfl) rfl
theorem q2377 : (Jvm.Cond.code ({ cls := "StrangerMarketModel", name := "chainAt", desc := "(I)I" } : Jvm.MethodName) prog_26_method_81_code (2 : Nat) (Option.some Jvm.ClassFile.FieldType.int)) ∈ lw_all := lw_g (lw_at lw_m10 98 rfl) rfl
theorem q2379 : (Jvm.Cond.instanceMethod ({ cls := "StrangerMarketModel", name := "out", desc := "(I)I" } : Jvm.MethodName)) ∈ lw_all := lw_g (lw_at lw_m10 100 rfl) rfl
theorem q2380 : (Jvm.Cond.selects "StrangerMarketModel" ({ cls := "StrangerMarketModel", name := "out", desc := "(I)I" } : Jvm.MethodName) ({ cls := "StrangerMarketModel", name := "out", desc := "(I)I" } : Jvm.MethodName)) ∈ lw_all := lw_g (lw_at lw_m10 101 rfl) rfl
theorem q2381 : (Jvm.Cond.code ({ cls := "StrangerMarketModel", name := "out", desc := "(I)I" } : Jvm.MethodName) prog_26_method_83_code (6 : Nat) (Option.some Jvm.ClassFile.FieldType.int)) ∈ lw_all := lw_g (lw_at lw_m10 102 rfl) rfl
theorem q2382 : (Jvm.Cond.methodLink "StrangerMarketModel" (370 : Nat) ({ cls := "StrangerMarketModel", name := "tolds", desc := "(II)I" } : Jvm.MethodName)) ∈ lw_all := lw_g (lw_at lw_m10 103 rfl) rfl
theorem q2383 : (Jvm.Cond.privateMethod ({ cls := "StrangerMarketModel", name := "tolds", desc := "(II)I" } : Jvm.MethodName)) ∈ lw_tbl := lw_at lw_m10 104 rfl
theorem q2384 : (Jvm.Cond.instanceMethod ({ cls := "StrangerMarketModel", name := "tolds", desc := "(II)I" } : Jvm.MethodName)) ∈ lw_all := lw_g (lw_at lw_m10 105 rfl) rfl
theorem q2385 : (Jvm.Cond.code ({ cls := "StrangerMarketModel", name := "tolds", desc := "(II)I" } : Jvm.MethodName) prog_26_method_82_code (5 : Nat) (Option.some Jvm.ClassFile.FieldType.int)) ∈ lw_all := lw_g (lw_at lw_m10 106 rfl) rfl
theorem q2387 : (Jvm.Cond.instanceMethod ({ cls := "StrangerMarketModel", name := "apart", desc := "(II)I" } : Jvm.MethodName)) ∈ lw_all := lw_g (lw_at lw_m10 108 rfl) rfl
theorem q2388 : (Jvm.Cond.selects "StrangerMarketModel" ({ cls := "StrangerMarketModel", name := "apart", desc := "(II)I" } : Jvm.MethodName) ({ cls := "StrangerMarketModel", name := "apart", desc := "(II)I" } : Jvm.MethodName)) ∈ lw_all := lw_g (lw_at lw_m10 109 rfl) rfl
theorem q2389 : (Jvm.Cond.code ({ cls := "StrangerMarketModel", name := "apart", desc := "(II)I" } : Jvm.MethodName) prog_26_method_85_code (5 : Nat) (Option.some Jvm.ClassFile.FieldType.int)) ∈ lw_all := lw_g (lw_at lw_m10 110 rfl) rfl
theorem q2390 : (Jvm.Cond.methodLink "StrangerMarketModel" (373 : Nat) ({ cls := "StrangerMarketModel", name := "areApart", desc := "(III)Z" } : Jvm.MethodName)) ∈ lw_all := lw_g (lw_at lw_m10 111 rfl) rfl
theorem q2391 : (Jvm.Cond.privateMethod ({ cls := "StrangerMarketModel", name := "areApart", desc := "(III)Z" } : Jvm.MethodName)) ∈ lw_tbl := lw_at lw_m10 112 rfl
theorem q2392 : (Jvm.Cond.instanceMethod ({ cls := "StrangerMarketModel", name := "areApart", desc := "(III)Z" } : Jvm.MethodName)) ∈ lw_all := lw_g (lw_at lw_m10 113 rfl) rfl
theorem q2393 : (Jvm.Cond.code ({ cls := "StrangerMarketModel", name := "areApart", desc := "(III)Z" } : Jvm.MethodName) prog_26_method_84_code (6 : Nat) (Option.some Jvm.ClassFile.FieldType.boolean)) ∈ lw_all := lw_g (lw_at lw_m10 114 rfl) rfl
theorem q2395 : (Jvm.Cond.instanceMethod ({ cls := "StrangerMarketModel", name := "parting", desc := "()I" } : Jvm.MethodName)) ∈ lw_all := lw_g (lw_at lw_m10 116 rfl) rfl
theorem q2396 : (Jvm.Cond.selects "StrangerMarketModel" ({ cls := "StrangerMarketModel", name := "parting", desc := "()I" } : Jvm.MethodName) ({ cls := "StrangerMarketModel", name := "parting", desc := "()I" } : Jvm.MethodName)) ∈ lw_all := lw_g (lw_at lw_m10 117 rfl) rfl
theorem q2397 : (Jvm.Cond.code ({ cls := "StrangerMarketModel", name := "parting", desc := "()I" } : Jvm.MethodName) prog_26_method_86_code (1 : Nat) (Option.some Jvm.ClassFile.FieldType.int)) ∈ lw_all := lw_g (lw_at lw_m10 118 rfl) rfl
theorem q2399 : (Jvm.Cond.instanceMethod ({ cls := "StrangerMarketModel", name := "recluse", desc := "()I" } : Jvm.MethodName)) ∈ lw_all := lw_g (lw_at lw_m10 120 rfl) rfl
theorem q2400 : (Jvm.Cond.selects "StrangerMarketModel" ({ cls := "StrangerMarketModel", name := "recluse", desc := "()I" } : Jvm.MethodName) ({ cls := "StrangerMarketModel", name := "recluse", desc := "()I" } : Jvm.MethodName)) ∈ lw_all := lw_g (lw_at lw_m10 121 rfl) rfl
theorem q2401 : (Jvm.Cond.code ({ cls := "StrangerMarketModel", name := "recluse", desc := "()I" } : Jvm.MethodName) prog_26_method_87_code (3 : Nat) (Option.some Jvm.ClassFile.FieldType.int)) ∈ lw_all := lw_g (lw_at lw_m10 122 rfl) rfl
theorem q2403 : (Jvm.Cond.instanceMethod ({ cls := "StrangerMarketModel", name := "face", desc := "(I)I" } : Jvm.MethodName)) ∈ lw_all := lw_g (lw_at lw_m10 124 rfl) rfl
theorem q2404 : (Jvm.Cond.selects "StrangerMarketModel" ({ cls := "StrangerMarketModel", name := "face", desc := "(I)I" } : Jvm.MethodName) ({ cls := "StrangerMarketModel", name := "face", desc := "(I)I" } : Jvm.MethodName)) ∈ lw_all := lw_g (lw_at lw_m10 125 rfl) rfl
theorem q2405 : (Jvm.Cond.code ({ cls := "StrangerMarketModel", name := "face", desc := "(I)I" } : Jvm.MethodName) prog_26_method_91_code (3 : Nat) (Option.some Jvm.ClassFile.FieldType.int)) ∈ lw_all := lw_g (lw_at lw_m10 126 rfl) rfl
theorem q2406 : (Jvm.Cond.methodLink "StrangerMarketModel" (390 : Nat) ({ cls := "StrangerMarketModel", name := "spells", desc := "(J)V" } : Jvm.MethodName)) ∈ lw_all := lw_g (lw_at lw_m10 127 rfl) rfl
theorem q2407 : (Jvm.Cond.privateMethod ({ cls := "StrangerMarketModel", name := "spells", desc := "(J)V" } : Jvm.MethodName)) ∈ lw_tbl := lw_at lw_m10 128 rfl
theorem q2408 : (Jvm.Cond.instanceMethod ({ cls := "StrangerMarketModel", name := "spells", desc := "(J)V" } : Jvm.MethodName)) ∈ lw_all := lw_g (lw_at lw_m10 129 rfl) rfl
theorem q2409 : (Jvm.Cond.code ({ cls := "StrangerMarketModel", name := "spells", desc := "(J)V" } : Jvm.MethodName) prog_26_method_89_code (4 : Nat) (Option.none : Option Jvm.ClassFile.FieldType)) ∈ lw_all := lw_g (lw_at lw_m10 130 rfl) rfl
theorem q2410 : (Jvm.Cond.constantLong "StrangerMarketModel" (385 : Nat) (255 : Int64)) ∈ lw_all := lw_g (lw_at lw_m10 131 rfl) rfl
theorem q2411 : (Jvm.Cond.methodLink "StrangerMarketModel" (387 : Nat) ({ cls := "StrangerMarketModel", name := "lays", desc := "(I)V" } : Jvm.MethodName)) ∈ lw_all := lw_g (lw_at lw_m10 132 rfl) rfl
theorem q2412 : (Jvm.Cond.privateMethod ({ cls := "StrangerMarketModel", name := "lays", desc := "(I)V" } : Jvm.MethodName)) ∈ lw_tbl := lw_at lw_m10 133 rfl
theorem q2413 : (Jvm.Cond.instanceMethod ({ cls := "StrangerMarketModel", name := "lays", desc := "(I)V" } : Jvm.MethodName)) ∈ lw_all := lw_g (lw_at lw_m10 134 rfl) rfl
theorem q2414 : (Jvm.Cond.code ({ cls := "StrangerMarketModel", name := "lays", desc := "(I)V" } : Jvm.MethodName) prog_26_method_88_code (2 : Nat) (Option.none : Option Jvm.ClassFile.FieldType)) ∈ lw_all := lw_g (lw_at lw_m10 135 rfl) rfl
theorem q2415 : (Jvm.Cond.methodLink "StrangerMarketModel" (394 : Nat) ({ cls := "StrangerMarketModel", name := "says", desc := "(J)V" } : Jvm.MethodName)) ∈ lw_all := lw_g (lw_at lw_m10 136 rfl) rfl
theorem q2416 : (Jvm.Cond.privateMethod ({ cls := "StrangerMarketModel", name := "says", desc := "(J)V" } : Jvm.MethodName)) ∈ lw_tbl := lw_at lw_m10 137 rfl
theorem q2417 : (Jvm.Cond.instanceMethod ({ cls := "StrangerMarketModel", name := "says", desc := "(J)V" } : Jvm.MethodName)) ∈ lw_all := lw_g (lw_at lw_m10 138 rfl) rfl
theorem q2418 : (Jvm.Cond.code ({ cls := "StrangerMarketModel", name := "says", desc := "(J)V" } : Jvm.MethodName) prog_26_method_90_code (3 : Nat) (Option.none : Option Jvm.ClassFile.FieldType)) ∈ lw_all := lw_g (lw_at lw_m10 139 rfl) rfl
theorem q2419 : (Jvm.Cond.constantLong "StrangerMarketModel" (397 : Nat) (121424671892601 : Int64)) ∈ lw_all := lw_g (lw_at lw_m10 140 rfl) rfl
theorem q2421 : (Jvm.Cond.instanceMethod ({ cls := "StrangerMarketModel", name := "byteAt", desc := "(I)I" } : Jvm.MethodName)) ∈ lw_all := lw_g (lw_at lw_m10 142 rfl) rfl
theorem q2422 : (Jvm.Cond.selects "StrangerMarketModel" ({ cls := "StrangerMarketModel", name := "byteAt", desc := "(I)I" } : Jvm.MethodName) ({ cls := "StrangerMarketModel", name := "byteAt", desc := "(I)I" } : Jvm.MethodName)) ∈ lw_all := lw_g (lw_at lw_m10 143 rfl) rfl
theorem q2423 : (Jvm.Cond.code ({ cls := "StrangerMarketModel", name := "byteAt", desc := "(I)I" } : Jvm.MethodName) prog_26_method_92_code (2 : Nat) (Option.some Jvm.ClassFile.FieldType.int)) ∈ lw_all := lw_g (lw_at lw_m10 144 rfl) rfl
theorem q2425 : (Jvm.Cond.instanceMethod ({ cls := "StrangerMarketModel", name := "drawn", desc := "(II)I" } : Jvm.MethodName)) ∈ lw_all := lw_g (lw_at lw_m10 146 rfl) rfl
theorem q2426 : (Jvm.Cond.selects "StrangerMarketModel" ({ cls := "StrangerMarketModel", name := "drawn", desc := "(II)I" } : Jvm.MethodName) ({ cls := "StrangerMarketModel", name := "drawn", desc := "(II)I" } : Jvm.MethodName)) ∈ lw_all := lw_g (lw_at lw_m10 147 rfl) rfl
theorem q2427 : (Jvm.Cond.code ({ cls := "StrangerMarketModel", name := "drawn", desc := "(II)I" } : Jvm.MethodName) prog_26_method_96_code (3 : Nat) (Option.some Jvm.ClassFile.FieldType.int)) ∈ lw_all := lw_g (lw_at lw_m10 148 rfl) rfl
theorem q2428 : (Jvm.Cond.methodLink "StrangerMarketModel" (409 : Nat) ({ cls := "StrangerMarketModel", name := "draws", desc := "(II)I" } : Jvm.MethodName)) ∈ lw_all := lw_g (lw_at lw_m10 149 rfl) rfl
theorem q2429 : (Jvm.Cond.privateMethod ({ cls := "StrangerMarketModel", name := "draws", desc := "(II)I" } : Jvm.MethodName)) ∈ lw_tbl := lw_at lw_m10 150 rfl
theorem q2430 : (Jvm.Cond.instanceMethod ({ cls := "StrangerMarketModel", name := "draws", desc := "(II)I" } : Jvm.MethodName)) ∈ lw_all := lw_g (lw_at lw_m10 151 rfl) rfl
theorem q2431 : (Jvm.Cond.code ({ cls := "StrangerMarketModel", name := "draws", desc := "(II)I" } : Jvm.MethodName) prog_26_method_95_code (5 : Nat) (Option.some Jvm.ClassFile.FieldType.int)) ∈ lw_all := lw_g (lw_at lw_m10 152 rfl) rfl
theorem q2432 : (Jvm.Cond.methodLink "StrangerMarketModel" (406 : Nat) ({ cls := "StrangerMarketModel", name := "drawPerson", desc := "(I)V" } : Jvm.MethodName)) ∈ lw_all := lw_g (lw_at lw_m10 153 rfl) rfl
theorem q2433 : (Jvm.Cond.privateMethod ({ cls := "StrangerMarketModel", name := "drawPerson", desc := "(I)V" } : Jvm.MethodName)) ∈ lw_tbl := lw_at lw_m10 154 rfl
theorem q2434 : (Jvm.Cond.instanceMethod ({ cls := "StrangerMarketModel", name := "drawPerson", desc := "(I)V" } : Jvm.MethodName)) ∈ lw_all := lw_g (lw_at lw_m10 155 rfl) rfl
theorem q2435 : (Jvm.Cond.code ({ cls := "StrangerMarketModel", name := "drawPerson", desc := "(I)V" } : Jvm.MethodName) prog_26_method_94_code (5 : Nat) (Option.none : Option Jvm.ClassFile.FieldType)) ∈ lw_all := lw_g (lw_at lw_m10 156 rfl) rfl
theorem q2436 : (Jvm.Cond.methodLink "StrangerMarketModel" (403 : Nat) ({ cls := "StrangerMarketModel", name := "draw", desc := "(I)I" } : Jvm.MethodName)) ∈ lw_all := lw_g (lw_at lw_m10 157 rfl) rfl
theorem q2437 : (Jvm.Cond.privateMethod ({ cls := "StrangerMarketModel", name := "draw", desc := "(I)I" } : Jvm.MethodName)) ∈ lw_tbl := lw_at lw_m10 158 rfl
theorem q2438 : (Jvm.Cond.instanceMethod ({ cls := "StrangerMarketModel", name := "draw", desc := "(I)I" } : Jvm.MethodName)) ∈ lw_all := lw_g (lw_at lw_m10 159 rfl) rfl
theorem q2439 : (Jvm.Cond.code ({ cls := "StrangerMarketModel", name := "draw", desc := "(I)I" } : Jvm.MethodName) prog_26_method_93_code (2 : Nat) (Option.some Jvm.ClassFile.FieldType.int)) ∈ lw_all := lw_g (lw_at lw_m10 160 rfl) rfl
theorem q2440 : (Jvm.Cond.constant "StrangerMarketModel" (402 : Nat) (1103515245 : Int32)) ∈ lw_all := lw_g (lw_at lw_m10 161 rfl) rfl
theorem q2442 : (Jvm.Cond.instanceMethod ({ cls := "StrangerMarketModel", name := "odds", desc := "(III)I" } : Jvm.MethodName)) ∈ lw_all := lw_g (lw_at lw_m10 163 rfl) rfl
theorem q2443 : (Jvm.Cond.selects "StrangerMarketModel" ({ cls := "StrangerMarketModel", name := "odds", desc := "(III)I" } : Jvm.MethodName) ({ cls := "StrangerMarketModel", name := "odds", desc := "(III)I" } : Jvm.MethodName)) ∈ lw_all := lw_g (lw_at lw_m10 164 rfl) rfl
theorem q2444 : (Jvm.Cond.code ({ cls := "StrangerMarketModel", name := "odds", desc := "(III)I" } : Jvm.MethodName) prog_26_method_97_code (7 : Nat) (Option.some Jvm.ClassFile.FieldType.int)) ∈ lw_all := lw_g (lw_at lw_m10 165 rfl) rfl
theorem q2445 : (Jvm.Cond.methodLink "StrangerMarketModel" (412 : Nat) ({ cls := "StrangerMarketModel", name := "tries", desc := "()V" } : Jvm.MethodName)) ∈ lw_all := lw_g (lw_at lw_m10 166 rfl) rfl
theorem q2446 : (Jvm.Cond.privateMethod ({ cls := "StrangerMarketModel", name := "tries", desc := "()V" } : Jvm.MethodName)) ∈ lw_tbl := lw_at lw_m10 167 rfl
theorem q2447 : (Jvm.Cond.instanceMethod ({ cls := "StrangerMarketModel", name := "tries", desc := "()V" } : Jvm.MethodName)) ∈ lw_all := lw_g (lw_at lw_m10 168 rfl) rfl
theorem q2448 : (Jvm.Cond.code ({ cls := "StrangerMarketModel", name := "tries", desc := "()V" } : Jvm.MethodName) prog_26_method_68_code (2 : Nat) (Option.none : Option Jvm.ClassFile.FieldType)) ∈ lw_all := lw_g (lw_at lw_m10 169 rfl) rfl
theorem q2449 : (Jvm.Cond.methodLink "StrangerMarketModel" (415 : Nat) ({ cls := "StrangerMarketModel", name := "back", desc := "()V" } : Jvm.MethodName)) ∈ lw_all := lw_g (lw_at lw_m10 170 rfl) rfl
theorem q2450 : (Jvm.Cond.privateMethod ({ cls := "StrangerMarketModel", name := "back", desc := "()V" } : Jvm.MethodName)) ∈ lw_tbl := lw_at lw_m10 171 rfl
theorem q2451 : (Jvm.Cond.instanceMethod ({ cls := "StrangerMarketModel", name := "back", desc := "()V" } : Jvm.MethodName)) ∈ lw_all := lw_g (lw_at lw_m10 172 rfl) rfl
theorem q2452 : (Jvm.Cond.code ({ cls := "StrangerMarketModel", name := "back", desc := "()V" } : Jvm.MethodName) prog_26_method_69_code (2 : Nat) (Option.none : Option Jvm.ClassFile.FieldType)) ∈ lw_all := lw_g (lw_at lw_m10 173 rfl) rfl
theorem q2454 : (Jvm.Cond.instanceMethod ({ cls := "StrangerMarketModel", name := "book", desc := "(I)I" } : Jvm.MethodName)) ∈ lw_all := lw_g (lw_at lw_m10 175 rfl) rfl
theorem q2455 : (Jvm.Cond.selects "StrangerMarketModel" ({ cls := "StrangerMarketModel", name := "book", desc := "(I)I" } : Jvm.MethodName) ({ cls := "StrangerMarketModel", name := "book", desc := "(I)I" } : Jvm.MethodName)) ∈ lw_all := lw_g (lw_at lw_m10 176 rfl) rfl
theorem q2456 : (Jvm.Cond.code ({ cls := "StrangerMarketModel", name := "book", desc := "(I)I" } : Jvm.MethodName) prog_26_method_100_code (4 : Nat) (Option.some Jvm.ClassFile.FieldType.int)) ∈ lw_all := lw_g (lw_at lw_m10 177 rfl) rfl
theorem q2457 : (Jvm.Cond.methodLink "StrangerMarketModel" (421 : Nat) ({ cls := "StrangerMarketModel", name := "bookLine", desc := "()Z" } : Jvm.MethodName)) ∈ lw_all := lw_g (lw_at lw_m10 178 rfl) rfl
theorem q2458 : (Jvm.Cond.privateMethod ({ cls := "StrangerMarketModel", name := "bookLine", desc := "()Z" } : Jvm.MethodName)) ∈ lw_tbl := lw_at lw_m10 179 rfl
theorem q2459 : (Jvm.Cond.instanceMethod ({ cls := "StrangerMarketModel", name := "bookLine", desc := "()Z" } : Jvm.MethodName)) ∈ lw_all := lw_g (lw_at lw_m10 180 rfl) rfl
theorem q2460 : (Jvm.Cond.code ({ cls := "StrangerMarketModel", name := "bookLine", desc := "()Z" } : Jvm.MethodName) prog_26_method_98_code (6 : Nat) (Option.some Jvm.ClassFile.FieldType.boolean)) ∈ lw_all := lw_g (lw_at lw_m10 181 rfl) rfl
theorem q2461 : (Jvm.Cond.methodLink "StrangerMarketModel" (424 : Nat) ({ cls := "StrangerMarketModel", name := "does", desc := "(IIII)I" } : Jvm.MethodName)) ∈ lw_all := lw_g (lw_at lw_m10 182 rfl) rfl
theorem q2462 : (Jvm.Cond.privateMethod ({ cls := "StrangerMarketModel", name := "does", desc := "(IIII)I" } : Jvm.MethodName)) ∈ lw_tbl := lw_at lw_m10 183 rfl
theorem q2463 : (Jvm.Cond.instanceMethod ({ cls := "StrangerMarketModel", name := "does", desc := "(IIII)I" } : Jvm.MethodName)) ∈ lw_all := lw_g (lw_at lw_m10 184 rfl) rfl
theorem q2464 : (Jvm.Cond.code ({ cls := "StrangerMarketModel", name := "does", desc := "(IIII)I" } : Jvm.MethodName) prog_26_method_99_code (6 : Nat) (Option.some Jvm.ClassFile.FieldType.int)) ∈ lw_all := lw_g (lw_at lw_m10 185 rfl) rfl
theorem q2466 : (Jvm.Cond.instanceMethod ({ cls := "StrangerMarketModel", name := "told", desc := "(I)I" } : Jvm.MethodName)) ∈ lw_all := lw_g (lw_at lw_m10 187 rfl) rfl
theorem q2467 : (Jvm.Cond.selects "StrangerMarketModel" ({ cls := "StrangerMarketModel", name := "told", desc := "(I)I" } : Jvm.MethodName) ({ cls := "StrangerMarketModel", name := "told", desc := "(I)I" } : Jvm.MethodName)) ∈ lw_all := lw_g (lw_at lw_m10 188 rfl) rfl
theorem q2468 : (Jvm.Cond.code ({ cls := "StrangerMarketModel", name := "told", desc := "(I)I" } : Jvm.MethodName) prog_26_method_101_code (2 : Nat) (Option.some Jvm.ClassFile.FieldType.int)) ∈ lw_all := lw_g (lw_at lw_m10 189 rfl) rfl
theorem q2470 : (Jvm.Cond.instanceMethod ({ cls := "StrangerMarketModel", name := "sentence", desc := "()I" } : Jvm.MethodName)) ∈ lw_all := lw_g (lw_at lw_m10 191 rfl) rfl
theorem q2471 : (Jvm.Cond.selects "StrangerMarketModel" ({ cls := "StrangerMarketModel", name := "sentence", desc := "()I" } : Jvm.MethodName) ({ cls := "StrangerMarketModel", name := "sentence", desc := "()I" } : Jvm.MethodName)) ∈ lw_all := lw_g (lw_at lw_m10 192 rfl) rfl
theorem q2472 : (Jvm.Cond.code ({ cls := "StrangerMarketModel", name := "sentence", desc := "()I" } : Jvm.MethodName) prog_26_method_108_code (3 : Nat) (Option.some Jvm.ClassFile.FieldType.int)) ∈ lw_all := lw_g (lw_at lw_m10 193 rfl) rfl
theorem q2473 : (Jvm.Cond.methodLink "StrangerMarketModel" (452 : Nat) ({ cls := "StrangerMarketModel", name := "nots", desc := "()V" } : Jvm.MethodName)) ∈ lw_all := lw_g (lw_at lw_m10 194 rfl) rfl
theorem q2474 : (Jvm.Cond.privateMethod ({ cls := "StrangerMarketModel", name := "nots", desc := "()V" } : Jvm.MethodName)) ∈ lw_tbl := lw_at lw_m10 195 rfl
theorem q2475 : (Jvm.Cond.instanceMethod ({ cls := "StrangerMarketModel", name := "nots", desc := "()V" } : Jvm.MethodName)) ∈ lw_all := lw_g (lw_at lw_m10 196 rfl) rfl
theorem q2476 : (Jvm.Cond.code ({ cls := "StrangerMarketModel", name := "nots", desc := "()V" } : Jvm.MethodName) prog_26_method_104_code (1 : Nat) (Option.none : Option Jvm.ClassFile.FieldType)) ∈ lw_all := lw_g (lw_at lw_m10 197 rfl) rfl
theorem q2477 : (Jvm.Cond.methodLink "StrangerMarketModel" (437 : Nat) ({ cls := "StrangerMarketModel", name := "code", desc := "(III)V" } : Jvm.MethodName)) ∈ lw_all := lw_g (lw_at lw_m10 198 rfl) rfl
theorem q2478 : (Jvm.Cond.privateMethod ({ cls := "StrangerMarketModel", name := "code", desc := "(III)V" } : Jvm.MethodName)) ∈ lw_tbl := lw_at lw_m10 199 rfl
theorem q2479 : (Jvm.Cond.instanceMethod ({ cls := "StrangerMarketModel", name := "code", desc := "(III)V" } : Jvm.MethodName)) ∈ lw_all := lw_g (lw_at lw_m10 200 rfl) rfl
theorem q2480 : (Jvm.Cond.code ({ cls := "StrangerMarketModel", name := "code", desc := "(III)V" } : Jvm.MethodName) prog_26_method_102_code (4 : Nat) (Option.none : Option Jvm.ClassFile.FieldType)) ∈ lw_all := lw_g (lw_at lw_m10 201 rfl) rfl
theorem q2481 : (Jvm.Cond.methodLink "StrangerMarketModel" (455 : Nat) ({ cls := "StrangerMarketModel", name := "joins", desc := "(I)V" } : Jvm.MethodName)) ∈ lw_all := lw_g (lw_at lw_m10 202 rfl) rfl
theorem q2482 : (Jvm.Cond.privateMethod ({ cls := "StrangerMarketModel", name := "joins", desc := "(I)V" } : Jvm.MethodName)) ∈ lw_tbl := lw_at lw_m10 203 rfl
theorem q2483 : (Jvm.Cond.instanceMethod ({ cls := "StrangerMarketModel", name := "joins", desc := "(I)V" } : Jvm.MethodName)) ∈ lw_all := lw_g (lw_at lw_m10 204 rfl) rfl
theorem q2484 : (Jvm.Cond.code ({ cls := "StrangerMarketModel", name := "joins", desc := "(I)V" } : Jvm.MethodName) prog_26_method_103_code (2 : Nat) (Option.none : Option Jvm.ClassFile.FieldType)) ∈ lw_all := lw_g (lw_at lw_m10 205 rfl) rfl
theorem q2485 : (Jvm.Cond.methodLink "StrangerMarketModel" (458 : Nat) ({ cls := "StrangerMarketModel", name := "behind", desc := "()Z" } : Jvm.MethodName)) ∈ lw_all := lw_g (lw_at lw_m10 206 rfl) rfl
theorem q2486 : (Jvm.Cond.privateMethod ({ cls := "StrangerMarketModel", name := "behind", desc := "()Z" } : Jvm.MethodName)) ∈ lw_tbl := lw_at lw_m10 207 rfl
theorem q2487 : (Jvm.Cond.instanceMethod ({ cls := "StrangerMarketModel", name := "behind", desc := "()Z" } : Jvm.MethodName)) ∈ lw_all := lw_g (lw_at lw_m10 208 rfl) rfl
theorem q2488 : (Jvm.Cond.code ({ cls := "StrangerMarketModel", name := "behind", desc := "()Z" } : Jvm.MethodName) prog_26_method_107_code (1 : Nat) (Option.some Jvm.ClassFile.FieldType.boolean)) ∈ lw_all := lw_g (lw_at lw_m10 209 rfl) rfl
theorem q2489 : (Jvm.Cond.methodLink "StrangerMarketModel" (461 : Nat) ({ cls := "StrangerMarketModel", name := "operand", desc := "()Z" } : Jvm.MethodName)) ∈ lw_all := lw_g (lw_at lw_m10 210 rfl) rfl
theorem q2490 : (Jvm.Cond.privateMethod ({ cls := "StrangerMarketModel", name := "operand", desc := "()Z" } : Jvm.MethodName)) ∈ lw_tbl := lw_at lw_m10 211 rfl
theorem q2491 : (Jvm.Cond.instanceMethod ({ cls := "StrangerMarketModel", name := "operand", desc := "()Z" } : Jvm.MethodName)) ∈ lw_all := lw_g (lw_at lw_m10 212 rfl) rfl
theorem q2492 : (Jvm.Cond.code ({ cls := "StrangerMarketModel", name := "operand", desc := "()Z" } : Jvm.MethodName) prog_26_method_106_code (5 : Nat) (Option.some Jvm.ClassFile.FieldType.boolean)) ∈ lw_all := lw_g (lw_at lw_m10 213 rfl) rfl
theorem q2493 : (Jvm.Cond.methodLink "StrangerMarketModel" (443 : Nat) ({ cls := "StrangerMarketModel", name := "leafOf", desc := "()I" } : Jvm.MethodName)) ∈ lw_all := lw_g (lw_at lw_m10 214 rfl) rfl
theorem q2494 : (Jvm.Cond.privateMethod ({ cls := "StrangerMarketModel", name := "leafOf", desc := "()I" } : Jvm.MethodName)) ∈ lw_tbl := lw_at lw_m10 215 rfl
theorem q2495 : (Jvm.Cond.instanceMethod ({ cls := "StrangerMarketModel", name := "leafOf", desc := "()I" } : Jvm.MethodName)) ∈ lw_all := lw_g (lw_at lw_m10 216 rfl) rfl
theorem q2496 : (Jvm.Cond.code ({ cls := "StrangerMarketModel", name := "leafOf", desc := "()I" } : Jvm.MethodName) prog_26_method_105_code (1 : Nat) (Option.some Jvm.ClassFile.FieldType.int)) ∈ lw_all := lw_g (lw_at lw_m10 217 rfl) rfl
theorem q2498 : (Jvm.Cond.instanceMethod ({ cls := "StrangerMarketModel", name := "said", desc := "(I)I" } : Jvm.MethodName)) ∈ lw_all := lw_g (lw_at lw_m10 219 rfl) rfl
theorem q2499 : (Jvm.Cond.selects "StrangerMarketModel" ({ cls := "StrangerMarketModel", name := "said", desc := "(I)I" } : Jvm.MethodName) ({ cls := "StrangerMarketModel", name := "said", desc := "(I)I" } : Jvm.MethodName)) ∈ lw_all := lw_g (lw_at lw_m10 220 rfl) rfl
theorem q2500 : (Jvm.Cond.code ({ cls := "StrangerMarketModel", name := "said", desc := "(I)I" } : Jvm.MethodName) prog_26_method_112_code (4 : Nat) (Option.some Jvm.ClassFile.FieldType.int)) ∈ lw_all := lw_g (lw_at lw_m10 221 rfl) rfl
theorem q2501 : (Jvm.Cond.methodLink "StrangerMarketModel" (470 : Nat) ({ cls := "StrangerMarketModel", name := "isSaid", desc := "(I)Z" } : Jvm.MethodName)) ∈ lw_all := lw_g (lw_at lw_m10 222 rfl) rfl
theorem q2502 : (Jvm.Cond.privateMethod ({ cls := "StrangerMarketModel", name := "isSaid", desc := "(I)Z" } : Jvm.MethodName)) ∈ lw_tbl := lw_at lw_m10 223 rfl
theorem q2503 : (Jvm.Cond.instanceMethod ({ cls := "StrangerMarketModel", name := "isSaid", desc := "(I)Z" } : Jvm.MethodName)) ∈ lw_all := lw_g (lw_at lw_m10 224 rfl) rfl
theorem q2504 : (Jvm.Cond.code ({ cls := "StrangerMarketModel", name := "isSaid", desc := "(I)Z" } : Jvm.MethodName) prog_26_method_111_code (5 : Nat) (Option.some Jvm.ClassFile.FieldType.boolean)) ∈ lw_all := lw_g (lw_at lw_m10 225 rfl) rfl
theorem q2505 : (Jvm.Cond.methodLink "StrangerMarketModel" (467 : Nat) ({ cls := "StrangerMarketModel", name := "isLeaf", desc := "(IIII)Z" } : Jvm.MethodName)) ∈ lw_all := lw_g (lw_at lw_m10 226 rfl) rfl
theorem q2506 : (Jvm.Cond.privateMethod ({ cls := "StrangerMarketModel", name := "isLeaf", desc := "(IIII)Z" } : Jvm.MethodName)) ∈ lw_tbl := lw_at lw_m10 227 rfl
theorem q2507 : (Jvm.Cond.instanceMethod ({ cls := "StrangerMarketModel", name := "isLeaf", desc := "(IIII)Z" } : Jvm.MethodName)) ∈ lw_all := lw_g (lw_at lw_m10 228 rfl) rfl
theorem q2508 : (Jvm.Cond.code ({ cls := "StrangerMarketModel", name := "isLeaf", desc := "(IIII)Z" } : Jvm.MethodName) prog_26_method_110_code (6 : Nat) (Option.some Jvm.ClassFile.FieldType.boolean)) ∈ lw_all := lw_g (lw_at lw_m10 229 rfl) rfl
theorem q2509 : (Jvm.Cond.methodLink "StrangerMarketModel" (464 : Nat) ({ cls := "StrangerMarketModel", name := "isSold", desc := "(I)Z" } : Jvm.MethodName)) ∈ lw_all := lw_g (lw_at lw_m10 230 rfl) rfl
theorem q2510 : (Jvm.Cond.privateMethod ({ cls := "StrangerMarketModel", name := "isSold", desc := "(I)Z" } : Jvm.MethodName)) ∈ lw_tbl := lw_at lw_m10 231 rfl
theorem q2511 : (Jvm.Cond.instanceMethod ({ cls := "StrangerMarketModel", name := "isSold", desc := "(I)Z" } : Jvm.MethodName)) ∈ lw_all := lw_g (lw_at lw_m10 232 rfl) rfl
theorem q2512 : (Jvm.Cond.code ({ cls := "StrangerMarketModel", name := "isSold", desc := "(I)Z" } : Jvm.MethodName) prog_26_method_109_code (5 : Nat) (Option.some Jvm.ClassFile.FieldType.boolean)) ∈ lw_all := lw_g (lw_at lw_m10 233 rfl) rfl
theorem q2514 : (Jvm.Cond.instanceMethod ({ cls := "StrangerMarketModel", name := "image", desc := "(I)Z" } : Jvm.MethodName)) ∈ lw_all := lw_g (lw_at lw_m10 235 rfl) rfl
theorem q2515 : (Jvm.Cond.selects "StrangerMarketModel" ({ cls := "StrangerMarketModel", name := "image", desc := "(I)Z" } : Jvm.MethodName) ({ cls := "StrangerMarketModel", name := "image", desc := "(I)Z" } : Jvm.MethodName)) ∈ lw_all := lw_g (lw_at lw_m10 236 rfl) rfl
theorem q2516 : (Jvm.Cond.code ({ cls := "StrangerMarketModel", name := "image", desc := "(I)Z" } : Jvm.MethodName) prog_26_method_113_code (3 : Nat) (Option.some Jvm.ClassFile.FieldType.boolean)) ∈ lw_all := lw_g (lw_at lw_m10 237 rfl) rfl
theorem q2518 : (Jvm.Cond.instanceMethod ({ cls := "StrangerMarketModel", name := "restore", desc := "(I)Z" } : Jvm.MethodName)) ∈ lw_all := lw_g (lw_at lw_m10 239 rfl) rfl
theorem q2519 : (Jvm.Cond.selects "StrangerMarketModel" ({ cls := "StrangerMarketModel", name := "restore", desc := "(I)Z" } : Jvm.MethodName) ({ cls := "StrangerMarketModel", name := "restore", desc := "(I)Z" } : Jvm.MethodName)) ∈ lw_all := lw_g (lw_at lw_m11 0 rfl) rfl
theorem q2520 : (Jvm.Cond.code ({ cls := "StrangerMarketModel", name := "restore", desc := "(I)Z" } : Jvm.MethodName) prog_26_method_114_code (3 : Nat) (Option.some Jvm.ClassFile.FieldType.boolean)) ∈ lw_all := lw_g (lw_at lw_m11 1 rfl) rfl
theorem q2522 : (Jvm.Cond.instanceMethod ({ cls := "StrangerMarketModel", name := "count", desc := "(I)I" } : Jvm.MethodName)) ∈ lw_all := lw_g (lw_at lw_m11 3 rfl) rfl
theorem q2523 : (Jvm.Cond.selects "StrangerMarketModel" ({ cls := "StrangerMarketModel", name := "count", desc := "(I)I" } : Jvm.MethodName) ({ cls := "StrangerMarketModel", name := "count", desc := "(I)I" } : Jvm.MethodName)) ∈ lw_all := lw_g (lw_at lw_m11 4 rfl) rfl
theorem q2524 : (Jvm.Cond.code ({ cls := "StrangerMarketModel", name := "count", desc := "(I)I" } : Jvm.MethodName) prog_26_method_115_code (2 : Nat) (Option.some Jvm.ClassFile.FieldType.int)) ∈ lw_all := lw_g (lw_at lw_m11 5 rfl) rfl
theorem q2564 : (Jvm.Cond.castable "StrangerMarketModel" "java/lang/Object") ∈ lw_tbl := lw_at lw_m11 45 rfl
theorem q132 : (Jvm.Cond.initialized "StrangerMarket$Reader") ∈ lw_all := lw_g (lw_at lw_m1 13 rfl) rfl
theorem q463 : (Jvm.Cond.instanceMethod ({ cls := "StrangerMarket$Reader", name := "<init>", desc := "([BII)V" } : Jvm.MethodName)) ∈ lw_all := lw_g (lw_at lw_m2 104 rfl) rfl
theorem q464 : (Jvm.Cond.code ({ cls := "StrangerMarket$Reader", name := "<init>", desc := "([BII)V" } : Jvm.MethodName) prog_18_method_1_code (4 : Nat) (Option.none : Option Jvm.ClassFile.FieldType)) ∈ lw_all := lw_g (lw_at lw_m2 105 rfl) rfl
theorem q465 : (Jvm.Cond.methodLink "StrangerMarket$Reader" (3 : Nat) ({ cls := "java/lang/Object", name := "<init>", desc := "()V" } : Jvm.MethodName)) ∈ lw_all := lw_g (lw_at lw_m2 106 rfl) rfl
theorem q466 : (Jvm.Cond.stringRef "StrangerMarket$Reader" (9 : Nat) "") ∈ lw_tbl := lw_at lw_m2 107 rfl
theorem q471 : (Jvm.Cond.fieldLink "StrangerMarket$Reader" (17 : Nat) "StrangerMarket$Reader" "tape" "[B") ∈ lw_all := lw_g (lw_at lw_m2 112 rfl) rfl
theorem q472 : (Jvm.Cond.fieldLink "StrangerMarket$Reader" (21 : Nat) "StrangerMarket$Reader" "size" "I") ∈ lw_all := lw_g (lw_at lw_m2 113 rfl) rfl
theorem q473 : (Jvm.Cond.fieldLink "StrangerMarket$Reader" (25 : Nat) "StrangerMarket$Reader" "limit" "I") ∈ lw_all := lw_g (lw_at lw_m2 114 rfl) rfl
theorem q474 : (Jvm.Cond.fieldLink "StrangerMarket$Reader" (28 : Nat) "StrangerMarket$Reader" "to" "I") ∈ lw_all := lw_g (lw_at lw_m2 115 rfl) rfl
theorem q481 : (Jvm.Cond.fieldLink "StrangerMarket$Reader" (38 : Nat) "StrangerMarket$Reader" "kind" "I") ∈ lw_all := lw_g (lw_at lw_m2 122 rfl) rfl
theorem q482 : (Jvm.Cond.fieldLink "StrangerMarket$Reader" (35 : Nat) "StrangerMarket$Reader" "from" "I") ∈ lw_all := lw_g (lw_at lw_m2 123 rfl) rfl
theorem q483 : (Jvm.Cond.fieldLink "StrangerMarket$Reader" (51 : Nat) "StrangerMarket$Reader" "number" "I") ∈ lw_all := lw_g (lw_at lw_m2 124 rfl) rfl
theorem q484 : (Jvm.Cond.fieldLink "StrangerMarket$Reader" (48 : Nat) "StrangerMarket$Reader" "sign" "I") ∈ lw_all := lw_g (lw_at lw_m2 125 rfl) rfl
theorem q487 : (Jvm.Cond.fieldLink "StrangerMarket$Reader" (11 : Nat) "StrangerMarket$Reader" "word" "Ljava/lang/String;") ∈ lw_all := lw_g (lw_at lw_m2 128 rfl) rfl
theorem q495 : (Jvm.Cond.soleField "StrangerMarket$Reader" "tape") ∈ lw_all := lw_g (lw_at lw_m2 136 rfl) rfl
theorem q497 : (Jvm.Cond.soleField "StrangerMarket$Reader" "size") ∈ lw_all := lw_g (lw_at lw_m2 138 rfl) rfl
theorem q499 : (Jvm.Cond.soleField "StrangerMarket$Reader" "limit") ∈ lw_all := lw_g (lw_at lw_m2 140 rfl) rfl
theorem q501 : (Jvm.Cond.soleField "StrangerMarket$Reader" "to") ∈ lw_all := lw_g (lw_at lw_m2 142 rfl) rfl
theorem q503 : (Jvm.Cond.soleField "StrangerMarket$Reader" "kind") ∈ lw_all := lw_g (lw_at lw_m2 144 rfl) rfl
theorem q505 : (Jvm.Cond.soleField "StrangerMarket$Reader" "from") ∈ lw_all := lw_g (lw_at lw_m2 146 rfl) rfl
theorem q507 : (Jvm.Cond.soleField "StrangerMarket$Reader" "number") ∈ lw_all := lw_g (lw_at lw_m2 148 rfl) rfl
theorem q509 : (Jvm.Cond.soleField "StrangerMarket$Reader" "sign") ∈ lw_all := lw_g (lw_at lw_m2 150 rfl) rfl
theorem q511 : (Jvm.Cond.soleField "StrangerMarket$Reader" "word") ∈ lw_all := lw_g (lw_at lw_m2 152 rfl) rfl
theorem q519 : (Jvm.Cond.declares ({ cls := "StrangerMarket$Reader", name := "go", desc := "()V" } : Jvm.MethodName)) ∈ lw_tbl := lw_at lw_m2 160 rfl
theorem q521 : (Jvm.Cond.instanceMethod ({ cls := "StrangerMarket$Reader", name := "go", desc := "()V" } : Jvm.MethodName)) ∈ lw_all := lw_g (lw_at lw_m2 162 rfl) rfl
theorem q522 : (Jvm.Cond.code ({ cls := "StrangerMarket$Reader", name := "go", desc := "()V" } : Jvm.MethodName) prog_18_method_5_code (5 : Nat) (Option.none : Option Jvm.ClassFile.FieldType)) ∈ lw_all := lw_g (lw_at lw_m2 163 rfl) rfl
theorem q523 : (Jvm.Cond.methodLink "StrangerMarket$Reader" (31 : Nat) ({ cls := "StrangerMarket$Reader", name := "byteAt", desc := "(I)I" } : Jvm.MethodName)) ∈ lw_all := lw_g (lw_at lw_m2 164 rfl) rfl
theorem q524 : (Jvm.Cond.privateMethod ({ cls := "StrangerMarket$Reader", name := "byteAt", desc := "(I)I" } : Jvm.MethodName)) ∈ lw_tbl := lw_at lw_m2 165 rfl
theorem q525 : (Jvm.Cond.instanceMethod ({ cls := "StrangerMarket$Reader", name := "byteAt", desc := "(I)I" } : Jvm.MethodName)) ∈ lw_all := lw_g (lw_at lw_m2 166 rfl) rfl
theorem q526 : (Jvm.Cond.code ({ cls := "StrangerMarket$Reader", name := "byteAt", desc := "(I)I" } : Jvm.MethodName) prog_18_method_2_code (2 : Nat) (Option.some Jvm.ClassFile.FieldType.int)) ∈ lw_all := lw_g (lw_at lw_m2 167 rfl) rfl
theorem q527 : (Jvm.Cond.methodLink "StrangerMarket$Reader" (41 : Nat) ({ cls := "StrangerMarket$Reader", name := "isLetter", desc := "(I)Z" } : Jvm.MethodName)) ∈ lw_all := lw_g (lw_at lw_m2 168 rfl) rfl
theorem q528 : (Jvm.Cond.static ({ cls := "StrangerMarket$Reader", name := "isLetter", desc := "(I)Z" } : Jvm.MethodName)) ∈ lw_all := lw_g (lw_at lw_m2 169 rfl) rfl
theorem q529 : (Jvm.Cond.code ({ cls := "StrangerMarket$Reader", name := "isLetter", desc := "(I)Z" } : Jvm.MethodName) prog_18_method_4_code (1 : Nat) (Option.some Jvm.ClassFile.FieldType.boolean)) ∈ lw_all := lw_g (lw_at lw_m2 170 rfl) rfl
theorem q530 : (Jvm.Cond.methodLink "StrangerMarket$Reader" (45 : Nat) ({ cls := "StrangerMarket$Reader", name := "isDigit", desc := "(I)Z" } : Jvm.MethodName)) ∈ lw_all := lw_g (lw_at lw_m2 171 rfl) rfl
theorem q531 : (Jvm.Cond.static ({ cls := "StrangerMarket$Reader", name := "isDigit", desc := "(I)Z" } : Jvm.MethodName)) ∈ lw_all := lw_g (lw_at lw_m2 172 rfl) rfl
theorem q532 : (Jvm.Cond.code ({ cls := "StrangerMarket$Reader", name := "isDigit", desc := "(I)Z" } : Jvm.MethodName) prog_18_method_3_code (1 : Nat) (Option.some Jvm.ClassFile.FieldType.boolean)) ∈ lw_all := lw_g (lw_at lw_m2 173 rfl) rfl
theorem q533 : (Jvm.Cond.classLink "StrangerMarket$Reader" (54 : Nat) "java/lang/StringBuilder") ∈ lw_all := lw_g (lw_at lw_m2 174 rfl) rfl
theorem q535 : (Jvm.Cond.methodLink "StrangerMarket$Reader" (56 : Nat) ({ cls := "java/lang/StringBuilder", name := "<init>", desc := "()V" } : Jvm.MethodName)) ∈ lw_all := lw_g (lw_at lw_m2 176 rfl) rfl
theorem q564 : (Jvm.Cond.methodLink "StrangerMarket$Reader" (57 : Nat) ({ cls := "java/lang/StringBuilder", name := "append", desc := "(C)Ljava/lang/StringBuilder;" } : Jvm.MethodName)) ∈ lw_all := lw_g (lw_at lw_m2 205 rfl) rfl
theorem q655 : (Jvm.Cond.methodLink "StrangerMarket$Reader" (61 : Nat) ({ cls := "java/lang/StringBuilder", name := "toString", desc := "()Ljava/lang/String;" } : Jvm.MethodName)) ∈ lw_all := lw_g (lw_at lw_m3 56 rfl) rfl
theorem q723 : (Jvm.Cond.declares ({ cls := "StrangerMarket$Reader", name := "is", desc := "(Ljava/lang/String;)Z" } : Jvm.MethodName)) ∈ lw_tbl := lw_at lw_m3 124 rfl
theorem q725 : (Jvm.Cond.instanceMethod ({ cls := "StrangerMarket$Reader", name := "is", desc := "(Ljava/lang/String;)Z" } : Jvm.MethodName)) ∈ lw_all := lw_g (lw_at lw_m3 126 rfl) rfl
theorem q726 : (Jvm.Cond.code ({ cls := "StrangerMarket$Reader", name := "is", desc := "(Ljava/lang/String;)Z" } : Jvm.MethodName) prog_18_method_7_code (2 : Nat) (Option.some Jvm.ClassFile.FieldType.boolean)) ∈ lw_all := lw_g (lw_at lw_m3 127 rfl) rfl
theorem q727 : (Jvm.Cond.methodLink "StrangerMarket$Reader" (70 : Nat) ({ cls := "java/lang/String", name := "equals", desc := "(Ljava/lang/Object;)Z" } : Jvm.MethodName)) ∈ lw_all := lw_g (lw_at lw_m3 128 rfl) rfl
theorem q746 : (Jvm.Cond.declares ({ cls := "StrangerMarket$Reader", name := "need", desc := "(ZI)V" } : Jvm.MethodName)) ∈ lw_tbl := lw_at lw_m3 147 rfl
theorem q748 : (Jvm.Cond.instanceMethod ({ cls := "StrangerMarket$Reader", name := "need", desc := "(ZI)V" } : Jvm.MethodName)) ∈ lw_all := lw_g (lw_at lw_m3 149 rfl) rfl
theorem q749 : (Jvm.Cond.code ({ cls := "StrangerMarket$Reader", name := "need", desc := "(ZI)V" } : Jvm.MethodName) prog_18_method_6_code (3 : Nat) (Option.none : Option Jvm.ClassFile.FieldType)) ∈ lw_all := lw_g (lw_at lw_m3 150 rfl) rfl
theorem q750 : (Jvm.Cond.classLink "StrangerMarket$Reader" (65 : Nat) "StrangerMarket$Fault") ∈ lw_all := lw_g (lw_at lw_m3 151 rfl) rfl
theorem q788 : (Jvm.Cond.methodLink "StrangerMarket$Reader" (67 : Nat) ({ cls := "StrangerMarket$Fault", name := "<init>", desc := "(II)V" } : Jvm.MethodName)) ∈ lw_all := lw_g (lw_at lw_m3 189 rfl) rfl
theorem q824 : (Jvm.Cond.declares ({ cls := "StrangerMarket$Reader", name := "isName", desc := "()Z" } : Jvm.MethodName)) ∈ lw_tbl := lw_at lw_m3 225 rfl
theorem q826 : (Jvm.Cond.instanceMethod ({ cls := "StrangerMarket$Reader", name := "isName", desc := "()Z" } : Jvm.MethodName)) ∈ lw_all := lw_g (lw_at lw_m3 227 rfl) rfl
theorem q827 : (Jvm.Cond.code ({ cls := "StrangerMarket$Reader", name := "isName", desc := "()Z" } : Jvm.MethodName) prog_18_method_8_code (1 : Nat) (Option.some Jvm.ClassFile.FieldType.boolean)) ∈ lw_all := lw_g (lw_at lw_m3 228 rfl) rfl
theorem q828 : (Jvm.Cond.stringRef "StrangerMarket$Reader" (76 : Nat) " person good sells wants knows foes deals veils bell buys nods tells day or and not home veiled fed sold coins friends hunger number ") ∈ lw_tbl := lw_at lw_m3 229 rfl
theorem q829 : (Jvm.Cond.stringRef "StrangerMarket$Reader" (78 : Nat) " ") ∈ lw_tbl := lw_at lw_m3 230 rfl
theorem q830 : (Jvm.Cond.methodLink "StrangerMarket$Reader" (80 : Nat) ({ cls := "java/lang/StringBuilder", name := "append", desc := "(Ljava/lang/String;)Ljava/lang/StringBuilder;" } : Jvm.MethodName)) ∈ lw_all := lw_g (lw_at lw_m3 231 rfl) rfl
theorem q876 : (Jvm.Cond.methodLink "StrangerMarket$Reader" (83 : Nat) ({ cls := "java/lang/String", name := "indexOf", desc := "(Ljava/lang/String;)I" } : Jvm.MethodName)) ∈ lw_all := lw_g (lw_at lw_m4 37 rfl) rfl
theorem q904 : (Jvm.Cond.declares ({ cls := "StrangerMarket$Reader", name := "find", desc := "(Ljava/util/ArrayList;)I" } : Jvm.MethodName)) ∈ lw_tbl := lw_at lw_m4 65 rfl
theorem q906 : (Jvm.Cond.instanceMethod ({ cls := "StrangerMarket$Reader", name := "find", desc := "(Ljava/util/ArrayList;)I" } : Jvm.MethodName)) ∈ lw_all := lw_g (lw_at lw_m4 67 rfl) rfl
theorem q907 : (Jvm.Cond.code ({ cls := "StrangerMarket$Reader", name := "find", desc := "(Ljava/util/ArrayList;)I" } : Jvm.MethodName) prog_18_method_11_code (3 : Nat) (Option.some Jvm.ClassFile.FieldType.int)) ∈ lw_all := lw_g (lw_at lw_m4 68 rfl) rfl
theorem q908 : (Jvm.Cond.methodLink "StrangerMarket$Reader" (98 : Nat) ({ cls := "java/util/ArrayList", name := "size", desc := "()I" } : Jvm.MethodName)) ∈ lw_all := lw_g (lw_at lw_m4 69 rfl) rfl
theorem q909 : (Jvm.Cond.methodLink "StrangerMarket$Reader" (103 : Nat) ({ cls := "java/util/ArrayList", name := "get", desc := "(I)Ljava/lang/Object;" } : Jvm.MethodName)) ∈ lw_all := lw_g (lw_at lw_m4 70 rfl) rfl
theorem q910 : (Jvm.Cond.classLink "StrangerMarket$Reader" (107 : Nat) "StrangerMarket$Named") ∈ lw_all := lw_g (lw_at lw_m4 71 rfl) rfl
theorem q915 : (Jvm.Cond.declares ({ cls := "StrangerMarket$Reader", name := "number", desc := "(II)I" } : Jvm.MethodName)) ∈ lw_tbl := lw_at lw_m4 76 rfl
theorem q917 : (Jvm.Cond.instanceMethod ({ cls := "StrangerMarket$Reader", name := "number", desc := "(II)I" } : Jvm.MethodName)) ∈ lw_all := lw_g (lw_at lw_m4 78 rfl) rfl
theorem q918 : (Jvm.Cond.code ({ cls := "StrangerMarket$Reader", name := "number", desc := "(II)I" } : Jvm.MethodName) prog_18_method_9_code (4 : Nat) (Option.some Jvm.ClassFile.FieldType.int)) ∈ lw_all := lw_g (lw_at lw_m4 79 rfl) rfl
theorem q919 : (Jvm.Cond.methodLink "StrangerMarket$Reader" (87 : Nat) ({ cls := "StrangerMarket$Reader", name := "need", desc := "(ZI)V" } : Jvm.MethodName)) ∈ lw_all := lw_g (lw_at lw_m4 80 rfl) rfl
theorem q920 : (Jvm.Cond.methodLinkNest "StrangerMarket$Reader" (91 : Nat) ({ cls := "StrangerMarket", name := "isIn", desc := "(III)Z" } : Jvm.MethodName) "StrangerMarket") ∈ lw_tbl := lw_at lw_m4 81 rfl
theorem q923 : (Jvm.Cond.methodLink "StrangerMarket$Reader" (95 : Nat) ({ cls := "StrangerMarket$Reader", name := "go", desc := "()V" } : Jvm.MethodName)) ∈ lw_all := lw_g (lw_at lw_m4 84 rfl) rfl
theorem q951 : (Jvm.Cond.fieldLink "StrangerMarket$Reader" (109 : Nat) "StrangerMarket$Named" "name" "Ljava/lang/String;") ∈ lw_all := lw_g (lw_at lw_m4 112 rfl) rfl
theorem q1043 : (Jvm.Cond.declares ({ cls := "StrangerMarket$Reader", name := "one", desc := "(Ljava/util/ArrayList;)I" } : Jvm.MethodName)) ∈ lw_tbl := lw_at lw_m4 204 rfl
theorem q1045 : (Jvm.Cond.instanceMethod ({ cls := "StrangerMarket$Reader", name := "one", desc := "(Ljava/util/ArrayList;)I" } : Jvm.MethodName)) ∈ lw_all := lw_g (lw_at lw_m4 206 rfl) rfl
theorem q1046 : (Jvm.Cond.code ({ cls := "StrangerMarket$Reader", name := "one", desc := "(Ljava/util/ArrayList;)I" } : Jvm.MethodName) prog_18_method_13_code (3 : Nat) (Option.some Jvm.ClassFile.FieldType.int)) ∈ lw_all := lw_g (lw_at lw_m4 207 rfl) rfl
theorem q1047 : (Jvm.Cond.methodLink "StrangerMarket$Reader" (120 : Nat) ({ cls := "StrangerMarket$Reader", name := "hold", desc := "(Ljava/util/ArrayList;)I" } : Jvm.MethodName)) ∈ lw_all := lw_g (lw_at lw_m4 208 rfl) rfl
theorem q1048 : (Jvm.Cond.instanceMethod ({ cls := "StrangerMarket$Reader", name := "hold", desc := "(Ljava/util/ArrayList;)I" } : Jvm.MethodName)) ∈ lw_all := lw_g (lw_at lw_m4 209 rfl) rfl
theorem q1049 : (Jvm.Cond.sameMethod "StrangerMarket$Reader" "StrangerMarket$Reader" "hold" "(Ljava/util/ArrayList;)I") ∈ lw_all := lw_g (lw_at lw_m4 210 rfl) rfl
theorem q1053 : (Jvm.Cond.code ({ cls := "StrangerMarket$Reader", name := "hold", desc := "(Ljava/util/ArrayList;)I" } : Jvm.MethodName) prog_18_method_12_code (3 : Nat) (Option.some Jvm.ClassFile.FieldType.int)) ∈ lw_all := lw_g (lw_at lw_m4 214 rfl) rfl
theorem q1054 : (Jvm.Cond.methodLink "StrangerMarket$Reader" (112 : Nat) ({ cls := "StrangerMarket$Reader", name := "isName", desc := "()Z" } : Jvm.MethodName)) ∈ lw_all := lw_g (lw_at lw_m4 215 rfl) rfl
theorem q1055 : (Jvm.Cond.methodLink "StrangerMarket$Reader" (116 : Nat) ({ cls := "StrangerMarket$Reader", name := "find", desc := "(Ljava/util/ArrayList;)I" } : Jvm.MethodName)) ∈ lw_all := lw_g (lw_at lw_m4 216 rfl) rfl
theorem q1063 : (Jvm.Cond.declares ({ cls := "StrangerMarket$Reader", name := "hold", desc := "(Ljava/util/ArrayList;)I" } : Jvm.MethodName)) ∈ lw_tbl := lw_at lw_m4 224 rfl
theorem q1096 : (Jvm.Cond.declares ({ cls := "StrangerMarket$Reader", name := "end", desc := "()V" } : Jvm.MethodName)) ∈ lw_tbl := lw_at lw_m5 17 rfl
theorem q1098 : (Jvm.Cond.instanceMethod ({ cls := "StrangerMarket$Reader", name := "end", desc := "()V" } : Jvm.MethodName)) ∈ lw_all := lw_g (lw_at lw_m5 19 rfl) rfl
theorem q1099 : (Jvm.Cond.code ({ cls := "StrangerMarket$Reader", name := "end", desc := "()V" } : Jvm.MethodName) prog_18_method_10_code (1 : Nat) (Option.none : Option Jvm.ClassFile.FieldType)) ∈ lw_all := lw_g (lw_at lw_m5 20 rfl) rfl
theorem q2525 : (Jvm.Cond.sameMethod "StrangerMarket$Reader" "StrangerMarket$Reader" "byteAt" "(I)I") ∈ lw_all := lw_g (lw_at lw_m11 6 rfl) rfl
theorem q2535 : (Jvm.Cond.sameMethod "StrangerMarket$Reader" "StrangerMarket$Reader" "need" "(ZI)V") ∈ lw_all := lw_g (lw_at lw_m11 16 rfl) rfl
theorem q2539 : (Jvm.Cond.sameMethod "StrangerMarket$Reader" "StrangerMarket$Reader" "go" "()V") ∈ lw_all := lw_g (lw_at lw_m11 20 rfl) rfl
theorem q2543 : (Jvm.Cond.sameMethod "StrangerMarket$Reader" "StrangerMarket$Reader" "isName" "()Z") ∈ lw_all := lw_g (lw_at lw_m11 24 rfl) rfl
theorem q2547 : (Jvm.Cond.sameMethod "StrangerMarket$Reader" "StrangerMarket$Reader" "find" "(Ljava/util/ArrayList;)I") ∈ lw_all := lw_g (lw_at lw_m11 28 rfl) rfl

theorem q133 : (Jvm.Cond.initialized "StrangerMarket$CountyReader") ∈ lw_all := lw_g (lw_at lw_m1 14 rfl) rfl
theorem q205 : (Jvm.Cond.fieldLinkNest "StrangerMarket$CountyReader" (33 : Nat) "StrangerMarket$County" "lines" "I" "StrangerMarket") ∈ lw_tbl := lw_at lw_m1 86 rfl
theorem q208 : (Jvm.Cond.fieldLinkNest "StrangerMarket$CountyReader" (70 : Nat) "StrangerMarket$County" "deals" "I" "StrangerMarket") ∈ lw_tbl := lw_at lw_m1 89 rfl
theorem q212 : (Jvm.Cond.fieldLinkNest "StrangerMarket$CountyReader" (74 : Nat) "StrangerMarket$County" "veils" "I" "StrangerMarket") ∈ lw_tbl := lw_at lw_m1 93 rfl
theorem q215 : (Jvm.Cond.fieldLinkNest "StrangerMarket$CountyReader" (95 : Nat) "StrangerMarket$County" "bell" "I" "StrangerMarket") ∈ lw_tbl := lw_at lw_m1 96 rfl
theorem q221 : (Jvm.Cond.fieldLinkNest "StrangerMarket$CountyReader" (101 : Nat) "StrangerMarket$County" "persons" "Ljava/util/ArrayList;" "StrangerMarket") ∈ lw_tbl := lw_at lw_m1 102 rfl
theorem q227 : (Jvm.Cond.fieldLinkNest "StrangerMarket$CountyReader" (109 : Nat) "StrangerMarket$County" "goods" "Ljava/util/ArrayList;" "StrangerMarket") ∈ lw_tbl := lw_at lw_m1 108 rfl
theorem q458 : (Jvm.Cond.instantiable "StrangerMarket$CountyReader" (11 : Nat)) ∈ lw_all := lw_g (lw_at lw_m2 99 rfl) rfl
theorem q460 : (Jvm.Cond.instanceMethod ({ cls := "StrangerMarket$CountyReader", name := "<init>", desc := "([BI)V" } : Jvm.MethodName)) ∈ lw_all := lw_g (lw_at lw_m2 101 rfl) rfl
theorem q461 : (Jvm.Cond.code ({ cls := "StrangerMarket$CountyReader", name := "<init>", desc := "([BI)V" } : Jvm.MethodName) prog_7_method_1_code (3 : Nat) (Option.none : Option Jvm.ClassFile.FieldType)) ∈ lw_all := lw_g (lw_at lw_m2 102 rfl) rfl
theorem q462 : (Jvm.Cond.methodLink "StrangerMarket$CountyReader" (3 : Nat) ({ cls := "StrangerMarket$Reader", name := "<init>", desc := "([BII)V" } : Jvm.MethodName)) ∈ lw_all := lw_g (lw_at lw_m2 103 rfl) rfl
theorem q467 : (Jvm.Cond.classLink "StrangerMarket$CountyReader" (9 : Nat) "StrangerMarket$County") ∈ lw_all := lw_g (lw_at lw_m2 108 rfl) rfl
theorem q468 : (Jvm.Cond.methodLinkNest "StrangerMarket$CountyReader" (11 : Nat) ({ cls := "StrangerMarket$County", name := "<init>", desc := "()V" } : Jvm.MethodName) "StrangerMarket") ∈ lw_tbl := lw_at lw_m2 109 rfl
theorem q469 : (Jvm.Cond.fieldLink "StrangerMarket$CountyReader" (14 : Nat) "StrangerMarket$CountyReader" "c" "LStrangerMarket$County;") ∈ lw_all := lw_g (lw_at lw_m2 110 rfl) rfl
theorem q470 : (Jvm.Cond.fieldLink "StrangerMarket$CountyReader" (79 : Nat) "StrangerMarket$CountyReader" "onces" "I") ∈ lw_all := lw_g (lw_at lw_m2 111 rfl) rfl
theorem q475 : (Jvm.Cond.fieldLink "StrangerMarket$CountyReader" (23 : Nat) "StrangerMarket$CountyReader" "kind" "I") ∈ lw_all := lw_g (lw_at lw_m2 116 rfl) rfl
theorem q476 : (Jvm.Cond.sameField "StrangerMarket$CountyReader" "StrangerMarket$Reader" "kind" "I") ∈ lw_all := lw_g (lw_at lw_m2 117 rfl) rfl
theorem q488 : (Jvm.Cond.fieldLink "StrangerMarket$CountyReader" (112 : Nat) "StrangerMarket$CountyReader" "word" "Ljava/lang/String;") ∈ lw_all := lw_g (lw_at lw_m2 129 rfl) rfl
theorem q489 : (Jvm.Cond.sameField "StrangerMarket$CountyReader" "StrangerMarket$Reader" "word" "Ljava/lang/String;") ∈ lw_all := lw_g (lw_at lw_m2 130 rfl) rfl
theorem q490 : (Jvm.Cond.laysFinal "StrangerMarket$CountyReader" "StrangerMarket$CountyReader" "c" "LStrangerMarket$County;") ∈ lw_all := lw_g (lw_at lw_m2 131 rfl) rfl
theorem q491 : (Jvm.Cond.soleField "StrangerMarket$CountyReader" "c") ∈ lw_all := lw_g (lw_at lw_m2 132 rfl) rfl
theorem q492 : (Jvm.Cond.lays "StrangerMarket$CountyReader" "StrangerMarket$CountyReader" "onces" "I") ∈ lw_all := lw_g (lw_at lw_m2 133 rfl) rfl
theorem q493 : (Jvm.Cond.soleField "StrangerMarket$CountyReader" "onces") ∈ lw_all := lw_g (lw_at lw_m2 134 rfl) rfl
theorem q494 : (Jvm.Cond.laysFinal "StrangerMarket$CountyReader" "StrangerMarket$Reader" "tape" "[B") ∈ lw_all := lw_g (lw_at lw_m2 135 rfl) rfl
theorem q496 : (Jvm.Cond.laysFinal "StrangerMarket$CountyReader" "StrangerMarket$Reader" "size" "I") ∈ lw_all := lw_g (lw_at lw_m2 137 rfl) rfl
theorem q498 : (Jvm.Cond.laysFinal "StrangerMarket$CountyReader" "StrangerMarket$Reader" "limit" "I") ∈ lw_all := lw_g (lw_at lw_m2 139 rfl) rfl
theorem q500 : (Jvm.Cond.lays "StrangerMarket$CountyReader" "StrangerMarket$Reader" "to" "I") ∈ lw_all := lw_g (lw_at lw_m2 141 rfl) rfl
theorem q502 : (Jvm.Cond.lays "StrangerMarket$CountyReader" "StrangerMarket$Reader" "kind" "I") ∈ lw_all := lw_g (lw_at lw_m2 143 rfl) rfl
theorem q504 : (Jvm.Cond.lays "StrangerMarket$CountyReader" "StrangerMarket$Reader" "from" "I") ∈ lw_all := lw_g (lw_at lw_m2 145 rfl) rfl
theorem q506 : (Jvm.Cond.lays "StrangerMarket$CountyReader" "StrangerMarket$Reader" "number" "I") ∈ lw_all := lw_g (lw_at lw_m2 147 rfl) rfl
theorem q508 : (Jvm.Cond.lays "StrangerMarket$CountyReader" "StrangerMarket$Reader" "sign" "I") ∈ lw_all := lw_g (lw_at lw_m2 149 rfl) rfl
theorem q510 : (Jvm.Cond.lays "StrangerMarket$CountyReader" "StrangerMarket$Reader" "word" "Ljava/lang/String;") ∈ lw_all := lw_g (lw_at lw_m2 151 rfl) rfl
theorem q512 : (Jvm.Cond.superclass "StrangerMarket$CountyReader" "StrangerMarket$Reader") ∈ lw_all := lw_g (lw_at lw_m2 153 rfl) rfl
theorem q514 : (Jvm.Cond.instanceMethod ({ cls := "StrangerMarket$CountyReader", name := "read", desc := "()LStrangerMarket$County;" } : Jvm.MethodName)) ∈ lw_all := lw_g (lw_at lw_m2 155 rfl) rfl
theorem q515 : (Jvm.Cond.selects "StrangerMarket$CountyReader" ({ cls := "StrangerMarket$CountyReader", name := "read", desc := "()LStrangerMarket$County;" } : Jvm.MethodName) ({ cls := "StrangerMarket$CountyReader", name := "read", desc := "()LStrangerMarket$County;" } : Jvm.MethodName)) ∈ lw_all := lw_g (lw_at lw_m2 156 rfl) rfl
theorem q516 : (Jvm.Cond.code ({ cls := "StrangerMarket$CountyReader", name := "read", desc := "()LStrangerMarket$County;" } : Jvm.MethodName) prog_7_method_2_code (1 : Nat) (Option.some (Jvm.ClassFile.FieldType.object "StrangerMarket$County"))) ∈ lw_all := lw_g (lw_at lw_m2 157 rfl) rfl
theorem q517 : (Jvm.Cond.methodLink "StrangerMarket$CountyReader" (20 : Nat) ({ cls := "StrangerMarket$CountyReader", name := "go", desc := "()V" } : Jvm.MethodName)) ∈ lw_all := lw_g (lw_at lw_m2 158 rfl) rfl
theorem q518 : (Jvm.Cond.sameMethod "StrangerMarket$CountyReader" "StrangerMarket$Reader" "go" "()V") ∈ lw_all := lw_g (lw_at lw_m2 159 rfl) rfl
theorem q520 : (Jvm.Cond.selects "StrangerMarket$CountyReader" ({ cls := "StrangerMarket$CountyReader", name := "go", desc := "()V" } : Jvm.MethodName) ({ cls := "StrangerMarket$Reader", name := "go", desc := "()V" } : Jvm.MethodName)) ∈ lw_all := lw_g (lw_at lw_m2 161 rfl) rfl
theorem q716 : (Jvm.Cond.methodLink "StrangerMarket$CountyReader" (27 : Nat) ({ cls := "StrangerMarket$CountyReader", name := "line", desc := "()V" } : Jvm.MethodName)) ∈ lw_all := lw_g (lw_at lw_m3 117 rfl) rfl
theorem q717 : (Jvm.Cond.privateMethod ({ cls := "StrangerMarket$CountyReader", name := "line", desc := "()V" } : Jvm.MethodName)) ∈ lw_tbl := lw_at lw_m3 118 rfl
theorem q718 : (Jvm.Cond.instanceMethod ({ cls := "StrangerMarket$CountyReader", name := "line", desc := "()V" } : Jvm.MethodName)) ∈ lw_all := lw_g (lw_at lw_m3 119 rfl) rfl
theorem q719 : (Jvm.Cond.code ({ cls := "StrangerMarket$CountyReader", name := "line", desc := "()V" } : Jvm.MethodName) prog_7_method_3_code (1 : Nat) (Option.none : Option Jvm.ClassFile.FieldType)) ∈ lw_all := lw_g (lw_at lw_m3 120 rfl) rfl
theorem q720 : (Jvm.Cond.stringRef "StrangerMarket$CountyReader" (36 : Nat) "person") ∈ lw_tbl := lw_at lw_m3 121 rfl
theorem q721 : (Jvm.Cond.methodLink "StrangerMarket$CountyReader" (38 : Nat) ({ cls := "StrangerMarket$CountyReader", name := "is", desc := "(Ljava/lang/String;)Z" } : Jvm.MethodName)) ∈ lw_all := lw_g (lw_at lw_m3 122 rfl) rfl
theorem q722 : (Jvm.Cond.sameMethod "StrangerMarket$CountyReader" "StrangerMarket$Reader" "is" "(Ljava/lang/String;)Z") ∈ lw_all := lw_g (lw_at lw_m3 123 rfl) rfl
theorem q724 : (Jvm.Cond.selects "StrangerMarket$CountyReader" ({ cls := "StrangerMarket$CountyReader", name := "is", desc := "(Ljava/lang/String;)Z" } : Jvm.MethodName) ({ cls := "StrangerMarket$Reader", name := "is", desc := "(Ljava/lang/String;)Z" } : Jvm.MethodName)) ∈ lw_all := lw_g (lw_at lw_m3 125 rfl) rfl
theorem q735 : (Jvm.Cond.methodLink "StrangerMarket$CountyReader" (42 : Nat) ({ cls := "StrangerMarket$CountyReader", name := "person", desc := "()V" } : Jvm.MethodName)) ∈ lw_all := lw_g (lw_at lw_m3 136 rfl) rfl
theorem q736 : (Jvm.Cond.privateMethod ({ cls := "StrangerMarket$CountyReader", name := "person", desc := "()V" } : Jvm.MethodName)) ∈ lw_tbl := lw_at lw_m3 137 rfl
theorem q737 : (Jvm.Cond.instanceMethod ({ cls := "StrangerMarket$CountyReader", name := "person", desc := "()V" } : Jvm.MethodName)) ∈ lw_all := lw_g (lw_at lw_m3 138 rfl) rfl
theorem q738 : (Jvm.Cond.code ({ cls := "StrangerMarket$CountyReader", name := "person", desc := "()V" } : Jvm.MethodName) prog_7_method_8_code (2 : Nat) (Option.none : Option Jvm.ClassFile.FieldType)) ∈ lw_all := lw_g (lw_at lw_m3 139 rfl) rfl
theorem q739 : (Jvm.Cond.methodLink "StrangerMarket$CountyReader" (116 : Nat) ({ cls := "java/util/ArrayList", name := "size", desc := "()I" } : Jvm.MethodName)) ∈ lw_all := lw_g (lw_at lw_m3 140 rfl) rfl
theorem q740 : (Jvm.Cond.methodLink "StrangerMarket$CountyReader" (122 : Nat) ({ cls := "StrangerMarket$CountyReader", name := "first", desc := "(II)V" } : Jvm.MethodName)) ∈ lw_all := lw_g (lw_at lw_m3 141 rfl) rfl
theorem q741 : (Jvm.Cond.privateMethod ({ cls := "StrangerMarket$CountyReader", name := "first", desc := "(II)V" } : Jvm.MethodName)) ∈ lw_tbl := lw_at lw_m3 142 rfl
theorem q742 : (Jvm.Cond.instanceMethod ({ cls := "StrangerMarket$CountyReader", name := "first", desc := "(II)V" } : Jvm.MethodName)) ∈ lw_all := lw_g (lw_at lw_m3 143 rfl) rfl
theorem q743 : (Jvm.Cond.code ({ cls := "StrangerMarket$CountyReader", name := "first", desc := "(II)V" } : Jvm.MethodName) prog_7_method_6_code (3 : Nat) (Option.none : Option Jvm.ClassFile.FieldType)) ∈ lw_all := lw_g (lw_at lw_m3 144 rfl) rfl
theorem q744 : (Jvm.Cond.methodLink "StrangerMarket$CountyReader" (86 : Nat) ({ cls := "StrangerMarket$CountyReader", name := "need", desc := "(ZI)V" } : Jvm.MethodName)) ∈ lw_all := lw_g (lw_at lw_m3 145 rfl) rfl
theorem q745 : (Jvm.Cond.sameMethod "StrangerMarket$CountyReader" "StrangerMarket$Reader" "need" "(ZI)V") ∈ lw_all := lw_g (lw_at lw_m3 146 rfl) rfl
theorem q747 : (Jvm.Cond.selects "StrangerMarket$CountyReader" ({ cls := "StrangerMarket$CountyReader", name := "need", desc := "(ZI)V" } : Jvm.MethodName) ({ cls := "StrangerMarket$Reader", name := "need", desc := "(ZI)V" } : Jvm.MethodName)) ∈ lw_all := lw_g (lw_at lw_m3 148 rfl) rfl
theorem q818 : (Jvm.Cond.methodLink "StrangerMarket$CountyReader" (126 : Nat) ({ cls := "StrangerMarket$CountyReader", name := "fresh", desc := "()Ljava/lang/String;" } : Jvm.MethodName)) ∈ lw_all := lw_g (lw_at lw_m3 219 rfl) rfl
theorem q819 : (Jvm.Cond.privateMethod ({ cls := "StrangerMarket$CountyReader", name := "fresh", desc := "()Ljava/lang/String;" } : Jvm.MethodName)) ∈ lw_tbl := lw_at lw_m3 220 rfl
theorem q820 : (Jvm.Cond.instanceMethod ({ cls := "StrangerMarket$CountyReader", name := "fresh", desc := "()Ljava/lang/String;" } : Jvm.MethodName)) ∈ lw_all := lw_g (lw_at lw_m3 221 rfl) rfl
theorem q821 : (Jvm.Cond.code ({ cls := "StrangerMarket$CountyReader", name := "fresh", desc := "()Ljava/lang/String;" } : Jvm.MethodName) prog_7_method_7_code (2 : Nat) (Option.some (Jvm.ClassFile.FieldType.object "java/lang/String"))) ∈ lw_all := lw_g (lw_at lw_m3 222 rfl) rfl
theorem q822 : (Jvm.Cond.methodLink "StrangerMarket$CountyReader" (97 : Nat) ({ cls := "StrangerMarket$CountyReader", name := "isName", desc := "()Z" } : Jvm.MethodName)) ∈ lw_all := lw_g (lw_at lw_m3 223 rfl) rfl
theorem q823 : (Jvm.Cond.sameMethod "StrangerMarket$CountyReader" "StrangerMarket$Reader" "isName" "()Z") ∈ lw_all := lw_g (lw_at lw_m3 224 rfl) rfl
theorem q825 : (Jvm.Cond.selects "StrangerMarket$CountyReader" ({ cls := "StrangerMarket$CountyReader", name := "isName", desc := "()Z" } : Jvm.MethodName) ({ cls := "StrangerMarket$Reader", name := "isName", desc := "()Z" } : Jvm.MethodName)) ∈ lw_all := lw_g (lw_at lw_m3 226 rfl) rfl
theorem q902 : (Jvm.Cond.methodLink "StrangerMarket$CountyReader" (105 : Nat) ({ cls := "StrangerMarket$CountyReader", name := "find", desc := "(Ljava/util/ArrayList;)I" } : Jvm.MethodName)) ∈ lw_all := lw_g (lw_at lw_m4 63 rfl) rfl
theorem q903 : (Jvm.Cond.sameMethod "StrangerMarket$CountyReader" "StrangerMarket$Reader" "find" "(Ljava/util/ArrayList;)I") ∈ lw_all := lw_g (lw_at lw_m4 64 rfl) rfl
theorem q905 : (Jvm.Cond.selects "StrangerMarket$CountyReader" ({ cls := "StrangerMarket$CountyReader", name := "find", desc := "(Ljava/util/ArrayList;)I" } : Jvm.MethodName) ({ cls := "StrangerMarket$Reader", name := "find", desc := "(Ljava/util/ArrayList;)I" } : Jvm.MethodName)) ∈ lw_all := lw_g (lw_at lw_m4 66 rfl) rfl
theorem q911 : (Jvm.Cond.classLink "StrangerMarket$CountyReader" (130 : Nat) "StrangerMarket$Person") ∈ lw_all := lw_g (lw_at lw_m4 72 rfl) rfl
theorem q913 : (Jvm.Cond.methodLink "StrangerMarket$CountyReader" (90 : Nat) ({ cls := "StrangerMarket$CountyReader", name := "number", desc := "(II)I" } : Jvm.MethodName)) ∈ lw_all := lw_g (lw_at lw_m4 74 rfl) rfl
theorem q914 : (Jvm.Cond.sameMethod "StrangerMarket$CountyReader" "StrangerMarket$Reader" "number" "(II)I") ∈ lw_all := lw_g (lw_at lw_m4 75 rfl) rfl
theorem q916 : (Jvm.Cond.selects "StrangerMarket$CountyReader" ({ cls := "StrangerMarket$CountyReader", name := "number", desc := "(II)I" } : Jvm.MethodName) ({ cls := "StrangerMarket$Reader", name := "number", desc := "(II)I" } : Jvm.MethodName)) ∈ lw_all := lw_g (lw_at lw_m4 77 rfl) rfl
theorem q924 : (Jvm.Cond.methodLink "StrangerMarket$CountyReader" (132 : Nat) ({ cls := "StrangerMarket$Person", name := "<init>", desc := "(Ljava/lang/String;I)V" } : Jvm.MethodName)) ∈ lw_all := lw_g (lw_at lw_m4 85 rfl) rfl
theorem q935 : (Jvm.Cond.fieldLinkNest "StrangerMarket$CountyReader" (171 : Nat) "StrangerMarket$Person" "knows" "I" "StrangerMarket") ∈ lw_tbl := lw_at lw_m4 96 rfl
theorem q937 : (Jvm.Cond.fieldLinkNest "StrangerMarket$CountyReader" (173 : Nat) "StrangerMarket$Person" "foes" "I" "StrangerMarket") ∈ lw_tbl := lw_at lw_m4 98 rfl
theorem q941 : (Jvm.Cond.fieldLinkNest "StrangerMarket$CountyReader" (165 : Nat) "StrangerMarket$Person" "stock" "[I" "StrangerMarket") ∈ lw_tbl := lw_at lw_m4 102 rfl
theorem q943 : (Jvm.Cond.fieldLinkNest "StrangerMarket$CountyReader" (168 : Nat) "StrangerMarket$Person" "price" "[I" "StrangerMarket") ∈ lw_tbl := lw_at lw_m4 104 rfl
theorem q947 : (Jvm.Cond.fieldLinkNest "StrangerMarket$CountyReader" (150 : Nat) "StrangerMarket$Person" "want" "[I" "StrangerMarket") ∈ lw_tbl := lw_at lw_m4 108 rfl
theorem q969 : (Jvm.Cond.methodLink "StrangerMarket$CountyReader" (135 : Nat) ({ cls := "java/util/ArrayList", name := "add", desc := "(Ljava/lang/Object;)Z" } : Jvm.MethodName)) ∈ lw_all := lw_g (lw_at lw_m4 130 rfl) rfl
theorem q996 : (Jvm.Cond.selects "StrangerMarket$CountyReader" ({ cls := "java/lang/Object", name := "getClass", desc := "()Ljava/lang/Class;" } : Jvm.MethodName) ({ cls := "java/lang/Object", name := "getClass", desc := "()Ljava/lang/Class;" } : Jvm.MethodName)) ∈ lw_all := lw_g (lw_at lw_m4 157 rfl) rfl
theorem q1026 : (Jvm.Cond.stringRef "StrangerMarket$CountyReader" (44 : Nat) "good") ∈ lw_tbl := lw_at lw_m4 187 rfl
theorem q1027 : (Jvm.Cond.methodLink "StrangerMarket$CountyReader" (46 : Nat) ({ cls := "StrangerMarket$CountyReader", name := "good", desc := "()V" } : Jvm.MethodName)) ∈ lw_all := lw_g (lw_at lw_m4 188 rfl) rfl
theorem q1028 : (Jvm.Cond.privateMethod ({ cls := "StrangerMarket$CountyReader", name := "good", desc := "()V" } : Jvm.MethodName)) ∈ lw_tbl := lw_at lw_m4 189 rfl
theorem q1029 : (Jvm.Cond.instanceMethod ({ cls := "StrangerMarket$CountyReader", name := "good", desc := "()V" } : Jvm.MethodName)) ∈ lw_all := lw_g (lw_at lw_m4 190 rfl) rfl
theorem q1030 : (Jvm.Cond.code ({ cls := "StrangerMarket$CountyReader", name := "good", desc := "()V" } : Jvm.MethodName) prog_7_method_9_code (1 : Nat) (Option.none : Option Jvm.ClassFile.FieldType)) ∈ lw_all := lw_g (lw_at lw_m4 191 rfl) rfl
theorem q1031 : (Jvm.Cond.classLink "StrangerMarket$CountyReader" (139 : Nat) "StrangerMarket$Named") ∈ lw_all := lw_g (lw_at lw_m4 192 rfl) rfl
theorem q1033 : (Jvm.Cond.methodLink "StrangerMarket$CountyReader" (141 : Nat) ({ cls := "StrangerMarket$Named", name := "<init>", desc := "(Ljava/lang/String;)V" } : Jvm.MethodName)) ∈ lw_all := lw_g (lw_at lw_m4 194 rfl) rfl
theorem q1036 : (Jvm.Cond.stringRef "StrangerMarket$CountyReader" (48 : Nat) "sells") ∈ lw_tbl := lw_at lw_m4 197 rfl
theorem q1037 : (Jvm.Cond.methodLink "StrangerMarket$CountyReader" (50 : Nat) ({ cls := "StrangerMarket$CountyReader", name := "sells", desc := "()V" } : Jvm.MethodName)) ∈ lw_all := lw_g (lw_at lw_m4 198 rfl) rfl
theorem q1038 : (Jvm.Cond.privateMethod ({ cls := "StrangerMarket$CountyReader", name := "sells", desc := "()V" } : Jvm.MethodName)) ∈ lw_tbl := lw_at lw_m4 199 rfl
theorem q1039 : (Jvm.Cond.instanceMethod ({ cls := "StrangerMarket$CountyReader", name := "sells", desc := "()V" } : Jvm.MethodName)) ∈ lw_all := lw_g (lw_at lw_m4 200 rfl) rfl
theorem q1040 : (Jvm.Cond.code ({ cls := "StrangerMarket$CountyReader", name := "sells", desc := "()V" } : Jvm.MethodName) prog_7_method_11_code (3 : Nat) (Option.none : Option Jvm.ClassFile.FieldType)) ∈ lw_all := lw_g (lw_at lw_m4 201 rfl) rfl
theorem q1041 : (Jvm.Cond.methodLink "StrangerMarket$CountyReader" (154 : Nat) ({ cls := "StrangerMarket$CountyReader", name := "one", desc := "(Ljava/util/ArrayList;)I" } : Jvm.MethodName)) ∈ lw_all := lw_g (lw_at lw_m4 202 rfl) rfl
theorem q1042 : (Jvm.Cond.sameMethod "StrangerMarket$CountyReader" "StrangerMarket$Reader" "one" "(Ljava/util/ArrayList;)I") ∈ lw_all := lw_g (lw_at lw_m4 203 rfl) rfl
theorem q1044 : (Jvm.Cond.selects "StrangerMarket$CountyReader" ({ cls := "StrangerMarket$CountyReader", name := "one", desc := "(Ljava/util/ArrayList;)I" } : Jvm.MethodName) ({ cls := "StrangerMarket$Reader", name := "one", desc := "(Ljava/util/ArrayList;)I" } : Jvm.MethodName)) ∈ lw_all := lw_g (lw_at lw_m4 205 rfl) rfl
theorem q1051 : (Jvm.Cond.selects "StrangerMarket$CountyReader" ({ cls := "StrangerMarket$Reader", name := "hold", desc := "(Ljava/util/ArrayList;)I" } : Jvm.MethodName) ({ cls := "StrangerMarket$Reader", name := "hold", desc := "(Ljava/util/ArrayList;)I" } : Jvm.MethodName)) ∈ lw_all := lw_g (lw_at lw_m4 212 rfl) rfl
theorem q1056 : (Jvm.Cond.methodLink "StrangerMarket$CountyReader" (157 : Nat) ({ cls := "java/util/ArrayList", name := "get", desc := "(I)Ljava/lang/Object;" } : Jvm.MethodName)) ∈ lw_all := lw_g (lw_at lw_m4 217 rfl) rfl
theorem q1057 : (Jvm.Cond.methodLink "StrangerMarket$CountyReader" (161 : Nat) ({ cls := "StrangerMarket$CountyReader", name := "freshGood", desc := "(LStrangerMarket$Person;)I" } : Jvm.MethodName)) ∈ lw_all := lw_g (lw_at lw_m4 218 rfl) rfl
theorem q1058 : (Jvm.Cond.privateMethod ({ cls := "StrangerMarket$CountyReader", name := "freshGood", desc := "(LStrangerMarket$Person;)I" } : Jvm.MethodName)) ∈ lw_tbl := lw_at lw_m4 219 rfl
theorem q1059 : (Jvm.Cond.instanceMethod ({ cls := "StrangerMarket$CountyReader", name := "freshGood", desc := "(LStrangerMarket$Person;)I" } : Jvm.MethodName)) ∈ lw_all := lw_g (lw_at lw_m4 220 rfl) rfl
theorem q1060 : (Jvm.Cond.code ({ cls := "StrangerMarket$CountyReader", name := "freshGood", desc := "(LStrangerMarket$Person;)I" } : Jvm.MethodName) prog_7_method_10_code (3 : Nat) (Option.some Jvm.ClassFile.FieldType.int)) ∈ lw_all := lw_g (lw_at lw_m4 221 rfl) rfl
theorem q1061 : (Jvm.Cond.methodLink "StrangerMarket$CountyReader" (144 : Nat) ({ cls := "StrangerMarket$CountyReader", name := "hold", desc := "(Ljava/util/ArrayList;)I" } : Jvm.MethodName)) ∈ lw_all := lw_g (lw_at lw_m4 222 rfl) rfl
theorem q1062 : (Jvm.Cond.sameMethod "StrangerMarket$CountyReader" "StrangerMarket$Reader" "hold" "(Ljava/util/ArrayList;)I") ∈ lw_all := lw_g (lw_at lw_m4 223 rfl) rfl
theorem q1064 : (Jvm.Cond.selects "StrangerMarket$CountyReader" ({ cls := "StrangerMarket$CountyReader", name := "hold", desc := "(Ljava/util/ArrayList;)I" } : Jvm.MethodName) ({ cls := "StrangerMarket$Reader", name := "hold", desc := "(Ljava/util/ArrayList;)I" } : Jvm.MethodName)) ∈ lw_all := lw_g (lw_at lw_m4 225 rfl) rfl
theorem q1065 : (Jvm.Cond.methodLink "StrangerMarket$CountyReader" (147 : Nat) ({ cls := "StrangerMarket$Person", name := "sells", desc := "(I)Z" } : Jvm.MethodName)) ∈ lw_all := lw_g (lw_at lw_m4 226 rfl) rfl
theorem q1069 : (Jvm.Cond.stringRef "StrangerMarket$CountyReader" (52 : Nat) "wants") ∈ lw_tbl := lw_at lw_m4 230 rfl
theorem q1070 : (Jvm.Cond.methodLink "StrangerMarket$CountyReader" (54 : Nat) ({ cls := "StrangerMarket$CountyReader", name := "wants", desc := "()V" } : Jvm.MethodName)) ∈ lw_all := lw_g (lw_at lw_m4 231 rfl) rfl
theorem q1071 : (Jvm.Cond.privateMethod ({ cls := "StrangerMarket$CountyReader", name := "wants", desc := "()V" } : Jvm.MethodName)) ∈ lw_tbl := lw_at lw_m4 232 rfl
theorem q1072 : (Jvm.Cond.instanceMethod ({ cls := "StrangerMarket$CountyReader", name := "wants", desc := "()V" } : Jvm.MethodName)) ∈ lw_all := lw_g (lw_at lw_m4 233 rfl) rfl
theorem q1073 : (Jvm.Cond.code ({ cls := "StrangerMarket$CountyReader", name := "wants", desc := "()V" } : Jvm.MethodName) prog_7_method_12_code (3 : Nat) (Option.none : Option Jvm.ClassFile.FieldType)) ∈ lw_all := lw_g (lw_at lw_m4 234 rfl) rfl
theorem q1074 : (Jvm.Cond.stringRef "StrangerMarket$CountyReader" (56 : Nat) "knows") ∈ lw_tbl := lw_at lw_m4 235 rfl
theorem q1075 : (Jvm.Cond.methodLink "StrangerMarket$CountyReader" (58 : Nat) ({ cls := "StrangerMarket$CountyReader", name := "pair", desc := "(Z)V" } : Jvm.MethodName)) ∈ lw_all := lw_g (lw_at lw_m4 236 rfl) rfl
theorem q1076 : (Jvm.Cond.privateMethod ({ cls := "StrangerMarket$CountyReader", name := "pair", desc := "(Z)V" } : Jvm.MethodName)) ∈ lw_tbl := lw_at lw_m4 237 rfl
theorem q1077 : (Jvm.Cond.instanceMethod ({ cls := "StrangerMarket$CountyReader", name := "pair", desc := "(Z)V" } : Jvm.MethodName)) ∈ lw_all := lw_g (lw_at lw_m4 238 rfl) rfl
theorem q1078 : (Jvm.Cond.code ({ cls := "StrangerMarket$CountyReader", name := "pair", desc := "(Z)V" } : Jvm.MethodName) prog_7_method_13_code (6 : Nat) (Option.none : Option Jvm.ClassFile.FieldType)) ∈ lw_all := lw_g (lw_at lw_m4 239 rfl) rfl
theorem q1079 : (Jvm.Cond.methodLinkNest "StrangerMarket$CountyReader" (82 : Nat) ({ cls := "StrangerMarket", name := "isOf", desc := "(II)Z" } : Jvm.MethodName) "StrangerMarket") ∈ lw_tbl := lw_at lw_m5 0 rfl
theorem q1082 : (Jvm.Cond.stringRef "StrangerMarket$CountyReader" (62 : Nat) "foes") ∈ lw_tbl := lw_at lw_m5 3 rfl
theorem q1083 : (Jvm.Cond.stringRef "StrangerMarket$CountyReader" (64 : Nat) "deals") ∈ lw_tbl := lw_at lw_m5 4 rfl
theorem q1084 : (Jvm.Cond.methodLink "StrangerMarket$CountyReader" (66 : Nat) ({ cls := "StrangerMarket$CountyReader", name := "once", desc := "(III)I" } : Jvm.MethodName)) ∈ lw_all := lw_g (lw_at lw_m5 5 rfl) rfl
theorem q1085 : (Jvm.Cond.privateMethod ({ cls := "StrangerMarket$CountyReader", name := "once", desc := "(III)I" } : Jvm.MethodName)) ∈ lw_tbl := lw_at lw_m5 6 rfl
theorem q1086 : (Jvm.Cond.instanceMethod ({ cls := "StrangerMarket$CountyReader", name := "once", desc := "(III)I" } : Jvm.MethodName)) ∈ lw_all := lw_g (lw_at lw_m5 7 rfl) rfl
theorem q1087 : (Jvm.Cond.code ({ cls := "StrangerMarket$CountyReader", name := "once", desc := "(III)I" } : Jvm.MethodName) prog_7_method_4_code (4 : Nat) (Option.some Jvm.ClassFile.FieldType.int)) ∈ lw_all := lw_g (lw_at lw_m5 8 rfl) rfl
theorem q1088 : (Jvm.Cond.stringRef "StrangerMarket$CountyReader" (72 : Nat) "veils") ∈ lw_tbl := lw_at lw_m5 9 rfl
theorem q1089 : (Jvm.Cond.methodLink "StrangerMarket$CountyReader" (76 : Nat) ({ cls := "StrangerMarket$CountyReader", name := "bell", desc := "()V" } : Jvm.MethodName)) ∈ lw_all := lw_g (lw_at lw_m5 10 rfl) rfl
theorem q1090 : (Jvm.Cond.privateMethod ({ cls := "StrangerMarket$CountyReader", name := "bell", desc := "()V" } : Jvm.MethodName)) ∈ lw_tbl := lw_at lw_m5 11 rfl
theorem q1091 : (Jvm.Cond.instanceMethod ({ cls := "StrangerMarket$CountyReader", name := "bell", desc := "()V" } : Jvm.MethodName)) ∈ lw_all := lw_g (lw_at lw_m5 12 rfl) rfl
theorem q1092 : (Jvm.Cond.code ({ cls := "StrangerMarket$CountyReader", name := "bell", desc := "()V" } : Jvm.MethodName) prog_7_method_5_code (1 : Nat) (Option.none : Option Jvm.ClassFile.FieldType)) ∈ lw_all := lw_g (lw_at lw_m5 13 rfl) rfl
theorem q1093 : (Jvm.Cond.stringRef "StrangerMarket$CountyReader" (94 : Nat) "bell") ∈ lw_tbl := lw_at lw_m5 14 rfl
theorem q1094 : (Jvm.Cond.methodLink "StrangerMarket$CountyReader" (30 : Nat) ({ cls := "StrangerMarket$CountyReader", name := "end", desc := "()V" } : Jvm.MethodName)) ∈ lw_all := lw_g (lw_at lw_m5 15 rfl) rfl
theorem q1095 : (Jvm.Cond.sameMethod "StrangerMarket$CountyReader" "StrangerMarket$Reader" "end" "()V") ∈ lw_all := lw_g (lw_at lw_m5 16 rfl) rfl
theorem q1097 : (Jvm.Cond.selects "StrangerMarket$CountyReader" ({ cls := "StrangerMarket$CountyReader", name := "end", desc := "()V" } : Jvm.MethodName) ({ cls := "StrangerMarket$Reader", name := "end", desc := "()V" } : Jvm.MethodName)) ∈ lw_all := lw_g (lw_at lw_m5 18 rfl) rfl
theorem q2537 : (Jvm.Cond.selects "StrangerMarket$CountyReader" ({ cls := "StrangerMarket$Reader", name := "need", desc := "(ZI)V" } : Jvm.MethodName) ({ cls := "StrangerMarket$Reader", name := "need", desc := "(ZI)V" } : Jvm.MethodName)) ∈ lw_all := lw_g (lw_at lw_m11 18 rfl) rfl
theorem q2541 : (Jvm.Cond.selects "StrangerMarket$CountyReader" ({ cls := "StrangerMarket$Reader", name := "go", desc := "()V" } : Jvm.MethodName) ({ cls := "StrangerMarket$Reader", name := "go", desc := "()V" } : Jvm.MethodName)) ∈ lw_all := lw_g (lw_at lw_m11 22 rfl) rfl
theorem q2545 : (Jvm.Cond.selects "StrangerMarket$CountyReader" ({ cls := "StrangerMarket$Reader", name := "isName", desc := "()Z" } : Jvm.MethodName) ({ cls := "StrangerMarket$Reader", name := "isName", desc := "()Z" } : Jvm.MethodName)) ∈ lw_all := lw_g (lw_at lw_m11 26 rfl) rfl
theorem q2549 : (Jvm.Cond.selects "StrangerMarket$CountyReader" ({ cls := "StrangerMarket$Reader", name := "find", desc := "(Ljava/util/ArrayList;)I" } : Jvm.MethodName) ({ cls := "StrangerMarket$Reader", name := "find", desc := "(Ljava/util/ArrayList;)I" } : Jvm.MethodName)) ∈ lw_all := lw_g (lw_at lw_m11 30 rfl) rfl
theorem q2565 : (Jvm.Cond.castable "StrangerMarket$CountyReader" "java/lang/Object") ∈ lw_tbl := lw_at lw_m11 46 rfl
theorem q143 : (Jvm.Cond.initialized "StrangerMarket$Fault") ∈ lw_all := lw_g (lw_at lw_m1 24 rfl) rfl
theorem q751 : (Jvm.Cond.instantiable "StrangerMarket$Fault" (8 : Nat)) ∈ lw_all := lw_g (lw_at lw_m3 152 rfl) rfl
theorem q752 : (Jvm.Cond.castable "StrangerMarket$Fault" "StrangerMarket$Fault") ∈ lw_tbl := lw_at lw_m3 153 rfl
theorem q757 : (Jvm.Cond.selects "StrangerMarket$Fault" ({ cls := "java/lang/Throwable", name := "fillInStackTrace", desc := "(I)Ljava/lang/Throwable;" } : Jvm.MethodName) ({ cls := "java/lang/Throwable", name := "fillInStackTrace", desc := "(I)Ljava/lang/Throwable;" } : Jvm.MethodName)) ∈ lw_all := lw_g (lw_at lw_m3 158 rfl) rfl
theorem q758 : (Jvm.Cond.selects "StrangerMarket$Fault" ({ cls := "java/lang/Throwable", name := "fillInStackTrace", desc := "()Ljava/lang/Throwable;" } : Jvm.MethodName) ({ cls := "java/lang/Throwable", name := "fillInStackTrace", desc := "()Ljava/lang/Throwable;" } : Jvm.MethodName)) ∈ lw_all := lw_g (lw_at lw_m3 159 rfl) rfl
theorem q759 : (Jvm.Cond.lays "StrangerMarket$Fault" "java/lang/Throwable" "cause" "Ljava/lang/Throwable;") ∈ lw_all := lw_g (lw_at lw_m3 160 rfl) rfl
theorem q761 : (Jvm.Cond.lays "StrangerMarket$Fault" "java/lang/Throwable" "stackTrace" "[Ljava/lang/StackTraceElement;") ∈ lw_all := lw_g (lw_at lw_m3 162 rfl) rfl
theorem q763 : (Jvm.Cond.lays "StrangerMarket$Fault" "java/lang/Throwable" "suppressedExceptions" "Ljava/util/List;") ∈ lw_all := lw_g (lw_at lw_m3 164 rfl) rfl
theorem q765 : (Jvm.Cond.lays "StrangerMarket$Fault" "java/lang/Throwable" "detailMessage" "Ljava/lang/String;") ∈ lw_all := lw_g (lw_at lw_m3 166 rfl) rfl
theorem q767 : (Jvm.Cond.lays "StrangerMarket$Fault" "java/lang/Throwable" "backtrace" "Ljava/lang/Object;") ∈ lw_all := lw_g (lw_at lw_m3 168 rfl) rfl
theorem q789 : (Jvm.Cond.instanceMethod ({ cls := "StrangerMarket$Fault", name := "<init>", desc := "(II)V" } : Jvm.MethodName)) ∈ lw_all := lw_g (lw_at lw_m3 190 rfl) rfl
theorem q790 : (Jvm.Cond.code ({ cls := "StrangerMarket$Fault", name := "<init>", desc := "(II)V" } : Jvm.MethodName) prog_8_method_1_code (3 : Nat) (Option.none : Option Jvm.ClassFile.FieldType)) ∈ lw_all := lw_g (lw_at lw_m3 191 rfl) rfl
theorem q791 : (Jvm.Cond.methodLink "StrangerMarket$Fault" (1 : Nat) ({ cls := "java/lang/Exception", name := "<init>", desc := "(Ljava/lang/String;Ljava/lang/Throwable;ZZ)V" } : Jvm.MethodName)) ∈ lw_all := lw_g (lw_at lw_m3 192 rfl) rfl
theorem q797 : (Jvm.Cond.fieldLink "StrangerMarket$Fault" (7 : Nat) "StrangerMarket$Fault" "kind" "I") ∈ lw_all := lw_g (lw_at lw_m3 198 rfl) rfl
theorem q799 : (Jvm.Cond.fieldLink "StrangerMarket$Fault" (13 : Nat) "StrangerMarket$Fault" "place" "I") ∈ lw_all := lw_g (lw_at lw_m3 200 rfl) rfl
theorem q806 : (Jvm.Cond.laysFinal "StrangerMarket$Fault" "StrangerMarket$Fault" "kind" "I") ∈ lw_all := lw_g (lw_at lw_m3 207 rfl) rfl
theorem q807 : (Jvm.Cond.soleField "StrangerMarket$Fault" "kind") ∈ lw_all := lw_g (lw_at lw_m3 208 rfl) rfl
theorem q808 : (Jvm.Cond.laysFinal "StrangerMarket$Fault" "StrangerMarket$Fault" "place" "I") ∈ lw_all := lw_g (lw_at lw_m3 209 rfl) rfl
theorem q809 : (Jvm.Cond.soleField "StrangerMarket$Fault" "place") ∈ lw_all := lw_g (lw_at lw_m3 210 rfl) rfl
theorem q814 : (Jvm.Cond.lays "StrangerMarket$Fault" "java/lang/Throwable" "depth" "I") ∈ lw_all := lw_g (lw_at lw_m3 215 rfl) rfl
theorem q817 : (Jvm.Cond.superclass "StrangerMarket$Fault" "java/lang/Exception") ∈ lw_all := lw_g (lw_at lw_m3 218 rfl) rfl
theorem q997 : (Jvm.Cond.selects "StrangerMarket$Fault" ({ cls := "java/lang/Object", name := "getClass", desc := "()Ljava/lang/Class;" } : Jvm.MethodName) ({ cls := "java/lang/Object", name := "getClass", desc := "()Ljava/lang/Class;" } : Jvm.MethodName)) ∈ lw_all := lw_g (lw_at lw_m4 158 rfl) rfl
theorem q2568 : (Jvm.Cond.castable "StrangerMarket$Fault" "java/lang/Object") ∈ lw_tbl := lw_at lw_m11 49 rfl
theorem q144 : (Jvm.Cond.initialized "StrangerMarket$Named") ∈ lw_all := lw_g (lw_at lw_m1 25 rfl) rfl
theorem q928 : (Jvm.Cond.instanceMethod ({ cls := "StrangerMarket$Named", name := "<init>", desc := "(Ljava/lang/String;)V" } : Jvm.MethodName)) ∈ lw_all := lw_g (lw_at lw_m4 89 rfl) rfl
theorem q929 : (Jvm.Cond.code ({ cls := "StrangerMarket$Named", name := "<init>", desc := "(Ljava/lang/String;)V" } : Jvm.MethodName) prog_12_method_1_code (2 : Nat) (Option.none : Option Jvm.ClassFile.FieldType)) ∈ lw_all := lw_g (lw_at lw_m4 90 rfl) rfl
theorem q930 : (Jvm.Cond.methodLink "StrangerMarket$Named" (1 : Nat) ({ cls := "java/lang/Object", name := "<init>", desc := "()V" } : Jvm.MethodName)) ∈ lw_all := lw_g (lw_at lw_m4 91 rfl) rfl
theorem q950 : (Jvm.Cond.fieldLink "StrangerMarket$Named" (7 : Nat) "StrangerMarket$Named" "name" "Ljava/lang/String;") ∈ lw_all := lw_g (lw_at lw_m4 111 rfl) rfl
theorem q967 : (Jvm.Cond.soleField "StrangerMarket$Named" "name") ∈ lw_all := lw_g (lw_at lw_m4 128 rfl) rfl
theorem q1001 : (Jvm.Cond.selects "StrangerMarket$Named" ({ cls := "java/lang/Object", name := "getClass", desc := "()Ljava/lang/Class;" } : Jvm.MethodName) ({ cls := "java/lang/Object", name := "getClass", desc := "()Ljava/lang/Class;" } : Jvm.MethodName)) ∈ lw_all := lw_g (lw_at lw_m4 162 rfl) rfl
theorem q1032 : (Jvm.Cond.instantiable "StrangerMarket$Named" (1 : Nat)) ∈ lw_all := lw_g (lw_at lw_m4 193 rfl) rfl
theorem q1034 : (Jvm.Cond.laysFinal "StrangerMarket$Named" "StrangerMarket$Named" "name" "Ljava/lang/String;") ∈ lw_all := lw_g (lw_at lw_m4 195 rfl) rfl
theorem q1035 : (Jvm.Cond.superclass "StrangerMarket$Named" "java/lang/Object") ∈ lw_all := lw_g (lw_at lw_m4 196 rfl) rfl
theorem q2570 : (Jvm.Cond.castable "StrangerMarket$Named" "java/lang/Object") ∈ lw_tbl := lw_at lw_m11 51 rfl
theorem q594 : (Jvm.Cond.sameMethod "[B" "java/lang/Object" "clone" "()Ljava/lang/Object;") ∈ lw_all := lw_g (lw_at lw_m2 235 rfl) rfl
theorem q597 : (Jvm.Cond.selects "[B" ({ cls := "[B", name := "clone", desc := "()Ljava/lang/Object;" } : Jvm.MethodName) ({ cls := "java/lang/Object", name := "clone", desc := "()Ljava/lang/Object;" } : Jvm.MethodName)) ∈ lw_all := lw_g (lw_at lw_m2 238 rfl) rfl
theorem q598 : (Jvm.Cond.castable "[B" "java/lang/Cloneable") ∈ lw_tbl := lw_at lw_m2 239 rfl
theorem q2588 : (Jvm.Cond.castable "[B" "java/lang/Object") ∈ lw_tbl := lw_at lw_m11 69 rfl

theorem q2589 : (Jvm.Cond.castable "[I" "java/lang/Object") ∈ lw_tbl := lw_at lw_m11 70 rfl
theorem q2593 : (Jvm.Cond.castable "[J" "java/lang/Object") ∈ lw_tbl := lw_at lw_m11 74 rfl
theorem q2591 : (Jvm.Cond.castable "[LStrangerMarket$Kept;" "java/lang/Object") ∈ lw_tbl := lw_at lw_m11 72 rfl
theorem q2590 : (Jvm.Cond.castable "[LStrangerMarket$Market;" "java/lang/Object") ∈ lw_tbl := lw_at lw_m11 71 rfl
theorem q2585 : (Jvm.Cond.sameMethod "[Ljava/lang/Object;" "java/lang/Object" "getClass" "()Ljava/lang/Class;") ∈ lw_all := lw_g (lw_at lw_m11 66 rfl) rfl
theorem q2586 : (Jvm.Cond.selects "[Ljava/lang/Object;" ({ cls := "java/lang/Object", name := "getClass", desc := "()Ljava/lang/Class;" } : Jvm.MethodName) ({ cls := "java/lang/Object", name := "getClass", desc := "()Ljava/lang/Class;" } : Jvm.MethodName)) ∈ lw_all := lw_g (lw_at lw_m11 67 rfl) rfl
theorem q2592 : (Jvm.Cond.castable "[Ljava/lang/Object;" "java/lang/Object") ∈ lw_tbl := lw_at lw_m11 73 rfl

theorem q2594 : (Jvm.Cond.castable "[Z" "java/lang/Object") ∈ lw_tbl := lw_at lw_m11 75 rfl
theorem q129 : (Jvm.Cond.initialized "java/lang/System") ∈ lw_all := lw_g (lw_at lw_m1 10 rfl) rfl
theorem q348 : (Jvm.Cond.static ({ cls := "java/lang/System", name := "arraycopy", desc := "(Ljava/lang/Object;ILjava/lang/Object;II)V" } : Jvm.MethodName)) ∈ lw_all := lw_g (lw_at lw_m1 229 rfl) rfl
theorem q349 : (Jvm.Cond.native ({ cls := "java/lang/System", name := "arraycopy", desc := "(Ljava/lang/Object;ILjava/lang/Object;II)V" } : Jvm.MethodName)) ∈ lw_all := lw_g (lw_at lw_m1 230 rfl) rfl

theorem q204 : (Jvm.Cond.arrayClass Jvm.ClassFile.FieldType.byte) ∈ lw_all := lw_g (lw_at lw_m1 85 rfl) rfl
theorem q304 : (Jvm.Cond.arrayClass Jvm.ClassFile.FieldType.int) ∈ lw_all := lw_g (lw_at lw_m1 185 rfl) rfl
theorem q350 : (Jvm.Cond.arrayOver (Jvm.ClassFile.FieldType.object "StrangerMarket$Market")) ∈ lw_tbl := lw_at lw_m1 231 rfl
theorem q353 : (Jvm.Cond.arrayOver (Jvm.ClassFile.FieldType.object "StrangerMarket$Kept")) ∈ lw_tbl := lw_at lw_m1 234 rfl
theorem q1022 : (Jvm.Cond.arrayOver (Jvm.ClassFile.FieldType.object "java/lang/Object")) ∈ lw_tbl := lw_at lw_m4 183 rfl
theorem q2090 : (Jvm.Cond.arrayClass Jvm.ClassFile.FieldType.long) ∈ lw_all := lw_g (lw_at lw_m9 51 rfl) rfl
theorem q2091 : (Jvm.Cond.arrayClass Jvm.ClassFile.FieldType.boolean) ∈ lw_all := lw_g (lw_at lw_m9 52 rfl) rfl

