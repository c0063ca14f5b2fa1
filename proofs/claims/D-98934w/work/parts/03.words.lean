/-! the tables' words by their places (printed by wip/D-98934w/gen/base.py out of claim/names) -/
set_option maxRecDepth 100000
theorem q115 : (Jvm.Cond.initialized "java/util/AbstractCollection") ∈ lw_all := lw_g (lw_at lw_m1 3 rfl) rfl
theorem q182 : (Jvm.Cond.instanceMethod ({ cls := "java/util/AbstractCollection", name := "<init>", desc := "()V" } : Jvm.MethodName)) ∈ lw_all := lw_g (lw_at lw_m1 70 rfl) rfl
theorem q183 : (Jvm.Cond.code ({ cls := "java/util/AbstractCollection", name := "<init>", desc := "()V" } : Jvm.MethodName) prog_48_method_1_code (1 : Nat) (Option.none : Option Jvm.ClassFile.FieldType)) ∈ lw_all := lw_g (lw_at lw_m1 71 rfl) rfl
theorem q184 : (Jvm.Cond.methodLink "java/util/AbstractCollection" (1 : Nat) ({ cls := "java/lang/Object", name := "<init>", desc := "()V" } : Jvm.MethodName)) ∈ lw_all := lw_g (lw_at lw_m1 72 rfl) rfl
theorem q116 : (Jvm.Cond.initialized "java/util/AbstractList") ∈ lw_all := lw_g (lw_at lw_m1 4 rfl) rfl
theorem q179 : (Jvm.Cond.instanceMethod ({ cls := "java/util/AbstractList", name := "<init>", desc := "()V" } : Jvm.MethodName)) ∈ lw_all := lw_g (lw_at lw_m1 67 rfl) rfl
theorem q180 : (Jvm.Cond.code ({ cls := "java/util/AbstractList", name := "<init>", desc := "()V" } : Jvm.MethodName) prog_49_method_1_code (1 : Nat) (Option.none : Option Jvm.ClassFile.FieldType)) ∈ lw_all := lw_g (lw_at lw_m1 68 rfl) rfl
theorem q181 : (Jvm.Cond.methodLink "java/util/AbstractList" (1 : Nat) ({ cls := "java/util/AbstractCollection", name := "<init>", desc := "()V" } : Jvm.MethodName)) ∈ lw_all := lw_g (lw_at lw_m1 69 rfl) rfl
theorem q189 : (Jvm.Cond.fieldLink "java/util/AbstractList" (7 : Nat) "java/util/AbstractList" "modCount" "I") ∈ lw_all := lw_g (lw_at lw_m1 77 rfl) rfl
theorem q197 : (Jvm.Cond.soleField "java/util/AbstractList" "modCount") ∈ lw_all := lw_g (lw_at lw_m1 85 rfl) rfl
theorem q130 : (Jvm.Cond.initialized "jdk/internal/util/ArraysSupport") ∈ lw_all := lw_g (lw_at lw_m1 18 rfl) rfl
theorem q579 : (Jvm.Cond.static ({ cls := "jdk/internal/util/ArraysSupport", name := "newLength", desc := "(III)I" } : Jvm.MethodName)) ∈ lw_all := lw_g (lw_at lw_m2 227 rfl) rfl
theorem q580 : (Jvm.Cond.code ({ cls := "jdk/internal/util/ArraysSupport", name := "newLength", desc := "(III)I" } : Jvm.MethodName) prog_58_method_27_code (4 : Nat) (Option.some Jvm.ClassFile.FieldType.int)) ∈ lw_all := lw_g (lw_at lw_m2 228 rfl) rfl
theorem q581 : (Jvm.Cond.methodLink "jdk/internal/util/ArraysSupport" (194 : Nat) ({ cls := "java/lang/Math", name := "max", desc := "(II)I" } : Jvm.MethodName)) ∈ lw_all := lw_g (lw_at lw_m2 229 rfl) rfl
theorem q584 : (Jvm.Cond.constant "jdk/internal/util/ArraysSupport" (200 : Nat) (2147483639 : Int32)) ∈ lw_all := lw_g (lw_at lw_m2 232 rfl) rfl
theorem q585 : (Jvm.Cond.methodLink "jdk/internal/util/ArraysSupport" (201 : Nat) ({ cls := "jdk/internal/util/ArraysSupport", name := "hugeLength", desc := "(II)I" } : Jvm.MethodName)) ∈ lw_all := lw_g (lw_at lw_m2 233 rfl) rfl
theorem q586 : (Jvm.Cond.static ({ cls := "jdk/internal/util/ArraysSupport", name := "hugeLength", desc := "(II)I" } : Jvm.MethodName)) ∈ lw_all := lw_g (lw_at lw_m2 234 rfl) rfl
theorem q587 : (Jvm.Cond.code ({ cls := "jdk/internal/util/ArraysSupport", name := "hugeLength", desc := "(II)I" } : Jvm.MethodName) prog_58_method_28_code (3 : Nat) (Option.some Jvm.ClassFile.FieldType.int)) ∈ lw_all := lw_g (lw_at lw_m2 235 rfl) rfl
theorem q131 : (Jvm.Cond.initialized "java/lang/Math") ∈ lw_all := lw_g (lw_at lw_m1 19 rfl) rfl
theorem q582 : (Jvm.Cond.static ({ cls := "java/lang/Math", name := "max", desc := "(II)I" } : Jvm.MethodName)) ∈ lw_all := lw_g (lw_at lw_m2 230 rfl) rfl
theorem q583 : (Jvm.Cond.code ({ cls := "java/lang/Math", name := "max", desc := "(II)I" } : Jvm.MethodName) prog_38_method_65_code (2 : Nat) (Option.some Jvm.ClassFile.FieldType.int)) ∈ lw_all := lw_g (lw_at lw_m2 231 rfl) rfl
theorem q600 : (Jvm.Cond.static ({ cls := "java/lang/Math", name := "min", desc := "(II)I" } : Jvm.MethodName)) ∈ lw_all := lw_g (lw_at lw_m3 8 rfl) rfl
theorem q601 : (Jvm.Cond.code ({ cls := "java/lang/Math", name := "min", desc := "(II)I" } : Jvm.MethodName) prog_38_method_69_code (2 : Nat) (Option.some Jvm.ClassFile.FieldType.int)) ∈ lw_all := lw_g (lw_at lw_m3 9 rfl) rfl
theorem q133 : (Jvm.Cond.initialized "java/lang/StringLatin1") ∈ lw_all := lw_g (lw_at lw_m1 21 rfl) rfl
theorem q611 : (Jvm.Cond.static ({ cls := "java/lang/StringLatin1", name := "canEncode", desc := "(C)Z" } : Jvm.MethodName)) ∈ lw_all := lw_g (lw_at lw_m3 19 rfl) rfl
theorem q612 : (Jvm.Cond.code ({ cls := "java/lang/StringLatin1", name := "canEncode", desc := "(C)Z" } : Jvm.MethodName) prog_42_method_3_code (1 : Nat) (Option.some Jvm.ClassFile.FieldType.boolean)) ∈ lw_all := lw_g (lw_at lw_m3 20 rfl) rfl
theorem q618 : (Jvm.Cond.static ({ cls := "java/lang/StringLatin1", name := "inflate", desc := "([BI[BII)V" } : Jvm.MethodName)) ∈ lw_all := lw_g (lw_at lw_m3 26 rfl) rfl
theorem q619 : (Jvm.Cond.code ({ cls := "java/lang/StringLatin1", name := "inflate", desc := "([BI[BII)V" } : Jvm.MethodName) prog_42_method_50_code (5 : Nat) (Option.none : Option Jvm.ClassFile.FieldType)) ∈ lw_all := lw_g (lw_at lw_m3 27 rfl) rfl
theorem q620 : (Jvm.Cond.methodLink "java/lang/StringLatin1" (240 : Nat) ({ cls := "java/lang/StringUTF16", name := "inflate", desc := "([BI[BII)V" } : Jvm.MethodName)) ∈ lw_all := lw_g (lw_at lw_m3 28 rfl) rfl
theorem q734 : (Jvm.Cond.static ({ cls := "java/lang/StringLatin1", name := "equals", desc := "([B[B)Z" } : Jvm.MethodName)) ∈ lw_all := lw_g (lw_at lw_m3 142 rfl) rfl
theorem q735 : (Jvm.Cond.code ({ cls := "java/lang/StringLatin1", name := "equals", desc := "([B[B)Z" } : Jvm.MethodName) prog_42_method_13_code (3 : Nat) (Option.some Jvm.ClassFile.FieldType.boolean)) ∈ lw_all := lw_g (lw_at lw_m3 143 rfl) rfl
theorem q886 : (Jvm.Cond.static ({ cls := "java/lang/StringLatin1", name := "indexOf", desc := "([B[B)I" } : Jvm.MethodName)) ∈ lw_all := lw_g (lw_at lw_m4 54 rfl) rfl
theorem q887 : (Jvm.Cond.code ({ cls := "java/lang/StringLatin1", name := "indexOf", desc := "([B[B)I" } : Jvm.MethodName) prog_42_method_24_code (2 : Nat) (Option.some Jvm.ClassFile.FieldType.int)) ∈ lw_all := lw_g (lw_at lw_m4 55 rfl) rfl
theorem q888 : (Jvm.Cond.methodLink "java/lang/StringLatin1" (99 : Nat) ({ cls := "java/lang/StringLatin1", name := "indexOf", desc := "([BI[BII)I" } : Jvm.MethodName)) ∈ lw_all := lw_g (lw_at lw_m4 56 rfl) rfl
theorem q889 : (Jvm.Cond.static ({ cls := "java/lang/StringLatin1", name := "indexOf", desc := "([BI[BII)I" } : Jvm.MethodName)) ∈ lw_all := lw_g (lw_at lw_m4 57 rfl) rfl
theorem q890 : (Jvm.Cond.code ({ cls := "java/lang/StringLatin1", name := "indexOf", desc := "([BI[BII)I" } : Jvm.MethodName) prog_42_method_25_code (11 : Nat) (Option.some Jvm.ClassFile.FieldType.int)) ∈ lw_all := lw_g (lw_at lw_m4 58 rfl) rfl
theorem q134 : (Jvm.Cond.initialized "java/lang/Throwable") ∈ lw_all := lw_g (lw_at lw_m1 22 rfl) rfl
theorem q756 : (Jvm.Cond.declares ({ cls := "java/lang/Throwable", name := "<init>", desc := "()V" } : Jvm.MethodName)) ∈ lw_tbl := lw_at lw_m3 164 rfl
theorem q757 : (Jvm.Cond.declares ({ cls := "java/lang/Throwable", name := "<init>", desc := "(Ljava/lang/String;)V" } : Jvm.MethodName)) ∈ lw_tbl := lw_at lw_m3 165 rfl
theorem q761 : (Jvm.Cond.lays "java/lang/Throwable" "java/lang/Throwable" "cause" "Ljava/lang/Throwable;") ∈ lw_all := lw_g (lw_at lw_m3 169 rfl) rfl
theorem q763 : (Jvm.Cond.lays "java/lang/Throwable" "java/lang/Throwable" "stackTrace" "[Ljava/lang/StackTraceElement;") ∈ lw_all := lw_g (lw_at lw_m3 171 rfl) rfl
theorem q765 : (Jvm.Cond.lays "java/lang/Throwable" "java/lang/Throwable" "suppressedExceptions" "Ljava/util/List;") ∈ lw_all := lw_g (lw_at lw_m3 173 rfl) rfl
theorem q767 : (Jvm.Cond.lays "java/lang/Throwable" "java/lang/Throwable" "detailMessage" "Ljava/lang/String;") ∈ lw_all := lw_g (lw_at lw_m3 175 rfl) rfl
theorem q769 : (Jvm.Cond.lays "java/lang/Throwable" "java/lang/Throwable" "backtrace" "Ljava/lang/Object;") ∈ lw_all := lw_g (lw_at lw_m3 177 rfl) rfl
theorem q770 : (Jvm.Cond.fieldLink "java/lang/Throwable" (198 : Nat) "java/lang/Throwable" "backtrace" "Ljava/lang/Object;") ∈ lw_all := lw_g (lw_at lw_m3 178 rfl) rfl
theorem q771 : (Jvm.Cond.superclass "java/lang/Throwable" "java/lang/Object") ∈ lw_all := lw_g (lw_at lw_m3 179 rfl) rfl
theorem q772 : (Jvm.Cond.instanceMethod ({ cls := "java/lang/Throwable", name := "<init>", desc := "()V" } : Jvm.MethodName)) ∈ lw_all := lw_g (lw_at lw_m3 180 rfl) rfl
theorem q773 : (Jvm.Cond.code ({ cls := "java/lang/Throwable", name := "<init>", desc := "()V" } : Jvm.MethodName) prog_45_method_1_code (1 : Nat) (Option.none : Option Jvm.ClassFile.FieldType)) ∈ lw_all := lw_g (lw_at lw_m3 181 rfl) rfl
theorem q774 : (Jvm.Cond.methodLink "java/lang/Throwable" (1 : Nat) ({ cls := "java/lang/Object", name := "<init>", desc := "()V" } : Jvm.MethodName)) ∈ lw_all := lw_g (lw_at lw_m3 182 rfl) rfl
theorem q775 : (Jvm.Cond.fieldLink "java/lang/Throwable" (13 : Nat) "java/lang/Throwable" "UNASSIGNED_STACK" "[Ljava/lang/StackTraceElement;") ∈ lw_all := lw_g (lw_at lw_m3 183 rfl) rfl
theorem q776 : (Jvm.Cond.laysStatic "java/lang/Throwable" "UNASSIGNED_STACK" "[Ljava/lang/StackTraceElement;") ∈ lw_tbl := lw_at lw_m3 184 rfl
theorem q777 : (Jvm.Cond.fieldLink "java/lang/Throwable" (20 : Nat) "java/lang/Throwable" "SUPPRESSED_SENTINEL" "Ljava/util/List;") ∈ lw_all := lw_g (lw_at lw_m3 185 rfl) rfl
theorem q778 : (Jvm.Cond.laysStatic "java/lang/Throwable" "SUPPRESSED_SENTINEL" "Ljava/util/List;") ∈ lw_tbl := lw_at lw_m3 186 rfl
theorem q779 : (Jvm.Cond.methodLink "java/lang/Throwable" (27 : Nat) ({ cls := "java/lang/Throwable", name := "fillInStackTrace", desc := "()Ljava/lang/Throwable;" } : Jvm.MethodName)) ∈ lw_all := lw_g (lw_at lw_m3 187 rfl) rfl
theorem q780 : (Jvm.Cond.instanceMethod ({ cls := "java/lang/Throwable", name := "fillInStackTrace", desc := "()Ljava/lang/Throwable;" } : Jvm.MethodName)) ∈ lw_all := lw_g (lw_at lw_m3 188 rfl) rfl
theorem q781 : (Jvm.Cond.sameMethod "java/lang/Throwable" "java/lang/Throwable" "fillInStackTrace" "()Ljava/lang/Throwable;") ∈ lw_all := lw_g (lw_at lw_m3 189 rfl) rfl
theorem q783 : (Jvm.Cond.codeSync ({ cls := "java/lang/Throwable", name := "fillInStackTrace", desc := "()Ljava/lang/Throwable;" } : Jvm.MethodName) prog_45_method_18_code (1 : Nat) (Option.some (Jvm.ClassFile.FieldType.object "java/lang/Throwable"))) ∈ lw_all := lw_g (lw_at lw_m3 191 rfl) rfl
theorem q784 : (Jvm.Cond.methodLink "java/lang/Throwable" (202 : Nat) ({ cls := "java/lang/Throwable", name := "fillInStackTrace", desc := "(I)Ljava/lang/Throwable;" } : Jvm.MethodName)) ∈ lw_all := lw_g (lw_at lw_m3 192 rfl) rfl
theorem q785 : (Jvm.Cond.privateMethod ({ cls := "java/lang/Throwable", name := "fillInStackTrace", desc := "(I)Ljava/lang/Throwable;" } : Jvm.MethodName)) ∈ lw_tbl := lw_at lw_m3 193 rfl
theorem q786 : (Jvm.Cond.instanceMethod ({ cls := "java/lang/Throwable", name := "fillInStackTrace", desc := "(I)Ljava/lang/Throwable;" } : Jvm.MethodName)) ∈ lw_all := lw_g (lw_at lw_m3 194 rfl) rfl
theorem q787 : (Jvm.Cond.instantiable "java/lang/Throwable" (6 : Nat)) ∈ lw_all := lw_g (lw_at lw_m3 195 rfl) rfl
theorem q788 : (Jvm.Cond.native ({ cls := "java/lang/Throwable", name := "fillInStackTrace", desc := "(I)Ljava/lang/Throwable;" } : Jvm.MethodName)) ∈ lw_all := lw_g (lw_at lw_m3 196 rfl) rfl
theorem q796 : (Jvm.Cond.instanceMethod ({ cls := "java/lang/Throwable", name := "<init>", desc := "(Ljava/lang/String;Ljava/lang/Throwable;ZZ)V" } : Jvm.MethodName)) ∈ lw_all := lw_g (lw_at lw_m3 204 rfl) rfl
theorem q797 : (Jvm.Cond.code ({ cls := "java/lang/Throwable", name := "<init>", desc := "(Ljava/lang/String;Ljava/lang/Throwable;ZZ)V" } : Jvm.MethodName) prog_45_method_5_code (5 : Nat) (Option.none : Option Jvm.ClassFile.FieldType)) ∈ lw_all := lw_g (lw_at lw_m3 205 rfl) rfl
theorem q802 : (Jvm.Cond.fieldLink "java/lang/Throwable" (198 : Nat) "java/lang/Throwable" "backtrace" "Ljava/lang/Object;") ∈ lw_all := lw_g (lw_at lw_m3 210 rfl) rfl
theorem q803 : (Jvm.Cond.fieldLink "java/lang/Throwable" (31 : Nat) "java/lang/Throwable" "detailMessage" "Ljava/lang/String;") ∈ lw_all := lw_g (lw_at lw_m3 211 rfl) rfl
theorem q804 : (Jvm.Cond.fieldLink "java/lang/Throwable" (7 : Nat) "java/lang/Throwable" "cause" "Ljava/lang/Throwable;") ∈ lw_all := lw_g (lw_at lw_m3 212 rfl) rfl
theorem q805 : (Jvm.Cond.fieldLink "java/lang/Throwable" (17 : Nat) "java/lang/Throwable" "stackTrace" "[Ljava/lang/StackTraceElement;") ∈ lw_all := lw_g (lw_at lw_m3 213 rfl) rfl
theorem q806 : (Jvm.Cond.fieldLink "java/lang/Throwable" (24 : Nat) "java/lang/Throwable" "suppressedExceptions" "Ljava/util/List;") ∈ lw_all := lw_g (lw_at lw_m3 214 rfl) rfl
theorem q811 : (Jvm.Cond.soleField "java/lang/Throwable" "backtrace") ∈ lw_all := lw_g (lw_at lw_m3 219 rfl) rfl
theorem q812 : (Jvm.Cond.soleField "java/lang/Throwable" "detailMessage") ∈ lw_all := lw_g (lw_at lw_m3 220 rfl) rfl
theorem q813 : (Jvm.Cond.soleField "java/lang/Throwable" "cause") ∈ lw_all := lw_g (lw_at lw_m3 221 rfl) rfl
theorem q814 : (Jvm.Cond.soleField "java/lang/Throwable" "stackTrace") ∈ lw_all := lw_g (lw_at lw_m3 222 rfl) rfl
theorem q816 : (Jvm.Cond.soleField "java/lang/Throwable" "depth") ∈ lw_all := lw_g (lw_at lw_m3 224 rfl) rfl
theorem q817 : (Jvm.Cond.soleField "java/lang/Throwable" "suppressedExceptions") ∈ lw_all := lw_g (lw_at lw_m3 225 rfl) rfl
theorem q2512 : (Jvm.Cond.sameMethod "java/lang/Throwable" "java/lang/Throwable" "fillInStackTrace" "(I)Ljava/lang/Throwable;") ∈ lw_all := lw_g (lw_at lw_m11 0 rfl) rfl
theorem q2566 : (Jvm.Cond.castable "java/lang/Throwable" "java/lang/Object") ∈ lw_tbl := lw_at lw_m11 54 rfl
theorem q135 : (Jvm.Cond.initialized "java/lang/Exception") ∈ lw_all := lw_g (lw_at lw_m1 23 rfl) rfl
theorem q754 : (Jvm.Cond.declares ({ cls := "java/lang/Exception", name := "<init>", desc := "()V" } : Jvm.MethodName)) ∈ lw_tbl := lw_at lw_m3 162 rfl
theorem q755 : (Jvm.Cond.declares ({ cls := "java/lang/Exception", name := "<init>", desc := "(Ljava/lang/String;)V" } : Jvm.MethodName)) ∈ lw_tbl := lw_at lw_m3 163 rfl
theorem q793 : (Jvm.Cond.instanceMethod ({ cls := "java/lang/Exception", name := "<init>", desc := "(Ljava/lang/String;Ljava/lang/Throwable;ZZ)V" } : Jvm.MethodName)) ∈ lw_all := lw_g (lw_at lw_m3 201 rfl) rfl
theorem q794 : (Jvm.Cond.code ({ cls := "java/lang/Exception", name := "<init>", desc := "(Ljava/lang/String;Ljava/lang/Throwable;ZZ)V" } : Jvm.MethodName) prog_35_method_5_code (5 : Nat) (Option.none : Option Jvm.ClassFile.FieldType)) ∈ lw_all := lw_g (lw_at lw_m3 202 rfl) rfl
theorem q795 : (Jvm.Cond.methodLink "java/lang/Exception" (16 : Nat) ({ cls := "java/lang/Throwable", name := "<init>", desc := "(Ljava/lang/String;Ljava/lang/Throwable;ZZ)V" } : Jvm.MethodName)) ∈ lw_all := lw_g (lw_at lw_m3 203 rfl) rfl
theorem q1847 : (Jvm.Cond.instanceMethod ({ cls := "java/lang/Exception", name := "<init>", desc := "()V" } : Jvm.MethodName)) ∈ lw_all := lw_g (lw_at lw_m8 55 rfl) rfl
theorem q1848 : (Jvm.Cond.code ({ cls := "java/lang/Exception", name := "<init>", desc := "()V" } : Jvm.MethodName) prog_35_method_1_code (1 : Nat) (Option.none : Option Jvm.ClassFile.FieldType)) ∈ lw_all := lw_g (lw_at lw_m8 56 rfl) rfl
theorem q1849 : (Jvm.Cond.methodLink "java/lang/Exception" (1 : Nat) ({ cls := "java/lang/Throwable", name := "<init>", desc := "()V" } : Jvm.MethodName)) ∈ lw_all := lw_g (lw_at lw_m8 57 rfl) rfl
theorem q140 : (Jvm.Cond.initialized "java/lang/RuntimeException") ∈ lw_all := lw_g (lw_at lw_m1 28 rfl) rfl
theorem q1832 : (Jvm.Cond.declares ({ cls := "java/lang/RuntimeException", name := "<init>", desc := "()V" } : Jvm.MethodName)) ∈ lw_tbl := lw_at lw_m8 40 rfl
theorem q1833 : (Jvm.Cond.declares ({ cls := "java/lang/RuntimeException", name := "<init>", desc := "(Ljava/lang/String;)V" } : Jvm.MethodName)) ∈ lw_tbl := lw_at lw_m8 41 rfl
theorem q1844 : (Jvm.Cond.instanceMethod ({ cls := "java/lang/RuntimeException", name := "<init>", desc := "()V" } : Jvm.MethodName)) ∈ lw_all := lw_g (lw_at lw_m8 52 rfl) rfl
theorem q1845 : (Jvm.Cond.code ({ cls := "java/lang/RuntimeException", name := "<init>", desc := "()V" } : Jvm.MethodName) prog_39_method_1_code (1 : Nat) (Option.none : Option Jvm.ClassFile.FieldType)) ∈ lw_all := lw_g (lw_at lw_m8 53 rfl) rfl
theorem q1846 : (Jvm.Cond.methodLink "java/lang/RuntimeException" (1 : Nat) ({ cls := "java/lang/Exception", name := "<init>", desc := "()V" } : Jvm.MethodName)) ∈ lw_all := lw_g (lw_at lw_m8 54 rfl) rfl
theorem q141 : (Jvm.Cond.initialized "java/util/NoSuchElementException") ∈ lw_all := lw_g (lw_at lw_m1 29 rfl) rfl
theorem q782 : (Jvm.Cond.selects "java/util/NoSuchElementException" ({ cls := "java/lang/Throwable", name := "fillInStackTrace", desc := "()Ljava/lang/Throwable;" } : Jvm.MethodName) ({ cls := "java/lang/Throwable", name := "fillInStackTrace", desc := "()Ljava/lang/Throwable;" } : Jvm.MethodName)) ∈ lw_all := lw_g (lw_at lw_m3 190 rfl) rfl
theorem q997 : (Jvm.Cond.selects "java/util/NoSuchElementException" ({ cls := "java/lang/Object", name := "getClass", desc := "()Ljava/lang/Class;" } : Jvm.MethodName) ({ cls := "java/lang/Object", name := "getClass", desc := "()Ljava/lang/Class;" } : Jvm.MethodName)) ∈ lw_all := lw_g (lw_at lw_m4 165 rfl) rfl
theorem q1830 : (Jvm.Cond.instantiable "java/util/NoSuchElementException" (6 : Nat)) ∈ lw_all := lw_g (lw_at lw_m8 38 rfl) rfl
theorem q1831 : (Jvm.Cond.castable "java/util/NoSuchElementException" "java/util/NoSuchElementException") ∈ lw_tbl := lw_at lw_m8 39 rfl
theorem q1834 : (Jvm.Cond.selects "java/util/NoSuchElementException" ({ cls := "java/lang/Throwable", name := "fillInStackTrace", desc := "(I)Ljava/lang/Throwable;" } : Jvm.MethodName) ({ cls := "java/lang/Throwable", name := "fillInStackTrace", desc := "(I)Ljava/lang/Throwable;" } : Jvm.MethodName)) ∈ lw_all := lw_g (lw_at lw_m8 42 rfl) rfl
theorem q1835 : (Jvm.Cond.lays "java/util/NoSuchElementException" "java/lang/Throwable" "cause" "Ljava/lang/Throwable;") ∈ lw_all := lw_g (lw_at lw_m8 43 rfl) rfl
theorem q1836 : (Jvm.Cond.lays "java/util/NoSuchElementException" "java/lang/Throwable" "stackTrace" "[Ljava/lang/StackTraceElement;") ∈ lw_all := lw_g (lw_at lw_m8 44 rfl) rfl
theorem q1837 : (Jvm.Cond.lays "java/util/NoSuchElementException" "java/lang/Throwable" "suppressedExceptions" "Ljava/util/List;") ∈ lw_all := lw_g (lw_at lw_m8 45 rfl) rfl
theorem q1838 : (Jvm.Cond.lays "java/util/NoSuchElementException" "java/lang/Throwable" "detailMessage" "Ljava/lang/String;") ∈ lw_all := lw_g (lw_at lw_m8 46 rfl) rfl
theorem q1839 : (Jvm.Cond.lays "java/util/NoSuchElementException" "java/lang/Throwable" "backtrace" "Ljava/lang/Object;") ∈ lw_all := lw_g (lw_at lw_m8 47 rfl) rfl
theorem q1841 : (Jvm.Cond.instanceMethod ({ cls := "java/util/NoSuchElementException", name := "<init>", desc := "()V" } : Jvm.MethodName)) ∈ lw_all := lw_g (lw_at lw_m8 49 rfl) rfl
theorem q1842 : (Jvm.Cond.code ({ cls := "java/util/NoSuchElementException", name := "<init>", desc := "()V" } : Jvm.MethodName) prog_54_method_1_code (1 : Nat) (Option.none : Option Jvm.ClassFile.FieldType)) ∈ lw_all := lw_g (lw_at lw_m8 50 rfl) rfl
theorem q1843 : (Jvm.Cond.methodLink "java/util/NoSuchElementException" (1 : Nat) ({ cls := "java/lang/RuntimeException", name := "<init>", desc := "()V" } : Jvm.MethodName)) ∈ lw_all := lw_g (lw_at lw_m8 51 rfl) rfl
theorem q1850 : (Jvm.Cond.lays "java/util/NoSuchElementException" "java/lang/Throwable" "depth" "I") ∈ lw_all := lw_g (lw_at lw_m8 58 rfl) rfl
theorem q1851 : (Jvm.Cond.superclass "java/util/NoSuchElementException" "java/lang/RuntimeException") ∈ lw_all := lw_g (lw_at lw_m8 59 rfl) rfl
theorem q2553 : (Jvm.Cond.castable "java/util/NoSuchElementException" "java/lang/Object") ∈ lw_tbl := lw_at lw_m11 41 rfl
theorem q149 : (Jvm.Cond.initialized "java/lang/Integer") ∈ lw_all := lw_g (lw_at lw_m1 37 rfl) rfl
theorem q1376 : (Jvm.Cond.static ({ cls := "java/lang/Integer", name := "bitCount", desc := "(I)I" } : Jvm.MethodName)) ∈ lw_all := lw_g (lw_at lw_m6 64 rfl) rfl
theorem q1377 : (Jvm.Cond.code ({ cls := "java/lang/Integer", name := "bitCount", desc := "(I)I" } : Jvm.MethodName) prog_36_method_49_code (1 : Nat) (Option.some Jvm.ClassFile.FieldType.int)) ∈ lw_all := lw_g (lw_at lw_m6 65 rfl) rfl
theorem q1378 : (Jvm.Cond.constant "java/lang/Integer" (265 : Nat) (1431655765 : Int32)) ∈ lw_all := lw_g (lw_at lw_m6 66 rfl) rfl
theorem q1379 : (Jvm.Cond.constant "java/lang/Integer" (266 : Nat) (858993459 : Int32)) ∈ lw_all := lw_g (lw_at lw_m6 67 rfl) rfl
theorem q1380 : (Jvm.Cond.constant "java/lang/Integer" (267 : Nat) (252645135 : Int32)) ∈ lw_all := lw_g (lw_at lw_m6 68 rfl) rfl
theorem q165 : (Jvm.Cond.instanceMethod ({ cls := "java/lang/Object", name := "<init>", desc := "()V" } : Jvm.MethodName)) ∈ lw_all := lw_g (lw_at lw_m1 53 rfl) rfl
theorem q166 : (Jvm.Cond.code ({ cls := "java/lang/Object", name := "<init>", desc := "()V" } : Jvm.MethodName) object_method_1_code (1 : Nat) (Option.none : Option Jvm.ClassFile.FieldType)) ∈ lw_all := lw_g (lw_at lw_m1 54 rfl) rfl
theorem q594 : (Jvm.Cond.native ({ cls := "java/lang/Object", name := "clone", desc := "()Ljava/lang/Object;" } : Jvm.MethodName)) ∈ lw_all := lw_g (lw_at lw_m3 2 rfl) rfl
theorem q595 : (Jvm.Cond.instanceMethod ({ cls := "java/lang/Object", name := "clone", desc := "()Ljava/lang/Object;" } : Jvm.MethodName)) ∈ lw_all := lw_g (lw_at lw_m3 3 rfl) rfl
theorem q971 : (Jvm.Cond.instanceMethod ({ cls := "java/lang/Object", name := "getClass", desc := "()Ljava/lang/Class;" } : Jvm.MethodName)) ∈ lw_all := lw_g (lw_at lw_m4 139 rfl) rfl
theorem q972 : (Jvm.Cond.sameMethod "java/lang/Object" "java/lang/Object" "getClass" "()Ljava/lang/Class;") ∈ lw_all := lw_g (lw_at lw_m4 140 rfl) rfl
theorem q998 : (Jvm.Cond.native ({ cls := "java/lang/Object", name := "getClass", desc := "()Ljava/lang/Class;" } : Jvm.MethodName)) ∈ lw_all := lw_g (lw_at lw_m4 166 rfl) rfl
theorem q2533 : (Jvm.Cond.initialized "java/lang/Object") ∈ lw_all := lw_g (lw_at lw_m11 21 rfl) rfl
theorem q2569 : (Jvm.Cond.declares ({ cls := "java/lang/Object", name := "getClass", desc := "()Ljava/lang/Class;" } : Jvm.MethodName)) ∈ lw_tbl := lw_at lw_m11 57 rfl
theorem q117 : (Jvm.Cond.initialized "java/util/ArrayList") ∈ lw_all := lw_g (lw_at lw_m1 5 rfl) rfl
theorem q174 : (Jvm.Cond.instantiable "java/util/ArrayList" (3 : Nat)) ∈ lw_all := lw_g (lw_at lw_m1 62 rfl) rfl
theorem q176 : (Jvm.Cond.instanceMethod ({ cls := "java/util/ArrayList", name := "<init>", desc := "()V" } : Jvm.MethodName)) ∈ lw_all := lw_g (lw_at lw_m1 64 rfl) rfl
theorem q177 : (Jvm.Cond.code ({ cls := "java/util/ArrayList", name := "<init>", desc := "()V" } : Jvm.MethodName) prog_50_method_2_code (1 : Nat) (Option.none : Option Jvm.ClassFile.FieldType)) ∈ lw_all := lw_g (lw_at lw_m1 65 rfl) rfl
theorem q178 : (Jvm.Cond.methodLink "java/util/ArrayList" (1 : Nat) ({ cls := "java/util/AbstractList", name := "<init>", desc := "()V" } : Jvm.MethodName)) ∈ lw_all := lw_g (lw_at lw_m1 66 rfl) rfl
theorem q185 : (Jvm.Cond.fieldLink "java/util/ArrayList" (39 : Nat) "java/util/ArrayList" "DEFAULTCAPACITY_EMPTY_ELEMENTDATA" "[Ljava/lang/Object;") ∈ lw_all := lw_g (lw_at lw_m1 73 rfl) rfl
theorem q186 : (Jvm.Cond.laysStatic "java/util/ArrayList" "DEFAULTCAPACITY_EMPTY_ELEMENTDATA" "[Ljava/lang/Object;") ∈ lw_tbl := lw_at lw_m1 74 rfl
theorem q187 : (Jvm.Cond.fieldLink "java/util/ArrayList" (9 : Nat) "java/util/ArrayList" "elementData" "[Ljava/lang/Object;") ∈ lw_all := lw_g (lw_at lw_m1 75 rfl) rfl
theorem q188 : (Jvm.Cond.fieldLink "java/util/ArrayList" (48 : Nat) "java/util/ArrayList" "size" "I") ∈ lw_all := lw_g (lw_at lw_m1 76 rfl) rfl
theorem q190 : (Jvm.Cond.fieldLink "java/util/ArrayList" (63 : Nat) "java/util/ArrayList" "modCount" "I") ∈ lw_all := lw_g (lw_at lw_m1 78 rfl) rfl
theorem q191 : (Jvm.Cond.sameField "java/util/ArrayList" "java/util/AbstractList" "modCount" "I") ∈ lw_all := lw_g (lw_at lw_m1 79 rfl) rfl
theorem q192 : (Jvm.Cond.lays "java/util/ArrayList" "java/util/ArrayList" "elementData" "[Ljava/lang/Object;") ∈ lw_all := lw_g (lw_at lw_m1 80 rfl) rfl
theorem q193 : (Jvm.Cond.soleField "java/util/ArrayList" "elementData") ∈ lw_all := lw_g (lw_at lw_m1 81 rfl) rfl
theorem q194 : (Jvm.Cond.lays "java/util/ArrayList" "java/util/ArrayList" "size" "I") ∈ lw_all := lw_g (lw_at lw_m1 82 rfl) rfl
theorem q195 : (Jvm.Cond.soleField "java/util/ArrayList" "size") ∈ lw_all := lw_g (lw_at lw_m1 83 rfl) rfl
theorem q196 : (Jvm.Cond.lays "java/util/ArrayList" "java/util/AbstractList" "modCount" "I") ∈ lw_all := lw_g (lw_at lw_m1 84 rfl) rfl
theorem q198 : (Jvm.Cond.superclass "java/util/ArrayList" "java/util/AbstractList") ∈ lw_all := lw_g (lw_at lw_m1 86 rfl) rfl
theorem q341 : (Jvm.Cond.instanceMethod ({ cls := "java/util/ArrayList", name := "size", desc := "()I" } : Jvm.MethodName)) ∈ lw_all := lw_g (lw_at lw_m1 229 rfl) rfl
theorem q342 : (Jvm.Cond.selects "java/util/ArrayList" ({ cls := "java/util/ArrayList", name := "size", desc := "()I" } : Jvm.MethodName) ({ cls := "java/util/ArrayList", name := "size", desc := "()I" } : Jvm.MethodName)) ∈ lw_all := lw_g (lw_at lw_m1 230 rfl) rfl
theorem q343 : (Jvm.Cond.code ({ cls := "java/util/ArrayList", name := "size", desc := "()I" } : Jvm.MethodName) prog_50_method_8_code (1 : Nat) (Option.some Jvm.ClassFile.FieldType.int)) ∈ lw_all := lw_g (lw_at lw_m1 231 rfl) rfl
theorem q345 : (Jvm.Cond.instanceMethod ({ cls := "java/util/ArrayList", name := "get", desc := "(I)Ljava/lang/Object;" } : Jvm.MethodName)) ∈ lw_all := lw_g (lw_at lw_m1 233 rfl) rfl
theorem q346 : (Jvm.Cond.selects "java/util/ArrayList" ({ cls := "java/util/ArrayList", name := "get", desc := "(I)Ljava/lang/Object;" } : Jvm.MethodName) ({ cls := "java/util/ArrayList", name := "get", desc := "(I)Ljava/lang/Object;" } : Jvm.MethodName)) ∈ lw_all := lw_g (lw_at lw_m1 234 rfl) rfl
theorem q347 : (Jvm.Cond.code ({ cls := "java/util/ArrayList", name := "get", desc := "(I)Ljava/lang/Object;" } : Jvm.MethodName) prog_50_method_20_code (2 : Nat) (Option.some (Jvm.ClassFile.FieldType.object "java/lang/Object"))) ∈ lw_all := lw_g (lw_at lw_m1 235 rfl) rfl
theorem q348 : (Jvm.Cond.methodLink "java/util/ArrayList" (118 : Nat) ({ cls := "java/util/Objects", name := "checkIndex", desc := "(II)I" } : Jvm.MethodName)) ∈ lw_all := lw_g (lw_at lw_m1 236 rfl) rfl
theorem q354 : (Jvm.Cond.methodLink "java/util/ArrayList" (123 : Nat) ({ cls := "java/util/ArrayList", name := "elementData", desc := "(I)Ljava/lang/Object;" } : Jvm.MethodName)) ∈ lw_all := lw_g (lw_at lw_m2 2 rfl) rfl
theorem q355 : (Jvm.Cond.instanceMethod ({ cls := "java/util/ArrayList", name := "elementData", desc := "(I)Ljava/lang/Object;" } : Jvm.MethodName)) ∈ lw_all := lw_g (lw_at lw_m2 3 rfl) rfl
theorem q356 : (Jvm.Cond.selects "java/util/ArrayList" ({ cls := "java/util/ArrayList", name := "elementData", desc := "(I)Ljava/lang/Object;" } : Jvm.MethodName) ({ cls := "java/util/ArrayList", name := "elementData", desc := "(I)Ljava/lang/Object;" } : Jvm.MethodName)) ∈ lw_all := lw_g (lw_at lw_m2 4 rfl) rfl
theorem q357 : (Jvm.Cond.code ({ cls := "java/util/ArrayList", name := "elementData", desc := "(I)Ljava/lang/Object;" } : Jvm.MethodName) prog_50_method_18_code (2 : Nat) (Option.some (Jvm.ClassFile.FieldType.object "java/lang/Object"))) ∈ lw_all := lw_g (lw_at lw_m2 5 rfl) rfl
theorem q951 : (Jvm.Cond.instanceMethod ({ cls := "java/util/ArrayList", name := "add", desc := "(Ljava/lang/Object;)Z" } : Jvm.MethodName)) ∈ lw_all := lw_g (lw_at lw_m4 119 rfl) rfl
theorem q952 : (Jvm.Cond.selects "java/util/ArrayList" ({ cls := "java/util/ArrayList", name := "add", desc := "(Ljava/lang/Object;)Z" } : Jvm.MethodName) ({ cls := "java/util/ArrayList", name := "add", desc := "(Ljava/lang/Object;)Z" } : Jvm.MethodName)) ∈ lw_all := lw_g (lw_at lw_m4 120 rfl) rfl
theorem q953 : (Jvm.Cond.code ({ cls := "java/util/ArrayList", name := "add", desc := "(Ljava/lang/Object;)Z" } : Jvm.MethodName) prog_50_method_25_code (2 : Nat) (Option.some Jvm.ClassFile.FieldType.boolean)) ∈ lw_all := lw_g (lw_at lw_m4 121 rfl) rfl
theorem q954 : (Jvm.Cond.methodLink "java/util/ArrayList" (131 : Nat) ({ cls := "java/util/ArrayList", name := "add", desc := "(Ljava/lang/Object;[Ljava/lang/Object;I)V" } : Jvm.MethodName)) ∈ lw_all := lw_g (lw_at lw_m4 122 rfl) rfl
theorem q955 : (Jvm.Cond.privateMethod ({ cls := "java/util/ArrayList", name := "add", desc := "(Ljava/lang/Object;[Ljava/lang/Object;I)V" } : Jvm.MethodName)) ∈ lw_tbl := lw_at lw_m4 123 rfl
theorem q956 : (Jvm.Cond.instanceMethod ({ cls := "java/util/ArrayList", name := "add", desc := "(Ljava/lang/Object;[Ljava/lang/Object;I)V" } : Jvm.MethodName)) ∈ lw_all := lw_g (lw_at lw_m4 124 rfl) rfl
theorem q957 : (Jvm.Cond.code ({ cls := "java/util/ArrayList", name := "add", desc := "(Ljava/lang/Object;[Ljava/lang/Object;I)V" } : Jvm.MethodName) prog_50_method_24_code (4 : Nat) (Option.none : Option Jvm.ClassFile.FieldType)) ∈ lw_all := lw_g (lw_at lw_m4 125 rfl) rfl
theorem q958 : (Jvm.Cond.methodLink "java/util/ArrayList" (129 : Nat) ({ cls := "java/util/ArrayList", name := "grow", desc := "()[Ljava/lang/Object;" } : Jvm.MethodName)) ∈ lw_all := lw_g (lw_at lw_m4 126 rfl) rfl
theorem q959 : (Jvm.Cond.privateMethod ({ cls := "java/util/ArrayList", name := "grow", desc := "()[Ljava/lang/Object;" } : Jvm.MethodName)) ∈ lw_tbl := lw_at lw_m4 127 rfl
theorem q960 : (Jvm.Cond.instanceMethod ({ cls := "java/util/ArrayList", name := "grow", desc := "()[Ljava/lang/Object;" } : Jvm.MethodName)) ∈ lw_all := lw_g (lw_at lw_m4 128 rfl) rfl
theorem q961 : (Jvm.Cond.code ({ cls := "java/util/ArrayList", name := "grow", desc := "()[Ljava/lang/Object;" } : Jvm.MethodName) prog_50_method_7_code (1 : Nat) (Option.some (Jvm.ClassFile.FieldType.array (Jvm.ClassFile.FieldType.object "java/lang/Object")))) ∈ lw_all := lw_g (lw_at lw_m4 129 rfl) rfl
theorem q962 : (Jvm.Cond.methodLink "java/util/ArrayList" (69 : Nat) ({ cls := "java/util/ArrayList", name := "grow", desc := "(I)[Ljava/lang/Object;" } : Jvm.MethodName)) ∈ lw_all := lw_g (lw_at lw_m4 130 rfl) rfl
theorem q963 : (Jvm.Cond.privateMethod ({ cls := "java/util/ArrayList", name := "grow", desc := "(I)[Ljava/lang/Object;" } : Jvm.MethodName)) ∈ lw_tbl := lw_at lw_m4 131 rfl
theorem q964 : (Jvm.Cond.instanceMethod ({ cls := "java/util/ArrayList", name := "grow", desc := "(I)[Ljava/lang/Object;" } : Jvm.MethodName)) ∈ lw_all := lw_g (lw_at lw_m4 132 rfl) rfl
theorem q965 : (Jvm.Cond.code ({ cls := "java/util/ArrayList", name := "grow", desc := "(I)[Ljava/lang/Object;" } : Jvm.MethodName) prog_50_method_6_code (4 : Nat) (Option.some (Jvm.ClassFile.FieldType.array (Jvm.ClassFile.FieldType.object "java/lang/Object")))) ∈ lw_all := lw_g (lw_at lw_m4 133 rfl) rfl
theorem q966 : (Jvm.Cond.methodLink "java/util/ArrayList" (73 : Nat) ({ cls := "jdk/internal/util/ArraysSupport", name := "newLength", desc := "(III)I" } : Jvm.MethodName)) ∈ lw_all := lw_g (lw_at lw_m4 134 rfl) rfl
theorem q967 : (Jvm.Cond.methodLink "java/util/ArrayList" (66 : Nat) ({ cls := "java/util/Arrays", name := "copyOf", desc := "([Ljava/lang/Object;I)[Ljava/lang/Object;" } : Jvm.MethodName)) ∈ lw_all := lw_g (lw_at lw_m4 135 rfl) rfl
theorem q996 : (Jvm.Cond.selects "java/util/ArrayList" ({ cls := "java/lang/Object", name := "getClass", desc := "()Ljava/lang/Class;" } : Jvm.MethodName) ({ cls := "java/lang/Object", name := "getClass", desc := "()Ljava/lang/Class;" } : Jvm.MethodName)) ∈ lw_all := lw_g (lw_at lw_m4 164 rfl) rfl
theorem q1005 : (Jvm.Cond.methodLink "java/util/ArrayList" (79 : Nat) ({ cls := "java/lang/Math", name := "max", desc := "(II)I" } : Jvm.MethodName)) ∈ lw_all := lw_g (lw_at lw_m4 173 rfl) rfl
theorem q1006 : (Jvm.Cond.classLink "java/util/ArrayList" (7 : Nat) "java/lang/Object") ∈ lw_all := lw_g (lw_at lw_m4 174 rfl) rfl
theorem q2545 : (Jvm.Cond.castable "java/util/ArrayList" "java/lang/Object") ∈ lw_tbl := lw_at lw_m11 33 rfl
theorem q119 : (Jvm.Cond.initialized "java/util/Arrays") ∈ lw_all := lw_g (lw_at lw_m1 7 rfl) rfl
theorem q334 : (Jvm.Cond.static ({ cls := "java/util/Arrays", name := "fill", desc := "([II)V" } : Jvm.MethodName)) ∈ lw_all := lw_g (lw_at lw_m1 222 rfl) rfl
theorem q335 : (Jvm.Cond.code ({ cls := "java/util/Arrays", name := "fill", desc := "([II)V" } : Jvm.MethodName) prog_51_method_103_code (4 : Nat) (Option.none : Option Jvm.ClassFile.FieldType)) ∈ lw_all := lw_g (lw_at lw_m1 223 rfl) rfl
theorem q590 : (Jvm.Cond.static ({ cls := "java/util/Arrays", name := "copyOf", desc := "([BI)[B" } : Jvm.MethodName)) ∈ lw_all := lw_g (lw_at lw_m2 238 rfl) rfl
theorem q591 : (Jvm.Cond.code ({ cls := "java/util/Arrays", name := "copyOf", desc := "([BI)[B" } : Jvm.MethodName) prog_51_method_121_code (3 : Nat) (Option.some (Jvm.ClassFile.FieldType.array Jvm.ClassFile.FieldType.byte))) ∈ lw_all := lw_g (lw_at lw_m2 239 rfl) rfl
theorem q592 : (Jvm.Cond.methodLink "java/util/Arrays" (310 : Nat) ({ cls := "[B", name := "clone", desc := "()Ljava/lang/Object;" } : Jvm.MethodName)) ∈ lw_all := lw_g (lw_at lw_m3 0 rfl) rfl
theorem q598 : (Jvm.Cond.classLink "java/util/Arrays" (311 : Nat) "[B") ∈ lw_all := lw_g (lw_at lw_m3 6 rfl) rfl
theorem q599 : (Jvm.Cond.methodLink "java/util/Arrays" (304 : Nat) ({ cls := "java/lang/Math", name := "min", desc := "(II)I" } : Jvm.MethodName)) ∈ lw_all := lw_g (lw_at lw_m3 7 rfl) rfl
theorem q602 : (Jvm.Cond.methodLink "java/util/Arrays" (150 : Nat) ({ cls := "java/lang/System", name := "arraycopy", desc := "(Ljava/lang/Object;ILjava/lang/Object;II)V" } : Jvm.MethodName)) ∈ lw_all := lw_g (lw_at lw_m3 10 rfl) rfl
theorem q684 : (Jvm.Cond.static ({ cls := "java/util/Arrays", name := "copyOfRange", desc := "([BII)[B" } : Jvm.MethodName)) ∈ lw_all := lw_g (lw_at lw_m3 92 rfl) rfl
theorem q685 : (Jvm.Cond.code ({ cls := "java/util/Arrays", name := "copyOfRange", desc := "([BII)[B" } : Jvm.MethodName) prog_51_method_132_code (3 : Nat) (Option.some (Jvm.ClassFile.FieldType.array Jvm.ClassFile.FieldType.byte))) ∈ lw_all := lw_g (lw_at lw_m3 93 rfl) rfl
theorem q686 : (Jvm.Cond.methodLink "java/util/Arrays" (339 : Nat) ({ cls := "java/util/Arrays", name := "copyOfRangeByte", desc := "([BII)[B" } : Jvm.MethodName)) ∈ lw_all := lw_g (lw_at lw_m3 94 rfl) rfl
theorem q687 : (Jvm.Cond.static ({ cls := "java/util/Arrays", name := "copyOfRangeByte", desc := "([BII)[B" } : Jvm.MethodName)) ∈ lw_all := lw_g (lw_at lw_m3 95 rfl) rfl
theorem q688 : (Jvm.Cond.code ({ cls := "java/util/Arrays", name := "copyOfRangeByte", desc := "([BII)[B" } : Jvm.MethodName) prog_51_method_133_code (5 : Nat) (Option.some (Jvm.ClassFile.FieldType.array Jvm.ClassFile.FieldType.byte))) ∈ lw_all := lw_g (lw_at lw_m3 96 rfl) rfl
theorem q689 : (Jvm.Cond.methodLink "java/util/Arrays" (343 : Nat) ({ cls := "java/util/Arrays", name := "checkLength", desc := "(II)V" } : Jvm.MethodName)) ∈ lw_all := lw_g (lw_at lw_m3 97 rfl) rfl
theorem q690 : (Jvm.Cond.static ({ cls := "java/util/Arrays", name := "checkLength", desc := "(II)V" } : Jvm.MethodName)) ∈ lw_all := lw_g (lw_at lw_m3 98 rfl) rfl
theorem q691 : (Jvm.Cond.code ({ cls := "java/util/Arrays", name := "checkLength", desc := "(II)V" } : Jvm.MethodName) prog_51_method_131_code (2 : Nat) (Option.none : Option Jvm.ClassFile.FieldType)) ∈ lw_all := lw_g (lw_at lw_m3 99 rfl) rfl
theorem q968 : (Jvm.Cond.static ({ cls := "java/util/Arrays", name := "copyOf", desc := "([Ljava/lang/Object;I)[Ljava/lang/Object;" } : Jvm.MethodName)) ∈ lw_all := lw_g (lw_at lw_m4 136 rfl) rfl
theorem q969 : (Jvm.Cond.code ({ cls := "java/util/Arrays", name := "copyOf", desc := "([Ljava/lang/Object;I)[Ljava/lang/Object;" } : Jvm.MethodName) prog_51_method_119_code (2 : Nat) (Option.some (Jvm.ClassFile.FieldType.array (Jvm.ClassFile.FieldType.object "java/lang/Object")))) ∈ lw_all := lw_g (lw_at lw_m4 137 rfl) rfl
theorem q970 : (Jvm.Cond.methodLink "java/util/Arrays" (86 : Nat) ({ cls := "java/lang/Object", name := "getClass", desc := "()Ljava/lang/Class;" } : Jvm.MethodName)) ∈ lw_all := lw_g (lw_at lw_m4 138 rfl) rfl
theorem q999 : (Jvm.Cond.methodLink "java/util/Arrays" (300 : Nat) ({ cls := "java/util/Arrays", name := "copyOf", desc := "([Ljava/lang/Object;ILjava/lang/Class;)[Ljava/lang/Object;" } : Jvm.MethodName)) ∈ lw_all := lw_g (lw_at lw_m4 167 rfl) rfl
theorem q1000 : (Jvm.Cond.static ({ cls := "java/util/Arrays", name := "copyOf", desc := "([Ljava/lang/Object;ILjava/lang/Class;)[Ljava/lang/Object;" } : Jvm.MethodName)) ∈ lw_all := lw_g (lw_at lw_m4 168 rfl) rfl
theorem q1001 : (Jvm.Cond.code ({ cls := "java/util/Arrays", name := "copyOf", desc := "([Ljava/lang/Object;ILjava/lang/Class;)[Ljava/lang/Object;" } : Jvm.MethodName) prog_51_method_120_code (4 : Nat) (Option.some (Jvm.ClassFile.FieldType.array (Jvm.ClassFile.FieldType.object "java/lang/Object")))) ∈ lw_all := lw_g (lw_at lw_m4 169 rfl) rfl
theorem q1002 : (Jvm.Cond.classLink "java/util/Arrays" (110 : Nat) "[Ljava/lang/Object;") ∈ lw_all := lw_g (lw_at lw_m4 170 rfl) rfl
theorem q1004 : (Jvm.Cond.classLink "java/util/Arrays" (2 : Nat) "java/lang/Object") ∈ lw_all := lw_g (lw_at lw_m4 172 rfl) rfl
theorem q120 : (Jvm.Cond.initialized "java/util/Objects") ∈ lw_all := lw_g (lw_at lw_m1 8 rfl) rfl
theorem q349 : (Jvm.Cond.static ({ cls := "java/util/Objects", name := "checkIndex", desc := "(II)I" } : Jvm.MethodName)) ∈ lw_all := lw_g (lw_at lw_m1 237 rfl) rfl
theorem q350 : (Jvm.Cond.code ({ cls := "java/util/Objects", name := "checkIndex", desc := "(II)I" } : Jvm.MethodName) prog_55_method_17_code (2 : Nat) (Option.some Jvm.ClassFile.FieldType.int)) ∈ lw_all := lw_g (lw_at lw_m1 238 rfl) rfl
theorem q351 : (Jvm.Cond.methodLink "java/util/Objects" (105 : Nat) ({ cls := "jdk/internal/util/Preconditions", name := "checkIndex", desc := "(IILjava/util/function/BiFunction;)I" } : Jvm.MethodName)) ∈ lw_all := lw_g (lw_at lw_m1 239 rfl) rfl
theorem q121 : (Jvm.Cond.initialized "jdk/internal/util/Preconditions") ∈ lw_all := lw_g (lw_at lw_m1 9 rfl) rfl
theorem q352 : (Jvm.Cond.static ({ cls := "jdk/internal/util/Preconditions", name := "checkIndex", desc := "(IILjava/util/function/BiFunction;)I" } : Jvm.MethodName)) ∈ lw_all := lw_g (lw_at lw_m2 0 rfl) rfl
theorem q353 : (Jvm.Cond.code ({ cls := "jdk/internal/util/Preconditions", name := "checkIndex", desc := "(IILjava/util/function/BiFunction;)I" } : Jvm.MethodName) prog_59_method_11_code (3 : Nat) (Option.some Jvm.ClassFile.FieldType.int)) ∈ lw_all := lw_g (lw_at lw_m2 1 rfl) rfl
theorem q633 : (Jvm.Cond.laysStatic "jdk/internal/util/Preconditions" "SIOOBE_FORMATTER" "Ljava/util/function/BiFunction;") ∈ lw_tbl := lw_at lw_m3 41 rfl
theorem q635 : (Jvm.Cond.static ({ cls := "jdk/internal/util/Preconditions", name := "checkFromIndexSize", desc := "(IIILjava/util/function/BiFunction;)I" } : Jvm.MethodName)) ∈ lw_all := lw_g (lw_at lw_m3 43 rfl) rfl
theorem q636 : (Jvm.Cond.code ({ cls := "jdk/internal/util/Preconditions", name := "checkFromIndexSize", desc := "(IIILjava/util/function/BiFunction;)I" } : Jvm.MethodName) prog_59_method_13_code (4 : Nat) (Option.some Jvm.ClassFile.FieldType.int)) ∈ lw_all := lw_g (lw_at lw_m3 44 rfl) rfl
theorem q852 : (Jvm.Cond.static ({ cls := "jdk/internal/util/Preconditions", name := "checkFromToIndex", desc := "(IIILjava/util/function/BiFunction;)I" } : Jvm.MethodName)) ∈ lw_all := lw_g (lw_at lw_m4 20 rfl) rfl
theorem q853 : (Jvm.Cond.code ({ cls := "jdk/internal/util/Preconditions", name := "checkFromToIndex", desc := "(IIILjava/util/function/BiFunction;)I" } : Jvm.MethodName) prog_59_method_12_code (4 : Nat) (Option.some Jvm.ClassFile.FieldType.int)) ∈ lw_all := lw_g (lw_at lw_m4 21 rfl) rfl
theorem q126 : (Jvm.Cond.initialized "java/lang/AbstractStringBuilder") ∈ lw_all := lw_g (lw_at lw_m1 14 rfl) rfl
theorem q538 : (Jvm.Cond.instanceMethod ({ cls := "java/lang/AbstractStringBuilder", name := "<init>", desc := "(I)V" } : Jvm.MethodName)) ∈ lw_all := lw_g (lw_at lw_m2 186 rfl) rfl
theorem q539 : (Jvm.Cond.code ({ cls := "java/lang/AbstractStringBuilder", name := "<init>", desc := "(I)V" } : Jvm.MethodName) prog_30_method_2_code (2 : Nat) (Option.none : Option Jvm.ClassFile.FieldType)) ∈ lw_all := lw_g (lw_at lw_m2 187 rfl) rfl
theorem q540 : (Jvm.Cond.methodLink "java/lang/AbstractStringBuilder" (3 : Nat) ({ cls := "java/lang/Object", name := "<init>", desc := "()V" } : Jvm.MethodName)) ∈ lw_all := lw_g (lw_at lw_m2 188 rfl) rfl
theorem q541 : (Jvm.Cond.fieldLink "java/lang/AbstractStringBuilder" (18 : Nat) "java/lang/String" "COMPACT_STRINGS" "Z") ∈ lw_all := lw_g (lw_at lw_m2 189 rfl) rfl
theorem q543 : (Jvm.Cond.methodLink "java/lang/AbstractStringBuilder" (26 : Nat) ({ cls := "java/lang/StringUTF16", name := "newBytesFor", desc := "(I)[B" } : Jvm.MethodName)) ∈ lw_all := lw_g (lw_at lw_m2 191 rfl) rfl
theorem q550 : (Jvm.Cond.fieldLink "java/lang/AbstractStringBuilder" (15 : Nat) "java/lang/AbstractStringBuilder" "value" "[B") ∈ lw_all := lw_g (lw_at lw_m2 198 rfl) rfl
theorem q551 : (Jvm.Cond.fieldLink "java/lang/AbstractStringBuilder" (22 : Nat) "java/lang/AbstractStringBuilder" "coder" "B") ∈ lw_all := lw_g (lw_at lw_m2 199 rfl) rfl
theorem q553 : (Jvm.Cond.fieldLink "java/lang/AbstractStringBuilder" (79 : Nat) "java/lang/AbstractStringBuilder" "count" "I") ∈ lw_all := lw_g (lw_at lw_m2 201 rfl) rfl
theorem q555 : (Jvm.Cond.soleField "java/lang/AbstractStringBuilder" "value") ∈ lw_all := lw_g (lw_at lw_m2 203 rfl) rfl
theorem q557 : (Jvm.Cond.soleField "java/lang/AbstractStringBuilder" "coder") ∈ lw_all := lw_g (lw_at lw_m2 205 rfl) rfl
theorem q559 : (Jvm.Cond.soleField "java/lang/AbstractStringBuilder" "maybeLatin1") ∈ lw_all := lw_g (lw_at lw_m2 207 rfl) rfl
theorem q561 : (Jvm.Cond.soleField "java/lang/AbstractStringBuilder" "count") ∈ lw_all := lw_g (lw_at lw_m2 209 rfl) rfl
theorem q568 : (Jvm.Cond.instanceMethod ({ cls := "java/lang/AbstractStringBuilder", name := "append", desc := "(C)Ljava/lang/AbstractStringBuilder;" } : Jvm.MethodName)) ∈ lw_all := lw_g (lw_at lw_m2 216 rfl) rfl
theorem q569 : (Jvm.Cond.code ({ cls := "java/lang/AbstractStringBuilder", name := "append", desc := "(C)Ljava/lang/AbstractStringBuilder;" } : Jvm.MethodName) prog_30_method_31_code (2 : Nat) (Option.some (Jvm.ClassFile.FieldType.object "java/lang/AbstractStringBuilder"))) ∈ lw_all := lw_g (lw_at lw_m2 217 rfl) rfl
theorem q570 : (Jvm.Cond.methodLink "java/lang/AbstractStringBuilder" (100 : Nat) ({ cls := "java/lang/AbstractStringBuilder", name := "ensureCapacityInternal", desc := "(I)V" } : Jvm.MethodName)) ∈ lw_all := lw_g (lw_at lw_m2 218 rfl) rfl
theorem q571 : (Jvm.Cond.privateMethod ({ cls := "java/lang/AbstractStringBuilder", name := "ensureCapacityInternal", desc := "(I)V" } : Jvm.MethodName)) ∈ lw_tbl := lw_at lw_m2 219 rfl
theorem q572 : (Jvm.Cond.instanceMethod ({ cls := "java/lang/AbstractStringBuilder", name := "ensureCapacityInternal", desc := "(I)V" } : Jvm.MethodName)) ∈ lw_all := lw_g (lw_at lw_m2 220 rfl) rfl
theorem q573 : (Jvm.Cond.code ({ cls := "java/lang/AbstractStringBuilder", name := "ensureCapacityInternal", desc := "(I)V" } : Jvm.MethodName) prog_30_method_9_code (3 : Nat) (Option.none : Option Jvm.ClassFile.FieldType)) ∈ lw_all := lw_g (lw_at lw_m2 221 rfl) rfl
theorem q574 : (Jvm.Cond.methodLink "java/lang/AbstractStringBuilder" (104 : Nat) ({ cls := "java/lang/AbstractStringBuilder", name := "newCapacity", desc := "(I)I" } : Jvm.MethodName)) ∈ lw_all := lw_g (lw_at lw_m2 222 rfl) rfl
theorem q575 : (Jvm.Cond.privateMethod ({ cls := "java/lang/AbstractStringBuilder", name := "newCapacity", desc := "(I)I" } : Jvm.MethodName)) ∈ lw_tbl := lw_at lw_m2 223 rfl
theorem q576 : (Jvm.Cond.instanceMethod ({ cls := "java/lang/AbstractStringBuilder", name := "newCapacity", desc := "(I)I" } : Jvm.MethodName)) ∈ lw_all := lw_g (lw_at lw_m2 224 rfl) rfl
theorem q577 : (Jvm.Cond.code ({ cls := "java/lang/AbstractStringBuilder", name := "newCapacity", desc := "(I)I" } : Jvm.MethodName) prog_30_method_10_code (6 : Nat) (Option.some Jvm.ClassFile.FieldType.int)) ∈ lw_all := lw_g (lw_at lw_m2 225 rfl) rfl
theorem q578 : (Jvm.Cond.methodLink "java/lang/AbstractStringBuilder" (114 : Nat) ({ cls := "jdk/internal/util/ArraysSupport", name := "newLength", desc := "(III)I" } : Jvm.MethodName)) ∈ lw_all := lw_g (lw_at lw_m2 226 rfl) rfl
theorem q588 : (Jvm.Cond.constant "java/lang/AbstractStringBuilder" (39 : Nat) (2147483647 : Int32)) ∈ lw_all := lw_g (lw_at lw_m2 236 rfl) rfl
theorem q589 : (Jvm.Cond.methodLink "java/lang/AbstractStringBuilder" (108 : Nat) ({ cls := "java/util/Arrays", name := "copyOf", desc := "([BI)[B" } : Jvm.MethodName)) ∈ lw_all := lw_g (lw_at lw_m2 237 rfl) rfl
theorem q605 : (Jvm.Cond.methodLink "java/lang/AbstractStringBuilder" (83 : Nat) ({ cls := "java/lang/AbstractStringBuilder", name := "isLatin1", desc := "()Z" } : Jvm.MethodName)) ∈ lw_all := lw_g (lw_at lw_m3 13 rfl) rfl
theorem q606 : (Jvm.Cond.instanceMethod ({ cls := "java/lang/AbstractStringBuilder", name := "isLatin1", desc := "()Z" } : Jvm.MethodName)) ∈ lw_all := lw_g (lw_at lw_m3 14 rfl) rfl
theorem q607 : (Jvm.Cond.sameMethod "java/lang/AbstractStringBuilder" "java/lang/AbstractStringBuilder" "isLatin1" "()Z") ∈ lw_all := lw_g (lw_at lw_m3 15 rfl) rfl
theorem q609 : (Jvm.Cond.code ({ cls := "java/lang/AbstractStringBuilder", name := "isLatin1", desc := "()Z" } : Jvm.MethodName) prog_30_method_68_code (1 : Nat) (Option.some Jvm.ClassFile.FieldType.boolean)) ∈ lw_all := lw_g (lw_at lw_m3 17 rfl) rfl
theorem q610 : (Jvm.Cond.methodLink "java/lang/AbstractStringBuilder" (191 : Nat) ({ cls := "java/lang/StringLatin1", name := "canEncode", desc := "(C)Z" } : Jvm.MethodName)) ∈ lw_all := lw_g (lw_at lw_m3 18 rfl) rfl
theorem q613 : (Jvm.Cond.methodLink "java/lang/AbstractStringBuilder" (195 : Nat) ({ cls := "java/lang/AbstractStringBuilder", name := "inflate", desc := "()V" } : Jvm.MethodName)) ∈ lw_all := lw_g (lw_at lw_m3 21 rfl) rfl
theorem q614 : (Jvm.Cond.privateMethod ({ cls := "java/lang/AbstractStringBuilder", name := "inflate", desc := "()V" } : Jvm.MethodName)) ∈ lw_tbl := lw_at lw_m3 22 rfl
theorem q615 : (Jvm.Cond.instanceMethod ({ cls := "java/lang/AbstractStringBuilder", name := "inflate", desc := "()V" } : Jvm.MethodName)) ∈ lw_all := lw_g (lw_at lw_m3 23 rfl) rfl
theorem q616 : (Jvm.Cond.code ({ cls := "java/lang/AbstractStringBuilder", name := "inflate", desc := "()V" } : Jvm.MethodName) prog_30_method_11_code (2 : Nat) (Option.none : Option Jvm.ClassFile.FieldType)) ∈ lw_all := lw_g (lw_at lw_m3 24 rfl) rfl
theorem q617 : (Jvm.Cond.methodLink "java/lang/AbstractStringBuilder" (125 : Nat) ({ cls := "java/lang/StringLatin1", name := "inflate", desc := "([BI[BII)V" } : Jvm.MethodName)) ∈ lw_all := lw_g (lw_at lw_m3 25 rfl) rfl
theorem q646 : (Jvm.Cond.methodLink "java/lang/AbstractStringBuilder" (197 : Nat) ({ cls := "java/lang/StringUTF16", name := "putCharSB", desc := "([BII)V" } : Jvm.MethodName)) ∈ lw_all := lw_g (lw_at lw_m3 54 rfl) rfl
theorem q670 : (Jvm.Cond.instanceMethod ({ cls := "java/lang/AbstractStringBuilder", name := "getValue", desc := "()[B" } : Jvm.MethodName)) ∈ lw_all := lw_g (lw_at lw_m3 78 rfl) rfl
theorem q671 : (Jvm.Cond.sameMethod "java/lang/AbstractStringBuilder" "java/lang/AbstractStringBuilder" "getValue" "()[B") ∈ lw_all := lw_g (lw_at lw_m3 79 rfl) rfl
theorem q673 : (Jvm.Cond.code ({ cls := "java/lang/AbstractStringBuilder", name := "getValue", desc := "()[B" } : Jvm.MethodName) prog_30_method_64_code (1 : Nat) (Option.some (Jvm.ClassFile.FieldType.array Jvm.ClassFile.FieldType.byte))) ∈ lw_all := lw_g (lw_at lw_m3 81 rfl) rfl
theorem q675 : (Jvm.Cond.instanceMethod ({ cls := "java/lang/AbstractStringBuilder", name := "length", desc := "()I" } : Jvm.MethodName)) ∈ lw_all := lw_g (lw_at lw_m3 83 rfl) rfl
theorem q676 : (Jvm.Cond.sameMethod "java/lang/AbstractStringBuilder" "java/lang/AbstractStringBuilder" "length" "()I") ∈ lw_all := lw_g (lw_at lw_m3 84 rfl) rfl
theorem q681 : (Jvm.Cond.code ({ cls := "java/lang/AbstractStringBuilder", name := "length", desc := "()I" } : Jvm.MethodName) prog_30_method_6_code (1 : Nat) (Option.some Jvm.ClassFile.FieldType.int)) ∈ lw_all := lw_g (lw_at lw_m3 89 rfl) rfl
theorem q836 : (Jvm.Cond.instanceMethod ({ cls := "java/lang/AbstractStringBuilder", name := "append", desc := "(Ljava/lang/String;)Ljava/lang/AbstractStringBuilder;" } : Jvm.MethodName)) ∈ lw_all := lw_g (lw_at lw_m4 4 rfl) rfl
theorem q837 : (Jvm.Cond.code ({ cls := "java/lang/AbstractStringBuilder", name := "append", desc := "(Ljava/lang/String;)Ljava/lang/AbstractStringBuilder;" } : Jvm.MethodName) prog_30_method_22_code (3 : Nat) (Option.some (Jvm.ClassFile.FieldType.object "java/lang/AbstractStringBuilder"))) ∈ lw_all := lw_g (lw_at lw_m4 5 rfl) rfl
theorem q838 : (Jvm.Cond.methodLink "java/lang/AbstractStringBuilder" (204 : Nat) ({ cls := "java/lang/AbstractStringBuilder", name := "appendNull", desc := "()Ljava/lang/AbstractStringBuilder;" } : Jvm.MethodName)) ∈ lw_all := lw_g (lw_at lw_m4 6 rfl) rfl
theorem q839 : (Jvm.Cond.privateMethod ({ cls := "java/lang/AbstractStringBuilder", name := "appendNull", desc := "()Ljava/lang/AbstractStringBuilder;" } : Jvm.MethodName)) ∈ lw_tbl := lw_at lw_m4 7 rfl
theorem q840 : (Jvm.Cond.instanceMethod ({ cls := "java/lang/AbstractStringBuilder", name := "appendNull", desc := "()Ljava/lang/AbstractStringBuilder;" } : Jvm.MethodName)) ∈ lw_all := lw_g (lw_at lw_m4 8 rfl) rfl
theorem q841 : (Jvm.Cond.code ({ cls := "java/lang/AbstractStringBuilder", name := "appendNull", desc := "()Ljava/lang/AbstractStringBuilder;" } : Jvm.MethodName) prog_30_method_26_code (3 : Nat) (Option.some (Jvm.ClassFile.FieldType.object "java/lang/AbstractStringBuilder"))) ∈ lw_all := lw_g (lw_at lw_m4 9 rfl) rfl
theorem q842 : (Jvm.Cond.methodLink "java/lang/AbstractStringBuilder" (226 : Nat) ({ cls := "java/lang/StringUTF16", name := "putCharsAt", desc := "([BICCCC)I" } : Jvm.MethodName)) ∈ lw_all := lw_g (lw_at lw_m4 10 rfl) rfl
theorem q854 : (Jvm.Cond.methodLink "java/lang/AbstractStringBuilder" (32 : Nat) ({ cls := "java/lang/String", name := "length", desc := "()I" } : Jvm.MethodName)) ∈ lw_all := lw_g (lw_at lw_m4 22 rfl) rfl
theorem q862 : (Jvm.Cond.methodLink "java/lang/AbstractStringBuilder" (208 : Nat) ({ cls := "java/lang/AbstractStringBuilder", name := "putStringAt", desc := "(ILjava/lang/String;)V" } : Jvm.MethodName)) ∈ lw_all := lw_g (lw_at lw_m4 30 rfl) rfl
theorem q863 : (Jvm.Cond.privateMethod ({ cls := "java/lang/AbstractStringBuilder", name := "putStringAt", desc := "(ILjava/lang/String;)V" } : Jvm.MethodName)) ∈ lw_tbl := lw_at lw_m4 31 rfl
theorem q864 : (Jvm.Cond.instanceMethod ({ cls := "java/lang/AbstractStringBuilder", name := "putStringAt", desc := "(ILjava/lang/String;)V" } : Jvm.MethodName)) ∈ lw_all := lw_g (lw_at lw_m4 32 rfl) rfl
theorem q865 : (Jvm.Cond.code ({ cls := "java/lang/AbstractStringBuilder", name := "putStringAt", desc := "(ILjava/lang/String;)V" } : Jvm.MethodName) prog_30_method_73_code (3 : Nat) (Option.none : Option Jvm.ClassFile.FieldType)) ∈ lw_all := lw_g (lw_at lw_m4 33 rfl) rfl
theorem q866 : (Jvm.Cond.methodLink "java/lang/AbstractStringBuilder" (397 : Nat) ({ cls := "java/lang/AbstractStringBuilder", name := "inflateIfNeededFor", desc := "(Ljava/lang/String;)V" } : Jvm.MethodName)) ∈ lw_all := lw_g (lw_at lw_m4 34 rfl) rfl
theorem q867 : (Jvm.Cond.privateMethod ({ cls := "java/lang/AbstractStringBuilder", name := "inflateIfNeededFor", desc := "(Ljava/lang/String;)V" } : Jvm.MethodName)) ∈ lw_tbl := lw_at lw_m4 35 rfl
theorem q868 : (Jvm.Cond.instanceMethod ({ cls := "java/lang/AbstractStringBuilder", name := "inflateIfNeededFor", desc := "(Ljava/lang/String;)V" } : Jvm.MethodName)) ∈ lw_all := lw_g (lw_at lw_m4 36 rfl) rfl
theorem q869 : (Jvm.Cond.code ({ cls := "java/lang/AbstractStringBuilder", name := "inflateIfNeededFor", desc := "(Ljava/lang/String;)V" } : Jvm.MethodName) prog_30_method_71_code (2 : Nat) (Option.none : Option Jvm.ClassFile.FieldType)) ∈ lw_all := lw_g (lw_at lw_m4 37 rfl) rfl
theorem q870 : (Jvm.Cond.methodLink "java/lang/AbstractStringBuilder" (40 : Nat) ({ cls := "java/lang/String", name := "coder", desc := "()B" } : Jvm.MethodName)) ∈ lw_all := lw_g (lw_at lw_m4 38 rfl) rfl
theorem q871 : (Jvm.Cond.methodLink "java/lang/AbstractStringBuilder" (399 : Nat) ({ cls := "java/lang/String", name := "getBytes", desc := "([BIB)V" } : Jvm.MethodName)) ∈ lw_all := lw_g (lw_at lw_m4 39 rfl) rfl
theorem q2508 : (Jvm.Cond.sameMethod "java/lang/AbstractStringBuilder" "java/lang/AbstractStringBuilder" "append" "(C)Ljava/lang/AbstractStringBuilder;") ∈ lw_all := lw_g (lw_at lw_m10 236 rfl) rfl
theorem q2509 : (Jvm.Cond.sameMethod "java/lang/AbstractStringBuilder" "java/lang/AbstractStringBuilder" "ensureCapacityInternal" "(I)V") ∈ lw_all := lw_g (lw_at lw_m10 237 rfl) rfl
theorem q2510 : (Jvm.Cond.sameMethod "java/lang/AbstractStringBuilder" "java/lang/AbstractStringBuilder" "newCapacity" "(I)I") ∈ lw_all := lw_g (lw_at lw_m10 238 rfl) rfl
theorem q2511 : (Jvm.Cond.sameMethod "java/lang/AbstractStringBuilder" "java/lang/AbstractStringBuilder" "inflate" "()V") ∈ lw_all := lw_g (lw_at lw_m10 239 rfl) rfl
theorem q2513 : (Jvm.Cond.sameMethod "java/lang/AbstractStringBuilder" "java/lang/AbstractStringBuilder" "append" "(Ljava/lang/String;)Ljava/lang/AbstractStringBuilder;") ∈ lw_all := lw_g (lw_at lw_m11 1 rfl) rfl
theorem q2514 : (Jvm.Cond.sameMethod "java/lang/AbstractStringBuilder" "java/lang/AbstractStringBuilder" "appendNull" "()Ljava/lang/AbstractStringBuilder;") ∈ lw_all := lw_g (lw_at lw_m11 2 rfl) rfl
theorem q2515 : (Jvm.Cond.sameMethod "java/lang/AbstractStringBuilder" "java/lang/AbstractStringBuilder" "putStringAt" "(ILjava/lang/String;)V") ∈ lw_all := lw_g (lw_at lw_m11 3 rfl) rfl
theorem q2516 : (Jvm.Cond.sameMethod "java/lang/AbstractStringBuilder" "java/lang/AbstractStringBuilder" "inflateIfNeededFor" "(Ljava/lang/String;)V") ∈ lw_all := lw_g (lw_at lw_m11 4 rfl) rfl
theorem q127 : (Jvm.Cond.initialized "java/lang/StringBuilder") ∈ lw_all := lw_g (lw_at lw_m1 15 rfl) rfl
theorem q533 : (Jvm.Cond.instantiable "java/lang/StringBuilder" (4 : Nat)) ∈ lw_all := lw_g (lw_at lw_m2 181 rfl) rfl
theorem q535 : (Jvm.Cond.instanceMethod ({ cls := "java/lang/StringBuilder", name := "<init>", desc := "()V" } : Jvm.MethodName)) ∈ lw_all := lw_g (lw_at lw_m2 183 rfl) rfl
theorem q536 : (Jvm.Cond.code ({ cls := "java/lang/StringBuilder", name := "<init>", desc := "()V" } : Jvm.MethodName) prog_41_method_1_code (1 : Nat) (Option.none : Option Jvm.ClassFile.FieldType)) ∈ lw_all := lw_g (lw_at lw_m2 184 rfl) rfl
theorem q537 : (Jvm.Cond.methodLink "java/lang/StringBuilder" (1 : Nat) ({ cls := "java/lang/AbstractStringBuilder", name := "<init>", desc := "(I)V" } : Jvm.MethodName)) ∈ lw_all := lw_g (lw_at lw_m2 185 rfl) rfl
theorem q554 : (Jvm.Cond.lays "java/lang/StringBuilder" "java/lang/AbstractStringBuilder" "value" "[B") ∈ lw_all := lw_g (lw_at lw_m2 202 rfl) rfl
theorem q556 : (Jvm.Cond.lays "java/lang/StringBuilder" "java/lang/AbstractStringBuilder" "coder" "B") ∈ lw_all := lw_g (lw_at lw_m2 204 rfl) rfl
theorem q558 : (Jvm.Cond.lays "java/lang/StringBuilder" "java/lang/AbstractStringBuilder" "maybeLatin1" "Z") ∈ lw_all := lw_g (lw_at lw_m2 206 rfl) rfl
theorem q560 : (Jvm.Cond.lays "java/lang/StringBuilder" "java/lang/AbstractStringBuilder" "count" "I") ∈ lw_all := lw_g (lw_at lw_m2 208 rfl) rfl
theorem q562 : (Jvm.Cond.superclass "java/lang/StringBuilder" "java/lang/AbstractStringBuilder") ∈ lw_all := lw_g (lw_at lw_m2 210 rfl) rfl
theorem q564 : (Jvm.Cond.instanceMethod ({ cls := "java/lang/StringBuilder", name := "append", desc := "(C)Ljava/lang/StringBuilder;" } : Jvm.MethodName)) ∈ lw_all := lw_g (lw_at lw_m2 212 rfl) rfl
theorem q565 : (Jvm.Cond.selects "java/lang/StringBuilder" ({ cls := "java/lang/StringBuilder", name := "append", desc := "(C)Ljava/lang/StringBuilder;" } : Jvm.MethodName) ({ cls := "java/lang/StringBuilder", name := "append", desc := "(C)Ljava/lang/StringBuilder;" } : Jvm.MethodName)) ∈ lw_all := lw_g (lw_at lw_m2 213 rfl) rfl
theorem q566 : (Jvm.Cond.code ({ cls := "java/lang/StringBuilder", name := "append", desc := "(C)Ljava/lang/StringBuilder;" } : Jvm.MethodName) prog_41_method_14_code (2 : Nat) (Option.some (Jvm.ClassFile.FieldType.object "java/lang/StringBuilder"))) ∈ lw_all := lw_g (lw_at lw_m2 214 rfl) rfl
theorem q567 : (Jvm.Cond.methodLink "java/lang/StringBuilder" (50 : Nat) ({ cls := "java/lang/AbstractStringBuilder", name := "append", desc := "(C)Ljava/lang/AbstractStringBuilder;" } : Jvm.MethodName)) ∈ lw_all := lw_g (lw_at lw_m2 215 rfl) rfl
theorem q608 : (Jvm.Cond.selects "java/lang/StringBuilder" ({ cls := "java/lang/AbstractStringBuilder", name := "isLatin1", desc := "()Z" } : Jvm.MethodName) ({ cls := "java/lang/AbstractStringBuilder", name := "isLatin1", desc := "()Z" } : Jvm.MethodName)) ∈ lw_all := lw_g (lw_at lw_m3 16 rfl) rfl
theorem q657 : (Jvm.Cond.instanceMethod ({ cls := "java/lang/StringBuilder", name := "toString", desc := "()Ljava/lang/String;" } : Jvm.MethodName)) ∈ lw_all := lw_g (lw_at lw_m3 65 rfl) rfl
theorem q658 : (Jvm.Cond.selects "java/lang/StringBuilder" ({ cls := "java/lang/StringBuilder", name := "toString", desc := "()Ljava/lang/String;" } : Jvm.MethodName) ({ cls := "java/lang/StringBuilder", name := "toString", desc := "()Ljava/lang/String;" } : Jvm.MethodName)) ∈ lw_all := lw_g (lw_at lw_m3 66 rfl) rfl
theorem q659 : (Jvm.Cond.code ({ cls := "java/lang/StringBuilder", name := "toString", desc := "()Ljava/lang/String;" } : Jvm.MethodName) prog_41_method_42_code (1 : Nat) (Option.some (Jvm.ClassFile.FieldType.object "java/lang/String"))) ∈ lw_all := lw_g (lw_at lw_m3 67 rfl) rfl
theorem q660 : (Jvm.Cond.classLink "java/lang/StringBuilder" (18 : Nat) "java/lang/String") ∈ lw_all := lw_g (lw_at lw_m3 68 rfl) rfl
theorem q662 : (Jvm.Cond.methodLink "java/lang/StringBuilder" (137 : Nat) ({ cls := "java/lang/String", name := "<init>", desc := "(Ljava/lang/StringBuilder;)V" } : Jvm.MethodName)) ∈ lw_all := lw_g (lw_at lw_m3 70 rfl) rfl
theorem q672 : (Jvm.Cond.selects "java/lang/StringBuilder" ({ cls := "java/lang/AbstractStringBuilder", name := "getValue", desc := "()[B" } : Jvm.MethodName) ({ cls := "java/lang/AbstractStringBuilder", name := "getValue", desc := "()[B" } : Jvm.MethodName)) ∈ lw_all := lw_g (lw_at lw_m3 80 rfl) rfl
theorem q677 : (Jvm.Cond.selects "java/lang/StringBuilder" ({ cls := "java/lang/AbstractStringBuilder", name := "length", desc := "()I" } : Jvm.MethodName) ({ cls := "java/lang/StringBuilder", name := "length", desc := "()I" } : Jvm.MethodName)) ∈ lw_all := lw_g (lw_at lw_m3 85 rfl) rfl
theorem q678 : (Jvm.Cond.instanceMethod ({ cls := "java/lang/StringBuilder", name := "length", desc := "()I" } : Jvm.MethodName)) ∈ lw_all := lw_g (lw_at lw_m3 86 rfl) rfl
theorem q679 : (Jvm.Cond.code ({ cls := "java/lang/StringBuilder", name := "length", desc := "()I" } : Jvm.MethodName) prog_41_method_93_code (1 : Nat) (Option.some Jvm.ClassFile.FieldType.int)) ∈ lw_all := lw_g (lw_at lw_m3 87 rfl) rfl
theorem q680 : (Jvm.Cond.methodLink "java/lang/StringBuilder" (343 : Nat) ({ cls := "java/lang/AbstractStringBuilder", name := "length", desc := "()I" } : Jvm.MethodName)) ∈ lw_all := lw_g (lw_at lw_m3 88 rfl) rfl
theorem q832 : (Jvm.Cond.instanceMethod ({ cls := "java/lang/StringBuilder", name := "append", desc := "(Ljava/lang/String;)Ljava/lang/StringBuilder;" } : Jvm.MethodName)) ∈ lw_all := lw_g (lw_at lw_m4 0 rfl) rfl
theorem q833 : (Jvm.Cond.selects "java/lang/StringBuilder" ({ cls := "java/lang/StringBuilder", name := "append", desc := "(Ljava/lang/String;)Ljava/lang/StringBuilder;" } : Jvm.MethodName) ({ cls := "java/lang/StringBuilder", name := "append", desc := "(Ljava/lang/String;)Ljava/lang/StringBuilder;" } : Jvm.MethodName)) ∈ lw_all := lw_g (lw_at lw_m4 1 rfl) rfl
theorem q834 : (Jvm.Cond.code ({ cls := "java/lang/StringBuilder", name := "append", desc := "(Ljava/lang/String;)Ljava/lang/StringBuilder;" } : Jvm.MethodName) prog_41_method_7_code (2 : Nat) (Option.some (Jvm.ClassFile.FieldType.object "java/lang/StringBuilder"))) ∈ lw_all := lw_g (lw_at lw_m4 2 rfl) rfl
theorem q835 : (Jvm.Cond.methodLink "java/lang/StringBuilder" (29 : Nat) ({ cls := "java/lang/AbstractStringBuilder", name := "append", desc := "(Ljava/lang/String;)Ljava/lang/AbstractStringBuilder;" } : Jvm.MethodName)) ∈ lw_all := lw_g (lw_at lw_m4 3 rfl) rfl
theorem q995 : (Jvm.Cond.selects "java/lang/StringBuilder" ({ cls := "java/lang/Object", name := "getClass", desc := "()Ljava/lang/Class;" } : Jvm.MethodName) ({ cls := "java/lang/Object", name := "getClass", desc := "()Ljava/lang/Class;" } : Jvm.MethodName)) ∈ lw_all := lw_g (lw_at lw_m4 163 rfl) rfl
theorem q2548 : (Jvm.Cond.castable "java/lang/StringBuilder" "java/lang/Object") ∈ lw_tbl := lw_at lw_m11 36 rfl
theorem q128 : (Jvm.Cond.initialized "java/lang/String") ∈ lw_all := lw_g (lw_at lw_m1 16 rfl) rfl
theorem q542 : (Jvm.Cond.laysStatic "java/lang/String" "COMPACT_STRINGS" "Z") ∈ lw_tbl := lw_at lw_m2 190 rfl
theorem q552 : (Jvm.Cond.fieldLink "java/lang/String" (1048 : Nat) "java/lang/AbstractStringBuilder" "maybeLatin1" "Z") ∈ lw_all := lw_g (lw_at lw_m2 200 rfl) rfl
theorem q630 : (Jvm.Cond.static ({ cls := "java/lang/String", name := "checkBoundsOffCount", desc := "(III)I" } : Jvm.MethodName)) ∈ lw_all := lw_g (lw_at lw_m3 38 rfl) rfl
theorem q631 : (Jvm.Cond.code ({ cls := "java/lang/String", name := "checkBoundsOffCount", desc := "(III)I" } : Jvm.MethodName) prog_40_method_157_code (3 : Nat) (Option.some Jvm.ClassFile.FieldType.int)) ∈ lw_all := lw_g (lw_at lw_m3 39 rfl) rfl
theorem q632 : (Jvm.Cond.fieldLink "java/lang/String" (1053 : Nat) "jdk/internal/util/Preconditions" "SIOOBE_FORMATTER" "Ljava/util/function/BiFunction;") ∈ lw_all := lw_g (lw_at lw_m3 40 rfl) rfl
theorem q634 : (Jvm.Cond.methodLink "java/lang/String" (1065 : Nat) ({ cls := "jdk/internal/util/Preconditions", name := "checkFromIndexSize", desc := "(IIILjava/util/function/BiFunction;)I" } : Jvm.MethodName)) ∈ lw_all := lw_g (lw_at lw_m3 42 rfl) rfl
theorem q653 : (Jvm.Cond.static ({ cls := "java/lang/String", name := "checkIndex", desc := "(II)V" } : Jvm.MethodName)) ∈ lw_all := lw_g (lw_at lw_m3 61 rfl) rfl
theorem q654 : (Jvm.Cond.code ({ cls := "java/lang/String", name := "checkIndex", desc := "(II)V" } : Jvm.MethodName) prog_40_method_155_code (2 : Nat) (Option.none : Option Jvm.ClassFile.FieldType)) ∈ lw_all := lw_g (lw_at lw_m3 62 rfl) rfl
theorem q655 : (Jvm.Cond.methodLink "java/lang/String" (1059 : Nat) ({ cls := "jdk/internal/util/Preconditions", name := "checkIndex", desc := "(IILjava/util/function/BiFunction;)I" } : Jvm.MethodName)) ∈ lw_all := lw_g (lw_at lw_m3 63 rfl) rfl
theorem q661 : (Jvm.Cond.instantiable "java/lang/String" (4 : Nat)) ∈ lw_all := lw_g (lw_at lw_m3 69 rfl) rfl
theorem q663 : (Jvm.Cond.instanceMethod ({ cls := "java/lang/String", name := "<init>", desc := "(Ljava/lang/StringBuilder;)V" } : Jvm.MethodName)) ∈ lw_all := lw_g (lw_at lw_m3 71 rfl) rfl
theorem q664 : (Jvm.Cond.code ({ cls := "java/lang/String", name := "<init>", desc := "(Ljava/lang/StringBuilder;)V" } : Jvm.MethodName) prog_40_method_53_code (2 : Nat) (Option.none : Option Jvm.ClassFile.FieldType)) ∈ lw_all := lw_g (lw_at lw_m3 72 rfl) rfl
theorem q665 : (Jvm.Cond.methodLink "java/lang/String" (489 : Nat) ({ cls := "java/lang/String", name := "<init>", desc := "(Ljava/lang/AbstractStringBuilder;Ljava/lang/Void;)V" } : Jvm.MethodName)) ∈ lw_all := lw_g (lw_at lw_m3 73 rfl) rfl
theorem q666 : (Jvm.Cond.instanceMethod ({ cls := "java/lang/String", name := "<init>", desc := "(Ljava/lang/AbstractStringBuilder;Ljava/lang/Void;)V" } : Jvm.MethodName)) ∈ lw_all := lw_g (lw_at lw_m3 74 rfl) rfl
theorem q667 : (Jvm.Cond.code ({ cls := "java/lang/String", name := "<init>", desc := "(Ljava/lang/AbstractStringBuilder;Ljava/lang/Void;)V" } : Jvm.MethodName) prog_40_method_150_code (5 : Nat) (Option.none : Option Jvm.ClassFile.FieldType)) ∈ lw_all := lw_g (lw_at lw_m3 75 rfl) rfl
theorem q668 : (Jvm.Cond.methodLink "java/lang/String" (1 : Nat) ({ cls := "java/lang/Object", name := "<init>", desc := "()V" } : Jvm.MethodName)) ∈ lw_all := lw_g (lw_at lw_m3 76 rfl) rfl
theorem q669 : (Jvm.Cond.methodLink "java/lang/String" (552 : Nat) ({ cls := "java/lang/AbstractStringBuilder", name := "getValue", desc := "()[B" } : Jvm.MethodName)) ∈ lw_all := lw_g (lw_at lw_m3 77 rfl) rfl
theorem q674 : (Jvm.Cond.methodLink "java/lang/String" (549 : Nat) ({ cls := "java/lang/AbstractStringBuilder", name := "length", desc := "()I" } : Jvm.MethodName)) ∈ lw_all := lw_g (lw_at lw_m3 82 rfl) rfl
theorem q682 : (Jvm.Cond.methodLink "java/lang/String" (1047 : Nat) ({ cls := "java/lang/AbstractStringBuilder", name := "isLatin1", desc := "()Z" } : Jvm.MethodName)) ∈ lw_all := lw_g (lw_at lw_m3 90 rfl) rfl
theorem q683 : (Jvm.Cond.methodLink "java/lang/String" (54 : Nat) ({ cls := "java/util/Arrays", name := "copyOfRange", desc := "([BII)[B" } : Jvm.MethodName)) ∈ lw_all := lw_g (lw_at lw_m3 91 rfl) rfl
theorem q692 : (Jvm.Cond.fieldLink "java/lang/String" (38 : Nat) "java/lang/String" "COMPACT_STRINGS" "Z") ∈ lw_all := lw_g (lw_at lw_m3 100 rfl) rfl
theorem q693 : (Jvm.Cond.methodLink "java/lang/String" (1051 : Nat) ({ cls := "java/lang/StringUTF16", name := "compress", desc := "([BII)[B" } : Jvm.MethodName)) ∈ lw_all := lw_g (lw_at lw_m3 101 rfl) rfl
theorem q703 : (Jvm.Cond.methodLink "java/lang/String" (47 : Nat) ({ cls := "java/lang/StringUTF16", name := "coderFromArrayLen", desc := "([BI)B" } : Jvm.MethodName)) ∈ lw_all := lw_g (lw_at lw_m3 111 rfl) rfl
theorem q706 : (Jvm.Cond.fieldLink "java/lang/String" (9 : Nat) "java/lang/String" "value" "[B") ∈ lw_all := lw_g (lw_at lw_m3 114 rfl) rfl
theorem q707 : (Jvm.Cond.fieldLink "java/lang/String" (15 : Nat) "java/lang/String" "coder" "B") ∈ lw_all := lw_g (lw_at lw_m3 115 rfl) rfl
theorem q708 : (Jvm.Cond.laysFinal "java/lang/String" "java/lang/String" "value" "[B") ∈ lw_all := lw_g (lw_at lw_m3 116 rfl) rfl
theorem q709 : (Jvm.Cond.soleField "java/lang/String" "value") ∈ lw_all := lw_g (lw_at lw_m3 117 rfl) rfl
theorem q710 : (Jvm.Cond.laysFinal "java/lang/String" "java/lang/String" "coder" "B") ∈ lw_all := lw_g (lw_at lw_m3 118 rfl) rfl
theorem q711 : (Jvm.Cond.soleField "java/lang/String" "coder") ∈ lw_all := lw_g (lw_at lw_m3 119 rfl) rfl
theorem q712 : (Jvm.Cond.lays "java/lang/String" "java/lang/String" "hash" "I") ∈ lw_all := lw_g (lw_at lw_m3 120 rfl) rfl
theorem q713 : (Jvm.Cond.soleField "java/lang/String" "hash") ∈ lw_all := lw_g (lw_at lw_m3 121 rfl) rfl
theorem q714 : (Jvm.Cond.lays "java/lang/String" "java/lang/String" "hashIsZero" "Z") ∈ lw_all := lw_g (lw_at lw_m3 122 rfl) rfl
theorem q715 : (Jvm.Cond.soleField "java/lang/String" "hashIsZero") ∈ lw_all := lw_g (lw_at lw_m3 123 rfl) rfl
theorem q716 : (Jvm.Cond.superclass "java/lang/String" "java/lang/Object") ∈ lw_all := lw_g (lw_at lw_m3 124 rfl) rfl
theorem q729 : (Jvm.Cond.instanceMethod ({ cls := "java/lang/String", name := "equals", desc := "(Ljava/lang/Object;)Z" } : Jvm.MethodName)) ∈ lw_all := lw_g (lw_at lw_m3 137 rfl) rfl
theorem q730 : (Jvm.Cond.selects "java/lang/String" ({ cls := "java/lang/String", name := "equals", desc := "(Ljava/lang/Object;)Z" } : Jvm.MethodName) ({ cls := "java/lang/String", name := "equals", desc := "(Ljava/lang/Object;)Z" } : Jvm.MethodName)) ∈ lw_all := lw_g (lw_at lw_m3 138 rfl) rfl
theorem q731 : (Jvm.Cond.code ({ cls := "java/lang/String", name := "equals", desc := "(Ljava/lang/Object;)Z" } : Jvm.MethodName) prog_40_method_66_code (3 : Nat) (Option.some Jvm.ClassFile.FieldType.boolean)) ∈ lw_all := lw_g (lw_at lw_m3 139 rfl) rfl
theorem q732 : (Jvm.Cond.classLink "java/lang/String" (10 : Nat) "java/lang/String") ∈ lw_all := lw_g (lw_at lw_m3 140 rfl) rfl
theorem q733 : (Jvm.Cond.methodLink "java/lang/String" (541 : Nat) ({ cls := "java/lang/StringLatin1", name := "equals", desc := "([B[B)Z" } : Jvm.MethodName)) ∈ lw_all := lw_g (lw_at lw_m3 141 rfl) rfl
theorem q849 : (Jvm.Cond.static ({ cls := "java/lang/String", name := "checkBoundsBeginEnd", desc := "(III)V" } : Jvm.MethodName)) ∈ lw_all := lw_g (lw_at lw_m4 17 rfl) rfl
theorem q850 : (Jvm.Cond.code ({ cls := "java/lang/String", name := "checkBoundsBeginEnd", desc := "(III)V" } : Jvm.MethodName) prog_40_method_158_code (3 : Nat) (Option.none : Option Jvm.ClassFile.FieldType)) ∈ lw_all := lw_g (lw_at lw_m4 18 rfl) rfl
theorem q851 : (Jvm.Cond.methodLink "java/lang/String" (1062 : Nat) ({ cls := "jdk/internal/util/Preconditions", name := "checkFromToIndex", desc := "(IIILjava/util/function/BiFunction;)I" } : Jvm.MethodName)) ∈ lw_all := lw_g (lw_at lw_m4 19 rfl) rfl
theorem q855 : (Jvm.Cond.instanceMethod ({ cls := "java/lang/String", name := "length", desc := "()I" } : Jvm.MethodName)) ∈ lw_all := lw_g (lw_at lw_m4 23 rfl) rfl
theorem q856 : (Jvm.Cond.selects "java/lang/String" ({ cls := "java/lang/String", name := "length", desc := "()I" } : Jvm.MethodName) ({ cls := "java/lang/String", name := "length", desc := "()I" } : Jvm.MethodName)) ∈ lw_all := lw_g (lw_at lw_m4 24 rfl) rfl
theorem q857 : (Jvm.Cond.code ({ cls := "java/lang/String", name := "length", desc := "()I" } : Jvm.MethodName) prog_40_method_54_code (1 : Nat) (Option.some Jvm.ClassFile.FieldType.int)) ∈ lw_all := lw_g (lw_at lw_m4 25 rfl) rfl
theorem q858 : (Jvm.Cond.methodLink "java/lang/String" (335 : Nat) ({ cls := "java/lang/String", name := "coder", desc := "()B" } : Jvm.MethodName)) ∈ lw_all := lw_g (lw_at lw_m4 26 rfl) rfl
theorem q859 : (Jvm.Cond.instanceMethod ({ cls := "java/lang/String", name := "coder", desc := "()B" } : Jvm.MethodName)) ∈ lw_all := lw_g (lw_at lw_m4 27 rfl) rfl
theorem q860 : (Jvm.Cond.selects "java/lang/String" ({ cls := "java/lang/String", name := "coder", desc := "()B" } : Jvm.MethodName) ({ cls := "java/lang/String", name := "coder", desc := "()B" } : Jvm.MethodName)) ∈ lw_all := lw_g (lw_at lw_m4 28 rfl) rfl
theorem q861 : (Jvm.Cond.code ({ cls := "java/lang/String", name := "coder", desc := "()B" } : Jvm.MethodName) prog_40_method_152_code (1 : Nat) (Option.some Jvm.ClassFile.FieldType.byte)) ∈ lw_all := lw_g (lw_at lw_m4 29 rfl) rfl
theorem q872 : (Jvm.Cond.instanceMethod ({ cls := "java/lang/String", name := "getBytes", desc := "([BIB)V" } : Jvm.MethodName)) ∈ lw_all := lw_g (lw_at lw_m4 40 rfl) rfl
theorem q873 : (Jvm.Cond.selects "java/lang/String" ({ cls := "java/lang/String", name := "getBytes", desc := "([BIB)V" } : Jvm.MethodName) ({ cls := "java/lang/String", name := "getBytes", desc := "([BIB)V" } : Jvm.MethodName)) ∈ lw_all := lw_g (lw_at lw_m4 41 rfl) rfl
theorem q874 : (Jvm.Cond.code ({ cls := "java/lang/String", name := "getBytes", desc := "([BIB)V" } : Jvm.MethodName) prog_40_method_147_code (4 : Nat) (Option.none : Option Jvm.ClassFile.FieldType)) ∈ lw_all := lw_g (lw_at lw_m4 42 rfl) rfl
theorem q875 : (Jvm.Cond.methodLink "java/lang/String" (212 : Nat) ({ cls := "java/lang/System", name := "arraycopy", desc := "(Ljava/lang/Object;ILjava/lang/Object;II)V" } : Jvm.MethodName)) ∈ lw_all := lw_g (lw_at lw_m4 43 rfl) rfl
theorem q876 : (Jvm.Cond.methodLink "java/lang/String" (106 : Nat) ({ cls := "java/lang/StringLatin1", name := "inflate", desc := "([BI[BII)V" } : Jvm.MethodName)) ∈ lw_all := lw_g (lw_at lw_m4 44 rfl) rfl
theorem q878 : (Jvm.Cond.instanceMethod ({ cls := "java/lang/String", name := "indexOf", desc := "(Ljava/lang/String;)I" } : Jvm.MethodName)) ∈ lw_all := lw_g (lw_at lw_m4 46 rfl) rfl
theorem q879 : (Jvm.Cond.selects "java/lang/String" ({ cls := "java/lang/String", name := "indexOf", desc := "(Ljava/lang/String;)I" } : Jvm.MethodName) ({ cls := "java/lang/String", name := "indexOf", desc := "(Ljava/lang/String;)I" } : Jvm.MethodName)) ∈ lw_all := lw_g (lw_at lw_m4 47 rfl) rfl
theorem q880 : (Jvm.Cond.code ({ cls := "java/lang/String", name := "indexOf", desc := "(Ljava/lang/String;)I" } : Jvm.MethodName) prog_40_method_84_code (3 : Nat) (Option.some Jvm.ClassFile.FieldType.int)) ∈ lw_all := lw_g (lw_at lw_m4 48 rfl) rfl
theorem q881 : (Jvm.Cond.methodLink "java/lang/String" (492 : Nat) ({ cls := "java/lang/String", name := "isLatin1", desc := "()Z" } : Jvm.MethodName)) ∈ lw_all := lw_g (lw_at lw_m4 49 rfl) rfl
theorem q882 : (Jvm.Cond.instanceMethod ({ cls := "java/lang/String", name := "isLatin1", desc := "()Z" } : Jvm.MethodName)) ∈ lw_all := lw_g (lw_at lw_m4 50 rfl) rfl
theorem q883 : (Jvm.Cond.selects "java/lang/String" ({ cls := "java/lang/String", name := "isLatin1", desc := "()Z" } : Jvm.MethodName) ({ cls := "java/lang/String", name := "isLatin1", desc := "()Z" } : Jvm.MethodName)) ∈ lw_all := lw_g (lw_at lw_m4 51 rfl) rfl
theorem q884 : (Jvm.Cond.code ({ cls := "java/lang/String", name := "isLatin1", desc := "()Z" } : Jvm.MethodName) prog_40_method_154_code (1 : Nat) (Option.some Jvm.ClassFile.FieldType.boolean)) ∈ lw_all := lw_g (lw_at lw_m4 52 rfl) rfl
theorem q885 : (Jvm.Cond.methodLink "java/lang/String" (647 : Nat) ({ cls := "java/lang/StringLatin1", name := "indexOf", desc := "([B[B)I" } : Jvm.MethodName)) ∈ lw_all := lw_g (lw_at lw_m4 53 rfl) rfl
theorem q891 : (Jvm.Cond.methodLink "java/lang/String" (649 : Nat) ({ cls := "java/lang/StringUTF16", name := "indexOf", desc := "([B[B)I" } : Jvm.MethodName)) ∈ lw_all := lw_g (lw_at lw_m4 59 rfl) rfl
theorem q897 : (Jvm.Cond.methodLink "java/lang/String" (650 : Nat) ({ cls := "java/lang/StringUTF16", name := "indexOfLatin1", desc := "([B[B)I" } : Jvm.MethodName)) ∈ lw_all := lw_g (lw_at lw_m4 65 rfl) rfl
theorem q994 : (Jvm.Cond.selects "java/lang/String" ({ cls := "java/lang/Object", name := "getClass", desc := "()Ljava/lang/Class;" } : Jvm.MethodName) ({ cls := "java/lang/Object", name := "getClass", desc := "()Ljava/lang/Class;" } : Jvm.MethodName)) ∈ lw_all := lw_g (lw_at lw_m4 162 rfl) rfl
theorem q2549 : (Jvm.Cond.castable "java/lang/String" "java/lang/Object") ∈ lw_tbl := lw_at lw_m11 37 rfl
theorem q129 : (Jvm.Cond.initialized "java/lang/StringUTF16") ∈ lw_all := lw_g (lw_at lw_m1 17 rfl) rfl
theorem q544 : (Jvm.Cond.static ({ cls := "java/lang/StringUTF16", name := "newBytesFor", desc := "(I)[B" } : Jvm.MethodName)) ∈ lw_all := lw_g (lw_at lw_m2 192 rfl) rfl
theorem q545 : (Jvm.Cond.code ({ cls := "java/lang/StringUTF16", name := "newBytesFor", desc := "(I)[B" } : Jvm.MethodName) prog_43_method_2_code (1 : Nat) (Option.some (Jvm.ClassFile.FieldType.array Jvm.ClassFile.FieldType.byte))) ∈ lw_all := lw_g (lw_at lw_m2 193 rfl) rfl
theorem q546 : (Jvm.Cond.methodLink "java/lang/StringUTF16" (11 : Nat) ({ cls := "java/lang/StringUTF16", name := "newBytesLength", desc := "(I)I" } : Jvm.MethodName)) ∈ lw_all := lw_g (lw_at lw_m2 194 rfl) rfl
theorem q547 : (Jvm.Cond.static ({ cls := "java/lang/StringUTF16", name := "newBytesLength", desc := "(I)I" } : Jvm.MethodName)) ∈ lw_all := lw_g (lw_at lw_m2 195 rfl) rfl
theorem q548 : (Jvm.Cond.code ({ cls := "java/lang/StringUTF16", name := "newBytesLength", desc := "(I)I" } : Jvm.MethodName) prog_43_method_3_code (1 : Nat) (Option.some Jvm.ClassFile.FieldType.int)) ∈ lw_all := lw_g (lw_at lw_m2 196 rfl) rfl
theorem q549 : (Jvm.Cond.constant "java/lang/StringUTF16" (20 : Nat) (1073741823 : Int32)) ∈ lw_all := lw_g (lw_at lw_m2 197 rfl) rfl
theorem q621 : (Jvm.Cond.static ({ cls := "java/lang/StringUTF16", name := "inflate", desc := "([BI[BII)V" } : Jvm.MethodName)) ∈ lw_all := lw_g (lw_at lw_m3 29 rfl) rfl
theorem q622 : (Jvm.Cond.code ({ cls := "java/lang/StringUTF16", name := "inflate", desc := "([BI[BII)V" } : Jvm.MethodName) prog_43_method_86_code (6 : Nat) (Option.none : Option Jvm.ClassFile.FieldType)) ∈ lw_all := lw_g (lw_at lw_m3 30 rfl) rfl
theorem q623 : (Jvm.Cond.methodLink "java/lang/StringUTF16" (173 : Nat) ({ cls := "java/lang/StringUTF16", name := "checkBoundsOffCount", desc := "(II[B)V" } : Jvm.MethodName)) ∈ lw_all := lw_g (lw_at lw_m3 31 rfl) rfl
theorem q624 : (Jvm.Cond.static ({ cls := "java/lang/StringUTF16", name := "checkBoundsOffCount", desc := "(II[B)V" } : Jvm.MethodName)) ∈ lw_all := lw_g (lw_at lw_m3 32 rfl) rfl
theorem q625 : (Jvm.Cond.code ({ cls := "java/lang/StringUTF16", name := "checkBoundsOffCount", desc := "(II[B)V" } : Jvm.MethodName) prog_43_method_94_code (3 : Nat) (Option.none : Option Jvm.ClassFile.FieldType)) ∈ lw_all := lw_g (lw_at lw_m3 33 rfl) rfl
theorem q626 : (Jvm.Cond.methodLink "java/lang/StringUTF16" (48 : Nat) ({ cls := "java/lang/StringUTF16", name := "length", desc := "([B)I" } : Jvm.MethodName)) ∈ lw_all := lw_g (lw_at lw_m3 34 rfl) rfl
theorem q627 : (Jvm.Cond.static ({ cls := "java/lang/StringUTF16", name := "length", desc := "([B)I" } : Jvm.MethodName)) ∈ lw_all := lw_g (lw_at lw_m3 35 rfl) rfl
theorem q628 : (Jvm.Cond.code ({ cls := "java/lang/StringUTF16", name := "length", desc := "([B)I" } : Jvm.MethodName) prog_43_method_6_code (1 : Nat) (Option.some Jvm.ClassFile.FieldType.int)) ∈ lw_all := lw_g (lw_at lw_m3 36 rfl) rfl
theorem q629 : (Jvm.Cond.methodLink "java/lang/StringUTF16" (419 : Nat) ({ cls := "java/lang/String", name := "checkBoundsOffCount", desc := "(III)I" } : Jvm.MethodName)) ∈ lw_all := lw_g (lw_at lw_m3 37 rfl) rfl
theorem q637 : (Jvm.Cond.methodLink "java/lang/StringUTF16" (111 : Nat) ({ cls := "java/lang/StringUTF16", name := "putChar", desc := "([BII)V" } : Jvm.MethodName)) ∈ lw_all := lw_g (lw_at lw_m3 45 rfl) rfl
theorem q638 : (Jvm.Cond.static ({ cls := "java/lang/StringUTF16", name := "putChar", desc := "([BII)V" } : Jvm.MethodName)) ∈ lw_all := lw_g (lw_at lw_m3 46 rfl) rfl
theorem q639 : (Jvm.Cond.code ({ cls := "java/lang/StringUTF16", name := "putChar", desc := "([BII)V" } : Jvm.MethodName) prog_43_method_4_code (3 : Nat) (Option.none : Option Jvm.ClassFile.FieldType)) ∈ lw_all := lw_g (lw_at lw_m3 47 rfl) rfl
theorem q640 : (Jvm.Cond.fieldLink "java/lang/StringUTF16" (44 : Nat) "java/lang/StringUTF16" "$assertionsDisabled" "Z") ∈ lw_all := lw_g (lw_at lw_m3 48 rfl) rfl
theorem q641 : (Jvm.Cond.laysStatic "java/lang/StringUTF16" "$assertionsDisabled" "Z") ∈ lw_tbl := lw_at lw_m3 49 rfl
theorem q642 : (Jvm.Cond.fieldLink "java/lang/StringUTF16" (59 : Nat) "java/lang/StringUTF16" "HI_BYTE_SHIFT" "I") ∈ lw_all := lw_g (lw_at lw_m3 50 rfl) rfl
theorem q643 : (Jvm.Cond.laysStatic "java/lang/StringUTF16" "HI_BYTE_SHIFT" "I") ∈ lw_tbl := lw_at lw_m3 51 rfl
theorem q644 : (Jvm.Cond.fieldLink "java/lang/StringUTF16" (63 : Nat) "java/lang/StringUTF16" "LO_BYTE_SHIFT" "I") ∈ lw_all := lw_g (lw_at lw_m3 52 rfl) rfl
theorem q645 : (Jvm.Cond.laysStatic "java/lang/StringUTF16" "LO_BYTE_SHIFT" "I") ∈ lw_tbl := lw_at lw_m3 53 rfl
theorem q647 : (Jvm.Cond.static ({ cls := "java/lang/StringUTF16", name := "putCharSB", desc := "([BII)V" } : Jvm.MethodName)) ∈ lw_all := lw_g (lw_at lw_m3 55 rfl) rfl
theorem q648 : (Jvm.Cond.code ({ cls := "java/lang/StringUTF16", name := "putCharSB", desc := "([BII)V" } : Jvm.MethodName) prog_43_method_71_code (3 : Nat) (Option.none : Option Jvm.ClassFile.FieldType)) ∈ lw_all := lw_g (lw_at lw_m3 56 rfl) rfl
theorem q649 : (Jvm.Cond.methodLink "java/lang/StringUTF16" (67 : Nat) ({ cls := "java/lang/StringUTF16", name := "checkIndex", desc := "(I[B)V" } : Jvm.MethodName)) ∈ lw_all := lw_g (lw_at lw_m3 57 rfl) rfl
theorem q650 : (Jvm.Cond.static ({ cls := "java/lang/StringUTF16", name := "checkIndex", desc := "(I[B)V" } : Jvm.MethodName)) ∈ lw_all := lw_g (lw_at lw_m3 58 rfl) rfl
theorem q651 : (Jvm.Cond.code ({ cls := "java/lang/StringUTF16", name := "checkIndex", desc := "(I[B)V" } : Jvm.MethodName) prog_43_method_91_code (2 : Nat) (Option.none : Option Jvm.ClassFile.FieldType)) ∈ lw_all := lw_g (lw_at lw_m3 59 rfl) rfl
theorem q652 : (Jvm.Cond.methodLink "java/lang/StringUTF16" (414 : Nat) ({ cls := "java/lang/String", name := "checkIndex", desc := "(II)V" } : Jvm.MethodName)) ∈ lw_all := lw_g (lw_at lw_m3 60 rfl) rfl
theorem q694 : (Jvm.Cond.static ({ cls := "java/lang/StringUTF16", name := "compress", desc := "([BII)[B" } : Jvm.MethodName)) ∈ lw_all := lw_g (lw_at lw_m3 102 rfl) rfl
theorem q695 : (Jvm.Cond.code ({ cls := "java/lang/StringUTF16", name := "compress", desc := "([BII)[B" } : Jvm.MethodName) prog_43_method_17_code (6 : Nat) (Option.some (Jvm.ClassFile.FieldType.array Jvm.ClassFile.FieldType.byte))) ∈ lw_all := lw_g (lw_at lw_m3 103 rfl) rfl
theorem q696 : (Jvm.Cond.methodLink "java/lang/StringUTF16" (123 : Nat) ({ cls := "java/lang/StringUTF16", name := "compress", desc := "([BI[BII)I" } : Jvm.MethodName)) ∈ lw_all := lw_g (lw_at lw_m3 104 rfl) rfl
theorem q697 : (Jvm.Cond.static ({ cls := "java/lang/StringUTF16", name := "compress", desc := "([BI[BII)I" } : Jvm.MethodName)) ∈ lw_all := lw_g (lw_at lw_m3 105 rfl) rfl
theorem q698 : (Jvm.Cond.code ({ cls := "java/lang/StringUTF16", name := "compress", desc := "([BI[BII)I" } : Jvm.MethodName) prog_43_method_22_code (7 : Nat) (Option.some Jvm.ClassFile.FieldType.int)) ∈ lw_all := lw_g (lw_at lw_m3 106 rfl) rfl
theorem q699 : (Jvm.Cond.methodLink "java/lang/StringUTF16" (71 : Nat) ({ cls := "java/lang/StringUTF16", name := "getChar", desc := "([BI)C" } : Jvm.MethodName)) ∈ lw_all := lw_g (lw_at lw_m3 107 rfl) rfl
theorem q700 : (Jvm.Cond.static ({ cls := "java/lang/StringUTF16", name := "getChar", desc := "([BI)C" } : Jvm.MethodName)) ∈ lw_all := lw_g (lw_at lw_m3 108 rfl) rfl
theorem q701 : (Jvm.Cond.code ({ cls := "java/lang/StringUTF16", name := "getChar", desc := "([BI)C" } : Jvm.MethodName) prog_43_method_5_code (2 : Nat) (Option.some Jvm.ClassFile.FieldType.char)) ∈ lw_all := lw_g (lw_at lw_m3 109 rfl) rfl
theorem q702 : (Jvm.Cond.methodLink "java/lang/StringUTF16" (126 : Nat) ({ cls := "java/util/Arrays", name := "copyOfRange", desc := "([BII)[B" } : Jvm.MethodName)) ∈ lw_all := lw_g (lw_at lw_m3 110 rfl) rfl
theorem q704 : (Jvm.Cond.static ({ cls := "java/lang/StringUTF16", name := "coderFromArrayLen", desc := "([BI)B" } : Jvm.MethodName)) ∈ lw_all := lw_g (lw_at lw_m3 112 rfl) rfl
theorem q705 : (Jvm.Cond.code ({ cls := "java/lang/StringUTF16", name := "coderFromArrayLen", desc := "([BI)B" } : Jvm.MethodName) prog_43_method_15_code (2 : Nat) (Option.some Jvm.ClassFile.FieldType.byte)) ∈ lw_all := lw_g (lw_at lw_m3 113 rfl) rfl
theorem q843 : (Jvm.Cond.static ({ cls := "java/lang/StringUTF16", name := "putCharsAt", desc := "([BICCCC)I" } : Jvm.MethodName)) ∈ lw_all := lw_g (lw_at lw_m4 11 rfl) rfl
theorem q844 : (Jvm.Cond.code ({ cls := "java/lang/StringUTF16", name := "putCharsAt", desc := "([BICCCC)I" } : Jvm.MethodName) prog_43_method_81_code (7 : Nat) (Option.some Jvm.ClassFile.FieldType.int)) ∈ lw_all := lw_g (lw_at lw_m4 12 rfl) rfl
theorem q845 : (Jvm.Cond.methodLink "java/lang/StringUTF16" (96 : Nat) ({ cls := "java/lang/StringUTF16", name := "checkBoundsBeginEnd", desc := "(II[B)V" } : Jvm.MethodName)) ∈ lw_all := lw_g (lw_at lw_m4 13 rfl) rfl
theorem q846 : (Jvm.Cond.static ({ cls := "java/lang/StringUTF16", name := "checkBoundsBeginEnd", desc := "(II[B)V" } : Jvm.MethodName)) ∈ lw_all := lw_g (lw_at lw_m4 14 rfl) rfl
theorem q847 : (Jvm.Cond.code ({ cls := "java/lang/StringUTF16", name := "checkBoundsBeginEnd", desc := "(II[B)V" } : Jvm.MethodName) prog_43_method_93_code (3 : Nat) (Option.none : Option Jvm.ClassFile.FieldType)) ∈ lw_all := lw_g (lw_at lw_m4 15 rfl) rfl
theorem q848 : (Jvm.Cond.methodLink "java/lang/StringUTF16" (241 : Nat) ({ cls := "java/lang/String", name := "checkBoundsBeginEnd", desc := "(III)V" } : Jvm.MethodName)) ∈ lw_all := lw_g (lw_at lw_m4 16 rfl) rfl
theorem q892 : (Jvm.Cond.static ({ cls := "java/lang/StringUTF16", name := "indexOf", desc := "([B[B)I" } : Jvm.MethodName)) ∈ lw_all := lw_g (lw_at lw_m4 60 rfl) rfl
theorem q893 : (Jvm.Cond.code ({ cls := "java/lang/StringUTF16", name := "indexOf", desc := "([B[B)I" } : Jvm.MethodName) prog_43_method_41_code (2 : Nat) (Option.some Jvm.ClassFile.FieldType.int)) ∈ lw_all := lw_g (lw_at lw_m4 61 rfl) rfl
theorem q894 : (Jvm.Cond.methodLink "java/lang/StringUTF16" (235 : Nat) ({ cls := "java/lang/StringUTF16", name := "indexOfUnsafe", desc := "([BI[BII)I" } : Jvm.MethodName)) ∈ lw_all := lw_g (lw_at lw_m4 62 rfl) rfl
theorem q895 : (Jvm.Cond.static ({ cls := "java/lang/StringUTF16", name := "indexOfUnsafe", desc := "([BI[BII)I" } : Jvm.MethodName)) ∈ lw_all := lw_g (lw_at lw_m4 63 rfl) rfl
theorem q896 : (Jvm.Cond.code ({ cls := "java/lang/StringUTF16", name := "indexOfUnsafe", desc := "([BI[BII)I" } : Jvm.MethodName) prog_43_method_43_code (11 : Nat) (Option.some Jvm.ClassFile.FieldType.int)) ∈ lw_all := lw_g (lw_at lw_m4 64 rfl) rfl
theorem q898 : (Jvm.Cond.static ({ cls := "java/lang/StringUTF16", name := "indexOfLatin1", desc := "([B[B)I" } : Jvm.MethodName)) ∈ lw_all := lw_g (lw_at lw_m4 66 rfl) rfl
theorem q899 : (Jvm.Cond.code ({ cls := "java/lang/StringUTF16", name := "indexOfLatin1", desc := "([B[B)I" } : Jvm.MethodName) prog_43_method_44_code (2 : Nat) (Option.some Jvm.ClassFile.FieldType.int)) ∈ lw_all := lw_g (lw_at lw_m4 67 rfl) rfl
theorem q900 : (Jvm.Cond.methodLink "java/lang/StringUTF16" (238 : Nat) ({ cls := "java/lang/StringUTF16", name := "indexOfLatin1Unsafe", desc := "([BI[BII)I" } : Jvm.MethodName)) ∈ lw_all := lw_g (lw_at lw_m4 68 rfl) rfl
theorem q901 : (Jvm.Cond.static ({ cls := "java/lang/StringUTF16", name := "indexOfLatin1Unsafe", desc := "([BI[BII)I" } : Jvm.MethodName)) ∈ lw_all := lw_g (lw_at lw_m4 69 rfl) rfl
theorem q902 : (Jvm.Cond.code ({ cls := "java/lang/StringUTF16", name := "indexOfLatin1Unsafe", desc := "([BI[BII)I" } : Jvm.MethodName) prog_43_method_46_code (11 : Nat) (Option.some Jvm.ClassFile.FieldType.int)) ∈ lw_all := lw_g (lw_at lw_m4 70 rfl) rfl
theorem q112 : (Jvm.Cond.initialized "HeldCoatsLaw") ∈ lw_all := lw_g (lw_at lw_m1 0 rfl) rfl
theorem q159 : (Jvm.Cond.classLink "HeldCoatsLaw" (8 : Nat) "HeldCoats") ∈ lw_all := lw_g (lw_at lw_m1 47 rfl) rfl
theorem q161 : (Jvm.Cond.methodLink "HeldCoatsLaw" (18 : Nat) ({ cls := "HeldCoats", name := "<init>", desc := "()V" } : Jvm.MethodName)) ∈ lw_all := lw_g (lw_at lw_m1 49 rfl) rfl
theorem q435 : (Jvm.Cond.methodLink "HeldCoatsLaw" (22 : Nat) ({ cls := "HeldCoats", name := "feed", desc := "(IIIII)I" } : Jvm.MethodName)) ∈ lw_all := lw_g (lw_at lw_m2 83 rfl) rfl
theorem q443 : (Jvm.Cond.methodLink "HeldCoatsLaw" (27 : Nat) ({ cls := "HeldCoats", name := "end", desc := "(I)Z" } : Jvm.MethodName)) ∈ lw_all := lw_g (lw_at lw_m2 91 rfl) rfl
theorem q447 : (Jvm.Cond.methodLink "HeldCoatsLaw" (32 : Nat) ({ cls := "HeldCoats", name := "capital", desc := "()I" } : Jvm.MethodName)) ∈ lw_all := lw_g (lw_at lw_m2 95 rfl) rfl
theorem q1074 : (Jvm.Cond.methodLink "HeldCoatsLaw" (37 : Nat) ({ cls := "HeldCoats", name := "fault", desc := "()I" } : Jvm.MethodName)) ∈ lw_all := lw_g (lw_at lw_m5 2 rfl) rfl
theorem q1078 : (Jvm.Cond.methodLink "HeldCoatsLaw" (41 : Nat) ({ cls := "HeldCoats", name := "seat", desc := "(II)I" } : Jvm.MethodName)) ∈ lw_all := lw_g (lw_at lw_m5 6 rfl) rfl
theorem q1118 : (Jvm.Cond.methodLink "HeldCoatsLaw" (57 : Nat) ({ cls := "HeldCoats", name := "now", desc := "(I)I" } : Jvm.MethodName)) ∈ lw_all := lw_g (lw_at lw_m5 46 rfl) rfl
theorem q1138 : (Jvm.Cond.methodLink "HeldCoatsLaw" (62 : Nat) ({ cls := "HeldCoats", name := "lay", desc := "(II)I" } : Jvm.MethodName)) ∈ lw_all := lw_g (lw_at lw_m5 66 rfl) rfl
theorem q1305 : (Jvm.Cond.methodLink "HeldCoatsLaw" (66 : Nat) ({ cls := "HeldCoats", name := "wear", desc := "(II)I" } : Jvm.MethodName)) ∈ lw_all := lw_g (lw_at lw_m5 233 rfl) rfl
theorem q1326 : (Jvm.Cond.methodLink "HeldCoatsLaw" (70 : Nat) ({ cls := "HeldCoats", name := "lend", desc := "(II)I" } : Jvm.MethodName)) ∈ lw_all := lw_g (lw_at lw_m6 14 rfl) rfl
theorem q1339 : (Jvm.Cond.methodLink "HeldCoatsLaw" (74 : Nat) ({ cls := "HeldCoats", name := "keep", desc := "(I)I" } : Jvm.MethodName)) ∈ lw_all := lw_g (lw_at lw_m6 27 rfl) rfl
theorem q1351 : (Jvm.Cond.methodLink "HeldCoatsLaw" (78 : Nat) ({ cls := "HeldCoats", name := "days", desc := "(I)I" } : Jvm.MethodName)) ∈ lw_all := lw_g (lw_at lw_m6 39 rfl) rfl
theorem q1358 : (Jvm.Cond.methodLink "HeldCoatsLaw" (82 : Nat) ({ cls := "HeldCoats", name := "undo", desc := "()I" } : Jvm.MethodName)) ∈ lw_all := lw_g (lw_at lw_m6 46 rfl) rfl
theorem q1362 : (Jvm.Cond.methodLink "HeldCoatsLaw" (86 : Nat) ({ cls := "HeldCoats", name := "best", desc := "(II)I" } : Jvm.MethodName)) ∈ lw_all := lw_g (lw_at lw_m6 50 rfl) rfl
theorem q1391 : (Jvm.Cond.methodLink "HeldCoatsLaw" (90 : Nat) ({ cls := "HeldCoats", name := "laid", desc := "()I" } : Jvm.MethodName)) ∈ lw_all := lw_g (lw_at lw_m6 79 rfl) rfl
theorem q1395 : (Jvm.Cond.methodLink "HeldCoatsLaw" (94 : Nat) ({ cls := "HeldCoats", name := "share", desc := "(IIII)I" } : Jvm.MethodName)) ∈ lw_all := lw_g (lw_at lw_m6 83 rfl) rfl
theorem q1408 : (Jvm.Cond.methodLink "HeldCoatsLaw" (99 : Nat) ({ cls := "HeldCoats", name := "turns", desc := "()I" } : Jvm.MethodName)) ∈ lw_all := lw_g (lw_at lw_m6 96 rfl) rfl
theorem q1412 : (Jvm.Cond.methodLink "HeldCoatsLaw" (103 : Nat) ({ cls := "HeldCoats", name := "ahead", desc := "(I)I" } : Jvm.MethodName)) ∈ lw_all := lw_g (lw_at lw_m6 100 rfl) rfl
theorem q1416 : (Jvm.Cond.methodLink "HeldCoatsLaw" (107 : Nat) ({ cls := "HeldCoats", name := "queue", desc := "(I)I" } : Jvm.MethodName)) ∈ lw_all := lw_g (lw_at lw_m6 104 rfl) rfl
theorem q1420 : (Jvm.Cond.methodLink "HeldCoatsLaw" (111 : Nat) ({ cls := "HeldCoats", name := "bribes", desc := "(I)I" } : Jvm.MethodName)) ∈ lw_all := lw_g (lw_at lw_m6 108 rfl) rfl
theorem q1428 : (Jvm.Cond.methodLink "HeldCoatsLaw" (115 : Nat) ({ cls := "HeldCoats", name := "frost", desc := "(II)I" } : Jvm.MethodName)) ∈ lw_all := lw_g (lw_at lw_m6 116 rfl) rfl
theorem q1436 : (Jvm.Cond.methodLink "HeldCoatsLaw" (119 : Nat) ({ cls := "HeldCoats", name := "frostAt", desc := "(II)I" } : Jvm.MethodName)) ∈ lw_all := lw_g (lw_at lw_m6 124 rfl) rfl
theorem q1440 : (Jvm.Cond.methodLink "HeldCoatsLaw" (123 : Nat) ({ cls := "HeldCoats", name := "word", desc := "(I)I" } : Jvm.MethodName)) ∈ lw_all := lw_g (lw_at lw_m6 128 rfl) rfl
theorem q1445 : (Jvm.Cond.methodLink "HeldCoatsLaw" (127 : Nat) ({ cls := "HeldCoats", name := "bare", desc := "()I" } : Jvm.MethodName)) ∈ lw_all := lw_g (lw_at lw_m6 133 rfl) rfl
theorem q1453 : (Jvm.Cond.methodLink "HeldCoatsLaw" (131 : Nat) ({ cls := "HeldCoats", name := "rules", desc := "(I)I" } : Jvm.MethodName)) ∈ lw_all := lw_g (lw_at lw_m6 141 rfl) rfl
theorem q1457 : (Jvm.Cond.methodLink "HeldCoatsLaw" (135 : Nat) ({ cls := "HeldCoats", name := "harm", desc := "(II)I" } : Jvm.MethodName)) ∈ lw_all := lw_g (lw_at lw_m6 145 rfl) rfl
theorem q1461 : (Jvm.Cond.methodLink "HeldCoatsLaw" (139 : Nat) ({ cls := "HeldCoats", name := "hooks", desc := "()I" } : Jvm.MethodName)) ∈ lw_all := lw_g (lw_at lw_m6 149 rfl) rfl
theorem q1474 : (Jvm.Cond.methodLink "HeldCoatsLaw" (143 : Nat) ({ cls := "HeldCoats", name := "surely", desc := "()I" } : Jvm.MethodName)) ∈ lw_all := lw_g (lw_at lw_m6 162 rfl) rfl
theorem q1478 : (Jvm.Cond.methodLink "HeldCoatsLaw" (147 : Nat) ({ cls := "HeldCoats", name := "never", desc := "()I" } : Jvm.MethodName)) ∈ lw_all := lw_g (lw_at lw_m6 166 rfl) rfl
theorem q1482 : (Jvm.Cond.methodLink "HeldCoatsLaw" (151 : Nat) ({ cls := "HeldCoats", name := "rounds", desc := "()I" } : Jvm.MethodName)) ∈ lw_all := lw_g (lw_at lw_m6 170 rfl) rfl
theorem q1490 : (Jvm.Cond.methodLink "HeldCoatsLaw" (155 : Nat) ({ cls := "HeldCoats", name := "price", desc := "()I" } : Jvm.MethodName)) ∈ lw_all := lw_g (lw_at lw_m6 178 rfl) rfl
theorem q1494 : (Jvm.Cond.methodLink "HeldCoatsLaw" (159 : Nat) ({ cls := "HeldCoats", name := "drawn", desc := "(II)I" } : Jvm.MethodName)) ∈ lw_all := lw_g (lw_at lw_m6 182 rfl) rfl
theorem q1516 : (Jvm.Cond.methodLink "HeldCoatsLaw" (163 : Nat) ({ cls := "HeldCoats", name := "odds", desc := "(III)I" } : Jvm.MethodName)) ∈ lw_all := lw_g (lw_at lw_m6 204 rfl) rfl
theorem q1520 : (Jvm.Cond.methodLink "HeldCoatsLaw" (168 : Nat) ({ cls := "HeldCoats", name := "book", desc := "(I)I" } : Jvm.MethodName)) ∈ lw_all := lw_g (lw_at lw_m6 208 rfl) rfl
theorem q1618 : (Jvm.Cond.methodLink "HeldCoatsLaw" (172 : Nat) ({ cls := "HeldCoats", name := "told", desc := "(I)I" } : Jvm.MethodName)) ∈ lw_all := lw_g (lw_at lw_m7 66 rfl) rfl
theorem q1622 : (Jvm.Cond.methodLink "HeldCoatsLaw" (176 : Nat) ({ cls := "HeldCoats", name := "sentence", desc := "()I" } : Jvm.MethodName)) ∈ lw_all := lw_g (lw_at lw_m7 70 rfl) rfl
theorem q1774 : (Jvm.Cond.methodLink "HeldCoatsLaw" (180 : Nat) ({ cls := "HeldCoats", name := "said", desc := "(I)I" } : Jvm.MethodName)) ∈ lw_all := lw_g (lw_at lw_m7 222 rfl) rfl
theorem q1806 : (Jvm.Cond.methodLink "HeldCoatsLaw" (184 : Nat) ({ cls := "HeldCoats", name := "image", desc := "(I)Z" } : Jvm.MethodName)) ∈ lw_all := lw_g (lw_at lw_m8 14 rfl) rfl
theorem q1810 : (Jvm.Cond.methodLink "HeldCoatsLaw" (188 : Nat) ({ cls := "HeldCoats", name := "restore", desc := "(I)Z" } : Jvm.MethodName)) ∈ lw_all := lw_g (lw_at lw_m8 18 rfl) rfl
theorem q1814 : (Jvm.Cond.methodLink "HeldCoatsLaw" (192 : Nat) ({ cls := "HeldCoats", name := "count", desc := "(I)I" } : Jvm.MethodName)) ∈ lw_all := lw_g (lw_at lw_m8 22 rfl) rfl
theorem q1818 : (Jvm.Cond.methodLink "HeldCoatsLaw" (45 : Nat) ({ cls := "HeldCoatsLaw", name := "man", desc := "(LHeldCoats;II[J)I" } : Jvm.MethodName)) ∈ lw_all := lw_g (lw_at lw_m8 26 rfl) rfl
theorem q1819 : (Jvm.Cond.static ({ cls := "HeldCoatsLaw", name := "man", desc := "(LHeldCoats;II[J)I" } : Jvm.MethodName)) ∈ lw_all := lw_g (lw_at lw_m8 27 rfl) rfl
theorem q1820 : (Jvm.Cond.codeWith ({ cls := "HeldCoatsLaw", name := "man", desc := "(LHeldCoats;II[J)I" } : Jvm.MethodName) method_3_code (5 : Nat) (Option.some Jvm.ClassFile.FieldType.int) [((0 : Nat), (10 : Nat), (13 : Nat), (13 : Nat))]) ∈ lw_all := lw_g (lw_at lw_m8 28 rfl) rfl
theorem q1821 : (Jvm.Cond.classLink "HeldCoatsLaw" (13 : Nat) "java/util/NoSuchElementException") ∈ lw_all := lw_g (lw_at lw_m8 29 rfl) rfl
theorem q1822 : (Jvm.Cond.methodLink "HeldCoatsLaw" (7 : Nat) ({ cls := "HeldCoats", name := "man", desc := "(II)I" } : Jvm.MethodName)) ∈ lw_all := lw_g (lw_at lw_m8 30 rfl) rfl
theorem q1860 : (Jvm.Cond.methodLink "HeldCoatsLaw" (54 : Nat) ({ cls := "HeldCoatsLaw", name := "coat", desc := "(LHeldCoats;II[J)I" } : Jvm.MethodName)) ∈ lw_all := lw_g (lw_at lw_m8 68 rfl) rfl
theorem q1861 : (Jvm.Cond.static ({ cls := "HeldCoatsLaw", name := "coat", desc := "(LHeldCoats;II[J)I" } : Jvm.MethodName)) ∈ lw_all := lw_g (lw_at lw_m8 69 rfl) rfl
theorem q1862 : (Jvm.Cond.codeWith ({ cls := "HeldCoatsLaw", name := "coat", desc := "(LHeldCoats;II[J)I" } : Jvm.MethodName) method_4_code (5 : Nat) (Option.some Jvm.ClassFile.FieldType.int) [((0 : Nat), (10 : Nat), (13 : Nat), (13 : Nat))]) ∈ lw_all := lw_g (lw_at lw_m8 70 rfl) rfl
theorem q1863 : (Jvm.Cond.methodLink "HeldCoatsLaw" (15 : Nat) ({ cls := "HeldCoats", name := "coat", desc := "(II)I" } : Jvm.MethodName)) ∈ lw_all := lw_g (lw_at lw_m8 71 rfl) rfl
theorem q1868 : (Jvm.Cond.methodLink "HeldCoatsLaw" (51 : Nat) ({ cls := "HeldCoatsModel", name := "thrown", desc := "()I" } : Jvm.MethodName)) ∈ lw_all := lw_g (lw_at lw_m8 76 rfl) rfl
theorem q1872 : (Jvm.Cond.methodLink "HeldCoatsLaw" (26 : Nat) ({ cls := "HeldCoatsModel", name := "feed", desc := "(IIIII)I" } : Jvm.MethodName)) ∈ lw_all := lw_g (lw_at lw_m8 80 rfl) rfl
theorem q1881 : (Jvm.Cond.methodLink "HeldCoatsLaw" (31 : Nat) ({ cls := "HeldCoatsModel", name := "end", desc := "(I)Z" } : Jvm.MethodName)) ∈ lw_all := lw_g (lw_at lw_m8 89 rfl) rfl
theorem q1885 : (Jvm.Cond.classLink "HeldCoatsLaw" (19 : Nat) "HeldCoatsModel") ∈ lw_all := lw_g (lw_at lw_m8 93 rfl) rfl
theorem q1886 : (Jvm.Cond.methodLink "HeldCoatsLaw" (21 : Nat) ({ cls := "HeldCoatsModel", name := "<init>", desc := "()V" } : Jvm.MethodName)) ∈ lw_all := lw_g (lw_at lw_m8 94 rfl) rfl
theorem q2068 : (Jvm.Cond.methodLink "HeldCoatsLaw" (36 : Nat) ({ cls := "HeldCoatsModel", name := "capital", desc := "()I" } : Jvm.MethodName)) ∈ lw_all := lw_g (lw_at lw_m9 36 rfl) rfl
theorem q2152 : (Jvm.Cond.methodLink "HeldCoatsLaw" (40 : Nat) ({ cls := "HeldCoatsModel", name := "fault", desc := "()I" } : Jvm.MethodName)) ∈ lw_all := lw_g (lw_at lw_m9 120 rfl) rfl
theorem q2156 : (Jvm.Cond.methodLink "HeldCoatsLaw" (44 : Nat) ({ cls := "HeldCoatsModel", name := "seat", desc := "(II)I" } : Jvm.MethodName)) ∈ lw_all := lw_g (lw_at lw_m9 124 rfl) rfl
theorem q2184 : (Jvm.Cond.methodLink "HeldCoatsLaw" (50 : Nat) ({ cls := "HeldCoatsModel", name := "man", desc := "(II)I" } : Jvm.MethodName)) ∈ lw_all := lw_g (lw_at lw_m9 152 rfl) rfl
theorem q2215 : (Jvm.Cond.methodLink "HeldCoatsLaw" (56 : Nat) ({ cls := "HeldCoatsModel", name := "coat", desc := "(II)I" } : Jvm.MethodName)) ∈ lw_all := lw_g (lw_at lw_m9 183 rfl) rfl
theorem q2223 : (Jvm.Cond.methodLink "HeldCoatsLaw" (61 : Nat) ({ cls := "HeldCoatsModel", name := "now", desc := "(I)I" } : Jvm.MethodName)) ∈ lw_all := lw_g (lw_at lw_m9 191 rfl) rfl
theorem q2235 : (Jvm.Cond.methodLink "HeldCoatsLaw" (65 : Nat) ({ cls := "HeldCoatsModel", name := "lay", desc := "(II)I" } : Jvm.MethodName)) ∈ lw_all := lw_g (lw_at lw_m9 203 rfl) rfl
theorem q2255 : (Jvm.Cond.methodLink "HeldCoatsLaw" (69 : Nat) ({ cls := "HeldCoatsModel", name := "wear", desc := "(II)I" } : Jvm.MethodName)) ∈ lw_all := lw_g (lw_at lw_m9 223 rfl) rfl
theorem q2271 : (Jvm.Cond.methodLink "HeldCoatsLaw" (73 : Nat) ({ cls := "HeldCoatsModel", name := "lend", desc := "(II)I" } : Jvm.MethodName)) ∈ lw_all := lw_g (lw_at lw_m9 239 rfl) rfl
theorem q2279 : (Jvm.Cond.methodLink "HeldCoatsLaw" (77 : Nat) ({ cls := "HeldCoatsModel", name := "keep", desc := "(I)I" } : Jvm.MethodName)) ∈ lw_all := lw_g (lw_at lw_m10 7 rfl) rfl
theorem q2287 : (Jvm.Cond.methodLink "HeldCoatsLaw" (81 : Nat) ({ cls := "HeldCoatsModel", name := "days", desc := "(I)I" } : Jvm.MethodName)) ∈ lw_all := lw_g (lw_at lw_m10 15 rfl) rfl
theorem q2303 : (Jvm.Cond.methodLink "HeldCoatsLaw" (85 : Nat) ({ cls := "HeldCoatsModel", name := "undo", desc := "()I" } : Jvm.MethodName)) ∈ lw_all := lw_g (lw_at lw_m10 31 rfl) rfl
theorem q2307 : (Jvm.Cond.methodLink "HeldCoatsLaw" (89 : Nat) ({ cls := "HeldCoatsModel", name := "best", desc := "(II)I" } : Jvm.MethodName)) ∈ lw_all := lw_g (lw_at lw_m10 35 rfl) rfl
theorem q2318 : (Jvm.Cond.methodLink "HeldCoatsLaw" (93 : Nat) ({ cls := "HeldCoatsModel", name := "laid", desc := "()I" } : Jvm.MethodName)) ∈ lw_all := lw_g (lw_at lw_m10 46 rfl) rfl
theorem q2322 : (Jvm.Cond.methodLink "HeldCoatsLaw" (98 : Nat) ({ cls := "HeldCoatsModel", name := "share", desc := "(IIII)I" } : Jvm.MethodName)) ∈ lw_all := lw_g (lw_at lw_m10 50 rfl) rfl
theorem q2330 : (Jvm.Cond.methodLink "HeldCoatsLaw" (102 : Nat) ({ cls := "HeldCoatsModel", name := "turns", desc := "()I" } : Jvm.MethodName)) ∈ lw_all := lw_g (lw_at lw_m10 58 rfl) rfl
theorem q2334 : (Jvm.Cond.methodLink "HeldCoatsLaw" (106 : Nat) ({ cls := "HeldCoatsModel", name := "ahead", desc := "(I)I" } : Jvm.MethodName)) ∈ lw_all := lw_g (lw_at lw_m10 62 rfl) rfl
theorem q2342 : (Jvm.Cond.methodLink "HeldCoatsLaw" (110 : Nat) ({ cls := "HeldCoatsModel", name := "queue", desc := "(I)I" } : Jvm.MethodName)) ∈ lw_all := lw_g (lw_at lw_m10 70 rfl) rfl
theorem q2346 : (Jvm.Cond.methodLink "HeldCoatsLaw" (114 : Nat) ({ cls := "HeldCoatsModel", name := "bribes", desc := "(I)I" } : Jvm.MethodName)) ∈ lw_all := lw_g (lw_at lw_m10 74 rfl) rfl
theorem q2350 : (Jvm.Cond.methodLink "HeldCoatsLaw" (118 : Nat) ({ cls := "HeldCoatsModel", name := "frost", desc := "(II)I" } : Jvm.MethodName)) ∈ lw_all := lw_g (lw_at lw_m10 78 rfl) rfl
theorem q2362 : (Jvm.Cond.methodLink "HeldCoatsLaw" (122 : Nat) ({ cls := "HeldCoatsModel", name := "frostAt", desc := "(II)I" } : Jvm.MethodName)) ∈ lw_all := lw_g (lw_at lw_m10 90 rfl) rfl
theorem q2366 : (Jvm.Cond.methodLink "HeldCoatsLaw" (126 : Nat) ({ cls := "HeldCoatsModel", name := "word", desc := "(I)I" } : Jvm.MethodName)) ∈ lw_all := lw_g (lw_at lw_m10 94 rfl) rfl
theorem q2378 : (Jvm.Cond.methodLink "HeldCoatsLaw" (130 : Nat) ({ cls := "HeldCoatsModel", name := "bare", desc := "()I" } : Jvm.MethodName)) ∈ lw_all := lw_g (lw_at lw_m10 106 rfl) rfl
theorem q2386 : (Jvm.Cond.methodLink "HeldCoatsLaw" (134 : Nat) ({ cls := "HeldCoatsModel", name := "rules", desc := "(I)I" } : Jvm.MethodName)) ∈ lw_all := lw_g (lw_at lw_m10 114 rfl) rfl
theorem q2390 : (Jvm.Cond.methodLink "HeldCoatsLaw" (138 : Nat) ({ cls := "HeldCoatsModel", name := "harm", desc := "(II)I" } : Jvm.MethodName)) ∈ lw_all := lw_g (lw_at lw_m10 118 rfl) rfl
theorem q2394 : (Jvm.Cond.methodLink "HeldCoatsLaw" (142 : Nat) ({ cls := "HeldCoatsModel", name := "hooks", desc := "()I" } : Jvm.MethodName)) ∈ lw_all := lw_g (lw_at lw_m10 122 rfl) rfl
theorem q2402 : (Jvm.Cond.methodLink "HeldCoatsLaw" (146 : Nat) ({ cls := "HeldCoatsModel", name := "surely", desc := "()I" } : Jvm.MethodName)) ∈ lw_all := lw_g (lw_at lw_m10 130 rfl) rfl
theorem q2406 : (Jvm.Cond.methodLink "HeldCoatsLaw" (150 : Nat) ({ cls := "HeldCoatsModel", name := "never", desc := "()I" } : Jvm.MethodName)) ∈ lw_all := lw_g (lw_at lw_m10 134 rfl) rfl
theorem q2410 : (Jvm.Cond.methodLink "HeldCoatsLaw" (154 : Nat) ({ cls := "HeldCoatsModel", name := "rounds", desc := "()I" } : Jvm.MethodName)) ∈ lw_all := lw_g (lw_at lw_m10 138 rfl) rfl
theorem q2414 : (Jvm.Cond.methodLink "HeldCoatsLaw" (158 : Nat) ({ cls := "HeldCoatsModel", name := "price", desc := "()I" } : Jvm.MethodName)) ∈ lw_all := lw_g (lw_at lw_m10 142 rfl) rfl
theorem q2418 : (Jvm.Cond.methodLink "HeldCoatsLaw" (162 : Nat) ({ cls := "HeldCoatsModel", name := "drawn", desc := "(II)I" } : Jvm.MethodName)) ∈ lw_all := lw_g (lw_at lw_m10 146 rfl) rfl
theorem q2435 : (Jvm.Cond.methodLink "HeldCoatsLaw" (167 : Nat) ({ cls := "HeldCoatsModel", name := "odds", desc := "(III)I" } : Jvm.MethodName)) ∈ lw_all := lw_g (lw_at lw_m10 163 rfl) rfl
theorem q2439 : (Jvm.Cond.methodLink "HeldCoatsLaw" (171 : Nat) ({ cls := "HeldCoatsModel", name := "book", desc := "(I)I" } : Jvm.MethodName)) ∈ lw_all := lw_g (lw_at lw_m10 167 rfl) rfl
theorem q2451 : (Jvm.Cond.methodLink "HeldCoatsLaw" (175 : Nat) ({ cls := "HeldCoatsModel", name := "told", desc := "(I)I" } : Jvm.MethodName)) ∈ lw_all := lw_g (lw_at lw_m10 179 rfl) rfl
theorem q2455 : (Jvm.Cond.methodLink "HeldCoatsLaw" (179 : Nat) ({ cls := "HeldCoatsModel", name := "sentence", desc := "()I" } : Jvm.MethodName)) ∈ lw_all := lw_g (lw_at lw_m10 183 rfl) rfl
theorem q2483 : (Jvm.Cond.methodLink "HeldCoatsLaw" (183 : Nat) ({ cls := "HeldCoatsModel", name := "said", desc := "(I)I" } : Jvm.MethodName)) ∈ lw_all := lw_g (lw_at lw_m10 211 rfl) rfl
theorem q2495 : (Jvm.Cond.methodLink "HeldCoatsLaw" (187 : Nat) ({ cls := "HeldCoatsModel", name := "image", desc := "(I)Z" } : Jvm.MethodName)) ∈ lw_all := lw_g (lw_at lw_m10 223 rfl) rfl
theorem q2499 : (Jvm.Cond.methodLink "HeldCoatsLaw" (191 : Nat) ({ cls := "HeldCoatsModel", name := "restore", desc := "(I)Z" } : Jvm.MethodName)) ∈ lw_all := lw_g (lw_at lw_m10 227 rfl) rfl
theorem q2503 : (Jvm.Cond.methodLink "HeldCoatsLaw" (195 : Nat) ({ cls := "HeldCoatsModel", name := "count", desc := "(I)I" } : Jvm.MethodName)) ∈ lw_all := lw_g (lw_at lw_m10 231 rfl) rfl
theorem q113 : (Jvm.Cond.initialized "HeldCoats") ∈ lw_all := lw_g (lw_at lw_m1 1 rfl) rfl
theorem q160 : (Jvm.Cond.instantiable "HeldCoats" (18 : Nat)) ∈ lw_all := lw_g (lw_at lw_m1 48 rfl) rfl
theorem q162 : (Jvm.Cond.instanceMethod ({ cls := "HeldCoats", name := "<init>", desc := "()V" } : Jvm.MethodName)) ∈ lw_all := lw_g (lw_at lw_m1 50 rfl) rfl
theorem q163 : (Jvm.Cond.code ({ cls := "HeldCoats", name := "<init>", desc := "()V" } : Jvm.MethodName) prog_1_method_5_code (2 : Nat) (Option.none : Option Jvm.ClassFile.FieldType)) ∈ lw_all := lw_g (lw_at lw_m1 51 rfl) rfl
theorem q164 : (Jvm.Cond.methodLink "HeldCoats" (23 : Nat) ({ cls := "java/lang/Object", name := "<init>", desc := "()V" } : Jvm.MethodName)) ∈ lw_all := lw_g (lw_at lw_m1 52 rfl) rfl
theorem q167 : (Jvm.Cond.classLink "HeldCoats" (30 : Nat) "HeldCoats$Capital") ∈ lw_all := lw_g (lw_at lw_m1 55 rfl) rfl
theorem q169 : (Jvm.Cond.methodLinkNest "HeldCoats" (32 : Nat) ({ cls := "HeldCoats$Capital", name := "<init>", desc := "()V" } : Jvm.MethodName) "HeldCoats") ∈ lw_tbl := lw_at lw_m1 57 rfl
theorem q201 : (Jvm.Cond.fieldLinkNest "HeldCoats" (108 : Nat) "HeldCoats$Capital" "lines" "I" "HeldCoats") ∈ lw_tbl := lw_at lw_m1 89 rfl
theorem q206 : (Jvm.Cond.fieldLinkNest "HeldCoats" (367 : Nat) "HeldCoats$Capital" "summer" "I" "HeldCoats") ∈ lw_tbl := lw_at lw_m1 94 rfl
theorem q210 : (Jvm.Cond.fieldLinkNest "HeldCoats" (370 : Nat) "HeldCoats$Capital" "holds" "I" "HeldCoats") ∈ lw_tbl := lw_at lw_m1 98 rfl
theorem q214 : (Jvm.Cond.fieldLinkNest "HeldCoats" (372 : Nat) "HeldCoats$Capital" "moths" "I" "HeldCoats") ∈ lw_tbl := lw_at lw_m1 102 rfl
theorem q217 : (Jvm.Cond.fieldLinkNest "HeldCoats" (305 : Nat) "HeldCoats$Capital" "limit" "I" "HeldCoats") ∈ lw_tbl := lw_at lw_m1 105 rfl
theorem q223 : (Jvm.Cond.fieldLinkNest "HeldCoats" (130 : Nat) "HeldCoats$Capital" "seats" "Ljava/util/ArrayList;" "HeldCoats") ∈ lw_tbl := lw_at lw_m1 111 rfl
theorem q229 : (Jvm.Cond.fieldLinkNest "HeldCoats" (139 : Nat) "HeldCoats$Capital" "men" "Ljava/util/ArrayList;" "HeldCoats") ∈ lw_tbl := lw_at lw_m1 117 rfl
theorem q235 : (Jvm.Cond.fieldLinkNest "HeldCoats" (142 : Nat) "HeldCoats$Capital" "coats" "Ljava/util/ArrayList;" "HeldCoats") ∈ lw_tbl := lw_at lw_m1 123 rfl
theorem q264 : (Jvm.Cond.classLink "HeldCoats" (8 : Nat) "HeldCoats$Reign") ∈ lw_all := lw_g (lw_at lw_m1 152 rfl) rfl
theorem q266 : (Jvm.Cond.methodLinkNest "HeldCoats" (37 : Nat) ({ cls := "HeldCoats$Reign", name := "<init>", desc := "()V" } : Jvm.MethodName) "HeldCoats") ∈ lw_tbl := lw_at lw_m1 154 rfl
theorem q274 : (Jvm.Cond.fieldLinkNest "HeldCoats" (15 : Nat) "HeldCoats$Reign" "day" "I" "HeldCoats") ∈ lw_tbl := lw_at lw_m1 162 rfl
theorem q276 : (Jvm.Cond.fieldLinkNest "HeldCoats" (223 : Nat) "HeldCoats$Reign" "bares" "I" "HeldCoats") ∈ lw_tbl := lw_at lw_m1 164 rfl
theorem q278 : (Jvm.Cond.fieldLinkNest "HeldCoats" (226 : Nat) "HeldCoats$Reign" "firstBare" "I" "HeldCoats") ∈ lw_tbl := lw_at lw_m1 166 rfl
theorem q280 : (Jvm.Cond.fieldLinkNest "HeldCoats" (192 : Nat) "HeldCoats$Reign" "eaten" "I" "HeldCoats") ∈ lw_tbl := lw_at lw_m1 168 rfl
theorem q282 : (Jvm.Cond.fieldLinkNest "HeldCoats" (229 : Nat) "HeldCoats$Reign" "queued" "I" "HeldCoats") ∈ lw_tbl := lw_at lw_m1 170 rfl
theorem q284 : (Jvm.Cond.fieldLinkNest "HeldCoats" (207 : Nat) "HeldCoats$Reign" "at" "[I" "HeldCoats") ∈ lw_tbl := lw_at lw_m1 172 rfl
theorem q287 : (Jvm.Cond.fieldLinkNest "HeldCoats" (204 : Nat) "HeldCoats$Reign" "cloth" "[I" "HeldCoats") ∈ lw_tbl := lw_at lw_m1 175 rfl
theorem q290 : (Jvm.Cond.fieldLinkNest "HeldCoats" (210 : Nat) "HeldCoats$Reign" "user" "[I" "HeldCoats") ∈ lw_tbl := lw_at lw_m1 178 rfl
theorem q292 : (Jvm.Cond.fieldLinkNest "HeldCoats" (19 : Nat) "HeldCoats$Reign" "since" "[I" "HeldCoats") ∈ lw_tbl := lw_at lw_m1 180 rfl
theorem q294 : (Jvm.Cond.fieldLinkNest "HeldCoats" (300 : Nat) "HeldCoats$Reign" "queue" "[I" "HeldCoats") ∈ lw_tbl := lw_at lw_m1 182 rfl
theorem q296 : (Jvm.Cond.fieldLinkNest "HeldCoats" (177 : Nat) "HeldCoats$Reign" "harm" "[I" "HeldCoats") ∈ lw_tbl := lw_at lw_m1 184 rfl
theorem q298 : (Jvm.Cond.fieldLinkNest "HeldCoats" (186 : Nat) "HeldCoats$Reign" "ruled" "[I" "HeldCoats") ∈ lw_tbl := lw_at lw_m1 186 rfl
theorem q329 : (Jvm.Cond.methodLink "HeldCoats" (38 : Nat) ({ cls := "HeldCoats$Reign", name := "begin", desc := "(LHeldCoats$Capital;)LHeldCoats$Reign;" } : Jvm.MethodName)) ∈ lw_all := lw_g (lw_at lw_m1 217 rfl) rfl
theorem q360 : (Jvm.Cond.classLink "HeldCoats" (71 : Nat) "HeldCoats$Kept") ∈ lw_all := lw_g (lw_at lw_m2 8 rfl) rfl
theorem q363 : (Jvm.Cond.methodLinkNest "HeldCoats" (73 : Nat) ({ cls := "HeldCoats$Kept", name := "<init>", desc := "()V" } : Jvm.MethodName) "HeldCoats") ∈ lw_tbl := lw_at lw_m2 11 rfl
theorem q369 : (Jvm.Cond.fieldLinkNest "HeldCoats" (362 : Nat) "HeldCoats$Kept" "capital" "LHeldCoats$Capital;" "HeldCoats") ∈ lw_tbl := lw_at lw_m2 17 rfl
theorem q370 : (Jvm.Cond.fieldLinkNest "HeldCoats" (363 : Nat) "HeldCoats$Kept" "sentence" "LHeldCoats$Cond;" "HeldCoats") ∈ lw_tbl := lw_at lw_m2 18 rfl
theorem q372 : (Jvm.Cond.fieldLinkNest "HeldCoats" (364 : Nat) "HeldCoats$Kept" "reign" "LHeldCoats$Reign;" "HeldCoats") ∈ lw_tbl := lw_at lw_m2 20 rfl
theorem q380 : (Jvm.Cond.fieldLink "HeldCoats" (26 : Nat) "HeldCoats" "tape" "[B") ∈ lw_all := lw_g (lw_at lw_m2 28 rfl) rfl
theorem q381 : (Jvm.Cond.fieldLink "HeldCoats" (78 : Nat) "HeldCoats" "taped" "I") ∈ lw_all := lw_g (lw_at lw_m2 29 rfl) rfl
theorem q382 : (Jvm.Cond.fieldLink "HeldCoats" (89 : Nat) "HeldCoats" "fault" "I") ∈ lw_all := lw_g (lw_at lw_m2 30 rfl) rfl
theorem q383 : (Jvm.Cond.fieldLink "HeldCoats" (33 : Nat) "HeldCoats" "capital" "LHeldCoats$Capital;") ∈ lw_all := lw_g (lw_at lw_m2 31 rfl) rfl
theorem q384 : (Jvm.Cond.fieldLink "HeldCoats" (42 : Nat) "HeldCoats" "now" "LHeldCoats$Reign;") ∈ lw_all := lw_g (lw_at lw_m2 32 rfl) rfl
theorem q385 : (Jvm.Cond.fieldLink "HeldCoats" (46 : Nat) "HeldCoats" "trial" "LHeldCoats$Reign;") ∈ lw_all := lw_g (lw_at lw_m2 33 rfl) rfl
theorem q386 : (Jvm.Cond.fieldLink "HeldCoats" (101 : Nat) "HeldCoats" "sentence" "LHeldCoats$Cond;") ∈ lw_all := lw_g (lw_at lw_m2 34 rfl) rfl
theorem q387 : (Jvm.Cond.fieldLink "HeldCoats" (49 : Nat) "HeldCoats" "before" "[LHeldCoats$Reign;") ∈ lw_all := lw_g (lw_at lw_m2 35 rfl) rfl
theorem q388 : (Jvm.Cond.fieldLink "HeldCoats" (105 : Nat) "HeldCoats" "befores" "I") ∈ lw_all := lw_g (lw_at lw_m2 36 rfl) rfl
theorem q389 : (Jvm.Cond.fieldLink "HeldCoats" (53 : Nat) "HeldCoats" "laid" "I") ∈ lw_all := lw_g (lw_at lw_m2 37 rfl) rfl
theorem q390 : (Jvm.Cond.fieldLink "HeldCoats" (56 : Nat) "HeldCoats" "turns" "I") ∈ lw_all := lw_g (lw_at lw_m2 38 rfl) rfl
theorem q391 : (Jvm.Cond.fieldLink "HeldCoats" (308 : Nat) "HeldCoats" "wins" "I") ∈ lw_all := lw_g (lw_at lw_m2 39 rfl) rfl
theorem q392 : (Jvm.Cond.fieldLink "HeldCoats" (311 : Nat) "HeldCoats" "gives" "I") ∈ lw_all := lw_g (lw_at lw_m2 40 rfl) rfl
theorem q393 : (Jvm.Cond.fieldLink "HeldCoats" (59 : Nat) "HeldCoats" "surely" "I") ∈ lw_all := lw_g (lw_at lw_m2 41 rfl) rfl
theorem q394 : (Jvm.Cond.fieldLink "HeldCoats" (62 : Nat) "HeldCoats" "never" "I") ∈ lw_all := lw_g (lw_at lw_m2 42 rfl) rfl
theorem q395 : (Jvm.Cond.fieldLink "HeldCoats" (65 : Nat) "HeldCoats" "price" "I") ∈ lw_all := lw_g (lw_at lw_m2 43 rfl) rfl
theorem q396 : (Jvm.Cond.fieldLink "HeldCoats" (68 : Nat) "HeldCoats" "told" "[I") ∈ lw_all := lw_g (lw_at lw_m2 44 rfl) rfl
theorem q397 : (Jvm.Cond.fieldLink "HeldCoats" (74 : Nat) "HeldCoats" "kept" "[LHeldCoats$Kept;") ∈ lw_all := lw_g (lw_at lw_m2 45 rfl) rfl
theorem q398 : (Jvm.Cond.laysFinal "HeldCoats" "HeldCoats" "tape" "[B") ∈ lw_all := lw_g (lw_at lw_m2 46 rfl) rfl
theorem q399 : (Jvm.Cond.soleField "HeldCoats" "tape") ∈ lw_all := lw_g (lw_at lw_m2 47 rfl) rfl
theorem q400 : (Jvm.Cond.lays "HeldCoats" "HeldCoats" "taped" "I") ∈ lw_all := lw_g (lw_at lw_m2 48 rfl) rfl
theorem q401 : (Jvm.Cond.soleField "HeldCoats" "taped") ∈ lw_all := lw_g (lw_at lw_m2 49 rfl) rfl
theorem q402 : (Jvm.Cond.lays "HeldCoats" "HeldCoats" "fault" "I") ∈ lw_all := lw_g (lw_at lw_m2 50 rfl) rfl
theorem q403 : (Jvm.Cond.soleField "HeldCoats" "fault") ∈ lw_all := lw_g (lw_at lw_m2 51 rfl) rfl
theorem q404 : (Jvm.Cond.lays "HeldCoats" "HeldCoats" "capital" "LHeldCoats$Capital;") ∈ lw_all := lw_g (lw_at lw_m2 52 rfl) rfl
theorem q405 : (Jvm.Cond.soleField "HeldCoats" "capital") ∈ lw_all := lw_g (lw_at lw_m2 53 rfl) rfl
theorem q406 : (Jvm.Cond.laysFinal "HeldCoats" "HeldCoats" "now" "LHeldCoats$Reign;") ∈ lw_all := lw_g (lw_at lw_m2 54 rfl) rfl
theorem q407 : (Jvm.Cond.soleField "HeldCoats" "now") ∈ lw_all := lw_g (lw_at lw_m2 55 rfl) rfl
theorem q408 : (Jvm.Cond.laysFinal "HeldCoats" "HeldCoats" "trial" "LHeldCoats$Reign;") ∈ lw_all := lw_g (lw_at lw_m2 56 rfl) rfl
theorem q409 : (Jvm.Cond.soleField "HeldCoats" "trial") ∈ lw_all := lw_g (lw_at lw_m2 57 rfl) rfl
theorem q410 : (Jvm.Cond.lays "HeldCoats" "HeldCoats" "sentence" "LHeldCoats$Cond;") ∈ lw_all := lw_g (lw_at lw_m2 58 rfl) rfl
theorem q411 : (Jvm.Cond.soleField "HeldCoats" "sentence") ∈ lw_all := lw_g (lw_at lw_m2 59 rfl) rfl
theorem q412 : (Jvm.Cond.laysFinal "HeldCoats" "HeldCoats" "before" "[LHeldCoats$Reign;") ∈ lw_all := lw_g (lw_at lw_m2 60 rfl) rfl
theorem q413 : (Jvm.Cond.soleField "HeldCoats" "before") ∈ lw_all := lw_g (lw_at lw_m2 61 rfl) rfl
theorem q414 : (Jvm.Cond.lays "HeldCoats" "HeldCoats" "befores" "I") ∈ lw_all := lw_g (lw_at lw_m2 62 rfl) rfl
theorem q415 : (Jvm.Cond.soleField "HeldCoats" "befores") ∈ lw_all := lw_g (lw_at lw_m2 63 rfl) rfl
theorem q416 : (Jvm.Cond.lays "HeldCoats" "HeldCoats" "laid" "I") ∈ lw_all := lw_g (lw_at lw_m2 64 rfl) rfl
theorem q417 : (Jvm.Cond.soleField "HeldCoats" "laid") ∈ lw_all := lw_g (lw_at lw_m2 65 rfl) rfl
theorem q418 : (Jvm.Cond.lays "HeldCoats" "HeldCoats" "turns" "I") ∈ lw_all := lw_g (lw_at lw_m2 66 rfl) rfl
theorem q419 : (Jvm.Cond.soleField "HeldCoats" "turns") ∈ lw_all := lw_g (lw_at lw_m2 67 rfl) rfl
theorem q420 : (Jvm.Cond.lays "HeldCoats" "HeldCoats" "wins" "I") ∈ lw_all := lw_g (lw_at lw_m2 68 rfl) rfl
theorem q421 : (Jvm.Cond.soleField "HeldCoats" "wins") ∈ lw_all := lw_g (lw_at lw_m2 69 rfl) rfl
theorem q422 : (Jvm.Cond.lays "HeldCoats" "HeldCoats" "gives" "I") ∈ lw_all := lw_g (lw_at lw_m2 70 rfl) rfl
theorem q423 : (Jvm.Cond.soleField "HeldCoats" "gives") ∈ lw_all := lw_g (lw_at lw_m2 71 rfl) rfl
theorem q424 : (Jvm.Cond.lays "HeldCoats" "HeldCoats" "surely" "I") ∈ lw_all := lw_g (lw_at lw_m2 72 rfl) rfl
theorem q425 : (Jvm.Cond.soleField "HeldCoats" "surely") ∈ lw_all := lw_g (lw_at lw_m2 73 rfl) rfl
theorem q426 : (Jvm.Cond.lays "HeldCoats" "HeldCoats" "never" "I") ∈ lw_all := lw_g (lw_at lw_m2 74 rfl) rfl
theorem q427 : (Jvm.Cond.soleField "HeldCoats" "never") ∈ lw_all := lw_g (lw_at lw_m2 75 rfl) rfl
theorem q428 : (Jvm.Cond.lays "HeldCoats" "HeldCoats" "price" "I") ∈ lw_all := lw_g (lw_at lw_m2 76 rfl) rfl
theorem q429 : (Jvm.Cond.soleField "HeldCoats" "price") ∈ lw_all := lw_g (lw_at lw_m2 77 rfl) rfl
theorem q430 : (Jvm.Cond.laysFinal "HeldCoats" "HeldCoats" "told" "[I") ∈ lw_all := lw_g (lw_at lw_m2 78 rfl) rfl
theorem q431 : (Jvm.Cond.soleField "HeldCoats" "told") ∈ lw_all := lw_g (lw_at lw_m2 79 rfl) rfl
theorem q432 : (Jvm.Cond.laysFinal "HeldCoats" "HeldCoats" "kept" "[LHeldCoats$Kept;") ∈ lw_all := lw_g (lw_at lw_m2 80 rfl) rfl
theorem q433 : (Jvm.Cond.soleField "HeldCoats" "kept") ∈ lw_all := lw_g (lw_at lw_m2 81 rfl) rfl
theorem q434 : (Jvm.Cond.superclass "HeldCoats" "java/lang/Object") ∈ lw_all := lw_g (lw_at lw_m2 82 rfl) rfl
theorem q436 : (Jvm.Cond.instanceMethod ({ cls := "HeldCoats", name := "feed", desc := "(IIIII)I" } : Jvm.MethodName)) ∈ lw_all := lw_g (lw_at lw_m2 84 rfl) rfl
theorem q437 : (Jvm.Cond.selects "HeldCoats" ({ cls := "HeldCoats", name := "feed", desc := "(IIIII)I" } : Jvm.MethodName) ({ cls := "HeldCoats", name := "feed", desc := "(IIIII)I" } : Jvm.MethodName)) ∈ lw_all := lw_g (lw_at lw_m2 85 rfl) rfl
theorem q438 : (Jvm.Cond.code ({ cls := "HeldCoats", name := "feed", desc := "(IIIII)I" } : Jvm.MethodName) prog_1_method_7_code (6 : Nat) (Option.some Jvm.ClassFile.FieldType.int)) ∈ lw_all := lw_g (lw_at lw_m2 86 rfl) rfl
theorem q439 : (Jvm.Cond.methodLink "HeldCoats" (81 : Nat) ({ cls := "HeldCoats", name := "come", desc := "(I)V" } : Jvm.MethodName)) ∈ lw_all := lw_g (lw_at lw_m2 87 rfl) rfl
theorem q440 : (Jvm.Cond.privateMethod ({ cls := "HeldCoats", name := "come", desc := "(I)V" } : Jvm.MethodName)) ∈ lw_tbl := lw_at lw_m2 88 rfl
theorem q441 : (Jvm.Cond.instanceMethod ({ cls := "HeldCoats", name := "come", desc := "(I)V" } : Jvm.MethodName)) ∈ lw_all := lw_g (lw_at lw_m2 89 rfl) rfl
theorem q442 : (Jvm.Cond.code ({ cls := "HeldCoats", name := "come", desc := "(I)V" } : Jvm.MethodName) prog_1_method_6_code (3 : Nat) (Option.none : Option Jvm.ClassFile.FieldType)) ∈ lw_all := lw_g (lw_at lw_m2 90 rfl) rfl
theorem q444 : (Jvm.Cond.instanceMethod ({ cls := "HeldCoats", name := "end", desc := "(I)Z" } : Jvm.MethodName)) ∈ lw_all := lw_g (lw_at lw_m2 92 rfl) rfl
theorem q445 : (Jvm.Cond.selects "HeldCoats" ({ cls := "HeldCoats", name := "end", desc := "(I)Z" } : Jvm.MethodName) ({ cls := "HeldCoats", name := "end", desc := "(I)Z" } : Jvm.MethodName)) ∈ lw_all := lw_g (lw_at lw_m2 93 rfl) rfl
theorem q446 : (Jvm.Cond.code ({ cls := "HeldCoats", name := "end", desc := "(I)Z" } : Jvm.MethodName) prog_1_method_8_code (2 : Nat) (Option.some Jvm.ClassFile.FieldType.boolean)) ∈ lw_all := lw_g (lw_at lw_m2 94 rfl) rfl
theorem q448 : (Jvm.Cond.instanceMethod ({ cls := "HeldCoats", name := "capital", desc := "()I" } : Jvm.MethodName)) ∈ lw_all := lw_g (lw_at lw_m2 96 rfl) rfl
theorem q449 : (Jvm.Cond.selects "HeldCoats" ({ cls := "HeldCoats", name := "capital", desc := "()I" } : Jvm.MethodName) ({ cls := "HeldCoats", name := "capital", desc := "()I" } : Jvm.MethodName)) ∈ lw_all := lw_g (lw_at lw_m2 97 rfl) rfl
theorem q450 : (Jvm.Cond.codeWith ({ cls := "HeldCoats", name := "capital", desc := "()I" } : Jvm.MethodName) prog_1_method_11_code (3 : Nat) (Option.some Jvm.ClassFile.FieldType.int) [((10 : Nat), (58 : Nat), (59 : Nat), (111 : Nat))]) ∈ lw_all := lw_g (lw_at lw_m2 98 rfl) rfl
theorem q451 : (Jvm.Cond.classLink "HeldCoats" (111 : Nat) "HeldCoats$Fault") ∈ lw_all := lw_g (lw_at lw_m2 99 rfl) rfl
theorem q452 : (Jvm.Cond.methodLink "HeldCoats" (85 : Nat) ({ cls := "HeldCoats", name := "take", desc := "()I" } : Jvm.MethodName)) ∈ lw_all := lw_g (lw_at lw_m2 100 rfl) rfl
theorem q453 : (Jvm.Cond.privateMethod ({ cls := "HeldCoats", name := "take", desc := "()I" } : Jvm.MethodName)) ∈ lw_tbl := lw_at lw_m2 101 rfl
theorem q454 : (Jvm.Cond.instanceMethod ({ cls := "HeldCoats", name := "take", desc := "()I" } : Jvm.MethodName)) ∈ lw_all := lw_g (lw_at lw_m2 102 rfl) rfl
theorem q455 : (Jvm.Cond.code ({ cls := "HeldCoats", name := "take", desc := "()I" } : Jvm.MethodName) prog_1_method_9_code (2 : Nat) (Option.some Jvm.ClassFile.FieldType.int)) ∈ lw_all := lw_g (lw_at lw_m2 103 rfl) rfl
theorem q456 : (Jvm.Cond.classLink "HeldCoats" (92 : Nat) "HeldCoats$CapitalReader") ∈ lw_all := lw_g (lw_at lw_m2 104 rfl) rfl
theorem q458 : (Jvm.Cond.methodLink "HeldCoats" (94 : Nat) ({ cls := "HeldCoats$CapitalReader", name := "<init>", desc := "([BI)V" } : Jvm.MethodName)) ∈ lw_all := lw_g (lw_at lw_m2 106 rfl) rfl
theorem q512 : (Jvm.Cond.methodLink "HeldCoats" (97 : Nat) ({ cls := "HeldCoats$CapitalReader", name := "read", desc := "()LHeldCoats$Capital;" } : Jvm.MethodName)) ∈ lw_all := lw_g (lw_at lw_m2 160 rfl) rfl
theorem q799 : (Jvm.Cond.fieldLinkNest "HeldCoats" (113 : Nat) "HeldCoats$Fault" "kind" "I" "HeldCoats") ∈ lw_tbl := lw_at lw_m3 207 rfl
theorem q801 : (Jvm.Cond.fieldLinkNest "HeldCoats" (116 : Nat) "HeldCoats$Fault" "place" "I" "HeldCoats") ∈ lw_tbl := lw_at lw_m3 209 rfl
theorem q929 : (Jvm.Cond.static ({ cls := "HeldCoats", name := "isIn", desc := "(III)Z" } : Jvm.MethodName)) ∈ lw_all := lw_g (lw_at lw_m4 97 rfl) rfl
theorem q930 : (Jvm.Cond.code ({ cls := "HeldCoats", name := "isIn", desc := "(III)Z" } : Jvm.MethodName) prog_1_method_1_code (3 : Nat) (Option.some Jvm.ClassFile.FieldType.boolean)) ∈ lw_all := lw_g (lw_at lw_m4 98 rfl) rfl
theorem q942 : (Jvm.Cond.fieldLinkNest "HeldCoats" (152 : Nat) "HeldCoats$Told" "number" "I" "HeldCoats") ∈ lw_tbl := lw_at lw_m4 110 rfl
theorem q973 : (Jvm.Cond.selects "HeldCoats" ({ cls := "java/lang/Object", name := "getClass", desc := "()Ljava/lang/Class;" } : Jvm.MethodName) ({ cls := "java/lang/Object", name := "getClass", desc := "()Ljava/lang/Class;" } : Jvm.MethodName)) ∈ lw_all := lw_g (lw_at lw_m4 141 rfl) rfl
theorem q1030 : (Jvm.Cond.fieldLinkNest "HeldCoats" (198 : Nat) "HeldCoats$Coat" "man" "I" "HeldCoats") ∈ lw_tbl := lw_at lw_m4 198 rfl
theorem q1033 : (Jvm.Cond.fieldLinkNest "HeldCoats" (201 : Nat) "HeldCoats$Coat" "warmth" "I" "HeldCoats") ∈ lw_tbl := lw_at lw_m4 201 rfl
theorem q1059 : (Jvm.Cond.static ({ cls := "HeldCoats", name := "isOf", desc := "(II)Z" } : Jvm.MethodName)) ∈ lw_all := lw_g (lw_at lw_m4 227 rfl) rfl
theorem q1060 : (Jvm.Cond.code ({ cls := "HeldCoats", name := "isOf", desc := "(II)Z" } : Jvm.MethodName) prog_1_method_2_code (2 : Nat) (Option.some Jvm.ClassFile.FieldType.boolean)) ∈ lw_all := lw_g (lw_at lw_m4 228 rfl) rfl
theorem q1075 : (Jvm.Cond.instanceMethod ({ cls := "HeldCoats", name := "fault", desc := "()I" } : Jvm.MethodName)) ∈ lw_all := lw_g (lw_at lw_m5 3 rfl) rfl
theorem q1076 : (Jvm.Cond.selects "HeldCoats" ({ cls := "HeldCoats", name := "fault", desc := "()I" } : Jvm.MethodName) ({ cls := "HeldCoats", name := "fault", desc := "()I" } : Jvm.MethodName)) ∈ lw_all := lw_g (lw_at lw_m5 4 rfl) rfl
theorem q1077 : (Jvm.Cond.code ({ cls := "HeldCoats", name := "fault", desc := "()I" } : Jvm.MethodName) prog_1_method_12_code (1 : Nat) (Option.some Jvm.ClassFile.FieldType.int)) ∈ lw_all := lw_g (lw_at lw_m5 5 rfl) rfl
theorem q1079 : (Jvm.Cond.instanceMethod ({ cls := "HeldCoats", name := "seat", desc := "(II)I" } : Jvm.MethodName)) ∈ lw_all := lw_g (lw_at lw_m5 7 rfl) rfl
theorem q1080 : (Jvm.Cond.selects "HeldCoats" ({ cls := "HeldCoats", name := "seat", desc := "(II)I" } : Jvm.MethodName) ({ cls := "HeldCoats", name := "seat", desc := "(II)I" } : Jvm.MethodName)) ∈ lw_all := lw_g (lw_at lw_m5 8 rfl) rfl
theorem q1081 : (Jvm.Cond.code ({ cls := "HeldCoats", name := "seat", desc := "(II)I" } : Jvm.MethodName) prog_1_method_20_code (3 : Nat) (Option.some Jvm.ClassFile.FieldType.int)) ∈ lw_all := lw_g (lw_at lw_m5 9 rfl) rfl
theorem q1082 : (Jvm.Cond.methodLink "HeldCoats" (145 : Nat) ({ cls := "HeldCoats", name := "isSeat", desc := "(I)Z" } : Jvm.MethodName)) ∈ lw_all := lw_g (lw_at lw_m5 10 rfl) rfl
theorem q1083 : (Jvm.Cond.privateMethod ({ cls := "HeldCoats", name := "isSeat", desc := "(I)Z" } : Jvm.MethodName)) ∈ lw_tbl := lw_at lw_m5 11 rfl
theorem q1084 : (Jvm.Cond.instanceMethod ({ cls := "HeldCoats", name := "isSeat", desc := "(I)Z" } : Jvm.MethodName)) ∈ lw_all := lw_g (lw_at lw_m5 12 rfl) rfl
theorem q1085 : (Jvm.Cond.code ({ cls := "HeldCoats", name := "isSeat", desc := "(I)Z" } : Jvm.MethodName) prog_1_method_13_code (2 : Nat) (Option.some Jvm.ClassFile.FieldType.boolean)) ∈ lw_all := lw_g (lw_at lw_m5 13 rfl) rfl
theorem q1086 : (Jvm.Cond.methodLink "HeldCoats" (119 : Nat) ({ cls := "HeldCoats$Capital", name := "isSeat", desc := "(I)Z" } : Jvm.MethodName)) ∈ lw_all := lw_g (lw_at lw_m5 14 rfl) rfl
theorem q1092 : (Jvm.Cond.methodLink "HeldCoats" (146 : Nat) ({ cls := "java/util/ArrayList", name := "get", desc := "(I)Ljava/lang/Object;" } : Jvm.MethodName)) ∈ lw_all := lw_g (lw_at lw_m5 20 rfl) rfl
theorem q1093 : (Jvm.Cond.classLink "HeldCoats" (150 : Nat) "HeldCoats$Told") ∈ lw_all := lw_g (lw_at lw_m5 21 rfl) rfl
theorem q1094 : (Jvm.Cond.methodLink "HeldCoats" (7 : Nat) ({ cls := "HeldCoats$Reign", name := "on", desc := "(I)I" } : Jvm.MethodName)) ∈ lw_all := lw_g (lw_at lw_m5 22 rfl) rfl
theorem q1098 : (Jvm.Cond.methodLink "HeldCoats" (155 : Nat) ({ cls := "HeldCoats$Reign", name := "holder", desc := "(I)I" } : Jvm.MethodName)) ∈ lw_all := lw_g (lw_at lw_m5 26 rfl) rfl
theorem q1115 : (Jvm.Cond.methodLink "HeldCoats" (158 : Nat) ({ cls := "HeldCoats", name := "lain", desc := "(LHeldCoats$Reign;I)I" } : Jvm.MethodName)) ∈ lw_all := lw_g (lw_at lw_m5 43 rfl) rfl
theorem q1116 : (Jvm.Cond.static ({ cls := "HeldCoats", name := "lain", desc := "(LHeldCoats$Reign;I)I" } : Jvm.MethodName)) ∈ lw_all := lw_g (lw_at lw_m5 44 rfl) rfl
theorem q1117 : (Jvm.Cond.code ({ cls := "HeldCoats", name := "lain", desc := "(LHeldCoats$Reign;I)I" } : Jvm.MethodName) prog_1_method_4_code (2 : Nat) (Option.some Jvm.ClassFile.FieldType.int)) ∈ lw_all := lw_g (lw_at lw_m5 45 rfl) rfl
theorem q1119 : (Jvm.Cond.instanceMethod ({ cls := "HeldCoats", name := "now", desc := "(I)I" } : Jvm.MethodName)) ∈ lw_all := lw_g (lw_at lw_m5 47 rfl) rfl
theorem q1120 : (Jvm.Cond.selects "HeldCoats" ({ cls := "HeldCoats", name := "now", desc := "(I)I" } : Jvm.MethodName) ({ cls := "HeldCoats", name := "now", desc := "(I)I" } : Jvm.MethodName)) ∈ lw_all := lw_g (lw_at lw_m5 48 rfl) rfl
theorem q1121 : (Jvm.Cond.code ({ cls := "HeldCoats", name := "now", desc := "(I)I" } : Jvm.MethodName) prog_1_method_23_code (2 : Nat) (Option.some Jvm.ClassFile.FieldType.int)) ∈ lw_all := lw_g (lw_at lw_m5 49 rfl) rfl
theorem q1122 : (Jvm.Cond.methodLink "HeldCoats" (213 : Nat) ({ cls := "HeldCoats$Capital", name := "cold", desc := "(I)I" } : Jvm.MethodName)) ∈ lw_all := lw_g (lw_at lw_m5 50 rfl) rfl
theorem q1123 : (Jvm.Cond.methodLink "HeldCoats" (216 : Nat) ({ cls := "HeldCoats$Capital", name := "isSummer", desc := "(I)Z" } : Jvm.MethodName)) ∈ lw_all := lw_g (lw_at lw_m5 51 rfl) rfl
theorem q1124 : (Jvm.Cond.methodLink "HeldCoats" (219 : Nat) ({ cls := "HeldCoats$Reign", name := "ruler", desc := "(Z)I" } : Jvm.MethodName)) ∈ lw_all := lw_g (lw_at lw_m5 52 rfl) rfl
theorem q1139 : (Jvm.Cond.instanceMethod ({ cls := "HeldCoats", name := "lay", desc := "(II)I" } : Jvm.MethodName)) ∈ lw_all := lw_g (lw_at lw_m5 67 rfl) rfl
theorem q1140 : (Jvm.Cond.selects "HeldCoats" ({ cls := "HeldCoats", name := "lay", desc := "(II)I" } : Jvm.MethodName) ({ cls := "HeldCoats", name := "lay", desc := "(II)I" } : Jvm.MethodName)) ∈ lw_all := lw_g (lw_at lw_m5 68 rfl) rfl
theorem q1141 : (Jvm.Cond.code ({ cls := "HeldCoats", name := "lay", desc := "(II)I" } : Jvm.MethodName) prog_1_method_26_code (3 : Nat) (Option.some Jvm.ClassFile.FieldType.int)) ∈ lw_all := lw_g (lw_at lw_m5 69 rfl) rfl
theorem q1142 : (Jvm.Cond.methodLink "HeldCoats" (195 : Nat) ({ cls := "HeldCoats", name := "isCoat", desc := "(I)Z" } : Jvm.MethodName)) ∈ lw_all := lw_g (lw_at lw_m5 70 rfl) rfl
theorem q1143 : (Jvm.Cond.privateMethod ({ cls := "HeldCoats", name := "isCoat", desc := "(I)Z" } : Jvm.MethodName)) ∈ lw_tbl := lw_at lw_m5 71 rfl
theorem q1144 : (Jvm.Cond.instanceMethod ({ cls := "HeldCoats", name := "isCoat", desc := "(I)Z" } : Jvm.MethodName)) ∈ lw_all := lw_g (lw_at lw_m5 72 rfl) rfl
theorem q1145 : (Jvm.Cond.code ({ cls := "HeldCoats", name := "isCoat", desc := "(I)Z" } : Jvm.MethodName) prog_1_method_15_code (2 : Nat) (Option.some Jvm.ClassFile.FieldType.boolean)) ∈ lw_all := lw_g (lw_at lw_m5 73 rfl) rfl
theorem q1146 : (Jvm.Cond.methodLink "HeldCoats" (126 : Nat) ({ cls := "HeldCoats$Capital", name := "isCoat", desc := "(I)Z" } : Jvm.MethodName)) ∈ lw_all := lw_g (lw_at lw_m5 74 rfl) rfl
theorem q1150 : (Jvm.Cond.classLink "HeldCoats" (245 : Nat) "HeldCoats$Lies") ∈ lw_all := lw_g (lw_at lw_m5 78 rfl) rfl
theorem q1152 : (Jvm.Cond.methodLink "HeldCoats" (247 : Nat) ({ cls := "HeldCoats$Lies", name := "<init>", desc := "(II)V" } : Jvm.MethodName)) ∈ lw_all := lw_g (lw_at lw_m5 80 rfl) rfl
theorem q1186 : (Jvm.Cond.methodLink "HeldCoats" (250 : Nat) ({ cls := "HeldCoats", name := "does", desc := "(LHeldCoats$Act;)I" } : Jvm.MethodName)) ∈ lw_all := lw_g (lw_at lw_m5 114 rfl) rfl
theorem q1187 : (Jvm.Cond.privateMethod ({ cls := "HeldCoats", name := "does", desc := "(LHeldCoats$Act;)I" } : Jvm.MethodName)) ∈ lw_tbl := lw_at lw_m5 115 rfl
theorem q1188 : (Jvm.Cond.instanceMethod ({ cls := "HeldCoats", name := "does", desc := "(LHeldCoats$Act;)I" } : Jvm.MethodName)) ∈ lw_all := lw_g (lw_at lw_m5 116 rfl) rfl
theorem q1189 : (Jvm.Cond.code ({ cls := "HeldCoats", name := "does", desc := "(LHeldCoats$Act;)I" } : Jvm.MethodName) prog_1_method_25_code (3 : Nat) (Option.some Jvm.ClassFile.FieldType.int)) ∈ lw_all := lw_g (lw_at lw_m5 117 rfl) rfl
theorem q1190 : (Jvm.Cond.methodLink "HeldCoats" (232 : Nat) ({ cls := "HeldCoats$Reign", name := "as", desc := "(LHeldCoats$Reign;)LHeldCoats$Reign;" } : Jvm.MethodName)) ∈ lw_all := lw_g (lw_at lw_m5 118 rfl) rfl
theorem q1198 : (Jvm.Cond.methodLink "HeldCoats" (236 : Nat) ({ cls := "HeldCoats$Act", name := "does", desc := "(LHeldCoats$Reign;)I" } : Jvm.MethodName)) ∈ lw_all := lw_g (lw_at lw_m5 126 rfl) rfl
theorem q1301 : (Jvm.Cond.methodLink "HeldCoats" (242 : Nat) ({ cls := "HeldCoats", name := "snap", desc := "()V" } : Jvm.MethodName)) ∈ lw_all := lw_g (lw_at lw_m5 229 rfl) rfl
theorem q1302 : (Jvm.Cond.privateMethod ({ cls := "HeldCoats", name := "snap", desc := "()V" } : Jvm.MethodName)) ∈ lw_tbl := lw_at lw_m5 230 rfl
theorem q1303 : (Jvm.Cond.instanceMethod ({ cls := "HeldCoats", name := "snap", desc := "()V" } : Jvm.MethodName)) ∈ lw_all := lw_g (lw_at lw_m5 231 rfl) rfl
theorem q1304 : (Jvm.Cond.code ({ cls := "HeldCoats", name := "snap", desc := "()V" } : Jvm.MethodName) prog_1_method_24_code (3 : Nat) (Option.none : Option Jvm.ClassFile.FieldType)) ∈ lw_all := lw_g (lw_at lw_m5 232 rfl) rfl
theorem q1306 : (Jvm.Cond.instanceMethod ({ cls := "HeldCoats", name := "wear", desc := "(II)I" } : Jvm.MethodName)) ∈ lw_all := lw_g (lw_at lw_m5 234 rfl) rfl
theorem q1307 : (Jvm.Cond.selects "HeldCoats" ({ cls := "HeldCoats", name := "wear", desc := "(II)I" } : Jvm.MethodName) ({ cls := "HeldCoats", name := "wear", desc := "(II)I" } : Jvm.MethodName)) ∈ lw_all := lw_g (lw_at lw_m5 235 rfl) rfl
theorem q1308 : (Jvm.Cond.code ({ cls := "HeldCoats", name := "wear", desc := "(II)I" } : Jvm.MethodName) prog_1_method_27_code (3 : Nat) (Option.some Jvm.ClassFile.FieldType.int)) ∈ lw_all := lw_g (lw_at lw_m5 236 rfl) rfl
theorem q1309 : (Jvm.Cond.methodLink "HeldCoats" (129 : Nat) ({ cls := "HeldCoats", name := "isMan", desc := "(I)Z" } : Jvm.MethodName)) ∈ lw_all := lw_g (lw_at lw_m5 237 rfl) rfl
theorem q1310 : (Jvm.Cond.privateMethod ({ cls := "HeldCoats", name := "isMan", desc := "(I)Z" } : Jvm.MethodName)) ∈ lw_tbl := lw_at lw_m5 238 rfl
theorem q1311 : (Jvm.Cond.instanceMethod ({ cls := "HeldCoats", name := "isMan", desc := "(I)Z" } : Jvm.MethodName)) ∈ lw_all := lw_g (lw_at lw_m5 239 rfl) rfl
theorem q1312 : (Jvm.Cond.code ({ cls := "HeldCoats", name := "isMan", desc := "(I)Z" } : Jvm.MethodName) prog_1_method_14_code (2 : Nat) (Option.some Jvm.ClassFile.FieldType.boolean)) ∈ lw_all := lw_g (lw_at lw_m6 0 rfl) rfl
theorem q1313 : (Jvm.Cond.methodLink "HeldCoats" (123 : Nat) ({ cls := "HeldCoats$Capital", name := "isMan", desc := "(I)Z" } : Jvm.MethodName)) ∈ lw_all := lw_g (lw_at lw_m6 1 rfl) rfl
theorem q1317 : (Jvm.Cond.classLink "HeldCoats" (253 : Nat) "HeldCoats$Wears") ∈ lw_all := lw_g (lw_at lw_m6 5 rfl) rfl
theorem q1319 : (Jvm.Cond.methodLink "HeldCoats" (255 : Nat) ({ cls := "HeldCoats$Wears", name := "<init>", desc := "(II)V" } : Jvm.MethodName)) ∈ lw_all := lw_g (lw_at lw_m6 7 rfl) rfl
theorem q1327 : (Jvm.Cond.instanceMethod ({ cls := "HeldCoats", name := "lend", desc := "(II)I" } : Jvm.MethodName)) ∈ lw_all := lw_g (lw_at lw_m6 15 rfl) rfl
theorem q1328 : (Jvm.Cond.selects "HeldCoats" ({ cls := "HeldCoats", name := "lend", desc := "(II)I" } : Jvm.MethodName) ({ cls := "HeldCoats", name := "lend", desc := "(II)I" } : Jvm.MethodName)) ∈ lw_all := lw_g (lw_at lw_m6 16 rfl) rfl
theorem q1329 : (Jvm.Cond.code ({ cls := "HeldCoats", name := "lend", desc := "(II)I" } : Jvm.MethodName) prog_1_method_28_code (3 : Nat) (Option.some Jvm.ClassFile.FieldType.int)) ∈ lw_all := lw_g (lw_at lw_m6 17 rfl) rfl
theorem q1330 : (Jvm.Cond.classLink "HeldCoats" (256 : Nat) "HeldCoats$Lent") ∈ lw_all := lw_g (lw_at lw_m6 18 rfl) rfl
theorem q1332 : (Jvm.Cond.methodLink "HeldCoats" (258 : Nat) ({ cls := "HeldCoats$Lent", name := "<init>", desc := "(II)V" } : Jvm.MethodName)) ∈ lw_all := lw_g (lw_at lw_m6 20 rfl) rfl
theorem q1340 : (Jvm.Cond.instanceMethod ({ cls := "HeldCoats", name := "keep", desc := "(I)I" } : Jvm.MethodName)) ∈ lw_all := lw_g (lw_at lw_m6 28 rfl) rfl
theorem q1341 : (Jvm.Cond.selects "HeldCoats" ({ cls := "HeldCoats", name := "keep", desc := "(I)I" } : Jvm.MethodName) ({ cls := "HeldCoats", name := "keep", desc := "(I)I" } : Jvm.MethodName)) ∈ lw_all := lw_g (lw_at lw_m6 29 rfl) rfl
theorem q1342 : (Jvm.Cond.code ({ cls := "HeldCoats", name := "keep", desc := "(I)I" } : Jvm.MethodName) prog_1_method_29_code (2 : Nat) (Option.some Jvm.ClassFile.FieldType.int)) ∈ lw_all := lw_g (lw_at lw_m6 30 rfl) rfl
theorem q1343 : (Jvm.Cond.classLink "HeldCoats" (259 : Nat) "HeldCoats$Stored") ∈ lw_all := lw_g (lw_at lw_m6 31 rfl) rfl
theorem q1345 : (Jvm.Cond.methodLink "HeldCoats" (261 : Nat) ({ cls := "HeldCoats$Stored", name := "<init>", desc := "(I)V" } : Jvm.MethodName)) ∈ lw_all := lw_g (lw_at lw_m6 33 rfl) rfl
theorem q1352 : (Jvm.Cond.instanceMethod ({ cls := "HeldCoats", name := "days", desc := "(I)I" } : Jvm.MethodName)) ∈ lw_all := lw_g (lw_at lw_m6 40 rfl) rfl
theorem q1353 : (Jvm.Cond.selects "HeldCoats" ({ cls := "HeldCoats", name := "days", desc := "(I)I" } : Jvm.MethodName) ({ cls := "HeldCoats", name := "days", desc := "(I)I" } : Jvm.MethodName)) ∈ lw_all := lw_g (lw_at lw_m6 41 rfl) rfl
theorem q1354 : (Jvm.Cond.code ({ cls := "HeldCoats", name := "days", desc := "(I)I" } : Jvm.MethodName) prog_1_method_30_code (2 : Nat) (Option.some Jvm.ClassFile.FieldType.int)) ∈ lw_all := lw_g (lw_at lw_m6 42 rfl) rfl
theorem q1355 : (Jvm.Cond.methodLink "HeldCoats" (162 : Nat) ({ cls := "HeldCoats", name := "isIn", desc := "(III)Z" } : Jvm.MethodName)) ∈ lw_all := lw_g (lw_at lw_m6 43 rfl) rfl
theorem q1356 : (Jvm.Cond.methodLink "HeldCoats" (263 : Nat) ({ cls := "HeldCoats$Reign", name := "isOver", desc := "()Z" } : Jvm.MethodName)) ∈ lw_all := lw_g (lw_at lw_m6 44 rfl) rfl
theorem q1357 : (Jvm.Cond.methodLink "HeldCoats" (267 : Nat) ({ cls := "HeldCoats$Reign", name := "passAll", desc := "(I)I" } : Jvm.MethodName)) ∈ lw_all := lw_g (lw_at lw_m6 45 rfl) rfl
theorem q1359 : (Jvm.Cond.instanceMethod ({ cls := "HeldCoats", name := "undo", desc := "()I" } : Jvm.MethodName)) ∈ lw_all := lw_g (lw_at lw_m6 47 rfl) rfl
theorem q1360 : (Jvm.Cond.selects "HeldCoats" ({ cls := "HeldCoats", name := "undo", desc := "()I" } : Jvm.MethodName) ({ cls := "HeldCoats", name := "undo", desc := "()I" } : Jvm.MethodName)) ∈ lw_all := lw_g (lw_at lw_m6 48 rfl) rfl
theorem q1361 : (Jvm.Cond.code ({ cls := "HeldCoats", name := "undo", desc := "()I" } : Jvm.MethodName) prog_1_method_31_code (1 : Nat) (Option.some Jvm.ClassFile.FieldType.int)) ∈ lw_all := lw_g (lw_at lw_m6 49 rfl) rfl
theorem q1363 : (Jvm.Cond.instanceMethod ({ cls := "HeldCoats", name := "best", desc := "(II)I" } : Jvm.MethodName)) ∈ lw_all := lw_g (lw_at lw_m6 51 rfl) rfl
theorem q1364 : (Jvm.Cond.selects "HeldCoats" ({ cls := "HeldCoats", name := "best", desc := "(II)I" } : Jvm.MethodName) ({ cls := "HeldCoats", name := "best", desc := "(II)I" } : Jvm.MethodName)) ∈ lw_all := lw_g (lw_at lw_m6 52 rfl) rfl
theorem q1365 : (Jvm.Cond.code ({ cls := "HeldCoats", name := "best", desc := "(II)I" } : Jvm.MethodName) prog_1_method_33_code (9 : Nat) (Option.some Jvm.ClassFile.FieldType.int)) ∈ lw_all := lw_g (lw_at lw_m6 53 rfl) rfl
theorem q1366 : (Jvm.Cond.methodLink "HeldCoats" (170 : Nat) ({ cls := "HeldCoats$Reign", name := "wornBy", desc := "(I)I" } : Jvm.MethodName)) ∈ lw_all := lw_g (lw_at lw_m6 54 rfl) rfl
theorem q1367 : (Jvm.Cond.methodLink "HeldCoats" (189 : Nat) ({ cls := "HeldCoats$Capital", name := "coatsOf", desc := "(I)I" } : Jvm.MethodName)) ∈ lw_all := lw_g (lw_at lw_m6 55 rfl) rfl
theorem q1373 : (Jvm.Cond.methodLink "HeldCoats" (173 : Nat) ({ cls := "HeldCoats$Reign", name := "chill", desc := "(III)I" } : Jvm.MethodName)) ∈ lw_all := lw_g (lw_at lw_m6 61 rfl) rfl
theorem q1374 : (Jvm.Cond.methodLink "HeldCoats" (276 : Nat) ({ cls := "HeldCoats$Reign", name := "square", desc := "(I)I" } : Jvm.MethodName)) ∈ lw_all := lw_g (lw_at lw_m6 62 rfl) rfl
theorem q1375 : (Jvm.Cond.methodLink "HeldCoats" (279 : Nat) ({ cls := "java/lang/Integer", name := "bitCount", desc := "(I)I" } : Jvm.MethodName)) ∈ lw_all := lw_g (lw_at lw_m6 63 rfl) rfl
theorem q1381 : (Jvm.Cond.methodLink "HeldCoats" (284 : Nat) ({ cls := "HeldCoats", name := "worthOf", desc := "(I)I" } : Jvm.MethodName)) ∈ lw_all := lw_g (lw_at lw_m6 69 rfl) rfl
theorem q1382 : (Jvm.Cond.privateMethod ({ cls := "HeldCoats", name := "worthOf", desc := "(I)I" } : Jvm.MethodName)) ∈ lw_tbl := lw_at lw_m6 70 rfl
theorem q1383 : (Jvm.Cond.instanceMethod ({ cls := "HeldCoats", name := "worthOf", desc := "(I)I" } : Jvm.MethodName)) ∈ lw_all := lw_g (lw_at lw_m6 71 rfl) rfl
theorem q1384 : (Jvm.Cond.code ({ cls := "HeldCoats", name := "worthOf", desc := "(I)I" } : Jvm.MethodName) prog_1_method_32_code (7 : Nat) (Option.some Jvm.ClassFile.FieldType.int)) ∈ lw_all := lw_g (lw_at lw_m6 72 rfl) rfl
theorem q1385 : (Jvm.Cond.methodLink "HeldCoats" (270 : Nat) ({ cls := "HeldCoats", name := "seats", desc := "()I" } : Jvm.MethodName)) ∈ lw_all := lw_g (lw_at lw_m6 73 rfl) rfl
theorem q1386 : (Jvm.Cond.privateMethod ({ cls := "HeldCoats", name := "seats", desc := "()I" } : Jvm.MethodName)) ∈ lw_tbl := lw_at lw_m6 74 rfl
theorem q1387 : (Jvm.Cond.instanceMethod ({ cls := "HeldCoats", name := "seats", desc := "()I" } : Jvm.MethodName)) ∈ lw_all := lw_g (lw_at lw_m6 75 rfl) rfl
theorem q1388 : (Jvm.Cond.code ({ cls := "HeldCoats", name := "seats", desc := "()I" } : Jvm.MethodName) prog_1_method_17_code (1 : Nat) (Option.some Jvm.ClassFile.FieldType.int)) ∈ lw_all := lw_g (lw_at lw_m6 76 rfl) rfl
theorem q1389 : (Jvm.Cond.methodLink "HeldCoats" (134 : Nat) ({ cls := "java/util/ArrayList", name := "size", desc := "()I" } : Jvm.MethodName)) ∈ lw_all := lw_g (lw_at lw_m6 77 rfl) rfl
theorem q1390 : (Jvm.Cond.methodLink "HeldCoats" (272 : Nat) ({ cls := "HeldCoats", name := "isOf", desc := "(II)Z" } : Jvm.MethodName)) ∈ lw_all := lw_g (lw_at lw_m6 78 rfl) rfl
theorem q1392 : (Jvm.Cond.instanceMethod ({ cls := "HeldCoats", name := "laid", desc := "()I" } : Jvm.MethodName)) ∈ lw_all := lw_g (lw_at lw_m6 80 rfl) rfl
theorem q1393 : (Jvm.Cond.selects "HeldCoats" ({ cls := "HeldCoats", name := "laid", desc := "()I" } : Jvm.MethodName) ({ cls := "HeldCoats", name := "laid", desc := "()I" } : Jvm.MethodName)) ∈ lw_all := lw_g (lw_at lw_m6 81 rfl) rfl
theorem q1394 : (Jvm.Cond.code ({ cls := "HeldCoats", name := "laid", desc := "()I" } : Jvm.MethodName) prog_1_method_34_code (1 : Nat) (Option.some Jvm.ClassFile.FieldType.int)) ∈ lw_all := lw_g (lw_at lw_m6 82 rfl) rfl
theorem q1396 : (Jvm.Cond.instanceMethod ({ cls := "HeldCoats", name := "share", desc := "(IIII)I" } : Jvm.MethodName)) ∈ lw_all := lw_g (lw_at lw_m6 84 rfl) rfl
theorem q1397 : (Jvm.Cond.selects "HeldCoats" ({ cls := "HeldCoats", name := "share", desc := "(IIII)I" } : Jvm.MethodName) ({ cls := "HeldCoats", name := "share", desc := "(IIII)I" } : Jvm.MethodName)) ∈ lw_all := lw_g (lw_at lw_m6 85 rfl) rfl
theorem q1398 : (Jvm.Cond.code ({ cls := "HeldCoats", name := "share", desc := "(IIII)I" } : Jvm.MethodName) prog_1_method_36_code (11 : Nat) (Option.some Jvm.ClassFile.FieldType.int)) ∈ lw_all := lw_g (lw_at lw_m6 86 rfl) rfl
theorem q1399 : (Jvm.Cond.methodLink "HeldCoats" (287 : Nat) ({ cls := "HeldCoats", name := "areTwo", desc := "(II)Z" } : Jvm.MethodName)) ∈ lw_all := lw_g (lw_at lw_m6 87 rfl) rfl
theorem q1400 : (Jvm.Cond.privateMethod ({ cls := "HeldCoats", name := "areTwo", desc := "(II)Z" } : Jvm.MethodName)) ∈ lw_tbl := lw_at lw_m6 88 rfl
theorem q1401 : (Jvm.Cond.instanceMethod ({ cls := "HeldCoats", name := "areTwo", desc := "(II)Z" } : Jvm.MethodName)) ∈ lw_all := lw_g (lw_at lw_m6 89 rfl) rfl
theorem q1402 : (Jvm.Cond.code ({ cls := "HeldCoats", name := "areTwo", desc := "(II)Z" } : Jvm.MethodName) prog_1_method_16_code (3 : Nat) (Option.some Jvm.ClassFile.FieldType.boolean)) ∈ lw_all := lw_g (lw_at lw_m6 90 rfl) rfl
theorem q1403 : (Jvm.Cond.methodLink "HeldCoats" (290 : Nat) ({ cls := "HeldCoats", name := "harmIn", desc := "(IIZI)I" } : Jvm.MethodName)) ∈ lw_all := lw_g (lw_at lw_m6 91 rfl) rfl
theorem q1404 : (Jvm.Cond.privateMethod ({ cls := "HeldCoats", name := "harmIn", desc := "(IIZI)I" } : Jvm.MethodName)) ∈ lw_tbl := lw_at lw_m6 92 rfl
theorem q1405 : (Jvm.Cond.instanceMethod ({ cls := "HeldCoats", name := "harmIn", desc := "(IIZI)I" } : Jvm.MethodName)) ∈ lw_all := lw_g (lw_at lw_m6 93 rfl) rfl
theorem q1406 : (Jvm.Cond.code ({ cls := "HeldCoats", name := "harmIn", desc := "(IIZI)I" } : Jvm.MethodName) prog_1_method_35_code (6 : Nat) (Option.some Jvm.ClassFile.FieldType.int)) ∈ lw_all := lw_g (lw_at lw_m6 94 rfl) rfl
theorem q1407 : (Jvm.Cond.methodLink "HeldCoats" (294 : Nat) ({ cls := "java/lang/Math", name := "min", desc := "(II)I" } : Jvm.MethodName)) ∈ lw_all := lw_g (lw_at lw_m6 95 rfl) rfl
theorem q1409 : (Jvm.Cond.instanceMethod ({ cls := "HeldCoats", name := "turns", desc := "()I" } : Jvm.MethodName)) ∈ lw_all := lw_g (lw_at lw_m6 97 rfl) rfl
theorem q1410 : (Jvm.Cond.selects "HeldCoats" ({ cls := "HeldCoats", name := "turns", desc := "()I" } : Jvm.MethodName) ({ cls := "HeldCoats", name := "turns", desc := "()I" } : Jvm.MethodName)) ∈ lw_all := lw_g (lw_at lw_m6 98 rfl) rfl
theorem q1411 : (Jvm.Cond.code ({ cls := "HeldCoats", name := "turns", desc := "()I" } : Jvm.MethodName) prog_1_method_37_code (1 : Nat) (Option.some Jvm.ClassFile.FieldType.int)) ∈ lw_all := lw_g (lw_at lw_m6 99 rfl) rfl
theorem q1413 : (Jvm.Cond.instanceMethod ({ cls := "HeldCoats", name := "ahead", desc := "(I)I" } : Jvm.MethodName)) ∈ lw_all := lw_g (lw_at lw_m6 101 rfl) rfl
theorem q1414 : (Jvm.Cond.selects "HeldCoats" ({ cls := "HeldCoats", name := "ahead", desc := "(I)I" } : Jvm.MethodName) ({ cls := "HeldCoats", name := "ahead", desc := "(I)I" } : Jvm.MethodName)) ∈ lw_all := lw_g (lw_at lw_m6 102 rfl) rfl
theorem q1415 : (Jvm.Cond.code ({ cls := "HeldCoats", name := "ahead", desc := "(I)I" } : Jvm.MethodName) prog_1_method_38_code (3 : Nat) (Option.some Jvm.ClassFile.FieldType.int)) ∈ lw_all := lw_g (lw_at lw_m6 103 rfl) rfl
theorem q1417 : (Jvm.Cond.instanceMethod ({ cls := "HeldCoats", name := "queue", desc := "(I)I" } : Jvm.MethodName)) ∈ lw_all := lw_g (lw_at lw_m6 105 rfl) rfl
theorem q1418 : (Jvm.Cond.selects "HeldCoats" ({ cls := "HeldCoats", name := "queue", desc := "(I)I" } : Jvm.MethodName) ({ cls := "HeldCoats", name := "queue", desc := "(I)I" } : Jvm.MethodName)) ∈ lw_all := lw_g (lw_at lw_m6 106 rfl) rfl
theorem q1419 : (Jvm.Cond.code ({ cls := "HeldCoats", name := "queue", desc := "(I)I" } : Jvm.MethodName) prog_1_method_39_code (2 : Nat) (Option.some Jvm.ClassFile.FieldType.int)) ∈ lw_all := lw_g (lw_at lw_m6 107 rfl) rfl
theorem q1421 : (Jvm.Cond.instanceMethod ({ cls := "HeldCoats", name := "bribes", desc := "(I)I" } : Jvm.MethodName)) ∈ lw_all := lw_g (lw_at lw_m6 109 rfl) rfl
theorem q1422 : (Jvm.Cond.selects "HeldCoats" ({ cls := "HeldCoats", name := "bribes", desc := "(I)I" } : Jvm.MethodName) ({ cls := "HeldCoats", name := "bribes", desc := "(I)I" } : Jvm.MethodName)) ∈ lw_all := lw_g (lw_at lw_m6 110 rfl) rfl
theorem q1423 : (Jvm.Cond.code ({ cls := "HeldCoats", name := "bribes", desc := "(I)I" } : Jvm.MethodName) prog_1_method_40_code (7 : Nat) (Option.some Jvm.ClassFile.FieldType.int)) ∈ lw_all := lw_g (lw_at lw_m6 111 rfl) rfl
theorem q1424 : (Jvm.Cond.methodLink "HeldCoats" (303 : Nat) ({ cls := "HeldCoats", name := "coats", desc := "()I" } : Jvm.MethodName)) ∈ lw_all := lw_g (lw_at lw_m6 112 rfl) rfl
theorem q1425 : (Jvm.Cond.privateMethod ({ cls := "HeldCoats", name := "coats", desc := "()I" } : Jvm.MethodName)) ∈ lw_tbl := lw_at lw_m6 113 rfl
theorem q1426 : (Jvm.Cond.instanceMethod ({ cls := "HeldCoats", name := "coats", desc := "()I" } : Jvm.MethodName)) ∈ lw_all := lw_g (lw_at lw_m6 114 rfl) rfl
theorem q1427 : (Jvm.Cond.code ({ cls := "HeldCoats", name := "coats", desc := "()I" } : Jvm.MethodName) prog_1_method_19_code (1 : Nat) (Option.some Jvm.ClassFile.FieldType.int)) ∈ lw_all := lw_g (lw_at lw_m6 115 rfl) rfl
theorem q1429 : (Jvm.Cond.instanceMethod ({ cls := "HeldCoats", name := "frost", desc := "(II)I" } : Jvm.MethodName)) ∈ lw_all := lw_g (lw_at lw_m6 117 rfl) rfl
theorem q1430 : (Jvm.Cond.selects "HeldCoats" ({ cls := "HeldCoats", name := "frost", desc := "(II)I" } : Jvm.MethodName) ({ cls := "HeldCoats", name := "frost", desc := "(II)I" } : Jvm.MethodName)) ∈ lw_all := lw_g (lw_at lw_m6 118 rfl) rfl
theorem q1431 : (Jvm.Cond.code ({ cls := "HeldCoats", name := "frost", desc := "(II)I" } : Jvm.MethodName) prog_1_method_42_code (3 : Nat) (Option.some Jvm.ClassFile.FieldType.int)) ∈ lw_all := lw_g (lw_at lw_m6 119 rfl) rfl
theorem q1432 : (Jvm.Cond.methodLink "HeldCoats" (314 : Nat) ({ cls := "HeldCoats", name := "layFrost", desc := "(II)Z" } : Jvm.MethodName)) ∈ lw_all := lw_g (lw_at lw_m6 120 rfl) rfl
theorem q1433 : (Jvm.Cond.privateMethod ({ cls := "HeldCoats", name := "layFrost", desc := "(II)Z" } : Jvm.MethodName)) ∈ lw_tbl := lw_at lw_m6 121 rfl
theorem q1434 : (Jvm.Cond.instanceMethod ({ cls := "HeldCoats", name := "layFrost", desc := "(II)Z" } : Jvm.MethodName)) ∈ lw_all := lw_g (lw_at lw_m6 122 rfl) rfl
theorem q1435 : (Jvm.Cond.code ({ cls := "HeldCoats", name := "layFrost", desc := "(II)Z" } : Jvm.MethodName) prog_1_method_41_code (6 : Nat) (Option.some Jvm.ClassFile.FieldType.boolean)) ∈ lw_all := lw_g (lw_at lw_m6 123 rfl) rfl
theorem q1437 : (Jvm.Cond.instanceMethod ({ cls := "HeldCoats", name := "frostAt", desc := "(II)I" } : Jvm.MethodName)) ∈ lw_all := lw_g (lw_at lw_m6 125 rfl) rfl
theorem q1438 : (Jvm.Cond.selects "HeldCoats" ({ cls := "HeldCoats", name := "frostAt", desc := "(II)I" } : Jvm.MethodName) ({ cls := "HeldCoats", name := "frostAt", desc := "(II)I" } : Jvm.MethodName)) ∈ lw_all := lw_g (lw_at lw_m6 126 rfl) rfl
theorem q1439 : (Jvm.Cond.code ({ cls := "HeldCoats", name := "frostAt", desc := "(II)I" } : Jvm.MethodName) prog_1_method_43_code (3 : Nat) (Option.some Jvm.ClassFile.FieldType.int)) ∈ lw_all := lw_g (lw_at lw_m6 127 rfl) rfl
theorem q1441 : (Jvm.Cond.instanceMethod ({ cls := "HeldCoats", name := "word", desc := "(I)I" } : Jvm.MethodName)) ∈ lw_all := lw_g (lw_at lw_m6 129 rfl) rfl
theorem q1442 : (Jvm.Cond.selects "HeldCoats" ({ cls := "HeldCoats", name := "word", desc := "(I)I" } : Jvm.MethodName) ({ cls := "HeldCoats", name := "word", desc := "(I)I" } : Jvm.MethodName)) ∈ lw_all := lw_g (lw_at lw_m6 130 rfl) rfl
theorem q1443 : (Jvm.Cond.code ({ cls := "HeldCoats", name := "word", desc := "(I)I" } : Jvm.MethodName) prog_1_method_44_code (4 : Nat) (Option.some Jvm.ClassFile.FieldType.int)) ∈ lw_all := lw_g (lw_at lw_m6 131 rfl) rfl
theorem q1444 : (Jvm.Cond.methodLink "HeldCoats" (317 : Nat) ({ cls := "HeldCoats$Reign", name := "pass", desc := "()Z" } : Jvm.MethodName)) ∈ lw_all := lw_g (lw_at lw_m6 132 rfl) rfl
theorem q1446 : (Jvm.Cond.instanceMethod ({ cls := "HeldCoats", name := "bare", desc := "()I" } : Jvm.MethodName)) ∈ lw_all := lw_g (lw_at lw_m6 134 rfl) rfl
theorem q1447 : (Jvm.Cond.selects "HeldCoats" ({ cls := "HeldCoats", name := "bare", desc := "()I" } : Jvm.MethodName) ({ cls := "HeldCoats", name := "bare", desc := "()I" } : Jvm.MethodName)) ∈ lw_all := lw_g (lw_at lw_m6 135 rfl) rfl
theorem q1448 : (Jvm.Cond.code ({ cls := "HeldCoats", name := "bare", desc := "()I" } : Jvm.MethodName) prog_1_method_46_code (1 : Nat) (Option.some Jvm.ClassFile.FieldType.int)) ∈ lw_all := lw_g (lw_at lw_m6 136 rfl) rfl
theorem q1449 : (Jvm.Cond.methodLink "HeldCoats" (320 : Nat) ({ cls := "HeldCoats", name := "firstDay", desc := "(I)I" } : Jvm.MethodName)) ∈ lw_all := lw_g (lw_at lw_m6 137 rfl) rfl
theorem q1450 : (Jvm.Cond.privateMethod ({ cls := "HeldCoats", name := "firstDay", desc := "(I)I" } : Jvm.MethodName)) ∈ lw_tbl := lw_at lw_m6 138 rfl
theorem q1451 : (Jvm.Cond.instanceMethod ({ cls := "HeldCoats", name := "firstDay", desc := "(I)I" } : Jvm.MethodName)) ∈ lw_all := lw_g (lw_at lw_m6 139 rfl) rfl
theorem q1452 : (Jvm.Cond.code ({ cls := "HeldCoats", name := "firstDay", desc := "(I)I" } : Jvm.MethodName) prog_1_method_45_code (2 : Nat) (Option.some Jvm.ClassFile.FieldType.int)) ∈ lw_all := lw_g (lw_at lw_m6 140 rfl) rfl
theorem q1454 : (Jvm.Cond.instanceMethod ({ cls := "HeldCoats", name := "rules", desc := "(I)I" } : Jvm.MethodName)) ∈ lw_all := lw_g (lw_at lw_m6 142 rfl) rfl
theorem q1455 : (Jvm.Cond.selects "HeldCoats" ({ cls := "HeldCoats", name := "rules", desc := "(I)I" } : Jvm.MethodName) ({ cls := "HeldCoats", name := "rules", desc := "(I)I" } : Jvm.MethodName)) ∈ lw_all := lw_g (lw_at lw_m6 143 rfl) rfl
theorem q1456 : (Jvm.Cond.code ({ cls := "HeldCoats", name := "rules", desc := "(I)I" } : Jvm.MethodName) prog_1_method_47_code (2 : Nat) (Option.some Jvm.ClassFile.FieldType.int)) ∈ lw_all := lw_g (lw_at lw_m6 144 rfl) rfl
theorem q1458 : (Jvm.Cond.instanceMethod ({ cls := "HeldCoats", name := "harm", desc := "(II)I" } : Jvm.MethodName)) ∈ lw_all := lw_g (lw_at lw_m6 146 rfl) rfl
theorem q1459 : (Jvm.Cond.selects "HeldCoats" ({ cls := "HeldCoats", name := "harm", desc := "(II)I" } : Jvm.MethodName) ({ cls := "HeldCoats", name := "harm", desc := "(II)I" } : Jvm.MethodName)) ∈ lw_all := lw_g (lw_at lw_m6 147 rfl) rfl
theorem q1460 : (Jvm.Cond.code ({ cls := "HeldCoats", name := "harm", desc := "(II)I" } : Jvm.MethodName) prog_1_method_48_code (3 : Nat) (Option.some Jvm.ClassFile.FieldType.int)) ∈ lw_all := lw_g (lw_at lw_m6 148 rfl) rfl
theorem q1462 : (Jvm.Cond.instanceMethod ({ cls := "HeldCoats", name := "hooks", desc := "()I" } : Jvm.MethodName)) ∈ lw_all := lw_g (lw_at lw_m6 150 rfl) rfl
theorem q1463 : (Jvm.Cond.selects "HeldCoats" ({ cls := "HeldCoats", name := "hooks", desc := "()I" } : Jvm.MethodName) ({ cls := "HeldCoats", name := "hooks", desc := "()I" } : Jvm.MethodName)) ∈ lw_all := lw_g (lw_at lw_m6 151 rfl) rfl
theorem q1464 : (Jvm.Cond.code ({ cls := "HeldCoats", name := "hooks", desc := "()I" } : Jvm.MethodName) prog_1_method_49_code (10 : Nat) (Option.some Jvm.ClassFile.FieldType.int)) ∈ lw_all := lw_g (lw_at lw_m6 152 rfl) rfl
theorem q1465 : (Jvm.Cond.methodLink "HeldCoats" (323 : Nat) ({ cls := "HeldCoats", name := "onTape", desc := "(I)I" } : Jvm.MethodName)) ∈ lw_all := lw_g (lw_at lw_m6 153 rfl) rfl
theorem q1466 : (Jvm.Cond.privateMethod ({ cls := "HeldCoats", name := "onTape", desc := "(I)I" } : Jvm.MethodName)) ∈ lw_tbl := lw_at lw_m6 154 rfl
theorem q1467 : (Jvm.Cond.instanceMethod ({ cls := "HeldCoats", name := "onTape", desc := "(I)I" } : Jvm.MethodName)) ∈ lw_all := lw_g (lw_at lw_m6 155 rfl) rfl
theorem q1468 : (Jvm.Cond.code ({ cls := "HeldCoats", name := "onTape", desc := "(I)I" } : Jvm.MethodName) prog_1_method_10_code (2 : Nat) (Option.some Jvm.ClassFile.FieldType.int)) ∈ lw_all := lw_g (lw_at lw_m6 156 rfl) rfl
theorem q1469 : (Jvm.Cond.methodLink "HeldCoats" (326 : Nat) ({ cls := "HeldCoats", name := "men", desc := "()I" } : Jvm.MethodName)) ∈ lw_all := lw_g (lw_at lw_m6 157 rfl) rfl
theorem q1470 : (Jvm.Cond.privateMethod ({ cls := "HeldCoats", name := "men", desc := "()I" } : Jvm.MethodName)) ∈ lw_tbl := lw_at lw_m6 158 rfl
theorem q1471 : (Jvm.Cond.instanceMethod ({ cls := "HeldCoats", name := "men", desc := "()I" } : Jvm.MethodName)) ∈ lw_all := lw_g (lw_at lw_m6 159 rfl) rfl
theorem q1472 : (Jvm.Cond.code ({ cls := "HeldCoats", name := "men", desc := "()I" } : Jvm.MethodName) prog_1_method_18_code (1 : Nat) (Option.some Jvm.ClassFile.FieldType.int)) ∈ lw_all := lw_g (lw_at lw_m6 160 rfl) rfl
theorem q1473 : (Jvm.Cond.methodLink "HeldCoats" (328 : Nat) ({ cls := "java/lang/Math", name := "max", desc := "(II)I" } : Jvm.MethodName)) ∈ lw_all := lw_g (lw_at lw_m6 161 rfl) rfl
theorem q1475 : (Jvm.Cond.instanceMethod ({ cls := "HeldCoats", name := "surely", desc := "()I" } : Jvm.MethodName)) ∈ lw_all := lw_g (lw_at lw_m6 163 rfl) rfl
theorem q1476 : (Jvm.Cond.selects "HeldCoats" ({ cls := "HeldCoats", name := "surely", desc := "()I" } : Jvm.MethodName) ({ cls := "HeldCoats", name := "surely", desc := "()I" } : Jvm.MethodName)) ∈ lw_all := lw_g (lw_at lw_m6 164 rfl) rfl
theorem q1477 : (Jvm.Cond.code ({ cls := "HeldCoats", name := "surely", desc := "()I" } : Jvm.MethodName) prog_1_method_50_code (1 : Nat) (Option.some Jvm.ClassFile.FieldType.int)) ∈ lw_all := lw_g (lw_at lw_m6 165 rfl) rfl
theorem q1479 : (Jvm.Cond.instanceMethod ({ cls := "HeldCoats", name := "never", desc := "()I" } : Jvm.MethodName)) ∈ lw_all := lw_g (lw_at lw_m6 167 rfl) rfl
theorem q1480 : (Jvm.Cond.selects "HeldCoats" ({ cls := "HeldCoats", name := "never", desc := "()I" } : Jvm.MethodName) ({ cls := "HeldCoats", name := "never", desc := "()I" } : Jvm.MethodName)) ∈ lw_all := lw_g (lw_at lw_m6 168 rfl) rfl
theorem q1481 : (Jvm.Cond.code ({ cls := "HeldCoats", name := "never", desc := "()I" } : Jvm.MethodName) prog_1_method_51_code (1 : Nat) (Option.some Jvm.ClassFile.FieldType.int)) ∈ lw_all := lw_g (lw_at lw_m6 169 rfl) rfl
theorem q1483 : (Jvm.Cond.instanceMethod ({ cls := "HeldCoats", name := "rounds", desc := "()I" } : Jvm.MethodName)) ∈ lw_all := lw_g (lw_at lw_m6 171 rfl) rfl
theorem q1484 : (Jvm.Cond.selects "HeldCoats" ({ cls := "HeldCoats", name := "rounds", desc := "()I" } : Jvm.MethodName) ({ cls := "HeldCoats", name := "rounds", desc := "()I" } : Jvm.MethodName)) ∈ lw_all := lw_g (lw_at lw_m6 172 rfl) rfl
theorem q1485 : (Jvm.Cond.code ({ cls := "HeldCoats", name := "rounds", desc := "()I" } : Jvm.MethodName) prog_1_method_53_code (4 : Nat) (Option.some Jvm.ClassFile.FieldType.int)) ∈ lw_all := lw_g (lw_at lw_m6 173 rfl) rfl
theorem q1486 : (Jvm.Cond.methodLink "HeldCoats" (331 : Nat) ({ cls := "HeldCoats", name := "cold", desc := "(I)I" } : Jvm.MethodName)) ∈ lw_all := lw_g (lw_at lw_m6 174 rfl) rfl
theorem q1487 : (Jvm.Cond.privateMethod ({ cls := "HeldCoats", name := "cold", desc := "(I)I" } : Jvm.MethodName)) ∈ lw_tbl := lw_at lw_m6 175 rfl
theorem q1488 : (Jvm.Cond.instanceMethod ({ cls := "HeldCoats", name := "cold", desc := "(I)I" } : Jvm.MethodName)) ∈ lw_all := lw_g (lw_at lw_m6 176 rfl) rfl
theorem q1489 : (Jvm.Cond.code ({ cls := "HeldCoats", name := "cold", desc := "(I)I" } : Jvm.MethodName) prog_1_method_52_code (4 : Nat) (Option.some Jvm.ClassFile.FieldType.int)) ∈ lw_all := lw_g (lw_at lw_m6 177 rfl) rfl
theorem q1491 : (Jvm.Cond.instanceMethod ({ cls := "HeldCoats", name := "price", desc := "()I" } : Jvm.MethodName)) ∈ lw_all := lw_g (lw_at lw_m6 179 rfl) rfl
theorem q1492 : (Jvm.Cond.selects "HeldCoats" ({ cls := "HeldCoats", name := "price", desc := "()I" } : Jvm.MethodName) ({ cls := "HeldCoats", name := "price", desc := "()I" } : Jvm.MethodName)) ∈ lw_all := lw_g (lw_at lw_m6 180 rfl) rfl
theorem q1493 : (Jvm.Cond.code ({ cls := "HeldCoats", name := "price", desc := "()I" } : Jvm.MethodName) prog_1_method_54_code (1 : Nat) (Option.some Jvm.ClassFile.FieldType.int)) ∈ lw_all := lw_g (lw_at lw_m6 181 rfl) rfl
theorem q1495 : (Jvm.Cond.instanceMethod ({ cls := "HeldCoats", name := "drawn", desc := "(II)I" } : Jvm.MethodName)) ∈ lw_all := lw_g (lw_at lw_m6 183 rfl) rfl
theorem q1496 : (Jvm.Cond.selects "HeldCoats" ({ cls := "HeldCoats", name := "drawn", desc := "(II)I" } : Jvm.MethodName) ({ cls := "HeldCoats", name := "drawn", desc := "(II)I" } : Jvm.MethodName)) ∈ lw_all := lw_g (lw_at lw_m6 184 rfl) rfl
theorem q1497 : (Jvm.Cond.code ({ cls := "HeldCoats", name := "drawn", desc := "(II)I" } : Jvm.MethodName) prog_1_method_55_code (3 : Nat) (Option.some Jvm.ClassFile.FieldType.int)) ∈ lw_all := lw_g (lw_at lw_m6 185 rfl) rfl
theorem q1498 : (Jvm.Cond.methodLink "HeldCoats" (332 : Nat) ({ cls := "HeldCoats$Reign", name := "drawn", desc := "(II)I" } : Jvm.MethodName)) ∈ lw_all := lw_g (lw_at lw_m6 186 rfl) rfl
theorem q1517 : (Jvm.Cond.instanceMethod ({ cls := "HeldCoats", name := "odds", desc := "(III)I" } : Jvm.MethodName)) ∈ lw_all := lw_g (lw_at lw_m6 205 rfl) rfl
theorem q1518 : (Jvm.Cond.selects "HeldCoats" ({ cls := "HeldCoats", name := "odds", desc := "(III)I" } : Jvm.MethodName) ({ cls := "HeldCoats", name := "odds", desc := "(III)I" } : Jvm.MethodName)) ∈ lw_all := lw_g (lw_at lw_m6 206 rfl) rfl
theorem q1519 : (Jvm.Cond.code ({ cls := "HeldCoats", name := "odds", desc := "(III)I" } : Jvm.MethodName) prog_1_method_56_code (6 : Nat) (Option.some Jvm.ClassFile.FieldType.int)) ∈ lw_all := lw_g (lw_at lw_m6 207 rfl) rfl
theorem q1521 : (Jvm.Cond.instanceMethod ({ cls := "HeldCoats", name := "book", desc := "(I)I" } : Jvm.MethodName)) ∈ lw_all := lw_g (lw_at lw_m6 209 rfl) rfl
theorem q1522 : (Jvm.Cond.selects "HeldCoats" ({ cls := "HeldCoats", name := "book", desc := "(I)I" } : Jvm.MethodName) ({ cls := "HeldCoats", name := "book", desc := "(I)I" } : Jvm.MethodName)) ∈ lw_all := lw_g (lw_at lw_m6 210 rfl) rfl
theorem q1523 : (Jvm.Cond.codeWith ({ cls := "HeldCoats", name := "book", desc := "(I)I" } : Jvm.MethodName) prog_1_method_57_code (4 : Nat) (Option.some Jvm.ClassFile.FieldType.int) [((23 : Nat), (56 : Nat), (57 : Nat), (111 : Nat))]) ∈ lw_all := lw_g (lw_at lw_m6 211 rfl) rfl
theorem q1524 : (Jvm.Cond.classLink "HeldCoats" (335 : Nat) "HeldCoats$BookReader") ∈ lw_all := lw_g (lw_at lw_m6 212 rfl) rfl
theorem q1526 : (Jvm.Cond.methodLink "HeldCoats" (337 : Nat) ({ cls := "HeldCoats$BookReader", name := "<init>", desc := "([BILHeldCoats$Capital;)V" } : Jvm.MethodName)) ∈ lw_all := lw_g (lw_at lw_m6 214 rfl) rfl
theorem q1548 : (Jvm.Cond.methodLink "HeldCoats" (340 : Nat) ({ cls := "HeldCoats$BookReader", name := "read", desc := "()Ljava/util/ArrayList;" } : Jvm.MethodName)) ∈ lw_all := lw_g (lw_at lw_m6 236 rfl) rfl
theorem q1613 : (Jvm.Cond.methodLink "HeldCoats" (343 : Nat) ({ cls := "HeldCoats", name := "lived", desc := "(Ljava/util/ArrayList;Z)I" } : Jvm.MethodName)) ∈ lw_all := lw_g (lw_at lw_m7 61 rfl) rfl
theorem q1614 : (Jvm.Cond.privateMethod ({ cls := "HeldCoats", name := "lived", desc := "(Ljava/util/ArrayList;Z)I" } : Jvm.MethodName)) ∈ lw_tbl := lw_at lw_m7 62 rfl
theorem q1615 : (Jvm.Cond.instanceMethod ({ cls := "HeldCoats", name := "lived", desc := "(Ljava/util/ArrayList;Z)I" } : Jvm.MethodName)) ∈ lw_all := lw_g (lw_at lw_m7 63 rfl) rfl
theorem q1616 : (Jvm.Cond.code ({ cls := "HeldCoats", name := "lived", desc := "(Ljava/util/ArrayList;Z)I" } : Jvm.MethodName) prog_1_method_58_code (5 : Nat) (Option.some Jvm.ClassFile.FieldType.int)) ∈ lw_all := lw_g (lw_at lw_m7 64 rfl) rfl
theorem q1617 : (Jvm.Cond.classLink "HeldCoats" (237 : Nat) "HeldCoats$Act") ∈ lw_all := lw_g (lw_at lw_m7 65 rfl) rfl
theorem q1619 : (Jvm.Cond.instanceMethod ({ cls := "HeldCoats", name := "told", desc := "(I)I" } : Jvm.MethodName)) ∈ lw_all := lw_g (lw_at lw_m7 67 rfl) rfl
theorem q1620 : (Jvm.Cond.selects "HeldCoats" ({ cls := "HeldCoats", name := "told", desc := "(I)I" } : Jvm.MethodName) ({ cls := "HeldCoats", name := "told", desc := "(I)I" } : Jvm.MethodName)) ∈ lw_all := lw_g (lw_at lw_m7 68 rfl) rfl
theorem q1621 : (Jvm.Cond.code ({ cls := "HeldCoats", name := "told", desc := "(I)I" } : Jvm.MethodName) prog_1_method_59_code (2 : Nat) (Option.some Jvm.ClassFile.FieldType.int)) ∈ lw_all := lw_g (lw_at lw_m7 69 rfl) rfl
theorem q1623 : (Jvm.Cond.instanceMethod ({ cls := "HeldCoats", name := "sentence", desc := "()I" } : Jvm.MethodName)) ∈ lw_all := lw_g (lw_at lw_m7 71 rfl) rfl
theorem q1624 : (Jvm.Cond.selects "HeldCoats" ({ cls := "HeldCoats", name := "sentence", desc := "()I" } : Jvm.MethodName) ({ cls := "HeldCoats", name := "sentence", desc := "()I" } : Jvm.MethodName)) ∈ lw_all := lw_g (lw_at lw_m7 72 rfl) rfl
theorem q1625 : (Jvm.Cond.codeWith ({ cls := "HeldCoats", name := "sentence", desc := "()I" } : Jvm.MethodName) prog_1_method_60_code (3 : Nat) (Option.some Jvm.ClassFile.FieldType.int) [((10 : Nat), (39 : Nat), (40 : Nat), (111 : Nat))]) ∈ lw_all := lw_g (lw_at lw_m7 73 rfl) rfl
theorem q1626 : (Jvm.Cond.classLink "HeldCoats" (347 : Nat) "HeldCoats$SentenceReader") ∈ lw_all := lw_g (lw_at lw_m7 74 rfl) rfl
theorem q1628 : (Jvm.Cond.methodLink "HeldCoats" (349 : Nat) ({ cls := "HeldCoats$SentenceReader", name := "<init>", desc := "([BILHeldCoats$Capital;)V" } : Jvm.MethodName)) ∈ lw_all := lw_g (lw_at lw_m7 76 rfl) rfl
theorem q1634 : (Jvm.Cond.fieldLinkNest "HeldCoats" (353 : Nat) "HeldCoats$SentenceReader" "ones" "I" "HeldCoats") ∈ lw_tbl := lw_at lw_m7 82 rfl
theorem q1652 : (Jvm.Cond.methodLink "HeldCoats" (350 : Nat) ({ cls := "HeldCoats$SentenceReader", name := "read", desc := "()LHeldCoats$Cond;" } : Jvm.MethodName)) ∈ lw_all := lw_g (lw_at lw_m7 100 rfl) rfl
theorem q1775 : (Jvm.Cond.instanceMethod ({ cls := "HeldCoats", name := "said", desc := "(I)I" } : Jvm.MethodName)) ∈ lw_all := lw_g (lw_at lw_m7 223 rfl) rfl
theorem q1776 : (Jvm.Cond.selects "HeldCoats" ({ cls := "HeldCoats", name := "said", desc := "(I)I" } : Jvm.MethodName) ({ cls := "HeldCoats", name := "said", desc := "(I)I" } : Jvm.MethodName)) ∈ lw_all := lw_g (lw_at lw_m7 224 rfl) rfl
theorem q1777 : (Jvm.Cond.code ({ cls := "HeldCoats", name := "said", desc := "(I)I" } : Jvm.MethodName) prog_1_method_61_code (4 : Nat) (Option.some Jvm.ClassFile.FieldType.int)) ∈ lw_all := lw_g (lw_at lw_m7 225 rfl) rfl
theorem q1778 : (Jvm.Cond.methodLink "HeldCoats" (356 : Nat) ({ cls := "HeldCoats$Cond", name := "holds", desc := "(LHeldCoats$Reign;I)Z" } : Jvm.MethodName)) ∈ lw_all := lw_g (lw_at lw_m7 226 rfl) rfl
theorem q1807 : (Jvm.Cond.instanceMethod ({ cls := "HeldCoats", name := "image", desc := "(I)Z" } : Jvm.MethodName)) ∈ lw_all := lw_g (lw_at lw_m8 15 rfl) rfl
theorem q1808 : (Jvm.Cond.selects "HeldCoats" ({ cls := "HeldCoats", name := "image", desc := "(I)Z" } : Jvm.MethodName) ({ cls := "HeldCoats", name := "image", desc := "(I)Z" } : Jvm.MethodName)) ∈ lw_all := lw_g (lw_at lw_m8 16 rfl) rfl
theorem q1809 : (Jvm.Cond.code ({ cls := "HeldCoats", name := "image", desc := "(I)Z" } : Jvm.MethodName) prog_1_method_62_code (2 : Nat) (Option.some Jvm.ClassFile.FieldType.boolean)) ∈ lw_all := lw_g (lw_at lw_m8 17 rfl) rfl
theorem q1811 : (Jvm.Cond.instanceMethod ({ cls := "HeldCoats", name := "restore", desc := "(I)Z" } : Jvm.MethodName)) ∈ lw_all := lw_g (lw_at lw_m8 19 rfl) rfl
theorem q1812 : (Jvm.Cond.selects "HeldCoats" ({ cls := "HeldCoats", name := "restore", desc := "(I)Z" } : Jvm.MethodName) ({ cls := "HeldCoats", name := "restore", desc := "(I)Z" } : Jvm.MethodName)) ∈ lw_all := lw_g (lw_at lw_m8 20 rfl) rfl
theorem q1813 : (Jvm.Cond.code ({ cls := "HeldCoats", name := "restore", desc := "(I)Z" } : Jvm.MethodName) prog_1_method_63_code (2 : Nat) (Option.some Jvm.ClassFile.FieldType.boolean)) ∈ lw_all := lw_g (lw_at lw_m8 21 rfl) rfl
theorem q1815 : (Jvm.Cond.instanceMethod ({ cls := "HeldCoats", name := "count", desc := "(I)I" } : Jvm.MethodName)) ∈ lw_all := lw_g (lw_at lw_m8 23 rfl) rfl
theorem q1816 : (Jvm.Cond.selects "HeldCoats" ({ cls := "HeldCoats", name := "count", desc := "(I)I" } : Jvm.MethodName) ({ cls := "HeldCoats", name := "count", desc := "(I)I" } : Jvm.MethodName)) ∈ lw_all := lw_g (lw_at lw_m8 24 rfl) rfl
theorem q1817 : (Jvm.Cond.code ({ cls := "HeldCoats", name := "count", desc := "(I)I" } : Jvm.MethodName) prog_1_method_64_code (2 : Nat) (Option.some Jvm.ClassFile.FieldType.int)) ∈ lw_all := lw_g (lw_at lw_m8 25 rfl) rfl
theorem q1823 : (Jvm.Cond.instanceMethod ({ cls := "HeldCoats", name := "man", desc := "(II)I" } : Jvm.MethodName)) ∈ lw_all := lw_g (lw_at lw_m8 31 rfl) rfl
theorem q1824 : (Jvm.Cond.selects "HeldCoats" ({ cls := "HeldCoats", name := "man", desc := "(II)I" } : Jvm.MethodName) ({ cls := "HeldCoats", name := "man", desc := "(II)I" } : Jvm.MethodName)) ∈ lw_all := lw_g (lw_at lw_m8 32 rfl) rfl
theorem q1825 : (Jvm.Cond.code ({ cls := "HeldCoats", name := "man", desc := "(II)I" } : Jvm.MethodName) prog_1_method_21_code (3 : Nat) (Option.some Jvm.ClassFile.FieldType.int)) ∈ lw_all := lw_g (lw_at lw_m8 33 rfl) rfl
theorem q1826 : (Jvm.Cond.methodLink "HeldCoats" (166 : Nat) ({ cls := "HeldCoats", name := "need", desc := "(Z)V" } : Jvm.MethodName)) ∈ lw_all := lw_g (lw_at lw_m8 34 rfl) rfl
theorem q1827 : (Jvm.Cond.static ({ cls := "HeldCoats", name := "need", desc := "(Z)V" } : Jvm.MethodName)) ∈ lw_all := lw_g (lw_at lw_m8 35 rfl) rfl
theorem q1828 : (Jvm.Cond.code ({ cls := "HeldCoats", name := "need", desc := "(Z)V" } : Jvm.MethodName) prog_1_method_3_code (1 : Nat) (Option.none : Option Jvm.ClassFile.FieldType)) ∈ lw_all := lw_g (lw_at lw_m8 36 rfl) rfl
theorem q1829 : (Jvm.Cond.classLink "HeldCoats" (1 : Nat) "java/util/NoSuchElementException") ∈ lw_all := lw_g (lw_at lw_m8 37 rfl) rfl
theorem q1840 : (Jvm.Cond.methodLink "HeldCoats" (3 : Nat) ({ cls := "java/util/NoSuchElementException", name := "<init>", desc := "()V" } : Jvm.MethodName)) ∈ lw_all := lw_g (lw_at lw_m8 48 rfl) rfl
theorem q1852 : (Jvm.Cond.methodLink "HeldCoats" (180 : Nat) ({ cls := "HeldCoats$Reign", name := "heldBy", desc := "(I)I" } : Jvm.MethodName)) ∈ lw_all := lw_g (lw_at lw_m8 60 rfl) rfl
theorem q1856 : (Jvm.Cond.methodLink "HeldCoats" (183 : Nat) ({ cls := "HeldCoats$Reign", name := "worth", desc := "(I)I" } : Jvm.MethodName)) ∈ lw_all := lw_g (lw_at lw_m8 64 rfl) rfl
theorem q1864 : (Jvm.Cond.instanceMethod ({ cls := "HeldCoats", name := "coat", desc := "(II)I" } : Jvm.MethodName)) ∈ lw_all := lw_g (lw_at lw_m8 72 rfl) rfl
theorem q1865 : (Jvm.Cond.selects "HeldCoats" ({ cls := "HeldCoats", name := "coat", desc := "(II)I" } : Jvm.MethodName) ({ cls := "HeldCoats", name := "coat", desc := "(II)I" } : Jvm.MethodName)) ∈ lw_all := lw_g (lw_at lw_m8 73 rfl) rfl
theorem q1866 : (Jvm.Cond.code ({ cls := "HeldCoats", name := "coat", desc := "(II)I" } : Jvm.MethodName) prog_1_method_22_code (3 : Nat) (Option.some Jvm.ClassFile.FieldType.int)) ∈ lw_all := lw_g (lw_at lw_m8 74 rfl) rfl
theorem q1867 : (Jvm.Cond.classLink "HeldCoats" (196 : Nat) "HeldCoats$Coat") ∈ lw_all := lw_g (lw_at lw_m8 75 rfl) rfl
theorem q2543 : (Jvm.Cond.castable "HeldCoats" "java/lang/Object") ∈ lw_tbl := lw_at lw_m11 31 rfl
theorem q138 : (Jvm.Cond.initialized "HeldCoats$Told") ∈ lw_all := lw_g (lw_at lw_m1 26 rfl) rfl
theorem q913 : (Jvm.Cond.instantiable "HeldCoats$Told" (2 : Nat)) ∈ lw_all := lw_g (lw_at lw_m4 81 rfl) rfl
theorem q933 : (Jvm.Cond.instanceMethod ({ cls := "HeldCoats$Told", name := "<init>", desc := "(Ljava/lang/String;I)V" } : Jvm.MethodName)) ∈ lw_all := lw_g (lw_at lw_m4 101 rfl) rfl
theorem q934 : (Jvm.Cond.code ({ cls := "HeldCoats$Told", name := "<init>", desc := "(Ljava/lang/String;I)V" } : Jvm.MethodName) prog_23_method_1_code (3 : Nat) (Option.none : Option Jvm.ClassFile.FieldType)) ∈ lw_all := lw_g (lw_at lw_m4 102 rfl) rfl
theorem q935 : (Jvm.Cond.methodLink "HeldCoats$Told" (1 : Nat) ({ cls := "HeldCoats$Named", name := "<init>", desc := "(Ljava/lang/String;)V" } : Jvm.MethodName)) ∈ lw_all := lw_g (lw_at lw_m4 103 rfl) rfl
theorem q939 : (Jvm.Cond.fieldLink "HeldCoats$Told" (7 : Nat) "HeldCoats$Told" "number" "I") ∈ lw_all := lw_g (lw_at lw_m4 107 rfl) rfl
theorem q945 : (Jvm.Cond.laysFinal "HeldCoats$Told" "HeldCoats$Told" "number" "I") ∈ lw_all := lw_g (lw_at lw_m4 113 rfl) rfl
theorem q946 : (Jvm.Cond.soleField "HeldCoats$Told" "number") ∈ lw_all := lw_g (lw_at lw_m4 114 rfl) rfl
theorem q947 : (Jvm.Cond.laysFinal "HeldCoats$Told" "HeldCoats$Named" "name" "Ljava/lang/String;") ∈ lw_all := lw_g (lw_at lw_m4 115 rfl) rfl
theorem q949 : (Jvm.Cond.superclass "HeldCoats$Told" "HeldCoats$Named") ∈ lw_all := lw_g (lw_at lw_m4 117 rfl) rfl
theorem q990 : (Jvm.Cond.selects "HeldCoats$Told" ({ cls := "java/lang/Object", name := "getClass", desc := "()Ljava/lang/Class;" } : Jvm.MethodName) ({ cls := "java/lang/Object", name := "getClass", desc := "()Ljava/lang/Class;" } : Jvm.MethodName)) ∈ lw_all := lw_g (lw_at lw_m4 158 rfl) rfl
theorem q2535 : (Jvm.Cond.castable "HeldCoats$Told" "HeldCoats$Named") ∈ lw_tbl := lw_at lw_m11 23 rfl
theorem q2551 : (Jvm.Cond.castable "HeldCoats$Told" "java/lang/Object") ∈ lw_tbl := lw_at lw_m11 39 rfl
theorem q139 : (Jvm.Cond.initialized "HeldCoats$Coat") ∈ lw_all := lw_g (lw_at lw_m1 27 rfl) rfl
theorem q977 : (Jvm.Cond.selects "HeldCoats$Coat" ({ cls := "java/lang/Object", name := "getClass", desc := "()Ljava/lang/Class;" } : Jvm.MethodName) ({ cls := "java/lang/Object", name := "getClass", desc := "()Ljava/lang/Class;" } : Jvm.MethodName)) ∈ lw_all := lw_g (lw_at lw_m4 145 rfl) rfl
theorem q1022 : (Jvm.Cond.instantiable "HeldCoats$Coat" (4 : Nat)) ∈ lw_all := lw_g (lw_at lw_m4 190 rfl) rfl
theorem q1024 : (Jvm.Cond.instanceMethod ({ cls := "HeldCoats$Coat", name := "<init>", desc := "(Ljava/lang/String;III)V" } : Jvm.MethodName)) ∈ lw_all := lw_g (lw_at lw_m4 192 rfl) rfl
theorem q1025 : (Jvm.Cond.code ({ cls := "HeldCoats$Coat", name := "<init>", desc := "(Ljava/lang/String;III)V" } : Jvm.MethodName) prog_6_method_1_code (5 : Nat) (Option.none : Option Jvm.ClassFile.FieldType)) ∈ lw_all := lw_g (lw_at lw_m4 193 rfl) rfl
theorem q1026 : (Jvm.Cond.methodLink "HeldCoats$Coat" (1 : Nat) ({ cls := "HeldCoats$Named", name := "<init>", desc := "(Ljava/lang/String;)V" } : Jvm.MethodName)) ∈ lw_all := lw_g (lw_at lw_m4 194 rfl) rfl
theorem q1027 : (Jvm.Cond.fieldLink "HeldCoats$Coat" (7 : Nat) "HeldCoats$Coat" "man" "I") ∈ lw_all := lw_g (lw_at lw_m4 195 rfl) rfl
theorem q1031 : (Jvm.Cond.fieldLink "HeldCoats$Coat" (13 : Nat) "HeldCoats$Coat" "warmth" "I") ∈ lw_all := lw_g (lw_at lw_m4 199 rfl) rfl
theorem q1034 : (Jvm.Cond.fieldLink "HeldCoats$Coat" (16 : Nat) "HeldCoats$Coat" "cloth" "I") ∈ lw_all := lw_g (lw_at lw_m4 202 rfl) rfl
theorem q1036 : (Jvm.Cond.laysFinal "HeldCoats$Coat" "HeldCoats$Coat" "man" "I") ∈ lw_all := lw_g (lw_at lw_m4 204 rfl) rfl
theorem q1037 : (Jvm.Cond.soleField "HeldCoats$Coat" "man") ∈ lw_all := lw_g (lw_at lw_m4 205 rfl) rfl
theorem q1038 : (Jvm.Cond.laysFinal "HeldCoats$Coat" "HeldCoats$Coat" "warmth" "I") ∈ lw_all := lw_g (lw_at lw_m4 206 rfl) rfl
theorem q1039 : (Jvm.Cond.soleField "HeldCoats$Coat" "warmth") ∈ lw_all := lw_g (lw_at lw_m4 207 rfl) rfl
theorem q1040 : (Jvm.Cond.laysFinal "HeldCoats$Coat" "HeldCoats$Coat" "cloth" "I") ∈ lw_all := lw_g (lw_at lw_m4 208 rfl) rfl
theorem q1041 : (Jvm.Cond.soleField "HeldCoats$Coat" "cloth") ∈ lw_all := lw_g (lw_at lw_m4 209 rfl) rfl
theorem q1042 : (Jvm.Cond.laysFinal "HeldCoats$Coat" "HeldCoats$Named" "name" "Ljava/lang/String;") ∈ lw_all := lw_g (lw_at lw_m4 210 rfl) rfl
theorem q1043 : (Jvm.Cond.superclass "HeldCoats$Coat" "HeldCoats$Named") ∈ lw_all := lw_g (lw_at lw_m4 211 rfl) rfl
theorem q2534 : (Jvm.Cond.castable "HeldCoats$Coat" "HeldCoats$Named") ∈ lw_tbl := lw_at lw_m11 22 rfl
theorem q2552 : (Jvm.Cond.castable "HeldCoats$Coat" "java/lang/Object") ∈ lw_tbl := lw_at lw_m11 40 rfl
theorem q142 : (Jvm.Cond.initialized "HeldCoats$Act") ∈ lw_all := lw_g (lw_at lw_m1 30 rfl) rfl
theorem q1162 : (Jvm.Cond.instanceMethod ({ cls := "HeldCoats$Act", name := "<init>", desc := "()V" } : Jvm.MethodName)) ∈ lw_all := lw_g (lw_at lw_m5 90 rfl) rfl
theorem q1163 : (Jvm.Cond.code ({ cls := "HeldCoats$Act", name := "<init>", desc := "()V" } : Jvm.MethodName) prog_2_method_1_code (1 : Nat) (Option.none : Option Jvm.ClassFile.FieldType)) ∈ lw_all := lw_g (lw_at lw_m5 91 rfl) rfl
theorem q1164 : (Jvm.Cond.methodLink "HeldCoats$Act" (1 : Nat) ({ cls := "java/lang/Object", name := "<init>", desc := "()V" } : Jvm.MethodName)) ∈ lw_all := lw_g (lw_at lw_m5 92 rfl) rfl
theorem q1199 : (Jvm.Cond.declares ({ cls := "HeldCoats$Act", name := "does", desc := "(LHeldCoats$Reign;)I" } : Jvm.MethodName)) ∈ lw_tbl := lw_at lw_m5 127 rfl
theorem q1200 : (Jvm.Cond.sameMethod "HeldCoats$Act" "HeldCoats$Act" "does" "(LHeldCoats$Reign;)I") ∈ lw_all := lw_g (lw_at lw_m5 128 rfl) rfl
theorem q1257 : (Jvm.Cond.static ({ cls := "HeldCoats$Act", name := "told", desc := "(II)I" } : Jvm.MethodName)) ∈ lw_all := lw_g (lw_at lw_m5 185 rfl) rfl
theorem q1258 : (Jvm.Cond.code ({ cls := "HeldCoats$Act", name := "told", desc := "(II)I" } : Jvm.MethodName) prog_2_method_3_code (2 : Nat) (Option.some Jvm.ClassFile.FieldType.int)) ∈ lw_all := lw_g (lw_at lw_m5 186 rfl) rfl
theorem q143 : (Jvm.Cond.initialized "HeldCoats$OfCoat") ∈ lw_all := lw_g (lw_at lw_m1 31 rfl) rfl
theorem q1159 : (Jvm.Cond.instanceMethod ({ cls := "HeldCoats$OfCoat", name := "<init>", desc := "(I)V" } : Jvm.MethodName)) ∈ lw_all := lw_g (lw_at lw_m5 87 rfl) rfl
theorem q1160 : (Jvm.Cond.code ({ cls := "HeldCoats$OfCoat", name := "<init>", desc := "(I)V" } : Jvm.MethodName) prog_17_method_1_code (2 : Nat) (Option.none : Option Jvm.ClassFile.FieldType)) ∈ lw_all := lw_g (lw_at lw_m5 88 rfl) rfl
theorem q1161 : (Jvm.Cond.methodLinkNest "HeldCoats$OfCoat" (1 : Nat) ({ cls := "HeldCoats$Act", name := "<init>", desc := "()V" } : Jvm.MethodName) "HeldCoats") ∈ lw_tbl := lw_at lw_m5 89 rfl
theorem q1172 : (Jvm.Cond.fieldLink "HeldCoats$OfCoat" (7 : Nat) "HeldCoats$OfCoat" "coat" "I") ∈ lw_all := lw_g (lw_at lw_m5 100 rfl) rfl
theorem q1184 : (Jvm.Cond.soleField "HeldCoats$OfCoat" "coat") ∈ lw_all := lw_g (lw_at lw_m5 112 rfl) rfl
theorem q144 : (Jvm.Cond.initialized "HeldCoats$With") ∈ lw_all := lw_g (lw_at lw_m1 32 rfl) rfl
theorem q1156 : (Jvm.Cond.instanceMethod ({ cls := "HeldCoats$With", name := "<init>", desc := "(II)V" } : Jvm.MethodName)) ∈ lw_all := lw_g (lw_at lw_m5 84 rfl) rfl
theorem q1157 : (Jvm.Cond.code ({ cls := "HeldCoats$With", name := "<init>", desc := "(II)V" } : Jvm.MethodName) prog_26_method_1_code (3 : Nat) (Option.none : Option Jvm.ClassFile.FieldType)) ∈ lw_all := lw_g (lw_at lw_m5 85 rfl) rfl
theorem q1158 : (Jvm.Cond.methodLink "HeldCoats$With" (1 : Nat) ({ cls := "HeldCoats$OfCoat", name := "<init>", desc := "(I)V" } : Jvm.MethodName)) ∈ lw_all := lw_g (lw_at lw_m5 86 rfl) rfl
theorem q1165 : (Jvm.Cond.fieldLink "HeldCoats$With" (7 : Nat) "HeldCoats$With" "other" "I") ∈ lw_all := lw_g (lw_at lw_m5 93 rfl) rfl
theorem q1182 : (Jvm.Cond.soleField "HeldCoats$With" "other") ∈ lw_all := lw_g (lw_at lw_m5 110 rfl) rfl
theorem q145 : (Jvm.Cond.initialized "HeldCoats$Lies") ∈ lw_all := lw_g (lw_at lw_m1 33 rfl) rfl
theorem q983 : (Jvm.Cond.selects "HeldCoats$Lies" ({ cls := "java/lang/Object", name := "getClass", desc := "()Ljava/lang/Class;" } : Jvm.MethodName) ({ cls := "java/lang/Object", name := "getClass", desc := "()Ljava/lang/Class;" } : Jvm.MethodName)) ∈ lw_all := lw_g (lw_at lw_m4 151 rfl) rfl
theorem q1151 : (Jvm.Cond.instantiable "HeldCoats$Lies" (2 : Nat)) ∈ lw_all := lw_g (lw_at lw_m5 79 rfl) rfl
theorem q1153 : (Jvm.Cond.instanceMethod ({ cls := "HeldCoats$Lies", name := "<init>", desc := "(II)V" } : Jvm.MethodName)) ∈ lw_all := lw_g (lw_at lw_m5 81 rfl) rfl
theorem q1154 : (Jvm.Cond.code ({ cls := "HeldCoats$Lies", name := "<init>", desc := "(II)V" } : Jvm.MethodName) prog_13_method_1_code (3 : Nat) (Option.none : Option Jvm.ClassFile.FieldType)) ∈ lw_all := lw_g (lw_at lw_m5 82 rfl) rfl
theorem q1155 : (Jvm.Cond.methodLink "HeldCoats$Lies" (1 : Nat) ({ cls := "HeldCoats$With", name := "<init>", desc := "(II)V" } : Jvm.MethodName)) ∈ lw_all := lw_g (lw_at lw_m5 83 rfl) rfl
theorem q1168 : (Jvm.Cond.fieldLink "HeldCoats$Lies" (13 : Nat) "HeldCoats$Lies" "other" "I") ∈ lw_all := lw_g (lw_at lw_m5 96 rfl) rfl
theorem q1169 : (Jvm.Cond.sameField "HeldCoats$Lies" "HeldCoats$With" "other" "I") ∈ lw_all := lw_g (lw_at lw_m5 97 rfl) rfl
theorem q1175 : (Jvm.Cond.fieldLink "HeldCoats$Lies" (7 : Nat) "HeldCoats$Lies" "coat" "I") ∈ lw_all := lw_g (lw_at lw_m5 103 rfl) rfl
theorem q1176 : (Jvm.Cond.sameField "HeldCoats$Lies" "HeldCoats$OfCoat" "coat" "I") ∈ lw_all := lw_g (lw_at lw_m5 104 rfl) rfl
theorem q1181 : (Jvm.Cond.laysFinal "HeldCoats$Lies" "HeldCoats$With" "other" "I") ∈ lw_all := lw_g (lw_at lw_m5 109 rfl) rfl
theorem q1183 : (Jvm.Cond.laysFinal "HeldCoats$Lies" "HeldCoats$OfCoat" "coat" "I") ∈ lw_all := lw_g (lw_at lw_m5 111 rfl) rfl
theorem q1185 : (Jvm.Cond.superclass "HeldCoats$Lies" "HeldCoats$With") ∈ lw_all := lw_g (lw_at lw_m5 113 rfl) rfl
theorem q1259 : (Jvm.Cond.selects "HeldCoats$Lies" ({ cls := "HeldCoats$Act", name := "does", desc := "(LHeldCoats$Reign;)I" } : Jvm.MethodName) ({ cls := "HeldCoats$Lies", name := "does", desc := "(LHeldCoats$Reign;)I" } : Jvm.MethodName)) ∈ lw_all := lw_g (lw_at lw_m5 187 rfl) rfl
theorem q1260 : (Jvm.Cond.instanceMethod ({ cls := "HeldCoats$Lies", name := "does", desc := "(LHeldCoats$Reign;)I" } : Jvm.MethodName)) ∈ lw_all := lw_g (lw_at lw_m5 188 rfl) rfl
theorem q1261 : (Jvm.Cond.code ({ cls := "HeldCoats$Lies", name := "does", desc := "(LHeldCoats$Reign;)I" } : Jvm.MethodName) prog_13_method_2_code (3 : Nat) (Option.some Jvm.ClassFile.FieldType.int)) ∈ lw_all := lw_g (lw_at lw_m5 189 rfl) rfl
theorem q1262 : (Jvm.Cond.methodLink "HeldCoats$Lies" (16 : Nat) ({ cls := "HeldCoats$Reign", name := "whyLay", desc := "(II)I" } : Jvm.MethodName)) ∈ lw_all := lw_g (lw_at lw_m5 190 rfl) rfl
theorem q1270 : (Jvm.Cond.methodLink "HeldCoats$Lies" (22 : Nat) ({ cls := "HeldCoats$Reign", name := "lay", desc := "(II)V" } : Jvm.MethodName)) ∈ lw_all := lw_g (lw_at lw_m5 198 rfl) rfl
theorem q2538 : (Jvm.Cond.castable "HeldCoats$Lies" "HeldCoats$Act") ∈ lw_tbl := lw_at lw_m11 26 rfl
theorem q2554 : (Jvm.Cond.castable "HeldCoats$Lies" "java/lang/Object") ∈ lw_tbl := lw_at lw_m11 42 rfl
theorem q146 : (Jvm.Cond.initialized "HeldCoats$Lent") ∈ lw_all := lw_g (lw_at lw_m1 34 rfl) rfl
theorem q289 : (Jvm.Cond.fieldLinkNest "HeldCoats$Lent" (22 : Nat) "HeldCoats$Reign" "user" "[I" "HeldCoats") ∈ lw_tbl := lw_at lw_m1 177 rfl
theorem q982 : (Jvm.Cond.selects "HeldCoats$Lent" ({ cls := "java/lang/Object", name := "getClass", desc := "()Ljava/lang/Class;" } : Jvm.MethodName) ({ cls := "java/lang/Object", name := "getClass", desc := "()Ljava/lang/Class;" } : Jvm.MethodName)) ∈ lw_all := lw_g (lw_at lw_m4 150 rfl) rfl
theorem q1166 : (Jvm.Cond.fieldLink "HeldCoats$Lent" (13 : Nat) "HeldCoats$Lent" "other" "I") ∈ lw_all := lw_g (lw_at lw_m5 94 rfl) rfl
theorem q1167 : (Jvm.Cond.sameField "HeldCoats$Lent" "HeldCoats$With" "other" "I") ∈ lw_all := lw_g (lw_at lw_m5 95 rfl) rfl
theorem q1173 : (Jvm.Cond.fieldLink "HeldCoats$Lent" (7 : Nat) "HeldCoats$Lent" "coat" "I") ∈ lw_all := lw_g (lw_at lw_m5 101 rfl) rfl
theorem q1174 : (Jvm.Cond.sameField "HeldCoats$Lent" "HeldCoats$OfCoat" "coat" "I") ∈ lw_all := lw_g (lw_at lw_m5 102 rfl) rfl
theorem q1248 : (Jvm.Cond.selects "HeldCoats$Lent" ({ cls := "HeldCoats$Act", name := "does", desc := "(LHeldCoats$Reign;)I" } : Jvm.MethodName) ({ cls := "HeldCoats$Lent", name := "does", desc := "(LHeldCoats$Reign;)I" } : Jvm.MethodName)) ∈ lw_all := lw_g (lw_at lw_m5 176 rfl) rfl
theorem q1249 : (Jvm.Cond.instanceMethod ({ cls := "HeldCoats$Lent", name := "does", desc := "(LHeldCoats$Reign;)I" } : Jvm.MethodName)) ∈ lw_all := lw_g (lw_at lw_m5 177 rfl) rfl
theorem q1250 : (Jvm.Cond.code ({ cls := "HeldCoats$Lent", name := "does", desc := "(LHeldCoats$Reign;)I" } : Jvm.MethodName) prog_12_method_2_code (3 : Nat) (Option.some Jvm.ClassFile.FieldType.int)) ∈ lw_all := lw_g (lw_at lw_m5 178 rfl) rfl
theorem q1251 : (Jvm.Cond.methodLink "HeldCoats$Lent" (16 : Nat) ({ cls := "HeldCoats$Reign", name := "whyLend", desc := "(II)I" } : Jvm.MethodName)) ∈ lw_all := lw_g (lw_at lw_m5 179 rfl) rfl
theorem q1255 : (Jvm.Cond.methodLink "HeldCoats$Lent" (26 : Nat) ({ cls := "HeldCoats$Lent", name := "told", desc := "(II)I" } : Jvm.MethodName)) ∈ lw_all := lw_g (lw_at lw_m5 183 rfl) rfl
theorem q1256 : (Jvm.Cond.sameMethod "HeldCoats$Lent" "HeldCoats$Act" "told" "(II)I") ∈ lw_all := lw_g (lw_at lw_m5 184 rfl) rfl
theorem q1331 : (Jvm.Cond.instantiable "HeldCoats$Lent" (2 : Nat)) ∈ lw_all := lw_g (lw_at lw_m6 19 rfl) rfl
theorem q1333 : (Jvm.Cond.instanceMethod ({ cls := "HeldCoats$Lent", name := "<init>", desc := "(II)V" } : Jvm.MethodName)) ∈ lw_all := lw_g (lw_at lw_m6 21 rfl) rfl
theorem q1334 : (Jvm.Cond.code ({ cls := "HeldCoats$Lent", name := "<init>", desc := "(II)V" } : Jvm.MethodName) prog_12_method_1_code (3 : Nat) (Option.none : Option Jvm.ClassFile.FieldType)) ∈ lw_all := lw_g (lw_at lw_m6 22 rfl) rfl
theorem q1335 : (Jvm.Cond.methodLink "HeldCoats$Lent" (1 : Nat) ({ cls := "HeldCoats$With", name := "<init>", desc := "(II)V" } : Jvm.MethodName)) ∈ lw_all := lw_g (lw_at lw_m6 23 rfl) rfl
theorem q1336 : (Jvm.Cond.laysFinal "HeldCoats$Lent" "HeldCoats$With" "other" "I") ∈ lw_all := lw_g (lw_at lw_m6 24 rfl) rfl
theorem q1337 : (Jvm.Cond.laysFinal "HeldCoats$Lent" "HeldCoats$OfCoat" "coat" "I") ∈ lw_all := lw_g (lw_at lw_m6 25 rfl) rfl
theorem q1338 : (Jvm.Cond.superclass "HeldCoats$Lent" "HeldCoats$With") ∈ lw_all := lw_g (lw_at lw_m6 26 rfl) rfl
theorem q2537 : (Jvm.Cond.castable "HeldCoats$Lent" "HeldCoats$Act") ∈ lw_tbl := lw_at lw_m11 25 rfl
theorem q2556 : (Jvm.Cond.castable "HeldCoats$Lent" "java/lang/Object") ∈ lw_tbl := lw_at lw_m11 44 rfl
theorem q147 : (Jvm.Cond.initialized "HeldCoats$Stored") ∈ lw_all := lw_g (lw_at lw_m1 35 rfl) rfl
theorem q988 : (Jvm.Cond.selects "HeldCoats$Stored" ({ cls := "java/lang/Object", name := "getClass", desc := "()Ljava/lang/Class;" } : Jvm.MethodName) ({ cls := "java/lang/Object", name := "getClass", desc := "()Ljava/lang/Class;" } : Jvm.MethodName)) ∈ lw_all := lw_g (lw_at lw_m4 156 rfl) rfl
theorem q1177 : (Jvm.Cond.fieldLink "HeldCoats$Stored" (7 : Nat) "HeldCoats$Stored" "coat" "I") ∈ lw_all := lw_g (lw_at lw_m5 105 rfl) rfl
theorem q1178 : (Jvm.Cond.sameField "HeldCoats$Stored" "HeldCoats$OfCoat" "coat" "I") ∈ lw_all := lw_g (lw_at lw_m5 106 rfl) rfl
theorem q1274 : (Jvm.Cond.selects "HeldCoats$Stored" ({ cls := "HeldCoats$Act", name := "does", desc := "(LHeldCoats$Reign;)I" } : Jvm.MethodName) ({ cls := "HeldCoats$Stored", name := "does", desc := "(LHeldCoats$Reign;)I" } : Jvm.MethodName)) ∈ lw_all := lw_g (lw_at lw_m5 202 rfl) rfl
theorem q1275 : (Jvm.Cond.instanceMethod ({ cls := "HeldCoats$Stored", name := "does", desc := "(LHeldCoats$Reign;)I" } : Jvm.MethodName)) ∈ lw_all := lw_g (lw_at lw_m5 203 rfl) rfl
theorem q1276 : (Jvm.Cond.code ({ cls := "HeldCoats$Stored", name := "does", desc := "(LHeldCoats$Reign;)I" } : Jvm.MethodName) prog_21_method_2_code (3 : Nat) (Option.some Jvm.ClassFile.FieldType.int)) ∈ lw_all := lw_g (lw_at lw_m5 204 rfl) rfl
theorem q1277 : (Jvm.Cond.methodLink "HeldCoats$Stored" (13 : Nat) ({ cls := "HeldCoats$Reign", name := "whyKeep", desc := "(I)I" } : Jvm.MethodName)) ∈ lw_all := lw_g (lw_at lw_m5 205 rfl) rfl
theorem q1281 : (Jvm.Cond.methodLink "HeldCoats$Stored" (19 : Nat) ({ cls := "HeldCoats$Reign", name := "keep", desc := "(I)V" } : Jvm.MethodName)) ∈ lw_all := lw_g (lw_at lw_m5 209 rfl) rfl
theorem q1282 : (Jvm.Cond.methodLink "HeldCoats$Stored" (22 : Nat) ({ cls := "HeldCoats$Stored", name := "told", desc := "(II)I" } : Jvm.MethodName)) ∈ lw_all := lw_g (lw_at lw_m5 210 rfl) rfl
theorem q1283 : (Jvm.Cond.sameMethod "HeldCoats$Stored" "HeldCoats$Act" "told" "(II)I") ∈ lw_all := lw_g (lw_at lw_m5 211 rfl) rfl
theorem q1344 : (Jvm.Cond.instantiable "HeldCoats$Stored" (1 : Nat)) ∈ lw_all := lw_g (lw_at lw_m6 32 rfl) rfl
theorem q1346 : (Jvm.Cond.instanceMethod ({ cls := "HeldCoats$Stored", name := "<init>", desc := "(I)V" } : Jvm.MethodName)) ∈ lw_all := lw_g (lw_at lw_m6 34 rfl) rfl
theorem q1347 : (Jvm.Cond.code ({ cls := "HeldCoats$Stored", name := "<init>", desc := "(I)V" } : Jvm.MethodName) prog_21_method_1_code (2 : Nat) (Option.none : Option Jvm.ClassFile.FieldType)) ∈ lw_all := lw_g (lw_at lw_m6 35 rfl) rfl
theorem q1348 : (Jvm.Cond.methodLink "HeldCoats$Stored" (1 : Nat) ({ cls := "HeldCoats$OfCoat", name := "<init>", desc := "(I)V" } : Jvm.MethodName)) ∈ lw_all := lw_g (lw_at lw_m6 36 rfl) rfl
theorem q1349 : (Jvm.Cond.laysFinal "HeldCoats$Stored" "HeldCoats$OfCoat" "coat" "I") ∈ lw_all := lw_g (lw_at lw_m6 37 rfl) rfl
theorem q1350 : (Jvm.Cond.superclass "HeldCoats$Stored" "HeldCoats$OfCoat") ∈ lw_all := lw_g (lw_at lw_m6 38 rfl) rfl
theorem q2539 : (Jvm.Cond.castable "HeldCoats$Stored" "HeldCoats$Act") ∈ lw_tbl := lw_at lw_m11 27 rfl
theorem q2557 : (Jvm.Cond.castable "HeldCoats$Stored" "java/lang/Object") ∈ lw_tbl := lw_at lw_m11 45 rfl
theorem q148 : (Jvm.Cond.initialized "HeldCoats$Wears") ∈ lw_all := lw_g (lw_at lw_m1 36 rfl) rfl
theorem q992 : (Jvm.Cond.selects "HeldCoats$Wears" ({ cls := "java/lang/Object", name := "getClass", desc := "()Ljava/lang/Class;" } : Jvm.MethodName) ({ cls := "java/lang/Object", name := "getClass", desc := "()Ljava/lang/Class;" } : Jvm.MethodName)) ∈ lw_all := lw_g (lw_at lw_m4 160 rfl) rfl
theorem q1170 : (Jvm.Cond.fieldLink "HeldCoats$Wears" (13 : Nat) "HeldCoats$Wears" "other" "I") ∈ lw_all := lw_g (lw_at lw_m5 98 rfl) rfl
theorem q1171 : (Jvm.Cond.sameField "HeldCoats$Wears" "HeldCoats$With" "other" "I") ∈ lw_all := lw_g (lw_at lw_m5 99 rfl) rfl
theorem q1179 : (Jvm.Cond.fieldLink "HeldCoats$Wears" (7 : Nat) "HeldCoats$Wears" "coat" "I") ∈ lw_all := lw_g (lw_at lw_m5 107 rfl) rfl
theorem q1180 : (Jvm.Cond.sameField "HeldCoats$Wears" "HeldCoats$OfCoat" "coat" "I") ∈ lw_all := lw_g (lw_at lw_m5 108 rfl) rfl
theorem q1284 : (Jvm.Cond.selects "HeldCoats$Wears" ({ cls := "HeldCoats$Act", name := "does", desc := "(LHeldCoats$Reign;)I" } : Jvm.MethodName) ({ cls := "HeldCoats$Wears", name := "does", desc := "(LHeldCoats$Reign;)I" } : Jvm.MethodName)) ∈ lw_all := lw_g (lw_at lw_m5 212 rfl) rfl
theorem q1285 : (Jvm.Cond.instanceMethod ({ cls := "HeldCoats$Wears", name := "does", desc := "(LHeldCoats$Reign;)I" } : Jvm.MethodName)) ∈ lw_all := lw_g (lw_at lw_m5 213 rfl) rfl
theorem q1286 : (Jvm.Cond.code ({ cls := "HeldCoats$Wears", name := "does", desc := "(LHeldCoats$Reign;)I" } : Jvm.MethodName) prog_25_method_2_code (3 : Nat) (Option.some Jvm.ClassFile.FieldType.int)) ∈ lw_all := lw_g (lw_at lw_m5 214 rfl) rfl
theorem q1287 : (Jvm.Cond.methodLink "HeldCoats$Wears" (16 : Nat) ({ cls := "HeldCoats$Reign", name := "whyWear", desc := "(II)I" } : Jvm.MethodName)) ∈ lw_all := lw_g (lw_at lw_m5 215 rfl) rfl
theorem q1291 : (Jvm.Cond.methodLink "HeldCoats$Wears" (22 : Nat) ({ cls := "HeldCoats$Reign", name := "wear", desc := "(II)V" } : Jvm.MethodName)) ∈ lw_all := lw_g (lw_at lw_m5 219 rfl) rfl
theorem q1299 : (Jvm.Cond.methodLink "HeldCoats$Wears" (25 : Nat) ({ cls := "HeldCoats$Wears", name := "told", desc := "(II)I" } : Jvm.MethodName)) ∈ lw_all := lw_g (lw_at lw_m5 227 rfl) rfl
theorem q1300 : (Jvm.Cond.sameMethod "HeldCoats$Wears" "HeldCoats$Act" "told" "(II)I") ∈ lw_all := lw_g (lw_at lw_m5 228 rfl) rfl
theorem q1318 : (Jvm.Cond.instantiable "HeldCoats$Wears" (2 : Nat)) ∈ lw_all := lw_g (lw_at lw_m6 6 rfl) rfl
theorem q1320 : (Jvm.Cond.instanceMethod ({ cls := "HeldCoats$Wears", name := "<init>", desc := "(II)V" } : Jvm.MethodName)) ∈ lw_all := lw_g (lw_at lw_m6 8 rfl) rfl
theorem q1321 : (Jvm.Cond.code ({ cls := "HeldCoats$Wears", name := "<init>", desc := "(II)V" } : Jvm.MethodName) prog_25_method_1_code (3 : Nat) (Option.none : Option Jvm.ClassFile.FieldType)) ∈ lw_all := lw_g (lw_at lw_m6 9 rfl) rfl
theorem q1322 : (Jvm.Cond.methodLink "HeldCoats$Wears" (1 : Nat) ({ cls := "HeldCoats$With", name := "<init>", desc := "(II)V" } : Jvm.MethodName)) ∈ lw_all := lw_g (lw_at lw_m6 10 rfl) rfl
theorem q1323 : (Jvm.Cond.laysFinal "HeldCoats$Wears" "HeldCoats$With" "other" "I") ∈ lw_all := lw_g (lw_at lw_m6 11 rfl) rfl
theorem q1324 : (Jvm.Cond.laysFinal "HeldCoats$Wears" "HeldCoats$OfCoat" "coat" "I") ∈ lw_all := lw_g (lw_at lw_m6 12 rfl) rfl
theorem q1325 : (Jvm.Cond.superclass "HeldCoats$Wears" "HeldCoats$With") ∈ lw_all := lw_g (lw_at lw_m6 13 rfl) rfl
theorem q2540 : (Jvm.Cond.castable "HeldCoats$Wears" "HeldCoats$Act") ∈ lw_tbl := lw_at lw_m11 28 rfl
theorem q2555 : (Jvm.Cond.castable "HeldCoats$Wears" "java/lang/Object") ∈ lw_tbl := lw_at lw_m11 43 rfl
theorem q150 : (Jvm.Cond.initialized "HeldCoats$BookReader") ∈ lw_all := lw_g (lw_at lw_m1 38 rfl) rfl
theorem q221 : (Jvm.Cond.fieldLinkNest "HeldCoats$BookReader" (105 : Nat) "HeldCoats$Capital" "seats" "Ljava/util/ArrayList;" "HeldCoats") ∈ lw_tbl := lw_at lw_m1 109 rfl
theorem q225 : (Jvm.Cond.fieldLinkNest "HeldCoats$BookReader" (56 : Nat) "HeldCoats$Capital" "men" "Ljava/util/ArrayList;" "HeldCoats") ∈ lw_tbl := lw_at lw_m1 113 rfl
theorem q232 : (Jvm.Cond.fieldLinkNest "HeldCoats$BookReader" (65 : Nat) "HeldCoats$Capital" "coats" "Ljava/util/ArrayList;" "HeldCoats") ∈ lw_tbl := lw_at lw_m1 120 rfl
theorem q476 : (Jvm.Cond.fieldLink "HeldCoats$BookReader" (27 : Nat) "HeldCoats$BookReader" "kind" "I") ∈ lw_all := lw_g (lw_at lw_m2 124 rfl) rfl
theorem q477 : (Jvm.Cond.sameField "HeldCoats$BookReader" "HeldCoats$Reader" "kind" "I") ∈ lw_all := lw_g (lw_at lw_m2 125 rfl) rfl
theorem q923 : (Jvm.Cond.selects "HeldCoats$BookReader" ({ cls := "HeldCoats$Reader", name := "holdNumber", desc := "(II)I" } : Jvm.MethodName) ({ cls := "HeldCoats$Reader", name := "holdNumber", desc := "(II)I" } : Jvm.MethodName)) ∈ lw_all := lw_g (lw_at lw_m4 91 rfl) rfl
theorem q974 : (Jvm.Cond.selects "HeldCoats$BookReader" ({ cls := "java/lang/Object", name := "getClass", desc := "()Ljava/lang/Class;" } : Jvm.MethodName) ({ cls := "java/lang/Object", name := "getClass", desc := "()Ljava/lang/Class;" } : Jvm.MethodName)) ∈ lw_all := lw_g (lw_at lw_m4 142 rfl) rfl
theorem q1525 : (Jvm.Cond.instantiable "HeldCoats$BookReader" (11 : Nat)) ∈ lw_all := lw_g (lw_at lw_m6 213 rfl) rfl
theorem q1527 : (Jvm.Cond.instanceMethod ({ cls := "HeldCoats$BookReader", name := "<init>", desc := "([BILHeldCoats$Capital;)V" } : Jvm.MethodName)) ∈ lw_all := lw_g (lw_at lw_m6 215 rfl) rfl
theorem q1528 : (Jvm.Cond.code ({ cls := "HeldCoats$BookReader", name := "<init>", desc := "([BILHeldCoats$Capital;)V" } : Jvm.MethodName) prog_3_method_1_code (4 : Nat) (Option.none : Option Jvm.ClassFile.FieldType)) ∈ lw_all := lw_g (lw_at lw_m6 216 rfl) rfl
theorem q1529 : (Jvm.Cond.methodLink "HeldCoats$BookReader" (3 : Nat) ({ cls := "HeldCoats$Reader", name := "<init>", desc := "([BII)V" } : Jvm.MethodName)) ∈ lw_all := lw_g (lw_at lw_m6 217 rfl) rfl
theorem q1530 : (Jvm.Cond.classLink "HeldCoats$BookReader" (9 : Nat) "java/util/ArrayList") ∈ lw_all := lw_g (lw_at lw_m6 218 rfl) rfl
theorem q1531 : (Jvm.Cond.methodLink "HeldCoats$BookReader" (11 : Nat) ({ cls := "java/util/ArrayList", name := "<init>", desc := "()V" } : Jvm.MethodName)) ∈ lw_all := lw_g (lw_at lw_m6 219 rfl) rfl
theorem q1532 : (Jvm.Cond.fieldLink "HeldCoats$BookReader" (20 : Nat) "HeldCoats$BookReader" "c" "LHeldCoats$Capital;") ∈ lw_all := lw_g (lw_at lw_m6 220 rfl) rfl
theorem q1533 : (Jvm.Cond.fieldLink "HeldCoats$BookReader" (14 : Nat) "HeldCoats$BookReader" "acts" "Ljava/util/ArrayList;") ∈ lw_all := lw_g (lw_at lw_m6 221 rfl) rfl
theorem q1534 : (Jvm.Cond.laysFinal "HeldCoats$BookReader" "HeldCoats$BookReader" "c" "LHeldCoats$Capital;") ∈ lw_all := lw_g (lw_at lw_m6 222 rfl) rfl
theorem q1535 : (Jvm.Cond.soleField "HeldCoats$BookReader" "c") ∈ lw_all := lw_g (lw_at lw_m6 223 rfl) rfl
theorem q1536 : (Jvm.Cond.laysFinal "HeldCoats$BookReader" "HeldCoats$BookReader" "acts" "Ljava/util/ArrayList;") ∈ lw_all := lw_g (lw_at lw_m6 224 rfl) rfl
theorem q1537 : (Jvm.Cond.soleField "HeldCoats$BookReader" "acts") ∈ lw_all := lw_g (lw_at lw_m6 225 rfl) rfl
theorem q1538 : (Jvm.Cond.laysFinal "HeldCoats$BookReader" "HeldCoats$Reader" "tape" "[B") ∈ lw_all := lw_g (lw_at lw_m6 226 rfl) rfl
theorem q1539 : (Jvm.Cond.laysFinal "HeldCoats$BookReader" "HeldCoats$Reader" "size" "I") ∈ lw_all := lw_g (lw_at lw_m6 227 rfl) rfl
theorem q1540 : (Jvm.Cond.laysFinal "HeldCoats$BookReader" "HeldCoats$Reader" "limit" "I") ∈ lw_all := lw_g (lw_at lw_m6 228 rfl) rfl
theorem q1541 : (Jvm.Cond.lays "HeldCoats$BookReader" "HeldCoats$Reader" "to" "I") ∈ lw_all := lw_g (lw_at lw_m6 229 rfl) rfl
theorem q1542 : (Jvm.Cond.lays "HeldCoats$BookReader" "HeldCoats$Reader" "kind" "I") ∈ lw_all := lw_g (lw_at lw_m6 230 rfl) rfl
theorem q1543 : (Jvm.Cond.lays "HeldCoats$BookReader" "HeldCoats$Reader" "from" "I") ∈ lw_all := lw_g (lw_at lw_m6 231 rfl) rfl
theorem q1544 : (Jvm.Cond.lays "HeldCoats$BookReader" "HeldCoats$Reader" "number" "I") ∈ lw_all := lw_g (lw_at lw_m6 232 rfl) rfl
theorem q1545 : (Jvm.Cond.lays "HeldCoats$BookReader" "HeldCoats$Reader" "sign" "I") ∈ lw_all := lw_g (lw_at lw_m6 233 rfl) rfl
theorem q1546 : (Jvm.Cond.lays "HeldCoats$BookReader" "HeldCoats$Reader" "word" "Ljava/lang/String;") ∈ lw_all := lw_g (lw_at lw_m6 234 rfl) rfl
theorem q1547 : (Jvm.Cond.superclass "HeldCoats$BookReader" "HeldCoats$Reader") ∈ lw_all := lw_g (lw_at lw_m6 235 rfl) rfl
theorem q1549 : (Jvm.Cond.instanceMethod ({ cls := "HeldCoats$BookReader", name := "read", desc := "()Ljava/util/ArrayList;" } : Jvm.MethodName)) ∈ lw_all := lw_g (lw_at lw_m6 237 rfl) rfl
theorem q1550 : (Jvm.Cond.selects "HeldCoats$BookReader" ({ cls := "HeldCoats$BookReader", name := "read", desc := "()Ljava/util/ArrayList;" } : Jvm.MethodName) ({ cls := "HeldCoats$BookReader", name := "read", desc := "()Ljava/util/ArrayList;" } : Jvm.MethodName)) ∈ lw_all := lw_g (lw_at lw_m6 238 rfl) rfl
theorem q1551 : (Jvm.Cond.code ({ cls := "HeldCoats$BookReader", name := "read", desc := "()Ljava/util/ArrayList;" } : Jvm.MethodName) prog_3_method_2_code (1 : Nat) (Option.some (Jvm.ClassFile.FieldType.object "java/util/ArrayList"))) ∈ lw_all := lw_g (lw_at lw_m6 239 rfl) rfl
theorem q1552 : (Jvm.Cond.methodLink "HeldCoats$BookReader" (24 : Nat) ({ cls := "HeldCoats$BookReader", name := "go", desc := "()V" } : Jvm.MethodName)) ∈ lw_all := lw_g (lw_at lw_m7 0 rfl) rfl
theorem q1553 : (Jvm.Cond.sameMethod "HeldCoats$BookReader" "HeldCoats$Reader" "go" "()V") ∈ lw_all := lw_g (lw_at lw_m7 1 rfl) rfl
theorem q1554 : (Jvm.Cond.selects "HeldCoats$BookReader" ({ cls := "HeldCoats$BookReader", name := "go", desc := "()V" } : Jvm.MethodName) ({ cls := "HeldCoats$Reader", name := "go", desc := "()V" } : Jvm.MethodName)) ∈ lw_all := lw_g (lw_at lw_m7 2 rfl) rfl
theorem q1555 : (Jvm.Cond.methodLink "HeldCoats$BookReader" (31 : Nat) ({ cls := "HeldCoats$BookReader", name := "act", desc := "()LHeldCoats$Act;" } : Jvm.MethodName)) ∈ lw_all := lw_g (lw_at lw_m7 3 rfl) rfl
theorem q1556 : (Jvm.Cond.privateMethod ({ cls := "HeldCoats$BookReader", name := "act", desc := "()LHeldCoats$Act;" } : Jvm.MethodName)) ∈ lw_tbl := lw_at lw_m7 4 rfl
theorem q1557 : (Jvm.Cond.instanceMethod ({ cls := "HeldCoats$BookReader", name := "act", desc := "()LHeldCoats$Act;" } : Jvm.MethodName)) ∈ lw_all := lw_g (lw_at lw_m7 5 rfl) rfl
theorem q1558 : (Jvm.Cond.code ({ cls := "HeldCoats$BookReader", name := "act", desc := "()LHeldCoats$Act;" } : Jvm.MethodName) prog_3_method_3_code (4 : Nat) (Option.some (Jvm.ClassFile.FieldType.object "HeldCoats$Act"))) ∈ lw_all := lw_g (lw_at lw_m7 6 rfl) rfl
theorem q1559 : (Jvm.Cond.stringRef "HeldCoats$BookReader" (42 : Nat) "day") ∈ lw_tbl := lw_at lw_m7 7 rfl
theorem q1560 : (Jvm.Cond.methodLink "HeldCoats$BookReader" (44 : Nat) ({ cls := "HeldCoats$BookReader", name := "is", desc := "(Ljava/lang/String;)Z" } : Jvm.MethodName)) ∈ lw_all := lw_g (lw_at lw_m7 8 rfl) rfl
theorem q1561 : (Jvm.Cond.sameMethod "HeldCoats$BookReader" "HeldCoats$Reader" "is" "(Ljava/lang/String;)Z") ∈ lw_all := lw_g (lw_at lw_m7 9 rfl) rfl
theorem q1562 : (Jvm.Cond.selects "HeldCoats$BookReader" ({ cls := "HeldCoats$BookReader", name := "is", desc := "(Ljava/lang/String;)Z" } : Jvm.MethodName) ({ cls := "HeldCoats$Reader", name := "is", desc := "(Ljava/lang/String;)Z" } : Jvm.MethodName)) ∈ lw_all := lw_g (lw_at lw_m7 10 rfl) rfl
theorem q1563 : (Jvm.Cond.methodLink "HeldCoats$BookReader" (48 : Nat) ({ cls := "HeldCoats$BookReader", name := "isName", desc := "()Z" } : Jvm.MethodName)) ∈ lw_all := lw_g (lw_at lw_m7 11 rfl) rfl
theorem q1564 : (Jvm.Cond.sameMethod "HeldCoats$BookReader" "HeldCoats$Reader" "isName" "()Z") ∈ lw_all := lw_g (lw_at lw_m7 12 rfl) rfl
theorem q1565 : (Jvm.Cond.selects "HeldCoats$BookReader" ({ cls := "HeldCoats$BookReader", name := "isName", desc := "()Z" } : Jvm.MethodName) ({ cls := "HeldCoats$Reader", name := "isName", desc := "()Z" } : Jvm.MethodName)) ∈ lw_all := lw_g (lw_at lw_m7 13 rfl) rfl
theorem q1566 : (Jvm.Cond.methodLink "HeldCoats$BookReader" (52 : Nat) ({ cls := "HeldCoats$BookReader", name := "need", desc := "(ZI)V" } : Jvm.MethodName)) ∈ lw_all := lw_g (lw_at lw_m7 14 rfl) rfl
theorem q1567 : (Jvm.Cond.sameMethod "HeldCoats$BookReader" "HeldCoats$Reader" "need" "(ZI)V") ∈ lw_all := lw_g (lw_at lw_m7 15 rfl) rfl
theorem q1568 : (Jvm.Cond.selects "HeldCoats$BookReader" ({ cls := "HeldCoats$BookReader", name := "need", desc := "(ZI)V" } : Jvm.MethodName) ({ cls := "HeldCoats$Reader", name := "need", desc := "(ZI)V" } : Jvm.MethodName)) ∈ lw_all := lw_g (lw_at lw_m7 16 rfl) rfl
theorem q1569 : (Jvm.Cond.methodLink "HeldCoats$BookReader" (61 : Nat) ({ cls := "HeldCoats$BookReader", name := "find", desc := "(Ljava/util/ArrayList;)I" } : Jvm.MethodName)) ∈ lw_all := lw_g (lw_at lw_m7 17 rfl) rfl
theorem q1570 : (Jvm.Cond.sameMethod "HeldCoats$BookReader" "HeldCoats$Reader" "find" "(Ljava/util/ArrayList;)I") ∈ lw_all := lw_g (lw_at lw_m7 18 rfl) rfl
theorem q1571 : (Jvm.Cond.selects "HeldCoats$BookReader" ({ cls := "HeldCoats$BookReader", name := "find", desc := "(Ljava/util/ArrayList;)I" } : Jvm.MethodName) ({ cls := "HeldCoats$Reader", name := "find", desc := "(Ljava/util/ArrayList;)I" } : Jvm.MethodName)) ∈ lw_all := lw_g (lw_at lw_m7 19 rfl) rfl
theorem q1572 : (Jvm.Cond.methodLink "HeldCoats$BookReader" (68 : Nat) ({ cls := "java/util/ArrayList", name := "size", desc := "()I" } : Jvm.MethodName)) ∈ lw_all := lw_g (lw_at lw_m7 20 rfl) rfl
theorem q1573 : (Jvm.Cond.classLink "HeldCoats$BookReader" (72 : Nat) "HeldCoats$Days") ∈ lw_all := lw_g (lw_at lw_m7 21 rfl) rfl
theorem q1575 : (Jvm.Cond.methodLink "HeldCoats$BookReader" (74 : Nat) ({ cls := "HeldCoats$BookReader", name := "number", desc := "(II)I" } : Jvm.MethodName)) ∈ lw_all := lw_g (lw_at lw_m7 23 rfl) rfl
theorem q1576 : (Jvm.Cond.sameMethod "HeldCoats$BookReader" "HeldCoats$Reader" "number" "(II)I") ∈ lw_all := lw_g (lw_at lw_m7 24 rfl) rfl
theorem q1577 : (Jvm.Cond.selects "HeldCoats$BookReader" ({ cls := "HeldCoats$BookReader", name := "number", desc := "(II)I" } : Jvm.MethodName) ({ cls := "HeldCoats$Reader", name := "number", desc := "(II)I" } : Jvm.MethodName)) ∈ lw_all := lw_g (lw_at lw_m7 25 rfl) rfl
theorem q1578 : (Jvm.Cond.methodLink "HeldCoats$BookReader" (78 : Nat) ({ cls := "HeldCoats$Days", name := "<init>", desc := "(I)V" } : Jvm.MethodName)) ∈ lw_all := lw_g (lw_at lw_m7 26 rfl) rfl
theorem q1586 : (Jvm.Cond.methodLink "HeldCoats$BookReader" (81 : Nat) ({ cls := "HeldCoats$BookReader", name := "wears", desc := "(I)LHeldCoats$Act;" } : Jvm.MethodName)) ∈ lw_all := lw_g (lw_at lw_m7 34 rfl) rfl
theorem q1587 : (Jvm.Cond.privateMethod ({ cls := "HeldCoats$BookReader", name := "wears", desc := "(I)LHeldCoats$Act;" } : Jvm.MethodName)) ∈ lw_tbl := lw_at lw_m7 35 rfl
theorem q1588 : (Jvm.Cond.instanceMethod ({ cls := "HeldCoats$BookReader", name := "wears", desc := "(I)LHeldCoats$Act;" } : Jvm.MethodName)) ∈ lw_all := lw_g (lw_at lw_m7 36 rfl) rfl
theorem q1589 : (Jvm.Cond.code ({ cls := "HeldCoats$BookReader", name := "wears", desc := "(I)LHeldCoats$Act;" } : Jvm.MethodName) prog_3_method_4_code (2 : Nat) (Option.some (Jvm.ClassFile.FieldType.object "HeldCoats$Act"))) ∈ lw_all := lw_g (lw_at lw_m7 37 rfl) rfl
theorem q1590 : (Jvm.Cond.stringRef "HeldCoats$BookReader" (88 : Nat) "wears") ∈ lw_tbl := lw_at lw_m7 38 rfl
theorem q1591 : (Jvm.Cond.classLink "HeldCoats$BookReader" (89 : Nat) "HeldCoats$Wears") ∈ lw_all := lw_g (lw_at lw_m7 39 rfl) rfl
theorem q1592 : (Jvm.Cond.methodLink "HeldCoats$BookReader" (91 : Nat) ({ cls := "HeldCoats$BookReader", name := "one", desc := "(Ljava/util/ArrayList;)I" } : Jvm.MethodName)) ∈ lw_all := lw_g (lw_at lw_m7 40 rfl) rfl
theorem q1593 : (Jvm.Cond.sameMethod "HeldCoats$BookReader" "HeldCoats$Reader" "one" "(Ljava/util/ArrayList;)I") ∈ lw_all := lw_g (lw_at lw_m7 41 rfl) rfl
theorem q1594 : (Jvm.Cond.selects "HeldCoats$BookReader" ({ cls := "HeldCoats$BookReader", name := "one", desc := "(Ljava/util/ArrayList;)I" } : Jvm.MethodName) ({ cls := "HeldCoats$Reader", name := "one", desc := "(Ljava/util/ArrayList;)I" } : Jvm.MethodName)) ∈ lw_all := lw_g (lw_at lw_m7 42 rfl) rfl
theorem q1595 : (Jvm.Cond.methodLink "HeldCoats$BookReader" (94 : Nat) ({ cls := "HeldCoats$Wears", name := "<init>", desc := "(II)V" } : Jvm.MethodName)) ∈ lw_all := lw_g (lw_at lw_m7 43 rfl) rfl
theorem q1596 : (Jvm.Cond.methodLink "HeldCoats$BookReader" (85 : Nat) ({ cls := "HeldCoats$BookReader", name := "of", desc := "(I)LHeldCoats$Act;" } : Jvm.MethodName)) ∈ lw_all := lw_g (lw_at lw_m7 44 rfl) rfl
theorem q1597 : (Jvm.Cond.privateMethod ({ cls := "HeldCoats$BookReader", name := "of", desc := "(I)LHeldCoats$Act;" } : Jvm.MethodName)) ∈ lw_tbl := lw_at lw_m7 45 rfl
theorem q1598 : (Jvm.Cond.instanceMethod ({ cls := "HeldCoats$BookReader", name := "of", desc := "(I)LHeldCoats$Act;" } : Jvm.MethodName)) ∈ lw_all := lw_g (lw_at lw_m7 46 rfl) rfl
theorem q1599 : (Jvm.Cond.code ({ cls := "HeldCoats$BookReader", name := "of", desc := "(I)LHeldCoats$Act;" } : Jvm.MethodName) prog_3_method_5_code (4 : Nat) (Option.some (Jvm.ClassFile.FieldType.object "HeldCoats$Act"))) ∈ lw_all := lw_g (lw_at lw_m7 47 rfl) rfl
theorem q1600 : (Jvm.Cond.stringRef "HeldCoats$BookReader" (97 : Nat) "lies") ∈ lw_tbl := lw_at lw_m7 48 rfl
theorem q1601 : (Jvm.Cond.stringRef "HeldCoats$BookReader" (99 : Nat) "lent") ∈ lw_tbl := lw_at lw_m7 49 rfl
theorem q1602 : (Jvm.Cond.stringRef "HeldCoats$BookReader" (101 : Nat) "kept") ∈ lw_tbl := lw_at lw_m7 50 rfl
theorem q1603 : (Jvm.Cond.classLink "HeldCoats$BookReader" (103 : Nat) "HeldCoats$Lies") ∈ lw_all := lw_g (lw_at lw_m7 51 rfl) rfl
theorem q1604 : (Jvm.Cond.methodLink "HeldCoats$BookReader" (108 : Nat) ({ cls := "HeldCoats$Lies", name := "<init>", desc := "(II)V" } : Jvm.MethodName)) ∈ lw_all := lw_g (lw_at lw_m7 52 rfl) rfl
theorem q1605 : (Jvm.Cond.classLink "HeldCoats$BookReader" (109 : Nat) "HeldCoats$Lent") ∈ lw_all := lw_g (lw_at lw_m7 53 rfl) rfl
theorem q1606 : (Jvm.Cond.methodLink "HeldCoats$BookReader" (111 : Nat) ({ cls := "HeldCoats$Lent", name := "<init>", desc := "(II)V" } : Jvm.MethodName)) ∈ lw_all := lw_g (lw_at lw_m7 54 rfl) rfl
theorem q1607 : (Jvm.Cond.classLink "HeldCoats$BookReader" (112 : Nat) "HeldCoats$Stored") ∈ lw_all := lw_g (lw_at lw_m7 55 rfl) rfl
theorem q1608 : (Jvm.Cond.methodLink "HeldCoats$BookReader" (114 : Nat) ({ cls := "HeldCoats$Stored", name := "<init>", desc := "(I)V" } : Jvm.MethodName)) ∈ lw_all := lw_g (lw_at lw_m7 56 rfl) rfl
theorem q1609 : (Jvm.Cond.methodLink "HeldCoats$BookReader" (35 : Nat) ({ cls := "java/util/ArrayList", name := "add", desc := "(Ljava/lang/Object;)Z" } : Jvm.MethodName)) ∈ lw_all := lw_g (lw_at lw_m7 57 rfl) rfl
theorem q1610 : (Jvm.Cond.methodLink "HeldCoats$BookReader" (39 : Nat) ({ cls := "HeldCoats$BookReader", name := "end", desc := "()V" } : Jvm.MethodName)) ∈ lw_all := lw_g (lw_at lw_m7 58 rfl) rfl
theorem q1611 : (Jvm.Cond.sameMethod "HeldCoats$BookReader" "HeldCoats$Reader" "end" "()V") ∈ lw_all := lw_g (lw_at lw_m7 59 rfl) rfl
theorem q1612 : (Jvm.Cond.selects "HeldCoats$BookReader" ({ cls := "HeldCoats$BookReader", name := "end", desc := "()V" } : Jvm.MethodName) ({ cls := "HeldCoats$Reader", name := "end", desc := "()V" } : Jvm.MethodName)) ∈ lw_all := lw_g (lw_at lw_m7 60 rfl) rfl
theorem q2518 : (Jvm.Cond.selects "HeldCoats$BookReader" ({ cls := "HeldCoats$Reader", name := "need", desc := "(ZI)V" } : Jvm.MethodName) ({ cls := "HeldCoats$Reader", name := "need", desc := "(ZI)V" } : Jvm.MethodName)) ∈ lw_all := lw_g (lw_at lw_m11 6 rfl) rfl
theorem q2522 : (Jvm.Cond.selects "HeldCoats$BookReader" ({ cls := "HeldCoats$Reader", name := "go", desc := "()V" } : Jvm.MethodName) ({ cls := "HeldCoats$Reader", name := "go", desc := "()V" } : Jvm.MethodName)) ∈ lw_all := lw_g (lw_at lw_m11 10 rfl) rfl
theorem q2526 : (Jvm.Cond.selects "HeldCoats$BookReader" ({ cls := "HeldCoats$Reader", name := "isName", desc := "()Z" } : Jvm.MethodName) ({ cls := "HeldCoats$Reader", name := "isName", desc := "()Z" } : Jvm.MethodName)) ∈ lw_all := lw_g (lw_at lw_m11 14 rfl) rfl
theorem q2530 : (Jvm.Cond.selects "HeldCoats$BookReader" ({ cls := "HeldCoats$Reader", name := "find", desc := "(Ljava/util/ArrayList;)I" } : Jvm.MethodName) ({ cls := "HeldCoats$Reader", name := "find", desc := "(Ljava/util/ArrayList;)I" } : Jvm.MethodName)) ∈ lw_all := lw_g (lw_at lw_m11 18 rfl) rfl
theorem q2558 : (Jvm.Cond.castable "HeldCoats$BookReader" "java/lang/Object") ∈ lw_tbl := lw_at lw_m11 46 rfl
theorem q114 : (Jvm.Cond.initialized "HeldCoats$Capital") ∈ lw_all := lw_g (lw_at lw_m1 2 rfl) rfl
theorem q168 : (Jvm.Cond.instantiable "HeldCoats$Capital" (11 : Nat)) ∈ lw_all := lw_g (lw_at lw_m1 56 rfl) rfl
theorem q170 : (Jvm.Cond.instanceMethod ({ cls := "HeldCoats$Capital", name := "<init>", desc := "()V" } : Jvm.MethodName)) ∈ lw_all := lw_g (lw_at lw_m1 58 rfl) rfl
theorem q171 : (Jvm.Cond.code ({ cls := "HeldCoats$Capital", name := "<init>", desc := "()V" } : Jvm.MethodName) prog_4_method_1_code (1 : Nat) (Option.none : Option Jvm.ClassFile.FieldType)) ∈ lw_all := lw_g (lw_at lw_m1 59 rfl) rfl
theorem q172 : (Jvm.Cond.methodLink "HeldCoats$Capital" (3 : Nat) ({ cls := "java/lang/Object", name := "<init>", desc := "()V" } : Jvm.MethodName)) ∈ lw_all := lw_g (lw_at lw_m1 60 rfl) rfl
theorem q173 : (Jvm.Cond.classLink "HeldCoats$Capital" (21 : Nat) "java/util/ArrayList") ∈ lw_all := lw_g (lw_at lw_m1 61 rfl) rfl
theorem q175 : (Jvm.Cond.methodLink "HeldCoats$Capital" (23 : Nat) ({ cls := "java/util/ArrayList", name := "<init>", desc := "()V" } : Jvm.MethodName)) ∈ lw_all := lw_g (lw_at lw_m1 63 rfl) rfl
theorem q202 : (Jvm.Cond.fieldLink "HeldCoats$Capital" (49 : Nat) "HeldCoats$Capital" "colds" "I") ∈ lw_all := lw_g (lw_at lw_m1 90 rfl) rfl
theorem q205 : (Jvm.Cond.fieldLink "HeldCoats$Capital" (55 : Nat) "HeldCoats$Capital" "summer" "I") ∈ lw_all := lw_g (lw_at lw_m1 93 rfl) rfl
theorem q207 : (Jvm.Cond.fieldLink "HeldCoats$Capital" (9 : Nat) "HeldCoats$Capital" "holds" "I") ∈ lw_all := lw_g (lw_at lw_m1 95 rfl) rfl
theorem q211 : (Jvm.Cond.fieldLink "HeldCoats$Capital" (15 : Nat) "HeldCoats$Capital" "moths" "I") ∈ lw_all := lw_g (lw_at lw_m1 99 rfl) rfl
theorem q215 : (Jvm.Cond.fieldLink "HeldCoats$Capital" (18 : Nat) "HeldCoats$Capital" "limit" "I") ∈ lw_all := lw_g (lw_at lw_m1 103 rfl) rfl
theorem q218 : (Jvm.Cond.fieldLink "HeldCoats$Capital" (24 : Nat) "HeldCoats$Capital" "seats" "Ljava/util/ArrayList;") ∈ lw_all := lw_g (lw_at lw_m1 106 rfl) rfl
theorem q224 : (Jvm.Cond.fieldLink "HeldCoats$Capital" (28 : Nat) "HeldCoats$Capital" "men" "Ljava/util/ArrayList;") ∈ lw_all := lw_g (lw_at lw_m1 112 rfl) rfl
theorem q230 : (Jvm.Cond.fieldLink "HeldCoats$Capital" (31 : Nat) "HeldCoats$Capital" "coats" "Ljava/util/ArrayList;") ∈ lw_all := lw_g (lw_at lw_m1 118 rfl) rfl
theorem q236 : (Jvm.Cond.fieldLink "HeldCoats$Capital" (34 : Nat) "HeldCoats$Capital" "coldFrom" "[I") ∈ lw_all := lw_g (lw_at lw_m1 124 rfl) rfl
theorem q238 : (Jvm.Cond.fieldLink "HeldCoats$Capital" (38 : Nat) "HeldCoats$Capital" "cold" "[I") ∈ lw_all := lw_g (lw_at lw_m1 126 rfl) rfl
theorem q240 : (Jvm.Cond.lays "HeldCoats$Capital" "HeldCoats$Capital" "lines" "I") ∈ lw_all := lw_g (lw_at lw_m1 128 rfl) rfl
theorem q241 : (Jvm.Cond.soleField "HeldCoats$Capital" "lines") ∈ lw_all := lw_g (lw_at lw_m1 129 rfl) rfl
theorem q242 : (Jvm.Cond.lays "HeldCoats$Capital" "HeldCoats$Capital" "colds" "I") ∈ lw_all := lw_g (lw_at lw_m1 130 rfl) rfl
theorem q243 : (Jvm.Cond.soleField "HeldCoats$Capital" "colds") ∈ lw_all := lw_g (lw_at lw_m1 131 rfl) rfl
theorem q244 : (Jvm.Cond.lays "HeldCoats$Capital" "HeldCoats$Capital" "summer" "I") ∈ lw_all := lw_g (lw_at lw_m1 132 rfl) rfl
theorem q245 : (Jvm.Cond.soleField "HeldCoats$Capital" "summer") ∈ lw_all := lw_g (lw_at lw_m1 133 rfl) rfl
theorem q246 : (Jvm.Cond.lays "HeldCoats$Capital" "HeldCoats$Capital" "holds" "I") ∈ lw_all := lw_g (lw_at lw_m1 134 rfl) rfl
theorem q247 : (Jvm.Cond.soleField "HeldCoats$Capital" "holds") ∈ lw_all := lw_g (lw_at lw_m1 135 rfl) rfl
theorem q248 : (Jvm.Cond.lays "HeldCoats$Capital" "HeldCoats$Capital" "moths" "I") ∈ lw_all := lw_g (lw_at lw_m1 136 rfl) rfl
theorem q249 : (Jvm.Cond.soleField "HeldCoats$Capital" "moths") ∈ lw_all := lw_g (lw_at lw_m1 137 rfl) rfl
theorem q250 : (Jvm.Cond.lays "HeldCoats$Capital" "HeldCoats$Capital" "limit" "I") ∈ lw_all := lw_g (lw_at lw_m1 138 rfl) rfl
theorem q251 : (Jvm.Cond.soleField "HeldCoats$Capital" "limit") ∈ lw_all := lw_g (lw_at lw_m1 139 rfl) rfl
theorem q252 : (Jvm.Cond.laysFinal "HeldCoats$Capital" "HeldCoats$Capital" "seats" "Ljava/util/ArrayList;") ∈ lw_all := lw_g (lw_at lw_m1 140 rfl) rfl
theorem q253 : (Jvm.Cond.soleField "HeldCoats$Capital" "seats") ∈ lw_all := lw_g (lw_at lw_m1 141 rfl) rfl
theorem q254 : (Jvm.Cond.laysFinal "HeldCoats$Capital" "HeldCoats$Capital" "men" "Ljava/util/ArrayList;") ∈ lw_all := lw_g (lw_at lw_m1 142 rfl) rfl
theorem q255 : (Jvm.Cond.soleField "HeldCoats$Capital" "men") ∈ lw_all := lw_g (lw_at lw_m1 143 rfl) rfl
theorem q256 : (Jvm.Cond.laysFinal "HeldCoats$Capital" "HeldCoats$Capital" "coats" "Ljava/util/ArrayList;") ∈ lw_all := lw_g (lw_at lw_m1 144 rfl) rfl
theorem q257 : (Jvm.Cond.soleField "HeldCoats$Capital" "coats") ∈ lw_all := lw_g (lw_at lw_m1 145 rfl) rfl
theorem q258 : (Jvm.Cond.laysFinal "HeldCoats$Capital" "HeldCoats$Capital" "coldFrom" "[I") ∈ lw_all := lw_g (lw_at lw_m1 146 rfl) rfl
theorem q259 : (Jvm.Cond.soleField "HeldCoats$Capital" "coldFrom") ∈ lw_all := lw_g (lw_at lw_m1 147 rfl) rfl
theorem q260 : (Jvm.Cond.laysFinal "HeldCoats$Capital" "HeldCoats$Capital" "cold" "[I") ∈ lw_all := lw_g (lw_at lw_m1 148 rfl) rfl
theorem q261 : (Jvm.Cond.soleField "HeldCoats$Capital" "cold") ∈ lw_all := lw_g (lw_at lw_m1 149 rfl) rfl
theorem q262 : (Jvm.Cond.superclass "HeldCoats$Capital" "java/lang/Object") ∈ lw_all := lw_g (lw_at lw_m1 150 rfl) rfl
theorem q975 : (Jvm.Cond.selects "HeldCoats$Capital" ({ cls := "java/lang/Object", name := "getClass", desc := "()Ljava/lang/Class;" } : Jvm.MethodName) ({ cls := "java/lang/Object", name := "getClass", desc := "()Ljava/lang/Class;" } : Jvm.MethodName)) ∈ lw_all := lw_g (lw_at lw_m4 143 rfl) rfl
theorem q1029 : (Jvm.Cond.fieldLinkNest "HeldCoats$Capital" (64 : Nat) "HeldCoats$Coat" "man" "I" "HeldCoats") ∈ lw_tbl := lw_at lw_m4 197 rfl
theorem q1087 : (Jvm.Cond.instanceMethod ({ cls := "HeldCoats$Capital", name := "isSeat", desc := "(I)Z" } : Jvm.MethodName)) ∈ lw_all := lw_g (lw_at lw_m5 15 rfl) rfl
theorem q1088 : (Jvm.Cond.selects "HeldCoats$Capital" ({ cls := "HeldCoats$Capital", name := "isSeat", desc := "(I)Z" } : Jvm.MethodName) ({ cls := "HeldCoats$Capital", name := "isSeat", desc := "(I)Z" } : Jvm.MethodName)) ∈ lw_all := lw_g (lw_at lw_m5 16 rfl) rfl
theorem q1089 : (Jvm.Cond.code ({ cls := "HeldCoats$Capital", name := "isSeat", desc := "(I)Z" } : Jvm.MethodName) prog_4_method_2_code (2 : Nat) (Option.some Jvm.ClassFile.FieldType.boolean)) ∈ lw_all := lw_g (lw_at lw_m5 17 rfl) rfl
theorem q1090 : (Jvm.Cond.methodLink "HeldCoats$Capital" (41 : Nat) ({ cls := "java/util/ArrayList", name := "size", desc := "()I" } : Jvm.MethodName)) ∈ lw_all := lw_g (lw_at lw_m5 18 rfl) rfl
theorem q1091 : (Jvm.Cond.methodLinkNest "HeldCoats$Capital" (45 : Nat) ({ cls := "HeldCoats", name := "isIn", desc := "(III)Z" } : Jvm.MethodName) "HeldCoats") ∈ lw_tbl := lw_at lw_m5 19 rfl
theorem q1103 : (Jvm.Cond.instanceMethod ({ cls := "HeldCoats$Capital", name := "isSummer", desc := "(I)Z" } : Jvm.MethodName)) ∈ lw_all := lw_g (lw_at lw_m5 31 rfl) rfl
theorem q1104 : (Jvm.Cond.selects "HeldCoats$Capital" ({ cls := "HeldCoats$Capital", name := "isSummer", desc := "(I)Z" } : Jvm.MethodName) ({ cls := "HeldCoats$Capital", name := "isSummer", desc := "(I)Z" } : Jvm.MethodName)) ∈ lw_all := lw_g (lw_at lw_m5 32 rfl) rfl
theorem q1105 : (Jvm.Cond.code ({ cls := "HeldCoats$Capital", name := "isSummer", desc := "(I)Z" } : Jvm.MethodName) prog_4_method_6_code (2 : Nat) (Option.some Jvm.ClassFile.FieldType.boolean)) ∈ lw_all := lw_g (lw_at lw_m5 33 rfl) rfl
theorem q1106 : (Jvm.Cond.methodLink "HeldCoats$Capital" (52 : Nat) ({ cls := "HeldCoats$Capital", name := "cold", desc := "(I)I" } : Jvm.MethodName)) ∈ lw_all := lw_g (lw_at lw_m5 34 rfl) rfl
theorem q1107 : (Jvm.Cond.instanceMethod ({ cls := "HeldCoats$Capital", name := "cold", desc := "(I)I" } : Jvm.MethodName)) ∈ lw_all := lw_g (lw_at lw_m5 35 rfl) rfl
theorem q1108 : (Jvm.Cond.selects "HeldCoats$Capital" ({ cls := "HeldCoats$Capital", name := "cold", desc := "(I)I" } : Jvm.MethodName) ({ cls := "HeldCoats$Capital", name := "cold", desc := "(I)I" } : Jvm.MethodName)) ∈ lw_all := lw_g (lw_at lw_m5 36 rfl) rfl
theorem q1109 : (Jvm.Cond.code ({ cls := "HeldCoats$Capital", name := "cold", desc := "(I)I" } : Jvm.MethodName) prog_4_method_5_code (4 : Nat) (Option.some Jvm.ClassFile.FieldType.int)) ∈ lw_all := lw_g (lw_at lw_m5 37 rfl) rfl
theorem q1147 : (Jvm.Cond.instanceMethod ({ cls := "HeldCoats$Capital", name := "isCoat", desc := "(I)Z" } : Jvm.MethodName)) ∈ lw_all := lw_g (lw_at lw_m5 75 rfl) rfl
theorem q1148 : (Jvm.Cond.selects "HeldCoats$Capital" ({ cls := "HeldCoats$Capital", name := "isCoat", desc := "(I)Z" } : Jvm.MethodName) ({ cls := "HeldCoats$Capital", name := "isCoat", desc := "(I)Z" } : Jvm.MethodName)) ∈ lw_all := lw_g (lw_at lw_m5 76 rfl) rfl
theorem q1149 : (Jvm.Cond.code ({ cls := "HeldCoats$Capital", name := "isCoat", desc := "(I)Z" } : Jvm.MethodName) prog_4_method_4_code (2 : Nat) (Option.some Jvm.ClassFile.FieldType.boolean)) ∈ lw_all := lw_g (lw_at lw_m5 77 rfl) rfl
theorem q1314 : (Jvm.Cond.instanceMethod ({ cls := "HeldCoats$Capital", name := "isMan", desc := "(I)Z" } : Jvm.MethodName)) ∈ lw_all := lw_g (lw_at lw_m6 2 rfl) rfl
theorem q1315 : (Jvm.Cond.selects "HeldCoats$Capital" ({ cls := "HeldCoats$Capital", name := "isMan", desc := "(I)Z" } : Jvm.MethodName) ({ cls := "HeldCoats$Capital", name := "isMan", desc := "(I)Z" } : Jvm.MethodName)) ∈ lw_all := lw_g (lw_at lw_m6 3 rfl) rfl
theorem q1316 : (Jvm.Cond.code ({ cls := "HeldCoats$Capital", name := "isMan", desc := "(I)Z" } : Jvm.MethodName) prog_4_method_3_code (2 : Nat) (Option.some Jvm.ClassFile.FieldType.boolean)) ∈ lw_all := lw_g (lw_at lw_m6 4 rfl) rfl
theorem q1368 : (Jvm.Cond.instanceMethod ({ cls := "HeldCoats$Capital", name := "coatsOf", desc := "(I)I" } : Jvm.MethodName)) ∈ lw_all := lw_g (lw_at lw_m6 56 rfl) rfl
theorem q1369 : (Jvm.Cond.selects "HeldCoats$Capital" ({ cls := "HeldCoats$Capital", name := "coatsOf", desc := "(I)I" } : Jvm.MethodName) ({ cls := "HeldCoats$Capital", name := "coatsOf", desc := "(I)I" } : Jvm.MethodName)) ∈ lw_all := lw_g (lw_at lw_m6 57 rfl) rfl
theorem q1370 : (Jvm.Cond.code ({ cls := "HeldCoats$Capital", name := "coatsOf", desc := "(I)I" } : Jvm.MethodName) prog_4_method_7_code (4 : Nat) (Option.some Jvm.ClassFile.FieldType.int)) ∈ lw_all := lw_g (lw_at lw_m6 58 rfl) rfl
theorem q1371 : (Jvm.Cond.methodLink "HeldCoats$Capital" (58 : Nat) ({ cls := "java/util/ArrayList", name := "get", desc := "(I)Ljava/lang/Object;" } : Jvm.MethodName)) ∈ lw_all := lw_g (lw_at lw_m6 59 rfl) rfl
theorem q1372 : (Jvm.Cond.classLink "HeldCoats$Capital" (62 : Nat) "HeldCoats$Coat") ∈ lw_all := lw_g (lw_at lw_m6 60 rfl) rfl
theorem q2544 : (Jvm.Cond.castable "HeldCoats$Capital" "java/lang/Object") ∈ lw_tbl := lw_at lw_m11 32 rfl
theorem q151 : (Jvm.Cond.initialized "HeldCoats$Days") ∈ lw_all := lw_g (lw_at lw_m1 39 rfl) rfl
theorem q272 : (Jvm.Cond.fieldLinkNest "HeldCoats$Days" (15 : Nat) "HeldCoats$Reign" "day" "I" "HeldCoats") ∈ lw_tbl := lw_at lw_m1 160 rfl
theorem q978 : (Jvm.Cond.selects "HeldCoats$Days" ({ cls := "java/lang/Object", name := "getClass", desc := "()Ljava/lang/Class;" } : Jvm.MethodName) ({ cls := "java/lang/Object", name := "getClass", desc := "()Ljava/lang/Class;" } : Jvm.MethodName)) ∈ lw_all := lw_g (lw_at lw_m4 146 rfl) rfl
theorem q1201 : (Jvm.Cond.selects "HeldCoats$Days" ({ cls := "HeldCoats$Act", name := "does", desc := "(LHeldCoats$Reign;)I" } : Jvm.MethodName) ({ cls := "HeldCoats$Days", name := "does", desc := "(LHeldCoats$Reign;)I" } : Jvm.MethodName)) ∈ lw_all := lw_g (lw_at lw_m5 129 rfl) rfl
theorem q1202 : (Jvm.Cond.instanceMethod ({ cls := "HeldCoats$Days", name := "does", desc := "(LHeldCoats$Reign;)I" } : Jvm.MethodName)) ∈ lw_all := lw_g (lw_at lw_m5 130 rfl) rfl
theorem q1203 : (Jvm.Cond.code ({ cls := "HeldCoats$Days", name := "does", desc := "(LHeldCoats$Reign;)I" } : Jvm.MethodName) prog_8_method_2_code (2 : Nat) (Option.some Jvm.ClassFile.FieldType.int)) ∈ lw_all := lw_g (lw_at lw_m5 131 rfl) rfl
theorem q1204 : (Jvm.Cond.methodLink "HeldCoats$Days" (20 : Nat) ({ cls := "HeldCoats$Reign", name := "passAll", desc := "(I)I" } : Jvm.MethodName)) ∈ lw_all := lw_g (lw_at lw_m5 132 rfl) rfl
theorem q1574 : (Jvm.Cond.instantiable "HeldCoats$Days" (1 : Nat)) ∈ lw_all := lw_g (lw_at lw_m7 22 rfl) rfl
theorem q1579 : (Jvm.Cond.instanceMethod ({ cls := "HeldCoats$Days", name := "<init>", desc := "(I)V" } : Jvm.MethodName)) ∈ lw_all := lw_g (lw_at lw_m7 27 rfl) rfl
theorem q1580 : (Jvm.Cond.code ({ cls := "HeldCoats$Days", name := "<init>", desc := "(I)V" } : Jvm.MethodName) prog_8_method_1_code (2 : Nat) (Option.none : Option Jvm.ClassFile.FieldType)) ∈ lw_all := lw_g (lw_at lw_m7 28 rfl) rfl
theorem q1581 : (Jvm.Cond.methodLinkNest "HeldCoats$Days" (3 : Nat) ({ cls := "HeldCoats$Act", name := "<init>", desc := "()V" } : Jvm.MethodName) "HeldCoats") ∈ lw_tbl := lw_at lw_m7 29 rfl
theorem q1582 : (Jvm.Cond.fieldLink "HeldCoats$Days" (9 : Nat) "HeldCoats$Days" "many" "I") ∈ lw_all := lw_g (lw_at lw_m7 30 rfl) rfl
theorem q1583 : (Jvm.Cond.laysFinal "HeldCoats$Days" "HeldCoats$Days" "many" "I") ∈ lw_all := lw_g (lw_at lw_m7 31 rfl) rfl
theorem q1584 : (Jvm.Cond.soleField "HeldCoats$Days" "many") ∈ lw_all := lw_g (lw_at lw_m7 32 rfl) rfl
theorem q1585 : (Jvm.Cond.superclass "HeldCoats$Days" "HeldCoats$Act") ∈ lw_all := lw_g (lw_at lw_m7 33 rfl) rfl
theorem q2536 : (Jvm.Cond.castable "HeldCoats$Days" "HeldCoats$Act") ∈ lw_tbl := lw_at lw_m11 24 rfl
theorem q2559 : (Jvm.Cond.castable "HeldCoats$Days" "java/lang/Object") ∈ lw_tbl := lw_at lw_m11 47 rfl
theorem q152 : (Jvm.Cond.initialized "HeldCoats$SentenceReader") ∈ lw_all := lw_g (lw_at lw_m1 40 rfl) rfl
theorem q227 : (Jvm.Cond.fieldLinkNest "HeldCoats$SentenceReader" (94 : Nat) "HeldCoats$Capital" "men" "Ljava/util/ArrayList;" "HeldCoats") ∈ lw_tbl := lw_at lw_m1 115 rfl
theorem q233 : (Jvm.Cond.fieldLinkNest "HeldCoats$SentenceReader" (106 : Nat) "HeldCoats$Capital" "coats" "Ljava/util/ArrayList;" "HeldCoats") ∈ lw_tbl := lw_at lw_m1 121 rfl
theorem q478 : (Jvm.Cond.fieldLink "HeldCoats$SentenceReader" (23 : Nat) "HeldCoats$SentenceReader" "kind" "I") ∈ lw_all := lw_g (lw_at lw_m2 126 rfl) rfl
theorem q479 : (Jvm.Cond.sameField "HeldCoats$SentenceReader" "HeldCoats$Reader" "kind" "I") ∈ lw_all := lw_g (lw_at lw_m2 127 rfl) rfl
theorem q484 : (Jvm.Cond.fieldLink "HeldCoats$SentenceReader" (56 : Nat) "HeldCoats$SentenceReader" "sign" "I") ∈ lw_all := lw_g (lw_at lw_m2 132 rfl) rfl
theorem q485 : (Jvm.Cond.sameField "HeldCoats$SentenceReader" "HeldCoats$Reader" "sign" "I") ∈ lw_all := lw_g (lw_at lw_m2 133 rfl) rfl
theorem q925 : (Jvm.Cond.selects "HeldCoats$SentenceReader" ({ cls := "HeldCoats$Reader", name := "holdNumber", desc := "(II)I" } : Jvm.MethodName) ({ cls := "HeldCoats$Reader", name := "holdNumber", desc := "(II)I" } : Jvm.MethodName)) ∈ lw_all := lw_g (lw_at lw_m4 93 rfl) rfl
theorem q987 : (Jvm.Cond.selects "HeldCoats$SentenceReader" ({ cls := "java/lang/Object", name := "getClass", desc := "()Ljava/lang/Class;" } : Jvm.MethodName) ({ cls := "java/lang/Object", name := "getClass", desc := "()Ljava/lang/Class;" } : Jvm.MethodName)) ∈ lw_all := lw_g (lw_at lw_m4 155 rfl) rfl
theorem q1627 : (Jvm.Cond.instantiable "HeldCoats$SentenceReader" (12 : Nat)) ∈ lw_all := lw_g (lw_at lw_m7 75 rfl) rfl
theorem q1629 : (Jvm.Cond.instanceMethod ({ cls := "HeldCoats$SentenceReader", name := "<init>", desc := "([BILHeldCoats$Capital;)V" } : Jvm.MethodName)) ∈ lw_all := lw_g (lw_at lw_m7 77 rfl) rfl
theorem q1630 : (Jvm.Cond.code ({ cls := "HeldCoats$SentenceReader", name := "<init>", desc := "([BILHeldCoats$Capital;)V" } : Jvm.MethodName) prog_20_method_1_code (4 : Nat) (Option.none : Option Jvm.ClassFile.FieldType)) ∈ lw_all := lw_g (lw_at lw_m7 78 rfl) rfl
theorem q1631 : (Jvm.Cond.methodLink "HeldCoats$SentenceReader" (3 : Nat) ({ cls := "HeldCoats$Reader", name := "<init>", desc := "([BII)V" } : Jvm.MethodName)) ∈ lw_all := lw_g (lw_at lw_m7 79 rfl) rfl
theorem q1632 : (Jvm.Cond.fieldLink "HeldCoats$SentenceReader" (9 : Nat) "HeldCoats$SentenceReader" "c" "LHeldCoats$Capital;") ∈ lw_all := lw_g (lw_at lw_m7 80 rfl) rfl
theorem q1633 : (Jvm.Cond.fieldLink "HeldCoats$SentenceReader" (73 : Nat) "HeldCoats$SentenceReader" "ones" "I") ∈ lw_all := lw_g (lw_at lw_m7 81 rfl) rfl
theorem q1635 : (Jvm.Cond.fieldLink "HeldCoats$SentenceReader" (76 : Nat) "HeldCoats$SentenceReader" "within" "I") ∈ lw_all := lw_g (lw_at lw_m7 83 rfl) rfl
theorem q1636 : (Jvm.Cond.laysFinal "HeldCoats$SentenceReader" "HeldCoats$SentenceReader" "c" "LHeldCoats$Capital;") ∈ lw_all := lw_g (lw_at lw_m7 84 rfl) rfl
theorem q1637 : (Jvm.Cond.soleField "HeldCoats$SentenceReader" "c") ∈ lw_all := lw_g (lw_at lw_m7 85 rfl) rfl
theorem q1638 : (Jvm.Cond.lays "HeldCoats$SentenceReader" "HeldCoats$SentenceReader" "ones" "I") ∈ lw_all := lw_g (lw_at lw_m7 86 rfl) rfl
theorem q1639 : (Jvm.Cond.soleField "HeldCoats$SentenceReader" "ones") ∈ lw_all := lw_g (lw_at lw_m7 87 rfl) rfl
theorem q1640 : (Jvm.Cond.lays "HeldCoats$SentenceReader" "HeldCoats$SentenceReader" "within" "I") ∈ lw_all := lw_g (lw_at lw_m7 88 rfl) rfl
theorem q1641 : (Jvm.Cond.soleField "HeldCoats$SentenceReader" "within") ∈ lw_all := lw_g (lw_at lw_m7 89 rfl) rfl
theorem q1642 : (Jvm.Cond.laysFinal "HeldCoats$SentenceReader" "HeldCoats$Reader" "tape" "[B") ∈ lw_all := lw_g (lw_at lw_m7 90 rfl) rfl
theorem q1643 : (Jvm.Cond.laysFinal "HeldCoats$SentenceReader" "HeldCoats$Reader" "size" "I") ∈ lw_all := lw_g (lw_at lw_m7 91 rfl) rfl
theorem q1644 : (Jvm.Cond.laysFinal "HeldCoats$SentenceReader" "HeldCoats$Reader" "limit" "I") ∈ lw_all := lw_g (lw_at lw_m7 92 rfl) rfl
theorem q1645 : (Jvm.Cond.lays "HeldCoats$SentenceReader" "HeldCoats$Reader" "to" "I") ∈ lw_all := lw_g (lw_at lw_m7 93 rfl) rfl
theorem q1646 : (Jvm.Cond.lays "HeldCoats$SentenceReader" "HeldCoats$Reader" "kind" "I") ∈ lw_all := lw_g (lw_at lw_m7 94 rfl) rfl
theorem q1647 : (Jvm.Cond.lays "HeldCoats$SentenceReader" "HeldCoats$Reader" "from" "I") ∈ lw_all := lw_g (lw_at lw_m7 95 rfl) rfl
theorem q1648 : (Jvm.Cond.lays "HeldCoats$SentenceReader" "HeldCoats$Reader" "number" "I") ∈ lw_all := lw_g (lw_at lw_m7 96 rfl) rfl
theorem q1649 : (Jvm.Cond.lays "HeldCoats$SentenceReader" "HeldCoats$Reader" "sign" "I") ∈ lw_all := lw_g (lw_at lw_m7 97 rfl) rfl
theorem q1650 : (Jvm.Cond.lays "HeldCoats$SentenceReader" "HeldCoats$Reader" "word" "Ljava/lang/String;") ∈ lw_all := lw_g (lw_at lw_m7 98 rfl) rfl
theorem q1651 : (Jvm.Cond.superclass "HeldCoats$SentenceReader" "HeldCoats$Reader") ∈ lw_all := lw_g (lw_at lw_m7 99 rfl) rfl
theorem q1653 : (Jvm.Cond.instanceMethod ({ cls := "HeldCoats$SentenceReader", name := "read", desc := "()LHeldCoats$Cond;" } : Jvm.MethodName)) ∈ lw_all := lw_g (lw_at lw_m7 101 rfl) rfl
theorem q1654 : (Jvm.Cond.selects "HeldCoats$SentenceReader" ({ cls := "HeldCoats$SentenceReader", name := "read", desc := "()LHeldCoats$Cond;" } : Jvm.MethodName) ({ cls := "HeldCoats$SentenceReader", name := "read", desc := "()LHeldCoats$Cond;" } : Jvm.MethodName)) ∈ lw_all := lw_g (lw_at lw_m7 102 rfl) rfl
theorem q1655 : (Jvm.Cond.code ({ cls := "HeldCoats$SentenceReader", name := "read", desc := "()LHeldCoats$Cond;" } : Jvm.MethodName) prog_20_method_2_code (2 : Nat) (Option.some (Jvm.ClassFile.FieldType.object "HeldCoats$Cond"))) ∈ lw_all := lw_g (lw_at lw_m7 103 rfl) rfl
theorem q1656 : (Jvm.Cond.methodLink "HeldCoats$SentenceReader" (15 : Nat) ({ cls := "HeldCoats$SentenceReader", name := "go", desc := "()V" } : Jvm.MethodName)) ∈ lw_all := lw_g (lw_at lw_m7 104 rfl) rfl
theorem q1657 : (Jvm.Cond.sameMethod "HeldCoats$SentenceReader" "HeldCoats$Reader" "go" "()V") ∈ lw_all := lw_g (lw_at lw_m7 105 rfl) rfl
theorem q1658 : (Jvm.Cond.selects "HeldCoats$SentenceReader" ({ cls := "HeldCoats$SentenceReader", name := "go", desc := "()V" } : Jvm.MethodName) ({ cls := "HeldCoats$Reader", name := "go", desc := "()V" } : Jvm.MethodName)) ∈ lw_all := lw_g (lw_at lw_m7 106 rfl) rfl
theorem q1659 : (Jvm.Cond.methodLink "HeldCoats$SentenceReader" (19 : Nat) ({ cls := "HeldCoats$SentenceReader", name := "or", desc := "()LHeldCoats$Cond;" } : Jvm.MethodName)) ∈ lw_all := lw_g (lw_at lw_m7 107 rfl) rfl
theorem q1660 : (Jvm.Cond.privateMethod ({ cls := "HeldCoats$SentenceReader", name := "or", desc := "()LHeldCoats$Cond;" } : Jvm.MethodName)) ∈ lw_tbl := lw_at lw_m7 108 rfl
theorem q1661 : (Jvm.Cond.instanceMethod ({ cls := "HeldCoats$SentenceReader", name := "or", desc := "()LHeldCoats$Cond;" } : Jvm.MethodName)) ∈ lw_all := lw_g (lw_at lw_m7 109 rfl) rfl
theorem q1662 : (Jvm.Cond.code ({ cls := "HeldCoats$SentenceReader", name := "or", desc := "()LHeldCoats$Cond;" } : Jvm.MethodName) prog_20_method_3_code (2 : Nat) (Option.some (Jvm.ClassFile.FieldType.object "HeldCoats$Cond"))) ∈ lw_all := lw_g (lw_at lw_m7 110 rfl) rfl
theorem q1663 : (Jvm.Cond.methodLink "HeldCoats$SentenceReader" (31 : Nat) ({ cls := "HeldCoats$SentenceReader", name := "and", desc := "()LHeldCoats$Cond;" } : Jvm.MethodName)) ∈ lw_all := lw_g (lw_at lw_m7 111 rfl) rfl
theorem q1664 : (Jvm.Cond.privateMethod ({ cls := "HeldCoats$SentenceReader", name := "and", desc := "()LHeldCoats$Cond;" } : Jvm.MethodName)) ∈ lw_tbl := lw_at lw_m7 112 rfl
theorem q1665 : (Jvm.Cond.instanceMethod ({ cls := "HeldCoats$SentenceReader", name := "and", desc := "()LHeldCoats$Cond;" } : Jvm.MethodName)) ∈ lw_all := lw_g (lw_at lw_m7 113 rfl) rfl
theorem q1666 : (Jvm.Cond.code ({ cls := "HeldCoats$SentenceReader", name := "and", desc := "()LHeldCoats$Cond;" } : Jvm.MethodName) prog_20_method_4_code (2 : Nat) (Option.some (Jvm.ClassFile.FieldType.object "HeldCoats$Cond"))) ∈ lw_all := lw_g (lw_at lw_m7 114 rfl) rfl
theorem q1667 : (Jvm.Cond.methodLink "HeldCoats$SentenceReader" (44 : Nat) ({ cls := "HeldCoats$SentenceReader", name := "says", desc := "()LHeldCoats$Cond;" } : Jvm.MethodName)) ∈ lw_all := lw_g (lw_at lw_m7 115 rfl) rfl
theorem q1668 : (Jvm.Cond.privateMethod ({ cls := "HeldCoats$SentenceReader", name := "says", desc := "()LHeldCoats$Cond;" } : Jvm.MethodName)) ∈ lw_tbl := lw_at lw_m7 116 rfl
theorem q1669 : (Jvm.Cond.instanceMethod ({ cls := "HeldCoats$SentenceReader", name := "says", desc := "()LHeldCoats$Cond;" } : Jvm.MethodName)) ∈ lw_all := lw_g (lw_at lw_m7 117 rfl) rfl
theorem q1670 : (Jvm.Cond.code ({ cls := "HeldCoats$SentenceReader", name := "says", desc := "()LHeldCoats$Cond;" } : Jvm.MethodName) prog_20_method_6_code (9 : Nat) (Option.some (Jvm.ClassFile.FieldType.object "HeldCoats$Cond"))) ∈ lw_all := lw_g (lw_at lw_m7 118 rfl) rfl
theorem q1671 : (Jvm.Cond.stringRef "HeldCoats$SentenceReader" (59 : Nat) "not") ∈ lw_tbl := lw_at lw_m7 119 rfl
theorem q1672 : (Jvm.Cond.methodLink "HeldCoats$SentenceReader" (35 : Nat) ({ cls := "HeldCoats$SentenceReader", name := "is", desc := "(Ljava/lang/String;)Z" } : Jvm.MethodName)) ∈ lw_all := lw_g (lw_at lw_m7 120 rfl) rfl
theorem q1673 : (Jvm.Cond.sameMethod "HeldCoats$SentenceReader" "HeldCoats$Reader" "is" "(Ljava/lang/String;)Z") ∈ lw_all := lw_g (lw_at lw_m7 121 rfl) rfl
theorem q1674 : (Jvm.Cond.selects "HeldCoats$SentenceReader" ({ cls := "HeldCoats$SentenceReader", name := "is", desc := "(Ljava/lang/String;)Z" } : Jvm.MethodName) ({ cls := "HeldCoats$Reader", name := "is", desc := "(Ljava/lang/String;)Z" } : Jvm.MethodName)) ∈ lw_all := lw_g (lw_at lw_m7 122 rfl) rfl
theorem q1675 : (Jvm.Cond.stringRef "HeldCoats$SentenceReader" (61 : Nat) "bare") ∈ lw_tbl := lw_at lw_m7 123 rfl
theorem q1676 : (Jvm.Cond.stringRef "HeldCoats$SentenceReader" (63 : Nat) "held") ∈ lw_tbl := lw_at lw_m7 124 rfl
theorem q1677 : (Jvm.Cond.stringRef "HeldCoats$SentenceReader" (65 : Nat) "of") ∈ lw_tbl := lw_at lw_m7 125 rfl
theorem q1678 : (Jvm.Cond.stringRef "HeldCoats$SentenceReader" (67 : Nat) "under") ∈ lw_tbl := lw_at lw_m7 126 rfl
theorem q1679 : (Jvm.Cond.methodLink "HeldCoats$SentenceReader" (69 : Nat) ({ cls := "HeldCoats$SentenceReader", name := "numbered", desc := "()I" } : Jvm.MethodName)) ∈ lw_all := lw_g (lw_at lw_m7 127 rfl) rfl
theorem q1680 : (Jvm.Cond.privateMethod ({ cls := "HeldCoats$SentenceReader", name := "numbered", desc := "()I" } : Jvm.MethodName)) ∈ lw_tbl := lw_at lw_m7 128 rfl
theorem q1681 : (Jvm.Cond.instanceMethod ({ cls := "HeldCoats$SentenceReader", name := "numbered", desc := "()I" } : Jvm.MethodName)) ∈ lw_all := lw_g (lw_at lw_m7 129 rfl) rfl
theorem q1682 : (Jvm.Cond.code ({ cls := "HeldCoats$SentenceReader", name := "numbered", desc := "()I" } : Jvm.MethodName) prog_20_method_5_code (1 : Nat) (Option.some Jvm.ClassFile.FieldType.int)) ∈ lw_all := lw_g (lw_at lw_m7 130 rfl) rfl
theorem q1683 : (Jvm.Cond.stringRef "HeldCoats$SentenceReader" (48 : Nat) "worth") ∈ lw_tbl := lw_at lw_m7 131 rfl
theorem q1684 : (Jvm.Cond.stringRef "HeldCoats$SentenceReader" (50 : Nat) "days") ∈ lw_tbl := lw_at lw_m7 132 rfl
theorem q1685 : (Jvm.Cond.stringRef "HeldCoats$SentenceReader" (52 : Nat) "cloth") ∈ lw_tbl := lw_at lw_m7 133 rfl
theorem q1686 : (Jvm.Cond.stringRef "HeldCoats$SentenceReader" (54 : Nat) "number") ∈ lw_tbl := lw_at lw_m7 134 rfl
theorem q1687 : (Jvm.Cond.methodLink "HeldCoats$SentenceReader" (27 : Nat) ({ cls := "HeldCoats$SentenceReader", name := "need", desc := "(ZI)V" } : Jvm.MethodName)) ∈ lw_all := lw_g (lw_at lw_m7 135 rfl) rfl
theorem q1688 : (Jvm.Cond.sameMethod "HeldCoats$SentenceReader" "HeldCoats$Reader" "need" "(ZI)V") ∈ lw_all := lw_g (lw_at lw_m7 136 rfl) rfl
theorem q1689 : (Jvm.Cond.selects "HeldCoats$SentenceReader" ({ cls := "HeldCoats$SentenceReader", name := "need", desc := "(ZI)V" } : Jvm.MethodName) ({ cls := "HeldCoats$Reader", name := "need", desc := "(ZI)V" } : Jvm.MethodName)) ∈ lw_all := lw_g (lw_at lw_m7 137 rfl) rfl
theorem q1690 : (Jvm.Cond.methodLink "HeldCoats$SentenceReader" (79 : Nat) ({ cls := "HeldCoats$SentenceReader", name := "bracket", desc := "()LHeldCoats$Cond;" } : Jvm.MethodName)) ∈ lw_all := lw_g (lw_at lw_m7 138 rfl) rfl
theorem q1691 : (Jvm.Cond.privateMethod ({ cls := "HeldCoats$SentenceReader", name := "bracket", desc := "()LHeldCoats$Cond;" } : Jvm.MethodName)) ∈ lw_tbl := lw_at lw_m7 139 rfl
theorem q1692 : (Jvm.Cond.instanceMethod ({ cls := "HeldCoats$SentenceReader", name := "bracket", desc := "()LHeldCoats$Cond;" } : Jvm.MethodName)) ∈ lw_all := lw_g (lw_at lw_m7 140 rfl) rfl
theorem q1693 : (Jvm.Cond.code ({ cls := "HeldCoats$SentenceReader", name := "bracket", desc := "()LHeldCoats$Cond;" } : Jvm.MethodName) prog_20_method_7_code (2 : Nat) (Option.some (Jvm.ClassFile.FieldType.object "HeldCoats$Cond"))) ∈ lw_all := lw_g (lw_at lw_m7 141 rfl) rfl
theorem q1694 : (Jvm.Cond.classLink "HeldCoats$SentenceReader" (82 : Nat) "HeldCoats$Not") ∈ lw_all := lw_g (lw_at lw_m7 142 rfl) rfl
theorem q1696 : (Jvm.Cond.methodLink "HeldCoats$SentenceReader" (84 : Nat) ({ cls := "HeldCoats$Not", name := "<init>", desc := "(LHeldCoats$Cond;)V" } : Jvm.MethodName)) ∈ lw_all := lw_g (lw_at lw_m7 144 rfl) rfl
theorem q1707 : (Jvm.Cond.classLink "HeldCoats$SentenceReader" (87 : Nat) "HeldCoats$IsSo") ∈ lw_all := lw_g (lw_at lw_m7 155 rfl) rfl
theorem q1709 : (Jvm.Cond.methodLink "HeldCoats$SentenceReader" (89 : Nat) ({ cls := "HeldCoats$IsSo", name := "<init>", desc := "(Z)V" } : Jvm.MethodName)) ∈ lw_all := lw_g (lw_at lw_m7 157 rfl) rfl
theorem q1717 : (Jvm.Cond.classLink "HeldCoats$SentenceReader" (92 : Nat) "HeldCoats$Of") ∈ lw_all := lw_g (lw_at lw_m7 165 rfl) rfl
theorem q1719 : (Jvm.Cond.methodLink "HeldCoats$SentenceReader" (100 : Nat) ({ cls := "HeldCoats$SentenceReader", name := "one", desc := "(Ljava/util/ArrayList;)I" } : Jvm.MethodName)) ∈ lw_all := lw_g (lw_at lw_m7 167 rfl) rfl
theorem q1720 : (Jvm.Cond.sameMethod "HeldCoats$SentenceReader" "HeldCoats$Reader" "one" "(Ljava/util/ArrayList;)I") ∈ lw_all := lw_g (lw_at lw_m7 168 rfl) rfl
theorem q1721 : (Jvm.Cond.selects "HeldCoats$SentenceReader" ({ cls := "HeldCoats$SentenceReader", name := "one", desc := "(Ljava/util/ArrayList;)I" } : Jvm.MethodName) ({ cls := "HeldCoats$Reader", name := "one", desc := "(Ljava/util/ArrayList;)I" } : Jvm.MethodName)) ∈ lw_all := lw_g (lw_at lw_m7 169 rfl) rfl
theorem q1722 : (Jvm.Cond.methodLink "HeldCoats$SentenceReader" (104 : Nat) ({ cls := "HeldCoats$Of", name := "<init>", desc := "(ZI)V" } : Jvm.MethodName)) ∈ lw_all := lw_g (lw_at lw_m7 170 rfl) rfl
theorem q1733 : (Jvm.Cond.methodLink "HeldCoats$SentenceReader" (109 : Nat) ({ cls := "HeldCoats$SentenceReader", name := "than", desc := "(I)LHeldCoats$Cond;" } : Jvm.MethodName)) ∈ lw_all := lw_g (lw_at lw_m7 181 rfl) rfl
theorem q1734 : (Jvm.Cond.privateMethod ({ cls := "HeldCoats$SentenceReader", name := "than", desc := "(I)LHeldCoats$Cond;" } : Jvm.MethodName)) ∈ lw_tbl := lw_at lw_m7 182 rfl
theorem q1735 : (Jvm.Cond.instanceMethod ({ cls := "HeldCoats$SentenceReader", name := "than", desc := "(I)LHeldCoats$Cond;" } : Jvm.MethodName)) ∈ lw_all := lw_g (lw_at lw_m7 183 rfl) rfl
theorem q1736 : (Jvm.Cond.code ({ cls := "HeldCoats$SentenceReader", name := "than", desc := "(I)LHeldCoats$Cond;" } : Jvm.MethodName) prog_20_method_8_code (3 : Nat) (Option.some (Jvm.ClassFile.FieldType.object "HeldCoats$Cond"))) ∈ lw_all := lw_g (lw_at lw_m7 184 rfl) rfl
theorem q1737 : (Jvm.Cond.classLink "HeldCoats$SentenceReader" (113 : Nat) "HeldCoats$Than") ∈ lw_all := lw_g (lw_at lw_m7 185 rfl) rfl
theorem q1739 : (Jvm.Cond.methodLink "HeldCoats$SentenceReader" (115 : Nat) ({ cls := "HeldCoats$SentenceReader", name := "number", desc := "(II)I" } : Jvm.MethodName)) ∈ lw_all := lw_g (lw_at lw_m7 187 rfl) rfl
theorem q1740 : (Jvm.Cond.sameMethod "HeldCoats$SentenceReader" "HeldCoats$Reader" "number" "(II)I") ∈ lw_all := lw_g (lw_at lw_m7 188 rfl) rfl
theorem q1741 : (Jvm.Cond.selects "HeldCoats$SentenceReader" ({ cls := "HeldCoats$SentenceReader", name := "number", desc := "(II)I" } : Jvm.MethodName) ({ cls := "HeldCoats$Reader", name := "number", desc := "(II)I" } : Jvm.MethodName)) ∈ lw_all := lw_g (lw_at lw_m7 189 rfl) rfl
theorem q1742 : (Jvm.Cond.methodLink "HeldCoats$SentenceReader" (118 : Nat) ({ cls := "HeldCoats$Than", name := "<init>", desc := "(III)V" } : Jvm.MethodName)) ∈ lw_all := lw_g (lw_at lw_m7 190 rfl) rfl
theorem q1756 : (Jvm.Cond.stringRef "HeldCoats$SentenceReader" (47 : Nat) "and") ∈ lw_tbl := lw_at lw_m7 204 rfl
theorem q1757 : (Jvm.Cond.classLink "HeldCoats$SentenceReader" (39 : Nat) "HeldCoats$Two") ∈ lw_all := lw_g (lw_at lw_m7 205 rfl) rfl
theorem q1759 : (Jvm.Cond.methodLink "HeldCoats$SentenceReader" (41 : Nat) ({ cls := "HeldCoats$Two", name := "<init>", desc := "(LHeldCoats$Cond;LHeldCoats$Cond;Z)V" } : Jvm.MethodName)) ∈ lw_all := lw_g (lw_at lw_m7 207 rfl) rfl
theorem q1773 : (Jvm.Cond.stringRef "HeldCoats$SentenceReader" (34 : Nat) "or") ∈ lw_tbl := lw_at lw_m7 221 rfl
theorem q2520 : (Jvm.Cond.selects "HeldCoats$SentenceReader" ({ cls := "HeldCoats$Reader", name := "need", desc := "(ZI)V" } : Jvm.MethodName) ({ cls := "HeldCoats$Reader", name := "need", desc := "(ZI)V" } : Jvm.MethodName)) ∈ lw_all := lw_g (lw_at lw_m11 8 rfl) rfl
theorem q2524 : (Jvm.Cond.selects "HeldCoats$SentenceReader" ({ cls := "HeldCoats$Reader", name := "go", desc := "()V" } : Jvm.MethodName) ({ cls := "HeldCoats$Reader", name := "go", desc := "()V" } : Jvm.MethodName)) ∈ lw_all := lw_g (lw_at lw_m11 12 rfl) rfl
theorem q2528 : (Jvm.Cond.selects "HeldCoats$SentenceReader" ({ cls := "HeldCoats$Reader", name := "isName", desc := "()Z" } : Jvm.MethodName) ({ cls := "HeldCoats$Reader", name := "isName", desc := "()Z" } : Jvm.MethodName)) ∈ lw_all := lw_g (lw_at lw_m11 16 rfl) rfl
theorem q2532 : (Jvm.Cond.selects "HeldCoats$SentenceReader" ({ cls := "HeldCoats$Reader", name := "find", desc := "(Ljava/util/ArrayList;)I" } : Jvm.MethodName) ({ cls := "HeldCoats$Reader", name := "find", desc := "(Ljava/util/ArrayList;)I" } : Jvm.MethodName)) ∈ lw_all := lw_g (lw_at lw_m11 20 rfl) rfl
theorem q2560 : (Jvm.Cond.castable "HeldCoats$SentenceReader" "java/lang/Object") ∈ lw_tbl := lw_at lw_m11 48 rfl
theorem q153 : (Jvm.Cond.initialized "HeldCoats$Cond") ∈ lw_all := lw_g (lw_at lw_m1 41 rfl) rfl
theorem q1700 : (Jvm.Cond.instanceMethod ({ cls := "HeldCoats$Cond", name := "<init>", desc := "()V" } : Jvm.MethodName)) ∈ lw_all := lw_g (lw_at lw_m7 148 rfl) rfl
theorem q1701 : (Jvm.Cond.code ({ cls := "HeldCoats$Cond", name := "<init>", desc := "()V" } : Jvm.MethodName) prog_7_method_1_code (1 : Nat) (Option.none : Option Jvm.ClassFile.FieldType)) ∈ lw_all := lw_g (lw_at lw_m7 149 rfl) rfl
theorem q1702 : (Jvm.Cond.methodLink "HeldCoats$Cond" (1 : Nat) ({ cls := "java/lang/Object", name := "<init>", desc := "()V" } : Jvm.MethodName)) ∈ lw_all := lw_g (lw_at lw_m7 150 rfl) rfl
theorem q1779 : (Jvm.Cond.declares ({ cls := "HeldCoats$Cond", name := "holds", desc := "(LHeldCoats$Reign;I)Z" } : Jvm.MethodName)) ∈ lw_tbl := lw_at lw_m7 227 rfl
theorem q1780 : (Jvm.Cond.sameMethod "HeldCoats$Cond" "HeldCoats$Cond" "holds" "(LHeldCoats$Reign;I)Z") ∈ lw_all := lw_g (lw_at lw_m7 228 rfl) rfl
theorem q154 : (Jvm.Cond.initialized "HeldCoats$Not") ∈ lw_all := lw_g (lw_at lw_m1 42 rfl) rfl
theorem q984 : (Jvm.Cond.selects "HeldCoats$Not" ({ cls := "java/lang/Object", name := "getClass", desc := "()Ljava/lang/Class;" } : Jvm.MethodName) ({ cls := "java/lang/Object", name := "getClass", desc := "()Ljava/lang/Class;" } : Jvm.MethodName)) ∈ lw_all := lw_g (lw_at lw_m4 152 rfl) rfl
theorem q1695 : (Jvm.Cond.instantiable "HeldCoats$Not" (1 : Nat)) ∈ lw_all := lw_g (lw_at lw_m7 143 rfl) rfl
theorem q1697 : (Jvm.Cond.instanceMethod ({ cls := "HeldCoats$Not", name := "<init>", desc := "(LHeldCoats$Cond;)V" } : Jvm.MethodName)) ∈ lw_all := lw_g (lw_at lw_m7 145 rfl) rfl
theorem q1698 : (Jvm.Cond.code ({ cls := "HeldCoats$Not", name := "<init>", desc := "(LHeldCoats$Cond;)V" } : Jvm.MethodName) prog_15_method_1_code (2 : Nat) (Option.none : Option Jvm.ClassFile.FieldType)) ∈ lw_all := lw_g (lw_at lw_m7 146 rfl) rfl
theorem q1699 : (Jvm.Cond.methodLinkNest "HeldCoats$Not" (1 : Nat) ({ cls := "HeldCoats$Cond", name := "<init>", desc := "()V" } : Jvm.MethodName) "HeldCoats") ∈ lw_tbl := lw_at lw_m7 147 rfl
theorem q1703 : (Jvm.Cond.fieldLink "HeldCoats$Not" (7 : Nat) "HeldCoats$Not" "x" "LHeldCoats$Cond;") ∈ lw_all := lw_g (lw_at lw_m7 151 rfl) rfl
theorem q1704 : (Jvm.Cond.laysFinal "HeldCoats$Not" "HeldCoats$Not" "x" "LHeldCoats$Cond;") ∈ lw_all := lw_g (lw_at lw_m7 152 rfl) rfl
theorem q1705 : (Jvm.Cond.soleField "HeldCoats$Not" "x") ∈ lw_all := lw_g (lw_at lw_m7 153 rfl) rfl
theorem q1706 : (Jvm.Cond.superclass "HeldCoats$Not" "HeldCoats$Cond") ∈ lw_all := lw_g (lw_at lw_m7 154 rfl) rfl
theorem q1786 : (Jvm.Cond.selects "HeldCoats$Not" ({ cls := "HeldCoats$Cond", name := "holds", desc := "(LHeldCoats$Reign;I)Z" } : Jvm.MethodName) ({ cls := "HeldCoats$Not", name := "holds", desc := "(LHeldCoats$Reign;I)Z" } : Jvm.MethodName)) ∈ lw_all := lw_g (lw_at lw_m7 234 rfl) rfl
theorem q1787 : (Jvm.Cond.instanceMethod ({ cls := "HeldCoats$Not", name := "holds", desc := "(LHeldCoats$Reign;I)Z" } : Jvm.MethodName)) ∈ lw_all := lw_g (lw_at lw_m7 235 rfl) rfl
theorem q1788 : (Jvm.Cond.code ({ cls := "HeldCoats$Not", name := "holds", desc := "(LHeldCoats$Reign;I)Z" } : Jvm.MethodName) prog_15_method_2_code (3 : Nat) (Option.some Jvm.ClassFile.FieldType.boolean)) ∈ lw_all := lw_g (lw_at lw_m7 236 rfl) rfl
theorem q1789 : (Jvm.Cond.methodLink "HeldCoats$Not" (13 : Nat) ({ cls := "HeldCoats$Cond", name := "holds", desc := "(LHeldCoats$Reign;I)Z" } : Jvm.MethodName)) ∈ lw_all := lw_g (lw_at lw_m7 237 rfl) rfl
theorem q2561 : (Jvm.Cond.castable "HeldCoats$Not" "java/lang/Object") ∈ lw_tbl := lw_at lw_m11 49 rfl
theorem q155 : (Jvm.Cond.initialized "HeldCoats$IsSo") ∈ lw_all := lw_g (lw_at lw_m1 43 rfl) rfl
theorem q980 : (Jvm.Cond.selects "HeldCoats$IsSo" ({ cls := "java/lang/Object", name := "getClass", desc := "()Ljava/lang/Class;" } : Jvm.MethodName) ({ cls := "java/lang/Object", name := "getClass", desc := "()Ljava/lang/Class;" } : Jvm.MethodName)) ∈ lw_all := lw_g (lw_at lw_m4 148 rfl) rfl
theorem q1708 : (Jvm.Cond.instantiable "HeldCoats$IsSo" (1 : Nat)) ∈ lw_all := lw_g (lw_at lw_m7 156 rfl) rfl
theorem q1710 : (Jvm.Cond.instanceMethod ({ cls := "HeldCoats$IsSo", name := "<init>", desc := "(Z)V" } : Jvm.MethodName)) ∈ lw_all := lw_g (lw_at lw_m7 158 rfl) rfl
theorem q1711 : (Jvm.Cond.code ({ cls := "HeldCoats$IsSo", name := "<init>", desc := "(Z)V" } : Jvm.MethodName) prog_10_method_1_code (2 : Nat) (Option.none : Option Jvm.ClassFile.FieldType)) ∈ lw_all := lw_g (lw_at lw_m7 159 rfl) rfl
theorem q1712 : (Jvm.Cond.methodLinkNest "HeldCoats$IsSo" (3 : Nat) ({ cls := "HeldCoats$Cond", name := "<init>", desc := "()V" } : Jvm.MethodName) "HeldCoats") ∈ lw_tbl := lw_at lw_m7 160 rfl
theorem q1713 : (Jvm.Cond.fieldLink "HeldCoats$IsSo" (9 : Nat) "HeldCoats$IsSo" "bare" "Z") ∈ lw_all := lw_g (lw_at lw_m7 161 rfl) rfl
theorem q1714 : (Jvm.Cond.laysFinal "HeldCoats$IsSo" "HeldCoats$IsSo" "bare" "Z") ∈ lw_all := lw_g (lw_at lw_m7 162 rfl) rfl
theorem q1715 : (Jvm.Cond.soleField "HeldCoats$IsSo" "bare") ∈ lw_all := lw_g (lw_at lw_m7 163 rfl) rfl
theorem q1716 : (Jvm.Cond.superclass "HeldCoats$IsSo" "HeldCoats$Cond") ∈ lw_all := lw_g (lw_at lw_m7 164 rfl) rfl
theorem q1781 : (Jvm.Cond.selects "HeldCoats$IsSo" ({ cls := "HeldCoats$Cond", name := "holds", desc := "(LHeldCoats$Reign;I)Z" } : Jvm.MethodName) ({ cls := "HeldCoats$IsSo", name := "holds", desc := "(LHeldCoats$Reign;I)Z" } : Jvm.MethodName)) ∈ lw_all := lw_g (lw_at lw_m7 229 rfl) rfl
theorem q1782 : (Jvm.Cond.instanceMethod ({ cls := "HeldCoats$IsSo", name := "holds", desc := "(LHeldCoats$Reign;I)Z" } : Jvm.MethodName)) ∈ lw_all := lw_g (lw_at lw_m7 230 rfl) rfl
theorem q1783 : (Jvm.Cond.code ({ cls := "HeldCoats$IsSo", name := "holds", desc := "(LHeldCoats$Reign;I)Z" } : Jvm.MethodName) prog_10_method_2_code (3 : Nat) (Option.some Jvm.ClassFile.FieldType.boolean)) ∈ lw_all := lw_g (lw_at lw_m7 231 rfl) rfl
theorem q1784 : (Jvm.Cond.methodLink "HeldCoats$IsSo" (15 : Nat) ({ cls := "HeldCoats$Reign", name := "on", desc := "(I)I" } : Jvm.MethodName)) ∈ lw_all := lw_g (lw_at lw_m7 232 rfl) rfl
theorem q1785 : (Jvm.Cond.methodLink "HeldCoats$IsSo" (21 : Nat) ({ cls := "HeldCoats$Reign", name := "holder", desc := "(I)I" } : Jvm.MethodName)) ∈ lw_all := lw_g (lw_at lw_m7 233 rfl) rfl
theorem q2562 : (Jvm.Cond.castable "HeldCoats$IsSo" "java/lang/Object") ∈ lw_tbl := lw_at lw_m11 50 rfl
theorem q156 : (Jvm.Cond.initialized "HeldCoats$Of") ∈ lw_all := lw_g (lw_at lw_m1 44 rfl) rfl
theorem q985 : (Jvm.Cond.selects "HeldCoats$Of" ({ cls := "java/lang/Object", name := "getClass", desc := "()Ljava/lang/Class;" } : Jvm.MethodName) ({ cls := "java/lang/Object", name := "getClass", desc := "()Ljava/lang/Class;" } : Jvm.MethodName)) ∈ lw_all := lw_g (lw_at lw_m4 153 rfl) rfl
theorem q1718 : (Jvm.Cond.instantiable "HeldCoats$Of" (2 : Nat)) ∈ lw_all := lw_g (lw_at lw_m7 166 rfl) rfl
theorem q1723 : (Jvm.Cond.instanceMethod ({ cls := "HeldCoats$Of", name := "<init>", desc := "(ZI)V" } : Jvm.MethodName)) ∈ lw_all := lw_g (lw_at lw_m7 171 rfl) rfl
theorem q1724 : (Jvm.Cond.code ({ cls := "HeldCoats$Of", name := "<init>", desc := "(ZI)V" } : Jvm.MethodName) prog_16_method_1_code (3 : Nat) (Option.none : Option Jvm.ClassFile.FieldType)) ∈ lw_all := lw_g (lw_at lw_m7 172 rfl) rfl
theorem q1725 : (Jvm.Cond.methodLinkNest "HeldCoats$Of" (1 : Nat) ({ cls := "HeldCoats$Cond", name := "<init>", desc := "()V" } : Jvm.MethodName) "HeldCoats") ∈ lw_tbl := lw_at lw_m7 173 rfl
theorem q1726 : (Jvm.Cond.fieldLink "HeldCoats$Of" (7 : Nat) "HeldCoats$Of" "man" "Z") ∈ lw_all := lw_g (lw_at lw_m7 174 rfl) rfl
theorem q1727 : (Jvm.Cond.fieldLink "HeldCoats$Of" (13 : Nat) "HeldCoats$Of" "which" "I") ∈ lw_all := lw_g (lw_at lw_m7 175 rfl) rfl
theorem q1728 : (Jvm.Cond.laysFinal "HeldCoats$Of" "HeldCoats$Of" "man" "Z") ∈ lw_all := lw_g (lw_at lw_m7 176 rfl) rfl
theorem q1729 : (Jvm.Cond.soleField "HeldCoats$Of" "man") ∈ lw_all := lw_g (lw_at lw_m7 177 rfl) rfl
theorem q1730 : (Jvm.Cond.laysFinal "HeldCoats$Of" "HeldCoats$Of" "which" "I") ∈ lw_all := lw_g (lw_at lw_m7 178 rfl) rfl
theorem q1731 : (Jvm.Cond.soleField "HeldCoats$Of" "which") ∈ lw_all := lw_g (lw_at lw_m7 179 rfl) rfl
theorem q1732 : (Jvm.Cond.superclass "HeldCoats$Of" "HeldCoats$Cond") ∈ lw_all := lw_g (lw_at lw_m7 180 rfl) rfl
theorem q1790 : (Jvm.Cond.instanceMethod ({ cls := "HeldCoats$Of", name := "holds", desc := "(LHeldCoats$Reign;I)Z" } : Jvm.MethodName)) ∈ lw_all := lw_g (lw_at lw_m7 238 rfl) rfl
theorem q1791 : (Jvm.Cond.code ({ cls := "HeldCoats$Of", name := "holds", desc := "(LHeldCoats$Reign;I)Z" } : Jvm.MethodName) prog_16_method_2_code (3 : Nat) (Option.some Jvm.ClassFile.FieldType.boolean)) ∈ lw_all := lw_g (lw_at lw_m7 239 rfl) rfl
theorem q1792 : (Jvm.Cond.methodLink "HeldCoats$Of" (17 : Nat) ({ cls := "HeldCoats$Reign", name := "holder", desc := "(I)I" } : Jvm.MethodName)) ∈ lw_all := lw_g (lw_at lw_m8 0 rfl) rfl
theorem q1793 : (Jvm.Cond.methodLink "HeldCoats$Of" (23 : Nat) ({ cls := "HeldCoats$Reign", name := "on", desc := "(I)I" } : Jvm.MethodName)) ∈ lw_all := lw_g (lw_at lw_m8 1 rfl) rfl
theorem q1803 : (Jvm.Cond.selects "HeldCoats$Of" ({ cls := "HeldCoats$Cond", name := "holds", desc := "(LHeldCoats$Reign;I)Z" } : Jvm.MethodName) ({ cls := "HeldCoats$Of", name := "holds", desc := "(LHeldCoats$Reign;I)Z" } : Jvm.MethodName)) ∈ lw_all := lw_g (lw_at lw_m8 11 rfl) rfl
theorem q2563 : (Jvm.Cond.castable "HeldCoats$Of" "java/lang/Object") ∈ lw_tbl := lw_at lw_m11 51 rfl
theorem q157 : (Jvm.Cond.initialized "HeldCoats$Than") ∈ lw_all := lw_g (lw_at lw_m1 45 rfl) rfl
theorem q219 : (Jvm.Cond.fieldLinkNest "HeldCoats$Than" (27 : Nat) "HeldCoats$Capital" "seats" "Ljava/util/ArrayList;" "HeldCoats") ∈ lw_tbl := lw_at lw_m1 107 rfl
theorem q271 : (Jvm.Cond.fieldLinkNest "HeldCoats$Than" (21 : Nat) "HeldCoats$Reign" "c" "LHeldCoats$Capital;" "HeldCoats") ∈ lw_tbl := lw_at lw_m1 159 rfl
theorem q286 : (Jvm.Cond.fieldLinkNest "HeldCoats$Than" (50 : Nat) "HeldCoats$Reign" "cloth" "[I" "HeldCoats") ∈ lw_tbl := lw_at lw_m1 174 rfl
theorem q940 : (Jvm.Cond.fieldLinkNest "HeldCoats$Than" (41 : Nat) "HeldCoats$Told" "number" "I" "HeldCoats") ∈ lw_tbl := lw_at lw_m4 108 rfl
theorem q989 : (Jvm.Cond.selects "HeldCoats$Than" ({ cls := "java/lang/Object", name := "getClass", desc := "()Ljava/lang/Class;" } : Jvm.MethodName) ({ cls := "java/lang/Object", name := "getClass", desc := "()Ljava/lang/Class;" } : Jvm.MethodName)) ∈ lw_all := lw_g (lw_at lw_m4 157 rfl) rfl
theorem q1738 : (Jvm.Cond.instantiable "HeldCoats$Than" (3 : Nat)) ∈ lw_all := lw_g (lw_at lw_m7 186 rfl) rfl
theorem q1743 : (Jvm.Cond.instanceMethod ({ cls := "HeldCoats$Than", name := "<init>", desc := "(III)V" } : Jvm.MethodName)) ∈ lw_all := lw_g (lw_at lw_m7 191 rfl) rfl
theorem q1744 : (Jvm.Cond.code ({ cls := "HeldCoats$Than", name := "<init>", desc := "(III)V" } : Jvm.MethodName) prog_22_method_1_code (4 : Nat) (Option.none : Option Jvm.ClassFile.FieldType)) ∈ lw_all := lw_g (lw_at lw_m7 192 rfl) rfl
theorem q1745 : (Jvm.Cond.methodLinkNest "HeldCoats$Than" (3 : Nat) ({ cls := "HeldCoats$Cond", name := "<init>", desc := "()V" } : Jvm.MethodName) "HeldCoats") ∈ lw_tbl := lw_at lw_m7 193 rfl
theorem q1746 : (Jvm.Cond.fieldLink "HeldCoats$Than" (9 : Nat) "HeldCoats$Than" "what" "I") ∈ lw_all := lw_g (lw_at lw_m7 194 rfl) rfl
theorem q1747 : (Jvm.Cond.fieldLink "HeldCoats$Than" (15 : Nat) "HeldCoats$Than" "sign" "I") ∈ lw_all := lw_g (lw_at lw_m7 195 rfl) rfl
theorem q1748 : (Jvm.Cond.fieldLink "HeldCoats$Than" (18 : Nat) "HeldCoats$Than" "number" "I") ∈ lw_all := lw_g (lw_at lw_m7 196 rfl) rfl
theorem q1749 : (Jvm.Cond.laysFinal "HeldCoats$Than" "HeldCoats$Than" "what" "I") ∈ lw_all := lw_g (lw_at lw_m7 197 rfl) rfl
theorem q1750 : (Jvm.Cond.soleField "HeldCoats$Than" "what") ∈ lw_all := lw_g (lw_at lw_m7 198 rfl) rfl
theorem q1751 : (Jvm.Cond.laysFinal "HeldCoats$Than" "HeldCoats$Than" "sign" "I") ∈ lw_all := lw_g (lw_at lw_m7 199 rfl) rfl
theorem q1752 : (Jvm.Cond.soleField "HeldCoats$Than" "sign") ∈ lw_all := lw_g (lw_at lw_m7 200 rfl) rfl
theorem q1753 : (Jvm.Cond.laysFinal "HeldCoats$Than" "HeldCoats$Than" "number" "I") ∈ lw_all := lw_g (lw_at lw_m7 201 rfl) rfl
theorem q1754 : (Jvm.Cond.soleField "HeldCoats$Than" "number") ∈ lw_all := lw_g (lw_at lw_m7 202 rfl) rfl
theorem q1755 : (Jvm.Cond.superclass "HeldCoats$Than" "HeldCoats$Cond") ∈ lw_all := lw_g (lw_at lw_m7 203 rfl) rfl
theorem q1794 : (Jvm.Cond.instanceMethod ({ cls := "HeldCoats$Than", name := "holds", desc := "(LHeldCoats$Reign;I)Z" } : Jvm.MethodName)) ∈ lw_all := lw_g (lw_at lw_m8 2 rfl) rfl
theorem q1795 : (Jvm.Cond.code ({ cls := "HeldCoats$Than", name := "holds", desc := "(LHeldCoats$Reign;I)Z" } : Jvm.MethodName) prog_22_method_2_code (4 : Nat) (Option.some Jvm.ClassFile.FieldType.boolean)) ∈ lw_all := lw_g (lw_at lw_m8 3 rfl) rfl
theorem q1796 : (Jvm.Cond.methodLink "HeldCoats$Than" (33 : Nat) ({ cls := "java/util/ArrayList", name := "get", desc := "(I)Ljava/lang/Object;" } : Jvm.MethodName)) ∈ lw_all := lw_g (lw_at lw_m8 4 rfl) rfl
theorem q1797 : (Jvm.Cond.classLink "HeldCoats$Than" (39 : Nat) "HeldCoats$Told") ∈ lw_all := lw_g (lw_at lw_m8 5 rfl) rfl
theorem q1798 : (Jvm.Cond.methodLinkNest "HeldCoats$Than" (42 : Nat) ({ cls := "HeldCoats", name := "lain", desc := "(LHeldCoats$Reign;I)I" } : Jvm.MethodName) "HeldCoats") ∈ lw_tbl := lw_at lw_m8 6 rfl
theorem q1799 : (Jvm.Cond.methodLink "HeldCoats$Than" (46 : Nat) ({ cls := "HeldCoats$Reign", name := "on", desc := "(I)I" } : Jvm.MethodName)) ∈ lw_all := lw_g (lw_at lw_m8 7 rfl) rfl
theorem q1804 : (Jvm.Cond.selects "HeldCoats$Than" ({ cls := "HeldCoats$Cond", name := "holds", desc := "(LHeldCoats$Reign;I)Z" } : Jvm.MethodName) ({ cls := "HeldCoats$Than", name := "holds", desc := "(LHeldCoats$Reign;I)Z" } : Jvm.MethodName)) ∈ lw_all := lw_g (lw_at lw_m8 12 rfl) rfl
theorem q2564 : (Jvm.Cond.castable "HeldCoats$Than" "java/lang/Object") ∈ lw_tbl := lw_at lw_m11 52 rfl
theorem q158 : (Jvm.Cond.initialized "HeldCoats$Two") ∈ lw_all := lw_g (lw_at lw_m1 46 rfl) rfl
theorem q991 : (Jvm.Cond.selects "HeldCoats$Two" ({ cls := "java/lang/Object", name := "getClass", desc := "()Ljava/lang/Class;" } : Jvm.MethodName) ({ cls := "java/lang/Object", name := "getClass", desc := "()Ljava/lang/Class;" } : Jvm.MethodName)) ∈ lw_all := lw_g (lw_at lw_m4 159 rfl) rfl
theorem q1758 : (Jvm.Cond.instantiable "HeldCoats$Two" (3 : Nat)) ∈ lw_all := lw_g (lw_at lw_m7 206 rfl) rfl
theorem q1760 : (Jvm.Cond.instanceMethod ({ cls := "HeldCoats$Two", name := "<init>", desc := "(LHeldCoats$Cond;LHeldCoats$Cond;Z)V" } : Jvm.MethodName)) ∈ lw_all := lw_g (lw_at lw_m7 208 rfl) rfl
theorem q1761 : (Jvm.Cond.code ({ cls := "HeldCoats$Two", name := "<init>", desc := "(LHeldCoats$Cond;LHeldCoats$Cond;Z)V" } : Jvm.MethodName) prog_24_method_1_code (4 : Nat) (Option.none : Option Jvm.ClassFile.FieldType)) ∈ lw_all := lw_g (lw_at lw_m7 209 rfl) rfl
theorem q1762 : (Jvm.Cond.methodLinkNest "HeldCoats$Two" (1 : Nat) ({ cls := "HeldCoats$Cond", name := "<init>", desc := "()V" } : Jvm.MethodName) "HeldCoats") ∈ lw_tbl := lw_at lw_m7 210 rfl
theorem q1763 : (Jvm.Cond.fieldLink "HeldCoats$Two" (7 : Nat) "HeldCoats$Two" "a" "LHeldCoats$Cond;") ∈ lw_all := lw_g (lw_at lw_m7 211 rfl) rfl
theorem q1764 : (Jvm.Cond.fieldLink "HeldCoats$Two" (13 : Nat) "HeldCoats$Two" "b" "LHeldCoats$Cond;") ∈ lw_all := lw_g (lw_at lw_m7 212 rfl) rfl
theorem q1765 : (Jvm.Cond.fieldLink "HeldCoats$Two" (16 : Nat) "HeldCoats$Two" "both" "Z") ∈ lw_all := lw_g (lw_at lw_m7 213 rfl) rfl
theorem q1766 : (Jvm.Cond.laysFinal "HeldCoats$Two" "HeldCoats$Two" "a" "LHeldCoats$Cond;") ∈ lw_all := lw_g (lw_at lw_m7 214 rfl) rfl
theorem q1767 : (Jvm.Cond.soleField "HeldCoats$Two" "a") ∈ lw_all := lw_g (lw_at lw_m7 215 rfl) rfl
theorem q1768 : (Jvm.Cond.laysFinal "HeldCoats$Two" "HeldCoats$Two" "b" "LHeldCoats$Cond;") ∈ lw_all := lw_g (lw_at lw_m7 216 rfl) rfl
theorem q1769 : (Jvm.Cond.soleField "HeldCoats$Two" "b") ∈ lw_all := lw_g (lw_at lw_m7 217 rfl) rfl
theorem q1770 : (Jvm.Cond.laysFinal "HeldCoats$Two" "HeldCoats$Two" "both" "Z") ∈ lw_all := lw_g (lw_at lw_m7 218 rfl) rfl
theorem q1771 : (Jvm.Cond.soleField "HeldCoats$Two" "both") ∈ lw_all := lw_g (lw_at lw_m7 219 rfl) rfl
theorem q1772 : (Jvm.Cond.superclass "HeldCoats$Two" "HeldCoats$Cond") ∈ lw_all := lw_g (lw_at lw_m7 220 rfl) rfl
theorem q1800 : (Jvm.Cond.instanceMethod ({ cls := "HeldCoats$Two", name := "holds", desc := "(LHeldCoats$Reign;I)Z" } : Jvm.MethodName)) ∈ lw_all := lw_g (lw_at lw_m8 8 rfl) rfl
theorem q1801 : (Jvm.Cond.code ({ cls := "HeldCoats$Two", name := "holds", desc := "(LHeldCoats$Reign;I)Z" } : Jvm.MethodName) prog_24_method_2_code (3 : Nat) (Option.some Jvm.ClassFile.FieldType.boolean)) ∈ lw_all := lw_g (lw_at lw_m8 9 rfl) rfl
theorem q1802 : (Jvm.Cond.methodLink "HeldCoats$Two" (20 : Nat) ({ cls := "HeldCoats$Cond", name := "holds", desc := "(LHeldCoats$Reign;I)Z" } : Jvm.MethodName)) ∈ lw_all := lw_g (lw_at lw_m8 10 rfl) rfl
theorem q1805 : (Jvm.Cond.selects "HeldCoats$Two" ({ cls := "HeldCoats$Cond", name := "holds", desc := "(LHeldCoats$Reign;I)Z" } : Jvm.MethodName) ({ cls := "HeldCoats$Two", name := "holds", desc := "(LHeldCoats$Reign;I)Z" } : Jvm.MethodName)) ∈ lw_all := lw_g (lw_at lw_m8 13 rfl) rfl
theorem q2565 : (Jvm.Cond.castable "HeldCoats$Two" "java/lang/Object") ∈ lw_tbl := lw_at lw_m11 53 rfl
theorem q118 : (Jvm.Cond.initialized "HeldCoats$Reign") ∈ lw_all := lw_g (lw_at lw_m1 6 rfl) rfl
theorem q209 : (Jvm.Cond.fieldLinkNest "HeldCoats$Reign" (155 : Nat) "HeldCoats$Capital" "holds" "I" "HeldCoats") ∈ lw_tbl := lw_at lw_m1 97 rfl
theorem q213 : (Jvm.Cond.fieldLinkNest "HeldCoats$Reign" (152 : Nat) "HeldCoats$Capital" "moths" "I" "HeldCoats") ∈ lw_tbl := lw_at lw_m1 101 rfl
theorem q222 : (Jvm.Cond.fieldLinkNest "HeldCoats$Reign" (97 : Nat) "HeldCoats$Capital" "seats" "Ljava/util/ArrayList;" "HeldCoats") ∈ lw_tbl := lw_at lw_m1 110 rfl
theorem q228 : (Jvm.Cond.fieldLinkNest "HeldCoats$Reign" (94 : Nat) "HeldCoats$Capital" "men" "Ljava/util/ArrayList;" "HeldCoats") ∈ lw_tbl := lw_at lw_m1 116 rfl
theorem q231 : (Jvm.Cond.fieldLinkNest "HeldCoats$Reign" (63 : Nat) "HeldCoats$Capital" "coats" "Ljava/util/ArrayList;" "HeldCoats") ∈ lw_tbl := lw_at lw_m1 119 rfl
theorem q265 : (Jvm.Cond.instantiable "HeldCoats$Reign" (14 : Nat)) ∈ lw_all := lw_g (lw_at lw_m1 153 rfl) rfl
theorem q267 : (Jvm.Cond.instanceMethod ({ cls := "HeldCoats$Reign", name := "<init>", desc := "()V" } : Jvm.MethodName)) ∈ lw_all := lw_g (lw_at lw_m1 155 rfl) rfl
theorem q268 : (Jvm.Cond.code ({ cls := "HeldCoats$Reign", name := "<init>", desc := "()V" } : Jvm.MethodName) prog_19_method_1_code (1 : Nat) (Option.none : Option Jvm.ClassFile.FieldType)) ∈ lw_all := lw_g (lw_at lw_m1 156 rfl) rfl
theorem q269 : (Jvm.Cond.methodLink "HeldCoats$Reign" (3 : Nat) ({ cls := "java/lang/Object", name := "<init>", desc := "()V" } : Jvm.MethodName)) ∈ lw_all := lw_g (lw_at lw_m1 157 rfl) rfl
theorem q270 : (Jvm.Cond.fieldLink "HeldCoats$Reign" (33 : Nat) "HeldCoats$Reign" "c" "LHeldCoats$Capital;") ∈ lw_all := lw_g (lw_at lw_m1 158 rfl) rfl
theorem q273 : (Jvm.Cond.fieldLink "HeldCoats$Reign" (37 : Nat) "HeldCoats$Reign" "day" "I") ∈ lw_all := lw_g (lw_at lw_m1 161 rfl) rfl
theorem q275 : (Jvm.Cond.fieldLink "HeldCoats$Reign" (41 : Nat) "HeldCoats$Reign" "bares" "I") ∈ lw_all := lw_g (lw_at lw_m1 163 rfl) rfl
theorem q277 : (Jvm.Cond.fieldLink "HeldCoats$Reign" (44 : Nat) "HeldCoats$Reign" "firstBare" "I") ∈ lw_all := lw_g (lw_at lw_m1 165 rfl) rfl
theorem q279 : (Jvm.Cond.fieldLink "HeldCoats$Reign" (47 : Nat) "HeldCoats$Reign" "eaten" "I") ∈ lw_all := lw_g (lw_at lw_m1 167 rfl) rfl
theorem q281 : (Jvm.Cond.fieldLink "HeldCoats$Reign" (50 : Nat) "HeldCoats$Reign" "queued" "I") ∈ lw_all := lw_g (lw_at lw_m1 169 rfl) rfl
theorem q283 : (Jvm.Cond.fieldLink "HeldCoats$Reign" (9 : Nat) "HeldCoats$Reign" "at" "[I") ∈ lw_all := lw_g (lw_at lw_m1 171 rfl) rfl
theorem q285 : (Jvm.Cond.fieldLink "HeldCoats$Reign" (15 : Nat) "HeldCoats$Reign" "cloth" "[I") ∈ lw_all := lw_g (lw_at lw_m1 173 rfl) rfl
theorem q288 : (Jvm.Cond.fieldLink "HeldCoats$Reign" (18 : Nat) "HeldCoats$Reign" "user" "[I") ∈ lw_all := lw_g (lw_at lw_m1 176 rfl) rfl
theorem q291 : (Jvm.Cond.fieldLink "HeldCoats$Reign" (21 : Nat) "HeldCoats$Reign" "since" "[I") ∈ lw_all := lw_g (lw_at lw_m1 179 rfl) rfl
theorem q293 : (Jvm.Cond.fieldLink "HeldCoats$Reign" (24 : Nat) "HeldCoats$Reign" "queue" "[I") ∈ lw_all := lw_g (lw_at lw_m1 181 rfl) rfl
theorem q295 : (Jvm.Cond.fieldLink "HeldCoats$Reign" (27 : Nat) "HeldCoats$Reign" "harm" "[I") ∈ lw_all := lw_g (lw_at lw_m1 183 rfl) rfl
theorem q297 : (Jvm.Cond.fieldLink "HeldCoats$Reign" (30 : Nat) "HeldCoats$Reign" "ruled" "[I") ∈ lw_all := lw_g (lw_at lw_m1 185 rfl) rfl
theorem q299 : (Jvm.Cond.fieldLink "HeldCoats$Reign" (188 : Nat) "HeldCoats$Reign" "seed" "I") ∈ lw_all := lw_g (lw_at lw_m1 187 rfl) rfl
theorem q300 : (Jvm.Cond.lays "HeldCoats$Reign" "HeldCoats$Reign" "c" "LHeldCoats$Capital;") ∈ lw_all := lw_g (lw_at lw_m1 188 rfl) rfl
theorem q301 : (Jvm.Cond.soleField "HeldCoats$Reign" "c") ∈ lw_all := lw_g (lw_at lw_m1 189 rfl) rfl
theorem q302 : (Jvm.Cond.lays "HeldCoats$Reign" "HeldCoats$Reign" "day" "I") ∈ lw_all := lw_g (lw_at lw_m1 190 rfl) rfl
theorem q303 : (Jvm.Cond.soleField "HeldCoats$Reign" "day") ∈ lw_all := lw_g (lw_at lw_m1 191 rfl) rfl
theorem q304 : (Jvm.Cond.lays "HeldCoats$Reign" "HeldCoats$Reign" "bares" "I") ∈ lw_all := lw_g (lw_at lw_m1 192 rfl) rfl
theorem q305 : (Jvm.Cond.soleField "HeldCoats$Reign" "bares") ∈ lw_all := lw_g (lw_at lw_m1 193 rfl) rfl
theorem q306 : (Jvm.Cond.lays "HeldCoats$Reign" "HeldCoats$Reign" "firstBare" "I") ∈ lw_all := lw_g (lw_at lw_m1 194 rfl) rfl
theorem q307 : (Jvm.Cond.soleField "HeldCoats$Reign" "firstBare") ∈ lw_all := lw_g (lw_at lw_m1 195 rfl) rfl
theorem q308 : (Jvm.Cond.lays "HeldCoats$Reign" "HeldCoats$Reign" "eaten" "I") ∈ lw_all := lw_g (lw_at lw_m1 196 rfl) rfl
theorem q309 : (Jvm.Cond.soleField "HeldCoats$Reign" "eaten") ∈ lw_all := lw_g (lw_at lw_m1 197 rfl) rfl
theorem q310 : (Jvm.Cond.lays "HeldCoats$Reign" "HeldCoats$Reign" "queued" "I") ∈ lw_all := lw_g (lw_at lw_m1 198 rfl) rfl
theorem q311 : (Jvm.Cond.soleField "HeldCoats$Reign" "queued") ∈ lw_all := lw_g (lw_at lw_m1 199 rfl) rfl
theorem q312 : (Jvm.Cond.laysFinal "HeldCoats$Reign" "HeldCoats$Reign" "at" "[I") ∈ lw_all := lw_g (lw_at lw_m1 200 rfl) rfl
theorem q313 : (Jvm.Cond.soleField "HeldCoats$Reign" "at") ∈ lw_all := lw_g (lw_at lw_m1 201 rfl) rfl
theorem q314 : (Jvm.Cond.laysFinal "HeldCoats$Reign" "HeldCoats$Reign" "cloth" "[I") ∈ lw_all := lw_g (lw_at lw_m1 202 rfl) rfl
theorem q315 : (Jvm.Cond.soleField "HeldCoats$Reign" "cloth") ∈ lw_all := lw_g (lw_at lw_m1 203 rfl) rfl
theorem q316 : (Jvm.Cond.laysFinal "HeldCoats$Reign" "HeldCoats$Reign" "user" "[I") ∈ lw_all := lw_g (lw_at lw_m1 204 rfl) rfl
theorem q317 : (Jvm.Cond.soleField "HeldCoats$Reign" "user") ∈ lw_all := lw_g (lw_at lw_m1 205 rfl) rfl
theorem q318 : (Jvm.Cond.laysFinal "HeldCoats$Reign" "HeldCoats$Reign" "since" "[I") ∈ lw_all := lw_g (lw_at lw_m1 206 rfl) rfl
theorem q319 : (Jvm.Cond.soleField "HeldCoats$Reign" "since") ∈ lw_all := lw_g (lw_at lw_m1 207 rfl) rfl
theorem q320 : (Jvm.Cond.laysFinal "HeldCoats$Reign" "HeldCoats$Reign" "queue" "[I") ∈ lw_all := lw_g (lw_at lw_m1 208 rfl) rfl
theorem q321 : (Jvm.Cond.soleField "HeldCoats$Reign" "queue") ∈ lw_all := lw_g (lw_at lw_m1 209 rfl) rfl
theorem q322 : (Jvm.Cond.laysFinal "HeldCoats$Reign" "HeldCoats$Reign" "harm" "[I") ∈ lw_all := lw_g (lw_at lw_m1 210 rfl) rfl
theorem q323 : (Jvm.Cond.soleField "HeldCoats$Reign" "harm") ∈ lw_all := lw_g (lw_at lw_m1 211 rfl) rfl
theorem q324 : (Jvm.Cond.laysFinal "HeldCoats$Reign" "HeldCoats$Reign" "ruled" "[I") ∈ lw_all := lw_g (lw_at lw_m1 212 rfl) rfl
theorem q325 : (Jvm.Cond.soleField "HeldCoats$Reign" "ruled") ∈ lw_all := lw_g (lw_at lw_m1 213 rfl) rfl
theorem q326 : (Jvm.Cond.lays "HeldCoats$Reign" "HeldCoats$Reign" "seed" "I") ∈ lw_all := lw_g (lw_at lw_m1 214 rfl) rfl
theorem q327 : (Jvm.Cond.soleField "HeldCoats$Reign" "seed") ∈ lw_all := lw_g (lw_at lw_m1 215 rfl) rfl
theorem q328 : (Jvm.Cond.superclass "HeldCoats$Reign" "java/lang/Object") ∈ lw_all := lw_g (lw_at lw_m1 216 rfl) rfl
theorem q330 : (Jvm.Cond.instanceMethod ({ cls := "HeldCoats$Reign", name := "begin", desc := "(LHeldCoats$Capital;)LHeldCoats$Reign;" } : Jvm.MethodName)) ∈ lw_all := lw_g (lw_at lw_m1 218 rfl) rfl
theorem q331 : (Jvm.Cond.selects "HeldCoats$Reign" ({ cls := "HeldCoats$Reign", name := "begin", desc := "(LHeldCoats$Capital;)LHeldCoats$Reign;" } : Jvm.MethodName) ({ cls := "HeldCoats$Reign", name := "begin", desc := "(LHeldCoats$Capital;)LHeldCoats$Reign;" } : Jvm.MethodName)) ∈ lw_all := lw_g (lw_at lw_m1 219 rfl) rfl
theorem q332 : (Jvm.Cond.code ({ cls := "HeldCoats$Reign", name := "begin", desc := "(LHeldCoats$Capital;)LHeldCoats$Reign;" } : Jvm.MethodName) prog_19_method_2_code (3 : Nat) (Option.some (Jvm.ClassFile.FieldType.object "HeldCoats$Reign"))) ∈ lw_all := lw_g (lw_at lw_m1 220 rfl) rfl
theorem q333 : (Jvm.Cond.methodLink "HeldCoats$Reign" (53 : Nat) ({ cls := "java/util/Arrays", name := "fill", desc := "([II)V" } : Jvm.MethodName)) ∈ lw_all := lw_g (lw_at lw_m1 221 rfl) rfl
theorem q336 : (Jvm.Cond.methodLink "HeldCoats$Reign" (59 : Nat) ({ cls := "HeldCoats$Reign", name := "coats", desc := "()I" } : Jvm.MethodName)) ∈ lw_all := lw_g (lw_at lw_m1 224 rfl) rfl
theorem q337 : (Jvm.Cond.instanceMethod ({ cls := "HeldCoats$Reign", name := "coats", desc := "()I" } : Jvm.MethodName)) ∈ lw_all := lw_g (lw_at lw_m1 225 rfl) rfl
theorem q338 : (Jvm.Cond.selects "HeldCoats$Reign" ({ cls := "HeldCoats$Reign", name := "coats", desc := "()I" } : Jvm.MethodName) ({ cls := "HeldCoats$Reign", name := "coats", desc := "()I" } : Jvm.MethodName)) ∈ lw_all := lw_g (lw_at lw_m1 226 rfl) rfl
theorem q339 : (Jvm.Cond.code ({ cls := "HeldCoats$Reign", name := "coats", desc := "()I" } : Jvm.MethodName) prog_19_method_6_code (1 : Nat) (Option.some Jvm.ClassFile.FieldType.int)) ∈ lw_all := lw_g (lw_at lw_m1 227 rfl) rfl
theorem q340 : (Jvm.Cond.methodLink "HeldCoats$Reign" (91 : Nat) ({ cls := "java/util/ArrayList", name := "size", desc := "()I" } : Jvm.MethodName)) ∈ lw_all := lw_g (lw_at lw_m1 228 rfl) rfl
theorem q344 : (Jvm.Cond.methodLink "HeldCoats$Reign" (68 : Nat) ({ cls := "java/util/ArrayList", name := "get", desc := "(I)Ljava/lang/Object;" } : Jvm.MethodName)) ∈ lw_all := lw_g (lw_at lw_m1 232 rfl) rfl
theorem q358 : (Jvm.Cond.classLink "HeldCoats$Reign" (74 : Nat) "HeldCoats$Coat") ∈ lw_all := lw_g (lw_at lw_m2 6 rfl) rfl
theorem q941 : (Jvm.Cond.fieldLinkNest "HeldCoats$Reign" (123 : Nat) "HeldCoats$Told" "number" "I" "HeldCoats") ∈ lw_tbl := lw_at lw_m4 109 rfl
theorem q986 : (Jvm.Cond.selects "HeldCoats$Reign" ({ cls := "java/lang/Object", name := "getClass", desc := "()Ljava/lang/Class;" } : Jvm.MethodName) ({ cls := "java/lang/Object", name := "getClass", desc := "()Ljava/lang/Class;" } : Jvm.MethodName)) ∈ lw_all := lw_g (lw_at lw_m4 154 rfl) rfl
theorem q1028 : (Jvm.Cond.fieldLinkNest "HeldCoats$Reign" (76 : Nat) "HeldCoats$Coat" "man" "I" "HeldCoats") ∈ lw_tbl := lw_at lw_m4 196 rfl
theorem q1032 : (Jvm.Cond.fieldLinkNest "HeldCoats$Reign" (115 : Nat) "HeldCoats$Coat" "warmth" "I" "HeldCoats") ∈ lw_tbl := lw_at lw_m4 200 rfl
theorem q1035 : (Jvm.Cond.fieldLinkNest "HeldCoats$Reign" (79 : Nat) "HeldCoats$Coat" "cloth" "I" "HeldCoats") ∈ lw_tbl := lw_at lw_m4 203 rfl
theorem q1095 : (Jvm.Cond.instanceMethod ({ cls := "HeldCoats$Reign", name := "on", desc := "(I)I" } : Jvm.MethodName)) ∈ lw_all := lw_g (lw_at lw_m5 23 rfl) rfl
theorem q1096 : (Jvm.Cond.selects "HeldCoats$Reign" ({ cls := "HeldCoats$Reign", name := "on", desc := "(I)I" } : Jvm.MethodName) ({ cls := "HeldCoats$Reign", name := "on", desc := "(I)I" } : Jvm.MethodName)) ∈ lw_all := lw_g (lw_at lw_m5 24 rfl) rfl
theorem q1097 : (Jvm.Cond.code ({ cls := "HeldCoats$Reign", name := "on", desc := "(I)I" } : Jvm.MethodName) prog_19_method_10_code (3 : Nat) (Option.some Jvm.ClassFile.FieldType.int)) ∈ lw_all := lw_g (lw_at lw_m5 25 rfl) rfl
theorem q1099 : (Jvm.Cond.instanceMethod ({ cls := "HeldCoats$Reign", name := "holder", desc := "(I)I" } : Jvm.MethodName)) ∈ lw_all := lw_g (lw_at lw_m5 27 rfl) rfl
theorem q1100 : (Jvm.Cond.selects "HeldCoats$Reign" ({ cls := "HeldCoats$Reign", name := "holder", desc := "(I)I" } : Jvm.MethodName) ({ cls := "HeldCoats$Reign", name := "holder", desc := "(I)I" } : Jvm.MethodName)) ∈ lw_all := lw_g (lw_at lw_m5 28 rfl) rfl
theorem q1101 : (Jvm.Cond.code ({ cls := "HeldCoats$Reign", name := "holder", desc := "(I)I" } : Jvm.MethodName) prog_19_method_12_code (2 : Nat) (Option.some Jvm.ClassFile.FieldType.int)) ∈ lw_all := lw_g (lw_at lw_m5 29 rfl) rfl
theorem q1102 : (Jvm.Cond.methodLink "HeldCoats$Reign" (104 : Nat) ({ cls := "HeldCoats$Capital", name := "isSummer", desc := "(I)Z" } : Jvm.MethodName)) ∈ lw_all := lw_g (lw_at lw_m5 30 rfl) rfl
theorem q1110 : (Jvm.Cond.methodLink "HeldCoats$Reign" (108 : Nat) ({ cls := "HeldCoats$Reign", name := "owner", desc := "(I)I" } : Jvm.MethodName)) ∈ lw_all := lw_g (lw_at lw_m5 38 rfl) rfl
theorem q1111 : (Jvm.Cond.instanceMethod ({ cls := "HeldCoats$Reign", name := "owner", desc := "(I)I" } : Jvm.MethodName)) ∈ lw_all := lw_g (lw_at lw_m5 39 rfl) rfl
theorem q1112 : (Jvm.Cond.selects "HeldCoats$Reign" ({ cls := "HeldCoats$Reign", name := "owner", desc := "(I)I" } : Jvm.MethodName) ({ cls := "HeldCoats$Reign", name := "owner", desc := "(I)I" } : Jvm.MethodName)) ∈ lw_all := lw_g (lw_at lw_m5 40 rfl) rfl
theorem q1113 : (Jvm.Cond.code ({ cls := "HeldCoats$Reign", name := "owner", desc := "(I)I" } : Jvm.MethodName) prog_19_method_11_code (2 : Nat) (Option.some Jvm.ClassFile.FieldType.int)) ∈ lw_all := lw_g (lw_at lw_m5 41 rfl) rfl
theorem q1114 : (Jvm.Cond.methodLink "HeldCoats$Reign" (100 : Nat) ({ cls := "HeldCoats$Reign", name := "on", desc := "(I)I" } : Jvm.MethodName)) ∈ lw_all := lw_g (lw_at lw_m5 42 rfl) rfl
theorem q1125 : (Jvm.Cond.instanceMethod ({ cls := "HeldCoats$Reign", name := "ruler", desc := "(Z)I" } : Jvm.MethodName)) ∈ lw_all := lw_g (lw_at lw_m5 53 rfl) rfl
theorem q1126 : (Jvm.Cond.selects "HeldCoats$Reign" ({ cls := "HeldCoats$Reign", name := "ruler", desc := "(Z)I" } : Jvm.MethodName) ({ cls := "HeldCoats$Reign", name := "ruler", desc := "(Z)I" } : Jvm.MethodName)) ∈ lw_all := lw_g (lw_at lw_m5 54 rfl) rfl
theorem q1127 : (Jvm.Cond.code ({ cls := "HeldCoats$Reign", name := "ruler", desc := "(Z)I" } : Jvm.MethodName) prog_19_method_19_code (7 : Nat) (Option.some Jvm.ClassFile.FieldType.int)) ∈ lw_all := lw_g (lw_at lw_m5 55 rfl) rfl
theorem q1128 : (Jvm.Cond.methodLink "HeldCoats$Reign" (139 : Nat) ({ cls := "HeldCoats$Reign", name := "men", desc := "()I" } : Jvm.MethodName)) ∈ lw_all := lw_g (lw_at lw_m5 56 rfl) rfl
theorem q1129 : (Jvm.Cond.instanceMethod ({ cls := "HeldCoats$Reign", name := "men", desc := "()I" } : Jvm.MethodName)) ∈ lw_all := lw_g (lw_at lw_m5 57 rfl) rfl
theorem q1130 : (Jvm.Cond.selects "HeldCoats$Reign" ({ cls := "HeldCoats$Reign", name := "men", desc := "()I" } : Jvm.MethodName) ({ cls := "HeldCoats$Reign", name := "men", desc := "()I" } : Jvm.MethodName)) ∈ lw_all := lw_g (lw_at lw_m5 58 rfl) rfl
theorem q1131 : (Jvm.Cond.code ({ cls := "HeldCoats$Reign", name := "men", desc := "()I" } : Jvm.MethodName) prog_19_method_7_code (1 : Nat) (Option.some Jvm.ClassFile.FieldType.int)) ∈ lw_all := lw_g (lw_at lw_m5 59 rfl) rfl
theorem q1132 : (Jvm.Cond.methodLink "HeldCoats$Reign" (134 : Nat) ({ cls := "HeldCoats$Reign", name := "seats", desc := "()I" } : Jvm.MethodName)) ∈ lw_all := lw_g (lw_at lw_m5 60 rfl) rfl
theorem q1133 : (Jvm.Cond.instanceMethod ({ cls := "HeldCoats$Reign", name := "seats", desc := "()I" } : Jvm.MethodName)) ∈ lw_all := lw_g (lw_at lw_m5 61 rfl) rfl
theorem q1134 : (Jvm.Cond.selects "HeldCoats$Reign" ({ cls := "HeldCoats$Reign", name := "seats", desc := "()I" } : Jvm.MethodName) ({ cls := "HeldCoats$Reign", name := "seats", desc := "()I" } : Jvm.MethodName)) ∈ lw_all := lw_g (lw_at lw_m5 62 rfl) rfl
theorem q1135 : (Jvm.Cond.code ({ cls := "HeldCoats$Reign", name := "seats", desc := "()I" } : Jvm.MethodName) prog_19_method_8_code (1 : Nat) (Option.some Jvm.ClassFile.FieldType.int)) ∈ lw_all := lw_g (lw_at lw_m5 63 rfl) rfl
theorem q1136 : (Jvm.Cond.methodLink "HeldCoats$Reign" (136 : Nat) ({ cls := "HeldCoats$Reign", name := "holder", desc := "(I)I" } : Jvm.MethodName)) ∈ lw_all := lw_g (lw_at lw_m5 64 rfl) rfl
theorem q1137 : (Jvm.Cond.classLink "HeldCoats$Reign" (121 : Nat) "HeldCoats$Told") ∈ lw_all := lw_g (lw_at lw_m5 65 rfl) rfl
theorem q1191 : (Jvm.Cond.instanceMethod ({ cls := "HeldCoats$Reign", name := "as", desc := "(LHeldCoats$Reign;)LHeldCoats$Reign;" } : Jvm.MethodName)) ∈ lw_all := lw_g (lw_at lw_m5 119 rfl) rfl
theorem q1192 : (Jvm.Cond.selects "HeldCoats$Reign" ({ cls := "HeldCoats$Reign", name := "as", desc := "(LHeldCoats$Reign;)LHeldCoats$Reign;" } : Jvm.MethodName) ({ cls := "HeldCoats$Reign", name := "as", desc := "(LHeldCoats$Reign;)LHeldCoats$Reign;" } : Jvm.MethodName)) ∈ lw_all := lw_g (lw_at lw_m5 120 rfl) rfl
theorem q1193 : (Jvm.Cond.code ({ cls := "HeldCoats$Reign", name := "as", desc := "(LHeldCoats$Reign;)LHeldCoats$Reign;" } : Jvm.MethodName) prog_19_method_3_code (2 : Nat) (Option.some (Jvm.ClassFile.FieldType.object "HeldCoats$Reign"))) ∈ lw_all := lw_g (lw_at lw_m5 121 rfl) rfl
theorem q1194 : (Jvm.Cond.methodLink "HeldCoats$Reign" (81 : Nat) ({ cls := "HeldCoats$Reign", name := "copy", desc := "([I[I)V" } : Jvm.MethodName)) ∈ lw_all := lw_g (lw_at lw_m5 122 rfl) rfl
theorem q1195 : (Jvm.Cond.static ({ cls := "HeldCoats$Reign", name := "copy", desc := "([I[I)V" } : Jvm.MethodName)) ∈ lw_all := lw_g (lw_at lw_m5 123 rfl) rfl
theorem q1196 : (Jvm.Cond.code ({ cls := "HeldCoats$Reign", name := "copy", desc := "([I[I)V" } : Jvm.MethodName) prog_19_method_4_code (2 : Nat) (Option.none : Option Jvm.ClassFile.FieldType)) ∈ lw_all := lw_g (lw_at lw_m5 124 rfl) rfl
theorem q1197 : (Jvm.Cond.methodLink "HeldCoats$Reign" (85 : Nat) ({ cls := "java/lang/System", name := "arraycopy", desc := "(Ljava/lang/Object;ILjava/lang/Object;II)V" } : Jvm.MethodName)) ∈ lw_all := lw_g (lw_at lw_m5 125 rfl) rfl
theorem q1205 : (Jvm.Cond.instanceMethod ({ cls := "HeldCoats$Reign", name := "passAll", desc := "(I)I" } : Jvm.MethodName)) ∈ lw_all := lw_g (lw_at lw_m5 133 rfl) rfl
theorem q1206 : (Jvm.Cond.selects "HeldCoats$Reign" ({ cls := "HeldCoats$Reign", name := "passAll", desc := "(I)I" } : Jvm.MethodName) ({ cls := "HeldCoats$Reign", name := "passAll", desc := "(I)I" } : Jvm.MethodName)) ∈ lw_all := lw_g (lw_at lw_m5 134 rfl) rfl
theorem q1207 : (Jvm.Cond.code ({ cls := "HeldCoats$Reign", name := "passAll", desc := "(I)I" } : Jvm.MethodName) prog_19_method_31_code (3 : Nat) (Option.some Jvm.ClassFile.FieldType.int)) ∈ lw_all := lw_g (lw_at lw_m5 135 rfl) rfl
theorem q1208 : (Jvm.Cond.methodLink "HeldCoats$Reign" (185 : Nat) ({ cls := "HeldCoats$Reign", name := "pass", desc := "()Z" } : Jvm.MethodName)) ∈ lw_all := lw_g (lw_at lw_m5 136 rfl) rfl
theorem q1209 : (Jvm.Cond.instanceMethod ({ cls := "HeldCoats$Reign", name := "pass", desc := "()Z" } : Jvm.MethodName)) ∈ lw_all := lw_g (lw_at lw_m5 137 rfl) rfl
theorem q1210 : (Jvm.Cond.selects "HeldCoats$Reign" ({ cls := "HeldCoats$Reign", name := "pass", desc := "()Z" } : Jvm.MethodName) ({ cls := "HeldCoats$Reign", name := "pass", desc := "()Z" } : Jvm.MethodName)) ∈ lw_all := lw_g (lw_at lw_m5 138 rfl) rfl
theorem q1211 : (Jvm.Cond.code ({ cls := "HeldCoats$Reign", name := "pass", desc := "()Z" } : Jvm.MethodName) prog_19_method_30_code (2 : Nat) (Option.some Jvm.ClassFile.FieldType.boolean)) ∈ lw_all := lw_g (lw_at lw_m5 139 rfl) rfl
theorem q1212 : (Jvm.Cond.methodLink "HeldCoats$Reign" (161 : Nat) ({ cls := "HeldCoats$Reign", name := "isOver", desc := "()Z" } : Jvm.MethodName)) ∈ lw_all := lw_g (lw_at lw_m5 140 rfl) rfl
theorem q1213 : (Jvm.Cond.instanceMethod ({ cls := "HeldCoats$Reign", name := "isOver", desc := "()Z" } : Jvm.MethodName)) ∈ lw_all := lw_g (lw_at lw_m5 141 rfl) rfl
theorem q1214 : (Jvm.Cond.selects "HeldCoats$Reign" ({ cls := "HeldCoats$Reign", name := "isOver", desc := "()Z" } : Jvm.MethodName) ({ cls := "HeldCoats$Reign", name := "isOver", desc := "()Z" } : Jvm.MethodName)) ∈ lw_all := lw_g (lw_at lw_m5 142 rfl) rfl
theorem q1215 : (Jvm.Cond.code ({ cls := "HeldCoats$Reign", name := "isOver", desc := "()Z" } : Jvm.MethodName) prog_19_method_5_code (1 : Nat) (Option.some Jvm.ClassFile.FieldType.boolean)) ∈ lw_all := lw_g (lw_at lw_m5 143 rfl) rfl
theorem q1216 : (Jvm.Cond.methodLink "HeldCoats$Reign" (165 : Nat) ({ cls := "HeldCoats$Reign", name := "noon", desc := "()V" } : Jvm.MethodName)) ∈ lw_all := lw_g (lw_at lw_m5 144 rfl) rfl
theorem q1217 : (Jvm.Cond.privateMethod ({ cls := "HeldCoats$Reign", name := "noon", desc := "()V" } : Jvm.MethodName)) ∈ lw_tbl := lw_at lw_m5 145 rfl
theorem q1218 : (Jvm.Cond.instanceMethod ({ cls := "HeldCoats$Reign", name := "noon", desc := "()V" } : Jvm.MethodName)) ∈ lw_all := lw_g (lw_at lw_m5 146 rfl) rfl
theorem q1219 : (Jvm.Cond.code ({ cls := "HeldCoats$Reign", name := "noon", desc := "()V" } : Jvm.MethodName) prog_19_method_28_code (2 : Nat) (Option.none : Option Jvm.ClassFile.FieldType)) ∈ lw_all := lw_g (lw_at lw_m5 147 rfl) rfl
theorem q1220 : (Jvm.Cond.methodLink "HeldCoats$Reign" (148 : Nat) ({ cls := "HeldCoats$Reign", name := "ruler", desc := "(Z)I" } : Jvm.MethodName)) ∈ lw_all := lw_g (lw_at lw_m5 148 rfl) rfl
theorem q1221 : (Jvm.Cond.methodLink "HeldCoats$Reign" (168 : Nat) ({ cls := "HeldCoats$Reign", name := "wornBy", desc := "(I)I" } : Jvm.MethodName)) ∈ lw_all := lw_g (lw_at lw_m5 149 rfl) rfl
theorem q1222 : (Jvm.Cond.instanceMethod ({ cls := "HeldCoats$Reign", name := "wornBy", desc := "(I)I" } : Jvm.MethodName)) ∈ lw_all := lw_g (lw_at lw_m5 150 rfl) rfl
theorem q1223 : (Jvm.Cond.selects "HeldCoats$Reign" ({ cls := "HeldCoats$Reign", name := "wornBy", desc := "(I)I" } : Jvm.MethodName) ({ cls := "HeldCoats$Reign", name := "wornBy", desc := "(I)I" } : Jvm.MethodName)) ∈ lw_all := lw_g (lw_at lw_m5 151 rfl) rfl
theorem q1224 : (Jvm.Cond.code ({ cls := "HeldCoats$Reign", name := "wornBy", desc := "(I)I" } : Jvm.MethodName) prog_19_method_13_code (4 : Nat) (Option.some Jvm.ClassFile.FieldType.int)) ∈ lw_all := lw_g (lw_at lw_m5 152 rfl) rfl
theorem q1225 : (Jvm.Cond.methodLink "HeldCoats$Reign" (171 : Nat) ({ cls := "HeldCoats$Reign", name := "chill", desc := "(III)I" } : Jvm.MethodName)) ∈ lw_all := lw_g (lw_at lw_m5 153 rfl) rfl
theorem q1226 : (Jvm.Cond.instanceMethod ({ cls := "HeldCoats$Reign", name := "chill", desc := "(III)I" } : Jvm.MethodName)) ∈ lw_all := lw_g (lw_at lw_m5 154 rfl) rfl
theorem q1227 : (Jvm.Cond.selects "HeldCoats$Reign" ({ cls := "HeldCoats$Reign", name := "chill", desc := "(III)I" } : Jvm.MethodName) ({ cls := "HeldCoats$Reign", name := "chill", desc := "(III)I" } : Jvm.MethodName)) ∈ lw_all := lw_g (lw_at lw_m5 155 rfl) rfl
theorem q1228 : (Jvm.Cond.code ({ cls := "HeldCoats$Reign", name := "chill", desc := "(III)I" } : Jvm.MethodName) prog_19_method_15_code (4 : Nat) (Option.some Jvm.ClassFile.FieldType.int)) ∈ lw_all := lw_g (lw_at lw_m5 156 rfl) rfl
theorem q1229 : (Jvm.Cond.methodLink "HeldCoats$Reign" (118 : Nat) ({ cls := "HeldCoats$Capital", name := "cold", desc := "(I)I" } : Jvm.MethodName)) ∈ lw_all := lw_g (lw_at lw_m5 157 rfl) rfl
theorem q1230 : (Jvm.Cond.methodLink "HeldCoats$Reign" (126 : Nat) ({ cls := "HeldCoats$Reign", name := "warmth", desc := "(I)I" } : Jvm.MethodName)) ∈ lw_all := lw_g (lw_at lw_m5 158 rfl) rfl
theorem q1231 : (Jvm.Cond.instanceMethod ({ cls := "HeldCoats$Reign", name := "warmth", desc := "(I)I" } : Jvm.MethodName)) ∈ lw_all := lw_g (lw_at lw_m5 159 rfl) rfl
theorem q1232 : (Jvm.Cond.selects "HeldCoats$Reign" ({ cls := "HeldCoats$Reign", name := "warmth", desc := "(I)I" } : Jvm.MethodName) ({ cls := "HeldCoats$Reign", name := "warmth", desc := "(I)I" } : Jvm.MethodName)) ∈ lw_all := lw_g (lw_at lw_m5 160 rfl) rfl
theorem q1233 : (Jvm.Cond.code ({ cls := "HeldCoats$Reign", name := "warmth", desc := "(I)I" } : Jvm.MethodName) prog_19_method_14_code (4 : Nat) (Option.some Jvm.ClassFile.FieldType.int)) ∈ lw_all := lw_g (lw_at lw_m5 161 rfl) rfl
theorem q1234 : (Jvm.Cond.methodLinkNest "HeldCoats$Reign" (111 : Nat) ({ cls := "HeldCoats", name := "isOf", desc := "(II)Z" } : Jvm.MethodName) "HeldCoats") ∈ lw_tbl := lw_at lw_m5 162 rfl
theorem q1235 : (Jvm.Cond.methodLink "HeldCoats$Reign" (128 : Nat) ({ cls := "java/lang/Math", name := "max", desc := "(II)I" } : Jvm.MethodName)) ∈ lw_all := lw_g (lw_at lw_m5 163 rfl) rfl
theorem q1236 : (Jvm.Cond.methodLink "HeldCoats$Reign" (175 : Nat) ({ cls := "HeldCoats$Reign", name := "square", desc := "(I)I" } : Jvm.MethodName)) ∈ lw_all := lw_g (lw_at lw_m5 164 rfl) rfl
theorem q1237 : (Jvm.Cond.static ({ cls := "HeldCoats$Reign", name := "square", desc := "(I)I" } : Jvm.MethodName)) ∈ lw_all := lw_g (lw_at lw_m5 165 rfl) rfl
theorem q1238 : (Jvm.Cond.code ({ cls := "HeldCoats$Reign", name := "square", desc := "(I)I" } : Jvm.MethodName) prog_19_method_16_code (1 : Nat) (Option.some Jvm.ClassFile.FieldType.int)) ∈ lw_all := lw_g (lw_at lw_m5 166 rfl) rfl
theorem q1239 : (Jvm.Cond.methodLinkNest "HeldCoats$Reign" (178 : Nat) ({ cls := "HeldCoats", name := "isIn", desc := "(III)Z" } : Jvm.MethodName) "HeldCoats") ∈ lw_tbl := lw_at lw_m5 167 rfl
theorem q1240 : (Jvm.Cond.methodLink "HeldCoats$Reign" (182 : Nat) ({ cls := "HeldCoats$Reign", name := "lies", desc := "(I)V" } : Jvm.MethodName)) ∈ lw_all := lw_g (lw_at lw_m5 168 rfl) rfl
theorem q1241 : (Jvm.Cond.privateMethod ({ cls := "HeldCoats$Reign", name := "lies", desc := "(I)V" } : Jvm.MethodName)) ∈ lw_tbl := lw_at lw_m5 169 rfl
theorem q1242 : (Jvm.Cond.instanceMethod ({ cls := "HeldCoats$Reign", name := "lies", desc := "(I)V" } : Jvm.MethodName)) ∈ lw_all := lw_g (lw_at lw_m5 170 rfl) rfl
theorem q1243 : (Jvm.Cond.code ({ cls := "HeldCoats$Reign", name := "lies", desc := "(I)V" } : Jvm.MethodName) prog_19_method_29_code (2 : Nat) (Option.none : Option Jvm.ClassFile.FieldType)) ∈ lw_all := lw_g (lw_at lw_m5 171 rfl) rfl
theorem q1244 : (Jvm.Cond.methodLink "HeldCoats$Reign" (158 : Nat) ({ cls := "HeldCoats$Reign", name := "keep", desc := "(I)V" } : Jvm.MethodName)) ∈ lw_all := lw_g (lw_at lw_m5 172 rfl) rfl
theorem q1245 : (Jvm.Cond.instanceMethod ({ cls := "HeldCoats$Reign", name := "keep", desc := "(I)V" } : Jvm.MethodName)) ∈ lw_all := lw_g (lw_at lw_m5 173 rfl) rfl
theorem q1246 : (Jvm.Cond.selects "HeldCoats$Reign" ({ cls := "HeldCoats$Reign", name := "keep", desc := "(I)V" } : Jvm.MethodName) ({ cls := "HeldCoats$Reign", name := "keep", desc := "(I)V" } : Jvm.MethodName)) ∈ lw_all := lw_g (lw_at lw_m5 174 rfl) rfl
theorem q1247 : (Jvm.Cond.code ({ cls := "HeldCoats$Reign", name := "keep", desc := "(I)V" } : Jvm.MethodName) prog_19_method_27_code (2 : Nat) (Option.none : Option Jvm.ClassFile.FieldType)) ∈ lw_all := lw_g (lw_at lw_m5 175 rfl) rfl
theorem q1252 : (Jvm.Cond.instanceMethod ({ cls := "HeldCoats$Reign", name := "whyLend", desc := "(II)I" } : Jvm.MethodName)) ∈ lw_all := lw_g (lw_at lw_m5 180 rfl) rfl
theorem q1253 : (Jvm.Cond.selects "HeldCoats$Reign" ({ cls := "HeldCoats$Reign", name := "whyLend", desc := "(II)I" } : Jvm.MethodName) ({ cls := "HeldCoats$Reign", name := "whyLend", desc := "(II)I" } : Jvm.MethodName)) ∈ lw_all := lw_g (lw_at lw_m5 181 rfl) rfl
theorem q1254 : (Jvm.Cond.code ({ cls := "HeldCoats$Reign", name := "whyLend", desc := "(II)I" } : Jvm.MethodName) prog_19_method_25_code (3 : Nat) (Option.some Jvm.ClassFile.FieldType.int)) ∈ lw_all := lw_g (lw_at lw_m5 182 rfl) rfl
theorem q1263 : (Jvm.Cond.instanceMethod ({ cls := "HeldCoats$Reign", name := "whyLay", desc := "(II)I" } : Jvm.MethodName)) ∈ lw_all := lw_g (lw_at lw_m5 191 rfl) rfl
theorem q1264 : (Jvm.Cond.selects "HeldCoats$Reign" ({ cls := "HeldCoats$Reign", name := "whyLay", desc := "(II)I" } : Jvm.MethodName) ({ cls := "HeldCoats$Reign", name := "whyLay", desc := "(II)I" } : Jvm.MethodName)) ∈ lw_all := lw_g (lw_at lw_m5 192 rfl) rfl
theorem q1265 : (Jvm.Cond.code ({ cls := "HeldCoats$Reign", name := "whyLay", desc := "(II)I" } : Jvm.MethodName) prog_19_method_20_code (3 : Nat) (Option.some Jvm.ClassFile.FieldType.int)) ∈ lw_all := lw_g (lw_at lw_m5 193 rfl) rfl
theorem q1266 : (Jvm.Cond.methodLink "HeldCoats$Reign" (141 : Nat) ({ cls := "HeldCoats$Reign", name := "isWorn", desc := "(I)Z" } : Jvm.MethodName)) ∈ lw_all := lw_g (lw_at lw_m5 194 rfl) rfl
theorem q1267 : (Jvm.Cond.instanceMethod ({ cls := "HeldCoats$Reign", name := "isWorn", desc := "(I)Z" } : Jvm.MethodName)) ∈ lw_all := lw_g (lw_at lw_m5 195 rfl) rfl
theorem q1268 : (Jvm.Cond.selects "HeldCoats$Reign" ({ cls := "HeldCoats$Reign", name := "isWorn", desc := "(I)Z" } : Jvm.MethodName) ({ cls := "HeldCoats$Reign", name := "isWorn", desc := "(I)Z" } : Jvm.MethodName)) ∈ lw_all := lw_g (lw_at lw_m5 196 rfl) rfl
theorem q1269 : (Jvm.Cond.code ({ cls := "HeldCoats$Reign", name := "isWorn", desc := "(I)Z" } : Jvm.MethodName) prog_19_method_9_code (2 : Nat) (Option.some Jvm.ClassFile.FieldType.boolean)) ∈ lw_all := lw_g (lw_at lw_m5 197 rfl) rfl
theorem q1271 : (Jvm.Cond.instanceMethod ({ cls := "HeldCoats$Reign", name := "lay", desc := "(II)V" } : Jvm.MethodName)) ∈ lw_all := lw_g (lw_at lw_m5 199 rfl) rfl
theorem q1272 : (Jvm.Cond.selects "HeldCoats$Reign" ({ cls := "HeldCoats$Reign", name := "lay", desc := "(II)V" } : Jvm.MethodName) ({ cls := "HeldCoats$Reign", name := "lay", desc := "(II)V" } : Jvm.MethodName)) ∈ lw_all := lw_g (lw_at lw_m5 200 rfl) rfl
theorem q1273 : (Jvm.Cond.code ({ cls := "HeldCoats$Reign", name := "lay", desc := "(II)V" } : Jvm.MethodName) prog_19_method_21_code (3 : Nat) (Option.none : Option Jvm.ClassFile.FieldType)) ∈ lw_all := lw_g (lw_at lw_m5 201 rfl) rfl
theorem q1278 : (Jvm.Cond.instanceMethod ({ cls := "HeldCoats$Reign", name := "whyKeep", desc := "(I)I" } : Jvm.MethodName)) ∈ lw_all := lw_g (lw_at lw_m5 206 rfl) rfl
theorem q1279 : (Jvm.Cond.selects "HeldCoats$Reign" ({ cls := "HeldCoats$Reign", name := "whyKeep", desc := "(I)I" } : Jvm.MethodName) ({ cls := "HeldCoats$Reign", name := "whyKeep", desc := "(I)I" } : Jvm.MethodName)) ∈ lw_all := lw_g (lw_at lw_m5 207 rfl) rfl
theorem q1280 : (Jvm.Cond.code ({ cls := "HeldCoats$Reign", name := "whyKeep", desc := "(I)I" } : Jvm.MethodName) prog_19_method_26_code (2 : Nat) (Option.some Jvm.ClassFile.FieldType.int)) ∈ lw_all := lw_g (lw_at lw_m5 208 rfl) rfl
theorem q1288 : (Jvm.Cond.instanceMethod ({ cls := "HeldCoats$Reign", name := "whyWear", desc := "(II)I" } : Jvm.MethodName)) ∈ lw_all := lw_g (lw_at lw_m5 216 rfl) rfl
theorem q1289 : (Jvm.Cond.selects "HeldCoats$Reign" ({ cls := "HeldCoats$Reign", name := "whyWear", desc := "(II)I" } : Jvm.MethodName) ({ cls := "HeldCoats$Reign", name := "whyWear", desc := "(II)I" } : Jvm.MethodName)) ∈ lw_all := lw_g (lw_at lw_m5 217 rfl) rfl
theorem q1290 : (Jvm.Cond.code ({ cls := "HeldCoats$Reign", name := "whyWear", desc := "(II)I" } : Jvm.MethodName) prog_19_method_22_code (3 : Nat) (Option.some Jvm.ClassFile.FieldType.int)) ∈ lw_all := lw_g (lw_at lw_m5 218 rfl) rfl
theorem q1292 : (Jvm.Cond.instanceMethod ({ cls := "HeldCoats$Reign", name := "wear", desc := "(II)V" } : Jvm.MethodName)) ∈ lw_all := lw_g (lw_at lw_m5 220 rfl) rfl
theorem q1293 : (Jvm.Cond.selects "HeldCoats$Reign" ({ cls := "HeldCoats$Reign", name := "wear", desc := "(II)V" } : Jvm.MethodName) ({ cls := "HeldCoats$Reign", name := "wear", desc := "(II)V" } : Jvm.MethodName)) ∈ lw_all := lw_g (lw_at lw_m5 221 rfl) rfl
theorem q1294 : (Jvm.Cond.code ({ cls := "HeldCoats$Reign", name := "wear", desc := "(II)V" } : Jvm.MethodName) prog_19_method_23_code (3 : Nat) (Option.none : Option Jvm.ClassFile.FieldType)) ∈ lw_all := lw_g (lw_at lw_m5 222 rfl) rfl
theorem q1295 : (Jvm.Cond.methodLink "HeldCoats$Reign" (144 : Nat) ({ cls := "HeldCoats$Reign", name := "leaves", desc := "(I)V" } : Jvm.MethodName)) ∈ lw_all := lw_g (lw_at lw_m5 223 rfl) rfl
theorem q1296 : (Jvm.Cond.privateMethod ({ cls := "HeldCoats$Reign", name := "leaves", desc := "(I)V" } : Jvm.MethodName)) ∈ lw_tbl := lw_at lw_m5 224 rfl
theorem q1297 : (Jvm.Cond.instanceMethod ({ cls := "HeldCoats$Reign", name := "leaves", desc := "(I)V" } : Jvm.MethodName)) ∈ lw_all := lw_g (lw_at lw_m5 225 rfl) rfl
theorem q1298 : (Jvm.Cond.code ({ cls := "HeldCoats$Reign", name := "leaves", desc := "(I)V" } : Jvm.MethodName) prog_19_method_24_code (4 : Nat) (Option.none : Option Jvm.ClassFile.FieldType)) ∈ lw_all := lw_g (lw_at lw_m5 226 rfl) rfl
theorem q1499 : (Jvm.Cond.instanceMethod ({ cls := "HeldCoats$Reign", name := "drawn", desc := "(II)I" } : Jvm.MethodName)) ∈ lw_all := lw_g (lw_at lw_m6 187 rfl) rfl
theorem q1500 : (Jvm.Cond.selects "HeldCoats$Reign" ({ cls := "HeldCoats$Reign", name := "drawn", desc := "(II)I" } : Jvm.MethodName) ({ cls := "HeldCoats$Reign", name := "drawn", desc := "(II)I" } : Jvm.MethodName)) ∈ lw_all := lw_g (lw_at lw_m6 188 rfl) rfl
theorem q1501 : (Jvm.Cond.code ({ cls := "HeldCoats$Reign", name := "drawn", desc := "(II)I" } : Jvm.MethodName) prog_19_method_34_code (5 : Nat) (Option.some Jvm.ClassFile.FieldType.int)) ∈ lw_all := lw_g (lw_at lw_m6 189 rfl) rfl
theorem q1502 : (Jvm.Cond.methodLink "HeldCoats$Reign" (211 : Nat) ({ cls := "HeldCoats$Reign", name := "acts", desc := "(I)V" } : Jvm.MethodName)) ∈ lw_all := lw_g (lw_at lw_m6 190 rfl) rfl
theorem q1503 : (Jvm.Cond.privateMethod ({ cls := "HeldCoats$Reign", name := "acts", desc := "(I)V" } : Jvm.MethodName)) ∈ lw_tbl := lw_at lw_m6 191 rfl
theorem q1504 : (Jvm.Cond.instanceMethod ({ cls := "HeldCoats$Reign", name := "acts", desc := "(I)V" } : Jvm.MethodName)) ∈ lw_all := lw_g (lw_at lw_m6 192 rfl) rfl
theorem q1505 : (Jvm.Cond.code ({ cls := "HeldCoats$Reign", name := "acts", desc := "(I)V" } : Jvm.MethodName) prog_19_method_33_code (4 : Nat) (Option.none : Option Jvm.ClassFile.FieldType)) ∈ lw_all := lw_g (lw_at lw_m6 193 rfl) rfl
theorem q1506 : (Jvm.Cond.methodLink "HeldCoats$Reign" (192 : Nat) ({ cls := "HeldCoats$Reign", name := "draw", desc := "(I)I" } : Jvm.MethodName)) ∈ lw_all := lw_g (lw_at lw_m6 194 rfl) rfl
theorem q1507 : (Jvm.Cond.privateMethod ({ cls := "HeldCoats$Reign", name := "draw", desc := "(I)I" } : Jvm.MethodName)) ∈ lw_tbl := lw_at lw_m6 195 rfl
theorem q1508 : (Jvm.Cond.instanceMethod ({ cls := "HeldCoats$Reign", name := "draw", desc := "(I)I" } : Jvm.MethodName)) ∈ lw_all := lw_g (lw_at lw_m6 196 rfl) rfl
theorem q1509 : (Jvm.Cond.code ({ cls := "HeldCoats$Reign", name := "draw", desc := "(I)I" } : Jvm.MethodName) prog_19_method_32_code (2 : Nat) (Option.some Jvm.ClassFile.FieldType.int)) ∈ lw_all := lw_g (lw_at lw_m6 197 rfl) rfl
theorem q1510 : (Jvm.Cond.constant "HeldCoats$Reign" (191 : Nat) (1103515245 : Int32)) ∈ lw_all := lw_g (lw_at lw_m6 198 rfl) rfl
theorem q1511 : (Jvm.Cond.methodLink "HeldCoats$Reign" (195 : Nat) ({ cls := "HeldCoats$Reign", name := "whyLay", desc := "(II)I" } : Jvm.MethodName)) ∈ lw_all := lw_g (lw_at lw_m6 199 rfl) rfl
theorem q1512 : (Jvm.Cond.methodLink "HeldCoats$Reign" (198 : Nat) ({ cls := "HeldCoats$Reign", name := "lay", desc := "(II)V" } : Jvm.MethodName)) ∈ lw_all := lw_g (lw_at lw_m6 200 rfl) rfl
theorem q1513 : (Jvm.Cond.methodLink "HeldCoats$Reign" (202 : Nat) ({ cls := "HeldCoats$Reign", name := "whyWear", desc := "(II)I" } : Jvm.MethodName)) ∈ lw_all := lw_g (lw_at lw_m6 201 rfl) rfl
theorem q1514 : (Jvm.Cond.methodLink "HeldCoats$Reign" (205 : Nat) ({ cls := "HeldCoats$Reign", name := "wear", desc := "(II)V" } : Jvm.MethodName)) ∈ lw_all := lw_g (lw_at lw_m6 202 rfl) rfl
theorem q1515 : (Jvm.Cond.methodLink "HeldCoats$Reign" (208 : Nat) ({ cls := "HeldCoats$Reign", name := "whyKeep", desc := "(I)I" } : Jvm.MethodName)) ∈ lw_all := lw_g (lw_at lw_m6 203 rfl) rfl
theorem q1853 : (Jvm.Cond.instanceMethod ({ cls := "HeldCoats$Reign", name := "heldBy", desc := "(I)I" } : Jvm.MethodName)) ∈ lw_all := lw_g (lw_at lw_m8 61 rfl) rfl
theorem q1854 : (Jvm.Cond.selects "HeldCoats$Reign" ({ cls := "HeldCoats$Reign", name := "heldBy", desc := "(I)I" } : Jvm.MethodName) ({ cls := "HeldCoats$Reign", name := "heldBy", desc := "(I)I" } : Jvm.MethodName)) ∈ lw_all := lw_g (lw_at lw_m8 62 rfl) rfl
theorem q1855 : (Jvm.Cond.code ({ cls := "HeldCoats$Reign", name := "heldBy", desc := "(I)I" } : Jvm.MethodName) prog_19_method_17_code (4 : Nat) (Option.some Jvm.ClassFile.FieldType.int)) ∈ lw_all := lw_g (lw_at lw_m8 63 rfl) rfl
theorem q1857 : (Jvm.Cond.instanceMethod ({ cls := "HeldCoats$Reign", name := "worth", desc := "(I)I" } : Jvm.MethodName)) ∈ lw_all := lw_g (lw_at lw_m8 65 rfl) rfl
theorem q1858 : (Jvm.Cond.selects "HeldCoats$Reign" ({ cls := "HeldCoats$Reign", name := "worth", desc := "(I)I" } : Jvm.MethodName) ({ cls := "HeldCoats$Reign", name := "worth", desc := "(I)I" } : Jvm.MethodName)) ∈ lw_all := lw_g (lw_at lw_m8 66 rfl) rfl
theorem q1859 : (Jvm.Cond.code ({ cls := "HeldCoats$Reign", name := "worth", desc := "(I)I" } : Jvm.MethodName) prog_19_method_18_code (4 : Nat) (Option.some Jvm.ClassFile.FieldType.int)) ∈ lw_all := lw_g (lw_at lw_m8 67 rfl) rfl
theorem q2541 : (Jvm.Cond.castable "HeldCoats$Reign" "java/lang/Object") ∈ lw_tbl := lw_at lw_m11 29 rfl
theorem q122 : (Jvm.Cond.initialized "HeldCoats$Kept") ∈ lw_all := lw_g (lw_at lw_m1 10 rfl) rfl
theorem q362 : (Jvm.Cond.instantiable "HeldCoats$Kept" (3 : Nat)) ∈ lw_all := lw_g (lw_at lw_m2 10 rfl) rfl
theorem q364 : (Jvm.Cond.instanceMethod ({ cls := "HeldCoats$Kept", name := "<init>", desc := "()V" } : Jvm.MethodName)) ∈ lw_all := lw_g (lw_at lw_m2 12 rfl) rfl
theorem q365 : (Jvm.Cond.code ({ cls := "HeldCoats$Kept", name := "<init>", desc := "()V" } : Jvm.MethodName) prog_11_method_1_code (1 : Nat) (Option.none : Option Jvm.ClassFile.FieldType)) ∈ lw_all := lw_g (lw_at lw_m2 13 rfl) rfl
theorem q366 : (Jvm.Cond.methodLink "HeldCoats$Kept" (1 : Nat) ({ cls := "java/lang/Object", name := "<init>", desc := "()V" } : Jvm.MethodName)) ∈ lw_all := lw_g (lw_at lw_m2 14 rfl) rfl
theorem q367 : (Jvm.Cond.classLink "HeldCoats$Kept" (7 : Nat) "HeldCoats$Reign") ∈ lw_all := lw_g (lw_at lw_m2 15 rfl) rfl
theorem q368 : (Jvm.Cond.methodLinkNest "HeldCoats$Kept" (9 : Nat) ({ cls := "HeldCoats$Reign", name := "<init>", desc := "()V" } : Jvm.MethodName) "HeldCoats") ∈ lw_tbl := lw_at lw_m2 16 rfl
theorem q371 : (Jvm.Cond.fieldLink "HeldCoats$Kept" (10 : Nat) "HeldCoats$Kept" "reign" "LHeldCoats$Reign;") ∈ lw_all := lw_g (lw_at lw_m2 19 rfl) rfl
theorem q373 : (Jvm.Cond.lays "HeldCoats$Kept" "HeldCoats$Kept" "capital" "LHeldCoats$Capital;") ∈ lw_all := lw_g (lw_at lw_m2 21 rfl) rfl
theorem q374 : (Jvm.Cond.soleField "HeldCoats$Kept" "capital") ∈ lw_all := lw_g (lw_at lw_m2 22 rfl) rfl
theorem q375 : (Jvm.Cond.lays "HeldCoats$Kept" "HeldCoats$Kept" "sentence" "LHeldCoats$Cond;") ∈ lw_all := lw_g (lw_at lw_m2 23 rfl) rfl
theorem q376 : (Jvm.Cond.soleField "HeldCoats$Kept" "sentence") ∈ lw_all := lw_g (lw_at lw_m2 24 rfl) rfl
theorem q377 : (Jvm.Cond.laysFinal "HeldCoats$Kept" "HeldCoats$Kept" "reign" "LHeldCoats$Reign;") ∈ lw_all := lw_g (lw_at lw_m2 25 rfl) rfl
theorem q378 : (Jvm.Cond.soleField "HeldCoats$Kept" "reign") ∈ lw_all := lw_g (lw_at lw_m2 26 rfl) rfl
theorem q379 : (Jvm.Cond.superclass "HeldCoats$Kept" "java/lang/Object") ∈ lw_all := lw_g (lw_at lw_m2 27 rfl) rfl
theorem q981 : (Jvm.Cond.selects "HeldCoats$Kept" ({ cls := "java/lang/Object", name := "getClass", desc := "()Ljava/lang/Class;" } : Jvm.MethodName) ({ cls := "java/lang/Object", name := "getClass", desc := "()Ljava/lang/Class;" } : Jvm.MethodName)) ∈ lw_all := lw_g (lw_at lw_m4 149 rfl) rfl
theorem q2542 : (Jvm.Cond.castable "HeldCoats$Kept" "java/lang/Object") ∈ lw_tbl := lw_at lw_m11 30 rfl
theorem q123 : (Jvm.Cond.initialized "HeldCoatsModel") ∈ lw_all := lw_g (lw_at lw_m1 11 rfl) rfl
theorem q993 : (Jvm.Cond.selects "HeldCoatsModel" ({ cls := "java/lang/Object", name := "getClass", desc := "()Ljava/lang/Class;" } : Jvm.MethodName) ({ cls := "java/lang/Object", name := "getClass", desc := "()Ljava/lang/Class;" } : Jvm.MethodName)) ∈ lw_all := lw_g (lw_at lw_m4 161 rfl) rfl
theorem q1869 : (Jvm.Cond.instanceMethod ({ cls := "HeldCoatsModel", name := "thrown", desc := "()I" } : Jvm.MethodName)) ∈ lw_all := lw_g (lw_at lw_m8 77 rfl) rfl
theorem q1870 : (Jvm.Cond.selects "HeldCoatsModel" ({ cls := "HeldCoatsModel", name := "thrown", desc := "()I" } : Jvm.MethodName) ({ cls := "HeldCoatsModel", name := "thrown", desc := "()I" } : Jvm.MethodName)) ∈ lw_all := lw_g (lw_at lw_m8 78 rfl) rfl
theorem q1871 : (Jvm.Cond.code ({ cls := "HeldCoatsModel", name := "thrown", desc := "()I" } : Jvm.MethodName) prog_28_method_1_code (1 : Nat) (Option.some Jvm.ClassFile.FieldType.int)) ∈ lw_all := lw_g (lw_at lw_m8 79 rfl) rfl
theorem q1873 : (Jvm.Cond.instanceMethod ({ cls := "HeldCoatsModel", name := "feed", desc := "(IIIII)I" } : Jvm.MethodName)) ∈ lw_all := lw_g (lw_at lw_m8 81 rfl) rfl
theorem q1874 : (Jvm.Cond.selects "HeldCoatsModel" ({ cls := "HeldCoatsModel", name := "feed", desc := "(IIIII)I" } : Jvm.MethodName) ({ cls := "HeldCoatsModel", name := "feed", desc := "(IIIII)I" } : Jvm.MethodName)) ∈ lw_all := lw_g (lw_at lw_m8 82 rfl) rfl
theorem q1875 : (Jvm.Cond.code ({ cls := "HeldCoatsModel", name := "feed", desc := "(IIIII)I" } : Jvm.MethodName) prog_28_method_3_code (6 : Nat) (Option.some Jvm.ClassFile.FieldType.int)) ∈ lw_all := lw_g (lw_at lw_m8 83 rfl) rfl
theorem q1876 : (Jvm.Cond.methodLink "HeldCoatsModel" (10 : Nat) ({ cls := "HeldCoatsModel", name := "four", desc := "(I)V" } : Jvm.MethodName)) ∈ lw_all := lw_g (lw_at lw_m8 84 rfl) rfl
theorem q1877 : (Jvm.Cond.privateMethod ({ cls := "HeldCoatsModel", name := "four", desc := "(I)V" } : Jvm.MethodName)) ∈ lw_tbl := lw_at lw_m8 85 rfl
theorem q1878 : (Jvm.Cond.instanceMethod ({ cls := "HeldCoatsModel", name := "four", desc := "(I)V" } : Jvm.MethodName)) ∈ lw_all := lw_g (lw_at lw_m8 86 rfl) rfl
theorem q1879 : (Jvm.Cond.instantiable "HeldCoatsModel" (49 : Nat)) ∈ lw_all := lw_g (lw_at lw_m8 87 rfl) rfl
theorem q1880 : (Jvm.Cond.code ({ cls := "HeldCoatsModel", name := "four", desc := "(I)V" } : Jvm.MethodName) prog_28_method_4_code (3 : Nat) (Option.none : Option Jvm.ClassFile.FieldType)) ∈ lw_all := lw_g (lw_at lw_m8 88 rfl) rfl
theorem q1882 : (Jvm.Cond.instanceMethod ({ cls := "HeldCoatsModel", name := "end", desc := "(I)Z" } : Jvm.MethodName)) ∈ lw_all := lw_g (lw_at lw_m8 90 rfl) rfl
theorem q1883 : (Jvm.Cond.selects "HeldCoatsModel" ({ cls := "HeldCoatsModel", name := "end", desc := "(I)Z" } : Jvm.MethodName) ({ cls := "HeldCoatsModel", name := "end", desc := "(I)Z" } : Jvm.MethodName)) ∈ lw_all := lw_g (lw_at lw_m8 91 rfl) rfl
theorem q1884 : (Jvm.Cond.code ({ cls := "HeldCoatsModel", name := "end", desc := "(I)Z" } : Jvm.MethodName) prog_28_method_5_code (2 : Nat) (Option.some Jvm.ClassFile.FieldType.boolean)) ∈ lw_all := lw_g (lw_at lw_m8 92 rfl) rfl
theorem q1887 : (Jvm.Cond.instanceMethod ({ cls := "HeldCoatsModel", name := "<init>", desc := "()V" } : Jvm.MethodName)) ∈ lw_all := lw_g (lw_at lw_m8 95 rfl) rfl
theorem q1888 : (Jvm.Cond.code ({ cls := "HeldCoatsModel", name := "<init>", desc := "()V" } : Jvm.MethodName) prog_28_method_12_code (2 : Nat) (Option.none : Option Jvm.ClassFile.FieldType)) ∈ lw_all := lw_g (lw_at lw_m8 96 rfl) rfl
theorem q1889 : (Jvm.Cond.methodLink "HeldCoatsModel" (27 : Nat) ({ cls := "java/lang/Object", name := "<init>", desc := "()V" } : Jvm.MethodName)) ∈ lw_all := lw_g (lw_at lw_m8 97 rfl) rfl
theorem q1890 : (Jvm.Cond.constantLong "HeldCoatsModel" (78 : Nat) (1936023924 : Int64)) ∈ lw_all := lw_g (lw_at lw_m8 98 rfl) rfl
theorem q1891 : (Jvm.Cond.constantLong "HeldCoatsModel" (80 : Nat) (7168366 : Int64)) ∈ lw_all := lw_g (lw_at lw_m8 99 rfl) rfl
theorem q1892 : (Jvm.Cond.constantLong "HeldCoatsModel" (82 : Nat) (1668243828 : Int64)) ∈ lw_all := lw_g (lw_at lw_m8 100 rfl) rfl
theorem q1893 : (Jvm.Cond.constantLong "HeldCoatsModel" (84 : Nat) (1668246628 : Int64)) ∈ lw_all := lw_g (lw_at lw_m8 101 rfl) rfl
theorem q1894 : (Jvm.Cond.constantLong "HeldCoatsModel" (86 : Nat) (126948184253810 : Int64)) ∈ lw_all := lw_g (lw_at lw_m8 102 rfl) rfl
theorem q1895 : (Jvm.Cond.constantLong "HeldCoatsModel" (88 : Nat) (448545973363 : Int64)) ∈ lw_all := lw_g (lw_at lw_m8 103 rfl) rfl
theorem q1896 : (Jvm.Cond.constantLong "HeldCoatsModel" (90 : Nat) (470021335155 : Int64)) ∈ lw_all := lw_g (lw_at lw_m8 104 rfl) rfl
theorem q1897 : (Jvm.Cond.constantLong "HeldCoatsModel" (92 : Nat) (465625246068 : Int64)) ∈ lw_all := lw_g (lw_at lw_m8 105 rfl) rfl
theorem q1898 : (Jvm.Cond.constantLong "HeldCoatsModel" (94 : Nat) (1818846579 : Int64)) ∈ lw_all := lw_g (lw_at lw_m8 106 rfl) rfl
theorem q1899 : (Jvm.Cond.constantLong "HeldCoatsModel" (96 : Nat) (1818586740 : Int64)) ∈ lw_all := lw_g (lw_at lw_m8 107 rfl) rfl
theorem q1900 : (Jvm.Cond.constantLong "HeldCoatsModel" (98 : Nat) (1801810036 : Int64)) ∈ lw_all := lw_g (lw_at lw_m8 108 rfl) rfl
theorem q1901 : (Jvm.Cond.constantLong "HeldCoatsModel" (100 : Nat) (512801993331 : Int64)) ∈ lw_all := lw_g (lw_at lw_m8 109 rfl) rfl
theorem q1902 : (Jvm.Cond.constantLong "HeldCoatsModel" (102 : Nat) (6578553 : Int64)) ∈ lw_all := lw_g (lw_at lw_m8 110 rfl) rfl
theorem q1903 : (Jvm.Cond.constantLong "HeldCoatsModel" (104 : Nat) (28530 : Int64)) ∈ lw_all := lw_g (lw_at lw_m8 111 rfl) rfl
theorem q1904 : (Jvm.Cond.constantLong "HeldCoatsModel" (106 : Nat) (6385252 : Int64)) ∈ lw_all := lw_g (lw_at lw_m8 112 rfl) rfl
theorem q1905 : (Jvm.Cond.constantLong "HeldCoatsModel" (108 : Nat) (7237492 : Int64)) ∈ lw_all := lw_g (lw_at lw_m8 113 rfl) rfl
theorem q1906 : (Jvm.Cond.constantLong "HeldCoatsModel" (110 : Nat) (1650553445 : Int64)) ∈ lw_all := lw_g (lw_at lw_m8 114 rfl) rfl
theorem q1907 : (Jvm.Cond.constantLong "HeldCoatsModel" (112 : Nat) (1751477348 : Int64)) ∈ lw_all := lw_g (lw_at lw_m8 115 rfl) rfl
theorem q1908 : (Jvm.Cond.constantLong "HeldCoatsModel" (114 : Nat) (28518 : Int64)) ∈ lw_all := lw_g (lw_at lw_m8 116 rfl) rfl
theorem q1909 : (Jvm.Cond.constantLong "HeldCoatsModel" (116 : Nat) (504363246962 : Int64)) ∈ lw_all := lw_g (lw_at lw_m8 117 rfl) rfl
theorem q1910 : (Jvm.Cond.constantLong "HeldCoatsModel" (118 : Nat) (512970880104 : Int64)) ∈ lw_all := lw_g (lw_at lw_m8 118 rfl) rfl
theorem q1911 : (Jvm.Cond.constantLong "HeldCoatsModel" (120 : Nat) (1684109683 : Int64)) ∈ lw_all := lw_g (lw_at lw_m8 119 rfl) rfl
theorem q1912 : (Jvm.Cond.constantLong "HeldCoatsModel" (122 : Nat) (427021005928 : Int64)) ∈ lw_all := lw_g (lw_at lw_m8 120 rfl) rfl
theorem q1913 : (Jvm.Cond.constantLong "HeldCoatsModel" (124 : Nat) (121450625394034 : Int64)) ∈ lw_all := lw_g (lw_at lw_m8 121 rfl) rfl
theorem q1914 : (Jvm.Cond.methodLink "HeldCoatsModel" (126 : Nat) ({ cls := "HeldCoatsModel", name := "clears", desc := "()V" } : Jvm.MethodName)) ∈ lw_all := lw_g (lw_at lw_m8 122 rfl) rfl
theorem q1915 : (Jvm.Cond.privateMethod ({ cls := "HeldCoatsModel", name := "clears", desc := "()V" } : Jvm.MethodName)) ∈ lw_tbl := lw_at lw_m8 123 rfl
theorem q1916 : (Jvm.Cond.instanceMethod ({ cls := "HeldCoatsModel", name := "clears", desc := "()V" } : Jvm.MethodName)) ∈ lw_all := lw_g (lw_at lw_m8 124 rfl) rfl
theorem q1917 : (Jvm.Cond.code ({ cls := "HeldCoatsModel", name := "clears", desc := "()V" } : Jvm.MethodName) prog_28_method_13_code (2 : Nat) (Option.none : Option Jvm.ClassFile.FieldType)) ∈ lw_all := lw_g (lw_at lw_m8 125 rfl) rfl
theorem q1918 : (Jvm.Cond.fieldLink "HeldCoatsModel" (1 : Nat) "HeldCoatsModel" "thrown" "I") ∈ lw_all := lw_g (lw_at lw_m8 126 rfl) rfl
theorem q1919 : (Jvm.Cond.fieldLink "HeldCoatsModel" (14 : Nat) "HeldCoatsModel" "tape" "[B") ∈ lw_all := lw_g (lw_at lw_m8 127 rfl) rfl
theorem q1920 : (Jvm.Cond.fieldLink "HeldCoatsModel" (7 : Nat) "HeldCoatsModel" "length" "I") ∈ lw_all := lw_g (lw_at lw_m8 128 rfl) rfl
theorem q1921 : (Jvm.Cond.fieldLink "HeldCoatsModel" (18 : Nat) "HeldCoatsModel" "size" "I") ∈ lw_all := lw_g (lw_at lw_m8 129 rfl) rfl
theorem q1922 : (Jvm.Cond.fieldLink "HeldCoatsModel" (21 : Nat) "HeldCoatsModel" "p" "I") ∈ lw_all := lw_g (lw_at lw_m8 130 rfl) rfl
theorem q1923 : (Jvm.Cond.fieldLink "HeldCoatsModel" (24 : Nat) "HeldCoatsModel" "limit" "I") ∈ lw_all := lw_g (lw_at lw_m8 131 rfl) rfl
theorem q1924 : (Jvm.Cond.fieldLink "HeldCoatsModel" (33 : Nat) "HeldCoatsModel" "s" "[I") ∈ lw_all := lw_g (lw_at lw_m8 132 rfl) rfl
theorem q1925 : (Jvm.Cond.fieldLink "HeldCoatsModel" (37 : Nat) "HeldCoatsModel" "h" "[I") ∈ lw_all := lw_g (lw_at lw_m8 133 rfl) rfl
theorem q1926 : (Jvm.Cond.fieldLink "HeldCoatsModel" (40 : Nat) "HeldCoatsModel" "read" "[I") ∈ lw_all := lw_g (lw_at lw_m8 134 rfl) rfl
theorem q1927 : (Jvm.Cond.fieldLink "HeldCoatsModel" (43 : Nat) "HeldCoatsModel" "names" "[J") ∈ lw_all := lw_g (lw_at lw_m8 135 rfl) rfl
theorem q1928 : (Jvm.Cond.fieldLink "HeldCoatsModel" (47 : Nat) "HeldCoatsModel" "reserved" "[J") ∈ lw_all := lw_g (lw_at lw_m8 136 rfl) rfl
theorem q1929 : (Jvm.Cond.fieldLink "HeldCoatsModel" (139 : Nat) "HeldCoatsModel" "token" "I") ∈ lw_all := lw_g (lw_at lw_m8 137 rfl) rfl
theorem q1930 : (Jvm.Cond.fieldLink "HeldCoatsModel" (133 : Nat) "HeldCoatsModel" "at" "I") ∈ lw_all := lw_g (lw_at lw_m8 138 rfl) rfl
theorem q1931 : (Jvm.Cond.fieldLink "HeldCoatsModel" (136 : Nat) "HeldCoatsModel" "span" "I") ∈ lw_all := lw_g (lw_at lw_m8 139 rfl) rfl
theorem q1932 : (Jvm.Cond.fieldLink "HeldCoatsModel" (149 : Nat) "HeldCoatsModel" "number" "I") ∈ lw_all := lw_g (lw_at lw_m8 140 rfl) rfl
theorem q1933 : (Jvm.Cond.fieldLink "HeldCoatsModel" (156 : Nat) "HeldCoatsModel" "fault" "I") ∈ lw_all := lw_g (lw_at lw_m8 141 rfl) rfl
theorem q1934 : (Jvm.Cond.fieldLink "HeldCoatsModel" (159 : Nat) "HeldCoatsModel" "faultAt" "I") ∈ lw_all := lw_g (lw_at lw_m8 142 rfl) rfl
theorem q1935 : (Jvm.Cond.fieldLink "HeldCoatsModel" (152 : Nat) "HeldCoatsModel" "word" "J") ∈ lw_all := lw_g (lw_at lw_m8 143 rfl) rfl
theorem q1936 : (Jvm.Cond.fieldLink "HeldCoatsModel" (175 : Nat) "HeldCoatsModel" "got" "I") ∈ lw_all := lw_g (lw_at lw_m8 144 rfl) rfl
theorem q1937 : (Jvm.Cond.fieldLink "HeldCoatsModel" (222 : Nat) "HeldCoatsModel" "lines" "I") ∈ lw_all := lw_g (lw_at lw_m8 145 rfl) rfl
theorem q1938 : (Jvm.Cond.fieldLink "HeldCoatsModel" (193 : Nat) "HeldCoatsModel" "onces" "I") ∈ lw_all := lw_g (lw_at lw_m8 146 rfl) rfl
theorem q1939 : (Jvm.Cond.fieldLink "HeldCoatsModel" (50 : Nat) "HeldCoatsModel" "undone" "[I") ∈ lw_all := lw_g (lw_at lw_m8 147 rfl) rfl
theorem q1940 : (Jvm.Cond.fieldLink "HeldCoatsModel" (53 : Nat) "HeldCoatsModel" "before" "[I") ∈ lw_all := lw_g (lw_at lw_m8 148 rfl) rfl
theorem q1941 : (Jvm.Cond.fieldLink "HeldCoatsModel" (231 : Nat) "HeldCoatsModel" "undoMany" "I") ∈ lw_all := lw_g (lw_at lw_m8 149 rfl) rfl
theorem q1942 : (Jvm.Cond.fieldLink "HeldCoatsModel" (329 : Nat) "HeldCoatsModel" "laidSet" "I") ∈ lw_all := lw_g (lw_at lw_m8 150 rfl) rfl
theorem q1943 : (Jvm.Cond.fieldLink "HeldCoatsModel" (332 : Nat) "HeldCoatsModel" "hasLaid" "Z") ∈ lw_all := lw_g (lw_at lw_m8 151 rfl) rfl
theorem q1944 : (Jvm.Cond.fieldLink "HeldCoatsModel" (336 : Nat) "HeldCoatsModel" "turnSet" "I") ∈ lw_all := lw_g (lw_at lw_m8 152 rfl) rfl
theorem q1945 : (Jvm.Cond.fieldLink "HeldCoatsModel" (339 : Nat) "HeldCoatsModel" "hasTurns" "Z") ∈ lw_all := lw_g (lw_at lw_m8 153 rfl) rfl
theorem q1946 : (Jvm.Cond.fieldLink "HeldCoatsModel" (348 : Nat) "HeldCoatsModel" "frostDay" "I") ∈ lw_all := lw_g (lw_at lw_m8 154 rfl) rfl
theorem q1947 : (Jvm.Cond.fieldLink "HeldCoatsModel" (372 : Nat) "HeldCoatsModel" "surelySet" "I") ∈ lw_all := lw_g (lw_at lw_m8 155 rfl) rfl
theorem q1948 : (Jvm.Cond.fieldLink "HeldCoatsModel" (375 : Nat) "HeldCoatsModel" "neverSet" "I") ∈ lw_all := lw_g (lw_at lw_m8 156 rfl) rfl
theorem q1949 : (Jvm.Cond.fieldLink "HeldCoatsModel" (369 : Nat) "HeldCoatsModel" "hasHooks" "Z") ∈ lw_all := lw_g (lw_at lw_m8 157 rfl) rfl
theorem q1950 : (Jvm.Cond.fieldLink "HeldCoatsModel" (56 : Nat) "HeldCoatsModel" "sat" "[I") ∈ lw_all := lw_g (lw_at lw_m8 158 rfl) rfl
theorem q1951 : (Jvm.Cond.fieldLink "HeldCoatsModel" (378 : Nat) "HeldCoatsModel" "priceNow" "I") ∈ lw_all := lw_g (lw_at lw_m8 159 rfl) rfl
theorem q1952 : (Jvm.Cond.fieldLink "HeldCoatsModel" (381 : Nat) "HeldCoatsModel" "hasPrice" "Z") ∈ lw_all := lw_g (lw_at lw_m8 160 rfl) rfl
theorem q1953 : (Jvm.Cond.fieldLink "HeldCoatsModel" (384 : Nat) "HeldCoatsModel" "seed" "I") ∈ lw_all := lw_g (lw_at lw_m8 161 rfl) rfl
theorem q1954 : (Jvm.Cond.fieldLink "HeldCoatsModel" (397 : Nat) "HeldCoatsModel" "toldMany" "I") ∈ lw_all := lw_g (lw_at lw_m8 162 rfl) rfl
theorem q1955 : (Jvm.Cond.fieldLink "HeldCoatsModel" (59 : Nat) "HeldCoatsModel" "toldAt" "[I") ∈ lw_all := lw_g (lw_at lw_m8 163 rfl) rfl
theorem q1956 : (Jvm.Cond.fieldLink "HeldCoatsModel" (406 : Nat) "HeldCoatsModel" "hasTold" "Z") ∈ lw_all := lw_g (lw_at lw_m8 164 rfl) rfl
theorem q1957 : (Jvm.Cond.fieldLink "HeldCoatsModel" (62 : Nat) "HeldCoatsModel" "stack" "[I") ∈ lw_all := lw_g (lw_at lw_m8 165 rfl) rfl
theorem q1958 : (Jvm.Cond.fieldLink "HeldCoatsModel" (409 : Nat) "HeldCoatsModel" "codes" "I") ∈ lw_all := lw_g (lw_at lw_m8 166 rfl) rfl
theorem q1959 : (Jvm.Cond.fieldLink "HeldCoatsModel" (425 : Nat) "HeldCoatsModel" "ones" "I") ∈ lw_all := lw_g (lw_at lw_m8 167 rfl) rfl
theorem q1960 : (Jvm.Cond.fieldLink "HeldCoatsModel" (412 : Nat) "HeldCoatsModel" "top" "I") ∈ lw_all := lw_g (lw_at lw_m8 168 rfl) rfl
theorem q1961 : (Jvm.Cond.fieldLink "HeldCoatsModel" (419 : Nat) "HeldCoatsModel" "deep" "I") ∈ lw_all := lw_g (lw_at lw_m8 169 rfl) rfl
theorem q1962 : (Jvm.Cond.fieldLink "HeldCoatsModel" (428 : Nat) "HeldCoatsModel" "isWhole" "Z") ∈ lw_all := lw_g (lw_at lw_m8 170 rfl) rfl
theorem q1963 : (Jvm.Cond.fieldLink "HeldCoatsModel" (65 : Nat) "HeldCoatsModel" "truths" "[Z") ∈ lw_all := lw_g (lw_at lw_m8 171 rfl) rfl
theorem q1964 : (Jvm.Cond.fieldLink "HeldCoatsModel" (69 : Nat) "HeldCoatsModel" "kept" "[I") ∈ lw_all := lw_g (lw_at lw_m8 172 rfl) rfl
theorem q1965 : (Jvm.Cond.fieldLink "HeldCoatsModel" (72 : Nat) "HeldCoatsModel" "namesKept" "[J") ∈ lw_all := lw_g (lw_at lw_m8 173 rfl) rfl
theorem q1966 : (Jvm.Cond.fieldLink "HeldCoatsModel" (75 : Nat) "HeldCoatsModel" "areKept" "[Z") ∈ lw_all := lw_g (lw_at lw_m8 174 rfl) rfl
theorem q1967 : (Jvm.Cond.lays "HeldCoatsModel" "HeldCoatsModel" "thrown" "I") ∈ lw_all := lw_g (lw_at lw_m8 175 rfl) rfl
theorem q1968 : (Jvm.Cond.soleField "HeldCoatsModel" "thrown") ∈ lw_all := lw_g (lw_at lw_m8 176 rfl) rfl
theorem q1969 : (Jvm.Cond.laysFinal "HeldCoatsModel" "HeldCoatsModel" "tape" "[B") ∈ lw_all := lw_g (lw_at lw_m8 177 rfl) rfl
theorem q1970 : (Jvm.Cond.soleField "HeldCoatsModel" "tape") ∈ lw_all := lw_g (lw_at lw_m8 178 rfl) rfl
theorem q1971 : (Jvm.Cond.lays "HeldCoatsModel" "HeldCoatsModel" "length" "I") ∈ lw_all := lw_g (lw_at lw_m8 179 rfl) rfl
theorem q1972 : (Jvm.Cond.soleField "HeldCoatsModel" "length") ∈ lw_all := lw_g (lw_at lw_m8 180 rfl) rfl
theorem q1973 : (Jvm.Cond.lays "HeldCoatsModel" "HeldCoatsModel" "size" "I") ∈ lw_all := lw_g (lw_at lw_m8 181 rfl) rfl
theorem q1974 : (Jvm.Cond.soleField "HeldCoatsModel" "size") ∈ lw_all := lw_g (lw_at lw_m8 182 rfl) rfl
theorem q1975 : (Jvm.Cond.lays "HeldCoatsModel" "HeldCoatsModel" "p" "I") ∈ lw_all := lw_g (lw_at lw_m8 183 rfl) rfl
theorem q1976 : (Jvm.Cond.soleField "HeldCoatsModel" "p") ∈ lw_all := lw_g (lw_at lw_m8 184 rfl) rfl
theorem q1977 : (Jvm.Cond.lays "HeldCoatsModel" "HeldCoatsModel" "limit" "I") ∈ lw_all := lw_g (lw_at lw_m8 185 rfl) rfl
theorem q1978 : (Jvm.Cond.soleField "HeldCoatsModel" "limit") ∈ lw_all := lw_g (lw_at lw_m8 186 rfl) rfl
theorem q1979 : (Jvm.Cond.laysFinal "HeldCoatsModel" "HeldCoatsModel" "s" "[I") ∈ lw_all := lw_g (lw_at lw_m8 187 rfl) rfl
theorem q1980 : (Jvm.Cond.soleField "HeldCoatsModel" "s") ∈ lw_all := lw_g (lw_at lw_m8 188 rfl) rfl
theorem q1981 : (Jvm.Cond.laysFinal "HeldCoatsModel" "HeldCoatsModel" "h" "[I") ∈ lw_all := lw_g (lw_at lw_m8 189 rfl) rfl
theorem q1982 : (Jvm.Cond.soleField "HeldCoatsModel" "h") ∈ lw_all := lw_g (lw_at lw_m8 190 rfl) rfl
theorem q1983 : (Jvm.Cond.laysFinal "HeldCoatsModel" "HeldCoatsModel" "read" "[I") ∈ lw_all := lw_g (lw_at lw_m8 191 rfl) rfl
theorem q1984 : (Jvm.Cond.soleField "HeldCoatsModel" "read") ∈ lw_all := lw_g (lw_at lw_m8 192 rfl) rfl
theorem q1985 : (Jvm.Cond.laysFinal "HeldCoatsModel" "HeldCoatsModel" "names" "[J") ∈ lw_all := lw_g (lw_at lw_m8 193 rfl) rfl
theorem q1986 : (Jvm.Cond.soleField "HeldCoatsModel" "names") ∈ lw_all := lw_g (lw_at lw_m8 194 rfl) rfl
theorem q1987 : (Jvm.Cond.laysFinal "HeldCoatsModel" "HeldCoatsModel" "reserved" "[J") ∈ lw_all := lw_g (lw_at lw_m8 195 rfl) rfl
theorem q1988 : (Jvm.Cond.soleField "HeldCoatsModel" "reserved") ∈ lw_all := lw_g (lw_at lw_m8 196 rfl) rfl
theorem q1989 : (Jvm.Cond.lays "HeldCoatsModel" "HeldCoatsModel" "token" "I") ∈ lw_all := lw_g (lw_at lw_m8 197 rfl) rfl
theorem q1990 : (Jvm.Cond.soleField "HeldCoatsModel" "token") ∈ lw_all := lw_g (lw_at lw_m8 198 rfl) rfl
theorem q1991 : (Jvm.Cond.lays "HeldCoatsModel" "HeldCoatsModel" "at" "I") ∈ lw_all := lw_g (lw_at lw_m8 199 rfl) rfl
theorem q1992 : (Jvm.Cond.soleField "HeldCoatsModel" "at") ∈ lw_all := lw_g (lw_at lw_m8 200 rfl) rfl
theorem q1993 : (Jvm.Cond.lays "HeldCoatsModel" "HeldCoatsModel" "span" "I") ∈ lw_all := lw_g (lw_at lw_m8 201 rfl) rfl
theorem q1994 : (Jvm.Cond.soleField "HeldCoatsModel" "span") ∈ lw_all := lw_g (lw_at lw_m8 202 rfl) rfl
theorem q1995 : (Jvm.Cond.lays "HeldCoatsModel" "HeldCoatsModel" "number" "I") ∈ lw_all := lw_g (lw_at lw_m8 203 rfl) rfl
theorem q1996 : (Jvm.Cond.soleField "HeldCoatsModel" "number") ∈ lw_all := lw_g (lw_at lw_m8 204 rfl) rfl
theorem q1997 : (Jvm.Cond.lays "HeldCoatsModel" "HeldCoatsModel" "fault" "I") ∈ lw_all := lw_g (lw_at lw_m8 205 rfl) rfl
theorem q1998 : (Jvm.Cond.soleField "HeldCoatsModel" "fault") ∈ lw_all := lw_g (lw_at lw_m8 206 rfl) rfl
theorem q1999 : (Jvm.Cond.lays "HeldCoatsModel" "HeldCoatsModel" "faultAt" "I") ∈ lw_all := lw_g (lw_at lw_m8 207 rfl) rfl
theorem q2000 : (Jvm.Cond.soleField "HeldCoatsModel" "faultAt") ∈ lw_all := lw_g (lw_at lw_m8 208 rfl) rfl
theorem q2001 : (Jvm.Cond.lays "HeldCoatsModel" "HeldCoatsModel" "word" "J") ∈ lw_all := lw_g (lw_at lw_m8 209 rfl) rfl
theorem q2002 : (Jvm.Cond.soleField "HeldCoatsModel" "word") ∈ lw_all := lw_g (lw_at lw_m8 210 rfl) rfl
theorem q2003 : (Jvm.Cond.lays "HeldCoatsModel" "HeldCoatsModel" "got" "I") ∈ lw_all := lw_g (lw_at lw_m8 211 rfl) rfl
theorem q2004 : (Jvm.Cond.soleField "HeldCoatsModel" "got") ∈ lw_all := lw_g (lw_at lw_m8 212 rfl) rfl
theorem q2005 : (Jvm.Cond.lays "HeldCoatsModel" "HeldCoatsModel" "lines" "I") ∈ lw_all := lw_g (lw_at lw_m8 213 rfl) rfl
theorem q2006 : (Jvm.Cond.soleField "HeldCoatsModel" "lines") ∈ lw_all := lw_g (lw_at lw_m8 214 rfl) rfl
theorem q2007 : (Jvm.Cond.lays "HeldCoatsModel" "HeldCoatsModel" "onces" "I") ∈ lw_all := lw_g (lw_at lw_m8 215 rfl) rfl
theorem q2008 : (Jvm.Cond.soleField "HeldCoatsModel" "onces") ∈ lw_all := lw_g (lw_at lw_m8 216 rfl) rfl
theorem q2009 : (Jvm.Cond.laysFinal "HeldCoatsModel" "HeldCoatsModel" "undone" "[I") ∈ lw_all := lw_g (lw_at lw_m8 217 rfl) rfl
theorem q2010 : (Jvm.Cond.soleField "HeldCoatsModel" "undone") ∈ lw_all := lw_g (lw_at lw_m8 218 rfl) rfl
theorem q2011 : (Jvm.Cond.laysFinal "HeldCoatsModel" "HeldCoatsModel" "before" "[I") ∈ lw_all := lw_g (lw_at lw_m8 219 rfl) rfl
theorem q2012 : (Jvm.Cond.soleField "HeldCoatsModel" "before") ∈ lw_all := lw_g (lw_at lw_m8 220 rfl) rfl
theorem q2013 : (Jvm.Cond.lays "HeldCoatsModel" "HeldCoatsModel" "undoMany" "I") ∈ lw_all := lw_g (lw_at lw_m8 221 rfl) rfl
theorem q2014 : (Jvm.Cond.soleField "HeldCoatsModel" "undoMany") ∈ lw_all := lw_g (lw_at lw_m8 222 rfl) rfl
theorem q2015 : (Jvm.Cond.lays "HeldCoatsModel" "HeldCoatsModel" "laidSet" "I") ∈ lw_all := lw_g (lw_at lw_m8 223 rfl) rfl
theorem q2016 : (Jvm.Cond.soleField "HeldCoatsModel" "laidSet") ∈ lw_all := lw_g (lw_at lw_m8 224 rfl) rfl
theorem q2017 : (Jvm.Cond.lays "HeldCoatsModel" "HeldCoatsModel" "hasLaid" "Z") ∈ lw_all := lw_g (lw_at lw_m8 225 rfl) rfl
theorem q2018 : (Jvm.Cond.soleField "HeldCoatsModel" "hasLaid") ∈ lw_all := lw_g (lw_at lw_m8 226 rfl) rfl
theorem q2019 : (Jvm.Cond.lays "HeldCoatsModel" "HeldCoatsModel" "turnSet" "I") ∈ lw_all := lw_g (lw_at lw_m8 227 rfl) rfl
theorem q2020 : (Jvm.Cond.soleField "HeldCoatsModel" "turnSet") ∈ lw_all := lw_g (lw_at lw_m8 228 rfl) rfl
theorem q2021 : (Jvm.Cond.lays "HeldCoatsModel" "HeldCoatsModel" "hasTurns" "Z") ∈ lw_all := lw_g (lw_at lw_m8 229 rfl) rfl
theorem q2022 : (Jvm.Cond.soleField "HeldCoatsModel" "hasTurns") ∈ lw_all := lw_g (lw_at lw_m8 230 rfl) rfl
theorem q2023 : (Jvm.Cond.lays "HeldCoatsModel" "HeldCoatsModel" "frostDay" "I") ∈ lw_all := lw_g (lw_at lw_m8 231 rfl) rfl
theorem q2024 : (Jvm.Cond.soleField "HeldCoatsModel" "frostDay") ∈ lw_all := lw_g (lw_at lw_m8 232 rfl) rfl
theorem q2025 : (Jvm.Cond.lays "HeldCoatsModel" "HeldCoatsModel" "surelySet" "I") ∈ lw_all := lw_g (lw_at lw_m8 233 rfl) rfl
theorem q2026 : (Jvm.Cond.soleField "HeldCoatsModel" "surelySet") ∈ lw_all := lw_g (lw_at lw_m8 234 rfl) rfl
theorem q2027 : (Jvm.Cond.lays "HeldCoatsModel" "HeldCoatsModel" "neverSet" "I") ∈ lw_all := lw_g (lw_at lw_m8 235 rfl) rfl
theorem q2028 : (Jvm.Cond.soleField "HeldCoatsModel" "neverSet") ∈ lw_all := lw_g (lw_at lw_m8 236 rfl) rfl
theorem q2029 : (Jvm.Cond.lays "HeldCoatsModel" "HeldCoatsModel" "hasHooks" "Z") ∈ lw_all := lw_g (lw_at lw_m8 237 rfl) rfl
theorem q2030 : (Jvm.Cond.soleField "HeldCoatsModel" "hasHooks") ∈ lw_all := lw_g (lw_at lw_m8 238 rfl) rfl
theorem q2031 : (Jvm.Cond.laysFinal "HeldCoatsModel" "HeldCoatsModel" "sat" "[I") ∈ lw_all := lw_g (lw_at lw_m8 239 rfl) rfl
theorem q2032 : (Jvm.Cond.soleField "HeldCoatsModel" "sat") ∈ lw_all := lw_g (lw_at lw_m9 0 rfl) rfl
theorem q2033 : (Jvm.Cond.lays "HeldCoatsModel" "HeldCoatsModel" "priceNow" "I") ∈ lw_all := lw_g (lw_at lw_m9 1 rfl) rfl
theorem q2034 : (Jvm.Cond.soleField "HeldCoatsModel" "priceNow") ∈ lw_all := lw_g (lw_at lw_m9 2 rfl) rfl
theorem q2035 : (Jvm.Cond.lays "HeldCoatsModel" "HeldCoatsModel" "hasPrice" "Z") ∈ lw_all := lw_g (lw_at lw_m9 3 rfl) rfl
theorem q2036 : (Jvm.Cond.soleField "HeldCoatsModel" "hasPrice") ∈ lw_all := lw_g (lw_at lw_m9 4 rfl) rfl
theorem q2037 : (Jvm.Cond.lays "HeldCoatsModel" "HeldCoatsModel" "seed" "I") ∈ lw_all := lw_g (lw_at lw_m9 5 rfl) rfl
theorem q2038 : (Jvm.Cond.soleField "HeldCoatsModel" "seed") ∈ lw_all := lw_g (lw_at lw_m9 6 rfl) rfl
theorem q2039 : (Jvm.Cond.lays "HeldCoatsModel" "HeldCoatsModel" "toldMany" "I") ∈ lw_all := lw_g (lw_at lw_m9 7 rfl) rfl
theorem q2040 : (Jvm.Cond.soleField "HeldCoatsModel" "toldMany") ∈ lw_all := lw_g (lw_at lw_m9 8 rfl) rfl
theorem q2041 : (Jvm.Cond.laysFinal "HeldCoatsModel" "HeldCoatsModel" "toldAt" "[I") ∈ lw_all := lw_g (lw_at lw_m9 9 rfl) rfl
theorem q2042 : (Jvm.Cond.soleField "HeldCoatsModel" "toldAt") ∈ lw_all := lw_g (lw_at lw_m9 10 rfl) rfl
theorem q2043 : (Jvm.Cond.lays "HeldCoatsModel" "HeldCoatsModel" "hasTold" "Z") ∈ lw_all := lw_g (lw_at lw_m9 11 rfl) rfl
theorem q2044 : (Jvm.Cond.soleField "HeldCoatsModel" "hasTold") ∈ lw_all := lw_g (lw_at lw_m9 12 rfl) rfl
theorem q2045 : (Jvm.Cond.laysFinal "HeldCoatsModel" "HeldCoatsModel" "stack" "[I") ∈ lw_all := lw_g (lw_at lw_m9 13 rfl) rfl
theorem q2046 : (Jvm.Cond.soleField "HeldCoatsModel" "stack") ∈ lw_all := lw_g (lw_at lw_m9 14 rfl) rfl
theorem q2047 : (Jvm.Cond.lays "HeldCoatsModel" "HeldCoatsModel" "codes" "I") ∈ lw_all := lw_g (lw_at lw_m9 15 rfl) rfl
theorem q2048 : (Jvm.Cond.soleField "HeldCoatsModel" "codes") ∈ lw_all := lw_g (lw_at lw_m9 16 rfl) rfl
theorem q2049 : (Jvm.Cond.lays "HeldCoatsModel" "HeldCoatsModel" "ones" "I") ∈ lw_all := lw_g (lw_at lw_m9 17 rfl) rfl
theorem q2050 : (Jvm.Cond.soleField "HeldCoatsModel" "ones") ∈ lw_all := lw_g (lw_at lw_m9 18 rfl) rfl
theorem q2051 : (Jvm.Cond.lays "HeldCoatsModel" "HeldCoatsModel" "top" "I") ∈ lw_all := lw_g (lw_at lw_m9 19 rfl) rfl
theorem q2052 : (Jvm.Cond.soleField "HeldCoatsModel" "top") ∈ lw_all := lw_g (lw_at lw_m9 20 rfl) rfl
theorem q2053 : (Jvm.Cond.lays "HeldCoatsModel" "HeldCoatsModel" "deep" "I") ∈ lw_all := lw_g (lw_at lw_m9 21 rfl) rfl
theorem q2054 : (Jvm.Cond.soleField "HeldCoatsModel" "deep") ∈ lw_all := lw_g (lw_at lw_m9 22 rfl) rfl
theorem q2055 : (Jvm.Cond.lays "HeldCoatsModel" "HeldCoatsModel" "isWhole" "Z") ∈ lw_all := lw_g (lw_at lw_m9 23 rfl) rfl
theorem q2056 : (Jvm.Cond.soleField "HeldCoatsModel" "isWhole") ∈ lw_all := lw_g (lw_at lw_m9 24 rfl) rfl
theorem q2057 : (Jvm.Cond.laysFinal "HeldCoatsModel" "HeldCoatsModel" "truths" "[Z") ∈ lw_all := lw_g (lw_at lw_m9 25 rfl) rfl
theorem q2058 : (Jvm.Cond.soleField "HeldCoatsModel" "truths") ∈ lw_all := lw_g (lw_at lw_m9 26 rfl) rfl
theorem q2059 : (Jvm.Cond.laysFinal "HeldCoatsModel" "HeldCoatsModel" "kept" "[I") ∈ lw_all := lw_g (lw_at lw_m9 27 rfl) rfl
theorem q2060 : (Jvm.Cond.soleField "HeldCoatsModel" "kept") ∈ lw_all := lw_g (lw_at lw_m9 28 rfl) rfl
theorem q2061 : (Jvm.Cond.laysFinal "HeldCoatsModel" "HeldCoatsModel" "namesKept" "[J") ∈ lw_all := lw_g (lw_at lw_m9 29 rfl) rfl
theorem q2062 : (Jvm.Cond.soleField "HeldCoatsModel" "namesKept") ∈ lw_all := lw_g (lw_at lw_m9 30 rfl) rfl
theorem q2063 : (Jvm.Cond.laysFinal "HeldCoatsModel" "HeldCoatsModel" "areKept" "[Z") ∈ lw_all := lw_g (lw_at lw_m9 31 rfl) rfl
theorem q2064 : (Jvm.Cond.soleField "HeldCoatsModel" "areKept") ∈ lw_all := lw_g (lw_at lw_m9 32 rfl) rfl
theorem q2065 : (Jvm.Cond.superclass "HeldCoatsModel" "java/lang/Object") ∈ lw_all := lw_g (lw_at lw_m9 33 rfl) rfl
theorem q2069 : (Jvm.Cond.instanceMethod ({ cls := "HeldCoatsModel", name := "capital", desc := "()I" } : Jvm.MethodName)) ∈ lw_all := lw_g (lw_at lw_m9 37 rfl) rfl
theorem q2070 : (Jvm.Cond.selects "HeldCoatsModel" ({ cls := "HeldCoatsModel", name := "capital", desc := "()I" } : Jvm.MethodName) ({ cls := "HeldCoatsModel", name := "capital", desc := "()I" } : Jvm.MethodName)) ∈ lw_all := lw_g (lw_at lw_m9 38 rfl) rfl
theorem q2071 : (Jvm.Cond.code ({ cls := "HeldCoatsModel", name := "capital", desc := "()I" } : Jvm.MethodName) prog_28_method_32_code (2 : Nat) (Option.some Jvm.ClassFile.FieldType.int)) ∈ lw_all := lw_g (lw_at lw_m9 39 rfl) rfl
theorem q2072 : (Jvm.Cond.methodLink "HeldCoatsModel" (219 : Nat) ({ cls := "HeldCoatsModel", name := "taken", desc := "(I)V" } : Jvm.MethodName)) ∈ lw_all := lw_g (lw_at lw_m9 40 rfl) rfl
theorem q2073 : (Jvm.Cond.privateMethod ({ cls := "HeldCoatsModel", name := "taken", desc := "(I)V" } : Jvm.MethodName)) ∈ lw_tbl := lw_at lw_m9 41 rfl
theorem q2074 : (Jvm.Cond.instanceMethod ({ cls := "HeldCoatsModel", name := "taken", desc := "(I)V" } : Jvm.MethodName)) ∈ lw_all := lw_g (lw_at lw_m9 42 rfl) rfl
theorem q2075 : (Jvm.Cond.code ({ cls := "HeldCoatsModel", name := "taken", desc := "(I)V" } : Jvm.MethodName) prog_28_method_6_code (2 : Nat) (Option.none : Option Jvm.ClassFile.FieldType)) ∈ lw_all := lw_g (lw_at lw_m9 43 rfl) rfl
theorem q2076 : (Jvm.Cond.methodLink "HeldCoatsModel" (168 : Nat) ({ cls := "HeldCoatsModel", name := "next", desc := "()V" } : Jvm.MethodName)) ∈ lw_all := lw_g (lw_at lw_m9 44 rfl) rfl
theorem q2077 : (Jvm.Cond.privateMethod ({ cls := "HeldCoatsModel", name := "next", desc := "()V" } : Jvm.MethodName)) ∈ lw_tbl := lw_at lw_m9 45 rfl
theorem q2078 : (Jvm.Cond.instanceMethod ({ cls := "HeldCoatsModel", name := "next", desc := "()V" } : Jvm.MethodName)) ∈ lw_all := lw_g (lw_at lw_m9 46 rfl) rfl
theorem q2079 : (Jvm.Cond.code ({ cls := "HeldCoatsModel", name := "next", desc := "()V" } : Jvm.MethodName) prog_28_method_17_code (4 : Nat) (Option.none : Option Jvm.ClassFile.FieldType)) ∈ lw_all := lw_g (lw_at lw_m9 47 rfl) rfl
theorem q2080 : (Jvm.Cond.methodLink "HeldCoatsModel" (129 : Nat) ({ cls := "HeldCoatsModel", name := "peek", desc := "()I" } : Jvm.MethodName)) ∈ lw_all := lw_g (lw_at lw_m9 48 rfl) rfl
theorem q2081 : (Jvm.Cond.privateMethod ({ cls := "HeldCoatsModel", name := "peek", desc := "()I" } : Jvm.MethodName)) ∈ lw_tbl := lw_at lw_m9 49 rfl
theorem q2082 : (Jvm.Cond.instanceMethod ({ cls := "HeldCoatsModel", name := "peek", desc := "()I" } : Jvm.MethodName)) ∈ lw_all := lw_g (lw_at lw_m9 50 rfl) rfl
theorem q2083 : (Jvm.Cond.code ({ cls := "HeldCoatsModel", name := "peek", desc := "()I" } : Jvm.MethodName) prog_28_method_14_code (1 : Nat) (Option.some Jvm.ClassFile.FieldType.int)) ∈ lw_all := lw_g (lw_at lw_m9 51 rfl) rfl
theorem q2084 : (Jvm.Cond.methodLink "HeldCoatsModel" (142 : Nat) ({ cls := "HeldCoatsModel", name := "isSmall", desc := "(I)Z" } : Jvm.MethodName)) ∈ lw_all := lw_g (lw_at lw_m9 52 rfl) rfl
theorem q2085 : (Jvm.Cond.static ({ cls := "HeldCoatsModel", name := "isSmall", desc := "(I)Z" } : Jvm.MethodName)) ∈ lw_all := lw_g (lw_at lw_m9 53 rfl) rfl
theorem q2086 : (Jvm.Cond.code ({ cls := "HeldCoatsModel", name := "isSmall", desc := "(I)Z" } : Jvm.MethodName) prog_28_method_15_code (1 : Nat) (Option.some Jvm.ClassFile.FieldType.boolean)) ∈ lw_all := lw_g (lw_at lw_m9 54 rfl) rfl
theorem q2087 : (Jvm.Cond.methodLink "HeldCoatsModel" (146 : Nat) ({ cls := "HeldCoatsModel", name := "isDigit", desc := "(I)Z" } : Jvm.MethodName)) ∈ lw_all := lw_g (lw_at lw_m9 55 rfl) rfl
theorem q2088 : (Jvm.Cond.static ({ cls := "HeldCoatsModel", name := "isDigit", desc := "(I)Z" } : Jvm.MethodName)) ∈ lw_all := lw_g (lw_at lw_m9 56 rfl) rfl
theorem q2089 : (Jvm.Cond.code ({ cls := "HeldCoatsModel", name := "isDigit", desc := "(I)Z" } : Jvm.MethodName) prog_28_method_16_code (1 : Nat) (Option.some Jvm.ClassFile.FieldType.boolean)) ∈ lw_all := lw_g (lw_at lw_m9 57 rfl) rfl
theorem q2090 : (Jvm.Cond.methodLink "HeldCoatsModel" (225 : Nat) ({ cls := "HeldCoatsModel", name := "line", desc := "()Z" } : Jvm.MethodName)) ∈ lw_all := lw_g (lw_at lw_m9 58 rfl) rfl
theorem q2091 : (Jvm.Cond.privateMethod ({ cls := "HeldCoatsModel", name := "line", desc := "()Z" } : Jvm.MethodName)) ∈ lw_tbl := lw_at lw_m9 59 rfl
theorem q2092 : (Jvm.Cond.instanceMethod ({ cls := "HeldCoatsModel", name := "line", desc := "()Z" } : Jvm.MethodName)) ∈ lw_all := lw_g (lw_at lw_m9 60 rfl) rfl
theorem q2093 : (Jvm.Cond.code ({ cls := "HeldCoatsModel", name := "line", desc := "()Z" } : Jvm.MethodName) prog_28_method_30_code (2 : Nat) (Option.some Jvm.ClassFile.FieldType.boolean)) ∈ lw_all := lw_g (lw_at lw_m9 61 rfl) rfl
theorem q2094 : (Jvm.Cond.methodLink "HeldCoatsModel" (202 : Nat) ({ cls := "HeldCoatsModel", name := "isWord", desc := "(J)Z" } : Jvm.MethodName)) ∈ lw_all := lw_g (lw_at lw_m9 62 rfl) rfl
theorem q2095 : (Jvm.Cond.privateMethod ({ cls := "HeldCoatsModel", name := "isWord", desc := "(J)Z" } : Jvm.MethodName)) ∈ lw_tbl := lw_at lw_m9 63 rfl
theorem q2096 : (Jvm.Cond.instanceMethod ({ cls := "HeldCoatsModel", name := "isWord", desc := "(J)Z" } : Jvm.MethodName)) ∈ lw_all := lw_g (lw_at lw_m9 64 rfl) rfl
theorem q2097 : (Jvm.Cond.code ({ cls := "HeldCoatsModel", name := "isWord", desc := "(J)Z" } : Jvm.MethodName) prog_28_method_19_code (3 : Nat) (Option.some Jvm.ClassFile.FieldType.boolean)) ∈ lw_all := lw_g (lw_at lw_m9 65 rfl) rfl
theorem q2098 : (Jvm.Cond.methodLink "HeldCoatsModel" (165 : Nat) ({ cls := "HeldCoatsModel", name := "bad", desc := "(I)Z" } : Jvm.MethodName)) ∈ lw_all := lw_g (lw_at lw_m9 66 rfl) rfl
theorem q2099 : (Jvm.Cond.privateMethod ({ cls := "HeldCoatsModel", name := "bad", desc := "(I)Z" } : Jvm.MethodName)) ∈ lw_tbl := lw_at lw_m9 67 rfl
theorem q2100 : (Jvm.Cond.instanceMethod ({ cls := "HeldCoatsModel", name := "bad", desc := "(I)Z" } : Jvm.MethodName)) ∈ lw_all := lw_g (lw_at lw_m9 68 rfl) rfl
theorem q2101 : (Jvm.Cond.code ({ cls := "HeldCoatsModel", name := "bad", desc := "(I)Z" } : Jvm.MethodName) prog_28_method_18_code (2 : Nat) (Option.some Jvm.ClassFile.FieldType.boolean)) ∈ lw_all := lw_g (lw_at lw_m9 69 rfl) rfl
theorem q2102 : (Jvm.Cond.methodLink "HeldCoatsModel" (206 : Nat) ({ cls := "HeldCoatsModel", name := "fresh", desc := "(I)Z" } : Jvm.MethodName)) ∈ lw_all := lw_g (lw_at lw_m9 70 rfl) rfl
theorem q2103 : (Jvm.Cond.privateMethod ({ cls := "HeldCoatsModel", name := "fresh", desc := "(I)Z" } : Jvm.MethodName)) ∈ lw_tbl := lw_at lw_m9 71 rfl
theorem q2104 : (Jvm.Cond.instanceMethod ({ cls := "HeldCoatsModel", name := "fresh", desc := "(I)Z" } : Jvm.MethodName)) ∈ lw_all := lw_g (lw_at lw_m9 72 rfl) rfl
theorem q2105 : (Jvm.Cond.code ({ cls := "HeldCoatsModel", name := "fresh", desc := "(I)Z" } : Jvm.MethodName) prog_28_method_26_code (2 : Nat) (Option.some Jvm.ClassFile.FieldType.boolean)) ∈ lw_all := lw_g (lw_at lw_m9 73 rfl) rfl
theorem q2106 : (Jvm.Cond.methodLink "HeldCoatsModel" (182 : Nat) ({ cls := "HeldCoatsModel", name := "isName", desc := "()Z" } : Jvm.MethodName)) ∈ lw_all := lw_g (lw_at lw_m9 74 rfl) rfl
theorem q2107 : (Jvm.Cond.privateMethod ({ cls := "HeldCoatsModel", name := "isName", desc := "()Z" } : Jvm.MethodName)) ∈ lw_tbl := lw_at lw_m9 75 rfl
theorem q2108 : (Jvm.Cond.instanceMethod ({ cls := "HeldCoatsModel", name := "isName", desc := "()Z" } : Jvm.MethodName)) ∈ lw_all := lw_g (lw_at lw_m9 76 rfl) rfl
theorem q2109 : (Jvm.Cond.code ({ cls := "HeldCoatsModel", name := "isName", desc := "()Z" } : Jvm.MethodName) prog_28_method_22_code (3 : Nat) (Option.some Jvm.ClassFile.FieldType.boolean)) ∈ lw_all := lw_g (lw_at lw_m9 77 rfl) rfl
theorem q2110 : (Jvm.Cond.methodLink "HeldCoatsModel" (186 : Nat) ({ cls := "HeldCoatsModel", name := "find", desc := "(II)I" } : Jvm.MethodName)) ∈ lw_all := lw_g (lw_at lw_m9 78 rfl) rfl
theorem q2111 : (Jvm.Cond.privateMethod ({ cls := "HeldCoatsModel", name := "find", desc := "(II)I" } : Jvm.MethodName)) ∈ lw_tbl := lw_at lw_m9 79 rfl
theorem q2112 : (Jvm.Cond.instanceMethod ({ cls := "HeldCoatsModel", name := "find", desc := "(II)I" } : Jvm.MethodName)) ∈ lw_all := lw_g (lw_at lw_m9 80 rfl) rfl
theorem q2113 : (Jvm.Cond.code ({ cls := "HeldCoatsModel", name := "find", desc := "(II)I" } : Jvm.MethodName) prog_28_method_25_code (4 : Nat) (Option.some Jvm.ClassFile.FieldType.int)) ∈ lw_all := lw_g (lw_at lw_m9 81 rfl) rfl
theorem q2114 : (Jvm.Cond.methodLink "HeldCoatsModel" (199 : Nat) ({ cls := "HeldCoatsModel", name := "puts", desc := "(III)Z" } : Jvm.MethodName)) ∈ lw_all := lw_g (lw_at lw_m9 82 rfl) rfl
theorem q2115 : (Jvm.Cond.privateMethod ({ cls := "HeldCoatsModel", name := "puts", desc := "(III)Z" } : Jvm.MethodName)) ∈ lw_tbl := lw_at lw_m9 83 rfl
theorem q2116 : (Jvm.Cond.instanceMethod ({ cls := "HeldCoatsModel", name := "puts", desc := "(III)Z" } : Jvm.MethodName)) ∈ lw_all := lw_g (lw_at lw_m9 84 rfl) rfl
theorem q2117 : (Jvm.Cond.code ({ cls := "HeldCoatsModel", name := "puts", desc := "(III)Z" } : Jvm.MethodName) prog_28_method_24_code (4 : Nat) (Option.some Jvm.ClassFile.FieldType.boolean)) ∈ lw_all := lw_g (lw_at lw_m9 85 rfl) rfl
theorem q2118 : (Jvm.Cond.methodLink "HeldCoatsModel" (178 : Nat) ({ cls := "HeldCoatsModel", name := "takes", desc := "(II)Z" } : Jvm.MethodName)) ∈ lw_all := lw_g (lw_at lw_m9 86 rfl) rfl
theorem q2119 : (Jvm.Cond.privateMethod ({ cls := "HeldCoatsModel", name := "takes", desc := "(II)Z" } : Jvm.MethodName)) ∈ lw_tbl := lw_at lw_m9 87 rfl
theorem q2120 : (Jvm.Cond.instanceMethod ({ cls := "HeldCoatsModel", name := "takes", desc := "(II)Z" } : Jvm.MethodName)) ∈ lw_all := lw_g (lw_at lw_m9 88 rfl) rfl
theorem q2121 : (Jvm.Cond.code ({ cls := "HeldCoatsModel", name := "takes", desc := "(II)Z" } : Jvm.MethodName) prog_28_method_23_code (3 : Nat) (Option.some Jvm.ClassFile.FieldType.boolean)) ∈ lw_all := lw_g (lw_at lw_m9 89 rfl) rfl
theorem q2122 : (Jvm.Cond.methodLink "HeldCoatsModel" (171 : Nat) ({ cls := "HeldCoatsModel", name := "isIn", desc := "(III)Z" } : Jvm.MethodName)) ∈ lw_all := lw_g (lw_at lw_m9 90 rfl) rfl
theorem q2123 : (Jvm.Cond.static ({ cls := "HeldCoatsModel", name := "isIn", desc := "(III)Z" } : Jvm.MethodName)) ∈ lw_all := lw_g (lw_at lw_m9 91 rfl) rfl
theorem q2124 : (Jvm.Cond.code ({ cls := "HeldCoatsModel", name := "isIn", desc := "(III)Z" } : Jvm.MethodName) prog_28_method_7_code (3 : Nat) (Option.some Jvm.ClassFile.FieldType.boolean)) ∈ lw_all := lw_g (lw_at lw_m9 92 rfl) rfl
theorem q2125 : (Jvm.Cond.methodLink "HeldCoatsModel" (209 : Nat) ({ cls := "HeldCoatsModel", name := "takesName", desc := "(II)Z" } : Jvm.MethodName)) ∈ lw_all := lw_g (lw_at lw_m9 93 rfl) rfl
theorem q2126 : (Jvm.Cond.privateMethod ({ cls := "HeldCoatsModel", name := "takesName", desc := "(II)Z" } : Jvm.MethodName)) ∈ lw_tbl := lw_at lw_m9 94 rfl
theorem q2127 : (Jvm.Cond.instanceMethod ({ cls := "HeldCoatsModel", name := "takesName", desc := "(II)Z" } : Jvm.MethodName)) ∈ lw_all := lw_g (lw_at lw_m9 95 rfl) rfl
theorem q2128 : (Jvm.Cond.code ({ cls := "HeldCoatsModel", name := "takesName", desc := "(II)Z" } : Jvm.MethodName) prog_28_method_28_code (3 : Nat) (Option.some Jvm.ClassFile.FieldType.boolean)) ∈ lw_all := lw_g (lw_at lw_m9 96 rfl) rfl
theorem q2129 : (Jvm.Cond.methodLink "HeldCoatsModel" (190 : Nat) ({ cls := "HeldCoatsModel", name := "looksAt", desc := "(II)Z" } : Jvm.MethodName)) ∈ lw_all := lw_g (lw_at lw_m9 97 rfl) rfl
theorem q2130 : (Jvm.Cond.privateMethod ({ cls := "HeldCoatsModel", name := "looksAt", desc := "(II)Z" } : Jvm.MethodName)) ∈ lw_tbl := lw_at lw_m9 98 rfl
theorem q2131 : (Jvm.Cond.instanceMethod ({ cls := "HeldCoatsModel", name := "looksAt", desc := "(II)Z" } : Jvm.MethodName)) ∈ lw_all := lw_g (lw_at lw_m9 99 rfl) rfl
theorem q2132 : (Jvm.Cond.code ({ cls := "HeldCoatsModel", name := "looksAt", desc := "(II)Z" } : Jvm.MethodName) prog_28_method_27_code (3 : Nat) (Option.some Jvm.ClassFile.FieldType.boolean)) ∈ lw_all := lw_g (lw_at lw_m9 100 rfl) rfl
theorem q2133 : (Jvm.Cond.methodLink "HeldCoatsModel" (212 : Nat) ({ cls := "HeldCoatsModel", name := "readCold", desc := "()Z" } : Jvm.MethodName)) ∈ lw_all := lw_g (lw_at lw_m9 101 rfl) rfl
theorem q2134 : (Jvm.Cond.privateMethod ({ cls := "HeldCoatsModel", name := "readCold", desc := "()Z" } : Jvm.MethodName)) ∈ lw_tbl := lw_at lw_m9 102 rfl
theorem q2135 : (Jvm.Cond.instanceMethod ({ cls := "HeldCoatsModel", name := "readCold", desc := "()Z" } : Jvm.MethodName)) ∈ lw_all := lw_g (lw_at lw_m9 103 rfl) rfl
theorem q2136 : (Jvm.Cond.code ({ cls := "HeldCoatsModel", name := "readCold", desc := "()Z" } : Jvm.MethodName) prog_28_method_31_code (3 : Nat) (Option.some Jvm.ClassFile.FieldType.boolean)) ∈ lw_all := lw_g (lw_at lw_m9 104 rfl) rfl
theorem q2137 : (Jvm.Cond.methodLink "HeldCoatsModel" (215 : Nat) ({ cls := "HeldCoatsModel", name := "once", desc := "(IIII)Z" } : Jvm.MethodName)) ∈ lw_all := lw_g (lw_at lw_m9 105 rfl) rfl
theorem q2138 : (Jvm.Cond.privateMethod ({ cls := "HeldCoatsModel", name := "once", desc := "(IIII)Z" } : Jvm.MethodName)) ∈ lw_tbl := lw_at lw_m9 106 rfl
theorem q2139 : (Jvm.Cond.instanceMethod ({ cls := "HeldCoatsModel", name := "once", desc := "(IIII)Z" } : Jvm.MethodName)) ∈ lw_all := lw_g (lw_at lw_m9 107 rfl) rfl
theorem q2140 : (Jvm.Cond.code ({ cls := "HeldCoatsModel", name := "once", desc := "(IIII)Z" } : Jvm.MethodName) prog_28_method_29_code (5 : Nat) (Option.some Jvm.ClassFile.FieldType.boolean)) ∈ lw_all := lw_g (lw_at lw_m9 108 rfl) rfl
theorem q2141 : (Jvm.Cond.methodLink "HeldCoatsModel" (196 : Nat) ({ cls := "HeldCoatsModel", name := "bitOf", desc := "(II)Z" } : Jvm.MethodName)) ∈ lw_all := lw_g (lw_at lw_m9 109 rfl) rfl
theorem q2142 : (Jvm.Cond.static ({ cls := "HeldCoatsModel", name := "bitOf", desc := "(II)Z" } : Jvm.MethodName)) ∈ lw_all := lw_g (lw_at lw_m9 110 rfl) rfl
theorem q2143 : (Jvm.Cond.code ({ cls := "HeldCoatsModel", name := "bitOf", desc := "(II)Z" } : Jvm.MethodName) prog_28_method_8_code (2 : Nat) (Option.some Jvm.ClassFile.FieldType.boolean)) ∈ lw_all := lw_g (lw_at lw_m9 111 rfl) rfl
theorem q2144 : (Jvm.Cond.methodLink "HeldCoatsModel" (228 : Nat) ({ cls := "HeldCoatsModel", name := "sign", desc := "(I)Z" } : Jvm.MethodName)) ∈ lw_all := lw_g (lw_at lw_m9 112 rfl) rfl
theorem q2145 : (Jvm.Cond.privateMethod ({ cls := "HeldCoatsModel", name := "sign", desc := "(I)Z" } : Jvm.MethodName)) ∈ lw_tbl := lw_at lw_m9 113 rfl
theorem q2146 : (Jvm.Cond.instanceMethod ({ cls := "HeldCoatsModel", name := "sign", desc := "(I)Z" } : Jvm.MethodName)) ∈ lw_all := lw_g (lw_at lw_m9 114 rfl) rfl
theorem q2147 : (Jvm.Cond.code ({ cls := "HeldCoatsModel", name := "sign", desc := "(I)Z" } : Jvm.MethodName) prog_28_method_21_code (2 : Nat) (Option.some Jvm.ClassFile.FieldType.boolean)) ∈ lw_all := lw_g (lw_at lw_m9 115 rfl) rfl
theorem q2148 : (Jvm.Cond.methodLink "HeldCoatsModel" (162 : Nat) ({ cls := "HeldCoatsModel", name := "isSign", desc := "(I)Z" } : Jvm.MethodName)) ∈ lw_all := lw_g (lw_at lw_m9 116 rfl) rfl
theorem q2149 : (Jvm.Cond.privateMethod ({ cls := "HeldCoatsModel", name := "isSign", desc := "(I)Z" } : Jvm.MethodName)) ∈ lw_tbl := lw_at lw_m9 117 rfl
theorem q2150 : (Jvm.Cond.instanceMethod ({ cls := "HeldCoatsModel", name := "isSign", desc := "(I)Z" } : Jvm.MethodName)) ∈ lw_all := lw_g (lw_at lw_m9 118 rfl) rfl
theorem q2151 : (Jvm.Cond.code ({ cls := "HeldCoatsModel", name := "isSign", desc := "(I)Z" } : Jvm.MethodName) prog_28_method_20_code (2 : Nat) (Option.some Jvm.ClassFile.FieldType.boolean)) ∈ lw_all := lw_g (lw_at lw_m9 119 rfl) rfl
theorem q2153 : (Jvm.Cond.instanceMethod ({ cls := "HeldCoatsModel", name := "fault", desc := "()I" } : Jvm.MethodName)) ∈ lw_all := lw_g (lw_at lw_m9 121 rfl) rfl
theorem q2154 : (Jvm.Cond.selects "HeldCoatsModel" ({ cls := "HeldCoatsModel", name := "fault", desc := "()I" } : Jvm.MethodName) ({ cls := "HeldCoatsModel", name := "fault", desc := "()I" } : Jvm.MethodName)) ∈ lw_all := lw_g (lw_at lw_m9 122 rfl) rfl
theorem q2155 : (Jvm.Cond.code ({ cls := "HeldCoatsModel", name := "fault", desc := "()I" } : Jvm.MethodName) prog_28_method_33_code (1 : Nat) (Option.some Jvm.ClassFile.FieldType.int)) ∈ lw_all := lw_g (lw_at lw_m9 123 rfl) rfl
theorem q2157 : (Jvm.Cond.instanceMethod ({ cls := "HeldCoatsModel", name := "seat", desc := "(II)I" } : Jvm.MethodName)) ∈ lw_all := lw_g (lw_at lw_m9 125 rfl) rfl
theorem q2158 : (Jvm.Cond.selects "HeldCoatsModel" ({ cls := "HeldCoatsModel", name := "seat", desc := "(II)I" } : Jvm.MethodName) ({ cls := "HeldCoatsModel", name := "seat", desc := "(II)I" } : Jvm.MethodName)) ∈ lw_all := lw_g (lw_at lw_m9 126 rfl) rfl
theorem q2159 : (Jvm.Cond.code ({ cls := "HeldCoatsModel", name := "seat", desc := "(II)I" } : Jvm.MethodName) prog_28_method_49_code (4 : Nat) (Option.some Jvm.ClassFile.FieldType.int)) ∈ lw_all := lw_g (lw_at lw_m9 127 rfl) rfl
theorem q2160 : (Jvm.Cond.methodLink "HeldCoatsModel" (264 : Nat) ({ cls := "HeldCoatsModel", name := "isSeat", desc := "(I)Z" } : Jvm.MethodName)) ∈ lw_all := lw_g (lw_at lw_m9 128 rfl) rfl
theorem q2161 : (Jvm.Cond.privateMethod ({ cls := "HeldCoatsModel", name := "isSeat", desc := "(I)Z" } : Jvm.MethodName)) ∈ lw_tbl := lw_at lw_m9 129 rfl
theorem q2162 : (Jvm.Cond.instanceMethod ({ cls := "HeldCoatsModel", name := "isSeat", desc := "(I)Z" } : Jvm.MethodName)) ∈ lw_all := lw_g (lw_at lw_m9 130 rfl) rfl
theorem q2163 : (Jvm.Cond.code ({ cls := "HeldCoatsModel", name := "isSeat", desc := "(I)Z" } : Jvm.MethodName) prog_28_method_34_code (2 : Nat) (Option.some Jvm.ClassFile.FieldType.boolean)) ∈ lw_all := lw_g (lw_at lw_m9 131 rfl) rfl
theorem q2164 : (Jvm.Cond.methodLink "HeldCoatsModel" (238 : Nat) ({ cls := "HeldCoatsModel", name := "coatOn", desc := "(I)I" } : Jvm.MethodName)) ∈ lw_all := lw_g (lw_at lw_m9 132 rfl) rfl
theorem q2165 : (Jvm.Cond.privateMethod ({ cls := "HeldCoatsModel", name := "coatOn", desc := "(I)I" } : Jvm.MethodName)) ∈ lw_tbl := lw_at lw_m9 133 rfl
theorem q2166 : (Jvm.Cond.instanceMethod ({ cls := "HeldCoatsModel", name := "coatOn", desc := "(I)I" } : Jvm.MethodName)) ∈ lw_all := lw_g (lw_at lw_m9 134 rfl) rfl
theorem q2167 : (Jvm.Cond.code ({ cls := "HeldCoatsModel", name := "coatOn", desc := "(I)I" } : Jvm.MethodName) prog_28_method_40_code (3 : Nat) (Option.some Jvm.ClassFile.FieldType.int)) ∈ lw_all := lw_g (lw_at lw_m9 135 rfl) rfl
theorem q2168 : (Jvm.Cond.methodLink "HeldCoatsModel" (267 : Nat) ({ cls := "HeldCoatsModel", name := "holder", desc := "(I)I" } : Jvm.MethodName)) ∈ lw_all := lw_g (lw_at lw_m9 136 rfl) rfl
theorem q2169 : (Jvm.Cond.privateMethod ({ cls := "HeldCoatsModel", name := "holder", desc := "(I)I" } : Jvm.MethodName)) ∈ lw_tbl := lw_at lw_m9 137 rfl
theorem q2170 : (Jvm.Cond.instanceMethod ({ cls := "HeldCoatsModel", name := "holder", desc := "(I)I" } : Jvm.MethodName)) ∈ lw_all := lw_g (lw_at lw_m9 138 rfl) rfl
theorem q2171 : (Jvm.Cond.code ({ cls := "HeldCoatsModel", name := "holder", desc := "(I)I" } : Jvm.MethodName) prog_28_method_42_code (2 : Nat) (Option.some Jvm.ClassFile.FieldType.int)) ∈ lw_all := lw_g (lw_at lw_m9 139 rfl) rfl
theorem q2172 : (Jvm.Cond.methodLink "HeldCoatsModel" (241 : Nat) ({ cls := "HeldCoatsModel", name := "isSummer", desc := "()Z" } : Jvm.MethodName)) ∈ lw_all := lw_g (lw_at lw_m9 140 rfl) rfl
theorem q2173 : (Jvm.Cond.privateMethod ({ cls := "HeldCoatsModel", name := "isSummer", desc := "()Z" } : Jvm.MethodName)) ∈ lw_tbl := lw_at lw_m9 141 rfl
theorem q2174 : (Jvm.Cond.instanceMethod ({ cls := "HeldCoatsModel", name := "isSummer", desc := "()Z" } : Jvm.MethodName)) ∈ lw_all := lw_g (lw_at lw_m9 142 rfl) rfl
theorem q2175 : (Jvm.Cond.code ({ cls := "HeldCoatsModel", name := "isSummer", desc := "()Z" } : Jvm.MethodName) prog_28_method_39_code (1 : Nat) (Option.some Jvm.ClassFile.FieldType.boolean)) ∈ lw_all := lw_g (lw_at lw_m9 143 rfl) rfl
theorem q2176 : (Jvm.Cond.methodLink "HeldCoatsModel" (234 : Nat) ({ cls := "HeldCoatsModel", name := "coldOn", desc := "(I)I" } : Jvm.MethodName)) ∈ lw_all := lw_g (lw_at lw_m9 144 rfl) rfl
theorem q2177 : (Jvm.Cond.privateMethod ({ cls := "HeldCoatsModel", name := "coldOn", desc := "(I)I" } : Jvm.MethodName)) ∈ lw_tbl := lw_at lw_m9 145 rfl
theorem q2178 : (Jvm.Cond.instanceMethod ({ cls := "HeldCoatsModel", name := "coldOn", desc := "(I)I" } : Jvm.MethodName)) ∈ lw_all := lw_g (lw_at lw_m9 146 rfl) rfl
theorem q2179 : (Jvm.Cond.code ({ cls := "HeldCoatsModel", name := "coldOn", desc := "(I)I" } : Jvm.MethodName) prog_28_method_38_code (5 : Nat) (Option.some Jvm.ClassFile.FieldType.int)) ∈ lw_all := lw_g (lw_at lw_m9 147 rfl) rfl
theorem q2180 : (Jvm.Cond.methodLink "HeldCoatsModel" (244 : Nat) ({ cls := "HeldCoatsModel", name := "whoseOn", desc := "(I)I" } : Jvm.MethodName)) ∈ lw_all := lw_g (lw_at lw_m9 148 rfl) rfl
theorem q2181 : (Jvm.Cond.privateMethod ({ cls := "HeldCoatsModel", name := "whoseOn", desc := "(I)I" } : Jvm.MethodName)) ∈ lw_tbl := lw_at lw_m9 149 rfl
theorem q2182 : (Jvm.Cond.instanceMethod ({ cls := "HeldCoatsModel", name := "whoseOn", desc := "(I)I" } : Jvm.MethodName)) ∈ lw_all := lw_g (lw_at lw_m9 150 rfl) rfl
theorem q2183 : (Jvm.Cond.code ({ cls := "HeldCoatsModel", name := "whoseOn", desc := "(I)I" } : Jvm.MethodName) prog_28_method_41_code (2 : Nat) (Option.some Jvm.ClassFile.FieldType.int)) ∈ lw_all := lw_g (lw_at lw_m9 151 rfl) rfl
theorem q2185 : (Jvm.Cond.instanceMethod ({ cls := "HeldCoatsModel", name := "man", desc := "(II)I" } : Jvm.MethodName)) ∈ lw_all := lw_g (lw_at lw_m9 153 rfl) rfl
theorem q2186 : (Jvm.Cond.selects "HeldCoatsModel" ({ cls := "HeldCoatsModel", name := "man", desc := "(II)I" } : Jvm.MethodName) ({ cls := "HeldCoatsModel", name := "man", desc := "(II)I" } : Jvm.MethodName)) ∈ lw_all := lw_g (lw_at lw_m9 154 rfl) rfl
theorem q2187 : (Jvm.Cond.code ({ cls := "HeldCoatsModel", name := "man", desc := "(II)I" } : Jvm.MethodName) prog_28_method_50_code (7 : Nat) (Option.some Jvm.ClassFile.FieldType.int)) ∈ lw_all := lw_g (lw_at lw_m9 155 rfl) rfl
theorem q2188 : (Jvm.Cond.methodLink "HeldCoatsModel" (270 : Nat) ({ cls := "HeldCoatsModel", name := "isMan", desc := "(I)Z" } : Jvm.MethodName)) ∈ lw_all := lw_g (lw_at lw_m9 156 rfl) rfl
theorem q2189 : (Jvm.Cond.privateMethod ({ cls := "HeldCoatsModel", name := "isMan", desc := "(I)Z" } : Jvm.MethodName)) ∈ lw_tbl := lw_at lw_m9 157 rfl
theorem q2190 : (Jvm.Cond.instanceMethod ({ cls := "HeldCoatsModel", name := "isMan", desc := "(I)Z" } : Jvm.MethodName)) ∈ lw_all := lw_g (lw_at lw_m9 158 rfl) rfl
theorem q2191 : (Jvm.Cond.code ({ cls := "HeldCoatsModel", name := "isMan", desc := "(I)Z" } : Jvm.MethodName) prog_28_method_35_code (2 : Nat) (Option.some Jvm.ClassFile.FieldType.boolean)) ∈ lw_all := lw_g (lw_at lw_m9 159 rfl) rfl
theorem q2192 : (Jvm.Cond.methodLink "HeldCoatsModel" (273 : Nat) ({ cls := "HeldCoatsModel", name := "throwsIf", desc := "(Z)Z" } : Jvm.MethodName)) ∈ lw_all := lw_g (lw_at lw_m9 160 rfl) rfl
theorem q2193 : (Jvm.Cond.privateMethod ({ cls := "HeldCoatsModel", name := "throwsIf", desc := "(Z)Z" } : Jvm.MethodName)) ∈ lw_tbl := lw_at lw_m9 161 rfl
theorem q2194 : (Jvm.Cond.instanceMethod ({ cls := "HeldCoatsModel", name := "throwsIf", desc := "(Z)Z" } : Jvm.MethodName)) ∈ lw_all := lw_g (lw_at lw_m9 162 rfl) rfl
theorem q2195 : (Jvm.Cond.code ({ cls := "HeldCoatsModel", name := "throwsIf", desc := "(Z)Z" } : Jvm.MethodName) prog_28_method_2_code (2 : Nat) (Option.some Jvm.ClassFile.FieldType.boolean)) ∈ lw_all := lw_g (lw_at lw_m9 163 rfl) rfl
theorem q2196 : (Jvm.Cond.methodLink "HeldCoatsModel" (277 : Nat) ({ cls := "HeldCoatsModel", name := "chill", desc := "(I)I" } : Jvm.MethodName)) ∈ lw_all := lw_g (lw_at lw_m9 164 rfl) rfl
theorem q2197 : (Jvm.Cond.privateMethod ({ cls := "HeldCoatsModel", name := "chill", desc := "(I)I" } : Jvm.MethodName)) ∈ lw_tbl := lw_at lw_m9 165 rfl
theorem q2198 : (Jvm.Cond.instanceMethod ({ cls := "HeldCoatsModel", name := "chill", desc := "(I)I" } : Jvm.MethodName)) ∈ lw_all := lw_g (lw_at lw_m9 166 rfl) rfl
theorem q2199 : (Jvm.Cond.code ({ cls := "HeldCoatsModel", name := "chill", desc := "(I)I" } : Jvm.MethodName) prog_28_method_46_code (2 : Nat) (Option.some Jvm.ClassFile.FieldType.int)) ∈ lw_all := lw_g (lw_at lw_m9 167 rfl) rfl
theorem q2200 : (Jvm.Cond.methodLink "HeldCoatsModel" (253 : Nat) ({ cls := "HeldCoatsModel", name := "coatsAt", desc := "(I)I" } : Jvm.MethodName)) ∈ lw_all := lw_g (lw_at lw_m9 168 rfl) rfl
theorem q2201 : (Jvm.Cond.privateMethod ({ cls := "HeldCoatsModel", name := "coatsAt", desc := "(I)I" } : Jvm.MethodName)) ∈ lw_tbl := lw_at lw_m9 169 rfl
theorem q2202 : (Jvm.Cond.instanceMethod ({ cls := "HeldCoatsModel", name := "coatsAt", desc := "(I)I" } : Jvm.MethodName)) ∈ lw_all := lw_g (lw_at lw_m9 170 rfl) rfl
theorem q2203 : (Jvm.Cond.code ({ cls := "HeldCoatsModel", name := "coatsAt", desc := "(I)I" } : Jvm.MethodName) prog_28_method_43_code (4 : Nat) (Option.some Jvm.ClassFile.FieldType.int)) ∈ lw_all := lw_g (lw_at lw_m9 171 rfl) rfl
theorem q2204 : (Jvm.Cond.methodLink "HeldCoatsModel" (256 : Nat) ({ cls := "HeldCoatsModel", name := "chillIn", desc := "(III)I" } : Jvm.MethodName)) ∈ lw_all := lw_g (lw_at lw_m9 172 rfl) rfl
theorem q2205 : (Jvm.Cond.privateMethod ({ cls := "HeldCoatsModel", name := "chillIn", desc := "(III)I" } : Jvm.MethodName)) ∈ lw_tbl := lw_at lw_m9 173 rfl
theorem q2206 : (Jvm.Cond.instanceMethod ({ cls := "HeldCoatsModel", name := "chillIn", desc := "(III)I" } : Jvm.MethodName)) ∈ lw_all := lw_g (lw_at lw_m9 174 rfl) rfl
theorem q2207 : (Jvm.Cond.code ({ cls := "HeldCoatsModel", name := "chillIn", desc := "(III)I" } : Jvm.MethodName) prog_28_method_45_code (4 : Nat) (Option.some Jvm.ClassFile.FieldType.int)) ∈ lw_all := lw_g (lw_at lw_m9 175 rfl) rfl
theorem q2208 : (Jvm.Cond.methodLink "HeldCoatsModel" (247 : Nat) ({ cls := "HeldCoatsModel", name := "warmth", desc := "(I)I" } : Jvm.MethodName)) ∈ lw_all := lw_g (lw_at lw_m9 176 rfl) rfl
theorem q2209 : (Jvm.Cond.privateMethod ({ cls := "HeldCoatsModel", name := "warmth", desc := "(I)I" } : Jvm.MethodName)) ∈ lw_tbl := lw_at lw_m9 177 rfl
theorem q2210 : (Jvm.Cond.instanceMethod ({ cls := "HeldCoatsModel", name := "warmth", desc := "(I)I" } : Jvm.MethodName)) ∈ lw_all := lw_g (lw_at lw_m9 178 rfl) rfl
theorem q2211 : (Jvm.Cond.code ({ cls := "HeldCoatsModel", name := "warmth", desc := "(I)I" } : Jvm.MethodName) prog_28_method_44_code (4 : Nat) (Option.some Jvm.ClassFile.FieldType.int)) ∈ lw_all := lw_g (lw_at lw_m9 179 rfl) rfl
theorem q2212 : (Jvm.Cond.methodLink "HeldCoatsModel" (250 : Nat) ({ cls := "HeldCoatsModel", name := "greater", desc := "(II)I" } : Jvm.MethodName)) ∈ lw_all := lw_g (lw_at lw_m9 180 rfl) rfl
theorem q2213 : (Jvm.Cond.static ({ cls := "HeldCoatsModel", name := "greater", desc := "(II)I" } : Jvm.MethodName)) ∈ lw_all := lw_g (lw_at lw_m9 181 rfl) rfl
theorem q2214 : (Jvm.Cond.code ({ cls := "HeldCoatsModel", name := "greater", desc := "(II)I" } : Jvm.MethodName) prog_28_method_9_code (2 : Nat) (Option.some Jvm.ClassFile.FieldType.int)) ∈ lw_all := lw_g (lw_at lw_m9 182 rfl) rfl
theorem q2216 : (Jvm.Cond.instanceMethod ({ cls := "HeldCoatsModel", name := "coat", desc := "(II)I" } : Jvm.MethodName)) ∈ lw_all := lw_g (lw_at lw_m9 184 rfl) rfl
theorem q2217 : (Jvm.Cond.selects "HeldCoatsModel" ({ cls := "HeldCoatsModel", name := "coat", desc := "(II)I" } : Jvm.MethodName) ({ cls := "HeldCoatsModel", name := "coat", desc := "(II)I" } : Jvm.MethodName)) ∈ lw_all := lw_g (lw_at lw_m9 185 rfl) rfl
theorem q2218 : (Jvm.Cond.code ({ cls := "HeldCoatsModel", name := "coat", desc := "(II)I" } : Jvm.MethodName) prog_28_method_51_code (3 : Nat) (Option.some Jvm.ClassFile.FieldType.int)) ∈ lw_all := lw_g (lw_at lw_m9 186 rfl) rfl
theorem q2219 : (Jvm.Cond.methodLink "HeldCoatsModel" (280 : Nat) ({ cls := "HeldCoatsModel", name := "isCoat", desc := "(I)Z" } : Jvm.MethodName)) ∈ lw_all := lw_g (lw_at lw_m9 187 rfl) rfl
theorem q2220 : (Jvm.Cond.privateMethod ({ cls := "HeldCoatsModel", name := "isCoat", desc := "(I)Z" } : Jvm.MethodName)) ∈ lw_tbl := lw_at lw_m9 188 rfl
theorem q2221 : (Jvm.Cond.instanceMethod ({ cls := "HeldCoatsModel", name := "isCoat", desc := "(I)Z" } : Jvm.MethodName)) ∈ lw_all := lw_g (lw_at lw_m9 189 rfl) rfl
theorem q2222 : (Jvm.Cond.code ({ cls := "HeldCoatsModel", name := "isCoat", desc := "(I)Z" } : Jvm.MethodName) prog_28_method_36_code (2 : Nat) (Option.some Jvm.ClassFile.FieldType.boolean)) ∈ lw_all := lw_g (lw_at lw_m9 190 rfl) rfl
theorem q2224 : (Jvm.Cond.instanceMethod ({ cls := "HeldCoatsModel", name := "now", desc := "(I)I" } : Jvm.MethodName)) ∈ lw_all := lw_g (lw_at lw_m9 192 rfl) rfl
theorem q2225 : (Jvm.Cond.selects "HeldCoatsModel" ({ cls := "HeldCoatsModel", name := "now", desc := "(I)I" } : Jvm.MethodName) ({ cls := "HeldCoatsModel", name := "now", desc := "(I)I" } : Jvm.MethodName)) ∈ lw_all := lw_g (lw_at lw_m9 193 rfl) rfl
theorem q2226 : (Jvm.Cond.code ({ cls := "HeldCoatsModel", name := "now", desc := "(I)I" } : Jvm.MethodName) prog_28_method_52_code (2 : Nat) (Option.some Jvm.ClassFile.FieldType.int)) ∈ lw_all := lw_g (lw_at lw_m9 194 rfl) rfl
theorem q2227 : (Jvm.Cond.methodLink "HeldCoatsModel" (283 : Nat) ({ cls := "HeldCoatsModel", name := "ruler", desc := "()I" } : Jvm.MethodName)) ∈ lw_all := lw_g (lw_at lw_m9 195 rfl) rfl
theorem q2228 : (Jvm.Cond.privateMethod ({ cls := "HeldCoatsModel", name := "ruler", desc := "()I" } : Jvm.MethodName)) ∈ lw_tbl := lw_at lw_m9 196 rfl
theorem q2229 : (Jvm.Cond.instanceMethod ({ cls := "HeldCoatsModel", name := "ruler", desc := "()I" } : Jvm.MethodName)) ∈ lw_all := lw_g (lw_at lw_m9 197 rfl) rfl
theorem q2230 : (Jvm.Cond.code ({ cls := "HeldCoatsModel", name := "ruler", desc := "()I" } : Jvm.MethodName) prog_28_method_48_code (1 : Nat) (Option.some Jvm.ClassFile.FieldType.int)) ∈ lw_all := lw_g (lw_at lw_m9 198 rfl) rfl
theorem q2231 : (Jvm.Cond.methodLink "HeldCoatsModel" (260 : Nat) ({ cls := "HeldCoatsModel", name := "rulerBy", desc := "(Z)I" } : Jvm.MethodName)) ∈ lw_all := lw_g (lw_at lw_m9 199 rfl) rfl
theorem q2232 : (Jvm.Cond.privateMethod ({ cls := "HeldCoatsModel", name := "rulerBy", desc := "(Z)I" } : Jvm.MethodName)) ∈ lw_tbl := lw_at lw_m9 200 rfl
theorem q2233 : (Jvm.Cond.instanceMethod ({ cls := "HeldCoatsModel", name := "rulerBy", desc := "(Z)I" } : Jvm.MethodName)) ∈ lw_all := lw_g (lw_at lw_m9 201 rfl) rfl
theorem q2234 : (Jvm.Cond.code ({ cls := "HeldCoatsModel", name := "rulerBy", desc := "(Z)I" } : Jvm.MethodName) prog_28_method_47_code (7 : Nat) (Option.some Jvm.ClassFile.FieldType.int)) ∈ lw_all := lw_g (lw_at lw_m9 202 rfl) rfl
theorem q2236 : (Jvm.Cond.instanceMethod ({ cls := "HeldCoatsModel", name := "lay", desc := "(II)I" } : Jvm.MethodName)) ∈ lw_all := lw_g (lw_at lw_m9 204 rfl) rfl
theorem q2237 : (Jvm.Cond.selects "HeldCoatsModel" ({ cls := "HeldCoatsModel", name := "lay", desc := "(II)I" } : Jvm.MethodName) ({ cls := "HeldCoatsModel", name := "lay", desc := "(II)I" } : Jvm.MethodName)) ∈ lw_all := lw_g (lw_at lw_m9 205 rfl) rfl
theorem q2238 : (Jvm.Cond.code ({ cls := "HeldCoatsModel", name := "lay", desc := "(II)I" } : Jvm.MethodName) prog_28_method_63_code (4 : Nat) (Option.some Jvm.ClassFile.FieldType.int)) ∈ lw_all := lw_g (lw_at lw_m9 206 rfl) rfl
theorem q2239 : (Jvm.Cond.methodLink "HeldCoatsModel" (301 : Nat) ({ cls := "HeldCoatsModel", name := "whyLay", desc := "(II)I" } : Jvm.MethodName)) ∈ lw_all := lw_g (lw_at lw_m9 207 rfl) rfl
theorem q2240 : (Jvm.Cond.privateMethod ({ cls := "HeldCoatsModel", name := "whyLay", desc := "(II)I" } : Jvm.MethodName)) ∈ lw_tbl := lw_at lw_m9 208 rfl
theorem q2241 : (Jvm.Cond.instanceMethod ({ cls := "HeldCoatsModel", name := "whyLay", desc := "(II)I" } : Jvm.MethodName)) ∈ lw_all := lw_g (lw_at lw_m9 209 rfl) rfl
theorem q2242 : (Jvm.Cond.code ({ cls := "HeldCoatsModel", name := "whyLay", desc := "(II)I" } : Jvm.MethodName) prog_28_method_53_code (3 : Nat) (Option.some Jvm.ClassFile.FieldType.int)) ∈ lw_all := lw_g (lw_at lw_m9 210 rfl) rfl
theorem q2243 : (Jvm.Cond.methodLink "HeldCoatsModel" (286 : Nat) ({ cls := "HeldCoatsModel", name := "isWorn", desc := "(I)Z" } : Jvm.MethodName)) ∈ lw_all := lw_g (lw_at lw_m9 211 rfl) rfl
theorem q2244 : (Jvm.Cond.privateMethod ({ cls := "HeldCoatsModel", name := "isWorn", desc := "(I)Z" } : Jvm.MethodName)) ∈ lw_tbl := lw_at lw_m9 212 rfl
theorem q2245 : (Jvm.Cond.instanceMethod ({ cls := "HeldCoatsModel", name := "isWorn", desc := "(I)Z" } : Jvm.MethodName)) ∈ lw_all := lw_g (lw_at lw_m9 213 rfl) rfl
theorem q2246 : (Jvm.Cond.code ({ cls := "HeldCoatsModel", name := "isWorn", desc := "(I)Z" } : Jvm.MethodName) prog_28_method_37_code (2 : Nat) (Option.some Jvm.ClassFile.FieldType.boolean)) ∈ lw_all := lw_g (lw_at lw_m9 214 rfl) rfl
theorem q2247 : (Jvm.Cond.methodLink "HeldCoatsModel" (304 : Nat) ({ cls := "HeldCoatsModel", name := "keepsAll", desc := "()V" } : Jvm.MethodName)) ∈ lw_all := lw_g (lw_at lw_m9 215 rfl) rfl
theorem q2248 : (Jvm.Cond.privateMethod ({ cls := "HeldCoatsModel", name := "keepsAll", desc := "()V" } : Jvm.MethodName)) ∈ lw_tbl := lw_at lw_m9 216 rfl
theorem q2249 : (Jvm.Cond.instanceMethod ({ cls := "HeldCoatsModel", name := "keepsAll", desc := "()V" } : Jvm.MethodName)) ∈ lw_all := lw_g (lw_at lw_m9 217 rfl) rfl
theorem q2250 : (Jvm.Cond.code ({ cls := "HeldCoatsModel", name := "keepsAll", desc := "()V" } : Jvm.MethodName) prog_28_method_68_code (2 : Nat) (Option.none : Option Jvm.ClassFile.FieldType)) ∈ lw_all := lw_g (lw_at lw_m9 218 rfl) rfl
theorem q2251 : (Jvm.Cond.methodLink "HeldCoatsModel" (307 : Nat) ({ cls := "HeldCoatsModel", name := "lays", desc := "(II)V" } : Jvm.MethodName)) ∈ lw_all := lw_g (lw_at lw_m9 219 rfl) rfl
theorem q2252 : (Jvm.Cond.privateMethod ({ cls := "HeldCoatsModel", name := "lays", desc := "(II)V" } : Jvm.MethodName)) ∈ lw_tbl := lw_at lw_m9 220 rfl
theorem q2253 : (Jvm.Cond.instanceMethod ({ cls := "HeldCoatsModel", name := "lays", desc := "(II)V" } : Jvm.MethodName)) ∈ lw_all := lw_g (lw_at lw_m9 221 rfl) rfl
theorem q2254 : (Jvm.Cond.code ({ cls := "HeldCoatsModel", name := "lays", desc := "(II)V" } : Jvm.MethodName) prog_28_method_54_code (3 : Nat) (Option.none : Option Jvm.ClassFile.FieldType)) ∈ lw_all := lw_g (lw_at lw_m9 222 rfl) rfl
theorem q2256 : (Jvm.Cond.instanceMethod ({ cls := "HeldCoatsModel", name := "wear", desc := "(II)I" } : Jvm.MethodName)) ∈ lw_all := lw_g (lw_at lw_m9 224 rfl) rfl
theorem q2257 : (Jvm.Cond.selects "HeldCoatsModel" ({ cls := "HeldCoatsModel", name := "wear", desc := "(II)I" } : Jvm.MethodName) ({ cls := "HeldCoatsModel", name := "wear", desc := "(II)I" } : Jvm.MethodName)) ∈ lw_all := lw_g (lw_at lw_m9 225 rfl) rfl
theorem q2258 : (Jvm.Cond.code ({ cls := "HeldCoatsModel", name := "wear", desc := "(II)I" } : Jvm.MethodName) prog_28_method_64_code (4 : Nat) (Option.some Jvm.ClassFile.FieldType.int)) ∈ lw_all := lw_g (lw_at lw_m9 226 rfl) rfl
theorem q2259 : (Jvm.Cond.methodLink "HeldCoatsModel" (311 : Nat) ({ cls := "HeldCoatsModel", name := "whyWear", desc := "(II)I" } : Jvm.MethodName)) ∈ lw_all := lw_g (lw_at lw_m9 227 rfl) rfl
theorem q2260 : (Jvm.Cond.privateMethod ({ cls := "HeldCoatsModel", name := "whyWear", desc := "(II)I" } : Jvm.MethodName)) ∈ lw_tbl := lw_at lw_m9 228 rfl
theorem q2261 : (Jvm.Cond.instanceMethod ({ cls := "HeldCoatsModel", name := "whyWear", desc := "(II)I" } : Jvm.MethodName)) ∈ lw_all := lw_g (lw_at lw_m9 229 rfl) rfl
theorem q2262 : (Jvm.Cond.code ({ cls := "HeldCoatsModel", name := "whyWear", desc := "(II)I" } : Jvm.MethodName) prog_28_method_55_code (3 : Nat) (Option.some Jvm.ClassFile.FieldType.int)) ∈ lw_all := lw_g (lw_at lw_m9 230 rfl) rfl
theorem q2263 : (Jvm.Cond.methodLink "HeldCoatsModel" (314 : Nat) ({ cls := "HeldCoatsModel", name := "wears", desc := "(II)V" } : Jvm.MethodName)) ∈ lw_all := lw_g (lw_at lw_m9 231 rfl) rfl
theorem q2264 : (Jvm.Cond.privateMethod ({ cls := "HeldCoatsModel", name := "wears", desc := "(II)V" } : Jvm.MethodName)) ∈ lw_tbl := lw_at lw_m9 232 rfl
theorem q2265 : (Jvm.Cond.instanceMethod ({ cls := "HeldCoatsModel", name := "wears", desc := "(II)V" } : Jvm.MethodName)) ∈ lw_all := lw_g (lw_at lw_m9 233 rfl) rfl
theorem q2266 : (Jvm.Cond.code ({ cls := "HeldCoatsModel", name := "wears", desc := "(II)V" } : Jvm.MethodName) prog_28_method_56_code (3 : Nat) (Option.none : Option Jvm.ClassFile.FieldType)) ∈ lw_all := lw_g (lw_at lw_m9 234 rfl) rfl
theorem q2267 : (Jvm.Cond.methodLink "HeldCoatsModel" (289 : Nat) ({ cls := "HeldCoatsModel", name := "unqueues", desc := "(I)V" } : Jvm.MethodName)) ∈ lw_all := lw_g (lw_at lw_m9 235 rfl) rfl
theorem q2268 : (Jvm.Cond.privateMethod ({ cls := "HeldCoatsModel", name := "unqueues", desc := "(I)V" } : Jvm.MethodName)) ∈ lw_tbl := lw_at lw_m9 236 rfl
theorem q2269 : (Jvm.Cond.instanceMethod ({ cls := "HeldCoatsModel", name := "unqueues", desc := "(I)V" } : Jvm.MethodName)) ∈ lw_all := lw_g (lw_at lw_m9 237 rfl) rfl
theorem q2270 : (Jvm.Cond.code ({ cls := "HeldCoatsModel", name := "unqueues", desc := "(I)V" } : Jvm.MethodName) prog_28_method_57_code (4 : Nat) (Option.none : Option Jvm.ClassFile.FieldType)) ∈ lw_all := lw_g (lw_at lw_m9 238 rfl) rfl
theorem q2272 : (Jvm.Cond.instanceMethod ({ cls := "HeldCoatsModel", name := "lend", desc := "(II)I" } : Jvm.MethodName)) ∈ lw_all := lw_g (lw_at lw_m10 0 rfl) rfl
theorem q2273 : (Jvm.Cond.selects "HeldCoatsModel" ({ cls := "HeldCoatsModel", name := "lend", desc := "(II)I" } : Jvm.MethodName) ({ cls := "HeldCoatsModel", name := "lend", desc := "(II)I" } : Jvm.MethodName)) ∈ lw_all := lw_g (lw_at lw_m10 1 rfl) rfl
theorem q2274 : (Jvm.Cond.code ({ cls := "HeldCoatsModel", name := "lend", desc := "(II)I" } : Jvm.MethodName) prog_28_method_65_code (4 : Nat) (Option.some Jvm.ClassFile.FieldType.int)) ∈ lw_all := lw_g (lw_at lw_m10 2 rfl) rfl
theorem q2275 : (Jvm.Cond.methodLink "HeldCoatsModel" (317 : Nat) ({ cls := "HeldCoatsModel", name := "whyLend", desc := "(II)I" } : Jvm.MethodName)) ∈ lw_all := lw_g (lw_at lw_m10 3 rfl) rfl
theorem q2276 : (Jvm.Cond.privateMethod ({ cls := "HeldCoatsModel", name := "whyLend", desc := "(II)I" } : Jvm.MethodName)) ∈ lw_tbl := lw_at lw_m10 4 rfl
theorem q2277 : (Jvm.Cond.instanceMethod ({ cls := "HeldCoatsModel", name := "whyLend", desc := "(II)I" } : Jvm.MethodName)) ∈ lw_all := lw_g (lw_at lw_m10 5 rfl) rfl
theorem q2278 : (Jvm.Cond.code ({ cls := "HeldCoatsModel", name := "whyLend", desc := "(II)I" } : Jvm.MethodName) prog_28_method_58_code (3 : Nat) (Option.some Jvm.ClassFile.FieldType.int)) ∈ lw_all := lw_g (lw_at lw_m10 6 rfl) rfl
theorem q2280 : (Jvm.Cond.instanceMethod ({ cls := "HeldCoatsModel", name := "keep", desc := "(I)I" } : Jvm.MethodName)) ∈ lw_all := lw_g (lw_at lw_m10 8 rfl) rfl
theorem q2281 : (Jvm.Cond.selects "HeldCoatsModel" ({ cls := "HeldCoatsModel", name := "keep", desc := "(I)I" } : Jvm.MethodName) ({ cls := "HeldCoatsModel", name := "keep", desc := "(I)I" } : Jvm.MethodName)) ∈ lw_all := lw_g (lw_at lw_m10 9 rfl) rfl
theorem q2282 : (Jvm.Cond.code ({ cls := "HeldCoatsModel", name := "keep", desc := "(I)I" } : Jvm.MethodName) prog_28_method_66_code (2 : Nat) (Option.some Jvm.ClassFile.FieldType.int)) ∈ lw_all := lw_g (lw_at lw_m10 10 rfl) rfl
theorem q2283 : (Jvm.Cond.methodLink "HeldCoatsModel" (292 : Nat) ({ cls := "HeldCoatsModel", name := "keeps", desc := "(I)V" } : Jvm.MethodName)) ∈ lw_all := lw_g (lw_at lw_m10 11 rfl) rfl
theorem q2284 : (Jvm.Cond.privateMethod ({ cls := "HeldCoatsModel", name := "keeps", desc := "(I)V" } : Jvm.MethodName)) ∈ lw_tbl := lw_at lw_m10 12 rfl
theorem q2285 : (Jvm.Cond.instanceMethod ({ cls := "HeldCoatsModel", name := "keeps", desc := "(I)V" } : Jvm.MethodName)) ∈ lw_all := lw_g (lw_at lw_m10 13 rfl) rfl
theorem q2286 : (Jvm.Cond.code ({ cls := "HeldCoatsModel", name := "keeps", desc := "(I)V" } : Jvm.MethodName) prog_28_method_59_code (2 : Nat) (Option.none : Option Jvm.ClassFile.FieldType)) ∈ lw_all := lw_g (lw_at lw_m10 14 rfl) rfl
theorem q2288 : (Jvm.Cond.instanceMethod ({ cls := "HeldCoatsModel", name := "days", desc := "(I)I" } : Jvm.MethodName)) ∈ lw_all := lw_g (lw_at lw_m10 16 rfl) rfl
theorem q2289 : (Jvm.Cond.selects "HeldCoatsModel" ({ cls := "HeldCoatsModel", name := "days", desc := "(I)I" } : Jvm.MethodName) ({ cls := "HeldCoatsModel", name := "days", desc := "(I)I" } : Jvm.MethodName)) ∈ lw_all := lw_g (lw_at lw_m10 17 rfl) rfl
theorem q2290 : (Jvm.Cond.code ({ cls := "HeldCoatsModel", name := "days", desc := "(I)I" } : Jvm.MethodName) prog_28_method_67_code (2 : Nat) (Option.some Jvm.ClassFile.FieldType.int)) ∈ lw_all := lw_g (lw_at lw_m10 18 rfl) rfl
theorem q2291 : (Jvm.Cond.methodLink "HeldCoatsModel" (320 : Nat) ({ cls := "HeldCoatsModel", name := "goesOn", desc := "(I)I" } : Jvm.MethodName)) ∈ lw_all := lw_g (lw_at lw_m10 19 rfl) rfl
theorem q2292 : (Jvm.Cond.privateMethod ({ cls := "HeldCoatsModel", name := "goesOn", desc := "(I)I" } : Jvm.MethodName)) ∈ lw_tbl := lw_at lw_m10 20 rfl
theorem q2293 : (Jvm.Cond.instanceMethod ({ cls := "HeldCoatsModel", name := "goesOn", desc := "(I)I" } : Jvm.MethodName)) ∈ lw_all := lw_g (lw_at lw_m10 21 rfl) rfl
theorem q2294 : (Jvm.Cond.code ({ cls := "HeldCoatsModel", name := "goesOn", desc := "(I)I" } : Jvm.MethodName) prog_28_method_62_code (3 : Nat) (Option.some Jvm.ClassFile.FieldType.int)) ∈ lw_all := lw_g (lw_at lw_m10 22 rfl) rfl
theorem q2295 : (Jvm.Cond.methodLink "HeldCoatsModel" (298 : Nat) ({ cls := "HeldCoatsModel", name := "day", desc := "()V" } : Jvm.MethodName)) ∈ lw_all := lw_g (lw_at lw_m10 23 rfl) rfl
theorem q2296 : (Jvm.Cond.privateMethod ({ cls := "HeldCoatsModel", name := "day", desc := "()V" } : Jvm.MethodName)) ∈ lw_tbl := lw_at lw_m10 24 rfl
theorem q2297 : (Jvm.Cond.instanceMethod ({ cls := "HeldCoatsModel", name := "day", desc := "()V" } : Jvm.MethodName)) ∈ lw_all := lw_g (lw_at lw_m10 25 rfl) rfl
theorem q2298 : (Jvm.Cond.code ({ cls := "HeldCoatsModel", name := "day", desc := "()V" } : Jvm.MethodName) prog_28_method_61_code (3 : Nat) (Option.none : Option Jvm.ClassFile.FieldType)) ∈ lw_all := lw_g (lw_at lw_m10 26 rfl) rfl
theorem q2299 : (Jvm.Cond.methodLink "HeldCoatsModel" (295 : Nat) ({ cls := "HeldCoatsModel", name := "lying", desc := "(I)V" } : Jvm.MethodName)) ∈ lw_all := lw_g (lw_at lw_m10 27 rfl) rfl
theorem q2300 : (Jvm.Cond.privateMethod ({ cls := "HeldCoatsModel", name := "lying", desc := "(I)V" } : Jvm.MethodName)) ∈ lw_tbl := lw_at lw_m10 28 rfl
theorem q2301 : (Jvm.Cond.instanceMethod ({ cls := "HeldCoatsModel", name := "lying", desc := "(I)V" } : Jvm.MethodName)) ∈ lw_all := lw_g (lw_at lw_m10 29 rfl) rfl
theorem q2302 : (Jvm.Cond.code ({ cls := "HeldCoatsModel", name := "lying", desc := "(I)V" } : Jvm.MethodName) prog_28_method_60_code (2 : Nat) (Option.none : Option Jvm.ClassFile.FieldType)) ∈ lw_all := lw_g (lw_at lw_m10 30 rfl) rfl
theorem q2304 : (Jvm.Cond.instanceMethod ({ cls := "HeldCoatsModel", name := "undo", desc := "()I" } : Jvm.MethodName)) ∈ lw_all := lw_g (lw_at lw_m10 32 rfl) rfl
theorem q2305 : (Jvm.Cond.selects "HeldCoatsModel" ({ cls := "HeldCoatsModel", name := "undo", desc := "()I" } : Jvm.MethodName) ({ cls := "HeldCoatsModel", name := "undo", desc := "()I" } : Jvm.MethodName)) ∈ lw_all := lw_g (lw_at lw_m10 33 rfl) rfl
theorem q2306 : (Jvm.Cond.code ({ cls := "HeldCoatsModel", name := "undo", desc := "()I" } : Jvm.MethodName) prog_28_method_69_code (2 : Nat) (Option.some Jvm.ClassFile.FieldType.int)) ∈ lw_all := lw_g (lw_at lw_m10 34 rfl) rfl
theorem q2308 : (Jvm.Cond.instanceMethod ({ cls := "HeldCoatsModel", name := "best", desc := "(II)I" } : Jvm.MethodName)) ∈ lw_all := lw_g (lw_at lw_m10 36 rfl) rfl
theorem q2309 : (Jvm.Cond.selects "HeldCoatsModel" ({ cls := "HeldCoatsModel", name := "best", desc := "(II)I" } : Jvm.MethodName) ({ cls := "HeldCoatsModel", name := "best", desc := "(II)I" } : Jvm.MethodName)) ∈ lw_all := lw_g (lw_at lw_m10 37 rfl) rfl
theorem q2310 : (Jvm.Cond.code ({ cls := "HeldCoatsModel", name := "best", desc := "(II)I" } : Jvm.MethodName) prog_28_method_73_code (8 : Nat) (Option.some Jvm.ClassFile.FieldType.int)) ∈ lw_all := lw_g (lw_at lw_m10 38 rfl) rfl
theorem q2311 : (Jvm.Cond.methodLink "HeldCoatsModel" (323 : Nat) ({ cls := "HeldCoatsModel", name := "bits", desc := "(I)I" } : Jvm.MethodName)) ∈ lw_all := lw_g (lw_at lw_m10 39 rfl) rfl
theorem q2312 : (Jvm.Cond.static ({ cls := "HeldCoatsModel", name := "bits", desc := "(I)I" } : Jvm.MethodName)) ∈ lw_all := lw_g (lw_at lw_m10 40 rfl) rfl
theorem q2313 : (Jvm.Cond.code ({ cls := "HeldCoatsModel", name := "bits", desc := "(I)I" } : Jvm.MethodName) prog_28_method_10_code (3 : Nat) (Option.some Jvm.ClassFile.FieldType.int)) ∈ lw_all := lw_g (lw_at lw_m10 41 rfl) rfl
theorem q2314 : (Jvm.Cond.methodLink "HeldCoatsModel" (326 : Nat) ({ cls := "HeldCoatsModel", name := "worthOf", desc := "(I)I" } : Jvm.MethodName)) ∈ lw_all := lw_g (lw_at lw_m10 42 rfl) rfl
theorem q2315 : (Jvm.Cond.privateMethod ({ cls := "HeldCoatsModel", name := "worthOf", desc := "(I)I" } : Jvm.MethodName)) ∈ lw_tbl := lw_at lw_m10 43 rfl
theorem q2316 : (Jvm.Cond.instanceMethod ({ cls := "HeldCoatsModel", name := "worthOf", desc := "(I)I" } : Jvm.MethodName)) ∈ lw_all := lw_g (lw_at lw_m10 44 rfl) rfl
theorem q2317 : (Jvm.Cond.code ({ cls := "HeldCoatsModel", name := "worthOf", desc := "(I)I" } : Jvm.MethodName) prog_28_method_72_code (7 : Nat) (Option.some Jvm.ClassFile.FieldType.int)) ∈ lw_all := lw_g (lw_at lw_m10 45 rfl) rfl
theorem q2319 : (Jvm.Cond.instanceMethod ({ cls := "HeldCoatsModel", name := "laid", desc := "()I" } : Jvm.MethodName)) ∈ lw_all := lw_g (lw_at lw_m10 47 rfl) rfl
theorem q2320 : (Jvm.Cond.selects "HeldCoatsModel" ({ cls := "HeldCoatsModel", name := "laid", desc := "()I" } : Jvm.MethodName) ({ cls := "HeldCoatsModel", name := "laid", desc := "()I" } : Jvm.MethodName)) ∈ lw_all := lw_g (lw_at lw_m10 48 rfl) rfl
theorem q2321 : (Jvm.Cond.code ({ cls := "HeldCoatsModel", name := "laid", desc := "()I" } : Jvm.MethodName) prog_28_method_74_code (1 : Nat) (Option.some Jvm.ClassFile.FieldType.int)) ∈ lw_all := lw_g (lw_at lw_m10 49 rfl) rfl
theorem q2323 : (Jvm.Cond.instanceMethod ({ cls := "HeldCoatsModel", name := "share", desc := "(IIII)I" } : Jvm.MethodName)) ∈ lw_all := lw_g (lw_at lw_m10 51 rfl) rfl
theorem q2324 : (Jvm.Cond.selects "HeldCoatsModel" ({ cls := "HeldCoatsModel", name := "share", desc := "(IIII)I" } : Jvm.MethodName) ({ cls := "HeldCoatsModel", name := "share", desc := "(IIII)I" } : Jvm.MethodName)) ∈ lw_all := lw_g (lw_at lw_m10 52 rfl) rfl
theorem q2325 : (Jvm.Cond.code ({ cls := "HeldCoatsModel", name := "share", desc := "(IIII)I" } : Jvm.MethodName) prog_28_method_76_code (13 : Nat) (Option.some Jvm.ClassFile.FieldType.int)) ∈ lw_all := lw_g (lw_at lw_m10 53 rfl) rfl
theorem q2326 : (Jvm.Cond.methodLink "HeldCoatsModel" (342 : Nat) ({ cls := "HeldCoatsModel", name := "harmIn", desc := "(III)I" } : Jvm.MethodName)) ∈ lw_all := lw_g (lw_at lw_m10 54 rfl) rfl
theorem q2327 : (Jvm.Cond.privateMethod ({ cls := "HeldCoatsModel", name := "harmIn", desc := "(III)I" } : Jvm.MethodName)) ∈ lw_tbl := lw_at lw_m10 55 rfl
theorem q2328 : (Jvm.Cond.instanceMethod ({ cls := "HeldCoatsModel", name := "harmIn", desc := "(III)I" } : Jvm.MethodName)) ∈ lw_all := lw_g (lw_at lw_m10 56 rfl) rfl
theorem q2329 : (Jvm.Cond.code ({ cls := "HeldCoatsModel", name := "harmIn", desc := "(III)I" } : Jvm.MethodName) prog_28_method_75_code (5 : Nat) (Option.some Jvm.ClassFile.FieldType.int)) ∈ lw_all := lw_g (lw_at lw_m10 57 rfl) rfl
theorem q2331 : (Jvm.Cond.instanceMethod ({ cls := "HeldCoatsModel", name := "turns", desc := "()I" } : Jvm.MethodName)) ∈ lw_all := lw_g (lw_at lw_m10 59 rfl) rfl
theorem q2332 : (Jvm.Cond.selects "HeldCoatsModel" ({ cls := "HeldCoatsModel", name := "turns", desc := "()I" } : Jvm.MethodName) ({ cls := "HeldCoatsModel", name := "turns", desc := "()I" } : Jvm.MethodName)) ∈ lw_all := lw_g (lw_at lw_m10 60 rfl) rfl
theorem q2333 : (Jvm.Cond.code ({ cls := "HeldCoatsModel", name := "turns", desc := "()I" } : Jvm.MethodName) prog_28_method_77_code (1 : Nat) (Option.some Jvm.ClassFile.FieldType.int)) ∈ lw_all := lw_g (lw_at lw_m10 61 rfl) rfl
theorem q2335 : (Jvm.Cond.instanceMethod ({ cls := "HeldCoatsModel", name := "ahead", desc := "(I)I" } : Jvm.MethodName)) ∈ lw_all := lw_g (lw_at lw_m10 63 rfl) rfl
theorem q2336 : (Jvm.Cond.selects "HeldCoatsModel" ({ cls := "HeldCoatsModel", name := "ahead", desc := "(I)I" } : Jvm.MethodName) ({ cls := "HeldCoatsModel", name := "ahead", desc := "(I)I" } : Jvm.MethodName)) ∈ lw_all := lw_g (lw_at lw_m10 64 rfl) rfl
theorem q2337 : (Jvm.Cond.code ({ cls := "HeldCoatsModel", name := "ahead", desc := "(I)I" } : Jvm.MethodName) prog_28_method_79_code (2 : Nat) (Option.some Jvm.ClassFile.FieldType.int)) ∈ lw_all := lw_g (lw_at lw_m10 65 rfl) rfl
theorem q2338 : (Jvm.Cond.methodLink "HeldCoatsModel" (345 : Nat) ({ cls := "HeldCoatsModel", name := "aheadOf", desc := "(I)I" } : Jvm.MethodName)) ∈ lw_all := lw_g (lw_at lw_m10 66 rfl) rfl
theorem q2339 : (Jvm.Cond.privateMethod ({ cls := "HeldCoatsModel", name := "aheadOf", desc := "(I)I" } : Jvm.MethodName)) ∈ lw_tbl := lw_at lw_m10 67 rfl
theorem q2340 : (Jvm.Cond.instanceMethod ({ cls := "HeldCoatsModel", name := "aheadOf", desc := "(I)I" } : Jvm.MethodName)) ∈ lw_all := lw_g (lw_at lw_m10 68 rfl) rfl
theorem q2341 : (Jvm.Cond.code ({ cls := "HeldCoatsModel", name := "aheadOf", desc := "(I)I" } : Jvm.MethodName) prog_28_method_78_code (3 : Nat) (Option.some Jvm.ClassFile.FieldType.int)) ∈ lw_all := lw_g (lw_at lw_m10 69 rfl) rfl
theorem q2343 : (Jvm.Cond.instanceMethod ({ cls := "HeldCoatsModel", name := "queue", desc := "(I)I" } : Jvm.MethodName)) ∈ lw_all := lw_g (lw_at lw_m10 71 rfl) rfl
theorem q2344 : (Jvm.Cond.selects "HeldCoatsModel" ({ cls := "HeldCoatsModel", name := "queue", desc := "(I)I" } : Jvm.MethodName) ({ cls := "HeldCoatsModel", name := "queue", desc := "(I)I" } : Jvm.MethodName)) ∈ lw_all := lw_g (lw_at lw_m10 72 rfl) rfl
theorem q2345 : (Jvm.Cond.code ({ cls := "HeldCoatsModel", name := "queue", desc := "(I)I" } : Jvm.MethodName) prog_28_method_80_code (2 : Nat) (Option.some Jvm.ClassFile.FieldType.int)) ∈ lw_all := lw_g (lw_at lw_m10 73 rfl) rfl
theorem q2347 : (Jvm.Cond.instanceMethod ({ cls := "HeldCoatsModel", name := "bribes", desc := "(I)I" } : Jvm.MethodName)) ∈ lw_all := lw_g (lw_at lw_m10 75 rfl) rfl
theorem q2348 : (Jvm.Cond.selects "HeldCoatsModel" ({ cls := "HeldCoatsModel", name := "bribes", desc := "(I)I" } : Jvm.MethodName) ({ cls := "HeldCoatsModel", name := "bribes", desc := "(I)I" } : Jvm.MethodName)) ∈ lw_all := lw_g (lw_at lw_m10 76 rfl) rfl
theorem q2349 : (Jvm.Cond.code ({ cls := "HeldCoatsModel", name := "bribes", desc := "(I)I" } : Jvm.MethodName) prog_28_method_81_code (3 : Nat) (Option.some Jvm.ClassFile.FieldType.int)) ∈ lw_all := lw_g (lw_at lw_m10 77 rfl) rfl
theorem q2351 : (Jvm.Cond.instanceMethod ({ cls := "HeldCoatsModel", name := "frost", desc := "(II)I" } : Jvm.MethodName)) ∈ lw_all := lw_g (lw_at lw_m10 79 rfl) rfl
theorem q2352 : (Jvm.Cond.selects "HeldCoatsModel" ({ cls := "HeldCoatsModel", name := "frost", desc := "(II)I" } : Jvm.MethodName) ({ cls := "HeldCoatsModel", name := "frost", desc := "(II)I" } : Jvm.MethodName)) ∈ lw_all := lw_g (lw_at lw_m10 80 rfl) rfl
theorem q2353 : (Jvm.Cond.code ({ cls := "HeldCoatsModel", name := "frost", desc := "(II)I" } : Jvm.MethodName) prog_28_method_84_code (3 : Nat) (Option.some Jvm.ClassFile.FieldType.int)) ∈ lw_all := lw_g (lw_at lw_m10 81 rfl) rfl
theorem q2354 : (Jvm.Cond.methodLink "HeldCoatsModel" (351 : Nat) ({ cls := "HeldCoatsModel", name := "areTwo", desc := "(II)Z" } : Jvm.MethodName)) ∈ lw_all := lw_g (lw_at lw_m10 82 rfl) rfl
theorem q2355 : (Jvm.Cond.privateMethod ({ cls := "HeldCoatsModel", name := "areTwo", desc := "(II)Z" } : Jvm.MethodName)) ∈ lw_tbl := lw_at lw_m10 83 rfl
theorem q2356 : (Jvm.Cond.instanceMethod ({ cls := "HeldCoatsModel", name := "areTwo", desc := "(II)Z" } : Jvm.MethodName)) ∈ lw_all := lw_g (lw_at lw_m10 84 rfl) rfl
theorem q2357 : (Jvm.Cond.code ({ cls := "HeldCoatsModel", name := "areTwo", desc := "(II)Z" } : Jvm.MethodName) prog_28_method_83_code (3 : Nat) (Option.some Jvm.ClassFile.FieldType.boolean)) ∈ lw_all := lw_g (lw_at lw_m10 85 rfl) rfl
theorem q2358 : (Jvm.Cond.methodLink "HeldCoatsModel" (354 : Nat) ({ cls := "HeldCoatsModel", name := "frostOf", desc := "(II)I" } : Jvm.MethodName)) ∈ lw_all := lw_g (lw_at lw_m10 86 rfl) rfl
theorem q2359 : (Jvm.Cond.privateMethod ({ cls := "HeldCoatsModel", name := "frostOf", desc := "(II)I" } : Jvm.MethodName)) ∈ lw_tbl := lw_at lw_m10 87 rfl
theorem q2360 : (Jvm.Cond.instanceMethod ({ cls := "HeldCoatsModel", name := "frostOf", desc := "(II)I" } : Jvm.MethodName)) ∈ lw_all := lw_g (lw_at lw_m10 88 rfl) rfl
theorem q2361 : (Jvm.Cond.code ({ cls := "HeldCoatsModel", name := "frostOf", desc := "(II)I" } : Jvm.MethodName) prog_28_method_82_code (6 : Nat) (Option.some Jvm.ClassFile.FieldType.int)) ∈ lw_all := lw_g (lw_at lw_m10 89 rfl) rfl
theorem q2363 : (Jvm.Cond.instanceMethod ({ cls := "HeldCoatsModel", name := "frostAt", desc := "(II)I" } : Jvm.MethodName)) ∈ lw_all := lw_g (lw_at lw_m10 91 rfl) rfl
theorem q2364 : (Jvm.Cond.selects "HeldCoatsModel" ({ cls := "HeldCoatsModel", name := "frostAt", desc := "(II)I" } : Jvm.MethodName) ({ cls := "HeldCoatsModel", name := "frostAt", desc := "(II)I" } : Jvm.MethodName)) ∈ lw_all := lw_g (lw_at lw_m10 92 rfl) rfl
theorem q2365 : (Jvm.Cond.code ({ cls := "HeldCoatsModel", name := "frostAt", desc := "(II)I" } : Jvm.MethodName) prog_28_method_85_code (3 : Nat) (Option.some Jvm.ClassFile.FieldType.int)) ∈ lw_all := lw_g (lw_at lw_m10 93 rfl) rfl
theorem q2367 : (Jvm.Cond.instanceMethod ({ cls := "HeldCoatsModel", name := "word", desc := "(I)I" } : Jvm.MethodName)) ∈ lw_all := lw_g (lw_at lw_m10 95 rfl) rfl
theorem q2368 : (Jvm.Cond.selects "HeldCoatsModel" ({ cls := "HeldCoatsModel", name := "word", desc := "(I)I" } : Jvm.MethodName) ({ cls := "HeldCoatsModel", name := "word", desc := "(I)I" } : Jvm.MethodName)) ∈ lw_all := lw_g (lw_at lw_m10 96 rfl) rfl
theorem q2369 : (Jvm.Cond.code ({ cls := "HeldCoatsModel", name := "word", desc := "(I)I" } : Jvm.MethodName) prog_28_method_86_code (4 : Nat) (Option.some Jvm.ClassFile.FieldType.int)) ∈ lw_all := lw_g (lw_at lw_m10 97 rfl) rfl
theorem q2370 : (Jvm.Cond.methodLink "HeldCoatsModel" (357 : Nat) ({ cls := "HeldCoatsModel", name := "tries", desc := "()V" } : Jvm.MethodName)) ∈ lw_all := lw_g (lw_at lw_m10 98 rfl) rfl
theorem q2371 : (Jvm.Cond.privateMethod ({ cls := "HeldCoatsModel", name := "tries", desc := "()V" } : Jvm.MethodName)) ∈ lw_tbl := lw_at lw_m10 99 rfl
theorem q2372 : (Jvm.Cond.instanceMethod ({ cls := "HeldCoatsModel", name := "tries", desc := "()V" } : Jvm.MethodName)) ∈ lw_all := lw_g (lw_at lw_m10 100 rfl) rfl
theorem q2373 : (Jvm.Cond.code ({ cls := "HeldCoatsModel", name := "tries", desc := "()V" } : Jvm.MethodName) prog_28_method_70_code (2 : Nat) (Option.none : Option Jvm.ClassFile.FieldType)) ∈ lw_all := lw_g (lw_at lw_m10 101 rfl) rfl
theorem q2374 : (Jvm.Cond.methodLink "HeldCoatsModel" (360 : Nat) ({ cls := "HeldCoatsModel", name := "back", desc := "()V" } : Jvm.MethodName)) ∈ lw_all := lw_g (lw_at lw_m10 102 rfl) rfl
theorem q2375 : (Jvm.Cond.privateMethod ({ cls := "HeldCoatsModel", name := "back", desc := "()V" } : Jvm.MethodName)) ∈ lw_tbl := lw_at lw_m10 103 rfl
theorem q2376 : (Jvm.Cond.instanceMethod ({ cls := "HeldCoatsModel", name := "back", desc := "()V" } : Jvm.MethodName)) ∈ lw_all := lw_g (lw_at lw_m10 104 rfl) rfl
theorem q2377 : (Jvm.Cond.code ({ cls := "HeldCoatsModel", name := "back", desc := "()V" } : Jvm.MethodName) prog_28_method_71_code (2 : Nat) (Option.none : Option Jvm.ClassFile.FieldType)) ∈ lw_all := lw_g (lw_at lw_m10 105 rfl) rfl
theorem q2379 : (Jvm.Cond.instanceMethod ({ cls := "HeldCoatsModel", name := "bare", desc := "()I" } : Jvm.MethodName)) ∈ lw_all := lw_g (lw_at lw_m10 107 rfl) rfl
theorem q2380 : (Jvm.Cond.selects "HeldCoatsModel" ({ cls := "HeldCoatsModel", name := "bare", desc := "()I" } : Jvm.MethodName) ({ cls := "HeldCoatsModel", name := "bare", desc := "()I" } : Jvm.MethodName)) ∈ lw_all := lw_g (lw_at lw_m10 108 rfl) rfl
theorem q2381 : (Jvm.Cond.code ({ cls := "HeldCoatsModel", name := "bare", desc := "()I" } : Jvm.MethodName) prog_28_method_88_code (1 : Nat) (Option.some Jvm.ClassFile.FieldType.int)) ∈ lw_all := lw_g (lw_at lw_m10 109 rfl) rfl
theorem q2382 : (Jvm.Cond.methodLink "HeldCoatsModel" (363 : Nat) ({ cls := "HeldCoatsModel", name := "firstOf", desc := "(I)I" } : Jvm.MethodName)) ∈ lw_all := lw_g (lw_at lw_m10 110 rfl) rfl
theorem q2383 : (Jvm.Cond.privateMethod ({ cls := "HeldCoatsModel", name := "firstOf", desc := "(I)I" } : Jvm.MethodName)) ∈ lw_tbl := lw_at lw_m10 111 rfl
theorem q2384 : (Jvm.Cond.instanceMethod ({ cls := "HeldCoatsModel", name := "firstOf", desc := "(I)I" } : Jvm.MethodName)) ∈ lw_all := lw_g (lw_at lw_m10 112 rfl) rfl
theorem q2385 : (Jvm.Cond.code ({ cls := "HeldCoatsModel", name := "firstOf", desc := "(I)I" } : Jvm.MethodName) prog_28_method_87_code (3 : Nat) (Option.some Jvm.ClassFile.FieldType.int)) ∈ lw_all := lw_g (lw_at lw_m10 113 rfl) rfl
theorem q2387 : (Jvm.Cond.instanceMethod ({ cls := "HeldCoatsModel", name := "rules", desc := "(I)I" } : Jvm.MethodName)) ∈ lw_all := lw_g (lw_at lw_m10 115 rfl) rfl
theorem q2388 : (Jvm.Cond.selects "HeldCoatsModel" ({ cls := "HeldCoatsModel", name := "rules", desc := "(I)I" } : Jvm.MethodName) ({ cls := "HeldCoatsModel", name := "rules", desc := "(I)I" } : Jvm.MethodName)) ∈ lw_all := lw_g (lw_at lw_m10 116 rfl) rfl
theorem q2389 : (Jvm.Cond.code ({ cls := "HeldCoatsModel", name := "rules", desc := "(I)I" } : Jvm.MethodName) prog_28_method_89_code (2 : Nat) (Option.some Jvm.ClassFile.FieldType.int)) ∈ lw_all := lw_g (lw_at lw_m10 117 rfl) rfl
theorem q2391 : (Jvm.Cond.instanceMethod ({ cls := "HeldCoatsModel", name := "harm", desc := "(II)I" } : Jvm.MethodName)) ∈ lw_all := lw_g (lw_at lw_m10 119 rfl) rfl
theorem q2392 : (Jvm.Cond.selects "HeldCoatsModel" ({ cls := "HeldCoatsModel", name := "harm", desc := "(II)I" } : Jvm.MethodName) ({ cls := "HeldCoatsModel", name := "harm", desc := "(II)I" } : Jvm.MethodName)) ∈ lw_all := lw_g (lw_at lw_m10 120 rfl) rfl
theorem q2393 : (Jvm.Cond.code ({ cls := "HeldCoatsModel", name := "harm", desc := "(II)I" } : Jvm.MethodName) prog_28_method_90_code (5 : Nat) (Option.some Jvm.ClassFile.FieldType.int)) ∈ lw_all := lw_g (lw_at lw_m10 121 rfl) rfl
theorem q2395 : (Jvm.Cond.instanceMethod ({ cls := "HeldCoatsModel", name := "hooks", desc := "()I" } : Jvm.MethodName)) ∈ lw_all := lw_g (lw_at lw_m10 123 rfl) rfl
theorem q2396 : (Jvm.Cond.selects "HeldCoatsModel" ({ cls := "HeldCoatsModel", name := "hooks", desc := "()I" } : Jvm.MethodName) ({ cls := "HeldCoatsModel", name := "hooks", desc := "()I" } : Jvm.MethodName)) ∈ lw_all := lw_g (lw_at lw_m10 124 rfl) rfl
theorem q2397 : (Jvm.Cond.code ({ cls := "HeldCoatsModel", name := "hooks", desc := "()I" } : Jvm.MethodName) prog_28_method_91_code (7 : Nat) (Option.some Jvm.ClassFile.FieldType.int)) ∈ lw_all := lw_g (lw_at lw_m10 125 rfl) rfl
theorem q2398 : (Jvm.Cond.methodLink "HeldCoatsModel" (366 : Nat) ({ cls := "HeldCoatsModel", name := "octet", desc := "(I)I" } : Jvm.MethodName)) ∈ lw_all := lw_g (lw_at lw_m10 126 rfl) rfl
theorem q2399 : (Jvm.Cond.privateMethod ({ cls := "HeldCoatsModel", name := "octet", desc := "(I)I" } : Jvm.MethodName)) ∈ lw_tbl := lw_at lw_m10 127 rfl
theorem q2400 : (Jvm.Cond.instanceMethod ({ cls := "HeldCoatsModel", name := "octet", desc := "(I)I" } : Jvm.MethodName)) ∈ lw_all := lw_g (lw_at lw_m10 128 rfl) rfl
theorem q2401 : (Jvm.Cond.code ({ cls := "HeldCoatsModel", name := "octet", desc := "(I)I" } : Jvm.MethodName) prog_28_method_11_code (2 : Nat) (Option.some Jvm.ClassFile.FieldType.int)) ∈ lw_all := lw_g (lw_at lw_m10 129 rfl) rfl
theorem q2403 : (Jvm.Cond.instanceMethod ({ cls := "HeldCoatsModel", name := "surely", desc := "()I" } : Jvm.MethodName)) ∈ lw_all := lw_g (lw_at lw_m10 131 rfl) rfl
theorem q2404 : (Jvm.Cond.selects "HeldCoatsModel" ({ cls := "HeldCoatsModel", name := "surely", desc := "()I" } : Jvm.MethodName) ({ cls := "HeldCoatsModel", name := "surely", desc := "()I" } : Jvm.MethodName)) ∈ lw_all := lw_g (lw_at lw_m10 132 rfl) rfl
theorem q2405 : (Jvm.Cond.code ({ cls := "HeldCoatsModel", name := "surely", desc := "()I" } : Jvm.MethodName) prog_28_method_92_code (1 : Nat) (Option.some Jvm.ClassFile.FieldType.int)) ∈ lw_all := lw_g (lw_at lw_m10 133 rfl) rfl
theorem q2407 : (Jvm.Cond.instanceMethod ({ cls := "HeldCoatsModel", name := "never", desc := "()I" } : Jvm.MethodName)) ∈ lw_all := lw_g (lw_at lw_m10 135 rfl) rfl
theorem q2408 : (Jvm.Cond.selects "HeldCoatsModel" ({ cls := "HeldCoatsModel", name := "never", desc := "()I" } : Jvm.MethodName) ({ cls := "HeldCoatsModel", name := "never", desc := "()I" } : Jvm.MethodName)) ∈ lw_all := lw_g (lw_at lw_m10 136 rfl) rfl
theorem q2409 : (Jvm.Cond.code ({ cls := "HeldCoatsModel", name := "never", desc := "()I" } : Jvm.MethodName) prog_28_method_93_code (1 : Nat) (Option.some Jvm.ClassFile.FieldType.int)) ∈ lw_all := lw_g (lw_at lw_m10 137 rfl) rfl
theorem q2411 : (Jvm.Cond.instanceMethod ({ cls := "HeldCoatsModel", name := "rounds", desc := "()I" } : Jvm.MethodName)) ∈ lw_all := lw_g (lw_at lw_m10 139 rfl) rfl
theorem q2412 : (Jvm.Cond.selects "HeldCoatsModel" ({ cls := "HeldCoatsModel", name := "rounds", desc := "()I" } : Jvm.MethodName) ({ cls := "HeldCoatsModel", name := "rounds", desc := "()I" } : Jvm.MethodName)) ∈ lw_all := lw_g (lw_at lw_m10 140 rfl) rfl
theorem q2413 : (Jvm.Cond.code ({ cls := "HeldCoatsModel", name := "rounds", desc := "()I" } : Jvm.MethodName) prog_28_method_94_code (6 : Nat) (Option.some Jvm.ClassFile.FieldType.int)) ∈ lw_all := lw_g (lw_at lw_m10 141 rfl) rfl
theorem q2415 : (Jvm.Cond.instanceMethod ({ cls := "HeldCoatsModel", name := "price", desc := "()I" } : Jvm.MethodName)) ∈ lw_all := lw_g (lw_at lw_m10 143 rfl) rfl
theorem q2416 : (Jvm.Cond.selects "HeldCoatsModel" ({ cls := "HeldCoatsModel", name := "price", desc := "()I" } : Jvm.MethodName) ({ cls := "HeldCoatsModel", name := "price", desc := "()I" } : Jvm.MethodName)) ∈ lw_all := lw_g (lw_at lw_m10 144 rfl) rfl
theorem q2417 : (Jvm.Cond.code ({ cls := "HeldCoatsModel", name := "price", desc := "()I" } : Jvm.MethodName) prog_28_method_95_code (1 : Nat) (Option.some Jvm.ClassFile.FieldType.int)) ∈ lw_all := lw_g (lw_at lw_m10 145 rfl) rfl
theorem q2419 : (Jvm.Cond.instanceMethod ({ cls := "HeldCoatsModel", name := "drawn", desc := "(II)I" } : Jvm.MethodName)) ∈ lw_all := lw_g (lw_at lw_m10 147 rfl) rfl
theorem q2420 : (Jvm.Cond.selects "HeldCoatsModel" ({ cls := "HeldCoatsModel", name := "drawn", desc := "(II)I" } : Jvm.MethodName) ({ cls := "HeldCoatsModel", name := "drawn", desc := "(II)I" } : Jvm.MethodName)) ∈ lw_all := lw_g (lw_at lw_m10 148 rfl) rfl
theorem q2421 : (Jvm.Cond.code ({ cls := "HeldCoatsModel", name := "drawn", desc := "(II)I" } : Jvm.MethodName) prog_28_method_99_code (3 : Nat) (Option.some Jvm.ClassFile.FieldType.int)) ∈ lw_all := lw_g (lw_at lw_m10 149 rfl) rfl
theorem q2422 : (Jvm.Cond.methodLink "HeldCoatsModel" (394 : Nat) ({ cls := "HeldCoatsModel", name := "draws", desc := "(II)I" } : Jvm.MethodName)) ∈ lw_all := lw_g (lw_at lw_m10 150 rfl) rfl
theorem q2423 : (Jvm.Cond.privateMethod ({ cls := "HeldCoatsModel", name := "draws", desc := "(II)I" } : Jvm.MethodName)) ∈ lw_tbl := lw_at lw_m10 151 rfl
theorem q2424 : (Jvm.Cond.instanceMethod ({ cls := "HeldCoatsModel", name := "draws", desc := "(II)I" } : Jvm.MethodName)) ∈ lw_all := lw_g (lw_at lw_m10 152 rfl) rfl
theorem q2425 : (Jvm.Cond.code ({ cls := "HeldCoatsModel", name := "draws", desc := "(II)I" } : Jvm.MethodName) prog_28_method_98_code (5 : Nat) (Option.some Jvm.ClassFile.FieldType.int)) ∈ lw_all := lw_g (lw_at lw_m10 153 rfl) rfl
theorem q2426 : (Jvm.Cond.methodLink "HeldCoatsModel" (391 : Nat) ({ cls := "HeldCoatsModel", name := "drawsCoat", desc := "(I)V" } : Jvm.MethodName)) ∈ lw_all := lw_g (lw_at lw_m10 154 rfl) rfl
theorem q2427 : (Jvm.Cond.privateMethod ({ cls := "HeldCoatsModel", name := "drawsCoat", desc := "(I)V" } : Jvm.MethodName)) ∈ lw_tbl := lw_at lw_m10 155 rfl
theorem q2428 : (Jvm.Cond.instanceMethod ({ cls := "HeldCoatsModel", name := "drawsCoat", desc := "(I)V" } : Jvm.MethodName)) ∈ lw_all := lw_g (lw_at lw_m10 156 rfl) rfl
theorem q2429 : (Jvm.Cond.code ({ cls := "HeldCoatsModel", name := "drawsCoat", desc := "(I)V" } : Jvm.MethodName) prog_28_method_97_code (3 : Nat) (Option.none : Option Jvm.ClassFile.FieldType)) ∈ lw_all := lw_g (lw_at lw_m10 157 rfl) rfl
theorem q2430 : (Jvm.Cond.methodLink "HeldCoatsModel" (388 : Nat) ({ cls := "HeldCoatsModel", name := "draw", desc := "(I)I" } : Jvm.MethodName)) ∈ lw_all := lw_g (lw_at lw_m10 158 rfl) rfl
theorem q2431 : (Jvm.Cond.privateMethod ({ cls := "HeldCoatsModel", name := "draw", desc := "(I)I" } : Jvm.MethodName)) ∈ lw_tbl := lw_at lw_m10 159 rfl
theorem q2432 : (Jvm.Cond.instanceMethod ({ cls := "HeldCoatsModel", name := "draw", desc := "(I)I" } : Jvm.MethodName)) ∈ lw_all := lw_g (lw_at lw_m10 160 rfl) rfl
theorem q2433 : (Jvm.Cond.code ({ cls := "HeldCoatsModel", name := "draw", desc := "(I)I" } : Jvm.MethodName) prog_28_method_96_code (2 : Nat) (Option.some Jvm.ClassFile.FieldType.int)) ∈ lw_all := lw_g (lw_at lw_m10 161 rfl) rfl
theorem q2434 : (Jvm.Cond.constant "HeldCoatsModel" (387 : Nat) (1103515245 : Int32)) ∈ lw_all := lw_g (lw_at lw_m10 162 rfl) rfl
theorem q2436 : (Jvm.Cond.instanceMethod ({ cls := "HeldCoatsModel", name := "odds", desc := "(III)I" } : Jvm.MethodName)) ∈ lw_all := lw_g (lw_at lw_m10 164 rfl) rfl
theorem q2437 : (Jvm.Cond.selects "HeldCoatsModel" ({ cls := "HeldCoatsModel", name := "odds", desc := "(III)I" } : Jvm.MethodName) ({ cls := "HeldCoatsModel", name := "odds", desc := "(III)I" } : Jvm.MethodName)) ∈ lw_all := lw_g (lw_at lw_m10 165 rfl) rfl
theorem q2438 : (Jvm.Cond.code ({ cls := "HeldCoatsModel", name := "odds", desc := "(III)I" } : Jvm.MethodName) prog_28_method_100_code (7 : Nat) (Option.some Jvm.ClassFile.FieldType.int)) ∈ lw_all := lw_g (lw_at lw_m10 166 rfl) rfl
theorem q2440 : (Jvm.Cond.instanceMethod ({ cls := "HeldCoatsModel", name := "book", desc := "(I)I" } : Jvm.MethodName)) ∈ lw_all := lw_g (lw_at lw_m10 168 rfl) rfl
theorem q2441 : (Jvm.Cond.selects "HeldCoatsModel" ({ cls := "HeldCoatsModel", name := "book", desc := "(I)I" } : Jvm.MethodName) ({ cls := "HeldCoatsModel", name := "book", desc := "(I)I" } : Jvm.MethodName)) ∈ lw_all := lw_g (lw_at lw_m10 169 rfl) rfl
theorem q2442 : (Jvm.Cond.code ({ cls := "HeldCoatsModel", name := "book", desc := "(I)I" } : Jvm.MethodName) prog_28_method_103_code (5 : Nat) (Option.some Jvm.ClassFile.FieldType.int)) ∈ lw_all := lw_g (lw_at lw_m10 170 rfl) rfl
theorem q2443 : (Jvm.Cond.methodLink "HeldCoatsModel" (400 : Nat) ({ cls := "HeldCoatsModel", name := "bookLine", desc := "()Z" } : Jvm.MethodName)) ∈ lw_all := lw_g (lw_at lw_m10 171 rfl) rfl
theorem q2444 : (Jvm.Cond.privateMethod ({ cls := "HeldCoatsModel", name := "bookLine", desc := "()Z" } : Jvm.MethodName)) ∈ lw_tbl := lw_at lw_m10 172 rfl
theorem q2445 : (Jvm.Cond.instanceMethod ({ cls := "HeldCoatsModel", name := "bookLine", desc := "()Z" } : Jvm.MethodName)) ∈ lw_all := lw_g (lw_at lw_m10 173 rfl) rfl
theorem q2446 : (Jvm.Cond.code ({ cls := "HeldCoatsModel", name := "bookLine", desc := "()Z" } : Jvm.MethodName) prog_28_method_101_code (5 : Nat) (Option.some Jvm.ClassFile.FieldType.boolean)) ∈ lw_all := lw_g (lw_at lw_m10 174 rfl) rfl
theorem q2447 : (Jvm.Cond.methodLink "HeldCoatsModel" (403 : Nat) ({ cls := "HeldCoatsModel", name := "does", desc := "(III)I" } : Jvm.MethodName)) ∈ lw_all := lw_g (lw_at lw_m10 175 rfl) rfl
theorem q2448 : (Jvm.Cond.privateMethod ({ cls := "HeldCoatsModel", name := "does", desc := "(III)I" } : Jvm.MethodName)) ∈ lw_tbl := lw_at lw_m10 176 rfl
theorem q2449 : (Jvm.Cond.instanceMethod ({ cls := "HeldCoatsModel", name := "does", desc := "(III)I" } : Jvm.MethodName)) ∈ lw_all := lw_g (lw_at lw_m10 177 rfl) rfl
theorem q2450 : (Jvm.Cond.code ({ cls := "HeldCoatsModel", name := "does", desc := "(III)I" } : Jvm.MethodName) prog_28_method_102_code (5 : Nat) (Option.some Jvm.ClassFile.FieldType.int)) ∈ lw_all := lw_g (lw_at lw_m10 178 rfl) rfl
theorem q2452 : (Jvm.Cond.instanceMethod ({ cls := "HeldCoatsModel", name := "told", desc := "(I)I" } : Jvm.MethodName)) ∈ lw_all := lw_g (lw_at lw_m10 180 rfl) rfl
theorem q2453 : (Jvm.Cond.selects "HeldCoatsModel" ({ cls := "HeldCoatsModel", name := "told", desc := "(I)I" } : Jvm.MethodName) ({ cls := "HeldCoatsModel", name := "told", desc := "(I)I" } : Jvm.MethodName)) ∈ lw_all := lw_g (lw_at lw_m10 181 rfl) rfl
theorem q2454 : (Jvm.Cond.code ({ cls := "HeldCoatsModel", name := "told", desc := "(I)I" } : Jvm.MethodName) prog_28_method_104_code (2 : Nat) (Option.some Jvm.ClassFile.FieldType.int)) ∈ lw_all := lw_g (lw_at lw_m10 182 rfl) rfl
theorem q2456 : (Jvm.Cond.instanceMethod ({ cls := "HeldCoatsModel", name := "sentence", desc := "()I" } : Jvm.MethodName)) ∈ lw_all := lw_g (lw_at lw_m10 184 rfl) rfl
theorem q2457 : (Jvm.Cond.selects "HeldCoatsModel" ({ cls := "HeldCoatsModel", name := "sentence", desc := "()I" } : Jvm.MethodName) ({ cls := "HeldCoatsModel", name := "sentence", desc := "()I" } : Jvm.MethodName)) ∈ lw_all := lw_g (lw_at lw_m10 185 rfl) rfl
theorem q2458 : (Jvm.Cond.code ({ cls := "HeldCoatsModel", name := "sentence", desc := "()I" } : Jvm.MethodName) prog_28_method_111_code (3 : Nat) (Option.some Jvm.ClassFile.FieldType.int)) ∈ lw_all := lw_g (lw_at lw_m10 186 rfl) rfl
theorem q2459 : (Jvm.Cond.methodLink "HeldCoatsModel" (431 : Nat) ({ cls := "HeldCoatsModel", name := "nots", desc := "()V" } : Jvm.MethodName)) ∈ lw_all := lw_g (lw_at lw_m10 187 rfl) rfl
theorem q2460 : (Jvm.Cond.privateMethod ({ cls := "HeldCoatsModel", name := "nots", desc := "()V" } : Jvm.MethodName)) ∈ lw_tbl := lw_at lw_m10 188 rfl
theorem q2461 : (Jvm.Cond.instanceMethod ({ cls := "HeldCoatsModel", name := "nots", desc := "()V" } : Jvm.MethodName)) ∈ lw_all := lw_g (lw_at lw_m10 189 rfl) rfl
theorem q2462 : (Jvm.Cond.code ({ cls := "HeldCoatsModel", name := "nots", desc := "()V" } : Jvm.MethodName) prog_28_method_107_code (1 : Nat) (Option.none : Option Jvm.ClassFile.FieldType)) ∈ lw_all := lw_g (lw_at lw_m10 190 rfl) rfl
theorem q2463 : (Jvm.Cond.methodLink "HeldCoatsModel" (415 : Nat) ({ cls := "HeldCoatsModel", name := "code", desc := "(III)V" } : Jvm.MethodName)) ∈ lw_all := lw_g (lw_at lw_m10 191 rfl) rfl
theorem q2464 : (Jvm.Cond.privateMethod ({ cls := "HeldCoatsModel", name := "code", desc := "(III)V" } : Jvm.MethodName)) ∈ lw_tbl := lw_at lw_m10 192 rfl
theorem q2465 : (Jvm.Cond.instanceMethod ({ cls := "HeldCoatsModel", name := "code", desc := "(III)V" } : Jvm.MethodName)) ∈ lw_all := lw_g (lw_at lw_m10 193 rfl) rfl
theorem q2466 : (Jvm.Cond.code ({ cls := "HeldCoatsModel", name := "code", desc := "(III)V" } : Jvm.MethodName) prog_28_method_105_code (4 : Nat) (Option.none : Option Jvm.ClassFile.FieldType)) ∈ lw_all := lw_g (lw_at lw_m10 194 rfl) rfl
theorem q2467 : (Jvm.Cond.methodLink "HeldCoatsModel" (434 : Nat) ({ cls := "HeldCoatsModel", name := "joins", desc := "(I)V" } : Jvm.MethodName)) ∈ lw_all := lw_g (lw_at lw_m10 195 rfl) rfl
theorem q2468 : (Jvm.Cond.privateMethod ({ cls := "HeldCoatsModel", name := "joins", desc := "(I)V" } : Jvm.MethodName)) ∈ lw_tbl := lw_at lw_m10 196 rfl
theorem q2469 : (Jvm.Cond.instanceMethod ({ cls := "HeldCoatsModel", name := "joins", desc := "(I)V" } : Jvm.MethodName)) ∈ lw_all := lw_g (lw_at lw_m10 197 rfl) rfl
theorem q2470 : (Jvm.Cond.code ({ cls := "HeldCoatsModel", name := "joins", desc := "(I)V" } : Jvm.MethodName) prog_28_method_106_code (2 : Nat) (Option.none : Option Jvm.ClassFile.FieldType)) ∈ lw_all := lw_g (lw_at lw_m10 198 rfl) rfl
theorem q2471 : (Jvm.Cond.methodLink "HeldCoatsModel" (437 : Nat) ({ cls := "HeldCoatsModel", name := "behind", desc := "()Z" } : Jvm.MethodName)) ∈ lw_all := lw_g (lw_at lw_m10 199 rfl) rfl
theorem q2472 : (Jvm.Cond.privateMethod ({ cls := "HeldCoatsModel", name := "behind", desc := "()Z" } : Jvm.MethodName)) ∈ lw_tbl := lw_at lw_m10 200 rfl
theorem q2473 : (Jvm.Cond.instanceMethod ({ cls := "HeldCoatsModel", name := "behind", desc := "()Z" } : Jvm.MethodName)) ∈ lw_all := lw_g (lw_at lw_m10 201 rfl) rfl
theorem q2474 : (Jvm.Cond.code ({ cls := "HeldCoatsModel", name := "behind", desc := "()Z" } : Jvm.MethodName) prog_28_method_110_code (1 : Nat) (Option.some Jvm.ClassFile.FieldType.boolean)) ∈ lw_all := lw_g (lw_at lw_m10 202 rfl) rfl
theorem q2475 : (Jvm.Cond.methodLink "HeldCoatsModel" (440 : Nat) ({ cls := "HeldCoatsModel", name := "operand", desc := "()Z" } : Jvm.MethodName)) ∈ lw_all := lw_g (lw_at lw_m10 203 rfl) rfl
theorem q2476 : (Jvm.Cond.privateMethod ({ cls := "HeldCoatsModel", name := "operand", desc := "()Z" } : Jvm.MethodName)) ∈ lw_tbl := lw_at lw_m10 204 rfl
theorem q2477 : (Jvm.Cond.instanceMethod ({ cls := "HeldCoatsModel", name := "operand", desc := "()Z" } : Jvm.MethodName)) ∈ lw_all := lw_g (lw_at lw_m10 205 rfl) rfl
theorem q2478 : (Jvm.Cond.code ({ cls := "HeldCoatsModel", name := "operand", desc := "()Z" } : Jvm.MethodName) prog_28_method_109_code (5 : Nat) (Option.some Jvm.ClassFile.FieldType.boolean)) ∈ lw_all := lw_g (lw_at lw_m10 206 rfl) rfl
theorem q2479 : (Jvm.Cond.methodLink "HeldCoatsModel" (422 : Nat) ({ cls := "HeldCoatsModel", name := "leafOf", desc := "()I" } : Jvm.MethodName)) ∈ lw_all := lw_g (lw_at lw_m10 207 rfl) rfl
theorem q2480 : (Jvm.Cond.privateMethod ({ cls := "HeldCoatsModel", name := "leafOf", desc := "()I" } : Jvm.MethodName)) ∈ lw_tbl := lw_at lw_m10 208 rfl
theorem q2481 : (Jvm.Cond.instanceMethod ({ cls := "HeldCoatsModel", name := "leafOf", desc := "()I" } : Jvm.MethodName)) ∈ lw_all := lw_g (lw_at lw_m10 209 rfl) rfl
theorem q2482 : (Jvm.Cond.code ({ cls := "HeldCoatsModel", name := "leafOf", desc := "()I" } : Jvm.MethodName) prog_28_method_108_code (1 : Nat) (Option.some Jvm.ClassFile.FieldType.int)) ∈ lw_all := lw_g (lw_at lw_m10 210 rfl) rfl
theorem q2484 : (Jvm.Cond.instanceMethod ({ cls := "HeldCoatsModel", name := "said", desc := "(I)I" } : Jvm.MethodName)) ∈ lw_all := lw_g (lw_at lw_m10 212 rfl) rfl
theorem q2485 : (Jvm.Cond.selects "HeldCoatsModel" ({ cls := "HeldCoatsModel", name := "said", desc := "(I)I" } : Jvm.MethodName) ({ cls := "HeldCoatsModel", name := "said", desc := "(I)I" } : Jvm.MethodName)) ∈ lw_all := lw_g (lw_at lw_m10 213 rfl) rfl
theorem q2486 : (Jvm.Cond.code ({ cls := "HeldCoatsModel", name := "said", desc := "(I)I" } : Jvm.MethodName) prog_28_method_114_code (4 : Nat) (Option.some Jvm.ClassFile.FieldType.int)) ∈ lw_all := lw_g (lw_at lw_m10 214 rfl) rfl
theorem q2487 : (Jvm.Cond.methodLink "HeldCoatsModel" (446 : Nat) ({ cls := "HeldCoatsModel", name := "isSaid", desc := "(I)Z" } : Jvm.MethodName)) ∈ lw_all := lw_g (lw_at lw_m10 215 rfl) rfl
theorem q2488 : (Jvm.Cond.privateMethod ({ cls := "HeldCoatsModel", name := "isSaid", desc := "(I)Z" } : Jvm.MethodName)) ∈ lw_tbl := lw_at lw_m10 216 rfl
theorem q2489 : (Jvm.Cond.instanceMethod ({ cls := "HeldCoatsModel", name := "isSaid", desc := "(I)Z" } : Jvm.MethodName)) ∈ lw_all := lw_g (lw_at lw_m10 217 rfl) rfl
theorem q2490 : (Jvm.Cond.code ({ cls := "HeldCoatsModel", name := "isSaid", desc := "(I)Z" } : Jvm.MethodName) prog_28_method_113_code (5 : Nat) (Option.some Jvm.ClassFile.FieldType.boolean)) ∈ lw_all := lw_g (lw_at lw_m10 218 rfl) rfl
theorem q2491 : (Jvm.Cond.methodLink "HeldCoatsModel" (443 : Nat) ({ cls := "HeldCoatsModel", name := "isLeaf", desc := "(IIII)Z" } : Jvm.MethodName)) ∈ lw_all := lw_g (lw_at lw_m10 219 rfl) rfl
theorem q2492 : (Jvm.Cond.privateMethod ({ cls := "HeldCoatsModel", name := "isLeaf", desc := "(IIII)Z" } : Jvm.MethodName)) ∈ lw_tbl := lw_at lw_m10 220 rfl
theorem q2493 : (Jvm.Cond.instanceMethod ({ cls := "HeldCoatsModel", name := "isLeaf", desc := "(IIII)Z" } : Jvm.MethodName)) ∈ lw_all := lw_g (lw_at lw_m10 221 rfl) rfl
theorem q2494 : (Jvm.Cond.code ({ cls := "HeldCoatsModel", name := "isLeaf", desc := "(IIII)Z" } : Jvm.MethodName) prog_28_method_112_code (7 : Nat) (Option.some Jvm.ClassFile.FieldType.boolean)) ∈ lw_all := lw_g (lw_at lw_m10 222 rfl) rfl
theorem q2496 : (Jvm.Cond.instanceMethod ({ cls := "HeldCoatsModel", name := "image", desc := "(I)Z" } : Jvm.MethodName)) ∈ lw_all := lw_g (lw_at lw_m10 224 rfl) rfl
theorem q2497 : (Jvm.Cond.selects "HeldCoatsModel" ({ cls := "HeldCoatsModel", name := "image", desc := "(I)Z" } : Jvm.MethodName) ({ cls := "HeldCoatsModel", name := "image", desc := "(I)Z" } : Jvm.MethodName)) ∈ lw_all := lw_g (lw_at lw_m10 225 rfl) rfl
theorem q2498 : (Jvm.Cond.code ({ cls := "HeldCoatsModel", name := "image", desc := "(I)Z" } : Jvm.MethodName) prog_28_method_115_code (3 : Nat) (Option.some Jvm.ClassFile.FieldType.boolean)) ∈ lw_all := lw_g (lw_at lw_m10 226 rfl) rfl
theorem q2500 : (Jvm.Cond.instanceMethod ({ cls := "HeldCoatsModel", name := "restore", desc := "(I)Z" } : Jvm.MethodName)) ∈ lw_all := lw_g (lw_at lw_m10 228 rfl) rfl
theorem q2501 : (Jvm.Cond.selects "HeldCoatsModel" ({ cls := "HeldCoatsModel", name := "restore", desc := "(I)Z" } : Jvm.MethodName) ({ cls := "HeldCoatsModel", name := "restore", desc := "(I)Z" } : Jvm.MethodName)) ∈ lw_all := lw_g (lw_at lw_m10 229 rfl) rfl
theorem q2502 : (Jvm.Cond.code ({ cls := "HeldCoatsModel", name := "restore", desc := "(I)Z" } : Jvm.MethodName) prog_28_method_116_code (3 : Nat) (Option.some Jvm.ClassFile.FieldType.boolean)) ∈ lw_all := lw_g (lw_at lw_m10 230 rfl) rfl
theorem q2504 : (Jvm.Cond.instanceMethod ({ cls := "HeldCoatsModel", name := "count", desc := "(I)I" } : Jvm.MethodName)) ∈ lw_all := lw_g (lw_at lw_m10 232 rfl) rfl
theorem q2505 : (Jvm.Cond.selects "HeldCoatsModel" ({ cls := "HeldCoatsModel", name := "count", desc := "(I)I" } : Jvm.MethodName) ({ cls := "HeldCoatsModel", name := "count", desc := "(I)I" } : Jvm.MethodName)) ∈ lw_all := lw_g (lw_at lw_m10 233 rfl) rfl
theorem q2506 : (Jvm.Cond.code ({ cls := "HeldCoatsModel", name := "count", desc := "(I)I" } : Jvm.MethodName) prog_28_method_117_code (2 : Nat) (Option.some Jvm.ClassFile.FieldType.int)) ∈ lw_all := lw_g (lw_at lw_m10 234 rfl) rfl
theorem q2546 : (Jvm.Cond.castable "HeldCoatsModel" "java/lang/Object") ∈ lw_tbl := lw_at lw_m11 34 rfl
theorem q124 : (Jvm.Cond.initialized "HeldCoats$Reader") ∈ lw_all := lw_g (lw_at lw_m1 12 rfl) rfl
theorem q462 : (Jvm.Cond.instanceMethod ({ cls := "HeldCoats$Reader", name := "<init>", desc := "([BII)V" } : Jvm.MethodName)) ∈ lw_all := lw_g (lw_at lw_m2 110 rfl) rfl
theorem q463 : (Jvm.Cond.code ({ cls := "HeldCoats$Reader", name := "<init>", desc := "([BII)V" } : Jvm.MethodName) prog_18_method_1_code (4 : Nat) (Option.none : Option Jvm.ClassFile.FieldType)) ∈ lw_all := lw_g (lw_at lw_m2 111 rfl) rfl
theorem q464 : (Jvm.Cond.methodLink "HeldCoats$Reader" (3 : Nat) ({ cls := "java/lang/Object", name := "<init>", desc := "()V" } : Jvm.MethodName)) ∈ lw_all := lw_g (lw_at lw_m2 112 rfl) rfl
theorem q465 : (Jvm.Cond.stringRef "HeldCoats$Reader" (9 : Nat) "") ∈ lw_tbl := lw_at lw_m2 113 rfl
theorem q470 : (Jvm.Cond.fieldLink "HeldCoats$Reader" (17 : Nat) "HeldCoats$Reader" "tape" "[B") ∈ lw_all := lw_g (lw_at lw_m2 118 rfl) rfl
theorem q471 : (Jvm.Cond.fieldLink "HeldCoats$Reader" (21 : Nat) "HeldCoats$Reader" "size" "I") ∈ lw_all := lw_g (lw_at lw_m2 119 rfl) rfl
theorem q472 : (Jvm.Cond.fieldLink "HeldCoats$Reader" (25 : Nat) "HeldCoats$Reader" "limit" "I") ∈ lw_all := lw_g (lw_at lw_m2 120 rfl) rfl
theorem q473 : (Jvm.Cond.fieldLink "HeldCoats$Reader" (28 : Nat) "HeldCoats$Reader" "to" "I") ∈ lw_all := lw_g (lw_at lw_m2 121 rfl) rfl
theorem q480 : (Jvm.Cond.fieldLink "HeldCoats$Reader" (38 : Nat) "HeldCoats$Reader" "kind" "I") ∈ lw_all := lw_g (lw_at lw_m2 128 rfl) rfl
theorem q481 : (Jvm.Cond.fieldLink "HeldCoats$Reader" (35 : Nat) "HeldCoats$Reader" "from" "I") ∈ lw_all := lw_g (lw_at lw_m2 129 rfl) rfl
theorem q482 : (Jvm.Cond.fieldLink "HeldCoats$Reader" (51 : Nat) "HeldCoats$Reader" "number" "I") ∈ lw_all := lw_g (lw_at lw_m2 130 rfl) rfl
theorem q483 : (Jvm.Cond.fieldLink "HeldCoats$Reader" (48 : Nat) "HeldCoats$Reader" "sign" "I") ∈ lw_all := lw_g (lw_at lw_m2 131 rfl) rfl
theorem q486 : (Jvm.Cond.fieldLink "HeldCoats$Reader" (11 : Nat) "HeldCoats$Reader" "word" "Ljava/lang/String;") ∈ lw_all := lw_g (lw_at lw_m2 134 rfl) rfl
theorem q494 : (Jvm.Cond.soleField "HeldCoats$Reader" "tape") ∈ lw_all := lw_g (lw_at lw_m2 142 rfl) rfl
theorem q496 : (Jvm.Cond.soleField "HeldCoats$Reader" "size") ∈ lw_all := lw_g (lw_at lw_m2 144 rfl) rfl
theorem q498 : (Jvm.Cond.soleField "HeldCoats$Reader" "limit") ∈ lw_all := lw_g (lw_at lw_m2 146 rfl) rfl
theorem q500 : (Jvm.Cond.soleField "HeldCoats$Reader" "to") ∈ lw_all := lw_g (lw_at lw_m2 148 rfl) rfl
theorem q502 : (Jvm.Cond.soleField "HeldCoats$Reader" "kind") ∈ lw_all := lw_g (lw_at lw_m2 150 rfl) rfl
theorem q504 : (Jvm.Cond.soleField "HeldCoats$Reader" "from") ∈ lw_all := lw_g (lw_at lw_m2 152 rfl) rfl
theorem q506 : (Jvm.Cond.soleField "HeldCoats$Reader" "number") ∈ lw_all := lw_g (lw_at lw_m2 154 rfl) rfl
theorem q508 : (Jvm.Cond.soleField "HeldCoats$Reader" "sign") ∈ lw_all := lw_g (lw_at lw_m2 156 rfl) rfl
theorem q510 : (Jvm.Cond.soleField "HeldCoats$Reader" "word") ∈ lw_all := lw_g (lw_at lw_m2 158 rfl) rfl
theorem q518 : (Jvm.Cond.declares ({ cls := "HeldCoats$Reader", name := "go", desc := "()V" } : Jvm.MethodName)) ∈ lw_tbl := lw_at lw_m2 166 rfl
theorem q520 : (Jvm.Cond.instanceMethod ({ cls := "HeldCoats$Reader", name := "go", desc := "()V" } : Jvm.MethodName)) ∈ lw_all := lw_g (lw_at lw_m2 168 rfl) rfl
theorem q521 : (Jvm.Cond.code ({ cls := "HeldCoats$Reader", name := "go", desc := "()V" } : Jvm.MethodName) prog_18_method_5_code (5 : Nat) (Option.none : Option Jvm.ClassFile.FieldType)) ∈ lw_all := lw_g (lw_at lw_m2 169 rfl) rfl
theorem q522 : (Jvm.Cond.methodLink "HeldCoats$Reader" (31 : Nat) ({ cls := "HeldCoats$Reader", name := "byteAt", desc := "(I)I" } : Jvm.MethodName)) ∈ lw_all := lw_g (lw_at lw_m2 170 rfl) rfl
theorem q523 : (Jvm.Cond.privateMethod ({ cls := "HeldCoats$Reader", name := "byteAt", desc := "(I)I" } : Jvm.MethodName)) ∈ lw_tbl := lw_at lw_m2 171 rfl
theorem q524 : (Jvm.Cond.instanceMethod ({ cls := "HeldCoats$Reader", name := "byteAt", desc := "(I)I" } : Jvm.MethodName)) ∈ lw_all := lw_g (lw_at lw_m2 172 rfl) rfl
theorem q525 : (Jvm.Cond.code ({ cls := "HeldCoats$Reader", name := "byteAt", desc := "(I)I" } : Jvm.MethodName) prog_18_method_2_code (2 : Nat) (Option.some Jvm.ClassFile.FieldType.int)) ∈ lw_all := lw_g (lw_at lw_m2 173 rfl) rfl
theorem q526 : (Jvm.Cond.methodLink "HeldCoats$Reader" (41 : Nat) ({ cls := "HeldCoats$Reader", name := "isLetter", desc := "(I)Z" } : Jvm.MethodName)) ∈ lw_all := lw_g (lw_at lw_m2 174 rfl) rfl
theorem q527 : (Jvm.Cond.static ({ cls := "HeldCoats$Reader", name := "isLetter", desc := "(I)Z" } : Jvm.MethodName)) ∈ lw_all := lw_g (lw_at lw_m2 175 rfl) rfl
theorem q528 : (Jvm.Cond.code ({ cls := "HeldCoats$Reader", name := "isLetter", desc := "(I)Z" } : Jvm.MethodName) prog_18_method_4_code (1 : Nat) (Option.some Jvm.ClassFile.FieldType.boolean)) ∈ lw_all := lw_g (lw_at lw_m2 176 rfl) rfl
theorem q529 : (Jvm.Cond.methodLink "HeldCoats$Reader" (45 : Nat) ({ cls := "HeldCoats$Reader", name := "isDigit", desc := "(I)Z" } : Jvm.MethodName)) ∈ lw_all := lw_g (lw_at lw_m2 177 rfl) rfl
theorem q530 : (Jvm.Cond.static ({ cls := "HeldCoats$Reader", name := "isDigit", desc := "(I)Z" } : Jvm.MethodName)) ∈ lw_all := lw_g (lw_at lw_m2 178 rfl) rfl
theorem q531 : (Jvm.Cond.code ({ cls := "HeldCoats$Reader", name := "isDigit", desc := "(I)Z" } : Jvm.MethodName) prog_18_method_3_code (1 : Nat) (Option.some Jvm.ClassFile.FieldType.boolean)) ∈ lw_all := lw_g (lw_at lw_m2 179 rfl) rfl
theorem q532 : (Jvm.Cond.classLink "HeldCoats$Reader" (54 : Nat) "java/lang/StringBuilder") ∈ lw_all := lw_g (lw_at lw_m2 180 rfl) rfl
theorem q534 : (Jvm.Cond.methodLink "HeldCoats$Reader" (56 : Nat) ({ cls := "java/lang/StringBuilder", name := "<init>", desc := "()V" } : Jvm.MethodName)) ∈ lw_all := lw_g (lw_at lw_m2 182 rfl) rfl
theorem q563 : (Jvm.Cond.methodLink "HeldCoats$Reader" (57 : Nat) ({ cls := "java/lang/StringBuilder", name := "append", desc := "(C)Ljava/lang/StringBuilder;" } : Jvm.MethodName)) ∈ lw_all := lw_g (lw_at lw_m2 211 rfl) rfl
theorem q656 : (Jvm.Cond.methodLink "HeldCoats$Reader" (61 : Nat) ({ cls := "java/lang/StringBuilder", name := "toString", desc := "()Ljava/lang/String;" } : Jvm.MethodName)) ∈ lw_all := lw_g (lw_at lw_m3 64 rfl) rfl
theorem q724 : (Jvm.Cond.declares ({ cls := "HeldCoats$Reader", name := "is", desc := "(Ljava/lang/String;)Z" } : Jvm.MethodName)) ∈ lw_tbl := lw_at lw_m3 132 rfl
theorem q726 : (Jvm.Cond.instanceMethod ({ cls := "HeldCoats$Reader", name := "is", desc := "(Ljava/lang/String;)Z" } : Jvm.MethodName)) ∈ lw_all := lw_g (lw_at lw_m3 134 rfl) rfl
theorem q727 : (Jvm.Cond.code ({ cls := "HeldCoats$Reader", name := "is", desc := "(Ljava/lang/String;)Z" } : Jvm.MethodName) prog_18_method_7_code (2 : Nat) (Option.some Jvm.ClassFile.FieldType.boolean)) ∈ lw_all := lw_g (lw_at lw_m3 135 rfl) rfl
theorem q728 : (Jvm.Cond.methodLink "HeldCoats$Reader" (70 : Nat) ({ cls := "java/lang/String", name := "equals", desc := "(Ljava/lang/Object;)Z" } : Jvm.MethodName)) ∈ lw_all := lw_g (lw_at lw_m3 136 rfl) rfl
theorem q747 : (Jvm.Cond.declares ({ cls := "HeldCoats$Reader", name := "need", desc := "(ZI)V" } : Jvm.MethodName)) ∈ lw_tbl := lw_at lw_m3 155 rfl
theorem q749 : (Jvm.Cond.instanceMethod ({ cls := "HeldCoats$Reader", name := "need", desc := "(ZI)V" } : Jvm.MethodName)) ∈ lw_all := lw_g (lw_at lw_m3 157 rfl) rfl
theorem q750 : (Jvm.Cond.code ({ cls := "HeldCoats$Reader", name := "need", desc := "(ZI)V" } : Jvm.MethodName) prog_18_method_6_code (3 : Nat) (Option.none : Option Jvm.ClassFile.FieldType)) ∈ lw_all := lw_g (lw_at lw_m3 158 rfl) rfl
theorem q751 : (Jvm.Cond.classLink "HeldCoats$Reader" (65 : Nat) "HeldCoats$Fault") ∈ lw_all := lw_g (lw_at lw_m3 159 rfl) rfl
theorem q789 : (Jvm.Cond.methodLink "HeldCoats$Reader" (67 : Nat) ({ cls := "HeldCoats$Fault", name := "<init>", desc := "(II)V" } : Jvm.MethodName)) ∈ lw_all := lw_g (lw_at lw_m3 197 rfl) rfl
theorem q825 : (Jvm.Cond.declares ({ cls := "HeldCoats$Reader", name := "isName", desc := "()Z" } : Jvm.MethodName)) ∈ lw_tbl := lw_at lw_m3 233 rfl
theorem q827 : (Jvm.Cond.instanceMethod ({ cls := "HeldCoats$Reader", name := "isName", desc := "()Z" } : Jvm.MethodName)) ∈ lw_all := lw_g (lw_at lw_m3 235 rfl) rfl
theorem q828 : (Jvm.Cond.code ({ cls := "HeldCoats$Reader", name := "isName", desc := "()Z" } : Jvm.MethodName) prog_18_method_8_code (1 : Nat) (Option.some Jvm.ClassFile.FieldType.boolean)) ∈ lw_all := lw_g (lw_at lw_m3 236 rfl) rfl
theorem q829 : (Jvm.Cond.stringRef "HeldCoats$Reader" (76 : Nat) " seat man coat cold summer holds moths limit lies lent kept wears day or and not bare held of under worth days cloth number ") ∈ lw_tbl := lw_at lw_m3 237 rfl
theorem q830 : (Jvm.Cond.stringRef "HeldCoats$Reader" (78 : Nat) " ") ∈ lw_tbl := lw_at lw_m3 238 rfl
theorem q831 : (Jvm.Cond.methodLink "HeldCoats$Reader" (80 : Nat) ({ cls := "java/lang/StringBuilder", name := "append", desc := "(Ljava/lang/String;)Ljava/lang/StringBuilder;" } : Jvm.MethodName)) ∈ lw_all := lw_g (lw_at lw_m3 239 rfl) rfl
theorem q877 : (Jvm.Cond.methodLink "HeldCoats$Reader" (83 : Nat) ({ cls := "java/lang/String", name := "indexOf", desc := "(Ljava/lang/String;)I" } : Jvm.MethodName)) ∈ lw_all := lw_g (lw_at lw_m4 45 rfl) rfl
theorem q905 : (Jvm.Cond.declares ({ cls := "HeldCoats$Reader", name := "find", desc := "(Ljava/util/ArrayList;)I" } : Jvm.MethodName)) ∈ lw_tbl := lw_at lw_m4 73 rfl
theorem q907 : (Jvm.Cond.instanceMethod ({ cls := "HeldCoats$Reader", name := "find", desc := "(Ljava/util/ArrayList;)I" } : Jvm.MethodName)) ∈ lw_all := lw_g (lw_at lw_m4 75 rfl) rfl
theorem q908 : (Jvm.Cond.code ({ cls := "HeldCoats$Reader", name := "find", desc := "(Ljava/util/ArrayList;)I" } : Jvm.MethodName) prog_18_method_12_code (3 : Nat) (Option.some Jvm.ClassFile.FieldType.int)) ∈ lw_all := lw_g (lw_at lw_m4 76 rfl) rfl
theorem q909 : (Jvm.Cond.methodLink "HeldCoats$Reader" (102 : Nat) ({ cls := "java/util/ArrayList", name := "size", desc := "()I" } : Jvm.MethodName)) ∈ lw_all := lw_g (lw_at lw_m4 77 rfl) rfl
theorem q910 : (Jvm.Cond.methodLink "HeldCoats$Reader" (107 : Nat) ({ cls := "java/util/ArrayList", name := "get", desc := "(I)Ljava/lang/Object;" } : Jvm.MethodName)) ∈ lw_all := lw_g (lw_at lw_m4 78 rfl) rfl
theorem q911 : (Jvm.Cond.classLink "HeldCoats$Reader" (111 : Nat) "HeldCoats$Named") ∈ lw_all := lw_g (lw_at lw_m4 79 rfl) rfl
theorem q916 : (Jvm.Cond.declares ({ cls := "HeldCoats$Reader", name := "number", desc := "(II)I" } : Jvm.MethodName)) ∈ lw_tbl := lw_at lw_m4 84 rfl
theorem q918 : (Jvm.Cond.instanceMethod ({ cls := "HeldCoats$Reader", name := "number", desc := "(II)I" } : Jvm.MethodName)) ∈ lw_all := lw_g (lw_at lw_m4 86 rfl) rfl
theorem q919 : (Jvm.Cond.code ({ cls := "HeldCoats$Reader", name := "number", desc := "(II)I" } : Jvm.MethodName) prog_18_method_10_code (4 : Nat) (Option.some Jvm.ClassFile.FieldType.int)) ∈ lw_all := lw_g (lw_at lw_m4 87 rfl) rfl
theorem q920 : (Jvm.Cond.methodLink "HeldCoats$Reader" (95 : Nat) ({ cls := "HeldCoats$Reader", name := "holdNumber", desc := "(II)I" } : Jvm.MethodName)) ∈ lw_all := lw_g (lw_at lw_m4 88 rfl) rfl
theorem q921 : (Jvm.Cond.instanceMethod ({ cls := "HeldCoats$Reader", name := "holdNumber", desc := "(II)I" } : Jvm.MethodName)) ∈ lw_all := lw_g (lw_at lw_m4 89 rfl) rfl
theorem q922 : (Jvm.Cond.sameMethod "HeldCoats$Reader" "HeldCoats$Reader" "holdNumber" "(II)I") ∈ lw_all := lw_g (lw_at lw_m4 90 rfl) rfl
theorem q926 : (Jvm.Cond.code ({ cls := "HeldCoats$Reader", name := "holdNumber", desc := "(II)I" } : Jvm.MethodName) prog_18_method_9_code (3 : Nat) (Option.some Jvm.ClassFile.FieldType.int)) ∈ lw_all := lw_g (lw_at lw_m4 94 rfl) rfl
theorem q927 : (Jvm.Cond.methodLink "HeldCoats$Reader" (87 : Nat) ({ cls := "HeldCoats$Reader", name := "need", desc := "(ZI)V" } : Jvm.MethodName)) ∈ lw_all := lw_g (lw_at lw_m4 95 rfl) rfl
theorem q928 : (Jvm.Cond.methodLinkNest "HeldCoats$Reader" (91 : Nat) ({ cls := "HeldCoats", name := "isIn", desc := "(III)Z" } : Jvm.MethodName) "HeldCoats") ∈ lw_tbl := lw_at lw_m4 96 rfl
theorem q931 : (Jvm.Cond.methodLink "HeldCoats$Reader" (99 : Nat) ({ cls := "HeldCoats$Reader", name := "go", desc := "()V" } : Jvm.MethodName)) ∈ lw_all := lw_g (lw_at lw_m4 99 rfl) rfl
theorem q944 : (Jvm.Cond.fieldLink "HeldCoats$Reader" (113 : Nat) "HeldCoats$Named" "name" "Ljava/lang/String;") ∈ lw_all := lw_g (lw_at lw_m4 112 rfl) rfl
theorem q1015 : (Jvm.Cond.declares ({ cls := "HeldCoats$Reader", name := "one", desc := "(Ljava/util/ArrayList;)I" } : Jvm.MethodName)) ∈ lw_tbl := lw_at lw_m4 183 rfl
theorem q1017 : (Jvm.Cond.instanceMethod ({ cls := "HeldCoats$Reader", name := "one", desc := "(Ljava/util/ArrayList;)I" } : Jvm.MethodName)) ∈ lw_all := lw_g (lw_at lw_m4 185 rfl) rfl
theorem q1018 : (Jvm.Cond.code ({ cls := "HeldCoats$Reader", name := "one", desc := "(Ljava/util/ArrayList;)I" } : Jvm.MethodName) prog_18_method_13_code (3 : Nat) (Option.some Jvm.ClassFile.FieldType.int)) ∈ lw_all := lw_g (lw_at lw_m4 186 rfl) rfl
theorem q1019 : (Jvm.Cond.methodLink "HeldCoats$Reader" (116 : Nat) ({ cls := "HeldCoats$Reader", name := "isName", desc := "()Z" } : Jvm.MethodName)) ∈ lw_all := lw_g (lw_at lw_m4 187 rfl) rfl
theorem q1020 : (Jvm.Cond.methodLink "HeldCoats$Reader" (120 : Nat) ({ cls := "HeldCoats$Reader", name := "find", desc := "(Ljava/util/ArrayList;)I" } : Jvm.MethodName)) ∈ lw_all := lw_g (lw_at lw_m4 188 rfl) rfl
theorem q1051 : (Jvm.Cond.declares ({ cls := "HeldCoats$Reader", name := "holdNumber", desc := "(II)I" } : Jvm.MethodName)) ∈ lw_tbl := lw_at lw_m4 219 rfl
theorem q1070 : (Jvm.Cond.declares ({ cls := "HeldCoats$Reader", name := "end", desc := "()V" } : Jvm.MethodName)) ∈ lw_tbl := lw_at lw_m4 238 rfl
theorem q1072 : (Jvm.Cond.instanceMethod ({ cls := "HeldCoats$Reader", name := "end", desc := "()V" } : Jvm.MethodName)) ∈ lw_all := lw_g (lw_at lw_m5 0 rfl) rfl
theorem q1073 : (Jvm.Cond.code ({ cls := "HeldCoats$Reader", name := "end", desc := "()V" } : Jvm.MethodName) prog_18_method_11_code (1 : Nat) (Option.none : Option Jvm.ClassFile.FieldType)) ∈ lw_all := lw_g (lw_at lw_m5 1 rfl) rfl
theorem q2507 : (Jvm.Cond.sameMethod "HeldCoats$Reader" "HeldCoats$Reader" "byteAt" "(I)I") ∈ lw_all := lw_g (lw_at lw_m10 235 rfl) rfl
theorem q2517 : (Jvm.Cond.sameMethod "HeldCoats$Reader" "HeldCoats$Reader" "need" "(ZI)V") ∈ lw_all := lw_g (lw_at lw_m11 5 rfl) rfl
theorem q2521 : (Jvm.Cond.sameMethod "HeldCoats$Reader" "HeldCoats$Reader" "go" "()V") ∈ lw_all := lw_g (lw_at lw_m11 9 rfl) rfl
theorem q2525 : (Jvm.Cond.sameMethod "HeldCoats$Reader" "HeldCoats$Reader" "isName" "()Z") ∈ lw_all := lw_g (lw_at lw_m11 13 rfl) rfl
theorem q2529 : (Jvm.Cond.sameMethod "HeldCoats$Reader" "HeldCoats$Reader" "find" "(Ljava/util/ArrayList;)I") ∈ lw_all := lw_g (lw_at lw_m11 17 rfl) rfl
theorem q125 : (Jvm.Cond.initialized "HeldCoats$CapitalReader") ∈ lw_all := lw_g (lw_at lw_m1 13 rfl) rfl
theorem q200 : (Jvm.Cond.fieldLinkNest "HeldCoats$CapitalReader" (33 : Nat) "HeldCoats$Capital" "lines" "I" "HeldCoats") ∈ lw_tbl := lw_at lw_m1 88 rfl
theorem q203 : (Jvm.Cond.fieldLinkNest "HeldCoats$CapitalReader" (146 : Nat) "HeldCoats$Capital" "colds" "I" "HeldCoats") ∈ lw_tbl := lw_at lw_m1 91 rfl
theorem q204 : (Jvm.Cond.fieldLinkNest "HeldCoats$CapitalReader" (69 : Nat) "HeldCoats$Capital" "summer" "I" "HeldCoats") ∈ lw_tbl := lw_at lw_m1 92 rfl
theorem q208 : (Jvm.Cond.fieldLinkNest "HeldCoats$CapitalReader" (73 : Nat) "HeldCoats$Capital" "holds" "I" "HeldCoats") ∈ lw_tbl := lw_at lw_m1 96 rfl
theorem q212 : (Jvm.Cond.fieldLinkNest "HeldCoats$CapitalReader" (77 : Nat) "HeldCoats$Capital" "moths" "I" "HeldCoats") ∈ lw_tbl := lw_at lw_m1 100 rfl
theorem q216 : (Jvm.Cond.fieldLinkNest "HeldCoats$CapitalReader" (98 : Nat) "HeldCoats$Capital" "limit" "I" "HeldCoats") ∈ lw_tbl := lw_at lw_m1 104 rfl
theorem q220 : (Jvm.Cond.fieldLinkNest "HeldCoats$CapitalReader" (42 : Nat) "HeldCoats$Capital" "seats" "Ljava/util/ArrayList;" "HeldCoats") ∈ lw_tbl := lw_at lw_m1 108 rfl
theorem q226 : (Jvm.Cond.fieldLinkNest "HeldCoats$CapitalReader" (52 : Nat) "HeldCoats$Capital" "men" "Ljava/util/ArrayList;" "HeldCoats") ∈ lw_tbl := lw_at lw_m1 114 rfl
theorem q234 : (Jvm.Cond.fieldLinkNest "HeldCoats$CapitalReader" (108 : Nat) "HeldCoats$Capital" "coats" "Ljava/util/ArrayList;" "HeldCoats") ∈ lw_tbl := lw_at lw_m1 122 rfl
theorem q237 : (Jvm.Cond.fieldLinkNest "HeldCoats$CapitalReader" (152 : Nat) "HeldCoats$Capital" "coldFrom" "[I" "HeldCoats") ∈ lw_tbl := lw_at lw_m1 125 rfl
theorem q239 : (Jvm.Cond.fieldLinkNest "HeldCoats$CapitalReader" (156 : Nat) "HeldCoats$Capital" "cold" "[I" "HeldCoats") ∈ lw_tbl := lw_at lw_m1 127 rfl
theorem q457 : (Jvm.Cond.instantiable "HeldCoats$CapitalReader" (11 : Nat)) ∈ lw_all := lw_g (lw_at lw_m2 105 rfl) rfl
theorem q459 : (Jvm.Cond.instanceMethod ({ cls := "HeldCoats$CapitalReader", name := "<init>", desc := "([BI)V" } : Jvm.MethodName)) ∈ lw_all := lw_g (lw_at lw_m2 107 rfl) rfl
theorem q460 : (Jvm.Cond.code ({ cls := "HeldCoats$CapitalReader", name := "<init>", desc := "([BI)V" } : Jvm.MethodName) prog_5_method_1_code (3 : Nat) (Option.none : Option Jvm.ClassFile.FieldType)) ∈ lw_all := lw_g (lw_at lw_m2 108 rfl) rfl
theorem q461 : (Jvm.Cond.methodLink "HeldCoats$CapitalReader" (3 : Nat) ({ cls := "HeldCoats$Reader", name := "<init>", desc := "([BII)V" } : Jvm.MethodName)) ∈ lw_all := lw_g (lw_at lw_m2 109 rfl) rfl
theorem q466 : (Jvm.Cond.classLink "HeldCoats$CapitalReader" (9 : Nat) "HeldCoats$Capital") ∈ lw_all := lw_g (lw_at lw_m2 114 rfl) rfl
theorem q467 : (Jvm.Cond.methodLinkNest "HeldCoats$CapitalReader" (11 : Nat) ({ cls := "HeldCoats$Capital", name := "<init>", desc := "()V" } : Jvm.MethodName) "HeldCoats") ∈ lw_tbl := lw_at lw_m2 115 rfl
theorem q468 : (Jvm.Cond.fieldLink "HeldCoats$CapitalReader" (14 : Nat) "HeldCoats$CapitalReader" "c" "LHeldCoats$Capital;") ∈ lw_all := lw_g (lw_at lw_m2 116 rfl) rfl
theorem q469 : (Jvm.Cond.fieldLink "HeldCoats$CapitalReader" (82 : Nat) "HeldCoats$CapitalReader" "onces" "I") ∈ lw_all := lw_g (lw_at lw_m2 117 rfl) rfl
theorem q474 : (Jvm.Cond.fieldLink "HeldCoats$CapitalReader" (23 : Nat) "HeldCoats$CapitalReader" "kind" "I") ∈ lw_all := lw_g (lw_at lw_m2 122 rfl) rfl
theorem q475 : (Jvm.Cond.sameField "HeldCoats$CapitalReader" "HeldCoats$Reader" "kind" "I") ∈ lw_all := lw_g (lw_at lw_m2 123 rfl) rfl
theorem q487 : (Jvm.Cond.fieldLink "HeldCoats$CapitalReader" (111 : Nat) "HeldCoats$CapitalReader" "word" "Ljava/lang/String;") ∈ lw_all := lw_g (lw_at lw_m2 135 rfl) rfl
theorem q488 : (Jvm.Cond.sameField "HeldCoats$CapitalReader" "HeldCoats$Reader" "word" "Ljava/lang/String;") ∈ lw_all := lw_g (lw_at lw_m2 136 rfl) rfl
theorem q489 : (Jvm.Cond.laysFinal "HeldCoats$CapitalReader" "HeldCoats$CapitalReader" "c" "LHeldCoats$Capital;") ∈ lw_all := lw_g (lw_at lw_m2 137 rfl) rfl
theorem q490 : (Jvm.Cond.soleField "HeldCoats$CapitalReader" "c") ∈ lw_all := lw_g (lw_at lw_m2 138 rfl) rfl
theorem q491 : (Jvm.Cond.lays "HeldCoats$CapitalReader" "HeldCoats$CapitalReader" "onces" "I") ∈ lw_all := lw_g (lw_at lw_m2 139 rfl) rfl
theorem q492 : (Jvm.Cond.soleField "HeldCoats$CapitalReader" "onces") ∈ lw_all := lw_g (lw_at lw_m2 140 rfl) rfl
theorem q493 : (Jvm.Cond.laysFinal "HeldCoats$CapitalReader" "HeldCoats$Reader" "tape" "[B") ∈ lw_all := lw_g (lw_at lw_m2 141 rfl) rfl
theorem q495 : (Jvm.Cond.laysFinal "HeldCoats$CapitalReader" "HeldCoats$Reader" "size" "I") ∈ lw_all := lw_g (lw_at lw_m2 143 rfl) rfl
theorem q497 : (Jvm.Cond.laysFinal "HeldCoats$CapitalReader" "HeldCoats$Reader" "limit" "I") ∈ lw_all := lw_g (lw_at lw_m2 145 rfl) rfl
theorem q499 : (Jvm.Cond.lays "HeldCoats$CapitalReader" "HeldCoats$Reader" "to" "I") ∈ lw_all := lw_g (lw_at lw_m2 147 rfl) rfl
theorem q501 : (Jvm.Cond.lays "HeldCoats$CapitalReader" "HeldCoats$Reader" "kind" "I") ∈ lw_all := lw_g (lw_at lw_m2 149 rfl) rfl
theorem q503 : (Jvm.Cond.lays "HeldCoats$CapitalReader" "HeldCoats$Reader" "from" "I") ∈ lw_all := lw_g (lw_at lw_m2 151 rfl) rfl
theorem q505 : (Jvm.Cond.lays "HeldCoats$CapitalReader" "HeldCoats$Reader" "number" "I") ∈ lw_all := lw_g (lw_at lw_m2 153 rfl) rfl
theorem q507 : (Jvm.Cond.lays "HeldCoats$CapitalReader" "HeldCoats$Reader" "sign" "I") ∈ lw_all := lw_g (lw_at lw_m2 155 rfl) rfl
theorem q509 : (Jvm.Cond.lays "HeldCoats$CapitalReader" "HeldCoats$Reader" "word" "Ljava/lang/String;") ∈ lw_all := lw_g (lw_at lw_m2 157 rfl) rfl
theorem q511 : (Jvm.Cond.superclass "HeldCoats$CapitalReader" "HeldCoats$Reader") ∈ lw_all := lw_g (lw_at lw_m2 159 rfl) rfl
theorem q513 : (Jvm.Cond.instanceMethod ({ cls := "HeldCoats$CapitalReader", name := "read", desc := "()LHeldCoats$Capital;" } : Jvm.MethodName)) ∈ lw_all := lw_g (lw_at lw_m2 161 rfl) rfl
theorem q514 : (Jvm.Cond.selects "HeldCoats$CapitalReader" ({ cls := "HeldCoats$CapitalReader", name := "read", desc := "()LHeldCoats$Capital;" } : Jvm.MethodName) ({ cls := "HeldCoats$CapitalReader", name := "read", desc := "()LHeldCoats$Capital;" } : Jvm.MethodName)) ∈ lw_all := lw_g (lw_at lw_m2 162 rfl) rfl
theorem q515 : (Jvm.Cond.code ({ cls := "HeldCoats$CapitalReader", name := "read", desc := "()LHeldCoats$Capital;" } : Jvm.MethodName) prog_5_method_2_code (1 : Nat) (Option.some (Jvm.ClassFile.FieldType.object "HeldCoats$Capital"))) ∈ lw_all := lw_g (lw_at lw_m2 163 rfl) rfl
theorem q516 : (Jvm.Cond.methodLink "HeldCoats$CapitalReader" (20 : Nat) ({ cls := "HeldCoats$CapitalReader", name := "go", desc := "()V" } : Jvm.MethodName)) ∈ lw_all := lw_g (lw_at lw_m2 164 rfl) rfl
theorem q517 : (Jvm.Cond.sameMethod "HeldCoats$CapitalReader" "HeldCoats$Reader" "go" "()V") ∈ lw_all := lw_g (lw_at lw_m2 165 rfl) rfl
theorem q519 : (Jvm.Cond.selects "HeldCoats$CapitalReader" ({ cls := "HeldCoats$CapitalReader", name := "go", desc := "()V" } : Jvm.MethodName) ({ cls := "HeldCoats$Reader", name := "go", desc := "()V" } : Jvm.MethodName)) ∈ lw_all := lw_g (lw_at lw_m2 167 rfl) rfl
theorem q717 : (Jvm.Cond.methodLink "HeldCoats$CapitalReader" (27 : Nat) ({ cls := "HeldCoats$CapitalReader", name := "line", desc := "()V" } : Jvm.MethodName)) ∈ lw_all := lw_g (lw_at lw_m3 125 rfl) rfl
theorem q718 : (Jvm.Cond.privateMethod ({ cls := "HeldCoats$CapitalReader", name := "line", desc := "()V" } : Jvm.MethodName)) ∈ lw_tbl := lw_at lw_m3 126 rfl
theorem q719 : (Jvm.Cond.instanceMethod ({ cls := "HeldCoats$CapitalReader", name := "line", desc := "()V" } : Jvm.MethodName)) ∈ lw_all := lw_g (lw_at lw_m3 127 rfl) rfl
theorem q720 : (Jvm.Cond.code ({ cls := "HeldCoats$CapitalReader", name := "line", desc := "()V" } : Jvm.MethodName) prog_5_method_3_code (1 : Nat) (Option.none : Option Jvm.ClassFile.FieldType)) ∈ lw_all := lw_g (lw_at lw_m3 128 rfl) rfl
theorem q721 : (Jvm.Cond.stringRef "HeldCoats$CapitalReader" (36 : Nat) "seat") ∈ lw_tbl := lw_at lw_m3 129 rfl
theorem q722 : (Jvm.Cond.methodLink "HeldCoats$CapitalReader" (38 : Nat) ({ cls := "HeldCoats$CapitalReader", name := "is", desc := "(Ljava/lang/String;)Z" } : Jvm.MethodName)) ∈ lw_all := lw_g (lw_at lw_m3 130 rfl) rfl
theorem q723 : (Jvm.Cond.sameMethod "HeldCoats$CapitalReader" "HeldCoats$Reader" "is" "(Ljava/lang/String;)Z") ∈ lw_all := lw_g (lw_at lw_m3 131 rfl) rfl
theorem q725 : (Jvm.Cond.selects "HeldCoats$CapitalReader" ({ cls := "HeldCoats$CapitalReader", name := "is", desc := "(Ljava/lang/String;)Z" } : Jvm.MethodName) ({ cls := "HeldCoats$Reader", name := "is", desc := "(Ljava/lang/String;)Z" } : Jvm.MethodName)) ∈ lw_all := lw_g (lw_at lw_m3 133 rfl) rfl
theorem q736 : (Jvm.Cond.methodLink "HeldCoats$CapitalReader" (46 : Nat) ({ cls := "HeldCoats$CapitalReader", name := "told", desc := "(Ljava/util/ArrayList;III)V" } : Jvm.MethodName)) ∈ lw_all := lw_g (lw_at lw_m3 144 rfl) rfl
theorem q737 : (Jvm.Cond.privateMethod ({ cls := "HeldCoats$CapitalReader", name := "told", desc := "(Ljava/util/ArrayList;III)V" } : Jvm.MethodName)) ∈ lw_tbl := lw_at lw_m3 145 rfl
theorem q738 : (Jvm.Cond.instanceMethod ({ cls := "HeldCoats$CapitalReader", name := "told", desc := "(Ljava/util/ArrayList;III)V" } : Jvm.MethodName)) ∈ lw_all := lw_g (lw_at lw_m3 146 rfl) rfl
theorem q739 : (Jvm.Cond.code ({ cls := "HeldCoats$CapitalReader", name := "told", desc := "(Ljava/util/ArrayList;III)V" } : Jvm.MethodName) prog_5_method_8_code (6 : Nat) (Option.none : Option Jvm.ClassFile.FieldType)) ∈ lw_all := lw_g (lw_at lw_m3 147 rfl) rfl
theorem q740 : (Jvm.Cond.methodLink "HeldCoats$CapitalReader" (115 : Nat) ({ cls := "java/util/ArrayList", name := "size", desc := "()I" } : Jvm.MethodName)) ∈ lw_all := lw_g (lw_at lw_m3 148 rfl) rfl
theorem q741 : (Jvm.Cond.methodLink "HeldCoats$CapitalReader" (121 : Nat) ({ cls := "HeldCoats$CapitalReader", name := "first", desc := "(II)V" } : Jvm.MethodName)) ∈ lw_all := lw_g (lw_at lw_m3 149 rfl) rfl
theorem q742 : (Jvm.Cond.privateMethod ({ cls := "HeldCoats$CapitalReader", name := "first", desc := "(II)V" } : Jvm.MethodName)) ∈ lw_tbl := lw_at lw_m3 150 rfl
theorem q743 : (Jvm.Cond.instanceMethod ({ cls := "HeldCoats$CapitalReader", name := "first", desc := "(II)V" } : Jvm.MethodName)) ∈ lw_all := lw_g (lw_at lw_m3 151 rfl) rfl
theorem q744 : (Jvm.Cond.code ({ cls := "HeldCoats$CapitalReader", name := "first", desc := "(II)V" } : Jvm.MethodName) prog_5_method_6_code (3 : Nat) (Option.none : Option Jvm.ClassFile.FieldType)) ∈ lw_all := lw_g (lw_at lw_m3 152 rfl) rfl
theorem q745 : (Jvm.Cond.methodLink "HeldCoats$CapitalReader" (89 : Nat) ({ cls := "HeldCoats$CapitalReader", name := "need", desc := "(ZI)V" } : Jvm.MethodName)) ∈ lw_all := lw_g (lw_at lw_m3 153 rfl) rfl
theorem q746 : (Jvm.Cond.sameMethod "HeldCoats$CapitalReader" "HeldCoats$Reader" "need" "(ZI)V") ∈ lw_all := lw_g (lw_at lw_m3 154 rfl) rfl
theorem q748 : (Jvm.Cond.selects "HeldCoats$CapitalReader" ({ cls := "HeldCoats$CapitalReader", name := "need", desc := "(ZI)V" } : Jvm.MethodName) ({ cls := "HeldCoats$Reader", name := "need", desc := "(ZI)V" } : Jvm.MethodName)) ∈ lw_all := lw_g (lw_at lw_m3 156 rfl) rfl
theorem q819 : (Jvm.Cond.methodLink "HeldCoats$CapitalReader" (125 : Nat) ({ cls := "HeldCoats$CapitalReader", name := "fresh", desc := "()Ljava/lang/String;" } : Jvm.MethodName)) ∈ lw_all := lw_g (lw_at lw_m3 227 rfl) rfl
theorem q820 : (Jvm.Cond.privateMethod ({ cls := "HeldCoats$CapitalReader", name := "fresh", desc := "()Ljava/lang/String;" } : Jvm.MethodName)) ∈ lw_tbl := lw_at lw_m3 228 rfl
theorem q821 : (Jvm.Cond.instanceMethod ({ cls := "HeldCoats$CapitalReader", name := "fresh", desc := "()Ljava/lang/String;" } : Jvm.MethodName)) ∈ lw_all := lw_g (lw_at lw_m3 229 rfl) rfl
theorem q822 : (Jvm.Cond.code ({ cls := "HeldCoats$CapitalReader", name := "fresh", desc := "()Ljava/lang/String;" } : Jvm.MethodName) prog_5_method_7_code (2 : Nat) (Option.some (Jvm.ClassFile.FieldType.object "java/lang/String"))) ∈ lw_all := lw_g (lw_at lw_m3 230 rfl) rfl
theorem q823 : (Jvm.Cond.methodLink "HeldCoats$CapitalReader" (100 : Nat) ({ cls := "HeldCoats$CapitalReader", name := "isName", desc := "()Z" } : Jvm.MethodName)) ∈ lw_all := lw_g (lw_at lw_m3 231 rfl) rfl
theorem q824 : (Jvm.Cond.sameMethod "HeldCoats$CapitalReader" "HeldCoats$Reader" "isName" "()Z") ∈ lw_all := lw_g (lw_at lw_m3 232 rfl) rfl
theorem q826 : (Jvm.Cond.selects "HeldCoats$CapitalReader" ({ cls := "HeldCoats$CapitalReader", name := "isName", desc := "()Z" } : Jvm.MethodName) ({ cls := "HeldCoats$Reader", name := "isName", desc := "()Z" } : Jvm.MethodName)) ∈ lw_all := lw_g (lw_at lw_m3 234 rfl) rfl
theorem q903 : (Jvm.Cond.methodLink "HeldCoats$CapitalReader" (104 : Nat) ({ cls := "HeldCoats$CapitalReader", name := "find", desc := "(Ljava/util/ArrayList;)I" } : Jvm.MethodName)) ∈ lw_all := lw_g (lw_at lw_m4 71 rfl) rfl
theorem q904 : (Jvm.Cond.sameMethod "HeldCoats$CapitalReader" "HeldCoats$Reader" "find" "(Ljava/util/ArrayList;)I") ∈ lw_all := lw_g (lw_at lw_m4 72 rfl) rfl
theorem q906 : (Jvm.Cond.selects "HeldCoats$CapitalReader" ({ cls := "HeldCoats$CapitalReader", name := "find", desc := "(Ljava/util/ArrayList;)I" } : Jvm.MethodName) ({ cls := "HeldCoats$Reader", name := "find", desc := "(Ljava/util/ArrayList;)I" } : Jvm.MethodName)) ∈ lw_all := lw_g (lw_at lw_m4 74 rfl) rfl
theorem q912 : (Jvm.Cond.classLink "HeldCoats$CapitalReader" (129 : Nat) "HeldCoats$Told") ∈ lw_all := lw_g (lw_at lw_m4 80 rfl) rfl
theorem q914 : (Jvm.Cond.methodLink "HeldCoats$CapitalReader" (93 : Nat) ({ cls := "HeldCoats$CapitalReader", name := "number", desc := "(II)I" } : Jvm.MethodName)) ∈ lw_all := lw_g (lw_at lw_m4 82 rfl) rfl
theorem q915 : (Jvm.Cond.sameMethod "HeldCoats$CapitalReader" "HeldCoats$Reader" "number" "(II)I") ∈ lw_all := lw_g (lw_at lw_m4 83 rfl) rfl
theorem q917 : (Jvm.Cond.selects "HeldCoats$CapitalReader" ({ cls := "HeldCoats$CapitalReader", name := "number", desc := "(II)I" } : Jvm.MethodName) ({ cls := "HeldCoats$Reader", name := "number", desc := "(II)I" } : Jvm.MethodName)) ∈ lw_all := lw_g (lw_at lw_m4 85 rfl) rfl
theorem q924 : (Jvm.Cond.selects "HeldCoats$CapitalReader" ({ cls := "HeldCoats$Reader", name := "holdNumber", desc := "(II)I" } : Jvm.MethodName) ({ cls := "HeldCoats$Reader", name := "holdNumber", desc := "(II)I" } : Jvm.MethodName)) ∈ lw_all := lw_g (lw_at lw_m4 92 rfl) rfl
theorem q932 : (Jvm.Cond.methodLink "HeldCoats$CapitalReader" (131 : Nat) ({ cls := "HeldCoats$Told", name := "<init>", desc := "(Ljava/lang/String;I)V" } : Jvm.MethodName)) ∈ lw_all := lw_g (lw_at lw_m4 100 rfl) rfl
theorem q950 : (Jvm.Cond.methodLink "HeldCoats$CapitalReader" (134 : Nat) ({ cls := "java/util/ArrayList", name := "add", desc := "(Ljava/lang/Object;)Z" } : Jvm.MethodName)) ∈ lw_all := lw_g (lw_at lw_m4 118 rfl) rfl
theorem q976 : (Jvm.Cond.selects "HeldCoats$CapitalReader" ({ cls := "java/lang/Object", name := "getClass", desc := "()Ljava/lang/Class;" } : Jvm.MethodName) ({ cls := "java/lang/Object", name := "getClass", desc := "()Ljava/lang/Class;" } : Jvm.MethodName)) ∈ lw_all := lw_g (lw_at lw_m4 144 rfl) rfl
theorem q1007 : (Jvm.Cond.stringRef "HeldCoats$CapitalReader" (50 : Nat) "man") ∈ lw_tbl := lw_at lw_m4 175 rfl
theorem q1008 : (Jvm.Cond.stringRef "HeldCoats$CapitalReader" (55 : Nat) "coat") ∈ lw_tbl := lw_at lw_m4 176 rfl
theorem q1009 : (Jvm.Cond.methodLink "HeldCoats$CapitalReader" (57 : Nat) ({ cls := "HeldCoats$CapitalReader", name := "coat", desc := "()V" } : Jvm.MethodName)) ∈ lw_all := lw_g (lw_at lw_m4 177 rfl) rfl
theorem q1010 : (Jvm.Cond.privateMethod ({ cls := "HeldCoats$CapitalReader", name := "coat", desc := "()V" } : Jvm.MethodName)) ∈ lw_tbl := lw_at lw_m4 178 rfl
theorem q1011 : (Jvm.Cond.instanceMethod ({ cls := "HeldCoats$CapitalReader", name := "coat", desc := "()V" } : Jvm.MethodName)) ∈ lw_all := lw_g (lw_at lw_m4 179 rfl) rfl
theorem q1012 : (Jvm.Cond.code ({ cls := "HeldCoats$CapitalReader", name := "coat", desc := "()V" } : Jvm.MethodName) prog_5_method_9_code (4 : Nat) (Option.none : Option Jvm.ClassFile.FieldType)) ∈ lw_all := lw_g (lw_at lw_m4 180 rfl) rfl
theorem q1013 : (Jvm.Cond.methodLink "HeldCoats$CapitalReader" (138 : Nat) ({ cls := "HeldCoats$CapitalReader", name := "one", desc := "(Ljava/util/ArrayList;)I" } : Jvm.MethodName)) ∈ lw_all := lw_g (lw_at lw_m4 181 rfl) rfl
theorem q1014 : (Jvm.Cond.sameMethod "HeldCoats$CapitalReader" "HeldCoats$Reader" "one" "(Ljava/util/ArrayList;)I") ∈ lw_all := lw_g (lw_at lw_m4 182 rfl) rfl
theorem q1016 : (Jvm.Cond.selects "HeldCoats$CapitalReader" ({ cls := "HeldCoats$CapitalReader", name := "one", desc := "(Ljava/util/ArrayList;)I" } : Jvm.MethodName) ({ cls := "HeldCoats$Reader", name := "one", desc := "(Ljava/util/ArrayList;)I" } : Jvm.MethodName)) ∈ lw_all := lw_g (lw_at lw_m4 184 rfl) rfl
theorem q1021 : (Jvm.Cond.classLink "HeldCoats$CapitalReader" (141 : Nat) "HeldCoats$Coat") ∈ lw_all := lw_g (lw_at lw_m4 189 rfl) rfl
theorem q1023 : (Jvm.Cond.methodLink "HeldCoats$CapitalReader" (143 : Nat) ({ cls := "HeldCoats$Coat", name := "<init>", desc := "(Ljava/lang/String;III)V" } : Jvm.MethodName)) ∈ lw_all := lw_g (lw_at lw_m4 191 rfl) rfl
theorem q1044 : (Jvm.Cond.stringRef "HeldCoats$CapitalReader" (59 : Nat) "cold") ∈ lw_tbl := lw_at lw_m4 212 rfl
theorem q1045 : (Jvm.Cond.methodLink "HeldCoats$CapitalReader" (61 : Nat) ({ cls := "HeldCoats$CapitalReader", name := "cold", desc := "()V" } : Jvm.MethodName)) ∈ lw_all := lw_g (lw_at lw_m4 213 rfl) rfl
theorem q1046 : (Jvm.Cond.privateMethod ({ cls := "HeldCoats$CapitalReader", name := "cold", desc := "()V" } : Jvm.MethodName)) ∈ lw_tbl := lw_at lw_m4 214 rfl
theorem q1047 : (Jvm.Cond.instanceMethod ({ cls := "HeldCoats$CapitalReader", name := "cold", desc := "()V" } : Jvm.MethodName)) ∈ lw_all := lw_g (lw_at lw_m4 215 rfl) rfl
theorem q1048 : (Jvm.Cond.code ({ cls := "HeldCoats$CapitalReader", name := "cold", desc := "()V" } : Jvm.MethodName) prog_5_method_10_code (3 : Nat) (Option.none : Option Jvm.ClassFile.FieldType)) ∈ lw_all := lw_g (lw_at lw_m4 216 rfl) rfl
theorem q1049 : (Jvm.Cond.methodLink "HeldCoats$CapitalReader" (149 : Nat) ({ cls := "HeldCoats$CapitalReader", name := "holdNumber", desc := "(II)I" } : Jvm.MethodName)) ∈ lw_all := lw_g (lw_at lw_m4 217 rfl) rfl
theorem q1050 : (Jvm.Cond.sameMethod "HeldCoats$CapitalReader" "HeldCoats$Reader" "holdNumber" "(II)I") ∈ lw_all := lw_g (lw_at lw_m4 218 rfl) rfl
theorem q1052 : (Jvm.Cond.selects "HeldCoats$CapitalReader" ({ cls := "HeldCoats$CapitalReader", name := "holdNumber", desc := "(II)I" } : Jvm.MethodName) ({ cls := "HeldCoats$Reader", name := "holdNumber", desc := "(II)I" } : Jvm.MethodName)) ∈ lw_all := lw_g (lw_at lw_m4 220 rfl) rfl
theorem q1053 : (Jvm.Cond.stringRef "HeldCoats$CapitalReader" (63 : Nat) "summer") ∈ lw_tbl := lw_at lw_m4 221 rfl
theorem q1054 : (Jvm.Cond.methodLink "HeldCoats$CapitalReader" (65 : Nat) ({ cls := "HeldCoats$CapitalReader", name := "once", desc := "(III)I" } : Jvm.MethodName)) ∈ lw_all := lw_g (lw_at lw_m4 222 rfl) rfl
theorem q1055 : (Jvm.Cond.privateMethod ({ cls := "HeldCoats$CapitalReader", name := "once", desc := "(III)I" } : Jvm.MethodName)) ∈ lw_tbl := lw_at lw_m4 223 rfl
theorem q1056 : (Jvm.Cond.instanceMethod ({ cls := "HeldCoats$CapitalReader", name := "once", desc := "(III)I" } : Jvm.MethodName)) ∈ lw_all := lw_g (lw_at lw_m4 224 rfl) rfl
theorem q1057 : (Jvm.Cond.code ({ cls := "HeldCoats$CapitalReader", name := "once", desc := "(III)I" } : Jvm.MethodName) prog_5_method_4_code (4 : Nat) (Option.some Jvm.ClassFile.FieldType.int)) ∈ lw_all := lw_g (lw_at lw_m4 225 rfl) rfl
theorem q1058 : (Jvm.Cond.methodLinkNest "HeldCoats$CapitalReader" (85 : Nat) ({ cls := "HeldCoats", name := "isOf", desc := "(II)Z" } : Jvm.MethodName) "HeldCoats") ∈ lw_tbl := lw_at lw_m4 226 rfl
theorem q1061 : (Jvm.Cond.stringRef "HeldCoats$CapitalReader" (71 : Nat) "holds") ∈ lw_tbl := lw_at lw_m4 229 rfl
theorem q1062 : (Jvm.Cond.stringRef "HeldCoats$CapitalReader" (75 : Nat) "moths") ∈ lw_tbl := lw_at lw_m4 230 rfl
theorem q1063 : (Jvm.Cond.methodLink "HeldCoats$CapitalReader" (79 : Nat) ({ cls := "HeldCoats$CapitalReader", name := "limit", desc := "()V" } : Jvm.MethodName)) ∈ lw_all := lw_g (lw_at lw_m4 231 rfl) rfl
theorem q1064 : (Jvm.Cond.privateMethod ({ cls := "HeldCoats$CapitalReader", name := "limit", desc := "()V" } : Jvm.MethodName)) ∈ lw_tbl := lw_at lw_m4 232 rfl
theorem q1065 : (Jvm.Cond.instanceMethod ({ cls := "HeldCoats$CapitalReader", name := "limit", desc := "()V" } : Jvm.MethodName)) ∈ lw_all := lw_g (lw_at lw_m4 233 rfl) rfl
theorem q1066 : (Jvm.Cond.code ({ cls := "HeldCoats$CapitalReader", name := "limit", desc := "()V" } : Jvm.MethodName) prog_5_method_5_code (1 : Nat) (Option.none : Option Jvm.ClassFile.FieldType)) ∈ lw_all := lw_g (lw_at lw_m4 234 rfl) rfl
theorem q1067 : (Jvm.Cond.stringRef "HeldCoats$CapitalReader" (97 : Nat) "limit") ∈ lw_tbl := lw_at lw_m4 235 rfl
theorem q1068 : (Jvm.Cond.methodLink "HeldCoats$CapitalReader" (30 : Nat) ({ cls := "HeldCoats$CapitalReader", name := "end", desc := "()V" } : Jvm.MethodName)) ∈ lw_all := lw_g (lw_at lw_m4 236 rfl) rfl
theorem q1069 : (Jvm.Cond.sameMethod "HeldCoats$CapitalReader" "HeldCoats$Reader" "end" "()V") ∈ lw_all := lw_g (lw_at lw_m4 237 rfl) rfl
theorem q1071 : (Jvm.Cond.selects "HeldCoats$CapitalReader" ({ cls := "HeldCoats$CapitalReader", name := "end", desc := "()V" } : Jvm.MethodName) ({ cls := "HeldCoats$Reader", name := "end", desc := "()V" } : Jvm.MethodName)) ∈ lw_all := lw_g (lw_at lw_m4 239 rfl) rfl
theorem q2519 : (Jvm.Cond.selects "HeldCoats$CapitalReader" ({ cls := "HeldCoats$Reader", name := "need", desc := "(ZI)V" } : Jvm.MethodName) ({ cls := "HeldCoats$Reader", name := "need", desc := "(ZI)V" } : Jvm.MethodName)) ∈ lw_all := lw_g (lw_at lw_m11 7 rfl) rfl
theorem q2523 : (Jvm.Cond.selects "HeldCoats$CapitalReader" ({ cls := "HeldCoats$Reader", name := "go", desc := "()V" } : Jvm.MethodName) ({ cls := "HeldCoats$Reader", name := "go", desc := "()V" } : Jvm.MethodName)) ∈ lw_all := lw_g (lw_at lw_m11 11 rfl) rfl
theorem q2527 : (Jvm.Cond.selects "HeldCoats$CapitalReader" ({ cls := "HeldCoats$Reader", name := "isName", desc := "()Z" } : Jvm.MethodName) ({ cls := "HeldCoats$Reader", name := "isName", desc := "()Z" } : Jvm.MethodName)) ∈ lw_all := lw_g (lw_at lw_m11 15 rfl) rfl
theorem q2531 : (Jvm.Cond.selects "HeldCoats$CapitalReader" ({ cls := "HeldCoats$Reader", name := "find", desc := "(Ljava/util/ArrayList;)I" } : Jvm.MethodName) ({ cls := "HeldCoats$Reader", name := "find", desc := "(Ljava/util/ArrayList;)I" } : Jvm.MethodName)) ∈ lw_all := lw_g (lw_at lw_m11 19 rfl) rfl
theorem q2547 : (Jvm.Cond.castable "HeldCoats$CapitalReader" "java/lang/Object") ∈ lw_tbl := lw_at lw_m11 35 rfl
theorem q136 : (Jvm.Cond.initialized "HeldCoats$Fault") ∈ lw_all := lw_g (lw_at lw_m1 24 rfl) rfl
theorem q752 : (Jvm.Cond.instantiable "HeldCoats$Fault" (8 : Nat)) ∈ lw_all := lw_g (lw_at lw_m3 160 rfl) rfl
theorem q753 : (Jvm.Cond.castable "HeldCoats$Fault" "HeldCoats$Fault") ∈ lw_tbl := lw_at lw_m3 161 rfl
theorem q758 : (Jvm.Cond.selects "HeldCoats$Fault" ({ cls := "java/lang/Throwable", name := "fillInStackTrace", desc := "(I)Ljava/lang/Throwable;" } : Jvm.MethodName) ({ cls := "java/lang/Throwable", name := "fillInStackTrace", desc := "(I)Ljava/lang/Throwable;" } : Jvm.MethodName)) ∈ lw_all := lw_g (lw_at lw_m3 166 rfl) rfl
theorem q759 : (Jvm.Cond.selects "HeldCoats$Fault" ({ cls := "java/lang/Throwable", name := "fillInStackTrace", desc := "()Ljava/lang/Throwable;" } : Jvm.MethodName) ({ cls := "java/lang/Throwable", name := "fillInStackTrace", desc := "()Ljava/lang/Throwable;" } : Jvm.MethodName)) ∈ lw_all := lw_g (lw_at lw_m3 167 rfl) rfl
theorem q760 : (Jvm.Cond.lays "HeldCoats$Fault" "java/lang/Throwable" "cause" "Ljava/lang/Throwable;") ∈ lw_all := lw_g (lw_at lw_m3 168 rfl) rfl
theorem q762 : (Jvm.Cond.lays "HeldCoats$Fault" "java/lang/Throwable" "stackTrace" "[Ljava/lang/StackTraceElement;") ∈ lw_all := lw_g (lw_at lw_m3 170 rfl) rfl
theorem q764 : (Jvm.Cond.lays "HeldCoats$Fault" "java/lang/Throwable" "suppressedExceptions" "Ljava/util/List;") ∈ lw_all := lw_g (lw_at lw_m3 172 rfl) rfl
theorem q766 : (Jvm.Cond.lays "HeldCoats$Fault" "java/lang/Throwable" "detailMessage" "Ljava/lang/String;") ∈ lw_all := lw_g (lw_at lw_m3 174 rfl) rfl
theorem q768 : (Jvm.Cond.lays "HeldCoats$Fault" "java/lang/Throwable" "backtrace" "Ljava/lang/Object;") ∈ lw_all := lw_g (lw_at lw_m3 176 rfl) rfl
theorem q790 : (Jvm.Cond.instanceMethod ({ cls := "HeldCoats$Fault", name := "<init>", desc := "(II)V" } : Jvm.MethodName)) ∈ lw_all := lw_g (lw_at lw_m3 198 rfl) rfl
theorem q791 : (Jvm.Cond.code ({ cls := "HeldCoats$Fault", name := "<init>", desc := "(II)V" } : Jvm.MethodName) prog_9_method_1_code (3 : Nat) (Option.none : Option Jvm.ClassFile.FieldType)) ∈ lw_all := lw_g (lw_at lw_m3 199 rfl) rfl
theorem q792 : (Jvm.Cond.methodLink "HeldCoats$Fault" (1 : Nat) ({ cls := "java/lang/Exception", name := "<init>", desc := "(Ljava/lang/String;Ljava/lang/Throwable;ZZ)V" } : Jvm.MethodName)) ∈ lw_all := lw_g (lw_at lw_m3 200 rfl) rfl
theorem q798 : (Jvm.Cond.fieldLink "HeldCoats$Fault" (7 : Nat) "HeldCoats$Fault" "kind" "I") ∈ lw_all := lw_g (lw_at lw_m3 206 rfl) rfl
theorem q800 : (Jvm.Cond.fieldLink "HeldCoats$Fault" (13 : Nat) "HeldCoats$Fault" "place" "I") ∈ lw_all := lw_g (lw_at lw_m3 208 rfl) rfl
theorem q807 : (Jvm.Cond.laysFinal "HeldCoats$Fault" "HeldCoats$Fault" "kind" "I") ∈ lw_all := lw_g (lw_at lw_m3 215 rfl) rfl
theorem q808 : (Jvm.Cond.soleField "HeldCoats$Fault" "kind") ∈ lw_all := lw_g (lw_at lw_m3 216 rfl) rfl
theorem q809 : (Jvm.Cond.laysFinal "HeldCoats$Fault" "HeldCoats$Fault" "place" "I") ∈ lw_all := lw_g (lw_at lw_m3 217 rfl) rfl
theorem q810 : (Jvm.Cond.soleField "HeldCoats$Fault" "place") ∈ lw_all := lw_g (lw_at lw_m3 218 rfl) rfl
theorem q815 : (Jvm.Cond.lays "HeldCoats$Fault" "java/lang/Throwable" "depth" "I") ∈ lw_all := lw_g (lw_at lw_m3 223 rfl) rfl
theorem q818 : (Jvm.Cond.superclass "HeldCoats$Fault" "java/lang/Exception") ∈ lw_all := lw_g (lw_at lw_m3 226 rfl) rfl
theorem q979 : (Jvm.Cond.selects "HeldCoats$Fault" ({ cls := "java/lang/Object", name := "getClass", desc := "()Ljava/lang/Class;" } : Jvm.MethodName) ({ cls := "java/lang/Object", name := "getClass", desc := "()Ljava/lang/Class;" } : Jvm.MethodName)) ∈ lw_all := lw_g (lw_at lw_m4 147 rfl) rfl
theorem q2550 : (Jvm.Cond.castable "HeldCoats$Fault" "java/lang/Object") ∈ lw_tbl := lw_at lw_m11 38 rfl
theorem q137 : (Jvm.Cond.initialized "HeldCoats$Named") ∈ lw_all := lw_g (lw_at lw_m1 25 rfl) rfl
theorem q936 : (Jvm.Cond.instanceMethod ({ cls := "HeldCoats$Named", name := "<init>", desc := "(Ljava/lang/String;)V" } : Jvm.MethodName)) ∈ lw_all := lw_g (lw_at lw_m4 104 rfl) rfl
theorem q937 : (Jvm.Cond.code ({ cls := "HeldCoats$Named", name := "<init>", desc := "(Ljava/lang/String;)V" } : Jvm.MethodName) prog_14_method_1_code (2 : Nat) (Option.none : Option Jvm.ClassFile.FieldType)) ∈ lw_all := lw_g (lw_at lw_m4 105 rfl) rfl
theorem q938 : (Jvm.Cond.methodLink "HeldCoats$Named" (1 : Nat) ({ cls := "java/lang/Object", name := "<init>", desc := "()V" } : Jvm.MethodName)) ∈ lw_all := lw_g (lw_at lw_m4 106 rfl) rfl
theorem q943 : (Jvm.Cond.fieldLink "HeldCoats$Named" (7 : Nat) "HeldCoats$Named" "name" "Ljava/lang/String;") ∈ lw_all := lw_g (lw_at lw_m4 111 rfl) rfl
theorem q948 : (Jvm.Cond.soleField "HeldCoats$Named" "name") ∈ lw_all := lw_g (lw_at lw_m4 116 rfl) rfl
theorem q593 : (Jvm.Cond.sameMethod "[B" "java/lang/Object" "clone" "()Ljava/lang/Object;") ∈ lw_all := lw_g (lw_at lw_m3 1 rfl) rfl
theorem q596 : (Jvm.Cond.selects "[B" ({ cls := "[B", name := "clone", desc := "()Ljava/lang/Object;" } : Jvm.MethodName) ({ cls := "java/lang/Object", name := "clone", desc := "()Ljava/lang/Object;" } : Jvm.MethodName)) ∈ lw_all := lw_g (lw_at lw_m3 4 rfl) rfl
theorem q597 : (Jvm.Cond.castable "[B" "java/lang/Cloneable") ∈ lw_tbl := lw_at lw_m3 5 rfl
theorem q2570 : (Jvm.Cond.castable "[B" "java/lang/Object") ∈ lw_tbl := lw_at lw_m11 58 rfl
theorem q2571 : (Jvm.Cond.castable "[I" "java/lang/Object") ∈ lw_tbl := lw_at lw_m11 59 rfl
theorem q2575 : (Jvm.Cond.castable "[J" "java/lang/Object") ∈ lw_tbl := lw_at lw_m11 63 rfl
theorem q2573 : (Jvm.Cond.castable "[LHeldCoats$Kept;" "java/lang/Object") ∈ lw_tbl := lw_at lw_m11 61 rfl
theorem q2572 : (Jvm.Cond.castable "[LHeldCoats$Reign;" "java/lang/Object") ∈ lw_tbl := lw_at lw_m11 60 rfl
theorem q2567 : (Jvm.Cond.sameMethod "[Ljava/lang/Object;" "java/lang/Object" "getClass" "()Ljava/lang/Class;") ∈ lw_all := lw_g (lw_at lw_m11 55 rfl) rfl
theorem q2568 : (Jvm.Cond.selects "[Ljava/lang/Object;" ({ cls := "java/lang/Object", name := "getClass", desc := "()Ljava/lang/Class;" } : Jvm.MethodName) ({ cls := "java/lang/Object", name := "getClass", desc := "()Ljava/lang/Class;" } : Jvm.MethodName)) ∈ lw_all := lw_g (lw_at lw_m11 56 rfl) rfl
theorem q2574 : (Jvm.Cond.castable "[Ljava/lang/Object;" "java/lang/Object") ∈ lw_tbl := lw_at lw_m11 62 rfl
theorem q2576 : (Jvm.Cond.castable "[Z" "java/lang/Object") ∈ lw_tbl := lw_at lw_m11 64 rfl
theorem q132 : (Jvm.Cond.initialized "java/lang/System") ∈ lw_all := lw_g (lw_at lw_m1 20 rfl) rfl
theorem q603 : (Jvm.Cond.static ({ cls := "java/lang/System", name := "arraycopy", desc := "(Ljava/lang/Object;ILjava/lang/Object;II)V" } : Jvm.MethodName)) ∈ lw_all := lw_g (lw_at lw_m3 11 rfl) rfl
theorem q604 : (Jvm.Cond.native ({ cls := "java/lang/System", name := "arraycopy", desc := "(Ljava/lang/Object;ILjava/lang/Object;II)V" } : Jvm.MethodName)) ∈ lw_all := lw_g (lw_at lw_m3 12 rfl) rfl
theorem q199 : (Jvm.Cond.arrayClass Jvm.ClassFile.FieldType.byte) ∈ lw_all := lw_g (lw_at lw_m1 87 rfl) rfl
theorem q263 : (Jvm.Cond.arrayClass Jvm.ClassFile.FieldType.int) ∈ lw_all := lw_g (lw_at lw_m1 151 rfl) rfl
theorem q359 : (Jvm.Cond.arrayOver (Jvm.ClassFile.FieldType.object "HeldCoats$Reign")) ∈ lw_tbl := lw_at lw_m2 7 rfl
theorem q361 : (Jvm.Cond.arrayOver (Jvm.ClassFile.FieldType.object "HeldCoats$Kept")) ∈ lw_tbl := lw_at lw_m2 9 rfl
theorem q1003 : (Jvm.Cond.arrayOver (Jvm.ClassFile.FieldType.object "java/lang/Object")) ∈ lw_tbl := lw_at lw_m4 171 rfl
theorem q2066 : (Jvm.Cond.arrayClass Jvm.ClassFile.FieldType.long) ∈ lw_all := lw_g (lw_at lw_m9 34 rfl) rfl
theorem q2067 : (Jvm.Cond.arrayClass Jvm.ClassFile.FieldType.boolean) ∈ lw_all := lw_g (lw_at lw_m9 35 rfl) rfl
