set_option maxRecDepth 100000
/-! names and words of the classes (out of claim/names, without decode rows) -/
/-! java/util/AbstractCollection -/
def RJ0 : String := "java/util/AbstractCollection"
abbrev cJ0_init : ByteArray := prog_33_method_1_code
def yJ0_init : MethodName := ⟨RJ0, "<init>", "()V"⟩
theorem q133 : (Jvm.Cond.initialized "java/util/AbstractCollection") ∈ lw_all := lw_g (lw_at lw_m1 2 rfl) rfl
theorem q186 : (Jvm.Cond.instanceMethod ({ cls := "java/util/AbstractCollection", name := "<init>", desc := "()V" } : Jvm.MethodName)) ∈ lw_all := lw_g (lw_at lw_m1 55 rfl) rfl
theorem q187 : (Jvm.Cond.code ({ cls := "java/util/AbstractCollection", name := "<init>", desc := "()V" } : Jvm.MethodName) prog_33_method_1_code (1 : Nat) (Option.none : Option Jvm.ClassFile.FieldType)) ∈ lw_all := lw_g (lw_at lw_m1 56 rfl) rfl
theorem q188 : (Jvm.Cond.methodLink "java/util/AbstractCollection" (1 : Nat) ({ cls := "java/lang/Object", name := "<init>", desc := "()V" } : Jvm.MethodName)) ∈ lw_all := lw_g (lw_at lw_m1 57 rfl) rfl

/-! java/util/AbstractList -/
def RJ1 : String := "java/util/AbstractList"
abbrev cJ1_init : ByteArray := prog_34_method_1_code
def yJ1_init : MethodName := ⟨RJ1, "<init>", "()V"⟩
theorem q134 : (Jvm.Cond.initialized "java/util/AbstractList") ∈ lw_all := lw_g (lw_at lw_m1 3 rfl) rfl
theorem q183 : (Jvm.Cond.instanceMethod ({ cls := "java/util/AbstractList", name := "<init>", desc := "()V" } : Jvm.MethodName)) ∈ lw_all := lw_g (lw_at lw_m1 52 rfl) rfl
theorem q184 : (Jvm.Cond.code ({ cls := "java/util/AbstractList", name := "<init>", desc := "()V" } : Jvm.MethodName) prog_34_method_1_code (1 : Nat) (Option.none : Option Jvm.ClassFile.FieldType)) ∈ lw_all := lw_g (lw_at lw_m1 53 rfl) rfl
theorem q185 : (Jvm.Cond.methodLink "java/util/AbstractList" (1 : Nat) ({ cls := "java/util/AbstractCollection", name := "<init>", desc := "()V" } : Jvm.MethodName)) ∈ lw_all := lw_g (lw_at lw_m1 54 rfl) rfl
theorem q193 : (Jvm.Cond.fieldLink "java/util/AbstractList" (7 : Nat) "java/util/AbstractList" "modCount" "I") ∈ lw_all := lw_g (lw_at lw_m1 62 rfl) rfl
theorem q201 : (Jvm.Cond.soleField "java/util/AbstractList" "modCount") ∈ lw_all := lw_g (lw_at lw_m1 70 rfl) rfl

/-! java/util/ArrayList -/
def RJ2 : String := "java/util/ArrayList"
def TJ2 : u_T := fun k => match k with
  | 0 => ("java/util/AbstractList", "modCount", "I", false)
  | 1 => ("java/util/ArrayList", "elementData", "[Ljava/lang/Object;", false)
  | _ => ("java/util/ArrayList", "size", "I", false)
def tyJ2 : Nat → FieldType := fun k => match k with
  | 0 => .int
  | 1 => .array (.object "java/lang/Object")
  | _ => .int
abbrev wsJ20 : List Cond := u_ws RJ2 TJ2 3
theorem nmJ2 : ∀ a, a < 3 → ∀ b, b < 3 → a ≠ b → (TJ2 a).2.1 ≠ (TJ2 b).2.1 := by decide +kernel
theorem tyJ2_ok : ∀ k, k < 3 → parseFieldDescriptor (TJ2 k).2.2.1 = some (tyJ2 k) := by decide +kernel
abbrev cJ2_init : ByteArray := prog_35_method_2_code
def yJ2_init : MethodName := ⟨RJ2, "<init>", "()V"⟩
abbrev cJ2_init_2 : ByteArray := prog_35_method_1_code
def yJ2_init_2 : MethodName := ⟨RJ2, "<init>", "(I)V"⟩
abbrev cJ2_size : ByteArray := prog_35_method_8_code
def yJ2_size : MethodName := ⟨RJ2, "size", "()I"⟩
abbrev cJ2_add : ByteArray := prog_35_method_25_code
def yJ2_add : MethodName := ⟨RJ2, "add", "(Ljava/lang/Object;)Z"⟩
abbrev cJ2_add_2 : ByteArray := prog_35_method_24_code
def yJ2_add_2 : MethodName := ⟨RJ2, "add", "(Ljava/lang/Object;[Ljava/lang/Object;I)V"⟩
abbrev cJ2_grow : ByteArray := prog_35_method_7_code
def yJ2_grow : MethodName := ⟨RJ2, "grow", "()[Ljava/lang/Object;"⟩
abbrev cJ2_grow_2 : ByteArray := prog_35_method_6_code
def yJ2_grow_2 : MethodName := ⟨RJ2, "grow", "(I)[Ljava/lang/Object;"⟩
abbrev cJ2_get : ByteArray := prog_35_method_20_code
def yJ2_get : MethodName := ⟨RJ2, "get", "(I)Ljava/lang/Object;"⟩
abbrev cJ2_elementData : ByteArray := prog_35_method_18_code
def yJ2_elementData : MethodName := ⟨RJ2, "elementData", "(I)Ljava/lang/Object;"⟩
abbrev cJ2_clear : ByteArray := prog_35_method_40_code
def yJ2_clear : MethodName := ⟨RJ2, "clear", "()V"⟩
theorem q135 : (Jvm.Cond.initialized "java/util/ArrayList") ∈ lw_all := lw_g (lw_at lw_m1 4 rfl) rfl
theorem q178 : (Jvm.Cond.instantiable "java/util/ArrayList" (3 : Nat)) ∈ lw_all := lw_g (lw_at lw_m1 47 rfl) rfl
theorem q180 : (Jvm.Cond.instanceMethod ({ cls := "java/util/ArrayList", name := "<init>", desc := "()V" } : Jvm.MethodName)) ∈ lw_all := lw_g (lw_at lw_m1 49 rfl) rfl
theorem q181 : (Jvm.Cond.code ({ cls := "java/util/ArrayList", name := "<init>", desc := "()V" } : Jvm.MethodName) prog_35_method_2_code (1 : Nat) (Option.none : Option Jvm.ClassFile.FieldType)) ∈ lw_all := lw_g (lw_at lw_m1 50 rfl) rfl
theorem q182 : (Jvm.Cond.methodLink "java/util/ArrayList" (1 : Nat) ({ cls := "java/util/AbstractList", name := "<init>", desc := "()V" } : Jvm.MethodName)) ∈ lw_all := lw_g (lw_at lw_m1 51 rfl) rfl
theorem q189 : (Jvm.Cond.fieldLink "java/util/ArrayList" (39 : Nat) "java/util/ArrayList" "DEFAULTCAPACITY_EMPTY_ELEMENTDATA" "[Ljava/lang/Object;") ∈ lw_all := lw_g (lw_at lw_m1 58 rfl) rfl
theorem q190 : (Jvm.Cond.laysStatic "java/util/ArrayList" "DEFAULTCAPACITY_EMPTY_ELEMENTDATA" "[Ljava/lang/Object;") ∈ lw_tbl := lw_at lw_m1 59 rfl
theorem q191 : (Jvm.Cond.fieldLink "java/util/ArrayList" (9 : Nat) "java/util/ArrayList" "elementData" "[Ljava/lang/Object;") ∈ lw_all := lw_g (lw_at lw_m1 60 rfl) rfl
theorem q192 : (Jvm.Cond.fieldLink "java/util/ArrayList" (48 : Nat) "java/util/ArrayList" "size" "I") ∈ lw_all := lw_g (lw_at lw_m1 61 rfl) rfl
theorem q194 : (Jvm.Cond.fieldLink "java/util/ArrayList" (63 : Nat) "java/util/ArrayList" "modCount" "I") ∈ lw_all := lw_g (lw_at lw_m1 63 rfl) rfl
theorem q195 : (Jvm.Cond.sameField "java/util/ArrayList" "java/util/AbstractList" "modCount" "I") ∈ lw_all := lw_g (lw_at lw_m1 64 rfl) rfl
theorem q196 : (Jvm.Cond.lays "java/util/ArrayList" "java/util/ArrayList" "elementData" "[Ljava/lang/Object;") ∈ lw_all := lw_g (lw_at lw_m1 65 rfl) rfl
theorem q197 : (Jvm.Cond.soleField "java/util/ArrayList" "elementData") ∈ lw_all := lw_g (lw_at lw_m1 66 rfl) rfl
theorem q198 : (Jvm.Cond.lays "java/util/ArrayList" "java/util/ArrayList" "size" "I") ∈ lw_all := lw_g (lw_at lw_m1 67 rfl) rfl
theorem q199 : (Jvm.Cond.soleField "java/util/ArrayList" "size") ∈ lw_all := lw_g (lw_at lw_m1 68 rfl) rfl
theorem q200 : (Jvm.Cond.lays "java/util/ArrayList" "java/util/AbstractList" "modCount" "I") ∈ lw_all := lw_g (lw_at lw_m1 69 rfl) rfl
theorem q202 : (Jvm.Cond.superclass "java/util/ArrayList" "java/util/AbstractList") ∈ lw_all := lw_g (lw_at lw_m1 71 rfl) rfl
theorem q302 : (Jvm.Cond.instanceMethod ({ cls := "java/util/ArrayList", name := "<init>", desc := "(I)V" } : Jvm.MethodName)) ∈ lw_all := lw_g (lw_at lw_m1 171 rfl) rfl
theorem q303 : (Jvm.Cond.code ({ cls := "java/util/ArrayList", name := "<init>", desc := "(I)V" } : Jvm.MethodName) prog_35_method_1_code (2 : Nat) (Option.none : Option Jvm.ClassFile.FieldType)) ∈ lw_all := lw_g (lw_at lw_m1 172 rfl) rfl
theorem q304 : (Jvm.Cond.classLink "java/util/ArrayList" (7 : Nat) "java/lang/Object") ∈ lw_all := lw_g (lw_at lw_m1 173 rfl) rfl
theorem q306 : (Jvm.Cond.fieldLink "java/util/ArrayList" (15 : Nat) "java/util/ArrayList" "EMPTY_ELEMENTDATA" "[Ljava/lang/Object;") ∈ lw_all := lw_g (lw_at lw_m1 175 rfl) rfl
theorem q307 : (Jvm.Cond.laysStatic "java/util/ArrayList" "EMPTY_ELEMENTDATA" "[Ljava/lang/Object;") ∈ lw_tbl := lw_at lw_m1 176 rfl
theorem q343 : (Jvm.Cond.instanceMethod ({ cls := "java/util/ArrayList", name := "size", desc := "()I" } : Jvm.MethodName)) ∈ lw_all := lw_g (lw_at lw_m1 212 rfl) rfl
theorem q344 : (Jvm.Cond.selects "java/util/ArrayList" ({ cls := "java/util/ArrayList", name := "size", desc := "()I" } : Jvm.MethodName) ({ cls := "java/util/ArrayList", name := "size", desc := "()I" } : Jvm.MethodName)) ∈ lw_all := lw_g (lw_at lw_m1 213 rfl) rfl
theorem q345 : (Jvm.Cond.code ({ cls := "java/util/ArrayList", name := "size", desc := "()I" } : Jvm.MethodName) prog_35_method_8_code (1 : Nat) (Option.some Jvm.ClassFile.FieldType.int)) ∈ lw_all := lw_g (lw_at lw_m1 214 rfl) rfl
theorem q347 : (Jvm.Cond.instanceMethod ({ cls := "java/util/ArrayList", name := "add", desc := "(Ljava/lang/Object;)Z" } : Jvm.MethodName)) ∈ lw_all := lw_g (lw_at lw_m1 216 rfl) rfl
theorem q348 : (Jvm.Cond.selects "java/util/ArrayList" ({ cls := "java/util/ArrayList", name := "add", desc := "(Ljava/lang/Object;)Z" } : Jvm.MethodName) ({ cls := "java/util/ArrayList", name := "add", desc := "(Ljava/lang/Object;)Z" } : Jvm.MethodName)) ∈ lw_all := lw_g (lw_at lw_m1 217 rfl) rfl
theorem q349 : (Jvm.Cond.code ({ cls := "java/util/ArrayList", name := "add", desc := "(Ljava/lang/Object;)Z" } : Jvm.MethodName) prog_35_method_25_code (2 : Nat) (Option.some Jvm.ClassFile.FieldType.boolean)) ∈ lw_all := lw_g (lw_at lw_m1 218 rfl) rfl
theorem q350 : (Jvm.Cond.methodLink "java/util/ArrayList" (131 : Nat) ({ cls := "java/util/ArrayList", name := "add", desc := "(Ljava/lang/Object;[Ljava/lang/Object;I)V" } : Jvm.MethodName)) ∈ lw_all := lw_g (lw_at lw_m1 219 rfl) rfl
theorem q351 : (Jvm.Cond.privateMethod ({ cls := "java/util/ArrayList", name := "add", desc := "(Ljava/lang/Object;[Ljava/lang/Object;I)V" } : Jvm.MethodName)) ∈ lw_tbl := lw_at lw_m1 220 rfl
theorem q352 : (Jvm.Cond.instanceMethod ({ cls := "java/util/ArrayList", name := "add", desc := "(Ljava/lang/Object;[Ljava/lang/Object;I)V" } : Jvm.MethodName)) ∈ lw_all := lw_g (lw_at lw_m1 221 rfl) rfl
theorem q353 : (Jvm.Cond.code ({ cls := "java/util/ArrayList", name := "add", desc := "(Ljava/lang/Object;[Ljava/lang/Object;I)V" } : Jvm.MethodName) prog_35_method_24_code (4 : Nat) (Option.none : Option Jvm.ClassFile.FieldType)) ∈ lw_all := lw_g (lw_at lw_m1 222 rfl) rfl
theorem q354 : (Jvm.Cond.methodLink "java/util/ArrayList" (129 : Nat) ({ cls := "java/util/ArrayList", name := "grow", desc := "()[Ljava/lang/Object;" } : Jvm.MethodName)) ∈ lw_all := lw_g (lw_at lw_m1 223 rfl) rfl
theorem q355 : (Jvm.Cond.privateMethod ({ cls := "java/util/ArrayList", name := "grow", desc := "()[Ljava/lang/Object;" } : Jvm.MethodName)) ∈ lw_tbl := lw_at lw_m1 224 rfl
theorem q356 : (Jvm.Cond.instanceMethod ({ cls := "java/util/ArrayList", name := "grow", desc := "()[Ljava/lang/Object;" } : Jvm.MethodName)) ∈ lw_all := lw_g (lw_at lw_m1 225 rfl) rfl
theorem q357 : (Jvm.Cond.code ({ cls := "java/util/ArrayList", name := "grow", desc := "()[Ljava/lang/Object;" } : Jvm.MethodName) prog_35_method_7_code (1 : Nat) (Option.some (Jvm.ClassFile.FieldType.array (Jvm.ClassFile.FieldType.object "java/lang/Object")))) ∈ lw_all := lw_g (lw_at lw_m1 226 rfl) rfl
theorem q358 : (Jvm.Cond.methodLink "java/util/ArrayList" (69 : Nat) ({ cls := "java/util/ArrayList", name := "grow", desc := "(I)[Ljava/lang/Object;" } : Jvm.MethodName)) ∈ lw_all := lw_g (lw_at lw_m1 227 rfl) rfl
theorem q359 : (Jvm.Cond.privateMethod ({ cls := "java/util/ArrayList", name := "grow", desc := "(I)[Ljava/lang/Object;" } : Jvm.MethodName)) ∈ lw_tbl := lw_at lw_m1 228 rfl
theorem q360 : (Jvm.Cond.instanceMethod ({ cls := "java/util/ArrayList", name := "grow", desc := "(I)[Ljava/lang/Object;" } : Jvm.MethodName)) ∈ lw_all := lw_g (lw_at lw_m1 229 rfl) rfl
theorem q361 : (Jvm.Cond.code ({ cls := "java/util/ArrayList", name := "grow", desc := "(I)[Ljava/lang/Object;" } : Jvm.MethodName) prog_35_method_6_code (4 : Nat) (Option.some (Jvm.ClassFile.FieldType.array (Jvm.ClassFile.FieldType.object "java/lang/Object")))) ∈ lw_all := lw_g (lw_at lw_m1 230 rfl) rfl
theorem q362 : (Jvm.Cond.methodLink "java/util/ArrayList" (73 : Nat) ({ cls := "jdk/internal/util/ArraysSupport", name := "newLength", desc := "(III)I" } : Jvm.MethodName)) ∈ lw_all := lw_g (lw_at lw_m1 231 rfl) rfl
theorem q372 : (Jvm.Cond.methodLink "java/util/ArrayList" (66 : Nat) ({ cls := "java/util/Arrays", name := "copyOf", desc := "([Ljava/lang/Object;I)[Ljava/lang/Object;" } : Jvm.MethodName)) ∈ lw_all := lw_g (lw_at lw_m2 1 rfl) rfl
theorem q395 : (Jvm.Cond.selects "java/util/ArrayList" ({ cls := "java/lang/Object", name := "getClass", desc := "()Ljava/lang/Class;" } : Jvm.MethodName) ({ cls := "java/lang/Object", name := "getClass", desc := "()Ljava/lang/Class;" } : Jvm.MethodName)) ∈ lw_all := lw_g (lw_at lw_m2 24 rfl) rfl
theorem q406 : (Jvm.Cond.methodLink "java/util/ArrayList" (79 : Nat) ({ cls := "java/lang/Math", name := "max", desc := "(II)I" } : Jvm.MethodName)) ∈ lw_all := lw_g (lw_at lw_m2 35 rfl) rfl
theorem q844 : (Jvm.Cond.instanceMethod ({ cls := "java/util/ArrayList", name := "get", desc := "(I)Ljava/lang/Object;" } : Jvm.MethodName)) ∈ lw_all := lw_g (lw_at lw_m3 233 rfl) rfl
theorem q845 : (Jvm.Cond.selects "java/util/ArrayList" ({ cls := "java/util/ArrayList", name := "get", desc := "(I)Ljava/lang/Object;" } : Jvm.MethodName) ({ cls := "java/util/ArrayList", name := "get", desc := "(I)Ljava/lang/Object;" } : Jvm.MethodName)) ∈ lw_all := lw_g (lw_at lw_m3 234 rfl) rfl
theorem q846 : (Jvm.Cond.code ({ cls := "java/util/ArrayList", name := "get", desc := "(I)Ljava/lang/Object;" } : Jvm.MethodName) prog_35_method_20_code (2 : Nat) (Option.some (Jvm.ClassFile.FieldType.object "java/lang/Object"))) ∈ lw_all := lw_g (lw_at lw_m3 235 rfl) rfl
theorem q847 : (Jvm.Cond.methodLink "java/util/ArrayList" (118 : Nat) ({ cls := "java/util/Objects", name := "checkIndex", desc := "(II)I" } : Jvm.MethodName)) ∈ lw_all := lw_g (lw_at lw_m3 236 rfl) rfl
theorem q851 : (Jvm.Cond.methodLink "java/util/ArrayList" (123 : Nat) ({ cls := "java/util/ArrayList", name := "elementData", desc := "(I)Ljava/lang/Object;" } : Jvm.MethodName)) ∈ lw_all := lw_g (lw_at lw_m4 0 rfl) rfl
theorem q852 : (Jvm.Cond.instanceMethod ({ cls := "java/util/ArrayList", name := "elementData", desc := "(I)Ljava/lang/Object;" } : Jvm.MethodName)) ∈ lw_all := lw_g (lw_at lw_m4 1 rfl) rfl
theorem q853 : (Jvm.Cond.selects "java/util/ArrayList" ({ cls := "java/util/ArrayList", name := "elementData", desc := "(I)Ljava/lang/Object;" } : Jvm.MethodName) ({ cls := "java/util/ArrayList", name := "elementData", desc := "(I)Ljava/lang/Object;" } : Jvm.MethodName)) ∈ lw_all := lw_g (lw_at lw_m4 2 rfl) rfl
theorem q854 : (Jvm.Cond.code ({ cls := "java/util/ArrayList", name := "elementData", desc := "(I)Ljava/lang/Object;" } : Jvm.MethodName) prog_35_method_18_code (2 : Nat) (Option.some (Jvm.ClassFile.FieldType.object "java/lang/Object"))) ∈ lw_all := lw_g (lw_at lw_m4 3 rfl) rfl
theorem q1127 : (Jvm.Cond.instanceMethod ({ cls := "java/util/ArrayList", name := "clear", desc := "()V" } : Jvm.MethodName)) ∈ lw_all := lw_g (lw_at lw_m5 36 rfl) rfl
theorem q1128 : (Jvm.Cond.selects "java/util/ArrayList" ({ cls := "java/util/ArrayList", name := "clear", desc := "()V" } : Jvm.MethodName) ({ cls := "java/util/ArrayList", name := "clear", desc := "()V" } : Jvm.MethodName)) ∈ lw_all := lw_g (lw_at lw_m5 37 rfl) rfl
theorem q1129 : (Jvm.Cond.code ({ cls := "java/util/ArrayList", name := "clear", desc := "()V" } : Jvm.MethodName) prog_35_method_40_code (4 : Nat) (Option.none : Option Jvm.ClassFile.FieldType)) ∈ lw_all := lw_g (lw_at lw_m5 38 rfl) rfl
theorem q2223 : (Jvm.Cond.castable "java/util/ArrayList" "java/lang/Object") ∈ lw_tbl := lw_at lw_m9 172 rfl
theorem in_J2 : ∀ w ∈ wsJ20, w ∈ lw_all := lw_in wsJ20 [200, 196, 198] (by decide +kernel) (by decide +kernel)

/-! jdk/internal/util/ArraysSupport -/
def RJ3 : String := "jdk/internal/util/ArraysSupport"
abbrev cJ3_newLength : ByteArray := prog_42_method_27_code
def yJ3_newLength : MethodName := ⟨RJ3, "newLength", "(III)I"⟩
abbrev cJ3_hugeLength : ByteArray := prog_42_method_28_code
def yJ3_hugeLength : MethodName := ⟨RJ3, "hugeLength", "(II)I"⟩
theorem q143 : (Jvm.Cond.initialized "jdk/internal/util/ArraysSupport") ∈ lw_all := lw_g (lw_at lw_m1 12 rfl) rfl
theorem q363 : (Jvm.Cond.static ({ cls := "jdk/internal/util/ArraysSupport", name := "newLength", desc := "(III)I" } : Jvm.MethodName)) ∈ lw_all := lw_g (lw_at lw_m1 232 rfl) rfl
theorem q364 : (Jvm.Cond.code ({ cls := "jdk/internal/util/ArraysSupport", name := "newLength", desc := "(III)I" } : Jvm.MethodName) prog_42_method_27_code (4 : Nat) (Option.some Jvm.ClassFile.FieldType.int)) ∈ lw_all := lw_g (lw_at lw_m1 233 rfl) rfl
theorem q365 : (Jvm.Cond.methodLink "jdk/internal/util/ArraysSupport" (194 : Nat) ({ cls := "java/lang/Math", name := "max", desc := "(II)I" } : Jvm.MethodName)) ∈ lw_all := lw_g (lw_at lw_m1 234 rfl) rfl
theorem q368 : (Jvm.Cond.constant "jdk/internal/util/ArraysSupport" (200 : Nat) (2147483639 : Int32)) ∈ lw_all := lw_g (lw_at lw_m1 237 rfl) rfl
theorem q369 : (Jvm.Cond.methodLink "jdk/internal/util/ArraysSupport" (201 : Nat) ({ cls := "jdk/internal/util/ArraysSupport", name := "hugeLength", desc := "(II)I" } : Jvm.MethodName)) ∈ lw_all := lw_g (lw_at lw_m1 238 rfl) rfl
theorem q370 : (Jvm.Cond.static ({ cls := "jdk/internal/util/ArraysSupport", name := "hugeLength", desc := "(II)I" } : Jvm.MethodName)) ∈ lw_all := lw_g (lw_at lw_m1 239 rfl) rfl
theorem q371 : (Jvm.Cond.code ({ cls := "jdk/internal/util/ArraysSupport", name := "hugeLength", desc := "(II)I" } : Jvm.MethodName) prog_42_method_28_code (3 : Nat) (Option.some Jvm.ClassFile.FieldType.int)) ∈ lw_all := lw_g (lw_at lw_m2 0 rfl) rfl

/-! java/lang/Math -/
def RJ4 : String := "java/lang/Math"
abbrev cJ4_max : ByteArray := prog_26_method_65_code
def yJ4_max : MethodName := ⟨RJ4, "max", "(II)I"⟩
abbrev cJ4_min : ByteArray := prog_26_method_69_code
def yJ4_min : MethodName := ⟨RJ4, "min", "(II)I"⟩
theorem q144 : (Jvm.Cond.initialized "java/lang/Math") ∈ lw_all := lw_g (lw_at lw_m1 13 rfl) rfl
theorem q366 : (Jvm.Cond.static ({ cls := "java/lang/Math", name := "max", desc := "(II)I" } : Jvm.MethodName)) ∈ lw_all := lw_g (lw_at lw_m1 235 rfl) rfl
theorem q367 : (Jvm.Cond.code ({ cls := "java/lang/Math", name := "max", desc := "(II)I" } : Jvm.MethodName) prog_26_method_65_code (2 : Nat) (Option.some Jvm.ClassFile.FieldType.int)) ∈ lw_all := lw_g (lw_at lw_m1 236 rfl) rfl
theorem q403 : (Jvm.Cond.static ({ cls := "java/lang/Math", name := "min", desc := "(II)I" } : Jvm.MethodName)) ∈ lw_all := lw_g (lw_at lw_m2 32 rfl) rfl
theorem q404 : (Jvm.Cond.code ({ cls := "java/lang/Math", name := "min", desc := "(II)I" } : Jvm.MethodName) prog_26_method_69_code (2 : Nat) (Option.some Jvm.ClassFile.FieldType.int)) ∈ lw_all := lw_g (lw_at lw_m2 33 rfl) rfl

/-! java/util/Arrays -/
def RJ5 : String := "java/util/Arrays"
abbrev cJ5_copyOf : ByteArray := prog_36_method_119_code
def yJ5_copyOf : MethodName := ⟨RJ5, "copyOf", "([Ljava/lang/Object;I)[Ljava/lang/Object;"⟩
abbrev cJ5_copyOf_2 : ByteArray := prog_36_method_120_code
def yJ5_copyOf_2 : MethodName := ⟨RJ5, "copyOf", "([Ljava/lang/Object;ILjava/lang/Class;)[Ljava/lang/Object;"⟩
theorem q145 : (Jvm.Cond.initialized "java/util/Arrays") ∈ lw_all := lw_g (lw_at lw_m1 14 rfl) rfl
theorem q373 : (Jvm.Cond.static ({ cls := "java/util/Arrays", name := "copyOf", desc := "([Ljava/lang/Object;I)[Ljava/lang/Object;" } : Jvm.MethodName)) ∈ lw_all := lw_g (lw_at lw_m2 2 rfl) rfl
theorem q374 : (Jvm.Cond.code ({ cls := "java/util/Arrays", name := "copyOf", desc := "([Ljava/lang/Object;I)[Ljava/lang/Object;" } : Jvm.MethodName) prog_36_method_119_code (2 : Nat) (Option.some (Jvm.ClassFile.FieldType.array (Jvm.ClassFile.FieldType.object "java/lang/Object")))) ∈ lw_all := lw_g (lw_at lw_m2 3 rfl) rfl
theorem q375 : (Jvm.Cond.methodLink "java/util/Arrays" (86 : Nat) ({ cls := "java/lang/Object", name := "getClass", desc := "()Ljava/lang/Class;" } : Jvm.MethodName)) ∈ lw_all := lw_g (lw_at lw_m2 4 rfl) rfl
theorem q397 : (Jvm.Cond.methodLink "java/util/Arrays" (300 : Nat) ({ cls := "java/util/Arrays", name := "copyOf", desc := "([Ljava/lang/Object;ILjava/lang/Class;)[Ljava/lang/Object;" } : Jvm.MethodName)) ∈ lw_all := lw_g (lw_at lw_m2 26 rfl) rfl
theorem q398 : (Jvm.Cond.static ({ cls := "java/util/Arrays", name := "copyOf", desc := "([Ljava/lang/Object;ILjava/lang/Class;)[Ljava/lang/Object;" } : Jvm.MethodName)) ∈ lw_all := lw_g (lw_at lw_m2 27 rfl) rfl
theorem q399 : (Jvm.Cond.code ({ cls := "java/util/Arrays", name := "copyOf", desc := "([Ljava/lang/Object;ILjava/lang/Class;)[Ljava/lang/Object;" } : Jvm.MethodName) prog_36_method_120_code (4 : Nat) (Option.some (Jvm.ClassFile.FieldType.array (Jvm.ClassFile.FieldType.object "java/lang/Object")))) ∈ lw_all := lw_g (lw_at lw_m2 28 rfl) rfl
theorem q400 : (Jvm.Cond.classLink "java/util/Arrays" (110 : Nat) "[Ljava/lang/Object;") ∈ lw_all := lw_g (lw_at lw_m2 29 rfl) rfl
theorem q401 : (Jvm.Cond.classLink "java/util/Arrays" (2 : Nat) "java/lang/Object") ∈ lw_all := lw_g (lw_at lw_m2 30 rfl) rfl
theorem q402 : (Jvm.Cond.methodLink "java/util/Arrays" (304 : Nat) ({ cls := "java/lang/Math", name := "min", desc := "(II)I" } : Jvm.MethodName)) ∈ lw_all := lw_g (lw_at lw_m2 31 rfl) rfl
theorem q405 : (Jvm.Cond.methodLink "java/util/Arrays" (150 : Nat) ({ cls := "java/lang/System", name := "arraycopy", desc := "(Ljava/lang/Object;ILjava/lang/Object;II)V" } : Jvm.MethodName)) ∈ lw_all := lw_g (lw_at lw_m2 34 rfl) rfl

/-! java/lang/String -/
def RJ6 : String := "java/lang/String"
abbrev cJ6_length : ByteArray := prog_28_method_54_code
def yJ6_length : MethodName := ⟨RJ6, "length", "()I"⟩
abbrev cJ6_coder : ByteArray := prog_28_method_152_code
def yJ6_coder : MethodName := ⟨RJ6, "coder", "()B"⟩
abbrev cJ6_charAt : ByteArray := prog_28_method_56_code
def yJ6_charAt : MethodName := ⟨RJ6, "charAt", "(I)C"⟩
abbrev cJ6_isLatin1 : ByteArray := prog_28_method_154_code
def yJ6_isLatin1 : MethodName := ⟨RJ6, "isLatin1", "()Z"⟩
abbrev cJ6_checkIndex : ByteArray := prog_28_method_155_code
def yJ6_checkIndex : MethodName := ⟨RJ6, "checkIndex", "(II)V"⟩
theorem q146 : (Jvm.Cond.initialized "java/lang/String") ∈ lw_all := lw_g (lw_at lw_m1 15 rfl) rfl
theorem q512 : (Jvm.Cond.instanceMethod ({ cls := "java/lang/String", name := "length", desc := "()I" } : Jvm.MethodName)) ∈ lw_all := lw_g (lw_at lw_m2 141 rfl) rfl
theorem q513 : (Jvm.Cond.selects "java/lang/String" ({ cls := "java/lang/String", name := "length", desc := "()I" } : Jvm.MethodName) ({ cls := "java/lang/String", name := "length", desc := "()I" } : Jvm.MethodName)) ∈ lw_all := lw_g (lw_at lw_m2 142 rfl) rfl
theorem q514 : (Jvm.Cond.code ({ cls := "java/lang/String", name := "length", desc := "()I" } : Jvm.MethodName) prog_28_method_54_code (1 : Nat) (Option.some Jvm.ClassFile.FieldType.int)) ∈ lw_all := lw_g (lw_at lw_m2 143 rfl) rfl
theorem q515 : (Jvm.Cond.methodLink "java/lang/String" (335 : Nat) ({ cls := "java/lang/String", name := "coder", desc := "()B" } : Jvm.MethodName)) ∈ lw_all := lw_g (lw_at lw_m2 144 rfl) rfl
theorem q516 : (Jvm.Cond.instanceMethod ({ cls := "java/lang/String", name := "coder", desc := "()B" } : Jvm.MethodName)) ∈ lw_all := lw_g (lw_at lw_m2 145 rfl) rfl
theorem q517 : (Jvm.Cond.selects "java/lang/String" ({ cls := "java/lang/String", name := "coder", desc := "()B" } : Jvm.MethodName) ({ cls := "java/lang/String", name := "coder", desc := "()B" } : Jvm.MethodName)) ∈ lw_all := lw_g (lw_at lw_m2 146 rfl) rfl
theorem q518 : (Jvm.Cond.code ({ cls := "java/lang/String", name := "coder", desc := "()B" } : Jvm.MethodName) prog_28_method_152_code (1 : Nat) (Option.some Jvm.ClassFile.FieldType.byte)) ∈ lw_all := lw_g (lw_at lw_m2 147 rfl) rfl
theorem q519 : (Jvm.Cond.fieldLink "java/lang/String" (38 : Nat) "java/lang/String" "COMPACT_STRINGS" "Z") ∈ lw_all := lw_g (lw_at lw_m2 148 rfl) rfl
theorem q520 : (Jvm.Cond.laysStatic "java/lang/String" "COMPACT_STRINGS" "Z") ∈ lw_tbl := lw_at lw_m2 149 rfl
theorem q522 : (Jvm.Cond.instanceMethod ({ cls := "java/lang/String", name := "charAt", desc := "(I)C" } : Jvm.MethodName)) ∈ lw_all := lw_g (lw_at lw_m2 151 rfl) rfl
theorem q523 : (Jvm.Cond.selects "java/lang/String" ({ cls := "java/lang/String", name := "charAt", desc := "(I)C" } : Jvm.MethodName) ({ cls := "java/lang/String", name := "charAt", desc := "(I)C" } : Jvm.MethodName)) ∈ lw_all := lw_g (lw_at lw_m2 152 rfl) rfl
theorem q524 : (Jvm.Cond.code ({ cls := "java/lang/String", name := "charAt", desc := "(I)C" } : Jvm.MethodName) prog_28_method_56_code (2 : Nat) (Option.some Jvm.ClassFile.FieldType.char)) ∈ lw_all := lw_g (lw_at lw_m2 153 rfl) rfl
theorem q525 : (Jvm.Cond.methodLink "java/lang/String" (492 : Nat) ({ cls := "java/lang/String", name := "isLatin1", desc := "()Z" } : Jvm.MethodName)) ∈ lw_all := lw_g (lw_at lw_m2 154 rfl) rfl
theorem q526 : (Jvm.Cond.instanceMethod ({ cls := "java/lang/String", name := "isLatin1", desc := "()Z" } : Jvm.MethodName)) ∈ lw_all := lw_g (lw_at lw_m2 155 rfl) rfl
theorem q527 : (Jvm.Cond.selects "java/lang/String" ({ cls := "java/lang/String", name := "isLatin1", desc := "()Z" } : Jvm.MethodName) ({ cls := "java/lang/String", name := "isLatin1", desc := "()Z" } : Jvm.MethodName)) ∈ lw_all := lw_g (lw_at lw_m2 156 rfl) rfl
theorem q528 : (Jvm.Cond.code ({ cls := "java/lang/String", name := "isLatin1", desc := "()Z" } : Jvm.MethodName) prog_28_method_154_code (1 : Nat) (Option.some Jvm.ClassFile.FieldType.boolean)) ∈ lw_all := lw_g (lw_at lw_m2 157 rfl) rfl
theorem q529 : (Jvm.Cond.methodLink "java/lang/String" (495 : Nat) ({ cls := "java/lang/StringLatin1", name := "charAt", desc := "([BI)C" } : Jvm.MethodName)) ∈ lw_all := lw_g (lw_at lw_m2 158 rfl) rfl
theorem q533 : (Jvm.Cond.static ({ cls := "java/lang/String", name := "checkIndex", desc := "(II)V" } : Jvm.MethodName)) ∈ lw_all := lw_g (lw_at lw_m2 162 rfl) rfl
theorem q534 : (Jvm.Cond.code ({ cls := "java/lang/String", name := "checkIndex", desc := "(II)V" } : Jvm.MethodName) prog_28_method_155_code (2 : Nat) (Option.none : Option Jvm.ClassFile.FieldType)) ∈ lw_all := lw_g (lw_at lw_m2 163 rfl) rfl
theorem q535 : (Jvm.Cond.fieldLink "java/lang/String" (1053 : Nat) "jdk/internal/util/Preconditions" "SIOOBE_FORMATTER" "Ljava/util/function/BiFunction;") ∈ lw_all := lw_g (lw_at lw_m2 164 rfl) rfl
theorem q537 : (Jvm.Cond.methodLink "java/lang/String" (1059 : Nat) ({ cls := "jdk/internal/util/Preconditions", name := "checkIndex", desc := "(IILjava/util/function/BiFunction;)I" } : Jvm.MethodName)) ∈ lw_all := lw_g (lw_at lw_m2 166 rfl) rfl
theorem q540 : (Jvm.Cond.methodLink "java/lang/String" (498 : Nat) ({ cls := "java/lang/StringUTF16", name := "charAt", desc := "([BI)C" } : Jvm.MethodName)) ∈ lw_all := lw_g (lw_at lw_m2 169 rfl) rfl
theorem q2241 : (Jvm.Cond.castable "java/lang/String" "java/lang/Object") ∈ lw_tbl := lw_at lw_m9 190 rfl
theorem q2251 : (Jvm.Cond.fieldLink "java/lang/String" (9 : Nat) "java/lang/String" "value" "[B") ∈ lw_all := lw_g (lw_at lw_m9 200 rfl) rfl
theorem q2252 : (Jvm.Cond.fieldLink "java/lang/String" (15 : Nat) "java/lang/String" "coder" "B") ∈ lw_all := lw_g (lw_at lw_m9 201 rfl) rfl

/-! java/lang/StringLatin1 -/
def RJ7 : String := "java/lang/StringLatin1"
abbrev cJ7_charAt : ByteArray := prog_29_method_2_code
def yJ7_charAt : MethodName := ⟨RJ7, "charAt", "([BI)C"⟩
theorem q147 : (Jvm.Cond.initialized "java/lang/StringLatin1") ∈ lw_all := lw_g (lw_at lw_m1 16 rfl) rfl
theorem q530 : (Jvm.Cond.static ({ cls := "java/lang/StringLatin1", name := "charAt", desc := "([BI)C" } : Jvm.MethodName)) ∈ lw_all := lw_g (lw_at lw_m2 159 rfl) rfl
theorem q531 : (Jvm.Cond.code ({ cls := "java/lang/StringLatin1", name := "charAt", desc := "([BI)C" } : Jvm.MethodName) prog_29_method_2_code (2 : Nat) (Option.some Jvm.ClassFile.FieldType.char)) ∈ lw_all := lw_g (lw_at lw_m2 160 rfl) rfl
theorem q532 : (Jvm.Cond.methodLink "java/lang/StringLatin1" (9 : Nat) ({ cls := "java/lang/String", name := "checkIndex", desc := "(II)V" } : Jvm.MethodName)) ∈ lw_all := lw_g (lw_at lw_m2 161 rfl) rfl

/-! jdk/internal/util/Preconditions -/
def RJ8 : String := "jdk/internal/util/Preconditions"
abbrev cJ8_checkIndex : ByteArray := prog_43_method_11_code
def yJ8_checkIndex : MethodName := ⟨RJ8, "checkIndex", "(IILjava/util/function/BiFunction;)I"⟩
theorem q148 : (Jvm.Cond.initialized "jdk/internal/util/Preconditions") ∈ lw_all := lw_g (lw_at lw_m1 17 rfl) rfl
theorem q536 : (Jvm.Cond.laysStatic "jdk/internal/util/Preconditions" "SIOOBE_FORMATTER" "Ljava/util/function/BiFunction;") ∈ lw_tbl := lw_at lw_m2 165 rfl
theorem q538 : (Jvm.Cond.static ({ cls := "jdk/internal/util/Preconditions", name := "checkIndex", desc := "(IILjava/util/function/BiFunction;)I" } : Jvm.MethodName)) ∈ lw_all := lw_g (lw_at lw_m2 167 rfl) rfl
theorem q539 : (Jvm.Cond.code ({ cls := "jdk/internal/util/Preconditions", name := "checkIndex", desc := "(IILjava/util/function/BiFunction;)I" } : Jvm.MethodName) prog_43_method_11_code (3 : Nat) (Option.some Jvm.ClassFile.FieldType.int)) ∈ lw_all := lw_g (lw_at lw_m2 168 rfl) rfl

/-! java/lang/StringUTF16 -/
def RJ9 : String := "java/lang/StringUTF16"
abbrev cJ9_charAt : ByteArray := prog_30_method_83_code
def yJ9_charAt : MethodName := ⟨RJ9, "charAt", "([BI)C"⟩
abbrev cJ9_checkIndex : ByteArray := prog_30_method_91_code
def yJ9_checkIndex : MethodName := ⟨RJ9, "checkIndex", "(I[B)V"⟩
abbrev cJ9_length : ByteArray := prog_30_method_6_code
def yJ9_length : MethodName := ⟨RJ9, "length", "([B)I"⟩
abbrev cJ9_getChar : ByteArray := prog_30_method_5_code
def yJ9_getChar : MethodName := ⟨RJ9, "getChar", "([BI)C"⟩
theorem q149 : (Jvm.Cond.initialized "java/lang/StringUTF16") ∈ lw_all := lw_g (lw_at lw_m1 18 rfl) rfl
theorem q541 : (Jvm.Cond.static ({ cls := "java/lang/StringUTF16", name := "charAt", desc := "([BI)C" } : Jvm.MethodName)) ∈ lw_all := lw_g (lw_at lw_m2 170 rfl) rfl
theorem q542 : (Jvm.Cond.code ({ cls := "java/lang/StringUTF16", name := "charAt", desc := "([BI)C" } : Jvm.MethodName) prog_30_method_83_code (2 : Nat) (Option.some Jvm.ClassFile.FieldType.char)) ∈ lw_all := lw_g (lw_at lw_m2 171 rfl) rfl
theorem q543 : (Jvm.Cond.methodLink "java/lang/StringUTF16" (67 : Nat) ({ cls := "java/lang/StringUTF16", name := "checkIndex", desc := "(I[B)V" } : Jvm.MethodName)) ∈ lw_all := lw_g (lw_at lw_m2 172 rfl) rfl
theorem q544 : (Jvm.Cond.static ({ cls := "java/lang/StringUTF16", name := "checkIndex", desc := "(I[B)V" } : Jvm.MethodName)) ∈ lw_all := lw_g (lw_at lw_m2 173 rfl) rfl
theorem q545 : (Jvm.Cond.code ({ cls := "java/lang/StringUTF16", name := "checkIndex", desc := "(I[B)V" } : Jvm.MethodName) prog_30_method_91_code (2 : Nat) (Option.none : Option Jvm.ClassFile.FieldType)) ∈ lw_all := lw_g (lw_at lw_m2 174 rfl) rfl
theorem q546 : (Jvm.Cond.methodLink "java/lang/StringUTF16" (48 : Nat) ({ cls := "java/lang/StringUTF16", name := "length", desc := "([B)I" } : Jvm.MethodName)) ∈ lw_all := lw_g (lw_at lw_m2 175 rfl) rfl
theorem q547 : (Jvm.Cond.static ({ cls := "java/lang/StringUTF16", name := "length", desc := "([B)I" } : Jvm.MethodName)) ∈ lw_all := lw_g (lw_at lw_m2 176 rfl) rfl
theorem q548 : (Jvm.Cond.code ({ cls := "java/lang/StringUTF16", name := "length", desc := "([B)I" } : Jvm.MethodName) prog_30_method_6_code (1 : Nat) (Option.some Jvm.ClassFile.FieldType.int)) ∈ lw_all := lw_g (lw_at lw_m2 177 rfl) rfl
theorem q549 : (Jvm.Cond.methodLink "java/lang/StringUTF16" (414 : Nat) ({ cls := "java/lang/String", name := "checkIndex", desc := "(II)V" } : Jvm.MethodName)) ∈ lw_all := lw_g (lw_at lw_m2 178 rfl) rfl
theorem q550 : (Jvm.Cond.methodLink "java/lang/StringUTF16" (71 : Nat) ({ cls := "java/lang/StringUTF16", name := "getChar", desc := "([BI)C" } : Jvm.MethodName)) ∈ lw_all := lw_g (lw_at lw_m2 179 rfl) rfl
theorem q551 : (Jvm.Cond.static ({ cls := "java/lang/StringUTF16", name := "getChar", desc := "([BI)C" } : Jvm.MethodName)) ∈ lw_all := lw_g (lw_at lw_m2 180 rfl) rfl
theorem q552 : (Jvm.Cond.code ({ cls := "java/lang/StringUTF16", name := "getChar", desc := "([BI)C" } : Jvm.MethodName) prog_30_method_5_code (2 : Nat) (Option.some Jvm.ClassFile.FieldType.char)) ∈ lw_all := lw_g (lw_at lw_m2 181 rfl) rfl
theorem q553 : (Jvm.Cond.fieldLink "java/lang/StringUTF16" (44 : Nat) "java/lang/StringUTF16" "$assertionsDisabled" "Z") ∈ lw_all := lw_g (lw_at lw_m2 182 rfl) rfl
theorem q554 : (Jvm.Cond.laysStatic "java/lang/StringUTF16" "$assertionsDisabled" "Z") ∈ lw_tbl := lw_at lw_m2 183 rfl
theorem q555 : (Jvm.Cond.fieldLink "java/lang/StringUTF16" (59 : Nat) "java/lang/StringUTF16" "HI_BYTE_SHIFT" "I") ∈ lw_all := lw_g (lw_at lw_m2 184 rfl) rfl
theorem q556 : (Jvm.Cond.laysStatic "java/lang/StringUTF16" "HI_BYTE_SHIFT" "I") ∈ lw_tbl := lw_at lw_m2 185 rfl
theorem q557 : (Jvm.Cond.fieldLink "java/lang/StringUTF16" (63 : Nat) "java/lang/StringUTF16" "LO_BYTE_SHIFT" "I") ∈ lw_all := lw_g (lw_at lw_m2 186 rfl) rfl
theorem q558 : (Jvm.Cond.laysStatic "java/lang/StringUTF16" "LO_BYTE_SHIFT" "I") ∈ lw_tbl := lw_at lw_m2 187 rfl

/-! java/lang/Throwable -/
def RJ10 : String := "java/lang/Throwable"
def TJ10 : u_T := fun k => match k with
  | 0 => ("java/lang/Throwable", "cause", "Ljava/lang/Throwable;", false)
  | 1 => ("java/lang/Throwable", "stackTrace", "[Ljava/lang/StackTraceElement;", false)
  | 2 => ("java/lang/Throwable", "suppressedExceptions", "Ljava/util/List;", false)
  | 3 => ("java/lang/Throwable", "detailMessage", "Ljava/lang/String;", false)
  | _ => ("java/lang/Throwable", "backtrace", "Ljava/lang/Object;", false)
def tyJ10 : Nat → FieldType := fun k => match k with
  | 0 => .object "java/lang/Throwable"
  | 1 => .array (.object "java/lang/StackTraceElement")
  | 2 => .object "java/util/List"
  | 3 => .object "java/lang/String"
  | _ => .object "java/lang/Object"
abbrev wsJ100 : List Cond := u_ws RJ10 TJ10 5
theorem nmJ10 : ∀ a, a < 5 → ∀ b, b < 5 → a ≠ b → (TJ10 a).2.1 ≠ (TJ10 b).2.1 := by decide +kernel
theorem tyJ10_ok : ∀ k, k < 5 → parseFieldDescriptor (TJ10 k).2.2.1 = some (tyJ10 k) := by decide +kernel
abbrev cJ10_init : ByteArray := prog_32_method_1_code
def yJ10_init : MethodName := ⟨RJ10, "<init>", "()V"⟩
theorem q150 : (Jvm.Cond.initialized "java/lang/Throwable") ∈ lw_all := lw_g (lw_at lw_m1 19 rfl) rfl
theorem q583 : (Jvm.Cond.declares ({ cls := "java/lang/Throwable", name := "<init>", desc := "()V" } : Jvm.MethodName)) ∈ lw_tbl := lw_at lw_m2 212 rfl
theorem q584 : (Jvm.Cond.declares ({ cls := "java/lang/Throwable", name := "<init>", desc := "(Ljava/lang/String;)V" } : Jvm.MethodName)) ∈ lw_tbl := lw_at lw_m2 213 rfl
theorem q588 : (Jvm.Cond.lays "java/lang/Throwable" "java/lang/Throwable" "cause" "Ljava/lang/Throwable;") ∈ lw_all := lw_g (lw_at lw_m2 217 rfl) rfl
theorem q590 : (Jvm.Cond.lays "java/lang/Throwable" "java/lang/Throwable" "stackTrace" "[Ljava/lang/StackTraceElement;") ∈ lw_all := lw_g (lw_at lw_m2 219 rfl) rfl
theorem q592 : (Jvm.Cond.lays "java/lang/Throwable" "java/lang/Throwable" "suppressedExceptions" "Ljava/util/List;") ∈ lw_all := lw_g (lw_at lw_m2 221 rfl) rfl
theorem q594 : (Jvm.Cond.lays "java/lang/Throwable" "java/lang/Throwable" "detailMessage" "Ljava/lang/String;") ∈ lw_all := lw_g (lw_at lw_m2 223 rfl) rfl
theorem q596 : (Jvm.Cond.lays "java/lang/Throwable" "java/lang/Throwable" "backtrace" "Ljava/lang/Object;") ∈ lw_all := lw_g (lw_at lw_m2 225 rfl) rfl
theorem q597 : (Jvm.Cond.fieldLink "java/lang/Throwable" (198 : Nat) "java/lang/Throwable" "backtrace" "Ljava/lang/Object;") ∈ lw_all := lw_g (lw_at lw_m2 226 rfl) rfl
theorem q598 : (Jvm.Cond.superclass "java/lang/Throwable" "java/lang/Object") ∈ lw_all := lw_g (lw_at lw_m2 227 rfl) rfl
theorem q599 : (Jvm.Cond.instanceMethod ({ cls := "java/lang/Throwable", name := "<init>", desc := "()V" } : Jvm.MethodName)) ∈ lw_all := lw_g (lw_at lw_m2 228 rfl) rfl
theorem q600 : (Jvm.Cond.code ({ cls := "java/lang/Throwable", name := "<init>", desc := "()V" } : Jvm.MethodName) prog_32_method_1_code (1 : Nat) (Option.none : Option Jvm.ClassFile.FieldType)) ∈ lw_all := lw_g (lw_at lw_m2 229 rfl) rfl
theorem q601 : (Jvm.Cond.methodLink "java/lang/Throwable" (1 : Nat) ({ cls := "java/lang/Object", name := "<init>", desc := "()V" } : Jvm.MethodName)) ∈ lw_all := lw_g (lw_at lw_m2 230 rfl) rfl
theorem q602 : (Jvm.Cond.fieldLink "java/lang/Throwable" (13 : Nat) "java/lang/Throwable" "UNASSIGNED_STACK" "[Ljava/lang/StackTraceElement;") ∈ lw_all := lw_g (lw_at lw_m2 231 rfl) rfl
theorem q603 : (Jvm.Cond.laysStatic "java/lang/Throwable" "UNASSIGNED_STACK" "[Ljava/lang/StackTraceElement;") ∈ lw_tbl := lw_at lw_m2 232 rfl
theorem q604 : (Jvm.Cond.fieldLink "java/lang/Throwable" (20 : Nat) "java/lang/Throwable" "SUPPRESSED_SENTINEL" "Ljava/util/List;") ∈ lw_all := lw_g (lw_at lw_m2 233 rfl) rfl
theorem q605 : (Jvm.Cond.laysStatic "java/lang/Throwable" "SUPPRESSED_SENTINEL" "Ljava/util/List;") ∈ lw_tbl := lw_at lw_m2 234 rfl
theorem q606 : (Jvm.Cond.methodLink "java/lang/Throwable" (27 : Nat) ({ cls := "java/lang/Throwable", name := "fillInStackTrace", desc := "()Ljava/lang/Throwable;" } : Jvm.MethodName)) ∈ lw_all := lw_g (lw_at lw_m2 235 rfl) rfl
theorem q607 : (Jvm.Cond.instanceMethod ({ cls := "java/lang/Throwable", name := "fillInStackTrace", desc := "()Ljava/lang/Throwable;" } : Jvm.MethodName)) ∈ lw_all := lw_g (lw_at lw_m2 236 rfl) rfl
theorem q608 : (Jvm.Cond.sameMethod "java/lang/Throwable" "java/lang/Throwable" "fillInStackTrace" "()Ljava/lang/Throwable;") ∈ lw_all := lw_g (lw_at lw_m2 237 rfl) rfl
theorem q609 : (Jvm.Cond.codeSync ({ cls := "java/lang/Throwable", name := "fillInStackTrace", desc := "()Ljava/lang/Throwable;" } : Jvm.MethodName) prog_32_method_18_code (1 : Nat) (Option.some (Jvm.ClassFile.FieldType.object "java/lang/Throwable"))) ∈ lw_all := lw_g (lw_at lw_m2 238 rfl) rfl
theorem q610 : (Jvm.Cond.methodLink "java/lang/Throwable" (202 : Nat) ({ cls := "java/lang/Throwable", name := "fillInStackTrace", desc := "(I)Ljava/lang/Throwable;" } : Jvm.MethodName)) ∈ lw_all := lw_g (lw_at lw_m2 239 rfl) rfl
theorem q611 : (Jvm.Cond.privateMethod ({ cls := "java/lang/Throwable", name := "fillInStackTrace", desc := "(I)Ljava/lang/Throwable;" } : Jvm.MethodName)) ∈ lw_tbl := lw_at lw_m3 0 rfl
theorem q612 : (Jvm.Cond.instanceMethod ({ cls := "java/lang/Throwable", name := "fillInStackTrace", desc := "(I)Ljava/lang/Throwable;" } : Jvm.MethodName)) ∈ lw_all := lw_g (lw_at lw_m3 1 rfl) rfl
theorem q613 : (Jvm.Cond.instantiable "java/lang/Throwable" (6 : Nat)) ∈ lw_all := lw_g (lw_at lw_m3 2 rfl) rfl
theorem q614 : (Jvm.Cond.native ({ cls := "java/lang/Throwable", name := "fillInStackTrace", desc := "(I)Ljava/lang/Throwable;" } : Jvm.MethodName)) ∈ lw_all := lw_g (lw_at lw_m3 3 rfl) rfl
theorem q629 : (Jvm.Cond.fieldLink "java/lang/Throwable" (198 : Nat) "java/lang/Throwable" "backtrace" "Ljava/lang/Object;") ∈ lw_all := lw_g (lw_at lw_m3 18 rfl) rfl
theorem q630 : (Jvm.Cond.fieldLink "java/lang/Throwable" (7 : Nat) "java/lang/Throwable" "cause" "Ljava/lang/Throwable;") ∈ lw_all := lw_g (lw_at lw_m3 19 rfl) rfl
theorem q631 : (Jvm.Cond.fieldLink "java/lang/Throwable" (17 : Nat) "java/lang/Throwable" "stackTrace" "[Ljava/lang/StackTraceElement;") ∈ lw_all := lw_g (lw_at lw_m3 20 rfl) rfl
theorem q632 : (Jvm.Cond.fieldLink "java/lang/Throwable" (24 : Nat) "java/lang/Throwable" "suppressedExceptions" "Ljava/util/List;") ∈ lw_all := lw_g (lw_at lw_m3 21 rfl) rfl
theorem q637 : (Jvm.Cond.soleField "java/lang/Throwable" "backtrace") ∈ lw_all := lw_g (lw_at lw_m3 26 rfl) rfl
theorem q638 : (Jvm.Cond.soleField "java/lang/Throwable" "detailMessage") ∈ lw_all := lw_g (lw_at lw_m3 27 rfl) rfl
theorem q639 : (Jvm.Cond.soleField "java/lang/Throwable" "cause") ∈ lw_all := lw_g (lw_at lw_m3 28 rfl) rfl
theorem q640 : (Jvm.Cond.soleField "java/lang/Throwable" "stackTrace") ∈ lw_all := lw_g (lw_at lw_m3 29 rfl) rfl
theorem q642 : (Jvm.Cond.soleField "java/lang/Throwable" "depth") ∈ lw_all := lw_g (lw_at lw_m3 31 rfl) rfl
theorem q643 : (Jvm.Cond.soleField "java/lang/Throwable" "suppressedExceptions") ∈ lw_all := lw_g (lw_at lw_m3 32 rfl) rfl
theorem q2211 : (Jvm.Cond.sameMethod "java/lang/Throwable" "java/lang/Throwable" "fillInStackTrace" "(I)Ljava/lang/Throwable;") ∈ lw_all := lw_g (lw_at lw_m9 160 rfl) rfl
theorem q2240 : (Jvm.Cond.castable "java/lang/Throwable" "java/lang/Object") ∈ lw_tbl := lw_at lw_m9 189 rfl
theorem in_J10 : ∀ w ∈ wsJ100, w ∈ lw_all := lw_in wsJ100 [588, 590, 592, 594, 596] (by decide +kernel) (by decide +kernel)

/-! java/lang/Exception -/
def RJ11 : String := "java/lang/Exception"
abbrev cJ11_init : ByteArray := prog_24_method_1_code
def yJ11_init : MethodName := ⟨RJ11, "<init>", "()V"⟩
theorem q151 : (Jvm.Cond.initialized "java/lang/Exception") ∈ lw_all := lw_g (lw_at lw_m1 20 rfl) rfl
theorem q581 : (Jvm.Cond.declares ({ cls := "java/lang/Exception", name := "<init>", desc := "()V" } : Jvm.MethodName)) ∈ lw_tbl := lw_at lw_m2 210 rfl
theorem q582 : (Jvm.Cond.declares ({ cls := "java/lang/Exception", name := "<init>", desc := "(Ljava/lang/String;)V" } : Jvm.MethodName)) ∈ lw_tbl := lw_at lw_m2 211 rfl
theorem q622 : (Jvm.Cond.instanceMethod ({ cls := "java/lang/Exception", name := "<init>", desc := "()V" } : Jvm.MethodName)) ∈ lw_all := lw_g (lw_at lw_m3 11 rfl) rfl
theorem q623 : (Jvm.Cond.code ({ cls := "java/lang/Exception", name := "<init>", desc := "()V" } : Jvm.MethodName) prog_24_method_1_code (1 : Nat) (Option.none : Option Jvm.ClassFile.FieldType)) ∈ lw_all := lw_g (lw_at lw_m3 12 rfl) rfl
theorem q624 : (Jvm.Cond.methodLink "java/lang/Exception" (1 : Nat) ({ cls := "java/lang/Throwable", name := "<init>", desc := "()V" } : Jvm.MethodName)) ∈ lw_all := lw_g (lw_at lw_m3 13 rfl) rfl

/-! java/lang/RuntimeException -/
def RJ12 : String := "java/lang/RuntimeException"
abbrev cJ12_init : ByteArray := prog_27_method_1_code
def yJ12_init : MethodName := ⟨RJ12, "<init>", "()V"⟩
theorem q152 : (Jvm.Cond.initialized "java/lang/RuntimeException") ∈ lw_all := lw_g (lw_at lw_m1 21 rfl) rfl
theorem q579 : (Jvm.Cond.declares ({ cls := "java/lang/RuntimeException", name := "<init>", desc := "()V" } : Jvm.MethodName)) ∈ lw_tbl := lw_at lw_m2 208 rfl
theorem q580 : (Jvm.Cond.declares ({ cls := "java/lang/RuntimeException", name := "<init>", desc := "(Ljava/lang/String;)V" } : Jvm.MethodName)) ∈ lw_tbl := lw_at lw_m2 209 rfl
theorem q619 : (Jvm.Cond.instanceMethod ({ cls := "java/lang/RuntimeException", name := "<init>", desc := "()V" } : Jvm.MethodName)) ∈ lw_all := lw_g (lw_at lw_m3 8 rfl) rfl
theorem q620 : (Jvm.Cond.code ({ cls := "java/lang/RuntimeException", name := "<init>", desc := "()V" } : Jvm.MethodName) prog_27_method_1_code (1 : Nat) (Option.none : Option Jvm.ClassFile.FieldType)) ∈ lw_all := lw_g (lw_at lw_m3 9 rfl) rfl
theorem q621 : (Jvm.Cond.methodLink "java/lang/RuntimeException" (1 : Nat) ({ cls := "java/lang/Exception", name := "<init>", desc := "()V" } : Jvm.MethodName)) ∈ lw_all := lw_g (lw_at lw_m3 10 rfl) rfl

/-! java/util/Objects -/
def RJ13 : String := "java/util/Objects"
abbrev cJ13_checkIndex : ByteArray := prog_39_method_17_code
def yJ13_checkIndex : MethodName := ⟨RJ13, "checkIndex", "(II)I"⟩
theorem q157 : (Jvm.Cond.initialized "java/util/Objects") ∈ lw_all := lw_g (lw_at lw_m1 26 rfl) rfl
theorem q848 : (Jvm.Cond.static ({ cls := "java/util/Objects", name := "checkIndex", desc := "(II)I" } : Jvm.MethodName)) ∈ lw_all := lw_g (lw_at lw_m3 237 rfl) rfl
theorem q849 : (Jvm.Cond.code ({ cls := "java/util/Objects", name := "checkIndex", desc := "(II)I" } : Jvm.MethodName) prog_39_method_17_code (2 : Nat) (Option.some Jvm.ClassFile.FieldType.int)) ∈ lw_all := lw_g (lw_at lw_m3 238 rfl) rfl
theorem q850 : (Jvm.Cond.methodLink "java/util/Objects" (105 : Nat) ({ cls := "jdk/internal/util/Preconditions", name := "checkIndex", desc := "(IILjava/util/function/BiFunction;)I" } : Jvm.MethodName)) ∈ lw_all := lw_g (lw_at lw_m3 239 rfl) rfl

/-! java/lang/Object -/
def RJ14 : String := "java/lang/Object"
abbrev cJ14_init : ByteArray := object_method_1_code
def yJ14_init : MethodName := ⟨RJ14, "<init>", "()V"⟩
theorem q173 : (Jvm.Cond.instanceMethod ({ cls := "java/lang/Object", name := "<init>", desc := "()V" } : Jvm.MethodName)) ∈ lw_all := lw_g (lw_at lw_m1 42 rfl) rfl
theorem q174 : (Jvm.Cond.code ({ cls := "java/lang/Object", name := "<init>", desc := "()V" } : Jvm.MethodName) object_method_1_code (1 : Nat) (Option.none : Option Jvm.ClassFile.FieldType)) ∈ lw_all := lw_g (lw_at lw_m1 43 rfl) rfl
theorem q376 : (Jvm.Cond.instanceMethod ({ cls := "java/lang/Object", name := "getClass", desc := "()Ljava/lang/Class;" } : Jvm.MethodName)) ∈ lw_all := lw_g (lw_at lw_m2 5 rfl) rfl
theorem q377 : (Jvm.Cond.sameMethod "java/lang/Object" "java/lang/Object" "getClass" "()Ljava/lang/Class;") ∈ lw_all := lw_g (lw_at lw_m2 6 rfl) rfl
theorem q396 : (Jvm.Cond.native ({ cls := "java/lang/Object", name := "getClass", desc := "()Ljava/lang/Class;" } : Jvm.MethodName)) ∈ lw_all := lw_g (lw_at lw_m2 25 rfl) rfl
theorem q2244 : (Jvm.Cond.declares ({ cls := "java/lang/Object", name := "getClass", desc := "()Ljava/lang/Class;" } : Jvm.MethodName)) ∈ lw_tbl := lw_at lw_m9 193 rfl

/-! TreePress -/
def RX0 : String := "TreePress"
def TX0 : u_T := fun k => match k with
  | 0 => ("TreePress", "tape", "[B", true)
  | 1 => ("TreePress", "size", "I", false)
  | 2 => ("TreePress", "place", "I", false)
  | 3 => ("TreePress", "doc", "LTreePress$Document;", false)
  | 4 => ("TreePress", "now", "[LTreePress$Node;", true)
  | 5 => ("TreePress", "list", "[LTreePress$Node;", true)
  | 6 => ("TreePress", "told", "[LTreePress$Node;", true)
  | 7 => ("TreePress", "among", "[Z", true)
  | 8 => ("TreePress", "nowMany", "I", false)
  | 9 => ("TreePress", "listMany", "I", false)
  | 10 => ("TreePress", "toldMany", "I", false)
  | 11 => ("TreePress", "lines", "Ljava/util/ArrayList;", true)
  | 12 => ("TreePress", "blocks", "Ljava/util/ArrayList;", true)
  | 13 => ("TreePress", "word", "[B", true)
  | 14 => ("TreePress", "wordOf", "[LTreePress$Node;", true)
  | 15 => ("TreePress", "wordMany", "I", false)
  | 16 => ("TreePress", "width", "I", false)
  | _ => ("TreePress", "line", "LTreePress$Line;", false)
def tyX0 : Nat → FieldType := fun k => match k with
  | 0 => .array .byte
  | 1 => .int
  | 2 => .int
  | 3 => .object "TreePress$Document"
  | 4 => .array (.object "TreePress$Node")
  | 5 => .array (.object "TreePress$Node")
  | 6 => .array (.object "TreePress$Node")
  | 7 => .array .boolean
  | 8 => .int
  | 9 => .int
  | 10 => .int
  | 11 => .object "java/util/ArrayList"
  | 12 => .object "java/util/ArrayList"
  | 13 => .array .byte
  | 14 => .array (.object "TreePress$Node")
  | 15 => .int
  | 16 => .int
  | _ => .object "TreePress$Line"
abbrev wsX00 : List Cond := u_ws RX0 TX0 18
theorem nmX0 : ∀ a, a < 18 → ∀ b, b < 18 → a ≠ b → (TX0 a).2.1 ≠ (TX0 b).2.1 := by decide +kernel
theorem tyX0_ok : ∀ k, k < 18 → parseFieldDescriptor (TX0 k).2.2.1 = some (tyX0 k) := by decide +kernel
abbrev cX0_init : ByteArray := prog_1_method_7_code
def yX0_init : MethodName := ⟨RX0, "<init>", "()V"⟩
abbrev cX0_feed : ByteArray := prog_1_method_9_code
def yX0_feed : MethodName := ⟨RX0, "feed", "(IIIII)I"⟩
abbrev cX0_feeds : ByteArray := prog_1_method_10_code
def yX0_feeds : MethodName := ⟨RX0, "feeds", "(I)V"⟩
abbrev cX0_read : ByteArray := prog_1_method_11_code
def yX0_read : MethodName := ⟨RX0, "read", "(I)I"⟩
abbrev cX0_isSpace : ByteArray := prog_1_method_1_code
def yX0_isSpace : MethodName := ⟨RX0, "isSpace", "(I)Z"⟩
abbrev cX0_isChar : ByteArray := prog_1_method_2_code
def yX0_isChar : MethodName := ⟨RX0, "isChar", "(I)Z"⟩
abbrev cX0_isFirst : ByteArray := prog_1_method_3_code
def yX0_isFirst : MethodName := ⟨RX0, "isFirst", "(I)Z"⟩
abbrev cX0_isToken : ByteArray := prog_1_method_4_code
def yX0_isToken : MethodName := ⟨RX0, "isToken", "(I)Z"⟩
abbrev cX0_isSame : ByteArray := prog_1_method_5_code
def yX0_isSame : MethodName := ⟨RX0, "isSame", "([B[B)Z"⟩
abbrev cX0_isName : ByteArray := prog_1_method_6_code
def yX0_isName : MethodName := ⟨RX0, "isName", "([B)Z"⟩
abbrev cX0_place : ByteArray := prog_1_method_12_code
def yX0_place : MethodName := ⟨RX0, "place", "()I"⟩
abbrev cX0_node : ByteArray := prog_1_method_14_code
def yX0_node : MethodName := ⟨RX0, "node", "(II)I"⟩
abbrev cX0_nodeOf : ByteArray := prog_1_method_13_code
def yX0_nodeOf : MethodName := ⟨RX0, "nodeOf", "(I)LTreePress$Node;"⟩
abbrev cX0_isIn : ByteArray := prog_1_method_8_code
def yX0_isIn : MethodName := ⟨RX0, "isIn", "(II)Z"⟩
abbrev cX0_name : ByteArray := prog_1_method_15_code
def yX0_name : MethodName := ⟨RX0, "name", "(II)I"⟩
abbrev cX0_string : ByteArray := prog_1_method_16_code
def yX0_string : MethodName := ⟨RX0, "string", "(II)I"⟩
abbrev cX0_findings : ByteArray := prog_1_method_17_code
def yX0_findings : MethodName := ⟨RX0, "findings", "()I"⟩
abbrev cX0_finding : ByteArray := prog_1_method_18_code
def yX0_finding : MethodName := ⟨RX0, "finding", "(II)I"⟩
abbrev cX0_select : ByteArray := prog_1_method_26_code
def yX0_select : MethodName := ⟨RX0, "select", "(II)I"⟩
abbrev cX0_walk : ByteArray := prog_1_method_25_code
def yX0_walk : MethodName := ⟨RX0, "walk", "(LTreePress$Step;)V"⟩
abbrev cX0_goesOn : ByteArray := prog_1_method_24_code
def yX0_goesOn : MethodName := ⟨RX0, "goesOn", "()V"⟩
abbrev cX0_leads : ByteArray := prog_1_method_23_code
def yX0_leads : MethodName := ⟨RX0, "leads", "(LTreePress$Step;LTreePress$Node;)V"⟩
abbrev cX0_leadsTo : ByteArray := prog_1_method_22_code
def yX0_leadsTo : MethodName := ⟨RX0, "leadsTo", "(LTreePress$Node;)V"⟩
abbrev cX0_passes : ByteArray := prog_1_method_20_code
def yX0_passes : MethodName := ⟨RX0, "passes", "(LTreePress$Test;LTreePress$Node;II)Z"⟩
abbrev cX0_isString : ByteArray := prog_1_method_19_code
def yX0_isString : MethodName := ⟨RX0, "isString", "(LTreePress$Node;[B)Z"⟩
abbrev cX0_has : ByteArray := prog_1_method_21_code
def yX0_has : MethodName := ⟨RX0, "has", "(LTreePress$Test;LTreePress$Node;)Z"⟩
abbrev cX0_told : ByteArray := prog_1_method_27_code
def yX0_told : MethodName := ⟨RX0, "told", "(I)I"⟩
abbrev cX0_set : ByteArray := prog_1_method_33_code
def yX0_set : MethodName := ⟨RX0, "set", "(II)I"⟩
abbrev cX0_sets : ByteArray := prog_1_method_31_code
def yX0_sets : MethodName := ⟨RX0, "sets", "(LTreePress$Node;)V"⟩
abbrev cX0_wordEnds : ByteArray := prog_1_method_29_code
def yX0_wordEnds : MethodName := ⟨RX0, "wordEnds", "()V"⟩
abbrev cX0_puts : ByteArray := prog_1_method_28_code
def yX0_puts : MethodName := ⟨RX0, "puts", "(IIZ)V"⟩
abbrev cX0_lineEnds : ByteArray := prog_1_method_30_code
def yX0_lineEnds : MethodName := ⟨RX0, "lineEnds", "()V"⟩
abbrev cX0_pages : ByteArray := prog_1_method_32_code
def yX0_pages : MethodName := ⟨RX0, "pages", "(I)V"⟩
abbrev cX0_line : ByteArray := prog_1_method_34_code
def yX0_line : MethodName := ⟨RX0, "line", "(II)I"⟩
abbrev cX0_at : ByteArray := prog_1_method_35_code
def yX0_at : MethodName := ⟨RX0, "at", "(II)I"⟩
abbrev cX0_count : ByteArray := prog_1_method_36_code
def yX0_count : MethodName := ⟨RX0, "count", "(I)I"⟩
theorem q132 : (Jvm.Cond.initialized "TreePress") ∈ lw_all := lw_g (lw_at lw_m1 1 rfl) rfl
theorem q168 : (Jvm.Cond.instantiable "TreePress" (18 : Nat)) ∈ lw_all := lw_g (lw_at lw_m1 37 rfl) rfl
theorem q170 : (Jvm.Cond.instanceMethod ({ cls := "TreePress", name := "<init>", desc := "()V" } : Jvm.MethodName)) ∈ lw_all := lw_g (lw_at lw_m1 39 rfl) rfl
theorem q171 : (Jvm.Cond.code ({ cls := "TreePress", name := "<init>", desc := "()V" } : Jvm.MethodName) prog_1_method_7_code (1 : Nat) (Option.none : Option Jvm.ClassFile.FieldType)) ∈ lw_all := lw_g (lw_at lw_m1 40 rfl) rfl
theorem q172 : (Jvm.Cond.methodLink "TreePress" (13 : Nat) ({ cls := "java/lang/Object", name := "<init>", desc := "()V" } : Jvm.MethodName)) ∈ lw_all := lw_g (lw_at lw_m1 41 rfl) rfl
theorem q175 : (Jvm.Cond.classLink "TreePress" (27 : Nat) "TreePress$Node") ∈ lw_all := lw_g (lw_at lw_m1 44 rfl) rfl
theorem q177 : (Jvm.Cond.classLink "TreePress" (43 : Nat) "java/util/ArrayList") ∈ lw_all := lw_g (lw_at lw_m1 46 rfl) rfl
theorem q179 : (Jvm.Cond.methodLink "TreePress" (45 : Nat) ({ cls := "java/util/ArrayList", name := "<init>", desc := "()V" } : Jvm.MethodName)) ∈ lw_all := lw_g (lw_at lw_m1 48 rfl) rfl
theorem q205 : (Jvm.Cond.fieldLink "TreePress" (19 : Nat) "TreePress" "tape" "[B") ∈ lw_all := lw_g (lw_at lw_m1 74 rfl) rfl
theorem q206 : (Jvm.Cond.fieldLink "TreePress" (59 : Nat) "TreePress" "size" "I") ∈ lw_all := lw_g (lw_at lw_m1 75 rfl) rfl
theorem q207 : (Jvm.Cond.fieldLink "TreePress" (23 : Nat) "TreePress" "place" "I") ∈ lw_all := lw_g (lw_at lw_m1 76 rfl) rfl
theorem q208 : (Jvm.Cond.fieldLink "TreePress" (75 : Nat) "TreePress" "doc" "LTreePress$Document;") ∈ lw_all := lw_g (lw_at lw_m1 77 rfl) rfl
theorem q209 : (Jvm.Cond.fieldLink "TreePress" (29 : Nat) "TreePress" "now" "[LTreePress$Node;") ∈ lw_all := lw_g (lw_at lw_m1 78 rfl) rfl
theorem q210 : (Jvm.Cond.fieldLink "TreePress" (33 : Nat) "TreePress" "list" "[LTreePress$Node;") ∈ lw_all := lw_g (lw_at lw_m1 79 rfl) rfl
theorem q211 : (Jvm.Cond.fieldLink "TreePress" (36 : Nat) "TreePress" "told" "[LTreePress$Node;") ∈ lw_all := lw_g (lw_at lw_m1 80 rfl) rfl
theorem q212 : (Jvm.Cond.fieldLink "TreePress" (39 : Nat) "TreePress" "among" "[Z") ∈ lw_all := lw_g (lw_at lw_m1 81 rfl) rfl
theorem q213 : (Jvm.Cond.fieldLink "TreePress" (205 : Nat) "TreePress" "nowMany" "I") ∈ lw_all := lw_g (lw_at lw_m1 82 rfl) rfl
theorem q214 : (Jvm.Cond.fieldLink "TreePress" (184 : Nat) "TreePress" "listMany" "I") ∈ lw_all := lw_g (lw_at lw_m1 83 rfl) rfl
theorem q215 : (Jvm.Cond.fieldLink "TreePress" (82 : Nat) "TreePress" "toldMany" "I") ∈ lw_all := lw_g (lw_at lw_m1 84 rfl) rfl
theorem q216 : (Jvm.Cond.fieldLink "TreePress" (46 : Nat) "TreePress" "lines" "Ljava/util/ArrayList;") ∈ lw_all := lw_g (lw_at lw_m1 85 rfl) rfl
theorem q217 : (Jvm.Cond.fieldLink "TreePress" (50 : Nat) "TreePress" "blocks" "Ljava/util/ArrayList;") ∈ lw_all := lw_g (lw_at lw_m1 86 rfl) rfl
theorem q218 : (Jvm.Cond.fieldLink "TreePress" (53 : Nat) "TreePress" "word" "[B") ∈ lw_all := lw_g (lw_at lw_m1 87 rfl) rfl
theorem q219 : (Jvm.Cond.fieldLink "TreePress" (56 : Nat) "TreePress" "wordOf" "[LTreePress$Node;") ∈ lw_all := lw_g (lw_at lw_m1 88 rfl) rfl
theorem q220 : (Jvm.Cond.fieldLink "TreePress" (277 : Nat) "TreePress" "wordMany" "I") ∈ lw_all := lw_g (lw_at lw_m1 89 rfl) rfl
theorem q221 : (Jvm.Cond.fieldLink "TreePress" (254 : Nat) "TreePress" "width" "I") ∈ lw_all := lw_g (lw_at lw_m1 90 rfl) rfl
theorem q222 : (Jvm.Cond.fieldLink "TreePress" (259 : Nat) "TreePress" "line" "LTreePress$Line;") ∈ lw_all := lw_g (lw_at lw_m1 91 rfl) rfl
theorem q223 : (Jvm.Cond.laysFinal "TreePress" "TreePress" "tape" "[B") ∈ lw_all := lw_g (lw_at lw_m1 92 rfl) rfl
theorem q224 : (Jvm.Cond.soleField "TreePress" "tape") ∈ lw_all := lw_g (lw_at lw_m1 93 rfl) rfl
theorem q225 : (Jvm.Cond.lays "TreePress" "TreePress" "size" "I") ∈ lw_all := lw_g (lw_at lw_m1 94 rfl) rfl
theorem q226 : (Jvm.Cond.soleField "TreePress" "size") ∈ lw_all := lw_g (lw_at lw_m1 95 rfl) rfl
theorem q227 : (Jvm.Cond.lays "TreePress" "TreePress" "place" "I") ∈ lw_all := lw_g (lw_at lw_m1 96 rfl) rfl
theorem q228 : (Jvm.Cond.soleField "TreePress" "place") ∈ lw_all := lw_g (lw_at lw_m1 97 rfl) rfl
theorem q229 : (Jvm.Cond.lays "TreePress" "TreePress" "doc" "LTreePress$Document;") ∈ lw_all := lw_g (lw_at lw_m1 98 rfl) rfl
theorem q230 : (Jvm.Cond.soleField "TreePress" "doc") ∈ lw_all := lw_g (lw_at lw_m1 99 rfl) rfl
theorem q231 : (Jvm.Cond.laysFinal "TreePress" "TreePress" "now" "[LTreePress$Node;") ∈ lw_all := lw_g (lw_at lw_m1 100 rfl) rfl
theorem q232 : (Jvm.Cond.soleField "TreePress" "now") ∈ lw_all := lw_g (lw_at lw_m1 101 rfl) rfl
theorem q233 : (Jvm.Cond.laysFinal "TreePress" "TreePress" "list" "[LTreePress$Node;") ∈ lw_all := lw_g (lw_at lw_m1 102 rfl) rfl
theorem q234 : (Jvm.Cond.soleField "TreePress" "list") ∈ lw_all := lw_g (lw_at lw_m1 103 rfl) rfl
theorem q235 : (Jvm.Cond.laysFinal "TreePress" "TreePress" "told" "[LTreePress$Node;") ∈ lw_all := lw_g (lw_at lw_m1 104 rfl) rfl
theorem q236 : (Jvm.Cond.soleField "TreePress" "told") ∈ lw_all := lw_g (lw_at lw_m1 105 rfl) rfl
theorem q237 : (Jvm.Cond.laysFinal "TreePress" "TreePress" "among" "[Z") ∈ lw_all := lw_g (lw_at lw_m1 106 rfl) rfl
theorem q238 : (Jvm.Cond.soleField "TreePress" "among") ∈ lw_all := lw_g (lw_at lw_m1 107 rfl) rfl
theorem q239 : (Jvm.Cond.lays "TreePress" "TreePress" "nowMany" "I") ∈ lw_all := lw_g (lw_at lw_m1 108 rfl) rfl
theorem q240 : (Jvm.Cond.soleField "TreePress" "nowMany") ∈ lw_all := lw_g (lw_at lw_m1 109 rfl) rfl
theorem q241 : (Jvm.Cond.lays "TreePress" "TreePress" "listMany" "I") ∈ lw_all := lw_g (lw_at lw_m1 110 rfl) rfl
theorem q242 : (Jvm.Cond.soleField "TreePress" "listMany") ∈ lw_all := lw_g (lw_at lw_m1 111 rfl) rfl
theorem q243 : (Jvm.Cond.lays "TreePress" "TreePress" "toldMany" "I") ∈ lw_all := lw_g (lw_at lw_m1 112 rfl) rfl
theorem q244 : (Jvm.Cond.soleField "TreePress" "toldMany") ∈ lw_all := lw_g (lw_at lw_m1 113 rfl) rfl
theorem q245 : (Jvm.Cond.laysFinal "TreePress" "TreePress" "lines" "Ljava/util/ArrayList;") ∈ lw_all := lw_g (lw_at lw_m1 114 rfl) rfl
theorem q246 : (Jvm.Cond.soleField "TreePress" "lines") ∈ lw_all := lw_g (lw_at lw_m1 115 rfl) rfl
theorem q247 : (Jvm.Cond.laysFinal "TreePress" "TreePress" "blocks" "Ljava/util/ArrayList;") ∈ lw_all := lw_g (lw_at lw_m1 116 rfl) rfl
theorem q248 : (Jvm.Cond.soleField "TreePress" "blocks") ∈ lw_all := lw_g (lw_at lw_m1 117 rfl) rfl
theorem q249 : (Jvm.Cond.laysFinal "TreePress" "TreePress" "word" "[B") ∈ lw_all := lw_g (lw_at lw_m1 118 rfl) rfl
theorem q250 : (Jvm.Cond.soleField "TreePress" "word") ∈ lw_all := lw_g (lw_at lw_m1 119 rfl) rfl
theorem q251 : (Jvm.Cond.laysFinal "TreePress" "TreePress" "wordOf" "[LTreePress$Node;") ∈ lw_all := lw_g (lw_at lw_m1 120 rfl) rfl
theorem q252 : (Jvm.Cond.soleField "TreePress" "wordOf") ∈ lw_all := lw_g (lw_at lw_m1 121 rfl) rfl
theorem q253 : (Jvm.Cond.lays "TreePress" "TreePress" "wordMany" "I") ∈ lw_all := lw_g (lw_at lw_m1 122 rfl) rfl
theorem q254 : (Jvm.Cond.soleField "TreePress" "wordMany") ∈ lw_all := lw_g (lw_at lw_m1 123 rfl) rfl
theorem q255 : (Jvm.Cond.lays "TreePress" "TreePress" "width" "I") ∈ lw_all := lw_g (lw_at lw_m1 124 rfl) rfl
theorem q256 : (Jvm.Cond.soleField "TreePress" "width") ∈ lw_all := lw_g (lw_at lw_m1 125 rfl) rfl
theorem q257 : (Jvm.Cond.lays "TreePress" "TreePress" "line" "LTreePress$Line;") ∈ lw_all := lw_g (lw_at lw_m1 126 rfl) rfl
theorem q258 : (Jvm.Cond.soleField "TreePress" "line") ∈ lw_all := lw_g (lw_at lw_m1 127 rfl) rfl
theorem q259 : (Jvm.Cond.superclass "TreePress" "java/lang/Object") ∈ lw_all := lw_g (lw_at lw_m1 128 rfl) rfl
theorem q261 : (Jvm.Cond.instanceMethod ({ cls := "TreePress", name := "feed", desc := "(IIIII)I" } : Jvm.MethodName)) ∈ lw_all := lw_g (lw_at lw_m1 130 rfl) rfl
theorem q262 : (Jvm.Cond.selects "TreePress" ({ cls := "TreePress", name := "feed", desc := "(IIIII)I" } : Jvm.MethodName) ({ cls := "TreePress", name := "feed", desc := "(IIIII)I" } : Jvm.MethodName)) ∈ lw_all := lw_g (lw_at lw_m1 131 rfl) rfl
theorem q263 : (Jvm.Cond.code ({ cls := "TreePress", name := "feed", desc := "(IIIII)I" } : Jvm.MethodName) prog_1_method_9_code (6 : Nat) (Option.some Jvm.ClassFile.FieldType.int)) ∈ lw_all := lw_g (lw_at lw_m1 132 rfl) rfl
theorem q264 : (Jvm.Cond.methodLink "TreePress" (62 : Nat) ({ cls := "TreePress", name := "feeds", desc := "(I)V" } : Jvm.MethodName)) ∈ lw_all := lw_g (lw_at lw_m1 133 rfl) rfl
theorem q265 : (Jvm.Cond.privateMethod ({ cls := "TreePress", name := "feeds", desc := "(I)V" } : Jvm.MethodName)) ∈ lw_tbl := lw_at lw_m1 134 rfl
theorem q266 : (Jvm.Cond.instanceMethod ({ cls := "TreePress", name := "feeds", desc := "(I)V" } : Jvm.MethodName)) ∈ lw_all := lw_g (lw_at lw_m1 135 rfl) rfl
theorem q267 : (Jvm.Cond.code ({ cls := "TreePress", name := "feeds", desc := "(I)V" } : Jvm.MethodName) prog_1_method_10_code (3 : Nat) (Option.none : Option Jvm.ClassFile.FieldType)) ∈ lw_all := lw_g (lw_at lw_m1 136 rfl) rfl
theorem q269 : (Jvm.Cond.instanceMethod ({ cls := "TreePress", name := "read", desc := "(I)I" } : Jvm.MethodName)) ∈ lw_all := lw_g (lw_at lw_m1 138 rfl) rfl
theorem q270 : (Jvm.Cond.selects "TreePress" ({ cls := "TreePress", name := "read", desc := "(I)I" } : Jvm.MethodName) ({ cls := "TreePress", name := "read", desc := "(I)I" } : Jvm.MethodName)) ∈ lw_all := lw_g (lw_at lw_m1 139 rfl) rfl
theorem q271 : (Jvm.Cond.codeWith ({ cls := "TreePress", name := "read", desc := "(I)I" } : Jvm.MethodName) prog_1_method_11_code (4 : Nat) (Option.some Jvm.ClassFile.FieldType.int) [((37 : Nat), (67 : Nat), (68 : Nat), (93 : Nat))]) ∈ lw_all := lw_g (lw_at lw_m1 140 rfl) rfl
theorem q272 : (Jvm.Cond.classLink "TreePress" (93 : Nat) "TreePress$Fault") ∈ lw_all := lw_g (lw_at lw_m1 141 rfl) rfl
theorem q273 : (Jvm.Cond.classLink "TreePress" (66 : Nat) "TreePress$Parser") ∈ lw_all := lw_g (lw_at lw_m1 142 rfl) rfl
theorem q275 : (Jvm.Cond.methodLink "TreePress" (68 : Nat) ({ cls := "TreePress$Parser", name := "<init>", desc := "([BI)V" } : Jvm.MethodName)) ∈ lw_all := lw_g (lw_at lw_m1 144 rfl) rfl
theorem q312 : (Jvm.Cond.fieldLink "TreePress" (179 : Nat) "TreePress$Parent" "nodes" "Ljava/util/ArrayList;") ∈ lw_all := lw_g (lw_at lw_m1 181 rfl) rfl
theorem q316 : (Jvm.Cond.fieldLink "TreePress" (217 : Nat) "TreePress$Parent" "last" "I") ∈ lw_all := lw_g (lw_at lw_m1 185 rfl) rfl
theorem q324 : (Jvm.Cond.fieldLink "TreePress" (117 : Nat) "TreePress$Node" "number" "I") ∈ lw_all := lw_g (lw_at lw_m1 193 rfl) rfl
theorem q326 : (Jvm.Cond.fieldLink "TreePress" (113 : Nat) "TreePress$Node" "in" "LTreePress$Parent;") ∈ lw_all := lw_g (lw_at lw_m1 195 rfl) rfl
theorem q378 : (Jvm.Cond.selects "TreePress" ({ cls := "java/lang/Object", name := "getClass", desc := "()Ljava/lang/Class;" } : Jvm.MethodName) ({ cls := "java/lang/Object", name := "getClass", desc := "()Ljava/lang/Class;" } : Jvm.MethodName)) ∈ lw_all := lw_g (lw_at lw_m2 7 rfl) rfl
theorem q409 : (Jvm.Cond.fieldLinkNest "TreePress" (236 : Nat) "TreePress$Document" "root" "LTreePress$Parent;" "TreePress") ∈ lw_tbl := lw_at lw_m2 38 rfl
theorem q412 : (Jvm.Cond.fieldLinkNest "TreePress" (85 : Nat) "TreePress$Document" "nodes" "Ljava/util/ArrayList;" "TreePress") ∈ lw_tbl := lw_at lw_m2 41 rfl
theorem q415 : (Jvm.Cond.fieldLinkNest "TreePress" (141 : Nat) "TreePress$Document" "type" "[B" "TreePress") ∈ lw_tbl := lw_at lw_m2 44 rfl
theorem q418 : (Jvm.Cond.fieldLinkNest "TreePress" (325 : Nat) "TreePress$Document" "specs" "Ljava/util/ArrayList;" "TreePress") ∈ lw_tbl := lw_at lw_m2 47 rfl
theorem q421 : (Jvm.Cond.fieldLinkNest "TreePress" (328 : Nat) "TreePress$Document" "rules" "Ljava/util/ArrayList;" "TreePress") ∈ lw_tbl := lw_at lw_m2 50 rfl
theorem q423 : (Jvm.Cond.fieldLinkNest "TreePress" (144 : Nat) "TreePress$Document" "findings" "Ljava/util/ArrayList;" "TreePress") ∈ lw_tbl := lw_at lw_m2 52 rfl
theorem q425 : (Jvm.Cond.fieldLinkNest "TreePress" (331 : Nat) "TreePress$Document" "deep" "I" "TreePress") ∈ lw_tbl := lw_at lw_m2 54 rfl
theorem q471 : (Jvm.Cond.methodLink "TreePress" (71 : Nat) ({ cls := "TreePress$Parser", name := "document", desc := "()LTreePress$Document;" } : Jvm.MethodName)) ∈ lw_all := lw_g (lw_at lw_m2 100 rfl) rfl
theorem q496 : (Jvm.Cond.static ({ cls := "TreePress", name := "isSpace", desc := "(I)Z" } : Jvm.MethodName)) ∈ lw_all := lw_g (lw_at lw_m2 125 rfl) rfl
theorem q497 : (Jvm.Cond.code ({ cls := "TreePress", name := "isSpace", desc := "(I)Z" } : Jvm.MethodName) prog_1_method_1_code (1 : Nat) (Option.some Jvm.ClassFile.FieldType.boolean)) ∈ lw_all := lw_g (lw_at lw_m2 126 rfl) rfl
theorem q626 : (Jvm.Cond.fieldLinkNest "TreePress" (96 : Nat) "TreePress$Fault" "kind" "I" "TreePress") ∈ lw_tbl := lw_at lw_m3 15 rfl
theorem q628 : (Jvm.Cond.fieldLinkNest "TreePress" (95 : Nat) "TreePress$Fault" "place" "I" "TreePress") ∈ lw_tbl := lw_at lw_m3 17 rfl
theorem q647 : (Jvm.Cond.static ({ cls := "TreePress", name := "isChar", desc := "(I)Z" } : Jvm.MethodName)) ∈ lw_all := lw_g (lw_at lw_m3 36 rfl) rfl
theorem q648 : (Jvm.Cond.code ({ cls := "TreePress", name := "isChar", desc := "(I)Z" } : Jvm.MethodName) prog_1_method_2_code (1 : Nat) (Option.some Jvm.ClassFile.FieldType.boolean)) ∈ lw_all := lw_g (lw_at lw_m3 37 rfl) rfl
theorem q649 : (Jvm.Cond.methodLink "TreePress" (1 : Nat) ({ cls := "TreePress", name := "isSpace", desc := "(I)Z" } : Jvm.MethodName)) ∈ lw_all := lw_g (lw_at lw_m3 38 rfl) rfl
theorem q670 : (Jvm.Cond.static ({ cls := "TreePress", name := "isFirst", desc := "(I)Z" } : Jvm.MethodName)) ∈ lw_all := lw_g (lw_at lw_m3 59 rfl) rfl
theorem q671 : (Jvm.Cond.code ({ cls := "TreePress", name := "isFirst", desc := "(I)Z" } : Jvm.MethodName) prog_1_method_3_code (1 : Nat) (Option.some Jvm.ClassFile.FieldType.boolean)) ∈ lw_all := lw_g (lw_at lw_m3 60 rfl) rfl
theorem q679 : (Jvm.Cond.static ({ cls := "TreePress", name := "isToken", desc := "(I)Z" } : Jvm.MethodName)) ∈ lw_all := lw_g (lw_at lw_m3 68 rfl) rfl
theorem q680 : (Jvm.Cond.code ({ cls := "TreePress", name := "isToken", desc := "(I)Z" } : Jvm.MethodName) prog_1_method_4_code (1 : Nat) (Option.some Jvm.ClassFile.FieldType.boolean)) ∈ lw_all := lw_g (lw_at lw_m3 69 rfl) rfl
theorem q681 : (Jvm.Cond.methodLink "TreePress" (7 : Nat) ({ cls := "TreePress", name := "isFirst", desc := "(I)Z" } : Jvm.MethodName)) ∈ lw_all := lw_g (lw_at lw_m3 70 rfl) rfl
theorem q856 : (Jvm.Cond.static ({ cls := "TreePress", name := "isSame", desc := "([B[B)Z" } : Jvm.MethodName)) ∈ lw_all := lw_g (lw_at lw_m4 5 rfl) rfl
theorem q857 : (Jvm.Cond.code ({ cls := "TreePress", name := "isSame", desc := "([B[B)Z" } : Jvm.MethodName) prog_1_method_5_code (4 : Nat) (Option.some Jvm.ClassFile.FieldType.boolean)) ∈ lw_all := lw_g (lw_at lw_m4 6 rfl) rfl
theorem q928 : (Jvm.Cond.fieldLinkNest "TreePress" (194 : Nat) "TreePress$Element" "attributes" "Ljava/util/ArrayList;" "TreePress") ∈ lw_tbl := lw_at lw_m4 77 rfl
theorem q970 : (Jvm.Cond.fieldLinkNest "TreePress" (197 : Nat) "TreePress$Attribute" "name" "[B" "TreePress") ∈ lw_tbl := lw_at lw_m4 119 rfl
theorem q973 : (Jvm.Cond.fieldLinkNest "TreePress" (133 : Nat) "TreePress$Attribute" "given" "Z" "TreePress") ∈ lw_tbl := lw_at lw_m4 122 rfl
theorem q977 : (Jvm.Cond.fieldLink "TreePress" (289 : Nat) "TreePress$Text" "bytes" "[B") ∈ lw_all := lw_g (lw_at lw_m4 126 rfl) rfl
theorem q979 : (Jvm.Cond.fieldLink "TreePress" (302 : Nat) "TreePress$Attribute" "bytes" "[B") ∈ lw_all := lw_g (lw_at lw_m4 128 rfl) rfl
theorem q1059 : (Jvm.Cond.static ({ cls := "TreePress", name := "isName", desc := "([B)Z" } : Jvm.MethodName)) ∈ lw_all := lw_g (lw_at lw_m4 208 rfl) rfl
theorem q1060 : (Jvm.Cond.code ({ cls := "TreePress", name := "isName", desc := "([B)Z" } : Jvm.MethodName) prog_1_method_6_code (3 : Nat) (Option.some Jvm.ClassFile.FieldType.boolean)) ∈ lw_all := lw_g (lw_at lw_m4 209 rfl) rfl
theorem q1061 : (Jvm.Cond.methodLink "TreePress" (10 : Nat) ({ cls := "TreePress", name := "isToken", desc := "(I)Z" } : Jvm.MethodName)) ∈ lw_all := lw_g (lw_at lw_m4 210 rfl) rfl
theorem q1126 : (Jvm.Cond.methodLink "TreePress" (79 : Nat) ({ cls := "java/util/ArrayList", name := "clear", desc := "()V" } : Jvm.MethodName)) ∈ lw_all := lw_g (lw_at lw_m5 35 rfl) rfl
theorem q1130 : (Jvm.Cond.methodLink "TreePress" (90 : Nat) ({ cls := "java/util/ArrayList", name := "size", desc := "()I" } : Jvm.MethodName)) ∈ lw_all := lw_g (lw_at lw_m5 39 rfl) rfl
theorem q1132 : (Jvm.Cond.instanceMethod ({ cls := "TreePress", name := "place", desc := "()I" } : Jvm.MethodName)) ∈ lw_all := lw_g (lw_at lw_m5 41 rfl) rfl
theorem q1133 : (Jvm.Cond.selects "TreePress" ({ cls := "TreePress", name := "place", desc := "()I" } : Jvm.MethodName) ({ cls := "TreePress", name := "place", desc := "()I" } : Jvm.MethodName)) ∈ lw_all := lw_g (lw_at lw_m5 42 rfl) rfl
theorem q1134 : (Jvm.Cond.code ({ cls := "TreePress", name := "place", desc := "()I" } : Jvm.MethodName) prog_1_method_12_code (1 : Nat) (Option.some Jvm.ClassFile.FieldType.int)) ∈ lw_all := lw_g (lw_at lw_m5 43 rfl) rfl
theorem q1136 : (Jvm.Cond.instanceMethod ({ cls := "TreePress", name := "node", desc := "(II)I" } : Jvm.MethodName)) ∈ lw_all := lw_g (lw_at lw_m5 45 rfl) rfl
theorem q1137 : (Jvm.Cond.selects "TreePress" ({ cls := "TreePress", name := "node", desc := "(II)I" } : Jvm.MethodName) ({ cls := "TreePress", name := "node", desc := "(II)I" } : Jvm.MethodName)) ∈ lw_all := lw_g (lw_at lw_m5 46 rfl) rfl
theorem q1138 : (Jvm.Cond.code ({ cls := "TreePress", name := "node", desc := "(II)I" } : Jvm.MethodName) prog_1_method_14_code (5 : Nat) (Option.some Jvm.ClassFile.FieldType.int)) ∈ lw_all := lw_g (lw_at lw_m5 47 rfl) rfl
theorem q1139 : (Jvm.Cond.methodLink "TreePress" (107 : Nat) ({ cls := "TreePress", name := "nodeOf", desc := "(I)LTreePress$Node;" } : Jvm.MethodName)) ∈ lw_all := lw_g (lw_at lw_m5 48 rfl) rfl
theorem q1140 : (Jvm.Cond.privateMethod ({ cls := "TreePress", name := "nodeOf", desc := "(I)LTreePress$Node;" } : Jvm.MethodName)) ∈ lw_tbl := lw_at lw_m5 49 rfl
theorem q1141 : (Jvm.Cond.instanceMethod ({ cls := "TreePress", name := "nodeOf", desc := "(I)LTreePress$Node;" } : Jvm.MethodName)) ∈ lw_all := lw_g (lw_at lw_m5 50 rfl) rfl
theorem q1142 : (Jvm.Cond.code ({ cls := "TreePress", name := "nodeOf", desc := "(I)LTreePress$Node;" } : Jvm.MethodName) prog_1_method_13_code (2 : Nat) (Option.some (Jvm.ClassFile.FieldType.object "TreePress$Node"))) ∈ lw_all := lw_g (lw_at lw_m5 51 rfl) rfl
theorem q1143 : (Jvm.Cond.methodLink "TreePress" (99 : Nat) ({ cls := "TreePress", name := "isIn", desc := "(II)Z" } : Jvm.MethodName)) ∈ lw_all := lw_g (lw_at lw_m5 52 rfl) rfl
theorem q1144 : (Jvm.Cond.static ({ cls := "TreePress", name := "isIn", desc := "(II)Z" } : Jvm.MethodName)) ∈ lw_all := lw_g (lw_at lw_m5 53 rfl) rfl
theorem q1145 : (Jvm.Cond.code ({ cls := "TreePress", name := "isIn", desc := "(II)Z" } : Jvm.MethodName) prog_1_method_8_code (2 : Nat) (Option.some Jvm.ClassFile.FieldType.boolean)) ∈ lw_all := lw_g (lw_at lw_m5 54 rfl) rfl
theorem q1146 : (Jvm.Cond.methodLink "TreePress" (103 : Nat) ({ cls := "java/util/ArrayList", name := "get", desc := "(I)Ljava/lang/Object;" } : Jvm.MethodName)) ∈ lw_all := lw_g (lw_at lw_m5 55 rfl) rfl
theorem q1147 : (Jvm.Cond.methodLink "TreePress" (111 : Nat) ({ cls := "TreePress$Node", name := "kind", desc := "()I" } : Jvm.MethodName)) ∈ lw_all := lw_g (lw_at lw_m5 56 rfl) rfl
theorem q1148 : (Jvm.Cond.methodLink "TreePress" (120 : Nat) ({ cls := "TreePress$Node", name := "name", desc := "()[B" } : Jvm.MethodName)) ∈ lw_all := lw_g (lw_at lw_m5 57 rfl) rfl
theorem q1149 : (Jvm.Cond.methodLink "TreePress" (124 : Nat) ({ cls := "TreePress$Node", name := "size", desc := "()I" } : Jvm.MethodName)) ∈ lw_all := lw_g (lw_at lw_m5 58 rfl) rfl
theorem q1164 : (Jvm.Cond.methodLink "TreePress" (125 : Nat) ({ cls := "TreePress$Node", name := "attributes", desc := "()I" } : Jvm.MethodName)) ∈ lw_all := lw_g (lw_at lw_m5 73 rfl) rfl
theorem q1174 : (Jvm.Cond.methodLink "TreePress" (128 : Nat) ({ cls := "TreePress$Node", name := "within", desc := "()I" } : Jvm.MethodName)) ∈ lw_all := lw_g (lw_at lw_m5 83 rfl) rfl
theorem q1184 : (Jvm.Cond.classLink "TreePress" (131 : Nat) "TreePress$Attribute") ∈ lw_all := lw_g (lw_at lw_m5 93 rfl) rfl
theorem q1186 : (Jvm.Cond.instanceMethod ({ cls := "TreePress", name := "name", desc := "(II)I" } : Jvm.MethodName)) ∈ lw_all := lw_g (lw_at lw_m5 95 rfl) rfl
theorem q1187 : (Jvm.Cond.selects "TreePress" ({ cls := "TreePress", name := "name", desc := "(II)I" } : Jvm.MethodName) ({ cls := "TreePress", name := "name", desc := "(II)I" } : Jvm.MethodName)) ∈ lw_all := lw_g (lw_at lw_m5 96 rfl) rfl
theorem q1188 : (Jvm.Cond.code ({ cls := "TreePress", name := "name", desc := "(II)I" } : Jvm.MethodName) prog_1_method_15_code (4 : Nat) (Option.some Jvm.ClassFile.FieldType.int)) ∈ lw_all := lw_g (lw_at lw_m5 97 rfl) rfl
theorem q1190 : (Jvm.Cond.instanceMethod ({ cls := "TreePress", name := "string", desc := "(II)I" } : Jvm.MethodName)) ∈ lw_all := lw_g (lw_at lw_m5 99 rfl) rfl
theorem q1191 : (Jvm.Cond.selects "TreePress" ({ cls := "TreePress", name := "string", desc := "(II)I" } : Jvm.MethodName) ({ cls := "TreePress", name := "string", desc := "(II)I" } : Jvm.MethodName)) ∈ lw_all := lw_g (lw_at lw_m5 100 rfl) rfl
theorem q1192 : (Jvm.Cond.code ({ cls := "TreePress", name := "string", desc := "(II)I" } : Jvm.MethodName) prog_1_method_16_code (4 : Nat) (Option.some Jvm.ClassFile.FieldType.int)) ∈ lw_all := lw_g (lw_at lw_m5 101 rfl) rfl
theorem q1193 : (Jvm.Cond.methodLink "TreePress" (137 : Nat) ({ cls := "TreePress$Node", name := "at", desc := "(I)I" } : Jvm.MethodName)) ∈ lw_all := lw_g (lw_at lw_m5 102 rfl) rfl
theorem q1206 : (Jvm.Cond.instanceMethod ({ cls := "TreePress", name := "findings", desc := "()I" } : Jvm.MethodName)) ∈ lw_all := lw_g (lw_at lw_m5 115 rfl) rfl
theorem q1207 : (Jvm.Cond.selects "TreePress" ({ cls := "TreePress", name := "findings", desc := "()I" } : Jvm.MethodName) ({ cls := "TreePress", name := "findings", desc := "()I" } : Jvm.MethodName)) ∈ lw_all := lw_g (lw_at lw_m5 116 rfl) rfl
theorem q1208 : (Jvm.Cond.code ({ cls := "TreePress", name := "findings", desc := "()I" } : Jvm.MethodName) prog_1_method_17_code (1 : Nat) (Option.some Jvm.ClassFile.FieldType.int)) ∈ lw_all := lw_g (lw_at lw_m5 117 rfl) rfl
theorem q1210 : (Jvm.Cond.instanceMethod ({ cls := "TreePress", name := "finding", desc := "(II)I" } : Jvm.MethodName)) ∈ lw_all := lw_g (lw_at lw_m5 119 rfl) rfl
theorem q1211 : (Jvm.Cond.selects "TreePress" ({ cls := "TreePress", name := "finding", desc := "(II)I" } : Jvm.MethodName) ({ cls := "TreePress", name := "finding", desc := "(II)I" } : Jvm.MethodName)) ∈ lw_all := lw_g (lw_at lw_m5 120 rfl) rfl
theorem q1212 : (Jvm.Cond.code ({ cls := "TreePress", name := "finding", desc := "(II)I" } : Jvm.MethodName) prog_1_method_18_code (3 : Nat) (Option.some Jvm.ClassFile.FieldType.int)) ∈ lw_all := lw_g (lw_at lw_m5 121 rfl) rfl
theorem q1213 : (Jvm.Cond.methodLink "TreePress" (147 : Nat) ({ cls := "TreePress", name := "findings", desc := "()I" } : Jvm.MethodName)) ∈ lw_all := lw_g (lw_at lw_m5 122 rfl) rfl
theorem q1214 : (Jvm.Cond.classLink "TreePress" (149 : Nat) "[I") ∈ lw_all := lw_g (lw_at lw_m5 123 rfl) rfl
theorem q1216 : (Jvm.Cond.instanceMethod ({ cls := "TreePress", name := "select", desc := "(II)I" } : Jvm.MethodName)) ∈ lw_all := lw_g (lw_at lw_m5 125 rfl) rfl
theorem q1217 : (Jvm.Cond.selects "TreePress" ({ cls := "TreePress", name := "select", desc := "(II)I" } : Jvm.MethodName) ({ cls := "TreePress", name := "select", desc := "(II)I" } : Jvm.MethodName)) ∈ lw_all := lw_g (lw_at lw_m5 126 rfl) rfl
theorem q1218 : (Jvm.Cond.codeWith ({ cls := "TreePress", name := "select", desc := "(II)I" } : Jvm.MethodName) prog_1_method_26_code (6 : Nat) (Option.some Jvm.ClassFile.FieldType.int) [((49 : Nat), (54 : Nat), (57 : Nat), (93 : Nat))]) ∈ lw_all := lw_g (lw_at lw_m5 127 rfl) rfl
theorem q1219 : (Jvm.Cond.classLink "TreePress" (227 : Nat) "TreePress$PathReader") ∈ lw_all := lw_g (lw_at lw_m5 128 rfl) rfl
theorem q1221 : (Jvm.Cond.methodLink "TreePress" (229 : Nat) ({ cls := "TreePress$PathReader", name := "<init>", desc := "([BI)V" } : Jvm.MethodName)) ∈ lw_all := lw_g (lw_at lw_m5 130 rfl) rfl
theorem q1228 : (Jvm.Cond.fieldLinkNest "TreePress" (239 : Nat) "TreePress$PathReader" "steps" "Ljava/util/ArrayList;" "TreePress") ∈ lw_tbl := lw_at lw_m5 137 rfl
theorem q1230 : (Jvm.Cond.fieldLinkNest "TreePress" (233 : Nat) "TreePress$PathReader" "top" "Z" "TreePress") ∈ lw_tbl := lw_at lw_m5 139 rfl
theorem q1239 : (Jvm.Cond.methodLink "TreePress" (230 : Nat) ({ cls := "TreePress$PathReader", name := "path", desc := "()V" } : Jvm.MethodName)) ∈ lw_all := lw_g (lw_at lw_m5 148 rfl) rfl
theorem q1276 : (Jvm.Cond.fieldLinkNest "TreePress" (187 : Nat) "TreePress$Step" "kind" "I" "TreePress") ∈ lw_tbl := lw_at lw_m5 185 rfl
theorem q1278 : (Jvm.Cond.fieldLinkNest "TreePress" (208 : Nat) "TreePress$Step" "deep" "Z" "TreePress") ∈ lw_tbl := lw_at lw_m5 187 rfl
theorem q1280 : (Jvm.Cond.fieldLinkNest "TreePress" (196 : Nat) "TreePress$Step" "name" "[B" "TreePress") ∈ lw_tbl := lw_at lw_m5 189 rfl
theorem q1283 : (Jvm.Cond.fieldLinkNest "TreePress" (198 : Nat) "TreePress$Step" "tests" "Ljava/util/ArrayList;" "TreePress") ∈ lw_tbl := lw_at lw_m5 192 rfl
theorem q1315 : (Jvm.Cond.fieldLinkNest "TreePress" (151 : Nat) "TreePress$Test" "kind" "I" "TreePress") ∈ lw_tbl := lw_at lw_m5 224 rfl
theorem q1317 : (Jvm.Cond.fieldLinkNest "TreePress" (154 : Nat) "TreePress$Test" "place" "I" "TreePress") ∈ lw_tbl := lw_at lw_m5 226 rfl
theorem q1319 : (Jvm.Cond.fieldLinkNest "TreePress" (166 : Nat) "TreePress$Test" "side" "Z" "TreePress") ∈ lw_tbl := lw_at lw_m5 228 rfl
theorem q1321 : (Jvm.Cond.fieldLinkNest "TreePress" (171 : Nat) "TreePress$Test" "name" "[B" "TreePress") ∈ lw_tbl := lw_at lw_m5 230 rfl
theorem q1323 : (Jvm.Cond.fieldLinkNest "TreePress" (155 : Nat) "TreePress$Test" "value" "[B" "TreePress") ∈ lw_tbl := lw_at lw_m5 232 rfl
theorem q1351 : (Jvm.Cond.classLink "TreePress" (188 : Nat) "TreePress$Step") ∈ lw_all := lw_g (lw_at lw_m6 20 rfl) rfl
theorem q1352 : (Jvm.Cond.methodLink "TreePress" (242 : Nat) ({ cls := "TreePress", name := "walk", desc := "(LTreePress$Step;)V" } : Jvm.MethodName)) ∈ lw_all := lw_g (lw_at lw_m6 21 rfl) rfl
theorem q1353 : (Jvm.Cond.privateMethod ({ cls := "TreePress", name := "walk", desc := "(LTreePress$Step;)V" } : Jvm.MethodName)) ∈ lw_tbl := lw_at lw_m6 22 rfl
theorem q1354 : (Jvm.Cond.instanceMethod ({ cls := "TreePress", name := "walk", desc := "(LTreePress$Step;)V" } : Jvm.MethodName)) ∈ lw_all := lw_g (lw_at lw_m6 23 rfl) rfl
theorem q1355 : (Jvm.Cond.code ({ cls := "TreePress", name := "walk", desc := "(LTreePress$Step;)V" } : Jvm.MethodName) prog_1_method_25_code (7 : Nat) (Option.none : Option Jvm.ClassFile.FieldType)) ∈ lw_all := lw_g (lw_at lw_m6 24 rfl) rfl
theorem q1356 : (Jvm.Cond.methodLink "TreePress" (211 : Nat) ({ cls := "java/lang/Math", name := "max", desc := "(II)I" } : Jvm.MethodName)) ∈ lw_all := lw_g (lw_at lw_m6 25 rfl) rfl
theorem q1357 : (Jvm.Cond.classLink "TreePress" (177 : Nat) "TreePress$Parent") ∈ lw_all := lw_g (lw_at lw_m6 26 rfl) rfl
theorem q1358 : (Jvm.Cond.methodLink "TreePress" (220 : Nat) ({ cls := "TreePress", name := "goesOn", desc := "()V" } : Jvm.MethodName)) ∈ lw_all := lw_g (lw_at lw_m6 27 rfl) rfl
theorem q1359 : (Jvm.Cond.privateMethod ({ cls := "TreePress", name := "goesOn", desc := "()V" } : Jvm.MethodName)) ∈ lw_tbl := lw_at lw_m6 28 rfl
theorem q1360 : (Jvm.Cond.instanceMethod ({ cls := "TreePress", name := "goesOn", desc := "()V" } : Jvm.MethodName)) ∈ lw_all := lw_g (lw_at lw_m6 29 rfl) rfl
theorem q1361 : (Jvm.Cond.code ({ cls := "TreePress", name := "goesOn", desc := "()V" } : Jvm.MethodName) prog_1_method_24_code (2 : Nat) (Option.none : Option Jvm.ClassFile.FieldType)) ∈ lw_all := lw_g (lw_at lw_m6 30 rfl) rfl
theorem q1362 : (Jvm.Cond.methodLink "TreePress" (223 : Nat) ({ cls := "TreePress", name := "leads", desc := "(LTreePress$Step;LTreePress$Node;)V" } : Jvm.MethodName)) ∈ lw_all := lw_g (lw_at lw_m6 31 rfl) rfl
theorem q1363 : (Jvm.Cond.privateMethod ({ cls := "TreePress", name := "leads", desc := "(LTreePress$Step;LTreePress$Node;)V" } : Jvm.MethodName)) ∈ lw_tbl := lw_at lw_m6 32 rfl
theorem q1364 : (Jvm.Cond.instanceMethod ({ cls := "TreePress", name := "leads", desc := "(LTreePress$Step;LTreePress$Node;)V" } : Jvm.MethodName)) ∈ lw_all := lw_g (lw_at lw_m6 33 rfl) rfl
theorem q1365 : (Jvm.Cond.code ({ cls := "TreePress", name := "leads", desc := "(LTreePress$Step;LTreePress$Node;)V" } : Jvm.MethodName) prog_1_method_23_code (6 : Nat) (Option.none : Option Jvm.ClassFile.FieldType)) ∈ lw_all := lw_g (lw_at lw_m6 34 rfl) rfl
theorem q1366 : (Jvm.Cond.methodLink "TreePress" (190 : Nat) ({ cls := "TreePress", name := "leadsTo", desc := "(LTreePress$Node;)V" } : Jvm.MethodName)) ∈ lw_all := lw_g (lw_at lw_m6 35 rfl) rfl
theorem q1367 : (Jvm.Cond.privateMethod ({ cls := "TreePress", name := "leadsTo", desc := "(LTreePress$Node;)V" } : Jvm.MethodName)) ∈ lw_tbl := lw_at lw_m6 36 rfl
theorem q1368 : (Jvm.Cond.instanceMethod ({ cls := "TreePress", name := "leadsTo", desc := "(LTreePress$Node;)V" } : Jvm.MethodName)) ∈ lw_all := lw_g (lw_at lw_m6 37 rfl) rfl
theorem q1369 : (Jvm.Cond.code ({ cls := "TreePress", name := "leadsTo", desc := "(LTreePress$Node;)V" } : Jvm.MethodName) prog_1_method_22_code (2 : Nat) (Option.none : Option Jvm.ClassFile.FieldType)) ∈ lw_all := lw_g (lw_at lw_m6 38 rfl) rfl
theorem q1370 : (Jvm.Cond.classLink "TreePress" (169 : Nat) "TreePress$Element") ∈ lw_all := lw_g (lw_at lw_m6 39 rfl) rfl
theorem q1371 : (Jvm.Cond.methodLink "TreePress" (180 : Nat) ({ cls := "TreePress", name := "isSame", desc := "([B[B)Z" } : Jvm.MethodName)) ∈ lw_all := lw_g (lw_at lw_m6 40 rfl) rfl
theorem q1372 : (Jvm.Cond.classLink "TreePress" (152 : Nat) "TreePress$Test") ∈ lw_all := lw_g (lw_at lw_m6 41 rfl) rfl
theorem q1373 : (Jvm.Cond.methodLink "TreePress" (201 : Nat) ({ cls := "TreePress", name := "passes", desc := "(LTreePress$Test;LTreePress$Node;II)Z" } : Jvm.MethodName)) ∈ lw_all := lw_g (lw_at lw_m6 42 rfl) rfl
theorem q1374 : (Jvm.Cond.static ({ cls := "TreePress", name := "passes", desc := "(LTreePress$Test;LTreePress$Node;II)Z" } : Jvm.MethodName)) ∈ lw_all := lw_g (lw_at lw_m6 43 rfl) rfl
theorem q1375 : (Jvm.Cond.code ({ cls := "TreePress", name := "passes", desc := "(LTreePress$Test;LTreePress$Node;II)Z" } : Jvm.MethodName) prog_1_method_20_code (4 : Nat) (Option.some Jvm.ClassFile.FieldType.boolean)) ∈ lw_all := lw_g (lw_at lw_m6 44 rfl) rfl
theorem q1376 : (Jvm.Cond.methodLink "TreePress" (158 : Nat) ({ cls := "TreePress", name := "isString", desc := "(LTreePress$Node;[B)Z" } : Jvm.MethodName)) ∈ lw_all := lw_g (lw_at lw_m6 45 rfl) rfl
theorem q1377 : (Jvm.Cond.static ({ cls := "TreePress", name := "isString", desc := "(LTreePress$Node;[B)Z" } : Jvm.MethodName)) ∈ lw_all := lw_g (lw_at lw_m6 46 rfl) rfl
theorem q1378 : (Jvm.Cond.code ({ cls := "TreePress", name := "isString", desc := "(LTreePress$Node;[B)Z" } : Jvm.MethodName) prog_1_method_19_code (4 : Nat) (Option.some Jvm.ClassFile.FieldType.boolean)) ∈ lw_all := lw_g (lw_at lw_m6 47 rfl) rfl
theorem q1379 : (Jvm.Cond.methodLink "TreePress" (162 : Nat) ({ cls := "TreePress", name := "has", desc := "(LTreePress$Test;LTreePress$Node;)Z" } : Jvm.MethodName)) ∈ lw_all := lw_g (lw_at lw_m6 48 rfl) rfl
theorem q1380 : (Jvm.Cond.static ({ cls := "TreePress", name := "has", desc := "(LTreePress$Test;LTreePress$Node;)Z" } : Jvm.MethodName)) ∈ lw_all := lw_g (lw_at lw_m6 49 rfl) rfl
theorem q1381 : (Jvm.Cond.code ({ cls := "TreePress", name := "has", desc := "(LTreePress$Test;LTreePress$Node;)Z" } : Jvm.MethodName) prog_1_method_21_code (7 : Nat) (Option.some Jvm.ClassFile.FieldType.boolean)) ∈ lw_all := lw_g (lw_at lw_m6 50 rfl) rfl
theorem q1382 : (Jvm.Cond.methodLink "TreePress" (173 : Nat) ({ cls := "TreePress$Element", name := "attribute", desc := "([B)LTreePress$Attribute;" } : Jvm.MethodName)) ∈ lw_all := lw_g (lw_at lw_m6 51 rfl) rfl
theorem q1383 : (Jvm.Cond.methodLink "TreePress" (246 : Nat) ({ cls := "java/lang/System", name := "arraycopy", desc := "(Ljava/lang/Object;ILjava/lang/Object;II)V" } : Jvm.MethodName)) ∈ lw_all := lw_g (lw_at lw_m6 52 rfl) rfl
theorem q1385 : (Jvm.Cond.instanceMethod ({ cls := "TreePress", name := "told", desc := "(I)I" } : Jvm.MethodName)) ∈ lw_all := lw_g (lw_at lw_m6 54 rfl) rfl
theorem q1386 : (Jvm.Cond.selects "TreePress" ({ cls := "TreePress", name := "told", desc := "(I)I" } : Jvm.MethodName) ({ cls := "TreePress", name := "told", desc := "(I)I" } : Jvm.MethodName)) ∈ lw_all := lw_g (lw_at lw_m6 55 rfl) rfl
theorem q1387 : (Jvm.Cond.code ({ cls := "TreePress", name := "told", desc := "(I)I" } : Jvm.MethodName) prog_1_method_27_code (2 : Nat) (Option.some Jvm.ClassFile.FieldType.int)) ∈ lw_all := lw_g (lw_at lw_m6 56 rfl) rfl
theorem q1389 : (Jvm.Cond.instanceMethod ({ cls := "TreePress", name := "set", desc := "(II)I" } : Jvm.MethodName)) ∈ lw_all := lw_g (lw_at lw_m6 58 rfl) rfl
theorem q1390 : (Jvm.Cond.selects "TreePress" ({ cls := "TreePress", name := "set", desc := "(II)I" } : Jvm.MethodName) ({ cls := "TreePress", name := "set", desc := "(II)I" } : Jvm.MethodName)) ∈ lw_all := lw_g (lw_at lw_m6 59 rfl) rfl
theorem q1391 : (Jvm.Cond.code ({ cls := "TreePress", name := "set", desc := "(II)I" } : Jvm.MethodName) prog_1_method_33_code (3 : Nat) (Option.some Jvm.ClassFile.FieldType.int)) ∈ lw_all := lw_g (lw_at lw_m6 60 rfl) rfl
theorem q1392 : (Jvm.Cond.methodLink "TreePress" (306 : Nat) ({ cls := "TreePress", name := "sets", desc := "(LTreePress$Node;)V" } : Jvm.MethodName)) ∈ lw_all := lw_g (lw_at lw_m6 61 rfl) rfl
theorem q1393 : (Jvm.Cond.privateMethod ({ cls := "TreePress", name := "sets", desc := "(LTreePress$Node;)V" } : Jvm.MethodName)) ∈ lw_tbl := lw_at lw_m6 62 rfl
theorem q1394 : (Jvm.Cond.instanceMethod ({ cls := "TreePress", name := "sets", desc := "(LTreePress$Node;)V" } : Jvm.MethodName)) ∈ lw_all := lw_g (lw_at lw_m6 63 rfl) rfl
theorem q1395 : (Jvm.Cond.code ({ cls := "TreePress", name := "sets", desc := "(LTreePress$Node;)V" } : Jvm.MethodName) prog_1_method_31_code (6 : Nat) (Option.none : Option Jvm.ClassFile.FieldType)) ∈ lw_all := lw_g (lw_at lw_m6 64 rfl) rfl
theorem q1396 : (Jvm.Cond.classLink "TreePress" (287 : Nat) "TreePress$Text") ∈ lw_all := lw_g (lw_at lw_m6 65 rfl) rfl
theorem q1397 : (Jvm.Cond.methodLink "TreePress" (284 : Nat) ({ cls := "TreePress", name := "wordEnds", desc := "()V" } : Jvm.MethodName)) ∈ lw_all := lw_g (lw_at lw_m6 66 rfl) rfl
theorem q1398 : (Jvm.Cond.privateMethod ({ cls := "TreePress", name := "wordEnds", desc := "()V" } : Jvm.MethodName)) ∈ lw_tbl := lw_at lw_m6 67 rfl
theorem q1399 : (Jvm.Cond.instanceMethod ({ cls := "TreePress", name := "wordEnds", desc := "()V" } : Jvm.MethodName)) ∈ lw_all := lw_g (lw_at lw_m6 68 rfl) rfl
theorem q1400 : (Jvm.Cond.code ({ cls := "TreePress", name := "wordEnds", desc := "()V" } : Jvm.MethodName) prog_1_method_29_code (3 : Nat) (Option.none : Option Jvm.ClassFile.FieldType)) ∈ lw_all := lw_g (lw_at lw_m6 69 rfl) rfl
theorem q1401 : (Jvm.Cond.methodLink "TreePress" (280 : Nat) ({ cls := "TreePress", name := "puts", desc := "(IIZ)V" } : Jvm.MethodName)) ∈ lw_all := lw_g (lw_at lw_m6 70 rfl) rfl
theorem q1402 : (Jvm.Cond.privateMethod ({ cls := "TreePress", name := "puts", desc := "(IIZ)V" } : Jvm.MethodName)) ∈ lw_tbl := lw_at lw_m6 71 rfl
theorem q1403 : (Jvm.Cond.instanceMethod ({ cls := "TreePress", name := "puts", desc := "(IIZ)V" } : Jvm.MethodName)) ∈ lw_all := lw_g (lw_at lw_m6 72 rfl) rfl
theorem q1404 : (Jvm.Cond.code ({ cls := "TreePress", name := "puts", desc := "(IIZ)V" } : Jvm.MethodName) prog_1_method_28_code (5 : Nat) (Option.none : Option Jvm.ClassFile.FieldType)) ∈ lw_all := lw_g (lw_at lw_m6 73 rfl) rfl
theorem q1405 : (Jvm.Cond.classLink "TreePress" (252 : Nat) "TreePress$Line") ∈ lw_all := lw_g (lw_at lw_m6 74 rfl) rfl
theorem q1407 : (Jvm.Cond.methodLink "TreePress" (257 : Nat) ({ cls := "TreePress$Line", name := "<init>", desc := "(I)V" } : Jvm.MethodName)) ∈ lw_all := lw_g (lw_at lw_m6 76 rfl) rfl
theorem q1412 : (Jvm.Cond.fieldLinkNest "TreePress" (271 : Nat) "TreePress$Line" "bytes" "[B" "TreePress") ∈ lw_tbl := lw_at lw_m6 81 rfl
theorem q1413 : (Jvm.Cond.fieldLinkNest "TreePress" (274 : Nat) "TreePress$Line" "many" "I" "TreePress") ∈ lw_tbl := lw_at lw_m6 82 rfl
theorem q1414 : (Jvm.Cond.fieldLinkNest "TreePress" (316 : Nat) "TreePress$Line" "page" "I" "TreePress") ∈ lw_tbl := lw_at lw_m6 83 rfl
theorem q1415 : (Jvm.Cond.fieldLinkNest "TreePress" (319 : Nat) "TreePress$Line" "row" "I" "TreePress") ∈ lw_tbl := lw_at lw_m6 84 rfl
theorem q1416 : (Jvm.Cond.fieldLinkNest "TreePress" (263 : Nat) "TreePress$Line" "of" "LTreePress$Node;" "TreePress") ∈ lw_tbl := lw_at lw_m6 85 rfl
theorem q1428 : (Jvm.Cond.methodLink "TreePress" (267 : Nat) ({ cls := "java/util/ArrayList", name := "add", desc := "(Ljava/lang/Object;)Z" } : Jvm.MethodName)) ∈ lw_all := lw_g (lw_at lw_m6 97 rfl) rfl
theorem q1429 : (Jvm.Cond.methodLink "TreePress" (290 : Nat) ({ cls := "TreePress$Element", name := "isBlock", desc := "()Z" } : Jvm.MethodName)) ∈ lw_all := lw_g (lw_at lw_m6 98 rfl) rfl
theorem q1433 : (Jvm.Cond.methodLink "TreePress" (294 : Nat) ({ cls := "TreePress", name := "lineEnds", desc := "()V" } : Jvm.MethodName)) ∈ lw_all := lw_g (lw_at lw_m6 102 rfl) rfl
theorem q1434 : (Jvm.Cond.privateMethod ({ cls := "TreePress", name := "lineEnds", desc := "()V" } : Jvm.MethodName)) ∈ lw_tbl := lw_at lw_m6 103 rfl
theorem q1435 : (Jvm.Cond.instanceMethod ({ cls := "TreePress", name := "lineEnds", desc := "()V" } : Jvm.MethodName)) ∈ lw_all := lw_g (lw_at lw_m6 104 rfl) rfl
theorem q1436 : (Jvm.Cond.code ({ cls := "TreePress", name := "lineEnds", desc := "()V" } : Jvm.MethodName) prog_1_method_30_code (1 : Nat) (Option.none : Option Jvm.ClassFile.FieldType)) ∈ lw_all := lw_g (lw_at lw_m6 105 rfl) rfl
theorem q1437 : (Jvm.Cond.fieldLink "TreePress" (297 : Nat) "TreePress" "KEEP" "[B") ∈ lw_all := lw_g (lw_at lw_m6 106 rfl) rfl
theorem q1438 : (Jvm.Cond.laysStatic "TreePress" "KEEP" "[B") ∈ lw_tbl := lw_at lw_m6 107 rfl
theorem q1439 : (Jvm.Cond.classLink "TreePress" (300 : Nat) "TreePress$Block") ∈ lw_all := lw_g (lw_at lw_m6 108 rfl) rfl
theorem q1441 : (Jvm.Cond.methodLink "TreePress" (303 : Nat) ({ cls := "TreePress$Block", name := "<init>", desc := "(IZ)V" } : Jvm.MethodName)) ∈ lw_all := lw_g (lw_at lw_m6 110 rfl) rfl
theorem q1446 : (Jvm.Cond.fieldLinkNest "TreePress" (310 : Nat) "TreePress$Block" "first" "I" "TreePress") ∈ lw_tbl := lw_at lw_m6 115 rfl
theorem q1447 : (Jvm.Cond.fieldLinkNest "TreePress" (309 : Nat) "TreePress$Block" "last" "I" "TreePress") ∈ lw_tbl := lw_at lw_m6 116 rfl
theorem q1449 : (Jvm.Cond.fieldLinkNest "TreePress" (313 : Nat) "TreePress$Block" "keep" "Z" "TreePress") ∈ lw_tbl := lw_at lw_m6 118 rfl
theorem q1457 : (Jvm.Cond.methodLink "TreePress" (322 : Nat) ({ cls := "TreePress", name := "pages", desc := "(I)V" } : Jvm.MethodName)) ∈ lw_all := lw_g (lw_at lw_m6 126 rfl) rfl
theorem q1458 : (Jvm.Cond.privateMethod ({ cls := "TreePress", name := "pages", desc := "(I)V" } : Jvm.MethodName)) ∈ lw_tbl := lw_at lw_m6 127 rfl
theorem q1459 : (Jvm.Cond.instanceMethod ({ cls := "TreePress", name := "pages", desc := "(I)V" } : Jvm.MethodName)) ∈ lw_all := lw_g (lw_at lw_m6 128 rfl) rfl
theorem q1460 : (Jvm.Cond.code ({ cls := "TreePress", name := "pages", desc := "(I)V" } : Jvm.MethodName) prog_1_method_32_code (8 : Nat) (Option.none : Option Jvm.ClassFile.FieldType)) ∈ lw_all := lw_g (lw_at lw_m6 129 rfl) rfl
theorem q1462 : (Jvm.Cond.instanceMethod ({ cls := "TreePress", name := "line", desc := "(II)I" } : Jvm.MethodName)) ∈ lw_all := lw_g (lw_at lw_m6 131 rfl) rfl
theorem q1463 : (Jvm.Cond.selects "TreePress" ({ cls := "TreePress", name := "line", desc := "(II)I" } : Jvm.MethodName) ({ cls := "TreePress", name := "line", desc := "(II)I" } : Jvm.MethodName)) ∈ lw_all := lw_g (lw_at lw_m6 132 rfl) rfl
theorem q1464 : (Jvm.Cond.code ({ cls := "TreePress", name := "line", desc := "(II)I" } : Jvm.MethodName) prog_1_method_34_code (4 : Nat) (Option.some Jvm.ClassFile.FieldType.int)) ∈ lw_all := lw_g (lw_at lw_m6 133 rfl) rfl
theorem q1466 : (Jvm.Cond.instanceMethod ({ cls := "TreePress", name := "at", desc := "(II)I" } : Jvm.MethodName)) ∈ lw_all := lw_g (lw_at lw_m6 135 rfl) rfl
theorem q1467 : (Jvm.Cond.selects "TreePress" ({ cls := "TreePress", name := "at", desc := "(II)I" } : Jvm.MethodName) ({ cls := "TreePress", name := "at", desc := "(II)I" } : Jvm.MethodName)) ∈ lw_all := lw_g (lw_at lw_m6 136 rfl) rfl
theorem q1468 : (Jvm.Cond.code ({ cls := "TreePress", name := "at", desc := "(II)I" } : Jvm.MethodName) prog_1_method_35_code (3 : Nat) (Option.some Jvm.ClassFile.FieldType.int)) ∈ lw_all := lw_g (lw_at lw_m6 137 rfl) rfl
theorem q1470 : (Jvm.Cond.instanceMethod ({ cls := "TreePress", name := "count", desc := "(I)I" } : Jvm.MethodName)) ∈ lw_all := lw_g (lw_at lw_m6 139 rfl) rfl
theorem q1471 : (Jvm.Cond.selects "TreePress" ({ cls := "TreePress", name := "count", desc := "(I)I" } : Jvm.MethodName) ({ cls := "TreePress", name := "count", desc := "(I)I" } : Jvm.MethodName)) ∈ lw_all := lw_g (lw_at lw_m6 140 rfl) rfl
theorem q1472 : (Jvm.Cond.code ({ cls := "TreePress", name := "count", desc := "(I)I" } : Jvm.MethodName) prog_1_method_36_code (2 : Nat) (Option.some Jvm.ClassFile.FieldType.int)) ∈ lw_all := lw_g (lw_at lw_m6 141 rfl) rfl
theorem q2222 : (Jvm.Cond.castable "TreePress" "java/lang/Object") ∈ lw_tbl := lw_at lw_m9 171 rfl
theorem in_X0 : ∀ w ∈ wsX00, w ∈ lw_all := lw_in wsX00 [223, 225, 227, 229, 231, 233, 235, 237, 239, 241, 243, 245, 247, 249, 251, 253, 255, 257] (by decide +kernel) (by decide +kernel)

/-! TreePress$Reader -/
def RX2 : String := "TreePress$Reader"
abbrev cX2_init : ByteArray := prog_13_method_1_code
def yX2_init : MethodName := ⟨RX2, "<init>", "([BI)V"⟩
abbrev cX2_place : ByteArray := prog_13_method_9_code
def yX2_place : MethodName := ⟨RX2, "place", "()I"⟩
abbrev cX2_here : ByteArray := prog_13_method_2_code
def yX2_here : MethodName := ⟨RX2, "here", "()I"⟩
abbrev cX2_goTo : ByteArray := prog_13_method_10_code
def yX2_goTo : MethodName := ⟨RX2, "goTo", "(I)V"⟩
abbrev cX2_isAt : ByteArray := prog_13_method_3_code
def yX2_isAt : MethodName := ⟨RX2, "isAt", "(Ljava/lang/String;)Z"⟩
abbrev cX2_must : ByteArray := prog_13_method_5_code
def yX2_must : MethodName := ⟨RX2, "must", "(Ljava/lang/String;)V"⟩
abbrev cX2_takes : ByteArray := prog_13_method_4_code
def yX2_takes : MethodName := ⟨RX2, "takes", "(Ljava/lang/String;)Z"⟩
abbrev cX2_name : ByteArray := prog_13_method_7_code
def yX2_name : MethodName := ⟨RX2, "name", "()[B"⟩
abbrev cX2_token : ByteArray := prog_13_method_8_code
def yX2_token : MethodName := ⟨RX2, "token", "()[B"⟩
abbrev cX2_cut : ByteArray := prog_13_method_6_code
def yX2_cut : MethodName := ⟨RX2, "cut", "(I)[B"⟩
theorem q137 : (Jvm.Cond.initialized "TreePress$Reader") ∈ lw_all := lw_g (lw_at lw_m1 6 rfl) rfl
theorem q279 : (Jvm.Cond.instanceMethod ({ cls := "TreePress$Reader", name := "<init>", desc := "([BI)V" } : Jvm.MethodName)) ∈ lw_all := lw_g (lw_at lw_m1 148 rfl) rfl
theorem q280 : (Jvm.Cond.code ({ cls := "TreePress$Reader", name := "<init>", desc := "([BI)V" } : Jvm.MethodName) prog_13_method_1_code (3 : Nat) (Option.none : Option Jvm.ClassFile.FieldType)) ∈ lw_all := lw_g (lw_at lw_m1 149 rfl) rfl
theorem q281 : (Jvm.Cond.methodLink "TreePress$Reader" (3 : Nat) ({ cls := "java/lang/Object", name := "<init>", desc := "()V" } : Jvm.MethodName)) ∈ lw_all := lw_g (lw_at lw_m1 150 rfl) rfl
theorem q282 : (Jvm.Cond.methodLink "TreePress$Reader" (15 : Nat) ({ cls := "java/lang/System", name := "arraycopy", desc := "(Ljava/lang/Object;ILjava/lang/Object;II)V" } : Jvm.MethodName)) ∈ lw_all := lw_g (lw_at lw_m1 151 rfl) rfl
theorem q451 : (Jvm.Cond.fieldLink "TreePress$Reader" (9 : Nat) "TreePress$Reader" "text" "[B") ∈ lw_all := lw_g (lw_at lw_m2 80 rfl) rfl
theorem q452 : (Jvm.Cond.fieldLink "TreePress$Reader" (21 : Nat) "TreePress$Reader" "end" "I") ∈ lw_all := lw_g (lw_at lw_m2 81 rfl) rfl
theorem q453 : (Jvm.Cond.fieldLink "TreePress$Reader" (25 : Nat) "TreePress$Reader" "at" "I") ∈ lw_all := lw_g (lw_at lw_m2 82 rfl) rfl
theorem q465 : (Jvm.Cond.soleField "TreePress$Reader" "text") ∈ lw_all := lw_g (lw_at lw_m2 94 rfl) rfl
theorem q467 : (Jvm.Cond.soleField "TreePress$Reader" "end") ∈ lw_all := lw_g (lw_at lw_m2 96 rfl) rfl
theorem q469 : (Jvm.Cond.soleField "TreePress$Reader" "at") ∈ lw_all := lw_g (lw_at lw_m2 98 rfl) rfl
theorem q485 : (Jvm.Cond.declares ({ cls := "TreePress$Reader", name := "place", desc := "()I" } : Jvm.MethodName)) ∈ lw_tbl := lw_at lw_m2 114 rfl
theorem q487 : (Jvm.Cond.instanceMethod ({ cls := "TreePress$Reader", name := "place", desc := "()I" } : Jvm.MethodName)) ∈ lw_all := lw_g (lw_at lw_m2 116 rfl) rfl
theorem q488 : (Jvm.Cond.code ({ cls := "TreePress$Reader", name := "place", desc := "()I" } : Jvm.MethodName) prog_13_method_9_code (1 : Nat) (Option.some Jvm.ClassFile.FieldType.int)) ∈ lw_all := lw_g (lw_at lw_m2 117 rfl) rfl
theorem q491 : (Jvm.Cond.declares ({ cls := "TreePress$Reader", name := "here", desc := "()I" } : Jvm.MethodName)) ∈ lw_tbl := lw_at lw_m2 120 rfl
theorem q493 : (Jvm.Cond.instanceMethod ({ cls := "TreePress$Reader", name := "here", desc := "()I" } : Jvm.MethodName)) ∈ lw_all := lw_g (lw_at lw_m2 122 rfl) rfl
theorem q494 : (Jvm.Cond.code ({ cls := "TreePress$Reader", name := "here", desc := "()I" } : Jvm.MethodName) prog_13_method_2_code (1 : Nat) (Option.some Jvm.ClassFile.FieldType.int)) ∈ lw_all := lw_g (lw_at lw_m2 123 rfl) rfl
theorem q500 : (Jvm.Cond.declares ({ cls := "TreePress$Reader", name := "goTo", desc := "(I)V" } : Jvm.MethodName)) ∈ lw_tbl := lw_at lw_m2 129 rfl
theorem q502 : (Jvm.Cond.instanceMethod ({ cls := "TreePress$Reader", name := "goTo", desc := "(I)V" } : Jvm.MethodName)) ∈ lw_all := lw_g (lw_at lw_m2 131 rfl) rfl
theorem q503 : (Jvm.Cond.code ({ cls := "TreePress$Reader", name := "goTo", desc := "(I)V" } : Jvm.MethodName) prog_13_method_10_code (2 : Nat) (Option.none : Option Jvm.ClassFile.FieldType)) ∈ lw_all := lw_g (lw_at lw_m2 132 rfl) rfl
theorem q507 : (Jvm.Cond.declares ({ cls := "TreePress$Reader", name := "isAt", desc := "(Ljava/lang/String;)Z" } : Jvm.MethodName)) ∈ lw_tbl := lw_at lw_m2 136 rfl
theorem q509 : (Jvm.Cond.instanceMethod ({ cls := "TreePress$Reader", name := "isAt", desc := "(Ljava/lang/String;)Z" } : Jvm.MethodName)) ∈ lw_all := lw_g (lw_at lw_m2 138 rfl) rfl
theorem q510 : (Jvm.Cond.code ({ cls := "TreePress$Reader", name := "isAt", desc := "(Ljava/lang/String;)Z" } : Jvm.MethodName) prog_13_method_3_code (4 : Nat) (Option.some Jvm.ClassFile.FieldType.boolean)) ∈ lw_all := lw_g (lw_at lw_m2 139 rfl) rfl
theorem q511 : (Jvm.Cond.methodLink "TreePress$Reader" (28 : Nat) ({ cls := "java/lang/String", name := "length", desc := "()I" } : Jvm.MethodName)) ∈ lw_all := lw_g (lw_at lw_m2 140 rfl) rfl
theorem q521 : (Jvm.Cond.methodLink "TreePress$Reader" (34 : Nat) ({ cls := "java/lang/String", name := "charAt", desc := "(I)C" } : Jvm.MethodName)) ∈ lw_all := lw_g (lw_at lw_m2 150 rfl) rfl
theorem q565 : (Jvm.Cond.declares ({ cls := "TreePress$Reader", name := "must", desc := "(Ljava/lang/String;)V" } : Jvm.MethodName)) ∈ lw_tbl := lw_at lw_m2 194 rfl
theorem q567 : (Jvm.Cond.instanceMethod ({ cls := "TreePress$Reader", name := "must", desc := "(Ljava/lang/String;)V" } : Jvm.MethodName)) ∈ lw_all := lw_g (lw_at lw_m2 196 rfl) rfl
theorem q568 : (Jvm.Cond.code ({ cls := "TreePress$Reader", name := "must", desc := "(Ljava/lang/String;)V" } : Jvm.MethodName) prog_13_method_5_code (2 : Nat) (Option.none : Option Jvm.ClassFile.FieldType)) ∈ lw_all := lw_g (lw_at lw_m2 197 rfl) rfl
theorem q569 : (Jvm.Cond.methodLink "TreePress$Reader" (42 : Nat) ({ cls := "TreePress$Reader", name := "takes", desc := "(Ljava/lang/String;)Z" } : Jvm.MethodName)) ∈ lw_all := lw_g (lw_at lw_m2 198 rfl) rfl
theorem q570 : (Jvm.Cond.instanceMethod ({ cls := "TreePress$Reader", name := "takes", desc := "(Ljava/lang/String;)Z" } : Jvm.MethodName)) ∈ lw_all := lw_g (lw_at lw_m2 199 rfl) rfl
theorem q571 : (Jvm.Cond.sameMethod "TreePress$Reader" "TreePress$Reader" "takes" "(Ljava/lang/String;)Z") ∈ lw_all := lw_g (lw_at lw_m2 200 rfl) rfl
theorem q574 : (Jvm.Cond.code ({ cls := "TreePress$Reader", name := "takes", desc := "(Ljava/lang/String;)Z" } : Jvm.MethodName) prog_13_method_4_code (2 : Nat) (Option.some Jvm.ClassFile.FieldType.boolean)) ∈ lw_all := lw_g (lw_at lw_m2 203 rfl) rfl
theorem q575 : (Jvm.Cond.methodLink "TreePress$Reader" (38 : Nat) ({ cls := "TreePress$Reader", name := "isAt", desc := "(Ljava/lang/String;)Z" } : Jvm.MethodName)) ∈ lw_all := lw_g (lw_at lw_m2 204 rfl) rfl
theorem q576 : (Jvm.Cond.classLink "TreePress$Reader" (45 : Nat) "TreePress$Fault") ∈ lw_all := lw_g (lw_at lw_m2 205 rfl) rfl
theorem q615 : (Jvm.Cond.methodLink "TreePress$Reader" (47 : Nat) ({ cls := "TreePress$Fault", name := "<init>", desc := "(II)V" } : Jvm.MethodName)) ∈ lw_all := lw_g (lw_at lw_m3 4 rfl) rfl
theorem q664 : (Jvm.Cond.declares ({ cls := "TreePress$Reader", name := "name", desc := "()[B" } : Jvm.MethodName)) ∈ lw_tbl := lw_at lw_m3 53 rfl
theorem q666 : (Jvm.Cond.instanceMethod ({ cls := "TreePress$Reader", name := "name", desc := "()[B" } : Jvm.MethodName)) ∈ lw_all := lw_g (lw_at lw_m3 55 rfl) rfl
theorem q667 : (Jvm.Cond.code ({ cls := "TreePress$Reader", name := "name", desc := "()[B" } : Jvm.MethodName) prog_13_method_7_code (1 : Nat) (Option.some (Jvm.ClassFile.FieldType.array Jvm.ClassFile.FieldType.byte))) ∈ lw_all := lw_g (lw_at lw_m3 56 rfl) rfl
theorem q668 : (Jvm.Cond.methodLink "TreePress$Reader" (50 : Nat) ({ cls := "TreePress$Reader", name := "here", desc := "()I" } : Jvm.MethodName)) ∈ lw_all := lw_g (lw_at lw_m3 57 rfl) rfl
theorem q669 : (Jvm.Cond.methodLinkNest "TreePress$Reader" (53 : Nat) ({ cls := "TreePress", name := "isFirst", desc := "(I)Z" } : Jvm.MethodName) "TreePress") ∈ lw_tbl := lw_at lw_m3 58 rfl
theorem q672 : (Jvm.Cond.methodLink "TreePress$Reader" (57 : Nat) ({ cls := "TreePress$Reader", name := "token", desc := "()[B" } : Jvm.MethodName)) ∈ lw_all := lw_g (lw_at lw_m3 61 rfl) rfl
theorem q673 : (Jvm.Cond.instanceMethod ({ cls := "TreePress$Reader", name := "token", desc := "()[B" } : Jvm.MethodName)) ∈ lw_all := lw_g (lw_at lw_m3 62 rfl) rfl
theorem q674 : (Jvm.Cond.sameMethod "TreePress$Reader" "TreePress$Reader" "token" "()[B") ∈ lw_all := lw_g (lw_at lw_m3 63 rfl) rfl
theorem q677 : (Jvm.Cond.code ({ cls := "TreePress$Reader", name := "token", desc := "()[B" } : Jvm.MethodName) prog_13_method_8_code (2 : Nat) (Option.some (Jvm.ClassFile.FieldType.array Jvm.ClassFile.FieldType.byte))) ∈ lw_all := lw_g (lw_at lw_m3 66 rfl) rfl
theorem q678 : (Jvm.Cond.methodLinkNest "TreePress$Reader" (61 : Nat) ({ cls := "TreePress", name := "isToken", desc := "(I)Z" } : Jvm.MethodName) "TreePress") ∈ lw_tbl := lw_at lw_m3 67 rfl
theorem q682 : (Jvm.Cond.methodLink "TreePress$Reader" (64 : Nat) ({ cls := "TreePress$Reader", name := "cut", desc := "(I)[B" } : Jvm.MethodName)) ∈ lw_all := lw_g (lw_at lw_m3 71 rfl) rfl
theorem q683 : (Jvm.Cond.instanceMethod ({ cls := "TreePress$Reader", name := "cut", desc := "(I)[B" } : Jvm.MethodName)) ∈ lw_all := lw_g (lw_at lw_m3 72 rfl) rfl
theorem q684 : (Jvm.Cond.sameMethod "TreePress$Reader" "TreePress$Reader" "cut" "(I)[B") ∈ lw_all := lw_g (lw_at lw_m3 73 rfl) rfl
theorem q687 : (Jvm.Cond.code ({ cls := "TreePress$Reader", name := "cut", desc := "(I)[B" } : Jvm.MethodName) prog_13_method_6_code (3 : Nat) (Option.some (Jvm.ClassFile.FieldType.array Jvm.ClassFile.FieldType.byte))) ∈ lw_all := lw_g (lw_at lw_m3 76 rfl) rfl
theorem q737 : (Jvm.Cond.declares ({ cls := "TreePress$Reader", name := "takes", desc := "(Ljava/lang/String;)Z" } : Jvm.MethodName)) ∈ lw_tbl := lw_at lw_m3 126 rfl
theorem q873 : (Jvm.Cond.declares ({ cls := "TreePress$Reader", name := "token", desc := "()[B" } : Jvm.MethodName)) ∈ lw_tbl := lw_at lw_m4 22 rfl
theorem q1347 : (Jvm.Cond.declares ({ cls := "TreePress$Reader", name := "cut", desc := "(I)[B" } : Jvm.MethodName)) ∈ lw_tbl := lw_at lw_m6 16 rfl
theorem q2208 : (Jvm.Cond.sameMethod "TreePress$Reader" "TreePress$Reader" "isAt" "(Ljava/lang/String;)Z") ∈ lw_all := lw_g (lw_at lw_m9 157 rfl) rfl
theorem q2212 : (Jvm.Cond.sameMethod "TreePress$Reader" "TreePress$Reader" "here" "()I") ∈ lw_all := lw_g (lw_at lw_m9 161 rfl) rfl

/-! TreePress$Parser -/
def RX3 : String := "TreePress$Parser"
def TX3 : u_T := fun k => match k with
  | 0 => ("TreePress$Reader", "text", "[B", true)
  | 1 => ("TreePress$Reader", "end", "I", true)
  | 2 => ("TreePress$Reader", "at", "I", false)
  | 3 => ("TreePress$Parser", "doc", "LTreePress$Document;", true)
  | 4 => ("TreePress$Parser", "order", "Ljava/util/ArrayList;", true)
  | 5 => ("TreePress$Parser", "pieces", "[B", true)
  | 6 => ("TreePress$Parser", "pieceMany", "I", false)
  | _ => ("TreePress$Parser", "isRef", "Z", false)
def tyX3 : Nat → FieldType := fun k => match k with
  | 0 => .array .byte
  | 1 => .int
  | 2 => .int
  | 3 => .object "TreePress$Document"
  | 4 => .object "java/util/ArrayList"
  | 5 => .array .byte
  | 6 => .int
  | _ => .boolean
abbrev wsX30 : List Cond := u_ws RX3 TX3 8
theorem nmX3 : ∀ a, a < 8 → ∀ b, b < 8 → a ≠ b → (TX3 a).2.1 ≠ (TX3 b).2.1 := by decide +kernel
theorem tyX3_ok : ∀ k, k < 8 → parseFieldDescriptor (TX3 k).2.2.1 = some (tyX3 k) := by decide +kernel
abbrev cX3_init : ByteArray := prog_10_method_1_code
def yX3_init : MethodName := ⟨RX3, "<init>", "([BI)V"⟩
abbrev cX3_document : ByteArray := prog_10_method_6_code
def yX3_document : MethodName := ⟨RX3, "document", "()LTreePress$Document;"⟩
abbrev cX3_misc : ByteArray := prog_10_method_5_code
def yX3_misc : MethodName := ⟨RX3, "misc", "()V"⟩
abbrev cX3_space : ByteArray := prog_10_method_2_code
def yX3_space : MethodName := ⟨RX3, "space", "()Z"⟩
abbrev cX3_comment : ByteArray := prog_10_method_4_code
def yX3_comment : MethodName := ⟨RX3, "comment", "()V"⟩
abbrev cX3_doctype : ByteArray := prog_10_method_7_code
def yX3_doctype : MethodName := ⟨RX3, "doctype", "()V"⟩
abbrev cX3_mustSpace : ByteArray := prog_10_method_3_code
def yX3_mustSpace : MethodName := ⟨RX3, "mustSpace", "()V"⟩
abbrev cX3_specs : ByteArray := prog_10_method_8_code
def yX3_specs : MethodName := ⟨RX3, "specs", "()V"⟩
abbrev cX3_content : ByteArray := prog_10_method_10_code
def yX3_content : MethodName := ⟨RX3, "content", "(LTreePress$Spec;)V"⟩
abbrev cX3_rest : ByteArray := prog_10_method_11_code
def yX3_rest : MethodName := ⟨RX3, "rest", "(LTreePress$Spec;I)LTreePress$Part;"⟩
abbrev cX3_part : ByteArray := prog_10_method_15_code
def yX3_part : MethodName := ⟨RX3, "part", "(LTreePress$Spec;I)LTreePress$Part;"⟩
abbrev cX3_sign : ByteArray := prog_10_method_16_code
def yX3_sign : MethodName := ⟨RX3, "sign", "(LTreePress$Spec;LTreePress$Part;)LTreePress$Part;"⟩
abbrev cX3_joins : ByteArray := prog_10_method_13_code
def yX3_joins : MethodName := ⟨RX3, "joins", "(LTreePress$Spec;JJ)V"⟩
abbrev cX3_nameOf : ByteArray := prog_10_method_9_code
def yX3_nameOf : MethodName := ⟨RX3, "nameOf", "(LTreePress$Spec;)I"⟩
abbrev cX3_either : ByteArray := prog_10_method_12_code
def yX3_either : MethodName := ⟨RX3, "either", "(LTreePress$Part;LTreePress$Part;)V"⟩
abbrev cX3_behind : ByteArray := prog_10_method_14_code
def yX3_behind : MethodName := ⟨RX3, "behind", "(LTreePress$Spec;LTreePress$Part;LTreePress$Part;)V"⟩
abbrev cX3_rules : ByteArray := prog_10_method_18_code
def yX3_rules : MethodName := ⟨RX3, "rules", "()V"⟩
abbrev cX3_isNameBehind : ByteArray := prog_10_method_17_code
def yX3_isNameBehind : MethodName := ⟨RX3, "isNameBehind", "()Z"⟩
abbrev cX3_type : ByteArray := prog_10_method_19_code
def yX3_type : MethodName := ⟨RX3, "type", "(LTreePress$Rule;)V"⟩
abbrev cX3_how : ByteArray := prog_10_method_20_code
def yX3_how : MethodName := ⟨RX3, "how", "(LTreePress$Rule;)V"⟩
abbrev cX3_value : ByteArray := prog_10_method_25_code
def yX3_value : MethodName := ⟨RX3, "value", "()[B"⟩
abbrev cX3_piece : ByteArray := prog_10_method_21_code
def yX3_piece : MethodName := ⟨RX3, "piece", "()I"⟩
abbrev cX3_ref : ByteArray := prog_10_method_22_code
def yX3_ref : MethodName := ⟨RX3, "ref", "()I"⟩
abbrev cX3_keep : ByteArray := prog_10_method_23_code
def yX3_keep : MethodName := ⟨RX3, "keep", "(II)V"⟩
abbrev cX3_kept : ByteArray := prog_10_method_24_code
def yX3_kept : MethodName := ⟨RX3, "kept", "(I)[B"⟩
abbrev cX3_element : ByteArray := prog_10_method_27_code
def yX3_element : MethodName := ⟨RX3, "element", "(LTreePress$Parent;I)V"⟩
abbrev cX3_add : ByteArray := prog_10_method_26_code
def yX3_add : MethodName := ⟨RX3, "add", "(LTreePress$Node;LTreePress$Parent;I)V"⟩
abbrev cX3_attribute : ByteArray := prog_10_method_28_code
def yX3_attribute : MethodName := ⟨RX3, "attribute", "(LTreePress$Element;)V"⟩
abbrev cX3_byDefault : ByteArray := prog_10_method_29_code
def yX3_byDefault : MethodName := ⟨RX3, "byDefault", "(LTreePress$Element;I)V"⟩
abbrev cX3_inside : ByteArray := prog_10_method_30_code
def yX3_inside : MethodName := ⟨RX3, "inside", "(LTreePress$Element;I)V"⟩
abbrev cX3_text : ByteArray := prog_10_method_31_code
def yX3_text : MethodName := ⟨RX3, "text", "(LTreePress$Element;)V"⟩
theorem q138 : (Jvm.Cond.initialized "TreePress$Parser") ∈ lw_all := lw_g (lw_at lw_m1 7 rfl) rfl
theorem q274 : (Jvm.Cond.instantiable "TreePress$Parser" (8 : Nat)) ∈ lw_all := lw_g (lw_at lw_m1 143 rfl) rfl
theorem q276 : (Jvm.Cond.instanceMethod ({ cls := "TreePress$Parser", name := "<init>", desc := "([BI)V" } : Jvm.MethodName)) ∈ lw_all := lw_g (lw_at lw_m1 145 rfl) rfl
theorem q277 : (Jvm.Cond.code ({ cls := "TreePress$Parser", name := "<init>", desc := "([BI)V" } : Jvm.MethodName) prog_10_method_1_code (3 : Nat) (Option.none : Option Jvm.ClassFile.FieldType)) ∈ lw_all := lw_g (lw_at lw_m1 146 rfl) rfl
theorem q278 : (Jvm.Cond.methodLink "TreePress$Parser" (3 : Nat) ({ cls := "TreePress$Reader", name := "<init>", desc := "([BI)V" } : Jvm.MethodName)) ∈ lw_all := lw_g (lw_at lw_m1 147 rfl) rfl
theorem q285 : (Jvm.Cond.classLink "TreePress$Parser" (9 : Nat) "TreePress$Document") ∈ lw_all := lw_g (lw_at lw_m1 154 rfl) rfl
theorem q287 : (Jvm.Cond.methodLink "TreePress$Parser" (11 : Nat) ({ cls := "TreePress$Document", name := "<init>", desc := "()V" } : Jvm.MethodName)) ∈ lw_all := lw_g (lw_at lw_m1 156 rfl) rfl
theorem q313 : (Jvm.Cond.fieldLink "TreePress$Parser" (330 : Nat) "TreePress$Parent" "nodes" "Ljava/util/ArrayList;") ∈ lw_all := lw_g (lw_at lw_m1 182 rfl) rfl
theorem q314 : (Jvm.Cond.fieldLink "TreePress$Parser" (378 : Nat) "TreePress$Element" "nodes" "Ljava/util/ArrayList;") ∈ lw_all := lw_g (lw_at lw_m1 183 rfl) rfl
theorem q315 : (Jvm.Cond.fieldLink "TreePress$Parser" (97 : Nat) "TreePress$Parent" "last" "I") ∈ lw_all := lw_g (lw_at lw_m1 184 rfl) rfl
theorem q317 : (Jvm.Cond.fieldLink "TreePress$Parser" (350 : Nat) "TreePress$Element" "last" "I") ∈ lw_all := lw_g (lw_at lw_m1 186 rfl) rfl
theorem q386 : (Jvm.Cond.selects "TreePress$Parser" ({ cls := "java/lang/Object", name := "getClass", desc := "()Ljava/lang/Class;" } : Jvm.MethodName) ({ cls := "java/lang/Object", name := "getClass", desc := "()Ljava/lang/Class;" } : Jvm.MethodName)) ∈ lw_all := lw_g (lw_at lw_m2 15 rfl) rfl
theorem q408 : (Jvm.Cond.fieldLinkNest "TreePress$Parser" (83 : Nat) "TreePress$Document" "root" "LTreePress$Parent;" "TreePress") ∈ lw_tbl := lw_at lw_m2 37 rfl
theorem q411 : (Jvm.Cond.fieldLinkNest "TreePress$Parser" (91 : Nat) "TreePress$Document" "nodes" "Ljava/util/ArrayList;" "TreePress") ∈ lw_tbl := lw_at lw_m2 40 rfl
theorem q413 : (Jvm.Cond.fieldLinkNest "TreePress$Parser" (103 : Nat) "TreePress$Document" "type" "[B" "TreePress") ∈ lw_tbl := lw_at lw_m2 42 rfl
theorem q417 : (Jvm.Cond.fieldLinkNest "TreePress$Parser" (131 : Nat) "TreePress$Document" "specs" "Ljava/util/ArrayList;" "TreePress") ∈ lw_tbl := lw_at lw_m2 46 rfl
theorem q420 : (Jvm.Cond.fieldLinkNest "TreePress$Parser" (224 : Nat) "TreePress$Document" "rules" "Ljava/util/ArrayList;" "TreePress") ∈ lw_tbl := lw_at lw_m2 49 rfl
theorem q424 : (Jvm.Cond.fieldLinkNest "TreePress$Parser" (331 : Nat) "TreePress$Document" "deep" "I" "TreePress") ∈ lw_tbl := lw_at lw_m2 53 rfl
theorem q444 : (Jvm.Cond.classLink "TreePress$Parser" (20 : Nat) "java/util/ArrayList") ∈ lw_all := lw_g (lw_at lw_m2 73 rfl) rfl
theorem q445 : (Jvm.Cond.methodLink "TreePress$Parser" (22 : Nat) ({ cls := "java/util/ArrayList", name := "<init>", desc := "()V" } : Jvm.MethodName)) ∈ lw_all := lw_g (lw_at lw_m2 74 rfl) rfl
theorem q446 : (Jvm.Cond.fieldLink "TreePress$Parser" (14 : Nat) "TreePress$Parser" "doc" "LTreePress$Document;") ∈ lw_all := lw_g (lw_at lw_m2 75 rfl) rfl
theorem q447 : (Jvm.Cond.fieldLink "TreePress$Parser" (23 : Nat) "TreePress$Parser" "order" "Ljava/util/ArrayList;") ∈ lw_all := lw_g (lw_at lw_m2 76 rfl) rfl
theorem q448 : (Jvm.Cond.fieldLink "TreePress$Parser" (27 : Nat) "TreePress$Parser" "pieces" "[B") ∈ lw_all := lw_g (lw_at lw_m2 77 rfl) rfl
theorem q449 : (Jvm.Cond.fieldLink "TreePress$Parser" (300 : Nat) "TreePress$Parser" "pieceMany" "I") ∈ lw_all := lw_g (lw_at lw_m2 78 rfl) rfl
theorem q450 : (Jvm.Cond.fieldLink "TreePress$Parser" (280 : Nat) "TreePress$Parser" "isRef" "Z") ∈ lw_all := lw_g (lw_at lw_m2 79 rfl) rfl
theorem q454 : (Jvm.Cond.laysFinal "TreePress$Parser" "TreePress$Parser" "doc" "LTreePress$Document;") ∈ lw_all := lw_g (lw_at lw_m2 83 rfl) rfl
theorem q455 : (Jvm.Cond.soleField "TreePress$Parser" "doc") ∈ lw_all := lw_g (lw_at lw_m2 84 rfl) rfl
theorem q456 : (Jvm.Cond.laysFinal "TreePress$Parser" "TreePress$Parser" "order" "Ljava/util/ArrayList;") ∈ lw_all := lw_g (lw_at lw_m2 85 rfl) rfl
theorem q457 : (Jvm.Cond.soleField "TreePress$Parser" "order") ∈ lw_all := lw_g (lw_at lw_m2 86 rfl) rfl
theorem q458 : (Jvm.Cond.laysFinal "TreePress$Parser" "TreePress$Parser" "pieces" "[B") ∈ lw_all := lw_g (lw_at lw_m2 87 rfl) rfl
theorem q459 : (Jvm.Cond.soleField "TreePress$Parser" "pieces") ∈ lw_all := lw_g (lw_at lw_m2 88 rfl) rfl
theorem q460 : (Jvm.Cond.lays "TreePress$Parser" "TreePress$Parser" "pieceMany" "I") ∈ lw_all := lw_g (lw_at lw_m2 89 rfl) rfl
theorem q461 : (Jvm.Cond.soleField "TreePress$Parser" "pieceMany") ∈ lw_all := lw_g (lw_at lw_m2 90 rfl) rfl
theorem q462 : (Jvm.Cond.lays "TreePress$Parser" "TreePress$Parser" "isRef" "Z") ∈ lw_all := lw_g (lw_at lw_m2 91 rfl) rfl
theorem q463 : (Jvm.Cond.soleField "TreePress$Parser" "isRef") ∈ lw_all := lw_g (lw_at lw_m2 92 rfl) rfl
theorem q464 : (Jvm.Cond.laysFinal "TreePress$Parser" "TreePress$Reader" "text" "[B") ∈ lw_all := lw_g (lw_at lw_m2 93 rfl) rfl
theorem q466 : (Jvm.Cond.laysFinal "TreePress$Parser" "TreePress$Reader" "end" "I") ∈ lw_all := lw_g (lw_at lw_m2 95 rfl) rfl
theorem q468 : (Jvm.Cond.lays "TreePress$Parser" "TreePress$Reader" "at" "I") ∈ lw_all := lw_g (lw_at lw_m2 97 rfl) rfl
theorem q470 : (Jvm.Cond.superclass "TreePress$Parser" "TreePress$Reader") ∈ lw_all := lw_g (lw_at lw_m2 99 rfl) rfl
theorem q472 : (Jvm.Cond.instanceMethod ({ cls := "TreePress$Parser", name := "document", desc := "()LTreePress$Document;" } : Jvm.MethodName)) ∈ lw_all := lw_g (lw_at lw_m2 101 rfl) rfl
theorem q473 : (Jvm.Cond.selects "TreePress$Parser" ({ cls := "TreePress$Parser", name := "document", desc := "()LTreePress$Document;" } : Jvm.MethodName) ({ cls := "TreePress$Parser", name := "document", desc := "()LTreePress$Document;" } : Jvm.MethodName)) ∈ lw_all := lw_g (lw_at lw_m2 102 rfl) rfl
theorem q474 : (Jvm.Cond.code ({ cls := "TreePress$Parser", name := "document", desc := "()LTreePress$Document;" } : Jvm.MethodName) prog_10_method_6_code (1 : Nat) (Option.some (Jvm.ClassFile.FieldType.object "TreePress$Document"))) ∈ lw_all := lw_g (lw_at lw_m2 103 rfl) rfl
theorem q475 : (Jvm.Cond.methodLink "TreePress$Parser" (75 : Nat) ({ cls := "TreePress$Parser", name := "misc", desc := "()V" } : Jvm.MethodName)) ∈ lw_all := lw_g (lw_at lw_m2 104 rfl) rfl
theorem q476 : (Jvm.Cond.privateMethod ({ cls := "TreePress$Parser", name := "misc", desc := "()V" } : Jvm.MethodName)) ∈ lw_tbl := lw_at lw_m2 105 rfl
theorem q477 : (Jvm.Cond.instanceMethod ({ cls := "TreePress$Parser", name := "misc", desc := "()V" } : Jvm.MethodName)) ∈ lw_all := lw_g (lw_at lw_m2 106 rfl) rfl
theorem q478 : (Jvm.Cond.code ({ cls := "TreePress$Parser", name := "misc", desc := "()V" } : Jvm.MethodName) prog_10_method_5_code (2 : Nat) (Option.none : Option Jvm.ClassFile.FieldType)) ∈ lw_all := lw_g (lw_at lw_m2 107 rfl) rfl
theorem q479 : (Jvm.Cond.methodLink "TreePress$Parser" (46 : Nat) ({ cls := "TreePress$Parser", name := "space", desc := "()Z" } : Jvm.MethodName)) ∈ lw_all := lw_g (lw_at lw_m2 108 rfl) rfl
theorem q480 : (Jvm.Cond.privateMethod ({ cls := "TreePress$Parser", name := "space", desc := "()Z" } : Jvm.MethodName)) ∈ lw_tbl := lw_at lw_m2 109 rfl
theorem q481 : (Jvm.Cond.instanceMethod ({ cls := "TreePress$Parser", name := "space", desc := "()Z" } : Jvm.MethodName)) ∈ lw_all := lw_g (lw_at lw_m2 110 rfl) rfl
theorem q482 : (Jvm.Cond.code ({ cls := "TreePress$Parser", name := "space", desc := "()Z" } : Jvm.MethodName) prog_10_method_2_code (2 : Nat) (Option.some Jvm.ClassFile.FieldType.boolean)) ∈ lw_all := lw_g (lw_at lw_m2 111 rfl) rfl
theorem q483 : (Jvm.Cond.methodLink "TreePress$Parser" (31 : Nat) ({ cls := "TreePress$Parser", name := "place", desc := "()I" } : Jvm.MethodName)) ∈ lw_all := lw_g (lw_at lw_m2 112 rfl) rfl
theorem q484 : (Jvm.Cond.sameMethod "TreePress$Parser" "TreePress$Reader" "place" "()I") ∈ lw_all := lw_g (lw_at lw_m2 113 rfl) rfl
theorem q486 : (Jvm.Cond.selects "TreePress$Parser" ({ cls := "TreePress$Parser", name := "place", desc := "()I" } : Jvm.MethodName) ({ cls := "TreePress$Reader", name := "place", desc := "()I" } : Jvm.MethodName)) ∈ lw_all := lw_g (lw_at lw_m2 115 rfl) rfl
theorem q489 : (Jvm.Cond.methodLink "TreePress$Parser" (35 : Nat) ({ cls := "TreePress$Parser", name := "here", desc := "()I" } : Jvm.MethodName)) ∈ lw_all := lw_g (lw_at lw_m2 118 rfl) rfl
theorem q490 : (Jvm.Cond.sameMethod "TreePress$Parser" "TreePress$Reader" "here" "()I") ∈ lw_all := lw_g (lw_at lw_m2 119 rfl) rfl
theorem q492 : (Jvm.Cond.selects "TreePress$Parser" ({ cls := "TreePress$Parser", name := "here", desc := "()I" } : Jvm.MethodName) ({ cls := "TreePress$Reader", name := "here", desc := "()I" } : Jvm.MethodName)) ∈ lw_all := lw_g (lw_at lw_m2 121 rfl) rfl
theorem q495 : (Jvm.Cond.methodLinkNest "TreePress$Parser" (38 : Nat) ({ cls := "TreePress", name := "isSpace", desc := "(I)Z" } : Jvm.MethodName) "TreePress") ∈ lw_tbl := lw_at lw_m2 124 rfl
theorem q498 : (Jvm.Cond.methodLink "TreePress$Parser" (42 : Nat) ({ cls := "TreePress$Parser", name := "goTo", desc := "(I)V" } : Jvm.MethodName)) ∈ lw_all := lw_g (lw_at lw_m2 127 rfl) rfl
theorem q499 : (Jvm.Cond.sameMethod "TreePress$Parser" "TreePress$Reader" "goTo" "(I)V") ∈ lw_all := lw_g (lw_at lw_m2 128 rfl) rfl
theorem q501 : (Jvm.Cond.selects "TreePress$Parser" ({ cls := "TreePress$Parser", name := "goTo", desc := "(I)V" } : Jvm.MethodName) ({ cls := "TreePress$Reader", name := "goTo", desc := "(I)V" } : Jvm.MethodName)) ∈ lw_all := lw_g (lw_at lw_m2 130 rfl) rfl
theorem q504 : (Jvm.Cond.stringRef "TreePress$Parser" (55 : Nat) "<!--") ∈ lw_tbl := lw_at lw_m2 133 rfl
theorem q505 : (Jvm.Cond.methodLink "TreePress$Parser" (63 : Nat) ({ cls := "TreePress$Parser", name := "isAt", desc := "(Ljava/lang/String;)Z" } : Jvm.MethodName)) ∈ lw_all := lw_g (lw_at lw_m2 134 rfl) rfl
theorem q506 : (Jvm.Cond.sameMethod "TreePress$Parser" "TreePress$Reader" "isAt" "(Ljava/lang/String;)Z") ∈ lw_all := lw_g (lw_at lw_m2 135 rfl) rfl
theorem q508 : (Jvm.Cond.selects "TreePress$Parser" ({ cls := "TreePress$Parser", name := "isAt", desc := "(Ljava/lang/String;)Z" } : Jvm.MethodName) ({ cls := "TreePress$Reader", name := "isAt", desc := "(Ljava/lang/String;)Z" } : Jvm.MethodName)) ∈ lw_all := lw_g (lw_at lw_m2 137 rfl) rfl
theorem q559 : (Jvm.Cond.methodLink "TreePress$Parser" (72 : Nat) ({ cls := "TreePress$Parser", name := "comment", desc := "()V" } : Jvm.MethodName)) ∈ lw_all := lw_g (lw_at lw_m2 188 rfl) rfl
theorem q560 : (Jvm.Cond.privateMethod ({ cls := "TreePress$Parser", name := "comment", desc := "()V" } : Jvm.MethodName)) ∈ lw_tbl := lw_at lw_m2 189 rfl
theorem q561 : (Jvm.Cond.instanceMethod ({ cls := "TreePress$Parser", name := "comment", desc := "()V" } : Jvm.MethodName)) ∈ lw_all := lw_g (lw_at lw_m2 190 rfl) rfl
theorem q562 : (Jvm.Cond.code ({ cls := "TreePress$Parser", name := "comment", desc := "()V" } : Jvm.MethodName) prog_10_method_4_code (1 : Nat) (Option.none : Option Jvm.ClassFile.FieldType)) ∈ lw_all := lw_g (lw_at lw_m2 191 rfl) rfl
theorem q563 : (Jvm.Cond.methodLink "TreePress$Parser" (57 : Nat) ({ cls := "TreePress$Parser", name := "must", desc := "(Ljava/lang/String;)V" } : Jvm.MethodName)) ∈ lw_all := lw_g (lw_at lw_m2 192 rfl) rfl
theorem q564 : (Jvm.Cond.sameMethod "TreePress$Parser" "TreePress$Reader" "must" "(Ljava/lang/String;)V") ∈ lw_all := lw_g (lw_at lw_m2 193 rfl) rfl
theorem q566 : (Jvm.Cond.selects "TreePress$Parser" ({ cls := "TreePress$Parser", name := "must", desc := "(Ljava/lang/String;)V" } : Jvm.MethodName) ({ cls := "TreePress$Reader", name := "must", desc := "(Ljava/lang/String;)V" } : Jvm.MethodName)) ∈ lw_all := lw_g (lw_at lw_m2 195 rfl) rfl
theorem q572 : (Jvm.Cond.selects "TreePress$Parser" ({ cls := "TreePress$Reader", name := "takes", desc := "(Ljava/lang/String;)Z" } : Jvm.MethodName) ({ cls := "TreePress$Reader", name := "takes", desc := "(Ljava/lang/String;)Z" } : Jvm.MethodName)) ∈ lw_all := lw_g (lw_at lw_m2 201 rfl) rfl
theorem q645 : (Jvm.Cond.stringRef "TreePress$Parser" (61 : Nat) "--") ∈ lw_tbl := lw_at lw_m3 34 rfl
theorem q646 : (Jvm.Cond.methodLinkNest "TreePress$Parser" (67 : Nat) ({ cls := "TreePress", name := "isChar", desc := "(I)Z" } : Jvm.MethodName) "TreePress") ∈ lw_tbl := lw_at lw_m3 35 rfl
theorem q650 : (Jvm.Cond.classLink "TreePress$Parser" (50 : Nat) "TreePress$Fault") ∈ lw_all := lw_g (lw_at lw_m3 39 rfl) rfl
theorem q651 : (Jvm.Cond.methodLink "TreePress$Parser" (52 : Nat) ({ cls := "TreePress$Fault", name := "<init>", desc := "(II)V" } : Jvm.MethodName)) ∈ lw_all := lw_g (lw_at lw_m3 40 rfl) rfl
theorem q652 : (Jvm.Cond.stringRef "TreePress$Parser" (70 : Nat) ">") ∈ lw_tbl := lw_at lw_m3 41 rfl
theorem q653 : (Jvm.Cond.stringRef "TreePress$Parser" (78 : Nat) "<!DOCTYPE") ∈ lw_tbl := lw_at lw_m3 42 rfl
theorem q654 : (Jvm.Cond.methodLink "TreePress$Parser" (80 : Nat) ({ cls := "TreePress$Parser", name := "doctype", desc := "()V" } : Jvm.MethodName)) ∈ lw_all := lw_g (lw_at lw_m3 43 rfl) rfl
theorem q655 : (Jvm.Cond.privateMethod ({ cls := "TreePress$Parser", name := "doctype", desc := "()V" } : Jvm.MethodName)) ∈ lw_tbl := lw_at lw_m3 44 rfl
theorem q656 : (Jvm.Cond.instanceMethod ({ cls := "TreePress$Parser", name := "doctype", desc := "()V" } : Jvm.MethodName)) ∈ lw_all := lw_g (lw_at lw_m3 45 rfl) rfl
theorem q657 : (Jvm.Cond.code ({ cls := "TreePress$Parser", name := "doctype", desc := "()V" } : Jvm.MethodName) prog_10_method_7_code (1 : Nat) (Option.none : Option Jvm.ClassFile.FieldType)) ∈ lw_all := lw_g (lw_at lw_m3 46 rfl) rfl
theorem q658 : (Jvm.Cond.methodLink "TreePress$Parser" (110 : Nat) ({ cls := "TreePress$Parser", name := "mustSpace", desc := "()V" } : Jvm.MethodName)) ∈ lw_all := lw_g (lw_at lw_m3 47 rfl) rfl
theorem q659 : (Jvm.Cond.privateMethod ({ cls := "TreePress$Parser", name := "mustSpace", desc := "()V" } : Jvm.MethodName)) ∈ lw_tbl := lw_at lw_m3 48 rfl
theorem q660 : (Jvm.Cond.instanceMethod ({ cls := "TreePress$Parser", name := "mustSpace", desc := "()V" } : Jvm.MethodName)) ∈ lw_all := lw_g (lw_at lw_m3 49 rfl) rfl
theorem q661 : (Jvm.Cond.code ({ cls := "TreePress$Parser", name := "mustSpace", desc := "()V" } : Jvm.MethodName) prog_10_method_3_code (1 : Nat) (Option.none : Option Jvm.ClassFile.FieldType)) ∈ lw_all := lw_g (lw_at lw_m3 50 rfl) rfl
theorem q662 : (Jvm.Cond.methodLink "TreePress$Parser" (113 : Nat) ({ cls := "TreePress$Parser", name := "name", desc := "()[B" } : Jvm.MethodName)) ∈ lw_all := lw_g (lw_at lw_m3 51 rfl) rfl
theorem q663 : (Jvm.Cond.sameMethod "TreePress$Parser" "TreePress$Reader" "name" "()[B") ∈ lw_all := lw_g (lw_at lw_m3 52 rfl) rfl
theorem q665 : (Jvm.Cond.selects "TreePress$Parser" ({ cls := "TreePress$Parser", name := "name", desc := "()[B" } : Jvm.MethodName) ({ cls := "TreePress$Reader", name := "name", desc := "()[B" } : Jvm.MethodName)) ∈ lw_all := lw_g (lw_at lw_m3 54 rfl) rfl
theorem q675 : (Jvm.Cond.selects "TreePress$Parser" ({ cls := "TreePress$Reader", name := "token", desc := "()[B" } : Jvm.MethodName) ({ cls := "TreePress$Reader", name := "token", desc := "()[B" } : Jvm.MethodName)) ∈ lw_all := lw_g (lw_at lw_m3 64 rfl) rfl
theorem q685 : (Jvm.Cond.selects "TreePress$Parser" ({ cls := "TreePress$Reader", name := "cut", desc := "(I)[B" } : Jvm.MethodName) ({ cls := "TreePress$Reader", name := "cut", desc := "(I)[B" } : Jvm.MethodName)) ∈ lw_all := lw_g (lw_at lw_m3 74 rfl) rfl
theorem q688 : (Jvm.Cond.stringRef "TreePress$Parser" (117 : Nat) "[") ∈ lw_tbl := lw_at lw_m3 77 rfl
theorem q689 : (Jvm.Cond.stringRef "TreePress$Parser" (119 : Nat) "]") ∈ lw_tbl := lw_at lw_m3 78 rfl
theorem q690 : (Jvm.Cond.stringRef "TreePress$Parser" (121 : Nat) "<!ELEMENT") ∈ lw_tbl := lw_at lw_m3 79 rfl
theorem q691 : (Jvm.Cond.methodLink "TreePress$Parser" (123 : Nat) ({ cls := "TreePress$Parser", name := "specs", desc := "()V" } : Jvm.MethodName)) ∈ lw_all := lw_g (lw_at lw_m3 80 rfl) rfl
theorem q692 : (Jvm.Cond.privateMethod ({ cls := "TreePress$Parser", name := "specs", desc := "()V" } : Jvm.MethodName)) ∈ lw_tbl := lw_at lw_m3 81 rfl
theorem q693 : (Jvm.Cond.instanceMethod ({ cls := "TreePress$Parser", name := "specs", desc := "()V" } : Jvm.MethodName)) ∈ lw_all := lw_g (lw_at lw_m3 82 rfl) rfl
theorem q694 : (Jvm.Cond.code ({ cls := "TreePress$Parser", name := "specs", desc := "()V" } : Jvm.MethodName) prog_10_method_8_code (2 : Nat) (Option.none : Option Jvm.ClassFile.FieldType)) ∈ lw_all := lw_g (lw_at lw_m3 83 rfl) rfl
theorem q695 : (Jvm.Cond.methodLink "TreePress$Parser" (94 : Nat) ({ cls := "java/util/ArrayList", name := "size", desc := "()I" } : Jvm.MethodName)) ∈ lw_all := lw_g (lw_at lw_m3 84 rfl) rfl
theorem q696 : (Jvm.Cond.classLink "TreePress$Parser" (133 : Nat) "TreePress$Spec") ∈ lw_all := lw_g (lw_at lw_m3 85 rfl) rfl
theorem q698 : (Jvm.Cond.methodLink "TreePress$Parser" (135 : Nat) ({ cls := "TreePress$Spec", name := "<init>", desc := "([B)V" } : Jvm.MethodName)) ∈ lw_all := lw_g (lw_at lw_m3 87 rfl) rfl
theorem q707 : (Jvm.Cond.fieldLinkNest "TreePress$Parser" (143 : Nat) "TreePress$Spec" "kind" "I" "TreePress") ∈ lw_tbl := lw_at lw_m3 96 rfl
theorem q709 : (Jvm.Cond.fieldLinkNest "TreePress$Parser" (156 : Nat) "TreePress$Spec" "places" "Ljava/util/ArrayList;" "TreePress") ∈ lw_tbl := lw_at lw_m3 98 rfl
theorem q711 : (Jvm.Cond.fieldLinkNest "TreePress$Parser" (207 : Nat) "TreePress$Spec" "follow" "[J" "TreePress") ∈ lw_tbl := lw_at lw_m3 100 rfl
theorem q713 : (Jvm.Cond.fieldLinkNest "TreePress$Parser" (177 : Nat) "TreePress$Spec" "first" "J" "TreePress") ∈ lw_tbl := lw_at lw_m3 102 rfl
theorem q715 : (Jvm.Cond.fieldLinkNest "TreePress$Parser" (180 : Nat) "TreePress$Spec" "last" "J" "TreePress") ∈ lw_tbl := lw_at lw_m3 104 rfl
theorem q717 : (Jvm.Cond.fieldLinkNest "TreePress$Parser" (185 : Nat) "TreePress$Spec" "nothing" "Z" "TreePress") ∈ lw_tbl := lw_at lw_m3 106 rfl
theorem q734 : (Jvm.Cond.stringRef "TreePress$Parser" (138 : Nat) "EMPTY") ∈ lw_tbl := lw_at lw_m3 123 rfl
theorem q735 : (Jvm.Cond.methodLink "TreePress$Parser" (140 : Nat) ({ cls := "TreePress$Parser", name := "takes", desc := "(Ljava/lang/String;)Z" } : Jvm.MethodName)) ∈ lw_all := lw_g (lw_at lw_m3 124 rfl) rfl
theorem q736 : (Jvm.Cond.sameMethod "TreePress$Parser" "TreePress$Reader" "takes" "(Ljava/lang/String;)Z") ∈ lw_all := lw_g (lw_at lw_m3 125 rfl) rfl
theorem q738 : (Jvm.Cond.selects "TreePress$Parser" ({ cls := "TreePress$Parser", name := "takes", desc := "(Ljava/lang/String;)Z" } : Jvm.MethodName) ({ cls := "TreePress$Reader", name := "takes", desc := "(Ljava/lang/String;)Z" } : Jvm.MethodName)) ∈ lw_all := lw_g (lw_at lw_m3 127 rfl) rfl
theorem q739 : (Jvm.Cond.stringRef "TreePress$Parser" (146 : Nat) "ANY") ∈ lw_tbl := lw_at lw_m3 128 rfl
theorem q740 : (Jvm.Cond.methodLink "TreePress$Parser" (148 : Nat) ({ cls := "TreePress$Parser", name := "content", desc := "(LTreePress$Spec;)V" } : Jvm.MethodName)) ∈ lw_all := lw_g (lw_at lw_m3 129 rfl) rfl
theorem q741 : (Jvm.Cond.privateMethod ({ cls := "TreePress$Parser", name := "content", desc := "(LTreePress$Spec;)V" } : Jvm.MethodName)) ∈ lw_tbl := lw_at lw_m3 130 rfl
theorem q742 : (Jvm.Cond.instanceMethod ({ cls := "TreePress$Parser", name := "content", desc := "(LTreePress$Spec;)V" } : Jvm.MethodName)) ∈ lw_all := lw_g (lw_at lw_m3 131 rfl) rfl
theorem q743 : (Jvm.Cond.code ({ cls := "TreePress$Parser", name := "content", desc := "(LTreePress$Spec;)V" } : Jvm.MethodName) prog_10_method_10_code (3 : Nat) (Option.none : Option Jvm.ClassFile.FieldType)) ∈ lw_all := lw_g (lw_at lw_m3 132 rfl) rfl
theorem q744 : (Jvm.Cond.stringRef "TreePress$Parser" (159 : Nat) "(") ∈ lw_tbl := lw_at lw_m3 133 rfl
theorem q745 : (Jvm.Cond.stringRef "TreePress$Parser" (161 : Nat) "#PCDATA") ∈ lw_tbl := lw_at lw_m3 134 rfl
theorem q746 : (Jvm.Cond.methodLink "TreePress$Parser" (163 : Nat) ({ cls := "TreePress$Parser", name := "rest", desc := "(LTreePress$Spec;I)LTreePress$Part;" } : Jvm.MethodName)) ∈ lw_all := lw_g (lw_at lw_m3 135 rfl) rfl
theorem q747 : (Jvm.Cond.privateMethod ({ cls := "TreePress$Parser", name := "rest", desc := "(LTreePress$Spec;I)LTreePress$Part;" } : Jvm.MethodName)) ∈ lw_tbl := lw_at lw_m3 136 rfl
theorem q748 : (Jvm.Cond.instanceMethod ({ cls := "TreePress$Parser", name := "rest", desc := "(LTreePress$Spec;I)LTreePress$Part;" } : Jvm.MethodName)) ∈ lw_all := lw_g (lw_at lw_m3 137 rfl) rfl
theorem q749 : (Jvm.Cond.code ({ cls := "TreePress$Parser", name := "rest", desc := "(LTreePress$Spec;I)LTreePress$Part;" } : Jvm.MethodName) prog_10_method_11_code (6 : Nat) (Option.some (Jvm.ClassFile.FieldType.object "TreePress$Part"))) ∈ lw_all := lw_g (lw_at lw_m3 138 rfl) rfl
theorem q750 : (Jvm.Cond.methodLink "TreePress$Parser" (196 : Nat) ({ cls := "TreePress$Parser", name := "part", desc := "(LTreePress$Spec;I)LTreePress$Part;" } : Jvm.MethodName)) ∈ lw_all := lw_g (lw_at lw_m3 139 rfl) rfl
theorem q751 : (Jvm.Cond.privateMethod ({ cls := "TreePress$Parser", name := "part", desc := "(LTreePress$Spec;I)LTreePress$Part;" } : Jvm.MethodName)) ∈ lw_tbl := lw_at lw_m3 140 rfl
theorem q752 : (Jvm.Cond.instanceMethod ({ cls := "TreePress$Parser", name := "part", desc := "(LTreePress$Spec;I)LTreePress$Part;" } : Jvm.MethodName)) ∈ lw_all := lw_g (lw_at lw_m3 141 rfl) rfl
theorem q753 : (Jvm.Cond.code ({ cls := "TreePress$Parser", name := "part", desc := "(LTreePress$Spec;I)LTreePress$Part;" } : Jvm.MethodName) prog_10_method_15_code (5 : Nat) (Option.some (Jvm.ClassFile.FieldType.object "TreePress$Part"))) ∈ lw_all := lw_g (lw_at lw_m3 142 rfl) rfl
theorem q754 : (Jvm.Cond.methodLink "TreePress$Parser" (167 : Nat) ({ cls := "TreePress$Parser", name := "sign", desc := "(LTreePress$Spec;LTreePress$Part;)LTreePress$Part;" } : Jvm.MethodName)) ∈ lw_all := lw_g (lw_at lw_m3 143 rfl) rfl
theorem q755 : (Jvm.Cond.privateMethod ({ cls := "TreePress$Parser", name := "sign", desc := "(LTreePress$Spec;LTreePress$Part;)LTreePress$Part;" } : Jvm.MethodName)) ∈ lw_tbl := lw_at lw_m3 144 rfl
theorem q756 : (Jvm.Cond.instanceMethod ({ cls := "TreePress$Parser", name := "sign", desc := "(LTreePress$Spec;LTreePress$Part;)LTreePress$Part;" } : Jvm.MethodName)) ∈ lw_all := lw_g (lw_at lw_m3 145 rfl) rfl
theorem q757 : (Jvm.Cond.code ({ cls := "TreePress$Parser", name := "sign", desc := "(LTreePress$Spec;LTreePress$Part;)LTreePress$Part;" } : Jvm.MethodName) prog_10_method_16_code (4 : Nat) (Option.some (Jvm.ClassFile.FieldType.object "TreePress$Part"))) ∈ lw_all := lw_g (lw_at lw_m3 146 rfl) rfl
theorem q758 : (Jvm.Cond.methodLink "TreePress$Parser" (211 : Nat) ({ cls := "TreePress$Parser", name := "joins", desc := "(LTreePress$Spec;JJ)V" } : Jvm.MethodName)) ∈ lw_all := lw_g (lw_at lw_m3 147 rfl) rfl
theorem q759 : (Jvm.Cond.static ({ cls := "TreePress$Parser", name := "joins", desc := "(LTreePress$Spec;JJ)V" } : Jvm.MethodName)) ∈ lw_all := lw_g (lw_at lw_m3 148 rfl) rfl
theorem q760 : (Jvm.Cond.code ({ cls := "TreePress$Parser", name := "joins", desc := "(LTreePress$Spec;JJ)V" } : Jvm.MethodName) prog_10_method_13_code (6 : Nat) (Option.none : Option Jvm.ClassFile.FieldType)) ∈ lw_all := lw_g (lw_at lw_m3 149 rfl) rfl
theorem q761 : (Jvm.Cond.methodLink "TreePress$Parser" (188 : Nat) ({ cls := "TreePress$Parser", name := "nameOf", desc := "(LTreePress$Spec;)I" } : Jvm.MethodName)) ∈ lw_all := lw_g (lw_at lw_m3 150 rfl) rfl
theorem q762 : (Jvm.Cond.privateMethod ({ cls := "TreePress$Parser", name := "nameOf", desc := "(LTreePress$Spec;)I" } : Jvm.MethodName)) ∈ lw_tbl := lw_at lw_m3 151 rfl
theorem q763 : (Jvm.Cond.instanceMethod ({ cls := "TreePress$Parser", name := "nameOf", desc := "(LTreePress$Spec;)I" } : Jvm.MethodName)) ∈ lw_all := lw_g (lw_at lw_m3 152 rfl) rfl
theorem q764 : (Jvm.Cond.code ({ cls := "TreePress$Parser", name := "nameOf", desc := "(LTreePress$Spec;)I" } : Jvm.MethodName) prog_10_method_9_code (4 : Nat) (Option.some Jvm.ClassFile.FieldType.int)) ∈ lw_all := lw_g (lw_at lw_m3 153 rfl) rfl
theorem q765 : (Jvm.Cond.methodLink "TreePress$Parser" (152 : Nat) ({ cls := "java/util/ArrayList", name := "add", desc := "(Ljava/lang/Object;)Z" } : Jvm.MethodName)) ∈ lw_all := lw_g (lw_at lw_m3 154 rfl) rfl
theorem q766 : (Jvm.Cond.classLink "TreePress$Parser" (172 : Nat) "TreePress$Part") ∈ lw_all := lw_g (lw_at lw_m3 155 rfl) rfl
theorem q768 : (Jvm.Cond.methodLinkNest "TreePress$Parser" (215 : Nat) ({ cls := "TreePress$Part", name := "<init>", desc := "()V" } : Jvm.MethodName) "TreePress") ∈ lw_tbl := lw_at lw_m3 157 rfl
theorem q772 : (Jvm.Cond.fieldLinkNest "TreePress$Parser" (171 : Nat) "TreePress$Part" "first" "J" "TreePress") ∈ lw_tbl := lw_at lw_m3 161 rfl
theorem q773 : (Jvm.Cond.fieldLinkNest "TreePress$Parser" (178 : Nat) "TreePress$Part" "last" "J" "TreePress") ∈ lw_tbl := lw_at lw_m3 162 rfl
theorem q774 : (Jvm.Cond.fieldLinkNest "TreePress$Parser" (181 : Nat) "TreePress$Part" "nothing" "Z" "TreePress") ∈ lw_tbl := lw_at lw_m3 163 rfl
theorem q782 : (Jvm.Cond.methodLink "TreePress$Parser" (199 : Nat) ({ cls := "TreePress$Parser", name := "either", desc := "(LTreePress$Part;LTreePress$Part;)V" } : Jvm.MethodName)) ∈ lw_all := lw_g (lw_at lw_m3 171 rfl) rfl
theorem q783 : (Jvm.Cond.static ({ cls := "TreePress$Parser", name := "either", desc := "(LTreePress$Part;LTreePress$Part;)V" } : Jvm.MethodName)) ∈ lw_all := lw_g (lw_at lw_m3 172 rfl) rfl
theorem q784 : (Jvm.Cond.code ({ cls := "TreePress$Parser", name := "either", desc := "(LTreePress$Part;LTreePress$Part;)V" } : Jvm.MethodName) prog_10_method_12_code (2 : Nat) (Option.none : Option Jvm.ClassFile.FieldType)) ∈ lw_all := lw_g (lw_at lw_m3 173 rfl) rfl
theorem q785 : (Jvm.Cond.methodLink "TreePress$Parser" (203 : Nat) ({ cls := "TreePress$Parser", name := "behind", desc := "(LTreePress$Spec;LTreePress$Part;LTreePress$Part;)V" } : Jvm.MethodName)) ∈ lw_all := lw_g (lw_at lw_m3 174 rfl) rfl
theorem q786 : (Jvm.Cond.static ({ cls := "TreePress$Parser", name := "behind", desc := "(LTreePress$Spec;LTreePress$Part;LTreePress$Part;)V" } : Jvm.MethodName)) ∈ lw_all := lw_g (lw_at lw_m3 175 rfl) rfl
theorem q787 : (Jvm.Cond.code ({ cls := "TreePress$Parser", name := "behind", desc := "(LTreePress$Spec;LTreePress$Part;LTreePress$Part;)V" } : Jvm.MethodName) prog_10_method_14_code (3 : Nat) (Option.none : Option Jvm.ClassFile.FieldType)) ∈ lw_all := lw_g (lw_at lw_m3 176 rfl) rfl
theorem q788 : (Jvm.Cond.stringRef "TreePress$Parser" (192 : Nat) ")") ∈ lw_tbl := lw_at lw_m3 177 rfl
theorem q789 : (Jvm.Cond.stringRef "TreePress$Parser" (186 : Nat) "|") ∈ lw_tbl := lw_at lw_m3 178 rfl
theorem q790 : (Jvm.Cond.stringRef "TreePress$Parser" (194 : Nat) "*") ∈ lw_tbl := lw_at lw_m3 179 rfl
theorem q791 : (Jvm.Cond.stringRef "TreePress$Parser" (126 : Nat) "<!ATTLIST") ∈ lw_tbl := lw_at lw_m3 180 rfl
theorem q792 : (Jvm.Cond.methodLink "TreePress$Parser" (128 : Nat) ({ cls := "TreePress$Parser", name := "rules", desc := "()V" } : Jvm.MethodName)) ∈ lw_all := lw_g (lw_at lw_m3 181 rfl) rfl
theorem q793 : (Jvm.Cond.privateMethod ({ cls := "TreePress$Parser", name := "rules", desc := "()V" } : Jvm.MethodName)) ∈ lw_tbl := lw_at lw_m3 182 rfl
theorem q794 : (Jvm.Cond.instanceMethod ({ cls := "TreePress$Parser", name := "rules", desc := "()V" } : Jvm.MethodName)) ∈ lw_all := lw_g (lw_at lw_m3 183 rfl) rfl
theorem q795 : (Jvm.Cond.code ({ cls := "TreePress$Parser", name := "rules", desc := "()V" } : Jvm.MethodName) prog_10_method_18_code (6 : Nat) (Option.none : Option Jvm.ClassFile.FieldType)) ∈ lw_all := lw_g (lw_at lw_m3 184 rfl) rfl
theorem q796 : (Jvm.Cond.methodLink "TreePress$Parser" (219 : Nat) ({ cls := "TreePress$Parser", name := "isNameBehind", desc := "()Z" } : Jvm.MethodName)) ∈ lw_all := lw_g (lw_at lw_m3 185 rfl) rfl
theorem q797 : (Jvm.Cond.privateMethod ({ cls := "TreePress$Parser", name := "isNameBehind", desc := "()Z" } : Jvm.MethodName)) ∈ lw_tbl := lw_at lw_m3 186 rfl
theorem q798 : (Jvm.Cond.instanceMethod ({ cls := "TreePress$Parser", name := "isNameBehind", desc := "()Z" } : Jvm.MethodName)) ∈ lw_all := lw_g (lw_at lw_m3 187 rfl) rfl
theorem q799 : (Jvm.Cond.code ({ cls := "TreePress$Parser", name := "isNameBehind", desc := "()Z" } : Jvm.MethodName) prog_10_method_17_code (2 : Nat) (Option.some Jvm.ClassFile.FieldType.boolean)) ∈ lw_all := lw_g (lw_at lw_m3 188 rfl) rfl
theorem q800 : (Jvm.Cond.methodLinkNest "TreePress$Parser" (216 : Nat) ({ cls := "TreePress", name := "isFirst", desc := "(I)Z" } : Jvm.MethodName) "TreePress") ∈ lw_tbl := lw_at lw_m3 189 rfl
theorem q801 : (Jvm.Cond.classLink "TreePress$Parser" (222 : Nat) "TreePress$Rule") ∈ lw_all := lw_g (lw_at lw_m3 190 rfl) rfl
theorem q803 : (Jvm.Cond.methodLink "TreePress$Parser" (226 : Nat) ({ cls := "TreePress$Rule", name := "<init>", desc := "([B[BI)V" } : Jvm.MethodName)) ∈ lw_all := lw_g (lw_at lw_m3 192 rfl) rfl
theorem q811 : (Jvm.Cond.fieldLinkNest "TreePress$Parser" (233 : Nat) "TreePress$Rule" "of" "[B" "TreePress") ∈ lw_tbl := lw_at lw_m3 200 rfl
theorem q814 : (Jvm.Cond.fieldLinkNest "TreePress$Parser" (240 : Nat) "TreePress$Rule" "name" "[B" "TreePress") ∈ lw_tbl := lw_at lw_m3 203 rfl
theorem q817 : (Jvm.Cond.fieldLinkNest "TreePress$Parser" (252 : Nat) "TreePress$Rule" "number" "I" "TreePress") ∈ lw_tbl := lw_at lw_m3 206 rfl
theorem q820 : (Jvm.Cond.fieldLinkNest "TreePress$Parser" (257 : Nat) "TreePress$Rule" "type" "I" "TreePress") ∈ lw_tbl := lw_at lw_m3 209 rfl
theorem q822 : (Jvm.Cond.fieldLinkNest "TreePress$Parser" (269 : Nat) "TreePress$Rule" "how" "I" "TreePress") ∈ lw_tbl := lw_at lw_m3 211 rfl
theorem q824 : (Jvm.Cond.fieldLinkNest "TreePress$Parser" (264 : Nat) "TreePress$Rule" "tokens" "Ljava/util/ArrayList;" "TreePress") ∈ lw_tbl := lw_at lw_m3 213 rfl
theorem q826 : (Jvm.Cond.fieldLinkNest "TreePress$Parser" (278 : Nat) "TreePress$Rule" "value" "[B" "TreePress") ∈ lw_tbl := lw_at lw_m3 215 rfl
theorem q843 : (Jvm.Cond.methodLink "TreePress$Parser" (229 : Nat) ({ cls := "java/util/ArrayList", name := "get", desc := "(I)Ljava/lang/Object;" } : Jvm.MethodName)) ∈ lw_all := lw_g (lw_at lw_m3 232 rfl) rfl
theorem q855 : (Jvm.Cond.methodLinkNest "TreePress$Parser" (236 : Nat) ({ cls := "TreePress", name := "isSame", desc := "([B[B)Z" } : Jvm.MethodName) "TreePress") ∈ lw_tbl := lw_at lw_m4 4 rfl
theorem q858 : (Jvm.Cond.methodLink "TreePress$Parser" (242 : Nat) ({ cls := "TreePress$Document", name := "rule", desc := "([B[B)LTreePress$Rule;" } : Jvm.MethodName)) ∈ lw_all := lw_g (lw_at lw_m4 7 rfl) rfl
theorem q865 : (Jvm.Cond.methodLink "TreePress$Parser" (246 : Nat) ({ cls := "TreePress$Parser", name := "type", desc := "(LTreePress$Rule;)V" } : Jvm.MethodName)) ∈ lw_all := lw_g (lw_at lw_m4 14 rfl) rfl
theorem q866 : (Jvm.Cond.privateMethod ({ cls := "TreePress$Parser", name := "type", desc := "(LTreePress$Rule;)V" } : Jvm.MethodName)) ∈ lw_tbl := lw_at lw_m4 15 rfl
theorem q867 : (Jvm.Cond.instanceMethod ({ cls := "TreePress$Parser", name := "type", desc := "(LTreePress$Rule;)V" } : Jvm.MethodName)) ∈ lw_all := lw_g (lw_at lw_m4 16 rfl) rfl
theorem q868 : (Jvm.Cond.code ({ cls := "TreePress$Parser", name := "type", desc := "(LTreePress$Rule;)V" } : Jvm.MethodName) prog_10_method_19_code (5 : Nat) (Option.none : Option Jvm.ClassFile.FieldType)) ∈ lw_all := lw_g (lw_at lw_m4 17 rfl) rfl
theorem q869 : (Jvm.Cond.stringRef "TreePress$Parser" (255 : Nat) "CDATA") ∈ lw_tbl := lw_at lw_m4 18 rfl
theorem q870 : (Jvm.Cond.stringRef "TreePress$Parser" (259 : Nat) "ID") ∈ lw_tbl := lw_at lw_m4 19 rfl
theorem q871 : (Jvm.Cond.methodLink "TreePress$Parser" (261 : Nat) ({ cls := "TreePress$Parser", name := "token", desc := "()[B" } : Jvm.MethodName)) ∈ lw_all := lw_g (lw_at lw_m4 20 rfl) rfl
theorem q872 : (Jvm.Cond.sameMethod "TreePress$Parser" "TreePress$Reader" "token" "()[B") ∈ lw_all := lw_g (lw_at lw_m4 21 rfl) rfl
theorem q874 : (Jvm.Cond.selects "TreePress$Parser" ({ cls := "TreePress$Parser", name := "token", desc := "()[B" } : Jvm.MethodName) ({ cls := "TreePress$Reader", name := "token", desc := "()[B" } : Jvm.MethodName)) ∈ lw_all := lw_g (lw_at lw_m4 23 rfl) rfl
theorem q875 : (Jvm.Cond.methodLink "TreePress$Parser" (249 : Nat) ({ cls := "TreePress$Parser", name := "how", desc := "(LTreePress$Rule;)V" } : Jvm.MethodName)) ∈ lw_all := lw_g (lw_at lw_m4 24 rfl) rfl
theorem q876 : (Jvm.Cond.privateMethod ({ cls := "TreePress$Parser", name := "how", desc := "(LTreePress$Rule;)V" } : Jvm.MethodName)) ∈ lw_tbl := lw_at lw_m4 25 rfl
theorem q877 : (Jvm.Cond.instanceMethod ({ cls := "TreePress$Parser", name := "how", desc := "(LTreePress$Rule;)V" } : Jvm.MethodName)) ∈ lw_all := lw_g (lw_at lw_m4 26 rfl) rfl
theorem q878 : (Jvm.Cond.code ({ cls := "TreePress$Parser", name := "how", desc := "(LTreePress$Rule;)V" } : Jvm.MethodName) prog_10_method_20_code (2 : Nat) (Option.none : Option Jvm.ClassFile.FieldType)) ∈ lw_all := lw_g (lw_at lw_m4 27 rfl) rfl
theorem q879 : (Jvm.Cond.stringRef "TreePress$Parser" (267 : Nat) "#REQUIRED") ∈ lw_tbl := lw_at lw_m4 28 rfl
theorem q880 : (Jvm.Cond.stringRef "TreePress$Parser" (271 : Nat) "#IMPLIED") ∈ lw_tbl := lw_at lw_m4 29 rfl
theorem q881 : (Jvm.Cond.stringRef "TreePress$Parser" (273 : Nat) "#FIXED") ∈ lw_tbl := lw_at lw_m4 30 rfl
theorem q882 : (Jvm.Cond.methodLink "TreePress$Parser" (275 : Nat) ({ cls := "TreePress$Parser", name := "value", desc := "()[B" } : Jvm.MethodName)) ∈ lw_all := lw_g (lw_at lw_m4 31 rfl) rfl
theorem q883 : (Jvm.Cond.privateMethod ({ cls := "TreePress$Parser", name := "value", desc := "()[B" } : Jvm.MethodName)) ∈ lw_tbl := lw_at lw_m4 32 rfl
theorem q884 : (Jvm.Cond.instanceMethod ({ cls := "TreePress$Parser", name := "value", desc := "()[B" } : Jvm.MethodName)) ∈ lw_all := lw_g (lw_at lw_m4 33 rfl) rfl
theorem q885 : (Jvm.Cond.code ({ cls := "TreePress$Parser", name := "value", desc := "()[B" } : Jvm.MethodName) prog_10_method_25_code (5 : Nat) (Option.some (Jvm.ClassFile.FieldType.array Jvm.ClassFile.FieldType.byte))) ∈ lw_all := lw_g (lw_at lw_m4 34 rfl) rfl
theorem q886 : (Jvm.Cond.methodLink "TreePress$Parser" (309 : Nat) ({ cls := "TreePress$Parser", name := "piece", desc := "()I" } : Jvm.MethodName)) ∈ lw_all := lw_g (lw_at lw_m4 35 rfl) rfl
theorem q887 : (Jvm.Cond.privateMethod ({ cls := "TreePress$Parser", name := "piece", desc := "()I" } : Jvm.MethodName)) ∈ lw_tbl := lw_at lw_m4 36 rfl
theorem q888 : (Jvm.Cond.instanceMethod ({ cls := "TreePress$Parser", name := "piece", desc := "()I" } : Jvm.MethodName)) ∈ lw_all := lw_g (lw_at lw_m4 37 rfl) rfl
theorem q889 : (Jvm.Cond.code ({ cls := "TreePress$Parser", name := "piece", desc := "()I" } : Jvm.MethodName) prog_10_method_21_code (2 : Nat) (Option.some Jvm.ClassFile.FieldType.int)) ∈ lw_all := lw_g (lw_at lw_m4 38 rfl) rfl
theorem q890 : (Jvm.Cond.methodLink "TreePress$Parser" (283 : Nat) ({ cls := "TreePress$Parser", name := "ref", desc := "()I" } : Jvm.MethodName)) ∈ lw_all := lw_g (lw_at lw_m4 39 rfl) rfl
theorem q891 : (Jvm.Cond.privateMethod ({ cls := "TreePress$Parser", name := "ref", desc := "()I" } : Jvm.MethodName)) ∈ lw_tbl := lw_at lw_m4 40 rfl
theorem q892 : (Jvm.Cond.instanceMethod ({ cls := "TreePress$Parser", name := "ref", desc := "()I" } : Jvm.MethodName)) ∈ lw_all := lw_g (lw_at lw_m4 41 rfl) rfl
theorem q893 : (Jvm.Cond.code ({ cls := "TreePress$Parser", name := "ref", desc := "()I" } : Jvm.MethodName) prog_10_method_22_code (4 : Nat) (Option.some Jvm.ClassFile.FieldType.int)) ∈ lw_all := lw_g (lw_at lw_m4 42 rfl) rfl
theorem q894 : (Jvm.Cond.stringRef "TreePress$Parser" (286 : Nat) "&lt;") ∈ lw_tbl := lw_at lw_m4 43 rfl
theorem q895 : (Jvm.Cond.stringRef "TreePress$Parser" (288 : Nat) "&gt;") ∈ lw_tbl := lw_at lw_m4 44 rfl
theorem q896 : (Jvm.Cond.stringRef "TreePress$Parser" (290 : Nat) "&amp;") ∈ lw_tbl := lw_at lw_m4 45 rfl
theorem q897 : (Jvm.Cond.stringRef "TreePress$Parser" (292 : Nat) "&quot;") ∈ lw_tbl := lw_at lw_m4 46 rfl
theorem q898 : (Jvm.Cond.stringRef "TreePress$Parser" (294 : Nat) "&apos;") ∈ lw_tbl := lw_at lw_m4 47 rfl
theorem q899 : (Jvm.Cond.stringRef "TreePress$Parser" (296 : Nat) "&#") ∈ lw_tbl := lw_at lw_m4 48 rfl
theorem q900 : (Jvm.Cond.stringRef "TreePress$Parser" (298 : Nat) ";") ∈ lw_tbl := lw_at lw_m4 49 rfl
theorem q901 : (Jvm.Cond.methodLink "TreePress$Parser" (312 : Nat) ({ cls := "TreePress$Parser", name := "keep", desc := "(II)V" } : Jvm.MethodName)) ∈ lw_all := lw_g (lw_at lw_m4 50 rfl) rfl
theorem q902 : (Jvm.Cond.privateMethod ({ cls := "TreePress$Parser", name := "keep", desc := "(II)V" } : Jvm.MethodName)) ∈ lw_tbl := lw_at lw_m4 51 rfl
theorem q903 : (Jvm.Cond.instanceMethod ({ cls := "TreePress$Parser", name := "keep", desc := "(II)V" } : Jvm.MethodName)) ∈ lw_all := lw_g (lw_at lw_m4 52 rfl) rfl
theorem q904 : (Jvm.Cond.code ({ cls := "TreePress$Parser", name := "keep", desc := "(II)V" } : Jvm.MethodName) prog_10_method_23_code (3 : Nat) (Option.none : Option Jvm.ClassFile.FieldType)) ∈ lw_all := lw_g (lw_at lw_m4 53 rfl) rfl
theorem q905 : (Jvm.Cond.methodLink "TreePress$Parser" (315 : Nat) ({ cls := "TreePress$Parser", name := "kept", desc := "(I)[B" } : Jvm.MethodName)) ∈ lw_all := lw_g (lw_at lw_m4 54 rfl) rfl
theorem q906 : (Jvm.Cond.privateMethod ({ cls := "TreePress$Parser", name := "kept", desc := "(I)[B" } : Jvm.MethodName)) ∈ lw_tbl := lw_at lw_m4 55 rfl
theorem q907 : (Jvm.Cond.instanceMethod ({ cls := "TreePress$Parser", name := "kept", desc := "(I)[B" } : Jvm.MethodName)) ∈ lw_all := lw_g (lw_at lw_m4 56 rfl) rfl
theorem q908 : (Jvm.Cond.code ({ cls := "TreePress$Parser", name := "kept", desc := "(I)[B" } : Jvm.MethodName) prog_10_method_24_code (3 : Nat) (Option.some (Jvm.ClassFile.FieldType.array Jvm.ClassFile.FieldType.byte))) ∈ lw_all := lw_g (lw_at lw_m4 57 rfl) rfl
theorem q909 : (Jvm.Cond.methodLink "TreePress$Parser" (303 : Nat) ({ cls := "java/lang/System", name := "arraycopy", desc := "(Ljava/lang/Object;ILjava/lang/Object;II)V" } : Jvm.MethodName)) ∈ lw_all := lw_g (lw_at lw_m4 58 rfl) rfl
theorem q910 : (Jvm.Cond.methodLink "TreePress$Parser" (87 : Nat) ({ cls := "TreePress$Parser", name := "element", desc := "(LTreePress$Parent;I)V" } : Jvm.MethodName)) ∈ lw_all := lw_g (lw_at lw_m4 59 rfl) rfl
theorem q911 : (Jvm.Cond.privateMethod ({ cls := "TreePress$Parser", name := "element", desc := "(LTreePress$Parent;I)V" } : Jvm.MethodName)) ∈ lw_tbl := lw_at lw_m4 60 rfl
theorem q912 : (Jvm.Cond.instanceMethod ({ cls := "TreePress$Parser", name := "element", desc := "(LTreePress$Parent;I)V" } : Jvm.MethodName)) ∈ lw_all := lw_g (lw_at lw_m4 61 rfl) rfl
theorem q913 : (Jvm.Cond.code ({ cls := "TreePress$Parser", name := "element", desc := "(LTreePress$Parent;I)V" } : Jvm.MethodName) prog_10_method_27_code (8 : Nat) (Option.none : Option Jvm.ClassFile.FieldType)) ∈ lw_all := lw_g (lw_at lw_m4 62 rfl) rfl
theorem q914 : (Jvm.Cond.stringRef "TreePress$Parser" (322 : Nat) "<") ∈ lw_tbl := lw_at lw_m4 63 rfl
theorem q915 : (Jvm.Cond.classLink "TreePress$Parser" (324 : Nat) "TreePress$Element") ∈ lw_all := lw_g (lw_at lw_m4 64 rfl) rfl
theorem q917 : (Jvm.Cond.methodLink "TreePress$Parser" (326 : Nat) ({ cls := "TreePress$Element", name := "<init>", desc := "([B)V" } : Jvm.MethodName)) ∈ lw_all := lw_g (lw_at lw_m4 66 rfl) rfl
theorem q925 : (Jvm.Cond.fieldLinkNest "TreePress$Parser" (356 : Nat) "TreePress$Element" "name" "[B" "TreePress") ∈ lw_tbl := lw_at lw_m4 74 rfl
theorem q929 : (Jvm.Cond.fieldLinkNest "TreePress$Parser" (360 : Nat) "TreePress$Element" "attributes" "Ljava/util/ArrayList;" "TreePress") ∈ lw_tbl := lw_at lw_m4 78 rfl
theorem q939 : (Jvm.Cond.methodLink "TreePress$Parser" (327 : Nat) ({ cls := "TreePress$Parser", name := "add", desc := "(LTreePress$Node;LTreePress$Parent;I)V" } : Jvm.MethodName)) ∈ lw_all := lw_g (lw_at lw_m4 88 rfl) rfl
theorem q940 : (Jvm.Cond.privateMethod ({ cls := "TreePress$Parser", name := "add", desc := "(LTreePress$Node;LTreePress$Parent;I)V" } : Jvm.MethodName)) ∈ lw_tbl := lw_at lw_m4 89 rfl
theorem q941 : (Jvm.Cond.instanceMethod ({ cls := "TreePress$Parser", name := "add", desc := "(LTreePress$Node;LTreePress$Parent;I)V" } : Jvm.MethodName)) ∈ lw_all := lw_g (lw_at lw_m4 90 rfl) rfl
theorem q942 : (Jvm.Cond.code ({ cls := "TreePress$Parser", name := "add", desc := "(LTreePress$Node;LTreePress$Parent;I)V" } : Jvm.MethodName) prog_10_method_26_code (4 : Nat) (Option.none : Option Jvm.ClassFile.FieldType)) ∈ lw_all := lw_g (lw_at lw_m4 91 rfl) rfl
theorem q943 : (Jvm.Cond.methodLink "TreePress$Parser" (319 : Nat) ({ cls := "TreePress$Document", name := "add", desc := "(LTreePress$Node;LTreePress$Parent;)V" } : Jvm.MethodName)) ∈ lw_all := lw_g (lw_at lw_m4 92 rfl) rfl
theorem q944 : (Jvm.Cond.methodLink "TreePress$Parser" (334 : Nat) ({ cls := "java/lang/Math", name := "max", desc := "(II)I" } : Jvm.MethodName)) ∈ lw_all := lw_g (lw_at lw_m4 93 rfl) rfl
theorem q945 : (Jvm.Cond.methodLink "TreePress$Parser" (340 : Nat) ({ cls := "TreePress$Parser", name := "attribute", desc := "(LTreePress$Element;)V" } : Jvm.MethodName)) ∈ lw_all := lw_g (lw_at lw_m4 94 rfl) rfl
theorem q946 : (Jvm.Cond.privateMethod ({ cls := "TreePress$Parser", name := "attribute", desc := "(LTreePress$Element;)V" } : Jvm.MethodName)) ∈ lw_tbl := lw_at lw_m4 95 rfl
theorem q947 : (Jvm.Cond.instanceMethod ({ cls := "TreePress$Parser", name := "attribute", desc := "(LTreePress$Element;)V" } : Jvm.MethodName)) ∈ lw_all := lw_g (lw_at lw_m4 96 rfl) rfl
theorem q948 : (Jvm.Cond.code ({ cls := "TreePress$Parser", name := "attribute", desc := "(LTreePress$Element;)V" } : Jvm.MethodName) prog_10_method_28_code (5 : Nat) (Option.none : Option Jvm.ClassFile.FieldType)) ∈ lw_all := lw_g (lw_at lw_m4 97 rfl) rfl
theorem q949 : (Jvm.Cond.methodLink "TreePress$Parser" (357 : Nat) ({ cls := "TreePress$Element", name := "attribute", desc := "([B)LTreePress$Attribute;" } : Jvm.MethodName)) ∈ lw_all := lw_g (lw_at lw_m4 98 rfl) rfl
theorem q957 : (Jvm.Cond.stringRef "TreePress$Parser" (363 : Nat) "=") ∈ lw_tbl := lw_at lw_m4 106 rfl
theorem q958 : (Jvm.Cond.classLink "TreePress$Parser" (365 : Nat) "TreePress$Attribute") ∈ lw_all := lw_g (lw_at lw_m4 107 rfl) rfl
theorem q960 : (Jvm.Cond.methodLink "TreePress$Parser" (367 : Nat) ({ cls := "TreePress$Attribute", name := "<init>", desc := "([B[BZ)V" } : Jvm.MethodName)) ∈ lw_all := lw_g (lw_at lw_m4 109 rfl) rfl
theorem q989 : (Jvm.Cond.stringRef "TreePress$Parser" (344 : Nat) "/>") ∈ lw_tbl := lw_at lw_m4 138 rfl
theorem q990 : (Jvm.Cond.methodLink "TreePress$Parser" (346 : Nat) ({ cls := "TreePress$Parser", name := "byDefault", desc := "(LTreePress$Element;I)V" } : Jvm.MethodName)) ∈ lw_all := lw_g (lw_at lw_m4 139 rfl) rfl
theorem q991 : (Jvm.Cond.privateMethod ({ cls := "TreePress$Parser", name := "byDefault", desc := "(LTreePress$Element;I)V" } : Jvm.MethodName)) ∈ lw_tbl := lw_at lw_m4 140 rfl
theorem q992 : (Jvm.Cond.instanceMethod ({ cls := "TreePress$Parser", name := "byDefault", desc := "(LTreePress$Element;I)V" } : Jvm.MethodName)) ∈ lw_all := lw_g (lw_at lw_m4 141 rfl) rfl
theorem q993 : (Jvm.Cond.code ({ cls := "TreePress$Parser", name := "byDefault", desc := "(LTreePress$Element;I)V" } : Jvm.MethodName) prog_10_method_29_code (6 : Nat) (Option.none : Option Jvm.ClassFile.FieldType)) ∈ lw_all := lw_g (lw_at lw_m4 142 rfl) rfl
theorem q994 : (Jvm.Cond.methodLink "TreePress$Parser" (351 : Nat) ({ cls := "TreePress$Parser", name := "inside", desc := "(LTreePress$Element;I)V" } : Jvm.MethodName)) ∈ lw_all := lw_g (lw_at lw_m4 143 rfl) rfl
theorem q995 : (Jvm.Cond.privateMethod ({ cls := "TreePress$Parser", name := "inside", desc := "(LTreePress$Element;I)V" } : Jvm.MethodName)) ∈ lw_tbl := lw_at lw_m4 144 rfl
theorem q996 : (Jvm.Cond.instanceMethod ({ cls := "TreePress$Parser", name := "inside", desc := "(LTreePress$Element;I)V" } : Jvm.MethodName)) ∈ lw_all := lw_g (lw_at lw_m4 145 rfl) rfl
theorem q997 : (Jvm.Cond.code ({ cls := "TreePress$Parser", name := "inside", desc := "(LTreePress$Element;I)V" } : Jvm.MethodName) prog_10_method_30_code (3 : Nat) (Option.none : Option Jvm.ClassFile.FieldType)) ∈ lw_all := lw_g (lw_at lw_m4 146 rfl) rfl
theorem q998 : (Jvm.Cond.stringRef "TreePress$Parser" (354 : Nat) "</") ∈ lw_tbl := lw_at lw_m4 147 rfl
theorem q999 : (Jvm.Cond.methodLink "TreePress$Parser" (370 : Nat) ({ cls := "TreePress$Parser", name := "text", desc := "(LTreePress$Element;)V" } : Jvm.MethodName)) ∈ lw_all := lw_g (lw_at lw_m4 148 rfl) rfl
theorem q1000 : (Jvm.Cond.privateMethod ({ cls := "TreePress$Parser", name := "text", desc := "(LTreePress$Element;)V" } : Jvm.MethodName)) ∈ lw_tbl := lw_at lw_m4 149 rfl
theorem q1001 : (Jvm.Cond.instanceMethod ({ cls := "TreePress$Parser", name := "text", desc := "(LTreePress$Element;)V" } : Jvm.MethodName)) ∈ lw_all := lw_g (lw_at lw_m4 150 rfl) rfl
theorem q1002 : (Jvm.Cond.code ({ cls := "TreePress$Parser", name := "text", desc := "(LTreePress$Element;)V" } : Jvm.MethodName) prog_10_method_31_code (7 : Nat) (Option.none : Option Jvm.ClassFile.FieldType)) ∈ lw_all := lw_g (lw_at lw_m4 151 rfl) rfl
theorem q1003 : (Jvm.Cond.classLink "TreePress$Parser" (373 : Nat) "TreePress$Text") ∈ lw_all := lw_g (lw_at lw_m4 152 rfl) rfl
theorem q1005 : (Jvm.Cond.methodLink "TreePress$Parser" (375 : Nat) ({ cls := "TreePress$Text", name := "<init>", desc := "([BZ)V" } : Jvm.MethodName)) ∈ lw_all := lw_g (lw_at lw_m4 154 rfl) rfl
theorem q1017 : (Jvm.Cond.methodLink "TreePress$Parser" (106 : Nat) ({ cls := "TreePress$Document", name := "judge", desc := "(Ljava/util/ArrayList;)V" } : Jvm.MethodName)) ∈ lw_all := lw_g (lw_at lw_m4 166 rfl) rfl
theorem q2209 : (Jvm.Cond.selects "TreePress$Parser" ({ cls := "TreePress$Reader", name := "isAt", desc := "(Ljava/lang/String;)Z" } : Jvm.MethodName) ({ cls := "TreePress$Reader", name := "isAt", desc := "(Ljava/lang/String;)Z" } : Jvm.MethodName)) ∈ lw_all := lw_g (lw_at lw_m9 158 rfl) rfl
theorem q2213 : (Jvm.Cond.selects "TreePress$Parser" ({ cls := "TreePress$Reader", name := "here", desc := "()I" } : Jvm.MethodName) ({ cls := "TreePress$Reader", name := "here", desc := "()I" } : Jvm.MethodName)) ∈ lw_all := lw_g (lw_at lw_m9 162 rfl) rfl
theorem q2225 : (Jvm.Cond.castable "TreePress$Parser" "java/lang/Object") ∈ lw_tbl := lw_at lw_m9 174 rfl
theorem in_X3 : ∀ w ∈ wsX30, w ∈ lw_all := lw_in wsX30 [464, 466, 468, 454, 456, 458, 460, 462] (by decide +kernel) (by decide +kernel)

/-! TreePress$Document -/
def RX4 : String := "TreePress$Document"
def TX4 : u_T := fun k => match k with
  | 0 => ("TreePress$Document", "root", "LTreePress$Parent;", true)
  | 1 => ("TreePress$Document", "nodes", "Ljava/util/ArrayList;", true)
  | 2 => ("TreePress$Document", "type", "[B", false)
  | 3 => ("TreePress$Document", "specs", "Ljava/util/ArrayList;", true)
  | 4 => ("TreePress$Document", "rules", "Ljava/util/ArrayList;", true)
  | 5 => ("TreePress$Document", "findings", "Ljava/util/ArrayList;", true)
  | 6 => ("TreePress$Document", "deep", "I", false)
  | _ => ("TreePress$Document", "ids", "Ljava/util/ArrayList;", true)
def tyX4 : Nat → FieldType := fun k => match k with
  | 0 => .object "TreePress$Parent"
  | 1 => .object "java/util/ArrayList"
  | 2 => .array .byte
  | 3 => .object "java/util/ArrayList"
  | 4 => .object "java/util/ArrayList"
  | 5 => .object "java/util/ArrayList"
  | 6 => .int
  | _ => .object "java/util/ArrayList"
abbrev wsX40 : List Cond := u_ws RX4 TX4 8
theorem nmX4 : ∀ a, a < 8 → ∀ b, b < 8 → a ≠ b → (TX4 a).2.1 ≠ (TX4 b).2.1 := by decide +kernel
theorem tyX4_ok : ∀ k, k < 8 → parseFieldDescriptor (TX4 k).2.2.1 = some (tyX4 k) := by decide +kernel
abbrev cX4_init : ByteArray := prog_4_method_1_code
def yX4_init : MethodName := ⟨RX4, "<init>", "()V"⟩
abbrev cX4_add : ByteArray := prog_4_method_2_code
def yX4_add : MethodName := ⟨RX4, "add", "(LTreePress$Node;LTreePress$Parent;)V"⟩
abbrev cX4_rule : ByteArray := prog_4_method_4_code
def yX4_rule : MethodName := ⟨RX4, "rule", "([B[B)LTreePress$Rule;"⟩
abbrev cX4_judge : ByteArray := prog_4_method_11_code
def yX4_judge : MethodName := ⟨RX4, "judge", "(Ljava/util/ArrayList;)V"⟩
abbrev cX4_judgeSpec : ByteArray := prog_4_method_6_code
def yX4_judgeSpec : MethodName := ⟨RX4, "judgeSpec", "(I)V"⟩
abbrev cX4_spec : ByteArray := prog_4_method_3_code
def yX4_spec : MethodName := ⟨RX4, "spec", "([B)LTreePress$Spec;"⟩
abbrev cX4_find : ByteArray := prog_4_method_5_code
def yX4_find : MethodName := ⟨RX4, "find", "(II)V"⟩
abbrev cX4_judgeRule : ByteArray := prog_4_method_7_code
def yX4_judgeRule : MethodName := ⟨RX4, "judgeRule", "(LTreePress$Rule;)V"⟩
abbrev cX4_judgeElement : ByteArray := prog_4_method_10_code
def yX4_judgeElement : MethodName := ⟨RX4, "judgeElement", "(LTreePress$Element;)V"⟩
abbrev cX4_fits : ByteArray := prog_4_method_8_code
def yX4_fits : MethodName := ⟨RX4, "fits", "(LTreePress$Element;LTreePress$Spec;)Z"⟩
abbrev cX4_judgeAttribute : ByteArray := prog_4_method_9_code
def yX4_judgeAttribute : MethodName := ⟨RX4, "judgeAttribute", "(LTreePress$Element;LTreePress$Attribute;)V"⟩
theorem q140 : (Jvm.Cond.initialized "TreePress$Document") ∈ lw_all := lw_g (lw_at lw_m1 9 rfl) rfl
theorem q286 : (Jvm.Cond.instantiable "TreePress$Document" (8 : Nat)) ∈ lw_all := lw_g (lw_at lw_m1 155 rfl) rfl
theorem q288 : (Jvm.Cond.instanceMethod ({ cls := "TreePress$Document", name := "<init>", desc := "()V" } : Jvm.MethodName)) ∈ lw_all := lw_g (lw_at lw_m1 157 rfl) rfl
theorem q289 : (Jvm.Cond.code ({ cls := "TreePress$Document", name := "<init>", desc := "()V" } : Jvm.MethodName) prog_4_method_1_code (1 : Nat) (Option.none : Option Jvm.ClassFile.FieldType)) ∈ lw_all := lw_g (lw_at lw_m1 158 rfl) rfl
theorem q290 : (Jvm.Cond.methodLink "TreePress$Document" (3 : Nat) ({ cls := "java/lang/Object", name := "<init>", desc := "()V" } : Jvm.MethodName)) ∈ lw_all := lw_g (lw_at lw_m1 159 rfl) rfl
theorem q291 : (Jvm.Cond.classLink "TreePress$Document" (9 : Nat) "TreePress$Parent") ∈ lw_all := lw_g (lw_at lw_m1 160 rfl) rfl
theorem q293 : (Jvm.Cond.methodLinkNest "TreePress$Document" (11 : Nat) ({ cls := "TreePress$Parent", name := "<init>", desc := "()V" } : Jvm.MethodName) "TreePress") ∈ lw_tbl := lw_at lw_m1 162 rfl
theorem q311 : (Jvm.Cond.fieldLink "TreePress$Document" (113 : Nat) "TreePress$Element" "nodes" "Ljava/util/ArrayList;") ∈ lw_all := lw_g (lw_at lw_m1 180 rfl) rfl
theorem q319 : (Jvm.Cond.fieldLink "TreePress$Document" (45 : Nat) "TreePress$Node" "number" "I") ∈ lw_all := lw_g (lw_at lw_m1 188 rfl) rfl
theorem q320 : (Jvm.Cond.fieldLink "TreePress$Document" (132 : Nat) "TreePress$Attribute" "number" "I") ∈ lw_all := lw_g (lw_at lw_m1 189 rfl) rfl
theorem q322 : (Jvm.Cond.fieldLink "TreePress$Document" (139 : Nat) "TreePress$Element" "number" "I") ∈ lw_all := lw_g (lw_at lw_m1 191 rfl) rfl
theorem q325 : (Jvm.Cond.fieldLink "TreePress$Document" (51 : Nat) "TreePress$Node" "in" "LTreePress$Parent;") ∈ lw_all := lw_g (lw_at lw_m1 194 rfl) rfl
theorem q336 : (Jvm.Cond.classLink "TreePress$Document" (18 : Nat) "java/util/ArrayList") ∈ lw_all := lw_g (lw_at lw_m1 205 rfl) rfl
theorem q337 : (Jvm.Cond.methodLink "TreePress$Document" (20 : Nat) ({ cls := "java/util/ArrayList", name := "<init>", desc := "()V" } : Jvm.MethodName)) ∈ lw_all := lw_g (lw_at lw_m1 206 rfl) rfl
theorem q338 : (Jvm.Cond.methodLink "TreePress$Document" (37 : Nat) ({ cls := "TreePress$Document", name := "add", desc := "(LTreePress$Node;LTreePress$Parent;)V" } : Jvm.MethodName)) ∈ lw_all := lw_g (lw_at lw_m1 207 rfl) rfl
theorem q339 : (Jvm.Cond.instanceMethod ({ cls := "TreePress$Document", name := "add", desc := "(LTreePress$Node;LTreePress$Parent;)V" } : Jvm.MethodName)) ∈ lw_all := lw_g (lw_at lw_m1 208 rfl) rfl
theorem q340 : (Jvm.Cond.selects "TreePress$Document" ({ cls := "TreePress$Document", name := "add", desc := "(LTreePress$Node;LTreePress$Parent;)V" } : Jvm.MethodName) ({ cls := "TreePress$Document", name := "add", desc := "(LTreePress$Node;LTreePress$Parent;)V" } : Jvm.MethodName)) ∈ lw_all := lw_g (lw_at lw_m1 209 rfl) rfl
theorem q341 : (Jvm.Cond.code ({ cls := "TreePress$Document", name := "add", desc := "(LTreePress$Node;LTreePress$Parent;)V" } : Jvm.MethodName) prog_4_method_2_code (3 : Nat) (Option.none : Option Jvm.ClassFile.FieldType)) ∈ lw_all := lw_g (lw_at lw_m1 210 rfl) rfl
theorem q342 : (Jvm.Cond.methodLink "TreePress$Document" (41 : Nat) ({ cls := "java/util/ArrayList", name := "size", desc := "()I" } : Jvm.MethodName)) ∈ lw_all := lw_g (lw_at lw_m1 211 rfl) rfl
theorem q346 : (Jvm.Cond.methodLink "TreePress$Document" (54 : Nat) ({ cls := "java/util/ArrayList", name := "add", desc := "(Ljava/lang/Object;)Z" } : Jvm.MethodName)) ∈ lw_all := lw_g (lw_at lw_m1 215 rfl) rfl
theorem q381 : (Jvm.Cond.selects "TreePress$Document" ({ cls := "java/lang/Object", name := "getClass", desc := "()Ljava/lang/Class;" } : Jvm.MethodName) ({ cls := "java/lang/Object", name := "getClass", desc := "()Ljava/lang/Class;" } : Jvm.MethodName)) ∈ lw_all := lw_g (lw_at lw_m2 10 rfl) rfl
theorem q407 : (Jvm.Cond.fieldLink "TreePress$Document" (12 : Nat) "TreePress$Document" "root" "LTreePress$Parent;") ∈ lw_all := lw_g (lw_at lw_m2 36 rfl) rfl
theorem q410 : (Jvm.Cond.fieldLink "TreePress$Document" (21 : Nat) "TreePress$Document" "nodes" "Ljava/util/ArrayList;") ∈ lw_all := lw_g (lw_at lw_m2 39 rfl) rfl
theorem q414 : (Jvm.Cond.fieldLink "TreePress$Document" (169 : Nat) "TreePress$Document" "type" "[B") ∈ lw_all := lw_g (lw_at lw_m2 43 rfl) rfl
theorem q416 : (Jvm.Cond.fieldLink "TreePress$Document" (25 : Nat) "TreePress$Document" "specs" "Ljava/util/ArrayList;") ∈ lw_all := lw_g (lw_at lw_m2 45 rfl) rfl
theorem q419 : (Jvm.Cond.fieldLink "TreePress$Document" (28 : Nat) "TreePress$Document" "rules" "Ljava/util/ArrayList;") ∈ lw_all := lw_g (lw_at lw_m2 48 rfl) rfl
theorem q422 : (Jvm.Cond.fieldLink "TreePress$Document" (31 : Nat) "TreePress$Document" "findings" "Ljava/util/ArrayList;") ∈ lw_all := lw_g (lw_at lw_m2 51 rfl) rfl
theorem q426 : (Jvm.Cond.fieldLink "TreePress$Document" (34 : Nat) "TreePress$Document" "ids" "Ljava/util/ArrayList;") ∈ lw_all := lw_g (lw_at lw_m2 55 rfl) rfl
theorem q427 : (Jvm.Cond.laysFinal "TreePress$Document" "TreePress$Document" "root" "LTreePress$Parent;") ∈ lw_all := lw_g (lw_at lw_m2 56 rfl) rfl
theorem q428 : (Jvm.Cond.soleField "TreePress$Document" "root") ∈ lw_all := lw_g (lw_at lw_m2 57 rfl) rfl
theorem q429 : (Jvm.Cond.laysFinal "TreePress$Document" "TreePress$Document" "nodes" "Ljava/util/ArrayList;") ∈ lw_all := lw_g (lw_at lw_m2 58 rfl) rfl
theorem q430 : (Jvm.Cond.soleField "TreePress$Document" "nodes") ∈ lw_all := lw_g (lw_at lw_m2 59 rfl) rfl
theorem q431 : (Jvm.Cond.lays "TreePress$Document" "TreePress$Document" "type" "[B") ∈ lw_all := lw_g (lw_at lw_m2 60 rfl) rfl
theorem q432 : (Jvm.Cond.soleField "TreePress$Document" "type") ∈ lw_all := lw_g (lw_at lw_m2 61 rfl) rfl
theorem q433 : (Jvm.Cond.laysFinal "TreePress$Document" "TreePress$Document" "specs" "Ljava/util/ArrayList;") ∈ lw_all := lw_g (lw_at lw_m2 62 rfl) rfl
theorem q434 : (Jvm.Cond.soleField "TreePress$Document" "specs") ∈ lw_all := lw_g (lw_at lw_m2 63 rfl) rfl
theorem q435 : (Jvm.Cond.laysFinal "TreePress$Document" "TreePress$Document" "rules" "Ljava/util/ArrayList;") ∈ lw_all := lw_g (lw_at lw_m2 64 rfl) rfl
theorem q436 : (Jvm.Cond.soleField "TreePress$Document" "rules") ∈ lw_all := lw_g (lw_at lw_m2 65 rfl) rfl
theorem q437 : (Jvm.Cond.laysFinal "TreePress$Document" "TreePress$Document" "findings" "Ljava/util/ArrayList;") ∈ lw_all := lw_g (lw_at lw_m2 66 rfl) rfl
theorem q438 : (Jvm.Cond.soleField "TreePress$Document" "findings") ∈ lw_all := lw_g (lw_at lw_m2 67 rfl) rfl
theorem q439 : (Jvm.Cond.lays "TreePress$Document" "TreePress$Document" "deep" "I") ∈ lw_all := lw_g (lw_at lw_m2 68 rfl) rfl
theorem q440 : (Jvm.Cond.soleField "TreePress$Document" "deep") ∈ lw_all := lw_g (lw_at lw_m2 69 rfl) rfl
theorem q441 : (Jvm.Cond.laysFinal "TreePress$Document" "TreePress$Document" "ids" "Ljava/util/ArrayList;") ∈ lw_all := lw_g (lw_at lw_m2 70 rfl) rfl
theorem q442 : (Jvm.Cond.soleField "TreePress$Document" "ids") ∈ lw_all := lw_g (lw_at lw_m2 71 rfl) rfl
theorem q443 : (Jvm.Cond.superclass "TreePress$Document" "java/lang/Object") ∈ lw_all := lw_g (lw_at lw_m2 72 rfl) rfl
theorem q705 : (Jvm.Cond.fieldLinkNest "TreePress$Document" (63 : Nat) "TreePress$Spec" "name" "[B" "TreePress") ∈ lw_tbl := lw_at lw_m3 94 rfl
theorem q706 : (Jvm.Cond.fieldLinkNest "TreePress$Document" (85 : Nat) "TreePress$Spec" "kind" "I" "TreePress") ∈ lw_tbl := lw_at lw_m3 95 rfl
theorem q810 : (Jvm.Cond.fieldLinkNest "TreePress$Document" (73 : Nat) "TreePress$Rule" "of" "[B" "TreePress") ∈ lw_tbl := lw_at lw_m3 199 rfl
theorem q813 : (Jvm.Cond.fieldLinkNest "TreePress$Document" (76 : Nat) "TreePress$Rule" "name" "[B" "TreePress") ∈ lw_tbl := lw_at lw_m3 202 rfl
theorem q816 : (Jvm.Cond.fieldLinkNest "TreePress$Document" (108 : Nat) "TreePress$Rule" "number" "I" "TreePress") ∈ lw_tbl := lw_at lw_m3 205 rfl
theorem q819 : (Jvm.Cond.fieldLinkNest "TreePress$Document" (102 : Nat) "TreePress$Rule" "type" "I" "TreePress") ∈ lw_tbl := lw_at lw_m3 208 rfl
theorem q821 : (Jvm.Cond.fieldLinkNest "TreePress$Document" (136 : Nat) "TreePress$Rule" "how" "I" "TreePress") ∈ lw_tbl := lw_at lw_m3 210 rfl
theorem q825 : (Jvm.Cond.fieldLinkNest "TreePress$Document" (105 : Nat) "TreePress$Rule" "value" "[B" "TreePress") ∈ lw_tbl := lw_at lw_m3 214 rfl
theorem q859 : (Jvm.Cond.instanceMethod ({ cls := "TreePress$Document", name := "rule", desc := "([B[B)LTreePress$Rule;" } : Jvm.MethodName)) ∈ lw_all := lw_g (lw_at lw_m4 8 rfl) rfl
theorem q860 : (Jvm.Cond.selects "TreePress$Document" ({ cls := "TreePress$Document", name := "rule", desc := "([B[B)LTreePress$Rule;" } : Jvm.MethodName) ({ cls := "TreePress$Document", name := "rule", desc := "([B[B)LTreePress$Rule;" } : Jvm.MethodName)) ∈ lw_all := lw_g (lw_at lw_m4 9 rfl) rfl
theorem q861 : (Jvm.Cond.code ({ cls := "TreePress$Document", name := "rule", desc := "([B[B)LTreePress$Rule;" } : Jvm.MethodName) prog_4_method_4_code (4 : Nat) (Option.some (Jvm.ClassFile.FieldType.object "TreePress$Rule"))) ∈ lw_all := lw_g (lw_at lw_m4 10 rfl) rfl
theorem q862 : (Jvm.Cond.methodLink "TreePress$Document" (57 : Nat) ({ cls := "java/util/ArrayList", name := "get", desc := "(I)Ljava/lang/Object;" } : Jvm.MethodName)) ∈ lw_all := lw_g (lw_at lw_m4 11 rfl) rfl
theorem q863 : (Jvm.Cond.classLink "TreePress$Document" (71 : Nat) "TreePress$Rule") ∈ lw_all := lw_g (lw_at lw_m4 12 rfl) rfl
theorem q864 : (Jvm.Cond.methodLinkNest "TreePress$Document" (67 : Nat) ({ cls := "TreePress", name := "isSame", desc := "([B[B)Z" } : Jvm.MethodName) "TreePress") ∈ lw_tbl := lw_at lw_m4 13 rfl
theorem q924 : (Jvm.Cond.fieldLinkNest "TreePress$Document" (128 : Nat) "TreePress$Element" "name" "[B" "TreePress") ∈ lw_tbl := lw_at lw_m4 73 rfl
theorem q927 : (Jvm.Cond.fieldLinkNest "TreePress$Document" (144 : Nat) "TreePress$Element" "attributes" "Ljava/util/ArrayList;" "TreePress") ∈ lw_tbl := lw_at lw_m4 76 rfl
theorem q969 : (Jvm.Cond.fieldLinkNest "TreePress$Document" (129 : Nat) "TreePress$Attribute" "name" "[B" "TreePress") ∈ lw_tbl := lw_at lw_m4 118 rfl
theorem q972 : (Jvm.Cond.fieldLinkNest "TreePress$Document" (147 : Nat) "TreePress$Attribute" "given" "Z" "TreePress") ∈ lw_tbl := lw_at lw_m4 121 rfl
theorem q975 : (Jvm.Cond.fieldLink "TreePress$Document" (133 : Nat) "TreePress$Attribute" "bytes" "[B") ∈ lw_all := lw_g (lw_at lw_m4 124 rfl) rfl
theorem q1018 : (Jvm.Cond.instanceMethod ({ cls := "TreePress$Document", name := "judge", desc := "(Ljava/util/ArrayList;)V" } : Jvm.MethodName)) ∈ lw_all := lw_g (lw_at lw_m4 167 rfl) rfl
theorem q1019 : (Jvm.Cond.selects "TreePress$Document" ({ cls := "TreePress$Document", name := "judge", desc := "(Ljava/util/ArrayList;)V" } : Jvm.MethodName) ({ cls := "TreePress$Document", name := "judge", desc := "(Ljava/util/ArrayList;)V" } : Jvm.MethodName)) ∈ lw_all := lw_g (lw_at lw_m4 168 rfl) rfl
theorem q1020 : (Jvm.Cond.code ({ cls := "TreePress$Document", name := "judge", desc := "(Ljava/util/ArrayList;)V" } : Jvm.MethodName) prog_4_method_11_code (6 : Nat) (Option.none : Option Jvm.ClassFile.FieldType)) ∈ lw_all := lw_g (lw_at lw_m4 169 rfl) rfl
theorem q1021 : (Jvm.Cond.classLink "TreePress$Document" (159 : Nat) "[I") ∈ lw_all := lw_g (lw_at lw_m4 170 rfl) rfl
theorem q1022 : (Jvm.Cond.methodLink "TreePress$Document" (161 : Nat) ({ cls := "TreePress$Document", name := "judgeSpec", desc := "(I)V" } : Jvm.MethodName)) ∈ lw_all := lw_g (lw_at lw_m4 171 rfl) rfl
theorem q1023 : (Jvm.Cond.privateMethod ({ cls := "TreePress$Document", name := "judgeSpec", desc := "(I)V" } : Jvm.MethodName)) ∈ lw_tbl := lw_at lw_m4 172 rfl
theorem q1024 : (Jvm.Cond.instanceMethod ({ cls := "TreePress$Document", name := "judgeSpec", desc := "(I)V" } : Jvm.MethodName)) ∈ lw_all := lw_g (lw_at lw_m4 173 rfl) rfl
theorem q1025 : (Jvm.Cond.code ({ cls := "TreePress$Document", name := "judgeSpec", desc := "(I)V" } : Jvm.MethodName) prog_4_method_6_code (3 : Nat) (Option.none : Option Jvm.ClassFile.FieldType)) ∈ lw_all := lw_g (lw_at lw_m4 174 rfl) rfl
theorem q1026 : (Jvm.Cond.classLink "TreePress$Document" (61 : Nat) "TreePress$Spec") ∈ lw_all := lw_g (lw_at lw_m4 175 rfl) rfl
theorem q1027 : (Jvm.Cond.methodLink "TreePress$Document" (77 : Nat) ({ cls := "TreePress$Document", name := "spec", desc := "([B)LTreePress$Spec;" } : Jvm.MethodName)) ∈ lw_all := lw_g (lw_at lw_m4 176 rfl) rfl
theorem q1028 : (Jvm.Cond.instanceMethod ({ cls := "TreePress$Document", name := "spec", desc := "([B)LTreePress$Spec;" } : Jvm.MethodName)) ∈ lw_all := lw_g (lw_at lw_m4 177 rfl) rfl
theorem q1029 : (Jvm.Cond.selects "TreePress$Document" ({ cls := "TreePress$Document", name := "spec", desc := "([B)LTreePress$Spec;" } : Jvm.MethodName) ({ cls := "TreePress$Document", name := "spec", desc := "([B)LTreePress$Spec;" } : Jvm.MethodName)) ∈ lw_all := lw_g (lw_at lw_m4 178 rfl) rfl
theorem q1030 : (Jvm.Cond.code ({ cls := "TreePress$Document", name := "spec", desc := "([B)LTreePress$Spec;" } : Jvm.MethodName) prog_4_method_3_code (3 : Nat) (Option.some (Jvm.ClassFile.FieldType.object "TreePress$Spec"))) ∈ lw_all := lw_g (lw_at lw_m4 179 rfl) rfl
theorem q1031 : (Jvm.Cond.methodLink "TreePress$Document" (81 : Nat) ({ cls := "TreePress$Document", name := "find", desc := "(II)V" } : Jvm.MethodName)) ∈ lw_all := lw_g (lw_at lw_m4 180 rfl) rfl
theorem q1032 : (Jvm.Cond.privateMethod ({ cls := "TreePress$Document", name := "find", desc := "(II)V" } : Jvm.MethodName)) ∈ lw_tbl := lw_at lw_m4 181 rfl
theorem q1033 : (Jvm.Cond.instanceMethod ({ cls := "TreePress$Document", name := "find", desc := "(II)V" } : Jvm.MethodName)) ∈ lw_all := lw_g (lw_at lw_m4 182 rfl) rfl
theorem q1034 : (Jvm.Cond.code ({ cls := "TreePress$Document", name := "find", desc := "(II)V" } : Jvm.MethodName) prog_4_method_5_code (3 : Nat) (Option.none : Option Jvm.ClassFile.FieldType)) ∈ lw_all := lw_g (lw_at lw_m4 183 rfl) rfl
theorem q1035 : (Jvm.Cond.methodLink "TreePress$Document" (88 : Nat) ({ cls := "TreePress$Spec", name := "isDeterministic", desc := "()Z" } : Jvm.MethodName)) ∈ lw_all := lw_g (lw_at lw_m4 184 rfl) rfl
theorem q1047 : (Jvm.Cond.constantLong "TreePress$Document" (92 : Nat) (-1 : Int64)) ∈ lw_all := lw_g (lw_at lw_m4 196 rfl) rfl
theorem q1048 : (Jvm.Cond.methodLinkNest "TreePress$Document" (94 : Nat) ({ cls := "TreePress$Spec", name := "isDoubled", desc := "(J)Z" } : Jvm.MethodName) "TreePress") ∈ lw_tbl := lw_at lw_m4 197 rfl
theorem q1049 : (Jvm.Cond.methodLink "TreePress$Document" (165 : Nat) ({ cls := "TreePress$Document", name := "judgeRule", desc := "(LTreePress$Rule;)V" } : Jvm.MethodName)) ∈ lw_all := lw_g (lw_at lw_m4 198 rfl) rfl
theorem q1050 : (Jvm.Cond.privateMethod ({ cls := "TreePress$Document", name := "judgeRule", desc := "(LTreePress$Rule;)V" } : Jvm.MethodName)) ∈ lw_tbl := lw_at lw_m4 199 rfl
theorem q1051 : (Jvm.Cond.instanceMethod ({ cls := "TreePress$Document", name := "judgeRule", desc := "(LTreePress$Rule;)V" } : Jvm.MethodName)) ∈ lw_all := lw_g (lw_at lw_m4 200 rfl) rfl
theorem q1052 : (Jvm.Cond.code ({ cls := "TreePress$Document", name := "judgeRule", desc := "(LTreePress$Rule;)V" } : Jvm.MethodName) prog_4_method_7_code (5 : Nat) (Option.none : Option Jvm.ClassFile.FieldType)) ∈ lw_all := lw_g (lw_at lw_m4 201 rfl) rfl
theorem q1053 : (Jvm.Cond.methodLink "TreePress$Document" (98 : Nat) ({ cls := "TreePress$Document", name := "rule", desc := "([B[B)LTreePress$Rule;" } : Jvm.MethodName)) ∈ lw_all := lw_g (lw_at lw_m4 202 rfl) rfl
theorem q1054 : (Jvm.Cond.methodLink "TreePress$Document" (109 : Nat) ({ cls := "TreePress$Rule", name := "isOf", desc := "([B)Z" } : Jvm.MethodName)) ∈ lw_all := lw_g (lw_at lw_m4 203 rfl) rfl
theorem q1066 : (Jvm.Cond.classLink "TreePress$Document" (114 : Nat) "TreePress$Element") ∈ lw_all := lw_g (lw_at lw_m4 215 rfl) rfl
theorem q1067 : (Jvm.Cond.methodLink "TreePress$Document" (171 : Nat) ({ cls := "TreePress$Document", name := "judgeElement", desc := "(LTreePress$Element;)V" } : Jvm.MethodName)) ∈ lw_all := lw_g (lw_at lw_m4 216 rfl) rfl
theorem q1068 : (Jvm.Cond.privateMethod ({ cls := "TreePress$Document", name := "judgeElement", desc := "(LTreePress$Element;)V" } : Jvm.MethodName)) ∈ lw_tbl := lw_at lw_m4 217 rfl
theorem q1069 : (Jvm.Cond.instanceMethod ({ cls := "TreePress$Document", name := "judgeElement", desc := "(LTreePress$Element;)V" } : Jvm.MethodName)) ∈ lw_all := lw_g (lw_at lw_m4 218 rfl) rfl
theorem q1070 : (Jvm.Cond.code ({ cls := "TreePress$Document", name := "judgeElement", desc := "(LTreePress$Element;)V" } : Jvm.MethodName) prog_4_method_10_code (5 : Nat) (Option.none : Option Jvm.ClassFile.FieldType)) ∈ lw_all := lw_g (lw_at lw_m4 219 rfl) rfl
theorem q1071 : (Jvm.Cond.methodLink "TreePress$Document" (140 : Nat) ({ cls := "TreePress$Document", name := "fits", desc := "(LTreePress$Element;LTreePress$Spec;)Z" } : Jvm.MethodName)) ∈ lw_all := lw_g (lw_at lw_m4 220 rfl) rfl
theorem q1072 : (Jvm.Cond.privateMethod ({ cls := "TreePress$Document", name := "fits", desc := "(LTreePress$Element;LTreePress$Spec;)Z" } : Jvm.MethodName)) ∈ lw_tbl := lw_at lw_m4 221 rfl
theorem q1073 : (Jvm.Cond.instanceMethod ({ cls := "TreePress$Document", name := "fits", desc := "(LTreePress$Element;LTreePress$Spec;)Z" } : Jvm.MethodName)) ∈ lw_all := lw_g (lw_at lw_m4 222 rfl) rfl
theorem q1074 : (Jvm.Cond.code ({ cls := "TreePress$Document", name := "fits", desc := "(LTreePress$Element;LTreePress$Spec;)Z" } : Jvm.MethodName) prog_4_method_8_code (6 : Nat) (Option.some Jvm.ClassFile.FieldType.boolean)) ∈ lw_all := lw_g (lw_at lw_m4 223 rfl) rfl
theorem q1075 : (Jvm.Cond.methodLinkNest "TreePress$Document" (116 : Nat) ({ cls := "TreePress$Spec", name := "isRow", desc := "(LTreePress$Element;)Z" } : Jvm.MethodName) "TreePress") ∈ lw_tbl := lw_at lw_m4 224 rfl
theorem q1097 : (Jvm.Cond.classLink "TreePress$Document" (46 : Nat) "TreePress$Node") ∈ lw_all := lw_g (lw_at lw_m5 6 rfl) rfl
theorem q1098 : (Jvm.Cond.methodLink "TreePress$Document" (120 : Nat) ({ cls := "TreePress$Node", name := "kind", desc := "()I" } : Jvm.MethodName)) ∈ lw_all := lw_g (lw_at lw_m5 7 rfl) rfl
theorem q1114 : (Jvm.Cond.methodLink "TreePress$Document" (122 : Nat) ({ cls := "TreePress$Node", name := "name", desc := "()[B" } : Jvm.MethodName)) ∈ lw_all := lw_g (lw_at lw_m5 23 rfl) rfl
theorem q1115 : (Jvm.Cond.methodLinkNest "TreePress$Document" (125 : Nat) ({ cls := "TreePress$Spec", name := "hasPlace", desc := "([B)Z" } : Jvm.MethodName) "TreePress") ∈ lw_tbl := lw_at lw_m5 24 rfl
theorem q1120 : (Jvm.Cond.classLink "TreePress$Document" (130 : Nat) "TreePress$Attribute") ∈ lw_all := lw_g (lw_at lw_m5 29 rfl) rfl
theorem q1121 : (Jvm.Cond.methodLink "TreePress$Document" (151 : Nat) ({ cls := "TreePress$Document", name := "judgeAttribute", desc := "(LTreePress$Element;LTreePress$Attribute;)V" } : Jvm.MethodName)) ∈ lw_all := lw_g (lw_at lw_m5 30 rfl) rfl
theorem q1122 : (Jvm.Cond.privateMethod ({ cls := "TreePress$Document", name := "judgeAttribute", desc := "(LTreePress$Element;LTreePress$Attribute;)V" } : Jvm.MethodName)) ∈ lw_tbl := lw_at lw_m5 31 rfl
theorem q1123 : (Jvm.Cond.instanceMethod ({ cls := "TreePress$Document", name := "judgeAttribute", desc := "(LTreePress$Element;LTreePress$Attribute;)V" } : Jvm.MethodName)) ∈ lw_all := lw_g (lw_at lw_m5 32 rfl) rfl
theorem q1124 : (Jvm.Cond.code ({ cls := "TreePress$Document", name := "judgeAttribute", desc := "(LTreePress$Element;LTreePress$Attribute;)V" } : Jvm.MethodName) prog_4_method_9_code (7 : Nat) (Option.none : Option Jvm.ClassFile.FieldType)) ∈ lw_all := lw_g (lw_at lw_m5 33 rfl) rfl
theorem q1125 : (Jvm.Cond.methodLink "TreePress$Document" (155 : Nat) ({ cls := "TreePress$Element", name := "attribute", desc := "([B)LTreePress$Attribute;" } : Jvm.MethodName)) ∈ lw_all := lw_g (lw_at lw_m5 34 rfl) rfl
theorem q2226 : (Jvm.Cond.castable "TreePress$Document" "java/lang/Object") ∈ lw_tbl := lw_at lw_m9 175 rfl
theorem in_X4 : ∀ w ∈ wsX40, w ∈ lw_all := lw_in wsX40 [427, 429, 431, 433, 435, 437, 439, 441] (by decide +kernel) (by decide +kernel)

/-! TreePress$Node -/
def RX5 : String := "TreePress$Node"
abbrev cX5_init : ByteArray := prog_8_method_1_code
def yX5_init : MethodName := ⟨RX5, "<init>", "()V"⟩
abbrev cX5_name : ByteArray := prog_8_method_3_code
def yX5_name : MethodName := ⟨RX5, "name", "()[B"⟩
abbrev cX5_attributes : ByteArray := prog_8_method_6_code
def yX5_attributes : MethodName := ⟨RX5, "attributes", "()I"⟩
abbrev cX5_within : ByteArray := prog_8_method_7_code
def yX5_within : MethodName := ⟨RX5, "within", "()I"⟩
theorem q141 : (Jvm.Cond.initialized "TreePress$Node") ∈ lw_all := lw_g (lw_at lw_m1 10 rfl) rfl
theorem q297 : (Jvm.Cond.instanceMethod ({ cls := "TreePress$Node", name := "<init>", desc := "()V" } : Jvm.MethodName)) ∈ lw_all := lw_g (lw_at lw_m1 166 rfl) rfl
theorem q298 : (Jvm.Cond.code ({ cls := "TreePress$Node", name := "<init>", desc := "()V" } : Jvm.MethodName) prog_8_method_1_code (1 : Nat) (Option.none : Option Jvm.ClassFile.FieldType)) ∈ lw_all := lw_g (lw_at lw_m1 167 rfl) rfl
theorem q299 : (Jvm.Cond.methodLink "TreePress$Node" (1 : Nat) ({ cls := "java/lang/Object", name := "<init>", desc := "()V" } : Jvm.MethodName)) ∈ lw_all := lw_g (lw_at lw_m1 168 rfl) rfl
theorem q332 : (Jvm.Cond.soleField "TreePress$Node" "number") ∈ lw_all := lw_g (lw_at lw_m1 201 rfl) rfl
theorem q334 : (Jvm.Cond.soleField "TreePress$Node" "in") ∈ lw_all := lw_g (lw_at lw_m1 203 rfl) rfl
theorem q1082 : (Jvm.Cond.instanceMethod ({ cls := "TreePress$Node", name := "name", desc := "()[B" } : Jvm.MethodName)) ∈ lw_all := lw_g (lw_at lw_m4 231 rfl) rfl
theorem q1083 : (Jvm.Cond.sameMethod "TreePress$Node" "TreePress$Node" "name" "()[B") ∈ lw_all := lw_g (lw_at lw_m4 232 rfl) rfl
theorem q1092 : (Jvm.Cond.code ({ cls := "TreePress$Node", name := "name", desc := "()[B" } : Jvm.MethodName) prog_8_method_3_code (1 : Nat) (Option.some (Jvm.ClassFile.FieldType.array Jvm.ClassFile.FieldType.byte))) ∈ lw_all := lw_g (lw_at lw_m5 1 rfl) rfl
theorem q1099 : (Jvm.Cond.declares ({ cls := "TreePress$Node", name := "kind", desc := "()I" } : Jvm.MethodName)) ∈ lw_tbl := lw_at lw_m5 8 rfl
theorem q1100 : (Jvm.Cond.sameMethod "TreePress$Node" "TreePress$Node" "kind" "()I") ∈ lw_all := lw_g (lw_at lw_m5 9 rfl) rfl
theorem q1150 : (Jvm.Cond.declares ({ cls := "TreePress$Node", name := "size", desc := "()I" } : Jvm.MethodName)) ∈ lw_tbl := lw_at lw_m5 59 rfl
theorem q1151 : (Jvm.Cond.sameMethod "TreePress$Node" "TreePress$Node" "size" "()I") ∈ lw_all := lw_g (lw_at lw_m5 60 rfl) rfl
theorem q1165 : (Jvm.Cond.instanceMethod ({ cls := "TreePress$Node", name := "attributes", desc := "()I" } : Jvm.MethodName)) ∈ lw_all := lw_g (lw_at lw_m5 74 rfl) rfl
theorem q1166 : (Jvm.Cond.sameMethod "TreePress$Node" "TreePress$Node" "attributes" "()I") ∈ lw_all := lw_g (lw_at lw_m5 75 rfl) rfl
theorem q1173 : (Jvm.Cond.code ({ cls := "TreePress$Node", name := "attributes", desc := "()I" } : Jvm.MethodName) prog_8_method_6_code (1 : Nat) (Option.some Jvm.ClassFile.FieldType.int)) ∈ lw_all := lw_g (lw_at lw_m5 82 rfl) rfl
theorem q1175 : (Jvm.Cond.instanceMethod ({ cls := "TreePress$Node", name := "within", desc := "()I" } : Jvm.MethodName)) ∈ lw_all := lw_g (lw_at lw_m5 84 rfl) rfl
theorem q1176 : (Jvm.Cond.sameMethod "TreePress$Node" "TreePress$Node" "within" "()I") ∈ lw_all := lw_g (lw_at lw_m5 85 rfl) rfl
theorem q1183 : (Jvm.Cond.code ({ cls := "TreePress$Node", name := "within", desc := "()I" } : Jvm.MethodName) prog_8_method_7_code (1 : Nat) (Option.some Jvm.ClassFile.FieldType.int)) ∈ lw_all := lw_g (lw_at lw_m5 92 rfl) rfl
theorem q1194 : (Jvm.Cond.declares ({ cls := "TreePress$Node", name := "at", desc := "(I)I" } : Jvm.MethodName)) ∈ lw_tbl := lw_at lw_m5 103 rfl
theorem q1195 : (Jvm.Cond.sameMethod "TreePress$Node" "TreePress$Node" "at" "(I)I") ∈ lw_all := lw_g (lw_at lw_m5 104 rfl) rfl
theorem q2221 : (Jvm.Cond.castable "TreePress$Node" "java/lang/Object") ∈ lw_tbl := lw_at lw_m9 170 rfl

/-! TreePress$Parent -/
def RX6 : String := "TreePress$Parent"
def TX6 : u_T := fun k => match k with
  | 0 => ("TreePress$Node", "number", "I", false)
  | 1 => ("TreePress$Node", "in", "LTreePress$Parent;", false)
  | 2 => ("TreePress$Parent", "nodes", "Ljava/util/ArrayList;", true)
  | _ => ("TreePress$Parent", "last", "I", false)
def tyX6 : Nat → FieldType := fun k => match k with
  | 0 => .int
  | 1 => .object "TreePress$Parent"
  | 2 => .object "java/util/ArrayList"
  | _ => .int
abbrev wsX60 : List Cond := u_ws RX6 TX6 4
theorem nmX6 : ∀ a, a < 4 → ∀ b, b < 4 → a ≠ b → (TX6 a).2.1 ≠ (TX6 b).2.1 := by decide +kernel
theorem tyX6_ok : ∀ k, k < 4 → parseFieldDescriptor (TX6 k).2.2.1 = some (tyX6 k) := by decide +kernel
abbrev cX6_init : ByteArray := prog_9_method_1_code
def yX6_init : MethodName := ⟨RX6, "<init>", "()V"⟩
abbrev cX6_kind : ByteArray := prog_9_method_2_code
def yX6_kind : MethodName := ⟨RX6, "kind", "()I"⟩
abbrev cX6_size : ByteArray := prog_9_method_3_code
def yX6_size : MethodName := ⟨RX6, "size", "()I"⟩
abbrev cX6_within : ByteArray := prog_9_method_5_code
def yX6_within : MethodName := ⟨RX6, "within", "()I"⟩
abbrev cX6_at : ByteArray := prog_9_method_4_code
def yX6_at : MethodName := ⟨RX6, "at", "(I)I"⟩
theorem q142 : (Jvm.Cond.initialized "TreePress$Parent") ∈ lw_all := lw_g (lw_at lw_m1 11 rfl) rfl
theorem q292 : (Jvm.Cond.instantiable "TreePress$Parent" (4 : Nat)) ∈ lw_all := lw_g (lw_at lw_m1 161 rfl) rfl
theorem q294 : (Jvm.Cond.instanceMethod ({ cls := "TreePress$Parent", name := "<init>", desc := "()V" } : Jvm.MethodName)) ∈ lw_all := lw_g (lw_at lw_m1 163 rfl) rfl
theorem q295 : (Jvm.Cond.code ({ cls := "TreePress$Parent", name := "<init>", desc := "()V" } : Jvm.MethodName) prog_9_method_1_code (1 : Nat) (Option.none : Option Jvm.ClassFile.FieldType)) ∈ lw_all := lw_g (lw_at lw_m1 164 rfl) rfl
theorem q296 : (Jvm.Cond.methodLinkNest "TreePress$Parent" (1 : Nat) ({ cls := "TreePress$Node", name := "<init>", desc := "()V" } : Jvm.MethodName) "TreePress") ∈ lw_tbl := lw_at lw_m1 165 rfl
theorem q300 : (Jvm.Cond.classLink "TreePress$Parent" (7 : Nat) "java/util/ArrayList") ∈ lw_all := lw_g (lw_at lw_m1 169 rfl) rfl
theorem q301 : (Jvm.Cond.methodLink "TreePress$Parent" (9 : Nat) ({ cls := "java/util/ArrayList", name := "<init>", desc := "(I)V" } : Jvm.MethodName)) ∈ lw_all := lw_g (lw_at lw_m1 170 rfl) rfl
theorem q308 : (Jvm.Cond.fieldLink "TreePress$Parent" (12 : Nat) "TreePress$Parent" "nodes" "Ljava/util/ArrayList;") ∈ lw_all := lw_g (lw_at lw_m1 177 rfl) rfl
theorem q327 : (Jvm.Cond.laysFinal "TreePress$Parent" "TreePress$Parent" "nodes" "Ljava/util/ArrayList;") ∈ lw_all := lw_g (lw_at lw_m1 196 rfl) rfl
theorem q328 : (Jvm.Cond.soleField "TreePress$Parent" "nodes") ∈ lw_all := lw_g (lw_at lw_m1 197 rfl) rfl
theorem q329 : (Jvm.Cond.lays "TreePress$Parent" "TreePress$Parent" "last" "I") ∈ lw_all := lw_g (lw_at lw_m1 198 rfl) rfl
theorem q330 : (Jvm.Cond.soleField "TreePress$Parent" "last") ∈ lw_all := lw_g (lw_at lw_m1 199 rfl) rfl
theorem q331 : (Jvm.Cond.lays "TreePress$Parent" "TreePress$Node" "number" "I") ∈ lw_all := lw_g (lw_at lw_m1 200 rfl) rfl
theorem q333 : (Jvm.Cond.lays "TreePress$Parent" "TreePress$Node" "in" "LTreePress$Parent;") ∈ lw_all := lw_g (lw_at lw_m1 202 rfl) rfl
theorem q335 : (Jvm.Cond.superclass "TreePress$Parent" "TreePress$Node") ∈ lw_all := lw_g (lw_at lw_m1 204 rfl) rfl
theorem q385 : (Jvm.Cond.selects "TreePress$Parent" ({ cls := "java/lang/Object", name := "getClass", desc := "()Ljava/lang/Class;" } : Jvm.MethodName) ({ cls := "java/lang/Object", name := "getClass", desc := "()Ljava/lang/Class;" } : Jvm.MethodName)) ∈ lw_all := lw_g (lw_at lw_m2 14 rfl) rfl
theorem q1090 : (Jvm.Cond.selects "TreePress$Parent" ({ cls := "TreePress$Node", name := "name", desc := "()[B" } : Jvm.MethodName) ({ cls := "TreePress$Node", name := "name", desc := "()[B" } : Jvm.MethodName)) ∈ lw_all := lw_g (lw_at lw_m4 239 rfl) rfl
theorem q1108 : (Jvm.Cond.instanceMethod ({ cls := "TreePress$Parent", name := "kind", desc := "()I" } : Jvm.MethodName)) ∈ lw_all := lw_g (lw_at lw_m5 17 rfl) rfl
theorem q1109 : (Jvm.Cond.code ({ cls := "TreePress$Parent", name := "kind", desc := "()I" } : Jvm.MethodName) prog_9_method_2_code (1 : Nat) (Option.some Jvm.ClassFile.FieldType.int)) ∈ lw_all := lw_g (lw_at lw_m5 18 rfl) rfl
theorem q1110 : (Jvm.Cond.selects "TreePress$Parent" ({ cls := "TreePress$Node", name := "kind", desc := "()I" } : Jvm.MethodName) ({ cls := "TreePress$Parent", name := "kind", desc := "()I" } : Jvm.MethodName)) ∈ lw_all := lw_g (lw_at lw_m5 19 rfl) rfl
theorem q1156 : (Jvm.Cond.instanceMethod ({ cls := "TreePress$Parent", name := "size", desc := "()I" } : Jvm.MethodName)) ∈ lw_all := lw_g (lw_at lw_m5 65 rfl) rfl
theorem q1157 : (Jvm.Cond.code ({ cls := "TreePress$Parent", name := "size", desc := "()I" } : Jvm.MethodName) prog_9_method_3_code (3 : Nat) (Option.some Jvm.ClassFile.FieldType.int)) ∈ lw_all := lw_g (lw_at lw_m5 66 rfl) rfl
theorem q1158 : (Jvm.Cond.methodLink "TreePress$Parent" (18 : Nat) ({ cls := "java/util/ArrayList", name := "size", desc := "()I" } : Jvm.MethodName)) ∈ lw_all := lw_g (lw_at lw_m5 67 rfl) rfl
theorem q1159 : (Jvm.Cond.methodLink "TreePress$Parent" (22 : Nat) ({ cls := "java/util/ArrayList", name := "get", desc := "(I)Ljava/lang/Object;" } : Jvm.MethodName)) ∈ lw_all := lw_g (lw_at lw_m5 68 rfl) rfl
theorem q1160 : (Jvm.Cond.classLink "TreePress$Parent" (2 : Nat) "TreePress$Node") ∈ lw_all := lw_g (lw_at lw_m5 69 rfl) rfl
theorem q1161 : (Jvm.Cond.methodLink "TreePress$Parent" (26 : Nat) ({ cls := "TreePress$Node", name := "size", desc := "()I" } : Jvm.MethodName)) ∈ lw_all := lw_g (lw_at lw_m5 70 rfl) rfl
theorem q1162 : (Jvm.Cond.selects "TreePress$Parent" ({ cls := "TreePress$Node", name := "size", desc := "()I" } : Jvm.MethodName) ({ cls := "TreePress$Parent", name := "size", desc := "()I" } : Jvm.MethodName)) ∈ lw_all := lw_g (lw_at lw_m5 71 rfl) rfl
theorem q1171 : (Jvm.Cond.selects "TreePress$Parent" ({ cls := "TreePress$Node", name := "attributes", desc := "()I" } : Jvm.MethodName) ({ cls := "TreePress$Node", name := "attributes", desc := "()I" } : Jvm.MethodName)) ∈ lw_all := lw_g (lw_at lw_m5 80 rfl) rfl
theorem q1179 : (Jvm.Cond.instanceMethod ({ cls := "TreePress$Parent", name := "within", desc := "()I" } : Jvm.MethodName)) ∈ lw_all := lw_g (lw_at lw_m5 88 rfl) rfl
theorem q1180 : (Jvm.Cond.code ({ cls := "TreePress$Parent", name := "within", desc := "()I" } : Jvm.MethodName) prog_9_method_5_code (1 : Nat) (Option.some Jvm.ClassFile.FieldType.int)) ∈ lw_all := lw_g (lw_at lw_m5 89 rfl) rfl
theorem q1181 : (Jvm.Cond.selects "TreePress$Parent" ({ cls := "TreePress$Node", name := "within", desc := "()I" } : Jvm.MethodName) ({ cls := "TreePress$Parent", name := "within", desc := "()I" } : Jvm.MethodName)) ∈ lw_all := lw_g (lw_at lw_m5 90 rfl) rfl
theorem q1200 : (Jvm.Cond.instanceMethod ({ cls := "TreePress$Parent", name := "at", desc := "(I)I" } : Jvm.MethodName)) ∈ lw_all := lw_g (lw_at lw_m5 109 rfl) rfl
theorem q1201 : (Jvm.Cond.code ({ cls := "TreePress$Parent", name := "at", desc := "(I)I" } : Jvm.MethodName) prog_9_method_4_code (4 : Nat) (Option.some Jvm.ClassFile.FieldType.int)) ∈ lw_all := lw_g (lw_at lw_m5 110 rfl) rfl
theorem q1202 : (Jvm.Cond.methodLink "TreePress$Parent" (27 : Nat) ({ cls := "TreePress$Node", name := "at", desc := "(I)I" } : Jvm.MethodName)) ∈ lw_all := lw_g (lw_at lw_m5 111 rfl) rfl
theorem q1203 : (Jvm.Cond.selects "TreePress$Parent" ({ cls := "TreePress$Node", name := "at", desc := "(I)I" } : Jvm.MethodName) ({ cls := "TreePress$Parent", name := "at", desc := "(I)I" } : Jvm.MethodName)) ∈ lw_all := lw_g (lw_at lw_m5 112 rfl) rfl
theorem q2215 : (Jvm.Cond.sameMethod "TreePress$Parent" "TreePress$Parent" "kind" "()I") ∈ lw_all := lw_g (lw_at lw_m9 164 rfl) rfl
theorem q2218 : (Jvm.Cond.castable "TreePress$Parent" "TreePress$Node") ∈ lw_tbl := lw_at lw_m9 167 rfl
theorem q2227 : (Jvm.Cond.castable "TreePress$Parent" "java/lang/Object") ∈ lw_tbl := lw_at lw_m9 176 rfl
theorem in_X6 : ∀ w ∈ wsX60, w ∈ lw_all := lw_in wsX60 [331, 333, 327, 329] (by decide +kernel) (by decide +kernel)

/-! TreePress$Fault -/
def RX7 : String := "TreePress$Fault"
def TX7 : u_T := fun k => match k with
  | 0 => ("java/lang/Throwable", "cause", "Ljava/lang/Throwable;", false)
  | 1 => ("java/lang/Throwable", "stackTrace", "[Ljava/lang/StackTraceElement;", false)
  | 2 => ("java/lang/Throwable", "suppressedExceptions", "Ljava/util/List;", false)
  | 3 => ("java/lang/Throwable", "detailMessage", "Ljava/lang/String;", false)
  | 4 => ("java/lang/Throwable", "backtrace", "Ljava/lang/Object;", false)
  | 5 => ("java/lang/Throwable", "depth", "I", false)
  | 6 => ("TreePress$Fault", "kind", "I", true)
  | _ => ("TreePress$Fault", "place", "I", true)
def tyX7 : Nat → FieldType := fun k => match k with
  | 0 => .object "java/lang/Throwable"
  | 1 => .array (.object "java/lang/StackTraceElement")
  | 2 => .object "java/util/List"
  | 3 => .object "java/lang/String"
  | 4 => .object "java/lang/Object"
  | 5 => .int
  | 6 => .int
  | _ => .int
abbrev wsX70 : List Cond := u_ws RX7 TX7 8
theorem nmX7 : ∀ a, a < 8 → ∀ b, b < 8 → a ≠ b → (TX7 a).2.1 ≠ (TX7 b).2.1 := by decide +kernel
theorem tyX7_ok : ∀ k, k < 8 → parseFieldDescriptor (TX7 k).2.2.1 = some (tyX7 k) := by decide +kernel
abbrev cX7_init : ByteArray := prog_6_method_1_code
def yX7_init : MethodName := ⟨RX7, "<init>", "(II)V"⟩
theorem q153 : (Jvm.Cond.initialized "TreePress$Fault") ∈ lw_all := lw_g (lw_at lw_m1 22 rfl) rfl
theorem q383 : (Jvm.Cond.selects "TreePress$Fault" ({ cls := "java/lang/Object", name := "getClass", desc := "()Ljava/lang/Class;" } : Jvm.MethodName) ({ cls := "java/lang/Object", name := "getClass", desc := "()Ljava/lang/Class;" } : Jvm.MethodName)) ∈ lw_all := lw_g (lw_at lw_m2 12 rfl) rfl
theorem q577 : (Jvm.Cond.instantiable "TreePress$Fault" (8 : Nat)) ∈ lw_all := lw_g (lw_at lw_m2 206 rfl) rfl
theorem q578 : (Jvm.Cond.castable "TreePress$Fault" "TreePress$Fault") ∈ lw_tbl := lw_at lw_m2 207 rfl
theorem q585 : (Jvm.Cond.selects "TreePress$Fault" ({ cls := "java/lang/Throwable", name := "fillInStackTrace", desc := "(I)Ljava/lang/Throwable;" } : Jvm.MethodName) ({ cls := "java/lang/Throwable", name := "fillInStackTrace", desc := "(I)Ljava/lang/Throwable;" } : Jvm.MethodName)) ∈ lw_all := lw_g (lw_at lw_m2 214 rfl) rfl
theorem q586 : (Jvm.Cond.selects "TreePress$Fault" ({ cls := "java/lang/Throwable", name := "fillInStackTrace", desc := "()Ljava/lang/Throwable;" } : Jvm.MethodName) ({ cls := "java/lang/Throwable", name := "fillInStackTrace", desc := "()Ljava/lang/Throwable;" } : Jvm.MethodName)) ∈ lw_all := lw_g (lw_at lw_m2 215 rfl) rfl
theorem q587 : (Jvm.Cond.lays "TreePress$Fault" "java/lang/Throwable" "cause" "Ljava/lang/Throwable;") ∈ lw_all := lw_g (lw_at lw_m2 216 rfl) rfl
theorem q589 : (Jvm.Cond.lays "TreePress$Fault" "java/lang/Throwable" "stackTrace" "[Ljava/lang/StackTraceElement;") ∈ lw_all := lw_g (lw_at lw_m2 218 rfl) rfl
theorem q591 : (Jvm.Cond.lays "TreePress$Fault" "java/lang/Throwable" "suppressedExceptions" "Ljava/util/List;") ∈ lw_all := lw_g (lw_at lw_m2 220 rfl) rfl
theorem q593 : (Jvm.Cond.lays "TreePress$Fault" "java/lang/Throwable" "detailMessage" "Ljava/lang/String;") ∈ lw_all := lw_g (lw_at lw_m2 222 rfl) rfl
theorem q595 : (Jvm.Cond.lays "TreePress$Fault" "java/lang/Throwable" "backtrace" "Ljava/lang/Object;") ∈ lw_all := lw_g (lw_at lw_m2 224 rfl) rfl
theorem q616 : (Jvm.Cond.instanceMethod ({ cls := "TreePress$Fault", name := "<init>", desc := "(II)V" } : Jvm.MethodName)) ∈ lw_all := lw_g (lw_at lw_m3 5 rfl) rfl
theorem q617 : (Jvm.Cond.code ({ cls := "TreePress$Fault", name := "<init>", desc := "(II)V" } : Jvm.MethodName) prog_6_method_1_code (3 : Nat) (Option.none : Option Jvm.ClassFile.FieldType)) ∈ lw_all := lw_g (lw_at lw_m3 6 rfl) rfl
theorem q618 : (Jvm.Cond.methodLink "TreePress$Fault" (1 : Nat) ({ cls := "java/lang/RuntimeException", name := "<init>", desc := "()V" } : Jvm.MethodName)) ∈ lw_all := lw_g (lw_at lw_m3 7 rfl) rfl
theorem q625 : (Jvm.Cond.fieldLink "TreePress$Fault" (7 : Nat) "TreePress$Fault" "kind" "I") ∈ lw_all := lw_g (lw_at lw_m3 14 rfl) rfl
theorem q627 : (Jvm.Cond.fieldLink "TreePress$Fault" (13 : Nat) "TreePress$Fault" "place" "I") ∈ lw_all := lw_g (lw_at lw_m3 16 rfl) rfl
theorem q633 : (Jvm.Cond.laysFinal "TreePress$Fault" "TreePress$Fault" "kind" "I") ∈ lw_all := lw_g (lw_at lw_m3 22 rfl) rfl
theorem q634 : (Jvm.Cond.soleField "TreePress$Fault" "kind") ∈ lw_all := lw_g (lw_at lw_m3 23 rfl) rfl
theorem q635 : (Jvm.Cond.laysFinal "TreePress$Fault" "TreePress$Fault" "place" "I") ∈ lw_all := lw_g (lw_at lw_m3 24 rfl) rfl
theorem q636 : (Jvm.Cond.soleField "TreePress$Fault" "place") ∈ lw_all := lw_g (lw_at lw_m3 25 rfl) rfl
theorem q641 : (Jvm.Cond.lays "TreePress$Fault" "java/lang/Throwable" "depth" "I") ∈ lw_all := lw_g (lw_at lw_m3 30 rfl) rfl
theorem q644 : (Jvm.Cond.superclass "TreePress$Fault" "java/lang/RuntimeException") ∈ lw_all := lw_g (lw_at lw_m3 33 rfl) rfl
theorem q2228 : (Jvm.Cond.castable "TreePress$Fault" "java/lang/Object") ∈ lw_tbl := lw_at lw_m9 177 rfl
theorem in_X7 : ∀ w ∈ wsX70, w ∈ lw_all := lw_in wsX70 [587, 589, 591, 593, 595, 641, 633, 635] (by decide +kernel) (by decide +kernel)

/-! TreePress$Spec -/
def RX8 : String := "TreePress$Spec"
def TX8 : u_T := fun k => match k with
  | 0 => ("TreePress$Spec", "name", "[B", true)
  | 1 => ("TreePress$Spec", "kind", "I", false)
  | 2 => ("TreePress$Spec", "places", "Ljava/util/ArrayList;", true)
  | 3 => ("TreePress$Spec", "follow", "[J", true)
  | 4 => ("TreePress$Spec", "first", "J", false)
  | 5 => ("TreePress$Spec", "last", "J", false)
  | _ => ("TreePress$Spec", "nothing", "Z", false)
def tyX8 : Nat → FieldType := fun k => match k with
  | 0 => .array .byte
  | 1 => .int
  | 2 => .object "java/util/ArrayList"
  | 3 => .array .long
  | 4 => .long
  | 5 => .long
  | _ => .boolean
abbrev wsX80 : List Cond := u_ws RX8 TX8 7
theorem nmX8 : ∀ a, a < 7 → ∀ b, b < 7 → a ≠ b → (TX8 a).2.1 ≠ (TX8 b).2.1 := by decide +kernel
theorem tyX8_ok : ∀ k, k < 7 → parseFieldDescriptor (TX8 k).2.2.1 = some (tyX8 k) := by decide +kernel
abbrev cX8_init : ByteArray := prog_16_method_1_code
def yX8_init : MethodName := ⟨RX8, "<init>", "([B)V"⟩
abbrev cX8_isDeterministic : ByteArray := prog_16_method_3_code
def yX8_isDeterministic : MethodName := ⟨RX8, "isDeterministic", "()Z"⟩
abbrev cX8_isDoubled : ByteArray := prog_16_method_2_code
def yX8_isDoubled : MethodName := ⟨RX8, "isDoubled", "(J)Z"⟩
abbrev cX8_isRow : ByteArray := prog_16_method_6_code
def yX8_isRow : MethodName := ⟨RX8, "isRow", "(LTreePress$Element;)Z"⟩
abbrev cX8_of : ByteArray := prog_16_method_4_code
def yX8_of : MethodName := ⟨RX8, "of", "(J[B)J"⟩
abbrev cX8_hasPlace : ByteArray := prog_16_method_5_code
def yX8_hasPlace : MethodName := ⟨RX8, "hasPlace", "([B)Z"⟩
theorem q154 : (Jvm.Cond.initialized "TreePress$Spec") ∈ lw_all := lw_g (lw_at lw_m1 23 rfl) rfl
theorem q309 : (Jvm.Cond.fieldLink "TreePress$Spec" (53 : Nat) "TreePress$Element" "nodes" "Ljava/util/ArrayList;") ∈ lw_all := lw_g (lw_at lw_m1 178 rfl) rfl
theorem q390 : (Jvm.Cond.selects "TreePress$Spec" ({ cls := "java/lang/Object", name := "getClass", desc := "()Ljava/lang/Class;" } : Jvm.MethodName) ({ cls := "java/lang/Object", name := "getClass", desc := "()Ljava/lang/Class;" } : Jvm.MethodName)) ∈ lw_all := lw_g (lw_at lw_m2 19 rfl) rfl
theorem q697 : (Jvm.Cond.instantiable "TreePress$Spec" (7 : Nat)) ∈ lw_all := lw_g (lw_at lw_m3 86 rfl) rfl
theorem q699 : (Jvm.Cond.instanceMethod ({ cls := "TreePress$Spec", name := "<init>", desc := "([B)V" } : Jvm.MethodName)) ∈ lw_all := lw_g (lw_at lw_m3 88 rfl) rfl
theorem q700 : (Jvm.Cond.code ({ cls := "TreePress$Spec", name := "<init>", desc := "([B)V" } : Jvm.MethodName) prog_16_method_1_code (2 : Nat) (Option.none : Option Jvm.ClassFile.FieldType)) ∈ lw_all := lw_g (lw_at lw_m3 89 rfl) rfl
theorem q701 : (Jvm.Cond.methodLink "TreePress$Spec" (3 : Nat) ({ cls := "java/lang/Object", name := "<init>", desc := "()V" } : Jvm.MethodName)) ∈ lw_all := lw_g (lw_at lw_m3 90 rfl) rfl
theorem q702 : (Jvm.Cond.classLink "TreePress$Spec" (9 : Nat) "java/util/ArrayList") ∈ lw_all := lw_g (lw_at lw_m3 91 rfl) rfl
theorem q703 : (Jvm.Cond.methodLink "TreePress$Spec" (11 : Nat) ({ cls := "java/util/ArrayList", name := "<init>", desc := "()V" } : Jvm.MethodName)) ∈ lw_all := lw_g (lw_at lw_m3 92 rfl) rfl
theorem q704 : (Jvm.Cond.fieldLink "TreePress$Spec" (22 : Nat) "TreePress$Spec" "name" "[B") ∈ lw_all := lw_g (lw_at lw_m3 93 rfl) rfl
theorem q708 : (Jvm.Cond.fieldLink "TreePress$Spec" (12 : Nat) "TreePress$Spec" "places" "Ljava/util/ArrayList;") ∈ lw_all := lw_g (lw_at lw_m3 97 rfl) rfl
theorem q710 : (Jvm.Cond.fieldLink "TreePress$Spec" (18 : Nat) "TreePress$Spec" "follow" "[J") ∈ lw_all := lw_g (lw_at lw_m3 99 rfl) rfl
theorem q712 : (Jvm.Cond.fieldLink "TreePress$Spec" (39 : Nat) "TreePress$Spec" "first" "J") ∈ lw_all := lw_g (lw_at lw_m3 101 rfl) rfl
theorem q714 : (Jvm.Cond.fieldLink "TreePress$Spec" (69 : Nat) "TreePress$Spec" "last" "J") ∈ lw_all := lw_g (lw_at lw_m3 103 rfl) rfl
theorem q716 : (Jvm.Cond.fieldLink "TreePress$Spec" (72 : Nat) "TreePress$Spec" "nothing" "Z") ∈ lw_all := lw_g (lw_at lw_m3 105 rfl) rfl
theorem q718 : (Jvm.Cond.laysFinal "TreePress$Spec" "TreePress$Spec" "name" "[B") ∈ lw_all := lw_g (lw_at lw_m3 107 rfl) rfl
theorem q719 : (Jvm.Cond.soleField "TreePress$Spec" "name") ∈ lw_all := lw_g (lw_at lw_m3 108 rfl) rfl
theorem q720 : (Jvm.Cond.lays "TreePress$Spec" "TreePress$Spec" "kind" "I") ∈ lw_all := lw_g (lw_at lw_m3 109 rfl) rfl
theorem q721 : (Jvm.Cond.soleField "TreePress$Spec" "kind") ∈ lw_all := lw_g (lw_at lw_m3 110 rfl) rfl
theorem q722 : (Jvm.Cond.laysFinal "TreePress$Spec" "TreePress$Spec" "places" "Ljava/util/ArrayList;") ∈ lw_all := lw_g (lw_at lw_m3 111 rfl) rfl
theorem q723 : (Jvm.Cond.soleField "TreePress$Spec" "places") ∈ lw_all := lw_g (lw_at lw_m3 112 rfl) rfl
theorem q724 : (Jvm.Cond.laysFinal "TreePress$Spec" "TreePress$Spec" "follow" "[J") ∈ lw_all := lw_g (lw_at lw_m3 113 rfl) rfl
theorem q725 : (Jvm.Cond.soleField "TreePress$Spec" "follow") ∈ lw_all := lw_g (lw_at lw_m3 114 rfl) rfl
theorem q726 : (Jvm.Cond.lays "TreePress$Spec" "TreePress$Spec" "first" "J") ∈ lw_all := lw_g (lw_at lw_m3 115 rfl) rfl
theorem q727 : (Jvm.Cond.soleField "TreePress$Spec" "first") ∈ lw_all := lw_g (lw_at lw_m3 116 rfl) rfl
theorem q728 : (Jvm.Cond.lays "TreePress$Spec" "TreePress$Spec" "last" "J") ∈ lw_all := lw_g (lw_at lw_m3 117 rfl) rfl
theorem q729 : (Jvm.Cond.soleField "TreePress$Spec" "last") ∈ lw_all := lw_g (lw_at lw_m3 118 rfl) rfl
theorem q730 : (Jvm.Cond.lays "TreePress$Spec" "TreePress$Spec" "nothing" "Z") ∈ lw_all := lw_g (lw_at lw_m3 119 rfl) rfl
theorem q731 : (Jvm.Cond.soleField "TreePress$Spec" "nothing") ∈ lw_all := lw_g (lw_at lw_m3 120 rfl) rfl
theorem q732 : (Jvm.Cond.superclass "TreePress$Spec" "java/lang/Object") ∈ lw_all := lw_g (lw_at lw_m3 121 rfl) rfl
theorem q1010 : (Jvm.Cond.fieldLinkNest "TreePress$Spec" (62 : Nat) "TreePress$Text" "blank" "Z" "TreePress") ∈ lw_tbl := lw_at lw_m4 159 rfl
theorem q1036 : (Jvm.Cond.instanceMethod ({ cls := "TreePress$Spec", name := "isDeterministic", desc := "()Z" } : Jvm.MethodName)) ∈ lw_all := lw_g (lw_at lw_m4 185 rfl) rfl
theorem q1037 : (Jvm.Cond.selects "TreePress$Spec" ({ cls := "TreePress$Spec", name := "isDeterministic", desc := "()Z" } : Jvm.MethodName) ({ cls := "TreePress$Spec", name := "isDeterministic", desc := "()Z" } : Jvm.MethodName)) ∈ lw_all := lw_g (lw_at lw_m4 186 rfl) rfl
theorem q1038 : (Jvm.Cond.code ({ cls := "TreePress$Spec", name := "isDeterministic", desc := "()Z" } : Jvm.MethodName) prog_16_method_3_code (3 : Nat) (Option.some Jvm.ClassFile.FieldType.boolean)) ∈ lw_all := lw_g (lw_at lw_m4 187 rfl) rfl
theorem q1039 : (Jvm.Cond.methodLink "TreePress$Spec" (43 : Nat) ({ cls := "TreePress$Spec", name := "isDoubled", desc := "(J)Z" } : Jvm.MethodName)) ∈ lw_all := lw_g (lw_at lw_m4 188 rfl) rfl
theorem q1040 : (Jvm.Cond.privateMethod ({ cls := "TreePress$Spec", name := "isDoubled", desc := "(J)Z" } : Jvm.MethodName)) ∈ lw_tbl := lw_at lw_m4 189 rfl
theorem q1041 : (Jvm.Cond.instanceMethod ({ cls := "TreePress$Spec", name := "isDoubled", desc := "(J)Z" } : Jvm.MethodName)) ∈ lw_all := lw_g (lw_at lw_m4 190 rfl) rfl
theorem q1042 : (Jvm.Cond.code ({ cls := "TreePress$Spec", name := "isDoubled", desc := "(J)Z" } : Jvm.MethodName) prog_16_method_2_code (6 : Nat) (Option.some Jvm.ClassFile.FieldType.boolean)) ∈ lw_all := lw_g (lw_at lw_m4 191 rfl) rfl
theorem q1043 : (Jvm.Cond.methodLink "TreePress$Spec" (26 : Nat) ({ cls := "java/util/ArrayList", name := "size", desc := "()I" } : Jvm.MethodName)) ∈ lw_all := lw_g (lw_at lw_m4 192 rfl) rfl
theorem q1044 : (Jvm.Cond.methodLink "TreePress$Spec" (30 : Nat) ({ cls := "java/util/ArrayList", name := "get", desc := "(I)Ljava/lang/Object;" } : Jvm.MethodName)) ∈ lw_all := lw_g (lw_at lw_m4 193 rfl) rfl
theorem q1045 : (Jvm.Cond.classLink "TreePress$Spec" (34 : Nat) "[B") ∈ lw_all := lw_g (lw_at lw_m4 194 rfl) rfl
theorem q1046 : (Jvm.Cond.methodLinkNest "TreePress$Spec" (35 : Nat) ({ cls := "TreePress", name := "isSame", desc := "([B[B)Z" } : Jvm.MethodName) "TreePress") ∈ lw_tbl := lw_at lw_m4 195 rfl
theorem q1076 : (Jvm.Cond.privateMethod ({ cls := "TreePress$Spec", name := "isRow", desc := "(LTreePress$Element;)Z" } : Jvm.MethodName)) ∈ lw_tbl := lw_at lw_m4 225 rfl
theorem q1077 : (Jvm.Cond.instanceMethod ({ cls := "TreePress$Spec", name := "isRow", desc := "(LTreePress$Element;)Z" } : Jvm.MethodName)) ∈ lw_all := lw_g (lw_at lw_m4 226 rfl) rfl
theorem q1078 : (Jvm.Cond.code ({ cls := "TreePress$Spec", name := "isRow", desc := "(LTreePress$Element;)Z" } : Jvm.MethodName) prog_16_method_6_code (10 : Nat) (Option.some Jvm.ClassFile.FieldType.boolean)) ∈ lw_all := lw_g (lw_at lw_m4 227 rfl) rfl
theorem q1079 : (Jvm.Cond.classLink "TreePress$Spec" (58 : Nat) "TreePress$Node") ∈ lw_all := lw_g (lw_at lw_m4 228 rfl) rfl
theorem q1080 : (Jvm.Cond.classLink "TreePress$Spec" (60 : Nat) "TreePress$Text") ∈ lw_all := lw_g (lw_at lw_m4 229 rfl) rfl
theorem q1081 : (Jvm.Cond.methodLink "TreePress$Spec" (66 : Nat) ({ cls := "TreePress$Node", name := "name", desc := "()[B" } : Jvm.MethodName)) ∈ lw_all := lw_g (lw_at lw_m4 230 rfl) rfl
theorem q1093 : (Jvm.Cond.methodLink "TreePress$Spec" (49 : Nat) ({ cls := "TreePress$Spec", name := "of", desc := "(J[B)J" } : Jvm.MethodName)) ∈ lw_all := lw_g (lw_at lw_m5 2 rfl) rfl
theorem q1094 : (Jvm.Cond.privateMethod ({ cls := "TreePress$Spec", name := "of", desc := "(J[B)J" } : Jvm.MethodName)) ∈ lw_tbl := lw_at lw_m5 3 rfl
theorem q1095 : (Jvm.Cond.instanceMethod ({ cls := "TreePress$Spec", name := "of", desc := "(J[B)J" } : Jvm.MethodName)) ∈ lw_all := lw_g (lw_at lw_m5 4 rfl) rfl
theorem q1096 : (Jvm.Cond.code ({ cls := "TreePress$Spec", name := "of", desc := "(J[B)J" } : Jvm.MethodName) prog_16_method_4_code (7 : Nat) (Option.some Jvm.ClassFile.FieldType.long)) ∈ lw_all := lw_g (lw_at lw_m5 5 rfl) rfl
theorem q1116 : (Jvm.Cond.privateMethod ({ cls := "TreePress$Spec", name := "hasPlace", desc := "([B)Z" } : Jvm.MethodName)) ∈ lw_tbl := lw_at lw_m5 25 rfl
theorem q1117 : (Jvm.Cond.instanceMethod ({ cls := "TreePress$Spec", name := "hasPlace", desc := "([B)Z" } : Jvm.MethodName)) ∈ lw_all := lw_g (lw_at lw_m5 26 rfl) rfl
theorem q1118 : (Jvm.Cond.code ({ cls := "TreePress$Spec", name := "hasPlace", desc := "([B)Z" } : Jvm.MethodName) prog_16_method_5_code (2 : Nat) (Option.some Jvm.ClassFile.FieldType.boolean)) ∈ lw_all := lw_g (lw_at lw_m5 27 rfl) rfl
theorem q1119 : (Jvm.Cond.constantLong "TreePress$Spec" (47 : Nat) (-1 : Int64)) ∈ lw_all := lw_g (lw_at lw_m5 28 rfl) rfl
theorem q2229 : (Jvm.Cond.castable "TreePress$Spec" "java/lang/Object") ∈ lw_tbl := lw_at lw_m9 178 rfl
theorem in_X8 : ∀ w ∈ wsX80, w ∈ lw_all := lw_in wsX80 [718, 720, 722, 724, 726, 728, 730] (by decide +kernel) (by decide +kernel)

/-! TreePress$Part -/
def RX9 : String := "TreePress$Part"
def TX9 : u_T := fun k => match k with
  | 0 => ("TreePress$Part", "first", "J", false)
  | 1 => ("TreePress$Part", "last", "J", false)
  | _ => ("TreePress$Part", "nothing", "Z", false)
def tyX9 : Nat → FieldType := fun k => match k with
  | 0 => .long
  | 1 => .long
  | _ => .boolean
abbrev wsX90 : List Cond := u_ws RX9 TX9 3
theorem nmX9 : ∀ a, a < 3 → ∀ b, b < 3 → a ≠ b → (TX9 a).2.1 ≠ (TX9 b).2.1 := by decide +kernel
theorem tyX9_ok : ∀ k, k < 3 → parseFieldDescriptor (TX9 k).2.2.1 = some (tyX9 k) := by decide +kernel
abbrev cX9_init : ByteArray := prog_11_method_1_code
def yX9_init : MethodName := ⟨RX9, "<init>", "()V"⟩
theorem q155 : (Jvm.Cond.initialized "TreePress$Part") ∈ lw_all := lw_g (lw_at lw_m1 24 rfl) rfl
theorem q387 : (Jvm.Cond.selects "TreePress$Part" ({ cls := "java/lang/Object", name := "getClass", desc := "()Ljava/lang/Class;" } : Jvm.MethodName) ({ cls := "java/lang/Object", name := "getClass", desc := "()Ljava/lang/Class;" } : Jvm.MethodName)) ∈ lw_all := lw_g (lw_at lw_m2 16 rfl) rfl
theorem q767 : (Jvm.Cond.instantiable "TreePress$Part" (3 : Nat)) ∈ lw_all := lw_g (lw_at lw_m3 156 rfl) rfl
theorem q769 : (Jvm.Cond.instanceMethod ({ cls := "TreePress$Part", name := "<init>", desc := "()V" } : Jvm.MethodName)) ∈ lw_all := lw_g (lw_at lw_m3 158 rfl) rfl
theorem q770 : (Jvm.Cond.code ({ cls := "TreePress$Part", name := "<init>", desc := "()V" } : Jvm.MethodName) prog_11_method_1_code (1 : Nat) (Option.none : Option Jvm.ClassFile.FieldType)) ∈ lw_all := lw_g (lw_at lw_m3 159 rfl) rfl
theorem q771 : (Jvm.Cond.methodLink "TreePress$Part" (1 : Nat) ({ cls := "java/lang/Object", name := "<init>", desc := "()V" } : Jvm.MethodName)) ∈ lw_all := lw_g (lw_at lw_m3 160 rfl) rfl
theorem q775 : (Jvm.Cond.lays "TreePress$Part" "TreePress$Part" "first" "J") ∈ lw_all := lw_g (lw_at lw_m3 164 rfl) rfl
theorem q776 : (Jvm.Cond.soleField "TreePress$Part" "first") ∈ lw_all := lw_g (lw_at lw_m3 165 rfl) rfl
theorem q777 : (Jvm.Cond.lays "TreePress$Part" "TreePress$Part" "last" "J") ∈ lw_all := lw_g (lw_at lw_m3 166 rfl) rfl
theorem q778 : (Jvm.Cond.soleField "TreePress$Part" "last") ∈ lw_all := lw_g (lw_at lw_m3 167 rfl) rfl
theorem q779 : (Jvm.Cond.lays "TreePress$Part" "TreePress$Part" "nothing" "Z") ∈ lw_all := lw_g (lw_at lw_m3 168 rfl) rfl
theorem q780 : (Jvm.Cond.soleField "TreePress$Part" "nothing") ∈ lw_all := lw_g (lw_at lw_m3 169 rfl) rfl
theorem q781 : (Jvm.Cond.superclass "TreePress$Part" "java/lang/Object") ∈ lw_all := lw_g (lw_at lw_m3 170 rfl) rfl
theorem q2230 : (Jvm.Cond.castable "TreePress$Part" "java/lang/Object") ∈ lw_tbl := lw_at lw_m9 179 rfl
theorem in_X9 : ∀ w ∈ wsX90, w ∈ lw_all := lw_in wsX90 [775, 777, 779] (by decide +kernel) (by decide +kernel)

/-! TreePress$Rule -/
def RX10 : String := "TreePress$Rule"
def TX10 : u_T := fun k => match k with
  | 0 => ("TreePress$Rule", "of", "[B", true)
  | 1 => ("TreePress$Rule", "name", "[B", true)
  | 2 => ("TreePress$Rule", "number", "I", true)
  | 3 => ("TreePress$Rule", "type", "I", false)
  | 4 => ("TreePress$Rule", "how", "I", false)
  | 5 => ("TreePress$Rule", "tokens", "Ljava/util/ArrayList;", true)
  | _ => ("TreePress$Rule", "value", "[B", false)
def tyX10 : Nat → FieldType := fun k => match k with
  | 0 => .array .byte
  | 1 => .array .byte
  | 2 => .int
  | 3 => .int
  | 4 => .int
  | 5 => .object "java/util/ArrayList"
  | _ => .array .byte
abbrev wsX100 : List Cond := u_ws RX10 TX10 7
theorem nmX10 : ∀ a, a < 7 → ∀ b, b < 7 → a ≠ b → (TX10 a).2.1 ≠ (TX10 b).2.1 := by decide +kernel
theorem tyX10_ok : ∀ k, k < 7 → parseFieldDescriptor (TX10 k).2.2.1 = some (tyX10 k) := by decide +kernel
abbrev cX10_init : ByteArray := prog_15_method_1_code
def yX10_init : MethodName := ⟨RX10, "<init>", "([B[BI)V"⟩
abbrev cX10_isOf : ByteArray := prog_15_method_2_code
def yX10_isOf : MethodName := ⟨RX10, "isOf", "([B)Z"⟩
theorem q156 : (Jvm.Cond.initialized "TreePress$Rule") ∈ lw_all := lw_g (lw_at lw_m1 25 rfl) rfl
theorem q389 : (Jvm.Cond.selects "TreePress$Rule" ({ cls := "java/lang/Object", name := "getClass", desc := "()Ljava/lang/Class;" } : Jvm.MethodName) ({ cls := "java/lang/Object", name := "getClass", desc := "()Ljava/lang/Class;" } : Jvm.MethodName)) ∈ lw_all := lw_g (lw_at lw_m2 18 rfl) rfl
theorem q802 : (Jvm.Cond.instantiable "TreePress$Rule" (7 : Nat)) ∈ lw_all := lw_g (lw_at lw_m3 191 rfl) rfl
theorem q804 : (Jvm.Cond.instanceMethod ({ cls := "TreePress$Rule", name := "<init>", desc := "([B[BI)V" } : Jvm.MethodName)) ∈ lw_all := lw_g (lw_at lw_m3 193 rfl) rfl
theorem q805 : (Jvm.Cond.code ({ cls := "TreePress$Rule", name := "<init>", desc := "([B[BI)V" } : Jvm.MethodName) prog_15_method_1_code (4 : Nat) (Option.none : Option Jvm.ClassFile.FieldType)) ∈ lw_all := lw_g (lw_at lw_m3 194 rfl) rfl
theorem q806 : (Jvm.Cond.methodLink "TreePress$Rule" (3 : Nat) ({ cls := "java/lang/Object", name := "<init>", desc := "()V" } : Jvm.MethodName)) ∈ lw_all := lw_g (lw_at lw_m3 195 rfl) rfl
theorem q807 : (Jvm.Cond.classLink "TreePress$Rule" (9 : Nat) "java/util/ArrayList") ∈ lw_all := lw_g (lw_at lw_m3 196 rfl) rfl
theorem q808 : (Jvm.Cond.methodLink "TreePress$Rule" (11 : Nat) ({ cls := "java/util/ArrayList", name := "<init>", desc := "(I)V" } : Jvm.MethodName)) ∈ lw_all := lw_g (lw_at lw_m3 197 rfl) rfl
theorem q809 : (Jvm.Cond.fieldLink "TreePress$Rule" (20 : Nat) "TreePress$Rule" "of" "[B") ∈ lw_all := lw_g (lw_at lw_m3 198 rfl) rfl
theorem q812 : (Jvm.Cond.fieldLink "TreePress$Rule" (24 : Nat) "TreePress$Rule" "name" "[B") ∈ lw_all := lw_g (lw_at lw_m3 201 rfl) rfl
theorem q815 : (Jvm.Cond.fieldLink "TreePress$Rule" (27 : Nat) "TreePress$Rule" "number" "I") ∈ lw_all := lw_g (lw_at lw_m3 204 rfl) rfl
theorem q818 : (Jvm.Cond.fieldLink "TreePress$Rule" (31 : Nat) "TreePress$Rule" "type" "I") ∈ lw_all := lw_g (lw_at lw_m3 207 rfl) rfl
theorem q823 : (Jvm.Cond.fieldLink "TreePress$Rule" (14 : Nat) "TreePress$Rule" "tokens" "Ljava/util/ArrayList;") ∈ lw_all := lw_g (lw_at lw_m3 212 rfl) rfl
theorem q827 : (Jvm.Cond.laysFinal "TreePress$Rule" "TreePress$Rule" "of" "[B") ∈ lw_all := lw_g (lw_at lw_m3 216 rfl) rfl
theorem q828 : (Jvm.Cond.soleField "TreePress$Rule" "of") ∈ lw_all := lw_g (lw_at lw_m3 217 rfl) rfl
theorem q829 : (Jvm.Cond.laysFinal "TreePress$Rule" "TreePress$Rule" "name" "[B") ∈ lw_all := lw_g (lw_at lw_m3 218 rfl) rfl
theorem q830 : (Jvm.Cond.soleField "TreePress$Rule" "name") ∈ lw_all := lw_g (lw_at lw_m3 219 rfl) rfl
theorem q831 : (Jvm.Cond.laysFinal "TreePress$Rule" "TreePress$Rule" "number" "I") ∈ lw_all := lw_g (lw_at lw_m3 220 rfl) rfl
theorem q832 : (Jvm.Cond.soleField "TreePress$Rule" "number") ∈ lw_all := lw_g (lw_at lw_m3 221 rfl) rfl
theorem q833 : (Jvm.Cond.lays "TreePress$Rule" "TreePress$Rule" "type" "I") ∈ lw_all := lw_g (lw_at lw_m3 222 rfl) rfl
theorem q834 : (Jvm.Cond.soleField "TreePress$Rule" "type") ∈ lw_all := lw_g (lw_at lw_m3 223 rfl) rfl
theorem q835 : (Jvm.Cond.lays "TreePress$Rule" "TreePress$Rule" "how" "I") ∈ lw_all := lw_g (lw_at lw_m3 224 rfl) rfl
theorem q836 : (Jvm.Cond.soleField "TreePress$Rule" "how") ∈ lw_all := lw_g (lw_at lw_m3 225 rfl) rfl
theorem q837 : (Jvm.Cond.laysFinal "TreePress$Rule" "TreePress$Rule" "tokens" "Ljava/util/ArrayList;") ∈ lw_all := lw_g (lw_at lw_m3 226 rfl) rfl
theorem q838 : (Jvm.Cond.soleField "TreePress$Rule" "tokens") ∈ lw_all := lw_g (lw_at lw_m3 227 rfl) rfl
theorem q839 : (Jvm.Cond.lays "TreePress$Rule" "TreePress$Rule" "value" "[B") ∈ lw_all := lw_g (lw_at lw_m3 228 rfl) rfl
theorem q840 : (Jvm.Cond.soleField "TreePress$Rule" "value") ∈ lw_all := lw_g (lw_at lw_m3 229 rfl) rfl
theorem q841 : (Jvm.Cond.superclass "TreePress$Rule" "java/lang/Object") ∈ lw_all := lw_g (lw_at lw_m3 230 rfl) rfl
theorem q1055 : (Jvm.Cond.instanceMethod ({ cls := "TreePress$Rule", name := "isOf", desc := "([B)Z" } : Jvm.MethodName)) ∈ lw_all := lw_g (lw_at lw_m4 204 rfl) rfl
theorem q1056 : (Jvm.Cond.selects "TreePress$Rule" ({ cls := "TreePress$Rule", name := "isOf", desc := "([B)Z" } : Jvm.MethodName) ({ cls := "TreePress$Rule", name := "isOf", desc := "([B)Z" } : Jvm.MethodName)) ∈ lw_all := lw_g (lw_at lw_m4 205 rfl) rfl
theorem q1057 : (Jvm.Cond.code ({ cls := "TreePress$Rule", name := "isOf", desc := "([B)Z" } : Jvm.MethodName) prog_15_method_2_code (4 : Nat) (Option.some Jvm.ClassFile.FieldType.boolean)) ∈ lw_all := lw_g (lw_at lw_m4 206 rfl) rfl
theorem q1058 : (Jvm.Cond.methodLinkNest "TreePress$Rule" (34 : Nat) ({ cls := "TreePress", name := "isName", desc := "([B)Z" } : Jvm.MethodName) "TreePress") ∈ lw_tbl := lw_at lw_m4 207 rfl
theorem q1062 : (Jvm.Cond.methodLink "TreePress$Rule" (38 : Nat) ({ cls := "java/util/ArrayList", name := "size", desc := "()I" } : Jvm.MethodName)) ∈ lw_all := lw_g (lw_at lw_m4 211 rfl) rfl
theorem q1063 : (Jvm.Cond.methodLink "TreePress$Rule" (42 : Nat) ({ cls := "java/util/ArrayList", name := "get", desc := "(I)Ljava/lang/Object;" } : Jvm.MethodName)) ∈ lw_all := lw_g (lw_at lw_m4 212 rfl) rfl
theorem q1064 : (Jvm.Cond.classLink "TreePress$Rule" (46 : Nat) "[B") ∈ lw_all := lw_g (lw_at lw_m4 213 rfl) rfl
theorem q1065 : (Jvm.Cond.methodLinkNest "TreePress$Rule" (47 : Nat) ({ cls := "TreePress", name := "isSame", desc := "([B[B)Z" } : Jvm.MethodName) "TreePress") ∈ lw_tbl := lw_at lw_m4 214 rfl
theorem q2231 : (Jvm.Cond.castable "TreePress$Rule" "java/lang/Object") ∈ lw_tbl := lw_at lw_m9 180 rfl
theorem in_X10 : ∀ w ∈ wsX100, w ∈ lw_all := lw_in wsX100 [827, 829, 831, 833, 835, 837, 839] (by decide +kernel) (by decide +kernel)

/-! TreePress$Element -/
def RX11 : String := "TreePress$Element"
def TX11 : u_T := fun k => match k with
  | 0 => ("TreePress$Node", "number", "I", false)
  | 1 => ("TreePress$Node", "in", "LTreePress$Parent;", false)
  | 2 => ("TreePress$Parent", "nodes", "Ljava/util/ArrayList;", true)
  | 3 => ("TreePress$Parent", "last", "I", false)
  | 4 => ("TreePress$Element", "name", "[B", true)
  | _ => ("TreePress$Element", "attributes", "Ljava/util/ArrayList;", true)
def tyX11 : Nat → FieldType := fun k => match k with
  | 0 => .int
  | 1 => .object "TreePress$Parent"
  | 2 => .object "java/util/ArrayList"
  | 3 => .int
  | 4 => .array .byte
  | _ => .object "java/util/ArrayList"
abbrev wsX110 : List Cond := u_ws RX11 TX11 6
theorem nmX11 : ∀ a, a < 6 → ∀ b, b < 6 → a ≠ b → (TX11 a).2.1 ≠ (TX11 b).2.1 := by decide +kernel
theorem tyX11_ok : ∀ k, k < 6 → parseFieldDescriptor (TX11 k).2.2.1 = some (tyX11 k) := by decide +kernel
abbrev cX11_init : ByteArray := prog_5_method_1_code
def yX11_init : MethodName := ⟨RX11, "<init>", "([B)V"⟩
abbrev cX11_attribute : ByteArray := prog_5_method_6_code
def yX11_attribute : MethodName := ⟨RX11, "attribute", "([B)LTreePress$Attribute;"⟩
abbrev cX11_name : ByteArray := prog_5_method_3_code
def yX11_name : MethodName := ⟨RX11, "name", "()[B"⟩
abbrev cX11_kind : ByteArray := prog_5_method_2_code
def yX11_kind : MethodName := ⟨RX11, "kind", "()I"⟩
abbrev cX11_attributes : ByteArray := prog_5_method_4_code
def yX11_attributes : MethodName := ⟨RX11, "attributes", "()I"⟩
abbrev cX11_isBlock : ByteArray := prog_5_method_5_code
def yX11_isBlock : MethodName := ⟨RX11, "isBlock", "()Z"⟩
theorem q158 : (Jvm.Cond.initialized "TreePress$Element") ∈ lw_all := lw_g (lw_at lw_m1 27 rfl) rfl
theorem q310 : (Jvm.Cond.sameField "TreePress$Element" "TreePress$Parent" "nodes" "Ljava/util/ArrayList;") ∈ lw_all := lw_g (lw_at lw_m1 179 rfl) rfl
theorem q318 : (Jvm.Cond.sameField "TreePress$Element" "TreePress$Parent" "last" "I") ∈ lw_all := lw_g (lw_at lw_m1 187 rfl) rfl
theorem q323 : (Jvm.Cond.sameField "TreePress$Element" "TreePress$Node" "number" "I") ∈ lw_all := lw_g (lw_at lw_m1 192 rfl) rfl
theorem q382 : (Jvm.Cond.selects "TreePress$Element" ({ cls := "java/lang/Object", name := "getClass", desc := "()Ljava/lang/Class;" } : Jvm.MethodName) ({ cls := "java/lang/Object", name := "getClass", desc := "()Ljava/lang/Class;" } : Jvm.MethodName)) ∈ lw_all := lw_g (lw_at lw_m2 11 rfl) rfl
theorem q916 : (Jvm.Cond.instantiable "TreePress$Element" (6 : Nat)) ∈ lw_all := lw_g (lw_at lw_m4 65 rfl) rfl
theorem q918 : (Jvm.Cond.instanceMethod ({ cls := "TreePress$Element", name := "<init>", desc := "([B)V" } : Jvm.MethodName)) ∈ lw_all := lw_g (lw_at lw_m4 67 rfl) rfl
theorem q919 : (Jvm.Cond.code ({ cls := "TreePress$Element", name := "<init>", desc := "([B)V" } : Jvm.MethodName) prog_5_method_1_code (2 : Nat) (Option.none : Option Jvm.ClassFile.FieldType)) ∈ lw_all := lw_g (lw_at lw_m4 68 rfl) rfl
theorem q920 : (Jvm.Cond.methodLinkNest "TreePress$Element" (1 : Nat) ({ cls := "TreePress$Parent", name := "<init>", desc := "()V" } : Jvm.MethodName) "TreePress") ∈ lw_tbl := lw_at lw_m4 69 rfl
theorem q921 : (Jvm.Cond.classLink "TreePress$Element" (7 : Nat) "java/util/ArrayList") ∈ lw_all := lw_g (lw_at lw_m4 70 rfl) rfl
theorem q922 : (Jvm.Cond.methodLink "TreePress$Element" (9 : Nat) ({ cls := "java/util/ArrayList", name := "<init>", desc := "(I)V" } : Jvm.MethodName)) ∈ lw_all := lw_g (lw_at lw_m4 71 rfl) rfl
theorem q923 : (Jvm.Cond.fieldLink "TreePress$Element" (18 : Nat) "TreePress$Element" "name" "[B") ∈ lw_all := lw_g (lw_at lw_m4 72 rfl) rfl
theorem q926 : (Jvm.Cond.fieldLink "TreePress$Element" (12 : Nat) "TreePress$Element" "attributes" "Ljava/util/ArrayList;") ∈ lw_all := lw_g (lw_at lw_m4 75 rfl) rfl
theorem q930 : (Jvm.Cond.laysFinal "TreePress$Element" "TreePress$Element" "name" "[B") ∈ lw_all := lw_g (lw_at lw_m4 79 rfl) rfl
theorem q931 : (Jvm.Cond.soleField "TreePress$Element" "name") ∈ lw_all := lw_g (lw_at lw_m4 80 rfl) rfl
theorem q932 : (Jvm.Cond.laysFinal "TreePress$Element" "TreePress$Element" "attributes" "Ljava/util/ArrayList;") ∈ lw_all := lw_g (lw_at lw_m4 81 rfl) rfl
theorem q933 : (Jvm.Cond.soleField "TreePress$Element" "attributes") ∈ lw_all := lw_g (lw_at lw_m4 82 rfl) rfl
theorem q934 : (Jvm.Cond.laysFinal "TreePress$Element" "TreePress$Parent" "nodes" "Ljava/util/ArrayList;") ∈ lw_all := lw_g (lw_at lw_m4 83 rfl) rfl
theorem q935 : (Jvm.Cond.lays "TreePress$Element" "TreePress$Parent" "last" "I") ∈ lw_all := lw_g (lw_at lw_m4 84 rfl) rfl
theorem q936 : (Jvm.Cond.lays "TreePress$Element" "TreePress$Node" "number" "I") ∈ lw_all := lw_g (lw_at lw_m4 85 rfl) rfl
theorem q937 : (Jvm.Cond.lays "TreePress$Element" "TreePress$Node" "in" "LTreePress$Parent;") ∈ lw_all := lw_g (lw_at lw_m4 86 rfl) rfl
theorem q938 : (Jvm.Cond.superclass "TreePress$Element" "TreePress$Parent") ∈ lw_all := lw_g (lw_at lw_m4 87 rfl) rfl
theorem q950 : (Jvm.Cond.instanceMethod ({ cls := "TreePress$Element", name := "attribute", desc := "([B)LTreePress$Attribute;" } : Jvm.MethodName)) ∈ lw_all := lw_g (lw_at lw_m4 99 rfl) rfl
theorem q951 : (Jvm.Cond.selects "TreePress$Element" ({ cls := "TreePress$Element", name := "attribute", desc := "([B)LTreePress$Attribute;" } : Jvm.MethodName) ({ cls := "TreePress$Element", name := "attribute", desc := "([B)LTreePress$Attribute;" } : Jvm.MethodName)) ∈ lw_all := lw_g (lw_at lw_m4 100 rfl) rfl
theorem q952 : (Jvm.Cond.code ({ cls := "TreePress$Element", name := "attribute", desc := "([B)LTreePress$Attribute;" } : Jvm.MethodName) prog_5_method_6_code (3 : Nat) (Option.some (Jvm.ClassFile.FieldType.object "TreePress$Attribute"))) ∈ lw_all := lw_g (lw_at lw_m4 101 rfl) rfl
theorem q953 : (Jvm.Cond.methodLink "TreePress$Element" (26 : Nat) ({ cls := "java/util/ArrayList", name := "size", desc := "()I" } : Jvm.MethodName)) ∈ lw_all := lw_g (lw_at lw_m4 102 rfl) rfl
theorem q954 : (Jvm.Cond.methodLink "TreePress$Element" (29 : Nat) ({ cls := "java/util/ArrayList", name := "get", desc := "(I)Ljava/lang/Object;" } : Jvm.MethodName)) ∈ lw_all := lw_g (lw_at lw_m4 103 rfl) rfl
theorem q955 : (Jvm.Cond.classLink "TreePress$Element" (33 : Nat) "TreePress$Attribute") ∈ lw_all := lw_g (lw_at lw_m4 104 rfl) rfl
theorem q956 : (Jvm.Cond.methodLinkNest "TreePress$Element" (36 : Nat) ({ cls := "TreePress", name := "isSame", desc := "([B[B)Z" } : Jvm.MethodName) "TreePress") ∈ lw_tbl := lw_at lw_m4 105 rfl
theorem q968 : (Jvm.Cond.fieldLinkNest "TreePress$Element" (35 : Nat) "TreePress$Attribute" "name" "[B" "TreePress") ∈ lw_tbl := lw_at lw_m4 117 rfl
theorem q1087 : (Jvm.Cond.selects "TreePress$Element" ({ cls := "TreePress$Node", name := "name", desc := "()[B" } : Jvm.MethodName) ({ cls := "TreePress$Element", name := "name", desc := "()[B" } : Jvm.MethodName)) ∈ lw_all := lw_g (lw_at lw_m4 236 rfl) rfl
theorem q1088 : (Jvm.Cond.instanceMethod ({ cls := "TreePress$Element", name := "name", desc := "()[B" } : Jvm.MethodName)) ∈ lw_all := lw_g (lw_at lw_m4 237 rfl) rfl
theorem q1089 : (Jvm.Cond.code ({ cls := "TreePress$Element", name := "name", desc := "()[B" } : Jvm.MethodName) prog_5_method_3_code (1 : Nat) (Option.some (Jvm.ClassFile.FieldType.array Jvm.ClassFile.FieldType.byte))) ∈ lw_all := lw_g (lw_at lw_m4 238 rfl) rfl
theorem q1104 : (Jvm.Cond.selects "TreePress$Element" ({ cls := "TreePress$Node", name := "kind", desc := "()I" } : Jvm.MethodName) ({ cls := "TreePress$Element", name := "kind", desc := "()I" } : Jvm.MethodName)) ∈ lw_all := lw_g (lw_at lw_m5 13 rfl) rfl
theorem q1105 : (Jvm.Cond.instanceMethod ({ cls := "TreePress$Element", name := "kind", desc := "()I" } : Jvm.MethodName)) ∈ lw_all := lw_g (lw_at lw_m5 14 rfl) rfl
theorem q1106 : (Jvm.Cond.code ({ cls := "TreePress$Element", name := "kind", desc := "()I" } : Jvm.MethodName) prog_5_method_2_code (1 : Nat) (Option.some Jvm.ClassFile.FieldType.int)) ∈ lw_all := lw_g (lw_at lw_m5 15 rfl) rfl
theorem q1107 : (Jvm.Cond.methodLink "TreePress$Element" (22 : Nat) ({ cls := "TreePress$Parent", name := "kind", desc := "()I" } : Jvm.MethodName)) ∈ lw_all := lw_g (lw_at lw_m5 16 rfl) rfl
theorem q1155 : (Jvm.Cond.selects "TreePress$Element" ({ cls := "TreePress$Node", name := "size", desc := "()I" } : Jvm.MethodName) ({ cls := "TreePress$Parent", name := "size", desc := "()I" } : Jvm.MethodName)) ∈ lw_all := lw_g (lw_at lw_m5 64 rfl) rfl
theorem q1168 : (Jvm.Cond.selects "TreePress$Element" ({ cls := "TreePress$Node", name := "attributes", desc := "()I" } : Jvm.MethodName) ({ cls := "TreePress$Element", name := "attributes", desc := "()I" } : Jvm.MethodName)) ∈ lw_all := lw_g (lw_at lw_m5 77 rfl) rfl
theorem q1169 : (Jvm.Cond.instanceMethod ({ cls := "TreePress$Element", name := "attributes", desc := "()I" } : Jvm.MethodName)) ∈ lw_all := lw_g (lw_at lw_m5 78 rfl) rfl
theorem q1170 : (Jvm.Cond.code ({ cls := "TreePress$Element", name := "attributes", desc := "()I" } : Jvm.MethodName) prog_5_method_4_code (1 : Nat) (Option.some Jvm.ClassFile.FieldType.int)) ∈ lw_all := lw_g (lw_at lw_m5 79 rfl) rfl
theorem q1178 : (Jvm.Cond.selects "TreePress$Element" ({ cls := "TreePress$Node", name := "within", desc := "()I" } : Jvm.MethodName) ({ cls := "TreePress$Parent", name := "within", desc := "()I" } : Jvm.MethodName)) ∈ lw_all := lw_g (lw_at lw_m5 87 rfl) rfl
theorem q1199 : (Jvm.Cond.selects "TreePress$Element" ({ cls := "TreePress$Node", name := "at", desc := "(I)I" } : Jvm.MethodName) ({ cls := "TreePress$Parent", name := "at", desc := "(I)I" } : Jvm.MethodName)) ∈ lw_all := lw_g (lw_at lw_m5 108 rfl) rfl
theorem q1430 : (Jvm.Cond.instanceMethod ({ cls := "TreePress$Element", name := "isBlock", desc := "()Z" } : Jvm.MethodName)) ∈ lw_all := lw_g (lw_at lw_m6 99 rfl) rfl
theorem q1431 : (Jvm.Cond.selects "TreePress$Element" ({ cls := "TreePress$Element", name := "isBlock", desc := "()Z" } : Jvm.MethodName) ({ cls := "TreePress$Element", name := "isBlock", desc := "()Z" } : Jvm.MethodName)) ∈ lw_all := lw_g (lw_at lw_m6 100 rfl) rfl
theorem q1432 : (Jvm.Cond.code ({ cls := "TreePress$Element", name := "isBlock", desc := "()Z" } : Jvm.MethodName) prog_5_method_5_code (1 : Nat) (Option.some Jvm.ClassFile.FieldType.boolean)) ∈ lw_all := lw_g (lw_at lw_m6 101 rfl) rfl
theorem q2217 : (Jvm.Cond.castable "TreePress$Element" "TreePress$Node") ∈ lw_tbl := lw_at lw_m9 166 rfl
theorem q2220 : (Jvm.Cond.castable "TreePress$Element" "TreePress$Parent") ∈ lw_tbl := lw_at lw_m9 169 rfl
theorem q2232 : (Jvm.Cond.castable "TreePress$Element" "java/lang/Object") ∈ lw_tbl := lw_at lw_m9 181 rfl
theorem in_X11 : ∀ w ∈ wsX110, w ∈ lw_all := lw_in wsX110 [936, 937, 934, 935, 930, 932] (by decide +kernel) (by decide +kernel)

/-! TreePress$Row -/
def RX12 : String := "TreePress$Row"
abbrev cX12_init : ByteArray := prog_14_method_1_code
def yX12_init : MethodName := ⟨RX12, "<init>", "([B)V"⟩
abbrev cX12_size : ByteArray := prog_14_method_2_code
def yX12_size : MethodName := ⟨RX12, "size", "()I"⟩
abbrev cX12_at : ByteArray := prog_14_method_3_code
def yX12_at : MethodName := ⟨RX12, "at", "(I)I"⟩
theorem q159 : (Jvm.Cond.initialized "TreePress$Row") ∈ lw_all := lw_g (lw_at lw_m1 28 rfl) rfl
theorem q964 : (Jvm.Cond.instanceMethod ({ cls := "TreePress$Row", name := "<init>", desc := "([B)V" } : Jvm.MethodName)) ∈ lw_all := lw_g (lw_at lw_m4 113 rfl) rfl
theorem q965 : (Jvm.Cond.code ({ cls := "TreePress$Row", name := "<init>", desc := "([B)V" } : Jvm.MethodName) prog_14_method_1_code (2 : Nat) (Option.none : Option Jvm.ClassFile.FieldType)) ∈ lw_all := lw_g (lw_at lw_m4 114 rfl) rfl
theorem q966 : (Jvm.Cond.methodLinkNest "TreePress$Row" (1 : Nat) ({ cls := "TreePress$Node", name := "<init>", desc := "()V" } : Jvm.MethodName) "TreePress") ∈ lw_tbl := lw_at lw_m4 115 rfl
theorem q974 : (Jvm.Cond.fieldLink "TreePress$Row" (7 : Nat) "TreePress$Row" "bytes" "[B") ∈ lw_all := lw_g (lw_at lw_m4 123 rfl) rfl
theorem q985 : (Jvm.Cond.soleField "TreePress$Row" "bytes") ∈ lw_all := lw_g (lw_at lw_m4 134 rfl) rfl
theorem q1153 : (Jvm.Cond.instanceMethod ({ cls := "TreePress$Row", name := "size", desc := "()I" } : Jvm.MethodName)) ∈ lw_all := lw_g (lw_at lw_m5 62 rfl) rfl
theorem q1154 : (Jvm.Cond.code ({ cls := "TreePress$Row", name := "size", desc := "()I" } : Jvm.MethodName) prog_14_method_2_code (1 : Nat) (Option.some Jvm.ClassFile.FieldType.int)) ∈ lw_all := lw_g (lw_at lw_m5 63 rfl) rfl
theorem q1197 : (Jvm.Cond.instanceMethod ({ cls := "TreePress$Row", name := "at", desc := "(I)I" } : Jvm.MethodName)) ∈ lw_all := lw_g (lw_at lw_m5 106 rfl) rfl
theorem q1198 : (Jvm.Cond.code ({ cls := "TreePress$Row", name := "at", desc := "(I)I" } : Jvm.MethodName) prog_14_method_3_code (2 : Nat) (Option.some Jvm.ClassFile.FieldType.int)) ∈ lw_all := lw_g (lw_at lw_m5 107 rfl) rfl

/-! TreePress$Attribute -/
def RX13 : String := "TreePress$Attribute"
def TX13 : u_T := fun k => match k with
  | 0 => ("TreePress$Row", "bytes", "[B", true)
  | 1 => ("TreePress$Node", "number", "I", false)
  | 2 => ("TreePress$Node", "in", "LTreePress$Parent;", false)
  | 3 => ("TreePress$Attribute", "name", "[B", true)
  | _ => ("TreePress$Attribute", "given", "Z", true)
def tyX13 : Nat → FieldType := fun k => match k with
  | 0 => .array .byte
  | 1 => .int
  | 2 => .object "TreePress$Parent"
  | 3 => .array .byte
  | _ => .boolean
abbrev wsX130 : List Cond := u_ws RX13 TX13 5
theorem nmX13 : ∀ a, a < 5 → ∀ b, b < 5 → a ≠ b → (TX13 a).2.1 ≠ (TX13 b).2.1 := by decide +kernel
theorem tyX13_ok : ∀ k, k < 5 → parseFieldDescriptor (TX13 k).2.2.1 = some (tyX13 k) := by decide +kernel
abbrev cX13_init : ByteArray := prog_2_method_1_code
def yX13_init : MethodName := ⟨RX13, "<init>", "([B[BZ)V"⟩
abbrev cX13_name : ByteArray := prog_2_method_3_code
def yX13_name : MethodName := ⟨RX13, "name", "()[B"⟩
abbrev cX13_kind : ByteArray := prog_2_method_2_code
def yX13_kind : MethodName := ⟨RX13, "kind", "()I"⟩
theorem q160 : (Jvm.Cond.initialized "TreePress$Attribute") ∈ lw_all := lw_g (lw_at lw_m1 29 rfl) rfl
theorem q321 : (Jvm.Cond.sameField "TreePress$Attribute" "TreePress$Node" "number" "I") ∈ lw_all := lw_g (lw_at lw_m1 190 rfl) rfl
theorem q379 : (Jvm.Cond.selects "TreePress$Attribute" ({ cls := "java/lang/Object", name := "getClass", desc := "()Ljava/lang/Class;" } : Jvm.MethodName) ({ cls := "java/lang/Object", name := "getClass", desc := "()Ljava/lang/Class;" } : Jvm.MethodName)) ∈ lw_all := lw_g (lw_at lw_m2 8 rfl) rfl
theorem q959 : (Jvm.Cond.instantiable "TreePress$Attribute" (5 : Nat)) ∈ lw_all := lw_g (lw_at lw_m4 108 rfl) rfl
theorem q961 : (Jvm.Cond.instanceMethod ({ cls := "TreePress$Attribute", name := "<init>", desc := "([B[BZ)V" } : Jvm.MethodName)) ∈ lw_all := lw_g (lw_at lw_m4 110 rfl) rfl
theorem q962 : (Jvm.Cond.code ({ cls := "TreePress$Attribute", name := "<init>", desc := "([B[BZ)V" } : Jvm.MethodName) prog_2_method_1_code (4 : Nat) (Option.none : Option Jvm.ClassFile.FieldType)) ∈ lw_all := lw_g (lw_at lw_m4 111 rfl) rfl
theorem q963 : (Jvm.Cond.methodLink "TreePress$Attribute" (1 : Nat) ({ cls := "TreePress$Row", name := "<init>", desc := "([B)V" } : Jvm.MethodName)) ∈ lw_all := lw_g (lw_at lw_m4 112 rfl) rfl
theorem q967 : (Jvm.Cond.fieldLink "TreePress$Attribute" (7 : Nat) "TreePress$Attribute" "name" "[B") ∈ lw_all := lw_g (lw_at lw_m4 116 rfl) rfl
theorem q971 : (Jvm.Cond.fieldLink "TreePress$Attribute" (13 : Nat) "TreePress$Attribute" "given" "Z") ∈ lw_all := lw_g (lw_at lw_m4 120 rfl) rfl
theorem q976 : (Jvm.Cond.sameField "TreePress$Attribute" "TreePress$Row" "bytes" "[B") ∈ lw_all := lw_g (lw_at lw_m4 125 rfl) rfl
theorem q980 : (Jvm.Cond.laysFinal "TreePress$Attribute" "TreePress$Attribute" "name" "[B") ∈ lw_all := lw_g (lw_at lw_m4 129 rfl) rfl
theorem q981 : (Jvm.Cond.soleField "TreePress$Attribute" "name") ∈ lw_all := lw_g (lw_at lw_m4 130 rfl) rfl
theorem q982 : (Jvm.Cond.laysFinal "TreePress$Attribute" "TreePress$Attribute" "given" "Z") ∈ lw_all := lw_g (lw_at lw_m4 131 rfl) rfl
theorem q983 : (Jvm.Cond.soleField "TreePress$Attribute" "given") ∈ lw_all := lw_g (lw_at lw_m4 132 rfl) rfl
theorem q984 : (Jvm.Cond.laysFinal "TreePress$Attribute" "TreePress$Row" "bytes" "[B") ∈ lw_all := lw_g (lw_at lw_m4 133 rfl) rfl
theorem q986 : (Jvm.Cond.lays "TreePress$Attribute" "TreePress$Node" "number" "I") ∈ lw_all := lw_g (lw_at lw_m4 135 rfl) rfl
theorem q987 : (Jvm.Cond.lays "TreePress$Attribute" "TreePress$Node" "in" "LTreePress$Parent;") ∈ lw_all := lw_g (lw_at lw_m4 136 rfl) rfl
theorem q988 : (Jvm.Cond.superclass "TreePress$Attribute" "TreePress$Row") ∈ lw_all := lw_g (lw_at lw_m4 137 rfl) rfl
theorem q1084 : (Jvm.Cond.selects "TreePress$Attribute" ({ cls := "TreePress$Node", name := "name", desc := "()[B" } : Jvm.MethodName) ({ cls := "TreePress$Attribute", name := "name", desc := "()[B" } : Jvm.MethodName)) ∈ lw_all := lw_g (lw_at lw_m4 233 rfl) rfl
theorem q1085 : (Jvm.Cond.instanceMethod ({ cls := "TreePress$Attribute", name := "name", desc := "()[B" } : Jvm.MethodName)) ∈ lw_all := lw_g (lw_at lw_m4 234 rfl) rfl
theorem q1086 : (Jvm.Cond.code ({ cls := "TreePress$Attribute", name := "name", desc := "()[B" } : Jvm.MethodName) prog_2_method_3_code (1 : Nat) (Option.some (Jvm.ClassFile.FieldType.array Jvm.ClassFile.FieldType.byte))) ∈ lw_all := lw_g (lw_at lw_m4 235 rfl) rfl
theorem q1101 : (Jvm.Cond.selects "TreePress$Attribute" ({ cls := "TreePress$Node", name := "kind", desc := "()I" } : Jvm.MethodName) ({ cls := "TreePress$Attribute", name := "kind", desc := "()I" } : Jvm.MethodName)) ∈ lw_all := lw_g (lw_at lw_m5 10 rfl) rfl
theorem q1102 : (Jvm.Cond.instanceMethod ({ cls := "TreePress$Attribute", name := "kind", desc := "()I" } : Jvm.MethodName)) ∈ lw_all := lw_g (lw_at lw_m5 11 rfl) rfl
theorem q1103 : (Jvm.Cond.code ({ cls := "TreePress$Attribute", name := "kind", desc := "()I" } : Jvm.MethodName) prog_2_method_2_code (1 : Nat) (Option.some Jvm.ClassFile.FieldType.int)) ∈ lw_all := lw_g (lw_at lw_m5 12 rfl) rfl
theorem q1152 : (Jvm.Cond.selects "TreePress$Attribute" ({ cls := "TreePress$Node", name := "size", desc := "()I" } : Jvm.MethodName) ({ cls := "TreePress$Row", name := "size", desc := "()I" } : Jvm.MethodName)) ∈ lw_all := lw_g (lw_at lw_m5 61 rfl) rfl
theorem q1167 : (Jvm.Cond.selects "TreePress$Attribute" ({ cls := "TreePress$Node", name := "attributes", desc := "()I" } : Jvm.MethodName) ({ cls := "TreePress$Node", name := "attributes", desc := "()I" } : Jvm.MethodName)) ∈ lw_all := lw_g (lw_at lw_m5 76 rfl) rfl
theorem q1177 : (Jvm.Cond.selects "TreePress$Attribute" ({ cls := "TreePress$Node", name := "within", desc := "()I" } : Jvm.MethodName) ({ cls := "TreePress$Node", name := "within", desc := "()I" } : Jvm.MethodName)) ∈ lw_all := lw_g (lw_at lw_m5 86 rfl) rfl
theorem q1196 : (Jvm.Cond.selects "TreePress$Attribute" ({ cls := "TreePress$Node", name := "at", desc := "(I)I" } : Jvm.MethodName) ({ cls := "TreePress$Row", name := "at", desc := "(I)I" } : Jvm.MethodName)) ∈ lw_all := lw_g (lw_at lw_m5 105 rfl) rfl
theorem q2216 : (Jvm.Cond.castable "TreePress$Attribute" "TreePress$Node") ∈ lw_tbl := lw_at lw_m9 165 rfl
theorem q2233 : (Jvm.Cond.castable "TreePress$Attribute" "java/lang/Object") ∈ lw_tbl := lw_at lw_m9 182 rfl
theorem in_X13 : ∀ w ∈ wsX130, w ∈ lw_all := lw_in wsX130 [984, 986, 987, 980, 982] (by decide +kernel) (by decide +kernel)

/-! TreePress$Text -/
def RX14 : String := "TreePress$Text"
def TX14 : u_T := fun k => match k with
  | 0 => ("TreePress$Row", "bytes", "[B", true)
  | 1 => ("TreePress$Node", "number", "I", false)
  | 2 => ("TreePress$Node", "in", "LTreePress$Parent;", false)
  | _ => ("TreePress$Text", "blank", "Z", true)
def tyX14 : Nat → FieldType := fun k => match k with
  | 0 => .array .byte
  | 1 => .int
  | 2 => .object "TreePress$Parent"
  | _ => .boolean
abbrev wsX140 : List Cond := u_ws RX14 TX14 4
theorem nmX14 : ∀ a, a < 4 → ∀ b, b < 4 → a ≠ b → (TX14 a).2.1 ≠ (TX14 b).2.1 := by decide +kernel
theorem tyX14_ok : ∀ k, k < 4 → parseFieldDescriptor (TX14 k).2.2.1 = some (tyX14 k) := by decide +kernel
abbrev cX14_init : ByteArray := prog_19_method_1_code
def yX14_init : MethodName := ⟨RX14, "<init>", "([BZ)V"⟩
abbrev cX14_kind : ByteArray := prog_19_method_2_code
def yX14_kind : MethodName := ⟨RX14, "kind", "()I"⟩
theorem q161 : (Jvm.Cond.initialized "TreePress$Text") ∈ lw_all := lw_g (lw_at lw_m1 30 rfl) rfl
theorem q393 : (Jvm.Cond.selects "TreePress$Text" ({ cls := "java/lang/Object", name := "getClass", desc := "()Ljava/lang/Class;" } : Jvm.MethodName) ({ cls := "java/lang/Object", name := "getClass", desc := "()Ljava/lang/Class;" } : Jvm.MethodName)) ∈ lw_all := lw_g (lw_at lw_m2 22 rfl) rfl
theorem q978 : (Jvm.Cond.sameField "TreePress$Text" "TreePress$Row" "bytes" "[B") ∈ lw_all := lw_g (lw_at lw_m4 127 rfl) rfl
theorem q1004 : (Jvm.Cond.instantiable "TreePress$Text" (4 : Nat)) ∈ lw_all := lw_g (lw_at lw_m4 153 rfl) rfl
theorem q1006 : (Jvm.Cond.instanceMethod ({ cls := "TreePress$Text", name := "<init>", desc := "([BZ)V" } : Jvm.MethodName)) ∈ lw_all := lw_g (lw_at lw_m4 155 rfl) rfl
theorem q1007 : (Jvm.Cond.code ({ cls := "TreePress$Text", name := "<init>", desc := "([BZ)V" } : Jvm.MethodName) prog_19_method_1_code (3 : Nat) (Option.none : Option Jvm.ClassFile.FieldType)) ∈ lw_all := lw_g (lw_at lw_m4 156 rfl) rfl
theorem q1008 : (Jvm.Cond.methodLink "TreePress$Text" (1 : Nat) ({ cls := "TreePress$Row", name := "<init>", desc := "([B)V" } : Jvm.MethodName)) ∈ lw_all := lw_g (lw_at lw_m4 157 rfl) rfl
theorem q1009 : (Jvm.Cond.fieldLink "TreePress$Text" (7 : Nat) "TreePress$Text" "blank" "Z") ∈ lw_all := lw_g (lw_at lw_m4 158 rfl) rfl
theorem q1011 : (Jvm.Cond.laysFinal "TreePress$Text" "TreePress$Text" "blank" "Z") ∈ lw_all := lw_g (lw_at lw_m4 160 rfl) rfl
theorem q1012 : (Jvm.Cond.soleField "TreePress$Text" "blank") ∈ lw_all := lw_g (lw_at lw_m4 161 rfl) rfl
theorem q1013 : (Jvm.Cond.laysFinal "TreePress$Text" "TreePress$Row" "bytes" "[B") ∈ lw_all := lw_g (lw_at lw_m4 162 rfl) rfl
theorem q1014 : (Jvm.Cond.lays "TreePress$Text" "TreePress$Node" "number" "I") ∈ lw_all := lw_g (lw_at lw_m4 163 rfl) rfl
theorem q1015 : (Jvm.Cond.lays "TreePress$Text" "TreePress$Node" "in" "LTreePress$Parent;") ∈ lw_all := lw_g (lw_at lw_m4 164 rfl) rfl
theorem q1016 : (Jvm.Cond.superclass "TreePress$Text" "TreePress$Row") ∈ lw_all := lw_g (lw_at lw_m4 165 rfl) rfl
theorem q1091 : (Jvm.Cond.selects "TreePress$Text" ({ cls := "TreePress$Node", name := "name", desc := "()[B" } : Jvm.MethodName) ({ cls := "TreePress$Node", name := "name", desc := "()[B" } : Jvm.MethodName)) ∈ lw_all := lw_g (lw_at lw_m5 0 rfl) rfl
theorem q1111 : (Jvm.Cond.selects "TreePress$Text" ({ cls := "TreePress$Node", name := "kind", desc := "()I" } : Jvm.MethodName) ({ cls := "TreePress$Text", name := "kind", desc := "()I" } : Jvm.MethodName)) ∈ lw_all := lw_g (lw_at lw_m5 20 rfl) rfl
theorem q1112 : (Jvm.Cond.instanceMethod ({ cls := "TreePress$Text", name := "kind", desc := "()I" } : Jvm.MethodName)) ∈ lw_all := lw_g (lw_at lw_m5 21 rfl) rfl
theorem q1113 : (Jvm.Cond.code ({ cls := "TreePress$Text", name := "kind", desc := "()I" } : Jvm.MethodName) prog_19_method_2_code (1 : Nat) (Option.some Jvm.ClassFile.FieldType.int)) ∈ lw_all := lw_g (lw_at lw_m5 22 rfl) rfl
theorem q1163 : (Jvm.Cond.selects "TreePress$Text" ({ cls := "TreePress$Node", name := "size", desc := "()I" } : Jvm.MethodName) ({ cls := "TreePress$Row", name := "size", desc := "()I" } : Jvm.MethodName)) ∈ lw_all := lw_g (lw_at lw_m5 72 rfl) rfl
theorem q1172 : (Jvm.Cond.selects "TreePress$Text" ({ cls := "TreePress$Node", name := "attributes", desc := "()I" } : Jvm.MethodName) ({ cls := "TreePress$Node", name := "attributes", desc := "()I" } : Jvm.MethodName)) ∈ lw_all := lw_g (lw_at lw_m5 81 rfl) rfl
theorem q1182 : (Jvm.Cond.selects "TreePress$Text" ({ cls := "TreePress$Node", name := "within", desc := "()I" } : Jvm.MethodName) ({ cls := "TreePress$Node", name := "within", desc := "()I" } : Jvm.MethodName)) ∈ lw_all := lw_g (lw_at lw_m5 91 rfl) rfl
theorem q1204 : (Jvm.Cond.selects "TreePress$Text" ({ cls := "TreePress$Node", name := "at", desc := "(I)I" } : Jvm.MethodName) ({ cls := "TreePress$Row", name := "at", desc := "(I)I" } : Jvm.MethodName)) ∈ lw_all := lw_g (lw_at lw_m5 113 rfl) rfl
theorem q2219 : (Jvm.Cond.castable "TreePress$Text" "TreePress$Node") ∈ lw_tbl := lw_at lw_m9 168 rfl
theorem q2234 : (Jvm.Cond.castable "TreePress$Text" "java/lang/Object") ∈ lw_tbl := lw_at lw_m9 183 rfl
theorem in_X14 : ∀ w ∈ wsX140, w ∈ lw_all := lw_in wsX140 [1013, 1014, 1015, 1011] (by decide +kernel) (by decide +kernel)

/-! TreePress$PathReader -/
def RX15 : String := "TreePress$PathReader"
def TX15 : u_T := fun k => match k with
  | 0 => ("TreePress$Reader", "text", "[B", true)
  | 1 => ("TreePress$Reader", "end", "I", true)
  | 2 => ("TreePress$Reader", "at", "I", false)
  | 3 => ("TreePress$PathReader", "steps", "Ljava/util/ArrayList;", true)
  | _ => ("TreePress$PathReader", "top", "Z", false)
def tyX15 : Nat → FieldType := fun k => match k with
  | 0 => .array .byte
  | 1 => .int
  | 2 => .int
  | 3 => .object "java/util/ArrayList"
  | _ => .boolean
abbrev wsX150 : List Cond := u_ws RX15 TX15 5
theorem nmX15 : ∀ a, a < 5 → ∀ b, b < 5 → a ≠ b → (TX15 a).2.1 ≠ (TX15 b).2.1 := by decide +kernel
theorem tyX15_ok : ∀ k, k < 5 → parseFieldDescriptor (TX15 k).2.2.1 = some (tyX15 k) := by decide +kernel
abbrev cX15_init : ByteArray := prog_12_method_1_code
def yX15_init : MethodName := ⟨RX15, "<init>", "([BI)V"⟩
abbrev cX15_path : ByteArray := prog_12_method_2_code
def yX15_path : MethodName := ⟨RX15, "path", "()V"⟩
abbrev cX15_step : ByteArray := prog_12_method_3_code
def yX15_step : MethodName := ⟨RX15, "step", "(Z)V"⟩
abbrev cX15_test : ByteArray := prog_12_method_4_code
def yX15_test : MethodName := ⟨RX15, "test", "(LTreePress$Step;)V"⟩
abbrev cX15_quoted : ByteArray := prog_12_method_5_code
def yX15_quoted : MethodName := ⟨RX15, "quoted", "()[B"⟩
theorem q162 : (Jvm.Cond.initialized "TreePress$PathReader") ∈ lw_all := lw_g (lw_at lw_m1 31 rfl) rfl
theorem q388 : (Jvm.Cond.selects "TreePress$PathReader" ({ cls := "java/lang/Object", name := "getClass", desc := "()Ljava/lang/Class;" } : Jvm.MethodName) ({ cls := "java/lang/Object", name := "getClass", desc := "()Ljava/lang/Class;" } : Jvm.MethodName)) ∈ lw_all := lw_g (lw_at lw_m2 17 rfl) rfl
theorem q573 : (Jvm.Cond.selects "TreePress$PathReader" ({ cls := "TreePress$Reader", name := "takes", desc := "(Ljava/lang/String;)Z" } : Jvm.MethodName) ({ cls := "TreePress$Reader", name := "takes", desc := "(Ljava/lang/String;)Z" } : Jvm.MethodName)) ∈ lw_all := lw_g (lw_at lw_m2 202 rfl) rfl
theorem q676 : (Jvm.Cond.selects "TreePress$PathReader" ({ cls := "TreePress$Reader", name := "token", desc := "()[B" } : Jvm.MethodName) ({ cls := "TreePress$Reader", name := "token", desc := "()[B" } : Jvm.MethodName)) ∈ lw_all := lw_g (lw_at lw_m3 65 rfl) rfl
theorem q686 : (Jvm.Cond.selects "TreePress$PathReader" ({ cls := "TreePress$Reader", name := "cut", desc := "(I)[B" } : Jvm.MethodName) ({ cls := "TreePress$Reader", name := "cut", desc := "(I)[B" } : Jvm.MethodName)) ∈ lw_all := lw_g (lw_at lw_m3 75 rfl) rfl
theorem q1220 : (Jvm.Cond.instantiable "TreePress$PathReader" (5 : Nat)) ∈ lw_all := lw_g (lw_at lw_m5 129 rfl) rfl
theorem q1222 : (Jvm.Cond.instanceMethod ({ cls := "TreePress$PathReader", name := "<init>", desc := "([BI)V" } : Jvm.MethodName)) ∈ lw_all := lw_g (lw_at lw_m5 131 rfl) rfl
theorem q1223 : (Jvm.Cond.code ({ cls := "TreePress$PathReader", name := "<init>", desc := "([BI)V" } : Jvm.MethodName) prog_12_method_1_code (3 : Nat) (Option.none : Option Jvm.ClassFile.FieldType)) ∈ lw_all := lw_g (lw_at lw_m5 132 rfl) rfl
theorem q1224 : (Jvm.Cond.methodLink "TreePress$PathReader" (3 : Nat) ({ cls := "TreePress$Reader", name := "<init>", desc := "([BI)V" } : Jvm.MethodName)) ∈ lw_all := lw_g (lw_at lw_m5 133 rfl) rfl
theorem q1225 : (Jvm.Cond.classLink "TreePress$PathReader" (9 : Nat) "java/util/ArrayList") ∈ lw_all := lw_g (lw_at lw_m5 134 rfl) rfl
theorem q1226 : (Jvm.Cond.methodLink "TreePress$PathReader" (11 : Nat) ({ cls := "java/util/ArrayList", name := "<init>", desc := "()V" } : Jvm.MethodName)) ∈ lw_all := lw_g (lw_at lw_m5 135 rfl) rfl
theorem q1227 : (Jvm.Cond.fieldLink "TreePress$PathReader" (14 : Nat) "TreePress$PathReader" "steps" "Ljava/util/ArrayList;") ∈ lw_all := lw_g (lw_at lw_m5 136 rfl) rfl
theorem q1229 : (Jvm.Cond.fieldLink "TreePress$PathReader" (24 : Nat) "TreePress$PathReader" "top" "Z") ∈ lw_all := lw_g (lw_at lw_m5 138 rfl) rfl
theorem q1231 : (Jvm.Cond.laysFinal "TreePress$PathReader" "TreePress$PathReader" "steps" "Ljava/util/ArrayList;") ∈ lw_all := lw_g (lw_at lw_m5 140 rfl) rfl
theorem q1232 : (Jvm.Cond.soleField "TreePress$PathReader" "steps") ∈ lw_all := lw_g (lw_at lw_m5 141 rfl) rfl
theorem q1233 : (Jvm.Cond.lays "TreePress$PathReader" "TreePress$PathReader" "top" "Z") ∈ lw_all := lw_g (lw_at lw_m5 142 rfl) rfl
theorem q1234 : (Jvm.Cond.soleField "TreePress$PathReader" "top") ∈ lw_all := lw_g (lw_at lw_m5 143 rfl) rfl
theorem q1235 : (Jvm.Cond.laysFinal "TreePress$PathReader" "TreePress$Reader" "text" "[B") ∈ lw_all := lw_g (lw_at lw_m5 144 rfl) rfl
theorem q1236 : (Jvm.Cond.laysFinal "TreePress$PathReader" "TreePress$Reader" "end" "I") ∈ lw_all := lw_g (lw_at lw_m5 145 rfl) rfl
theorem q1237 : (Jvm.Cond.lays "TreePress$PathReader" "TreePress$Reader" "at" "I") ∈ lw_all := lw_g (lw_at lw_m5 146 rfl) rfl
theorem q1238 : (Jvm.Cond.superclass "TreePress$PathReader" "TreePress$Reader") ∈ lw_all := lw_g (lw_at lw_m5 147 rfl) rfl
theorem q1240 : (Jvm.Cond.instanceMethod ({ cls := "TreePress$PathReader", name := "path", desc := "()V" } : Jvm.MethodName)) ∈ lw_all := lw_g (lw_at lw_m5 149 rfl) rfl
theorem q1241 : (Jvm.Cond.selects "TreePress$PathReader" ({ cls := "TreePress$PathReader", name := "path", desc := "()V" } : Jvm.MethodName) ({ cls := "TreePress$PathReader", name := "path", desc := "()V" } : Jvm.MethodName)) ∈ lw_all := lw_g (lw_at lw_m5 150 rfl) rfl
theorem q1242 : (Jvm.Cond.code ({ cls := "TreePress$PathReader", name := "path", desc := "()V" } : Jvm.MethodName) prog_12_method_2_code (2 : Nat) (Option.none : Option Jvm.ClassFile.FieldType)) ∈ lw_all := lw_g (lw_at lw_m5 151 rfl) rfl
theorem q1243 : (Jvm.Cond.methodLink "TreePress$PathReader" (20 : Nat) ({ cls := "TreePress$PathReader", name := "here", desc := "()I" } : Jvm.MethodName)) ∈ lw_all := lw_g (lw_at lw_m5 152 rfl) rfl
theorem q1244 : (Jvm.Cond.sameMethod "TreePress$PathReader" "TreePress$Reader" "here" "()I") ∈ lw_all := lw_g (lw_at lw_m5 153 rfl) rfl
theorem q1245 : (Jvm.Cond.selects "TreePress$PathReader" ({ cls := "TreePress$PathReader", name := "here", desc := "()I" } : Jvm.MethodName) ({ cls := "TreePress$Reader", name := "here", desc := "()I" } : Jvm.MethodName)) ∈ lw_all := lw_g (lw_at lw_m5 154 rfl) rfl
theorem q1246 : (Jvm.Cond.stringRef "TreePress$PathReader" (28 : Nat) "/") ∈ lw_tbl := lw_at lw_m5 155 rfl
theorem q1247 : (Jvm.Cond.methodLink "TreePress$PathReader" (30 : Nat) ({ cls := "TreePress$PathReader", name := "isAt", desc := "(Ljava/lang/String;)Z" } : Jvm.MethodName)) ∈ lw_all := lw_g (lw_at lw_m5 156 rfl) rfl
theorem q1248 : (Jvm.Cond.sameMethod "TreePress$PathReader" "TreePress$Reader" "isAt" "(Ljava/lang/String;)Z") ∈ lw_all := lw_g (lw_at lw_m5 157 rfl) rfl
theorem q1249 : (Jvm.Cond.selects "TreePress$PathReader" ({ cls := "TreePress$PathReader", name := "isAt", desc := "(Ljava/lang/String;)Z" } : Jvm.MethodName) ({ cls := "TreePress$Reader", name := "isAt", desc := "(Ljava/lang/String;)Z" } : Jvm.MethodName)) ∈ lw_all := lw_g (lw_at lw_m5 158 rfl) rfl
theorem q1250 : (Jvm.Cond.stringRef "TreePress$PathReader" (34 : Nat) "//") ∈ lw_tbl := lw_at lw_m5 159 rfl
theorem q1251 : (Jvm.Cond.methodLink "TreePress$PathReader" (36 : Nat) ({ cls := "TreePress$PathReader", name := "must", desc := "(Ljava/lang/String;)V" } : Jvm.MethodName)) ∈ lw_all := lw_g (lw_at lw_m5 160 rfl) rfl
theorem q1252 : (Jvm.Cond.sameMethod "TreePress$PathReader" "TreePress$Reader" "must" "(Ljava/lang/String;)V") ∈ lw_all := lw_g (lw_at lw_m5 161 rfl) rfl
theorem q1253 : (Jvm.Cond.selects "TreePress$PathReader" ({ cls := "TreePress$PathReader", name := "must", desc := "(Ljava/lang/String;)V" } : Jvm.MethodName) ({ cls := "TreePress$Reader", name := "must", desc := "(Ljava/lang/String;)V" } : Jvm.MethodName)) ∈ lw_all := lw_g (lw_at lw_m5 162 rfl) rfl
theorem q1254 : (Jvm.Cond.methodLink "TreePress$PathReader" (40 : Nat) ({ cls := "TreePress$PathReader", name := "step", desc := "(Z)V" } : Jvm.MethodName)) ∈ lw_all := lw_g (lw_at lw_m5 163 rfl) rfl
theorem q1255 : (Jvm.Cond.privateMethod ({ cls := "TreePress$PathReader", name := "step", desc := "(Z)V" } : Jvm.MethodName)) ∈ lw_tbl := lw_at lw_m5 164 rfl
theorem q1256 : (Jvm.Cond.instanceMethod ({ cls := "TreePress$PathReader", name := "step", desc := "(Z)V" } : Jvm.MethodName)) ∈ lw_all := lw_g (lw_at lw_m5 165 rfl) rfl
theorem q1257 : (Jvm.Cond.code ({ cls := "TreePress$PathReader", name := "step", desc := "(Z)V" } : Jvm.MethodName) prog_12_method_3_code (5 : Nat) (Option.none : Option Jvm.ClassFile.FieldType)) ∈ lw_all := lw_g (lw_at lw_m5 166 rfl) rfl
theorem q1258 : (Jvm.Cond.methodLink "TreePress$PathReader" (49 : Nat) ({ cls := "TreePress$PathReader", name := "place", desc := "()I" } : Jvm.MethodName)) ∈ lw_all := lw_g (lw_at lw_m5 167 rfl) rfl
theorem q1259 : (Jvm.Cond.sameMethod "TreePress$PathReader" "TreePress$Reader" "place" "()I") ∈ lw_all := lw_g (lw_at lw_m5 168 rfl) rfl
theorem q1260 : (Jvm.Cond.selects "TreePress$PathReader" ({ cls := "TreePress$PathReader", name := "place", desc := "()I" } : Jvm.MethodName) ({ cls := "TreePress$Reader", name := "place", desc := "()I" } : Jvm.MethodName)) ∈ lw_all := lw_g (lw_at lw_m5 169 rfl) rfl
theorem q1261 : (Jvm.Cond.stringRef "TreePress$PathReader" (55 : Nat) ".") ∈ lw_tbl := lw_at lw_m5 170 rfl
theorem q1262 : (Jvm.Cond.stringRef "TreePress$PathReader" (57 : Nat) "@") ∈ lw_tbl := lw_at lw_m5 171 rfl
theorem q1263 : (Jvm.Cond.methodLinkNest "TreePress$PathReader" (59 : Nat) ({ cls := "TreePress", name := "isFirst", desc := "(I)Z" } : Jvm.MethodName) "TreePress") ∈ lw_tbl := lw_at lw_m5 172 rfl
theorem q1264 : (Jvm.Cond.classLink "TreePress$PathReader" (47 : Nat) "TreePress$Fault") ∈ lw_all := lw_g (lw_at lw_m5 173 rfl) rfl
theorem q1265 : (Jvm.Cond.methodLink "TreePress$PathReader" (52 : Nat) ({ cls := "TreePress$Fault", name := "<init>", desc := "(II)V" } : Jvm.MethodName)) ∈ lw_all := lw_g (lw_at lw_m5 174 rfl) rfl
theorem q1266 : (Jvm.Cond.methodLink "TreePress$PathReader" (63 : Nat) ({ cls := "java/util/ArrayList", name := "size", desc := "()I" } : Jvm.MethodName)) ∈ lw_all := lw_g (lw_at lw_m5 175 rfl) rfl
theorem q1267 : (Jvm.Cond.classLink "TreePress$PathReader" (66 : Nat) "TreePress$Step") ∈ lw_all := lw_g (lw_at lw_m5 176 rfl) rfl
theorem q1269 : (Jvm.Cond.methodLinkNest "TreePress$PathReader" (68 : Nat) ({ cls := "TreePress$Step", name := "<init>", desc := "()V" } : Jvm.MethodName) "TreePress") ∈ lw_tbl := lw_at lw_m5 178 rfl
theorem q1275 : (Jvm.Cond.fieldLinkNest "TreePress$PathReader" (78 : Nat) "TreePress$Step" "kind" "I" "TreePress") ∈ lw_tbl := lw_at lw_m5 184 rfl
theorem q1277 : (Jvm.Cond.fieldLinkNest "TreePress$PathReader" (69 : Nat) "TreePress$Step" "deep" "Z" "TreePress") ∈ lw_tbl := lw_at lw_m5 186 rfl
theorem q1279 : (Jvm.Cond.fieldLinkNest "TreePress$PathReader" (90 : Nat) "TreePress$Step" "name" "[B" "TreePress") ∈ lw_tbl := lw_at lw_m5 188 rfl
theorem q1282 : (Jvm.Cond.fieldLinkNest "TreePress$PathReader" (97 : Nat) "TreePress$Step" "tests" "Ljava/util/ArrayList;" "TreePress") ∈ lw_tbl := lw_at lw_m5 191 rfl
theorem q1293 : (Jvm.Cond.methodLink "TreePress$PathReader" (72 : Nat) ({ cls := "java/util/ArrayList", name := "add", desc := "(Ljava/lang/Object;)Z" } : Jvm.MethodName)) ∈ lw_all := lw_g (lw_at lw_m5 202 rfl) rfl
theorem q1294 : (Jvm.Cond.stringRef "TreePress$PathReader" (76 : Nat) "..") ∈ lw_tbl := lw_at lw_m5 203 rfl
theorem q1295 : (Jvm.Cond.methodLink "TreePress$PathReader" (44 : Nat) ({ cls := "TreePress$PathReader", name := "takes", desc := "(Ljava/lang/String;)Z" } : Jvm.MethodName)) ∈ lw_all := lw_g (lw_at lw_m5 204 rfl) rfl
theorem q1296 : (Jvm.Cond.sameMethod "TreePress$PathReader" "TreePress$Reader" "takes" "(Ljava/lang/String;)Z") ∈ lw_all := lw_g (lw_at lw_m5 205 rfl) rfl
theorem q1297 : (Jvm.Cond.selects "TreePress$PathReader" ({ cls := "TreePress$PathReader", name := "takes", desc := "(Ljava/lang/String;)Z" } : Jvm.MethodName) ({ cls := "TreePress$Reader", name := "takes", desc := "(Ljava/lang/String;)Z" } : Jvm.MethodName)) ∈ lw_all := lw_g (lw_at lw_m5 206 rfl) rfl
theorem q1298 : (Jvm.Cond.stringRef "TreePress$PathReader" (82 : Nat) "text()") ∈ lw_tbl := lw_at lw_m5 207 rfl
theorem q1299 : (Jvm.Cond.stringRef "TreePress$PathReader" (84 : Nat) "*") ∈ lw_tbl := lw_at lw_m5 208 rfl
theorem q1300 : (Jvm.Cond.methodLink "TreePress$PathReader" (86 : Nat) ({ cls := "TreePress$PathReader", name := "name", desc := "()[B" } : Jvm.MethodName)) ∈ lw_all := lw_g (lw_at lw_m5 209 rfl) rfl
theorem q1301 : (Jvm.Cond.sameMethod "TreePress$PathReader" "TreePress$Reader" "name" "()[B") ∈ lw_all := lw_g (lw_at lw_m5 210 rfl) rfl
theorem q1302 : (Jvm.Cond.selects "TreePress$PathReader" ({ cls := "TreePress$PathReader", name := "name", desc := "()[B" } : Jvm.MethodName) ({ cls := "TreePress$Reader", name := "name", desc := "()[B" } : Jvm.MethodName)) ∈ lw_all := lw_g (lw_at lw_m5 211 rfl) rfl
theorem q1303 : (Jvm.Cond.methodLink "TreePress$PathReader" (93 : Nat) ({ cls := "TreePress$PathReader", name := "test", desc := "(LTreePress$Step;)V" } : Jvm.MethodName)) ∈ lw_all := lw_g (lw_at lw_m5 212 rfl) rfl
theorem q1304 : (Jvm.Cond.privateMethod ({ cls := "TreePress$PathReader", name := "test", desc := "(LTreePress$Step;)V" } : Jvm.MethodName)) ∈ lw_tbl := lw_at lw_m5 213 rfl
theorem q1305 : (Jvm.Cond.instanceMethod ({ cls := "TreePress$PathReader", name := "test", desc := "(LTreePress$Step;)V" } : Jvm.MethodName)) ∈ lw_all := lw_g (lw_at lw_m5 214 rfl) rfl
theorem q1306 : (Jvm.Cond.code ({ cls := "TreePress$PathReader", name := "test", desc := "(LTreePress$Step;)V" } : Jvm.MethodName) prog_12_method_4_code (5 : Nat) (Option.none : Option Jvm.ClassFile.FieldType)) ∈ lw_all := lw_g (lw_at lw_m5 215 rfl) rfl
theorem q1307 : (Jvm.Cond.stringRef "TreePress$PathReader" (100 : Nat) "[") ∈ lw_tbl := lw_at lw_m5 216 rfl
theorem q1308 : (Jvm.Cond.classLink "TreePress$PathReader" (102 : Nat) "TreePress$Test") ∈ lw_all := lw_g (lw_at lw_m5 217 rfl) rfl
theorem q1310 : (Jvm.Cond.methodLinkNest "TreePress$PathReader" (104 : Nat) ({ cls := "TreePress$Test", name := "<init>", desc := "()V" } : Jvm.MethodName) "TreePress") ∈ lw_tbl := lw_at lw_m5 219 rfl
theorem q1314 : (Jvm.Cond.fieldLinkNest "TreePress$PathReader" (105 : Nat) "TreePress$Test" "kind" "I" "TreePress") ∈ lw_tbl := lw_at lw_m5 223 rfl
theorem q1316 : (Jvm.Cond.fieldLinkNest "TreePress$PathReader" (106 : Nat) "TreePress$Test" "place" "I" "TreePress") ∈ lw_tbl := lw_at lw_m5 225 rfl
theorem q1318 : (Jvm.Cond.fieldLinkNest "TreePress$PathReader" (114 : Nat) "TreePress$Test" "side" "Z" "TreePress") ∈ lw_tbl := lw_at lw_m5 227 rfl
theorem q1320 : (Jvm.Cond.fieldLinkNest "TreePress$PathReader" (117 : Nat) "TreePress$Test" "name" "[B" "TreePress") ∈ lw_tbl := lw_at lw_m5 229 rfl
theorem q1322 : (Jvm.Cond.fieldLinkNest "TreePress$PathReader" (123 : Nat) "TreePress$Test" "value" "[B" "TreePress") ∈ lw_tbl := lw_at lw_m5 231 rfl
theorem q1335 : (Jvm.Cond.methodLink "TreePress$PathReader" (108 : Nat) ({ cls := "TreePress$PathReader", name := "goTo", desc := "(I)V" } : Jvm.MethodName)) ∈ lw_all := lw_g (lw_at lw_m6 4 rfl) rfl
theorem q1336 : (Jvm.Cond.sameMethod "TreePress$PathReader" "TreePress$Reader" "goTo" "(I)V") ∈ lw_all := lw_g (lw_at lw_m6 5 rfl) rfl
theorem q1337 : (Jvm.Cond.selects "TreePress$PathReader" ({ cls := "TreePress$PathReader", name := "goTo", desc := "(I)V" } : Jvm.MethodName) ({ cls := "TreePress$Reader", name := "goTo", desc := "(I)V" } : Jvm.MethodName)) ∈ lw_all := lw_g (lw_at lw_m6 6 rfl) rfl
theorem q1338 : (Jvm.Cond.stringRef "TreePress$PathReader" (112 : Nat) "last()") ∈ lw_tbl := lw_at lw_m6 7 rfl
theorem q1339 : (Jvm.Cond.stringRef "TreePress$PathReader" (118 : Nat) "=") ∈ lw_tbl := lw_at lw_m6 8 rfl
theorem q1340 : (Jvm.Cond.methodLink "TreePress$PathReader" (120 : Nat) ({ cls := "TreePress$PathReader", name := "quoted", desc := "()[B" } : Jvm.MethodName)) ∈ lw_all := lw_g (lw_at lw_m6 9 rfl) rfl
theorem q1341 : (Jvm.Cond.privateMethod ({ cls := "TreePress$PathReader", name := "quoted", desc := "()[B" } : Jvm.MethodName)) ∈ lw_tbl := lw_at lw_m6 10 rfl
theorem q1342 : (Jvm.Cond.instanceMethod ({ cls := "TreePress$PathReader", name := "quoted", desc := "()[B" } : Jvm.MethodName)) ∈ lw_all := lw_g (lw_at lw_m6 11 rfl) rfl
theorem q1343 : (Jvm.Cond.code ({ cls := "TreePress$PathReader", name := "quoted", desc := "()[B" } : Jvm.MethodName) prog_12_method_5_code (4 : Nat) (Option.some (Jvm.ClassFile.FieldType.array Jvm.ClassFile.FieldType.byte))) ∈ lw_all := lw_g (lw_at lw_m6 12 rfl) rfl
theorem q1344 : (Jvm.Cond.methodLinkNest "TreePress$PathReader" (130 : Nat) ({ cls := "TreePress", name := "isChar", desc := "(I)Z" } : Jvm.MethodName) "TreePress") ∈ lw_tbl := lw_at lw_m6 13 rfl
theorem q1345 : (Jvm.Cond.methodLink "TreePress$PathReader" (133 : Nat) ({ cls := "TreePress$PathReader", name := "cut", desc := "(I)[B" } : Jvm.MethodName)) ∈ lw_all := lw_g (lw_at lw_m6 14 rfl) rfl
theorem q1346 : (Jvm.Cond.sameMethod "TreePress$PathReader" "TreePress$Reader" "cut" "(I)[B") ∈ lw_all := lw_g (lw_at lw_m6 15 rfl) rfl
theorem q1348 : (Jvm.Cond.selects "TreePress$PathReader" ({ cls := "TreePress$PathReader", name := "cut", desc := "(I)[B" } : Jvm.MethodName) ({ cls := "TreePress$Reader", name := "cut", desc := "(I)[B" } : Jvm.MethodName)) ∈ lw_all := lw_g (lw_at lw_m6 17 rfl) rfl
theorem q1349 : (Jvm.Cond.stringRef "TreePress$PathReader" (126 : Nat) ".=") ∈ lw_tbl := lw_at lw_m6 18 rfl
theorem q1350 : (Jvm.Cond.stringRef "TreePress$PathReader" (128 : Nat) "]") ∈ lw_tbl := lw_at lw_m6 19 rfl
theorem q2210 : (Jvm.Cond.selects "TreePress$PathReader" ({ cls := "TreePress$Reader", name := "isAt", desc := "(Ljava/lang/String;)Z" } : Jvm.MethodName) ({ cls := "TreePress$Reader", name := "isAt", desc := "(Ljava/lang/String;)Z" } : Jvm.MethodName)) ∈ lw_all := lw_g (lw_at lw_m9 159 rfl) rfl
theorem q2214 : (Jvm.Cond.selects "TreePress$PathReader" ({ cls := "TreePress$Reader", name := "here", desc := "()I" } : Jvm.MethodName) ({ cls := "TreePress$Reader", name := "here", desc := "()I" } : Jvm.MethodName)) ∈ lw_all := lw_g (lw_at lw_m9 163 rfl) rfl
theorem q2235 : (Jvm.Cond.castable "TreePress$PathReader" "java/lang/Object") ∈ lw_tbl := lw_at lw_m9 184 rfl
theorem in_X15 : ∀ w ∈ wsX150, w ∈ lw_all := lw_in wsX150 [1235, 1236, 1237, 1231, 1233] (by decide +kernel) (by decide +kernel)

/-! TreePress$Step -/
def RX16 : String := "TreePress$Step"
def TX16 : u_T := fun k => match k with
  | 0 => ("TreePress$Step", "kind", "I", false)
  | 1 => ("TreePress$Step", "deep", "Z", false)
  | 2 => ("TreePress$Step", "name", "[B", false)
  | _ => ("TreePress$Step", "tests", "Ljava/util/ArrayList;", true)
def tyX16 : Nat → FieldType := fun k => match k with
  | 0 => .int
  | 1 => .boolean
  | 2 => .array .byte
  | _ => .object "java/util/ArrayList"
abbrev wsX160 : List Cond := u_ws RX16 TX16 4
theorem nmX16 : ∀ a, a < 4 → ∀ b, b < 4 → a ≠ b → (TX16 a).2.1 ≠ (TX16 b).2.1 := by decide +kernel
theorem tyX16_ok : ∀ k, k < 4 → parseFieldDescriptor (TX16 k).2.2.1 = some (tyX16 k) := by decide +kernel
abbrev cX16_init : ByteArray := prog_17_method_1_code
def yX16_init : MethodName := ⟨RX16, "<init>", "()V"⟩
theorem q163 : (Jvm.Cond.initialized "TreePress$Step") ∈ lw_all := lw_g (lw_at lw_m1 32 rfl) rfl
theorem q391 : (Jvm.Cond.selects "TreePress$Step" ({ cls := "java/lang/Object", name := "getClass", desc := "()Ljava/lang/Class;" } : Jvm.MethodName) ({ cls := "java/lang/Object", name := "getClass", desc := "()Ljava/lang/Class;" } : Jvm.MethodName)) ∈ lw_all := lw_g (lw_at lw_m2 20 rfl) rfl
theorem q1268 : (Jvm.Cond.instantiable "TreePress$Step" (4 : Nat)) ∈ lw_all := lw_g (lw_at lw_m5 177 rfl) rfl
theorem q1270 : (Jvm.Cond.instanceMethod ({ cls := "TreePress$Step", name := "<init>", desc := "()V" } : Jvm.MethodName)) ∈ lw_all := lw_g (lw_at lw_m5 179 rfl) rfl
theorem q1271 : (Jvm.Cond.code ({ cls := "TreePress$Step", name := "<init>", desc := "()V" } : Jvm.MethodName) prog_17_method_1_code (1 : Nat) (Option.none : Option Jvm.ClassFile.FieldType)) ∈ lw_all := lw_g (lw_at lw_m5 180 rfl) rfl
theorem q1272 : (Jvm.Cond.methodLink "TreePress$Step" (1 : Nat) ({ cls := "java/lang/Object", name := "<init>", desc := "()V" } : Jvm.MethodName)) ∈ lw_all := lw_g (lw_at lw_m5 181 rfl) rfl
theorem q1273 : (Jvm.Cond.classLink "TreePress$Step" (7 : Nat) "java/util/ArrayList") ∈ lw_all := lw_g (lw_at lw_m5 182 rfl) rfl
theorem q1274 : (Jvm.Cond.methodLink "TreePress$Step" (9 : Nat) ({ cls := "java/util/ArrayList", name := "<init>", desc := "(I)V" } : Jvm.MethodName)) ∈ lw_all := lw_g (lw_at lw_m5 183 rfl) rfl
theorem q1281 : (Jvm.Cond.fieldLink "TreePress$Step" (12 : Nat) "TreePress$Step" "tests" "Ljava/util/ArrayList;") ∈ lw_all := lw_g (lw_at lw_m5 190 rfl) rfl
theorem q1284 : (Jvm.Cond.lays "TreePress$Step" "TreePress$Step" "kind" "I") ∈ lw_all := lw_g (lw_at lw_m5 193 rfl) rfl
theorem q1285 : (Jvm.Cond.soleField "TreePress$Step" "kind") ∈ lw_all := lw_g (lw_at lw_m5 194 rfl) rfl
theorem q1286 : (Jvm.Cond.lays "TreePress$Step" "TreePress$Step" "deep" "Z") ∈ lw_all := lw_g (lw_at lw_m5 195 rfl) rfl
theorem q1287 : (Jvm.Cond.soleField "TreePress$Step" "deep") ∈ lw_all := lw_g (lw_at lw_m5 196 rfl) rfl
theorem q1288 : (Jvm.Cond.lays "TreePress$Step" "TreePress$Step" "name" "[B") ∈ lw_all := lw_g (lw_at lw_m5 197 rfl) rfl
theorem q1289 : (Jvm.Cond.soleField "TreePress$Step" "name") ∈ lw_all := lw_g (lw_at lw_m5 198 rfl) rfl
theorem q1290 : (Jvm.Cond.laysFinal "TreePress$Step" "TreePress$Step" "tests" "Ljava/util/ArrayList;") ∈ lw_all := lw_g (lw_at lw_m5 199 rfl) rfl
theorem q1291 : (Jvm.Cond.soleField "TreePress$Step" "tests") ∈ lw_all := lw_g (lw_at lw_m5 200 rfl) rfl
theorem q1292 : (Jvm.Cond.superclass "TreePress$Step" "java/lang/Object") ∈ lw_all := lw_g (lw_at lw_m5 201 rfl) rfl
theorem q2236 : (Jvm.Cond.castable "TreePress$Step" "java/lang/Object") ∈ lw_tbl := lw_at lw_m9 185 rfl
theorem in_X16 : ∀ w ∈ wsX160, w ∈ lw_all := lw_in wsX160 [1284, 1286, 1288, 1290] (by decide +kernel) (by decide +kernel)

/-! TreePress$Test -/
def RX17 : String := "TreePress$Test"
def TX17 : u_T := fun k => match k with
  | 0 => ("TreePress$Test", "kind", "I", false)
  | 1 => ("TreePress$Test", "place", "I", false)
  | 2 => ("TreePress$Test", "side", "Z", false)
  | 3 => ("TreePress$Test", "name", "[B", false)
  | _ => ("TreePress$Test", "value", "[B", false)
def tyX17 : Nat → FieldType := fun k => match k with
  | 0 => .int
  | 1 => .int
  | 2 => .boolean
  | 3 => .array .byte
  | _ => .array .byte
abbrev wsX170 : List Cond := u_ws RX17 TX17 5
theorem nmX17 : ∀ a, a < 5 → ∀ b, b < 5 → a ≠ b → (TX17 a).2.1 ≠ (TX17 b).2.1 := by decide +kernel
theorem tyX17_ok : ∀ k, k < 5 → parseFieldDescriptor (TX17 k).2.2.1 = some (tyX17 k) := by decide +kernel
abbrev cX17_init : ByteArray := prog_18_method_1_code
def yX17_init : MethodName := ⟨RX17, "<init>", "()V"⟩
theorem q164 : (Jvm.Cond.initialized "TreePress$Test") ∈ lw_all := lw_g (lw_at lw_m1 33 rfl) rfl
theorem q392 : (Jvm.Cond.selects "TreePress$Test" ({ cls := "java/lang/Object", name := "getClass", desc := "()Ljava/lang/Class;" } : Jvm.MethodName) ({ cls := "java/lang/Object", name := "getClass", desc := "()Ljava/lang/Class;" } : Jvm.MethodName)) ∈ lw_all := lw_g (lw_at lw_m2 21 rfl) rfl
theorem q1309 : (Jvm.Cond.instantiable "TreePress$Test" (5 : Nat)) ∈ lw_all := lw_g (lw_at lw_m5 218 rfl) rfl
theorem q1311 : (Jvm.Cond.instanceMethod ({ cls := "TreePress$Test", name := "<init>", desc := "()V" } : Jvm.MethodName)) ∈ lw_all := lw_g (lw_at lw_m5 220 rfl) rfl
theorem q1312 : (Jvm.Cond.code ({ cls := "TreePress$Test", name := "<init>", desc := "()V" } : Jvm.MethodName) prog_18_method_1_code (1 : Nat) (Option.none : Option Jvm.ClassFile.FieldType)) ∈ lw_all := lw_g (lw_at lw_m5 221 rfl) rfl
theorem q1313 : (Jvm.Cond.methodLink "TreePress$Test" (1 : Nat) ({ cls := "java/lang/Object", name := "<init>", desc := "()V" } : Jvm.MethodName)) ∈ lw_all := lw_g (lw_at lw_m5 222 rfl) rfl
theorem q1324 : (Jvm.Cond.lays "TreePress$Test" "TreePress$Test" "kind" "I") ∈ lw_all := lw_g (lw_at lw_m5 233 rfl) rfl
theorem q1325 : (Jvm.Cond.soleField "TreePress$Test" "kind") ∈ lw_all := lw_g (lw_at lw_m5 234 rfl) rfl
theorem q1326 : (Jvm.Cond.lays "TreePress$Test" "TreePress$Test" "place" "I") ∈ lw_all := lw_g (lw_at lw_m5 235 rfl) rfl
theorem q1327 : (Jvm.Cond.soleField "TreePress$Test" "place") ∈ lw_all := lw_g (lw_at lw_m5 236 rfl) rfl
theorem q1328 : (Jvm.Cond.lays "TreePress$Test" "TreePress$Test" "side" "Z") ∈ lw_all := lw_g (lw_at lw_m5 237 rfl) rfl
theorem q1329 : (Jvm.Cond.soleField "TreePress$Test" "side") ∈ lw_all := lw_g (lw_at lw_m5 238 rfl) rfl
theorem q1330 : (Jvm.Cond.lays "TreePress$Test" "TreePress$Test" "name" "[B") ∈ lw_all := lw_g (lw_at lw_m5 239 rfl) rfl
theorem q1331 : (Jvm.Cond.soleField "TreePress$Test" "name") ∈ lw_all := lw_g (lw_at lw_m6 0 rfl) rfl
theorem q1332 : (Jvm.Cond.lays "TreePress$Test" "TreePress$Test" "value" "[B") ∈ lw_all := lw_g (lw_at lw_m6 1 rfl) rfl
theorem q1333 : (Jvm.Cond.soleField "TreePress$Test" "value") ∈ lw_all := lw_g (lw_at lw_m6 2 rfl) rfl
theorem q1334 : (Jvm.Cond.superclass "TreePress$Test" "java/lang/Object") ∈ lw_all := lw_g (lw_at lw_m6 3 rfl) rfl
theorem q2237 : (Jvm.Cond.castable "TreePress$Test" "java/lang/Object") ∈ lw_tbl := lw_at lw_m9 186 rfl
theorem in_X17 : ∀ w ∈ wsX170, w ∈ lw_all := lw_in wsX170 [1324, 1326, 1328, 1330, 1332] (by decide +kernel) (by decide +kernel)

/-! TreePress$Line -/
def RX18 : String := "TreePress$Line"
def TX18 : u_T := fun k => match k with
  | 0 => ("TreePress$Line", "bytes", "[B", true)
  | 1 => ("TreePress$Line", "many", "I", false)
  | 2 => ("TreePress$Line", "page", "I", false)
  | 3 => ("TreePress$Line", "row", "I", false)
  | _ => ("TreePress$Line", "of", "LTreePress$Node;", false)
def tyX18 : Nat → FieldType := fun k => match k with
  | 0 => .array .byte
  | 1 => .int
  | 2 => .int
  | 3 => .int
  | _ => .object "TreePress$Node"
abbrev wsX180 : List Cond := u_ws RX18 TX18 5
theorem nmX18 : ∀ a, a < 5 → ∀ b, b < 5 → a ≠ b → (TX18 a).2.1 ≠ (TX18 b).2.1 := by decide +kernel
theorem tyX18_ok : ∀ k, k < 5 → parseFieldDescriptor (TX18 k).2.2.1 = some (tyX18 k) := by decide +kernel
abbrev cX18_init : ByteArray := prog_7_method_1_code
def yX18_init : MethodName := ⟨RX18, "<init>", "(I)V"⟩
theorem q165 : (Jvm.Cond.initialized "TreePress$Line") ∈ lw_all := lw_g (lw_at lw_m1 34 rfl) rfl
theorem q384 : (Jvm.Cond.selects "TreePress$Line" ({ cls := "java/lang/Object", name := "getClass", desc := "()Ljava/lang/Class;" } : Jvm.MethodName) ({ cls := "java/lang/Object", name := "getClass", desc := "()Ljava/lang/Class;" } : Jvm.MethodName)) ∈ lw_all := lw_g (lw_at lw_m2 13 rfl) rfl
theorem q1406 : (Jvm.Cond.instantiable "TreePress$Line" (5 : Nat)) ∈ lw_all := lw_g (lw_at lw_m6 75 rfl) rfl
theorem q1408 : (Jvm.Cond.instanceMethod ({ cls := "TreePress$Line", name := "<init>", desc := "(I)V" } : Jvm.MethodName)) ∈ lw_all := lw_g (lw_at lw_m6 77 rfl) rfl
theorem q1409 : (Jvm.Cond.code ({ cls := "TreePress$Line", name := "<init>", desc := "(I)V" } : Jvm.MethodName) prog_7_method_1_code (2 : Nat) (Option.none : Option Jvm.ClassFile.FieldType)) ∈ lw_all := lw_g (lw_at lw_m6 78 rfl) rfl
theorem q1410 : (Jvm.Cond.methodLink "TreePress$Line" (1 : Nat) ({ cls := "java/lang/Object", name := "<init>", desc := "()V" } : Jvm.MethodName)) ∈ lw_all := lw_g (lw_at lw_m6 79 rfl) rfl
theorem q1411 : (Jvm.Cond.fieldLink "TreePress$Line" (7 : Nat) "TreePress$Line" "bytes" "[B") ∈ lw_all := lw_g (lw_at lw_m6 80 rfl) rfl
theorem q1417 : (Jvm.Cond.laysFinal "TreePress$Line" "TreePress$Line" "bytes" "[B") ∈ lw_all := lw_g (lw_at lw_m6 86 rfl) rfl
theorem q1418 : (Jvm.Cond.soleField "TreePress$Line" "bytes") ∈ lw_all := lw_g (lw_at lw_m6 87 rfl) rfl
theorem q1419 : (Jvm.Cond.lays "TreePress$Line" "TreePress$Line" "many" "I") ∈ lw_all := lw_g (lw_at lw_m6 88 rfl) rfl
theorem q1420 : (Jvm.Cond.soleField "TreePress$Line" "many") ∈ lw_all := lw_g (lw_at lw_m6 89 rfl) rfl
theorem q1421 : (Jvm.Cond.lays "TreePress$Line" "TreePress$Line" "page" "I") ∈ lw_all := lw_g (lw_at lw_m6 90 rfl) rfl
theorem q1422 : (Jvm.Cond.soleField "TreePress$Line" "page") ∈ lw_all := lw_g (lw_at lw_m6 91 rfl) rfl
theorem q1423 : (Jvm.Cond.lays "TreePress$Line" "TreePress$Line" "row" "I") ∈ lw_all := lw_g (lw_at lw_m6 92 rfl) rfl
theorem q1424 : (Jvm.Cond.soleField "TreePress$Line" "row") ∈ lw_all := lw_g (lw_at lw_m6 93 rfl) rfl
theorem q1425 : (Jvm.Cond.lays "TreePress$Line" "TreePress$Line" "of" "LTreePress$Node;") ∈ lw_all := lw_g (lw_at lw_m6 94 rfl) rfl
theorem q1426 : (Jvm.Cond.soleField "TreePress$Line" "of") ∈ lw_all := lw_g (lw_at lw_m6 95 rfl) rfl
theorem q1427 : (Jvm.Cond.superclass "TreePress$Line" "java/lang/Object") ∈ lw_all := lw_g (lw_at lw_m6 96 rfl) rfl
theorem q2238 : (Jvm.Cond.castable "TreePress$Line" "java/lang/Object") ∈ lw_tbl := lw_at lw_m9 187 rfl
theorem in_X18 : ∀ w ∈ wsX180, w ∈ lw_all := lw_in wsX180 [1417, 1419, 1421, 1423, 1425] (by decide +kernel) (by decide +kernel)

/-! TreePress$Block -/
def RX19 : String := "TreePress$Block"
def TX19 : u_T := fun k => match k with
  | 0 => ("TreePress$Block", "first", "I", true)
  | 1 => ("TreePress$Block", "last", "I", false)
  | _ => ("TreePress$Block", "keep", "Z", true)
def tyX19 : Nat → FieldType := fun k => match k with
  | 0 => .int
  | 1 => .int
  | _ => .boolean
abbrev wsX190 : List Cond := u_ws RX19 TX19 3
theorem nmX19 : ∀ a, a < 3 → ∀ b, b < 3 → a ≠ b → (TX19 a).2.1 ≠ (TX19 b).2.1 := by decide +kernel
theorem tyX19_ok : ∀ k, k < 3 → parseFieldDescriptor (TX19 k).2.2.1 = some (tyX19 k) := by decide +kernel
abbrev cX19_init : ByteArray := prog_3_method_1_code
def yX19_init : MethodName := ⟨RX19, "<init>", "(IZ)V"⟩
theorem q166 : (Jvm.Cond.initialized "TreePress$Block") ∈ lw_all := lw_g (lw_at lw_m1 35 rfl) rfl
theorem q380 : (Jvm.Cond.selects "TreePress$Block" ({ cls := "java/lang/Object", name := "getClass", desc := "()Ljava/lang/Class;" } : Jvm.MethodName) ({ cls := "java/lang/Object", name := "getClass", desc := "()Ljava/lang/Class;" } : Jvm.MethodName)) ∈ lw_all := lw_g (lw_at lw_m2 9 rfl) rfl
theorem q1440 : (Jvm.Cond.instantiable "TreePress$Block" (3 : Nat)) ∈ lw_all := lw_g (lw_at lw_m6 109 rfl) rfl
theorem q1442 : (Jvm.Cond.instanceMethod ({ cls := "TreePress$Block", name := "<init>", desc := "(IZ)V" } : Jvm.MethodName)) ∈ lw_all := lw_g (lw_at lw_m6 111 rfl) rfl
theorem q1443 : (Jvm.Cond.code ({ cls := "TreePress$Block", name := "<init>", desc := "(IZ)V" } : Jvm.MethodName) prog_3_method_1_code (3 : Nat) (Option.none : Option Jvm.ClassFile.FieldType)) ∈ lw_all := lw_g (lw_at lw_m6 112 rfl) rfl
theorem q1444 : (Jvm.Cond.methodLink "TreePress$Block" (1 : Nat) ({ cls := "java/lang/Object", name := "<init>", desc := "()V" } : Jvm.MethodName)) ∈ lw_all := lw_g (lw_at lw_m6 113 rfl) rfl
theorem q1445 : (Jvm.Cond.fieldLink "TreePress$Block" (7 : Nat) "TreePress$Block" "first" "I") ∈ lw_all := lw_g (lw_at lw_m6 114 rfl) rfl
theorem q1448 : (Jvm.Cond.fieldLink "TreePress$Block" (13 : Nat) "TreePress$Block" "keep" "Z") ∈ lw_all := lw_g (lw_at lw_m6 117 rfl) rfl
theorem q1450 : (Jvm.Cond.laysFinal "TreePress$Block" "TreePress$Block" "first" "I") ∈ lw_all := lw_g (lw_at lw_m6 119 rfl) rfl
theorem q1451 : (Jvm.Cond.soleField "TreePress$Block" "first") ∈ lw_all := lw_g (lw_at lw_m6 120 rfl) rfl
theorem q1452 : (Jvm.Cond.lays "TreePress$Block" "TreePress$Block" "last" "I") ∈ lw_all := lw_g (lw_at lw_m6 121 rfl) rfl
theorem q1453 : (Jvm.Cond.soleField "TreePress$Block" "last") ∈ lw_all := lw_g (lw_at lw_m6 122 rfl) rfl
theorem q1454 : (Jvm.Cond.laysFinal "TreePress$Block" "TreePress$Block" "keep" "Z") ∈ lw_all := lw_g (lw_at lw_m6 123 rfl) rfl
theorem q1455 : (Jvm.Cond.soleField "TreePress$Block" "keep") ∈ lw_all := lw_g (lw_at lw_m6 124 rfl) rfl
theorem q1456 : (Jvm.Cond.superclass "TreePress$Block" "java/lang/Object") ∈ lw_all := lw_g (lw_at lw_m6 125 rfl) rfl
theorem q2239 : (Jvm.Cond.castable "TreePress$Block" "java/lang/Object") ∈ lw_tbl := lw_at lw_m9 188 rfl
theorem in_X19 : ∀ w ∈ wsX190, w ∈ lw_all := lw_in wsX190 [1450, 1452, 1454] (by decide +kernel) (by decide +kernel)

theorem q2245 : (Jvm.Cond.castable "[LTreePress$Node;" "java/lang/Object") ∈ lw_tbl := lw_at lw_m9 194 rfl

theorem q2247 : (Jvm.Cond.castable "[Z" "java/lang/Object") ∈ lw_tbl := lw_at lw_m9 196 rfl

theorem q176 : (Jvm.Cond.arrayOver (Jvm.ClassFile.FieldType.object "TreePress$Node")) ∈ lw_tbl := lw_at lw_m1 45 rfl
theorem q203 : (Jvm.Cond.arrayClass Jvm.ClassFile.FieldType.byte) ∈ lw_all := lw_g (lw_at lw_m1 72 rfl) rfl
theorem q204 : (Jvm.Cond.arrayClass Jvm.ClassFile.FieldType.boolean) ∈ lw_all := lw_g (lw_at lw_m1 73 rfl) rfl
theorem q305 : (Jvm.Cond.arrayOver (Jvm.ClassFile.FieldType.object "java/lang/Object")) ∈ lw_tbl := lw_at lw_m1 174 rfl
theorem q733 : (Jvm.Cond.arrayClass Jvm.ClassFile.FieldType.long) ∈ lw_all := lw_g (lw_at lw_m3 122 rfl) rfl
theorem q842 : (Jvm.Cond.arrayClass Jvm.ClassFile.FieldType.int) ∈ lw_all := lw_g (lw_at lw_m3 231 rfl) rfl

theorem q139 : (Jvm.Cond.initialized "java/lang/System") ∈ lw_all := lw_g (lw_at lw_m1 8 rfl) rfl
theorem q283 : (Jvm.Cond.static ({ cls := "java/lang/System", name := "arraycopy", desc := "(Ljava/lang/Object;ILjava/lang/Object;II)V" } : Jvm.MethodName)) ∈ lw_all := lw_g (lw_at lw_m1 152 rfl) rfl
theorem q284 : (Jvm.Cond.native ({ cls := "java/lang/System", name := "arraycopy", desc := "(Ljava/lang/Object;ILjava/lang/Object;II)V" } : Jvm.MethodName)) ∈ lw_all := lw_g (lw_at lw_m1 153 rfl) rfl

theorem q2242 : (Jvm.Cond.sameMethod "[Ljava/lang/Object;" "java/lang/Object" "getClass" "()Ljava/lang/Class;") ∈ lw_all := lw_g (lw_at lw_m9 191 rfl) rfl
theorem q2243 : (Jvm.Cond.selects "[Ljava/lang/Object;" ({ cls := "java/lang/Object", name := "getClass", desc := "()Ljava/lang/Class;" } : Jvm.MethodName) ({ cls := "java/lang/Object", name := "getClass", desc := "()Ljava/lang/Class;" } : Jvm.MethodName)) ∈ lw_all := lw_g (lw_at lw_m9 192 rfl) rfl
theorem q2248 : (Jvm.Cond.castable "[Ljava/lang/Object;" "java/lang/Object") ∈ lw_tbl := lw_at lw_m9 197 rfl

theorem q2246 : (Jvm.Cond.castable "[B" "java/lang/Object") ∈ lw_tbl := lw_at lw_m9 195 rfl

theorem q2250 : (Jvm.Cond.castable "[I" "java/lang/Object") ∈ lw_tbl := lw_at lw_m9 199 rfl

theorem q2249 : (Jvm.Cond.castable "[J" "java/lang/Object") ∈ lw_tbl := lw_at lw_m9 198 rfl

