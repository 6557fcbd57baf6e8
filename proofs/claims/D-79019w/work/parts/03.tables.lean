/-! class tables, the tables' words by their places (out of the kit's names files), and our lists over them -/
set_option maxRecDepth 100000
def RJ0 : String := "java/util/AbstractCollection"
abbrev cJ0_init : ByteArray := prog_44_method_1_code
def yJ0_init : MethodName := ⟨RJ0, "<init>", "()V"⟩
theorem q97 : (Jvm.Cond.initialized "java/util/AbstractCollection") ∈ lw_all := lw_g (lw_at lw_m1 7 rfl) rfl
theorem q202 : (Jvm.Cond.instanceMethod ({ cls := "java/util/AbstractCollection", name := "<init>", desc := "()V" } : Jvm.MethodName)) ∈ lw_all := lw_g (lw_at lw_m1 112 rfl) rfl
theorem q203 : (Jvm.Cond.code ({ cls := "java/util/AbstractCollection", name := "<init>", desc := "()V" } : Jvm.MethodName) prog_44_method_1_code (1 : Nat) (Option.none : Option Jvm.ClassFile.FieldType)) ∈ lw_all := lw_g (lw_at lw_m1 113 rfl) rfl
theorem q204 : (Jvm.Cond.methodLink "java/util/AbstractCollection" (1 : Nat) ({ cls := "java/lang/Object", name := "<init>", desc := "()V" } : Jvm.MethodName)) ∈ lw_all := lw_g (lw_at lw_m1 114 rfl) rfl
def RJ1 : String := "java/util/AbstractList"
abbrev cJ1_init : ByteArray := prog_45_method_1_code
def yJ1_init : MethodName := ⟨RJ1, "<init>", "()V"⟩
theorem q98 : (Jvm.Cond.initialized "java/util/AbstractList") ∈ lw_all := lw_g (lw_at lw_m1 8 rfl) rfl
theorem q199 : (Jvm.Cond.instanceMethod ({ cls := "java/util/AbstractList", name := "<init>", desc := "()V" } : Jvm.MethodName)) ∈ lw_all := lw_g (lw_at lw_m1 109 rfl) rfl
theorem q200 : (Jvm.Cond.code ({ cls := "java/util/AbstractList", name := "<init>", desc := "()V" } : Jvm.MethodName) prog_45_method_1_code (1 : Nat) (Option.none : Option Jvm.ClassFile.FieldType)) ∈ lw_all := lw_g (lw_at lw_m1 110 rfl) rfl
theorem q201 : (Jvm.Cond.methodLink "java/util/AbstractList" (1 : Nat) ({ cls := "java/util/AbstractCollection", name := "<init>", desc := "()V" } : Jvm.MethodName)) ∈ lw_all := lw_g (lw_at lw_m1 111 rfl) rfl
theorem q209 : (Jvm.Cond.fieldLink "java/util/AbstractList" (7 : Nat) "java/util/AbstractList" "modCount" "I") ∈ lw_all := lw_g (lw_at lw_m1 119 rfl) rfl
theorem q217 : (Jvm.Cond.soleField "java/util/AbstractList" "modCount") ∈ lw_all := lw_g (lw_at lw_m1 127 rfl) rfl
def RJ10 : String := "java/lang/Float"
abbrev cJ10_floatToIntBits : ByteArray := prog_39_method_24_code
def yJ10_floatToIntBits : MethodName := ⟨RJ10, "floatToIntBits", "(F)I"⟩
abbrev cJ10_isNaN : ByteArray := prog_39_method_6_code
def yJ10_isNaN : MethodName := ⟨RJ10, "isNaN", "(F)Z"⟩
theorem q132 : (Jvm.Cond.initialized "java/lang/Float") ∈ lw_all := lw_g (lw_at lw_m1 42 rfl) rfl
theorem q1522 : (Jvm.Cond.static ({ cls := "java/lang/Float", name := "floatToIntBits", desc := "(F)I" } : Jvm.MethodName)) ∈ lw_all := lw_g (lw_at lw_m6 232 rfl) rfl
theorem q1523 : (Jvm.Cond.code ({ cls := "java/lang/Float", name := "floatToIntBits", desc := "(F)I" } : Jvm.MethodName) prog_39_method_24_code (1 : Nat) (Option.some Jvm.ClassFile.FieldType.int)) ∈ lw_all := lw_g (lw_at lw_m6 233 rfl) rfl
theorem q1524 : (Jvm.Cond.methodLink "java/lang/Float" (59 : Nat) ({ cls := "java/lang/Float", name := "isNaN", desc := "(F)Z" } : Jvm.MethodName)) ∈ lw_all := lw_g (lw_at lw_m6 234 rfl) rfl
theorem q1525 : (Jvm.Cond.static ({ cls := "java/lang/Float", name := "isNaN", desc := "(F)Z" } : Jvm.MethodName)) ∈ lw_all := lw_g (lw_at lw_m6 235 rfl) rfl
theorem q1526 : (Jvm.Cond.code ({ cls := "java/lang/Float", name := "isNaN", desc := "(F)Z" } : Jvm.MethodName) prog_39_method_6_code (1 : Nat) (Option.some Jvm.ClassFile.FieldType.boolean)) ∈ lw_all := lw_g (lw_at lw_m6 236 rfl) rfl
theorem q1527 : (Jvm.Cond.methodLink "java/lang/Float" (74 : Nat) ({ cls := "java/lang/Float", name := "floatToRawIntBits", desc := "(F)I" } : Jvm.MethodName)) ∈ lw_all := lw_g (lw_at lw_m6 237 rfl) rfl
theorem q1528 : (Jvm.Cond.static ({ cls := "java/lang/Float", name := "floatToRawIntBits", desc := "(F)I" } : Jvm.MethodName)) ∈ lw_all := lw_g (lw_at lw_m6 238 rfl) rfl
theorem q1529 : (Jvm.Cond.native ({ cls := "java/lang/Float", name := "floatToRawIntBits", desc := "(F)I" } : Jvm.MethodName)) ∈ lw_all := lw_g (lw_at lw_m6 239 rfl) rfl
theorem q1530 : (Jvm.Cond.constant "java/lang/Float" (77 : Nat) (2143289344 : Int32)) ∈ lw_all := lw_g (lw_at lw_m7 0 rfl) rfl
def RJ11 : String := "java/lang/Object"
abbrev cJ11_init : ByteArray := object_method_1_code
def yJ11_init : MethodName := ⟨RJ11, "<init>", "()V"⟩
theorem q164 : (Jvm.Cond.instanceMethod ({ cls := "java/lang/Object", name := "<init>", desc := "()V" } : Jvm.MethodName)) ∈ lw_all := lw_g (lw_at lw_m1 74 rfl) rfl
theorem q165 : (Jvm.Cond.code ({ cls := "java/lang/Object", name := "<init>", desc := "()V" } : Jvm.MethodName) object_method_1_code (1 : Nat) (Option.none : Option Jvm.ClassFile.FieldType)) ∈ lw_all := lw_g (lw_at lw_m1 75 rfl) rfl
theorem q511 : (Jvm.Cond.instanceMethod ({ cls := "java/lang/Object", name := "getClass", desc := "()Ljava/lang/Class;" } : Jvm.MethodName)) ∈ lw_all := lw_g (lw_at lw_m2 181 rfl) rfl
theorem q512 : (Jvm.Cond.sameMethod "java/lang/Object" "java/lang/Object" "getClass" "()Ljava/lang/Class;") ∈ lw_all := lw_g (lw_at lw_m2 182 rfl) rfl
theorem q544 : (Jvm.Cond.native ({ cls := "java/lang/Object", name := "getClass", desc := "()Ljava/lang/Class;" } : Jvm.MethodName)) ∈ lw_all := lw_g (lw_at lw_m2 214 rfl) rfl
theorem q1440 : (Jvm.Cond.native ({ cls := "java/lang/Object", name := "clone", desc := "()Ljava/lang/Object;" } : Jvm.MethodName)) ∈ lw_all := lw_g (lw_at lw_m6 150 rfl) rfl
theorem q1441 : (Jvm.Cond.instanceMethod ({ cls := "java/lang/Object", name := "clone", desc := "()Ljava/lang/Object;" } : Jvm.MethodName)) ∈ lw_all := lw_g (lw_at lw_m6 151 rfl) rfl
theorem q1995 : (Jvm.Cond.initialized "java/lang/Object") ∈ lw_all := lw_g (lw_at lw_m8 225 rfl) rfl
theorem q2047 : (Jvm.Cond.declares ({ cls := "java/lang/Object", name := "getClass", desc := "()Ljava/lang/Class;" } : Jvm.MethodName)) ∈ lw_tbl := lw_at lw_m9 37 rfl
def RJ2 : String := "java/util/ArrayList"
def TJ2 : u_T := fun k => match k with
  | 0 => ("java/util/AbstractList", "modCount", "I", false)
  | 1 => ("java/util/ArrayList", "elementData", "[Ljava/lang/Object;", false)
  | _ => ("java/util/ArrayList", "size", "I", false)
def tyJ2 : Nat → FieldType := fun k => match k with
  | 0 => .int
  | 1 => .array (.object "java/lang/Object")
  | _ => .int
abbrev wsJ20 : List Cond := u_ws RJ2 TJ2 3
theorem nmJ2 : ∀ a, a < 3 → ∀ b, b < 3 → a ≠ b → (TJ2 a).2.1 ≠ (TJ2 b).2.1 := by decide +kernel
theorem tyJ2_ok : ∀ k, k < 3 → parseFieldDescriptor (TJ2 k).2.2.1 = some (tyJ2 k) := by decide +kernel
abbrev cJ2_init : ByteArray := prog_46_method_2_code
def yJ2_init : MethodName := ⟨RJ2, "<init>", "()V"⟩
abbrev cJ2_add : ByteArray := prog_46_method_25_code
def yJ2_add : MethodName := ⟨RJ2, "add", "(Ljava/lang/Object;)Z"⟩
abbrev cJ2_add_2 : ByteArray := prog_46_method_24_code
def yJ2_add_2 : MethodName := ⟨RJ2, "add", "(Ljava/lang/Object;[Ljava/lang/Object;I)V"⟩
abbrev cJ2_grow : ByteArray := prog_46_method_7_code
def yJ2_grow : MethodName := ⟨RJ2, "grow", "()[Ljava/lang/Object;"⟩
abbrev cJ2_grow_2 : ByteArray := prog_46_method_6_code
def yJ2_grow_2 : MethodName := ⟨RJ2, "grow", "(I)[Ljava/lang/Object;"⟩
abbrev cJ2_size : ByteArray := prog_46_method_8_code
def yJ2_size : MethodName := ⟨RJ2, "size", "()I"⟩
abbrev cJ2_get : ByteArray := prog_46_method_20_code
def yJ2_get : MethodName := ⟨RJ2, "get", "(I)Ljava/lang/Object;"⟩
abbrev cJ2_elementData : ByteArray := prog_46_method_18_code
def yJ2_elementData : MethodName := ⟨RJ2, "elementData", "(I)Ljava/lang/Object;"⟩
theorem q99 : (Jvm.Cond.initialized "java/util/ArrayList") ∈ lw_all := lw_g (lw_at lw_m1 9 rfl) rfl
theorem q194 : (Jvm.Cond.instantiable "java/util/ArrayList" (3 : Nat)) ∈ lw_all := lw_g (lw_at lw_m1 104 rfl) rfl
theorem q196 : (Jvm.Cond.instanceMethod ({ cls := "java/util/ArrayList", name := "<init>", desc := "()V" } : Jvm.MethodName)) ∈ lw_all := lw_g (lw_at lw_m1 106 rfl) rfl
theorem q197 : (Jvm.Cond.code ({ cls := "java/util/ArrayList", name := "<init>", desc := "()V" } : Jvm.MethodName) prog_46_method_2_code (1 : Nat) (Option.none : Option Jvm.ClassFile.FieldType)) ∈ lw_all := lw_g (lw_at lw_m1 107 rfl) rfl
theorem q198 : (Jvm.Cond.methodLink "java/util/ArrayList" (1 : Nat) ({ cls := "java/util/AbstractList", name := "<init>", desc := "()V" } : Jvm.MethodName)) ∈ lw_all := lw_g (lw_at lw_m1 108 rfl) rfl
theorem q205 : (Jvm.Cond.fieldLink "java/util/ArrayList" (39 : Nat) "java/util/ArrayList" "DEFAULTCAPACITY_EMPTY_ELEMENTDATA" "[Ljava/lang/Object;") ∈ lw_all := lw_g (lw_at lw_m1 115 rfl) rfl
theorem q206 : (Jvm.Cond.laysStatic "java/util/ArrayList" "DEFAULTCAPACITY_EMPTY_ELEMENTDATA" "[Ljava/lang/Object;") ∈ lw_tbl := lw_at lw_m1 116 rfl
theorem q207 : (Jvm.Cond.fieldLink "java/util/ArrayList" (9 : Nat) "java/util/ArrayList" "elementData" "[Ljava/lang/Object;") ∈ lw_all := lw_g (lw_at lw_m1 117 rfl) rfl
theorem q208 : (Jvm.Cond.fieldLink "java/util/ArrayList" (48 : Nat) "java/util/ArrayList" "size" "I") ∈ lw_all := lw_g (lw_at lw_m1 118 rfl) rfl
theorem q210 : (Jvm.Cond.fieldLink "java/util/ArrayList" (63 : Nat) "java/util/ArrayList" "modCount" "I") ∈ lw_all := lw_g (lw_at lw_m1 120 rfl) rfl
theorem q211 : (Jvm.Cond.sameField "java/util/ArrayList" "java/util/AbstractList" "modCount" "I") ∈ lw_all := lw_g (lw_at lw_m1 121 rfl) rfl
theorem q212 : (Jvm.Cond.lays "java/util/ArrayList" "java/util/ArrayList" "elementData" "[Ljava/lang/Object;") ∈ lw_all := lw_g (lw_at lw_m1 122 rfl) rfl
theorem q213 : (Jvm.Cond.soleField "java/util/ArrayList" "elementData") ∈ lw_all := lw_g (lw_at lw_m1 123 rfl) rfl
theorem q214 : (Jvm.Cond.lays "java/util/ArrayList" "java/util/ArrayList" "size" "I") ∈ lw_all := lw_g (lw_at lw_m1 124 rfl) rfl
theorem q215 : (Jvm.Cond.soleField "java/util/ArrayList" "size") ∈ lw_all := lw_g (lw_at lw_m1 125 rfl) rfl
theorem q216 : (Jvm.Cond.lays "java/util/ArrayList" "java/util/AbstractList" "modCount" "I") ∈ lw_all := lw_g (lw_at lw_m1 126 rfl) rfl
theorem q218 : (Jvm.Cond.superclass "java/util/ArrayList" "java/util/AbstractList") ∈ lw_all := lw_g (lw_at lw_m1 128 rfl) rfl
theorem q482 : (Jvm.Cond.instanceMethod ({ cls := "java/util/ArrayList", name := "add", desc := "(Ljava/lang/Object;)Z" } : Jvm.MethodName)) ∈ lw_all := lw_g (lw_at lw_m2 152 rfl) rfl
theorem q483 : (Jvm.Cond.selects "java/util/ArrayList" ({ cls := "java/util/ArrayList", name := "add", desc := "(Ljava/lang/Object;)Z" } : Jvm.MethodName) ({ cls := "java/util/ArrayList", name := "add", desc := "(Ljava/lang/Object;)Z" } : Jvm.MethodName)) ∈ lw_all := lw_g (lw_at lw_m2 153 rfl) rfl
theorem q484 : (Jvm.Cond.code ({ cls := "java/util/ArrayList", name := "add", desc := "(Ljava/lang/Object;)Z" } : Jvm.MethodName) prog_46_method_25_code (2 : Nat) (Option.some Jvm.ClassFile.FieldType.boolean)) ∈ lw_all := lw_g (lw_at lw_m2 154 rfl) rfl
theorem q485 : (Jvm.Cond.methodLink "java/util/ArrayList" (131 : Nat) ({ cls := "java/util/ArrayList", name := "add", desc := "(Ljava/lang/Object;[Ljava/lang/Object;I)V" } : Jvm.MethodName)) ∈ lw_all := lw_g (lw_at lw_m2 155 rfl) rfl
theorem q486 : (Jvm.Cond.privateMethod ({ cls := "java/util/ArrayList", name := "add", desc := "(Ljava/lang/Object;[Ljava/lang/Object;I)V" } : Jvm.MethodName)) ∈ lw_tbl := lw_at lw_m2 156 rfl
theorem q487 : (Jvm.Cond.instanceMethod ({ cls := "java/util/ArrayList", name := "add", desc := "(Ljava/lang/Object;[Ljava/lang/Object;I)V" } : Jvm.MethodName)) ∈ lw_all := lw_g (lw_at lw_m2 157 rfl) rfl
theorem q488 : (Jvm.Cond.code ({ cls := "java/util/ArrayList", name := "add", desc := "(Ljava/lang/Object;[Ljava/lang/Object;I)V" } : Jvm.MethodName) prog_46_method_24_code (4 : Nat) (Option.none : Option Jvm.ClassFile.FieldType)) ∈ lw_all := lw_g (lw_at lw_m2 158 rfl) rfl
theorem q489 : (Jvm.Cond.methodLink "java/util/ArrayList" (129 : Nat) ({ cls := "java/util/ArrayList", name := "grow", desc := "()[Ljava/lang/Object;" } : Jvm.MethodName)) ∈ lw_all := lw_g (lw_at lw_m2 159 rfl) rfl
theorem q490 : (Jvm.Cond.privateMethod ({ cls := "java/util/ArrayList", name := "grow", desc := "()[Ljava/lang/Object;" } : Jvm.MethodName)) ∈ lw_tbl := lw_at lw_m2 160 rfl
theorem q491 : (Jvm.Cond.instanceMethod ({ cls := "java/util/ArrayList", name := "grow", desc := "()[Ljava/lang/Object;" } : Jvm.MethodName)) ∈ lw_all := lw_g (lw_at lw_m2 161 rfl) rfl
theorem q492 : (Jvm.Cond.code ({ cls := "java/util/ArrayList", name := "grow", desc := "()[Ljava/lang/Object;" } : Jvm.MethodName) prog_46_method_7_code (1 : Nat) (Option.some (Jvm.ClassFile.FieldType.array (Jvm.ClassFile.FieldType.object "java/lang/Object")))) ∈ lw_all := lw_g (lw_at lw_m2 162 rfl) rfl
theorem q493 : (Jvm.Cond.methodLink "java/util/ArrayList" (69 : Nat) ({ cls := "java/util/ArrayList", name := "grow", desc := "(I)[Ljava/lang/Object;" } : Jvm.MethodName)) ∈ lw_all := lw_g (lw_at lw_m2 163 rfl) rfl
theorem q494 : (Jvm.Cond.privateMethod ({ cls := "java/util/ArrayList", name := "grow", desc := "(I)[Ljava/lang/Object;" } : Jvm.MethodName)) ∈ lw_tbl := lw_at lw_m2 164 rfl
theorem q495 : (Jvm.Cond.instanceMethod ({ cls := "java/util/ArrayList", name := "grow", desc := "(I)[Ljava/lang/Object;" } : Jvm.MethodName)) ∈ lw_all := lw_g (lw_at lw_m2 165 rfl) rfl
theorem q496 : (Jvm.Cond.code ({ cls := "java/util/ArrayList", name := "grow", desc := "(I)[Ljava/lang/Object;" } : Jvm.MethodName) prog_46_method_6_code (4 : Nat) (Option.some (Jvm.ClassFile.FieldType.array (Jvm.ClassFile.FieldType.object "java/lang/Object")))) ∈ lw_all := lw_g (lw_at lw_m2 166 rfl) rfl
theorem q497 : (Jvm.Cond.methodLink "java/util/ArrayList" (73 : Nat) ({ cls := "jdk/internal/util/ArraysSupport", name := "newLength", desc := "(III)I" } : Jvm.MethodName)) ∈ lw_all := lw_g (lw_at lw_m2 167 rfl) rfl
theorem q507 : (Jvm.Cond.methodLink "java/util/ArrayList" (66 : Nat) ({ cls := "java/util/Arrays", name := "copyOf", desc := "([Ljava/lang/Object;I)[Ljava/lang/Object;" } : Jvm.MethodName)) ∈ lw_all := lw_g (lw_at lw_m2 177 rfl) rfl
theorem q543 : (Jvm.Cond.selects "java/util/ArrayList" ({ cls := "java/lang/Object", name := "getClass", desc := "()Ljava/lang/Class;" } : Jvm.MethodName) ({ cls := "java/lang/Object", name := "getClass", desc := "()Ljava/lang/Class;" } : Jvm.MethodName)) ∈ lw_all := lw_g (lw_at lw_m2 213 rfl) rfl
theorem q557 : (Jvm.Cond.methodLink "java/util/ArrayList" (79 : Nat) ({ cls := "java/lang/Math", name := "max", desc := "(II)I" } : Jvm.MethodName)) ∈ lw_all := lw_g (lw_at lw_m2 227 rfl) rfl
theorem q558 : (Jvm.Cond.classLink "java/util/ArrayList" (7 : Nat) "java/lang/Object") ∈ lw_all := lw_g (lw_at lw_m2 228 rfl) rfl
theorem q560 : (Jvm.Cond.instanceMethod ({ cls := "java/util/ArrayList", name := "size", desc := "()I" } : Jvm.MethodName)) ∈ lw_all := lw_g (lw_at lw_m2 230 rfl) rfl
theorem q561 : (Jvm.Cond.selects "java/util/ArrayList" ({ cls := "java/util/ArrayList", name := "size", desc := "()I" } : Jvm.MethodName) ({ cls := "java/util/ArrayList", name := "size", desc := "()I" } : Jvm.MethodName)) ∈ lw_all := lw_g (lw_at lw_m2 231 rfl) rfl
theorem q562 : (Jvm.Cond.code ({ cls := "java/util/ArrayList", name := "size", desc := "()I" } : Jvm.MethodName) prog_46_method_8_code (1 : Nat) (Option.some Jvm.ClassFile.FieldType.int)) ∈ lw_all := lw_g (lw_at lw_m2 232 rfl) rfl
theorem q637 : (Jvm.Cond.instanceMethod ({ cls := "java/util/ArrayList", name := "get", desc := "(I)Ljava/lang/Object;" } : Jvm.MethodName)) ∈ lw_all := lw_g (lw_at lw_m3 67 rfl) rfl
theorem q638 : (Jvm.Cond.selects "java/util/ArrayList" ({ cls := "java/util/ArrayList", name := "get", desc := "(I)Ljava/lang/Object;" } : Jvm.MethodName) ({ cls := "java/util/ArrayList", name := "get", desc := "(I)Ljava/lang/Object;" } : Jvm.MethodName)) ∈ lw_all := lw_g (lw_at lw_m3 68 rfl) rfl
theorem q639 : (Jvm.Cond.code ({ cls := "java/util/ArrayList", name := "get", desc := "(I)Ljava/lang/Object;" } : Jvm.MethodName) prog_46_method_20_code (2 : Nat) (Option.some (Jvm.ClassFile.FieldType.object "java/lang/Object"))) ∈ lw_all := lw_g (lw_at lw_m3 69 rfl) rfl
theorem q640 : (Jvm.Cond.methodLink "java/util/ArrayList" (118 : Nat) ({ cls := "java/util/Objects", name := "checkIndex", desc := "(II)I" } : Jvm.MethodName)) ∈ lw_all := lw_g (lw_at lw_m3 70 rfl) rfl
theorem q646 : (Jvm.Cond.methodLink "java/util/ArrayList" (123 : Nat) ({ cls := "java/util/ArrayList", name := "elementData", desc := "(I)Ljava/lang/Object;" } : Jvm.MethodName)) ∈ lw_all := lw_g (lw_at lw_m3 76 rfl) rfl
theorem q647 : (Jvm.Cond.instanceMethod ({ cls := "java/util/ArrayList", name := "elementData", desc := "(I)Ljava/lang/Object;" } : Jvm.MethodName)) ∈ lw_all := lw_g (lw_at lw_m3 77 rfl) rfl
theorem q648 : (Jvm.Cond.selects "java/util/ArrayList" ({ cls := "java/util/ArrayList", name := "elementData", desc := "(I)Ljava/lang/Object;" } : Jvm.MethodName) ({ cls := "java/util/ArrayList", name := "elementData", desc := "(I)Ljava/lang/Object;" } : Jvm.MethodName)) ∈ lw_all := lw_g (lw_at lw_m3 78 rfl) rfl
theorem q649 : (Jvm.Cond.code ({ cls := "java/util/ArrayList", name := "elementData", desc := "(I)Ljava/lang/Object;" } : Jvm.MethodName) prog_46_method_18_code (2 : Nat) (Option.some (Jvm.ClassFile.FieldType.object "java/lang/Object"))) ∈ lw_all := lw_g (lw_at lw_m3 79 rfl) rfl
theorem q2011 : (Jvm.Cond.castable "java/util/ArrayList" "java/lang/Object") ∈ lw_tbl := lw_at lw_m9 1 rfl
theorem in_J2 : ∀ w ∈ wsJ20, w ∈ lw_all := lw_in wsJ20 [216, 212, 214] (by decide +kernel) (by decide +kernel)
def RJ3 : String := "java/lang/Throwable"
def TJ3 : u_T := fun k => match k with
  | 0 => ("java/lang/Throwable", "cause", "Ljava/lang/Throwable;", false)
  | 1 => ("java/lang/Throwable", "stackTrace", "[Ljava/lang/StackTraceElement;", false)
  | 2 => ("java/lang/Throwable", "suppressedExceptions", "Ljava/util/List;", false)
  | 3 => ("java/lang/Throwable", "detailMessage", "Ljava/lang/String;", false)
  | _ => ("java/lang/Throwable", "backtrace", "Ljava/lang/Object;", false)
def tyJ3 : Nat → FieldType := fun k => match k with
  | 0 => .object "java/lang/Throwable"
  | 1 => .array (.object "java/lang/StackTraceElement")
  | 2 => .object "java/util/List"
  | 3 => .object "java/lang/String"
  | _ => .object "java/lang/Object"
abbrev wsJ30 : List Cond := u_ws RJ3 TJ3 5
theorem nmJ3 : ∀ a, a < 5 → ∀ b, b < 5 → a ≠ b → (TJ3 a).2.1 ≠ (TJ3 b).2.1 := by decide +kernel
theorem tyJ3_ok : ∀ k, k < 5 → parseFieldDescriptor (TJ3 k).2.2.1 = some (tyJ3 k) := by decide +kernel
abbrev cJ3_init : ByteArray := prog_43_method_1_code
def yJ3_init : MethodName := ⟨RJ3, "<init>", "()V"⟩
abbrev cJ3_init_2 : ByteArray := prog_43_method_5_code
def yJ3_init_2 : MethodName := ⟨RJ3, "<init>", "(Ljava/lang/String;Ljava/lang/Throwable;ZZ)V"⟩
theorem q100 : (Jvm.Cond.initialized "java/lang/Throwable") ∈ lw_all := lw_g (lw_at lw_m1 10 rfl) rfl
theorem q246 : (Jvm.Cond.declares ({ cls := "java/lang/Throwable", name := "<init>", desc := "()V" } : Jvm.MethodName)) ∈ lw_tbl := lw_at lw_m1 156 rfl
theorem q247 : (Jvm.Cond.declares ({ cls := "java/lang/Throwable", name := "<init>", desc := "(Ljava/lang/String;)V" } : Jvm.MethodName)) ∈ lw_tbl := lw_at lw_m1 157 rfl
theorem q251 : (Jvm.Cond.lays "java/lang/Throwable" "java/lang/Throwable" "cause" "Ljava/lang/Throwable;") ∈ lw_all := lw_g (lw_at lw_m1 161 rfl) rfl
theorem q253 : (Jvm.Cond.lays "java/lang/Throwable" "java/lang/Throwable" "stackTrace" "[Ljava/lang/StackTraceElement;") ∈ lw_all := lw_g (lw_at lw_m1 163 rfl) rfl
theorem q255 : (Jvm.Cond.lays "java/lang/Throwable" "java/lang/Throwable" "suppressedExceptions" "Ljava/util/List;") ∈ lw_all := lw_g (lw_at lw_m1 165 rfl) rfl
theorem q257 : (Jvm.Cond.lays "java/lang/Throwable" "java/lang/Throwable" "detailMessage" "Ljava/lang/String;") ∈ lw_all := lw_g (lw_at lw_m1 167 rfl) rfl
theorem q259 : (Jvm.Cond.lays "java/lang/Throwable" "java/lang/Throwable" "backtrace" "Ljava/lang/Object;") ∈ lw_all := lw_g (lw_at lw_m1 169 rfl) rfl
theorem q260 : (Jvm.Cond.fieldLink "java/lang/Throwable" (198 : Nat) "java/lang/Throwable" "backtrace" "Ljava/lang/Object;") ∈ lw_all := lw_g (lw_at lw_m1 170 rfl) rfl
theorem q261 : (Jvm.Cond.superclass "java/lang/Throwable" "java/lang/Object") ∈ lw_all := lw_g (lw_at lw_m1 171 rfl) rfl
theorem q262 : (Jvm.Cond.instanceMethod ({ cls := "java/lang/Throwable", name := "<init>", desc := "()V" } : Jvm.MethodName)) ∈ lw_all := lw_g (lw_at lw_m1 172 rfl) rfl
theorem q263 : (Jvm.Cond.code ({ cls := "java/lang/Throwable", name := "<init>", desc := "()V" } : Jvm.MethodName) prog_43_method_1_code (1 : Nat) (Option.none : Option Jvm.ClassFile.FieldType)) ∈ lw_all := lw_g (lw_at lw_m1 173 rfl) rfl
theorem q264 : (Jvm.Cond.methodLink "java/lang/Throwable" (1 : Nat) ({ cls := "java/lang/Object", name := "<init>", desc := "()V" } : Jvm.MethodName)) ∈ lw_all := lw_g (lw_at lw_m1 174 rfl) rfl
theorem q265 : (Jvm.Cond.fieldLink "java/lang/Throwable" (13 : Nat) "java/lang/Throwable" "UNASSIGNED_STACK" "[Ljava/lang/StackTraceElement;") ∈ lw_all := lw_g (lw_at lw_m1 175 rfl) rfl
theorem q266 : (Jvm.Cond.laysStatic "java/lang/Throwable" "UNASSIGNED_STACK" "[Ljava/lang/StackTraceElement;") ∈ lw_tbl := lw_at lw_m1 176 rfl
theorem q267 : (Jvm.Cond.fieldLink "java/lang/Throwable" (20 : Nat) "java/lang/Throwable" "SUPPRESSED_SENTINEL" "Ljava/util/List;") ∈ lw_all := lw_g (lw_at lw_m1 177 rfl) rfl
theorem q268 : (Jvm.Cond.laysStatic "java/lang/Throwable" "SUPPRESSED_SENTINEL" "Ljava/util/List;") ∈ lw_tbl := lw_at lw_m1 178 rfl
theorem q269 : (Jvm.Cond.methodLink "java/lang/Throwable" (27 : Nat) ({ cls := "java/lang/Throwable", name := "fillInStackTrace", desc := "()Ljava/lang/Throwable;" } : Jvm.MethodName)) ∈ lw_all := lw_g (lw_at lw_m1 179 rfl) rfl
theorem q270 : (Jvm.Cond.instanceMethod ({ cls := "java/lang/Throwable", name := "fillInStackTrace", desc := "()Ljava/lang/Throwable;" } : Jvm.MethodName)) ∈ lw_all := lw_g (lw_at lw_m1 180 rfl) rfl
theorem q271 : (Jvm.Cond.sameMethod "java/lang/Throwable" "java/lang/Throwable" "fillInStackTrace" "()Ljava/lang/Throwable;") ∈ lw_all := lw_g (lw_at lw_m1 181 rfl) rfl
theorem q274 : (Jvm.Cond.codeSync ({ cls := "java/lang/Throwable", name := "fillInStackTrace", desc := "()Ljava/lang/Throwable;" } : Jvm.MethodName) prog_43_method_18_code (1 : Nat) (Option.some (Jvm.ClassFile.FieldType.object "java/lang/Throwable"))) ∈ lw_all := lw_g (lw_at lw_m1 184 rfl) rfl
theorem q275 : (Jvm.Cond.methodLink "java/lang/Throwable" (202 : Nat) ({ cls := "java/lang/Throwable", name := "fillInStackTrace", desc := "(I)Ljava/lang/Throwable;" } : Jvm.MethodName)) ∈ lw_all := lw_g (lw_at lw_m1 185 rfl) rfl
theorem q276 : (Jvm.Cond.privateMethod ({ cls := "java/lang/Throwable", name := "fillInStackTrace", desc := "(I)Ljava/lang/Throwable;" } : Jvm.MethodName)) ∈ lw_tbl := lw_at lw_m1 186 rfl
theorem q277 : (Jvm.Cond.instanceMethod ({ cls := "java/lang/Throwable", name := "fillInStackTrace", desc := "(I)Ljava/lang/Throwable;" } : Jvm.MethodName)) ∈ lw_all := lw_g (lw_at lw_m1 187 rfl) rfl
theorem q278 : (Jvm.Cond.instantiable "java/lang/Throwable" (6 : Nat)) ∈ lw_all := lw_g (lw_at lw_m1 188 rfl) rfl
theorem q279 : (Jvm.Cond.native ({ cls := "java/lang/Throwable", name := "fillInStackTrace", desc := "(I)Ljava/lang/Throwable;" } : Jvm.MethodName)) ∈ lw_all := lw_g (lw_at lw_m1 189 rfl) rfl
theorem q287 : (Jvm.Cond.instanceMethod ({ cls := "java/lang/Throwable", name := "<init>", desc := "(Ljava/lang/String;Ljava/lang/Throwable;ZZ)V" } : Jvm.MethodName)) ∈ lw_all := lw_g (lw_at lw_m1 197 rfl) rfl
theorem q288 : (Jvm.Cond.code ({ cls := "java/lang/Throwable", name := "<init>", desc := "(Ljava/lang/String;Ljava/lang/Throwable;ZZ)V" } : Jvm.MethodName) prog_43_method_5_code (5 : Nat) (Option.none : Option Jvm.ClassFile.FieldType)) ∈ lw_all := lw_g (lw_at lw_m1 198 rfl) rfl
theorem q291 : (Jvm.Cond.fieldLink "java/lang/Throwable" (198 : Nat) "java/lang/Throwable" "backtrace" "Ljava/lang/Object;") ∈ lw_all := lw_g (lw_at lw_m1 201 rfl) rfl
theorem q292 : (Jvm.Cond.fieldLink "java/lang/Throwable" (31 : Nat) "java/lang/Throwable" "detailMessage" "Ljava/lang/String;") ∈ lw_all := lw_g (lw_at lw_m1 202 rfl) rfl
theorem q293 : (Jvm.Cond.fieldLink "java/lang/Throwable" (7 : Nat) "java/lang/Throwable" "cause" "Ljava/lang/Throwable;") ∈ lw_all := lw_g (lw_at lw_m1 203 rfl) rfl
theorem q294 : (Jvm.Cond.fieldLink "java/lang/Throwable" (17 : Nat) "java/lang/Throwable" "stackTrace" "[Ljava/lang/StackTraceElement;") ∈ lw_all := lw_g (lw_at lw_m1 204 rfl) rfl
theorem q295 : (Jvm.Cond.fieldLink "java/lang/Throwable" (24 : Nat) "java/lang/Throwable" "suppressedExceptions" "Ljava/util/List;") ∈ lw_all := lw_g (lw_at lw_m1 205 rfl) rfl
theorem q298 : (Jvm.Cond.soleField "java/lang/Throwable" "backtrace") ∈ lw_all := lw_g (lw_at lw_m1 208 rfl) rfl
theorem q299 : (Jvm.Cond.soleField "java/lang/Throwable" "detailMessage") ∈ lw_all := lw_g (lw_at lw_m1 209 rfl) rfl
theorem q300 : (Jvm.Cond.soleField "java/lang/Throwable" "cause") ∈ lw_all := lw_g (lw_at lw_m1 210 rfl) rfl
theorem q301 : (Jvm.Cond.soleField "java/lang/Throwable" "stackTrace") ∈ lw_all := lw_g (lw_at lw_m1 211 rfl) rfl
theorem q303 : (Jvm.Cond.soleField "java/lang/Throwable" "depth") ∈ lw_all := lw_g (lw_at lw_m1 213 rfl) rfl
theorem q304 : (Jvm.Cond.soleField "java/lang/Throwable" "suppressedExceptions") ∈ lw_all := lw_g (lw_at lw_m1 214 rfl) rfl
theorem q613 : (Jvm.Cond.declares ({ cls := "java/lang/Throwable", name := "getCause", desc := "()Ljava/lang/Throwable;" } : Jvm.MethodName)) ∈ lw_tbl := lw_at lw_m3 43 rfl
theorem q615 : (Jvm.Cond.instanceMethod ({ cls := "java/lang/Throwable", name := "getCause", desc := "()Ljava/lang/Throwable;" } : Jvm.MethodName)) ∈ lw_all := lw_g (lw_at lw_m3 45 rfl) rfl
theorem q616 : (Jvm.Cond.codeSync ({ cls := "java/lang/Throwable", name := "getCause", desc := "()Ljava/lang/Throwable;" } : Jvm.MethodName) prog_43_method_8_code (1 : Nat) (Option.some (Jvm.ClassFile.FieldType.object "java/lang/Throwable"))) ∈ lw_all := lw_g (lw_at lw_m3 46 rfl) rfl
theorem q1994 : (Jvm.Cond.sameMethod "java/lang/Throwable" "java/lang/Throwable" "fillInStackTrace" "(I)Ljava/lang/Throwable;") ∈ lw_all := lw_g (lw_at lw_m8 224 rfl) rfl
theorem q2035 : (Jvm.Cond.castable "java/lang/Throwable" "java/lang/Object") ∈ lw_tbl := lw_at lw_m9 25 rfl
theorem in_J3 : ∀ w ∈ wsJ30, w ∈ lw_all := lw_in wsJ30 [251, 253, 255, 257, 259] (by decide +kernel) (by decide +kernel)
def RJ4 : String := "java/lang/Exception"
abbrev cJ4_init : ByteArray := prog_38_method_5_code
def yJ4_init : MethodName := ⟨RJ4, "<init>", "(Ljava/lang/String;Ljava/lang/Throwable;ZZ)V"⟩
theorem q101 : (Jvm.Cond.initialized "java/lang/Exception") ∈ lw_all := lw_g (lw_at lw_m1 11 rfl) rfl
theorem q244 : (Jvm.Cond.declares ({ cls := "java/lang/Exception", name := "<init>", desc := "()V" } : Jvm.MethodName)) ∈ lw_tbl := lw_at lw_m1 154 rfl
theorem q245 : (Jvm.Cond.declares ({ cls := "java/lang/Exception", name := "<init>", desc := "(Ljava/lang/String;)V" } : Jvm.MethodName)) ∈ lw_tbl := lw_at lw_m1 155 rfl
theorem q284 : (Jvm.Cond.instanceMethod ({ cls := "java/lang/Exception", name := "<init>", desc := "(Ljava/lang/String;Ljava/lang/Throwable;ZZ)V" } : Jvm.MethodName)) ∈ lw_all := lw_g (lw_at lw_m1 194 rfl) rfl
theorem q285 : (Jvm.Cond.code ({ cls := "java/lang/Exception", name := "<init>", desc := "(Ljava/lang/String;Ljava/lang/Throwable;ZZ)V" } : Jvm.MethodName) prog_38_method_5_code (5 : Nat) (Option.none : Option Jvm.ClassFile.FieldType)) ∈ lw_all := lw_g (lw_at lw_m1 195 rfl) rfl
theorem q286 : (Jvm.Cond.methodLink "java/lang/Exception" (16 : Nat) ({ cls := "java/lang/Throwable", name := "<init>", desc := "(Ljava/lang/String;Ljava/lang/Throwable;ZZ)V" } : Jvm.MethodName)) ∈ lw_all := lw_g (lw_at lw_m1 196 rfl) rfl
def RJ5 : String := "jdk/internal/util/ArraysSupport"
abbrev cJ5_newLength : ByteArray := prog_53_method_27_code
def yJ5_newLength : MethodName := ⟨RJ5, "newLength", "(III)I"⟩
abbrev cJ5_hugeLength : ByteArray := prog_53_method_28_code
def yJ5_hugeLength : MethodName := ⟨RJ5, "hugeLength", "(II)I"⟩
theorem q110 : (Jvm.Cond.initialized "jdk/internal/util/ArraysSupport") ∈ lw_all := lw_g (lw_at lw_m1 20 rfl) rfl
theorem q498 : (Jvm.Cond.static ({ cls := "jdk/internal/util/ArraysSupport", name := "newLength", desc := "(III)I" } : Jvm.MethodName)) ∈ lw_all := lw_g (lw_at lw_m2 168 rfl) rfl
theorem q499 : (Jvm.Cond.code ({ cls := "jdk/internal/util/ArraysSupport", name := "newLength", desc := "(III)I" } : Jvm.MethodName) prog_53_method_27_code (4 : Nat) (Option.some Jvm.ClassFile.FieldType.int)) ∈ lw_all := lw_g (lw_at lw_m2 169 rfl) rfl
theorem q500 : (Jvm.Cond.methodLink "jdk/internal/util/ArraysSupport" (194 : Nat) ({ cls := "java/lang/Math", name := "max", desc := "(II)I" } : Jvm.MethodName)) ∈ lw_all := lw_g (lw_at lw_m2 170 rfl) rfl
theorem q503 : (Jvm.Cond.constant "jdk/internal/util/ArraysSupport" (200 : Nat) (2147483639 : Int32)) ∈ lw_all := lw_g (lw_at lw_m2 173 rfl) rfl
theorem q504 : (Jvm.Cond.methodLink "jdk/internal/util/ArraysSupport" (201 : Nat) ({ cls := "jdk/internal/util/ArraysSupport", name := "hugeLength", desc := "(II)I" } : Jvm.MethodName)) ∈ lw_all := lw_g (lw_at lw_m2 174 rfl) rfl
theorem q505 : (Jvm.Cond.static ({ cls := "jdk/internal/util/ArraysSupport", name := "hugeLength", desc := "(II)I" } : Jvm.MethodName)) ∈ lw_all := lw_g (lw_at lw_m2 175 rfl) rfl
theorem q506 : (Jvm.Cond.code ({ cls := "jdk/internal/util/ArraysSupport", name := "hugeLength", desc := "(II)I" } : Jvm.MethodName) prog_53_method_28_code (3 : Nat) (Option.some Jvm.ClassFile.FieldType.int)) ∈ lw_all := lw_g (lw_at lw_m2 176 rfl) rfl
def RJ6 : String := "java/lang/Math"
abbrev cJ6_max : ByteArray := prog_41_method_65_code
def yJ6_max : MethodName := ⟨RJ6, "max", "(II)I"⟩
abbrev cJ6_min : ByteArray := prog_41_method_69_code
def yJ6_min : MethodName := ⟨RJ6, "min", "(II)I"⟩
theorem q111 : (Jvm.Cond.initialized "java/lang/Math") ∈ lw_all := lw_g (lw_at lw_m1 21 rfl) rfl
theorem q501 : (Jvm.Cond.static ({ cls := "java/lang/Math", name := "max", desc := "(II)I" } : Jvm.MethodName)) ∈ lw_all := lw_g (lw_at lw_m2 171 rfl) rfl
theorem q502 : (Jvm.Cond.code ({ cls := "java/lang/Math", name := "max", desc := "(II)I" } : Jvm.MethodName) prog_41_method_65_code (2 : Nat) (Option.some Jvm.ClassFile.FieldType.int)) ∈ lw_all := lw_g (lw_at lw_m2 172 rfl) rfl
theorem q552 : (Jvm.Cond.static ({ cls := "java/lang/Math", name := "min", desc := "(II)I" } : Jvm.MethodName)) ∈ lw_all := lw_g (lw_at lw_m2 222 rfl) rfl
theorem q553 : (Jvm.Cond.code ({ cls := "java/lang/Math", name := "min", desc := "(II)I" } : Jvm.MethodName) prog_41_method_69_code (2 : Nat) (Option.some Jvm.ClassFile.FieldType.int)) ∈ lw_all := lw_g (lw_at lw_m2 223 rfl) rfl
def RJ7 : String := "java/util/Arrays"
abbrev cJ7_copyOf : ByteArray := prog_47_method_119_code
def yJ7_copyOf : MethodName := ⟨RJ7, "copyOf", "([Ljava/lang/Object;I)[Ljava/lang/Object;"⟩
abbrev cJ7_copyOf_2 : ByteArray := prog_47_method_120_code
def yJ7_copyOf_2 : MethodName := ⟨RJ7, "copyOf", "([Ljava/lang/Object;ILjava/lang/Class;)[Ljava/lang/Object;"⟩
theorem q112 : (Jvm.Cond.initialized "java/util/Arrays") ∈ lw_all := lw_g (lw_at lw_m1 22 rfl) rfl
theorem q508 : (Jvm.Cond.static ({ cls := "java/util/Arrays", name := "copyOf", desc := "([Ljava/lang/Object;I)[Ljava/lang/Object;" } : Jvm.MethodName)) ∈ lw_all := lw_g (lw_at lw_m2 178 rfl) rfl
theorem q509 : (Jvm.Cond.code ({ cls := "java/util/Arrays", name := "copyOf", desc := "([Ljava/lang/Object;I)[Ljava/lang/Object;" } : Jvm.MethodName) prog_47_method_119_code (2 : Nat) (Option.some (Jvm.ClassFile.FieldType.array (Jvm.ClassFile.FieldType.object "java/lang/Object")))) ∈ lw_all := lw_g (lw_at lw_m2 179 rfl) rfl
theorem q510 : (Jvm.Cond.methodLink "java/util/Arrays" (86 : Nat) ({ cls := "java/lang/Object", name := "getClass", desc := "()Ljava/lang/Class;" } : Jvm.MethodName)) ∈ lw_all := lw_g (lw_at lw_m2 180 rfl) rfl
theorem q545 : (Jvm.Cond.methodLink "java/util/Arrays" (300 : Nat) ({ cls := "java/util/Arrays", name := "copyOf", desc := "([Ljava/lang/Object;ILjava/lang/Class;)[Ljava/lang/Object;" } : Jvm.MethodName)) ∈ lw_all := lw_g (lw_at lw_m2 215 rfl) rfl
theorem q546 : (Jvm.Cond.static ({ cls := "java/util/Arrays", name := "copyOf", desc := "([Ljava/lang/Object;ILjava/lang/Class;)[Ljava/lang/Object;" } : Jvm.MethodName)) ∈ lw_all := lw_g (lw_at lw_m2 216 rfl) rfl
theorem q547 : (Jvm.Cond.code ({ cls := "java/util/Arrays", name := "copyOf", desc := "([Ljava/lang/Object;ILjava/lang/Class;)[Ljava/lang/Object;" } : Jvm.MethodName) prog_47_method_120_code (4 : Nat) (Option.some (Jvm.ClassFile.FieldType.array (Jvm.ClassFile.FieldType.object "java/lang/Object")))) ∈ lw_all := lw_g (lw_at lw_m2 217 rfl) rfl
theorem q548 : (Jvm.Cond.classLink "java/util/Arrays" (110 : Nat) "[Ljava/lang/Object;") ∈ lw_all := lw_g (lw_at lw_m2 218 rfl) rfl
theorem q550 : (Jvm.Cond.classLink "java/util/Arrays" (2 : Nat) "java/lang/Object") ∈ lw_all := lw_g (lw_at lw_m2 220 rfl) rfl
theorem q551 : (Jvm.Cond.methodLink "java/util/Arrays" (304 : Nat) ({ cls := "java/lang/Math", name := "min", desc := "(II)I" } : Jvm.MethodName)) ∈ lw_all := lw_g (lw_at lw_m2 221 rfl) rfl
theorem q554 : (Jvm.Cond.methodLink "java/util/Arrays" (150 : Nat) ({ cls := "java/lang/System", name := "arraycopy", desc := "(Ljava/lang/Object;ILjava/lang/Object;II)V" } : Jvm.MethodName)) ∈ lw_all := lw_g (lw_at lw_m2 224 rfl) rfl
def RJ8 : String := "java/util/Objects"
abbrev cJ8_checkIndex : ByteArray := prog_50_method_17_code
def yJ8_checkIndex : MethodName := ⟨RJ8, "checkIndex", "(II)I"⟩
abbrev cJ8_requireNonNull : ByteArray := prog_50_method_10_code
def yJ8_requireNonNull : MethodName := ⟨RJ8, "requireNonNull", "(Ljava/lang/Object;)Ljava/lang/Object;"⟩
theorem q116 : (Jvm.Cond.initialized "java/util/Objects") ∈ lw_all := lw_g (lw_at lw_m1 26 rfl) rfl
theorem q641 : (Jvm.Cond.static ({ cls := "java/util/Objects", name := "checkIndex", desc := "(II)I" } : Jvm.MethodName)) ∈ lw_all := lw_g (lw_at lw_m3 71 rfl) rfl
theorem q642 : (Jvm.Cond.code ({ cls := "java/util/Objects", name := "checkIndex", desc := "(II)I" } : Jvm.MethodName) prog_50_method_17_code (2 : Nat) (Option.some Jvm.ClassFile.FieldType.int)) ∈ lw_all := lw_g (lw_at lw_m3 72 rfl) rfl
theorem q643 : (Jvm.Cond.methodLink "java/util/Objects" (105 : Nat) ({ cls := "jdk/internal/util/Preconditions", name := "checkIndex", desc := "(IILjava/util/function/BiFunction;)I" } : Jvm.MethodName)) ∈ lw_all := lw_g (lw_at lw_m3 73 rfl) rfl
theorem q977 : (Jvm.Cond.static ({ cls := "java/util/Objects", name := "requireNonNull", desc := "(Ljava/lang/Object;)Ljava/lang/Object;" } : Jvm.MethodName)) ∈ lw_all := lw_g (lw_at lw_m4 167 rfl) rfl
theorem q978 : (Jvm.Cond.code ({ cls := "java/util/Objects", name := "requireNonNull", desc := "(Ljava/lang/Object;)Ljava/lang/Object;" } : Jvm.MethodName) prog_50_method_10_code (1 : Nat) (Option.some (Jvm.ClassFile.FieldType.object "java/lang/Object"))) ∈ lw_all := lw_g (lw_at lw_m4 168 rfl) rfl
def RJ9 : String := "jdk/internal/util/Preconditions"
abbrev cJ9_checkIndex : ByteArray := prog_54_method_11_code
def yJ9_checkIndex : MethodName := ⟨RJ9, "checkIndex", "(IILjava/util/function/BiFunction;)I"⟩
theorem q117 : (Jvm.Cond.initialized "jdk/internal/util/Preconditions") ∈ lw_all := lw_g (lw_at lw_m1 27 rfl) rfl
theorem q644 : (Jvm.Cond.static ({ cls := "jdk/internal/util/Preconditions", name := "checkIndex", desc := "(IILjava/util/function/BiFunction;)I" } : Jvm.MethodName)) ∈ lw_all := lw_g (lw_at lw_m3 74 rfl) rfl
theorem q645 : (Jvm.Cond.code ({ cls := "jdk/internal/util/Preconditions", name := "checkIndex", desc := "(IILjava/util/function/BiFunction;)I" } : Jvm.MethodName) prog_54_method_11_code (3 : Nat) (Option.some Jvm.ClassFile.FieldType.int)) ∈ lw_all := lw_g (lw_at lw_m3 75 rfl) rfl
abbrev cL_law : ByteArray := code
def RX0 : String := "WorkflowEngine"
def TX0 : u_T := fun k => match k with
  | 0 => ("WorkflowEngine", "tape", "[B", true)
  | 1 => ("WorkflowEngine", "taped", "I", false)
  | 2 => ("WorkflowEngine", "wrong", "LWorkflowEngine$WrongText;", false)
  | 3 => ("WorkflowEngine", "versions", "[LWorkflowEngine$Version;", true)
  | 4 => ("WorkflowEngine", "versionMany", "[I", true)
  | 5 => ("WorkflowEngine", "now", "LWorkflowEngine$Moment;", true)
  | _ => ("WorkflowEngine", "image", "LWorkflowEngine$Image;", false)
def tyX0 : Nat → FieldType := fun k => match k with
  | 0 => .array .byte
  | 1 => .int
  | 2 => .object "WorkflowEngine$WrongText"
  | 3 => .array (.object "WorkflowEngine$Version")
  | 4 => .array .int
  | 5 => .object "WorkflowEngine$Moment"
  | _ => .object "WorkflowEngine$Image"
abbrev wsX00 : List Cond := u_ws RX0 TX0 7
theorem nmX0 : ∀ a, a < 7 → ∀ b, b < 7 → a ≠ b → (TX0 a).2.1 ≠ (TX0 b).2.1 := by decide +kernel
theorem tyX0_ok : ∀ k, k < 7 → parseFieldDescriptor (TX0 k).2.2.1 = some (tyX0 k) := by decide +kernel
abbrev cX0_feed : ByteArray := prog_1_method_3_code
def yX0_feed : MethodName := ⟨RX0, "feed", "(I)I"⟩
abbrev cX0_in : ByteArray := prog_1_method_1_code
def yX0_in : MethodName := ⟨RX0, "in", "(III)Z"⟩
abbrev cX0_define : ByteArray := prog_1_method_7_code
def yX0_define : MethodName := ⟨RX0, "define", "(I)I"⟩
abbrev cX0_isWorkflow : ByteArray := prog_1_method_5_code
def yX0_isWorkflow : MethodName := ⟨RX0, "isWorkflow", "(I)Z"⟩
abbrev cX0_read : ByteArray := prog_1_method_4_code
def yX0_read : MethodName := ⟨RX0, "read", "()LWorkflowEngine$Body;"⟩
abbrev cX0_bit : ByteArray := prog_1_method_2_code
def yX0_bit : MethodName := ⟨RX0, "bit", "(Z)I"⟩
abbrev cX0_wrong : ByteArray := prog_1_method_8_code
def yX0_wrong : MethodName := ⟨RX0, "wrong", "(I)I"⟩
abbrev cX0_version : ByteArray := prog_1_method_9_code
def yX0_version : MethodName := ⟨RX0, "version", "(III)I"⟩
abbrev cX0_duration : ByteArray := prog_1_method_10_code
def yX0_duration : MethodName := ⟨RX0, "duration", "(II)I"⟩
abbrev cX0_isCode : ByteArray := prog_1_method_6_code
def yX0_isCode : MethodName := ⟨RX0, "isCode", "(I)Z"⟩
abbrev cX0_failures : ByteArray := prog_1_method_11_code
def yX0_failures : MethodName := ⟨RX0, "failures", "(II)I"⟩
abbrev cX0_init : ByteArray := prog_1_method_12_code
def yX0_init : MethodName := ⟨RX0, "<init>", "()V"⟩
abbrev cX0_start : ByteArray := prog_1_method_14_code
def yX0_start : MethodName := ⟨RX0, "start", "(I)I"⟩
abbrev cX0_signal : ByteArray := prog_1_method_15_code
def yX0_signal : MethodName := ⟨RX0, "signal", "(II)I"⟩
abbrev cX0_isInstance : ByteArray := prog_1_method_13_code
def yX0_isInstance : MethodName := ⟨RX0, "isInstance", "(I)Z"⟩
abbrev cX0_abort : ByteArray := prog_1_method_16_code
def yX0_abort : MethodName := ⟨RX0, "abort", "(I)I"⟩
abbrev cX0_remove : ByteArray := prog_1_method_17_code
def yX0_remove : MethodName := ⟨RX0, "remove", "(I)I"⟩
abbrev cX0_pass : ByteArray := prog_1_method_18_code
def yX0_pass : MethodName := ⟨RX0, "pass", "(I)I"⟩
abbrev cX0_instance : ByteArray := prog_1_method_19_code
def yX0_instance : MethodName := ⟨RX0, "instance", "(II)I"⟩
abbrev cX0_entry : ByteArray := prog_1_method_20_code
def yX0_entry : MethodName := ⟨RX0, "entry", "(III)I"⟩
abbrev cX0_running : ByteArray := prog_1_method_21_code
def yX0_running : MethodName := ⟨RX0, "running", "(II)I"⟩
abbrev cX0_due : ByteArray := prog_1_method_22_code
def yX0_due : MethodName := ⟨RX0, "due", "(I)I"⟩
abbrev cX0_ahead : ByteArray := prog_1_method_23_code
def yX0_ahead : MethodName := ⟨RX0, "ahead", "(II)I"⟩
abbrev cX0_replayed : ByteArray := prog_1_method_24_code
def yX0_replayed : MethodName := ⟨RX0, "replayed", "(II)I"⟩
abbrev cX0_statistic : ByteArray := prog_1_method_28_code
def yX0_statistic : MethodName := ⟨RX0, "statistic", "(II)I"⟩
abbrev cX0_withStatus : ByteArray := prog_1_method_26_code
def yX0_withStatus : MethodName := ⟨RX0, "withStatus", "(II)I"⟩
abbrev cX0_isOf : ByteArray := prog_1_method_25_code
def yX0_isOf : MethodName := ⟨RX0, "isOf", "(II)Z"⟩
abbrev cX0_ratio : ByteArray := prog_1_method_27_code
def yX0_ratio : MethodName := ⟨RX0, "ratio", "(IZ)I"⟩
abbrev cX0_image : ByteArray := prog_1_method_29_code
def yX0_image : MethodName := ⟨RX0, "image", "()I"⟩
abbrev cX0_undo : ByteArray := prog_1_method_30_code
def yX0_undo : MethodName := ⟨RX0, "undo", "()I"⟩
abbrev cX0_count : ByteArray := prog_1_method_32_code
def yX0_count : MethodName := ⟨RX0, "count", "(I)I"⟩
abbrev cX0_allVersions : ByteArray := prog_1_method_31_code
def yX0_allVersions : MethodName := ⟨RX0, "allVersions", "()I"⟩
theorem q91 : (Jvm.Cond.initialized "WorkflowEngine") ∈ lw_all := lw_g (lw_at lw_m1 1 rfl) rfl
theorem q135 : (Jvm.Cond.instanceMethod ({ cls := "WorkflowEngine", name := "feed", desc := "(I)I" } : Jvm.MethodName)) ∈ lw_all := lw_g (lw_at lw_m1 45 rfl) rfl
theorem q136 : (Jvm.Cond.selects "WorkflowEngine" ({ cls := "WorkflowEngine", name := "feed", desc := "(I)I" } : Jvm.MethodName) ({ cls := "WorkflowEngine", name := "feed", desc := "(I)I" } : Jvm.MethodName)) ∈ lw_all := lw_g (lw_at lw_m1 46 rfl) rfl
theorem q137 : (Jvm.Cond.code ({ cls := "WorkflowEngine", name := "feed", desc := "(I)I" } : Jvm.MethodName) prog_1_method_3_code (2 : Nat) (Option.some Jvm.ClassFile.FieldType.int)) ∈ lw_all := lw_g (lw_at lw_m1 47 rfl) rfl
theorem q138 : (Jvm.Cond.methodLink "WorkflowEngine" (5 : Nat) ({ cls := "WorkflowEngine", name := "in", desc := "(III)Z" } : Jvm.MethodName)) ∈ lw_all := lw_g (lw_at lw_m1 48 rfl) rfl
theorem q139 : (Jvm.Cond.static ({ cls := "WorkflowEngine", name := "in", desc := "(III)Z" } : Jvm.MethodName)) ∈ lw_all := lw_g (lw_at lw_m1 49 rfl) rfl
theorem q140 : (Jvm.Cond.code ({ cls := "WorkflowEngine", name := "in", desc := "(III)Z" } : Jvm.MethodName) prog_1_method_1_code (3 : Nat) (Option.some Jvm.ClassFile.FieldType.boolean)) ∈ lw_all := lw_g (lw_at lw_m1 50 rfl) rfl
theorem q142 : (Jvm.Cond.instanceMethod ({ cls := "WorkflowEngine", name := "define", desc := "(I)I" } : Jvm.MethodName)) ∈ lw_all := lw_g (lw_at lw_m1 52 rfl) rfl
theorem q143 : (Jvm.Cond.selects "WorkflowEngine" ({ cls := "WorkflowEngine", name := "define", desc := "(I)I" } : Jvm.MethodName) ({ cls := "WorkflowEngine", name := "define", desc := "(I)I" } : Jvm.MethodName)) ∈ lw_all := lw_g (lw_at lw_m1 53 rfl) rfl
theorem q144 : (Jvm.Cond.codeWith ({ cls := "WorkflowEngine", name := "define", desc := "(I)I" } : Jvm.MethodName) prog_1_method_7_code (6 : Nat) (Option.some Jvm.ClassFile.FieldType.int) [((29 : Nat), (66 : Nat), (73 : Nat), (31 : Nat)), ((29 : Nat), (66 : Nat), (96 : Nat), (0 : Nat)), ((73 : Nat), (88 : Nat), (96 : Nat), (0 : Nat)), ((96 : Nat), (98 : Nat), (96 : Nat), (0 : Nat))]) ∈ lw_all := lw_g (lw_at lw_m1 54 rfl) rfl
theorem q145 : (Jvm.Cond.classLink "WorkflowEngine" (31 : Nat) "WorkflowEngine$WrongText") ∈ lw_all := lw_g (lw_at lw_m1 55 rfl) rfl
theorem q146 : (Jvm.Cond.methodLink "WorkflowEngine" (36 : Nat) ({ cls := "WorkflowEngine", name := "isWorkflow", desc := "(I)Z" } : Jvm.MethodName)) ∈ lw_all := lw_g (lw_at lw_m1 56 rfl) rfl
theorem q147 : (Jvm.Cond.static ({ cls := "WorkflowEngine", name := "isWorkflow", desc := "(I)Z" } : Jvm.MethodName)) ∈ lw_all := lw_g (lw_at lw_m1 57 rfl) rfl
theorem q148 : (Jvm.Cond.code ({ cls := "WorkflowEngine", name := "isWorkflow", desc := "(I)Z" } : Jvm.MethodName) prog_1_method_5_code (1 : Nat) (Option.some Jvm.ClassFile.FieldType.boolean)) ∈ lw_all := lw_g (lw_at lw_m1 58 rfl) rfl
theorem q149 : (Jvm.Cond.classLink "WorkflowEngine" (52 : Nat) "WorkflowEngine$Version") ∈ lw_all := lw_g (lw_at lw_m1 59 rfl) rfl
theorem q151 : (Jvm.Cond.methodLink "WorkflowEngine" (54 : Nat) ({ cls := "WorkflowEngine", name := "read", desc := "()LWorkflowEngine$Body;" } : Jvm.MethodName)) ∈ lw_all := lw_g (lw_at lw_m1 61 rfl) rfl
theorem q152 : (Jvm.Cond.privateMethod ({ cls := "WorkflowEngine", name := "read", desc := "()LWorkflowEngine$Body;" } : Jvm.MethodName)) ∈ lw_tbl := lw_at lw_m1 62 rfl
theorem q153 : (Jvm.Cond.instanceMethod ({ cls := "WorkflowEngine", name := "read", desc := "()LWorkflowEngine$Body;" } : Jvm.MethodName)) ∈ lw_all := lw_g (lw_at lw_m1 63 rfl) rfl
theorem q154 : (Jvm.Cond.instantiable "WorkflowEngine" (7 : Nat)) ∈ lw_all := lw_g (lw_at lw_m1 64 rfl) rfl
theorem q155 : (Jvm.Cond.codeWith ({ cls := "WorkflowEngine", name := "read", desc := "()LWorkflowEngine$Body;" } : Jvm.MethodName) prog_1_method_4_code (2 : Nat) (Option.some (Jvm.ClassFile.FieldType.object "WorkflowEngine$Body")) [((0 : Nat), (11 : Nat), (12 : Nat), (27 : Nat)), ((0 : Nat), (11 : Nat), (12 : Nat), (29 : Nat))]) ∈ lw_all := lw_g (lw_at lw_m1 65 rfl) rfl
theorem q156 : (Jvm.Cond.classLink "WorkflowEngine" (27 : Nat) "WorkflowEngine$BadSign") ∈ lw_all := lw_g (lw_at lw_m1 66 rfl) rfl
theorem q157 : (Jvm.Cond.classLink "WorkflowEngine" (29 : Nat) "WorkflowEngine$TooMuch") ∈ lw_all := lw_g (lw_at lw_m1 67 rfl) rfl
theorem q158 : (Jvm.Cond.classLink "WorkflowEngine" (17 : Nat) "WorkflowEngine$Reader") ∈ lw_all := lw_g (lw_at lw_m1 68 rfl) rfl
theorem q160 : (Jvm.Cond.methodLinkNest "WorkflowEngine" (19 : Nat) ({ cls := "WorkflowEngine$Reader", name := "<init>", desc := "(LWorkflowEngine;)V" } : Jvm.MethodName) "WorkflowEngine") ∈ lw_tbl := lw_at lw_m1 70 rfl
theorem q179 : (Jvm.Cond.methodLink "WorkflowEngine" (23 : Nat) ({ cls := "WorkflowEngine$Reader", name := "whole", desc := "()LWorkflowEngine$Body;" } : Jvm.MethodName)) ∈ lw_all := lw_g (lw_at lw_m1 89 rfl) rfl
theorem q347 : (Jvm.Cond.static ({ cls := "WorkflowEngine", name := "bit", desc := "(Z)I" } : Jvm.MethodName)) ∈ lw_all := lw_g (lw_at lw_m2 17 rfl) rfl
theorem q348 : (Jvm.Cond.code ({ cls := "WorkflowEngine", name := "bit", desc := "(Z)I" } : Jvm.MethodName) prog_1_method_2_code (1 : Nat) (Option.some Jvm.ClassFile.FieldType.int)) ∈ lw_all := lw_g (lw_at lw_m2 18 rfl) rfl
theorem q513 : (Jvm.Cond.selects "WorkflowEngine" ({ cls := "java/lang/Object", name := "getClass", desc := "()Ljava/lang/Class;" } : Jvm.MethodName) ({ cls := "java/lang/Object", name := "getClass", desc := "()Ljava/lang/Class;" } : Jvm.MethodName)) ∈ lw_all := lw_g (lw_at lw_m2 183 rfl) rfl
theorem q588 : (Jvm.Cond.methodLink "WorkflowEngine" (33 : Nat) ({ cls := "WorkflowEngine$WrongText", name := "<init>", desc := "(Ljava/lang/Exception;)V" } : Jvm.MethodName)) ∈ lw_all := lw_g (lw_at lw_m3 18 rfl) rfl
theorem q594 : (Jvm.Cond.methodLink "WorkflowEngine" (57 : Nat) ({ cls := "WorkflowEngine$Version", name := "<init>", desc := "(LWorkflowEngine$Body;I)V" } : Jvm.MethodName)) ∈ lw_all := lw_g (lw_at lw_m3 24 rfl) rfl
theorem q599 : (Jvm.Cond.fieldLinkNest "WorkflowEngine" (67 : Nat) "WorkflowEngine$Version" "body" "LWorkflowEngine$Body;" "WorkflowEngine") ∈ lw_tbl := lw_at lw_m3 29 rfl
theorem q601 : (Jvm.Cond.fieldLinkNest "WorkflowEngine" (82 : Nat) "WorkflowEngine$Version" "length" "I" "WorkflowEngine") ∈ lw_tbl := lw_at lw_m3 31 rfl
theorem q607 : (Jvm.Cond.methodLink "WorkflowEngine" (60 : Nat) ({ cls := "WorkflowEngine$WrongText", name := "place", desc := "()I" } : Jvm.MethodName)) ∈ lw_all := lw_g (lw_at lw_m3 37 rfl) rfl
theorem q620 : (Jvm.Cond.instanceMethod ({ cls := "WorkflowEngine", name := "wrong", desc := "(I)I" } : Jvm.MethodName)) ∈ lw_all := lw_g (lw_at lw_m3 50 rfl) rfl
theorem q621 : (Jvm.Cond.selects "WorkflowEngine" ({ cls := "WorkflowEngine", name := "wrong", desc := "(I)I" } : Jvm.MethodName) ({ cls := "WorkflowEngine", name := "wrong", desc := "(I)I" } : Jvm.MethodName)) ∈ lw_all := lw_g (lw_at lw_m3 51 rfl) rfl
theorem q622 : (Jvm.Cond.code ({ cls := "WorkflowEngine", name := "wrong", desc := "(I)I" } : Jvm.MethodName) prog_1_method_8_code (2 : Nat) (Option.some Jvm.ClassFile.FieldType.int)) ∈ lw_all := lw_g (lw_at lw_m3 52 rfl) rfl
theorem q623 : (Jvm.Cond.methodLink "WorkflowEngine" (64 : Nat) ({ cls := "WorkflowEngine$WrongText", name := "reason", desc := "()I" } : Jvm.MethodName)) ∈ lw_all := lw_g (lw_at lw_m3 53 rfl) rfl
theorem q628 : (Jvm.Cond.instanceMethod ({ cls := "WorkflowEngine", name := "version", desc := "(III)I" } : Jvm.MethodName)) ∈ lw_all := lw_g (lw_at lw_m3 58 rfl) rfl
theorem q629 : (Jvm.Cond.selects "WorkflowEngine" ({ cls := "WorkflowEngine", name := "version", desc := "(III)I" } : Jvm.MethodName) ({ cls := "WorkflowEngine", name := "version", desc := "(III)I" } : Jvm.MethodName)) ∈ lw_all := lw_g (lw_at lw_m3 59 rfl) rfl
theorem q630 : (Jvm.Cond.code ({ cls := "WorkflowEngine", name := "version", desc := "(III)I" } : Jvm.MethodName) prog_1_method_9_code (6 : Nat) (Option.some Jvm.ClassFile.FieldType.int)) ∈ lw_all := lw_g (lw_at lw_m3 60 rfl) rfl
theorem q631 : (Jvm.Cond.methodLink "WorkflowEngine" (71 : Nat) ({ cls := "WorkflowEngine$Body", name := "items", desc := "()I" } : Jvm.MethodName)) ∈ lw_all := lw_g (lw_at lw_m3 61 rfl) rfl
theorem q655 : (Jvm.Cond.methodLink "WorkflowEngine" (76 : Nat) ({ cls := "WorkflowEngine$Body", name := "tasks", desc := "()I" } : Jvm.MethodName)) ∈ lw_all := lw_g (lw_at lw_m3 85 rfl) rfl
theorem q662 : (Jvm.Cond.methodLink "WorkflowEngine" (79 : Nat) ({ cls := "WorkflowEngine$Body", name := "depth", desc := "()I" } : Jvm.MethodName)) ∈ lw_all := lw_g (lw_at lw_m3 92 rfl) rfl
theorem q688 : (Jvm.Cond.methodLink "WorkflowEngine" (85 : Nat) ({ cls := "WorkflowEngine$Body", name := "width", desc := "()I" } : Jvm.MethodName)) ∈ lw_all := lw_g (lw_at lw_m3 118 rfl) rfl
theorem q709 : (Jvm.Cond.instanceMethod ({ cls := "WorkflowEngine", name := "duration", desc := "(II)I" } : Jvm.MethodName)) ∈ lw_all := lw_g (lw_at lw_m3 139 rfl) rfl
theorem q710 : (Jvm.Cond.selects "WorkflowEngine" ({ cls := "WorkflowEngine", name := "duration", desc := "(II)I" } : Jvm.MethodName) ({ cls := "WorkflowEngine", name := "duration", desc := "(II)I" } : Jvm.MethodName)) ∈ lw_all := lw_g (lw_at lw_m3 140 rfl) rfl
theorem q711 : (Jvm.Cond.code ({ cls := "WorkflowEngine", name := "duration", desc := "(II)I" } : Jvm.MethodName) prog_1_method_10_code (4 : Nat) (Option.some Jvm.ClassFile.FieldType.int)) ∈ lw_all := lw_g (lw_at lw_m3 141 rfl) rfl
theorem q712 : (Jvm.Cond.methodLink "WorkflowEngine" (88 : Nat) ({ cls := "WorkflowEngine", name := "isCode", desc := "(I)Z" } : Jvm.MethodName)) ∈ lw_all := lw_g (lw_at lw_m3 142 rfl) rfl
theorem q713 : (Jvm.Cond.static ({ cls := "WorkflowEngine", name := "isCode", desc := "(I)Z" } : Jvm.MethodName)) ∈ lw_all := lw_g (lw_at lw_m3 143 rfl) rfl
theorem q714 : (Jvm.Cond.code ({ cls := "WorkflowEngine", name := "isCode", desc := "(I)Z" } : Jvm.MethodName) prog_1_method_6_code (1 : Nat) (Option.some Jvm.ClassFile.FieldType.boolean)) ∈ lw_all := lw_g (lw_at lw_m3 144 rfl) rfl
theorem q716 : (Jvm.Cond.instanceMethod ({ cls := "WorkflowEngine", name := "failures", desc := "(II)I" } : Jvm.MethodName)) ∈ lw_all := lw_g (lw_at lw_m3 146 rfl) rfl
theorem q717 : (Jvm.Cond.selects "WorkflowEngine" ({ cls := "WorkflowEngine", name := "failures", desc := "(II)I" } : Jvm.MethodName) ({ cls := "WorkflowEngine", name := "failures", desc := "(II)I" } : Jvm.MethodName)) ∈ lw_all := lw_g (lw_at lw_m3 147 rfl) rfl
theorem q718 : (Jvm.Cond.code ({ cls := "WorkflowEngine", name := "failures", desc := "(II)I" } : Jvm.MethodName) prog_1_method_11_code (4 : Nat) (Option.some Jvm.ClassFile.FieldType.int)) ∈ lw_all := lw_g (lw_at lw_m3 148 rfl) rfl
theorem q721 : (Jvm.Cond.instanceMethod ({ cls := "WorkflowEngine", name := "<init>", desc := "()V" } : Jvm.MethodName)) ∈ lw_all := lw_g (lw_at lw_m3 151 rfl) rfl
theorem q722 : (Jvm.Cond.code ({ cls := "WorkflowEngine", name := "<init>", desc := "()V" } : Jvm.MethodName) prog_1_method_12_code (2 : Nat) (Option.none : Option Jvm.ClassFile.FieldType)) ∈ lw_all := lw_g (lw_at lw_m3 152 rfl) rfl
theorem q723 : (Jvm.Cond.methodLink "WorkflowEngine" (103 : Nat) ({ cls := "java/lang/Object", name := "<init>", desc := "()V" } : Jvm.MethodName)) ∈ lw_all := lw_g (lw_at lw_m3 153 rfl) rfl
theorem q725 : (Jvm.Cond.classLink "WorkflowEngine" (96 : Nat) "WorkflowEngine$Moment") ∈ lw_all := lw_g (lw_at lw_m3 155 rfl) rfl
theorem q727 : (Jvm.Cond.methodLinkNest "WorkflowEngine" (108 : Nat) ({ cls := "WorkflowEngine$Moment", name := "<init>", desc := "(LWorkflowEngine;)V" } : Jvm.MethodName) "WorkflowEngine") ∈ lw_tbl := lw_at lw_m3 157 rfl
theorem q736 : (Jvm.Cond.fieldLinkNest "WorkflowEngine" (95 : Nat) "WorkflowEngine$Moment" "durations" "[I" "WorkflowEngine") ∈ lw_tbl := lw_at lw_m3 166 rfl
theorem q738 : (Jvm.Cond.fieldLinkNest "WorkflowEngine" (100 : Nat) "WorkflowEngine$Moment" "failures" "[I" "WorkflowEngine") ∈ lw_tbl := lw_at lw_m3 168 rfl
theorem q740 : (Jvm.Cond.fieldLinkNest "WorkflowEngine" (109 : Nat) "WorkflowEngine$Moment" "instances" "[LWorkflowEngine$Instance;" "WorkflowEngine") ∈ lw_tbl := lw_at lw_m3 170 rfl
theorem q747 : (Jvm.Cond.fieldLinkNest "WorkflowEngine" (115 : Nat) "WorkflowEngine$Moment" "minute" "I" "WorkflowEngine") ∈ lw_tbl := lw_at lw_m3 177 rfl
theorem q763 : (Jvm.Cond.fieldLink "WorkflowEngine" (13 : Nat) "WorkflowEngine" "tape" "[B") ∈ lw_all := lw_g (lw_at lw_m3 193 rfl) rfl
theorem q765 : (Jvm.Cond.fieldLink "WorkflowEngine" (9 : Nat) "WorkflowEngine" "taped" "I") ∈ lw_all := lw_g (lw_at lw_m3 195 rfl) rfl
theorem q767 : (Jvm.Cond.fieldLink "WorkflowEngine" (44 : Nat) "WorkflowEngine" "wrong" "LWorkflowEngine$WrongText;") ∈ lw_all := lw_g (lw_at lw_m3 197 rfl) rfl
theorem q769 : (Jvm.Cond.fieldLink "WorkflowEngine" (48 : Nat) "WorkflowEngine" "versions" "[LWorkflowEngine$Version;") ∈ lw_all := lw_g (lw_at lw_m3 199 rfl) rfl
theorem q771 : (Jvm.Cond.fieldLink "WorkflowEngine" (40 : Nat) "WorkflowEngine" "versionMany" "[I") ∈ lw_all := lw_g (lw_at lw_m3 201 rfl) rfl
theorem q773 : (Jvm.Cond.fieldLink "WorkflowEngine" (91 : Nat) "WorkflowEngine" "now" "LWorkflowEngine$Moment;") ∈ lw_all := lw_g (lw_at lw_m3 203 rfl) rfl
theorem q774 : (Jvm.Cond.fieldLink "WorkflowEngine" (244 : Nat) "WorkflowEngine" "image" "LWorkflowEngine$Image;") ∈ lw_all := lw_g (lw_at lw_m3 204 rfl) rfl
theorem q775 : (Jvm.Cond.laysFinal "WorkflowEngine" "WorkflowEngine" "tape" "[B") ∈ lw_all := lw_g (lw_at lw_m3 205 rfl) rfl
theorem q776 : (Jvm.Cond.soleField "WorkflowEngine" "tape") ∈ lw_all := lw_g (lw_at lw_m3 206 rfl) rfl
theorem q777 : (Jvm.Cond.lays "WorkflowEngine" "WorkflowEngine" "taped" "I") ∈ lw_all := lw_g (lw_at lw_m3 207 rfl) rfl
theorem q778 : (Jvm.Cond.soleField "WorkflowEngine" "taped") ∈ lw_all := lw_g (lw_at lw_m3 208 rfl) rfl
theorem q779 : (Jvm.Cond.lays "WorkflowEngine" "WorkflowEngine" "wrong" "LWorkflowEngine$WrongText;") ∈ lw_all := lw_g (lw_at lw_m3 209 rfl) rfl
theorem q780 : (Jvm.Cond.soleField "WorkflowEngine" "wrong") ∈ lw_all := lw_g (lw_at lw_m3 210 rfl) rfl
theorem q781 : (Jvm.Cond.laysFinal "WorkflowEngine" "WorkflowEngine" "versions" "[LWorkflowEngine$Version;") ∈ lw_all := lw_g (lw_at lw_m3 211 rfl) rfl
theorem q782 : (Jvm.Cond.soleField "WorkflowEngine" "versions") ∈ lw_all := lw_g (lw_at lw_m3 212 rfl) rfl
theorem q783 : (Jvm.Cond.laysFinal "WorkflowEngine" "WorkflowEngine" "versionMany" "[I") ∈ lw_all := lw_g (lw_at lw_m3 213 rfl) rfl
theorem q784 : (Jvm.Cond.soleField "WorkflowEngine" "versionMany") ∈ lw_all := lw_g (lw_at lw_m3 214 rfl) rfl
theorem q785 : (Jvm.Cond.laysFinal "WorkflowEngine" "WorkflowEngine" "now" "LWorkflowEngine$Moment;") ∈ lw_all := lw_g (lw_at lw_m3 215 rfl) rfl
theorem q786 : (Jvm.Cond.soleField "WorkflowEngine" "now") ∈ lw_all := lw_g (lw_at lw_m3 216 rfl) rfl
theorem q787 : (Jvm.Cond.lays "WorkflowEngine" "WorkflowEngine" "image" "LWorkflowEngine$Image;") ∈ lw_all := lw_g (lw_at lw_m3 217 rfl) rfl
theorem q788 : (Jvm.Cond.soleField "WorkflowEngine" "image") ∈ lw_all := lw_g (lw_at lw_m3 218 rfl) rfl
theorem q789 : (Jvm.Cond.superclass "WorkflowEngine" "java/lang/Object") ∈ lw_all := lw_g (lw_at lw_m3 219 rfl) rfl
theorem q791 : (Jvm.Cond.instanceMethod ({ cls := "WorkflowEngine", name := "start", desc := "(I)I" } : Jvm.MethodName)) ∈ lw_all := lw_g (lw_at lw_m3 221 rfl) rfl
theorem q792 : (Jvm.Cond.selects "WorkflowEngine" ({ cls := "WorkflowEngine", name := "start", desc := "(I)I" } : Jvm.MethodName) ({ cls := "WorkflowEngine", name := "start", desc := "(I)I" } : Jvm.MethodName)) ∈ lw_all := lw_g (lw_at lw_m3 222 rfl) rfl
theorem q793 : (Jvm.Cond.code ({ cls := "WorkflowEngine", name := "start", desc := "(I)I" } : Jvm.MethodName) prog_1_method_14_code (5 : Nat) (Option.some Jvm.ClassFile.FieldType.int)) ∈ lw_all := lw_g (lw_at lw_m3 223 rfl) rfl
theorem q794 : (Jvm.Cond.classLink "WorkflowEngine" (113 : Nat) "WorkflowEngine$Instance") ∈ lw_all := lw_g (lw_at lw_m3 224 rfl) rfl
theorem q796 : (Jvm.Cond.methodLink "WorkflowEngine" (118 : Nat) ({ cls := "WorkflowEngine$Instance", name := "<init>", desc := "(LWorkflowEngine;LWorkflowEngine$Moment;III)V" } : Jvm.MethodName)) ∈ lw_all := lw_g (lw_at lw_m3 226 rfl) rfl
theorem q808 : (Jvm.Cond.fieldLinkNest "WorkflowEngine" (155 : Nat) "WorkflowEngine$Instance" "workflow" "I" "WorkflowEngine") ∈ lw_tbl := lw_at lw_m3 238 rfl
theorem q810 : (Jvm.Cond.fieldLinkNest "WorkflowEngine" (158 : Nat) "WorkflowEngine$Instance" "version" "I" "WorkflowEngine") ∈ lw_tbl := lw_at lw_m4 0 rfl
theorem q812 : (Jvm.Cond.fieldLinkNest "WorkflowEngine" (161 : Nat) "WorkflowEngine$Instance" "begun" "I" "WorkflowEngine") ∈ lw_tbl := lw_at lw_m4 2 rfl
theorem q816 : (Jvm.Cond.fieldLinkNest "WorkflowEngine" (152 : Nat) "WorkflowEngine$Instance" "variables" "[I" "WorkflowEngine") ∈ lw_tbl := lw_at lw_m4 6 rfl
theorem q819 : (Jvm.Cond.fieldLinkNest "WorkflowEngine" (138 : Nat) "WorkflowEngine$Instance" "pending" "[I" "WorkflowEngine") ∈ lw_tbl := lw_at lw_m4 9 rfl
theorem q822 : (Jvm.Cond.fieldLinkNest "WorkflowEngine" (167 : Nat) "WorkflowEngine$Instance" "dones" "Ljava/util/ArrayList;" "WorkflowEngine") ∈ lw_tbl := lw_at lw_m4 12 rfl
theorem q824 : (Jvm.Cond.fieldLinkNest "WorkflowEngine" (191 : Nat) "WorkflowEngine$Instance" "history" "[I" "WorkflowEngine") ∈ lw_tbl := lw_at lw_m4 14 rfl
theorem q826 : (Jvm.Cond.fieldLinkNest "WorkflowEngine" (182 : Nat) "WorkflowEngine$Instance" "entries" "I" "WorkflowEngine") ∈ lw_tbl := lw_at lw_m4 16 rfl
theorem q829 : (Jvm.Cond.fieldLinkNest "WorkflowEngine" (135 : Nat) "WorkflowEngine$Instance" "status" "I" "WorkflowEngine") ∈ lw_tbl := lw_at lw_m4 19 rfl
theorem q831 : (Jvm.Cond.fieldLinkNest "WorkflowEngine" (164 : Nat) "WorkflowEngine$Instance" "ended" "I" "WorkflowEngine") ∈ lw_tbl := lw_at lw_m4 21 rfl
theorem q833 : (Jvm.Cond.fieldLinkNest "WorkflowEngine" (176 : Nat) "WorkflowEngine$Instance" "undone" "I" "WorkflowEngine") ∈ lw_tbl := lw_at lw_m4 23 rfl
theorem q835 : (Jvm.Cond.fieldLinkNest "WorkflowEngine" (179 : Nat) "WorkflowEngine$Instance" "stuck" "I" "WorkflowEngine") ∈ lw_tbl := lw_at lw_m4 25 rfl
theorem q837 : (Jvm.Cond.fieldLinkNest "WorkflowEngine" (126 : Nat) "WorkflowEngine$Instance" "body" "LWorkflowEngine$Run;" "WorkflowEngine") ∈ lw_tbl := lw_at lw_m4 27 rfl
theorem q873 : (Jvm.Cond.classLink "WorkflowEngine" (121 : Nat) "WorkflowEngine$BodyRun") ∈ lw_all := lw_g (lw_at lw_m4 63 rfl) rfl
theorem q875 : (Jvm.Cond.methodLink "WorkflowEngine" (123 : Nat) ({ cls := "WorkflowEngine$BodyRun", name := "<init>", desc := "(LWorkflowEngine;LWorkflowEngine$Instance;LWorkflowEngine$Body;)V" } : Jvm.MethodName)) ∈ lw_all := lw_g (lw_at lw_m4 65 rfl) rfl
theorem q933 : (Jvm.Cond.methodLink "WorkflowEngine" (129 : Nat) ({ cls := "WorkflowEngine$Instance", name := "looks", desc := "()V" } : Jvm.MethodName)) ∈ lw_all := lw_g (lw_at lw_m4 123 rfl) rfl
theorem q1298 : (Jvm.Cond.instanceMethod ({ cls := "WorkflowEngine", name := "signal", desc := "(II)I" } : Jvm.MethodName)) ∈ lw_all := lw_g (lw_at lw_m6 8 rfl) rfl
theorem q1299 : (Jvm.Cond.selects "WorkflowEngine" ({ cls := "WorkflowEngine", name := "signal", desc := "(II)I" } : Jvm.MethodName) ({ cls := "WorkflowEngine", name := "signal", desc := "(II)I" } : Jvm.MethodName)) ∈ lw_all := lw_g (lw_at lw_m6 9 rfl) rfl
theorem q1300 : (Jvm.Cond.code ({ cls := "WorkflowEngine", name := "signal", desc := "(II)I" } : Jvm.MethodName) prog_1_method_15_code (4 : Nat) (Option.some Jvm.ClassFile.FieldType.int)) ∈ lw_all := lw_g (lw_at lw_m6 10 rfl) rfl
theorem q1301 : (Jvm.Cond.methodLink "WorkflowEngine" (132 : Nat) ({ cls := "WorkflowEngine", name := "isInstance", desc := "(I)Z" } : Jvm.MethodName)) ∈ lw_all := lw_g (lw_at lw_m6 11 rfl) rfl
theorem q1302 : (Jvm.Cond.privateMethod ({ cls := "WorkflowEngine", name := "isInstance", desc := "(I)Z" } : Jvm.MethodName)) ∈ lw_tbl := lw_at lw_m6 12 rfl
theorem q1303 : (Jvm.Cond.instanceMethod ({ cls := "WorkflowEngine", name := "isInstance", desc := "(I)Z" } : Jvm.MethodName)) ∈ lw_all := lw_g (lw_at lw_m6 13 rfl) rfl
theorem q1304 : (Jvm.Cond.code ({ cls := "WorkflowEngine", name := "isInstance", desc := "(I)Z" } : Jvm.MethodName) prog_1_method_13_code (2 : Nat) (Option.some Jvm.ClassFile.FieldType.boolean)) ∈ lw_all := lw_g (lw_at lw_m6 14 rfl) rfl
theorem q1306 : (Jvm.Cond.instanceMethod ({ cls := "WorkflowEngine", name := "abort", desc := "(I)I" } : Jvm.MethodName)) ∈ lw_all := lw_g (lw_at lw_m6 16 rfl) rfl
theorem q1307 : (Jvm.Cond.selects "WorkflowEngine" ({ cls := "WorkflowEngine", name := "abort", desc := "(I)I" } : Jvm.MethodName) ({ cls := "WorkflowEngine", name := "abort", desc := "(I)I" } : Jvm.MethodName)) ∈ lw_all := lw_g (lw_at lw_m6 17 rfl) rfl
theorem q1308 : (Jvm.Cond.code ({ cls := "WorkflowEngine", name := "abort", desc := "(I)I" } : Jvm.MethodName) prog_1_method_16_code (3 : Nat) (Option.some Jvm.ClassFile.FieldType.int)) ∈ lw_all := lw_g (lw_at lw_m6 18 rfl) rfl
theorem q1309 : (Jvm.Cond.methodLink "WorkflowEngine" (141 : Nat) ({ cls := "WorkflowEngine$Instance", name := "compensates", desc := "()V" } : Jvm.MethodName)) ∈ lw_all := lw_g (lw_at lw_m6 19 rfl) rfl
theorem q1311 : (Jvm.Cond.instanceMethod ({ cls := "WorkflowEngine", name := "remove", desc := "(I)I" } : Jvm.MethodName)) ∈ lw_all := lw_g (lw_at lw_m6 21 rfl) rfl
theorem q1312 : (Jvm.Cond.selects "WorkflowEngine" ({ cls := "WorkflowEngine", name := "remove", desc := "(I)I" } : Jvm.MethodName) ({ cls := "WorkflowEngine", name := "remove", desc := "(I)I" } : Jvm.MethodName)) ∈ lw_all := lw_g (lw_at lw_m6 22 rfl) rfl
theorem q1313 : (Jvm.Cond.code ({ cls := "WorkflowEngine", name := "remove", desc := "(I)I" } : Jvm.MethodName) prog_1_method_17_code (3 : Nat) (Option.some Jvm.ClassFile.FieldType.int)) ∈ lw_all := lw_g (lw_at lw_m6 23 rfl) rfl
theorem q1314 : (Jvm.Cond.methodLink "WorkflowEngine" (144 : Nat) ({ cls := "WorkflowEngine$Instance", name := "hasEnded", desc := "()Z" } : Jvm.MethodName)) ∈ lw_all := lw_g (lw_at lw_m6 24 rfl) rfl
theorem q1319 : (Jvm.Cond.instanceMethod ({ cls := "WorkflowEngine", name := "pass", desc := "(I)I" } : Jvm.MethodName)) ∈ lw_all := lw_g (lw_at lw_m6 29 rfl) rfl
theorem q1320 : (Jvm.Cond.selects "WorkflowEngine" ({ cls := "WorkflowEngine", name := "pass", desc := "(I)I" } : Jvm.MethodName) ({ cls := "WorkflowEngine", name := "pass", desc := "(I)I" } : Jvm.MethodName)) ∈ lw_all := lw_g (lw_at lw_m6 30 rfl) rfl
theorem q1321 : (Jvm.Cond.code ({ cls := "WorkflowEngine", name := "pass", desc := "(I)I" } : Jvm.MethodName) prog_1_method_18_code (3 : Nat) (Option.some Jvm.ClassFile.FieldType.int)) ∈ lw_all := lw_g (lw_at lw_m6 31 rfl) rfl
theorem q1322 : (Jvm.Cond.constant "WorkflowEngine" (148 : Nat) (99999 : Int32)) ∈ lw_all := lw_g (lw_at lw_m6 32 rfl) rfl
theorem q1323 : (Jvm.Cond.methodLink "WorkflowEngine" (149 : Nat) ({ cls := "WorkflowEngine$Moment", name := "steps", desc := "()V" } : Jvm.MethodName)) ∈ lw_all := lw_g (lw_at lw_m6 33 rfl) rfl
theorem q1329 : (Jvm.Cond.instanceMethod ({ cls := "WorkflowEngine", name := "instance", desc := "(II)I" } : Jvm.MethodName)) ∈ lw_all := lw_g (lw_at lw_m6 39 rfl) rfl
theorem q1330 : (Jvm.Cond.selects "WorkflowEngine" ({ cls := "WorkflowEngine", name := "instance", desc := "(II)I" } : Jvm.MethodName) ({ cls := "WorkflowEngine", name := "instance", desc := "(II)I" } : Jvm.MethodName)) ∈ lw_all := lw_g (lw_at lw_m6 40 rfl) rfl
theorem q1331 : (Jvm.Cond.code ({ cls := "WorkflowEngine", name := "instance", desc := "(II)I" } : Jvm.MethodName) prog_1_method_19_code (4 : Nat) (Option.some Jvm.ClassFile.FieldType.int)) ∈ lw_all := lw_g (lw_at lw_m6 41 rfl) rfl
theorem q1332 : (Jvm.Cond.methodLink "WorkflowEngine" (171 : Nat) ({ cls := "java/util/ArrayList", name := "size", desc := "()I" } : Jvm.MethodName)) ∈ lw_all := lw_g (lw_at lw_m6 42 rfl) rfl
theorem q1334 : (Jvm.Cond.instanceMethod ({ cls := "WorkflowEngine", name := "entry", desc := "(III)I" } : Jvm.MethodName)) ∈ lw_all := lw_g (lw_at lw_m6 44 rfl) rfl
theorem q1335 : (Jvm.Cond.selects "WorkflowEngine" ({ cls := "WorkflowEngine", name := "entry", desc := "(III)I" } : Jvm.MethodName) ({ cls := "WorkflowEngine", name := "entry", desc := "(III)I" } : Jvm.MethodName)) ∈ lw_all := lw_g (lw_at lw_m6 45 rfl) rfl
theorem q1336 : (Jvm.Cond.code ({ cls := "WorkflowEngine", name := "entry", desc := "(III)I" } : Jvm.MethodName) prog_1_method_20_code (5 : Nat) (Option.some Jvm.ClassFile.FieldType.int)) ∈ lw_all := lw_g (lw_at lw_m6 46 rfl) rfl
theorem q1337 : (Jvm.Cond.methodLink "WorkflowEngine" (185 : Nat) ({ cls := "java/lang/Math", name := "min", desc := "(II)I" } : Jvm.MethodName)) ∈ lw_all := lw_g (lw_at lw_m6 47 rfl) rfl
theorem q1339 : (Jvm.Cond.instanceMethod ({ cls := "WorkflowEngine", name := "running", desc := "(II)I" } : Jvm.MethodName)) ∈ lw_all := lw_g (lw_at lw_m6 49 rfl) rfl
theorem q1340 : (Jvm.Cond.selects "WorkflowEngine" ({ cls := "WorkflowEngine", name := "running", desc := "(II)I" } : Jvm.MethodName) ({ cls := "WorkflowEngine", name := "running", desc := "(II)I" } : Jvm.MethodName)) ∈ lw_all := lw_g (lw_at lw_m6 50 rfl) rfl
theorem q1341 : (Jvm.Cond.code ({ cls := "WorkflowEngine", name := "running", desc := "(II)I" } : Jvm.MethodName) prog_1_method_21_code (5 : Nat) (Option.some Jvm.ClassFile.FieldType.int)) ∈ lw_all := lw_g (lw_at lw_m6 51 rfl) rfl
theorem q1342 : (Jvm.Cond.classLink "WorkflowEngine" (194 : Nat) "WorkflowEngine$Places") ∈ lw_all := lw_g (lw_at lw_m6 52 rfl) rfl
theorem q1344 : (Jvm.Cond.methodLinkNest "WorkflowEngine" (196 : Nat) ({ cls := "WorkflowEngine$Places", name := "<init>", desc := "()V" } : Jvm.MethodName) "WorkflowEngine") ∈ lw_tbl := lw_at lw_m6 54 rfl
theorem q1349 : (Jvm.Cond.fieldLinkNest "WorkflowEngine" (206 : Nat) "WorkflowEngine$Places" "all" "[I" "WorkflowEngine") ∈ lw_tbl := lw_at lw_m6 59 rfl
theorem q1351 : (Jvm.Cond.fieldLinkNest "WorkflowEngine" (203 : Nat) "WorkflowEngine$Places" "many" "I" "WorkflowEngine") ∈ lw_tbl := lw_at lw_m6 61 rfl
theorem q1357 : (Jvm.Cond.methodLink "WorkflowEngine" (197 : Nat) ({ cls := "WorkflowEngine$Run", name := "lists", desc := "(LWorkflowEngine$Places;)V" } : Jvm.MethodName)) ∈ lw_all := lw_g (lw_at lw_m6 67 rfl) rfl
theorem q1386 : (Jvm.Cond.instanceMethod ({ cls := "WorkflowEngine", name := "due", desc := "(I)I" } : Jvm.MethodName)) ∈ lw_all := lw_g (lw_at lw_m6 96 rfl) rfl
theorem q1387 : (Jvm.Cond.selects "WorkflowEngine" ({ cls := "WorkflowEngine", name := "due", desc := "(I)I" } : Jvm.MethodName) ({ cls := "WorkflowEngine", name := "due", desc := "(I)I" } : Jvm.MethodName)) ∈ lw_all := lw_g (lw_at lw_m6 97 rfl) rfl
theorem q1388 : (Jvm.Cond.code ({ cls := "WorkflowEngine", name := "due", desc := "(I)I" } : Jvm.MethodName) prog_1_method_22_code (2 : Nat) (Option.some Jvm.ClassFile.FieldType.int)) ∈ lw_all := lw_g (lw_at lw_m6 98 rfl) rfl
theorem q1389 : (Jvm.Cond.methodLink "WorkflowEngine" (209 : Nat) ({ cls := "WorkflowEngine$Instance", name := "due", desc := "()I" } : Jvm.MethodName)) ∈ lw_all := lw_g (lw_at lw_m6 99 rfl) rfl
theorem q1422 : (Jvm.Cond.instanceMethod ({ cls := "WorkflowEngine", name := "ahead", desc := "(II)I" } : Jvm.MethodName)) ∈ lw_all := lw_g (lw_at lw_m6 132 rfl) rfl
theorem q1423 : (Jvm.Cond.selects "WorkflowEngine" ({ cls := "WorkflowEngine", name := "ahead", desc := "(II)I" } : Jvm.MethodName) ({ cls := "WorkflowEngine", name := "ahead", desc := "(II)I" } : Jvm.MethodName)) ∈ lw_all := lw_g (lw_at lw_m6 133 rfl) rfl
theorem q1424 : (Jvm.Cond.code ({ cls := "WorkflowEngine", name := "ahead", desc := "(II)I" } : Jvm.MethodName) prog_1_method_23_code (5 : Nat) (Option.some Jvm.ClassFile.FieldType.int)) ∈ lw_all := lw_g (lw_at lw_m6 134 rfl) rfl
theorem q1425 : (Jvm.Cond.methodLink "WorkflowEngine" (212 : Nat) ({ cls := "WorkflowEngine$Moment", name := "becomes", desc := "(LWorkflowEngine$Moment;)V" } : Jvm.MethodName)) ∈ lw_all := lw_g (lw_at lw_m6 135 rfl) rfl
theorem q1496 : (Jvm.Cond.instanceMethod ({ cls := "WorkflowEngine", name := "replayed", desc := "(II)I" } : Jvm.MethodName)) ∈ lw_all := lw_g (lw_at lw_m6 206 rfl) rfl
theorem q1497 : (Jvm.Cond.selects "WorkflowEngine" ({ cls := "WorkflowEngine", name := "replayed", desc := "(II)I" } : Jvm.MethodName) ({ cls := "WorkflowEngine", name := "replayed", desc := "(II)I" } : Jvm.MethodName)) ∈ lw_all := lw_g (lw_at lw_m6 207 rfl) rfl
theorem q1498 : (Jvm.Cond.code ({ cls := "WorkflowEngine", name := "replayed", desc := "(II)I" } : Jvm.MethodName) prog_1_method_24_code (3 : Nat) (Option.some Jvm.ClassFile.FieldType.int)) ∈ lw_all := lw_g (lw_at lw_m6 208 rfl) rfl
theorem q1499 : (Jvm.Cond.methodLink "WorkflowEngine" (216 : Nat) ({ cls := "WorkflowEngine$Instance", name := "replayed", desc := "(I)I" } : Jvm.MethodName)) ∈ lw_all := lw_g (lw_at lw_m6 209 rfl) rfl
theorem q1505 : (Jvm.Cond.instanceMethod ({ cls := "WorkflowEngine", name := "statistic", desc := "(II)I" } : Jvm.MethodName)) ∈ lw_all := lw_g (lw_at lw_m6 215 rfl) rfl
theorem q1506 : (Jvm.Cond.selects "WorkflowEngine" ({ cls := "WorkflowEngine", name := "statistic", desc := "(II)I" } : Jvm.MethodName) ({ cls := "WorkflowEngine", name := "statistic", desc := "(II)I" } : Jvm.MethodName)) ∈ lw_all := lw_g (lw_at lw_m6 216 rfl) rfl
theorem q1507 : (Jvm.Cond.code ({ cls := "WorkflowEngine", name := "statistic", desc := "(II)I" } : Jvm.MethodName) prog_1_method_28_code (3 : Nat) (Option.some Jvm.ClassFile.FieldType.int)) ∈ lw_all := lw_g (lw_at lw_m6 217 rfl) rfl
theorem q1508 : (Jvm.Cond.methodLink "WorkflowEngine" (228 : Nat) ({ cls := "WorkflowEngine", name := "withStatus", desc := "(II)I" } : Jvm.MethodName)) ∈ lw_all := lw_g (lw_at lw_m6 218 rfl) rfl
theorem q1509 : (Jvm.Cond.privateMethod ({ cls := "WorkflowEngine", name := "withStatus", desc := "(II)I" } : Jvm.MethodName)) ∈ lw_tbl := lw_at lw_m6 219 rfl
theorem q1510 : (Jvm.Cond.instanceMethod ({ cls := "WorkflowEngine", name := "withStatus", desc := "(II)I" } : Jvm.MethodName)) ∈ lw_all := lw_g (lw_at lw_m6 220 rfl) rfl
theorem q1511 : (Jvm.Cond.code ({ cls := "WorkflowEngine", name := "withStatus", desc := "(II)I" } : Jvm.MethodName) prog_1_method_26_code (5 : Nat) (Option.some Jvm.ClassFile.FieldType.int)) ∈ lw_all := lw_g (lw_at lw_m6 221 rfl) rfl
theorem q1512 : (Jvm.Cond.methodLink "WorkflowEngine" (220 : Nat) ({ cls := "WorkflowEngine", name := "isOf", desc := "(II)Z" } : Jvm.MethodName)) ∈ lw_all := lw_g (lw_at lw_m6 222 rfl) rfl
theorem q1513 : (Jvm.Cond.privateMethod ({ cls := "WorkflowEngine", name := "isOf", desc := "(II)Z" } : Jvm.MethodName)) ∈ lw_tbl := lw_at lw_m6 223 rfl
theorem q1514 : (Jvm.Cond.instanceMethod ({ cls := "WorkflowEngine", name := "isOf", desc := "(II)Z" } : Jvm.MethodName)) ∈ lw_all := lw_g (lw_at lw_m6 224 rfl) rfl
theorem q1515 : (Jvm.Cond.code ({ cls := "WorkflowEngine", name := "isOf", desc := "(II)Z" } : Jvm.MethodName) prog_1_method_25_code (3 : Nat) (Option.some Jvm.ClassFile.FieldType.boolean)) ∈ lw_all := lw_g (lw_at lw_m6 225 rfl) rfl
theorem q1516 : (Jvm.Cond.methodLink "WorkflowEngine" (224 : Nat) ({ cls := "WorkflowEngine", name := "bit", desc := "(Z)I" } : Jvm.MethodName)) ∈ lw_all := lw_g (lw_at lw_m6 226 rfl) rfl
theorem q1517 : (Jvm.Cond.methodLink "WorkflowEngine" (237 : Nat) ({ cls := "WorkflowEngine", name := "ratio", desc := "(IZ)I" } : Jvm.MethodName)) ∈ lw_all := lw_g (lw_at lw_m6 227 rfl) rfl
theorem q1518 : (Jvm.Cond.privateMethod ({ cls := "WorkflowEngine", name := "ratio", desc := "(IZ)I" } : Jvm.MethodName)) ∈ lw_tbl := lw_at lw_m6 228 rfl
theorem q1519 : (Jvm.Cond.instanceMethod ({ cls := "WorkflowEngine", name := "ratio", desc := "(IZ)I" } : Jvm.MethodName)) ∈ lw_all := lw_g (lw_at lw_m6 229 rfl) rfl
theorem q1520 : (Jvm.Cond.code ({ cls := "WorkflowEngine", name := "ratio", desc := "(IZ)I" } : Jvm.MethodName) prog_1_method_27_code (6 : Nat) (Option.some Jvm.ClassFile.FieldType.int)) ∈ lw_all := lw_g (lw_at lw_m6 230 rfl) rfl
theorem q1521 : (Jvm.Cond.methodLink "WorkflowEngine" (231 : Nat) ({ cls := "java/lang/Float", name := "floatToIntBits", desc := "(F)I" } : Jvm.MethodName)) ∈ lw_all := lw_g (lw_at lw_m6 231 rfl) rfl
theorem q1532 : (Jvm.Cond.instanceMethod ({ cls := "WorkflowEngine", name := "image", desc := "()I" } : Jvm.MethodName)) ∈ lw_all := lw_g (lw_at lw_m7 2 rfl) rfl
theorem q1533 : (Jvm.Cond.selects "WorkflowEngine" ({ cls := "WorkflowEngine", name := "image", desc := "()I" } : Jvm.MethodName) ({ cls := "WorkflowEngine", name := "image", desc := "()I" } : Jvm.MethodName)) ∈ lw_all := lw_g (lw_at lw_m7 3 rfl) rfl
theorem q1534 : (Jvm.Cond.code ({ cls := "WorkflowEngine", name := "image", desc := "()I" } : Jvm.MethodName) prog_1_method_29_code (1 : Nat) (Option.some Jvm.ClassFile.FieldType.int)) ∈ lw_all := lw_g (lw_at lw_m7 4 rfl) rfl
theorem q1535 : (Jvm.Cond.classLink "WorkflowEngine" (241 : Nat) "WorkflowEngine$Image") ∈ lw_all := lw_g (lw_at lw_m7 5 rfl) rfl
theorem q1537 : (Jvm.Cond.methodLink "WorkflowEngine" (243 : Nat) ({ cls := "WorkflowEngine$Image", name := "<init>", desc := "(LWorkflowEngine;)V" } : Jvm.MethodName)) ∈ lw_all := lw_g (lw_at lw_m7 7 rfl) rfl
theorem q1567 : (Jvm.Cond.methodLink "WorkflowEngine" (248 : Nat) ({ cls := "WorkflowEngine$Moment", name := "many", desc := "(I)I" } : Jvm.MethodName)) ∈ lw_all := lw_g (lw_at lw_m7 37 rfl) rfl
theorem q1572 : (Jvm.Cond.instanceMethod ({ cls := "WorkflowEngine", name := "undo", desc := "()I" } : Jvm.MethodName)) ∈ lw_all := lw_g (lw_at lw_m7 42 rfl) rfl
theorem q1573 : (Jvm.Cond.selects "WorkflowEngine" ({ cls := "WorkflowEngine", name := "undo", desc := "()I" } : Jvm.MethodName) ({ cls := "WorkflowEngine", name := "undo", desc := "()I" } : Jvm.MethodName)) ∈ lw_all := lw_g (lw_at lw_m7 43 rfl) rfl
theorem q1574 : (Jvm.Cond.code ({ cls := "WorkflowEngine", name := "undo", desc := "()I" } : Jvm.MethodName) prog_1_method_30_code (1 : Nat) (Option.some Jvm.ClassFile.FieldType.int)) ∈ lw_all := lw_g (lw_at lw_m7 44 rfl) rfl
theorem q1575 : (Jvm.Cond.methodLink "WorkflowEngine" (250 : Nat) ({ cls := "WorkflowEngine$Image", name := "laysBack", desc := "()V" } : Jvm.MethodName)) ∈ lw_all := lw_g (lw_at lw_m7 45 rfl) rfl
theorem q1581 : (Jvm.Cond.instanceMethod ({ cls := "WorkflowEngine", name := "count", desc := "(I)I" } : Jvm.MethodName)) ∈ lw_all := lw_g (lw_at lw_m7 51 rfl) rfl
theorem q1582 : (Jvm.Cond.selects "WorkflowEngine" ({ cls := "WorkflowEngine", name := "count", desc := "(I)I" } : Jvm.MethodName) ({ cls := "WorkflowEngine", name := "count", desc := "(I)I" } : Jvm.MethodName)) ∈ lw_all := lw_g (lw_at lw_m7 52 rfl) rfl
theorem q1583 : (Jvm.Cond.code ({ cls := "WorkflowEngine", name := "count", desc := "(I)I" } : Jvm.MethodName) prog_1_method_32_code (2 : Nat) (Option.some Jvm.ClassFile.FieldType.int)) ∈ lw_all := lw_g (lw_at lw_m7 53 rfl) rfl
theorem q1584 : (Jvm.Cond.methodLink "WorkflowEngine" (253 : Nat) ({ cls := "WorkflowEngine", name := "allVersions", desc := "()I" } : Jvm.MethodName)) ∈ lw_all := lw_g (lw_at lw_m7 54 rfl) rfl
theorem q1585 : (Jvm.Cond.privateMethod ({ cls := "WorkflowEngine", name := "allVersions", desc := "()I" } : Jvm.MethodName)) ∈ lw_tbl := lw_at lw_m7 55 rfl
theorem q1586 : (Jvm.Cond.instanceMethod ({ cls := "WorkflowEngine", name := "allVersions", desc := "()I" } : Jvm.MethodName)) ∈ lw_all := lw_g (lw_at lw_m7 56 rfl) rfl
theorem q1587 : (Jvm.Cond.code ({ cls := "WorkflowEngine", name := "allVersions", desc := "()I" } : Jvm.MethodName) prog_1_method_31_code (6 : Nat) (Option.some Jvm.ClassFile.FieldType.int)) ∈ lw_all := lw_g (lw_at lw_m7 57 rfl) rfl
theorem q2006 : (Jvm.Cond.castable "WorkflowEngine" "java/lang/Object") ∈ lw_tbl := lw_at lw_m8 236 rfl
theorem in_X0 : ∀ w ∈ wsX00, w ∈ lw_all := lw_in wsX00 [775, 777, 779, 781, 783, 785, 787] (by decide +kernel) (by decide +kernel)
def RX1 : String := "WorkflowEngine$Moment"
def TX1 : u_T := fun k => match k with
  | 0 => ("WorkflowEngine$Moment", "durations", "[I", true)
  | 1 => ("WorkflowEngine$Moment", "failures", "[I", true)
  | 2 => ("WorkflowEngine$Moment", "instances", "[LWorkflowEngine$Instance;", true)
  | 3 => ("WorkflowEngine$Moment", "minute", "I", false)
  | _ => ("WorkflowEngine$Moment", "this$0", "LWorkflowEngine;", true)
def tyX1 : Nat → FieldType := fun k => match k with
  | 0 => .array .int
  | 1 => .array .int
  | 2 => .array (.object "WorkflowEngine$Instance")
  | 3 => .int
  | _ => .object "WorkflowEngine"
abbrev wsX10 : List Cond := u_ws RX1 TX1 5
theorem nmX1 : ∀ a, a < 5 → ∀ b, b < 5 → a ≠ b → (TX1 a).2.1 ≠ (TX1 b).2.1 := by decide +kernel
theorem tyX1_ok : ∀ k, k < 5 → parseFieldDescriptor (TX1 k).2.2.1 = some (tyX1 k) := by decide +kernel
abbrev cX1_init : ByteArray := prog_14_method_1_code
def yX1_init : MethodName := ⟨RX1, "<init>", "(LWorkflowEngine;)V"⟩
abbrev cX1_fails : ByteArray := prog_14_method_3_code
def yX1_fails : MethodName := ⟨RX1, "fails", "(I)Z"⟩
abbrev cX1_steps : ByteArray := prog_14_method_4_code
def yX1_steps : MethodName := ⟨RX1, "steps", "()V"⟩
abbrev cX1_becomes : ByteArray := prog_14_method_2_code
def yX1_becomes : MethodName := ⟨RX1, "becomes", "(LWorkflowEngine$Moment;)V"⟩
abbrev cX1_many : ByteArray := prog_14_method_5_code
def yX1_many : MethodName := ⟨RX1, "many", "(I)I"⟩
theorem q92 : (Jvm.Cond.initialized "WorkflowEngine$Moment") ∈ lw_all := lw_g (lw_at lw_m1 2 rfl) rfl
theorem q526 : (Jvm.Cond.selects "WorkflowEngine$Moment" ({ cls := "java/lang/Object", name := "getClass", desc := "()Ljava/lang/Class;" } : Jvm.MethodName) ({ cls := "java/lang/Object", name := "getClass", desc := "()Ljava/lang/Class;" } : Jvm.MethodName)) ∈ lw_all := lw_g (lw_at lw_m2 196 rfl) rfl
theorem q726 : (Jvm.Cond.instantiable "WorkflowEngine$Moment" (5 : Nat)) ∈ lw_all := lw_g (lw_at lw_m3 156 rfl) rfl
theorem q728 : (Jvm.Cond.instanceMethod ({ cls := "WorkflowEngine$Moment", name := "<init>", desc := "(LWorkflowEngine;)V" } : Jvm.MethodName)) ∈ lw_all := lw_g (lw_at lw_m3 158 rfl) rfl
theorem q729 : (Jvm.Cond.code ({ cls := "WorkflowEngine$Moment", name := "<init>", desc := "(LWorkflowEngine;)V" } : Jvm.MethodName) prog_14_method_1_code (2 : Nat) (Option.none : Option Jvm.ClassFile.FieldType)) ∈ lw_all := lw_g (lw_at lw_m3 159 rfl) rfl
theorem q730 : (Jvm.Cond.methodLink "WorkflowEngine$Moment" (9 : Nat) ({ cls := "java/lang/Object", name := "<init>", desc := "()V" } : Jvm.MethodName)) ∈ lw_all := lw_g (lw_at lw_m3 160 rfl) rfl
theorem q731 : (Jvm.Cond.classLink "WorkflowEngine$Moment" (22 : Nat) "WorkflowEngine$Instance") ∈ lw_all := lw_g (lw_at lw_m3 161 rfl) rfl
theorem q733 : (Jvm.Cond.fieldLink "WorkflowEngine$Moment" (15 : Nat) "WorkflowEngine$Moment" "durations" "[I") ∈ lw_all := lw_g (lw_at lw_m3 163 rfl) rfl
theorem q737 : (Jvm.Cond.fieldLink "WorkflowEngine$Moment" (19 : Nat) "WorkflowEngine$Moment" "failures" "[I") ∈ lw_all := lw_g (lw_at lw_m3 167 rfl) rfl
theorem q739 : (Jvm.Cond.fieldLink "WorkflowEngine$Moment" (24 : Nat) "WorkflowEngine$Moment" "instances" "[LWorkflowEngine$Instance;") ∈ lw_all := lw_g (lw_at lw_m3 169 rfl) rfl
theorem q745 : (Jvm.Cond.fieldLink "WorkflowEngine$Moment" (28 : Nat) "WorkflowEngine$Moment" "minute" "I") ∈ lw_all := lw_g (lw_at lw_m3 175 rfl) rfl
theorem q748 : (Jvm.Cond.fieldLink "WorkflowEngine$Moment" (3 : Nat) "WorkflowEngine$Moment" "this$0" "LWorkflowEngine;") ∈ lw_all := lw_g (lw_at lw_m3 178 rfl) rfl
theorem q749 : (Jvm.Cond.laysFinal "WorkflowEngine$Moment" "WorkflowEngine$Moment" "durations" "[I") ∈ lw_all := lw_g (lw_at lw_m3 179 rfl) rfl
theorem q750 : (Jvm.Cond.soleField "WorkflowEngine$Moment" "durations") ∈ lw_all := lw_g (lw_at lw_m3 180 rfl) rfl
theorem q751 : (Jvm.Cond.laysFinal "WorkflowEngine$Moment" "WorkflowEngine$Moment" "failures" "[I") ∈ lw_all := lw_g (lw_at lw_m3 181 rfl) rfl
theorem q752 : (Jvm.Cond.soleField "WorkflowEngine$Moment" "failures") ∈ lw_all := lw_g (lw_at lw_m3 182 rfl) rfl
theorem q753 : (Jvm.Cond.laysFinal "WorkflowEngine$Moment" "WorkflowEngine$Moment" "instances" "[LWorkflowEngine$Instance;") ∈ lw_all := lw_g (lw_at lw_m3 183 rfl) rfl
theorem q754 : (Jvm.Cond.soleField "WorkflowEngine$Moment" "instances") ∈ lw_all := lw_g (lw_at lw_m3 184 rfl) rfl
theorem q755 : (Jvm.Cond.lays "WorkflowEngine$Moment" "WorkflowEngine$Moment" "minute" "I") ∈ lw_all := lw_g (lw_at lw_m3 185 rfl) rfl
theorem q756 : (Jvm.Cond.soleField "WorkflowEngine$Moment" "minute") ∈ lw_all := lw_g (lw_at lw_m3 186 rfl) rfl
theorem q757 : (Jvm.Cond.laysFinal "WorkflowEngine$Moment" "WorkflowEngine$Moment" "this$0" "LWorkflowEngine;") ∈ lw_all := lw_g (lw_at lw_m3 187 rfl) rfl
theorem q758 : (Jvm.Cond.soleField "WorkflowEngine$Moment" "this$0") ∈ lw_all := lw_g (lw_at lw_m3 188 rfl) rfl
theorem q759 : (Jvm.Cond.superclass "WorkflowEngine$Moment" "java/lang/Object") ∈ lw_all := lw_g (lw_at lw_m3 189 rfl) rfl
theorem q828 : (Jvm.Cond.fieldLinkNest "WorkflowEngine$Moment" (49 : Nat) "WorkflowEngine$Instance" "status" "I" "WorkflowEngine") ∈ lw_tbl := lw_at lw_m4 18 rfl
theorem q1146 : (Jvm.Cond.instanceMethod ({ cls := "WorkflowEngine$Moment", name := "fails", desc := "(I)Z" } : Jvm.MethodName)) ∈ lw_all := lw_g (lw_at lw_m5 96 rfl) rfl
theorem q1147 : (Jvm.Cond.selects "WorkflowEngine$Moment" ({ cls := "WorkflowEngine$Moment", name := "fails", desc := "(I)Z" } : Jvm.MethodName) ({ cls := "WorkflowEngine$Moment", name := "fails", desc := "(I)Z" } : Jvm.MethodName)) ∈ lw_all := lw_g (lw_at lw_m5 97 rfl) rfl
theorem q1148 : (Jvm.Cond.code ({ cls := "WorkflowEngine$Moment", name := "fails", desc := "(I)Z" } : Jvm.MethodName) prog_14_method_3_code (3 : Nat) (Option.some Jvm.ClassFile.FieldType.boolean)) ∈ lw_all := lw_g (lw_at lw_m5 98 rfl) rfl
theorem q1149 : (Jvm.Cond.methodLinkNest "WorkflowEngine$Moment" (42 : Nat) ({ cls := "WorkflowEngine", name := "bit", desc := "(Z)I" } : Jvm.MethodName) "WorkflowEngine") ∈ lw_tbl := lw_at lw_m5 99 rfl
theorem q1324 : (Jvm.Cond.instanceMethod ({ cls := "WorkflowEngine$Moment", name := "steps", desc := "()V" } : Jvm.MethodName)) ∈ lw_all := lw_g (lw_at lw_m6 34 rfl) rfl
theorem q1325 : (Jvm.Cond.selects "WorkflowEngine$Moment" ({ cls := "WorkflowEngine$Moment", name := "steps", desc := "()V" } : Jvm.MethodName) ({ cls := "WorkflowEngine$Moment", name := "steps", desc := "()V" } : Jvm.MethodName)) ∈ lw_all := lw_g (lw_at lw_m6 35 rfl) rfl
theorem q1326 : (Jvm.Cond.code ({ cls := "WorkflowEngine$Moment", name := "steps", desc := "()V" } : Jvm.MethodName) prog_14_method_4_code (2 : Nat) (Option.none : Option Jvm.ClassFile.FieldType)) ∈ lw_all := lw_g (lw_at lw_m6 36 rfl) rfl
theorem q1327 : (Jvm.Cond.methodLink "WorkflowEngine$Moment" (46 : Nat) ({ cls := "WorkflowEngine$Instance", name := "looks", desc := "()V" } : Jvm.MethodName)) ∈ lw_all := lw_g (lw_at lw_m6 37 rfl) rfl
theorem q1426 : (Jvm.Cond.instanceMethod ({ cls := "WorkflowEngine$Moment", name := "becomes", desc := "(LWorkflowEngine$Moment;)V" } : Jvm.MethodName)) ∈ lw_all := lw_g (lw_at lw_m6 136 rfl) rfl
theorem q1427 : (Jvm.Cond.selects "WorkflowEngine$Moment" ({ cls := "WorkflowEngine$Moment", name := "becomes", desc := "(LWorkflowEngine$Moment;)V" } : Jvm.MethodName) ({ cls := "WorkflowEngine$Moment", name := "becomes", desc := "(LWorkflowEngine$Moment;)V" } : Jvm.MethodName)) ∈ lw_all := lw_g (lw_at lw_m6 137 rfl) rfl
theorem q1428 : (Jvm.Cond.code ({ cls := "WorkflowEngine$Moment", name := "becomes", desc := "(LWorkflowEngine$Moment;)V" } : Jvm.MethodName) prog_14_method_2_code (3 : Nat) (Option.none : Option Jvm.ClassFile.FieldType)) ∈ lw_all := lw_g (lw_at lw_m6 138 rfl) rfl
theorem q1429 : (Jvm.Cond.methodLink "WorkflowEngine$Moment" (32 : Nat) ({ cls := "java/lang/System", name := "arraycopy", desc := "(Ljava/lang/Object;ILjava/lang/Object;II)V" } : Jvm.MethodName)) ∈ lw_all := lw_g (lw_at lw_m6 139 rfl) rfl
theorem q1430 : (Jvm.Cond.methodLink "WorkflowEngine$Moment" (38 : Nat) ({ cls := "WorkflowEngine$Instance", name := "copy", desc := "(LWorkflowEngine$Moment;)LWorkflowEngine$Instance;" } : Jvm.MethodName)) ∈ lw_all := lw_g (lw_at lw_m6 140 rfl) rfl
theorem q1568 : (Jvm.Cond.instanceMethod ({ cls := "WorkflowEngine$Moment", name := "many", desc := "(I)I" } : Jvm.MethodName)) ∈ lw_all := lw_g (lw_at lw_m7 38 rfl) rfl
theorem q1569 : (Jvm.Cond.selects "WorkflowEngine$Moment" ({ cls := "WorkflowEngine$Moment", name := "many", desc := "(I)I" } : Jvm.MethodName) ({ cls := "WorkflowEngine$Moment", name := "many", desc := "(I)I" } : Jvm.MethodName)) ∈ lw_all := lw_g (lw_at lw_m7 39 rfl) rfl
theorem q1570 : (Jvm.Cond.code ({ cls := "WorkflowEngine$Moment", name := "many", desc := "(I)I" } : Jvm.MethodName) prog_14_method_5_code (4 : Nat) (Option.some Jvm.ClassFile.FieldType.int)) ∈ lw_all := lw_g (lw_at lw_m7 40 rfl) rfl
theorem q2007 : (Jvm.Cond.castable "WorkflowEngine$Moment" "java/lang/Object") ∈ lw_tbl := lw_at lw_m8 237 rfl
theorem in_X1 : ∀ w ∈ wsX10, w ∈ lw_all := lw_in wsX10 [749, 751, 753, 755, 757] (by decide +kernel) (by decide +kernel)
def RX10 : String := "WorkflowEngine$Wait"
def TX10 : u_T := fun k => match k with
  | 0 => ("WorkflowEngine$Node", "place", "I", true)
  | _ => ("WorkflowEngine$Wait", "minutes", "I", true)
def tyX10 : Nat → FieldType := fun k => match k with
  | 0 => .int
  | _ => .int
abbrev wsX100 : List Cond := u_ws RX10 TX10 2
theorem nmX10 : ∀ a, a < 2 → ∀ b, b < 2 → a ≠ b → (TX10 a).2.1 ≠ (TX10 b).2.1 := by decide +kernel
theorem tyX10_ok : ∀ k, k < 2 → parseFieldDescriptor (TX10 k).2.2.1 = some (tyX10 k) := by decide +kernel
abbrev cX10_init : ByteArray := prog_30_method_1_code
def yX10_init : MethodName := ⟨RX10, "<init>", "(II)V"⟩
abbrev cX10_begins : ByteArray := prog_30_method_2_code
def yX10_begins : MethodName := ⟨RX10, "begins", "(LWorkflowEngine$Instance;)LWorkflowEngine$Run;"⟩
theorem q106 : (Jvm.Cond.initialized "WorkflowEngine$Wait") ∈ lw_all := lw_g (lw_at lw_m1 16 rfl) rfl
theorem q375 : (Jvm.Cond.sameField "WorkflowEngine$Wait" "WorkflowEngine$Node" "place" "I") ∈ lw_all := lw_g (lw_at lw_m2 45 rfl) rfl
theorem q390 : (Jvm.Cond.instantiable "WorkflowEngine$Wait" (2 : Nat)) ∈ lw_all := lw_g (lw_at lw_m2 60 rfl) rfl
theorem q392 : (Jvm.Cond.instanceMethod ({ cls := "WorkflowEngine$Wait", name := "<init>", desc := "(II)V" } : Jvm.MethodName)) ∈ lw_all := lw_g (lw_at lw_m2 62 rfl) rfl
theorem q393 : (Jvm.Cond.code ({ cls := "WorkflowEngine$Wait", name := "<init>", desc := "(II)V" } : Jvm.MethodName) prog_30_method_1_code (3 : Nat) (Option.none : Option Jvm.ClassFile.FieldType)) ∈ lw_all := lw_g (lw_at lw_m2 63 rfl) rfl
theorem q394 : (Jvm.Cond.methodLink "WorkflowEngine$Wait" (1 : Nat) ({ cls := "WorkflowEngine$Node", name := "<init>", desc := "(I)V" } : Jvm.MethodName)) ∈ lw_all := lw_g (lw_at lw_m2 64 rfl) rfl
theorem q395 : (Jvm.Cond.fieldLink "WorkflowEngine$Wait" (7 : Nat) "WorkflowEngine$Wait" "minutes" "I") ∈ lw_all := lw_g (lw_at lw_m2 65 rfl) rfl
theorem q397 : (Jvm.Cond.laysFinal "WorkflowEngine$Wait" "WorkflowEngine$Wait" "minutes" "I") ∈ lw_all := lw_g (lw_at lw_m2 67 rfl) rfl
theorem q398 : (Jvm.Cond.soleField "WorkflowEngine$Wait" "minutes") ∈ lw_all := lw_g (lw_at lw_m2 68 rfl) rfl
theorem q399 : (Jvm.Cond.laysFinal "WorkflowEngine$Wait" "WorkflowEngine$Node" "place" "I") ∈ lw_all := lw_g (lw_at lw_m2 69 rfl) rfl
theorem q400 : (Jvm.Cond.superclass "WorkflowEngine$Wait" "WorkflowEngine$Node") ∈ lw_all := lw_g (lw_at lw_m2 70 rfl) rfl
theorem q539 : (Jvm.Cond.selects "WorkflowEngine$Wait" ({ cls := "java/lang/Object", name := "getClass", desc := "()Ljava/lang/Class;" } : Jvm.MethodName) ({ cls := "java/lang/Object", name := "getClass", desc := "()Ljava/lang/Class;" } : Jvm.MethodName)) ∈ lw_all := lw_g (lw_at lw_m2 209 rfl) rfl
theorem q685 : (Jvm.Cond.selects "WorkflowEngine$Wait" ({ cls := "WorkflowEngine$Node", name := "depth", desc := "()I" } : Jvm.MethodName) ({ cls := "WorkflowEngine$Node", name := "depth", desc := "()I" } : Jvm.MethodName)) ∈ lw_all := lw_g (lw_at lw_m3 115 rfl) rfl
theorem q706 : (Jvm.Cond.selects "WorkflowEngine$Wait" ({ cls := "WorkflowEngine$Node", name := "width", desc := "()I" } : Jvm.MethodName) ({ cls := "WorkflowEngine$Node", name := "width", desc := "()I" } : Jvm.MethodName)) ∈ lw_all := lw_g (lw_at lw_m3 136 rfl) rfl
theorem q1089 : (Jvm.Cond.selects "WorkflowEngine$Wait" ({ cls := "WorkflowEngine$Node", name := "begins", desc := "(LWorkflowEngine$Instance;)LWorkflowEngine$Run;" } : Jvm.MethodName) ({ cls := "WorkflowEngine$Wait", name := "begins", desc := "(LWorkflowEngine$Instance;)LWorkflowEngine$Run;" } : Jvm.MethodName)) ∈ lw_all := lw_g (lw_at lw_m5 39 rfl) rfl
theorem q1090 : (Jvm.Cond.instanceMethod ({ cls := "WorkflowEngine$Wait", name := "begins", desc := "(LWorkflowEngine$Instance;)LWorkflowEngine$Run;" } : Jvm.MethodName)) ∈ lw_all := lw_g (lw_at lw_m5 40 rfl) rfl
theorem q1091 : (Jvm.Cond.code ({ cls := "WorkflowEngine$Wait", name := "begins", desc := "(LWorkflowEngine$Instance;)LWorkflowEngine$Run;" } : Jvm.MethodName) prog_30_method_2_code (2 : Nat) (Option.some (Jvm.ClassFile.FieldType.object "WorkflowEngine$Run"))) ∈ lw_all := lw_g (lw_at lw_m5 41 rfl) rfl
theorem q1092 : (Jvm.Cond.classLink "WorkflowEngine$Wait" (13 : Nat) "WorkflowEngine$WaitRun") ∈ lw_all := lw_g (lw_at lw_m5 42 rfl) rfl
theorem q1094 : (Jvm.Cond.methodLink "WorkflowEngine$Wait" (15 : Nat) ({ cls := "WorkflowEngine$Instance", name := "engine", desc := "()LWorkflowEngine;" } : Jvm.MethodName)) ∈ lw_all := lw_g (lw_at lw_m5 44 rfl) rfl
theorem q1095 : (Jvm.Cond.methodLink "WorkflowEngine$Wait" (21 : Nat) ({ cls := "java/util/Objects", name := "requireNonNull", desc := "(Ljava/lang/Object;)Ljava/lang/Object;" } : Jvm.MethodName)) ∈ lw_all := lw_g (lw_at lw_m5 45 rfl) rfl
theorem q1096 : (Jvm.Cond.methodLink "WorkflowEngine$Wait" (27 : Nat) ({ cls := "WorkflowEngine$WaitRun", name := "<init>", desc := "(LWorkflowEngine;LWorkflowEngine$Instance;LWorkflowEngine$Wait;)V" } : Jvm.MethodName)) ∈ lw_all := lw_g (lw_at lw_m5 46 rfl) rfl
theorem q2001 : (Jvm.Cond.castable "WorkflowEngine$Wait" "WorkflowEngine$Node") ∈ lw_tbl := lw_at lw_m8 231 rfl
theorem q2015 : (Jvm.Cond.castable "WorkflowEngine$Wait" "java/lang/Object") ∈ lw_tbl := lw_at lw_m9 5 rfl
theorem in_X10 : ∀ w ∈ wsX100, w ∈ lw_all := lw_in wsX100 [399, 397] (by decide +kernel) (by decide +kernel)
def RX11 : String := "WorkflowEngine$Await"
def TX11 : u_T := fun k => match k with
  | 0 => ("WorkflowEngine$Node", "place", "I", true)
  | 1 => ("WorkflowEngine$Await", "code", "I", true)
  | _ => ("WorkflowEngine$Await", "minutes", "I", true)
def tyX11 : Nat → FieldType := fun k => match k with
  | 0 => .int
  | 1 => .int
  | _ => .int
abbrev wsX110 : List Cond := u_ws RX11 TX11 3
theorem nmX11 : ∀ a, a < 3 → ∀ b, b < 3 → a ≠ b → (TX11 a).2.1 ≠ (TX11 b).2.1 := by decide +kernel
theorem tyX11_ok : ∀ k, k < 3 → parseFieldDescriptor (TX11 k).2.2.1 = some (tyX11 k) := by decide +kernel
abbrev cX11_init : ByteArray := prog_4_method_1_code
def yX11_init : MethodName := ⟨RX11, "<init>", "(III)V"⟩
abbrev cX11_begins : ByteArray := prog_4_method_2_code
def yX11_begins : MethodName := ⟨RX11, "begins", "(LWorkflowEngine$Instance;)LWorkflowEngine$Run;"⟩
theorem q107 : (Jvm.Cond.initialized "WorkflowEngine$Await") ∈ lw_all := lw_g (lw_at lw_m1 17 rfl) rfl
theorem q373 : (Jvm.Cond.sameField "WorkflowEngine$Await" "WorkflowEngine$Node" "place" "I") ∈ lw_all := lw_g (lw_at lw_m2 43 rfl) rfl
theorem q402 : (Jvm.Cond.instantiable "WorkflowEngine$Await" (3 : Nat)) ∈ lw_all := lw_g (lw_at lw_m2 72 rfl) rfl
theorem q404 : (Jvm.Cond.instanceMethod ({ cls := "WorkflowEngine$Await", name := "<init>", desc := "(III)V" } : Jvm.MethodName)) ∈ lw_all := lw_g (lw_at lw_m2 74 rfl) rfl
theorem q405 : (Jvm.Cond.code ({ cls := "WorkflowEngine$Await", name := "<init>", desc := "(III)V" } : Jvm.MethodName) prog_4_method_1_code (4 : Nat) (Option.none : Option Jvm.ClassFile.FieldType)) ∈ lw_all := lw_g (lw_at lw_m2 75 rfl) rfl
theorem q406 : (Jvm.Cond.methodLink "WorkflowEngine$Await" (1 : Nat) ({ cls := "WorkflowEngine$Node", name := "<init>", desc := "(I)V" } : Jvm.MethodName)) ∈ lw_all := lw_g (lw_at lw_m2 76 rfl) rfl
theorem q407 : (Jvm.Cond.fieldLink "WorkflowEngine$Await" (7 : Nat) "WorkflowEngine$Await" "code" "I") ∈ lw_all := lw_g (lw_at lw_m2 77 rfl) rfl
theorem q409 : (Jvm.Cond.fieldLink "WorkflowEngine$Await" (13 : Nat) "WorkflowEngine$Await" "minutes" "I") ∈ lw_all := lw_g (lw_at lw_m2 79 rfl) rfl
theorem q411 : (Jvm.Cond.laysFinal "WorkflowEngine$Await" "WorkflowEngine$Await" "code" "I") ∈ lw_all := lw_g (lw_at lw_m2 81 rfl) rfl
theorem q412 : (Jvm.Cond.soleField "WorkflowEngine$Await" "code") ∈ lw_all := lw_g (lw_at lw_m2 82 rfl) rfl
theorem q413 : (Jvm.Cond.laysFinal "WorkflowEngine$Await" "WorkflowEngine$Await" "minutes" "I") ∈ lw_all := lw_g (lw_at lw_m2 83 rfl) rfl
theorem q414 : (Jvm.Cond.soleField "WorkflowEngine$Await" "minutes") ∈ lw_all := lw_g (lw_at lw_m2 84 rfl) rfl
theorem q415 : (Jvm.Cond.laysFinal "WorkflowEngine$Await" "WorkflowEngine$Node" "place" "I") ∈ lw_all := lw_g (lw_at lw_m2 85 rfl) rfl
theorem q416 : (Jvm.Cond.superclass "WorkflowEngine$Await" "WorkflowEngine$Node") ∈ lw_all := lw_g (lw_at lw_m2 86 rfl) rfl
theorem q516 : (Jvm.Cond.selects "WorkflowEngine$Await" ({ cls := "java/lang/Object", name := "getClass", desc := "()Ljava/lang/Class;" } : Jvm.MethodName) ({ cls := "java/lang/Object", name := "getClass", desc := "()Ljava/lang/Class;" } : Jvm.MethodName)) ∈ lw_all := lw_g (lw_at lw_m2 186 rfl) rfl
theorem q670 : (Jvm.Cond.selects "WorkflowEngine$Await" ({ cls := "WorkflowEngine$Node", name := "depth", desc := "()I" } : Jvm.MethodName) ({ cls := "WorkflowEngine$Node", name := "depth", desc := "()I" } : Jvm.MethodName)) ∈ lw_all := lw_g (lw_at lw_m3 100 rfl) rfl
theorem q696 : (Jvm.Cond.selects "WorkflowEngine$Await" ({ cls := "WorkflowEngine$Node", name := "width", desc := "()I" } : Jvm.MethodName) ({ cls := "WorkflowEngine$Node", name := "width", desc := "()I" } : Jvm.MethodName)) ∈ lw_all := lw_g (lw_at lw_m3 126 rfl) rfl
theorem q992 : (Jvm.Cond.selects "WorkflowEngine$Await" ({ cls := "WorkflowEngine$Node", name := "begins", desc := "(LWorkflowEngine$Instance;)LWorkflowEngine$Run;" } : Jvm.MethodName) ({ cls := "WorkflowEngine$Await", name := "begins", desc := "(LWorkflowEngine$Instance;)LWorkflowEngine$Run;" } : Jvm.MethodName)) ∈ lw_all := lw_g (lw_at lw_m4 182 rfl) rfl
theorem q993 : (Jvm.Cond.instanceMethod ({ cls := "WorkflowEngine$Await", name := "begins", desc := "(LWorkflowEngine$Instance;)LWorkflowEngine$Run;" } : Jvm.MethodName)) ∈ lw_all := lw_g (lw_at lw_m4 183 rfl) rfl
theorem q994 : (Jvm.Cond.code ({ cls := "WorkflowEngine$Await", name := "begins", desc := "(LWorkflowEngine$Instance;)LWorkflowEngine$Run;" } : Jvm.MethodName) prog_4_method_2_code (2 : Nat) (Option.some (Jvm.ClassFile.FieldType.object "WorkflowEngine$Run"))) ∈ lw_all := lw_g (lw_at lw_m4 184 rfl) rfl
theorem q995 : (Jvm.Cond.classLink "WorkflowEngine$Await" (16 : Nat) "WorkflowEngine$AwaitRun") ∈ lw_all := lw_g (lw_at lw_m4 185 rfl) rfl
theorem q997 : (Jvm.Cond.methodLink "WorkflowEngine$Await" (18 : Nat) ({ cls := "WorkflowEngine$Instance", name := "engine", desc := "()LWorkflowEngine;" } : Jvm.MethodName)) ∈ lw_all := lw_g (lw_at lw_m4 187 rfl) rfl
theorem q998 : (Jvm.Cond.methodLink "WorkflowEngine$Await" (24 : Nat) ({ cls := "java/util/Objects", name := "requireNonNull", desc := "(Ljava/lang/Object;)Ljava/lang/Object;" } : Jvm.MethodName)) ∈ lw_all := lw_g (lw_at lw_m4 188 rfl) rfl
theorem q999 : (Jvm.Cond.methodLink "WorkflowEngine$Await" (30 : Nat) ({ cls := "WorkflowEngine$AwaitRun", name := "<init>", desc := "(LWorkflowEngine;LWorkflowEngine$Instance;LWorkflowEngine$Await;)V" } : Jvm.MethodName)) ∈ lw_all := lw_g (lw_at lw_m4 189 rfl) rfl
theorem q1997 : (Jvm.Cond.castable "WorkflowEngine$Await" "WorkflowEngine$Node") ∈ lw_tbl := lw_at lw_m8 227 rfl
theorem q2016 : (Jvm.Cond.castable "WorkflowEngine$Await" "java/lang/Object") ∈ lw_tbl := lw_at lw_m9 6 rfl
theorem in_X11 : ∀ w ∈ wsX110, w ∈ lw_all := lw_in wsX110 [415, 411, 413] (by decide +kernel) (by decide +kernel)
def RX12 : String := "WorkflowEngine$Assign"
def TX12 : u_T := fun k => match k with
  | 0 => ("WorkflowEngine$Node", "place", "I", true)
  | 1 => ("WorkflowEngine$Assign", "variable", "I", true)
  | 2 => ("WorkflowEngine$Assign", "isAdded", "Z", true)
  | _ => ("WorkflowEngine$Assign", "value", "I", true)
def tyX12 : Nat → FieldType := fun k => match k with
  | 0 => .int
  | 1 => .int
  | 2 => .boolean
  | _ => .int
abbrev wsX120 : List Cond := u_ws RX12 TX12 4
theorem nmX12 : ∀ a, a < 4 → ∀ b, b < 4 → a ≠ b → (TX12 a).2.1 ≠ (TX12 b).2.1 := by decide +kernel
theorem tyX12_ok : ∀ k, k < 4 → parseFieldDescriptor (TX12 k).2.2.1 = some (tyX12 k) := by decide +kernel
abbrev cX12_init : ByteArray := prog_2_method_1_code
def yX12_init : MethodName := ⟨RX12, "<init>", "(IIZI)V"⟩
abbrev cX12_begins : ByteArray := prog_2_method_2_code
def yX12_begins : MethodName := ⟨RX12, "begins", "(LWorkflowEngine$Instance;)LWorkflowEngine$Run;"⟩
theorem q108 : (Jvm.Cond.initialized "WorkflowEngine$Assign") ∈ lw_all := lw_g (lw_at lw_m1 18 rfl) rfl
theorem q422 : (Jvm.Cond.instantiable "WorkflowEngine$Assign" (4 : Nat)) ∈ lw_all := lw_g (lw_at lw_m2 92 rfl) rfl
theorem q428 : (Jvm.Cond.instanceMethod ({ cls := "WorkflowEngine$Assign", name := "<init>", desc := "(IIZI)V" } : Jvm.MethodName)) ∈ lw_all := lw_g (lw_at lw_m2 98 rfl) rfl
theorem q429 : (Jvm.Cond.code ({ cls := "WorkflowEngine$Assign", name := "<init>", desc := "(IIZI)V" } : Jvm.MethodName) prog_2_method_1_code (5 : Nat) (Option.none : Option Jvm.ClassFile.FieldType)) ∈ lw_all := lw_g (lw_at lw_m2 99 rfl) rfl
theorem q430 : (Jvm.Cond.methodLink "WorkflowEngine$Assign" (1 : Nat) ({ cls := "WorkflowEngine$Node", name := "<init>", desc := "(I)V" } : Jvm.MethodName)) ∈ lw_all := lw_g (lw_at lw_m2 100 rfl) rfl
theorem q431 : (Jvm.Cond.fieldLink "WorkflowEngine$Assign" (7 : Nat) "WorkflowEngine$Assign" "variable" "I") ∈ lw_all := lw_g (lw_at lw_m2 101 rfl) rfl
theorem q433 : (Jvm.Cond.fieldLink "WorkflowEngine$Assign" (13 : Nat) "WorkflowEngine$Assign" "isAdded" "Z") ∈ lw_all := lw_g (lw_at lw_m2 103 rfl) rfl
theorem q435 : (Jvm.Cond.fieldLink "WorkflowEngine$Assign" (17 : Nat) "WorkflowEngine$Assign" "value" "I") ∈ lw_all := lw_g (lw_at lw_m2 105 rfl) rfl
theorem q437 : (Jvm.Cond.laysFinal "WorkflowEngine$Assign" "WorkflowEngine$Assign" "variable" "I") ∈ lw_all := lw_g (lw_at lw_m2 107 rfl) rfl
theorem q438 : (Jvm.Cond.soleField "WorkflowEngine$Assign" "variable") ∈ lw_all := lw_g (lw_at lw_m2 108 rfl) rfl
theorem q439 : (Jvm.Cond.laysFinal "WorkflowEngine$Assign" "WorkflowEngine$Assign" "isAdded" "Z") ∈ lw_all := lw_g (lw_at lw_m2 109 rfl) rfl
theorem q440 : (Jvm.Cond.soleField "WorkflowEngine$Assign" "isAdded") ∈ lw_all := lw_g (lw_at lw_m2 110 rfl) rfl
theorem q441 : (Jvm.Cond.laysFinal "WorkflowEngine$Assign" "WorkflowEngine$Assign" "value" "I") ∈ lw_all := lw_g (lw_at lw_m2 111 rfl) rfl
theorem q442 : (Jvm.Cond.soleField "WorkflowEngine$Assign" "value") ∈ lw_all := lw_g (lw_at lw_m2 112 rfl) rfl
theorem q443 : (Jvm.Cond.laysFinal "WorkflowEngine$Assign" "WorkflowEngine$Node" "place" "I") ∈ lw_all := lw_g (lw_at lw_m2 113 rfl) rfl
theorem q444 : (Jvm.Cond.superclass "WorkflowEngine$Assign" "WorkflowEngine$Node") ∈ lw_all := lw_g (lw_at lw_m2 114 rfl) rfl
theorem q514 : (Jvm.Cond.selects "WorkflowEngine$Assign" ({ cls := "java/lang/Object", name := "getClass", desc := "()Ljava/lang/Class;" } : Jvm.MethodName) ({ cls := "java/lang/Object", name := "getClass", desc := "()Ljava/lang/Class;" } : Jvm.MethodName)) ∈ lw_all := lw_g (lw_at lw_m2 184 rfl) rfl
theorem q669 : (Jvm.Cond.selects "WorkflowEngine$Assign" ({ cls := "WorkflowEngine$Node", name := "depth", desc := "()I" } : Jvm.MethodName) ({ cls := "WorkflowEngine$Node", name := "depth", desc := "()I" } : Jvm.MethodName)) ∈ lw_all := lw_g (lw_at lw_m3 99 rfl) rfl
theorem q695 : (Jvm.Cond.selects "WorkflowEngine$Assign" ({ cls := "WorkflowEngine$Node", name := "width", desc := "()I" } : Jvm.MethodName) ({ cls := "WorkflowEngine$Node", name := "width", desc := "()I" } : Jvm.MethodName)) ∈ lw_all := lw_g (lw_at lw_m3 125 rfl) rfl
theorem q967 : (Jvm.Cond.selects "WorkflowEngine$Assign" ({ cls := "WorkflowEngine$Node", name := "begins", desc := "(LWorkflowEngine$Instance;)LWorkflowEngine$Run;" } : Jvm.MethodName) ({ cls := "WorkflowEngine$Assign", name := "begins", desc := "(LWorkflowEngine$Instance;)LWorkflowEngine$Run;" } : Jvm.MethodName)) ∈ lw_all := lw_g (lw_at lw_m4 157 rfl) rfl
theorem q968 : (Jvm.Cond.instanceMethod ({ cls := "WorkflowEngine$Assign", name := "begins", desc := "(LWorkflowEngine$Instance;)LWorkflowEngine$Run;" } : Jvm.MethodName)) ∈ lw_all := lw_g (lw_at lw_m4 158 rfl) rfl
theorem q969 : (Jvm.Cond.code ({ cls := "WorkflowEngine$Assign", name := "begins", desc := "(LWorkflowEngine$Instance;)LWorkflowEngine$Run;" } : Jvm.MethodName) prog_2_method_2_code (2 : Nat) (Option.some (Jvm.ClassFile.FieldType.object "WorkflowEngine$Run"))) ∈ lw_all := lw_g (lw_at lw_m4 159 rfl) rfl
theorem q970 : (Jvm.Cond.classLink "WorkflowEngine$Assign" (20 : Nat) "WorkflowEngine$AssignRun") ∈ lw_all := lw_g (lw_at lw_m4 160 rfl) rfl
theorem q972 : (Jvm.Cond.methodLink "WorkflowEngine$Assign" (22 : Nat) ({ cls := "WorkflowEngine$Instance", name := "engine", desc := "()LWorkflowEngine;" } : Jvm.MethodName)) ∈ lw_all := lw_g (lw_at lw_m4 162 rfl) rfl
theorem q976 : (Jvm.Cond.methodLink "WorkflowEngine$Assign" (28 : Nat) ({ cls := "java/util/Objects", name := "requireNonNull", desc := "(Ljava/lang/Object;)Ljava/lang/Object;" } : Jvm.MethodName)) ∈ lw_all := lw_g (lw_at lw_m4 166 rfl) rfl
theorem q979 : (Jvm.Cond.methodLink "WorkflowEngine$Assign" (34 : Nat) ({ cls := "WorkflowEngine$AssignRun", name := "<init>", desc := "(LWorkflowEngine;LWorkflowEngine$Instance;LWorkflowEngine$Assign;)V" } : Jvm.MethodName)) ∈ lw_all := lw_g (lw_at lw_m4 169 rfl) rfl
theorem q1996 : (Jvm.Cond.castable "WorkflowEngine$Assign" "WorkflowEngine$Node") ∈ lw_tbl := lw_at lw_m8 226 rfl
theorem q2017 : (Jvm.Cond.castable "WorkflowEngine$Assign" "java/lang/Object") ∈ lw_tbl := lw_at lw_m9 7 rfl
theorem in_X12 : ∀ w ∈ wsX120, w ∈ lw_all := lw_in wsX120 [443, 437, 439, 441] (by decide +kernel) (by decide +kernel)
def RX13 : String := "WorkflowEngine$Choice"
def TX13 : u_T := fun k => match k with
  | 0 => ("WorkflowEngine$Node", "place", "I", true)
  | 1 => ("WorkflowEngine$Choice", "variable", "I", true)
  | 2 => ("WorkflowEngine$Choice", "bound", "I", true)
  | 3 => ("WorkflowEngine$Choice", "less", "LWorkflowEngine$Body;", true)
  | _ => ("WorkflowEngine$Choice", "other", "LWorkflowEngine$Body;", true)
def tyX13 : Nat → FieldType := fun k => match k with
  | 0 => .int
  | 1 => .int
  | 2 => .int
  | 3 => .object "WorkflowEngine$Body"
  | _ => .object "WorkflowEngine$Body"
abbrev wsX130 : List Cond := u_ws RX13 TX13 5
theorem nmX13 : ∀ a, a < 5 → ∀ b, b < 5 → a ≠ b → (TX13 a).2.1 ≠ (TX13 b).2.1 := by decide +kernel
theorem tyX13_ok : ∀ k, k < 5 → parseFieldDescriptor (TX13 k).2.2.1 = some (tyX13 k) := by decide +kernel
abbrev cX13_init : ByteArray := prog_9_method_1_code
def yX13_init : MethodName := ⟨RX13, "<init>", "(IIILWorkflowEngine$Body;LWorkflowEngine$Body;)V"⟩
abbrev cX13_depth : ByteArray := prog_9_method_4_code
def yX13_depth : MethodName := ⟨RX13, "depth", "()I"⟩
abbrev cX13_width : ByteArray := prog_9_method_3_code
def yX13_width : MethodName := ⟨RX13, "width", "()I"⟩
abbrev cX13_begins : ByteArray := prog_9_method_2_code
def yX13_begins : MethodName := ⟨RX13, "begins", "(LWorkflowEngine$Instance;)LWorkflowEngine$Run;"⟩
theorem q109 : (Jvm.Cond.initialized "WorkflowEngine$Choice") ∈ lw_all := lw_g (lw_at lw_m1 19 rfl) rfl
theorem q454 : (Jvm.Cond.instantiable "WorkflowEngine$Choice" (5 : Nat)) ∈ lw_all := lw_g (lw_at lw_m2 124 rfl) rfl
theorem q456 : (Jvm.Cond.instanceMethod ({ cls := "WorkflowEngine$Choice", name := "<init>", desc := "(IIILWorkflowEngine$Body;LWorkflowEngine$Body;)V" } : Jvm.MethodName)) ∈ lw_all := lw_g (lw_at lw_m2 126 rfl) rfl
theorem q457 : (Jvm.Cond.code ({ cls := "WorkflowEngine$Choice", name := "<init>", desc := "(IIILWorkflowEngine$Body;LWorkflowEngine$Body;)V" } : Jvm.MethodName) prog_9_method_1_code (6 : Nat) (Option.none : Option Jvm.ClassFile.FieldType)) ∈ lw_all := lw_g (lw_at lw_m2 127 rfl) rfl
theorem q458 : (Jvm.Cond.methodLink "WorkflowEngine$Choice" (1 : Nat) ({ cls := "WorkflowEngine$Node", name := "<init>", desc := "(I)V" } : Jvm.MethodName)) ∈ lw_all := lw_g (lw_at lw_m2 128 rfl) rfl
theorem q459 : (Jvm.Cond.fieldLink "WorkflowEngine$Choice" (7 : Nat) "WorkflowEngine$Choice" "variable" "I") ∈ lw_all := lw_g (lw_at lw_m2 129 rfl) rfl
theorem q460 : (Jvm.Cond.fieldLink "WorkflowEngine$Choice" (13 : Nat) "WorkflowEngine$Choice" "bound" "I") ∈ lw_all := lw_g (lw_at lw_m2 130 rfl) rfl
theorem q461 : (Jvm.Cond.fieldLink "WorkflowEngine$Choice" (16 : Nat) "WorkflowEngine$Choice" "less" "LWorkflowEngine$Body;") ∈ lw_all := lw_g (lw_at lw_m2 131 rfl) rfl
theorem q463 : (Jvm.Cond.fieldLink "WorkflowEngine$Choice" (20 : Nat) "WorkflowEngine$Choice" "other" "LWorkflowEngine$Body;") ∈ lw_all := lw_g (lw_at lw_m2 133 rfl) rfl
theorem q465 : (Jvm.Cond.laysFinal "WorkflowEngine$Choice" "WorkflowEngine$Choice" "variable" "I") ∈ lw_all := lw_g (lw_at lw_m2 135 rfl) rfl
theorem q466 : (Jvm.Cond.soleField "WorkflowEngine$Choice" "variable") ∈ lw_all := lw_g (lw_at lw_m2 136 rfl) rfl
theorem q467 : (Jvm.Cond.laysFinal "WorkflowEngine$Choice" "WorkflowEngine$Choice" "bound" "I") ∈ lw_all := lw_g (lw_at lw_m2 137 rfl) rfl
theorem q468 : (Jvm.Cond.soleField "WorkflowEngine$Choice" "bound") ∈ lw_all := lw_g (lw_at lw_m2 138 rfl) rfl
theorem q469 : (Jvm.Cond.laysFinal "WorkflowEngine$Choice" "WorkflowEngine$Choice" "less" "LWorkflowEngine$Body;") ∈ lw_all := lw_g (lw_at lw_m2 139 rfl) rfl
theorem q470 : (Jvm.Cond.soleField "WorkflowEngine$Choice" "less") ∈ lw_all := lw_g (lw_at lw_m2 140 rfl) rfl
theorem q471 : (Jvm.Cond.laysFinal "WorkflowEngine$Choice" "WorkflowEngine$Choice" "other" "LWorkflowEngine$Body;") ∈ lw_all := lw_g (lw_at lw_m2 141 rfl) rfl
theorem q472 : (Jvm.Cond.soleField "WorkflowEngine$Choice" "other") ∈ lw_all := lw_g (lw_at lw_m2 142 rfl) rfl
theorem q473 : (Jvm.Cond.laysFinal "WorkflowEngine$Choice" "WorkflowEngine$Node" "place" "I") ∈ lw_all := lw_g (lw_at lw_m2 143 rfl) rfl
theorem q474 : (Jvm.Cond.superclass "WorkflowEngine$Choice" "WorkflowEngine$Node") ∈ lw_all := lw_g (lw_at lw_m2 144 rfl) rfl
theorem q521 : (Jvm.Cond.selects "WorkflowEngine$Choice" ({ cls := "java/lang/Object", name := "getClass", desc := "()Ljava/lang/Class;" } : Jvm.MethodName) ({ cls := "java/lang/Object", name := "getClass", desc := "()Ljava/lang/Class;" } : Jvm.MethodName)) ∈ lw_all := lw_g (lw_at lw_m2 191 rfl) rfl
theorem q671 : (Jvm.Cond.selects "WorkflowEngine$Choice" ({ cls := "WorkflowEngine$Node", name := "depth", desc := "()I" } : Jvm.MethodName) ({ cls := "WorkflowEngine$Choice", name := "depth", desc := "()I" } : Jvm.MethodName)) ∈ lw_all := lw_g (lw_at lw_m3 101 rfl) rfl
theorem q672 : (Jvm.Cond.instanceMethod ({ cls := "WorkflowEngine$Choice", name := "depth", desc := "()I" } : Jvm.MethodName)) ∈ lw_all := lw_g (lw_at lw_m3 102 rfl) rfl
theorem q673 : (Jvm.Cond.code ({ cls := "WorkflowEngine$Choice", name := "depth", desc := "()I" } : Jvm.MethodName) prog_9_method_4_code (1 : Nat) (Option.some Jvm.ClassFile.FieldType.int)) ∈ lw_all := lw_g (lw_at lw_m3 103 rfl) rfl
theorem q674 : (Jvm.Cond.methodLink "WorkflowEngine$Choice" (56 : Nat) ({ cls := "WorkflowEngine$Body", name := "depth", desc := "()I" } : Jvm.MethodName)) ∈ lw_all := lw_g (lw_at lw_m3 104 rfl) rfl
theorem q675 : (Jvm.Cond.methodLink "WorkflowEngine$Choice" (50 : Nat) ({ cls := "java/lang/Math", name := "max", desc := "(II)I" } : Jvm.MethodName)) ∈ lw_all := lw_g (lw_at lw_m3 105 rfl) rfl
theorem q697 : (Jvm.Cond.selects "WorkflowEngine$Choice" ({ cls := "WorkflowEngine$Node", name := "width", desc := "()I" } : Jvm.MethodName) ({ cls := "WorkflowEngine$Choice", name := "width", desc := "()I" } : Jvm.MethodName)) ∈ lw_all := lw_g (lw_at lw_m3 127 rfl) rfl
theorem q698 : (Jvm.Cond.instanceMethod ({ cls := "WorkflowEngine$Choice", name := "width", desc := "()I" } : Jvm.MethodName)) ∈ lw_all := lw_g (lw_at lw_m3 128 rfl) rfl
theorem q699 : (Jvm.Cond.code ({ cls := "WorkflowEngine$Choice", name := "width", desc := "()I" } : Jvm.MethodName) prog_9_method_3_code (1 : Nat) (Option.some Jvm.ClassFile.FieldType.int)) ∈ lw_all := lw_g (lw_at lw_m3 129 rfl) rfl
theorem q700 : (Jvm.Cond.methodLink "WorkflowEngine$Choice" (44 : Nat) ({ cls := "WorkflowEngine$Body", name := "width", desc := "()I" } : Jvm.MethodName)) ∈ lw_all := lw_g (lw_at lw_m3 130 rfl) rfl
theorem q815 : (Jvm.Cond.fieldLinkNest "WorkflowEngine$Choice" (37 : Nat) "WorkflowEngine$Instance" "variables" "[I" "WorkflowEngine") ∈ lw_tbl := lw_at lw_m4 5 rfl
theorem q1016 : (Jvm.Cond.selects "WorkflowEngine$Choice" ({ cls := "WorkflowEngine$Node", name := "begins", desc := "(LWorkflowEngine$Instance;)LWorkflowEngine$Run;" } : Jvm.MethodName) ({ cls := "WorkflowEngine$Choice", name := "begins", desc := "(LWorkflowEngine$Instance;)LWorkflowEngine$Run;" } : Jvm.MethodName)) ∈ lw_all := lw_g (lw_at lw_m4 206 rfl) rfl
theorem q1017 : (Jvm.Cond.instanceMethod ({ cls := "WorkflowEngine$Choice", name := "begins", desc := "(LWorkflowEngine$Instance;)LWorkflowEngine$Run;" } : Jvm.MethodName)) ∈ lw_all := lw_g (lw_at lw_m4 207 rfl) rfl
theorem q1018 : (Jvm.Cond.code ({ cls := "WorkflowEngine$Choice", name := "begins", desc := "(LWorkflowEngine$Instance;)LWorkflowEngine$Run;" } : Jvm.MethodName) prog_9_method_2_code (2 : Nat) (Option.some (Jvm.ClassFile.FieldType.object "WorkflowEngine$Run"))) ∈ lw_all := lw_g (lw_at lw_m4 208 rfl) rfl
theorem q1019 : (Jvm.Cond.classLink "WorkflowEngine$Choice" (23 : Nat) "WorkflowEngine$BodyRun") ∈ lw_all := lw_g (lw_at lw_m4 209 rfl) rfl
theorem q1020 : (Jvm.Cond.methodLink "WorkflowEngine$Choice" (25 : Nat) ({ cls := "WorkflowEngine$Instance", name := "engine", desc := "()LWorkflowEngine;" } : Jvm.MethodName)) ∈ lw_all := lw_g (lw_at lw_m4 210 rfl) rfl
theorem q1021 : (Jvm.Cond.methodLink "WorkflowEngine$Choice" (31 : Nat) ({ cls := "java/util/Objects", name := "requireNonNull", desc := "(Ljava/lang/Object;)Ljava/lang/Object;" } : Jvm.MethodName)) ∈ lw_all := lw_g (lw_at lw_m4 211 rfl) rfl
theorem q1022 : (Jvm.Cond.methodLink "WorkflowEngine$Choice" (41 : Nat) ({ cls := "WorkflowEngine$BodyRun", name := "<init>", desc := "(LWorkflowEngine;LWorkflowEngine$Instance;LWorkflowEngine$Body;)V" } : Jvm.MethodName)) ∈ lw_all := lw_g (lw_at lw_m4 212 rfl) rfl
theorem q1998 : (Jvm.Cond.castable "WorkflowEngine$Choice" "WorkflowEngine$Node") ∈ lw_tbl := lw_at lw_m8 228 rfl
theorem q2018 : (Jvm.Cond.castable "WorkflowEngine$Choice" "java/lang/Object") ∈ lw_tbl := lw_at lw_m9 8 rfl
theorem in_X13 : ∀ w ∈ wsX130, w ∈ lw_all := lw_in wsX130 [473, 465, 467, 469, 471] (by decide +kernel) (by decide +kernel)
def RX14 : String := "WorkflowEngine$Parallel"
def TX14 : u_T := fun k => match k with
  | 0 => ("WorkflowEngine$Node", "place", "I", true)
  | 1 => ("WorkflowEngine$Parallel", "bodies", "Ljava/util/ArrayList;", true)
  | _ => ("WorkflowEngine$Parallel", "quorum", "I", true)
def tyX14 : Nat → FieldType := fun k => match k with
  | 0 => .int
  | 1 => .object "java/util/ArrayList"
  | _ => .int
abbrev wsX140 : List Cond := u_ws RX14 TX14 3
theorem nmX14 : ∀ a, a < 3 → ∀ b, b < 3 → a ≠ b → (TX14 a).2.1 ≠ (TX14 b).2.1 := by decide +kernel
theorem tyX14_ok : ∀ k, k < 3 → parseFieldDescriptor (TX14 k).2.2.1 = some (tyX14 k) := by decide +kernel
abbrev cX14_init : ByteArray := prog_20_method_1_code
def yX14_init : MethodName := ⟨RX14, "<init>", "(ILjava/util/ArrayList;I)V"⟩
abbrev cX14_depth : ByteArray := prog_20_method_4_code
def yX14_depth : MethodName := ⟨RX14, "depth", "()I"⟩
abbrev cX14_width : ByteArray := prog_20_method_3_code
def yX14_width : MethodName := ⟨RX14, "width", "()I"⟩
abbrev cX14_begins : ByteArray := prog_20_method_2_code
def yX14_begins : MethodName := ⟨RX14, "begins", "(LWorkflowEngine$Instance;)LWorkflowEngine$Run;"⟩
theorem q114 : (Jvm.Cond.initialized "WorkflowEngine$Parallel") ∈ lw_all := lw_g (lw_at lw_m1 24 rfl) rfl
theorem q530 : (Jvm.Cond.selects "WorkflowEngine$Parallel" ({ cls := "java/lang/Object", name := "getClass", desc := "()Ljava/lang/Class;" } : Jvm.MethodName) ({ cls := "java/lang/Object", name := "getClass", desc := "()Ljava/lang/Class;" } : Jvm.MethodName)) ∈ lw_all := lw_g (lw_at lw_m2 200 rfl) rfl
theorem q564 : (Jvm.Cond.instantiable "WorkflowEngine$Parallel" (3 : Nat)) ∈ lw_all := lw_g (lw_at lw_m2 234 rfl) rfl
theorem q566 : (Jvm.Cond.instanceMethod ({ cls := "WorkflowEngine$Parallel", name := "<init>", desc := "(ILjava/util/ArrayList;I)V" } : Jvm.MethodName)) ∈ lw_all := lw_g (lw_at lw_m2 236 rfl) rfl
theorem q567 : (Jvm.Cond.code ({ cls := "WorkflowEngine$Parallel", name := "<init>", desc := "(ILjava/util/ArrayList;I)V" } : Jvm.MethodName) prog_20_method_1_code (4 : Nat) (Option.none : Option Jvm.ClassFile.FieldType)) ∈ lw_all := lw_g (lw_at lw_m2 237 rfl) rfl
theorem q568 : (Jvm.Cond.methodLink "WorkflowEngine$Parallel" (1 : Nat) ({ cls := "WorkflowEngine$Node", name := "<init>", desc := "(I)V" } : Jvm.MethodName)) ∈ lw_all := lw_g (lw_at lw_m2 238 rfl) rfl
theorem q569 : (Jvm.Cond.fieldLink "WorkflowEngine$Parallel" (7 : Nat) "WorkflowEngine$Parallel" "bodies" "Ljava/util/ArrayList;") ∈ lw_all := lw_g (lw_at lw_m2 239 rfl) rfl
theorem q572 : (Jvm.Cond.fieldLink "WorkflowEngine$Parallel" (13 : Nat) "WorkflowEngine$Parallel" "quorum" "I") ∈ lw_all := lw_g (lw_at lw_m3 2 rfl) rfl
theorem q574 : (Jvm.Cond.laysFinal "WorkflowEngine$Parallel" "WorkflowEngine$Parallel" "bodies" "Ljava/util/ArrayList;") ∈ lw_all := lw_g (lw_at lw_m3 4 rfl) rfl
theorem q575 : (Jvm.Cond.soleField "WorkflowEngine$Parallel" "bodies") ∈ lw_all := lw_g (lw_at lw_m3 5 rfl) rfl
theorem q576 : (Jvm.Cond.laysFinal "WorkflowEngine$Parallel" "WorkflowEngine$Parallel" "quorum" "I") ∈ lw_all := lw_g (lw_at lw_m3 6 rfl) rfl
theorem q577 : (Jvm.Cond.soleField "WorkflowEngine$Parallel" "quorum") ∈ lw_all := lw_g (lw_at lw_m3 7 rfl) rfl
theorem q578 : (Jvm.Cond.laysFinal "WorkflowEngine$Parallel" "WorkflowEngine$Node" "place" "I") ∈ lw_all := lw_g (lw_at lw_m3 8 rfl) rfl
theorem q579 : (Jvm.Cond.superclass "WorkflowEngine$Parallel" "WorkflowEngine$Node") ∈ lw_all := lw_g (lw_at lw_m3 9 rfl) rfl
theorem q676 : (Jvm.Cond.selects "WorkflowEngine$Parallel" ({ cls := "WorkflowEngine$Node", name := "depth", desc := "()I" } : Jvm.MethodName) ({ cls := "WorkflowEngine$Parallel", name := "depth", desc := "()I" } : Jvm.MethodName)) ∈ lw_all := lw_g (lw_at lw_m3 106 rfl) rfl
theorem q677 : (Jvm.Cond.instanceMethod ({ cls := "WorkflowEngine$Parallel", name := "depth", desc := "()I" } : Jvm.MethodName)) ∈ lw_all := lw_g (lw_at lw_m3 107 rfl) rfl
theorem q678 : (Jvm.Cond.code ({ cls := "WorkflowEngine$Parallel", name := "depth", desc := "()I" } : Jvm.MethodName) prog_20_method_4_code (3 : Nat) (Option.some Jvm.ClassFile.FieldType.int)) ∈ lw_all := lw_g (lw_at lw_m3 108 rfl) rfl
theorem q679 : (Jvm.Cond.methodLink "WorkflowEngine$Parallel" (34 : Nat) ({ cls := "java/util/ArrayList", name := "size", desc := "()I" } : Jvm.MethodName)) ∈ lw_all := lw_g (lw_at lw_m3 109 rfl) rfl
theorem q680 : (Jvm.Cond.methodLink "WorkflowEngine$Parallel" (40 : Nat) ({ cls := "java/util/ArrayList", name := "get", desc := "(I)Ljava/lang/Object;" } : Jvm.MethodName)) ∈ lw_all := lw_g (lw_at lw_m3 110 rfl) rfl
theorem q681 : (Jvm.Cond.classLink "WorkflowEngine$Parallel" (44 : Nat) "WorkflowEngine$Body") ∈ lw_all := lw_g (lw_at lw_m3 111 rfl) rfl
theorem q682 : (Jvm.Cond.methodLink "WorkflowEngine$Parallel" (49 : Nat) ({ cls := "WorkflowEngine$Body", name := "depth", desc := "()I" } : Jvm.MethodName)) ∈ lw_all := lw_g (lw_at lw_m3 112 rfl) rfl
theorem q683 : (Jvm.Cond.methodLink "WorkflowEngine$Parallel" (52 : Nat) ({ cls := "java/lang/Math", name := "max", desc := "(II)I" } : Jvm.MethodName)) ∈ lw_all := lw_g (lw_at lw_m3 113 rfl) rfl
theorem q701 : (Jvm.Cond.selects "WorkflowEngine$Parallel" ({ cls := "WorkflowEngine$Node", name := "width", desc := "()I" } : Jvm.MethodName) ({ cls := "WorkflowEngine$Parallel", name := "width", desc := "()I" } : Jvm.MethodName)) ∈ lw_all := lw_g (lw_at lw_m3 131 rfl) rfl
theorem q702 : (Jvm.Cond.instanceMethod ({ cls := "WorkflowEngine$Parallel", name := "width", desc := "()I" } : Jvm.MethodName)) ∈ lw_all := lw_g (lw_at lw_m3 132 rfl) rfl
theorem q703 : (Jvm.Cond.code ({ cls := "WorkflowEngine$Parallel", name := "width", desc := "()I" } : Jvm.MethodName) prog_20_method_3_code (3 : Nat) (Option.some Jvm.ClassFile.FieldType.int)) ∈ lw_all := lw_g (lw_at lw_m3 133 rfl) rfl
theorem q704 : (Jvm.Cond.methodLink "WorkflowEngine$Parallel" (46 : Nat) ({ cls := "WorkflowEngine$Body", name := "width", desc := "()I" } : Jvm.MethodName)) ∈ lw_all := lw_g (lw_at lw_m3 134 rfl) rfl
theorem q1023 : (Jvm.Cond.selects "WorkflowEngine$Parallel" ({ cls := "WorkflowEngine$Node", name := "begins", desc := "(LWorkflowEngine$Instance;)LWorkflowEngine$Run;" } : Jvm.MethodName) ({ cls := "WorkflowEngine$Parallel", name := "begins", desc := "(LWorkflowEngine$Instance;)LWorkflowEngine$Run;" } : Jvm.MethodName)) ∈ lw_all := lw_g (lw_at lw_m4 213 rfl) rfl
theorem q1024 : (Jvm.Cond.instanceMethod ({ cls := "WorkflowEngine$Parallel", name := "begins", desc := "(LWorkflowEngine$Instance;)LWorkflowEngine$Run;" } : Jvm.MethodName)) ∈ lw_all := lw_g (lw_at lw_m4 214 rfl) rfl
theorem q1025 : (Jvm.Cond.code ({ cls := "WorkflowEngine$Parallel", name := "begins", desc := "(LWorkflowEngine$Instance;)LWorkflowEngine$Run;" } : Jvm.MethodName) prog_20_method_2_code (2 : Nat) (Option.some (Jvm.ClassFile.FieldType.object "WorkflowEngine$Run"))) ∈ lw_all := lw_g (lw_at lw_m4 215 rfl) rfl
theorem q1026 : (Jvm.Cond.classLink "WorkflowEngine$Parallel" (17 : Nat) "WorkflowEngine$ParallelRun") ∈ lw_all := lw_g (lw_at lw_m4 216 rfl) rfl
theorem q1028 : (Jvm.Cond.methodLink "WorkflowEngine$Parallel" (19 : Nat) ({ cls := "WorkflowEngine$Instance", name := "engine", desc := "()LWorkflowEngine;" } : Jvm.MethodName)) ∈ lw_all := lw_g (lw_at lw_m4 218 rfl) rfl
theorem q1029 : (Jvm.Cond.methodLink "WorkflowEngine$Parallel" (25 : Nat) ({ cls := "java/util/Objects", name := "requireNonNull", desc := "(Ljava/lang/Object;)Ljava/lang/Object;" } : Jvm.MethodName)) ∈ lw_all := lw_g (lw_at lw_m4 219 rfl) rfl
theorem q1030 : (Jvm.Cond.methodLink "WorkflowEngine$Parallel" (31 : Nat) ({ cls := "WorkflowEngine$ParallelRun", name := "<init>", desc := "(LWorkflowEngine;LWorkflowEngine$Instance;LWorkflowEngine$Parallel;)V" } : Jvm.MethodName)) ∈ lw_all := lw_g (lw_at lw_m4 220 rfl) rfl
theorem q1999 : (Jvm.Cond.castable "WorkflowEngine$Parallel" "WorkflowEngine$Node") ∈ lw_tbl := lw_at lw_m8 229 rfl
theorem q2019 : (Jvm.Cond.castable "WorkflowEngine$Parallel" "java/lang/Object") ∈ lw_tbl := lw_at lw_m9 9 rfl
theorem in_X14 : ∀ w ∈ wsX140, w ∈ lw_all := lw_in wsX140 [578, 574, 576] (by decide +kernel) (by decide +kernel)
def RX15 : String := "WorkflowEngine$WrongText"
def TX15 : u_T := fun k => match k with
  | 0 => ("java/lang/Throwable", "cause", "Ljava/lang/Throwable;", false)
  | 1 => ("java/lang/Throwable", "stackTrace", "[Ljava/lang/StackTraceElement;", false)
  | 2 => ("java/lang/Throwable", "suppressedExceptions", "Ljava/util/List;", false)
  | 3 => ("java/lang/Throwable", "detailMessage", "Ljava/lang/String;", false)
  | 4 => ("java/lang/Throwable", "backtrace", "Ljava/lang/Object;", false)
  | _ => ("java/lang/Throwable", "depth", "I", false)
def tyX15 : Nat → FieldType := fun k => match k with
  | 0 => .object "java/lang/Throwable"
  | 1 => .array (.object "java/lang/StackTraceElement")
  | 2 => .object "java/util/List"
  | 3 => .object "java/lang/String"
  | 4 => .object "java/lang/Object"
  | _ => .int
abbrev wsX150 : List Cond := u_ws RX15 TX15 6
theorem nmX15 : ∀ a, a < 6 → ∀ b, b < 6 → a ≠ b → (TX15 a).2.1 ≠ (TX15 b).2.1 := by decide +kernel
theorem tyX15_ok : ∀ k, k < 6 → parseFieldDescriptor (TX15 k).2.2.1 = some (tyX15 k) := by decide +kernel
abbrev cX15_init : ByteArray := prog_32_method_1_code
def yX15_init : MethodName := ⟨RX15, "<init>", "(Ljava/lang/Exception;)V"⟩
abbrev cX15_place : ByteArray := prog_32_method_2_code
def yX15_place : MethodName := ⟨RX15, "place", "()I"⟩
abbrev cX15_reason : ByteArray := prog_32_method_3_code
def yX15_reason : MethodName := ⟨RX15, "reason", "()I"⟩
theorem q115 : (Jvm.Cond.initialized "WorkflowEngine$WrongText") ∈ lw_all := lw_g (lw_at lw_m1 25 rfl) rfl
theorem q273 : (Jvm.Cond.selects "WorkflowEngine$WrongText" ({ cls := "java/lang/Throwable", name := "fillInStackTrace", desc := "()Ljava/lang/Throwable;" } : Jvm.MethodName) ({ cls := "java/lang/Throwable", name := "fillInStackTrace", desc := "()Ljava/lang/Throwable;" } : Jvm.MethodName)) ∈ lw_all := lw_g (lw_at lw_m1 183 rfl) rfl
theorem q290 : (Jvm.Cond.fieldLinkNest "WorkflowEngine$WrongText" (21 : Nat) "WorkflowEngine$BadSign" "place" "I" "WorkflowEngine") ∈ lw_tbl := lw_at lw_m1 200 rfl
theorem q324 : (Jvm.Cond.fieldLinkNest "WorkflowEngine$WrongText" (15 : Nat) "WorkflowEngine$TooMuch" "place" "I" "WorkflowEngine") ∈ lw_tbl := lw_at lw_m1 234 rfl
theorem q541 : (Jvm.Cond.selects "WorkflowEngine$WrongText" ({ cls := "java/lang/Object", name := "getClass", desc := "()Ljava/lang/Class;" } : Jvm.MethodName) ({ cls := "java/lang/Object", name := "getClass", desc := "()Ljava/lang/Class;" } : Jvm.MethodName)) ∈ lw_all := lw_g (lw_at lw_m2 211 rfl) rfl
theorem q580 : (Jvm.Cond.instantiable "WorkflowEngine$WrongText" (6 : Nat)) ∈ lw_all := lw_g (lw_at lw_m3 10 rfl) rfl
theorem q581 : (Jvm.Cond.castable "WorkflowEngine$WrongText" "WorkflowEngine$WrongText") ∈ lw_tbl := lw_at lw_m3 11 rfl
theorem q582 : (Jvm.Cond.selects "WorkflowEngine$WrongText" ({ cls := "java/lang/Throwable", name := "fillInStackTrace", desc := "(I)Ljava/lang/Throwable;" } : Jvm.MethodName) ({ cls := "java/lang/Throwable", name := "fillInStackTrace", desc := "(I)Ljava/lang/Throwable;" } : Jvm.MethodName)) ∈ lw_all := lw_g (lw_at lw_m3 12 rfl) rfl
theorem q583 : (Jvm.Cond.lays "WorkflowEngine$WrongText" "java/lang/Throwable" "cause" "Ljava/lang/Throwable;") ∈ lw_all := lw_g (lw_at lw_m3 13 rfl) rfl
theorem q584 : (Jvm.Cond.lays "WorkflowEngine$WrongText" "java/lang/Throwable" "stackTrace" "[Ljava/lang/StackTraceElement;") ∈ lw_all := lw_g (lw_at lw_m3 14 rfl) rfl
theorem q585 : (Jvm.Cond.lays "WorkflowEngine$WrongText" "java/lang/Throwable" "suppressedExceptions" "Ljava/util/List;") ∈ lw_all := lw_g (lw_at lw_m3 15 rfl) rfl
theorem q586 : (Jvm.Cond.lays "WorkflowEngine$WrongText" "java/lang/Throwable" "detailMessage" "Ljava/lang/String;") ∈ lw_all := lw_g (lw_at lw_m3 16 rfl) rfl
theorem q587 : (Jvm.Cond.lays "WorkflowEngine$WrongText" "java/lang/Throwable" "backtrace" "Ljava/lang/Object;") ∈ lw_all := lw_g (lw_at lw_m3 17 rfl) rfl
theorem q589 : (Jvm.Cond.instanceMethod ({ cls := "WorkflowEngine$WrongText", name := "<init>", desc := "(Ljava/lang/Exception;)V" } : Jvm.MethodName)) ∈ lw_all := lw_g (lw_at lw_m3 19 rfl) rfl
theorem q590 : (Jvm.Cond.code ({ cls := "WorkflowEngine$WrongText", name := "<init>", desc := "(Ljava/lang/Exception;)V" } : Jvm.MethodName) prog_32_method_1_code (2 : Nat) (Option.none : Option Jvm.ClassFile.FieldType)) ∈ lw_all := lw_g (lw_at lw_m3 20 rfl) rfl
theorem q591 : (Jvm.Cond.methodLink "WorkflowEngine$WrongText" (1 : Nat) ({ cls := "java/lang/Exception", name := "<init>", desc := "(Ljava/lang/String;Ljava/lang/Throwable;ZZ)V" } : Jvm.MethodName)) ∈ lw_all := lw_g (lw_at lw_m3 21 rfl) rfl
theorem q592 : (Jvm.Cond.lays "WorkflowEngine$WrongText" "java/lang/Throwable" "depth" "I") ∈ lw_all := lw_g (lw_at lw_m3 22 rfl) rfl
theorem q593 : (Jvm.Cond.superclass "WorkflowEngine$WrongText" "java/lang/Exception") ∈ lw_all := lw_g (lw_at lw_m3 23 rfl) rfl
theorem q608 : (Jvm.Cond.instanceMethod ({ cls := "WorkflowEngine$WrongText", name := "place", desc := "()I" } : Jvm.MethodName)) ∈ lw_all := lw_g (lw_at lw_m3 38 rfl) rfl
theorem q609 : (Jvm.Cond.selects "WorkflowEngine$WrongText" ({ cls := "WorkflowEngine$WrongText", name := "place", desc := "()I" } : Jvm.MethodName) ({ cls := "WorkflowEngine$WrongText", name := "place", desc := "()I" } : Jvm.MethodName)) ∈ lw_all := lw_g (lw_at lw_m3 39 rfl) rfl
theorem q610 : (Jvm.Cond.code ({ cls := "WorkflowEngine$WrongText", name := "place", desc := "()I" } : Jvm.MethodName) prog_32_method_2_code (3 : Nat) (Option.some Jvm.ClassFile.FieldType.int)) ∈ lw_all := lw_g (lw_at lw_m3 40 rfl) rfl
theorem q611 : (Jvm.Cond.methodLink "WorkflowEngine$WrongText" (7 : Nat) ({ cls := "WorkflowEngine$WrongText", name := "getCause", desc := "()Ljava/lang/Throwable;" } : Jvm.MethodName)) ∈ lw_all := lw_g (lw_at lw_m3 41 rfl) rfl
theorem q612 : (Jvm.Cond.sameMethod "WorkflowEngine$WrongText" "java/lang/Throwable" "getCause" "()Ljava/lang/Throwable;") ∈ lw_all := lw_g (lw_at lw_m3 42 rfl) rfl
theorem q614 : (Jvm.Cond.selects "WorkflowEngine$WrongText" ({ cls := "WorkflowEngine$WrongText", name := "getCause", desc := "()Ljava/lang/Throwable;" } : Jvm.MethodName) ({ cls := "java/lang/Throwable", name := "getCause", desc := "()Ljava/lang/Throwable;" } : Jvm.MethodName)) ∈ lw_all := lw_g (lw_at lw_m3 44 rfl) rfl
theorem q617 : (Jvm.Cond.classLink "WorkflowEngine$WrongText" (13 : Nat) "WorkflowEngine$TooMuch") ∈ lw_all := lw_g (lw_at lw_m3 47 rfl) rfl
theorem q618 : (Jvm.Cond.classLink "WorkflowEngine$WrongText" (19 : Nat) "WorkflowEngine$BadSign") ∈ lw_all := lw_g (lw_at lw_m3 48 rfl) rfl
theorem q624 : (Jvm.Cond.instanceMethod ({ cls := "WorkflowEngine$WrongText", name := "reason", desc := "()I" } : Jvm.MethodName)) ∈ lw_all := lw_g (lw_at lw_m3 54 rfl) rfl
theorem q625 : (Jvm.Cond.selects "WorkflowEngine$WrongText" ({ cls := "WorkflowEngine$WrongText", name := "reason", desc := "()I" } : Jvm.MethodName) ({ cls := "WorkflowEngine$WrongText", name := "reason", desc := "()I" } : Jvm.MethodName)) ∈ lw_all := lw_g (lw_at lw_m3 55 rfl) rfl
theorem q626 : (Jvm.Cond.code ({ cls := "WorkflowEngine$WrongText", name := "reason", desc := "()I" } : Jvm.MethodName) prog_32_method_3_code (1 : Nat) (Option.some Jvm.ClassFile.FieldType.int)) ∈ lw_all := lw_g (lw_at lw_m3 56 rfl) rfl
theorem q2020 : (Jvm.Cond.castable "WorkflowEngine$WrongText" "java/lang/Object") ∈ lw_tbl := lw_at lw_m9 10 rfl
theorem in_X15 : ∀ w ∈ wsX150, w ∈ lw_all := lw_in wsX150 [583, 584, 585, 586, 587, 592] (by decide +kernel) (by decide +kernel)
def RX16 : String := "WorkflowEngine$Instance"
def TX16 : u_T := fun k => match k with
  | 0 => ("WorkflowEngine$Instance", "moment", "LWorkflowEngine$Moment;", true)
  | 1 => ("WorkflowEngine$Instance", "workflow", "I", true)
  | 2 => ("WorkflowEngine$Instance", "version", "I", true)
  | 3 => ("WorkflowEngine$Instance", "begun", "I", true)
  | 4 => ("WorkflowEngine$Instance", "variables", "[I", true)
  | 5 => ("WorkflowEngine$Instance", "pending", "[I", true)
  | 6 => ("WorkflowEngine$Instance", "dones", "Ljava/util/ArrayList;", true)
  | 7 => ("WorkflowEngine$Instance", "history", "[I", false)
  | 8 => ("WorkflowEngine$Instance", "entries", "I", false)
  | 9 => ("WorkflowEngine$Instance", "status", "I", false)
  | 10 => ("WorkflowEngine$Instance", "ended", "I", false)
  | 11 => ("WorkflowEngine$Instance", "undone", "I", false)
  | 12 => ("WorkflowEngine$Instance", "stuck", "I", false)
  | 13 => ("WorkflowEngine$Instance", "body", "LWorkflowEngine$Run;", false)
  | 14 => ("WorkflowEngine$Instance", "undo", "LWorkflowEngine$Undo;", false)
  | _ => ("WorkflowEngine$Instance", "this$0", "LWorkflowEngine;", true)
def tyX16 : Nat → FieldType := fun k => match k with
  | 0 => .object "WorkflowEngine$Moment"
  | 1 => .int
  | 2 => .int
  | 3 => .int
  | 4 => .array .int
  | 5 => .array .int
  | 6 => .object "java/util/ArrayList"
  | 7 => .array .int
  | 8 => .int
  | 9 => .int
  | 10 => .int
  | 11 => .int
  | 12 => .int
  | 13 => .object "WorkflowEngine$Run"
  | 14 => .object "WorkflowEngine$Undo"
  | _ => .object "WorkflowEngine"
abbrev wsX160 : List Cond := u_ws RX16 TX16 16
theorem nmX16 : ∀ a, a < 16 → ∀ b, b < 16 → a ≠ b → (TX16 a).2.1 ≠ (TX16 b).2.1 := by decide +kernel
theorem tyX16_ok : ∀ k, k < 16 → parseFieldDescriptor (TX16 k).2.2.1 = some (tyX16 k) := by decide +kernel
abbrev cX16_init : ByteArray := prog_13_method_1_code
def yX16_init : MethodName := ⟨RX16, "<init>", "(LWorkflowEngine;LWorkflowEngine$Moment;III)V"⟩
abbrev cX16_looks : ByteArray := prog_13_method_9_code
def yX16_looks : MethodName := ⟨RX16, "looks", "()V"⟩
abbrev cX16_notes : ByteArray := prog_13_method_4_code
def yX16_notes : MethodName := ⟨RX16, "notes", "(II)V"⟩
abbrev cX16_engine : ByteArray := prog_13_method_2_code
def yX16_engine : MethodName := ⟨RX16, "engine", "()LWorkflowEngine;"⟩
abbrev cX16_done : ByteArray := prog_13_method_5_code
def yX16_done : MethodName := ⟨RX16, "done", "(LWorkflowEngine$Task;)I"⟩
abbrev cX16_ends : ByteArray := prog_13_method_6_code
def yX16_ends : MethodName := ⟨RX16, "ends", "(LWorkflowEngine$Done;)V"⟩
abbrev cX16_turns : ByteArray := prog_13_method_7_code
def yX16_turns : MethodName := ⟨RX16, "turns", "(I)V"⟩
abbrev cX16_compensates : ByteArray := prog_13_method_8_code
def yX16_compensates : MethodName := ⟨RX16, "compensates", "()V"⟩
abbrev cX16_hasEnded : ByteArray := prog_13_method_11_code
def yX16_hasEnded : MethodName := ⟨RX16, "hasEnded", "()Z"⟩
abbrev cX16_due : ByteArray := prog_13_method_10_code
def yX16_due : MethodName := ⟨RX16, "due", "()I"⟩
abbrev cX16_copy : ByteArray := prog_13_method_3_code
def yX16_copy : MethodName := ⟨RX16, "copy", "(LWorkflowEngine$Moment;)LWorkflowEngine$Instance;"⟩
abbrev cX16_replayed : ByteArray := prog_13_method_12_code
def yX16_replayed : MethodName := ⟨RX16, "replayed", "(I)I"⟩
theorem q118 : (Jvm.Cond.initialized "WorkflowEngine$Instance") ∈ lw_all := lw_g (lw_at lw_m1 28 rfl) rfl
theorem q364 : (Jvm.Cond.fieldLinkNest "WorkflowEngine$Instance" (124 : Nat) "WorkflowEngine$Task" "code" "I" "WorkflowEngine") ∈ lw_tbl := lw_at lw_m2 34 rfl
theorem q370 : (Jvm.Cond.fieldLinkNest "WorkflowEngine$Instance" (127 : Nat) "WorkflowEngine$Task" "undo" "I" "WorkflowEngine") ∈ lw_tbl := lw_at lw_m2 40 rfl
theorem q525 : (Jvm.Cond.selects "WorkflowEngine$Instance" ({ cls := "java/lang/Object", name := "getClass", desc := "()Ljava/lang/Class;" } : Jvm.MethodName) ({ cls := "java/lang/Object", name := "getClass", desc := "()Ljava/lang/Class;" } : Jvm.MethodName)) ∈ lw_all := lw_g (lw_at lw_m2 195 rfl) rfl
theorem q746 : (Jvm.Cond.fieldLinkNest "WorkflowEngine$Instance" (119 : Nat) "WorkflowEngine$Moment" "minute" "I" "WorkflowEngine") ∈ lw_tbl := lw_at lw_m3 176 rfl
theorem q795 : (Jvm.Cond.instantiable "WorkflowEngine$Instance" (16 : Nat)) ∈ lw_all := lw_g (lw_at lw_m3 225 rfl) rfl
theorem q797 : (Jvm.Cond.instanceMethod ({ cls := "WorkflowEngine$Instance", name := "<init>", desc := "(LWorkflowEngine;LWorkflowEngine$Moment;III)V" } : Jvm.MethodName)) ∈ lw_all := lw_g (lw_at lw_m3 227 rfl) rfl
theorem q798 : (Jvm.Cond.code ({ cls := "WorkflowEngine$Instance", name := "<init>", desc := "(LWorkflowEngine;LWorkflowEngine$Moment;III)V" } : Jvm.MethodName) prog_13_method_1_code (6 : Nat) (Option.none : Option Jvm.ClassFile.FieldType)) ∈ lw_all := lw_g (lw_at lw_m3 228 rfl) rfl
theorem q799 : (Jvm.Cond.methodLink "WorkflowEngine$Instance" (9 : Nat) ({ cls := "java/lang/Object", name := "<init>", desc := "()V" } : Jvm.MethodName)) ∈ lw_all := lw_g (lw_at lw_m3 229 rfl) rfl
theorem q800 : (Jvm.Cond.classLink "WorkflowEngine$Instance" (22 : Nat) "java/util/ArrayList") ∈ lw_all := lw_g (lw_at lw_m3 230 rfl) rfl
theorem q801 : (Jvm.Cond.methodLink "WorkflowEngine$Instance" (24 : Nat) ({ cls := "java/util/ArrayList", name := "<init>", desc := "()V" } : Jvm.MethodName)) ∈ lw_all := lw_g (lw_at lw_m3 231 rfl) rfl
theorem q806 : (Jvm.Cond.fieldLink "WorkflowEngine$Instance" (36 : Nat) "WorkflowEngine$Instance" "moment" "LWorkflowEngine$Moment;") ∈ lw_all := lw_g (lw_at lw_m3 236 rfl) rfl
theorem q807 : (Jvm.Cond.fieldLink "WorkflowEngine$Instance" (40 : Nat) "WorkflowEngine$Instance" "workflow" "I") ∈ lw_all := lw_g (lw_at lw_m3 237 rfl) rfl
theorem q809 : (Jvm.Cond.fieldLink "WorkflowEngine$Instance" (43 : Nat) "WorkflowEngine$Instance" "version" "I") ∈ lw_all := lw_g (lw_at lw_m3 239 rfl) rfl
theorem q811 : (Jvm.Cond.fieldLink "WorkflowEngine$Instance" (46 : Nat) "WorkflowEngine$Instance" "begun" "I") ∈ lw_all := lw_g (lw_at lw_m4 1 rfl) rfl
theorem q813 : (Jvm.Cond.fieldLink "WorkflowEngine$Instance" (15 : Nat) "WorkflowEngine$Instance" "variables" "[I") ∈ lw_all := lw_g (lw_at lw_m4 3 rfl) rfl
theorem q817 : (Jvm.Cond.fieldLink "WorkflowEngine$Instance" (19 : Nat) "WorkflowEngine$Instance" "pending" "[I") ∈ lw_all := lw_g (lw_at lw_m4 7 rfl) rfl
theorem q820 : (Jvm.Cond.fieldLink "WorkflowEngine$Instance" (25 : Nat) "WorkflowEngine$Instance" "dones" "Ljava/util/ArrayList;") ∈ lw_all := lw_g (lw_at lw_m4 10 rfl) rfl
theorem q823 : (Jvm.Cond.fieldLink "WorkflowEngine$Instance" (29 : Nat) "WorkflowEngine$Instance" "history" "[I") ∈ lw_all := lw_g (lw_at lw_m4 13 rfl) rfl
theorem q825 : (Jvm.Cond.fieldLink "WorkflowEngine$Instance" (89 : Nat) "WorkflowEngine$Instance" "entries" "I") ∈ lw_all := lw_g (lw_at lw_m4 15 rfl) rfl
theorem q827 : (Jvm.Cond.fieldLink "WorkflowEngine$Instance" (92 : Nat) "WorkflowEngine$Instance" "status" "I") ∈ lw_all := lw_g (lw_at lw_m4 17 rfl) rfl
theorem q830 : (Jvm.Cond.fieldLink "WorkflowEngine$Instance" (32 : Nat) "WorkflowEngine$Instance" "ended" "I") ∈ lw_all := lw_g (lw_at lw_m4 20 rfl) rfl
theorem q832 : (Jvm.Cond.fieldLink "WorkflowEngine$Instance" (95 : Nat) "WorkflowEngine$Instance" "undone" "I") ∈ lw_all := lw_g (lw_at lw_m4 22 rfl) rfl
theorem q834 : (Jvm.Cond.fieldLink "WorkflowEngine$Instance" (98 : Nat) "WorkflowEngine$Instance" "stuck" "I") ∈ lw_all := lw_g (lw_at lw_m4 24 rfl) rfl
theorem q836 : (Jvm.Cond.fieldLink "WorkflowEngine$Instance" (101 : Nat) "WorkflowEngine$Instance" "body" "LWorkflowEngine$Run;") ∈ lw_all := lw_g (lw_at lw_m4 26 rfl) rfl
theorem q838 : (Jvm.Cond.fieldLink "WorkflowEngine$Instance" (111 : Nat) "WorkflowEngine$Instance" "undo" "LWorkflowEngine$Undo;") ∈ lw_all := lw_g (lw_at lw_m4 28 rfl) rfl
theorem q839 : (Jvm.Cond.fieldLink "WorkflowEngine$Instance" (3 : Nat) "WorkflowEngine$Instance" "this$0" "LWorkflowEngine;") ∈ lw_all := lw_g (lw_at lw_m4 29 rfl) rfl
theorem q840 : (Jvm.Cond.laysFinal "WorkflowEngine$Instance" "WorkflowEngine$Instance" "moment" "LWorkflowEngine$Moment;") ∈ lw_all := lw_g (lw_at lw_m4 30 rfl) rfl
theorem q841 : (Jvm.Cond.soleField "WorkflowEngine$Instance" "moment") ∈ lw_all := lw_g (lw_at lw_m4 31 rfl) rfl
theorem q842 : (Jvm.Cond.laysFinal "WorkflowEngine$Instance" "WorkflowEngine$Instance" "workflow" "I") ∈ lw_all := lw_g (lw_at lw_m4 32 rfl) rfl
theorem q843 : (Jvm.Cond.soleField "WorkflowEngine$Instance" "workflow") ∈ lw_all := lw_g (lw_at lw_m4 33 rfl) rfl
theorem q844 : (Jvm.Cond.laysFinal "WorkflowEngine$Instance" "WorkflowEngine$Instance" "version" "I") ∈ lw_all := lw_g (lw_at lw_m4 34 rfl) rfl
theorem q845 : (Jvm.Cond.soleField "WorkflowEngine$Instance" "version") ∈ lw_all := lw_g (lw_at lw_m4 35 rfl) rfl
theorem q846 : (Jvm.Cond.laysFinal "WorkflowEngine$Instance" "WorkflowEngine$Instance" "begun" "I") ∈ lw_all := lw_g (lw_at lw_m4 36 rfl) rfl
theorem q847 : (Jvm.Cond.soleField "WorkflowEngine$Instance" "begun") ∈ lw_all := lw_g (lw_at lw_m4 37 rfl) rfl
theorem q848 : (Jvm.Cond.laysFinal "WorkflowEngine$Instance" "WorkflowEngine$Instance" "variables" "[I") ∈ lw_all := lw_g (lw_at lw_m4 38 rfl) rfl
theorem q849 : (Jvm.Cond.soleField "WorkflowEngine$Instance" "variables") ∈ lw_all := lw_g (lw_at lw_m4 39 rfl) rfl
theorem q850 : (Jvm.Cond.laysFinal "WorkflowEngine$Instance" "WorkflowEngine$Instance" "pending" "[I") ∈ lw_all := lw_g (lw_at lw_m4 40 rfl) rfl
theorem q851 : (Jvm.Cond.soleField "WorkflowEngine$Instance" "pending") ∈ lw_all := lw_g (lw_at lw_m4 41 rfl) rfl
theorem q852 : (Jvm.Cond.laysFinal "WorkflowEngine$Instance" "WorkflowEngine$Instance" "dones" "Ljava/util/ArrayList;") ∈ lw_all := lw_g (lw_at lw_m4 42 rfl) rfl
theorem q853 : (Jvm.Cond.soleField "WorkflowEngine$Instance" "dones") ∈ lw_all := lw_g (lw_at lw_m4 43 rfl) rfl
theorem q854 : (Jvm.Cond.lays "WorkflowEngine$Instance" "WorkflowEngine$Instance" "history" "[I") ∈ lw_all := lw_g (lw_at lw_m4 44 rfl) rfl
theorem q855 : (Jvm.Cond.soleField "WorkflowEngine$Instance" "history") ∈ lw_all := lw_g (lw_at lw_m4 45 rfl) rfl
theorem q856 : (Jvm.Cond.lays "WorkflowEngine$Instance" "WorkflowEngine$Instance" "entries" "I") ∈ lw_all := lw_g (lw_at lw_m4 46 rfl) rfl
theorem q857 : (Jvm.Cond.soleField "WorkflowEngine$Instance" "entries") ∈ lw_all := lw_g (lw_at lw_m4 47 rfl) rfl
theorem q858 : (Jvm.Cond.lays "WorkflowEngine$Instance" "WorkflowEngine$Instance" "status" "I") ∈ lw_all := lw_g (lw_at lw_m4 48 rfl) rfl
theorem q859 : (Jvm.Cond.soleField "WorkflowEngine$Instance" "status") ∈ lw_all := lw_g (lw_at lw_m4 49 rfl) rfl
theorem q860 : (Jvm.Cond.lays "WorkflowEngine$Instance" "WorkflowEngine$Instance" "ended" "I") ∈ lw_all := lw_g (lw_at lw_m4 50 rfl) rfl
theorem q861 : (Jvm.Cond.soleField "WorkflowEngine$Instance" "ended") ∈ lw_all := lw_g (lw_at lw_m4 51 rfl) rfl
theorem q862 : (Jvm.Cond.lays "WorkflowEngine$Instance" "WorkflowEngine$Instance" "undone" "I") ∈ lw_all := lw_g (lw_at lw_m4 52 rfl) rfl
theorem q863 : (Jvm.Cond.soleField "WorkflowEngine$Instance" "undone") ∈ lw_all := lw_g (lw_at lw_m4 53 rfl) rfl
theorem q864 : (Jvm.Cond.lays "WorkflowEngine$Instance" "WorkflowEngine$Instance" "stuck" "I") ∈ lw_all := lw_g (lw_at lw_m4 54 rfl) rfl
theorem q865 : (Jvm.Cond.soleField "WorkflowEngine$Instance" "stuck") ∈ lw_all := lw_g (lw_at lw_m4 55 rfl) rfl
theorem q866 : (Jvm.Cond.lays "WorkflowEngine$Instance" "WorkflowEngine$Instance" "body" "LWorkflowEngine$Run;") ∈ lw_all := lw_g (lw_at lw_m4 56 rfl) rfl
theorem q867 : (Jvm.Cond.soleField "WorkflowEngine$Instance" "body") ∈ lw_all := lw_g (lw_at lw_m4 57 rfl) rfl
theorem q868 : (Jvm.Cond.lays "WorkflowEngine$Instance" "WorkflowEngine$Instance" "undo" "LWorkflowEngine$Undo;") ∈ lw_all := lw_g (lw_at lw_m4 58 rfl) rfl
theorem q869 : (Jvm.Cond.soleField "WorkflowEngine$Instance" "undo") ∈ lw_all := lw_g (lw_at lw_m4 59 rfl) rfl
theorem q870 : (Jvm.Cond.laysFinal "WorkflowEngine$Instance" "WorkflowEngine$Instance" "this$0" "LWorkflowEngine;") ∈ lw_all := lw_g (lw_at lw_m4 60 rfl) rfl
theorem q871 : (Jvm.Cond.soleField "WorkflowEngine$Instance" "this$0") ∈ lw_all := lw_g (lw_at lw_m4 61 rfl) rfl
theorem q872 : (Jvm.Cond.superclass "WorkflowEngine$Instance" "java/lang/Object") ∈ lw_all := lw_g (lw_at lw_m4 62 rfl) rfl
theorem q934 : (Jvm.Cond.instanceMethod ({ cls := "WorkflowEngine$Instance", name := "looks", desc := "()V" } : Jvm.MethodName)) ∈ lw_all := lw_g (lw_at lw_m4 124 rfl) rfl
theorem q935 : (Jvm.Cond.selects "WorkflowEngine$Instance" ({ cls := "WorkflowEngine$Instance", name := "looks", desc := "()V" } : Jvm.MethodName) ({ cls := "WorkflowEngine$Instance", name := "looks", desc := "()V" } : Jvm.MethodName)) ∈ lw_all := lw_g (lw_at lw_m4 125 rfl) rfl
theorem q936 : (Jvm.Cond.code ({ cls := "WorkflowEngine$Instance", name := "looks", desc := "()V" } : Jvm.MethodName) prog_13_method_9_code (2 : Nat) (Option.none : Option Jvm.ClassFile.FieldType)) ∈ lw_all := lw_g (lw_at lw_m4 126 rfl) rfl
theorem q937 : (Jvm.Cond.methodLink "WorkflowEngine$Instance" (153 : Nat) ({ cls := "WorkflowEngine$Run", name := "looks", desc := "()LWorkflowEngine$Outcome;" } : Jvm.MethodName)) ∈ lw_all := lw_g (lw_at lw_m4 127 rfl) rfl
theorem q944 : (Jvm.Cond.instanceMethod ({ cls := "WorkflowEngine$Instance", name := "notes", desc := "(II)V" } : Jvm.MethodName)) ∈ lw_all := lw_g (lw_at lw_m4 134 rfl) rfl
theorem q945 : (Jvm.Cond.selects "WorkflowEngine$Instance" ({ cls := "WorkflowEngine$Instance", name := "notes", desc := "(II)V" } : Jvm.MethodName) ({ cls := "WorkflowEngine$Instance", name := "notes", desc := "(II)V" } : Jvm.MethodName)) ∈ lw_all := lw_g (lw_at lw_m4 135 rfl) rfl
theorem q946 : (Jvm.Cond.code ({ cls := "WorkflowEngine$Instance", name := "notes", desc := "(II)V" } : Jvm.MethodName) prog_13_method_4_code (3 : Nat) (Option.none : Option Jvm.ClassFile.FieldType)) ∈ lw_all := lw_g (lw_at lw_m4 136 rfl) rfl
theorem q973 : (Jvm.Cond.instanceMethod ({ cls := "WorkflowEngine$Instance", name := "engine", desc := "()LWorkflowEngine;" } : Jvm.MethodName)) ∈ lw_all := lw_g (lw_at lw_m4 163 rfl) rfl
theorem q974 : (Jvm.Cond.selects "WorkflowEngine$Instance" ({ cls := "WorkflowEngine$Instance", name := "engine", desc := "()LWorkflowEngine;" } : Jvm.MethodName) ({ cls := "WorkflowEngine$Instance", name := "engine", desc := "()LWorkflowEngine;" } : Jvm.MethodName)) ∈ lw_all := lw_g (lw_at lw_m4 164 rfl) rfl
theorem q975 : (Jvm.Cond.code ({ cls := "WorkflowEngine$Instance", name := "engine", desc := "()LWorkflowEngine;" } : Jvm.MethodName) prog_13_method_2_code (1 : Nat) (Option.some (Jvm.ClassFile.FieldType.object "WorkflowEngine"))) ∈ lw_all := lw_g (lw_at lw_m4 165 rfl) rfl
theorem q1151 : (Jvm.Cond.instanceMethod ({ cls := "WorkflowEngine$Instance", name := "done", desc := "(LWorkflowEngine$Task;)I" } : Jvm.MethodName)) ∈ lw_all := lw_g (lw_at lw_m5 101 rfl) rfl
theorem q1152 : (Jvm.Cond.selects "WorkflowEngine$Instance" ({ cls := "WorkflowEngine$Instance", name := "done", desc := "(LWorkflowEngine$Task;)I" } : Jvm.MethodName) ({ cls := "WorkflowEngine$Instance", name := "done", desc := "(LWorkflowEngine$Task;)I" } : Jvm.MethodName)) ∈ lw_all := lw_g (lw_at lw_m5 102 rfl) rfl
theorem q1153 : (Jvm.Cond.code ({ cls := "WorkflowEngine$Instance", name := "done", desc := "(LWorkflowEngine$Task;)I" } : Jvm.MethodName) prog_13_method_5_code (2 : Nat) (Option.some Jvm.ClassFile.FieldType.int)) ∈ lw_all := lw_g (lw_at lw_m5 103 rfl) rfl
theorem q1154 : (Jvm.Cond.classLink "WorkflowEngine$Instance" (66 : Nat) "WorkflowEngine$Done") ∈ lw_all := lw_g (lw_at lw_m5 104 rfl) rfl
theorem q1156 : (Jvm.Cond.methodLink "WorkflowEngine$Instance" (77 : Nat) ({ cls := "WorkflowEngine$Done", name := "<init>", desc := "(III)V" } : Jvm.MethodName)) ∈ lw_all := lw_g (lw_at lw_m5 106 rfl) rfl
theorem q1161 : (Jvm.Cond.fieldLinkNest "WorkflowEngine$Instance" (68 : Nat) "WorkflowEngine$Done" "code" "I" "WorkflowEngine") ∈ lw_tbl := lw_at lw_m5 111 rfl
theorem q1164 : (Jvm.Cond.fieldLinkNest "WorkflowEngine$Instance" (71 : Nat) "WorkflowEngine$Done" "undo" "I" "WorkflowEngine") ∈ lw_tbl := lw_at lw_m5 114 rfl
theorem q1166 : (Jvm.Cond.fieldLinkNest "WorkflowEngine$Instance" (74 : Nat) "WorkflowEngine$Done" "end" "I" "WorkflowEngine") ∈ lw_tbl := lw_at lw_m5 116 rfl
theorem q1175 : (Jvm.Cond.methodLink "WorkflowEngine$Instance" (80 : Nat) ({ cls := "java/util/ArrayList", name := "add", desc := "(Ljava/lang/Object;)Z" } : Jvm.MethodName)) ∈ lw_all := lw_g (lw_at lw_m5 125 rfl) rfl
theorem q1176 : (Jvm.Cond.methodLink "WorkflowEngine$Instance" (128 : Nat) ({ cls := "WorkflowEngine$Instance", name := "notes", desc := "(II)V" } : Jvm.MethodName)) ∈ lw_all := lw_g (lw_at lw_m5 126 rfl) rfl
theorem q1177 : (Jvm.Cond.methodLink "WorkflowEngine$Instance" (58 : Nat) ({ cls := "java/util/ArrayList", name := "size", desc := "()I" } : Jvm.MethodName)) ∈ lw_all := lw_g (lw_at lw_m5 127 rfl) rfl
theorem q1237 : (Jvm.Cond.fieldLinkNest "WorkflowEngine$Instance" (175 : Nat) "WorkflowEngine$Undo" "until" "I" "WorkflowEngine") ∈ lw_tbl := lw_at lw_m5 187 rfl
theorem q1269 : (Jvm.Cond.instanceMethod ({ cls := "WorkflowEngine$Instance", name := "ends", desc := "(LWorkflowEngine$Done;)V" } : Jvm.MethodName)) ∈ lw_all := lw_g (lw_at lw_m5 219 rfl) rfl
theorem q1270 : (Jvm.Cond.selects "WorkflowEngine$Instance" ({ cls := "WorkflowEngine$Instance", name := "ends", desc := "(LWorkflowEngine$Done;)V" } : Jvm.MethodName) ({ cls := "WorkflowEngine$Instance", name := "ends", desc := "(LWorkflowEngine$Done;)V" } : Jvm.MethodName)) ∈ lw_all := lw_g (lw_at lw_m5 220 rfl) rfl
theorem q1271 : (Jvm.Cond.code ({ cls := "WorkflowEngine$Instance", name := "ends", desc := "(LWorkflowEngine$Done;)V" } : Jvm.MethodName) prog_13_method_6_code (2 : Nat) (Option.none : Option Jvm.ClassFile.FieldType)) ∈ lw_all := lw_g (lw_at lw_m5 221 rfl) rfl
theorem q1272 : (Jvm.Cond.methodLinkNest "WorkflowEngine$Instance" (132 : Nat) ({ cls := "WorkflowEngine", name := "bit", desc := "(Z)I" } : Jvm.MethodName) "WorkflowEngine") ∈ lw_tbl := lw_at lw_m5 222 rfl
theorem q1280 : (Jvm.Cond.fieldLink "WorkflowEngine$Instance" (156 : Nat) "WorkflowEngine$Outcome" "ENDS" "LWorkflowEngine$Outcome;") ∈ lw_all := lw_g (lw_at lw_m5 230 rfl) rfl
theorem q1281 : (Jvm.Cond.methodLink "WorkflowEngine$Instance" (146 : Nat) ({ cls := "WorkflowEngine$Instance", name := "turns", desc := "(I)V" } : Jvm.MethodName)) ∈ lw_all := lw_g (lw_at lw_m5 231 rfl) rfl
theorem q1282 : (Jvm.Cond.privateMethod ({ cls := "WorkflowEngine$Instance", name := "turns", desc := "(I)V" } : Jvm.MethodName)) ∈ lw_tbl := lw_at lw_m5 232 rfl
theorem q1283 : (Jvm.Cond.instanceMethod ({ cls := "WorkflowEngine$Instance", name := "turns", desc := "(I)V" } : Jvm.MethodName)) ∈ lw_all := lw_g (lw_at lw_m5 233 rfl) rfl
theorem q1284 : (Jvm.Cond.code ({ cls := "WorkflowEngine$Instance", name := "turns", desc := "(I)V" } : Jvm.MethodName) prog_13_method_7_code (2 : Nat) (Option.none : Option Jvm.ClassFile.FieldType)) ∈ lw_all := lw_g (lw_at lw_m5 234 rfl) rfl
theorem q1285 : (Jvm.Cond.fieldLink "WorkflowEngine$Instance" (162 : Nat) "WorkflowEngine$Outcome" "BREAKS" "LWorkflowEngine$Outcome;") ∈ lw_all := lw_g (lw_at lw_m5 235 rfl) rfl
theorem q1286 : (Jvm.Cond.methodLink "WorkflowEngine$Instance" (165 : Nat) ({ cls := "WorkflowEngine$Instance", name := "compensates", desc := "()V" } : Jvm.MethodName)) ∈ lw_all := lw_g (lw_at lw_m5 236 rfl) rfl
theorem q1287 : (Jvm.Cond.instanceMethod ({ cls := "WorkflowEngine$Instance", name := "compensates", desc := "()V" } : Jvm.MethodName)) ∈ lw_all := lw_g (lw_at lw_m5 237 rfl) rfl
theorem q1288 : (Jvm.Cond.selects "WorkflowEngine$Instance" ({ cls := "WorkflowEngine$Instance", name := "compensates", desc := "()V" } : Jvm.MethodName) ({ cls := "WorkflowEngine$Instance", name := "compensates", desc := "()V" } : Jvm.MethodName)) ∈ lw_all := lw_g (lw_at lw_m5 238 rfl) rfl
theorem q1289 : (Jvm.Cond.code ({ cls := "WorkflowEngine$Instance", name := "compensates", desc := "()V" } : Jvm.MethodName) prog_13_method_8_code (2 : Nat) (Option.none : Option Jvm.ClassFile.FieldType)) ∈ lw_all := lw_g (lw_at lw_m5 239 rfl) rfl
theorem q1290 : (Jvm.Cond.classLink "WorkflowEngine$Instance" (136 : Nat) "WorkflowEngine$Dones") ∈ lw_all := lw_g (lw_at lw_m6 0 rfl) rfl
theorem q1291 : (Jvm.Cond.methodLinkNest "WorkflowEngine$Instance" (138 : Nat) ({ cls := "WorkflowEngine$Dones", name := "<init>", desc := "()V" } : Jvm.MethodName) "WorkflowEngine") ∈ lw_tbl := lw_at lw_m6 1 rfl
theorem q1292 : (Jvm.Cond.methodLink "WorkflowEngine$Instance" (139 : Nat) ({ cls := "WorkflowEngine$Run", name := "gathers", desc := "(LWorkflowEngine$Dones;)V" } : Jvm.MethodName)) ∈ lw_all := lw_g (lw_at lw_m6 2 rfl) rfl
theorem q1293 : (Jvm.Cond.classLink "WorkflowEngine$Instance" (115 : Nat) "WorkflowEngine$Undo") ∈ lw_all := lw_g (lw_at lw_m6 3 rfl) rfl
theorem q1294 : (Jvm.Cond.methodLink "WorkflowEngine$Instance" (143 : Nat) ({ cls := "WorkflowEngine$Undo", name := "<init>", desc := "(LWorkflowEngine;LWorkflowEngine$Instance;LWorkflowEngine$Dones;)V" } : Jvm.MethodName)) ∈ lw_all := lw_g (lw_at lw_m6 4 rfl) rfl
theorem q1295 : (Jvm.Cond.methodLink "WorkflowEngine$Instance" (150 : Nat) ({ cls := "WorkflowEngine$Instance", name := "looks", desc := "()V" } : Jvm.MethodName)) ∈ lw_all := lw_g (lw_at lw_m6 5 rfl) rfl
theorem q1296 : (Jvm.Cond.methodLink "WorkflowEngine$Instance" (168 : Nat) ({ cls := "WorkflowEngine$Undo", name := "isOver", desc := "()Z" } : Jvm.MethodName)) ∈ lw_all := lw_g (lw_at lw_m6 6 rfl) rfl
theorem q1315 : (Jvm.Cond.instanceMethod ({ cls := "WorkflowEngine$Instance", name := "hasEnded", desc := "()Z" } : Jvm.MethodName)) ∈ lw_all := lw_g (lw_at lw_m6 25 rfl) rfl
theorem q1316 : (Jvm.Cond.selects "WorkflowEngine$Instance" ({ cls := "WorkflowEngine$Instance", name := "hasEnded", desc := "()Z" } : Jvm.MethodName) ({ cls := "WorkflowEngine$Instance", name := "hasEnded", desc := "()Z" } : Jvm.MethodName)) ∈ lw_all := lw_g (lw_at lw_m6 26 rfl) rfl
theorem q1317 : (Jvm.Cond.code ({ cls := "WorkflowEngine$Instance", name := "hasEnded", desc := "()Z" } : Jvm.MethodName) prog_13_method_11_code (1 : Nat) (Option.some Jvm.ClassFile.FieldType.boolean)) ∈ lw_all := lw_g (lw_at lw_m6 27 rfl) rfl
theorem q1390 : (Jvm.Cond.instanceMethod ({ cls := "WorkflowEngine$Instance", name := "due", desc := "()I" } : Jvm.MethodName)) ∈ lw_all := lw_g (lw_at lw_m6 100 rfl) rfl
theorem q1391 : (Jvm.Cond.selects "WorkflowEngine$Instance" ({ cls := "WorkflowEngine$Instance", name := "due", desc := "()I" } : Jvm.MethodName) ({ cls := "WorkflowEngine$Instance", name := "due", desc := "()I" } : Jvm.MethodName)) ∈ lw_all := lw_g (lw_at lw_m6 101 rfl) rfl
theorem q1392 : (Jvm.Cond.code ({ cls := "WorkflowEngine$Instance", name := "due", desc := "()I" } : Jvm.MethodName) prog_13_method_10_code (2 : Nat) (Option.some Jvm.ClassFile.FieldType.int)) ∈ lw_all := lw_g (lw_at lw_m6 102 rfl) rfl
theorem q1393 : (Jvm.Cond.methodLink "WorkflowEngine$Instance" (172 : Nat) ({ cls := "WorkflowEngine$Run", name := "due", desc := "()I" } : Jvm.MethodName)) ∈ lw_all := lw_g (lw_at lw_m6 103 rfl) rfl
theorem q1420 : (Jvm.Cond.constant "WorkflowEngine$Instance" (178 : Nat) (2147483647 : Int32)) ∈ lw_all := lw_g (lw_at lw_m6 130 rfl) rfl
theorem q1431 : (Jvm.Cond.instanceMethod ({ cls := "WorkflowEngine$Instance", name := "copy", desc := "(LWorkflowEngine$Moment;)LWorkflowEngine$Instance;" } : Jvm.MethodName)) ∈ lw_all := lw_g (lw_at lw_m6 141 rfl) rfl
theorem q1432 : (Jvm.Cond.selects "WorkflowEngine$Instance" ({ cls := "WorkflowEngine$Instance", name := "copy", desc := "(LWorkflowEngine$Moment;)LWorkflowEngine$Instance;" } : Jvm.MethodName) ({ cls := "WorkflowEngine$Instance", name := "copy", desc := "(LWorkflowEngine$Moment;)LWorkflowEngine$Instance;" } : Jvm.MethodName)) ∈ lw_all := lw_g (lw_at lw_m6 142 rfl) rfl
theorem q1433 : (Jvm.Cond.code ({ cls := "WorkflowEngine$Instance", name := "copy", desc := "(LWorkflowEngine$Moment;)LWorkflowEngine$Instance;" } : Jvm.MethodName) prog_13_method_3_code (5 : Nat) (Option.some (Jvm.ClassFile.FieldType.object "WorkflowEngine$Instance"))) ∈ lw_all := lw_g (lw_at lw_m6 143 rfl) rfl
theorem q1434 : (Jvm.Cond.classLink "WorkflowEngine$Instance" (4 : Nat) "WorkflowEngine$Instance") ∈ lw_all := lw_g (lw_at lw_m6 144 rfl) rfl
theorem q1435 : (Jvm.Cond.methodLink "WorkflowEngine$Instance" (49 : Nat) ({ cls := "WorkflowEngine$Instance", name := "<init>", desc := "(LWorkflowEngine;LWorkflowEngine$Moment;III)V" } : Jvm.MethodName)) ∈ lw_all := lw_g (lw_at lw_m6 145 rfl) rfl
theorem q1436 : (Jvm.Cond.methodLink "WorkflowEngine$Instance" (52 : Nat) ({ cls := "java/lang/System", name := "arraycopy", desc := "(Ljava/lang/Object;ILjava/lang/Object;II)V" } : Jvm.MethodName)) ∈ lw_all := lw_g (lw_at lw_m6 146 rfl) rfl
theorem q1437 : (Jvm.Cond.methodLink "WorkflowEngine$Instance" (62 : Nat) ({ cls := "java/util/ArrayList", name := "get", desc := "(I)Ljava/lang/Object;" } : Jvm.MethodName)) ∈ lw_all := lw_g (lw_at lw_m6 147 rfl) rfl
theorem q1438 : (Jvm.Cond.methodLink "WorkflowEngine$Instance" (84 : Nat) ({ cls := "[I", name := "clone", desc := "()Ljava/lang/Object;" } : Jvm.MethodName)) ∈ lw_all := lw_g (lw_at lw_m6 148 rfl) rfl
theorem q1444 : (Jvm.Cond.classLink "WorkflowEngine$Instance" (85 : Nat) "[I") ∈ lw_all := lw_g (lw_at lw_m6 154 rfl) rfl
theorem q1445 : (Jvm.Cond.methodLink "WorkflowEngine$Instance" (105 : Nat) ({ cls := "WorkflowEngine$Run", name := "copy", desc := "(LWorkflowEngine$Instance;)LWorkflowEngine$Run;" } : Jvm.MethodName)) ∈ lw_all := lw_g (lw_at lw_m6 155 rfl) rfl
theorem q1494 : (Jvm.Cond.methodLink "WorkflowEngine$Instance" (114 : Nat) ({ cls := "WorkflowEngine$Undo", name := "copy", desc := "(LWorkflowEngine$Instance;)LWorkflowEngine$Undo;" } : Jvm.MethodName)) ∈ lw_all := lw_g (lw_at lw_m6 204 rfl) rfl
theorem q1500 : (Jvm.Cond.instanceMethod ({ cls := "WorkflowEngine$Instance", name := "replayed", desc := "(I)I" } : Jvm.MethodName)) ∈ lw_all := lw_g (lw_at lw_m6 210 rfl) rfl
theorem q1501 : (Jvm.Cond.selects "WorkflowEngine$Instance" ({ cls := "WorkflowEngine$Instance", name := "replayed", desc := "(I)I" } : Jvm.MethodName) ({ cls := "WorkflowEngine$Instance", name := "replayed", desc := "(I)I" } : Jvm.MethodName)) ∈ lw_all := lw_g (lw_at lw_m6 211 rfl) rfl
theorem q1502 : (Jvm.Cond.code ({ cls := "WorkflowEngine$Instance", name := "replayed", desc := "(I)I" } : Jvm.MethodName) prog_13_method_12_code (5 : Nat) (Option.some Jvm.ClassFile.FieldType.int)) ∈ lw_all := lw_g (lw_at lw_m6 212 rfl) rfl
theorem q1503 : (Jvm.Cond.methodLink "WorkflowEngine$Instance" (179 : Nat) ({ cls := "java/lang/Math", name := "min", desc := "(II)I" } : Jvm.MethodName)) ∈ lw_all := lw_g (lw_at lw_m6 213 rfl) rfl
theorem q2003 : (Jvm.Cond.castable "WorkflowEngine$Instance" "java/lang/Object") ∈ lw_tbl := lw_at lw_m8 233 rfl
theorem in_X16 : ∀ w ∈ wsX160, w ∈ lw_all := lw_in wsX160 [840, 842, 844, 846, 848, 850, 852, 854, 856, 858, 860, 862, 864, 866, 868, 870] (by decide +kernel) (by decide +kernel)
def RX17 : String := "WorkflowEngine$Run"
abbrev cX17_init : ByteArray := prog_24_method_1_code
def yX17_init : MethodName := ⟨RX17, "<init>", "(LWorkflowEngine;LWorkflowEngine$Instance;)V"⟩
abbrev cX17_gathers : ByteArray := prog_24_method_6_code
def yX17_gathers : MethodName := ⟨RX17, "gathers", "(LWorkflowEngine$Dones;)V"⟩
abbrev cX17_lists : ByteArray := prog_24_method_5_code
def yX17_lists : MethodName := ⟨RX17, "lists", "(LWorkflowEngine$Places;)V"⟩
theorem q119 : (Jvm.Cond.initialized "WorkflowEngine$Run") ∈ lw_all := lw_g (lw_at lw_m1 29 rfl) rfl
theorem q879 : (Jvm.Cond.instanceMethod ({ cls := "WorkflowEngine$Run", name := "<init>", desc := "(LWorkflowEngine;LWorkflowEngine$Instance;)V" } : Jvm.MethodName)) ∈ lw_all := lw_g (lw_at lw_m4 69 rfl) rfl
theorem q880 : (Jvm.Cond.code ({ cls := "WorkflowEngine$Run", name := "<init>", desc := "(LWorkflowEngine;LWorkflowEngine$Instance;)V" } : Jvm.MethodName) prog_24_method_1_code (3 : Nat) (Option.none : Option Jvm.ClassFile.FieldType)) ∈ lw_all := lw_g (lw_at lw_m4 70 rfl) rfl
theorem q881 : (Jvm.Cond.methodLink "WorkflowEngine$Run" (7 : Nat) ({ cls := "java/lang/Object", name := "<init>", desc := "()V" } : Jvm.MethodName)) ∈ lw_all := lw_g (lw_at lw_m4 71 rfl) rfl
theorem q904 : (Jvm.Cond.fieldLink "WorkflowEngine$Run" (13 : Nat) "WorkflowEngine$Run" "in" "LWorkflowEngine$Instance;") ∈ lw_all := lw_g (lw_at lw_m4 94 rfl) rfl
theorem q917 : (Jvm.Cond.fieldLink "WorkflowEngine$Run" (1 : Nat) "WorkflowEngine$Run" "this$0" "LWorkflowEngine;") ∈ lw_all := lw_g (lw_at lw_m4 107 rfl) rfl
theorem q929 : (Jvm.Cond.soleField "WorkflowEngine$Run" "in") ∈ lw_all := lw_g (lw_at lw_m4 119 rfl) rfl
theorem q931 : (Jvm.Cond.soleField "WorkflowEngine$Run" "this$0") ∈ lw_all := lw_g (lw_at lw_m4 121 rfl) rfl
theorem q938 : (Jvm.Cond.declares ({ cls := "WorkflowEngine$Run", name := "looks", desc := "()LWorkflowEngine$Outcome;" } : Jvm.MethodName)) ∈ lw_tbl := lw_at lw_m4 128 rfl
theorem q939 : (Jvm.Cond.sameMethod "WorkflowEngine$Run" "WorkflowEngine$Run" "looks" "()LWorkflowEngine$Outcome;") ∈ lw_all := lw_g (lw_at lw_m4 129 rfl) rfl
theorem q1204 : (Jvm.Cond.instanceMethod ({ cls := "WorkflowEngine$Run", name := "gathers", desc := "(LWorkflowEngine$Dones;)V" } : Jvm.MethodName)) ∈ lw_all := lw_g (lw_at lw_m5 154 rfl) rfl
theorem q1205 : (Jvm.Cond.sameMethod "WorkflowEngine$Run" "WorkflowEngine$Run" "gathers" "(LWorkflowEngine$Dones;)V") ∈ lw_all := lw_g (lw_at lw_m5 155 rfl) rfl
theorem q1224 : (Jvm.Cond.code ({ cls := "WorkflowEngine$Run", name := "gathers", desc := "(LWorkflowEngine$Dones;)V" } : Jvm.MethodName) prog_24_method_6_code (2 : Nat) (Option.none : Option Jvm.ClassFile.FieldType)) ∈ lw_all := lw_g (lw_at lw_m5 174 rfl) rfl
theorem q1358 : (Jvm.Cond.instanceMethod ({ cls := "WorkflowEngine$Run", name := "lists", desc := "(LWorkflowEngine$Places;)V" } : Jvm.MethodName)) ∈ lw_all := lw_g (lw_at lw_m6 68 rfl) rfl
theorem q1359 : (Jvm.Cond.sameMethod "WorkflowEngine$Run" "WorkflowEngine$Run" "lists" "(LWorkflowEngine$Places;)V") ∈ lw_all := lw_g (lw_at lw_m6 69 rfl) rfl
theorem q1384 : (Jvm.Cond.code ({ cls := "WorkflowEngine$Run", name := "lists", desc := "(LWorkflowEngine$Places;)V" } : Jvm.MethodName) prog_24_method_5_code (2 : Nat) (Option.none : Option Jvm.ClassFile.FieldType)) ∈ lw_all := lw_g (lw_at lw_m6 94 rfl) rfl
theorem q1394 : (Jvm.Cond.declares ({ cls := "WorkflowEngine$Run", name := "due", desc := "()I" } : Jvm.MethodName)) ∈ lw_tbl := lw_at lw_m6 104 rfl
theorem q1395 : (Jvm.Cond.sameMethod "WorkflowEngine$Run" "WorkflowEngine$Run" "due" "()I") ∈ lw_all := lw_g (lw_at lw_m6 105 rfl) rfl
theorem q1446 : (Jvm.Cond.declares ({ cls := "WorkflowEngine$Run", name := "copy", desc := "(LWorkflowEngine$Instance;)LWorkflowEngine$Run;" } : Jvm.MethodName)) ∈ lw_tbl := lw_at lw_m6 156 rfl
theorem q1447 : (Jvm.Cond.sameMethod "WorkflowEngine$Run" "WorkflowEngine$Run" "copy" "(LWorkflowEngine$Instance;)LWorkflowEngine$Run;") ∈ lw_all := lw_g (lw_at lw_m6 157 rfl) rfl
theorem q2004 : (Jvm.Cond.castable "WorkflowEngine$Run" "java/lang/Object") ∈ lw_tbl := lw_at lw_m8 234 rfl
def RX18 : String := "WorkflowEngine$BodyRun"
def TX18 : u_T := fun k => match k with
  | 0 => ("WorkflowEngine$Run", "in", "LWorkflowEngine$Instance;", true)
  | 1 => ("WorkflowEngine$Run", "this$0", "LWorkflowEngine;", true)
  | 2 => ("WorkflowEngine$BodyRun", "body", "LWorkflowEngine$Body;", true)
  | 3 => ("WorkflowEngine$BodyRun", "current", "LWorkflowEngine$Run;", false)
  | 4 => ("WorkflowEngine$BodyRun", "index", "I", false)
  | 5 => ("WorkflowEngine$BodyRun", "dones", "LWorkflowEngine$Dones;", false)
  | _ => ("WorkflowEngine$BodyRun", "this$0", "LWorkflowEngine;", true)
def tyX18 : Nat → FieldType := fun k => match k with
  | 0 => .object "WorkflowEngine$Instance"
  | 1 => .object "WorkflowEngine"
  | 2 => .object "WorkflowEngine$Body"
  | 3 => .object "WorkflowEngine$Run"
  | 4 => .int
  | 5 => .object "WorkflowEngine$Dones"
  | _ => .object "WorkflowEngine"
abbrev wsX180 : List Cond := u_ws RX18 TX18 7
theorem tyX18_ok : ∀ k, k < 7 → parseFieldDescriptor (TX18 k).2.2.1 = some (tyX18 k) := by decide +kernel
abbrev cX18_init : ByteArray := prog_8_method_1_code
def yX18_init : MethodName := ⟨RX18, "<init>", "(LWorkflowEngine;LWorkflowEngine$Instance;LWorkflowEngine$Body;)V"⟩
abbrev cX18_looks : ByteArray := prog_8_method_2_code
def yX18_looks : MethodName := ⟨RX18, "looks", "()LWorkflowEngine$Outcome;"⟩
abbrev cX18_gathers : ByteArray := prog_8_method_6_code
def yX18_gathers : MethodName := ⟨RX18, "gathers", "(LWorkflowEngine$Dones;)V"⟩
abbrev cX18_lists : ByteArray := prog_8_method_5_code
def yX18_lists : MethodName := ⟨RX18, "lists", "(LWorkflowEngine$Places;)V"⟩
abbrev cX18_due : ByteArray := prog_8_method_4_code
def yX18_due : MethodName := ⟨RX18, "due", "()I"⟩
abbrev cX18_copy : ByteArray := prog_8_method_3_code
def yX18_copy : MethodName := ⟨RX18, "copy", "(LWorkflowEngine$Instance;)LWorkflowEngine$Run;"⟩
theorem q120 : (Jvm.Cond.initialized "WorkflowEngine$BodyRun") ∈ lw_all := lw_g (lw_at lw_m1 30 rfl) rfl
theorem q220 : (Jvm.Cond.fieldLinkNest "WorkflowEngine$BodyRun" (32 : Nat) "WorkflowEngine$Body" "items" "Ljava/util/ArrayList;" "WorkflowEngine") ∈ lw_tbl := lw_at lw_m1 130 rfl
theorem q520 : (Jvm.Cond.selects "WorkflowEngine$BodyRun" ({ cls := "java/lang/Object", name := "getClass", desc := "()Ljava/lang/Class;" } : Jvm.MethodName) ({ cls := "java/lang/Object", name := "getClass", desc := "()Ljava/lang/Class;" } : Jvm.MethodName)) ∈ lw_all := lw_g (lw_at lw_m2 190 rfl) rfl
theorem q874 : (Jvm.Cond.instantiable "WorkflowEngine$BodyRun" (7 : Nat)) ∈ lw_all := lw_g (lw_at lw_m4 64 rfl) rfl
theorem q876 : (Jvm.Cond.instanceMethod ({ cls := "WorkflowEngine$BodyRun", name := "<init>", desc := "(LWorkflowEngine;LWorkflowEngine$Instance;LWorkflowEngine$Body;)V" } : Jvm.MethodName)) ∈ lw_all := lw_g (lw_at lw_m4 66 rfl) rfl
theorem q877 : (Jvm.Cond.code ({ cls := "WorkflowEngine$BodyRun", name := "<init>", desc := "(LWorkflowEngine;LWorkflowEngine$Instance;LWorkflowEngine$Body;)V" } : Jvm.MethodName) prog_8_method_1_code (4 : Nat) (Option.none : Option Jvm.ClassFile.FieldType)) ∈ lw_all := lw_g (lw_at lw_m4 67 rfl) rfl
theorem q878 : (Jvm.Cond.methodLink "WorkflowEngine$BodyRun" (9 : Nat) ({ cls := "WorkflowEngine$Run", name := "<init>", desc := "(LWorkflowEngine;LWorkflowEngine$Instance;)V" } : Jvm.MethodName)) ∈ lw_all := lw_g (lw_at lw_m4 68 rfl) rfl
theorem q882 : (Jvm.Cond.classLink "WorkflowEngine$BodyRun" (15 : Nat) "WorkflowEngine$Dones") ∈ lw_all := lw_g (lw_at lw_m4 72 rfl) rfl
theorem q884 : (Jvm.Cond.methodLinkNest "WorkflowEngine$BodyRun" (17 : Nat) ({ cls := "WorkflowEngine$Dones", name := "<init>", desc := "()V" } : Jvm.MethodName) "WorkflowEngine") ∈ lw_tbl := lw_at lw_m4 74 rfl
theorem q890 : (Jvm.Cond.fieldLinkNest "WorkflowEngine$BodyRun" (103 : Nat) "WorkflowEngine$Dones" "all" "[I" "WorkflowEngine") ∈ lw_tbl := lw_at lw_m4 80 rfl
theorem q893 : (Jvm.Cond.fieldLinkNest "WorkflowEngine$BodyRun" (100 : Nat) "WorkflowEngine$Dones" "many" "I" "WorkflowEngine") ∈ lw_tbl := lw_at lw_m4 83 rfl
theorem q899 : (Jvm.Cond.fieldLink "WorkflowEngine$BodyRun" (24 : Nat) "WorkflowEngine$BodyRun" "body" "LWorkflowEngine$Body;") ∈ lw_all := lw_g (lw_at lw_m4 89 rfl) rfl
theorem q900 : (Jvm.Cond.fieldLink "WorkflowEngine$BodyRun" (44 : Nat) "WorkflowEngine$BodyRun" "current" "LWorkflowEngine$Run;") ∈ lw_all := lw_g (lw_at lw_m4 90 rfl) rfl
theorem q901 : (Jvm.Cond.fieldLink "WorkflowEngine$BodyRun" (28 : Nat) "WorkflowEngine$BodyRun" "index" "I") ∈ lw_all := lw_g (lw_at lw_m4 91 rfl) rfl
theorem q902 : (Jvm.Cond.fieldLink "WorkflowEngine$BodyRun" (20 : Nat) "WorkflowEngine$BodyRun" "dones" "LWorkflowEngine$Dones;") ∈ lw_all := lw_g (lw_at lw_m4 92 rfl) rfl
theorem q903 : (Jvm.Cond.fieldLink "WorkflowEngine$BodyRun" (3 : Nat) "WorkflowEngine$BodyRun" "this$0" "LWorkflowEngine;") ∈ lw_all := lw_g (lw_at lw_m4 93 rfl) rfl
theorem q913 : (Jvm.Cond.fieldLink "WorkflowEngine$BodyRun" (54 : Nat) "WorkflowEngine$BodyRun" "in" "LWorkflowEngine$Instance;") ∈ lw_all := lw_g (lw_at lw_m4 103 rfl) rfl
theorem q914 : (Jvm.Cond.sameField "WorkflowEngine$BodyRun" "WorkflowEngine$Run" "in" "LWorkflowEngine$Instance;") ∈ lw_all := lw_g (lw_at lw_m4 104 rfl) rfl
theorem q918 : (Jvm.Cond.laysFinal "WorkflowEngine$BodyRun" "WorkflowEngine$BodyRun" "body" "LWorkflowEngine$Body;") ∈ lw_all := lw_g (lw_at lw_m4 108 rfl) rfl
theorem q919 : (Jvm.Cond.soleField "WorkflowEngine$BodyRun" "body") ∈ lw_all := lw_g (lw_at lw_m4 109 rfl) rfl
theorem q920 : (Jvm.Cond.lays "WorkflowEngine$BodyRun" "WorkflowEngine$BodyRun" "current" "LWorkflowEngine$Run;") ∈ lw_all := lw_g (lw_at lw_m4 110 rfl) rfl
theorem q921 : (Jvm.Cond.soleField "WorkflowEngine$BodyRun" "current") ∈ lw_all := lw_g (lw_at lw_m4 111 rfl) rfl
theorem q922 : (Jvm.Cond.lays "WorkflowEngine$BodyRun" "WorkflowEngine$BodyRun" "index" "I") ∈ lw_all := lw_g (lw_at lw_m4 112 rfl) rfl
theorem q923 : (Jvm.Cond.soleField "WorkflowEngine$BodyRun" "index") ∈ lw_all := lw_g (lw_at lw_m4 113 rfl) rfl
theorem q924 : (Jvm.Cond.lays "WorkflowEngine$BodyRun" "WorkflowEngine$BodyRun" "dones" "LWorkflowEngine$Dones;") ∈ lw_all := lw_g (lw_at lw_m4 114 rfl) rfl
theorem q925 : (Jvm.Cond.soleField "WorkflowEngine$BodyRun" "dones") ∈ lw_all := lw_g (lw_at lw_m4 115 rfl) rfl
theorem q926 : (Jvm.Cond.laysFinal "WorkflowEngine$BodyRun" "WorkflowEngine$BodyRun" "this$0" "LWorkflowEngine;") ∈ lw_all := lw_g (lw_at lw_m4 116 rfl) rfl
theorem q927 : (Jvm.Cond.soleField "WorkflowEngine$BodyRun" "this$0") ∈ lw_all := lw_g (lw_at lw_m4 117 rfl) rfl
theorem q928 : (Jvm.Cond.laysFinal "WorkflowEngine$BodyRun" "WorkflowEngine$Run" "in" "LWorkflowEngine$Instance;") ∈ lw_all := lw_g (lw_at lw_m4 118 rfl) rfl
theorem q930 : (Jvm.Cond.laysFinal "WorkflowEngine$BodyRun" "WorkflowEngine$Run" "this$0" "LWorkflowEngine;") ∈ lw_all := lw_g (lw_at lw_m4 120 rfl) rfl
theorem q932 : (Jvm.Cond.superclass "WorkflowEngine$BodyRun" "WorkflowEngine$Run") ∈ lw_all := lw_g (lw_at lw_m4 122 rfl) rfl
theorem q958 : (Jvm.Cond.selects "WorkflowEngine$BodyRun" ({ cls := "WorkflowEngine$Run", name := "looks", desc := "()LWorkflowEngine$Outcome;" } : Jvm.MethodName) ({ cls := "WorkflowEngine$BodyRun", name := "looks", desc := "()LWorkflowEngine$Outcome;" } : Jvm.MethodName)) ∈ lw_all := lw_g (lw_at lw_m4 148 rfl) rfl
theorem q959 : (Jvm.Cond.instanceMethod ({ cls := "WorkflowEngine$BodyRun", name := "looks", desc := "()LWorkflowEngine$Outcome;" } : Jvm.MethodName)) ∈ lw_all := lw_g (lw_at lw_m4 149 rfl) rfl
theorem q960 : (Jvm.Cond.code ({ cls := "WorkflowEngine$BodyRun", name := "looks", desc := "()LWorkflowEngine$Outcome;" } : Jvm.MethodName) prog_8_method_2_code (2 : Nat) (Option.some (Jvm.ClassFile.FieldType.object "WorkflowEngine$Outcome"))) ∈ lw_all := lw_g (lw_at lw_m4 150 rfl) rfl
theorem q961 : (Jvm.Cond.methodLink "WorkflowEngine$BodyRun" (38 : Nat) ({ cls := "java/util/ArrayList", name := "size", desc := "()I" } : Jvm.MethodName)) ∈ lw_all := lw_g (lw_at lw_m4 151 rfl) rfl
theorem q962 : (Jvm.Cond.methodLink "WorkflowEngine$BodyRun" (48 : Nat) ({ cls := "java/util/ArrayList", name := "get", desc := "(I)Ljava/lang/Object;" } : Jvm.MethodName)) ∈ lw_all := lw_g (lw_at lw_m4 152 rfl) rfl
theorem q963 : (Jvm.Cond.classLink "WorkflowEngine$BodyRun" (52 : Nat) "WorkflowEngine$Node") ∈ lw_all := lw_g (lw_at lw_m4 153 rfl) rfl
theorem q964 : (Jvm.Cond.methodLink "WorkflowEngine$BodyRun" (58 : Nat) ({ cls := "WorkflowEngine$Node", name := "begins", desc := "(LWorkflowEngine$Instance;)LWorkflowEngine$Run;" } : Jvm.MethodName)) ∈ lw_all := lw_g (lw_at lw_m4 154 rfl) rfl
theorem q1112 : (Jvm.Cond.methodLink "WorkflowEngine$BodyRun" (62 : Nat) ({ cls := "WorkflowEngine$Run", name := "looks", desc := "()LWorkflowEngine$Outcome;" } : Jvm.MethodName)) ∈ lw_all := lw_g (lw_at lw_m5 62 rfl) rfl
theorem q1208 : (Jvm.Cond.selects "WorkflowEngine$BodyRun" ({ cls := "WorkflowEngine$Run", name := "gathers", desc := "(LWorkflowEngine$Dones;)V" } : Jvm.MethodName) ({ cls := "WorkflowEngine$BodyRun", name := "gathers", desc := "(LWorkflowEngine$Dones;)V" } : Jvm.MethodName)) ∈ lw_all := lw_g (lw_at lw_m5 158 rfl) rfl
theorem q1209 : (Jvm.Cond.instanceMethod ({ cls := "WorkflowEngine$BodyRun", name := "gathers", desc := "(LWorkflowEngine$Dones;)V" } : Jvm.MethodName)) ∈ lw_all := lw_g (lw_at lw_m5 159 rfl) rfl
theorem q1210 : (Jvm.Cond.code ({ cls := "WorkflowEngine$BodyRun", name := "gathers", desc := "(LWorkflowEngine$Dones;)V" } : Jvm.MethodName) prog_8_method_6_code (3 : Nat) (Option.none : Option Jvm.ClassFile.FieldType)) ∈ lw_all := lw_g (lw_at lw_m5 160 rfl) rfl
theorem q1211 : (Jvm.Cond.methodLink "WorkflowEngine$BodyRun" (107 : Nat) ({ cls := "WorkflowEngine$Dones", name := "adds", desc := "(I)V" } : Jvm.MethodName)) ∈ lw_all := lw_g (lw_at lw_m5 161 rfl) rfl
theorem q1215 : (Jvm.Cond.methodLink "WorkflowEngine$BodyRun" (72 : Nat) ({ cls := "WorkflowEngine$Run", name := "gathers", desc := "(LWorkflowEngine$Dones;)V" } : Jvm.MethodName)) ∈ lw_all := lw_g (lw_at lw_m5 165 rfl) rfl
theorem q1274 : (Jvm.Cond.methodLink "WorkflowEngine$BodyRun" (66 : Nat) ({ cls := "WorkflowEngine$Outcome", name := "isOver", desc := "()Z" } : Jvm.MethodName)) ∈ lw_all := lw_g (lw_at lw_m5 224 rfl) rfl
theorem q1275 : (Jvm.Cond.fieldLink "WorkflowEngine$BodyRun" (76 : Nat) "WorkflowEngine$Outcome" "BREAKS" "LWorkflowEngine$Outcome;") ∈ lw_all := lw_g (lw_at lw_m5 225 rfl) rfl
theorem q1276 : (Jvm.Cond.fieldLink "WorkflowEngine$BodyRun" (80 : Nat) "WorkflowEngine$Outcome" "ENDS" "LWorkflowEngine$Outcome;") ∈ lw_all := lw_g (lw_at lw_m5 226 rfl) rfl
theorem q1368 : (Jvm.Cond.selects "WorkflowEngine$BodyRun" ({ cls := "WorkflowEngine$Run", name := "lists", desc := "(LWorkflowEngine$Places;)V" } : Jvm.MethodName) ({ cls := "WorkflowEngine$BodyRun", name := "lists", desc := "(LWorkflowEngine$Places;)V" } : Jvm.MethodName)) ∈ lw_all := lw_g (lw_at lw_m6 78 rfl) rfl
theorem q1369 : (Jvm.Cond.instanceMethod ({ cls := "WorkflowEngine$BodyRun", name := "lists", desc := "(LWorkflowEngine$Places;)V" } : Jvm.MethodName)) ∈ lw_all := lw_g (lw_at lw_m6 79 rfl) rfl
theorem q1370 : (Jvm.Cond.code ({ cls := "WorkflowEngine$BodyRun", name := "lists", desc := "(LWorkflowEngine$Places;)V" } : Jvm.MethodName) prog_8_method_5_code (2 : Nat) (Option.none : Option Jvm.ClassFile.FieldType)) ∈ lw_all := lw_g (lw_at lw_m6 80 rfl) rfl
theorem q1371 : (Jvm.Cond.methodLink "WorkflowEngine$BodyRun" (96 : Nat) ({ cls := "WorkflowEngine$Run", name := "lists", desc := "(LWorkflowEngine$Places;)V" } : Jvm.MethodName)) ∈ lw_all := lw_g (lw_at lw_m6 81 rfl) rfl
theorem q1403 : (Jvm.Cond.selects "WorkflowEngine$BodyRun" ({ cls := "WorkflowEngine$Run", name := "due", desc := "()I" } : Jvm.MethodName) ({ cls := "WorkflowEngine$BodyRun", name := "due", desc := "()I" } : Jvm.MethodName)) ∈ lw_all := lw_g (lw_at lw_m6 113 rfl) rfl
theorem q1404 : (Jvm.Cond.instanceMethod ({ cls := "WorkflowEngine$BodyRun", name := "due", desc := "()I" } : Jvm.MethodName)) ∈ lw_all := lw_g (lw_at lw_m6 114 rfl) rfl
theorem q1405 : (Jvm.Cond.code ({ cls := "WorkflowEngine$BodyRun", name := "due", desc := "()I" } : Jvm.MethodName) prog_8_method_4_code (1 : Nat) (Option.some Jvm.ClassFile.FieldType.int)) ∈ lw_all := lw_g (lw_at lw_m6 115 rfl) rfl
theorem q1406 : (Jvm.Cond.constant "WorkflowEngine$BodyRun" (92 : Nat) (2147483647 : Int32)) ∈ lw_all := lw_g (lw_at lw_m6 116 rfl) rfl
theorem q1407 : (Jvm.Cond.methodLink "WorkflowEngine$BodyRun" (93 : Nat) ({ cls := "WorkflowEngine$Run", name := "due", desc := "()I" } : Jvm.MethodName)) ∈ lw_all := lw_g (lw_at lw_m6 117 rfl) rfl
theorem q1458 : (Jvm.Cond.selects "WorkflowEngine$BodyRun" ({ cls := "WorkflowEngine$Run", name := "copy", desc := "(LWorkflowEngine$Instance;)LWorkflowEngine$Run;" } : Jvm.MethodName) ({ cls := "WorkflowEngine$BodyRun", name := "copy", desc := "(LWorkflowEngine$Instance;)LWorkflowEngine$Run;" } : Jvm.MethodName)) ∈ lw_all := lw_g (lw_at lw_m6 168 rfl) rfl
theorem q1459 : (Jvm.Cond.instanceMethod ({ cls := "WorkflowEngine$BodyRun", name := "copy", desc := "(LWorkflowEngine$Instance;)LWorkflowEngine$Run;" } : Jvm.MethodName)) ∈ lw_all := lw_g (lw_at lw_m6 169 rfl) rfl
theorem q1460 : (Jvm.Cond.code ({ cls := "WorkflowEngine$BodyRun", name := "copy", desc := "(LWorkflowEngine$Instance;)LWorkflowEngine$Run;" } : Jvm.MethodName) prog_8_method_3_code (3 : Nat) (Option.some (Jvm.ClassFile.FieldType.object "WorkflowEngine$Run"))) ∈ lw_all := lw_g (lw_at lw_m6 170 rfl) rfl
theorem q1461 : (Jvm.Cond.classLink "WorkflowEngine$BodyRun" (4 : Nat) "WorkflowEngine$BodyRun") ∈ lw_all := lw_g (lw_at lw_m6 171 rfl) rfl
theorem q1462 : (Jvm.Cond.methodLink "WorkflowEngine$BodyRun" (83 : Nat) ({ cls := "WorkflowEngine$BodyRun", name := "<init>", desc := "(LWorkflowEngine;LWorkflowEngine$Instance;LWorkflowEngine$Body;)V" } : Jvm.MethodName)) ∈ lw_all := lw_g (lw_at lw_m6 172 rfl) rfl
theorem q1463 : (Jvm.Cond.methodLink "WorkflowEngine$BodyRun" (86 : Nat) ({ cls := "WorkflowEngine$Run", name := "copy", desc := "(LWorkflowEngine$Instance;)LWorkflowEngine$Run;" } : Jvm.MethodName)) ∈ lw_all := lw_g (lw_at lw_m6 173 rfl) rfl
theorem q1483 : (Jvm.Cond.methodLink "WorkflowEngine$BodyRun" (89 : Nat) ({ cls := "WorkflowEngine$Dones", name := "copy", desc := "()LWorkflowEngine$Dones;" } : Jvm.MethodName)) ∈ lw_all := lw_g (lw_at lw_m6 193 rfl) rfl
theorem q2021 : (Jvm.Cond.castable "WorkflowEngine$BodyRun" "java/lang/Object") ∈ lw_tbl := lw_at lw_m9 11 rfl
theorem q2036 : (Jvm.Cond.castable "WorkflowEngine$BodyRun" "WorkflowEngine$Run") ∈ lw_tbl := lw_at lw_m9 26 rfl
theorem in_X18 : ∀ w ∈ wsX180, w ∈ lw_all := lw_in wsX180 [928, 930, 918, 920, 922, 924, 926] (by decide +kernel) (by decide +kernel)
def RX19 : String := "WorkflowEngine$Dones"
def TX19 : u_T := fun k => match k with
  | 0 => ("WorkflowEngine$Dones", "all", "[I", false)
  | _ => ("WorkflowEngine$Dones", "many", "I", false)
def tyX19 : Nat → FieldType := fun k => match k with
  | 0 => .array .int
  | _ => .int
abbrev wsX190 : List Cond := u_ws RX19 TX19 2
theorem nmX19 : ∀ a, a < 2 → ∀ b, b < 2 → a ≠ b → (TX19 a).2.1 ≠ (TX19 b).2.1 := by decide +kernel
theorem tyX19_ok : ∀ k, k < 2 → parseFieldDescriptor (TX19 k).2.2.1 = some (tyX19 k) := by decide +kernel
abbrev cX19_init : ByteArray := prog_11_method_1_code
def yX19_init : MethodName := ⟨RX19, "<init>", "()V"⟩
abbrev cX19_adds : ByteArray := prog_11_method_3_code
def yX19_adds : MethodName := ⟨RX19, "adds", "(I)V"⟩
abbrev cX19_copy : ByteArray := prog_11_method_2_code
def yX19_copy : MethodName := ⟨RX19, "copy", "()LWorkflowEngine$Dones;"⟩
theorem q121 : (Jvm.Cond.initialized "WorkflowEngine$Dones") ∈ lw_all := lw_g (lw_at lw_m1 31 rfl) rfl
theorem q523 : (Jvm.Cond.selects "WorkflowEngine$Dones" ({ cls := "java/lang/Object", name := "getClass", desc := "()Ljava/lang/Class;" } : Jvm.MethodName) ({ cls := "java/lang/Object", name := "getClass", desc := "()Ljava/lang/Class;" } : Jvm.MethodName)) ∈ lw_all := lw_g (lw_at lw_m2 193 rfl) rfl
theorem q883 : (Jvm.Cond.instantiable "WorkflowEngine$Dones" (2 : Nat)) ∈ lw_all := lw_g (lw_at lw_m4 73 rfl) rfl
theorem q885 : (Jvm.Cond.instanceMethod ({ cls := "WorkflowEngine$Dones", name := "<init>", desc := "()V" } : Jvm.MethodName)) ∈ lw_all := lw_g (lw_at lw_m4 75 rfl) rfl
theorem q886 : (Jvm.Cond.code ({ cls := "WorkflowEngine$Dones", name := "<init>", desc := "()V" } : Jvm.MethodName) prog_11_method_1_code (1 : Nat) (Option.none : Option Jvm.ClassFile.FieldType)) ∈ lw_all := lw_g (lw_at lw_m4 76 rfl) rfl
theorem q887 : (Jvm.Cond.methodLink "WorkflowEngine$Dones" (3 : Nat) ({ cls := "java/lang/Object", name := "<init>", desc := "()V" } : Jvm.MethodName)) ∈ lw_all := lw_g (lw_at lw_m4 77 rfl) rfl
theorem q888 : (Jvm.Cond.fieldLink "WorkflowEngine$Dones" (9 : Nat) "WorkflowEngine$Dones" "all" "[I") ∈ lw_all := lw_g (lw_at lw_m4 78 rfl) rfl
theorem q892 : (Jvm.Cond.fieldLink "WorkflowEngine$Dones" (21 : Nat) "WorkflowEngine$Dones" "many" "I") ∈ lw_all := lw_g (lw_at lw_m4 82 rfl) rfl
theorem q894 : (Jvm.Cond.lays "WorkflowEngine$Dones" "WorkflowEngine$Dones" "all" "[I") ∈ lw_all := lw_g (lw_at lw_m4 84 rfl) rfl
theorem q895 : (Jvm.Cond.soleField "WorkflowEngine$Dones" "all") ∈ lw_all := lw_g (lw_at lw_m4 85 rfl) rfl
theorem q896 : (Jvm.Cond.lays "WorkflowEngine$Dones" "WorkflowEngine$Dones" "many" "I") ∈ lw_all := lw_g (lw_at lw_m4 86 rfl) rfl
theorem q897 : (Jvm.Cond.soleField "WorkflowEngine$Dones" "many") ∈ lw_all := lw_g (lw_at lw_m4 87 rfl) rfl
theorem q898 : (Jvm.Cond.superclass "WorkflowEngine$Dones" "java/lang/Object") ∈ lw_all := lw_g (lw_at lw_m4 88 rfl) rfl
theorem q1212 : (Jvm.Cond.instanceMethod ({ cls := "WorkflowEngine$Dones", name := "adds", desc := "(I)V" } : Jvm.MethodName)) ∈ lw_all := lw_g (lw_at lw_m5 162 rfl) rfl
theorem q1213 : (Jvm.Cond.selects "WorkflowEngine$Dones" ({ cls := "WorkflowEngine$Dones", name := "adds", desc := "(I)V" } : Jvm.MethodName) ({ cls := "WorkflowEngine$Dones", name := "adds", desc := "(I)V" } : Jvm.MethodName)) ∈ lw_all := lw_g (lw_at lw_m5 163 rfl) rfl
theorem q1214 : (Jvm.Cond.code ({ cls := "WorkflowEngine$Dones", name := "adds", desc := "(I)V" } : Jvm.MethodName) prog_11_method_3_code (3 : Nat) (Option.none : Option Jvm.ClassFile.FieldType)) ∈ lw_all := lw_g (lw_at lw_m5 164 rfl) rfl
theorem q1484 : (Jvm.Cond.instanceMethod ({ cls := "WorkflowEngine$Dones", name := "copy", desc := "()LWorkflowEngine$Dones;" } : Jvm.MethodName)) ∈ lw_all := lw_g (lw_at lw_m6 194 rfl) rfl
theorem q1485 : (Jvm.Cond.selects "WorkflowEngine$Dones" ({ cls := "WorkflowEngine$Dones", name := "copy", desc := "()LWorkflowEngine$Dones;" } : Jvm.MethodName) ({ cls := "WorkflowEngine$Dones", name := "copy", desc := "()LWorkflowEngine$Dones;" } : Jvm.MethodName)) ∈ lw_all := lw_g (lw_at lw_m6 195 rfl) rfl
theorem q1486 : (Jvm.Cond.code ({ cls := "WorkflowEngine$Dones", name := "copy", desc := "()LWorkflowEngine$Dones;" } : Jvm.MethodName) prog_11_method_2_code (2 : Nat) (Option.some (Jvm.ClassFile.FieldType.object "WorkflowEngine$Dones"))) ∈ lw_all := lw_g (lw_at lw_m6 196 rfl) rfl
theorem q1487 : (Jvm.Cond.classLink "WorkflowEngine$Dones" (10 : Nat) "WorkflowEngine$Dones") ∈ lw_all := lw_g (lw_at lw_m6 197 rfl) rfl
theorem q1488 : (Jvm.Cond.methodLink "WorkflowEngine$Dones" (15 : Nat) ({ cls := "WorkflowEngine$Dones", name := "<init>", desc := "()V" } : Jvm.MethodName)) ∈ lw_all := lw_g (lw_at lw_m6 198 rfl) rfl
theorem q1489 : (Jvm.Cond.methodLink "WorkflowEngine$Dones" (16 : Nat) ({ cls := "[I", name := "clone", desc := "()Ljava/lang/Object;" } : Jvm.MethodName)) ∈ lw_all := lw_g (lw_at lw_m6 199 rfl) rfl
theorem q1490 : (Jvm.Cond.classLink "WorkflowEngine$Dones" (17 : Nat) "[I") ∈ lw_all := lw_g (lw_at lw_m6 200 rfl) rfl
theorem q2022 : (Jvm.Cond.castable "WorkflowEngine$Dones" "java/lang/Object") ∈ lw_tbl := lw_at lw_m9 12 rfl
theorem in_X19 : ∀ w ∈ wsX190, w ∈ lw_all := lw_in wsX190 [894, 896] (by decide +kernel) (by decide +kernel)
def RX2 : String := "WorkflowEngineModel"
def TX2 : u_T := fun k => match k with
  | 0 => ("WorkflowEngineModel", "v", "[I", true)
  | 1 => ("WorkflowEngineModel", "keptV", "[I", true)
  | 2 => ("WorkflowEngineModel", "size", "[I", true)
  | 3 => ("WorkflowEngineModel", "keptSize", "[I", true)
  | 4 => ("WorkflowEngineModel", "s", "[I", true)
  | 5 => ("WorkflowEngineModel", "kept", "[I", true)
  | 6 => ("WorkflowEngineModel", "aside", "[I", true)
  | 7 => ("WorkflowEngineModel", "isKept", "Z", false)
  | 8 => ("WorkflowEngineModel", "tape", "[I", true)
  | 9 => ("WorkflowEngineModel", "fed", "I", false)
  | 10 => ("WorkflowEngineModel", "wrongAt", "I", false)
  | 11 => ("WorkflowEngineModel", "wrongWhy", "I", false)
  | 12 => ("WorkflowEngineModel", "at", "I", false)
  | 13 => ("WorkflowEngineModel", "why", "I", false)
  | 14 => ("WorkflowEngineModel", "nodes", "I", false)
  | 15 => ("WorkflowEngineModel", "items", "I", false)
  | 16 => ("WorkflowEngineModel", "open", "I", false)
  | 17 => ("WorkflowEngineModel", "mostOpen", "I", false)
  | 18 => ("WorkflowEngineModel", "number", "I", false)
  | 19 => ("WorkflowEngineModel", "keptWrongAt", "I", false)
  | _ => ("WorkflowEngineModel", "keptWrongWhy", "I", false)
def tyX2 : Nat → FieldType := fun k => match k with
  | 0 => .array .int
  | 1 => .array .int
  | 2 => .array .int
  | 3 => .array .int
  | 4 => .array .int
  | 5 => .array .int
  | 6 => .array .int
  | 7 => .boolean
  | 8 => .array .int
  | 9 => .int
  | 10 => .int
  | 11 => .int
  | 12 => .int
  | 13 => .int
  | 14 => .int
  | 15 => .int
  | 16 => .int
  | 17 => .int
  | 18 => .int
  | 19 => .int
  | _ => .int
abbrev wsX20 : List Cond := u_ws RX2 TX2 21
theorem nmX2 : ∀ a, a < 21 → ∀ b, b < 21 → a ≠ b → (TX2 a).2.1 ≠ (TX2 b).2.1 := by decide +kernel
theorem tyX2_ok : ∀ k, k < 21 → parseFieldDescriptor (TX2 k).2.2.1 = some (tyX2 k) := by decide +kernel
abbrev cX2_init : ByteArray := prog_34_method_1_code
def yX2_init : MethodName := ⟨RX2, "<init>", "()V"⟩
abbrev cX2_feed : ByteArray := prog_34_method_5_code
def yX2_feed : MethodName := ⟨RX2, "feed", "(I)I"⟩
abbrev cX2_isIn : ByteArray := prog_34_method_2_code
def yX2_isIn : MethodName := ⟨RX2, "isIn", "(III)Z"⟩
abbrev cX2_define : ByteArray := prog_34_method_27_code
def yX2_define : MethodName := ⟨RX2, "define", "(I)I"⟩
abbrev cX2_isWorkflow : ByteArray := prog_34_method_4_code
def yX2_isWorkflow : MethodName := ⟨RX2, "isWorkflow", "(I)Z"⟩
abbrev cX2_readsBody : ByteArray := prog_34_method_18_code
def yX2_readsBody : MethodName := ⟨RX2, "readsBody", "(II)Z"⟩
abbrev cX2_makes : ByteArray := prog_34_method_15_code
def yX2_makes : MethodName := ⟨RX2, "makes", "(II)I"⟩
abbrev cX2_put : ByteArray := prog_34_method_14_code
def yX2_put : MethodName := ⟨RX2, "put", "(III)V"⟩
abbrev cX2_part : ByteArray := prog_34_method_12_code
def yX2_part : MethodName := ⟨RX2, "part", "(III)I"⟩
abbrev cX2_readsItem : ByteArray := prog_34_method_19_code
def yX2_readsItem : MethodName := ⟨RX2, "readsItem", "(I)Z"⟩
abbrev cX2_here : ByteArray := prog_34_method_6_code
def yX2_here : MethodName := ⟨RX2, "here", "()I"⟩
abbrev cX2_beginsItem : ByteArray := prog_34_method_16_code
def yX2_beginsItem : MethodName := ⟨RX2, "beginsItem", "(I)Z"⟩
abbrev cX2_isTooMuch : ByteArray := prog_34_method_17_code
def yX2_isTooMuch : MethodName := ⟨RX2, "isTooMuch", "()Z"⟩
abbrev cX2_readsTask : ByteArray := prog_34_method_20_code
def yX2_readsTask : MethodName := ⟨RX2, "readsTask", "(I)Z"⟩
abbrev cX2_takesCode : ByteArray := prog_34_method_11_code
def yX2_takesCode : MethodName := ⟨RX2, "takesCode", "()Z"⟩
abbrev cX2_takes : ByteArray := prog_34_method_7_code
def yX2_takes : MethodName := ⟨RX2, "takes", "(I)Z"⟩
abbrev cX2_takesDigit : ByteArray := prog_34_method_8_code
def yX2_takesDigit : MethodName := ⟨RX2, "takesDigit", "(II)Z"⟩
abbrev cX2_takesNumber : ByteArray := prog_34_method_9_code
def yX2_takesNumber : MethodName := ⟨RX2, "takesNumber", "()Z"⟩
abbrev cX2_readsWait : ByteArray := prog_34_method_21_code
def yX2_readsWait : MethodName := ⟨RX2, "readsWait", "(I)Z"⟩
abbrev cX2_readsSignal : ByteArray := prog_34_method_22_code
def yX2_readsSignal : MethodName := ⟨RX2, "readsSignal", "(I)Z"⟩
abbrev cX2_readsSet : ByteArray := prog_34_method_23_code
def yX2_readsSet : MethodName := ⟨RX2, "readsSet", "(I)Z"⟩
abbrev cX2_takesSigned : ByteArray := prog_34_method_10_code
def yX2_takesSigned : MethodName := ⟨RX2, "takesSigned", "()Z"⟩
abbrev cX2_readsChoice : ByteArray := prog_34_method_25_code
def yX2_readsChoice : MethodName := ⟨RX2, "readsChoice", "(I)Z"⟩
abbrev cX2_opens : ByteArray := prog_34_method_24_code
def yX2_opens : MethodName := ⟨RX2, "opens", "()V"⟩
abbrev cX2_readsParallel : ByteArray := prog_34_method_26_code
def yX2_readsParallel : MethodName := ⟨RX2, "readsParallel", "(I)Z"⟩
abbrev cX2_wrong : ByteArray := prog_34_method_28_code
def yX2_wrong : MethodName := ⟨RX2, "wrong", "(I)I"⟩
abbrev cX2_version : ByteArray := prog_34_method_34_code
def yX2_version : MethodName := ⟨RX2, "version", "(III)I"⟩
abbrev cX2_tasksIn : ByteArray := prog_34_method_32_code
def yX2_tasksIn : MethodName := ⟨RX2, "tasksIn", "(I)I"⟩
abbrev cX2_kind : ByteArray := prog_34_method_29_code
def yX2_kind : MethodName := ⟨RX2, "kind", "(II)I"⟩
abbrev cX2_width : ByteArray := prog_34_method_33_code
def yX2_width : MethodName := ⟨RX2, "width", "(II)I"⟩
abbrev cX2_child : ByteArray := prog_34_method_30_code
def yX2_child : MethodName := ⟨RX2, "child", "(II)I"⟩
abbrev cX2_next : ByteArray := prog_34_method_31_code
def yX2_next : MethodName := ⟨RX2, "next", "(II)I"⟩
abbrev cX2_duration : ByteArray := prog_34_method_35_code
def yX2_duration : MethodName := ⟨RX2, "duration", "(II)I"⟩
abbrev cX2_isCode : ByteArray := prog_34_method_3_code
def yX2_isCode : MethodName := ⟨RX2, "isCode", "(I)Z"⟩
abbrev cX2_failures : ByteArray := prog_34_method_36_code
def yX2_failures : MethodName := ⟨RX2, "failures", "(II)I"⟩
abbrev cX2_start : ByteArray := prog_34_method_64_code
def yX2_start : MethodName := ⟨RX2, "start", "(I)I"⟩
abbrev cX2_instances : ByteArray := prog_34_method_63_code
def yX2_instances : MethodName := ⟨RX2, "instances", "()I"⟩
abbrev cX2_of : ByteArray := prog_34_method_38_code
def yX2_of : MethodName := ⟨RX2, "of", "(II)I"⟩
abbrev cX2_at : ByteArray := prog_34_method_39_code
def yX2_at : MethodName := ⟨RX2, "at", "(III)I"⟩
abbrev cX2_looksAt : ByteArray := prog_34_method_62_code
def yX2_looksAt : MethodName := ⟨RX2, "looksAt", "(I)V"⟩
abbrev cX2_looksAtBody : ByteArray := prog_34_method_51_code
def yX2_looksAtBody : MethodName := ⟨RX2, "looksAtBody", "(II)I"⟩
abbrev cX2_nodePart : ByteArray := prog_34_method_41_code
def yX2_nodePart : MethodName := ⟨RX2, "nodePart", "(III)I"⟩
abbrev cX2_versionOf : ByteArray := prog_34_method_40_code
def yX2_versionOf : MethodName := ⟨RX2, "versionOf", "(I)I"⟩
abbrev cX2_begins : ByteArray := prog_34_method_50_code
def yX2_begins : MethodName := ⟨RX2, "begins", "(II)I"⟩
abbrev cX2_tries : ByteArray := prog_34_method_45_code
def yX2_tries : MethodName := ⟨RX2, "tries", "(II)V"⟩
abbrev cX2_notes : ByteArray := prog_34_method_43_code
def yX2_notes : MethodName := ⟨RX2, "notes", "(III)V"⟩
abbrev cX2_looks : ByteArray := prog_34_method_49_code
def yX2_looks : MethodName := ⟨RX2, "looks", "(II)I"⟩
abbrev cX2_looksAtTask : ByteArray := prog_34_method_46_code
def yX2_looksAtTask : MethodName := ⟨RX2, "looksAtTask", "(II)I"⟩
abbrev cX2_fails : ByteArray := prog_34_method_37_code
def yX2_fails : MethodName := ⟨RX2, "fails", "(I)Z"⟩
abbrev cX2_comesTo : ByteArray := prog_34_method_44_code
def yX2_comesTo : MethodName := ⟨RX2, "comesTo", "(III)I"⟩
abbrev cX2_looksAtSignal : ByteArray := prog_34_method_47_code
def yX2_looksAtSignal : MethodName := ⟨RX2, "looksAtSignal", "(II)I"⟩
abbrev cX2_sets : ByteArray := prog_34_method_48_code
def yX2_sets : MethodName := ⟨RX2, "sets", "(II)I"⟩
abbrev cX2_looksAtParallel : ByteArray := prog_34_method_55_code
def yX2_looksAtParallel : MethodName := ⟨RX2, "looksAtParallel", "(II)I"⟩
abbrev cX2_bodiesIn : ByteArray := prog_34_method_52_code
def yX2_bodiesIn : MethodName := ⟨RX2, "bodiesIn", "(III)I"⟩
abbrev cX2_cancelsBodies : ByteArray := prog_34_method_54_code
def yX2_cancelsBodies : MethodName := ⟨RX2, "cancelsBodies", "(II)V"⟩
abbrev cX2_cancels : ByteArray := prog_34_method_53_code
def yX2_cancels : MethodName := ⟨RX2, "cancels", "(II)V"⟩
abbrev cX2_compensates : ByteArray := prog_34_method_60_code
def yX2_compensates : MethodName := ⟨RX2, "compensates", "(II)Z"⟩
abbrev cX2_nextToCompensate : ByteArray := prog_34_method_57_code
def yX2_nextToCompensate : MethodName := ⟨RX2, "nextToCompensate", "(II)I"⟩
abbrev cX2_isFor : ByteArray := prog_34_method_56_code
def yX2_isFor : MethodName := ⟨RX2, "isFor", "(III)Z"⟩
abbrev cX2_triesToCompensate : ByteArray := prog_34_method_58_code
def yX2_triesToCompensate : MethodName := ⟨RX2, "triesToCompensate", "(II)V"⟩
abbrev cX2_handles : ByteArray := prog_34_method_59_code
def yX2_handles : MethodName := ⟨RX2, "handles", "(IIII)V"⟩
abbrev cX2_becomes : ByteArray := prog_34_method_61_code
def yX2_becomes : MethodName := ⟨RX2, "becomes", "(II)V"⟩
abbrev cX2_signal : ByteArray := prog_34_method_65_code
def yX2_signal : MethodName := ⟨RX2, "signal", "(II)I"⟩
abbrev cX2_isInstance : ByteArray := prog_34_method_42_code
def yX2_isInstance : MethodName := ⟨RX2, "isInstance", "(I)Z"⟩
abbrev cX2_abort : ByteArray := prog_34_method_66_code
def yX2_abort : MethodName := ⟨RX2, "abort", "(I)I"⟩
abbrev cX2_remove : ByteArray := prog_34_method_67_code
def yX2_remove : MethodName := ⟨RX2, "remove", "(I)I"⟩
abbrev cX2_pass : ByteArray := prog_34_method_69_code
def yX2_pass : MethodName := ⟨RX2, "pass", "(I)I"⟩
abbrev cX2_passes : ByteArray := prog_34_method_68_code
def yX2_passes : MethodName := ⟨RX2, "passes", "()V"⟩
abbrev cX2_instance : ByteArray := prog_34_method_70_code
def yX2_instance : MethodName := ⟨RX2, "instance", "(II)I"⟩
abbrev cX2_entry : ByteArray := prog_34_method_72_code
def yX2_entry : MethodName := ⟨RX2, "entry", "(III)I"⟩
abbrev cX2_keptEntries : ByteArray := prog_34_method_71_code
def yX2_keptEntries : MethodName := ⟨RX2, "keptEntries", "(I)I"⟩
abbrev cX2_running : ByteArray := prog_34_method_74_code
def yX2_running : MethodName := ⟨RX2, "running", "(II)I"⟩
abbrev cX2_runs : ByteArray := prog_34_method_73_code
def yX2_runs : MethodName := ⟨RX2, "runs", "(II)Z"⟩
abbrev cX2_due : ByteArray := prog_34_method_76_code
def yX2_due : MethodName := ⟨RX2, "due", "(I)I"⟩
abbrev cX2_dueAt : ByteArray := prog_34_method_75_code
def yX2_dueAt : MethodName := ⟨RX2, "dueAt", "(II)I"⟩
abbrev cX2_ahead : ByteArray := prog_34_method_78_code
def yX2_ahead : MethodName := ⟨RX2, "ahead", "(II)I"⟩
abbrev cX2_copies : ByteArray := prog_34_method_77_code
def yX2_copies : MethodName := ⟨RX2, "copies", "([I[II)V"⟩
abbrev cX2_replayed : ByteArray := prog_34_method_80_code
def yX2_replayed : MethodName := ⟨RX2, "replayed", "(II)I"⟩
abbrev cX2_entriesOf : ByteArray := prog_34_method_79_code
def yX2_entriesOf : MethodName := ⟨RX2, "entriesOf", "(II)I"⟩
abbrev cX2_statistic : ByteArray := prog_34_method_82_code
def yX2_statistic : MethodName := ⟨RX2, "statistic", "(II)I"⟩
abbrev cX2_instancesOf : ByteArray := prog_34_method_81_code
def yX2_instancesOf : MethodName := ⟨RX2, "instancesOf", "(II)I"⟩
abbrev cX2_image : ByteArray := prog_34_method_83_code
def yX2_image : MethodName := ⟨RX2, "image", "()I"⟩
abbrev cX2_undo : ByteArray := prog_34_method_84_code
def yX2_undo : MethodName := ⟨RX2, "undo", "()I"⟩
abbrev cX2_count : ByteArray := prog_34_method_87_code
def yX2_count : MethodName := ⟨RX2, "count", "(I)I"⟩
abbrev cX2_withStatus : ByteArray := prog_34_method_85_code
def yX2_withStatus : MethodName := ⟨RX2, "withStatus", "(I)I"⟩
abbrev cX2_versions : ByteArray := prog_34_method_86_code
def yX2_versions : MethodName := ⟨RX2, "versions", "()I"⟩
theorem q93 : (Jvm.Cond.initialized "WorkflowEngineModel") ∈ lw_all := lw_g (lw_at lw_m1 3 rfl) rfl
theorem q542 : (Jvm.Cond.selects "WorkflowEngineModel" ({ cls := "java/lang/Object", name := "getClass", desc := "()Ljava/lang/Class;" } : Jvm.MethodName) ({ cls := "java/lang/Object", name := "getClass", desc := "()Ljava/lang/Class;" } : Jvm.MethodName)) ∈ lw_all := lw_g (lw_at lw_m2 212 rfl) rfl
theorem q1589 : (Jvm.Cond.instantiable "WorkflowEngineModel" (21 : Nat)) ∈ lw_all := lw_g (lw_at lw_m7 59 rfl) rfl
theorem q1591 : (Jvm.Cond.instanceMethod ({ cls := "WorkflowEngineModel", name := "<init>", desc := "()V" } : Jvm.MethodName)) ∈ lw_all := lw_g (lw_at lw_m7 61 rfl) rfl
theorem q1592 : (Jvm.Cond.code ({ cls := "WorkflowEngineModel", name := "<init>", desc := "()V" } : Jvm.MethodName) prog_34_method_1_code (2 : Nat) (Option.none : Option Jvm.ClassFile.FieldType)) ∈ lw_all := lw_g (lw_at lw_m7 62 rfl) rfl
theorem q1593 : (Jvm.Cond.methodLink "WorkflowEngineModel" (3 : Nat) ({ cls := "java/lang/Object", name := "<init>", desc := "()V" } : Jvm.MethodName)) ∈ lw_all := lw_g (lw_at lw_m7 63 rfl) rfl
theorem q1594 : (Jvm.Cond.fieldLink "WorkflowEngineModel" (9 : Nat) "WorkflowEngineModel" "v" "[I") ∈ lw_all := lw_g (lw_at lw_m7 64 rfl) rfl
theorem q1595 : (Jvm.Cond.fieldLink "WorkflowEngineModel" (13 : Nat) "WorkflowEngineModel" "keptV" "[I") ∈ lw_all := lw_g (lw_at lw_m7 65 rfl) rfl
theorem q1596 : (Jvm.Cond.fieldLink "WorkflowEngineModel" (16 : Nat) "WorkflowEngineModel" "size" "[I") ∈ lw_all := lw_g (lw_at lw_m7 66 rfl) rfl
theorem q1597 : (Jvm.Cond.fieldLink "WorkflowEngineModel" (19 : Nat) "WorkflowEngineModel" "keptSize" "[I") ∈ lw_all := lw_g (lw_at lw_m7 67 rfl) rfl
theorem q1598 : (Jvm.Cond.fieldLink "WorkflowEngineModel" (22 : Nat) "WorkflowEngineModel" "s" "[I") ∈ lw_all := lw_g (lw_at lw_m7 68 rfl) rfl
theorem q1599 : (Jvm.Cond.fieldLink "WorkflowEngineModel" (25 : Nat) "WorkflowEngineModel" "kept" "[I") ∈ lw_all := lw_g (lw_at lw_m7 69 rfl) rfl
theorem q1600 : (Jvm.Cond.fieldLink "WorkflowEngineModel" (28 : Nat) "WorkflowEngineModel" "aside" "[I") ∈ lw_all := lw_g (lw_at lw_m7 70 rfl) rfl
theorem q1601 : (Jvm.Cond.fieldLink "WorkflowEngineModel" (284 : Nat) "WorkflowEngineModel" "isKept" "Z") ∈ lw_all := lw_g (lw_at lw_m7 71 rfl) rfl
theorem q1602 : (Jvm.Cond.fieldLink "WorkflowEngineModel" (31 : Nat) "WorkflowEngineModel" "tape" "[I") ∈ lw_all := lw_g (lw_at lw_m7 72 rfl) rfl
theorem q1603 : (Jvm.Cond.fieldLink "WorkflowEngineModel" (42 : Nat) "WorkflowEngineModel" "fed" "I") ∈ lw_all := lw_g (lw_at lw_m7 73 rfl) rfl
theorem q1604 : (Jvm.Cond.fieldLink "WorkflowEngineModel" (34 : Nat) "WorkflowEngineModel" "wrongAt" "I") ∈ lw_all := lw_g (lw_at lw_m7 74 rfl) rfl
theorem q1605 : (Jvm.Cond.fieldLink "WorkflowEngineModel" (141 : Nat) "WorkflowEngineModel" "wrongWhy" "I") ∈ lw_all := lw_g (lw_at lw_m7 75 rfl) rfl
theorem q1606 : (Jvm.Cond.fieldLink "WorkflowEngineModel" (45 : Nat) "WorkflowEngineModel" "at" "I") ∈ lw_all := lw_g (lw_at lw_m7 76 rfl) rfl
theorem q1607 : (Jvm.Cond.fieldLink "WorkflowEngineModel" (78 : Nat) "WorkflowEngineModel" "why" "I") ∈ lw_all := lw_g (lw_at lw_m7 77 rfl) rfl
theorem q1608 : (Jvm.Cond.fieldLink "WorkflowEngineModel" (71 : Nat) "WorkflowEngineModel" "nodes" "I") ∈ lw_all := lw_g (lw_at lw_m7 78 rfl) rfl
theorem q1609 : (Jvm.Cond.fieldLink "WorkflowEngineModel" (91 : Nat) "WorkflowEngineModel" "items" "I") ∈ lw_all := lw_g (lw_at lw_m7 79 rfl) rfl
theorem q1610 : (Jvm.Cond.fieldLink "WorkflowEngineModel" (94 : Nat) "WorkflowEngineModel" "open" "I") ∈ lw_all := lw_g (lw_at lw_m7 80 rfl) rfl
theorem q1611 : (Jvm.Cond.fieldLink "WorkflowEngineModel" (124 : Nat) "WorkflowEngineModel" "mostOpen" "I") ∈ lw_all := lw_g (lw_at lw_m7 81 rfl) rfl
theorem q1612 : (Jvm.Cond.fieldLink "WorkflowEngineModel" (52 : Nat) "WorkflowEngineModel" "number" "I") ∈ lw_all := lw_g (lw_at lw_m7 82 rfl) rfl
theorem q1613 : (Jvm.Cond.fieldLink "WorkflowEngineModel" (278 : Nat) "WorkflowEngineModel" "keptWrongAt" "I") ∈ lw_all := lw_g (lw_at lw_m7 83 rfl) rfl
theorem q1614 : (Jvm.Cond.fieldLink "WorkflowEngineModel" (281 : Nat) "WorkflowEngineModel" "keptWrongWhy" "I") ∈ lw_all := lw_g (lw_at lw_m7 84 rfl) rfl
theorem q1615 : (Jvm.Cond.laysFinal "WorkflowEngineModel" "WorkflowEngineModel" "v" "[I") ∈ lw_all := lw_g (lw_at lw_m7 85 rfl) rfl
theorem q1616 : (Jvm.Cond.soleField "WorkflowEngineModel" "v") ∈ lw_all := lw_g (lw_at lw_m7 86 rfl) rfl
theorem q1617 : (Jvm.Cond.laysFinal "WorkflowEngineModel" "WorkflowEngineModel" "keptV" "[I") ∈ lw_all := lw_g (lw_at lw_m7 87 rfl) rfl
theorem q1618 : (Jvm.Cond.soleField "WorkflowEngineModel" "keptV") ∈ lw_all := lw_g (lw_at lw_m7 88 rfl) rfl
theorem q1619 : (Jvm.Cond.laysFinal "WorkflowEngineModel" "WorkflowEngineModel" "size" "[I") ∈ lw_all := lw_g (lw_at lw_m7 89 rfl) rfl
theorem q1620 : (Jvm.Cond.soleField "WorkflowEngineModel" "size") ∈ lw_all := lw_g (lw_at lw_m7 90 rfl) rfl
theorem q1621 : (Jvm.Cond.laysFinal "WorkflowEngineModel" "WorkflowEngineModel" "keptSize" "[I") ∈ lw_all := lw_g (lw_at lw_m7 91 rfl) rfl
theorem q1622 : (Jvm.Cond.soleField "WorkflowEngineModel" "keptSize") ∈ lw_all := lw_g (lw_at lw_m7 92 rfl) rfl
theorem q1623 : (Jvm.Cond.laysFinal "WorkflowEngineModel" "WorkflowEngineModel" "s" "[I") ∈ lw_all := lw_g (lw_at lw_m7 93 rfl) rfl
theorem q1624 : (Jvm.Cond.soleField "WorkflowEngineModel" "s") ∈ lw_all := lw_g (lw_at lw_m7 94 rfl) rfl
theorem q1625 : (Jvm.Cond.laysFinal "WorkflowEngineModel" "WorkflowEngineModel" "kept" "[I") ∈ lw_all := lw_g (lw_at lw_m7 95 rfl) rfl
theorem q1626 : (Jvm.Cond.soleField "WorkflowEngineModel" "kept") ∈ lw_all := lw_g (lw_at lw_m7 96 rfl) rfl
theorem q1627 : (Jvm.Cond.laysFinal "WorkflowEngineModel" "WorkflowEngineModel" "aside" "[I") ∈ lw_all := lw_g (lw_at lw_m7 97 rfl) rfl
theorem q1628 : (Jvm.Cond.soleField "WorkflowEngineModel" "aside") ∈ lw_all := lw_g (lw_at lw_m7 98 rfl) rfl
theorem q1629 : (Jvm.Cond.lays "WorkflowEngineModel" "WorkflowEngineModel" "isKept" "Z") ∈ lw_all := lw_g (lw_at lw_m7 99 rfl) rfl
theorem q1630 : (Jvm.Cond.soleField "WorkflowEngineModel" "isKept") ∈ lw_all := lw_g (lw_at lw_m7 100 rfl) rfl
theorem q1631 : (Jvm.Cond.laysFinal "WorkflowEngineModel" "WorkflowEngineModel" "tape" "[I") ∈ lw_all := lw_g (lw_at lw_m7 101 rfl) rfl
theorem q1632 : (Jvm.Cond.soleField "WorkflowEngineModel" "tape") ∈ lw_all := lw_g (lw_at lw_m7 102 rfl) rfl
theorem q1633 : (Jvm.Cond.lays "WorkflowEngineModel" "WorkflowEngineModel" "fed" "I") ∈ lw_all := lw_g (lw_at lw_m7 103 rfl) rfl
theorem q1634 : (Jvm.Cond.soleField "WorkflowEngineModel" "fed") ∈ lw_all := lw_g (lw_at lw_m7 104 rfl) rfl
theorem q1635 : (Jvm.Cond.lays "WorkflowEngineModel" "WorkflowEngineModel" "wrongAt" "I") ∈ lw_all := lw_g (lw_at lw_m7 105 rfl) rfl
theorem q1636 : (Jvm.Cond.soleField "WorkflowEngineModel" "wrongAt") ∈ lw_all := lw_g (lw_at lw_m7 106 rfl) rfl
theorem q1637 : (Jvm.Cond.lays "WorkflowEngineModel" "WorkflowEngineModel" "wrongWhy" "I") ∈ lw_all := lw_g (lw_at lw_m7 107 rfl) rfl
theorem q1638 : (Jvm.Cond.soleField "WorkflowEngineModel" "wrongWhy") ∈ lw_all := lw_g (lw_at lw_m7 108 rfl) rfl
theorem q1639 : (Jvm.Cond.lays "WorkflowEngineModel" "WorkflowEngineModel" "at" "I") ∈ lw_all := lw_g (lw_at lw_m7 109 rfl) rfl
theorem q1640 : (Jvm.Cond.soleField "WorkflowEngineModel" "at") ∈ lw_all := lw_g (lw_at lw_m7 110 rfl) rfl
theorem q1641 : (Jvm.Cond.lays "WorkflowEngineModel" "WorkflowEngineModel" "why" "I") ∈ lw_all := lw_g (lw_at lw_m7 111 rfl) rfl
theorem q1642 : (Jvm.Cond.soleField "WorkflowEngineModel" "why") ∈ lw_all := lw_g (lw_at lw_m7 112 rfl) rfl
theorem q1643 : (Jvm.Cond.lays "WorkflowEngineModel" "WorkflowEngineModel" "nodes" "I") ∈ lw_all := lw_g (lw_at lw_m7 113 rfl) rfl
theorem q1644 : (Jvm.Cond.soleField "WorkflowEngineModel" "nodes") ∈ lw_all := lw_g (lw_at lw_m7 114 rfl) rfl
theorem q1645 : (Jvm.Cond.lays "WorkflowEngineModel" "WorkflowEngineModel" "items" "I") ∈ lw_all := lw_g (lw_at lw_m7 115 rfl) rfl
theorem q1646 : (Jvm.Cond.soleField "WorkflowEngineModel" "items") ∈ lw_all := lw_g (lw_at lw_m7 116 rfl) rfl
theorem q1647 : (Jvm.Cond.lays "WorkflowEngineModel" "WorkflowEngineModel" "open" "I") ∈ lw_all := lw_g (lw_at lw_m7 117 rfl) rfl
theorem q1648 : (Jvm.Cond.soleField "WorkflowEngineModel" "open") ∈ lw_all := lw_g (lw_at lw_m7 118 rfl) rfl
theorem q1649 : (Jvm.Cond.lays "WorkflowEngineModel" "WorkflowEngineModel" "mostOpen" "I") ∈ lw_all := lw_g (lw_at lw_m7 119 rfl) rfl
theorem q1650 : (Jvm.Cond.soleField "WorkflowEngineModel" "mostOpen") ∈ lw_all := lw_g (lw_at lw_m7 120 rfl) rfl
theorem q1651 : (Jvm.Cond.lays "WorkflowEngineModel" "WorkflowEngineModel" "number" "I") ∈ lw_all := lw_g (lw_at lw_m7 121 rfl) rfl
theorem q1652 : (Jvm.Cond.soleField "WorkflowEngineModel" "number") ∈ lw_all := lw_g (lw_at lw_m7 122 rfl) rfl
theorem q1653 : (Jvm.Cond.lays "WorkflowEngineModel" "WorkflowEngineModel" "keptWrongAt" "I") ∈ lw_all := lw_g (lw_at lw_m7 123 rfl) rfl
theorem q1654 : (Jvm.Cond.soleField "WorkflowEngineModel" "keptWrongAt") ∈ lw_all := lw_g (lw_at lw_m7 124 rfl) rfl
theorem q1655 : (Jvm.Cond.lays "WorkflowEngineModel" "WorkflowEngineModel" "keptWrongWhy" "I") ∈ lw_all := lw_g (lw_at lw_m7 125 rfl) rfl
theorem q1656 : (Jvm.Cond.soleField "WorkflowEngineModel" "keptWrongWhy") ∈ lw_all := lw_g (lw_at lw_m7 126 rfl) rfl
theorem q1657 : (Jvm.Cond.superclass "WorkflowEngineModel" "java/lang/Object") ∈ lw_all := lw_g (lw_at lw_m7 127 rfl) rfl
theorem q1659 : (Jvm.Cond.instanceMethod ({ cls := "WorkflowEngineModel", name := "feed", desc := "(I)I" } : Jvm.MethodName)) ∈ lw_all := lw_g (lw_at lw_m7 129 rfl) rfl
theorem q1660 : (Jvm.Cond.selects "WorkflowEngineModel" ({ cls := "WorkflowEngineModel", name := "feed", desc := "(I)I" } : Jvm.MethodName) ({ cls := "WorkflowEngineModel", name := "feed", desc := "(I)I" } : Jvm.MethodName)) ∈ lw_all := lw_g (lw_at lw_m7 130 rfl) rfl
theorem q1661 : (Jvm.Cond.code ({ cls := "WorkflowEngineModel", name := "feed", desc := "(I)I" } : Jvm.MethodName) prog_34_method_5_code (2 : Nat) (Option.some Jvm.ClassFile.FieldType.int)) ∈ lw_all := lw_g (lw_at lw_m7 131 rfl) rfl
theorem q1662 : (Jvm.Cond.methodLink "WorkflowEngineModel" (38 : Nat) ({ cls := "WorkflowEngineModel", name := "isIn", desc := "(III)Z" } : Jvm.MethodName)) ∈ lw_all := lw_g (lw_at lw_m7 132 rfl) rfl
theorem q1663 : (Jvm.Cond.static ({ cls := "WorkflowEngineModel", name := "isIn", desc := "(III)Z" } : Jvm.MethodName)) ∈ lw_all := lw_g (lw_at lw_m7 133 rfl) rfl
theorem q1664 : (Jvm.Cond.code ({ cls := "WorkflowEngineModel", name := "isIn", desc := "(III)Z" } : Jvm.MethodName) prog_34_method_2_code (3 : Nat) (Option.some Jvm.ClassFile.FieldType.boolean)) ∈ lw_all := lw_g (lw_at lw_m7 134 rfl) rfl
theorem q1666 : (Jvm.Cond.instanceMethod ({ cls := "WorkflowEngineModel", name := "define", desc := "(I)I" } : Jvm.MethodName)) ∈ lw_all := lw_g (lw_at lw_m7 136 rfl) rfl
theorem q1667 : (Jvm.Cond.selects "WorkflowEngineModel" ({ cls := "WorkflowEngineModel", name := "define", desc := "(I)I" } : Jvm.MethodName) ({ cls := "WorkflowEngineModel", name := "define", desc := "(I)I" } : Jvm.MethodName)) ∈ lw_all := lw_g (lw_at lw_m7 137 rfl) rfl
theorem q1668 : (Jvm.Cond.code ({ cls := "WorkflowEngineModel", name := "define", desc := "(I)I" } : Jvm.MethodName) prog_34_method_27_code (7 : Nat) (Option.some Jvm.ClassFile.FieldType.int)) ∈ lw_all := lw_g (lw_at lw_m7 138 rfl) rfl
theorem q1669 : (Jvm.Cond.methodLink "WorkflowEngineModel" (138 : Nat) ({ cls := "WorkflowEngineModel", name := "isWorkflow", desc := "(I)Z" } : Jvm.MethodName)) ∈ lw_all := lw_g (lw_at lw_m7 139 rfl) rfl
theorem q1670 : (Jvm.Cond.static ({ cls := "WorkflowEngineModel", name := "isWorkflow", desc := "(I)Z" } : Jvm.MethodName)) ∈ lw_all := lw_g (lw_at lw_m7 140 rfl) rfl
theorem q1671 : (Jvm.Cond.code ({ cls := "WorkflowEngineModel", name := "isWorkflow", desc := "(I)Z" } : Jvm.MethodName) prog_34_method_4_code (1 : Nat) (Option.some Jvm.ClassFile.FieldType.boolean)) ∈ lw_all := lw_g (lw_at lw_m7 141 rfl) rfl
theorem q1672 : (Jvm.Cond.methodLink "WorkflowEngineModel" (135 : Nat) ({ cls := "WorkflowEngineModel", name := "readsBody", desc := "(II)Z" } : Jvm.MethodName)) ∈ lw_all := lw_g (lw_at lw_m7 142 rfl) rfl
theorem q1673 : (Jvm.Cond.privateMethod ({ cls := "WorkflowEngineModel", name := "readsBody", desc := "(II)Z" } : Jvm.MethodName)) ∈ lw_tbl := lw_at lw_m7 143 rfl
theorem q1674 : (Jvm.Cond.instanceMethod ({ cls := "WorkflowEngineModel", name := "readsBody", desc := "(II)Z" } : Jvm.MethodName)) ∈ lw_all := lw_g (lw_at lw_m7 144 rfl) rfl
theorem q1675 : (Jvm.Cond.code ({ cls := "WorkflowEngineModel", name := "readsBody", desc := "(II)Z" } : Jvm.MethodName) prog_34_method_18_code (6 : Nat) (Option.some Jvm.ClassFile.FieldType.boolean)) ∈ lw_all := lw_g (lw_at lw_m7 145 rfl) rfl
theorem q1676 : (Jvm.Cond.methodLink "WorkflowEngineModel" (81 : Nat) ({ cls := "WorkflowEngineModel", name := "makes", desc := "(II)I" } : Jvm.MethodName)) ∈ lw_all := lw_g (lw_at lw_m7 146 rfl) rfl
theorem q1677 : (Jvm.Cond.privateMethod ({ cls := "WorkflowEngineModel", name := "makes", desc := "(II)I" } : Jvm.MethodName)) ∈ lw_tbl := lw_at lw_m7 147 rfl
theorem q1678 : (Jvm.Cond.instanceMethod ({ cls := "WorkflowEngineModel", name := "makes", desc := "(II)I" } : Jvm.MethodName)) ∈ lw_all := lw_g (lw_at lw_m7 148 rfl) rfl
theorem q1679 : (Jvm.Cond.code ({ cls := "WorkflowEngineModel", name := "makes", desc := "(II)I" } : Jvm.MethodName) prog_34_method_15_code (5 : Nat) (Option.some Jvm.ClassFile.FieldType.int)) ∈ lw_all := lw_g (lw_at lw_m7 149 rfl) rfl
theorem q1680 : (Jvm.Cond.methodLink "WorkflowEngineModel" (74 : Nat) ({ cls := "WorkflowEngineModel", name := "put", desc := "(III)V" } : Jvm.MethodName)) ∈ lw_all := lw_g (lw_at lw_m7 150 rfl) rfl
theorem q1681 : (Jvm.Cond.privateMethod ({ cls := "WorkflowEngineModel", name := "put", desc := "(III)V" } : Jvm.MethodName)) ∈ lw_tbl := lw_at lw_m7 151 rfl
theorem q1682 : (Jvm.Cond.instanceMethod ({ cls := "WorkflowEngineModel", name := "put", desc := "(III)V" } : Jvm.MethodName)) ∈ lw_all := lw_g (lw_at lw_m7 152 rfl) rfl
theorem q1683 : (Jvm.Cond.code ({ cls := "WorkflowEngineModel", name := "put", desc := "(III)V" } : Jvm.MethodName) prog_34_method_14_code (4 : Nat) (Option.none : Option Jvm.ClassFile.FieldType)) ∈ lw_all := lw_g (lw_at lw_m7 153 rfl) rfl
theorem q1684 : (Jvm.Cond.methodLink "WorkflowEngineModel" (67 : Nat) ({ cls := "WorkflowEngineModel", name := "part", desc := "(III)I" } : Jvm.MethodName)) ∈ lw_all := lw_g (lw_at lw_m7 154 rfl) rfl
theorem q1685 : (Jvm.Cond.static ({ cls := "WorkflowEngineModel", name := "part", desc := "(III)I" } : Jvm.MethodName)) ∈ lw_all := lw_g (lw_at lw_m7 155 rfl) rfl
theorem q1686 : (Jvm.Cond.code ({ cls := "WorkflowEngineModel", name := "part", desc := "(III)I" } : Jvm.MethodName) prog_34_method_12_code (3 : Nat) (Option.some Jvm.ClassFile.FieldType.int)) ∈ lw_all := lw_g (lw_at lw_m7 156 rfl) rfl
theorem q1687 : (Jvm.Cond.methodLink "WorkflowEngineModel" (85 : Nat) ({ cls := "WorkflowEngineModel", name := "readsItem", desc := "(I)Z" } : Jvm.MethodName)) ∈ lw_all := lw_g (lw_at lw_m7 157 rfl) rfl
theorem q1688 : (Jvm.Cond.privateMethod ({ cls := "WorkflowEngineModel", name := "readsItem", desc := "(I)Z" } : Jvm.MethodName)) ∈ lw_tbl := lw_at lw_m7 158 rfl
theorem q1689 : (Jvm.Cond.instanceMethod ({ cls := "WorkflowEngineModel", name := "readsItem", desc := "(I)Z" } : Jvm.MethodName)) ∈ lw_all := lw_g (lw_at lw_m7 159 rfl) rfl
theorem q1690 : (Jvm.Cond.code ({ cls := "WorkflowEngineModel", name := "readsItem", desc := "(I)Z" } : Jvm.MethodName) prog_34_method_19_code (3 : Nat) (Option.some Jvm.ClassFile.FieldType.boolean)) ∈ lw_all := lw_g (lw_at lw_m7 160 rfl) rfl
theorem q1691 : (Jvm.Cond.methodLink "WorkflowEngineModel" (48 : Nat) ({ cls := "WorkflowEngineModel", name := "here", desc := "()I" } : Jvm.MethodName)) ∈ lw_all := lw_g (lw_at lw_m7 161 rfl) rfl
theorem q1692 : (Jvm.Cond.privateMethod ({ cls := "WorkflowEngineModel", name := "here", desc := "()I" } : Jvm.MethodName)) ∈ lw_tbl := lw_at lw_m7 162 rfl
theorem q1693 : (Jvm.Cond.instanceMethod ({ cls := "WorkflowEngineModel", name := "here", desc := "()I" } : Jvm.MethodName)) ∈ lw_all := lw_g (lw_at lw_m7 163 rfl) rfl
theorem q1694 : (Jvm.Cond.code ({ cls := "WorkflowEngineModel", name := "here", desc := "()I" } : Jvm.MethodName) prog_34_method_6_code (1 : Nat) (Option.some Jvm.ClassFile.FieldType.int)) ∈ lw_all := lw_g (lw_at lw_m7 164 rfl) rfl
theorem q1695 : (Jvm.Cond.methodLink "WorkflowEngineModel" (88 : Nat) ({ cls := "WorkflowEngineModel", name := "beginsItem", desc := "(I)Z" } : Jvm.MethodName)) ∈ lw_all := lw_g (lw_at lw_m7 165 rfl) rfl
theorem q1696 : (Jvm.Cond.static ({ cls := "WorkflowEngineModel", name := "beginsItem", desc := "(I)Z" } : Jvm.MethodName)) ∈ lw_all := lw_g (lw_at lw_m7 166 rfl) rfl
theorem q1697 : (Jvm.Cond.code ({ cls := "WorkflowEngineModel", name := "beginsItem", desc := "(I)Z" } : Jvm.MethodName) prog_34_method_16_code (1 : Nat) (Option.some Jvm.ClassFile.FieldType.boolean)) ∈ lw_all := lw_g (lw_at lw_m7 167 rfl) rfl
theorem q1698 : (Jvm.Cond.methodLink "WorkflowEngineModel" (97 : Nat) ({ cls := "WorkflowEngineModel", name := "isTooMuch", desc := "()Z" } : Jvm.MethodName)) ∈ lw_all := lw_g (lw_at lw_m7 168 rfl) rfl
theorem q1699 : (Jvm.Cond.privateMethod ({ cls := "WorkflowEngineModel", name := "isTooMuch", desc := "()Z" } : Jvm.MethodName)) ∈ lw_tbl := lw_at lw_m7 169 rfl
theorem q1700 : (Jvm.Cond.instanceMethod ({ cls := "WorkflowEngineModel", name := "isTooMuch", desc := "()Z" } : Jvm.MethodName)) ∈ lw_all := lw_g (lw_at lw_m7 170 rfl) rfl
theorem q1701 : (Jvm.Cond.code ({ cls := "WorkflowEngineModel", name := "isTooMuch", desc := "()Z" } : Jvm.MethodName) prog_34_method_17_code (1 : Nat) (Option.some Jvm.ClassFile.FieldType.boolean)) ∈ lw_all := lw_g (lw_at lw_m7 171 rfl) rfl
theorem q1702 : (Jvm.Cond.methodLink "WorkflowEngineModel" (100 : Nat) ({ cls := "WorkflowEngineModel", name := "readsTask", desc := "(I)Z" } : Jvm.MethodName)) ∈ lw_all := lw_g (lw_at lw_m7 172 rfl) rfl
theorem q1703 : (Jvm.Cond.privateMethod ({ cls := "WorkflowEngineModel", name := "readsTask", desc := "(I)Z" } : Jvm.MethodName)) ∈ lw_tbl := lw_at lw_m7 173 rfl
theorem q1704 : (Jvm.Cond.instanceMethod ({ cls := "WorkflowEngineModel", name := "readsTask", desc := "(I)Z" } : Jvm.MethodName)) ∈ lw_all := lw_g (lw_at lw_m7 174 rfl) rfl
theorem q1705 : (Jvm.Cond.code ({ cls := "WorkflowEngineModel", name := "readsTask", desc := "(I)Z" } : Jvm.MethodName) prog_34_method_20_code (2 : Nat) (Option.some Jvm.ClassFile.FieldType.boolean)) ∈ lw_all := lw_g (lw_at lw_m7 175 rfl) rfl
theorem q1706 : (Jvm.Cond.methodLink "WorkflowEngineModel" (118 : Nat) ({ cls := "WorkflowEngineModel", name := "takesCode", desc := "()Z" } : Jvm.MethodName)) ∈ lw_all := lw_g (lw_at lw_m7 176 rfl) rfl
theorem q1707 : (Jvm.Cond.privateMethod ({ cls := "WorkflowEngineModel", name := "takesCode", desc := "()Z" } : Jvm.MethodName)) ∈ lw_tbl := lw_at lw_m7 177 rfl
theorem q1708 : (Jvm.Cond.instanceMethod ({ cls := "WorkflowEngineModel", name := "takesCode", desc := "()Z" } : Jvm.MethodName)) ∈ lw_all := lw_g (lw_at lw_m7 178 rfl) rfl
theorem q1709 : (Jvm.Cond.code ({ cls := "WorkflowEngineModel", name := "takesCode", desc := "()Z" } : Jvm.MethodName) prog_34_method_11_code (1 : Nat) (Option.some Jvm.ClassFile.FieldType.boolean)) ∈ lw_all := lw_g (lw_at lw_m7 179 rfl) rfl
theorem q1710 : (Jvm.Cond.methodLink "WorkflowEngineModel" (59 : Nat) ({ cls := "WorkflowEngineModel", name := "takes", desc := "(I)Z" } : Jvm.MethodName)) ∈ lw_all := lw_g (lw_at lw_m7 180 rfl) rfl
theorem q1711 : (Jvm.Cond.privateMethod ({ cls := "WorkflowEngineModel", name := "takes", desc := "(I)Z" } : Jvm.MethodName)) ∈ lw_tbl := lw_at lw_m7 181 rfl
theorem q1712 : (Jvm.Cond.instanceMethod ({ cls := "WorkflowEngineModel", name := "takes", desc := "(I)Z" } : Jvm.MethodName)) ∈ lw_all := lw_g (lw_at lw_m7 182 rfl) rfl
theorem q1713 : (Jvm.Cond.code ({ cls := "WorkflowEngineModel", name := "takes", desc := "(I)Z" } : Jvm.MethodName) prog_34_method_7_code (2 : Nat) (Option.some Jvm.ClassFile.FieldType.boolean)) ∈ lw_all := lw_g (lw_at lw_m7 183 rfl) rfl
theorem q1714 : (Jvm.Cond.methodLink "WorkflowEngineModel" (55 : Nat) ({ cls := "WorkflowEngineModel", name := "takesDigit", desc := "(II)Z" } : Jvm.MethodName)) ∈ lw_all := lw_g (lw_at lw_m7 184 rfl) rfl
theorem q1715 : (Jvm.Cond.privateMethod ({ cls := "WorkflowEngineModel", name := "takesDigit", desc := "(II)Z" } : Jvm.MethodName)) ∈ lw_tbl := lw_at lw_m7 185 rfl
theorem q1716 : (Jvm.Cond.instanceMethod ({ cls := "WorkflowEngineModel", name := "takesDigit", desc := "(II)Z" } : Jvm.MethodName)) ∈ lw_all := lw_g (lw_at lw_m7 186 rfl) rfl
theorem q1717 : (Jvm.Cond.code ({ cls := "WorkflowEngineModel", name := "takesDigit", desc := "(II)Z" } : Jvm.MethodName) prog_34_method_8_code (3 : Nat) (Option.some Jvm.ClassFile.FieldType.boolean)) ∈ lw_all := lw_g (lw_at lw_m7 187 rfl) rfl
theorem q1718 : (Jvm.Cond.methodLink "WorkflowEngineModel" (63 : Nat) ({ cls := "WorkflowEngineModel", name := "takesNumber", desc := "()Z" } : Jvm.MethodName)) ∈ lw_all := lw_g (lw_at lw_m7 188 rfl) rfl
theorem q1719 : (Jvm.Cond.privateMethod ({ cls := "WorkflowEngineModel", name := "takesNumber", desc := "()Z" } : Jvm.MethodName)) ∈ lw_tbl := lw_at lw_m7 189 rfl
theorem q1720 : (Jvm.Cond.instanceMethod ({ cls := "WorkflowEngineModel", name := "takesNumber", desc := "()Z" } : Jvm.MethodName)) ∈ lw_all := lw_g (lw_at lw_m7 190 rfl) rfl
theorem q1721 : (Jvm.Cond.code ({ cls := "WorkflowEngineModel", name := "takesNumber", desc := "()Z" } : Jvm.MethodName) prog_34_method_9_code (3 : Nat) (Option.some Jvm.ClassFile.FieldType.boolean)) ∈ lw_all := lw_g (lw_at lw_m7 191 rfl) rfl
theorem q1722 : (Jvm.Cond.methodLink "WorkflowEngineModel" (103 : Nat) ({ cls := "WorkflowEngineModel", name := "readsWait", desc := "(I)Z" } : Jvm.MethodName)) ∈ lw_all := lw_g (lw_at lw_m7 192 rfl) rfl
theorem q1723 : (Jvm.Cond.privateMethod ({ cls := "WorkflowEngineModel", name := "readsWait", desc := "(I)Z" } : Jvm.MethodName)) ∈ lw_tbl := lw_at lw_m7 193 rfl
theorem q1724 : (Jvm.Cond.instanceMethod ({ cls := "WorkflowEngineModel", name := "readsWait", desc := "(I)Z" } : Jvm.MethodName)) ∈ lw_all := lw_g (lw_at lw_m7 194 rfl) rfl
theorem q1725 : (Jvm.Cond.code ({ cls := "WorkflowEngineModel", name := "readsWait", desc := "(I)Z" } : Jvm.MethodName) prog_34_method_21_code (3 : Nat) (Option.some Jvm.ClassFile.FieldType.boolean)) ∈ lw_all := lw_g (lw_at lw_m7 195 rfl) rfl
theorem q1726 : (Jvm.Cond.methodLink "WorkflowEngineModel" (106 : Nat) ({ cls := "WorkflowEngineModel", name := "readsSignal", desc := "(I)Z" } : Jvm.MethodName)) ∈ lw_all := lw_g (lw_at lw_m7 196 rfl) rfl
theorem q1727 : (Jvm.Cond.privateMethod ({ cls := "WorkflowEngineModel", name := "readsSignal", desc := "(I)Z" } : Jvm.MethodName)) ∈ lw_tbl := lw_at lw_m7 197 rfl
theorem q1728 : (Jvm.Cond.instanceMethod ({ cls := "WorkflowEngineModel", name := "readsSignal", desc := "(I)Z" } : Jvm.MethodName)) ∈ lw_all := lw_g (lw_at lw_m7 198 rfl) rfl
theorem q1729 : (Jvm.Cond.code ({ cls := "WorkflowEngineModel", name := "readsSignal", desc := "(I)Z" } : Jvm.MethodName) prog_34_method_22_code (2 : Nat) (Option.some Jvm.ClassFile.FieldType.boolean)) ∈ lw_all := lw_g (lw_at lw_m7 199 rfl) rfl
theorem q1730 : (Jvm.Cond.methodLink "WorkflowEngineModel" (109 : Nat) ({ cls := "WorkflowEngineModel", name := "readsSet", desc := "(I)Z" } : Jvm.MethodName)) ∈ lw_all := lw_g (lw_at lw_m7 200 rfl) rfl
theorem q1731 : (Jvm.Cond.privateMethod ({ cls := "WorkflowEngineModel", name := "readsSet", desc := "(I)Z" } : Jvm.MethodName)) ∈ lw_tbl := lw_at lw_m7 201 rfl
theorem q1732 : (Jvm.Cond.instanceMethod ({ cls := "WorkflowEngineModel", name := "readsSet", desc := "(I)Z" } : Jvm.MethodName)) ∈ lw_all := lw_g (lw_at lw_m7 202 rfl) rfl
theorem q1733 : (Jvm.Cond.code ({ cls := "WorkflowEngineModel", name := "readsSet", desc := "(I)Z" } : Jvm.MethodName) prog_34_method_23_code (3 : Nat) (Option.some Jvm.ClassFile.FieldType.boolean)) ∈ lw_all := lw_g (lw_at lw_m7 203 rfl) rfl
theorem q1734 : (Jvm.Cond.methodLink "WorkflowEngineModel" (121 : Nat) ({ cls := "WorkflowEngineModel", name := "takesSigned", desc := "()Z" } : Jvm.MethodName)) ∈ lw_all := lw_g (lw_at lw_m7 204 rfl) rfl
theorem q1735 : (Jvm.Cond.privateMethod ({ cls := "WorkflowEngineModel", name := "takesSigned", desc := "()Z" } : Jvm.MethodName)) ∈ lw_tbl := lw_at lw_m7 205 rfl
theorem q1736 : (Jvm.Cond.instanceMethod ({ cls := "WorkflowEngineModel", name := "takesSigned", desc := "()Z" } : Jvm.MethodName)) ∈ lw_all := lw_g (lw_at lw_m7 206 rfl) rfl
theorem q1737 : (Jvm.Cond.code ({ cls := "WorkflowEngineModel", name := "takesSigned", desc := "()Z" } : Jvm.MethodName) prog_34_method_10_code (2 : Nat) (Option.some Jvm.ClassFile.FieldType.boolean)) ∈ lw_all := lw_g (lw_at lw_m7 207 rfl) rfl
theorem q1738 : (Jvm.Cond.methodLink "WorkflowEngineModel" (112 : Nat) ({ cls := "WorkflowEngineModel", name := "readsChoice", desc := "(I)Z" } : Jvm.MethodName)) ∈ lw_all := lw_g (lw_at lw_m7 208 rfl) rfl
theorem q1739 : (Jvm.Cond.privateMethod ({ cls := "WorkflowEngineModel", name := "readsChoice", desc := "(I)Z" } : Jvm.MethodName)) ∈ lw_tbl := lw_at lw_m7 209 rfl
theorem q1740 : (Jvm.Cond.instanceMethod ({ cls := "WorkflowEngineModel", name := "readsChoice", desc := "(I)Z" } : Jvm.MethodName)) ∈ lw_all := lw_g (lw_at lw_m7 210 rfl) rfl
theorem q1741 : (Jvm.Cond.code ({ cls := "WorkflowEngineModel", name := "readsChoice", desc := "(I)Z" } : Jvm.MethodName) prog_34_method_25_code (3 : Nat) (Option.some Jvm.ClassFile.FieldType.boolean)) ∈ lw_all := lw_g (lw_at lw_m7 211 rfl) rfl
theorem q1742 : (Jvm.Cond.methodLink "WorkflowEngineModel" (132 : Nat) ({ cls := "WorkflowEngineModel", name := "opens", desc := "()V" } : Jvm.MethodName)) ∈ lw_all := lw_g (lw_at lw_m7 212 rfl) rfl
theorem q1743 : (Jvm.Cond.privateMethod ({ cls := "WorkflowEngineModel", name := "opens", desc := "()V" } : Jvm.MethodName)) ∈ lw_tbl := lw_at lw_m7 213 rfl
theorem q1744 : (Jvm.Cond.instanceMethod ({ cls := "WorkflowEngineModel", name := "opens", desc := "()V" } : Jvm.MethodName)) ∈ lw_all := lw_g (lw_at lw_m7 214 rfl) rfl
theorem q1745 : (Jvm.Cond.code ({ cls := "WorkflowEngineModel", name := "opens", desc := "()V" } : Jvm.MethodName) prog_34_method_24_code (1 : Nat) (Option.none : Option Jvm.ClassFile.FieldType)) ∈ lw_all := lw_g (lw_at lw_m7 215 rfl) rfl
theorem q1746 : (Jvm.Cond.methodLink "WorkflowEngineModel" (127 : Nat) ({ cls := "java/lang/Math", name := "max", desc := "(II)I" } : Jvm.MethodName)) ∈ lw_all := lw_g (lw_at lw_m7 216 rfl) rfl
theorem q1747 : (Jvm.Cond.methodLink "WorkflowEngineModel" (115 : Nat) ({ cls := "WorkflowEngineModel", name := "readsParallel", desc := "(I)Z" } : Jvm.MethodName)) ∈ lw_all := lw_g (lw_at lw_m7 217 rfl) rfl
theorem q1748 : (Jvm.Cond.privateMethod ({ cls := "WorkflowEngineModel", name := "readsParallel", desc := "(I)Z" } : Jvm.MethodName)) ∈ lw_tbl := lw_at lw_m7 218 rfl
theorem q1749 : (Jvm.Cond.instanceMethod ({ cls := "WorkflowEngineModel", name := "readsParallel", desc := "(I)Z" } : Jvm.MethodName)) ∈ lw_all := lw_g (lw_at lw_m7 219 rfl) rfl
theorem q1750 : (Jvm.Cond.code ({ cls := "WorkflowEngineModel", name := "readsParallel", desc := "(I)Z" } : Jvm.MethodName) prog_34_method_26_code (5 : Nat) (Option.some Jvm.ClassFile.FieldType.boolean)) ∈ lw_all := lw_g (lw_at lw_m7 220 rfl) rfl
theorem q1752 : (Jvm.Cond.instanceMethod ({ cls := "WorkflowEngineModel", name := "wrong", desc := "(I)I" } : Jvm.MethodName)) ∈ lw_all := lw_g (lw_at lw_m7 222 rfl) rfl
theorem q1753 : (Jvm.Cond.selects "WorkflowEngineModel" ({ cls := "WorkflowEngineModel", name := "wrong", desc := "(I)I" } : Jvm.MethodName) ({ cls := "WorkflowEngineModel", name := "wrong", desc := "(I)I" } : Jvm.MethodName)) ∈ lw_all := lw_g (lw_at lw_m7 223 rfl) rfl
theorem q1754 : (Jvm.Cond.code ({ cls := "WorkflowEngineModel", name := "wrong", desc := "(I)I" } : Jvm.MethodName) prog_34_method_28_code (2 : Nat) (Option.some Jvm.ClassFile.FieldType.int)) ∈ lw_all := lw_g (lw_at lw_m7 224 rfl) rfl
theorem q1756 : (Jvm.Cond.instanceMethod ({ cls := "WorkflowEngineModel", name := "version", desc := "(III)I" } : Jvm.MethodName)) ∈ lw_all := lw_g (lw_at lw_m7 226 rfl) rfl
theorem q1757 : (Jvm.Cond.selects "WorkflowEngineModel" ({ cls := "WorkflowEngineModel", name := "version", desc := "(III)I" } : Jvm.MethodName) ({ cls := "WorkflowEngineModel", name := "version", desc := "(III)I" } : Jvm.MethodName)) ∈ lw_all := lw_g (lw_at lw_m7 227 rfl) rfl
theorem q1758 : (Jvm.Cond.code ({ cls := "WorkflowEngineModel", name := "version", desc := "(III)I" } : Jvm.MethodName) prog_34_method_34_code (6 : Nat) (Option.some Jvm.ClassFile.FieldType.int)) ∈ lw_all := lw_g (lw_at lw_m7 228 rfl) rfl
theorem q1759 : (Jvm.Cond.methodLink "WorkflowEngineModel" (156 : Nat) ({ cls := "WorkflowEngineModel", name := "tasksIn", desc := "(I)I" } : Jvm.MethodName)) ∈ lw_all := lw_g (lw_at lw_m7 229 rfl) rfl
theorem q1760 : (Jvm.Cond.privateMethod ({ cls := "WorkflowEngineModel", name := "tasksIn", desc := "(I)I" } : Jvm.MethodName)) ∈ lw_tbl := lw_at lw_m7 230 rfl
theorem q1761 : (Jvm.Cond.instanceMethod ({ cls := "WorkflowEngineModel", name := "tasksIn", desc := "(I)I" } : Jvm.MethodName)) ∈ lw_all := lw_g (lw_at lw_m7 231 rfl) rfl
theorem q1762 : (Jvm.Cond.code ({ cls := "WorkflowEngineModel", name := "tasksIn", desc := "(I)I" } : Jvm.MethodName) prog_34_method_32_code (4 : Nat) (Option.some Jvm.ClassFile.FieldType.int)) ∈ lw_all := lw_g (lw_at lw_m7 232 rfl) rfl
theorem q1763 : (Jvm.Cond.methodLink "WorkflowEngineModel" (144 : Nat) ({ cls := "WorkflowEngineModel", name := "kind", desc := "(II)I" } : Jvm.MethodName)) ∈ lw_all := lw_g (lw_at lw_m7 233 rfl) rfl
theorem q1764 : (Jvm.Cond.privateMethod ({ cls := "WorkflowEngineModel", name := "kind", desc := "(II)I" } : Jvm.MethodName)) ∈ lw_tbl := lw_at lw_m7 234 rfl
theorem q1765 : (Jvm.Cond.instanceMethod ({ cls := "WorkflowEngineModel", name := "kind", desc := "(II)I" } : Jvm.MethodName)) ∈ lw_all := lw_g (lw_at lw_m7 235 rfl) rfl
theorem q1766 : (Jvm.Cond.code ({ cls := "WorkflowEngineModel", name := "kind", desc := "(II)I" } : Jvm.MethodName) prog_34_method_29_code (3 : Nat) (Option.some Jvm.ClassFile.FieldType.int)) ∈ lw_all := lw_g (lw_at lw_m7 236 rfl) rfl
theorem q1767 : (Jvm.Cond.methodLink "WorkflowEngineModel" (150 : Nat) ({ cls := "WorkflowEngineModel", name := "width", desc := "(II)I" } : Jvm.MethodName)) ∈ lw_all := lw_g (lw_at lw_m7 237 rfl) rfl
theorem q1768 : (Jvm.Cond.privateMethod ({ cls := "WorkflowEngineModel", name := "width", desc := "(II)I" } : Jvm.MethodName)) ∈ lw_tbl := lw_at lw_m7 238 rfl
theorem q1769 : (Jvm.Cond.instanceMethod ({ cls := "WorkflowEngineModel", name := "width", desc := "(II)I" } : Jvm.MethodName)) ∈ lw_all := lw_g (lw_at lw_m7 239 rfl) rfl
theorem q1770 : (Jvm.Cond.code ({ cls := "WorkflowEngineModel", name := "width", desc := "(II)I" } : Jvm.MethodName) prog_34_method_33_code (8 : Nat) (Option.some Jvm.ClassFile.FieldType.int)) ∈ lw_all := lw_g (lw_at lw_m8 0 rfl) rfl
theorem q1771 : (Jvm.Cond.methodLink "WorkflowEngineModel" (147 : Nat) ({ cls := "WorkflowEngineModel", name := "child", desc := "(II)I" } : Jvm.MethodName)) ∈ lw_all := lw_g (lw_at lw_m8 1 rfl) rfl
theorem q1772 : (Jvm.Cond.privateMethod ({ cls := "WorkflowEngineModel", name := "child", desc := "(II)I" } : Jvm.MethodName)) ∈ lw_tbl := lw_at lw_m8 2 rfl
theorem q1773 : (Jvm.Cond.instanceMethod ({ cls := "WorkflowEngineModel", name := "child", desc := "(II)I" } : Jvm.MethodName)) ∈ lw_all := lw_g (lw_at lw_m8 3 rfl) rfl
theorem q1774 : (Jvm.Cond.code ({ cls := "WorkflowEngineModel", name := "child", desc := "(II)I" } : Jvm.MethodName) prog_34_method_30_code (3 : Nat) (Option.some Jvm.ClassFile.FieldType.int)) ∈ lw_all := lw_g (lw_at lw_m8 4 rfl) rfl
theorem q1775 : (Jvm.Cond.methodLink "WorkflowEngineModel" (153 : Nat) ({ cls := "WorkflowEngineModel", name := "next", desc := "(II)I" } : Jvm.MethodName)) ∈ lw_all := lw_g (lw_at lw_m8 5 rfl) rfl
theorem q1776 : (Jvm.Cond.privateMethod ({ cls := "WorkflowEngineModel", name := "next", desc := "(II)I" } : Jvm.MethodName)) ∈ lw_tbl := lw_at lw_m8 6 rfl
theorem q1777 : (Jvm.Cond.instanceMethod ({ cls := "WorkflowEngineModel", name := "next", desc := "(II)I" } : Jvm.MethodName)) ∈ lw_all := lw_g (lw_at lw_m8 7 rfl) rfl
theorem q1778 : (Jvm.Cond.code ({ cls := "WorkflowEngineModel", name := "next", desc := "(II)I" } : Jvm.MethodName) prog_34_method_31_code (3 : Nat) (Option.some Jvm.ClassFile.FieldType.int)) ∈ lw_all := lw_g (lw_at lw_m8 8 rfl) rfl
theorem q1780 : (Jvm.Cond.instanceMethod ({ cls := "WorkflowEngineModel", name := "duration", desc := "(II)I" } : Jvm.MethodName)) ∈ lw_all := lw_g (lw_at lw_m8 10 rfl) rfl
theorem q1781 : (Jvm.Cond.selects "WorkflowEngineModel" ({ cls := "WorkflowEngineModel", name := "duration", desc := "(II)I" } : Jvm.MethodName) ({ cls := "WorkflowEngineModel", name := "duration", desc := "(II)I" } : Jvm.MethodName)) ∈ lw_all := lw_g (lw_at lw_m8 11 rfl) rfl
theorem q1782 : (Jvm.Cond.code ({ cls := "WorkflowEngineModel", name := "duration", desc := "(II)I" } : Jvm.MethodName) prog_34_method_35_code (4 : Nat) (Option.some Jvm.ClassFile.FieldType.int)) ∈ lw_all := lw_g (lw_at lw_m8 12 rfl) rfl
theorem q1783 : (Jvm.Cond.methodLink "WorkflowEngineModel" (160 : Nat) ({ cls := "WorkflowEngineModel", name := "isCode", desc := "(I)Z" } : Jvm.MethodName)) ∈ lw_all := lw_g (lw_at lw_m8 13 rfl) rfl
theorem q1784 : (Jvm.Cond.static ({ cls := "WorkflowEngineModel", name := "isCode", desc := "(I)Z" } : Jvm.MethodName)) ∈ lw_all := lw_g (lw_at lw_m8 14 rfl) rfl
theorem q1785 : (Jvm.Cond.code ({ cls := "WorkflowEngineModel", name := "isCode", desc := "(I)Z" } : Jvm.MethodName) prog_34_method_3_code (1 : Nat) (Option.some Jvm.ClassFile.FieldType.boolean)) ∈ lw_all := lw_g (lw_at lw_m8 15 rfl) rfl
theorem q1787 : (Jvm.Cond.instanceMethod ({ cls := "WorkflowEngineModel", name := "failures", desc := "(II)I" } : Jvm.MethodName)) ∈ lw_all := lw_g (lw_at lw_m8 17 rfl) rfl
theorem q1788 : (Jvm.Cond.selects "WorkflowEngineModel" ({ cls := "WorkflowEngineModel", name := "failures", desc := "(II)I" } : Jvm.MethodName) ({ cls := "WorkflowEngineModel", name := "failures", desc := "(II)I" } : Jvm.MethodName)) ∈ lw_all := lw_g (lw_at lw_m8 18 rfl) rfl
theorem q1789 : (Jvm.Cond.code ({ cls := "WorkflowEngineModel", name := "failures", desc := "(II)I" } : Jvm.MethodName) prog_34_method_36_code (4 : Nat) (Option.some Jvm.ClassFile.FieldType.int)) ∈ lw_all := lw_g (lw_at lw_m8 19 rfl) rfl
theorem q1791 : (Jvm.Cond.instanceMethod ({ cls := "WorkflowEngineModel", name := "start", desc := "(I)I" } : Jvm.MethodName)) ∈ lw_all := lw_g (lw_at lw_m8 21 rfl) rfl
theorem q1792 : (Jvm.Cond.selects "WorkflowEngineModel" ({ cls := "WorkflowEngineModel", name := "start", desc := "(I)I" } : Jvm.MethodName) ({ cls := "WorkflowEngineModel", name := "start", desc := "(I)I" } : Jvm.MethodName)) ∈ lw_all := lw_g (lw_at lw_m8 22 rfl) rfl
theorem q1793 : (Jvm.Cond.code ({ cls := "WorkflowEngineModel", name := "start", desc := "(I)I" } : Jvm.MethodName) prog_34_method_64_code (4 : Nat) (Option.some Jvm.ClassFile.FieldType.int)) ∈ lw_all := lw_g (lw_at lw_m8 23 rfl) rfl
theorem q1794 : (Jvm.Cond.methodLink "WorkflowEngineModel" (236 : Nat) ({ cls := "WorkflowEngineModel", name := "instances", desc := "()I" } : Jvm.MethodName)) ∈ lw_all := lw_g (lw_at lw_m8 24 rfl) rfl
theorem q1795 : (Jvm.Cond.privateMethod ({ cls := "WorkflowEngineModel", name := "instances", desc := "()I" } : Jvm.MethodName)) ∈ lw_tbl := lw_at lw_m8 25 rfl
theorem q1796 : (Jvm.Cond.instanceMethod ({ cls := "WorkflowEngineModel", name := "instances", desc := "()I" } : Jvm.MethodName)) ∈ lw_all := lw_g (lw_at lw_m8 26 rfl) rfl
theorem q1797 : (Jvm.Cond.code ({ cls := "WorkflowEngineModel", name := "instances", desc := "()I" } : Jvm.MethodName) prog_34_method_63_code (3 : Nat) (Option.some Jvm.ClassFile.FieldType.int)) ∈ lw_all := lw_g (lw_at lw_m8 27 rfl) rfl
theorem q1798 : (Jvm.Cond.methodLink "WorkflowEngineModel" (163 : Nat) ({ cls := "WorkflowEngineModel", name := "of", desc := "(II)I" } : Jvm.MethodName)) ∈ lw_all := lw_g (lw_at lw_m8 28 rfl) rfl
theorem q1799 : (Jvm.Cond.static ({ cls := "WorkflowEngineModel", name := "of", desc := "(II)I" } : Jvm.MethodName)) ∈ lw_all := lw_g (lw_at lw_m8 29 rfl) rfl
theorem q1800 : (Jvm.Cond.code ({ cls := "WorkflowEngineModel", name := "of", desc := "(II)I" } : Jvm.MethodName) prog_34_method_38_code (2 : Nat) (Option.some Jvm.ClassFile.FieldType.int)) ∈ lw_all := lw_g (lw_at lw_m8 30 rfl) rfl
theorem q1801 : (Jvm.Cond.methodLink "WorkflowEngineModel" (169 : Nat) ({ cls := "WorkflowEngineModel", name := "at", desc := "(III)I" } : Jvm.MethodName)) ∈ lw_all := lw_g (lw_at lw_m8 31 rfl) rfl
theorem q1802 : (Jvm.Cond.static ({ cls := "WorkflowEngineModel", name := "at", desc := "(III)I" } : Jvm.MethodName)) ∈ lw_all := lw_g (lw_at lw_m8 32 rfl) rfl
theorem q1803 : (Jvm.Cond.code ({ cls := "WorkflowEngineModel", name := "at", desc := "(III)I" } : Jvm.MethodName) prog_34_method_39_code (3 : Nat) (Option.some Jvm.ClassFile.FieldType.int)) ∈ lw_all := lw_g (lw_at lw_m8 33 rfl) rfl
theorem q1804 : (Jvm.Cond.methodLink "WorkflowEngineModel" (239 : Nat) ({ cls := "WorkflowEngineModel", name := "looksAt", desc := "(I)V" } : Jvm.MethodName)) ∈ lw_all := lw_g (lw_at lw_m8 34 rfl) rfl
theorem q1805 : (Jvm.Cond.privateMethod ({ cls := "WorkflowEngineModel", name := "looksAt", desc := "(I)V" } : Jvm.MethodName)) ∈ lw_tbl := lw_at lw_m8 35 rfl
theorem q1806 : (Jvm.Cond.instanceMethod ({ cls := "WorkflowEngineModel", name := "looksAt", desc := "(I)V" } : Jvm.MethodName)) ∈ lw_all := lw_g (lw_at lw_m8 36 rfl) rfl
theorem q1807 : (Jvm.Cond.code ({ cls := "WorkflowEngineModel", name := "looksAt", desc := "(I)V" } : Jvm.MethodName) prog_34_method_62_code (3 : Nat) (Option.none : Option Jvm.ClassFile.FieldType)) ∈ lw_all := lw_g (lw_at lw_m8 37 rfl) rfl
theorem q1808 : (Jvm.Cond.methodLink "WorkflowEngineModel" (196 : Nat) ({ cls := "WorkflowEngineModel", name := "looksAtBody", desc := "(II)I" } : Jvm.MethodName)) ∈ lw_all := lw_g (lw_at lw_m8 38 rfl) rfl
theorem q1809 : (Jvm.Cond.privateMethod ({ cls := "WorkflowEngineModel", name := "looksAtBody", desc := "(II)I" } : Jvm.MethodName)) ∈ lw_tbl := lw_at lw_m8 39 rfl
theorem q1810 : (Jvm.Cond.instanceMethod ({ cls := "WorkflowEngineModel", name := "looksAtBody", desc := "(II)I" } : Jvm.MethodName)) ∈ lw_all := lw_g (lw_at lw_m8 40 rfl) rfl
theorem q1811 : (Jvm.Cond.code ({ cls := "WorkflowEngineModel", name := "looksAtBody", desc := "(II)I" } : Jvm.MethodName) prog_34_method_51_code (5 : Nat) (Option.some Jvm.ClassFile.FieldType.int)) ∈ lw_all := lw_g (lw_at lw_m8 41 rfl) rfl
theorem q1812 : (Jvm.Cond.methodLink "WorkflowEngineModel" (171 : Nat) ({ cls := "WorkflowEngineModel", name := "nodePart", desc := "(III)I" } : Jvm.MethodName)) ∈ lw_all := lw_g (lw_at lw_m8 42 rfl) rfl
theorem q1813 : (Jvm.Cond.privateMethod ({ cls := "WorkflowEngineModel", name := "nodePart", desc := "(III)I" } : Jvm.MethodName)) ∈ lw_tbl := lw_at lw_m8 43 rfl
theorem q1814 : (Jvm.Cond.instanceMethod ({ cls := "WorkflowEngineModel", name := "nodePart", desc := "(III)I" } : Jvm.MethodName)) ∈ lw_all := lw_g (lw_at lw_m8 44 rfl) rfl
theorem q1815 : (Jvm.Cond.code ({ cls := "WorkflowEngineModel", name := "nodePart", desc := "(III)I" } : Jvm.MethodName) prog_34_method_41_code (4 : Nat) (Option.some Jvm.ClassFile.FieldType.int)) ∈ lw_all := lw_g (lw_at lw_m8 45 rfl) rfl
theorem q1816 : (Jvm.Cond.methodLink "WorkflowEngineModel" (166 : Nat) ({ cls := "WorkflowEngineModel", name := "versionOf", desc := "(I)I" } : Jvm.MethodName)) ∈ lw_all := lw_g (lw_at lw_m8 46 rfl) rfl
theorem q1817 : (Jvm.Cond.privateMethod ({ cls := "WorkflowEngineModel", name := "versionOf", desc := "(I)I" } : Jvm.MethodName)) ∈ lw_tbl := lw_at lw_m8 47 rfl
theorem q1818 : (Jvm.Cond.instanceMethod ({ cls := "WorkflowEngineModel", name := "versionOf", desc := "(I)I" } : Jvm.MethodName)) ∈ lw_all := lw_g (lw_at lw_m8 48 rfl) rfl
theorem q1819 : (Jvm.Cond.code ({ cls := "WorkflowEngineModel", name := "versionOf", desc := "(I)I" } : Jvm.MethodName) prog_34_method_40_code (2 : Nat) (Option.some Jvm.ClassFile.FieldType.int)) ∈ lw_all := lw_g (lw_at lw_m8 49 rfl) rfl
theorem q1820 : (Jvm.Cond.methodLink "WorkflowEngineModel" (205 : Nat) ({ cls := "WorkflowEngineModel", name := "begins", desc := "(II)I" } : Jvm.MethodName)) ∈ lw_all := lw_g (lw_at lw_m8 50 rfl) rfl
theorem q1821 : (Jvm.Cond.privateMethod ({ cls := "WorkflowEngineModel", name := "begins", desc := "(II)I" } : Jvm.MethodName)) ∈ lw_tbl := lw_at lw_m8 51 rfl
theorem q1822 : (Jvm.Cond.instanceMethod ({ cls := "WorkflowEngineModel", name := "begins", desc := "(II)I" } : Jvm.MethodName)) ∈ lw_all := lw_g (lw_at lw_m8 52 rfl) rfl
theorem q1823 : (Jvm.Cond.code ({ cls := "WorkflowEngineModel", name := "begins", desc := "(II)I" } : Jvm.MethodName) prog_34_method_50_code (6 : Nat) (Option.some Jvm.ClassFile.FieldType.int)) ∈ lw_all := lw_g (lw_at lw_m8 53 rfl) rfl
theorem q1824 : (Jvm.Cond.methodLink "WorkflowEngineModel" (177 : Nat) ({ cls := "WorkflowEngineModel", name := "tries", desc := "(II)V" } : Jvm.MethodName)) ∈ lw_all := lw_g (lw_at lw_m8 54 rfl) rfl
theorem q1825 : (Jvm.Cond.privateMethod ({ cls := "WorkflowEngineModel", name := "tries", desc := "(II)V" } : Jvm.MethodName)) ∈ lw_tbl := lw_at lw_m8 55 rfl
theorem q1826 : (Jvm.Cond.instanceMethod ({ cls := "WorkflowEngineModel", name := "tries", desc := "(II)V" } : Jvm.MethodName)) ∈ lw_all := lw_g (lw_at lw_m8 56 rfl) rfl
theorem q1827 : (Jvm.Cond.code ({ cls := "WorkflowEngineModel", name := "tries", desc := "(II)V" } : Jvm.MethodName) prog_34_method_45_code (4 : Nat) (Option.none : Option Jvm.ClassFile.FieldType)) ∈ lw_all := lw_g (lw_at lw_m8 57 rfl) rfl
theorem q1828 : (Jvm.Cond.methodLink "WorkflowEngineModel" (174 : Nat) ({ cls := "WorkflowEngineModel", name := "notes", desc := "(III)V" } : Jvm.MethodName)) ∈ lw_all := lw_g (lw_at lw_m8 58 rfl) rfl
theorem q1829 : (Jvm.Cond.privateMethod ({ cls := "WorkflowEngineModel", name := "notes", desc := "(III)V" } : Jvm.MethodName)) ∈ lw_tbl := lw_at lw_m8 59 rfl
theorem q1830 : (Jvm.Cond.instanceMethod ({ cls := "WorkflowEngineModel", name := "notes", desc := "(III)V" } : Jvm.MethodName)) ∈ lw_all := lw_g (lw_at lw_m8 60 rfl) rfl
theorem q1831 : (Jvm.Cond.code ({ cls := "WorkflowEngineModel", name := "notes", desc := "(III)V" } : Jvm.MethodName) prog_34_method_43_code (5 : Nat) (Option.none : Option Jvm.ClassFile.FieldType)) ∈ lw_all := lw_g (lw_at lw_m8 61 rfl) rfl
theorem q1832 : (Jvm.Cond.methodLink "WorkflowEngineModel" (202 : Nat) ({ cls := "WorkflowEngineModel", name := "looks", desc := "(II)I" } : Jvm.MethodName)) ∈ lw_all := lw_g (lw_at lw_m8 62 rfl) rfl
theorem q1833 : (Jvm.Cond.privateMethod ({ cls := "WorkflowEngineModel", name := "looks", desc := "(II)I" } : Jvm.MethodName)) ∈ lw_tbl := lw_at lw_m8 63 rfl
theorem q1834 : (Jvm.Cond.instanceMethod ({ cls := "WorkflowEngineModel", name := "looks", desc := "(II)I" } : Jvm.MethodName)) ∈ lw_all := lw_g (lw_at lw_m8 64 rfl) rfl
theorem q1835 : (Jvm.Cond.code ({ cls := "WorkflowEngineModel", name := "looks", desc := "(II)I" } : Jvm.MethodName) prog_34_method_49_code (3 : Nat) (Option.some Jvm.ClassFile.FieldType.int)) ∈ lw_all := lw_g (lw_at lw_m8 65 rfl) rfl
theorem q1836 : (Jvm.Cond.methodLink "WorkflowEngineModel" (187 : Nat) ({ cls := "WorkflowEngineModel", name := "looksAtTask", desc := "(II)I" } : Jvm.MethodName)) ∈ lw_all := lw_g (lw_at lw_m8 66 rfl) rfl
theorem q1837 : (Jvm.Cond.privateMethod ({ cls := "WorkflowEngineModel", name := "looksAtTask", desc := "(II)I" } : Jvm.MethodName)) ∈ lw_tbl := lw_at lw_m8 67 rfl
theorem q1838 : (Jvm.Cond.instanceMethod ({ cls := "WorkflowEngineModel", name := "looksAtTask", desc := "(II)I" } : Jvm.MethodName)) ∈ lw_all := lw_g (lw_at lw_m8 68 rfl) rfl
theorem q1839 : (Jvm.Cond.code ({ cls := "WorkflowEngineModel", name := "looksAtTask", desc := "(II)I" } : Jvm.MethodName) prog_34_method_46_code (6 : Nat) (Option.some Jvm.ClassFile.FieldType.int)) ∈ lw_all := lw_g (lw_at lw_m8 69 rfl) rfl
theorem q1840 : (Jvm.Cond.methodLink "WorkflowEngineModel" (181 : Nat) ({ cls := "WorkflowEngineModel", name := "fails", desc := "(I)Z" } : Jvm.MethodName)) ∈ lw_all := lw_g (lw_at lw_m8 70 rfl) rfl
theorem q1841 : (Jvm.Cond.privateMethod ({ cls := "WorkflowEngineModel", name := "fails", desc := "(I)Z" } : Jvm.MethodName)) ∈ lw_tbl := lw_at lw_m8 71 rfl
theorem q1842 : (Jvm.Cond.instanceMethod ({ cls := "WorkflowEngineModel", name := "fails", desc := "(I)Z" } : Jvm.MethodName)) ∈ lw_all := lw_g (lw_at lw_m8 72 rfl) rfl
theorem q1843 : (Jvm.Cond.code ({ cls := "WorkflowEngineModel", name := "fails", desc := "(I)Z" } : Jvm.MethodName) prog_34_method_37_code (2 : Nat) (Option.some Jvm.ClassFile.FieldType.boolean)) ∈ lw_all := lw_g (lw_at lw_m8 73 rfl) rfl
theorem q1844 : (Jvm.Cond.methodLink "WorkflowEngineModel" (184 : Nat) ({ cls := "WorkflowEngineModel", name := "comesTo", desc := "(III)I" } : Jvm.MethodName)) ∈ lw_all := lw_g (lw_at lw_m8 74 rfl) rfl
theorem q1845 : (Jvm.Cond.privateMethod ({ cls := "WorkflowEngineModel", name := "comesTo", desc := "(III)I" } : Jvm.MethodName)) ∈ lw_tbl := lw_at lw_m8 75 rfl
theorem q1846 : (Jvm.Cond.instanceMethod ({ cls := "WorkflowEngineModel", name := "comesTo", desc := "(III)I" } : Jvm.MethodName)) ∈ lw_all := lw_g (lw_at lw_m8 76 rfl) rfl
theorem q1847 : (Jvm.Cond.code ({ cls := "WorkflowEngineModel", name := "comesTo", desc := "(III)I" } : Jvm.MethodName) prog_34_method_44_code (4 : Nat) (Option.some Jvm.ClassFile.FieldType.int)) ∈ lw_all := lw_g (lw_at lw_m8 77 rfl) rfl
theorem q1848 : (Jvm.Cond.methodLink "WorkflowEngineModel" (190 : Nat) ({ cls := "WorkflowEngineModel", name := "looksAtSignal", desc := "(II)I" } : Jvm.MethodName)) ∈ lw_all := lw_g (lw_at lw_m8 78 rfl) rfl
theorem q1849 : (Jvm.Cond.privateMethod ({ cls := "WorkflowEngineModel", name := "looksAtSignal", desc := "(II)I" } : Jvm.MethodName)) ∈ lw_tbl := lw_at lw_m8 79 rfl
theorem q1850 : (Jvm.Cond.instanceMethod ({ cls := "WorkflowEngineModel", name := "looksAtSignal", desc := "(II)I" } : Jvm.MethodName)) ∈ lw_all := lw_g (lw_at lw_m8 80 rfl) rfl
theorem q1851 : (Jvm.Cond.code ({ cls := "WorkflowEngineModel", name := "looksAtSignal", desc := "(II)I" } : Jvm.MethodName) prog_34_method_47_code (5 : Nat) (Option.some Jvm.ClassFile.FieldType.int)) ∈ lw_all := lw_g (lw_at lw_m8 81 rfl) rfl
theorem q1852 : (Jvm.Cond.methodLink "WorkflowEngineModel" (193 : Nat) ({ cls := "WorkflowEngineModel", name := "sets", desc := "(II)I" } : Jvm.MethodName)) ∈ lw_all := lw_g (lw_at lw_m8 82 rfl) rfl
theorem q1853 : (Jvm.Cond.privateMethod ({ cls := "WorkflowEngineModel", name := "sets", desc := "(II)I" } : Jvm.MethodName)) ∈ lw_tbl := lw_at lw_m8 83 rfl
theorem q1854 : (Jvm.Cond.instanceMethod ({ cls := "WorkflowEngineModel", name := "sets", desc := "(II)I" } : Jvm.MethodName)) ∈ lw_all := lw_g (lw_at lw_m8 84 rfl) rfl
theorem q1855 : (Jvm.Cond.code ({ cls := "WorkflowEngineModel", name := "sets", desc := "(II)I" } : Jvm.MethodName) prog_34_method_48_code (6 : Nat) (Option.some Jvm.ClassFile.FieldType.int)) ∈ lw_all := lw_g (lw_at lw_m8 85 rfl) rfl
theorem q1856 : (Jvm.Cond.methodLink "WorkflowEngineModel" (199 : Nat) ({ cls := "WorkflowEngineModel", name := "looksAtParallel", desc := "(II)I" } : Jvm.MethodName)) ∈ lw_all := lw_g (lw_at lw_m8 86 rfl) rfl
theorem q1857 : (Jvm.Cond.privateMethod ({ cls := "WorkflowEngineModel", name := "looksAtParallel", desc := "(II)I" } : Jvm.MethodName)) ∈ lw_tbl := lw_at lw_m8 87 rfl
theorem q1858 : (Jvm.Cond.instanceMethod ({ cls := "WorkflowEngineModel", name := "looksAtParallel", desc := "(II)I" } : Jvm.MethodName)) ∈ lw_all := lw_g (lw_at lw_m8 88 rfl) rfl
theorem q1859 : (Jvm.Cond.code ({ cls := "WorkflowEngineModel", name := "looksAtParallel", desc := "(II)I" } : Jvm.MethodName) prog_34_method_55_code (5 : Nat) (Option.some Jvm.ClassFile.FieldType.int)) ∈ lw_all := lw_g (lw_at lw_m8 89 rfl) rfl
theorem q1860 : (Jvm.Cond.methodLink "WorkflowEngineModel" (211 : Nat) ({ cls := "WorkflowEngineModel", name := "bodiesIn", desc := "(III)I" } : Jvm.MethodName)) ∈ lw_all := lw_g (lw_at lw_m8 90 rfl) rfl
theorem q1861 : (Jvm.Cond.privateMethod ({ cls := "WorkflowEngineModel", name := "bodiesIn", desc := "(III)I" } : Jvm.MethodName)) ∈ lw_tbl := lw_at lw_m8 91 rfl
theorem q1862 : (Jvm.Cond.instanceMethod ({ cls := "WorkflowEngineModel", name := "bodiesIn", desc := "(III)I" } : Jvm.MethodName)) ∈ lw_all := lw_g (lw_at lw_m8 92 rfl) rfl
theorem q1863 : (Jvm.Cond.code ({ cls := "WorkflowEngineModel", name := "bodiesIn", desc := "(III)I" } : Jvm.MethodName) prog_34_method_52_code (6 : Nat) (Option.some Jvm.ClassFile.FieldType.int)) ∈ lw_all := lw_g (lw_at lw_m8 93 rfl) rfl
theorem q1864 : (Jvm.Cond.methodLink "WorkflowEngineModel" (214 : Nat) ({ cls := "WorkflowEngineModel", name := "cancelsBodies", desc := "(II)V" } : Jvm.MethodName)) ∈ lw_all := lw_g (lw_at lw_m8 94 rfl) rfl
theorem q1865 : (Jvm.Cond.privateMethod ({ cls := "WorkflowEngineModel", name := "cancelsBodies", desc := "(II)V" } : Jvm.MethodName)) ∈ lw_tbl := lw_at lw_m8 95 rfl
theorem q1866 : (Jvm.Cond.instanceMethod ({ cls := "WorkflowEngineModel", name := "cancelsBodies", desc := "(II)V" } : Jvm.MethodName)) ∈ lw_all := lw_g (lw_at lw_m8 96 rfl) rfl
theorem q1867 : (Jvm.Cond.code ({ cls := "WorkflowEngineModel", name := "cancelsBodies", desc := "(II)V" } : Jvm.MethodName) prog_34_method_54_code (5 : Nat) (Option.none : Option Jvm.ClassFile.FieldType)) ∈ lw_all := lw_g (lw_at lw_m8 97 rfl) rfl
theorem q1868 : (Jvm.Cond.methodLink "WorkflowEngineModel" (208 : Nat) ({ cls := "WorkflowEngineModel", name := "cancels", desc := "(II)V" } : Jvm.MethodName)) ∈ lw_all := lw_g (lw_at lw_m8 98 rfl) rfl
theorem q1869 : (Jvm.Cond.privateMethod ({ cls := "WorkflowEngineModel", name := "cancels", desc := "(II)V" } : Jvm.MethodName)) ∈ lw_tbl := lw_at lw_m8 99 rfl
theorem q1870 : (Jvm.Cond.instanceMethod ({ cls := "WorkflowEngineModel", name := "cancels", desc := "(II)V" } : Jvm.MethodName)) ∈ lw_all := lw_g (lw_at lw_m8 100 rfl) rfl
theorem q1871 : (Jvm.Cond.code ({ cls := "WorkflowEngineModel", name := "cancels", desc := "(II)V" } : Jvm.MethodName) prog_34_method_53_code (5 : Nat) (Option.none : Option Jvm.ClassFile.FieldType)) ∈ lw_all := lw_g (lw_at lw_m8 101 rfl) rfl
theorem q1872 : (Jvm.Cond.methodLink "WorkflowEngineModel" (217 : Nat) ({ cls := "WorkflowEngineModel", name := "compensates", desc := "(II)Z" } : Jvm.MethodName)) ∈ lw_all := lw_g (lw_at lw_m8 102 rfl) rfl
theorem q1873 : (Jvm.Cond.privateMethod ({ cls := "WorkflowEngineModel", name := "compensates", desc := "(II)Z" } : Jvm.MethodName)) ∈ lw_tbl := lw_at lw_m8 103 rfl
theorem q1874 : (Jvm.Cond.instanceMethod ({ cls := "WorkflowEngineModel", name := "compensates", desc := "(II)Z" } : Jvm.MethodName)) ∈ lw_all := lw_g (lw_at lw_m8 104 rfl) rfl
theorem q1875 : (Jvm.Cond.code ({ cls := "WorkflowEngineModel", name := "compensates", desc := "(II)Z" } : Jvm.MethodName) prog_34_method_60_code (4 : Nat) (Option.some Jvm.ClassFile.FieldType.boolean)) ∈ lw_all := lw_g (lw_at lw_m8 105 rfl) rfl
theorem q1876 : (Jvm.Cond.methodLink "WorkflowEngineModel" (223 : Nat) ({ cls := "WorkflowEngineModel", name := "nextToCompensate", desc := "(II)I" } : Jvm.MethodName)) ∈ lw_all := lw_g (lw_at lw_m8 106 rfl) rfl
theorem q1877 : (Jvm.Cond.privateMethod ({ cls := "WorkflowEngineModel", name := "nextToCompensate", desc := "(II)I" } : Jvm.MethodName)) ∈ lw_tbl := lw_at lw_m8 107 rfl
theorem q1878 : (Jvm.Cond.instanceMethod ({ cls := "WorkflowEngineModel", name := "nextToCompensate", desc := "(II)I" } : Jvm.MethodName)) ∈ lw_all := lw_g (lw_at lw_m8 108 rfl) rfl
theorem q1879 : (Jvm.Cond.code ({ cls := "WorkflowEngineModel", name := "nextToCompensate", desc := "(II)I" } : Jvm.MethodName) prog_34_method_57_code (7 : Nat) (Option.some Jvm.ClassFile.FieldType.int)) ∈ lw_all := lw_g (lw_at lw_m8 109 rfl) rfl
theorem q1880 : (Jvm.Cond.methodLink "WorkflowEngineModel" (220 : Nat) ({ cls := "WorkflowEngineModel", name := "isFor", desc := "(III)Z" } : Jvm.MethodName)) ∈ lw_all := lw_g (lw_at lw_m8 110 rfl) rfl
theorem q1881 : (Jvm.Cond.privateMethod ({ cls := "WorkflowEngineModel", name := "isFor", desc := "(III)Z" } : Jvm.MethodName)) ∈ lw_tbl := lw_at lw_m8 111 rfl
theorem q1882 : (Jvm.Cond.instanceMethod ({ cls := "WorkflowEngineModel", name := "isFor", desc := "(III)Z" } : Jvm.MethodName)) ∈ lw_all := lw_g (lw_at lw_m8 112 rfl) rfl
theorem q1883 : (Jvm.Cond.code ({ cls := "WorkflowEngineModel", name := "isFor", desc := "(III)Z" } : Jvm.MethodName) prog_34_method_56_code (6 : Nat) (Option.some Jvm.ClassFile.FieldType.boolean)) ∈ lw_all := lw_g (lw_at lw_m8 113 rfl) rfl
theorem q1884 : (Jvm.Cond.methodLink "WorkflowEngineModel" (226 : Nat) ({ cls := "WorkflowEngineModel", name := "triesToCompensate", desc := "(II)V" } : Jvm.MethodName)) ∈ lw_all := lw_g (lw_at lw_m8 114 rfl) rfl
theorem q1885 : (Jvm.Cond.privateMethod ({ cls := "WorkflowEngineModel", name := "triesToCompensate", desc := "(II)V" } : Jvm.MethodName)) ∈ lw_tbl := lw_at lw_m8 115 rfl
theorem q1886 : (Jvm.Cond.instanceMethod ({ cls := "WorkflowEngineModel", name := "triesToCompensate", desc := "(II)V" } : Jvm.MethodName)) ∈ lw_all := lw_g (lw_at lw_m8 116 rfl) rfl
theorem q1887 : (Jvm.Cond.code ({ cls := "WorkflowEngineModel", name := "triesToCompensate", desc := "(II)V" } : Jvm.MethodName) prog_34_method_58_code (4 : Nat) (Option.none : Option Jvm.ClassFile.FieldType)) ∈ lw_all := lw_g (lw_at lw_m8 117 rfl) rfl
theorem q1888 : (Jvm.Cond.methodLink "WorkflowEngineModel" (229 : Nat) ({ cls := "WorkflowEngineModel", name := "handles", desc := "(IIII)V" } : Jvm.MethodName)) ∈ lw_all := lw_g (lw_at lw_m8 118 rfl) rfl
theorem q1889 : (Jvm.Cond.privateMethod ({ cls := "WorkflowEngineModel", name := "handles", desc := "(IIII)V" } : Jvm.MethodName)) ∈ lw_tbl := lw_at lw_m8 119 rfl
theorem q1890 : (Jvm.Cond.instanceMethod ({ cls := "WorkflowEngineModel", name := "handles", desc := "(IIII)V" } : Jvm.MethodName)) ∈ lw_all := lw_g (lw_at lw_m8 120 rfl) rfl
theorem q1891 : (Jvm.Cond.code ({ cls := "WorkflowEngineModel", name := "handles", desc := "(IIII)V" } : Jvm.MethodName) prog_34_method_59_code (6 : Nat) (Option.none : Option Jvm.ClassFile.FieldType)) ∈ lw_all := lw_g (lw_at lw_m8 121 rfl) rfl
theorem q1892 : (Jvm.Cond.methodLink "WorkflowEngineModel" (233 : Nat) ({ cls := "WorkflowEngineModel", name := "becomes", desc := "(II)V" } : Jvm.MethodName)) ∈ lw_all := lw_g (lw_at lw_m8 122 rfl) rfl
theorem q1893 : (Jvm.Cond.privateMethod ({ cls := "WorkflowEngineModel", name := "becomes", desc := "(II)V" } : Jvm.MethodName)) ∈ lw_tbl := lw_at lw_m8 123 rfl
theorem q1894 : (Jvm.Cond.instanceMethod ({ cls := "WorkflowEngineModel", name := "becomes", desc := "(II)V" } : Jvm.MethodName)) ∈ lw_all := lw_g (lw_at lw_m8 124 rfl) rfl
theorem q1895 : (Jvm.Cond.code ({ cls := "WorkflowEngineModel", name := "becomes", desc := "(II)V" } : Jvm.MethodName) prog_34_method_61_code (3 : Nat) (Option.none : Option Jvm.ClassFile.FieldType)) ∈ lw_all := lw_g (lw_at lw_m8 125 rfl) rfl
theorem q1897 : (Jvm.Cond.instanceMethod ({ cls := "WorkflowEngineModel", name := "signal", desc := "(II)I" } : Jvm.MethodName)) ∈ lw_all := lw_g (lw_at lw_m8 127 rfl) rfl
theorem q1898 : (Jvm.Cond.selects "WorkflowEngineModel" ({ cls := "WorkflowEngineModel", name := "signal", desc := "(II)I" } : Jvm.MethodName) ({ cls := "WorkflowEngineModel", name := "signal", desc := "(II)I" } : Jvm.MethodName)) ∈ lw_all := lw_g (lw_at lw_m8 128 rfl) rfl
theorem q1899 : (Jvm.Cond.code ({ cls := "WorkflowEngineModel", name := "signal", desc := "(II)I" } : Jvm.MethodName) prog_34_method_65_code (3 : Nat) (Option.some Jvm.ClassFile.FieldType.int)) ∈ lw_all := lw_g (lw_at lw_m8 129 rfl) rfl
theorem q1900 : (Jvm.Cond.methodLink "WorkflowEngineModel" (243 : Nat) ({ cls := "WorkflowEngineModel", name := "isInstance", desc := "(I)Z" } : Jvm.MethodName)) ∈ lw_all := lw_g (lw_at lw_m8 130 rfl) rfl
theorem q1901 : (Jvm.Cond.privateMethod ({ cls := "WorkflowEngineModel", name := "isInstance", desc := "(I)Z" } : Jvm.MethodName)) ∈ lw_tbl := lw_at lw_m8 131 rfl
theorem q1902 : (Jvm.Cond.instanceMethod ({ cls := "WorkflowEngineModel", name := "isInstance", desc := "(I)Z" } : Jvm.MethodName)) ∈ lw_all := lw_g (lw_at lw_m8 132 rfl) rfl
theorem q1903 : (Jvm.Cond.code ({ cls := "WorkflowEngineModel", name := "isInstance", desc := "(I)Z" } : Jvm.MethodName) prog_34_method_42_code (2 : Nat) (Option.some Jvm.ClassFile.FieldType.boolean)) ∈ lw_all := lw_g (lw_at lw_m8 133 rfl) rfl
theorem q1905 : (Jvm.Cond.instanceMethod ({ cls := "WorkflowEngineModel", name := "abort", desc := "(I)I" } : Jvm.MethodName)) ∈ lw_all := lw_g (lw_at lw_m8 135 rfl) rfl
theorem q1906 : (Jvm.Cond.selects "WorkflowEngineModel" ({ cls := "WorkflowEngineModel", name := "abort", desc := "(I)I" } : Jvm.MethodName) ({ cls := "WorkflowEngineModel", name := "abort", desc := "(I)I" } : Jvm.MethodName)) ∈ lw_all := lw_g (lw_at lw_m8 136 rfl) rfl
theorem q1907 : (Jvm.Cond.code ({ cls := "WorkflowEngineModel", name := "abort", desc := "(I)I" } : Jvm.MethodName) prog_34_method_66_code (2 : Nat) (Option.some Jvm.ClassFile.FieldType.int)) ∈ lw_all := lw_g (lw_at lw_m8 137 rfl) rfl
theorem q1909 : (Jvm.Cond.instanceMethod ({ cls := "WorkflowEngineModel", name := "remove", desc := "(I)I" } : Jvm.MethodName)) ∈ lw_all := lw_g (lw_at lw_m8 139 rfl) rfl
theorem q1910 : (Jvm.Cond.selects "WorkflowEngineModel" ({ cls := "WorkflowEngineModel", name := "remove", desc := "(I)I" } : Jvm.MethodName) ({ cls := "WorkflowEngineModel", name := "remove", desc := "(I)I" } : Jvm.MethodName)) ∈ lw_all := lw_g (lw_at lw_m8 140 rfl) rfl
theorem q1911 : (Jvm.Cond.code ({ cls := "WorkflowEngineModel", name := "remove", desc := "(I)I" } : Jvm.MethodName) prog_34_method_67_code (3 : Nat) (Option.some Jvm.ClassFile.FieldType.int)) ∈ lw_all := lw_g (lw_at lw_m8 141 rfl) rfl
theorem q1913 : (Jvm.Cond.instanceMethod ({ cls := "WorkflowEngineModel", name := "pass", desc := "(I)I" } : Jvm.MethodName)) ∈ lw_all := lw_g (lw_at lw_m8 143 rfl) rfl
theorem q1914 : (Jvm.Cond.selects "WorkflowEngineModel" ({ cls := "WorkflowEngineModel", name := "pass", desc := "(I)I" } : Jvm.MethodName) ({ cls := "WorkflowEngineModel", name := "pass", desc := "(I)I" } : Jvm.MethodName)) ∈ lw_all := lw_g (lw_at lw_m8 144 rfl) rfl
theorem q1915 : (Jvm.Cond.code ({ cls := "WorkflowEngineModel", name := "pass", desc := "(I)I" } : Jvm.MethodName) prog_34_method_69_code (3 : Nat) (Option.some Jvm.ClassFile.FieldType.int)) ∈ lw_all := lw_g (lw_at lw_m8 145 rfl) rfl
theorem q1916 : (Jvm.Cond.constant "WorkflowEngineModel" (246 : Nat) (99999 : Int32)) ∈ lw_all := lw_g (lw_at lw_m8 146 rfl) rfl
theorem q1917 : (Jvm.Cond.methodLink "WorkflowEngineModel" (247 : Nat) ({ cls := "WorkflowEngineModel", name := "passes", desc := "()V" } : Jvm.MethodName)) ∈ lw_all := lw_g (lw_at lw_m8 147 rfl) rfl
theorem q1918 : (Jvm.Cond.privateMethod ({ cls := "WorkflowEngineModel", name := "passes", desc := "()V" } : Jvm.MethodName)) ∈ lw_tbl := lw_at lw_m8 148 rfl
theorem q1919 : (Jvm.Cond.instanceMethod ({ cls := "WorkflowEngineModel", name := "passes", desc := "()V" } : Jvm.MethodName)) ∈ lw_all := lw_g (lw_at lw_m8 149 rfl) rfl
theorem q1920 : (Jvm.Cond.code ({ cls := "WorkflowEngineModel", name := "passes", desc := "()V" } : Jvm.MethodName) prog_34_method_68_code (2 : Nat) (Option.none : Option Jvm.ClassFile.FieldType)) ∈ lw_all := lw_g (lw_at lw_m8 150 rfl) rfl
theorem q1922 : (Jvm.Cond.instanceMethod ({ cls := "WorkflowEngineModel", name := "instance", desc := "(II)I" } : Jvm.MethodName)) ∈ lw_all := lw_g (lw_at lw_m8 152 rfl) rfl
theorem q1923 : (Jvm.Cond.selects "WorkflowEngineModel" ({ cls := "WorkflowEngineModel", name := "instance", desc := "(II)I" } : Jvm.MethodName) ({ cls := "WorkflowEngineModel", name := "instance", desc := "(II)I" } : Jvm.MethodName)) ∈ lw_all := lw_g (lw_at lw_m8 153 rfl) rfl
theorem q1924 : (Jvm.Cond.code ({ cls := "WorkflowEngineModel", name := "instance", desc := "(II)I" } : Jvm.MethodName) prog_34_method_70_code (3 : Nat) (Option.some Jvm.ClassFile.FieldType.int)) ∈ lw_all := lw_g (lw_at lw_m8 154 rfl) rfl
theorem q1926 : (Jvm.Cond.instanceMethod ({ cls := "WorkflowEngineModel", name := "entry", desc := "(III)I" } : Jvm.MethodName)) ∈ lw_all := lw_g (lw_at lw_m8 156 rfl) rfl
theorem q1927 : (Jvm.Cond.selects "WorkflowEngineModel" ({ cls := "WorkflowEngineModel", name := "entry", desc := "(III)I" } : Jvm.MethodName) ({ cls := "WorkflowEngineModel", name := "entry", desc := "(III)I" } : Jvm.MethodName)) ∈ lw_all := lw_g (lw_at lw_m8 157 rfl) rfl
theorem q1928 : (Jvm.Cond.code ({ cls := "WorkflowEngineModel", name := "entry", desc := "(III)I" } : Jvm.MethodName) prog_34_method_72_code (4 : Nat) (Option.some Jvm.ClassFile.FieldType.int)) ∈ lw_all := lw_g (lw_at lw_m8 158 rfl) rfl
theorem q1929 : (Jvm.Cond.methodLink "WorkflowEngineModel" (253 : Nat) ({ cls := "WorkflowEngineModel", name := "keptEntries", desc := "(I)I" } : Jvm.MethodName)) ∈ lw_all := lw_g (lw_at lw_m8 159 rfl) rfl
theorem q1930 : (Jvm.Cond.privateMethod ({ cls := "WorkflowEngineModel", name := "keptEntries", desc := "(I)I" } : Jvm.MethodName)) ∈ lw_tbl := lw_at lw_m8 160 rfl
theorem q1931 : (Jvm.Cond.instanceMethod ({ cls := "WorkflowEngineModel", name := "keptEntries", desc := "(I)I" } : Jvm.MethodName)) ∈ lw_all := lw_g (lw_at lw_m8 161 rfl) rfl
theorem q1932 : (Jvm.Cond.code ({ cls := "WorkflowEngineModel", name := "keptEntries", desc := "(I)I" } : Jvm.MethodName) prog_34_method_71_code (2 : Nat) (Option.some Jvm.ClassFile.FieldType.int)) ∈ lw_all := lw_g (lw_at lw_m8 162 rfl) rfl
theorem q1933 : (Jvm.Cond.methodLink "WorkflowEngineModel" (250 : Nat) ({ cls := "java/lang/Math", name := "min", desc := "(II)I" } : Jvm.MethodName)) ∈ lw_all := lw_g (lw_at lw_m8 163 rfl) rfl
theorem q1935 : (Jvm.Cond.instanceMethod ({ cls := "WorkflowEngineModel", name := "running", desc := "(II)I" } : Jvm.MethodName)) ∈ lw_all := lw_g (lw_at lw_m8 165 rfl) rfl
theorem q1936 : (Jvm.Cond.selects "WorkflowEngineModel" ({ cls := "WorkflowEngineModel", name := "running", desc := "(II)I" } : Jvm.MethodName) ({ cls := "WorkflowEngineModel", name := "running", desc := "(II)I" } : Jvm.MethodName)) ∈ lw_all := lw_g (lw_at lw_m8 166 rfl) rfl
theorem q1937 : (Jvm.Cond.code ({ cls := "WorkflowEngineModel", name := "running", desc := "(II)I" } : Jvm.MethodName) prog_34_method_74_code (5 : Nat) (Option.some Jvm.ClassFile.FieldType.int)) ∈ lw_all := lw_g (lw_at lw_m8 167 rfl) rfl
theorem q1938 : (Jvm.Cond.methodLink "WorkflowEngineModel" (256 : Nat) ({ cls := "WorkflowEngineModel", name := "runs", desc := "(II)Z" } : Jvm.MethodName)) ∈ lw_all := lw_g (lw_at lw_m8 168 rfl) rfl
theorem q1939 : (Jvm.Cond.privateMethod ({ cls := "WorkflowEngineModel", name := "runs", desc := "(II)Z" } : Jvm.MethodName)) ∈ lw_tbl := lw_at lw_m8 169 rfl
theorem q1940 : (Jvm.Cond.instanceMethod ({ cls := "WorkflowEngineModel", name := "runs", desc := "(II)Z" } : Jvm.MethodName)) ∈ lw_all := lw_g (lw_at lw_m8 170 rfl) rfl
theorem q1941 : (Jvm.Cond.code ({ cls := "WorkflowEngineModel", name := "runs", desc := "(II)Z" } : Jvm.MethodName) prog_34_method_73_code (3 : Nat) (Option.some Jvm.ClassFile.FieldType.boolean)) ∈ lw_all := lw_g (lw_at lw_m8 171 rfl) rfl
theorem q1943 : (Jvm.Cond.instanceMethod ({ cls := "WorkflowEngineModel", name := "due", desc := "(I)I" } : Jvm.MethodName)) ∈ lw_all := lw_g (lw_at lw_m8 173 rfl) rfl
theorem q1944 : (Jvm.Cond.selects "WorkflowEngineModel" ({ cls := "WorkflowEngineModel", name := "due", desc := "(I)I" } : Jvm.MethodName) ({ cls := "WorkflowEngineModel", name := "due", desc := "(I)I" } : Jvm.MethodName)) ∈ lw_all := lw_g (lw_at lw_m8 174 rfl) rfl
theorem q1945 : (Jvm.Cond.code ({ cls := "WorkflowEngineModel", name := "due", desc := "(I)I" } : Jvm.MethodName) prog_34_method_76_code (5 : Nat) (Option.some Jvm.ClassFile.FieldType.int)) ∈ lw_all := lw_g (lw_at lw_m8 175 rfl) rfl
theorem q1946 : (Jvm.Cond.methodLink "WorkflowEngineModel" (259 : Nat) ({ cls := "WorkflowEngineModel", name := "dueAt", desc := "(II)I" } : Jvm.MethodName)) ∈ lw_all := lw_g (lw_at lw_m8 176 rfl) rfl
theorem q1947 : (Jvm.Cond.privateMethod ({ cls := "WorkflowEngineModel", name := "dueAt", desc := "(II)I" } : Jvm.MethodName)) ∈ lw_tbl := lw_at lw_m8 177 rfl
theorem q1948 : (Jvm.Cond.instanceMethod ({ cls := "WorkflowEngineModel", name := "dueAt", desc := "(II)I" } : Jvm.MethodName)) ∈ lw_all := lw_g (lw_at lw_m8 178 rfl) rfl
theorem q1949 : (Jvm.Cond.code ({ cls := "WorkflowEngineModel", name := "dueAt", desc := "(II)I" } : Jvm.MethodName) prog_34_method_75_code (4 : Nat) (Option.some Jvm.ClassFile.FieldType.int)) ∈ lw_all := lw_g (lw_at lw_m8 179 rfl) rfl
theorem q1951 : (Jvm.Cond.instanceMethod ({ cls := "WorkflowEngineModel", name := "ahead", desc := "(II)I" } : Jvm.MethodName)) ∈ lw_all := lw_g (lw_at lw_m8 181 rfl) rfl
theorem q1952 : (Jvm.Cond.selects "WorkflowEngineModel" ({ cls := "WorkflowEngineModel", name := "ahead", desc := "(II)I" } : Jvm.MethodName) ({ cls := "WorkflowEngineModel", name := "ahead", desc := "(II)I" } : Jvm.MethodName)) ∈ lw_all := lw_g (lw_at lw_m8 182 rfl) rfl
theorem q1953 : (Jvm.Cond.code ({ cls := "WorkflowEngineModel", name := "ahead", desc := "(II)I" } : Jvm.MethodName) prog_34_method_78_code (4 : Nat) (Option.some Jvm.ClassFile.FieldType.int)) ∈ lw_all := lw_g (lw_at lw_m8 183 rfl) rfl
theorem q1954 : (Jvm.Cond.methodLink "WorkflowEngineModel" (262 : Nat) ({ cls := "WorkflowEngineModel", name := "copies", desc := "([I[II)V" } : Jvm.MethodName)) ∈ lw_all := lw_g (lw_at lw_m8 184 rfl) rfl
theorem q1955 : (Jvm.Cond.static ({ cls := "WorkflowEngineModel", name := "copies", desc := "([I[II)V" } : Jvm.MethodName)) ∈ lw_all := lw_g (lw_at lw_m8 185 rfl) rfl
theorem q1956 : (Jvm.Cond.code ({ cls := "WorkflowEngineModel", name := "copies", desc := "([I[II)V" } : Jvm.MethodName) prog_34_method_77_code (4 : Nat) (Option.none : Option Jvm.ClassFile.FieldType)) ∈ lw_all := lw_g (lw_at lw_m8 186 rfl) rfl
theorem q1958 : (Jvm.Cond.instanceMethod ({ cls := "WorkflowEngineModel", name := "replayed", desc := "(II)I" } : Jvm.MethodName)) ∈ lw_all := lw_g (lw_at lw_m8 188 rfl) rfl
theorem q1959 : (Jvm.Cond.selects "WorkflowEngineModel" ({ cls := "WorkflowEngineModel", name := "replayed", desc := "(II)I" } : Jvm.MethodName) ({ cls := "WorkflowEngineModel", name := "replayed", desc := "(II)I" } : Jvm.MethodName)) ∈ lw_all := lw_g (lw_at lw_m8 189 rfl) rfl
theorem q1960 : (Jvm.Cond.code ({ cls := "WorkflowEngineModel", name := "replayed", desc := "(II)I" } : Jvm.MethodName) prog_34_method_80_code (5 : Nat) (Option.some Jvm.ClassFile.FieldType.int)) ∈ lw_all := lw_g (lw_at lw_m8 190 rfl) rfl
theorem q1961 : (Jvm.Cond.methodLink "WorkflowEngineModel" (266 : Nat) ({ cls := "WorkflowEngineModel", name := "entriesOf", desc := "(II)I" } : Jvm.MethodName)) ∈ lw_all := lw_g (lw_at lw_m8 191 rfl) rfl
theorem q1962 : (Jvm.Cond.privateMethod ({ cls := "WorkflowEngineModel", name := "entriesOf", desc := "(II)I" } : Jvm.MethodName)) ∈ lw_tbl := lw_at lw_m8 192 rfl
theorem q1963 : (Jvm.Cond.instanceMethod ({ cls := "WorkflowEngineModel", name := "entriesOf", desc := "(II)I" } : Jvm.MethodName)) ∈ lw_all := lw_g (lw_at lw_m8 193 rfl) rfl
theorem q1964 : (Jvm.Cond.code ({ cls := "WorkflowEngineModel", name := "entriesOf", desc := "(II)I" } : Jvm.MethodName) prog_34_method_79_code (5 : Nat) (Option.some Jvm.ClassFile.FieldType.int)) ∈ lw_all := lw_g (lw_at lw_m8 194 rfl) rfl
theorem q1966 : (Jvm.Cond.instanceMethod ({ cls := "WorkflowEngineModel", name := "statistic", desc := "(II)I" } : Jvm.MethodName)) ∈ lw_all := lw_g (lw_at lw_m8 196 rfl) rfl
theorem q1967 : (Jvm.Cond.selects "WorkflowEngineModel" ({ cls := "WorkflowEngineModel", name := "statistic", desc := "(II)I" } : Jvm.MethodName) ({ cls := "WorkflowEngineModel", name := "statistic", desc := "(II)I" } : Jvm.MethodName)) ∈ lw_all := lw_g (lw_at lw_m8 197 rfl) rfl
theorem q1968 : (Jvm.Cond.code ({ cls := "WorkflowEngineModel", name := "statistic", desc := "(II)I" } : Jvm.MethodName) prog_34_method_82_code (7 : Nat) (Option.some Jvm.ClassFile.FieldType.int)) ∈ lw_all := lw_g (lw_at lw_m8 198 rfl) rfl
theorem q1969 : (Jvm.Cond.methodLink "WorkflowEngineModel" (269 : Nat) ({ cls := "WorkflowEngineModel", name := "instancesOf", desc := "(II)I" } : Jvm.MethodName)) ∈ lw_all := lw_g (lw_at lw_m8 199 rfl) rfl
theorem q1970 : (Jvm.Cond.privateMethod ({ cls := "WorkflowEngineModel", name := "instancesOf", desc := "(II)I" } : Jvm.MethodName)) ∈ lw_tbl := lw_at lw_m8 200 rfl
theorem q1971 : (Jvm.Cond.instanceMethod ({ cls := "WorkflowEngineModel", name := "instancesOf", desc := "(II)I" } : Jvm.MethodName)) ∈ lw_all := lw_g (lw_at lw_m8 201 rfl) rfl
theorem q1972 : (Jvm.Cond.code ({ cls := "WorkflowEngineModel", name := "instancesOf", desc := "(II)I" } : Jvm.MethodName) prog_34_method_81_code (5 : Nat) (Option.some Jvm.ClassFile.FieldType.int)) ∈ lw_all := lw_g (lw_at lw_m8 202 rfl) rfl
theorem q1973 : (Jvm.Cond.methodLink "WorkflowEngineModel" (272 : Nat) ({ cls := "java/lang/Float", name := "floatToIntBits", desc := "(F)I" } : Jvm.MethodName)) ∈ lw_all := lw_g (lw_at lw_m8 203 rfl) rfl
theorem q1975 : (Jvm.Cond.instanceMethod ({ cls := "WorkflowEngineModel", name := "image", desc := "()I" } : Jvm.MethodName)) ∈ lw_all := lw_g (lw_at lw_m8 205 rfl) rfl
theorem q1976 : (Jvm.Cond.selects "WorkflowEngineModel" ({ cls := "WorkflowEngineModel", name := "image", desc := "()I" } : Jvm.MethodName) ({ cls := "WorkflowEngineModel", name := "image", desc := "()I" } : Jvm.MethodName)) ∈ lw_all := lw_g (lw_at lw_m8 206 rfl) rfl
theorem q1977 : (Jvm.Cond.code ({ cls := "WorkflowEngineModel", name := "image", desc := "()I" } : Jvm.MethodName) prog_34_method_83_code (1 : Nat) (Option.some Jvm.ClassFile.FieldType.int)) ∈ lw_all := lw_g (lw_at lw_m8 207 rfl) rfl
theorem q1979 : (Jvm.Cond.instanceMethod ({ cls := "WorkflowEngineModel", name := "undo", desc := "()I" } : Jvm.MethodName)) ∈ lw_all := lw_g (lw_at lw_m8 209 rfl) rfl
theorem q1980 : (Jvm.Cond.selects "WorkflowEngineModel" ({ cls := "WorkflowEngineModel", name := "undo", desc := "()I" } : Jvm.MethodName) ({ cls := "WorkflowEngineModel", name := "undo", desc := "()I" } : Jvm.MethodName)) ∈ lw_all := lw_g (lw_at lw_m8 210 rfl) rfl
theorem q1981 : (Jvm.Cond.code ({ cls := "WorkflowEngineModel", name := "undo", desc := "()I" } : Jvm.MethodName) prog_34_method_84_code (1 : Nat) (Option.some Jvm.ClassFile.FieldType.int)) ∈ lw_all := lw_g (lw_at lw_m8 211 rfl) rfl
theorem q1983 : (Jvm.Cond.instanceMethod ({ cls := "WorkflowEngineModel", name := "count", desc := "(I)I" } : Jvm.MethodName)) ∈ lw_all := lw_g (lw_at lw_m8 213 rfl) rfl
theorem q1984 : (Jvm.Cond.selects "WorkflowEngineModel" ({ cls := "WorkflowEngineModel", name := "count", desc := "(I)I" } : Jvm.MethodName) ({ cls := "WorkflowEngineModel", name := "count", desc := "(I)I" } : Jvm.MethodName)) ∈ lw_all := lw_g (lw_at lw_m8 214 rfl) rfl
theorem q1985 : (Jvm.Cond.code ({ cls := "WorkflowEngineModel", name := "count", desc := "(I)I" } : Jvm.MethodName) prog_34_method_87_code (2 : Nat) (Option.some Jvm.ClassFile.FieldType.int)) ∈ lw_all := lw_g (lw_at lw_m8 215 rfl) rfl
theorem q1986 : (Jvm.Cond.methodLink "WorkflowEngineModel" (288 : Nat) ({ cls := "WorkflowEngineModel", name := "withStatus", desc := "(I)I" } : Jvm.MethodName)) ∈ lw_all := lw_g (lw_at lw_m8 216 rfl) rfl
theorem q1987 : (Jvm.Cond.privateMethod ({ cls := "WorkflowEngineModel", name := "withStatus", desc := "(I)I" } : Jvm.MethodName)) ∈ lw_tbl := lw_at lw_m8 217 rfl
theorem q1988 : (Jvm.Cond.instanceMethod ({ cls := "WorkflowEngineModel", name := "withStatus", desc := "(I)I" } : Jvm.MethodName)) ∈ lw_all := lw_g (lw_at lw_m8 218 rfl) rfl
theorem q1989 : (Jvm.Cond.code ({ cls := "WorkflowEngineModel", name := "withStatus", desc := "(I)I" } : Jvm.MethodName) prog_34_method_85_code (4 : Nat) (Option.some Jvm.ClassFile.FieldType.int)) ∈ lw_all := lw_g (lw_at lw_m8 219 rfl) rfl
theorem q1990 : (Jvm.Cond.methodLink "WorkflowEngineModel" (291 : Nat) ({ cls := "WorkflowEngineModel", name := "versions", desc := "()I" } : Jvm.MethodName)) ∈ lw_all := lw_g (lw_at lw_m8 220 rfl) rfl
theorem q1991 : (Jvm.Cond.privateMethod ({ cls := "WorkflowEngineModel", name := "versions", desc := "()I" } : Jvm.MethodName)) ∈ lw_tbl := lw_at lw_m8 221 rfl
theorem q1992 : (Jvm.Cond.instanceMethod ({ cls := "WorkflowEngineModel", name := "versions", desc := "()I" } : Jvm.MethodName)) ∈ lw_all := lw_g (lw_at lw_m8 222 rfl) rfl
theorem q1993 : (Jvm.Cond.code ({ cls := "WorkflowEngineModel", name := "versions", desc := "()I" } : Jvm.MethodName) prog_34_method_86_code (3 : Nat) (Option.some Jvm.ClassFile.FieldType.int)) ∈ lw_all := lw_g (lw_at lw_m8 223 rfl) rfl
theorem q2008 : (Jvm.Cond.castable "WorkflowEngineModel" "java/lang/Object") ∈ lw_tbl := lw_at lw_m8 238 rfl
theorem in_X2 : ∀ w ∈ wsX20, w ∈ lw_all := lw_in wsX20 [1615, 1617, 1619, 1621, 1623, 1625, 1627, 1629, 1631, 1633, 1635, 1637, 1639, 1641, 1643, 1645, 1647, 1649, 1651, 1653, 1655] (by decide +kernel) (by decide +kernel)
def RX20 : String := "WorkflowEngine$AssignRun"
def TX20 : u_T := fun k => match k with
  | 0 => ("WorkflowEngine$Run", "in", "LWorkflowEngine$Instance;", true)
  | 1 => ("WorkflowEngine$Run", "this$0", "LWorkflowEngine;", true)
  | 2 => ("WorkflowEngine$AssignRun", "assign", "LWorkflowEngine$Assign;", true)
  | _ => ("WorkflowEngine$AssignRun", "this$0", "LWorkflowEngine;", true)
def tyX20 : Nat → FieldType := fun k => match k with
  | 0 => .object "WorkflowEngine$Instance"
  | 1 => .object "WorkflowEngine"
  | 2 => .object "WorkflowEngine$Assign"
  | _ => .object "WorkflowEngine"
abbrev wsX200 : List Cond := u_ws RX20 TX20 4
theorem tyX20_ok : ∀ k, k < 4 → parseFieldDescriptor (TX20 k).2.2.1 = some (tyX20 k) := by decide +kernel
abbrev cX20_looks : ByteArray := prog_3_method_2_code
def yX20_looks : MethodName := ⟨RX20, "looks", "()LWorkflowEngine$Outcome;"⟩
abbrev cX20_init : ByteArray := prog_3_method_1_code
def yX20_init : MethodName := ⟨RX20, "<init>", "(LWorkflowEngine;LWorkflowEngine$Instance;LWorkflowEngine$Assign;)V"⟩
abbrev cX20_due : ByteArray := prog_3_method_4_code
def yX20_due : MethodName := ⟨RX20, "due", "()I"⟩
abbrev cX20_copy : ByteArray := prog_3_method_3_code
def yX20_copy : MethodName := ⟨RX20, "copy", "(LWorkflowEngine$Instance;)LWorkflowEngine$Run;"⟩
theorem q124 : (Jvm.Cond.initialized "WorkflowEngine$AssignRun") ∈ lw_all := lw_g (lw_at lw_m1 34 rfl) rfl
theorem q432 : (Jvm.Cond.fieldLinkNest "WorkflowEngine$AssignRun" (35 : Nat) "WorkflowEngine$Assign" "variable" "I" "WorkflowEngine") ∈ lw_tbl := lw_at lw_m2 102 rfl
theorem q434 : (Jvm.Cond.fieldLinkNest "WorkflowEngine$AssignRun" (19 : Nat) "WorkflowEngine$Assign" "isAdded" "Z" "WorkflowEngine") ∈ lw_tbl := lw_at lw_m2 104 rfl
theorem q436 : (Jvm.Cond.fieldLinkNest "WorkflowEngine$AssignRun" (39 : Nat) "WorkflowEngine$Assign" "value" "I" "WorkflowEngine") ∈ lw_tbl := lw_at lw_m2 106 rfl
theorem q515 : (Jvm.Cond.selects "WorkflowEngine$AssignRun" ({ cls := "java/lang/Object", name := "getClass", desc := "()Ljava/lang/Class;" } : Jvm.MethodName) ({ cls := "java/lang/Object", name := "getClass", desc := "()Ljava/lang/Class;" } : Jvm.MethodName)) ∈ lw_all := lw_g (lw_at lw_m2 185 rfl) rfl
theorem q814 : (Jvm.Cond.fieldLinkNest "WorkflowEngine$AssignRun" (29 : Nat) "WorkflowEngine$Instance" "variables" "[I" "WorkflowEngine") ∈ lw_tbl := lw_at lw_m4 4 rfl
theorem q909 : (Jvm.Cond.fieldLink "WorkflowEngine$AssignRun" (25 : Nat) "WorkflowEngine$AssignRun" "in" "LWorkflowEngine$Instance;") ∈ lw_all := lw_g (lw_at lw_m4 99 rfl) rfl
theorem q910 : (Jvm.Cond.sameField "WorkflowEngine$AssignRun" "WorkflowEngine$Run" "in" "LWorkflowEngine$Instance;") ∈ lw_all := lw_g (lw_at lw_m4 100 rfl) rfl
theorem q940 : (Jvm.Cond.selects "WorkflowEngine$AssignRun" ({ cls := "WorkflowEngine$Run", name := "looks", desc := "()LWorkflowEngine$Outcome;" } : Jvm.MethodName) ({ cls := "WorkflowEngine$AssignRun", name := "looks", desc := "()LWorkflowEngine$Outcome;" } : Jvm.MethodName)) ∈ lw_all := lw_g (lw_at lw_m4 130 rfl) rfl
theorem q941 : (Jvm.Cond.instanceMethod ({ cls := "WorkflowEngine$AssignRun", name := "looks", desc := "()LWorkflowEngine$Outcome;" } : Jvm.MethodName)) ∈ lw_all := lw_g (lw_at lw_m4 131 rfl) rfl
theorem q942 : (Jvm.Cond.code ({ cls := "WorkflowEngine$AssignRun", name := "looks", desc := "()LWorkflowEngine$Outcome;" } : Jvm.MethodName) prog_3_method_2_code (2 : Nat) (Option.some (Jvm.ClassFile.FieldType.object "WorkflowEngine$Outcome"))) ∈ lw_all := lw_g (lw_at lw_m4 132 rfl) rfl
theorem q943 : (Jvm.Cond.methodLink "WorkflowEngine$AssignRun" (42 : Nat) ({ cls := "WorkflowEngine$Instance", name := "notes", desc := "(II)V" } : Jvm.MethodName)) ∈ lw_all := lw_g (lw_at lw_m4 133 rfl) rfl
theorem q947 : (Jvm.Cond.fieldLink "WorkflowEngine$AssignRun" (46 : Nat) "WorkflowEngine$Outcome" "ENDS" "LWorkflowEngine$Outcome;") ∈ lw_all := lw_g (lw_at lw_m4 137 rfl) rfl
theorem q971 : (Jvm.Cond.instantiable "WorkflowEngine$AssignRun" (4 : Nat)) ∈ lw_all := lw_g (lw_at lw_m4 161 rfl) rfl
theorem q980 : (Jvm.Cond.instanceMethod ({ cls := "WorkflowEngine$AssignRun", name := "<init>", desc := "(LWorkflowEngine;LWorkflowEngine$Instance;LWorkflowEngine$Assign;)V" } : Jvm.MethodName)) ∈ lw_all := lw_g (lw_at lw_m4 170 rfl) rfl
theorem q981 : (Jvm.Cond.code ({ cls := "WorkflowEngine$AssignRun", name := "<init>", desc := "(LWorkflowEngine;LWorkflowEngine$Instance;LWorkflowEngine$Assign;)V" } : Jvm.MethodName) prog_3_method_1_code (4 : Nat) (Option.none : Option Jvm.ClassFile.FieldType)) ∈ lw_all := lw_g (lw_at lw_m4 171 rfl) rfl
theorem q982 : (Jvm.Cond.methodLink "WorkflowEngine$AssignRun" (9 : Nat) ({ cls := "WorkflowEngine$Run", name := "<init>", desc := "(LWorkflowEngine;LWorkflowEngine$Instance;)V" } : Jvm.MethodName)) ∈ lw_all := lw_g (lw_at lw_m4 172 rfl) rfl
theorem q983 : (Jvm.Cond.fieldLink "WorkflowEngine$AssignRun" (15 : Nat) "WorkflowEngine$AssignRun" "assign" "LWorkflowEngine$Assign;") ∈ lw_all := lw_g (lw_at lw_m4 173 rfl) rfl
theorem q984 : (Jvm.Cond.fieldLink "WorkflowEngine$AssignRun" (3 : Nat) "WorkflowEngine$AssignRun" "this$0" "LWorkflowEngine;") ∈ lw_all := lw_g (lw_at lw_m4 174 rfl) rfl
theorem q985 : (Jvm.Cond.laysFinal "WorkflowEngine$AssignRun" "WorkflowEngine$AssignRun" "assign" "LWorkflowEngine$Assign;") ∈ lw_all := lw_g (lw_at lw_m4 175 rfl) rfl
theorem q986 : (Jvm.Cond.soleField "WorkflowEngine$AssignRun" "assign") ∈ lw_all := lw_g (lw_at lw_m4 176 rfl) rfl
theorem q987 : (Jvm.Cond.laysFinal "WorkflowEngine$AssignRun" "WorkflowEngine$AssignRun" "this$0" "LWorkflowEngine;") ∈ lw_all := lw_g (lw_at lw_m4 177 rfl) rfl
theorem q988 : (Jvm.Cond.soleField "WorkflowEngine$AssignRun" "this$0") ∈ lw_all := lw_g (lw_at lw_m4 178 rfl) rfl
theorem q989 : (Jvm.Cond.laysFinal "WorkflowEngine$AssignRun" "WorkflowEngine$Run" "in" "LWorkflowEngine$Instance;") ∈ lw_all := lw_g (lw_at lw_m4 179 rfl) rfl
theorem q990 : (Jvm.Cond.laysFinal "WorkflowEngine$AssignRun" "WorkflowEngine$Run" "this$0" "LWorkflowEngine;") ∈ lw_all := lw_g (lw_at lw_m4 180 rfl) rfl
theorem q991 : (Jvm.Cond.superclass "WorkflowEngine$AssignRun" "WorkflowEngine$Run") ∈ lw_all := lw_g (lw_at lw_m4 181 rfl) rfl
theorem q1206 : (Jvm.Cond.selects "WorkflowEngine$AssignRun" ({ cls := "WorkflowEngine$Run", name := "gathers", desc := "(LWorkflowEngine$Dones;)V" } : Jvm.MethodName) ({ cls := "WorkflowEngine$Run", name := "gathers", desc := "(LWorkflowEngine$Dones;)V" } : Jvm.MethodName)) ∈ lw_all := lw_g (lw_at lw_m5 156 rfl) rfl
theorem q1360 : (Jvm.Cond.selects "WorkflowEngine$AssignRun" ({ cls := "WorkflowEngine$Run", name := "lists", desc := "(LWorkflowEngine$Places;)V" } : Jvm.MethodName) ({ cls := "WorkflowEngine$Run", name := "lists", desc := "(LWorkflowEngine$Places;)V" } : Jvm.MethodName)) ∈ lw_all := lw_g (lw_at lw_m6 70 rfl) rfl
theorem q1396 : (Jvm.Cond.selects "WorkflowEngine$AssignRun" ({ cls := "WorkflowEngine$Run", name := "due", desc := "()I" } : Jvm.MethodName) ({ cls := "WorkflowEngine$AssignRun", name := "due", desc := "()I" } : Jvm.MethodName)) ∈ lw_all := lw_g (lw_at lw_m6 106 rfl) rfl
theorem q1397 : (Jvm.Cond.instanceMethod ({ cls := "WorkflowEngine$AssignRun", name := "due", desc := "()I" } : Jvm.MethodName)) ∈ lw_all := lw_g (lw_at lw_m6 107 rfl) rfl
theorem q1398 : (Jvm.Cond.code ({ cls := "WorkflowEngine$AssignRun", name := "due", desc := "()I" } : Jvm.MethodName) prog_3_method_4_code (1 : Nat) (Option.some Jvm.ClassFile.FieldType.int)) ∈ lw_all := lw_g (lw_at lw_m6 108 rfl) rfl
theorem q1399 : (Jvm.Cond.constant "WorkflowEngine$AssignRun" (55 : Nat) (2147483647 : Int32)) ∈ lw_all := lw_g (lw_at lw_m6 109 rfl) rfl
theorem q1448 : (Jvm.Cond.selects "WorkflowEngine$AssignRun" ({ cls := "WorkflowEngine$Run", name := "copy", desc := "(LWorkflowEngine$Instance;)LWorkflowEngine$Run;" } : Jvm.MethodName) ({ cls := "WorkflowEngine$AssignRun", name := "copy", desc := "(LWorkflowEngine$Instance;)LWorkflowEngine$Run;" } : Jvm.MethodName)) ∈ lw_all := lw_g (lw_at lw_m6 158 rfl) rfl
theorem q1449 : (Jvm.Cond.instanceMethod ({ cls := "WorkflowEngine$AssignRun", name := "copy", desc := "(LWorkflowEngine$Instance;)LWorkflowEngine$Run;" } : Jvm.MethodName)) ∈ lw_all := lw_g (lw_at lw_m6 159 rfl) rfl
theorem q1450 : (Jvm.Cond.code ({ cls := "WorkflowEngine$AssignRun", name := "copy", desc := "(LWorkflowEngine$Instance;)LWorkflowEngine$Run;" } : Jvm.MethodName) prog_3_method_3_code (2 : Nat) (Option.some (Jvm.ClassFile.FieldType.object "WorkflowEngine$Run"))) ∈ lw_all := lw_g (lw_at lw_m6 160 rfl) rfl
theorem q1451 : (Jvm.Cond.classLink "WorkflowEngine$AssignRun" (4 : Nat) "WorkflowEngine$AssignRun") ∈ lw_all := lw_g (lw_at lw_m6 161 rfl) rfl
theorem q1452 : (Jvm.Cond.methodLink "WorkflowEngine$AssignRun" (52 : Nat) ({ cls := "WorkflowEngine$AssignRun", name := "<init>", desc := "(LWorkflowEngine;LWorkflowEngine$Instance;LWorkflowEngine$Assign;)V" } : Jvm.MethodName)) ∈ lw_all := lw_g (lw_at lw_m6 162 rfl) rfl
theorem q2023 : (Jvm.Cond.castable "WorkflowEngine$AssignRun" "java/lang/Object") ∈ lw_tbl := lw_at lw_m9 13 rfl
theorem q2037 : (Jvm.Cond.castable "WorkflowEngine$AssignRun" "WorkflowEngine$Run") ∈ lw_tbl := lw_at lw_m9 27 rfl
theorem in_X20 : ∀ w ∈ wsX200, w ∈ lw_all := lw_in wsX200 [989, 990, 985, 987] (by decide +kernel) (by decide +kernel)
def RX21 : String := "WorkflowEngine$AwaitRun"
def TX21 : u_T := fun k => match k with
  | 0 => ("WorkflowEngine$Run", "in", "LWorkflowEngine$Instance;", true)
  | 1 => ("WorkflowEngine$Run", "this$0", "LWorkflowEngine;", true)
  | 2 => ("WorkflowEngine$AwaitRun", "await", "LWorkflowEngine$Await;", true)
  | 3 => ("WorkflowEngine$AwaitRun", "until", "I", false)
  | _ => ("WorkflowEngine$AwaitRun", "this$0", "LWorkflowEngine;", true)
def tyX21 : Nat → FieldType := fun k => match k with
  | 0 => .object "WorkflowEngine$Instance"
  | 1 => .object "WorkflowEngine"
  | 2 => .object "WorkflowEngine$Await"
  | 3 => .int
  | _ => .object "WorkflowEngine"
abbrev wsX210 : List Cond := u_ws RX21 TX21 5
theorem tyX21_ok : ∀ k, k < 5 → parseFieldDescriptor (TX21 k).2.2.1 = some (tyX21 k) := by decide +kernel
abbrev cX21_looks : ByteArray := prog_5_method_2_code
def yX21_looks : MethodName := ⟨RX21, "looks", "()LWorkflowEngine$Outcome;"⟩
abbrev cX21_init : ByteArray := prog_5_method_1_code
def yX21_init : MethodName := ⟨RX21, "<init>", "(LWorkflowEngine;LWorkflowEngine$Instance;LWorkflowEngine$Await;)V"⟩
abbrev cX21_lists : ByteArray := prog_5_method_5_code
def yX21_lists : MethodName := ⟨RX21, "lists", "(LWorkflowEngine$Places;)V"⟩
abbrev cX21_due : ByteArray := prog_5_method_4_code
def yX21_due : MethodName := ⟨RX21, "due", "()I"⟩
abbrev cX21_copy : ByteArray := prog_5_method_3_code
def yX21_copy : MethodName := ⟨RX21, "copy", "(LWorkflowEngine$Instance;)LWorkflowEngine$Run;"⟩
theorem q125 : (Jvm.Cond.initialized "WorkflowEngine$AwaitRun") ∈ lw_all := lw_g (lw_at lw_m1 35 rfl) rfl
theorem q372 : (Jvm.Cond.fieldLink "WorkflowEngine$AwaitRun" (70 : Nat) "WorkflowEngine$Await" "place" "I") ∈ lw_all := lw_g (lw_at lw_m2 42 rfl) rfl
theorem q408 : (Jvm.Cond.fieldLinkNest "WorkflowEngine$AwaitRun" (48 : Nat) "WorkflowEngine$Await" "code" "I" "WorkflowEngine") ∈ lw_tbl := lw_at lw_m2 78 rfl
theorem q410 : (Jvm.Cond.fieldLinkNest "WorkflowEngine$AwaitRun" (19 : Nat) "WorkflowEngine$Await" "minutes" "I" "WorkflowEngine") ∈ lw_tbl := lw_at lw_m2 80 rfl
theorem q517 : (Jvm.Cond.selects "WorkflowEngine$AwaitRun" ({ cls := "java/lang/Object", name := "getClass", desc := "()Ljava/lang/Class;" } : Jvm.MethodName) ({ cls := "java/lang/Object", name := "getClass", desc := "()Ljava/lang/Class;" } : Jvm.MethodName)) ∈ lw_all := lw_g (lw_at lw_m2 187 rfl) rfl
theorem q744 : (Jvm.Cond.fieldLinkNest "WorkflowEngine$AwaitRun" (32 : Nat) "WorkflowEngine$Moment" "minute" "I" "WorkflowEngine") ∈ lw_tbl := lw_at lw_m3 174 rfl
theorem q805 : (Jvm.Cond.fieldLinkNest "WorkflowEngine$AwaitRun" (26 : Nat) "WorkflowEngine$Instance" "moment" "LWorkflowEngine$Moment;" "WorkflowEngine") ∈ lw_tbl := lw_at lw_m3 235 rfl
theorem q818 : (Jvm.Cond.fieldLinkNest "WorkflowEngine$AwaitRun" (44 : Nat) "WorkflowEngine$Instance" "pending" "[I" "WorkflowEngine") ∈ lw_tbl := lw_at lw_m4 8 rfl
theorem q905 : (Jvm.Cond.fieldLink "WorkflowEngine$AwaitRun" (40 : Nat) "WorkflowEngine$AwaitRun" "in" "LWorkflowEngine$Instance;") ∈ lw_all := lw_g (lw_at lw_m4 95 rfl) rfl
theorem q906 : (Jvm.Cond.sameField "WorkflowEngine$AwaitRun" "WorkflowEngine$Run" "in" "LWorkflowEngine$Instance;") ∈ lw_all := lw_g (lw_at lw_m4 96 rfl) rfl
theorem q949 : (Jvm.Cond.selects "WorkflowEngine$AwaitRun" ({ cls := "WorkflowEngine$Run", name := "looks", desc := "()LWorkflowEngine$Outcome;" } : Jvm.MethodName) ({ cls := "WorkflowEngine$AwaitRun", name := "looks", desc := "()LWorkflowEngine$Outcome;" } : Jvm.MethodName)) ∈ lw_all := lw_g (lw_at lw_m4 139 rfl) rfl
theorem q950 : (Jvm.Cond.instanceMethod ({ cls := "WorkflowEngine$AwaitRun", name := "looks", desc := "()LWorkflowEngine$Outcome;" } : Jvm.MethodName)) ∈ lw_all := lw_g (lw_at lw_m4 140 rfl) rfl
theorem q951 : (Jvm.Cond.code ({ cls := "WorkflowEngine$AwaitRun", name := "looks", desc := "()LWorkflowEngine$Outcome;" } : Jvm.MethodName) prog_5_method_2_code (1 : Nat) (Option.some (Jvm.ClassFile.FieldType.object "WorkflowEngine$Outcome"))) ∈ lw_all := lw_g (lw_at lw_m4 141 rfl) rfl
theorem q952 : (Jvm.Cond.methodLink "WorkflowEngine$AwaitRun" (51 : Nat) ({ cls := "WorkflowEngine$Instance", name := "notes", desc := "(II)V" } : Jvm.MethodName)) ∈ lw_all := lw_g (lw_at lw_m4 142 rfl) rfl
theorem q953 : (Jvm.Cond.fieldLink "WorkflowEngine$AwaitRun" (55 : Nat) "WorkflowEngine$Outcome" "ENDS" "LWorkflowEngine$Outcome;") ∈ lw_all := lw_g (lw_at lw_m4 143 rfl) rfl
theorem q954 : (Jvm.Cond.fieldLink "WorkflowEngine$AwaitRun" (61 : Nat) "WorkflowEngine$Outcome" "RUNS" "LWorkflowEngine$Outcome;") ∈ lw_all := lw_g (lw_at lw_m4 144 rfl) rfl
theorem q956 : (Jvm.Cond.fieldLink "WorkflowEngine$AwaitRun" (64 : Nat) "WorkflowEngine$Outcome" "BREAKS" "LWorkflowEngine$Outcome;") ∈ lw_all := lw_g (lw_at lw_m4 146 rfl) rfl
theorem q996 : (Jvm.Cond.instantiable "WorkflowEngine$AwaitRun" (5 : Nat)) ∈ lw_all := lw_g (lw_at lw_m4 186 rfl) rfl
theorem q1000 : (Jvm.Cond.instanceMethod ({ cls := "WorkflowEngine$AwaitRun", name := "<init>", desc := "(LWorkflowEngine;LWorkflowEngine$Instance;LWorkflowEngine$Await;)V" } : Jvm.MethodName)) ∈ lw_all := lw_g (lw_at lw_m4 190 rfl) rfl
theorem q1001 : (Jvm.Cond.code ({ cls := "WorkflowEngine$AwaitRun", name := "<init>", desc := "(LWorkflowEngine;LWorkflowEngine$Instance;LWorkflowEngine$Await;)V" } : Jvm.MethodName) prog_5_method_1_code (4 : Nat) (Option.none : Option Jvm.ClassFile.FieldType)) ∈ lw_all := lw_g (lw_at lw_m4 191 rfl) rfl
theorem q1002 : (Jvm.Cond.methodLink "WorkflowEngine$AwaitRun" (9 : Nat) ({ cls := "WorkflowEngine$Run", name := "<init>", desc := "(LWorkflowEngine;LWorkflowEngine$Instance;)V" } : Jvm.MethodName)) ∈ lw_all := lw_g (lw_at lw_m4 192 rfl) rfl
theorem q1003 : (Jvm.Cond.constant "WorkflowEngine$AwaitRun" (25 : Nat) (2147483647 : Int32)) ∈ lw_all := lw_g (lw_at lw_m4 193 rfl) rfl
theorem q1004 : (Jvm.Cond.fieldLink "WorkflowEngine$AwaitRun" (15 : Nat) "WorkflowEngine$AwaitRun" "await" "LWorkflowEngine$Await;") ∈ lw_all := lw_g (lw_at lw_m4 194 rfl) rfl
theorem q1005 : (Jvm.Cond.fieldLink "WorkflowEngine$AwaitRun" (37 : Nat) "WorkflowEngine$AwaitRun" "until" "I") ∈ lw_all := lw_g (lw_at lw_m4 195 rfl) rfl
theorem q1006 : (Jvm.Cond.fieldLink "WorkflowEngine$AwaitRun" (3 : Nat) "WorkflowEngine$AwaitRun" "this$0" "LWorkflowEngine;") ∈ lw_all := lw_g (lw_at lw_m4 196 rfl) rfl
theorem q1007 : (Jvm.Cond.laysFinal "WorkflowEngine$AwaitRun" "WorkflowEngine$AwaitRun" "await" "LWorkflowEngine$Await;") ∈ lw_all := lw_g (lw_at lw_m4 197 rfl) rfl
theorem q1008 : (Jvm.Cond.soleField "WorkflowEngine$AwaitRun" "await") ∈ lw_all := lw_g (lw_at lw_m4 198 rfl) rfl
theorem q1009 : (Jvm.Cond.lays "WorkflowEngine$AwaitRun" "WorkflowEngine$AwaitRun" "until" "I") ∈ lw_all := lw_g (lw_at lw_m4 199 rfl) rfl
theorem q1010 : (Jvm.Cond.soleField "WorkflowEngine$AwaitRun" "until") ∈ lw_all := lw_g (lw_at lw_m4 200 rfl) rfl
theorem q1011 : (Jvm.Cond.laysFinal "WorkflowEngine$AwaitRun" "WorkflowEngine$AwaitRun" "this$0" "LWorkflowEngine;") ∈ lw_all := lw_g (lw_at lw_m4 201 rfl) rfl
theorem q1012 : (Jvm.Cond.soleField "WorkflowEngine$AwaitRun" "this$0") ∈ lw_all := lw_g (lw_at lw_m4 202 rfl) rfl
theorem q1013 : (Jvm.Cond.laysFinal "WorkflowEngine$AwaitRun" "WorkflowEngine$Run" "in" "LWorkflowEngine$Instance;") ∈ lw_all := lw_g (lw_at lw_m4 203 rfl) rfl
theorem q1014 : (Jvm.Cond.laysFinal "WorkflowEngine$AwaitRun" "WorkflowEngine$Run" "this$0" "LWorkflowEngine;") ∈ lw_all := lw_g (lw_at lw_m4 204 rfl) rfl
theorem q1015 : (Jvm.Cond.superclass "WorkflowEngine$AwaitRun" "WorkflowEngine$Run") ∈ lw_all := lw_g (lw_at lw_m4 205 rfl) rfl
theorem q1207 : (Jvm.Cond.selects "WorkflowEngine$AwaitRun" ({ cls := "WorkflowEngine$Run", name := "gathers", desc := "(LWorkflowEngine$Dones;)V" } : Jvm.MethodName) ({ cls := "WorkflowEngine$Run", name := "gathers", desc := "(LWorkflowEngine$Dones;)V" } : Jvm.MethodName)) ∈ lw_all := lw_g (lw_at lw_m5 157 rfl) rfl
theorem q1361 : (Jvm.Cond.selects "WorkflowEngine$AwaitRun" ({ cls := "WorkflowEngine$Run", name := "lists", desc := "(LWorkflowEngine$Places;)V" } : Jvm.MethodName) ({ cls := "WorkflowEngine$AwaitRun", name := "lists", desc := "(LWorkflowEngine$Places;)V" } : Jvm.MethodName)) ∈ lw_all := lw_g (lw_at lw_m6 71 rfl) rfl
theorem q1362 : (Jvm.Cond.instanceMethod ({ cls := "WorkflowEngine$AwaitRun", name := "lists", desc := "(LWorkflowEngine$Places;)V" } : Jvm.MethodName)) ∈ lw_all := lw_g (lw_at lw_m6 72 rfl) rfl
theorem q1363 : (Jvm.Cond.code ({ cls := "WorkflowEngine$AwaitRun", name := "lists", desc := "(LWorkflowEngine$Places;)V" } : Jvm.MethodName) prog_5_method_5_code (2 : Nat) (Option.none : Option Jvm.ClassFile.FieldType)) ∈ lw_all := lw_g (lw_at lw_m6 73 rfl) rfl
theorem q1364 : (Jvm.Cond.methodLink "WorkflowEngine$AwaitRun" (73 : Nat) ({ cls := "WorkflowEngine$Places", name := "adds", desc := "(I)V" } : Jvm.MethodName)) ∈ lw_all := lw_g (lw_at lw_m6 74 rfl) rfl
theorem q1400 : (Jvm.Cond.selects "WorkflowEngine$AwaitRun" ({ cls := "WorkflowEngine$Run", name := "due", desc := "()I" } : Jvm.MethodName) ({ cls := "WorkflowEngine$AwaitRun", name := "due", desc := "()I" } : Jvm.MethodName)) ∈ lw_all := lw_g (lw_at lw_m6 110 rfl) rfl
theorem q1401 : (Jvm.Cond.instanceMethod ({ cls := "WorkflowEngine$AwaitRun", name := "due", desc := "()I" } : Jvm.MethodName)) ∈ lw_all := lw_g (lw_at lw_m6 111 rfl) rfl
theorem q1402 : (Jvm.Cond.code ({ cls := "WorkflowEngine$AwaitRun", name := "due", desc := "()I" } : Jvm.MethodName) prog_5_method_4_code (1 : Nat) (Option.some Jvm.ClassFile.FieldType.int)) ∈ lw_all := lw_g (lw_at lw_m6 112 rfl) rfl
theorem q1453 : (Jvm.Cond.selects "WorkflowEngine$AwaitRun" ({ cls := "WorkflowEngine$Run", name := "copy", desc := "(LWorkflowEngine$Instance;)LWorkflowEngine$Run;" } : Jvm.MethodName) ({ cls := "WorkflowEngine$AwaitRun", name := "copy", desc := "(LWorkflowEngine$Instance;)LWorkflowEngine$Run;" } : Jvm.MethodName)) ∈ lw_all := lw_g (lw_at lw_m6 163 rfl) rfl
theorem q1454 : (Jvm.Cond.instanceMethod ({ cls := "WorkflowEngine$AwaitRun", name := "copy", desc := "(LWorkflowEngine$Instance;)LWorkflowEngine$Run;" } : Jvm.MethodName)) ∈ lw_all := lw_g (lw_at lw_m6 164 rfl) rfl
theorem q1455 : (Jvm.Cond.code ({ cls := "WorkflowEngine$AwaitRun", name := "copy", desc := "(LWorkflowEngine$Instance;)LWorkflowEngine$Run;" } : Jvm.MethodName) prog_5_method_3_code (3 : Nat) (Option.some (Jvm.ClassFile.FieldType.object "WorkflowEngine$Run"))) ∈ lw_all := lw_g (lw_at lw_m6 165 rfl) rfl
theorem q1456 : (Jvm.Cond.classLink "WorkflowEngine$AwaitRun" (4 : Nat) "WorkflowEngine$AwaitRun") ∈ lw_all := lw_g (lw_at lw_m6 166 rfl) rfl
theorem q1457 : (Jvm.Cond.methodLink "WorkflowEngine$AwaitRun" (67 : Nat) ({ cls := "WorkflowEngine$AwaitRun", name := "<init>", desc := "(LWorkflowEngine;LWorkflowEngine$Instance;LWorkflowEngine$Await;)V" } : Jvm.MethodName)) ∈ lw_all := lw_g (lw_at lw_m6 167 rfl) rfl
theorem q2024 : (Jvm.Cond.castable "WorkflowEngine$AwaitRun" "java/lang/Object") ∈ lw_tbl := lw_at lw_m9 14 rfl
theorem q2038 : (Jvm.Cond.castable "WorkflowEngine$AwaitRun" "WorkflowEngine$Run") ∈ lw_tbl := lw_at lw_m9 28 rfl
theorem in_X21 : ∀ w ∈ wsX210, w ∈ lw_all := lw_in wsX210 [1013, 1014, 1007, 1009, 1011] (by decide +kernel) (by decide +kernel)
def RX22 : String := "WorkflowEngine$ParallelRun"
def TX22 : u_T := fun k => match k with
  | 0 => ("WorkflowEngine$Run", "in", "LWorkflowEngine$Instance;", true)
  | 1 => ("WorkflowEngine$Run", "this$0", "LWorkflowEngine;", true)
  | 2 => ("WorkflowEngine$ParallelRun", "parallel", "LWorkflowEngine$Parallel;", true)
  | 3 => ("WorkflowEngine$ParallelRun", "bodies", "[LWorkflowEngine$Run;", true)
  | 4 => ("WorkflowEngine$ParallelRun", "outcomes", "[LWorkflowEngine$Outcome;", true)
  | 5 => ("WorkflowEngine$ParallelRun", "undo", "LWorkflowEngine$Undo;", false)
  | _ => ("WorkflowEngine$ParallelRun", "this$0", "LWorkflowEngine;", true)
def tyX22 : Nat → FieldType := fun k => match k with
  | 0 => .object "WorkflowEngine$Instance"
  | 1 => .object "WorkflowEngine"
  | 2 => .object "WorkflowEngine$Parallel"
  | 3 => .array (.object "WorkflowEngine$Run")
  | 4 => .array (.object "WorkflowEngine$Outcome")
  | 5 => .object "WorkflowEngine$Undo"
  | _ => .object "WorkflowEngine"
abbrev wsX220 : List Cond := u_ws RX22 TX22 7
theorem tyX22_ok : ∀ k, k < 7 → parseFieldDescriptor (TX22 k).2.2.1 = some (tyX22 k) := by decide +kernel
abbrev cX22_init : ByteArray := prog_21_method_1_code
def yX22_init : MethodName := ⟨RX22, "<init>", "(LWorkflowEngine;LWorkflowEngine$Instance;LWorkflowEngine$Parallel;)V"⟩
abbrev cX22_looks : ByteArray := prog_21_method_5_code
def yX22_looks : MethodName := ⟨RX22, "looks", "()LWorkflowEngine$Outcome;"⟩
abbrev cX22_looksAtAll : ByteArray := prog_21_method_3_code
def yX22_looksAtAll : MethodName := ⟨RX22, "looksAtAll", "()V"⟩
abbrev cX22_many : ByteArray := prog_21_method_2_code
def yX22_many : MethodName := ⟨RX22, "many", "(LWorkflowEngine$Outcome;)I"⟩
abbrev cX22_cancels : ByteArray := prog_21_method_4_code
def yX22_cancels : MethodName := ⟨RX22, "cancels", "(Z)V"⟩
abbrev cX22_gathers : ByteArray := prog_21_method_9_code
def yX22_gathers : MethodName := ⟨RX22, "gathers", "(LWorkflowEngine$Dones;)V"⟩
abbrev cX22_lists : ByteArray := prog_21_method_8_code
def yX22_lists : MethodName := ⟨RX22, "lists", "(LWorkflowEngine$Places;)V"⟩
abbrev cX22_due : ByteArray := prog_21_method_7_code
def yX22_due : MethodName := ⟨RX22, "due", "()I"⟩
abbrev cX22_copy : ByteArray := prog_21_method_6_code
def yX22_copy : MethodName := ⟨RX22, "copy", "(LWorkflowEngine$Instance;)LWorkflowEngine$Run;"⟩
theorem q126 : (Jvm.Cond.initialized "WorkflowEngine$ParallelRun") ∈ lw_all := lw_g (lw_at lw_m1 36 rfl) rfl
theorem q531 : (Jvm.Cond.selects "WorkflowEngine$ParallelRun" ({ cls := "java/lang/Object", name := "getClass", desc := "()Ljava/lang/Class;" } : Jvm.MethodName) ({ cls := "java/lang/Object", name := "getClass", desc := "()Ljava/lang/Class;" } : Jvm.MethodName)) ∈ lw_all := lw_g (lw_at lw_m2 201 rfl) rfl
theorem q570 : (Jvm.Cond.fieldLinkNest "WorkflowEngine$ParallelRun" (19 : Nat) "WorkflowEngine$Parallel" "bodies" "Ljava/util/ArrayList;" "WorkflowEngine") ∈ lw_tbl := lw_at lw_m3 0 rfl
theorem q573 : (Jvm.Cond.fieldLinkNest "WorkflowEngine$ParallelRun" (108 : Nat) "WorkflowEngine$Parallel" "quorum" "I" "WorkflowEngine") ∈ lw_tbl := lw_at lw_m3 3 rfl
theorem q915 : (Jvm.Cond.fieldLink "WorkflowEngine$ParallelRun" (46 : Nat) "WorkflowEngine$ParallelRun" "in" "LWorkflowEngine$Instance;") ∈ lw_all := lw_g (lw_at lw_m4 105 rfl) rfl
theorem q916 : (Jvm.Cond.sameField "WorkflowEngine$ParallelRun" "WorkflowEngine$Run" "in" "LWorkflowEngine$Instance;") ∈ lw_all := lw_g (lw_at lw_m4 106 rfl) rfl
theorem q1027 : (Jvm.Cond.instantiable "WorkflowEngine$ParallelRun" (7 : Nat)) ∈ lw_all := lw_g (lw_at lw_m4 217 rfl) rfl
theorem q1031 : (Jvm.Cond.instanceMethod ({ cls := "WorkflowEngine$ParallelRun", name := "<init>", desc := "(LWorkflowEngine;LWorkflowEngine$Instance;LWorkflowEngine$Parallel;)V" } : Jvm.MethodName)) ∈ lw_all := lw_g (lw_at lw_m4 221 rfl) rfl
theorem q1032 : (Jvm.Cond.code ({ cls := "WorkflowEngine$ParallelRun", name := "<init>", desc := "(LWorkflowEngine;LWorkflowEngine$Instance;LWorkflowEngine$Parallel;)V" } : Jvm.MethodName) prog_21_method_1_code (4 : Nat) (Option.none : Option Jvm.ClassFile.FieldType)) ∈ lw_all := lw_g (lw_at lw_m4 222 rfl) rfl
theorem q1033 : (Jvm.Cond.methodLink "WorkflowEngine$ParallelRun" (9 : Nat) ({ cls := "WorkflowEngine$Run", name := "<init>", desc := "(LWorkflowEngine;LWorkflowEngine$Instance;)V" } : Jvm.MethodName)) ∈ lw_all := lw_g (lw_at lw_m4 223 rfl) rfl
theorem q1034 : (Jvm.Cond.methodLink "WorkflowEngine$ParallelRun" (25 : Nat) ({ cls := "java/util/ArrayList", name := "size", desc := "()I" } : Jvm.MethodName)) ∈ lw_all := lw_g (lw_at lw_m4 224 rfl) rfl
theorem q1035 : (Jvm.Cond.classLink "WorkflowEngine$ParallelRun" (10 : Nat) "WorkflowEngine$Run") ∈ lw_all := lw_g (lw_at lw_m4 225 rfl) rfl
theorem q1037 : (Jvm.Cond.classLink "WorkflowEngine$ParallelRun" (34 : Nat) "WorkflowEngine$Outcome") ∈ lw_all := lw_g (lw_at lw_m4 227 rfl) rfl
theorem q1039 : (Jvm.Cond.fieldLink "WorkflowEngine$ParallelRun" (15 : Nat) "WorkflowEngine$ParallelRun" "parallel" "LWorkflowEngine$Parallel;") ∈ lw_all := lw_g (lw_at lw_m4 229 rfl) rfl
theorem q1040 : (Jvm.Cond.fieldLink "WorkflowEngine$ParallelRun" (31 : Nat) "WorkflowEngine$ParallelRun" "bodies" "[LWorkflowEngine$Run;") ∈ lw_all := lw_g (lw_at lw_m4 230 rfl) rfl
theorem q1041 : (Jvm.Cond.fieldLink "WorkflowEngine$ParallelRun" (36 : Nat) "WorkflowEngine$ParallelRun" "outcomes" "[LWorkflowEngine$Outcome;") ∈ lw_all := lw_g (lw_at lw_m4 231 rfl) rfl
theorem q1042 : (Jvm.Cond.fieldLink "WorkflowEngine$ParallelRun" (94 : Nat) "WorkflowEngine$ParallelRun" "undo" "LWorkflowEngine$Undo;") ∈ lw_all := lw_g (lw_at lw_m4 232 rfl) rfl
theorem q1043 : (Jvm.Cond.fieldLink "WorkflowEngine$ParallelRun" (3 : Nat) "WorkflowEngine$ParallelRun" "this$0" "LWorkflowEngine;") ∈ lw_all := lw_g (lw_at lw_m4 233 rfl) rfl
theorem q1044 : (Jvm.Cond.laysFinal "WorkflowEngine$ParallelRun" "WorkflowEngine$ParallelRun" "parallel" "LWorkflowEngine$Parallel;") ∈ lw_all := lw_g (lw_at lw_m4 234 rfl) rfl
theorem q1045 : (Jvm.Cond.soleField "WorkflowEngine$ParallelRun" "parallel") ∈ lw_all := lw_g (lw_at lw_m4 235 rfl) rfl
theorem q1046 : (Jvm.Cond.laysFinal "WorkflowEngine$ParallelRun" "WorkflowEngine$ParallelRun" "bodies" "[LWorkflowEngine$Run;") ∈ lw_all := lw_g (lw_at lw_m4 236 rfl) rfl
theorem q1047 : (Jvm.Cond.soleField "WorkflowEngine$ParallelRun" "bodies") ∈ lw_all := lw_g (lw_at lw_m4 237 rfl) rfl
theorem q1048 : (Jvm.Cond.laysFinal "WorkflowEngine$ParallelRun" "WorkflowEngine$ParallelRun" "outcomes" "[LWorkflowEngine$Outcome;") ∈ lw_all := lw_g (lw_at lw_m4 238 rfl) rfl
theorem q1049 : (Jvm.Cond.soleField "WorkflowEngine$ParallelRun" "outcomes") ∈ lw_all := lw_g (lw_at lw_m4 239 rfl) rfl
theorem q1050 : (Jvm.Cond.lays "WorkflowEngine$ParallelRun" "WorkflowEngine$ParallelRun" "undo" "LWorkflowEngine$Undo;") ∈ lw_all := lw_g (lw_at lw_m5 0 rfl) rfl
theorem q1051 : (Jvm.Cond.soleField "WorkflowEngine$ParallelRun" "undo") ∈ lw_all := lw_g (lw_at lw_m5 1 rfl) rfl
theorem q1052 : (Jvm.Cond.laysFinal "WorkflowEngine$ParallelRun" "WorkflowEngine$ParallelRun" "this$0" "LWorkflowEngine;") ∈ lw_all := lw_g (lw_at lw_m5 2 rfl) rfl
theorem q1053 : (Jvm.Cond.soleField "WorkflowEngine$ParallelRun" "this$0") ∈ lw_all := lw_g (lw_at lw_m5 3 rfl) rfl
theorem q1054 : (Jvm.Cond.laysFinal "WorkflowEngine$ParallelRun" "WorkflowEngine$Run" "in" "LWorkflowEngine$Instance;") ∈ lw_all := lw_g (lw_at lw_m5 4 rfl) rfl
theorem q1055 : (Jvm.Cond.laysFinal "WorkflowEngine$ParallelRun" "WorkflowEngine$Run" "this$0" "LWorkflowEngine;") ∈ lw_all := lw_g (lw_at lw_m5 5 rfl) rfl
theorem q1056 : (Jvm.Cond.superclass "WorkflowEngine$ParallelRun" "WorkflowEngine$Run") ∈ lw_all := lw_g (lw_at lw_m5 6 rfl) rfl
theorem q1113 : (Jvm.Cond.instanceMethod ({ cls := "WorkflowEngine$ParallelRun", name := "looks", desc := "()LWorkflowEngine$Outcome;" } : Jvm.MethodName)) ∈ lw_all := lw_g (lw_at lw_m5 63 rfl) rfl
theorem q1114 : (Jvm.Cond.code ({ cls := "WorkflowEngine$ParallelRun", name := "looks", desc := "()LWorkflowEngine$Outcome;" } : Jvm.MethodName) prog_21_method_5_code (2 : Nat) (Option.some (Jvm.ClassFile.FieldType.object "WorkflowEngine$Outcome"))) ∈ lw_all := lw_g (lw_at lw_m5 64 rfl) rfl
theorem q1115 : (Jvm.Cond.methodLink "WorkflowEngine$ParallelRun" (98 : Nat) ({ cls := "WorkflowEngine$ParallelRun", name := "looksAtAll", desc := "()V" } : Jvm.MethodName)) ∈ lw_all := lw_g (lw_at lw_m5 65 rfl) rfl
theorem q1116 : (Jvm.Cond.privateMethod ({ cls := "WorkflowEngine$ParallelRun", name := "looksAtAll", desc := "()V" } : Jvm.MethodName)) ∈ lw_tbl := lw_at lw_m5 66 rfl
theorem q1117 : (Jvm.Cond.instanceMethod ({ cls := "WorkflowEngine$ParallelRun", name := "looksAtAll", desc := "()V" } : Jvm.MethodName)) ∈ lw_all := lw_g (lw_at lw_m5 67 rfl) rfl
theorem q1118 : (Jvm.Cond.code ({ cls := "WorkflowEngine$ParallelRun", name := "looksAtAll", desc := "()V" } : Jvm.MethodName) prog_21_method_3_code (2 : Nat) (Option.none : Option Jvm.ClassFile.FieldType)) ∈ lw_all := lw_g (lw_at lw_m5 68 rfl) rfl
theorem q1119 : (Jvm.Cond.classLink "WorkflowEngine$ParallelRun" (44 : Nat) "WorkflowEngine$BodyRun") ∈ lw_all := lw_g (lw_at lw_m5 69 rfl) rfl
theorem q1120 : (Jvm.Cond.methodLink "WorkflowEngine$ParallelRun" (50 : Nat) ({ cls := "java/util/ArrayList", name := "get", desc := "(I)Ljava/lang/Object;" } : Jvm.MethodName)) ∈ lw_all := lw_g (lw_at lw_m5 70 rfl) rfl
theorem q1121 : (Jvm.Cond.classLink "WorkflowEngine$ParallelRun" (54 : Nat) "WorkflowEngine$Body") ∈ lw_all := lw_g (lw_at lw_m5 71 rfl) rfl
theorem q1122 : (Jvm.Cond.methodLink "WorkflowEngine$ParallelRun" (56 : Nat) ({ cls := "WorkflowEngine$BodyRun", name := "<init>", desc := "(LWorkflowEngine;LWorkflowEngine$Instance;LWorkflowEngine$Body;)V" } : Jvm.MethodName)) ∈ lw_all := lw_g (lw_at lw_m5 72 rfl) rfl
theorem q1123 : (Jvm.Cond.fieldLink "WorkflowEngine$ParallelRun" (59 : Nat) "WorkflowEngine$Outcome" "RUNS" "LWorkflowEngine$Outcome;") ∈ lw_all := lw_g (lw_at lw_m5 73 rfl) rfl
theorem q1124 : (Jvm.Cond.methodLink "WorkflowEngine$ParallelRun" (63 : Nat) ({ cls := "WorkflowEngine$Outcome", name := "isOver", desc := "()Z" } : Jvm.MethodName)) ∈ lw_all := lw_g (lw_at lw_m5 74 rfl) rfl
theorem q1136 : (Jvm.Cond.methodLink "WorkflowEngine$ParallelRun" (67 : Nat) ({ cls := "WorkflowEngine$Run", name := "looks", desc := "()LWorkflowEngine$Outcome;" } : Jvm.MethodName)) ∈ lw_all := lw_g (lw_at lw_m5 86 rfl) rfl
theorem q1189 : (Jvm.Cond.fieldLink "WorkflowEngine$ParallelRun" (101 : Nat) "WorkflowEngine$Outcome" "ENDS" "LWorkflowEngine$Outcome;") ∈ lw_all := lw_g (lw_at lw_m5 139 rfl) rfl
theorem q1190 : (Jvm.Cond.methodLink "WorkflowEngine$ParallelRun" (104 : Nat) ({ cls := "WorkflowEngine$ParallelRun", name := "many", desc := "(LWorkflowEngine$Outcome;)I" } : Jvm.MethodName)) ∈ lw_all := lw_g (lw_at lw_m5 140 rfl) rfl
theorem q1191 : (Jvm.Cond.privateMethod ({ cls := "WorkflowEngine$ParallelRun", name := "many", desc := "(LWorkflowEngine$Outcome;)I" } : Jvm.MethodName)) ∈ lw_tbl := lw_at lw_m5 141 rfl
theorem q1192 : (Jvm.Cond.instanceMethod ({ cls := "WorkflowEngine$ParallelRun", name := "many", desc := "(LWorkflowEngine$Outcome;)I" } : Jvm.MethodName)) ∈ lw_all := lw_g (lw_at lw_m5 142 rfl) rfl
theorem q1193 : (Jvm.Cond.code ({ cls := "WorkflowEngine$ParallelRun", name := "many", desc := "(LWorkflowEngine$Outcome;)I" } : Jvm.MethodName) prog_21_method_2_code (4 : Nat) (Option.some Jvm.ClassFile.FieldType.int)) ∈ lw_all := lw_g (lw_at lw_m5 143 rfl) rfl
theorem q1194 : (Jvm.Cond.methodLinkNest "WorkflowEngine$ParallelRun" (40 : Nat) ({ cls := "WorkflowEngine", name := "bit", desc := "(Z)I" } : Jvm.MethodName) "WorkflowEngine") ∈ lw_tbl := lw_at lw_m5 144 rfl
theorem q1195 : (Jvm.Cond.methodLink "WorkflowEngine$ParallelRun" (112 : Nat) ({ cls := "WorkflowEngine$ParallelRun", name := "cancels", desc := "(Z)V" } : Jvm.MethodName)) ∈ lw_all := lw_g (lw_at lw_m5 145 rfl) rfl
theorem q1196 : (Jvm.Cond.privateMethod ({ cls := "WorkflowEngine$ParallelRun", name := "cancels", desc := "(Z)V" } : Jvm.MethodName)) ∈ lw_tbl := lw_at lw_m5 146 rfl
theorem q1197 : (Jvm.Cond.instanceMethod ({ cls := "WorkflowEngine$ParallelRun", name := "cancels", desc := "(Z)V" } : Jvm.MethodName)) ∈ lw_all := lw_g (lw_at lw_m5 147 rfl) rfl
theorem q1198 : (Jvm.Cond.code ({ cls := "WorkflowEngine$ParallelRun", name := "cancels", desc := "(Z)V" } : Jvm.MethodName) prog_21_method_4_code (4 : Nat) (Option.none : Option Jvm.ClassFile.FieldType)) ∈ lw_all := lw_g (lw_at lw_m5 148 rfl) rfl
theorem q1199 : (Jvm.Cond.classLink "WorkflowEngine$ParallelRun" (71 : Nat) "WorkflowEngine$Dones") ∈ lw_all := lw_g (lw_at lw_m5 149 rfl) rfl
theorem q1200 : (Jvm.Cond.methodLinkNest "WorkflowEngine$ParallelRun" (73 : Nat) ({ cls := "WorkflowEngine$Dones", name := "<init>", desc := "()V" } : Jvm.MethodName) "WorkflowEngine") ∈ lw_tbl := lw_at lw_m5 150 rfl
theorem q1201 : (Jvm.Cond.methodLink "WorkflowEngine$ParallelRun" (76 : Nat) ({ cls := "WorkflowEngine$Instance", name := "notes", desc := "(II)V" } : Jvm.MethodName)) ∈ lw_all := lw_g (lw_at lw_m5 151 rfl) rfl
theorem q1202 : (Jvm.Cond.fieldLink "WorkflowEngine$ParallelRun" (82 : Nat) "WorkflowEngine$Outcome" "BREAKS" "LWorkflowEngine$Outcome;") ∈ lw_all := lw_g (lw_at lw_m5 152 rfl) rfl
theorem q1203 : (Jvm.Cond.methodLink "WorkflowEngine$ParallelRun" (85 : Nat) ({ cls := "WorkflowEngine$Run", name := "gathers", desc := "(LWorkflowEngine$Dones;)V" } : Jvm.MethodName)) ∈ lw_all := lw_g (lw_at lw_m5 153 rfl) rfl
theorem q1216 : (Jvm.Cond.instanceMethod ({ cls := "WorkflowEngine$ParallelRun", name := "gathers", desc := "(LWorkflowEngine$Dones;)V" } : Jvm.MethodName)) ∈ lw_all := lw_g (lw_at lw_m5 166 rfl) rfl
theorem q1217 : (Jvm.Cond.code ({ cls := "WorkflowEngine$ParallelRun", name := "gathers", desc := "(LWorkflowEngine$Dones;)V" } : Jvm.MethodName) prog_21_method_9_code (3 : Nat) (Option.none : Option Jvm.ClassFile.FieldType)) ∈ lw_all := lw_g (lw_at lw_m5 167 rfl) rfl
theorem q1221 : (Jvm.Cond.selects "WorkflowEngine$ParallelRun" ({ cls := "WorkflowEngine$Run", name := "gathers", desc := "(LWorkflowEngine$Dones;)V" } : Jvm.MethodName) ({ cls := "WorkflowEngine$ParallelRun", name := "gathers", desc := "(LWorkflowEngine$Dones;)V" } : Jvm.MethodName)) ∈ lw_all := lw_g (lw_at lw_m5 171 rfl) rfl
theorem q1225 : (Jvm.Cond.classLink "WorkflowEngine$ParallelRun" (89 : Nat) "WorkflowEngine$Undo") ∈ lw_all := lw_g (lw_at lw_m5 175 rfl) rfl
theorem q1227 : (Jvm.Cond.methodLink "WorkflowEngine$ParallelRun" (91 : Nat) ({ cls := "WorkflowEngine$Undo", name := "<init>", desc := "(LWorkflowEngine;LWorkflowEngine$Instance;LWorkflowEngine$Dones;)V" } : Jvm.MethodName)) ∈ lw_all := lw_g (lw_at lw_m5 177 rfl) rfl
theorem q1236 : (Jvm.Cond.fieldLinkNest "WorkflowEngine$ParallelRun" (128 : Nat) "WorkflowEngine$Undo" "until" "I" "WorkflowEngine") ∈ lw_tbl := lw_at lw_m5 186 rfl
theorem q1252 : (Jvm.Cond.methodLink "WorkflowEngine$ParallelRun" (116 : Nat) ({ cls := "WorkflowEngine$Undo", name := "isOver", desc := "()Z" } : Jvm.MethodName)) ∈ lw_all := lw_g (lw_at lw_m5 202 rfl) rfl
theorem q1277 : (Jvm.Cond.selects "WorkflowEngine$ParallelRun" ({ cls := "WorkflowEngine$Run", name := "looks", desc := "()LWorkflowEngine$Outcome;" } : Jvm.MethodName) ({ cls := "WorkflowEngine$ParallelRun", name := "looks", desc := "()LWorkflowEngine$Outcome;" } : Jvm.MethodName)) ∈ lw_all := lw_g (lw_at lw_m5 227 rfl) rfl
theorem q1372 : (Jvm.Cond.instanceMethod ({ cls := "WorkflowEngine$ParallelRun", name := "lists", desc := "(LWorkflowEngine$Places;)V" } : Jvm.MethodName)) ∈ lw_all := lw_g (lw_at lw_m6 82 rfl) rfl
theorem q1373 : (Jvm.Cond.code ({ cls := "WorkflowEngine$ParallelRun", name := "lists", desc := "(LWorkflowEngine$Places;)V" } : Jvm.MethodName) prog_21_method_8_code (3 : Nat) (Option.none : Option Jvm.ClassFile.FieldType)) ∈ lw_all := lw_g (lw_at lw_m6 83 rfl) rfl
theorem q1374 : (Jvm.Cond.methodLink "WorkflowEngine$ParallelRun" (140 : Nat) ({ cls := "WorkflowEngine$Run", name := "lists", desc := "(LWorkflowEngine$Places;)V" } : Jvm.MethodName)) ∈ lw_all := lw_g (lw_at lw_m6 84 rfl) rfl
theorem q1381 : (Jvm.Cond.selects "WorkflowEngine$ParallelRun" ({ cls := "WorkflowEngine$Run", name := "lists", desc := "(LWorkflowEngine$Places;)V" } : Jvm.MethodName) ({ cls := "WorkflowEngine$ParallelRun", name := "lists", desc := "(LWorkflowEngine$Places;)V" } : Jvm.MethodName)) ∈ lw_all := lw_g (lw_at lw_m6 91 rfl) rfl
theorem q1408 : (Jvm.Cond.instanceMethod ({ cls := "WorkflowEngine$ParallelRun", name := "due", desc := "()I" } : Jvm.MethodName)) ∈ lw_all := lw_g (lw_at lw_m6 118 rfl) rfl
theorem q1409 : (Jvm.Cond.code ({ cls := "WorkflowEngine$ParallelRun", name := "due", desc := "()I" } : Jvm.MethodName) prog_21_method_7_code (3 : Nat) (Option.some Jvm.ClassFile.FieldType.int)) ∈ lw_all := lw_g (lw_at lw_m6 119 rfl) rfl
theorem q1410 : (Jvm.Cond.constant "WorkflowEngine$ParallelRun" (127 : Nat) (2147483647 : Int32)) ∈ lw_all := lw_g (lw_at lw_m6 120 rfl) rfl
theorem q1411 : (Jvm.Cond.methodLink "WorkflowEngine$ParallelRun" (131 : Nat) ({ cls := "WorkflowEngine$Run", name := "due", desc := "()I" } : Jvm.MethodName)) ∈ lw_all := lw_g (lw_at lw_m6 121 rfl) rfl
theorem q1416 : (Jvm.Cond.methodLink "WorkflowEngine$ParallelRun" (134 : Nat) ({ cls := "java/lang/Math", name := "min", desc := "(II)I" } : Jvm.MethodName)) ∈ lw_all := lw_g (lw_at lw_m6 126 rfl) rfl
theorem q1417 : (Jvm.Cond.selects "WorkflowEngine$ParallelRun" ({ cls := "WorkflowEngine$Run", name := "due", desc := "()I" } : Jvm.MethodName) ({ cls := "WorkflowEngine$ParallelRun", name := "due", desc := "()I" } : Jvm.MethodName)) ∈ lw_all := lw_g (lw_at lw_m6 127 rfl) rfl
theorem q1464 : (Jvm.Cond.instanceMethod ({ cls := "WorkflowEngine$ParallelRun", name := "copy", desc := "(LWorkflowEngine$Instance;)LWorkflowEngine$Run;" } : Jvm.MethodName)) ∈ lw_all := lw_g (lw_at lw_m6 174 rfl) rfl
theorem q1465 : (Jvm.Cond.code ({ cls := "WorkflowEngine$ParallelRun", name := "copy", desc := "(LWorkflowEngine$Instance;)LWorkflowEngine$Run;" } : Jvm.MethodName) prog_21_method_6_code (4 : Nat) (Option.some (Jvm.ClassFile.FieldType.object "WorkflowEngine$Run"))) ∈ lw_all := lw_g (lw_at lw_m6 175 rfl) rfl
theorem q1466 : (Jvm.Cond.classLink "WorkflowEngine$ParallelRun" (4 : Nat) "WorkflowEngine$ParallelRun") ∈ lw_all := lw_g (lw_at lw_m6 176 rfl) rfl
theorem q1467 : (Jvm.Cond.methodLink "WorkflowEngine$ParallelRun" (117 : Nat) ({ cls := "WorkflowEngine$ParallelRun", name := "<init>", desc := "(LWorkflowEngine;LWorkflowEngine$Instance;LWorkflowEngine$Parallel;)V" } : Jvm.MethodName)) ∈ lw_all := lw_g (lw_at lw_m6 177 rfl) rfl
theorem q1468 : (Jvm.Cond.methodLink "WorkflowEngine$ParallelRun" (120 : Nat) ({ cls := "WorkflowEngine$Run", name := "copy", desc := "(LWorkflowEngine$Instance;)LWorkflowEngine$Run;" } : Jvm.MethodName)) ∈ lw_all := lw_g (lw_at lw_m6 178 rfl) rfl
theorem q1477 : (Jvm.Cond.methodLink "WorkflowEngine$ParallelRun" (124 : Nat) ({ cls := "WorkflowEngine$Undo", name := "copy", desc := "(LWorkflowEngine$Instance;)LWorkflowEngine$Undo;" } : Jvm.MethodName)) ∈ lw_all := lw_g (lw_at lw_m6 187 rfl) rfl
theorem q1491 : (Jvm.Cond.selects "WorkflowEngine$ParallelRun" ({ cls := "WorkflowEngine$Run", name := "copy", desc := "(LWorkflowEngine$Instance;)LWorkflowEngine$Run;" } : Jvm.MethodName) ({ cls := "WorkflowEngine$ParallelRun", name := "copy", desc := "(LWorkflowEngine$Instance;)LWorkflowEngine$Run;" } : Jvm.MethodName)) ∈ lw_all := lw_g (lw_at lw_m6 201 rfl) rfl
theorem q2025 : (Jvm.Cond.castable "WorkflowEngine$ParallelRun" "java/lang/Object") ∈ lw_tbl := lw_at lw_m9 15 rfl
theorem q2039 : (Jvm.Cond.castable "WorkflowEngine$ParallelRun" "WorkflowEngine$Run") ∈ lw_tbl := lw_at lw_m9 29 rfl
theorem in_X22 : ∀ w ∈ wsX220, w ∈ lw_all := lw_in wsX220 [1054, 1055, 1044, 1046, 1048, 1050, 1052] (by decide +kernel) (by decide +kernel)
def RX23 : String := "WorkflowEngine$TaskRun"
def TX23 : u_T := fun k => match k with
  | 0 => ("WorkflowEngine$Run", "in", "LWorkflowEngine$Instance;", true)
  | 1 => ("WorkflowEngine$Run", "this$0", "LWorkflowEngine;", true)
  | 2 => ("WorkflowEngine$TaskRun", "task", "LWorkflowEngine$Task;", true)
  | 3 => ("WorkflowEngine$TaskRun", "isTrying", "Z", false)
  | 4 => ("WorkflowEngine$TaskRun", "until", "I", false)
  | 5 => ("WorkflowEngine$TaskRun", "attempts", "I", false)
  | 6 => ("WorkflowEngine$TaskRun", "number", "I", false)
  | _ => ("WorkflowEngine$TaskRun", "this$0", "LWorkflowEngine;", true)
def tyX23 : Nat → FieldType := fun k => match k with
  | 0 => .object "WorkflowEngine$Instance"
  | 1 => .object "WorkflowEngine"
  | 2 => .object "WorkflowEngine$Task"
  | 3 => .boolean
  | 4 => .int
  | 5 => .int
  | 6 => .int
  | _ => .object "WorkflowEngine"
abbrev wsX230 : List Cond := u_ws RX23 TX23 8
theorem tyX23_ok : ∀ k, k < 8 → parseFieldDescriptor (TX23 k).2.2.1 = some (tyX23 k) := by decide +kernel
abbrev cX23_init : ByteArray := prog_26_method_1_code
def yX23_init : MethodName := ⟨RX23, "<init>", "(LWorkflowEngine;LWorkflowEngine$Instance;LWorkflowEngine$Task;)V"⟩
abbrev cX23_looks : ByteArray := prog_26_method_4_code
def yX23_looks : MethodName := ⟨RX23, "looks", "()LWorkflowEngine$Outcome;"⟩
abbrev cX23_ends : ByteArray := prog_26_method_3_code
def yX23_ends : MethodName := ⟨RX23, "ends", "()LWorkflowEngine$Outcome;"⟩
abbrev cX23_tries : ByteArray := prog_26_method_2_code
def yX23_tries : MethodName := ⟨RX23, "tries", "()V"⟩
abbrev cX23_gathers : ByteArray := prog_26_method_8_code
def yX23_gathers : MethodName := ⟨RX23, "gathers", "(LWorkflowEngine$Dones;)V"⟩
abbrev cX23_lists : ByteArray := prog_26_method_7_code
def yX23_lists : MethodName := ⟨RX23, "lists", "(LWorkflowEngine$Places;)V"⟩
abbrev cX23_due : ByteArray := prog_26_method_6_code
def yX23_due : MethodName := ⟨RX23, "due", "()I"⟩
abbrev cX23_copy : ByteArray := prog_26_method_5_code
def yX23_copy : MethodName := ⟨RX23, "copy", "(LWorkflowEngine$Instance;)LWorkflowEngine$Run;"⟩
theorem q127 : (Jvm.Cond.initialized "WorkflowEngine$TaskRun") ∈ lw_all := lw_g (lw_at lw_m1 37 rfl) rfl
theorem q363 : (Jvm.Cond.fieldLinkNest "WorkflowEngine$TaskRun" (52 : Nat) "WorkflowEngine$Task" "code" "I" "WorkflowEngine") ∈ lw_tbl := lw_at lw_m2 33 rfl
theorem q366 : (Jvm.Cond.fieldLinkNest "WorkflowEngine$TaskRun" (75 : Nat) "WorkflowEngine$Task" "retries" "I" "WorkflowEngine") ∈ lw_tbl := lw_at lw_m2 36 rfl
theorem q368 : (Jvm.Cond.fieldLinkNest "WorkflowEngine$TaskRun" (81 : Nat) "WorkflowEngine$Task" "delay" "I" "WorkflowEngine") ∈ lw_tbl := lw_at lw_m2 38 rfl
theorem q376 : (Jvm.Cond.fieldLink "WorkflowEngine$TaskRun" (102 : Nat) "WorkflowEngine$Task" "place" "I") ∈ lw_all := lw_g (lw_at lw_m2 46 rfl) rfl
theorem q535 : (Jvm.Cond.selects "WorkflowEngine$TaskRun" ({ cls := "java/lang/Object", name := "getClass", desc := "()Ljava/lang/Class;" } : Jvm.MethodName) ({ cls := "java/lang/Object", name := "getClass", desc := "()Ljava/lang/Class;" } : Jvm.MethodName)) ∈ lw_all := lw_g (lw_at lw_m2 205 rfl) rfl
theorem q734 : (Jvm.Cond.fieldLinkNest "WorkflowEngine$TaskRun" (48 : Nat) "WorkflowEngine$Moment" "durations" "[I" "WorkflowEngine") ∈ lw_tbl := lw_at lw_m3 164 rfl
theorem q742 : (Jvm.Cond.fieldLinkNest "WorkflowEngine$TaskRun" (29 : Nat) "WorkflowEngine$Moment" "minute" "I" "WorkflowEngine") ∈ lw_tbl := lw_at lw_m3 172 rfl
theorem q803 : (Jvm.Cond.fieldLinkNest "WorkflowEngine$TaskRun" (23 : Nat) "WorkflowEngine$Instance" "moment" "LWorkflowEngine$Moment;" "WorkflowEngine") ∈ lw_tbl := lw_at lw_m3 233 rfl
theorem q911 : (Jvm.Cond.fieldLink "WorkflowEngine$TaskRun" (44 : Nat) "WorkflowEngine$TaskRun" "in" "LWorkflowEngine$Instance;") ∈ lw_all := lw_g (lw_at lw_m4 101 rfl) rfl
theorem q912 : (Jvm.Cond.sameField "WorkflowEngine$TaskRun" "WorkflowEngine$Run" "in" "LWorkflowEngine$Instance;") ∈ lw_all := lw_g (lw_at lw_m4 102 rfl) rfl
theorem q1061 : (Jvm.Cond.instantiable "WorkflowEngine$TaskRun" (8 : Nat)) ∈ lw_all := lw_g (lw_at lw_m5 11 rfl) rfl
theorem q1065 : (Jvm.Cond.instanceMethod ({ cls := "WorkflowEngine$TaskRun", name := "<init>", desc := "(LWorkflowEngine;LWorkflowEngine$Instance;LWorkflowEngine$Task;)V" } : Jvm.MethodName)) ∈ lw_all := lw_g (lw_at lw_m5 15 rfl) rfl
theorem q1066 : (Jvm.Cond.code ({ cls := "WorkflowEngine$TaskRun", name := "<init>", desc := "(LWorkflowEngine;LWorkflowEngine$Instance;LWorkflowEngine$Task;)V" } : Jvm.MethodName) prog_26_method_1_code (4 : Nat) (Option.none : Option Jvm.ClassFile.FieldType)) ∈ lw_all := lw_g (lw_at lw_m5 16 rfl) rfl
theorem q1067 : (Jvm.Cond.methodLink "WorkflowEngine$TaskRun" (9 : Nat) ({ cls := "WorkflowEngine$Run", name := "<init>", desc := "(LWorkflowEngine;LWorkflowEngine$Instance;)V" } : Jvm.MethodName)) ∈ lw_all := lw_g (lw_at lw_m5 17 rfl) rfl
theorem q1068 : (Jvm.Cond.fieldLink "WorkflowEngine$TaskRun" (19 : Nat) "WorkflowEngine$TaskRun" "task" "LWorkflowEngine$Task;") ∈ lw_all := lw_g (lw_at lw_m5 18 rfl) rfl
theorem q1069 : (Jvm.Cond.fieldLink "WorkflowEngine$TaskRun" (37 : Nat) "WorkflowEngine$TaskRun" "isTrying" "Z") ∈ lw_all := lw_g (lw_at lw_m5 19 rfl) rfl
theorem q1070 : (Jvm.Cond.fieldLink "WorkflowEngine$TaskRun" (34 : Nat) "WorkflowEngine$TaskRun" "until" "I") ∈ lw_all := lw_g (lw_at lw_m5 20 rfl) rfl
theorem q1071 : (Jvm.Cond.fieldLink "WorkflowEngine$TaskRun" (41 : Nat) "WorkflowEngine$TaskRun" "attempts" "I") ∈ lw_all := lw_g (lw_at lw_m5 21 rfl) rfl
theorem q1072 : (Jvm.Cond.fieldLink "WorkflowEngine$TaskRun" (15 : Nat) "WorkflowEngine$TaskRun" "number" "I") ∈ lw_all := lw_g (lw_at lw_m5 22 rfl) rfl
theorem q1073 : (Jvm.Cond.fieldLink "WorkflowEngine$TaskRun" (3 : Nat) "WorkflowEngine$TaskRun" "this$0" "LWorkflowEngine;") ∈ lw_all := lw_g (lw_at lw_m5 23 rfl) rfl
theorem q1074 : (Jvm.Cond.laysFinal "WorkflowEngine$TaskRun" "WorkflowEngine$TaskRun" "task" "LWorkflowEngine$Task;") ∈ lw_all := lw_g (lw_at lw_m5 24 rfl) rfl
theorem q1075 : (Jvm.Cond.soleField "WorkflowEngine$TaskRun" "task") ∈ lw_all := lw_g (lw_at lw_m5 25 rfl) rfl
theorem q1076 : (Jvm.Cond.lays "WorkflowEngine$TaskRun" "WorkflowEngine$TaskRun" "isTrying" "Z") ∈ lw_all := lw_g (lw_at lw_m5 26 rfl) rfl
theorem q1077 : (Jvm.Cond.soleField "WorkflowEngine$TaskRun" "isTrying") ∈ lw_all := lw_g (lw_at lw_m5 27 rfl) rfl
theorem q1078 : (Jvm.Cond.lays "WorkflowEngine$TaskRun" "WorkflowEngine$TaskRun" "until" "I") ∈ lw_all := lw_g (lw_at lw_m5 28 rfl) rfl
theorem q1079 : (Jvm.Cond.soleField "WorkflowEngine$TaskRun" "until") ∈ lw_all := lw_g (lw_at lw_m5 29 rfl) rfl
theorem q1080 : (Jvm.Cond.lays "WorkflowEngine$TaskRun" "WorkflowEngine$TaskRun" "attempts" "I") ∈ lw_all := lw_g (lw_at lw_m5 30 rfl) rfl
theorem q1081 : (Jvm.Cond.soleField "WorkflowEngine$TaskRun" "attempts") ∈ lw_all := lw_g (lw_at lw_m5 31 rfl) rfl
theorem q1082 : (Jvm.Cond.lays "WorkflowEngine$TaskRun" "WorkflowEngine$TaskRun" "number" "I") ∈ lw_all := lw_g (lw_at lw_m5 32 rfl) rfl
theorem q1083 : (Jvm.Cond.soleField "WorkflowEngine$TaskRun" "number") ∈ lw_all := lw_g (lw_at lw_m5 33 rfl) rfl
theorem q1084 : (Jvm.Cond.laysFinal "WorkflowEngine$TaskRun" "WorkflowEngine$TaskRun" "this$0" "LWorkflowEngine;") ∈ lw_all := lw_g (lw_at lw_m5 34 rfl) rfl
theorem q1085 : (Jvm.Cond.soleField "WorkflowEngine$TaskRun" "this$0") ∈ lw_all := lw_g (lw_at lw_m5 35 rfl) rfl
theorem q1086 : (Jvm.Cond.laysFinal "WorkflowEngine$TaskRun" "WorkflowEngine$Run" "in" "LWorkflowEngine$Instance;") ∈ lw_all := lw_g (lw_at lw_m5 36 rfl) rfl
theorem q1087 : (Jvm.Cond.laysFinal "WorkflowEngine$TaskRun" "WorkflowEngine$Run" "this$0" "LWorkflowEngine;") ∈ lw_all := lw_g (lw_at lw_m5 37 rfl) rfl
theorem q1088 : (Jvm.Cond.superclass "WorkflowEngine$TaskRun" "WorkflowEngine$Run") ∈ lw_all := lw_g (lw_at lw_m5 38 rfl) rfl
theorem q1137 : (Jvm.Cond.instanceMethod ({ cls := "WorkflowEngine$TaskRun", name := "looks", desc := "()LWorkflowEngine$Outcome;" } : Jvm.MethodName)) ∈ lw_all := lw_g (lw_at lw_m5 87 rfl) rfl
theorem q1138 : (Jvm.Cond.code ({ cls := "WorkflowEngine$TaskRun", name := "looks", desc := "()LWorkflowEngine$Outcome;" } : Jvm.MethodName) prog_26_method_4_code (2 : Nat) (Option.some (Jvm.ClassFile.FieldType.object "WorkflowEngine$Outcome"))) ∈ lw_all := lw_g (lw_at lw_m5 88 rfl) rfl
theorem q1139 : (Jvm.Cond.fieldLink "WorkflowEngine$TaskRun" (84 : Nat) "WorkflowEngine$Outcome" "RUNS" "LWorkflowEngine$Outcome;") ∈ lw_all := lw_g (lw_at lw_m5 89 rfl) rfl
theorem q1140 : (Jvm.Cond.methodLink "WorkflowEngine$TaskRun" (87 : Nat) ({ cls := "WorkflowEngine$Outcome", name := "isOver", desc := "()Z" } : Jvm.MethodName)) ∈ lw_all := lw_g (lw_at lw_m5 90 rfl) rfl
theorem q1141 : (Jvm.Cond.methodLink "WorkflowEngine$TaskRun" (91 : Nat) ({ cls := "WorkflowEngine$TaskRun", name := "ends", desc := "()LWorkflowEngine$Outcome;" } : Jvm.MethodName)) ∈ lw_all := lw_g (lw_at lw_m5 91 rfl) rfl
theorem q1142 : (Jvm.Cond.privateMethod ({ cls := "WorkflowEngine$TaskRun", name := "ends", desc := "()LWorkflowEngine$Outcome;" } : Jvm.MethodName)) ∈ lw_tbl := lw_at lw_m5 92 rfl
theorem q1143 : (Jvm.Cond.instanceMethod ({ cls := "WorkflowEngine$TaskRun", name := "ends", desc := "()LWorkflowEngine$Outcome;" } : Jvm.MethodName)) ∈ lw_all := lw_g (lw_at lw_m5 93 rfl) rfl
theorem q1144 : (Jvm.Cond.code ({ cls := "WorkflowEngine$TaskRun", name := "ends", desc := "()LWorkflowEngine$Outcome;" } : Jvm.MethodName) prog_26_method_3_code (1 : Nat) (Option.some (Jvm.ClassFile.FieldType.object "WorkflowEngine$Outcome"))) ∈ lw_all := lw_g (lw_at lw_m5 94 rfl) rfl
theorem q1145 : (Jvm.Cond.methodLink "WorkflowEngine$TaskRun" (61 : Nat) ({ cls := "WorkflowEngine$Moment", name := "fails", desc := "(I)Z" } : Jvm.MethodName)) ∈ lw_all := lw_g (lw_at lw_m5 95 rfl) rfl
theorem q1150 : (Jvm.Cond.methodLink "WorkflowEngine$TaskRun" (65 : Nat) ({ cls := "WorkflowEngine$Instance", name := "done", desc := "(LWorkflowEngine$Task;)I" } : Jvm.MethodName)) ∈ lw_all := lw_g (lw_at lw_m5 100 rfl) rfl
theorem q1178 : (Jvm.Cond.fieldLink "WorkflowEngine$TaskRun" (69 : Nat) "WorkflowEngine$Outcome" "ENDS" "LWorkflowEngine$Outcome;") ∈ lw_all := lw_g (lw_at lw_m5 128 rfl) rfl
theorem q1179 : (Jvm.Cond.methodLink "WorkflowEngine$TaskRun" (57 : Nat) ({ cls := "WorkflowEngine$Instance", name := "notes", desc := "(II)V" } : Jvm.MethodName)) ∈ lw_all := lw_g (lw_at lw_m5 129 rfl) rfl
theorem q1180 : (Jvm.Cond.fieldLink "WorkflowEngine$TaskRun" (78 : Nat) "WorkflowEngine$Outcome" "BREAKS" "LWorkflowEngine$Outcome;") ∈ lw_all := lw_g (lw_at lw_m5 130 rfl) rfl
theorem q1181 : (Jvm.Cond.methodLink "WorkflowEngine$TaskRun" (95 : Nat) ({ cls := "WorkflowEngine$TaskRun", name := "tries", desc := "()V" } : Jvm.MethodName)) ∈ lw_all := lw_g (lw_at lw_m5 131 rfl) rfl
theorem q1182 : (Jvm.Cond.privateMethod ({ cls := "WorkflowEngine$TaskRun", name := "tries", desc := "()V" } : Jvm.MethodName)) ∈ lw_tbl := lw_at lw_m5 132 rfl
theorem q1183 : (Jvm.Cond.instanceMethod ({ cls := "WorkflowEngine$TaskRun", name := "tries", desc := "()V" } : Jvm.MethodName)) ∈ lw_all := lw_g (lw_at lw_m5 133 rfl) rfl
theorem q1184 : (Jvm.Cond.code ({ cls := "WorkflowEngine$TaskRun", name := "tries", desc := "()V" } : Jvm.MethodName) prog_26_method_2_code (1 : Nat) (Option.none : Option Jvm.ClassFile.FieldType)) ∈ lw_all := lw_g (lw_at lw_m5 134 rfl) rfl
theorem q1218 : (Jvm.Cond.instanceMethod ({ cls := "WorkflowEngine$TaskRun", name := "gathers", desc := "(LWorkflowEngine$Dones;)V" } : Jvm.MethodName)) ∈ lw_all := lw_g (lw_at lw_m5 168 rfl) rfl
theorem q1219 : (Jvm.Cond.code ({ cls := "WorkflowEngine$TaskRun", name := "gathers", desc := "(LWorkflowEngine$Dones;)V" } : Jvm.MethodName) prog_26_method_8_code (2 : Nat) (Option.none : Option Jvm.ClassFile.FieldType)) ∈ lw_all := lw_g (lw_at lw_m5 169 rfl) rfl
theorem q1220 : (Jvm.Cond.methodLink "WorkflowEngine$TaskRun" (111 : Nat) ({ cls := "WorkflowEngine$Dones", name := "adds", desc := "(I)V" } : Jvm.MethodName)) ∈ lw_all := lw_g (lw_at lw_m5 170 rfl) rfl
theorem q1222 : (Jvm.Cond.selects "WorkflowEngine$TaskRun" ({ cls := "WorkflowEngine$Run", name := "gathers", desc := "(LWorkflowEngine$Dones;)V" } : Jvm.MethodName) ({ cls := "WorkflowEngine$TaskRun", name := "gathers", desc := "(LWorkflowEngine$Dones;)V" } : Jvm.MethodName)) ∈ lw_all := lw_g (lw_at lw_m5 172 rfl) rfl
theorem q1278 : (Jvm.Cond.selects "WorkflowEngine$TaskRun" ({ cls := "WorkflowEngine$Run", name := "looks", desc := "()LWorkflowEngine$Outcome;" } : Jvm.MethodName) ({ cls := "WorkflowEngine$TaskRun", name := "looks", desc := "()LWorkflowEngine$Outcome;" } : Jvm.MethodName)) ∈ lw_all := lw_g (lw_at lw_m5 228 rfl) rfl
theorem q1375 : (Jvm.Cond.instanceMethod ({ cls := "WorkflowEngine$TaskRun", name := "lists", desc := "(LWorkflowEngine$Places;)V" } : Jvm.MethodName)) ∈ lw_all := lw_g (lw_at lw_m6 85 rfl) rfl
theorem q1376 : (Jvm.Cond.code ({ cls := "WorkflowEngine$TaskRun", name := "lists", desc := "(LWorkflowEngine$Places;)V" } : Jvm.MethodName) prog_26_method_7_code (2 : Nat) (Option.none : Option Jvm.ClassFile.FieldType)) ∈ lw_all := lw_g (lw_at lw_m6 86 rfl) rfl
theorem q1377 : (Jvm.Cond.methodLink "WorkflowEngine$TaskRun" (105 : Nat) ({ cls := "WorkflowEngine$Places", name := "adds", desc := "(I)V" } : Jvm.MethodName)) ∈ lw_all := lw_g (lw_at lw_m6 87 rfl) rfl
theorem q1382 : (Jvm.Cond.selects "WorkflowEngine$TaskRun" ({ cls := "WorkflowEngine$Run", name := "lists", desc := "(LWorkflowEngine$Places;)V" } : Jvm.MethodName) ({ cls := "WorkflowEngine$TaskRun", name := "lists", desc := "(LWorkflowEngine$Places;)V" } : Jvm.MethodName)) ∈ lw_all := lw_g (lw_at lw_m6 92 rfl) rfl
theorem q1412 : (Jvm.Cond.instanceMethod ({ cls := "WorkflowEngine$TaskRun", name := "due", desc := "()I" } : Jvm.MethodName)) ∈ lw_all := lw_g (lw_at lw_m6 122 rfl) rfl
theorem q1413 : (Jvm.Cond.code ({ cls := "WorkflowEngine$TaskRun", name := "due", desc := "()I" } : Jvm.MethodName) prog_26_method_6_code (1 : Nat) (Option.some Jvm.ClassFile.FieldType.int)) ∈ lw_all := lw_g (lw_at lw_m6 123 rfl) rfl
theorem q1418 : (Jvm.Cond.selects "WorkflowEngine$TaskRun" ({ cls := "WorkflowEngine$Run", name := "due", desc := "()I" } : Jvm.MethodName) ({ cls := "WorkflowEngine$TaskRun", name := "due", desc := "()I" } : Jvm.MethodName)) ∈ lw_all := lw_g (lw_at lw_m6 128 rfl) rfl
theorem q1469 : (Jvm.Cond.instanceMethod ({ cls := "WorkflowEngine$TaskRun", name := "copy", desc := "(LWorkflowEngine$Instance;)LWorkflowEngine$Run;" } : Jvm.MethodName)) ∈ lw_all := lw_g (lw_at lw_m6 179 rfl) rfl
theorem q1470 : (Jvm.Cond.code ({ cls := "WorkflowEngine$TaskRun", name := "copy", desc := "(LWorkflowEngine$Instance;)LWorkflowEngine$Run;" } : Jvm.MethodName) prog_26_method_5_code (3 : Nat) (Option.some (Jvm.ClassFile.FieldType.object "WorkflowEngine$Run"))) ∈ lw_all := lw_g (lw_at lw_m6 180 rfl) rfl
theorem q1471 : (Jvm.Cond.classLink "WorkflowEngine$TaskRun" (4 : Nat) "WorkflowEngine$TaskRun") ∈ lw_all := lw_g (lw_at lw_m6 181 rfl) rfl
theorem q1472 : (Jvm.Cond.methodLink "WorkflowEngine$TaskRun" (99 : Nat) ({ cls := "WorkflowEngine$TaskRun", name := "<init>", desc := "(LWorkflowEngine;LWorkflowEngine$Instance;LWorkflowEngine$Task;)V" } : Jvm.MethodName)) ∈ lw_all := lw_g (lw_at lw_m6 182 rfl) rfl
theorem q1492 : (Jvm.Cond.selects "WorkflowEngine$TaskRun" ({ cls := "WorkflowEngine$Run", name := "copy", desc := "(LWorkflowEngine$Instance;)LWorkflowEngine$Run;" } : Jvm.MethodName) ({ cls := "WorkflowEngine$TaskRun", name := "copy", desc := "(LWorkflowEngine$Instance;)LWorkflowEngine$Run;" } : Jvm.MethodName)) ∈ lw_all := lw_g (lw_at lw_m6 202 rfl) rfl
theorem q2026 : (Jvm.Cond.castable "WorkflowEngine$TaskRun" "java/lang/Object") ∈ lw_tbl := lw_at lw_m9 16 rfl
theorem q2040 : (Jvm.Cond.castable "WorkflowEngine$TaskRun" "WorkflowEngine$Run") ∈ lw_tbl := lw_at lw_m9 30 rfl
theorem in_X23 : ∀ w ∈ wsX230, w ∈ lw_all := lw_in wsX230 [1086, 1087, 1074, 1076, 1078, 1080, 1082, 1084] (by decide +kernel) (by decide +kernel)
def RX24 : String := "WorkflowEngine$WaitRun"
def TX24 : u_T := fun k => match k with
  | 0 => ("WorkflowEngine$Run", "in", "LWorkflowEngine$Instance;", true)
  | 1 => ("WorkflowEngine$Run", "this$0", "LWorkflowEngine;", true)
  | 2 => ("WorkflowEngine$WaitRun", "wait", "LWorkflowEngine$Wait;", true)
  | 3 => ("WorkflowEngine$WaitRun", "until", "I", false)
  | _ => ("WorkflowEngine$WaitRun", "this$0", "LWorkflowEngine;", true)
def tyX24 : Nat → FieldType := fun k => match k with
  | 0 => .object "WorkflowEngine$Instance"
  | 1 => .object "WorkflowEngine"
  | 2 => .object "WorkflowEngine$Wait"
  | 3 => .int
  | _ => .object "WorkflowEngine"
abbrev wsX240 : List Cond := u_ws RX24 TX24 5
theorem tyX24_ok : ∀ k, k < 5 → parseFieldDescriptor (TX24 k).2.2.1 = some (tyX24 k) := by decide +kernel
abbrev cX24_init : ByteArray := prog_31_method_1_code
def yX24_init : MethodName := ⟨RX24, "<init>", "(LWorkflowEngine;LWorkflowEngine$Instance;LWorkflowEngine$Wait;)V"⟩
abbrev cX24_looks : ByteArray := prog_31_method_2_code
def yX24_looks : MethodName := ⟨RX24, "looks", "()LWorkflowEngine$Outcome;"⟩
abbrev cX24_lists : ByteArray := prog_31_method_5_code
def yX24_lists : MethodName := ⟨RX24, "lists", "(LWorkflowEngine$Places;)V"⟩
abbrev cX24_due : ByteArray := prog_31_method_4_code
def yX24_due : MethodName := ⟨RX24, "due", "()I"⟩
abbrev cX24_copy : ByteArray := prog_31_method_3_code
def yX24_copy : MethodName := ⟨RX24, "copy", "(LWorkflowEngine$Instance;)LWorkflowEngine$Run;"⟩
theorem q128 : (Jvm.Cond.initialized "WorkflowEngine$WaitRun") ∈ lw_all := lw_g (lw_at lw_m1 38 rfl) rfl
theorem q374 : (Jvm.Cond.fieldLink "WorkflowEngine$WaitRun" (53 : Nat) "WorkflowEngine$Wait" "place" "I") ∈ lw_all := lw_g (lw_at lw_m2 44 rfl) rfl
theorem q396 : (Jvm.Cond.fieldLinkNest "WorkflowEngine$WaitRun" (29 : Nat) "WorkflowEngine$Wait" "minutes" "I" "WorkflowEngine") ∈ lw_tbl := lw_at lw_m2 66 rfl
theorem q540 : (Jvm.Cond.selects "WorkflowEngine$WaitRun" ({ cls := "java/lang/Object", name := "getClass", desc := "()Ljava/lang/Class;" } : Jvm.MethodName) ({ cls := "java/lang/Object", name := "getClass", desc := "()Ljava/lang/Class;" } : Jvm.MethodName)) ∈ lw_all := lw_g (lw_at lw_m2 210 rfl) rfl
theorem q741 : (Jvm.Cond.fieldLinkNest "WorkflowEngine$WaitRun" (23 : Nat) "WorkflowEngine$Moment" "minute" "I" "WorkflowEngine") ∈ lw_tbl := lw_at lw_m3 171 rfl
theorem q802 : (Jvm.Cond.fieldLinkNest "WorkflowEngine$WaitRun" (17 : Nat) "WorkflowEngine$Instance" "moment" "LWorkflowEngine$Moment;" "WorkflowEngine") ∈ lw_tbl := lw_at lw_m3 232 rfl
theorem q907 : (Jvm.Cond.fieldLink "WorkflowEngine$WaitRun" (37 : Nat) "WorkflowEngine$WaitRun" "in" "LWorkflowEngine$Instance;") ∈ lw_all := lw_g (lw_at lw_m4 97 rfl) rfl
theorem q908 : (Jvm.Cond.sameField "WorkflowEngine$WaitRun" "WorkflowEngine$Run" "in" "LWorkflowEngine$Instance;") ∈ lw_all := lw_g (lw_at lw_m4 98 rfl) rfl
theorem q1093 : (Jvm.Cond.instantiable "WorkflowEngine$WaitRun" (5 : Nat)) ∈ lw_all := lw_g (lw_at lw_m5 43 rfl) rfl
theorem q1097 : (Jvm.Cond.instanceMethod ({ cls := "WorkflowEngine$WaitRun", name := "<init>", desc := "(LWorkflowEngine;LWorkflowEngine$Instance;LWorkflowEngine$Wait;)V" } : Jvm.MethodName)) ∈ lw_all := lw_g (lw_at lw_m5 47 rfl) rfl
theorem q1098 : (Jvm.Cond.code ({ cls := "WorkflowEngine$WaitRun", name := "<init>", desc := "(LWorkflowEngine;LWorkflowEngine$Instance;LWorkflowEngine$Wait;)V" } : Jvm.MethodName) prog_31_method_1_code (4 : Nat) (Option.none : Option Jvm.ClassFile.FieldType)) ∈ lw_all := lw_g (lw_at lw_m5 48 rfl) rfl
theorem q1099 : (Jvm.Cond.methodLink "WorkflowEngine$WaitRun" (7 : Nat) ({ cls := "WorkflowEngine$Run", name := "<init>", desc := "(LWorkflowEngine;LWorkflowEngine$Instance;)V" } : Jvm.MethodName)) ∈ lw_all := lw_g (lw_at lw_m5 49 rfl) rfl
theorem q1100 : (Jvm.Cond.fieldLink "WorkflowEngine$WaitRun" (13 : Nat) "WorkflowEngine$WaitRun" "wait" "LWorkflowEngine$Wait;") ∈ lw_all := lw_g (lw_at lw_m5 50 rfl) rfl
theorem q1101 : (Jvm.Cond.fieldLink "WorkflowEngine$WaitRun" (34 : Nat) "WorkflowEngine$WaitRun" "until" "I") ∈ lw_all := lw_g (lw_at lw_m5 51 rfl) rfl
theorem q1102 : (Jvm.Cond.fieldLink "WorkflowEngine$WaitRun" (1 : Nat) "WorkflowEngine$WaitRun" "this$0" "LWorkflowEngine;") ∈ lw_all := lw_g (lw_at lw_m5 52 rfl) rfl
theorem q1103 : (Jvm.Cond.laysFinal "WorkflowEngine$WaitRun" "WorkflowEngine$WaitRun" "wait" "LWorkflowEngine$Wait;") ∈ lw_all := lw_g (lw_at lw_m5 53 rfl) rfl
theorem q1104 : (Jvm.Cond.soleField "WorkflowEngine$WaitRun" "wait") ∈ lw_all := lw_g (lw_at lw_m5 54 rfl) rfl
theorem q1105 : (Jvm.Cond.lays "WorkflowEngine$WaitRun" "WorkflowEngine$WaitRun" "until" "I") ∈ lw_all := lw_g (lw_at lw_m5 55 rfl) rfl
theorem q1106 : (Jvm.Cond.soleField "WorkflowEngine$WaitRun" "until") ∈ lw_all := lw_g (lw_at lw_m5 56 rfl) rfl
theorem q1107 : (Jvm.Cond.laysFinal "WorkflowEngine$WaitRun" "WorkflowEngine$WaitRun" "this$0" "LWorkflowEngine;") ∈ lw_all := lw_g (lw_at lw_m5 57 rfl) rfl
theorem q1108 : (Jvm.Cond.soleField "WorkflowEngine$WaitRun" "this$0") ∈ lw_all := lw_g (lw_at lw_m5 58 rfl) rfl
theorem q1109 : (Jvm.Cond.laysFinal "WorkflowEngine$WaitRun" "WorkflowEngine$Run" "in" "LWorkflowEngine$Instance;") ∈ lw_all := lw_g (lw_at lw_m5 59 rfl) rfl
theorem q1110 : (Jvm.Cond.laysFinal "WorkflowEngine$WaitRun" "WorkflowEngine$Run" "this$0" "LWorkflowEngine;") ∈ lw_all := lw_g (lw_at lw_m5 60 rfl) rfl
theorem q1111 : (Jvm.Cond.superclass "WorkflowEngine$WaitRun" "WorkflowEngine$Run") ∈ lw_all := lw_g (lw_at lw_m5 61 rfl) rfl
theorem q1185 : (Jvm.Cond.instanceMethod ({ cls := "WorkflowEngine$WaitRun", name := "looks", desc := "()LWorkflowEngine$Outcome;" } : Jvm.MethodName)) ∈ lw_all := lw_g (lw_at lw_m5 135 rfl) rfl
theorem q1186 : (Jvm.Cond.code ({ cls := "WorkflowEngine$WaitRun", name := "looks", desc := "()LWorkflowEngine$Outcome;" } : Jvm.MethodName) prog_31_method_2_code (1 : Nat) (Option.some (Jvm.ClassFile.FieldType.object "WorkflowEngine$Outcome"))) ∈ lw_all := lw_g (lw_at lw_m5 136 rfl) rfl
theorem q1187 : (Jvm.Cond.fieldLink "WorkflowEngine$WaitRun" (41 : Nat) "WorkflowEngine$Outcome" "ENDS" "LWorkflowEngine$Outcome;") ∈ lw_all := lw_g (lw_at lw_m5 137 rfl) rfl
theorem q1188 : (Jvm.Cond.fieldLink "WorkflowEngine$WaitRun" (47 : Nat) "WorkflowEngine$Outcome" "RUNS" "LWorkflowEngine$Outcome;") ∈ lw_all := lw_g (lw_at lw_m5 138 rfl) rfl
theorem q1223 : (Jvm.Cond.selects "WorkflowEngine$WaitRun" ({ cls := "WorkflowEngine$Run", name := "gathers", desc := "(LWorkflowEngine$Dones;)V" } : Jvm.MethodName) ({ cls := "WorkflowEngine$Run", name := "gathers", desc := "(LWorkflowEngine$Dones;)V" } : Jvm.MethodName)) ∈ lw_all := lw_g (lw_at lw_m5 173 rfl) rfl
theorem q1279 : (Jvm.Cond.selects "WorkflowEngine$WaitRun" ({ cls := "WorkflowEngine$Run", name := "looks", desc := "()LWorkflowEngine$Outcome;" } : Jvm.MethodName) ({ cls := "WorkflowEngine$WaitRun", name := "looks", desc := "()LWorkflowEngine$Outcome;" } : Jvm.MethodName)) ∈ lw_all := lw_g (lw_at lw_m5 229 rfl) rfl
theorem q1378 : (Jvm.Cond.instanceMethod ({ cls := "WorkflowEngine$WaitRun", name := "lists", desc := "(LWorkflowEngine$Places;)V" } : Jvm.MethodName)) ∈ lw_all := lw_g (lw_at lw_m6 88 rfl) rfl
theorem q1379 : (Jvm.Cond.code ({ cls := "WorkflowEngine$WaitRun", name := "lists", desc := "(LWorkflowEngine$Places;)V" } : Jvm.MethodName) prog_31_method_5_code (2 : Nat) (Option.none : Option Jvm.ClassFile.FieldType)) ∈ lw_all := lw_g (lw_at lw_m6 89 rfl) rfl
theorem q1380 : (Jvm.Cond.methodLink "WorkflowEngine$WaitRun" (56 : Nat) ({ cls := "WorkflowEngine$Places", name := "adds", desc := "(I)V" } : Jvm.MethodName)) ∈ lw_all := lw_g (lw_at lw_m6 90 rfl) rfl
theorem q1383 : (Jvm.Cond.selects "WorkflowEngine$WaitRun" ({ cls := "WorkflowEngine$Run", name := "lists", desc := "(LWorkflowEngine$Places;)V" } : Jvm.MethodName) ({ cls := "WorkflowEngine$WaitRun", name := "lists", desc := "(LWorkflowEngine$Places;)V" } : Jvm.MethodName)) ∈ lw_all := lw_g (lw_at lw_m6 93 rfl) rfl
theorem q1414 : (Jvm.Cond.instanceMethod ({ cls := "WorkflowEngine$WaitRun", name := "due", desc := "()I" } : Jvm.MethodName)) ∈ lw_all := lw_g (lw_at lw_m6 124 rfl) rfl
theorem q1415 : (Jvm.Cond.code ({ cls := "WorkflowEngine$WaitRun", name := "due", desc := "()I" } : Jvm.MethodName) prog_31_method_4_code (1 : Nat) (Option.some Jvm.ClassFile.FieldType.int)) ∈ lw_all := lw_g (lw_at lw_m6 125 rfl) rfl
theorem q1419 : (Jvm.Cond.selects "WorkflowEngine$WaitRun" ({ cls := "WorkflowEngine$Run", name := "due", desc := "()I" } : Jvm.MethodName) ({ cls := "WorkflowEngine$WaitRun", name := "due", desc := "()I" } : Jvm.MethodName)) ∈ lw_all := lw_g (lw_at lw_m6 129 rfl) rfl
theorem q1473 : (Jvm.Cond.instanceMethod ({ cls := "WorkflowEngine$WaitRun", name := "copy", desc := "(LWorkflowEngine$Instance;)LWorkflowEngine$Run;" } : Jvm.MethodName)) ∈ lw_all := lw_g (lw_at lw_m6 183 rfl) rfl
theorem q1474 : (Jvm.Cond.code ({ cls := "WorkflowEngine$WaitRun", name := "copy", desc := "(LWorkflowEngine$Instance;)LWorkflowEngine$Run;" } : Jvm.MethodName) prog_31_method_3_code (3 : Nat) (Option.some (Jvm.ClassFile.FieldType.object "WorkflowEngine$Run"))) ∈ lw_all := lw_g (lw_at lw_m6 184 rfl) rfl
theorem q1475 : (Jvm.Cond.classLink "WorkflowEngine$WaitRun" (2 : Nat) "WorkflowEngine$WaitRun") ∈ lw_all := lw_g (lw_at lw_m6 185 rfl) rfl
theorem q1476 : (Jvm.Cond.methodLink "WorkflowEngine$WaitRun" (50 : Nat) ({ cls := "WorkflowEngine$WaitRun", name := "<init>", desc := "(LWorkflowEngine;LWorkflowEngine$Instance;LWorkflowEngine$Wait;)V" } : Jvm.MethodName)) ∈ lw_all := lw_g (lw_at lw_m6 186 rfl) rfl
theorem q1493 : (Jvm.Cond.selects "WorkflowEngine$WaitRun" ({ cls := "WorkflowEngine$Run", name := "copy", desc := "(LWorkflowEngine$Instance;)LWorkflowEngine$Run;" } : Jvm.MethodName) ({ cls := "WorkflowEngine$WaitRun", name := "copy", desc := "(LWorkflowEngine$Instance;)LWorkflowEngine$Run;" } : Jvm.MethodName)) ∈ lw_all := lw_g (lw_at lw_m6 203 rfl) rfl
theorem q2027 : (Jvm.Cond.castable "WorkflowEngine$WaitRun" "java/lang/Object") ∈ lw_tbl := lw_at lw_m9 17 rfl
theorem q2041 : (Jvm.Cond.castable "WorkflowEngine$WaitRun" "WorkflowEngine$Run") ∈ lw_tbl := lw_at lw_m9 31 rfl
theorem in_X24 : ∀ w ∈ wsX240, w ∈ lw_all := lw_in wsX240 [1109, 1110, 1103, 1105, 1107] (by decide +kernel) (by decide +kernel)
def RX25 : String := "WorkflowEngine$Done"
def TX25 : u_T := fun k => match k with
  | 0 => ("WorkflowEngine$Done", "code", "I", true)
  | 1 => ("WorkflowEngine$Done", "undo", "I", true)
  | _ => ("WorkflowEngine$Done", "end", "I", false)
def tyX25 : Nat → FieldType := fun k => match k with
  | 0 => .int
  | 1 => .int
  | _ => .int
abbrev wsX250 : List Cond := u_ws RX25 TX25 3
theorem nmX25 : ∀ a, a < 3 → ∀ b, b < 3 → a ≠ b → (TX25 a).2.1 ≠ (TX25 b).2.1 := by decide +kernel
theorem tyX25_ok : ∀ k, k < 3 → parseFieldDescriptor (TX25 k).2.2.1 = some (tyX25 k) := by decide +kernel
abbrev cX25_init : ByteArray := prog_10_method_1_code
def yX25_init : MethodName := ⟨RX25, "<init>", "(III)V"⟩
theorem q129 : (Jvm.Cond.initialized "WorkflowEngine$Done") ∈ lw_all := lw_g (lw_at lw_m1 39 rfl) rfl
theorem q522 : (Jvm.Cond.selects "WorkflowEngine$Done" ({ cls := "java/lang/Object", name := "getClass", desc := "()Ljava/lang/Class;" } : Jvm.MethodName) ({ cls := "java/lang/Object", name := "getClass", desc := "()Ljava/lang/Class;" } : Jvm.MethodName)) ∈ lw_all := lw_g (lw_at lw_m2 192 rfl) rfl
theorem q1155 : (Jvm.Cond.instantiable "WorkflowEngine$Done" (3 : Nat)) ∈ lw_all := lw_g (lw_at lw_m5 105 rfl) rfl
theorem q1157 : (Jvm.Cond.instanceMethod ({ cls := "WorkflowEngine$Done", name := "<init>", desc := "(III)V" } : Jvm.MethodName)) ∈ lw_all := lw_g (lw_at lw_m5 107 rfl) rfl
theorem q1158 : (Jvm.Cond.code ({ cls := "WorkflowEngine$Done", name := "<init>", desc := "(III)V" } : Jvm.MethodName) prog_10_method_1_code (4 : Nat) (Option.none : Option Jvm.ClassFile.FieldType)) ∈ lw_all := lw_g (lw_at lw_m5 108 rfl) rfl
theorem q1159 : (Jvm.Cond.methodLink "WorkflowEngine$Done" (1 : Nat) ({ cls := "java/lang/Object", name := "<init>", desc := "()V" } : Jvm.MethodName)) ∈ lw_all := lw_g (lw_at lw_m5 109 rfl) rfl
theorem q1160 : (Jvm.Cond.fieldLink "WorkflowEngine$Done" (7 : Nat) "WorkflowEngine$Done" "code" "I") ∈ lw_all := lw_g (lw_at lw_m5 110 rfl) rfl
theorem q1162 : (Jvm.Cond.fieldLink "WorkflowEngine$Done" (13 : Nat) "WorkflowEngine$Done" "undo" "I") ∈ lw_all := lw_g (lw_at lw_m5 112 rfl) rfl
theorem q1165 : (Jvm.Cond.fieldLink "WorkflowEngine$Done" (16 : Nat) "WorkflowEngine$Done" "end" "I") ∈ lw_all := lw_g (lw_at lw_m5 115 rfl) rfl
theorem q1168 : (Jvm.Cond.laysFinal "WorkflowEngine$Done" "WorkflowEngine$Done" "code" "I") ∈ lw_all := lw_g (lw_at lw_m5 118 rfl) rfl
theorem q1169 : (Jvm.Cond.soleField "WorkflowEngine$Done" "code") ∈ lw_all := lw_g (lw_at lw_m5 119 rfl) rfl
theorem q1170 : (Jvm.Cond.laysFinal "WorkflowEngine$Done" "WorkflowEngine$Done" "undo" "I") ∈ lw_all := lw_g (lw_at lw_m5 120 rfl) rfl
theorem q1171 : (Jvm.Cond.soleField "WorkflowEngine$Done" "undo") ∈ lw_all := lw_g (lw_at lw_m5 121 rfl) rfl
theorem q1172 : (Jvm.Cond.lays "WorkflowEngine$Done" "WorkflowEngine$Done" "end" "I") ∈ lw_all := lw_g (lw_at lw_m5 122 rfl) rfl
theorem q1173 : (Jvm.Cond.soleField "WorkflowEngine$Done" "end") ∈ lw_all := lw_g (lw_at lw_m5 123 rfl) rfl
theorem q1174 : (Jvm.Cond.superclass "WorkflowEngine$Done" "java/lang/Object") ∈ lw_all := lw_g (lw_at lw_m5 124 rfl) rfl
theorem q2031 : (Jvm.Cond.castable "WorkflowEngine$Done" "java/lang/Object") ∈ lw_tbl := lw_at lw_m9 21 rfl
theorem in_X25 : ∀ w ∈ wsX250, w ∈ lw_all := lw_in wsX250 [1168, 1170, 1172] (by decide +kernel) (by decide +kernel)
def RX26 : String := "WorkflowEngine$Undo"
def TX26 : u_T := fun k => match k with
  | 0 => ("WorkflowEngine$Undo", "in", "LWorkflowEngine$Instance;", true)
  | 1 => ("WorkflowEngine$Undo", "todo", "LWorkflowEngine$Dones;", true)
  | 2 => ("WorkflowEngine$Undo", "left", "I", false)
  | 3 => ("WorkflowEngine$Undo", "tried", "I", false)
  | 4 => ("WorkflowEngine$Undo", "until", "I", false)
  | _ => ("WorkflowEngine$Undo", "this$0", "LWorkflowEngine;", true)
def tyX26 : Nat → FieldType := fun k => match k with
  | 0 => .object "WorkflowEngine$Instance"
  | 1 => .object "WorkflowEngine$Dones"
  | 2 => .int
  | 3 => .int
  | 4 => .int
  | _ => .object "WorkflowEngine"
abbrev wsX260 : List Cond := u_ws RX26 TX26 6
theorem nmX26 : ∀ a, a < 6 → ∀ b, b < 6 → a ≠ b → (TX26 a).2.1 ≠ (TX26 b).2.1 := by decide +kernel
theorem tyX26_ok : ∀ k, k < 6 → parseFieldDescriptor (TX26 k).2.2.1 = some (tyX26 k) := by decide +kernel
abbrev cX26_init : ByteArray := prog_28_method_1_code
def yX26_init : MethodName := ⟨RX26, "<init>", "(LWorkflowEngine;LWorkflowEngine$Instance;LWorkflowEngine$Dones;)V"⟩
abbrev cX26_isOver : ByteArray := prog_28_method_5_code
def yX26_isOver : MethodName := ⟨RX26, "isOver", "()Z"⟩
abbrev cX26_tries : ByteArray := prog_28_method_3_code
def yX26_tries : MethodName := ⟨RX26, "tries", "(LWorkflowEngine$Done;)V"⟩
abbrev cX26_ends : ByteArray := prog_28_method_4_code
def yX26_ends : MethodName := ⟨RX26, "ends", "(LWorkflowEngine$Done;)V"⟩
abbrev cX26_copy : ByteArray := prog_28_method_2_code
def yX26_copy : MethodName := ⟨RX26, "copy", "(LWorkflowEngine$Instance;)LWorkflowEngine$Undo;"⟩
theorem q130 : (Jvm.Cond.initialized "WorkflowEngine$Undo") ∈ lw_all := lw_g (lw_at lw_m1 40 rfl) rfl
theorem q537 : (Jvm.Cond.selects "WorkflowEngine$Undo" ({ cls := "java/lang/Object", name := "getClass", desc := "()Ljava/lang/Class;" } : Jvm.MethodName) ({ cls := "java/lang/Object", name := "getClass", desc := "()Ljava/lang/Class;" } : Jvm.MethodName)) ∈ lw_all := lw_g (lw_at lw_m2 207 rfl) rfl
theorem q735 : (Jvm.Cond.fieldLinkNest "WorkflowEngine$Undo" (52 : Nat) "WorkflowEngine$Moment" "durations" "[I" "WorkflowEngine") ∈ lw_tbl := lw_at lw_m3 165 rfl
theorem q743 : (Jvm.Cond.fieldLinkNest "WorkflowEngine$Undo" (38 : Nat) "WorkflowEngine$Moment" "minute" "I" "WorkflowEngine") ∈ lw_tbl := lw_at lw_m3 173 rfl
theorem q804 : (Jvm.Cond.fieldLinkNest "WorkflowEngine$Undo" (32 : Nat) "WorkflowEngine$Instance" "moment" "LWorkflowEngine$Moment;" "WorkflowEngine") ∈ lw_tbl := lw_at lw_m3 234 rfl
theorem q821 : (Jvm.Cond.fieldLinkNest "WorkflowEngine$Undo" (79 : Nat) "WorkflowEngine$Instance" "dones" "Ljava/util/ArrayList;" "WorkflowEngine") ∈ lw_tbl := lw_at lw_m4 11 rfl
theorem q889 : (Jvm.Cond.fieldLinkNest "WorkflowEngine$Undo" (83 : Nat) "WorkflowEngine$Dones" "all" "[I" "WorkflowEngine") ∈ lw_tbl := lw_at lw_m4 79 rfl
theorem q891 : (Jvm.Cond.fieldLinkNest "WorkflowEngine$Undo" (23 : Nat) "WorkflowEngine$Dones" "many" "I" "WorkflowEngine") ∈ lw_tbl := lw_at lw_m4 81 rfl
theorem q1163 : (Jvm.Cond.fieldLinkNest "WorkflowEngine$Undo" (56 : Nat) "WorkflowEngine$Done" "undo" "I" "WorkflowEngine") ∈ lw_tbl := lw_at lw_m5 113 rfl
theorem q1167 : (Jvm.Cond.fieldLinkNest "WorkflowEngine$Undo" (73 : Nat) "WorkflowEngine$Done" "end" "I" "WorkflowEngine") ∈ lw_tbl := lw_at lw_m5 117 rfl
theorem q1226 : (Jvm.Cond.instantiable "WorkflowEngine$Undo" (6 : Nat)) ∈ lw_all := lw_g (lw_at lw_m5 176 rfl) rfl
theorem q1228 : (Jvm.Cond.instanceMethod ({ cls := "WorkflowEngine$Undo", name := "<init>", desc := "(LWorkflowEngine;LWorkflowEngine$Instance;LWorkflowEngine$Dones;)V" } : Jvm.MethodName)) ∈ lw_all := lw_g (lw_at lw_m5 178 rfl) rfl
theorem q1229 : (Jvm.Cond.code ({ cls := "WorkflowEngine$Undo", name := "<init>", desc := "(LWorkflowEngine;LWorkflowEngine$Instance;LWorkflowEngine$Dones;)V" } : Jvm.MethodName) prog_28_method_1_code (4 : Nat) (Option.none : Option Jvm.ClassFile.FieldType)) ∈ lw_all := lw_g (lw_at lw_m5 179 rfl) rfl
theorem q1230 : (Jvm.Cond.methodLink "WorkflowEngine$Undo" (9 : Nat) ({ cls := "java/lang/Object", name := "<init>", desc := "()V" } : Jvm.MethodName)) ∈ lw_all := lw_g (lw_at lw_m5 180 rfl) rfl
theorem q1231 : (Jvm.Cond.fieldLink "WorkflowEngine$Undo" (15 : Nat) "WorkflowEngine$Undo" "in" "LWorkflowEngine$Instance;") ∈ lw_all := lw_g (lw_at lw_m5 181 rfl) rfl
theorem q1232 : (Jvm.Cond.fieldLink "WorkflowEngine$Undo" (19 : Nat) "WorkflowEngine$Undo" "todo" "LWorkflowEngine$Dones;") ∈ lw_all := lw_g (lw_at lw_m5 182 rfl) rfl
theorem q1233 : (Jvm.Cond.fieldLink "WorkflowEngine$Undo" (29 : Nat) "WorkflowEngine$Undo" "left" "I") ∈ lw_all := lw_g (lw_at lw_m5 183 rfl) rfl
theorem q1234 : (Jvm.Cond.fieldLink "WorkflowEngine$Undo" (49 : Nat) "WorkflowEngine$Undo" "tried" "I") ∈ lw_all := lw_g (lw_at lw_m5 184 rfl) rfl
theorem q1235 : (Jvm.Cond.fieldLink "WorkflowEngine$Undo" (43 : Nat) "WorkflowEngine$Undo" "until" "I") ∈ lw_all := lw_g (lw_at lw_m5 185 rfl) rfl
theorem q1238 : (Jvm.Cond.fieldLink "WorkflowEngine$Undo" (3 : Nat) "WorkflowEngine$Undo" "this$0" "LWorkflowEngine;") ∈ lw_all := lw_g (lw_at lw_m5 188 rfl) rfl
theorem q1239 : (Jvm.Cond.laysFinal "WorkflowEngine$Undo" "WorkflowEngine$Undo" "in" "LWorkflowEngine$Instance;") ∈ lw_all := lw_g (lw_at lw_m5 189 rfl) rfl
theorem q1240 : (Jvm.Cond.soleField "WorkflowEngine$Undo" "in") ∈ lw_all := lw_g (lw_at lw_m5 190 rfl) rfl
theorem q1241 : (Jvm.Cond.laysFinal "WorkflowEngine$Undo" "WorkflowEngine$Undo" "todo" "LWorkflowEngine$Dones;") ∈ lw_all := lw_g (lw_at lw_m5 191 rfl) rfl
theorem q1242 : (Jvm.Cond.soleField "WorkflowEngine$Undo" "todo") ∈ lw_all := lw_g (lw_at lw_m5 192 rfl) rfl
theorem q1243 : (Jvm.Cond.lays "WorkflowEngine$Undo" "WorkflowEngine$Undo" "left" "I") ∈ lw_all := lw_g (lw_at lw_m5 193 rfl) rfl
theorem q1244 : (Jvm.Cond.soleField "WorkflowEngine$Undo" "left") ∈ lw_all := lw_g (lw_at lw_m5 194 rfl) rfl
theorem q1245 : (Jvm.Cond.lays "WorkflowEngine$Undo" "WorkflowEngine$Undo" "tried" "I") ∈ lw_all := lw_g (lw_at lw_m5 195 rfl) rfl
theorem q1246 : (Jvm.Cond.soleField "WorkflowEngine$Undo" "tried") ∈ lw_all := lw_g (lw_at lw_m5 196 rfl) rfl
theorem q1247 : (Jvm.Cond.lays "WorkflowEngine$Undo" "WorkflowEngine$Undo" "until" "I") ∈ lw_all := lw_g (lw_at lw_m5 197 rfl) rfl
theorem q1248 : (Jvm.Cond.soleField "WorkflowEngine$Undo" "until") ∈ lw_all := lw_g (lw_at lw_m5 198 rfl) rfl
theorem q1249 : (Jvm.Cond.laysFinal "WorkflowEngine$Undo" "WorkflowEngine$Undo" "this$0" "LWorkflowEngine;") ∈ lw_all := lw_g (lw_at lw_m5 199 rfl) rfl
theorem q1250 : (Jvm.Cond.soleField "WorkflowEngine$Undo" "this$0") ∈ lw_all := lw_g (lw_at lw_m5 200 rfl) rfl
theorem q1251 : (Jvm.Cond.superclass "WorkflowEngine$Undo" "java/lang/Object") ∈ lw_all := lw_g (lw_at lw_m5 201 rfl) rfl
theorem q1253 : (Jvm.Cond.instanceMethod ({ cls := "WorkflowEngine$Undo", name := "isOver", desc := "()Z" } : Jvm.MethodName)) ∈ lw_all := lw_g (lw_at lw_m5 203 rfl) rfl
theorem q1254 : (Jvm.Cond.selects "WorkflowEngine$Undo" ({ cls := "WorkflowEngine$Undo", name := "isOver", desc := "()Z" } : Jvm.MethodName) ({ cls := "WorkflowEngine$Undo", name := "isOver", desc := "()Z" } : Jvm.MethodName)) ∈ lw_all := lw_g (lw_at lw_m5 204 rfl) rfl
theorem q1255 : (Jvm.Cond.code ({ cls := "WorkflowEngine$Undo", name := "isOver", desc := "()Z" } : Jvm.MethodName) prog_28_method_5_code (2 : Nat) (Option.some Jvm.ClassFile.FieldType.boolean)) ∈ lw_all := lw_g (lw_at lw_m5 205 rfl) rfl
theorem q1256 : (Jvm.Cond.methodLink "WorkflowEngine$Undo" (86 : Nat) ({ cls := "java/util/ArrayList", name := "get", desc := "(I)Ljava/lang/Object;" } : Jvm.MethodName)) ∈ lw_all := lw_g (lw_at lw_m5 206 rfl) rfl
theorem q1257 : (Jvm.Cond.classLink "WorkflowEngine$Undo" (57 : Nat) "WorkflowEngine$Done") ∈ lw_all := lw_g (lw_at lw_m5 207 rfl) rfl
theorem q1258 : (Jvm.Cond.methodLink "WorkflowEngine$Undo" (69 : Nat) ({ cls := "WorkflowEngine$Undo", name := "tries", desc := "(LWorkflowEngine$Done;)V" } : Jvm.MethodName)) ∈ lw_all := lw_g (lw_at lw_m5 208 rfl) rfl
theorem q1259 : (Jvm.Cond.privateMethod ({ cls := "WorkflowEngine$Undo", name := "tries", desc := "(LWorkflowEngine$Done;)V" } : Jvm.MethodName)) ∈ lw_tbl := lw_at lw_m5 209 rfl
theorem q1260 : (Jvm.Cond.instanceMethod ({ cls := "WorkflowEngine$Undo", name := "tries", desc := "(LWorkflowEngine$Done;)V" } : Jvm.MethodName)) ∈ lw_all := lw_g (lw_at lw_m5 210 rfl) rfl
theorem q1261 : (Jvm.Cond.code ({ cls := "WorkflowEngine$Undo", name := "tries", desc := "(LWorkflowEngine$Done;)V" } : Jvm.MethodName) prog_28_method_3_code (2 : Nat) (Option.none : Option Jvm.ClassFile.FieldType)) ∈ lw_all := lw_g (lw_at lw_m5 211 rfl) rfl
theorem q1262 : (Jvm.Cond.methodLink "WorkflowEngine$Undo" (61 : Nat) ({ cls := "WorkflowEngine$Instance", name := "notes", desc := "(II)V" } : Jvm.MethodName)) ∈ lw_all := lw_g (lw_at lw_m5 212 rfl) rfl
theorem q1263 : (Jvm.Cond.methodLink "WorkflowEngine$Undo" (92 : Nat) ({ cls := "WorkflowEngine$Undo", name := "ends", desc := "(LWorkflowEngine$Done;)V" } : Jvm.MethodName)) ∈ lw_all := lw_g (lw_at lw_m5 213 rfl) rfl
theorem q1264 : (Jvm.Cond.privateMethod ({ cls := "WorkflowEngine$Undo", name := "ends", desc := "(LWorkflowEngine$Done;)V" } : Jvm.MethodName)) ∈ lw_tbl := lw_at lw_m5 214 rfl
theorem q1265 : (Jvm.Cond.instanceMethod ({ cls := "WorkflowEngine$Undo", name := "ends", desc := "(LWorkflowEngine$Done;)V" } : Jvm.MethodName)) ∈ lw_all := lw_g (lw_at lw_m5 215 rfl) rfl
theorem q1266 : (Jvm.Cond.code ({ cls := "WorkflowEngine$Undo", name := "ends", desc := "(LWorkflowEngine$Done;)V" } : Jvm.MethodName) prog_28_method_4_code (3 : Nat) (Option.none : Option Jvm.ClassFile.FieldType)) ∈ lw_all := lw_g (lw_at lw_m5 216 rfl) rfl
theorem q1267 : (Jvm.Cond.methodLink "WorkflowEngine$Undo" (65 : Nat) ({ cls := "WorkflowEngine$Moment", name := "fails", desc := "(I)Z" } : Jvm.MethodName)) ∈ lw_all := lw_g (lw_at lw_m5 217 rfl) rfl
theorem q1268 : (Jvm.Cond.methodLink "WorkflowEngine$Undo" (76 : Nat) ({ cls := "WorkflowEngine$Instance", name := "ends", desc := "(LWorkflowEngine$Done;)V" } : Jvm.MethodName)) ∈ lw_all := lw_g (lw_at lw_m5 218 rfl) rfl
theorem q1273 : (Jvm.Cond.constant "WorkflowEngine$Undo" (93 : Nat) (2147483647 : Int32)) ∈ lw_all := lw_g (lw_at lw_m5 223 rfl) rfl
theorem q1478 : (Jvm.Cond.instanceMethod ({ cls := "WorkflowEngine$Undo", name := "copy", desc := "(LWorkflowEngine$Instance;)LWorkflowEngine$Undo;" } : Jvm.MethodName)) ∈ lw_all := lw_g (lw_at lw_m6 188 rfl) rfl
theorem q1479 : (Jvm.Cond.selects "WorkflowEngine$Undo" ({ cls := "WorkflowEngine$Undo", name := "copy", desc := "(LWorkflowEngine$Instance;)LWorkflowEngine$Undo;" } : Jvm.MethodName) ({ cls := "WorkflowEngine$Undo", name := "copy", desc := "(LWorkflowEngine$Instance;)LWorkflowEngine$Undo;" } : Jvm.MethodName)) ∈ lw_all := lw_g (lw_at lw_m6 189 rfl) rfl
theorem q1480 : (Jvm.Cond.code ({ cls := "WorkflowEngine$Undo", name := "copy", desc := "(LWorkflowEngine$Instance;)LWorkflowEngine$Undo;" } : Jvm.MethodName) prog_28_method_2_code (3 : Nat) (Option.some (Jvm.ClassFile.FieldType.object "WorkflowEngine$Undo"))) ∈ lw_all := lw_g (lw_at lw_m6 190 rfl) rfl
theorem q1481 : (Jvm.Cond.classLink "WorkflowEngine$Undo" (4 : Nat) "WorkflowEngine$Undo") ∈ lw_all := lw_g (lw_at lw_m6 191 rfl) rfl
theorem q1482 : (Jvm.Cond.methodLink "WorkflowEngine$Undo" (46 : Nat) ({ cls := "WorkflowEngine$Undo", name := "<init>", desc := "(LWorkflowEngine;LWorkflowEngine$Instance;LWorkflowEngine$Dones;)V" } : Jvm.MethodName)) ∈ lw_all := lw_g (lw_at lw_m6 192 rfl) rfl
theorem q2032 : (Jvm.Cond.castable "WorkflowEngine$Undo" "java/lang/Object") ∈ lw_tbl := lw_at lw_m9 22 rfl
theorem in_X26 : ∀ w ∈ wsX260, w ∈ lw_all := lw_in wsX260 [1239, 1241, 1243, 1245, 1247, 1249] (by decide +kernel) (by decide +kernel)
def RX27 : String := "WorkflowEngine$Places"
def TX27 : u_T := fun k => match k with
  | 0 => ("WorkflowEngine$Places", "all", "[I", true)
  | _ => ("WorkflowEngine$Places", "many", "I", false)
def tyX27 : Nat → FieldType := fun k => match k with
  | 0 => .array .int
  | _ => .int
abbrev wsX270 : List Cond := u_ws RX27 TX27 2
theorem nmX27 : ∀ a, a < 2 → ∀ b, b < 2 → a ≠ b → (TX27 a).2.1 ≠ (TX27 b).2.1 := by decide +kernel
theorem tyX27_ok : ∀ k, k < 2 → parseFieldDescriptor (TX27 k).2.2.1 = some (tyX27 k) := by decide +kernel
abbrev cX27_init : ByteArray := prog_22_method_1_code
def yX27_init : MethodName := ⟨RX27, "<init>", "()V"⟩
abbrev cX27_adds : ByteArray := prog_22_method_2_code
def yX27_adds : MethodName := ⟨RX27, "adds", "(I)V"⟩
theorem q131 : (Jvm.Cond.initialized "WorkflowEngine$Places") ∈ lw_all := lw_g (lw_at lw_m1 41 rfl) rfl
theorem q532 : (Jvm.Cond.selects "WorkflowEngine$Places" ({ cls := "java/lang/Object", name := "getClass", desc := "()Ljava/lang/Class;" } : Jvm.MethodName) ({ cls := "java/lang/Object", name := "getClass", desc := "()Ljava/lang/Class;" } : Jvm.MethodName)) ∈ lw_all := lw_g (lw_at lw_m2 202 rfl) rfl
theorem q1343 : (Jvm.Cond.instantiable "WorkflowEngine$Places" (2 : Nat)) ∈ lw_all := lw_g (lw_at lw_m6 53 rfl) rfl
theorem q1345 : (Jvm.Cond.instanceMethod ({ cls := "WorkflowEngine$Places", name := "<init>", desc := "()V" } : Jvm.MethodName)) ∈ lw_all := lw_g (lw_at lw_m6 55 rfl) rfl
theorem q1346 : (Jvm.Cond.code ({ cls := "WorkflowEngine$Places", name := "<init>", desc := "()V" } : Jvm.MethodName) prog_22_method_1_code (1 : Nat) (Option.none : Option Jvm.ClassFile.FieldType)) ∈ lw_all := lw_g (lw_at lw_m6 56 rfl) rfl
theorem q1347 : (Jvm.Cond.methodLink "WorkflowEngine$Places" (3 : Nat) ({ cls := "java/lang/Object", name := "<init>", desc := "()V" } : Jvm.MethodName)) ∈ lw_all := lw_g (lw_at lw_m6 57 rfl) rfl
theorem q1348 : (Jvm.Cond.fieldLink "WorkflowEngine$Places" (9 : Nat) "WorkflowEngine$Places" "all" "[I") ∈ lw_all := lw_g (lw_at lw_m6 58 rfl) rfl
theorem q1350 : (Jvm.Cond.fieldLink "WorkflowEngine$Places" (15 : Nat) "WorkflowEngine$Places" "many" "I") ∈ lw_all := lw_g (lw_at lw_m6 60 rfl) rfl
theorem q1352 : (Jvm.Cond.laysFinal "WorkflowEngine$Places" "WorkflowEngine$Places" "all" "[I") ∈ lw_all := lw_g (lw_at lw_m6 62 rfl) rfl
theorem q1353 : (Jvm.Cond.soleField "WorkflowEngine$Places" "all") ∈ lw_all := lw_g (lw_at lw_m6 63 rfl) rfl
theorem q1354 : (Jvm.Cond.lays "WorkflowEngine$Places" "WorkflowEngine$Places" "many" "I") ∈ lw_all := lw_g (lw_at lw_m6 64 rfl) rfl
theorem q1355 : (Jvm.Cond.soleField "WorkflowEngine$Places" "many") ∈ lw_all := lw_g (lw_at lw_m6 65 rfl) rfl
theorem q1356 : (Jvm.Cond.superclass "WorkflowEngine$Places" "java/lang/Object") ∈ lw_all := lw_g (lw_at lw_m6 66 rfl) rfl
theorem q1365 : (Jvm.Cond.instanceMethod ({ cls := "WorkflowEngine$Places", name := "adds", desc := "(I)V" } : Jvm.MethodName)) ∈ lw_all := lw_g (lw_at lw_m6 75 rfl) rfl
theorem q1366 : (Jvm.Cond.selects "WorkflowEngine$Places" ({ cls := "WorkflowEngine$Places", name := "adds", desc := "(I)V" } : Jvm.MethodName) ({ cls := "WorkflowEngine$Places", name := "adds", desc := "(I)V" } : Jvm.MethodName)) ∈ lw_all := lw_g (lw_at lw_m6 76 rfl) rfl
theorem q1367 : (Jvm.Cond.code ({ cls := "WorkflowEngine$Places", name := "adds", desc := "(I)V" } : Jvm.MethodName) prog_22_method_2_code (3 : Nat) (Option.none : Option Jvm.ClassFile.FieldType)) ∈ lw_all := lw_g (lw_at lw_m6 77 rfl) rfl
theorem q2033 : (Jvm.Cond.castable "WorkflowEngine$Places" "java/lang/Object") ∈ lw_tbl := lw_at lw_m9 23 rfl
theorem in_X27 : ∀ w ∈ wsX270, w ∈ lw_all := lw_in wsX270 [1352, 1354] (by decide +kernel) (by decide +kernel)
def RX28 : String := "WorkflowEngine$Image"
def TX28 : u_T := fun k => match k with
  | 0 => ("WorkflowEngine$Image", "versionsWere", "[LWorkflowEngine$Version;", true)
  | 1 => ("WorkflowEngine$Image", "manyWere", "[I", true)
  | 2 => ("WorkflowEngine$Image", "wrongWas", "LWorkflowEngine$WrongText;", true)
  | 3 => ("WorkflowEngine$Image", "moment", "LWorkflowEngine$Moment;", true)
  | _ => ("WorkflowEngine$Image", "this$0", "LWorkflowEngine;", true)
def tyX28 : Nat → FieldType := fun k => match k with
  | 0 => .array (.object "WorkflowEngine$Version")
  | 1 => .array .int
  | 2 => .object "WorkflowEngine$WrongText"
  | 3 => .object "WorkflowEngine$Moment"
  | _ => .object "WorkflowEngine"
abbrev wsX280 : List Cond := u_ws RX28 TX28 5
theorem nmX28 : ∀ a, a < 5 → ∀ b, b < 5 → a ≠ b → (TX28 a).2.1 ≠ (TX28 b).2.1 := by decide +kernel
theorem tyX28_ok : ∀ k, k < 5 → parseFieldDescriptor (TX28 k).2.2.1 = some (tyX28 k) := by decide +kernel
abbrev cX28_init : ByteArray := prog_12_method_1_code
def yX28_init : MethodName := ⟨RX28, "<init>", "(LWorkflowEngine;)V"⟩
abbrev cX28_laysBack : ByteArray := prog_12_method_2_code
def yX28_laysBack : MethodName := ⟨RX28, "laysBack", "()V"⟩
theorem q133 : (Jvm.Cond.initialized "WorkflowEngine$Image") ∈ lw_all := lw_g (lw_at lw_m1 43 rfl) rfl
theorem q524 : (Jvm.Cond.selects "WorkflowEngine$Image" ({ cls := "java/lang/Object", name := "getClass", desc := "()Ljava/lang/Class;" } : Jvm.MethodName) ({ cls := "java/lang/Object", name := "getClass", desc := "()Ljava/lang/Class;" } : Jvm.MethodName)) ∈ lw_all := lw_g (lw_at lw_m2 194 rfl) rfl
theorem q766 : (Jvm.Cond.fieldLinkNest "WorkflowEngine$Image" (36 : Nat) "WorkflowEngine" "wrong" "LWorkflowEngine$WrongText;" "WorkflowEngine") ∈ lw_tbl := lw_at lw_m3 196 rfl
theorem q768 : (Jvm.Cond.fieldLinkNest "WorkflowEngine$Image" (15 : Nat) "WorkflowEngine" "versions" "[LWorkflowEngine$Version;" "WorkflowEngine") ∈ lw_tbl := lw_at lw_m3 198 rfl
theorem q770 : (Jvm.Cond.fieldLinkNest "WorkflowEngine$Image" (27 : Nat) "WorkflowEngine" "versionMany" "[I" "WorkflowEngine") ∈ lw_tbl := lw_at lw_m3 200 rfl
theorem q772 : (Jvm.Cond.fieldLinkNest "WorkflowEngine$Image" (52 : Nat) "WorkflowEngine" "now" "LWorkflowEngine$Moment;" "WorkflowEngine") ∈ lw_tbl := lw_at lw_m3 202 rfl
theorem q1536 : (Jvm.Cond.instantiable "WorkflowEngine$Image" (5 : Nat)) ∈ lw_all := lw_g (lw_at lw_m7 6 rfl) rfl
theorem q1538 : (Jvm.Cond.instanceMethod ({ cls := "WorkflowEngine$Image", name := "<init>", desc := "(LWorkflowEngine;)V" } : Jvm.MethodName)) ∈ lw_all := lw_g (lw_at lw_m7 8 rfl) rfl
theorem q1539 : (Jvm.Cond.code ({ cls := "WorkflowEngine$Image", name := "<init>", desc := "(LWorkflowEngine;)V" } : Jvm.MethodName) prog_12_method_1_code (2 : Nat) (Option.none : Option Jvm.ClassFile.FieldType)) ∈ lw_all := lw_g (lw_at lw_m7 9 rfl) rfl
theorem q1540 : (Jvm.Cond.methodLink "WorkflowEngine$Image" (9 : Nat) ({ cls := "java/lang/Object", name := "<init>", desc := "()V" } : Jvm.MethodName)) ∈ lw_all := lw_g (lw_at lw_m7 10 rfl) rfl
theorem q1541 : (Jvm.Cond.methodLink "WorkflowEngine$Image" (19 : Nat) ({ cls := "[LWorkflowEngine$Version;", name := "clone", desc := "()Ljava/lang/Object;" } : Jvm.MethodName)) ∈ lw_all := lw_g (lw_at lw_m7 11 rfl) rfl
theorem q1545 : (Jvm.Cond.classLink "WorkflowEngine$Image" (20 : Nat) "[LWorkflowEngine$Version;") ∈ lw_all := lw_g (lw_at lw_m7 15 rfl) rfl
theorem q1546 : (Jvm.Cond.methodLink "WorkflowEngine$Image" (31 : Nat) ({ cls := "[I", name := "clone", desc := "()Ljava/lang/Object;" } : Jvm.MethodName)) ∈ lw_all := lw_g (lw_at lw_m7 16 rfl) rfl
theorem q1547 : (Jvm.Cond.classLink "WorkflowEngine$Image" (32 : Nat) "[I") ∈ lw_all := lw_g (lw_at lw_m7 17 rfl) rfl
theorem q1548 : (Jvm.Cond.classLink "WorkflowEngine$Image" (43 : Nat) "WorkflowEngine$Moment") ∈ lw_all := lw_g (lw_at lw_m7 18 rfl) rfl
theorem q1549 : (Jvm.Cond.methodLinkNest "WorkflowEngine$Image" (45 : Nat) ({ cls := "WorkflowEngine$Moment", name := "<init>", desc := "(LWorkflowEngine;)V" } : Jvm.MethodName) "WorkflowEngine") ∈ lw_tbl := lw_at lw_m7 19 rfl
theorem q1550 : (Jvm.Cond.methodLink "WorkflowEngine$Image" (55 : Nat) ({ cls := "WorkflowEngine$Moment", name := "becomes", desc := "(LWorkflowEngine$Moment;)V" } : Jvm.MethodName)) ∈ lw_all := lw_g (lw_at lw_m7 20 rfl) rfl
theorem q1551 : (Jvm.Cond.fieldLink "WorkflowEngine$Image" (24 : Nat) "WorkflowEngine$Image" "versionsWere" "[LWorkflowEngine$Version;") ∈ lw_all := lw_g (lw_at lw_m7 21 rfl) rfl
theorem q1552 : (Jvm.Cond.fieldLink "WorkflowEngine$Image" (33 : Nat) "WorkflowEngine$Image" "manyWere" "[I") ∈ lw_all := lw_g (lw_at lw_m7 22 rfl) rfl
theorem q1553 : (Jvm.Cond.fieldLink "WorkflowEngine$Image" (40 : Nat) "WorkflowEngine$Image" "wrongWas" "LWorkflowEngine$WrongText;") ∈ lw_all := lw_g (lw_at lw_m7 23 rfl) rfl
theorem q1554 : (Jvm.Cond.fieldLink "WorkflowEngine$Image" (48 : Nat) "WorkflowEngine$Image" "moment" "LWorkflowEngine$Moment;") ∈ lw_all := lw_g (lw_at lw_m7 24 rfl) rfl
theorem q1555 : (Jvm.Cond.fieldLink "WorkflowEngine$Image" (3 : Nat) "WorkflowEngine$Image" "this$0" "LWorkflowEngine;") ∈ lw_all := lw_g (lw_at lw_m7 25 rfl) rfl
theorem q1556 : (Jvm.Cond.laysFinal "WorkflowEngine$Image" "WorkflowEngine$Image" "versionsWere" "[LWorkflowEngine$Version;") ∈ lw_all := lw_g (lw_at lw_m7 26 rfl) rfl
theorem q1557 : (Jvm.Cond.soleField "WorkflowEngine$Image" "versionsWere") ∈ lw_all := lw_g (lw_at lw_m7 27 rfl) rfl
theorem q1558 : (Jvm.Cond.laysFinal "WorkflowEngine$Image" "WorkflowEngine$Image" "manyWere" "[I") ∈ lw_all := lw_g (lw_at lw_m7 28 rfl) rfl
theorem q1559 : (Jvm.Cond.soleField "WorkflowEngine$Image" "manyWere") ∈ lw_all := lw_g (lw_at lw_m7 29 rfl) rfl
theorem q1560 : (Jvm.Cond.laysFinal "WorkflowEngine$Image" "WorkflowEngine$Image" "wrongWas" "LWorkflowEngine$WrongText;") ∈ lw_all := lw_g (lw_at lw_m7 30 rfl) rfl
theorem q1561 : (Jvm.Cond.soleField "WorkflowEngine$Image" "wrongWas") ∈ lw_all := lw_g (lw_at lw_m7 31 rfl) rfl
theorem q1562 : (Jvm.Cond.laysFinal "WorkflowEngine$Image" "WorkflowEngine$Image" "moment" "LWorkflowEngine$Moment;") ∈ lw_all := lw_g (lw_at lw_m7 32 rfl) rfl
theorem q1563 : (Jvm.Cond.soleField "WorkflowEngine$Image" "moment") ∈ lw_all := lw_g (lw_at lw_m7 33 rfl) rfl
theorem q1564 : (Jvm.Cond.laysFinal "WorkflowEngine$Image" "WorkflowEngine$Image" "this$0" "LWorkflowEngine;") ∈ lw_all := lw_g (lw_at lw_m7 34 rfl) rfl
theorem q1565 : (Jvm.Cond.soleField "WorkflowEngine$Image" "this$0") ∈ lw_all := lw_g (lw_at lw_m7 35 rfl) rfl
theorem q1566 : (Jvm.Cond.superclass "WorkflowEngine$Image" "java/lang/Object") ∈ lw_all := lw_g (lw_at lw_m7 36 rfl) rfl
theorem q1576 : (Jvm.Cond.instanceMethod ({ cls := "WorkflowEngine$Image", name := "laysBack", desc := "()V" } : Jvm.MethodName)) ∈ lw_all := lw_g (lw_at lw_m7 46 rfl) rfl
theorem q1577 : (Jvm.Cond.selects "WorkflowEngine$Image" ({ cls := "WorkflowEngine$Image", name := "laysBack", desc := "()V" } : Jvm.MethodName) ({ cls := "WorkflowEngine$Image", name := "laysBack", desc := "()V" } : Jvm.MethodName)) ∈ lw_all := lw_g (lw_at lw_m7 47 rfl) rfl
theorem q1578 : (Jvm.Cond.code ({ cls := "WorkflowEngine$Image", name := "laysBack", desc := "()V" } : Jvm.MethodName) prog_12_method_2_code (1 : Nat) (Option.none : Option Jvm.ClassFile.FieldType)) ∈ lw_all := lw_g (lw_at lw_m7 48 rfl) rfl
theorem q1579 : (Jvm.Cond.methodLink "WorkflowEngine$Image" (59 : Nat) ({ cls := "java/lang/System", name := "arraycopy", desc := "(Ljava/lang/Object;ILjava/lang/Object;II)V" } : Jvm.MethodName)) ∈ lw_all := lw_g (lw_at lw_m7 49 rfl) rfl
theorem q2034 : (Jvm.Cond.castable "WorkflowEngine$Image" "java/lang/Object") ∈ lw_tbl := lw_at lw_m9 24 rfl
theorem in_X28 : ∀ w ∈ wsX280, w ∈ lw_all := lw_in wsX280 [1556, 1558, 1560, 1562, 1564] (by decide +kernel) (by decide +kernel)
def RX29 : String := "WorkflowEngine$Outcome$1"
abbrev cX29_isOver : ByteArray := prog_17_method_2_code
def yX29_isOver : MethodName := ⟨RX29, "isOver", "()Z"⟩
theorem q527 : (Jvm.Cond.selects "WorkflowEngine$Outcome$1" ({ cls := "java/lang/Object", name := "getClass", desc := "()Ljava/lang/Class;" } : Jvm.MethodName) ({ cls := "java/lang/Object", name := "getClass", desc := "()Ljava/lang/Class;" } : Jvm.MethodName)) ∈ lw_all := lw_g (lw_at lw_m2 197 rfl) rfl
theorem q1127 : (Jvm.Cond.selects "WorkflowEngine$Outcome$1" ({ cls := "WorkflowEngine$Outcome", name := "isOver", desc := "()Z" } : Jvm.MethodName) ({ cls := "WorkflowEngine$Outcome$1", name := "isOver", desc := "()Z" } : Jvm.MethodName)) ∈ lw_all := lw_g (lw_at lw_m5 77 rfl) rfl
theorem q1128 : (Jvm.Cond.instanceMethod ({ cls := "WorkflowEngine$Outcome$1", name := "isOver", desc := "()Z" } : Jvm.MethodName)) ∈ lw_all := lw_g (lw_at lw_m5 78 rfl) rfl
theorem q1129 : (Jvm.Cond.code ({ cls := "WorkflowEngine$Outcome$1", name := "isOver", desc := "()Z" } : Jvm.MethodName) prog_17_method_2_code (1 : Nat) (Option.some Jvm.ClassFile.FieldType.boolean)) ∈ lw_all := lw_g (lw_at lw_m5 79 rfl) rfl
theorem q2029 : (Jvm.Cond.castable "WorkflowEngine$Outcome$1" "java/lang/Object") ∈ lw_tbl := lw_at lw_m9 19 rfl
theorem q2043 : (Jvm.Cond.castable "WorkflowEngine$Outcome$1" "WorkflowEngine$Outcome") ∈ lw_tbl := lw_at lw_m9 33 rfl
def RX3 : String := "WorkflowEngine$Version"
def TX3 : u_T := fun k => match k with
  | 0 => ("WorkflowEngine$Version", "body", "LWorkflowEngine$Body;", true)
  | _ => ("WorkflowEngine$Version", "length", "I", true)
def tyX3 : Nat → FieldType := fun k => match k with
  | 0 => .object "WorkflowEngine$Body"
  | _ => .int
abbrev wsX30 : List Cond := u_ws RX3 TX3 2
theorem nmX3 : ∀ a, a < 2 → ∀ b, b < 2 → a ≠ b → (TX3 a).2.1 ≠ (TX3 b).2.1 := by decide +kernel
theorem tyX3_ok : ∀ k, k < 2 → parseFieldDescriptor (TX3 k).2.2.1 = some (tyX3 k) := by decide +kernel
abbrev cX3_init : ByteArray := prog_29_method_1_code
def yX3_init : MethodName := ⟨RX3, "<init>", "(LWorkflowEngine$Body;I)V"⟩
theorem q94 : (Jvm.Cond.initialized "WorkflowEngine$Version") ∈ lw_all := lw_g (lw_at lw_m1 4 rfl) rfl
theorem q150 : (Jvm.Cond.instantiable "WorkflowEngine$Version" (2 : Nat)) ∈ lw_all := lw_g (lw_at lw_m1 60 rfl) rfl
theorem q538 : (Jvm.Cond.selects "WorkflowEngine$Version" ({ cls := "java/lang/Object", name := "getClass", desc := "()Ljava/lang/Class;" } : Jvm.MethodName) ({ cls := "java/lang/Object", name := "getClass", desc := "()Ljava/lang/Class;" } : Jvm.MethodName)) ∈ lw_all := lw_g (lw_at lw_m2 208 rfl) rfl
theorem q595 : (Jvm.Cond.instanceMethod ({ cls := "WorkflowEngine$Version", name := "<init>", desc := "(LWorkflowEngine$Body;I)V" } : Jvm.MethodName)) ∈ lw_all := lw_g (lw_at lw_m3 25 rfl) rfl
theorem q596 : (Jvm.Cond.code ({ cls := "WorkflowEngine$Version", name := "<init>", desc := "(LWorkflowEngine$Body;I)V" } : Jvm.MethodName) prog_29_method_1_code (3 : Nat) (Option.none : Option Jvm.ClassFile.FieldType)) ∈ lw_all := lw_g (lw_at lw_m3 26 rfl) rfl
theorem q597 : (Jvm.Cond.methodLink "WorkflowEngine$Version" (1 : Nat) ({ cls := "java/lang/Object", name := "<init>", desc := "()V" } : Jvm.MethodName)) ∈ lw_all := lw_g (lw_at lw_m3 27 rfl) rfl
theorem q598 : (Jvm.Cond.fieldLink "WorkflowEngine$Version" (7 : Nat) "WorkflowEngine$Version" "body" "LWorkflowEngine$Body;") ∈ lw_all := lw_g (lw_at lw_m3 28 rfl) rfl
theorem q600 : (Jvm.Cond.fieldLink "WorkflowEngine$Version" (13 : Nat) "WorkflowEngine$Version" "length" "I") ∈ lw_all := lw_g (lw_at lw_m3 30 rfl) rfl
theorem q602 : (Jvm.Cond.laysFinal "WorkflowEngine$Version" "WorkflowEngine$Version" "body" "LWorkflowEngine$Body;") ∈ lw_all := lw_g (lw_at lw_m3 32 rfl) rfl
theorem q603 : (Jvm.Cond.soleField "WorkflowEngine$Version" "body") ∈ lw_all := lw_g (lw_at lw_m3 33 rfl) rfl
theorem q604 : (Jvm.Cond.laysFinal "WorkflowEngine$Version" "WorkflowEngine$Version" "length" "I") ∈ lw_all := lw_g (lw_at lw_m3 34 rfl) rfl
theorem q605 : (Jvm.Cond.soleField "WorkflowEngine$Version" "length") ∈ lw_all := lw_g (lw_at lw_m3 35 rfl) rfl
theorem q606 : (Jvm.Cond.superclass "WorkflowEngine$Version" "java/lang/Object") ∈ lw_all := lw_g (lw_at lw_m3 36 rfl) rfl
theorem q2002 : (Jvm.Cond.castable "WorkflowEngine$Version" "java/lang/Object") ∈ lw_tbl := lw_at lw_m8 232 rfl
theorem in_X3 : ∀ w ∈ wsX30, w ∈ lw_all := lw_in wsX30 [602, 604] (by decide +kernel) (by decide +kernel)
def RX30 : String := "WorkflowEngine$Outcome$2"
abbrev cX30_isOver : ByteArray := prog_18_method_2_code
def yX30_isOver : MethodName := ⟨RX30, "isOver", "()Z"⟩
theorem q528 : (Jvm.Cond.selects "WorkflowEngine$Outcome$2" ({ cls := "java/lang/Object", name := "getClass", desc := "()Ljava/lang/Class;" } : Jvm.MethodName) ({ cls := "java/lang/Object", name := "getClass", desc := "()Ljava/lang/Class;" } : Jvm.MethodName)) ∈ lw_all := lw_g (lw_at lw_m2 198 rfl) rfl
theorem q1130 : (Jvm.Cond.selects "WorkflowEngine$Outcome$2" ({ cls := "WorkflowEngine$Outcome", name := "isOver", desc := "()Z" } : Jvm.MethodName) ({ cls := "WorkflowEngine$Outcome$2", name := "isOver", desc := "()Z" } : Jvm.MethodName)) ∈ lw_all := lw_g (lw_at lw_m5 80 rfl) rfl
theorem q1131 : (Jvm.Cond.instanceMethod ({ cls := "WorkflowEngine$Outcome$2", name := "isOver", desc := "()Z" } : Jvm.MethodName)) ∈ lw_all := lw_g (lw_at lw_m5 81 rfl) rfl
theorem q1132 : (Jvm.Cond.code ({ cls := "WorkflowEngine$Outcome$2", name := "isOver", desc := "()Z" } : Jvm.MethodName) prog_18_method_2_code (1 : Nat) (Option.some Jvm.ClassFile.FieldType.boolean)) ∈ lw_all := lw_g (lw_at lw_m5 82 rfl) rfl
theorem q2028 : (Jvm.Cond.castable "WorkflowEngine$Outcome$2" "java/lang/Object") ∈ lw_tbl := lw_at lw_m9 18 rfl
theorem q2042 : (Jvm.Cond.castable "WorkflowEngine$Outcome$2" "WorkflowEngine$Outcome") ∈ lw_tbl := lw_at lw_m9 32 rfl
def RX31 : String := "WorkflowEngine$Outcome$3"
abbrev cX31_isOver : ByteArray := prog_19_method_2_code
def yX31_isOver : MethodName := ⟨RX31, "isOver", "()Z"⟩
theorem q529 : (Jvm.Cond.selects "WorkflowEngine$Outcome$3" ({ cls := "java/lang/Object", name := "getClass", desc := "()Ljava/lang/Class;" } : Jvm.MethodName) ({ cls := "java/lang/Object", name := "getClass", desc := "()Ljava/lang/Class;" } : Jvm.MethodName)) ∈ lw_all := lw_g (lw_at lw_m2 199 rfl) rfl
theorem q1133 : (Jvm.Cond.selects "WorkflowEngine$Outcome$3" ({ cls := "WorkflowEngine$Outcome", name := "isOver", desc := "()Z" } : Jvm.MethodName) ({ cls := "WorkflowEngine$Outcome$3", name := "isOver", desc := "()Z" } : Jvm.MethodName)) ∈ lw_all := lw_g (lw_at lw_m5 83 rfl) rfl
theorem q1134 : (Jvm.Cond.instanceMethod ({ cls := "WorkflowEngine$Outcome$3", name := "isOver", desc := "()Z" } : Jvm.MethodName)) ∈ lw_all := lw_g (lw_at lw_m5 84 rfl) rfl
theorem q1135 : (Jvm.Cond.code ({ cls := "WorkflowEngine$Outcome$3", name := "isOver", desc := "()Z" } : Jvm.MethodName) prog_19_method_2_code (1 : Nat) (Option.some Jvm.ClassFile.FieldType.boolean)) ∈ lw_all := lw_g (lw_at lw_m5 85 rfl) rfl
theorem q2030 : (Jvm.Cond.castable "WorkflowEngine$Outcome$3" "java/lang/Object") ∈ lw_tbl := lw_at lw_m9 20 rfl
theorem q2044 : (Jvm.Cond.castable "WorkflowEngine$Outcome$3" "WorkflowEngine$Outcome") ∈ lw_tbl := lw_at lw_m9 34 rfl
def RX4 : String := "WorkflowEngine$Reader"
def TX4 : u_T := fun k => match k with
  | 0 => ("WorkflowEngine$Reader", "at", "I", false)
  | 1 => ("WorkflowEngine$Reader", "open", "I", false)
  | 2 => ("WorkflowEngine$Reader", "items", "I", false)
  | _ => ("WorkflowEngine$Reader", "this$0", "LWorkflowEngine;", true)
def tyX4 : Nat → FieldType := fun k => match k with
  | 0 => .int
  | 1 => .int
  | 2 => .int
  | _ => .object "WorkflowEngine"
abbrev wsX40 : List Cond := u_ws RX4 TX4 4
theorem nmX4 : ∀ a, a < 4 → ∀ b, b < 4 → a ≠ b → (TX4 a).2.1 ≠ (TX4 b).2.1 := by decide +kernel
theorem tyX4_ok : ∀ k, k < 4 → parseFieldDescriptor (TX4 k).2.2.1 = some (tyX4 k) := by decide +kernel
abbrev cX4_init : ByteArray := prog_23_method_1_code
def yX4_init : MethodName := ⟨RX4, "<init>", "(LWorkflowEngine;)V"⟩
abbrev cX4_whole : ByteArray := prog_23_method_18_code
def yX4_whole : MethodName := ⟨RX4, "whole", "()LWorkflowEngine$Body;"⟩
abbrev cX4_body : ByteArray := prog_23_method_11_code
def yX4_body : MethodName := ⟨RX4, "body", "()LWorkflowEngine$Body;"⟩
abbrev cX4_item : ByteArray := prog_23_method_12_code
def yX4_item : MethodName := ⟨RX4, "item", "()LWorkflowEngine$Node;"⟩
abbrev cX4_isItem : ByteArray := prog_23_method_10_code
def yX4_isItem : MethodName := ⟨RX4, "isItem", "()Z"⟩
abbrev cX4_sign : ByteArray := prog_23_method_2_code
def yX4_sign : MethodName := ⟨RX4, "sign", "()I"⟩
abbrev cX4_need : ByteArray := prog_23_method_3_code
def yX4_need : MethodName := ⟨RX4, "need", "(Z)V"⟩
abbrev cX4_limits : ByteArray := prog_23_method_4_code
def yX4_limits : MethodName := ⟨RX4, "limits", "(Z)V"⟩
abbrev cX4_task : ByteArray := prog_23_method_13_code
def yX4_task : MethodName := ⟨RX4, "task", "(I)LWorkflowEngine$Node;"⟩
abbrev cX4_code : ByteArray := prog_23_method_9_code
def yX4_code : MethodName := ⟨RX4, "code", "()I"⟩
abbrev cX4_takes : ByteArray := prog_23_method_5_code
def yX4_takes : MethodName := ⟨RX4, "takes", "(II)I"⟩
abbrev cX4_skips : ByteArray := prog_23_method_6_code
def yX4_skips : MethodName := ⟨RX4, "skips", "(I)Z"⟩
abbrev cX4_number : ByteArray := prog_23_method_7_code
def yX4_number : MethodName := ⟨RX4, "number", "()I"⟩
abbrev cX4_assign : ByteArray := prog_23_method_14_code
def yX4_assign : MethodName := ⟨RX4, "assign", "(I)LWorkflowEngine$Node;"⟩
abbrev cX4_signed : ByteArray := prog_23_method_8_code
def yX4_signed : MethodName := ⟨RX4, "signed", "()I"⟩
abbrev cX4_opened : ByteArray := prog_23_method_15_code
def yX4_opened : MethodName := ⟨RX4, "opened", "(I)LWorkflowEngine$Node;"⟩
abbrev cX4_choice : ByteArray := prog_23_method_16_code
def yX4_choice : MethodName := ⟨RX4, "choice", "(I)LWorkflowEngine$Node;"⟩
abbrev cX4_parallel : ByteArray := prog_23_method_17_code
def yX4_parallel : MethodName := ⟨RX4, "parallel", "(I)LWorkflowEngine$Node;"⟩
theorem q95 : (Jvm.Cond.initialized "WorkflowEngine$Reader") ∈ lw_all := lw_g (lw_at lw_m1 5 rfl) rfl
theorem q159 : (Jvm.Cond.instantiable "WorkflowEngine$Reader" (4 : Nat)) ∈ lw_all := lw_g (lw_at lw_m1 69 rfl) rfl
theorem q161 : (Jvm.Cond.instanceMethod ({ cls := "WorkflowEngine$Reader", name := "<init>", desc := "(LWorkflowEngine;)V" } : Jvm.MethodName)) ∈ lw_all := lw_g (lw_at lw_m1 71 rfl) rfl
theorem q162 : (Jvm.Cond.code ({ cls := "WorkflowEngine$Reader", name := "<init>", desc := "(LWorkflowEngine;)V" } : Jvm.MethodName) prog_23_method_1_code (2 : Nat) (Option.none : Option Jvm.ClassFile.FieldType)) ∈ lw_all := lw_g (lw_at lw_m1 72 rfl) rfl
theorem q163 : (Jvm.Cond.methodLink "WorkflowEngine$Reader" (9 : Nat) ({ cls := "java/lang/Object", name := "<init>", desc := "()V" } : Jvm.MethodName)) ∈ lw_all := lw_g (lw_at lw_m1 73 rfl) rfl
theorem q166 : (Jvm.Cond.fieldLink "WorkflowEngine$Reader" (15 : Nat) "WorkflowEngine$Reader" "at" "I") ∈ lw_all := lw_g (lw_at lw_m1 76 rfl) rfl
theorem q167 : (Jvm.Cond.fieldLink "WorkflowEngine$Reader" (123 : Nat) "WorkflowEngine$Reader" "open" "I") ∈ lw_all := lw_g (lw_at lw_m1 77 rfl) rfl
theorem q168 : (Jvm.Cond.fieldLink "WorkflowEngine$Reader" (82 : Nat) "WorkflowEngine$Reader" "items" "I") ∈ lw_all := lw_g (lw_at lw_m1 78 rfl) rfl
theorem q169 : (Jvm.Cond.fieldLink "WorkflowEngine$Reader" (3 : Nat) "WorkflowEngine$Reader" "this$0" "LWorkflowEngine;") ∈ lw_all := lw_g (lw_at lw_m1 79 rfl) rfl
theorem q170 : (Jvm.Cond.lays "WorkflowEngine$Reader" "WorkflowEngine$Reader" "at" "I") ∈ lw_all := lw_g (lw_at lw_m1 80 rfl) rfl
theorem q171 : (Jvm.Cond.soleField "WorkflowEngine$Reader" "at") ∈ lw_all := lw_g (lw_at lw_m1 81 rfl) rfl
theorem q172 : (Jvm.Cond.lays "WorkflowEngine$Reader" "WorkflowEngine$Reader" "open" "I") ∈ lw_all := lw_g (lw_at lw_m1 82 rfl) rfl
theorem q173 : (Jvm.Cond.soleField "WorkflowEngine$Reader" "open") ∈ lw_all := lw_g (lw_at lw_m1 83 rfl) rfl
theorem q174 : (Jvm.Cond.lays "WorkflowEngine$Reader" "WorkflowEngine$Reader" "items" "I") ∈ lw_all := lw_g (lw_at lw_m1 84 rfl) rfl
theorem q175 : (Jvm.Cond.soleField "WorkflowEngine$Reader" "items") ∈ lw_all := lw_g (lw_at lw_m1 85 rfl) rfl
theorem q176 : (Jvm.Cond.laysFinal "WorkflowEngine$Reader" "WorkflowEngine$Reader" "this$0" "LWorkflowEngine;") ∈ lw_all := lw_g (lw_at lw_m1 86 rfl) rfl
theorem q177 : (Jvm.Cond.soleField "WorkflowEngine$Reader" "this$0") ∈ lw_all := lw_g (lw_at lw_m1 87 rfl) rfl
theorem q178 : (Jvm.Cond.superclass "WorkflowEngine$Reader" "java/lang/Object") ∈ lw_all := lw_g (lw_at lw_m1 88 rfl) rfl
theorem q180 : (Jvm.Cond.instanceMethod ({ cls := "WorkflowEngine$Reader", name := "whole", desc := "()LWorkflowEngine$Body;" } : Jvm.MethodName)) ∈ lw_all := lw_g (lw_at lw_m1 90 rfl) rfl
theorem q181 : (Jvm.Cond.selects "WorkflowEngine$Reader" ({ cls := "WorkflowEngine$Reader", name := "whole", desc := "()LWorkflowEngine$Body;" } : Jvm.MethodName) ({ cls := "WorkflowEngine$Reader", name := "whole", desc := "()LWorkflowEngine$Body;" } : Jvm.MethodName)) ∈ lw_all := lw_g (lw_at lw_m1 91 rfl) rfl
theorem q182 : (Jvm.Cond.code ({ cls := "WorkflowEngine$Reader", name := "whole", desc := "()LWorkflowEngine$Body;" } : Jvm.MethodName) prog_23_method_18_code (2 : Nat) (Option.some (Jvm.ClassFile.FieldType.object "WorkflowEngine$Body"))) ∈ lw_all := lw_g (lw_at lw_m1 92 rfl) rfl
theorem q183 : (Jvm.Cond.methodLink "WorkflowEngine$Reader" (132 : Nat) ({ cls := "WorkflowEngine$Reader", name := "body", desc := "()LWorkflowEngine$Body;" } : Jvm.MethodName)) ∈ lw_all := lw_g (lw_at lw_m1 93 rfl) rfl
theorem q184 : (Jvm.Cond.privateMethod ({ cls := "WorkflowEngine$Reader", name := "body", desc := "()LWorkflowEngine$Body;" } : Jvm.MethodName)) ∈ lw_tbl := lw_at lw_m1 94 rfl
theorem q185 : (Jvm.Cond.instanceMethod ({ cls := "WorkflowEngine$Reader", name := "body", desc := "()LWorkflowEngine$Body;" } : Jvm.MethodName)) ∈ lw_all := lw_g (lw_at lw_m1 95 rfl) rfl
theorem q186 : (Jvm.Cond.code ({ cls := "WorkflowEngine$Reader", name := "body", desc := "()LWorkflowEngine$Body;" } : Jvm.MethodName) prog_23_method_11_code (2 : Nat) (Option.some (Jvm.ClassFile.FieldType.object "WorkflowEngine$Body"))) ∈ lw_all := lw_g (lw_at lw_m1 96 rfl) rfl
theorem q187 : (Jvm.Cond.classLink "WorkflowEngine$Reader" (61 : Nat) "WorkflowEngine$Body") ∈ lw_all := lw_g (lw_at lw_m1 97 rfl) rfl
theorem q189 : (Jvm.Cond.methodLinkNest "WorkflowEngine$Reader" (63 : Nat) ({ cls := "WorkflowEngine$Body", name := "<init>", desc := "()V" } : Jvm.MethodName) "WorkflowEngine") ∈ lw_tbl := lw_at lw_m1 99 rfl
theorem q221 : (Jvm.Cond.fieldLinkNest "WorkflowEngine$Reader" (64 : Nat) "WorkflowEngine$Body" "items" "Ljava/util/ArrayList;" "WorkflowEngine") ∈ lw_tbl := lw_at lw_m1 131 rfl
theorem q225 : (Jvm.Cond.methodLink "WorkflowEngine$Reader" (68 : Nat) ({ cls := "WorkflowEngine$Reader", name := "item", desc := "()LWorkflowEngine$Node;" } : Jvm.MethodName)) ∈ lw_all := lw_g (lw_at lw_m1 135 rfl) rfl
theorem q226 : (Jvm.Cond.privateMethod ({ cls := "WorkflowEngine$Reader", name := "item", desc := "()LWorkflowEngine$Node;" } : Jvm.MethodName)) ∈ lw_tbl := lw_at lw_m1 136 rfl
theorem q227 : (Jvm.Cond.instanceMethod ({ cls := "WorkflowEngine$Reader", name := "item", desc := "()LWorkflowEngine$Node;" } : Jvm.MethodName)) ∈ lw_all := lw_g (lw_at lw_m1 137 rfl) rfl
theorem q228 : (Jvm.Cond.code ({ cls := "WorkflowEngine$Reader", name := "item", desc := "()LWorkflowEngine$Node;" } : Jvm.MethodName) prog_23_method_12_code (3 : Nat) (Option.some (Jvm.ClassFile.FieldType.object "WorkflowEngine$Node"))) ∈ lw_all := lw_g (lw_at lw_m1 138 rfl) rfl
theorem q229 : (Jvm.Cond.methodLink "WorkflowEngine$Reader" (78 : Nat) ({ cls := "WorkflowEngine$Reader", name := "isItem", desc := "()Z" } : Jvm.MethodName)) ∈ lw_all := lw_g (lw_at lw_m1 139 rfl) rfl
theorem q230 : (Jvm.Cond.privateMethod ({ cls := "WorkflowEngine$Reader", name := "isItem", desc := "()Z" } : Jvm.MethodName)) ∈ lw_tbl := lw_at lw_m1 140 rfl
theorem q231 : (Jvm.Cond.instanceMethod ({ cls := "WorkflowEngine$Reader", name := "isItem", desc := "()Z" } : Jvm.MethodName)) ∈ lw_all := lw_g (lw_at lw_m1 141 rfl) rfl
theorem q232 : (Jvm.Cond.code ({ cls := "WorkflowEngine$Reader", name := "isItem", desc := "()Z" } : Jvm.MethodName) prog_23_method_10_code (2 : Nat) (Option.some Jvm.ClassFile.FieldType.boolean)) ∈ lw_all := lw_g (lw_at lw_m1 142 rfl) rfl
theorem q233 : (Jvm.Cond.methodLink "WorkflowEngine$Reader" (34 : Nat) ({ cls := "WorkflowEngine$Reader", name := "sign", desc := "()I" } : Jvm.MethodName)) ∈ lw_all := lw_g (lw_at lw_m1 143 rfl) rfl
theorem q234 : (Jvm.Cond.privateMethod ({ cls := "WorkflowEngine$Reader", name := "sign", desc := "()I" } : Jvm.MethodName)) ∈ lw_tbl := lw_at lw_m1 144 rfl
theorem q235 : (Jvm.Cond.instanceMethod ({ cls := "WorkflowEngine$Reader", name := "sign", desc := "()I" } : Jvm.MethodName)) ∈ lw_all := lw_g (lw_at lw_m1 145 rfl) rfl
theorem q236 : (Jvm.Cond.code ({ cls := "WorkflowEngine$Reader", name := "sign", desc := "()I" } : Jvm.MethodName) prog_23_method_2_code (1 : Nat) (Option.some Jvm.ClassFile.FieldType.int)) ∈ lw_all := lw_g (lw_at lw_m1 146 rfl) rfl
theorem q237 : (Jvm.Cond.methodLink "WorkflowEngine$Reader" (42 : Nat) ({ cls := "WorkflowEngine$Reader", name := "need", desc := "(Z)V" } : Jvm.MethodName)) ∈ lw_all := lw_g (lw_at lw_m1 147 rfl) rfl
theorem q238 : (Jvm.Cond.privateMethod ({ cls := "WorkflowEngine$Reader", name := "need", desc := "(Z)V" } : Jvm.MethodName)) ∈ lw_tbl := lw_at lw_m1 148 rfl
theorem q239 : (Jvm.Cond.instanceMethod ({ cls := "WorkflowEngine$Reader", name := "need", desc := "(Z)V" } : Jvm.MethodName)) ∈ lw_all := lw_g (lw_at lw_m1 149 rfl) rfl
theorem q240 : (Jvm.Cond.code ({ cls := "WorkflowEngine$Reader", name := "need", desc := "(Z)V" } : Jvm.MethodName) prog_23_method_3_code (2 : Nat) (Option.none : Option Jvm.ClassFile.FieldType)) ∈ lw_all := lw_g (lw_at lw_m1 150 rfl) rfl
theorem q241 : (Jvm.Cond.classLink "WorkflowEngine$Reader" (26 : Nat) "WorkflowEngine$BadSign") ∈ lw_all := lw_g (lw_at lw_m1 151 rfl) rfl
theorem q280 : (Jvm.Cond.methodLink "WorkflowEngine$Reader" (28 : Nat) ({ cls := "WorkflowEngine$BadSign", name := "<init>", desc := "(I)V" } : Jvm.MethodName)) ∈ lw_all := lw_g (lw_at lw_m1 190 rfl) rfl
theorem q306 : (Jvm.Cond.methodLink "WorkflowEngine$Reader" (84 : Nat) ({ cls := "WorkflowEngine$Reader", name := "limits", desc := "(Z)V" } : Jvm.MethodName)) ∈ lw_all := lw_g (lw_at lw_m1 216 rfl) rfl
theorem q307 : (Jvm.Cond.privateMethod ({ cls := "WorkflowEngine$Reader", name := "limits", desc := "(Z)V" } : Jvm.MethodName)) ∈ lw_tbl := lw_at lw_m1 217 rfl
theorem q308 : (Jvm.Cond.instanceMethod ({ cls := "WorkflowEngine$Reader", name := "limits", desc := "(Z)V" } : Jvm.MethodName)) ∈ lw_all := lw_g (lw_at lw_m1 218 rfl) rfl
theorem q309 : (Jvm.Cond.code ({ cls := "WorkflowEngine$Reader", name := "limits", desc := "(Z)V" } : Jvm.MethodName) prog_23_method_4_code (2 : Nat) (Option.none : Option Jvm.ClassFile.FieldType)) ∈ lw_all := lw_g (lw_at lw_m1 219 rfl) rfl
theorem q310 : (Jvm.Cond.classLink "WorkflowEngine$Reader" (31 : Nat) "WorkflowEngine$TooMuch") ∈ lw_all := lw_g (lw_at lw_m1 220 rfl) rfl
theorem q319 : (Jvm.Cond.methodLink "WorkflowEngine$Reader" (33 : Nat) ({ cls := "WorkflowEngine$TooMuch", name := "<init>", desc := "(I)V" } : Jvm.MethodName)) ∈ lw_all := lw_g (lw_at lw_m1 229 rfl) rfl
theorem q329 : (Jvm.Cond.methodLink "WorkflowEngine$Reader" (87 : Nat) ({ cls := "WorkflowEngine$Reader", name := "task", desc := "(I)LWorkflowEngine$Node;" } : Jvm.MethodName)) ∈ lw_all := lw_g (lw_at lw_m1 239 rfl) rfl
theorem q330 : (Jvm.Cond.privateMethod ({ cls := "WorkflowEngine$Reader", name := "task", desc := "(I)LWorkflowEngine$Node;" } : Jvm.MethodName)) ∈ lw_tbl := lw_at lw_m2 0 rfl
theorem q331 : (Jvm.Cond.instanceMethod ({ cls := "WorkflowEngine$Reader", name := "task", desc := "(I)LWorkflowEngine$Node;" } : Jvm.MethodName)) ∈ lw_all := lw_g (lw_at lw_m2 1 rfl) rfl
theorem q332 : (Jvm.Cond.code ({ cls := "WorkflowEngine$Reader", name := "task", desc := "(I)LWorkflowEngine$Node;" } : Jvm.MethodName) prog_23_method_13_code (5 : Nat) (Option.some (Jvm.ClassFile.FieldType.object "WorkflowEngine$Node"))) ∈ lw_all := lw_g (lw_at lw_m2 2 rfl) rfl
theorem q333 : (Jvm.Cond.methodLink "WorkflowEngine$Reader" (96 : Nat) ({ cls := "WorkflowEngine$Reader", name := "code", desc := "()I" } : Jvm.MethodName)) ∈ lw_all := lw_g (lw_at lw_m2 3 rfl) rfl
theorem q334 : (Jvm.Cond.privateMethod ({ cls := "WorkflowEngine$Reader", name := "code", desc := "()I" } : Jvm.MethodName)) ∈ lw_tbl := lw_at lw_m2 4 rfl
theorem q335 : (Jvm.Cond.instanceMethod ({ cls := "WorkflowEngine$Reader", name := "code", desc := "()I" } : Jvm.MethodName)) ∈ lw_all := lw_g (lw_at lw_m2 5 rfl) rfl
theorem q336 : (Jvm.Cond.code ({ cls := "WorkflowEngine$Reader", name := "code", desc := "()I" } : Jvm.MethodName) prog_23_method_9_code (1 : Nat) (Option.some Jvm.ClassFile.FieldType.int)) ∈ lw_all := lw_g (lw_at lw_m2 6 rfl) rfl
theorem q337 : (Jvm.Cond.methodLink "WorkflowEngine$Reader" (50 : Nat) ({ cls := "WorkflowEngine$Reader", name := "takes", desc := "(II)I" } : Jvm.MethodName)) ∈ lw_all := lw_g (lw_at lw_m2 7 rfl) rfl
theorem q338 : (Jvm.Cond.privateMethod ({ cls := "WorkflowEngine$Reader", name := "takes", desc := "(II)I" } : Jvm.MethodName)) ∈ lw_tbl := lw_at lw_m2 8 rfl
theorem q339 : (Jvm.Cond.instanceMethod ({ cls := "WorkflowEngine$Reader", name := "takes", desc := "(II)I" } : Jvm.MethodName)) ∈ lw_all := lw_g (lw_at lw_m2 9 rfl) rfl
theorem q340 : (Jvm.Cond.code ({ cls := "WorkflowEngine$Reader", name := "takes", desc := "(II)I" } : Jvm.MethodName) prog_23_method_5_code (3 : Nat) (Option.some Jvm.ClassFile.FieldType.int)) ∈ lw_all := lw_g (lw_at lw_m2 10 rfl) rfl
theorem q341 : (Jvm.Cond.methodLinkNest "WorkflowEngine$Reader" (38 : Nat) ({ cls := "WorkflowEngine", name := "in", desc := "(III)Z" } : Jvm.MethodName) "WorkflowEngine") ∈ lw_tbl := lw_at lw_m2 11 rfl
theorem q342 : (Jvm.Cond.methodLink "WorkflowEngine$Reader" (54 : Nat) ({ cls := "WorkflowEngine$Reader", name := "skips", desc := "(I)Z" } : Jvm.MethodName)) ∈ lw_all := lw_g (lw_at lw_m2 12 rfl) rfl
theorem q343 : (Jvm.Cond.privateMethod ({ cls := "WorkflowEngine$Reader", name := "skips", desc := "(I)Z" } : Jvm.MethodName)) ∈ lw_tbl := lw_at lw_m2 13 rfl
theorem q344 : (Jvm.Cond.instanceMethod ({ cls := "WorkflowEngine$Reader", name := "skips", desc := "(I)Z" } : Jvm.MethodName)) ∈ lw_all := lw_g (lw_at lw_m2 14 rfl) rfl
theorem q345 : (Jvm.Cond.code ({ cls := "WorkflowEngine$Reader", name := "skips", desc := "(I)Z" } : Jvm.MethodName) prog_23_method_6_code (3 : Nat) (Option.some Jvm.ClassFile.FieldType.boolean)) ∈ lw_all := lw_g (lw_at lw_m2 15 rfl) rfl
theorem q346 : (Jvm.Cond.methodLinkNest "WorkflowEngine$Reader" (46 : Nat) ({ cls := "WorkflowEngine", name := "bit", desc := "(Z)I" } : Jvm.MethodName) "WorkflowEngine") ∈ lw_tbl := lw_at lw_m2 16 rfl
theorem q349 : (Jvm.Cond.methodLink "WorkflowEngine$Reader" (58 : Nat) ({ cls := "WorkflowEngine$Reader", name := "number", desc := "()I" } : Jvm.MethodName)) ∈ lw_all := lw_g (lw_at lw_m2 19 rfl) rfl
theorem q350 : (Jvm.Cond.privateMethod ({ cls := "WorkflowEngine$Reader", name := "number", desc := "()I" } : Jvm.MethodName)) ∈ lw_tbl := lw_at lw_m2 20 rfl
theorem q351 : (Jvm.Cond.instanceMethod ({ cls := "WorkflowEngine$Reader", name := "number", desc := "()I" } : Jvm.MethodName)) ∈ lw_all := lw_g (lw_at lw_m2 21 rfl) rfl
theorem q352 : (Jvm.Cond.code ({ cls := "WorkflowEngine$Reader", name := "number", desc := "()I" } : Jvm.MethodName) prog_23_method_7_code (3 : Nat) (Option.some Jvm.ClassFile.FieldType.int)) ∈ lw_all := lw_g (lw_at lw_m2 22 rfl) rfl
theorem q353 : (Jvm.Cond.classLink "WorkflowEngine$Reader" (110 : Nat) "WorkflowEngine$Task") ∈ lw_all := lw_g (lw_at lw_m2 23 rfl) rfl
theorem q355 : (Jvm.Cond.methodLink "WorkflowEngine$Reader" (112 : Nat) ({ cls := "WorkflowEngine$Task", name := "<init>", desc := "(IIIII)V" } : Jvm.MethodName)) ∈ lw_all := lw_g (lw_at lw_m2 25 rfl) rfl
theorem q389 : (Jvm.Cond.classLink "WorkflowEngine$Reader" (91 : Nat) "WorkflowEngine$Wait") ∈ lw_all := lw_g (lw_at lw_m2 59 rfl) rfl
theorem q391 : (Jvm.Cond.methodLink "WorkflowEngine$Reader" (93 : Nat) ({ cls := "WorkflowEngine$Wait", name := "<init>", desc := "(II)V" } : Jvm.MethodName)) ∈ lw_all := lw_g (lw_at lw_m2 61 rfl) rfl
theorem q401 : (Jvm.Cond.classLink "WorkflowEngine$Reader" (99 : Nat) "WorkflowEngine$Await") ∈ lw_all := lw_g (lw_at lw_m2 71 rfl) rfl
theorem q403 : (Jvm.Cond.methodLink "WorkflowEngine$Reader" (101 : Nat) ({ cls := "WorkflowEngine$Await", name := "<init>", desc := "(III)V" } : Jvm.MethodName)) ∈ lw_all := lw_g (lw_at lw_m2 73 rfl) rfl
theorem q417 : (Jvm.Cond.methodLink "WorkflowEngine$Reader" (104 : Nat) ({ cls := "WorkflowEngine$Reader", name := "assign", desc := "(I)LWorkflowEngine$Node;" } : Jvm.MethodName)) ∈ lw_all := lw_g (lw_at lw_m2 87 rfl) rfl
theorem q418 : (Jvm.Cond.privateMethod ({ cls := "WorkflowEngine$Reader", name := "assign", desc := "(I)LWorkflowEngine$Node;" } : Jvm.MethodName)) ∈ lw_tbl := lw_at lw_m2 88 rfl
theorem q419 : (Jvm.Cond.instanceMethod ({ cls := "WorkflowEngine$Reader", name := "assign", desc := "(I)LWorkflowEngine$Node;" } : Jvm.MethodName)) ∈ lw_all := lw_g (lw_at lw_m2 89 rfl) rfl
theorem q420 : (Jvm.Cond.code ({ cls := "WorkflowEngine$Reader", name := "assign", desc := "(I)LWorkflowEngine$Node;" } : Jvm.MethodName) prog_23_method_14_code (4 : Nat) (Option.some (Jvm.ClassFile.FieldType.object "WorkflowEngine$Node"))) ∈ lw_all := lw_g (lw_at lw_m2 90 rfl) rfl
theorem q421 : (Jvm.Cond.classLink "WorkflowEngine$Reader" (115 : Nat) "WorkflowEngine$Assign") ∈ lw_all := lw_g (lw_at lw_m2 91 rfl) rfl
theorem q423 : (Jvm.Cond.methodLink "WorkflowEngine$Reader" (117 : Nat) ({ cls := "WorkflowEngine$Reader", name := "signed", desc := "()I" } : Jvm.MethodName)) ∈ lw_all := lw_g (lw_at lw_m2 93 rfl) rfl
theorem q424 : (Jvm.Cond.privateMethod ({ cls := "WorkflowEngine$Reader", name := "signed", desc := "()I" } : Jvm.MethodName)) ∈ lw_tbl := lw_at lw_m2 94 rfl
theorem q425 : (Jvm.Cond.instanceMethod ({ cls := "WorkflowEngine$Reader", name := "signed", desc := "()I" } : Jvm.MethodName)) ∈ lw_all := lw_g (lw_at lw_m2 95 rfl) rfl
theorem q426 : (Jvm.Cond.code ({ cls := "WorkflowEngine$Reader", name := "signed", desc := "()I" } : Jvm.MethodName) prog_23_method_8_code (1 : Nat) (Option.some Jvm.ClassFile.FieldType.int)) ∈ lw_all := lw_g (lw_at lw_m2 96 rfl) rfl
theorem q427 : (Jvm.Cond.methodLink "WorkflowEngine$Reader" (120 : Nat) ({ cls := "WorkflowEngine$Assign", name := "<init>", desc := "(IIZI)V" } : Jvm.MethodName)) ∈ lw_all := lw_g (lw_at lw_m2 97 rfl) rfl
theorem q445 : (Jvm.Cond.methodLink "WorkflowEngine$Reader" (107 : Nat) ({ cls := "WorkflowEngine$Reader", name := "opened", desc := "(I)LWorkflowEngine$Node;" } : Jvm.MethodName)) ∈ lw_all := lw_g (lw_at lw_m2 115 rfl) rfl
theorem q446 : (Jvm.Cond.privateMethod ({ cls := "WorkflowEngine$Reader", name := "opened", desc := "(I)LWorkflowEngine$Node;" } : Jvm.MethodName)) ∈ lw_tbl := lw_at lw_m2 116 rfl
theorem q447 : (Jvm.Cond.instanceMethod ({ cls := "WorkflowEngine$Reader", name := "opened", desc := "(I)LWorkflowEngine$Node;" } : Jvm.MethodName)) ∈ lw_all := lw_g (lw_at lw_m2 117 rfl) rfl
theorem q448 : (Jvm.Cond.codeWith ({ cls := "WorkflowEngine$Reader", name := "opened", desc := "(I)LWorkflowEngine$Node;" } : Jvm.MethodName) prog_23_method_15_code (4 : Nat) (Option.some (Jvm.ClassFile.FieldType.object "WorkflowEngine$Node")) [((27 : Nat), (50 : Nat), (62 : Nat), (26 : Nat)), ((27 : Nat), (50 : Nat), (62 : Nat), (31 : Nat)), ((27 : Nat), (50 : Nat), (70 : Nat), (0 : Nat)), ((62 : Nat), (71 : Nat), (70 : Nat), (0 : Nat))]) ∈ lw_all := lw_g (lw_at lw_m2 118 rfl) rfl
theorem q449 : (Jvm.Cond.methodLink "WorkflowEngine$Reader" (126 : Nat) ({ cls := "WorkflowEngine$Reader", name := "choice", desc := "(I)LWorkflowEngine$Node;" } : Jvm.MethodName)) ∈ lw_all := lw_g (lw_at lw_m2 119 rfl) rfl
theorem q450 : (Jvm.Cond.privateMethod ({ cls := "WorkflowEngine$Reader", name := "choice", desc := "(I)LWorkflowEngine$Node;" } : Jvm.MethodName)) ∈ lw_tbl := lw_at lw_m2 120 rfl
theorem q451 : (Jvm.Cond.instanceMethod ({ cls := "WorkflowEngine$Reader", name := "choice", desc := "(I)LWorkflowEngine$Node;" } : Jvm.MethodName)) ∈ lw_all := lw_g (lw_at lw_m2 121 rfl) rfl
theorem q452 : (Jvm.Cond.code ({ cls := "WorkflowEngine$Reader", name := "choice", desc := "(I)LWorkflowEngine$Node;" } : Jvm.MethodName) prog_23_method_16_code (11 : Nat) (Option.some (Jvm.ClassFile.FieldType.object "WorkflowEngine$Node"))) ∈ lw_all := lw_g (lw_at lw_m2 122 rfl) rfl
theorem q453 : (Jvm.Cond.classLink "WorkflowEngine$Reader" (136 : Nat) "WorkflowEngine$Choice") ∈ lw_all := lw_g (lw_at lw_m2 123 rfl) rfl
theorem q455 : (Jvm.Cond.methodLink "WorkflowEngine$Reader" (138 : Nat) ({ cls := "WorkflowEngine$Choice", name := "<init>", desc := "(IIILWorkflowEngine$Body;LWorkflowEngine$Body;)V" } : Jvm.MethodName)) ∈ lw_all := lw_g (lw_at lw_m2 125 rfl) rfl
theorem q475 : (Jvm.Cond.methodLink "WorkflowEngine$Reader" (129 : Nat) ({ cls := "WorkflowEngine$Reader", name := "parallel", desc := "(I)LWorkflowEngine$Node;" } : Jvm.MethodName)) ∈ lw_all := lw_g (lw_at lw_m2 145 rfl) rfl
theorem q476 : (Jvm.Cond.privateMethod ({ cls := "WorkflowEngine$Reader", name := "parallel", desc := "(I)LWorkflowEngine$Node;" } : Jvm.MethodName)) ∈ lw_tbl := lw_at lw_m2 146 rfl
theorem q477 : (Jvm.Cond.instanceMethod ({ cls := "WorkflowEngine$Reader", name := "parallel", desc := "(I)LWorkflowEngine$Node;" } : Jvm.MethodName)) ∈ lw_all := lw_g (lw_at lw_m2 147 rfl) rfl
theorem q478 : (Jvm.Cond.code ({ cls := "WorkflowEngine$Reader", name := "parallel", desc := "(I)LWorkflowEngine$Node;" } : Jvm.MethodName) prog_23_method_17_code (5 : Nat) (Option.some (Jvm.ClassFile.FieldType.object "WorkflowEngine$Node"))) ∈ lw_all := lw_g (lw_at lw_m2 148 rfl) rfl
theorem q479 : (Jvm.Cond.classLink "WorkflowEngine$Reader" (73 : Nat) "java/util/ArrayList") ∈ lw_all := lw_g (lw_at lw_m2 149 rfl) rfl
theorem q480 : (Jvm.Cond.methodLink "WorkflowEngine$Reader" (141 : Nat) ({ cls := "java/util/ArrayList", name := "<init>", desc := "()V" } : Jvm.MethodName)) ∈ lw_all := lw_g (lw_at lw_m2 150 rfl) rfl
theorem q481 : (Jvm.Cond.methodLink "WorkflowEngine$Reader" (72 : Nat) ({ cls := "java/util/ArrayList", name := "add", desc := "(Ljava/lang/Object;)Z" } : Jvm.MethodName)) ∈ lw_all := lw_g (lw_at lw_m2 151 rfl) rfl
theorem q533 : (Jvm.Cond.selects "WorkflowEngine$Reader" ({ cls := "java/lang/Object", name := "getClass", desc := "()Ljava/lang/Class;" } : Jvm.MethodName) ({ cls := "java/lang/Object", name := "getClass", desc := "()Ljava/lang/Class;" } : Jvm.MethodName)) ∈ lw_all := lw_g (lw_at lw_m2 203 rfl) rfl
theorem q559 : (Jvm.Cond.methodLink "WorkflowEngine$Reader" (142 : Nat) ({ cls := "java/util/ArrayList", name := "size", desc := "()I" } : Jvm.MethodName)) ∈ lw_all := lw_g (lw_at lw_m2 229 rfl) rfl
theorem q563 : (Jvm.Cond.classLink "WorkflowEngine$Reader" (145 : Nat) "WorkflowEngine$Parallel") ∈ lw_all := lw_g (lw_at lw_m2 233 rfl) rfl
theorem q565 : (Jvm.Cond.methodLink "WorkflowEngine$Reader" (147 : Nat) ({ cls := "WorkflowEngine$Parallel", name := "<init>", desc := "(ILjava/util/ArrayList;I)V" } : Jvm.MethodName)) ∈ lw_all := lw_g (lw_at lw_m2 235 rfl) rfl
theorem q762 : (Jvm.Cond.fieldLinkNest "WorkflowEngine$Reader" (22 : Nat) "WorkflowEngine" "tape" "[B" "WorkflowEngine") ∈ lw_tbl := lw_at lw_m3 192 rfl
theorem q764 : (Jvm.Cond.fieldLinkNest "WorkflowEngine$Reader" (19 : Nat) "WorkflowEngine" "taped" "I" "WorkflowEngine") ∈ lw_tbl := lw_at lw_m3 194 rfl
theorem q2009 : (Jvm.Cond.castable "WorkflowEngine$Reader" "java/lang/Object") ∈ lw_tbl := lw_at lw_m8 239 rfl
theorem in_X4 : ∀ w ∈ wsX40, w ∈ lw_all := lw_in wsX40 [170, 172, 174, 176] (by decide +kernel) (by decide +kernel)
def RX5 : String := "WorkflowEngine$Body"
def TX5 : u_T := fun k => match k with
  | _ => ("WorkflowEngine$Body", "items", "Ljava/util/ArrayList;", true)
def tyX5 : Nat → FieldType := fun k => match k with
  | _ => .object "java/util/ArrayList"
abbrev wsX50 : List Cond := u_ws RX5 TX5 1
theorem nmX5 : ∀ a, a < 1 → ∀ b, b < 1 → a ≠ b → (TX5 a).2.1 ≠ (TX5 b).2.1 := by decide +kernel
theorem tyX5_ok : ∀ k, k < 1 → parseFieldDescriptor (TX5 k).2.2.1 = some (tyX5 k) := by decide +kernel
abbrev cX5_init : ByteArray := prog_7_method_1_code
def yX5_init : MethodName := ⟨RX5, "<init>", "()V"⟩
abbrev cX5_items : ByteArray := prog_7_method_4_code
def yX5_items : MethodName := ⟨RX5, "items", "()I"⟩
abbrev cX5_tasks : ByteArray := prog_7_method_5_code
def yX5_tasks : MethodName := ⟨RX5, "tasks", "()I"⟩
abbrev cX5_depth : ByteArray := prog_7_method_3_code
def yX5_depth : MethodName := ⟨RX5, "depth", "()I"⟩
abbrev cX5_width : ByteArray := prog_7_method_2_code
def yX5_width : MethodName := ⟨RX5, "width", "()I"⟩
theorem q96 : (Jvm.Cond.initialized "WorkflowEngine$Body") ∈ lw_all := lw_g (lw_at lw_m1 6 rfl) rfl
theorem q188 : (Jvm.Cond.instantiable "WorkflowEngine$Body" (1 : Nat)) ∈ lw_all := lw_g (lw_at lw_m1 98 rfl) rfl
theorem q190 : (Jvm.Cond.instanceMethod ({ cls := "WorkflowEngine$Body", name := "<init>", desc := "()V" } : Jvm.MethodName)) ∈ lw_all := lw_g (lw_at lw_m1 100 rfl) rfl
theorem q191 : (Jvm.Cond.code ({ cls := "WorkflowEngine$Body", name := "<init>", desc := "()V" } : Jvm.MethodName) prog_7_method_1_code (1 : Nat) (Option.none : Option Jvm.ClassFile.FieldType)) ∈ lw_all := lw_g (lw_at lw_m1 101 rfl) rfl
theorem q192 : (Jvm.Cond.methodLink "WorkflowEngine$Body" (1 : Nat) ({ cls := "java/lang/Object", name := "<init>", desc := "()V" } : Jvm.MethodName)) ∈ lw_all := lw_g (lw_at lw_m1 102 rfl) rfl
theorem q193 : (Jvm.Cond.classLink "WorkflowEngine$Body" (7 : Nat) "java/util/ArrayList") ∈ lw_all := lw_g (lw_at lw_m1 103 rfl) rfl
theorem q195 : (Jvm.Cond.methodLink "WorkflowEngine$Body" (9 : Nat) ({ cls := "java/util/ArrayList", name := "<init>", desc := "()V" } : Jvm.MethodName)) ∈ lw_all := lw_g (lw_at lw_m1 105 rfl) rfl
theorem q219 : (Jvm.Cond.fieldLink "WorkflowEngine$Body" (10 : Nat) "WorkflowEngine$Body" "items" "Ljava/util/ArrayList;") ∈ lw_all := lw_g (lw_at lw_m1 129 rfl) rfl
theorem q222 : (Jvm.Cond.laysFinal "WorkflowEngine$Body" "WorkflowEngine$Body" "items" "Ljava/util/ArrayList;") ∈ lw_all := lw_g (lw_at lw_m1 132 rfl) rfl
theorem q223 : (Jvm.Cond.soleField "WorkflowEngine$Body" "items") ∈ lw_all := lw_g (lw_at lw_m1 133 rfl) rfl
theorem q224 : (Jvm.Cond.superclass "WorkflowEngine$Body" "java/lang/Object") ∈ lw_all := lw_g (lw_at lw_m1 134 rfl) rfl
theorem q462 : (Jvm.Cond.fieldLinkNest "WorkflowEngine$Body" (40 : Nat) "WorkflowEngine$Choice" "less" "LWorkflowEngine$Body;" "WorkflowEngine") ∈ lw_tbl := lw_at lw_m2 132 rfl
theorem q464 : (Jvm.Cond.fieldLinkNest "WorkflowEngine$Body" (46 : Nat) "WorkflowEngine$Choice" "other" "LWorkflowEngine$Body;" "WorkflowEngine") ∈ lw_tbl := lw_at lw_m2 134 rfl
theorem q519 : (Jvm.Cond.selects "WorkflowEngine$Body" ({ cls := "java/lang/Object", name := "getClass", desc := "()Ljava/lang/Class;" } : Jvm.MethodName) ({ cls := "java/lang/Object", name := "getClass", desc := "()Ljava/lang/Class;" } : Jvm.MethodName)) ∈ lw_all := lw_g (lw_at lw_m2 189 rfl) rfl
theorem q571 : (Jvm.Cond.fieldLinkNest "WorkflowEngine$Body" (51 : Nat) "WorkflowEngine$Parallel" "bodies" "Ljava/util/ArrayList;" "WorkflowEngine") ∈ lw_tbl := lw_at lw_m3 1 rfl
theorem q632 : (Jvm.Cond.instanceMethod ({ cls := "WorkflowEngine$Body", name := "items", desc := "()I" } : Jvm.MethodName)) ∈ lw_all := lw_g (lw_at lw_m3 62 rfl) rfl
theorem q633 : (Jvm.Cond.selects "WorkflowEngine$Body" ({ cls := "WorkflowEngine$Body", name := "items", desc := "()I" } : Jvm.MethodName) ({ cls := "WorkflowEngine$Body", name := "items", desc := "()I" } : Jvm.MethodName)) ∈ lw_all := lw_g (lw_at lw_m3 63 rfl) rfl
theorem q634 : (Jvm.Cond.code ({ cls := "WorkflowEngine$Body", name := "items", desc := "()I" } : Jvm.MethodName) prog_7_method_4_code (7 : Nat) (Option.some Jvm.ClassFile.FieldType.int)) ∈ lw_all := lw_g (lw_at lw_m3 64 rfl) rfl
theorem q635 : (Jvm.Cond.methodLink "WorkflowEngine$Body" (16 : Nat) ({ cls := "java/util/ArrayList", name := "size", desc := "()I" } : Jvm.MethodName)) ∈ lw_all := lw_g (lw_at lw_m3 65 rfl) rfl
theorem q636 : (Jvm.Cond.methodLink "WorkflowEngine$Body" (20 : Nat) ({ cls := "java/util/ArrayList", name := "get", desc := "(I)Ljava/lang/Object;" } : Jvm.MethodName)) ∈ lw_all := lw_g (lw_at lw_m3 66 rfl) rfl
theorem q650 : (Jvm.Cond.classLink "WorkflowEngine$Body" (24 : Nat) "WorkflowEngine$Node") ∈ lw_all := lw_g (lw_at lw_m3 80 rfl) rfl
theorem q651 : (Jvm.Cond.classLink "WorkflowEngine$Body" (38 : Nat) "WorkflowEngine$Choice") ∈ lw_all := lw_g (lw_at lw_m3 81 rfl) rfl
theorem q652 : (Jvm.Cond.methodLink "WorkflowEngine$Body" (44 : Nat) ({ cls := "WorkflowEngine$Body", name := "items", desc := "()I" } : Jvm.MethodName)) ∈ lw_all := lw_g (lw_at lw_m3 82 rfl) rfl
theorem q653 : (Jvm.Cond.classLink "WorkflowEngine$Body" (49 : Nat) "WorkflowEngine$Parallel") ∈ lw_all := lw_g (lw_at lw_m3 83 rfl) rfl
theorem q654 : (Jvm.Cond.classLink "WorkflowEngine$Body" (11 : Nat) "WorkflowEngine$Body") ∈ lw_all := lw_g (lw_at lw_m3 84 rfl) rfl
theorem q656 : (Jvm.Cond.instanceMethod ({ cls := "WorkflowEngine$Body", name := "tasks", desc := "()I" } : Jvm.MethodName)) ∈ lw_all := lw_g (lw_at lw_m3 86 rfl) rfl
theorem q657 : (Jvm.Cond.selects "WorkflowEngine$Body" ({ cls := "WorkflowEngine$Body", name := "tasks", desc := "()I" } : Jvm.MethodName) ({ cls := "WorkflowEngine$Body", name := "tasks", desc := "()I" } : Jvm.MethodName)) ∈ lw_all := lw_g (lw_at lw_m3 87 rfl) rfl
theorem q658 : (Jvm.Cond.code ({ cls := "WorkflowEngine$Body", name := "tasks", desc := "()I" } : Jvm.MethodName) prog_7_method_5_code (7 : Nat) (Option.some Jvm.ClassFile.FieldType.int)) ∈ lw_all := lw_g (lw_at lw_m3 88 rfl) rfl
theorem q659 : (Jvm.Cond.classLink "WorkflowEngine$Body" (54 : Nat) "WorkflowEngine$Task") ∈ lw_all := lw_g (lw_at lw_m3 89 rfl) rfl
theorem q660 : (Jvm.Cond.methodLinkNest "WorkflowEngine$Body" (56 : Nat) ({ cls := "WorkflowEngine", name := "bit", desc := "(Z)I" } : Jvm.MethodName) "WorkflowEngine") ∈ lw_tbl := lw_at lw_m3 90 rfl
theorem q661 : (Jvm.Cond.methodLink "WorkflowEngine$Body" (62 : Nat) ({ cls := "WorkflowEngine$Body", name := "tasks", desc := "()I" } : Jvm.MethodName)) ∈ lw_all := lw_g (lw_at lw_m3 91 rfl) rfl
theorem q663 : (Jvm.Cond.instanceMethod ({ cls := "WorkflowEngine$Body", name := "depth", desc := "()I" } : Jvm.MethodName)) ∈ lw_all := lw_g (lw_at lw_m3 93 rfl) rfl
theorem q664 : (Jvm.Cond.selects "WorkflowEngine$Body" ({ cls := "WorkflowEngine$Body", name := "depth", desc := "()I" } : Jvm.MethodName) ({ cls := "WorkflowEngine$Body", name := "depth", desc := "()I" } : Jvm.MethodName)) ∈ lw_all := lw_g (lw_at lw_m3 94 rfl) rfl
theorem q665 : (Jvm.Cond.code ({ cls := "WorkflowEngine$Body", name := "depth", desc := "()I" } : Jvm.MethodName) prog_7_method_3_code (3 : Nat) (Option.some Jvm.ClassFile.FieldType.int)) ∈ lw_all := lw_g (lw_at lw_m3 95 rfl) rfl
theorem q666 : (Jvm.Cond.methodLink "WorkflowEngine$Body" (35 : Nat) ({ cls := "WorkflowEngine$Node", name := "depth", desc := "()I" } : Jvm.MethodName)) ∈ lw_all := lw_g (lw_at lw_m3 96 rfl) rfl
theorem q687 : (Jvm.Cond.methodLink "WorkflowEngine$Body" (29 : Nat) ({ cls := "java/lang/Math", name := "max", desc := "(II)I" } : Jvm.MethodName)) ∈ lw_all := lw_g (lw_at lw_m3 117 rfl) rfl
theorem q689 : (Jvm.Cond.instanceMethod ({ cls := "WorkflowEngine$Body", name := "width", desc := "()I" } : Jvm.MethodName)) ∈ lw_all := lw_g (lw_at lw_m3 119 rfl) rfl
theorem q690 : (Jvm.Cond.selects "WorkflowEngine$Body" ({ cls := "WorkflowEngine$Body", name := "width", desc := "()I" } : Jvm.MethodName) ({ cls := "WorkflowEngine$Body", name := "width", desc := "()I" } : Jvm.MethodName)) ∈ lw_all := lw_g (lw_at lw_m3 120 rfl) rfl
theorem q691 : (Jvm.Cond.code ({ cls := "WorkflowEngine$Body", name := "width", desc := "()I" } : Jvm.MethodName) prog_7_method_2_code (3 : Nat) (Option.some Jvm.ClassFile.FieldType.int)) ∈ lw_all := lw_g (lw_at lw_m3 121 rfl) rfl
theorem q692 : (Jvm.Cond.methodLink "WorkflowEngine$Body" (26 : Nat) ({ cls := "WorkflowEngine$Node", name := "width", desc := "()I" } : Jvm.MethodName)) ∈ lw_all := lw_g (lw_at lw_m3 122 rfl) rfl
theorem q2010 : (Jvm.Cond.castable "WorkflowEngine$Body" "java/lang/Object") ∈ lw_tbl := lw_at lw_m9 0 rfl
theorem in_X5 : ∀ w ∈ wsX50, w ∈ lw_all := lw_in wsX50 [222] (by decide +kernel) (by decide +kernel)
def RX6 : String := "WorkflowEngine$BadSign"
def TX6 : u_T := fun k => match k with
  | 0 => ("java/lang/Throwable", "cause", "Ljava/lang/Throwable;", false)
  | 1 => ("java/lang/Throwable", "stackTrace", "[Ljava/lang/StackTraceElement;", false)
  | 2 => ("java/lang/Throwable", "suppressedExceptions", "Ljava/util/List;", false)
  | 3 => ("java/lang/Throwable", "detailMessage", "Ljava/lang/String;", false)
  | 4 => ("java/lang/Throwable", "backtrace", "Ljava/lang/Object;", false)
  | 5 => ("java/lang/Throwable", "depth", "I", false)
  | _ => ("WorkflowEngine$BadSign", "place", "I", true)
def tyX6 : Nat → FieldType := fun k => match k with
  | 0 => .object "java/lang/Throwable"
  | 1 => .array (.object "java/lang/StackTraceElement")
  | 2 => .object "java/util/List"
  | 3 => .object "java/lang/String"
  | 4 => .object "java/lang/Object"
  | 5 => .int
  | _ => .int
abbrev wsX60 : List Cond := u_ws RX6 TX6 7
theorem nmX6 : ∀ a, a < 7 → ∀ b, b < 7 → a ≠ b → (TX6 a).2.1 ≠ (TX6 b).2.1 := by decide +kernel
theorem tyX6_ok : ∀ k, k < 7 → parseFieldDescriptor (TX6 k).2.2.1 = some (tyX6 k) := by decide +kernel
abbrev cX6_init : ByteArray := prog_6_method_1_code
def yX6_init : MethodName := ⟨RX6, "<init>", "(I)V"⟩
theorem q102 : (Jvm.Cond.initialized "WorkflowEngine$BadSign") ∈ lw_all := lw_g (lw_at lw_m1 12 rfl) rfl
theorem q242 : (Jvm.Cond.instantiable "WorkflowEngine$BadSign" (7 : Nat)) ∈ lw_all := lw_g (lw_at lw_m1 152 rfl) rfl
theorem q243 : (Jvm.Cond.castable "WorkflowEngine$BadSign" "WorkflowEngine$BadSign") ∈ lw_tbl := lw_at lw_m1 153 rfl
theorem q248 : (Jvm.Cond.selects "WorkflowEngine$BadSign" ({ cls := "java/lang/Throwable", name := "fillInStackTrace", desc := "(I)Ljava/lang/Throwable;" } : Jvm.MethodName) ({ cls := "java/lang/Throwable", name := "fillInStackTrace", desc := "(I)Ljava/lang/Throwable;" } : Jvm.MethodName)) ∈ lw_all := lw_g (lw_at lw_m1 158 rfl) rfl
theorem q249 : (Jvm.Cond.selects "WorkflowEngine$BadSign" ({ cls := "java/lang/Throwable", name := "fillInStackTrace", desc := "()Ljava/lang/Throwable;" } : Jvm.MethodName) ({ cls := "java/lang/Throwable", name := "fillInStackTrace", desc := "()Ljava/lang/Throwable;" } : Jvm.MethodName)) ∈ lw_all := lw_g (lw_at lw_m1 159 rfl) rfl
theorem q250 : (Jvm.Cond.lays "WorkflowEngine$BadSign" "java/lang/Throwable" "cause" "Ljava/lang/Throwable;") ∈ lw_all := lw_g (lw_at lw_m1 160 rfl) rfl
theorem q252 : (Jvm.Cond.lays "WorkflowEngine$BadSign" "java/lang/Throwable" "stackTrace" "[Ljava/lang/StackTraceElement;") ∈ lw_all := lw_g (lw_at lw_m1 162 rfl) rfl
theorem q254 : (Jvm.Cond.lays "WorkflowEngine$BadSign" "java/lang/Throwable" "suppressedExceptions" "Ljava/util/List;") ∈ lw_all := lw_g (lw_at lw_m1 164 rfl) rfl
theorem q256 : (Jvm.Cond.lays "WorkflowEngine$BadSign" "java/lang/Throwable" "detailMessage" "Ljava/lang/String;") ∈ lw_all := lw_g (lw_at lw_m1 166 rfl) rfl
theorem q258 : (Jvm.Cond.lays "WorkflowEngine$BadSign" "java/lang/Throwable" "backtrace" "Ljava/lang/Object;") ∈ lw_all := lw_g (lw_at lw_m1 168 rfl) rfl
theorem q281 : (Jvm.Cond.instanceMethod ({ cls := "WorkflowEngine$BadSign", name := "<init>", desc := "(I)V" } : Jvm.MethodName)) ∈ lw_all := lw_g (lw_at lw_m1 191 rfl) rfl
theorem q282 : (Jvm.Cond.code ({ cls := "WorkflowEngine$BadSign", name := "<init>", desc := "(I)V" } : Jvm.MethodName) prog_6_method_1_code (2 : Nat) (Option.none : Option Jvm.ClassFile.FieldType)) ∈ lw_all := lw_g (lw_at lw_m1 192 rfl) rfl
theorem q283 : (Jvm.Cond.methodLink "WorkflowEngine$BadSign" (1 : Nat) ({ cls := "java/lang/Exception", name := "<init>", desc := "(Ljava/lang/String;Ljava/lang/Throwable;ZZ)V" } : Jvm.MethodName)) ∈ lw_all := lw_g (lw_at lw_m1 193 rfl) rfl
theorem q289 : (Jvm.Cond.fieldLink "WorkflowEngine$BadSign" (7 : Nat) "WorkflowEngine$BadSign" "place" "I") ∈ lw_all := lw_g (lw_at lw_m1 199 rfl) rfl
theorem q296 : (Jvm.Cond.laysFinal "WorkflowEngine$BadSign" "WorkflowEngine$BadSign" "place" "I") ∈ lw_all := lw_g (lw_at lw_m1 206 rfl) rfl
theorem q297 : (Jvm.Cond.soleField "WorkflowEngine$BadSign" "place") ∈ lw_all := lw_g (lw_at lw_m1 207 rfl) rfl
theorem q302 : (Jvm.Cond.lays "WorkflowEngine$BadSign" "java/lang/Throwable" "depth" "I") ∈ lw_all := lw_g (lw_at lw_m1 212 rfl) rfl
theorem q305 : (Jvm.Cond.superclass "WorkflowEngine$BadSign" "java/lang/Exception") ∈ lw_all := lw_g (lw_at lw_m1 215 rfl) rfl
theorem q518 : (Jvm.Cond.selects "WorkflowEngine$BadSign" ({ cls := "java/lang/Object", name := "getClass", desc := "()Ljava/lang/Class;" } : Jvm.MethodName) ({ cls := "java/lang/Object", name := "getClass", desc := "()Ljava/lang/Class;" } : Jvm.MethodName)) ∈ lw_all := lw_g (lw_at lw_m2 188 rfl) rfl
theorem q2012 : (Jvm.Cond.castable "WorkflowEngine$BadSign" "java/lang/Object") ∈ lw_tbl := lw_at lw_m9 2 rfl
theorem in_X6 : ∀ w ∈ wsX60, w ∈ lw_all := lw_in wsX60 [250, 252, 254, 256, 258, 302, 296] (by decide +kernel) (by decide +kernel)
def RX7 : String := "WorkflowEngine$TooMuch"
def TX7 : u_T := fun k => match k with
  | 0 => ("java/lang/Throwable", "cause", "Ljava/lang/Throwable;", false)
  | 1 => ("java/lang/Throwable", "stackTrace", "[Ljava/lang/StackTraceElement;", false)
  | 2 => ("java/lang/Throwable", "suppressedExceptions", "Ljava/util/List;", false)
  | 3 => ("java/lang/Throwable", "detailMessage", "Ljava/lang/String;", false)
  | 4 => ("java/lang/Throwable", "backtrace", "Ljava/lang/Object;", false)
  | 5 => ("java/lang/Throwable", "depth", "I", false)
  | _ => ("WorkflowEngine$TooMuch", "place", "I", true)
def tyX7 : Nat → FieldType := fun k => match k with
  | 0 => .object "java/lang/Throwable"
  | 1 => .array (.object "java/lang/StackTraceElement")
  | 2 => .object "java/util/List"
  | 3 => .object "java/lang/String"
  | 4 => .object "java/lang/Object"
  | 5 => .int
  | _ => .int
abbrev wsX70 : List Cond := u_ws RX7 TX7 7
theorem nmX7 : ∀ a, a < 7 → ∀ b, b < 7 → a ≠ b → (TX7 a).2.1 ≠ (TX7 b).2.1 := by decide +kernel
theorem tyX7_ok : ∀ k, k < 7 → parseFieldDescriptor (TX7 k).2.2.1 = some (tyX7 k) := by decide +kernel
abbrev cX7_init : ByteArray := prog_27_method_1_code
def yX7_init : MethodName := ⟨RX7, "<init>", "(I)V"⟩
theorem q103 : (Jvm.Cond.initialized "WorkflowEngine$TooMuch") ∈ lw_all := lw_g (lw_at lw_m1 13 rfl) rfl
theorem q272 : (Jvm.Cond.selects "WorkflowEngine$TooMuch" ({ cls := "java/lang/Throwable", name := "fillInStackTrace", desc := "()Ljava/lang/Throwable;" } : Jvm.MethodName) ({ cls := "java/lang/Throwable", name := "fillInStackTrace", desc := "()Ljava/lang/Throwable;" } : Jvm.MethodName)) ∈ lw_all := lw_g (lw_at lw_m1 182 rfl) rfl
theorem q311 : (Jvm.Cond.instantiable "WorkflowEngine$TooMuch" (7 : Nat)) ∈ lw_all := lw_g (lw_at lw_m1 221 rfl) rfl
theorem q312 : (Jvm.Cond.castable "WorkflowEngine$TooMuch" "WorkflowEngine$TooMuch") ∈ lw_tbl := lw_at lw_m1 222 rfl
theorem q313 : (Jvm.Cond.selects "WorkflowEngine$TooMuch" ({ cls := "java/lang/Throwable", name := "fillInStackTrace", desc := "(I)Ljava/lang/Throwable;" } : Jvm.MethodName) ({ cls := "java/lang/Throwable", name := "fillInStackTrace", desc := "(I)Ljava/lang/Throwable;" } : Jvm.MethodName)) ∈ lw_all := lw_g (lw_at lw_m1 223 rfl) rfl
theorem q314 : (Jvm.Cond.lays "WorkflowEngine$TooMuch" "java/lang/Throwable" "cause" "Ljava/lang/Throwable;") ∈ lw_all := lw_g (lw_at lw_m1 224 rfl) rfl
theorem q315 : (Jvm.Cond.lays "WorkflowEngine$TooMuch" "java/lang/Throwable" "stackTrace" "[Ljava/lang/StackTraceElement;") ∈ lw_all := lw_g (lw_at lw_m1 225 rfl) rfl
theorem q316 : (Jvm.Cond.lays "WorkflowEngine$TooMuch" "java/lang/Throwable" "suppressedExceptions" "Ljava/util/List;") ∈ lw_all := lw_g (lw_at lw_m1 226 rfl) rfl
theorem q317 : (Jvm.Cond.lays "WorkflowEngine$TooMuch" "java/lang/Throwable" "detailMessage" "Ljava/lang/String;") ∈ lw_all := lw_g (lw_at lw_m1 227 rfl) rfl
theorem q318 : (Jvm.Cond.lays "WorkflowEngine$TooMuch" "java/lang/Throwable" "backtrace" "Ljava/lang/Object;") ∈ lw_all := lw_g (lw_at lw_m1 228 rfl) rfl
theorem q320 : (Jvm.Cond.instanceMethod ({ cls := "WorkflowEngine$TooMuch", name := "<init>", desc := "(I)V" } : Jvm.MethodName)) ∈ lw_all := lw_g (lw_at lw_m1 230 rfl) rfl
theorem q321 : (Jvm.Cond.code ({ cls := "WorkflowEngine$TooMuch", name := "<init>", desc := "(I)V" } : Jvm.MethodName) prog_27_method_1_code (2 : Nat) (Option.none : Option Jvm.ClassFile.FieldType)) ∈ lw_all := lw_g (lw_at lw_m1 231 rfl) rfl
theorem q322 : (Jvm.Cond.methodLink "WorkflowEngine$TooMuch" (1 : Nat) ({ cls := "java/lang/Exception", name := "<init>", desc := "(Ljava/lang/String;Ljava/lang/Throwable;ZZ)V" } : Jvm.MethodName)) ∈ lw_all := lw_g (lw_at lw_m1 232 rfl) rfl
theorem q323 : (Jvm.Cond.fieldLink "WorkflowEngine$TooMuch" (7 : Nat) "WorkflowEngine$TooMuch" "place" "I") ∈ lw_all := lw_g (lw_at lw_m1 233 rfl) rfl
theorem q325 : (Jvm.Cond.laysFinal "WorkflowEngine$TooMuch" "WorkflowEngine$TooMuch" "place" "I") ∈ lw_all := lw_g (lw_at lw_m1 235 rfl) rfl
theorem q326 : (Jvm.Cond.soleField "WorkflowEngine$TooMuch" "place") ∈ lw_all := lw_g (lw_at lw_m1 236 rfl) rfl
theorem q327 : (Jvm.Cond.lays "WorkflowEngine$TooMuch" "java/lang/Throwable" "depth" "I") ∈ lw_all := lw_g (lw_at lw_m1 237 rfl) rfl
theorem q328 : (Jvm.Cond.superclass "WorkflowEngine$TooMuch" "java/lang/Exception") ∈ lw_all := lw_g (lw_at lw_m1 238 rfl) rfl
theorem q536 : (Jvm.Cond.selects "WorkflowEngine$TooMuch" ({ cls := "java/lang/Object", name := "getClass", desc := "()Ljava/lang/Class;" } : Jvm.MethodName) ({ cls := "java/lang/Object", name := "getClass", desc := "()Ljava/lang/Class;" } : Jvm.MethodName)) ∈ lw_all := lw_g (lw_at lw_m2 206 rfl) rfl
theorem q2013 : (Jvm.Cond.castable "WorkflowEngine$TooMuch" "java/lang/Object") ∈ lw_tbl := lw_at lw_m9 3 rfl
theorem in_X7 : ∀ w ∈ wsX70, w ∈ lw_all := lw_in wsX70 [314, 315, 316, 317, 318, 327, 325] (by decide +kernel) (by decide +kernel)
def RX8 : String := "WorkflowEngine$Node"
abbrev cX8_init : ByteArray := prog_15_method_1_code
def yX8_init : MethodName := ⟨RX8, "<init>", "(I)V"⟩
abbrev cX8_depth : ByteArray := prog_15_method_4_code
def yX8_depth : MethodName := ⟨RX8, "depth", "()I"⟩
abbrev cX8_width : ByteArray := prog_15_method_3_code
def yX8_width : MethodName := ⟨RX8, "width", "()I"⟩
theorem q104 : (Jvm.Cond.initialized "WorkflowEngine$Node") ∈ lw_all := lw_g (lw_at lw_m1 14 rfl) rfl
theorem q359 : (Jvm.Cond.instanceMethod ({ cls := "WorkflowEngine$Node", name := "<init>", desc := "(I)V" } : Jvm.MethodName)) ∈ lw_all := lw_g (lw_at lw_m2 29 rfl) rfl
theorem q360 : (Jvm.Cond.code ({ cls := "WorkflowEngine$Node", name := "<init>", desc := "(I)V" } : Jvm.MethodName) prog_15_method_1_code (2 : Nat) (Option.none : Option Jvm.ClassFile.FieldType)) ∈ lw_all := lw_g (lw_at lw_m2 30 rfl) rfl
theorem q361 : (Jvm.Cond.methodLink "WorkflowEngine$Node" (1 : Nat) ({ cls := "java/lang/Object", name := "<init>", desc := "()V" } : Jvm.MethodName)) ∈ lw_all := lw_g (lw_at lw_m2 31 rfl) rfl
theorem q371 : (Jvm.Cond.fieldLink "WorkflowEngine$Node" (7 : Nat) "WorkflowEngine$Node" "place" "I") ∈ lw_all := lw_g (lw_at lw_m2 41 rfl) rfl
theorem q387 : (Jvm.Cond.soleField "WorkflowEngine$Node" "place") ∈ lw_all := lw_g (lw_at lw_m2 57 rfl) rfl
theorem q667 : (Jvm.Cond.instanceMethod ({ cls := "WorkflowEngine$Node", name := "depth", desc := "()I" } : Jvm.MethodName)) ∈ lw_all := lw_g (lw_at lw_m3 97 rfl) rfl
theorem q668 : (Jvm.Cond.sameMethod "WorkflowEngine$Node" "WorkflowEngine$Node" "depth" "()I") ∈ lw_all := lw_g (lw_at lw_m3 98 rfl) rfl
theorem q686 : (Jvm.Cond.code ({ cls := "WorkflowEngine$Node", name := "depth", desc := "()I" } : Jvm.MethodName) prog_15_method_4_code (1 : Nat) (Option.some Jvm.ClassFile.FieldType.int)) ∈ lw_all := lw_g (lw_at lw_m3 116 rfl) rfl
theorem q693 : (Jvm.Cond.instanceMethod ({ cls := "WorkflowEngine$Node", name := "width", desc := "()I" } : Jvm.MethodName)) ∈ lw_all := lw_g (lw_at lw_m3 123 rfl) rfl
theorem q694 : (Jvm.Cond.sameMethod "WorkflowEngine$Node" "WorkflowEngine$Node" "width" "()I") ∈ lw_all := lw_g (lw_at lw_m3 124 rfl) rfl
theorem q707 : (Jvm.Cond.code ({ cls := "WorkflowEngine$Node", name := "width", desc := "()I" } : Jvm.MethodName) prog_15_method_3_code (1 : Nat) (Option.some Jvm.ClassFile.FieldType.int)) ∈ lw_all := lw_g (lw_at lw_m3 137 rfl) rfl
theorem q965 : (Jvm.Cond.declares ({ cls := "WorkflowEngine$Node", name := "begins", desc := "(LWorkflowEngine$Instance;)LWorkflowEngine$Run;" } : Jvm.MethodName)) ∈ lw_tbl := lw_at lw_m4 155 rfl
theorem q966 : (Jvm.Cond.sameMethod "WorkflowEngine$Node" "WorkflowEngine$Node" "begins" "(LWorkflowEngine$Instance;)LWorkflowEngine$Run;") ∈ lw_all := lw_g (lw_at lw_m4 156 rfl) rfl
def RX9 : String := "WorkflowEngine$Task"
def TX9 : u_T := fun k => match k with
  | 0 => ("WorkflowEngine$Node", "place", "I", true)
  | 1 => ("WorkflowEngine$Task", "code", "I", true)
  | 2 => ("WorkflowEngine$Task", "retries", "I", true)
  | 3 => ("WorkflowEngine$Task", "delay", "I", true)
  | _ => ("WorkflowEngine$Task", "undo", "I", true)
def tyX9 : Nat → FieldType := fun k => match k with
  | 0 => .int
  | 1 => .int
  | 2 => .int
  | 3 => .int
  | _ => .int
abbrev wsX90 : List Cond := u_ws RX9 TX9 5
theorem nmX9 : ∀ a, a < 5 → ∀ b, b < 5 → a ≠ b → (TX9 a).2.1 ≠ (TX9 b).2.1 := by decide +kernel
theorem tyX9_ok : ∀ k, k < 5 → parseFieldDescriptor (TX9 k).2.2.1 = some (tyX9 k) := by decide +kernel
abbrev cX9_init : ByteArray := prog_25_method_1_code
def yX9_init : MethodName := ⟨RX9, "<init>", "(IIIII)V"⟩
abbrev cX9_begins : ByteArray := prog_25_method_2_code
def yX9_begins : MethodName := ⟨RX9, "begins", "(LWorkflowEngine$Instance;)LWorkflowEngine$Run;"⟩
theorem q105 : (Jvm.Cond.initialized "WorkflowEngine$Task") ∈ lw_all := lw_g (lw_at lw_m1 15 rfl) rfl
theorem q354 : (Jvm.Cond.instantiable "WorkflowEngine$Task" (5 : Nat)) ∈ lw_all := lw_g (lw_at lw_m2 24 rfl) rfl
theorem q356 : (Jvm.Cond.instanceMethod ({ cls := "WorkflowEngine$Task", name := "<init>", desc := "(IIIII)V" } : Jvm.MethodName)) ∈ lw_all := lw_g (lw_at lw_m2 26 rfl) rfl
theorem q357 : (Jvm.Cond.code ({ cls := "WorkflowEngine$Task", name := "<init>", desc := "(IIIII)V" } : Jvm.MethodName) prog_25_method_1_code (6 : Nat) (Option.none : Option Jvm.ClassFile.FieldType)) ∈ lw_all := lw_g (lw_at lw_m2 27 rfl) rfl
theorem q358 : (Jvm.Cond.methodLink "WorkflowEngine$Task" (1 : Nat) ({ cls := "WorkflowEngine$Node", name := "<init>", desc := "(I)V" } : Jvm.MethodName)) ∈ lw_all := lw_g (lw_at lw_m2 28 rfl) rfl
theorem q362 : (Jvm.Cond.fieldLink "WorkflowEngine$Task" (7 : Nat) "WorkflowEngine$Task" "code" "I") ∈ lw_all := lw_g (lw_at lw_m2 32 rfl) rfl
theorem q365 : (Jvm.Cond.fieldLink "WorkflowEngine$Task" (13 : Nat) "WorkflowEngine$Task" "retries" "I") ∈ lw_all := lw_g (lw_at lw_m2 35 rfl) rfl
theorem q367 : (Jvm.Cond.fieldLink "WorkflowEngine$Task" (16 : Nat) "WorkflowEngine$Task" "delay" "I") ∈ lw_all := lw_g (lw_at lw_m2 37 rfl) rfl
theorem q369 : (Jvm.Cond.fieldLink "WorkflowEngine$Task" (19 : Nat) "WorkflowEngine$Task" "undo" "I") ∈ lw_all := lw_g (lw_at lw_m2 39 rfl) rfl
theorem q377 : (Jvm.Cond.sameField "WorkflowEngine$Task" "WorkflowEngine$Node" "place" "I") ∈ lw_all := lw_g (lw_at lw_m2 47 rfl) rfl
theorem q378 : (Jvm.Cond.laysFinal "WorkflowEngine$Task" "WorkflowEngine$Task" "code" "I") ∈ lw_all := lw_g (lw_at lw_m2 48 rfl) rfl
theorem q379 : (Jvm.Cond.soleField "WorkflowEngine$Task" "code") ∈ lw_all := lw_g (lw_at lw_m2 49 rfl) rfl
theorem q380 : (Jvm.Cond.laysFinal "WorkflowEngine$Task" "WorkflowEngine$Task" "retries" "I") ∈ lw_all := lw_g (lw_at lw_m2 50 rfl) rfl
theorem q381 : (Jvm.Cond.soleField "WorkflowEngine$Task" "retries") ∈ lw_all := lw_g (lw_at lw_m2 51 rfl) rfl
theorem q382 : (Jvm.Cond.laysFinal "WorkflowEngine$Task" "WorkflowEngine$Task" "delay" "I") ∈ lw_all := lw_g (lw_at lw_m2 52 rfl) rfl
theorem q383 : (Jvm.Cond.soleField "WorkflowEngine$Task" "delay") ∈ lw_all := lw_g (lw_at lw_m2 53 rfl) rfl
theorem q384 : (Jvm.Cond.laysFinal "WorkflowEngine$Task" "WorkflowEngine$Task" "undo" "I") ∈ lw_all := lw_g (lw_at lw_m2 54 rfl) rfl
theorem q385 : (Jvm.Cond.soleField "WorkflowEngine$Task" "undo") ∈ lw_all := lw_g (lw_at lw_m2 55 rfl) rfl
theorem q386 : (Jvm.Cond.laysFinal "WorkflowEngine$Task" "WorkflowEngine$Node" "place" "I") ∈ lw_all := lw_g (lw_at lw_m2 56 rfl) rfl
theorem q388 : (Jvm.Cond.superclass "WorkflowEngine$Task" "WorkflowEngine$Node") ∈ lw_all := lw_g (lw_at lw_m2 58 rfl) rfl
theorem q534 : (Jvm.Cond.selects "WorkflowEngine$Task" ({ cls := "java/lang/Object", name := "getClass", desc := "()Ljava/lang/Class;" } : Jvm.MethodName) ({ cls := "java/lang/Object", name := "getClass", desc := "()Ljava/lang/Class;" } : Jvm.MethodName)) ∈ lw_all := lw_g (lw_at lw_m2 204 rfl) rfl
theorem q684 : (Jvm.Cond.selects "WorkflowEngine$Task" ({ cls := "WorkflowEngine$Node", name := "depth", desc := "()I" } : Jvm.MethodName) ({ cls := "WorkflowEngine$Node", name := "depth", desc := "()I" } : Jvm.MethodName)) ∈ lw_all := lw_g (lw_at lw_m3 114 rfl) rfl
theorem q705 : (Jvm.Cond.selects "WorkflowEngine$Task" ({ cls := "WorkflowEngine$Node", name := "width", desc := "()I" } : Jvm.MethodName) ({ cls := "WorkflowEngine$Node", name := "width", desc := "()I" } : Jvm.MethodName)) ∈ lw_all := lw_g (lw_at lw_m3 135 rfl) rfl
theorem q1057 : (Jvm.Cond.selects "WorkflowEngine$Task" ({ cls := "WorkflowEngine$Node", name := "begins", desc := "(LWorkflowEngine$Instance;)LWorkflowEngine$Run;" } : Jvm.MethodName) ({ cls := "WorkflowEngine$Task", name := "begins", desc := "(LWorkflowEngine$Instance;)LWorkflowEngine$Run;" } : Jvm.MethodName)) ∈ lw_all := lw_g (lw_at lw_m5 7 rfl) rfl
theorem q1058 : (Jvm.Cond.instanceMethod ({ cls := "WorkflowEngine$Task", name := "begins", desc := "(LWorkflowEngine$Instance;)LWorkflowEngine$Run;" } : Jvm.MethodName)) ∈ lw_all := lw_g (lw_at lw_m5 8 rfl) rfl
theorem q1059 : (Jvm.Cond.code ({ cls := "WorkflowEngine$Task", name := "begins", desc := "(LWorkflowEngine$Instance;)LWorkflowEngine$Run;" } : Jvm.MethodName) prog_25_method_2_code (2 : Nat) (Option.some (Jvm.ClassFile.FieldType.object "WorkflowEngine$Run"))) ∈ lw_all := lw_g (lw_at lw_m5 9 rfl) rfl
theorem q1060 : (Jvm.Cond.classLink "WorkflowEngine$Task" (22 : Nat) "WorkflowEngine$TaskRun") ∈ lw_all := lw_g (lw_at lw_m5 10 rfl) rfl
theorem q1062 : (Jvm.Cond.methodLink "WorkflowEngine$Task" (24 : Nat) ({ cls := "WorkflowEngine$Instance", name := "engine", desc := "()LWorkflowEngine;" } : Jvm.MethodName)) ∈ lw_all := lw_g (lw_at lw_m5 12 rfl) rfl
theorem q1063 : (Jvm.Cond.methodLink "WorkflowEngine$Task" (30 : Nat) ({ cls := "java/util/Objects", name := "requireNonNull", desc := "(Ljava/lang/Object;)Ljava/lang/Object;" } : Jvm.MethodName)) ∈ lw_all := lw_g (lw_at lw_m5 13 rfl) rfl
theorem q1064 : (Jvm.Cond.methodLink "WorkflowEngine$Task" (36 : Nat) ({ cls := "WorkflowEngine$TaskRun", name := "<init>", desc := "(LWorkflowEngine;LWorkflowEngine$Instance;LWorkflowEngine$Task;)V" } : Jvm.MethodName)) ∈ lw_all := lw_g (lw_at lw_m5 14 rfl) rfl
theorem q2000 : (Jvm.Cond.castable "WorkflowEngine$Task" "WorkflowEngine$Node") ∈ lw_tbl := lw_at lw_m8 230 rfl
theorem q2014 : (Jvm.Cond.castable "WorkflowEngine$Task" "java/lang/Object") ∈ lw_tbl := lw_at lw_m9 4 rfl
theorem in_X9 : ∀ w ∈ wsX90, w ∈ lw_all := lw_in wsX90 [386, 378, 380, 382, 384] (by decide +kernel) (by decide +kernel)
theorem q90 : (Jvm.Cond.initialized "WorkflowEngineLaw") ∈ lw_all := lw_g (lw_at lw_m1 0 rfl) rfl
theorem q134 : (Jvm.Cond.methodLink "WorkflowEngineLaw" (13 : Nat) ({ cls := "WorkflowEngine", name := "feed", desc := "(I)I" } : Jvm.MethodName)) ∈ lw_all := lw_g (lw_at lw_m1 44 rfl) rfl
theorem q141 : (Jvm.Cond.methodLink "WorkflowEngineLaw" (18 : Nat) ({ cls := "WorkflowEngine", name := "define", desc := "(I)I" } : Jvm.MethodName)) ∈ lw_all := lw_g (lw_at lw_m1 51 rfl) rfl
theorem q619 : (Jvm.Cond.methodLink "WorkflowEngineLaw" (22 : Nat) ({ cls := "WorkflowEngine", name := "wrong", desc := "(I)I" } : Jvm.MethodName)) ∈ lw_all := lw_g (lw_at lw_m3 49 rfl) rfl
theorem q627 : (Jvm.Cond.methodLink "WorkflowEngineLaw" (26 : Nat) ({ cls := "WorkflowEngine", name := "version", desc := "(III)I" } : Jvm.MethodName)) ∈ lw_all := lw_g (lw_at lw_m3 57 rfl) rfl
theorem q708 : (Jvm.Cond.methodLink "WorkflowEngineLaw" (31 : Nat) ({ cls := "WorkflowEngine", name := "duration", desc := "(II)I" } : Jvm.MethodName)) ∈ lw_all := lw_g (lw_at lw_m3 138 rfl) rfl
theorem q715 : (Jvm.Cond.methodLink "WorkflowEngineLaw" (36 : Nat) ({ cls := "WorkflowEngine", name := "failures", desc := "(II)I" } : Jvm.MethodName)) ∈ lw_all := lw_g (lw_at lw_m3 145 rfl) rfl
theorem q719 : (Jvm.Cond.classLink "WorkflowEngineLaw" (7 : Nat) "WorkflowEngine") ∈ lw_all := lw_g (lw_at lw_m3 149 rfl) rfl
theorem q720 : (Jvm.Cond.methodLink "WorkflowEngineLaw" (9 : Nat) ({ cls := "WorkflowEngine", name := "<init>", desc := "()V" } : Jvm.MethodName)) ∈ lw_all := lw_g (lw_at lw_m3 150 rfl) rfl
theorem q790 : (Jvm.Cond.methodLink "WorkflowEngineLaw" (40 : Nat) ({ cls := "WorkflowEngine", name := "start", desc := "(I)I" } : Jvm.MethodName)) ∈ lw_all := lw_g (lw_at lw_m3 220 rfl) rfl
theorem q1297 : (Jvm.Cond.methodLink "WorkflowEngineLaw" (44 : Nat) ({ cls := "WorkflowEngine", name := "signal", desc := "(II)I" } : Jvm.MethodName)) ∈ lw_all := lw_g (lw_at lw_m6 7 rfl) rfl
theorem q1305 : (Jvm.Cond.methodLink "WorkflowEngineLaw" (48 : Nat) ({ cls := "WorkflowEngine", name := "abort", desc := "(I)I" } : Jvm.MethodName)) ∈ lw_all := lw_g (lw_at lw_m6 15 rfl) rfl
theorem q1310 : (Jvm.Cond.methodLink "WorkflowEngineLaw" (52 : Nat) ({ cls := "WorkflowEngine", name := "remove", desc := "(I)I" } : Jvm.MethodName)) ∈ lw_all := lw_g (lw_at lw_m6 20 rfl) rfl
theorem q1318 : (Jvm.Cond.methodLink "WorkflowEngineLaw" (56 : Nat) ({ cls := "WorkflowEngine", name := "pass", desc := "(I)I" } : Jvm.MethodName)) ∈ lw_all := lw_g (lw_at lw_m6 28 rfl) rfl
theorem q1328 : (Jvm.Cond.methodLink "WorkflowEngineLaw" (60 : Nat) ({ cls := "WorkflowEngine", name := "instance", desc := "(II)I" } : Jvm.MethodName)) ∈ lw_all := lw_g (lw_at lw_m6 38 rfl) rfl
theorem q1333 : (Jvm.Cond.methodLink "WorkflowEngineLaw" (64 : Nat) ({ cls := "WorkflowEngine", name := "entry", desc := "(III)I" } : Jvm.MethodName)) ∈ lw_all := lw_g (lw_at lw_m6 43 rfl) rfl
theorem q1338 : (Jvm.Cond.methodLink "WorkflowEngineLaw" (68 : Nat) ({ cls := "WorkflowEngine", name := "running", desc := "(II)I" } : Jvm.MethodName)) ∈ lw_all := lw_g (lw_at lw_m6 48 rfl) rfl
theorem q1385 : (Jvm.Cond.methodLink "WorkflowEngineLaw" (72 : Nat) ({ cls := "WorkflowEngine", name := "due", desc := "(I)I" } : Jvm.MethodName)) ∈ lw_all := lw_g (lw_at lw_m6 95 rfl) rfl
theorem q1421 : (Jvm.Cond.methodLink "WorkflowEngineLaw" (76 : Nat) ({ cls := "WorkflowEngine", name := "ahead", desc := "(II)I" } : Jvm.MethodName)) ∈ lw_all := lw_g (lw_at lw_m6 131 rfl) rfl
theorem q1495 : (Jvm.Cond.methodLink "WorkflowEngineLaw" (80 : Nat) ({ cls := "WorkflowEngine", name := "replayed", desc := "(II)I" } : Jvm.MethodName)) ∈ lw_all := lw_g (lw_at lw_m6 205 rfl) rfl
theorem q1504 : (Jvm.Cond.methodLink "WorkflowEngineLaw" (84 : Nat) ({ cls := "WorkflowEngine", name := "statistic", desc := "(II)I" } : Jvm.MethodName)) ∈ lw_all := lw_g (lw_at lw_m6 214 rfl) rfl
theorem q1531 : (Jvm.Cond.methodLink "WorkflowEngineLaw" (88 : Nat) ({ cls := "WorkflowEngine", name := "image", desc := "()I" } : Jvm.MethodName)) ∈ lw_all := lw_g (lw_at lw_m7 1 rfl) rfl
theorem q1571 : (Jvm.Cond.methodLink "WorkflowEngineLaw" (93 : Nat) ({ cls := "WorkflowEngine", name := "undo", desc := "()I" } : Jvm.MethodName)) ∈ lw_all := lw_g (lw_at lw_m7 41 rfl) rfl
theorem q1580 : (Jvm.Cond.methodLink "WorkflowEngineLaw" (97 : Nat) ({ cls := "WorkflowEngine", name := "count", desc := "(I)I" } : Jvm.MethodName)) ∈ lw_all := lw_g (lw_at lw_m7 50 rfl) rfl
theorem q1588 : (Jvm.Cond.classLink "WorkflowEngineLaw" (10 : Nat) "WorkflowEngineModel") ∈ lw_all := lw_g (lw_at lw_m7 58 rfl) rfl
theorem q1590 : (Jvm.Cond.methodLink "WorkflowEngineLaw" (12 : Nat) ({ cls := "WorkflowEngineModel", name := "<init>", desc := "()V" } : Jvm.MethodName)) ∈ lw_all := lw_g (lw_at lw_m7 60 rfl) rfl
theorem q1658 : (Jvm.Cond.methodLink "WorkflowEngineLaw" (17 : Nat) ({ cls := "WorkflowEngineModel", name := "feed", desc := "(I)I" } : Jvm.MethodName)) ∈ lw_all := lw_g (lw_at lw_m7 128 rfl) rfl
theorem q1665 : (Jvm.Cond.methodLink "WorkflowEngineLaw" (21 : Nat) ({ cls := "WorkflowEngineModel", name := "define", desc := "(I)I" } : Jvm.MethodName)) ∈ lw_all := lw_g (lw_at lw_m7 135 rfl) rfl
theorem q1751 : (Jvm.Cond.methodLink "WorkflowEngineLaw" (25 : Nat) ({ cls := "WorkflowEngineModel", name := "wrong", desc := "(I)I" } : Jvm.MethodName)) ∈ lw_all := lw_g (lw_at lw_m7 221 rfl) rfl
theorem q1755 : (Jvm.Cond.methodLink "WorkflowEngineLaw" (30 : Nat) ({ cls := "WorkflowEngineModel", name := "version", desc := "(III)I" } : Jvm.MethodName)) ∈ lw_all := lw_g (lw_at lw_m7 225 rfl) rfl
theorem q1779 : (Jvm.Cond.methodLink "WorkflowEngineLaw" (35 : Nat) ({ cls := "WorkflowEngineModel", name := "duration", desc := "(II)I" } : Jvm.MethodName)) ∈ lw_all := lw_g (lw_at lw_m8 9 rfl) rfl
theorem q1786 : (Jvm.Cond.methodLink "WorkflowEngineLaw" (39 : Nat) ({ cls := "WorkflowEngineModel", name := "failures", desc := "(II)I" } : Jvm.MethodName)) ∈ lw_all := lw_g (lw_at lw_m8 16 rfl) rfl
theorem q1790 : (Jvm.Cond.methodLink "WorkflowEngineLaw" (43 : Nat) ({ cls := "WorkflowEngineModel", name := "start", desc := "(I)I" } : Jvm.MethodName)) ∈ lw_all := lw_g (lw_at lw_m8 20 rfl) rfl
theorem q1896 : (Jvm.Cond.methodLink "WorkflowEngineLaw" (47 : Nat) ({ cls := "WorkflowEngineModel", name := "signal", desc := "(II)I" } : Jvm.MethodName)) ∈ lw_all := lw_g (lw_at lw_m8 126 rfl) rfl
theorem q1904 : (Jvm.Cond.methodLink "WorkflowEngineLaw" (51 : Nat) ({ cls := "WorkflowEngineModel", name := "abort", desc := "(I)I" } : Jvm.MethodName)) ∈ lw_all := lw_g (lw_at lw_m8 134 rfl) rfl
theorem q1908 : (Jvm.Cond.methodLink "WorkflowEngineLaw" (55 : Nat) ({ cls := "WorkflowEngineModel", name := "remove", desc := "(I)I" } : Jvm.MethodName)) ∈ lw_all := lw_g (lw_at lw_m8 138 rfl) rfl
theorem q1912 : (Jvm.Cond.methodLink "WorkflowEngineLaw" (59 : Nat) ({ cls := "WorkflowEngineModel", name := "pass", desc := "(I)I" } : Jvm.MethodName)) ∈ lw_all := lw_g (lw_at lw_m8 142 rfl) rfl
theorem q1921 : (Jvm.Cond.methodLink "WorkflowEngineLaw" (63 : Nat) ({ cls := "WorkflowEngineModel", name := "instance", desc := "(II)I" } : Jvm.MethodName)) ∈ lw_all := lw_g (lw_at lw_m8 151 rfl) rfl
theorem q1925 : (Jvm.Cond.methodLink "WorkflowEngineLaw" (67 : Nat) ({ cls := "WorkflowEngineModel", name := "entry", desc := "(III)I" } : Jvm.MethodName)) ∈ lw_all := lw_g (lw_at lw_m8 155 rfl) rfl
theorem q1934 : (Jvm.Cond.methodLink "WorkflowEngineLaw" (71 : Nat) ({ cls := "WorkflowEngineModel", name := "running", desc := "(II)I" } : Jvm.MethodName)) ∈ lw_all := lw_g (lw_at lw_m8 164 rfl) rfl
theorem q1942 : (Jvm.Cond.methodLink "WorkflowEngineLaw" (75 : Nat) ({ cls := "WorkflowEngineModel", name := "due", desc := "(I)I" } : Jvm.MethodName)) ∈ lw_all := lw_g (lw_at lw_m8 172 rfl) rfl
theorem q1950 : (Jvm.Cond.methodLink "WorkflowEngineLaw" (79 : Nat) ({ cls := "WorkflowEngineModel", name := "ahead", desc := "(II)I" } : Jvm.MethodName)) ∈ lw_all := lw_g (lw_at lw_m8 180 rfl) rfl
theorem q1957 : (Jvm.Cond.methodLink "WorkflowEngineLaw" (83 : Nat) ({ cls := "WorkflowEngineModel", name := "replayed", desc := "(II)I" } : Jvm.MethodName)) ∈ lw_all := lw_g (lw_at lw_m8 187 rfl) rfl
theorem q1965 : (Jvm.Cond.methodLink "WorkflowEngineLaw" (87 : Nat) ({ cls := "WorkflowEngineModel", name := "statistic", desc := "(II)I" } : Jvm.MethodName)) ∈ lw_all := lw_g (lw_at lw_m8 195 rfl) rfl
theorem q1974 : (Jvm.Cond.methodLink "WorkflowEngineLaw" (92 : Nat) ({ cls := "WorkflowEngineModel", name := "image", desc := "()I" } : Jvm.MethodName)) ∈ lw_all := lw_g (lw_at lw_m8 204 rfl) rfl
theorem q1978 : (Jvm.Cond.methodLink "WorkflowEngineLaw" (96 : Nat) ({ cls := "WorkflowEngineModel", name := "undo", desc := "()I" } : Jvm.MethodName)) ∈ lw_all := lw_g (lw_at lw_m8 208 rfl) rfl
theorem q1982 : (Jvm.Cond.methodLink "WorkflowEngineLaw" (100 : Nat) ({ cls := "WorkflowEngineModel", name := "count", desc := "(I)I" } : Jvm.MethodName)) ∈ lw_all := lw_g (lw_at lw_m8 212 rfl) rfl
theorem q123 : (Jvm.Cond.initialized "WorkflowEngine$Outcome") ∈ lw_all := lw_g (lw_at lw_m1 33 rfl) rfl
theorem q948 : (Jvm.Cond.laysStatic "WorkflowEngine$Outcome" "ENDS" "LWorkflowEngine$Outcome;") ∈ lw_tbl := lw_at lw_m4 138 rfl
theorem q955 : (Jvm.Cond.laysStatic "WorkflowEngine$Outcome" "RUNS" "LWorkflowEngine$Outcome;") ∈ lw_tbl := lw_at lw_m4 145 rfl
theorem q957 : (Jvm.Cond.laysStatic "WorkflowEngine$Outcome" "BREAKS" "LWorkflowEngine$Outcome;") ∈ lw_tbl := lw_at lw_m4 147 rfl
theorem q1125 : (Jvm.Cond.declares ({ cls := "WorkflowEngine$Outcome", name := "isOver", desc := "()Z" } : Jvm.MethodName)) ∈ lw_tbl := lw_at lw_m5 75 rfl
theorem q1126 : (Jvm.Cond.sameMethod "WorkflowEngine$Outcome" "WorkflowEngine$Outcome" "isOver" "()Z") ∈ lw_all := lw_g (lw_at lw_m5 76 rfl) rfl
theorem q2005 : (Jvm.Cond.castable "WorkflowEngine$Outcome" "java/lang/Object") ∈ lw_tbl := lw_at lw_m8 235 rfl
theorem q2051 : (Jvm.Cond.castable "[B" "java/lang/Object") ∈ lw_tbl := lw_at lw_m9 41 rfl
theorem q1439 : (Jvm.Cond.sameMethod "[I" "java/lang/Object" "clone" "()Ljava/lang/Object;") ∈ lw_all := lw_g (lw_at lw_m6 149 rfl) rfl
theorem q1442 : (Jvm.Cond.selects "[I" ({ cls := "[I", name := "clone", desc := "()Ljava/lang/Object;" } : Jvm.MethodName) ({ cls := "java/lang/Object", name := "clone", desc := "()Ljava/lang/Object;" } : Jvm.MethodName)) ∈ lw_all := lw_g (lw_at lw_m6 152 rfl) rfl
theorem q1443 : (Jvm.Cond.castable "[I" "java/lang/Cloneable") ∈ lw_tbl := lw_at lw_m6 153 rfl
theorem q2052 : (Jvm.Cond.castable "[I" "java/lang/Object") ∈ lw_tbl := lw_at lw_m9 42 rfl
theorem q2050 : (Jvm.Cond.castable "[LWorkflowEngine$Instance;" "java/lang/Object") ∈ lw_tbl := lw_at lw_m9 40 rfl
theorem q2054 : (Jvm.Cond.castable "[LWorkflowEngine$Outcome;" "java/lang/Object") ∈ lw_tbl := lw_at lw_m9 44 rfl
theorem q2053 : (Jvm.Cond.castable "[LWorkflowEngine$Run;" "java/lang/Object") ∈ lw_tbl := lw_at lw_m9 43 rfl
theorem q1542 : (Jvm.Cond.sameMethod "[LWorkflowEngine$Version;" "java/lang/Object" "clone" "()Ljava/lang/Object;") ∈ lw_all := lw_g (lw_at lw_m7 12 rfl) rfl
theorem q1543 : (Jvm.Cond.selects "[LWorkflowEngine$Version;" ({ cls := "[LWorkflowEngine$Version;", name := "clone", desc := "()Ljava/lang/Object;" } : Jvm.MethodName) ({ cls := "java/lang/Object", name := "clone", desc := "()Ljava/lang/Object;" } : Jvm.MethodName)) ∈ lw_all := lw_g (lw_at lw_m7 13 rfl) rfl
theorem q1544 : (Jvm.Cond.castable "[LWorkflowEngine$Version;" "java/lang/Cloneable") ∈ lw_tbl := lw_at lw_m7 14 rfl
theorem q2049 : (Jvm.Cond.castable "[LWorkflowEngine$Version;" "java/lang/Object") ∈ lw_tbl := lw_at lw_m9 39 rfl
theorem q2045 : (Jvm.Cond.sameMethod "[Ljava/lang/Object;" "java/lang/Object" "getClass" "()Ljava/lang/Class;") ∈ lw_all := lw_g (lw_at lw_m9 35 rfl) rfl
theorem q2046 : (Jvm.Cond.selects "[Ljava/lang/Object;" ({ cls := "java/lang/Object", name := "getClass", desc := "()Ljava/lang/Class;" } : Jvm.MethodName) ({ cls := "java/lang/Object", name := "getClass", desc := "()Ljava/lang/Class;" } : Jvm.MethodName)) ∈ lw_all := lw_g (lw_at lw_m9 36 rfl) rfl
theorem q2048 : (Jvm.Cond.castable "[Ljava/lang/Object;" "java/lang/Object") ∈ lw_tbl := lw_at lw_m9 38 rfl
theorem q122 : (Jvm.Cond.initialized "java/lang/Enum") ∈ lw_all := lw_g (lw_at lw_m1 32 rfl) rfl
theorem q113 : (Jvm.Cond.initialized "java/lang/System") ∈ lw_all := lw_g (lw_at lw_m1 23 rfl) rfl
theorem q555 : (Jvm.Cond.static ({ cls := "java/lang/System", name := "arraycopy", desc := "(Ljava/lang/Object;ILjava/lang/Object;II)V" } : Jvm.MethodName)) ∈ lw_all := lw_g (lw_at lw_m2 225 rfl) rfl
theorem q556 : (Jvm.Cond.native ({ cls := "java/lang/System", name := "arraycopy", desc := "(Ljava/lang/Object;ILjava/lang/Object;II)V" } : Jvm.MethodName)) ∈ lw_all := lw_g (lw_at lw_m2 226 rfl) rfl
theorem q549 : (Jvm.Cond.arrayOver (Jvm.ClassFile.FieldType.object "java/lang/Object")) ∈ lw_tbl := lw_at lw_m2 219 rfl
theorem q724 : (Jvm.Cond.arrayOver (Jvm.ClassFile.FieldType.object "WorkflowEngine$Version")) ∈ lw_tbl := lw_at lw_m3 154 rfl
theorem q732 : (Jvm.Cond.arrayOver (Jvm.ClassFile.FieldType.object "WorkflowEngine$Instance")) ∈ lw_tbl := lw_at lw_m3 162 rfl
theorem q760 : (Jvm.Cond.arrayClass Jvm.ClassFile.FieldType.byte) ∈ lw_all := lw_g (lw_at lw_m3 190 rfl) rfl
theorem q761 : (Jvm.Cond.arrayClass Jvm.ClassFile.FieldType.int) ∈ lw_all := lw_g (lw_at lw_m3 191 rfl) rfl
theorem q1036 : (Jvm.Cond.arrayOver (Jvm.ClassFile.FieldType.object "WorkflowEngine$Run")) ∈ lw_tbl := lw_at lw_m4 226 rfl
theorem q1038 : (Jvm.Cond.arrayOver (Jvm.ClassFile.FieldType.object "WorkflowEngine$Outcome")) ∈ lw_tbl := lw_at lw_m4 228 rfl
/-- the classes whose objects are made, by their places -/
abbrev gCl : List vw_C := [(RX0, TX0, 7), (RX1, TX1, 5), (RX2, TX2, 21), (RX3, TX3, 2), (RX4, TX4, 4), (RX5, TX5, 1), (RX6, TX6, 7), (RX7, TX7, 7), (RJ2, TJ2, 3), (RX9, TX9, 5), (RX10, TX10, 2), (RX11, TX11, 3), (RX12, TX12, 4), (RX13, TX13, 5), (RX14, TX14, 3), (RX15, TX15, 6), (RX16, TX16, 16), (RJ2, TJ2, 3), (RX18, TX18, 7), (RX19, TX19, 2), (RX20, TX20, 4), (RX21, TX21, 5), (RX22, TX22, 7), (RX23, TX23, 8), (RX24, TX24, 5), (RX25, TX25, 3), (RX26, TX26, 6), (RX27, TX27, 2), (RX28, TX28, 5)]
abbrev gi0 : Int32 ⊕ (Option Nat ⊕ UInt32) := .inl 0
abbrev ga0 : Int32 ⊕ (Option Nat ⊕ UInt32) := .inr (.inl none)
/-- slots and first contents of a new object -/
abbrev gNs : List (Nat × List (Int32 ⊕ (Option Nat ⊕ UInt32))) := [(7, [ga0, gi0, ga0, ga0, ga0, ga0, ga0]), (5, [ga0, ga0, ga0, gi0, ga0]), (21, [ga0, ga0, ga0, ga0, ga0, ga0, ga0, gi0, ga0, gi0, gi0, gi0, gi0, gi0, gi0, gi0, gi0, gi0, gi0, gi0, gi0]), (2, [ga0, gi0]), (4, [gi0, gi0, gi0, ga0]), (1, [ga0]), (7, [ga0, ga0, ga0, ga0, ga0, gi0, gi0]), (7, [ga0, ga0, ga0, ga0, ga0, gi0, gi0]), (3, [gi0, ga0, gi0]), (5, [gi0, gi0, gi0, gi0, gi0]), (2, [gi0, gi0]), (3, [gi0, gi0, gi0]), (4, [gi0, gi0, gi0, gi0]), (5, [gi0, gi0, gi0, ga0, ga0]), (3, [gi0, ga0, gi0]), (6, [ga0, ga0, ga0, ga0, ga0, gi0]), (16, [ga0, gi0, gi0, gi0, ga0, ga0, ga0, ga0, gi0, gi0, gi0, gi0, gi0, ga0, ga0, ga0]), (3, [gi0, ga0, gi0]), (7, [ga0, ga0, ga0, ga0, gi0, ga0, ga0]), (2, [ga0, gi0]), (4, [ga0, ga0, ga0, ga0]), (5, [ga0, ga0, ga0, gi0, ga0]), (7, [ga0, ga0, ga0, ga0, ga0, ga0, ga0]), (8, [ga0, ga0, ga0, gi0, gi0, gi0, gi0, ga0]), (5, [ga0, ga0, ga0, gi0, ga0]), (3, [gi0, gi0, gi0]), (6, [ga0, ga0, gi0, gi0, gi0, ga0]), (2, [ga0, gi0]), (5, [ga0, ga0, ga0, ga0, ga0])]
/-- a class's name by its number -/
def gNa (ci : Nat) : Option String := match gCl[ci]? with
  | some r => some r.1
  | none => if ci = 101 then some "WorkflowEngine$Outcome$1" else if ci = 102 then some "WorkflowEngine$Outcome$2" else if ci = 103 then some "WorkflowEngine$Outcome$3" else none
theorem gNa_cl {ci : Nat} {r : vw_C} (h : gCl[ci]? = some r) : gNa ci = some r.1 := by
  unfold gNa
  rw [h]
def gNw_0 : List Cond := [(Jvm.Cond.declares ({ cls := "java/lang/Object", name := "getClass", desc := "()Ljava/lang/Class;" } : Jvm.MethodName)), (Jvm.Cond.castable "java/util/ArrayList" "java/lang/Object"), (Jvm.Cond.declares ({ cls := "java/lang/Throwable", name := "<init>", desc := "()V" } : Jvm.MethodName)), (Jvm.Cond.declares ({ cls := "java/lang/Throwable", name := "<init>", desc := "(Ljava/lang/String;)V" } : Jvm.MethodName)), (Jvm.Cond.declares ({ cls := "java/lang/Throwable", name := "getCause", desc := "()Ljava/lang/Throwable;" } : Jvm.MethodName)), (Jvm.Cond.castable "java/lang/Throwable" "java/lang/Object"), (Jvm.Cond.declares ({ cls := "java/lang/Exception", name := "<init>", desc := "()V" } : Jvm.MethodName)), (Jvm.Cond.declares ({ cls := "java/lang/Exception", name := "<init>", desc := "(Ljava/lang/String;)V" } : Jvm.MethodName)), (Jvm.Cond.methodLinkNest "WorkflowEngine" (19 : Nat) ({ cls := "WorkflowEngine$Reader", name := "<init>", desc := "(LWorkflowEngine;)V" } : Jvm.MethodName) "WorkflowEngine"), (Jvm.Cond.fieldLinkNest "WorkflowEngine" (67 : Nat) "WorkflowEngine$Version" "body" "LWorkflowEngine$Body;" "WorkflowEngine"), (Jvm.Cond.fieldLinkNest "WorkflowEngine" (82 : Nat) "WorkflowEngine$Version" "length" "I" "WorkflowEngine"), (Jvm.Cond.methodLinkNest "WorkflowEngine" (108 : Nat) ({ cls := "WorkflowEngine$Moment", name := "<init>", desc := "(LWorkflowEngine;)V" } : Jvm.MethodName) "WorkflowEngine"), (Jvm.Cond.fieldLinkNest "WorkflowEngine" (95 : Nat) "WorkflowEngine$Moment" "durations" "[I" "WorkflowEngine"), (Jvm.Cond.fieldLinkNest "WorkflowEngine" (100 : Nat) "WorkflowEngine$Moment" "failures" "[I" "WorkflowEngine"), (Jvm.Cond.fieldLinkNest "WorkflowEngine" (109 : Nat) "WorkflowEngine$Moment" "instances" "[LWorkflowEngine$Instance;" "WorkflowEngine"), (Jvm.Cond.fieldLinkNest "WorkflowEngine" (115 : Nat) "WorkflowEngine$Moment" "minute" "I" "WorkflowEngine"), (Jvm.Cond.fieldLinkNest "WorkflowEngine" (155 : Nat) "WorkflowEngine$Instance" "workflow" "I" "WorkflowEngine"), (Jvm.Cond.fieldLinkNest "WorkflowEngine" (158 : Nat) "WorkflowEngine$Instance" "version" "I" "WorkflowEngine"), (Jvm.Cond.fieldLinkNest "WorkflowEngine" (161 : Nat) "WorkflowEngine$Instance" "begun" "I" "WorkflowEngine"), (Jvm.Cond.fieldLinkNest "WorkflowEngine" (152 : Nat) "WorkflowEngine$Instance" "variables" "[I" "WorkflowEngine"), (Jvm.Cond.fieldLinkNest "WorkflowEngine" (138 : Nat) "WorkflowEngine$Instance" "pending" "[I" "WorkflowEngine"), (Jvm.Cond.fieldLinkNest "WorkflowEngine" (167 : Nat) "WorkflowEngine$Instance" "dones" "Ljava/util/ArrayList;" "WorkflowEngine"), (Jvm.Cond.fieldLinkNest "WorkflowEngine" (191 : Nat) "WorkflowEngine$Instance" "history" "[I" "WorkflowEngine"), (Jvm.Cond.fieldLinkNest "WorkflowEngine" (182 : Nat) "WorkflowEngine$Instance" "entries" "I" "WorkflowEngine"), (Jvm.Cond.fieldLinkNest "WorkflowEngine" (135 : Nat) "WorkflowEngine$Instance" "status" "I" "WorkflowEngine"), (Jvm.Cond.fieldLinkNest "WorkflowEngine" (164 : Nat) "WorkflowEngine$Instance" "ended" "I" "WorkflowEngine"), (Jvm.Cond.fieldLinkNest "WorkflowEngine" (176 : Nat) "WorkflowEngine$Instance" "undone" "I" "WorkflowEngine"), (Jvm.Cond.fieldLinkNest "WorkflowEngine" (179 : Nat) "WorkflowEngine$Instance" "stuck" "I" "WorkflowEngine"), (Jvm.Cond.fieldLinkNest "WorkflowEngine" (126 : Nat) "WorkflowEngine$Instance" "body" "LWorkflowEngine$Run;" "WorkflowEngine"), (Jvm.Cond.methodLinkNest "WorkflowEngine" (196 : Nat) ({ cls := "WorkflowEngine$Places", name := "<init>", desc := "()V" } : Jvm.MethodName) "WorkflowEngine"), (Jvm.Cond.fieldLinkNest "WorkflowEngine" (206 : Nat) "WorkflowEngine$Places" "all" "[I" "WorkflowEngine"), (Jvm.Cond.fieldLinkNest "WorkflowEngine" (203 : Nat) "WorkflowEngine$Places" "many" "I" "WorkflowEngine"), (Jvm.Cond.castable "WorkflowEngine" "java/lang/Object"), (Jvm.Cond.fieldLinkNest "WorkflowEngine$Moment" (49 : Nat) "WorkflowEngine$Instance" "status" "I" "WorkflowEngine"), (Jvm.Cond.methodLinkNest "WorkflowEngine$Moment" (42 : Nat) ({ cls := "WorkflowEngine", name := "bit", desc := "(Z)I" } : Jvm.MethodName) "WorkflowEngine"), (Jvm.Cond.castable "WorkflowEngine$Moment" "java/lang/Object"), (Jvm.Cond.castable "WorkflowEngine$Wait" "WorkflowEngine$Node"), (Jvm.Cond.castable "WorkflowEngine$Wait" "java/lang/Object"), (Jvm.Cond.castable "WorkflowEngine$Await" "WorkflowEngine$Node"), (Jvm.Cond.castable "WorkflowEngine$Await" "java/lang/Object")]
def gNw_1 : List Cond := [(Jvm.Cond.castable "WorkflowEngine$Assign" "WorkflowEngine$Node"), (Jvm.Cond.castable "WorkflowEngine$Assign" "java/lang/Object"), (Jvm.Cond.fieldLinkNest "WorkflowEngine$Choice" (37 : Nat) "WorkflowEngine$Instance" "variables" "[I" "WorkflowEngine"), (Jvm.Cond.castable "WorkflowEngine$Choice" "WorkflowEngine$Node"), (Jvm.Cond.castable "WorkflowEngine$Choice" "java/lang/Object"), (Jvm.Cond.castable "WorkflowEngine$Parallel" "WorkflowEngine$Node"), (Jvm.Cond.castable "WorkflowEngine$Parallel" "java/lang/Object"), (Jvm.Cond.fieldLinkNest "WorkflowEngine$WrongText" (21 : Nat) "WorkflowEngine$BadSign" "place" "I" "WorkflowEngine"), (Jvm.Cond.fieldLinkNest "WorkflowEngine$WrongText" (15 : Nat) "WorkflowEngine$TooMuch" "place" "I" "WorkflowEngine"), (Jvm.Cond.castable "WorkflowEngine$WrongText" "WorkflowEngine$WrongText"), (Jvm.Cond.castable "WorkflowEngine$WrongText" "java/lang/Object"), (Jvm.Cond.fieldLinkNest "WorkflowEngine$Instance" (124 : Nat) "WorkflowEngine$Task" "code" "I" "WorkflowEngine"), (Jvm.Cond.fieldLinkNest "WorkflowEngine$Instance" (127 : Nat) "WorkflowEngine$Task" "undo" "I" "WorkflowEngine"), (Jvm.Cond.fieldLinkNest "WorkflowEngine$Instance" (119 : Nat) "WorkflowEngine$Moment" "minute" "I" "WorkflowEngine"), (Jvm.Cond.fieldLinkNest "WorkflowEngine$Instance" (68 : Nat) "WorkflowEngine$Done" "code" "I" "WorkflowEngine"), (Jvm.Cond.fieldLinkNest "WorkflowEngine$Instance" (71 : Nat) "WorkflowEngine$Done" "undo" "I" "WorkflowEngine"), (Jvm.Cond.fieldLinkNest "WorkflowEngine$Instance" (74 : Nat) "WorkflowEngine$Done" "end" "I" "WorkflowEngine"), (Jvm.Cond.fieldLinkNest "WorkflowEngine$Instance" (175 : Nat) "WorkflowEngine$Undo" "until" "I" "WorkflowEngine"), (Jvm.Cond.methodLinkNest "WorkflowEngine$Instance" (132 : Nat) ({ cls := "WorkflowEngine", name := "bit", desc := "(Z)I" } : Jvm.MethodName) "WorkflowEngine"), (Jvm.Cond.methodLinkNest "WorkflowEngine$Instance" (138 : Nat) ({ cls := "WorkflowEngine$Dones", name := "<init>", desc := "()V" } : Jvm.MethodName) "WorkflowEngine"), (Jvm.Cond.castable "WorkflowEngine$Instance" "java/lang/Object"), (Jvm.Cond.declares ({ cls := "WorkflowEngine$Run", name := "looks", desc := "()LWorkflowEngine$Outcome;" } : Jvm.MethodName)), (Jvm.Cond.declares ({ cls := "WorkflowEngine$Run", name := "due", desc := "()I" } : Jvm.MethodName)), (Jvm.Cond.declares ({ cls := "WorkflowEngine$Run", name := "copy", desc := "(LWorkflowEngine$Instance;)LWorkflowEngine$Run;" } : Jvm.MethodName)), (Jvm.Cond.castable "WorkflowEngine$Run" "java/lang/Object"), (Jvm.Cond.fieldLinkNest "WorkflowEngine$BodyRun" (32 : Nat) "WorkflowEngine$Body" "items" "Ljava/util/ArrayList;" "WorkflowEngine"), (Jvm.Cond.methodLinkNest "WorkflowEngine$BodyRun" (17 : Nat) ({ cls := "WorkflowEngine$Dones", name := "<init>", desc := "()V" } : Jvm.MethodName) "WorkflowEngine"), (Jvm.Cond.fieldLinkNest "WorkflowEngine$BodyRun" (103 : Nat) "WorkflowEngine$Dones" "all" "[I" "WorkflowEngine"), (Jvm.Cond.fieldLinkNest "WorkflowEngine$BodyRun" (100 : Nat) "WorkflowEngine$Dones" "many" "I" "WorkflowEngine"), (Jvm.Cond.castable "WorkflowEngine$BodyRun" "java/lang/Object"), (Jvm.Cond.castable "WorkflowEngine$BodyRun" "WorkflowEngine$Run"), (Jvm.Cond.castable "WorkflowEngine$Dones" "java/lang/Object"), (Jvm.Cond.castable "WorkflowEngineModel" "java/lang/Object"), (Jvm.Cond.fieldLinkNest "WorkflowEngine$AssignRun" (35 : Nat) "WorkflowEngine$Assign" "variable" "I" "WorkflowEngine"), (Jvm.Cond.fieldLinkNest "WorkflowEngine$AssignRun" (19 : Nat) "WorkflowEngine$Assign" "isAdded" "Z" "WorkflowEngine"), (Jvm.Cond.fieldLinkNest "WorkflowEngine$AssignRun" (39 : Nat) "WorkflowEngine$Assign" "value" "I" "WorkflowEngine"), (Jvm.Cond.fieldLinkNest "WorkflowEngine$AssignRun" (29 : Nat) "WorkflowEngine$Instance" "variables" "[I" "WorkflowEngine"), (Jvm.Cond.castable "WorkflowEngine$AssignRun" "java/lang/Object"), (Jvm.Cond.castable "WorkflowEngine$AssignRun" "WorkflowEngine$Run"), (Jvm.Cond.fieldLinkNest "WorkflowEngine$AwaitRun" (48 : Nat) "WorkflowEngine$Await" "code" "I" "WorkflowEngine")]
def gNw_2 : List Cond := [(Jvm.Cond.fieldLinkNest "WorkflowEngine$AwaitRun" (19 : Nat) "WorkflowEngine$Await" "minutes" "I" "WorkflowEngine"), (Jvm.Cond.fieldLinkNest "WorkflowEngine$AwaitRun" (32 : Nat) "WorkflowEngine$Moment" "minute" "I" "WorkflowEngine"), (Jvm.Cond.fieldLinkNest "WorkflowEngine$AwaitRun" (26 : Nat) "WorkflowEngine$Instance" "moment" "LWorkflowEngine$Moment;" "WorkflowEngine"), (Jvm.Cond.fieldLinkNest "WorkflowEngine$AwaitRun" (44 : Nat) "WorkflowEngine$Instance" "pending" "[I" "WorkflowEngine"), (Jvm.Cond.castable "WorkflowEngine$AwaitRun" "java/lang/Object"), (Jvm.Cond.castable "WorkflowEngine$AwaitRun" "WorkflowEngine$Run"), (Jvm.Cond.fieldLinkNest "WorkflowEngine$ParallelRun" (19 : Nat) "WorkflowEngine$Parallel" "bodies" "Ljava/util/ArrayList;" "WorkflowEngine"), (Jvm.Cond.fieldLinkNest "WorkflowEngine$ParallelRun" (108 : Nat) "WorkflowEngine$Parallel" "quorum" "I" "WorkflowEngine"), (Jvm.Cond.methodLinkNest "WorkflowEngine$ParallelRun" (40 : Nat) ({ cls := "WorkflowEngine", name := "bit", desc := "(Z)I" } : Jvm.MethodName) "WorkflowEngine"), (Jvm.Cond.methodLinkNest "WorkflowEngine$ParallelRun" (73 : Nat) ({ cls := "WorkflowEngine$Dones", name := "<init>", desc := "()V" } : Jvm.MethodName) "WorkflowEngine"), (Jvm.Cond.fieldLinkNest "WorkflowEngine$ParallelRun" (128 : Nat) "WorkflowEngine$Undo" "until" "I" "WorkflowEngine"), (Jvm.Cond.castable "WorkflowEngine$ParallelRun" "java/lang/Object"), (Jvm.Cond.castable "WorkflowEngine$ParallelRun" "WorkflowEngine$Run"), (Jvm.Cond.fieldLinkNest "WorkflowEngine$TaskRun" (52 : Nat) "WorkflowEngine$Task" "code" "I" "WorkflowEngine"), (Jvm.Cond.fieldLinkNest "WorkflowEngine$TaskRun" (75 : Nat) "WorkflowEngine$Task" "retries" "I" "WorkflowEngine"), (Jvm.Cond.fieldLinkNest "WorkflowEngine$TaskRun" (81 : Nat) "WorkflowEngine$Task" "delay" "I" "WorkflowEngine"), (Jvm.Cond.fieldLinkNest "WorkflowEngine$TaskRun" (48 : Nat) "WorkflowEngine$Moment" "durations" "[I" "WorkflowEngine"), (Jvm.Cond.fieldLinkNest "WorkflowEngine$TaskRun" (29 : Nat) "WorkflowEngine$Moment" "minute" "I" "WorkflowEngine"), (Jvm.Cond.fieldLinkNest "WorkflowEngine$TaskRun" (23 : Nat) "WorkflowEngine$Instance" "moment" "LWorkflowEngine$Moment;" "WorkflowEngine"), (Jvm.Cond.castable "WorkflowEngine$TaskRun" "java/lang/Object"), (Jvm.Cond.castable "WorkflowEngine$TaskRun" "WorkflowEngine$Run"), (Jvm.Cond.fieldLinkNest "WorkflowEngine$WaitRun" (29 : Nat) "WorkflowEngine$Wait" "minutes" "I" "WorkflowEngine"), (Jvm.Cond.fieldLinkNest "WorkflowEngine$WaitRun" (23 : Nat) "WorkflowEngine$Moment" "minute" "I" "WorkflowEngine"), (Jvm.Cond.fieldLinkNest "WorkflowEngine$WaitRun" (17 : Nat) "WorkflowEngine$Instance" "moment" "LWorkflowEngine$Moment;" "WorkflowEngine"), (Jvm.Cond.castable "WorkflowEngine$WaitRun" "java/lang/Object"), (Jvm.Cond.castable "WorkflowEngine$WaitRun" "WorkflowEngine$Run"), (Jvm.Cond.castable "WorkflowEngine$Done" "java/lang/Object"), (Jvm.Cond.fieldLinkNest "WorkflowEngine$Undo" (52 : Nat) "WorkflowEngine$Moment" "durations" "[I" "WorkflowEngine"), (Jvm.Cond.fieldLinkNest "WorkflowEngine$Undo" (38 : Nat) "WorkflowEngine$Moment" "minute" "I" "WorkflowEngine"), (Jvm.Cond.fieldLinkNest "WorkflowEngine$Undo" (32 : Nat) "WorkflowEngine$Instance" "moment" "LWorkflowEngine$Moment;" "WorkflowEngine"), (Jvm.Cond.fieldLinkNest "WorkflowEngine$Undo" (79 : Nat) "WorkflowEngine$Instance" "dones" "Ljava/util/ArrayList;" "WorkflowEngine"), (Jvm.Cond.fieldLinkNest "WorkflowEngine$Undo" (83 : Nat) "WorkflowEngine$Dones" "all" "[I" "WorkflowEngine"), (Jvm.Cond.fieldLinkNest "WorkflowEngine$Undo" (23 : Nat) "WorkflowEngine$Dones" "many" "I" "WorkflowEngine"), (Jvm.Cond.fieldLinkNest "WorkflowEngine$Undo" (56 : Nat) "WorkflowEngine$Done" "undo" "I" "WorkflowEngine"), (Jvm.Cond.fieldLinkNest "WorkflowEngine$Undo" (73 : Nat) "WorkflowEngine$Done" "end" "I" "WorkflowEngine"), (Jvm.Cond.castable "WorkflowEngine$Undo" "java/lang/Object"), (Jvm.Cond.castable "WorkflowEngine$Places" "java/lang/Object"), (Jvm.Cond.fieldLinkNest "WorkflowEngine$Image" (36 : Nat) "WorkflowEngine" "wrong" "LWorkflowEngine$WrongText;" "WorkflowEngine"), (Jvm.Cond.fieldLinkNest "WorkflowEngine$Image" (15 : Nat) "WorkflowEngine" "versions" "[LWorkflowEngine$Version;" "WorkflowEngine"), (Jvm.Cond.fieldLinkNest "WorkflowEngine$Image" (27 : Nat) "WorkflowEngine" "versionMany" "[I" "WorkflowEngine")]
def gNw_3 : List Cond := [(Jvm.Cond.fieldLinkNest "WorkflowEngine$Image" (52 : Nat) "WorkflowEngine" "now" "LWorkflowEngine$Moment;" "WorkflowEngine"), (Jvm.Cond.methodLinkNest "WorkflowEngine$Image" (45 : Nat) ({ cls := "WorkflowEngine$Moment", name := "<init>", desc := "(LWorkflowEngine;)V" } : Jvm.MethodName) "WorkflowEngine"), (Jvm.Cond.castable "WorkflowEngine$Image" "java/lang/Object"), (Jvm.Cond.castable "WorkflowEngine$Outcome$1" "java/lang/Object"), (Jvm.Cond.castable "WorkflowEngine$Outcome$1" "WorkflowEngine$Outcome"), (Jvm.Cond.castable "WorkflowEngine$Version" "java/lang/Object"), (Jvm.Cond.castable "WorkflowEngine$Outcome$2" "java/lang/Object"), (Jvm.Cond.castable "WorkflowEngine$Outcome$2" "WorkflowEngine$Outcome"), (Jvm.Cond.castable "WorkflowEngine$Outcome$3" "java/lang/Object"), (Jvm.Cond.castable "WorkflowEngine$Outcome$3" "WorkflowEngine$Outcome"), (Jvm.Cond.methodLinkNest "WorkflowEngine$Reader" (63 : Nat) ({ cls := "WorkflowEngine$Body", name := "<init>", desc := "()V" } : Jvm.MethodName) "WorkflowEngine"), (Jvm.Cond.fieldLinkNest "WorkflowEngine$Reader" (64 : Nat) "WorkflowEngine$Body" "items" "Ljava/util/ArrayList;" "WorkflowEngine"), (Jvm.Cond.methodLinkNest "WorkflowEngine$Reader" (38 : Nat) ({ cls := "WorkflowEngine", name := "in", desc := "(III)Z" } : Jvm.MethodName) "WorkflowEngine"), (Jvm.Cond.methodLinkNest "WorkflowEngine$Reader" (46 : Nat) ({ cls := "WorkflowEngine", name := "bit", desc := "(Z)I" } : Jvm.MethodName) "WorkflowEngine"), (Jvm.Cond.fieldLinkNest "WorkflowEngine$Reader" (22 : Nat) "WorkflowEngine" "tape" "[B" "WorkflowEngine"), (Jvm.Cond.fieldLinkNest "WorkflowEngine$Reader" (19 : Nat) "WorkflowEngine" "taped" "I" "WorkflowEngine"), (Jvm.Cond.castable "WorkflowEngine$Reader" "java/lang/Object"), (Jvm.Cond.fieldLinkNest "WorkflowEngine$Body" (40 : Nat) "WorkflowEngine$Choice" "less" "LWorkflowEngine$Body;" "WorkflowEngine"), (Jvm.Cond.fieldLinkNest "WorkflowEngine$Body" (46 : Nat) "WorkflowEngine$Choice" "other" "LWorkflowEngine$Body;" "WorkflowEngine"), (Jvm.Cond.fieldLinkNest "WorkflowEngine$Body" (51 : Nat) "WorkflowEngine$Parallel" "bodies" "Ljava/util/ArrayList;" "WorkflowEngine"), (Jvm.Cond.methodLinkNest "WorkflowEngine$Body" (56 : Nat) ({ cls := "WorkflowEngine", name := "bit", desc := "(Z)I" } : Jvm.MethodName) "WorkflowEngine"), (Jvm.Cond.castable "WorkflowEngine$Body" "java/lang/Object"), (Jvm.Cond.castable "WorkflowEngine$BadSign" "WorkflowEngine$BadSign"), (Jvm.Cond.castable "WorkflowEngine$BadSign" "java/lang/Object"), (Jvm.Cond.castable "WorkflowEngine$TooMuch" "WorkflowEngine$TooMuch"), (Jvm.Cond.castable "WorkflowEngine$TooMuch" "java/lang/Object"), (Jvm.Cond.declares ({ cls := "WorkflowEngine$Node", name := "begins", desc := "(LWorkflowEngine$Instance;)LWorkflowEngine$Run;" } : Jvm.MethodName)), (Jvm.Cond.castable "WorkflowEngine$Task" "WorkflowEngine$Node"), (Jvm.Cond.castable "WorkflowEngine$Task" "java/lang/Object"), (Jvm.Cond.declares ({ cls := "WorkflowEngine$Outcome", name := "isOver", desc := "()Z" } : Jvm.MethodName)), (Jvm.Cond.castable "WorkflowEngine$Outcome" "java/lang/Object"), (Jvm.Cond.castable "[B" "java/lang/Object"), (Jvm.Cond.castable "[I" "java/lang/Cloneable"), (Jvm.Cond.castable "[I" "java/lang/Object"), (Jvm.Cond.castable "[LWorkflowEngine$Instance;" "java/lang/Object"), (Jvm.Cond.castable "[LWorkflowEngine$Outcome;" "java/lang/Object"), (Jvm.Cond.castable "[LWorkflowEngine$Run;" "java/lang/Object"), (Jvm.Cond.castable "[LWorkflowEngine$Version;" "java/lang/Cloneable"), (Jvm.Cond.castable "[LWorkflowEngine$Version;" "java/lang/Object"), (Jvm.Cond.castable "[Ljava/lang/Object;" "java/lang/Object")]
def gNw : List Cond := gNw_0 ++ (gNw_1 ++ (gNw_2 ++ (gNw_3)))
def gNw_ok (w : Cond) : Bool := match w with
  | .fieldLinkNest _ _ _ _ _ _ => true
  | .methodLinkNest _ _ _ _ => true
  | .declares _ => true
  | .castable _ _ => true
  | _ => false
theorem gNw_t0 : ∀ w ∈ gNw_0, w ∈ lw_tbl := List.forall_mem_cons.mpr ⟨q2047, List.forall_mem_cons.mpr ⟨q2011, List.forall_mem_cons.mpr ⟨q246, List.forall_mem_cons.mpr ⟨q247, List.forall_mem_cons.mpr ⟨q613, List.forall_mem_cons.mpr ⟨q2035, List.forall_mem_cons.mpr ⟨q244, List.forall_mem_cons.mpr ⟨q245, List.forall_mem_cons.mpr ⟨q160, List.forall_mem_cons.mpr ⟨q599, List.forall_mem_cons.mpr ⟨q601, List.forall_mem_cons.mpr ⟨q727, List.forall_mem_cons.mpr ⟨q736, List.forall_mem_cons.mpr ⟨q738, List.forall_mem_cons.mpr ⟨q740, List.forall_mem_cons.mpr ⟨q747, List.forall_mem_cons.mpr ⟨q808, List.forall_mem_cons.mpr ⟨q810, List.forall_mem_cons.mpr ⟨q812, List.forall_mem_cons.mpr ⟨q816, List.forall_mem_cons.mpr ⟨q819, List.forall_mem_cons.mpr ⟨q822, List.forall_mem_cons.mpr ⟨q824, List.forall_mem_cons.mpr ⟨q826, List.forall_mem_cons.mpr ⟨q829, List.forall_mem_cons.mpr ⟨q831, List.forall_mem_cons.mpr ⟨q833, List.forall_mem_cons.mpr ⟨q835, List.forall_mem_cons.mpr ⟨q837, List.forall_mem_cons.mpr ⟨q1344, List.forall_mem_cons.mpr ⟨q1349, List.forall_mem_cons.mpr ⟨q1351, List.forall_mem_cons.mpr ⟨q2006, List.forall_mem_cons.mpr ⟨q828, List.forall_mem_cons.mpr ⟨q1149, List.forall_mem_cons.mpr ⟨q2007, List.forall_mem_cons.mpr ⟨q2001, List.forall_mem_cons.mpr ⟨q2015, List.forall_mem_cons.mpr ⟨q1997, List.forall_mem_cons.mpr ⟨q2016, fun _ h => absurd h List.not_mem_nil⟩⟩⟩⟩⟩⟩⟩⟩⟩⟩⟩⟩⟩⟩⟩⟩⟩⟩⟩⟩⟩⟩⟩⟩⟩⟩⟩⟩⟩⟩⟩⟩⟩⟩⟩⟩⟩⟩⟩⟩
theorem gNw_t1 : ∀ w ∈ gNw_1, w ∈ lw_tbl := List.forall_mem_cons.mpr ⟨q1996, List.forall_mem_cons.mpr ⟨q2017, List.forall_mem_cons.mpr ⟨q815, List.forall_mem_cons.mpr ⟨q1998, List.forall_mem_cons.mpr ⟨q2018, List.forall_mem_cons.mpr ⟨q1999, List.forall_mem_cons.mpr ⟨q2019, List.forall_mem_cons.mpr ⟨q290, List.forall_mem_cons.mpr ⟨q324, List.forall_mem_cons.mpr ⟨q581, List.forall_mem_cons.mpr ⟨q2020, List.forall_mem_cons.mpr ⟨q364, List.forall_mem_cons.mpr ⟨q370, List.forall_mem_cons.mpr ⟨q746, List.forall_mem_cons.mpr ⟨q1161, List.forall_mem_cons.mpr ⟨q1164, List.forall_mem_cons.mpr ⟨q1166, List.forall_mem_cons.mpr ⟨q1237, List.forall_mem_cons.mpr ⟨q1272, List.forall_mem_cons.mpr ⟨q1291, List.forall_mem_cons.mpr ⟨q2003, List.forall_mem_cons.mpr ⟨q938, List.forall_mem_cons.mpr ⟨q1394, List.forall_mem_cons.mpr ⟨q1446, List.forall_mem_cons.mpr ⟨q2004, List.forall_mem_cons.mpr ⟨q220, List.forall_mem_cons.mpr ⟨q884, List.forall_mem_cons.mpr ⟨q890, List.forall_mem_cons.mpr ⟨q893, List.forall_mem_cons.mpr ⟨q2021, List.forall_mem_cons.mpr ⟨q2036, List.forall_mem_cons.mpr ⟨q2022, List.forall_mem_cons.mpr ⟨q2008, List.forall_mem_cons.mpr ⟨q432, List.forall_mem_cons.mpr ⟨q434, List.forall_mem_cons.mpr ⟨q436, List.forall_mem_cons.mpr ⟨q814, List.forall_mem_cons.mpr ⟨q2023, List.forall_mem_cons.mpr ⟨q2037, List.forall_mem_cons.mpr ⟨q408, fun _ h => absurd h List.not_mem_nil⟩⟩⟩⟩⟩⟩⟩⟩⟩⟩⟩⟩⟩⟩⟩⟩⟩⟩⟩⟩⟩⟩⟩⟩⟩⟩⟩⟩⟩⟩⟩⟩⟩⟩⟩⟩⟩⟩⟩⟩
theorem gNw_t2 : ∀ w ∈ gNw_2, w ∈ lw_tbl := List.forall_mem_cons.mpr ⟨q410, List.forall_mem_cons.mpr ⟨q744, List.forall_mem_cons.mpr ⟨q805, List.forall_mem_cons.mpr ⟨q818, List.forall_mem_cons.mpr ⟨q2024, List.forall_mem_cons.mpr ⟨q2038, List.forall_mem_cons.mpr ⟨q570, List.forall_mem_cons.mpr ⟨q573, List.forall_mem_cons.mpr ⟨q1194, List.forall_mem_cons.mpr ⟨q1200, List.forall_mem_cons.mpr ⟨q1236, List.forall_mem_cons.mpr ⟨q2025, List.forall_mem_cons.mpr ⟨q2039, List.forall_mem_cons.mpr ⟨q363, List.forall_mem_cons.mpr ⟨q366, List.forall_mem_cons.mpr ⟨q368, List.forall_mem_cons.mpr ⟨q734, List.forall_mem_cons.mpr ⟨q742, List.forall_mem_cons.mpr ⟨q803, List.forall_mem_cons.mpr ⟨q2026, List.forall_mem_cons.mpr ⟨q2040, List.forall_mem_cons.mpr ⟨q396, List.forall_mem_cons.mpr ⟨q741, List.forall_mem_cons.mpr ⟨q802, List.forall_mem_cons.mpr ⟨q2027, List.forall_mem_cons.mpr ⟨q2041, List.forall_mem_cons.mpr ⟨q2031, List.forall_mem_cons.mpr ⟨q735, List.forall_mem_cons.mpr ⟨q743, List.forall_mem_cons.mpr ⟨q804, List.forall_mem_cons.mpr ⟨q821, List.forall_mem_cons.mpr ⟨q889, List.forall_mem_cons.mpr ⟨q891, List.forall_mem_cons.mpr ⟨q1163, List.forall_mem_cons.mpr ⟨q1167, List.forall_mem_cons.mpr ⟨q2032, List.forall_mem_cons.mpr ⟨q2033, List.forall_mem_cons.mpr ⟨q766, List.forall_mem_cons.mpr ⟨q768, List.forall_mem_cons.mpr ⟨q770, fun _ h => absurd h List.not_mem_nil⟩⟩⟩⟩⟩⟩⟩⟩⟩⟩⟩⟩⟩⟩⟩⟩⟩⟩⟩⟩⟩⟩⟩⟩⟩⟩⟩⟩⟩⟩⟩⟩⟩⟩⟩⟩⟩⟩⟩⟩
theorem gNw_t3 : ∀ w ∈ gNw_3, w ∈ lw_tbl := List.forall_mem_cons.mpr ⟨q772, List.forall_mem_cons.mpr ⟨q1549, List.forall_mem_cons.mpr ⟨q2034, List.forall_mem_cons.mpr ⟨q2029, List.forall_mem_cons.mpr ⟨q2043, List.forall_mem_cons.mpr ⟨q2002, List.forall_mem_cons.mpr ⟨q2028, List.forall_mem_cons.mpr ⟨q2042, List.forall_mem_cons.mpr ⟨q2030, List.forall_mem_cons.mpr ⟨q2044, List.forall_mem_cons.mpr ⟨q189, List.forall_mem_cons.mpr ⟨q221, List.forall_mem_cons.mpr ⟨q341, List.forall_mem_cons.mpr ⟨q346, List.forall_mem_cons.mpr ⟨q762, List.forall_mem_cons.mpr ⟨q764, List.forall_mem_cons.mpr ⟨q2009, List.forall_mem_cons.mpr ⟨q462, List.forall_mem_cons.mpr ⟨q464, List.forall_mem_cons.mpr ⟨q571, List.forall_mem_cons.mpr ⟨q660, List.forall_mem_cons.mpr ⟨q2010, List.forall_mem_cons.mpr ⟨q243, List.forall_mem_cons.mpr ⟨q2012, List.forall_mem_cons.mpr ⟨q312, List.forall_mem_cons.mpr ⟨q2013, List.forall_mem_cons.mpr ⟨q965, List.forall_mem_cons.mpr ⟨q2000, List.forall_mem_cons.mpr ⟨q2014, List.forall_mem_cons.mpr ⟨q1125, List.forall_mem_cons.mpr ⟨q2005, List.forall_mem_cons.mpr ⟨q2051, List.forall_mem_cons.mpr ⟨q1443, List.forall_mem_cons.mpr ⟨q2052, List.forall_mem_cons.mpr ⟨q2050, List.forall_mem_cons.mpr ⟨q2054, List.forall_mem_cons.mpr ⟨q2053, List.forall_mem_cons.mpr ⟨q1544, List.forall_mem_cons.mpr ⟨q2049, List.forall_mem_cons.mpr ⟨q2048, fun _ h => absurd h List.not_mem_nil⟩⟩⟩⟩⟩⟩⟩⟩⟩⟩⟩⟩⟩⟩⟩⟩⟩⟩⟩⟩⟩⟩⟩⟩⟩⟩⟩⟩⟩⟩⟩⟩⟩⟩⟩⟩⟩⟩⟩⟩
theorem gNw_good : gNw.all gNw_ok = true := by decide +kernel
theorem gNw_tbl : ∀ w ∈ gNw, w ∈ lw_tbl := by
  show ∀ w ∈ gNw_0 ++ (gNw_1 ++ (gNw_2 ++ (gNw_3))), w ∈ lw_tbl
  exact List.forall_mem_append.mpr ⟨gNw_t0, List.forall_mem_append.mpr ⟨gNw_t1, List.forall_mem_append.mpr ⟨gNw_t2, gNw_t3⟩⟩⟩
theorem nq2047 : (Jvm.Cond.declares ({ cls := "java/lang/Object", name := "getClass", desc := "()Ljava/lang/Class;" } : Jvm.MethodName)) ∈ gNw := List.mem_of_getElem? (i := 0) rfl
theorem nq2011 : (Jvm.Cond.castable "java/util/ArrayList" "java/lang/Object") ∈ gNw := List.mem_of_getElem? (i := 1) rfl
theorem nq246 : (Jvm.Cond.declares ({ cls := "java/lang/Throwable", name := "<init>", desc := "()V" } : Jvm.MethodName)) ∈ gNw := List.mem_of_getElem? (i := 2) rfl
theorem nq247 : (Jvm.Cond.declares ({ cls := "java/lang/Throwable", name := "<init>", desc := "(Ljava/lang/String;)V" } : Jvm.MethodName)) ∈ gNw := List.mem_of_getElem? (i := 3) rfl
theorem nq613 : (Jvm.Cond.declares ({ cls := "java/lang/Throwable", name := "getCause", desc := "()Ljava/lang/Throwable;" } : Jvm.MethodName)) ∈ gNw := List.mem_of_getElem? (i := 4) rfl
theorem nq2035 : (Jvm.Cond.castable "java/lang/Throwable" "java/lang/Object") ∈ gNw := List.mem_of_getElem? (i := 5) rfl
theorem nq244 : (Jvm.Cond.declares ({ cls := "java/lang/Exception", name := "<init>", desc := "()V" } : Jvm.MethodName)) ∈ gNw := List.mem_of_getElem? (i := 6) rfl
theorem nq245 : (Jvm.Cond.declares ({ cls := "java/lang/Exception", name := "<init>", desc := "(Ljava/lang/String;)V" } : Jvm.MethodName)) ∈ gNw := List.mem_of_getElem? (i := 7) rfl
theorem nq160 : (Jvm.Cond.methodLinkNest "WorkflowEngine" (19 : Nat) ({ cls := "WorkflowEngine$Reader", name := "<init>", desc := "(LWorkflowEngine;)V" } : Jvm.MethodName) "WorkflowEngine") ∈ gNw := List.mem_of_getElem? (i := 8) rfl
theorem nq599 : (Jvm.Cond.fieldLinkNest "WorkflowEngine" (67 : Nat) "WorkflowEngine$Version" "body" "LWorkflowEngine$Body;" "WorkflowEngine") ∈ gNw := List.mem_of_getElem? (i := 9) rfl
theorem nq601 : (Jvm.Cond.fieldLinkNest "WorkflowEngine" (82 : Nat) "WorkflowEngine$Version" "length" "I" "WorkflowEngine") ∈ gNw := List.mem_of_getElem? (i := 10) rfl
theorem nq727 : (Jvm.Cond.methodLinkNest "WorkflowEngine" (108 : Nat) ({ cls := "WorkflowEngine$Moment", name := "<init>", desc := "(LWorkflowEngine;)V" } : Jvm.MethodName) "WorkflowEngine") ∈ gNw := List.mem_of_getElem? (i := 11) rfl
theorem nq736 : (Jvm.Cond.fieldLinkNest "WorkflowEngine" (95 : Nat) "WorkflowEngine$Moment" "durations" "[I" "WorkflowEngine") ∈ gNw := List.mem_of_getElem? (i := 12) rfl
theorem nq738 : (Jvm.Cond.fieldLinkNest "WorkflowEngine" (100 : Nat) "WorkflowEngine$Moment" "failures" "[I" "WorkflowEngine") ∈ gNw := List.mem_of_getElem? (i := 13) rfl
theorem nq740 : (Jvm.Cond.fieldLinkNest "WorkflowEngine" (109 : Nat) "WorkflowEngine$Moment" "instances" "[LWorkflowEngine$Instance;" "WorkflowEngine") ∈ gNw := List.mem_of_getElem? (i := 14) rfl
theorem nq747 : (Jvm.Cond.fieldLinkNest "WorkflowEngine" (115 : Nat) "WorkflowEngine$Moment" "minute" "I" "WorkflowEngine") ∈ gNw := List.mem_of_getElem? (i := 15) rfl
theorem nq808 : (Jvm.Cond.fieldLinkNest "WorkflowEngine" (155 : Nat) "WorkflowEngine$Instance" "workflow" "I" "WorkflowEngine") ∈ gNw := List.mem_of_getElem? (i := 16) rfl
theorem nq810 : (Jvm.Cond.fieldLinkNest "WorkflowEngine" (158 : Nat) "WorkflowEngine$Instance" "version" "I" "WorkflowEngine") ∈ gNw := List.mem_of_getElem? (i := 17) rfl
theorem nq812 : (Jvm.Cond.fieldLinkNest "WorkflowEngine" (161 : Nat) "WorkflowEngine$Instance" "begun" "I" "WorkflowEngine") ∈ gNw := List.mem_of_getElem? (i := 18) rfl
theorem nq816 : (Jvm.Cond.fieldLinkNest "WorkflowEngine" (152 : Nat) "WorkflowEngine$Instance" "variables" "[I" "WorkflowEngine") ∈ gNw := List.mem_of_getElem? (i := 19) rfl
theorem nq819 : (Jvm.Cond.fieldLinkNest "WorkflowEngine" (138 : Nat) "WorkflowEngine$Instance" "pending" "[I" "WorkflowEngine") ∈ gNw := List.mem_of_getElem? (i := 20) rfl
theorem nq822 : (Jvm.Cond.fieldLinkNest "WorkflowEngine" (167 : Nat) "WorkflowEngine$Instance" "dones" "Ljava/util/ArrayList;" "WorkflowEngine") ∈ gNw := List.mem_of_getElem? (i := 21) rfl
theorem nq824 : (Jvm.Cond.fieldLinkNest "WorkflowEngine" (191 : Nat) "WorkflowEngine$Instance" "history" "[I" "WorkflowEngine") ∈ gNw := List.mem_of_getElem? (i := 22) rfl
theorem nq826 : (Jvm.Cond.fieldLinkNest "WorkflowEngine" (182 : Nat) "WorkflowEngine$Instance" "entries" "I" "WorkflowEngine") ∈ gNw := List.mem_of_getElem? (i := 23) rfl
theorem nq829 : (Jvm.Cond.fieldLinkNest "WorkflowEngine" (135 : Nat) "WorkflowEngine$Instance" "status" "I" "WorkflowEngine") ∈ gNw := List.mem_of_getElem? (i := 24) rfl
theorem nq831 : (Jvm.Cond.fieldLinkNest "WorkflowEngine" (164 : Nat) "WorkflowEngine$Instance" "ended" "I" "WorkflowEngine") ∈ gNw := List.mem_of_getElem? (i := 25) rfl
theorem nq833 : (Jvm.Cond.fieldLinkNest "WorkflowEngine" (176 : Nat) "WorkflowEngine$Instance" "undone" "I" "WorkflowEngine") ∈ gNw := List.mem_of_getElem? (i := 26) rfl
theorem nq835 : (Jvm.Cond.fieldLinkNest "WorkflowEngine" (179 : Nat) "WorkflowEngine$Instance" "stuck" "I" "WorkflowEngine") ∈ gNw := List.mem_of_getElem? (i := 27) rfl
theorem nq837 : (Jvm.Cond.fieldLinkNest "WorkflowEngine" (126 : Nat) "WorkflowEngine$Instance" "body" "LWorkflowEngine$Run;" "WorkflowEngine") ∈ gNw := List.mem_of_getElem? (i := 28) rfl
theorem nq1344 : (Jvm.Cond.methodLinkNest "WorkflowEngine" (196 : Nat) ({ cls := "WorkflowEngine$Places", name := "<init>", desc := "()V" } : Jvm.MethodName) "WorkflowEngine") ∈ gNw := List.mem_of_getElem? (i := 29) rfl
theorem nq1349 : (Jvm.Cond.fieldLinkNest "WorkflowEngine" (206 : Nat) "WorkflowEngine$Places" "all" "[I" "WorkflowEngine") ∈ gNw := List.mem_of_getElem? (i := 30) rfl
theorem nq1351 : (Jvm.Cond.fieldLinkNest "WorkflowEngine" (203 : Nat) "WorkflowEngine$Places" "many" "I" "WorkflowEngine") ∈ gNw := List.mem_of_getElem? (i := 31) rfl
theorem nq2006 : (Jvm.Cond.castable "WorkflowEngine" "java/lang/Object") ∈ gNw := List.mem_of_getElem? (i := 32) rfl
theorem nq828 : (Jvm.Cond.fieldLinkNest "WorkflowEngine$Moment" (49 : Nat) "WorkflowEngine$Instance" "status" "I" "WorkflowEngine") ∈ gNw := List.mem_of_getElem? (i := 33) rfl
theorem nq1149 : (Jvm.Cond.methodLinkNest "WorkflowEngine$Moment" (42 : Nat) ({ cls := "WorkflowEngine", name := "bit", desc := "(Z)I" } : Jvm.MethodName) "WorkflowEngine") ∈ gNw := List.mem_of_getElem? (i := 34) rfl
theorem nq2007 : (Jvm.Cond.castable "WorkflowEngine$Moment" "java/lang/Object") ∈ gNw := List.mem_of_getElem? (i := 35) rfl
theorem nq2001 : (Jvm.Cond.castable "WorkflowEngine$Wait" "WorkflowEngine$Node") ∈ gNw := List.mem_of_getElem? (i := 36) rfl
theorem nq2015 : (Jvm.Cond.castable "WorkflowEngine$Wait" "java/lang/Object") ∈ gNw := List.mem_of_getElem? (i := 37) rfl
theorem nq1997 : (Jvm.Cond.castable "WorkflowEngine$Await" "WorkflowEngine$Node") ∈ gNw := List.mem_of_getElem? (i := 38) rfl
theorem nq2016 : (Jvm.Cond.castable "WorkflowEngine$Await" "java/lang/Object") ∈ gNw := List.mem_of_getElem? (i := 39) rfl
theorem nq1996 : (Jvm.Cond.castable "WorkflowEngine$Assign" "WorkflowEngine$Node") ∈ gNw := List.mem_of_getElem? (i := 40) rfl
theorem nq2017 : (Jvm.Cond.castable "WorkflowEngine$Assign" "java/lang/Object") ∈ gNw := List.mem_of_getElem? (i := 41) rfl
theorem nq815 : (Jvm.Cond.fieldLinkNest "WorkflowEngine$Choice" (37 : Nat) "WorkflowEngine$Instance" "variables" "[I" "WorkflowEngine") ∈ gNw := List.mem_of_getElem? (i := 42) rfl
theorem nq1998 : (Jvm.Cond.castable "WorkflowEngine$Choice" "WorkflowEngine$Node") ∈ gNw := List.mem_of_getElem? (i := 43) rfl
theorem nq2018 : (Jvm.Cond.castable "WorkflowEngine$Choice" "java/lang/Object") ∈ gNw := List.mem_of_getElem? (i := 44) rfl
theorem nq1999 : (Jvm.Cond.castable "WorkflowEngine$Parallel" "WorkflowEngine$Node") ∈ gNw := List.mem_of_getElem? (i := 45) rfl
theorem nq2019 : (Jvm.Cond.castable "WorkflowEngine$Parallel" "java/lang/Object") ∈ gNw := List.mem_of_getElem? (i := 46) rfl
theorem nq290 : (Jvm.Cond.fieldLinkNest "WorkflowEngine$WrongText" (21 : Nat) "WorkflowEngine$BadSign" "place" "I" "WorkflowEngine") ∈ gNw := List.mem_of_getElem? (i := 47) rfl
theorem nq324 : (Jvm.Cond.fieldLinkNest "WorkflowEngine$WrongText" (15 : Nat) "WorkflowEngine$TooMuch" "place" "I" "WorkflowEngine") ∈ gNw := List.mem_of_getElem? (i := 48) rfl
theorem nq581 : (Jvm.Cond.castable "WorkflowEngine$WrongText" "WorkflowEngine$WrongText") ∈ gNw := List.mem_of_getElem? (i := 49) rfl
theorem nq2020 : (Jvm.Cond.castable "WorkflowEngine$WrongText" "java/lang/Object") ∈ gNw := List.mem_of_getElem? (i := 50) rfl
theorem nq364 : (Jvm.Cond.fieldLinkNest "WorkflowEngine$Instance" (124 : Nat) "WorkflowEngine$Task" "code" "I" "WorkflowEngine") ∈ gNw := List.mem_of_getElem? (i := 51) rfl
theorem nq370 : (Jvm.Cond.fieldLinkNest "WorkflowEngine$Instance" (127 : Nat) "WorkflowEngine$Task" "undo" "I" "WorkflowEngine") ∈ gNw := List.mem_of_getElem? (i := 52) rfl
theorem nq746 : (Jvm.Cond.fieldLinkNest "WorkflowEngine$Instance" (119 : Nat) "WorkflowEngine$Moment" "minute" "I" "WorkflowEngine") ∈ gNw := List.mem_of_getElem? (i := 53) rfl
theorem nq1161 : (Jvm.Cond.fieldLinkNest "WorkflowEngine$Instance" (68 : Nat) "WorkflowEngine$Done" "code" "I" "WorkflowEngine") ∈ gNw := List.mem_of_getElem? (i := 54) rfl
theorem nq1164 : (Jvm.Cond.fieldLinkNest "WorkflowEngine$Instance" (71 : Nat) "WorkflowEngine$Done" "undo" "I" "WorkflowEngine") ∈ gNw := List.mem_of_getElem? (i := 55) rfl
theorem nq1166 : (Jvm.Cond.fieldLinkNest "WorkflowEngine$Instance" (74 : Nat) "WorkflowEngine$Done" "end" "I" "WorkflowEngine") ∈ gNw := List.mem_of_getElem? (i := 56) rfl
theorem nq1237 : (Jvm.Cond.fieldLinkNest "WorkflowEngine$Instance" (175 : Nat) "WorkflowEngine$Undo" "until" "I" "WorkflowEngine") ∈ gNw := List.mem_of_getElem? (i := 57) rfl
theorem nq1272 : (Jvm.Cond.methodLinkNest "WorkflowEngine$Instance" (132 : Nat) ({ cls := "WorkflowEngine", name := "bit", desc := "(Z)I" } : Jvm.MethodName) "WorkflowEngine") ∈ gNw := List.mem_of_getElem? (i := 58) rfl
theorem nq1291 : (Jvm.Cond.methodLinkNest "WorkflowEngine$Instance" (138 : Nat) ({ cls := "WorkflowEngine$Dones", name := "<init>", desc := "()V" } : Jvm.MethodName) "WorkflowEngine") ∈ gNw := List.mem_of_getElem? (i := 59) rfl
theorem nq2003 : (Jvm.Cond.castable "WorkflowEngine$Instance" "java/lang/Object") ∈ gNw := List.mem_of_getElem? (i := 60) rfl
theorem nq938 : (Jvm.Cond.declares ({ cls := "WorkflowEngine$Run", name := "looks", desc := "()LWorkflowEngine$Outcome;" } : Jvm.MethodName)) ∈ gNw := List.mem_of_getElem? (i := 61) rfl
theorem nq1394 : (Jvm.Cond.declares ({ cls := "WorkflowEngine$Run", name := "due", desc := "()I" } : Jvm.MethodName)) ∈ gNw := List.mem_of_getElem? (i := 62) rfl
theorem nq1446 : (Jvm.Cond.declares ({ cls := "WorkflowEngine$Run", name := "copy", desc := "(LWorkflowEngine$Instance;)LWorkflowEngine$Run;" } : Jvm.MethodName)) ∈ gNw := List.mem_of_getElem? (i := 63) rfl
theorem nq2004 : (Jvm.Cond.castable "WorkflowEngine$Run" "java/lang/Object") ∈ gNw := List.mem_of_getElem? (i := 64) rfl
theorem nq220 : (Jvm.Cond.fieldLinkNest "WorkflowEngine$BodyRun" (32 : Nat) "WorkflowEngine$Body" "items" "Ljava/util/ArrayList;" "WorkflowEngine") ∈ gNw := List.mem_of_getElem? (i := 65) rfl
theorem nq884 : (Jvm.Cond.methodLinkNest "WorkflowEngine$BodyRun" (17 : Nat) ({ cls := "WorkflowEngine$Dones", name := "<init>", desc := "()V" } : Jvm.MethodName) "WorkflowEngine") ∈ gNw := List.mem_of_getElem? (i := 66) rfl
theorem nq890 : (Jvm.Cond.fieldLinkNest "WorkflowEngine$BodyRun" (103 : Nat) "WorkflowEngine$Dones" "all" "[I" "WorkflowEngine") ∈ gNw := List.mem_of_getElem? (i := 67) rfl
theorem nq893 : (Jvm.Cond.fieldLinkNest "WorkflowEngine$BodyRun" (100 : Nat) "WorkflowEngine$Dones" "many" "I" "WorkflowEngine") ∈ gNw := List.mem_of_getElem? (i := 68) rfl
theorem nq2021 : (Jvm.Cond.castable "WorkflowEngine$BodyRun" "java/lang/Object") ∈ gNw := List.mem_of_getElem? (i := 69) rfl
theorem nq2036 : (Jvm.Cond.castable "WorkflowEngine$BodyRun" "WorkflowEngine$Run") ∈ gNw := List.mem_of_getElem? (i := 70) rfl
theorem nq2022 : (Jvm.Cond.castable "WorkflowEngine$Dones" "java/lang/Object") ∈ gNw := List.mem_of_getElem? (i := 71) rfl
theorem nq2008 : (Jvm.Cond.castable "WorkflowEngineModel" "java/lang/Object") ∈ gNw := List.mem_of_getElem? (i := 72) rfl
theorem nq432 : (Jvm.Cond.fieldLinkNest "WorkflowEngine$AssignRun" (35 : Nat) "WorkflowEngine$Assign" "variable" "I" "WorkflowEngine") ∈ gNw := List.mem_of_getElem? (i := 73) rfl
theorem nq434 : (Jvm.Cond.fieldLinkNest "WorkflowEngine$AssignRun" (19 : Nat) "WorkflowEngine$Assign" "isAdded" "Z" "WorkflowEngine") ∈ gNw := List.mem_of_getElem? (i := 74) rfl
theorem nq436 : (Jvm.Cond.fieldLinkNest "WorkflowEngine$AssignRun" (39 : Nat) "WorkflowEngine$Assign" "value" "I" "WorkflowEngine") ∈ gNw := List.mem_of_getElem? (i := 75) rfl
theorem nq814 : (Jvm.Cond.fieldLinkNest "WorkflowEngine$AssignRun" (29 : Nat) "WorkflowEngine$Instance" "variables" "[I" "WorkflowEngine") ∈ gNw := List.mem_of_getElem? (i := 76) rfl
theorem nq2023 : (Jvm.Cond.castable "WorkflowEngine$AssignRun" "java/lang/Object") ∈ gNw := List.mem_of_getElem? (i := 77) rfl
theorem nq2037 : (Jvm.Cond.castable "WorkflowEngine$AssignRun" "WorkflowEngine$Run") ∈ gNw := List.mem_of_getElem? (i := 78) rfl
theorem nq408 : (Jvm.Cond.fieldLinkNest "WorkflowEngine$AwaitRun" (48 : Nat) "WorkflowEngine$Await" "code" "I" "WorkflowEngine") ∈ gNw := List.mem_of_getElem? (i := 79) rfl
theorem nq410 : (Jvm.Cond.fieldLinkNest "WorkflowEngine$AwaitRun" (19 : Nat) "WorkflowEngine$Await" "minutes" "I" "WorkflowEngine") ∈ gNw := List.mem_of_getElem? (i := 80) rfl
theorem nq744 : (Jvm.Cond.fieldLinkNest "WorkflowEngine$AwaitRun" (32 : Nat) "WorkflowEngine$Moment" "minute" "I" "WorkflowEngine") ∈ gNw := List.mem_of_getElem? (i := 81) rfl
theorem nq805 : (Jvm.Cond.fieldLinkNest "WorkflowEngine$AwaitRun" (26 : Nat) "WorkflowEngine$Instance" "moment" "LWorkflowEngine$Moment;" "WorkflowEngine") ∈ gNw := List.mem_of_getElem? (i := 82) rfl
theorem nq818 : (Jvm.Cond.fieldLinkNest "WorkflowEngine$AwaitRun" (44 : Nat) "WorkflowEngine$Instance" "pending" "[I" "WorkflowEngine") ∈ gNw := List.mem_of_getElem? (i := 83) rfl
theorem nq2024 : (Jvm.Cond.castable "WorkflowEngine$AwaitRun" "java/lang/Object") ∈ gNw := List.mem_of_getElem? (i := 84) rfl
theorem nq2038 : (Jvm.Cond.castable "WorkflowEngine$AwaitRun" "WorkflowEngine$Run") ∈ gNw := List.mem_of_getElem? (i := 85) rfl
theorem nq570 : (Jvm.Cond.fieldLinkNest "WorkflowEngine$ParallelRun" (19 : Nat) "WorkflowEngine$Parallel" "bodies" "Ljava/util/ArrayList;" "WorkflowEngine") ∈ gNw := List.mem_of_getElem? (i := 86) rfl
theorem nq573 : (Jvm.Cond.fieldLinkNest "WorkflowEngine$ParallelRun" (108 : Nat) "WorkflowEngine$Parallel" "quorum" "I" "WorkflowEngine") ∈ gNw := List.mem_of_getElem? (i := 87) rfl
theorem nq1194 : (Jvm.Cond.methodLinkNest "WorkflowEngine$ParallelRun" (40 : Nat) ({ cls := "WorkflowEngine", name := "bit", desc := "(Z)I" } : Jvm.MethodName) "WorkflowEngine") ∈ gNw := List.mem_of_getElem? (i := 88) rfl
theorem nq1200 : (Jvm.Cond.methodLinkNest "WorkflowEngine$ParallelRun" (73 : Nat) ({ cls := "WorkflowEngine$Dones", name := "<init>", desc := "()V" } : Jvm.MethodName) "WorkflowEngine") ∈ gNw := List.mem_of_getElem? (i := 89) rfl
theorem nq1236 : (Jvm.Cond.fieldLinkNest "WorkflowEngine$ParallelRun" (128 : Nat) "WorkflowEngine$Undo" "until" "I" "WorkflowEngine") ∈ gNw := List.mem_of_getElem? (i := 90) rfl
theorem nq2025 : (Jvm.Cond.castable "WorkflowEngine$ParallelRun" "java/lang/Object") ∈ gNw := List.mem_of_getElem? (i := 91) rfl
theorem nq2039 : (Jvm.Cond.castable "WorkflowEngine$ParallelRun" "WorkflowEngine$Run") ∈ gNw := List.mem_of_getElem? (i := 92) rfl
theorem nq363 : (Jvm.Cond.fieldLinkNest "WorkflowEngine$TaskRun" (52 : Nat) "WorkflowEngine$Task" "code" "I" "WorkflowEngine") ∈ gNw := List.mem_of_getElem? (i := 93) rfl
theorem nq366 : (Jvm.Cond.fieldLinkNest "WorkflowEngine$TaskRun" (75 : Nat) "WorkflowEngine$Task" "retries" "I" "WorkflowEngine") ∈ gNw := List.mem_of_getElem? (i := 94) rfl
theorem nq368 : (Jvm.Cond.fieldLinkNest "WorkflowEngine$TaskRun" (81 : Nat) "WorkflowEngine$Task" "delay" "I" "WorkflowEngine") ∈ gNw := List.mem_of_getElem? (i := 95) rfl
theorem nq734 : (Jvm.Cond.fieldLinkNest "WorkflowEngine$TaskRun" (48 : Nat) "WorkflowEngine$Moment" "durations" "[I" "WorkflowEngine") ∈ gNw := List.mem_of_getElem? (i := 96) rfl
theorem nq742 : (Jvm.Cond.fieldLinkNest "WorkflowEngine$TaskRun" (29 : Nat) "WorkflowEngine$Moment" "minute" "I" "WorkflowEngine") ∈ gNw := List.mem_of_getElem? (i := 97) rfl
theorem nq803 : (Jvm.Cond.fieldLinkNest "WorkflowEngine$TaskRun" (23 : Nat) "WorkflowEngine$Instance" "moment" "LWorkflowEngine$Moment;" "WorkflowEngine") ∈ gNw := List.mem_of_getElem? (i := 98) rfl
theorem nq2026 : (Jvm.Cond.castable "WorkflowEngine$TaskRun" "java/lang/Object") ∈ gNw := List.mem_of_getElem? (i := 99) rfl
theorem nq2040 : (Jvm.Cond.castable "WorkflowEngine$TaskRun" "WorkflowEngine$Run") ∈ gNw := List.mem_of_getElem? (i := 100) rfl
theorem nq396 : (Jvm.Cond.fieldLinkNest "WorkflowEngine$WaitRun" (29 : Nat) "WorkflowEngine$Wait" "minutes" "I" "WorkflowEngine") ∈ gNw := List.mem_of_getElem? (i := 101) rfl
theorem nq741 : (Jvm.Cond.fieldLinkNest "WorkflowEngine$WaitRun" (23 : Nat) "WorkflowEngine$Moment" "minute" "I" "WorkflowEngine") ∈ gNw := List.mem_of_getElem? (i := 102) rfl
theorem nq802 : (Jvm.Cond.fieldLinkNest "WorkflowEngine$WaitRun" (17 : Nat) "WorkflowEngine$Instance" "moment" "LWorkflowEngine$Moment;" "WorkflowEngine") ∈ gNw := List.mem_of_getElem? (i := 103) rfl
theorem nq2027 : (Jvm.Cond.castable "WorkflowEngine$WaitRun" "java/lang/Object") ∈ gNw := List.mem_of_getElem? (i := 104) rfl
theorem nq2041 : (Jvm.Cond.castable "WorkflowEngine$WaitRun" "WorkflowEngine$Run") ∈ gNw := List.mem_of_getElem? (i := 105) rfl
theorem nq2031 : (Jvm.Cond.castable "WorkflowEngine$Done" "java/lang/Object") ∈ gNw := List.mem_of_getElem? (i := 106) rfl
theorem nq735 : (Jvm.Cond.fieldLinkNest "WorkflowEngine$Undo" (52 : Nat) "WorkflowEngine$Moment" "durations" "[I" "WorkflowEngine") ∈ gNw := List.mem_of_getElem? (i := 107) rfl
theorem nq743 : (Jvm.Cond.fieldLinkNest "WorkflowEngine$Undo" (38 : Nat) "WorkflowEngine$Moment" "minute" "I" "WorkflowEngine") ∈ gNw := List.mem_of_getElem? (i := 108) rfl
theorem nq804 : (Jvm.Cond.fieldLinkNest "WorkflowEngine$Undo" (32 : Nat) "WorkflowEngine$Instance" "moment" "LWorkflowEngine$Moment;" "WorkflowEngine") ∈ gNw := List.mem_of_getElem? (i := 109) rfl
theorem nq821 : (Jvm.Cond.fieldLinkNest "WorkflowEngine$Undo" (79 : Nat) "WorkflowEngine$Instance" "dones" "Ljava/util/ArrayList;" "WorkflowEngine") ∈ gNw := List.mem_of_getElem? (i := 110) rfl
theorem nq889 : (Jvm.Cond.fieldLinkNest "WorkflowEngine$Undo" (83 : Nat) "WorkflowEngine$Dones" "all" "[I" "WorkflowEngine") ∈ gNw := List.mem_of_getElem? (i := 111) rfl
theorem nq891 : (Jvm.Cond.fieldLinkNest "WorkflowEngine$Undo" (23 : Nat) "WorkflowEngine$Dones" "many" "I" "WorkflowEngine") ∈ gNw := List.mem_of_getElem? (i := 112) rfl
theorem nq1163 : (Jvm.Cond.fieldLinkNest "WorkflowEngine$Undo" (56 : Nat) "WorkflowEngine$Done" "undo" "I" "WorkflowEngine") ∈ gNw := List.mem_of_getElem? (i := 113) rfl
theorem nq1167 : (Jvm.Cond.fieldLinkNest "WorkflowEngine$Undo" (73 : Nat) "WorkflowEngine$Done" "end" "I" "WorkflowEngine") ∈ gNw := List.mem_of_getElem? (i := 114) rfl
theorem nq2032 : (Jvm.Cond.castable "WorkflowEngine$Undo" "java/lang/Object") ∈ gNw := List.mem_of_getElem? (i := 115) rfl
theorem nq2033 : (Jvm.Cond.castable "WorkflowEngine$Places" "java/lang/Object") ∈ gNw := List.mem_of_getElem? (i := 116) rfl
theorem nq766 : (Jvm.Cond.fieldLinkNest "WorkflowEngine$Image" (36 : Nat) "WorkflowEngine" "wrong" "LWorkflowEngine$WrongText;" "WorkflowEngine") ∈ gNw := List.mem_of_getElem? (i := 117) rfl
theorem nq768 : (Jvm.Cond.fieldLinkNest "WorkflowEngine$Image" (15 : Nat) "WorkflowEngine" "versions" "[LWorkflowEngine$Version;" "WorkflowEngine") ∈ gNw := List.mem_of_getElem? (i := 118) rfl
theorem nq770 : (Jvm.Cond.fieldLinkNest "WorkflowEngine$Image" (27 : Nat) "WorkflowEngine" "versionMany" "[I" "WorkflowEngine") ∈ gNw := List.mem_of_getElem? (i := 119) rfl
theorem nq772 : (Jvm.Cond.fieldLinkNest "WorkflowEngine$Image" (52 : Nat) "WorkflowEngine" "now" "LWorkflowEngine$Moment;" "WorkflowEngine") ∈ gNw := List.mem_of_getElem? (i := 120) rfl
theorem nq1549 : (Jvm.Cond.methodLinkNest "WorkflowEngine$Image" (45 : Nat) ({ cls := "WorkflowEngine$Moment", name := "<init>", desc := "(LWorkflowEngine;)V" } : Jvm.MethodName) "WorkflowEngine") ∈ gNw := List.mem_of_getElem? (i := 121) rfl
theorem nq2034 : (Jvm.Cond.castable "WorkflowEngine$Image" "java/lang/Object") ∈ gNw := List.mem_of_getElem? (i := 122) rfl
theorem nq2029 : (Jvm.Cond.castable "WorkflowEngine$Outcome$1" "java/lang/Object") ∈ gNw := List.mem_of_getElem? (i := 123) rfl
theorem nq2043 : (Jvm.Cond.castable "WorkflowEngine$Outcome$1" "WorkflowEngine$Outcome") ∈ gNw := List.mem_of_getElem? (i := 124) rfl
theorem nq2002 : (Jvm.Cond.castable "WorkflowEngine$Version" "java/lang/Object") ∈ gNw := List.mem_of_getElem? (i := 125) rfl
theorem nq2028 : (Jvm.Cond.castable "WorkflowEngine$Outcome$2" "java/lang/Object") ∈ gNw := List.mem_of_getElem? (i := 126) rfl
theorem nq2042 : (Jvm.Cond.castable "WorkflowEngine$Outcome$2" "WorkflowEngine$Outcome") ∈ gNw := List.mem_of_getElem? (i := 127) rfl
theorem nq2030 : (Jvm.Cond.castable "WorkflowEngine$Outcome$3" "java/lang/Object") ∈ gNw := List.mem_of_getElem? (i := 128) rfl
theorem nq2044 : (Jvm.Cond.castable "WorkflowEngine$Outcome$3" "WorkflowEngine$Outcome") ∈ gNw := List.mem_of_getElem? (i := 129) rfl
theorem nq189 : (Jvm.Cond.methodLinkNest "WorkflowEngine$Reader" (63 : Nat) ({ cls := "WorkflowEngine$Body", name := "<init>", desc := "()V" } : Jvm.MethodName) "WorkflowEngine") ∈ gNw := List.mem_of_getElem? (i := 130) rfl
theorem nq221 : (Jvm.Cond.fieldLinkNest "WorkflowEngine$Reader" (64 : Nat) "WorkflowEngine$Body" "items" "Ljava/util/ArrayList;" "WorkflowEngine") ∈ gNw := List.mem_of_getElem? (i := 131) rfl
theorem nq341 : (Jvm.Cond.methodLinkNest "WorkflowEngine$Reader" (38 : Nat) ({ cls := "WorkflowEngine", name := "in", desc := "(III)Z" } : Jvm.MethodName) "WorkflowEngine") ∈ gNw := List.mem_of_getElem? (i := 132) rfl
theorem nq346 : (Jvm.Cond.methodLinkNest "WorkflowEngine$Reader" (46 : Nat) ({ cls := "WorkflowEngine", name := "bit", desc := "(Z)I" } : Jvm.MethodName) "WorkflowEngine") ∈ gNw := List.mem_of_getElem? (i := 133) rfl
theorem nq762 : (Jvm.Cond.fieldLinkNest "WorkflowEngine$Reader" (22 : Nat) "WorkflowEngine" "tape" "[B" "WorkflowEngine") ∈ gNw := List.mem_of_getElem? (i := 134) rfl
theorem nq764 : (Jvm.Cond.fieldLinkNest "WorkflowEngine$Reader" (19 : Nat) "WorkflowEngine" "taped" "I" "WorkflowEngine") ∈ gNw := List.mem_of_getElem? (i := 135) rfl
theorem nq2009 : (Jvm.Cond.castable "WorkflowEngine$Reader" "java/lang/Object") ∈ gNw := List.mem_of_getElem? (i := 136) rfl
theorem nq462 : (Jvm.Cond.fieldLinkNest "WorkflowEngine$Body" (40 : Nat) "WorkflowEngine$Choice" "less" "LWorkflowEngine$Body;" "WorkflowEngine") ∈ gNw := List.mem_of_getElem? (i := 137) rfl
theorem nq464 : (Jvm.Cond.fieldLinkNest "WorkflowEngine$Body" (46 : Nat) "WorkflowEngine$Choice" "other" "LWorkflowEngine$Body;" "WorkflowEngine") ∈ gNw := List.mem_of_getElem? (i := 138) rfl
theorem nq571 : (Jvm.Cond.fieldLinkNest "WorkflowEngine$Body" (51 : Nat) "WorkflowEngine$Parallel" "bodies" "Ljava/util/ArrayList;" "WorkflowEngine") ∈ gNw := List.mem_of_getElem? (i := 139) rfl
theorem nq660 : (Jvm.Cond.methodLinkNest "WorkflowEngine$Body" (56 : Nat) ({ cls := "WorkflowEngine", name := "bit", desc := "(Z)I" } : Jvm.MethodName) "WorkflowEngine") ∈ gNw := List.mem_of_getElem? (i := 140) rfl
theorem nq2010 : (Jvm.Cond.castable "WorkflowEngine$Body" "java/lang/Object") ∈ gNw := List.mem_of_getElem? (i := 141) rfl
theorem nq243 : (Jvm.Cond.castable "WorkflowEngine$BadSign" "WorkflowEngine$BadSign") ∈ gNw := List.mem_of_getElem? (i := 142) rfl
theorem nq2012 : (Jvm.Cond.castable "WorkflowEngine$BadSign" "java/lang/Object") ∈ gNw := List.mem_of_getElem? (i := 143) rfl
theorem nq312 : (Jvm.Cond.castable "WorkflowEngine$TooMuch" "WorkflowEngine$TooMuch") ∈ gNw := List.mem_of_getElem? (i := 144) rfl
theorem nq2013 : (Jvm.Cond.castable "WorkflowEngine$TooMuch" "java/lang/Object") ∈ gNw := List.mem_of_getElem? (i := 145) rfl
theorem nq965 : (Jvm.Cond.declares ({ cls := "WorkflowEngine$Node", name := "begins", desc := "(LWorkflowEngine$Instance;)LWorkflowEngine$Run;" } : Jvm.MethodName)) ∈ gNw := List.mem_of_getElem? (i := 146) rfl
theorem nq2000 : (Jvm.Cond.castable "WorkflowEngine$Task" "WorkflowEngine$Node") ∈ gNw := List.mem_of_getElem? (i := 147) rfl
theorem nq2014 : (Jvm.Cond.castable "WorkflowEngine$Task" "java/lang/Object") ∈ gNw := List.mem_of_getElem? (i := 148) rfl
theorem nq1125 : (Jvm.Cond.declares ({ cls := "WorkflowEngine$Outcome", name := "isOver", desc := "()Z" } : Jvm.MethodName)) ∈ gNw := List.mem_of_getElem? (i := 149) rfl
theorem nq2005 : (Jvm.Cond.castable "WorkflowEngine$Outcome" "java/lang/Object") ∈ gNw := List.mem_of_getElem? (i := 150) rfl
theorem nq2051 : (Jvm.Cond.castable "[B" "java/lang/Object") ∈ gNw := List.mem_of_getElem? (i := 151) rfl
theorem nq1443 : (Jvm.Cond.castable "[I" "java/lang/Cloneable") ∈ gNw := List.mem_of_getElem? (i := 152) rfl
theorem nq2052 : (Jvm.Cond.castable "[I" "java/lang/Object") ∈ gNw := List.mem_of_getElem? (i := 153) rfl
theorem nq2050 : (Jvm.Cond.castable "[LWorkflowEngine$Instance;" "java/lang/Object") ∈ gNw := List.mem_of_getElem? (i := 154) rfl
theorem nq2054 : (Jvm.Cond.castable "[LWorkflowEngine$Outcome;" "java/lang/Object") ∈ gNw := List.mem_of_getElem? (i := 155) rfl
theorem nq2053 : (Jvm.Cond.castable "[LWorkflowEngine$Run;" "java/lang/Object") ∈ gNw := List.mem_of_getElem? (i := 156) rfl
theorem nq1544 : (Jvm.Cond.castable "[LWorkflowEngine$Version;" "java/lang/Cloneable") ∈ gNw := List.mem_of_getElem? (i := 157) rfl
theorem nq2049 : (Jvm.Cond.castable "[LWorkflowEngine$Version;" "java/lang/Object") ∈ gNw := List.mem_of_getElem? (i := 158) rfl
theorem nq2048 : (Jvm.Cond.castable "[Ljava/lang/Object;" "java/lang/Object") ∈ gNw := List.mem_of_getElem? (i := 159) rfl
theorem gNw_use {w : Cond} {U : State} {A : Array Value} (h : w ∈ gNw) (hz : va_Nw w U) : w.before A U = true := by
  have h1 := List.all_eq_true.mp gNw_good w h
  cases w <;> first | exact absurd h1 (by decide) | exact va_Nw.use rfl hz | (simp [gNw_ok] at h1)
theorem gNw_warm {w : Cond} {s U : State} (h : w ∈ gNw) (hW : s.WarmedH U.vm) (hz : va_Nw w s) : va_Nw w U := by
  have h1 := List.all_eq_true.mp gNw_good w h
  cases w <;> first | exact va_Nw.warmF hW hz | exact va_Nw.warmM hW hz | exact va_Nw.warmD hW hz | exact va_Nw.warmC hW hz | (simp [gNw_ok] at h1)
def gAO : List String := ["java/lang/Object", "WorkflowEngine$Version", "WorkflowEngine$Instance", "WorkflowEngine$Run", "WorkflowEngine$Outcome"]
/-- which classes an array may take -/
def gAsg (t ci : Nat) : Bool := match t with
  | 2 => ([0, 1, 2, 3, 4, 5, 6, 7, 8, 9, 10, 11, 12, 13, 14, 15, 16, 17, 18, 19, 20, 21, 22, 23, 24, 25, 26, 27, 28, 101, 102, 103] : List Nat).contains ci
  | 3 => ([3] : List Nat).contains ci
  | 4 => ([16] : List Nat).contains ci
  | 5 => ([18, 20, 21, 22, 23, 24] : List Nat).contains ci
  | 6 => ([101, 102, 103] : List Nat).contains ci
  | _ => false
theorem gAsg_2 : ∀ (c1 : Nat) (Cv : String), gAsg 2 c1 = true → gNa c1 = some Cv → Cv = "java/lang/Object" ∨ Cond.castable Cv "java/lang/Object" ∈ gNw := by
  intro c1 Cv h hn
  have h1 : c1 ∈ ([0, 1, 2, 3, 4, 5, 6, 7, 8, 9, 10, 11, 12, 13, 14, 15, 16, 17, 18, 19, 20, 21, 22, 23, 24, 25, 26, 27, 28, 101, 102, 103] : List Nat) := List.contains_iff_mem.mp h
  simp only [List.mem_cons, List.not_mem_nil, or_false] at h1
  rcases h1 with rfl | rfl | rfl | rfl | rfl | rfl | rfl | rfl | rfl | rfl | rfl | rfl | rfl | rfl | rfl | rfl | rfl | rfl | rfl | rfl | rfl | rfl | rfl | rfl | rfl | rfl | rfl | rfl | rfl | rfl | rfl | rfl
  · cases hn
    exact Or.inr nq2006
  · cases hn
    exact Or.inr nq2007
  · cases hn
    exact Or.inr nq2008
  · cases hn
    exact Or.inr nq2002
  · cases hn
    exact Or.inr nq2009
  · cases hn
    exact Or.inr nq2010
  · cases hn
    exact Or.inr nq2012
  · cases hn
    exact Or.inr nq2013
  · cases hn
    exact Or.inr nq2011
  · cases hn
    exact Or.inr nq2014
  · cases hn
    exact Or.inr nq2015
  · cases hn
    exact Or.inr nq2016
  · cases hn
    exact Or.inr nq2017
  · cases hn
    exact Or.inr nq2018
  · cases hn
    exact Or.inr nq2019
  · cases hn
    exact Or.inr nq2020
  · cases hn
    exact Or.inr nq2003
  · cases hn
    exact Or.inr nq2011
  · cases hn
    exact Or.inr nq2021
  · cases hn
    exact Or.inr nq2022
  · cases hn
    exact Or.inr nq2023
  · cases hn
    exact Or.inr nq2024
  · cases hn
    exact Or.inr nq2025
  · cases hn
    exact Or.inr nq2026
  · cases hn
    exact Or.inr nq2027
  · cases hn
    exact Or.inr nq2031
  · cases hn
    exact Or.inr nq2032
  · cases hn
    exact Or.inr nq2033
  · cases hn
    exact Or.inr nq2034
  · cases hn
    exact Or.inr nq2029
  · cases hn
    exact Or.inr nq2028
  · cases hn
    exact Or.inr nq2030
theorem gAsg_3 : ∀ (c1 : Nat) (Cv : String), gAsg 3 c1 = true → gNa c1 = some Cv → Cv = "WorkflowEngine$Version" ∨ Cond.castable Cv "WorkflowEngine$Version" ∈ gNw := by
  intro c1 Cv h hn
  have h1 : c1 ∈ ([3] : List Nat) := List.contains_iff_mem.mp h
  simp only [List.mem_cons, List.not_mem_nil, or_false] at h1
  rcases h1 with rfl
  · cases hn
    exact Or.inl rfl
theorem gAsg_4 : ∀ (c1 : Nat) (Cv : String), gAsg 4 c1 = true → gNa c1 = some Cv → Cv = "WorkflowEngine$Instance" ∨ Cond.castable Cv "WorkflowEngine$Instance" ∈ gNw := by
  intro c1 Cv h hn
  have h1 : c1 ∈ ([16] : List Nat) := List.contains_iff_mem.mp h
  simp only [List.mem_cons, List.not_mem_nil, or_false] at h1
  rcases h1 with rfl
  · cases hn
    exact Or.inl rfl
theorem gAsg_5 : ∀ (c1 : Nat) (Cv : String), gAsg 5 c1 = true → gNa c1 = some Cv → Cv = "WorkflowEngine$Run" ∨ Cond.castable Cv "WorkflowEngine$Run" ∈ gNw := by
  intro c1 Cv h hn
  have h1 : c1 ∈ ([18, 20, 21, 22, 23, 24] : List Nat) := List.contains_iff_mem.mp h
  simp only [List.mem_cons, List.not_mem_nil, or_false] at h1
  rcases h1 with rfl | rfl | rfl | rfl | rfl | rfl
  · cases hn
    exact Or.inr nq2036
  · cases hn
    exact Or.inr nq2037
  · cases hn
    exact Or.inr nq2038
  · cases hn
    exact Or.inr nq2039
  · cases hn
    exact Or.inr nq2040
  · cases hn
    exact Or.inr nq2041
theorem gAsg_6 : ∀ (c1 : Nat) (Cv : String), gAsg 6 c1 = true → gNa c1 = some Cv → Cv = "WorkflowEngine$Outcome" ∨ Cond.castable Cv "WorkflowEngine$Outcome" ∈ gNw := by
  intro c1 Cv h hn
  have h1 : c1 ∈ ([101, 102, 103] : List Nat) := List.contains_iff_mem.mp h
  simp only [List.mem_cons, List.not_mem_nil, or_false] at h1
  rcases h1 with rfl | rfl | rfl
  · cases hn
    exact Or.inr nq2043
  · cases hn
    exact Or.inr nq2042
  · cases hn
    exact Or.inr nq2044
/-- pairs of classes said not castable -/
def gNc : List (String × String) := [("WorkflowEngine$Assign", "WorkflowEngine$BadSign"), ("WorkflowEngine$Assign", "WorkflowEngine$Choice"), ("WorkflowEngine$Assign", "WorkflowEngine$Parallel"), ("WorkflowEngine$Assign", "WorkflowEngine$Task"), ("WorkflowEngine$Assign", "WorkflowEngine$TooMuch"), ("WorkflowEngine$Assign", "WorkflowEngine$WrongText"), ("WorkflowEngine$Await", "WorkflowEngine$BadSign"), ("WorkflowEngine$Await", "WorkflowEngine$Choice"), ("WorkflowEngine$Await", "WorkflowEngine$Parallel"), ("WorkflowEngine$Await", "WorkflowEngine$Task"), ("WorkflowEngine$Await", "WorkflowEngine$TooMuch"), ("WorkflowEngine$Await", "WorkflowEngine$WrongText"), ("WorkflowEngine$BadSign", "WorkflowEngine$Choice"), ("WorkflowEngine$BadSign", "WorkflowEngine$Parallel"), ("WorkflowEngine$BadSign", "WorkflowEngine$Task"), ("WorkflowEngine$BadSign", "WorkflowEngine$TooMuch"), ("WorkflowEngine$BadSign", "WorkflowEngine$WrongText"), ("WorkflowEngine$Choice", "WorkflowEngine$BadSign"), ("WorkflowEngine$Choice", "WorkflowEngine$Parallel"), ("WorkflowEngine$Choice", "WorkflowEngine$Task"), ("WorkflowEngine$Choice", "WorkflowEngine$TooMuch"), ("WorkflowEngine$Choice", "WorkflowEngine$WrongText"), ("WorkflowEngine$Parallel", "WorkflowEngine$BadSign"), ("WorkflowEngine$Parallel", "WorkflowEngine$Choice"), ("WorkflowEngine$Parallel", "WorkflowEngine$Task"), ("WorkflowEngine$Parallel", "WorkflowEngine$TooMuch"), ("WorkflowEngine$Parallel", "WorkflowEngine$WrongText"), ("WorkflowEngine$Task", "WorkflowEngine$BadSign"), ("WorkflowEngine$Task", "WorkflowEngine$Choice"), ("WorkflowEngine$Task", "WorkflowEngine$Parallel"), ("WorkflowEngine$Task", "WorkflowEngine$TooMuch"), ("WorkflowEngine$Task", "WorkflowEngine$WrongText"), ("WorkflowEngine$TooMuch", "WorkflowEngine$BadSign"), ("WorkflowEngine$TooMuch", "WorkflowEngine$Choice"), ("WorkflowEngine$TooMuch", "WorkflowEngine$Parallel"), ("WorkflowEngine$TooMuch", "WorkflowEngine$Task"), ("WorkflowEngine$TooMuch", "WorkflowEngine$WrongText"), ("WorkflowEngine$Wait", "WorkflowEngine$BadSign"), ("WorkflowEngine$Wait", "WorkflowEngine$Choice"), ("WorkflowEngine$Wait", "WorkflowEngine$Parallel"), ("WorkflowEngine$Wait", "WorkflowEngine$Task"), ("WorkflowEngine$Wait", "WorkflowEngine$TooMuch"), ("WorkflowEngine$Wait", "WorkflowEngine$WrongText"), ("WorkflowEngine$WrongText", "WorkflowEngine$BadSign"), ("WorkflowEngine$WrongText", "WorkflowEngine$Choice"), ("WorkflowEngine$WrongText", "WorkflowEngine$Parallel"), ("WorkflowEngine$WrongText", "WorkflowEngine$Task"), ("WorkflowEngine$WrongText", "WorkflowEngine$TooMuch")]
theorem nc0 : ("WorkflowEngine$Assign", "WorkflowEngine$BadSign") ∈ gNc := List.mem_of_getElem? (i := 0) rfl
theorem nc1 : ("WorkflowEngine$Assign", "WorkflowEngine$Choice") ∈ gNc := List.mem_of_getElem? (i := 1) rfl
theorem nc2 : ("WorkflowEngine$Assign", "WorkflowEngine$Parallel") ∈ gNc := List.mem_of_getElem? (i := 2) rfl
theorem nc3 : ("WorkflowEngine$Assign", "WorkflowEngine$Task") ∈ gNc := List.mem_of_getElem? (i := 3) rfl
theorem nc4 : ("WorkflowEngine$Assign", "WorkflowEngine$TooMuch") ∈ gNc := List.mem_of_getElem? (i := 4) rfl
theorem nc5 : ("WorkflowEngine$Assign", "WorkflowEngine$WrongText") ∈ gNc := List.mem_of_getElem? (i := 5) rfl
theorem nc6 : ("WorkflowEngine$Await", "WorkflowEngine$BadSign") ∈ gNc := List.mem_of_getElem? (i := 6) rfl
theorem nc7 : ("WorkflowEngine$Await", "WorkflowEngine$Choice") ∈ gNc := List.mem_of_getElem? (i := 7) rfl
theorem nc8 : ("WorkflowEngine$Await", "WorkflowEngine$Parallel") ∈ gNc := List.mem_of_getElem? (i := 8) rfl
theorem nc9 : ("WorkflowEngine$Await", "WorkflowEngine$Task") ∈ gNc := List.mem_of_getElem? (i := 9) rfl
theorem nc10 : ("WorkflowEngine$Await", "WorkflowEngine$TooMuch") ∈ gNc := List.mem_of_getElem? (i := 10) rfl
theorem nc11 : ("WorkflowEngine$Await", "WorkflowEngine$WrongText") ∈ gNc := List.mem_of_getElem? (i := 11) rfl
theorem nc12 : ("WorkflowEngine$BadSign", "WorkflowEngine$Choice") ∈ gNc := List.mem_of_getElem? (i := 12) rfl
theorem nc13 : ("WorkflowEngine$BadSign", "WorkflowEngine$Parallel") ∈ gNc := List.mem_of_getElem? (i := 13) rfl
theorem nc14 : ("WorkflowEngine$BadSign", "WorkflowEngine$Task") ∈ gNc := List.mem_of_getElem? (i := 14) rfl
theorem nc15 : ("WorkflowEngine$BadSign", "WorkflowEngine$TooMuch") ∈ gNc := List.mem_of_getElem? (i := 15) rfl
theorem nc16 : ("WorkflowEngine$BadSign", "WorkflowEngine$WrongText") ∈ gNc := List.mem_of_getElem? (i := 16) rfl
theorem nc17 : ("WorkflowEngine$Choice", "WorkflowEngine$BadSign") ∈ gNc := List.mem_of_getElem? (i := 17) rfl
theorem nc18 : ("WorkflowEngine$Choice", "WorkflowEngine$Parallel") ∈ gNc := List.mem_of_getElem? (i := 18) rfl
theorem nc19 : ("WorkflowEngine$Choice", "WorkflowEngine$Task") ∈ gNc := List.mem_of_getElem? (i := 19) rfl
theorem nc20 : ("WorkflowEngine$Choice", "WorkflowEngine$TooMuch") ∈ gNc := List.mem_of_getElem? (i := 20) rfl
theorem nc21 : ("WorkflowEngine$Choice", "WorkflowEngine$WrongText") ∈ gNc := List.mem_of_getElem? (i := 21) rfl
theorem nc22 : ("WorkflowEngine$Parallel", "WorkflowEngine$BadSign") ∈ gNc := List.mem_of_getElem? (i := 22) rfl
theorem nc23 : ("WorkflowEngine$Parallel", "WorkflowEngine$Choice") ∈ gNc := List.mem_of_getElem? (i := 23) rfl
theorem nc24 : ("WorkflowEngine$Parallel", "WorkflowEngine$Task") ∈ gNc := List.mem_of_getElem? (i := 24) rfl
theorem nc25 : ("WorkflowEngine$Parallel", "WorkflowEngine$TooMuch") ∈ gNc := List.mem_of_getElem? (i := 25) rfl
theorem nc26 : ("WorkflowEngine$Parallel", "WorkflowEngine$WrongText") ∈ gNc := List.mem_of_getElem? (i := 26) rfl
theorem nc27 : ("WorkflowEngine$Task", "WorkflowEngine$BadSign") ∈ gNc := List.mem_of_getElem? (i := 27) rfl
theorem nc28 : ("WorkflowEngine$Task", "WorkflowEngine$Choice") ∈ gNc := List.mem_of_getElem? (i := 28) rfl
theorem nc29 : ("WorkflowEngine$Task", "WorkflowEngine$Parallel") ∈ gNc := List.mem_of_getElem? (i := 29) rfl
theorem nc30 : ("WorkflowEngine$Task", "WorkflowEngine$TooMuch") ∈ gNc := List.mem_of_getElem? (i := 30) rfl
theorem nc31 : ("WorkflowEngine$Task", "WorkflowEngine$WrongText") ∈ gNc := List.mem_of_getElem? (i := 31) rfl
theorem nc32 : ("WorkflowEngine$TooMuch", "WorkflowEngine$BadSign") ∈ gNc := List.mem_of_getElem? (i := 32) rfl
theorem nc33 : ("WorkflowEngine$TooMuch", "WorkflowEngine$Choice") ∈ gNc := List.mem_of_getElem? (i := 33) rfl
theorem nc34 : ("WorkflowEngine$TooMuch", "WorkflowEngine$Parallel") ∈ gNc := List.mem_of_getElem? (i := 34) rfl
theorem nc35 : ("WorkflowEngine$TooMuch", "WorkflowEngine$Task") ∈ gNc := List.mem_of_getElem? (i := 35) rfl
theorem nc36 : ("WorkflowEngine$TooMuch", "WorkflowEngine$WrongText") ∈ gNc := List.mem_of_getElem? (i := 36) rfl
theorem nc37 : ("WorkflowEngine$Wait", "WorkflowEngine$BadSign") ∈ gNc := List.mem_of_getElem? (i := 37) rfl
theorem nc38 : ("WorkflowEngine$Wait", "WorkflowEngine$Choice") ∈ gNc := List.mem_of_getElem? (i := 38) rfl
theorem nc39 : ("WorkflowEngine$Wait", "WorkflowEngine$Parallel") ∈ gNc := List.mem_of_getElem? (i := 39) rfl
theorem nc40 : ("WorkflowEngine$Wait", "WorkflowEngine$Task") ∈ gNc := List.mem_of_getElem? (i := 40) rfl
theorem nc41 : ("WorkflowEngine$Wait", "WorkflowEngine$TooMuch") ∈ gNc := List.mem_of_getElem? (i := 41) rfl
theorem nc42 : ("WorkflowEngine$Wait", "WorkflowEngine$WrongText") ∈ gNc := List.mem_of_getElem? (i := 42) rfl
theorem nc43 : ("WorkflowEngine$WrongText", "WorkflowEngine$BadSign") ∈ gNc := List.mem_of_getElem? (i := 43) rfl
theorem nc44 : ("WorkflowEngine$WrongText", "WorkflowEngine$Choice") ∈ gNc := List.mem_of_getElem? (i := 44) rfl
theorem nc45 : ("WorkflowEngine$WrongText", "WorkflowEngine$Parallel") ∈ gNc := List.mem_of_getElem? (i := 45) rfl
theorem nc46 : ("WorkflowEngine$WrongText", "WorkflowEngine$Task") ∈ gNc := List.mem_of_getElem? (i := 46) rfl
theorem nc47 : ("WorkflowEngine$WrongText", "WorkflowEngine$TooMuch") ∈ gNc := List.mem_of_getElem? (i := 47) rfl
